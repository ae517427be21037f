/-! loops: their jumps that wait, their end -/
/-- an act of the model more that goes to the end of the loop at hand -/
theorem PS.chn {b : Nat → Int32} {n T : Nat} {Q : tkQ} {X : List Int32 → Prop} {FO : List fT} {PL : List qT} {cl ml : Nat} {F : Nat} {N : List lT} {p v c m wh : Nat} {W : List wT} {σ τ : lj_S} {x : zT} {Y : List zT} (h : PS b n T Q X F N FO (x :: Y) PL cl ml p v c (m + 1) wh W σ τ) (hT : T ≤ 520) (h21 : τ.1 21 m = τ.1 33 Y.length) (hml : ml ≤ m) :
    PS b n T Q X F N FO ((x.1, x.2.1, x.2.2.1, x.2.2.2.1, m :: x.2.2.2.2) :: Y) PL cl (m + 1) p v c (m + 1) wh W σ (lj_put τ 33 Y.length (Int32.ofNat m)) ∧ GR N N F F p p c c (m + 1) (m + 1) σ τ σ (lj_put τ 33 Y.length (Int32.ofNat m)) := by
  have c14 := h.c14 hT
  obtain ⟨l1, l2, l3, l4, l5, l6, l7, l8, l9, l10, l11⟩ := h.2.2.2.1
  have oM : ∀ k j, ¬ (k = 33 ∧ j = Y.length) → (lj_put τ 33 Y.length (Int32.ofNat m)).1 k j = τ.1 k j := fun k j q => by rw [lj_put_1, if_neg q]
  have y33 : (lj_put τ 33 Y.length (Int32.ofNat m)).1 33 Y.length = Int32.ofNat m := by rw [lj_put_1, if_pos ⟨rfl, rfl⟩]
  have fM : lf pM τ (lj_put τ 33 Y.length (Int32.ofNat m)) := lf_put (lf_rf _ _) _ _ _ rfl
  have m2 : (lj_put τ 33 Y.length (Int32.ofNat m)).2 = τ.2 := rfl
  generalize lj_put τ 33 Y.length (Int32.ofNat m) = τ' at *
  have hM : ∀ (A : Nat → Nat → Bool), A 33 Y.length = false → ∀ k j, A k j = true → τ'.1 k j = τ.1 k j := fun A hA k j q => oM k j (by rintro ⟨e1, e2⟩; rw [e1, e2, hA] at q; cases q)
  refine ⟨h.mk' (lf_rf _ _) fM (NR_eq h.1.2.2.1 (fun _ _ _ => rfl) (hM nrM rfl)) (FR_eq h.1.2.2.2.1 (fun _ _ _ => rfl) (hM frM rfl)) h.1.2.2.2.2.1 h.1.2.2.2.2.2.1 h.1.2.2.2.2.2.2 (hnd_eq h.2.1 (fun _ _ _ => rfl) (hM hdM rfl)) h.2.2.1 ⟨l1, by rw [oM 0 56 (by omega)]; exact l2, l3, l4, l5, l6, by rw [oM 0 60 (by omega)]; exact l7, l8, ⟨⟨l9.1.1, by rw [oM 34 _ (by omega)]; exact l9.1.2.1, l9.1.2.2.1, l9.1.2.2.2.1, ⟨y33, (by omega), by rw [oM 21 _ (by omega), h21]; exact chM_cg (m := ml) (fun j _ => oM 21 j (by omega)) _ _ (l11 x (List.mem_cons_self)).2 l9.1.2.2.2.2⟩⟩, loA_cg2 (m := ml) (B := bks Y) (fun _ => rfl) (fun _ => rfl) (fun _ _ => rfl) (fun _ _ => rfl) (fun j => oM 34 j (by omega)) (fun j _ => oM 21 j (by omega)) Y (fun j hj => oM 33 j (by omega)) (Nat.le_refl _) (fun y hy => (l11 y (List.mem_cons_of_mem _ hy)).2) l9.2⟩, plA_cg (fun _ => rfl) (fun _ => rfl) (fun _ => rfl) (fun j => oM 35 j (by omega)) (fun j => oM 36 j (by omega)) (fun j => oM 37 j (by omega)) PL l10, fun y hy => ?_⟩ h.2.2.2.2.1.1 ?_ (Nat.le_refl _), ⟨TX_eq N (lf_rf _ _) fM h.1.2.1 (fun _ _ _ => rfl) (hM txM rfl) (fun _ => rfl) (fun i => by rw [m2]) (Int.le_refl _), lvX_rf _, (Nat.le_refl _), (Nat.le_refl _), (Nat.le_refl _), (Nat.le_refl _), fz_eq (fun _ _ _ _ => rfl) (fun k j a b => oM k j (by omega))⟩⟩
  · rcases List.mem_cons.1 hy with e | e
    · have q := l11 x (List.mem_cons_self)
      rw [e]
      refine ⟨q.1, fun j hj => ?_⟩
      rcases List.mem_cons.1 hj with w | w
      · rw [w]; omega
      · have := q.2 j w; omega
    · have q := l11 y (List.mem_cons_of_mem _ e)
      exact ⟨q.1, fun j hj => by have := q.2 j hj; omega⟩
  · obtain ⟨⟨q1, q2, q3⟩, a1, a2, a3, a4, a5⟩ := h.2.2.2.2.1.2
    refine ⟨⟨q1, q2, fun y hy => ?_⟩, a1, a2, a3, a4, fun y hy => ?_⟩
    · rcases List.mem_cons.1 hy with e | e
      · rw [e]; exact q3 x (List.mem_cons_self)
      · exact q3 y (List.mem_cons_of_mem _ e)
    · rcases List.mem_cons.1 hy with e | e
      · rw [e]; exact a5 x (List.mem_cons_self)
      · exact a5 y (List.mem_cons_of_mem _ e)
theorem chM_cg' {τ τ' : lj_S} : ∀ {r : List Nat} {h : Int32}, (∀ j ∈ r, τ'.1 21 j = τ.1 21 j) → chM τ h r → chM τ' h r
  | [], _, _, g => g
  | j :: r, h, h21, g => ⟨g.1, g.2.1, by rw [h21 j (List.mem_cons_self)]; exact chM_cg' (fun i hi => h21 i (List.mem_cons_of_mem _ hi)) g.2.2⟩
/-- a loop ends, in both: its breaks come to here -/
theorem cm_leave {b : Nat → Int32} {n T : Nat} {Q : tkQ} {X : List Int32 → Prop} {FO : List fT} {PL : List qT} {cl ml : Nat} {F : Nat} {N : List lT} {p v c m wh : Nat} {W : List wT} {σ τ : lj_S} {x : zT} {Y : List zT} (h : PS b n T Q X F N FO (x :: Y) PL cl ml p v c m wh W σ τ) (hT : T ≤ 520) (hm : m + 1 ≤ 25 * p + 100) (h30 : ∀ j ∈ x.2.2.2.1, σ.1 22 j = 30) (hdis : ∀ y ∈ Y, ∀ j ∈ y.2.2.2.2, j ∉ x.2.2.2.2) (slot : Nat) :
    ∃ σ' τ', lj_R lc_P 99 [.ref 6] σ = some (.inl none, σ') ∧ lj_R lm_P 94 [.ref 0, .int (Int32.ofNat slot)] τ = some (.inl none, τ') ∧ PS b n T Q X F N FO Y PL cl ml p v c (m + 1) wh W σ' τ' ∧ TX N σ τ σ' τ' ∧ (∀ j ∈ x.2.2.2.1, σ'.1 23 j = Int32.ofNat c) ∧ (∀ k j, 22 ≤ k → k ≤ 26 → ¬ (k = 23 ∧ j ∈ x.2.2.2.1) → σ'.1 k j = σ.1 k j) ∧ (∀ j ∈ x.2.2.2.2, τ'.1 21 j = Int32.ofNat m) ∧ (∀ k j, 20 ≤ k → k ≤ 23 → j < m → ¬ (k = 21 ∧ j ∈ x.2.2.2.2) → τ'.1 k j = τ.1 k j) ∧ τ'.1 20 m = 20 ∧ τ'.1 21 m = Int32.ofNat slot := by
  have c14 := h.c14 hT
  have hb := h.2.2.1
  have hcl := h.2.2.2.2.1.1
  have hml := h.2.2.2.2.2
  obtain ⟨l1, l2, l3, l4, l5, l6, l7, l8, l9, l10, l11⟩ := h.2.2.2.1
  simp only [List.length_cons] at l1 l2 l3
  obtain ⟨q1, q2⟩ := l11 x (List.mem_cons_self)
  have hbx : bks (x :: Y) = bks Y + x.2.2.2.1.length := by simp only [bks]; omega
  rw [hbx] at l4 l5
  have top : bks Y = 0 ∨ ∃ L', L' < 2147483648 ∧ L' ≠ Y.length + 1 ∧ σ.1 53 (bks Y - 1) = Int32.ofNat L' := by
    rcases Nat.eq_zero_or_pos (bks Y) with e | e
    · exact Or.inl e
    · obtain ⟨L, a1, a2⟩ := bk_top Y l9.2 e
      exact Or.inr ⟨L, (by omega), (by omega), a2⟩
  obtain ⟨σ1, r1, r2, r3, r4, r5⟩ := c_leave_loop (b0 := bks Y) (L := Y.length + 1) (c := c) (by omega) (by omega) x.2.2.2.1 σ l4 l1 (by omega) l9.1.2.2.2.1 (fun j hj => ⟨by have := q1 j hj; omega, h30 j hj⟩) h.2.1.2.2.2.2.1 top
  have e56 : Int32.ofNat (Y.length + 1) - 1 = Int32.ofNat Y.length := lz_pred' _
  have i1 : lj_in (Int32.ofNat Y.length) 64 := ofN_in (by omega) (by omega)
  have c0 : chM (lj_put τ 0 56 (Int32.ofNat Y.length)) (τ.1 33 Y.length) x.2.2.2.2 := chM_cg (m := 14000) (fun j _ => by rw [lj_put_1, if_neg (by omega)]) _ _ (chM_lt _ l9.1.2.2.2.2) l9.1.2.2.2.2
  obtain ⟨τ1, y, s1, s2, s3, s4⟩ := m_land_loop (D := fun x2 x3 τ => lj_D lm_P lm_M94 20 [.ref 0, .int (Int32.ofNat slot), .int x2, x3] [] τ) (m := m) (fun j x3 τ j1 j2 => by
    have ij : lj_in (Int32.ofNat j) 14000 := ofN_in (by omega) (by omega)
    show lj_D lm_P lm_M94 20 [.ref 0, .int (Int32.ofNat slot), .int (Int32.ofNat j), x3] [] τ = _
    rw [km_94_20, if_neg (ofN_nneg (by omega))]
    simp only [if_pos ij, lz_onat (show j < 2147483648 by omega), j2]) x.2.2.2.2 (τ.1 33 Y.length) (.retAddr 0) (lj_put τ 0 56 (Int32.ofNat Y.length)) (by rw [lj_put_1, if_neg (by omega)]; exact h.2.1.2.2.2.2.2.1) c0
  have e41 : τ1.1 0 41 = Int32.ofNat m := by rw [s3 0 41 (by omega), lj_put_1, if_neg (by omega)]; exact h.2.1.2.2.2.2.2.1
  have g2 := mP_get τ1 m 20 (Int32.ofNat slot) 0 0
  have o2 := mP_o τ1 m 20 (Int32.ofNat slot) 0 0
  have eC : lj_R lc_P 99 [.ref 6] σ = some (.inl none, lj_put σ1 6 10 (Int32.ofNat Y.length)) := by rw [rc_99]; exact r1
  have eM : lj_R lm_P 94 [.ref 0, .int (Int32.ofNat slot)] τ = some (.inl none, mP τ1 m 20 (Int32.ofNat slot) 0 0) := by
    rw [rm_94, km_94_0, l2, e56, if_pos i1, lz_onat (by omega)]
    refine s1.trans ?_
    show lj_D lm_P lm_M94 20 [.ref 0, .int (Int32.ofNat slot), .int (-1), y] [] τ1 = _
    rw [km_94_20, if_pos (by decide), m_emit e41 (by omega), bi_ok]
  have oC : ∀ k j, ¬ (k = 23 ∧ j ∈ x.2.2.2.1) → ¬ (k = 6 ∧ (j = 13 ∨ j = 10)) → (lj_put σ1 6 10 (Int32.ofNat Y.length)).1 k j = σ.1 k j := fun k j w1 w2 => by rw [lj_put_1, if_neg (by omega), r4 k j w1 (by omega)]
  have oM : ∀ k j, ¬ (k = 21 ∧ j ∈ x.2.2.2.2) → ¬ (20 ≤ k ∧ k ≤ 23 ∧ j = m) → ¬ (k = 0 ∧ (j = 41 ∨ j = 56)) → (mP τ1 m 20 (Int32.ofNat slot) 0 0).1 k j = τ.1 k j := fun k j w1 w2 w3 => by rw [o2 k j w2 (by omega), s3 k j w1, lj_put_1, if_neg (by omega)]
  have x13 : (lj_put σ1 6 10 (Int32.ofNat Y.length)).1 6 13 = Int32.ofNat (bks Y) := by rw [lj_put_1, if_neg (by omega)]; exact r2
  have x10 : (lj_put σ1 6 10 (Int32.ofNat Y.length)).1 6 10 = Int32.ofNat Y.length := by rw [lj_put_1, if_pos ⟨rfl, rfl⟩]
  have x23 : ∀ j ∈ x.2.2.2.1, (lj_put σ1 6 10 (Int32.ofNat Y.length)).1 23 j = Int32.ofNat c := fun j hj => by rw [lj_put_1, if_neg (by omega)]; exact r3 j hj
  have y21 : ∀ j ∈ x.2.2.2.2, (mP τ1 m 20 (Int32.ofNat slot) 0 0).1 21 j = Int32.ofNat m := fun j hj => by rw [o2 21 j (by have := q2 j hj; omega) (by omega)]; exact s2 j hj
  have y56 : (mP τ1 m 20 (Int32.ofNat slot) 0 0).1 0 56 = Int32.ofNat Y.length := by rw [o2 0 56 (by omega) (by omega), s3 0 56 (by omega), lj_put_1, if_pos ⟨rfl, rfl⟩]
  have c2 : (lj_put σ1 6 10 (Int32.ofNat Y.length)).2 = σ.2 := r5
  have m2 : (mP τ1 m 20 (Int32.ofNat slot) 0 0).2 = τ.2 := s4
  refine ⟨_, _, eC, eM, ?_⟩
  generalize lj_put σ1 6 10 (Int32.ofNat Y.length) = σ' at *
  generalize mP τ1 m 20 (Int32.ofNat slot) 0 0 = τ' at *
  have fC : lf pC σ σ' := fun k j q => ⟨by have := pC_k q; exact oC k j (by omega) (by omega), by rw [c2]⟩
  have fM : lf pM τ τ' := fun k j q => ⟨by have := pM_k q; exact oM k j (by omega) (by omega) (by omega), by rw [m2]⟩
  have hC : ∀ (A : Nat → Nat → Bool), (∀ j, A 23 j = false) → A 6 13 = false → A 6 10 = false → ∀ k j, A k j = true → σ'.1 k j = σ.1 k j := fun A a1 a2 a3 k j q => oC k j (by rintro ⟨e1, _⟩; rw [e1, a1] at q; cases q) (by rintro ⟨e1, e2 | e2⟩ <;> rw [e1, e2] at q <;> (first | (rw [a2] at q; cases q) | (rw [a3] at q; cases q)))
  have hM : ∀ (A : Nat → Nat → Bool), (∀ k j, 20 ≤ k → k ≤ 23 → A k j = false) → A 0 41 = false → A 0 56 = false → ∀ k j, A k j = true → τ'.1 k j = τ.1 k j := fun A a1 a2 a3 k j q => oM k j (by rintro ⟨e1, _⟩; rw [a1 k j (by omega) (by omega)] at q; cases q) (by rintro ⟨e1, e2, _⟩; rw [a1 k j e1 e2] at q; cases q) (by rintro ⟨e1, e2 | e2⟩ <;> rw [e1, e2] at q <;> (first | (rw [a2] at q; cases q) | (rw [a3] at q; cases q)))
  have sm : ∀ (A : Nat → Nat → Bool), (∀ j, A 20 j = false) → (∀ j, A 21 j = false) → (∀ j, A 22 j = false) → (∀ j, A 23 j = false) → ∀ k j, 20 ≤ k → k ≤ 23 → A k j = false := fun A a0 a1 a2 a3 k j q1 q2 => by
    have : k = 20 ∨ k = 21 ∨ k = 22 ∨ k = 23 := by omega
    rcases this with e | e | e | e <;> rw [e]
    · exact a0 j
    · exact a1 j
    · exact a2 j
    · exact a3 j
  obtain ⟨h1, h2, h3, h4, h5, h6, h7, h8, h9, h10⟩ := h.2.1
  have loA' : ∀ (V : List zT), V.length ≤ Y.length → (∀ y ∈ V, ∀ j ∈ y.2.2.2.2, j ∉ x.2.2.2.2 ∧ j < m) → loA σ τ V → loA σ' τ' V := by
    intro V
    induction V with
    | nil => intro _ _ _; trivial
    | cons y V ih =>
      intro hl hd g
      simp only [List.length_cons] at hl
      exact ⟨⟨by rw [oC 50 _ (by omega) (by omega)]; exact g.1.1, by rw [oM 34 _ (by omega) (by omega) (by omega)]; exact g.1.2.1, by rw [oC 51 _ (by omega) (by omega)]; exact g.1.2.2.1, bkL_cg (fun j => oC 52 _ (by omega) (by omega)) (fun j => oC 53 _ (by omega) (by omega)) _ _ _ g.1.2.2.2.1, by rw [oM 33 _ (by omega) (by omega) (by omega)]; exact chM_cg' (fun j hj => oM 21 j (fun w => (hd y (List.mem_cons_self) j hj).1 w.2) (by have := (hd y (List.mem_cons_self) j hj).2; omega) (by omega)) g.1.2.2.2.2⟩, ih (by omega) (fun w hw => hd w (List.mem_cons_of_mem _ hw)) g.2⟩
  refine ⟨h.mk' fC fM (NR_eq h.1.2.2.1 (hC nrC (fun _ => rfl) rfl rfl) (hM nrM (sm _ (fun _ => rfl) (fun _ => rfl) (fun _ => rfl) (fun _ => rfl)) rfl rfl)) (FR_eq h.1.2.2.2.1 (hC frC (fun _ => rfl) rfl rfl) (hM frM (sm _ (fun _ => rfl) (fun _ => rfl) (fun _ => rfl) (fun _ => rfl)) rfl rfl)) h.1.2.2.2.2.1 (lvS_eq (hC lvC (fun _ => rfl) rfl rfl) h.1.2.2.2.2.2.1) (SCr_eq h.1.2.2.2.2.2.2 (Nat.le_refl _) (hC scC (fun _ => rfl) rfl rfl)) ⟨by rw [oC 6 0 (by omega) (by omega)]; exact h1, by rw [oM 0 25 (by omega) (by omega) (by omega)]; exact h2, by rw [oC 6 1 (by omega) (by omega)]; exact h3, by rw [oM 0 47 (by omega) (by omega) (by omega)]; exact h4, by rw [oC 5 0 (by omega) (by omega)]; exact h5, g2.2.2.2.2, by rw [oC 5 6 (by omega) (by omega)]; exact h7, by rw [oM 0 40 (by omega) (by omega) (by omega)]; exact h8, mWt_cg h9 (oM 0 46 (by omega) (by omega) (by omega)) (fun k j q => oM k j (by omega) (by omega) (by omega)), by rw [oM 0 4 (by omega) (by omega) (by omega)]; exact h10⟩ ⟨hb.1, hb.2.1, hb.2.2.1, hm, hb.2.2.2.2⟩ ⟨x10, y56, (by omega), x13, (by omega), by rw [oC 6 18 (by omega) (by omega)]; exact l6, by rw [oM 0 60 (by omega) (by omega) (by omega)]; exact l7, l8, loA' Y (Nat.le_refl _) (fun y hy j hj => ⟨hdis y hy j hj, by have := (l11 y (List.mem_cons_of_mem _ hy)).2 j hj; omega⟩) l9.2, plA_cg (fun j => oC 54 j (by omega) (by omega)) (fun j => oC 55 j (by omega) (by omega)) (fun j => oC 56 j (by omega) (by omega)) (fun j => oM 35 j (by omega) (by omega) (by omega)) (fun j => oM 36 j (by omega) (by omega) (by omega)) (fun j => oM 37 j (by omega) (by omega) (by omega)) PL l10, fun y hy => l11 y (List.mem_cons_of_mem _ hy)⟩ hcl ?_ (by omega), TX_eq N fC fM h.1.2.1 (hC txC (fun _ => rfl) rfl rfl) (hM txM (sm _ (fun _ => rfl) (fun _ => rfl) (fun _ => rfl) (fun _ => rfl)) rfl rfl) (fun i => by rw [c2]) (fun i => by rw [m2]) (by unfold lv; rw [oC 5 0 (by omega) (by omega)]; exact Int.le_refl _), x23, fun k j w1 w2 w3 => oC k j w3 (by omega), y21, fun k j w1 w2 w3 w4 => oM k j w4 (by omega) (by omega), g2.1, g2.2.1⟩
  obtain ⟨⟨z1, z2, z3⟩, a1, a2, a3, a4, a5⟩ := h.2.2.2.2.1.2
  have e18 : lv σ' 5 18 = lv σ 5 18 := by unfold lv; rw [oC 5 18 (by omega) (by omega)]
  have e8 : lv σ' 5 8 = lv σ 5 8 := by unfold lv; rw [oC 5 8 (by omega) (by omega)]
  simp only [List.length_cons] at a1
  rw [hbx] at z2
  exact ⟨⟨by rw [e18]; exact z1, (by omega), fun y hy => by rw [e8]; exact z3 y (List.mem_cons_of_mem _ hy)⟩, (by omega), a2, a3, a4, fun y hy => a5 y (List.mem_cons_of_mem _ hy)⟩
