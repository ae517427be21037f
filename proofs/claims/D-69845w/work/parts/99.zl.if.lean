/-! if: its jumps to the end -/
/-- the component's jumps that wait, each names the one before -/
def chC (σ : lj_S) : Int32 → List Nat → Prop
  | h, [] => h = -1
  | h, j :: r => h = Int32.ofNat j ∧ j < 14000 ∧ chC σ (σ.1 24 j) r
theorem chC_cg {σ σ' : lj_S} : ∀ {r : List Nat} {h : Int32}, (∀ j ∈ r, σ'.1 24 j = σ.1 24 j) → chC σ h r → chC σ' h r
  | [], _, _, g => g
  | j :: r, h, h24, g => ⟨g.1, g.2.1, by rw [h24 j (List.mem_cons_self)]; exact chC_cg (fun i hi => h24 i (List.mem_cons_of_mem _ hi)) g.2.2⟩
theorem c_ends {c : Nat} (x2 : Int32) : ∀ (r : List Nat) (h : Int32) (x3 : Value) (σ : lj_S), σ.1 5 0 = Int32.ofNat c → chC σ h r → (∀ j ∈ r, σ.1 22 j = 30) →
    ∃ σ', lj_D lc_P lc_M101 106 [.ref 6, .int h, .int x2, x3] [] σ = some (.inl none, σ') ∧ (∀ j ∈ r, σ'.1 23 j = Int32.ofNat c) ∧ (∀ k j, ¬ (k = 23 ∧ j ∈ r) → σ'.1 k j = σ.1 k j) ∧ σ'.2 = σ.2
  | [], h, x3, σ, _, a, _ => by
    have a : h = -1 := a
    exact ⟨σ, by rw [kc_101_106, if_pos a], fun j hj => by simp at hj, fun _ _ _ => rfl, rfl⟩
  | j :: r, h, x3, σ, h5, a, h30 => by
    have hj30 := h30 j (List.mem_cons_self)
    have ij : lj_in (Int32.ofNat j) 14000 := ofN_in a.2.1 (by have := a.2.1; omega)
    have hj := a.2.1
    obtain ⟨σ', r1, r2, r3, r4⟩ := c_ends x2 r (σ.1 24 j) (.int (σ.1 24 j)) (lj_put σ 23 j (Int32.ofNat c)) (by rw [lj_put_1, if_neg (by omega)]; exact h5) (chC_cg (fun i _ => by rw [lj_put_1, if_neg (by omega)]) a.2.2) (fun i hi => by rw [lj_put_1, if_neg (by omega)]; exact h30 i (List.mem_cons_of_mem _ hi))
    refine ⟨σ', ?_, fun i hi => ?_, fun k i q => ?_, r4⟩
    · rw [a.1, kc_101_106, if_neg (ofN_nm1 (by omega))]
      simp only [if_pos ij, lz_onat (show j < 2147483648 by omega)]
      rw [c_land h5 hj (by rw [hj30]; decide) (by rw [hj30]; decide), bv_ok]
      exact r1
    · by_cases q : i ∈ r
      · exact r2 i q
      · rcases List.mem_cons.1 hi with e | e
        · rw [r3 23 i (fun w => q w.2), e, lj_put_1, if_pos ⟨rfl, rfl⟩]
        · exact absurd e q
    · rw [r3 k i (fun w => q ⟨w.1, List.mem_cons_of_mem _ w.2⟩), lj_put_1, if_neg (fun w => q ⟨w.1, by rw [w.2]; exact List.mem_cons_self⟩)]
theorem m_endIf {b : Nat → Int32} {n T : Nat} {Q : tkQ} {σ τ : lj_S} (hTE : TE b n T Q σ τ) {p m : Nat} (hp : p ≤ T) (h25 : τ.1 0 25 = Int32.ofNat p) (h4 : τ.1 0 4 = 0) (h41 : τ.1 0 41 = Int32.ofNat m) {e : Int32} {r : List Nat} (hc : chM τ e r) :
    ∃ τ', lj_R lm_P 91 [.ref 0, .int e] τ = (if (Q p).1 = 15 then some (.inl (some (.int 1)), lj_put τ' 0 25 (Int32.ofNat (p + 1))) else some (.inl (some (.int 0)), mFl τ' (fq (Q p).1 2) (Q p).2.1)) ∧ (∀ j ∈ r, τ'.1 21 j = Int32.ofNat m) ∧ (∀ k j, ¬ (k = 21 ∧ j ∈ r) → τ'.1 k j = τ.1 k j) ∧ τ'.2 = τ.2 := by
  obtain ⟨τ1, y, s1, s2, s3, s4⟩ := m_land_loop (D := fun x2 x3 τ => lj_D lm_P lm_M91 2 [.ref 0, .int e, .int x2, x3] [] τ) (m := m) (fun j x3 τ j1 j2 => by
    have ij : lj_in (Int32.ofNat j) 14000 := ofN_in (by omega) (by omega)
    show lj_D lm_P lm_M91 2 [.ref 0, .int e, .int (Int32.ofNat j), x3] [] τ = _
    rw [km_91_2, if_neg (ofN_nneg (by omega))]
    simp only [if_pos ij, lz_onat (show j < 2147483648 by omega), j2]) r e (.retAddr 0) τ h41 hc
  have hT1 : TE b n T Q σ τ1 := TE_pp hTE (lf_rf _ _) (fun k j q => ⟨by have := pM_k q; exact s3 k j (by omega), by rw [s4]⟩)
  have nw := m_needWord hT1 hp (by rw [s3 _ _ (by omega)]; exact h25) (by rw [s3 _ _ (by omega)]; exact h4) 5 (by omega) 6 rfl
  refine ⟨τ1, ?_, s2, s3, s4⟩
  rw [rm_91, km_91_0]
  refine s1.trans ?_
  show lj_D lm_P lm_M91 2 [.ref 0, .int e, .int (-1), y] [] τ1 = _
  rw [km_91_2, if_pos (by decide), nw]
  by_cases a : (Q p).1 = 15
  · rw [if_pos (show (Q p).1 = 10 + 5 by omega), bi_ok]; rfl
  · rw [if_neg (show ¬ (Q p).1 = 10 + 5 by omega), bi_ok]; rfl
/-- jumps are amended, none that waits for the end of a loop -/
theorem PS.am {b : Nat → Int32} {n T : Nat} {Q : tkQ} {X : List Int32 → Prop} {FO : List fT} {Z : List zT} {PL : List qT} {cl ml : Nat} {F : Nat} {N : List lT} {p v c m wh : Nat} {W : List wT} {σ τ : lj_S} (h : PS b n T Q X F N FO Z PL cl ml p v c m wh W σ τ) {σ' τ' : lj_S} {BC BM : List Nat} (oC : ∀ k j, ¬ (k = 23 ∧ j ∈ BC) → σ'.1 k j = σ.1 k j) (oM : ∀ k j, ¬ (k = 21 ∧ j ∈ BM) → τ'.1 k j = τ.1 k j) (c2 : σ'.2 = σ.2) (m2 : τ'.2 = τ.2) (hd : ∀ y ∈ Z, ∀ j ∈ y.2.2.2.2, j ∉ BM) : PS b n T Q X F N FO Z PL cl ml p v c m wh W σ' τ' ∧ TX N σ τ σ' τ' := by
  have fC : lf pC σ σ' := fun k j q => ⟨by have := pC_k q; exact oC k j (by omega), by rw [c2]⟩
  have fM : lf pM τ τ' := fun k j q => ⟨by have := pM_k q; exact oM k j (by omega), by rw [m2]⟩
  have hC : ∀ (A : Nat → Nat → Bool), (∀ j, A 23 j = false) → ∀ k j, A k j = true → σ'.1 k j = σ.1 k j := fun A a1 k j q => oC k j (by rintro ⟨e1, _⟩; rw [e1, a1] at q; cases q)
  have hM : ∀ (A : Nat → Nat → Bool), (∀ j, A 21 j = false) → ∀ k j, A k j = true → τ'.1 k j = τ.1 k j := fun A a1 k j q => oM k j (by rintro ⟨e1, _⟩; rw [e1, a1] at q; cases q)
  obtain ⟨l1, l2, l3, l4, l5, l6, l7, l8, l9, l10, l11⟩ := h.2.2.2.1
  have loA' : ∀ (V : List zT), (∀ y ∈ V, ∀ j ∈ y.2.2.2.2, j ∉ BM) → loA σ τ V → loA σ' τ' V := by
    intro V
    induction V with
    | nil => intro _ _; trivial
    | cons y V ih =>
      intro hd g
      exact ⟨⟨by rw [oC 50 _ (by omega)]; exact g.1.1, by rw [oM 34 _ (by omega)]; exact g.1.2.1, by rw [oC 51 _ (by omega)]; exact g.1.2.2.1, bkL_cg (fun j => oC 52 _ (by omega)) (fun j => oC 53 _ (by omega)) _ _ _ g.1.2.2.2.1, by rw [oM 33 _ (by omega)]; exact chM_cg' (fun j hj => oM 21 j (fun w => hd y (List.mem_cons_self) j hj w.2)) g.1.2.2.2.2⟩, ih (fun w hw => hd w (List.mem_cons_of_mem _ hw)) g.2⟩
  refine ⟨h.mk' fC fM (NR_eq h.1.2.2.1 (hC nrC (fun _ => rfl)) (hM nrM (fun _ => rfl))) (FR_eq h.1.2.2.2.1 (hC frC (fun _ => rfl)) (hM frM (fun _ => rfl))) h.1.2.2.2.2.1 (lvS_eq (hC lvC (fun _ => rfl)) h.1.2.2.2.2.2.1) (SCr_eq h.1.2.2.2.2.2.2 (Nat.le_refl _) (hC scC (fun _ => rfl))) (hnd_eq h.2.1 (hC hdC (fun _ => rfl)) (hM hdM (fun _ => rfl))) h.2.2.1 ⟨by rw [oC 6 10 (by omega)]; exact l1, by rw [oM 0 56 (by omega)]; exact l2, l3, by rw [oC 6 13 (by omega)]; exact l4, l5, by rw [oC 6 18 (by omega)]; exact l6, by rw [oM 0 60 (by omega)]; exact l7, l8, loA' Z hd l9, plA_cg (fun j => oC 54 j (by omega)) (fun j => oC 55 j (by omega)) (fun j => oC 56 j (by omega)) (fun j => oM 35 j (by omega)) (fun j => oM 36 j (by omega)) (fun j => oM 37 j (by omega)) PL l10, l11⟩ h.2.2.2.2.1.1 ?_ h.2.2.2.2.2, TX_eq N fC fM h.1.2.1 (hC txC (fun _ => rfl)) (hM txM (fun _ => rfl)) (fun i => by rw [c2]) (fun i => by rw [m2]) (by unfold lv; rw [oC 5 0 (by omega)]; exact Int.le_refl _)⟩
  obtain ⟨⟨z1, z2, z3⟩, z4⟩ := h.2.2.2.2.1.2
  have e18 : lv σ' 5 18 = lv σ 5 18 := by unfold lv; rw [oC 5 18 (by omega)]
  have e8 : lv σ' 5 8 = lv σ 5 8 := by unfold lv; rw [oC 5 8 (by omega)]
  exact ⟨⟨by rw [e18]; exact z1, z2, fun y hy => by rw [e8]; exact z3 y hy⟩, z4⟩
/-- what waits behind the blocks of an if -/
theorem bW_if {b : Nat → Int32} {n T : Nat} {Q : tkQ} {B : Nat} {W : List wT} {m0 : Nat} {τ0 : lj_S} (hW : W.length < 4000) (hB : B ≤ 13800) {j : Nat} {e : Int32} {r : List Nat} (hc : chM τ0 e r) (hj : j < m0) (hm0 : m0 ≤ 14000) (hjr : j ∉ r) (hr : ∀ i ∈ r, i < m0) : bW b n T Q B ((24, Int32.ofNat j, e, 0) :: W) m0 τ0 :=
  bW_no hW hB (fun σ τ p m kn hTE hp h25 h41 hm0 hmB h4 h50 h21 hn => by
    show ∃ τ' m', lj_R lm_P 30 [.ref 0, .int 24, .int (Int32.ofNat j), .int e, .int 0] τ = _ ∧ _
    have n15 : ¬ (Q p).1 = 15 := fun q => hn (by rw [q]; decide)
    have w5 := m_isWord hTE hp h25 4 (by omega) 5 rfl
    rw [if_neg (show ¬ (Q p).1 = 10 + 4 from fun q => hn (by rw [q]; decide))] at w5
    have w4 := m_isWord hTE hp h25 3 (by omega) 4 rfl
    rw [if_neg (show ¬ (Q p).1 = 10 + 3 from fun q => hn (by rw [q]; decide))] at w4
    have o : ∀ k i, ¬ (k = 21 ∧ i = j) → (lj_put τ 21 j (Int32.ofNat m)).1 k i = τ.1 k i := fun k i q => by rw [lj_put_1, if_neg q]
    obtain ⟨τ', r1, r2, r3, r4⟩ := m_endIf (τ := lj_put τ 21 j (Int32.ofNat m)) (TE_up hTE (lf_rf _ _) (lf_put (lf_rf _ _) _ _ _ rfl)) hp (by rw [o _ _ (by omega)]; exact h25) (by rw [o _ _ (by omega)]; exact h4) (by rw [o _ _ (by omega)]; exact h41) (chM_cg' (fun i hi => by rw [o 21 i (fun w => hjr (by rw [← w.2]; exact hi))]; exact h21 i (hr i hi)) hc)
    rw [if_neg n15] at r1
    refine ⟨τ', m, ?_, by rw [r3 0 41 (by omega), o _ _ (by omega)]; exact h41, (by omega)⟩
    rw [rm_30, km_30_0, if_neg (by decide), if_neg (by decide), if_neg (by decide), if_neg (by decide), if_neg (by decide), if_neg (by decide), if_neg (by decide), if_neg (by decide), if_neg (by decide), if_neg (by decide), if_neg (by decide), if_neg (by decide), if_neg (by decide), if_neg (by decide), if_neg (by decide), if_neg (by decide), if_neg (by decide), if_neg (by decide), if_neg (by decide), if_neg (by decide), if_neg (by decide), rm_86, km_86_0, if_neg (by decide), if_neg (by decide), if_neg (by decide), if_pos rfl, rm_90, km_90_0, w5, bi_ok, if_pos rfl, w4, bi_ok, if_pos rfl, if_pos (ofN_in (by omega) (by omega)), lz_onat (by omega), h41, r1, bi_ok, bi_ok, bi_ok]
    rfl)
theorem bW_ife {b : Nat → Int32} {n T : Nat} {Q : tkQ} {B : Nat} {W : List wT} {m0 : Nat} {τ0 : lj_S} (hW : W.length < 4000) (hB : B ≤ 13800) {e : Int32} {r : List Nat} (hc : chM τ0 e r) (hr : ∀ i ∈ r, i < m0) : bW b n T Q B ((25, e, 0, 0) :: W) m0 τ0 :=
  bW_no hW hB (fun σ τ p m kn hTE hp h25 h41 hm0 hmB h4 h50 h21 hn => by
    show ∃ τ' m', lj_R lm_P 30 [.ref 0, .int 25, .int e, .int 0, .int 0] τ = _ ∧ _
    have n15 : ¬ (Q p).1 = 15 := fun q => hn (by rw [q]; decide)
    obtain ⟨τ', r1, r2, r3, r4⟩ := m_endIf hTE hp h25 h4 h41 (chM_cg' (fun i hi => h21 i (hr i hi)) hc)
    rw [if_neg n15] at r1
    refine ⟨τ', m, ?_, by rw [r3 0 41 (by omega)]; exact h41, (by omega)⟩
    rw [rm_30, km_30_0, if_neg (by decide), if_neg (by decide), if_neg (by decide), if_neg (by decide), if_neg (by decide), if_neg (by decide), if_neg (by decide), if_neg (by decide), if_neg (by decide), if_neg (by decide), if_neg (by decide), if_neg (by decide), if_neg (by decide), if_neg (by decide), if_neg (by decide), if_neg (by decide), if_neg (by decide), if_neg (by decide), if_neg (by decide), if_neg (by decide), if_neg (by decide), rm_86, km_86_0, if_neg (by decide), if_neg (by decide), if_neg (by decide), if_neg (by decide), if_pos rfl, r1, bi_ok, bi_ok]
    rfl)
