/-! statements: break -/
theorem bkL_cg2 {σ σ' : lj_S} {B : Nat} (h52 : ∀ j, j < B → σ'.1 52 j = σ.1 52 j) (h53 : ∀ j, j < B → σ'.1 53 j = σ.1 53 j) (base L : Nat) : ∀ (r : List Nat), base + r.length ≤ B → bkL σ base L r → bkL σ' base L r
  | [], _, _ => trivial
  | j :: r, hl, h => by
    simp only [List.length_cons] at hl
    exact ⟨by rw [h52 _ (by omega)]; exact h.1, by rw [h53 _ (by omega)]; exact h.2.1, bkL_cg2 h52 h53 base L r (by omega) h.2.2⟩
/-- loops, where breaks may have come -/
theorem loA_cg2 {σ τ σ' τ' : lj_S} {m B : Nat} (h50 : ∀ j, σ'.1 50 j = σ.1 50 j) (h51 : ∀ j, σ'.1 51 j = σ.1 51 j) (h52 : ∀ j, j < B → σ'.1 52 j = σ.1 52 j) (h53 : ∀ j, j < B → σ'.1 53 j = σ.1 53 j) (h34 : ∀ j, τ'.1 34 j = τ.1 34 j) (h21 : ∀ j, j < m → τ'.1 21 j = τ.1 21 j) : ∀ (Z : List zT), (∀ j, j < Z.length → τ'.1 33 j = τ.1 33 j) → bks Z ≤ B → (∀ x ∈ Z, ∀ j ∈ x.2.2.2.2, j < m) → loA σ τ Z → loA σ' τ' Z
  | [], _, _, _, _ => trivial
  | x :: Y, h33, hB, hm, h => by
    have hB : x.2.2.2.1.length + bks Y ≤ B := hB
    exact ⟨⟨by rw [h50]; exact h.1.1, by rw [h34]; exact h.1.2.1, by rw [h51]; exact h.1.2.2.1, bkL_cg2 h52 h53 _ _ _ (by omega) h.1.2.2.2.1, by rw [h33 _ (by simp)]; exact chM_cg h21 _ _ (hm x (List.mem_cons_self)) h.1.2.2.2.2⟩, loA_cg2 h50 h51 h52 h53 h34 h21 Y (fun j hj => h33 j (by simp; omega)) (by omega) (fun y hy => hm y (List.mem_cons_of_mem _ hy)) h.2⟩
/-- both lay a break -/
theorem PS.brk {b : Nat → Int32} {n T : Nat} {Q : tkQ} {X : List Int32 → Prop} {FO : List fT} {PL : List qT} {cl ml : Nat} {F : Nat} {N : List lT} {p v c m wh : Nat} {W : List wT} {σ τ : lj_S} {x : zT} {Y : List zT} (h : PS b n T Q X F N FO (x :: Y) PL cl ml p v c m wh W σ τ) (hT : T ≤ 520) (hlt : p < T) (hc : c + 1 ≤ 25 * p + 100) (hm : m + 1 ≤ 25 * p + 100) {σ' τ' : lj_S} (oC : ∀ k j, ¬ (22 ≤ k ∧ k ≤ 26 ∧ j = c) → ¬ (k = 5 ∧ j = 0) → ¬ ((k = 52 ∨ k = 53) ∧ j = bks (x :: Y)) → ¬ (k = 6 ∧ (j = 13 ∨ j = 0)) → σ'.1 k j = σ.1 k j) (oM : ∀ k j, ¬ (20 ≤ k ∧ k ≤ 23 ∧ j = m) → ¬ (k = 0 ∧ (j = 41 ∨ j = 25)) → ¬ (k = 33 ∧ j = Y.length) → τ'.1 k j = τ.1 k j) (c2 : σ'.2 = σ.2) (m2 : τ'.2 = τ.2) (g50 : σ'.1 5 0 = Int32.ofNat (c + 1)) (g52 : σ'.1 52 (bks (x :: Y)) = Int32.ofNat c) (g53 : σ'.1 53 (bks (x :: Y)) = Int32.ofNat (Y.length + 1)) (g613 : σ'.1 6 13 = Int32.ofNat (bks (x :: Y) + 1)) (g60 : σ'.1 6 0 = Int32.ofNat (p + 1)) (w41 : τ'.1 0 41 = Int32.ofNat (m + 1)) (w25 : τ'.1 0 25 = Int32.ofNat (p + 1)) (w33 : τ'.1 33 Y.length = Int32.ofNat m) (w21 : τ'.1 21 m = τ.1 33 Y.length) :
    PS b n T Q X F N FO (adB [(c, m)] (x :: Y)) PL (c + 1) (m + 1) (p + 1) v (c + 1) (m + 1) wh W σ' τ' ∧ GR N N F F p (p + 1) c (c + 1) m (m + 1) σ τ σ' τ' := by
  have c14 := h.c14 hT
  have hb := h.2.2.1
  obtain ⟨h1, h2, h3, h4, h5, h6, h7, h8, h9, h10⟩ := h.2.1
  have hcl := h.2.2.2.2.1.1
  have hml := h.2.2.2.2.2
  obtain ⟨l1, l2, l3, l4, l5, l6, l7, l8, l9, l10, l11⟩ := h.2.2.2.1
  have fC : lf pC σ σ' := fun k j q => ⟨by have := pC_k q; exact oC k j (by omega) (by omega) (by omega) (by omega), by rw [c2]⟩
  have fM : lf pM τ τ' := fun k j q => ⟨by have := pM_k q; exact oM k j (by omega) (by omega) (by omega), by rw [m2]⟩
  have hib := h.2.2.2.2.1.2
  have kC : ∀ k j, (27 ≤ k ∧ k ≤ 51 ∨ 54 ≤ k ∨ k < 5) → σ'.1 k j = σ.1 k j := fun k j q => oC k j (by omega) (by omega) (by omega) (by omega)
  refine ⟨h.mk' fC fM (NR_eq h.1.2.2.1 (fun k j q => oC k j (by rintro ⟨e1, e2, _⟩; have : k = 33 ∨ k = 34 ∨ k = 35 ∨ k = 48 ∨ k = 43 ∨ k = 44 ∨ k = 45 ∨ k = 46 ∨ k = 9 ∨ k = 10 ∨ k = 11 ∨ k = 6 ∨ k = 3 := (by simp [nrC] at q; omega); omega) (by rintro ⟨e1, e2⟩; rw [e1, e2] at q; cases q) (by rintro ⟨e | e, _⟩ <;> rw [e] at q <;> cases q) (by rintro ⟨e1, e2 | e2⟩ <;> rw [e1, e2] at q <;> cases q)) (fun k j q => oM k j (by rintro ⟨e1, e2, _⟩; have : k = 15 ∨ k = 18 ∨ k = 19 ∨ k = 29 ∨ k = 30 ∨ k = 31 ∨ k = 32 ∨ k = 2 ∨ k = 3 ∨ k = 4 ∨ k = 0 := (by simp [nrM] at q; omega); omega) (by rintro ⟨e1, e2 | e2⟩ <;> rw [e1, e2] at q <;> cases q) (by rintro ⟨e1, _⟩; rw [e1] at q; cases q))) (FR_eq h.1.2.2.2.1 (fun k j q => by have : 27 ≤ k ∧ k ≤ 51 ∨ (k = 5 ∧ (j = 8 ∨ j = 18)) := (by simp [frC] at q; omega); exact oC k j (by omega) (by omega) (by omega) (by omega)) (fun k j q => by have : k = 14 ∨ k = 15 ∨ k = 16 ∨ k = 17 ∨ (k = 0 ∧ j = 34) := (by simp [frM] at q; omega); exact oM k j (by omega) (by omega) (by omega))) h.1.2.2.2.2.1 (lvS_eq (fun k j q => by have : 27 ≤ k ∧ k ≤ 51 ∨ (k = 5 ∧ j = 18) := (by simp [lvC] at q; omega); exact oC k j (by omega) (by omega) (by omega) (by omega)) h.1.2.2.2.2.2.1) (SCr_eq h.1.2.2.2.2.2.2 (by omega) (fun k j q => by have : 27 ≤ k ∧ k ≤ 51 ∨ (k = 5 ∧ (j = 8 ∨ j = 18)) := (by simp [scC] at q; omega); exact oC k j (by omega) (by omega) (by omega) (by omega))) ⟨g60, w25, by rw [oC 6 1 (by omega) (by omega) (by omega) (by omega)]; exact h3, by rw [oM 0 47 (by omega) (by omega) (by omega)]; exact h4, g50, w41, by rw [oC 5 6 (by omega) (by omega) (by omega) (by omega)]; exact h7, by rw [oM 0 40 (by omega) (by omega) (by omega)]; exact h8, mWt_cg h9 (oM 0 46 (by omega) (by omega) (by omega)) (fun k j q => oM k j (by omega) (by omega) (by omega)), by rw [oM 0 4 (by omega) (by omega) (by omega)]; exact h10⟩ ⟨(by omega), hb.2.1, (by omega), (by omega), by have := hb.2.2.2.2.1; omega, hb.2.2.2.2.2⟩ ⟨by rw [oC 6 10 (by omega) (by omega) (by omega) (by omega)]; exact l1, by rw [oM 0 56 (by omega) (by omega) (by omega)]; exact l2, l3, by rw [g613]; simp only [adB, bks, List.map_cons, List.map_nil, List.length_append, List.length_cons, List.length_nil]; congr 1; omega, ?_, by rw [oC 6 18 (by omega) (by omega) (by omega) (by omega)]; exact l6, by rw [oM 0 60 (by omega) (by omega) (by omega)]; exact l7, l8, ⟨⟨by rw [kC 50 _ (by omega)]; exact l9.1.1, by rw [oM 34 _ (by omega) (by omega) (by omega)]; exact l9.1.2.1, by rw [kC 51 _ (by omega)]; exact l9.1.2.2.1, ⟨?_, ?_, bkL_cg2 (B := bks (x :: Y)) (fun j hj => oC 52 j (by omega) (by omega) (by omega) (by omega)) (fun j hj => oC 53 j (by omega) (by omega) (by omega) (by omega)) _ _ _ (show bks Y + x.2.2.2.1.length ≤ bks (x :: Y) by simp only [bks]; omega) l9.1.2.2.2.1⟩, ⟨w33, (show m < 14000 by omega), by rw [w21]; exact chM_cg (m := ml) (fun j hj => oM 21 j (by omega) (by omega) (by omega)) _ _ (l11 x (List.mem_cons_self)).2 l9.1.2.2.2.2⟩⟩, loA_cg2 (m := ml) (B := bks (x :: Y)) (fun j => kC 50 j (by omega)) (fun j => kC 51 j (by omega)) (fun j hj => oC 52 j (by omega) (by omega) (by omega) (by omega)) (fun j hj => oC 53 j (by omega) (by omega) (by omega) (by omega)) (fun j => oM 34 j (by omega) (by omega) (by omega)) (fun j hj => oM 21 j (by omega) (by omega) (by omega)) Y (fun j hj => oM 33 j (by omega) (by omega) (by omega)) (by simp only [bks]; omega) (fun y hy => (l11 y (List.mem_cons_of_mem _ hy)).2) l9.2⟩, plA_cg (fun j => kC 54 j (by omega)) (fun j => kC 55 j (by omega)) (fun j => kC 56 j (by omega)) (fun j => oM 35 j (by omega) (by omega) (by omega)) (fun j => oM 36 j (by omega) (by omega) (by omega)) (fun j => oM 37 j (by omega) (by omega) (by omega)) PL l10, fun y hy => ?_⟩ (Nat.le_refl _) ?_ (Nat.le_refl _), ⟨TX_eq N fC fM h.1.2.1 (fun k j q => by have : 27 ≤ k ∧ k ≤ 51 ∨ (k = 5 ∧ (j = 6 ∨ j = 8 ∨ j = 18)) := (by simp [txC] at q; omega); exact oC k j (by omega) (by omega) (by omega) (by omega)) (fun k j q => by have : k = 12 ∨ k = 13 ∨ k = 15 ∨ k = 18 ∨ k = 19 := (by simp [txM] at q; omega); exact oM k j (by omega) (by omega) (by omega)) (fun i => by rw [c2]) (fun i => by rw [m2]) (by unfold lv; rw [g50, h5, lz_lit (by omega), lz_lit (by omega)]; omega), lvX_rf _, (Nat.le_refl _), (by omega), (by omega), (by omega), ⟨fun k j q1 q2 _ q4 => oC k j (by omega) (by omega) (by omega) (by omega), fun k j q1 q2 _ q4 => oM k j (by omega) (by omega) (by omega)⟩⟩⟩
  · have := hib.1.2.1
    have hpT := hb.1
    simp only [adB, bks, List.map_cons, List.map_nil, List.length_append, List.length_cons, List.length_nil] at this ⊢
    omega
  · have e : bks Y + ([] ++ x.2.2.2.1).length = bks (x :: Y) := by simp only [bks, List.nil_append]; omega
    show σ'.1 52 (bks Y + ([] ++ x.2.2.2.1).length) = Int32.ofNat c
    rw [e]; exact g52
  · have e : bks Y + ([] ++ x.2.2.2.1).length = bks (x :: Y) := by simp only [bks, List.nil_append]; omega
    show σ'.1 53 (bks Y + ([] ++ x.2.2.2.1).length) = Int32.ofNat (Y.length + 1)
    rw [e]; exact g53
  · simp only [adB] at hy
    rcases List.mem_cons.1 hy with e | e
    · have q := l11 x (List.mem_cons_self)
      rw [e]
      refine ⟨fun j hj => ?_, fun j hj => ?_⟩
      · have hj : j ∈ c :: x.2.2.2.1 := hj
        rcases List.mem_cons.1 hj with w | w
        · omega
        · have := q.1 j w; omega
      · have hj : j ∈ m :: x.2.2.2.2 := hj
        rcases List.mem_cons.1 hj with w | w
        · omega
        · have := q.2 j w; omega
    · have q := l11 y (List.mem_cons_of_mem _ e)
      exact ⟨fun j hj => by have := q.1 j hj; omega, fun j hj => by have := q.2 j hj; omega⟩
  · obtain ⟨⟨q1, q2, q3⟩, q4⟩ := hib
    have e18 : lv σ' 5 18 = lv σ 5 18 := by unfold lv; rw [oC 5 18 (by omega) (by omega) (by omega) (by omega)]
    have e8 : lv σ' 5 8 = lv σ 5 8 := by unfold lv; rw [oC 5 8 (by omega) (by omega) (by omega) (by omega)]
    refine ⟨⟨by rw [e18]; omega, ?_, fun y hy => ?_⟩, ?_⟩
    · simp only [adB, bks, List.map_cons, List.map_nil, List.length_append, List.length_cons, List.length_nil] at q2 ⊢
      omega
    · rw [e8]
      simp only [adB] at hy
      rcases List.mem_cons.1 hy with e | e
      · rw [e]; exact q3 x (List.mem_cons_self)
      · exact q3 y (List.mem_cons_of_mem _ e)
    · obtain ⟨a1, a2, a3, a4, a5⟩ := q4
      refine ⟨a1, a2, a3, a4, fun y hy => ?_⟩
      simp only [adB] at hy
      rcases List.mem_cons.1 hy with e | e
      · rw [e]; exact a5 x (List.mem_cons_self)
      · exact a5 y (List.mem_cons_of_mem _ e)
/-- closing cells from the so-many-th local on: the component alone -/
theorem c_closeFrom {σ : lj_S} {z : lT} {R : List lT} (h : nmC σ (z :: R)) (h62 : σ.1 6 2 = Int32.ofNat z.1) {nl : Nat} (h31 : σ.1 31 z.1 = Int32.ofNat nl) {c : Nat} (h5 : σ.1 5 0 = Int32.ofNat c) (hc : c < 14000) {e kn : List kT} (hk : z.2.1 = e ++ kn) :
    (e = [] ∧ lj_R lc_P 70 [.ref 6, .int (Int32.ofNat kn.length)] σ = some (.inl none, σ)) ∨ ∃ e' t, e = e' ++ [t] ∧ t.2.2 < 50 ∧ lj_R lc_P 70 [.ref 6, .int (Int32.ofNat kn.length)] σ = some (.inl none, cP σ c 34 (Int32.ofNat t.2.2) (Int32.ofNat nl) 0 0) := by
  have hz51 : z.1 < 51 := h.1.1
  have h44 : σ.1 44 z.1 = Int32.ofNat (e ++ kn).length := by rw [← hk]; exact h.1.2.2.1
  have hl50 : (e ++ kn).length ≤ 50 := by rw [← hk]; exact h.1.2.2.2.1
  have i1 : lj_in (Int32.ofNat z.1) 51 := ofN_in hz51 (by omega)
  rcases List.eq_nil_or_concat e with he | ⟨e', t, he⟩
  · subst he
    simp only [List.nil_append] at h44 hl50
    refine Or.inl ⟨rfl, ?_⟩
    rw [rc_70, kc_70_0, h62]
    simp only [if_pos i1, lz_onat (show z.1 < 2147483648 by omega), h44]
    rw [if_pos (by rw [lz_le]; exact Int.le_refl _), kc_70_57]
  · rw [List.concat_eq_append] at he
    have hk2 : z.2.1 = e' ++ t :: kn := by rw [hk, he]; simp
    have hlen : (e ++ kn).length = e'.length + 1 + kn.length := by rw [he]; simp; omega
    have kc := knC_dr e' (by rw [← hk2]; exact h.1.2.2.2.2.1)
    have i2 : lj_in (Int32.ofNat (50 * z.1 + kn.length)) 2550 := ofN_in (by omega) (by omega)
    have kn46 : σ.1 46 (50 * z.1 + kn.length) = Int32.ofNat t.2.2 := kc.1.2.1
    refine Or.inr ⟨e', t, he, kc.1.2.2.2.2, ?_⟩
    rw [rc_70, kc_70_0, h62]
    simp only [if_pos i1, lz_onat (show z.1 < 2147483648 by omega), h44, lz_m50, if_pos i2, lz_onat (show 50 * z.1 + kn.length < 2147483648 by omega), kn46, h31]
    rw [if_neg (by rw [lz_le, lz_lit (by omega), lz_lit (by omega)]; omega), c_put5 h5 hc, bi_ok, kc_70_57]
/-- locals from a slot on no more -/
theorem sl_filter {e' kn : List kT} {t : kT} (h : ((e' ++ t :: kn).map (·.2.2)).Pairwise (· > ·)) : ((e' ++ t :: kn).map (·.2.2)).filter (· < t.2.2) = kn.map (·.2.2) := by
  rw [List.map_append, List.map_cons] at h ⊢
  rw [List.pairwise_append, List.pairwise_cons] at h
  rw [List.filter_append, List.filter_cons_of_neg (by simp), List.filter_eq_nil_iff.2 (fun y hy => ?_), List.nil_append, List.filter_eq_self.2 (fun y hy => ?_)]
  · have : t.2.2 > y := h.2.1.1 y hy
    simpa using this
  · have : y > t.2.2 := h.2.2 y hy t.2.2 (List.mem_cons_self)
    simp; omega
