/-! if: one arm, the end -/
theorem adB_mem {nb : List (Nat × Nat)} : ∀ {Z : List zT} {y : zT}, y ∈ adB nb Z → ∀ j ∈ y.2.2.2.2, (∃ x ∈ nb, x.2 = j) ∨ ∃ y' ∈ Z, j ∈ y'.2.2.2.2
  | [], _, h, _, _ => by simp [adB] at h
  | x :: Y, y, h, j, hj => by
    simp only [adB] at h
    rcases List.mem_cons.1 h with e | e
    · rw [e] at hj
      rcases List.mem_append.1 hj with w | w
      · obtain ⟨u, h1, h2⟩ := List.mem_map.1 w
        exact Or.inl ⟨u, h1, h2⟩
      · exact Or.inr ⟨x, List.mem_cons_self, w⟩
    · exact Or.inr ⟨y, List.mem_cons_of_mem _ e, hj⟩
theorem if_arm {N N3 N5 N' : List lT} {F F3 F5 p p3 p5 c c3 c5 c' m m3 m5 m' mj : Nat} {σ τ σ3 τ3 σ5 τ5 σ' τ' : lj_S} {nbE nb5 nb' : List (Nat × Nat)} {f : Nat} {s l lB : List Nat} {D : Nat}
    (g3 : GR N N3 F F3 p p3 c c3 m m3 σ τ σ3 τ3) (g4 : GR N3 N5 F3 F5 p3 p5 c3 c5 m3 m5 σ3 τ3 σ5 τ5) (hc5 : c3 < c5) (hm5 : m3 < m5) (x22 : σ5.1 22 c3 = 31) (y20 : τ5.1 20 m3 = 22)
    (hE : ∀ σ2 τ2, TX N3 σ3 τ3 σ2 τ2 → fz c c3 m m3 σ3 τ3 σ2 τ2 → seg σ2 τ2 (f, c, m, s, l, 50) (fun y => y = (f, c3, m3, 0 :: s, l, 50)))
    (hB : ∀ σ2 τ2, LB N5 nb5 (c3 + 1) c5 (m3 + 1) m5 σ5 τ5 σ2 τ2 → seg σ2 τ2 (f, c3 + 1, m3 + 1, s, l, 50) (fun y => y = (f, c5, m5, s, l, 50) ∨ bkE nb5 f s lB D y))
    (hnb : nbK nb5 (c3 + 1) c5 (m3 + 1) m5 σ5 τ5) (tx : TX N5 σ5 τ5 σ' τ') (lx : lvX N5 N')
    (zc : ∀ k j, 22 ≤ k → k ≤ 26 → j < c5 → ¬ (k = 23 ∧ (j = c3 ∨ j ∈ nbE.map (·.1))) → σ'.1 k j = σ5.1 k j)
    (zm : ∀ k j, 20 ≤ k → k ≤ 23 → j < m5 → ¬ (k = 21 ∧ (j = m3 ∨ j ∈ nbE.map (·.2))) → τ'.1 k j = τ5.1 k j)
    (hE1 : ∀ x ∈ nbE, x.1 < c ∧ x.2 < m) (x23 : σ'.1 23 c3 = Int32.ofNat (c5 + 1)) (y21 : τ'.1 21 m3 = Int32.ofNat mj) (hcj : c5 + 1 < 14000) (hmj : mj < 14000 ∧ m5 ≤ mj) (hc' : c5 < c') (hm' : m5 ≤ m')
    (hn' : nbK nb' c5 c' m5 m' σ' τ')
    (s1 : ∀ σ2 τ2, LB N' nb' c5 c' m5 m' σ' τ' σ2 τ2 → seg σ2 τ2 (f, c5, m5, s, l, 50) (fun y => y = (f, c', m', s, l, 50) ∨ bkE nb' f s lB D y))
    (s2 : ∀ σ2 τ2, LB N' nb' c5 c' m5 m' σ' τ' σ2 τ2 → seg σ2 τ2 (f, c5 + 1, mj, s, l, 50) (fun y => y = (f, c', m', s, l, 50) ∨ bkE nb' f s lB D y)) (hsB : sB s := by assumption) :
    TX N σ τ σ' τ' ∧ lvX N N' ∧ fzB nbE 0 c 0 m σ τ σ' τ' ∧ nbK (nb' ++ nb5) c c' m m' σ' τ' ∧ ∀ σ2 τ2, LB N' (nb' ++ nb5) c c' m m' σ' τ' σ2 τ2 → seg σ2 τ2 (f, c, m, s, l, 50) (fun y => y = (f, c', m', s, l, 50) ∨ bkE (nb' ++ nb5) f s lB D y) := by
  have g34 := g3.tr g4
  have hcc := g3.2.2.2.2.1
  have hmm := g3.2.2.2.2.2.1
  have eC : ∀ j, c ≤ j → j ∉ nbE.map (·.1) := fun j hj w => by
    obtain ⟨x, hx, e⟩ := List.mem_map.1 w
    have := hE1 x hx
    omega
  have eM : ∀ j, m ≤ j → j ∉ nbE.map (·.2) := fun j hj w => by
    obtain ⟨x, hx, e⟩ := List.mem_map.1 w
    have := hE1 x hx
    omega
  have nbR : ∀ x ∈ nb' ++ nb5, (c5 ≤ x.1 ∧ m5 ≤ x.2 ∧ x ∈ nb') ∨ (c3 + 1 ≤ x.1 ∧ x.1 < c5 ∧ m3 + 1 ≤ x.2 ∧ x.2 < m5 ∧ x ∈ nb5) := fun x hx => by
    rcases List.mem_append.1 hx with w | w
    · have := hn' x w
      exact Or.inl ⟨(by omega), (by omega), w⟩
    · have := hnb x w
      exact Or.inr ⟨(by omega), (by omega), (by omega), (by omega), w⟩
  refine ⟨g34.1.tr tx (fun q _ hq => by rw [lvX_q g34.2.1]; exact hq), g34.2.1.tr lx, ⟨fun k j w1 w2 w3 w4 w5 => ?_, fun k j w1 w2 w3 w4 w5 => ?_⟩, fun x hx => ?_, fun σ2 τ2 L => ?_⟩
  · rw [zc k j w1 w2 (by omega) (fun w => by
      rcases w.2 with u | u
      · omega
      · obtain ⟨x, hx, e⟩ := List.mem_map.1 u
        exact w5 w.1 x hx e), g34.2.2.2.2.2.2.1 k j w1 w2 (by omega) (by omega)]
  · rw [zm k j w1 w2 (by omega) (fun w => by
      rcases w.2 with u | u
      · omega
      · obtain ⟨x, hx, e⟩ := List.mem_map.1 u
        exact w5 w.1 x hx e), g34.2.2.2.2.2.2.2 k j w1 w2 (by omega) (by omega)]
  · rcases List.mem_append.1 hx with w | w
    · have q := hn' x w
      exact ⟨(by omega), (by omega), (by omega), (by omega), q.2.2.2.2.1, q.2.2.2.2.2⟩
    · obtain ⟨q1, q2, q3, q4, q5, q6⟩ := hnb x w
      exact ⟨(by omega), (by omega), (by omega), (by omega), by rw [zc 22 x.1 (by omega) (by omega) (by omega) (by omega)]; exact q5, by rw [zm 20 x.2 (by omega) (by omega) (by omega) (by omega)]; exact q6⟩
  · have T5 : TX N5 σ5 τ5 σ2 τ2 := tx.tr L.1 (fun q _ hq => by rw [lvX_q lx]; exact hq)
    have T3 : TX N3 σ3 τ3 σ2 τ2 := g4.1.tr T5 (fun q _ hq => by rw [lvX_q g4.2.1]; exact hq)
    have LC : ∀ k j, 22 ≤ k → k ≤ 26 → c ≤ j → j < c5 → ¬ (k = 23 ∧ j = c3) → (k = 23 → ∀ x ∈ nb5, x.1 ≠ j) → σ2.1 k j = σ5.1 k j := fun k j w1 w2 w3 w4 w5 w6 => by
      rw [L.2.1 k j w1 w2 w3 (by omega) (fun e x hx => by
        rcases nbR x hx with u | u
        · omega
        · exact w6 e x u.2.2.2.2), zc k j w1 w2 w4 (fun w => by
        rcases w.2 with u | u
        · exact w5 ⟨w.1, u⟩
        · exact eC j w3 u)]
    have LM : ∀ k j, 20 ≤ k → k ≤ 23 → m ≤ j → j < m5 → ¬ (k = 21 ∧ j = m3) → (k = 21 → ∀ x ∈ nb5, x.2 ≠ j) → τ2.1 k j = τ5.1 k j := fun k j w1 w2 w3 w4 w5 w6 => by
      rw [L.2.2 k j w1 w2 w3 (by omega) (fun e x hx => by
        rcases nbR x hx with u | u
        · omega
        · exact w6 e x u.2.2.2.2), zm k j w1 w2 w4 (fun w => by
        rcases w.2 with u | u
        · exact w5 ⟨w.1, u⟩
        · exact eM j w3 u)]
    have Lr : LB N' nb' c5 c' m5 m' σ' τ' σ2 τ2 := L.mo (by omega) (Nat.le_refl _) (by omega) (Nat.le_refl _) (fun x hx => by
      rcases nbR x hx with u | u
      · exact ⟨fun _ _ => u.2.2, fun _ _ => u.2.2⟩
      · constructor <;> intro _ _ <;> omega)
    have up : ∀ y : pT, (y = (f, c', m', s, l, 50) ∨ bkE nb' f s lB D y) → seg σ2 τ2 y (fun y => y = (f, c', m', s, l, 50) ∨ bkE (nb' ++ nb5) f s lB D y) := fun y hy => by
      rcases hy with e | ⟨x, hx, d, x1, x2, x3⟩
      · exact seg_ex (Or.inl e)
      · exact seg_ex (Or.inr ⟨x, List.mem_append_left _ hx, d, x1, x2, x3⟩)
    refine (hE σ2 τ2 T3 ⟨fun k j w1 w2 w3 w4 => ?_, fun k j w1 w2 w3 w4 => ?_⟩).tr (fun y hy => ?_)
    · rw [LC k j w1 w2 w3 (by omega) (by omega) (fun _ x hx => by have := hnb x hx; omega), g4.2.2.2.2.2.2.1 k j w1 w2 (by omega) (by omega)]
    · rw [LM k j w1 w2 w3 (by omega) (by omega) (fun _ x hx => by have := hnb x hx; omega), g4.2.2.2.2.2.2.2 k j w1 w2 (by omega) (by omega)]
    · rw [hy]
      refine seg_in [(f, c3 + 1, m3 + 1, s, l, 50), (f, c5 + 1, mj, s, l, 50)] ⟨39, c5 + 1, mj, s, (by omega), ⟨by omega, by first | omega | (dsimp only; omega), by first | omega | (dsimp only; omega)⟩, rfl, ?_, ?_, ?_, ?_, rfl⟩ (fun y hy => ?_)
      · show σ2.1 22 c3 = 31
        rw [LC 22 c3 (by omega) (by omega) hcc hc5 (by omega) (by omega)]; exact x22
      · show σ2.1 23 c3 = _
        rw [L.2.1 23 c3 (by omega) (by omega) (by omega) (by omega) (fun _ x hx => by rcases nbR x hx with u | u <;> omega)]; exact x23
      · show τ2.1 20 m3 = 22
        rw [LM 20 m3 (by omega) (by omega) hmm hm5 (by omega) (by omega)]; exact y20
      · show τ2.1 21 m3 = _
        rw [L.2.2 21 m3 (by omega) (by omega) (by omega) (by omega) (fun _ x hx => by rcases nbR x hx with u | u <;> omega)]; exact y21
      · rcases List.mem_cons.1 hy with hy | hy
        · rw [hy]
          refine (hB σ2 τ2 ⟨T5, fun k j w1 w2 w3 w4 w5 => LC k j w1 w2 (by omega) w4 (by omega) w5, fun k j w1 w2 w3 w4 w5 => LM k j w1 w2 (by omega) w4 (by omega) w5⟩).tr (fun y hy => ?_)
          rcases hy with hy | ⟨x, hx, d, x1, x2, x3⟩
          · rw [hy]; exact (s1 σ2 τ2 Lr).tr up
          · exact seg_ex (Or.inr ⟨x, List.mem_append_right _ hx, d, x1, x2, x3⟩)
        · rw [List.mem_singleton.1 hy]; exact (s2 σ2 τ2 Lr).tr up
/-- the end of an if, in both -/
theorem if_fin {b : Nat → Int32} {n T : Nat} {Q : tkQ} {X : List Int32 → Prop} (hT5 : T ≤ 520) {FO : List fT} {Z : List zT} {PL : List qT} {cl ml : Nat} {F : Nat} {N : List lT} {p v c m wh : Nat} {W : List wT} {σ τ : lj_S} (h : PS b n T Q X F N FO Z PL cl ml p v c m wh W σ τ) {e1 e2 : Int32} {rc rm : List Nat} (h1 : chC σ e1 rc) (h2 : chM τ e2 rm) (h3 : ∀ j ∈ rc, σ.1 22 j = 30) (h4 : ∀ y ∈ Z, ∀ j ∈ y.2.2.2.2, j ∉ rm) (x2 : Int32) (x3 : Value) :
    ∃ y τ', (y = 0 ∨ y = 1) ∧ lj_R lm_P 91 [.ref 0, .int e2] τ = some (.inl (some (.int y)), τ') ∧ (fltR n (lj_D lc_P lc_M101 100 [.ref 6, .int e1, .int x2, x3] [] σ) (mNx y τ') ∨ ∃ σ', lj_D lc_P lc_M101 100 [.ref 6, .int e1, .int x2, x3] [] σ = some (.inl none, σ') ∧ mNx y τ' = mLoop τ' ∧ PS b n T Q X F N FO Z PL cl ml (p + 1) v c m wh W σ' τ' ∧ TX N σ τ σ' τ' ∧ (∀ j ∈ rc, σ'.1 23 j = Int32.ofNat c) ∧ (∀ k j, 22 ≤ k → k ≤ 26 → ¬ (k = 23 ∧ j ∈ rc) → σ'.1 k j = σ.1 k j) ∧ (∀ j ∈ rm, τ'.1 21 j = Int32.ofNat m) ∧ ∀ k j, 20 ≤ k → k ≤ 23 → ¬ (k = 21 ∧ j ∈ rm) → τ'.1 k j = τ.1 k j) := by
  have hp := h.2.2.1.1
  have c14 := h.c14 hT5
  have hh := h.2.1
  obtain ⟨τ1, r1, r2, r3, r4⟩ := m_endIf h.1.1 hp hh.2.1 hh.2.2.2.2.2.2.2.2.2 hh.2.2.2.2.2.1 h2
  have A1 := h.am (σ' := σ) (BC := []) (fun _ _ _ => rfl) r3 rfl r4 h4
  have ps := c_pass h.1.1 hp hh.1 15 (by omega)
  by_cases a : (Q p).1 = 15
  · rw [if_pos a] at r1 ps
    have A2 := A1.1.st (h.lt (by omega) (by omega))
    obtain ⟨σ1, q1, q2, q3, q4⟩ := c_ends x2 rc e1 x3 (lj_put σ 6 0 (Int32.ofNat (p + 1))) (c := c) (by rw [lj_put_1, if_neg (by omega)]; exact hh.2.2.2.2.1) (chC_cg (fun j _ => by rw [lj_put_1, if_neg (by omega)]) h1) (fun j hj => by rw [lj_put_1, if_neg (by omega)]; exact h3 j hj)
    have A3 := A2.1.am (τ' := lj_put τ1 0 25 (Int32.ofNat (p + 1))) (BM := []) q3 (fun _ _ _ => rfl) q4 rfl (fun _ _ _ _ w => by simp at w)
    refine ⟨1, _, Or.inr rfl, r1, Or.inr ⟨σ1, ?_, nx1 A3.1.2.1, A3.1, (A1.2.tr A2.2.1 (fun _ _ q => q)).tr A3.2 (fun _ _ q => q), q2, fun k j w1 w2 w3 => ?_, fun j hj => ?_, fun k j w1 w2 w3 => ?_⟩⟩
    · rw [kc_101_100, show lj_R lc_P 71 [.ref 6, .int 15] σ = _ from ps, bv_ok]; exact q1
    · rw [q3 k j w3, lj_put_1, if_neg (by omega)]
    · rw [lj_put_1, if_neg (by omega)]; exact r2 j hj
    · rw [lj_put_1, if_neg (by omega)]; exact r3 k j w3
  · rw [if_neg a] at r1 ps
    refine ⟨0, _, Or.inl rfl, r1, Or.inl ?_⟩
    rw [kc_101_100, show lj_R lc_P 71 [.ref 6, .int 15] σ = _ from ps, nx0]
    exact flt_bv (A1.1.flt hT5 2 (Or.inl rfl) _) _
