/-! what is given, what is printed -/
theorem c_kindOf {σ : lj_S} {G : List vT} (h : gvC σ G) (hl : G.length ≤ 128) {i : Nat} (hi : i < 1000) : lj_R lc_P 163 [.ref 8, .int (Int32.ofNat i)] σ = some (.inl (some (.int (G.getD i (0, 0)).1)), σ) := by
  have e38 : σ.1 8 38 = Int32.ofNat G.length := lz_ext (by rw [lz_lit (by omega)]; exact h.1)
  have e : (Int32.ofNat i).toNatClampNeg = i := lz_onat (by omega)
  rw [rc_163, kc_163_0, e38]
  by_cases w : G.length ≤ i
  · rw [if_pos (by rw [ofN_le (by omega) (by omega)]; exact w), kc_163_18, List.getD_eq_getElem?_getD, List.getElem?_eq_none w]
    rfl
  · rw [if_neg (by rw [ofN_le (by omega) (by omega)]; exact w), if_pos (ofN_in (by omega) (by omega)), kc_163_18, e, ← h.2 i (by omega)]
theorem c_valueOf {σ : lj_S} {G : List vT} (h : gvC σ G) (hl : G.length ≤ 128) {i : Nat} (hi : i < 1000) : lj_R lc_P 165 [.ref 8, .int (Int32.ofNat i)] σ = some (.inl (some (.long (G.getD i (0, 0)).2)), σ) := by
  have e38 : σ.1 8 38 = Int32.ofNat G.length := lz_ext (by rw [lz_lit (by omega)]; exact h.1)
  have e : (Int32.ofNat i).toNatClampNeg = i := lz_onat (by omega)
  rw [rc_165, kc_165_0, e38]
  by_cases w : G.length ≤ i
  · rw [if_pos (by rw [ofN_le (by omega) (by omega)]; exact w), kc_165_18, List.getD_eq_getElem?_getD, List.getElem?_eq_none w]
    rfl
  · rw [if_neg (by rw [ofN_le (by omega) (by omega)]; exact w), if_pos (ofN_in (by omega) (by omega)), kc_165_18, e, ← h.2 i (by omega)]
theorem m_ak {τ : lj_S} {G : List vT} (h : gvM τ G) (hl : G.length ≤ 128) {i : Nat} (hi : i < 1000) : lj_R lm_P 190 [.ref 0, .int (Int32.ofNat (i + 1))] τ = some (.inl (some (.int (G.getD i (0, 0)).1)), τ) := by
  have e38 : τ.1 0 137 = Int32.ofNat G.length := lz_ext (by rw [lz_lit (by omega)]; exact h.1)
  have e : (Int32.ofNat i).toNatClampNeg = i := lz_onat (by omega)
  rw [rm_190, km_190_0, e38, lz_pred']
  by_cases w : G.length ≤ i
  · rw [if_pos (by rw [lz_lt, lz_lit (by omega), lz_lit (by omega)]; omega), km_190_20, List.getD_eq_getElem?_getD, List.getElem?_eq_none w]
    rfl
  · rw [if_neg (by rw [lz_lt, lz_lit (by omega), lz_lit (by omega)]; omega), if_pos (ofN_in (by omega) (by omega)), km_190_20, e, ← h.2 i (by omega)]
theorem m_an {τ : lj_S} {G : List vT} (h : gvM τ G) (hl : G.length ≤ 128) {i : Nat} (hi : i < 1000) : lj_R lm_P 191 [.ref 0, .int (Int32.ofNat (i + 1))] τ = some (.inl (some (.long (G.getD i (0, 0)).2)), τ) := by
  have e38 : τ.1 0 137 = Int32.ofNat G.length := lz_ext (by rw [lz_lit (by omega)]; exact h.1)
  have e : (Int32.ofNat i).toNatClampNeg = i := lz_onat (by omega)
  rw [rm_191, km_191_0, e38, lz_pred']
  by_cases w : G.length ≤ i
  · rw [if_pos (by rw [lz_lt, lz_lit (by omega), lz_lit (by omega)]; omega), km_191_20, List.getD_eq_getElem?_getD, List.getElem?_eq_none w]
    rfl
  · rw [if_neg (by rw [lz_lt, lz_lit (by omega), lz_lit (by omega)]; omega), if_pos (ofN_in (by omega) (by omega)), km_191_20, e, ← h.2 i (by omega)]
/-- rows of values side by side -/
def vLs (σ τ : lj_S) (G H : List vT) : Prop := G.length = H.length ∧ ∀ i, i < G.length → vR σ τ (G.getD i (0, 0)) (H.getD i (0, 0))
theorem vLs.at {σ τ : lj_S} {G H : List vT} (h : vLs σ τ G H) (i : Nat) : vR σ τ (G.getD i (0, 0)) (H.getD i (0, 0)) := by
  by_cases w : i < G.length
  · exact h.2 i w
  · rw [List.getD_eq_getElem?_getD, List.getD_eq_getElem?_getD, List.getElem?_eq_none (by omega), List.getElem?_eq_none (by have := h.1; omega)]
    exact vR_nil _ _
/-- what was printed -/
def ouR (σ τ : lj_S) : Prop := σ.1 8 50 = τ.1 0 150 ∧ 0 ≤ lv σ 8 50 ∧ ∀ i : Nat, i < 3000 → (i : Int) < lv σ 8 50 → σ.1 109 i = τ.1 94 i
def otC (k j : Nat) : Bool := k == 109 || (k == 8 && j == 50)
def otM (k j : Nat) : Bool := k == 94 || (k == 0 && j == 150)
theorem cm_out {σ τ : lj_S} (h : ouR σ τ) (x : Int32) : ∃ σ' τ', lj_R lc_P 161 [.ref 8, .int x] σ = some (.inl none, σ') ∧ lj_R lm_P 189 [.ref 0, .int x] τ = some (.inl none, τ') ∧ ouR σ' τ' ∧ lf otC σ σ' ∧ lf otM τ τ' := by
  obtain ⟨h1, h2, h3⟩ := h
  have bd := lv_b σ 8 50
  have e3 : (3000 : Int32).toInt = 3000 := by decide
  have eM : (2147483647 : Int32).toInt = 2147483647 := by decide
  have e1 : (1 : Int32).toInt = 1 := by decide
  -- the counts
  have cnt : ∀ (s t : lj_S), s.1 8 50 = σ.1 8 50 → t.1 0 150 = τ.1 0 150 → ∃ y : Int32, lj_D lc_P lc_M161 23 [.ref 8, .int x] [] s = some (.inl none, lj_put s 8 50 y) ∧ lj_D lm_P lm_M189 21 [.ref 0, .int x] [] t = some (.inl none, lj_put t 0 150 y) ∧ (y.toInt = lv σ 8 50 + 1 ∨ y.toInt = lv σ 8 50 ∧ lv σ 8 50 = 2147483647) := fun s t hs ht => by
    by_cases w : σ.1 8 50 = 2147483647
    · refine ⟨2147483647, ?_, ?_, Or.inr ⟨?_, ?_⟩⟩
      · rw [kc_161_23, hs, w, if_pos (by decide), kc_161_43]; rfl
      · rw [km_189_21, ht, ← h1, w, if_pos rfl, km_189_45]
      · show _ = (σ.1 8 50).toInt; rw [w]
      · show (σ.1 8 50).toInt = _; rw [w]; rfl
    · have w' : lv σ 8 50 ≠ 2147483647 := fun z => w (lz_ext (by rw [eM]; exact z))
      refine ⟨σ.1 8 50 + 1, ?_, ?_, Or.inl ?_⟩
      · rw [kc_161_23, hs, if_neg (by rw [lz_le, eM, lv_def]; omega), kc_161_43]
      · rw [km_189_21, ht, ← h1, if_neg w, km_189_45]
      · rw [lz_add (by rw [e1, lv_def]; omega), e1, lv_def]
  by_cases w : (3000 : Int32) ≤ σ.1 8 50
  · obtain ⟨y, c1, c2, c3⟩ := cnt σ τ rfl rfl
    have w' := w
    rw [lz_le, e3, lv_def] at w'
    refine ⟨_, _, by rw [rc_161, kc_161_0, if_pos w]; exact c1, by rw [rm_189, km_189_0, ← h1, if_pos w]; exact c2, ⟨?_, ?_, fun i i1 i2 => ?_⟩, lf_put (lf_rf _ _) _ _ _ rfl, lf_put (lf_rf _ _) _ _ _ rfl⟩
    · rw [lj_put_1, lj_put_1, if_pos ⟨rfl, rfl⟩, if_pos ⟨rfl, rfl⟩]
    · rw [lv_put, if_pos ⟨rfl, rfl⟩]; omega
    · rw [lj_put_1, lj_put_1, if_neg (by omega), if_neg (by omega)]
      exact h3 i i1 (by omega)
  · have w' := w
    rw [lz_le, e3, lv_def] at w'
    have hi : lj_in (σ.1 8 50) 3000 := lz_in.2 (by rw [lv_def]; omega)
    have hi' : lj_in (τ.1 0 150) 3000 := by rw [← h1]; exact hi
    have w2 : ¬ ((3000 : Int32) ≤ τ.1 0 150) := by rw [← h1]; exact w
    generalize hb : vp_nar .byte ((x : Int32).toInt8.toInt32) = bb
    obtain ⟨y, c1, c2, c3⟩ := cnt (lj_put σ 109 (σ.1 8 50).toNatClampNeg bb) (lj_put τ 94 (τ.1 0 150).toNatClampNeg bb) (by rw [lj_put_1, if_neg (by omega)]) (by rw [lj_put_1, if_neg (by omega)])
    refine ⟨_, _, by rw [rc_161, kc_161_0, if_neg w, if_pos hi, hb]; exact c1, by rw [rm_189, km_189_0, if_neg w2, if_pos hi', hb]; exact c2, ⟨?_, ?_, fun i i1 i2 => ?_⟩, lf_put (lf_put (lf_rf _ _) _ _ _ rfl) _ _ _ rfl, lf_put (lf_put (lf_rf _ _) _ _ _ rfl) _ _ _ rfl⟩
    · rw [lj_put_1, if_pos ⟨rfl, rfl⟩, lj_put_1, if_pos ⟨rfl, rfl⟩]
    · rw [lv_put, if_pos ⟨rfl, rfl⟩]; omega
    · rw [lv_put, if_pos ⟨rfl, rfl⟩] at i2
      by_cases z : i = (σ.1 8 50).toNatClampNeg
      · rw [lj_put_1, if_neg (by omega), lj_put_1, if_pos ⟨rfl, z⟩, lj_put_1, if_neg (by omega), lj_put_1, if_pos ⟨rfl, by rw [← h1]; exact z⟩]
      · rw [lj_put_1, if_neg (by omega), lj_put_1, if_neg (fun q => z q.2), lj_put_1, if_neg (by omega), lj_put_1, if_neg (fun q => z (by rw [h1]; exact q.2))]
        refine h3 i i1 ?_
        have : (σ.1 8 50).toNatClampNeg = (lv σ 8 50).toNat := rfl
        omega
/-- what is drafted is printed -/
theorem cm_outs (x1 y1 : Int32) {D : List Int32} (hl : D.length ≤ 1000) : ∀ (d k : Nat) (σ τ : lj_S), k + d = D.length → cDr σ D → mDr τ D → ouR σ τ → ∃ σ' τ', lj_D lc_P lc_M160 48 [.ref 8, .int x1, .int (Int32.ofNat k)] [] σ = lj_D lc_P lc_M160 2 [.ref 8, .int (x1 + 1), .int (Int32.ofNat D.length)] [] σ' ∧ lj_D lm_P lm_M188 42 [.ref 0, .int y1, .int (Int32.ofNat k)] [] τ = lj_D lm_P lm_M188 2 [.ref 0, .int (y1 + 1), .int (Int32.ofNat D.length)] [] τ' ∧ ouR σ' τ' ∧ lf otC σ σ' ∧ lf otM τ τ'
  | 0, k, σ, τ, hk, hC, hM, ho => by
    have e : k = D.length := by omega
    have c1 : (σ.1 3 6).toInt = (D.length : Int) := hC.1
    have m1 : (τ.1 0 20).toInt = (D.length : Int) := hM.1
    refine ⟨σ, τ, ?_, ?_, ho, lf_rf _ _, lf_rf _ _⟩
    · rw [kc_160_48, if_pos (by rw [lz_le, c1, lz_lit (by omega)]; omega), e]
    · rw [km_188_42, if_pos (by rw [lz_le, m1, lz_lit (by omega)]; omega), e]
  | d + 1, k, σ, τ, hk, hC, hM, ho => by
    have c1 : (σ.1 3 6).toInt = (D.length : Int) := hC.1
    have m1 : (τ.1 0 20).toInt = (D.length : Int) := hM.1
    have e : (Int32.ofNat k).toNatClampNeg = k := lz_onat (by omega)
    have hkD : k < D.length := by omega
    obtain ⟨σ1, τ1, a1, a2, a3, a4, a5⟩ := cm_out ho D[k]
    have hC1 : cDr σ1 D := ⟨by rw [a4.v rfl]; exact hC.1, fun i p q => by rw [(a4 14 i rfl).1]; exact hC.2.1 i p q, hC.2.2⟩
    have hM1 : mDr τ1 D := ⟨by rw [a5.v rfl]; exact hM.1, fun i p => by rw [(a5 8 i rfl).1]; exact hM.2.1 i p, hM.2.2⟩
    obtain ⟨σ2, τ2, b1, b2, b3, b4, b5⟩ := cm_outs x1 y1 hl d (k + 1) σ1 τ1 (by omega) hC1 hM1 a3
    refine ⟨σ2, τ2, ?_, ?_, b3, a4.tr b4, a5.tr b5⟩
    · rw [kc_160_48, if_neg (by rw [lz_le, c1, lz_lit (by omega)]; omega), if_pos (ofN_in (by omega) (by omega)), e, hC.2.1 k hkD (by omega), a1, bv_ok, lz_osucc]
      exact b1
    · rw [km_188_42, if_neg (by rw [lz_le, m1, lz_lit (by omega)]; omega), if_pos (ofN_in (by omega) (by omega)), e, hM.2.1 k hkD, a2, bv_ok, lz_osucc]
      exact b2
/-- places that a print changes -/
def prC (k j : Nat) : Bool := otC k j || cAd k j
def prM (k j : Nat) : Bool := otM k j || mAd k j
theorem prC_f {k j : Nat} (h : prC k j = false) : otC k j = false ∧ cAd k j = false := by unfold prC at h; simpa using h
theorem prM_f {k j : Nat} (h : prM k j = false) : otM k j = false ∧ mAd k j = false := by unfold prM at h; simpa using h
theorem gvC.pr {σ σ' : lj_S} {G : List vT} (h : gvC σ G) (f : lf prC σ σ') : gvC σ' G := ⟨by rw [f.v rfl]; exact h.1, fun j hj => by rw [(f 105 j rfl).1, (f 106 j rfl).2]; exact h.2 j hj⟩
theorem gvM.pr {τ τ' : lj_S} {G : List vT} (h : gvM τ G) (f : lf prM τ τ') : gvM τ' G := ⟨by rw [f.v rfl]; exact h.1, fun j hj => by rw [(f 88 j rfl).1, (f 89 j rfl).2]; exact h.2 j hj⟩
theorem pr_s {k j : Nat} (q : sqC k j = true) : prC k j = false := by
  unfold sqC at q; simp at q; unfold prC otC cAd; simp; omega
theorem pr_v {k j : Nat} (q : vqC k j = true) : prC k j = false := by
  unfold vqC at q; simp at q; unfold prC otC cAd; simp; omega
theorem pr_s' {k j : Nat} (q : sqM k j = true) : prM k j = false := by
  unfold sqM at q; simp at q; unfold prM otM mAd; simp; omega
theorem pr_v' {k j : Nat} (q : vqM k j = true) : prM k j = false := by
  unfold vqM at q; simp at q; unfold prM otM mAd; simp; omega
theorem sM.pr {σ τ σ' τ' : lj_S} (h : sM σ τ) (f : lf prC σ σ') (g : lf prM τ τ') : sM σ' τ' := h.cg (fun k j q => (f k j (pr_s q)).1) (fun k j q => (g k j (pr_s' q)).1)
theorem vLs.pr {σ τ σ' τ' : lj_S} {G H : List vT} (h : vLs σ τ G H) (f : lf prC σ σ') (g : lf prM τ τ') : vLs σ' τ' G H := ⟨h.1, fun i hi => (h.2 i hi).cg (fun k j q => (f k j (pr_v q)).1) (fun k j q => (g k j (pr_v' q)).1)⟩
theorem ouR.dr {σ τ σ' τ' : lj_S} (h : ouR σ τ) (f : lf cAd σ σ') (g : lf mAd τ τ') : ouR σ' τ' := ⟨by rw [(f 8 50 rfl).1, (g 0 150 rfl).1]; exact h.1, by rw [f.v rfl]; exact h.2.1, fun i i1 i2 => by rw [(f 109 i rfl).1, (g 94 i rfl).1]; exact h.2.2 i i1 (by rw [f.v rfl] at i2; exact i2)⟩
/-- one value is printed -/
theorem cm_print1 {σ τ : lj_S} {G H : List vT} (hl : G.length ≤ 128) {i : Nat} (hi : i < G.length) (h1 : gvC σ G) (h2 : gvM τ H) (h3 : vLs σ τ G H) (h4 : sM σ τ) (h5 : ouR σ τ) (v w : Value) : ∃ σ' τ' n, lj_D lc_P lc_M160 20 [.ref 8, .int (Int32.ofNat i), v] [] σ = lj_D lc_P lc_M160 2 [.ref 8, .int (Int32.ofNat (i + 1)), .int n] [] σ' ∧ lj_D lm_P lm_M188 21 [.ref 0, .int (Int32.ofNat (i + 1)), w] [] τ = lj_D lm_P lm_M188 2 [.ref 0, .int (Int32.ofNat (i + 1 + 1)), .int n] [] τ' ∧ ouR σ' τ' ∧ lf prC σ σ' ∧ lf prM τ τ' := by
  have f0 : lf cAd σ (lj_put σ 3 6 0) := lf_put (lf_rf _ _) _ _ _ rfl
  have g0 : lf mAd τ (lj_put τ 0 20 0) := lf_put (lf_rf _ _) _ _ _ rfl
  have up : ∀ {s s' : lj_S}, lf cAd s s' → lf prC s s' := fun f => f.mo (fun k j q => (prC_f q).2)
  have up' : ∀ {s s' : lj_S}, lf mAd s s' → lf prM s s' := fun f => f.mo (fun k j q => (prM_f q).2)
  have d0 : cDr (lj_put σ 3 6 0) [] := ⟨by rw [lv_put, if_pos ⟨rfl, rfl⟩]; rfl, fun i a _ => absurd a (Nat.not_lt_zero _), fun b hb => by cases hb⟩
  have m0 : mDr (lj_put τ 0 20 0) [] := ⟨by rw [lv_put, if_pos ⟨rfl, rfl⟩]; rfl, fun i a => absurd a (Nat.not_lt_zero _), fun b hb => by cases hb⟩
  have a1 := h1.pr (up f0)
  have a2 := h2.pr (up' g0)
  have a3 := (h3.pr (up f0) (up' g0)).at i
  have a4 := h4.dr f0 g0
  have hH : H.length ≤ 128 := by have := h3.1; omega
  obtain ⟨T, σ1, τ1, lT, t1, t2, t3, t4, t5, t6⟩ := cm_text a4 d0 m0 (by decide) a3
  rw [List.nil_append] at t3 t4
  have o1 := (h5.dr f0 g0).dr t5 t6
  obtain ⟨σ2, τ2, b1, b2, b3, b4, b5⟩ := cm_outs (Int32.ofNat i) (Int32.ofNat (i + 1)) lT T.length 0 σ1 τ1 (Nat.zero_add _) t3 t4 o1
  have e : (Int32.ofNat i).toNatClampNeg = i := lz_onat (by omega)
  have g := a1.2 i hi
  have gk : (lj_put σ 3 6 0).1 105 i = (G.getD i (0, 0)).1 := congrArg Prod.fst g
  have gn : (lj_put σ 3 6 0).2 106 i = (G.getD i (0, 0)).2 := congrArg Prod.snd g
  refine ⟨σ2, τ2, Int32.ofNat T.length, ?_, ?_, b3, (up f0).tr ((up t5).tr (b4.mo (fun k j q => (prC_f q).1))), (up' g0).tr ((up' t6).tr (b5.mo (fun k j q => (prM_f q).1)))⟩
  · rw [kc_160_20, c_begin, bv_ok, if_pos (ofN_in (by omega) (by omega)), if_pos (ofN_in (by omega) (by omega)), e, gk, gn, t1, bv_ok]
    rw [lz_osucc] at b1
    exact b1
  · rw [km_188_21, m_ak a2 hH (by omega), bi_ok, m_an a2 hH (by omega), bl_ok, t2, bv_ok]
    rw [lz_osucc] at b2
    exact b2
theorem cm_print_loop {G H : List vT} (hl : G.length ≤ 128) : ∀ (d i : Nat) (σ τ : lj_S) (v w : Value), i + d = G.length → gvC σ G → gvM τ H → vLs σ τ G H → sM σ τ → ouR σ τ → ∃ σ' τ', lj_D lc_P lc_M160 2 [.ref 8, .int (Int32.ofNat i), v] [] σ = some (.inl none, σ') ∧ lj_D lm_P lm_M188 2 [.ref 0, .int (Int32.ofNat (i + 1)), w] [] τ = some (.inl none, lj_put (lj_put τ' 0 140 0) 0 129 1) ∧ ouR σ' τ' ∧ lf prC σ σ' ∧ lf prM τ τ'
  | 0, i, σ, τ, v, w, hi, h1, h2, h3, h4, h5 => by
    have e38 : σ.1 8 38 = Int32.ofNat G.length := lz_ext (by rw [lz_lit (by omega)]; exact h1.1)
    have e37 : τ.1 0 137 = Int32.ofNat H.length := lz_ext (by rw [lz_lit (by have := h3.1; omega)]; exact h2.1)
    have hl' := h3.1
    obtain ⟨σ1, τ1, a1, a2, a3, a4, a5⟩ := cm_out h5 10
    refine ⟨σ1, τ1, ?_, ?_, a3, a4.mo (fun k j q => (prC_f q).1), a5.mo (fun k j q => (prM_f q).1)⟩
    · rw [kc_160_2, e38, if_pos (by rw [ofN_le (by omega) (by omega)]; omega), a1, bv_ok]
    · rw [km_188_2, e37, if_pos (by rw [lz_lt, lz_lit (by omega), lz_lit (by omega)]; omega), a2, bv_ok, rm_192, km_192_0, bv_ok]
  | d + 1, i, σ, τ, v, w, hi, h1, h2, h3, h4, h5 => by
    have e38 : σ.1 8 38 = Int32.ofNat G.length := lz_ext (by rw [lz_lit (by omega)]; exact h1.1)
    have e37 : τ.1 0 137 = Int32.ofNat H.length := lz_ext (by rw [lz_lit (by have := h3.1; omega)]; exact h2.1)
    have hl' := h3.1
    -- the blank
    have bl : ∃ σ1 τ1, lj_D lc_P lc_M160 2 [.ref 8, .int (Int32.ofNat i), v] [] σ = lj_D lc_P lc_M160 20 [.ref 8, .int (Int32.ofNat i), v] [] σ1 ∧ lj_D lm_P lm_M188 2 [.ref 0, .int (Int32.ofNat (i + 1)), w] [] τ = lj_D lm_P lm_M188 21 [.ref 0, .int (Int32.ofNat (i + 1)), w] [] τ1 ∧ ouR σ1 τ1 ∧ lf prC σ σ1 ∧ lf prM τ τ1 := by
      have cC : ¬ (Int32.ofNat G.length ≤ Int32.ofNat i) := by rw [ofN_le (by omega) (by omega)]; omega
      have cM : ¬ (Int32.ofNat H.length < Int32.ofNat (i + 1)) := by rw [lz_lt, lz_lit (by omega), lz_lit (by omega)]; omega
      have e1 : (Int32.ofNat (i + 1) ≤ 1) ↔ i + 1 ≤ 1 := ofN_le (b := 1) (by omega) (by omega)
      have e0 : (Int32.ofNat i ≤ 0) ↔ i ≤ 0 := ofN_le (b := 0) (by omega) (by omega)
      by_cases z : i = 0
      · refine ⟨σ, τ, ?_, ?_, h5, lf_rf _ _, lf_rf _ _⟩
        · rw [kc_160_2, e38, if_neg cC, if_pos (e0.2 (by omega))]
        · rw [km_188_2, e37, if_neg cM, if_pos (e1.2 (by omega))]
      · obtain ⟨σ1, τ1, a1, a2, a3, a4, a5⟩ := cm_out h5 32
        refine ⟨σ1, τ1, ?_, ?_, a3, a4.mo (fun k j q => (prC_f q).1), a5.mo (fun k j q => (prM_f q).1)⟩
        · rw [kc_160_2, e38, if_neg cC, if_neg (fun q => z (by have := e0.1 q; omega)), a1, bv_ok]
        · rw [km_188_2, e37, if_neg cM, if_neg (fun q => z (by have := e1.1 q; omega)), a2, bv_ok]
    obtain ⟨σ1, τ1, a1, a2, a3, a4, a5⟩ := bl
    obtain ⟨σ2, τ2, n, b1, b2, b3, b4, b5⟩ := cm_print1 hl (i := i) (by omega) (h1.pr a4) (h2.pr a5) (h3.pr a4 a5) (h4.pr a4 a5) a3 v w
    have f := a4.tr b4
    have g := a5.tr b5
    obtain ⟨σ3, τ3, c1, c2, c3, c4, c5⟩ := cm_print_loop hl d (i + 1) σ2 τ2 (.int n) (.int n) (by omega) (h1.pr f) (h2.pr g) (h3.pr f g) (h4.pr f g) b3
    exact ⟨σ3, τ3, a1.trans (b1.trans c1), a2.trans (b2.trans c2), c3, f.tr c4, g.tr c5⟩
theorem cm_print {σ τ : lj_S} {G H : List vT} (hl : G.length ≤ 128) (h1 : gvC σ G) (h2 : gvM τ H) (h3 : vLs σ τ G H) (h4 : sM σ τ) (h5 : ouR σ τ) : ∃ σ' τ', lj_R lc_P 160 [.ref 8] σ = some (.inl none, σ') ∧ lj_R lm_P 188 [.ref 0] τ = some (.inl none, lj_put (lj_put τ' 0 140 0) 0 129 1) ∧ ouR σ' τ' ∧ lf prC σ σ' ∧ lf prM τ τ' := by
  obtain ⟨σ', τ', a1, a2, a3⟩ := cm_print_loop hl G.length 0 σ τ (.retAddr 0) (.retAddr 0) (Nat.zero_add _) h1 h2 h3 h4 h5
  exact ⟨σ', τ', by rw [rc_160, kc_160_0]; exact a1, by rw [rm_188, km_188_0]; exact a2, a3⟩
