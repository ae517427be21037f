/-! all tokens of both -/
/-- all but strings, more of it -/
def cDy (k j : Nat) : Bool := !(k == 9 || k == 10 || k == 11 || k == 12 || k == 13 || k == 15 || (k == 3 && (j == 7 || j == 8)))
def mDy (k j : Nat) : Bool := !(k == 2 || k == 3 || k == 4 || k == 5 || k == 6 || k == 7 || (k == 0 && (j == 14 || j == 8)))
theorem sR_dy {σ τ σ' τ' : lj_S} {X : List Int32 → Prop} (h : sR σ τ X) (f : lf cDy σ σ') (g : lf mDy τ τ') : sR σ' τ' X ∧ sG σ τ σ' τ' := by
  have kS : ∀ t, cS σ' t = cS σ t := cS_cong (fun j => (f 9 j rfl).1) (fun j => (f 10 j rfl).1) (fun j => (f 11 j rfl).1)
  have kM : ∀ t, mS τ' t = mS τ t := mS_cong (fun j => (g 2 j rfl).1) (fun j => (g 3 j rfl).1) (fun j => (g 4 j rfl).1)
  have l7 : lv σ' 3 7 = lv σ 3 7 := f.v rfl
  have l14 : lv τ' 0 14 = lv τ 0 14 := g.v rfl
  refine ⟨⟨cOK_cong h.1 (fun j => (f 9 j rfl).1) (fun j => (f 10 j rfl).1) (fun j => (f 11 j rfl).1) (fun j => (f 12 j rfl).1) (fun j => (f 13 j rfl).1) (f 3 7 rfl).1 (f 3 8 rfl).1, mOK_cong h.2.1 (fun j => (g 2 j rfl).1) (fun j => (g 3 j rfl).1) (fun j => (g 4 j rfl).1) (fun j => (g 6 j rfl).1) (fun j => (g 7 j rfl).1) (g 0 14 rfl).1 (g 0 8 rfl).1, fun D => ?_⟩, ⟨by omega, by omega, fun t _ => kS t, fun t _ => kM t⟩⟩
  have e1 : mHas τ' D ↔ mHas τ D := by
    unfold mHas lv
    simp only [l14, kM, (g 5 _ rfl).1]
    rw [show (τ'.1 0 14) = τ.1 0 14 from (g 0 14 rfl).1]
  have e2 : cHas σ' D ↔ cHas σ D := by
    unfold cHas
    simp only [l7, kS, (f 15 _ rfl).1]
  rw [e1, e2]; exact h.2.2 D
/-- token j of both: where, in which line, and what -/
def tkJ (b : Nat → Int32) (n : Nat) (σ τ : lj_S) (j : Nat) : Prop := ∃ p, p < n ∧ σ.1 19 j = Int32.ofNat p ∧ τ.1 10 j = Int32.ofNat p ∧ σ.1 20 j = Int32.ofNat (1 + tN b p) ∧ tkV σ τ (σ.1 18 j) (σ.2 21 j) (τ.1 9 j) (τ.2 11 j)
def tkE (b : Nat → Int32) (n : Nat) (σ τ : lj_S) (j : Nat) : Prop := ∃ p, p ≤ n ∧ σ.1 19 j = Int32.ofNat p ∧ τ.1 10 j = Int32.ofNat p ∧ σ.1 20 j = Int32.ofNat (1 + tN b p) ∧ (σ.1 18 j = 0 ∧ τ.1 9 j = 6 ∨ σ.1 18 j = 4 ∧ τ.1 9 j = 7)
def cLr (k j : Nat) : Bool := cLx k j || k == 18 || k == 19 || k == 20 || k == 21 || (k == 4 && (j == 2 || j == 3 || j == 4))
def mLr (k j : Nat) : Bool := mLx k j || k == 9 || k == 10 || k == 11 || (k == 0 && j == 24)
theorem tkJ.up {b : Nat → Int32} {n : Nat} {σ τ σ' τ' : lj_S} {j : Nat} (h : tkJ b n σ τ j) (g : sG σ τ σ' τ') (h18 : σ'.1 18 j = σ.1 18 j) (h19 : σ'.1 19 j = σ.1 19 j) (h20 : σ'.1 20 j = σ.1 20 j) (h21 : σ'.2 21 j = σ.2 21 j) (h9 : τ'.1 9 j = τ.1 9 j) (h10 : τ'.1 10 j = τ.1 10 j) (h11 : τ'.2 11 j = τ.2 11 j) : tkJ b n σ' τ' j := by
  obtain ⟨p, a1, a2, a3, a4, a5⟩ := h
  exact ⟨p, a1, h19.trans a2, h10.trans a3, h20.trans a4, by rw [h18, h21, h9, h11]; exact a5.up g⟩
theorem cTok_lf {A : Nat → Nat → Bool} {σ : lj_S} (T : Nat) (kd : Int32) (v : Int64) (p : Nat) (h18 : A 18 T = true) (h19 : A 19 T = true) (h20 : A 20 T = true) (h21 : A 21 T = true) (h4 : A 4 4 = true) : lf A σ (cTok σ T kd v p) :=
  lf_put (lf_put (lf_put (lf_putL (lf_put (lf_rf _ _) _ _ _ h18) _ _ _ h21) _ _ _ h19) _ _ _ h20) _ _ _ h4
/-- the model's token more -/
def mTok (τ : lj_S) (T p : Nat) : lj_S := lj_put (lj_putL (lj_put (lj_put τ 9 T (τ.1 0 67)) 10 T (Int32.ofNat p)) 11 T (τ.2 0 68)) 0 24 (Int32.ofNat (T + 1))
theorem mTok_lf {A : Nat → Nat → Bool} {τ : lj_S} (T p : Nat) (h9 : A 9 T = true) (h10 : A 10 T = true) (h11 : A 11 T = true) (h4 : A 0 24 = true) : lf A τ (mTok τ T p) :=
  lf_put (lf_putL (lf_put (lf_put (lf_rf _ _) _ _ _ h9) _ _ _ h10) _ _ _ h11) _ _ _ h4
theorem cTok_get (σ : lj_S) (T : Nat) (kd : Int32) (v : Int64) (p : Nat) (j : Nat) : (cTok σ T kd v p).1 18 j = (if j = T then kd else σ.1 18 j) ∧ (cTok σ T kd v p).1 19 j = (if j = T then Int32.ofNat p else σ.1 19 j) ∧ (cTok σ T kd v p).1 20 j = (if j = T then σ.1 4 3 else σ.1 20 j) ∧ (cTok σ T kd v p).2 21 j = (if j = T then v else σ.2 21 j) ∧ lv (cTok σ T kd v p) 4 4 = (Int32.ofNat (T + 1)).toInt := by
  unfold cTok
  refine ⟨?_, ?_, ?_, ?_, ?_⟩
  · simp [lj_put_1, lj_putL_1]
  · simp [lj_put_1, lj_putL_1]
  · simp [lj_put_1, lj_putL_1]
  · simp [lj_put_2, lj_putL_2]
  · rw [lv_put, if_pos ⟨rfl, rfl⟩]
theorem mTok_get (τ : lj_S) (T p j : Nat) : (mTok τ T p).1 9 j = (if j = T then τ.1 0 67 else τ.1 9 j) ∧ (mTok τ T p).1 10 j = (if j = T then Int32.ofNat p else τ.1 10 j) ∧ (mTok τ T p).2 11 j = (if j = T then τ.2 0 68 else τ.2 11 j) ∧ lv (mTok τ T p) 0 24 = (Int32.ofNat (T + 1)).toInt := by
  unfold mTok
  refine ⟨?_, ?_, ?_, ?_⟩
  · simp [lj_put_1, lj_putL_1]
  · simp [lj_put_1, lj_putL_1]
  · simp [lj_put_2, lj_putL_2]
  · rw [lv_put, if_pos ⟨rfl, rfl⟩]
theorem m_tok (τ : lj_S) (T p : Nat) (h : lv τ 0 24 = (T : Int)) (hT : T < 1500) (x2 x3 : Int32) : lj_D lm_P lm_M12 91 [.ref 0, .int (Int32.ofNat p), .int x2, .int x3] [] τ = if τ.1 0 67 = 6 ∨ τ.1 0 67 = 7 then some (.inl none, mTok τ T p) else lj_D lm_P lm_M12 170 [.ref 0, .int (Int32.ofNat p), .int x2, .int x3] [.int 1] (mTok τ T p) := by
  have e : τ.1 0 24 = Int32.ofNat T := lz_ext (by rw [lz_lit (by omega)]; exact h)
  have i : lj_in (τ.1 0 24) 1502 := lz_in.2 (by rw [lv_def, h]; omega)
  have e15 : (1500 : Int32).toInt = 1500 := by decide
  rw [km_12_91, if_pos i, if_pos i, if_pos i, e, lz_onat (by omega), lz_osucc, if_neg (show ¬ (1500 < Int32.ofNat (T + 1)) by rw [lz_lt, lz_lit (by omega), e15]; omega)]
  have k169 : ∀ τ', lj_D lm_P lm_M12 169 [.ref 0, .int (Int32.ofNat p), .int x2, .int x3] [] τ' = some (.inl none, τ') := fun τ' => by
    rw [km_12_169, km_12_170, if_pos rfl, km_12_187, km_12_13, if_pos rfl]
  rw [k169]
  by_cases c6 : τ.1 0 67 = 6
  · rw [if_pos c6, if_pos (Or.inl c6)]; rfl
  · rw [if_neg c6]
    by_cases c7 : τ.1 0 67 = 7
    · rw [if_pos c7, if_pos (Or.inr c7)]; rfl
    · rw [if_neg c7, if_neg (by rintro (z | z); exact c6 z; exact c7 z)]; rfl
theorem tkV_67 {σ τ : lj_S} {kd : Int32} {v : Int64} {km : Int32} {vm : Int64} (h : tkV σ τ kd v km vm) : ¬ (km = 6 ∨ km = 7) := by
  rcases h with ⟨w, _, _, e, _⟩ | ⟨w, _, _, e, _⟩ | ⟨⟨_, e⟩ | ⟨_, e⟩, _⟩ | ⟨_, e, _⟩ <;> rw [e] <;> decide
/-- what reading leaves -/
def rdE (b : Nat → Int32) (n : Nat) (X : List Int32 → Prop) (σ0 τ0 : lj_S) (oC oM : Option lj_O) : Prop :=
  ∃ σ' τ' T, oC = some (.inl none, σ') ∧ oM = some (.inl none, τ') ∧ lf cLr σ0 σ' ∧ lf mLr τ0 τ' ∧ sR σ' τ' X ∧ sG σ0 τ0 σ' τ' ∧ lv σ' 4 4 = ((T + 1 : Nat) : Int) ∧ lv τ' 0 24 = ((T + 1 : Nat) : Int) ∧ T ≤ n ∧ (∀ j, j < T → tkJ b n σ' τ' j) ∧ tkE b n σ' τ' T ∧ lv σ' 3 7 ≤ lv σ0 3 7 + n + 1 ∧ lv τ' 0 14 ≤ lv τ0 0 14 + n + 1 ∧ lv σ' 3 8 ≤ lv σ0 3 8 + n + 200 ∧ lv τ' 0 8 ≤ lv τ0 0 8 + n + 200
theorem cm_read_loop {b : Nat → Int32} {n : Nat} (hb : tB b n) (h14 : n ≤ 1400) (σ0 τ0 : lj_S) (hC0 : tC σ0 b n) (hM0 : tM τ0 b n) (X : List Int32 → Prop) (g1 : lv σ0 3 7 + n + 1 < 2600) (g2 : lv σ0 3 8 + n ≤ 39000) (g3 : lv τ0 0 14 + n + 1 < 3000) (g4 : lv τ0 0 8 + n ≤ 39000) : ∀ (m k0 T : Nat) (σ τ : lj_S) (x2 x3 y3 : Value), n - k0 < m → k0 ≤ n → T ≤ k0 → lf cLr σ0 σ → lf mLr τ0 τ → sR σ τ X → sG σ0 τ0 σ τ → lv σ 4 4 = (T : Int) → lv τ 0 24 = (T : Int) → (∀ j, j < T → tkJ b n σ τ j) → lv σ 3 7 ≤ lv σ0 3 7 + T → lv τ 0 14 ≤ lv τ0 0 14 + T → lv σ 3 8 ≤ lv σ0 3 8 + k0 → lv τ 0 8 ≤ lv τ0 0 8 + k0 →
    rdE b n X σ0 τ0 (lj_D lc_P lc_M39 17 [.ref 4, .int 1, x2, x3] [] (cAt σ b k0)) (lj_bi (lj_R lm_P 13 [.ref 0, .int (Int32.ofNat k0)] τ) (fun y σ1 => lj_D lm_P lm_M12 13 [.ref 0, .int y, .int 1, y3] [] σ1) lj_up)
  | 0, k0, T, σ, τ, x2, x3, y3, hm, _, _, _, _, _, _, _, _, _, _, _, _, _ => by omega
  | m + 1, k0, T, σ, τ, x2, x3, y3, hm, hk0, hT0, fC, fM, hR, hS, tT, tT', hJ, s1, s2, s3, s4 => by
    have hn := hb.1
    have hC : tC σ b n := ⟨by rw [fC.v (by rfl)]; exact hC0.1, fun i hi => by rw [(fC 17 i rfl).1]; exact hC0.2 i hi⟩
    have hM : tM τ b n := ⟨by rw [fM.v (by rfl)]; exact hM0.1, fun i hi => by rw [(fM 1 i rfl).1]; exact hM0.2 i hi⟩
    obtain ⟨k, k1, k2, k3, k4, k5⟩ := cm_skip hb σ τ hC hM (Int32.ofNat k0) (n + 1) k0 (.retAddr 0) (.retAddr 0) (by omega) hk0
    have hCk := tC_at hC k
    have z0 : (0 : Int32).toInt = 0 := rfl
    have hTk : lv (cAt σ b k) 4 4 = (T : Int) := by unfold lv; rw [cAt_o _ _ _ (by omega)]; exact tT
    have atr : lf cLr σ (cAt σ b k) := lf_put (lf_put (lf_rf _ _) _ _ _ rfl) _ _ _ rfl
    -- what stands when a token has been read
    have tail : ∀ oC oM, rdR b n X σ τ T k oC oM → rdE b n X σ0 τ0 (lj_bi oC (fun y σ1 => lj_D lc_P lc_M39 103 [.ref 4, .int 1, .int (b k), x3] [.int y] σ1) lj_up) (lj_bv oM (fun τ1 => lj_D lm_P lm_M12 91 [.ref 0, .int (Int32.ofNat k), .int 1, .int (b k)] [] τ1) lj_up) := by
      rintro oC oM ⟨σ1, τ1, u1, u2, u3, u4, u5, u6, u7, u8, rfl, hor⟩
      have tT1 : lv τ1 0 24 = (T : Int) := by rw [u2.v (by rfl)]; exact tT'
      have hTk1 : lv (cAt σ1 b k) 4 4 = (T : Int) := by unfold lv; rw [cAt_o _ _ _ (by omega)]; rw [show σ1.1 4 4 = σ.1 4 4 from (u1 4 4 rfl).1]; exact tT
      have at1 : lf cLr σ1 (cAt σ1 b k) := lf_put (lf_put (lf_rf _ _) _ _ _ rfl) _ _ _ rfl
      have at1y : lf cDy σ1 (cAt σ1 b k) := lf_put (lf_put (lf_rf _ _) _ _ _ rfl) _ _ _ rfl
      have u1r : lf cLr σ σ1 := u1.mo (fun k j z => by simp [cLr] at z; exact z.1.1.1.1.1)
      have u2r : lf mLr τ τ1 := u2.mo (fun k j z => by simp [mLr] at z; exact z.1.1.1.1)
      rcases hor with ⟨k', kd, v, v1, v2, v3, v4, v5, rfl, v7, v8⟩ | ⟨rfl, v7⟩
      · -- a token
        unfold lj_bv
        simp only []
        rw [m_tok τ1 T k tT1 (by omega), if_neg (tkV_67 v8), km_12_170, if_neg (by decide)]
        have e69 : (mTok τ1 T k).1 0 69 = Int32.ofNat k' := by
          rw [← v7]; exact (mTok_lf (A := fun k j => k == 9 || k == 10 || k == 11 || (k == 0 && j == 24)) T k rfl rfl rfl rfl 0 69 rfl).1
        rw [e69]
        simp only [km_12_187]
        unfold lj_bi
        simp only []
        rw [kc_39_103, if_neg (by decide), kc_39_118, if_neg (by decide)]
        have g := cTok_get (cAt σ1 b k) T kd v k
        have gm := mTok_get τ1 T k
        generalize hσ2 : lj_put (cTok (cAt σ1 b k) T kd v k) 4 2 (Int32.ofNat k') = σ2
        have g2' : ∀ k1 j1, ¬ (k1 = 4 ∧ j1 = 2) → σ2.1 k1 j1 = (cTok (cAt σ1 b k) T kd v k).1 k1 j1 := fun k1 j1 q => by rw [← hσ2, lj_put_1, if_neg q]
        have g2L : σ2.2 = (cTok (cAt σ1 b k) T kd v k).2 := by rw [← hσ2]; rfl
        have f2 : lf cLr σ1 σ2 := by rw [← hσ2]; exact lf_put (at1.tr (cTok_lf T kd v k rfl rfl rfl rfl rfl)) _ _ _ rfl
        have f2y : lf cDy σ1 σ2 := by rw [← hσ2]; exact lf_put (at1y.tr (cTok_lf T kd v k rfl rfl rfl rfl rfl)) _ _ _ rfl
        have m2y : lf mDy τ1 (mTok τ1 T k) := mTok_lf T k rfl rfl rfl rfl
        obtain ⟨hR2, hS2⟩ := sR_dy u3 f2y m2y
        have e44 : lv σ2 4 4 = ((T + 1 : Nat) : Int) := by unfold lv; rw [g2' 4 4 (by omega)]; have := (g 0).2.2.2.2; unfold lv at this; rw [this, lz_lit (by omega)]
        have e024 : lv (mTok τ1 T k) 0 24 = ((T + 1 : Nat) : Int) := by rw [(gm 0).2.2.2, lz_lit (by omega)]
        have e15 : (1500 : Int32).toInt = 1500 := by decide
        rw [if_neg (by rw [lz_lt, lv_def, e44, e15]; omega), kc_39_137]
        have e43 : σ2.1 4 3 = Int32.ofNat (1 + tN b k') := by
          rw [g2' 4 3 (by omega), v3]
          have := (cTok_lf (A := fun k j => k == 18 || k == 19 || k == 20 || k == 21 || (k == 4 && j == 4)) (σ := cAt σ1 b k) T kd v k rfl rfl rfl rfl rfl 4 3 rfl).1
          rw [this, cAt_3]
        have eat : cAt σ2 b k' = σ2 := by
          unfold cAt
          rw [lj_put_self _ 4 3 _ e43, lj_put_self _ 4 2 _ (by rw [← hσ2, lj_put_1, if_pos ⟨rfl, rfl⟩])]
        have w7 := f2y.v (k := 3) (j := 7) rfl
        have w8 := f2y.v (k := 3) (j := 8) rfl
        have w14 := m2y.v (k := 0) (j := 14) rfl
        have w08 := m2y.v (k := 0) (j := 8) rfl
        have ih := cm_read_loop hb h14 σ0 τ0 hC0 hM0 X g1 g2 g3 g4 m k' (T + 1) σ2 (mTok τ1 T k) (.int (b k)) (.int 1) (.int (b k)) (by omega) v2 (by omega) (fC.tr (u1r.tr f2)) (fM.tr (u2r.tr (mTok_lf T k rfl rfl rfl rfl))) hR2 (hS.tr (u4.tr hS2)) e44 e024 (fun j hj => by
          by_cases ej : j = T
          · subst ej
            refine ⟨k, by omega, ?_, ?_, ?_, ?_⟩
            · rw [g2' 19 j (by omega), (g j).2.1, if_pos rfl]
            · rw [(gm j).2.1, if_pos rfl]
            · rw [g2' 20 j (by omega), (g j).2.2.1, if_pos rfl, cAt_3]
            · rw [g2' 18 j (by omega), (g j).1, if_pos rfl, g2L, (g j).2.2.2.1, if_pos rfl, (gm j).1, if_pos rfl, (gm j).2.2.1, if_pos rfl]
              exact v8.up hS2
          · have q18 : (cAt σ1 b k).1 18 j = σ.1 18 j := by rw [cAt_o _ _ _ (by omega), (u1 18 j rfl).1]
            have q19 : (cAt σ1 b k).1 19 j = σ.1 19 j := by rw [cAt_o _ _ _ (by omega), (u1 19 j rfl).1]
            have q20 : (cAt σ1 b k).1 20 j = σ.1 20 j := by rw [cAt_o _ _ _ (by omega), (u1 20 j rfl).1]
            have q21 : (cAt σ1 b k).2 21 j = σ.2 21 j := (u1 21 j rfl).2
            exact (hJ j (by omega)).up (u4.tr hS2) (by rw [g2' 18 j (by omega), (g j).1, if_neg ej, q18]) (by rw [g2' 19 j (by omega), (g j).2.1, if_neg ej, q19]) (by rw [g2' 20 j (by omega), (g j).2.2.1, if_neg ej, q20]) (by rw [g2L, (g j).2.2.2.1, if_neg ej, q21]) (by rw [(gm j).1, if_neg ej, (u2 9 j rfl).1]) (by rw [(gm j).2.1, if_neg ej, (u2 10 j rfl).1]) (by rw [(gm j).2.2.1, if_neg ej, (u2 11 j rfl).2])) (by omega) (by omega) (by omega) (by omega)
        rw [eat] at ih
        unfold lj_bi at ih
        exact ih
      · -- none
        unfold lj_bv
        simp only []
        rw [m_tok τ1 T k tT1 (by omega), if_pos (Or.inr v7)]
        unfold lj_bi
        simp only []
        rw [kc_39_103, if_pos rfl, cAt_2, c_put (cAt σ1 b k) T hTk1 (by omega)]
        unfold lj_bv
        simp only []
        rw [kc_39_118, if_pos rfl, kc_39_136, kc_39_137, kc_39_17, if_pos rfl]
        have g := cTok_get (cAt σ1 b k) T 4 0 k
        have gm := mTok_get τ1 T k
        have f2 : lf cLr σ1 (cTok (cAt σ1 b k) T 4 0 k) := at1.tr (cTok_lf T 4 0 k rfl rfl rfl rfl rfl)
        have f2y : lf cDy σ1 (cTok (cAt σ1 b k) T 4 0 k) := at1y.tr (cTok_lf T 4 0 k rfl rfl rfl rfl rfl)
        have m2y : lf mDy τ1 (mTok τ1 T k) := mTok_lf T k rfl rfl rfl rfl
        obtain ⟨hR2, hS2⟩ := sR_dy u3 f2y m2y
        have w7 := f2y.v (k := 3) (j := 7) rfl
        have w8 := f2y.v (k := 3) (j := 8) rfl
        have w14 := m2y.v (k := 0) (j := 14) rfl
        have w08 := m2y.v (k := 0) (j := 8) rfl
        refine ⟨_, _, T, rfl, rfl, fC.tr (u1r.tr f2), fM.tr (u2r.tr (mTok_lf T k rfl rfl rfl rfl)), hR2, hS.tr (u4.tr hS2), by rw [(g 0).2.2.2.2, lz_lit (by omega)], by rw [(gm 0).2.2.2, lz_lit (by omega)], by omega, fun j hj => ?_, ⟨k, k2, ?_, ?_, ?_, Or.inr ⟨?_, ?_⟩⟩, by omega, by omega, by omega, by omega⟩
        · have ej : j ≠ T := by omega
          have q18 : (cAt σ1 b k).1 18 j = σ.1 18 j := by rw [cAt_o _ _ _ (by omega), (u1 18 j rfl).1]
          have q19 : (cAt σ1 b k).1 19 j = σ.1 19 j := by rw [cAt_o _ _ _ (by omega), (u1 19 j rfl).1]
          have q20 : (cAt σ1 b k).1 20 j = σ.1 20 j := by rw [cAt_o _ _ _ (by omega), (u1 20 j rfl).1]
          have q21 : (cAt σ1 b k).2 21 j = σ.2 21 j := (u1 21 j rfl).2
          exact (hJ j hj).up (u4.tr hS2) (by rw [(g j).1, if_neg ej, q18]) (by rw [(g j).2.1, if_neg ej, q19]) (by rw [(g j).2.2.1, if_neg ej, q20]) (by rw [(g j).2.2.2.1, if_neg ej, q21]) (by rw [(gm j).1, if_neg ej, (u2 9 j rfl).1]) (by rw [(gm j).2.1, if_neg ej, (u2 10 j rfl).1]) (by rw [(gm j).2.2.1, if_neg ej, (u2 11 j rfl).2])
        · rw [(g T).2.1, if_pos rfl]
        · rw [(gm T).2.1, if_pos rfl]
        · rw [(g T).2.2.1, if_pos rfl, cAt_3]
        · rw [(g T).1, if_pos rfl]
        · rw [(gm T).1, if_pos rfl, v7]
    rw [kc_39_17, if_neg (by decide), rc_40, kc_40_0, k4, rm_13, km_13_0, k5]
    unfold lj_bi lj_bv
    simp only []
    rw [cAt_2, c_byteAt hb hCk k (by omega), km_12_13, if_neg (by decide), m_at hb hM k (by omega)]
    unfold lj_bi
    simp only []
    rcases Nat.lt_or_ge k n with hkn | hkn
    · have hbk := hb.2.1 k hkn
      rw [if_neg (show ¬ b k = -1 by rw [lz_eq, lz_m1]; omega), if_pos (show 0 ≤ b k by rw [lz_le, z0]; omega), c_isLetter, m_isLetter]
      simp only []
      by_cases cl : lLet (b k)
      · rw [if_pos cl, if_neg (by decide), if_neg (by decide)]
        exact tail _ _ (cm_readName hb σ τ hC hM X hR T tT (by omega) (by omega) (by omega) (by omega) (by omega) k cl)
      · rw [if_neg cl, if_pos rfl, if_pos rfl, c_isDigit, m_isDigit]
        simp only []
        by_cases cd : lDig (b k)
        · rw [if_pos cd, if_neg (by decide), if_neg (by decide)]
          exact tail _ _ (cm_readWhole hb σ τ hC hM X hR T tT (by omega) k cd)
        · rw [if_neg cd, if_pos rfl, if_pos rfl]
          by_cases c34 : b k = 34
          · rw [if_pos c34, if_pos c34, kc_39_92, km_12_78]
            exact tail _ _ (cm_readQuote hb σ τ hC hM X hR T tT (by omega) (by omega) (by omega) (by omega) (by omega) k (Or.inl c34))
          · rw [if_neg c34, if_neg c34]
            by_cases c39 : b k = 39
            · rw [if_pos c39, if_pos c39, kc_39_92, km_12_78]
              exact tail _ _ (cm_readQuote hb σ τ hC hM X hR T tT (by omega) (by omega) (by omega) (by omega) (by omega) k (Or.inr c39))
            · rw [if_neg c39, if_neg c39]
              exact tail _ _ (cm_readSign hb σ τ hC hM X hR T tT (by omega) k hkn)
    · have hbk := hb.2.2 k hkn
      rw [if_pos hbk, if_neg (show ¬ 0 ≤ b k by rw [hbk]; decide), cAt_2, c_put (cAt σ b k) T hTk (by omega)]
      simp only []
      have tT1 : lv (lj_put τ 0 67 6) 0 24 = (T : Int) := by rw [lv_put, if_neg (by omega)]; exact tT'
      rw [m_tok (lj_put τ 0 67 6) T k tT1 (by omega), if_pos (Or.inl (by rw [lj_put_1, if_pos ⟨rfl, rfl⟩]))]
      have g := cTok_get (cAt σ b k) T 0 0 k
      have gm := mTok_get (lj_put τ 0 67 6) T k
      have f2 : lf cLr σ (cTok (cAt σ b k) T 0 0 k) := atr.tr (cTok_lf T 0 0 k rfl rfl rfl rfl rfl)
      have f2y : lf cDy σ (cTok (cAt σ b k) T 0 0 k) := (show lf cDy σ (cAt σ b k) from lf_put (lf_put (lf_rf _ _) _ _ _ rfl) _ _ _ rfl).tr (cTok_lf T 0 0 k rfl rfl rfl rfl rfl)
      have m2y : lf mDy τ (mTok (lj_put τ 0 67 6) T k) := (show lf mDy τ (lj_put τ 0 67 6) from lf_put (lf_rf _ _) _ _ _ rfl).tr (mTok_lf T k rfl rfl rfl rfl)
      have m2 : lf mLr τ (mTok (lj_put τ 0 67 6) T k) := (show lf mLr τ (lj_put τ 0 67 6) from lf_put (lf_rf _ _) _ _ _ rfl).tr (mTok_lf T k rfl rfl rfl rfl)
      obtain ⟨hR2, hS2⟩ := sR_dy hR f2y m2y
      have w7 := f2y.v (k := 3) (j := 7) rfl
      have w8 := f2y.v (k := 3) (j := 8) rfl
      have w14 := m2y.v (k := 0) (j := 14) rfl
      have w08 := m2y.v (k := 0) (j := 8) rfl
      refine ⟨_, _, T, rfl, rfl, fC.tr f2, fM.tr m2, hR2, hS.tr hS2, by rw [(g 0).2.2.2.2, lz_lit (by omega)], by rw [(gm 0).2.2.2, lz_lit (by omega)], by omega, fun j hj => ?_, ⟨k, k2, ?_, ?_, ?_, Or.inl ⟨?_, ?_⟩⟩, by omega, by omega, by omega, by omega⟩
      · have ej : j ≠ T := by omega
        exact (hJ j hj).up hS2 (by rw [(g j).1, if_neg ej, cAt_o _ _ _ (by omega)]) (by rw [(g j).2.1, if_neg ej, cAt_o _ _ _ (by omega)]) (by rw [(g j).2.2.1, if_neg ej, cAt_o _ _ _ (by omega)]) (by rw [(g j).2.2.2.1, if_neg ej]; rfl) (by rw [(gm j).1, if_neg ej, lj_put_1, if_neg (by omega)]) (by rw [(gm j).2.1, if_neg ej, lj_put_1, if_neg (by omega)]) (by rw [(gm j).2.2.1, if_neg ej, lj_put_2])
      · rw [(g T).2.1, if_pos rfl]
      · rw [(gm T).2.1, if_pos rfl]
      · rw [(g T).2.2.1, if_pos rfl, cAt_3]
      · rw [(g T).1, if_pos rfl]
      · rw [(gm T).1, if_pos rfl, lj_put_1, if_pos ⟨rfl, rfl⟩]
/-- reading all tokens -/
theorem cm_read {b : Nat → Int32} {n : Nat} (hb : tB b n) (h14 : n ≤ 1400) (σ τ : lj_S) (hC : tC σ b n) (hM : tM τ b n) (X : List Int32 → Prop) (h : sR σ τ X) (g1 : lv σ 3 7 + n + 1 < 2600) (g2 : lv σ 3 8 + n ≤ 39000) (g3 : lv τ 0 14 + n + 1 < 3000) (g4 : lv τ 0 8 + n ≤ 39000) : rdE b n X σ τ (lj_R lc_P 39 [.ref 4] σ) (lj_R lm_P 12 [.ref 0] τ) := by
  have e : cAt (lj_put (lj_put (lj_put σ 4 2 0) 4 3 1) 4 4 0) b 0 = lj_put (lj_put (lj_put σ 4 2 0) 4 3 1) 4 4 0 := by
    unfold cAt
    rw [lj_put_self _ 4 3 _ (by rw [lj_put_1, if_neg (by omega), lj_put_1, if_pos ⟨rfl, rfl⟩]; rfl), lj_put_self _ 4 2 _ (by rw [lj_put_1, if_neg (by omega), lj_put_1, if_neg (by omega), lj_put_1, if_pos ⟨rfl, rfl⟩]; rfl)]
  have f : lf cDy σ (lj_put (lj_put (lj_put σ 4 2 0) 4 3 1) 4 4 0) := lf_put (lf_put (lf_put (lf_rf _ _) _ _ _ rfl) _ _ _ rfl) _ _ _ rfl
  have g : lf mDy τ (lj_put τ 0 24 0) := lf_put (lf_rf _ _) _ _ _ rfl
  obtain ⟨hR, hS⟩ := sR_dy h f g
  have w7 := f.v (k := 3) (j := 7) rfl
  have w8 := f.v (k := 3) (j := 8) rfl
  have w14 := g.v (k := 0) (j := 14) rfl
  have w08 := g.v (k := 0) (j := 8) rfl
  rw [rc_39, kc_39_0, rm_12, km_12_0, ← e]
  exact cm_read_loop hb h14 σ τ hC hM X g1 g2 g3 g4 (n + 1) 0 0 _ _ _ _ _ (by omega) (by omega) (by omega) (lf_put (lf_put (lf_put (lf_rf _ _) _ _ _ rfl) _ _ _ rfl) _ _ _ rfl) (lf_put (lf_rf _ _) _ _ _ rfl) hR hS (by rw [lv_put, if_pos ⟨rfl, rfl⟩]; rfl) (by rw [lv_put, if_pos ⟨rfl, rfl⟩]; rfl) (fun j hj => by omega) (by omega) (by omega) (by omega) (by omega)
