/-! names -/
abbrev lNm (c : Int32) : Prop := lLet c ∨ lDig c
theorem lNm_n {b : Nat → Int32} {n : Nat} (hb : tB b n) {k : Nat} (h : lNm (b k)) : k < n := by
  rcases Nat.lt_or_ge k n with q | q
  · exact q
  · rw [hb.2.2 k q] at h; exact absurd h (by decide)
theorem lNm_10 {c : Int32} (h : lNm c) : c ≠ 10 ∧ c ≠ 32 ∧ 1 ≤ c.toInt ∧ c.toInt ≤ 127 := by
  refine ⟨fun e => ?_, fun e => ?_, ?_, ?_⟩
  · rw [e] at h; exact absurd h (by decide)
  · rw [e] at h; exact absurd h (by decide)
  · rcases h with (h | h | h) | h <;> omega
  · rcases h with (h | h | h) | h <;> omega
theorem run_end {b : Nat → Int32} {n : Nat} (hb : tB b n) (P : Int32 → Prop) [DecidablePred P] (hP : ¬ P (-1)) : ∀ m k, n - k < m → ∃ k', k ≤ k' ∧ (k ≤ n → k' ≤ n) ∧ (∀ i, k ≤ i → i < k' → P (b i)) ∧ ¬ P (b k')
  | 0, k, h => by omega
  | m + 1, k, h => by
    by_cases q : P (b k)
    · have hk : k < n := by
        rcases Nat.lt_or_ge k n with z | z
        · exact z
        · rw [hb.2.2 k z] at q; exact absurd q hP
      obtain ⟨k', a1, a2, a3, a4⟩ := run_end hb P hP m (k + 1) (by omega)
      refine ⟨k', by omega, fun _ => a2 (by omega), fun i c1 c2 => ?_, a4⟩
      by_cases e : i = k
      · rw [e]; exact q
      · exact a3 i (by omega) c2
    · exact ⟨k, by omega, fun h => h, fun i a c => by omega, q⟩
theorem c_name_loop {b : Nat → Int32} {n : Nat} (hb : tB b n) (σ : lj_S) (hC : tC σ b n) (x1 : Int32) (k' : Nat) (hk' : k' ≤ n) : ∀ (m k : Nat), k + m = k' → (∀ i, k ≤ i → i < k' → lNm (b i)) → lj_D lc_P lc_M44 5 [.ref 4, .int x1, .retAddr 0, .retAddr 0] [] (cAt σ b k) = lj_D lc_P lc_M44 5 [.ref 4, .int x1, .retAddr 0, .retAddr 0] [] (cAt σ b k')
  | 0, k, hk, _ => by rw [show k = k' by omega]
  | m + 1, k, hk, hr => by
    have hn := hb.1
    have hCk := tC_at hC k
    have q := hr k (by omega) (by omega)
    have ih := c_name_loop hb σ hC x1 k' hk' m (k + 1) (by omega) (fun i a c => hr i (by omega) c)
    have e35 : lj_D lc_P lc_M44 35 [.ref 4, .int x1, .retAddr 0, .retAddr 0] [] (cAt σ b k) = lj_D lc_P lc_M44 5 [.ref 4, .int x1, .retAddr 0, .retAddr 0] [] (cAt σ b k') := by
      rw [kc_44_35, cAt_2, lz_osucc, cAt_up σ b k (k + 1) (tN_eq' (by omega) (fun i a c => by rw [show i = k by omega]; exact (lNm_10 q).1))]
      exact ih
    rw [kc_44_5, cAt_2, c_byteAt hb hCk k (by omega)]
    unfold lj_bi
    simp only []
    rw [c_isLetter]
    simp only []
    by_cases ql : lLet (b k)
    · rw [if_pos ql, if_neg (by decide), e35]
    · rw [if_neg ql, if_pos rfl, cAt_2, c_byteAt hb hCk k (by omega)]
      simp only []
      rw [c_isDigit]
      simp only []
      rw [if_pos (q.resolve_left ql), if_neg (by decide), e35]
theorem m_name_loop {b : Nat → Int32} {n : Nat} (hb : tB b n) (τ : lj_S) (hM : tM τ b n) (x1 : Int32) (k' : Nat) (hk' : k' ≤ n) : ∀ (m k : Nat), k + m = k' → (∀ i, k ≤ i → i < k' → lNm (b i)) → lj_D lm_P lm_M16 2 [.ref 0, .int x1, .int (Int32.ofNat k), .retAddr 0, .retAddr 0] [] τ = lj_D lm_P lm_M16 2 [.ref 0, .int x1, .int (Int32.ofNat k'), .retAddr 0, .retAddr 0] [] τ
  | 0, k, hk, _ => by rw [show k = k' by omega]
  | m + 1, k, hk, hr => by
    have hn := hb.1
    have q := hr k (by omega) (by omega)
    have ih := m_name_loop hb τ hM x1 k' hk' m (k + 1) (by omega) (fun i a c => hr i (by omega) c)
    have e24 : lj_D lm_P lm_M16 24 [.ref 0, .int x1, .int (Int32.ofNat k), .retAddr 0, .retAddr 0] [] τ = lj_D lm_P lm_M16 2 [.ref 0, .int x1, .int (Int32.ofNat k'), .retAddr 0, .retAddr 0] [] τ := by
      rw [km_16_24, lz_osucc]; exact ih
    rw [km_16_2, m_at hb hM k (by omega)]
    unfold lj_bi
    simp only []
    rw [m_isLetter]
    simp only []
    by_cases ql : lLet (b k)
    · rw [if_pos ql, if_neg (by decide), e24]
    · rw [if_neg ql, if_pos rfl, m_at hb hM k (by omega)]
      simp only []
      rw [m_isDigit]
      simp only []
      rw [if_pos (q.resolve_left ql), if_neg (by decide), e24]
/-- a token more -/
def cTok (σ : lj_S) (T : Nat) (kd : Int32) (v : Int64) (pl : Nat) : lj_S := lj_put (lj_put (lj_put (lj_putL (lj_put σ 18 T kd) 21 T v) 19 T (Int32.ofNat pl)) 20 T (σ.1 4 3)) 4 4 (Int32.ofNat (T + 1))
theorem c_put (σ : lj_S) (T : Nat) (hT : lv σ 4 4 = (T : Int)) (h : T < 1502) (kd : Int32) (v : Int64) (pl : Nat) : lj_R lc_P 42 [.ref 4, .int kd, .long v, .int (Int32.ofNat pl)] σ = some (.inl none, cTok σ T kd v pl) := by
  have e : σ.1 4 4 = Int32.ofNat T := lz_ext (by rw [lz_lit (by omega)]; exact hT)
  have i : lj_in (σ.1 4 4) 1502 := lz_in.2 (by rw [lv_def, hT]; omega)
  rw [rc_42, kc_42_0, if_pos i, if_pos i, if_pos i, if_pos i, e, lz_onat (by omega), lz_osucc]
  rfl
/-- the bytes of a piece are drafted -/
theorem c_name_draft {b : Nat → Int32} {n : Nat} (hb : tB b n) (x1 x2 : Int32) (p k' : Nat) (hk' : k' ≤ n) : ∀ (m i : Nat) (σ : lj_S), i + m = k' → p ≤ i → tC σ b n → lv σ 4 2 = (k' : Int) → cDr σ ((tP b p (i - p)).map lz_by) → ∃ σ', lj_D lc_P lc_M44 108 [.ref 4, .int x1, .int x2, .int (Int32.ofNat i)] [] σ = lj_D lc_P lc_M44 108 [.ref 4, .int x1, .int x2, .int (Int32.ofNat k')] [] σ' ∧ cDr σ' ((tP b p (k' - p)).map lz_by) ∧ lf cAd σ σ'
  | 0, i, σ, hi, _, _, _, hD => by
    have : i = k' := by omega
    subst this
    exact ⟨σ, rfl, hD, lf_rf _ _⟩
  | m + 1, i, σ, hi, hpi, hC, h2, hD => by
    have hn := hb.1
    have e2 : σ.1 4 2 = Int32.ofNat k' := lz_ext (by rw [lz_lit (by omega)]; exact h2)
    obtain ⟨σ1, a1, a2, a3⟩ := c_add σ (b i) hD (by simp [tP_len]; omega)
    have hC1 : tC σ1 b n := ⟨by rw [a3.v (by rfl)]; exact hC.1, fun j hj => by rw [(a3 17 j rfl).1]; exact hC.2 j hj⟩
    have eD : (tP b p (i - p)).map lz_by ++ [lz_by (b i)] = (tP b p (i + 1 - p)).map lz_by := by
      rw [show i + 1 - p = (i - p) + 1 by omega]
      unfold tP
      rw [List.range_succ, List.map_append, List.map_append]
      simp only [List.map_cons, List.map_nil]
      rw [show p + (i - p) = i by omega]
    rw [eD] at a2
    obtain ⟨σ2, b1, b2, b3⟩ := c_name_draft hb x1 x2 p k' hk' m (i + 1) σ1 (by omega) (by omega) hC1 (by rw [a3.v (by rfl)]; exact h2) a2
    refine ⟨σ2, ?_, b2, a3.tr b3⟩
    rw [kc_44_108, if_neg (by rw [e2, lz_le, lz_lit (by omega), lz_lit (by omega)]; omega), c_byteAt hb hC i (by omega)]
    unfold lj_bi
    simp only []
    rw [a1]
    unfold lj_bv
    simp only []
    rw [lz_osucc]
    exact b1
theorem m_name_draft {b : Nat → Int32} {n : Nat} (hb : tB b n) (x1 x3 : Int32) (p k' : Nat) (hk' : k' ≤ n) (h42 : k' - p ≤ 4200) : ∀ (m i : Nat) (τ : lj_S), i + m = k' → p ≤ i → tM τ b n → mDr τ ((tP b p (i - p)).map lz_by) → ∃ τ', lj_D lm_P lm_M16 94 [.ref 0, .int x1, .int (Int32.ofNat k'), .int x3, .int (Int32.ofNat i)] [] τ = lj_D lm_P lm_M16 94 [.ref 0, .int x1, .int (Int32.ofNat k'), .int x3, .int (Int32.ofNat k')] [] τ' ∧ mDr τ' ((tP b p (k' - p)).map lz_by) ∧ lf mAd τ τ'
  | 0, i, τ, hi, _, _, hD => by
    have : i = k' := by omega
    subst this
    exact ⟨τ, rfl, hD, lf_rf _ _⟩
  | m + 1, i, τ, hi, hpi, hM, hD => by
    have hn := hb.1
    obtain ⟨a2, a3, a4⟩ := mDr_dig hD (by simp [tP_len]; omega) (b i)
    have hM1 : tM (m_dig τ (b i)) b n := ⟨by rw [a3.v (by rfl)]; exact hM.1, fun j hj => by rw [(a3 1 j rfl).1]; exact hM.2 j hj⟩
    have eD : (tP b p (i - p)).map lz_by ++ [lz_by (b i)] = (tP b p (i + 1 - p)).map lz_by := by
      rw [show i + 1 - p = (i - p) + 1 by omega]
      unfold tP
      rw [List.range_succ, List.map_append, List.map_append]
      simp only [List.map_cons, List.map_nil]
      rw [show p + (i - p) = i by omega]
    rw [eD] at a2
    obtain ⟨τ2, b1, b2, b3⟩ := m_name_draft hb x1 x3 p k' hk' h42 m (i + 1) _ (by omega) (by omega) hM1 a2
    refine ⟨τ2, ?_, b2, a3.tr b3⟩
    rw [km_16_94, if_neg (by rw [lz_le, lz_lit (by omega), lz_lit (by omega)]; omega), if_pos (lz_in.2 (by rw [lz_lit (by omega)]; omega)), if_pos a4, lz_onat (by omega), hM.2 i (by omega), lz_osucc]
    have e : vp_nar .byte ((b i).toInt8.toInt32) = lz_by (b i) := lz_by2 (b i)
    rw [e]
    exact b1
