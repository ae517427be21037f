/-! whole numbers -/
def lHex (c : Int32) : Int32 := if lDig c then c - 48 else if 97 ≤ c.toInt ∧ c.toInt ≤ 102 then c - 97 + 10 else if 65 ≤ c.toInt ∧ c.toInt ≤ 70 then c - 65 + 10 else -1
theorem c_hexOf (σ : lj_S) (c : Int32) : lj_R lc_P 48 [.ref 4, .int c] σ = some (.inl (some (.int (lHex c))), σ) := by
  rw [rc_48, kc_48_0, c_isDigit]
  unfold lj_bi lHex
  simp only []
  by_cases h1 : lDig c
  · rw [if_pos h1, if_neg (by decide), if_pos h1, kc_48_64]
  · rw [if_neg h1, if_pos rfl, if_neg h1, c_isIn]
    simp only [lz_i64, show (97 : Int64).toInt = 97 from rfl, show (102 : Int64).toInt = 102 from rfl]
    by_cases h2 : 97 ≤ c.toInt ∧ c.toInt ≤ 102
    · rw [if_pos h2, if_neg (by decide), if_pos h2, kc_48_64]
    · rw [if_neg h2, if_pos rfl, if_neg h2, c_isIn]
      simp only [lz_i64, show (65 : Int64).toInt = 65 from rfl, show (70 : Int64).toInt = 70 from rfl]
      by_cases h3 : 65 ≤ c.toInt ∧ c.toInt ≤ 70
      · rw [if_pos h3, if_neg (by decide), if_pos h3, kc_48_64]
      · rw [if_neg h3, if_pos rfl, if_neg h3, kc_48_64]
theorem m_hex (σ : lj_S) (c : Int32) : lj_R lm_P 21 [.int c] σ = some (.inl (some (.int (lHex c))), σ) := by
  have e97 : (97 : Int32).toInt = 97 := rfl
  have e102 : (102 : Int32).toInt = 102 := rfl
  have e65 : (65 : Int32).toInt = 65 := rfl
  have e70 : (70 : Int32).toInt = 70 := rfl
  have k36 : lj_D lm_P lm_M21 36 [.int c] [] σ = some (.inl (some (.int (if 65 ≤ c.toInt ∧ c.toInt ≤ 70 then c - 65 + 10 else -1))), σ) := by
    rw [km_21_36]
    simp only [lz_lt, e65, e70, km_21_58, km_21_59]
    split
    · rw [if_neg (by omega)]
    · split
      · rw [if_neg (by omega)]
      · rw [if_pos (by omega)]
  rw [rm_21, km_21_0, m_isDigit]
  unfold lj_bi lHex
  simp only []
  by_cases h1 : lDig c
  · rw [if_pos h1, if_neg (by decide), if_pos h1, km_21_59]
  · rw [if_neg h1, if_pos rfl, if_neg h1]
    simp only [lz_lt, e97, e102, k36, km_21_59]
    split
    · rw [if_neg (show ¬ (97 ≤ c.toInt ∧ c.toInt ≤ 102) by omega)]
    · split
      · rw [if_neg (show ¬ (97 ≤ c.toInt ∧ c.toInt ≤ 102) by omega)]
      · rw [if_pos (show 97 ≤ c.toInt ∧ c.toInt ≤ 102 by omega)]
/-- values of rows of digits -/
def hxF (b : Nat → Int32) : Int64 → Nat → Nat → Int64
  | v, _, 0 => v
  | v, k, m + 1 => hxF b ((v <<< ((4 : Int32).toInt64 &&& 63)) ||| (lHex (b k)).toInt64) (k + 1) m
def dcG (g : Int32) (v : Int64) (c : Int32) : Int32 := if g = 0 then 0 else if v < 922337203685477580 then 1 else if v = 922337203685477580 then (if 8 ≤ c - 48 then 0 else 1) else 0
def dcF (b : Nat → Int32) : Int32 → Int64 → Nat → Nat → Int32 × Int64
  | g, v, _, 0 => (g, v)
  | g, v, k, m + 1 => dcF b (dcG g v (b k)) (10 * v + (b k - 48).toInt64) (k + 1) m
abbrev lHx (c : Int32) : Prop := ¬ lHex c < 0
theorem lHx_n {c : Int32} (h : lHx c) : lNm c := by
  unfold lHx lHex at h
  by_cases h1 : lDig c
  · exact Or.inr h1
  · rw [if_neg h1] at h
    by_cases h2 : 97 ≤ c.toInt ∧ c.toInt ≤ 102
    · exact Or.inl (Or.inl (by omega))
    · rw [if_neg h2] at h
      by_cases h3 : 65 ≤ c.toInt ∧ c.toInt ≤ 70
      · exact Or.inl (Or.inr (Or.inl (by omega)))
      · rw [if_neg h3] at h; exact absurd (by decide) h
theorem c_hex_loop {b : Nat → Int32} {n : Nat} (hb : tB b n) (σ : lj_S) (hC : tC σ b n) (x1 : Int32) (k' : Nat) (hk' : k' ≤ n) (hx : ¬ lHx (b k')) : ∀ (m k : Nat) (v : Int64) (c : Nat) (x7 : Value), k + m = k' → (∀ i, k ≤ i → i < k' → lHx (b i)) → ∃ x7', lj_D lc_P lc_M47 67 [.ref 4, .int x1, .long v, .retAddr 0, .int (Int32.ofNat c), .int 1, .int 1, x7] [] (cAt σ b k) = lj_D lc_P lc_M47 200 [.ref 4, .int x1, .long (hxF b v k m), .retAddr 0, .int (Int32.ofNat (c + m)), .int 1, .int 1, x7'] [] (cAt σ b k')
  | 0, k, v, c, x7, hk, _ => by
    have hn := hb.1
    have e : k = k' := by omega
    subst e
    refine ⟨x7, ?_⟩
    rw [kc_47_67, if_neg (by decide), cAt_2, c_byteAt hb (tC_at hC k) k (by omega)]
    unfold lj_bi
    simp only []
    rw [c_hexOf]
    simp only []
    rw [if_pos (Classical.not_not.1 hx)]
    rfl
  | m + 1, k, v, c, x7, hk, hr => by
    have hn := hb.1
    have q := hr k (by omega) (by omega)
    have hCk := tC_at hC k
    obtain ⟨x7', ih⟩ := c_hex_loop hb σ hC x1 k' hk' hx m (k + 1) ((v <<< ((4 : Int32).toInt64 &&& 63)) ||| (lHex (b k)).toInt64) (c + 1) (.int (lHex (b k))) (by omega) (fun i a z => hr i (by omega) z)
    refine ⟨x7', ?_⟩
    rw [kc_47_67, if_neg (by decide), cAt_2, c_byteAt hb hCk k (by omega)]
    unfold lj_bi
    simp only []
    rw [c_hexOf]
    simp only []
    rw [if_neg q, kc_47_105, cAt_2, c_byteAt hb hCk k (by omega)]
    unfold lj_bi
    simp only []
    rw [c_hexOf]
    simp only []
    rw [if_neg (by decide), if_neg (by decide), kc_47_152, kc_47_157, if_neg (by decide), kc_47_183, cAt_2, lz_osucc, lz_osucc, cAt_up σ b k (k + 1) (tN_eq' (by omega) (fun i a z => by rw [show i = k by omega]; exact (lNm_10 (lHx_n q)).1)), ih]
    rw [show c + 1 + m = c + (m + 1) by omega]
    rfl
theorem m_hex_loop {b : Nat → Int32} {n : Nat} (hb : tB b n) (τ : lj_S) (hM : tM τ b n) (x1 x5 : Int32) (f k' : Nat) (hk' : k' ≤ n) (hx : ¬ lHx (b k')) (hf : f ≤ k') : ∀ (m k : Nat) (v : Int64), k + m = k' → (∀ i, k ≤ i → i < k' → lHx (b i)) → lj_D lm_P lm_M20 36 [.ref 0, .int x1, .int (Int32.ofNat k), .long v, .retAddr 0, .int x5, .int (Int32.ofNat f)] [] τ = lj_D lm_P lm_M20 184 [.ref 0, .int x1, .int (Int32.ofNat k'), .long (hxF b v k m), .retAddr 0, .int (if f < k' ∧ k' - f ≤ 16 then 1 else 0), .int (Int32.ofNat f)] [] τ
  | 0, k, v, hk, _ => by
    have hn := hb.1
    have e : k = k' := by omega
    subst e
    have e16 : (16 : Int32).toInt = 16 := by decide
    rw [km_20_36, m_at hb hM k (by omega)]
    unfold lj_bi
    simp only []
    rw [m_hex]
    simp only []
    rw [if_pos (Classical.not_not.1 hx), lz_osub hf (by omega)]
    by_cases q : f < k
    · rw [if_neg (by rw [lz_le, lz_lit (by omega), lz_lit (by omega)]; omega)]
      by_cases q2 : k - f ≤ 16
      · rw [if_neg (by rw [lz_lt, lz_lit (by omega), e16]; omega), km_20_87, if_pos ⟨q, q2⟩]; rfl
      · rw [if_pos (by rw [lz_lt, lz_lit (by omega), e16]; omega), km_20_86, km_20_87, if_neg (fun z => q2 z.2)]; rfl
    · rw [if_pos (by rw [lz_le, lz_lit (by omega), lz_lit (by omega)]; omega), km_20_86, km_20_87, if_neg (fun z => q z.1)]; rfl
  | m + 1, k, v, hk, hr => by
    have hn := hb.1
    have q := hr k (by omega) (by omega)
    have ih := m_hex_loop hb τ hM x1 x5 f k' hk' hx hf m (k + 1) ((v <<< ((4 : Int32).toInt64 &&& 63)) ||| (lHex (b k)).toInt64) (by omega) (fun i a z => hr i (by omega) z)
    rw [km_20_36, m_at hb hM k (by omega)]
    unfold lj_bi
    simp only []
    rw [m_hex]
    simp only []
    rw [if_neg q, m_at hb hM k (by omega)]
    simp only []
    rw [m_hex]
    simp only []
    rw [lz_osucc, ih]
    rfl
