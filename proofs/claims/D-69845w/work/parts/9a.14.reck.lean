/-! what both reckon -/
theorem lg_le (x y : Int64) : lg_cmp x y ≤ 0 ↔ x ≤ y := by
  unfold lg_cmp
  by_cases h : x > y
  · rw [if_pos h]
    exact ⟨fun q => absurd q (by decide), fun q => absurd h (Int64.not_lt.2 q)⟩
  · rw [if_neg h]
    refine ⟨fun _ => Int64.not_lt.1 h, fun _ => ?_⟩
    split <;> decide
theorem lg_lt (x y : Int64) : lg_cmp x y < 0 ↔ x < y := by
  unfold lg_cmp
  by_cases h : x > y
  · rw [if_pos h]
    refine ⟨fun q => absurd q (by decide), fun q => ?_⟩
    have a := Int64.lt_iff_toInt_lt.1 q
    have b := Int64.lt_iff_toInt_lt.1 h
    omega
  · rw [if_neg h]
    by_cases e : x = y
    · rw [if_pos e]
      refine ⟨fun q => absurd q (by decide), fun q => ?_⟩
      rw [e] at q
      have a := Int64.lt_iff_toInt_lt.1 q
      omega
    · rw [if_neg e]
      refine ⟨fun _ => ?_, fun _ => by decide⟩
      have b := Int64.le_iff_toInt_le.1 (Int64.not_lt.1 h)
      have c : x.toInt ≠ y.toInt := fun z => e (lg_ext z)
      rw [Int64.lt_iff_toInt_lt]
      omega
theorem lg_ge (x y : Int64) : 0 ≤ lg_cmp x y ↔ y ≤ x := by
  have := lg_lt x y
  rw [← Int64.not_lt, ← this, Int32.not_lt]
/-- shifts to the left, to the right where the number is below zero -/
def sh64 (a n : Int64) : Int64 := if n ≤ -64 then 0 else if n < 64 then (if n < 0 then (((a : Int64).toUInt64 >>> (((((-n) : Int64).toInt32) : Int32).toInt64.toUInt64 &&& Int64.toUInt64 63)).toInt64) else a <<< ((((n : Int64).toInt32) : Int32).toInt64 &&& 63)) else 0
theorem c_shift (σ : lj_S) (a n : Int64) : lj_R lc_P 215 [.ref 8, .long a, .long n] σ = some (.inl (some (.long (sh64 a n))), σ) := by
  unfold sh64
  rw [rc_215, kc_215_0]
  by_cases h1 : n ≤ -64
  · rw [if_pos ((lg_le _ _).2 h1), kc_215_16, if_pos h1]
  · rw [if_neg (fun q => h1 ((lg_le _ _).1 q)), if_neg h1]
    by_cases h2 : n < 64
    · rw [if_pos ((lg_lt _ _).2 h2), if_pos h2]
      by_cases h3 : n < 0
      · rw [if_pos ((lg_lt _ _).2 h3), kc_215_36, if_pos h3]
      · rw [if_neg (fun q => h3 ((lg_lt _ _).1 q)), kc_215_36, if_neg h3]
    · rw [if_neg (fun q => h2 ((lg_lt _ _).1 q)), kc_215_16, if_neg h2]
theorem m_shiftL (τ : lj_S) (a n : Int64) : lj_R lm_P 160 [.ref 0, .long a, .long n, .int 1] τ = some (.inl (some (.long (sh64 a n))), τ) := by
  unfold sh64
  rw [rm_160, km_160_0]
  by_cases h1 : n ≤ -64
  · rw [if_pos ((lg_le _ _).2 h1), km_160_16, if_pos h1]
  · rw [if_neg (fun q => h1 ((lg_le _ _).1 q)), if_neg h1]
    by_cases h2 : n < 64
    · rw [if_pos ((lg_lt _ _).2 h2), if_pos h2]
      by_cases h3 : n < 0
      · rw [if_pos ((lg_lt _ _).2 h3), km_160_29, if_neg (by decide), km_160_39, if_neg (fun q => (Int64.not_le.2 h3) ((lg_ge _ _).1 q)), km_160_53, if_pos rfl, km_160_72, if_pos h3]
      · rw [if_neg (fun q => h3 ((lg_lt _ _).1 q)), km_160_29, if_pos rfl, km_160_39, if_pos ((lg_ge _ _).2 (Int64.not_lt.1 h3)), km_160_53, if_neg (by decide), km_160_72, if_neg h3]
    · rw [if_neg (fun q => h2 ((lg_lt _ _).1 q)), km_160_16, if_neg h2]
/-- to the right -/
def sr64 (a n : Int64) : Int64 := if n ≤ -64 then 0 else if n < 64 then (if n < 0 then a <<< (((((-n) : Int64).toInt32) : Int32).toInt64 &&& 63) else (((a : Int64).toUInt64 >>> ((((n : Int64).toInt32) : Int32).toInt64.toUInt64 &&& Int64.toUInt64 63)).toInt64)) else 0
theorem m_shiftR (τ : lj_S) (a n : Int64) : lj_R lm_P 160 [.ref 0, .long a, .long n, .int 0] τ = some (.inl (some (.long (sr64 a n))), τ) := by
  unfold sr64
  rw [rm_160, km_160_0]
  by_cases h1 : n ≤ -64
  · rw [if_pos ((lg_le _ _).2 h1), km_160_16, if_pos h1]
  · rw [if_neg (fun q => h1 ((lg_le _ _).1 q)), if_neg h1]
    by_cases h2 : n < 64
    · rw [if_pos ((lg_lt _ _).2 h2), if_pos h2]
      by_cases h3 : n < 0
      · rw [if_pos ((lg_lt _ _).2 h3), km_160_29, if_pos rfl, km_160_39, if_neg (fun q => (Int64.not_le.2 h3) ((lg_ge _ _).1 q)), km_160_53, if_neg (by decide), km_160_72, if_pos h3]
      · rw [if_neg (fun q => h3 ((lg_lt _ _).1 q)), km_160_29, if_neg (by decide), km_160_39, if_pos ((lg_ge _ _).2 (Int64.not_lt.1 h3)), km_160_53, if_pos rfl, km_160_72, if_neg h3]
    · rw [if_neg (fun q => h2 ((lg_lt _ _).1 q)), km_160_16, if_neg h2]
theorem neg_int {n : Int64} (h : n ≠ -9223372036854775808) : (-n).toInt = -n.toInt := by
  have b1 := n.minValue_le_toInt
  have b2 := n.toInt_le
  have e1 : Int64.minValue.toInt = -9223372036854775808 := by decide
  have e2 : Int64.maxValue.toInt = 9223372036854775807 := by decide
  have e3 : (-9223372036854775808 : Int64).toInt = -9223372036854775808 := by decide
  have h' : n.toInt ≠ -9223372036854775808 := fun z => h (lg_ext (by rw [z, e3]))
  rw [Int64.toInt_neg, Int.bmod_eq_of_le] <;> omega
theorem sr_sh (a : Int64) {n : Int64} (h : n ≠ -9223372036854775808) : sr64 a n = sh64 a (-n) := by
  have e := neg_int h
  have m64 : (-64 : Int64).toInt = -64 := by decide
  have p64 : (64 : Int64).toInt = 64 := by decide
  have z0 : (0 : Int64).toInt = 0 := by decide
  have nn : -(-n) = n := Int64.neg_neg
  unfold sr64 sh64
  rw [nn]
  simp only [Int64.le_iff_toInt_le, Int64.lt_iff_toInt_lt, e, m64, p64, z0]
  by_cases h1 : n.toInt ≤ -64
  · rw [if_pos h1, if_neg (show ¬ (-n.toInt ≤ -64) by omega), if_neg (show ¬ (-n.toInt < 64) by omega)]
  · rw [if_neg h1]
    by_cases h2 : n.toInt < 64
    · rw [if_pos h2, if_neg (show ¬ (-n.toInt ≤ -64) by omega), if_pos (show -n.toInt < 64 by omega)]
      by_cases h3 : n.toInt < 0
      · rw [if_pos h3, if_neg (show ¬ (-n.toInt < 0) by omega)]
      · rw [if_neg h3]
        by_cases h4 : n.toInt = 0
        · have hn : n = 0 := lg_ext (by rw [h4, z0])
          rw [if_neg (show ¬ (-n.toInt < 0) by omega), hn]
          show ((a : Int64).toUInt64 >>> (0 : UInt64)).toInt64 = a <<< (0 : Int64)
          rw [UInt64.shiftRight_zero, Int64.shiftLeft_zero, Int64.toInt64_toUInt64]
        · rw [if_pos (show -n.toInt < 0 by omega)]
    · rw [if_neg h2, if_pos (show -n.toInt ≤ -64 by omega)]
/-- quotients, rounded down -/
theorem sgn_xor (a b : Int64) : 0 ≤ (a ^^^ b) ↔ ((0 ≤ a) ↔ (0 ≤ b)) := by
  have s : ∀ x : Int64, 0 ≤ x ↔ x.toBitVec.msb = false := fun x => by
    rw [Int64.le_iff_toInt_le]
    show 0 ≤ x.toBitVec.toInt ↔ _
    have := @BitVec.toInt_neg_iff 64 x.toBitVec
    rw [BitVec.msb_eq_toInt]
    simp
  rw [s, s, s, Int64.toBitVec_xor, BitVec.msb_xor]
  cases a.toBitVec.msb <;> cases b.toBitVec.msb <;> decide
theorem sub_0 (a y : Int64) : a - y = 0 ↔ a = y := by
  constructor
  · intro h
    have := Int64.sub_add_cancel a y
    rw [h, Int64.zero_add] at this
    exact this.symm
  · intro h
    rw [h, Int64.sub_self]
def fl64 (a b : Int64) : Int64 := if a - a / b * b = 0 then a / b else if ((0 ≤ a) ↔ (0 ≤ b)) then a / b else a / b - 1
theorem m_floor (τ : lj_S) (a : Int64) {b : Int64} (hb : b ≠ 0) : lj_R lm_P 159 [.long a, .long b] τ = some (.inl (some (.long (fl64 a b))), τ) := by
  unfold fl64
  rw [rm_159, km_159_0, if_neg hb, if_neg hb]
  by_cases h1 : a - a / b * b = 0
  · rw [if_pos ((lg0 _ _).2 h1), km_159_45, km_159_47, if_pos h1]
  · rw [if_neg (fun q => h1 ((lg0 _ _).1 q)), if_neg h1]
    by_cases h2 : 0 ≤ a
    · rw [if_pos ((lg_ge _ _).2 h2), km_159_24]
      by_cases h3 : 0 ≤ b
      · rw [if_pos ((lg_ge _ _).2 h3), km_159_35, if_pos rfl, km_159_45, km_159_47, if_pos ⟨fun _ => h3, fun _ => h2⟩]
      · rw [if_neg (fun q => h3 ((lg_ge _ _).1 q)), km_159_35, if_neg (by decide), km_159_47, if_neg (fun q => h3 (q.1 h2))]
    · rw [if_neg (fun q => h2 ((lg_ge _ _).1 q)), km_159_24]
      by_cases h3 : 0 ≤ b
      · rw [if_pos ((lg_ge _ _).2 h3), km_159_35, if_neg (by decide), km_159_47, if_neg (fun q => h2 (q.2 h3))]
      · rw [if_neg (fun q => h3 ((lg_ge _ _).1 q)), km_159_35, if_pos rfl, km_159_45, km_159_47, if_pos ⟨fun q => absurd q h2, fun q => absurd q h3⟩]
theorem c_floorDiv (σ : lj_S) (a : Int64) {b : Int64} (hb : b ≠ 0) : lj_R lc_P 226 [.long a, .long b] σ = some (.inl (some (.long (fl64 a b))), σ) := by
  unfold fl64
  rw [rc_226, kc_226_0, if_neg hb]
  by_cases h1 : a - a / b * b = 0
  · have h1' := ((sub_0 _ _).1 h1).symm
    rw [if_pos h1, if_pos ((lg0 _ _).2 h1'), kc_226_27]
    split <;> rfl
  · rw [if_neg h1]
    have h1' : ¬ (a / b * b = a) := fun z => h1 ((sub_0 _ _).2 z.symm)
    by_cases h2 : (0 ≤ a) ↔ (0 ≤ b)
    · rw [if_pos ((lg_ge _ _).2 ((sgn_xor a b).2 h2)), kc_226_27, if_pos h2]
    · rw [if_neg (fun q => h2 ((sgn_xor a b).1 ((lg_ge _ _).1 q))), if_neg (fun q => h1' ((lg0 _ _).1 q)), if_neg h2]
theorem sub_sub_r (a x b : Int64) : a - (x - b) = a - x + b := by
  have h1 := Int64.sub_add_cancel a (x - b)
  have h2 : a - x + b + (x - b) = a := by
    rw [Int64.add_assoc, Int64.add_comm b, Int64.sub_add_cancel, Int64.sub_add_cancel]
  have h3 : a - (x - b) + (x - b) - (x - b) = a - x + b + (x - b) - (x - b) := by rw [h1, h2]
  rw [Int64.add_sub_cancel, Int64.add_sub_cancel] at h3
  exact h3
theorem c_floorMod (σ : lj_S) (a : Int64) {b : Int64} (hb : b ≠ 0) : lj_R lc_P 227 [.long a, .long b] σ = some (.inl (some (.long (a - fl64 a b * b))), σ) := by
  unfold fl64
  rw [rc_227, kc_227_0, if_neg hb]
  by_cases h1 : a - a / b * b = 0
  · rw [if_pos h1, if_pos ((lg0 _ _).2 h1), kc_227_25]
    split <;> rfl
  · rw [if_neg h1]
    by_cases h2 : (0 ≤ a) ↔ (0 ≤ b)
    · rw [if_pos ((lg_ge _ _).2 ((sgn_xor a b).2 h2)), kc_227_25, if_pos h2]
    · rw [if_neg (fun q => h2 ((sgn_xor a b).1 ((lg_ge _ _).1 q))), if_neg (fun q => h1 ((lg0 _ _).1 q)), if_neg h2, Int64.sub_mul, Int64.one_mul, sub_sub_r]
theorem div_m1 (a : Int64) : a / (-1) = -a := lg_ext (by
  rw [Int64.toInt_div, lz_m1L, Int64.toInt_neg, Int.tdiv_neg, Int.tdiv_one])
theorem fl_m1 (a : Int64) : fl64 a (-1) = -a ∧ a - fl64 a (-1) * (-1) = 0 := by
  have e : -a * (-1) = a := by rw [Int64.mul_neg, Int64.mul_one, Int64.neg_neg]
  have f : fl64 a (-1) = -a := by
    unfold fl64
    rw [div_m1, e, Int64.sub_self, if_pos rfl]
  exact ⟨f, by rw [f, e, Int64.sub_self]⟩
/-- what both reckon of two whole numbers -/
def rk64 (k : Nat) (a b : Int64) : Int64 := if k = 40 then a + b else if k = 41 then a - b else if k = 42 then a * b else if k = 43 then fl64 a b else if k = 44 then a - fl64 a b * b else if k = 45 then a &&& b else if k = 46 then a ||| b else if k = 47 then a ^^^ b else if k = 48 then sh64 a b else sr64 a b
theorem m_reckon (τ : lj_S) {k : Nat} (hk : 40 ≤ k ∧ k ≤ 49) (a b : Int64) (hz : (k = 43 ∨ k = 44) → b ≠ 0) : lj_R lm_P 158 [.ref 0, .int (Int32.ofNat (k - 37)), .long a, .long b] τ = some (.inl (some (.long (rk64 k a b))), τ) := by
  rw [rm_158, km_158_0]
  obtain rfl | rfl | rfl | rfl | rfl | rfl | rfl | rfl | rfl | rfl : k = 40 ∨ k = 41 ∨ k = 42 ∨ k = 43 ∨ k = 44 ∨ k = 45 ∨ k = 46 ∨ k = 47 ∨ k = 48 ∨ k = 49 := by omega
  · rw [if_pos (by decide)]; rfl
  · rw [if_neg (by decide), if_pos (by decide)]; rfl
  · rw [if_neg (by decide), if_neg (by decide), if_pos (by decide)]; rfl
  · rw [if_neg (by decide), if_neg (by decide), if_neg (by decide), if_pos (by decide), m_floor τ a (hz (Or.inl rfl)), bl_ok]; rfl
  · rw [if_neg (by decide), if_neg (by decide), if_neg (by decide), if_neg (by decide), if_pos (by decide), m_floor τ a (hz (Or.inr rfl)), bl_ok]; rfl
  · rw [if_neg (by decide), if_neg (by decide), if_neg (by decide), if_neg (by decide), if_neg (by decide), if_pos (by decide)]; rfl
  · rw [if_neg (by decide), if_neg (by decide), if_neg (by decide), if_neg (by decide), if_neg (by decide), if_neg (by decide), if_pos (by decide)]; rfl
  · rw [if_neg (by decide), if_neg (by decide), if_neg (by decide), if_neg (by decide), if_neg (by decide), if_neg (by decide), if_neg (by decide), if_pos (by decide)]; rfl
  · rw [if_neg (by decide), if_neg (by decide), if_neg (by decide), if_neg (by decide), if_neg (by decide), if_neg (by decide), if_neg (by decide), if_neg (by decide), if_pos (by decide), m_shiftL, bl_ok]; rfl
  · rw [if_neg (by decide), if_neg (by decide), if_neg (by decide), if_neg (by decide), if_neg (by decide), if_neg (by decide), if_neg (by decide), if_neg (by decide), if_neg (by decide), if_pos (by decide), m_shiftR, bl_ok]; rfl
theorem c_reckon (σ : lj_S) {k : Nat} (hk : 40 ≤ k ∧ k ≤ 49) (a b : Int64) (hz : (k = 43 ∨ k = 44) → b ≠ 0) (line : Int32) : lj_R lc_P 214 [.ref 8, .int (Int32.ofNat k), .long a, .long b, .int line] σ = some (.inl (some (.long (rk64 k a b))), σ) := by
  have st : lj_R lc_P 214 [.ref 8, .int (Int32.ofNat k), .long a, .long b, .int line] σ = lj_D lc_P lc_M214 29 [.ref 8, .int (Int32.ofNat k), .long a, .retAddr 0, .long b, .retAddr 0, .int line] [] σ := by
    rw [rc_214, kc_214_0]
    by_cases h1 : k = 43
    · rw [if_pos (by rw [h1]; rfl), kc_214_12, if_neg (fun q => hz (Or.inl h1) ((lg0 _ _).1 q))]
    · rw [if_neg (show ¬ (Int32.ofNat k = 43) from fun q => h1 ((ofN_eq (c := 43) (by omega) (by omega)).1 q))]
      by_cases h2 : k = 44
      · rw [if_pos (by rw [h2]; rfl), kc_214_12, if_neg (fun q => hz (Or.inr h2) ((lg0 _ _).1 q))]
      · rw [if_neg (show ¬ (Int32.ofNat k = 44) from fun q => h2 ((ofN_eq (c := 44) (by omega) (by omega)).1 q))]
  rw [st, kc_214_29]
  obtain rfl | rfl | rfl | rfl | rfl | rfl | rfl | rfl | rfl | rfl : k = 40 ∨ k = 41 ∨ k = 42 ∨ k = 43 ∨ k = 44 ∨ k = 45 ∨ k = 46 ∨ k = 47 ∨ k = 48 ∨ k = 49 := by omega
  · rw [if_pos (by decide), kc_214_198]; rfl
  · rw [if_neg (by decide), if_pos (by decide), kc_214_198]; rfl
  · rw [if_neg (by decide), if_neg (by decide), if_pos (by decide), kc_214_198]; rfl
  · rw [if_neg (by decide), if_neg (by decide), if_neg (by decide), if_pos (by decide)]
    by_cases w : b = -1
    · rw [if_pos ((lg0 _ _).2 w), kc_214_198, ← (fl_m1 a).1, ← w]; rfl
    · rw [if_neg (fun q => w ((lg0 _ _).1 q)), c_floorDiv σ a (hz (Or.inl rfl)), bl_ok, kc_214_198]; rfl
  · rw [if_neg (by decide), if_neg (by decide), if_neg (by decide), if_neg (by decide), if_pos (by decide)]
    by_cases w : b = -1
    · rw [if_pos ((lg0 _ _).2 w), kc_214_198, ← (fl_m1 a).2, ← w]; rfl
    · rw [if_neg (fun q => w ((lg0 _ _).1 q)), c_floorMod σ a (hz (Or.inr rfl)), bl_ok, kc_214_198]; rfl
  · rw [if_neg (by decide), if_neg (by decide), if_neg (by decide), if_neg (by decide), if_neg (by decide), if_pos (by decide), kc_214_198]; rfl
  · rw [if_neg (by decide), if_neg (by decide), if_neg (by decide), if_neg (by decide), if_neg (by decide), if_neg (by decide), if_pos (by decide), kc_214_198]; rfl
  · rw [if_neg (by decide), if_neg (by decide), if_neg (by decide), if_neg (by decide), if_neg (by decide), if_neg (by decide), if_neg (by decide), if_pos (by decide), kc_214_198]; rfl
  · rw [if_neg (by decide), if_neg (by decide), if_neg (by decide), if_neg (by decide), if_neg (by decide), if_neg (by decide), if_neg (by decide), if_neg (by decide), if_pos (by decide), c_shift, bl_ok, kc_214_198]; rfl
  · rw [if_neg (by decide), if_neg (by decide), if_neg (by decide), if_neg (by decide), if_neg (by decide), if_neg (by decide), if_neg (by decide), if_neg (by decide), if_neg (by decide)]
    by_cases w : b = -9223372036854775808
    · rw [if_pos ((lg0 _ _).2 w), kc_214_198, w]
      have : rk64 49 a (-9223372036854775808) = 0 := by
        show sr64 a (-9223372036854775808) = 0
        unfold sr64
        rw [if_pos (by decide)]
      rw [this]
    · rw [if_neg (fun q => w ((lg0 _ _).1 q)), c_shift, bl_ok, kc_214_198, ← sr_sh a w]; rfl
