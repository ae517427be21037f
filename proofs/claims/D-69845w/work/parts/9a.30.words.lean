/-! words of the model from INDEX on -/
theorem m_w127 {τ : lj_S} {p me mq : Nat} (h : mAt τ p me mq) (J P A : Int32) (hk : me ≠ 0 → 0 ≤ (mv τ (10000 * p + (me - 1))).1) : lj_R lm_P 127 [.ref 0, .int J, .int P, .int A] τ = lj_D lm_P lm_M127 21 [.ref 0, .int J, .int P, .int A, .int (if me = 0 then -1 else (mv τ (10000 * p + (me - 1))).1), .retAddr 0, .retAddr 0, .retAddr 0, .retAddr 0, .retAddr 0, .retAddr 0] [.long (if me = 0 then 0 else (mv τ (10000 * p + (me - 1))).2)] τ := by
  have h4 := h.2.2.2.1
  have e63 : τ.1 63 (τ.1 0 111).toNatClampNeg = Int32.ofNat me := by rw [h.i.2.1]; exact h.2.2.1
  have le0 : (Int32.ofNat me ≤ 0) ↔ me ≤ 0 := ofN_le (b := 0) (by omega) (by omega)
  rw [rm_127, km_127_0, rm_128, km_128_0, if_pos h.i.1, e63]
  by_cases z : me = 0
  · rw [if_pos (le0.2 (by omega)), km_128_22, bi_ok, if_neg (by decide), if_pos z, if_pos z]
  · have k := m_topK h (d := 0) (by omega)
    have nn := m_topN h (d := 0) (by omega)
    rw [Nat.sub_zero] at k nn
    have k0 : lj_R lm_P 124 [.ref 0, .int 0] τ = _ := k
    have n0 : lj_R lm_P 125 [.ref 0, .int 0] τ = _ := nn
    rw [if_neg (fun q => z (by have := le0.1 q; omega)), k0, bi_ok, km_128_22, bi_ok, if_pos (hk z), n0, bl_ok, if_neg z, if_neg z]
