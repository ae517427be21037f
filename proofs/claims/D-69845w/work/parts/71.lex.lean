/-! reading: bytes of the text -/
def tB (b : Nat → Int32) (n : Nat) : Prop := n ≤ 6000 ∧ (∀ i, i < n → 0 ≤ (b i).toInt ∧ (b i).toInt ≤ 255) ∧ ∀ i, n ≤ i → b i = -1
def tC (σ : lj_S) (b : Nat → Int32) (n : Nat) : Prop := lv σ 4 1 = (n : Int) ∧ ∀ i, i < n → σ.1 17 i &&& 255 = b i
def tM (τ : lj_S) (b : Nat → Int32) (n : Nat) : Prop := lv τ 0 2 = (n : Int) ∧ ∀ i, i < n → τ.1 1 i = b i
theorem c_byteAt {σ : lj_S} {b : Nat → Int32} {n : Nat} (hb : tB b n) (h : tC σ b n) (i : Nat) (hi : i < 2147483648) : lj_R lc_P 41 [.ref 4, .int (Int32.ofNat i)] σ = some (.inl (some (.int (b i))), σ) := by
  rw [rc_41, kc_41_0]
  by_cases q : i < n
  · rw [if_neg (by rw [lz_le, lz_lit hi, lv_def, h.1]; omega), if_pos (lz_in.2 (by rw [lz_lit hi]; have := hb.1; omega)), kc_41_22, lz_onat hi, h.2 i q]
  · rw [if_pos (by rw [lz_le, lz_lit hi, lv_def, h.1]; omega), kc_41_22, hb.2.2 i (by omega)]
theorem m_at {τ : lj_S} {b : Nat → Int32} {n : Nat} (hb : tB b n) (h : tM τ b n) (i : Nat) (hi : i < 2147483648) : lj_R lm_P 14 [.ref 0, .int (Int32.ofNat i)] τ = some (.inl (some (.int (b i))), τ) := by
  rw [rm_14, km_14_0]
  by_cases q : i < n
  · rw [if_neg (by rw [lz_le, lz_lit hi, lv_def, h.1]; omega), if_pos (lz_in.2 (by rw [lz_lit hi]; have := hb.1; omega)), km_14_18, lz_onat hi, h.2 i q]
  · rw [if_pos (by rw [lz_le, lz_lit hi, lv_def, h.1]; omega), km_14_18, hb.2.2 i (by omega)]
theorem c_isIn (σ : lj_S) (v a b : Int64) : lj_R lc_P 3 [.long v, .long a, .long b] σ = some (.inl (some (.int (if a.toInt ≤ v.toInt ∧ v.toInt ≤ b.toInt then 1 else 0))), σ) := by
  rw [rc_3, kc_3_0]
  by_cases h1 : lg_cmp v a < 0
  · rw [if_pos h1, kc_3_17, kc_3_18]
    rw [lg_cmp_lt, Int64.lt_iff_toInt_lt] at h1
    rw [if_neg (by omega)]; rfl
  · rw [if_neg h1]
    rw [lg_cmp_lt, Int64.lt_iff_toInt_lt] at h1
    by_cases h2 : 0 < lg_cmp v b
    · rw [if_pos h2, kc_3_17, kc_3_18]
      rw [lg_cmp_gt, Int64.lt_iff_toInt_lt] at h2
      rw [if_neg (by omega)]; rfl
    · rw [if_neg h2, kc_3_18]
      rw [lg_cmp_gt, Int64.lt_iff_toInt_lt] at h2
      rw [if_pos (by omega)]; rfl
theorem lz_ite {p q : Prop} [Decidable p] [Decidable q] (h : p ↔ q) {a b : Int32} : (if p then a else b) = if q then a else b := by
  by_cases c : p
  · rw [if_pos c, if_pos (h.1 c)]
  · rw [if_neg c, if_neg (fun z => c (h.2 z))]
abbrev lLet (c : Int32) : Prop := (97 ≤ c.toInt ∧ c.toInt ≤ 122) ∨ (65 ≤ c.toInt ∧ c.toInt ≤ 90) ∨ c.toInt = 95
abbrev lDig (c : Int32) : Prop := 48 ≤ c.toInt ∧ c.toInt ≤ 57
theorem lz_i64 (x : Int32) : x.toInt64.toInt = x.toInt := Int32.toInt_toInt64 x
theorem c_isLetter (σ : lj_S) (c : Int32) : lj_R lc_P 43 [.ref 4, .int c] σ = some (.inl (some (.int (if lLet c then 1 else 0))), σ) := by
  rw [rc_43, kc_43_0, c_isIn]
  unfold lj_bi
  simp only [lz_i64, show (97 : Int64).toInt = 97 from rfl, show (122 : Int64).toInt = 122 from rfl]
  by_cases h1 : 97 ≤ c.toInt ∧ c.toInt ≤ 122
  · rw [if_pos h1, if_neg (by decide), kc_43_34, kc_43_39, if_pos (Or.inl h1)]; rfl
  · rw [if_neg h1, if_pos rfl, c_isIn]
    simp only [lz_i64, show (65 : Int64).toInt = 65 from rfl, show (90 : Int64).toInt = 90 from rfl]
    by_cases h2 : 65 ≤ c.toInt ∧ c.toInt ≤ 90
    · rw [if_pos h2, if_neg (by decide), kc_43_34, kc_43_39, if_pos (Or.inr (Or.inl h2))]; rfl
    · rw [if_neg h2, if_pos rfl]
      by_cases h3 : c = 95
      · rw [if_pos h3, kc_43_34, kc_43_39, if_pos (Or.inr (Or.inr (by rw [h3]; rfl)))]; rfl
      · rw [if_neg h3, kc_43_39, if_neg]
        · rfl
        · rintro (h | h | h)
          · exact h1 h
          · exact h2 h
          · exact h3 (lz_ext h)
theorem c_isDigit (σ : lj_S) (c : Int32) : lj_R lc_P 45 [.ref 4, .int c] σ = some (.inl (some (.int (if lDig c then 1 else 0))), σ) := by
  rw [rc_45, kc_45_0, c_isIn]
  unfold lj_bi
  simp only [lz_i64, show (48 : Int64).toInt = 48 from rfl, show (57 : Int64).toInt = 57 from rfl]
  by_cases h1 : 48 ≤ c.toInt ∧ c.toInt ≤ 57
  · rw [if_pos h1]; rfl
  · rw [if_neg h1]; rfl
theorem m_isLetter (σ : lj_S) (c : Int32) : lj_R lm_P 15 [.int c] σ = some (.inl (some (.int (if lLet c then 1 else 0))), σ) := by
  have e97 : (97 : Int32).toInt = 97 := rfl
  have e122 : (122 : Int32).toInt = 122 := rfl
  have e65 : (65 : Int32).toInt = 65 := rfl
  have e90 : (90 : Int32).toInt = 90 := rfl
  have e95 : (95 : Int32).toInt = 95 := rfl
  have k30 : lj_D lm_P lm_M15 30 [.int c] [] σ = some (.inl (some (.int 1)), σ) := by rw [km_15_30, km_15_35]; rfl
  have k24 : lj_D lm_P lm_M15 24 [.int c] [] σ = some (.inl (some (.int (if c.toInt = 95 then 1 else 0))), σ) := by
    rw [km_15_24]
    by_cases h : c = 95
    · rw [if_pos h, k30, if_pos (by rw [h]; rfl)]
    · rw [if_neg h, km_15_35, if_neg (show ¬ c.toInt = 95 from fun z => h (lz_ext z))]; rfl
  have k12 : lj_D lm_P lm_M15 12 [.int c] [] σ = some (.inl (some (.int (if (65 ≤ c.toInt ∧ c.toInt ≤ 90) ∨ c.toInt = 95 then 1 else 0))), σ) := by
    rw [km_15_12]
    simp only [lz_lt, lz_le, e65, e90, k30, k24]
    split
    · exact congrArg (fun z => some (Sum.inl (some (Value.int z)), σ)) (lz_ite (by omega))
    · split
      · rw [if_pos (by omega)]
      · exact congrArg (fun z => some (Sum.inl (some (Value.int z)), σ)) (lz_ite (by omega))
  rw [rm_15, km_15_0]
  simp only [lz_lt, lz_le, e97, e122, k30, k12]
  split
  · exact congrArg (fun z => some (Sum.inl (some (Value.int z)), σ)) (lz_ite (by omega))
  · split
    · rw [if_pos (by omega)]
    · exact congrArg (fun z => some (Sum.inl (some (Value.int z)), σ)) (lz_ite (by omega))
theorem m_isDigit (σ : lj_S) (c : Int32) : lj_R lm_P 17 [.int c] σ = some (.inl (some (.int (if lDig c then 1 else 0))), σ) := by
  have e48 : (48 : Int32).toInt = 48 := rfl
  have e57 : (57 : Int32).toInt = 57 := rfl
  rw [rm_17, km_17_0, km_17_16, km_17_17, km_17_17]
  simp only [lz_lt, e48, e57]
  split
  · rw [if_neg (by omega)]; rfl
  · split
    · rw [if_neg (by omega)]; rfl
    · rw [if_pos (by omega)]; rfl
theorem lz_255 (x : Int32) : (x &&& 255).toInt8 = x.toInt8 := by
  apply Int8.toBitVec_inj.1
  rw [Int32.toBitVec_toInt8, Int32.toBitVec_toInt8, Int32.toBitVec_and]
  apply BitVec.eq_of_toNat_eq
  rw [BitVec.signExtend_eq_setWidth_of_le _ (by omega), BitVec.signExtend_eq_setWidth_of_le _ (by omega), BitVec.toNat_setWidth, BitVec.toNat_setWidth, BitVec.toNat_and]
  have e : (255 : Int32).toBitVec.toNat = 2 ^ 8 - 1 := rfl
  rw [e, Nat.and_two_pow_sub_one_eq_mod, Nat.mod_mod]
/-- how many bytes 10 there are ahead of a place -/
def tN (b : Nat → Int32) : Nat → Nat
  | 0 => 0
  | k + 1 => tN b k + if b k = 10 then 1 else 0
theorem tN_le (b : Nat → Int32) : ∀ k, tN b k ≤ k
  | 0 => Nat.le_refl _
  | k + 1 => by unfold tN; have := tN_le b k; split <;> omega
theorem c_lineAt_loop {σ : lj_S} {b : Nat → Int32} {n : Nat} (hb : tB b n) (h : tC σ b n) (hby : ∀ i, lz_by (σ.1 17 i) = σ.1 17 i) (p : Nat) (hp : p ≤ n) : ∀ m i, i + m = p → lj_D lc_P lc_M52 4 [.ref 4, .int (Int32.ofNat p), .int (Int32.ofNat (1 + tN b i)), .int (Int32.ofNat i)] [] σ = some (.inl (some (.int (Int32.ofNat (1 + tN b p)))), σ)
  | 0, i, hi => by
    have := hb.1
    rw [kc_52_4, if_pos (by rw [lz_le, lz_lit (by omega), lz_lit (by omega)]; omega)]
    rw [show i = p by omega]
  | m + 1, i, hi => by
    have := hb.1
    have hl := tN_le b i
    have e10 : (σ.1 17 i = 10) ↔ b i = 10 := by
      rw [← h.2 i (by omega)]
      constructor
      · intro e; rw [e]; decide
      · intro e
        have hy := hby i
        generalize σ.1 17 i = x at *
        unfold lz_by at hy
        have h8 : x.toInt8 = 10 := by
          have : (x &&& 255).toInt8 = x.toInt8 := lz_255 x
          rw [← this, e]; rfl
        rw [← hy, h8]; rfl
    have ih := c_lineAt_loop hb h hby p hp m (i + 1) (by omega)
    rw [kc_52_4, if_neg (by rw [lz_le, lz_lit (by omega), lz_lit (by omega)]; omega), if_pos (lz_in.2 (by rw [lz_lit (by omega)]; omega)), lz_onat (by omega)]
    by_cases q : b i = 10
    · rw [if_pos (e10.2 q), kc_52_26, lz_osucc, lz_osucc]
      have e : 1 + tN b i + 1 = 1 + tN b (i + 1) := by simp only [tN]; rw [if_pos q]; omega
      rw [e]; exact ih
    · rw [if_neg (fun z => q (e10.1 z)), kc_52_26, lz_osucc]
      have e : Int32.ofNat (1 + tN b i) + 0 = Int32.ofNat (1 + tN b (i + 1)) := by
        rw [show tN b (i + 1) = tN b i from by simp only [tN]; rw [if_neg q]; rfl]
        exact Int32.add_zero _
      rw [e]; exact ih
theorem c_lineAt {σ : lj_S} {b : Nat → Int32} {n : Nat} (hb : tB b n) (h : tC σ b n) (hby : ∀ i, lz_by (σ.1 17 i) = σ.1 17 i) (p : Nat) (hp : p ≤ n) : lj_R lc_P 52 [.ref 4, .int (Int32.ofNat p)] σ = some (.inl (some (.int (Int32.ofNat (1 + tN b p)))), σ) := by
  rw [rc_52, kc_52_0]
  exact c_lineAt_loop hb h hby p hp p 0 (by omega)
theorem m_lineOf_loop {τ : lj_S} {b : Nat → Int32} {n : Nat} (hb : tB b n) (h : tM τ b n) (p : Nat) (hp : p ≤ n) : ∀ m i, i + m = p → lj_D lm_P lm_M35 4 [.ref 0, .int (Int32.ofNat p), .int (Int32.ofNat (1 + tN b i)), .int (Int32.ofNat i)] [] τ = some (.inl (some (.int (Int32.ofNat (1 + tN b p)))), τ)
  | 0, i, hi => by
    have := hb.1
    rw [km_35_4, if_pos (by rw [lz_le, lz_lit (by omega), lz_lit (by omega)]; omega), km_35_42]
    rw [show i = p by omega]
  | m + 1, i, hi => by
    have := hb.1
    have ih := m_lineOf_loop hb h p hp m (i + 1) (by omega)
    rw [km_35_4, if_neg (by rw [lz_le, lz_lit (by omega), lz_lit (by omega)]; omega), if_neg (by rw [lz_le, lz_lit (by omega), lv_def, h.1]; omega), if_pos (lz_in.2 (by rw [lz_lit (by omega)]; omega)), lz_onat (by omega), h.2 i (by omega)]
    by_cases q : b i = 10
    · rw [if_pos q, km_35_35, lz_osucc, lz_osucc]
      have e : 1 + tN b i + 1 = 1 + tN b (i + 1) := by simp only [tN]; rw [if_pos q]; omega
      rw [e]; exact ih
    · rw [if_neg q, km_35_35, lz_osucc]
      rw [show tN b (i + 1) = tN b i from by simp only [tN]; rw [if_neg q]; rfl] at ih
      exact ih
theorem m_lineOf {τ : lj_S} {b : Nat → Int32} {n : Nat} (hb : tB b n) (h : tM τ b n) (p : Nat) (hp : p ≤ n) : lj_R lm_P 35 [.ref 0, .int (Int32.ofNat p)] τ = some (.inl (some (.int (Int32.ofNat (1 + tN b p)))), τ) := by
  rw [rm_35, km_35_0]
  exact m_lineOf_loop hb h p hp p 0 (by omega)
/-- a comment's end -/
theorem c_com {b : Nat → Int32} {n : Nat} (hb : tB b n) (x2 : Int32) : ∀ (m k : Nat) (σ : lj_S), n - k < m → k ≤ n → tC σ b n → lv σ 4 2 = (k : Int) → ∃ k', k ≤ k' ∧ k' ≤ n ∧ (∀ i, k ≤ i → i < k' → b i ≠ 10) ∧ (k' = n ∨ b k' = 10) ∧ lj_D lc_P lc_M40 105 [.ref 4, .int 1, .int x2] [] σ = lj_D lc_P lc_M40 142 [.ref 4, .int 1, .int x2] [] (lj_put σ 4 2 (Int32.ofNat k'))
  | 0, k, σ, hm, hk, h, ha => by omega
  | m + 1, k, σ, hm, hk, h, ha => by
    have hn := hb.1
    have ea : σ.1 4 2 = Int32.ofNat k := lz_ext (by rw [lz_lit (by omega)]; exact ha)
    have self : lj_put σ 4 2 (Int32.ofNat k) = σ := by
      rw [← ea]
      apply Prod.ext
      · funext k' j'
        rw [lj_put_1]; split
        · next q => rw [q.1, q.2]
        · rfl
      · rfl
    rw [kc_40_105]
    by_cases q : n ≤ k
    · refine ⟨k, by omega, by omega, fun i h1 h2 => by omega, Or.inl (by omega), ?_⟩
      rw [if_pos (by rw [lz_le, lv_def, lv_def, h.1, ha]; omega), self]
    · rw [if_neg (by rw [lz_le, lv_def, lv_def, h.1, ha]; omega), ea, c_byteAt hb h k (by omega)]
      unfold lj_bi
      simp only []
      by_cases q2 : b k = 10
      · refine ⟨k, by omega, by omega, fun i h1 h2 => by omega, Or.inr q2, ?_⟩
        rw [if_pos q2, self]
      · rw [if_neg q2, ea, lz_osucc]
        obtain ⟨k', a1, a2, a3, a4, a5⟩ := c_com hb x2 m (k + 1) (lj_put σ 4 2 (Int32.ofNat (k + 1))) (by omega) (by omega) ⟨by rw [lv_put, if_neg (by omega)]; exact h.1, fun i hi => by rw [lj_put_1, if_neg (by omega)]; exact h.2 i hi⟩ (by rw [lv_put, if_pos ⟨rfl, rfl⟩, lz_lit (by omega)])
        refine ⟨k', by omega, a2, fun i h1 h2 => ?_, a4, ?_⟩
        · by_cases e : i = k
          · rw [e]; exact q2
          · exact a3 i (by omega) h2
        · rw [a5]
          congr 1
          apply Prod.ext
          · funext k1 j1
            rw [lj_put_1, lj_put_1, lj_put_1]; split
            · rfl
            · rfl
          · rfl
theorem m_com {b : Nat → Int32} {n : Nat} (hb : tB b n) (x1 x4 : Int32) (τ : lj_S) (h : tM τ b n) (k' : Nat) (h1 : k' ≤ n) (h2 : k' = n ∨ b k' = 10) : ∀ (m k : Nat), k + m = k' → (∀ i, k ≤ i → i < k' → b i ≠ 10) → lj_D lm_P lm_M13 70 [.ref 0, .int x1, .int (Int32.ofNat k), .int 1, .int x4] [] τ = lj_D lm_P lm_M13 102 [.ref 0, .int x1, .int (Int32.ofNat k'), .int 1, .int x4] [] τ
  | 0, k, hk, _ => by
    have hn := hb.1
    have e : k = k' := by omega
    subst e
    rw [km_13_70]
    by_cases q : n ≤ k
    · rw [if_pos (by rw [lz_le, lv_def, h.1, lz_lit (by omega)]; omega)]
    · rw [if_neg (by rw [lz_le, lv_def, h.1, lz_lit (by omega)]; omega), if_pos (lz_in.2 (by rw [lz_lit (by omega)]; omega)), lz_onat (by omega), h.2 k (by omega), if_pos (by rcases h2 with h2 | h2; omega; exact h2)]
  | m + 1, k, hk, hno => by
    have hn := hb.1
    rw [km_13_70, if_neg (by rw [lz_le, lv_def, h.1, lz_lit (by omega)]; omega), if_pos (lz_in.2 (by rw [lz_lit (by omega)]; omega)), lz_onat (by omega), h.2 k (by omega), if_neg (hno k (by omega) (by omega)), lz_osucc]
    exact m_com hb x1 x4 τ h k' h1 h2 m (k + 1) (by omega) (fun i a c => hno i (by omega) c)
