/-! numbers as text -/
def lpw (k : Nat) : Int64 := Int64.ofNat (10 ^ k)
theorem lpw_v : ∀ k : Fin 19, (lpw k.val).toInt = 10 ^ k.val := by decide
theorem lpw_d : ∀ k : Fin 18, lpw (k.val + 1) / 10 = lpw k.val := by decide
theorem lpw_m : ∀ k : Fin 18, lpw k.val * 10 = lpw (k.val + 1) := by decide
theorem lpw_m' : ∀ k : Fin 18, 10 * lpw k.val = lpw (k.val + 1) := by decide
theorem lpw_z : ∀ k : Fin 19, lpw k.val ≠ 0 := by decide
theorem lpw_p : ∀ k : Fin 19, ¬ lpw k.val ≤ 0 := by decide
def lnC (v : Int64) (k : Nat) : Bool := decide (¬ 9 < v / lpw k ∧ -9 ≤ v / lpw k)
def lnK (v : Int64) : Nat → Nat → Nat
  | 0, j => j
  | n + 1, j => if lnC v j = true then j else lnK v n (j + 1)
theorem lnK_le (v : Int64) : ∀ n j, lnK v n j ≤ n + j
  | 0, j => by simp [lnK]
  | n + 1, j => by unfold lnK; split; omega; have := lnK_le v n (j + 1); omega
def ldg (v : Int64) (k : Nat) : Int64 := if 0 ≤ v / lpw k - v / lpw k / 10 * 10 then v / lpw k - v / lpw k / 10 * 10 else -(v / lpw k - v / lpw k / 10 * 10)
def lnD (v : Int64) : Nat → List Int32
  | 0 => [lz_by ((48 + ldg v 0 : Int64).toInt32)]
  | k + 1 => lz_by ((48 + ldg v (k + 1) : Int64).toInt32) :: lnD v k
/-- a number's text -/
def lnum (v : Int64) : List Int32 := (if v < 0 then [45] else []) ++ lnD v (lnK v 18 0)
theorem lnD_len (v : Int64) : ∀ k, (lnD v k).length = k + 1
  | 0 => rfl
  | k + 1 => by unfold lnD; simp [lnD_len v k]
theorem lnum_len (v : Int64) : (lnum v).length ≤ 20 := by
  have := lnK_le v 18 0
  unfold lnum
  rw [List.length_append, lnD_len]
  split <;> simp <;> omega
theorem lnC_18 (v : Int64) : lnC v 18 = true := by
  have h1 := v.minValue_le_toInt; have h2 := v.toInt_le
  have e1 : Int64.minValue.toInt = -9223372036854775808 := by decide
  have e2 : Int64.maxValue.toInt = 9223372036854775807 := by decide
  have e3 : (lpw 18).toInt = 1000000000000000000 := by decide
  have e4 : (9 : Int64).toInt = 9 := by decide
  have e5 : (-9 : Int64).toInt = -9 := by decide
  have hq : (v / lpw 18).toInt = v.toInt.tdiv 1000000000000000000 := by
    rw [Int64.toInt_div_of_ne_right _ _ (by decide), e3]
  have hb : -9 ≤ v.toInt.tdiv 1000000000000000000 ∧ v.toInt.tdiv 1000000000000000000 ≤ 9 := by
    rcases Int.le_total 0 v.toInt with h | h
    · rw [Int.tdiv_eq_ediv_of_nonneg h]; omega
    · have : v.toInt.tdiv 1000000000000000000 = -((-v.toInt).tdiv 1000000000000000000) := by rw [Int.neg_tdiv, Int.neg_neg]
      rw [this, Int.tdiv_eq_ediv_of_nonneg (by omega)]; omega
  unfold lnC
  simp only [decide_eq_true_eq]
  rw [Int64.lt_iff_toInt_lt, Int64.le_iff_toInt_le, hq, e4, e5]
  omega
theorem c_num_up (σ : lj_S) (v : Int64) : ∀ n j, n + j = 18 → lj_D lc_P lc_M33 14 [.ref 3, .long v, .retAddr 0, .long (lpw j), .retAddr 0, .retAddr 0, .retAddr 0] [] σ = lj_D lc_P lc_M33 43 [.ref 3, .long v, .retAddr 0, .long (lpw (lnK v n j)), .retAddr 0, .retAddr 0, .retAddr 0] [] σ
  | 0, j, h => by
    have hj : j = 18 := by omega
    subst hj
    have hc := lnC_18 v
    simp only [lnC, decide_eq_true_eq] at hc
    rw [kc_33_14, if_neg (lpw_z ⟨18, by omega⟩), if_neg (by rw [lg_cmp_gt]; exact hc.1), if_neg (lpw_z ⟨18, by omega⟩), if_pos (by rw [lg_cmp_ge]; exact hc.2)]
    rfl
  | n + 1, j, h => by
    unfold lnK
    rw [kc_33_14, if_neg (lpw_z ⟨j, by omega⟩)]
    by_cases c : lnC v j = true
    · rw [if_pos c]
      simp only [lnC, decide_eq_true_eq] at c
      rw [if_neg (by rw [lg_cmp_gt]; exact c.1), if_neg (lpw_z ⟨j, by omega⟩), if_pos (by rw [lg_cmp_ge]; exact c.2)]
    · rw [if_neg c]
      have ih := c_num_up σ v n (j + 1) (by omega)
      have go : lj_D lc_P lc_M33 34 [.ref 3, .long v, .retAddr 0, .long (lpw j), .retAddr 0, .retAddr 0, .retAddr 0] [] σ = lj_D lc_P lc_M33 43 [.ref 3, .long v, .retAddr 0, .long (lpw (lnK v n (j + 1))), .retAddr 0, .retAddr 0, .retAddr 0] [] σ := by
        rw [kc_33_34, lpw_m ⟨j, by omega⟩]; exact ih
      by_cases c1 : 9 < v / lpw j
      · rw [if_pos (by rw [lg_cmp_gt]; exact c1), go]
      · rw [if_neg (by rw [lg_cmp_gt]; exact c1), if_neg (lpw_z ⟨j, by omega⟩), if_neg, go]
        rw [lg_cmp_ge]
        intro c2
        exact c (by simp only [lnC, decide_eq_true_eq]; exact ⟨c1, c2⟩)
theorem c_num_down (v : Int64) : ∀ (k : Nat) (σ : lj_S) (D : List Int32) (x5 : Value), k ≤ 18 → cDr σ D → D.length < 1000000 - (k + 1) → ∃ σ', lj_D lc_P lc_M33 43 [.ref 3, .long v, .retAddr 0, .long (lpw k), .retAddr 0, x5, .retAddr 0] [] σ = some (.inl none, σ') ∧ cDr σ' (D ++ lnD v k) ∧ lf cAd σ σ' := by
  have step : ∀ (k : Nat) (σ : lj_S) (D : List Int32) (x5 : Value), k ≤ 18 → cDr σ D → D.length < 1000000 → ∃ σ1 y, lj_D lc_P lc_M33 43 [.ref 3, .long v, .retAddr 0, .long (lpw k), .retAddr 0, x5, .retAddr 0] [] σ = lj_D lc_P lc_M33 43 [.ref 3, .long v, .retAddr 0, .long (lpw k / 10), .retAddr 0, .long y, .retAddr 0] [] σ1 ∧ cDr σ1 (D ++ [lz_by ((48 + ldg v k : Int64).toInt32)]) ∧ lf cAd σ σ1 := by
    intro k σ D x5 hk hD hl
    obtain ⟨σ1, a1, a2, a3⟩ := c_add σ ((48 + ldg v k : Int64).toInt32) hD (by omega)
    refine ⟨σ1, v / lpw k - v / lpw k / 10 * 10, ?_, a2, a3⟩
    rw [kc_33_43, if_neg (by rw [lg_cmp_le]; exact lpw_p ⟨k, by omega⟩), if_neg (lpw_z ⟨k, by omega⟩), if_neg (by decide)]
    unfold ldg at a1
    by_cases c : 0 ≤ v / lpw k - v / lpw k / 10 * 10
    · rw [if_pos (by rw [lg_cmp_ge]; exact c), kc_33_77]
      rw [if_pos c] at a1
      rw [a1]
      unfold lj_bv
      simp only []
      rw [if_neg (by decide)]
    · rw [if_neg (by rw [lg_cmp_ge]; exact c), kc_33_77]
      rw [if_neg c] at a1
      rw [a1]
      unfold lj_bv
      simp only []
      rw [if_neg (by decide)]
  intro k
  induction k with
  | zero =>
    intro σ D x5 hk hD hl
    obtain ⟨σ1, y, a1, a2, a3⟩ := step 0 σ D x5 hk hD (by omega)
    refine ⟨σ1, ?_, a2, a3⟩
    rw [a1, kc_33_43, if_pos (by rw [lg_cmp_le]; decide)]
  | succ k ih =>
    intro σ D x5 hk hD hl
    obtain ⟨σ1, y, a1, a2, a3⟩ := step (k + 1) σ D x5 hk hD (by omega)
    obtain ⟨σ2, b1, b2, b3⟩ := ih σ1 _ (.long y) (by omega) a2 (by simp; omega)
    refine ⟨σ2, ?_, ?_, a3.tr b3⟩
    · rw [a1, lpw_d ⟨k, by omega⟩]; exact b1
    · rw [List.append_assoc] at b2; exact b2
theorem c_addNumber (σ : lj_S) (v : Int64) {D : List Int32} (hD : cDr σ D) (hl : D.length < 900000) : ∃ σ', lj_R lc_P 33 [.ref 3, .long v] σ = some (.inl none, σ') ∧ cDr σ' (D ++ lnum v) ∧ lf cAd σ σ' := by
  have hk := lnK_le v 18 0
  have tail : ∀ (σ : lj_S) (D : List Int32), cDr σ D → D.length < 950000 → ∃ σ', lj_D lc_P lc_M33 12 [.ref 3, .long v, .retAddr 0, .retAddr 0, .retAddr 0, .retAddr 0, .retAddr 0] [] σ = some (.inl none, σ') ∧ cDr σ' (D ++ lnD v (lnK v 18 0)) ∧ lf cAd σ σ' := fun σ D hD hl => by
    have h := c_num_up σ v 18 0 (by omega)
    rw [kc_33_12]
    rw [show lpw 0 = 1 from rfl] at h
    rw [h]
    exact c_num_down v _ σ D _ (by omega) hD (by omega)
  rw [rc_33, kc_33_0]
  unfold lnum
  by_cases c : v < 0
  · rw [if_neg (by rw [lg_cmp_ge]; exact Int64.not_le.2 c), if_pos c]
    obtain ⟨σ1, a1, a2, a3⟩ := c_add σ 45 hD (by omega)
    obtain ⟨σ2, b1, b2, b3⟩ := tail σ1 _ a2 (by simp; omega)
    refine ⟨σ2, ?_, ?_, a3.tr b3⟩
    · rw [a1]; unfold lj_bv; simp only []; exact b1
    · rw [List.append_assoc] at b2; exact b2
  · rw [if_pos (by rw [lg_cmp_ge]; exact Int64.not_lt.1 c), if_neg c]
    exact tail σ D hD (by omega)
