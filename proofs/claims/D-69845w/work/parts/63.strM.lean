theorem m_num_up (σ : lj_S) (v : Int64) : ∀ n j, n + j = 18 → lj_D lm_P lm_M133 14 [.ref 0, .long v, .retAddr 0, .long (lpw j), .retAddr 0, .retAddr 0, .retAddr 0] [] σ = lj_D lm_P lm_M133 43 [.ref 0, .long v, .retAddr 0, .long (lpw (lnK v n j)), .retAddr 0, .retAddr 0, .retAddr 0] [] σ
  | 0, j, h => by
    have hj : j = 18 := by omega
    subst hj
    have hc := lnC_18 v
    simp only [lnC, decide_eq_true_eq] at hc
    rw [km_133_14, if_neg (lpw_z ⟨18, by omega⟩), if_neg (by rw [lg_cmp_gt]; exact hc.1), if_neg (lpw_z ⟨18, by omega⟩), if_pos (by rw [lg_cmp_ge]; exact hc.2)]
    rfl
  | n + 1, j, h => by
    unfold lnK
    rw [km_133_14, if_neg (lpw_z ⟨j, by omega⟩)]
    by_cases c : lnC v j = true
    · rw [if_pos c]
      simp only [lnC, decide_eq_true_eq] at c
      rw [if_neg (by rw [lg_cmp_gt]; exact c.1), if_neg (lpw_z ⟨j, by omega⟩), if_pos (by rw [lg_cmp_ge]; exact c.2)]
    · rw [if_neg c]
      have ih := m_num_up σ v n (j + 1) (by omega)
      have go : lj_D lm_P lm_M133 34 [.ref 0, .long v, .retAddr 0, .long (lpw j), .retAddr 0, .retAddr 0, .retAddr 0] [] σ = lj_D lm_P lm_M133 43 [.ref 0, .long v, .retAddr 0, .long (lpw (lnK v n (j + 1))), .retAddr 0, .retAddr 0, .retAddr 0] [] σ := by
        rw [km_133_34, lpw_m' ⟨j, by omega⟩]; exact ih
      by_cases c1 : 9 < v / lpw j
      · rw [if_pos (by rw [lg_cmp_gt]; exact c1), go]
      · rw [if_neg (by rw [lg_cmp_gt]; exact c1), if_neg (lpw_z ⟨j, by omega⟩), if_neg, go]
        rw [lg_cmp_ge]
        intro c2
        exact c (by simp only [lnC, decide_eq_true_eq]; exact ⟨c1, c2⟩)
theorem lz_48 (r : Int64) : (48 : Int32) + r.toInt32 = (48 + r : Int64).toInt32 := by rw [Int64.toInt32_add]; rfl
theorem m_num_down (v : Int64) : ∀ (k : Nat) (σ : lj_S) (D : List Int32) (x5 : Value), k ≤ 18 → mDr σ D → D.length + (k + 1) ≤ 4200 → ∃ σ', lj_D lm_P lm_M133 43 [.ref 0, .long v, .retAddr 0, .long (lpw k), .retAddr 0, x5, .retAddr 0] [] σ = some (.inl none, σ') ∧ mDr σ' (D ++ lnD v k) ∧ lf mAd σ σ' := by
  have step : ∀ (k : Nat) (σ : lj_S) (D : List Int32) (x5 : Value), k ≤ 18 → mDr σ D → D.length < 4200 → ∃ σ1 y, lj_D lm_P lm_M133 43 [.ref 0, .long v, .retAddr 0, .long (lpw k), .retAddr 0, x5, .retAddr 0] [] σ = lj_D lm_P lm_M133 43 [.ref 0, .long v, .retAddr 0, .long (lpw k / 10), .retAddr 0, .long y, .retAddr 0] [] σ1 ∧ mDr σ1 (D ++ [lz_by ((48 + ldg v k : Int64).toInt32)]) ∧ lf mAd σ σ1 := by
    intro k σ D x5 hk hD hl
    have a1 := m_digit σ ((48 + ldg v k : Int64).toInt32) hD hl
    obtain ⟨a2, a3, _⟩ := mDr_dig hD hl ((48 + ldg v k : Int64).toInt32)
    refine ⟨_, v / lpw k - v / lpw k / 10 * 10, ?_, a2, a3⟩
    rw [km_133_43, if_neg (by rw [lg_cmp_le]; exact lpw_p ⟨k, by omega⟩), if_neg (lpw_z ⟨k, by omega⟩), if_neg (by decide)]
    unfold ldg at a1 ⊢
    by_cases c : 0 ≤ v / lpw k - v / lpw k / 10 * 10
    · rw [if_pos (by rw [lg_cmp_ge]; exact c), km_133_76]
      rw [if_pos c] at a1 ⊢
      rw [lz_48, a1]
      unfold lj_bv
      simp only []
      rw [if_neg (by decide)]
    · rw [if_neg (by rw [lg_cmp_ge]; exact c), km_133_76]
      rw [if_neg c] at a1 ⊢
      rw [lz_48, a1]
      unfold lj_bv
      simp only []
      rw [if_neg (by decide)]
  intro k
  induction k with
  | zero =>
    intro σ D x5 hk hD hl
    obtain ⟨σ1, y, a1, a2, a3⟩ := step 0 σ D x5 hk hD (by omega)
    refine ⟨σ1, ?_, a2, a3⟩
    rw [a1, km_133_43, if_pos (by rw [lg_cmp_le]; decide)]
  | succ k ih =>
    intro σ D x5 hk hD hl
    obtain ⟨σ1, y, a1, a2, a3⟩ := step (k + 1) σ D x5 hk hD (by omega)
    obtain ⟨σ2, b1, b2, b3⟩ := ih σ1 _ (.long y) (by omega) a2 (by simp; omega)
    refine ⟨σ2, ?_, ?_, a3.tr b3⟩
    · rw [a1, lpw_d ⟨k, by omega⟩]; exact b1
    · rw [List.append_assoc] at b2; exact b2
theorem m_digits (σ : lj_S) (v : Int64) {D : List Int32} (hD : mDr σ D) (hl : D.length + 20 ≤ 4200) : ∃ σ', lj_R lm_P 133 [.ref 0, .long v] σ = some (.inl none, σ') ∧ mDr σ' (D ++ lnum v) ∧ lf mAd σ σ' := by
  have hk := lnK_le v 18 0
  have tail : ∀ (σ : lj_S) (D : List Int32), mDr σ D → D.length + 19 ≤ 4200 → ∃ σ', lj_D lm_P lm_M133 12 [.ref 0, .long v, .retAddr 0, .retAddr 0, .retAddr 0, .retAddr 0, .retAddr 0] [] σ = some (.inl none, σ') ∧ mDr σ' (D ++ lnD v (lnK v 18 0)) ∧ lf mAd σ σ' := fun σ D hD hl => by
    have h := m_num_up σ v 18 0 (by omega)
    rw [km_133_12]
    rw [show lpw 0 = 1 from rfl] at h
    rw [h]
    exact m_num_down v _ σ D _ (by omega) hD (by omega)
  rw [rm_133, km_133_0]
  unfold lnum
  by_cases c : v < 0
  · rw [if_neg (by rw [lg_cmp_ge]; exact Int64.not_le.2 c), if_pos c]
    have a1 := m_digit σ 45 hD (by omega)
    obtain ⟨a2, a3, _⟩ := mDr_dig hD (by omega) 45
    obtain ⟨σ2, b1, b2, b3⟩ := tail _ _ a2 (by simp; omega)
    refine ⟨σ2, ?_, ?_, a3.tr b3⟩
    · rw [a1]; unfold lj_bv; simp only []; exact b1
    · rw [List.append_assoc] at b2; exact b2
  · rw [if_pos (by rw [lg_cmp_ge]; exact Int64.not_lt.1 c), if_neg c]
    exact tail σ D hD (by omega)
theorem m_copyS_loop (s : Nat) : ∀ (n i : Nat) (σ : lj_S) (D : List Int32), i + n = (mS σ s).length → mIn σ s → (∀ j, lz_by (σ.1 2 j) = σ.1 2 j) → mDr σ D → D.length + n ≤ 4200 → ∃ σ', lj_D lm_P lm_M137 2 [.ref 0, .int (Int32.ofNat s), .int (Int32.ofNat i)] [] σ = some (.inl none, σ') ∧ mDr σ' (D ++ (mS σ s).drop i) ∧ lf mAd σ σ'
  | 0, i, σ, D, hi, hin, hby, hD, _ => by
    obtain ⟨s1, s2, s3, s4⟩ := hin
    have ln := mS_len σ s
    refine ⟨σ, ?_, ?_, lf_rf _ _⟩
    · rw [km_137_2, if_pos (lz_in.2 (by rw [lz_lit (by omega)]; omega))]
      simp only [lz_onat (show s < 2147483648 by omega)]
      rw [if_pos (by rw [lz_le, lz_lit (by omega), lv_def]; omega)]
    · rw [List.drop_of_length_le (by omega)]; simpa using hD
  | n + 1, i, σ, D, hi, hin, hby, hD, hl => by
    have hin' := hin
    obtain ⟨s1, s2, s3, s4⟩ := hin
    have ln := mS_len σ s
    have hfi : ((σ.1 3 s) + Int32.ofNat i).toInt = lv σ 3 s + i := by rw [lz_add (by rw [lz_lit (by omega), lv_def]; omega), lz_lit (by omega), lv_def]
    have hfn : ((σ.1 3 s) + Int32.ofNat i).toNatClampNeg = (lv σ 3 s).toNat + i := by rw [lz_nat, hfi]; omega
    obtain ⟨a2, a3, a4⟩ := mDr_dig hD (by omega) ((mS σ s)[i]'(by omega))
    have kS : mS (m_dig σ ((mS σ s)[i]'(by omega))) s = mS σ s := mS_draft a3 s
    obtain ⟨σ2, b1, b2, b3⟩ := m_copyS_loop s n (i + 1) (m_dig σ ((mS σ s)[i]'(by omega))) _ (by rw [kS]; omega) (by unfold mIn; rw [a3.v (by rfl), a3.v (by rfl)]; exact hin') (fun j => by rw [(a3 2 j rfl).1]; exact hby j) a2 (by simp; omega)
    refine ⟨σ2, ?_, ?_, a3.tr b3⟩
    · rw [km_137_2, if_pos (lz_in.2 (by rw [lz_lit (by omega)]; omega))]
      simp only [lz_onat (show s < 2147483648 by omega)]
      rw [if_neg (by rw [lz_le, lz_lit (by omega), lv_def]; omega), if_pos (lz_in.2 (by rw [lz_lit (by omega)]; omega)), if_pos (lz_in.2 (by rw [hfi]; omega)), if_pos a4, hfn, ← mS_get σ s i (by omega), lz_osucc]
      exact b1
    · rw [List.drop_eq_getElem_cons (show i < (mS σ s).length by omega)]
      rw [kS] at b2
      have e : lz_by ((mS σ s)[i]'(by omega)) = (mS σ s)[i]'(by omega) := by rw [mS_get]; exact hby _
      rw [e, List.append_assoc] at b2
      exact b2
theorem m_copyString (σ : lj_S) {s : Nat} (hok : mOK σ) (hs : (s : Int) < lv σ 0 14) {D : List Int32} (hD : mDr σ D) (hl : D.length + (mS σ s).length ≤ 4200) : ∃ σ', lj_R lm_P 137 [.ref 0, .int (Int32.ofNat s)] σ = some (.inl none, σ') ∧ mDr σ' (D ++ mS σ s) ∧ lf mAd σ σ' := by
  rw [rm_137, km_137_0]
  exact m_copyS_loop s (mS σ s).length 0 σ D (by omega) (hok.inn hs) hok.2.2.2.1 hD (by omega)
