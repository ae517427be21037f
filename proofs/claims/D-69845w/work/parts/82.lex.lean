/-! strings in quotes: what stands behind a byte 92 -/
def edF (b : Nat → Int32) : Nat → Int32 → Nat → Int32 × Nat
  | 0, v, a => (v, a)
  | r + 1, v, a => if lDig (b a) then edF b r (10 * v + b a - 48) (a + 1) else (v, a)
theorem edF_b {b : Nat → Int32} {n : Nat} (hb : tB b n) : ∀ (r : Nat) (v : Int32) (a : Nat), a ≤ n → a ≤ (edF b r v a).2 ∧ (edF b r v a).2 ≤ n ∧ ∀ i, a ≤ i → i < (edF b r v a).2 → b i ≠ 10
  | 0, v, a, h => ⟨Nat.le_refl _, h, fun i x y => by simp only [edF] at y; omega⟩
  | r + 1, v, a, h => by
    unfold edF
    by_cases q : lDig (b a)
    · rw [if_pos q]
      have ha : a < n := lNm_n hb (Or.inr q)
      obtain ⟨h1, h2, h3⟩ := edF_b hb r (10 * v + b a - 48) (a + 1) (by omega)
      refine ⟨by omega, h2, fun i x y => ?_⟩
      by_cases e : i = a
      · rw [e]; exact (lNm_10 (Or.inr q)).1
      · exact h3 i (by omega) y
    · rw [if_neg q]
      exact ⟨Nat.le_refl _, h, fun i x y => by simp only [] at y; omega⟩
theorem c_esc_loop {b : Nat → Int32} {n : Nat} (hb : tB b n) (x1 : Int32) : ∀ (r i a : Nat) (v : Int32) (σ : lj_S), i + r = 3 → a ≤ n → tC σ b n → σ.1 4 2 = Int32.ofNat a → lj_D lc_P lc_M50 21 [.ref 4, .int x1, .int v, .int (Int32.ofNat i)] [] σ = some (.inl (some (.int (if (edF b r v a).1 ≤ 255 then (edF b r v a).1 else -1))), lj_put σ 4 2 (Int32.ofNat (edF b r v a).2)) := by
  have done : ∀ (i a : Nat) (v : Int32) (σ : lj_S), σ.1 4 2 = Int32.ofNat a → lj_D lc_P lc_M50 74 [.ref 4, .int x1, .int v, .int (Int32.ofNat i)] [] σ = some (.inl (some (.int (if v ≤ 255 then v else -1))), lj_put σ 4 2 (Int32.ofNat a)) := fun i a v σ h2 => by
    rw [kc_50_74, lj_put_self _ _ _ _ h2]
    by_cases q : v ≤ 255
    · rw [if_pos q, if_pos q, kc_50_86]
    · rw [if_neg q, if_neg q, kc_50_86]
  have three : (3 : Int32).toInt = 3 := by decide
  intro r
  induction r with
  | zero =>
    intro i a v σ hi ha hC h2
    have hi3 : i = 3 := by omega
    subst hi3
    rw [kc_50_21, if_pos (by decide), done 3 a v σ h2]
    rfl
  | succ r ih =>
    intro i a v σ hi ha hC h2
    have hn := hb.1
    rw [kc_50_21, if_neg (by rw [lz_le, three, lz_lit (by omega)]; omega), h2, c_byteAt hb hC a (by omega)]
    unfold lj_bi
    simp only []
    rw [c_isDigit]
    simp only []
    unfold edF
    by_cases q : lDig (b a)
    · have ha' : a < n := lNm_n hb (Or.inr q)
      rw [if_pos q, if_neg (by decide), if_pos q, h2, c_byteAt hb hC a (by omega)]
      simp only []
      rw [h2, lz_osucc, lz_osucc]
      rw [ih (i + 1) (a + 1) _ (lj_put σ 4 2 (Int32.ofNat (a + 1))) (by omega) (by omega) ⟨by rw [lv_put, if_neg (by omega)]; exact hC.1, fun j hj => by rw [lj_put_1, if_neg (by omega)]; exact hC.2 j hj⟩ (by rw [lj_put_1, if_pos ⟨rfl, rfl⟩]), lj_put_put]
    · rw [if_neg q, if_pos rfl, if_neg q, done i a v σ h2]
theorem m_esc_loop {b : Nat → Int32} {n : Nat} (hb : tB b n) (τ : lj_S) (hM : tM τ b n) (f : Nat) (hf : f ≤ n) (x2 : Int32) : ∀ (r a : Nat) (v : Int32), a + r = f + 3 → a ≤ n → lj_D lm_P lm_M23 69 [.ref 0, .int (Int32.ofNat f), .int x2, .int v, .int (Int32.ofNat a)] [] τ = lj_D lm_P lm_M23 110 [.ref 0, .int (Int32.ofNat f), .int x2, .int (edF b r v a).1, .int (Int32.ofNat (edF b r v a).2)] [] τ := by
  have hn := hb.1
  have e3 : Int32.ofNat f + 3 = Int32.ofNat (f + 3) := (Int32.ofNat_add f 3).symm
  intro r
  induction r with
  | zero =>
    intro a v ha _
    rw [km_23_69, e3, if_pos (by rw [lz_le, lz_lit (by omega), lz_lit (by omega)]; omega)]
    rfl
  | succ r ih =>
    intro a v ha han
    rw [km_23_69, e3, if_neg (by rw [lz_le, lz_lit (by omega), lz_lit (by omega)]; omega), m_at hb hM a (by omega)]
    unfold lj_bi
    simp only []
    rw [m_isDigit]
    simp only []
    unfold edF
    by_cases q : lDig (b a)
    · have ha' : a < n := lNm_n hb (Or.inr q)
      rw [if_pos q, if_neg (by decide), if_pos q, m_at hb hM a (by omega)]
      simp only []
      rw [lz_osucc, ih (a + 1) _ (by omega) (by omega)]
    · rw [if_neg q, if_pos rfl, if_neg q]
/-- both read what is escaped: y, up to a' -/
theorem cm_escape {b : Nat → Int32} {n : Nat} (hb : tB b n) (σ τ : lj_S) (hC : tC σ b n) (hM : tM τ b n) (a : Nat) (ha : a ≤ n) (h2 : σ.1 4 2 = Int32.ofNat a) {D : List Int32} (hD : mDr τ D) (hl : D.length < 4200) : ∃ (y : Int32) (a' : Nat), a < a' ∧ a' ≤ n + 1 ∧ (0 ≤ y → a' ≤ n ∧ ∀ i, a ≤ i → i < a' → b i ≠ 10) ∧
    lj_R lc_P 50 [.ref 4] σ = some (.inl (some (.int y)), lj_put σ 4 2 (Int32.ofNat a')) ∧
    lj_R lm_P 23 [.ref 0, .int (Int32.ofNat a)] τ = if 0 ≤ y then some (.inl (some (.int (Int32.ofNat a'))), m_dig τ y) else some (.inl (some (.int (-1))), τ) := by
  have hn := hb.1
  have e255 : (255 : Int32).toInt = 255 := by decide
  have z0 : (0 : Int32).toInt = 0 := rfl
  have fin : ∀ (x1 x2 v : Int32) (c : Nat), lj_D lm_P lm_M23 110 [.ref 0, .int x1, .int x2, .int v, .int (Int32.ofNat c)] [] τ = if 0 ≤ (if v ≤ 255 then v else -1) then some (.inl (some (.int (Int32.ofNat c))), m_dig τ (if v ≤ 255 then v else -1)) else some (.inl (some (.int (-1))), τ) := fun x1 x2 v c => by
    rw [km_23_110]
    by_cases q : v < 0
    · have q2 : v ≤ 255 := by rw [lz_le, e255]; rw [lz_lt, z0] at q; omega
      have q3 : ¬ 0 ≤ v := by rw [lz_le, z0]; rw [lz_lt, z0] at q; omega
      rw [if_pos q, km_23_121, if_pos q2, if_neg q3]
    · rw [if_neg q]
      have q3 : 0 ≤ v := by rw [lz_le, z0]; rw [lz_lt, z0] at q; omega
      by_cases q2 : v ≤ 255
      · rw [if_pos q2, if_pos (mDr_dig hD hl v).2.2, if_pos q2, if_pos q3]
        show some (_, lj_put (lj_put τ 8 _ (lz_by (lz_by v))) 0 20 _) = _
        rw [lz_by2]; rfl
      · rw [if_neg q2, km_23_121, if_neg q2, if_neg (by decide)]
  by_cases q : lDig (b a)
  · have ha' : a < n := lNm_n hb (Or.inr q)
    obtain ⟨h1, h3, h4⟩ := edF_b hb 3 0 a ha
    have h5 : a < (edF b 3 0 a).2 := by
      have := edF_b hb 2 (10 * 0 + b a - 48) (a + 1) (by omega)
      have e : (edF b 3 0 a).2 = (edF b 2 (10 * 0 + b a - 48) (a + 1)).2 := by rw [show edF b 3 0 a = if lDig (b a) then edF b 2 (10 * 0 + b a - 48) (a + 1) else (0, a) from rfl, if_pos q]
      omega
    refine ⟨if (edF b 3 0 a).1 ≤ 255 then (edF b 3 0 a).1 else -1, (edF b 3 0 a).2, h5, by omega, fun _ => ⟨h3, h4⟩, ?_, ?_⟩
    · rw [rc_50, kc_50_0, h2, c_byteAt hb hC a (by omega)]
      unfold lj_bi
      simp only []
      rw [c_isDigit]
      simp only []
      rw [if_pos q, if_neg (by decide)]
      exact c_esc_loop hb (b a) 3 0 a 0 σ (by omega) ha hC h2
    · have k51 : ∀ x50 : Int32, lj_D lm_P lm_M23 51 [.ref 0, .int (Int32.ofNat a), .int (b a), .retAddr 0, .retAddr 0] [.int x50] τ = lj_D lm_P lm_M23 110 [.ref 0, .int (Int32.ofNat a), .int (b a), .int (edF b 3 0 a).1, .int (Int32.ofNat (edF b 3 0 a).2)] [] τ := fun x50 => by
        rw [km_23_51, m_isDigit]
        unfold lj_bi
        simp only []
        rw [if_pos q, if_neg (by decide)]
        exact m_esc_loop hb τ hM a ha (b a) 3 a 0 (by omega) ha
      rw [rm_23, km_23_0, m_at hb hM a (by omega)]
      unfold lj_bi
      simp only [km_23_46, k51]
      rw [← fin (Int32.ofNat a) (b a)]
      split
      · rfl
      · split
        · rfl
        · split
          · rfl
          · split
            · rfl
            · split <;> rfl
  · -- other bytes
    have eC : lj_R lc_P 50 [.ref 4] σ = some (.inl (some (.int (if b a = 110 then 10 else if b a = 116 then 9 else if b a = 92 then b a else if b a = 34 then b a else if b a = 39 then b a else -1))), lj_put σ 4 2 (Int32.ofNat (a + 1))) := by
      rw [rc_50, kc_50_0, h2, c_byteAt hb hC a (by omega)]
      unfold lj_bi
      simp only []
      rw [c_isDigit]
      simp only []
      rw [if_neg q, if_pos rfl, h2, lz_osucc]
      simp only [kc_50_137, kc_50_142]
      split
      · rfl
      · split
        · rfl
        · split
          · rfl
          · split
            · rfl
            · split <;> rfl
    have eM : lj_R lm_P 23 [.ref 0, .int (Int32.ofNat a)] τ = lj_D lm_P lm_M23 110 [.ref 0, .int (Int32.ofNat a), .int (b a), .int (if b a = 110 then 10 else if b a = 116 then 9 else if b a = 92 then b a else if b a = 34 then b a else if b a = 39 then b a else -1), .int (Int32.ofNat (a + 1))] [] τ := by
      have k51 : ∀ x50 : Int32, lj_D lm_P lm_M23 51 [.ref 0, .int (Int32.ofNat a), .int (b a), .retAddr 0, .retAddr 0] [.int x50] τ = lj_D lm_P lm_M23 110 [.ref 0, .int (Int32.ofNat a), .int (b a), .int x50, .int (Int32.ofNat (a + 1))] [] τ := fun x50 => by
        rw [km_23_51, m_isDigit]
        unfold lj_bi
        simp only []
        rw [if_neg q, if_pos rfl, lz_osucc]
      rw [rm_23, km_23_0, m_at hb hM a (by omega)]
      unfold lj_bi
      simp only [km_23_46, k51]
      split
      · rfl
      · split
        · rfl
        · split
          · rfl
          · split
            · rfl
            · split <;> rfl
    generalize hy : (if b a = 110 then (10 : Int32) else if b a = 116 then 9 else if b a = 92 then b a else if b a = 34 then b a else if b a = 39 then b a else -1) = y at eC eM
    have hy255 : y ≤ 255 := by
      rw [← hy]
      split
      · decide
      · split
        · decide
        · split
          · next e => rw [e]; decide
          · split
            · next e => rw [e]; decide
            · split
              · next e => rw [e]; decide
              · decide
    refine ⟨y, a + 1, by omega, by omega, fun h0 => ?_, eC, by rw [eM, fin, if_pos hy255]⟩
    have hs : b a = 110 ∨ b a = 116 ∨ b a = 92 ∨ b a = 34 ∨ b a = 39 := by
      by_cases c1 : b a = 110; exact Or.inl c1
      by_cases c2 : b a = 116; exact Or.inr (Or.inl c2)
      by_cases c3 : b a = 92; exact Or.inr (Or.inr (Or.inl c3))
      by_cases c4 : b a = 34; exact Or.inr (Or.inr (Or.inr (Or.inl c4)))
      by_cases c5 : b a = 39; exact Or.inr (Or.inr (Or.inr (Or.inr c5)))
      rw [if_neg c1, if_neg c2, if_neg c3, if_neg c4, if_neg c5] at hy
      rw [← hy] at h0
      exact absurd h0 (by decide)
    have hlt : a < n := by
      rcases Nat.lt_or_ge a n with z | z
      · exact z
      · rw [hb.2.2 a z] at hs; exact absurd hs (by decide)
    refine ⟨by omega, fun i x z => ?_⟩
    rw [show i = a by omega]
    rcases hs with e | e | e | e | e <;> rw [e] <;> decide
