theorem lj_put_self (σ : lj_S) (k i : Nat) (v : Int32) (h : σ.1 k i = v) : lj_put σ k i v = σ := by
  apply Prod.ext
  · funext k' j'
    rw [lj_put_1]; split
    · next q => rw [q.1, q.2, h]
    · rfl
  · rfl
theorem lj_put_put (σ : lj_S) (k i : Nat) (v w : Int32) : lj_put (lj_put σ k i v) k i w = lj_put σ k i w := by
  apply Prod.ext
  · funext k1 j1
    rw [lj_put_1, lj_put_1, lj_put_1]; split <;> rfl
  · rfl
theorem lj_put_comm (σ : lj_S) (k i k' i' : Nat) (v w : Int32) (h : ¬ (k = k' ∧ i = i')) : lj_put (lj_put σ k i v) k' i' w = lj_put (lj_put σ k' i' w) k i v := by
  apply Prod.ext
  · funext k1 j1
    rw [lj_put_1, lj_put_1, lj_put_1, lj_put_1]
    by_cases a : k1 = k' ∧ j1 = i'
    · rw [if_pos a, if_neg (by omega), if_pos a]
    · rw [if_neg a, if_neg a]
  · rfl
theorem tN_eq {b : Nat → Int32} {k : Nat} : ∀ m, (∀ i, k ≤ i → i < k + m → b i ≠ 10) → tN b (k + m) = tN b k
  | 0, _ => rfl
  | m + 1, h => by
    show tN b (k + m) + (if b (k + m) = 10 then 1 else 0) = _
    rw [if_neg (h (k + m) (by omega) (by omega)), tN_eq m (fun i a c => h i a (by omega))]; rfl
theorem tN_eq' {b : Nat → Int32} {k k' : Nat} (hk : k ≤ k') (h : ∀ i, k ≤ i → i < k' → b i ≠ 10) : tN b k' = tN b k := by
  have := tN_eq (b := b) (k := k) (k' - k) (fun i a c => h i a (by omega))
  rwa [show k + (k' - k) = k' by omega] at this
/-- where the reader is -/
def cAt (σ : lj_S) (b : Nat → Int32) (k : Nat) : lj_S := lj_put (lj_put σ 4 3 (Int32.ofNat (1 + tN b k))) 4 2 (Int32.ofNat k)
theorem tC_at {σ : lj_S} {b : Nat → Int32} {n : Nat} (h : tC σ b n) (k : Nat) : tC (cAt σ b k) b n :=
  ⟨by unfold cAt; rw [lv_put, if_neg (by omega), lv_put, if_neg (by omega)]; exact h.1, fun i hi => by unfold cAt; rw [lj_put_1, if_neg (by omega), lj_put_1, if_neg (by omega)]; exact h.2 i hi⟩
theorem cAt_at (σ : lj_S) (b : Nat → Int32) (k k' : Nat) : cAt (cAt σ b k) b k' = cAt σ b k' := by
  unfold cAt
  rw [lj_put_comm _ 4 2 4 3 _ _ (by omega), lj_put_put, lj_put_put]
theorem cAt_2 (σ : lj_S) (b : Nat → Int32) (k : Nat) : (cAt σ b k).1 4 2 = Int32.ofNat k := by
  unfold cAt; rw [lj_put_1, if_pos ⟨rfl, rfl⟩]
theorem cAt_3 (σ : lj_S) (b : Nat → Int32) (k : Nat) : (cAt σ b k).1 4 3 = Int32.ofNat (1 + tN b k) := by
  unfold cAt; rw [lj_put_1, if_neg (by omega), lj_put_1, if_pos ⟨rfl, rfl⟩]
theorem cAt_o (σ : lj_S) (b : Nat → Int32) (k : Nat) {k1 j1 : Nat} (h : ¬ (k1 = 4 ∧ (j1 = 2 ∨ j1 = 3))) : (cAt σ b k).1 k1 j1 = σ.1 k1 j1 := by
  unfold cAt; rw [lj_put_1, if_neg (by omega), lj_put_1, if_neg (by omega)]
theorem cAt_up (σ : lj_S) (b : Nat → Int32) (k k' : Nat) (h : tN b k' = tN b k) : lj_put (cAt σ b k) 4 2 (Int32.ofNat k') = cAt σ b k' := by
  unfold cAt; rw [lj_put_put, h]
abbrev lWs (c : Int32) : Prop := c = 32 ∨ c = 9 ∨ c = 13 ∨ c = 10
theorem cm_skip {b : Nat → Int32} {n : Nat} (hb : tB b n) (σ τ : lj_S) (hC : tC σ b n) (hM : tM τ b n) (x1 : Int32) : ∀ (m k : Nat) (x2 x4 : Value), n - k < m → k ≤ n → ∃ k', k ≤ k' ∧ k' ≤ n ∧ ¬ lWs (b k') ∧
    lj_D lc_P lc_M40 2 [.ref 4, .int 1, x2] [] (cAt σ b k) = some (.inl none, cAt σ b k') ∧
    lj_D lm_P lm_M13 4 [.ref 0, .int x1, .int (Int32.ofNat k), .int 1, x4] [] τ = some (.inl (some (.int (Int32.ofNat k'))), τ)
  | 0, k, _, _, hm, hk => by omega
  | m + 1, k, x2, x4, hm, hk => by
    have hn := hb.1
    have tN1 := tN_le b k
    have hCk := tC_at hC k
    have eC : lj_D lc_P lc_M40 2 [.ref 4, .int 1, x2] [] (cAt σ b k) = (if b k = 32 then lj_D lc_P lc_M40 39 [.ref 4, .int 1, .int (b k)] [] (cAt σ b k) else (if b k = 9 then lj_D lc_P lc_M40 39 [.ref 4, .int 1, .int (b k)] [] (cAt σ b k) else (if b k = 13 then lj_D lc_P lc_M40 39 [.ref 4, .int 1, .int (b k)] [] (cAt σ b k) else (if b k = 10 then lj_D lc_P lc_M40 39 [.ref 4, .int 1, .int (b k)] [] (cAt σ b k) else lj_D lc_P lc_M40 44 [.ref 4, .int 1, .int (b k)] [.int 0] (cAt σ b k))))) := by
      rw [kc_40_2, if_neg (by decide), cAt_2, c_byteAt hb hCk k (by omega)]; rfl
    have eM : lj_D lm_P lm_M13 4 [.ref 0, .int x1, .int (Int32.ofNat k), .int 1, x4] [] τ = (if b k = 32 then lj_D lm_P lm_M13 43 [.ref 0, .int x1, .int (Int32.ofNat k), .int 1, .int (b k)] [] τ else (if b k = 9 then lj_D lm_P lm_M13 43 [.ref 0, .int x1, .int (Int32.ofNat k), .int 1, .int (b k)] [] τ else (if b k = 13 then lj_D lm_P lm_M13 43 [.ref 0, .int x1, .int (Int32.ofNat k), .int 1, .int (b k)] [] τ else (if b k = 10 then lj_D lm_P lm_M13 43 [.ref 0, .int x1, .int (Int32.ofNat k), .int 1, .int (b k)] [] τ else lj_D lm_P lm_M13 48 [.ref 0, .int x1, .int (Int32.ofNat k), .int 1, .int (b k)] [.int 0] τ)))) := by
      rw [km_13_4, if_neg (by decide), m_at hb hM k (by omega)]; rfl
    by_cases w : lWs (b k)
    · have hkn : k < n := by
        rcases Nat.lt_or_ge k n with h | h
        · exact h
        · rw [hb.2.2 k h] at w; exact absurd w (by decide)
      have n45 : ¬ b k = 45 := by rcases w with h | h | h | h <;> rw [h] <;> decide
      obtain ⟨k', a1, a2, a3, a4, a5⟩ := cm_skip hb σ τ hC hM x1 m (k + 1) (.int (b k)) (.int (b k)) (by omega) (by omega)
      refine ⟨k', by omega, a2, a3, ?_, ?_⟩
      · have e39 : lj_D lc_P lc_M40 39 [.ref 4, .int 1, .int (b k)] [] (cAt σ b k) = some (.inl none, cAt σ b k') := by
          rw [kc_40_39, kc_40_44, if_neg (by decide)]
          have up : ∀ v : Int32, v = Int32.ofNat (1 + tN b (k + 1)) → lj_put (lj_put (cAt σ b k) 4 3 v) 4 2 ((cAt σ b k).1 4 2 + 1) = cAt σ b (k + 1) := fun v hv => by
            rw [hv, cAt_2, lz_osucc]
            unfold cAt
            rw [lj_put_comm _ 4 2 4 3 _ _ (by omega), lj_put_put, lj_put_put]
          by_cases q : b k = 10
          · rw [if_pos q, kc_40_65, cAt_3, up _ (by rw [lz_osucc]; show _ = Int32.ofNat (1 + (tN b k + (if b k = 10 then 1 else 0))); rw [if_pos q]; rfl), kc_40_142]
            exact a4
          · rw [if_neg q, kc_40_65, cAt_3, up _ (by rw [show Int32.ofNat (1 + tN b k) + 0 = Int32.ofNat (1 + tN b k) from Int32.add_zero _]; show _ = Int32.ofNat (1 + (tN b k + (if b k = 10 then 1 else 0))); rw [if_neg q]; rfl), kc_40_142]
            exact a4
        rw [eC, e39]
        rcases w with h | h | h | h <;> simp [h]
      · have e43 : lj_D lm_P lm_M13 43 [.ref 0, .int x1, .int (Int32.ofNat k), .int 1, .int (b k)] [] τ = some (.inl (some (.int (Int32.ofNat k'))), τ) := by
          rw [km_13_43, km_13_48, if_neg n45, km_13_95, if_neg (by decide), km_13_102, lz_osucc]
          exact a5
        rw [eM, e43]
        rcases w with h | h | h | h <;> simp [h]
    · have w1 : ¬ b k = 32 := fun h => w (Or.inl h)
      have w2 : ¬ b k = 9 := fun h => w (Or.inr (Or.inl h))
      have w3 : ¬ b k = 13 := fun h => w (Or.inr (Or.inr (Or.inl h)))
      have w4 : ¬ b k = 10 := fun h => w (Or.inr (Or.inr (Or.inr h)))
      rw [eC, if_neg w1, if_neg w2, if_neg w3, if_neg w4, eM, if_neg w1, if_neg w2, if_neg w3, if_neg w4]
      have stopC : lj_D lc_P lc_M40 142 [.ref 4, .int 0, .int (b k)] [] (cAt σ b k) = some (.inl none, cAt σ b k) := by
        rw [kc_40_142, kc_40_2, if_pos rfl]
      have stopM : lj_D lm_P lm_M13 95 [.ref 0, .int x1, .int (Int32.ofNat k), .int 0, .int (b k)] [] τ = some (.inl (some (.int (Int32.ofNat k))), τ) := by
        rw [km_13_95, if_pos rfl, km_13_102, km_13_4, if_pos rfl]
      rw [kc_40_44, if_pos rfl, km_13_48]
      by_cases c1 : b k = 45
      · rw [if_pos c1, if_pos c1, cAt_2, lz_osucc, c_byteAt hb hCk (k + 1) (by omega), m_at hb hM (k + 1) (by omega)]
        unfold lj_bi
        simp only []
        by_cases c2 : b (k + 1) = 45
        · rw [if_pos c2, if_pos c2]
          have hkn : k < n := by
            rcases Nat.lt_or_ge k n with h | h
            · exact h
            · rw [hb.2.2 k h] at c1; exact absurd c1 (by decide)
          obtain ⟨k1, b1, b2, b3, b4, b5⟩ := c_com hb (b k) (n - k + 1) k (cAt σ b k) (by omega) hk hCk (by unfold lv; rw [cAt_2, lz_lit (by omega)])
          have hk1 : k < k1 := by
            rcases Nat.lt_or_ge k k1 with h | h
            · exact h
            · have e : k1 = k := by omega
              rw [e] at b4
              rcases b4 with h | h
              · omega
              · rw [c1] at h; exact absurd h (by decide)
          obtain ⟨k', a1, a2, a3, a4, a5⟩ := cm_skip hb σ τ hC hM x1 m k1 (.int (b k)) (.int (b k)) (by omega) (by omega)
          refine ⟨k', by omega, a2, a3, ?_, ?_⟩
          · rw [b5, cAt_up _ _ _ _ (tN_eq' (by omega) b3), kc_40_142]; exact a4
          · rw [m_com hb x1 (b k) τ hM k1 b2 b4 (k1 - k) k (by omega) b3, km_13_102]; exact a5
        · rw [if_neg c2, if_neg c2]
          exact ⟨k, by omega, hk, w, stopC, stopM⟩
      · rw [if_neg c1, if_neg c1]
        exact ⟨k, by omega, hk, w, stopC, stopM⟩
