/-! strings in quotes -/
theorem lf_both {A : Nat → Nat → Bool} {σ σ' : lj_S} (h : lf A σ σ') (k i : Nat) (v : Int32) : lf A (lj_put σ k i v) (lj_put σ' k i v) := fun k1 j1 q => by
  refine ⟨?_, (h k1 j1 q).2⟩
  rw [lj_put_1, lj_put_1, (h k1 j1 q).1]
theorem c_quote_0 (x1 q : Int32) (x4 : Value) (σ : lj_S) : lj_D lc_P lc_M49 36 [.ref 4, .int x1, .int q, .int 0, x4] [] σ = some (.inl (some (.int 0)), lj_put σ 4 2 x1) := by
  rw [kc_49_36, if_pos rfl, kc_49_134, if_pos rfl, kc_49_154]
/-- the component goes on where the draft is too long -/
theorem c_quote_rest {b : Nat → Int32} {n : Nat} (hb : tB b n) (τ : lj_S) (hM : tM τ b n) {E : List Int32} (hE : mDr τ E) (hE2 : E.length < 4200) (x1 q : Int32) : ∀ (m a : Nat) (σ : lj_S) (D : List Int32) (x4 : Value), n - a < m → a ≤ n → D.length + m ≤ 20000 → tC σ b n → σ.1 4 2 = Int32.ofNat a → cDr σ D → 200 < D.length →
    ∃ σ', lj_D lc_P lc_M49 36 [.ref 4, .int x1, .int q, .int 1, x4] [] σ = some (.inl (some (.int 0)), lj_put σ' 4 2 x1) ∧ lf cAd (lj_put σ 4 2 x1) (lj_put σ' 4 2 x1)
  | 0, a, σ, D, x4, hm, _, _, _, _, _, _ => by omega
  | m + 1, a, σ, D, x4, hm, ha, hl, hC, h2, hD, h200 => by
    have hn := hb.1
    have e200 : (200 : Int32).toInt = 200 := by decide
    have z0 : (0 : Int32).toInt = 0 := rfl
    have go : ∀ (y : Int32) (a' : Nat) (x4 : Int32), a < a' → (0 ≤ y → a' ≤ n) → ∃ σ', lj_D lc_P lc_M49 106 [.ref 4, .int x1, .int q, .int 1, .int x4] [.int y] (lj_put σ 4 2 (Int32.ofNat a')) = some (.inl (some (.int 0)), lj_put σ' 4 2 x1) ∧ lf cAd (lj_put σ 4 2 x1) (lj_put σ' 4 2 x1) := by
      intro y a' x4 h1 h3
      have hD' : cDr (lj_put σ 4 2 (Int32.ofNat a')) D := ⟨by rw [lv_put, if_neg (by omega)]; exact hD.1, fun i x z => by rw [lj_put_1, if_neg (by omega)]; exact hD.2.1 i x z, hD.2.2⟩
      obtain ⟨σ1, s1, s2, s3⟩ := c_add (lj_put σ 4 2 (Int32.ofNat a')) y hD' (by omega)
      have f1 := lf_both s3 4 2 x1
      rw [lj_put_put] at f1
      by_cases hy : y < 0
      · refine ⟨σ1, ?_, f1⟩
        rw [kc_49_106, if_pos hy, kc_49_118, s1]
        unfold lj_bv
        simp only []
        rw [kc_49_131, c_quote_0]
      · have hy' : 0 ≤ y := by rw [lz_le, z0]; rw [lz_lt, z0] at hy; omega
        have ha' := h3 hy'
        obtain ⟨σ2, t1, t2⟩ := c_quote_rest hb τ hM hE hE2 x1 q m a' σ1 (D ++ [lz_by y]) (.int y) (by omega) ha' (by simp; omega)
          ⟨by rw [s3.v (by rfl), lv_put, if_neg (by omega)]; exact hC.1, fun j hj => by rw [(s3 17 j rfl).1, lj_put_1, if_neg (by omega)]; exact hC.2 j hj⟩
          (by rw [(s3 4 2 rfl).1, lj_put_1, if_pos ⟨rfl, rfl⟩]) s2 (by simp; omega)
        refine ⟨σ2, ?_, f1.tr t2⟩
        rw [kc_49_106, if_neg hy, kc_49_118, s1]
        unfold lj_bv
        simp only []
        rw [kc_49_131, t1]
    rw [kc_49_36, if_neg (by decide), h2, c_byteAt hb hC a (by omega)]
    unfold lj_bi
    simp only []
    by_cases c1 : b a = q
    · refine ⟨σ, ?_, lf_rf _ _⟩
      rw [if_pos c1, kc_49_134, if_neg (by decide), if_neg (by rw [lz_le, lv_def, hD.1, e200]; omega), kc_49_154]
    · rw [if_neg c1, h2, c_byteAt hb hC a (by omega)]
      simp only []
      by_cases c2 : b a = -1
      · exact ⟨σ, by rw [if_pos c2, kc_49_75, kc_49_131, c_quote_0], lf_rf _ _⟩
      · rw [if_neg c2]
        have han : a < n := by
          rcases Nat.lt_or_ge a n with z | z
          · exact z
          · exact absurd (hb.2.2 a z) c2
        by_cases c3 : b a = 10
        · exact ⟨σ, by rw [if_pos c3, kc_49_75, kc_49_131, c_quote_0], lf_rf _ _⟩
        · rw [if_neg c3, h2, lz_osucc]
          by_cases c4 : b a = 92
          · rw [if_pos c4]
            obtain ⟨y, a', y1, y2, y3, y4, y5⟩ := cm_escape hb (lj_put σ 4 2 (Int32.ofNat (a + 1))) τ ⟨by rw [lv_put, if_neg (by omega)]; exact hC.1, fun j hj => by rw [lj_put_1, if_neg (by omega)]; exact hC.2 j hj⟩ hM (a + 1) (by omega) (by rw [lj_put_1, if_pos ⟨rfl, rfl⟩]) hE hE2
            rw [y4]
            simp only []
            rw [lj_put_put]
            exact go y a' (b a) (by omega) (fun z => (y3 z).1)
          · rw [if_neg c4]
            exact go (b a) (a + 1) (b a) (by omega) (fun _ => by omega)
def mLq (k j : Nat) : Bool := mAd k j || (k == 0 && j == 67)
theorem cm_quote_loop {b : Nat → Int32} {n : Nat} (hb : tB b n) (σ0 τ0 : lj_S) (hC0 : tC σ0 b n) (hM0 : tM τ0 b n) (X : List Int32 → Prop) (h : sR σ0 τ0 X) (T : Nat) (hT : lv σ0 4 4 = (T : Int)) (hT2 : T < 1502) (g1 : lv σ0 3 7 < 2600) (g2 : lv σ0 3 8 ≤ 39000) (g3 : lv τ0 0 14 < 3000) (g4 : lv τ0 0 8 ≤ 39000) (k : Nat) (q : Int32) (hq : q = 34 ∨ q = 39) : ∀ (m a : Nat) (σ τ : lj_S) (D : List Int32) (x4 : Value), n - a < m → k < a → a ≤ n → (∀ i, k ≤ i → i < a → b i ≠ 10) → σ.1 4 2 = Int32.ofNat a → lf cAd (cAt σ0 b k) (lj_put σ 4 2 (Int32.ofNat k)) → lf mLq τ0 τ → τ.1 0 67 = 7 → cDr σ D → mDr τ D → D.length ≤ 201 → D.length < a - k →
    rdR b n X σ0 τ0 T k (lj_D lc_P lc_M49 36 [.ref 4, .int (Int32.ofNat k), .int q, .int 1, x4] [] σ) (lj_D lm_P lm_M22 21 [.ref 0, .int (Int32.ofNat k), .int q, .int (Int32.ofNat a)] [] τ)
  | 0, a, σ, τ, D, x4, hm, _, _, _, _, _, _, _, _, _, _, _ => by omega
  | m + 1, a, σ, τ, D, x4, hm, hka, ha, h10, h2, hF, hG, h67, hD, hD', h201, hDa0 => by
    have hn := hb.1
    have e200 : (200 : Int32).toInt = 200 := by decide
    have z0 : (0 : Int32).toInt = 0 := rfl
    have hCo : ∀ j, j ≠ 2 → σ.1 4 j = (cAt σ0 b k).1 4 j := fun j hj => by
      have := (hF 4 j (by simp [cAd])).1
      rwa [lj_put_1, if_neg (by omega)] at this
    have hC : tC σ b n := by
      refine ⟨?_, fun i hi => ?_⟩
      · unfold lv; rw [hCo 1 (by omega), cAt_o _ _ _ (by omega)]; exact hC0.1
      · have := (hF 17 i rfl).1
        rw [lj_put_1, if_neg (by omega), cAt_o _ _ _ (by omega)] at this
        rw [this]; exact hC0.2 i hi
    have hM : tM τ b n := ⟨by rw [hG.v (by rfl)]; exact hM0.1, fun i hi => by rw [(hG 1 i rfl).1]; exact hM0.2 i hi⟩
    have hqn : q ≠ -1 ∧ q ≠ 10 := by rcases hq with e | e <;> rw [e] <;> decide
    -- both end badly
    have bad : ∀ σ' τ', lf cAd (cAt σ0 b k) (lj_put σ' 4 2 (Int32.ofNat k)) → lf mLq τ0 τ' → τ'.1 0 67 = 7 → rdR b n X σ0 τ0 T k (some (.inl (some (.int 0)), lj_put σ' 4 2 (Int32.ofNat k))) (some (.inl none, τ')) := by
      intro σ' τ' f g h7
      have hun := cUn_at (lj_put σ' 4 2 (Int32.ofNat k)) σ0 b k (by rw [lj_put_1, if_pos ⟨rfl, rfl⟩]) (by rw [(f 4 3 rfl).1, cAt_3])
      have fu := cUn_lf f
      have fm : lf mDx τ0 τ' := g.mo (fun k j z => by simp [mDx] at z; simp [mLq, mAd]; omega)
      obtain ⟨hR, hS⟩ := sR_dx h (fu.mo (fun k j z => by simp [cDx] at z; simp [cAd]; omega)) fm
      have v7 := fu.v (k := 3) (j := 7) rfl
      have v8 := fu.v (k := 3) (j := 8) rfl
      have w14 := fm.v (k := 0) (j := 14) rfl
      have w8 := fm.v (k := 0) (j := 8) rfl
      exact ⟨_, τ', fu.mo (fun k j z => by simp [cLx] at z; exact z.1), g.mo (fun k j z => by simp [mLx] at z; simp [mLq]; exact ⟨z.1.1, fun e => (z.2 e).1.1⟩), hR, hS, by omega, by omega, by omega, by omega, rfl, Or.inr ⟨by rw [← hun], h7⟩⟩
    have m163 : ∀ x3 τ', lj_D lm_P lm_M22 163 [.ref 0, .int (Int32.ofNat k), .int q, .int x3] [] τ' = some (.inl none, τ') := fun x3 τ' => by rw [km_22_163]
    have m118 : b a ≠ q → lj_D lm_P lm_M22 118 [.ref 0, .int (Int32.ofNat k), .int q, .int (Int32.ofNat a)] [] τ = some (.inl none, τ) := fun hne => by
      rw [km_22_118, if_neg (by rw [lz_lt, lz_lit (by omega), z0]; omega), m_at hb hM a (by omega)]
      unfold lj_bi
      simp only []
      rw [if_neg hne, m163]
    rw [kc_49_36, if_neg (by decide), h2, c_byteAt hb hC a (by omega), km_22_21, if_neg (by rw [lz_lt, lz_lit (by omega), z0]; omega)]
    unfold lj_bi
    simp only []
    rcases Nat.lt_or_ge a n with han | han
    · rw [if_neg (show ¬ (τ.1 0 2 ≤ Int32.ofNat a) by rw [lz_le, lv_def, hM.1, lz_lit (by omega)]; omega)]
      have hin : lj_in (Int32.ofNat a) 6000 := lz_in.2 (by rw [lz_lit (by omega)]; omega)
      simp only [if_pos hin, lz_onat (show a < 2147483648 by omega), hM.2 a han]
      have hb0 := hb.2.1 a han
      by_cases c1 : b a = q
      · rw [if_pos c1, if_pos c1, kc_49_134, if_neg (by decide), km_22_118, if_neg (show ¬ (Int32.ofNat a < 0) by rw [lz_lt, lz_lit (by omega), z0]; omega), m_at hb hM a (by omega)]
        unfold lj_bi
        simp only []
        rw [if_pos c1]
        by_cases l2 : D.length ≤ 200
        · rw [if_pos (show σ.1 3 6 ≤ 200 by rw [lz_le, lv_def, hD.1, e200]; omega), if_neg (show ¬ (200 < τ.1 0 20) by rw [lz_lt, lv_def, hD'.1, e200]; omega), h2, lz_osucc]
          have fC : lf cDx σ0 (lj_put σ 4 2 (Int32.ofNat (a + 1))) := by
            have := lf_put ((cAt_dx σ0 b k).tr (hF.mo (fun k j z => by simp [cDx] at z; simp [cAd]; omega))) 4 2 (Int32.ofNat (a + 1)) rfl
            rwa [lj_put_put] at this
          have fM : lf mDx τ0 (lj_put τ 0 67 3) := lf_put (hG.mo (fun k j z => by simp [mDx] at z; simp [mLq, mAd]; omega)) _ _ _ rfl
          obtain ⟨hR2, hG2⟩ := sR_dx h fC fM
          have v7 := fC.v (k := 3) (j := 7) rfl
          have v8 := fC.v (k := 3) (j := 8) rfl
          have w14 := fM.v (k := 0) (j := 14) rfl
          have w8 := fM.v (k := 0) (j := 8) rfl
          obtain ⟨σ3, τ3, s, s', y1, y2, y3, y4, y5, y6, y7, y8, y9, y10, y11, y12, y13⟩ := cm_settle (lj_put σ 4 2 (Int32.ofNat (a + 1))) (lj_put τ 0 67 3) X hR2 (D := D) ⟨by rw [lv_put, if_neg (by omega)]; exact hD.1, fun i x z => by rw [lj_put_1, if_neg (by omega)]; exact hD.2.1 i x z, hD.2.2⟩ ⟨by rw [lv_put, if_neg (by omega)]; exact hD'.1, fun i x => by rw [lj_put_1, if_neg (by omega)]; exact hD'.2.1 i x, hD'.2.2⟩ (by omega) (by omega) (by omega) (by omega) (by omega)
          have f3 : lf cLx (cAt σ0 b k) (lj_put σ3 4 2 (Int32.ofNat k)) := by
            have := lf_both y6 4 2 (Int32.ofNat k)
            rw [lj_put_put] at this
            exact (hF.mo (fun k j z => by simp [cLx] at z; exact z.1)).tr (this.mo (fun k j z => by simp [cLx] at z; exact z.2))
          have hun := cUn_at (lj_put σ3 4 2 (Int32.ofNat k)) σ0 b k (by rw [lj_put_1, if_pos ⟨rfl, rfl⟩]) (by rw [(f3 4 3 rfl).1, cAt_3])
          have fu := cUn_lf f3
          have o42 : σ3.1 4 2 = Int32.ofNat (a + 1) := by rw [(y6 4 2 rfl).1, lj_put_1, if_pos ⟨rfl, rfl⟩]
          have o44 : lv σ3 4 4 = (T : Int) := by
            rw [y6.v (by rfl), lv_put, if_neg (by omega)]; unfold lv; rw [hCo 4 (by omega), cAt_o _ _ _ (by omega)]; exact hT
          have dxU : lf cDx σ3 (cUn (lj_put σ3 4 2 (Int32.ofNat k)) σ0) := lf_put (lf_put (lf_put (lf_rf _ _) _ _ _ rfl) _ _ _ rfl) _ _ _ rfl
          have dxT : lf mDx τ3 (lj_put (lj_putL τ3 0 68 ((Int32.ofNat s').toInt64)) 0 69 (Int32.ofNat (a + 1))) := lf_put (lf_putL (lf_rf _ _) _ _ _ rfl) _ _ _ rfl
          obtain ⟨hR4, hG4⟩ := sR_dx y4 dxU dxT
          have u7 := dxU.v (k := 3) (j := 7) rfl
          have u8 := dxU.v (k := 3) (j := 8) rfl
          have t14 := dxT.v (k := 0) (j := 14) rfl
          have t8 := dxT.v (k := 0) (j := 8) rfl
          have gM : lf mLx τ0 τ3 := (lf_put (hG.mo (fun k j z => by simp [mLx] at z; simp [mLq]; exact ⟨z.1.1, fun e => (z.2 e).1.1⟩)) 0 67 3 rfl).tr (y7.mo (fun k j z => by simp [mLx] at z; exact z.1.2))
          rw [y1, y2]
          simp only []
          rw [c_put σ3 T o44 hT2, m163]
          unfold lj_bv
          simp only []
          refine ⟨_, _, fu, lf_put (lf_putL gM _ _ _ rfl) _ _ _ rfl, hR4, (hG2.tr y5).tr hG4, by omega, by omega, by omega, by omega, rfl, Or.inl ⟨a + 1, 3, (Int32.ofNat s).toInt64, by omega, by omega, ?_, by omega, by omega, ?_, ?_, ?_⟩⟩
          · refine tN_eq' (by omega) (fun i x z => ?_)
            by_cases e : i = a
            · rw [e, c1]; exact hqn.2
            · exact h10 i x (by omega)
          · rw [← hun, ← cTok_comm, lj_put_put, lj_put_self _ _ _ _ o42]
          · rw [lj_put_1, if_pos ⟨rfl, rfl⟩]
          · refine Or.inr (Or.inr (Or.inl ⟨Or.inr ⟨rfl, ?_⟩, s, s', y12, y13, rfl, ?_, y3.up hG4⟩))
            · rw [lj_put_1, if_neg (by omega), lj_putL_1, (y7 0 67 rfl).1, lj_put_1, if_pos ⟨rfl, rfl⟩]
            · rw [lj_put_2, lj_putL_2, if_pos ⟨rfl, rfl⟩]
        · rw [if_neg (show ¬ (σ.1 3 6 ≤ 200) by rw [lz_le, lv_def, hD.1, e200]; omega), if_pos (show 200 < τ.1 0 20 by rw [lz_lt, lv_def, hD'.1, e200]; omega), kc_49_154, m163]
          exact bad σ τ hF hG h67
      · rw [if_neg c1, if_neg c1, h2, c_byteAt hb hC a (by omega)]
        simp only []
        have c2 : b a ≠ -1 := fun e => by rw [e, lz_m1] at hb0; omega
        rw [if_neg c2]
        by_cases c3 : b a = 10
        · rw [if_pos c3, if_pos c3, kc_49_75, kc_49_131, c_quote_0, m118 c1]
          exact bad σ τ hF hG h67
        · rw [if_neg c3, if_neg c3]
          by_cases l2 : D.length ≤ 200
          · rw [if_neg (show ¬ (200 < τ.1 0 20) by rw [lz_lt, lv_def, hD'.1, e200]; omega), h2, lz_osucc]
            have go : ∀ (y : Int32) (a' : Nat) (x4 : Int32), a < a' → 0 ≤ y → a' ≤ n → (∀ i, a < i → i < a' → b i ≠ 10) → rdR b n X σ0 τ0 T k (lj_D lc_P lc_M49 106 [.ref 4, .int (Int32.ofNat k), .int q, .int 1, .int x4] [.int y] (lj_put σ 4 2 (Int32.ofNat a'))) (lj_D lm_P lm_M22 21 [.ref 0, .int (Int32.ofNat k), .int q, .int (Int32.ofNat a')] [] (m_dig τ y)) := by
              intro y a' x4 i1 i2 i3 i4
              have hDa : cDr (lj_put σ 4 2 (Int32.ofNat a')) D := ⟨by rw [lv_put, if_neg (by omega)]; exact hD.1, fun i x z => by rw [lj_put_1, if_neg (by omega)]; exact hD.2.1 i x z, hD.2.2⟩
              obtain ⟨σ1, s1, s2, s3⟩ := c_add (lj_put σ 4 2 (Int32.ofNat a')) y hDa (by omega)
              obtain ⟨d1, d2, d3⟩ := mDr_dig hD' (by omega) y
              have f1 := lf_both s3 4 2 (Int32.ofNat k)
              rw [lj_put_put] at f1
              rw [kc_49_106, if_neg (by rw [lz_lt, z0]; rw [lz_le, z0] at i2; omega), kc_49_118, s1]
              unfold lj_bv
              simp only []
              rw [kc_49_131]
              exact cm_quote_loop hb σ0 τ0 hC0 hM0 X h T hT hT2 g1 g2 g3 g4 k q hq m a' σ1 (m_dig τ y) (D ++ [lz_by y]) (.int y) (by omega) (by omega) i3 (fun i x z => by
                by_cases e : i < a
                · exact h10 i x e
                · by_cases e2 : i = a
                  · rw [e2]; exact c3
                  · exact i4 i (by omega) z) (by rw [(s3 4 2 rfl).1, lj_put_1, if_pos ⟨rfl, rfl⟩]) (hF.tr f1) (hG.tr (d2.mo (fun k j z => by simp [mLq] at z; exact z.1))) (by rw [(d2 0 67 rfl).1]; exact h67) s2 d1 (by simp; omega) (by simp; omega)
            by_cases c4 : b a = 92
            · rw [if_pos c4, if_pos c4]
              obtain ⟨y, a', y1, y2, y3, y4, y5⟩ := cm_escape hb (lj_put σ 4 2 (Int32.ofNat (a + 1))) τ ⟨by rw [lv_put, if_neg (by omega)]; exact hC.1, fun j hj => by rw [lj_put_1, if_neg (by omega)]; exact hC.2 j hj⟩ hM (a + 1) (by omega) (by rw [lj_put_1, if_pos ⟨rfl, rfl⟩]) hD' (by omega)
              rw [y4, y5]
              simp only []
              rw [lj_put_put]
              by_cases hy : 0 ≤ y
              · rw [if_pos hy]
                simp only []
                exact go y a' (b a) (by omega) hy (y3 hy).1 (fun i x z => (y3 hy).2 i (by omega) z)
              · have hyn : y < 0 := by rw [lz_lt, z0]; rw [lz_le, z0] at hy; omega
                rw [if_neg hy]
                simp only []
                have hDa : cDr (lj_put σ 4 2 (Int32.ofNat a')) D := ⟨by rw [lv_put, if_neg (by omega)]; exact hD.1, fun i x z => by rw [lj_put_1, if_neg (by omega)]; exact hD.2.1 i x z, hD.2.2⟩
                obtain ⟨σ1, s1, s2, s3⟩ := c_add (lj_put σ 4 2 (Int32.ofNat a')) y hDa (by omega)
                have f1 := lf_both s3 4 2 (Int32.ofNat k)
                rw [lj_put_put] at f1
                rw [kc_49_106, if_pos hyn, kc_49_118, s1]
                unfold lj_bv
                simp only []
                rw [kc_49_131, c_quote_0, km_22_21, if_pos (by decide), km_22_118, if_pos (by decide), m163]
                exact bad σ1 τ (hF.tr f1) hG h67
            · rw [if_neg c4, if_neg c4, if_pos (mDr_dig hD' (by omega) (b a)).2.2]
              have e : vp_nar .byte ((b a).toInt8.toInt32) = lz_by (b a) := lz_by2 (b a)
              rw [e]
              exact go (b a) (a + 1) (b a) (by omega) (by rw [lz_le, z0]; omega) (by omega) (fun i x z => by omega)
          · rw [if_pos (show 200 < τ.1 0 20 by rw [lz_lt, lv_def, hD'.1, e200]; omega), m118 c1]
            obtain ⟨σ', r1, r2⟩ := c_quote_rest hb τ hM hD' (by omega) (Int32.ofNat k) q (n - a + 1) a σ D x4 (by omega) ha (by omega) hC h2 hD (by omega)
            rw [kc_49_36, if_neg (by decide), h2, c_byteAt hb hC a (by omega)] at r1
            unfold lj_bi at r1
            simp only [] at r1
            rw [if_neg c1, h2, c_byteAt hb hC a (by omega)] at r1
            simp only [] at r1
            rw [if_neg c2, if_neg c3, h2] at r1
            rw [h2, r1]
            exact bad σ' τ (hF.tr r2) hG h67
    · have hba := hb.2.2 a han
      have c1 : b a ≠ q := by rw [hba]; exact hqn.1.symm
      rw [if_pos (show τ.1 0 2 ≤ Int32.ofNat a by rw [lz_le, lv_def, hM.1, lz_lit (by omega)]; omega), m118 c1, if_neg c1, h2, c_byteAt hb hC a (by omega)]
      simp only []
      rw [if_pos hba, kc_49_75, kc_49_131, c_quote_0]
      exact bad σ τ hF hG h67
theorem cm_readQuote {b : Nat → Int32} {n : Nat} (hb : tB b n) (σ τ : lj_S) (hC : tC σ b n) (hM : tM τ b n) (X : List Int32 → Prop) (h : sR σ τ X) (T : Nat) (hT : lv σ 4 4 = (T : Int)) (hT2 : T < 1502) (c1 : lv σ 3 7 < 2600) (c2 : lv σ 3 8 ≤ 39000) (c3 : lv τ 0 14 < 3000) (c4 : lv τ 0 8 ≤ 39000) (k : Nat) (hl : b k = 34 ∨ b k = 39) :
    rdR b n X σ τ T k (lj_R lc_P 49 [.ref 4] (cAt σ b k)) (lj_R lm_P 22 [.ref 0, .int (Int32.ofNat k)] τ) := by
  have hn := hb.1
  have hk : k < n := by
    rcases Nat.lt_or_ge k n with z | z
    · exact z
    · rw [hb.2.2 k z] at hl; exact absurd hl (by decide)
  rw [rc_49, kc_49_0, cAt_2, c_byteAt hb (tC_at hC k) k (by omega), rm_22, km_22_0, m_at hb hM k (by omega)]
  unfold lj_bi
  simp only []
  rw [c_begin, cAt_2, lz_osucc]
  unfold lj_bv
  simp only []
  refine cm_quote_loop hb σ τ hC hM X h T hT hT2 c1 c2 c3 c4 k (b k) hl (n + 1) (k + 1) _ _ [] _ (by omega) (by omega) (by omega) (fun i x z => ?_) ?_ ?_ ?_ ?_ (cDr_begin _) ?_ (by simp) (by show 0 < k + 1 - k; omega)
  · rw [show i = k by omega]; rcases hl with e | e <;> rw [e] <;> decide
  · rw [lj_put_1, if_neg (by omega), lj_put_1, if_pos ⟨rfl, rfl⟩]
  · rw [lj_put_comm _ 3 6 4 2 _ _ (by omega), lj_put_put, lj_put_self _ 4 2 _ (cAt_2 _ _ _)]
    exact lf_put (lf_rf _ _) _ _ _ rfl
  · exact lf_put (lf_put (lf_rf _ _) _ _ _ rfl) _ _ _ rfl
  · rw [lj_put_1, if_pos ⟨rfl, rfl⟩]
  · rw [lj_put_comm _ 0 20 0 67 _ _ (by omega)]; exact mDr_begin _
