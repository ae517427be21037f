theorem lDig_ex {c : Int32} (h : lDig c) : ∃ j : Fin 10, c = Int32.ofNat (48 + j.val) := by
  refine ⟨⟨(c.toInt - 48).toNat, by omega⟩, lz_ext ?_⟩
  rw [lz_lit (by simp; omega)]
  simp; omega
theorem lDig_1 {c : Int32} (h : lDig c) : (c - 48).toInt64 = c.toInt64 - 48 := by
  obtain ⟨j, e⟩ := lDig_ex h
  subst e
  revert j; decide
theorem lDig_2 {c : Int32} (h : lDig c) : (8 ≤ c - 48) ↔ 55 < c := by
  obtain ⟨j, e⟩ := lDig_ex h
  subst e
  revert j; decide
theorem c_dec_loop {b : Nat → Int32} {n : Nat} (hb : tB b n) (σ : lj_S) (hC : tC σ b n) (x1 : Int32) (k' : Nat) (hk' : k' ≤ n) (hx : ¬ lDig (b k')) : ∀ (m k : Nat) (g : Int32) (v : Int64) (c : Nat) (x7 : Value), k + m = k' → (∀ i, k ≤ i → i < k' → lDig (b i)) → ∃ x7', lj_D lc_P lc_M47 67 [.ref 4, .int x1, .long v, .retAddr 0, .int (Int32.ofNat c), .int g, .int 0, x7] [] (cAt σ b k) = lj_D lc_P lc_M47 200 [.ref 4, .int x1, .long (dcF b g v k m).2, .retAddr 0, .int (Int32.ofNat (c + m)), .int (dcF b g v k m).1, .int 0, x7'] [] (cAt σ b k')
  | 0, k, g, v, c, x7, hk, _ => by
    have hn := hb.1
    have e : k = k' := by omega
    subst e
    refine ⟨x7, ?_⟩
    rw [kc_47_67, if_pos rfl, cAt_2, c_byteAt hb (tC_at hC k) k (by omega)]
    unfold lj_bi
    simp only []
    rw [c_isDigit]
    simp only []
    rw [if_neg hx, if_pos rfl]
    rfl
  | m + 1, k, g, v, c, x7, hk, hr => by
    have hn := hb.1
    have q := hr k (by omega) (by omega)
    have hCk := tC_at hC k
    have eh : lHex (b k) = b k - 48 := by unfold lHex; rw [if_pos q]
    obtain ⟨x7', ih⟩ := c_dec_loop hb σ hC x1 k' hk' hx m (k + 1) (dcG g v (b k)) (10 * v + (b k - 48).toInt64) (c + 1) (.int (b k - 48)) (by omega) (fun i a z => hr i (by omega) z)
    have fin : ∀ g2 : Int32, g2 = dcG g v (b k) → lj_D lc_P lc_M47 157 [.ref 4, .int x1, .long v, .retAddr 0, .int (Int32.ofNat c), .int g, .int 0, .int (b k - 48)] [.int g2] (cAt σ b k) = lj_D lc_P lc_M47 200 [.ref 4, .int x1, .long (dcF b g v k (m + 1)).2, .retAddr 0, .int (Int32.ofNat (c + (m + 1))), .int (dcF b g v k (m + 1)).1, .int 0, x7'] [] (cAt σ b k') := fun g2 h2 => by
      rw [h2, kc_47_157, if_pos rfl, kc_47_183, cAt_2, lz_osucc, lz_osucc, cAt_up σ b k (k + 1) (tN_eq' (by omega) (fun i a z => by rw [show i = k by omega]; exact (lNm_10 (Or.inr q)).1)), ih]
      rw [show c + 1 + m = c + (m + 1) by omega]
      rfl
    refine ⟨x7', ?_⟩
    rw [kc_47_67, if_pos rfl, cAt_2, c_byteAt hb hCk k (by omega)]
    unfold lj_bi
    simp only []
    rw [c_isDigit]
    simp only []
    rw [if_pos q, if_neg (by decide), kc_47_105, cAt_2, c_byteAt hb hCk k (by omega)]
    unfold lj_bi
    simp only []
    rw [c_hexOf]
    simp only []
    rw [eh]
    by_cases g0 : g = 0
    · rw [if_pos g0, kc_47_156, fin 0 (by unfold dcG; rw [if_pos g0])]
    · rw [if_neg g0, if_pos trivial]
      simp only [lg_cmp_lt, lg_cmp_eq]
      by_cases v1 : v < 922337203685477580
      · rw [if_pos v1, kc_47_152, fin 1 (by unfold dcG; rw [if_neg g0, if_pos v1])]
      · rw [if_neg v1]
        by_cases v2 : v = 922337203685477580
        · rw [if_pos v2]
          by_cases v3 : 8 ≤ b k - 48
          · rw [if_pos v3, kc_47_156, fin 0 (by unfold dcG; rw [if_neg g0, if_neg v1, if_pos v2, if_pos v3])]
          · rw [if_neg v3, kc_47_152, fin 1 (by unfold dcG; rw [if_neg g0, if_neg v1, if_pos v2, if_neg v3])]
        · rw [if_neg v2, kc_47_156, fin 0 (by unfold dcG; rw [if_neg g0, if_neg v1, if_neg v2])]
theorem m_dec_loop {b : Nat → Int32} {n : Nat} (hb : tB b n) (τ : lj_S) (hM : tM τ b n) (f k' : Nat) (hk' : k' ≤ n) (hx : ¬ lDig (b k')) (hf : f ≤ k') : ∀ (m k : Nat) (g : Int32) (v : Int64), k + m = k' → (∀ i, k ≤ i → i < k' → lDig (b i)) → lj_D lm_P lm_M20 92 [.ref 0, .int (Int32.ofNat f), .int (Int32.ofNat k), .long v, .retAddr 0, .int g, .retAddr 0] [] τ = lj_D lm_P lm_M20 184 [.ref 0, .int (Int32.ofNat f), .int (Int32.ofNat k'), .long (dcF b g v k m).2, .retAddr 0, .int (if (dcF b g v k m).1 ≠ 0 ∧ k' - f ≤ 19 then 1 else 0), .retAddr 0] [] τ
  | 0, k, g, v, hk, _ => by
    have hn := hb.1
    have e : k = k' := by omega
    subst e
    have e19 : (19 : Int32).toInt = 19 := by decide
    rw [km_20_92, m_at hb hM k (by omega)]
    unfold lj_bi
    simp only []
    rw [m_isDigit]
    simp only []
    rw [if_neg hx, if_pos rfl, lz_osub hf (by omega)]
    show _ = lj_D lm_P lm_M20 184 [.ref 0, .int (Int32.ofNat f), .int (Int32.ofNat k), .long v, .retAddr 0, .int (if g ≠ 0 ∧ k - f ≤ 19 then 1 else 0), .retAddr 0] [] τ
    by_cases g0 : g = 0
    · rw [if_pos g0, km_20_181, km_20_182, if_neg (fun z => z.1 g0)]
    · rw [if_neg g0]
      by_cases q2 : k - f ≤ 19
      · rw [if_neg (by rw [lz_lt, lz_lit (by omega), e19]; omega), km_20_182, if_pos ⟨g0, q2⟩]
      · rw [if_pos (by rw [lz_lt, lz_lit (by omega), e19]; omega), km_20_181, km_20_182, if_neg (fun z => q2 z.2)]
  | m + 1, k, g, v, hk, hr => by
    have hn := hb.1
    have q := hr k (by omega) (by omega)
    have ih := m_dec_loop hb τ hM f k' hk' hx hf m (k + 1) (dcG g v (b k)) (10 * v + (b k - 48).toInt64) (by omega) (fun i a z => hr i (by omega) z)
    have ev : 10 * v + (b k).toInt64 - 48 = 10 * v + (b k - 48).toInt64 := by
      rw [lDig_1 q, Int64.sub_eq_add_neg, Int64.sub_eq_add_neg, Int64.add_assoc]
    have fin : ∀ g2 : Int32, g2 = dcG g v (b k) → lj_D lm_P lm_M20 139 [.ref 0, .int (Int32.ofNat f), .int (Int32.ofNat k), .long v, .retAddr 0, .int g, .retAddr 0] [.int g2] τ = lj_D lm_P lm_M20 184 [.ref 0, .int (Int32.ofNat f), .int (Int32.ofNat k'), .long (dcF b g v k (m + 1)).2, .retAddr 0, .int (if (dcF b g v k (m + 1)).1 ≠ 0 ∧ k' - f ≤ 19 then 1 else 0), .retAddr 0] [] τ := fun g2 h2 => by
      rw [h2, km_20_139, m_at hb hM k (by omega)]
      unfold lj_bi
      simp only []
      rw [ev, lz_osucc]
      exact ih
    rw [km_20_92, m_at hb hM k (by omega)]
    unfold lj_bi
    simp only []
    rw [m_isDigit]
    simp only []
    rw [if_pos q, if_neg (by decide)]
    by_cases g0 : g = 0
    · rw [if_pos g0, km_20_138, fin 0 (by unfold dcG; rw [if_pos g0])]
    · rw [if_neg g0]
      simp only [lg_cmp_lt, lg_cmp_eq]
      by_cases v1 : v < 922337203685477580
      · rw [if_pos v1, km_20_134, fin 1 (by unfold dcG; rw [if_neg g0, if_pos v1])]
      · rw [if_neg v1]
        by_cases v2 : v = 922337203685477580
        · rw [if_pos v2, m_at hb hM k (by omega)]
          simp only []
          by_cases v3 : 55 < b k
          · rw [if_pos v3, km_20_138, fin 0 (by unfold dcG; rw [if_neg g0, if_neg v1, if_pos v2, if_pos ((lDig_2 q).2 v3)])]
          · rw [if_neg v3, km_20_134, fin 1 (by unfold dcG; rw [if_neg g0, if_neg v1, if_pos v2, if_neg (fun z => v3 ((lDig_2 q).1 z))])]
        · rw [if_neg v2, km_20_138, fin 0 (by unfold dcG; rw [if_neg g0, if_neg v1, if_neg v2])]
theorem c_whole_end {b : Nat → Int32} {n : Nat} (hb : tB b n) (σ : lj_S) (hC : tC σ b n) (T : Nat) (hT : lv σ 4 4 = (T : Int)) (hT2 : T < 1502) (k k' c : Nat) (hk' : k' ≤ n) (hc : c ≤ n) (v : Int64) (g x6 : Int32) (x7 : Value) : lj_D lc_P lc_M47 200 [.ref 4, .int (Int32.ofNat k), .long v, .retAddr 0, .int (Int32.ofNat c), .int g, .int x6, x7] [] (cAt σ b k') = (if g ≠ 0 ∧ 0 < c ∧ c ≤ (if x6 = 0 then 19 else 16) ∧ ¬ lNm (b k') then some (.inl (some (.int 1)), cTok (cAt σ b k') T 2 v k) else some (.inl (some (.int 0)), lj_put (cAt σ b k') 4 2 (Int32.ofNat k))) := by
  have hn := hb.1
  have hCk := tC_at hC k'
  have e19 : (19 : Int32).toInt = 19 := by decide
  have e16 : (16 : Int32).toInt = 16 := by decide
  have bad : lj_D lc_P lc_M47 261 [.ref 4, .int (Int32.ofNat k), .long v, .retAddr 0, .int (Int32.ofNat c), .int g, .int x6, x7] [] (cAt σ b k') = some (.inl (some (.int 0)), lj_put (cAt σ b k') 4 2 (Int32.ofNat k)) := by
    rw [kc_47_261, kc_47_262, if_pos rfl]
  rw [kc_47_200]
  by_cases g0 : g = 0
  · rw [if_pos g0, bad, if_neg (fun z => z.1 g0)]
  · rw [if_neg g0]
    by_cases c0 : 0 < c
    · rw [if_neg (by rw [lz_le, lz_lit (by omega), show (0 : Int32).toInt = 0 from rfl]; omega)]
      have tl : ∀ (L : Int32) (l : Nat), L.toInt = (l : Int) → lj_D lc_P lc_M47 224 [.ref 4, .int (Int32.ofNat k), .long v, .retAddr 0, .int (Int32.ofNat c), .int g, .int x6, x7] [.int L, .int (Int32.ofNat c)] (cAt σ b k') = (if c ≤ l ∧ ¬ lNm (b k') then some (.inl (some (.int 1)), cTok (cAt σ b k') T 2 v k) else some (.inl (some (.int 0)), lj_put (cAt σ b k') 4 2 (Int32.ofNat k))) := fun L l hL => by
        rw [kc_47_224]
        by_cases cl : c ≤ l
        · rw [if_neg (by rw [lz_lt, lz_lit (by omega), hL]; omega), cAt_2, c_byteAt hb hCk k' (by omega)]
          unfold lj_bi
          simp only []
          rw [c_isLetter]
          simp only []
          by_cases q1 : lLet (b k')
          · rw [if_pos q1, if_neg (by decide), bad, if_neg (fun z => z.2 (Or.inl q1))]
          · rw [if_neg q1, if_pos rfl, cAt_2, c_byteAt hb hCk k' (by omega)]
            simp only []
            rw [c_isDigit]
            simp only []
            by_cases q2 : lDig (b k')
            · rw [if_pos q2, if_neg (by decide), bad, if_neg (fun z => z.2 (Or.inr q2))]
            · rw [if_neg q2, if_pos rfl, kc_47_262, if_neg (by decide), c_put (cAt σ b k') T (by unfold lv; rw [cAt_o _ _ _ (by omega)]; exact hT) hT2, if_pos ⟨cl, fun z => z.elim q1 q2⟩]
              rfl
        · rw [if_pos (by rw [lz_lt, lz_lit (by omega), hL]; omega), bad, if_neg (fun z => cl z.1)]
      by_cases x0 : x6 = 0
      · rw [if_pos x0, tl 19 19 e19, if_pos x0]
        by_cases z : c ≤ 19 ∧ ¬ lNm (b k')
        · rw [if_pos z, if_pos ⟨g0, c0, z.1, z.2⟩]
        · rw [if_neg z, if_neg (fun y => z ⟨y.2.2.1, y.2.2.2⟩)]
      · rw [if_neg x0, tl 16 16 e16, if_neg x0]
        by_cases z : c ≤ 16 ∧ ¬ lNm (b k')
        · rw [if_pos z, if_pos ⟨g0, c0, z.1, z.2⟩]
        · rw [if_neg z, if_neg (fun y => z ⟨y.2.2.1, y.2.2.2⟩)]
    · rw [if_pos (by rw [lz_le, lz_lit (by omega), show (0 : Int32).toInt = 0 from rfl]; omega), bad, if_neg (fun z => c0 z.2.1)]
theorem m_whole_end {b : Nat → Int32} {n : Nat} (hb : tB b n) (τ : lj_S) (hM : tM τ b n) (x1 : Int32) (k' : Nat) (hk' : k' ≤ n) (v : Int64) (g : Int32) (x6 : Value) : lj_D lm_P lm_M20 184 [.ref 0, .int x1, .int (Int32.ofNat k'), .long v, .retAddr 0, .int g, x6] [] τ = some (.inl none, lj_put (lj_putL (lj_put τ 0 67 (if g ≠ 0 ∧ ¬ lNm (b k') then 2 else 7)) 0 68 v) 0 69 (Int32.ofNat k')) := by
  have hn := hb.1
  rw [km_20_184]
  by_cases g0 : g = 0
  · rw [if_pos g0, km_20_216, km_20_218, if_neg (fun z => z.1 g0)]
  · rw [if_neg g0, m_at hb hM k' (by omega)]
    unfold lj_bi
    simp only []
    rw [m_isLetter]
    simp only []
    by_cases q1 : lLet (b k')
    · rw [if_pos q1, if_neg (by decide), km_20_216, km_20_218, if_neg (fun z => z.2 (Or.inl q1))]
    · rw [if_neg q1, if_pos rfl, m_at hb hM k' (by omega)]
      simp only []
      rw [m_isDigit]
      simp only []
      by_cases q2 : lDig (b k')
      · rw [if_pos q2, if_neg (by decide), km_20_216, km_20_218, if_neg (fun z => z.2 (Or.inr q2))]
      · rw [if_neg q2, if_pos rfl, km_20_218, if_pos ⟨g0, fun z => z.elim q1 q2⟩]
theorem cm_readWhole {b : Nat → Int32} {n : Nat} (hb : tB b n) (σ τ : lj_S) (hC : tC σ b n) (hM : tM τ b n) (X : List Int32 → Prop) (h : sR σ τ X) (T : Nat) (hT : lv σ 4 4 = (T : Int)) (hT2 : T < 1502) (k : Nat) (hl : lDig (b k)) :
    rdR b n X σ τ T k (lj_R lc_P 47 [.ref 4] (cAt σ b k)) (lj_R lm_P 20 [.ref 0, .int (Int32.ofNat k)] τ) := by
  have hn := hb.1
  have hkn : k < n := lNm_n hb (Or.inr hl)
  have hCk := tC_at hC k
  have two : Int32.ofNat k + 2 = Int32.ofNat (k + 2) := (Int32.ofNat_add k 2).symm
  -- the end of both
  have fin : ∀ (k' c : Nat) (v : Int64) (g x6 gm : Int32) (x1 : Int32) (x7 y6 : Value), k < k' → k' ≤ n → c ≤ n → tN b k' = tN b k → ((g ≠ 0 ∧ 0 < c ∧ c ≤ (if x6 = 0 then 19 else 16)) ↔ gm ≠ 0) → rdR b n X σ τ T k (lj_D lc_P lc_M47 200 [.ref 4, .int (Int32.ofNat k), .long v, .retAddr 0, .int (Int32.ofNat c), .int g, .int x6, x7] [] (cAt σ b k')) (lj_D lm_P lm_M20 184 [.ref 0, .int x1, .int (Int32.ofNat k'), .long v, .retAddr 0, .int gm, y6] [] τ) := by
    intro k' c v g x6 gm x1 x7 y6 h1 h2 h3 h4 h5
    rw [c_whole_end hb σ hC T hT hT2 k k' c h2 h3 v g x6 x7, m_whole_end hb τ hM x1 k' h2 v gm y6]
    generalize hkm : (if gm ≠ 0 ∧ ¬ lNm (b k') then (2 : Int32) else 7) = km
    have fM : lf mDx τ (lj_put (lj_putL (lj_put τ 0 67 km) 0 68 v) 0 69 (Int32.ofNat k')) := lf_put (lf_putL (lf_put (lf_rf _ _) _ _ _ rfl) _ _ _ rfl) _ _ _ rfl
    obtain ⟨hR, hG⟩ := sR_dx h (lf_rf cDx σ) fM
    refine ⟨σ, _, lf_rf _ _, lf_put (lf_putL (lf_put (lf_rf _ _) _ _ _ rfl) _ _ _ rfl) _ _ _ rfl, hR, hG, by omega, by omega, by rw [lv_put, if_neg (by omega), lv_putL, lv_put, if_neg (by omega)]; omega, by rw [lv_put, if_neg (by omega), lv_putL, lv_put, if_neg (by omega)]; omega, rfl, ?_⟩
    by_cases q : g ≠ 0 ∧ 0 < c ∧ c ≤ (if x6 = 0 then 19 else 16) ∧ ¬ lNm (b k')
    · rw [if_pos q]
      rw [if_pos ⟨h5.1 ⟨q.1, q.2.1, q.2.2.1⟩, q.2.2.2⟩] at hkm
      refine Or.inl ⟨k', 2, v, h1, h2, h4, by omega, by rw [lv_put, if_neg (by omega), lv_putL, lv_put, if_neg (by omega)]; omega, ?_, ?_, Or.inr (Or.inr (Or.inr ⟨rfl, ?_, ?_⟩))⟩
      · rw [← cTok_comm, cAt_up _ _ _ _ h4]
      · rw [lj_put_1, if_pos ⟨rfl, rfl⟩]
      · rw [lj_put_1, if_neg (by omega), lj_putL_1, lj_put_1, if_pos ⟨rfl, rfl⟩, hkm]
      · rw [lj_put_2, lj_putL_2, if_pos ⟨rfl, rfl⟩]
    · rw [if_neg q]
      rw [if_neg (fun z => q ⟨(h5.2 z.1).1, (h5.2 z.1).2.1, (h5.2 z.1).2.2, z.2⟩)] at hkm
      refine Or.inr ⟨?_, ?_⟩
      · rw [cAt_up _ _ _ _ h4.symm]
      · rw [lj_put_1, if_neg (by omega), lj_putL_1, lj_put_1, if_pos ⟨rfl, rfl⟩, hkm]
  -- decimal
  have dec : rdR b n X σ τ T k (lj_D lc_P lc_M47 45 [.ref 4, .int (Int32.ofNat k), .long 0, .retAddr 0, .int 0, .int 1, .retAddr 0, .retAddr 0] [] (cAt σ b k)) (lj_D lm_P lm_M20 92 [.ref 0, .int (Int32.ofNat k), .int (Int32.ofNat k), .long 0, .retAddr 0, .int 1, .retAddr 0] [] τ) := by
    obtain ⟨k', r1, r2, r3, r4⟩ := run_end hb lDig (by decide) (n - k + 1) k (by omega)
    have hk' : k' ≤ n := r2 (by omega)
    have hlt : k < k' := by
      rcases Nat.lt_or_ge k k' with q | q
      · exact q
      · rw [show k' = k by omega] at r4; exact absurd hl r4
    have htN : tN b k' = tN b k := tN_eq' (by omega) (fun i a c => (lNm_10 (Or.inr (r3 i a c))).1)
    obtain ⟨x7, e1⟩ := c_dec_loop hb σ hC (Int32.ofNat k) k' hk' r4 (k' - k) k 1 0 0 (.retAddr 0) (by omega) r3
    have z0 : (Value.int (0 : Int32)) = .int (Int32.ofNat 0) := rfl
    rw [kc_47_45, kc_47_46, if_pos rfl, kc_47_63, cAt_2, show Int32.ofNat k + 0 = Int32.ofNat k from Int32.add_zero _, lj_put_self _ 4 2 _ (cAt_2 _ _ _)]
    rw [show [Value.ref 4, .int (Int32.ofNat k), .long 0, .retAddr 0, .int 0, .int 1, .int 0, .retAddr 0] = [Value.ref 4, .int (Int32.ofNat k), .long 0, .retAddr 0, .int (Int32.ofNat 0), .int 1, .int 0, .retAddr 0] from rfl, e1, m_dec_loop hb τ hM k k' hk' r4 (by omega) (k' - k) k 1 0 (by omega) r3]
    refine fin k' (0 + (k' - k)) _ _ _ _ _ _ _ hlt hk' (by omega) htN ?_
    rw [if_pos rfl]
    constructor
    · rintro ⟨a1, a2, a3⟩
      rw [if_pos ⟨a1, by omega⟩]; decide
    · intro a
      by_cases q : (dcF b 1 0 k (k' - k)).1 ≠ 0 ∧ k' - k ≤ 19
      · exact ⟨q.1, by omega, by omega⟩
      · rw [if_neg q] at a; exact absurd rfl a
  rw [rc_47, kc_47_0, cAt_2, c_byteAt hb hCk k (by omega), rm_20, km_20_0, m_at hb hM k (by omega)]
  unfold lj_bi
  simp only []
  by_cases q : b k = 48
  · rw [if_pos q, if_pos q, cAt_2, lz_osucc, c_byteAt hb hCk (k + 1) (by omega), m_at hb hM (k + 1) (by omega)]
    simp only []
    by_cases q2 : b (k + 1) = 120
    · rw [if_pos q2, if_pos q2]
      have hk1 : k + 1 < n := lNm_n hb (Or.inl (by rw [q2]; decide))
      obtain ⟨k', r1, r2, r3, r4⟩ := run_end hb lHx (by decide) (n - (k + 2) + 1) (k + 2) (by omega)
      have hk' : k' ≤ n := r2 (by omega)
      have htN : tN b k' = tN b k := by
        refine tN_eq' (by omega) (fun i a c => ?_)
        by_cases i0 : i = k
        · rw [i0, q]; decide
        · by_cases i1 : i = k + 1
          · rw [i1, q2]; decide
          · exact (lNm_10 (lHx_n (r3 i (by omega) c))).1
      have ht2 : tN b (k + 2) = tN b k := by
        refine tN_eq' (by omega) (fun i a c => ?_)
        by_cases i0 : i = k
        · rw [i0, q]; decide
        · rw [show i = k + 1 by omega, q2]; decide
      obtain ⟨x7, e1⟩ := c_hex_loop hb σ hC (Int32.ofNat k) k' hk' r4 (k' - (k + 2)) (k + 2) 0 0 (.retAddr 0) (by omega) r3
      rw [kc_47_46, if_neg (by decide), kc_47_63, cAt_2, two, cAt_up σ b k (k + 2) ht2]
      rw [show [Value.ref 4, .int (Int32.ofNat k), .long 0, .retAddr 0, .int 0, .int 1, .int 1, .retAddr 0] = [Value.ref 4, .int (Int32.ofNat k), .long 0, .retAddr 0, .int (Int32.ofNat 0), .int 1, .int 1, .retAddr 0] from rfl, e1, m_hex_loop hb τ hM (Int32.ofNat k) 1 (k + 2) k' hk' r4 (by omega) (k' - (k + 2)) (k + 2) 0 (by omega) r3]
      refine fin k' (0 + (k' - (k + 2))) _ _ _ _ _ _ _ (by omega) hk' (by omega) htN ?_
      rw [if_neg (show ¬ (1 : Int32) = 0 by decide)]
      constructor
      · rintro ⟨a1, a2, a3⟩
        rw [if_pos ⟨by omega, by omega⟩]; decide
      · intro a
        by_cases q3 : k + 2 < k' ∧ k' - (k + 2) ≤ 16
        · exact ⟨by decide, by omega, by omega⟩
        · rw [if_neg q3] at a; exact absurd rfl a
    · rw [if_neg q2, if_neg q2]; exact dec
  · rw [if_neg q, if_neg q]; exact dec
