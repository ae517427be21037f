/-! what is built in: concat -/
theorem c_joins (σ : lj_S) (k : Int32) : lj_R lc_P 191 [.ref 8, .int k] σ = some (.inl (some (.int (if k = 3 ∨ k = 2 then 1 else 0))), σ) := by
  rw [rc_191, kc_191_0]
  by_cases z3 : k = 3
  · rw [if_pos z3, kc_191_10, kc_191_15, if_pos (Or.inl z3)]
    rfl
  · rw [if_neg z3]
    by_cases z2 : k = 2
    · rw [if_pos z2, kc_191_10, kc_191_15, if_pos (Or.inr z2)]
      rfl
    · rw [if_neg z2, kc_191_15, if_neg (fun y => y.elim z3 z2)]
      rfl
/-- both look whether all can be joined -/
theorem cc_chk {σ0 τ0 : lj_S} {n np p : Nat} {r : List Nat} {FP : Nat → List kF} {ρ : Nat → Nat} {A MO LA : List Nat} {o m : Nat} (o1 : 1 ≤ o) (on : o ≤ n) (hm : m ≤ 3000) {G G' : List vT} (as line : Int32) : ∀ (d k : Nat) (σ τ : lj_S) (X8 : Value), k + d = m → MB σ0 τ0 n np p r FP ρ A MO LA σ τ → gwR σ τ G G' → τ.1 0 132 = line → (∃ σ1 τ1 σ' τ', MB σ0 τ0 n np p r FP ρ A MO LA σ1 τ1 ∧ lf bfC σ σ1 ∧ lf bfM τ τ1 ∧ raR σ1 τ1 σ' τ' ∧ lj_D lc_P lc_M190 16 [.ref 8, .int (Int32.ofNat o), .int line, .int as, .long (i64 m), .retAddr 0, .long (i64 (k + 1)), .retAddr 0, X8] [] σ = some (.inr 2, σ') ∧ lj_D lm_P lm_M224 28 [.ref 0, .int (Int32.ofNat o), .long (i64 m), .retAddr 0, .long (i64 (k + 1)), .retAddr 0] [] τ = some (.inl none, τ')) ∨ ∃ σ1 τ1 X8', MB σ0 τ0 n np p r FP ρ A MO LA σ1 τ1 ∧ gwR σ1 τ1 G G' ∧ lf bfC σ σ1 ∧ lf bfM τ τ1 ∧ lj_D lc_P lc_M190 16 [.ref 8, .int (Int32.ofNat o), .int line, .int as, .long (i64 m), .retAddr 0, .long (i64 (k + 1)), .retAddr 0, X8] [] σ = lj_D lc_P lc_M190 16 [.ref 8, .int (Int32.ofNat o), .int line, .int as, .long (i64 m), .retAddr 0, .long (i64 (m + 1)), .retAddr 0, X8'] [] σ1 ∧ lj_D lm_P lm_M224 28 [.ref 0, .int (Int32.ofNat o), .long (i64 m), .retAddr 0, .long (i64 (k + 1)), .retAddr 0] [] τ = lj_D lm_P lm_M224 28 [.ref 0, .int (Int32.ofNat o), .long (i64 m), .retAddr 0, .long (i64 (m + 1)), .retAddr 0] [] τ1
  | 0, k, σ, τ, X8, hd, h, hG, hln => by
    have km : k = m := by omega
    subst km
    exact Or.inr ⟨σ, τ, X8, h, hG, lf_rf _ _, lf_rf _ _, rfl, rfl⟩
  | d + 1, k, σ, τ, X8, hd, h, hG, hln => by
    have c : ¬ (0 < lg_cmp (i64 (k + 1)) (i64 m)) := fun z => by
      have := (i64_cmp (a := k + 1) (b := m) (by omega) (by omega)).1.1 z
      omega
    obtain ⟨u, w, a1, a2, a3⟩ := cm_get h.2.1.1 h.2.2.2.1 on (vR_whole σ τ (i64 (k + 1)))
    rw [tm_p o1] at a3
    have hB := h.fd u w
    have gB := hG.fd u w
    have f1 : (fdC σ u).1 7 27 = u.1 := by rw [fdC_1, if_pos ⟨rfl, rfl⟩]
    have f3 : (fdM τ w).1 0 90 = w.1 := by rw [fdM_1, if_pos ⟨rfl, rfl⟩]
    have f132 : (fdM τ w).1 0 132 = line := by rw [fdM_1, if_neg (by omega)]; exact hln
    by_cases z : u.1 = 3 ∨ u.1 = 2
    · have z' : w.1 = 3 ∨ w.1 = 2 := z.imp (fun y => (a1.kk (by decide) (by decide)).1 y) (fun y => (a1.kk (by decide) (by decide)).1 y)
      have sC : lj_D lc_P lc_M190 16 [.ref 8, .int (Int32.ofNat o), .int line, .int as, .long (i64 m), .retAddr 0, .long (i64 (k + 1)), .retAddr 0, X8] [] σ = lj_D lc_P lc_M190 16 [.ref 8, .int (Int32.ofNat o), .int line, .int as, .long (i64 m), .retAddr 0, .long (i64 (k + 1 + 1)), .retAddr 0, .int (if u.1 = 0 then 0 else 1)] [] (fdC σ u) := by
        rw [kc_190_16, if_neg c, a2, bi_ok, f1, c_joins, bi_ok, if_pos z, nd_ok _ (by decide), bv_ok, i64_succ (by omega)]
      have sM : lj_D lm_P lm_M224 28 [.ref 0, .int (Int32.ofNat o), .long (i64 m), .retAddr 0, .long (i64 (k + 1)), .retAddr 0] [] τ = lj_D lm_P lm_M224 28 [.ref 0, .int (Int32.ofNat o), .long (i64 m), .retAddr 0, .long (i64 (k + 1 + 1)), .retAddr 0] [] (fdM τ w) := by
        rw [km_224_28, if_neg c, a3, bv_ok, f3]
        rcases z' with y | y
        · rw [if_pos y, km_224_67, i64_succ (by omega)]
        · rw [if_neg (by rw [y]; decide), if_pos y, km_224_67, i64_succ (by omega)]
      rcases cc_chk o1 on hm as line d (k + 1) (fdC σ u) (fdM τ w) (.int (if u.1 = 0 then 0 else 1)) (by omega) hB gB f132 with ⟨σ1, τ1, σ', τ', r1, r2, r3, r4, r5, r6⟩ | ⟨σ1, τ1, X8', r1, r2, r3, r4, r5, r6⟩
      · exact Or.inl ⟨σ1, τ1, σ', τ', r1, (lf_fdC σ u).tr r2, (lf_fdM τ w).tr r3, r4, sC.trans r5, sM.trans r6⟩
      · exact Or.inr ⟨σ1, τ1, X8', r1, r2, (lf_fdC σ u).tr r3, (lf_fdM τ w).tr r4, sC.trans r5, sM.trans r6⟩
    · have z3 : ¬ (w.1 = 3) := fun y => z (Or.inl ((a1.kk (by decide) (by decide)).2 y))
      have z2 : ¬ (w.1 = 2) := fun y => z (Or.inr ((a1.kk (by decide) (by decide)).2 y))
      obtain ⟨σ', τ', q1, q2, q3⟩ := nd_bad hB.2.1 f132 1 (w := 19) (by decide)
      have q1 : lj_R lc_P 168 [.ref 8, .int 0, .int 1, .int 19, .int line] (fdC σ u) = some (.inr 2, σ') := q1
      have q2 : lj_R lm_P 199 [.ref 0, .int 1, .int 19] (fdM τ w) = some (.inl none, τ') := q2
      refine Or.inl ⟨fdC σ u, fdM τ w, σ', τ', hB, lf_fdC σ u, lf_fdM τ w, q3, ?_, ?_⟩
      · rw [kc_190_16, if_neg c, a2, bi_ok, f1, c_joins, bi_ok, if_neg z, q1, bv_th]
      · rw [km_224_28, if_neg c, a3, bv_ok, f3, if_neg z3, if_neg z2, q2, bv_ok]
/-- both draft -/
theorem cc_add {σ0 τ0 : lj_S} {n np p : Nat} {r : List Nat} {FP : Nat → List kF} {ρ : Nat → Nat} {A MO LA : List Nat} {o m : Nat} (o1 : 1 ≤ o) (on : o ≤ n) (hm : m ≤ 3000) {G G' : List vT} (hGl : G.length ≤ 49) (as line : Int32) : ∀ (d k : Nat) (σ τ : lj_S) (T : List Int32) (X8 : Value), k + d = m → MB σ0 τ0 n np p r FP ρ A MO LA σ τ → gwR σ τ G G' → cDr σ T → mDr τ T → T.length ≤ 3000 → ∃ σ1 τ1 T1 k1 X8', MB σ0 τ0 n np p r FP ρ A MO LA σ1 τ1 ∧ cDr σ1 T1 ∧ mDr τ1 T1 ∧ T1.length ≤ 3000 ∧ lf bfC σ σ1 ∧ lf bfM τ τ1 ∧ lj_D lc_P lc_M190 114 [.ref 8, .int (Int32.ofNat o), .int line, .int as, .long (i64 m), .retAddr 0, .long (i64 (k + 1)), .retAddr 0, X8] [] σ = lj_D lc_P lc_M190 219 [.ref 8, .int (Int32.ofNat o), .int line, .int as, .long (i64 m), .retAddr 0, .long k1, .retAddr 0, X8'] [] σ1 ∧ lj_D lm_P lm_M224 109 [.ref 0, .int (Int32.ofNat o), .long (i64 m), .retAddr 0, .long (i64 (k + 1)), .retAddr 0] [] τ = lj_D lm_P lm_M224 181 [.ref 0, .int (Int32.ofNat o), .long (i64 m), .retAddr 0, .long k1, .retAddr 0] [] τ1
  | 0, k, σ, τ, T, X8, hd, h, hG, hC, hD, hT => by
    have c := (i64_cmp (a := k + 1) (b := m) (by omega) (by omega)).1.2 (by omega)
    refine ⟨σ, τ, T, i64 (k + 1), X8, h, hC, hD, hT, lf_rf _ _, lf_rf _ _, ?_, ?_⟩
    · rw [kc_190_114, if_pos c]
    · rw [km_224_109, if_pos c]
  | d + 1, k, σ, τ, T, X8, hd, h, hG, hC, hD, hT => by
    have c : ¬ (0 < lg_cmp (i64 (k + 1)) (i64 m)) := fun z => by
      have := (i64_cmp (a := k + 1) (b := m) (by omega) (by omega)).1.1 z
      omega
    have l6 : σ.1 3 6 = Int32.ofNat T.length := lz_ext (by rw [lz_lit (by omega)]; exact hC.1)
    have l20 : τ.1 0 20 = Int32.ofNat T.length := lz_ext (by rw [lz_lit (by omega)]; exact hD.1)
    have big : ((1000 : Int32) < Int32.ofNat T.length) ↔ 1000 < T.length := by
      rw [lz_lt, lz_lit (by omega)]
      show (1000 : Int) < _ ↔ _
      omega
    by_cases z : 1000 < T.length
    · refine ⟨σ, τ, T, i64 (k + 1), X8, h, hC, hD, hT, lf_rf _ _, lf_rf _ _, ?_, ?_⟩
      · rw [kc_190_114, if_neg c, l6, if_pos (big.2 z)]
      · rw [km_224_109, if_neg c, l20, if_pos (big.2 z)]
    · have z' : ¬ ((1000 : Int32) < Int32.ofNat T.length) := fun y => z (big.1 y)
      -- from the value on
      have tail : ∀ (σ2 τ2 : lj_S) (T2 : List Int32), MB σ0 τ0 n np p r FP ρ A MO LA σ2 τ2 → gwR σ2 τ2 G G' → cDr σ2 T2 → mDr τ2 T2 → T2.length ≤ 2000 → lf bfC σ σ2 → lf bfM τ τ2 → ∃ σ1 τ1 T1 k1 X8', MB σ0 τ0 n np p r FP ρ A MO LA σ1 τ1 ∧ cDr σ1 T1 ∧ mDr τ1 T1 ∧ T1.length ≤ 3000 ∧ lf bfC σ σ1 ∧ lf bfM τ τ1 ∧ lj_D lc_P lc_M190 170 [.ref 8, .int (Int32.ofNat o), .int line, .int as, .long (i64 m), .retAddr 0, .long (i64 (k + 1)), .retAddr 0, X8] [] σ2 = lj_D lc_P lc_M190 219 [.ref 8, .int (Int32.ofNat o), .int line, .int as, .long (i64 m), .retAddr 0, .long k1, .retAddr 0, X8'] [] σ1 ∧ lj_D lm_P lm_M224 152 [.ref 0, .int (Int32.ofNat o), .long (i64 m), .retAddr 0, .long (i64 (k + 1)), .retAddr 0] [] τ2 = lj_D lm_P lm_M224 181 [.ref 0, .int (Int32.ofNat o), .long (i64 m), .retAddr 0, .long k1, .retAddr 0] [] τ1 := fun σ2 τ2 T2 h2 g2 hC2 hD2 hT2 b1 b2 => by
        obtain ⟨u, w, a1, a2, a3⟩ := cm_get h2.2.1.1 h2.2.2.2.1 on (vR_whole σ2 τ2 (i64 (k + 1)))
        rw [tm_p o1] at a3
        have hB := h2.fd u w
        have gB := g2.fd u w
        have f1 : (fdC σ2 u).1 7 27 = u.1 := by rw [fdC_1, if_pos ⟨rfl, rfl⟩]
        have f2 : (fdC σ2 u).2 7 28 = u.2 := by rw [fdC_2, if_pos ⟨rfl, rfl⟩]
        have f3 : (fdM τ2 w).1 0 90 = w.1 := by rw [fdM_1, if_pos ⟨rfl, rfl⟩]
        have f4 : (fdM τ2 w).2 0 91 = w.2 := by rw [fdM_2, if_pos ⟨rfl, rfl⟩]
        have dC : cDr (fdC σ2 u) T2 := ⟨by unfold lv; rw [fdC_1, if_neg (by omega)]; exact hC2.1, fun i hi hi2 => by rw [fdC_1, if_neg (by omega)]; exact hC2.2.1 i hi hi2, hC2.2.2⟩
        have dM : mDr (fdM τ2 w) T2 := ⟨by unfold lv; rw [fdM_1, if_neg (by omega)]; exact hD2.1, fun i hi => by rw [fdM_1, if_neg (by omega)]; exact hD2.2.1 i hi, hD2.2.2⟩
        obtain ⟨Y, σ3, τ3, tl, t1, t2, t3, t4, t5, t6⟩ := cm_text hB.2.1 dC dM (by omega) (a1.fd u w)
        obtain ⟨σ1, τ1, T1, k1, X8', r1, r2, r3, r4, r5, r6, r7, r8⟩ := cc_add o1 on hm hGl as line d (k + 1) σ3 τ3 (T2 ++ Y) (.int (if u.1 = 0 then 0 else 1)) (by omega) (hB.sc (cAd_z t5) (mAd_z t6)) (gB.ad t5 t6) t3 t4 (by rw [List.length_append]; omega)
        refine ⟨σ1, τ1, T1, k1, X8', r1, r2, r3, r4, ((b1.tr (lf_fdC σ2 u)).tr (cAd_b t5)).tr r5, ((b2.tr (lf_fdM τ2 w)).tr (mAd_b t6)).tr r6, ?_, ?_⟩
        · rw [kc_190_170, a2, bi_ok, f1, f2, t1, bv_ok, i64_succ (by omega)]
          exact r7
        · rw [km_224_152, a3, bv_ok, f3, f4, t2, bv_ok, i64_succ (by omega)]
          exact r8
      have one := (i64_cmp (a := k + 1) (b := 1) (by omega) (by omega)).2
      have one : lg_cmp (i64 (k + 1)) 1 ≤ 0 ↔ k + 1 ≤ 1 := one
      have c1 := hG.c1 hGl
      have m2 := hG.m2 hGl
      have hv := hG.v 1
      by_cases k0 : k + 1 ≤ 1
      · obtain ⟨σ1, τ1, T1, k1, X8', r1, r2, r3, r4, r5, r6, r7, r8⟩ := tail σ τ T h hG hC hD (by omega) (lf_rf _ _) (lf_rf _ _)
        refine ⟨σ1, τ1, T1, k1, X8', r1, r2, r3, r4, r5, r6, ?_, ?_⟩
        · rw [kc_190_114, if_neg c, l6, if_neg z', if_pos (one.2 k0)]
          exact r7
        · rw [km_224_109, if_neg c, l20, if_neg z', if_pos (one.2 k0)]
          exact r8
      · have k0' : ¬ (lg_cmp (i64 (k + 1)) 1 ≤ 0) := fun y => k0 (one.1 y)
        by_cases z3 : (G.getD 1 (0, 0)).1 = 3
        · obtain ⟨s, s', s1, s2, e1, e2, se⟩ := hv.st z3
          rw [e1] at c1
          rw [e2] at m2
          have ls : (cS σ s).length ≤ 1000 := h.2.1.2.2.2.1 s se.1
          obtain ⟨σ2, a1, a2, a3⟩ := c_addString σ h.2.1.1.1 se.1 hC (by omega)
          obtain ⟨τ2, b1, b2, b3⟩ := m_copyString τ h.2.1.1.2.1 se.2.1 hD (by rw [← se.2.2]; omega)
          rw [← se.2.2] at b2
          obtain ⟨σ1, τ1, T1, k1, X8', r1, r2, r3, r4, r5, r6, r7, r8⟩ := tail σ2 τ2 _ (h.sc (cAd_z a3) (mAd_z b3)) (hG.ad a3 b3) a2 b2 (by rw [List.length_append]; omega) (cAd_b a3) (mAd_b b3)
          refine ⟨σ1, τ1, T1, k1, X8', r1, r2, r3, r4, r5, r6, ?_, ?_⟩
          · rw [kc_190_114, if_neg c, l6, if_neg z', if_neg k0', c1.1, bi_ok, if_pos rfl, c1.2, bl_ok]
            simp only [i64_32]
            rw [a1, bv_ok]
            exact r7
          · rw [km_224_109, if_neg c, l20, if_neg z', if_neg k0', m2.1, bi_ok, if_pos rfl, m2.2, bl_ok]
            simp only [i64_32]
            rw [b1, bv_ok]
            exact r8
        · have z3' : ¬ ((G'.getD 1 (0, 0)).1 = 3) := fun q => z3 ((hv.kk (by decide) (by decide)).2 q)
          obtain ⟨σ1, τ1, T1, k1, X8', r1, r2, r3, r4, r5, r6, r7, r8⟩ := tail σ τ T h hG hC hD (by omega) (lf_rf _ _) (lf_rf _ _)
          refine ⟨σ1, τ1, T1, k1, X8', r1, r2, r3, r4, r5, r6, ?_, ?_⟩
          · rw [kc_190_114, if_neg c, l6, if_neg z', if_neg k0', c1.1, bi_ok, if_neg z3]
            exact r7
          · rw [km_224_109, if_neg c, l20, if_neg z', if_neg k0', m2.1, bi_ok, if_neg z3']
            exact r8
theorem bi_19 {σ0 τ0 σ τ : lj_S} {n np p : Nat} {r : List Nat} {FP : Nat → List kF} {ρ : Nat → Nat} {A MO LA : List Nat} {M : Nat} (D : DLV σ0 τ0 M) (h : MB σ0 τ0 n np p r FP ρ A MO LA σ τ) (ry : ryR σ τ) (hwk : wkR FP (p :: r) A σ) {as line : Int32} (ht : τ.1 0 129 = 1) (ha : awR σ0 (FP p) as (τ.1 0 130) (τ.1 0 131)) (hln : τ.1 0 132 = line) {G G' : List vT} (hG : gwR σ τ G G') (hGl : G.length ≤ 49) (hM : thM FP (p :: r) MO LA + 5001 ≤ M) {X : Nat} (hX : X ≤ TH) (hT : thM FP (p :: r) MO LA + 5001 ≤ X) : ∃ τ1, lj_R lm_P 187 [.ref 0, .int 19] τ = some (.inl none, τ1) ∧ ocR σ0 τ0 A (fun t => t ≤ X) σ τ1 (lj_R lc_P 159 [.ref 8, .int 19, .int as, .int line] σ) := by
  have m1 := hG.m1 hGl
  have rM : ∀ {τx : lj_S}, lj_R lm_P 224 [.ref 0] τ = some (.inl none, τx) → lj_R lm_P 187 [.ref 0, .int 19] τ = some (.inl none, τx) := fun e => mb_more (by decide) (by rw [rm_221, km_221_0, if_neg (by decide), if_neg (by decide), if_pos rfl, e, bv_ok, km_221_215])
  rcases bi_tab h.2.1 h.2.2.2.1 hG (by omega) hln (w := 19) (by decide) with ⟨o, ob, on, e1, e2, e3, e4⟩ | ⟨σ', τ', q1, q2, q3⟩
  · have e3 : lj_R lc_P 167 [.ref 8, .int 0, .int 19, .int line] σ = some (.inl (some (.int (Int32.ofNat o))), σ) := e3
    have e4 : lj_R lm_P 198 [.ref 0, .int 1, .int 4, .int 19] τ = some (.inl (some (.int 1)), τ) := e4
    rw [e2] at m1
    have rC : ∀ {x : Option lj_O}, lj_R lc_P 190 [.ref 8, .int (Int32.ofNat o), .int line, .int as] σ = x → lj_R lc_P 159 [.ref 8, .int 19, .int as, .int line] σ = finC (finC x) := fun e => by
      rw [cb_more (by decide) (by decide), rc_187, kc_187_0, if_neg (by decide), if_neg (by decide), if_pos rfl, e3, bi_ok, e]
      simp only [kc_187_919]
      rfl
    obtain ⟨m, hm, a1, a2⟩ := cm_len h.2.1.1 h.2.2.2.1 on
    rw [tm_p ob.1] at a2
    have hB := h.fd (0, 0) (0, 0)
    have gB := hG.fd (0, 0) (0, 0)
    have f132 : (fdM τ (0, 0)).1 0 132 = line := by rw [fdM_1, if_neg (by omega)]; exact hln
    have headC : lj_R lc_P 190 [.ref 8, .int (Int32.ofNat o), .int line, .int as] σ = lj_D lc_P lc_M190 16 [.ref 8, .int (Int32.ofNat o), .int line, .int as, .long (i64 m), .retAddr 0, .long (i64 (0 + 1)), .retAddr 0, .retAddr 0] [] (fdC σ (0, 0)) := by
      rw [rc_190, kc_190_0, a1, bl_ok]
      rfl
    have headM : lj_R lm_P 224 [.ref 0] τ = lj_D lm_P lm_M224 28 [.ref 0, .int (Int32.ofNat o), .long (i64 m), .retAddr 0, .long (i64 (0 + 1)), .retAddr 0] [] (fdM τ (0, 0)) := by
      rw [rm_224, km_224_0, e4, bi_ok, if_neg (by decide), m1.2, bl_ok]
      simp only [i64_32]
      rw [a2, bl_ok]
      rfl
    rcases cc_chk ob.1 on hm as line m 0 (fdC σ (0, 0)) (fdM τ (0, 0)) (.retAddr 0) (by omega) hB gB f132 with ⟨σ1, τ1, σ', τ', r1, r2, r3, r4, r5, r6⟩ | ⟨σ1, τ1, X8', r1, r2, r3, r4, r5, r6⟩
    · refine ⟨τ', rM (headM.trans r6), ?_⟩
      rw [rC (headC.trans r5)]
      exact (bt_er ry hwk r1 ((lf_fdC σ _).tr r2) ((lf_fdM τ _).tr r3) r4 (by omega)).fin.fin
    · have lb1 := (lf_fdC σ (0, 0)).tr r3
      have lb2 := (lf_fdM τ (0, 0)).tr r4
      have c1 := r2.c1 hGl
      have m2 := r2.m2 hGl
      have hv := r2.v 1
      have c := (i64_cmp (a := m + 1) (b := m) (by omega) (by omega)).1.2 (by omega)
      have ln1 : τ1.1 0 132 = line := by rw [(r4 0 132 rfl).1]; exact f132
      -- the second one is good
      have good : lj_D lc_P lc_M190 16 [.ref 8, .int (Int32.ofNat o), .int line, .int as, .long (i64 m), .retAddr 0, .long (i64 (m + 1)), .retAddr 0, X8'] [] σ1 = lj_D lc_P lc_M190 89 [.ref 8, .int (Int32.ofNat o), .int line, .int as, .long (i64 m), .retAddr 0, .long (i64 (m + 1)), .retAddr 0, X8'] [.ref 8] σ1 → lj_D lm_P lm_M224 28 [.ref 0, .int (Int32.ofNat o), .long (i64 m), .retAddr 0, .long (i64 (m + 1)), .retAddr 0] [] τ1 = lj_D lm_P lm_M224 101 [.ref 0, .int (Int32.ofNat o), .long (i64 m), .retAddr 0, .long (i64 (m + 1)), .retAddr 0] [] τ1 → ∃ τ1, lj_R lm_P 187 [.ref 0, .int 19] τ = some (.inl none, τ1) ∧ ocR σ0 τ0 A (fun t => t ≤ X) σ τ1 (lj_R lc_P 159 [.ref 8, .int 19, .int as, .int line] σ) := fun g1 g2 => by
        obtain ⟨bb1, bb2, bb3⟩ := c_bgn σ1
        obtain ⟨dd2, dd3⟩ := m_bgn τ1
        obtain ⟨σ2, τ2, T, k1, X9, s1, s2, s3, s4, s5, s6, s7, s8⟩ := cc_add ob.1 on hm hGl as line m 0 (lj_put σ1 3 6 0) (lj_put τ1 0 20 0) [] X8' (by omega) (r1.sc (cAd_z bb3) (mAd_z dd3)) (r2.ad bb3 dd3) bb2 dd2 (by simp)
        have s7 : lj_D lc_P lc_M190 114 [.ref 8, .int (Int32.ofNat o), .int line, .int as, .long (i64 m), .retAddr 0, .long 1, .retAddr 0, X8'] [] (lj_put σ1 3 6 0) = _ := s7
        have s8 : lj_D lm_P lm_M224 109 [.ref 0, .int (Int32.ofNat o), .long (i64 m), .retAddr 0, .long 1, .retAddr 0] [] (lj_put τ1 0 20 0) = _ := s8
        have lc1 := (lb1.tr (cAd_b bb3)).tr s5
        have lc2 := (lb2.tr (mAd_b dd3)).tr s6
        have runC : lj_R lc_P 190 [.ref 8, .int (Int32.ofNat o), .int line, .int as] σ = lj_D lc_P lc_M190 219 [.ref 8, .int (Int32.ofNat o), .int line, .int as, .long (i64 m), .retAddr 0, .long k1, .retAddr 0, X9] [] σ2 := by
          rw [headC, r5, g1, kc_190_89, kc_190_94, nd_ok _ (by decide), bv_ok, bb1, bv_ok, s7]
        have runM : lj_R lm_P 224 [.ref 0] τ = lj_D lm_P lm_M224 181 [.ref 0, .int (Int32.ofNat o), .long (i64 m), .retAddr 0, .long k1, .retAddr 0] [] τ2 := by
          rw [headM, r6, g2, km_224_101, s8]
        have l6 : σ2.1 3 6 = Int32.ofNat T.length := lz_ext (by rw [lz_lit (by omega)]; exact s2.1)
        have l20 : τ2.1 0 20 = Int32.ofNat T.length := lz_ext (by rw [lz_lit (by omega)]; exact s3.1)
        have sm : (Int32.ofNat T.length ≤ (1000 : Int32)) ↔ T.length ≤ 1000 := by
          rw [lz_le, lz_lit (by omega)]
          show _ ≤ (1000 : Int) ↔ _
          omega
        by_cases z : T.length ≤ 1000
        · obtain ⟨τ3, p1, p2⟩ := bi_mk D ry hwk ha s1 lc1 lc2 s2 s3 z (by omega) (by omega) hX 19
          have mk : ∀ o : Option lj_O, lj_bi (lj_bi o (fun y2 s => some (.inl (some (.int y2)), s)) lj_up) (fun y2 s => lj_bv (lj_R lc_P 164 [.ref 8, .int 19, .int 3, .long y2.toInt64, .int as] s) (fun σ3 => some (.inl none, σ3)) lj_up) lj_up = lj_bi o (fun y s => finC (lj_R lc_P 164 [.ref 8, .int 19, .int 3, .long y.toInt64, .int as] s)) lj_up := fun o => by
            cases o with
            | none => rfl
            | some w =>
              obtain ⟨w1, w2⟩ := w
              rcases w1 with (_ | w1) | w1
              · rfl
              · cases w1 <;> rfl
              · rfl
          refine ⟨τ3, rM ?_, ?_⟩
          · rw [runM, km_224_181, l20, if_pos (sm.2 z), p1, bv_ok, km_224_208]
          · rw [rC runC, kc_190_219, rc_192, kc_192_0, l6, if_pos (sm.2 z), mk]
            exact p2.fin.fin
        · obtain ⟨σ', τ', q1, q2, q3⟩ := cm_wrong s1.2.1 line (e := 7) (by decide)
          have q1 : lj_br (lj_R lc_P 133 [.ref 8, .int line, .ref 1026] σ2) (fun y s => (bif Nat.blt y 2000 then lj_up y s else none)) lj_up = some (.inr 2, σ') := q1
          have q2 : lj_R lm_P 142 [.ref 0, .int 7, .int line] τ2 = some (.inl none, τ') := q2
          have ln2 : τ2.1 0 132 = line := by rw [(lc2 0 132 rfl).1]; exact hln
          refine ⟨τ', rM ?_, ?_⟩
          · rw [runM, km_224_181, l20, if_neg (fun y => z (sm.1 y)), ln2, q2, bv_ok, km_224_208]
          · rw [rC runC, kc_190_219, rc_192, kc_192_0, l6, if_neg (fun y => z (sm.1 y)), q1, bi_th]
            exact (bt_er ry hwk s1 lc1 lc2 q3 (by omega)).fin.fin
      by_cases z0 : (G.getD 1 (0, 0)).1 = 0
      · have z0' : (G'.getD 1 (0, 0)).1 = 0 := hv.k0.1 z0
        refine good ?_ ?_
        · rw [kc_190_16, if_pos c, c1.1, bi_ok, if_pos z0]
        · rw [km_224_28, if_pos c, m2.1, bi_ok, if_pos z0']
      · have z0' : ¬ ((G'.getD 1 (0, 0)).1 = 0) := fun q => z0 (hv.k0.2 q)
        by_cases z3 : (G.getD 1 (0, 0)).1 = 3
        · have z3' : (G'.getD 1 (0, 0)).1 = 3 := (hv.kk (by decide) (by decide)).1 z3
          refine good ?_ ?_
          · rw [kc_190_16, if_pos c, c1.1, bi_ok, if_neg z0, c1.1, bi_ok, if_pos z3]
          · rw [km_224_28, if_pos c, m2.1, bi_ok, if_neg z0', m2.1, bi_ok, if_pos z3']
        · have z3' : ¬ ((G'.getD 1 (0, 0)).1 = 3) := fun q => z3 ((hv.kk (by decide) (by decide)).2 q)
          obtain ⟨σ', τ', q1, q2, q3⟩ := nd_bad r1.2.1 ln1 2 (w := 19) (by decide)
          have q1 : lj_R lc_P 168 [.ref 8, .int 0, .int 2, .int 19, .int line] σ1 = some (.inr 2, σ') := q1
          have q2 : lj_R lm_P 199 [.ref 0, .int 2, .int 19] τ1 = some (.inl none, τ') := q2
          refine ⟨τ', rM ?_, ?_⟩
          · rw [headM, r6, km_224_28, if_pos c, m2.1, bi_ok, if_neg z0', m2.1, bi_ok, if_neg z3', q2, bv_ok]
          · rw [rC rfl, headC, r5, kc_190_16, if_pos c, c1.1, bi_ok, if_neg z0, c1.1, bi_ok, if_neg z3, kc_190_94, q1, bv_th]
            exact (bt_er ry hwk r1 lb1 lb2 q3 (by omega)).fin.fin
  · have q2 : lj_R lc_P 167 [.ref 8, .int 0, .int 19, .int line] σ = some (.inr 2, σ') := q2
    have q3 : lj_R lm_P 198 [.ref 0, .int 1, .int 4, .int 19] τ = some (.inl (some (.int 0)), τ') := q3
    refine ⟨τ', rM ?_, ?_⟩
    · rw [rm_224, km_224_0, q3, bi_ok, if_pos rfl]
    · rw [cb_more (by decide) (by decide), rc_187, kc_187_0, if_neg (by decide), if_neg (by decide), if_pos rfl, q2, bi_th]
      exact (bt_er ry hwk h (lf_rf _ _) (lf_rf _ _) q1 (by omega)).fin
