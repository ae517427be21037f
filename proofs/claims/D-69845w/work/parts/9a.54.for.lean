/-! counted fors: they go on -/
theorem cv_pL {σ : lj_S} {k i : Nat} {v : Int64} (j : Nat) (h : k ≠ 80 ∨ j ≠ i) : cv (lj_putL σ k i v) j = cv σ j := by
  unfold cv
  rw [lj_putL_1, lj_putL_2, if_neg (by omega)]
/-- the hidden three of both are the same numbers -/
theorem hid3 {σ τ : lj_S} {p hb ob mb kb : Nat} {s : List Nat} {ce me mq : Nat} {cm : Int32} (h : stk σ τ p hb ob mb kb (3 :: s) ce me mq cm) : ∃ m0, me = m0 + 3 ∧ (∀ i, i < 3 → (cv σ (hb + 3 * (flo s).length + i)).1 = 2 ∧ mv τ (10000 * p + (m0 + i)) = cv σ (hb + 3 * (flo s).length + i)) ∧ stk σ τ p hb ob mb kb s ce m0 mq cm := by
  obtain ⟨m0, e, v, st⟩ := h.u3 (Or.inl rfl)
  refine ⟨m0, e, fun i hi => ?_, st⟩
  obtain ⟨v1, v2⟩ := v i hi
  have k := v2 rfl
  refine ⟨k, ?_⟩
  rw [← Nat.add_assoc]
  exact v1.wh k
theorem act_47 {σ0 τ0 σ τ : lj_S} {n np p : Nat} {r : List Nat} {FP : Nat → List kF} {ρ : Nat → Nat} {A MO LA : List Nat} (h : MB σ0 τ0 n np p r FP ρ A MO LA σ τ) {F : kF} {L : List kF} (hF : FP p = F :: L) (h0 : kS F = 0) (rg : rgR σ τ) (hs : stF σ0 τ0) {Z : List pT} (hk : insK σ0 τ0 (kY F).1 (kY F).2.1 (kY F).2.2.1 (kY F).2.2.2.1 (kY F).2.2.2.2.1 (kY F).2.2.2.2.2 Z 47) {n' : Nat} (hn : ∀ z ∈ Z, gn σ0 τ0 n' z) : nyR σ0 τ0 n np p r FP A MO LA σ τ F L n' Z := by
  obtain ⟨d, x, a, a', s', ha, ⟨ha', _, _⟩, ⟨x1, x2, x3⟩, hsh, hd, hd2, k1, k1', kx, kc, k2, k2', k2'', rfl⟩ := hk
  obtain ⟨ms, ks, ce, me, mq, V⟩ := h.w hF h0
  have B := V.bd
  have nl := V.ff.1
  have st := V.st
  rw [hsh] at st
  obtain ⟨m0, rfl, hv, st⟩ := hid3 st
  rw [← hd] at hv
  have xn : x < nL σ0 (kY F).1 := by unfold nL; omega
  have dn : d < nH σ0 (kY F).1 := by unfold nH; omega
  obtain ⟨f1, f2, f3, f4, fA, fL, fK, f5⟩ := c_ft h hF h0 hs k1 (by decide)
  have hq : lf (tqC p (20 * p + L.length) (kB F + nL σ0 (kY F).1)) σ (lj_put σ 94 (20 * p + L.length) (Int32.ofNat ((kY F).2.1 + 1))) := tq_94 (lf_rf _ _) _
  have ch := c_hid h hF h0 V hq d (by omega)
  obtain ⟨cnt, hc⟩ : ∃ y, y = (cv σ ((kB F + nL σ0 (kY F).1) + 3 * d)).2 := ⟨_, rfl⟩
  obtain ⟨lim, hl⟩ : ∃ y, y = (cv σ ((kB F + nL σ0 (kY F).1) + 3 * d + 1)).2 := ⟨_, rfl⟩
  obtain ⟨stp, hp⟩ : ∃ y, y = (cv σ ((kB F + nL σ0 (kY F).1) + 3 * d + 2)).2 := ⟨_, rfl⟩
  have at1 := mAt_p (i := (48 * p + L.length)) (v := Int32.ofNat ((kY F).2.2.1 + 1)) V.at
  have tn : ∀ i, i < 3 → lj_R lm_P 125 [.ref 0, .int (Int32.ofNat (2 - i))] (lj_put τ 77 (48 * p + L.length) (Int32.ofNat ((kY F).2.2.1 + 1))) = some (.inl (some (.long (cv σ ((kB F + nL σ0 (kY F).1) + 3 * d + i)).2)), lj_put τ 77 (48 * p + L.length) (Int32.ofNat ((kY F).2.2.1 + 1))) := fun i hi => by
    have := m_topN at1 (d := 2 - i) (by omega)
    rw [mv_p _ (by decide), show m0 + 3 - 1 - (2 - i) = m0 + i by omega, (hv i hi).2] at this
    exact this
  have t0 : lj_R lm_P 125 [.ref 0, .int 2] (lj_put τ 77 (48 * p + L.length) (Int32.ofNat ((kY F).2.2.1 + 1))) = some (.inl (some (.long cnt)), lj_put τ 77 (48 * p + L.length) (Int32.ofNat ((kY F).2.2.1 + 1))) := by rw [hc]; exact tn 0 (by decide)
  have t1 : lj_R lm_P 125 [.ref 0, .int 1] (lj_put τ 77 (48 * p + L.length) (Int32.ofNat ((kY F).2.2.1 + 1))) = some (.inl (some (.long lim)), lj_put τ 77 (48 * p + L.length) (Int32.ofNat ((kY F).2.2.1 + 1))) := by rw [hl]; exact tn 1 (by decide)
  have t2 : lj_R lm_P 125 [.ref 0, .int 0] (lj_put τ 77 (48 * p + L.length) (Int32.ofNat ((kY F).2.2.1 + 1))) = some (.inl (some (.long stp)), lj_put τ 77 (48 * p + L.length) (Int32.ofNat ((kY F).2.2.1 + 1))) := by rw [hp]; exact tn 2 (by decide)
  have cc0 : (lj_put σ 94 (20 * p + L.length) (Int32.ofNat ((kY F).2.1 + 1))).2 80 ((kB F + nL σ0 (kY F).1) + 3 * d) = cnt := by rw [hc]; rfl
  have cc1 : (lj_put σ 94 (20 * p + L.length) (Int32.ofNat ((kY F).2.1 + 1))).2 80 ((kB F + nL σ0 (kY F).1) + 3 * d + 1) = lim := by rw [hl]; rfl
  have cc2 : (lj_put σ 94 (20 * p + L.length) (Int32.ofNat ((kY F).2.1 + 1))).2 80 ((kB F + nL σ0 (kY F).1) + 3 * d + 2) = stp := by rw [hp]; rfl
  have i0 : lj_in (Int32.ofNat ((kB F + nL σ0 (kY F).1) + 3 * d)) 325000 := ofN_in (by omega) (by omega)
  have i1 : lj_in (Int32.ofNat ((kB F + nL σ0 (kY F).1) + 3 * d + 1)) 325000 := ofN_in (by omega) (by omega)
  have i2 : lj_in (Int32.ofNat ((kB F + nL σ0 (kY F).1) + 3 * d + 2)) 325000 := ofN_in (by omega) (by omega)
  have n0 : (Int32.ofNat ((kB F + nL σ0 (kY F).1) + 3 * d)).toNatClampNeg = (kB F + nL σ0 (kY F).1) + 3 * d := lz_onat (by omega)
  have n1 : (Int32.ofNat ((kB F + nL σ0 (kY F).1) + 3 * d + 1)).toNatClampNeg = (kB F + nL σ0 (kY F).1) + 3 * d + 1 := lz_onat (by omega)
  have n2 : (Int32.ofNat ((kB F + nL σ0 (kY F).1) + 3 * d + 2)).toNatClampNeg = (kB F + nL σ0 (kY F).1) + 3 * d + 2 := lz_onat (by omega)
  have a2 : Int32.ofNat ((kB F + nL σ0 (kY F).1) + 3 * d) + 2 = Int32.ofNat ((kB F + nL σ0 (kY F).1) + 3 * d + 2) := by rw [show (2 : Int32) = Int32.ofNat 2 from rfl, ← Int32.ofNat_add]
  -- whether it is over
  obtain ⟨ov, hov⟩ : ∃ b : Bool, b = (if lg_cmp stp 0 ≤ 0 then decide (lg_cmp cnt lim < 0) else decide (0 < lg_cmp cnt lim)) := ⟨_, rfl⟩
  have cR : lj_R lc_P 217 [.ref 8, .int (Int32.ofNat (kY F).2.1), .int (Int32.ofNat d), .int (σ0.1 26 (kY F).2.1)] (lj_put σ 94 (20 * p + L.length) (Int32.ofNat ((kY F).2.1 + 1))) = lj_D lc_P lc_M217 (bif ov then 412 else 357) [.ref 8, .int (Int32.ofNat (kY F).2.1), .int (Int32.ofNat d), .int (σ0.1 26 (kY F).2.1), .int (Int32.ofNat ((kB F + nL σ0 (kY F).1) + 3 * d)), .long stp, .retAddr 0, .retAddr 0] [] (lj_put σ 94 (20 * p + L.length) (Int32.ofNat ((kY F).2.1 + 1))) := by
    rw [cg_36 _ f4 (by rw [lj_put_1, if_neg (by omega)]; exact fK), ch, bi_ok, a2, lz_osucc, if_pos i2, n2, cc2]
    by_cases z : lg_cmp stp 0 ≤ 0
    · rw [if_pos z] at hov ⊢
      rw [if_pos i0, if_pos i1, n0, n1, cc0, cc1]
      by_cases y : lg_cmp cnt lim < 0
      · rw [if_pos y, hov, decide_eq_true y]; rfl
      · rw [if_neg y, hov, decide_eq_false y]; rfl
    · rw [if_neg z] at hov ⊢
      rw [if_pos i0, if_pos i1, n0, n1, cc0, cc1]
      by_cases y : 0 < lg_cmp cnt lim
      · rw [if_pos y, hov, decide_eq_true y]; rfl
      · rw [if_neg y, hov, decide_eq_false y]; rfl
  have mR : lj_R lm_P 173 [.ref 0] (lj_put τ 77 (48 * p + L.length) (Int32.ofNat ((kY F).2.2.1 + 1))) = some (.inl (some (.int (if ov then 1 else 0))), lj_put τ 77 (48 * p + L.length) (Int32.ofNat ((kY F).2.2.1 + 1))) := by
    rw [rm_173, km_173_0, t2, bl_ok]
    by_cases z : lg_cmp stp 0 ≤ 0
    · rw [if_pos z] at hov ⊢
      rw [t0, bl_ok, t1, bl_ok]
      by_cases y : lg_cmp cnt lim < 0
      · rw [if_neg (Int32.not_le.2 y), km_173_53, hov, decide_eq_true y]; rfl
      · rw [if_pos (Int32.not_lt.1 y), km_173_53, hov, decide_eq_false y]; rfl
    · rw [if_neg z] at hov ⊢
      rw [t0, bl_ok, t1, bl_ok]
      by_cases y : 0 < lg_cmp cnt lim
      · rw [if_neg (Int32.not_le.2 y), km_173_53, hov, decide_eq_true y]; rfl
      · rw [if_pos (Int32.not_lt.1 y), km_173_53, hov, decide_eq_false y]; rfl
  have cst : lj_R lc_P 139 [.ref 8] σ = lj_bv (lj_D lc_P lc_M217 (bif ov then 412 else 357) [.ref 8, .int (Int32.ofNat (kY F).2.1), .int (Int32.ofNat d), .int (σ0.1 26 (kY F).2.1), .int (Int32.ofNat ((kB F + nL σ0 (kY F).1) + 3 * d)), .long stp, .retAddr 0, .retAddr 0] [] (lj_put σ 94 (20 * p + L.length) (Int32.ofNat ((kY F).2.1 + 1)))) (fun s => some (.inl (some (.int 1)), s)) lj_up := by
    rw [ca_x σ f1 f3 f4 (fA.trans k1') fL fK (by decide), f2, lz_osucc, cR]
    congr 1
    funext s
    rw [kc_139_1051]
  have e34 : (lj_put σ 94 (20 * p + L.length) (Int32.ofNat ((kY F).2.1 + 1))).1 8 34 = Int32.ofNat (20 * p + L.length) := by rw [lj_put_1, if_neg (by omega)]; exact V.i34
  have e24 : (lj_put σ 94 (20 * p + L.length) (Int32.ofNat ((kY F).2.1 + 1))).1 24 (Int32.ofNat (kY F).2.1).toNatClampNeg = Int32.ofNat x := by
    rw [lj_put_1, if_neg (by omega), f5, (h.1.1 24 _ (by unfold cdC; simp)).1]; exact kx
  have e25 : (lj_put σ 94 (20 * p + L.length) (Int32.ofNat ((kY F).2.1 + 1))).1 25 (Int32.ofNat (kY F).2.1).toNatClampNeg = Int32.ofNat a := by
    rw [lj_put_1, if_neg (by omega), f5, (h.1.1 25 _ (by unfold cdC; simp)).1]; exact kc
  have m7 := ((h.cx hF h0 hs).2 (by rw [k2]; decide)).1.2.2.2.2.2.2
  have e22 : (lj_put τ 77 (48 * p + L.length) (Int32.ofNat ((kY F).2.2.1 + 1))).1 22 (Int32.ofNat (kY F).2.2.1).toNatClampNeg = Int32.ofNat x := by
    rw [lj_put_1, if_neg (by omega), m7, (h.1.2 22 _ (by unfold cdM; simp)).1]; exact k2''
  cases ov with
  | true =>
    obtain ⟨g1, g2⟩ := h.dn hF h0 rg V V.st (σ' := lj_put (lj_put σ 94 (20 * p + L.length) (Int32.ofNat ((kY F).2.1 + 1))) 94 (20 * p + L.length) (Int32.ofNat a)) (τ' := lj_put (lj_put τ 77 (48 * p + L.length) (Int32.ofNat ((kY F).2.2.1 + 1))) 77 (48 * p + L.length) (Int32.ofNat a')) (tq_94 (tq_94 (lf_rf _ _) _) _) (tm_77 (tm_77 (lf_rf _ _) _) _) (by simp [lj_put_1, lj_putL_1]) (by simp [lj_put_1, lj_putL_1]) (by simp [lj_put_1, lj_putL_1]) (by simp [lj_put_1, V.tp]) (by simp [lj_put_1, V.at.2.2.1]) (by simp [lj_put_1, V.at.2.2.2.2.1]) nl.2.2.2.1 V.fl (n' := n' + 1) (Or.inr ⟨Nat.succ_ne_zero _, hn ((kY F).1, a, a', (kY F).2.2.2.1, (kY F).2.2.2.2.1, (kY F).2.2.2.2.2) (List.mem_cons_of_mem _ List.mem_cons_self)⟩)
    refine ⟨ρ, _, _, _, List.mem_cons_of_mem _ List.mem_cons_self, go_step rg.1 ?_, run_step rg.2.1 rg.2.2.1 (m_hi h hF h0 V hs k2 (by decide) (fun z1 z2 => ?_)), g1, g2⟩
    · rw [cst]
      show lj_bv (lj_D lc_P lc_M217 412 _ _ _) _ _ = _
      rw [kc_217_412, if_pos f4, e34, if_pos (ofN_in (by omega) (by omega)), kc_217_433, kc_217_917, bv_ok, e25, lz_onat (by omega)]
    · rw [mz_40 _ z1 z2, mR, bi_ok, if_neg (by decide), if_pos (ofN_in (by omega) (by omega)), km_153_483, lz_onat (by omega), k2']
  | false =>
    obtain ⟨h1, rg1⟩ := h.ft hF h0 rg V true true
    have h1 : MB σ0 τ0 n np p r (fpT FP p (kTo F ((kY F).2.1 + 1) ((kY F).2.2.1 + 1) (kY F).2.2.2.1 (kY F).2.2.2.2.1 (kY F).2.2.2.2.2 0 0 :: L)) ρ A MO LA (lj_put σ 94 (20 * p + L.length) (Int32.ofNat ((kY F).2.1 + 1))) (lj_put τ 77 (48 * p + L.length) (Int32.ofNat ((kY F).2.2.1 + 1))) := h1
    have rg1 : rgR (lj_put σ 94 (20 * p + L.length) (Int32.ofNat ((kY F).2.1 + 1))) (lj_put τ 77 (48 * p + L.length) (Int32.ofNat ((kY F).2.2.1 + 1))) := rg1
    have fo := fpT_o FP p (kTo F ((kY F).2.1 + 1) ((kY F).2.2.1 + 1) (kY F).2.2.2.1 (kY F).2.2.2.2.1 (kY F).2.2.2.2.2 0 0 :: L)
    obtain ⟨ms1, ks1, ce1, me1, mq1, V1⟩ := h1.w fo rfl
    obtain ⟨τ2, ρ', y1, y2, y3⟩ := MB.nl h1 fo rfl V1 (u := (2, cnt)) (w := (2, cnt)) xn x2 (vR_whole _ _ _) (l' := x :: (kY F).2.2.2.2.1) (fun y => List.mem_cons)
    rw [fpT_2, kTo_2] at y3
    have y3 : MB σ0 τ0 n np p r (fpT FP p (kTo F ((kY F).2.1 + 1) ((kY F).2.2.1 + 1) (kY F).2.2.2.1 (x :: (kY F).2.2.2.2.1) (kY F).2.2.2.2.2 0 0 :: L)) ρ' A MO LA (setC (lj_put σ 94 (20 * p + L.length) (Int32.ofNat ((kY F).2.1 + 1))) (kB F + x) (2, cnt)) τ2 := y3
    have y1 : lj_R lm_P 150 [.ref 0, .int (Int32.ofNat (48 * p + L.length)), .int (Int32.ofNat x), .int 2, .long cnt] (lj_put τ 77 (48 * p + L.length) (Int32.ofNat ((kY F).2.2.1 + 1))) = some (.inl none, τ2) := y1
    have oM : ∀ k j, ¬ (54 ≤ k ∧ k ≤ 57) → ¬ (k = 0 ∧ j = 96) → k ≠ 87 → τ2.1 k j = (lj_put τ 77 (48 * p + L.length) (Int32.ofNat ((kY F).2.2.1 + 1))).1 k j ∧ τ2.2 k j = (lj_put τ 77 (48 * p + L.length) (Int32.ofNat ((kY F).2.2.1 + 1))).2 k j := fun k j z1 z2 z3 => y2 k j (by unfold nlM; simp; omega)
    have rg2 : rgR (setC (lj_put σ 94 (20 * p + L.length) (Int32.ofNat ((kY F).2.1 + 1))) (kB F + x) (2, cnt)) τ2 := by
      obtain ⟨r1, r2, r3, r4, r5⟩ := rg1
      exact ⟨by rw [(setC_o _ _ _ 8 46 (by omega)).1]; exact r1, by rw [(oM 0 143 (by omega) (by omega) (by omega)).1]; exact r2, by rw [(oM 0 129 (by omega) (by omega) (by omega)).1]; exact r3, by rw [(setC_o _ _ _ 8 45 (by omega)).1, (oM 0 144 (by omega) (by omega) (by omega)).1]; exact r4, by rw [(setC_o _ _ _ 8 44 (by omega)).2, (oM 0 145 (by omega) (by omega) (by omega)).2]; exact r5⟩
    have a3 : kB F + x < 325000 := by omega
    have eb : (lj_put σ 94 (20 * p + L.length) (Int32.ofNat ((kY F).2.1 + 1))).1 8 35 + Int32.ofNat x = Int32.ofNat (kB F + x) := by rw [lj_put_1, if_neg (by omega), h.bs hF h0, ← Int32.ofNat_add]
    refine ⟨ρ', _, τ2, _, List.mem_cons_self, go_step rg.1 ?_, run_step rg.2.1 rg.2.2.1 (m_hi h hF h0 V hs k2 (by decide) (fun z1 z2 => ?_)), y3.fin rg2 (hn _ List.mem_cons_self), rg2⟩
    · rw [cst]
      show lj_bv (lj_D lc_P lc_M217 357 _ _ _) _ _ = _
      rw [kc_217_357, if_pos f4, e24, eb, if_pos (ofN_in (by omega) (by omega)), if_pos f4, if_pos i0, if_pos (ofN_in (by omega) (by omega)), kc_217_433, kc_217_917, bv_ok, n0, cc0, lz_onat (by omega), setC_lt _ a3]
    · rw [mz_40 _ z1 z2, mR, bi_ok, if_pos (by decide), if_pos z1, t0, bl_ok, e22, y1, bv_ok, km_153_483]
theorem act_48 {σ0 τ0 σ τ : lj_S} {n np p : Nat} {r : List Nat} {FP : Nat → List kF} {ρ : Nat → Nat} {A MO LA : List Nat} (h : MB σ0 τ0 n np p r FP ρ A MO LA σ τ) {F : kF} {L : List kF} (hF : FP p = F :: L) (h0 : kS F = 0) (rg : rgR σ τ) (hs : stF σ0 τ0) {Z : List pT} (hk : insK σ0 τ0 (kY F).1 (kY F).2.1 (kY F).2.2.1 (kY F).2.2.2.1 (kY F).2.2.2.2.1 (kY F).2.2.2.2.2 Z 48) {n' : Nat} (hn : ∀ z ∈ Z, gn σ0 τ0 n' z) : nxR σ0 τ0 n np p r FP ρ A MO LA σ τ F L n' Z := by
  obtain ⟨d, t, t', a', s', ht, ⟨ht', _, _⟩, ⟨ha', _⟩, hsh, hd, hd2, k1, k1', kb, k2, k2', k2'', rfl⟩ := hk
  obtain ⟨ms, ks, ce, me, mq, V⟩ := h.w hF h0
  have B := V.bd
  have nl := V.ff.1
  have st := V.st
  have hO := V.ff.1.2.2.2.1
  have hfl := V.fl
  rw [hsh] at st hO hfl
  obtain ⟨m0, rfl, hv, st⟩ := hid3 st
  obtain ⟨b1, b2, b3, _⟩ := stk_bd st
  rw [← hd] at hv
  have dn : d < nH σ0 (kY F).1 := by unfold nH; omega
  obtain ⟨f1, f2, f3, f4, fA, fL, fK, f5⟩ := c_ft h hF h0 hs k1 (by decide)
  have hq : lf (tqC p (20 * p + L.length) (kB F + nL σ0 (kY F).1)) σ (lj_put σ 94 (20 * p + L.length) (Int32.ofNat ((kY F).2.1 + 1))) := tq_94 (lf_rf _ _) _
  have ch := c_hid h hF h0 V hq d (by omega)
  obtain ⟨cnt, hc⟩ : ∃ y, y = (cv σ ((kB F + nL σ0 (kY F).1) + 3 * d)).2 := ⟨_, rfl⟩
  obtain ⟨stp, hp⟩ : ∃ y, y = (cv σ ((kB F + nL σ0 (kY F).1) + 3 * d + 2)).2 := ⟨_, rfl⟩
  have at1 := mAt_p (i := (48 * p + L.length)) (v := Int32.ofNat ((kY F).2.2.1 + 1)) V.at
  have tn : ∀ i, i < 3 → lj_R lm_P 125 [.ref 0, .int (Int32.ofNat (2 - i))] (lj_put τ 77 (48 * p + L.length) (Int32.ofNat ((kY F).2.2.1 + 1))) = some (.inl (some (.long (cv σ ((kB F + nL σ0 (kY F).1) + 3 * d + i)).2)), lj_put τ 77 (48 * p + L.length) (Int32.ofNat ((kY F).2.2.1 + 1))) := fun i hi => by
    have := m_topN at1 (d := 2 - i) (by omega)
    rw [mv_p _ (by decide), show m0 + 3 - 1 - (2 - i) = m0 + i by omega, (hv i hi).2] at this
    exact this
  have t0 : lj_R lm_P 125 [.ref 0, .int 2] (lj_put τ 77 (48 * p + L.length) (Int32.ofNat ((kY F).2.2.1 + 1))) = some (.inl (some (.long cnt)), lj_put τ 77 (48 * p + L.length) (Int32.ofNat ((kY F).2.2.1 + 1))) := by rw [hc]; exact tn 0 (by decide)
  have t2 : lj_R lm_P 125 [.ref 0, .int 0] (lj_put τ 77 (48 * p + L.length) (Int32.ofNat ((kY F).2.2.1 + 1))) = some (.inl (some (.long stp)), lj_put τ 77 (48 * p + L.length) (Int32.ofNat ((kY F).2.2.1 + 1))) := by rw [hp]; exact tn 2 (by decide)
  have cc0 : (lj_put σ 94 (20 * p + L.length) (Int32.ofNat ((kY F).2.1 + 1))).2 80 ((kB F + nL σ0 (kY F).1) + 3 * d) = cnt := by rw [hc]; rfl
  have cc2 : (lj_put σ 94 (20 * p + L.length) (Int32.ofNat ((kY F).2.1 + 1))).2 80 ((kB F + nL σ0 (kY F).1) + 3 * d + 2) = stp := by rw [hp]; rfl
  have i0 : lj_in (Int32.ofNat ((kB F + nL σ0 (kY F).1) + 3 * d)) 325000 := ofN_in (by omega) (by omega)
  have i2 : lj_in (Int32.ofNat ((kB F + nL σ0 (kY F).1) + 3 * d + 2)) 325000 := ofN_in (by omega) (by omega)
  have n0 : (Int32.ofNat ((kB F + nL σ0 (kY F).1) + 3 * d)).toNatClampNeg = (kB F + nL σ0 (kY F).1) + 3 * d := lz_onat (by omega)
  have n2 : (Int32.ofNat ((kB F + nL σ0 (kY F).1) + 3 * d + 2)).toNatClampNeg = (kB F + nL σ0 (kY F).1) + 3 * d + 2 := lz_onat (by omega)
  have a2 : Int32.ofNat ((kB F + nL σ0 (kY F).1) + 3 * d) + 2 = Int32.ofNat ((kB F + nL σ0 (kY F).1) + 3 * d + 2) := by rw [show (2 : Int32) = Int32.ofNat 2 from rfl, ← Int32.ofNat_add]
  have cc0' : (lj_put σ 94 (20 * p + L.length) (Int32.ofNat ((kY F).2.1 + 1))).2 80 (Int32.ofNat ((kB F + nL σ0 (kY F).1) + 3 * d)).toNatClampNeg = cnt := by rw [n0]; exact cc0
  have cc2' : (lj_put σ 94 (20 * p + L.length) (Int32.ofNat ((kY F).2.1 + 1))).2 80 (Int32.ofNat ((kB F + nL σ0 (kY F).1) + 3 * d + 2)).toNatClampNeg = stp := by rw [n2]; exact cc2
  obtain ⟨ov, hov⟩ : ∃ x : Int32, x = (if lg_cmp stp 0 ≤ 0 then (if lg_cmp (cnt + stp) cnt ≤ 0 then 0 else 1) else (if 0 ≤ lg_cmp (cnt + stp) cnt then 0 else 1)) := ⟨_, rfl⟩
  have cR : lj_R lc_P 217 [.ref 8, .int (Int32.ofNat (kY F).2.1), .int (Int32.ofNat d), .int (σ0.1 26 (kY F).2.1)] (lj_put σ 94 (20 * p + L.length) (Int32.ofNat ((kY F).2.1 + 1))) = lj_D lc_P lc_M217 515 [.ref 8, .int (Int32.ofNat (kY F).2.1), .int (Int32.ofNat d), .int (σ0.1 26 (kY F).2.1), .int (Int32.ofNat ((kB F + nL σ0 (kY F).1) + 3 * d)), .long (cnt + stp), .retAddr 0, .retAddr 0] [.int ov] (lj_put σ 94 (20 * p + L.length) (Int32.ofNat ((kY F).2.1 + 1))) := by
    rw [cg_37 _ f4 (by rw [lj_put_1, if_neg (by omega)]; exact fK), ch, bi_ok, a2, if_pos i0, if_pos i2, if_pos i2, cc2', cc0', hov]
    by_cases z : lg_cmp stp 0 ≤ 0
    · rw [if_pos z, if_pos z, if_pos i0]
      by_cases y : lg_cmp (cnt + stp) cnt ≤ 0
      · rw [if_pos y, if_pos y]
      · rw [if_neg y, if_neg y]
    · rw [if_neg z, if_neg z, if_pos i0]
      by_cases y : 0 ≤ lg_cmp (cnt + stp) cnt
      · rw [if_pos y, if_pos y]
      · rw [if_neg y, if_neg y]
  have e10 : 10000 * (lj_put τ 77 (48 * p + L.length) (Int32.ofNat ((kY F).2.2.1 + 1))).1 0 111 + (lj_put τ 77 (48 * p + L.length) (Int32.ofNat ((kY F).2.2.1 + 1))).1 63 ((lj_put τ 77 (48 * p + L.length) (Int32.ofNat ((kY F).2.2.1 + 1))).1 0 111).toNatClampNeg - 3 = Int32.ofNat (10000 * p + m0) := by
    have e1 : (3 : Int32).toInt = 3 := by decide
    rw [at1.i.2.2.1]
    exact lz_ext (by rw [lz_sub (by rw [lz_lit (by omega), e1]; omega), lz_lit (by omega), e1, lz_lit (by omega)]; omega)
  have m7 := ((h.cx hF h0 hs).2 (by rw [k2]; decide)).1.2.2.2.2.2.2
  have e22 : (lj_put τ 77 (48 * p + L.length) (Int32.ofNat ((kY F).2.2.1 + 1))).1 22 (Int32.ofNat (kY F).2.2.1).toNatClampNeg = Int32.ofNat t' := by
    rw [lj_put_1, if_neg (by omega), m7, (h.1.2 22 _ (by unfold cdM; simp)).1]; exact k2''
  have mR : lj_R lm_P 174 [.ref 0, .int (Int32.ofNat (48 * p + L.length)), .int (Int32.ofNat a'), .int (Int32.ofNat t')] (lj_put τ 77 (48 * p + L.length) (Int32.ofNat ((kY F).2.2.1 + 1))) = some (.inl none, lj_put (lj_putL (lj_put τ 77 (48 * p + L.length) (Int32.ofNat ((kY F).2.2.1 + 1))) 72 (10000 * p + m0) (cnt + stp)) 77 (48 * p + L.length) (if ov = 0 then Int32.ofNat t' else Int32.ofNat a')) := by
    have x57 : lj_D lm_P lm_M174 57 [.ref 0, .int (Int32.ofNat (48 * p + L.length)), .int (Int32.ofNat a'), .int (Int32.ofNat t'), .long cnt, .retAddr 0, .long stp, .retAddr 0, .long (cnt + stp), .retAddr 0, .retAddr 0] [.int ov] (lj_put τ 77 (48 * p + L.length) (Int32.ofNat ((kY F).2.2.1 + 1))) = some (.inl none, lj_put (lj_putL (lj_put τ 77 (48 * p + L.length) (Int32.ofNat ((kY F).2.2.1 + 1))) 72 (10000 * p + m0) (cnt + stp)) 77 (48 * p + L.length) (if ov = 0 then Int32.ofNat t' else Int32.ofNat a')) := by
      rw [km_174_57, if_pos at1.i.1, e10, if_pos (ofN_in (by omega) (by omega)), lz_onat (n := 10000 * p + m0) (by omega)]
      by_cases y : ov = 0
      · rw [if_pos y, if_pos y, km_174_101, if_pos (ofN_in (by omega) (by omega)), lz_onat (by omega)]
      · rw [if_neg y, if_neg y, km_174_101, if_pos (ofN_in (by omega) (by omega)), lz_onat (by omega)]
    rw [rm_174, km_174_0, t0, bl_ok, t2, bl_ok, ← x57, hov]
    by_cases z : lg_cmp stp 0 ≤ 0
    · rw [if_pos z, if_pos z]
      by_cases y : lg_cmp (cnt + stp) cnt ≤ 0
      · rw [if_pos y, if_pos y]
      · rw [if_neg y, if_neg y]
    · rw [if_neg z, if_neg z]
      by_cases y : 0 ≤ lg_cmp (cnt + stp) cnt
      · rw [if_pos y, if_pos y]
      · rw [if_neg y, if_neg y]
  -- both behind it
  have fin : ∀ (c' m' : Nat) (τ' : lj_S), τ' = lj_put (lj_putL (lj_put τ 77 (48 * p + L.length) (Int32.ofNat ((kY F).2.2.1 + 1))) 72 (10000 * p + m0) (cnt + stp)) 77 (48 * p + L.length) (Int32.ofNat m') → ∀ σ', σ' = lj_put (lj_putL (lj_put σ 94 (20 * p + L.length) (Int32.ofNat ((kY F).2.1 + 1))) 80 ((kB F + nL σ0 (kY F).1) + 3 * d) (cnt + stp)) 94 (20 * p + L.length) (Int32.ofNat c') → gn σ0 τ0 n' ((kY F).1, c', m', (kY F).2.2.2.1, (kY F).2.2.2.2.1, (kY F).2.2.2.2.2) → MB σ0 τ0 n np p r (fpT FP p (kTo F c' m' (kY F).2.2.2.1 (kY F).2.2.2.2.1 (kY F).2.2.2.2.2 (n' + 1) 0 :: L)) ρ A MO LA σ' τ' ∧ rgR σ' τ' := fun c' m' τ' et σ' es hg => by
    have f : lf (tqC p (20 * p + L.length) (kB F + nL σ0 (kY F).1)) σ σ' := by rw [es]; exact tq_94 (lf_putL hq 80 _ _ (tqC_t (by omega))) _
    have g : lf (tqM p (48 * p + L.length) (ms + kD F) ks) τ τ' := by rw [et]; exact tm_77 (lf_putL (tm_77 (lf_rf _ _) _) 72 _ _ (tqM_t (by omega))) _
    have oC : ∀ k j, k ≠ 94 → σ'.1 k j = σ.1 k j := fun k j z => by rw [es, lj_put_1, if_neg (by omega), lj_putL_1, lj_put_1, if_neg (by omega)]
    have oC2 : ∀ k j, ¬ (k = 80 ∧ j = (kB F + nL σ0 (kY F).1) + 3 * d) → σ'.2 k j = σ.2 k j := fun k j z => by
      rw [es]
      show (lj_putL (lj_put σ 94 (20 * p + L.length) (Int32.ofNat ((kY F).2.1 + 1))) 80 ((kB F + nL σ0 (kY F).1) + 3 * d) (cnt + stp)).2 k j = _
      rw [lj_putL_2, if_neg z]
      rfl
    have oM : ∀ k j, k ≠ 77 → τ'.1 k j = τ.1 k j := fun k j z => by rw [et, lj_put_1, if_neg (by omega), lj_putL_1, lj_put_1, if_neg (by omega)]
    have oM2 : ∀ k j, ¬ (k = 72 ∧ j = 10000 * p + m0) → τ'.2 k j = τ.2 k j := fun k j z => by
      rw [et]
      show (lj_putL (lj_put τ 77 (48 * p + L.length) (Int32.ofNat ((kY F).2.2.1 + 1))) 72 (10000 * p + m0) (cnt + stp)).2 k j = _
      rw [lj_putL_2, if_neg z]
      rfl
    have nC : σ'.2 80 ((kB F + nL σ0 (kY F).1) + 3 * d) = cnt + stp := by
      rw [es]
      show (lj_putL (lj_put σ 94 (20 * p + L.length) (Int32.ofNat ((kY F).2.1 + 1))) 80 ((kB F + nL σ0 (kY F).1) + 3 * d) (cnt + stp)).2 80 ((kB F + nL σ0 (kY F).1) + 3 * d) = cnt + stp
      rw [lj_putL_2, if_pos ⟨rfl, rfl⟩]
    have nM : τ'.2 72 (10000 * p + m0) = cnt + stp := by
      rw [et]
      show (lj_putL (lj_put τ 77 (48 * p + L.length) (Int32.ofNat ((kY F).2.2.1 + 1))) 72 (10000 * p + m0) (cnt + stp)).2 72 (10000 * p + m0) = cnt + stp
      rw [lj_putL_2, if_pos ⟨rfl, rfl⟩]
    have stn : stk σ' τ' p (kB F + nL σ0 (kY F).1) (kB F + nL σ0 (kY F).1 + 3 * nH σ0 (kY F).1) (ms + kD F) ks (3 :: s') ce (m0 + 3) mq (σ'.1 97 (20 * p + L.length)) := by
      rw [oC 97 _ (by omega)]
      refine Or.inr (Or.inr (Or.inl ⟨Or.inl rfl, m0, rfl, fun i hi => ?_, ?_⟩))
      · rw [← hd]
        obtain ⟨q1, q2⟩ := hv i hi
        refine ⟨?_, fun _ => by rw [oC 79 _ (by omega)]; exact q1⟩
        by_cases z : i = 0
        · have e1 : cv σ' ((kB F + nL σ0 (kY F).1) + 3 * d + i) = (2, cnt + stp) := by
            unfold cv
            rw [z, Nat.add_zero, nC, oC 79 _ (by omega)]
            rw [z] at q1
            exact Prod.ext q1 rfl
          have e2 : mv τ' (10000 * p + m0 + i) = (2, cnt + stp) := by
            unfold mv
            rw [z, Nat.add_zero, nM, oM 71 _ (by omega)]
            rw [z, Nat.add_zero, Nat.add_zero] at q2
            rw [z, Nat.add_zero] at q1
            have := congrArg Prod.fst q2
            exact Prod.ext (this.trans q1) rfl
          rw [e1, e2]
          exact vR_whole _ _ _
        · have e1 : cv σ' ((kB F + nL σ0 (kY F).1) + 3 * d + i) = cv σ ((kB F + nL σ0 (kY F).1) + 3 * d + i) := by unfold cv; rw [oC 79 _ (by omega), oC2 80 _ (by omega)]
          have e2 : mv τ' (10000 * p + m0 + i) = mv τ (10000 * p + (m0 + i)) := by unfold mv; rw [oM 71 _ (by omega), oM2 72 _ (by omega), Nat.add_assoc]
          rw [e1, e2, q2]
          have : cv σ ((kB F + nL σ0 (kY F).1) + 3 * d + i) = (2, (cv σ ((kB F + nL σ0 (kY F).1) + 3 * d + i)).2) := Prod.ext q1 rfl
          rw [this]
          exact vR_whole _ _ _
      · exact stk_cg (fun a b z => vR_tq f g z) st (fun j z => ⟨oC 79 _ (by omega), oC2 80 _ (by omega), oC 81 _ (by omega)⟩) (fun j z => ⟨oC 79 _ (by omega), oC2 80 _ (by omega)⟩) (fun j z => ⟨oM 71 _ (by omega), oM2 72 _ (by omega)⟩) (fun j z => oM 73 _ (by omega))
    exact h.hf hF h0 rg V f g (s' := (kY F).2.2.2.1) (by rw [hsh]; exact stn) (by rw [es, lj_put_1, if_pos ⟨rfl, rfl⟩]) (by rw [et, lj_put_1, if_pos ⟨rfl, rfl⟩]) (by rw [oC 8 8 (by omega)]; exact V.tp) (by rw [oM 63 p (by omega)]; exact V.at.2.2.1) (by rw [oM 64 p (by omega)]; exact V.at.2.2.2.2.1) nl.2.2.2.1 V.fl (Or.inr ⟨Nat.succ_ne_zero _, hg⟩) (fun z => absurd rfl z) (fun j => Or.inl (oC 81 j (by omega)))
  have e34 : (lj_put σ 94 (20 * p + L.length) (Int32.ofNat ((kY F).2.1 + 1))).1 8 34 = Int32.ofNat (20 * p + L.length) := by rw [lj_put_1, if_neg (by omega)]; exact V.i34
  have e24 : (lj_put σ 94 (20 * p + L.length) (Int32.ofNat ((kY F).2.1 + 1))).1 24 (Int32.ofNat (kY F).2.1).toNatClampNeg = Int32.ofNat t := by
    rw [lj_put_1, if_neg (by omega), f5, (h.1.1 24 _ (by unfold cdC; simp)).1]; exact kb
  have cst : lj_R lc_P 139 [.ref 8] σ = lj_bv (lj_D lc_P lc_M217 515 [.ref 8, .int (Int32.ofNat (kY F).2.1), .int (Int32.ofNat d), .int (σ0.1 26 (kY F).2.1), .int (Int32.ofNat ((kB F + nL σ0 (kY F).1) + 3 * d)), .long (cnt + stp), .retAddr 0, .retAddr 0] [.int ov] (lj_put σ 94 (20 * p + L.length) (Int32.ofNat ((kY F).2.1 + 1)))) (fun s => some (.inl (some (.int 1)), s)) lj_up := by
    rw [ca_x σ f1 f3 f4 (fA.trans k1') fL fK (by decide), f2, lz_osucc, cR]
    congr 1
    funext s
    rw [kc_139_1051]
  by_cases y : ov = 0
  · rw [if_pos y] at mR
    obtain ⟨g1, g2⟩ := fin t t' _ rfl _ rfl (hn ((kY F).1, t, t', (kY F).2.2.2.1, (kY F).2.2.2.2.1, (kY F).2.2.2.2.2) List.mem_cons_self)
    refine ⟨_, _, _, List.mem_cons_self, go_step rg.1 ?_, run_step rg.2.1 rg.2.2.1 (m_hi h hF h0 V hs k2 (by decide) (fun z1 z2 => ?_)), g1, g2⟩
    · rw [cst, kc_217_515, if_pos i0, if_pos y, if_pos f4, e34, if_pos (ofN_in (by omega) (by omega)), kc_217_552, kc_217_917, bv_ok, e24, n0, lz_onat (by omega)]
    · rw [mz_41 _ z1 z2, if_pos z1, e22, k2', mR, bv_ok, km_153_483]
  · rw [if_neg y] at mR
    have e2 : lj_put (lj_putL (lj_put σ 94 (20 * p + L.length) (Int32.ofNat ((kY F).2.1 + 1))) 80 ((kB F + nL σ0 (kY F).1) + 3 * d) (cnt + stp)) 94 (20 * p + L.length) (Int32.ofNat ((kY F).2.1 + 1)) = lj_putL (lj_put σ 94 (20 * p + L.length) (Int32.ofNat ((kY F).2.1 + 1))) 80 ((kB F + nL σ0 (kY F).1) + 3 * d) (cnt + stp) := by
      show lj_putL (lj_put (lj_put σ 94 (20 * p + L.length) (Int32.ofNat ((kY F).2.1 + 1))) 94 (20 * p + L.length) (Int32.ofNat ((kY F).2.1 + 1))) 80 ((kB F + nL σ0 (kY F).1) + 3 * d) (cnt + stp) = _
      rw [put_put]
    obtain ⟨g1, g2⟩ := fin ((kY F).2.1 + 1) a' _ rfl _ rfl (hn ((kY F).1, (kY F).2.1 + 1, a', (kY F).2.2.2.1, (kY F).2.2.2.2.1, (kY F).2.2.2.2.2) (List.mem_cons_of_mem _ List.mem_cons_self))
    rw [e2] at g1 g2
    refine ⟨_, _, _, List.mem_cons_of_mem _ List.mem_cons_self, go_step rg.1 ?_, run_step rg.2.1 rg.2.2.1 (m_hi h hF h0 V hs k2 (by decide) (fun z1 z2 => ?_)), g1, g2⟩
    · rw [cst, kc_217_515, if_pos i0, if_neg y, kc_217_552, kc_217_917, bv_ok, n0]
    · rw [mz_41 _ z1 z2, if_pos z1, e22, k2', mR, bv_ok, km_153_483]
