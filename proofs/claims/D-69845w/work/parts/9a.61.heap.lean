/-! fields of a table that is being made -/
/-- the table that lies there -/
theorem tb8 {σ τ : lj_S} {a b : vT} (h : vR σ τ a b) (k : a.1 = 4) {n : Nat} (hn : lv σ 7 0 = (n : Int)) : ∃ o : Nat, 1 ≤ o ∧ o ≤ n ∧ a.2 = i64 o ∧ b = a ∧ obA σ τ o 4 ∧ tm o = o := by
  obtain ⟨o, rfl, rfl, ho⟩ := h.tb k
  have h3 := ho.2.2.1
  rw [hn] at h3
  refine ⟨o, ho.1, by omega, rfl, rfl, ho, ?_⟩
  unfold tm
  rw [if_neg (by have := ho.1; omega)]
theorem m_top1 {τ : lj_S} {p m0 mq : Nat} (a : mAt τ p (m0 + 2) mq) : lj_R lm_P 124 [.ref 0, .int 1] τ = some (.inl (some (.int (mv τ (10000 * p + m0)).1)), τ) ∧ lj_R lm_P 125 [.ref 0, .int 1] τ = some (.inl (some (.long (mv τ (10000 * p + m0)).2)), τ) := by
  have h1 := m_topK a (d := 1) (by omega)
  have h2 := m_topN a (d := 1) (by omega)
  rw [show m0 + 2 - 1 - 1 = m0 by omega] at h1 h2
  exact ⟨h1, h2⟩
theorem m_top2 {τ : lj_S} {p m0 mq : Nat} (a : mAt τ p (m0 + 3) mq) : lj_R lm_P 125 [.ref 0, .int 2] τ = some (.inl (some (.long (mv τ (10000 * p + m0)).2)), τ) := by
  have h2 := m_topN a (d := 2) (by omega)
  rw [show m0 + 3 - 1 - 2 = m0 by omega] at h2
  exact h2
theorem tm_64' {p i ml kl : Nat} {τ τ1 : lj_S} (g : lf (tqN p i ml kl) τ τ1) (v : Int32) : lf (tqN p i ml kl) τ (lj_put τ1 64 p v) := lf_put g 64 p _ (by unfold tqN; rw [tqM_t (by omega)]; rfl)
/-- an item by its number -/
theorem act_31 {σ0 τ0 σ τ : lj_S} {n np p : Nat} {r : List Nat} {FP : Nat → List kF} {ρ : Nat → Nat} {A MO LA : List Nat} (h : MB σ0 τ0 n np p r FP ρ A MO LA σ τ) {F : kF} {L : List kF} (hF : FP p = F :: L) (h0 : kS F = 0) (rg : rgR σ τ) (hs : stF σ0 τ0) {Z : List pT} (hk : insK σ0 τ0 (kY F).1 (kY F).2.1 (kY F).2.2.1 (kY F).2.2.2.1 (kY F).2.2.2.2.1 (kY F).2.2.2.2.2 Z 31) {n' : Nat} (hn : ∀ z ∈ Z, gn σ0 τ0 n' z) : oaR σ0 τ0 n np p r FP ρ A MO LA σ τ F L n' Z := by
  obtain ⟨s', hsh, k1, k2, ⟨ii, hii, k1', k2'⟩, rfl⟩ := hk
  obtain ⟨ms, ks, ce, me, mq, V⟩ := h.w hF h0
  have B := V.bd
  have st := V.st
  have hO := V.ff.1.2.2.2.1
  have hfl := V.fl
  rw [hsh] at st hO hfl
  obtain ⟨c1, m1, rfl, rfl, hv, _, _, _, st⟩ := st.u0 (Or.inl rfl)
  obtain ⟨mq', rfl, h73, st⟩ := st.u2
  have st8 := st
  obtain ⟨c0, m0, rfl, rfl, h8, _, _, hk8, _⟩ := st.u0 (Or.inr (Or.inr rfl))
  obtain ⟨o, o1, o2, o3, o4, o5, o6⟩ := tb8 h8 (hk8 rfl) h.2.2.2.1.2.1
  obtain ⟨f1, f2, f3, f4, fA, fL, fK, f5⟩ := c_ft h hF h0 hs k1 (by decide)
  have hfl' : (flo (8 :: s')).length ≤ nH σ0 (kY F).1 := Nat.le_trans (flo_t 2 _) (Nat.le_trans (flo_t 0 _) hfl)
  have fC : lf (tqC p (20 * p + L.length) (c0 + 1)) σ (lj_put (lj_put σ 94 (20 * p + L.length) (Int32.ofNat ((kY F).2.1 + 1))) 8 8 (Int32.ofNat (c0 + 1))) := tq_88 (tq_94 (lf_rf _ _) _) _
  have fM1 : lf (tqM p (48 * p + L.length) (m0 + 1) mq') τ (lj_put (lj_put τ 77 (48 * p + L.length) (Int32.ofNat ((kY F).2.2.1 + 1))) 64 p (Int32.ofNat mq')) := tm_64 (tm_77 (lf_rf _ _) _) _
  obtain ⟨g1, g2⟩ := h.dn hF h0 rg V st8 fC (tm_63 fM1 (Int32.ofNat (m0 + 1))) (by simp [lj_put_1, lj_putL_1]) (by simp [lj_put_1, lj_putL_1]) (by simp [lj_put_1, lj_putL_1]) (by simp [lj_put_1, lj_putL_1]) (by simp [lj_put_1, lj_putL_1]) (by simp [lj_put_1, lj_putL_1]) hO.tl.tl hfl' (Or.inr ⟨Nat.succ_ne_zero _, hn _ List.mem_cons_self⟩)
  obtain ⟨i1, i2, i3⟩ := c_pre (x := σ.1 8 8) (t := c0 + 1) V.tp (by omega)
  obtain ⟨j1, j2, j3⟩ := c_pre (x := σ.1 8 8 - 1) (t := c0) i3 (by omega)
  have at1 : mAt (lj_put (lj_put τ 77 (48 * p + L.length) (Int32.ofNat ((kY F).2.2.1 + 1))) 64 p (Int32.ofNat mq')) p (m0 + 2) mq' := by
    obtain ⟨a1, a2, a3, a4, a5, a6⟩ := V.at
    exact ⟨by simp [lj_put_1, a1], a2, by rw [lj_put_1, if_neg (by omega), lj_put_1, if_neg (by omega)]; exact a3, a4, (by simp [lj_put_1, lj_putL_1]), by omega⟩
  have t1 := (m_top1 at1).2
  rw [mv_p _ (by decide), mv_p _ (by decide), o4] at t1
  have at0 := mAt_p (i := (48 * p + L.length)) (v := Int32.ofNat ((kY F).2.2.1 + 1)) V.at
  have ev : tk τ p (m0 + 1 + 1) = mv τ (10000 * p + (m0 + 1)) := tk_1 τ p (m0 + 1)
  have atm : ∀ τ2 : lj_S, (τ2.1 0 111 = (lj_put (lj_put τ 77 (48 * p + L.length) (Int32.ofNat ((kY F).2.2.1 + 1))) 64 p (Int32.ofNat mq')).1 0 111) → τ2.1 63 p = (lj_put (lj_put τ 77 (48 * p + L.length) (Int32.ofNat ((kY F).2.2.1 + 1))) 64 p (Int32.ofNat mq')).1 63 p → τ2.1 64 p = (lj_put (lj_put τ 77 (48 * p + L.length) (Int32.ofNat ((kY F).2.2.1 + 1))) 64 p (Int32.ofNat mq')).1 64 p → lj_R lm_P 126 [.ref 0, .int 1] τ2 = some (.inl none, lj_put τ2 63 p (Int32.ofNat (m0 + 1))) := fun τ2 e1 e2 e3 => by
    have a2 : mAt τ2 p (m0 + 2) mq' := by
      obtain ⟨a1, a2, a3, a4, a5, a6⟩ := at1
      exact ⟨by rw [e1]; exact a1, a2, by rw [e2]; exact a3, a4, by rw [e3]; exact a5, a6⟩
    have := m_drop a2 (d := 1) (by omega)
    exact this
  have cst : lj_R lc_P 139 [.ref 8] σ = _ := ca_24 σ f1 f3 f4 (fA.trans k1') fL fK
  have o3' : (σ.2 80 c0).toInt32 = Int32.ofNat o := by
    have : σ.2 80 c0 = i64 o := o3
    rw [this, i64_32]
  rw [if_pos j1, if_pos i1, if_pos i1, j2, i2, i3, f2, lz_osucc, o3'] at cst
  have kw : vR σ τ (2, (Int32.ofNat ii).toInt64) (2, (Int32.ofNat ii).toInt64) := vR_whole _ _ _
  have o3m : ((cv σ c0).2 : Int64).toInt32 = Int32.ofNat o := o3'
  rcases g1.set63 (t := o) o2 (vR_tq fC fM1 kw) (show (2 : Int32) ≠ 0 by decide) (vR_tq fC fM1 hv) (fun z => by omega) (by rw [(fC 57 o (tqC_f (sxC_f (by omega)) (by omega))).1]; exact o5.2.2.2.1) with ⟨x1, x2⟩ | ⟨σ', τ', x1, x2, x3, x4, x5⟩
  · right
    refine ⟨F, h0, σ, lj_put (lj_put (lj_put σ 94 (20 * p + L.length) (Int32.ofNat ((kY F).2.1 + 1))) 8 8 (Int32.ofNat (c0 + 1))) 2 6 1, lj_put (lj_put (lj_put (lj_put τ 77 (48 * p + L.length) (Int32.ofNat ((kY F).2.2.1 + 1))) 64 p (Int32.ofNat mq')) 0 143 4) 63 p (Int32.ofNat (m0 + 1)), fun _ => rfl, rg.1, ?_, run_step rg.2.1 rg.2.2.1 (m_hi h hF h0 V hs k2 (by decide) (fun z1 z2 => ?_)), ?_⟩
    · have x1 : lj_R lc_P 113 [.ref 7, .int (Int32.ofNat o), .int 2, .long (Int32.ofNat ii).toInt64, .int (σ.1 79 (c0 + 1)), .long (σ.2 80 (c0 + 1))] _ = _ := x1
      rw [cst, x1, bv_th]
    · have x2 : lj_R lm_P 108 [.ref 0, .int (Int32.ofNat (tm o)), .int 2, .long (Int32.ofNat ii).toInt64, .int (mv τ (10000 * p + (m0 + 1))).1, .long (mv τ (10000 * p + (m0 + 1))).2] _ = _ := x2
      rw [o6] at x2
      rw [mz_28 _ z1 z2, if_pos at0.i.1, if_pos at0.i.1, at0.i.2.1, at0.2.2.2.2.1, lz_pred', t1, bl_ok, o3m, k2', ev, x2, bi_ok, atm _ (by simp [lj_put_1, lj_putL_1]) (by simp [lj_put_1, lj_putL_1]) (by simp [lj_put_1, lj_putL_1]), bv_ok, km_153_483]
    · exact h.nr rg (tq_26 fC _) (tn_63 (tn_143 (tqN_m fM1) _) _) (by simp [lj_put_1, lj_putL_1]) (by simp [lj_put_1, lj_putL_1])
  · left
    refine ⟨σ', _, _, List.mem_cons_self, go_step rg.1 ?_, run_step rg.2.1 rg.2.2.1 (m_hi h hF h0 V hs k2 (by decide) (fun z1 z2 => ?_)), x3, rg_hw g2 x4 x5⟩
    · have x1 : lj_R lc_P 113 [.ref 7, .int (Int32.ofNat o), .int 2, .long (Int32.ofNat ii).toInt64, .int (σ.1 79 (c0 + 1)), .long (σ.2 80 (c0 + 1))] _ = _ := x1
      rw [cst, x1, bv_ok, kc_139_1051]
    · have x2 : lj_R lm_P 108 [.ref 0, .int (Int32.ofNat (tm o)), .int 2, .long (Int32.ofNat ii).toInt64, .int (mv τ (10000 * p + (m0 + 1))).1, .long (mv τ (10000 * p + (m0 + 1))).2] _ = _ := x2
      rw [o6] at x2
      rw [mz_28 _ z1 z2, if_pos at0.i.1, if_pos at0.i.1, at0.i.2.1, at0.2.2.2.2.1, lz_pred', t1, bl_ok, o3m, k2', ev, x2, bi_ok, atm τ' (x5 0 111 rfl).1 (x5 63 p rfl).1 (x5 64 p rfl).1, bv_ok, km_153_483]
