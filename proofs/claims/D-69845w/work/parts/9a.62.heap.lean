/-! fields with keys -/
theorem act_key {σ0 τ0 σ τ : lj_S} {n np p : Nat} {r : List Nat} {FP : Nat → List kF} {ρ : Nat → Nat} {A MO LA : List Nat} (h : MB σ0 τ0 n np p r FP ρ A MO LA σ τ) {F : kF} {L : List kF} (hF : FP p = F :: L) (h0 : kS F = 0) (rg : rgR σ τ) (hs : stF σ0 τ0) {kx : Nat} (hkx : kx = 0 ∨ kx = 7) {s' : List Nat} (hsh : (kY F).2.2.2.1 = 0 :: kx :: 8 :: s') (k1 : σ0.1 22 (kY F).2.1 = 26) (k2 : τ0.1 20 (kY F).2.2.1 = 27) (kl : kx = 0 → σ0.1 26 (kY F).2.1 = τ0.1 23 (kY F).2.2.1) {n' : Nat} (hn : gn σ0 τ0 n' ((kY F).1, (kY F).2.1 + 1, (kY F).2.2.1 + 1, 8 :: s', (kY F).2.2.2.2.1, (kY F).2.2.2.2.2)) : oaR σ0 τ0 n np p r FP ρ A MO LA σ τ F L n' [((kY F).1, (kY F).2.1 + 1, (kY F).2.2.1 + 1, 8 :: s', (kY F).2.2.2.2.1, (kY F).2.2.2.2.2)] := by
  obtain ⟨ms, ks, ce, me, mq, V⟩ := h.w hF h0
  have B := V.bd
  have st := V.st
  have hO := V.ff.1.2.2.2.1
  have hfl := V.fl
  have m64 : τ.1 64 p = Int32.ofNat mq := V.at.2.2.2.2.1
  rw [hsh] at st hO hfl
  obtain ⟨c2, m2, rfl, rfl, hv, _, _, _, st⟩ := st.u0 (Or.inl rfl)
  obtain ⟨c1, m1, rfl, rfl, hkv, _, hk7, _, st⟩ := st.u0 (by rcases hkx with e | e; exact Or.inl e; exact Or.inr (Or.inl e))
  have st8 := st
  obtain ⟨c0, m0, rfl, rfl, h8, _, _, hk8, _⟩ := st.u0 (Or.inr (Or.inr rfl))
  obtain ⟨o, o1, o2, o3, o4, o5, o6⟩ := tb8 h8 (hk8 rfl) h.2.2.2.1.2.1
  obtain ⟨f1, f2, f3, f4, fA, fL, fK, f5⟩ := c_ft h hF h0 hs k1 (by decide)
  have hfl' : (flo (8 :: s')).length ≤ nH σ0 (kY F).1 := Nat.le_trans (flo_t kx _) (Nat.le_trans (flo_t 0 _) hfl)
  have fC : lf (tqC p (20 * p + L.length) (c0 + 1)) σ (lj_put (lj_put σ 94 (20 * p + L.length) (Int32.ofNat ((kY F).2.1 + 1))) 8 8 (Int32.ofNat (c0 + 1))) := tq_88 (tq_94 (lf_rf _ _) _) _
  have fM1 : lf (tqM p (48 * p + L.length) (m0 + 1) mq) τ (lj_put τ 77 (48 * p + L.length) (Int32.ofNat ((kY F).2.2.1 + 1))) := tm_77 (lf_rf _ _) _
  have fM : lf (tqM p (48 * p + L.length) (m0 + 1) mq) τ (lj_put (lj_put τ 77 (48 * p + L.length) (Int32.ofNat ((kY F).2.2.1 + 1))) 63 p (Int32.ofNat (m0 + 1))) := tm_63 fM1 _
  have dn : ∀ N, (N = 0 ∨ N ≠ 0 ∧ gn σ0 τ0 (N - 1) ((kY F).1, (kY F).2.1 + 1, (kY F).2.2.1 + 1, 8 :: s', (kY F).2.2.2.2.1, (kY F).2.2.2.2.2)) → MB σ0 τ0 n np p r (fpT FP p (kTo F ((kY F).2.1 + 1) ((kY F).2.2.1 + 1) (8 :: s') (kY F).2.2.2.2.1 (kY F).2.2.2.2.2 N 0 :: L)) ρ A MO LA (lj_put (lj_put σ 94 (20 * p + L.length) (Int32.ofNat ((kY F).2.1 + 1))) 8 8 (Int32.ofNat (c0 + 1))) (lj_put (lj_put τ 77 (48 * p + L.length) (Int32.ofNat ((kY F).2.2.1 + 1))) 63 p (Int32.ofNat (m0 + 1))) ∧ rgR (lj_put (lj_put σ 94 (20 * p + L.length) (Int32.ofNat ((kY F).2.1 + 1))) 8 8 (Int32.ofNat (c0 + 1))) (lj_put (lj_put τ 77 (48 * p + L.length) (Int32.ofNat ((kY F).2.2.1 + 1))) 63 p (Int32.ofNat (m0 + 1))) := fun N hN => h.dn hF h0 rg V st8 fC fM (by simp [lj_put_1, lj_putL_1]) (by simp [lj_put_1, lj_putL_1]) (by simp [lj_put_1, lj_putL_1]) (by simp [lj_put_1, lj_putL_1]) (by simp [lj_put_1, lj_putL_1]) (by simp [lj_put_1, m64]) hO.tl.tl hfl' hN
  have t3 : σ.1 8 8 - 2 = Int32.ofNat (c0 + 1) := by
    have e1 : (2 : Int32).toInt = 2 := by decide
    exact lz_ext (by rw [V.tp, lz_sub (by rw [lz_lit (by omega), e1]; omega), lz_lit (by omega), e1, lz_lit (by omega)]; omega)
  have t2 : σ.1 8 8 - 2 - 1 = Int32.ofNat c0 := by rw [t3]; exact lz_pred' _
  have t4 : σ.1 8 8 - 2 + 1 = Int32.ofNat (c0 + 2) := by rw [t3]; exact lz_osucc _
  have n3 : (σ.1 8 8 - 2).toNatClampNeg = c0 + 1 := by rw [t3]; exact lz_onat (by omega)
  have n2 : (σ.1 8 8 - 2 - 1).toNatClampNeg = c0 := by rw [t2]; exact lz_onat (by omega)
  have n4 : (σ.1 8 8 - 2 + 1).toNatClampNeg = c0 + 2 := by rw [t4]; exact lz_onat (by omega)
  have i3 : lj_in (σ.1 8 8 - 2) 325000 := by rw [t3]; exact ofN_in (by omega) (by omega)
  have i2 : lj_in (σ.1 8 8 - 2 - 1) 325000 := by rw [t2]; exact ofN_in (by omega) (by omega)
  have i4 : lj_in (σ.1 8 8 - 2 + 1) 325000 := by rw [t4]; exact ofN_in (by omega) (by omega)
  have o3' : (σ.2 80 c0).toInt32 = Int32.ofNat o := by
    have : σ.2 80 c0 = i64 o := o3
    rw [this, i64_32]
  have o3m : ((cv σ c0).2 : Int64).toInt32 = Int32.ofNat o := o3'
  -- the model's part
  have at1 := mAt_p (i := (48 * p + L.length)) (v := Int32.ofNat ((kY F).2.2.1 + 1)) V.at
  have q1 : lj_R lm_P 124 [.ref 0, .int 1] (lj_put τ 77 (48 * p + L.length) (Int32.ofNat ((kY F).2.2.1 + 1))) = some (.inl (some (.int (mv τ (10000 * p + (m0 + 1))).1)), lj_put τ 77 (48 * p + L.length) (Int32.ofNat ((kY F).2.2.1 + 1))) := by
    have := (m_top1 (m0 := m0 + 1) at1).1
    rw [mv_p _ (by decide)] at this
    exact this
  have q2 : lj_R lm_P 125 [.ref 0, .int 1] (lj_put τ 77 (48 * p + L.length) (Int32.ofNat ((kY F).2.2.1 + 1))) = some (.inl (some (.long (mv τ (10000 * p + (m0 + 1))).2)), lj_put τ 77 (48 * p + L.length) (Int32.ofNat ((kY F).2.2.1 + 1))) := by
    have := (m_top1 (m0 := m0 + 1) at1).2
    rw [mv_p _ (by decide)] at this
    exact this
  have q3 : lj_R lm_P 125 [.ref 0, .int 2] (lj_put τ 77 (48 * p + L.length) (Int32.ofNat ((kY F).2.2.1 + 1))) = some (.inl (some (.long (cv σ c0).2)), lj_put τ 77 (48 * p + L.length) (Int32.ofNat ((kY F).2.2.1 + 1))) := by
    have := m_top2 (m0 := m0) at1
    rw [mv_p _ (by decide), o4] at this
    exact this
  have q4 : lj_R lm_P 126 [.ref 0, .int 2] (lj_put τ 77 (48 * p + L.length) (Int32.ofNat ((kY F).2.2.1 + 1))) = some (.inl none, lj_put (lj_put τ 77 (48 * p + L.length) (Int32.ofNat ((kY F).2.2.1 + 1))) 63 p (Int32.ofNat (m0 + 1))) := m_drop at1 (d := 2) (by omega)
  have ev : tk τ p (m0 + 1 + 1 + 1) = mv τ (10000 * p + (m0 + 1 + 1)) := tk_1 τ p (m0 + 1 + 1)
  have l23 : (lj_put τ 77 (48 * p + L.length) (Int32.ofNat ((kY F).2.2.1 + 1))).1 23 (Int32.ofNat (kY F).2.2.1).toNatClampNeg = τ0.1 23 (kY F).2.2.1 := by
    have := ((h.cx hF h0 hs).2 (by rw [k2]; decide)).1.2.2.2.2.2.2
    rw [lj_put_1, if_neg (by omega), this, (h.1.2 23 _ (by unfold cdM; simp)).1]
  by_cases kz : (cv σ (c0 + 1)).1 = 0
  · -- the key is nil
    right
    have k0 : kx = 0 := by
      rcases hkx with e | e
      · exact e
      · exfalso
        have := hk7 e
        have kz : σ.1 79 (c0 + 1) = 0 := kz
        rw [kz] at this
        exact absurd this (by decide)
    obtain ⟨g1, g2⟩ := dn 0 (Or.inl rfl)
    obtain ⟨σ', τ', x1, x2, x3⟩ := cm_wrong g1.2.1 (σ0.1 26 (kY F).2.1) (e := 2) (by decide)
    refine ⟨_, rfl, σ, σ', τ', fun _ => rfl, rg.1, ?_, run_step rg.2.1 rg.2.2.1 (m_hi h hF h0 V hs k2 (by decide) (fun z1 z2 => ?_)), g1.er g2 x3⟩
    · have x1 : lj_br (lj_R lc_P 133 [.ref 8, .int (σ0.1 26 (kY F).2.1), .ref 1037] (lj_put (lj_put σ 94 (20 * p + L.length) (Int32.ofNat ((kY F).2.1 + 1))) 8 8 (Int32.ofNat (c0 + 1)))) (fun y s => (bif Nat.blt y 2000 then lj_up y s else none)) lj_up = some (.inr 2, σ') := x1
      rw [ca_26 σ f1 f3 f4 fA fL fK, if_pos i3, if_pos (by rw [n3]; exact kz), f2, lz_osucc, t3, x1]
    · have x2 : lj_R lm_P 142 [.ref 0, .int 2, .int (σ0.1 26 (kY F).2.1)] (lj_put (lj_put τ 77 (48 * p + L.length) (Int32.ofNat ((kY F).2.2.1 + 1))) 63 p (Int32.ofNat (m0 + 1))) = some (.inl none, τ') := x2
      rw [mz_27 _ z1 z2, l23, rm_154, km_154_0, q1, bi_ok, q2, bl_ok, q3, bl_ok, q4, bv_ok, if_pos (hkv.k0.1 kz), ← kl k0, x2, bv_ok, km_154_56, bv_ok, km_153_483]
  · obtain ⟨g1, g2⟩ := dn (n' + 1) (Or.inr ⟨Nat.succ_ne_zero _, hn⟩)
    have e63 : lj_put (lj_put (lj_put τ 77 (48 * p + L.length) (Int32.ofNat ((kY F).2.2.1 + 1))) 63 p (Int32.ofNat (m0 + 1))) 63 p (Int32.ofNat (m0 + 1)) = lj_put (lj_put τ 77 (48 * p + L.length) (Int32.ofNat ((kY F).2.2.1 + 1))) 63 p (Int32.ofNat (m0 + 1)) := put_put _ _ _ _ _
    rw [← e63] at g1 g2
    rcases g1.set63 (t := o) o2 (vR_tq fC fM hkv) kz (vR_tq fC fM hv) (fun z => by omega) (by rw [(fC 57 o (tqC_f (sxC_f (by omega)) (by omega))).1]; exact o5.2.2.2.1) with ⟨x1, x2⟩ | ⟨σ', τ', x1, x2, x3, x4, x5⟩
    · right
      refine ⟨F, h0, σ, lj_put (lj_put (lj_put σ 94 (20 * p + L.length) (Int32.ofNat ((kY F).2.1 + 1))) 8 8 (Int32.ofNat (c0 + 1))) 2 6 1, lj_put (lj_put (lj_put τ 77 (48 * p + L.length) (Int32.ofNat ((kY F).2.2.1 + 1))) 63 p (Int32.ofNat (m0 + 1))) 0 143 4, fun _ => rfl, rg.1, ?_, run_step rg.2.1 rg.2.2.1 (m_hi h hF h0 V hs k2 (by decide) (fun z1 z2 => ?_)), ?_⟩
      · have x1 : lj_R lc_P 113 [.ref 7, .int (Int32.ofNat o), .int (σ.1 79 (c0 + 1)), .long (σ.2 80 (c0 + 1)), .int (σ.1 79 (c0 + 2)), .long (σ.2 80 (c0 + 2))] _ = _ := x1
        rw [ca_26 σ f1 f3 f4 fA fL fK, if_pos i3, if_neg (by rw [n3]; exact kz), if_pos i2, if_pos i3, if_pos i3, if_pos i4, if_pos i4, n2, n3, n4, f2, lz_osucc, t3, o3', x1, bv_th]
      · have x2 : lj_R lm_P 108 [.ref 0, .int (Int32.ofNat (tm o)), .int (mv τ (10000 * p + (m0 + 1))).1, .long (mv τ (10000 * p + (m0 + 1))).2, .int (mv τ (10000 * p + (m0 + 1 + 1))).1, .long (mv τ (10000 * p + (m0 + 1 + 1))).2] _ = _ := x2
        rw [o6] at x2
        rw [mz_27 _ z1 z2, l23, rm_154, km_154_0, q1, bi_ok, q2, bl_ok, q3, bl_ok, q4, bv_ok, if_neg (fun y => kz (hkv.k0.2 y)), o3m, ev, x2, bi_ok, km_154_56, bv_ok, km_153_483]
      · exact h.nr rg (tq_26 fC _) (tn_143 (tqN_m fM) _) (by simp [lj_put_1, lj_putL_1]) (by simp [lj_put_1, lj_putL_1])
    · left
      have e6' : lj_put τ' 63 p (Int32.ofNat (m0 + 1)) = τ' := by
        have : τ'.1 63 p = Int32.ofNat (m0 + 1) := by rw [(x5 63 p rfl).1, lj_put_1, if_pos ⟨rfl, rfl⟩]
        rw [← this, put_id]
      have rgn := rg_hw g2 x4 x5
      rw [e6'] at x3 rgn
      refine ⟨σ', τ', _, List.mem_cons_self, go_step rg.1 ?_, run_step rg.2.1 rg.2.2.1 (m_hi h hF h0 V hs k2 (by decide) (fun z1 z2 => ?_)), x3, rgn⟩
      · have x1 : lj_R lc_P 113 [.ref 7, .int (Int32.ofNat o), .int (σ.1 79 (c0 + 1)), .long (σ.2 80 (c0 + 1)), .int (σ.1 79 (c0 + 2)), .long (σ.2 80 (c0 + 2))] _ = _ := x1
        rw [ca_26 σ f1 f3 f4 fA fL fK, if_pos i3, if_neg (by rw [n3]; exact kz), if_pos i2, if_pos i3, if_pos i3, if_pos i4, if_pos i4, n2, n3, n4, f2, lz_osucc, t3, o3', x1, bv_ok, kc_139_1051]
      · have x2 : lj_R lm_P 108 [.ref 0, .int (Int32.ofNat (tm o)), .int (mv τ (10000 * p + (m0 + 1))).1, .long (mv τ (10000 * p + (m0 + 1))).2, .int (mv τ (10000 * p + (m0 + 1 + 1))).1, .long (mv τ (10000 * p + (m0 + 1 + 1))).2] _ = _ := x2
        rw [o6] at x2
        rw [mz_27 _ z1 z2, l23, rm_154, km_154_0, q1, bi_ok, q2, bl_ok, q3, bl_ok, q4, bv_ok, if_neg (fun y => kz (hkv.k0.2 y)), o3m, ev, x2, bi_ok, km_154_56, bv_ok, km_153_483]
theorem act_32 {σ0 τ0 σ τ : lj_S} {n np p : Nat} {r : List Nat} {FP : Nat → List kF} {ρ : Nat → Nat} {A MO LA : List Nat} (h : MB σ0 τ0 n np p r FP ρ A MO LA σ τ) {F : kF} {L : List kF} (hF : FP p = F :: L) (h0 : kS F = 0) (rg : rgR σ τ) (hs : stF σ0 τ0) {Z : List pT} (hk : insK σ0 τ0 (kY F).1 (kY F).2.1 (kY F).2.2.1 (kY F).2.2.2.1 (kY F).2.2.2.2.1 (kY F).2.2.2.2.2 Z 32) {n' : Nat} (hn : ∀ z ∈ Z, gn σ0 τ0 n' z) : oaR σ0 τ0 n np p r FP ρ A MO LA σ τ F L n' Z := by
  obtain ⟨s', hsh, k1, k2, kl, rfl⟩ := hk
  exact act_key h hF h0 rg hs (Or.inl rfl) hsh k1 k2 (fun _ => kl) (hn _ List.mem_cons_self)
theorem act_53 {σ0 τ0 σ τ : lj_S} {n np p : Nat} {r : List Nat} {FP : Nat → List kF} {ρ : Nat → Nat} {A MO LA : List Nat} (h : MB σ0 τ0 n np p r FP ρ A MO LA σ τ) {F : kF} {L : List kF} (hF : FP p = F :: L) (h0 : kS F = 0) (rg : rgR σ τ) (hs : stF σ0 τ0) {Z : List pT} (hk : insK σ0 τ0 (kY F).1 (kY F).2.1 (kY F).2.2.1 (kY F).2.2.2.1 (kY F).2.2.2.2.1 (kY F).2.2.2.2.2 Z 53) {n' : Nat} (hn : ∀ z ∈ Z, gn σ0 τ0 n' z) : oaR σ0 τ0 n np p r FP ρ A MO LA σ τ F L n' Z := by
  obtain ⟨s', hsh, k1, k2, rfl⟩ := hk
  exact act_key h hF h0 rg hs (Or.inr rfl) hsh k1 k2 (fun z => absurd z (by decide)) (hn _ List.mem_cons_self)
