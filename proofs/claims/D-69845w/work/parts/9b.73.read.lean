/-! a place of a table is read -/
theorem x_rd {σ0 τ0 σ τ : lj_S} {n np p : Nat} {r : List Nat} {FP : Nat → List kF} {ρ : Nat → Nat} {MO LA : List Nat} {F : kF} {L : List kF} {c m : Nat} {s l : List Nat} {dd n1 : Nat} (C : ∀ M k, CAL σ0 τ0 M k) (h : MB σ0 τ0 n np p r (fpT FP p (kTo F c m s l dd n1 0 :: L)) ρ [] MO LA σ τ) (rg : rgR σ τ) {σa : lj_S} (hwk : wkR FP (p :: r) [] σa) {n' : Nat} (hn1 : n1 ≤ n' + 1) (hn : gn σ0 τ0 n' ((kY F).1, c, m, 0 :: s, l, dd)) (hc : 1 ≤ c ∧ c ≤ 14000) (hsc : scl σ0 (kY F).1 (c - 1) s l dd) (h5 : ∀ x ∈ s, x ≠ 5) {X : Nat} (hX : lsX FP p r L MO LA n' X) (hT : X ≤ TH) {a b kc km : vT} (hab : vR σ τ a b) (hk : vR σ τ kc km) (line : Int32) : ∃ τ1, lj_R lm_P 129 [.ref 0, .int b.1, .long b.2, .int km.1, .long km.2, .int line] τ = some (.inl none, τ1) ∧ ocR σ0 τ0 [] (fun t => t < X) σ τ1 (lj_R lc_P 142 [.ref 8, .int a.1, .long a.2, .int kc.1, .long kc.2, .int 1, .int line] σ) := by
  rcases cm_rd h.rb hk hab 1 line with ⟨u, w, σ1, τ1, x1, x2, x3, x4, x5⟩ | ⟨f, f', d, d', σ1, τ1, x1, x2, x3, x4, x5, x6, x7⟩ | ⟨σ1, τ1, σ', τ', x1, x2, x3, x4, x5⟩
  · obtain ⟨ce, me, mq, t1, t2, t3, t4, t5⟩ := x_top h rg
    obtain ⟨σ', y1, y2⟩ := c_res1 (σ := σ1) u (t := ce) (by rw [(x2 8 8 rfl).1]; exact t1) (by omega)
    have at1 : mAt τ1 p me mq := by
      obtain ⟨a1, a2, a3, a4, a5, a6⟩ := t3
      exact ⟨by rw [(x3 0 111 rfl).1]; exact a1, a2, by rw [(x3 63 _ rfl).1]; exact a3, a4, by rw [(x3 64 _ rfl).1]; exact a5, a6⟩
    have mp := m_push at1 (by omega) w
    obtain ⟨g1, g2⟩ := t5 u w σ' τ1 (n' + 1) ((x2.mo (fun k j q => fdS_x q)).tr (y2.mo (fun k j q => rdS_x q))) (x3.mo (fun k j q => fdT_x q)) (x1.fdr x2 x3) (gn_ok hn) (Or.inr ⟨Nat.succ_ne_zero _, hn⟩)
    refine ⟨mPu τ1 p me w, by rw [x5, mp, bv_ok], ?_⟩
    rw [x4, y1]
    exact oc_go g1 g2 hwk rfl (Nat.succ_ne_zero _) rfl (Nat.le_refl _) hX
  · obtain ⟨σ2, y1, y2⟩ := x_wev C (h.fdx x4 x5) (rg.fdx x4 x5) hwk (w := 1) (by decide) hn hc hsc h5 hX hT x1 x3 (hk.fdl x4 x5) line (as := 1) (md := 0) (wt := 1) ⟨rfl, rfl, rfl⟩
    refine ⟨gv2 τ1 0 1 line f' d' km, by rw [x7, m_gv2], ?_⟩
    rw [x6, y1]
    exact y2.fin.pre (fun _ => rfl) (fun i hi => by cases hi) (fun _ q => q)
  · refine ⟨τ', x4, ?_⟩
    rw [x3]
    exact oc_er (h.fdx x1 x2) ((rg_ry rg).fdx x1 x2) hwk x5 rfl (n' := n') hn1 hX
/-- two values off the stacks of both -/
theorem act_12 {σ0 τ0 σ τ : lj_S} {n np p : Nat} {r : List Nat} {FP : Nat → List kF} {ρ : Nat → Nat} {A MO LA : List Nat} (h : MB σ0 τ0 n np p r FP ρ A MO LA σ τ) {F : kF} {L : List kF} (hF : FP p = F :: L) (h0 : kS F = 0) (rg : rgR σ τ) (hs : stF σ0 τ0) {Z : List pT} (hk : insK σ0 τ0 (kY F).1 (kY F).2.1 (kY F).2.2.1 (kY F).2.2.2.1 (kY F).2.2.2.2.1 (kY F).2.2.2.2.2 Z 12) {n' : Nat} (hn : ∀ z ∈ Z, gn σ0 τ0 n' z) (hA : A = []) (hN : n' + 6001 ≤ kN F) (hwk : wkR FP (p :: r) A σ) (C : ∀ M k, CAL σ0 τ0 M k) (hT : thM FP (p :: r) MO LA ≤ TH) : acR σ0 τ0 (fun t => t < thM FP (p :: r) MO LA) σ τ := by
  subst hA
  obtain ⟨s', hsh, k1, k2, kl, ksc, rfl⟩ := hk
  obtain ⟨ms, ks, ce, me, mq, V⟩ := h.w hF h0
  have B := V.bd
  have st := V.st
  have hO := V.ff.1.2.2.2.1
  have hfl := V.fl
  have m64 : τ.1 64 p = Int32.ofNat mq := V.at.2.2.2.2.1
  rw [hsh] at st hO hfl
  obtain ⟨ce1, me1, rfl, rfl, hv1, _, _, _, st⟩ := st.u0 (Or.inl rfl)
  obtain ⟨ce', me', rfl, rfl, hv, _, _, _, st⟩ := st.u0 (Or.inl rfl)
  obtain ⟨f1, f2, f3, f4, fA, fL, fK, f5⟩ := c_ft h hF h0 hs k1 (by decide)
  have hfl' : (flo s').length ≤ nH σ0 (kY F).1 := Nat.le_trans (flo_t 0 s') (Nat.le_trans (flo_t 0 _) hfl)
  have c8 : σ.1 8 8 - 2 = Int32.ofNat ce' := by rw [V.tp]; exact ofN_sub' ce' 2
  have i1 : lj_in (Int32.ofNat ce') 325000 := ofN_in (by omega) (by omega)
  have i2 : lj_in (Int32.ofNat (ce' + 1)) 325000 := ofN_in (by omega) (by omega)
  have n1 : (Int32.ofNat ce').toNatClampNeg = ce' := lz_onat (by omega)
  have n2 : (Int32.ofNat (ce' + 1)).toNatClampNeg = ce' + 1 := lz_onat (by omega)
  have fC : lf (tqC p (20 * p + L.length) ce') σ (lj_put (lj_put σ 94 (20 * p + L.length) (Int32.ofNat ((kY F).2.1 + 1))) 8 8 (Int32.ofNat ce')) := tq_88 (tq_94 (lf_rf _ _) _) _
  have fM1 : lf (tqM p (48 * p + L.length) me' mq) τ (lj_put τ 77 (48 * p + L.length) (Int32.ofNat ((kY F).2.2.1 + 1))) := tm_77 (lf_rf _ _) _
  have fM := tm_63 fM1 (Int32.ofNat me')
  obtain ⟨g1, g2⟩ := h.dn hF h0 rg V st fC fM (n' := 0) (c' := (kY F).2.1 + 1) (m' := (kY F).2.2.1 + 1) (by simp [lj_put_1, lj_putL_1]) (by simp [lj_put_1, lj_putL_1]) (by simp [lj_put_1, lj_putL_1]) (by simp [lj_put_1, lj_putL_1]) (by simp [lj_put_1, lj_putL_1]) (by simp [lj_put_1, m64]) hO.tl.tl hfl' (Or.inl rfl)
  have at1 := mAt_p (i := (48 * p + L.length)) (v := Int32.ofNat ((kY F).2.2.1 + 1)) V.at
  have gz := hn _ List.mem_cons_self
  have hX := lsX_of h.npr hF h0 MO LA hN
  have pc14 : (kY F).2.1 < 14000 := Nat.lt_of_not_le (fun q => by rw [hs.1 _ q] at k1; exact absurd k1 (by decide))
  obtain ⟨τ1, r1, r2⟩ := x_rd C g1 g2 (σa := σ) hwk (Nat.zero_le _) gz ⟨(by omega), (by omega)⟩ (by show scl σ0 (kY F).1 ((kY F).2.1 + 1 - 1) s' (kY F).2.2.2.2.1 (kY F).2.2.2.2.2; rw [Nat.add_sub_cancel]; exact ksc) (fun x hx => hO.2.2.2 x (List.mem_cons_of_mem _ hx)) hX hT (a := cv σ ce') (b := mv τ (10000 * p + me')) (vR_tq fC fM hv) (kc := cv σ (ce' + 1)) (km := mv τ (10000 * p + (me' + 1))) (vR_tq fC fM hv1) (σ0.1 26 (kY F).2.1)
  have cst : lj_R lc_P 139 [.ref 8] σ = _ := ca_12 σ f1 f3 f4 fA fL fK
  rw [c8, lz_osucc, lz_osucc, if_pos i1, if_pos i1, if_pos i2, if_pos i2, n1, n2, f2] at cst
  refine ac_of r2 rg.1 ?_ (run_step rg.2.1 rg.2.2.1 (m_lo h hF h0 V hs k2 (by decide) (τ2 := τ1) (fun x1 x2 => ?_))) (fun _ q => q)
  · rw [cst]
    congr 1
    all_goals first | rfl | (funext s; rw [kc_139_1051])
  · rw [my_12 _ x1 x2]
    have tk1 := m_topK at1 (d := 1) (by omega)
    have tn1 := m_topN at1 (d := 1) (by omega)
    have dr := m_drop at1 (d := 2) (by omega)
    rw [show me' + 1 + 1 - 1 - 1 = me' by omega, mv_p _ (by decide)] at tk1 tn1
    rw [show me' + 1 + 1 - 2 = me' by omega] at dr
    have ln : (lj_put (lj_put τ 77 (48 * p + L.length) (Int32.ofNat ((kY F).2.2.1 + 1))) 63 p (Int32.ofNat me')).1 23 (Int32.ofNat (kY F).2.2.1).toNatClampNeg = σ0.1 26 (kY F).2.1 := by
      obtain ⟨⟨_, _, _, _, _, _, m7⟩, m8⟩ := (h.cx hF h0 hs).2 (by rw [k2]; decide)
      rw [lj_put_1, if_neg (by omega), lj_put_1, if_neg (by omega), m7, m8 23 (by decide) (by decide)]
      exact kl.symm
    rw [show (1 : Int32) = Int32.ofNat 1 from rfl, tk1, bi_ok, tn1, bl_ok, show (2 : Int32) = Int32.ofNat 2 from rfl, dr, bv_ok, if_pos x1, tk_1, ln, r1, bv_ok, km_127_420]
