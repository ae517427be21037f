/-! names of the whole text are read -/
def rdS (k j : Nat) : Bool := fdS k j || rtC k j
theorem rd_t {k j : Nat} (h : ¬ (k = 7 ∧ (j = 27 ∨ j = 28) ∨ k = 107 ∨ k = 108 ∨ k = 8 ∧ j = 41)) : rdS k j = false := by
  unfold rdS fdS rtC; simp; omega
/-- one value comes -/
theorem c_res1 {σ : lj_S} (u : vT) {t : Nat} (h8 : σ.1 8 8 = Int32.ofNat t) (ht : t < 325000) : ∃ σ', lj_bv (lj_R lc_P 143 [.ref 8, .int u.1, .long u.2] (lj_put σ 8 41 0)) (fun s => lj_bv (lj_R lc_P 144 [.ref 8, .int 1] s) (fun s => some (.inl none, s)) lj_up) lj_up = some (.inl none, cPu σ' t u) ∧ lf rdS σ σ' := by
  have g0 : rsC (lj_put σ 8 41 0) [] := ⟨by unfold lv; rw [lj_put_1, if_pos ⟨rfl, rfl⟩]; rfl, fun j hj => absurd hj (by simp)⟩
  obtain ⟨σ', e1, e2, e3⟩ := c_gives g0 (by decide) u
  have e2 : rsC σ' [u] := e2
  have l1 : lf rdS σ σ' := (lf_put (lf_rf rdS σ) 8 41 0 rfl).tr (e3.mo (fun k j q => by unfold rdS at q; simp at q; exact q.2))
  have d := c_d1 e2 (t := t) (by rw [(l1 8 8 (rd_t (by omega))).1]; exact h8) ht
  exact ⟨σ', by rw [e1, bv_ok, d, bv_ok]; rfl, l1⟩
theorem c_rd0 {σ τ : lj_S} {n : Nat} (hb : rbR σ τ n) {kc km : vT} (hk : vR σ τ kc km) (line : Int32) {t : Nat} (h8 : σ.1 8 8 = Int32.ofNat t) (ht : t < 325000) : ∃ u w σ', vR σ τ u w ∧ lj_R lc_P 142 [.ref 8, .int 4, .long 0, .int kc.1, .long kc.2, .int 1, .int line] σ = some (.inl none, cPu σ' t u) ∧ lf rdS σ σ' ∧ lj_R lm_P 123 [.ref 0, .int 2001, .int km.1, .long km.2] τ = some (.inl none, fdM τ w) := by
  obtain ⟨u, w, huw, e1, e2⟩ := cm_get hb.1.1 hb.2.1 (t := 0) (Nat.zero_le _) hk
  have e1 : lj_R lc_P 117 [.ref 7, .int ((0 : Int64).toInt32), .int kc.1, .long kc.2] σ = _ := e1
  have fl : lf rdS σ (fdC σ u) := (fd_lf σ u).mo (fun k j q => by unfold rdS at q; simp at q; exact q.1)
  by_cases z : u.1 = 0
  · obtain ⟨u0, w0⟩ := huw.nil z
    have i17 : lj_in (17 : Int32) 24 := by decide
    have c58 : (fdC σ u).1 58 ((0 : Int64).toInt32).toNatClampNeg = -1 := by rw [((fd_lf σ u) 58 _ rfl).1]; exact hb.2.2.1.1
    have ev : ∀ x : Int32, lj_R lc_P 118 [.ref 7, .int 4, .long 0, .int x] (fdC σ u) = some (.inl (some (.int 0)), fdC (fdC σ u) (0, 0)) := fun x => by
      rw [rc_118, kc_118_0, if_pos rfl, if_pos (by decide), c58, if_neg (by decide), kc_118_15]
      rfl
    have fl2 : lf rdS σ (fdC (fdC σ u) (0, 0)) := fl.tr ((fd_lf _ _).mo (fun k j q => by unfold rdS at q; simp at q; exact q.1))
    obtain ⟨σ', g1, g2⟩ := c_res1 (σ := fdC (fdC σ u) (0, 0)) (0, 0) (t := t) (by rw [(fl2 8 8 (rd_t (by omega))).1]; exact h8) ht
    refine ⟨u, w, σ', huw, ?_, fl2.tr g2, e2⟩
    rw [rc_142, kc_142_0, kc_142_9, if_neg (by decide), if_pos rfl, e1, bi_ok, if_pos z, if_pos rfl, kc_142_78, if_pos i17, ev, bi_ok, if_pos rfl, if_pos rfl, show cPu σ' t u = cPu σ' t (0, 0) by rw [u0]]
    exact g1
  · obtain ⟨σ', g1, g2⟩ := c_res1 (σ := fdC σ u) u (t := t) (by rw [(fl 8 8 (rd_t (by omega))).1]; exact h8) ht
    refine ⟨u, w, σ', huw, ?_, fl.tr g2, e2⟩
    rw [rc_142, kc_142_0, kc_142_9, if_neg (by decide), if_pos rfl, e1, bi_ok, if_neg z, if_neg (by decide), (fdC_v σ u).1, (fdC_v σ u).2]
    exact g1
theorem act_7 {σ0 τ0 σ τ : lj_S} {n np p : Nat} {r : List Nat} {FP : Nat → List kF} {ρ : Nat → Nat} {A MO LA : List Nat} (h : MB σ0 τ0 n np p r FP ρ A MO LA σ τ) {F : kF} {L : List kF} (hF : FP p = F :: L) (h0 : kS F = 0) (rg : rgR σ τ) (hs : stF σ0 τ0) {Z : List pT} (hk : insK σ0 τ0 (kY F).1 (kY F).2.1 (kY F).2.2.1 (kY F).2.2.2.1 (kY F).2.2.2.2.1 (kY F).2.2.2.2.2 Z 7) {n' : Nat} (hn : ∀ z ∈ Z, gn σ0 τ0 n' z) : nxR σ0 τ0 n np p r FP ρ A MO LA σ τ F L n' Z := by
  obtain ⟨k1, k2, kk, rfl⟩ := hk
  obtain ⟨ms, ks, ce, me, mq, V⟩ := h.w hF h0
  have B := V.bd
  have m64 : τ.1 64 p = Int32.ofNat mq := V.at.2.2.2.2.1
  have kk' := (kk.up h.2.2.2.2.2.2.2.2.2.2.2.2.2).v
  obtain ⟨c1, c2, c3, c4, cA, cL, cK, c5⟩ := c_ft h hF h0 hs k1 (by decide)
  have gz := hn _ List.mem_cons_self
  have fC : lf (tqC p (20 * p + L.length) ce) σ (lj_put σ 94 (20 * p + L.length) (Int32.ofNat ((kY F).2.1 + 1))) := tq_94 (lf_rf _ _) _
  have fM : lf (tqM p (48 * p + L.length) me mq) τ (lj_put τ 77 (48 * p + L.length) (Int32.ofNat ((kY F).2.2.1 + 1))) := tm_77 (lf_rf _ _) _
  have hb : rbR (lj_put σ 94 (20 * p + L.length) (Int32.ofNat ((kY F).2.1 + 1))) (lj_put τ 77 (48 * p + L.length) (Int32.ofNat ((kY F).2.2.1 + 1))) n := by
    have := (h.ft hF h0 rg V true true).1
    exact ⟨this.2.1, this.2.2.2.1, this.2.2.2.2.1, this.2.2.1⟩
  obtain ⟨u, w, σ', hv, e1, e2, e3⟩ := c_rd0 hb (vR_tq fC fM kk') (σ0.1 26 (kY F).2.1) (t := ce) (by rw [lj_put_1, if_neg (by omega)]; exact V.tp) (by omega)
  have hv' : vR σ τ u w := hv.cg (fun k j q => by rw [lj_put_1, if_neg (by rintro ⟨rfl, rfl⟩; simp [vqC] at q)]) (fun k j q => by rw [lj_put_1, if_neg (by rintro ⟨rfl, rfl⟩; simp [vqM] at q)])
  have fC2 : lf (tqC p (20 * p + L.length) ce) σ σ' := fC.tr (e2.mo (fun k j q => rd_t (by
    intro y
    have : tqC p (20 * p + L.length) ce k j = true := by
      unfold tqC sxC szC
      rcases y with ⟨rfl, y | y⟩ | y | y | ⟨rfl, y⟩ <;> subst y <;> rfl
    rw [this] at q
    cases q)))
  have fM2 : lf (tqM p (48 * p + L.length) me mq) τ (fdM (lj_put τ 77 (48 * p + L.length) (Int32.ofNat ((kY F).2.2.1 + 1))) w) := fM.tr ((fd_lfM _ _).mo (fun k j q => by
    unfold tqM sxM szM at q
    unfold fdT
    simp at q ⊢
    omega))
  have o' : ∀ k j, ¬ (k = 7 ∧ (j = 27 ∨ j = 28) ∨ k = 107 ∨ k = 108 ∨ k = 8 ∧ j = 41) → σ'.1 k j = (lj_put σ 94 (20 * p + L.length) (Int32.ofNat ((kY F).2.1 + 1))).1 k j := fun k j y => (e2 k j (rd_t y)).1
  obtain ⟨g1, g2⟩ := h.pu hF h0 rg V V.st fC2 fM2 (by rw [o' 97 _ (by omega), lj_put_1, if_neg (by omega)]) (c' := (kY F).2.1 + 1) (m' := (kY F).2.2.1 + 1) (n' := n' + 1) (w' := 0) (by rw [o' 94 _ (by omega), lj_put_1, if_pos ⟨rfl, rfl⟩]) (by rw [((fd_lfM _ w) 77 _ rfl).1, lj_put_1, if_pos ⟨rfl, rfl⟩]) (by rw [((fd_lfM _ w) 64 _ rfl).1, lj_put_1, if_neg (by omega)]; exact m64) (gn_ok gz) V.fl hv' (Or.inr ⟨Nat.succ_ne_zero _, gz⟩) (fun z => absurd rfl z) (fun j => Or.inl (by rw [o' 81 _ (by omega), lj_put_1, if_neg (by omega)]))
  obtain ⟨⟨m1, m2, m3, m4, m5, m6, m7⟩, m8⟩ := (h.cx hF h0 hs).2 (by rw [k2]; decide)
  have k20 : τ.1 20 (kY F).2.2.1 = 8 := by rw [m8 20 (by decide) (by decide)]; exact k2
  have mst : lj_R lm_P 121 [.ref 0] τ = _ := mw_8 τ m1 m2 m3 m5 m6 (A := τ0.1 21 (kY F).2.2.1) (by rw [m7]; exact m8 21 (by decide) (by decide)) (by rw [m7]; exact k20)
  have at2 : mAt (fdM (lj_put τ 77 (48 * p + L.length) (Int32.ofNat ((kY F).2.2.1 + 1))) w) p me mq := by
    obtain ⟨a1, a2, a3, a4, a5, a6⟩ := mAt_p (i := (48 * p + L.length)) (v := Int32.ofNat ((kY F).2.2.1 + 1)) V.at
    exact ⟨by rw [((fd_lfM _ w) 0 111 rfl).1]; exact a1, a2, by rw [((fd_lfM _ w) 63 _ rfl).1]; exact a3, a4, by rw [((fd_lfM _ w) 64 _ rfl).1]; exact a5, a6⟩
  have mp := m_push at2 (by omega) w
  rw [m4, lz_osucc, e3, bv_ok, (fdM_v _ w).1, (fdM_v _ w).2, mp, bv_ok, km_121_398] at mst
  have cst : lj_R lc_P 139 [.ref 8] σ = _ := ca_8 σ c1 c3 c4 cA cL cK
  rw [c2, lz_osucc, e1, bv_ok, kc_139_1051] at cst
  exact ⟨_, _, _, List.mem_cons_self, go_step rg.1 cst, run_step rg.2.1 rg.2.2.1 mst, g1, g2⟩
