/-! a place of a table is written -/
/-- what comes of writing: it is laid down, a call, an error -/
def wxR (σ τ : lj_S) (line : Int32) (kc km vc vm : vT) (oC oM : Option lj_O) : Prop :=
  (∃ o σ1 τ1, obA σ1 τ1 o 4 ∧ kc.1 ≠ 0 ∧ lf fdS σ σ1 ∧ lf fdT τ τ1 ∧ oC = lj_bv (lj_R lc_P 113 [.ref 7, .int (Int32.ofNat o), .int kc.1, .long kc.2, .int vc.1, .long vc.2] σ1) (fun s => some (.inl none, s)) lj_up ∧ oM = lj_bi (lj_R lm_P 108 [.ref 0, .int (Int32.ofNat o), .int km.1, .long km.2, .int vm.1, .long vm.2] τ1) (fun _ s => some (.inl none, s)) lj_up) ∨
  (∃ f f' c c' σ1 τ1, vR σ1 τ1 f f' ∧ vR σ1 τ1 c c' ∧ lf fdS σ σ1 ∧ lf fdT τ τ1 ∧ oC = lj_bv (lj_R lc_P 154 [.ref 8, .int c.1, .long c.2] (lj_put σ1 8 38 0)) (fun s => lj_bv (lj_R lc_P 154 [.ref 8, .int kc.1, .long kc.2] s) (fun s => lj_bv (lj_R lc_P 154 [.ref 8, .int vc.1, .long vc.2] s) (fun s => lj_bv (lj_R lc_P 155 [.ref 8, .int f.1, .long f.2, .int 4, .int line] s) (fun s => some (.inl none, s)) lj_up) lj_up) lj_up) lj_up ∧ oM = lj_bv (lj_R lm_P 112 [.ref 0, .int 0, .int 0, .int line] τ1) (fun s => lj_bv (lj_R lm_P 141 [.ref 0, .int f'.1, .long f'.2, .int c'.1, .long c'.2, .int km.1, .long km.2] s) (fun s => lj_bv (lj_R lm_P 146 [.ref 0, .int vm.1, .long vm.2] s) (fun s => some (.inl none, s)) lj_up) lj_up) lj_up) ∨
  ∃ σ1 τ1 σ' τ', lf fdS σ σ1 ∧ lf fdT τ τ1 ∧ oC = some (.inr 2, σ') ∧ oM = some (.inl none, τ') ∧ raR σ1 τ1 σ' τ'
theorem wxR.pre {σ τ σ1 τ1 : lj_S} {line : Int32} {kc km vc vm : vT} {oC oM : Option lj_O} (h : wxR σ1 τ1 line kc km vc vm oC oM) (f : lf fdS σ σ1) (g : lf fdT τ τ1) : wxR σ τ line kc km vc vm oC oM := by
  rcases h with ⟨o, σ2, τ2, x1, x2, x3, x4, x5⟩ | ⟨u, w, c, c', σ2, τ2, x1, x2, x3, x4, x5⟩ | ⟨σ2, τ2, σ', τ', x1, x2, x3⟩
  · exact Or.inl ⟨o, σ2, τ2, x1, x2, f.tr x3, g.tr x4, x5⟩
  · exact Or.inr (Or.inl ⟨u, w, c, c', σ2, τ2, x1, x2, f.tr x3, g.tr x4, x5⟩)
  · exact Or.inr (Or.inr ⟨σ2, τ2, σ', τ', f.tr x1, g.tr x2, x3⟩)
set_option maxHeartbeats 1000000 in
theorem cm_wr_loop {n : Nat} (x1 y1 : Int32) (x2 y2 : Int64) (line : Int32) {kc km vc vm : vT} : ∀ (d i : Nat) (σ τ : lj_S) (a b : vT) (x15 x16 y15 : Value), i + d = 20 → rbR σ τ n → vR σ τ kc km → vR σ τ a b → wxR σ τ line kc km vc vm (lj_D lc_P lc_M202 9 [.ref 8, .int x1, .long x2, .retAddr 0, .int kc.1, .long kc.2, .retAddr 0, .int vc.1, .long vc.2, .retAddr 0, .int line, .int a.1, .long a.2, .retAddr 0, .int (Int32.ofNat i), x15, x16, .retAddr 0] [] σ) (lj_D lm_P lm_M145 9 [.ref 0, .int y1, .long y2, .retAddr 0, .int km.1, .long km.2, .retAddr 0, .int vm.1, .long vm.2, .retAddr 0, .int line, .int b.1, .long b.2, .retAddr 0, .int (Int32.ofNat (i + 1)), y15, .retAddr 0] [] τ)
  | 0, i, σ, τ, a, b, x15, x16, y15, hd, hb, hk, hab => by
    have e : i = 20 := by omega
    obtain ⟨σ', τ', e1, e2, e3⟩ := cm_wrong hb.1 line (e := 1) (by decide)
    have e1 : lj_br (lj_R lc_P 133 [.ref 8, .int line, .ref 1021] σ) (fun y s => (bif Nat.blt y 2000 then lj_up y s else none)) lj_up = some (.inr 2, σ') := e1
    have e2 : lj_R lm_P 142 [.ref 0, .int 1, .int line] τ = some (.inl none, τ') := e2
    refine Or.inr (Or.inr ⟨σ, τ, σ', τ', lf_rf _ _, lf_rf _ _, ?_, ?_, e3⟩)
    · rw [kc_202_9, e, if_pos (by decide), e1]
    · rw [km_145_9, e, if_pos (by decide), e2, bv_ok]
  | d + 1, i, σ, τ, a, b, x15, x16, y15, hd, hb, hk, hab => by
    have n1 : ¬ ((20 : Int32) ≤ Int32.ofNat i) := by
      rw [show (20 : Int32) = Int32.ofNat 20 from rfl, ofN_le (by omega) (by omega)]; omega
    have n2 : ¬ ((20 : Int32) < Int32.ofNat (i + 1)) := by
      rw [lz_lt, lz_lit (by omega)]
      show ¬ ((20 : Int) < ((i + 1 : Nat) : Int))
      omega
    have i18 : lj_in (18 : Int32) 24 := by decide
    have t18 : (18 : Int32).toNatClampNeg = 18 := by decide
    -- it is laid down there
    have ld : ∀ (o : Nat) (σ τ : lj_S) (z : Int32), rbR σ τ n → vR σ τ kc km → obA σ τ o 4 → a = (4, i64 o) → b = (4, i64 o) → wxR σ τ line kc km vc vm (lj_D lc_P lc_M202 66 [.ref 8, .int x1, .long x2, .retAddr 0, .int kc.1, .long kc.2, .retAddr 0, .int vc.1, .long vc.2, .retAddr 0, .int line, .int a.1, .long a.2, .retAddr 0, .int (Int32.ofNat i), x15, x16, .retAddr 0] [] σ) (lj_D lm_P lm_M145 68 [.ref 0, .int y1, .long y2, .retAddr 0, .int km.1, .long km.2, .retAddr 0, .int vm.1, .long vm.2, .retAddr 0, .int line, .int b.1, .long b.2, .retAddr 0, .int (Int32.ofNat (i + 1)), .int z, .retAddr 0] [] τ) := fun o σ τ z hb hk ho ea eb => by
      rw [kc_202_66, km_145_68]
      by_cases w : kc.1 = 0
      · obtain ⟨σ', τ', e1, e2, e3⟩ := cm_wrong hb.1 line (e := 2) (by decide)
        have e1 : lj_br (lj_R lc_P 133 [.ref 8, .int line, .ref 1037] σ) (fun y s => (bif Nat.blt y 2000 then lj_up y s else none)) lj_up = some (.inr 2, σ') := e1
        have e2 : lj_R lm_P 142 [.ref 0, .int 2, .int line] τ = some (.inl none, τ') := e2
        refine Or.inr (Or.inr ⟨σ, τ, σ', τ', lf_rf _ _, lf_rf _ _, ?_, ?_, e3⟩)
        · rw [if_pos w, e1]
        · rw [if_pos (hk.k0.1 w), e2, bv_ok, km_145_100]
      · refine Or.inl ⟨o, σ, τ, ho, w, lf_rf _ _, lf_rf _ _, ?_, ?_⟩
        · rw [if_neg w, ea, i64_32]
        · rw [if_neg (fun q => w (hk.k0.2 q)), eb, i64_32]
          congr 1
          funext y s
          rw [km_145_100]
    rw [kc_202_9, if_neg n1, km_145_9, if_neg n2]
    by_cases y : a.1 = 4
    · obtain ⟨o, ea, eb, ho⟩ := hab.tb y
      have y' : b.1 = 4 := by rw [eb]
      have on : o ≤ n := by have := ho.2.2.1; rw [hb.2.1.2.1] at this; omega
      have tmo : tm o = o := tm_p ho.1
      obtain ⟨u, w, huw, e1, e2⟩ := cm_get hb.1.1 hb.2.1 on hk
      rw [tmo] at e2
      obtain ⟨hb', vr⟩ := hb.fd (fd_lf σ u) (fd_lfM τ w)
      have a32 : a.2.toInt32 = Int32.ofNat o := by rw [ea]; exact Int32.toInt32_toInt64 _
      have b32 : b.2.toInt32 = Int32.ofNat o := by rw [eb]; exact Int32.toInt32_toInt64 _
      have h18 := hb'.2.2.2.1 18 (by decide)
      obtain ⟨u2, w2, huw2, g1, g2⟩ := cm_event hb'.1.1 hb'.2.1 hb'.2.2.1 (vr _ _ hab) h18
      have g2 : lj_R lm_P 130 [.ref 0, .int b.1, .long b.2, .int 1] (fdM τ w) = some (.inl none, fdM (fdM τ w) w2) := g2
      obtain ⟨hb2, vr2⟩ := hb'.fd (fd_lf (fdC σ u) u2) (fd_lfM (fdM τ w) w2)
      have fC2 : lf fdS σ (fdC (fdC σ u) u2) := (fd_lf σ u).tr (fd_lf _ u2)
      have fM2 : lf fdT τ (fdM (fdM τ w) w2) := (fd_lfM τ w).tr (fd_lfM _ w2)
      have ob2 : obA (fdC (fdC σ u) u2) (fdM (fdM τ w) w2) o 4 := ⟨ho.1, ho.2.1, by rw [fC2.v rfl]; exact ho.2.2.1, by rw [(fC2 57 o rfl).1]; exact ho.2.2.2.1, by rw [(fM2 38 o rfl).1]; exact ho.2.2.2.2⟩
      rw [if_pos y, if_pos y', a32, e1, bi_ok, b32, e2, bv_ok, (fdM_v τ w).1]
      by_cases z : u.1 = 0
      · rw [if_pos (by rw [if_pos z]), if_pos i18, t18, g1, bi_ok, if_pos (huw.k0.1 z), km_145_45, g2, bv_ok, if_pos rfl, (fdM_v _ w2).1]
        by_cases z2 : u2.1 = 0
        · rw [if_pos (by rw [if_pos z2]), if_pos (huw2.k0.1 z2)]
          exact (ld o _ _ 0 hb2 (vr2 _ _ (vr _ _ hk)) ob2 ea eb).pre fC2 fM2
        · obtain ⟨hbz, vrz⟩ := hb'.fd (fd_lf (fdC σ u) u2) (lf_rf fdT (fdM τ w))
          obtain ⟨u3, w3, huw3, g3, g4⟩ := cm_event hbz.1.1 hbz.2.1 hbz.2.2.1 (vrz _ _ (vr _ _ hab)) (hbz.2.2.2.1 18 (by decide))
          have g4 : lj_R lm_P 130 [.ref 0, .int b.1, .long b.2, .int 1] (fdM τ w) = some (.inl none, fdM (fdM τ w) w3) := g4
          have ew : w3 = w2 := by
            rw [g2] at g4
            have q := (Prod.mk.inj (Option.some.inj g4)).2
            exact Prod.ext (by rw [← (fdM_v (fdM τ w) w3).1, ← q, (fdM_v (fdM τ w) w2).1]) (by rw [← (fdM_v (fdM τ w) w3).2, ← q, (fdM_v (fdM τ w) w2).2])
          have eu : u3 = u2 := by
            rw [ew] at huw3
            exact vR_in hbz.1.1 huw3 (vrz _ _ huw2)
          rw [if_neg (by rw [if_neg z2]; decide), if_neg (fun q => z2 (huw2.k0.2 q)), m_isFn, bi_ok, kc_202_103, if_pos i18, t18, g3, bi_ok, eu, if_neg (by rw [if_neg z2]; decide), (fdC_v _ u2).1, (fdC_v _ u2).2]
          obtain ⟨hb3, vr3⟩ := hb2.fd (fd_lf (fdC (fdC σ u) u2) u2) (lf_rf fdT (fdM (fdM τ w) w2))
          have fC3 := fC2.tr (fd_lf (fdC (fdC σ u) u2) u2)
          by_cases y5 : u2.1 = 5
          · rw [if_pos y5, if_pos (huw2.kf.1 y5), if_neg (by decide)]
            refine Or.inr (Or.inl ⟨u2, w2, a, b, fdC (fdC (fdC σ u) u2) u2, fdM (fdM τ w) w2, vr3 _ _ (vr2 _ _ huw2), vr3 _ _ (vr2 _ _ (vr _ _ hab)), fC3, fM2, rfl, ?_⟩)
            rw [rm_112, km_112_0, bv_ok, bv_ok]
            show lj_bv (lj_R lm_P 141 [.ref 0, .int ((lj_put (lj_put (lj_put (fdM (fdM τ w) w2) 0 130 0) 0 131 0) 0 132 line).1 0 90), .long ((fdM (fdM τ w) w2).2 0 91), .int b.1, .long b.2, .int km.1, .long km.2] (lj_put (lj_put (lj_put (fdM (fdM τ w) w2) 0 130 0) 0 131 0) 0 132 line)) _ _ = _
            rw [lj_put_1, if_neg (by omega), lj_put_1, if_neg (by omega), lj_put_1, if_neg (by omega), (fdM_v _ w2).1, (fdM_v _ w2).2]
          · rw [if_neg y5, if_neg (fun q => y5 (huw2.kf.2 q)), if_pos rfl, (fdM_v _ w2).1, (fdM_v _ w2).2, lz_osucc, lz_osucc]
            exact (cm_wr_loop x1 y1 x2 y2 line d (i + 1) _ _ u2 w2 (.int u2.1) (.long u2.2) (.int 0) (by omega) hb3 (vr3 _ _ (vr2 _ _ (vr _ _ hk))) (vr3 _ _ (vr2 _ _ huw2))).pre fC3 fM2
      · rw [if_neg (by rw [if_neg z]; decide), if_neg (fun q => z (huw.k0.2 q)), km_145_45, g2, bv_ok, if_neg (by decide)]
        have fM2' := fM2
        have hbx : rbR (fdC σ u) (fdM (fdM τ w) w2) n := (hb'.fd (lf_rf fdS _) (fd_lfM (fdM τ w) w2)).1
        have vrx := (hb'.fd (lf_rf fdS _) (fd_lfM (fdM τ w) w2)).2
        have obx : obA (fdC σ u) (fdM (fdM τ w) w2) o 4 := ⟨ho.1, ho.2.1, by rw [(fd_lf σ u).v rfl]; exact ho.2.2.1, by rw [((fd_lf σ u) 57 o rfl).1]; exact ho.2.2.2.1, by rw [(fM2 38 o rfl).1]; exact ho.2.2.2.2⟩
        exact (ld o _ _ 1 hbx (vrx _ _ (vr _ _ hk)) obx ea eb).pre (fd_lf σ u) fM2
    · have y' : ¬ b.1 = 4 := fun q => y ((hab.kk (by decide) (by decide)).2 q)
      have h18 := hb.2.2.2.1 18 (by decide)
      obtain ⟨u, w, huw, e1, e2⟩ := cm_event hb.1.1 hb.2.1 hb.2.2.1 hab h18
      have zu : u.1 = 0 := by
        rw [rc_118, kc_118_0, if_neg y, kc_118_15] at e1
        have q := (Prod.mk.inj (Option.some.inj e1)).1
        by_cases z : u.1 = 0
        · exact z
        · rw [if_neg z] at q
          simp at q
      obtain ⟨hb', vr⟩ := hb.fd (fd_lf σ u) (lf_rf fdT τ)
      obtain ⟨σ', τ', g1, g2, g3⟩ := cm_wrongOf hb'.1 line (e := 0) (by decide) (vr _ _ hab)
      have g1 : lj_br (lj_R lc_P 156 [.ref 8, .int line, .ref 1036, .int a.1] (fdC σ u)) (fun y s => (bif Nat.blt y 2000 then lj_up y s else none)) lj_up = some (.inr 2, σ') := g1
      have g2 : lj_R lm_P 131 [.ref 0, .int 0, .int line, .int b.1] τ = some (.inl none, τ') := g2
      rw [if_neg y, if_neg y', kc_202_103, if_pos i18, t18, e1, bi_ok, if_pos (by rw [if_pos zu]), g1, g2, bv_ok]
      exact Or.inr (Or.inr ⟨fdC σ u, τ, σ', τ', fd_lf σ u, lf_rf _ _, rfl, rfl, g3⟩)
theorem cm_wr {σ τ : lj_S} {n : Nat} (h : rbR σ τ n) {kc km vc vm a b : vT} (hk : vR σ τ kc km) (hab : vR σ τ a b) (line : Int32) : wxR σ τ line kc km vc vm (lj_R lc_P 202 [.ref 8, .int a.1, .long a.2, .int kc.1, .long kc.2, .int vc.1, .long vc.2, .int line] σ) (lj_R lm_P 145 [.ref 0, .int b.1, .long b.2, .int km.1, .long km.2, .int vm.1, .long vm.2, .int line] τ) := by
  rw [rc_202, kc_202_0, rm_145, km_145_0]
  exact cm_wr_loop a.1 b.1 a.2 b.2 line 20 0 σ τ a b (.retAddr 0) (.retAddr 0) (.retAddr 0) rfl h hk hab
/-- the model gives three values -/
def gv3 (τ : lj_S) (md wt line : Int32) (f c d v : vT) : lj_S := lj_put (lj_putL (lj_put (gv2 τ md wt line f c d) 88 2 v.1) 89 2 v.2) 0 137 3
theorem m_gv3 (τ : lj_S) (md wt line : Int32) (f c d v : vT) (K : lj_S → Option lj_O) : lj_bv (lj_R lm_P 112 [.ref 0, .int md, .int wt, .int line] τ) (fun s => lj_bv (lj_R lm_P 141 [.ref 0, .int f.1, .long f.2, .int c.1, .long c.2, .int d.1, .long d.2] s) (fun s => lj_bv (lj_R lm_P 146 [.ref 0, .int v.1, .long v.2] s) K lj_up) lj_up) lj_up = K (gv3 τ md wt line f c d v) := by
  have i2 : lj_in 2 128 := by decide
  rw [m_gv2, rm_146, km_146_0, if_pos i2, if_pos i2, bv_ok]
  rfl
theorem x_ev3 {σ0 τ0 σ τ : lj_S} {n np p : Nat} {r : List Nat} {FP : Nat → List kF} {ρ : Nat → Nat} {A MO LA : List Nat} (C : ∀ M k, CAL σ0 τ0 M k) (h : MB σ0 τ0 n np p r FP ρ A MO LA σ τ) (ry : ryR σ τ) (hwk : wkR FP (p :: r) A σ) {F : kF} {L : List kF} (hF : FP p = F :: L) (h0 : kS F = 0) (hW : kW F ≠ 0) {f f' c c' d d' v v' : vT} (hf : vR σ τ f f') (hc : vR σ τ c c') (hd : vR σ τ d d') (hv : vR σ τ v v') (line : Int32) {as md wt : Int32} (e : as = waA (kW F) ∧ md = waM (kW F) ∧ wt = waN σ0 (kY F).2.1 (kW F)) (hT : thM FP (p :: r) MO LA + 5001 ≤ TH) : ∃ σ2, (∀ K, lj_bv (lj_R lc_P 154 [.ref 8, .int c.1, .long c.2] (lj_put σ 8 38 0)) (fun s => lj_bv (lj_R lc_P 154 [.ref 8, .int d.1, .long d.2] s) (fun s => lj_bv (lj_R lc_P 154 [.ref 8, .int v.1, .long v.2] s) K lj_up) lj_up) lj_up = K σ2) ∧ ocR σ0 τ0 A (fun t => t ≤ thM FP (p :: r) MO LA + 5001) σ (gv3 τ md wt line f' c' d' v') (lj_R lc_P 155 [.ref 8, .int f.1, .long f.2, .int as, .int line] σ2) := by
  have g0 : gvC (lj_put σ 8 38 0) [] := ⟨by unfold lv; rw [lj_put_1, if_pos ⟨rfl, rfl⟩]; rfl, fun j hj => absurd hj (by simp)⟩
  obtain ⟨σa, a1, a2, a3⟩ := c_give g0 (by decide) c
  obtain ⟨σb, b1, b2, b3⟩ := c_give a2 (by simp) d
  obtain ⟨σ2, c1, c2, c3⟩ := c_give b2 (by simp) v
  have f2 : lf gsC σ σ2 := (((lf_put (lf_rf _ _) 8 38 _ rfl).tr a3).tr b3).tr c3
  have g2 : lf gv2s τ (gv3 τ md wt line f' c' d' v') := by
    unfold gv3
    exact lf_put (lf_putL (lf_put (gv2_lf τ md wt line f' c' d') _ _ _ rfl) _ _ _ rfl) _ _ _ rfl
  have v2 := gv2_v τ md wt line f' c' d'
  have o3 : ∀ j, j ≠ 137 → (gv3 τ md wt line f' c' d' v').1 0 j = (gv2 τ md wt line f' c' d').1 0 j ∧ (gv3 τ md wt line f' c' d' v').2 0 j = (gv2 τ md wt line f' c' d').2 0 j := fun j z => by
    unfold gv3
    exact ⟨by rw [lj_put_1, if_neg (by omega), lj_putL_1, lj_put_1, if_neg (by omega)], by rw [lj_put_2, lj_putL_2, if_neg (by omega)]; rfl⟩
  have sC : lf szC σ σ2 := f2.mo (fun k j q => by unfold szC at q; unfold gsC; simp at q ⊢; omega)
  have sM' : lf szM τ (gv3 τ md wt line f' c' d' v') := g2.mo (fun k j q => by unfold szM at q; unfold gv2s; simp at q ⊢; omega)
  have h2 := h.sc sC sM'
  have vv : ∀ {a b : vT}, vR σ τ a b → vR σ2 (gv3 τ md wt line f' c' d' v') a b := fun w => w.cg (fun k j q => (f2 k j (by unfold vqC at q; unfold gsC; simp at q ⊢; omega)).1) (fun k j q => (g2 k j (by unfold vqM at q; unfold gv2s; simp at q ⊢; omega)).1)
  refine ⟨σ2, fun K => by rw [a1, bv_ok, b1, bv_ok, c1, bv_ok], ?_⟩
  have px := pfx_0 (r := r) hF h0
  have gm : gvM (gv3 τ md wt line f' c' d' v') [c', d', v'] := by
    refine ⟨by unfold lv gv3; rw [lj_put_1, if_pos ⟨rfl, rfl⟩]; rfl, fun j hj => ?_⟩
    have hj : j < 3 := hj
    unfold gv3
    rcases (by omega : j = 0 ∨ j = 1 ∨ j = 2) with q | q | q
    · subst q
      rw [lj_put_1, if_neg (by omega), lj_putL_1, lj_put_1, if_neg (by omega), lj_put_2, lj_putL_2, if_neg (by omega)]
      exact v2.2.2.2.2.2.2 0 (by show 0 < 2; omega)
    · subst q
      rw [lj_put_1, if_neg (by omega), lj_putL_1, lj_put_1, if_neg (by omega), lj_put_2, lj_putL_2, if_neg (by omega)]
      exact v2.2.2.2.2.2.2 1 (by show 1 < 2; omega)
    · subst q
      rw [lj_put_1, if_neg (by omega), lj_putL_1, lj_put_1, if_pos ⟨rfl, rfl⟩, lj_put_2, lj_putL_2, if_pos ⟨rfl, rfl⟩]
      rfl
  have := C (thM FP (p :: r) MO LA) 200 n np p r FP ρ A MO LA σ2 _ f f' [c, d, v] [c', d', v'] as line h2 ⟨by rw [(f2 8 46 rfl).1]; exact ry.1, by rw [(g2 0 143 rfl).1]; exact ry.2.1, by rw [(f2 8 45 rfl).1, (g2 0 144 rfl).1]; exact ry.2.2.1, by rw [(f2 8 44 rfl).2, (g2 0 145 rfl).2]; exact ry.2.2.2⟩ ⟨fun i hi => by rw [(f2 102 i rfl).1]; exact hwk.1 i hi, hwk.2⟩ (vv hf) (by rw [(o3 133 (by decide)).1, (o3 134 (by decide)).2]; exact v2.2.2.2.2.1) (by rw [(o3 129 (by decide)).1]; exact v2.1) (by rw [hF, (o3 130 (by decide)).1, (o3 131 (by decide)).1, v2.2.1, v2.2.2.1]; exact wa_aw h0 hW e) (by rw [(o3 132 (by decide)).1]; exact v2.2.2.2.1) ⟨c2, gm, rfl, fun j hj => by
    have hj : j < 3 := hj
    rcases (by omega : j = 0 ∨ j = 1 ∨ j = 2) with q | q | q
    · subst q; exact vv hc
    · subst q; exact vv hd
    · subst q; exact vv hv⟩ (Or.inl ⟨by rw [px]; simp, by simp⟩) (Nat.le_refl _) hT
  exact this.pre (fun _ => rfl) (fun i _ => (f2 103 i rfl).1) (fun _ q => q)
theorem x_wr {σ0 τ0 σ τ : lj_S} {n np p : Nat} {r : List Nat} {FP : Nat → List kF} {ρ : Nat → Nat} {MO LA : List Nat} {F : kF} {L : List kF} {c m : Nat} {s l : List Nat} {dd n1 : Nat} (C : ∀ M k, CAL σ0 τ0 M k) (h : MB σ0 τ0 n np p r (fpT FP p (kTo F c m s l dd n1 0 :: L)) ρ [] MO LA σ τ) (rg : rgR σ τ) {σa : lj_S} (hwk : wkR FP (p :: r) [] σa) {n' : Nat} (hn1 : n1 ≤ n' + 1) (hn : gn σ0 τ0 n' ((kY F).1, c, m, s, l, dd)) (hc : 1 ≤ c ∧ c ≤ 14000) (hsc : scl σ0 (kY F).1 (c - 1) s l dd) (h5 : ∀ x ∈ s, x ≠ 5) {X : Nat} (hX : lsX FP p r L MO LA n' X) (hT : X ≤ TH) {a b kc km vc vm : vT} (hab : vR σ τ a b) (hk : vR σ τ kc km) (hv : vR σ τ vc vm) (line : Int32) : ∃ τ1, lj_R lm_P 145 [.ref 0, .int b.1, .long b.2, .int km.1, .long km.2, .int vm.1, .long vm.2, .int line] τ = some (.inl none, τ1) ∧ ocR σ0 τ0 [] (fun t => t < X) σ τ1 (lj_R lc_P 202 [.ref 8, .int a.1, .long a.2, .int kc.1, .long kc.2, .int vc.1, .long vc.2, .int line] σ) := by
  rcases cm_wr (vc := vc) (vm := vm) h.rb hk hab line with ⟨o, σ1, τ1, x1, x2, x3, x4, x5, x6⟩ | ⟨f, f', d, d', σ1, τ1, x1, x2, x3, x4, x5, x6⟩ | ⟨σ1, τ1, σ', τ', x1, x2, x3, x4, x5⟩
  · have h1 := h.fdx x3 x4
    have rg1 := rg.fdx x3 x4
    have on : o ≤ n := by have := x1.2.2.1; rw [h1.2.2.2.1.2.1] at this; omega
    rcases h1.set x1.1 on (hk.fdl x3 x4) x2 (hv.fdl x3 x4) x1.2.2.2.1 with ⟨e1, e2⟩ | ⟨σ', τ', e1, e2, e3, e4, e5⟩
    · refine ⟨lj_put τ1 0 143 4, by rw [x6, e2, bi_ok], ?_⟩
      rw [x5, e1, bv_th]
      exact oc_nr h1 rg1 hwk (i := 0) (lo := 0) (i' := 0) (ml := 0) (kl := 0) (tq_26 (lf_rf _ _) _) (tn_143 (tqN_m (lf_rf _ _)) _) (by simp [lj_put_1, lj_putL_1]) (by simp [lj_put_1, lj_putL_1]) rfl (n' := n') hn1 hX
    · have rg2 : rgR σ' τ' := ⟨by rw [(e4 8 46 rfl).1]; exact rg1.1, by rw [(e5 0 143 rfl).1]; exact rg1.2.1, by rw [(e5 0 129 rfl).1]; exact rg1.2.2.1, by rw [(e4 8 45 rfl).1, (e5 0 144 rfl).1]; exact rg1.2.2.2.1, by rw [(e4 8 44 rfl).2, (e5 0 145 rfl).2]; exact rg1.2.2.2.2⟩
      have g := MB.fin (F := F) e3 rg2 hn
      refine ⟨τ', by rw [x6, e2, bi_ok], ?_⟩
      rw [x5, e1, bv_ok]
      exact oc_go g rg2 hwk rfl (Nat.succ_ne_zero _) rfl (Nat.le_refl _) hX
  · have h1 := (h.fdx x3 x4).wt (rg.fdx x3 x4) (n' := n') (w := 4) hn hc hsc h5
    have q := hX (kTo F c m s l dd (n' + 1) 4) rfl (Nat.le_refl _)
    obtain ⟨σ2, y1, y2⟩ := x_ev3 C h1 (rg_ry (rg.fdx x3 x4)) (wk_nil h.npr hwk _) (fpT_o _ _ _) rfl (by show (4 : Nat) ≠ 0; decide) x1 x2 (hk.fdl x3 x4) (hv.fdl x3 x4) line (as := 4) (md := 0) (wt := 0) ⟨rfl, rfl, rfl⟩ (by omega)
    refine ⟨gv3 τ1 0 0 line f' d' km vm, by rw [x6, m_gv3], ?_⟩
    rw [x5, y1]
    exact y2.fin.pre (fun _ => rfl) (fun i hi => by cases hi) (fun t ht => by have ht : t ≤ _ := ht; show t < X; omega)
  · refine ⟨τ', x4, ?_⟩
    rw [x3]
    exact oc_er (h.fdx x1 x2) ((rg_ry rg).fdx x1 x2) hwk x5 rfl (n' := n') hn1 hX
