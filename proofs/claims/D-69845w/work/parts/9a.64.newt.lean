/-! a value of a shape upon both -/
theorem MB.pux {σ0 τ0 σ τ : lj_S} {n np p : Nat} {r : List Nat} {FP : Nat → List kF} {ρ : Nat → Nat} {A MO LA : List Nat} (h : MB σ0 τ0 n np p r FP ρ A MO LA σ τ) {F : kF} {L : List kF} (hF : FP p = F :: L) (h0 : kS F = 0) (rg : rgR σ τ) {ms ks ce me mq : Nat} (V : vw σ0 τ0 σ τ ρ FP p F L ms ks ce me mq) {σ1 τ1 : lj_S} {s1 : List Nat} {ce1 me1 mq1 : Nat} (b : stk σ τ p (kB F + nL σ0 (kY F).1) (kB F + nL σ0 (kY F).1 + 3 * nH σ0 (kY F).1) (ms + kD F) ks s1 ce1 me1 mq1 (σ.1 97 (20 * p + L.length))) (f : lf (tqC p (20 * p + L.length) ce1) σ σ1) (g : lf (tqM p (48 * p + L.length) me1 mq1) τ τ1) (e97 : σ1.1 97 (20 * p + L.length) = σ.1 97 (20 * p + L.length)) {c' m' n' w' : Nat} (e94 : σ1.1 94 (20 * p + L.length) = Int32.ofNat c') (e77 : τ1.1 77 (48 * p + L.length) = Int32.ofNat m') (e64 : τ1.1 64 p = Int32.ofNat mq1) {x : Nat} (hx : x = 0 ∨ x = 7 ∨ x = 8) (hO : sOK (x :: s1)) (hfl : (flo s1).length ≤ nH σ0 (kY F).1) {u w : vT} (hv : vR σ τ u w) (hu : (x = 7 → u.1 = 3) ∧ (x = 8 → u.1 = 4)) (hn : n' = 0 ∧ w' = 0 ∨ n' ≠ 0 ∧ wtR σ0 τ0 (kY F).1 c' m' (x :: s1) (kY F).2.2.2.2.1 (kY F).2.2.2.2.2 (n' - 1) w') (hw : w' ≠ 0 → ((1 ≤ c' ∧ c' ≤ 14000) ∧ scl σ0 (kY F).1 (c' - 1) (x :: s1) (kY F).2.2.2.2.1 (kY F).2.2.2.2.2) ∧ ∀ y ∈ x :: s1, y ≠ 5) (g81 : ∀ j, σ1.1 81 j = σ.1 81 j ∨ σ1.1 81 j = -1 := by intro j; left; simp [lj_put_1, lj_putL_1]) :
    MB σ0 τ0 n np p r (fpT FP p (kTo F c' m' (x :: s1) (kY F).2.2.2.2.1 (kY F).2.2.2.2.2 n' w' :: L)) ρ A MO LA (cPu σ1 ce1 u) (mPu τ1 p me1 w) ∧ rgR (cPu σ1 ce1 u) (mPu τ1 p me1 w) := by
  obtain ⟨b1, b2, b3, _⟩ := stk_bd b
  have nl := V.ff.1
  have bd := top_bd V.2.1 V.2.2.2.1 V.2.2.2.2.2.1 nl.2.2.2.2.1 nl.2.1 nl.2.2.1 b hO.tl
  have f' : lf (tqC p (20 * p + L.length) ce1) σ (cPu σ1 ce1 u) := tq_pu f u (Nat.le_refl _) (by omega)
  have g' : lf (tqM p (48 * p + L.length) me1 mq1) τ (mPu τ1 p me1 w) := tm_pu g w (Nat.le_refl _) (by omega)
  have vr := tp_vR (tq_tp b1 f') (tq_tpM b2 b3 g')
  refine h.tpw hF h0 rg V b1 b2 b3 f' g' b (Nat.le_refl _) (Nat.le_refl _) (Nat.le_refl _) hfl (ce' := ce1 + 1) (me' := me1 + 1) (mq' := mq1) (fun z => ?_) ?_ ?_ ?_ ?_ ?_ hO (by rw [flo_c (by omega)]; exact hfl) hn hw (fun j => ?_)
  · rw [cPu_1, if_neg (by omega), if_neg (by omega), if_neg (by omega), e97]
    have k79 : (cPu σ1 ce1 u).1 79 ce1 = u.1 := by rw [cPu_1, if_neg (by omega), if_neg (by omega), if_pos ⟨rfl, rfl⟩]
    refine Or.inr (Or.inr (Or.inr (Or.inr (Or.inl ⟨hx, ce1, me1, rfl, rfl, ?_, by rw [cPu_1, if_neg (by omega), if_pos ⟨rfl, rfl⟩], fun e => by rw [k79]; exact hu.1 e, fun e => by rw [k79]; exact hu.2 e, z⟩))))
    unfold cv mv
    rw [cPu_1, if_neg (by omega), if_neg (by omega), if_pos ⟨rfl, rfl⟩, cPu_2, if_pos ⟨rfl, rfl⟩, mPu_1, if_neg (by omega), if_pos ⟨rfl, rfl⟩, mPu_2, if_pos ⟨rfl, rfl⟩]
    exact hv.cg vr.1 vr.2
  · rw [cPu_1, if_neg (by omega), if_neg (by omega), if_neg (by omega)]; exact e94
  · rw [mPu_1, if_neg (by omega), if_neg (by omega)]; exact e77
  · rw [cPu_1, if_pos ⟨rfl, rfl⟩]
  · rw [mPu_1, if_pos ⟨rfl, rfl⟩]
  · rw [mPu_1, if_neg (by omega), if_neg (by omega)]; exact e64
  · by_cases y : j = ce1
    · right; rw [y, cPu_1, if_neg (by omega), if_pos ⟨rfl, rfl⟩]
    · rw [cPu_1, if_neg (by omega), if_neg (by omega), if_neg (by omega)]; exact g81 j
/-- both go on: perhaps with more objects, other cells -/
def ngR (σ0 τ0 : lj_S) (np p : Nat) (r : List Nat) (FP : Nat → List kF) (A MO LA : List Nat) (σ τ : lj_S) (F : kF) (L : List kF) (n' : Nat) (Z : List pT) : Prop :=
  ∃ n2 ρ' σ' τ' z, z ∈ Z ∧ (∀ v, goC v σ = goC v σ') ∧ (∀ x, mRun x τ = mRun x τ') ∧ MB σ0 τ0 n2 np p r (fpT FP p (kAt F z (n' + 1) :: L)) ρ' A MO LA σ' τ' ∧ rgR σ' τ'
theorem act_30 {σ0 τ0 σ τ : lj_S} {n np p : Nat} {r : List Nat} {FP : Nat → List kF} {ρ : Nat → Nat} {A MO LA : List Nat} (h : MB σ0 τ0 n np p r FP ρ A MO LA σ τ) {F : kF} {L : List kF} (hF : FP p = F :: L) (h0 : kS F = 0) (rg : rgR σ τ) (hs : stF σ0 τ0) {Z : List pT} (hk : insK σ0 τ0 (kY F).1 (kY F).2.1 (kY F).2.2.1 (kY F).2.2.2.1 (kY F).2.2.2.2.1 (kY F).2.2.2.2.2 Z 30) {n' : Nat} (hn : ∀ z ∈ Z, gn σ0 τ0 n' z) : ngR σ0 τ0 np p r FP A MO LA σ τ F L n' Z ∨ ∃ F', kS F' = 0 ∧ trR σ0 τ0 n np p r (fpT FP p (F' :: L)) ρ A MO LA σ τ := by
  obtain ⟨k1, k2, rfl⟩ := hk
  obtain ⟨ms, ks, ce, me, mq, V⟩ := h.w hF h0
  have B := V.bd
  obtain ⟨f1, f2, f3, f4, fA, fL, fK, f5⟩ := c_ft h hF h0 hs k1 (by decide)
  obtain ⟨h1, rg1⟩ := h.ft hF h0 rg V true true
  have h1 : MB σ0 τ0 n np p r (fpT FP p (kTo F ((kY F).2.1 + 1) ((kY F).2.2.1 + 1) (kY F).2.2.2.1 (kY F).2.2.2.2.1 (kY F).2.2.2.2.2 0 0 :: L)) ρ A MO LA (lj_put σ 94 (20 * p + L.length) (Int32.ofNat ((kY F).2.1 + 1))) (lj_put τ 77 (48 * p + L.length) (Int32.ofNat ((kY F).2.2.1 + 1))) := h1
  have rg1 : rgR (lj_put σ 94 (20 * p + L.length) (Int32.ofNat ((kY F).2.1 + 1))) (lj_put τ 77 (48 * p + L.length) (Int32.ofNat ((kY F).2.2.1 + 1))) := rg1
  have fC : lf (tqC p (20 * p + L.length) ce) σ (lj_put σ 94 (20 * p + L.length) (Int32.ofNat ((kY F).2.1 + 1))) := tq_94 (lf_rf _ _) _
  have fM : lf (tqM p (48 * p + L.length) me mq) τ (lj_put τ 77 (48 * p + L.length) (Int32.ofNat ((kY F).2.2.1 + 1))) := tm_77 (lf_rf _ _) _
  have at1 := mAt_p (i := (48 * p + L.length)) (v := Int32.ofNat ((kY F).2.2.1 + 1)) V.at
  rcases cm_object h1.2.2.2.1 4 with ⟨z, x1, x2⟩ | ⟨z, x1, x2, x3, x4, x5⟩
  · right
    have at2 : mAt (lj_put (lj_put τ 77 (48 * p + L.length) (Int32.ofNat ((kY F).2.2.1 + 1))) 0 143 4) p me mq := by
      obtain ⟨a1, a2, a3, a4, a5, a6⟩ := at1
      exact ⟨by rw [lj_put_1, if_neg (by omega)]; exact a1, a2, by rw [lj_put_1, if_neg (by omega)]; exact a3, a4, by rw [lj_put_1, if_neg (by omega)]; exact a5, a6⟩
    have pu : lj_R lm_P 116 [.ref 0, .int 4, .long ((0 : Int32).toInt64)] _ = _ := m_push at2 (by omega) (4, (0 : Int32).toInt64)
    refine ⟨F, h0, σ, lj_put (lj_put σ 94 (20 * p + L.length) (Int32.ofNat ((kY F).2.1 + 1))) 2 6 1, mPu (lj_put (lj_put τ 77 (48 * p + L.length) (Int32.ofNat ((kY F).2.2.1 + 1))) 0 143 4) p me (4, (0 : Int32).toInt64), fun _ => rfl, rg.1, ?_, run_step rg.2.1 rg.2.2.1 (m_lo h hF h0 V hs k2 (by decide) (fun z1 z2 => ?_)), ?_⟩
    · rw [ca_23 σ f1 f3 f4 fA fL fK, f2, lz_osucc, x1, bi_th]
    · rw [my_26 _ z1 z2, x2, bi_ok, pu, bv_ok, km_127_420]
    · refine h.nr rg (tq_26 fC _) (i' := (48 * p + L.length)) (ml := me) (kl := mq) ?_ (by simp [lj_put_1, lj_putL_1]) (by rw [mPu_1, if_neg (by omega), if_neg (by omega), lj_put_1, if_pos ⟨rfl, rfl⟩])
      unfold mPu
      exact lf_put (lf_putL (lf_put (tn_143 (tqN_m fM) _) 71 _ _ (by unfold tqN; rw [tqM_t (by omega)]; rfl)) 72 _ _ (by unfold tqN; rw [tqM_t (by omega)]; rfl)) 63 p _ (by unfold tqN; rw [tqM_t (by omega)]; rfl)
  · left
    obtain ⟨y1, y2⟩ := h1.nt z x3 x4 x5
    have fo := fpT_o FP p (kTo F ((kY F).2.1 + 1) ((kY F).2.2.1 + 1) (kY F).2.2.2.1 (kY F).2.2.2.2.1 (kY F).2.2.2.2.2 0 0 :: L)
    obtain ⟨ms2, ks2, ce2, me2, mq2, V2⟩ := y1.w fo rfl
    have B2 := V2.bd
    have oC : ∀ j, (cOb (lj_put σ 94 (20 * p + L.length) (Int32.ofNat ((kY F).2.1 + 1))) (n + 1) 4).1 8 j = σ.1 8 j := fun j => by
      rw [cOb_1]; repeat rw [if_neg (by omega)]
      rw [lj_put_1, if_neg (by omega)]
    have oM : ∀ k j, ¬ (k = 0 ∧ j = 77) → k < 38 ∨ 41 < k → k ≠ 77 → (mOb (lj_put τ 77 (48 * p + L.length) (Int32.ofNat ((kY F).2.2.1 + 1))) (n + 1) 4).1 k j = τ.1 k j := fun k j w1 w2 w3 => by
      rw [mOb_1]; repeat rw [if_neg (by omega)]
      rw [lj_put_1, if_neg (by omega)]
    have ec : ce2 = ce := (ofN_eq (by omega) (by omega)).1 (by rw [← V2.tp, ← V.tp, oC])
    have em : me2 = me := (ofN_eq (by omega) (by omega)).1 (by rw [← V2.at.2.2.1, ← V.at.2.2.1, oM 63 p (by omega) (by omega) (by omega)])
    have rg2 : rgR (cOb (lj_put σ 94 (20 * p + L.length) (Int32.ofNat ((kY F).2.1 + 1))) (n + 1) 4) (mOb (lj_put τ 77 (48 * p + L.length) (Int32.ofNat ((kY F).2.2.1 + 1))) (n + 1) 4) := by
      obtain ⟨r1, r2, r3, r4, r5⟩ := rg
      exact ⟨by rw [oC]; exact r1, by rw [oM 0 143 (by omega) (by omega) (by omega)]; exact r2, by rw [oM 0 129 (by omega) (by omega) (by omega)]; exact r3, by rw [oC, oM 0 144 (by omega) (by omega) (by omega)]; exact r4, by rw [cOb_2, mOb_2, if_neg (by omega)]; exact r5⟩
    obtain ⟨g1, g2⟩ := y1.pux fo rfl rg2 V2 V2.st (lf_rf _ _) (lf_rf _ _) rfl (c' := (kY F).2.1 + 1) (m' := (kY F).2.2.1 + 1) (n' := n' + 1) (w' := 0) V2.2.2.2.2.1.1.2.2.2.1 V2.2.2.2.2.1.2.1.2.2.2.1 V2.at.2.2.2.2.1 (x := 8) (Or.inr (Or.inr rfl)) (gn_ok (hn _ List.mem_cons_self)) V2.fl (vR_ob (Or.inl rfl) y2) ⟨fun e => absurd e (by decide), fun _ => rfl⟩ (Or.inr ⟨Nat.succ_ne_zero _, hn _ List.mem_cons_self⟩) (fun z => absurd rfl z)
    rw [fpT_2, kTo_2, ec, em] at g1
    rw [ec, em] at g2
    refine ⟨n + 1, ρ, _, _, _, List.mem_cons_self, go_step rg.1 ?_, run_step rg.2.1 rg.2.2.1 (m_lo h hF h0 V hs k2 (by decide) (fun z1 z2 => ?_)), g1, g2⟩
    · have pu : lj_R lc_P 137 [.ref 8, .int 4, .long ((Int32.ofNat (n + 1)).toInt64)] _ = _ := c_push (σ := cOb (lj_put σ 94 (20 * p + L.length) (Int32.ofNat ((kY F).2.1 + 1))) (n + 1) 4) (t := ce) (by rw [oC]; exact V.tp) (by omega) (4, i64 (n + 1))
      rw [ca_23 σ f1 f3 f4 fA fL fK, f2, lz_osucc, x1, bi_ok, pu, bv_ok, kc_139_1051]
    · have a2 : mAt (mOb (lj_put τ 77 (48 * p + L.length) (Int32.ofNat ((kY F).2.2.1 + 1))) (n + 1) 4) p me mq := by
        obtain ⟨a1, a2, a3, a4, a5, a6⟩ := V.at
        exact ⟨by rw [oM 0 111 (by omega) (by omega) (by omega)]; exact a1, a2, by rw [oM 63 p (by omega) (by omega) (by omega)]; exact a3, a4, by rw [oM 64 p (by omega) (by omega) (by omega)]; exact a5, a6⟩
      have pu : lj_R lm_P 116 [.ref 0, .int 4, .long ((Int32.ofNat (n + 1)).toInt64)] _ = _ := m_push a2 (by omega) (4, i64 (n + 1))
      rw [my_26 _ z1 z2, x2, bi_ok, pu, bv_ok, km_127_420]
/-- the name of a field -/
theorem act_52 {σ0 τ0 σ τ : lj_S} {n np p : Nat} {r : List Nat} {FP : Nat → List kF} {ρ : Nat → Nat} {A MO LA : List Nat} (h : MB σ0 τ0 n np p r FP ρ A MO LA σ τ) {F : kF} {L : List kF} (hF : FP p = F :: L) (h0 : kS F = 0) (rg : rgR σ τ) (hs : stF σ0 τ0) {Z : List pT} (hk : insK σ0 τ0 (kY F).1 (kY F).2.1 (kY F).2.2.1 (kY F).2.2.2.1 (kY F).2.2.2.2.1 (kY F).2.2.2.2.2 Z 52) {n' : Nat} (hn : ∀ z ∈ Z, gn σ0 τ0 n' z) : nxR σ0 τ0 n np p r FP ρ A MO LA σ τ F L n' Z := by
  obtain ⟨k1, k2, kk, rfl⟩ := hk
  obtain ⟨ms, ks, ce, me, mq, V⟩ := h.w hF h0
  have B := V.bd
  obtain ⟨f1, f2, f3, f4, fA, fL, fK, f5⟩ := c_ft h hF h0 hs k1 (by decide)
  have kk' := (kk.up h.2.2.2.2.2.2.2.2.2.2.2.2.2).v
  have at1 := mAt_p (i := (48 * p + L.length)) (v := Int32.ofNat ((kY F).2.2.1 + 1)) V.at
  obtain ⟨g1, g2⟩ := h.pux hF h0 rg V V.st (tq_94 (lf_rf _ _) (Int32.ofNat ((kY F).2.1 + 1))) (tm_77 (lf_rf _ _) (Int32.ofNat ((kY F).2.2.1 + 1))) (by simp [lj_put_1, lj_putL_1]) (c' := (kY F).2.1 + 1) (m' := (kY F).2.2.1 + 1) (n' := n' + 1) (w' := 0) (by simp [lj_put_1, lj_putL_1]) (by simp [lj_put_1, lj_putL_1]) (by simp [lj_put_1, V.at.2.2.2.2.1]) (x := 7) (Or.inr (Or.inl rfl)) (gn_ok (hn _ List.mem_cons_self)) V.fl kk' ⟨fun _ => rfl, fun e => absurd e (by decide)⟩ (Or.inr ⟨Nat.succ_ne_zero _, hn _ List.mem_cons_self⟩) (fun z => absurd rfl z)
  obtain ⟨⟨m1, m2, m3, m4, m5, m6, m7⟩, m8⟩ := (h.cx hF h0 hs).2 (by rw [k2]; decide)
  refine ⟨_, _, _, List.mem_cons_self, go_step rg.1 ?_, run_step rg.2.1 rg.2.2.1 ?_, g1, g2⟩
  · have pu : lj_R lc_P 137 [.ref 8, .int 3, .long (σ0.1 23 (kY F).2.1).toInt64] _ = _ := c_push (σ := lj_put σ 94 (20 * p + L.length) (Int32.ofNat ((kY F).2.1 + 1))) (t := ce) (by rw [lj_put_1, if_neg (by omega)]; exact V.tp) (by omega) (3, (σ0.1 23 (kY F).2.1).toInt64)
    rw [ca_5 σ f1 f3 f4 fA fL fK, f2, lz_osucc, pu, bv_ok, kc_139_1051]
  · have pu : lj_R lm_P 116 [.ref 0, .int 3, .long (τ0.1 21 (kY F).2.2.1).toInt64] _ = _ := m_push at1 (by omega) (3, (τ0.1 21 (kY F).2.2.1).toInt64)
    rw [mw_5 τ m1 m2 m3 m5 m6 (A := τ0.1 21 (kY F).2.2.1) (by rw [m7]; exact m8 21 (by decide) (by decide)) (by rw [m7, m8 20 (by decide) (by decide)]; exact k2), m4, lz_osucc, pu, bv_ok, km_121_398]
