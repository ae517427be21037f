/-! all that came goes into a table: half-way, and the rest of what was given -/
/-- what comes of the act behind a half-way state -/
def hoR (σ0 τ0 : lj_S) (n np p : Nat) (r : List Nat) (FP : Nat → List kF) (ρ : Nat → Nat) (A MO LA : List Nat) (σ τ : lj_S) (F : kF) (L : List kF) (N : Nat) (z : pT) : Prop :=
  (∃ σ' τ', (∀ v, goC v σ = goC v σ') ∧ (∀ x, mRun x τ = mRun x τ') ∧ MB σ0 τ0 n np p r (fpT FP p (kAt F z N :: L)) ρ A MO LA σ' τ' ∧ rgR σ' τ') ∨ ∃ F', kS F' = 0 ∧ trR σ0 τ0 n np p r (fpT FP p (F' :: L)) ρ A MO LA σ τ
theorem hp_pp {σ τ : lj_S} {n : Nat} (h : hpR σ τ n) {ci p : Nat} {x y z : Int32} : hpR (lj_put (lj_put σ 8 8 x) 97 ci y) (lj_put τ 63 p z) n := h.cg (fun k j q => ⟨by rw [lj_put_1, if_neg (by rintro ⟨rfl, rfl⟩; simp [hqC, vqC] at q), lj_put_1, if_neg (by rintro ⟨rfl, rfl⟩; simp [hqC, vqC] at q)], rfl⟩) (fun k j q => ⟨by rw [lj_put_1, if_neg (by rintro ⟨rfl, rfl⟩; simp [hqM, vqM] at q)], rfl⟩)
theorem hf_set {σ0 τ0 σ τ : lj_S} {n np p : Nat} {r : List Nat} {FP : Nat → List kF} {ρ : Nat → Nat} {A MO LA : List Nat} (h : MB σ0 τ0 n np p r FP ρ A MO LA σ τ) {F : kF} {L : List kF} (hF : FP p = F :: L) (h0 : kS F = 0) (rg : rgR σ τ) {ms ks ce me mq : Nat} (V : vw σ0 τ0 σ τ ρ FP p F L ms ks ce me mq) (hs : stF σ0 τ0) {G G' : List vT} {σ1 : lj_S} {s' : List Nat} {i : Nat} (hf : hfw σ σ1 p (20 * p + L.length) ce G) (hsh : (kY F).2.2.2.1 = 2 :: 8 :: s') (hi : i < 60) (k1 : σ0.1 22 (kY F).2.1 = 25) (k1' : σ0.1 23 (kY F).2.1 = Int32.ofNat i) (k2 : τ0.1 20 (kY F).2.2.1 = 29) (k2' : τ0.1 21 (kY F).2.2.1 = Int32.ofNat i) {nn : Nat} (w2 : gn σ0 τ0 nn ((kY F).1, (kY F).2.1 + 1, (kY F).2.2.1 + 1, 8 :: s', (kY F).2.2.2.2.1, (kY F).2.2.2.2.2)) (hl : G.length = G'.length) (hl2 : G.length ≤ 110) (hv : ∀ i, i < G.length → vR σ τ (G.getD i (0, 0)) (G'.getD i (0, 0))) (hcb : ce + 1 + G.length < 12500 * p + 12500) (hmb : me + G.length < 10000) : hoR σ0 τ0 n np p r FP ρ A MO LA σ1 (mPus p τ me G') F L (nn + 1) ((kY F).1, (kY F).2.1 + 1, (kY F).2.2.1 + 1, 8 :: s', (kY F).2.2.2.2.1, (kY F).2.2.2.2.2) := by
  have B := V.bd
  have st := V.st
  have hfl := V.fl
  rw [hsh] at st hfl
  obtain ⟨mq', rfl, h73, st⟩ := st.u2
  have st8 := st
  obtain ⟨c0, m0, rfl, rfl, h8, _, _, hk8, _⟩ := st.u0 (Or.inr (Or.inr rfl))
  obtain ⟨o, o1, o2, o3, o4, o5, o6⟩ := tb8 h8 (hk8 rfl) h.2.2.2.1.2.1
  obtain ⟨b1, b2, b3, _⟩ := stk_bd st8
  obtain ⟨e2, e3, e4, e5, e6, e7⟩ := hf
  have e5' : σ1.1 94 (20 * p + L.length) = Int32.ofNat (kY F).2.1 := by rw [e5]; exact V.2.2.2.2.1.1.2.2.2.1
  obtain ⟨f1, f2, f3, f4, fA, fL, fK, f5⟩ := c_fq h hF h0 V hs k1 (by decide) e2 e5'
  obtain ⟨a1, a2, a3, a4, a5, a6⟩ := e3
  have gP : lf (tqM p (48 * p + L.length) (m0 + 1) (mq' + 1)) τ (mPus p τ (m0 + 1) G') := tm_pus _ (lf_rf _ _) (Nat.le_refl _) (by omega)
  have gP' : lf (tqM p (48 * p + L.length) (m0 + 1) mq') τ (mPus p τ (m0 + 1) G') := tm_pus _ (lf_rf _ _) (Nat.le_refl _) (by omega)
  obtain ⟨σs, hss⟩ : ∃ σs, σs = lj_put σ1 94 (20 * p + L.length) (Int32.ofNat ((kY F).2.1 + 1)) := ⟨_, rfl⟩
  obtain ⟨τs, hts⟩ : ∃ τs, τs = lj_put (lj_put (mPus p τ (m0 + 1) G') 77 (48 * p + L.length) (Int32.ofNat ((kY F).2.2.1 + 1))) 64 p (Int32.ofNat mq') := ⟨_, rfl⟩
  have fS : lf (tqC p (20 * p + L.length) (c0 + 1)) σ σs := by rw [hss]; exact tq_94 e2 _
  have gS : lf (tqM p (48 * p + L.length) (m0 + 1) mq') τ τs := by rw [hts]; exact tm_64 (tm_77 gP' _) _
  have hO : sOK (8 :: s') := gn_ok w2
  have hfl' : (flo (8 :: s')).length ≤ nH σ0 (kY F).1 := Nat.le_trans (flo_t 2 _) hfl
  have oS : ∀ k j, ¬ (k = 94 ∧ j = (20 * p + L.length)) → σs.1 k j = σ1.1 k j := fun k j z => by rw [hss, lj_put_1, if_neg z]
  have oS2 : σs.2 = σ1.2 := by rw [hss]; rfl
  have oT : ∀ k j, ¬ (k = 77 ∧ j = (48 * p + L.length)) → ¬ (k = 64 ∧ j = p) → τs.1 k j = (mPus p τ (m0 + 1) G').1 k j := fun k j z1 z2 => by rw [hts, lj_put_1, if_neg z2, lj_put_1, if_neg z1]
  have oT2 : τs.2 = (mPus p τ (m0 + 1) G').2 := by rw [hts]; rfl
  obtain ⟨g1, g2⟩ := h.dn hF h0 rg V st8 (σ' := lj_put (lj_put σs 8 8 (Int32.ofNat (c0 + 1))) 97 (20 * p + L.length) (σ.1 97 (20 * p + L.length))) (τ' := lj_put τs 63 p (Int32.ofNat (m0 + 1))) (tq_97 (tq_88 fS _) _) (tm_63 gS _) (by simp [lj_put_1, lj_putL_1]) (c' := (kY F).2.1 + 1) (m' := (kY F).2.2.1 + 1) (n' := nn + 1) (by rw [lj_put_1, if_neg (by omega), lj_put_1, if_neg (by omega), hss, lj_put_1, if_pos ⟨rfl, rfl⟩]) (by rw [lj_put_1, if_neg (by omega), hts, lj_put_1, if_neg (by omega), lj_put_1, if_pos ⟨rfl, rfl⟩]) (by simp [lj_put_1, lj_putL_1]) (by simp [lj_put_1, lj_putL_1]) (by rw [lj_put_1, if_neg (by omega), hts, lj_put_1, if_pos ⟨rfl, rfl⟩]) hO hfl' (Or.inr ⟨Nat.succ_ne_zero _, w2⟩) (fun j => by
    rw [lj_put_1, if_neg (by omega), lj_put_1, if_neg (by omega), oS 81 j (by omega)]
    exact e7 j)
  have g1 : MB σ0 τ0 n np p r (fpT FP p (kAt F ((kY F).1, (kY F).2.1 + 1, (kY F).2.2.1 + 1, 8 :: s', (kY F).2.2.2.2.1, (kY F).2.2.2.2.2) (nn + 1) :: L)) ρ A MO LA (lj_put (lj_put σs 8 8 (Int32.ofNat (c0 + 1))) 97 (20 * p + L.length) (σ.1 97 (20 * p + L.length))) (lj_put τs 63 p (Int32.ofNat (m0 + 1))) := g1
  -- what the loop wants
  have hvS : ∀ a b, vR σ τ a b → vR σs τs a b := fun a b w => vR_tq fS gS w
  have smS : sM σs τs := h.2.1.cg (fun k j q => (fS k j (tqC_f (sxC_f (by unfold sqC at q; simp at q; omega)) (by unfold sqC at q; simp at q; omega))).1) (fun k j q => (gS k j (tqM_f (sxM_f (by unfold sqM at q; simp at q; omega)) (by unfold sqM at q; simp at q; omega))).1)
  have hpS : hpR σs τs n := h.2.2.2.1.cg (fun k j q => fS k j (tqC_f (sxC_f (by unfold hqC vqC at q; simp at q; omega)) (by unfold hqC vqC at q; simp at q; omega))) (fun k j q => gS k j (tqM_f (sxM_f (by unfold hqM vqM at q; simp at q; omega)) (by unfold hqM vqM at q; simp at q; omega)))
  have c80 : σs.2 80 c0 = σ.2 80 c0 := (fS 80 c0 (tqC_f (sxC_f (by omega)) (by omega))).2
  have ht : (σs.2 80 c0).toInt32 = Int32.ofNat o := by
    have : σ.2 80 c0 = i64 o := o3
    rw [c80, this, i64_32]
  have hcm : (σs.2 80 (c0 + 1)).toInt32 = σ.1 97 (20 * p + L.length) := by rw [oS2, a4]; exact Int32.toInt32_toInt64 _
  have m111 : τs.1 0 111 = Int32.ofNat p := by rw [(gS 0 111 (tqM_f (sxM_f (by omega)) (by omega))).1]; exact V.at.1
  have mvS : ∀ j, j < G.length → mv τs (10000 * p + (m0 + 1 + j)) = G'.getD j (0, 0) := fun j hj => by
    have := mPus_v p G' τ (m0 + 1) j (by omega)
    rw [← this]
    unfold mv
    rw [oT 71 _ (by omega) (by omega), oT2]
  have lp := set_loop (n := n) (i := i) (o := o) (c0 := c0) (m0 := m0) (p := p) (ci := (20 * p + L.length)) (cm := σ.1 97 (20 * p + L.length)) (G := G) (G' := G') hi o2 o6 hl hl2 (by omega) (by omega) (by omega) (by omega) (Int32.ofNat (kY F).2.1) (σ0.1 26 (kY F).2.1) G.length 0 σs τs (Nat.zero_add _) smS hpS (fun j hj => hvS _ _ (hv j hj)) (fun j hj => by
    have := (e4 j hj).1
    rw [show c0 + 1 + 1 + j = c0 + 2 + j by omega] at this
    rw [← this]
    unfold cv
    rw [oS 79 _ (by omega), oS2]) mvS (by rw [oS 8 8 (by omega), a1]) (by rw [oS 8 34 (by omega)]; exact a2) ht hcm m111 (by rw [(fS 57 o (tqC_f (sxC_f (by omega)) (by omega))).1]; exact o5.2.2.2.1)
  -- the run of both
  have r46 : σ1.1 8 46 = 0 := by rw [(e2 8 46 (tqC_f (sxC_f (by omega)) (by omega))).1]; exact rg.1
  have e97 : σ1.1 97 (σ1.1 8 34).toNatClampNeg = Int32.ofNat (c0 + 1) := by rw [f2]; exact a3
  have cst : lj_R lc_P 139 [.ref 8] σ1 = lj_D lc_P lc_M139 810 [.ref 8, .int (Int32.ofNat (kY F).2.1), .int (Int32.ofNat i), .int (σ0.1 26 (kY F).2.1), .int (Int32.ofNat (c0 + 1)), .int (Int32.ofNat (c0 + 2 + 0))] [] σs := by
    rw [ca_25 σ1 f1 f3 f4 (fA.trans k1') fL fK, if_pos f1, e97, f2, lz_osucc, lz_osucc, hss]
  -- the model's state is like one of both, with more values on its stack
  have mh : ∀ τ2 : lj_S, lj_D lm_P lm_M155 56 [.ref 0, .int (Int32.ofNat i), .int (Int32.ofNat (m0 + 1)), .int (Int32.ofNat o), .int (Int32.ofNat G.length), .int 1, .int (Int32.ofNat 0)] [] τs = some (.inl none, τ2) → ∀ x, mRun x (mPus p τ (m0 + 1) G') = mRun x τ2 := fun τ2 q => by
    obtain ⟨⟨m1, m2, m3, m4, m5, m6, m7⟩, m8⟩ := (h.cx hF h0 hs).2 (by rw [k2]; decide)
    have oP := fun k j => mPus_o p G' τ (m0 + 1) k j
    have p63 : (mPus p τ (m0 + 1) G').1 63 p = Int32.ofNat (m0 + 1 + G'.length) := mPus_63 p _ _ _ V.at.2.2.1
    have atP : mAt (mPus p τ (m0 + 1) G') p (m0 + 1 + G'.length) (mq' + 1) := by
      obtain ⟨t1, t2, t3, t4, t5, t6⟩ := V.at
      exact ⟨by rw [(oP 0 111 (by omega) (by omega)).1]; exact t1, t2, p63, (by omega), by rw [(oP 64 _ (by omega) (by omega)).1]; exact t5, t6⟩
    have q111 : (mPus p τ (m0 + 1) G').1 0 111 = τ.1 0 111 := (oP 0 111 (by omega) (by omega)).1
    have q62 : (mPus p τ (m0 + 1) G').1 62 (τ.1 0 111).toNatClampNeg = τ.1 62 (τ.1 0 111).toNatClampNeg := (oP 62 _ (by omega) (by omega)).1
    have q77 : (mPus p τ (m0 + 1) G').1 77 (Int32.ofNat (48 * p + L.length)).toNatClampNeg = τ.1 77 (Int32.ofNat (48 * p + L.length)).toNatClampNeg := (oP 77 _ (by omega) (by omega)).1
    have q20 : (mPus p τ (m0 + 1) G').1 20 (Int32.ofNat (kY F).2.2.1).toNatClampNeg = 29 := by rw [(oP 20 _ (by omega) (by omega)).1, m7, m8 20 (by decide) (by decide)]; exact k2
    have q21 : (mPus p τ (m0 + 1) G').1 21 (Int32.ofNat (kY F).2.2.1).toNatClampNeg = Int32.ofNat i := by rw [(oP 21 _ (by omega) (by omega)).1, m7, m8 21 (by decide) (by decide)]; exact k2'
    have at7 := mAt_p (i := (48 * p + L.length)) (v := Int32.ofNat ((kY F).2.2.1 + 1)) atP
    have hkk : m0 + 1 + G'.length ≠ 0 → 0 ≤ (mv (lj_put (mPus p τ (m0 + 1) G') 77 (48 * p + L.length) (Int32.ofNat ((kY F).2.2.1 + 1))) (10000 * p + (m0 + 1 + G'.length - 1))).1 := fun _ => by
      rw [mv_p _ (by decide)]
      by_cases z : G'.length = 0
      · have : mv (mPus p τ (m0 + 1) G') (10000 * p + (m0 + 1 + G'.length - 1)) = mv τ (10000 * p + m0) := by
          unfold mv
          rw [show m0 + 1 + G'.length - 1 = m0 by omega, (oP 71 _ (by omega) (by omega)).1, (oP 72 _ (by omega) (by omega)).2]
        rw [this]
        exact h8.nn
      · have := mPus_v p G' τ (m0 + 1) (G'.length - 1) (by omega)
        rw [show m0 + 1 + (G'.length - 1) = m0 + 1 + G'.length - 1 by omega] at this
        rw [this]
        exact (hv (G'.length - 1) (by omega)).nn
    have r155 : lj_R lm_P 155 [.ref 0, .int (Int32.ofNat i)] (lj_put (mPus p τ (m0 + 1) G') 77 (48 * p + L.length) (Int32.ofNat ((kY F).2.2.1 + 1))) = some (.inl none, τ2) := by
      have mk := m_mark at7
      have e73 : (lj_put (mPus p τ (m0 + 1) G') 77 (48 * p + L.length) (Int32.ofNat ((kY F).2.2.1 + 1))).1 73 (2000 * p + mq') = Int32.ofNat (m0 + 1) := by rw [lj_put_1, if_neg (by omega), (oP 73 _ (by omega) (by omega)).1]; exact h73
      rw [e73] at mk
      have ea : (10000 : Int32) * (lj_put (mPus p τ (m0 + 1) G') 77 (48 * p + L.length) (Int32.ofNat ((kY F).2.2.1 + 1))).1 0 111 + Int32.ofNat (m0 + 1) - 1 = Int32.ofNat (10000 * p + m0) := by
        rw [at7.1, show (10000 : Int32) = Int32.ofNat 10000 from rfl, ← Int32.ofNat_mul, ← Int32.ofNat_add, ← Nat.add_assoc, lz_pred']
      have ib : lj_in (Int32.ofNat (10000 * p + m0)) 260000 := ofN_in (by omega) (by omega)
      have ec : (lj_put (mPus p τ (m0 + 1) G') 77 (48 * p + L.length) (Int32.ofNat ((kY F).2.2.1 + 1))).1 63 p - Int32.ofNat (m0 + 1) = Int32.ofNat G.length := by
        rw [at7.2.2.1]
        refine lz_ext ?_
        rw [lz_sub (by rw [lz_lit (by omega), lz_lit (by omega)]; omega), lz_lit (by omega), lz_lit (by omega), lz_lit (by omega)]
        omega
      have e72 : ((lj_put (mPus p τ (m0 + 1) G') 77 (48 * p + L.length) (Int32.ofNat ((kY F).2.2.1 + 1))).2 72 (10000 * p + m0)).toInt32 = Int32.ofNat o := by
        have : (mPus p τ (m0 + 1) G').2 72 (10000 * p + m0) = τ.2 72 (10000 * p + m0) := (oP 72 _ (by omega) (by omega)).2
        have e : (mv τ (10000 * p + m0)).2 = (cv σ c0).2 := by rw [o4]
        have e : τ.2 72 (10000 * p + m0) = (cv σ c0).2 := e
        show ((mPus p τ (m0 + 1) G').2 72 (10000 * p + m0)).toInt32 = _
        rw [this, e, o3, i64_32]
      rw [rm_155, km_155_0, mk, bi_ok, if_pos at7.i.1, if_pos at7.i.1, if_pos (by rw [ea]; exact ib), if_pos at7.i.1, ea, at7.i.2.1, lz_onat (by omega), e72, ec, at7.2.2.2.2.1, lz_pred', ← hts]
      exact q
    refine run_step (by rw [(oP 0 143 (by omega) (by omega)).1]; exact rg.2.1) (by rw [(oP 0 129 (by omega) (by omega)).1]; exact rg.2.2.1) ?_
    have z2 : (lj_put (mPus p τ (m0 + 1) G') 77 (48 * p + L.length) (Int32.ofNat ((kY F).2.2.1 + 1))).1 20 (Int32.ofNat (kY F).2.2.1).toNatClampNeg = 29 := by rw [lj_put_1, if_neg (by omega)]; exact q20
    rw [mw_x _ (J := Int32.ofNat (48 * p + L.length)) (by rw [q111]; exact m1) (by rw [q111, q62]; exact m2) m3 (by rw [q77]; exact m5) m6 q21 (K := 29) q20 (by decide), m4, lz_osucc, m_w127 at7 _ _ _ hkk, my_x _ m6 z2 (by decide), mz_29 _ m6 z2, r155, bv_ok, km_153_483, bv_ok, km_127_420, bv_ok, km_121_398]
  have mAll : ∀ (σk τk : lj_S), lf hwC σs σk → lf hwM τs τk → hpR σk τk n → MB σ0 τ0 n np p r (fpT FP p (kAt F ((kY F).1, (kY F).2.1 + 1, (kY F).2.2.1 + 1, 8 :: s', (kY F).2.2.2.2.1, (kY F).2.2.2.2.2) (nn + 1) :: L)) ρ A MO LA (lj_put (lj_put σk 8 8 (Int32.ofNat (c0 + 1))) 97 (20 * p + L.length) (σ.1 97 (20 * p + L.length))) (lj_put τk 63 p (Int32.ofNat (m0 + 1))) ∧ rgR (lj_put (lj_put σk 8 8 (Int32.ofNat (c0 + 1))) 97 (20 * p + L.length) (σ.1 97 (20 * p + L.length))) (lj_put τk 63 p (Int32.ofNat (m0 + 1))) := fun σk τk y1 y2 y3 =>
    ⟨g1.hw (lf_pp (lf_pp y1 8 8 _) 97 (20 * p + L.length) _) (lf_pp y2 63 p _) (hp_pp y3), rg_hw g2 (lf_pp (lf_pp y1 8 8 _) 97 (20 * p + L.length) _) y2⟩
  rcases lp with ⟨σk, τk, y1, y2, y3, y4, y5⟩ | ⟨σk, τk, y1, y2, y3, y4, y5⟩
  · obtain ⟨x1, x2⟩ := mAll σk τk y3 y4 y5
    refine Or.inr ⟨F, h0, σ1, _, _, fun _ => rfl, r46, cst.trans y1, mh _ y2, ?_⟩
    refine x1.nr x2 (i := (20 * p + L.length)) (lo := c0 + 1) (i' := (48 * p + L.length)) (ml := m0 + 1) (kl := mq') (tq_26 (lf_sy (tq_97 (tq_88 (lf_rf _ _) _) _)) _) (tn_63 (tn_143 (tqN_m (lf_sy (tm_63 (lf_rf _ _) _))) _) _) (by simp [lj_put_1, lj_putL_1]) (by simp [lj_put_1, lj_putL_1])
  · obtain ⟨x1, x2⟩ := mAll σk τk y3 y4 y5
    exact Or.inl ⟨_, _, go_step r46 (cst.trans y1), mh _ y2, x1, x2⟩
