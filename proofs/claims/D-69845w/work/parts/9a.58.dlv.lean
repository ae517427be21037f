/-! what came of a call behind a mark: one value, all, none -/
/-- the component's fetch in the middle -/
theorem c_fq {σ0 τ0 σ τ : lj_S} {n np p : Nat} {r : List Nat} {FP : Nat → List kF} {ρ : Nat → Nat} {A MO LA : List Nat} (h : MB σ0 τ0 n np p r FP ρ A MO LA σ τ) {F : kF} {L : List kF} (hF : FP p = F :: L) (h0 : kS F = 0) {ms ks ce me mq : Nat} (V : vw σ0 τ0 σ τ ρ FP p F L ms ks ce me mq) (hs : stF σ0 τ0) {K : Int32} (k1 : σ0.1 22 (kY F).2.1 = K) (hK : K ≠ -1) {lo : Nat} {σ1 : lj_S} (f : lf (tqC p (20 * p + L.length) lo) σ σ1) (e94 : σ1.1 94 (20 * p + L.length) = Int32.ofNat (kY F).2.1) : lj_in (σ1.1 8 34) 520 ∧ (σ1.1 8 34).toNatClampNeg = (20 * p + L.length) ∧ σ1.1 94 (σ1.1 8 34).toNatClampNeg = Int32.ofNat (kY F).2.1 ∧ lj_in (Int32.ofNat (kY F).2.1) 14000 ∧ σ1.1 23 (Int32.ofNat (kY F).2.1).toNatClampNeg = σ0.1 23 (kY F).2.1 ∧ σ1.1 26 (Int32.ofNat (kY F).2.1).toNatClampNeg = σ0.1 26 (kY F).2.1 ∧ σ1.1 22 (Int32.ofNat (kY F).2.1).toNatClampNeg = K ∧ (Int32.ofNat (kY F).2.1).toNatClampNeg = (kY F).2.1 := by
  obtain ⟨c1, c2, c3, c4, cA, cL, cK, c5⟩ := c_ft h hF h0 hs k1 hK
  have e34 : σ1.1 8 34 = σ.1 8 34 := (f 8 34 (tqC_f (sxC_f (by omega)) (by omega))).1
  have e : ∀ k j, 22 ≤ k → k ≤ 26 → σ1.1 k j = σ.1 k j := fun k j z1 z2 => (f k j (tqC_f (sxC_f (by omega)) (by omega))).1
  exact ⟨by rw [e34]; exact c1, by rw [e34]; exact c2, by rw [e34, c2]; exact e94, c4, by rw [e 23 _ (by omega) (by omega)]; exact cA, by rw [e 26 _ (by omega) (by omega)]; exact cL, by rw [e 22 _ (by omega) (by omega)]; exact cK, c5⟩
/-- behind a mark all that came lies -/
theorem c_half {σ0 τ0 σ τ : lj_S} {n np p : Nat} {r : List Nat} {FP : Nat → List kF} {ρ : Nat → Nat} {A MO LA : List Nat} (h : MB σ0 τ0 n np p r FP ρ A MO LA σ τ) {F : kF} {L : List kF} (hF : FP p = F :: L) (h0 : kS F = 0) {ms ks ce me mq : Nat} (V : vw σ0 τ0 σ τ ρ FP p F L ms ks ce me mq) {G : List vT} (hr : rsC σ G) (hl : G.length ≤ 110) (hcb : ce + 1 + G.length < 12500 * p + 12500) : ∃ σ1, lj_R lc_P 144 [.ref 8, .int 0] σ = some (.inl none, σ1) ∧ lf (tqC p (20 * p + L.length) ce) σ σ1 ∧ mkC σ1 (20 * p + L.length) ce G.length (σ.1 97 (20 * p + L.length)) ∧ (∀ i, i < G.length → cv σ1 (ce + 1 + i) = G.getD i (0, 0) ∧ σ1.1 81 (ce + 1 + i) = -1) ∧ σ1.1 94 (20 * p + L.length) = σ.1 94 (20 * p + L.length) ∧ σ1.1 81 ce = -1 ∧ ∀ j, σ1.1 81 j = σ.1 81 j ∨ σ1.1 81 j = -1 := by
  have B := V.bd
  have d0 := c_d0 hr V.tp (by omega) V.i34 (by omega) (by omega)
  have o := fun k j => cPus_o G (cPu (lj_put σ 97 (20 * p + L.length) (Int32.ofNat ce)) ce (9, (σ.1 97 (20 * p + L.length)).toInt64)) (ce + 1) k j
  refine ⟨_, d0, tq_pus G (tq_pu (tq_97 (lf_rf _ _) _) _ (Nat.le_refl _) (by omega)) (by omega) (by omega), ⟨?_, ?_, ?_, ?_, (by omega), (by omega)⟩, fun i hi => cPus_v G _ (ce + 1) i hi, ?_, ?_, fun j => ?_⟩
  · exact cPus_8 G _ (ce + 1) (by rw [cPu_1, if_pos ⟨rfl, rfl⟩])
  · rw [(o 8 34 (by omega) (by omega)).1, cPu_1, if_neg (by omega), if_neg (by omega), if_neg (by omega), lj_put_1, if_neg (by omega)]; exact V.i34
  · rw [(o 97 _ (by omega) (by omega)).1, cPu_1, if_neg (by omega), if_neg (by omega), if_neg (by omega), lj_put_1, if_pos ⟨rfl, rfl⟩]
  · rw [(o 80 ce (by omega) (by omega)).2, cPu_2, if_pos ⟨rfl, rfl⟩]
  · rw [(o 94 _ (by omega) (by omega)).1, cPu_1, if_neg (by omega), if_neg (by omega), if_neg (by omega), lj_put_1, if_neg (by omega)]
  · rw [(o 81 ce (by omega) (by omega)).1, cPu_1, if_neg (by omega), if_pos ⟨rfl, rfl⟩]
  · by_cases z : ce + 1 ≤ j ∧ j < ce + 1 + G.length
    · right
      have := (cPus_v G (cPu (lj_put σ 97 (20 * p + L.length) (Int32.ofNat ce)) ce (9, (σ.1 97 (20 * p + L.length)).toInt64)) (ce + 1) (j - (ce + 1)) (by omega)).2
      rw [show ce + 1 + (j - (ce + 1)) = j by omega] at this
      exact this
    · rw [(o 81 j (by omega) (by omega)).1]
      by_cases y : j = ce
      · right; rw [y, cPu_1, if_neg (by omega), if_pos ⟨rfl, rfl⟩]
      · left; rw [cPu_1, if_neg (by omega), if_neg (by omega), if_neg (by omega), lj_put_1, if_neg (by omega)]
/-- the stacks fit where a frame waits: more values find room -/
theorem vw.rm {σ0 τ0 σ τ : lj_S} {ρ : Nat → Nat} {FP : Nat → List kF} {p : Nat} {F : kF} {L : List kF} {ms ks ce me mq : Nat} (V : vw σ0 τ0 σ τ ρ FP p F L ms ks ce me mq) (h5 : ∀ x ∈ (kY F).2.2.2.1, x ≠ 5) : ce + 120 ≤ 12500 * p + 12500 ∧ me + 130 ≤ 10000 := by
  have B := V.bd
  have nl := V.ff.1
  obtain ⟨b1, b2, b3⟩ := prt_bd V.2.1 V.2.2.2.1
  obtain ⟨_, _, _, b4, b5, b6, _⟩ := stk_bd V.st
  obtain ⟨s1, s2, s3, s4⟩ := nl.2.2.2.1
  have c5 := cn5_0 h5
  have d1 := nl.2.2.2.2.1
  have d2 := nl.2.1
  have d3 := nl.2.2.1
  constructor <;> omega
theorem dl_tk1 {σ0 τ0 σ τ : lj_S} {n np p : Nat} {r : List Nat} {FP : Nat → List kF} {ρ : Nat → Nat} {A MO LA : List Nat} (h : MB σ0 τ0 n np p r FP ρ A MO LA σ τ) {F : kF} {L : List kF} (hF : FP p = F :: L) (h0 : kS F = 0) (hs : stF σ0 τ0) {G G' : List vT} (d : dlR σ τ G G') (hw : kW F = 6) (hm : τ.1 0 130 = 0) (hn : τ.1 0 131 = 1) : doR σ0 τ0 n np p r FP A MO LA σ τ F L 0 := by
  obtain ⟨ms, ks, ce, me, mq, V⟩ := h.w hF h0
  have B := V.bd
  have dl := d.l
  obtain ⟨w1, w2, w3, w4⟩ := V.wt (by rw [hw]; decide)
  rw [hw] at w2
  obtain ⟨k1, w2⟩ : σ0.1 22 (kY F).2.1 = 17 ∧ gn σ0 τ0 (kN F - 1) ((kY F).1, (kY F).2.1 + 1, (kY F).2.2.1, 0 :: (kY F).2.2.2.1, (kY F).2.2.2.2.1, (kY F).2.2.2.2.2) := w2
  have rm := V.rm w4
  obtain ⟨σ1, e1, e2, e3, e4, e5, e6, e7⟩ := c_half h hF h0 V d.2.1 dl.2.1 (by omega)
  have e5' : σ1.1 94 (20 * p + L.length) = Int32.ofNat (kY F).2.1 := by rw [e5]; exact V.2.2.2.2.1.1.2.2.2.1
  obtain ⟨f1, f2, f3, f4, fA, fL, fK, f5⟩ := c_fq h hF h0 V hs k1 (by decide) e2 e5'
  have mk' : mkC (lj_put σ1 94 (20 * p + L.length) (Int32.ofNat ((kY F).2.1 + 1))) (20 * p + L.length) ce G.length (σ.1 97 (20 * p + L.length)) := by
    obtain ⟨a1, a2, a3, a4, a5, a6⟩ := e3
    exact ⟨by rw [lj_put_1, if_neg (by omega)]; exact a1, by rw [lj_put_1, if_neg (by omega)]; exact a2, by rw [lj_put_1, if_neg (by omega)]; exact a3, a4, a5, a6⟩
  have t1 := c_take1 mk'
  have ev : (if G.length = 0 then ((0, 0) : vT) else cv (lj_put σ1 94 (20 * p + L.length) (Int32.ofNat ((kY F).2.1 + 1))) (ce + 1)) = G.getD 0 (0, 0) := by
    rcases G with _ | ⟨g, G⟩
    · rfl
    · rw [if_neg (by simp), cv_p _ (by decide)]
      exact (e4 0 (by simp)).1
  rw [ev] at t1
  have h' := h.t129 0
  obtain ⟨ms1, ks1, ce1, me1, mq1, V1⟩ := h'.w hF h0
  have B1 := V1.bd
  have ec : ce1 = ce := (ofN_eq (by omega) (by omega)).1 (by rw [← V1.tp, ← V.tp])
  have em : me1 = me := (ofN_eq (by omega) (by omega)).1 (by rw [← V1.at.2.2.1, ← V.at.2.2.1, lj_put_1, if_neg (by omega)])
  have dm := m_dlvV (nn := 1) (V.mf hF) V.at d.2.2.1 (by omega) hm (Or.inl ⟨hn, by decide⟩) (by omega)
  obtain ⟨g1, g2⟩ := h'.pu hF h0 d.rg V1 V1.st (σ1 := lj_put (lj_put (lj_put σ1 94 (20 * p + L.length) (Int32.ofNat ((kY F).2.1 + 1))) 97 (20 * p + L.length) (σ.1 97 (20 * p + L.length))) 8 8 (Int32.ofNat ce)) (τ1 := lj_put τ 0 129 0) (by rw [ec]; exact tq_88 (tq_97 (tq_94 e2 _) _) _) (lf_rf _ _) (by simp [lj_put_1, lj_putL_1]) (c' := (kY F).2.1 + 1) (m' := (kY F).2.2.1) (n' := kN F) (w' := 0) (by simp [lj_put_1, lj_putL_1]) V1.2.2.2.2.1.2.1.2.2.2.1 V1.at.2.2.2.2.1 (gn_ok w2) V1.fl (vR_129 (d.2.2.2.2.2 0) 0) (Or.inr ⟨w1, w2⟩) (fun z => absurd rfl z) (fun j => by simp [lj_put_1]; exact e7 j)
  rw [ec, em] at g1 g2
  refine ⟨σ1, e1, ρ, _, _, ((kY F).1, (kY F).2.1 + 1, (kY F).2.2.1, 0 :: (kY F).2.2.2.1, (kY F).2.2.2.2.1, (kY F).2.2.2.2.2), go_step ?_ ?_, dl_step d.1.2.1 d.1.2.2.1 dm, g1, g2⟩
  · rw [(e2 8 46 (tqC_f (sxC_f (by omega)) (by omega))).1]; exact d.1.1
  · rw [ca_17 σ1 f1 f3 f4 fA fL fK, f2, lz_osucc, t1, bv_ok, kc_139_1051]
theorem dl_drop {σ0 τ0 σ τ : lj_S} {n np p : Nat} {r : List Nat} {FP : Nat → List kF} {ρ : Nat → Nat} {A MO LA : List Nat} (h : MB σ0 τ0 n np p r FP ρ A MO LA σ τ) {F : kF} {L : List kF} (hF : FP p = F :: L) (h0 : kS F = 0) (hs : stF σ0 τ0) {G G' : List vT} (d : dlR σ τ G G') (hw : kW F = 8) (hm : τ.1 0 130 = 0) (hn : τ.1 0 131 = 0) : doR σ0 τ0 n np p r FP A MO LA σ τ F L 0 := by
  obtain ⟨ms, ks, ce, me, mq, V⟩ := h.w hF h0
  have B := V.bd
  have dl := d.l
  obtain ⟨w1, w2, w3, w4⟩ := V.wt (by rw [hw]; decide)
  rw [hw] at w2
  obtain ⟨k1, w2⟩ : σ0.1 22 (kY F).2.1 = 19 ∧ gn σ0 τ0 (kN F - 1) ((kY F).1, (kY F).2.1 + 1, (kY F).2.2.1, (kY F).2.2.2.1, (kY F).2.2.2.2.1, (kY F).2.2.2.2.2) := w2
  have rm := V.rm w4
  obtain ⟨σ1, e1, e2, e3, e4, e5, e6, e7⟩ := c_half h hF h0 V d.2.1 dl.2.1 (by omega)
  have e5' : σ1.1 94 (20 * p + L.length) = Int32.ofNat (kY F).2.1 := by rw [e5]; exact V.2.2.2.2.1.1.2.2.2.1
  obtain ⟨f1, f2, f3, f4, fA, fL, fK, f5⟩ := c_fq h hF h0 V hs k1 (by decide) e2 e5'
  have h' := h.t129 0
  obtain ⟨ms1, ks1, ce1, me1, mq1, V1⟩ := h'.w hF h0
  have B1 := V1.bd
  have ec : ce1 = ce := (ofN_eq (by omega) (by omega)).1 (by rw [← V1.tp, ← V.tp])
  have dm := m_dlvV (nn := 0) (V.mf hF) V.at d.2.2.1 (by omega) hm (Or.inl ⟨hn, by decide⟩) (by omega)
  obtain ⟨g1, g2⟩ := h'.dn hF h0 d.rg V1 V1.st (σ' := lj_put (lj_put (lj_put σ1 94 (20 * p + L.length) (Int32.ofNat ((kY F).2.1 + 1))) 8 8 (Int32.ofNat ce)) 97 (20 * p + L.length) (σ.1 97 (20 * p + L.length))) (τ' := lj_put τ 0 129 0) (by rw [ec]; exact tq_97 (tq_88 (tq_94 e2 _) _) _) (lf_rf _ _) (by simp [lj_put_1, lj_putL_1]) (c' := (kY F).2.1 + 1) (m' := (kY F).2.2.1) (n' := kN F) (by simp [lj_put_1, lj_putL_1]) V1.2.2.2.2.1.2.1.2.2.2.1 (by rw [ec]; exact (by simp [lj_put_1, lj_putL_1])) V1.at.2.2.1 V1.at.2.2.2.2.1 V1.ff.1.2.2.2.1 V1.fl (Or.inr ⟨w1, w2⟩) (fun j => by simp [lj_put_1]; exact e7 j)
  obtain ⟨m1, m2, m3, m4, m5⟩ := e3.i
  refine ⟨σ1, e1, ρ, _, _, ((kY F).1, (kY F).2.1 + 1, (kY F).2.2.1, (kY F).2.2.2.1, (kY F).2.2.2.2.1, (kY F).2.2.2.2.2), go_step ?_ ?_, dl_step d.1.2.1 d.1.2.2.1 dm, g1, g2⟩
  · rw [(e2 8 46 (tqC_f (sxC_f (by omega)) (by omega))).1]; exact d.1.1
  · have e97 : σ1.1 97 (σ1.1 8 34).toNatClampNeg = Int32.ofNat ce := by rw [f2]; exact e3.2.2.1
    rw [ca_19 σ1 f1 f3 f4 fA fL fK, if_pos f1, if_pos (by rw [e97]; exact m3), if_pos f1, kc_139_1051, e97, f2, m4, m5, lz_osucc]
theorem dl_row {σ0 τ0 σ τ : lj_S} {n np p : Nat} {r : List Nat} {FP : Nat → List kF} {ρ : Nat → Nat} {A MO LA : List Nat} (h : MB σ0 τ0 n np p r FP ρ A MO LA σ τ) {F : kF} {L : List kF} (hF : FP p = F :: L) (h0 : kS F = 0) (hs : stF σ0 τ0) {G G' : List vT} (d : dlR σ τ G G') (hw : kW F = 7) (hm : τ.1 0 130 = 0) (hn : τ.1 0 131 = -1) : doR σ0 τ0 n np p r FP A MO LA σ τ F L 0 := by
  obtain ⟨ms, ks, ce, me, mq, V⟩ := h.w hF h0
  have B := V.bd
  have dl := d.l
  obtain ⟨w1, w2, w3, w4⟩ := V.wt (by rw [hw]; decide)
  rw [hw] at w2
  obtain ⟨k1, w2⟩ : σ0.1 22 (kY F).2.1 = 18 ∧ gn σ0 τ0 (kN F - 1) ((kY F).1, (kY F).2.1 + 1, (kY F).2.2.1, 5 :: (kY F).2.2.2.1, (kY F).2.2.2.2.1, (kY F).2.2.2.2.2) := w2
  have rm := V.rm w4
  obtain ⟨σ1, e1, e2, e3, e4, e5, e6, e7⟩ := c_half h hF h0 V d.2.1 dl.2.1 (by omega)
  have e5' : σ1.1 94 (20 * p + L.length) = Int32.ofNat (kY F).2.1 := by rw [e5]; exact V.2.2.2.2.1.1.2.2.2.1
  obtain ⟨f1, f2, f3, f4, fA, fL, fK, f5⟩ := c_fq h hF h0 V hs k1 (by decide) e2 e5'
  have mk' : mkC (lj_put σ1 94 (20 * p + L.length) (Int32.ofNat ((kY F).2.1 + 1))) (20 * p + L.length) ce G.length (σ.1 97 (20 * p + L.length)) := by
    obtain ⟨a1, a2, a3, a4, a5, a6⟩ := e3
    exact ⟨by rw [lj_put_1, if_neg (by omega)]; exact a1, by rw [lj_put_1, if_neg (by omega)]; exact a2, by rw [lj_put_1, if_neg (by omega)]; exact a3, a4, a5, a6⟩
  obtain ⟨σ2, t1, sd⟩ := c_splice mk'
  have h' := h.t129 0
  obtain ⟨ms1, ks1, ce1, me1, mq1, V1⟩ := h'.w hF h0
  have B1 := V1.bd
  have ec : ce1 = ce := (ofN_eq (by omega) (by omega)).1 (by rw [← V1.tp, ← V.tp])
  have em : me1 = me := (ofN_eq (by omega) (by omega)).1 (by rw [← V1.at.2.2.1, ← V.at.2.2.1, lj_put_1, if_neg (by omega)])
  subst ec em
  have dm := m_dlvV (nn := G'.length) (V.mf hF) V.at d.2.2.1 (by omega) hm (Or.inr ⟨hn, rfl⟩) (by omega)
  have st1 := V1.st
  obtain ⟨b1, b2, b3, _⟩ := stk_bd st1
  have fC : lf (tqC p (20 * p + L.length) ce1) σ (lj_put σ2 8 8 (Int32.ofNat (ce1 + G.length))) := tq_88 (tq_sh (tq_97 (tq_94 e2 _) _) sd (Nat.le_refl _) (by omega)) _
  have gM : lf (tqM p (48 * p + L.length) me1 mq1) (lj_put τ 0 129 0) (mPus p (lj_put τ 0 129 0) me1 (tkN G' G'.length)) := tm_pus _ (lf_rf _ _) (Nat.le_refl _) (by rw [tkN_len]; omega)
  have vr := tp_vR (tq_tp b1 fC) (tq_tpM b2 b3 gM)
  have s81 : ∀ j, (lj_put σ2 8 8 (Int32.ofNat (ce1 + G.length))).1 81 j = σ1.1 81 j := fun j => by
    rw [lj_put_1, if_neg (by omega), (sd.2 81 j (by unfold sdC; simp)).1, lj_put_1, if_neg (by omega), lj_put_1, if_neg (by omega)]
  obtain ⟨g1, g2⟩ := h'.tp hF h0 d.rg V1 b1 b2 b3 fC gM st1 (Nat.le_refl _) (Nat.le_refl _) (Nat.le_refl _) V1.fl (s' := 5 :: (kY F).2.2.2.1) (ce' := ce1 + G.length) (me' := me1 + G.length) (mq' := mq1) (fun z => by
      have e97 : (lj_put σ2 8 8 (Int32.ofNat (ce1 + G.length))).1 97 (20 * p + L.length) = σ.1 97 (20 * p + L.length) := by rw [lj_put_1, if_neg (by omega), (sd.2 97 _ (by unfold sdC; simp)).1, lj_put_1, if_pos ⟨rfl, rfl⟩]
      rw [e97]
      refine stk_p5 z dl.2.1 (fun i hi => ⟨?_, ?_⟩)
      · have v1 : cv (lj_put σ2 8 8 (Int32.ofNat (ce1 + G.length))) (ce1 + i) = G.getD i (0, 0) := by
          rw [cv_p _ (by decide), sd.1 (ce1 + i) (by omega) (by omega), cv_p _ (by decide), cv_p _ (by decide), show ce1 + i + 1 = ce1 + 1 + i by omega]
          exact (e4 i hi).1
        have v2 := mPus_v p (tkN G' G'.length) (lj_put τ 0 129 0) me1 i (by rw [tkN_len]; omega)
        rw [tkN_get _ _ _ (by omega)] at v2
        rw [v1, v2]
        exact (vR_129 (d.2.2.2.2.2 i) 0).cg vr.1 vr.2
      · rw [s81]
        by_cases y : i = 0
        · rw [y]; exact e6
        · have := (e4 (i - 1) (by omega)).2
          rw [show ce1 + 1 + (i - 1) = ce1 + i by omega] at this
          exact this) (c' := (kY F).2.1 + 1) (m' := (kY F).2.2.1) (by rw [lj_put_1, if_neg (by omega), (sd.2 94 _ (by unfold sdC; simp)).1, lj_put_1, if_neg (by omega), lj_put_1, if_pos ⟨rfl, rfl⟩]) (by rw [(mPus_o p _ _ _ 77 _ (by omega) (by omega)).1]; exact V1.2.2.2.2.1.2.1.2.2.2.1) (by simp [lj_put_1, lj_putL_1]) (by rw [mPus_63 p _ _ _ V1.at.2.2.1, tkN_len, dl.2.2]) (by rw [(mPus_o p _ _ _ 64 _ (by omega) (by omega)).1]; exact V1.at.2.2.2.2.1) (gn_ok w2) (by rw [flo_c (by decide)]; exact V1.fl) (n' := kN F) (Or.inr ⟨w1, w2⟩) (fun j => by rw [s81]; exact e7 j)
  refine ⟨σ1, e1, ρ, _, _, ((kY F).1, (kY F).2.1 + 1, (kY F).2.2.1, 5 :: (kY F).2.2.2.1, (kY F).2.2.2.2.1, (kY F).2.2.2.2.2), go_step ?_ ?_, dl_step d.1.2.1 d.1.2.2.1 dm, g1, g2⟩
  · rw [(e2 8 46 (tqC_f (sxC_f (by omega)) (by omega))).1]; exact d.1.1
  · rw [ca_18 σ1 f1 f3 f4 fA fL fK, f2, lz_osucc, t1, bv_ok, kc_139_1051]
