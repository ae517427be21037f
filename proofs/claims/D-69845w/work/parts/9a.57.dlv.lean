/-! what came of a call is delivered: both -/
theorem vw.mf {σ0 τ0 σ τ : lj_S} {ρ : Nat → Nat} {FP : Nat → List kF} {p : Nat} {F : kF} {L : List kF} {ms ks ce me mq : Nat} (V : vw σ0 τ0 σ τ ρ FP p F L ms ks ce me mq) (hF : FP p = F :: L) : mFr τ p (48 * p + L.length) := by
  have B := V.bd
  have e62 := V.1.2.2.2.2.2.2.1
  rw [hF, List.length_cons] at e62
  exact ⟨L.length, rfl, by omega, B.2.1, V.at.1, e62, V.2.2.2.2.1.2.1.1⟩
/-- rows of both side by side -/
def rwE (σ τ : lj_S) (G G' : List vT) : Prop := G.length = G'.length ∧ G.length ≤ 110 ∧ ∀ j, vR σ τ (G.getD j (0, 0)) (G'.getD j (0, 0))
/-- both are to deliver -/
def dlR (σ τ : lj_S) (G G' : List vT) : Prop := (σ.1 8 46 = 0 ∧ τ.1 0 143 = 0 ∧ τ.1 0 129 = 1 ∧ σ.1 8 45 = τ.1 0 144 ∧ σ.2 8 44 = τ.2 0 145) ∧ rsC σ G ∧ rsM τ G' ∧ rwE σ τ G G'
/-- both go on with the frame that waited -/
def doR (σ0 τ0 : lj_S) (n np p : Nat) (r : List Nat) (FP : Nat → List kF) (A MO LA : List Nat) (σ τ : lj_S) (F : kF) (L : List kF) (as : Int32) : Prop :=
  ∃ σ1, lj_R lc_P 144 [.ref 8, .int as] σ = some (.inl none, σ1) ∧ ∃ ρ' σ' τ' z, (∀ v, goC v σ1 = goC v σ') ∧ (∀ x, mRun x τ = mRun x τ') ∧ MB σ0 τ0 n np p r (fpT FP p (kAt F z (kN F) :: L)) ρ' A MO LA σ' τ' ∧ rgR σ' τ'
/-- the same, the component at once -/
def doS (σ0 τ0 : lj_S) (n np p : Nat) (r : List Nat) (FP : Nat → List kF) (A MO LA : List Nat) (σ τ : lj_S) (F : kF) (L : List kF) (as : Int32) : Prop :=
  ∃ σ1, lj_R lc_P 144 [.ref 8, .int as] σ = some (.inl none, σ1) ∧ ∃ ρ' τ' z, (∀ x, mRun x τ = mRun x τ') ∧ MB σ0 τ0 n np p r (fpT FP p (kAt F z (kN F) :: L)) ρ' A MO LA σ1 τ' ∧ rgR σ1 τ' ∧ ∀ j, σ1.1 102 j = σ.1 102 j ∧ σ1.1 103 j = σ.1 103 j
theorem cPu_w {σ : lj_S} {t : Nat} {u : vT} (j : Nat) : (cPu σ t u).1 102 j = σ.1 102 j ∧ (cPu σ t u).1 103 j = σ.1 103 j := ⟨by rw [cPu_1, if_neg (by omega), if_neg (by omega), if_neg (by omega)], by rw [cPu_1, if_neg (by omega), if_neg (by omega), if_neg (by omega)]⟩
theorem dl_step {τ τ' : lj_S} (h1 : τ.1 0 143 = 0) (h2 : τ.1 0 129 = 1) (e : lj_R lm_P 178 [.ref 0] τ = some (.inl none, τ')) (x : Int32) : mRun x τ = mRun x τ' := by
  unfold mRun
  rw [km_120_46, if_pos h1, if_neg (by rw [h2]; decide), if_pos h2, e, bv_ok]
/-- nothing to do for the model but its words -/
theorem MB.t129 {σ0 τ0 σ τ : lj_S} {n np p : Nat} {r : List Nat} {FP : Nat → List kF} {ρ : Nat → Nat} {A MO LA : List Nat} (h : MB σ0 τ0 n np p r FP ρ A MO LA σ τ) (x : Int32) : MB σ0 τ0 n np p r FP ρ A MO LA σ (lj_put τ 0 129 x) := by
  refine h.st (lf_rf _ _) (lf_put (lf_rf _ _) 0 129 _ rfl) (sG_eq (fun _ _ _ => rfl) (fun k j q => ?_)) (h.2.1.cg (fun _ _ _ => rfl) (fun k j q => ?_))
  · rw [lj_put_1, if_neg (by rintro ⟨rfl, rfl⟩; simp [vqM] at q)]
  · rw [lj_put_1, if_neg (by rintro ⟨rfl, rfl⟩; simp [sqM] at q)]
theorem dlR.rg {σ τ : lj_S} {G G' : List vT} (d : dlR σ τ G G') : rgR σ (lj_put τ 0 129 0) := by
  obtain ⟨⟨d1, d2, d3, d4, d5⟩, _⟩ := d
  exact ⟨d1, by rw [lj_put_1, if_neg (by omega)]; exact d2, by rw [lj_put_1, if_pos ⟨rfl, rfl⟩], by rw [lj_put_1, if_neg (by omega)]; exact d4, d5⟩
theorem dlR.l {σ τ : lj_S} {G G' : List vT} (d : dlR σ τ G G') : G'.length ≤ 110 ∧ G.length ≤ 110 ∧ G.length = G'.length := by
  have h1 := d.2.2.2.1
  have h2 := d.2.2.2.2.1
  omega
theorem vR_129 {σ τ : lj_S} {a b : vT} (h : vR σ τ a b) (x : Int32) : vR σ (lj_put τ 0 129 x) a b := h.cg (fun _ _ _ => rfl) (fun k j q => by rw [lj_put_1, if_neg (by rintro ⟨rfl, rfl⟩; simp [vqM] at q)])
/-- a waiting frame, what it comes to -/
theorem vw.wt {σ0 τ0 σ τ : lj_S} {ρ : Nat → Nat} {FP : Nat → List kF} {p : Nat} {F : kF} {L : List kF} {ms ks ce me mq : Nat} (V : vw σ0 τ0 σ τ ρ FP p F L ms ks ce me mq) (hw : kW F ≠ 0) : kN F ≠ 0 ∧ wtR σ0 τ0 (kY F).1 (kY F).2.1 (kY F).2.2.1 (kY F).2.2.2.1 (kY F).2.2.2.2.1 (kY F).2.2.2.2.2 (kN F - 1) (kW F) ∧ ((1 ≤ (kY F).2.1 ∧ (kY F).2.1 ≤ 14000) ∧ scl σ0 (kY F).1 ((kY F).2.1 - 1) (kY F).2.2.2.1 (kY F).2.2.2.2.1 (kY F).2.2.2.2.2) ∧ ∀ x ∈ (kY F).2.2.2.1, x ≠ 5 := by
  obtain ⟨_, _, h3, h4⟩ := V.ff
  rcases h3 with ⟨_, z⟩ | ⟨z1, z2⟩
  · exact absurd z hw
  · exact ⟨z1, z2, (h4 hw).1, (h4 hw).2⟩
/-- one value; whether it is true; whether it is not -/
theorem dl_one {σ0 τ0 σ τ : lj_S} {n np p : Nat} {r : List Nat} {FP : Nat → List kF} {ρ : Nat → Nat} {A MO LA : List Nat} (h : MB σ0 τ0 n np p r FP ρ A MO LA σ τ) {F : kF} {L : List kF} (hF : FP p = F :: L) (h0 : kS F = 0) {G G' : List vT} (d : dlR σ τ G G') (hw : kW F = 1) (hm : τ.1 0 130 = 0) (hn : τ.1 0 131 = 1) : doS σ0 τ0 n np p r FP A MO LA σ τ F L 1 := by
  obtain ⟨ms, ks, ce, me, mq, V⟩ := h.w hF h0
  have B := V.bd
  obtain ⟨w1, w2, w3, w4⟩ := V.wt (by rw [hw]; decide)
  rw [hw] at w2
  have w2 : gn σ0 τ0 (kN F - 1) ((kY F).1, (kY F).2.1, (kY F).2.2.1, 0 :: (kY F).2.2.2.1, (kY F).2.2.2.2.1, (kY F).2.2.2.2.2) := w2
  have h' := h.t129 0
  obtain ⟨ms1, ks1, ce1, me1, mq1, V1⟩ := h'.w hF h0
  have B1 := V1.bd
  have ec : ce1 = ce := (ofN_eq (by omega) (by omega)).1 (by rw [← V1.tp, ← V.tp])
  have em : me1 = me := (ofN_eq (by omega) (by omega)).1 (by rw [← V1.at.2.2.1, ← V.at.2.2.1, lj_put_1, if_neg (by omega)])
  have dm := m_dlvV (nn := 1) (V.mf hF) V.at d.2.2.1 (by have := d.l; omega) hm (Or.inl ⟨hn, by decide⟩) (by omega)
  obtain ⟨g1, g2⟩ := h'.pu hF h0 d.rg V1 V1.st (lf_rf _ _) (lf_rf _ _) rfl (c' := (kY F).2.1) (m' := (kY F).2.2.1) (n' := kN F) (w' := 0) V1.2.2.2.2.1.1.2.2.2.1 V1.2.2.2.2.1.2.1.2.2.2.1 V1.at.2.2.2.2.1 (gn_ok w2) V1.fl (vR_129 (d.2.2.2.2.2 0) 0) (Or.inr ⟨w1, w2⟩) (fun z => absurd rfl z)
  rw [ec, em] at g1 g2
  exact ⟨_, c_d1 d.2.1 V.tp (by omega), ρ, _, ((kY F).1, (kY F).2.1, (kY F).2.2.1, 0 :: (kY F).2.2.2.1, (kY F).2.2.2.2.1, (kY F).2.2.2.2.2), dl_step d.1.2.1 d.1.2.2.1 dm, g1, g2, fun j => cPu_w j⟩
theorem dl_tru {σ0 τ0 σ τ : lj_S} {n np p : Nat} {r : List Nat} {FP : Nat → List kF} {ρ : Nat → Nat} {A MO LA : List Nat} (h : MB σ0 τ0 n np p r FP ρ A MO LA σ τ) {F : kF} {L : List kF} (hF : FP p = F :: L) (h0 : kS F = 0) {G G' : List vT} (d : dlR σ τ G G') (hw : kW F = 2) (hm : τ.1 0 130 = 1) : doS σ0 τ0 n np p r FP A MO LA σ τ F L 2 := by
  obtain ⟨ms, ks, ce, me, mq, V⟩ := h.w hF h0
  have B := V.bd
  obtain ⟨w1, w2, w3, w4⟩ := V.wt (by rw [hw]; decide)
  rw [hw] at w2
  have w2 : gn σ0 τ0 (kN F - 1) ((kY F).1, (kY F).2.1, (kY F).2.2.1, 0 :: (kY F).2.2.2.1, (kY F).2.2.2.2.1, (kY F).2.2.2.2.2) := w2
  have h' := h.t129 0
  obtain ⟨ms1, ks1, ce1, me1, mq1, V1⟩ := h'.w hF h0
  have B1 := V1.bd
  have ec : ce1 = ce := (ofN_eq (by omega) (by omega)).1 (by rw [← V1.tp, ← V.tp])
  have em : me1 = me := (ofN_eq (by omega) (by omega)).1 (by rw [← V1.at.2.2.1, ← V.at.2.2.1, lj_put_1, if_neg (by omega)])
  have dm := m_dlvT (V.mf hF) V.at d.2.2.1 (Or.inl hm) (by omega)
  rw [decide_eq_true hm, tru_R (d.2.2.2.2.2 0)] at dm
  obtain ⟨g1, g2⟩ := h'.pu hF h0 d.rg V1 V1.st (lf_rf _ _) (lf_rf _ _) rfl (c' := (kY F).2.1) (m' := (kY F).2.2.1) (n' := kN F) (w' := 0) V1.2.2.2.2.1.1.2.2.2.1 V1.2.2.2.2.1.2.1.2.2.2.1 V1.at.2.2.2.2.1 (gn_ok w2) V1.fl (u := (1, if tru (G.getD 0 (0, 0)) = true then 1 else 0)) (w := (1, if tru (G.getD 0 (0, 0)) = true then 1 else 0)) (vR_truth _ _ (by split <;> simp)) (Or.inr ⟨w1, w2⟩) (fun z => absurd rfl z)
  rw [ec, em] at g1 g2
  exact ⟨_, c_d2 d.2.1 V.tp (by omega), ρ, _, ((kY F).1, (kY F).2.1, (kY F).2.2.1, 0 :: (kY F).2.2.2.1, (kY F).2.2.2.2.1, (kY F).2.2.2.2.2), dl_step d.1.2.1 d.1.2.2.1 dm, g1, g2, fun j => cPu_w j⟩
theorem dl_not {σ0 τ0 σ τ : lj_S} {n np p : Nat} {r : List Nat} {FP : Nat → List kF} {ρ : Nat → Nat} {A MO LA : List Nat} (h : MB σ0 τ0 n np p r FP ρ A MO LA σ τ) {F : kF} {L : List kF} (hF : FP p = F :: L) (h0 : kS F = 0) {G G' : List vT} (d : dlR σ τ G G') (hw : kW F = 3) (hm : τ.1 0 130 = 2) : doS σ0 τ0 n np p r FP A MO LA σ τ F L 3 := by
  obtain ⟨ms, ks, ce, me, mq, V⟩ := h.w hF h0
  have B := V.bd
  obtain ⟨w1, w2, w3, w4⟩ := V.wt (by rw [hw]; decide)
  rw [hw] at w2
  have w2 : gn σ0 τ0 (kN F - 1) ((kY F).1, (kY F).2.1, (kY F).2.2.1, 0 :: (kY F).2.2.2.1, (kY F).2.2.2.2.1, (kY F).2.2.2.2.2) := w2
  have h' := h.t129 0
  obtain ⟨ms1, ks1, ce1, me1, mq1, V1⟩ := h'.w hF h0
  have B1 := V1.bd
  have ec : ce1 = ce := (ofN_eq (by omega) (by omega)).1 (by rw [← V1.tp, ← V.tp])
  have em : me1 = me := (ofN_eq (by omega) (by omega)).1 (by rw [← V1.at.2.2.1, ← V.at.2.2.1, lj_put_1, if_neg (by omega)])
  have dm := m_dlvT (V.mf hF) V.at d.2.2.1 (Or.inr hm) (by omega)
  have e2 : decide (τ.1 0 130 = 1) = false := decide_eq_false (by rw [hm]; decide)
  rw [e2, tru_R (d.2.2.2.2.2 0)] at dm
  have eq : (if tru (G.getD 0 (0, 0)) = false then (1 : Int64) else 0) = if tru (G.getD 0 (0, 0)) = true then 0 else 1 := by cases tru (G.getD 0 (0, 0)) <;> rfl
  rw [eq] at dm
  obtain ⟨g1, g2⟩ := h'.pu hF h0 d.rg V1 V1.st (lf_rf _ _) (lf_rf _ _) rfl (c' := (kY F).2.1) (m' := (kY F).2.2.1) (n' := kN F) (w' := 0) V1.2.2.2.2.1.1.2.2.2.1 V1.2.2.2.2.1.2.1.2.2.2.1 V1.at.2.2.2.2.1 (gn_ok w2) V1.fl (u := (1, if tru (G.getD 0 (0, 0)) = true then 0 else 1)) (w := (1, if tru (G.getD 0 (0, 0)) = true then 0 else 1)) (vR_truth _ _ (by split <;> simp)) (Or.inr ⟨w1, w2⟩) (fun z => absurd rfl z)
  rw [ec, em] at g1 g2
  exact ⟨_, c_d3 d.2.1 V.tp (by omega), ρ, _, ((kY F).1, (kY F).2.1, (kY F).2.2.1, 0 :: (kY F).2.2.2.1, (kY F).2.2.2.2.1, (kY F).2.2.2.2.2), dl_step d.1.2.1 d.1.2.2.1 dm, g1, g2, fun j => cPu_w j⟩
theorem dl_nil {σ0 τ0 σ τ : lj_S} {n np p : Nat} {r : List Nat} {FP : Nat → List kF} {ρ : Nat → Nat} {A MO LA : List Nat} (h : MB σ0 τ0 n np p r FP ρ A MO LA σ τ) {F : kF} {L : List kF} (hF : FP p = F :: L) (h0 : kS F = 0) {G G' : List vT} (d : dlR σ τ G G') (hw : kW F = 4) (hm : τ.1 0 130 = 0) (hn : τ.1 0 131 = 0) : doS σ0 τ0 n np p r FP A MO LA σ τ F L 4 := by
  obtain ⟨ms, ks, ce, me, mq, V⟩ := h.w hF h0
  have B := V.bd
  obtain ⟨w1, w2, w3, w4⟩ := V.wt (by rw [hw]; decide)
  rw [hw] at w2
  have w2 : gn σ0 τ0 (kN F - 1) ((kY F).1, (kY F).2.1, (kY F).2.2.1, (kY F).2.2.2.1, (kY F).2.2.2.2.1, (kY F).2.2.2.2.2) := w2
  have h' := h.t129 0
  obtain ⟨ms1, ks1, ce1, me1, mq1, V1⟩ := h'.w hF h0
  have dm := m_dlvV (nn := 0) (V.mf hF) V.at d.2.2.1 (by have := d.l; omega) hm (Or.inl ⟨hn, by decide⟩) (by omega)
  obtain ⟨g1, g2⟩ := h'.dn hF h0 d.rg V1 V1.st (lf_rf _ _) (lf_rf _ _) rfl (c' := (kY F).2.1) (m' := (kY F).2.2.1) (n' := kN F) V1.2.2.2.2.1.1.2.2.2.1 V1.2.2.2.2.1.2.1.2.2.2.1 V1.tp V1.at.2.2.1 V1.at.2.2.2.2.1 (gn_ok w2) V1.fl (Or.inr ⟨w1, w2⟩)
  exact ⟨_, c_d4 σ, ρ, _, ((kY F).1, (kY F).2.1, (kY F).2.2.1, (kY F).2.2.2.1, (kY F).2.2.2.2.1, (kY F).2.2.2.2.2), dl_step d.1.2.1 d.1.2.2.1 dm, g1, g2, fun _ => ⟨rfl, rfl⟩⟩
