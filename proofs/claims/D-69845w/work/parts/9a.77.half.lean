/-! half-way states go on -/
theorem trR.pre {σ0 τ0 : lj_S} {n np p : Nat} {r : List Nat} {FP : Nat → List kF} {ρ : Nat → Nat} {A MO LA : List Nat} {σ τ σ1 τ1 : lj_S} (h : trR σ0 τ0 n np p r FP ρ A MO LA σ1 τ1) (g : ∀ v, goC v σ = goC v σ1) (m : ∀ x, mRun x τ = mRun x τ1) : trR σ0 τ0 n np p r FP ρ A MO LA σ τ := by
  obtain ⟨σ2, σ', τ', h1, h2, h3, h4, h5⟩ := h
  exact ⟨σ2, σ', τ', fun v => (g v).trans (h1 v), h2, h3, fun x => (m x).trans (h4 x), h5⟩
theorem act_24 {σ0 τ0 σ τ : lj_S} {n np p : Nat} {r : List Nat} {FP : Nat → List kF} {ρ : Nat → Nat} {A MO LA : List Nat} (h : MB σ0 τ0 n np p r FP ρ A MO LA σ τ) {F : kF} {L : List kF} (hF : FP p = F :: L) (h0 : kS F = 0) (rg : rgR σ τ) (hs : stF σ0 τ0) {Z : List pT} (hk : insK σ0 τ0 (kY F).1 (kY F).2.1 (kY F).2.2.1 (kY F).2.2.2.1 (kY F).2.2.2.2.1 (kY F).2.2.2.2.2 Z 24) {n' : Nat} (hn : ∀ z ∈ Z, gn σ0 τ0 n' z) : oaR σ0 τ0 n np p r FP ρ A MO LA σ τ F L n' Z := by
  obtain ⟨s', hsh, k1, k2, k3, k4, k5, ⟨i, hi, k6, k7⟩, rfl⟩ := hk
  obtain ⟨ms, ks, ce, me, mq, V⟩ := h.w hF h0
  have B := V.bd
  have gz := hn _ List.mem_cons_self
  have n5 : ∀ x ∈ (kY F).2.2.2.1, x ≠ 5 := by
    rw [hsh]
    intro x hx
    rcases List.mem_cons.1 hx with e | e
    · rw [e]; decide
    · rcases List.mem_cons.1 e with e | e
      · rw [e]; decide
      · exact (gn_ok gz).2.2.2 x e
  have rm := V.rm n5
  have kd := V.ff.1.2.2.2.2.1
  obtain ⟨σ1, hf, go1⟩ := x_rest h hF h0 rg V hs k1 (by omega)
  obtain ⟨h1, rg1⟩ := h.ft hF h0 rg V true true
  have h1 : MB σ0 τ0 n np p r (fpT FP p (kTo F ((kY F).2.1 + 1) ((kY F).2.2.1 + 1) (kY F).2.2.2.1 (kY F).2.2.2.2.1 (kY F).2.2.2.2.2 0 0 :: L)) ρ A MO LA (lj_put σ 94 (20 * p + L.length) (Int32.ofNat ((kY F).2.1 + 1))) (lj_put τ 77 (48 * p + L.length) (Int32.ofNat ((kY F).2.2.1 + 1))) := h1
  have rg1 : rgR (lj_put σ 94 (20 * p + L.length) (Int32.ofNat ((kY F).2.1 + 1))) (lj_put τ 77 (48 * p + L.length) (Int32.ofNat ((kY F).2.2.1 + 1))) := rg1
  have fo := fpT_o FP p (kTo F ((kY F).2.1 + 1) ((kY F).2.2.1 + 1) (kY F).2.2.2.1 (kY F).2.2.2.2.1 (kY F).2.2.2.2.2 0 0 :: L)
  obtain ⟨ms1, ks1, ce1, me1, mq1, V1⟩ := h1.w fo rfl
  have B1 := V1.bd
  have ec : ce1 = ce := (ofN_eq (by omega) (by omega)).1 (by rw [← V1.tp, ← V.tp, lj_put_1, if_neg (by omega)])
  have em : me1 = me := (ofN_eq (by omega) (by omega)).1 (by rw [← V1.at.2.2.1, ← V.at.2.2.1, lj_put_1, if_neg (by omega)])
  subst ec em
  have kl := rsK_len σ (kC F) (kD F)
  have mr := m_rest h hF h0 V (W := τ0.1 21 (kY F).2.2.1) (nn := kD F) (Or.inr ⟨k4, rfl⟩) (by omega) (Int32.ofNat ((kY F).2.2.1 + 1))
  have mst := run_step rg.2.1 rg.2.2.1 (m_hi h hF h0 V hs k2 (by decide) (fun z1 z2 => by rw [mz_30 _ z1 z2, mr, bv_ok, km_153_483]))
  have res := hf_set h1 fo rfl rg1 V1 hs (G' := tkN (rsN τ p ms (kD F)) (kD F)) (i := i) (s' := s') hf hsh hi k3 k6 k5 k7 gz (by rw [kl, tkN_len]) (by rw [kl]; omega) (fun i hi => by
    rw [kl] at hi
    rw [tkN_get _ _ _ hi]
    exact vR_tq (p := p) (i := (20 * p + L.length)) (lo := ce1) (p' := p) (i' := (48 * p + L.length)) (ml := me1) (kl := mq) (tq_94 (lf_rf _ _) _) (tm_77 (lf_rf _ _) _) (rs_vR V i)) (by rw [kl]; omega) (by rw [kl]; omega)
  unfold hoR at res
  rw [fpT_2] at res
  rcases res with ⟨σ', τ', g1, g2, g3, g4⟩ | ⟨F', z, w⟩
  · exact Or.inl ⟨σ', τ', _, List.mem_cons_self, fun v => (go1 v).trans (g1 v), fun x => (mst x).trans (g2 x), g3, g4⟩
  · refine Or.inr ⟨F', z, ?_⟩
    rw [fpT_2] at w
    exact w.pre go1 mst
/-- half-way, then all is dropped -/
theorem hf_drop {σ0 τ0 σ τ : lj_S} {n np p : Nat} {r : List Nat} {FP : Nat → List kF} {ρ : Nat → Nat} {A MO LA : List Nat} (h : MB σ0 τ0 n np p r FP ρ A MO LA σ τ) {F : kF} {L : List kF} (hF : FP p = F :: L) (h0 : kS F = 0) (rg : rgR σ τ) {ms ks ce me mq : Nat} (V : vw σ0 τ0 σ τ ρ FP p F L ms ks ce me mq) (hs : stF σ0 τ0) {G : List vT} {σ1 : lj_S} (hf : hfw σ σ1 p (20 * p + L.length) ce G) (k1 : σ0.1 22 (kY F).2.1 = 19) {nn : Nat} (w2 : gn σ0 τ0 nn ((kY F).1, (kY F).2.1 + 1, (kY F).2.2.1, (kY F).2.2.2.1, (kY F).2.2.2.2.1, (kY F).2.2.2.2.2)) : ∃ σ', (∀ v, goC v σ1 = goC v σ') ∧ MB σ0 τ0 n np p r (fpT FP p (kAt F ((kY F).1, (kY F).2.1 + 1, (kY F).2.2.1, (kY F).2.2.2.1, (kY F).2.2.2.2.1, (kY F).2.2.2.2.2) (nn + 1) :: L)) ρ A MO LA σ' τ ∧ rgR σ' τ := by
  have B := V.bd
  obtain ⟨e2, e3, e4, e5, e6, e7⟩ := hf
  have e5' : σ1.1 94 (20 * p + L.length) = Int32.ofNat (kY F).2.1 := by rw [e5]; exact V.2.2.2.2.1.1.2.2.2.1
  obtain ⟨f1, f2, f3, f4, fA, fL, fK, f5⟩ := c_fq h hF h0 V hs k1 (by decide) e2 e5'
  obtain ⟨g1, g2⟩ := h.dn hF h0 rg V V.st (σ' := lj_put (lj_put (lj_put σ1 94 (20 * p + L.length) (Int32.ofNat ((kY F).2.1 + 1))) 8 8 (Int32.ofNat ce)) 97 (20 * p + L.length) (σ.1 97 (20 * p + L.length))) (τ' := τ) (tq_97 (tq_88 (tq_94 e2 _) _) _) (lf_rf _ _) (by simp [lj_put_1, lj_putL_1]) (c' := (kY F).2.1 + 1) (m' := (kY F).2.2.1) (n' := nn + 1) (by simp [lj_put_1, lj_putL_1]) V.2.2.2.2.1.2.1.2.2.2.1 (by simp [lj_put_1, lj_putL_1]) V.at.2.2.1 V.at.2.2.2.2.1 V.ff.1.2.2.2.1 V.fl (Or.inr ⟨Nat.succ_ne_zero _, w2⟩) (fun j => by simp [lj_put_1]; exact e7 j)
  obtain ⟨m1, m2, m3, m4, m5⟩ := e3.i
  refine ⟨_, go_step ?_ ?_, g1, g2⟩
  · rw [(e2 8 46 (tqC_f (sxC_f (by omega)) (by omega))).1]; exact rg.1
  · have e97 : σ1.1 97 (σ1.1 8 34).toNatClampNeg = Int32.ofNat ce := by rw [f2]; exact e3.2.2.1
    rw [ca_19 σ1 f1 f3 f4 fA fL fK, if_pos f1, if_pos (by rw [e97]; exact m3), if_pos f1, kc_139_1051, e97, f2, m4, m5, lz_osucc]
/-- what a half-way state comes to -/
def hoX (σ0 τ0 : lj_S) (n np p : Nat) (r : List Nat) (FP : Nat → List kF) (A MO LA : List Nat) (σ τ : lj_S) (F : kF) (L : List kF) : Prop :=
  (∃ ρ' σ' τ' z, (∀ v, goC v σ = goC v σ') ∧ (∀ x, mRun x τ = mRun x τ') ∧ MB σ0 τ0 n np p r (fpT FP p (kAt F z (kN F) :: L)) ρ' A MO LA σ' τ' ∧ rgR σ' τ') ∨ ∃ ρ' F', kS F' = 0 ∧ trR σ0 τ0 n np p r (fpT FP p (F' :: L)) ρ' A MO LA σ τ
theorem hw_6789 {σ0 τ0 σ τ : lj_S} {n np p : Nat} {r : List Nat} {FP : Nat → List kF} {ρ : Nat → Nat} {A MO LA : List Nat} (h : MB σ0 τ0 n np p r FP ρ A MO LA σ τ) {F : kF} {L : List kF} (hF : FP p = F :: L) (h0 : kS F = 0) (hs : stF σ0 τ0) {ms ks ce me mq : Nat} (V : vw σ0 τ0 σ τ ρ FP p F L ms ks ce me mq) {G G' : List vT} (d : dlR σ τ G G') (hw : kW F = 6 ∨ kW F = 7 ∨ kW F = 8 ∨ kW F = 9) (hm : τ.1 0 130 = 0) (hn : τ.1 0 131 = waN σ0 (kY F).2.1 (kW F)) : hoX σ0 τ0 n np p r FP A MO LA (hfS σ (20 * p + L.length) ce G) τ F L := by
  have B := V.bd
  have dl := d.l
  obtain ⟨w1, w2, w3, w4⟩ := V.wt (by omega)
  have rm := V.rm w4
  have h' := h.t129 0
  have rg := d.rg
  obtain ⟨ms1, ks1, ce1, me1, mq1, V1⟩ := h'.w hF h0
  have B1 := V1.bd
  have ec : ce1 = ce := (ofN_eq (by omega) (by omega)).1 (by rw [← V1.tp, ← V.tp])
  have em : me1 = me := (ofN_eq (by omega) (by omega)).1 (by rw [← V1.at.2.2.1, ← V.at.2.2.1, lj_put_1, if_neg (by omega)])
  subst ec em
  have hf := hfw_mk (σ := σ) (p := p) (i := (20 * p + L.length)) (ce := ce1) (G := G) V.i34 (by omega) (by omega) (by omega)
  have eN : kN F - 1 + 1 = kN F := by omega
  have vv : ∀ i, vR σ (lj_put τ 0 129 0) (G.getD i (0, 0)) (G'.getD i (0, 0)) := fun i => vR_129 (d.2.2.2.2.2 i) 0
  rcases hw with hw | hw | hw | hw
  · rw [hw] at w2 hn
    obtain ⟨k1, w2⟩ : σ0.1 22 (kY F).2.1 = 17 ∧ gn σ0 τ0 (kN F - 1) ((kY F).1, (kY F).2.1 + 1, (kY F).2.2.1, 0 :: (kY F).2.2.2.1, (kY F).2.2.2.2.1, (kY F).2.2.2.2.2) := w2
    have hn : τ.1 0 131 = 1 := hn
    obtain ⟨σ', g1, g2, g3⟩ := hf_tk1 h' hF h0 rg V1 hs hf k1 w2 (vv 0)
    rw [eN] at g2
    have dm := m_dlvV (nn := 1) (V.mf hF) V.at d.2.2.1 (by omega) hm (Or.inl ⟨hn, by decide⟩) (by omega)
    exact Or.inl ⟨ρ, σ', _, _, g1, dl_step d.1.2.1 d.1.2.2.1 dm, g2, g3⟩
  · rw [hw] at w2 hn
    obtain ⟨k1, w2⟩ : σ0.1 22 (kY F).2.1 = 18 ∧ gn σ0 τ0 (kN F - 1) ((kY F).1, (kY F).2.1 + 1, (kY F).2.2.1, 5 :: (kY F).2.2.2.1, (kY F).2.2.2.2.1, (kY F).2.2.2.2.2) := w2
    have hn : τ.1 0 131 = -1 := hn
    obtain ⟨σ', g1, g2, g3⟩ := hf_row h' hF h0 rg V1 hs (G' := tkN G' G'.length) hf k1 w2 (by rw [tkN_len]; exact dl.2.2) dl.2.1 (fun i hi => by rw [tkN_get _ _ _ (by omega)]; exact vv i) (by omega) (by omega)
    rw [eN] at g2
    have dm := m_dlvV (nn := G'.length) (V.mf hF) V.at d.2.2.1 (by omega) hm (Or.inr ⟨hn, rfl⟩) (by omega)
    exact Or.inl ⟨ρ, σ', _, _, g1, dl_step d.1.2.1 d.1.2.2.1 dm, g2, g3⟩
  · rw [hw] at w2 hn
    obtain ⟨k1, w2⟩ : σ0.1 22 (kY F).2.1 = 19 ∧ gn σ0 τ0 (kN F - 1) ((kY F).1, (kY F).2.1 + 1, (kY F).2.2.1, (kY F).2.2.2.1, (kY F).2.2.2.2.1, (kY F).2.2.2.2.2) := w2
    have hn : τ.1 0 131 = 0 := hn
    obtain ⟨σ', g1, g2, g3⟩ := hf_drop h' hF h0 rg V1 hs hf k1 w2
    rw [eN] at g2
    have dm := m_dlvV (nn := 0) (V.mf hF) V.at d.2.2.1 (by omega) hm (Or.inl ⟨hn, by decide⟩) (by omega)
    exact Or.inl ⟨ρ, σ', _, _, g1, dl_step d.1.2.1 d.1.2.2.1 dm, g2, g3⟩
  · rw [hw] at w2 hn
    obtain ⟨s', i, hsh, hi, k1, k1', k2, k2', w2⟩ : ∃ (s' : List Nat) (i : Nat), (kY F).2.2.2.1 = 2 :: 8 :: s' ∧ i < 60 ∧ σ0.1 22 (kY F).2.1 = 25 ∧ σ0.1 23 (kY F).2.1 = Int32.ofNat i ∧ τ0.1 20 (kY F).2.2.1 = 29 ∧ τ0.1 21 (kY F).2.2.1 = Int32.ofNat i ∧ gn σ0 τ0 (kN F - 1) ((kY F).1, (kY F).2.1 + 1, (kY F).2.2.1 + 1, 8 :: s', (kY F).2.2.2.2.1, (kY F).2.2.2.2.2) := w2
    have hn : τ.1 0 131 = -1 := hn
    have dm := m_dlvV (nn := G'.length) (V.mf hF) V.at d.2.2.1 (by omega) hm (Or.inr ⟨hn, rfl⟩) (by omega)
    have mst := dl_step d.1.2.1 d.1.2.2.1 dm
    have res := hf_set h' hF h0 rg V1 hs (G' := tkN G' G'.length) (i := i) (s' := s') hf hsh hi k1 k1' k2 k2' w2 (by rw [tkN_len]; exact dl.2.2) dl.2.1 (fun i hi => by rw [tkN_get _ _ _ (by omega)]; exact vv i) (by omega) (by omega)
    rw [eN] at res
    rcases res with ⟨σ', τ', g1, g2, g3, g4⟩ | ⟨F', z, w⟩
    · exact Or.inl ⟨ρ, σ', τ', _, g1, fun x => (mst x).trans (g2 x), g3, g4⟩
    · exact Or.inr ⟨ρ, F', z, w.pre (fun _ => rfl) mst⟩
