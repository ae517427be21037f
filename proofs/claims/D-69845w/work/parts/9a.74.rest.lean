/-! the rest of what was given: one value, all -/
/-- the component lays the rest behind a mark -/
theorem x_rest {σ0 τ0 σ τ : lj_S} {n np p : Nat} {r : List Nat} {FP : Nat → List kF} {ρ : Nat → Nat} {A MO LA : List Nat} (h : MB σ0 τ0 n np p r FP ρ A MO LA σ τ) {F : kF} {L : List kF} (hF : FP p = F :: L) (h0 : kS F = 0) (rg : rgR σ τ) {ms ks ce me mq : Nat} (V : vw σ0 τ0 σ τ ρ FP p F L ms ks ce me mq) (hs : stF σ0 τ0) (k1 : σ0.1 22 (kY F).2.1 = 21) (hcb : ce + 1 + kD F < 12500 * p + 12500) : ∃ σ1, hfw (lj_put σ 94 (20 * p + L.length) (Int32.ofNat ((kY F).2.1 + 1))) σ1 p (20 * p + L.length) ce (rsK σ (kC F) (kD F)) ∧ ∀ v, goC v σ = goC v σ1 := by
  have B := V.bd
  obtain ⟨c1, c2, c3, c4, cA, cL, cK, c5⟩ := c_ft h hF h0 hs k1 (by decide)
  have h35 : σ.1 8 35 = Int32.ofNat (kB F) := by
    have := h.2.2.2.2.2.2.2.2.1
    rw [hF] at this
    exact this.2 h0
  have h95 : σ.1 95 (20 * p + L.length) = Int32.ofNat (kC F) := V.2.2.1.1.1
  have i34 : (lj_put σ 94 (20 * p + L.length) (Int32.ofNat ((kY F).2.1 + 1))).1 8 34 = Int32.ofNat (20 * p + L.length) := by rw [lj_put_1, if_neg (by omega)]; exact V.i34
  have pm := c_pushMark (σ := lj_put σ 94 (20 * p + L.length) (Int32.ofNat ((kY F).2.1 + 1))) (t := ce) (i := (20 * p + L.length)) (by rw [lj_put_1, if_neg (by omega)]; exact V.tp) (by omega) i34 (by omega)
  obtain ⟨σ2, hs2⟩ : ∃ σ2, σ2 = cPu (lj_put (lj_put σ 94 (20 * p + L.length) (Int32.ofNat ((kY F).2.1 + 1))) 97 (20 * p + L.length) (Int32.ofNat ce)) ce (9, ((lj_put σ 94 (20 * p + L.length) (Int32.ofNat ((kY F).2.1 + 1))).1 97 (20 * p + L.length)).toInt64) := ⟨_, rfl⟩
  rw [← hs2] at pm
  have o2 : ∀ k j, ¬ (k = 8 ∧ j = 8) → (k < 79 ∨ 81 < k ∨ j ≠ ce) → ¬ ((k = 97 ∨ k = 94) ∧ j = (20 * p + L.length)) → σ2.1 k j = σ.1 k j ∧ σ2.2 k j = σ.2 k j := fun k j z1 z2 z3 => by
    rw [hs2]
    refine ⟨?_, ?_⟩
    · rw [cPu_1, if_neg (by omega), if_neg (by omega), if_neg (by omega), lj_put_1, if_neg (by omega), lj_put_1, if_neg (by omega)]
    · rw [cPu_2, if_neg (by omega)]
      rfl
  have s34 : σ2.1 8 34 = Int32.ofNat (20 * p + L.length) := by rw [(o2 8 34 (by omega) (by omega) (by omega)).1]; exact V.i34
  have i2 : lj_in (σ2.1 8 34) 520 := by rw [s34]; exact ofN_in (by omega) (by omega)
  have n2 : (σ2.1 8 34).toNatClampNeg = (20 * p + L.length) := by rw [s34]; exact lz_onat (by omega)
  have s95 : σ2.1 95 (σ2.1 8 34).toNatClampNeg = Int32.ofNat (kC F + 0) := by rw [n2, (o2 95 _ (by omega) (by omega) (by omega)).1]; exact h95
  have rl := rsK_len σ (kC F) (kD F)
  have lo := fun x1 x2 x3 => c_rst x1 x2 x3 (R := rsK σ (kC F) (kD F)) (kc := kC F) (kD F) 0 (ce + 1) σ2 (by rw [rl]; omega) (fun j hj => by
    rw [rl] at hj
    rw [rsK_get _ _ _ _ hj]
    unfold cv
    rw [(o2 79 _ (by omega) (by omega) (by omega)).1, (o2 80 _ (by omega) (by omega) (by omega)).2]) (by rw [hs2, cPu_1, if_pos ⟨rfl, rfl⟩]) (by rw [(o2 8 35 (by omega) (by omega) (by omega)).1, rl]; exact h35) (by rw [rl]; omega) (by omega)
  have hh := hfw_mk (σ := lj_put σ 94 (20 * p + L.length) (Int32.ofNat ((kY F).2.1 + 1))) (p := p) (i := (20 * p + L.length)) (ce := ce) (G := rsK σ (kC F) (kD F)) i34 (by omega) (by omega) (by rw [rl]; omega)
  refine ⟨_, hh, go_step rg.1 ?_⟩
  rw [ca_21 σ c1 c3 c4 cA cL cK, c2, lz_osucc, pm, bv_ok, if_pos i2, s95, lo]
  show _ = some (Sum.inl _, cPus _ _ _)
  rw [hs2]
  rfl
/-- the model's rest -/
theorem m_rest {σ0 τ0 σ τ : lj_S} {n np p : Nat} {r : List Nat} {FP : Nat → List kF} {ρ : Nat → Nat} {A MO LA : List Nat} (h : MB σ0 τ0 n np p r FP ρ A MO LA σ τ) {F : kF} {L : List kF} (hF : FP p = F :: L) (h0 : kS F = 0) {ms ks ce me mq : Nat} (V : vw σ0 τ0 σ τ ρ FP p F L ms ks ce me mq) {W : Int32} {nn : Nat} (hA : W = Int32.ofNat nn ∧ nn < 200 ∨ W = -1 ∧ nn = kD F) (hb : me + nn < 10000) (v : Int32) : lj_R lm_P 156 [.ref 0, .int (Int32.ofNat (48 * p + L.length)), .int W] (lj_put τ 77 (48 * p + L.length) v) = some (.inl none, mPus p (lj_put τ 77 (48 * p + L.length) v) me (tkN (rsN τ p ms (kD F)) nn)) := by
  have B := V.bd
  have nl := V.ff.1.2.2.2.2.1
  have at1 := mAt_p (i := (48 * p + L.length)) (v := v) V.at
  have rl := rsN_len τ p ms (kD F)
  have m82 : τ.1 82 (48 * p + L.length) = Int32.ofNat (kD F) := V.2.2.2.2.1.2.1.2.2.2.2
  have ii : lj_in (Int32.ofNat (48 * p + L.length)) 1248 := ofN_in (by omega) (by omega)
  have ni : (Int32.ofNat (48 * p + L.length)).toNatClampNeg = (48 * p + L.length) := lz_onat (by omega)
  have lo := fun x5 => m_rst (p := p) (mq := mq) (nn := nn) (ms := ms) (i := (48 * p + L.length)) W (R := rsN τ p ms (kD F)) (by omega) (by omega) (by rw [rl]; omega) nn 0 me (lj_put τ 77 (48 * p + L.length) v) x5 (Nat.zero_add _) at1 (by rw [lj_put_1, if_neg (by omega), rl]; exact m82) (by rw [lj_put_1, if_neg (by omega)]; exact V.2.2.1.1.2.1) (by rw [rl]; omega) (fun j hj => by
    rw [rl] at hj
    rw [rsN_get _ _ _ _ _ hj, mv_p _ (by decide)]) hb
  simp only [Nat.zero_add] at lo
  have lo : ∀ x5, lj_D lm_P lm_M156 18 [.ref 0, .int (Int32.ofNat (48 * p + L.length)), .int W, .int (Int32.ofNat nn), .int 0, x5] [] (lj_put τ 77 (48 * p + L.length) v) = _ := lo
  rw [rm_156, km_156_0]
  rcases hA with ⟨w1, w2⟩ | ⟨w1, w2⟩
  · have ge : (0 : Int32) ≤ W := by rw [w1]; exact (ofN_le (a := 0) (b := nn) (by omega) (by omega)).2 (by omega)
    rw [if_pos ge, km_156_14, w1]
    rw [w1] at lo
    rw [lo]
    rfl
  · have e82 : (lj_put τ 77 (48 * p + L.length) v).1 82 (Int32.ofNat (48 * p + L.length)).toNatClampNeg = Int32.ofNat nn := by rw [ni, lj_put_1, if_neg (by omega), w2]; exact m82
    rw [if_neg (by rw [w1]; decide), if_pos ii, e82, km_156_14, lo]
    rfl
theorem rs_vR {σ0 τ0 σ τ : lj_S} {ρ : Nat → Nat} {FP : Nat → List kF} {p : Nat} {F : kF} {L : List kF} {ms ks ce me mq : Nat} (V : vw σ0 τ0 σ τ ρ FP p F L ms ks ce me mq) (i : Nat) : vR σ τ ((rsK σ (kC F) (kD F)).getD i (0, 0)) ((rsN τ p ms (kD F)).getD i (0, 0)) := by
  by_cases z : i < kD F
  · rw [rsK_get _ _ _ _ z, rsN_get _ _ _ _ _ z]
    exact (V.2.2.2.2.1.2.2.1 i z).1
  · rw [List.getD_eq_getElem?_getD, List.getD_eq_getElem?_getD, List.getElem?_eq_none (by rw [rsK_len]; omega), List.getElem?_eq_none (by rw [rsN_len]; omega)]
    exact vR_nil _ _
theorem act_22 {σ0 τ0 σ τ : lj_S} {n np p : Nat} {r : List Nat} {FP : Nat → List kF} {ρ : Nat → Nat} {A MO LA : List Nat} (h : MB σ0 τ0 n np p r FP ρ A MO LA σ τ) {F : kF} {L : List kF} (hF : FP p = F :: L) (h0 : kS F = 0) (rg : rgR σ τ) (hs : stF σ0 τ0) {Z : List pT} (hk : insK σ0 τ0 (kY F).1 (kY F).2.1 (kY F).2.2.1 (kY F).2.2.2.1 (kY F).2.2.2.2.1 (kY F).2.2.2.2.2 Z 22) {n' : Nat} (hn : ∀ z ∈ Z, gn σ0 τ0 n' z) : nxR σ0 τ0 n np p r FP ρ A MO LA σ τ F L n' Z := by
  obtain ⟨k1, k2, k3, k4, rfl⟩ := hk
  obtain ⟨ms, ks, ce, me, mq, V⟩ := h.w hF h0
  have B := V.bd
  have gz := hn _ List.mem_cons_self
  have n5 : ∀ x ∈ (kY F).2.2.2.1, x ≠ 5 := (gn_ok gz).2.2.2
  have rm := V.rm n5
  have kd := V.ff.1.2.2.2.2.1
  obtain ⟨σ1, hf, go1⟩ := x_rest h hF h0 rg V hs k1 (by omega)
  obtain ⟨h1, rg1⟩ := h.ft hF h0 rg V true true
  have h1 : MB σ0 τ0 n np p r (fpT FP p (kTo F ((kY F).2.1 + 1) ((kY F).2.2.1 + 1) (kY F).2.2.2.1 (kY F).2.2.2.2.1 (kY F).2.2.2.2.2 0 0 :: L)) ρ A MO LA (lj_put σ 94 (20 * p + L.length) (Int32.ofNat ((kY F).2.1 + 1))) (lj_put τ 77 (48 * p + L.length) (Int32.ofNat ((kY F).2.2.1 + 1))) := h1
  have rg1 : rgR (lj_put σ 94 (20 * p + L.length) (Int32.ofNat ((kY F).2.1 + 1))) (lj_put τ 77 (48 * p + L.length) (Int32.ofNat ((kY F).2.2.1 + 1))) := rg1
  have fo := fpT_o FP p (kTo F ((kY F).2.1 + 1) ((kY F).2.2.1 + 1) (kY F).2.2.2.1 (kY F).2.2.2.2.1 (kY F).2.2.2.2.2 0 0 :: L)
  obtain ⟨ms1, ks1, ce1, me1, mq1, V1⟩ := h1.w fo rfl
  have B1 := V1.bd
  have ec : ce1 = ce := (ofN_eq (by omega) (by omega)).1 (by rw [← V1.tp, ← V.tp, lj_put_1, if_neg (by omega)])
  have em : me1 = me := (ofN_eq (by omega) (by omega)).1 (by rw [← V1.at.2.2.1, ← V.at.2.2.1, lj_put_1, if_neg (by omega)])
  subst ec em
  have hv : vR (lj_put σ 94 (20 * p + L.length) (Int32.ofNat ((kY F).2.1 + 1))) (lj_put τ 77 (48 * p + L.length) (Int32.ofNat ((kY F).2.2.1 + 1))) ((rsK σ (kC F) (kD F)).getD 0 (0, 0)) ((rsN τ p ms (kD F)).getD 0 (0, 0)) := vR_tq (p := p) (i := (20 * p + L.length)) (lo := ce1) (p' := p) (i' := (48 * p + L.length)) (ml := me1) (kl := mq) (tq_94 (lf_rf _ _) _) (tm_77 (lf_rf _ _) _) (rs_vR V 0)
  obtain ⟨σ', g1, g2, g3⟩ := hf_tk1 h1 fo rfl rg1 V1 hs hf k3 gz hv
  have mr := m_rest h hF h0 V (W := τ0.1 21 (kY F).2.2.1) (nn := 1) (Or.inl ⟨k4, by decide⟩) (by omega) (Int32.ofNat ((kY F).2.2.1 + 1))
  have mr : _ = some (Sum.inl none, mPu (lj_put τ 77 (48 * p + L.length) (Int32.ofNat ((kY F).2.2.1 + 1))) p me1 ((rsN τ p ms (kD F)).getD 0 (0, 0))) := mr
  rw [fpT_2] at g2
  exact ⟨σ', _, _, List.mem_cons_self, fun v => (go1 v).trans (g1 v), run_step rg.2.1 rg.2.2.1 (m_hi h hF h0 V hs k2 (by decide) (fun z1 z2 => by rw [mz_30 _ z1 z2, mr, bv_ok, km_153_483])), g2, g3⟩
theorem act_23 {σ0 τ0 σ τ : lj_S} {n np p : Nat} {r : List Nat} {FP : Nat → List kF} {ρ : Nat → Nat} {A MO LA : List Nat} (h : MB σ0 τ0 n np p r FP ρ A MO LA σ τ) {F : kF} {L : List kF} (hF : FP p = F :: L) (h0 : kS F = 0) (rg : rgR σ τ) (hs : stF σ0 τ0) {Z : List pT} (hk : insK σ0 τ0 (kY F).1 (kY F).2.1 (kY F).2.2.1 (kY F).2.2.2.1 (kY F).2.2.2.2.1 (kY F).2.2.2.2.2 Z 23) {n' : Nat} (hn : ∀ z ∈ Z, gn σ0 τ0 n' z) : nxR σ0 τ0 n np p r FP ρ A MO LA σ τ F L n' Z := by
  obtain ⟨k1, k2, k3, k4, rfl⟩ := hk
  obtain ⟨ms, ks, ce, me, mq, V⟩ := h.w hF h0
  have B := V.bd
  have gz := hn _ List.mem_cons_self
  have n5 : ∀ x ∈ (kY F).2.2.2.1, x ≠ 5 := (gn_ok gz).2.2.2
  have rm := V.rm n5
  have kd := V.ff.1.2.2.2.2.1
  obtain ⟨σ1, hf, go1⟩ := x_rest h hF h0 rg V hs k1 (by omega)
  obtain ⟨h1, rg1⟩ := h.ft hF h0 rg V true true
  have h1 : MB σ0 τ0 n np p r (fpT FP p (kTo F ((kY F).2.1 + 1) ((kY F).2.2.1 + 1) (kY F).2.2.2.1 (kY F).2.2.2.2.1 (kY F).2.2.2.2.2 0 0 :: L)) ρ A MO LA (lj_put σ 94 (20 * p + L.length) (Int32.ofNat ((kY F).2.1 + 1))) (lj_put τ 77 (48 * p + L.length) (Int32.ofNat ((kY F).2.2.1 + 1))) := h1
  have rg1 : rgR (lj_put σ 94 (20 * p + L.length) (Int32.ofNat ((kY F).2.1 + 1))) (lj_put τ 77 (48 * p + L.length) (Int32.ofNat ((kY F).2.2.1 + 1))) := rg1
  have fo := fpT_o FP p (kTo F ((kY F).2.1 + 1) ((kY F).2.2.1 + 1) (kY F).2.2.2.1 (kY F).2.2.2.2.1 (kY F).2.2.2.2.2 0 0 :: L)
  obtain ⟨ms1, ks1, ce1, me1, mq1, V1⟩ := h1.w fo rfl
  have B1 := V1.bd
  have ec : ce1 = ce := (ofN_eq (by omega) (by omega)).1 (by rw [← V1.tp, ← V.tp, lj_put_1, if_neg (by omega)])
  have em : me1 = me := (ofN_eq (by omega) (by omega)).1 (by rw [← V1.at.2.2.1, ← V.at.2.2.1, lj_put_1, if_neg (by omega)])
  subst ec em
  have kl := rsK_len σ (kC F) (kD F)
  obtain ⟨σ', g1, g2, g3⟩ := hf_row h1 fo rfl rg1 V1 hs (G' := tkN (rsN τ p ms (kD F)) (kD F)) hf k3 gz (by rw [kl, tkN_len]) (by rw [kl]; omega) (fun i hi => by
    rw [kl] at hi
    rw [tkN_get _ _ _ hi]
    exact vR_tq (p := p) (i := (20 * p + L.length)) (lo := ce1) (p' := p) (i' := (48 * p + L.length)) (ml := me1) (kl := mq) (tq_94 (lf_rf _ _) _) (tm_77 (lf_rf _ _) _) (rs_vR V i)) (by rw [kl]; omega) (by rw [kl]; omega)
  have mr := m_rest h hF h0 V (W := τ0.1 21 (kY F).2.2.1) (nn := kD F) (Or.inr ⟨k4, rfl⟩) (by omega) (Int32.ofNat ((kY F).2.2.1 + 1))
  rw [fpT_2] at g2
  exact ⟨σ', _, _, List.mem_cons_self, fun v => (go1 v).trans (g1 v), run_step rg.2.1 rg.2.2.1 (m_hi h hF h0 V hs k2 (by decide) (fun z1 z2 => by rw [mz_30 _ z1 z2, mr, bv_ok, km_153_483])), g2, g3⟩
