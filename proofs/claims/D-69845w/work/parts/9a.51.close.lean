/-! acts: locals end -/
theorem MB.wd {σ0 τ0 σ τ : lj_S} {n np p : Nat} {r : List Nat} {FP : Nat → List kF} {ρ : Nat → Nat} {A MO LA : List Nat} (h : MB σ0 τ0 n np p r FP ρ A MO LA σ τ) {F : kF} {L : List kF} (hF : FP p = F :: L) (h0 : kS F = 0) {ms ks ce me mq : Nat} (V : vw σ0 τ0 σ τ ρ FP p F L ms ks ce me mq) {dd' : Nat} (hd : dd' ≤ (kY F).2.2.2.2.2) : MB σ0 τ0 n np p r (fpT FP p (kTo F (kY F).2.1 (kY F).2.2.1 (kY F).2.2.2.1 (kY F).2.2.2.2.1 dd' 0 0 :: L)) ρ A MO LA σ τ := by
  have B := V.bd
  have nl := V.ff.1
  exact h.top hF h0 V.1 V.2.1 V.2.2.1 V.2.2.2.1 (lf_rf _ _) (lf_rf _ _) V.2.2.2.2.1.1.2.2.2.1 V.2.2.2.2.1.2.1.2.2.2.1 V.tp V.at.2.2.1 V.at.2.2.2.2.1 (by omega) (by omega) (by omega) V.st V.fl hd ⟨⟨nl.1, nl.2.1, nl.2.2.1, nl.2.2.2.1, nl.2.2.2.2⟩, V.ff.2.1, Or.inl ⟨rfl, rfl⟩, fun z => absurd rfl z⟩ (fun _ => Or.inl rfl)
theorem rg_cl {σ σ' τ : lj_S} (rg : rgR σ τ) (o : ∀ k j, ¬ (74 ≤ k ∧ k ≤ 76) → k ≠ 81 → σ'.1 k j = σ.1 k j ∧ σ'.2 k j = σ.2 k j) : rgR σ' τ := by
  obtain ⟨r1, r2, r3, r4, r5⟩ := rg
  exact ⟨by rw [(o 8 46 (by omega) (by omega)).1]; exact r1, r2, r3, by rw [(o 8 45 (by omega) (by omega)).1]; exact r4, by rw [(o 8 44 (by omega) (by omega)).2]; exact r5⟩
/-- the component closes what is from x on -/
theorem x_44 {σ0 τ0 σ τ : lj_S} {n np p : Nat} {r : List Nat} {FP : Nat → List kF} {ρ : Nat → Nat} {A MO LA : List Nat} (h : MB σ0 τ0 n np p r FP ρ A MO LA σ τ) {F : kF} {L : List kF} (hF : FP p = F :: L) (h0 : kS F = 0) (rg : rgR σ τ) (hs : stF σ0 τ0) {x q : Nat} (x50 : x < 50) (q50 : q ≤ 50 ∧ (q : Int) ≤ lv σ0 31 (kY F).1) (hlq : ∀ y ∈ (kY F).2.2.2.2.1, y < q) (k1 : σ0.1 22 (kY F).2.1 = 34) (k1' : σ0.1 23 (kY F).2.1 = Int32.ofNat x) (k1'' : σ0.1 24 (kY F).2.1 = Int32.ofNat q) : ∃ σ' ρ', (∀ v, goC v σ = goC v σ') ∧ MB σ0 τ0 n np p r (fpT FP p (kTo F ((kY F).2.1 + 1) (kY F).2.2.1 (kY F).2.2.2.1 ((kY F).2.2.2.2.1.filter (· < x)) (min (kY F).2.2.2.2.2 x) 0 0 :: L)) ρ' A MO LA σ' τ ∧ rgR σ' τ := by
  obtain ⟨ms, ks, ce, me, mq, V⟩ := h.w hF h0
  have B := V.bd
  obtain ⟨h1, rg1⟩ := h.ft hF h0 rg V true false
  have h1 : MB σ0 τ0 n np p r (fpT FP p (kTo F ((kY F).2.1 + 1) (kY F).2.2.1 (kY F).2.2.2.1 (kY F).2.2.2.2.1 (kY F).2.2.2.2.2 0 0 :: L)) ρ A MO LA (lj_put σ 94 (20 * p + L.length) (Int32.ofNat ((kY F).2.1 + 1))) τ := h1
  have rg1 : rgR (lj_put σ 94 (20 * p + L.length) (Int32.ofNat ((kY F).2.1 + 1))) τ := rg1
  have fo := fpT_o FP p (kTo F ((kY F).2.1 + 1) (kY F).2.2.1 (kY F).2.2.2.1 (kY F).2.2.2.2.1 (kY F).2.2.2.2.2 0 0 :: L)
  obtain ⟨ms1, ks1, ce1, me1, mq1, V1⟩ := h1.w fo rfl
  have h2 := MB.wd h1 fo rfl V1 (dd' := min (kY F).2.2.2.2.2 x) (Nat.min_le_left _ _)
  rw [fpT_2, kTo_2] at h2
  have h2 : MB σ0 τ0 n np p r (fpT FP p (kTo F ((kY F).2.1 + 1) (kY F).2.2.1 (kY F).2.2.2.1 (kY F).2.2.2.2.1 (min (kY F).2.2.2.2.2 x) 0 0 :: L)) ρ A MO LA (lj_put σ 94 (20 * p + L.length) (Int32.ofNat ((kY F).2.1 + 1))) τ := h2
  obtain ⟨f1, f2, f3, f4, fA, fL, fK, f5⟩ := c_ft h hF h0 hs k1 (by decide)
  have e35 : (lj_put σ 94 (20 * p + L.length) (Int32.ofNat ((kY F).2.1 + 1))).1 8 35 = Int32.ofNat (kB F) := by rw [lj_put_1, if_neg (by omega)]; exact h.bs hF h0
  have e24 : (lj_put σ 94 (20 * p + L.length) (Int32.ofNat ((kY F).2.1 + 1))).1 24 (Int32.ofNat (kY F).2.1).toNatClampNeg = Int32.ofNat q := by
    rw [lj_put_1, if_neg (by omega), f5, (h.1.1 24 _ (by unfold cdC; simp)).1]; exact k1''
  have step : lj_R lc_P 139 [.ref 8] σ = lj_bv (lj_D lc_P lc_M217 218 [.ref 8, .int (Int32.ofNat (kY F).2.1), .int (Int32.ofNat x), .int (σ0.1 26 (kY F).2.1), .int (Int32.ofNat (kB F + x)), .retAddr 0, .retAddr 0, .retAddr 0] [] (lj_put σ 94 (20 * p + L.length) (Int32.ofNat ((kY F).2.1 + 1)))) (fun s => some (.inl (some (.int 1)), s)) lj_up := by
    rw [ca_x σ f1 f3 f4 (fA.trans k1') fL fK (by decide), f2, lz_osucc, cg_34 _ f4 (by rw [lj_put_1, if_neg (by omega)]; exact fK), e35, ← Int32.ofNat_add]
    congr 1
    funext s
    rw [kc_139_1051]
  by_cases z : x ≤ q
  · obtain ⟨σ', ρ', x4, g1, g2, g3⟩ := x_cl (F := F) ⟨q50.1, by unfold nL; omega⟩ f4 (Int32.ofNat x) (σ0.1 26 (kY F).2.1) (q - x) x (kY F).2.2.2.2.1 (lj_put σ 94 (20 * p + L.length) (Int32.ofNat ((kY F).2.1 + 1))) ρ (by omega) (Nat.min_le_right _ _) h2 e24
    have ef : (kY F).2.2.2.2.1.filter (fun z => decide (z < x ∨ q ≤ z)) = (kY F).2.2.2.2.1.filter (· < x) := List.filter_congr (fun y hy => by
      have := hlq y hy
      by_cases w : y < x
      · simp [w]
      · simp [w]; omega)
    rw [ef] at g3
    exact ⟨σ', ρ', go_step rg.1 (by rw [step, g1, kc_217_917, bv_ok]), g3, rg_cl rg1 g2⟩
  · have ef : (kY F).2.2.2.2.1.filter (· < x) = (kY F).2.2.2.2.1 := List.filter_eq_self.2 (fun y hy => by have := hlq y hy; simp; omega)
    rw [ef]
    refine ⟨_, ρ, go_step rg.1 ?_, h2, rg1⟩
    rw [step, kc_217_218, if_pos f4, e35, e24, ← Int32.ofNat_add, if_pos ((ofN_le (by omega) (by omega)).2 (by omega)), kc_217_917, bv_ok]
/-- the model forgets what is from x on -/
theorem x_45 {σ0 τ0 σ τ : lj_S} {n np p : Nat} {r : List Nat} {FP : Nat → List kF} {ρ : Nat → Nat} {A MO LA : List Nat} (h : MB σ0 τ0 n np p r FP ρ A MO LA σ τ) {F : kF} {L : List kF} (hF : FP p = F :: L) (h0 : kS F = 0) (rg : rgR σ τ) (hs : stF σ0 τ0) {x : Nat} (x50 : x ≤ 50) (hx : x ≤ (kY F).2.2.2.2.2) (hl : ∀ y ∈ (kY F).2.2.2.2.1, y < x) (k2 : τ0.1 20 (kY F).2.2.1 = 20) (k2' : τ0.1 21 (kY F).2.2.1 = Int32.ofNat x) : ∃ τ', (∀ x, mRun x τ = mRun x τ') ∧ MB σ0 τ0 n np p r (fpT FP p (kTo F (kY F).2.1 ((kY F).2.2.1 + 1) (kY F).2.2.2.1 (kY F).2.2.2.2.1 50 0 0 :: L)) ρ A MO LA σ τ' ∧ rgR σ τ' := by
  obtain ⟨ms, ks, ce, me, mq, V⟩ := h.w hF h0
  have B := V.bd
  obtain ⟨h1, rg1⟩ := h.ft hF h0 rg V false true
  have h1 : MB σ0 τ0 n np p r (fpT FP p (kTo F (kY F).2.1 ((kY F).2.2.1 + 1) (kY F).2.2.2.1 (kY F).2.2.2.2.1 (kY F).2.2.2.2.2 0 0 :: L)) ρ A MO LA σ (lj_put τ 77 (48 * p + L.length) (Int32.ofNat ((kY F).2.2.1 + 1))) := h1
  have rg1 : rgR σ (lj_put τ 77 (48 * p + L.length) (Int32.ofNat ((kY F).2.2.1 + 1))) := rg1
  have fo := fpT_o FP p (kTo F (kY F).2.1 ((kY F).2.2.1 + 1) (kY F).2.2.2.1 (kY F).2.2.2.2.1 (kY F).2.2.2.2.2 0 0 :: L)
  obtain ⟨ms1, ks1, ce1, me1, mq1, V1⟩ := h1.w fo rfl
  obtain ⟨τ', e1, e2, e3⟩ := m_endl (J := Int32.ofNat (48 * p + L.length)) (P := Int32.ofNat (kY F).2.2.1) (A := Int32.ofNat x) (k := (tk τ p me).1) (n := (tk τ p me).2) rfl (by omega) (50 - x) x (lj_put τ 77 (48 * p + L.length) (Int32.ofNat ((kY F).2.2.1 + 1))) (by omega)
  have g1 := MB.el h1 fo rfl V1 (x := x) hx hl e2 e3
  rw [fpT_2, kTo_2] at g1
  refine ⟨τ', run_step rg.2.1 rg.2.2.1 (m_lo h hF h0 V hs k2 (by decide) (fun z1 z2 => ?_)), g1, ?_⟩
  · rw [my_20 _ z1 z2, k2', e1]
  · obtain ⟨r1, r2, r3, r4, r5⟩ := rg1
    exact ⟨r1, by rw [e2, if_neg (by omega)]; exact r2, by rw [e2, if_neg (by omega)]; exact r3, by rw [e2, if_neg (by omega)]; exact r4, by rw [e3]; exact r5⟩
/-- both go on, with other cells -/
def nyR (σ0 τ0 : lj_S) (n np p : Nat) (r : List Nat) (FP : Nat → List kF) (A MO LA : List Nat) (σ τ : lj_S) (F : kF) (L : List kF) (n' : Nat) (Z : List pT) : Prop :=
  ∃ ρ' σ' τ' z, z ∈ Z ∧ (∀ v, goC v σ = goC v σ') ∧ (∀ x, mRun x τ = mRun x τ') ∧ MB σ0 τ0 n np p r (fpT FP p (kAt F z (n' + 1) :: L)) ρ' A MO LA σ' τ' ∧ rgR σ' τ'
theorem act_45 {σ0 τ0 σ τ : lj_S} {n np p : Nat} {r : List Nat} {FP : Nat → List kF} {ρ : Nat → Nat} {A MO LA : List Nat} (h : MB σ0 τ0 n np p r FP ρ A MO LA σ τ) {F : kF} {L : List kF} (hF : FP p = F :: L) (h0 : kS F = 0) (rg : rgR σ τ) (hs : stF σ0 τ0) {Z : List pT} (hk : insK σ0 τ0 (kY F).1 (kY F).2.1 (kY F).2.2.1 (kY F).2.2.2.1 (kY F).2.2.2.2.1 (kY F).2.2.2.2.2 Z 45) {n' : Nat} (hn : ∀ z ∈ Z, gn σ0 τ0 n' z) : nxR σ0 τ0 n np p r FP ρ A MO LA σ τ F L n' Z := by
  obtain ⟨x, x50, k2, k2', hx, hl, rfl⟩ := hk
  obtain ⟨τ', e1, e2, e3⟩ := x_45 h hF h0 rg hs x50 hx hl k2 k2'
  exact ⟨σ, τ', _, List.mem_cons_self, fun _ => rfl, e1, e2.fin e3 (hn _ List.mem_cons_self), e3⟩
theorem act_44 {σ0 τ0 σ τ : lj_S} {n np p : Nat} {r : List Nat} {FP : Nat → List kF} {ρ : Nat → Nat} {A MO LA : List Nat} (h : MB σ0 τ0 n np p r FP ρ A MO LA σ τ) {F : kF} {L : List kF} (hF : FP p = F :: L) (h0 : kS F = 0) (rg : rgR σ τ) (hs : stF σ0 τ0) {Z : List pT} (hk : insK σ0 τ0 (kY F).1 (kY F).2.1 (kY F).2.2.1 (kY F).2.2.2.1 (kY F).2.2.2.2.1 (kY F).2.2.2.2.2 Z 44) {n' : Nat} (hn : ∀ z ∈ Z, gn σ0 τ0 n' z) : nyR σ0 τ0 n np p r FP A MO LA σ τ F L n' Z := by
  obtain ⟨x, q, x50, q50, hlq, k1, k1', k1'', rfl⟩ := hk
  obtain ⟨σ', ρ', e1, e2, e3⟩ := x_44 h hF h0 rg hs x50 q50 hlq k1 k1' k1''
  exact ⟨ρ', σ', τ, _, List.mem_cons_self, e1, fun _ => rfl, e2.fin e3 (hn _ List.mem_cons_self), e3⟩
theorem act_43 {σ0 τ0 σ τ : lj_S} {n np p : Nat} {r : List Nat} {FP : Nat → List kF} {ρ : Nat → Nat} {A MO LA : List Nat} (h : MB σ0 τ0 n np p r FP ρ A MO LA σ τ) {F : kF} {L : List kF} (hF : FP p = F :: L) (h0 : kS F = 0) (rg : rgR σ τ) (hs : stF σ0 τ0) {Z : List pT} (hk : insK σ0 τ0 (kY F).1 (kY F).2.1 (kY F).2.2.1 (kY F).2.2.2.1 (kY F).2.2.2.2.1 (kY F).2.2.2.2.2 Z 43) {n' : Nat} (hn : ∀ z ∈ Z, gn σ0 τ0 n' z) : nyR σ0 τ0 n np p r FP A MO LA σ τ F L n' Z := by
  obtain ⟨x, q, x50, q50, hlq, k1, k1', k1'', k2, k2', hx, rfl⟩ := hk
  obtain ⟨σ', ρ', e1, e2, e3⟩ := x_44 h hF h0 rg hs x50 q50 hlq k1 k1' k1''
  have fo := fpT_o FP p (kTo F ((kY F).2.1 + 1) (kY F).2.2.1 (kY F).2.2.2.1 ((kY F).2.2.2.2.1.filter (· < x)) (min (kY F).2.2.2.2.2 x) 0 0 :: L)
  obtain ⟨τ', g1, g2, g3⟩ := x_45 e2 fo rfl e3 hs (x := x) (by omega) (Nat.le_min.2 ⟨hx, Nat.le_refl _⟩) (fun y hy => by
    have hy : y ∈ (kY F).2.2.2.2.1.filter (· < x) := hy
    rw [List.mem_filter] at hy
    simpa using hy.2) k2 k2'
  rw [fpT_2, kTo_2] at g2
  exact ⟨ρ', σ', τ', _, List.mem_cons_self, e1, g1, g2.fin g3 (hn _ List.mem_cons_self), g3⟩
