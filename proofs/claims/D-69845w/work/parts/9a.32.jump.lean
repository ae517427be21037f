/-! jumps -/
theorem c_jump {σ0 τ0 σ τ : lj_S} {n np p : Nat} {r : List Nat} {FP : Nat → List kF} {ρ : Nat → Nat} {A MO LA : List Nat} (h : MB σ0 τ0 n np p r FP ρ A MO LA σ τ) {F : kF} {L : List kF} (hF : FP p = F :: L) (h0 : kS F = 0) (hs : stF σ0 τ0) {a : Nat} (k1 : σ0.1 22 (kY F).2.1 = 30 ∧ σ0.1 23 (kY F).2.1 = Int32.ofNat a) : lj_R lc_P 139 [.ref 8] σ = some (.inl (some (.int 1)), lj_put (lj_put σ 94 (20 * p + L.length) (Int32.ofNat ((kY F).2.1 + 1))) 94 (20 * p + L.length) (Int32.ofNat a)) := by
  obtain ⟨cx, _⟩ := h.cx hF h0 hs
  obtain ⟨⟨c1, c2, c3, c4, c5⟩, c6⟩ := cx (by rw [k1.1]; decide)
  have k22 : σ.1 22 (kY F).2.1 = 30 := by rw [c6 22 (by decide) (by decide)]; exact k1.1
  have e34 : (lj_put σ 94 (20 * p + L.length) (Int32.ofNat ((kY F).2.1 + 1))).1 8 34 = σ.1 8 34 := by rw [lj_put_1, if_neg (by omega)]
  rw [ca_x σ c1 c3 c4 (A := Int32.ofNat a) (by rw [c5, c6 23 (by decide) (by decide)]; exact k1.2) rfl (K := 30) (by rw [c5]; exact k22) (by decide), c2, lz_osucc, cg_30 _ c4 (by rw [c5, lj_put_1, if_neg (by omega)]; exact k22), e34, if_pos c1, c2, kc_217_917, bv_ok, kc_139_1051]
theorem act_37 {σ0 τ0 σ τ : lj_S} {n np p : Nat} {r : List Nat} {FP : Nat → List kF} {ρ : Nat → Nat} {A MO LA : List Nat} (h : MB σ0 τ0 n np p r FP ρ A MO LA σ τ) {F : kF} {L : List kF} (hF : FP p = F :: L) (h0 : kS F = 0) (rg : rgR σ τ) (hs : stF σ0 τ0) {a a' : Nat} (k1 : σ0.1 22 (kY F).2.1 = 30 ∧ σ0.1 23 (kY F).2.1 = Int32.ofNat a) (k2 : τ0.1 20 (kY F).2.2.1 = 21 ∧ τ0.1 21 (kY F).2.2.1 = Int32.ofNat a') {n' : Nat} (hn : gn σ0 τ0 n' ((kY F).1, a, a', (kY F).2.2.2.1, (kY F).2.2.2.2.1, (kY F).2.2.2.2.2)) :
    ∃ σ' τ', (∀ v, goC v σ = goC v σ') ∧ (∀ x, mRun x τ = mRun x τ') ∧ MB σ0 τ0 n np p r (fpT FP p (kTo F a a' (kY F).2.2.2.1 (kY F).2.2.2.2.1 (kY F).2.2.2.2.2 (n' + 1) 0 :: L)) ρ A MO LA σ' τ' ∧ rgR σ' τ' := by
  obtain ⟨_, cy⟩ := h.cx hF h0 hs
  obtain ⟨⟨m1, m2, m3, m4, m5, m6, m7⟩, m8⟩ := cy (by rw [k2.1]; decide)
  obtain ⟨ms, ks, ce, me, mq, pa, hp, ht, hw, t, hl, p26, h34, h8, at0, bd⟩ := h.v hF h0
  have k20 : τ.1 20 (kY F).2.2.1 = 21 := by rw [m8 20 (by decide) (by decide)]; exact k2.1
  have at1 : mAt (lj_put τ 77 (48 * p + L.length) (Int32.ofNat ((kY F).2.2.1 + 1))) p me mq := by
    obtain ⟨a1, a2, a3, a4, a5, a6⟩ := at0
    exact ⟨by rw [lj_put_1, if_neg (by omega)]; exact a1, a2, by rw [lj_put_1, if_neg (by omega)]; exact a3, a4, by rw [lj_put_1, if_neg (by omega)]; exact a5, a6⟩
  have prtF : prt σ0 τ0 σ τ ρ p (F :: L) ce me mq := ⟨ms, ks, hp, ht, hw⟩
  refine ⟨_, lj_put (lj_put τ 77 (48 * p + L.length) (Int32.ofNat ((kY F).2.2.1 + 1))) 77 (48 * p + L.length) (Int32.ofNat a'), go_step rg.1 (c_jump h hF h0 hs k1), run_step rg.2.1 rg.2.2.1 ?_, act_stay h hF h0 (fun k j z => ?_) (fun k j z => ?_) ?_ ?_ hn, ?_⟩
  · rw [mw_x τ m1 m2 m3 m5 m6 (A := Int32.ofNat a') (by rw [m7, m8 21 (by decide) (by decide)]; exact k2.2) (K := 21) (by rw [m7]; exact k20) (by decide), m4, lz_osucc, m_w127 at1 _ _ _ (fun z => by
      show 0 ≤ (lj_put τ 77 (48 * p + L.length) (Int32.ofNat ((kY F).2.2.1 + 1))).1 71 _
      rw [lj_put_1, if_neg (by omega)]
      exact prt_nn prtF (me - 1) (by omega)), my_21 _ m6 (by rw [m7, lj_put_1, if_neg (by omega)]; exact k20), if_pos m3, m4, km_127_420, bv_ok, km_121_398]
  · exact ⟨by rw [lj_put_1, if_neg (fun y => z (Or.inl y)), lj_put_1, if_neg (fun y => z (Or.inl y))], rfl⟩
  · exact ⟨by rw [lj_put_1, if_neg (fun y => z (Or.inl y)), lj_put_1, if_neg (fun y => z (Or.inl y))], rfl⟩
  · rw [lj_put_1, if_pos ⟨rfl, rfl⟩]
  · rw [lj_put_1, if_pos ⟨rfl, rfl⟩]
  · obtain ⟨g1, g2, g3, g4, g5⟩ := rg
    have oC : ∀ k j, k ≠ 94 → (lj_put (lj_put σ 94 (20 * p + L.length) (Int32.ofNat ((kY F).2.1 + 1))) 94 (20 * p + L.length) (Int32.ofNat a)).1 k j = σ.1 k j := fun k j z => by rw [lj_put_1, if_neg (by omega), lj_put_1, if_neg (by omega)]
    have oM : ∀ k j, k ≠ 77 → (lj_put (lj_put τ 77 (48 * p + L.length) (Int32.ofNat ((kY F).2.2.1 + 1))) 77 (48 * p + L.length) (Int32.ofNat a')).1 k j = τ.1 k j := fun k j z => by rw [lj_put_1, if_neg (by omega), lj_put_1, if_neg (by omega)]
    exact ⟨by rw [oC 8 46 (by decide)]; exact g1, by rw [oM 0 143 (by decide)]; exact g2, by rw [oM 0 129 (by decide)]; exact g3, by rw [oC 8 45 (by decide), oM 0 144 (by decide)]; exact g4, g5⟩
/-- a jump of the component alone -/
theorem act_38 {σ0 τ0 σ τ : lj_S} {n np p : Nat} {r : List Nat} {FP : Nat → List kF} {ρ : Nat → Nat} {A MO LA : List Nat} (h : MB σ0 τ0 n np p r FP ρ A MO LA σ τ) {F : kF} {L : List kF} (hF : FP p = F :: L) (h0 : kS F = 0) (rg : rgR σ τ) (hs : stF σ0 τ0) {a : Nat} (k1 : σ0.1 22 (kY F).2.1 = 30 ∧ σ0.1 23 (kY F).2.1 = Int32.ofNat a) {n' : Nat} (hn : gn σ0 τ0 n' ((kY F).1, a, (kY F).2.2.1, (kY F).2.2.2.1, (kY F).2.2.2.2.1, (kY F).2.2.2.2.2)) :
    ∃ σ', (∀ v, goC v σ = goC v σ') ∧ MB σ0 τ0 n np p r (fpT FP p (kTo F a (kY F).2.2.1 (kY F).2.2.2.1 (kY F).2.2.2.2.1 (kY F).2.2.2.2.2 (n' + 1) 0 :: L)) ρ A MO LA σ' τ ∧ rgR σ' τ := by
  obtain ⟨ms, ks, ce, me, mq, pa, hp, ht, hw, t, hl, p26, h34, h8, at0, bd⟩ := h.v hF h0
  refine ⟨_, go_step rg.1 (c_jump h hF h0 hs k1), act_stay h hF h0 (fun k j z => ?_) (fun k j z => ⟨rfl, rfl⟩) ?_ t.2.1.2.2.2.1 hn, ?_⟩
  · exact ⟨by rw [lj_put_1, if_neg (fun y => z (Or.inl y)), lj_put_1, if_neg (fun y => z (Or.inl y))], rfl⟩
  · rw [lj_put_1, if_pos ⟨rfl, rfl⟩]
  · obtain ⟨g1, g2, g3, g4, g5⟩ := rg
    have oC : ∀ k j, k ≠ 94 → (lj_put (lj_put σ 94 (20 * p + L.length) (Int32.ofNat ((kY F).2.1 + 1))) 94 (20 * p + L.length) (Int32.ofNat a)).1 k j = σ.1 k j := fun k j z => by rw [lj_put_1, if_neg (by omega), lj_put_1, if_neg (by omega)]
    exact ⟨by rw [oC 8 46 (by decide)]; exact g1, g2, g3, by rw [oC 8 45 (by decide)]; exact g4, g5⟩
