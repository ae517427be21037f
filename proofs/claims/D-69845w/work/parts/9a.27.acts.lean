/-! acts: values -/
/-- behind the code there is no act -/
def stF (σ0 τ0 : lj_S) : Prop := (∀ c, 14000 ≤ c → σ0.1 22 c = -1) ∧ ∀ m, 14000 ≤ m → τ0.1 20 m = -1
theorem MB.cx {σ0 τ0 σ τ : lj_S} {n np p : Nat} {r : List Nat} {FP : Nat → List kF} {ρ : Nat → Nat} {A MO LA : List Nat} (h : MB σ0 τ0 n np p r FP ρ A MO LA σ τ) {F : kF} {L : List kF} (hF : FP p = F :: L) (h0 : kS F = 0) (hs : stF σ0 τ0) :
    (σ0.1 22 (kY F).2.1 ≠ -1 → (lj_in (σ.1 8 34) 520 ∧ (σ.1 8 34).toNatClampNeg = 20 * p + L.length ∧ σ.1 94 (σ.1 8 34).toNatClampNeg = Int32.ofNat (kY F).2.1 ∧ lj_in (Int32.ofNat (kY F).2.1) 14000 ∧ (Int32.ofNat (kY F).2.1).toNatClampNeg = (kY F).2.1) ∧ ∀ k, 22 ≤ k → k ≤ 26 → σ.1 k (kY F).2.1 = σ0.1 k (kY F).2.1) ∧
    (τ0.1 20 (kY F).2.2.1 ≠ -1 → (lj_in (τ.1 0 111) 26 ∧ ((48 * (τ.1 0 111)) + ((τ.1 62 ((τ.1 0 111).toNatClampNeg)))) - 1 = Int32.ofNat (48 * p + L.length) ∧ lj_in (Int32.ofNat (48 * p + L.length)) 1248 ∧ (Int32.ofNat (48 * p + L.length)).toNatClampNeg = 48 * p + L.length ∧ τ.1 77 (Int32.ofNat (48 * p + L.length)).toNatClampNeg = Int32.ofNat (kY F).2.2.1 ∧ lj_in (Int32.ofNat (kY F).2.2.1) 14000 ∧ (Int32.ofNat (kY F).2.2.1).toNatClampNeg = (kY F).2.2.1) ∧ ∀ k, 20 ≤ k → k ≤ 23 → τ.1 k (kY F).2.2.1 = τ0.1 k (kY F).2.2.1) := by
  obtain ⟨ms, ks, ce, me, mq, pa, hp, ht, hw, t, hl, p26, h34, h8, at0, bd⟩ := h.v hF h0
  obtain ⟨t1, t2, _⟩ := t
  refine ⟨fun z => ⟨⟨?_, ?_, ?_, ?_, ?_⟩, fun k k1 k2 => (h.1.1 k _ ?_).1⟩, fun z => ⟨⟨at0.i.1, ?_, ?_, ?_, ?_, ?_, ?_⟩, fun k k1 k2 => (h.1.2 k _ ?_).1⟩⟩
  · rw [h34]; exact ofN_in (by omega) (by omega)
  · rw [h34]; exact lz_onat (by omega)
  · rw [h34, lz_onat (by omega)]; exact t1.2.2.2.1
  · by_cases w : (kY F).2.1 < 14000
    · exact ofN_in w (by omega)
    · exact absurd (hs.1 _ (by omega)) z
  · by_cases w : (kY F).2.1 < 14000
    · exact lz_onat (by omega)
    · exact absurd (hs.1 _ (by omega)) z
  · unfold cdC; simp; omega
  · have e62 : τ.1 62 p = Int32.ofNat (L.length + 1) := by
      have := pa.2.2.2.2.2.2.1
      rw [hF, List.length_cons] at this
      exact this
    rw [at0.i.2.1, e62, at0.1, show (48 : Int32) = Int32.ofNat 48 from rfl, ← Int32.ofNat_mul, ← Int32.ofNat_add, ← Nat.add_assoc]
    exact lz_pred' _
  · exact ofN_in (by omega) (by omega)
  · exact lz_onat (by omega)
  · rw [lz_onat (by omega)]; exact t2.2.2.2.1
  · by_cases w : (kY F).2.2.1 < 14000
    · exact ofN_in w (by omega)
    · exact absurd (hs.2 _ (by omega)) z
  · by_cases w : (kY F).2.2.1 < 14000
    · exact lz_onat (by omega)
    · exact absurd (hs.2 _ (by omega)) z
  · unfold cdM; simp; omega
/-- nil -/
theorem act_1 {σ0 τ0 σ τ : lj_S} {n np p : Nat} {r : List Nat} {FP : Nat → List kF} {ρ : Nat → Nat} {A MO LA : List Nat} (h : MB σ0 τ0 n np p r FP ρ A MO LA σ τ) {F : kF} {L : List kF} (hF : FP p = F :: L) (h0 : kS F = 0) (rg : rgR σ τ) (hs : stF σ0 τ0) (k1 : σ0.1 22 (kY F).2.1 = 1) (k2 : τ0.1 20 (kY F).2.2.1 = 1) {n' : Nat} (hn : gn σ0 τ0 n' ((kY F).1, (kY F).2.1 + 1, (kY F).2.2.1 + 1, 0 :: (kY F).2.2.2.1, (kY F).2.2.2.2.1, (kY F).2.2.2.2.2)) :
    ∃ σ' τ', (∀ v, goC v σ = goC v σ') ∧ (∀ x, mRun x τ = mRun x τ') ∧ MB σ0 τ0 n np p r (fpT FP p (kTo F ((kY F).2.1 + 1) ((kY F).2.2.1 + 1) (0 :: (kY F).2.2.2.1) (kY F).2.2.2.2.1 (kY F).2.2.2.2.2 (n' + 1) 0 :: L)) ρ A MO LA σ' τ' ∧ rgR σ' τ' := by
  obtain ⟨cx, cy⟩ := h.cx hF h0 hs
  obtain ⟨⟨c1, c2, c3, c4, c5⟩, c6⟩ := cx (by rw [k1]; decide)
  obtain ⟨⟨m1, m2, m3, m4, m5, m6, m7⟩, m8⟩ := cy (by rw [k2]; decide)
  refine act_push h hF h0 rg (vR_nil σ τ) ?_ ?_ hn
  · rw [ca_1 σ c1 c3 c4 rfl rfl (by rw [c5, c6 22 (by decide) (by decide)]; exact k1), c2, lz_osucc]
    simp only [kc_139_1051]
  · rw [mw_1 τ m1 m2 m3 m5 m6 rfl (by rw [m7, m8 20 (by decide) (by decide)]; exact k2), m4, lz_osucc]
    simp only [km_121_398]
/-- truths -/
theorem act_2 {σ0 τ0 σ τ : lj_S} {n np p : Nat} {r : List Nat} {FP : Nat → List kF} {ρ : Nat → Nat} {A MO LA : List Nat} (h : MB σ0 τ0 n np p r FP ρ A MO LA σ τ) {F : kF} {L : List kF} (hF : FP p = F :: L) (h0 : kS F = 0) (rg : rgR σ τ) (hs : stF σ0 τ0) (k1 : σ0.1 22 (kY F).2.1 = 2 ∧ τ0.1 21 (kY F).2.2.1 = 1 ∨ σ0.1 22 (kY F).2.1 = 3 ∧ τ0.1 21 (kY F).2.2.1 = 0) (k2 : τ0.1 20 (kY F).2.2.1 = 2) {n' : Nat} (hn : gn σ0 τ0 n' ((kY F).1, (kY F).2.1 + 1, (kY F).2.2.1 + 1, 0 :: (kY F).2.2.2.1, (kY F).2.2.2.2.1, (kY F).2.2.2.2.2)) :
    ∃ σ' τ', (∀ v, goC v σ = goC v σ') ∧ (∀ x, mRun x τ = mRun x τ') ∧ MB σ0 τ0 n np p r (fpT FP p (kTo F ((kY F).2.1 + 1) ((kY F).2.2.1 + 1) (0 :: (kY F).2.2.2.1) (kY F).2.2.2.2.1 (kY F).2.2.2.2.2 (n' + 1) 0 :: L)) ρ A MO LA σ' τ' ∧ rgR σ' τ' := by
  obtain ⟨cx, cy⟩ := h.cx hF h0 hs
  obtain ⟨⟨c1, c2, c3, c4, c5⟩, c6⟩ := cx (by rcases k1 with k | k <;> rw [k.1] <;> decide)
  obtain ⟨⟨m1, m2, m3, m4, m5, m6, m7⟩, m8⟩ := cy (by rw [k2]; decide)
  rcases k1 with ⟨k1, k3⟩ | ⟨k1, k3⟩
  · refine act_push h hF h0 rg (vR_truth σ τ (x := 1) (Or.inr rfl)) ?_ ?_ hn
    · rw [ca_2 σ c1 c3 c4 rfl rfl (by rw [c5, c6 22 (by decide) (by decide)]; exact k1), c2, lz_osucc]
      simp only [kc_139_1051]
    · rw [mw_2 τ m1 m2 m3 m5 m6 rfl (by rw [m7, m8 20 (by decide) (by decide)]; exact k2), m4, lz_osucc, m7, m8 21 (by decide) (by decide), k3]
      simp only [km_121_398]
      rfl
  · refine act_push h hF h0 rg (vR_truth σ τ (x := 0) (Or.inl rfl)) ?_ ?_ hn
    · rw [ca_3 σ c1 c3 c4 rfl rfl (by rw [c5, c6 22 (by decide) (by decide)]; exact k1), c2, lz_osucc]
      simp only [kc_139_1051]
    · rw [mw_2 τ m1 m2 m3 m5 m6 rfl (by rw [m7, m8 20 (by decide) (by decide)]; exact k2), m4, lz_osucc, m7, m8 21 (by decide) (by decide), k3]
      simp only [km_121_398]
      rfl
/-- strings -/
theorem act_4 {σ0 τ0 σ τ : lj_S} {n np p : Nat} {r : List Nat} {FP : Nat → List kF} {ρ : Nat → Nat} {A MO LA : List Nat} (h : MB σ0 τ0 n np p r FP ρ A MO LA σ τ) {F : kF} {L : List kF} (hF : FP p = F :: L) (h0 : kS F = 0) (rg : rgR σ τ) (hs : stF σ0 τ0) (hg : sG σ0 τ0 σ τ) (k1 : σ0.1 22 (kY F).2.1 = 5) (k2 : τ0.1 20 (kY F).2.2.1 = 5) (k3 : sEi σ0 τ0 (σ0.1 23 (kY F).2.1) (τ0.1 21 (kY F).2.2.1)) {n' : Nat} (hn : gn σ0 τ0 n' ((kY F).1, (kY F).2.1 + 1, (kY F).2.2.1 + 1, 0 :: (kY F).2.2.2.1, (kY F).2.2.2.2.1, (kY F).2.2.2.2.2)) :
    ∃ σ' τ', (∀ v, goC v σ = goC v σ') ∧ (∀ x, mRun x τ = mRun x τ') ∧ MB σ0 τ0 n np p r (fpT FP p (kTo F ((kY F).2.1 + 1) ((kY F).2.2.1 + 1) (0 :: (kY F).2.2.2.1) (kY F).2.2.2.2.1 (kY F).2.2.2.2.2 (n' + 1) 0 :: L)) ρ A MO LA σ' τ' ∧ rgR σ' τ' := by
  obtain ⟨cx, cy⟩ := h.cx hF h0 hs
  obtain ⟨⟨c1, c2, c3, c4, c5⟩, c6⟩ := cx (by rw [k1]; decide)
  obtain ⟨⟨m1, m2, m3, m4, m5, m6, m7⟩, m8⟩ := cy (by rw [k2]; decide)
  obtain ⟨a, a', u1, u2, e1, e2, e3⟩ := k3
  refine act_push h hF h0 rg (vR_str (e3.up hg) u1 u2) ?_ ?_ hn
  · rw [ca_5 σ c1 c3 c4 rfl rfl (by rw [c5, c6 22 (by decide) (by decide)]; exact k1), c2, lz_osucc, c5, c6 23 (by decide) (by decide), e1]
    simp only [kc_139_1051]
  · rw [mw_5 τ m1 m2 m3 m5 m6 rfl (by rw [m7, m8 20 (by decide) (by decide)]; exact k2), m4, lz_osucc, m7, m8 21 (by decide) (by decide), e2]
    simp only [km_121_398]
