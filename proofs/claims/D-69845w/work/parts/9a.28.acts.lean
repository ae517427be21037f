/-! acts: whole numbers, locals, steps -/
theorem act_3 {σ0 τ0 σ τ : lj_S} {n np p : Nat} {r : List Nat} {FP : Nat → List kF} {ρ : Nat → Nat} {A MO LA : List Nat} (h : MB σ0 τ0 n np p r FP ρ A MO LA σ τ) {F : kF} {L : List kF} (hF : FP p = F :: L) (h0 : kS F = 0) (rg : rgR σ τ) (hs : stF σ0 τ0) {i : Nat} (hi : i < 1501) (k1 : σ0.1 22 (kY F).2.1 = 4 ∧ σ0.1 23 (kY F).2.1 = Int32.ofNat i) (k2 : τ0.1 20 (kY F).2.2.1 = 4 ∧ τ0.1 21 (kY F).2.2.1 = Int32.ofNat i) (k3 : σ0.2 27 i = τ0.2 24 i) {n' : Nat} (hn : gn σ0 τ0 n' ((kY F).1, (kY F).2.1 + 1, (kY F).2.2.1 + 1, 0 :: (kY F).2.2.2.1, (kY F).2.2.2.2.1, (kY F).2.2.2.2.2)) :
    ∃ σ' τ', (∀ v, goC v σ = goC v σ') ∧ (∀ x, mRun x τ = mRun x τ') ∧ MB σ0 τ0 n np p r (fpT FP p (kTo F ((kY F).2.1 + 1) ((kY F).2.2.1 + 1) (0 :: (kY F).2.2.2.1) (kY F).2.2.2.2.1 (kY F).2.2.2.2.2 (n' + 1) 0 :: L)) ρ A MO LA σ' τ' ∧ rgR σ' τ' := by
  obtain ⟨cx, cy⟩ := h.cx hF h0 hs
  obtain ⟨⟨c1, c2, c3, c4, c5⟩, c6⟩ := cx (by rw [k1.1]; decide)
  obtain ⟨⟨m1, m2, m3, m4, m5, m6, m7⟩, m8⟩ := cy (by rw [k2.1]; decide)
  have w1 : σ.2 27 i = σ0.2 27 i := (h.1.1 27 i rfl).2
  have w2 : τ.2 24 i = τ0.2 24 i := (h.1.2 24 i rfl).2
  have e : (Int32.ofNat i).toNatClampNeg = i := lz_onat (by omega)
  refine act_push h hF h0 rg (vR_whole σ τ (σ0.2 27 i)) ?_ ?_ hn
  · rw [ca_4 σ c1 c3 c4 (A := Int32.ofNat i) (by rw [c5, c6 23 (by decide) (by decide)]; exact k1.2) rfl (by rw [c5, c6 22 (by decide) (by decide)]; exact k1.1), if_pos (ofN_in (by omega) (by omega)), c2, lz_osucc, e, w1]
    simp only [kc_139_1051]
  · rw [mw_4 τ m1 m2 m3 m5 m6 (A := Int32.ofNat i) (by rw [m7, m8 21 (by decide) (by decide)]; exact k2.2) (by rw [m7, m8 20 (by decide) (by decide)]; exact k2.1), if_pos (ofN_in (by omega) (by omega)), m4, lz_osucc, e, w2, ← k3]
    simp only [km_121_398]
/-- a local's value -/
theorem act_5 {σ0 τ0 σ τ : lj_S} {n np p : Nat} {r : List Nat} {FP : Nat → List kF} {ρ : Nat → Nat} {A MO LA : List Nat} (h : MB σ0 τ0 n np p r FP ρ A MO LA σ τ) {F : kF} {L : List kF} (hF : FP p = F :: L) (h0 : kS F = 0) (rg : rgR σ τ) (hs : stF σ0 τ0) {x : Nat} (hx : x ∈ (kY F).2.2.2.2.1) (k1 : σ0.1 22 (kY F).2.1 = 6 ∧ σ0.1 23 (kY F).2.1 = Int32.ofNat x) (k2 : τ0.1 20 (kY F).2.2.1 = 6 ∧ τ0.1 21 (kY F).2.2.1 = Int32.ofNat x) {n' : Nat} (hn : gn σ0 τ0 n' ((kY F).1, (kY F).2.1 + 1, (kY F).2.2.1 + 1, 0 :: (kY F).2.2.2.1, (kY F).2.2.2.2.1, (kY F).2.2.2.2.2)) :
    ∃ σ' τ', (∀ v, goC v σ = goC v σ') ∧ (∀ x, mRun x τ = mRun x τ') ∧ MB σ0 τ0 n np p r (fpT FP p (kTo F ((kY F).2.1 + 1) ((kY F).2.2.1 + 1) (0 :: (kY F).2.2.2.1) (kY F).2.2.2.2.1 (kY F).2.2.2.2.2 (n' + 1) 0 :: L)) ρ A MO LA σ' τ' ∧ rgR σ' τ' := by
  obtain ⟨cx, cy⟩ := h.cx hF h0 hs
  obtain ⟨⟨c1, c2, c3, c4, c5⟩, c6⟩ := cx (by rw [k1.1]; decide)
  obtain ⟨⟨m1, m2, m3, m4, m5, m6, m7⟩, m8⟩ := cy (by rw [k2.1]; decide)
  obtain ⟨ms, ks, ce, me, mq, pa, hp, ht, hw, t, hl, p26, h34, h8, at0, bd⟩ := h.v hF h0
  have hB : kB F = kC F + kD F := rfl
  obtain ⟨q1, _, _, _⟩ := stk_bd t.2.2.2.1
  obtain ⟨x1, x2⟩ := t.2.2.2.2.1.1 x hx
  have l50 := t.2.2.2.2.2.1.2.1
  have lsx : usd σ0 σ τ FP (kB F + x) := Or.inl ⟨p, ⟨F, by rw [hF]; exact List.mem_cons_self, h0, x, hx, rfl⟩, Or.inl (by rw [h.2.2.2.2.2.2.1.2.2.1.2]; decide)⟩
  obtain ⟨v1, v2⟩ := h.2.2.2.2.2.2.2.2.2.1.1 _ lsx
  have sl3 : kB F + x < 325000 := by omega
  unfold vaC at v2
  rw [if_pos sl3] at v2
  have e35 : σ.1 8 35 = Int32.ofNat (kB F) := by
    have := h.2.2.2.2.2.2.2.2.1
    rw [hF] at this
    exact this.2 h0
  have eb : σ.1 8 35 + Int32.ofNat x = Int32.ofNat (kB F + x) := by rw [e35, ← Int32.ofNat_add]
  have em : 50 * Int32.ofNat (48 * p + L.length) + Int32.ofNat x = Int32.ofNat (50 * (48 * p + L.length) + x) := by rw [show (50 : Int32) = Int32.ofNat 50 from rfl, ← Int32.ofNat_mul, ← Int32.ofNat_add]
  have i1 : lj_in (σ.1 8 35 + Int32.ofNat x) 325000 := by rw [eb]; exact ofN_in (by omega) (by omega)
  have i2 : lj_in (50 * Int32.ofNat (48 * p + L.length) + Int32.ofNat x) 62400 := by rw [em]; exact ofN_in (by omega) (by omega)
  have n1 : (σ.1 8 35 + Int32.ofNat x).toNatClampNeg = kB F + x := by rw [eb]; exact lz_onat (by omega)
  have n2 : (50 * Int32.ofNat (48 * p + L.length) + Int32.ofNat x).toNatClampNeg = 50 * (48 * p + L.length) + x := by rw [em]; exact lz_onat (by omega)
  have i3 : lj_in (τ.1 87 (50 * Int32.ofNat (48 * p + L.length) + Int32.ofNat x).toNatClampNeg) 95000 := by rw [n2, x2]; exact ofN_in v1 (by omega)
  have n3 : (τ.1 87 (50 * Int32.ofNat (48 * p + L.length) + Int32.ofNat x).toNatClampNeg).toNatClampNeg = ρ (kB F + x) := by rw [n2, x2]; exact lz_onat (by omega)
  refine act_push h hF h0 rg v2 ?_ ?_ hn
  · rw [ca_6 σ c1 c3 c4 (A := Int32.ofNat x) (by rw [c5, c6 23 (by decide) (by decide)]; exact k1.2) rfl (by rw [c5, c6 22 (by decide) (by decide)]; exact k1.1), if_pos i1, if_pos i1, c2, lz_osucc, n1]
    simp only [kc_139_1051]
    rfl
  · rw [mw_6 τ m1 m2 m3 m5 m6 (A := Int32.ofNat x) (by rw [m7, m8 21 (by decide) (by decide)]; exact k2.2) (by rw [m7, m8 20 (by decide) (by decide)]; exact k2.1), if_pos i2, if_pos i3, if_pos i2, if_pos i3, n3, m4, lz_osucc]
    simp only [km_121_398]
