/-! an error goes up through a frame of the text: both -/
theorem uw_step {τ τ' : lj_S} (h1 : τ.1 0 143 = 0) (h2 : τ.1 0 129 = 2) (e : lj_R lm_P 183 [.ref 0] τ = some (.inl none, τ')) (x : Int32) : mRun x τ = mRun x τ' := by
  unfold mRun
  rw [km_120_46, if_pos h1, if_neg (by rw [h2]; decide), if_neg (by rw [h2]; decide), if_pos h2, e, bv_ok]
theorem uw1 {σ0 τ0 σ τ : lj_S} {n np p : Nat} {r : List Nat} {FP : Nat → List kF} {ρ : Nat → Nat} {A MO LA : List Nat} {x : Int32} (h : MB σ0 τ0 n np p r FP ρ A MO LA σ (lj_put τ 63 p x)) {F : kF} {L : List kF} (hF : FP p = F :: L) (h0 : kS F = 0) (ho : τ.1 0 143 = 0) (ht : τ.1 0 129 = 2) : ∃ σ' ρ' τ2, lj_R lc_P 149 [.ref 8] σ = some (.inl none, σ') ∧ (∀ x, mRun x τ = mRun x τ2) ∧ MB σ0 τ0 n np p r (fpT FP p L) ρ' A MO LA σ' τ2 ∧ (∀ k j, ¬ (74 ≤ k ∧ k ≤ 76) → k ≠ 81 → ¬ (k = 8 ∧ (j = 8 ∨ j = 34 ∨ j = 35)) → k ≠ 90 → σ'.1 k j = σ.1 k j ∧ σ'.2 k j = σ.2 k j) ∧ ∀ k j, ¬ (62 ≤ k ∧ k ≤ 65 ∧ j = p) → ¬ (k = 90 ∨ k = 91) → ¬ (k = 0 ∧ (j = 130 ∨ j = 131 ∨ j = 140)) → τ2.1 k j = τ.1 k j ∧ τ2.2 k j = τ.2 k j := by
  obtain ⟨σ', ρ', ms, ks, e1, ⟨m80, m81, m62, m65, m74, hL, hp, m111⟩, e2, e3⟩ := x_popg h hF h0
  have q : ∀ k j, k ≠ 63 → (lj_put τ 63 p x).1 k j = τ.1 k j := fun k j z => by rw [lj_put_1, if_neg (by omega)]
  rw [q 80 _ (by omega)] at m80
  rw [q 81 _ (by omega)] at m81
  rw [q 62 _ (by omega)] at m62
  rw [q 65 _ (by omega)] at m65
  rw [q 74 _ (by omega)] at m74
  rw [q 0 _ (by omega)] at m111
  have r0 : rsM (lj_put τ 0 140 0) [] := ⟨by unfold lv; rw [lj_put_1, if_pos ⟨rfl, rfl⟩]; rfl, fun j hj => absurd hj (by simp)⟩
  obtain ⟨τa, a1, a2, a3⟩ := m_also r0 (by decide) (τ.1 0 141, τ.2 0 142)
  have oa : ∀ k j, ¬ (k = 90 ∨ k = 91 ∨ k = 0 ∧ j = 140) → τa.1 k j = τ.1 k j ∧ τa.2 k j = τ.2 k j := fun k j z => by
    obtain ⟨u1, u2⟩ := a3 k j (by unfold rtM; simp; omega)
    exact ⟨u1.trans (by rw [lj_put_1, if_neg (by omega)]), u2⟩
  obtain ⟨τb, hτb⟩ : ∃ τb, τb = lj_put (lj_put τa 0 130 (τ.1 78 (48 * p + L.length))) 0 131 (τ.1 79 (48 * p + L.length)) := ⟨_, rfl⟩
  have ob : ∀ k j, ¬ (k = 0 ∧ (j = 130 ∨ j = 131)) → τb.1 k j = τa.1 k j ∧ τb.2 k j = τa.2 k j := fun k j z => by
    rw [hτb]
    exact ⟨by rw [lj_put_1, if_neg (by omega), lj_put_1, if_neg (by omega)], rfl⟩
  have b111 : τb.1 0 111 = Int32.ofNat p := by rw [(ob 0 111 (by omega)).1, (oa 0 111 (by omega)).1]; exact m111
  have cl := m_closeF (τ := τb) (l := L.length) b111 hp (by rw [(ob 62 p (by omega)).1, (oa 62 p (by omega)).1]; exact m62) (by rw [(ob 65 p (by omega)).1, (oa 65 p (by omega)).1]; exact m65) (by omega)
  have b80 : τb.1 80 (48 * p + L.length) = Int32.ofNat ms := by rw [(ob 80 _ (by omega)).1, (oa 80 _ (by omega)).1]; exact m80
  have b81 : τb.1 81 (48 * p + L.length) = Int32.ofNat ks := by rw [(ob 81 _ (by omega)).1, (oa 81 _ (by omega)).1]; exact m81
  rw [b80, b81] at cl
  obtain ⟨τ2, hτ2⟩ : ∃ τ2, τ2 = lj_put (lj_put (lj_put (lj_put τb 63 p (Int32.ofNat ms)) 64 p (Int32.ofNat ks)) 65 p (Int32.ofNat L.length)) 62 p (Int32.ofNat L.length) := ⟨_, rfl⟩
  rw [← hτ2] at cl
  have o2 : ∀ k j, ¬ (62 ≤ k ∧ k ≤ 65 ∧ j = p) → τ2.1 k j = τb.1 k j ∧ τ2.2 k j = τb.2 k j := fun k j z => by
    rw [hτ2]
    exact ⟨by rw [lj_put_1, if_neg (by omega), lj_put_1, if_neg (by omega), lj_put_1, if_neg (by omega), lj_put_1, if_neg (by omega)], rfl⟩
  have mb := e2 τ2 (fun k j z => by
    have zz : szM k j = false := by
      cases y : szM k j with
      | false => rfl
      | true => exact absurd (Or.inr y) z
    obtain ⟨x1, x2⟩ := o2 k j (fun y => z (Or.inl y))
    obtain ⟨y1, y2⟩ := ob k j (by unfold szM at zz; simp at zz; omega)
    obtain ⟨z1, z2⟩ := oa k j (by unfold szM at zz; simp at zz; omega)
    refine ⟨?_, x2.trans (y2.trans z2)⟩
    rw [x1.trans (y1.trans z1), lj_put_1, if_neg (fun y => z (Or.inl ⟨by omega, by omega, y.2⟩))]) (by rw [hτ2]; exact (by simp [lj_put_1, lj_putL_1])) (by rw [hτ2]; exact (by simp [lj_put_1, lj_putL_1])) (by rw [hτ2]; exact (by simp [lj_put_1, lj_putL_1])) (by rw [hτ2]; exact (by simp [lj_put_1, lj_putL_1]))
  have ia : lj_in (τa.1 0 111) 26 := by rw [(oa 0 111 (by omega)).1, m111]; exact ofN_in (by omega) (by omega)
  have na : (τa.1 0 111).toNatClampNeg = p := by rw [(oa 0 111 (by omega)).1, m111]; exact lz_onat (by omega)
  have a62 : τa.1 62 p = Int32.ofNat (L.length + 1) := by rw [(oa 62 p (by omega)).1]; exact m62
  have r122 : lj_R lm_P 122 [.ref 0] τa = some (.inl (some (.int (Int32.ofNat (48 * p + L.length)))), τa) := by
    rw [rm_122, km_122_0, if_pos ia, na, a62, (oa 0 111 (by omega)).1, m111, show (48 : Int32) = Int32.ofNat 48 from rfl, ← Int32.ofNat_mul, ← Int32.ofNat_add, ← Nat.add_assoc, lz_pred']
  have imi : lj_in (Int32.ofNat (48 * p + L.length)) 1248 := ofN_in (by omega) (by omega)
  have nmi : (Int32.ofNat (48 * p + L.length)).toNatClampNeg = (48 * p + L.length) := lz_onat (by omega)
  have c62 : τa.1 62 (τa.1 0 111).toNatClampNeg ≠ 0 := by
    rw [na, a62]
    intro z
    have := (ofN_eq (a := L.length + 1) (c := 0) (by omega) (by omega)).1 z
    omega
  have c74 : τa.1 74 (Int32.ofNat (48 * p + L.length)).toNatClampNeg = 0 := by rw [nmi, (oa 74 _ (by omega)).1]; exact m74
  have d74 : τ2.1 74 (Int32.ofNat (48 * p + L.length)).toNatClampNeg = 0 := by rw [nmi, (o2 74 _ (by omega)).1, (ob 74 _ (by omega)).1, (oa 74 _ (by omega)).1]; exact m74
  have e78 : τa.1 78 (Int32.ofNat (48 * p + L.length)).toNatClampNeg = τ.1 78 (48 * p + L.length) := by rw [nmi, (oa 78 _ (by omega)).1]
  have e79 : τa.1 79 (Int32.ofNat (48 * p + L.length)).toNatClampNeg = τ.1 79 (48 * p + L.length) := by rw [nmi, (oa 79 _ (by omega)).1]
  have a1 : lj_R lm_P 184 [.ref 0, .int (τ.1 0 141), .long (τ.2 0 142)] (lj_put τ 0 140 0) = some (.inl none, τa) := a1
  refine ⟨σ', ρ', τ2, e1, uw_step ho ht ?_, mb, e3, fun k j z1 z2 z3 => ?_⟩
  · rw [rm_183, km_183_0, a1, bv_ok, if_pos ia, if_neg c62, r122, bi_ok, if_pos imi, if_neg (by rw [c74]; decide), if_pos imi, if_pos imi, e78, e79, ← hτb, cl, bv_ok, if_pos imi, if_neg (by rw [d74]; decide), km_183_115]
  · obtain ⟨x1, x2⟩ := o2 k j z1
    obtain ⟨y1, y2⟩ := ob k j (by omega)
    obtain ⟨w1, w2⟩ := oa k j (by omega)
    exact ⟨x1.trans (y1.trans w1), x2.trans (y2.trans w2)⟩
