/-! an error goes up: all cases -/
/-- the model's scratch may change where its height is shifted -/
theorem MB.sc63 {σ0 τ0 σ τ : lj_S} {n np p : Nat} {r : List Nat} {FP : Nat → List kF} {ρ : Nat → Nat} {A MO LA : List Nat} {x : Int32} (h : MB σ0 τ0 n np p r FP ρ A MO LA σ (lj_put τ 63 p x)) {σ' τ' : lj_S} (f : lf szC σ σ') (g : lf szM τ τ') : MB σ0 τ0 n np p r FP ρ A MO LA σ' (lj_put τ' 63 p x) := by
  refine h.sc f (fun k j q => ?_)
  obtain ⟨u1, u2⟩ := g k j q
  refine ⟨?_, u2⟩
  rw [lj_put_1, lj_put_1]
  by_cases z : k = 63 ∧ j = p
  · rw [if_pos z, if_pos z]
  · rw [if_neg z, if_neg z]
    exact u1
/-- the model, at a protected frame -/
theorem uw_prot {σ0 τ0 σ τ : lj_S} {n np p : Nat} {r : List Nat} {FP : Nat → List kF} {ρ : Nat → Nat} {A MO LA : List Nat} {x : Int32} (h : MB σ0 τ0 n np p r FP ρ A MO LA σ (lj_put τ 63 p x)) {F : kF} {L : List kF} (hF : FP p = F :: L) (hS : kS F = 1) (ry : ryR σ τ) (ht : τ.1 0 129 = 2) {u w : vT} (hr : rsC σ [u]) (hw : (τ.1 0 141, τ.2 0 142) = w) (huw : vR σ τ u w) : ∃ σ2 τ2, lj_R lc_P 148 [.ref 8, .int 0] σ = finC (lj_R lc_P 144 [.ref 8, .int (σ.1 98 (20 * p + L.length))] σ2) ∧ (∀ x, mRun x τ = mRun x τ2) ∧ MB σ0 τ0 n np p r (fpT FP p L) ρ A MO LA σ2 τ2 ∧ dlR σ2 τ2 [(1, 0), u] [(1, 0), w] ∧ awR σ0 L (σ.1 98 (20 * p + L.length)) (τ2.1 0 130) (τ2.1 0 131) ∧ ∀ j, σ2.1 102 j = σ.1 102 j ∧ σ2.1 103 j = σ.1 103 j := by
  obtain ⟨σ2, e1, e2, e3, e4, ms, ks, m80, m81, m62, m65, m74, hL, hp, m111, e5⟩ := x_endP h hF hS hr (by simp) 0
  obtain ⟨y1, y2, y3, y4⟩ := ry
  have q : ∀ k j, k ≠ 63 → (lj_put τ 63 p x).1 k j = τ.1 k j := fun k j z => by rw [lj_put_1, if_neg (by omega)]
  rw [q 78 _ (by omega), q 79 _ (by omega)] at e4
  rw [q 80 _ (by omega)] at m80
  rw [q 81 _ (by omega)] at m81
  rw [q 62 _ (by omega)] at m62
  rw [q 65 _ (by omega)] at m65
  rw [q 74 _ (by omega)] at m74
  rw [q 0 _ (by omega)] at m111
  have r0 : rsM (lj_put τ 0 140 0) [] := ⟨by unfold lv; rw [lj_put_1, if_pos ⟨rfl, rfl⟩]; rfl, fun j hj => absurd hj (by simp)⟩
  obtain ⟨τa, a1, a2, a3⟩ := m_also r0 (by decide) (τ.1 0 141, τ.2 0 142)
  have a1 : lj_R lm_P 184 [.ref 0, .int (τ.1 0 141), .long (τ.2 0 142)] (lj_put τ 0 140 0) = some (.inl none, τa) := a1
  rw [hw] at a2
  have a2 : rsM τa [w] := a2
  have oa : ∀ k j, ¬ (k = 90 ∨ k = 91 ∨ k = 0 ∧ j = 140) → τa.1 k j = τ.1 k j ∧ τa.2 k j = τ.2 k j := fun k j z => by
    obtain ⟨u1, u2⟩ := a3 k j (by unfold rtM; simp; omega)
    exact ⟨u1.trans (by rw [lj_put_1, if_neg (by omega)]), u2⟩
  obtain ⟨τb, hτb⟩ : ∃ τb, τb = lj_put (lj_put τa 0 130 (τ.1 78 (48 * p + L.length))) 0 131 (τ.1 79 (48 * p + L.length)) := ⟨_, rfl⟩
  have ob : ∀ k j, ¬ (k = 0 ∧ (j = 130 ∨ j = 131)) → τb.1 k j = τa.1 k j ∧ τb.2 k j = τa.2 k j := fun k j z => by
    rw [hτb]
    exact ⟨by rw [lj_put_1, if_neg (by omega), lj_put_1, if_neg (by omega)], rfl⟩
  have b111 : τb.1 0 111 = Int32.ofNat p := by rw [(ob 0 111 (by omega)).1, (oa 0 111 (by omega)).1]; exact m111
  have cl := m_closeF (τ := τb) (l := L.length) b111 hp (by rw [(ob 62 p (by omega)).1, (oa 62 p (by omega)).1]; exact m62) (by rw [(ob 65 p (by omega)).1, (oa 65 p (by omega)).1]; exact m65) (by omega)
  have b80 : τb.1 80 (48 * p + L.length) = Int32.ofNat ms := by rw [(ob 80 _ (by omega)).1, (oa 80 _ (by omega)).1]; exact m80
  have b81 : τb.1 81 (48 * p + L.length) = Int32.ofNat ks := by rw [(ob 81 _ (by omega)).1, (oa 81 _ (by omega)).1]; exact m81
  rw [b80, b81] at cl
  obtain ⟨τc, hτc⟩ : ∃ τc, τc = lj_put (lj_put (lj_put (lj_put τb 63 p (Int32.ofNat ms)) 64 p (Int32.ofNat ks)) 65 p (Int32.ofNat L.length)) 62 p (Int32.ofNat L.length) := ⟨_, rfl⟩
  rw [← hτc] at cl
  have oc : ∀ k j, ¬ (62 ≤ k ∧ k ≤ 65 ∧ j = p) → τc.1 k j = τb.1 k j ∧ τc.2 k j = τb.2 k j := fun k j z => by
    rw [hτc]
    exact ⟨by rw [lj_put_1, if_neg (by omega), lj_put_1, if_neg (by omega), lj_put_1, if_neg (by omega), lj_put_1, if_neg (by omega)], rfl⟩
  have rc : rsM τc [w] := by
    refine ⟨?_, fun j hj => ?_⟩
    · unfold lv
      rw [(oc 0 140 (by omega)).1, (ob 0 140 (by omega)).1]
      exact a2.1
    · rw [(oc 90 j (by omega)).1, (ob 90 j (by omega)).1, (oc 91 j (by omega)).2, (ob 91 j (by omega)).2]
      exact a2.2 j hj
  obtain ⟨τd, d1, d2, d3⟩ := m_first rc (by simp) 0
  have od : ∀ k j, ¬ (k = 90 ∨ k = 91 ∨ k = 0 ∧ j = 140) → τd.1 k j = τc.1 k j ∧ τd.2 k j = τc.2 k j := fun k j z => d3 k j (by unfold rtM; simp; omega)
  obtain ⟨τ2, hτ2⟩ : ∃ τ2, τ2 = lj_put τd 0 129 1 := ⟨_, rfl⟩
  have o2 : ∀ k j, ¬ (k = 0 ∧ j = 129) → τ2.1 k j = τd.1 k j ∧ τ2.2 k j = τd.2 k j := fun k j z => by
    rw [hτ2]
    exact ⟨by rw [lj_put_1, if_neg (by omega)], rfl⟩
  have all : ∀ k j, ¬ (62 ≤ k ∧ k ≤ 65 ∧ j = p) → ¬ (k = 90 ∨ k = 91 ∨ k = 0 ∧ (j = 129 ∨ j = 130 ∨ j = 131 ∨ j = 140)) → τ2.1 k j = τ.1 k j ∧ τ2.2 k j = τ.2 k j := fun k j z1 z2 => by
    obtain ⟨u1, u2⟩ := o2 k j (by omega)
    obtain ⟨v1, v2⟩ := od k j (by omega)
    obtain ⟨w1, w2⟩ := oc k j z1
    obtain ⟨x1, x2⟩ := ob k j (by omega)
    obtain ⟨y1, y2⟩ := oa k j (by omega)
    exact ⟨u1.trans (v1.trans (w1.trans (x1.trans y1))), u2.trans (v2.trans (w2.trans (x2.trans y2)))⟩
  have sel : ∀ k, 62 ≤ k → k ≤ 65 → τ2.1 k p = τc.1 k p := fun k z1 z2 => by rw [(o2 k p (by omega)).1, (od k p (by omega)).1]
  have mb := e5 τ2 (fun k j z => by
    have zz : szM k j = false := by
      cases y : szM k j with
      | false => rfl
      | true => exact absurd (Or.inr y) z
    obtain ⟨x1, x2⟩ := all k j (fun y => z (Or.inl y)) (by unfold szM at zz; simp at zz; omega)
    refine ⟨?_, x2⟩
    rw [x1, lj_put_1, if_neg (fun y => z (Or.inl ⟨by omega, by omega, y.2⟩))]) (by rw [sel 63 (by omega) (by omega), hτc]; exact (by simp [lj_put_1, lj_putL_1])) (by rw [sel 64 (by omega) (by omega), hτc]; exact (by simp [lj_put_1, lj_putL_1])) (by rw [sel 62 (by omega) (by omega), hτc]; exact (by simp [lj_put_1, lj_putL_1])) (by rw [sel 65 (by omega) (by omega), hτc]; exact (by simp [lj_put_1, lj_putL_1]))
  have ia : lj_in (τa.1 0 111) 26 := by rw [(oa 0 111 (by omega)).1, m111]; exact ofN_in (by omega) (by omega)
  have na : (τa.1 0 111).toNatClampNeg = p := by rw [(oa 0 111 (by omega)).1, m111]; exact lz_onat (by omega)
  have a62 : τa.1 62 p = Int32.ofNat (L.length + 1) := by rw [(oa 62 p (by omega)).1]; exact m62
  have r122 : lj_R lm_P 122 [.ref 0] τa = some (.inl (some (.int (Int32.ofNat (48 * p + L.length)))), τa) := by
    rw [rm_122, km_122_0, if_pos ia, na, a62, (oa 0 111 (by omega)).1, m111, show (48 : Int32) = Int32.ofNat 48 from rfl, ← Int32.ofNat_mul, ← Int32.ofNat_add, ← Nat.add_assoc, lz_pred']
  have imi : lj_in (Int32.ofNat (48 * p + L.length)) 1248 := ofN_in (by omega) (by omega)
  have nmi : (Int32.ofNat (48 * p + L.length)).toNatClampNeg = (48 * p + L.length) := lz_onat (by omega)
  have c62 : τa.1 62 (τa.1 0 111).toNatClampNeg ≠ 0 := by
    rw [na, a62]
    intro z
    have := (ofN_eq (a := L.length + 1) (c := 0) (by omega) (by omega)).1 z
    omega
  have c74 : τa.1 74 (Int32.ofNat (48 * p + L.length)).toNatClampNeg = 1 := by rw [nmi, (oa 74 _ (by omega)).1]; exact m74
  have d74 : τc.1 74 (Int32.ofNat (48 * p + L.length)).toNatClampNeg = 1 := by rw [nmi, (oc 74 _ (by omega)).1, (ob 74 _ (by omega)).1, (oa 74 _ (by omega)).1]; exact m74
  have e78 : τa.1 78 (Int32.ofNat (48 * p + L.length)).toNatClampNeg = τ.1 78 (48 * p + L.length) := by rw [nmi, (oa 78 _ (by omega)).1]
  have e79 : τa.1 79 (Int32.ofNat (48 * p + L.length)).toNatClampNeg = τ.1 79 (48 * p + L.length) := by rw [nmi, (oa 79 _ (by omega)).1]
  have vC : ∀ a b, vR σ τ a b → vR σ2 τ2 a b := fun a b w => w.cg (fun k j q => (e3 k j (by unfold vqC at q; simp at q; omega) (by unfold vqC at q; simp at q; omega) (by unfold vqC at q; simp at q; omega) (by unfold vqC at q; simp at q; omega)).1) (fun k j q => (all k j (by unfold vqM at q; simp at q; omega) (by unfold vqM at q; simp at q; omega)).1)
  have one : rwE σ τ [u] [w] := ⟨rfl, by simp, fun j => by
    cases j with
    | zero => exact huw
    | succ j => exact vR_nil _ _⟩
  refine ⟨σ2, τ2, e1, uw_step y2 ht ?_, mb, ⟨⟨?_, ?_, ?_, ?_, ?_⟩, e2, ?_, rwE.fr ⟨one.1, one.2.1, fun j => vC _ _ (one.2.2 j)⟩ (by simp) (vR_truth _ _ (Or.inl rfl))⟩, ?_, fun j => ⟨(e3 102 j (by omega) (by omega) (by omega) (by omega)).1, (e3 103 j (by omega) (by omega) (by omega) (by omega)).1⟩⟩
  · rw [rm_183, km_183_0, a1, bv_ok, if_pos ia, if_neg c62, r122, bi_ok, if_pos imi, if_neg (by rw [c74]; decide), if_pos imi, if_pos imi, e78, e79, ← hτb, cl, bv_ok, if_pos imi, if_pos d74, d1, bv_ok, km_183_115, hτ2]
  · rw [(e3 8 46 (by omega) (by omega) (by omega) (by omega)).1]; exact y1
  · rw [(all 0 143 (by omega) (by omega)).1]; exact y2
  · rw [hτ2]; exact (by simp [lj_put_1, lj_putL_1])
  · rw [(e3 8 45 (by omega) (by omega) (by omega) (by omega)).1, (all 0 144 (by omega) (by omega)).1]; exact y3
  · rw [(e3 8 44 (by omega) (by omega) (by omega) (by omega)).2, (all 0 145 (by omega) (by omega)).2]; exact y4
  · refine ⟨?_, fun j hj => ?_⟩
    · unfold lv
      rw [(o2 0 140 (by omega)).1]
      exact d2.1
    · rw [(o2 90 j (by omega)).1, (o2 91 j (by omega)).2]
      exact d2.2 j hj
  · rw [(o2 0 130 (by omega)).1, (o2 0 131 (by omega)).1, (od 0 130 (by omega)).1, (od 0 131 (by omega)).1, (oc 0 130 (by omega)).1, (oc 0 131 (by omega)).1, hτb, lj_put_1, if_neg (by omega), lj_put_1, if_pos ⟨rfl, rfl⟩, lj_put_1, if_pos ⟨rfl, rfl⟩]
    exact e4
