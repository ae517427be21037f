/-! what came is delivered through a frame of pcall -/
noncomputable def finC (o : Option lj_O) : Option lj_O := lj_bv o (fun s => some (.inl none, s)) lj_up
theorem ocR.fin {σ0 τ0 : lj_S} {A : List Nat} {O : Nat → Prop} {σ τ : lj_S} {o : Option lj_O} (h : ocR σ0 τ0 A O σ τ o) : ocR σ0 τ0 A O σ τ (finC o) := by
  rcases h with ⟨σ', τ', n, np, p, r, FP, MO, LA, e, w⟩ | ⟨σ', τ', n, np, p, r, FP, ρ, MO, LA, e, w⟩ | ⟨σ', τ', e, w⟩ | ⟨σ', τ', n, np, p, r, FP, ρ, MO, LA, F, L, A', e, w⟩
  · exact Or.inl ⟨σ', τ', n, np, p, r, FP, MO, LA, by rw [e]; unfold finC; rw [bv_ok], w⟩
  · exact Or.inr (Or.inl ⟨σ', τ', n, np, p, r, FP, ρ, MO, LA, by rw [e]; unfold finC; rw [bv_th], w⟩)
  · exact Or.inr (Or.inr (Or.inl ⟨σ', τ', by rw [e]; unfold finC; rw [bv_ok], w⟩))
  · exact Or.inr (Or.inr (Or.inr ⟨σ', τ', n, np, p, r, FP, ρ, MO, LA, F, L, A', by rw [e]; unfold finC; rw [bv_ok], w⟩))
/-- the outcome from a later state is one from an earlier -/
theorem ocR.pre {σ0 τ0 : lj_S} {A : List Nat} {O O' : Nat → Prop} {σ τ σ1 τ1 : lj_S} {o : Option lj_O} (h : ocR σ0 τ0 A O σ1 τ1 o) (m : ∀ x, mRun x τ = mRun x τ1) (e : ∀ i ∈ A, σ1.1 103 i = σ.1 103 i) (hO : ∀ C, O C → O' C) : ocR σ0 τ0 A O' σ τ o := by
  rcases h with ⟨σ', τ', n, np, p, r, FP, MO, LA, x1, x2, x3, x4, x5, x6⟩ | ⟨σ', τ', n, np, p, r, FP, ρ, MO, LA, x1, x2, x3, x4, x5⟩ | ⟨σ', τ', x1, x2, x3, x4⟩ | ⟨σ', τ', n, np, p, r, FP, ρ, MO, LA, F, L, A', x1, x2, x3, x4, x5, x6, x7, x8, x9, x10, x11⟩
  · exact Or.inl ⟨σ', τ', n, np, p, r, FP, MO, LA, x1, fun x => (m x).trans (x2 x), x3, hO _ x4, x5, fun i hi => (x6 i hi).trans (e i hi)⟩
  · exact Or.inr (Or.inl ⟨σ', τ', n, np, p, r, FP, ρ, MO, LA, x1, fun x => (m x).trans (x2 x), x3, hO _ x4, x5⟩)
  · exact Or.inr (Or.inr (Or.inl ⟨σ', τ', x1, fun x => (m x).trans (x2 x), x3, fun i hi => (x4 i hi).trans (e i hi)⟩))
  · exact Or.inr (Or.inr (Or.inr ⟨σ', τ', n, np, p, r, FP, ρ, MO, LA, F, L, A', x1, fun x => (m x).trans (x2 x), x3, x4, x5, x6, x7, fun i hi => (x8 i hi).trans (e i (by rw [x6]; exact List.mem_cons_of_mem _ hi)), x9, hO _ x10, x11⟩))
theorem dl_prot {σ0 τ0 σ τ : lj_S} {n np p : Nat} {r : List Nat} {FP : Nat → List kF} {ρ : Nat → Nat} {A MO LA : List Nat} (h : MB σ0 τ0 n np p r FP ρ A MO LA σ τ) {F : kF} {L : List kF} (hF : FP p = F :: L) (hS : kS F = 1) {G G' : List vT} (d : dlR σ τ G G') (hl : G.length < 110) : ∃ σ2 τ2, lj_R lc_P 144 [.ref 8, .int 6] σ = finC (finC (lj_R lc_P 144 [.ref 8, .int (σ.1 98 (20 * p + L.length))] σ2)) ∧ (∀ x, mRun x τ = mRun x τ2) ∧ MB σ0 τ0 n np p r (fpT FP p L) ρ A MO LA σ2 τ2 ∧ dlR σ2 τ2 ((1, 1) :: G) ((1, 1) :: G') ∧ awR σ0 L (σ.1 98 (20 * p + L.length)) (τ2.1 0 130) (τ2.1 0 131) ∧ ∀ j, σ2.1 102 j = σ.1 102 j ∧ σ2.1 103 j = σ.1 103 j := by
  obtain ⟨⟨d1, d2, d3, d4, d5⟩, d6, d7, d8⟩ := d
  obtain ⟨σ2, e1, e2, e3, e4, ms, ks, m80, m81, m62, m65, m74, hL, hp, m111, e5⟩ := x_endP h hF hS d6 (by omega) 1
  obtain ⟨τa, a1, a2, a3⟩ := m_first d7 (by rw [← d8.1]; omega) 1
  have oa : ∀ k j, ¬ (k = 90 ∨ k = 91 ∨ k = 0 ∧ j = 140) → τa.1 k j = τ.1 k j ∧ τa.2 k j = τ.2 k j := fun k j z => a3 k j (by unfold rtM; simp; omega)
  obtain ⟨τb, hτb⟩ : ∃ τb, τb = lj_put (lj_put τa 0 130 (τ.1 78 (48 * p + L.length))) 0 131 (τ.1 79 (48 * p + L.length)) := ⟨_, rfl⟩
  have ob : ∀ k j, ¬ (k = 0 ∧ (j = 130 ∨ j = 131)) → τb.1 k j = τa.1 k j ∧ τb.2 k j = τa.2 k j := fun k j z => by
    rw [hτb]
    exact ⟨by rw [lj_put_1, if_neg (by omega), lj_put_1, if_neg (by omega)], rfl⟩
  have b111 : τb.1 0 111 = Int32.ofNat p := by rw [(ob 0 111 (by omega)).1, (oa 0 111 (by omega)).1]; exact m111
  have cl := m_closeF (τ := τb) (l := L.length) b111 hp (by rw [(ob 62 p (by omega)).1, (oa 62 p (by omega)).1]; exact m62) (by rw [(ob 65 p (by omega)).1, (oa 65 p (by omega)).1]; exact m65) (by omega)
  have b80 : τb.1 80 (48 * p + L.length) = Int32.ofNat ms := by rw [(ob 80 _ (by omega)).1, (oa 80 _ (by omega)).1]; exact m80
  have b81 : τb.1 81 (48 * p + L.length) = Int32.ofNat ks := by rw [(ob 81 _ (by omega)).1, (oa 81 _ (by omega)).1]; exact m81
  rw [b80, b81] at cl
  obtain ⟨τ2, hτ2⟩ : ∃ τ2, τ2 = lj_put (lj_put (lj_put (lj_put τb 63 p (Int32.ofNat ms)) 64 p (Int32.ofNat ks)) 65 p (Int32.ofNat L.length)) 62 p (Int32.ofNat L.length) := ⟨_, rfl⟩
  rw [← hτ2] at cl
  have o2 : ∀ k j, ¬ (62 ≤ k ∧ k ≤ 65 ∧ j = p) → τ2.1 k j = τb.1 k j ∧ τ2.2 k j = τb.2 k j := fun k j z => by
    rw [hτ2]
    exact ⟨by rw [lj_put_1, if_neg (by omega), lj_put_1, if_neg (by omega), lj_put_1, if_neg (by omega), lj_put_1, if_neg (by omega)], rfl⟩
  have mb := e5 τ2 (fun k j z => by
    have zz : szM k j = false := by
      cases y : szM k j with
      | false => rfl
      | true => exact absurd (Or.inr y) z
    obtain ⟨x1, x2⟩ := o2 k j (fun y => z (Or.inl y))
    obtain ⟨y1, y2⟩ := ob k j (by unfold szM at zz; simp at zz; omega)
    obtain ⟨z1, z2⟩ := oa k j (by unfold szM at zz; simp at zz; omega)
    exact ⟨x1.trans (y1.trans z1), x2.trans (y2.trans z2)⟩) (by rw [hτ2]; exact (by simp [lj_put_1, lj_putL_1])) (by rw [hτ2]; exact (by simp [lj_put_1, lj_putL_1])) (by rw [hτ2]; exact (by simp [lj_put_1, lj_putL_1])) (by rw [hτ2]; exact (by simp [lj_put_1, lj_putL_1]))
  have i111 : lj_in (τ.1 0 111) 26 := by rw [m111]; exact ofN_in (by omega) (by omega)
  have n111 : (τ.1 0 111).toNatClampNeg = p := by rw [m111]; exact lz_onat (by omega)
  have r122 : lj_R lm_P 122 [.ref 0] τ = some (.inl (some (.int (Int32.ofNat (48 * p + L.length)))), τ) := by
    rw [rm_122, km_122_0, if_pos i111, n111, m62, m111, show (48 : Int32) = Int32.ofNat 48 from rfl, ← Int32.ofNat_mul, ← Int32.ofNat_add, ← Nat.add_assoc, lz_pred']
  have imi : lj_in (Int32.ofNat (48 * p + L.length)) 1248 := ofN_in (by omega) (by omega)
  have nmi : (Int32.ofNat (48 * p + L.length)).toNatClampNeg = (48 * p + L.length) := lz_onat (by omega)
  have c62 : τ.1 62 (τ.1 0 111).toNatClampNeg ≠ 0 := by
    rw [n111, m62]
    intro z
    have := (ofN_eq (a := L.length + 1) (c := 0) (by omega) (by omega)).1 z
    omega
  have c74 : τ.1 74 (Int32.ofNat (48 * p + L.length)).toNatClampNeg = 1 := by rw [nmi]; exact m74
  have mr : lj_R lm_P 178 [.ref 0] τ = some (.inl none, τ2) := by
    rw [rm_178, km_178_0, if_pos i111, if_neg c62, r122, bi_ok, if_pos imi, if_pos c74, a1, bv_ok, if_pos imi, if_pos imi, nmi, (oa 78 _ (by omega)).1, (oa 79 _ (by omega)).1, ← hτb, cl, bv_ok]
  have vC : ∀ a b, vR σ τ a b → vR σ2 τ2 a b := fun a b w => w.cg (fun k j q => (e3 k j (by unfold vqC at q; simp at q; omega) (by unfold vqC at q; simp at q; omega) (by unfold vqC at q; simp at q; omega) (by unfold vqC at q; simp at q; omega)).1) (fun k j q => by
    rw [(o2 k j (by unfold vqM at q; simp at q; omega)).1, (ob k j (by unfold vqM at q; simp at q; omega)).1, (oa k j (by unfold vqM at q; simp at q; omega)).1])
  have m0 : ∀ j, ¬ (j = 130 ∨ j = 131 ∨ j = 140) → τ2.1 0 j = τ.1 0 j ∧ τ2.2 0 j = τ.2 0 j := fun j z => by
    obtain ⟨x1, x2⟩ := o2 0 j (by omega)
    obtain ⟨y1, y2⟩ := ob 0 j (by omega)
    obtain ⟨z1, z2⟩ := oa 0 j (by omega)
    exact ⟨x1.trans (y1.trans z1), x2.trans (y2.trans z2)⟩
  refine ⟨σ2, τ2, ?_, dl_step d2 d3 mr, mb, ⟨⟨?_, ?_, ?_, ?_, ?_⟩, e2, ?_, rwE.fr ⟨d8.1, d8.2.1, fun j => vC _ _ (d8.2.2 j)⟩ hl (vR_truth _ _ (Or.inr rfl))⟩, ?_, fun j => ⟨(e3 102 j (by omega) (by omega) (by omega) (by omega)).1, (e3 103 j (by omega) (by omega) (by omega) (by omega)).1⟩⟩
  · rw [rc_144, kc_144_0, if_neg (by decide), if_neg (by decide), if_neg (by decide), if_neg (by decide), if_neg (by decide), if_neg (by decide), if_pos rfl, e1]
    unfold finC
    congr 1
    funext s
    rw [kc_144_316]
  · rw [(e3 8 46 (by omega) (by omega) (by omega) (by omega)).1]; exact d1
  · rw [(m0 143 (by omega)).1]; exact d2
  · rw [(m0 129 (by omega)).1]; exact d3
  · rw [(e3 8 45 (by omega) (by omega) (by omega) (by omega)).1, (m0 144 (by omega)).1]; exact d4
  · rw [(e3 8 44 (by omega) (by omega) (by omega) (by omega)).2, (m0 145 (by omega)).2]; exact d5
  · refine ⟨?_, fun j hj => ?_⟩
    · unfold lv
      rw [(o2 0 140 (by omega)).1, (ob 0 140 (by omega)).1]
      exact a2.1
    · rw [(o2 90 j (by omega)).1, (ob 90 j (by omega)).1, (o2 91 j (by omega)).2, (ob 91 j (by omega)).2]
      exact a2.2 j hj
  · rw [(o2 0 130 (by omega)).1, (o2 0 131 (by omega)).1, hτb, lj_put_1, if_neg (by omega), lj_put_1, if_pos ⟨rfl, rfl⟩, lj_put_1, if_pos ⟨rfl, rfl⟩]
    exact e4
