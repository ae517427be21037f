/-! a call -/
/-- what is given to a call is not too much -/
def gvK (k p : Nat) (r : List Nat) (FP : Nat → List kF) (σ : lj_S) (a : vT) (G : List vT) : Prop := (G.length + pfx FP (p :: r) ≤ 30 ∧ G.length + 100 ≤ k) ∨ (G.length ≤ 48 ∧ a.1 = 4 ∧ (∃ u, evC σ a u ∧ u.1 = 5) ∧ 20 ≤ (FP p).length + k) ∨ (G.length ≤ 48 ∧ a.1 = 0)
/-- what is given to what is built in is not too much -/
def gvB (k p : Nat) (r : List Nat) (FP : Nat → List kF) (σ : lj_S) (w : Nat) (G : List vT) : Prop := (G.length + pfx FP (p :: r) ≤ 30 ∧ G.length + 100 ≤ k) ∨ (G.length ≤ 49 ∧ (∃ c G2, G = c :: G2 ∧ c.1 = 4 ∧ evC σ c (5, bn w)) ∧ 20 ≤ (FP p).length + k)
/-- a call: what is owed of it -/
def CAL (σ0 τ0 : lj_S) (M k : Nat) : Prop := ∀ (n np p : Nat) (r : List Nat) (FP : Nat → List kF) (ρ : Nat → Nat) (A MO LA : List Nat) (σ τ : lj_S) (a b : vT) (G G' : List vT) (as line : Int32), MB σ0 τ0 n np p r FP ρ A MO LA σ τ → ryR σ τ → wkR FP (p :: r) A σ → vR σ τ a b → (τ.1 0 133, τ.2 0 134) = b → τ.1 0 129 = 3 → awR σ0 (FP p) as (τ.1 0 130) (τ.1 0 131) → τ.1 0 132 = line → gwR σ τ G G' → gvK k p r FP σ a G → thM FP (p :: r) MO LA ≤ M → thM FP (p :: r) MO LA + 5001 ≤ TH → ocR σ0 τ0 A (fun t => t ≤ thM FP (p :: r) MO LA + 5001) σ τ (lj_R lc_P 155 [.ref 8, .int a.1, .long a.2, .int as, .int line] σ)
/-- what is built in: what is owed of it -/
def BLT (σ0 τ0 : lj_S) (M k w : Nat) : Prop := ∀ (n np p : Nat) (r : List Nat) (FP : Nat → List kF) (ρ : Nat → Nat) (A MO LA : List Nat) (σ τ : lj_S) (G G' : List vT) (as line : Int32), MB σ0 τ0 n np p r FP ρ A MO LA σ τ → ryR σ τ → wkR FP (p :: r) A σ → τ.1 0 129 = 1 → awR σ0 (FP p) as (τ.1 0 130) (τ.1 0 131) → τ.1 0 132 = line → gwR σ τ G G' → gvB k p r FP σ w G → thM FP (p :: r) MO LA ≤ M → thM FP (p :: r) MO LA + 5001 ≤ TH → ∃ τ1, lj_R lm_P 187 [.ref 0, .int (Int32.ofNat w)] τ = some (.inl none, τ1) ∧ ocR σ0 τ0 A (fun t => t ≤ thM FP (p :: r) MO LA + 5001) σ τ1 (lj_R lc_P 159 [.ref 8, .int (Int32.ofNat w), .int as, .int line] σ)
theorem evC_tb {σ : lj_S} {a u : vT} (h : evC σ a u) (hu : u.1 ≠ 0) : a.1 = 4 := by
  refine Classical.byContradiction (fun z => ?_)
  unfold evC at h
  rw [rc_118, kc_118_0, if_neg z, kc_118_15] at h
  have := fdC_inj (σ := σ) (u := (0, 0)) (w := u) (Prod.mk.inj (Option.some.inj h)).2
  rw [← this] at hu
  exact hu rfl
theorem evC_fn {σ : lj_S} {a u w : vT} (h : evC σ a u) (g : evC σ a w) : u = w := by
  unfold evC at h g
  rw [h] at g
  exact fdC_inj (Prod.mk.inj (Option.some.inj g)).2
theorem cgC_z {σ σ' : lj_S} (h : lf cgC σ σ') : lf szC σ σ' := h.mo (fun k j q => by unfold szC at q; unfold cgC; simp at q ⊢; omega)
theorem cgM_z {σ σ' : lj_S} (h : lf cgM σ σ') : lf szM σ σ' := h.mo (fun k j q => by unfold szM at q; unfold cgM; simp at q ⊢; omega)
theorem ryR.cg {σ τ σ' τ' : lj_S} (ry : ryR σ τ) (f : lf cgC σ σ') (g : lf cgM τ τ') : ryR σ' τ' := ⟨by rw [(f 8 46 rfl).1]; exact ry.1, by rw [(g 0 143 rfl).1]; exact ry.2.1, by rw [(f 8 45 rfl).1, (g 0 144 rfl).1]; exact ry.2.2.1, by rw [(f 8 44 rfl).2, (g 0 145 rfl).2]; exact ry.2.2.2⟩
theorem wkR.cg {FP : Nat → List kF} {ch A : List Nat} {σ σ' : lj_S} (h : wkR FP ch A σ) (f : lf cgC σ σ') : wkR FP ch A σ' := ⟨fun i hi => by rw [(f 102 i rfl).1]; exact h.1 i hi, h.2⟩
/-- the chain has come to a function -/
theorem ch_fun {σ0 τ0 σ τ : lj_S} {Fn : Nat} (fx : FR σ0 τ0 Fn) {M k : Nat} (B : ∀ w, w < 32 → BLT σ0 τ0 M k w) {n np p : Nat} {r : List Nat} {FP : Nat → List kF} {ρ : Nat → Nat} {A MO LA : List Nat} (h : MB σ0 τ0 n np p r FP ρ A MO LA σ τ) (ry : ryR σ τ) (hwk : wkR FP (p :: r) A σ) {a b : vT} (hab : vR σ τ a b) (h5 : a.1 = 5) (hb : (τ.1 0 133, τ.2 0 134) = b) {as line : Int32} (ha : awR σ0 (FP p) as (τ.1 0 130) (τ.1 0 131)) (hln : τ.1 0 132 = line) {G G' : List vT} (hG : gwR σ τ G G') (hGl : G.length ≤ 49) (hM : thM FP (p :: r) MO LA ≤ M) (hT : thM FP (p :: r) MO LA + 5001 ≤ TH) (hB : ∀ w, a = (5, bn w) → gvB k p r FP σ w G) (x1 : Int32) (x2 : Int64) (t : Int32) (X Y Z : Value) : ∃ τ1, lj_D lm_P lm_M185 2 [.ref 0, .int t, Z] [] τ = some (.inl none, τ1) ∧ ocR σ0 τ0 A (fun t => t ≤ thM FP (p :: r) MO LA + 5001) σ τ1 (lj_D lc_P lc_M155 9 [.ref 8, .int x1, .long x2, .retAddr 0, .int as, .int line, .int a.1, .long a.2, .retAddr 0, .int t, X, Y, .retAddr 0] [] σ) := by
  have hb1 : τ.1 0 133 = b.1 := by rw [← hb]
  have hb2 : τ.2 0 134 = b.2 := by rw [← hb]
  have m140 : lj_R lm_P 140 [.int b.1] τ = some (.inl (some (.int 1)), τ) := by
    rw [rm_140, km_140_0]
    rcases hab.kf.1 h5 with z | z
    · rw [if_pos z, km_140_11, km_140_16]; rfl
    · rw [if_neg (by rw [z]; decide), if_pos z, km_140_11, km_140_16]; rfl
  rcases hab.fn h5 with ⟨o, e1, e2, ob⟩ | ⟨w, hw, e1, e2⟩
  · obtain ⟨o1, o2, o3, o4, o5⟩ := ob
    have on : o ≤ n := by have := h.2.2.2.1.2.1; omega
    obtain ⟨f, f1, f2, f3⟩ := (h.2.2.2.2.1.2 o o1 on).2.2.1 o4
    obtain ⟨τ1, c1, c2⟩ := x_enter h fx ry hwk ⟨o1, o2, o3, o4, o5⟩ f1 f2 ha hln hG hGl
    have io : lj_in (Int32.ofNat o) 2001 := ofN_in (by omega) (by omega)
    have no : (Int32.ofNat o).toNatClampNeg = o := lz_onat (by omega)
    refine ⟨τ1, ?_, ?_⟩
    · rw [km_185_2, hb1, m140, bi_ok, if_neg (by decide), hb1, if_pos (by rw [e2]), hb2, e2]
      show lj_bv (lj_R lm_P 186 [.ref 0, .int (i64 o).toInt32] τ) _ _ = _
      rw [i64_32, c1, bv_ok, km_185_191]
    · rw [e1]
      rw [kc_155_9, if_pos rfl, if_pos ((lg_ge _ _).2 (Int64.not_lt.1 (i64_nneg (by omega))))]
      simp only [i64_32, if_pos io, no, f2]
      have := c2.fin
      unfold finC at this
      simp only [kc_155_164]
      exact this
  · obtain ⟨τ1, c1, c2⟩ := B w hw n np p r FP ρ A MO LA σ (lj_put τ 0 129 1) G G' as line (h.t129 1) ⟨ry.1, by rw [lj_put_1, if_neg (by omega)]; exact ry.2.1, by rw [lj_put_1, if_neg (by omega)]; exact ry.2.2.1, ry.2.2.2⟩ hwk (by simp [lj_put_1, lj_putL_1]) (by rw [lj_put_1, if_neg (by omega), lj_put_1, if_neg (by omega)]; exact ha) (by rw [lj_put_1, if_neg (by omega)]; exact hln) ⟨hG.1, ⟨by unfold lv; rw [lj_put_1, if_neg (by omega)]; exact hG.2.1.1, fun j hj => by rw [lj_put_1, if_neg (by omega)]; exact hG.2.1.2 j hj⟩, hG.2.2.1, fun j hj => (hG.2.2.2 j hj).cg (fun _ _ _ => rfl) (fun k j q => by rw [lj_put_1, if_neg (by unfold vqM at q; simp at q; omega)])⟩ (hB w e1) hM hT
    refine ⟨τ1, ?_, ?_⟩
    · rw [km_185_2, hb1, m140, bi_ok, if_neg (by decide), hb1, if_neg (by rw [e2]; exact (by decide : ¬ ((7 : Int32) = 5))), hb2, e2]
      show lj_bv (lj_R lm_P 187 [.ref 0, .int (i64 w).toInt32] (lj_put τ 0 129 1)) _ _ = _
      rw [i64_32, c1, bv_ok, km_185_191]
    · rw [e1]
      rw [kc_155_9, if_pos rfl, if_neg (fun z => Int64.not_le.2 (bn_neg (show w < 2147483648 by omega)) ((lg_ge _ _).1 z))]
      simp only [bn_32 (show w < 2147483648 by omega)]
      have := c2.fin
      unfold finC at this
      simp only [kc_155_164]
      exact this
/-- the chain -/
theorem ch_all {σ0 τ0 : lj_S} {Fn : Nat} (fx : FR σ0 τ0 Fn) {M k : Nat} (B : ∀ w, w < 32 → BLT σ0 τ0 M k w) {n np p : Nat} {r : List Nat} {FP : Nat → List kF} {ρ : Nat → Nat} {A MO LA : List Nat} {as line : Int32} (hM : thM FP (p :: r) MO LA ≤ M) (hT : thM FP (p :: r) MO LA + 5001 ≤ TH) (x1 : Int32) (x2 : Int64) : ∀ (d t : Nat) (σ τ : lj_S) (a b : vT) (G G' : List vT) (X Y Z : Value), t + d = 20 → 1 ≤ t → MB σ0 τ0 n np p r FP ρ A MO LA σ τ → ryR σ τ → wkR FP (p :: r) A σ → vR σ τ a b → (τ.1 0 133, τ.2 0 134) = b → awR σ0 (FP p) as (τ.1 0 130) (τ.1 0 131) → τ.1 0 132 = line → gwR σ τ G G' → (G.length + pfx FP (p :: r) ≤ 30 ∧ G.length + 100 ≤ k ∨ G.length ≤ 29 + t ∧ 100 ≤ k ∧ ∃ c G2, G = c :: G2 ∧ c.1 = 4 ∧ evC σ c a) → ∃ τ1, lj_D lm_P lm_M185 2 [.ref 0, .int (Int32.ofNat t), Z] [] τ = some (.inl none, τ1) ∧ ocR σ0 τ0 A (fun t => t ≤ thM FP (p :: r) MO LA + 5001) σ τ1 (lj_D lc_P lc_M155 9 [.ref 8, .int x1, .long x2, .retAddr 0, .int as, .int line, .int a.1, .long a.2, .retAddr 0, .int (Int32.ofNat t), X, Y, .retAddr 0] [] σ)
  | d, t, σ, τ, a, b, G, G', X, Y, Z, hd, ht, h, ry, hwk, hab, hb, ha, hln, hG, hI => by
    have hGl : G.length ≤ 49 := by rcases hI with z | z <;> omega
    by_cases h5 : a.1 = 5
    · refine ch_fun fx B h ry hwk hab h5 hb ha hln hG hGl hM hT (fun w e => ?_) x1 x2 _ X Y Z
      rcases hI with z | ⟨_, z, c, G2, z1, z2, z3⟩
      · exact Or.inl z
      · exact Or.inr ⟨hGl, ⟨c, G2, z1, z2, by rw [← e]; exact z3⟩, by omega⟩
    · obtain ⟨u, w, e1, e2, e3, e4⟩ := ch_step h hab h5 hb as line hln hG (by omega) x1 x2 X Y Z (t := t) (by omega)
      by_cases z : u.1 = 0 ∨ t = 20
      · obtain ⟨σ', τ', q1, q2, q3⟩ := e3 z
        have l1 : lf cgC σ (fdC σ u) := lf_putL (lf_put (lf_rf cgC σ) 7 27 u.1 rfl) 7 28 u.2 rfl
        have l2 : lf cgM τ (fdM τ w) := lf_putL (lf_put (lf_rf cgM τ) 0 90 w.1 rfl) 0 91 w.2 rfl
        refine ⟨τ', q3, ?_⟩
        rw [q2]
        exact (h.sc (cgC_z l1) (cgM_z l2)).eoc (O := fun t => t ≤ thM FP (p :: r) MO LA + 5001) (ry.cg l1 l2) q1 (hwk.cg l1) (Nat.add_le_add_left (by decide) _)
      · have u0 : u.1 ≠ 0 := fun y => z (Or.inl y)
        have t0 : t < 20 := by
          have : t ≠ 20 := fun y => z (Or.inr y)
          omega
        obtain ⟨σ1, τ1, X', Y', Z', l1, l2, g1, g2, g3, g4⟩ := e4 u0 t0
        obtain ⟨d', rfl⟩ : ∃ d', d = d' + 1 := ⟨d - 1, by omega⟩
        have v1 : vR σ1 τ1 u w := e1.cg (fun k j q => (l1 k j (by unfold vqC at q; unfold cgC; simp at q ⊢; omega)).1) (fun k j q => (l2 k j (by unfold vqM at q; unfold cgM; simp at q ⊢; omega)).1)
        have ev : evC σ1 a u := evC.cg h.2.2.2.1 h.2.2.2.2.1 hab e2 (fun k j q => l1 k j (by unfold hqC vqC at q; unfold cgC; simp at q ⊢; omega)) (fun j => (l1 58 j rfl).1) (l1 78 19 rfl).1
        obtain ⟨τ2, c1, c2⟩ := ch_all (as := as) (line := line) fx B hM hT x1 x2 d' (t + 1) σ1 τ1 u w (a :: G) (b :: G') X' Y' Z' (by omega) (by omega) (h.sc (cgC_z l1) (cgM_z l2)) (ry.cg l1 l2) (hwk.cg l1) v1 g2 (by rw [(l2 0 130 rfl).1, (l2 0 131 rfl).1]; exact ha) (by rw [(l2 0 132 rfl).1]; exact hln) g1 (Or.inr ⟨by rw [List.length_cons]; rcases hI with y | y <;> omega, by rcases hI with y | y <;> omega, a, G, rfl, evC_tb e2 u0, ev⟩)
        refine ⟨τ2, by rw [g4]; exact c1, ?_⟩
        rw [g3]
        exact c2.pre (fun _ => rfl) (fun i _ => (l1 103 i rfl).1) (fun _ y => y)
theorem cl_step {τ τ' : lj_S} (h1 : τ.1 0 143 = 0) (h2 : τ.1 0 129 = 3) (e : lj_R lm_P 185 [.ref 0] τ = some (.inl none, τ')) (x : Int32) : mRun x τ = mRun x τ' := by
  unfold mRun
  rw [km_120_46, if_pos h1, if_neg (by rw [h2]; decide), if_neg (by rw [h2]; decide), if_neg (by rw [h2]; decide), if_pos h2, e, bv_ok]
/-- a call, if what is built in is known -/
theorem x_call {σ0 τ0 : lj_S} {Fn : Nat} (fx : FR σ0 τ0 Fn) {M k : Nat} (B : ∀ w, w < 32 → BLT σ0 τ0 M k w) : CAL σ0 τ0 M k := fun n np p r FP ρ A MO LA σ τ a b G G' as line h ry hwk hab hb ht ha hln hG hK hM hT => by
  have fin : (∃ τ1, lj_D lm_P lm_M185 2 [.ref 0, .int (Int32.ofNat 1), .retAddr 0] [] τ = some (.inl none, τ1) ∧ ocR σ0 τ0 A (fun t => t ≤ thM FP (p :: r) MO LA + 5001) σ τ1 (lj_D lc_P lc_M155 9 [.ref 8, .int a.1, .long a.2, .retAddr 0, .int as, .int line, .int a.1, .long a.2, .retAddr 0, .int (Int32.ofNat 1), .retAddr 0, .retAddr 0, .retAddr 0] [] σ)) → ocR σ0 τ0 A (fun t => t ≤ thM FP (p :: r) MO LA + 5001) σ τ (lj_R lc_P 155 [.ref 8, .int a.1, .long a.2, .int as, .int line] σ) := fun ⟨τ1, c1, c2⟩ => by
    rw [rc_155 _ _ _ _ _ h.g0, kc_155_0]
    exact c2.pre (cl_step ry.2.1 ht (by rw [rm_185, km_185_0]; exact c1)) (fun _ _ => rfl) (fun _ y => y)
  refine fin ?_
  rcases hK with z | ⟨z1, z2, ⟨u0, z3, z4⟩, z5⟩ | ⟨z1, z2⟩
  · exact ch_all fx B hM hT a.1 a.2 19 1 σ τ a b G G' _ _ _ rfl (Nat.le_refl _) h ry hwk hab hb ha hln hG (Or.inl z)
  · have h5 : a.1 ≠ 5 := by rw [z2]; decide
    obtain ⟨u, w, e1, e2, e3, e4⟩ := ch_step h hab h5 hb as line hln hG (by omega) a.1 a.2 (.retAddr 0) (.retAddr 0) (.retAddr 0) (t := 1) (by omega)
    have uu := evC_fn e2 z3
    rw [← uu] at z4
    have u0' : u.1 ≠ 0 := by rw [z4]; decide
    obtain ⟨σ1, τ1, X', Y', Z', l1, l2, g1, g2, g3, g4⟩ := e4 u0' (by omega)
    have v1 : vR σ1 τ1 u w := e1.cg (fun k j q => (l1 k j (by unfold vqC at q; unfold cgC; simp at q ⊢; omega)).1) (fun k j q => (l2 k j (by unfold vqM at q; unfold cgM; simp at q ⊢; omega)).1)
    have ev : evC σ1 a u := evC.cg h.2.2.2.1 h.2.2.2.2.1 hab e2 (fun k j q => l1 k j (by unfold hqC vqC at q; unfold cgC; simp at q ⊢; omega)) (fun j => (l1 58 j rfl).1) (l1 78 19 rfl).1
    have gl : (a :: G).length ≤ 49 := by rw [List.length_cons]; omega
    obtain ⟨τ2, c1, c2⟩ := ch_fun (as := as) (line := line) fx B (h.sc (cgC_z l1) (cgM_z l2)) (ry.cg l1 l2) (hwk.cg l1) v1 z4 g2 (by rw [(l2 0 130 rfl).1, (l2 0 131 rfl).1]; exact ha) (by rw [(l2 0 132 rfl).1]; exact hln) g1 gl hM hT (fun w e => Or.inr ⟨gl, ⟨a, G, rfl, z2, by rw [← e]; exact ev⟩, z5⟩) a.1 a.2 (Int32.ofNat 2) X' Y' Z'
    refine ⟨τ2, by rw [g4]; exact c1, ?_⟩
    rw [g3]
    exact c2.pre (fun _ => rfl) (fun i _ => (l1 103 i rfl).1) (fun _ y => y)
  · have h5 : a.1 ≠ 5 := by rw [z2]; decide
    obtain ⟨u, w, e1, e2, e3, e4⟩ := ch_step h hab h5 hb as line hln hG (by omega) a.1 a.2 (.retAddr 0) (.retAddr 0) (.retAddr 0) (t := 1) (by omega)
    have u0 : u.1 = 0 := Classical.byContradiction (fun y => by
      have := evC_tb e2 y
      rw [z2] at this
      exact absurd this (by decide))
    obtain ⟨σ', τ', q1, q2, q3⟩ := e3 (Or.inl u0)
    have l1 : lf cgC σ (fdC σ u) := lf_putL (lf_put (lf_rf cgC σ) 7 27 u.1 rfl) 7 28 u.2 rfl
    have l2 : lf cgM τ (fdM τ w) := lf_putL (lf_put (lf_rf cgM τ) 0 90 w.1 rfl) 0 91 w.2 rfl
    refine ⟨τ', q3, ?_⟩
    rw [q2]
    exact (h.sc (cgC_z l1) (cgM_z l2)).eoc (O := fun t => t ≤ thM FP (p :: r) MO LA + 5001) (ry.cg l1 l2) q1 (hwk.cg l1) (Nat.add_le_add_left (by decide) _)
