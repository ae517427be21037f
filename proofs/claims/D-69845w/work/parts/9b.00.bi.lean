/-! what is built in: 5 .. 11, 13, 31 -/
theorem gwR.c0 {σ τ : lj_S} {G G' : List vT} (h : gwR σ τ G G') (hl : G.length ≤ 49) : lj_R lc_P 163 [.ref 8, .int 0] σ = some (.inl (some (.int (G.getD 0 (0, 0)).1)), σ) ∧ lj_R lc_P 165 [.ref 8, .int 0] σ = some (.inl (some (.long (G.getD 0 (0, 0)).2)), σ) := h.c (by omega) (i := 0) (by omega)
theorem gwR.c1 {σ τ : lj_S} {G G' : List vT} (h : gwR σ τ G G') (hl : G.length ≤ 49) : lj_R lc_P 163 [.ref 8, .int 1] σ = some (.inl (some (.int (G.getD 1 (0, 0)).1)), σ) ∧ lj_R lc_P 165 [.ref 8, .int 1] σ = some (.inl (some (.long (G.getD 1 (0, 0)).2)), σ) := h.c (by omega) (i := 1) (by omega)
theorem gwR.c2 {σ τ : lj_S} {G G' : List vT} (h : gwR σ τ G G') (hl : G.length ≤ 49) : lj_R lc_P 163 [.ref 8, .int 2] σ = some (.inl (some (.int (G.getD 2 (0, 0)).1)), σ) ∧ lj_R lc_P 165 [.ref 8, .int 2] σ = some (.inl (some (.long (G.getD 2 (0, 0)).2)), σ) := h.c (by omega) (i := 2) (by omega)
theorem gwR.m1 {σ τ : lj_S} {G G' : List vT} (h : gwR σ τ G G') (hl : G.length ≤ 49) : lj_R lm_P 190 [.ref 0, .int 1] τ = some (.inl (some (.int (G'.getD 0 (0, 0)).1)), τ) ∧ lj_R lm_P 191 [.ref 0, .int 1] τ = some (.inl (some (.long (G'.getD 0 (0, 0)).2)), τ) := h.m (by omega) (i := 0) (by omega)
theorem gwR.m2 {σ τ : lj_S} {G G' : List vT} (h : gwR σ τ G G') (hl : G.length ≤ 49) : lj_R lm_P 190 [.ref 0, .int 2] τ = some (.inl (some (.int (G'.getD 1 (0, 0)).1)), τ) ∧ lj_R lm_P 191 [.ref 0, .int 2] τ = some (.inl (some (.long (G'.getD 1 (0, 0)).2)), τ) := h.m (by omega) (i := 1) (by omega)
theorem gwR.m3 {σ τ : lj_S} {G G' : List vT} (h : gwR σ τ G G') (hl : G.length ≤ 49) : lj_R lm_P 190 [.ref 0, .int 3] τ = some (.inl (some (.int (G'.getD 2 (0, 0)).1)), τ) ∧ lj_R lm_P 191 [.ref 0, .int 3] τ = some (.inl (some (.long (G'.getD 2 (0, 0)).2)), τ) := h.m (by omega) (i := 2) (by omega)
theorem bvF {o : Option lj_O} {τ2 : lj_S} (e : o = some (.inl none, τ2)) : lj_bv o (fun s => some (.inl none, s)) lj_up = some (.inl none, τ2) := by rw [e, bv_ok]
/-- the metatable -/
theorem bi_11 {σ0 τ0 σ τ : lj_S} {n np p : Nat} {r : List Nat} {FP : Nat → List kF} {ρ : Nat → Nat} {A MO LA : List Nat} {M : Nat} (D : DLV σ0 τ0 M) (h : MB σ0 τ0 n np p r FP ρ A MO LA σ τ) (ry : ryR σ τ) (hwk : wkR FP (p :: r) A σ) {as line : Int32} (ht : τ.1 0 129 = 1) (ha : awR σ0 (FP p) as (τ.1 0 130) (τ.1 0 131)) (hln : τ.1 0 132 = line) {G G' : List vT} (hG : gwR σ τ G G') (hGl : G.length ≤ 49) (hM : thM FP (p :: r) MO LA + 5001 ≤ M) {X : Nat} (hX : X ≤ TH) (hT : thM FP (p :: r) MO LA + 5001 ≤ X) : ∃ τ1, lj_R lm_P 187 [.ref 0, .int 11] τ = some (.inl none, τ1) ∧ ocR σ0 τ0 A (fun t => t ≤ X) σ τ1 (lj_R lc_P 159 [.ref 8, .int 11, .int as, .int line] σ) := by
  have c0 := hG.c0 hGl
  have m1 := hG.m1 hGl
  have hv := hG.v 0
  have one := fun {u w : vT} (huw : vR σ τ u w) => bi_one D ry hwk ha h (lf_rf _ _) (lf_rf _ _) huw (by omega) (by omega) hX 11
  have nil : ∀ (q1 : lj_R lc_P 159 [.ref 8, .int 11, .int as, .int line] σ = lj_D lc_P lc_M159 749 [.ref 8, .int 11, .int as, .int line, .retAddr 0, .retAddr 0, .retAddr 0] [] σ) (q2 : lj_R lm_P 187 [.ref 0, .int 11] τ = lj_D lm_P lm_M187 211 [.ref 0, .int 11, .retAddr 0] [] τ), ∃ τ1, lj_R lm_P 187 [.ref 0, .int 11] τ = some (.inl none, τ1) ∧ ocR σ0 τ0 A (fun t => t ≤ X) σ τ1 (lj_R lc_P 159 [.ref 8, .int 11, .int as, .int line] σ) := fun q1 q2 => by
    obtain ⟨τ2, e1, e2⟩ := one (vR_nil σ τ)
    refine ⟨τ2, ?_, ?_⟩
    · rw [q2, km_187_211, km_187_212, if_pos rfl, km_187_223, if_pos rfl, km_187_243]
      simp only [km_187_308]
      exact bvF e1
    · rw [q1, kc_159_749, kc_159_750, if_pos rfl, kc_159_764, if_pos rfl, kc_159_791]
      simp only [kc_159_901]
      exact e2.fin
  by_cases z : (G.getD 0 (0, 0)).1 = 4
  · obtain ⟨o, e1, e2, ob⟩ := hv.tb z
    rw [e1] at c0
    rw [e2] at m1
    have on : o ≤ n := by have := ob.2.2.1; have := h.2.2.2.1.2.1; omega
    have o2 := ob.2.1
    have it : lj_in (Int32.ofNat o) 2001 := ofN_in (by omega) (by omega)
    have im : lj_in (Int32.ofNat o) 2002 := ofN_in (by omega) (by omega)
    have no : (Int32.ofNat o).toNatClampNeg = o := lz_onat (by omega)
    rcases (h.2.2.2.2.1.2 o ob.1 on).2.1 ob.2.2.2.1 with ⟨w1, w2⟩ | ⟨m, ma, w1, w2⟩
    · refine nil ?_ ?_
      · rw [rc_159, kc_159_0, if_neg (by decide), if_neg (by decide), if_neg (by decide), if_neg (by decide), if_neg (by decide), if_neg (by decide), if_neg (by decide), if_neg (by decide), if_neg (by decide), if_neg (by decide), if_neg (by decide), if_pos rfl, c0.1, bi_ok, if_pos rfl, c0.2, bl_ok]
        simp only [i64_32, if_pos it, no, w1]
        rw [if_pos (by decide)]
      · rw [rm_187, km_187_0, if_neg (by decide), if_neg (by decide), if_neg (by decide), if_neg (by decide), if_neg (by decide), if_neg (by decide), if_neg (by decide), if_neg (by decide), if_neg (by decide), if_neg (by decide), if_neg (by decide), if_pos rfl, m1.1, bi_ok, if_pos rfl, m1.2, bl_ok]
        simp only [i64_32, if_pos im, no, w2]
        rw [if_pos (by decide)]
    · obtain ⟨τ2, e3, e4⟩ := one (vR_ob (Or.inl rfl) ma)
      have m2 := ma.2.1
      have mp := ma.1
      refine ⟨τ2, ?_, ?_⟩
      · rw [rm_187, km_187_0, if_neg (by decide), if_neg (by decide), if_neg (by decide), if_neg (by decide), if_neg (by decide), if_neg (by decide), if_neg (by decide), if_neg (by decide), if_neg (by decide), if_neg (by decide), if_neg (by decide), if_pos rfl, m1.1, bi_ok, if_pos rfl, m1.2, bl_ok]
        simp only [i64_32, if_pos im, no, w2]
        rw [if_neg (by rw [lz_le, lz_lit (by omega)]; show ¬ (_ ≤ (0 : Int)); omega), km_187_212, if_neg (by decide), km_187_223, if_neg (by decide), m1.2, bl_ok]
        simp only [i64_32, if_pos im, no, w2]
        rw [km_187_243]
        simp only [km_187_308]
        exact bvF e3
      · rw [rc_159, kc_159_0, if_neg (by decide), if_neg (by decide), if_neg (by decide), if_neg (by decide), if_neg (by decide), if_neg (by decide), if_neg (by decide), if_neg (by decide), if_neg (by decide), if_neg (by decide), if_neg (by decide), if_pos rfl, c0.1, bi_ok, if_pos rfl, c0.2, bl_ok]
        simp only [i64_32, if_pos it, no, w1]
        rw [if_neg (by rw [lz_lt, lz_lit (by omega)]; show ¬ (_ < (0 : Int)); omega), kc_159_750, if_neg (by decide), kc_159_764, if_neg (by decide), c0.2, bl_ok]
        simp only [i64_32, if_pos it, no, w1]
        rw [kc_159_791]
        simp only [kc_159_901]
        exact e4.fin
  · refine nil ?_ ?_
    · rw [rc_159, kc_159_0, if_neg (by decide), if_neg (by decide), if_neg (by decide), if_neg (by decide), if_neg (by decide), if_neg (by decide), if_neg (by decide), if_neg (by decide), if_neg (by decide), if_neg (by decide), if_neg (by decide), if_pos rfl, c0.1, bi_ok, if_neg z]
    · rw [rm_187, km_187_0, if_neg (by decide), if_neg (by decide), if_neg (by decide), if_neg (by decide), if_neg (by decide), if_neg (by decide), if_neg (by decide), if_neg (by decide), if_neg (by decide), if_neg (by decide), if_neg (by decide), if_pos rfl, m1.1, bi_ok, if_neg (fun y => z ((hv.kk (by decide) (by decide)).2 y))]
/-- the same value or not -/
theorem vR_same {σ τ : lj_S} {X : List Int32 → Prop} (hs : sR σ τ X) {a b c d : vT} (h1 : vR σ τ a b) (h2 : vR σ τ c d) : a = c ↔ b = d := ⟨fun e => by rw [← e] at h2; exact vR_fn hs h1 h2, fun e => by rw [← e] at h2; exact vR_in hs h1 h2⟩
theorem lg_eq0 (x y : Int64) : lg_cmp x y = 0 ↔ x = y := by
  constructor
  · intro z
    have h1 := (lg_le x y).1 (by rw [z]; decide)
    have h2 := (lg_ge x y).1 (by rw [z]; decide)
    exact Int64.le_antisymm h1 h2
  · intro z
    subst z
    have h1 := (lg_le x x).2 (Int64.le_refl x)
    have h2 := (lg_ge x x).2 (Int64.le_refl x)
    exact Int32.le_antisymm h1 h2
theorem c_same (σ : lj_S) (a c : vT) : lj_R lc_P 171 [.ref 8, .int a.1, .long a.2, .int c.1, .long c.2] σ = some (.inl (some (.int (if a = c then 1 else 0))), σ) := by
  rw [rc_171, kc_171_0]
  by_cases z1 : a.1 = c.1
  · rw [if_pos z1]
    by_cases z2 : a.2 = c.2
    · rw [if_pos ((lg_eq0 _ _).2 z2), kc_171_18, if_pos (Prod.ext z1 z2)]
      rfl
    · rw [if_neg (fun y => z2 ((lg_eq0 _ _).1 y)), kc_171_17, kc_171_18, if_neg (fun y => z2 (by rw [y]))]
      rfl
  · rw [if_neg z1, kc_171_17, kc_171_18, if_neg (fun y => z1 (by rw [y]))]
    rfl
theorem bi_9 {σ0 τ0 σ τ : lj_S} {n np p : Nat} {r : List Nat} {FP : Nat → List kF} {ρ : Nat → Nat} {A MO LA : List Nat} {M : Nat} (D : DLV σ0 τ0 M) (h : MB σ0 τ0 n np p r FP ρ A MO LA σ τ) (ry : ryR σ τ) (hwk : wkR FP (p :: r) A σ) {as line : Int32} (ht : τ.1 0 129 = 1) (ha : awR σ0 (FP p) as (τ.1 0 130) (τ.1 0 131)) (hln : τ.1 0 132 = line) {G G' : List vT} (hG : gwR σ τ G G') (hGl : G.length ≤ 49) (hM : thM FP (p :: r) MO LA + 5001 ≤ M) {X : Nat} (hX : X ≤ TH) (hT : thM FP (p :: r) MO LA + 5001 ≤ X) : ∃ τ1, lj_R lm_P 187 [.ref 0, .int 9] τ = some (.inl none, τ1) ∧ ocR σ0 τ0 A (fun t => t ≤ X) σ τ1 (lj_R lc_P 159 [.ref 8, .int 9, .int as, .int line] σ) := by
  have c0 := hG.c0 hGl
  have c1 := hG.c1 hGl
  have m1 := hG.m1 hGl
  have m2 := hG.m2 hGl
  have sm := vR_same h.2.1.1 (hG.v 0) (hG.v 1)
  have one := fun {u w : vT} (huw : vR σ τ u w) => bi_one D ry hwk ha h (lf_rf _ _) (lf_rf _ _) huw (by omega) (by omega) hX 9
  by_cases z : G.getD 0 (0, 0) = G.getD 1 (0, 0)
  · obtain ⟨τ2, e3, e4⟩ := one (vR_truth σ τ (x := 1) (Or.inr rfl))
    have z' := sm.1 z
    refine ⟨τ2, ?_, ?_⟩
    · rw [rm_187, km_187_0, if_neg (by decide), if_neg (by decide), if_neg (by decide), if_neg (by decide), if_neg (by decide), if_neg (by decide), if_neg (by decide), if_neg (by decide), if_neg (by decide), if_pos rfl, km_187_176, rm_201, km_201_0, if_pos rfl, m1.1, bi_ok, m2.1, bi_ok, if_pos (by rw [z']), m1.2, bl_ok, m2.2, bl_ok, if_pos ((lg_eq0 _ _).2 (by rw [z'])), km_201_40]
      simp only [km_187_308]
      exact bvF (bvF e3)
    · rw [rc_159, kc_159_0, if_neg (by decide), if_neg (by decide), if_neg (by decide), if_neg (by decide), if_neg (by decide), if_neg (by decide), if_neg (by decide), if_neg (by decide), if_neg (by decide), if_pos rfl, c0.1, bi_ok, c0.2, bl_ok, c1.1, bi_ok, c1.2, bl_ok, c_same, bi_ok, if_neg (by rw [if_pos z]; decide), kc_159_623]
      simp only [kc_159_901]
      exact e4.fin
  · obtain ⟨τ2, e3, e4⟩ := one (vR_truth σ τ (x := 0) (Or.inl rfl))
    have z' : ¬ (G'.getD 0 (0, 0) = G'.getD 1 (0, 0)) := fun y => z (sm.2 y)
    refine ⟨τ2, ?_, ?_⟩
    · have r39 : lj_D lm_P lm_M201 39 [.ref 0, .int 9, .retAddr 0, .retAddr 0] [.int 1, .ref 0] τ = some (.inl none, τ2) := by
        rw [km_201_39, km_201_40]
        exact bvF e3
      rw [rm_187, km_187_0, if_neg (by decide), if_neg (by decide), if_neg (by decide), if_neg (by decide), if_neg (by decide), if_neg (by decide), if_neg (by decide), if_neg (by decide), if_neg (by decide), if_pos rfl, km_187_176, rm_201, km_201_0, if_pos rfl, m1.1, bi_ok, m2.1, bi_ok]
      by_cases y1 : (G'.getD 0 (0, 0)).1 = (G'.getD 1 (0, 0)).1
      · rw [if_pos y1, m1.2, bl_ok, m2.2, bl_ok, if_neg (fun y => z' (Prod.ext y1 ((lg_eq0 _ _).1 y))), r39, bv_ok, km_187_308]
      · rw [if_neg y1, r39, bv_ok, km_187_308]
    · rw [rc_159, kc_159_0, if_neg (by decide), if_neg (by decide), if_neg (by decide), if_neg (by decide), if_neg (by decide), if_neg (by decide), if_neg (by decide), if_neg (by decide), if_neg (by decide), if_pos rfl, c0.1, bi_ok, c0.2, bl_ok, c1.1, bi_ok, c1.2, bl_ok, c_same, bi_ok, if_pos (by rw [if_neg z]), kc_159_623]
      simp only [kc_159_901]
      exact e4.fin
/-- an error is raised -/
theorem bi_13 {σ0 τ0 σ τ : lj_S} {n np p : Nat} {r : List Nat} {FP : Nat → List kF} {ρ : Nat → Nat} {A MO LA : List Nat} {M : Nat} (D : DLV σ0 τ0 M) (h : MB σ0 τ0 n np p r FP ρ A MO LA σ τ) (ry : ryR σ τ) (hwk : wkR FP (p :: r) A σ) {as line : Int32} (ht : τ.1 0 129 = 1) (ha : awR σ0 (FP p) as (τ.1 0 130) (τ.1 0 131)) (hln : τ.1 0 132 = line) {G G' : List vT} (hG : gwR σ τ G G') (hGl : G.length ≤ 49) (hM : thM FP (p :: r) MO LA + 5001 ≤ M) {X : Nat} (hX : X ≤ TH) (hT : thM FP (p :: r) MO LA + 5001 ≤ X) : ∃ τ1, lj_R lm_P 187 [.ref 0, .int 13] τ = some (.inl none, τ1) ∧ ocR σ0 τ0 A (fun t => t ≤ X) σ τ1 (lj_R lc_P 159 [.ref 8, .int 13, .int as, .int line] σ) := by
  have c0 := hG.c0 hGl
  have m1 := hG.m1 hGl
  have hv := hG.v 0
  obtain ⟨a, ea⟩ : ∃ a, a = G.getD 0 (0, 0) := ⟨_, rfl⟩
  obtain ⟨b, eb⟩ : ∃ b, b = G'.getD 0 (0, 0) := ⟨_, rfl⟩
  have g1 : gwR (lj_put σ 8 42 a.1) (lj_put τ 0 141 b.1) G G' := hG.cg (fun k j q => ⟨by rw [lj_put_1, if_neg (by omega)], rfl⟩) (fun k j q => ⟨by rw [lj_put_1, if_neg (by omega)], rfl⟩) (fun _ _ w => w.cg (fun k j q => by rw [lj_put_1, if_neg (by unfold vqC at q; simp at q; omega)]) (fun k j q => by rw [lj_put_1, if_neg (by unfold vqM at q; simp at q; omega)]))
  have c0' := g1.c0 hGl
  have m1' := g1.m1 hGl
  obtain ⟨σ', hσ'⟩ : ∃ σ', σ' = lj_put (lj_putL (lj_put σ 8 42 a.1) 8 43 a.2) 2 6 0 := ⟨_, rfl⟩
  obtain ⟨τ', hτ'⟩ : ∃ τ', τ' = lj_put (lj_putL (lj_put τ 0 141 b.1) 0 142 b.2) 0 129 2 := ⟨_, rfl⟩
  have f : lf erC σ σ' := by rw [hσ']; exact lf_put (lf_putL (lf_put (lf_rf _ _) _ _ _ rfl) _ _ _ rfl) _ _ _ rfl
  have g : lf erM τ τ' := by rw [hτ']; exact lf_put (lf_putL (lf_put (lf_rf _ _) _ _ _ rfl) _ _ _ rfl) _ _ _ rfl
  have oC : ∀ k j, ¬ (k = 8 ∧ (j = 42 ∨ j = 43) ∨ k = 2 ∧ j = 6) → σ'.1 k j = σ.1 k j := fun k j z => by rw [hσ', lj_put_1, if_neg (by omega), lj_putL_1, lj_put_1, if_neg (by omega)]
  have oM : ∀ k j, ¬ (k = 0 ∧ (j = 129 ∨ j = 141 ∨ j = 142)) → τ'.1 k j = τ.1 k j := fun k j z => by rw [hτ', lj_put_1, if_neg (by omega), lj_putL_1, lj_put_1, if_neg (by omega)]
  have vC : ∀ k j, vqC k j = true → σ'.1 k j = σ.1 k j := fun k j q => oC k j (by unfold vqC at q; simp at q; omega)
  have vM : ∀ k j, vqM k j = true → τ'.1 k j = τ.1 k j := fun k j q => oM k j (by unfold vqM at q; simp at q; omega)
  have ra : raR σ τ σ' τ' := by
    refine ⟨f, g, h.2.1.cg (fun k j q => oC k j (by unfold sqC at q; simp at q; omega)) (fun k j q => oM k j (by unfold sqM at q; simp at q; omega)), sG_eq vC vM, by rw [hτ']; exact (by simp [lj_put_1, lj_putL_1]), Or.inr ⟨by rw [hσ']; exact (by simp [lj_put_1, lj_putL_1]), oM 0 143 (by omega), ?_⟩⟩
    have e1 : (σ'.1 8 42, σ'.2 8 43) = a := by
      rw [hσ', lj_put_1, if_neg (by omega), lj_putL_1, lj_put_1, if_pos ⟨rfl, rfl⟩]
      show (a.1, (lj_putL (lj_put σ 8 42 a.1) 8 43 a.2).2 8 43) = a
      rw [lj_putL_2, if_pos ⟨rfl, rfl⟩]
    have e2 : (τ'.1 0 141, τ'.2 0 142) = b := by
      rw [hτ', lj_put_1, if_neg (by omega), lj_putL_1, lj_put_1, if_pos ⟨rfl, rfl⟩]
      show (b.1, (lj_putL (lj_put τ 0 141 b.1) 0 142 b.2).2 0 142) = b
      rw [lj_putL_2, if_pos ⟨rfl, rfl⟩]
    rw [e1, e2, ea, eb]
    exact hv.cg vC vM
  rw [← ea] at c0 c0'
  rw [← eb] at m1 m1'
  refine ⟨τ', ?_, ?_⟩
  · rw [rm_187, km_187_0, if_neg (by decide), if_neg (by decide), if_neg (by decide), if_neg (by decide), if_neg (by decide), if_neg (by decide), if_neg (by decide), if_neg (by decide), if_neg (by decide), if_neg (by decide), if_neg (by decide), if_neg (by decide), if_neg (by decide), if_pos rfl, m1.1, bi_ok, m1'.2, bl_ok, km_187_308, hτ']
  · have run : lj_R lc_P 159 [.ref 8, .int 13, .int as, .int line] σ = some (.inr 2, σ') := by
      rw [rc_159, kc_159_0, if_neg (by decide), if_neg (by decide), if_neg (by decide), if_neg (by decide), if_neg (by decide), if_neg (by decide), if_neg (by decide), if_neg (by decide), if_neg (by decide), if_neg (by decide), if_neg (by decide), if_neg (by decide), if_neg (by decide), if_pos rfl, c0.1, bi_ok, c0'.2, bl_ok, rc_20, kc_20_0, hσ']
      rfl
    rw [run]
    exact bt_er ry hwk h (lf_rf _ _) (lf_rf _ _) ra (by omega)
