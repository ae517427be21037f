/-! outcomes of calls -/
/-- both run on: the uppermost frame is one of the text; or what came lies behind a mark -/
def runR (σ0 τ0 : lj_S) (n np p : Nat) (r : List Nat) (FP : Nat → List kF) (A MO LA : List Nat) (σ τ : lj_S) : Prop :=
  (∃ ρ F L, FP p = F :: L ∧ kS F = 0 ∧ kN F ≠ 0 ∧ kW F = 0 ∧ MB σ0 τ0 n np p r FP ρ A MO LA σ τ ∧ rgR σ τ) ∨
  (∃ ρ F L σw G G' ce, FP p = F :: L ∧ kS F = 0 ∧ 6 ≤ kW F ∧ MB σ0 τ0 n np p r FP ρ A MO LA σw τ ∧ σw.1 8 8 = Int32.ofNat ce ∧ ce < 325000 ∧ dlR σw τ G G' ∧ τ.1 0 130 = 0 ∧ τ.1 0 131 = waN σ0 (kY F).2.1 (kW F) ∧ σ = hfS σw (20 * p + L.length) ce G)
/-- both have ended -/
def finR (σ0 τ0 : lj_S) (σ τ : lj_S) : Prop := cdR σ0 τ0 σ τ ∧ nmR σ τ ∧ sG σ0 τ0 σ τ ∧ (∃ n, QR σ τ n) ∧ σ.1 8 46 = 1 ∧ (σ.1 8 47 = 0 ∧ τ.1 0 143 = 1 ∨ σ.1 8 47 = 1 ∧ τ.1 0 143 = 2) ∧ ∃ G G', rsC σ G ∧ lv τ 0 148 = (G'.length : Int) ∧ (∀ j, j < G'.length → (τ.1 92 j, τ.2 93 j) = G'.getD j (0, 0)) ∧ rwE σ τ G G'
/-- what becomes of a call: O tells of what may still be done -/
def ocR (σ0 τ0 : lj_S) (A : List Nat) (O : Nat → Prop) (σ τ : lj_S) (oC : Option lj_O) : Prop :=
  (∃ σ' τ' n np p r FP MO LA, oC = some (.inl none, σ') ∧ (∀ x, mRun x τ = mRun x τ') ∧ runR σ0 τ0 n np p r FP A MO LA σ' τ' ∧ O (thM FP (p :: r) MO LA) ∧ wkR FP (p :: r) A σ' ∧ ∀ i ∈ A, σ'.1 103 i = σ.1 103 i) ∨
  (∃ σ' τ' n np p r FP ρ MO LA, oC = some (.inr 2, σ') ∧ (∀ x, mRun x τ = mRun x τ') ∧ eoR σ0 τ0 n np p r FP ρ A MO LA σ' τ' ∧ O (thM FP (p :: r) MO LA + 1) ∧ wkR FP (p :: r) A σ') ∨
  (∃ σ' τ', oC = some (.inl none, σ') ∧ (∀ x, mRun x τ = mRun x τ') ∧ finR σ0 τ0 σ' τ' ∧ ∀ i ∈ A, σ'.1 103 i = σ.1 103 i) ∨
  (∃ σ' τ' n np p r FP ρ MO LA F L A', oC = some (.inl none, σ') ∧ (∀ x, mRun x τ = mRun x τ') ∧ MB σ0 τ0 n np p r FP ρ A MO LA σ' τ' ∧ FP p = F :: L ∧ kS F = 2 ∧ A = (20 * p + L.length) :: A' ∧ σ'.1 103 (20 * p + L.length) = 1 ∧ (∀ i ∈ A', σ'.1 103 i = σ.1 103 i) ∧ (σ'.1 8 46 = 0 ∧ τ'.1 0 143 = 0 ∧ τ'.1 0 129 = 4 ∧ σ'.1 8 45 = τ'.1 0 144 ∧ σ'.2 8 44 = τ'.2 0 145) ∧ O (thM FP (p :: r) MO LA) ∧ wkR FP (p :: r) A σ')
theorem gL_k {p : Nat} {F F' : kF} {L : List kF} (h : kS F' = kS F) : gL p (F' :: L) = gL p (F :: L) := by
  unfold gL
  rw [h]
theorem gX_o {FP FP' : Nat → List kF} : ∀ {r : List Nat}, (∀ q ∈ r, FP' q = FP q) → gX FP' r = gX FP r
  | [], _ => rfl
  | q :: r, h => by
    show gL q (FP' q) ++ gX FP' r = gL q (FP q) ++ gX FP r
    rw [gX_o (fun q hq => h q (List.mem_cons_of_mem _ hq)), h q List.mem_cons_self]
theorem gX_p (FP : Nat → List kF) {p : Nat} {r : List Nat} (hp : p ∉ r) (X : List kF) : gX (fpT FP p X) (p :: r) = gL p X ++ gX FP r := by
  show gL p (fpT FP p X p) ++ gX (fpT FP p X) r = _
  rw [fpT_o, gX_o (FP := FP)]
  intro q hq
  unfold fpT
  rw [if_neg (fun z => hp (by rw [← z]; exact hq))]
theorem fpT_s {FP : Nat → List kF} {p : Nat} {X : List kF} (h : FP p = X) : fpT FP p X = FP := by
  funext q
  unfold fpT
  by_cases z : q = p
  · rw [if_pos z, z, h]
  · rw [if_neg z]
/-- what came goes to a waiting frame of the text -/
theorem dl_text {σ0 τ0 σ τ : lj_S} {n np p : Nat} {r : List Nat} {FP : Nat → List kF} {ρ : Nat → Nat} {A MO LA : List Nat} (h : MB σ0 τ0 n np p r FP ρ A MO LA σ τ) {F : kF} {L : List kF} (hF : FP p = F :: L) (h0 : kS F = 0) (hs : stF σ0 τ0) {G G' : List vT} (d : dlR σ τ G G') {as : Int32} (ha : awR σ0 (F :: L) as (τ.1 0 130) (τ.1 0 131)) (hwk : wkR FP (p :: r) A σ) : ocR σ0 τ0 A (fun t => t = thM FP (p :: r) MO LA) σ τ (lj_R lc_P 144 [.ref 8, .int as] σ) := by
  obtain ⟨ms, ks, ce, me, mq, V⟩ := h.w hF h0
  have B := V.bd
  have hpr : p ∉ r := (List.nodup_cons.1 h.2.2.2.2.2.2.1.2.2.2.2.1).1
  have fs := fpT_s hF
  rcases ha with ⟨z, _⟩ | ⟨z, _⟩ | ⟨_, hw, a1, a2, a3⟩
  · omega
  · omega
  obtain ⟨w1, w2, w3, w4⟩ := V.wt hw
  have one : doS σ0 τ0 n np p r FP A MO LA σ τ F L as → ocR σ0 τ0 A (fun t => t = thM FP (p :: r) MO LA) σ τ (lj_R lc_P 144 [.ref 8, .int as] σ) := fun ⟨σ1, e1, ρ', τ', z, e2, e3, e4, e5⟩ => by
    refine Or.inl ⟨σ1, τ', n, np, p, r, _, MO, LA, e1, e2, Or.inl ⟨ρ', kAt F z (kN F), L, fpT_o _ _ _, rfl, w1, rfl, e3, e4⟩, ?_, ⟨fun i hi => by rw [(e5 i).1]; exact hwk.1 i hi, ?_⟩, fun i _ => (e5 i).2⟩
    · have x1 := thM_t hpr hF (kAt F z (kN F)) MO LA
      rw [thF_0 h0, thF_0 (F := kAt F z (kN F)) rfl] at x1
      have x2 : kN (kAt F z (kN F)) = kN F := rfl
      show thM _ _ _ _ = thM _ _ _ _
      omega
    · have x1 := gX_p FP hpr (F :: L)
      rw [fs] at x1
      have x2 := hwk.2.1
      rw [x1] at x2
      refine ⟨?_, pfI_o (fpT_ne FP hpr _) hwk.2.2⟩
      rw [gX_p FP hpr, gL_k (F := F) (F' := kAt F z (kN F)) (show (0 : Nat) = kS F from h0.symm)]
      exact x2
  have hf : 6 ≤ kW F → as = 0 → τ.1 0 130 = 0 → ocR σ0 τ0 A (fun t => t = thM FP (p :: r) MO LA) σ τ (lj_R lc_P 144 [.ref 8, .int as] σ) := fun z1 z2 z3 => by
    have rm := V.rm w4
    have dl := d.l
    have d0 := c_d0 d.2.1 V.tp (by omega) V.i34 (by omega) (by omega)
    have hh := hfw_mk (σ := σ) (p := p) (i := (20 * p + L.length)) (ce := ce) (G := G) V.i34 (by omega) (by omega) (by omega)
    have e5 : ∀ k j, 102 ≤ k → k ≤ 103 → (hfS σ (20 * p + L.length) ce G).1 k j = σ.1 k j := fun k j y1 y2 => (hh.1 k j (tqC_f (sxC_f (by omega)) (by omega))).1
    rw [z2]
    exact Or.inl ⟨hfS σ (20 * p + L.length) ce G, τ, n, np, p, r, FP, MO, LA, d0, fun _ => rfl, Or.inr ⟨ρ, F, L, σ, G, G', ce, hF, h0, z1, h, V.tp, (by omega), d, z3, a3, rfl⟩, rfl, ⟨fun i hi => by rw [e5 102 i (by omega) (by omega)]; exact hwk.1 i hi, hwk.2⟩, fun i _ => e5 103 i (by omega) (by omega)⟩
  by_cases q1 : kW F = 1
  · rw [q1] at a1 a2 a3
    exact one (by rw [show as = 1 from a1]; exact dl_one h hF h0 d q1 a2 a3)
  by_cases q2 : kW F = 2
  · rw [q2] at a1 a2 a3
    exact one (by rw [show as = 2 from a1]; exact dl_tru h hF h0 d q2 a2)
  by_cases q3 : kW F = 3
  · rw [q3] at a1 a2 a3
    exact one (by rw [show as = 3 from a1]; exact dl_not h hF h0 d q3 a2)
  by_cases q4 : kW F = 4
  · rw [q4] at a1 a2 a3
    exact one (by rw [show as = 4 from a1]; exact dl_nil h hF h0 d q4 a2 a3)
  by_cases q5 : kW F = 5
  · rw [q5] at a1 a2 a3
    exact one (by rw [show as = 5 from a1]; exact dl_self h hF h0 hs d q5 a2 a3)
  have cases : kW F = 6 ∨ kW F = 7 ∨ kW F = 8 ∨ kW F = 9 ∨ kW F = 10 := by
    have : kW F ≤ 10 := by
      refine Classical.byContradiction (fun z => ?_)
      obtain ⟨k, hk⟩ : ∃ k, kW F = k + 11 := ⟨kW F - 11, by omega⟩
      rw [hk] at w2
      exact w2
    omega
  rcases cases with q | q | q | q | q <;> (rw [q] at a1 a2; exact hf (by omega) a1 a2)
