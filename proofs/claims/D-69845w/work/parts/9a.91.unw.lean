/-! an error goes up through all frames of the text -/
theorem uw_loop {σ0 τ0 : lj_S} {n np p : Nat} {r A MO LA : List Nat} : ∀ (L : List kF) (FP : Nat → List kF) (σ τ : lj_S) (ρ : Nat → Nat) (x : Int32), FP p = L → MB σ0 τ0 n np p r FP ρ A MO LA σ (lj_put τ 63 p x) → τ.1 0 143 = 0 → τ.1 0 129 = 2 → (∀ F L'', L = F :: L'' → kS F = 2 → τ.1 63 p = x) → ∃ σ' τ' ρ' x' L', lj_D lc_P lc_M221 17 [.ref 8] [] σ = lj_D lc_P lc_M221 48 [.ref 8] [] σ' ∧ (∀ y, mRun y τ = mRun y τ') ∧ MB σ0 τ0 n np p r (fpT FP p L') ρ' A MO LA σ' (lj_put τ' 63 p x') ∧ (∀ F L'', L' = F :: L'' → kS F ≠ 0 ∧ (kS F = 2 → τ'.1 63 p = x')) ∧ (thL L' ≤ thL L ∧ gL p L' = gL p L ∧ L'.length ≤ L.length) ∧ (∀ k j, ¬ (74 ≤ k ∧ k ≤ 76) → k ≠ 81 → ¬ (k = 8 ∧ (j = 8 ∨ j = 34 ∨ j = 35)) → k ≠ 90 → σ'.1 k j = σ.1 k j ∧ σ'.2 k j = σ.2 k j) ∧ ∀ k j, ¬ (62 ≤ k ∧ k ≤ 65 ∧ j = p) → ¬ (k = 90 ∨ k = 91) → ¬ (k = 0 ∧ (j = 130 ∨ j = 131 ∨ j = 140)) → τ'.1 k j = τ.1 k j ∧ τ'.2 k j = τ.2 k j
  | [], FP, σ, τ, ρ, x, hF, h, ho, ht, hx => by
    have h7 := h.2.2.2.2.2.2.1
    have hp : p ≤ np := h7.2.2.2.2.2.1 p List.mem_cons_self
    have np25 := h7.1.2.2
    obtain ⟨ce, me, mq, pa⟩ := h.2.2.2.2.2.2.2.1 p hp (by rw [h7.2.2.1.2]; decide)
    have p7 := pa.2.2.2.1
    rw [hF] at p7
    have i7 : lj_in (σ.1 8 7) 26 := by rw [h7.2.1.1]; exact ofN_in (by omega) (by omega)
    have n7 : (σ.1 8 7).toNatClampNeg = p := by rw [h7.2.1.1]; exact lz_onat (by omega)
    have c90 : σ.1 90 (σ.1 8 7).toNatClampNeg = 0 := by rw [n7]; exact p7
    refine ⟨σ, τ, ρ, x, [], ?_, fun _ => rfl, by rw [fpT_s hF]; exact h, (fun F L'' z => by cases z), ⟨Nat.le_refl _, rfl, Nat.le_refl _⟩, fun _ _ _ _ _ _ => ⟨rfl, rfl⟩, fun _ _ _ _ _ => ⟨rfl, rfl⟩⟩
    rw [kc_221_17, if_pos i7, if_pos (by rw [c90]; decide)]
  | F :: L, FP, σ, τ, ρ, x, hF, h, ho, ht, hx => by
    have h7 := h.2.2.2.2.2.2.1
    have hp : p ≤ np := h7.2.2.2.2.2.1 p List.mem_cons_self
    have np25 := h7.1.2.2
    obtain ⟨ce, me, mq, pa⟩ := h.2.2.2.2.2.2.2.1 p hp (by rw [h7.2.2.1.2]; decide)
    obtain ⟨p1, ⟨p2, _⟩, p6, p7, _⟩ := pa
    rw [hF] at p1
    rw [hF, List.length_cons] at p2 p7
    obtain ⟨ms, ks, q1, q2, q3⟩ := p1
    have fh := h.2.2.2.2.2.2.2.2.1
    rw [hF] at fh
    have i7 : lj_in (σ.1 8 7) 26 := by rw [h7.2.1.1]; exact ofN_in (by omega) (by omega)
    have n7 : (σ.1 8 7).toNatClampNeg = p := by rw [h7.2.1.1]; exact lz_onat (by omega)
    have i34 : lj_in (σ.1 8 34) 520 := by rw [fh.1]; exact ofN_in (by omega) (by omega)
    have n34 : (σ.1 8 34).toNatClampNeg = (20 * p + L.length) := by rw [fh.1]; exact lz_onat (by omega)
    have c90 : ¬ (σ.1 90 (σ.1 8 7).toNatClampNeg ≤ 0) := by rw [n7, p7]; exact ofN_le0 _ (by omega)
    by_cases z : kS F = 0
    · have c91 : σ.1 91 (σ.1 8 34).toNatClampNeg = 0 := by
        rw [n34]
        rcases q2.2 with ⟨_, t⟩ | ⟨y, _⟩
        · exact t.1.1
        · omega
      obtain ⟨σ1, ρ1, τ1, e1, e2, e3, e4, e5⟩ := uw1 h hF z ho ht
      have e3' : MB σ0 τ0 n np p r (fpT FP p L) ρ1 A MO LA σ1 (lj_put τ1 63 p (τ1.1 63 p)) := by rw [put_id]; exact e3
      obtain ⟨σ', τ', ρ', x', L', g1, g2, g3, g4, ⟨g5, g6, g7⟩, g8, g9⟩ := uw_loop L (fpT FP p L) σ1 τ1 ρ1 (τ1.1 63 p) (fpT_o _ _ _) e3' (by rw [(e5 0 143 (by omega) (by omega) (by omega)).1]; exact ho) (by rw [(e5 0 129 (by omega) (by omega) (by omega)).1]; exact ht) (fun _ _ _ _ => rfl)
      rw [fpT_2] at g3
      refine ⟨σ', τ', ρ', x', L', ?_, fun y => (e2 y).trans (g2 y), g3, g4, ⟨?_, ?_, by rw [List.length_cons]; omega⟩, fun k j z1 z2 z3 z4 => ?_, fun k j z1 z2 z3 => ?_⟩
      · rw [kc_221_17, if_pos i7, if_neg c90, if_pos i34, if_pos c91, e1, bv_ok, g1]
      · show thL L' ≤ thF F + thL L
        omega
      · rw [g6]
        show _ = (if kS F = 2 then _ else gL p L)
        rw [if_neg (by omega)]
      · obtain ⟨u1, u2⟩ := g8 k j z1 z2 z3 z4
        obtain ⟨v1, v2⟩ := e4 k j z1 z2 z3 z4
        exact ⟨u1.trans v1, u2.trans v2⟩
      · obtain ⟨u1, u2⟩ := g9 k j z1 z2 z3
        obtain ⟨v1, v2⟩ := e5 k j z1 z2 z3
        exact ⟨u1.trans v1, u2.trans v2⟩
    · have c91 : ¬ (σ.1 91 (σ.1 8 34).toNatClampNeg = 0) := by
        rw [n34]
        rcases q2.2 with ⟨y, _⟩ | ⟨y, w, _⟩
        · exact absurd y z
        · rw [w]
          rcases y with y | y <;> rw [y] <;> decide
      refine ⟨σ, τ, ρ, x, F :: L, ?_, fun _ => rfl, by rw [fpT_s hF]; exact h, (fun F' L'' y => by cases y; exact ⟨z, fun w => hx F L rfl w⟩), ⟨Nat.le_refl _, rfl, Nat.le_refl _⟩, fun _ _ _ _ _ _ => ⟨rfl, rfl⟩, fun _ _ _ _ _ => ⟨rfl, rfl⟩⟩
      rw [kc_221_17, if_pos i7, if_neg c90, if_pos i34, if_neg c91]
