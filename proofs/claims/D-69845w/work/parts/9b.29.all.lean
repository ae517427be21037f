/-! all that is built in; calls, deliveries, last acts: all at once -/
theorem gvB.l {k p : Nat} {r : List Nat} {FP : Nat → List kF} {σ : lj_S} {w : Nat} {G : List vT} (h : gvB k p r FP σ w G) : G.length ≤ 49 := by
  rcases h with h | h
  · omega
  · exact h.1
theorem gvB.s {k p : Nat} {r : List Nat} {FP : Nat → List kF} {σ : lj_S} {w : Nat} {G : List vT} (h : gvB k p r FP σ w G) : G.length + pfx FP (p :: r) ≤ 30 ∨ (G.getD 0 (0, 0)).1 = 4 := by
  rcases h with h | ⟨_, ⟨c, G2, h1, h2, _⟩, _⟩
  · exact Or.inl h.1
  · rw [h1]
    exact Or.inr h2
theorem blt_all {σ0 τ0 : lj_S} {M k : Nat} (D : DLV σ0 τ0 (M + 5001)) (C : k ≠ 0 → CAL σ0 τ0 M (k - 1)) (B16 : BLT σ0 τ0 M k 16) : ∀ w, w < 32 → BLT σ0 τ0 M k w := fun w hw => by
  have hc : w = 0 ∨ w = 1 ∨ w = 2 ∨ w = 3 ∨ w = 4 ∨ w = 5 ∨ w = 6 ∨ w = 7 ∨ w = 8 ∨ w = 9 ∨ w = 10 ∨ w = 11 ∨ w = 12 ∨ w = 13 ∨ w = 14 ∨ w = 15 ∨ w = 16 ∨ w = 17 ∨ w = 18 ∨ w = 19 ∨ w = 20 ∨ w = 21 ∨ w = 22 ∨ w = 23 ∨ w = 24 ∨ w = 25 ∨ w = 26 ∨ w = 27 ∨ w = 28 ∨ w = 29 ∨ w = 30 ∨ w = 31 := by omega
  rcases hc with rfl | rfl | rfl | rfl | rfl | rfl | rfl | rfl | rfl | rfl | rfl | rfl | rfl | rfl | rfl | rfl | rfl | rfl | rfl | rfl | rfl | rfl | rfl | rfl | rfl | rfl | rfl | rfl | rfl | rfl | rfl | rfl
  · exact fun n np p r FP ρ A MO LA σ τ G G' as line h ry hwk ht ha hln hG hB hM hT => bi_0 D h ry hwk ht ha hln hG hB.l (by omega) hT (Nat.le_refl _)
  · exact fun n np p r FP ρ A MO LA σ τ G G' as line h ry hwk ht ha hln hG hB hM hT => bi_1 D h ry hwk ht ha hln hG hB.l (by omega) hT (Nat.le_refl _)
  · exact fun n np p r FP ρ A MO LA σ τ G G' as line h ry hwk ht ha hln hG hB hM hT => bi_2 D h ry hwk ht ha hln hG hB.l (by omega) hT (Nat.le_refl _)
  · exact fun n np p r FP ρ A MO LA σ τ G G' as line h ry hwk ht ha hln hG hB hM hT => bi_3 D h ry hwk ht ha hln hG hB.l (by omega) hT (Nat.le_refl _)
  · exact fun n np p r FP ρ A MO LA σ τ G G' as line h ry hwk ht ha hln hG hB hM hT => bi_4 D h ry hwk ht ha hln hG hB.l (by omega) hT (Nat.le_refl _)
  · exact fun n np p r FP ρ A MO LA σ τ G G' as line h ry hwk ht ha hln hG hB hM hT => bi_5 D h ry hwk ht ha hln hG hB.l (by omega) hT (Nat.le_refl _)
  · exact fun n np p r FP ρ A MO LA σ τ G G' as line h ry hwk ht ha hln hG hB hM hT => bi_6 D h ry hwk ht ha hln hG hB.l (by omega) hT (Nat.le_refl _)
  · exact fun n np p r FP ρ A MO LA σ τ G G' as line h ry hwk ht ha hln hG hB hM hT => bi_7 D h ry hwk ht ha hln hG hB.l (by omega) hT (Nat.le_refl _)
  · exact fun n np p r FP ρ A MO LA σ τ G G' as line h ry hwk ht ha hln hG hB hM hT => bi_8 D h ry hwk ht ha hln hG hB.l (by omega) hT (Nat.le_refl _)
  · exact fun n np p r FP ρ A MO LA σ τ G G' as line h ry hwk ht ha hln hG hB hM hT => bi_9 D h ry hwk ht ha hln hG hB.l (by omega) hT (Nat.le_refl _)
  · exact fun n np p r FP ρ A MO LA σ τ G G' as line h ry hwk ht ha hln hG hB hM hT => bi_10 D h ry hwk ht ha hln hG hB.l (by omega) hT (Nat.le_refl _)
  · exact fun n np p r FP ρ A MO LA σ τ G G' as line h ry hwk ht ha hln hG hB hM hT => bi_11 D h ry hwk ht ha hln hG hB.l (by omega) hT (Nat.le_refl _)
  · exact fun n np p r FP ρ A MO LA σ τ G G' as line h ry hwk ht ha hln hG hB hM hT => bi_12 D h ry hwk ht ha hln hG hB.l (by omega) hT (Nat.le_refl _)
  · exact fun n np p r FP ρ A MO LA σ τ G G' as line h ry hwk ht ha hln hG hB hM hT => bi_13 D h ry hwk ht ha hln hG hB.l (by omega) hT (Nat.le_refl _)
  · exact fun n np p r FP ρ A MO LA σ τ G G' as line h ry hwk ht ha hln hG hB hM hT => bi_14 C h ry hwk ha hln hG hB.l hB hM hT
  · exact fun n np p r FP ρ A MO LA σ τ G G' as line h ry hwk ht ha hln hG hB hM hT => bi_15 D h ry hwk ht ha hln hG hB.l (by omega) hT (Nat.le_refl _) hB.s
  · exact B16
  · exact fun n np p r FP ρ A MO LA σ τ G G' as line h ry hwk ht ha hln hG hB hM hT => bi_17 D h ry hwk ht ha hln hG hB.l (by omega) hT (Nat.le_refl _)
  · exact fun n np p r FP ρ A MO LA σ τ G G' as line h ry hwk ht ha hln hG hB hM hT => bi_18 D h ry hwk ht ha hln hG hB.l (by omega) hT (Nat.le_refl _)
  · exact fun n np p r FP ρ A MO LA σ τ G G' as line h ry hwk ht ha hln hG hB hM hT => bi_19 D h ry hwk ht ha hln hG hB.l (by omega) hT (Nat.le_refl _)
  · exact fun n np p r FP ρ A MO LA σ τ G G' as line h ry hwk ht ha hln hG hB hM hT => bi_20 D h ry hwk ht ha hln hG hB.l (by omega) hT (Nat.le_refl _)
  · exact fun n np p r FP ρ A MO LA σ τ G G' as line h ry hwk ht ha hln hG hB hM hT => bi_21 D h ry hwk ht ha hln hG hB.l (by omega) hT (Nat.le_refl _)
  · exact fun n np p r FP ρ A MO LA σ τ G G' as line h ry hwk ht ha hln hG hB hM hT => bi_22 D h ry hwk ht ha hln hG hB.l (by omega) hT (Nat.le_refl _)
  · exact fun n np p r FP ρ A MO LA σ τ G G' as line h ry hwk ht ha hln hG hB hM hT => bi_23 D h ry hwk ht ha hln hG hB.l (by omega) hT (Nat.le_refl _)
  · exact fun n np p r FP ρ A MO LA σ τ G G' as line h ry hwk ht ha hln hG hB hM hT => bi_24 D h ry hwk ht ha hln hG hB.l (by omega) hT (Nat.le_refl _)
  · exact fun n np p r FP ρ A MO LA σ τ G G' as line h ry hwk ht ha hln hG hB hM hT => bi_25 D h ry hwk ht ha hln hG hB.l (by omega) hT (Nat.le_refl _)
  · exact fun n np p r FP ρ A MO LA σ τ G G' as line h ry hwk ht ha hln hG hB hM hT => bi_26 D h ry hwk ht ha hln hG hB.l (by omega) hT (Nat.le_refl _)
  · exact fun n np p r FP ρ A MO LA σ τ G G' as line h ry hwk ht ha hln hG hB hM hT => bi_27 D h ry hwk ht ha hln hG hB.l (by omega) hT (Nat.le_refl _) C hM hB
  · exact fun n np p r FP ρ A MO LA σ τ G G' as line h ry hwk ht ha hln hG hB hM hT => bi_28 D h ry hwk ht ha hln hG hB.l (by omega) hT (Nat.le_refl _)
  · exact fun n np p r FP ρ A MO LA σ τ G G' as line h ry hwk ht ha hln hG hB hM hT => bi_29 D h ry hwk ht ha hln hG hB.l (by omega) hT (Nat.le_refl _)
  · exact fun n np p r FP ρ A MO LA σ τ G G' as line h ry hwk ht ha hln hG hB hM hT => bi_30 D h ry hwk ht ha hln hG hB.l (by omega) hT (Nat.le_refl _)
  · exact fun n np p r FP ρ A MO LA σ τ G G' as line h ry hwk ht ha hln hG hB hM hT => bi_31 D h ry hwk ht ha hln hG hB.l (by omega) hT (Nat.le_refl _)
theorem cal_all {σ0 τ0 : lj_S} {Fn : Nat} (fx : FR σ0 τ0 Fn) {M : Nat} (D : DLV σ0 τ0 (M + 5001)) (B16 : ∀ k, BLT σ0 τ0 M k 16) : ∀ k, CAL σ0 τ0 M k
  | 0 => x_call fx (blt_all D (fun z => absurd rfl z) (B16 0))
  | k + 1 => x_call fx (blt_all D (fun _ => cal_all fx D B16 k) (B16 (k + 1)))
theorem dlv_all {σ0 τ0 : lj_S} (hs : stF σ0 τ0) {Fn : Nat} (fx : FR σ0 τ0 Fn) (B16 : ∀ M k, (∀ k, NLA σ0 τ0 (M + 5001) k) → BLT σ0 τ0 M k 16) : ∀ T M, M < T → (DLV σ0 τ0 M ∧ ∀ k, NLA σ0 τ0 M k)
  | 0, M, h => absurd h (Nat.not_lt_zero _)
  | T + 1, M, h => by
    have IH : ∀ M', M' < M → (DLV σ0 τ0 M' ∧ ∀ k, NLA σ0 τ0 M' k) := fun M' h' => dlv_all hs fx B16 T M' (by omega)
    have N := nla_of hs (fun M' h' => (IH M' h').1) (fun M' h' => cal_all fx (IH (M' + 5001) (by omega)).1 (fun k => B16 M' k (IH (M' + 5001) (by omega)).2) 101)
    exact ⟨dlv_of hs N, N⟩
