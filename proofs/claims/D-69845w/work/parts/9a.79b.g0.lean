/-! what is asked where endProtected, nextLastAct, call, endPart begin holds in related states -/
theorem MB.sane {σ0 τ0 σ τ : lj_S} {n np p : Nat} {r : List Nat} {FP : Nat → List kF} {ρ : Nat → Nat} {A MO LA : List Nat} (h : MB σ0 τ0 n np p r FP ρ A MO LA σ τ) : sane σ p (FP p).length r.length := by
  have h7 := h.2.2.2.2.2.2.1
  have hp : p ≤ np := h7.2.2.2.2.2.1 p List.mem_cons_self
  have np25 := h7.1.2.2
  obtain ⟨ce, me, mq, pa⟩ := h.2.2.2.2.2.2.2.1 p hp (by rw [h7.2.2.1.2]; decide)
  obtain ⟨p1, ⟨p2, p3, p4, p5⟩, p6, p7, p8, p9, p10, p11⟩ := pa
  refine ⟨by omega, p2, h7.2.2.2.2.2.2.2.1, h7.2.1.1, p7, h7.2.2.2.2.2.2.1, ?_, ?_⟩
  · cases r with
    | nil => exact Or.inl h7.2.2.2.1
    | cons q r => exact Or.inr (by simp)
  · have fh := h.2.2.2.2.2.2.2.2.1
    unfold nf
    cases hF : FP p with
    | nil => rw [hF] at fh; exact fh
    | cons F L =>
      rw [hF] at fh
      rw [List.length_cons, if_neg (by omega)]
      exact fh.1
theorem MB.g0 {σ0 τ0 σ τ : lj_S} {n np p : Nat} {r : List Nat} {FP : Nat → List kF} {ρ : Nat → Nat} {A MO LA : List Nat} (h : MB σ0 τ0 n np p r FP ρ A MO LA σ τ) : lj_g0 σ = true := of_g0 h.sane
theorem MB.g3 {σ0 τ0 σ τ : lj_S} {n np p : Nat} {r : List Nat} {FP : Nat → List kF} {ρ : Nat → Nat} {A MO LA : List Nat} (h : MB σ0 τ0 n np p r FP ρ A MO LA σ τ) {F : kF} {L : List kF} (hF : FP p = F :: L) (hS : kS F = 2) : lj_gc 153 σ = true := by
  have h7 := h.2.2.2.2.2.2.1
  have hp : p ≤ np := h7.2.2.2.2.2.1 p List.mem_cons_self
  have np25 := h7.1.2.2
  obtain ⟨ce, me, mq, pa⟩ := h.2.2.2.2.2.2.2.1 p hp (by rw [h7.2.2.1.2]; decide)
  obtain ⟨p1, ⟨p2, p3, p4, p5⟩, p6, p7, p8, p9, p10, p11⟩ := pa
  rw [hF] at p1
  rw [hF, List.length_cons] at p2
  obtain ⟨ms, ks, q1, q2, q3⟩ := p1
  have fh := h.2.2.2.2.2.2.2.2.1
  rw [hF] at fh
  obtain ⟨⟨c95, m80, m81⟩, q2⟩ := q2
  obtain ⟨_, c91, -⟩ : (kS F = 1 ∨ kS F = 2) ∧ σ.1 91 (20 * p + L.length) = Int32.ofNat (kS F) ∧ τ.1 74 (48 * p + L.length) = Int32.ofNat (kS F) ∧ ce = kC F ∧ me = ms ∧ mq = ks := by
    rcases q2 with ⟨z, _⟩ | z
    · omega
    · exact z
  show (lj_g0 σ && decide (σ.1 91 (σ.1 8 34).toInt.toNat = 2)) = true
  rw [h.g0, fh.1, lz_lit (by omega), Int.toNat_natCast, c91, hS]
  rfl
