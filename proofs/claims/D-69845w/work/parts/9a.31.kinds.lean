/-! kinds of what lies on the model's stack are not below zero -/
theorem vR.nn {σ τ : lj_S} {a b : vT} (h : vR σ τ a b) : 0 ≤ b.1 := by
  rcases h.k with ⟨e | ⟨_, e⟩, k⟩
  · rw [e]
    rcases k with k | k | k | k | k | k | k <;> rw [k] <;> decide
  · rw [e]; decide
theorem stk_nn {σ τ : lj_S} {p hb ob mb kb : Nat} : ∀ {s : List Nat} {ce me mq : Nat} {cm : Int32}, stk σ τ p hb ob mb kb s ce me mq cm → ∀ j, mb ≤ j → j < me → 0 ≤ (mv τ (10000 * p + j)).1
  | [], _, _, _, _, h, j, h1, h2 => by
    have := h.2.1
    omega
  | x :: s, ce, me, mq, cm, h, j, h1, h2 => by
    rcases h with ⟨e, ce', mq', cm', a1, a2, a3, a4, a5, a6⟩ | ⟨e, mq', a1, a2, a3⟩ | ⟨e, me', a1, a2, a3⟩ | ⟨e, r, ce', me', a1, a2, a3, a4, a5⟩ | ⟨e, ce', me', a1, a2, a3, a4, a5, a6, a7⟩ | ⟨e, ce', me', a1, a2, a3, a4, a5, a6⟩
    · exact stk_nn a6 j h1 h2
    · exact stk_nn a3 j h1 h2
    · by_cases w : j < me'
      · exact stk_nn a3 j h1 w
      · have := (a2 (j - me') (by omega)).1.nn
        rw [Nat.add_assoc, show me' + (j - me') = j by omega] at this
        exact this
    · by_cases w : j < me'
      · exact stk_nn a5 j h1 w
      · have := (a4 (j - me') (by omega)).1.nn
        rw [Nat.add_assoc, show me' + (j - me') = j by omega] at this
        exact this
    · by_cases w : j < me'
      · exact stk_nn a7 j h1 w
      · have := a3.nn
        rw [show j = me' by omega]
        exact this
    · by_cases w : j < me'
      · exact stk_nn a6 j h1 w
      · rw [show j = me' by omega]
        show 0 ≤ τ.1 71 (10000 * p + me')
        rw [a4]
        decide
theorem prt_nn {σ0 τ0 σ τ : lj_S} {ρ : Nat → Nat} {p : Nat} : ∀ {L : List kF} {ce me mq : Nat}, prt σ0 τ0 σ τ ρ p L ce me mq → ∀ j, j < me → 0 ≤ (mv τ (10000 * p + j)).1
  | [], _, _, _, h, j, h2 => by
    have := h.2.1
    omega
  | F :: L, ce, me, mq, h, j, h2 => by
    obtain ⟨ms, ks, h1, ht, _⟩ := h
    by_cases w : j < ms
    · exact prt_nn h1 j w
    · rcases ht.2 with ⟨_, t⟩ | ⟨_, _, _, _, e, _⟩
      · by_cases w2 : j < ms + kD F
        · have := (t.2.2.1 (j - ms) (by omega)).1.nn
          rw [show ms + (j - ms) = j by omega] at this
          exact this
        · exact stk_nn t.2.2.2.1 j (by omega) h2
      · omega
