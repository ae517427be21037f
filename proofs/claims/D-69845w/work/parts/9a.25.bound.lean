/-! the stacks fit -/
theorem gN_ok {σ0 τ0 : lj_S} : ∀ {n : Nat} {y : pT}, gN σ0 τ0 (fun _ => False) (gS σ0 τ0 (fun _ => False)) n y → sOK y.2.2.2.1
  | 0, y, h => by
    rcases h with h | h
    · exact h.elim
    · obtain ⟨L, i, _⟩ := gK_S y h
      exact i.1
  | n + 1, y, h => by
    rcases h with h | ⟨L, i, _⟩
    · exact gN_ok (n := n) h
    · exact i.1
theorem gn_ok {σ0 τ0 : lj_S} {n : Nat} {y : pT} (h : gn σ0 τ0 n y) : sOK y.2.2.2.1 := by
  obtain ⟨⟨k, hk⟩, _⟩ := h
  exact gN_ok hk
theorem cn5_0 : ∀ {s : List Nat}, (∀ x ∈ s, x ≠ 5) → cn 5 s = 0
  | [], _ => rfl
  | x :: s, h => by
    show (if x = 5 then 1 else 0) + cn 5 s = 0
    rw [if_neg (h x List.mem_cons_self), cn5_0 (fun y hy => h y (List.mem_cons_of_mem _ hy))]
theorem cn5_1 {s : List Nat} (h : ∀ x ∈ s.tail, x ≠ 5) : cn 5 s ≤ 1 := by
  cases s with
  | nil => exact Nat.zero_le _
  | cons x s =>
    have := cn5_0 (s := s) h
    show (if x = 5 then 1 else 0) + cn 5 s ≤ 1
    split <;> omega
/-- one frame's share -/
theorem frm_bd {σ0 τ0 σ τ : lj_S} {ρ : Nat → Nat} {p d : Nat} {F : kF} {ms ks ce me mq : Nat} (h : frm σ0 τ0 σ τ ρ p d F ms ks ce me mq) : ce ≤ kC F + 729 ∧ me ≤ ms + 589 ∧ mq ≤ ks + 60 ∧ ((kS F ≠ 0 ∨ kW F ≠ 0) → ce ≤ kC F + 619 ∧ me ≤ ms + 479) := by
  have hB : kB F = kC F + kD F := rfl
  rcases h.2 with ⟨e, t⟩ | ⟨e, _, _, h1, h2, h3⟩
  · obtain ⟨t1, t2, t3, t4, t5, t6⟩ := t
    obtain ⟨⟨a1, a2, a3, a4, a5⟩, _, _, a6⟩ := t6
    obtain ⟨b1, b2, b3, b4, b5, b6, _⟩ := stk_bd t4
    obtain ⟨s1, s2, s3, s4⟩ := a4
    have c5 := cn5_1 s4
    refine ⟨by omega, by omega, by omega, fun w => ?_⟩
    have z := cn5_0 (a6 (w.resolve_left (fun q => q e))).2
    omega
  · exact ⟨by omega, by omega, by omega, fun _ => by omega⟩
set_option maxRecDepth 100000 in
theorem prt_bd {σ0 τ0 σ τ : lj_S} {ρ : Nat → Nat} {p : Nat} : ∀ {L : List kF} {ce me mq : Nat} {as md wt : Int32}, prt σ0 τ0 σ τ ρ p L ce me mq → awR σ0 L as md wt → ce ≤ 12500 * p + 619 * L.length ∧ me ≤ 479 * L.length ∧ mq ≤ 60 * L.length
  | [], ce, me, mq, _, _, _, h, _ => by
    obtain ⟨h1, h2, h3⟩ := h
    rw [List.length_nil]
    omega
  | F :: L, ce, me, mq, _, _, _, h, w => by
    obtain ⟨ms, ks, h1, h2, h3⟩ := h
    obtain ⟨b1, b2, b3⟩ := prt_bd h1 h3
    obtain ⟨c1, c2, c3, c4⟩ := frm_bd h2
    have nw : kS F ≠ 0 ∨ kW F ≠ 0 := by
      rcases w with w | w | w
      · exact Or.inl (by have := w.1; omega)
      · exact Or.inl (by have := w.1; omega)
      · exact Or.inr w.2.1
    obtain ⟨d1, d2⟩ := c4 nw
    have e : (F :: L).length = L.length + 1 := List.length_cons
    refine ⟨?_, ?_, ?_⟩
    · rw [e]; omega
    · rw [e]; omega
    · rw [e]; omega
set_option maxRecDepth 100000 in
/-- the uppermost frame's stacks fit, whatever its shape -/
theorem top_bd {σ0 τ0 σ τ σ' τ' : lj_S} {ρ : Nat → Nat} {p : Nat} {L : List kF} {F : kF} {ms ks : Nat} {as md wt : Int32} (hp : prt σ0 τ0 σ τ ρ p L (kC F) ms ks) (hw : awR σ0 L as md wt) (hl : L.length ≤ 19) (hD : kD F ≤ 49) (h1 : nL σ0 (kY F).1 ≤ 50) (h2 : nH σ0 (kY F).1 ≤ 20) {s : List Nat} {ce me mq : Nat} {cm : Int32} (hs : stk σ' τ' p (kB F + nL σ0 (kY F).1) (kB F + nL σ0 (kY F).1 + 3 * nH σ0 (kY F).1) (ms + kD F) ks s ce me mq cm) (ho : sOK s) : ce + 10 ≤ 12500 * p + 12500 ∧ me + 10 ≤ 10000 ∧ mq + 10 ≤ 2000 := by
  have hB : kB F = kC F + kD F := rfl
  obtain ⟨b1, b2, b3⟩ := prt_bd hp hw
  obtain ⟨_, _, _, b4, b5, b6, _⟩ := stk_bd hs
  obtain ⟨s1, s2, s3, s4⟩ := ho
  have c5 := cn5_1 s4
  omega
