/-! acts stay acts of both where the code is the same and strings came -/
section
variable {σ τ σ2 τ2 : lj_S}
set_option maxHeartbeats 4000000 in
theorem insK_up (hC : ∀ k j, cdC k j = true → σ2.1 k j = σ.1 k j ∧ σ2.2 k j = σ.2 k j) (hM : ∀ k j, cdM k j = true → τ2.1 k j = τ.1 k j ∧ τ2.2 k j = τ.2 k j) (hG : sG σ τ σ2 τ2) {f c m : Nat} {s l : List Nat} {dd : Nat} {L : List pT} {k : Nat} (h : insK σ τ f c m s l dd L k) : insK σ2 τ2 f c m s l dd L k := by
  have e22 : ∀ j, σ2.1 22 j = σ.1 22 j := fun j => (hC 22 j rfl).1
  have e23 : ∀ j, σ2.1 23 j = σ.1 23 j := fun j => (hC 23 j rfl).1
  have e24 : ∀ j, σ2.1 24 j = σ.1 24 j := fun j => (hC 24 j rfl).1
  have e25 : ∀ j, σ2.1 25 j = σ.1 25 j := fun j => (hC 25 j rfl).1
  have e26 : ∀ j, σ2.1 26 j = σ.1 26 j := fun j => (hC 26 j rfl).1
  have e27 : ∀ j, σ2.2 27 j = σ.2 27 j := fun j => (hC 27 j rfl).2
  have e29 : ∀ j, σ2.1 29 j = σ.1 29 j := fun j => (hC 29 j rfl).1
  have e34 : ∀ j, σ2.1 34 j = σ.1 34 j := fun j => (hC 34 j rfl).1
  have e35 : ∀ j, σ2.1 35 j = σ.1 35 j := fun j => (hC 35 j rfl).1
  have lC : ∀ k j, cdC k j = true → lv σ2 k j = lv σ k j := fun k j w => by unfold lv; rw [(hC k j w).1]
  have lM : ∀ k j, cdM k j = true → lv τ2 k j = lv τ k j := fun k j w => by unfold lv; rw [(hM k j w).1]
  have l28 : ∀ j, lv σ2 28 j = lv σ 28 j := fun j => lC 28 j rfl
  have l29 : ∀ j, lv σ2 29 j = lv σ 29 j := fun j => lC 29 j rfl
  have l31 : ∀ j, lv σ2 31 j = lv σ 31 j := fun j => lC 31 j rfl
  have l32 : ∀ j, lv σ2 32 j = lv σ 32 j := fun j => lC 32 j rfl
  have l33 : ∀ j, lv σ2 33 j = lv σ 33 j := fun j => lC 33 j rfl
  have l5 : ∀ j, lv σ2 5 j = lv σ 5 j := fun j => lC 5 j rfl
  have l37 : ∀ j, lv σ2 37 j = lv σ 37 j := fun j => lC 37 j rfl
  have l38 : ∀ j, lv σ2 38 j = lv σ 38 j := fun j => lC 38 j rfl
  have l39 : ∀ j, lv σ2 39 j = lv σ 39 j := fun j => lC 39 j rfl
  have l40 : ∀ j, lv σ2 40 j = lv σ 40 j := fun j => lC 40 j rfl
  have m12 : ∀ j, lv τ2 12 j = lv τ 12 j := fun j => lM 12 j rfl
  have m15 : ∀ j, lv τ2 15 j = lv τ 15 j := fun j => lM 15 j rfl
  have t13 : ∀ j, τ2.1 13 j = τ.1 13 j := fun j => (hM 13 j rfl).1
  have t18 : ∀ j, τ2.1 18 j = τ.1 18 j := fun j => (hM 18 j rfl).1
  have t19 : ∀ j, τ2.1 19 j = τ.1 19 j := fun j => (hM 19 j rfl).1
  have t20 : ∀ j, τ2.1 20 j = τ.1 20 j := fun j => (hM 20 j rfl).1
  have t21 : ∀ j, τ2.1 21 j = τ.1 21 j := fun j => (hM 21 j rfl).1
  have t22 : ∀ j, τ2.1 22 j = τ.1 22 j := fun j => (hM 22 j rfl).1
  have t23 : ∀ j, τ2.1 23 j = τ.1 23 j := fun j => (hM 23 j rfl).1
  have t24 : ∀ j, τ2.2 24 j = τ.2 24 j := fun j => (hM 24 j rfl).2
  have sc : ∀ f c s l dd, scl σ2 f c s l dd = scl σ f c s l dd := fun f c s l dd => by
    unfold scl scK
    simp only [l5, l37, l38, l39, l40]
  have fe : ∀ q, fnE σ2 τ2 q = fnE σ τ q := fun q => by unfold fnE; rw [l28, m12, l29]
  have fc : ∀ q f l, fnC σ2 τ2 q f l = fnC σ τ q f l := fun q f l => by
    unfold fnC
    simp only [e29, t13, l29, l28, m12, l5, l33, m15, e34, e35, t18, t19]
  unfold insK at h ⊢
  split at h
  all_goals
    simp only [e22, e23, e24, e25, e26, e27, t20, t21, t22, t23, t24, l28, l29, l31, l32, l33, m12, sc, fe, fc]
    first
      | exact h
      | (obtain ⟨h1, h2, h3, h4⟩ := h
         exact ⟨h1, h2, h3.up hG, h4⟩)
      | (obtain ⟨s', h1, h2, h3, h4, h5⟩ := h
         exact ⟨s', h1, h2, h3, h4.up hG, h5⟩)
      | (obtain ⟨s', h1, h2, h3, h4⟩ := h
         exact ⟨s', h1, h2, h3.up hG, h4⟩)
theorem gN_mv (hC : ∀ k j, cdC k j = true → σ2.1 k j = σ.1 k j ∧ σ2.2 k j = σ.2 k j) (hM : ∀ k j, cdM k j = true → τ2.1 k j = τ.1 k j ∧ τ2.2 k j = τ.2 k j) (hG : sG σ τ σ2 τ2) {E S : pT → Prop} : ∀ (n : Nat) (y : pT), gN σ τ E S n y → gN σ2 τ2 E S n y
  | 0, _, h => h
  | n + 1, y, h => by
    rcases h with h | ⟨L, ⟨i1, k, i2⟩, i3⟩
    · exact Or.inl (gN_mv hC hM hG n y h)
    · exact Or.inr ⟨L, ⟨i1, k, insK_up hC hM hG i2⟩, fun z hz => gN_mv hC hM hG n z (i3 z hz)⟩
theorem gS_mv (hC : ∀ k j, cdC k j = true → σ2.1 k j = σ.1 k j ∧ σ2.2 k j = σ.2 k j) (hM : ∀ k j, cdM k j = true → τ2.1 k j = τ.1 k j ∧ τ2.2 k j = τ.2 k j) (hG : sG σ τ σ2 τ2) {E : pT → Prop} {y : pT} (h : gS σ τ E y) : gS σ2 τ2 E y := by
  obtain ⟨S, h1, h2⟩ := h
  refine ⟨S, h1, fun y hy => ?_⟩
  obtain ⟨L, i, g⟩ := h2 y hy
  exact ⟨L, ⟨i.1, insK_up hC hM hG i.2⟩, fun z hz => by
    obtain ⟨n, hn⟩ := g z hz
    exact ⟨n, gN_mv hC hM hG n z hn⟩⟩
end
theorem FR_cg {σ τ σ2 τ2 : lj_S} (hC : ∀ k j, cdC k j = true → σ2.1 k j = σ.1 k j ∧ σ2.2 k j = σ.2 k j) (hM : ∀ k j, cdM k j = true → τ2.1 k j = τ.1 k j ∧ τ2.2 k j = τ.2 k j) (h34 : τ2.1 0 34 = τ.1 0 34) {F : Nat} (h : FR σ τ F) : FR σ2 τ2 F := by
  obtain ⟨h1, h2, h3, h4⟩ := h
  refine ⟨by rw [(hC 5 8 rfl).1]; exact h1, by rw [h34]; exact h2, h3, fun q hq => ?_⟩
  obtain ⟨a1, a2, a3, a4, a5, a6, a7, a8⟩ := h4 q hq
  have l31 : lv σ2 31 q = lv σ 31 q := by unfold lv; rw [(hC 31 q rfl).1]
  refine ⟨by rw [(hC 31 q rfl).1, (hM 14 q rfl).1]; exact a1, by rw [l31]; exact a2, by rw [l31]; exact a3, by rw [(hC 33 q rfl).1, (hM 15 q rfl).1]; exact a4, by rw [(hC 30 q rfl).1, (hM 16 q rfl).1]; exact a5, by rw [(hC 30 q rfl).1]; exact a6, by rw [(hC 36 q rfl).1, (hM 17 q rfl).1]; exact a7, FX_cg (hC 5 18 rfl).1 (fun k => (hC 29 k rfl).1) (fun k => (hC 31 k rfl).1) (fun k => (hC 32 k rfl).1) (fun k => (hC 37 k rfl).1) (fun k => (hC 41 k rfl).1) (fun k => (hC 42 k rfl).1) a8⟩
theorem sh38_cg {σ σ2 : lj_S} (hC : ∀ k j, cdC k j = true → σ2.1 k j = σ.1 k j ∧ σ2.2 k j = σ.2 k j) (h : sh38 σ) : sh38 σ2 := by
  unfold sh38 lv at *
  rw [(hC 5 18 rfl).1]
  refine ⟨h.1, fun k hk => ?_⟩
  rw [(hC 38 k rfl).1]
  exact h.2 k hk
