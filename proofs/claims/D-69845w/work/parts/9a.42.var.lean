/-! variables: reading, writing -/
/-- a captured variable of a function object -/
theorem clR.cap {σ0 σ τ : lj_S} {FP : Nat → List kF} {ρ : Nat → Nat} {n : Nat} (h : clR σ0 σ τ FP ρ n) (hn : n ≤ 2000) {o f k : Nat} (ho : obA σ τ o 5) (hf : f < 51) (h62 : σ.1 62 o = Int32.ofNat f) (hk : (k : Int) < lv σ0 33 f) :
    ∃ r c : Nat, σ.1 63 o = Int32.ofNat r ∧ r + k < 60000 ∧ σ.1 77 (r + k) = Int32.ofNat c ∧ c < 60000 ∧ τ.1 44 (30 * o + k) = Int32.ofNat (ρ (loC σ c)) ∧ usd σ0 σ τ FP (loC σ c) ∧ ρ (loC σ c) < 95000 ∧ vR σ τ (vaC σ (loC σ c)) (τ.1 54 (ρ (loC σ c)), τ.2 55 (ρ (loC σ c))) ∧ ((σ.1 74 c = -1 ∧ loC σ c = 325000 + c) ∨ ∃ s : Nat, s < 325000 ∧ σ.1 74 c = Int32.ofNat s ∧ loC σ c = s ∧ ∃ p, lsL (FP p) s) := by
  obtain ⟨h1, h2, h3, h4, h5, h6, h7⟩ := h
  obtain ⟨r, r1, r2, r3⟩ := h4 o f ho hf h62
  obtain ⟨c, c1, c2, c3⟩ := r3 k hk
  have rk : r + k < 60000 := by omega
  have c6 : c < 60000 := by omega
  have cp : cpO σ0 σ τ o k c := ⟨ho, f, r, hf, h62, hk, by omega, r1, c2, c6⟩
  have lo : ((σ.1 74 c = -1 ∧ loC σ c = 325000 + c) ∨ ∃ s : Nat, s < 325000 ∧ σ.1 74 c = Int32.ofNat s ∧ loC σ c = s ∧ ∃ p, lsL (FP p) s) := by
    rcases h5 c c1 with w | ⟨s, w1, w2, w3, w4⟩
    · refine Or.inl ⟨w, ?_⟩
      unfold loC lv
      rw [w, if_pos (by decide)]
    · refine Or.inr ⟨s, w2, w3, ?_, w1⟩
      unfold loC lv
      rw [w3, lz_lit (by omega), if_neg (by omega)]
      rfl
  have us : usd σ0 σ τ FP (loC σ c) := by
    rcases lo with ⟨w1, w2⟩ | ⟨s, _, w4, w2, w3⟩
    · exact Or.inr ⟨o, k, c, cp, by unfold lv; rw [w1]; decide, w2⟩
    · rw [w2]; exact Or.inl ⟨w3.choose, w3.choose_spec, Or.inr ⟨o, k, c, cp, w4⟩⟩
  exact ⟨r, c, r1, rk, c2, c6, c3, us, (h1 _ us).1, (h1 _ us).2, lo⟩
/-- where it lies is in use -/
theorem clR.cap' {σ0 σ τ : lj_S} {FP : Nat → List kF} {ρ : Nat → Nat} {n : Nat} (h : clR σ0 σ τ FP ρ n) {o f k : Nat} (ho : obA σ τ o 5) (hf : f < 51) (h62 : σ.1 62 o = Int32.ofNat f) (hk : (k : Int) < lv σ0 33 f) (r c : Nat) (hr : σ.1 63 o = Int32.ofNat r) (hc : (c : Int) < lv σ 7 21) (h77 : σ.1 77 (r + k) = Int32.ofNat c) (hr2 : (r : Int) + lv σ0 33 f ≤ lv σ 7 25) (hn : n ≤ 2000) : usd σ0 σ τ FP (loC σ c) := by
  obtain ⟨h1, h2, h3, h4, h5, h6, h7⟩ := h
  rcases h5 c hc with w | ⟨s, w1, w2, w3, w4⟩
  · have l : loC σ c = 325000 + c := by
      unfold loC lv
      rw [w, if_pos (by decide)]
    rw [l]
    exact Or.inr ⟨o, k, c, ⟨ho, f, r, hf, h62, hk, by omega, hr, h77, by omega⟩, by unfold lv; rw [w]; decide, rfl⟩
  · have l : loC σ c = s := by
      unfold loC lv
      rw [w3, lz_lit (by omega), if_neg (by omega)]
      rfl
    rw [l]
    exact Or.inl ⟨w1.choose, w1.choose_spec, Or.inr ⟨o, k, c, ⟨ho, f, r, hf, h62, hk, by omega, hr, h77, by omega⟩, w3⟩⟩
/-- writing -/
def setC (σ : lj_S) (a : Nat) (u : vT) : lj_S := if a < 325000 then lj_putL (lj_put σ 79 a u.1) 80 a u.2 else lj_putL (lj_put σ 75 (a - 325000) u.1) 76 (a - 325000) u.2
def setM (τ : lj_S) (c : Nat) (w : vT) : lj_S := lj_putL (lj_put τ 54 c w.1) 55 c w.2
theorem setC_o (σ : lj_S) (a : Nat) (u : vT) (k j : Nat) (h : ¬ (a < 325000 ∧ (k = 79 ∨ k = 80) ∧ j = a) ∧ ¬ (325000 ≤ a ∧ (k = 75 ∨ k = 76) ∧ j = a - 325000)) : (setC σ a u).1 k j = σ.1 k j ∧ (setC σ a u).2 k j = σ.2 k j := by
  unfold setC
  by_cases z : a < 325000
  · rw [if_pos z, lj_putL_1, lj_put_1, if_neg (by omega), lj_putL_2, if_neg (by omega)]
    exact ⟨rfl, rfl⟩
  · rw [if_neg z, lj_putL_1, lj_put_1, if_neg (by omega), lj_putL_2, if_neg (by omega)]
    exact ⟨rfl, rfl⟩
theorem setM_o (τ : lj_S) (c : Nat) (w : vT) (k j : Nat) (h : ¬ ((k = 54 ∨ k = 55) ∧ j = c)) : (setM τ c w).1 k j = τ.1 k j ∧ (setM τ c w).2 k j = τ.2 k j := by
  unfold setM
  rw [lj_putL_1, lj_put_1, if_neg (by omega), lj_putL_2, if_neg (by omega)]
  exact ⟨rfl, rfl⟩
theorem setM_v (τ : lj_S) (c : Nat) (w : vT) : ((setM τ c w).1 54 c, (setM τ c w).2 55 c) = w := by
  unfold setM
  rw [lj_putL_1, lj_put_1, if_pos ⟨rfl, rfl⟩, lj_putL_2, if_pos ⟨rfl, rfl⟩]
theorem vaC_s (σ : lj_S) (a : Nat) (u : vT) : vaC (setC σ a u) a = u := by
  unfold vaC setC cv
  by_cases z : a < 325000
  · rw [if_pos z, if_pos z, lj_putL_1, lj_put_1, if_pos ⟨rfl, rfl⟩, lj_putL_2, if_pos ⟨rfl, rfl⟩]
  · rw [if_neg z, if_neg z, lj_putL_1, lj_put_1, if_pos ⟨rfl, rfl⟩, lj_putL_2, if_pos ⟨rfl, rfl⟩]
theorem vaC_o (σ : lj_S) (a b : Nat) (u : vT) (h : b ≠ a) : vaC (setC σ a u) b = vaC σ b := by
  unfold vaC cv
  by_cases z : b < 325000
  · rw [if_pos z, if_pos z, (setC_o σ a u 79 b (by omega)).1, (setC_o σ a u 80 b (by omega)).2]
  · rw [if_neg z, if_neg z, (setC_o σ a u 75 (b - 325000) (by omega)).1, (setC_o σ a u 76 (b - 325000) (by omega)).2]
theorem clR.set {σ0 σ τ : lj_S} {FP : Nat → List kF} {ρ : Nat → Nat} {n : Nat} (h : clR σ0 σ τ FP ρ n) {a : Nat} (ha : usd σ0 σ τ FP a) {u w : vT} (hw : vR σ τ u w) : clR σ0 (setC σ a u) (setM τ (ρ a) w) FP ρ n := by
  have c : ∀ k j, k ≠ 79 → k ≠ 80 → k ≠ 75 → k ≠ 76 → (setC σ a u).1 k j = σ.1 k j := fun k j z1 z2 z3 z4 => (setC_o σ a u k j (by omega)).1
  have m : ∀ k j, k ≠ 54 → (setM τ (ρ a) w).1 k j = τ.1 k j := fun k j z => by unfold setM; rw [lj_putL_1, lj_put_1, if_neg (by omega)]
  have oa : ∀ o k, obA (setC σ a u) (setM τ (ρ a) w) o k ↔ obA σ τ o k := fun o k => by unfold obA lv; rw [c 7 0 (by omega) (by omega) (by omega) (by omega), c 57 o (by omega) (by omega) (by omega) (by omega), m 38 o (by omega)]
  have us : ∀ b, usd σ0 (setC σ a u) (setM τ (ρ a) w) FP b ↔ usd σ0 σ τ FP b := fun b => by
    unfold usd cpO lv
    have c62 : ∀ j, (setC σ a u).1 62 j = σ.1 62 j := fun j => c 62 j (by omega) (by omega) (by omega) (by omega)
    have c63 : ∀ j, (setC σ a u).1 63 j = σ.1 63 j := fun j => c 63 j (by omega) (by omega) (by omega) (by omega)
    have c74 : ∀ j, (setC σ a u).1 74 j = σ.1 74 j := fun j => c 74 j (by omega) (by omega) (by omega) (by omega)
    have c77 : ∀ j, (setC σ a u).1 77 j = σ.1 77 j := fun j => c 77 j (by omega) (by omega) (by omega) (by omega)
    have m58 : ∀ j, (setM τ (ρ a) w).1 58 j = τ.1 58 j := fun j => m 58 j (by omega)
    simp only [oa, c62, c63, c74, c77, m58]
  have vr : ∀ x y, vR σ τ x y → vR (setC σ a u) (setM τ (ρ a) w) x y := fun x y z => z.cg (fun k j q => c k j (by rintro rfl; simp [vqC] at q) (by rintro rfl; simp [vqC] at q) (by rintro rfl; simp [vqC] at q) (by rintro rfl; simp [vqC] at q)) (fun k j q => m k j (by rintro rfl; simp [vqM] at q))
  have lo : ∀ b, loC (setC σ a u) b = loC σ b := fun b => by unfold loC lv; rw [c 74 b (by omega) (by omega) (by omega) (by omega)]
  have l21 : lv (setC σ a u) 7 21 = lv σ 7 21 := by unfold lv; rw [c 7 21 (by omega) (by omega) (by omega) (by omega)]
  have l25 : lv (setC σ a u) 7 25 = lv σ 7 25 := by unfold lv; rw [c 7 25 (by omega) (by omega) (by omega) (by omega)]
  obtain ⟨h1, h2, ⟨Fc, f1, f2, f3, f4⟩, h4, h5, h6, h7⟩ := h
  refine ⟨fun b z => ?_, fun b b' z1 z2 => h2 b b' ((us b).1 z1) ((us b').1 z2), ⟨Fc, fcM_cg (fun j => m 57 j (by omega)) f1, by unfold lv; rw [m 0 96 (by omega)]; exact f2, f3, fun x hx => ⟨(f4 x hx).1, fun b z => (f4 x hx).2 b ((us b).1 z)⟩⟩, fun o f w1 w2 w3 => ?_, fun x hx => ?_, fun p s z => ?_, by rw [l21, l25]; exact h7⟩
  · have z' := (us b).1 z
    obtain ⟨a1, a2⟩ := h1 b z'
    refine ⟨a1, ?_⟩
    by_cases y : b = a
    · rw [y, vaC_s, setM_v]
      exact vr _ _ hw
    · have ne : ρ b ≠ ρ a := fun e => y (h2 b a z' ha e)
      rw [vaC_o σ a b u y, (setM_o τ (ρ a) w 54 (ρ b) (by omega)).1, (setM_o τ (ρ a) w 55 (ρ b) (by omega)).2]
      exact vr _ _ a2
  · rw [c 62 o (by omega) (by omega) (by omega) (by omega)] at w3
    obtain ⟨r, r1, r2, r3⟩ := h4 o f ((oa o 5).1 w1) w2 w3
    refine ⟨r, by rw [c 63 o (by omega) (by omega) (by omega) (by omega)]; exact r1, by rw [l25]; exact r2, fun k hk => ?_⟩
    obtain ⟨x, c1, c2, c3⟩ := r3 k hk
    exact ⟨x, by rw [l21]; exact c1, by rw [c 77 _ (by omega) (by omega) (by omega) (by omega)]; exact c2, by rw [m 44 _ (by omega), lo]; exact c3⟩
  · rw [l21] at hx
    rw [c 74 x (by omega) (by omega) (by omega) (by omega)]
    rcases h5 x hx with y | ⟨s, y1, y2, y3, y4⟩
    · exact Or.inl y
    · exact Or.inr ⟨s, y1, y2, y3, by rw [c 81 s (by omega) (by omega) (by omega) (by omega)]; exact y4⟩
  · obtain ⟨a1, a2⟩ := h6 p s z
    refine ⟨a1, ?_⟩
    rw [c 81 s (by omega) (by omega) (by omega) (by omega), l21]
    rcases a2 with y | ⟨x, c1, c2, c3⟩
    · exact Or.inl y
    · exact Or.inr ⟨x, c1, c2, by rw [c 74 x (by omega) (by omega) (by omega) (by omega)]; exact c3⟩
theorem MB.var {σ0 τ0 σ τ : lj_S} {n np p : Nat} {r : List Nat} {FP : Nat → List kF} {ρ : Nat → Nat} {A MO LA : List Nat} (h : MB σ0 τ0 n np p r FP ρ A MO LA σ τ) {a : Nat} (ha : usd σ0 σ τ FP a) {u w : vT} (hw : vR σ τ u w) : MB σ0 τ0 n np p r FP ρ A MO LA (setC σ a u) (setM τ (ρ a) w) := by
  have c : ∀ k j, k ≠ 79 → k ≠ 80 → k ≠ 75 → k ≠ 76 → (setC σ a u).1 k j = σ.1 k j ∧ (setC σ a u).2 k j = σ.2 k j := fun k j z1 z2 z3 z4 => setC_o σ a u k j (by omega)
  have m : ∀ k j, k ≠ 54 → k ≠ 55 → (setM τ (ρ a) w).1 k j = τ.1 k j ∧ (setM τ (ρ a) w).2 k j = τ.2 k j := fun k j z z' => setM_o τ (ρ a) w k j (by omega)
  have vr1 : ∀ k j, vqC k j = true → (setC σ a u).1 k j = σ.1 k j := fun k j q => (c k j (by rintro rfl; simp [vqC] at q) (by rintro rfl; simp [vqC] at q) (by rintro rfl; simp [vqC] at q) (by rintro rfl; simp [vqC] at q)).1
  have vr2 : ∀ k j, vqM k j = true → (setM τ (ρ a) w).1 k j = τ.1 k j := fun k j q => (m k j (by rintro rfl; simp [vqM] at q) (by rintro rfl; simp [vqM] at q)).1
  have oa : ∀ o k, obA (setC σ a u) (setM τ (ρ a) w) o k ↔ obA σ τ o k := fun o k => by unfold obA lv; rw [(c 7 0 (by omega) (by omega) (by omega) (by omega)).1, (c 57 o (by omega) (by omega) (by omega) (by omega)).1, (m 38 o (by omega) (by omega)).1]
  have qC : ∀ k j, (k = 79 ∨ k = 80 ∨ k = 75 ∨ k = 76 → False) → (setC σ a u).1 k j = σ.1 k j ∧ (setC σ a u).2 k j = σ.2 k j := fun k j z => c k j (fun y => z (by omega)) (fun y => z (by omega)) (fun y => z (by omega)) (fun y => z (by omega))
  have qM : ∀ k j, (k = 54 ∨ k = 55 → False) → (setM τ (ρ a) w).1 k j = τ.1 k j ∧ (setM τ (ρ a) w).2 k j = τ.2 k j := fun k j z => m k j (fun y => z (by omega)) (fun y => z (by omega))
  refine h.up (fun k j q => qC k j (fun z => ?_)) (fun k j q => qM k j (fun z => ?_)) (fun j z => ?_) (fun _ _ _ => rfl) (sG_eq vr1 vr2) (oG_eq vr1 vr2) (fun o _ => (c 62 o (by omega) (by omega) (by omega) (by omega)).1) (fun o _ => (c 64 o (by omega) (by omega) (by omega) (by omega)).1) (fun o z => (oa o 6).1 z) (Nat.le_refl _) (h.2.1.cg (fun k j q => (qC k j (fun z => ?_)).1) (fun k j q => (qM k j (fun z => ?_)).1)) (h.2.2.2.1.cg (fun k j q => qC k j (fun z => ?_)) (fun k j q => qM k j (fun z => ?_))) (h.2.2.2.2.1.cg (fun k j q => (qC k j (fun z => by omega)).1) (fun k j q => (qM k j (fun z => by omega)).1)) (fun o q w1 w2 w3 => h.2.2.2.2.2.1 o q ((oa o 5).1 w1) w2 (by rw [← (c 62 o (by omega) (by omega) (by omega) (by omega)).1]; exact w3)) (h.2.2.2.2.2.2.2.2.2.1.set ha hw) (h.2.2.2.2.2.2.2.2.2.2.1.cg (fun o k w => (oa o k).2 w) (fun k j w => (qC k j (fun z => by omega)).1) (fun k j w => (qM k j (fun z => by omega)).1) (fun j => (m 42 j (by omega) (by omega)).2) (m 0 78 (by omega) (by omega)).2 (fun q e e' w => w))
  · unfold kpC at q; simp at q; omega
  · unfold kpM at q; simp at q; omega
  · have ne : ¬ (a < 325000 ∧ j = a) := fun y => by
      rcases ha with ⟨q, hq, _⟩ | ⟨_, _, _, _, _, hq⟩
      · exact z q (by rw [y.2]; exact hq)
      · omega
    exact ⟨(setC_o σ a u 79 j (by omega)).1, (setC_o σ a u 80 j (by omega)).2, (setC_o σ a u 81 j (by omega)).1⟩
  · unfold sqC at q; simp at q; omega
  · unfold sqM at q; simp at q; omega
  · unfold hqC vqC at q; simp at q; omega
  · unfold hqM vqM at q; simp at q; omega
