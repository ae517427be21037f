/-! an act that changes the uppermost frame's stacks alone -/
/-- places that the relation does not look at -/
def szC (k j : Nat) : Bool := k == 14 || (k == 3 && j == 6) || (k == 7 && (j == 27 || j == 28)) || k == 105 || k == 106 || k == 107 || k == 108 || (k == 8 && (j == 38 || j == 41 || j == 42 || j == 43 || j == 44)) || (k == 2 && j == 6)
def szM (k j : Nat) : Bool := k == 8 || (k == 0 && (j == 20 || j == 90 || j == 91 || j == 129 || j == 130 || j == 131 || j == 132 || j == 133 || j == 134 || j == 137 || j == 140 || j == 141 || j == 142 || j == 143 || j == 144 || j == 145)) || k == 88 || k == 89 || k == 90 || k == 91
/-- these, and the stacks from a place on -/
def tpC (p i ob k j : Nat) : Bool := szC k j || (k == 94 && j == i) || (k == 97 && j == i) || (k == 8 && j == 8) || ((k == 79 || k == 80 || k == 81) && (decide (ob ≤ j) && decide (j < 12500 * p + 12500)))
def tpM (p i mb kb k j : Nat) : Bool := szM k j || (k == 77 && j == i) || ((k == 63 || k == 64) && j == p) || ((k == 71 || k == 72) && (decide (10000 * p + mb ≤ j) && decide (j < 10000 * p + 10000))) || (k == 73 && (decide (2000 * p + kb ≤ j) && decide (j < 2000 * p + 2000)))
theorem tpC_f {p i ob k j : Nat} (h1 : szC k j = false) (h2 : k ≠ 94 ∨ j ≠ i) (h3 : k ≠ 97 ∨ j ≠ i) (h4 : ¬ (k = 8 ∧ j = 8)) (h5 : k < 79 ∨ 81 < k ∨ j < ob ∨ 12500 * p + 12500 ≤ j) : tpC p i ob k j = false := by
  unfold tpC
  rw [h1]
  simp
  omega
theorem tpM_f {p i mb kb k j : Nat} (h1 : szM k j = false) (h2 : k ≠ 77 ∨ j ≠ i) (h3 : (k ≠ 63 ∧ k ≠ 64) ∨ j ≠ p) (h4 : (k ≠ 71 ∧ k ≠ 72) ∨ j < 10000 * p + mb ∨ 10000 * p + 10000 ≤ j) (h5 : k ≠ 73 ∨ j < 2000 * p + kb ∨ 2000 * p + 2000 ≤ j) : tpM p i mb kb k j = false := by
  unfold tpM
  rw [h1]
  simp
  omega
theorem szC_f {k j : Nat} (h : ¬ (k = 14 ∨ k = 3 ∧ j = 6 ∨ k = 7 ∧ (j = 27 ∨ j = 28) ∨ (105 ≤ k ∧ k ≤ 108) ∨ k = 8 ∧ (j = 38 ∨ 41 ≤ j ∧ j ≤ 44) ∨ k = 2)) : szC k j = false := by
  unfold szC
  simp
  omega
theorem szM_f {k j : Nat} (h : ¬ (k = 8 ∨ k = 0 ∧ (j = 20 ∨ j = 90 ∨ j = 91 ∨ 129 ≤ j ∧ j ≤ 145) ∨ (88 ≤ k ∧ k ≤ 91))) : szM k j = false := by
  unfold szM
  simp
  omega
/-- what the pieces look at stays -/
theorem tp_eq {σ σ' : lj_S} {p i ob : Nat} (f : lf (tpC p i ob) σ σ') {k j : Nat} (h : ¬ (k = 14 ∨ k = 3 ∧ j = 6 ∨ k = 7 ∧ (j = 27 ∨ j = 28) ∨ (105 ≤ k ∧ k ≤ 108) ∨ k = 8 ∧ (j = 8 ∨ j = 38 ∨ 41 ≤ j ∧ j ≤ 44) ∨ k = 2) ∧ k ≠ 94 ∧ k ≠ 97 ∧ (k < 79 ∨ 81 < k)) : σ'.1 k j = σ.1 k j ∧ σ'.2 k j = σ.2 k j := f k j (tpC_f (szC_f (by omega)) (by omega) (by omega) (by omega) (by omega))
theorem tp_eqM {τ τ' : lj_S} {p i mb kb : Nat} (f : lf (tpM p i mb kb) τ τ') {k j : Nat} (h : ¬ (k = 8 ∨ k = 0 ∧ (j = 20 ∨ j = 90 ∨ j = 91 ∨ 129 ≤ j ∧ j ≤ 145) ∨ (88 ≤ k ∧ k ≤ 91)) ∧ k ≠ 77 ∧ k ≠ 63 ∧ k ≠ 64 ∧ (k < 71 ∨ 73 < k)) : τ'.1 k j = τ.1 k j ∧ τ'.2 k j = τ.2 k j := f k j (tpM_f (szM_f (by omega)) (by omega) (by omega) (by omega) (by omega))
theorem tp_vR {σ σ' τ τ' : lj_S} {p i ob p' i' mb kb : Nat} (f : lf (tpC p i ob) σ σ') (g : lf (tpM p' i' mb kb) τ τ') : (∀ k j, vqC k j = true → σ'.1 k j = σ.1 k j) ∧ ∀ k j, vqM k j = true → τ'.1 k j = τ.1 k j := by
  refine ⟨fun k j q => (tp_eq f ?_).1, fun k j q => (tp_eqM g ?_).1⟩
  · unfold vqC at q; simp at q; omega
  · unfold vqM at q; simp at q; omega
theorem tp_sM {σ σ' τ τ' : lj_S} {p i ob p' i' mb kb : Nat} (f : lf (tpC p i ob) σ σ') (g : lf (tpM p' i' mb kb) τ τ') (h : sM σ τ) : sM σ' τ' := by
  refine h.cg (fun k j q => (tp_eq f ?_).1) (fun k j q => (tp_eqM g ?_).1)
  · unfold sqC at q; simp at q; omega
  · unfold sqM at q; simp at q; omega
theorem tp_hp {σ σ' τ τ' : lj_S} {p i ob p' i' mb kb n : Nat} (f : lf (tpC p i ob) σ σ') (g : lf (tpM p' i' mb kb) τ τ') (h : hpR σ τ n) : hpR σ' τ' n := by
  refine h.cg (fun k j q => tp_eq f ?_) (fun k j q => tp_eqM g ?_)
  · unfold hqC vqC at q; simp at q; omega
  · unfold hqM vqM at q; simp at q; omega
theorem tp_ob {σ σ' τ τ' : lj_S} {p i ob p' i' mb kb n : Nat} (f : lf (tpC p i ob) σ σ') (g : lf (tpM p' i' mb kb) τ τ') (h : obR σ τ n) : obR σ' τ' n := h.cg (fun k j q => (tp_eq f (by omega)).1) (fun k j q => (tp_eqM g (by omega)).1)
theorem tp_oa {σ σ' τ τ' : lj_S} {p i ob p' i' mb kb : Nat} (f : lf (tpC p i ob) σ σ') (g : lf (tpM p' i' mb kb) τ τ') (o : Nat) (k : Int32) : obA σ' τ' o k ↔ obA σ τ o k := by
  unfold obA lv
  rw [(tp_eq f (k := 7) (j := 0) (by omega)).1, (tp_eq f (k := 57) (j := o) (by omega)).1, (tp_eqM g (k := 38) (j := o) (by omega)).1]
theorem tp_fn {σ0 τ0 σ σ' τ τ' : lj_S} {p i ob p' i' mb kb : Nat} (f : lf (tpC p i ob) σ σ') (g : lf (tpM p' i' mb kb) τ τ') (h : fnO σ0 τ0 σ τ) : fnO σ0 τ0 σ' τ' := fun o q w1 w2 w3 => h o q ((tp_oa f g o 5).1 w1) w2 (by rw [← (tp_eq f (k := 62) (j := o) (by omega)).1]; exact w3)
theorem tp_ou {σ σ' τ τ' : lj_S} {p i ob p' i' mb kb : Nat} (f : lf (tpC p i ob) σ σ') (g : lf (tpM p' i' mb kb) τ τ') (h : ouR σ τ) : ouR σ' τ' := by
  have e : lv σ' 8 50 = lv σ 8 50 := by unfold lv; rw [(tp_eq f (k := 8) (j := 50) (by omega)).1]
  refine ⟨by rw [(tp_eq f (k := 8) (j := 50) (by omega)).1, (tp_eqM g (k := 0) (j := 150) (by omega)).1]; exact h.1, by rw [e]; exact h.2.1, fun j j1 j2 => ?_⟩
  rw [(tp_eq f (k := 109) (j := j) (by omega)).1, (tp_eqM g (k := 94) (j := j) (by omega)).1]
  exact h.2.2 j j1 (by rw [e] at j2; exact j2)
