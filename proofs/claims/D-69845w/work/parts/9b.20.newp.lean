/-! a part more -/
theorem MB.newp {σ0 τ0 σ τ : lj_S} {n np p : Nat} {r : List Nat} {FP : Nat → List kF} {ρ : Nat → Nat} {A MO LA : List Nat} (h : MB σ0 τ0 n np p r FP ρ A MO LA σ τ) (hn : n < 2000) (hnp : np < 25) {σ' τ' : lj_S}
    (f : ∀ a j, ¬ (a = 7 ∧ (j = 0 ∨ j = 1)) → ¬ ((57 ≤ a ∧ a ≤ 61 ∨ a = 64 ∨ a = 65) ∧ j = n + 1) → ¬ ((a = 82 ∨ a = 83 ∨ a = 85 ∨ a = 88 ∨ a = 90) ∧ j = np + 1) → σ'.1 a j = σ.1 a j) (f2 : ∀ a j, ¬ (a = 89 ∧ j = np + 1) → σ'.2 a j = σ.2 a j)
    (g : ∀ a j, ¬ (a = 0 ∧ (j = 77 ∨ j = 110)) → ¬ ((38 ≤ a ∧ a ≤ 43) ∧ j = n + 1) → ¬ ((58 ≤ a ∧ a ≤ 65) ∧ j = np + 1) → τ'.1 a j = τ.1 a j) (g2 : ∀ a j, ¬ (a = 42 ∧ j = n + 1) → ¬ (a = 61 ∧ j = np + 1) → τ'.2 a j = τ.2 a j)
    (c71 : σ'.1 7 1 = Int32.ofNat (np + 1)) (c57 : σ'.1 57 (n + 1) = 6) (c64 : σ'.1 64 (n + 1) = Int32.ofNat (np + 1)) (c85 : σ'.1 85 (np + 1) = Int32.ofNat (n + 1)) (c83 : σ'.1 83 (np + 1) = 0) (c88 : σ'.1 88 (np + 1) = 5) (c82 : σ'.1 82 (np + 1) = Int32.ofNat (12500 * (np + 1))) (c90 : σ'.1 90 (np + 1) = 0) (c65 : σ'.1 65 (n + 1) = 0)
    (m110 : τ'.1 0 110 = Int32.ofNat (np + 1)) (m38 : τ'.1 38 (n + 1) = 6) (m43 : τ'.1 43 (n + 1) = Int32.ofNat (np + 1)) (m59 : τ'.1 59 (np + 1) = Int32.ofNat (n + 1)) (m58 : τ'.1 58 (np + 1) = 0) (m62 : τ'.1 62 (np + 1) = 0) (m63 : τ'.1 63 (np + 1) = 0) (m64 : τ'.1 64 (np + 1) = 0) (m65 : τ'.1 65 (np + 1) = 0) (m42 : τ'.2 42 (n + 1) = 0)
    (gv : vR σ' τ' (5, σ'.2 89 (np + 1)) (τ'.1 60 (np + 1), τ'.2 61 (np + 1))) (ghp : hpR σ' τ' (n + 1)) (hG : sG σ τ σ' τ') (hO : oG σ τ σ' τ') : MB σ0 τ0 (n + 1) (np + 1) p r FP ρ A MO LA σ' τ' ∧ obA σ' τ' (n + 1) 6 := by
  have hls := h.ls
  obtain ⟨h1, h2, h3, h4, h5, h6, h7, h8, h9, h10, h11, h12, h13⟩ := h
  have l70 : lv σ 7 0 = (n : Int) := h4.2.1
  have k70 : lv σ' 7 0 = ((n + 1 : Nat) : Int) := ghp.2.1
  have hv : ∀ a b, vR σ τ a b → vR σ' τ' a b := fun a b w => w.up hG hO
  have ob6 : obA σ' τ' (n + 1) 6 := ⟨by omega, by omega, by rw [k70]; omega, c57, m38⟩
  have back : ∀ o k, obA σ' τ' o k → o ≠ n + 1 → obA σ τ o k := fun o k w ne => by
    obtain ⟨w1, w2, w3, w4, w5⟩ := w
    rw [k70] at w3
    rw [f 57 o (by omega) (by omega) (by omega)] at w4
    rw [g 38 o (by omega) (by omega) (by omega)] at w5
    exact ⟨w1, w2, by rw [l70]; omega, w4, w5⟩
  have o5 : ∀ o, obA σ' τ' o 5 ↔ obA σ τ o 5 := fun o => ⟨fun w => back o 5 w (fun y => by
    have := w.2.2.2.1
    rw [y, c57] at this
    exact absurd this (by decide)), fun w => w.up hO⟩
  obtain ⟨⟨a1, a2, a3⟩, ⟨b1, b2⟩, ⟨c1, c2⟩, d1, d2, d3, d4, d5, d6, d7, d8, d9⟩ := h7
  have pn := d3 p List.mem_cons_self
  have nin : np + 1 ∉ p :: r := fun y => by have := d3 _ y; omega
  refine ⟨⟨⟨fun k j q => ?_, fun k j q => ?_⟩, h2.cg (fun k j q => f k j ?_ ?_ ?_) (fun k j q => g k j ?_ ?_ ?_), h3.up hG (fun j => f 78 j (by omega) (by omega) (by omega)) (f 8 1 (by omega) (by omega) (by omega)) (f 8 3 (by omega) (by omega) (by omega)), ghp, ?_, fun o q w1 w2 w3 => h6 o q ((o5 o).1 w1) w2 (by rw [← f 62 o (by omega) (by omega) (by omega)]; exact w3), ?_, fun q q1 q2 => ?_, ?_, h10.ob (Nat.le_succ _) o5 hv (fun k j w => f k j (by omega) (by omega) (by omega)) (fun j => f2 76 j (by omega)) (fun s => by unfold cv; rw [f 79 s (by omega) (by omega) (by omega), f2 80 s (by omega)]) (fun k j w => g k j (by omega) (by omega) (by omega)) (fun j => g2 55 j (by omega) (by omega)) (fun q hq => g 58 q (by omega) (by omega) (fun z => hq (d6 q (by omega)))), h11.ob l70 (fun o k w => w.up hO) (fun k j w => f k j (by omega) (by omega) (by omega)) (fun j hj => ⟨f 57 j (by omega) (by omega) (by omega), f 65 j (by omega) (by omega) (by omega), g2 42 j (by omega) (by omega)⟩) (fun k j w => g k j (by omega) (by omega) (by omega)) (g2 0 78 (by omega) (by omega)) c65 m42, ?_, fun j z => by rw [f 81 j (by omega) (by omega) (by omega)]; exact h13.1 j z, h13.2.tr hG⟩, ob6⟩
  · have w := h1.1 k j q
    exact ⟨by rw [f k j (by unfold cdC at q; simp at q; omega) (by unfold cdC at q; simp at q; omega) (by unfold cdC at q; simp at q; omega)]; exact w.1, by rw [f2 k j (by unfold cdC at q; simp at q; omega)]; exact w.2⟩
  · have w := h1.2 k j q
    exact ⟨by rw [g k j (by unfold cdM at q; simp at q; omega) (by unfold cdM at q; simp at q; omega) (by unfold cdM at q; simp at q; omega)]; exact w.1, by rw [g2 k j (by unfold cdM at q; simp at q; omega) (by unfold cdM at q; simp at q; omega)]; exact w.2⟩
  · unfold sqC at q; simp at q; omega
  · unfold sqC at q; simp at q; omega
  · unfold sqC at q; simp at q; omega
  · unfold sqM at q; simp at q; omega
  · unfold sqM at q; simp at q; omega
  · unfold sqM at q; simp at q; omega
  · refine ⟨by rw [f 58 0 (by omega) (by omega) (by omega)]; exact h5.1, fun o o1 o2 => ?_⟩
    by_cases z : o = n + 1
    · rw [z, c57, m38, c64, m43]
      exact ⟨⟨rfl, Or.inr (Or.inr (Or.inr rfl))⟩, fun w => absurd w (by decide), fun w => absurd w (by decide), fun _ => ⟨np + 1, by omega, by omega, rfl, rfl⟩⟩
    · obtain ⟨x1, x2, x3, x4⟩ := h5.2 o o1 (by omega)
      rw [f 57 o (by omega) (by omega) (by omega), f 58 o (by omega) (by omega) (by omega), f 62 o (by omega) (by omega) (by omega), f 64 o (by omega) (by omega) (by omega), g 38 o (by omega) (by omega) (by omega), g 39 o (by omega) (by omega) (by omega), g 43 o (by omega) (by omega) (by omega)]
      refine ⟨x1, fun w => ?_, x3, x4⟩
      rcases x2 w with w | ⟨m, w1, w2⟩
      · exact Or.inl w
      · exact Or.inr ⟨m, w1.up hO, w2⟩
  · refine ⟨⟨c71, m110, by omega⟩, ⟨by rw [f 8 7 (by omega) (by omega) (by omega)]; exact b1, by rw [g 0 111 (by omega) (by omega) (by omega)]; exact b2⟩, ⟨by rw [f 83 p (by omega) (by omega) (by omega)]; exact c1, by rw [g 58 p (by omega) (by omega) (by omega)]; exact c2⟩, chn_cx (fun k q w => f k q (by omega) (by omega) (by omega)) (fun k q w => g k q (by omega) (by omega) (by omega)) d1 (fun q hq => ?_), d2, fun q hq => by have := d3 q hq; omega, by rw [f 8 18 (by omega) (by omega) (by omega)]; exact d4, d5, fun q hq => d6 q (by omega), by rw [g 59 0 (by omega) (by omega) (by omega)]; exact d7, ⟨fun q q1 q2 => ?_, fun o w => ?_⟩, fun q q1 q2 => ?_⟩
    · have := d3 q (List.mem_cons_of_mem _ hq)
      exact ⟨f 83 q (by omega) (by omega) (by omega), g 58 q (by omega) (by omega) (by omega)⟩
    · by_cases z : q = np + 1
      · rw [z, c85, m59]
        exact ⟨n + 1, by omega, Nat.le_refl _, rfl, rfl, fun _ => ob6, fun _ => c64⟩
      · obtain ⟨o, o1, o2, o3, o4, o5', o6⟩ := d8.1 q q1 (by omega)
        exact ⟨o, o1, by omega, by rw [f 85 q (by omega) (by omega) (by omega)]; exact o3, by rw [g 59 q (by omega) (by omega) (by omega)]; exact o4, fun w => (o5' (by rw [← g 58 q (by omega) (by omega) (by omega)]; exact w)).up hO, fun w => by rw [f 64 o (by omega) (by omega) (by omega)]; exact o6 (back o 6 w (by omega))⟩
    · by_cases z : o = n + 1
      · rw [z]
        exact ⟨np + 1, by omega, Nat.le_refl _, c64, c85⟩
      · obtain ⟨q, q1, q2, q3, q4⟩ := d8.2 o (back o 6 w z)
        exact ⟨q, q1, by omega, by rw [f 64 o (by omega) (by omega) (by omega)]; exact q3, by rw [f 85 q (by omega) (by omega) (by omega)]; exact q4⟩
    · by_cases z : q = np + 1
      · rw [z]
        exact Or.inl ⟨c83, m58, d6 _ (by omega), c88, by rw [c88]; exact gv⟩
      · rw [f 83 q (by omega) (by omega) (by omega), g 58 q (by omega) (by omega) (by omega), f 88 q (by omega) (by omega) (by omega), f2 89 q (by omega), g 60 q (by omega) (by omega) (by omega), g2 61 q (by omega) (by omega), f 87 q (by omega) (by omega) (by omega), g 69 q (by omega) (by omega) (by omega), g 70 q (by omega) (by omega) (by omega), g 62 q (by omega) (by omega) (by omega), f 85 q (by omega) (by omega) (by omega)]
        rcases d9 q (by omega) q2 with ⟨w1, w2, w3, w4, w5⟩ | w | ⟨w1, w2, w3, w4⟩
        · exact Or.inl ⟨w1, w2, w3, w4, hv _ _ w5⟩
        · exact Or.inr (Or.inl w)
        · refine Or.inr (Or.inr ⟨w1, w2, w3, w4.imp id (fun ⟨o, e0, e1, e2, e3⟩ => ⟨o, e0, e1, ?_, e3⟩)⟩)
          have q0 : 1 ≤ q := by
            rcases Nat.eq_zero_or_pos q with y | y
            · exfalso
              rw [y] at q2
              exact q2 (chn_m0 d1)
            · exact y
          obtain ⟨o', o1, o2, o3, _⟩ := d8.1 q q0 (by omega)
          have : o = o' := by
            rw [e1] at o3
            exact (ofN_eq (by omega) (by omega)).1 o3
          rw [this] at e2 ⊢
          rw [f 57 o' (by omega) (by omega) (by omega)]
          exact e2
  · by_cases z : q = np + 1
    · have e0 : FP q = [] := d6 q (by omega)
      refine ⟨12500 * (np + 1), 0, 0, ?_, ⟨by rw [e0]; simp, by omega, by omega, by omega⟩, ?_, by rw [e0, z]; exact c90, by rw [z]; exact m63, by rw [z]; exact m64, by rw [e0, z]; exact m62, by rw [e0, z]; exact m65⟩
      · rw [e0, z]
        exact ⟨rfl, rfl, rfl⟩
      · rw [if_neg (by omega), z]
        exact c82
    · have q2' : τ.1 58 q ≠ 4 := by rw [g 58 q (by omega) (by omega) (by omega)] at q2; exact q2
      obtain ⟨ce, me, mq, pr, ⟨x1, x2, x3, x4⟩, e8, e90, e63, e64, e62, e65⟩ := h8 q (by omega) q2'
      refine ⟨ce, me, mq, prt_cg hv hO (fun o _ => f 62 o (by omega) (by omega) (by omega)) pr (fun j w1 w2 w3 => ⟨f 79 j (by omega) (by omega) (by omega), f2 80 j (by omega), f 81 j (by omega) (by omega) (by omega)⟩) (fun k i w1 w2 w3 => f k _ (by omega) (by omega) (by omega)) (fun j w => ⟨g 71 _ (by omega) (by omega) (by omega), g2 72 _ (by omega) (by omega)⟩) (fun j w => g 73 _ (by omega) (by omega) (by omega)) (fun k i w1 w2 w3 => g k _ (by omega) (by omega) (by omega)) (fun i x _ _ => g 87 _ (by omega) (by omega) (by omega)) (fun a w => rfl), ⟨x1, x2, x3, x4⟩, ?_, by rw [f 90 q (by omega) (by omega) (by omega)]; exact e90, by rw [g 63 q (by omega) (by omega) (by omega)]; exact e63, by rw [g 64 q (by omega) (by omega) (by omega)]; exact e64, by rw [g 62 q (by omega) (by omega) (by omega)]; exact e62, by rw [g 65 q (by omega) (by omega) (by omega)]; exact e65⟩
      by_cases y : q = p
      · rw [if_pos y] at e8 ⊢; rw [f 8 8 (by omega) (by omega) (by omega)]; exact e8
      · rw [if_neg y] at e8 ⊢; rw [f 82 q (by omega) (by omega) (by omega)]; exact e8
  · cases e : FP p with
    | nil => rw [e] at h9; show σ'.1 8 34 = -1; rw [f 8 34 (by omega) (by omega) (by omega)]; exact h9
    | cons F L => rw [e] at h9; exact ⟨by rw [f 8 34 (by omega) (by omega) (by omega)]; exact h9.1, fun z => by rw [f 8 35 (by omega) (by omega) (by omega)]; exact h9.2 z⟩
  · have e : lv σ' 8 50 = lv σ 8 50 := by unfold lv; rw [f 8 50 (by omega) (by omega) (by omega)]
    refine ⟨by rw [f 8 50 (by omega) (by omega) (by omega), g 0 150 (by omega) (by omega) (by omega)]; exact h12.1, by rw [e]; exact h12.2.1, fun j j1 j2 => ?_⟩
    rw [f 109 j (by omega) (by omega) (by omega), g 94 j (by omega) (by omega) (by omega)]
    exact h12.2.2 j j1 (by rw [e] at j2; exact j2)
