/-! a function more -/
theorem clR.fun {σ0 σ τ σ' τ' : lj_S} {FP : Nat → List kF} {ρ : Nat → Nat} {n f K N0 N' r : Nat} (h : clR σ0 σ τ FP ρ n) (hn : n < 2000) (l70 : lv σ 7 0 = (n : Int)) (e21 : σ.1 7 21 = Int32.ofNat N0) (e25 : σ.1 7 25 = Int32.ofNat r) (hN0 : N0 ≤ r) (hr : r ≤ 30 * n) (e21' : σ'.1 7 21 = Int32.ofNat N') (e25' : σ'.1 7 25 = Int32.ofNat (r + K)) (hNN : N0 ≤ N') (hN' : N' ≤ r + K) (hK : K ≤ 30) (h33 : lv σ0 33 f = (K : Int)) (hf : f < 51) (gk30 : ∀ o g : Nat, obA σ τ o 5 → g < 51 → σ.1 62 o = Int32.ofNat g → ∀ k : Nat, (k : Int) < lv σ0 33 g → k < 30)
    (ob : ∀ o, obA σ' τ' o 5 ↔ obA σ τ o 5 ∨ o = n + 1) (h62 : ∀ o, o ≠ n + 1 → σ'.1 62 o = σ.1 62 o ∧ σ'.1 63 o = σ.1 63 o) (h62' : σ'.1 62 (n + 1) = Int32.ofNat f) (h63' : σ'.1 63 (n + 1) = Int32.ofNat r)
    (h74 : ∀ c, c < N0 → σ'.1 74 c = σ.1 74 c) (h77 : ∀ j, j < r → σ'.1 77 j = σ.1 77 j) (hv : ∀ a b, vR σ τ a b → vR σ' τ' a b) (h75 : ∀ j, σ'.1 75 j = σ.1 75 j) (h76 : ∀ j, σ'.2 76 j = σ.2 76 j) (hcv : ∀ s, cv σ' s = cv σ s)
    (h44 : ∀ j, j < 30 * (n + 1) → τ'.1 44 j = τ.1 44 j) (hM : ∀ k j, (k = 54 ∨ k = 57 ∨ k = 58 ∨ k = 0 ∧ j = 96) → τ'.1 k j = τ.1 k j) (h55 : ∀ j, τ'.2 55 j = τ.2 55 j) (I : cqI (fun s => ∃ p, lsL (FP p) s) σ' N')
    (new : ∀ k, k < K → ∃ c, c < N' ∧ σ'.1 77 (r + k) = Int32.ofNat c ∧ τ'.1 44 (30 * (n + 1) + k) = Int32.ofNat (ρ (loC σ' c)) ∧ ((∃ p s, lsL (FP p) s ∧ τ.1 58 p ≠ 4 ∧ σ'.1 74 c = Int32.ofNat s) ∨ (c < N0 ∧ ∃ o k', cpO σ0 σ τ o k' c))) : clR σ0 σ' τ' FP ρ (n + 1) := by
  obtain ⟨h1, h2, ⟨Fc, f1, f2, f3, f4⟩, h4, h5, h6, h7⟩ := h
  have L21 : lv σ 7 21 = (N0 : Int) := by unfold lv; rw [e21, lz_lit (by omega)]
  have L25 : lv σ 7 25 = (r : Int) := by unfold lv; rw [e25, lz_lit (by omega)]
  have L21' : lv σ' 7 21 = (N' : Int) := by unfold lv; rw [e21', lz_lit (by omega)]
  have L25' : lv σ' 7 25 = ((r + K : Nat) : Int) := by unfold lv; rw [e25', lz_lit (by omega)]
  have on : ∀ o, obA σ τ o 5 → o ≤ n := fun o w => by have := w.2.2.1; rw [l70] at this; omega
  -- cells of functions that were there
  have cpo : ∀ o k c, cpO σ0 σ τ o k c → c < N0 ∧ cpO σ0 σ' τ' o k c := fun o k c w => by
    obtain ⟨w1, g, r1, w2, w3, w4, w5, w6, w7, w8⟩ := w
    have o1 := on o w1
    obtain ⟨r2, y1, y2, y3⟩ := h4 o g w1 w2 w3
    have er : r1 = r2 := (ofN_eq (by omega) (by omega)).1 (by rw [← w6, ← y1])
    subst er
    obtain ⟨c', z1, z2, z3⟩ := y3 k w4
    have ec : c = c' := (ofN_eq (by omega) (by rw [L21] at z1; omega)).1 (by rw [← w7, ← z2])
    subst ec
    rw [L21] at z1
    rw [L25] at y2
    refine ⟨by omega, (ob o).2 (Or.inl w1), g, r1, w2, by rw [(h62 o (by omega)).1]; exact w3, w4, w5, by rw [(h62 o (by omega)).2]; exact w6, by rw [h77 _ (by omega)]; exact w7, w8⟩
  have cpb : ∀ o k c, cpO σ0 σ' τ' o k c → o ≠ n + 1 → c < N0 ∧ cpO σ0 σ τ o k c := fun o k c w ne => by
    obtain ⟨w1, g, r1, w2, w3, w4, w5, w6, w7, w8⟩ := w
    have w1 := ((ob o).1 w1).resolve_right ne
    have o1 := on o w1
    rw [(h62 o ne).1] at w3
    rw [(h62 o ne).2] at w6
    obtain ⟨r2, y1, y2, y3⟩ := h4 o g w1 w2 w3
    have er : r1 = r2 := (ofN_eq (by omega) (by omega)).1 (by rw [← w6, ← y1])
    subst er
    rw [L25] at y2
    rw [h77 _ (by omega)] at w7
    have w : cpO σ0 σ τ o k c := ⟨w1, g, r1, w2, w3, w4, w5, w6, w7, w8⟩
    exact ⟨(cpo o k c w).1, w⟩
  -- the cells of the new one
  have cpn : ∀ k c, cpO σ0 σ' τ' (n + 1) k c → k < K ∧ c < N' ∧ σ'.1 77 (r + k) = Int32.ofNat c ∧ ((∃ p s, lsL (FP p) s ∧ τ.1 58 p ≠ 4 ∧ σ'.1 74 c = Int32.ofNat s) ∨ (c < N0 ∧ ∃ o k', cpO σ0 σ τ o k' c)) := fun k c w => by
    obtain ⟨_, g, r1, w2, w3, w4, w5, w6, w7, w8⟩ := w
    have eg : g = f := (ofN_eq (by omega) (by omega)).1 (by rw [← w3, ← h62'])
    subst eg
    have er : r1 = r := (ofN_eq (by omega) (by omega)).1 (by rw [← w6, ← h63'])
    subst er
    rw [h33] at w4
    obtain ⟨c', z1, z2, z3, z4⟩ := new k (by omega)
    have ec : c = c' := (ofN_eq (by omega) (by omega)).1 (by rw [← w7, ← z2])
    subst ec
    exact ⟨by omega, z1, z2, z4⟩
  have us : ∀ a, usd σ0 σ' τ' FP a ↔ usd σ0 σ τ FP a := fun a => by
    constructor
    · rintro (⟨p, w1, w2⟩ | ⟨o, k, c, w1, w2, w3⟩)
      · rcases w2 with w2 | ⟨o, k, c, w2, w3⟩
        · exact Or.inl ⟨p, w1, Or.inl (by rw [← hM 58 p (by omega)]; exact w2)⟩
        · by_cases ne : o = n + 1
          · subst ne
            obtain ⟨_, _, _, z⟩ := cpn k c w2
            rcases z with ⟨p', s, z1, z2, z3⟩ | ⟨z1, o, k', z2⟩
            · have es : a = s := (ofN_eq (by have := (h6 p a w1).1; omega) (by have := (h6 p' s z1).1; omega)).1 (by rw [← w3, ← z3])
              subst es
              exact Or.inl ⟨p', z1, Or.inl z2⟩
            · rw [h74 c z1] at w3
              exact Or.inl ⟨p, w1, Or.inr ⟨o, k', c, z2, w3⟩⟩
          · obtain ⟨z1, z2⟩ := cpb o k c w2 ne
            rw [h74 c z1] at w3
            exact Or.inl ⟨p, w1, Or.inr ⟨o, k, c, z2, w3⟩⟩
      · by_cases ne : o = n + 1
        · subst ne
          obtain ⟨_, _, _, z⟩ := cpn k c w1
          rcases z with ⟨p', s, z1, z2, z3⟩ | ⟨z1, o, k', z2⟩
          · unfold lv at w2
            rw [z3, lz_lit (by have := (h6 p' s z1).1; omega)] at w2
            omega
          · have e : lv σ' 74 c = lv σ 74 c := by unfold lv; rw [h74 c z1]
            rw [e] at w2
            exact Or.inr ⟨o, k', c, z2, w2, w3⟩
        · obtain ⟨z1, z2⟩ := cpb o k c w1 ne
          have e : lv σ' 74 c = lv σ 74 c := by unfold lv; rw [h74 c z1]
          rw [e] at w2
          exact Or.inr ⟨o, k, c, z2, w2, w3⟩
    · rintro (⟨p, w1, w2⟩ | ⟨o, k, c, w1, w2, w3⟩)
      · rcases w2 with w2 | ⟨o, k, c, w2, w3⟩
        · exact Or.inl ⟨p, w1, Or.inl (by rw [hM 58 p (by omega)]; exact w2)⟩
        · obtain ⟨z1, z2⟩ := cpo o k c w2
          exact Or.inl ⟨p, w1, Or.inr ⟨o, k, c, z2, by rw [h74 c z1]; exact w3⟩⟩
      · obtain ⟨z1, z2⟩ := cpo o k c w1
        have e : lv σ' 74 c = lv σ 74 c := by unfold lv; rw [h74 c z1]
        exact Or.inr ⟨o, k, c, z2, by rw [e]; exact w2, w3⟩
  have va : ∀ a, vaC σ' a = vaC σ a := fun a => by
    unfold vaC
    rw [hcv, h75, h76]
  obtain ⟨_, i5, i6⟩ := I
  refine ⟨fun a w => ?_, fun a b w1 w2 => h2 a b ((us a).1 w1) ((us b).1 w2), ⟨Fc, fcM_cg (fun j => hM 57 j (by omega)) f1, ?_, f3, fun c hc => ⟨(f4 c hc).1, fun a w => (f4 c hc).2 a ((us a).1 w)⟩⟩, fun o g w1 w2 w3 => ?_, fun c hc => ?_, fun p s w => ?_, ?_⟩
  · obtain ⟨y1, y2⟩ := h1 a ((us a).1 w)
    refine ⟨y1, ?_⟩
    rw [va, hM 54 _ (by omega), h55]
    exact hv _ _ y2
  · unfold lv at f2 ⊢
    rw [hM 0 96 (by omega)]; exact f2
  · by_cases ne : o = n + 1
    · subst ne
      have eg : g = f := (ofN_eq (by omega) (by omega)).1 (by rw [← w3, ← h62'])
      subst eg
      refine ⟨r, h63', by rw [h33, L25']; omega, fun k hk => ?_⟩
      rw [h33] at hk
      obtain ⟨c, z1, z2, z3, _⟩ := new k (by omega)
      exact ⟨c, by rw [L21']; omega, z2, z3⟩
    · have w1 := ((ob o).1 w1).resolve_right ne
      have o1 := on o w1
      rw [(h62 o ne).1] at w3
      obtain ⟨r2, y1, y2, y3⟩ := h4 o g w1 w2 w3
      rw [L25] at y2
      refine ⟨r2, by rw [(h62 o ne).2]; exact y1, by rw [L25']; omega, fun k hk => ?_⟩
      obtain ⟨c, z1, z2, z3⟩ := y3 k hk
      rw [L21] at z1
      have k30 : k < 30 := by
        have c30 := gk30 o g w1 w2 w3 k hk
        exact c30
      refine ⟨c, by rw [L21']; omega, by rw [h77 _ (by omega)]; exact z2, ?_⟩
      rw [h44 _ (by omega), z3]
      have : loC σ' c = loC σ c := by unfold loC lv; rw [h74 c (by omega)]
      rw [this]
  · rw [L21'] at hc
    rcases i5 c (by omega) with w | ⟨s, w1, w2, w3, w4⟩
    · exact Or.inl w
    · exact Or.inr ⟨s, w1, w2, w3, w4⟩
  · obtain ⟨w0, w⟩ := i6 s ⟨p, w⟩
    refine ⟨w0, ?_⟩
    rcases w with w | ⟨c, w1, w2, w3⟩
    · exact Or.inl w
    · exact Or.inr ⟨c, by rw [L21']; omega, w2, w3⟩
  · rw [L21', L25']
    omega
theorem MB.fun {σ0 τ0 σ τ : lj_S} {n np p : Nat} {r : List Nat} {FP : Nat → List kF} {ρ : Nat → Nat} {A MO LA : List Nat} (h : MB σ0 τ0 n np p r FP ρ A MO LA σ τ) (hn : n < 2000) {σ' τ' : lj_S} {f K N0 N' rr : Nat}
    (oC : ∀ a j, ¬ (a = 7 ∧ (j = 0 ∨ j = 21 ∨ j = 25)) → ¬ ((57 ≤ a ∧ a ≤ 63 ∨ a = 65) ∧ j = n + 1) → a ≠ 74 → a ≠ 77 → a ≠ 81 → σ'.1 a j = σ.1 a j) (oC2 : ∀ a j, σ'.2 a j = σ.2 a j) (oM : ∀ a j, ¬ (a = 0 ∧ j = 77) → ¬ ((38 ≤ a ∧ a ≤ 43) ∧ j = n + 1) → ¬ (a = 44 ∧ 30 * (n + 1) ≤ j) → τ'.1 a j = τ.1 a j) (oM2 : ∀ a j, ¬ (a = 42 ∧ j = n + 1) → τ'.2 a j = τ.2 a j)
    (c57 : σ'.1 57 (n + 1) = 5) (c58 : σ'.1 65 (n + 1) = 0) (c62 : σ'.1 62 (n + 1) = Int32.ofNat f) (c63 : σ'.1 63 (n + 1) = Int32.ofNat rr) (m38 : τ'.1 38 (n + 1) = 5) (m43 : τ'.1 43 (n + 1) = Int32.ofNat f) (m42 : τ'.2 42 (n + 1) = 0) (ghp : hpR σ' τ' (n + 1)) (hG : sG σ τ σ' τ') (hO : oG σ τ σ' τ')
    (e21 : σ.1 7 21 = Int32.ofNat N0) (e25 : σ.1 7 25 = Int32.ofNat rr) (hN0 : N0 ≤ rr) (hr : rr ≤ 30 * n) (e21' : σ'.1 7 21 = Int32.ofNat N') (e25' : σ'.1 7 25 = Int32.ofNat (rr + K)) (hNN : N0 ≤ N') (hN' : N' ≤ rr + K) (hK : K ≤ 30) (h33 : lv σ0 33 f = (K : Int)) (hf : f < 51)
    (fo : (∃ n, n ≤ 2 ∧ gn σ0 τ0 n (fnE σ0 τ0 f)) ∧ (σ0.1 29 f = τ0.1 13 f ∧ 0 ≤ lv σ0 29 f ∧ lv σ0 29 f ≤ 50) ∧ (0 ≤ lv σ0 28 f ∧ 0 ≤ lv τ0 12 f) ∧ lv σ0 33 f = lv τ0 15 f ∧ 0 ≤ lv σ0 33 f ∧ lv σ0 33 f ≤ 30 ∧ (f : Int) < lv σ0 5 8)
    (h74 : ∀ c, c < N0 → σ'.1 74 c = σ.1 74 c) (h77 : ∀ j, j < rr → σ'.1 77 j = σ.1 77 j) (h81 : ∀ j, σ'.1 81 j = σ.1 81 j ∨ ∃ p, lsL (FP p) j) (I : cqI (fun s => ∃ p, lsL (FP p) s) σ' N')
    (new : ∀ k, k < K → ∃ c, c < N' ∧ σ'.1 77 (rr + k) = Int32.ofNat c ∧ τ'.1 44 (30 * (n + 1) + k) = Int32.ofNat (ρ (loC σ' c)) ∧ ((∃ p s, lsL (FP p) s ∧ τ.1 58 p ≠ 4 ∧ σ'.1 74 c = Int32.ofNat s) ∨ (c < N0 ∧ ∃ o k', cpO σ0 σ τ o k' c))) : MB σ0 τ0 (n + 1) np p r FP ρ A MO LA σ' τ' ∧ obA σ' τ' (n + 1) 5 := by
  have l70 := h.2.2.2.1.2.1
  have k70 : lv σ' 7 0 = ((n + 1 : Nat) : Int) := ghp.2.1
  have hv : ∀ a b, vR σ τ a b → vR σ' τ' a b := fun a b w => w.up hG hO
  have ob5 : obA σ' τ' (n + 1) 5 := ⟨by omega, by omega, by rw [k70]; omega, c57, m38⟩
  have back : ∀ o k, obA σ' τ' o k → o ≠ n + 1 → obA σ τ o k := fun o k w ne => by
    obtain ⟨w1, w2, w3, w4, w5⟩ := w
    rw [k70] at w3
    rw [oC 57 o (by omega) (by omega) (by omega) (by omega) (by omega)] at w4
    rw [oM 38 o (by omega) (by omega) (by omega)] at w5
    exact ⟨w1, w2, by rw [l70]; omega, w4, w5⟩
  have o5 : ∀ o, obA σ' τ' o 5 ↔ obA σ τ o 5 ∨ o = n + 1 := fun o => by
    constructor
    · intro w
      by_cases e : o = n + 1
      · exact Or.inr e
      · exact Or.inl (back o 5 w e)
    · rintro (w | w)
      · exact w.up hO
      · rw [w]; exact ob5
  have n1 : n ≤ 2000 := h.2.2.2.1.1
  have on : ∀ o k, obA σ τ o k → o ≤ n := fun o k w => by have := w.2.2.1; rw [l70] at this; omega
  have hfn := h.2.2.2.2.2.1
  refine ⟨h.up (fun k j q => ⟨oC k j ?_ ?_ ?_ ?_ ?_, oC2 k j⟩) (fun k j q => ⟨oM k j ?_ ?_ ?_, oM2 k j ?_⟩) (fun j w => ⟨oC 79 j (by omega) (by omega) (by omega) (by omega) (by omega), oC2 80 j, (h81 j).resolve_right (fun y => by obtain ⟨q, y⟩ := y; exact w q y)⟩) (fun _ _ _ => rfl) hG hO (fun o w => oC 62 o (by omega) (by have := on o 5 w; omega) (by omega) (by omega) (by omega)) (fun o w => oC 64 o (by omega) (by omega) (by omega) (by omega) (by omega)) (fun o w => back o 6 w (fun e => by rw [e] at w; have := w.2.2.2.1; rw [c57] at this; exact absurd this (by decide))) (Nat.le_succ _) (h.2.1.cg (fun k j q => oC k j ?_ ?_ ?_ ?_ ?_) (fun k j q => oM k j ?_ ?_ ?_)) ghp ?_ (fun o q w1 w2 w3 => ?_) (h.2.2.2.2.2.2.2.2.2.1.fun hn l70 e21 e25 hN0 hr e21' e25' hNN hN' hK h33 hf (fun o g w1 w2 w3 k hk => by have := (hfn o g w1 w2 w3).2.2.2.2.2.1; omega) o5 (fun o w => ⟨oC 62 o (by omega) (by omega) (by omega) (by omega) (by omega), oC 63 o (by omega) (by omega) (by omega) (by omega) (by omega)⟩) c62 c63 h74 h77 hv (fun j => oC 75 j (by omega) (by omega) (by omega) (by omega) (by omega)) (fun j => oC2 76 j) (fun s => by unfold cv; rw [oC 79 s (by omega) (by omega) (by omega) (by omega) (by omega), oC2]) (fun j hj => oM 44 j (by omega) (by omega) (by omega)) (fun k j w => oM k j (by omega) (by omega) (by omega)) (fun j => oM2 55 j (by omega)) I new) (h.2.2.2.2.2.2.2.2.2.2.1.ob l70 (fun o k w => w.up hO) (fun k j w => oC k j (by omega) (by omega) (by omega) (by omega) (by omega)) (fun j hj => ⟨oC 57 j (by omega) (by omega) (by omega) (by omega) (by omega), oC 65 j (by omega) (by omega) (by omega) (by omega) (by omega), oM2 42 j (by omega)⟩) (fun k j w => oM k j (by omega) (by omega) (by omega)) (oM2 0 78 (by omega)) c58 m42), ob5⟩
  · unfold kpC at q; simp at q; omega
  · unfold kpC at q; simp at q; omega
  · unfold kpC at q; simp at q; omega
  · unfold kpC at q; simp at q; omega
  · unfold kpC at q; simp at q; omega
  · unfold kpM at q; simp at q; omega
  · unfold kpM at q; simp at q; omega
  · unfold kpM at q; simp at q; omega
  · unfold kpM at q; simp at q; omega
  · unfold sqC at q; simp at q; omega
  · unfold sqC at q; simp at q; omega
  · unfold sqC at q; simp at q; omega
  · unfold sqC at q; simp at q; omega
  · unfold sqC at q; simp at q; omega
  · unfold sqM at q; simp at q; omega
  · unfold sqM at q; simp at q; omega
  · unfold sqM at q; simp at q; omega
  · obtain ⟨b1, b2⟩ := h.2.2.2.2.1
    refine ⟨by rw [oC 58 0 (by omega) (by omega) (by omega) (by omega) (by omega)]; exact b1, fun o o1 o2 => ?_⟩
    by_cases z : o = n + 1
    · rw [z, c57, m38]
      exact ⟨⟨rfl, Or.inr (Or.inr (Or.inl rfl))⟩, fun w => absurd w (by decide), fun _ => ⟨f, hf, c62, m43⟩, fun w => absurd w (by decide)⟩
    · obtain ⟨a1, a2, a3, a4⟩ := b2 o o1 (by omega)
      rw [oC 57 o (by omega) (by omega) (by omega) (by omega) (by omega), oC 58 o (by omega) (by omega) (by omega) (by omega) (by omega), oC 62 o (by omega) (by omega) (by omega) (by omega) (by omega), oC 64 o (by omega) (by omega) (by omega) (by omega) (by omega), oM 38 o (by omega) (by omega) (by omega), oM 39 o (by omega) (by omega) (by omega), oM 43 o (by omega) (by omega) (by omega)]
      refine ⟨a1, fun w => ?_, a3, a4⟩
      rcases a2 w with w | ⟨m, w1, w2⟩
      · exact Or.inl w
      · exact Or.inr ⟨m, w1.up hO, w2⟩
  · by_cases e : o = n + 1
    · rw [e, c62] at w3
      have : f = q := (ofN_eq (by omega) (by omega)).1 w3
      rw [← this]
      exact fo
    · exact hfn o q (back o 5 w1 e) w2 (by rw [← oC 62 o (by omega) (by omega) (by omega) (by omega) (by omega)]; exact w3)
