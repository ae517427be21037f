/-! a table more -/
theorem clR.ob {σ0 σ τ σ' τ' : lj_S} {FP : Nat → List kF} {ρ : Nat → Nat} {n n' : Nat} (h : clR σ0 σ τ FP ρ n) (hn : n ≤ n') (ho : ∀ o, obA σ' τ' o 5 ↔ obA σ τ o 5) (hv : ∀ a b, vR σ τ a b → vR σ' τ' a b) (hC : ∀ k j, (k = 62 ∨ k = 63 ∨ k = 74 ∨ k = 75 ∨ k = 77 ∨ k = 81 ∨ k = 7 ∧ (j = 21 ∨ j = 25)) → σ'.1 k j = σ.1 k j) (h76 : ∀ j, σ'.2 76 j = σ.2 76 j) (hl : ∀ s, cv σ' s = cv σ s) (hM : ∀ k j, (k = 44 ∨ k = 54 ∨ k = 57 ∨ k = 0 ∧ j = 96) → τ'.1 k j = τ.1 k j) (h55 : ∀ j, τ'.2 55 j = τ.2 55 j) (h58 : ∀ q, FP q ≠ [] → τ'.1 58 q = τ.1 58 q) : clR σ0 σ' τ' FP ρ n' := by
  have e62 : ∀ j, σ'.1 62 j = σ.1 62 j := fun j => hC 62 j (by omega)
  have e63 : ∀ j, σ'.1 63 j = σ.1 63 j := fun j => hC 63 j (by omega)
  have e74 : ∀ j, σ'.1 74 j = σ.1 74 j := fun j => hC 74 j (by omega)
  have e75 : ∀ j, σ'.1 75 j = σ.1 75 j := fun j => hC 75 j (by omega)
  have e77 : ∀ j, σ'.1 77 j = σ.1 77 j := fun j => hC 77 j (by omega)
  have e81 : ∀ j, σ'.1 81 j = σ.1 81 j := fun j => hC 81 j (by omega)
  have m44 : ∀ j, τ'.1 44 j = τ.1 44 j := fun j => hM 44 j (by omega)
  have m54 : ∀ j, τ'.1 54 j = τ.1 54 j := fun j => hM 54 j (by omega)
  have m57 : ∀ j, τ'.1 57 j = τ.1 57 j := fun j => hM 57 j (by omega)
  have us : ∀ a, usd σ0 σ' τ' FP a ↔ usd σ0 σ τ FP a := fun a => by
    have cp : ∀ o k c, cpO σ0 σ' τ' o k c ↔ cpO σ0 σ τ o k c := fun o k c => by unfold cpO lv; simp only [ho, e62, e63, e77]
    have n58 : ∀ q, (lsL (FP q) a ∧ (τ'.1 58 q ≠ 4 ∨ ∃ o k c, cpO σ0 σ τ o k c ∧ σ.1 74 c = Int32.ofNat a)) ↔ (lsL (FP q) a ∧ (τ.1 58 q ≠ 4 ∨ ∃ o k c, cpO σ0 σ τ o k c ∧ σ.1 74 c = Int32.ofNat a)) := fun q => by
      constructor
      · rintro ⟨w1, w2⟩
        rw [h58 q (lsL_ne w1)] at w2
        exact ⟨w1, w2⟩
      · rintro ⟨w1, w2⟩
        rw [h58 q (lsL_ne w1)]
        exact ⟨w1, w2⟩
    unfold usd lv
    simp only [cp, e74, n58]
  have lo : ∀ c, loC σ' c = loC σ c := fun c => by unfold loC lv; rw [e74]
  have l21 : lv σ' 7 21 = lv σ 7 21 := by unfold lv; rw [hC 7 21 (by omega)]
  have l25 : lv σ' 7 25 = lv σ 7 25 := by unfold lv; rw [hC 7 25 (by omega)]
  obtain ⟨h1, h2, ⟨Fc, f1, f2, f3, f4⟩, h4, h5, h6, h7⟩ := h
  have va : ∀ a, vaC σ' a = vaC σ a := fun a => by unfold vaC; rw [hl, e75, h76]
  refine ⟨fun a w => ?_, fun a b w1 w2 => h2 a b ((us a).1 w1) ((us b).1 w2), ⟨Fc, fcM_cg m57 f1, by unfold lv; rw [hM 0 96 (by omega)]; exact f2, f3, fun c hc => ⟨(f4 c hc).1, fun a w => (f4 c hc).2 a ((us a).1 w)⟩⟩, fun o f w1 w2 w3 => ?_, fun c hc => ?_, fun p s w => ?_, by rw [l21, l25]; exact ⟨h7.1, h7.2.1, by omega⟩⟩
  · have w' := (us a).1 w
    obtain ⟨a1, a2⟩ := h1 a w'
    exact ⟨a1, by rw [va a, m54, h55]; exact hv _ _ a2⟩
  · rw [e62] at w3
    obtain ⟨r, r1, r2, r3⟩ := h4 o f ((ho o).1 w1) w2 w3
    refine ⟨r, by rw [e63]; exact r1, by rw [l25]; exact r2, fun k hk => ?_⟩
    obtain ⟨c, c1, c2, c3⟩ := r3 k hk
    exact ⟨c, by rw [l21]; exact c1, by rw [e77]; exact c2, by rw [m44, lo]; exact c3⟩
  · rw [l21] at hc
    rw [e74]
    rcases h5 c hc with w | ⟨s, s1, s2, s3, s4⟩
    · exact Or.inl w
    · exact Or.inr ⟨s, s1, s2, s3, by rw [e81]; exact s4⟩
  · obtain ⟨a1, a2⟩ := h6 p s w
    refine ⟨a1, ?_⟩
    rw [e81, l21]
    rcases a2 with z | ⟨c, c1, c2, c3⟩
    · exact Or.inl z
    · exact Or.inr ⟨c, c1, c2, by rw [e74]; exact c3⟩
/-- what is gathered: an object more -/
theorem gaR.ob {σ τ σ' τ' : lj_S} {n : Nat} {FP : Nat → List kF} {ch A MO LA : List Nat} (h : gaR σ τ n FP ch A MO LA) (hn : lv σ 7 0 = (n : Int)) (ho : ∀ o k, obA σ τ o k → obA σ' τ' o k) (hC : ∀ k j, (k = 99 ∨ k = 100 ∨ k = 101 ∨ k = 102 ∨ k = 104 ∨ k = 110 ∨ k = 8 ∧ (j = 33 ∨ j = 45 ∨ j = 51 ∨ j = 53)) → σ'.1 k j = σ.1 k j) (h57 : ∀ j, j ≤ n → σ'.1 57 j = σ.1 57 j ∧ σ'.1 65 j = σ.1 65 j ∧ τ'.2 42 j = τ.2 42 j) (hM : ∀ k j, (k = 83 ∨ k = 84 ∨ k = 85 ∨ k = 86 ∨ k = 95 ∨ k = 0 ∧ (j = 152 ∨ j = 153)) → τ'.1 k j = τ.1 k j) (h78 : τ'.2 0 78 = τ.2 0 78) (n65 : σ'.1 65 (n + 1) = 0) (n42 : τ'.2 42 (n + 1) = 0) : gaR σ' τ' (n + 1) FP ch A MO LA := by
  obtain ⟨⟨a1, a2, a3, a4, a5, a6, a7⟩, ⟨b1, b2, b3, b4⟩, c1, c2, c3, c4⟩ := h
  have le : ∀ t ∈ MO, t ≤ n := fun t ht => by have := (a4 t ht).1.2.2.1; rw [hn] at this; omega
  refine ⟨⟨by unfold lv at a1 ⊢; rw [hC 8 53 (by omega)]; exact a1, fun i hi => by rw [hC 110 i (by omega)]; exact a2 i hi, a3, fun t ht => ?_, ?_, by rw [h78, lv_eq (hC 8 45 (by omega))]; exact a6, fun t t1 t2 => ?_⟩, ⟨by unfold lv at b1 ⊢; rw [hC 8 33 (by omega)]; exact b1, by unfold lv at b2 ⊢; rw [hM 0 152 (by omega)]; exact b2, b3, fun i hi => ?_⟩, c1.up ho (h57 0 (Nat.zero_le _)).1, gaC_cg (fun k i w => hC k i (by omega)) (fun k i w => hM k i (by omega)) (fun _ _ _ w => w) c2, fun i hi => by rw [hC 102 i (by omega)]; exact c3 i hi, by rw [hC 8 51 (by omega), hM 0 153 (by omega)]; exact c4⟩
  · rw [(h57 t (le t ht)).2.2, h78]
    exact ⟨ho _ _ (a4 t ht).1, (a4 t ht).2⟩
  · refine List.Pairwise.imp_of_mem ?_ a5
    intro a b ha hb w
    rw [(h57 a (le a ha)).2.2, (h57 b (le b hb)).2.2]
    exact w
  · by_cases z : t ≤ n
    · rw [(h57 t z).1, (h57 t z).2.1, (h57 t z).2.2]
      exact a7 t t1 z
    · have e : t = n + 1 := by omega
      rw [e, n65, n42]
      have nm : n + 1 ∉ MO := fun w => by have := le _ w; omega
      exact ⟨fun _ => ⟨⟨fun w => absurd w nm, fun w => absurd rfl w⟩, ⟨fun w => absurd w nm, fun w => absurd rfl w⟩⟩, fun _ => rfl⟩
  · obtain ⟨d1, d2, d3⟩ := b4 i hi
    exact ⟨ho _ _ d1, by rw [hC 104 i (by omega)]; exact d2, by rw [hM 95 i (by omega)]; exact d3⟩
theorem MB.nt {σ0 τ0 σ τ : lj_S} {n np p : Nat} {r : List Nat} {FP : Nat → List kF} {ρ : Nat → Nat} {A MO LA : List Nat} (h : MB σ0 τ0 n np p r FP ρ A MO LA σ τ) (hn : n < 2000) (ghp : hpR (cOb σ (n + 1) 4) (mOb τ (n + 1) 4) (n + 1)) (hG : sG σ τ (cOb σ (n + 1) 4) (mOb τ (n + 1) 4)) (hO : oG σ τ (cOb σ (n + 1) 4) (mOb τ (n + 1) 4)) : MB σ0 τ0 (n + 1) np p r FP ρ A MO LA (cOb σ (n + 1) 4) (mOb τ (n + 1) 4) ∧ obA (cOb σ (n + 1) 4) (mOb τ (n + 1) 4) (n + 1) 4 := by
  have oC : ∀ a j, ¬ (a = 7 ∧ j = 0) → ¬ ((57 ≤ a ∧ a ≤ 61 ∨ a = 65) ∧ j = n + 1) → (cOb σ (n + 1) 4).1 a j = σ.1 a j := fun a j w1 w2 => by
    rw [cOb_1]; repeat rw [if_neg (by omega)]
  have oM : ∀ a j, ¬ (a = 0 ∧ j = 77) → ¬ ((38 ≤ a ∧ a ≤ 41) ∧ j = n + 1) → (mOb τ (n + 1) 4).1 a j = τ.1 a j := fun a j w1 w2 => by
    rw [mOb_1]; repeat rw [if_neg (by omega)]
  have oM2 : ∀ a j, ¬ (a = 42 ∧ j = n + 1) → (mOb τ (n + 1) 4).2 a j = τ.2 a j := fun a j w => by rw [mOb_2, if_neg w]
  have l70 := h.2.2.2.1.2.1
  have k57 : (cOb σ (n + 1) 4).1 57 (n + 1) = 4 := by rw [cOb_1, if_pos ⟨rfl, rfl⟩]
  have k38 : (mOb τ (n + 1) 4).1 38 (n + 1) = 4 := by rw [mOb_1, if_neg (by omega), if_neg (by omega), if_neg (by omega), if_pos ⟨rfl, rfl⟩]
  have k70 : lv (cOb σ (n + 1) 4) 7 0 = ((n + 1 : Nat) : Int) := ghp.2.1
  have back : ∀ o k, obA (cOb σ (n + 1) 4) (mOb τ (n + 1) 4) o k → k ≠ 4 → obA σ τ o k := fun o k w z => by
    obtain ⟨w1, w2, w3, w4, w5⟩ := w
    rw [k70] at w3
    have ne : o ≠ n + 1 := fun y => by rw [y, k57] at w4; exact z w4.symm
    rw [oC 57 o (by omega) (by omega)] at w4
    rw [oM 38 o (by omega) (by omega)] at w5
    exact ⟨w1, w2, by rw [l70]; omega, w4, w5⟩
  have o5 : ∀ o, obA (cOb σ (n + 1) 4) (mOb τ (n + 1) 4) o 5 ↔ obA σ τ o 5 := fun o => ⟨fun w => back o 5 w (by decide), fun w => w.up hO⟩
  have hv : ∀ a b, vR σ τ a b → vR (cOb σ (n + 1) 4) (mOb τ (n + 1) 4) a b := fun a b w => w.up hG hO
  have n1 : n ≤ 2000 := h.2.2.2.1.1
  refine ⟨h.up (fun k j q => ⟨oC k j ?_ ?_, rfl⟩) (fun k j q => ⟨oM k j ?_ ?_, oM2 k j ?_⟩) (fun j _ => ⟨oC 79 j (by omega) (by omega), rfl, oC 81 j (by omega) (by omega)⟩) (fun _ _ _ => rfl) hG hO (fun o _ => oC 62 o (by omega) (by omega)) (fun o _ => oC 64 o (by omega) (by omega)) (fun o w => back o 6 w (by decide)) (Nat.le_succ _) (h.2.1.cg (fun k j q => oC k j ?_ ?_) (fun k j q => oM k j ?_ ?_)) ghp ?_ (fun o q w1 w2 w3 => h.2.2.2.2.2.1 o q ((o5 o).1 w1) w2 (by rw [← oC 62 o (by omega) (by omega)]; exact w3)) (h.2.2.2.2.2.2.2.2.2.1.ob (Nat.le_succ _) o5 hv (fun k j w => oC k j (by omega) (by omega)) (fun j => rfl) (fun s => by unfold cv; rw [oC 79 s (by omega) (by omega)]; rfl) (fun k j w => oM k j (by omega) (by omega)) (fun j => oM2 55 j (by omega)) (fun q _ => oM 58 q (by omega) (by omega))) (h.2.2.2.2.2.2.2.2.2.2.1.ob l70 (fun o k w => w.up hO) (fun k j w => oC k j (by omega) (by omega)) (fun j hj => ⟨oC 57 j (by omega) (by omega), oC 65 j (by omega) (by omega), oM2 42 j (by omega)⟩) (fun k j w => oM k j (by omega) (by omega)) (oM2 0 78 (by omega)) (by rw [cOb_1, if_neg (by omega), if_pos ⟨rfl, rfl⟩]) (by rw [mOb_2, if_pos ⟨rfl, rfl⟩])), ⟨by omega, by omega, by rw [k70]; omega, k57, k38⟩⟩
  · unfold kpC at q; simp at q; omega
  · unfold kpC at q; simp at q; omega
  · unfold kpM at q; simp at q; omega
  · unfold kpM at q; simp at q; omega
  · unfold kpM at q; simp at q; omega
  · unfold sqC at q; simp at q; omega
  · unfold sqC at q; simp at q; omega
  · unfold sqM at q; simp at q; omega
  · unfold sqM at q; simp at q; omega
  · obtain ⟨b1, b2⟩ := h.2.2.2.2.1
    refine ⟨by rw [oC 58 0 (by omega) (by omega)]; exact b1, fun o o1 o2 => ?_⟩
    by_cases z : o = n + 1
    · have k58 : (cOb σ (n + 1) 4).1 58 (n + 1) = -1 := by rw [cOb_1, if_neg (by omega), if_neg (by omega), if_neg (by omega), if_neg (by omega), if_neg (by omega), if_pos ⟨rfl, rfl⟩]
      have k39 : (mOb τ (n + 1) 4).1 39 (n + 1) = 0 := by rw [mOb_1, if_neg (by omega), if_neg (by omega), if_pos ⟨rfl, rfl⟩]
      rw [z, k57, k38, k58, k39]
      exact ⟨⟨rfl, Or.inr (Or.inl rfl)⟩, fun _ => Or.inl ⟨rfl, rfl⟩, fun w => absurd w (by decide), fun w => absurd w (by decide)⟩
    · obtain ⟨a1, a2, a3, a4⟩ := b2 o o1 (by omega)
      rw [oC 57 o (by omega) (by omega), oC 58 o (by omega) (by omega), oC 62 o (by omega) (by omega), oC 64 o (by omega) (by omega), oM 38 o (by omega) (by omega), oM 39 o (by omega) (by omega), oM 43 o (by omega) (by omega)]
      refine ⟨a1, fun w => ?_, a3, a4⟩
      rcases a2 w with w | ⟨m, w1, w2⟩
      · exact Or.inl w
      · exact Or.inr ⟨m, w1.up hO, w2⟩
