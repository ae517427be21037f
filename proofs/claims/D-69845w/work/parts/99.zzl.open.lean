/-! bodies: a function is opened -/
def opC (σ : lj_S) (F f : Nat) (Ln : Int32) : lj_S := lj_put (lj_put (lj_put (lj_put (lj_put (lj_put (lj_put (lj_put (lj_put (lj_put (lj_put (lj_put σ 5 8 (Int32.ofNat (F + 1))) 43 F (Int32.ofNat f)) 6 2 (Int32.ofNat F)) 44 F 0) 49 F 0) 29 F 0) 30 F 0) 31 F 0) 32 F 0) 33 F 0) 42 F (-1)) 36 F Ln
theorem opC_o (σ : lj_S) (F f : Nat) (Ln : Int32) (k j : Nat) (h1 : ¬ ((k = 43 ∨ k = 44 ∨ k = 49 ∨ k = 29 ∨ k = 30 ∨ k = 31 ∨ k = 32 ∨ k = 33 ∨ k = 42 ∨ k = 36) ∧ j = F)) (h2 : ¬ (k = 5 ∧ j = 8)) (h3 : ¬ (k = 6 ∧ j = 2)) : (opC σ F f Ln).1 k j = σ.1 k j := by
  unfold opC
  rw [lj_put_1, if_neg (by omega), lj_put_1, if_neg (by omega), lj_put_1, if_neg (by omega), lj_put_1, if_neg (by omega), lj_put_1, if_neg (by omega), lj_put_1, if_neg (by omega), lj_put_1, if_neg (by omega), lj_put_1, if_neg (by omega), lj_put_1, if_neg (by omega), lj_put_1, if_neg (by omega), lj_put_1, if_neg (by omega), lj_put_1, if_neg (by omega)]
theorem opC_get (σ : lj_S) (F f : Nat) (Ln : Int32) : (opC σ F f Ln).1 43 F = Int32.ofNat f ∧ (opC σ F f Ln).1 44 F = 0 ∧ (opC σ F f Ln).1 49 F = 0 ∧ (opC σ F f Ln).1 29 F = 0 ∧ (opC σ F f Ln).1 30 F = 0 ∧ (opC σ F f Ln).1 31 F = 0 ∧ (opC σ F f Ln).1 32 F = 0 ∧ (opC σ F f Ln).1 33 F = 0 ∧ (opC σ F f Ln).1 42 F = -1 ∧ (opC σ F f Ln).1 36 F = Ln ∧ (opC σ F f Ln).1 5 8 = Int32.ofNat (F + 1) ∧ (opC σ F f Ln).1 6 2 = Int32.ofNat F := by
  unfold opC
  simp [lj_put_1]
theorem c_open {σ : lj_S} {F f : Nat} (h58 : σ.1 5 8 = Int32.ofNat F) (hF0 : 0 < F) (hF : F < 50) (h62 : σ.1 6 2 = Int32.ofNat f) (Ln : Int32) : lj_R lc_P 59 [.ref 6, .int Ln, .int 0] σ = some (.inl none, opC σ F f Ln) := by
  have i1 : lj_in (Int32.ofNat F) 51 := ofN_in (by omega) (by omega)
  rw [rc_59, kc_59_0, h58, if_neg (fun q => by have := (ofN_eq (c := 0) (by omega) (by omega)).1 q; omega), h62, kc_59_35]
  simp only [if_pos i1, lz_onat (show F < 2147483648 by omega), lz_osucc]
  rfl
def opM (τ : lj_S) (F L B : Nat) (Ln Mn : Int32) : lj_S := lj_put (lj_put (lj_put (lj_put (lj_put (lj_put (lj_put (lj_put (lj_put τ 0 34 (Int32.ofNat (F + 1))) 0 53 (Int32.ofNat L)) 31 L (Int32.ofNat B)) 32 L (Int32.ofNat F)) 14 F 0) 15 F 0) 16 F 0) 17 F Ln) 12 F Mn
theorem opM_o (τ : lj_S) (F L B : Nat) (Ln Mn : Int32) (k j : Nat) (h1 : ¬ ((k = 12 ∨ k = 14 ∨ k = 15 ∨ k = 16 ∨ k = 17) ∧ j = F)) (h2 : ¬ ((k = 31 ∨ k = 32) ∧ j = L)) (h3 : ¬ (k = 0 ∧ (j = 34 ∨ j = 53))) : (opM τ F L B Ln Mn).1 k j = τ.1 k j := by
  unfold opM
  rw [lj_put_1, if_neg (by omega), lj_put_1, if_neg (by omega), lj_put_1, if_neg (by omega), lj_put_1, if_neg (by omega), lj_put_1, if_neg (by omega), lj_put_1, if_neg (by omega), lj_put_1, if_neg (by omega), lj_put_1, if_neg (by omega), lj_put_1, if_neg (by omega)]
theorem opM_get (τ : lj_S) (F L B : Nat) (Ln Mn : Int32) : (opM τ F L B Ln Mn).1 0 34 = Int32.ofNat (F + 1) ∧ (opM τ F L B Ln Mn).1 0 53 = Int32.ofNat L ∧ (opM τ F L B Ln Mn).1 31 L = Int32.ofNat B ∧ (opM τ F L B Ln Mn).1 32 L = Int32.ofNat F ∧ (opM τ F L B Ln Mn).1 14 F = 0 ∧ (opM τ F L B Ln Mn).1 15 F = 0 ∧ (opM τ F L B Ln Mn).1 16 F = 0 ∧ (opM τ F L B Ln Mn).1 17 F = Ln ∧ (opM τ F L B Ln Mn).1 12 F = Mn := by
  unfold opM
  simp [lj_put_1]
theorem nmC_fr {σ σ' : lj_S} {F : Nat} (h1 : ∀ k j, (k = 33 ∨ k = 43 ∨ k = 44) → j ≠ F → σ'.1 k j = σ.1 k j) (h2 : ∀ k j, (k = 34 ∨ k = 35 ∨ k = 48 ∨ k = 45 ∨ k = 46) → σ'.1 k j = σ.1 k j) : ∀ {N : List lT}, (∀ z ∈ N, z.1 ≠ F) → nmC σ N → nmC σ' N
  | [], _, _ => trivial
  | x :: R, hn, h => by
    have hx := hn x (List.mem_cons_self)
    obtain ⟨⟨a1, a2, a3, a4, a5, a6⟩, a7⟩ := h
    refine ⟨⟨a1, by rw [h1 43 _ (by omega) hx]; exact a2, by rw [h1 44 _ (by omega) hx]; exact a3, a4, knC_cg (fun j => h2 45 j (by omega)) (fun j => h2 46 j (by omega)) a5, by rw [h1 33 _ (by omega) hx]; exact a6.1, a6.2.1, fun i hi => ?_⟩, nmC_fr h1 h2 (fun z hz => hn z (List.mem_cons_of_mem _ hz)) a7⟩
    rw [h2 48 _ (by omega), h2 34 _ (by omega), h2 35 _ (by omega)]
    exact a6.2.2 i hi
theorem nmM_fr {τ τ' : lj_S} {F B : Nat} (h1 : ∀ j, j ≠ F → τ'.1 15 j = τ.1 15 j) (h2 : ∀ k j, (k = 18 ∨ k = 19 ∨ k = 29 ∨ k = 30) → τ'.1 k j = τ.1 k j) (h3 : ∀ k j, (k = 31 ∨ k = 32) → j < B → τ'.1 k j = τ.1 k j) : ∀ {N : List lT}, N.length ≤ B → (∀ z ∈ N, z.1 ≠ F) → nmM τ N → nmM τ' N
  | [], _, _, _ => trivial
  | x :: R, hl, hn, h => by
    simp only [List.length_cons] at hl
    have hx := hn x (List.mem_cons_self)
    obtain ⟨⟨a1, a2, a3, a4, a5, a6⟩, a7⟩ := h
    refine ⟨⟨a1, by rw [h3 32 _ (by omega) (by omega)]; exact a2, by rw [h3 31 _ (by omega) (by omega)]; exact a3, a4, knM_lt (B := baseN R + x.2.1.length) (fun k j q _ => h2 k j (by omega)) (Nat.le_refl _) a5, by rw [h1 _ hx]; exact a6.1, a6.2.1, fun i hi => ?_⟩, nmM_fr h1 h2 h3 (by omega) (fun z hz => hn z (List.mem_cons_of_mem _ hz)) a7⟩
    rw [h2 18 _ (by omega), h2 19 _ (by omega)]
    exact a6.2.2 i hi
theorem PS.opn {b : Nat → Int32} {n T : Nat} {Q : tkQ} {X : List Int32 → Prop} (hT5 : T ≤ 520) {FO : List fT} {Z : List zT} {PL : List qT} {cl ml : Nat} {F : Nat} {z : lT} {R : List lT} {p v c m wh : Nat} {W : List wT} {σ τ : lj_S} (h : PS b n T Q X F (z :: R) FO Z PL cl ml p v c m wh W σ τ) (hF : F < 50) (hNv : (z :: R).length ≤ v) (Ln Mn Sn : Int32) :
    PS b n T Q X (F + 1) ((F, [], []) :: z :: R) (((0, 0), []) :: FO) Z PL cl ml p v c m wh W (lj_put (opC σ F z.1 Ln) 28 F Sn) (opM τ F (z :: R).length (baseN (z :: R)) Ln Mn) ∧ TX (z :: R) σ τ (lj_put (opC σ F z.1 Ln) 28 F Sn) (opM τ F (z :: R).length (baseN (z :: R)) Ln Mn) ∧ ∀ c0 m0, fz 0 c0 0 m0 σ τ (lj_put (opC σ F z.1 Ln) 28 F Sn) (opM τ F (z :: R).length (baseN (z :: R)) Ln Mn) := by
  have hNR := h.1.2.2.1
  have hFR := h.1.2.2.2.1
  have hzF := h.1.2.2.2.2.1
  have hLv := h.1.2.2.2.2.2.1
  have hSC := h.1.2.2.2.2.2.2
  have hv20 := h.2.2.1.2.1
  have oC : ∀ k j, ¬ ((k = 28 ∨ k = 43 ∨ k = 44 ∨ k = 49 ∨ k = 29 ∨ k = 30 ∨ k = 31 ∨ k = 32 ∨ k = 33 ∨ k = 42 ∨ k = 36) ∧ j = F) → ¬ (k = 5 ∧ j = 8) → ¬ (k = 6 ∧ j = 2) → (lj_put (opC σ F z.1 Ln) 28 F Sn).1 k j = σ.1 k j := fun k j a1 a2 a3 => by rw [lj_put_1, if_neg (by omega), opC_o σ F z.1 Ln k j (by omega) a2 a3]
  obtain ⟨g43, g44, g49, g29, g30, g31, g32, g33, g42, g36, g58, g62⟩ : (lj_put (opC σ F z.1 Ln) 28 F Sn).1 43 F = Int32.ofNat z.1 ∧ (lj_put (opC σ F z.1 Ln) 28 F Sn).1 44 F = 0 ∧ (lj_put (opC σ F z.1 Ln) 28 F Sn).1 49 F = 0 ∧ (lj_put (opC σ F z.1 Ln) 28 F Sn).1 29 F = 0 ∧ (lj_put (opC σ F z.1 Ln) 28 F Sn).1 30 F = 0 ∧ (lj_put (opC σ F z.1 Ln) 28 F Sn).1 31 F = 0 ∧ (lj_put (opC σ F z.1 Ln) 28 F Sn).1 32 F = 0 ∧ (lj_put (opC σ F z.1 Ln) 28 F Sn).1 33 F = 0 ∧ (lj_put (opC σ F z.1 Ln) 28 F Sn).1 42 F = -1 ∧ (lj_put (opC σ F z.1 Ln) 28 F Sn).1 36 F = Ln ∧ (lj_put (opC σ F z.1 Ln) 28 F Sn).1 5 8 = Int32.ofNat (F + 1) ∧ (lj_put (opC σ F z.1 Ln) 28 F Sn).1 6 2 = Int32.ofNat F := by
    have g := opC_get σ F z.1 Ln
    have e : ∀ k j, k ≠ 28 → (lj_put (opC σ F z.1 Ln) 28 F Sn).1 k j = (opC σ F z.1 Ln).1 k j := fun k j q => by rw [lj_put_1, if_neg (by omega)]
    rw [e 43 F (by omega), e 44 F (by omega), e 49 F (by omega), e 29 F (by omega), e 30 F (by omega), e 31 F (by omega), e 32 F (by omega), e 33 F (by omega), e 42 F (by omega), e 36 F (by omega), e 5 8 (by omega), e 6 2 (by omega)]
    exact g
  have oM := opM_o τ F (z :: R).length (baseN (z :: R)) Ln Mn
  obtain ⟨m34, m53, m31, m32, m14, m15, m16, m17, m12⟩ := opM_get τ F (z :: R).length (baseN (z :: R)) Ln Mn
  have c2 : (lj_put (opC σ F z.1 Ln) 28 F Sn).2 = σ.2 := rfl
  have m2 : (opM τ F (z :: R).length (baseN (z :: R)) Ln Mn).2 = τ.2 := rfl
  generalize lj_put (opC σ F z.1 Ln) 28 F Sn = σ' at *
  generalize hL : (z :: R).length = L at *
  generalize opM τ F L (baseN (z :: R)) Ln Mn = τ' at *
  have l58 : lv σ 5 8 = (F : Int) := by unfold lv; rw [hFR.1, lz_lit (by omega)]
  have l58' : lv σ' 5 8 = (F : Int) + 1 := by unfold lv; rw [g58, lz_lit (by omega)]; omega
  have e18 : σ'.1 5 18 = σ.1 5 18 := oC 5 18 (by omega) (by omega) (by omega)
  have e37 : ∀ k, σ'.1 37 k = σ.1 37 k := fun k => oC 37 k (by omega) (by omega) (by omega)
  have e38 : ∀ k, σ'.1 38 k = σ.1 38 k := fun k => oC 38 k (by omega) (by omega) (by omega)
  have e40 : ∀ k, σ'.1 40 k = σ.1 40 k := fun k => oC 40 k (by omega) (by omega) (by omega)
  have hA : ∀ q x k, opA σ' q x k ↔ opA σ q x k := fun q x k => opA_cg e18 e37 e38 e40 q x k
  have hno : ∀ x k, ¬ opA σ F x k := fun x k q => by
    have := (hSC.2 k q.1).2.2
    have := q.2.1
    omega
  have hks : ∀ q r, ksc σ q r → ksc σ' q r := fun q r g => ksc_cg e18 (fun k => oC 47 k (by omega) (by omega) (by omega)) e37 e38 e40 g
  have hne : ∀ y ∈ z :: R, y.1 ≠ F := fun y hy => by have := hzF y hy; omega
  have fC : lf pC σ σ' := fun k j q => ⟨by have := pC_k q; exact oC k j (by omega) (by omega) (by omega), by rw [c2]⟩
  have fM : lf pM τ τ' := fun k j q => ⟨by have := pM_k q; exact oM k j (by omega) (by omega) (by omega), by rw [m2]⟩
  have hl50 := nmC_len hNR.1
  have h0 : (0 : Int32) = Int32.ofNat 0 := rfl
  have nr : NR σ' τ' ((F, [], []) :: z :: R) := by
    obtain ⟨n1, n2, n3, n4, n5, n6, n7, n8, n9, n10⟩ := hNR
    refine ⟨⟨⟨by show F < 51; omega, g43, g44, by show 0 ≤ 50; omega, trivial, ⟨g33, by show 0 ≤ 30; omega, fun i hi => absurd hi (Nat.not_lt_zero i)⟩⟩, nmC_fr (F := F) (fun k j q q' => oC k j (by omega) (by omega) (by omega)) (fun k j q => oC k j (by omega) (by omega) (by omega)) hne n1⟩, ⟨⟨by show F < 51; omega, by rw [hL]; exact m32, by rw [hL]; exact m31, by show 0 ≤ 50; omega, trivial, ⟨m15, by show 0 ≤ 30; omega, fun i hi => absurd hi (Nat.not_lt_zero i)⟩⟩, nmM_fr (F := F) (B := L) (fun j q => oM 15 j (by omega) (by omega) (by omega)) (fun k j q => oM k j (by omega) (by omega) (by omega)) (fun k j q q' => oM k j (by omega) (by omega) (by omega)) (by rw [hL]; exact (Nat.le_refl _)) hne n2⟩, ⟨⟨fun i hi => absurd hi (Nat.not_lt_zero i), by simp, by simp⟩, n3⟩, ?_, by simp, by simp only [List.length_cons] at hL ⊢; omega, g62, ?_, ?_, fun y hy e he => ?_⟩
    · rw [List.map_cons, List.nodup_cons]
      refine ⟨fun q => ?_, n4⟩
      obtain ⟨y, hy, ey⟩ := List.mem_map.1 q
      exact hne y hy ey
    · rw [m53]; congr 1
      show L = (z :: R).length + 1 - 1
      rw [hL]; omega
    · rw [oM 0 50 (by omega) (by omega) (by omega)]
      show _ = Int32.ofNat (0 + baseN (z :: R))
      rw [Nat.zero_add]; exact n9
    · rcases List.mem_cons.1 hy with q | q
      · rw [q] at he; cases he
      · exact nmQ_pp (n10 y q e he) (fun j => oC 9 j (by omega) (by omega) (by omega)) (fun j => oC 10 j (by omega) (by omega) (by omega)) (fun j => oC 11 j (by omega) (by omega) (by omega)) (oC 3 7 (by omega) (by omega) (by omega)) (fun j => oM 2 j (by omega) (by omega) (by omega)) (fun j => oM 3 j (by omega) (by omega) (by omega)) (fun j => oM 4 j (by omega) (by omega) (by omega)) (oM 0 14 (by omega) (by omega) (by omega))
  have fr : FR σ' τ' (F + 1) := by
    refine ⟨g58, m34, by show F + 1 ≤ 50; omega, fun q hq => ?_⟩
    by_cases e : q = F
    · subst e
      have l : ∀ k, σ'.1 k q = 0 → lv σ' k q = 0 := fun k e => by unfold lv; rw [e]; rfl
      refine ⟨by rw [g31, m14], by rw [l 31 g31]; exact Int.le_refl _, by rw [l 31 g31]; decide, by rw [g33, m15], by rw [g30, m16], Or.inl g30, by rw [g36, m17], by rw [l 29 g29, l 31 g31]; exact Int.le_refl _, by rw [l 29 g29]; exact Int.le_refl _, by rw [l 32 g32]; exact Int.le_refl _, by rw [l 32 g32]; decide, ?_⟩
      have eS : scL σ' q = [] := by
        unfold scL
        have e18' : lv σ' 5 18 = lv σ 5 18 := by unfold lv; rw [e18]
        rw [e18', List.filter_eq_nil_iff.2 (fun k hk => ?_)]
        · rfl
        · have hk' := List.mem_range.1 hk
          have := (hSC.2 k (by omega)).2.2
          have e37' : lv σ' 37 k = lv σ 37 k := by unfold lv; rw [e37]
          rw [e37']
          simp only [decide_eq_true_eq]
          omega
      rw [eS]
      show lv σ' 42 q = -1
      unfold lv; rw [g42]; rfl
    · obtain ⟨b1, b2, b3, b4, b5, b6, b7, b8⟩ := hFR.2.2.2 q (by omega)
      have l : ∀ k, (k = 29 ∨ k = 31 ∨ k = 32 ∨ k = 42) → lv σ' k q = lv σ k q := fun k e' => by unfold lv; rw [oC k q (by omega) (by omega) (by omega)]
      have e41 : lv σ' 41 = lv σ 41 := by funext k; unfold lv; rw [oC 41 k (by omega) (by omega) (by omega)]
      have eL : scL σ' q = scL σ q := by unfold scL lv; simp only [e18, e37]
      exact ⟨by rw [oC 31 q (by omega) (by omega) (by omega), oM 14 q (by omega) (by omega) (by omega)]; exact b1, by rw [l 31 (by omega)]; exact b2, by rw [l 31 (by omega)]; exact b3, by rw [oC 33 q (by omega) (by omega) (by omega), oM 15 q (by omega) (by omega) (by omega)]; exact b4, by rw [oC 30 q (by omega) (by omega) (by omega), oM 16 q (by omega) (by omega) (by omega)]; exact b5, by rw [oC 30 q (by omega) (by omega) (by omega)]; exact b6, by rw [oC 36 q (by omega) (by omega) (by omega), oM 17 q (by omega) (by omega) (by omega)]; exact b7, by rw [l 29 (by omega), l 31 (by omega)]; exact b8.1, by rw [l 29 (by omega)]; exact b8.2.1, by rw [l 32 (by omega)]; exact b8.2.2.1, by rw [l 32 (by omega)]; exact b8.2.2.2.1, by rw [e41, l 42 (by omega), eL]; exact b8.2.2.2.2⟩
  have hFn : F ∉ (z :: R).map (·.1) := fun q => by
    obtain ⟨y, hy, ey⟩ := List.mem_map.1 q
    exact hne y hy ey
  have lvs : lvS σ' ((F, [], []) :: z :: R) (((0, 0), []) :: FO) := by
    refine ⟨⟨g49, ?_, by show 0 ≤ 20; omega, fun x hx => ?_, ⟨fun d e he w => ?_, fun d S e w _ => by simp at w⟩, trivial, ⟨g31, by show 0 ≤ 50; omega, List.Pairwise.nil, fun y hy => by cases hy⟩⟩, lvS_out (f := F) (fun q hq => oC 49 q (by omega) (by omega) (by omega)) (fun q hq => by unfold lv; rw [oC 32 q (by omega) (by omega) (by omega)]; exact Int.le_refl _) (fun q hq => oC 31 q (by omega) (by omega) (by omega)) (fun q x k _ => hA q x k) (fun q r _ _ g => hks q r g) hl50 hFn hLv⟩
    · show ((0 : Nat) : Int) ≤ lv σ' 32 F
      unfold lv; rw [g32]; decide
    · constructor
      · rintro ⟨k, hk⟩
        exact absurd ((hA F x k).1 hk) (hno x k)
      · intro q; cases q
    · obtain ⟨k, hk⟩ := w
      exact absurd ((hA F _ k).1 hk) (hno _ k)
  have tx : TX (z :: R) σ τ σ' τ' := by
    refine ⟨(sR_pp h.1.2.1 fC fM).2, by unfold lv; rw [oC 5 0 (by omega) (by omega) (by omega)]; exact Int.le_refl _, by unfold lv; rw [oC 5 6 (by omega) (by omega) (by omega)]; exact Int.le_refl _, by omega, by unfold lv; rw [e18]; exact Int.le_refl _, fun i _ => ⟨by rw [c2], by rw [m2]⟩, fun q hq => ⟨oC 28 q (by omega) (by omega) (by omega), oC 29 q (by omega) (by omega) (by omega), ⟨oM 12 q (by omega) (by omega) (by omega), oM 13 q (by omega) (by omega) (by omega)⟩, ⟨by unfold lv; rw [oC 32 q (by omega) (by omega) (by omega)]; exact Int.le_refl _, by unfold lv; rw [oC 31 q (by omega) (by omega) (by omega)]; exact Int.le_refl _⟩, by unfold lv; rw [oC 33 q (by omega) (by omega) (by omega)]; exact Int.le_refl _⟩, fun q hq _ => ⟨oC 33 q (by omega) (by omega) (by omega), oM 15 q (by omega) (by omega) (by omega), fun i _ => ⟨oC 34 _ (by omega) (by omega) (by omega), oC 35 _ (by omega) (by omega) (by omega), oM 18 _ (by omega) (by omega) (by omega), oM 19 _ (by omega) (by omega) (by omega)⟩⟩, fun k _ => ⟨e37 k, e38 k, oC 39 k (by omega) (by omega) (by omega), Or.inl (e40 k)⟩, fun k a b => ?_, fC, pM_g fM⟩
    have : lv σ' 5 18 = lv σ 5 18 := by unfold lv; rw [e18]
    omega
  refine ⟨h.mk' fC fM nr fr (fun y hy => ?_) lvs ⟨⟨by unfold lv; rw [e18]; exact hSC.1.1, opU_cg e18 e37 e38 e40 hSC.1.2⟩, fun k hk => ?_⟩ (hnd_eq h.2.1 (fun k j q => oC k j (by rintro ⟨e, _⟩; rcases e with e | e | e | e | e | e | e | e | e | e | e <;> rw [e] at q <;> cases q) (by rintro ⟨e1, e2⟩; rw [e1, e2] at q; cases q) (by rintro ⟨e1, e2⟩; rw [e1, e2] at q; cases q)) (fun k j q => oM k j (by rintro ⟨e, _⟩; rcases e with e | e | e | e | e <;> rw [e] at q <;> cases q) (by rintro ⟨e | e, _⟩ <;> rw [e] at q <;> cases q) (by rintro ⟨e1, e | e⟩ <;> rw [e1, e] at q <;> cases q))) h.2.2.1 (LPr_eq h.2.2.2.1 (fun k j q => oC k j (by rintro ⟨e, _⟩; rcases e with e | e | e | e | e | e | e | e | e | e | e <;> rw [e] at q <;> cases q) (by rintro ⟨e1, e2⟩; rw [e1, e2] at q; cases q) (by rintro ⟨e1, e2⟩; rw [e1, e2] at q; cases q)) (fun k j q => oM k j (by rintro ⟨e, _⟩; rcases e with e | e | e | e | e <;> rw [e] at q <;> cases q) (by rintro ⟨e | e, _⟩ <;> rw [e] at q <;> cases q) (by rintro ⟨e1, e | e⟩ <;> rw [e1, e] at q <;> cases q)) (Nat.le_refl _) (Nat.le_refl _) (fun j _ => oM 21 j (by omega) (by omega) (by omega))) h.2.2.2.2.1.1 ?_ h.2.2.2.2.2, tx, fun c0 m0 => fz_eq (fun k j q1 q2 => oC k j (by omega) (by omega) (by omega)) (fun k j q1 q2 => oM k j (by omega) (by omega) (by omega))⟩
  · rcases List.mem_cons.1 hy with q | q
    · rw [q]; exact Nat.lt_succ_self F
    · have := hzF y q; omega
  · have e18' : lv σ' 5 18 = lv σ 5 18 := by unfold lv; rw [e18]
    rw [e18'] at hk
    have := hSC.2 k hk
    have e1 : lv σ' 37 k = lv σ 37 k := by unfold lv; rw [e37]
    have e2 : lv σ' 39 k = lv σ 39 k := by unfold lv; rw [oC 39 k (by omega) (by omega) (by omega)]
    have e3 : lv σ' 40 k = lv σ 40 k := by unfold lv; rw [e40]
    have e5 : lv σ' 38 k = lv σ 38 k := by unfold lv; rw [e38]
    omega
  · obtain ⟨⟨z1, z2, z3⟩, y1, y2, y3, y4, y5⟩ := h.2.2.2.2.1.2
    have e18' : lv σ' 5 18 = lv σ 5 18 := by unfold lv; rw [e18]
    refine ⟨⟨?_, z2, fun y hy => ?_⟩, y1, y2, ?_, fun fx hfx => ?_, fun y hy => ?_⟩
    · rw [e18']
      show lv σ 5 18 + ((0 + rsv FO : Nat) : Int) ≤ _
      rw [Nat.zero_add]; exact z1
    · have := z3 y hy; omega
    · show (z :: R).length + 1 ≤ v + 1
      rw [hL]; omega
    · rcases List.mem_cons.1 hfx with w | w
      · rw [w]; exact Nat.zero_le _
      · exact y4 fx w
    · have := y5 y hy
      show _ < (z :: R).length + 1
      omega
