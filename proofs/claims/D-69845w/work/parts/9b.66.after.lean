/-! the gathering: frames afterwards -/
/-- what the frames rest on stays, and what was reached too -/
def afS (T : Nat → Bool) (σ τ σ' τ' : lj_S) : Prop := (∀ k j, 79 ≤ k ∧ k ≤ 98 ∨ k = 62 → σ'.1 k j = σ.1 k j ∧ σ'.2 k j = σ.2 k j) ∧ (∀ k j, 71 ≤ k ∧ k ≤ 82 ∨ k = 87 → τ'.1 k j = τ.1 k j ∧ τ'.2 k j = τ.2 k j) ∧ (∀ a b, vR σ τ a b → (ov a ≠ 0 → T (ov a) = true) → vR σ' τ' a b) ∧ ∀ o k, obA σ τ o k → T o = true → obA σ' τ' o k
theorem flo_pre (x : Nat) (s : List Nat) : flo (x :: s) = flo s ++ (if x = 3 ∨ x = 4 then [x] else []) := by
  unfold flo
  by_cases e : x = 3 ∨ x = 4
  · rw [if_pos e, List.filter_cons_of_pos (by rcases e with e | e <;> simp [e]), List.reverse_cons]
  · rw [if_neg e, List.filter_cons_of_neg (by simp; omega), List.append_nil]
theorem stk_T {T : Nat → Bool} {σ τ σ' τ' : lj_S} (af : afS T σ τ σ' τ') {p hb ob mb kb : Nat} : ∀ {s : List Nat} {ce me mq : Nat} {cm : Int32}, stk σ τ p hb ob mb kb s ce me mq cm → (∀ j, ob ≤ j → j < ce → ov (cv σ j) ≠ 0 → T (ov (cv σ j)) = true) → (∀ d e, e < 3 → (flo s)[d]? = some 4 → ov (cv σ (hb + 3 * d + e)) ≠ 0 → T (ov (cv σ (hb + 3 * d + e))) = true) → stk σ' τ' p hb ob mb kb s ce me mq cm
  | [], ce, me, mq, cm, h, _, _ => h
  | x :: s, ce, me, mq, cm, h, gS, gH => by
    obtain ⟨aC, aM, av, ao⟩ := af
    have ec : ∀ j, cv σ' j = cv σ j := fun j => by unfold cv; rw [(aC 79 j (by omega)).1, (aC 80 j (by omega)).2]
    have em : ∀ j, mv τ' j = mv τ j := fun j => by unfold mv; rw [(aM 71 j (by omega)).1, (aM 72 j (by omega)).2]
    have gH' : ∀ d e, e < 3 → (flo s)[d]? = some 4 → ov (cv σ (hb + 3 * d + e)) ≠ 0 → T (ov (cv σ (hb + 3 * d + e))) = true := fun d e he w => gH d e he (by
      rw [flo_pre, List.getElem?_append_left]
      · exact w
      · exact (List.getElem?_eq_some_iff.1 w).1)
    rcases h with ⟨e, ce', mq', cm', a1, a2, a3, ⟨a4, a4', a4''⟩, a5, a6⟩ | ⟨e, mq', a1, a2, a3⟩ | ⟨e, me', a1, a2, a3⟩ | ⟨e, r, ce', me', a1, a2, a3, a4, a5⟩ | ⟨e, ce', me', a1, a2, a3, a4, a5, a6, a7⟩ | ⟨e, ce', me', a1, a2, a3, a4, a5, a6⟩
    · exact Or.inl ⟨e, ce', mq', cm', a1, a2, a3, ⟨by rw [(aC 79 _ (by omega)).1]; exact a4, by rw [(aC 80 _ (by omega)).2]; exact a4', by rw [(aC 81 _ (by omega)).1]; exact a4''⟩, by rw [(aM 73 _ (by omega)).1]; exact a5, stk_T ⟨aC, aM, av, ao⟩ a6 (fun j w1 w2 => gS j w1 (by omega)) gH'⟩
    · exact Or.inr (Or.inl ⟨e, mq', a1, by rw [(aM 73 _ (by omega)).1]; exact a2, stk_T ⟨aC, aM, av, ao⟩ a3 gS gH'⟩)
    · refine Or.inr (Or.inr (Or.inl ⟨e, me', a1, fun i hi => ?_, stk_T ⟨aC, aM, av, ao⟩ a3 gS gH'⟩))
      obtain ⟨c1, c2⟩ := a2 i hi
      rw [ec, em, (aC 79 _ (by omega)).1]
      refine ⟨av _ _ c1 (fun z => ?_), c2⟩
      rcases e with e | e
      · exfalso
        refine z (ov_k ?_)
        have k2 : (cv σ (hb + 3 * (flo s).length + i)).1 = 2 := c2 e
        rw [k2]
        decide
      · refine gH (flo s).length i hi ?_ z
        rw [flo_pre, if_pos (Or.inr e), List.getElem?_append_right (Nat.le_refl _), Nat.sub_self, e]
        rfl
    · obtain ⟨b1, b2, b3, _⟩ := stk_bd a5
      refine Or.inr (Or.inr (Or.inr (Or.inl ⟨e, r, ce', me', a1, a2, a3, fun i hi => ?_, stk_T ⟨aC, aM, av, ao⟩ a5 (fun j w1 w2 => gS j w1 (by omega)) gH'⟩)))
      obtain ⟨c1, c2⟩ := a4 i hi
      rw [ec, em, (aC 81 _ (by omega)).1]
      exact ⟨av _ _ c1 (gS _ (by omega) (by omega)), c2⟩
    · obtain ⟨b1, b2, b3, _⟩ := stk_bd a7
      refine Or.inr (Or.inr (Or.inr (Or.inr (Or.inl ⟨e, ce', me', a1, a2, ?_, by rw [(aC 81 _ (by omega)).1]; exact a4, by rw [(aC 79 _ (by omega)).1]; exact a5, by rw [(aC 79 _ (by omega)).1]; exact a6, stk_T ⟨aC, aM, av, ao⟩ a7 (fun j w1 w2 => gS j w1 (by omega)) gH'⟩))))
      rw [ec, em]
      exact av _ _ a3 (gS _ (by omega) (by omega))
    · exact Or.inr (Or.inr (Or.inr (Or.inr (Or.inr ⟨e, ce', me', a1, a2, by rw [(aC 79 _ (by omega)).1]; exact a3, by rw [(aM 71 _ (by omega)).1]; exact a4, by rw [(aC 81 _ (by omega)).1]; exact a5, stk_T ⟨aC, aM, av, ao⟩ a6 (fun j w1 w2 => gS j w1 (by omega)) gH'⟩))))
theorem frm_T {T : Nat → Bool} {σ0 τ0 σ τ σ' τ' : lj_S} (af : afS T σ τ σ' τ') {ρ : Nat → Nat} {p d : Nat} {F : kF} {ms ks ce me mq : Nat} (h : frm σ0 τ0 σ τ ρ p d F ms ks ce me mq) (hg : ∀ x, fgC σ0 σ F ce x → T x = true) : frm σ0 τ0 σ' τ' ρ p d F ms ks ce me mq := by
  obtain ⟨aC, aM, av, ao⟩ := id af
  have hB : kB F = kC F + kD F := rfl
  have ec : ∀ j, cv σ' j = cv σ j := fun j => by unfold cv; rw [(aC 79 j (by omega)).1, (aC 80 j (by omega)).2]
  have em : ∀ j, mv τ' j = mv τ j := fun j => by unfold mv; rw [(aM 71 j (by omega)).1, (aM 72 j (by omega)).2]
  have c : ∀ k j, 79 ≤ k ∧ k ≤ 98 → σ'.1 k j = σ.1 k j := fun k j w => (aC k j (Or.inl w)).1
  have m : ∀ k j, 71 ≤ k ∧ k ≤ 82 ∨ k = 87 → τ'.1 k j = τ.1 k j := fun k j w => (aM k j w).1
  obtain ⟨⟨h1, h2, h3⟩, h4⟩ := h
  refine ⟨⟨by rw [c 95 _ (by omega)]; exact h1, by rw [m 80 _ (by omega)]; exact h2, by rw [m 81 _ (by omega)]; exact h3⟩, ?_⟩
  rcases h4 with ⟨e, t⟩ | ⟨e, w1, w2, w3⟩
  · refine Or.inl ⟨e, ?_⟩
    obtain ⟨⟨a1, a2, a3, a4, a5⟩, ⟨b1, b2, b3, b4, b5⟩, t3, t4, ⟨t5, t6, t7, t8, t10⟩, ⟨t11, t12, t13⟩⟩ := t
    refine ⟨⟨by rw [c 91 _ (by omega)]; exact a1, by rw [c 92 _ (by omega)]; exact a2, by rw [c 93 _ (by omega)]; exact a3, by rw [c 94 _ (by omega)]; exact a4, by rw [c 96 _ (by omega)]; exact a5⟩, ⟨by rw [m 74 _ (by omega)]; exact b1, by rw [m 75 _ (by omega)]; exact b2, by rw [m 76 _ (by omega)]; exact b3, by rw [m 77 _ (by omega)]; exact b4, by rw [m 82 _ (by omega)]; exact b5⟩, fun i hi => ?_, ?_, ⟨fun x hx => ?_, fun x x1 x2 => ?_, fun x x1 x2 => ?_, fun i hi => ?_, t10⟩, ⟨t11, ?_, t13⟩⟩
    · obtain ⟨c1, c2⟩ := t3 i hi
      rw [ec, em, c 81 _ (by omega)]
      exact ⟨av _ _ c1 (fun z => hg _ ⟨e, z, Or.inr (Or.inl ⟨kC F + i, by omega, by omega, rfl⟩)⟩), c2⟩
    · rw [c 97 _ (by omega)]
      exact stk_T af t4 (fun j w1 w2 z => hg _ ⟨e, z, Or.inr (Or.inr (Or.inr (Or.inr ⟨j, w1, w2, rfl⟩)))⟩) (fun d e' he w z => hg _ ⟨e, z, Or.inr (Or.inr (Or.inr (Or.inl ⟨d, e', he, w, rfl⟩)))⟩)
    · rw [m 87 _ (by omega)]
      exact t5 x hx
    · rw [m 87 _ (by omega)]
      exact t6 x x1 x2
    · rw [c 81 _ (by omega)]
      exact t7 x x1 x2
    · rw [c 81 _ (by omega)]
      exact t8 i hi
    · rcases t12 with y | ⟨y1, y2⟩
      · exact Or.inl y
      · exact Or.inr ⟨ao _ _ y1 (hg _ ⟨e, by have := y1.1; omega, Or.inl rfl⟩), by rw [(aC 62 _ (by omega)).1]; exact y2⟩
  · exact Or.inr ⟨e, by rw [c 91 _ (by omega)]; exact w1, by rw [m 74 _ (by omega)]; exact w2, w3⟩
theorem prt_T {T : Nat → Bool} {σ0 τ0 σ τ σ' τ' : lj_S} (af : afS T σ τ σ' τ') {ρ : Nat → Nat} {p : Nat} : ∀ {L : List kF} {ce me mq : Nat}, prt σ0 τ0 σ τ ρ p L ce me mq → (∀ x, pCt σ0 σ L ce x → T x = true) → prt σ0 τ0 σ' τ' ρ p L ce me mq
  | [], _, _, _, h, _ => h
  | F :: L, ce, me, mq, h, hg => by
    obtain ⟨ms, ks, h1, h2, h3⟩ := h
    refine ⟨ms, ks, prt_T af h1 (fun x hx => hg x (Or.inr hx)), frm_T af h2 (fun x hx => hg x (Or.inl hx)), ?_⟩
    rw [(af.1 98 _ (by omega)).1, (af.2.1 78 _ (by omega)).1, (af.2.1 79 _ (by omega)).1]
    exact h3
/-- variables afterwards -/
theorem clR_T {T : Nat → Bool} {σ0 σ τ σ' τ' : lj_S} {FP : Nat → List kF} {ρ : Nat → Nat} {n : Nat} (h : clR σ0 σ τ FP ρ n) (af : afS T σ τ σ' τ') (ob : ∀ o, obA σ' τ' o 5 → obA σ τ o 5 ∧ T o = true) (c : ∀ k j, k = 62 ∨ k = 63 ∨ k = 74 ∨ k = 75 ∨ k = 77 ∨ k = 7 ∧ (j = 21 ∨ j = 25) → σ'.1 k j = σ.1 k j) (c76 : ∀ j, σ'.2 76 j = σ.2 76 j) (m : ∀ k j, k = 44 ∨ k = 54 ∨ k = 57 ∨ k = 0 ∧ j = 96 → τ'.1 k j = τ.1 k j) (m55 : ∀ j, τ'.2 55 j = τ.2 55 j) (h58 : ∀ q, τ'.1 58 q ≠ 4 → τ.1 58 q ≠ 4 ∧ ∀ a, lsL (FP q) a → ov (cv σ a) ≠ 0 → T (ov (cv σ a)) = true) (hfn : ∀ o x, T o = true → fnX σ0 σ τ o x → T x = true) : clR σ0 σ' τ' FP ρ n := by
  obtain ⟨aC, aM, av, ao⟩ := id af
  have ec : ∀ j, cv σ' j = cv σ j := fun j => by unfold cv; rw [(aC 79 j (by omega)).1, (aC 80 j (by omega)).2]
  have va : ∀ a, vaC σ' a = vaC σ a := fun a => by unfold vaC; rw [ec, c 75 _ (by omega), c76]
  have lo : ∀ x, loC σ' x = loC σ x := fun x => by unfold loC lv; rw [c 74 x (by omega)]
  have cp : ∀ o k x, cpO σ0 σ' τ' o k x → cpO σ0 σ τ o k x ∧ T o = true := fun o k x ⟨w1, f, r, w2, w3, w4, w5, w6, w7, w8⟩ => ⟨⟨(ob o w1).1, f, r, w2, by rw [← c 62 o (by omega)]; exact w3, w4, w5, by rw [← c 63 o (by omega)]; exact w6, by rw [← c 77 _ (by omega)]; exact w7, w8⟩, (ob o w1).2⟩
  have us : ∀ a, usd σ0 σ' τ' FP a → usd σ0 σ τ FP a ∧ (ov (vaC σ a) ≠ 0 → T (ov (vaC σ a)) = true) := fun a w => by
    rcases w with ⟨q, ls, w⟩ | ⟨o, k, x, w1, w2, w3⟩
    · have a3 := (h.2.2.2.2.2.1 q a ls).1
      have ev : vaC σ a = cv σ a := by unfold vaC; rw [if_pos a3]
      rcases w with w | ⟨o, k, x, w1, w2⟩
      · exact ⟨Or.inl ⟨q, ls, Or.inl (h58 q w).1⟩, by rw [ev]; exact (h58 q w).2 a ls⟩
      · obtain ⟨y1, y2⟩ := cp o k x w1
        rw [c 74 x (by omega)] at w2
        refine ⟨Or.inl ⟨q, ls, Or.inr ⟨o, k, x, y1, w2⟩⟩, fun z => hfn o _ y2 ⟨z, k, x, y1, ?_⟩⟩
        have el : loC σ x = a := by
          unfold loC lv
          rw [w2, lz_lit (by omega), if_neg (by omega)]
          omega
        rw [el]
    · obtain ⟨y1, y2⟩ := cp o k x w1
      have w2' : lv σ 74 x < 0 := by unfold lv at w2 ⊢; rw [← c 74 x (by omega)]; exact w2
      refine ⟨Or.inr ⟨o, k, x, y1, w2', w3⟩, fun z => hfn o _ y2 ⟨z, k, x, y1, ?_⟩⟩
      have el : loC σ x = a := by
        unfold loC
        rw [if_pos w2', w3]
      rw [el]
  obtain ⟨h1, h2, ⟨Fc, f1, f2, f3, f4⟩, h4, h5, h6, h7⟩ := h
  have l721 : lv σ' 7 21 = lv σ 7 21 := by unfold lv; rw [c 7 21 (by omega)]
  have l725 : lv σ' 7 25 = lv σ 7 25 := by unfold lv; rw [c 7 25 (by omega)]
  refine ⟨fun a w => ?_, fun a b w1 w2 => h2 a b (us a w1).1 (us b w2).1, ⟨Fc, fcM_cg (fun j => m 57 j (by omega)) f1, by unfold lv; rw [m 0 96 (by omega)]; exact f2, f3, fun x hx => ⟨(f4 x hx).1, fun a w => (f4 x hx).2 a (us a w).1⟩⟩, fun o f w1 w2 w3 => ?_, fun x hx => ?_, fun q s w => ?_, by rw [l721, l725]; exact h7⟩
  · obtain ⟨u1, u2⟩ := us a w
    obtain ⟨y1, y2⟩ := h1 a u1
    rw [va, m 54 _ (by omega), m55]
    exact ⟨y1, av _ _ y2 u2⟩
  · obtain ⟨r, r1, r2, r3⟩ := h4 o f (ob o w1).1 w2 (by rw [← c 62 o (by omega)]; exact w3)
    refine ⟨r, by rw [c 63 o (by omega)]; exact r1, by rw [l725]; exact r2, fun k hk => ?_⟩
    obtain ⟨x, y1, y2, y3⟩ := r3 k hk
    exact ⟨x, by rw [l721]; exact y1, by rw [c 77 _ (by omega)]; exact y2, by rw [m 44 _ (by omega), lo]; exact y3⟩
  · rw [l721] at hx
    rw [c 74 x (by omega)]
    rcases h5 x hx with w | ⟨s, w1, w2, w3, w4⟩
    · exact Or.inl w
    · exact Or.inr ⟨s, w1, w2, w3, by rw [(aC 81 s (by omega)).1]; exact w4⟩
  · obtain ⟨y1, y2⟩ := h6 q s w
    rw [(aC 81 s (by omega)).1]
    refine ⟨y1, y2.imp id (fun ⟨x, z1, z2, z3⟩ => ⟨x, by rw [l721]; exact z1, z2, by rw [c 74 x (by omega)]; exact z3⟩)⟩
