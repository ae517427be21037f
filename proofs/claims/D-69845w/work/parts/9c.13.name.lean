/-! names of what is built in, of events: the component's name() -/
/-- strings that were there are there still -/
def sgC (σ σ' : lj_S) : Prop := lv σ 3 7 ≤ lv σ' 3 7 ∧ (∀ t : Nat, (t : Int) < lv σ 3 7 → cS σ' t = cS σ t) ∧ ∀ E, cHas σ E → cHas σ' E
theorem sgC_rf (σ : lj_S) : sgC σ σ := ⟨Int.le_refl _, fun _ _ => rfl, fun _ h => h⟩
theorem sgC.tr {σ σ1 σ2 : lj_S} (h : sgC σ σ1) (g : sgC σ1 σ2) : sgC σ σ2 := ⟨Int.le_trans h.1 g.1, fun t ht => (g.2.1 t (Int.lt_of_lt_of_le ht h.1)).trans (h.2.1 t ht), fun E w => g.2.2 E (h.2.2 E w)⟩
theorem sgC_dr {σ σ' : lj_S} (f : lf cAd σ σ') : sgC σ σ' := by
  have e7 : lv σ' 3 7 = lv σ 3 7 := by unfold lv; rw [(f 3 7 rfl).1]
  refine ⟨by rw [e7]; exact Int.le_refl _, fun t _ => cS_draft f t, fun E ⟨s, h1, h2, h3⟩ => ⟨s, by rw [e7]; exact h1, by rw [cS_draft f]; exact h2, by rw [(f 15 s rfl).1]; exact h3⟩⟩
theorem sR_dr {σ σ' τ : lj_S} {X : List Int32 → Prop} (h : sR σ τ X) (f : lf cAd σ σ') : sR σ' τ X := by
  refine ⟨cOK_draft h.1 f, h.2.1, fun D => ?_⟩
  have e7 : lv σ' 3 7 = lv σ 3 7 := by unfold lv; rw [(f 3 7 rfl).1]
  rw [h.2.2 D]
  have : cHas σ' D ↔ cHas σ D := by
    unfold cHas
    constructor
    · rintro ⟨s, h1, h2, h3⟩
      exact ⟨s, by rw [e7] at h1; exact h1, by rw [cS_draft f] at h2; exact h2, by rw [(f 15 s rfl).1] at h3; exact h3⟩
    · rintro ⟨s, h1, h2, h3⟩
      exact ⟨s, by rw [e7]; exact h1, by rw [cS_draft f]; exact h2, by rw [(f 15 s rfl).1]; exact h3⟩
  rw [this]
/-- a word that the model has already is settled in the component -/
theorem sR_set {σ τ : lj_S} {X : List Int32 → Prop} (h : sR σ τ X) {D : List Int32} (hD : cDr σ D) (hl : D.length ≤ 20) (hX : X D) (g7 : lv σ 3 7 < 2600) (g8 : lv σ 3 8 + 20 ≤ 40000) : ∃ σ' s, lj_R lc_P 24 [.ref 3] σ = some (.inl (some (.int (Int32.ofNat s))), σ') ∧ sR σ' τ X ∧ cHas σ' D ∧ (s < 2600 ∧ (s : Int) < lv σ' 3 7 ∧ cS σ' s = D) ∧ (lv σ' 3 7 ≤ lv σ 3 7 + 1 ∧ lv σ' 3 8 ≤ lv σ 3 8 + 20) ∧ sgC σ σ' ∧ lf cAs σ σ' := by
  obtain ⟨σ1, s, e1, e2, e3, e4, e5, e6⟩ := c_settle σ hD (by omega) h.1 g7 (by omega)
  obtain ⟨σ', hσ'⟩ : ∃ t, t = lj_put σ1 15 s 1 := ⟨_, rfl⟩
  have o : ∀ k j, ¬ (k = 15 ∧ j = s) → σ'.1 k j = σ1.1 k j := fun k j w => by rw [hσ', lj_put_1, if_neg w]
  have o15 : σ'.1 15 s = 1 := by rw [hσ', lj_put_1, if_pos ⟨rfl, rfl⟩]
  have oS : ∀ t, cS σ' t = cS σ1 t := cS_cong (fun j => o 9 j (by omega)) (fun j => o 10 j (by omega)) (fun j => o 11 j (by omega))
  have o7 : lv σ' 3 7 = lv σ1 3 7 := by unfold lv; rw [o 3 7 (by omega)]
  have o8 : lv σ' 3 8 = lv σ1 3 8 := by unfold lv; rw [o 3 8 (by omega)]
  have ok : cOK σ' := cOK_cong e3 (fun j => o 9 j (by omega)) (fun j => o 10 j (by omega)) (fun j => o 11 j (by omega)) (fun j => o 12 j (by omega)) (fun j => o 13 j (by omega)) (o 3 7 (by omega)) (o 3 8 (by omega))
  have lfσ : lf cAs σ σ' := by rw [hσ']; exact lf_put e5 _ _ _ rfl
  have key : (s : Int) < lv σ1 3 7 ∧ cS σ1 s = D ∧ lv σ 3 7 ≤ lv σ1 3 7 ∧ lv σ1 3 7 ≤ lv σ 3 7 + 1 ∧ lv σ1 3 8 ≤ lv σ 3 8 + 20 ∧ (∀ t : Nat, (t : Int) < lv σ 3 7 → cS σ1 t = cS σ t ∧ (t ≠ s → σ1.1 15 t = σ.1 15 t)) ∧ ∀ t : Nat, (t : Int) < lv σ1 3 7 → (t : Int) < lv σ 3 7 ∨ t = s := by
    rcases e2 with ⟨q1, q2, q3⟩ | ⟨q1, q2, q3, q4, q5, q6, q7, q8⟩
    · rw [q1]
      exact ⟨q2, q3, Int.le_refl _, (by omega), (by omega), fun t _ => ⟨rfl, fun _ => rfl⟩, fun t ht => Or.inl ht⟩
    · exact ⟨(by omega), q6, (by omega), (by omega), (by omega), fun t ht => ⟨q5 t ht, fun w => q8 t w⟩, fun t ht => by omega⟩
  obtain ⟨k1, k2, k3, k4, k5, k6, k7⟩ := key
  have has : ∀ E, cHas σ' E ↔ (cHas σ E ∨ E = D) := by
    intro E
    constructor
    · rintro ⟨t, h1, h2, h3⟩
      rw [o7] at h1
      rw [oS] at h2
      by_cases z : t = s
      · right; rw [← h2, z, k2]
      · left
        have ht := (k7 t h1).resolve_right z
        exact ⟨t, ht, by rw [← (k6 t ht).1]; exact h2, by rw [← (k6 t ht).2 z, ← o 15 t (by omega)]; exact h3⟩
    · rintro (⟨t, h1, h2, h3⟩ | e)
      · refine ⟨t, by rw [o7]; omega, by rw [oS, (k6 t h1).1]; exact h2, ?_⟩
        by_cases z : t = s
        · rw [z, o15]; decide
        · rw [o 15 t (by omega), (k6 t h1).2 z]; exact h3
      · exact ⟨s, by rw [o7]; exact k1, by rw [oS, e]; exact k2, by rw [o15]; decide⟩
  refine ⟨σ', s, by rw [hσ']; exact e1, ⟨ok, h.2.1, fun E => ?_⟩, (has D).2 (Or.inr rfl), ⟨e6, by rw [o7]; exact k1, by rw [oS]; exact k2⟩, ⟨by rw [o7]; exact k4, by rw [o8]; exact k5⟩, ⟨by rw [o7]; exact k3, fun t ht => by rw [oS, (k6 t ht).1], fun E w => (has E).2 (Or.inl w)⟩, lfσ⟩
  rw [h.2.2 E, has E]
  constructor
  · rintro (w | w)
    · exact Or.inl (Or.inl w)
    · exact Or.inr w
  · rintro ((w | w) | w)
    · exact Or.inl w
    · rw [w]; exact Or.inr hX
    · exact Or.inr w
/-- a word is made in the component alone -/
theorem sR_mk {σ τ : lj_S} {X : List Int32 → Prop} (h : sR σ τ X) {D : List Int32} (hD : cDr σ D) (hl : D.length ≤ 20) (g7 : lv σ 3 7 < 2600) (g8 : lv σ 3 8 + 20 ≤ 40000) : ∃ σ' s, lj_R lc_P 25 [.ref 3] σ = some (.inl (some (.int (Int32.ofNat s))), σ') ∧ sR σ' τ X ∧ (s < 2600 ∧ (s : Int) < lv σ' 3 7 ∧ cS σ' s = D) ∧ (lv σ' 3 7 ≤ lv σ 3 7 + 1 ∧ lv σ' 3 8 ≤ lv σ 3 8 + 20) ∧ sgC σ σ' ∧ lf cAs σ σ' := by
  obtain ⟨σ1, s, e1, e2, e3, e4, e5⟩ := c_make σ hD (by omega) h.1 g7 (by omega)
  have m2 : lv σ 3 7 ≤ 2600 := h.1.1.2
  have key : (s : Int) < lv σ1 3 7 ∧ cS σ1 s = D ∧ lv σ 3 7 ≤ lv σ1 3 7 ∧ lv σ1 3 7 ≤ lv σ 3 7 + 1 ∧ lv σ1 3 8 ≤ lv σ 3 8 + 20 ∧ (∀ t : Nat, (t : Int) < lv σ 3 7 → cS σ1 t = cS σ t ∧ σ1.1 15 t = σ.1 15 t) ∧ ∀ t : Nat, (t : Int) < lv σ1 3 7 → (t : Int) < lv σ 3 7 ∨ (t = s ∧ σ1.1 15 s = 0) := by
    rcases e2 with ⟨q1, q2, q3⟩ | ⟨q1, q2, q3, q4, q5, q6, q7, q8⟩
    · rw [q1]
      exact ⟨q2, q3, Int.le_refl _, (by omega), (by omega), fun t _ => ⟨rfl, rfl⟩, fun t ht => Or.inl ht⟩
    · exact ⟨(by omega), q6, (by omega), (by omega), (by omega), fun t ht => ⟨q5 t ht, q8 t (by omega)⟩, fun t ht => by
        by_cases z : t = s
        · exact Or.inr ⟨z, q7⟩
        · left; omega⟩
  obtain ⟨k1, k2, k3, k4, k5, k6, k7⟩ := key
  have has : ∀ E, cHas σ1 E ↔ cHas σ E := by
    intro E
    constructor
    · rintro ⟨t, h1, h2, h3⟩
      rcases k7 t h1 with ht | ⟨z, w⟩
      · exact ⟨t, ht, by rw [← (k6 t ht).1]; exact h2, by rw [← (k6 t ht).2]; exact h3⟩
      · rw [z, w] at h3; exact absurd rfl h3
    · rintro ⟨t, h1, h2, h3⟩
      exact ⟨t, by omega, by rw [(k6 t h1).1]; exact h2, by rw [(k6 t h1).2]; exact h3⟩
  exact ⟨σ1, s, e1, ⟨e3, h.2.1, fun E => by rw [h.2.2 E, has E]⟩, ⟨by have := e3.1.2; omega, k1, k2⟩, ⟨k4, k5⟩, ⟨k3, fun t ht => (k6 t ht).1, fun E w => (has E).2 w⟩, e5⟩
/-- what name() changes -/
def nmF (k j : Nat) : Bool := cAs k j || cAd k j || k == 78 || (k == 8 && (j == 1 || j == 3))
/-- on the way: m words came at most -/
def nIv (σ0 τ : lj_S) (X : List Int32 → Prop) (m : Nat) (σ : lj_S) : Prop := sR σ τ X ∧ (lv σ 3 7 ≤ lv σ0 3 7 + m ∧ lv σ 3 8 ≤ lv σ0 3 8 + 20 * m) ∧ sgC σ0 σ ∧ lf nmF σ0 σ
theorem nIv.dr {σ0 τ σ σ' : lj_S} {X : List Int32 → Prop} {m : Nat} (h : nIv σ0 τ X m σ) (f : lf cAd σ σ') : nIv σ0 τ X m σ' := by
  refine ⟨sR_dr h.1 f, ?_, h.2.2.1.tr (sgC_dr f), h.2.2.2.tr (f.mo (fun k j w => by unfold nmF at w; simp at w; exact w.1.1.2))⟩
  have := h.2.1
  unfold lv at this ⊢
  rw [(f 3 7 rfl).1, (f 3 8 rfl).1]
  exact this
theorem nIv.put {σ0 τ σ : lj_S} {X : List Int32 → Prop} {m : Nat} (h : nIv σ0 τ X m σ) (k j : Nat) (v : Int32) (hk : k = 78 ∨ k = 8 ∧ (j = 1 ∨ j = 3)) : nIv σ0 τ X m (lj_put σ k j v) := by
  have o : ∀ k' j', k' ≠ 78 → k' ≠ 8 → (lj_put σ k j v).1 k' j' = σ.1 k' j' := fun k' j' w1 w2 => by rw [lj_put_1, if_neg (by omega)]
  have hS : ∀ t, cS (lj_put σ k j v) t = cS σ t := cS_cong (fun j' => o 9 j' (by omega) (by omega)) (fun j' => o 10 j' (by omega) (by omega)) (fun j' => o 11 j' (by omega) (by omega))
  have e7 : lv (lj_put σ k j v) 3 7 = lv σ 3 7 := by unfold lv; rw [o 3 7 (by omega) (by omega)]
  have e8 : lv (lj_put σ k j v) 3 8 = lv σ 3 8 := by unfold lv; rw [o 3 8 (by omega) (by omega)]
  have has : ∀ E, cHas (lj_put σ k j v) E ↔ cHas σ E := fun E => by
    unfold cHas
    simp only [hS, e7, o 15 _ (show (15 : Nat) ≠ 78 by decide) (show (15 : Nat) ≠ 8 by decide)]
  refine ⟨⟨cOK_cong h.1.1 (fun j' => o 9 j' (by omega) (by omega)) (fun j' => o 10 j' (by omega) (by omega)) (fun j' => o 11 j' (by omega) (by omega)) (fun j' => o 12 j' (by omega) (by omega)) (fun j' => o 13 j' (by omega) (by omega)) (o 3 7 (by omega) (by omega)) (o 3 8 (by omega) (by omega)), h.1.2.1, fun D => by rw [h.1.2.2 D, has D]⟩, by rw [e7, e8]; exact h.2.1, h.2.2.1.tr ⟨by rw [e7]; exact Int.le_refl _, fun t _ => hS t, fun E w => (has E).2 w⟩, lf_put h.2.2.2 _ _ _ ?_⟩
  unfold nmF
  rcases hk with e | ⟨e, e' | e'⟩
  · rw [e]; simp
  · rw [e, e']; simp
  · rw [e, e']; simp
theorem nIv.set {σ0 τ σ : lj_S} {X : List Int32 → Prop} {m : Nat} (h : nIv σ0 τ X m σ) {D : List Int32} (hD : cDr σ D) (hl : D.length ≤ 20) (hX : X D) (b7 : lv σ0 3 7 + m < 2600) (b8 : lv σ0 3 8 + 20 * m + 20 ≤ 40000) : ∃ σ' s, lj_R lc_P 24 [.ref 3] σ = some (.inl (some (.int (Int32.ofNat s))), σ') ∧ nIv σ0 τ X (m + 1) σ' ∧ cHas σ' D ∧ (s < 2600 ∧ (s : Int) < lv σ' 3 7 ∧ cS σ' s = D) ∧ sgC σ σ' ∧ lf cAs σ σ' := by
  obtain ⟨σ', s, e1, e2, e3, e4, e5, e6, e7⟩ := sR_set h.1 hD hl hX (by have := h.2.1.1; omega) (by have := h.2.1.2; omega)
  refine ⟨σ', s, e1, ⟨e2, ?_, h.2.2.1.tr e6, h.2.2.2.tr (e7.mo (fun k j w => by unfold nmF at w; simp at w; exact w.1.1.1))⟩, e3, e4, e6, e7⟩
  have := h.2.1
  omega
theorem nIv.mk {σ0 τ σ : lj_S} {X : List Int32 → Prop} {m : Nat} (h : nIv σ0 τ X m σ) {D : List Int32} (hD : cDr σ D) (hl : D.length ≤ 20) (b7 : lv σ0 3 7 + m < 2600) (b8 : lv σ0 3 8 + 20 * m + 20 ≤ 40000) : ∃ σ' s, lj_R lc_P 25 [.ref 3] σ = some (.inl (some (.int (Int32.ofNat s))), σ') ∧ nIv σ0 τ X (m + 1) σ' ∧ (s < 2600 ∧ (s : Int) < lv σ' 3 7 ∧ cS σ' s = D) ∧ sgC σ σ' ∧ lf cAs σ σ' := by
  obtain ⟨σ', s, e1, e2, e4, e5, e6, e7⟩ := sR_mk h.1 hD hl (by have := h.2.1.1; omega) (by have := h.2.1.2; omega)
  refine ⟨σ', s, e1, ⟨e2, ?_, h.2.2.1.tr e6, h.2.2.2.tr (e7.mo (fun k j w => by unfold nmF at w; simp at w; exact w.1.1.1))⟩, e4, e6, e7⟩
  have := h.2.1
  omega
/-- names 0 .. 16, 17 .. 30 -/
theorem c_nm_a {σ0 τ : lj_S} {X : List Int32 → Prop} (hX : ∀ k, k < 31 → X (nmX k)) (b7 : lv σ0 3 7 + 60 < 2600) (b8 : lv σ0 3 8 + 1300 ≤ 40000) : ∀ (d i : Nat) (σ : lj_S) (x2 : Value), i + d = 17 → nIv σ0 τ X i σ → (∀ k, k < i → cHas σ (nmX k)) → ∃ σ' x2', lj_D lc_P lc_M123 2 [.ref 8, .int (Int32.ofNat i), x2] [] σ = lj_D lc_P lc_M123 24 [.ref 8, .int (Int32.ofNat 17), x2'] [] σ' ∧ nIv σ0 τ X 17 σ' ∧ ∀ k, k < 17 → cHas σ' (nmX k)
  | 0, i, σ, x2, h, hn, hh => by
    have e : i = 17 := h
    refine ⟨σ, x2, ?_, by rw [← e]; exact hn, by rw [← e]; exact hh⟩
    rw [e, kc_123_2, if_pos (by decide)]
    rfl
  | d + 1, i, σ, x2, h, hn, hh => by
    obtain ⟨σ1, a1, a2, a3⟩ := c_nmf σ (k := i) (by omega)
    rw [if_pos (by omega)] at a1
    obtain ⟨σ2, s, e1, e2, e3, _, e5, _⟩ := (hn.dr a3).set a2 (nmI_ok ⟨i, by omega⟩).2.2 (hX i (by omega)) (by omega) (by omega)
    obtain ⟨σ', x2', g1, g2, g3⟩ := c_nm_a hX b7 b8 d (i + 1) σ2 (.int (Int32.ofNat s)) (by omega) e2 (fun k hk => by
      by_cases z : k = i
      · rw [z]; exact e3
      · exact e5.2.2 _ ((sgC_dr a3).2.2 _ (hh k (by omega))))
    refine ⟨σ', x2', ?_, g2, g3⟩
    rw [kc_123_2, if_neg (by rw [show (16 : Int32) = Int32.ofNat 16 from rfl, lz_lt, lz_lit (by omega), lz_lit (by omega)]; omega), a1, e1, bi_ok, bi_ok, lz_osucc]
    exact g1
theorem c_nm_b {σ0 τ : lj_S} {X : List Int32 → Prop} (hX : ∀ k, k < 31 → X (nmX k)) (b7 : lv σ0 3 7 + 60 < 2600) (b8 : lv σ0 3 8 + 1300 ≤ 40000) : ∀ (d i : Nat) (σ : lj_S) (x2 : Value), i + d = 31 → 17 ≤ i → nIv σ0 τ X i σ → (∀ k, k < i → cHas σ (nmX k)) → ∃ σ' x2', lj_D lc_P lc_M123 24 [.ref 8, .int (Int32.ofNat i), x2] [] σ = lj_D lc_P lc_M123 24 [.ref 8, .int (Int32.ofNat 31), x2'] [] σ' ∧ nIv σ0 τ X 31 σ' ∧ ∀ k, k < 31 → cHas σ' (nmX k)
  | 0, i, σ, x2, h, _, hn, hh => by
    have e : i = 31 := h
    exact ⟨σ, x2, by rw [e], by rw [← e]; exact hn, by rw [← e]; exact hh⟩
  | d + 1, i, σ, x2, h, h17, hn, hh => by
    obtain ⟨σ1, a1, a2, a3⟩ := c_nmf σ (k := i) (by omega)
    rw [if_neg (by omega)] at a1
    obtain ⟨σ2, s, e1, e2, e3, _, e5, _⟩ := (hn.dr a3).set a2 (nmI_ok ⟨i, by omega⟩).2.2 (hX i (by omega)) (by omega) (by omega)
    obtain ⟨σ', x2', g1, g2, g3⟩ := c_nm_b hX b7 b8 d (i + 1) σ2 (.int (Int32.ofNat s)) (by omega) (by omega) e2 (fun k hk => by
      by_cases z : k = i
      · rw [z]; exact e3
      · exact e5.2.2 _ ((sgC_dr a3).2.2 _ (hh k (by omega))))
    refine ⟨σ', x2', ?_, g2, g3⟩
    rw [kc_123_24, if_neg (by rw [show (30 : Int32) = Int32.ofNat 30 from rfl, lz_lt, lz_lit (by omega), lz_lit (by omega)]; omega), a1, e1, bi_ok, bi_ok, lz_osucc]
    exact g1
