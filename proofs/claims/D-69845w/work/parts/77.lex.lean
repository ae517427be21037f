/-! strings of both programs, side by side -/
def sR (σ τ : lj_S) (X : List Int32 → Prop) : Prop := cOK σ ∧ mOK τ ∧ ∀ D, mHas τ D ↔ (cHas σ D ∨ X D)
/-- strings that were there are there still -/
def sG (σ τ σ' τ' : lj_S) : Prop := lv σ 3 7 ≤ lv σ' 3 7 ∧ lv τ 0 14 ≤ lv τ' 0 14 ∧ (∀ t : Nat, (t : Int) < lv σ 3 7 → cS σ' t = cS σ t) ∧ ∀ t : Nat, (t : Int) < lv τ 0 14 → mS τ' t = mS τ t
theorem sG_rf (σ τ : lj_S) : sG σ τ σ τ := ⟨Int.le_refl _, Int.le_refl _, fun _ _ => rfl, fun _ _ => rfl⟩
theorem sG.tr {σ τ σ1 τ1 σ2 τ2 : lj_S} (h : sG σ τ σ1 τ1) (g : sG σ1 τ1 σ2 τ2) : sG σ τ σ2 τ2 :=
  ⟨Int.le_trans h.1 g.1, Int.le_trans h.2.1 g.2.1, fun t ht => (g.2.2.1 t (Int.lt_of_lt_of_le ht h.1)).trans (h.2.2.1 t ht), fun t ht => (g.2.2.2 t (Int.lt_of_lt_of_le ht h.2.1)).trans (h.2.2.2 t ht)⟩
/-- a string of the one is one of the other -/
def sE (σ τ : lj_S) (s s' : Nat) : Prop := (s : Int) < lv σ 3 7 ∧ (s' : Int) < lv τ 0 14 ∧ cS σ s = mS τ s'
theorem sE.up {σ τ σ' τ' : lj_S} {s s' : Nat} (h : sE σ τ s s') (g : sG σ τ σ' τ') : sE σ' τ' s s' :=
  ⟨Int.lt_of_lt_of_le h.1 g.1, Int.lt_of_lt_of_le h.2.1 g.2.1, by rw [g.2.2.1 s h.1, g.2.2.2 s' h.2.1]; exact h.2.2⟩
theorem cOK_15 {σ : lj_S} (h : cOK σ) (s : Nat) (v : Int32) : cOK (lj_put σ 15 s v) :=
  cOK_cong h (fun j => by rw [lj_put_1, if_neg (by omega)]) (fun j => by rw [lj_put_1, if_neg (by omega)]) (fun j => by rw [lj_put_1, if_neg (by omega)]) (fun j => by rw [lj_put_1, if_neg (by omega)]) (fun j => by rw [lj_put_1, if_neg (by omega)]) (by rw [lj_put_1, if_neg (by omega)]) (by rw [lj_put_1, if_neg (by omega)])
theorem cS_15 (σ : lj_S) (s : Nat) (v : Int32) (t : Nat) : cS (lj_put σ 15 s v) t = cS σ t :=
  cS_cong (fun j => by rw [lj_put_1, if_neg (by omega)]) (fun j => by rw [lj_put_1, if_neg (by omega)]) (fun j => by rw [lj_put_1, if_neg (by omega)]) t
/-- both settle what is drafted -/
theorem cm_settle (σ τ : lj_S) (X : List Int32 → Prop) {D : List Int32} (h : sR σ τ X) (hC : cDr σ D) (hM : mDr τ D) (h24 : D.length ≤ 2400) (hm : lv σ 3 7 < 2600) (hu : lv σ 3 8 + D.length ≤ 40000) (hm' : lv τ 0 14 < 3000) (hu' : lv τ 0 8 + D.length ≤ 40000) :
    ∃ σ' τ' s s', lj_R lc_P 24 [.ref 3] σ = some (.inl (some (.int (Int32.ofNat s))), σ') ∧ lj_R lm_P 3 [.ref 0, .int 1] τ = some (.inl (some (.int (Int32.ofNat s'))), τ') ∧ sE σ' τ' s s' ∧ sR σ' τ' X ∧ sG σ τ σ' τ' ∧ lf cAs σ σ' ∧ lf mAs τ τ' ∧ lv σ' 3 7 ≤ lv σ 3 7 + 1 ∧ lv σ' 3 8 ≤ lv σ 3 8 + D.length ∧ lv τ' 0 14 ≤ lv τ 0 14 + 1 ∧ lv τ' 0 8 ≤ lv τ 0 8 + D.length ∧ s < 2600 ∧ s' < 3000 := by
  obtain ⟨okC, okM, hX⟩ := h
  obtain ⟨σ1, s, a1, a2, a3, a4, a5, a6⟩ := c_settle σ hC h24 okC hm hu
  obtain ⟨τ1, s', b1, b2, b3, b4, b5⟩ := m_intern τ 1 hM (by omega) okM hm' hu'
  have hs : (s : Int) < lv σ1 3 7 ∧ cS σ1 s = D ∧ lv σ 3 7 ≤ lv σ1 3 7 ∧ lv σ1 3 7 ≤ lv σ 3 7 + 1 ∧ lv σ1 3 8 ≤ lv σ 3 8 + D.length ∧ (∀ t : Nat, (t : Int) < lv σ 3 7 → cS σ1 t = cS σ t ∧ (t ≠ s → σ1.1 15 t = σ.1 15 t)) ∧ ∀ t : Nat, (t : Int) < lv σ1 3 7 → (t : Int) < lv σ 3 7 ∨ t = s := by
    rcases a2 with ⟨rfl, h1, h2⟩ | ⟨h1, h2, h3, h4, h5, h6, h7, h8⟩
    · exact ⟨h1, h2, by omega, by omega, by omega, fun t ht => ⟨rfl, fun _ => rfl⟩, fun t ht => Or.inl ht⟩
    · exact ⟨by omega, h6, by omega, by omega, by omega, fun t ht => ⟨h5 t ht, h8 t⟩, fun t ht => by omega⟩
  have hs' : (s' : Int) < lv τ1 0 14 ∧ mS τ1 s' = D ∧ lv τ 0 14 ≤ lv τ1 0 14 ∧ lv τ1 0 14 ≤ lv τ 0 14 + 1 ∧ lv τ1 0 8 ≤ lv τ 0 8 + D.length ∧ (∀ t : Nat, (t : Int) < lv τ 0 14 → mS τ1 t = mS τ t ∧ (t ≠ s' → τ1.1 5 t = τ.1 5 t)) ∧ (∀ t : Nat, (t : Int) < lv τ1 0 14 → (t : Int) < lv τ 0 14 ∨ t = s') ∧ τ1.1 5 s' = 1 := by
    rcases b2 with ⟨rfl, h1, h2⟩ | ⟨h1, h2, h3, h4, h5, h6, h7, h8⟩
    · refine ⟨by rw [lv_put, if_neg (by omega)]; exact h1, by rw [mS_sort]; exact h2, ?_, ?_, ?_, fun t ht => ⟨by rw [mS_sort], fun ne => by rw [lj_put_1, if_neg (by omega)]⟩, fun t ht => Or.inl (by rw [lv_put, if_neg (by omega)] at ht; exact ht), by rw [lj_put_1, if_pos ⟨rfl, rfl⟩]; rfl⟩
      · rw [lv_put, if_neg (by omega)]; omega
      · rw [lv_put, if_neg (by omega)]; omega
      · rw [lv_put, if_neg (by omega)]; omega
    · exact ⟨by omega, h6, by omega, by omega, by omega, fun t ht => ⟨h5 t ht, h8 t⟩, fun t ht => by omega, h7⟩
  obtain ⟨p1, p2, p3, p4, p5, p6, p7⟩ := hs
  obtain ⟨q1, q2, q3, q4, q5, q6, q7, q8⟩ := hs'
  have l7 : lv (lj_put σ1 15 s 1) 3 7 = lv σ1 3 7 := by rw [lv_put, if_neg (by omega)]
  have l8 : lv (lj_put σ1 15 s 1) 3 8 = lv σ1 3 8 := by rw [lv_put, if_neg (by omega)]
  have hs3 : s' < 3000 := by have := b3.1.2; omega
  refine ⟨lj_put σ1 15 s 1, τ1, s, s', a1, b1, ⟨by rw [l7]; exact p1, q1, by rw [cS_15, p2, q2]⟩, ⟨cOK_15 a3 _ _, b3, fun E => ?_⟩, ⟨by rw [l7]; exact p3, q3, fun t ht => by rw [cS_15]; exact (p6 t ht).1, fun t ht => (q6 t ht).1⟩, lf_put a5 _ _ _ rfl, b5, by rw [l7]; exact p4, by rw [l8]; exact p5, q4, q5, a6, hs3⟩
  -- which strings are settled
  have hc : cHas (lj_put σ1 15 s 1) E ↔ (cHas σ E ∨ E = D) := by
    constructor
    · rintro ⟨t, t1, t2, t3⟩
      rw [l7] at t1
      rw [cS_15] at t2
      by_cases e : t = s
      · subst e; exact Or.inr (t2.symm.trans p2)
      · have ht := (p7 t t1).resolve_right e
        refine Or.inl ⟨t, ht, by rw [← (p6 t ht).1]; exact t2, ?_⟩
        rw [lj_put_1, if_neg (by omega), (p6 t ht).2 e] at t3
        exact t3
    · rintro (⟨t, t1, t2, t3⟩ | rfl)
      · refine ⟨t, by rw [l7]; omega, by rw [cS_15, (p6 t t1).1]; exact t2, ?_⟩
        rw [lj_put_1]
        by_cases e : t = s
        · rw [if_pos ⟨rfl, e⟩]; decide
        · rw [if_neg (by omega), (p6 t t1).2 e]; exact t3
      · exact ⟨s, by rw [l7]; exact p1, by rw [cS_15]; exact p2, by rw [lj_put_1, if_pos ⟨rfl, rfl⟩]; decide⟩
  have hmm : mHas τ1 E ↔ (mHas τ E ∨ E = D) := by
    constructor
    · rintro ⟨t, t1, t2, t3⟩
      by_cases e : t = s'
      · subst e; exact Or.inr (t2.symm.trans q2)
      · have ht := (q7 t t1).resolve_right e
        refine Or.inl ⟨t, ht, by rw [← (q6 t ht).1]; exact t2, ?_⟩
        unfold lv at t3 ⊢
        rw [(q6 t ht).2 e] at t3
        exact t3
    · rintro (⟨t, t1, t2, t3⟩ | rfl)
      · refine ⟨t, by omega, by rw [(q6 t t1).1]; exact t2, ?_⟩
        unfold lv at t3 ⊢
        by_cases e : t = s'
        · rw [e, q8]; decide
        · rw [(q6 t t1).2 e]; exact t3
      · exact ⟨s', q1, q2, by unfold lv; rw [q8]; decide⟩
  rw [hc, hmm, hX E]
  constructor
  · rintro ((h | h) | h)
    · exact Or.inl (Or.inl h)
    · exact Or.inr h
    · exact Or.inl (Or.inr h)
  · rintro ((h | h) | h)
    · exact Or.inl (Or.inl h)
    · exact Or.inr h
    · exact Or.inl (Or.inr h)
