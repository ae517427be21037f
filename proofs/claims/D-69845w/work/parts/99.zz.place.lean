/-! places of an assignment -/
theorem plA_lt {σ τ σ' τ' : lj_S} {B : Nat} (hC : ∀ k j, (k = 54 ∨ k = 55 ∨ k = 56) → j < B → σ'.1 k j = σ.1 k j) (hM : ∀ k j, (k = 35 ∨ k = 36 ∨ k = 37) → j < B → τ'.1 k j = τ.1 k j) : ∀ {Y : List qT}, Y.length ≤ B → plA σ τ Y → plA σ' τ' Y
  | [], _, _ => trivial
  | x :: Y, hl, h => by
    simp only [List.length_cons] at hl
    exact ⟨⟨by rw [hC 54 _ (by omega) (by omega)]; exact h.1.1, by rw [hM 35 _ (by omega) (by omega)]; exact h.1.2.1, by rw [hC 55 _ (by omega) (by omega)]; exact h.1.2.2.1, by rw [hM 36 _ (by omega) (by omega)]; exact h.1.2.2.2.1, by rw [hC 56 _ (by omega) (by omega)]; exact h.1.2.2.2.2.1, by rw [hM 37 _ (by omega) (by omega)]; exact h.1.2.2.2.2.2⟩, plA_lt hC hM (by omega) h.2⟩
/-- a place more -/
theorem PS.plc {b : Nat → Int32} {n T : Nat} {Q : tkQ} {X : List Int32 → Prop} {FO : List fT} {Z : List zT} {PL : List qT} {cl ml : Nat} {F : Nat} {N : List lT} {p v c m wh : Nat} {W : List wT} {σ τ : lj_S} (h : PS b n T Q X F N FO Z PL cl ml p v c m wh W σ τ) {σ' τ' : lj_S} (oC : ∀ k j, ¬ ((k = 54 ∨ k = 55 ∨ k = 56) ∧ j = PL.length) → ¬ (k = 6 ∧ j = 18) → σ'.1 k j = σ.1 k j) (oM : ∀ k j, ¬ ((k = 35 ∨ k = 36 ∨ k = 37) ∧ j = PL.length) → ¬ (k = 0 ∧ j = 60) → τ'.1 k j = τ.1 k j) (c2 : σ'.2 = σ.2) (m2 : τ'.2 = τ.2) (x : qT) (e1 : σ'.1 54 PL.length = x.1) (e2 : τ'.1 35 PL.length = x.2.1) (e3 : σ'.1 55 PL.length = Int32.ofNat x.2.2.1) (e4 : τ'.1 36 PL.length = Int32.ofNat x.2.2.2.1) (e5 : σ'.1 56 PL.length = x.2.2.2.2) (e6 : τ'.1 37 PL.length = x.2.2.2.2) (e18 : σ'.1 6 18 = Int32.ofNat (PL.length + 1)) (e60 : τ'.1 0 60 = Int32.ofNat (PL.length + 1)) (hlen : PL.length + 1 ≤ 20 * v) :
    PS b n T Q X F N FO Z (x :: PL) cl ml p v c m wh W σ' τ' ∧ GR N N F F p p c c m m σ τ σ' τ' := by
  have hv20 := h.2.2.1.2.1
  have fC : lf pC σ σ' := fun k j q => ⟨by have := pC_k q; exact oC k j (by omega) (by omega), by rw [c2]⟩
  have fM : lf pM τ τ' := fun k j q => ⟨by have := pM_k q; exact oM k j (by omega) (by omega), by rw [m2]⟩
  have hC : ∀ (A : Nat → Nat → Bool), (∀ j, A 54 j = false) → (∀ j, A 55 j = false) → (∀ j, A 56 j = false) → A 6 18 = false → ∀ k j, A k j = true → σ'.1 k j = σ.1 k j := fun A a1 a2 a3 a4 k j q => oC k j (by
    rintro ⟨e | e | e, _⟩
    · rw [e, a1] at q; cases q
    · rw [e, a2] at q; cases q
    · rw [e, a3] at q; cases q) (by rintro ⟨e, e'⟩; rw [e, e', a4] at q; cases q)
  have hM : ∀ (A : Nat → Nat → Bool), (∀ j, A 35 j = false) → (∀ j, A 36 j = false) → (∀ j, A 37 j = false) → A 0 60 = false → ∀ k j, A k j = true → τ'.1 k j = τ.1 k j := fun A a1 a2 a3 a4 k j q => oM k j (by
    rintro ⟨e | e | e, _⟩
    · rw [e, a1] at q; cases q
    · rw [e, a2] at q; cases q
    · rw [e, a3] at q; cases q) (by rintro ⟨e, e'⟩; rw [e, e', a4] at q; cases q)
  obtain ⟨l1, l2, l3, l4, l5, l6, l7, l8, l9, l10, l11⟩ := h.2.2.2.1
  have loA' : ∀ (V : List zT), loA σ τ V → loA σ' τ' V := by
    intro V
    induction V with
    | nil => intro _; trivial
    | cons y V ih =>
      intro g
      exact ⟨⟨by rw [oC 50 _ (by omega) (by omega)]; exact g.1.1, by rw [oM 34 _ (by omega) (by omega)]; exact g.1.2.1, by rw [oC 51 _ (by omega) (by omega)]; exact g.1.2.2.1, bkL_cg (fun j => oC 52 _ (by omega) (by omega)) (fun j => oC 53 _ (by omega) (by omega)) _ _ _ g.1.2.2.2.1, by rw [oM 33 _ (by omega) (by omega)]; exact chM_cg' (fun j hj => oM 21 j (by omega) (by omega)) g.1.2.2.2.2⟩, ih g.2⟩
  refine ⟨h.mk' fC fM (NR_eq h.1.2.2.1 (hC nrC (fun _ => rfl) (fun _ => rfl) (fun _ => rfl) rfl) (hM nrM (fun _ => rfl) (fun _ => rfl) (fun _ => rfl) rfl)) (FR_eq h.1.2.2.2.1 (hC frC (fun _ => rfl) (fun _ => rfl) (fun _ => rfl) rfl) (hM frM (fun _ => rfl) (fun _ => rfl) (fun _ => rfl) rfl)) h.1.2.2.2.2.1 (lvS_eq (hC lvC (fun _ => rfl) (fun _ => rfl) (fun _ => rfl) rfl) h.1.2.2.2.2.2.1) (SCr_eq h.1.2.2.2.2.2.2 (Nat.le_refl _) (hC scC (fun _ => rfl) (fun _ => rfl) (fun _ => rfl) rfl)) (hnd_eq h.2.1 (hC hdC (fun _ => rfl) (fun _ => rfl) (fun _ => rfl) rfl) (hM hdM (fun _ => rfl) (fun _ => rfl) (fun _ => rfl) rfl)) h.2.2.1 ⟨by rw [oC 6 10 (by omega) (by omega)]; exact l1, by rw [oM 0 56 (by omega) (by omega)]; exact l2, l3, by rw [oC 6 13 (by omega) (by omega)]; exact l4, l5, e18, e60, (by simp only [List.length_cons]; omega), loA' Z l9, ⟨⟨e1, e2, e3, e4, e5, e6⟩, plA_lt (B := PL.length) (fun k j a b => oC k j (by omega) (by omega)) (fun k j a b => oM k j (by omega) (by omega)) (Nat.le_refl _) l10⟩, l11⟩ h.2.2.2.2.1.1 ?_ h.2.2.2.2.2, ⟨TX_eq N fC fM h.1.2.1 (hC txC (fun _ => rfl) (fun _ => rfl) (fun _ => rfl) rfl) (hM txM (fun _ => rfl) (fun _ => rfl) (fun _ => rfl) rfl) (fun i => by rw [c2]) (fun i => by rw [m2]) (by unfold lv; rw [oC 5 0 (by omega) (by omega)]; exact Int.le_refl _), lvX_rf _, (Nat.le_refl _), (Nat.le_refl _), (Nat.le_refl _), (Nat.le_refl _), fz_eq (fun k j _ _ => oC k j (by omega) (by omega)) (fun k j _ _ => oM k j (by omega) (by omega))⟩⟩
  obtain ⟨⟨z1, z2, z3⟩, y1, y2, y3⟩ := h.2.2.2.2.1.2
  have e18' : lv σ' 5 18 = lv σ 5 18 := by unfold lv; rw [oC 5 18 (by omega) (by omega)]
  have e8 : lv σ' 5 8 = lv σ 5 8 := by unfold lv; rw [oC 5 8 (by omega) (by omega)]
  exact ⟨⟨by rw [e18']; exact z1, z2, fun y hy => by rw [e8]; exact z3 y hy⟩, y1, (by simp only [List.length_cons]; omega), y3⟩
