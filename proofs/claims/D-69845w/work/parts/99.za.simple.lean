/-! statements: an empty one, do, break -/
theorem stR.fr {b : Nat → Int32} {n T : Nat} {Q : tkQ} {X : List Int32 → Prop} {FO0 : List fT} {nl rv : Nat} {fl : List Nat} {Z : List zT} {PL : List qT} {v : Nat} {W : List wT} {f : Nat} {s l lB : List Nat} {D : Nat} {N : List lT} {F p c m : Nat} {σ τ σ0 τ0 : lj_S} {E : Nat → Prop} {K : Nat} {oC oM : Option lj_O} (h : stR b n T Q X FO0 nl rv fl Z PL v W f s l lB D N F p c m σ τ E K oC oM) (g : GR N N F F p p c c m m σ0 τ0 σ τ) (hne : N ≠ []) : stR b n T Q X FO0 nl rv fl Z PL v W f s l lB D N F p c m σ0 τ0 E K oC oM := by
  rcases h with hf | ⟨σ', τ', p', c', m', wh', F', N', nl', e, nb, i1, i2, i3, i4, i5⟩
  · exact Or.inl hf
  · exact Or.inr ⟨σ', τ', p', c', m', wh', F', N', nl', e, nb, i1, i2, i3, g.s hne i4, i5⟩
theorem cs_semi {b : Nat → Int32} {n T : Nat} {Q : tkQ} {X : List Int32 → Prop} (hT5 : T ≤ 520) {F : Nat} {N : List lT} {FO0 : List fT} {nl rv : Nat} {fl : List Nat} {Z : List zT} {PL : List qT} {cl ml : Nat} {p v c m wh : Nat} {W : List wT} {σ τ : lj_S} {f : Nat} {s l lB : List Nat} {D : Nat} (h : PS b n T Q X F N (((nl, rv), fl) :: FO0) Z PL cl ml p v c m wh W σ τ) (hne : N ≠ []) (a66 : (Q p).1 = 66) :
    ∃ y τ', (y = 0 ∨ y = 1) ∧ lj_R lm_P 42 [.ref 0] τ = some (.inl (some (.int y)), τ') ∧ stR b n T Q X FO0 nl rv fl Z PL v W f s l lB D N F p c m σ τ (fun p' => p < p') 0 (lj_R lc_P 67 [.ref 6] σ) (mNx y τ') := by
  have hpT := h.2.2.1.1
  have hlt : p < T := h.lt (by omega) (by omega)
  have P1 := h.st hlt
  refine ⟨1, _, Or.inr rfl, ?_, Or.inr ⟨_, _, p + 1, c, m, wh, F, N, nl, [], [], c_step h.1.1 hpT h.2.1.1, nx1 P1.1.2.1, ?_, P1.2.gs hne, (Nat.le_refl _), fun y hy => by simp at hy, (by omega), (by omega), (by omega), fun x hx => by simp at hx, fun q => absurd rfl q, fun σ2 τ2 _ => Or.inl rfl⟩⟩
  · rw [rm_42, km_42_0, m_isSign h.1.1 hpT h.2.1.2.1 26 (by omega) 59 rfl, if_pos (show (Q p).1 = 40 + 26 by omega), bi_ok, if_neg (by decide), m_take h.1.1 hpT h.2.1.2.1 (by omega), bi_ok]
    rfl
  · rw [adB_nil]
    exact ⟨P1.1.1, P1.1.2.1, P1.1.2.2.1, LPr_eq P1.1.2.2.2.1 (fun _ _ _ => rfl) (fun _ _ _ => rfl) P1.1.2.2.2.2.1.1 P1.1.2.2.2.2.2 (fun _ _ => rfl), ⟨(Nat.le_refl _), P1.1.2.2.2.2.1.2⟩, (Nat.le_refl _)⟩
/-- behind a block that is read: more acts of both without jumps -/
theorem sg_bk {nb : List (Nat × Nat)} {f : Nat} {s l lB : List Nat} {D : Nat} {σ τ : lj_S} {x y : pT} (h : seg σ τ x (fun z => z = y ∨ bkE nb f s lB D z)) {w : pT} (g : seg σ τ y (fun z => z = w)) : seg σ τ x (fun z => z = w ∨ bkE nb f s lB D z) :=
  h.tr (fun z hz => by
    rcases hz with hz | hz
    · rw [hz]; exact g.tr (fun z hz => seg_ex (Or.inl hz))
    · exact seg_ex (Or.inr hz))
