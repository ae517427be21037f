/-- what is known of a text that was compiled (σ0, τ0: just before the first load) -/
def stc (σ0 τ0 : lj_S) (Fn fx bs : Nat) : Prop :=
  (stF σ0 τ0 ∧ FR σ0 τ0 Fn ∧ 0 < Fn ∧ sh38 σ0 ∧ nmR σ0 τ0 ∧ sR σ0 τ0 (fun _ => False)) ∧
  (lv σ0 3 7 ≤ 1700 ∧ lv σ0 3 8 ≤ 13000 ∧ lv τ0 0 14 ≤ 2100 ∧ lv τ0 0 8 ≤ 13000) ∧
  ((∀ s : Nat, (s : Int) < lv σ0 3 7 → (cS σ0 s).length ≤ 1000) ∧ ∀ s : Nat, (s : Int) < lv τ0 0 14 → (mS τ0 s).length ≤ 1000) ∧
  (69 ≤ lv τ0 0 14 ∧ ∀ s : Nat, s < 69 → mS τ0 s = mBw s) ∧ ((∀ k, k < 31 → cHas σ0 (nmX k)) ∧ cHas σ0 w5 ∧ cHas σ0 w6 ∧ cHas σ0 w7) ∧
  (σ0.1 3 9 = Int32.ofNat fx ∧ lv σ0 3 7 = (fx : Int) ∧ σ0.1 3 10 = σ0.1 3 8 ∧ ∀ s, s < fx → σ0.1 16 s = σ0.1 15 s ∧ (σ0.1 15 s = 0 ∨ σ0.1 15 s = 1)) ∧
  (τ0.1 0 15 = Int32.ofNat bs ∧ lv τ0 0 14 = (bs : Int) ∧ τ0.1 0 16 = τ0.1 0 8 ∧ ∀ s, s < bs → τ0.1 5 s = 0 ∨ τ0.1 5 s = 1) ∧
  (σ0.1 28 0 = 0 ∧ τ0.1 12 0 = 0 ∧ σ0.1 29 0 = 0 ∧ τ0.1 13 0 = 0 ∧ σ0.1 33 0 = 0) ∧ gS σ0 τ0 (fun _ => False) (0, 0, 0, [], [], 50)
/-- a state of both from which load may be done -/
def ldH (σ0 τ0 : lj_S) (bs : Nat) (σ τ : lj_S) : Prop := cdR σ0 τ0 σ τ ∧ sG σ0 τ0 σ τ ∧ cOK σ ∧ mOK τ ∧ (σ.1 3 9 = σ0.1 3 9 ∧ σ.1 3 10 = σ0.1 3 10 ∧ ∀ j, σ.1 16 j = σ0.1 16 j) ∧ (τ.1 0 15 = τ0.1 0 15 ∧ τ.1 0 16 = τ0.1 0 16 ∧ τ.1 0 34 = τ0.1 0 34) ∧ soJ bs τ0 τ ∧ ((∀ k, k < 21 → σ.1 78 k = σ0.1 78 k) ∧ σ.1 8 1 = σ0.1 8 1 ∧ σ.1 8 3 = σ0.1 8 3) ∧ ∀ i, σ.1 102 i = 0
/-- where a string lies is told by the lengths of those ahead of it -/
theorem nxtS_eq {p l p' l' : Nat → Int} {m u m' u' : Int} (h : nxtS p l m u) (h' : nxtS p' l' m' u') : ∀ k : Nat, (k : Int) ≤ m → (k : Int) ≤ m' → (∀ t, t < k → l' t = l t) → (if (k : Int) < m' then p' k else u') = (if (k : Int) < m then p k else u)
  | 0, _, _, _ => by
    have a := h.1
    have b := h'.1
    rw [show (((0 : Nat) : Int)) = 0 from rfl, a, b]
  | k + 1, h1, h2, hl => by
    have q := nxtS_eq h h' k (by omega) (by omega) (fun t ht => hl t (by omega))
    rw [if_pos (by omega), if_pos (by omega)] at q
    rw [← h.2 k (by omega), ← h'.2 k (by omega), q, hl k (by omega)]
/-- strings of both after back and forget: those that were there when the text was compiled -/
theorem ld_str {σ0 τ0 : lj_S} {Fn fx bs : Nat} (st : stc σ0 τ0 Fn fx bs) {σ τ : lj_S} (h : ldH σ0 τ0 bs σ τ) : (∃ σ', lj_R lc_P 32 [.ref 3] σ = some (.inl none, σ') ∧ cOK σ' ∧ lv σ' 3 7 = (fx : Int) ∧ lv σ' 3 8 = lv σ0 3 8 ∧ (∀ s, s < fx → cS σ' s = cS σ0 s ∧ σ'.1 15 s = σ0.1 15 s) ∧ (σ'.1 3 13 = 0 ∧ σ'.1 3 14 = 0) ∧ lf bkS σ σ') ∧
    ((τ.1 0 16).toInt = (if (bs : Int) < lv τ 0 14 then lv τ 3 bs else lv τ 0 8) ∧ (bs : Int) ≤ lv τ 0 14) := by
  obtain ⟨⟨_, _, _, _, _, sR0⟩, _, _, _, _, ⟨f9, f7, f10, f16⟩, ⟨b15, b14, b16, _⟩, _⟩ := st
  obtain ⟨_, hG, hc, hm, ⟨g9, g10, g16⟩, ⟨g15, g16', _⟩, _⟩ := h
  have lC : ∀ t, t < fx → lv σ 11 t = lv σ0 11 t := fun t ht => by
    have e := congrArg List.length (hG.2.2.1 t (by rw [f7]; omega))
    rw [cS_len, cS_len] at e
    have w1 := (hc.2.2.1 t (by have := hG.1; omega)).2.1
    have w2 := (sR0.1.2.2.1 t (by rw [f7]; omega)).2.1
    omega
  have lM : ∀ t, t < bs → lv τ 4 t = lv τ0 4 t := fun t ht => by
    have e := congrArg List.length (hG.2.2.2 t (by rw [b14]; omega))
    rw [mS_len, mS_len] at e
    have w1 := (hm.2.2.1 t (by have := hG.2.1; omega)).2.1
    have w2 := (sR0.2.1.2.2.1 t (by rw [b14]; omega)).2.1
    omega
  have hf : (fx : Int) ≤ lv σ 3 7 := by have := hG.1; omega
  have hb : (bs : Int) ≤ lv τ 0 14 := by have := hG.2.1; omega
  have n1 := nxtS_eq sR0.1.2.1.2.2 hc.2.1.2.2 fx (by omega) hf lC
  rw [if_neg (show ¬ ((fx : Int) < lv σ0 3 7) by omega)] at n1
  have n2 := nxtS_eq sR0.2.1.2.1.2.2 hm.2.1.2.2 bs (by omega) hb lM
  rw [if_neg (show ¬ ((bs : Int) < lv τ0 0 14) by omega)] at n2
  refine ⟨?_, ?_, hb⟩
  · obtain ⟨σ', e1, e2, e3, e4, e5, e6, e7⟩ := c_back hc (fx := fx) (by rw [g9]; exact f9) hf (by rw [n1, g10, f10]; rfl)
    refine ⟨σ', e1, e2, e3, by unfold lv; rw [e4, g10, f10], fun s hs => ⟨?_, ?_⟩, e6, e7⟩
    · rw [cS_cong (fun j => (e7 9 j rfl).1) (fun j => (e7 10 j rfl).1) (fun j => (e7 11 j rfl).1) s]
      exact hG.2.2.1 s (by rw [f7]; omega)
    · rw [e5 s hs, g16 s, (f16 s hs).1]
      exact lz_bool _ (f16 s hs).2
  · rw [n2, g16', b16]; rfl
