/-! machines of both: stacks, frames, parts -/
/-- values of the stacks -/
def cv (σ : lj_S) (i : Nat) : vT := (σ.1 79 i, σ.2 80 i)
def mv (τ : lj_S) (i : Nat) : vT := (τ.1 71 i, τ.2 72 i)
/-- what lies on the stacks of a frame: shape, ends of both, latest mark of the component -/
def stk (σ τ : lj_S) (p hb ob mb kb : Nat) : List Nat → Nat → Nat → Nat → Int32 → Prop
  | [], ce, me, mq, cm => ce = ob ∧ me = mb ∧ mq = kb ∧ cm = -1
  | x :: s, ce, me, mq, cm =>
    (x = 1 ∧ ∃ ce' mq' cm', ce = ce' + 1 ∧ mq = mq' + 1 ∧ cm = Int32.ofNat ce' ∧ (σ.1 79 ce' = 9 ∧ σ.2 80 ce' = (cm' : Int32).toInt64 ∧ σ.1 81 ce' = -1) ∧ τ.1 73 (2000 * p + mq') = Int32.ofNat me ∧ stk σ τ p hb ob mb kb s ce' me mq' cm') ∨
    (x = 2 ∧ ∃ mq', mq = mq' + 1 ∧ τ.1 73 (2000 * p + mq') = Int32.ofNat me ∧ stk σ τ p hb ob mb kb s ce me mq' cm) ∨
    ((x = 3 ∨ x = 4) ∧ ∃ me', me = me' + 3 ∧ (∀ i, i < 3 → vR σ τ (cv σ (hb + 3 * (flo s).length + i)) (mv τ (10000 * p + me' + i)) ∧ (x = 3 → σ.1 79 (hb + 3 * (flo s).length + i) = 2)) ∧ stk σ τ p hb ob mb kb s ce me' mq cm) ∨
    (x = 5 ∧ ∃ r ce' me', ce = ce' + r ∧ me = me' + r ∧ r ≤ 110 ∧ (∀ i, i < r → vR σ τ (cv σ (ce' + i)) (mv τ (10000 * p + me' + i)) ∧ σ.1 81 (ce' + i) = -1) ∧ stk σ τ p hb ob mb kb s ce' me' mq cm) ∨
    ((x = 0 ∨ x = 7 ∨ x = 8) ∧ ∃ ce' me', ce = ce' + 1 ∧ me = me' + 1 ∧ vR σ τ (cv σ ce') (mv τ (10000 * p + me')) ∧ σ.1 81 ce' = -1 ∧ (x = 7 → σ.1 79 ce' = 3) ∧ (x = 8 → σ.1 79 ce' = 4) ∧ stk σ τ p hb ob mb kb s ce' me' mq cm) ∨
    (x = 6 ∧ ∃ ce' me', ce = ce' + 1 ∧ me = me' + 1 ∧ σ.1 79 ce' = 0 ∧ τ.1 71 (10000 * p + me') = 0 ∧ σ.1 81 ce' = -1 ∧ stk σ τ p hb ob mb kb s ce' me' mq cm)
/-- a value more -/
theorem stk_p0 {σ τ : lj_S} {p hb ob mb kb : Nat} {s : List Nat} {ce me mq : Nat} {cm : Int32} (h : stk σ τ p hb ob mb kb s ce me mq cm) (hv : vR σ τ (cv σ ce) (mv τ (10000 * p + me))) (h8 : σ.1 81 ce = -1) : stk σ τ p hb ob mb kb (0 :: s) (ce + 1) (me + 1) mq cm := Or.inr (Or.inr (Or.inr (Or.inr (Or.inl ⟨Or.inl rfl, ce, me, rfl, rfl, hv, h8, fun e => absurd e (by decide), fun e => absurd e (by decide), h⟩))))
theorem stk_p7 {σ τ : lj_S} {p hb ob mb kb : Nat} {s : List Nat} {ce me mq : Nat} {cm : Int32} (h : stk σ τ p hb ob mb kb s ce me mq cm) (hv : vR σ τ (cv σ ce) (mv τ (10000 * p + me))) (h8 : σ.1 81 ce = -1) (hk : σ.1 79 ce = 3) : stk σ τ p hb ob mb kb (7 :: s) (ce + 1) (me + 1) mq cm := Or.inr (Or.inr (Or.inr (Or.inr (Or.inl ⟨Or.inr (Or.inl rfl), ce, me, rfl, rfl, hv, h8, fun _ => hk, fun e => absurd e (by decide), h⟩))))
theorem stk_p8 {σ τ : lj_S} {p hb ob mb kb : Nat} {s : List Nat} {ce me mq : Nat} {cm : Int32} (h : stk σ τ p hb ob mb kb s ce me mq cm) (hv : vR σ τ (cv σ ce) (mv τ (10000 * p + me))) (h8 : σ.1 81 ce = -1) (hk : σ.1 79 ce = 4) : stk σ τ p hb ob mb kb (8 :: s) (ce + 1) (me + 1) mq cm := Or.inr (Or.inr (Or.inr (Or.inr (Or.inl ⟨Or.inr (Or.inr rfl), ce, me, rfl, rfl, hv, h8, fun e => absurd e (by decide), fun _ => hk, h⟩))))
theorem stk_p1 {σ τ : lj_S} {p hb ob mb kb : Nat} {s : List Nat} {ce me mq : Nat} {cm : Int32} (h : stk σ τ p hb ob mb kb s ce me mq cm) (h1 : σ.1 79 ce = 9) (h2 : σ.2 80 ce = cm.toInt64) (h3 : σ.1 81 ce = -1) (h4 : τ.1 73 (2000 * p + mq) = Int32.ofNat me) : stk σ τ p hb ob mb kb (1 :: s) (ce + 1) me (mq + 1) (Int32.ofNat ce) := Or.inl ⟨rfl, ce, mq, cm, rfl, rfl, rfl, ⟨h1, h2, h3⟩, h4, h⟩
theorem stk_p2 {σ τ : lj_S} {p hb ob mb kb : Nat} {s : List Nat} {ce me mq : Nat} {cm : Int32} (h : stk σ τ p hb ob mb kb s ce me mq cm) (h4 : τ.1 73 (2000 * p + mq) = Int32.ofNat me) : stk σ τ p hb ob mb kb (2 :: s) ce me (mq + 1) cm := Or.inr (Or.inl ⟨rfl, mq, rfl, h4, h⟩)
/-- taken apart -/
theorem stk.u0 {σ τ : lj_S} {p hb ob mb kb x : Nat} {s : List Nat} {ce me mq : Nat} {cm : Int32} (hx : x = 0 ∨ x = 7 ∨ x = 8) (h : stk σ τ p hb ob mb kb (x :: s) ce me mq cm) : ∃ ce' me', ce = ce' + 1 ∧ me = me' + 1 ∧ vR σ τ (cv σ ce') (mv τ (10000 * p + me')) ∧ σ.1 81 ce' = -1 ∧ (x = 7 → σ.1 79 ce' = 3) ∧ (x = 8 → σ.1 79 ce' = 4) ∧ stk σ τ p hb ob mb kb s ce' me' mq cm := by
  rcases h with ⟨e, _⟩ | ⟨e, _⟩ | ⟨e, _⟩ | ⟨e, _⟩ | ⟨_, h⟩ | ⟨e, _⟩
  · omega
  · omega
  · omega
  · omega
  · exact h
  · omega
theorem stk.u1 {σ τ : lj_S} {p hb ob mb kb : Nat} {s : List Nat} {ce me mq : Nat} {cm : Int32} (h : stk σ τ p hb ob mb kb (1 :: s) ce me mq cm) : ∃ ce' mq' cm', ce = ce' + 1 ∧ mq = mq' + 1 ∧ cm = Int32.ofNat ce' ∧ (σ.1 79 ce' = 9 ∧ σ.2 80 ce' = (cm' : Int32).toInt64 ∧ σ.1 81 ce' = -1) ∧ τ.1 73 (2000 * p + mq') = Int32.ofNat me ∧ stk σ τ p hb ob mb kb s ce' me mq' cm' := by
  rcases h with ⟨_, h⟩ | ⟨e, _⟩ | ⟨e, _⟩ | ⟨e, _⟩ | ⟨e, h⟩ | ⟨e, _⟩
  · exact h
  all_goals omega
theorem stk.u2 {σ τ : lj_S} {p hb ob mb kb : Nat} {s : List Nat} {ce me mq : Nat} {cm : Int32} (h : stk σ τ p hb ob mb kb (2 :: s) ce me mq cm) : ∃ mq', mq = mq' + 1 ∧ τ.1 73 (2000 * p + mq') = Int32.ofNat me ∧ stk σ τ p hb ob mb kb s ce me mq' cm := by
  rcases h with ⟨e, _⟩ | ⟨_, h⟩ | ⟨e, _⟩ | ⟨e, _⟩ | ⟨e, h⟩ | ⟨e, _⟩
  · omega
  · exact h
  all_goals omega
theorem stk.u3 {σ τ : lj_S} {p hb ob mb kb x : Nat} (hx : x = 3 ∨ x = 4) {s : List Nat} {ce me mq : Nat} {cm : Int32} (h : stk σ τ p hb ob mb kb (x :: s) ce me mq cm) : ∃ me', me = me' + 3 ∧ (∀ i, i < 3 → vR σ τ (cv σ (hb + 3 * (flo s).length + i)) (mv τ (10000 * p + me' + i)) ∧ (x = 3 → σ.1 79 (hb + 3 * (flo s).length + i) = 2)) ∧ stk σ τ p hb ob mb kb s ce me' mq cm := by
  rcases h with ⟨e, _⟩ | ⟨e, _⟩ | ⟨_, h⟩ | ⟨e, _⟩ | ⟨e, _⟩ | ⟨e, _⟩
  · omega
  · omega
  · exact h
  all_goals omega
theorem stk.u5 {σ τ : lj_S} {p hb ob mb kb : Nat} {s : List Nat} {ce me mq : Nat} {cm : Int32} (h : stk σ τ p hb ob mb kb (5 :: s) ce me mq cm) : ∃ r ce' me', ce = ce' + r ∧ me = me' + r ∧ r ≤ 110 ∧ (∀ i, i < r → vR σ τ (cv σ (ce' + i)) (mv τ (10000 * p + me' + i)) ∧ σ.1 81 (ce' + i) = -1) ∧ stk σ τ p hb ob mb kb s ce' me' mq cm := by
  rcases h with ⟨e, _⟩ | ⟨e, _⟩ | ⟨e, _⟩ | ⟨_, h⟩ | ⟨e, _⟩ | ⟨e, _⟩
  · omega
  · omega
  · omega
  · exact h
  all_goals omega
theorem stk.u6 {σ τ : lj_S} {p hb ob mb kb : Nat} {s : List Nat} {ce me mq : Nat} {cm : Int32} (h : stk σ τ p hb ob mb kb (6 :: s) ce me mq cm) : ∃ ce' me', ce = ce' + 1 ∧ me = me' + 1 ∧ σ.1 79 ce' = 0 ∧ τ.1 71 (10000 * p + me') = 0 ∧ σ.1 81 ce' = -1 ∧ stk σ τ p hb ob mb kb s ce' me' mq cm := by
  rcases h with ⟨e, _⟩ | ⟨e, _⟩ | ⟨e, _⟩ | ⟨e, _⟩ | ⟨e, _⟩ | ⟨_, h⟩
  · omega
  · omega
  · omega
  · omega
  · omega
  · exact h
/-- how far the stacks reach -/
def c5 (s : List Nat) : Nat := cn 5 s
theorem stk_bd {σ τ : lj_S} {p hb ob mb kb : Nat} : ∀ {s : List Nat} {ce me mq : Nat} {cm : Int32}, stk σ τ p hb ob mb kb s ce me mq cm → ob ≤ ce ∧ mb ≤ me ∧ kb ≤ mq ∧ ce ≤ ob + va s + cn 1 s + 110 * cn 5 s ∧ me ≤ mb + va s + 110 * cn 5 s ∧ mq ≤ kb + cn 1 s + cn 2 s ∧ (cm = -1 ∨ ∃ i : Nat, ob ≤ i ∧ i < ce ∧ cm = Int32.ofNat i)
  | [], ce, me, mq, cm, h => by
    obtain ⟨h1, h2, h3, h4⟩ := h
    exact ⟨by omega, by omega, by omega, by omega, by omega, by omega, Or.inl h4⟩
  | x :: s, ce, me, mq, cm, h => by
    have e1 : va (x :: s) = (if x = 3 ∨ x = 4 then 3 else if x = 1 ∨ x = 2 then 0 else 1) + va s := rfl
    have e2 : ∀ y, cn y (x :: s) = (if x = y then 1 else 0) + cn y s := fun y => rfl
    rcases h with ⟨e, ce', mq', cm', a1, a2, a3, a4, a5, a6⟩ | ⟨e, mq', a1, a2, a3⟩ | ⟨e, me', a1, a2, a3⟩ | ⟨e, r, ce', me', a1, a2, a3, a4, a5⟩ | ⟨e, ce', me', a1, a2, a3, a4, a5, a6, a7⟩ | ⟨e, ce', me', a1, a2, a3, a4, a5, a6⟩
    · obtain ⟨b1, b2, b3, b4, b5, b6, b7⟩ := stk_bd a6
      rw [e1, e2, e2, e2, if_neg (by omega), if_pos (by omega), if_pos e, if_neg (by omega), if_neg (by omega)]
      exact ⟨by omega, by omega, by omega, by omega, by omega, by omega, Or.inr ⟨ce', b1, by omega, a3⟩⟩
    · obtain ⟨b1, b2, b3, b4, b5, b6, b7⟩ := stk_bd a3
      rw [e1, e2, e2, e2, if_neg (by omega), if_pos (by omega), if_neg (by omega), if_neg (by omega), if_pos e]
      exact ⟨by omega, by omega, by omega, by omega, by omega, by omega, b7⟩
    · obtain ⟨b1, b2, b3, b4, b5, b6, b7⟩ := stk_bd a3
      rw [e1, e2, e2, e2, if_pos e, if_neg (by omega), if_neg (by omega), if_neg (by omega)]
      exact ⟨by omega, by omega, by omega, by omega, by omega, by omega, b7⟩
    · obtain ⟨b1, b2, b3, b4, b5, b6, b7⟩ := stk_bd a5
      rw [e1, e2, e2, e2, if_neg (by omega), if_neg (by omega), if_neg (by omega), if_pos e, if_neg (by omega)]
      refine ⟨by omega, by omega, by omega, by omega, by omega, by omega, ?_⟩
      rcases b7 with b | ⟨i, i1, i2, i3⟩
      · exact Or.inl b
      · exact Or.inr ⟨i, i1, by omega, i3⟩
    · obtain ⟨b1, b2, b3, b4, b5, b6, b7⟩ := stk_bd a7
      rw [e1, e2, e2, e2, if_neg (by omega), if_neg (by omega), if_neg (by omega), if_neg (by omega), if_neg (by omega)]
      refine ⟨by omega, by omega, by omega, by omega, by omega, by omega, ?_⟩
      rcases b7 with b | ⟨i, i1, i2, i3⟩
      · exact Or.inl b
      · exact Or.inr ⟨i, i1, by omega, i3⟩
    · obtain ⟨b1, b2, b3, b4, b5, b6, b7⟩ := stk_bd a6
      rw [e1, e2, e2, e2, if_neg (by omega), if_neg (by omega), if_neg (by omega), if_neg (by omega), if_neg (by omega)]
      refine ⟨by omega, by omega, by omega, by omega, by omega, by omega, ?_⟩
      rcases b7 with b | ⟨i, i1, i2, i3⟩
      · exact Or.inl b
      · exact Or.inr ⟨i, i1, by omega, i3⟩
/-- other states -/
theorem stk_cg {σ τ σ' τ' : lj_S} {p hb ob mb kb : Nat} (hv : ∀ a b, vR σ τ a b → vR σ' τ' a b) : ∀ {s : List Nat} {ce me mq : Nat} {cm : Int32}, stk σ τ p hb ob mb kb s ce me mq cm → (∀ j, (ob ≤ j ∧ j < ce) → σ'.1 79 j = σ.1 79 j ∧ σ'.2 80 j = σ.2 80 j ∧ σ'.1 81 j = σ.1 81 j) → (∀ j, (hb ≤ j ∧ j < hb + 3 * (flo s).length) → σ'.1 79 j = σ.1 79 j ∧ σ'.2 80 j = σ.2 80 j) → (∀ j, (mb ≤ j ∧ j < me) → τ'.1 71 (10000 * p + j) = τ.1 71 (10000 * p + j) ∧ τ'.2 72 (10000 * p + j) = τ.2 72 (10000 * p + j)) → (∀ j, (kb ≤ j ∧ j < mq) → τ'.1 73 (2000 * p + j) = τ.1 73 (2000 * p + j)) → stk σ' τ' p hb ob mb kb s ce me mq cm
  | [], ce, me, mq, cm, h, _, _, _, _ => h
  | x :: s, ce, me, mq, cm, h, oS, oH, oV, oK => by
    have fl : (flo s).length ≤ (flo (x :: s)).length := by
      unfold flo
      rw [List.length_reverse, List.length_reverse]
      by_cases e : x = 3 ∨ x = 4
      · rw [List.filter_cons_of_pos (by rcases e with e | e <;> simp [e]), List.length_cons]; omega
      · rw [List.filter_cons_of_neg (by simp; omega)]; omega
    have fl3 : (x = 3 ∨ x = 4) → (flo (x :: s)).length = (flo s).length + 1 := fun e => by
      unfold flo
      rw [List.length_reverse, List.length_reverse, List.filter_cons_of_pos (by rcases e with e | e <;> simp [e]), List.length_cons]
    rcases h with ⟨e, ce', mq', cm', a1, a2, a3, ⟨a4, a4', a4''⟩, a5, a6⟩ | ⟨e, mq', a1, a2, a3⟩ | ⟨e, me', a1, a2, a3⟩ | ⟨e, r, ce', me', a1, a2, a3, a4, a5⟩ | ⟨e, ce', me', a1, a2, a3, a4, a5, a6, a7⟩ | ⟨e, ce', me', a1, a2, a3, a4, a5, a6⟩
    · obtain ⟨b1, b2, b3, _⟩ := stk_bd a6
      obtain ⟨o1, o2, o3⟩ := oS ce' (by omega)
      exact Or.inl ⟨e, ce', mq', cm', a1, a2, a3, ⟨by rw [o1]; exact a4, by rw [o2]; exact a4', by rw [o3]; exact a4''⟩, by rw [oK mq' (by omega)]; exact a5, stk_cg hv a6 (fun j w => oS j (by omega)) (fun j w => oH j (by omega)) (fun j w => oV j (by omega)) (fun j w => oK j (by omega))⟩
    · obtain ⟨b1, b2, b3, _⟩ := stk_bd a3
      exact Or.inr (Or.inl ⟨e, mq', a1, by rw [oK mq' (by omega)]; exact a2, stk_cg hv a3 (fun j w => oS j (by omega)) (fun j w => oH j (by omega)) (fun j w => oV j (by omega)) (fun j w => oK j (by omega))⟩)
    · obtain ⟨b1, b2, b3, _⟩ := stk_bd a3
      have f3 := fl3 e
      refine Or.inr (Or.inr (Or.inl ⟨e, me', a1, fun i hi => ?_, stk_cg hv a3 (fun j w => oS j (by omega)) (fun j w => oH j (by omega)) (fun j w => oV j (by omega)) (fun j w => oK j (by omega))⟩))
      obtain ⟨c1, c2⟩ := a2 i hi
      obtain ⟨o1, o2⟩ := oH (hb + 3 * (flo s).length + i) (by omega)
      obtain ⟨o3, o4⟩ := oV (me' + i) (by omega)
      rw [← Nat.add_assoc] at o3 o4
      unfold cv mv at c1 ⊢
      rw [o1, o2, o3, o4]
      exact ⟨hv _ _ c1, c2⟩
    · obtain ⟨b1, b2, b3, _⟩ := stk_bd a5
      refine Or.inr (Or.inr (Or.inr (Or.inl ⟨e, r, ce', me', a1, a2, a3, fun i hi => ?_, stk_cg hv a5 (fun j w => oS j (by omega)) (fun j w => oH j (by omega)) (fun j w => oV j (by omega)) (fun j w => oK j (by omega))⟩)))
      obtain ⟨c1, c2⟩ := a4 i hi
      obtain ⟨o1, o2, o5⟩ := oS (ce' + i) (by omega)
      obtain ⟨o3, o4⟩ := oV (me' + i) (by omega)
      rw [← Nat.add_assoc] at o3 o4
      unfold cv mv at c1 ⊢
      rw [o1, o2, o3, o4, o5]
      exact ⟨hv _ _ c1, c2⟩
    · obtain ⟨b1, b2, b3, _⟩ := stk_bd a7
      obtain ⟨o1, o2, o5⟩ := oS ce' (by omega)
      obtain ⟨o3, o4⟩ := oV me' (by omega)
      refine Or.inr (Or.inr (Or.inr (Or.inr (Or.inl ⟨e, ce', me', a1, a2, ?_, by rw [o5]; exact a4, by rw [o1]; exact a5, by rw [o1]; exact a6, stk_cg hv a7 (fun j w => oS j (by omega)) (fun j w => oH j (by omega)) (fun j w => oV j (by omega)) (fun j w => oK j (by omega))⟩))))
      unfold cv mv at a3 ⊢
      rw [o1, o2, o3, o4]
      exact hv _ _ a3
    · obtain ⟨b1, b2, b3, _⟩ := stk_bd a6
      obtain ⟨o1, o2, o5⟩ := oS ce' (by omega)
      obtain ⟨o3, o4⟩ := oV me' (by omega)
      exact Or.inr (Or.inr (Or.inr (Or.inr (Or.inr ⟨e, ce', me', a1, a2, by rw [o1]; exact a3, by rw [o3]; exact a4, by rw [o5]; exact a5, stk_cg hv a6 (fun j w => oS j (by omega)) (fun j w => oH j (by omega)) (fun j w => oV j (by omega)) (fun j w => oK j (by omega))⟩))))
