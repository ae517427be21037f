/-! DEPTH OF CALLS: methods that call one another in no circle -/
theorem lj_inv_on {ds : List lj_C} {ca : Nat → Nat → Bool} {call call' : lj_Y} {M : lj_M} {ix pc : Nat} {L st : List Value} {σ : lj_S} {go go' : lj_K} (hc : ∀ id n t rc, lj_find M.2.2.2.1 ix = some (id, n, t, rc) → ∀ a σ, lj_rc ds rc a = true → a.length = n → lj_le (call id a σ) (call' id a σ)) (h : ∀ pc L st σ, lj_le (go pc L st σ) (go' pc L st σ)) : lj_le (lj_inv ds ca call M ix pc L st σ go) (lj_inv ds ca call' M ix pc L st σ go') := by
  unfold lj_inv; split
  · rename_i id n t rc e
    split
    · rename_i as r e2
      cases hb : (lj_rc ds rc as && Nat.ble (lj_w r) 8) with
      | false => exact lj_le.rf
      | true =>
        rw [Bool.and_eq_true] at hb
        obtain ⟨q, q1, q2, q3⟩ := lj_args_spec _ _ _ _ _ e2
        exact lj_back_mono h (lj_hh_mono h) (hc _ _ _ _ e _ _ hb.1 (by rw [q3]; simp [q1]))
    · exact lj_le.rf
  · exact lj_le.rf
theorem lj_one_on {ds : List lj_C} {ca : Nat → Nat → Bool} {call call' : lj_Y} {M : lj_M} {ins : Instr} {pc len : Nat} {L st : List Value} {σ : lj_S} {go go' : lj_K} (hc : ∀ ix id n t rc, ins = .invokevirtual ix ∨ ins = .invokestatic ix → lj_find M.2.2.2.1 ix = some (id, n, t, rc) → ∀ a σ, lj_rc ds rc a = true → a.length = n → lj_le (call id a σ) (call' id a σ)) (h : ∀ pc L st σ, lj_le (go pc L st σ) (go' pc L st σ)) : lj_le (lj_one ds ca call M ins pc len L st σ go) (lj_one ds ca call' M ins pc len L st σ go') := by
  unfold lj_one
  split
  · exact lj_le.rf
  · exact lj_le.rf
  · exact lj_le.rf
  · exact lj_le.rf
  · split
    · exact lj_le.b (lj_hh_mono h _ _)
    · exact lj_le.rf
  · exact lj_inv_on (fun id n t rc e => hc _ id n t rc (Or.inl rfl) e) h
  · exact lj_inv_on (fun id n t rc e => hc _ id n t rc (Or.inr rfl) e) h
  · exact lj_U_mono (lj_U_st ds M.2.2.1 M.2.2.2.2.1 _ pc len L st σ) h
theorem lj_ex_on {ds : List lj_C} {ca : Nat → Nat → Bool} {call call' : lj_Y} {M : lj_M} {jump jump' : lj_K} (hc : ∀ pc ins len ix id n t rc, lj_find M.1 pc = some (ins, len) → ins = .invokevirtual ix ∨ ins = .invokestatic ix → lj_find M.2.2.2.1 ix = some (id, n, t, rc) → ∀ a σ, lj_rc ds rc a = true → a.length = n → lj_le (call id a σ) (call' id a σ)) (h : ∀ pc L st σ, lj_le (jump pc L st σ) (jump' pc L st σ)) : ∀ (k : Nat) (pc : Nat) (L st : List Value) (σ : lj_S), lj_le (lj_ex ds ca call M jump k pc L st σ) (lj_ex ds ca call' M jump' k pc L st σ)
  | 0, _, _, _, _ => lj_le.rf
  | k + 1, pc, L, st, σ => by
    unfold lj_ex; split
    · exact lj_le.rf
    · rename_i ins len e
      refine lj_one_on (fun ix id n t rc e1 e2 => hc pc ins len ix id n t rc e e1 e2) fun pc' L' st' σ' => ?_
      cases lj_mem M.2.1 pc'
      · exact lj_ex_on hc h k _ _ _ _
      · exact h _ _ _ _
theorem lj_exec_on {ds : List lj_C} {ca : Nat → Nat → Bool} {call call' : lj_Y} {M : lj_M} (hc : ∀ pc ins len ix id n t rc, lj_find M.1 pc = some (ins, len) → ins = .invokevirtual ix ∨ ins = .invokestatic ix → lj_find M.2.2.2.1 ix = some (id, n, t, rc) → ∀ a σ, lj_rc ds rc a = true → a.length = n → lj_le (call id a σ) (call' id a σ)) : ∀ (n : Nat) (pc : Nat) (L st : List Value) (σ : lj_S), lj_le (lj_exec ds ca call M n pc L st σ) (lj_exec ds ca call' M n pc L st σ)
  | 0, _, _, _, _ => lj_le.rf
  | n + 1, pc, L, st, σ => lj_ex_on hc (lj_exec_on hc n) 4000 pc L st σ
/-- every call of a method goes to one of a smaller rank -/
def rkc (rk : List (Nat × Nat)) (mr : List (Nat × Nat × Nat × Nat × Nat)) (r ix : Nat) : Bool := match lj_find mr ix with
  | none => true
  | some (id, _) => match lj_find rk id with
    | some r' => Nat.blt r' r
    | none => false
def rki (rk : List (Nat × Nat)) (mr : List (Nat × Nat × Nat × Nat × Nat)) (r : Nat) (ins : Instr) : Bool := match ins with
  | .invokevirtual ix => rkc rk mr r ix
  | .invokestatic ix => rkc rk mr r ix
  | _ => true
def rkOK (P : lj_P) (rk : List (Nat × Nat)) : Bool := rk.all fun q => Nat.blt 0 q.2 && (match P.2.2.2 q.1 with
  | none => true
  | some (_, M) => M.1.all fun z => rki rk M.2.2.2.1 q.2 z.2.1)
theorem rk_run {P : lj_P} {rk : List (Nat × Nat)} (hk : rkOK P rk = true) : ∀ (D n r id : Nat) (as : List Value) (σ : lj_S) (o : lj_O) (B : Nat), lj_find rk id = some r → r ≤ B → lj_run P D n id as σ = some o → lj_run P B n id as σ = some o
  | 0, _, _, _, _, _, _, _, _, _, h => by cases h
  | D + 1, n, r, id, as, σ, o, B, hr, hB, h => by
    have hq := List.all_eq_true.mp hk _ (lj_find_in rk id r hr)
    dsimp only at hq
    rw [Bool.and_eq_true] at hq
    have h0 : 0 < r := Nat.le_of_ble_eq_true hq.1
    obtain ⟨B', rfl⟩ : ∃ B', B = B' + 1 := ⟨B - 1, by omega⟩
    unfold lj_run at h ⊢
    cases hP : P.2.2.2 id with
    | none => rw [hP] at h; exact h
    | some z =>
      obtain ⟨nL, M⟩ := z
      rw [hP] at h hq
      dsimp only at h hq ⊢
      cases hw : lj_may P id as nL σ with
      | false => rw [hw] at h; cases h
      | true =>
        rw [hw] at h
        refine lj_exec_on ?_ n 0 (lj_loc nL as) [] σ o h
        intro pc ins len ix id' n' t rc e1 e2 e3 a σ' _ _ o' h'
        have hz := List.all_eq_true.mp hq.2 _ (lj_find_in M.1 pc _ e1)
        have hz : rkc rk M.2.2.2.1 r ix = true := by rcases e2 with rfl | rfl <;> exact hz
        unfold rkc at hz
        rw [e3] at hz
        dsimp only at hz
        cases hr' : lj_find rk id' with
        | none => rw [hr'] at hz; cases hz
        | some r' =>
          rw [hr'] at hz
          have : r' < r := Nat.le_of_ble_eq_true hz
          exact rk_run hk D n r' id' a σ' o' B' hr' (by omega) h'
