/-! DEPTH OF CALLS: the whole parser, and compile -/
def kR (f : Nat) (σ : lj_S) : Prop := f = 0 ∨ (f = 1 ∧ σ.1 6 1 = 0)
def kpx (f k j : Nat) (a : dv) : Option Nat := bif zpJ k j then (match a with
  | some (3, 0) => some 1
  | _ => none) else some f
def knx (f id : Nat) (A : List dv) : Option Nat := bif Nat.beq f 0 then (match lj_find lc_rk id with
  | some r => bif Nat.ble r 8 then some 0 else none
  | none => none) else bif Nat.beq id 60 then (bif dle (rcd 7) A then some 1 else none) else wfn wJ 1 id A
def kx : Bool := anx lc_P.1 lc_M58 (fun _ _ _ => none) kpx jax knx (fun _ => true) [] 4000 0 0 (rcd 7) []
set_option maxRecDepth 100000 in
theorem kx_ok : kx = true := by decide +kernel
theorem kX_ok : dX (pvG 0 (fun _ => 0)) kR (fun _ _ _ => none) kpx jax := by
  refine ⟨fun f k j q σ h hR => (by cases h), fun f k j a f' σ h hR => ?_, fun f k f' σ h hR => ?_⟩
  · unfold kpx at h
    cases hb : zpJ k j with
    | false =>
      rw [hb] at h; cases h
      have e : ∀ v, (lj_put σ k j v).1 6 1 = σ.1 6 1 := by
        intro v
        unfold lj_put upd
        dsimp only
        by_cases h1 : 6 = k
        · subst h1
          rw [if_pos rfl]
          by_cases h2 : 1 = j
          · subst h2; cases hb
          · rw [if_neg h2]
        · rw [if_neg h1]
      refine ⟨fun v _ => ?_, fun v _ => hR⟩
      rcases hR with h | ⟨h, h2⟩
      · exact Or.inl h
      · exact Or.inr ⟨h, (e v).trans h2⟩
    | true =>
      rw [hb] at h
      simp only [cond_true] at h
      unfold zpJ at hb
      rw [Bool.and_eq_true] at hb
      rw [Nat.eq_of_beq_eq_true hb.1, Nat.eq_of_beq_eq_true hb.2]
      split at h
      · cases h
        refine ⟨fun v hv => Or.inr ⟨rfl, ?_⟩, fun v hv => ?_⟩
        · have hv : Value.int v = .int (Int32.ofInt 0) := hv (3, 0) rfl
          cases hv
          simp only [lj_put, upd, if_true]
          rfl
        · have hv : Value.long v = .int (Int32.ofInt 0) := hv (3, 0) rfl
          cases hv
      · cases h
  · unfold jax at h
    cases hb : zaJ k with
    | true => rw [hb] at h; cases h
    | false =>
      rw [hb] at h; cases h
      refine ⟨fun i v => ?_, fun i v => hR⟩
      rcases hR with h | ⟨h, h2⟩
      · exact Or.inl h
      · refine Or.inr ⟨h, ?_⟩
        rw [← h2]
        unfold lj_put
        dsimp only
        by_cases h1 : 6 = k
        · subst h1; cases hb
        · rw [if_neg h1]
def jB : Nat := jW * 20 + 13
theorem dep58 {D n : Nat} {as : List Value} {σ : lj_S} {o : lj_O} {B : Nat} (ha : rco 7 as) (hB : jB + 1 ≤ B) (h : lj_run lc_P D n 58 as σ = some o) : lj_run lc_P B n 58 as σ = some o := by
  cases D with
  | zero => cases h
  | succ D =>
    obtain ⟨B', rfl⟩ : ∃ B', B = B' + 1 := ⟨B - 1, by omega⟩
    have hP : lc_P.2.2.2 58 = some (1, lc_M58) := rfl
    have hj : jB = 153 := rfl
    rw [lc_run_eq hP] at h ⊢
    cases hw : lj_may lc_P 58 as 1 σ with
    | false => rw [hw] at h; cases h
    | true =>
      rw [hw] at h
      simp only [cond_true] at h ⊢
      have hp := pvG_P 0 (fun _ => 0)
      have hY : dY (pvG 0 (fun _ => 0)) kR knx (lj_run lc_P D n) (lj_run lc_P B' n) := by
        intro f id' A f' as' σ' o' hn hl hA hR hc
        unfold knx at hn
        cases hf : Nat.beq f 0 with
        | true =>
          rw [hf] at hn
          simp only [cond_true] at hn
          split at hn
          · rename_i r e
            cases hb : Nat.ble r 8 with
            | false => rw [hb] at hn; cases hn
            | true =>
              rw [hb] at hn; cases hn
              have := Nat.le_of_ble_eq_true hb
              exact ⟨rk_run lc_rk_ok D n r id' as' σ' o' B' e (by omega) hc, fun v hv => Or.inl rfl⟩
          · cases hn
        | false =>
          rw [hf] at hn
          simp only [cond_false] at hn
          have hR : f = 1 ∧ σ'.1 6 1 = 0 := by
            rcases hR with h | h
            · subst h; cases hf
            · exact h
          cases h60 : Nat.beq id' 60 with
          | true =>
            rw [h60] at hn
            simp only [cond_true] at hn
            cases hb : dle (rcd 7) A with
            | false => rw [hb] at hn; cases hn
            | true =>
              rw [hb] at hn; cases hn
              have e1 := Nat.eq_of_beq_eq_true h60
              subst e1
              obtain ⟨q1, q2⟩ := j_run D n 60 13 _ as' σ' o' B' rfl (rcd_ok hp hb hA) (by rw [hR.2]; decide) (by rw [hR.2]; decide) (by rw [hR.2]; show jW * 20 + 13 ≤ B'; unfold jB at hB; omega) hc
              exact ⟨q1, fun v hv => Or.inr ⟨rfl, by rw [q2 v hv]; exact hR.2⟩⟩
          | false =>
            rw [h60] at hn
            simp only [cond_false] at hn
            unfold wfn at hn
            split at hn
            · rename_i r tb e
              cases hb : dle (rcd r) A with
              | false => rw [hb] at hn; cases hn
              | true =>
                rw [hb] at hn; cases hn
                refine ⟨wf_deep wJ_rk e (by omega) hc, fun v hv => Or.inr ⟨rfl, ?_⟩⟩
                rw [(wf_run wJ_ok zaJ_ok lc_prim_st D n id' r tb as' σ' o' e (rcd_ok hp hb hA) hc v hv 6 1 rfl).1]
                exact hR.2
            · cases hn
      exact (an_exec (rt := fun _ => true) (tb := []) hp kX_ok hY rfl rfl n 0 0 (rcd 7) [] (lj_loc 1 as) [] σ o kx_ok (rcd_loc hp ha (lj_may_w hw)) dL_nil (Or.inl rfl) h).1
/-- a cell of a class is the class's own -/
theorem rc_cell {ci : Nat} (hc : ci < 9) {a : List Value} (h : lj_rc lc_ds (ci + 1) a = true) : rco (ci + 1) a := by
  have key : ∀ k : Fin 114, (match lj_nth lc_ds k.val with
    | some (.inl (c, _)) => Nat.beq c k.val
    | _ => true) = true := by decide +kernel
  have hdef : lj_rc lc_ds (ci + 1) a = (match a with
    | .ref k :: _ => (match lj_nth lc_ds k with
      | some (.inl (c, _)) => Nat.beq c ci
      | _ => false)
    | _ => false) := by
    rcases ci with _ | _ | _ | _ | _ | _ | _ | _ | _ | ci
    all_goals first
      | (exfalso; omega)
      | (rcases a with _ | ⟨v, r⟩
         · rfl
         · cases v <;> rfl)
  rw [hdef] at h
  rcases a with _ | ⟨v, r⟩
  · cases h
  · cases v with
    | ref k =>
      dsimp only at h
      by_cases hk : k < 114
      · have h2 := key ⟨k, hk⟩
        dsimp only at h2
        split at h
        · rename_i c fs e
          rw [e] at h2
          dsimp only at h2
          have e1 := Nat.eq_of_beq_eq_true h
          have e2 := Nat.eq_of_beq_eq_true h2
          exact ⟨r, by rw [← e2, e1]⟩
        · cases h
      · have : lj_nth lc_ds k = none := by
          rw [lj_nth_eq]
          have hl : lc_ds.length = 114 := by decide +kernel
          exact List.getElem?_eq_none (by rw [hl]; exact Nat.le_of_not_lt hk)
        rw [this] at h; cases h
    | _ => cases h
def c2i (ins : Instr) : Bool := match ins with
  | .invokevirtual ix => (match lj_find lc_M2.2.2.2.1 ix with
    | none => true
    | some (id, _, _, rc) => (Nat.beq id 58 && Nat.beq rc 7) || (match lj_find lc_rk id with
      | some r => Nat.ble r 8
      | none => false))
  | .invokestatic ix => (match lj_find lc_M2.2.2.2.1 ix with
    | none => true
    | some (id, _, _, rc) => (Nat.beq id 58 && Nat.beq rc 7) || (match lj_find lc_rk id with
      | some r => Nat.ble r 8
      | none => false))
  | _ => true
theorem c2_ok : (lc_M2.1.all fun z => c2i z.2.1) = true := by decide +kernel
theorem dep2 {D n : Nat} {as : List Value} {σ : lj_S} {o : lj_O} {B : Nat} (hB : 155 ≤ B) (h : lj_run lc_P D n 2 as σ = some o) : lj_run lc_P B n 2 as σ = some o := by
  cases D with
  | zero => cases h
  | succ D =>
    obtain ⟨B', rfl⟩ : ∃ B', B = B' + 1 := ⟨B - 1, by omega⟩
    have hP : lc_P.2.2.2 2 = some (2, lc_M2) := rfl
    rw [lc_run_eq hP] at h ⊢
    cases hw : lj_may lc_P 2 as 2 σ with
    | false => rw [hw] at h; cases h
    | true =>
      rw [hw] at h
      simp only [cond_true] at h ⊢
      refine lj_exec_on ?_ n 0 (lj_loc 2 as) [] σ o h
      intro pc ins len ix id' n' t rc e1 e2 e3 a σ' hrc hl o' h'
      have hz := List.all_eq_true.mp c2_ok _ (lj_find_in lc_M2.1 pc _ e1)
      have hz : ((Nat.beq id' 58 && Nat.beq rc 7) || (match lj_find lc_rk id' with
        | some r => Nat.ble r 8
        | none => false)) = true := by
        rcases e2 with rfl | rfl
        · have hz : c2i (.invokevirtual ix) = true := hz
          unfold c2i at hz
          dsimp only at hz
          rw [e3] at hz
          exact hz
        · have hz : c2i (.invokestatic ix) = true := hz
          unfold c2i at hz
          dsimp only at hz
          rw [e3] at hz
          exact hz
      rw [Bool.or_eq_true, Bool.and_eq_true] at hz
      rcases hz with ⟨h1, h2⟩ | h1
      · have e4 := Nat.eq_of_beq_eq_true h1
        have e5 := Nat.eq_of_beq_eq_true h2
        subst e4 e5
        exact dep58 (rc_cell (ci := 6) (by decide) hrc) (by show 153 + 1 ≤ B'; omega) h'
      · split at h1
        · rename_i r e
          have := Nat.le_of_ble_eq_true h1
          exact rk_run lc_rk_ok D n r id' a σ' o' B' e (by omega) h'
        · cases h1
