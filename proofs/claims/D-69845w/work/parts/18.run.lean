/-! SOUNDNESS: invocations, blocks, methods, runs -/
theorem lj_args_spec : ∀ (n : Nat) (acc st as r : List Value), lj_args n acc st = some (as, r) → ∃ q : List Value, q.length = n ∧ st = q ++ r ∧ as = q.reverse ++ acc
  | 0, acc, st, as, r, h => by
    simp only [lj_args, Option.some.injEq, Prod.mk.injEq] at h
    exact ⟨[], rfl, h.2, by simpa using h.1.symm⟩
  | n + 1, acc, v :: st, as, r, h => by
    obtain ⟨q, h1, h2, h3⟩ := lj_args_spec n (v :: acc) st as r h
    exact ⟨v :: q, by simp [h1], by rw [h2]; rfl, by rw [h3]; simp⟩
theorem lj_w_cat {ad : Nat → Nat} : ∀ (r : List Value), ((r.map (lj_re ad)).map fun v => v.category).sum = lj_w r
  | [] => rfl
  | v :: r => by
    simp only [List.map_cons, List.sum_cons, lj_w, lj_w_cat r, lj_is2_cat]
    cases lj_is2 v <;> rfl
/-- methods by their numbers: name, bytes, locals, answer, handlers -/
abbrev lj_I : Type := Nat → MethodName × ByteArray × Nat × Option FieldType × List (Nat × Nat × Nat × Nat)
/-- what a class's method entries say -/
def lj_okL (cl : List vw_C) (nw : List Cond) (own : String) (mi : lj_I) (mr : List (Nat × Nat × Nat × Nat × Nat)) : Prop :=
  ∀ ix id n t rc, lj_find mr ix = some (id, n, t, rc) →
    lj_cw (mi id).1 (mi id).2.1 (mi id).2.2.1 (mi id).2.2.2.1 (mi id).2.2.2.2 ∈ lw_all ∧ Cond.initialized (mi id).1.cls ∈ lw_all ∧ ((mi id).1.cls ≠ "java/lang/invoke/MethodHandle" ∧ (mi id).1.cls ≠ "java/lang/invoke/VarHandle") ∧ (mi id).2.2.1 ≤ 21 ∧
    ((rc = 0 ∧ Cond.static (mi id).1 ∈ lw_all ∧ (parseMethodDescriptor (mi id).1.desc).map (fun d => d.parameters.length) = some n ∧ (Cond.methodLink own ix (mi id).1 ∈ lw_all ∨ ∃ host, Cond.methodLinkNest own ix (mi id).1 host ∈ nw)) ∨
     (rc ≠ 0 ∧ Cond.instanceMethod (mi id).1 ∈ lw_all ∧ Cond.selects (mi id).1.cls (mi id).1 (mi id).1 ∈ lw_all ∧ (parseMethodDescriptor (mi id).1.desc).map (fun d => d.parameters.length + 1) = some n ∧ Cond.methodLink own ix (mi id).1 ∈ lw_all ∧
      ((rc ≠ 1000 ∧ ∃ ci T N, rc = ci + 1 ∧ cl[ci]? = some ((mi id).1.cls, T, N)) ∨ (rc = 1000 ∧ (mi id).1.cls = "java/lang/String"))))
section LJR
variable {D : va_G} {cl : List vw_C} {cA : Nat → ClassId} {ad : Nat → Nat} {nw : List Cond} {strs : List (String × Nat × String × Nat)} {A : Nat → Prop} {ds : List lj_C} {Hp : State → Prop}
variable {p : Program} {l : Launch} {e : Env} {R : Room} {s : State} {m : MethodId} {args : Array Value} {below : List Frame} {meth : Method} {c : Code} {H : Heap} {locs : List Loc}
theorem lj_rc_of {rc : Nat} {as : List Value} (h : lj_rc ds rc as = true) (h0 : rc ≠ 0) : ∃ k r, as = .ref k :: r ∧ ((rc = 1000 ∧ 1000 ≤ k) ∨ (∃ q fs, rc = q + 1 ∧ lj_nth ds k = some (.inl (q, fs)))) := by
  unfold lj_rc at h
  split at h
  · exact absurd rfl h0
  · rename_i k r
    exact ⟨k, r, rfl, Or.inl ⟨rfl, Nat.le_of_ble_eq_true h⟩⟩
  · rename_i q k r _
    split at h
    · rename_i ci fs hn
      obtain rfl := Nat.eq_of_beq_eq_true h
      exact ⟨k, r, rfl, Or.inr ⟨ci, fs, rfl, hn⟩⟩
    · cases h
  · cases h
set_option maxHeartbeats 4000000 in
theorem lj_inv_ok {cc : ByteArray} {own : String} {ca : Nat → Nat → Bool} {nL d : Nat} {M : lj_M} {ret : Option FieldType} {mi : lj_I} {call : lj_Y} (hm : lj_mx p s m args meth c cc own D cl cA ad nw strs A ds Hp ca nL M ret) (hL : lj_okL cl nw own mi M.2.2.2.1) (hR : R = lj_rm (d + 1))
    (hcall : ∀ ix id n t rc as σ o, lj_find M.2.2.2.1 ix = some (id, n, t, rc) → call id as σ = some o → lj_Mt l (mi id).1 (lj_cw (mi id).1 (mi id).2.1 (mi id).2.2.1 (mi id).2.2.2.1 (mi id).2.2.2.2 :: lw_all) (lj_rm d) D cl cA ad nw strs A ds Hp as σ o)
    (hsr : ∀ (T : State) (k id : Nat) as σ o, Hp T → (mi id).1.cls = "java/lang/String" → call id (.ref k :: as) σ = some o → ∃ cell : Cell, T.heap[ad k]? = some cell ∧ cell.vm.isStatics = false ∧ T.vm.findClass "java/lang/String" = some cell.cls)
    {ix pc : Nat} {ls : Array Slot} {L st : List Value} {σ : lj_S} {go : lj_K} {o : lj_O} (h : lj_inv ds ca call M ix pc L st σ go = some o) (hl : lj_has ad ls nL L) (hd : (decode cc pc = .ok (.invokevirtual ix, 3) ∧ ∀ id n t, lj_find M.2.2.2.1 ix ≠ some (id, n, t, 0)) ∨ (decode cc pc = .ok (.invokestatic ix, 3) ∧ ∀ id n t rc, lj_find M.2.2.2.1 ix = some (id, n, t, rc) → rc = 0))
    (hP : va_P D cl (lj_ws cA ad σ 0 ds) H) (hS : va_S A s.heap H locs)
    (kk : ∀ pc' L' st' σ' H' locs', go pc' L' st' σ' = some o → L' = L → va_P D cl (lj_ws cA ad σ' 0 ds) H' → va_S A s.heap H' locs' → W p l e R s m args below meth c H' locs' 0 0 (lj_Q D cl cA ad A ds below s o) (F0 m pc' ls (st'.map (lj_re ad)))) :
    W p l e R s m args below meth c H locs 0 0 (lj_Q D cl cA ad A ds below s o) (F0 m pc ls (st.map (lj_re ad))) := by
  have hm0 := hm
  obtain ⟨⟨hx, hb, hown, hts, hE, had, hC, hF, hRc⟩, hlocks, hml, hret, htab, hA, hH, hN, hHp, hcat⟩ := hm
  unfold lj_inv at h
  split at h
  · rename_i id n t rc hf
    split at h
    · rename_i as r hargs
      cases hrc : lj_rc ds rc as && Nat.ble (lj_w r) 8 with
      | false => rw [hrc] at h; cases h
      | true =>
        rw [hrc] at h
        rw [Bool.and_eq_true] at hrc
        obtain ⟨hrc1, hw8⟩ := hrc
        have hw8 := Nat.le_of_ble_eq_true hw8
        change lj_back t pc L r go (lj_hh ca M.2.2.2.2.2.1 pc L go) (call id as σ) = some o at h
        obtain ⟨q, hq1, hq2, hq3⟩ := lj_args_spec n [] st as r hargs
        rw [List.append_nil] at hq3
        cases hcl : call id as σ with
        | none => rw [hcl] at h; unfold lj_back lj_bv lj_bi lj_bl lj_br at h; split at h <;> cases h
        | some o1 =>
          have hM := hcall ix id n t rc as σ o1 hf hcl
          obtain ⟨hcw, hini, hMH, hm21, hlink⟩ := hL ix id n t rc hf
          have hcode : (lj_cw (mi id).1 (mi id).2.1 (mi id).2.2.1 (mi id).2.2.2.1 (mi id).2.2.2.2).before args s = true := hts _ hcw
          obtain ⟨mk, methM, cM, hnamed, hmethM, hcM, -, -, -, -, -, hsigM⟩ := lj_cw_spec hcode
          have hrest : ((r.map (lj_re ad)).map fun v => v.category).sum ≤ 8 := by rw [lj_w_cat]; exact hw8
          intro T hT X
          -- the invocation itself
          have hinv : ∃ vm₁, Stand p l e R s m args below meth c (T.setVm vm₁) locs 0 0 ∧ ∀ target, (∀ acts, Steps p.tables e below (doInvoke e ((T.setVm vm₁).setTop (F0 m pc ls (r.map (lj_re ad)))) acts mk (as.map (lj_re ad)).toArray).1 target) → Steps p.tables e below (T.setTop (F0 m pc ls (st.map (lj_re ad)))) target := by
            rcases hlink with ⟨rfl, hstt, hlen, hlk⟩ | ⟨h0, hinst, hsel, hlen, hlk, hrk⟩
            · obtain ⟨hd, -⟩ : decode cc pc = .ok (.invokestatic ix, 3) ∧ True := by
                rcases hd with ⟨-, z⟩ | ⟨z, -⟩
                · exact absurd hf (z id n t)
                · exact ⟨z, trivial⟩
              have hstatic : methM.isStatic = true := Cond.static_spec hnamed hmethM (hts _ hstt)
              obtain ⟨kP, hkP, -⟩ := className_of_methodNamed hnamed
              have hinitP : kP.init = .initialized := Cond.initialized_spec (findClass_of_methodNamed hnamed) hkP (hts _ hini)
              have hstk : (F0 m pc ls (st.map (lj_re ad))).stack = (as.map (lj_re ad)).reverse ++ r.map (lj_re ad) := by
                show st.map (lj_re ad) = _
                rw [hq2, hq3]; simp
              have hln : (as.map (lj_re ad)).length = methM.sig.parameters.length := by
                rw [hsigM] at hlen
                simp only [Option.map_some, Option.some.injEq] at hlen
                rw [hq3]; simp [hq1, hlen]
              rcases hlk with hlk | ⟨host, hlk⟩
              · obtain ⟨vm₁, X₁, hst₁⟩ := X.invokestatic hx hown (hts _ hlk) hnamed hmethM hstatic hkP hinitP hMH (g := F0 m pc ls (st.map (lj_re ad))) rfl (argsL := as.map (lj_re ad)) (rest := r.map (lj_re ad)) hln hstk (by rw [hb]; exact hd)
                exact ⟨vm₁, X₁, fun target z => hst₁ target z⟩
              · obtain ⟨vm₁, X₁, hst₁⟩ := X.invokestaticNest hx hown (va_Nw.use rfl (hE.2.1 _ hlk)) hnamed hmethM hstatic hkP hinitP hMH (g := F0 m pc ls (st.map (lj_re ad))) rfl (argsL := as.map (lj_re ad)) (rest := r.map (lj_re ad)) hln hstk (by rw [hb]; exact hd)
                exact ⟨vm₁, X₁, fun target z => hst₁ target z⟩
            · obtain ⟨hd, -⟩ : decode cc pc = .ok (.invokevirtual ix, 3) ∧ True := by
                rcases hd with ⟨z, -⟩ | ⟨-, z⟩
                · exact ⟨z, trivial⟩
                · exact absurd (z id n t rc hf) h0
              obtain ⟨kr, as', rfl, hkr⟩ := lj_rc_of hrc1 h0
              have hcellB : ∃ cellB : Cell, T.heap[ad kr]? = some cellB ∧ cellB.vm.isStatics = false ∧ s.vm.findClass (mi id).1.cls = some cellB.cls := by
                rcases hrk with ⟨hn1, ci, T0, N, rfl, hcl2⟩ | ⟨rfl, hstr⟩
                · rcases hkr with ⟨z, -⟩ | ⟨q', fs, z, hn⟩
                  · exact absurd z hn1
                  · obtain rfl : ci = q' := by omega
                    rw [hT]
                    exact va_recv hE.1 hP hcl2 (lj_ws_at (cA := cA) (ad := ad) (σ := σ) hn)
                · have hHT : Hp T := hHp s T hH (by rw [hT]; exact hS.1) (fun z z1 z2 => by rw [hT]; exact hS.2.1 z z1 z2) X.warmed.alike
                  obtain ⟨cell, w1, w2, w3⟩ := hsr T kr id as' σ o1 hHT hstr hcl
                  exact ⟨cell, w1, w2, by rw [hstr, ← X.warmed.alike.findClass]; exact w3⟩
              obtain ⟨cellB, hc1, hc2, hc3⟩ := hcellB
              obtain ⟨mk', methM', hnamed', hmethM', hstM, habM⟩ := Cond.instanceMethod_spec (hts _ hinst)
              cases hnamed.symm.trans hnamed'
              cases hmethM.symm.trans hmethM'
              obtain ⟨c2, r2, m2, q1, q2, q3, q4, kP, hkP, hkPi⟩ := Cond.selects_spec (hts _ hsel)
              cases hc3.symm.trans q1
              cases (State.methodFound?_of_named hnamed hMH).symm.trans q2
              cases hnamed.symm.trans q3
              have hselP : selectMethod e.platform s.vm cellB.cls mk = .method mk := by rw [Launch.admits_selectMethod X.admits]; exact q4
              have hq : q = as'.reverse ++ [.ref kr] := by
                have := congrArg List.reverse hq3
                simpa using this.symm
              have hstk : (F0 m pc ls (st.map (lj_re ad))).stack = (as'.map (lj_re ad)).reverse ++ .ref (ad kr) :: r.map (lj_re ad) := by
                show st.map (lj_re ad) = _
                rw [hq2, hq]; simp [lj_re]
              have hln : (as'.map (lj_re ad)).length = methM.sig.parameters.length := by
                rw [hsigM] at hlen
                simp only [Option.map_some, Option.some.injEq] at hlen
                rw [hq] at hq1
                simp at hq1 ⊢
                omega
              obtain ⟨vm₁, X₁, hst₁⟩ := X.invokevirtual hx hown (hts _ hlk) hnamed hmethM hstM hkP hkPi hMH (a := ad kr) (cell := cellB) hc1 (fun z hz => by rw [hz] at hc2; cases hc2) hselP hmethM habM hkP hkPi (g := F0 m pc ls (st.map (lj_re ad))) rfl (argsL := as'.map (lj_re ad)) (rest := r.map (lj_re ad)) hln hstk (by rw [hb]; exact hd)
              exact ⟨vm₁, X₁, fun target z => hst₁ target z⟩
          obtain ⟨vm₁, X₁, hst₁⟩ := hinv
          have hdg : ∃ ig, decode c.code pc = .ok (ig, 3) := by
            rw [hb]
            rcases hd with ⟨z, -⟩ | ⟨z, -⟩
            · exact ⟨_, z⟩
            · exact ⟨_, z⟩
          obtain ⟨ig, hdg⟩ := hdg
          have hHT : Hp (T.setVm vm₁) := hHp s _ hH (by show _ ≤ T.heap.size; rw [hT]; exact hS.1) (fun z z1 z2 => by show T.heap[z]? = _; rw [hT]; exact hS.2.1 z z1 z2) X₁.warmed.alike
          obtain ⟨T', L', k, n', X', hL', hP', hz', ho', hWT, hcase⟩ := lj_comes (T := T.setVm vm₁) (b := (mi id).2.1) (nL := (mi id).2.2.1) (r := (mi id).2.2.2.1) (hd := (mi id).2.2.2.2) (d := d) (as := as) (σ := σ) (o := o1) X₁ hN hHp hts hcw hini hM
            (by rw [hR]; refine ⟨Nat.le_refl _, ?_, Nat.le_refl _, Nat.le_refl _⟩; simp only [lj_rm]; omega)
            (fun z hz => hA z (Nat.le_trans (by have := hS.1; rw [← hT] at this; exact this) hz)) (by show va_P D cl _ T.heap; rw [hT]; exact hP) (lj_env.warm hN X₁.warmed hE) hHT (g := F0 m pc ls (r.map (lj_re ad))) rfl (by show ls.size = _; rw [hml]; exact hl.1) (ig := ig) hdg (lv_room hrest) (X₁.named hnamed)
          have hS' : va_S A s.heap T'.heap (locs ++ L') := by
            refine ⟨Nat.le_trans (by have := hS.1; rw [← hT] at this; exact this) hz', fun z z1 z2 => ?_, fun z hz => ?_⟩
            · have hz3 : z < T.heap.size := by have := hS.1; rw [← hT] at this; omega
              rw [ho' z hz3 z2]
              show T.heap[z]? = _
              rw [hT]; exact hS.2.1 z z1 z2
            · rcases List.mem_append.mp hz with w | w
              · exact hS.2.2 z w
              · exact hL' z w
          rw [hcl] at h
          rcases hcase with ⟨v, e1, rfl, rfl, hsteps⟩ | ⟨x, a, e1, hxa, hsteps⟩
          · have hgo : go (pc + 3) L (v.toList ++ r) o1.2 = some o := by
              obtain ⟨r1, σ1⟩ := o1
              dsimp only at e1
              subst e1
              unfold lj_back lj_bv lj_bi lj_bl lj_br at h
              split at h
              · cases v with
                | none => exact h
                | some v => cases h
              · cases v with
                | none => cases h
                | some v => cases v <;> first | exact h | cases h
              · cases v with
                | none => cases h
                | some v => cases v <;> first | exact h | cases h
              · cases v with
                | none => cases h
                | some v => cases v <;> first | exact h | cases h
            obtain ⟨t', a1, b1⟩ := kk _ _ _ _ _ _ hgo rfl hP' hS' T' rfl X'
            refine ⟨t', hst₁ _ fun acts => ?_, b1⟩
            rw [doInvoke_state]
            refine hsteps.trans ?_
            have e2 : (v.map (lj_re ad)).toList ++ r.map (lj_re ad) = (v.toList ++ r).map (lj_re ad) := by cases v <;> simp
            show Steps p.tables e below (T'.setTop (F0 m (pc + 3) ls ((v.map (lj_re ad)).toList ++ r.map (lj_re ad)))) t'
            rw [e2]; exact a1
          · have hhh : lj_hh ca M.2.2.2.2.2.1 pc L go x o1.2 = some o := by
              obtain ⟨r1, σ1⟩ := o1
              dsimp only at e1
              subst e1
              unfold lj_back lj_bv lj_bi lj_bl lj_br at h
              split at h <;> exact h
            obtain ⟨t', a1, b1⟩ := lj_raise hm0 X' (pc := pc) (ls := ls) (st := r.map (lj_re ad)) hxa hP' hS' hhh kk
            refine ⟨t', hst₁ _ fun acts => ?_, b1⟩
            rw [doInvoke_state]
            exact hsteps.trans a1
    · cases h
  · cases h
end LJR
