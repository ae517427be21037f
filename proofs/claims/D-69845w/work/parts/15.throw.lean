/-! SOUNDNESS: what is thrown, and caught -/
section LJT
/-- the search through a method's table: rows ahead that don't cover the place, then one that takes it -/
theorem lj_seek {e : Env} {s S : State} {f : JFrame} {a : Addr} {cell : Cell} (hW : s.WarmedH S.vm) (hcell : S.heap[a]? = some cell) (hobj : ∀ k, cell.vm ≠ .statics k) {y : ExceptionTableEntry} {rest : List ExceptionTableEntry} (hy : covers y f.pc = true)
    (hcat : y.catchType = 0 ∨ (y.catchType ≠ 0 ∧ ∃ K, s.vm.ClassLinks e.platform f.method.cls y.catchType K ∧ s.vm.assignable cell.cls K = true ∧ ∃ k, s.vm.classes[cell.cls]? = some k)) :
    ∃ vm', s.WarmedH vm' ∧ ∀ (pre : List ExceptionTableEntry), (∀ z ∈ pre, covers z f.pc = false) → ∀ (Q : Handler → Pre) (E : CtlPost) (d : Bool) (acts : List Action), wp (findHandler.go f a (pre ++ y :: rest)) Q E e d acts S ↔ Q (.found y.handlerPc) d acts (S.setVm vm') := by
  have key : ∀ vm', (∀ (Q : Handler → Pre) (E : CtlPost) (d : Bool) (acts : List Action), wp (findHandler.go f a (y :: rest)) Q E e d acts S ↔ Q (.found y.handlerPc) d acts (S.setVm vm')) →
      ∀ (pre : List ExceptionTableEntry), (∀ z ∈ pre, covers z f.pc = false) → ∀ (Q : Handler → Pre) (E : CtlPost) (d : Bool) (acts : List Action), wp (findHandler.go f a (pre ++ y :: rest)) Q E e d acts S ↔ Q (.found y.handlerPc) d acts (S.setVm vm') := by
    intro vm' h pre
    induction pre with
    | nil => intro _ Q E d acts; exact h Q E d acts
    | cons z r ih =>
      intro hz Q E d acts
      rw [List.cons_append, W.findHandler_go_skip (hz z List.mem_cons_self)]
      exact ih (fun w hw => hz w (List.mem_cons_of_mem _ hw)) Q E d acts
  rcases hcat with h0 | ⟨h0, K, hl, hfit, k1, hk1⟩
  · exact ⟨S.vm, hW, key _ fun Q E d acts => by rw [W.findHandler_go_any hy h0, State.setVm_self]⟩
  · obtain ⟨dk, _, _, kt, hd, _, _, _, _, hkt, _, hopen⟩ := hl.here
    refine ⟨S.vm.noted f.method.cls y.catchType (.cls K), hW.noted hd hopen (State.rightAt_cls hl), key _ fun Q E d acts => ?_⟩
    have hl' := hW.classLinks hl
    have hal : s.vm.Alike (S.vm.noted f.method.cls y.catchType (.cls K)) := hW.alike.noted _ _ _
    obtain ⟨hg, ht⟩ := (resolveClass_links e.toSetting hl').op (op := VmOp.resolveClass f.method.cls y.catchType) rfl
    obtain ⟨k1', hk1', -⟩ := hal.2.2 _ _ hk1
    obtain ⟨k2', hk2', -⟩ := hal.2.2 _ _ hkt
    have hfit' : (S.vm.noted f.method.cls y.catchType (.cls K)).assignable cell.cls K = true := by rw [hal.assignable]; exact hfit
    simp only [covers] at hy
    simp [findHandler.go, hy, h0, hg, ht, hcell, hobj, hk1', hk2', hfit', VmOp.dirties, VmOp.acts]
variable {p : Program} {l : Launch} {e : Env} {R : Room} {s : State} {m : MethodId} {args : Array Value} {below : List Frame} {meth : Method} {c : Code} {T : State} {locs : List Loc} {cells slots : Nat}
/-- into the handler that the search has found -/
theorem lj_into (X : Stand p l e R s m args below meth c T locs cells slots) (a : Addr) {g : JFrame} (hg : g.method = m) {hp : Nat} {vm' : Vm} (hW' : s.WarmedH vm')
    (hf : ∀ (Q : Handler → Pre) (E : CtlPost) (d : Bool) (acts : List Action), wp (findHandler g a) Q E e d acts ((T.setTop g).pushFrame (.throwing a)) ↔ Q (.found hp) d acts (((T.setTop g).pushFrame (.throwing a)).setVm vm')) :
    Stand p l e R s m args below meth c (T.setVm vm') locs cells slots ∧ ∀ target, Steps p.tables e below ((T.setVm vm').setTop { g with pc := hp, stack := [.ref a] }) target → Steps p.tables e below ((T.setTop g).pushFrame (.throwing a)) target := by
  refine ⟨X.noted hW', fun target hrest => ?_⟩
  have h : At T g.method c below := by rw [hg]; exact X.here
  obtain ⟨hgo, hw⟩ := h.throwing a
  refine Steps.head hgo hw ?_
  have hstep : (stepThrowing e ((T.setTop g).pushFrame (.throwing a)) a (.java g :: T.frames.tail)).1 = (((T.setTop g).pushFrame (.throwing a)).setVm vm').setFrames (.java { g with pc := hp, stack := [.ref a] } :: T.frames.tail) := by
    simp only [stepThrowing, searchFrame, vmDo]
    generalize hr : Sem.go _ e false [] ((T.setTop g).pushFrame (.throwing a)) = res
    obtain ⟨as, rfl, ha⟩ := Sem.eq_ok_of hr (a := Handler.found hp) (s' := ((T.setTop g).pushFrame (.throwing a)).setVm vm') (acts' := []) (by simp [hf _ _ _ _])
    rfl
  rw [stepThread_throwing (frames_entered h.top _), hstep]
  obtain ⟨g₀, hg0⟩ := Option.isSome_iff_exists.mp h.top
  obtain ⟨r, hr⟩ := State.topJava?_eq_some.mp hg0
  have hr' : (T.setVm vm').frames = .java g₀ :: r := hr
  rw [State.setTop_of_frames _ hr'] at hrest
  have e1 : (((T.setTop g).pushFrame (.throwing a)).setVm vm').setFrames (.java { g with pc := hp, stack := [.ref a] } :: T.frames.tail) = (T.setVm vm').setFrames (.java { g with pc := hp, stack := [.ref a] } :: r) := by
    rw [State.pushFrame, State.setTop_of_frames _ hr, hr, List.tail_cons]
    have q1 : ∀ (u : State) (F G : List Frame), ((u.setFrames F).setVm vm').setFrames G = (u.setVm vm').setFrames G := fun u F G => by
      rw [show (u.setFrames F).setVm vm' = (u.setVm vm').setFrames F from rfl, State.setFrames_setFrames]
    rw [q1, q1]
  rw [e1]
  exact hrest
/-- where the small machine's handlers send what was thrown -/
theorem lj_thr_of {ca : Nat → Nat → Bool} {pc : Nat} {L : List Value} {go : lj_K} {x : Nat} {σ : lj_S} {o : lj_O} : ∀ (tbl : List ExceptionTableEntry), lj_thr ca (tbl.map (fun h => (h.startPc, h.endPc, h.handlerPc, h.catchType))) pc L go x σ = some o →
    (∃ pre y rest, tbl = pre ++ y :: rest ∧ (∀ z ∈ pre, covers z pc = false) ∧ covers y pc = true ∧ ca y.catchType x = true ∧ go y.handlerPc L [.ref x] σ = some o) ∨ (o = (.inr x, σ) ∧ ∀ z ∈ tbl, covers z pc = false)
  | [], h => Or.inr ⟨(Option.some.inj h).symm, (fun _ q => by cases q)⟩
  | y :: r, h => by
    have hcv : (Nat.ble y.startPc pc && Nat.blt pc y.endPc) = covers y pc := by
      have e1 : Nat.ble y.startPc pc = decide (y.startPc ≤ pc) := by
        rw [Bool.eq_iff_iff, Nat.ble_eq, decide_eq_true_eq]
      have e2 : Nat.blt pc y.endPc = decide (pc < y.endPc) := by
        rw [Nat.blt, Bool.eq_iff_iff, Nat.ble_eq, decide_eq_true_eq]; exact Iff.rfl
      rw [e1, e2]
    simp only [List.map_cons, lj_thr, hcv] at h
    cases hc : covers y pc with
    | true =>
      rw [hc] at h
      cases hca : ca y.catchType x with
      | true => rw [hca] at h; exact Or.inl ⟨[], y, r, rfl, (fun _ q => by cases q), hc, hca, h⟩
      | false => rw [hca] at h; cases h
    | false =>
      rw [hc] at h
      rcases lj_thr_of r h with ⟨pre, z, rest, h1, h2, h3⟩ | ⟨h1, h2⟩
      · refine Or.inl ⟨y :: pre, z, rest, by rw [h1]; rfl, fun w hw => ?_, h3⟩
        rcases List.mem_cons.mp hw with e | e
        · rw [e]; exact hc
        · exact h2 w e
      · refine Or.inr ⟨h1, fun w hw => ?_⟩
        rcases List.mem_cons.mp hw with e | e
        · rw [e]; exact hc
        · exact h2 w e
end LJT
