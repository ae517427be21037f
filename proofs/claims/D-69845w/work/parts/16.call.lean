/-! SOUNDNESS: calls -/
def lj_cw (y : MethodName) (b : ByteArray) (L : Nat) (r : Option FieldType) (hd : List (Nat × Nat × Nat × Nat)) : Cond := match hd with
  | [] => .code y b L r
  | h :: t => .codeWith y b L r (h :: t)
theorem lj_cw_spec {y : MethodName} {b : ByteArray} {L : Nat} {r : Option FieldType} {hd : List (Nat × Nat × Nat × Nat)} {args : Array Value} {s : State} (h : (lj_cw y b L r hd).before args s = true) :
    ∃ m meth c, s.methodNamed? y = some m ∧ s.vm.method? m = some meth ∧ meth.code = some c ∧ c.code = b ∧ c.maxLocals = L ∧ c.exceptionTable.toList.map (fun h => (h.startPc, h.endPc, h.handlerPc, h.catchType)) = hd ∧ meth.sig.returnType = r ∧ meth.locks = false ∧ parseMethodDescriptor y.desc = some meth.sig := by
  cases hd with
  | nil =>
    have h : (Cond.code y b L r).before args s = true := h
    obtain ⟨m, hn⟩ := Cond.code_named h
    obtain ⟨meth, c, h1, h2, h3, h4, h5, h6, h7, h8⟩ := Cond.code_spec hn h
    have h0 : c.exceptionTable.size = 0 := by simpa [Array.isEmpty] using h7
    have h9 : c.exceptionTable.toList = [] := List.eq_nil_of_length_eq_zero (by simpa using h0)
    exact ⟨m, meth, c, hn, h1, h2, h3, h4, by rw [h9]; rfl, h5, h6, h8⟩
  | cons a t => exact Cond.codeWith_spec h
def lj_rm (d : Nat) : Room := { frames := d + 1, cells := 2, slots := 16, locals := 40 * (d + 1) }
def lj_exn : Nat → String
  | 2001 => "java/lang/IndexOutOfBoundsException"
  | 2002 => "java/lang/IllegalArgumentException"
  | _ => "java/lang/IllegalStateException"
/-- an exception that was made -/
def lj_new (x : Nat) (a : Addr) (t : State) : Prop := ∃ cell : Cell, t.heap[a]? = some cell ∧ cell.vm.isStatics = false ∧ t.vm.findClass (lj_exn x) = some cell.cls
def lj_oc (ad : Nat → Nat) (r : Option Value ⊕ Nat) (oc : Outcome) (t : State) (k n : Nat) : Prop := match r with
  | .inl v => oc = .returned (v.map (lj_re ad)) ∧ k = 0 ∧ n = 0
  | .inr x => ∃ a, oc = .threw a ∧ ((x < 2000 ∧ a = ad x ∧ k = 0 ∧ n = 0) ∨ (2000 ≤ x ∧ lj_new x a t ∧ k ≤ 2 ∧ n ≤ 16))
/-- how a method has ended: its outcome is o's, the heap holds o's store, nothing outside A has changed -/
def lj_End (D : va_G) (cl : List vw_C) (cA : Nat → ClassId) (ad : Nat → Nat) (A : Nat → Prop) (ds : List lj_C) (o : lj_O) (st : State) (oc : Outcome) (t : State) : Prop :=
  va_P D cl (lj_ws cA ad o.2 0 ds) t.heap ∧ va_F A st t ∧ ∃ L k n, st.WarmedH t.vm ∧ st.sameButNew ({ t with vm := st.vm } : State) L k n ∧ (∀ q ∈ L, A q.base) ∧ lj_oc ad o.1 oc t k n
/-- how it may begin -/
def lj_Pc (D : va_G) (cl : List vw_C) (cA : Nat → ClassId) (ad : Nat → Nat) (nw : List Cond) (strs : List (String × Nat × String × Nat)) (A : Nat → Prop) (ds : List lj_C) (Hp : State → Prop) (as : List Value) (σ : lj_S) : Array Value → State → Prop := fun a U =>
  a = (as.map (lj_re ad)).toArray ∧ (∀ q, U.heap.size ≤ q → A q) ∧ va_P D cl (lj_ws cA ad σ 0 ds) U.heap ∧ lj_env D cl cA ad nw strs U ∧ Hp U
def lj_Mt (l : Launch) (y : MethodName) (ws : List Cond) (rm : Room) (D : va_G) (cl : List vw_C) (cA : Nat → ClassId) (ad : Nat → Nat) (nw : List Cond) (strs : List (String × Nat × String × Nat)) (A : Nat → Prop) (ds : List lj_C) (Hp : State → Prop) (as : List Value) (σ : lj_S) (o : lj_O) : Prop :=
  MetFree l y (headSpec ws rm) (lj_Pc D cl cA ad nw strs A ds Hp as σ) (fun _ _ _ _ _ => True) (fun _ st oc t => lj_End D cl cA ad A ds o st oc t)
/-- words of nest mates -/
def lj_nest (nw : List Cond) : Prop := ∀ w ∈ nw, (∃ a i b n d h, w = Cond.fieldLinkNest a i b n d h) ∨ (∃ a i x h, w = Cond.methodLinkNest a i x h) ∨ ∃ C T, w = Cond.castable C T
/-- what else a method asks of the heap: it holds as long as nothing outside A changes -/
def lj_stays (A : Nat → Prop) (Hp : State → Prop) : Prop := ∀ U V : State, Hp U → U.heap.size ≤ V.heap.size → (∀ q, q < U.heap.size → ¬ A q → V.heap[q]? = U.heap[q]?) → U.vm.Alike V.vm → Hp V
section LJC
variable {D : va_G} {cl : List vw_C} {cA : Nat → ClassId} {ad : Nat → Nat} {nw : List Cond} {strs : List (String × Nat × String × Nat)} {A : Nat → Prop} {ds : List lj_C} {Hp : State → Prop}
theorem lj_env.warm (hN : lj_nest nw) {s U : State} (hW : s.WarmedH U.vm) (h : lj_env D cl cA ad nw strs s) : lj_env D cl cA ad nw strs U := by
  refine ⟨va_K.moved hW.alike h.1, fun w hw => ?_, fun own ix tx k hk => vk_R.warm hW (h.2.2 own ix tx k hk)⟩
  have := h.2.1 w hw
  rcases hN w hw with ⟨a, i, b, n, d, g, rfl⟩ | ⟨a, i, x, g, rfl⟩ | ⟨C, T, rfl⟩
  · exact va_Nw.warmF hW this
  · exact va_Nw.warmM hW this
  · exact va_Nw.warmC hW this
variable {p : Program} {l : Launch} {e : Env} {R : Room} {s : State} {m : MethodId} {args : Array Value} {below : List Frame} {meth : Method} {c : Code} {T : State} {locs : List Loc} {cells slots : Nat}
theorem lj_calling_heap (U : State) (g : JFrame) (mk : MethodId) (a : Array Value) (h : U.topJava?.isSome) : (U.calling g mk a).heap = U.heap ∧ (U.calling g mk a).vm = U.vm := by
  rw [State.calling_eq h]; exact ⟨rfl, rfl⟩
/-- a call comes back, or throws -/
theorem lj_comes {y : MethodName} {b : ByteArray} {nL : Nat} {r : Option FieldType} {hd : List (Nat × Nat × Nat × Nat)} {d : Nat} {as : List Value} {σ : lj_S} {o : lj_O}
    (X : Stand p l e R s m args below meth c T locs 0 0) (hN : lj_nest nw) (hHp : lj_stays A Hp) (hts : ∀ w ∈ lw_all, w.before args s = true) (hcw : lj_cw y b nL r hd ∈ lw_all) (hini : Cond.initialized y.cls ∈ lw_all)
    (hM : lj_Mt l y (lj_cw y b nL r hd :: lw_all) (lj_rm d) D cl cA ad nw strs A ds Hp as σ o) (hR : (lj_rm d).frames + 1 ≤ R.frames ∧ 8 + (nL + 11) + (lj_rm d).locals ≤ R.locals ∧ 2 ≤ R.cells ∧ 16 ≤ R.slots)
    (hA : ∀ q, T.heap.size ≤ q → A q) (hP : va_P D cl (lj_ws cA ad σ 0 ds) T.heap) (hE : lj_env D cl cA ad nw strs T) (hH : Hp T)
    {g : JFrame} (hg : g.method = m) (hsize : g.locals.size = c.maxLocals) {ig : Instr} (hdg : decode c.code g.pc = .ok (ig, 3)) (hW : 2 * g.monitorRoom + (g.stack.map fun v => v.category).sum ≤ 8) {mk : MethodId} (hn : T.methodNamed? y = some mk) :
    ∃ T' L k n, Stand p l e R s m args below meth c T' (locs ++ L) k n ∧ (∀ q ∈ L, A q.base) ∧ va_P D cl (lj_ws cA ad o.2 0 ds) T'.heap ∧ T.heap.size ≤ T'.heap.size ∧ (∀ q, q < T.heap.size → ¬ A q → T'.heap[q]? = T.heap[q]?) ∧ T.WarmedH T'.vm ∧
      ((∃ v, o.1 = .inl v ∧ k = 0 ∧ n = 0 ∧ Steps p.tables e below (doInvoke e (T.setTop g) [] mk (as.map (lj_re ad)).toArray).1 (T'.setTop { g with pc := g.pc + 3, stack := (v.map (lj_re ad)).toList ++ g.stack })) ∨
       (∃ x a, o.1 = .inr x ∧ ((x < 2000 ∧ a = ad x ∧ k = 0 ∧ n = 0) ∨ (2000 ≤ x ∧ lj_new x a T' ∧ k ≤ 2 ∧ n ≤ 16)) ∧ Steps p.tables e below (doInvoke e (T.setTop g) [] mk (as.map (lj_re ad)).toArray).1 ((T'.setTop g).pushFrame (.throwing a)))) := by
  have hpay : ∀ w ∈ lw_all, ∀ (a' : Array Value) (U : State), s.WarmedH U.vm → w.before a' U = true := pay_in hts lw_self
  have h2 : (lj_cw y b nL r hd).before (as.map (lj_re ad)).toArray T = true := hpay _ hcw _ _ X.warmed
  obtain ⟨mY, methY, cY, hnY, hmY, hcY, -, hlY, -, -, -, -⟩ := lj_cw_spec h2
  cases hn.symm.trans hnY
  obtain ⟨kY, hkY, -⟩ := className_of_methodNamed hn
  have hinitY : kY.init = .initialized := Cond.initialized_spec (findClass_of_methodNamed hn) hkY (hpay _ hini (as.map (lj_re ad)).toArray _ X.warmed)
  have h : At T g.method c below := by rw [hg]; exact X.here
  have h1 : (headSpec (lj_cw y b nL r hd :: lw_all) (lj_rm d)).pre.before (as.map (lj_re ad)).toArray T = true := by
    refine atoms_intro fun w hw => ?_
    rcases List.mem_cons.mp hw with q | q
    · rw [q]; exact h2
    · exact hpay w q _ _ X.warmed
  have happ : (headSpec (lj_cw y b nL r hd :: lw_all) (lj_rm d)).appliesLoose y e.platform (T.calling g mk (as.map (lj_re ad)).toArray) = true :=
    Spec.appliesLoose_calling (g := g) h hdg hn hkY hinitY
      (X.room_calling (g := g) (R' := lj_rm d) hsize hmY hcY hR.1 (by rw [hlY]; have := hR.2.1; omega) (by simpa [lj_rm] using hR.2.2.1) (by simpa [lj_rm] using hR.2.2.2)) h1
  obtain ⟨mid, hmid⟩ := h.above
  have hfr : (T.setTop g).frames = (.java g :: mid) ++ below := by rw [State.frames_setTop' g h.top, hmid]; rfl
  obtain ⟨hh1, hh2⟩ := lj_calling_heap T g mk (as.map (lj_re ad)).toArray h.top
  have hPc : lj_Pc D cl cA ad nw strs A ds Hp as σ (as.map (lj_re ad)).toArray (T.calling g mk (as.map (lj_re ad)).toArray) := by
    refine ⟨rfl, by rw [hh1]; exact hA, by rw [hh1]; exact hP, ?_, hHp T _ hH (by rw [hh1]; exact Nat.le_refl _) (fun q _ _ => by rw [hh1]) (by rw [hh2]; exact Vm.Alike.refl _)⟩
    exact lj_env.warm hN (by rw [hh2]; exact State.WarmedH.refl T) hE
  obtain ⟨oc, s₂, hsteps, -, hend, hq⟩ := Steps.callFree hM p X.admits X.cas X.clock (acts := []) hfr happ hPc trivial
  have hq : lj_End D cl cA ad A ds o (T.calling g mk (as.map (lj_re ad)).toArray) oc s₂ := hq
  rw [State.frames_setTop' g h.top] at hend
  rw [X.tail] at hend
  obtain ⟨hP2, hF2, L, k, n, hW2, hsame, hL, hoc⟩ := hq
  obtain ⟨hF2a, hF2b⟩ := hF2
  rw [hh1] at hF2a hF2b
  cases hr : o.1 with
  | inl v =>
    rw [hr] at hoc
    obtain ⟨rfl, rfl, rfl⟩ := hoc
    obtain ⟨T', X', hWT, -, ht⟩ := X.outOf hg hdg hend hW2 hsame
    have e1 : T'.heap = s₂.heap := by rw [ht]; rfl
    refine ⟨T', L, 0, 0, X', hL, by rw [e1]; exact hP2, by rw [e1]; exact hF2a, fun q h1 h2 => by rw [e1]; exact hF2b q h1 h2, hWT, Or.inl ⟨v, rfl, rfl, rfl, ?_⟩⟩
    rw [← ht]; exact hsteps
  | inr x =>
    rw [hr] at hoc
    obtain ⟨a, rfl, hx⟩ := hoc
    obtain ⟨T', X', hWT, -, ht⟩ := X.outOfThrown hg hend hW2 hsame
    have e1 : T'.heap = s₂.heap := by rw [ht, Stand.throwing_heap]
    have e2 : T'.vm = s₂.vm := by rw [ht, Stand.throwing_vm]
    refine ⟨T', L, k, n, by simpa using X', hL, by rw [e1]; exact hP2, by rw [e1]; exact hF2a, fun q h1 h2 => by rw [e1]; exact hF2b q h1 h2, hWT, Or.inr ⟨x, a, rfl, ?_, ?_⟩⟩
    · rcases hx with hx | ⟨q1, q2, q3⟩
      · exact Or.inl hx
      · refine Or.inr ⟨q1, ?_, q3⟩
        obtain ⟨cell, c1, c2, c3⟩ := q2
        exact ⟨cell, by rw [e1]; exact c1, c2, by rw [e2]; exact c3⟩
    · rw [← ht]; exact hsteps
end LJC
