/-! SOUNDNESS: a method's code -/
theorem W.imp {p : Program} {l : Launch} {e : Env} {R : Room} {s : State} {m : MethodId} {args : Array Value} {below : List Frame} {meth : Method} {c : Code} {H : Heap} {locs : List Loc} {cells slots : Nat} {Q Q' : State → Prop} {g : JFrame} (h : ∀ t, Q t → Q' t) (w : W p l e R s m args below meth c H locs cells slots Q g) : W p l e R s m args below meth c H locs cells slots Q' g := fun T hT X => by
  obtain ⟨t, a, b⟩ := w T hT X
  exact ⟨t, a, h t b⟩
section LJE
variable {D : va_G} {cl : List vw_C} {cA : Nat → ClassId} {ad : Nat → Nat} {nw : List Cond} {strs : List (String × Nat × String × Nat)} {A : Nat → Prop} {ds : List lj_C} {Hp : State → Prop}
variable {p : Program} {l : Launch} {e : Env} {R : Room} {s : State} {m : MethodId} {args : Array Value} {below : List Frame} {meth : Method} {c : Code} {H : Heap} {locs : List Loc} {cells slots : Nat}
theorem lj_zret {cc : ByteArray} {Qc : Array Value → State → Outcome → State → Prop} {free : Addr → Prop} {v w : Int32} {ty : FieldType} (hexec : p.tables.exec = Jvm.exec) (hb : c.code = cc) (hr : meth.sig.returnType = some ty) (hn : narrow ty (.int v) = .int w)
    (hq : ∀ t : State, t.heap = H → s.WarmedH t.vm → Qc args s (.returned (some (.int w))) t) (hf : ∀ q ∈ locs, free q.base) {pc : Nat} {ls : Array Slot} (hdg : decode cc pc = .ok (.ireturn, 1)) (hlocks : meth.locks = false) : W p l e R s m args below meth c H locs cells slots (MQ below Qc args s cells slots free) (F0 m pc ls [.int v]) := by
  intro T hT X
  obtain ⟨fs, hret, hrun, hended, hW, hframe⟩ := X.leave (v := some (.int w)) (fun h => by rw [hr] at h; cases h)
  have hmeth' : T.vm.method? m = some meth := X.method'
  refine ⟨T.setFrames fs, ?_, .returned (some (.int w)), hrun, hended, hq _ hT hW, locs, ⟨⟨_, rfl⟩, hW, hframe⟩, hf⟩
  jvm_step X.here [X.here.top, hexec, hb, hdg, hmeth', hr, hn]
  (try refine ⟨rfl, ?_⟩); (try refine ⟨rfl, ?_⟩)
  first | (intro acts; rw [hret _ acts rfl rfl rfl]) | rw [hret _ _ rfl rfl rfl]
  exact Steps.refl _
/-- a method's end, as the small machine has it -/
def lj_Q (D : va_G) (cl : List vw_C) (cA : Nat → ClassId) (ad : Nat → Nat) (A : Nat → Prop) (ds : List lj_C) (below : List Frame) (s : State) (o : lj_O) : State → Prop := fun t => ∃ oc, t.status = .running ∧ Ended t below oc ∧ lj_End D cl cA ad A ds o s oc t
/-- what a return's row gives -/
theorem lj_Q_ret {v : Option Value} {σ : lj_S} (hP : va_P D cl (lj_ws cA ad σ 0 ds) H) (hS : va_S A s.heap H locs) (t : State) (h : MQ below (fun _ _ oc t => oc = .returned (v.map (lj_re ad)) ∧ t.heap = H) args s 0 0 A t) : lj_Q D cl cA ad A ds below s (.inl v, σ) t := by
  obtain ⟨oc, h1, h2, ⟨h3, h4⟩, L, ⟨-, h5, h6⟩, h7⟩ := h
  exact ⟨oc, h1, h2, by rw [h4]; exact hP, hS.F h4, L, 0, 0, h5, h6, h7, h3, rfl, rfl⟩
/-- what a method with its words stands on -/
def lj_mx (p : Program) (s : State) (m : MethodId) (args : Array Value) (meth : Method) (c : Code) (cc : ByteArray) (own : String) (D : va_G) (cl : List vw_C) (cA : Nat → ClassId) (ad : Nat → Nat) (nw : List Cond) (strs : List (String × Nat × String × Nat)) (A : Nat → Prop) (ds : List lj_C) (Hp : State → Prop) (ca : Nat → Nat → Bool) (nL : Nat) (M : lj_M) (ret : Option FieldType) : Prop :=
  lj_ctx p s m args c cc own D cl cA ad nw strs A ds M.2.2.1 M.2.2.2.2.1 ∧ meth.locks = false ∧ c.maxLocals = nL ∧ meth.sig.returnType = ret ∧ c.exceptionTable.toList.map (fun h => (h.startPc, h.endPc, h.handlerPc, h.catchType)) = M.2.2.2.2.2.1 ∧ (∀ q, s.heap.size ≤ q → A q) ∧ Hp s ∧ lj_nest nw ∧ lj_stays A Hp ∧
  (∀ hs he hp ct x, (hs, he, hp, ct) ∈ M.2.2.2.2.2.1 → ca ct x = true → x < 2000 ∧ ∃ ci fs C T N, lj_nth ds x = some (.inl (ci, fs)) ∧ cl[ci]? = some (C, T, N) ∧ (ct = 0 ∨ (ct ≠ 0 ∧ Cond.classLink own ct C ∈ lw_all ∧ Cond.castable C C ∈ nw)))
/-- what was thrown goes to its handler, or out of the method -/
theorem lj_raise {cc : ByteArray} {own : String} {ca : Nat → Nat → Bool} {nL : Nat} {M : lj_M} {ret : Option FieldType} {T : State} {k n : Nat} (hm : lj_mx p s m args meth c cc own D cl cA ad nw strs A ds Hp ca nL M ret) (X : Stand p l e R s m args below meth c T locs k n) {pc : Nat} {ls : Array Slot} {st : List Value} {L : List Value} {go : lj_K} {x a : Nat} {σ : lj_S} {o : lj_O}
    (hx : (x < 2000 ∧ a = ad x ∧ k = 0 ∧ n = 0) ∨ (2000 ≤ x ∧ lj_new x a T ∧ k ≤ 2 ∧ n ≤ 16)) (hP : va_P D cl (lj_ws cA ad σ 0 ds) T.heap) (hS : va_S A s.heap T.heap locs) (h : lj_hh ca M.2.2.2.2.2.1 pc L go x σ = some o)
    (kk : ∀ pc' L' st' σ' H' locs', go pc' L' st' σ' = some o → L' = L → va_P D cl (lj_ws cA ad σ' 0 ds) H' → va_S A s.heap H' locs' → W p l e R s m args below meth c H' locs' 0 0 (lj_Q D cl cA ad A ds below s o) (F0 m pc' ls (st'.map (lj_re ad)))) :
    ∃ t, Steps p.tables e below ((T.setTop (F0 m pc ls st)).pushFrame (.throwing a)) t ∧ lj_Q D cl cA ad A ds below s o t := by
  obtain ⟨⟨hx0, hb, hown, hts, ⟨hK, hnw, hst⟩, had, hC, hF, hR⟩, hlocks, hml, hret, htab, hA, hH, hN, hHp, hcat⟩ := hm
  have h : lj_thr ca M.2.2.2.2.2.1 pc L go x σ = some o := by
    cases hd : M.2.2.2.2.2.1 with
    | nil => rw [hd] at h; exact h
    | cons q r => rw [hd] at h; exact h
  rw [← htab] at h
  rcases lj_thr_of _ h with ⟨pre, y, rest, h1, h2, h3, h4, h5⟩ | ⟨h1, h2⟩
  · obtain ⟨hx2, ci, fs, C, T0, N, hn, hcl, hct⟩ := hcat y.startPc y.endPc y.handlerPc y.catchType x (by
      rw [← htab, h1]
      exact List.mem_map.mpr ⟨y, List.mem_append_right _ List.mem_cons_self, rfl⟩) h4
    obtain ⟨-, rfl, rfl, rfl⟩ : x < 2000 ∧ a = ad x ∧ k = 0 ∧ n = 0 := by
      rcases hx with q | ⟨q, -⟩
      · exact q
      · omega
    obtain ⟨cell, hcell, hobj, hcls⟩ := va_recv hK hP hcl (lj_ws_at (cA := cA) (ad := ad) (σ := σ) hn)
    obtain ⟨vm', hW', hfind⟩ := lj_seek (e := e) (f := F0 m pc ls st) (S := (T.setTop (F0 m pc ls st)).pushFrame (.throwing (ad x))) (rest := rest) (by rw [Stand.throwing_vm]; exact X.warmed) (by rw [Stand.throwing_heap]; exact hcell) (fun k hk => by rw [hk] at hobj; cases hobj) h3 (by
      rcases hct with q | ⟨q1, q2, q3⟩
      · exact Or.inl q
      · refine Or.inr ⟨q1, ?_⟩
        have hpl : e.platform.magicAccessors = ({} : Platform).magicAccessors := by rw [X.admits.platform]
        obtain ⟨K, hK1, hK2⟩ := Cond.classLink_spec hown (hts _ q2) e.platform hpl
        obtain ⟨c1, c2, w1, w2, w3⟩ := Cond.castable_spec (va_Nw.use (A := args) rfl (hnw _ q3))
        have e1 : c1 = cell.cls := Option.some.inj (w1.symm.trans hcls)
        have e2 : c2 = K := Option.some.inj (w2.symm.trans hK1)
        rw [e1, e2] at w3
        obtain ⟨hS0, hfc, kC, hkC, hkind⟩ := hK.1 ci _ hcl
        have e3 : (D.1 ci) = cell.cls := Option.some.inj (hfc.symm.trans hcls)
        exact ⟨K, hK2, w3, kC, by rw [← e3]; exact hkC⟩)
    obtain ⟨X', st'⟩ := lj_into X (ad x) (g := F0 m pc ls st) rfl hW' (hp := y.handlerPc) (fun Q E d acts => by
      rw [W.findHandler_eq (by rw [Stand.throwing_vm]; exact X.method') X.code, h1]
      exact hfind pre h2 Q E d acts)
    obtain ⟨t, a1, b1⟩ := kk _ _ _ _ _ _ h5 rfl hP hS (T.setVm vm') rfl X'
    exact ⟨t, st' t a1, b1⟩
  · subst h1
    obtain ⟨q1, q2, q3, q4, q5⟩ := X.leaveThrown a (g := F0 m pc ls st) rfl rfl rfl h2
    refine ⟨_, q1, .threw a, q2, q3, hP, hS.F rfl, locs, k, n, q4, q5, hS.2.2, a, rfl, ?_⟩
    rcases hx with q | ⟨z1, z2, z3⟩
    · exact Or.inl q
    · exact Or.inr ⟨z1, z2, z3⟩
end LJE
