/-! DEPTH OF CALLS: the acts, the run, the public methods -/
def aB : List (Nat × List dv × Nat) := [(139, [some (0, 8)], 1864), (142, [some (0, 8), some (4, 0), some (5, 0), some (4, 0), some (5, 0), some (4, 0), some (4, 0)], 1861), (144, [some (0, 8), some (4, 0)], 680), (148, [some (0, 8), some (4, 0)], 679), (153, [some (0, 8)], 679), (155, [some (0, 8), some (4, 0), some (5, 0), some (4, 0), some (4, 0)], 1860), (199, [some (0, 8), some (4, 0)], 679), (201, [some (0, 8), some (4, 0), some (4, 0)], 1862), (202, [some (0, 8), some (4, 0), some (5, 0), some (4, 0), some (5, 0), some (4, 0), some (5, 0), some (4, 0)], 1861), (203, [some (0, 8), some (4, 0)], 1861), (209, [some (0, 8), some (4, 0), some (4, 0)], 1863), (210, [some (0, 8), some (4, 0), some (4, 0), some (5, 0), some (4, 0), some (5, 0), some (4, 0), some (4, 0)], 1861), (211, [some (0, 8), some (4, 0), some (4, 0), some (5, 0), some (4, 0), some (5, 0), some (4, 0)], 1862), (213, [some (0, 8), some (4, 0), some (5, 0), some (4, 0), some (5, 0), some (4, 0)], 1862), (216, [some (0, 8), some (4, 0), some (4, 0)], 1862), (217, [some (0, 8), some (4, 0), some (4, 0), some (4, 0)], 681), (221, [some (0, 8)], 680)]
def aT : List (Nat × List (Nat × Nat × List dv × List dv)) := [(142, [(9, 0, [some (0, 8), some (4, 0), none, none, some (4, 0), none, none, some (4, 0), some (4, 0)], []), (78, 0, [some (0, 8), some (4, 0), none, none, some (4, 0), none, none, some (4, 0), some (4, 0)], [])]),
  (202, [(9, 0, [some (0, 8), some (4, 0), none, none, some (4, 0), none, none, some (4, 0), none, none, some (4, 0)], []), (66, 0, [some (0, 8), some (4, 0), none, none, some (4, 0), none, none, some (4, 0), none, none, some (4, 0)], []), (103, 0, [some (0, 8), some (4, 0), none, none, some (4, 0), none, none, some (4, 0), none, none, some (4, 0)], [])]),
  (201, []),
  (203, [(32, 0, [some (0, 8), some (4, 0)], [])]),
  (210, [(46, 0, [some (0, 8), some (4, 0), some (4, 0), none, none, some (4, 0), none, none, some (4, 0), some (4, 0)], [])]),
  (209, [(108, 0, [some (0, 8), some (4, 0), some (4, 0)], []), (158, 0, [some (0, 8), some (4, 0), some (4, 0)], [some (4, 0), some (5, 0), some (4, 0), some (5, 0), some (4, 0), some (4, 0), some (0, 8)]), (169, 0, [some (0, 8), some (4, 0), some (4, 0)], []), (170, 0, [some (0, 8), some (4, 0), some (4, 0)], [some (4, 0)]), (191, 0, [some (0, 8), some (4, 0), some (4, 0)], [some (4, 0), some (4, 0), some (0, 8)]), (199, 0, [some (0, 8), some (4, 0), some (4, 0)], [some (4, 0), some (0, 8)]), (202, 0, [some (0, 8), some (4, 0), some (4, 0)], []), (205, 0, [some (0, 8), some (4, 0), some (4, 0)], []), (221, 0, [some (0, 8), some (4, 0), some (4, 0)], []), (235, 0, [some (0, 8), some (4, 0), some (4, 0)], [some (4, 0), some (0, 8)]), (264, 0, [some (0, 8), some (4, 0), some (4, 0)], []), (293, 0, [some (0, 8), some (4, 0), some (4, 0)], []), (331, 0, [some (0, 8), some (4, 0), some (4, 0)], [some (4, 0), some (0, 1042), some (4, 0), some (0, 8)]), (335, 0, [some (0, 8), some (4, 0), some (4, 0)], [])]),
  (211, [(45, 0, [some (0, 8), some (4, 0), some (4, 0), none, none, some (4, 0), none, none, some (4, 0)], [some (4, 0), some (0, 8)]), (51, 0, [some (0, 8), some (4, 0), some (4, 0), none, none, some (4, 0), none, none, some (4, 0)], []), (109, 0, [some (0, 8), some (4, 0), some (4, 0), none, none, some (4, 0), none, none, some (4, 0)], [some (4, 0), some (0, 8)]), (115, 0, [some (0, 8), some (4, 0), some (4, 0), none, none, some (4, 0), none, none, some (4, 0)], []), (184, 0, [some (0, 8), some (4, 0), some (4, 0), none, none, some (4, 0), none, none, some (4, 0)], [])]),
  (213, [(56, 0, [some (0, 8), some (4, 0), none, none, some (4, 0), none, none, some (4, 0)], []), (94, 0, [some (0, 8), some (4, 0), none, none, some (4, 0), none, none, some (4, 0)], [some (4, 0), some (0, 1040), some (4, 0), some (0, 8)]), (98, 0, [some (0, 8), some (4, 0), none, none, some (4, 0), none, none, some (4, 0)], [])]),
  (216, [(57, 0, [some (0, 8), some (4, 0), some (4, 0)], [some (4, 0), some (0, 8)]), (230, 0, [some (0, 8), some (4, 0), some (4, 0)], [some (5, 0), some (3, 2), some (0, 8)]), (250, 0, [some (0, 8), some (4, 0), some (4, 0)], [some (4, 0), some (0, 8)]), (274, 0, [some (0, 8), some (4, 0), some (4, 0)], [])]),
  (217, [(133, 0, [some (0, 8), some (4, 0), some (4, 0), some (4, 0)], []), (181, 0, [some (0, 8), some (4, 0), some (4, 0), some (4, 0)], [some (4, 0), some (4, 0)]), (218, 0, [some (0, 8), some (4, 0), some (4, 0), some (4, 0)], []), (282, 0, [some (0, 8), some (4, 0), some (4, 0), some (4, 0)], [some (4, 0), some (4, 0), some (0, 8)]), (357, 0, [some (0, 8), some (4, 0), some (4, 0), some (4, 0)], []), (412, 0, [some (0, 8), some (4, 0), some (4, 0), some (4, 0)], []), (433, 0, [some (0, 8), some (4, 0), some (4, 0), some (4, 0)], []), (515, 0, [some (0, 8), some (4, 0), some (4, 0), some (4, 0)], [some (4, 0)]), (552, 0, [some (0, 8), some (4, 0), some (4, 0), some (4, 0)], []), (720, 0, [some (0, 8), some (4, 0), some (4, 0), some (4, 0)], []), (821, 0, [some (0, 8), some (4, 0), some (4, 0), some (4, 0)], []), (860, 0, [some (0, 8), some (4, 0), some (4, 0), some (4, 0)], []), (917, 0, [some (0, 8), some (4, 0), some (4, 0), some (4, 0)], [])]),
  (139, [(80, 0, [some (0, 8)], []), (651, 0, [some (0, 8)], [some (4, 0), some (4, 0), some (0, 8)]), (673, 0, [some (0, 8)], []), (810, 0, [some (0, 8)], []), (1051, 0, [some (0, 8)], [])]),
  (221, [(17, 0, [some (0, 8)], []), (48, 0, [some (0, 8)], []), (93, 0, [some (0, 8)], [])])]
def nxA (b f id : Nat) (A : List dv) : Option Nat := match lj_find aB id with
  | some (pat, b') => bif Nat.beq A.length pat.length && (dle pat A && Nat.blt b' b) then some f else none
  | none => (match lj_find lc_rk id with
    | some r => bif Nat.ble r 8 then some f else none
    | none => none)
def xA (M : lj_M) (b : Nat) (tb : List (Nat × Nat × List dv × List dv)) (pc f : Nat) (L st : List dv) : Bool := bnx lc_P.1 M (fun _ _ _ => none) (fun f _ _ _ => some f) (fun _ _ _ => none) (fun f _ _ _ => some f) (nxA b) (fun _ => true) tb 4000 pc f L st
def aOK : Bool := aT.all fun q => match lc_P.2.2.2 q.1, lj_find aB q.1 with
  | some (_, M), some (pat, b) => Nat.ble 9 b && (pat.all (fun a => a.isSome) && (M.2.2.2.2.2.1.isEmpty && (xA M b q.2 0 0 (dl2 pat) [] && q.2.all fun z => xA M b q.2 z.1 z.2.1 z.2.2.1 z.2.2.2)))
  | _, _ => false
set_option maxRecDepth 100000 in
theorem aOK_ok : aOK = true := by decide +kernel
theorem uX_le (d m : Nat) : uX d m ≤ 960 := by unfold uX; omega
theorem a_run : ∀ (D n id : Nat) (pat : List dv) (b : Nat) (as : List Value) (σ : lj_S) (o : lj_O) (B : Nat), lj_find aB id = some (pat, b) → as.length = pat.length → dL (pvH (fun _ => 0)) pat as → b ≤ B → lj_run lc_P D n id as σ = some o → lj_run lc_P B n id as σ = some o
  | 0, _, _, _, _, _, _, _, _, _, _, _, _, h => by cases h
  | D + 1, n, id, pat, b, as, σ, o, B, hf, hl, hA, hB, h => by
    have tab : (∃ tb, lj_find aT id = some tb) → lj_run lc_P B n id as σ = some o := by
      rintro ⟨tb, hi⟩
      have hq := List.all_eq_true.mp aOK_ok _ (lj_find_in aT id _ hi)
      dsimp only at hq
      rw [hf] at hq
      cases hP : lc_P.2.2.2 id with
      | none => rw [hP] at hq; cases hq
      | some z =>
        obtain ⟨nL, M⟩ := z
        rw [hP] at hq
        dsimp only at hq
        rw [Bool.and_eq_true, Bool.and_eq_true, Bool.and_eq_true, Bool.and_eq_true] at hq
        obtain ⟨q1, q2, q3, q4, q5⟩ := hq
        have h9 : 9 ≤ b := Nat.le_of_ble_eq_true q1
        obtain ⟨B', rfl⟩ : ∃ B', B = B' + 1 := ⟨B - 1, by omega⟩
        rw [lc_run_eq hP] at h ⊢
        cases hw : lj_may lc_P id as nL σ with
        | false => rw [hw] at h; cases h
        | true =>
          rw [hw] at h
          simp only [cond_true] at h ⊢
          have hp := pvH_P (fun _ => 0)
          have hX : eX (pvH (fun _ => 0)) (fun _ _ => True) (fun _ _ _ => none) (fun f _ _ _ => some f) (fun _ _ _ => none) (fun f _ _ _ => some f) := ⟨fun f k j q σ h => (by cases h), fun _ _ _ _ _ _ _ _ => ⟨fun _ _ => trivial, fun _ _ => trivial⟩, fun f k a q σ i h => (by cases h), fun _ _ _ _ _ _ _ _ _ _ => ⟨fun _ _ => ⟨trivial, trivial, trivial⟩, fun _ _ => trivial⟩⟩
          have hY : dY (pvH (fun _ => 0)) (fun _ _ => True) (nxA b) (lj_run lc_P D n) (lj_run lc_P B' n) := by
            intro f id' A f' as' σ' o' hn hl' hA' _ hc
            refine ⟨?_, fun _ _ => trivial⟩
            unfold nxA at hn
            cases hg : lj_find aB id' with
            | some z =>
              obtain ⟨pat', b'⟩ := z
              rw [hg] at hn
              dsimp only at hn
              cases hb : (Nat.beq A.length pat'.length && (dle pat' A && Nat.blt b' b)) with
              | false => rw [hb] at hn; cases hn
              | true =>
                rw [Bool.and_eq_true, Bool.and_eq_true] at hb
                have hlt : b' < b := Nat.le_of_ble_eq_true hb.2.2
                exact a_run D n id' pat' b' as' σ' o' B' hg (by rw [hl']; exact Nat.eq_of_beq_eq_true hb.1) (dle_ok hp.h4 _ _ _ hb.2.1 hA') (by omega) hc
            | none =>
              rw [hg] at hn
              dsimp only at hn
              split at hn
              · rename_i r e
                cases hb : Nat.ble r 8 with
                | false => rw [hb] at hn; cases hn
                | true =>
                  have := Nat.le_of_ble_eq_true hb
                  exact rk8_run e this (by omega) _ hc
              · cases hn
          exact (bn_exec (rt := fun _ => true) (tb := tb) hp (pvH_6 _) hX hY (List.isEmpty_iff.mp q3) q5 n 0 0 _ [] _ [] σ o q4 (dl2_ok pat as nL q2 hl hA (Nat.le_of_ble_eq_true (lj_may_w hw))) dL_nil trivial h).1
    have hmem := lj_find_in aB id _ hf
    unfold aB at hmem
    simp only [List.mem_cons, List.not_mem_nil, or_false, Prod.mk.injEq] at hmem
    rcases hmem with ⟨rfl, rfl, rfl⟩ | ⟨rfl, rfl, rfl⟩ | ⟨rfl, rfl, rfl⟩ | ⟨rfl, rfl, rfl⟩ | ⟨rfl, rfl, rfl⟩ | ⟨rfl, rfl, rfl⟩ | ⟨rfl, rfl, rfl⟩ | ⟨rfl, rfl, rfl⟩ | ⟨rfl, rfl, rfl⟩ | ⟨rfl, rfl, rfl⟩ | ⟨rfl, rfl, rfl⟩ | ⟨rfl, rfl, rfl⟩ | ⟨rfl, rfl, rfl⟩ | ⟨rfl, rfl, rfl⟩ | ⟨rfl, rfl, rfl⟩ | ⟨rfl, rfl, rfl⟩ | ⟨rfl, rfl, rfl⟩
    · exact tab ⟨_, rfl⟩
    · exact tab ⟨_, rfl⟩
    · obtain ⟨u, v, rfl⟩ : ∃ u v, as = [u, v] := by
        match as, hl with
        | [u, v], _ => exact ⟨u, v, rfl⟩
      have g1 : u = .ref 8 := dL.h hA (0, 8) rfl
      obtain ⟨x, g2⟩ : ∃ x, v = .int x := dL.h (dL.t hA) (4, 0) rfl
      subst g1 g2
      exact (tAll (D + 1)).1 n x σ o B (by omega) (dB_all _ (by omega)) h
    · obtain ⟨u, v, rfl⟩ : ∃ u v, as = [u, v] := by
        match as, hl with
        | [u, v], _ => exact ⟨u, v, rfl⟩
      have g1 : u = .ref 8 := dL.h hA (0, 8) rfl
      obtain ⟨x, g2⟩ : ∃ x, v = .int x := dL.h (dL.t hA) (4, 0) rfl
      subst g1 g2
      exact (tAll (D + 1)).2.1 n x σ o B (by omega) (dB_all _ (by omega)) h
    · obtain ⟨u, rfl⟩ : ∃ u, as = [u] := by
        match as, hl with
        | [u], _ => exact ⟨u, rfl⟩
      have g1 : u = .ref 8 := dL.h hA (0, 8) rfl
      subst g1
      exact (tAll (D + 1)).2.2.2 n σ o B (by omega) (dB_all _ (by omega)) h
    · obtain ⟨u, v, w, y, z, rfl⟩ : ∃ u v w y z, as = [u, v, w, y, z] := by
        match as, hl with
        | [u, v, w, y, z], _ => exact ⟨u, v, w, y, z, rfl⟩
      have g1 : u = .ref 8 := dL.h hA (0, 8) rfl
      obtain ⟨x2, g2⟩ : ∃ x, v = .int x := dL.h (dL.t hA) (4, 0) rfl
      obtain ⟨x3, g3⟩ : ∃ x, w = .long x := dL.h (dL.t (dL.t hA)) (5, 0) rfl
      obtain ⟨x4, g4⟩ : ∃ x, y = .int x := dL.h (dL.t (dL.t (dL.t hA))) (4, 0) rfl
      obtain ⟨x5, g5⟩ : ∃ x, z = .int x := dL.h (dL.t (dL.t (dL.t (dL.t hA)))) (4, 0) rfl
      subst g1 g2 g3 g4 g5
      exact (uAll (D + 1)).2 n _ _ _ _ σ o B (fun p d m _ => by have := uX_le d m; omega) (by omega) h
    · obtain ⟨u, v, rfl⟩ : ∃ u v, as = [u, v] := by
        match as, hl with
        | [u, v], _ => exact ⟨u, v, rfl⟩
      have g1 : u = .ref 8 := dL.h hA (0, 8) rfl
      obtain ⟨x, g2⟩ : ∃ x, v = .int x := dL.h (dL.t hA) (4, 0) rfl
      subst g1 g2
      exact (tAll (D + 1)).2.2.1 n x σ o B (by omega) (dB_all _ (by omega)) h
    · exact tab ⟨_, rfl⟩
    · exact tab ⟨_, rfl⟩
    · exact tab ⟨_, rfl⟩
    · exact tab ⟨_, rfl⟩
    · exact tab ⟨_, rfl⟩
    · exact tab ⟨_, rfl⟩
    · exact tab ⟨_, rfl⟩
    · exact tab ⟨_, rfl⟩
    · exact tab ⟨_, rfl⟩
    · exact tab ⟨_, rfl⟩
/-- a method all of whose calls are bounded -/
def tpi (ok : Nat → Nat → Nat → Bool) (mr : List (Nat × Nat × Nat × Nat × Nat)) (ins : Instr) : Bool := match ins with
  | .invokevirtual ix => (match lj_find mr ix with
    | none => true
    | some (id, n, _, rc) => ok id n rc || (match lj_find lc_rk id with
      | some r => Nat.ble r 8
      | none => false))
  | .invokestatic ix => (match lj_find mr ix with
    | none => true
    | some (id, n, _, rc) => ok id n rc || (match lj_find lc_rk id with
      | some r => Nat.ble r 8
      | none => false))
  | _ => true
theorem tp_run {id nL : Nat} {M : lj_M} (hP : lc_P.2.2.2 id = some (nL, M)) {ok : Nat → Nat → Nat → Bool} (hk : (M.1.all fun z => tpi ok M.2.2.2.1 z.2.1) = true) {D n B : Nat} {as : List Value} {σ : lj_S} {o : lj_O} (hB : 8 ≤ B) (hok : ∀ id' k rc a τ q, ok id' k rc = true → lj_rc lc_ds rc a = true → a.length = k → lj_run lc_P D n id' a τ = some q → lj_run lc_P B n id' a τ = some q) (h : lj_run lc_P (D + 1) n id as σ = some o) : lj_run lc_P (B + 1) n id as σ = some o := by
  rw [lc_run_eq hP] at h ⊢
  cases hw : lj_may lc_P id as nL σ with
  | false => rw [hw] at h; cases h
  | true =>
    rw [hw] at h
    simp only [cond_true] at h ⊢
    refine lj_exec_on ?_ n 0 (lj_loc nL as) [] σ o h
    intro pc ins len ix id' n' t rc e1 e2 e3 a σ' hrc hl o' h'
    have hz := List.all_eq_true.mp hk _ (lj_find_in M.1 pc _ e1)
    have hz : (ok id' n' rc || (match lj_find lc_rk id' with
      | some r => Nat.ble r 8
      | none => false)) = true := by
      rcases e2 with rfl | rfl
      · have hz : tpi ok M.2.2.2.1 (.invokevirtual ix) = true := hz
        unfold tpi at hz
        dsimp only at hz
        rw [e3] at hz
        exact hz
      · have hz : tpi ok M.2.2.2.1 (.invokestatic ix) = true := hz
        unfold tpi at hz
        dsimp only at hz
        rw [e3] at hz
        exact hz
    rw [Bool.or_eq_true] at hz
    rcases hz with h1 | h1
    · exact hok _ _ _ _ _ _ h1 hrc hl h'
    · split at h1
      · rename_i r e
        exact rk8_run e (Nat.le_of_ble_eq_true h1) hB _ h'
      · cases h1
theorem one8 {a : List Value} (hrc : lj_rc lc_ds 9 a = true) (hl : a.length = 1) : a = [.ref 8] := by
  obtain ⟨rest, rfl⟩ := rc_cell (ci := 8) (by decide) hrc
  have : rest = [] := List.eq_nil_of_length_eq_zero (by simpa using hl)
  rw [this]
theorem dep_mono {D n id B B' : Nat} {as : List Value} {σ : lj_S} {o : lj_O} (hB : B ≤ B') (h : lj_run lc_P B n id as σ = some o) : lj_run lc_P B' n id as σ = some o := lj_run_deep B B' n n hB (Nat.le_refl _) id as σ o h
def okt (l : List Nat) (id n rc : Nat) : Bool := lj_mem l id && (Nat.beq n 1 && Nat.beq rc 9)
def okw (l : List Nat) (id _n _rc : Nat) : Bool := lj_mem l id
set_option maxRecDepth 100000 in
theorem dep220 {D n : Nat} {as : List Value} {σ : lj_S} {o : lj_O} (h : lj_run lc_P D n 220 as σ = some o) : lj_run lc_P 681 n 220 as σ = some o := by
  cases D with
  | zero => cases h
  | succ D =>
    refine tp_run (id := 220) (M := lc_M220) rfl (ok := okt [221]) (by decide +kernel) (B := 680) (by decide) (fun id' k rc a τ q h1 hrc hl hq => ?_) h
    unfold okt at h1
    rw [Bool.and_eq_true, Bool.and_eq_true, lj_mem_iff] at h1
    obtain ⟨g1, g2, g3⟩ := h1
    have g1 : id' = 221 := by simpa using g1
    have g2 := Nat.eq_of_beq_eq_true g2
    have g3 := Nat.eq_of_beq_eq_true g3
    subst g1 g2 g3
    rw [one8 hrc hl] at hq ⊢
    exact a_run D n 221 _ _ _ τ q _ rfl rfl (dL.c (fun q e => by cases e; rfl) dL_nil) (by decide) hq
set_option maxRecDepth 100000 in
theorem dep138 {D n : Nat} {as : List Value} {σ : lj_S} {o : lj_O} (h : lj_run lc_P D n 138 as σ = some o) : lj_run lc_P 1865 n 138 as σ = some o := by
  cases D with
  | zero => cases h
  | succ D =>
    refine tp_run (id := 138) (M := lc_M138) rfl (ok := fun id n rc => okt [139] id n rc || okw [220] id n rc) (by decide +kernel) (B := 1864) (by decide) (fun id' k rc a τ q h1 hrc hl hq => ?_) h
    rw [Bool.or_eq_true] at h1
    rcases h1 with h1 | h1
    · unfold okt at h1
      rw [Bool.and_eq_true, Bool.and_eq_true, lj_mem_iff] at h1
      obtain ⟨g1, g2, g3⟩ := h1
      have g1 : id' = 139 := by simpa using g1
      have g2 := Nat.eq_of_beq_eq_true g2
      have g3 := Nat.eq_of_beq_eq_true g3
      subst g1 g2 g3
      rw [one8 hrc hl] at hq ⊢
      exact a_run D n 139 _ _ _ τ q _ rfl rfl (dL.c (fun q e => by cases e; rfl) dL_nil) (by decide) hq
    · unfold okw at h1
      rw [lj_mem_iff] at h1
      have g1 : id' = 220 := by simpa using h1
      subst g1
      exact dep_mono (D := 0) (by decide) (dep220 hq)
set_option maxRecDepth 100000 in
theorem dep128 {D n : Nat} {as : List Value} {σ : lj_S} {o : lj_O} (h : lj_run lc_P D n 128 as σ = some o) : lj_run lc_P 1866 n 128 as σ = some o := by
  cases D with
  | zero => cases h
  | succ D =>
    refine tp_run (id := 128) (M := lc_M128) rfl (ok := okw [138]) (by decide +kernel) (B := 1865) (by decide) (fun id' k rc a τ q h1 hrc hl hq => ?_) h
    unfold okw at h1
    rw [lj_mem_iff] at h1
    have g1 : id' = 138 := by simpa using h1
    subst g1
    exact dep138 hq
set_option maxRecDepth 100000 in
theorem dep11 {D n : Nat} {as : List Value} {σ : lj_S} {o : lj_O} (h : lj_run lc_P D n 11 as σ = some o) : lj_run lc_P 1867 n 11 as σ = some o := by
  cases D with
  | zero => cases h
  | succ D =>
    refine tp_run (id := 11) (M := lc_M11) rfl (ok := okw [128]) (by decide +kernel) (B := 1866) (by decide) (fun id' k rc a τ q h1 hrc hl hq => ?_) h
    unfold okw at h1
    rw [lj_mem_iff] at h1
    have g1 : id' = 128 := by simpa using h1
    subst g1
    exact dep128 hq
/-- HOW DEEP THE COMPONENT's METHODS CALL: the public ones, and all that call in no circle -/
theorem dep_pub {D n id : Nat} {as : List Value} {σ : lj_S} {o : lj_O} (hid : id = 2 ∨ id = 11 ∨ ∃ r, lj_find lc_rk id = some r ∧ r ≤ 8) (h : lj_run lc_P D n id as σ = some o) : lj_run lc_P 1900 n id as σ = some o := by
  rcases hid with rfl | rfl | ⟨r, h1, h2⟩
  · exact dep2 (by decide) h
  · exact dep_mono (D := 0) (by decide) (dep11 h)
  · exact rk8_run h1 h2 (by decide) _ h
theorem dep_mod {D n id r : Nat} {as : List Value} {σ : lj_S} {o : lj_O} (hr : lj_find lm_rk id = some r) (h : lj_run lm_P D n id as σ = some o) (hB : r ≤ 1900) : lj_run lm_P 1900 n id as σ = some o := rk_run lm_rk_ok D n r id as σ o 1900 hr hB h
