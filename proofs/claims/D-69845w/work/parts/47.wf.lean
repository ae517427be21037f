/-! DEPTH OF CALLS: ranks; methods that leave guarded places alone -/
/-- what is known of a value: n0 the number of the store, ρ the given ones -/
def pvG (n0 : Int32) (ρ : Int → Int32) (q : Nat × Int) (v : Value) : Prop := match q.1 with
  | 0 => v = .ref q.2.toNat
  | 1 => v = .int (ρ q.2)
  | 2 => v = .int (n0 + Int32.ofInt q.2)
  | 3 => v = .int (Int32.ofInt q.2)
  | 4 => ∃ x, v = .int x
  | 5 => ∃ x, v = .long x
  | _ => False
theorem pvG_P (n0 : Int32) (ρ : Int → Int32) : dP (pvG n0 ρ) := by
  refine ⟨fun z v => Iff.rfl, ?_, fun z x => ⟨x, rfl⟩, fun z v => Iff.rfl, ?_, fun z v => Iff.rfl⟩
  · rintro ⟨a, z⟩ v h0 h5 h
    unfold pvG at h
    split at h
    · rename_i e; exact absurd e h0
    · exact ⟨_, h⟩
    · exact ⟨_, h⟩
    · exact ⟨_, h⟩
    · exact h
    · rename_i e; exact absurd e h5
    · exact h.elim
  · intro a b x h
    have h : Value.int x = .int (n0 + Int32.ofInt a) := h
    show Value.int (x - Int32.ofInt b) = .int (n0 + Int32.ofInt (a - b))
    cases h
    rw [Int32.ofInt_sub]
    congr 1
    rw [Int32.sub_eq_add_neg, Int32.sub_eq_add_neg, Int32.add_assoc]
/-- the receiver: 0 none, k + 1 the cell k -/
def rcd (r : Nat) : List dv := match r with
  | 0 => []
  | k + 1 => [some (0, (k : Int))]
def rco (r : Nat) (as : List Value) : Prop := match r with
  | 0 => True
  | k + 1 => ∃ rest, as = .ref k :: rest
theorem rcd_ok {pv : Nat × Int → Value → Prop} (hp : dP pv) {r : Nat} {A : List dv} {as : List Value} (h : dle (rcd r) A = true) (hA : dL pv A as) : rco r as := by
  cases r with
  | zero => trivial
  | succ k =>
    have h1 := dle_ok hp.h4 _ _ _ h hA
    cases as with
    | nil => exact absurd h1.1 (by simp [rcd])
    | cons v rest =>
      have h2 := (hp.1 _ _).1 (dL.h h1 (0, (k : Int)) rfl)
      exact ⟨rest, by rw [h2]; simp⟩
theorem rcd_loc {pv : Nat × Int → Value → Prop} (hp : dP pv) {r nL : Nat} {as : List Value} (h : rco r as) (hw : Nat.ble (lj_w as) nL = true) : dL (pvl pv) (rcd r) (lj_loc nL as) := by
  cases r with
  | zero => exact dL_nil
  | succ k =>
    obtain ⟨rest, rfl⟩ := h
    have hw := Nat.le_of_ble_eq_true hw
    have h1 : lj_w (Value.ref k :: rest) = 1 + lj_w rest := rfl
    have hd : dm (pvl pv) (some (0, (k : Int))) (Value.ref k) := fun q e => by cases e; exact ⟨fun e => (by cases e), (hp.1 _ _).2 (by simp)⟩
    match nL, hw with
    | 0, hw => exact absurd hw (by omega)
    | 1, _ => exact dL.c hd dL_nil
    | n + 2, _ => exact dL.c hd dL_nil
def wfn (wf : List (Nat × Nat × List (Nat × Nat × List dv × List dv))) (f id : Nat) (A : List dv) : Option Nat := match lj_find wf id with
  | some (r, _) => bif dle (rcd r) A then some f else none
  | none => none
def wfx (P : lj_P) (M : lj_M) (zp : Nat → Nat → Bool) (za : Nat → Bool) (wf : List (Nat × Nat × List (Nat × Nat × List dv × List dv))) (tb : List (Nat × Nat × List dv × List dv)) (pc f : Nat) (L st : List dv) : Bool :=
  anx P.1 M (fun _ _ _ => none) (fun f k j _ => bif zp k j then none else some f) (fun f k => bif za k then none else some f) (wfn wf) (fun _ => true) tb 4000 pc f L st
def wfOK (P : lj_P) (zp : Nat → Nat → Bool) (za : Nat → Bool) (wf : List (Nat × Nat × List (Nat × Nat × List dv × List dv))) : Bool := wf.all fun q => match P.2.2.2 q.1 with
  | none => true
  | some (_, M) => M.2.2.2.2.2.1.isEmpty && (wfx P M zp za wf q.2.2 0 0 (rcd q.2.1) [] && q.2.2.all fun z => wfx P M zp za wf q.2.2 z.1 z.2.1 z.2.2.1 z.2.2.2)
/-- guarded places -/
def zRel (zp : Nat → Nat → Bool) (σ0 : lj_S) (_f : Nat) (σ : lj_S) : Prop := ∀ k i, zp k i = true → σ.1 k i = σ0.1 k i ∧ σ.2 k i = σ0.2 k i
theorem zRel_X {pv : Nat × Int → Value → Prop} {zp : Nat → Nat → Bool} {za : Nat → Bool} (hz : ∀ k i, zp k i = true → za k = true) (σ0 : lj_S) : dX pv (zRel zp σ0) (fun _ _ _ => none) (fun f k j _ => bif zp k j then none else some f) (fun f k => bif za k then none else some f) := by
  refine ⟨fun f k j q σ h => (by cases h), fun f k j a f' σ h hR => ?_, fun f k f' σ h hR => ?_⟩
  · dsimp only at h
    cases hb : zp k j with
    | true => rw [hb] at h; cases h
    | false =>
      refine ⟨fun v _ k' i' hz' => ⟨?_, (hR k' i' hz').2⟩, fun v _ k' i' hz' => ⟨(hR k' i' hz').1, ?_⟩⟩
      · rw [← (hR k' i' hz').1]
        unfold lj_put upd
        dsimp only
        by_cases h1 : k' = k
        · subst h1
          rw [if_pos rfl]
          by_cases h2 : i' = j
          · subst h2; rw [hz'] at hb; cases hb
          · rw [if_neg h2]
        · rw [if_neg h1]
      · rw [← (hR k' i' hz').2]
        unfold lj_putL vp_updL
        dsimp only
        by_cases h1 : k' = k
        · subst h1
          rw [if_pos rfl]
          by_cases h2 : i' = j
          · subst h2; rw [hz'] at hb; cases hb
          · rw [if_neg h2]
        · rw [if_neg h1]
  · dsimp only at h
    cases hb : za k with
    | true => rw [hb] at h; cases h
    | false =>
      refine ⟨fun i v k' i' hz' => ⟨?_, (hR k' i' hz').2⟩, fun i v k' i' hz' => ⟨(hR k' i' hz').1, ?_⟩⟩
      · rw [← (hR k' i' hz').1]
        unfold lj_put
        dsimp only
        by_cases h1 : k' = k
        · subst h1; rw [hz k' i' hz'] at hb; cases hb
        · rw [if_neg h1]
      · rw [← (hR k' i' hz').2]
        unfold lj_putL
        dsimp only
        by_cases h1 : k' = k
        · subst h1; rw [hz k' i' hz'] at hb; cases hb
        · rw [if_neg h1]
theorem wf_run {P : lj_P} {zp : Nat → Nat → Bool} {za : Nat → Bool} {wf : List (Nat × Nat × List (Nat × Nat × List dv × List dv))} (hk : wfOK P zp za wf = true) (hz : ∀ k i, zp k i = true → za k = true) (hpr : ∀ id as σ o, P.2.2.1 id as σ = some o → o.2 = σ) :
    ∀ (D n id r : Nat) (tb : List (Nat × Nat × List dv × List dv)) (as : List Value) (σ : lj_S) (o : lj_O), lj_find wf id = some (r, tb) → rco r as → lj_run P D n id as σ = some o → ∀ v, o.1 = .inl v → ∀ k i, zp k i = true → o.2.1 k i = σ.1 k i ∧ o.2.2 k i = σ.2 k i
  | 0, _, _, _, _, _, _, _, _, _, h => by cases h
  | D + 1, n, id, r, tb, as, σ, o, hr, ha, h => by
    have hq := List.all_eq_true.mp hk _ (lj_find_in wf id _ hr)
    dsimp only at hq
    unfold lj_run at h
    cases hP : P.2.2.2 id with
    | none =>
      rw [hP] at h
      intro v _ k i _
      rw [hpr _ _ _ _ h]; exact ⟨rfl, rfl⟩
    | some z =>
      obtain ⟨nL, M⟩ := z
      rw [hP] at h hq
      dsimp only at h hq
      rw [Bool.and_eq_true, Bool.and_eq_true] at hq
      cases hw : lj_may P id as nL σ with
      | false => rw [hw] at h; cases h
      | true =>
        rw [hw] at h
        have hp := pvG_P 0 (fun _ => 0)
        have hd : M.2.2.2.2.2.1 = [] := List.isEmpty_iff.mp hq.1
        have hY : dY (pvG 0 (fun _ => 0)) (zRel zp σ) (wfn wf) (lj_run P D n) (lj_run P D n) := by
          intro f id' A f' as' σ' o' hn hl hA hR hc
          unfold wfn at hn
          cases hf : lj_find wf id' with
          | none => rw [hf] at hn; cases hn
          | some z =>
            obtain ⟨r', tb'⟩ := z
            rw [hf] at hn
            dsimp only at hn
            cases hb : dle (rcd r') A with
            | false => rw [hb] at hn; cases hn
            | true =>
              refine ⟨hc, fun v hv k i hki => ?_⟩
              obtain ⟨g1, g2⟩ := wf_run hk hz hpr D n id' r' tb' as' σ' o' hf (rcd_ok hp hb hA) hc v hv k i hki
              exact ⟨g1.trans (hR k i hki).1, g2.trans (hR k i hki).2⟩
        have hf := (an_exec (rt := fun _ => true) (tb := tb) hp (zRel_X hz σ) hY hd hq.2.2 n 0 0 (rcd r) [] (lj_loc nL as) [] σ o hq.2.1 (rcd_loc hp ha (lj_may_w hw)) dL_nil (fun k i _ => ⟨rfl, rfl⟩) h).2
        intro v hv
        obtain ⟨f, -, h2⟩ := hf v hv
        exact h2
theorem lc_prim_st (id : Nat) (as : List Value) (σ : lj_S) (o : lj_O) (h : lc_P.2.2.1 id as σ = some o) : o.2 = σ := by
  have h : lc_prim id as σ = some o := h
  unfold lc_prim at h
  repeat' split at h
  all_goals first | (cases h; rfl) | cases h
def lc_rk : List (Nat × Nat) := [(0, 3), (1, 2), (3, 1), (4, 1), (5, 1), (6, 1), (7, 3), (8, 2), (9, 2), (10, 6), (12, 2), (13, 1), (14, 2), (15, 2), (16, 2), (17, 5), (18, 2), (19, 1), (20, 1), (21, 1), (22, 1), (23, 1), (24, 3), (25, 2), (26, 1), (27, 1), (28, 3), (29, 2), (30, 3), (31, 1), (32, 1), (33, 2), (34, 2), (35, 3), (36, 2), (37, 1), (38, 2), (39, 5), (40, 2), (41, 1), (42, 1), (43, 2), (44, 4), (45, 2), (46, 2), (47, 4), (48, 3), (49, 4), (50, 3), (51, 3), (52, 1), (53, 1), (54, 2), (55, 1), (56, 1), (57, 1), (59, 1), (62, 2), (63, 1), (65, 2), (66, 3), (67, 3), (69, 3), (70, 2), (71, 4), (76, 2), (77, 1), (78, 3), (80, 1), (82, 2), (83, 2), (84, 4), (88, 5), (89, 1), (90, 4), (91, 1), (92, 3), (93, 2), (96, 1), (98, 1), (99, 2), (104, 2), (107, 3), (109, 4), (111, 2), (112, 1), (113, 3), (114, 2), (115, 1), (116, 2), (117, 3), (118, 4), (119, 4), (120, 3), (121, 2), (122, 1), (123, 5), (124, 4), (125, 2), (126, 5), (127, 4), (129, 2), (130, 1), (131, 8), (132, 7), (133, 6), (134, 3), (135, 5), (136, 4), (137, 1), (140, 1), (141, 1), (143, 1), (145, 2), (146, 1), (147, 2), (149, 3), (150, 2), (151, 1), (152, 1), (154, 1), (156, 6), (157, 3), (158, 1), (160, 5), (161, 1), (162, 4), (163, 1), (165, 1), (167, 8), (168, 7), (169, 6), (171, 1), (173, 1), (176, 2), (177, 1), (178, 5), (179, 4), (180, 3), (181, 6), (182, 5), (183, 4), (184, 2), (185, 3), (186, 5), (191, 1), (192, 7), (198, 3), (200, 1), (204, 1), (205, 2), (206, 1), (207, 7), (208, 3), (212, 1), (214, 7), (215, 1), (218, 1), (219, 7), (222, 1), (223, 1), (224, 1), (225, 1), (226, 1), (227, 1), (228, 1), (900, 1), (901, 1), (909, 1), (910, 1), (911, 1)]
set_option maxRecDepth 100000 in
theorem lc_rk_ok : rkOK lc_P lc_rk = true := by decide +kernel
def lm_rk : List (Nat × Nat) := [(0, 5), (1, 3), (2, 1), (3, 2), (4, 1), (5, 4), (6, 4), (7, 1), (8, 1), (9, 1), (10, 9), (11, 1), (12, 4), (13, 2), (14, 1), (15, 1), (16, 3), (17, 1), (18, 2), (19, 1), (20, 3), (21, 2), (22, 3), (23, 2), (24, 2), (25, 1), (26, 1), (27, 8), (28, 1), (29, 1), (30, 7), (31, 6), (32, 1), (33, 2), (34, 1), (35, 1), (36, 2), (37, 1), (38, 2), (39, 1), (40, 2), (41, 2), (42, 5), (43, 2), (44, 1), (45, 1), (46, 4), (47, 2), (48, 2), (49, 3), (50, 4), (51, 3), (52, 2), (53, 2), (54, 3), (55, 1), (56, 2), (57, 2), (58, 2), (59, 5), (60, 4), (61, 3), (62, 3), (63, 3), (64, 2), (65, 1), (66, 2), (67, 2), (68, 1), (69, 4), (70, 5), (71, 2), (72, 4), (73, 4), (74, 3), (75, 4), (76, 3), (77, 2), (78, 3), (79, 3), (80, 3), (81, 2), (82, 3), (83, 5), (84, 4), (85, 4), (86, 6), (87, 3), (88, 2), (89, 4), (90, 5), (91, 4), (92, 4), (93, 4), (94, 2), (95, 4), (96, 3), (97, 4), (98, 5), (99, 4), (100, 4), (101, 4), (102, 4), (103, 3), (104, 2), (105, 5), (106, 2), (107, 4), (108, 3), (109, 2), (110, 1), (111, 1), (112, 1), (113, 3), (114, 2), (115, 1), (116, 1), (117, 1), (118, 1), (119, 6), (120, 13), (121, 9), (122, 1), (123, 3), (124, 1), (125, 1), (126, 1), (127, 8), (128, 2), (129, 6), (130, 4), (131, 5), (132, 3), (133, 2), (134, 1), (135, 2), (136, 1), (137, 1), (138, 4), (139, 3), (140, 1), (141, 1), (142, 5), (143, 7), (144, 1), (145, 6), (146, 1), (147, 1), (148, 6), (149, 2), (150, 3), (151, 1), (152, 2), (153, 7), (154, 6), (155, 4), (156, 2), (157, 6), (158, 2), (159, 1), (160, 1), (161, 5), (162, 6), (163, 3), (164, 2), (165, 6), (166, 4), (167, 6), (168, 6), (169, 1), (170, 3), (171, 2), (172, 6), (173, 2), (174, 2), (175, 2), (176, 4), (177, 1), (178, 4), (179, 3), (180, 2), (181, 1), (182, 1), (183, 4), (184, 1), (185, 12), (186, 6), (187, 11), (188, 4), (189, 1), (190, 1), (191, 1), (192, 1), (193, 5), (194, 4), (195, 1), (196, 2), (197, 7), (198, 6), (199, 5), (200, 7), (201, 7), (202, 7), (203, 6), (204, 2), (205, 6), (206, 10), (207, 9), (208, 6), (209, 5), (210, 1), (211, 2), (212, 8), (213, 2), (214, 7), (215, 6), (216, 1), (217, 6), (218, 9), (219, 3), (220, 2), (221, 8), (222, 7), (223, 7), (224, 7), (225, 4), (226, 7), (227, 7), (228, 7), (229, 6), (230, 7), (231, 6), (232, 7), (233, 1), (234, 1), (235, 6), (236, 7), (237, 5), (238, 1), (239, 1), (240, 2), (241, 1), (242, 2), (243, 1), (244, 1), (245, 2), (246, 1), (247, 1), (248, 2), (249, 1), (250, 5), (251, 2)]
set_option maxRecDepth 100000 in
theorem lm_rk_ok : rkOK lm_P lm_rk = true := by decide +kernel
/-- the parser's guarded place: how deep it is -/
def zpJ (k i : Nat) : Bool := Nat.beq k 6 && Nat.beq i 1
def zaJ (k : Nat) : Bool := Nat.beq k 6
def wJ : List (Nat × Nat × List (Nat × Nat × List dv × List dv)) := [(19, 2, []),
  (54, 6, []),
  (55, 6, []),
  (56, 6, []),
  (57, 6, [(22, 0, [some (0, 5)], []), (45, 0, [some (0, 5)], [])]),
  (59, 7, [(35, 0, [some (0, 6)], [some (4, 0), some (4, 0), some (0, 43)])]),
  (62, 7, [(39, 0, [some (0, 6)], []), (44, 0, [some (0, 6)], [some (4, 0)])]),
  (63, 7, []),
  (65, 7, [(20, 0, [some (0, 6)], [some (4, 0), some (0, 1)])]),
  (67, 7, []),
  (69, 7, [(5, 0, [some (0, 6)], [])]),
  (70, 7, [(57, 0, [some (0, 6)], [])]),
  (71, 7, []),
  (76, 7, [(86, 0, [some (0, 6)], []), (91, 0, [some (0, 6)], [some (4, 0)])]),
  (77, 7, []),
  (78, 7, [(127, 0, [some (0, 6)], []), (145, 0, [some (0, 6)], [])]),
  (80, 7, []),
  (82, 7, []),
  (83, 7, []),
  (84, 7, []),
  (88, 7, [(41, 0, [some (0, 6)], [some (4, 0), some (0, 6)]), (64, 0, [some (0, 6)], [some (4, 0)]), (79, 0, [some (0, 6)], [some (4, 0), some (0, 6)])]),
  (89, 7, [(9, 0, [some (0, 6)], [])]),
  (90, 7, [(11, 0, [some (0, 6)], []), (61, 0, [some (0, 6)], []), (83, 0, [some (0, 6)], []), (86, 0, [some (0, 6)], []), (98, 0, [some (0, 6)], []), (101, 0, [some (0, 6)], []), (110, 0, [some (0, 6)], [])]),
  (91, 7, [(2, 0, [some (0, 6)], [])]),
  (92, 7, []),
  (93, 7, [(26, 0, [some (0, 6)], []), (31, 0, [some (0, 6)], [some (4, 0)])]),
  (96, 7, [(216, 0, [some (0, 6)], []), (233, 0, [some (0, 6)], []), (243, 0, [some (0, 6)], []), (248, 0, [some (0, 6)], []), (253, 0, [some (0, 6)], []), (254, 0, [some (0, 6)], [some (4, 0)])]),
  (98, 7, []),
  (99, 7, [(0, 0, [some (0, 6)], []), (57, 0, [some (0, 6)], [])]),
  (104, 7, []),
  (107, 7, [(112, 0, [some (0, 6)], [])]),
  (109, 7, [(25, 0, [some (0, 6)], []), (41, 0, [some (0, 6)], [some (4, 0), some (0, 6)])]),
  (223, 0, [(10, 0, [], [some (4, 0)])])]
set_option maxRecDepth 100000 in
theorem wJ_ok : wfOK lc_P zpJ zaJ wJ = true := by decide +kernel
/-- the machine's guarded places: the chain of frames and parts -/
def zaL : List Nat := [64, 83, 84, 86, 87, 90, 91, 98, 102, 103, 105, 106]
def zpM (k i : Nat) : Bool := (Nat.beq k 8 && (Nat.beq i 7 || (Nat.beq i 18 || (Nat.beq i 34 || Nat.beq i 38)))) || (lj_mem zaL k || (Nat.beq k 7 && Nat.beq i 1))
def zaM (k : Nat) : Bool := Nat.beq k 8 || (lj_mem zaL k || Nat.beq k 7)
def wM : List (Nat × Nat × List (Nat × Nat × List dv × List dv)) := [(3, 0, [(17, 0, [], []), (18, 0, [], [some (4, 0)])]),
  (20, 3, []),
  (22, 4, []),
  (23, 4, [(23, 0, [some (0, 3)], [])]),
  (25, 4, [(12, 0, [some (0, 3)], []), (70, 0, [some (0, 3)], [])]),
  (26, 4, [(7, 0, [some (0, 3)], [])]),
  (27, 4, [(18, 0, [some (0, 3)], [some (4, 0)]), (21, 0, [some (0, 3)], []), (60, 0, [some (0, 3)], [some (4, 0)]), (67, 0, [some (0, 3)], [])]),
  (29, 4, [(2, 0, [some (0, 3)], [])]),
  (33, 4, [(12, 0, [some (0, 3)], []), (14, 0, [some (0, 3)], []), (34, 0, [some (0, 3)], []), (43, 0, [some (0, 3)], []), (77, 0, [some (0, 3)], [some (5, 0), some (5, 0), some (0, 3)])]),
  (34, 4, [(10, 0, [some (0, 3)], []), (33, 0, [some (0, 3)], []), (72, 0, [some (0, 3)], []), (73, 0, [some (0, 3)], [some (4, 0)])]),
  (35, 4, [(46, 0, [some (0, 3)], [])]),
  (36, 4, [(2, 0, [some (0, 3)], [])]),
  (37, 4, []),
  (38, 4, [(19, 0, [some (0, 3)], []), (64, 0, [some (0, 3)], [some (4, 0)])]),
  (112, 8, []),
  (113, 8, [(163, 0, [some (0, 7)], []), (181, 0, [some (0, 7)], []), (207, 0, [some (0, 7)], [some (5, 0), some (4, 0), some (0, 69)])]),
  (114, 8, [(14, 0, [some (0, 7)], []), (53, 0, [some (0, 7)], []), (65, 0, [some (0, 7)], [])]),
  (115, 8, []),
  (116, 8, []),
  (117, 8, [(26, 0, [some (0, 7)], [some (4, 0), some (0, 7)]), (46, 0, [some (0, 7)], [some (5, 0), some (0, 7)]), (61, 0, [some (0, 7)], [some (4, 0)])]),
  (118, 8, [(15, 0, [some (0, 7)], [])]),
  (119, 8, [(2, 0, [some (0, 7)], [])]),
  (120, 8, [(10, 0, [some (0, 7)], []), (38, 0, [some (0, 7)], []), (67, 0, [some (0, 7)], []), (110, 0, [some (0, 7)], [])]),
  (121, 8, [(53, 0, [some (0, 7)], [])]),
  (122, 8, []),
  (125, 9, [(5, 0, [some (0, 8)], []), (28, 0, [some (0, 8)], [some (4, 0), some (4, 0)]), (37, 0, [some (0, 8)], [])]),
  (130, 9, []),
  (133, 9, []),
  (134, 9, []),
  (135, 9, []),
  (136, 9, []),
  (137, 9, []),
  (140, 9, []),
  (141, 9, [(45, 0, [some (0, 8)], [some (4, 0), some (0, 7)]), (73, 0, [some (0, 8)], [some (5, 0)])]),
  (143, 9, []),
  (145, 9, []),
  (146, 9, [(15, 0, [some (0, 8)], []), (19, 0, [some (0, 8)], []), (20, 0, [some (0, 8)], [some (4, 0)])]),
  (147, 9, [(11, 0, [some (0, 8)], [some (5, 0), some (3, 1), some (0, 8)])]),
  (150, 9, [(2, 0, [some (0, 8)], [])]),
  (151, 9, [(67, 0, [some (0, 8)], [])]),
  (152, 9, [(5, 0, [some (0, 8)], []), (64, 0, [some (0, 8)], [some (5, 0), some (3, 0), some (0, 108)])]),
  (156, 9, []),
  (157, 9, [(75, 0, [some (0, 8)], [none, some (0, 3)])]),
  (160, 9, [(2, 0, [some (0, 8)], []), (20, 0, [some (0, 8)], []), (48, 0, [some (0, 8)], [])]),
  (161, 9, [(23, 0, [some (0, 8)], []), (43, 0, [some (0, 8)], [some (4, 0), some (4, 0), some (0, 8)])]),
  (162, 9, [(70, 0, [some (0, 8)], [none, some (0, 3)]), (149, 0, [some (0, 8)], []), (160, 0, [some (0, 8)], [])]),
  (163, 9, [(18, 0, [some (0, 8)], [some (4, 0)])]),
  (165, 9, [(18, 0, [some (0, 8)], [some (5, 0)])]),
  (167, 9, [(15, 0, [some (0, 8)], [some (4, 0), some (0, 8)])]),
  (168, 9, []),
  (169, 9, []),
  (171, 9, [(17, 0, [some (0, 8)], []), (18, 0, [some (0, 8)], [some (4, 0)])]),
  (176, 9, [(45, 0, [some (0, 8)], [])]),
  (177, 9, [(16, 0, [some (0, 8)], []), (26, 0, [some (0, 8)], []), (27, 0, [some (0, 8)], [some (4, 0)])]),
  (178, 9, [(25, 0, [some (0, 8)], []), (27, 0, [some (0, 8)], []), (96, 0, [some (0, 8)], [some (4, 0)]), (114, 0, [some (0, 8)], [])]),
  (179, 9, [(31, 0, [some (0, 8)], []), (78, 0, [some (0, 8)], []), (172, 0, [some (0, 8)], [some (4, 0), some (4, 0)]), (193, 0, [some (0, 8)], [])]),
  (180, 9, [(2, 0, [some (0, 8)], [])]),
  (181, 9, [(0, 0, [some (0, 8)], []), (96, 0, [some (0, 8)], []), (98, 0, [some (0, 8)], []), (169, 0, [some (0, 8)], [])]),
  (182, 9, [(33, 0, [some (0, 8)], []), (61, 0, [some (0, 8)], []), (74, 0, [some (0, 8)], []), (130, 0, [some (0, 8)], []), (170, 0, [some (0, 8)], []), (198, 0, [some (0, 8)], [])]),
  (183, 9, [(60, 0, [some (0, 8)], []), (79, 0, [some (0, 8)], []), (135, 0, [some (0, 8)], [some (4, 0), some (4, 0)])]),
  (184, 9, [(23, 0, [some (0, 8)], []), (24, 0, [some (0, 8)], [some (4, 0)])]),
  (185, 9, [(2, 0, [some (0, 8)], [])]),
  (186, 9, [(2, 0, [some (0, 8)], []), (41, 0, [some (0, 8)], [some (4, 0)]), (62, 0, [some (0, 8)], [some (4, 0)]), (64, 0, [some (0, 8)], []), (108, 0, [some (0, 8)], []), (151, 0, [some (0, 8)], []), (155, 0, [some (0, 8)], []), (156, 0, [some (0, 8)], [some (4, 0)]), (207, 0, [some (0, 8)], [])]),
  (191, 9, [(10, 0, [some (0, 8)], []), (15, 0, [some (0, 8)], [some (4, 0)])]),
  (192, 9, []),
  (200, 9, [(102, 0, [some (0, 8)], [])]),
  (204, 9, []),
  (205, 9, [(25, 0, [some (0, 8)], [some (4, 0)]), (42, 0, [some (0, 8)], [some (4, 0)]), (59, 0, [some (0, 8)], [some (5, 0)])]),
  (206, 9, [(28, 0, [some (0, 8)], [])]),
  (207, 9, [(26, 0, [some (0, 8)], []), (58, 0, [some (0, 8)], []), (120, 0, [some (0, 8)], [])]),
  (208, 9, [(49, 0, [some (0, 8)], []), (142, 0, [some (0, 8)], []), (162, 0, [some (0, 8)], [])]),
  (212, 9, [(137, 0, [some (0, 8)], []), (142, 0, [some (0, 8)], []), (147, 0, [some (0, 8)], []), (149, 0, [some (0, 8)], [some (4, 0)])]),
  (214, 9, [(12, 0, [some (0, 8)], []), (29, 0, [some (0, 8)], []), (198, 0, [some (0, 8)], [some (5, 0)])]),
  (215, 9, [(16, 0, [some (0, 8)], []), (36, 0, [some (0, 8)], [some (5, 0)])]),
  (218, 9, []),
  (219, 9, [(13, 0, [some (0, 8)], []), (48, 0, [some (0, 8)], []), (122, 0, [some (0, 8)], [])]),
  (222, 0, [(10, 0, [], [some (4, 0)])]),
  (224, 0, [(11, 0, [], [some (5, 0)])]),
  (225, 0, [(11, 0, [], [some (5, 0)])]),
  (226, 0, [(27, 0, [], [])]),
  (227, 0, [(25, 0, [], [])]),
  (228, 0, [(19, 0, [], [some (4, 0)])]),
  (900, 0, []),
  (901, 0, [])]
set_option maxRecDepth 100000 in
theorem wM_ok : wfOK lc_P zpM zaM wM = true := by decide +kernel
theorem zaJ_ok (k i : Nat) (h : zpJ k i = true) : zaJ k = true := by
  unfold zpJ at h; rw [Bool.and_eq_true] at h; exact h.1
theorem zaM_ok (k i : Nat) (h : zpM k i = true) : zaM k = true := by
  unfold zpM at h; unfold zaM
  rw [Bool.or_eq_true, Bool.or_eq_true, Bool.and_eq_true, Bool.and_eq_true] at h
  rw [Bool.or_eq_true, Bool.or_eq_true]
  rcases h with h | h | h
  · exact Or.inl h.1
  · exact Or.inr (Or.inl h)
  · exact Or.inr (Or.inr h.1)
def rk8 (wf : List (Nat × Nat × List (Nat × Nat × List dv × List dv))) : Bool := wf.all fun q => match lj_find lc_rk q.1 with
  | some r => Nat.ble r 8
  | none => false
theorem wJ_rk : rk8 wJ = true := by decide +kernel
theorem wM_rk : rk8 wM = true := by decide +kernel
theorem wf_deep {wf : List (Nat × Nat × List (Nat × Nat × List dv × List dv))} (hw : rk8 wf = true) {id r : Nat} {tb : List (Nat × Nat × List dv × List dv)} (h : lj_find wf id = some (r, tb)) {D n B : Nat} {as : List Value} {σ : lj_S} {o : lj_O} (hB : 8 ≤ B) (hr : lj_run lc_P D n id as σ = some o) : lj_run lc_P B n id as σ = some o := by
  have hq := List.all_eq_true.mp hw _ (lj_find_in wf id _ h)
  dsimp only at hq
  cases hf : lj_find lc_rk id with
  | none => rw [hf] at hq; cases hq
  | some q =>
    rw [hf] at hq
    have := Nat.le_of_ble_eq_true hq
    exact rk_run lc_rk_ok D n q id as σ o B hf (by omega) hr
