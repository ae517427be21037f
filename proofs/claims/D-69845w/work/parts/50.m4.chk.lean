/-! DEPTH OF CALLS: checks of the machine's methods while a gathering is at work -/
def wTp : List (Nat × List dv × List (Nat × Nat × List dv × List dv)) := [(164, [some (0, 8), some (4, 0), some (4, 0), none, none, some (1, 0)], []),
  (166, [some (0, 8), some (1, 0)], [(41, 0, [some (0, 8), some (1, 0)], [some (4, 0)]), (62, 0, [some (0, 8), some (1, 0)], [some (4, 0)]), (88, 0, [some (0, 8), some (1, 0)], []), (89, 0, [some (0, 8), some (1, 0)], [some (4, 0)]), (101, 0, [some (0, 8), some (1, 0)], [some (4, 0)]), (124, 0, [some (0, 8), some (1, 0)], []), (186, 0, [some (0, 8), some (1, 0)], []), (198, 0, [some (0, 8), some (1, 0)], [some (4, 0), some (3, 0), some (0, 8)]), (220, 0, [some (0, 8), some (1, 0)], [some (5, 0), some (4, 0), some (3, 0), some (0, 8)])]),
  (170, [some (0, 8), some (4, 0), some (4, 0), some (1, 0)], [(56, 0, [some (0, 8), some (4, 0), some (4, 0), some (1, 0)], [some (4, 0), some (0, 8)]), (77, 0, [some (0, 8), some (4, 0), some (4, 0), some (1, 0)], []), (116, 0, [some (0, 8), some (4, 0), some (4, 0), some (1, 0)], []), (195, 0, [some (0, 8), some (4, 0), some (4, 0), some (1, 0)], [])]),
  (172, [some (0, 8), some (4, 0), some (1, 0)], [(27, 0, [some (0, 8), some (4, 0), some (1, 0)], [some (0, 8)]), (32, 0, [some (0, 8), some (4, 0), some (1, 0)], [some (4, 0), some (0, 8)]), (68, 0, [some (0, 8), some (4, 0), some (1, 0)], [some (4, 0), some (4, 0), some (0, 58)]), (137, 0, [some (0, 8), some (4, 0), some (1, 0)], [])]),
  (174, [some (0, 8), some (4, 0), some (1, 0)], [(17, 0, [some (0, 8), some (4, 0), some (1, 0)], [some (4, 0)]), (81, 0, [some (0, 8), some (4, 0), some (1, 0)], []), (117, 0, [some (0, 8), some (4, 0), some (1, 0)], [some (0, 8)]), (118, 0, [some (0, 8), some (4, 0), some (1, 0)], [some (4, 0), some (0, 8)]), (153, 0, [some (0, 8), some (4, 0), some (1, 0)], [some (5, 0)]), (164, 0, [some (0, 8), some (4, 0), some (1, 0)], [])]),
  (188, [some (0, 8), some (4, 0), some (4, 0), some (1, 0)], [(17, 0, [some (0, 8), some (4, 0), some (4, 0), some (1, 0)], [some (0, 8)]), (22, 0, [some (0, 8), some (4, 0), some (4, 0), some (1, 0)], [some (4, 0), some (0, 8)]), (109, 0, [some (0, 8), some (4, 0), some (4, 0), some (1, 0)], [some (0, 8)]), (110, 0, [some (0, 8), some (4, 0), some (4, 0), some (1, 0)], [some (4, 0), some (0, 8)]), (121, 0, [some (0, 8), some (4, 0), some (4, 0), some (1, 0)], []), (220, 0, [some (0, 8), some (4, 0), some (4, 0), some (1, 0)], [])]),
  (189, [some (0, 8), some (4, 0), some (4, 0), some (1, 0)], [(38, 0, [some (0, 8), some (4, 0), some (4, 0), some (1, 0)], []), (70, 0, [some (0, 8), some (4, 0), some (4, 0), some (1, 0)], [some (0, 8)]), (74, 0, [some (0, 8), some (4, 0), some (4, 0), some (1, 0)], [some (0, 8)]), (75, 0, [some (0, 8), some (4, 0), some (4, 0), some (1, 0)], [some (4, 0), some (0, 8)]), (100, 0, [some (0, 8), some (4, 0), some (4, 0), some (1, 0)], [some (5, 0)]), (146, 0, [some (0, 8), some (4, 0), some (4, 0), some (1, 0)], [])]),
  (190, [some (0, 8), some (4, 0), some (4, 0), some (1, 0)], [(16, 0, [some (0, 8), some (4, 0), some (4, 0), some (1, 0)], []), (89, 0, [some (0, 8), some (4, 0), some (4, 0), some (1, 0)], [some (0, 8)]), (94, 0, [some (0, 8), some (4, 0), some (4, 0), some (1, 0)], [some (4, 0), some (0, 8)]), (114, 0, [some (0, 8), some (4, 0), some (4, 0), some (1, 0)], []), (170, 0, [some (0, 8), some (4, 0), some (4, 0), some (1, 0)], []), (219, 0, [some (0, 8), some (4, 0), some (4, 0), some (1, 0)], [])]),
  (193, [some (0, 8), some (1, 0)], [(14, 0, [some (0, 8), some (1, 0)], [])]),
  (194, [some (0, 8), some (4, 0), some (1, 0)], [(15, 0, [some (0, 8), some (4, 0), some (1, 0)], [some (4, 0), some (0, 8)]), (37, 0, [some (0, 8), some (4, 0), some (1, 0)], [some (4, 0), some (0, 8)]), (62, 0, [some (0, 8), some (4, 0), some (1, 0)], [some (0, 8)]), (67, 0, [some (0, 8), some (4, 0), some (1, 0)], [some (4, 0), some (0, 8)]), (124, 0, [some (0, 8), some (4, 0), some (1, 0)], [some (5, 0)]), (167, 0, [some (0, 8), some (4, 0), some (1, 0)], [some (5, 0)]), (200, 0, [some (0, 8), some (4, 0), some (1, 0)], [])]),
  (195, [some (0, 8), some (4, 0), some (1, 0)], [(15, 0, [some (0, 8), some (4, 0), some (1, 0)], [some (4, 0), some (0, 8)]), (37, 0, [some (0, 8), some (4, 0), some (1, 0)], [some (4, 0), some (0, 8)]), (64, 0, [some (0, 8), some (4, 0), some (1, 0)], []), (126, 0, [some (0, 8), some (4, 0), some (1, 0)], [])])]
def wT4 : List (Nat × List dv × List (Nat × Nat × List dv × List dv)) := [(187, [some (0, 8), some (6, 26), some (1, 0), some (4, 0)], [(173, 0, [some (0, 8), some (6, 26), some (1, 0), some (4, 0)], []), (263, 0, [some (0, 8), some (6, 26), some (1, 0), some (4, 0)], [some (4, 0), some (0, 8)]), (287, 0, [some (0, 8), some (6, 26), some (1, 0), some (4, 0)], [some (0, 8)]), (292, 0, [some (0, 8), some (6, 26), some (1, 0), some (4, 0)], [some (4, 0), some (0, 8)]), (323, 0, [some (0, 8), some (6, 26), some (1, 0), some (4, 0)], [some (5, 0)]), (356, 0, [some (0, 8), some (6, 26), some (1, 0), some (4, 0)], [some (5, 0)]), (409, 0, [some (0, 8), some (6, 26), some (1, 0), some (4, 0)], []), (420, 0, [some (0, 8), some (6, 26), some (1, 0), some (4, 0)], []), (460, 0, [some (0, 8), some (6, 26), some (1, 0), some (4, 0)], [some (0, 8)]), (461, 0, [some (0, 8), some (6, 26), some (1, 0), some (4, 0)], [some (4, 0), some (0, 8)]), (489, 0, [some (0, 8), some (6, 26), some (1, 0), some (4, 0)], []), (756, 0, [some (0, 8), some (6, 26), some (1, 0), some (4, 0)], [some (4, 0), some (0, 8)]), (803, 0, [some (0, 8), some (6, 26), some (1, 0), some (4, 0)], [some (4, 0)]), (872, 0, [some (0, 8), some (6, 26), some (1, 0), some (4, 0)], [none, some (0, 3)]), (915, 0, [some (0, 8), some (6, 26), some (1, 0), some (4, 0)], [some (5, 0), some (4, 0), some (6, 26), some (0, 8)]), (919, 1, [some (0, 8), some (6, 26), some (1, 0), some (4, 0)], [])]),
  (159, [some (0, 8), some (6, 14), some (1, 0), some (4, 0)], [(282, 0, [some (0, 8), some (6, 14), some (1, 0), some (4, 0)], []), (312, 0, [some (0, 8), some (6, 14), some (1, 0), some (4, 0)], [some (5, 0), some (3, 5), some (0, 8)]), (334, 0, [some (0, 8), some (6, 14), some (1, 0), some (4, 0)], [some (4, 0), some (0, 8)]), (370, 0, [some (0, 8), some (6, 14), some (1, 0), some (4, 0)], [some (4, 0), some (0, 8)]), (448, 0, [some (0, 8), some (6, 14), some (1, 0), some (4, 0)], []), (537, 0, [some (0, 8), some (6, 14), some (1, 0), some (4, 0)], [some (4, 0), some (0, 8)]), (623, 0, [some (0, 8), some (6, 14), some (1, 0), some (4, 0)], [some (5, 0), some (3, 1), some (6, 14), some (0, 8)]), (649, 0, [some (0, 8), some (6, 14), some (1, 0), some (4, 0)], [some (0, 8)]), (654, 0, [some (0, 8), some (6, 14), some (1, 0), some (4, 0)], [some (4, 0), some (0, 8)]), (709, 0, [some (0, 8), some (6, 14), some (1, 0), some (4, 0)], [some (5, 0), some (3, 2), some (6, 14), some (0, 8)]), (749, 0, [some (0, 8), some (6, 14), some (1, 0), some (4, 0)], []), (750, 0, [some (0, 8), some (6, 14), some (1, 0), some (4, 0)], [some (4, 0)]), (764, 0, [some (0, 8), some (6, 14), some (1, 0), some (4, 0)], [some (4, 0), some (6, 14), some (0, 8)]), (791, 0, [some (0, 8), some (6, 14), some (1, 0), some (4, 0)], [some (5, 0), some (4, 0), some (6, 14), some (0, 8)]), (894, 0, [some (0, 8), some (6, 14), some (1, 0), some (4, 0)], []), (901, 1, [some (0, 8), some (6, 14), some (1, 0), some (4, 0)], [])])]
def wbk (c off c' off' : Nat) : Bool := (Nat.beq c c' && Nat.blt off' off) || (Nat.beq c 1 && (Nat.beq c' 0 && Nat.blt off' (off + 30)))
def wnx (t4 : Bool) (c off f id : Nat) (A : List dv) : Option Nat := bif Nat.beq f 0 then (match lj_find mWp id with
  | some (pat, c', off') => bif Nat.beq A.length pat.length && (dle pat A && (wbk c off c' off' && ((Nat.blt id 155 || (Nat.blt 159 id && (!(Nat.beq id 187) && !(Nat.beq id 196)))) || (t4 && (Nat.beq id 187 || Nat.beq id 196))))) then some 1 else none
  | none => wfn wM 0 id A) else none
def wpx (f k j : Nat) (_a : dv) : Option Nat := bif zpM k j then none else some f
def wax (f k : Nat) (_ia _va : dv) : Option Nat := bif zaM k then none else some f
def wx (t4 : Bool) (M : lj_M) (c off : Nat) (tb : List (Nat × Nat × List dv × List dv)) (pc f : Nat) (L st : List dv) : Bool := bnx lc_P.1 M (fun _ _ _ => none) wpx (fun _ _ _ => none) wax (wnx t4 c off) (fun _ => true) tb 4000 pc f L st
def wOK (t4 : Bool) (T : List (Nat × List dv × List (Nat × Nat × List dv × List dv))) : Bool := T.all fun q => match lc_P.2.2.2 q.1, lj_find mWp q.1 with
  | some (_, M), some (_, c, off) => M.2.2.2.2.2.1.isEmpty && (wx t4 M c off q.2.2 0 0 q.2.1 [] && q.2.2.all fun z => wx t4 M c off q.2.2 z.1 z.2.1 z.2.2.1 z.2.2.2)
  | _, _ => false
set_option maxRecDepth 100000 in
theorem wT_ok : wOK false wTp = true := by decide +kernel
set_option maxRecDepth 100000 in
theorem wT4_ok : wOK true wT4 = true := by decide +kernel
def zRl (zp : Nat → Nat → Bool) (σ0 σ : lj_S) : Prop := ∀ k i, zp k i = true → σ.1 k i = σ0.1 k i ∧ σ.2 k i = σ0.2 k i
theorem zRl.z {σ0 σ : lj_S} (h : zRl zpM σ0 σ) : zS σ0 σ := fun k i q => (h k i (zpCM k i q)).1
def wR (p e : Nat) (σ0 : lj_S) (f : Nat) (σ : lj_S) : Prop := (f = 0 ∧ zRl zpM σ0 σ) ∨ (f = 1 ∧ pW p e σ0 σ)
theorem zRl_put {σ0 σ : lj_S} (h : zRl zpM σ0 σ) {k j : Nat} (q : zpM k j = false) (v : Int32) : zRl zpM σ0 (lj_put σ k j v) := fun k' i' z => ⟨by rw [lj_put_1, if_neg (fun e => by rw [e.1, e.2, q] at z; cases z)]; exact (h k' i' z).1, (h k' i' z).2⟩
theorem zRl_putL {σ0 σ : lj_S} (h : zRl zpM σ0 σ) {k j : Nat} (q : zpM k j = false) (v : Int64) : zRl zpM σ0 (lj_putL σ k j v) := fun k' i' z => ⟨(h k' i' z).1, by rw [lj_putL_2, if_neg (fun e => by rw [e.1, e.2, q] at z; cases z)]; exact (h k' i' z).2⟩
theorem zaM_n {k : Nat} (q : zaM k = false) (i : Nat) : zpM k i = false := by
  cases h : zpM k i with
  | false => rfl
  | true => rw [zaM_ok k i h] at q; cases q
theorem pW_put {p e : Nat} {σ0 σ : lj_S} (h : pW p e σ0 σ) {k j : Nat} (q : zpM k j = false) (v : Int32) : pW p e σ0 (lj_put σ k j v) := by
  have n : ∀ k' i', zpC k' i' = true → (lj_put σ k j v).1 k' i' = σ.1 k' i' := fun k' i' z => by
    rw [lj_put_1, if_neg (fun e => by rw [← e.1, ← e.2, zpCM _ _ z] at q; cases q)]
  refine ⟨fun k' i' z a => (n k' i' z).trans (h.1 k' i' z a), fun z => ?_⟩
  rw [n 103 _ rfl] at z
  rw [n 90 p rfl, n 8 34 rfl]
  exact h.2 z
theorem wR_X {pv : Nat × Int → Value → Prop} (p e : Nat) (σ0 : lj_S) : eX pv (wR p e σ0) (fun _ _ _ => none) wpx (fun _ _ _ => none) wax := by
  refine ⟨fun f k j q σ h => (by cases h), fun f k j a f' σ h hR => ?_, fun f k a q σ i h => (by cases h), fun f k ia va f' σ i h hR _ => ?_⟩
  · unfold wpx at h
    cases hb : zpM k j with
    | true => rw [hb] at h; cases h
    | false =>
      rw [hb] at h; cases h
      rcases hR with ⟨h0, h1⟩ | ⟨h0, h1⟩
      · exact ⟨fun v _ => Or.inl ⟨h0, zRl_put h1 hb v⟩, fun v _ => Or.inl ⟨h0, zRl_putL h1 hb v⟩⟩
      · exact ⟨fun v _ => Or.inr ⟨h0, pW_put h1 hb v⟩, fun v _ => Or.inr ⟨h0, h1⟩⟩
  · unfold wax at h
    cases hb : zaM k with
    | true => rw [hb] at h; cases h
    | false =>
      rw [hb] at h; cases h
      have hb := fun i => zaM_n hb i
      rcases hR with ⟨h0, h1⟩ | ⟨h0, h1⟩
      · exact ⟨fun v _ => ⟨Or.inl ⟨h0, zRl_put h1 (hb _) v⟩, Or.inl ⟨h0, zRl_put h1 (hb _) _⟩, Or.inl ⟨h0, zRl_put h1 (hb _) _⟩⟩, fun v _ => Or.inl ⟨h0, zRl_putL h1 (hb _) v⟩⟩
      · exact ⟨fun v _ => ⟨Or.inr ⟨h0, pW_put h1 (hb _) v⟩, Or.inr ⟨h0, pW_put h1 (hb _) _⟩, Or.inr ⟨h0, pW_put h1 (hb _) _⟩⟩, fun v _ => Or.inr ⟨h0, h1⟩⟩
/-- a called method that leaves the guarded places alone -/
theorem wf_go {D n B : Nat} {ρ : Int → Int32} {id : Nat} {A : List dv} {as : List Value} {σ0 σ : lj_S} {o : lj_O} {f f' : Nat} (hn : wfn wM f id A = some f') (hA : dL (pvH ρ) A as) (hB : 8 ≤ B) (hR : zRl zpM σ0 σ) (hc : lj_run lc_P D n id as σ = some o) : f' = f ∧ lj_run lc_P B n id as σ = some o ∧ ∀ v, o.1 = .inl v → zRl zpM σ0 o.2 := by
  unfold wfn at hn
  cases hf : lj_find wM id with
  | none => rw [hf] at hn; cases hn
  | some z =>
    obtain ⟨r, tb⟩ := z
    rw [hf] at hn
    dsimp only at hn
    cases hb : dle (rcd r) A with
    | false => rw [hb] at hn; cases hn
    | true =>
      rw [hb] at hn; cases hn
      refine ⟨rfl, wf_deep wM_rk hf hB hc, fun v hv k i q => ?_⟩
      obtain ⟨g1, g2⟩ := wf_run wM_ok zaM_ok lc_prim_st D n id r tb as σ o hf (rcd_ok (pvH_P ρ) hb hA) hc v hv k i q
      exact ⟨g1.trans (hR k i q).1, g2.trans (hR k i q).2⟩
/-- locals out of what is given -/
def dl2 : List dv → List dv
  | [] => []
  | some (5, _) :: r => none :: none :: dl2 r
  | a :: r => a :: dl2 r
theorem dl2_ok {ρ : Int → Int32} : ∀ (pat : List dv) (as : List Value) (nL : Nat), pat.all (fun a => a.isSome) = true → as.length = pat.length → dL (pvH ρ) pat as → lj_w as ≤ nL → dL (pvl (pvH ρ)) (dl2 pat) (lj_loc nL as)
  | [], _, _, _, _, _, _ => dL_nil
  | a :: r, [], _, _, hl, _, _ => by simp at hl
  | a :: r, v :: s, nL, hp, hl, hA, hw => by
    have hp' : r.all (fun a => a.isSome) = true := by
      simp only [List.all_cons, Bool.and_eq_true] at hp; exact hp.2
    have ha : a.isSome = true := by
      simp only [List.all_cons, Bool.and_eq_true] at hp; exact hp.1
    have hl' : s.length = r.length := by simpa using hl
    cases a with
    | none => cases ha
    | some q =>
      have hq : pvH ρ q v := dL.h hA q rfl
      obtain ⟨q1, q2⟩ := q
      by_cases h5 : q1 = 5
      · subst h5
        obtain ⟨x, rfl⟩ : ∃ x, v = .long x := hq
        have hw : 2 + lj_w s ≤ nL := hw
        obtain ⟨m, rfl⟩ : ∃ m, nL = m + 2 := ⟨nL - 2, by omega⟩
        show dL _ (none :: none :: dl2 r) (Value.long x :: .retAddr 0 :: lj_loc m s)
        exact dL.c dm_n (dL.c dm_n (dl2_ok r s m hp' hl' (dL.t hA) (by omega)))
      · have h2 : lj_is2 v = false := (pvH_P ρ).is2 (q := (q1, q2)) ⟨h5, hq⟩
        have hd : dl2 (some (q1, q2) :: r) = some (q1, q2) :: dl2 r := by
          first
            | exact dl2.eq_3 _ _ (fun z e => by cases e; exact h5 rfl)
            | simp [dl2, h5]
        rw [hd]
        have hw : (bif lj_is2 v then 2 else 1) + lj_w s ≤ nL := hw
        rw [h2] at hw
        have hw : 1 + lj_w s ≤ nL := hw
        have hm : dm (pvl (pvH ρ)) (some (q1, q2)) v := fun q e => by cases e; exact ⟨h5, hq⟩
        match nL, hw with
        | 0, hw => exact absurd hw (by omega)
        | 1, hw =>
          have hs : s = [] := by
            cases s with
            | nil => rfl
            | cons b s' =>
              have : 1 ≤ lj_w (b :: s') := by
                show 1 ≤ (bif lj_is2 b then 2 else 1) + lj_w s'
                cases lj_is2 b <;> (simp only [cond_true, cond_false]; omega)
              omega
          subst hs
          have hr : r = [] := List.eq_nil_of_length_eq_zero (by simpa using hl'.symm)
          subst hr
          exact dL.c hm dL_nil
        | m + 2, hw =>
          have e : lj_loc (m + 2) (v :: s) = v :: lj_loc (m + 1) s := by
            show (bif lj_is2 v then _ else _) = _
            rw [h2]; rfl
          rw [e]
          exact dL.c hm (dl2_ok r s (m + 1) hp' hl' (dL.t hA) (by omega))
theorem wbk_ok {c off c' off' d e B : Nat} (h : wbk c off c' off' = true) (hB : wBd c off d e ≤ B + 1) : wBd c' off' d e ≤ B ∧ 8 ≤ B := by
  unfold wbk at h
  rw [Bool.or_eq_true, Bool.and_eq_true, Bool.and_eq_true, Bool.and_eq_true] at h
  unfold wBd at hB ⊢
  rcases h with ⟨h1, h2⟩ | ⟨h1, h2, h3⟩
  · have e1 := Nat.eq_of_beq_eq_true h1
    have e2 : off' < off := Nat.le_of_ble_eq_true h2
    subst e1
    cases hc : Nat.beq c 0 with
    | true => rw [hc] at hB; simp only [cond_true] at hB ⊢; omega
    | false => rw [hc] at hB; simp only [cond_false] at hB ⊢; omega
  · have e1 := Nat.eq_of_beq_eq_true h1
    have e2 := Nat.eq_of_beq_eq_true h2
    have e3 : off' < off + 30 := Nat.le_of_ble_eq_true h3
    subst e1 e2
    have hB : 4 * (20 - d) + 2 * (d - 1 - e) + 40 + off ≤ B + 1 := hB
    show 2 * (d - 1 - e) + 10 + off' ≤ B ∧ _
    omega
/-- the check's word holds while a gathering is at work -/
theorem w_an {D : Nat} (hW : sW D) {t4 : Bool} {T : List (Nat × List dv × List (Nat × Nat × List dv × List dv))} (hT : wOK t4 T = true) {id : Nat} {pat L0 : List dv} {c off : Nat} {tb : List (Nat × Nat × List dv × List dv)} (hm : lj_find mWp id = some (pat, c, off)) (hi : lj_find T id = some (L0, tb)) {n : Nat} {as : List Value} {σ : lj_S} {o : lj_O} {p e d B : Nat}
    (hI : wI σ p e d) (h4 : t4 = true → σ.1 105 0 = 4) (hB : wBd c off d e ≤ B) (hL : ∀ nL, lj_w as ≤ nL → dL (pvl (pvH (fun _ => wa σ (20 * p + (d - 1))))) L0 (lj_loc nL as)) (h : lj_run lc_P (D + 1) n id as σ = some o) : lj_run lc_P B n id as σ = some o ∧ qW p e σ o := by
  have hq := List.all_eq_true.mp hT _ (lj_find_in T id _ hi)
  dsimp only at hq
  rw [hm] at hq
  obtain ⟨B', rfl⟩ : ∃ B', B = B' + 1 := ⟨B - 1, by unfold wBd at hB; cases hc : Nat.beq c 0 <;> rw [hc] at hB <;> simp only [cond_true, cond_false] at hB <;> omega⟩
  cases hP : lc_P.2.2.2 id with
  | none => rw [hP] at hq; cases hq
  | some z =>
    obtain ⟨nL, M⟩ := z
    rw [hP] at hq
    dsimp only at hq
    rw [Bool.and_eq_true, Bool.and_eq_true] at hq
    rw [lc_run_eq hP] at h ⊢
    cases hw : lj_may lc_P id as nL σ with
    | false => rw [hw] at h; cases h
    | true =>
      rw [hw] at h
      simp only [cond_true] at h ⊢
      have hp := pvH_P (fun _ => wa σ (20 * p + (d - 1)))
      have hd : M.2.2.2.2.2.1 = [] := List.isEmpty_iff.mp hq.1
      have hB8 : 8 ≤ B' := by unfold wBd at hB; cases hc : Nat.beq c 0 <;> rw [hc] at hB <;> simp only [cond_true, cond_false] at hB <;> omega
      have hY : dY (pvH (fun _ => wa σ (20 * p + (d - 1)))) (wR p e σ) (wnx t4 c off) (lj_run lc_P D n) (lj_run lc_P B' n) := by
        intro f id' A f' as' σ' o' hn hl hA hR hc
        unfold wnx at hn
        cases hf : Nat.beq f 0 with
        | false => rw [hf] at hn; cases hn
        | true =>
          rw [hf] at hn
          have hf := Nat.eq_of_beq_eq_true hf
          subst hf
          have hR : zRl zpM σ σ' := by
            rcases hR with ⟨-, h⟩ | ⟨h, -⟩
            · exact h
            · cases h
          simp only [cond_true] at hn
          cases hg : lj_find mWp id' with
          | some z =>
            obtain ⟨pat', c', off'⟩ := z
            rw [hg] at hn
            dsimp only at hn
            cases hb : (Nat.beq A.length pat'.length && (dle pat' A && (wbk c off c' off' && ((Nat.blt id' 155 || (Nat.blt 159 id' && (!(Nat.beq id' 187) && !(Nat.beq id' 196)))) || (t4 && (Nat.beq id' 187 || Nat.beq id' 196)))))) with
            | false => rw [hb] at hn; cases hn
            | true =>
              rw [hb] at hn; cases hn
              rw [Bool.and_eq_true, Bool.and_eq_true, Bool.and_eq_true] at hb
              obtain ⟨b1, b2, b3, b4⟩ := hb
              obtain ⟨k1, k2⟩ := wbk_ok b3 hB
              have ew : (fun (_ : Int) => wa σ' (20 * p + (d - 1))) = fun _ => wa σ (20 * p + (d - 1)) := by
                funext _; exact wa_cg (hR.z 91 _ rfl)
              have hx : wX id' as' σ' := by
                have q5 : σ'.1 105 0 = σ.1 105 0 := (hR 105 0 rfl).1
                have n5 : id' ≠ 155 ∧ id' ≠ 159 := by
                  simp only [Bool.or_eq_true, Bool.and_eq_true] at b4
                  rcases b4 with (y | y) | ⟨-, y | y⟩
                  · have y : id' < 155 := Nat.le_of_ble_eq_true y
                    omega
                  · have y : 159 < id' := Nat.le_of_ble_eq_true y.1
                    omega
                  · have := Nat.eq_of_beq_eq_true y; omega
                  · have := Nat.eq_of_beq_eq_true y; omega
                refine ⟨fun z => ?_, fun z => absurd z n5.1⟩
                rw [q5]
                apply h4
                simp only [Bool.or_eq_true, Bool.and_eq_true] at b4
                rcases b4 with (y | ⟨-, y1, y2⟩) | ⟨y, -⟩
                · have y : id' < 155 := Nat.le_of_ble_eq_true y
                  omega
                · exfalso
                  rcases z with z | z | z
                  · exact n5.2 z
                  · subst z; cases y1
                  · subst z; cases y2
                · exact y
              obtain ⟨g1, g2⟩ := hW n id' pat' c' off' as' σ' o' p e d B' hg (by rw [hl]; exact Nat.eq_of_beq_eq_true b1) (by rw [ew]; exact dle_ok hp.h4 _ _ _ b2 hA) (hI.cg hR.z) hx k1 hc
              exact ⟨g1, fun v hv => Or.inr ⟨rfl, (g2 v hv).pz hR.z⟩⟩
          | none =>
            rw [hg] at hn
            obtain ⟨q1, q2, q3⟩ := wf_go hn hA hB8 hR hc
            exact ⟨q2, fun v hv => Or.inl ⟨q1, q3 v hv⟩⟩
      obtain ⟨q1, q2⟩ := bn_exec (rt := fun _ => true) (tb := tb) hp (pvH_6 _) (wR_X p e σ) hY hd hq.2.2 n 0 0 L0 [] (lj_loc nL as) [] σ o hq.2.1 (hL nL (Nat.le_of_ble_eq_true (lj_may_w hw))) dL_nil (Or.inl ⟨rfl, fun _ _ _ => ⟨rfl, rfl⟩⟩) h
      refine ⟨q1, fun v hv => ?_⟩
      obtain ⟨f, -, h2⟩ := q2 v hv
      rcases h2 with ⟨-, h2⟩ | ⟨-, h2⟩
      · exact pW.of h2.z
      · exact h2
