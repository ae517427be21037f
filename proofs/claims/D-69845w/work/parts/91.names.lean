/-! captured names: both look for the same -/
def nfX (z : lT) (a : Nat) : Prop := knF z.2.1 a = none ∧ cpI z.2.2 a 0 = none
def hasX (z : lT) (a lo x : Nat) : Prop := (lo = 1 ∧ knF z.2.1 a = some x) ∨ (lo = 0 ∧ knF z.2.1 a = none ∧ cpI z.2.2 a 0 = some x)
/-- what the function around sees under a name -/
def srch : List lT → Nat → Option (Nat × Nat)
  | [], _ => none
  | z :: R, a => match knF z.2.1 a with
    | some s => some (1, s)
    | none => (cpI z.2.2 a 0).map (fun i => (0, i))
/-- captured ones are what their names mean around -/
def ckN : List lT → Prop
  | [] => True
  | z :: R => ((∀ i (h : i < z.2.2.length), srch R z.2.2[i].1 = some (z.2.2[i].2.2.1, z.2.2[i].2.2.2)) ∧ (z.2.2.map (·.1)).Nodup ∧ (z.2.1.map (·.2.2)).Nodup) ∧ ckN R
/-- as the component captures -/
def capS (a a' : Nat) : List lT → Option (Option (Nat × Nat × List lT))
  | [] => none
  | z :: R => match knF z.2.1 a with
    | some s => some (some (1, s, z :: R))
    | none => match cpI z.2.2 a 0 with
      | some i => some (some (0, i, z :: R))
      | none => match capS a a' R with
        | none => none
        | some none => some none
        | some (some (lo, y, R1)) => if z.2.2.length = 30 then some none else some (some (0, z.2.2.length, addX z a a' lo y :: R1))
/-- as the model captures -/
def stepM (a a' : Nat) (p : lT) (lo y : Nat) : Nat × Nat × lT × Bool := match cpJ p.2.2 lo y 0 with
  | some k => (0, k, p, false)
  | none => if p.2.2.length = 30 then (0, 0, p, true) else (0, p.2.2.length, addX p a a' lo y, false)
def resM (a a' : Nat) : List lT → Option (Nat × Nat × List lT × Bool)
  | [] => none
  | z :: R => match knF z.2.1 a with
    | some s => some (1, s, z :: R, false)
    | none => match resM a a' R with
      | none => none
      | some (lo, y, R1, b) => some ((stepM a a' z lo y).1, (stepM a a' z lo y).2.1, (stepM a a' z lo y).2.2.1 :: R1, (stepM a a' z lo y).2.2.2 || b)
theorem cpI_b : ∀ (cp : List cT) (a i k : Nat), cpI cp a i = some k → i ≤ k ∧ k < i + cp.length ∧ ∃ h : k - i < cp.length, cp[k - i].1 = a
  | [], a, i, k, h => by simp [cpI] at h
  | e :: r, a, i, k, h => by
    unfold cpI at h
    by_cases c : e.1 = a
    · rw [if_pos c] at h
      have := Option.some.inj h
      subst this
      exact ⟨Nat.le_refl _, by simp, by simp, by simp [c]⟩
    · rw [if_neg c] at h
      obtain ⟨h1, h2, h3, h4⟩ := cpI_b r a (i + 1) k h
      have e1 : k - i = (k - (i + 1)) + 1 := by omega
      refine ⟨by omega, by simp; omega, by simp; omega, ?_⟩
      simp only [e1, List.getElem_cons_succ]
      exact h4
theorem cpI_none : ∀ (cp : List cT) (a i : Nat), cpI cp a i = none → ∀ e ∈ cp, e.1 ≠ a
  | [], _, _, _, _, he => by simp at he
  | e :: r, a, i, h, e', he => by
    unfold cpI at h
    by_cases c : e.1 = a
    · rw [if_pos c] at h; cases h
    · rw [if_neg c] at h
      rcases List.mem_cons.1 he with z | z
      · rw [z]; exact c
      · exact cpI_none r a (i + 1) h e' z
theorem cpJ_b : ∀ (cp : List cT) (lo y i k : Nat), cpJ cp lo y i = some k → i ≤ k ∧ ∃ h : k - i < cp.length, cp[k - i].2.2.1 = lo ∧ cp[k - i].2.2.2 = y
  | [], _, _, _, _, h => by simp [cpJ] at h
  | e :: r, lo, y, i, k, h => by
    unfold cpJ at h
    by_cases c : e.2.2.1 = lo ∧ e.2.2.2 = y
    · rw [if_pos c] at h
      have := Option.some.inj h
      subst this
      exact ⟨Nat.le_refl _, by simp, by simp [c.1], by simp [c.2]⟩
    · rw [if_neg c] at h
      obtain ⟨h1, h2, h3, h4⟩ := cpJ_b r lo y (i + 1) k h
      have e1 : k - i = (k - (i + 1)) + 1 := by omega
      refine ⟨by omega, by simp; omega, ?_, ?_⟩
      · simp only [e1, List.getElem_cons_succ]; exact h3
      · simp only [e1, List.getElem_cons_succ]; exact h4
theorem cpJ_none : ∀ (cp : List cT) (lo y i : Nat), cpJ cp lo y i = none → ∀ e ∈ cp, ¬ (e.2.2.1 = lo ∧ e.2.2.2 = y)
  | [], _, _, _, _, _, he => by simp at he
  | e :: r, lo, y, i, h, e', he => by
    unfold cpJ at h
    by_cases c : e.2.2.1 = lo ∧ e.2.2.2 = y
    · rw [if_pos c] at h; cases h
    · rw [if_neg c] at h
      rcases List.mem_cons.1 he with z | z
      · rw [z]; exact c
      · exact cpJ_none r lo y (i + 1) h e' z
theorem knF_mem : ∀ (kn : List kT) (a s : Nat), knF kn a = some s → ∃ e ∈ kn, e.1 = a ∧ e.2.2 = s
  | [], _, _, h => by simp [knF] at h
  | e :: r, a, s, h => by
    unfold knF at h
    by_cases c : e.1 = a
    · rw [if_pos c] at h
      exact ⟨e, List.mem_cons_self, c, Option.some.inj h⟩
    · rw [if_neg c] at h
      obtain ⟨e', h1, h2⟩ := knF_mem r a s h
      exact ⟨e', List.mem_cons_of_mem _ h1, h2⟩
theorem nd_inj {α : Type} {l : List α} {f : α → Nat} (h : (l.map f).Nodup) {x y : α} (hx : x ∈ l) (hy : y ∈ l) (e : f x = f y) : x = y := by
  induction l with
  | nil => simp at hx
  | cons z l ih =>
    simp only [List.map_cons, List.nodup_cons] at h
    rcases List.mem_cons.1 hx with a | a
    · rcases List.mem_cons.1 hy with b | b
      · rw [a, b]
      · rw [a] at e; exact absurd (List.mem_map.2 ⟨y, b, e.symm⟩) h.1
    · rcases List.mem_cons.1 hy with b | b
      · rw [b] at e; exact absurd (List.mem_map.2 ⟨x, a, e⟩) h.1
      · exact ih h.2 a b
/-- what is seen tells the name -/
theorem srch_inj {R : List lT} (h : ckN R) {a c : Nat} {v : Nat × Nat} (ha : srch R a = some v) (hc : srch R c = some v) : a = c := by
  cases R with
  | nil => simp [srch] at ha
  | cons z R =>
    simp only [srch] at ha hc
    cases ka : knF z.2.1 a with
    | some s =>
      rw [ka] at ha
      have e1 := Option.some.inj ha
      cases kc : knF z.2.1 c with
      | some s' =>
        rw [kc] at hc
        have e2 := Option.some.inj hc
        rw [← e1] at e2
        have e3 : s' = s := (Prod.mk.inj e2).2
        obtain ⟨x, x1, x2, x3⟩ := knF_mem _ _ _ ka
        obtain ⟨y, y1, y2, y3⟩ := knF_mem _ _ _ kc
        have := nd_inj (f := fun e : kT => e.2.2) h.1.2.2 x1 y1 (by show x.2.2 = y.2.2; rw [x3, y3, e3])
        rw [← x2, ← y2, this]
      | none =>
        rw [kc] at hc
        simp only [Option.map_eq_some_iff] at hc
        obtain ⟨i, _, e2⟩ := hc
        rw [← e1] at e2
        exact absurd (Prod.mk.inj e2).1 (by omega)
    | none =>
      rw [ka] at ha
      simp only [Option.map_eq_some_iff] at ha
      obtain ⟨i, i1, e1⟩ := ha
      cases kc : knF z.2.1 c with
      | some s' =>
        rw [kc] at hc
        have e2 := Option.some.inj hc
        rw [← e1] at e2
        exact absurd (Prod.mk.inj e2).1 (by omega)
      | none =>
        rw [kc] at hc
        simp only [Option.map_eq_some_iff] at hc
        obtain ⟨j, j1, e2⟩ := hc
        rw [← e1] at e2
        have e3 : j = i := (Prod.mk.inj e2).2
        subst e3
        obtain ⟨_, _, p, p1⟩ := cpI_b _ _ _ _ i1
        obtain ⟨_, _, q, q1⟩ := cpI_b _ _ _ _ j1
        rw [← p1, ← q1]
theorem cpI_app (a : Nat) : ∀ (cp : List cT) (e : cT) (i : Nat), cpI cp a i = none → cpI (cp ++ [e]) a i = if e.1 = a then some (i + cp.length) else none
  | [], e, i, _ => rfl
  | c :: r, e, i, h => by
    unfold cpI at h
    by_cases q : c.1 = a
    · rw [if_pos q] at h; cases h
    · rw [if_neg q] at h
      show (if c.1 = a then some i else cpI (r ++ [e]) a (i + 1)) = _
      rw [if_neg q, cpI_app a r e (i + 1) h]
      simp only [List.length_cons]
      rw [show i + 1 + r.length = i + (r.length + 1) by omega]
theorem cpI_app' (a b : Nat) (v : cT) (hv : v.1 = b) (hab : a ≠ b) : ∀ (cp : List cT) (i : Nat), cpI (cp ++ [v]) a i = cpI cp a i
  | [], i => by show (if v.1 = a then some i else none) = none; rw [if_neg (fun z => hab (z.symm.trans hv))]
  | c :: r, i => by
    show (if c.1 = a then some i else cpI (r ++ [v]) a (i + 1)) = if c.1 = a then some i else cpI r a (i + 1)
    rw [cpI_app' a b v hv hab r (i + 1)]
/-- both capture alike -/
theorem cap_same (a a' : Nat) : ∀ (N : List lT), ckN N →
    (capS a a' N = none ∧ resM a a' N = none ∧ srch N a = none) ∨
    (∃ lo y N', capS a a' N = some (some (lo, y, N')) ∧ resM a a' N = some (lo, y, N', false) ∧ ckN N' ∧ srch N' a = some (lo, y) ∧ (∀ c, c ≠ a → srch N' c = srch N c) ∧ (srch N a = some (lo, y) → N' = N) ∧ (srch N a ≠ some (lo, y) → ∃ z R, N = z :: R ∧ lo = 0 ∧ y = z.2.2.length)) ∨
    (capS a a' N = some none ∧ ∃ lo y N', resM a a' N = some (lo, y, N', true))
  | [], _ => Or.inl ⟨rfl, rfl, rfl⟩
  | z :: R, h => by
    have ih := cap_same a a' R h.2
    cases hk : knF z.2.1 a with
    | some s =>
      refine Or.inr (Or.inl ⟨1, s, z :: R, by simp only [capS, hk], by simp only [resM, hk], h, by simp only [srch, hk], fun _ _ => rfl, fun _ => rfl, fun q => absurd (by simp only [srch, hk]) q⟩)
    | none =>
      cases hc : cpI z.2.2 a 0 with
      | some i =>
        -- captured before
        obtain ⟨_, _, p, p1⟩ := cpI_b _ _ _ _ hc
        have hs := h.1.1 i (by simpa using p)
        have p1' : z.2.2[i].1 = a := by simpa using p1
        rw [p1'] at hs
        have hres : resM a a' R = some (z.2.2[i].2.2.1, z.2.2[i].2.2.2, R, false) := by
          rcases ih with ⟨_, _, x⟩ | ⟨lo, y, N', x1, x2, x3, x4, x5, x6, x7⟩ | ⟨x1, lo, y, N', x2⟩
          · rw [x] at hs; cases hs
          · by_cases q : srch R a = some (lo, y)
            · have := x6 q
              subst this
              rw [q] at hs
              have := Option.some.inj hs
              rw [x2, ← (Prod.mk.inj this).1, ← (Prod.mk.inj this).2]
            · -- not found yet without adding: but it is seen
              obtain ⟨w, R', e1, e2, e3⟩ := x7 q
              subst e1
              exfalso
              -- the component finds what is seen
              have : capS a a' (w :: R') = some (some (z.2.2[i].2.2.1, z.2.2[i].2.2.2, w :: R')) := by
                simp only [srch] at hs
                cases kw : knF w.2.1 a with
                | some s => rw [kw] at hs; simp only [capS, kw]; rw [← (Prod.mk.inj (Option.some.inj hs)).1, ← (Prod.mk.inj (Option.some.inj hs)).2]
                | none =>
                  rw [kw] at hs
                  simp only [Option.map_eq_some_iff] at hs
                  obtain ⟨j, j1, j2⟩ := hs
                  simp only [capS, kw, j1]
                  rw [← (Prod.mk.inj j2).1, ← (Prod.mk.inj j2).2]
              rw [x1] at this
              have t := Option.some.inj (Option.some.inj this)
              exact q (by rw [hs]; rw [← (Prod.mk.inj t).1, ← (Prod.mk.inj (Prod.mk.inj t).2).1])
          · exfalso
            cases R with
            | nil => simp [srch] at hs
            | cons w R' =>
              simp only [srch] at hs
              cases kw : knF w.2.1 a with
              | some s => simp only [capS, kw] at x1; cases x1
              | none =>
                rw [kw] at hs
                simp only [Option.map_eq_some_iff] at hs
                obtain ⟨j, j1, j2⟩ := hs
                simp only [capS, kw, j1] at x1
                cases x1
        have hj : cpJ z.2.2 z.2.2[i].2.2.1 z.2.2[i].2.2.2 0 = some i := by
          cases q : cpJ z.2.2 z.2.2[i].2.2.1 z.2.2[i].2.2.2 0 with
          | none => exact absurd ⟨rfl, rfl⟩ (cpJ_none _ _ _ _ q z.2.2[i] (List.getElem_mem _))
          | some k =>
            obtain ⟨_, r, r1, r2⟩ := cpJ_b _ _ _ _ _ q
            have r' : k < z.2.2.length := by simpa using r
            have r1' : z.2.2[k].2.2.1 = z.2.2[i].2.2.1 := by simpa using r1
            have r2' : z.2.2[k].2.2.2 = z.2.2[i].2.2.2 := by simpa using r2
            have hs2 := h.1.1 k r'
            rw [r1', r2'] at hs2
            have e : z.2.2[k].1 = a := srch_inj h.2 hs2 hs
            have hin : i < z.2.2.length := by simpa using p
            have e2 : z.2.2[k] = z.2.2[i] := nd_inj (f := fun e : cT => e.1) h.1.2.1 (List.getElem_mem r') (List.getElem_mem hin) (by show z.2.2[k].1 = z.2.2[i].1; rw [e, p1'])
            -- the first one is found
            have nd := h.1.2.1
            have : k = i := by
              have hk' : k < (z.2.2.map (·.1)).length := by simpa using r'
              have hi' : i < (z.2.2.map (·.1)).length := by simpa using hin
              exact (List.getElem_inj (h₀ := hk') (h₁ := hi') nd).1 (by simp [e2])
            rw [this]
        refine Or.inr (Or.inl ⟨0, i, z :: R, by simp only [capS, hk, hc], ?_, h, by simp only [srch, hk, hc]; rfl, fun _ _ => rfl, fun _ => rfl, fun q => absurd (by simp only [srch, hk, hc]; rfl) q⟩)
        simp only [resM, hk, hres, stepM, hj]
        rfl
      | none =>
        rcases ih with ⟨x1, x2, x3⟩ | ⟨lo, y, N', x1, x2, x3, x4, x5, x6, x7⟩ | ⟨x1, lo, y, N', x2⟩
        · exact Or.inl ⟨by simp only [capS, hk, hc, x1], by simp only [resM, hk, x2], by simp only [srch, hk, hc]; rfl⟩
        · have hj : cpJ z.2.2 lo y 0 = none := by
            cases q : cpJ z.2.2 lo y 0 with
            | none => rfl
            | some k =>
              exfalso
              obtain ⟨_, r, r1, r2⟩ := cpJ_b _ _ _ _ _ q
              have r' : k < z.2.2.length := by simpa using r
              have r1' : z.2.2[k].2.2.1 = lo := by simpa using r1
              have r2' : z.2.2[k].2.2.2 = y := by simpa using r2
              have hs2 := h.1.1 k r'
              rw [r1', r2'] at hs2
              have hne : z.2.2[k].1 ≠ a := cpI_none _ _ _ hc _ (List.getElem_mem r')
              have e2 := x5 _ hne
              rw [hs2] at e2
              exact hne (srch_inj x3 e2 x4)
          by_cases e30 : z.2.2.length = 30
          · exact Or.inr (Or.inr ⟨by simp only [capS, hk, hc, x1, e30, if_true], 0, 0, z :: N', by simp only [resM, hk, x2, stepM, hj, e30, if_true]; rfl⟩)
          · refine Or.inr (Or.inl ⟨0, z.2.2.length, addX z a a' lo y :: N', by simp only [capS, hk, hc, x1, if_neg e30], by simp only [resM, hk, x2, stepM, hj, if_neg e30]; rfl, ⟨⟨fun i hi => ?_, ?_, h.1.2.2⟩, x3⟩, ?_, fun c hcne => ?_, fun q => ?_, fun _ => ⟨z, R, rfl, rfl, rfl⟩⟩)
            · simp only [addX] at hi ⊢
              by_cases ei : i < z.2.2.length
              · rw [List.getElem_append_left ei]
                rw [x5 _ (cpI_none _ _ _ hc _ (List.getElem_mem ei))]
                exact h.1.1 i ei
              · have ei2 : i = z.2.2.length := by simp at hi; omega
                subst ei2
                simp only [List.getElem_append_right (Nat.le_refl _), Nat.sub_self, List.getElem_cons_zero]
                exact x4
            · simp only [addX, List.map_append, List.map_cons, List.map_nil]
              rw [List.nodup_append]
              refine ⟨h.1.2.1, by simp, fun u hu v hv => ?_⟩
              simp only [List.mem_singleton] at hv
              obtain ⟨e, he, e1⟩ := List.mem_map.1 hu
              rw [hv, ← e1]
              exact cpI_none _ _ _ hc _ he
            · simp only [srch, addX, hk, cpI_app a _ (a, a', lo, y) 0 hc, if_true, Nat.zero_add]
              rfl
            · simp only [srch, addX, cpI_app' c a (a, a', lo, y) rfl hcne]
            · simp only [srch, hk, hc] at q
              cases q
        · refine Or.inr (Or.inr ⟨by simp only [capS, hk, hc, x1], (stepM a a' z lo y).1, (stepM a a' z lo y).2.1, (stepM a a' z lo y).2.2.1 :: N', by simp only [resM, hk, x2, Bool.or_true]⟩)
