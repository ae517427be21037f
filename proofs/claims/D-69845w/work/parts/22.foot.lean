/-! FOOTPRINTS: what methods of a program leave alone, by a look at their code (any way out, any depth) -/
/-- no guarded cell is named -/
def vb (za : Nat → Bool) : Value → Bool
  | .ref k => !za k
  | _ => true
def vbs (za : Nat → Bool) (l : List Value) : Bool := l.all (vb za)
theorem vbs_c {za : Nat → Bool} {v : Value} {l : List Value} : vbs za (v :: l) = true ↔ vb za v = true ∧ vbs za l = true := by
  unfold vbs; rw [List.all_cons, Bool.and_eq_true]
theorem vbs_n {za : Nat → Bool} : vbs za [] = true := rfl
theorem vbs_nth {za : Nat → Bool} : ∀ {l : List Value} {i : Nat} {v : Value}, vbs za l = true → lj_nth l i = some v → vb za v = true
  | [], _, _, _, h => by cases h
  | a :: r, 0, v, h, e => by cases e; exact (vbs_c.1 h).1
  | a :: r, k + 1, v, h, e => vbs_nth (vbs_c.1 h).2 e
theorem vbs_lset {za : Nat → Bool} : ∀ {l : List Value} {i : Nat} {v : Value}, vbs za l = true → vb za v = true → vbs za (lj_lset l i v) = true
  | [], _, _, _, _ => rfl
  | a :: r, 0, v, h, e => vbs_c.2 ⟨e, (vbs_c.1 h).2⟩
  | a :: r, k + 1, v, h, e => vbs_c.2 ⟨(vbs_c.1 h).1, vbs_lset (vbs_c.1 h).2 e⟩
theorem vbs_kill {za : Nat → Bool} : ∀ {l : List Value} {i : Nat}, vbs za l = true → vbs za (lj_kill l i) = true
  | [], _, _ => by unfold lj_kill; rfl
  | a :: r, 0, h => h
  | a :: r, 1, h => by
    unfold lj_kill
    cases lj_is2 a with
    | true => exact vbs_c.2 ⟨rfl, (vbs_c.1 h).2⟩
    | false => exact h
  | a :: r, k + 2, h => by unfold lj_kill; exact vbs_c.2 ⟨(vbs_c.1 h).1, vbs_kill (vbs_c.1 h).2⟩
theorem vbs_sto1 {za : Nat → Bool} {l : List Value} {i : Nat} {v : Value} (h : vbs za l = true) (e : vb za v = true) : vbs za (lj_sto1 l i v) = true := vbs_lset (vbs_kill h) e
theorem vbs_sto2 {za : Nat → Bool} {l : List Value} {i : Nat} {v : Value} (h : vbs za l = true) (e : vb za v = true) : vbs za (lj_sto2 l i v) = true := vbs_lset (vbs_lset (vbs_kill h) e) rfl
theorem vbs_loc {za : Nat → Bool} : ∀ {n : Nat} {l : List Value}, vbs za l = true → vbs za (lj_loc n l) = true
  | 0, _, _ => by unfold lj_loc; rfl
  | n + 1, [], h => by unfold lj_loc; exact vbs_c.2 ⟨rfl, vbs_loc h⟩
  | 1, v :: _, h => by unfold lj_loc; exact vbs_c.2 ⟨(vbs_c.1 h).1, rfl⟩
  | n + 2, v :: r, h => by
    unfold lj_loc
    cases lj_is2 v with
    | true => exact vbs_c.2 ⟨(vbs_c.1 h).1, vbs_c.2 ⟨rfl, vbs_loc (vbs_c.1 h).2⟩⟩
    | false => exact vbs_c.2 ⟨(vbs_c.1 h).1, vbs_loc (vbs_c.1 h).2⟩
theorem vbs_args {za : Nat → Bool} : ∀ {n : Nat} {acc st as r : List Value}, vbs za acc = true → vbs za st = true → lj_args n acc st = some (as, r) → vbs za as = true ∧ vbs za r = true
  | 0, acc, st, as, r, h1, h2, e => by cases e; exact ⟨h1, h2⟩
  | n + 1, acc, v :: st, as, r, h1, h2, e => vbs_args (vbs_c.2 ⟨(vbs_c.1 h2).1, h1⟩) (vbs_c.1 h2).2 e
  | _ + 1, _, [], _, _, _, _, e => by cases e
/-- each cell of a list with its number -/
def lj_alln (f : Nat → lj_C → Bool) : Nat → List lj_C → Bool
  | _, [] => true
  | k, d :: r => f k d && lj_alln f (k + 1) r
theorem lj_alln_ok {f : Nat → lj_C → Bool} : ∀ {l : List lj_C} {k i : Nat} {d : lj_C}, lj_alln f k l = true → lj_nth l i = some d → f (k + i) d = true
  | [], _, _, _, _, e => by cases e
  | a :: r, k, 0, d, h, e => by
    cases e
    unfold lj_alln at h
    rw [Bool.and_eq_true] at h
    exact h.1
  | a :: r, k, i + 1, d, h, e => by
    unfold lj_alln at h
    rw [Bool.and_eq_true] at h
    have := lj_alln_ok (i := i) h.2 e
    rw [show k + (i + 1) = k + 1 + i by omega]
    exact this
/-- an instruction that leaves guarded places alone: it takes no guarded array into its hand, it puts into no guarded field, it calls methods of S alone -/
def ft1 (ds : List lj_C) (zp : Nat → Nat → Bool) (za : Nat → Bool) (S : Nat → Bool) (M : lj_M) : Instr → Bool
  | .getfield i => match lj_find M.2.2.1 i with
    | some (ci, j) => ds.all fun d => match d with
      | .inl (ci', fs) => bif Nat.beq ci ci' then (match lj_nth fs j with
        | some (2, r) => !za r
        | _ => true) else true
      | _ => true
    | none => true
  | .putfield i => match lj_find M.2.2.1 i with
    | some (ci, j) => lj_alln (fun k d => match d with
      | .inl (ci', _) => bif Nat.beq ci ci' then !zp k j else true
      | _ => true) 0 ds
    | none => true
  | .ldc i => match lj_find M.2.2.2.2.1 i with
    | some (.ref v) => !za v
    | _ => true
  | .ldc_w i => match lj_find M.2.2.2.2.1 i with
    | some (.ref v) => !za v
    | _ => true
  | .invokevirtual i => match lj_find M.2.2.2.1 i with
    | some (id, _) => S id
    | none => true
  | .invokestatic i => match lj_find M.2.2.2.1 i with
    | some (id, _) => S id
    | none => true
  | _ => true
def ftM (ds : List lj_C) (zp : Nat → Nat → Bool) (za : Nat → Bool) (S : Nat → Bool) (M : lj_M) : Bool := M.1.all fun q => ft1 ds zp za S M q.2.1
/-- what comes out -/
def ftO (za : Nat → Bool) (J : lj_S → Prop) (o : lj_O) : Prop := J o.2 ∧ (∀ v, o.1 = .inl (some v) → vb za v = true) ∧ ∀ x, o.1 = .inr x → za x = false
/-- what is kept stands every put that may come -/
def ftJ (ds : List lj_C) (zp : Nat → Nat → Bool) (za : Nat → Bool) (J : lj_S → Prop) : Prop :=
  (∀ σ k j ci fs f, lj_nth ds k = some (.inl (ci, fs)) → lj_nth fs j = some f → zp k j = false → J σ → (∀ v, J (lj_put σ k j v)) ∧ ∀ v, J (lj_putL σ k j v)) ∧
  ∀ σ k i t n, lj_nth ds k = some (.inr (t, n)) → za k = false → i < n → J σ → (∀ v, J (lj_put σ k i v)) ∧ ∀ v, J (lj_putL σ k i v)
def ftG (za : Nat → Bool) (J : lj_S → Prop) (go : lj_K) : Prop := ∀ pc L st σ o, vbs za L = true → vbs za st = true → J σ → go pc L st σ = some o → ftO za J o
theorem lj_nth_mem {α : Type} : ∀ {l : List α} {i : Nat} {x : α}, lj_nth l i = some x → x ∈ l
  | [], _, _, h => by cases h
  | a :: r, 0, x, h => by cases h; exact List.mem_cons_self
  | a :: r, k + 1, x, h => List.mem_cons_of_mem _ (lj_nth_mem h)
theorem lj_cmp_ft {za : Nat → Bool} {J : lj_S → Prop} {c : Jvm.ClassFile.Cond} {x y : Int32} {a b : Option lj_O} {o : lj_O} (ha : a = some o → ftO za J o) (hb : b = some o → ftO za J o) (h : lj_cmp c x y a b = some o) : ftO za J o := by
  unfold lj_cmp at h
  repeat' split at h
  all_goals first | exact ha h | exact hb h
theorem lj_tab_ft {za : Nat → Bool} {J : lj_S → Prop} {f : Int → Option lj_O} {o : lj_O} (hf : ∀ t, f t = some o → ftO za J o) : ∀ {os : List Int} {lo d : Int} {x : Int32}, lj_tab lo os d x f = some o → ftO za J o
  | [], lo, d, x, h => hf d h
  | t :: r, lo, d, x, h => by
    unfold lj_tab at h
    split at h
    · exact hf t h
    · exact lj_tab_ft hf h
theorem lj_lkp_ft {za : Nat → Bool} {J : lj_S → Prop} {f : Int → Option lj_O} {o : lj_O} (hf : ∀ t, f t = some o → ftO za J o) : ∀ {os : List (Int × Int)} {d : Int} {x : Int32}, lj_lkp os d x f = some o → ftO za J o
  | [], d, x, h => hf d h
  | (a, t) :: r, d, x, h => by
    unfold lj_lkp at h
    split at h
    · exact hf t h
    · exact lj_lkp_ft hf h
variable {ds : List lj_C} {zp : Nat → Nat → Bool} {za : Nat → Bool} {S : Nat → Bool} {M : lj_M} {J : lj_S → Prop} {go : lj_K} {pc len : Nat} {L st : List Value} {σ : lj_S} {o : lj_O}
theorem ft_getf (hg : ftG za J go) {i : Nat} (hi : ft1 ds zp za S M (.getfield i) = true) (hL : vbs za L = true) (hs : vbs za st = true) (hJ : J σ) (h : lj_getf ds M.2.2.1 i pc L st σ go = some o) : ftO za J o := by
  unfold lj_getf at h
  split at h
  · rename_i k r
    cases hf : lj_find M.2.2.1 i with
    | none => rw [hf] at h; cases h
    | some q =>
      obtain ⟨ci, j⟩ := q
      cases hd : lj_nth ds k with
      | none => rw [hf, hd] at h; cases h
      | some d =>
        cases d with
        | inr z => rw [hf, hd] at h; cases h
        | inl z =>
          obtain ⟨ci', fs⟩ := z
          rw [hf, hd] at h
          dsimp only at h
          cases hb : Nat.beq ci ci' with
          | false => rw [hb] at h; cases h
          | true =>
            rw [hb] at h
            dsimp only [cond_true] at h
            cases hn : lj_nth fs j with
            | none => rw [hn] at h; cases h
            | some f =>
              rw [hn] at h
              refine hg _ _ _ _ _ hL (vbs_c.2 ⟨?_, (vbs_c.1 hs).2⟩) hJ h
              have hi : (match lj_find M.2.2.1 i with
                | some (ci, j) => ds.all fun d => match d with
                  | .inl (ci', fs) => bif Nat.beq ci ci' then (match lj_nth fs j with
                    | some (2, r) => !za r
                    | _ => true) else true
                  | _ => true
                | none => true) = true := hi
              rw [hf] at hi
              have := List.all_eq_true.1 hi _ (lj_nth_mem hd)
              dsimp only at this
              rw [hb, hn] at this
              obtain ⟨f1, f2⟩ := f
              unfold lj_fld
              dsimp only [cond_true] at this ⊢
              split
              · rfl
              · exact this
              · rfl
              · rfl
  · cases h
theorem ft_putf (hX : ftJ ds zp za J) (hg : ftG za J go) {i : Nat} (hi : ft1 ds zp za S M (.putfield i) = true) (hL : vbs za L = true) (hs : vbs za st = true) (hJ : J σ) (h : lj_putf ds M.2.2.1 i pc L st σ go = some o) : ftO za J o := by
  have key : ∀ k ci j ci' fs f, lj_find M.2.2.1 i = some (ci, j) → lj_nth ds k = some (.inl (ci', fs)) → Nat.beq ci ci' = true → lj_nth fs j = some f → (∀ v, J (lj_put σ k j v)) ∧ ∀ v, J (lj_putL σ k j v) := by
    intro k ci j ci' fs f hf hd hb hn
    have hi : (match lj_find M.2.2.1 i with
      | some (ci, j) => lj_alln (fun k d => match d with
        | .inl (ci', _) => bif Nat.beq ci ci' then !zp k j else true
        | _ => true) 0 ds
      | none => true) = true := hi
    rw [hf] at hi
    have := lj_alln_ok hi hd
    dsimp only at this
    rw [hb, Nat.zero_add] at this
    dsimp only [cond_true] at this
    exact hX.1 σ k j ci' fs f hd hn (by simpa using this) hJ
  unfold lj_putf at h
  split at h
  · rename_i v k r
    have hr := (vbs_c.1 (vbs_c.1 hs).2).2
    cases hf : lj_find M.2.2.1 i with
    | none => rw [hf] at h; cases h
    | some q =>
      obtain ⟨ci, j⟩ := q
      cases hd : lj_nth ds k with
      | none => rw [hf, hd] at h; cases h
      | some d =>
        cases d with
        | inr z => rw [hf, hd] at h; cases h
        | inl z =>
          obtain ⟨ci', fs⟩ := z
          rw [hf, hd] at h
          dsimp only at h
          cases hb : Nat.beq ci ci' with
          | false => rw [hb] at h; cases h
          | true =>
            rw [hb] at h
            dsimp only [cond_true] at h
            split at h
            · rename_i hn
              exact hg _ _ _ _ _ hL hr ((key k ci j ci' fs _ hf hd hb hn).1 v) h
            · rename_i hn
              split at h
              · exact hg _ _ _ _ _ hL hr ((key k ci j ci' fs _ hf hd hb hn).1 v) h
              · cases h
            · cases h
  · rename_i v k r
    have hr := (vbs_c.1 (vbs_c.1 hs).2).2
    cases hf : lj_find M.2.2.1 i with
    | none => rw [hf] at h; cases h
    | some q =>
      obtain ⟨ci, j⟩ := q
      cases hd : lj_nth ds k with
      | none => rw [hf, hd] at h; cases h
      | some d =>
        cases d with
        | inr z => rw [hf, hd] at h; cases h
        | inl z =>
          obtain ⟨ci', fs⟩ := z
          rw [hf, hd] at h
          dsimp only at h
          cases hb : Nat.beq ci ci' with
          | false => rw [hb] at h; cases h
          | true =>
            rw [hb] at h
            dsimp only [cond_true] at h
            split at h
            · rename_i hn
              exact hg _ _ _ _ _ hL hr ((key k ci j ci' fs _ hf hd hb hn).2 v) h
            · cases h
  · cases h
theorem ft_ald (hg : ftG za J go) {b : Bool} (hL : vbs za L = true) (hs : vbs za st = true) (hJ : J σ) (h : lj_ald ds b pc L st σ go = some o) : ftO za J o := by
  unfold lj_ald at h
  split at h
  · have hr := (vbs_c.1 (vbs_c.1 hs).2).2
    split at h
    · cases hb : (bif b then Nat.beq _ 2 || Nat.beq _ 3 else Nat.beq _ 0) with
      | false => rw [hb] at h; cases h
      | true =>
        rw [hb] at h
        dsimp only [cond_true] at h
        split at h
        · exact hg _ _ _ _ _ hL (vbs_c.2 ⟨rfl, hr⟩) hJ h
        · cases h
    · cases h
  · cases h
theorem ft_lald (hg : ftG za J go) (hL : vbs za L = true) (hs : vbs za st = true) (hJ : J σ) (h : lj_lald ds pc L st σ go = some o) : ftO za J o := by
  unfold lj_lald at h
  split at h
  · have hr := (vbs_c.1 (vbs_c.1 hs).2).2
    split at h
    · split at h
      · exact hg _ _ _ _ _ hL (vbs_c.2 ⟨rfl, hr⟩) hJ h
      · cases h
    · cases h
  · cases h
theorem ft_ast (hX : ftJ ds zp za J) (hg : ftG za J go) {b : Bool} (hL : vbs za L = true) (hs : vbs za st = true) (hJ : J σ) (h : lj_ast ds b pc L st σ go = some o) : ftO za J o := by
  unfold lj_ast at h
  split at h
  · rename_i v i k r
    have hr := (vbs_c.1 (vbs_c.1 (vbs_c.1 hs).2).2)
    have hk : za k = false := by have := hr.1; unfold vb at this; simpa using this
    split at h
    · rename_i t n hd
      cases b with
      | true =>
        dsimp only [cond_true] at h
        split at h
        · split at h
          · rename_i q; exact hg _ _ _ _ _ hL hr.2 ((hX.2 σ k _ _ n hd hk q.1 hJ).1 _) h
          · cases h
        · split at h
          · rename_i q; exact hg _ _ _ _ _ hL hr.2 ((hX.2 σ k _ _ n hd hk q.1 hJ).1 _) h
          · cases h
        · cases h
      | false =>
        dsimp only [cond_false] at h
        split at h
        · split at h
          · rename_i q; exact hg _ _ _ _ _ hL hr.2 ((hX.2 σ k _ _ n hd hk q.1 hJ).1 _) h
          · cases h
        · cases h
    · cases h
  · cases h
theorem ft_last (hX : ftJ ds zp za J) (hg : ftG za J go) (hL : vbs za L = true) (hs : vbs za st = true) (hJ : J σ) (h : lj_last ds pc L st σ go = some o) : ftO za J o := by
  unfold lj_last at h
  split at h
  · rename_i v i k r
    have hr := (vbs_c.1 (vbs_c.1 (vbs_c.1 hs).2).2)
    have hk : za k = false := by have := hr.1; unfold vb at this; simpa using this
    split at h
    · rename_i n hd
      split at h
      · rename_i q; exact hg _ _ _ _ _ hL hr.2 ((hX.2 σ k _ _ n hd hk q.1 hJ).2 _) h
      · cases h
    · cases h
  · cases h
theorem ft_i1 {f : Int32 → List Value → Option lj_O} (hs : vbs za st = true) (hf : ∀ x r, vbs za r = true → f x r = some o → ftO za J o) (h : lj_i1 st f = some o) : ftO za J o := by
  unfold lj_i1 at h
  split at h
  · exact hf _ _ (vbs_c.1 hs).2 h
  · cases h
theorem ft_i2 {f : Int32 → Int32 → List Value → Option lj_O} (hs : vbs za st = true) (hf : ∀ x y r, vbs za r = true → f x y r = some o → ftO za J o) (h : lj_i2 st f = some o) : ftO za J o := by
  unfold lj_i2 at h
  split at h
  · exact hf _ _ _ (vbs_c.1 (vbs_c.1 hs).2).2 h
  · cases h
theorem ft_l1 {f : Int64 → List Value → Option lj_O} (hs : vbs za st = true) (hf : ∀ x r, vbs za r = true → f x r = some o → ftO za J o) (h : lj_l1 st f = some o) : ftO za J o := by
  unfold lj_l1 at h
  split at h
  · exact hf _ _ (vbs_c.1 hs).2 h
  · cases h
theorem ft_l2 {f : Int64 → Int64 → List Value → Option lj_O} (hs : vbs za st = true) (hf : ∀ x y r, vbs za r = true → f x y r = some o → ftO za J o) (h : lj_l2 st f = some o) : ftO za J o := by
  unfold lj_l2 at h
  split at h
  · exact hf _ _ _ (vbs_c.1 (vbs_c.1 hs).2).2 h
  · cases h
theorem ft_li {f : Int64 → Int32 → List Value → Option lj_O} (hs : vbs za st = true) (hf : ∀ x y r, vbs za r = true → f x y r = some o → ftO za J o) (h : lj_li st f = some o) : ftO za J o := by
  unfold lj_li at h
  split at h
  · exact hf _ _ _ (vbs_c.1 (vbs_c.1 hs).2).2 h
  · cases h
theorem ft_ild {i : Nat} {f : Int32 → Option lj_O} (hf : ∀ x, f x = some o → ftO za J o) (h : lj_ild L i f = some o) : ftO za J o := by
  unfold lj_ild at h
  split at h
  · exact hf _ h
  · cases h
theorem ft_lld {i : Nat} {f : Int64 → Option lj_O} (hf : ∀ x, f x = some o → ftO za J o) (h : lj_lld L i f = some o) : ftO za J o := by
  unfold lj_lld at h
  split at h
  · exact hf _ h
  · cases h
theorem ft_rld {i : Nat} {f : Value → Option lj_O} (hL : vbs za L = true) (hf : ∀ x, vb za x = true → f x = some o → ftO za J o) (h : lj_rld L i f = some o) : ftO za J o := by
  unfold lj_rld at h
  split at h
  · rename_i e; exact hf _ (vbs_nth hL e) h
  · exact hf _ rfl h
  · cases h
set_option maxHeartbeats 4000000 in
theorem ft_st (hX : ftJ ds zp za J) (hg : ftG za J go) {ins : Instr} (hi : ft1 ds zp za S M ins = true) (hL : vbs za L = true) (hs : vbs za st = true) (hJ : J σ) (h : lj_st ds M.2.2.1 M.2.2.2.2.1 ins pc len L st σ go = some o) : ftO za J o := by
  cases ins
  case getfield i => exact ft_getf hg hi hL hs hJ h
  case putfield i => exact ft_putf hX hg hi hL hs hJ h
  case iaload => exact ft_ald hg hL hs hJ h
  case baload => exact ft_ald hg hL hs hJ h
  case laload => exact ft_lald hg hL hs hJ h
  case iastore => exact ft_ast hX hg hL hs hJ h
  case bastore => exact ft_ast hX hg hL hs hJ h
  case lastore => exact ft_last hX hg hL hs hJ h
  case ldc i =>
    unfold lj_st at h
    unfold ft1 at hi
    dsimp only at h hi
    split at h
    · exact hg _ _ _ _ _ hL (vbs_c.2 ⟨rfl, hs⟩) hJ h
    · rename_i v e
      rw [e] at hi
      have hi : vb za (.ref v) = true := hi
      exact hg _ _ _ _ _ hL (vbs_c.2 ⟨hi, hs⟩) hJ h
    · cases h
  case ldc_w i =>
    unfold lj_st at h
    unfold ft1 at hi
    dsimp only at h hi
    split at h
    · exact hg _ _ _ _ _ hL (vbs_c.2 ⟨rfl, hs⟩) hJ h
    · rename_i v e
      rw [e] at hi
      have hi : vb za (.ref v) = true := hi
      exact hg _ _ _ _ _ hL (vbs_c.2 ⟨hi, hs⟩) hJ h
    · cases h
  case ldc2_w i =>
    unfold lj_st at h
    dsimp only at h
    split at h
    · exact hg _ _ _ _ _ hL (vbs_c.2 ⟨rfl, hs⟩) hJ h
    · cases h
  case astore i =>
    unfold lj_st at h
    dsimp only at h
    split at h
    · exact hg _ _ _ _ _ (vbs_sto1 hL (vbs_c.1 hs).1) (vbs_c.1 hs).2 hJ h
    · exact hg _ _ _ _ _ (vbs_sto1 hL rfl) (vbs_c.1 hs).2 hJ h
    · cases h
  case astore_n i =>
    unfold lj_st at h
    dsimp only at h
    split at h
    · exact hg _ _ _ _ _ (vbs_sto1 hL (vbs_c.1 hs).1) (vbs_c.1 hs).2 hJ h
    · exact hg _ _ _ _ _ (vbs_sto1 hL rfl) (vbs_c.1 hs).2 hJ h
    · cases h
  case dup =>
    unfold lj_st at h
    dsimp only at h
    split at h
    · rename_i v r
      cases hb : lj_is2 v with
      | true => rw [hb] at h; cases h
      | false => rw [hb] at h; exact hg _ _ _ _ _ hL (vbs_c.2 ⟨(vbs_c.1 hs).1, hs⟩) hJ h
    · cases h
  case pop =>
    unfold lj_st at h
    dsimp only at h
    split at h
    · rename_i v r
      cases hb : lj_is2 v with
      | true => rw [hb] at h; cases h
      | false => rw [hb] at h; exact hg _ _ _ _ _ hL (vbs_c.1 hs).2 hJ h
    · cases h
  case dup_x1 =>
    unfold lj_st at h
    dsimp only at h
    split at h
    · rename_i v w r
      obtain ⟨h1, h2⟩ := vbs_c.1 hs
      obtain ⟨h3, h4⟩ := vbs_c.1 h2
      cases hb : (lj_is2 v || lj_is2 w) with
      | true => rw [hb] at h; cases h
      | false => rw [hb] at h; exact hg _ _ _ _ _ hL (vbs_c.2 ⟨h1, vbs_c.2 ⟨h3, vbs_c.2 ⟨h1, h4⟩⟩⟩) hJ h
    · cases h
  case dup_x2 =>
    unfold lj_st at h
    dsimp only at h
    split at h
    · rename_i v w u r
      obtain ⟨h1, h2⟩ := vbs_c.1 hs
      obtain ⟨h3, h4⟩ := vbs_c.1 h2
      obtain ⟨h5, h6⟩ := vbs_c.1 h4
      cases hb : (lj_is2 v || lj_is2 w || lj_is2 u) with
      | true => rw [hb] at h; cases h
      | false => rw [hb] at h; exact hg _ _ _ _ _ hL (vbs_c.2 ⟨h1, vbs_c.2 ⟨h3, vbs_c.2 ⟨h5, vbs_c.2 ⟨h1, h6⟩⟩⟩⟩) hJ h
    · cases h
  case dup2 =>
    unfold lj_st at h
    dsimp only at h
    split at h
    · rename_i v w r
      obtain ⟨h1, h2⟩ := vbs_c.1 hs
      obtain ⟨h3, h4⟩ := vbs_c.1 h2
      cases hb : lj_is2 v with
      | true => rw [hb] at h; exact hg _ _ _ _ _ hL (vbs_c.2 ⟨h1, hs⟩) hJ h
      | false =>
        rw [hb] at h
        dsimp only [cond_false] at h
        cases hc : lj_is2 w with
        | true => rw [hc] at h; cases h
        | false => rw [hc] at h; exact hg _ _ _ _ _ hL (vbs_c.2 ⟨h1, vbs_c.2 ⟨h3, hs⟩⟩) hJ h
    · cases h
  case arraylength =>
    unfold lj_st at h
    dsimp only at h
    split at h
    · split at h
      · exact hg _ _ _ _ _ hL (vbs_c.2 ⟨rfl, (vbs_c.1 hs).2⟩) hJ h
      · cases h
    · cases h
  case ifnull t =>
    unfold lj_st at h
    dsimp only at h
    split at h
    · exact hg _ _ _ _ _ hL (vbs_c.1 hs).2 hJ h
    · exact hg _ _ _ _ _ hL (vbs_c.1 hs).2 hJ h
    · cases h
  case ifnonnull t =>
    unfold lj_st at h
    dsimp only at h
    split at h
    · exact hg _ _ _ _ _ hL (vbs_c.1 hs).2 hJ h
    · exact hg _ _ _ _ _ hL (vbs_c.1 hs).2 hJ h
    · cases h
  case ifCond c t => exact ft_i1 hs (fun x r hr h => lj_cmp_ft (fun h => hg _ _ _ _ _ hL hr hJ h) (fun h => hg _ _ _ _ _ hL hr hJ h) h) h
  case if_icmp c t => exact ft_i2 hs (fun x y r hr h => lj_cmp_ft (fun h => hg _ _ _ _ _ hL hr hJ h) (fun h => hg _ _ _ _ _ hL hr hJ h) h) h
  case tableswitch d lo hi' os => exact ft_i1 hs (fun x r hr h => lj_tab_ft (fun t h => hg _ _ _ _ _ hL hr hJ h) h) h
  case lookupswitch d ps => exact ft_i1 hs (fun x r hr h => lj_lkp_ft (fun t h => hg _ _ _ _ _ hL hr hJ h) h) h
  case goto t => exact hg _ _ _ _ _ hL hs hJ h
  case istore i => exact ft_i1 hs (fun x r hr h => hg _ _ _ _ _ (vbs_sto1 hL rfl) hr hJ h) h
  case istore_n i => exact ft_i1 hs (fun x r hr h => hg _ _ _ _ _ (vbs_sto1 hL rfl) hr hJ h) h
  case lstore i => exact ft_l1 hs (fun x r hr h => hg _ _ _ _ _ (vbs_sto2 hL rfl) hr hJ h) h
  case lstore_n i => exact ft_l1 hs (fun x r hr h => hg _ _ _ _ _ (vbs_sto2 hL rfl) hr hJ h) h
  case iinc i n => exact ft_ild (fun x h => hg _ _ _ _ _ (vbs_sto1 hL rfl) hs hJ h) h
  case aload i => exact ft_rld hL (fun x hx h => hg _ _ _ _ _ hL (vbs_c.2 ⟨hx, hs⟩) hJ h) h
  case aload_n i => exact ft_rld hL (fun x hx h => hg _ _ _ _ _ hL (vbs_c.2 ⟨hx, hs⟩) hJ h) h
  case iload i => exact ft_ild (fun x h => hg _ _ _ _ _ hL (vbs_c.2 ⟨rfl, hs⟩) hJ h) h
  case iload_n i => exact ft_ild (fun x h => hg _ _ _ _ _ hL (vbs_c.2 ⟨rfl, hs⟩) hJ h) h
  case lload i => exact ft_lld (fun x h => hg _ _ _ _ _ hL (vbs_c.2 ⟨rfl, hs⟩) hJ h) h
  case lload_n i => exact ft_lld (fun x h => hg _ _ _ _ _ hL (vbs_c.2 ⟨rfl, hs⟩) hJ h) h
  case idiv => exact ft_i2 hs (fun x y r hr h => by
    split at h
    · cases h
    · exact hg _ _ _ _ _ hL (vbs_c.2 ⟨rfl, hr⟩) hJ h) h
  case irem => exact ft_i2 hs (fun x y r hr h => by
    split at h
    · cases h
    · exact hg _ _ _ _ _ hL (vbs_c.2 ⟨rfl, hr⟩) hJ h) h
  case ldiv => exact ft_l2 hs (fun x y r hr h => by
    split at h
    · cases h
    · exact hg _ _ _ _ _ hL (vbs_c.2 ⟨rfl, hr⟩) hJ h) h
  case lrem => exact ft_l2 hs (fun x y r hr h => by
    split at h
    · cases h
    · exact hg _ _ _ _ _ hL (vbs_c.2 ⟨rfl, hr⟩) hJ h) h
  all_goals first
    | (have h : (none : Option lj_O) = some o := h
       cases h)
    | exact hg _ _ _ _ _ hL (vbs_c.2 ⟨rfl, hs⟩) hJ h
    | exact ft_i1 hs (fun x r hr h => hg _ _ _ _ _ hL (vbs_c.2 ⟨rfl, hr⟩) hJ h) h
    | exact ft_i2 hs (fun x y r hr h => hg _ _ _ _ _ hL (vbs_c.2 ⟨rfl, hr⟩) hJ h) h
    | exact ft_l1 hs (fun x r hr h => hg _ _ _ _ _ hL (vbs_c.2 ⟨rfl, hr⟩) hJ h) h
    | exact ft_l2 hs (fun x y r hr h => hg _ _ _ _ _ hL (vbs_c.2 ⟨rfl, hr⟩) hJ h) h
    | exact ft_li hs (fun x y r hr h => hg _ _ _ _ _ hL (vbs_c.2 ⟨rfl, hr⟩) hJ h) h
/-- calls that leave guarded places alone -/
def ftC (za : Nat → Bool) (S : Nat → Bool) (J : lj_S → Prop) (call : lj_Y) : Prop := ∀ id as σ o, S id = true → vbs za as = true → J σ → call id as σ = some o → ftO za J o
theorem ft_thr {ca : Nat → Nat → Bool} (hg : ftG za J go) (hL : vbs za L = true) : ∀ {hd : List (Nat × Nat × Nat × Nat)} {x : Nat} {σ : lj_S}, za x = false → J σ → lj_thr ca hd pc L go x σ = some o → ftO za J o
  | [], x, σ, hx, hJ, h => by
    cases h
    exact ⟨hJ, fun v e => (by cases e), fun y e => by cases e; exact hx⟩
  | (a, b, t, c) :: r, x, σ, hx, hJ, h => by
    unfold lj_thr at h
    cases h1 : (Nat.ble a pc && Nat.blt pc b) with
    | false => rw [h1] at h; exact ft_thr hg hL hx hJ h
    | true =>
      rw [h1] at h
      dsimp only [cond_true] at h
      cases h2 : ca c x with
      | false => rw [h2] at h; cases h
      | true =>
        rw [h2] at h
        exact hg _ _ _ _ _ hL (vbs_c.2 ⟨by show (!za x) = true; rw [hx]; rfl, rfl⟩) hJ h
theorem ft_hh {ca : Nat → Nat → Bool} (hg : ftG za J go) (hL : vbs za L = true) {hd : List (Nat × Nat × Nat × Nat)} {x : Nat} {σ : lj_S} (hx : za x = false) (hJ : J σ) (h : lj_hh ca hd pc L go x σ = some o) : ftO za J o := by
  cases hd with
  | nil =>
    cases h
    exact ⟨hJ, fun v e => (by cases e), fun y e => by cases e; exact hx⟩
  | cons a r => exact ft_thr hg hL hx hJ h
theorem ft_back {hh : Nat → lj_S → Option lj_O} {t : Nat} {oc : Option lj_O} (hg : ftG za J go) (hL : vbs za L = true) (hs : vbs za st = true) (ho : ∀ o, oc = some o → ftO za J o) (hx : ∀ x σ, za x = false → J σ → hh x σ = some o → ftO za J o) (h : lj_back t pc L st go hh oc = some o) : ftO za J o := by
  unfold lj_back at h
  split at h
  · unfold lj_bv at h
    split at h
    · exact hg _ _ _ _ _ hL hs (ho _ rfl).1 h
    · exact hx _ _ ((ho _ rfl).2.2 _ rfl) (ho _ rfl).1 h
    · cases h
  · unfold lj_bi at h
    split at h
    · exact hg _ _ _ _ _ hL (vbs_c.2 ⟨rfl, hs⟩) (ho _ rfl).1 h
    · exact hx _ _ ((ho _ rfl).2.2 _ rfl) (ho _ rfl).1 h
    · cases h
  · unfold lj_bl at h
    split at h
    · exact hg _ _ _ _ _ hL (vbs_c.2 ⟨rfl, hs⟩) (ho _ rfl).1 h
    · exact hx _ _ ((ho _ rfl).2.2 _ rfl) (ho _ rfl).1 h
    · cases h
  · unfold lj_br at h
    split at h
    · exact hg _ _ _ _ _ hL (vbs_c.2 ⟨(ho _ rfl).2.1 _ rfl, hs⟩) (ho _ rfl).1 h
    · exact hx _ _ ((ho _ rfl).2.2 _ rfl) (ho _ rfl).1 h
    · cases h
theorem ft_inv {ca : Nat → Nat → Bool} {call : lj_Y} (hC : ftC za S J call) (hg : ftG za J go) {i : Nat} (hi : (match lj_find M.2.2.2.1 i with
    | some (id, _) => S id
    | none => true) = true) (hL : vbs za L = true) (hs : vbs za st = true) (hJ : J σ) (h : lj_inv ds ca call M i pc L st σ go = some o) : ftO za J o := by
  unfold lj_inv at h
  cases hf : lj_find M.2.2.2.1 i with
  | none => rw [hf] at h; cases h
  | some q =>
    obtain ⟨id, n, t, rc⟩ := q
    rw [hf] at h hi
    dsimp only at h hi
    cases ha : lj_args n [] st with
    | none => rw [ha] at h; cases h
    | some q =>
      obtain ⟨as, r⟩ := q
      rw [ha] at h
      dsimp only at h
      cases hb : (lj_rc ds rc as && Nat.ble (lj_w r) 8) with
      | false => rw [hb] at h; cases h
      | true =>
        rw [hb] at h
        obtain ⟨a1, a2⟩ := vbs_args vbs_n hs ha
        exact ft_back hg hL a2 (fun o' e => hC id as σ o' hi a1 hJ e) (fun x σ' hx hJ' h => ft_hh hg hL hx hJ' h) h
set_option maxHeartbeats 4000000 in
theorem ft_one {ca : Nat → Nat → Bool} {call : lj_Y} (hX : ftJ ds zp za J) (hC : ftC za S J call) (hg : ftG za J go) {ins : Instr} (hi : ft1 ds zp za S M ins = true) (hL : vbs za L = true) (hs : vbs za st = true) (hJ : J σ) (h : lj_one ds ca call M ins pc len L st σ go = some o) : ftO za J o := by
  unfold lj_one at h
  split at h
  · split at h
    · cases h; exact ⟨hJ, fun v e => (by cases e), fun y e => by cases e⟩
    · cases h
  · split at h
    · cases h; exact ⟨hJ, fun v e => (by cases e; rfl), fun y e => by cases e⟩
    · cases h
  · split at h
    · cases h; exact ⟨hJ, fun v e => (by cases e; rfl), fun y e => by cases e⟩
    · cases h
  · split at h
    · cases h; exact ⟨hJ, fun v e => (by cases e; exact (vbs_c.1 hs).1), fun y e => by cases e⟩
    · cases h
  · split at h
    · rename_i x r
      cases hb : Nat.blt x 2000 with
      | false => rw [hb] at h; cases h
      | true =>
        rw [hb] at h
        exact ft_hh hg hL (by have := (vbs_c.1 hs).1; unfold vb at this; simpa using this) hJ h
    · cases h
  · exact ft_inv hC hg hi hL hs hJ h
  · exact ft_inv hC hg hi hL hs hJ h
  · exact ft_st hX hg hi hL hs hJ h
theorem lj_find_all {α : Type} {p : Nat × α → Bool} : ∀ {l : List (Nat × α)} {k : Nat} {x : α}, l.all p = true → lj_find l k = some x → ∃ a, p (a, x) = true
  | [], _, _, _, h => by cases h
  | (a, y) :: r, k, x, h, e => by
    rw [List.all_cons, Bool.and_eq_true] at h
    unfold lj_find at e
    cases hb : Nat.beq a k with
    | true => rw [hb] at e; cases e; exact ⟨a, h.1⟩
    | false => rw [hb] at e; exact lj_find_all h.2 e
theorem ft_ex {ca : Nat → Nat → Bool} {call : lj_Y} (hX : ftJ ds zp za J) (hC : ftC za S J call) (hM : ftM ds zp za S M = true) {jump : lj_K} (hj : ftG za J jump) : ∀ k, ftG za J (lj_ex ds ca call M jump k)
  | 0 => fun pc L st σ o _ _ _ h => by cases h
  | k + 1 => fun pc L st σ o hL hs hJ h => by
    unfold lj_ex at h
    split at h
    · cases h
    · rename_i ins len hf
      obtain ⟨a, ha⟩ := lj_find_all hM hf
      refine ft_one hX hC (fun pc' L' st' σ' o' hL' hs' hJ' h' => ?_) ha hL hs hJ h
      cases hb : lj_mem M.2.1 pc' with
      | true => rw [hb] at h'; exact hj _ _ _ _ _ hL' hs' hJ' h'
      | false => rw [hb] at h'; exact ft_ex hX hC hM hj k _ _ _ _ _ hL' hs' hJ' h'
theorem ft_exec {ca : Nat → Nat → Bool} {call : lj_Y} (hX : ftJ ds zp za J) (hC : ftC za S J call) (hM : ftM ds zp za S M = true) : ∀ n, ftG za J (lj_exec ds ca call M n)
  | 0 => fun pc L st σ o _ _ _ h => by cases h
  | n + 1 => ft_ex hX hC hM (ft_exec hX hC hM n) 4000
/-- methods of S keep what is to be kept -/
theorem ft_run {P : lj_P} (hX : ftJ P.1 zp za J) (hS : ∀ id nL M, S id = true → P.2.2.2 id = some (nL, M) → ftM P.1 zp za S M = true) (hP : ∀ id as σ o, P.2.2.1 id as σ = some o → J σ → ftO za J o) : ∀ D n, ftC za S J (lj_run P D n)
  | 0, n => fun id as σ o _ _ _ h => by cases h
  | D + 1, n => fun id as σ o h1 h2 hJ h => by
    unfold lj_run at h
    cases hm : P.2.2.2 id with
    | none => rw [hm] at h; exact hP _ _ _ _ h hJ
    | some q =>
      obtain ⟨nL, M⟩ := q
      rw [hm] at h
      dsimp only at h
      cases hb : lj_may P id as nL σ with
      | false => rw [hb] at h; cases h
      | true =>
        rw [hb] at h
        exact ft_exec hX (ft_run hX hS hP D n) (hS id nL M h1 hm) n 0 _ _ _ _ (vbs_loc h2) rfl hJ h
theorem ft_R {P : lj_P} (hX : ftJ P.1 zp za J) (hS : ∀ id nL M, S id = true → P.2.2.2 id = some (nL, M) → ftM P.1 zp za S M = true) (hP : ∀ id as σ o, P.2.2.1 id as σ = some o → J σ → ftO za J o) {id : Nat} {as : List Value} {σ : lj_S} {o : lj_O} (h1 : S id = true) (h2 : vbs za as = true) (hJ : J σ) (h : lj_R P id as σ = some o) : ftO za J o := by
  obtain ⟨n, hn⟩ := lj_R_spec.1 h
  exact ft_run hX hS hP n n id as σ o h1 h2 hJ hn
