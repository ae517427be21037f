/-! FOOTPRINTS: what is kept may depend on the kind of an array (printed by gen9c05.py out of 22.foot) -/
/-- what is kept stands every put that may come -/
def ftJ2 (ds : List lj_C) (zp : Nat → Nat → Bool) (za : Nat → Bool) (J : lj_S → Prop) : Prop :=
  (∀ σ k j ci fs f, lj_nth ds k = some (.inl (ci, fs)) → lj_nth fs j = some f → zp k j = false → J σ → (∀ v, J (lj_put σ k j v)) ∧ ∀ v, J (lj_putL σ k j v)) ∧
  ∀ σ k i t n, lj_nth ds k = some (.inr (t, n)) → za k = false → i < n → J σ → (∀ v, (t = 2 → ∃ w, v = vp_nar .byte w) → (t = 3 → ∃ w, v = vp_nar .boolean w) → J (lj_put σ k i v)) ∧ ∀ v, J (lj_putL σ k i v)
variable {ds : List lj_C} {zp : Nat → Nat → Bool} {za : Nat → Bool} {S : Nat → Bool} {M : lj_M} {J : lj_S → Prop} {go : lj_K} {pc len : Nat} {L st : List Value} {σ : lj_S} {o : lj_O}
theorem ft_putf2 (hX : ftJ2 ds zp za J) (hg : ftG za J go) {i : Nat} (hi : ft1 ds zp za S M (.putfield i) = true) (hL : vbs za L = true) (hs : vbs za st = true) (hJ : J σ) (h : lj_putf ds M.2.2.1 i pc L st σ go = some o) : ftO za J o := by
  have key : ∀ k ci j ci' fs f, lj_find M.2.2.1 i = some (ci, j) → lj_nth ds k = some (.inl (ci', fs)) → Nat.beq ci ci' = true → lj_nth fs j = some f → (∀ v, J (lj_put σ k j v)) ∧ ∀ v, J (lj_putL σ k j v) := by
    intro k ci j ci' fs f hf hd hb hn
    have hi : (match lj_find M.2.2.1 i with
      | some (ci, j) => lj_alln (fun k d => match d with
        | .inl (ci', _) => bif Nat.beq ci ci' then !zp k j else true
        | _ => true) 0 ds
      | none => true) = true := hi
    rw [hf] at hi
    have := lj_alln_ok hi hd
    dsimp only at this
    rw [hb, Nat.zero_add] at this
    dsimp only [cond_true] at this
    exact hX.1 σ k j ci' fs f hd hn (by simpa using this) hJ
  unfold lj_putf at h
  split at h
  · rename_i v k r
    have hr := (vbs_c.1 (vbs_c.1 hs).2).2
    cases hf : lj_find M.2.2.1 i with
    | none => rw [hf] at h; cases h
    | some q =>
      obtain ⟨ci, j⟩ := q
      cases hd : lj_nth ds k with
      | none => rw [hf, hd] at h; cases h
      | some d =>
        cases d with
        | inr z => rw [hf, hd] at h; cases h
        | inl z =>
          obtain ⟨ci', fs⟩ := z
          rw [hf, hd] at h
          dsimp only at h
          cases hb : Nat.beq ci ci' with
          | false => rw [hb] at h; cases h
          | true =>
            rw [hb] at h
            dsimp only [cond_true] at h
            split at h
            · rename_i hn
              exact hg _ _ _ _ _ hL hr ((key k ci j ci' fs _ hf hd hb hn).1 v) h
            · rename_i hn
              split at h
              · exact hg _ _ _ _ _ hL hr ((key k ci j ci' fs _ hf hd hb hn).1 v) h
              · cases h
            · cases h
  · rename_i v k r
    have hr := (vbs_c.1 (vbs_c.1 hs).2).2
    cases hf : lj_find M.2.2.1 i with
    | none => rw [hf] at h; cases h
    | some q =>
      obtain ⟨ci, j⟩ := q
      cases hd : lj_nth ds k with
      | none => rw [hf, hd] at h; cases h
      | some d =>
        cases d with
        | inr z => rw [hf, hd] at h; cases h
        | inl z =>
          obtain ⟨ci', fs⟩ := z
          rw [hf, hd] at h
          dsimp only at h
          cases hb : Nat.beq ci ci' with
          | false => rw [hb] at h; cases h
          | true =>
            rw [hb] at h
            dsimp only [cond_true] at h
            split at h
            · rename_i hn
              exact hg _ _ _ _ _ hL hr ((key k ci j ci' fs _ hf hd hb hn).2 v) h
            · cases h
  · cases h
theorem ft_ast2 (hX : ftJ2 ds zp za J) (hg : ftG za J go) {b : Bool} (hL : vbs za L = true) (hs : vbs za st = true) (hJ : J σ) (h : lj_ast ds b pc L st σ go = some o) : ftO za J o := by
  unfold lj_ast at h
  split at h
  · rename_i v i k r
    have hr := (vbs_c.1 (vbs_c.1 (vbs_c.1 hs).2).2)
    have hk : za k = false := by have := hr.1; unfold vb at this; simpa using this
    split at h
    · rename_i t n hd
      cases b with
      | true =>
        dsimp only [cond_true] at h
        split at h
        · split at h
          · rename_i q; exact hg _ _ _ _ _ hL hr.2 ((hX.2 σ k _ _ n hd hk q.1 hJ).1 _ (fun e => by first | exact ⟨_, rfl⟩ | cases e) (fun e => by first | exact ⟨_, rfl⟩ | cases e)) h
          · cases h
        · split at h
          · rename_i q; exact hg _ _ _ _ _ hL hr.2 ((hX.2 σ k _ _ n hd hk q.1 hJ).1 _ (fun e => by first | exact ⟨_, rfl⟩ | cases e) (fun e => by first | exact ⟨_, rfl⟩ | cases e)) h
          · cases h
        · cases h
      | false =>
        dsimp only [cond_false] at h
        split at h
        · split at h
          · rename_i q; exact hg _ _ _ _ _ hL hr.2 ((hX.2 σ k _ _ n hd hk q.1 hJ).1 _ (fun e => by first | exact ⟨_, rfl⟩ | cases e) (fun e => by first | exact ⟨_, rfl⟩ | cases e)) h
          · cases h
        · cases h
    · cases h
  · cases h
theorem ft_last2 (hX : ftJ2 ds zp za J) (hg : ftG za J go) (hL : vbs za L = true) (hs : vbs za st = true) (hJ : J σ) (h : lj_last ds pc L st σ go = some o) : ftO za J o := by
  unfold lj_last at h
  split at h
  · rename_i v i k r
    have hr := (vbs_c.1 (vbs_c.1 (vbs_c.1 hs).2).2)
    have hk : za k = false := by have := hr.1; unfold vb at this; simpa using this
    split at h
    · rename_i n hd
      split at h
      · rename_i q; exact hg _ _ _ _ _ hL hr.2 ((hX.2 σ k _ _ n hd hk q.1 hJ).2 _) h
      · cases h
    · cases h
  · cases h
set_option maxHeartbeats 4000000 in
theorem ft_st2 (hX : ftJ2 ds zp za J) (hg : ftG za J go) {ins : Instr} (hi : ft1 ds zp za S M ins = true) (hL : vbs za L = true) (hs : vbs za st = true) (hJ : J σ) (h : lj_st ds M.2.2.1 M.2.2.2.2.1 ins pc len L st σ go = some o) : ftO za J o := by
  cases ins
  case getfield i => exact ft_getf hg hi hL hs hJ h
  case putfield i => exact ft_putf2 hX hg hi hL hs hJ h
  case iaload => exact ft_ald hg hL hs hJ h
  case baload => exact ft_ald hg hL hs hJ h
  case laload => exact ft_lald hg hL hs hJ h
  case iastore => exact ft_ast2 hX hg hL hs hJ h
  case bastore => exact ft_ast2 hX hg hL hs hJ h
  case lastore => exact ft_last2 hX hg hL hs hJ h
  case ldc i =>
    unfold lj_st at h
    unfold ft1 at hi
    dsimp only at h hi
    split at h
    · exact hg _ _ _ _ _ hL (vbs_c.2 ⟨rfl, hs⟩) hJ h
    · rename_i v e
      rw [e] at hi
      have hi : vb za (.ref v) = true := hi
      exact hg _ _ _ _ _ hL (vbs_c.2 ⟨hi, hs⟩) hJ h
    · cases h
  case ldc_w i =>
    unfold lj_st at h
    unfold ft1 at hi
    dsimp only at h hi
    split at h
    · exact hg _ _ _ _ _ hL (vbs_c.2 ⟨rfl, hs⟩) hJ h
    · rename_i v e
      rw [e] at hi
      have hi : vb za (.ref v) = true := hi
      exact hg _ _ _ _ _ hL (vbs_c.2 ⟨hi, hs⟩) hJ h
    · cases h
  case ldc2_w i =>
    unfold lj_st at h
    dsimp only at h
    split at h
    · exact hg _ _ _ _ _ hL (vbs_c.2 ⟨rfl, hs⟩) hJ h
    · cases h
  case astore i =>
    unfold lj_st at h
    dsimp only at h
    split at h
    · exact hg _ _ _ _ _ (vbs_sto1 hL (vbs_c.1 hs).1) (vbs_c.1 hs).2 hJ h
    · exact hg _ _ _ _ _ (vbs_sto1 hL rfl) (vbs_c.1 hs).2 hJ h
    · cases h
  case astore_n i =>
    unfold lj_st at h
    dsimp only at h
    split at h
    · exact hg _ _ _ _ _ (vbs_sto1 hL (vbs_c.1 hs).1) (vbs_c.1 hs).2 hJ h
    · exact hg _ _ _ _ _ (vbs_sto1 hL rfl) (vbs_c.1 hs).2 hJ h
    · cases h
  case dup =>
    unfold lj_st at h
    dsimp only at h
    split at h
    · rename_i v r
      cases hb : lj_is2 v with
      | true => rw [hb] at h; cases h
      | false => rw [hb] at h; exact hg _ _ _ _ _ hL (vbs_c.2 ⟨(vbs_c.1 hs).1, hs⟩) hJ h
    · cases h
  case pop =>
    unfold lj_st at h
    dsimp only at h
    split at h
    · rename_i v r
      cases hb : lj_is2 v with
      | true => rw [hb] at h; cases h
      | false => rw [hb] at h; exact hg _ _ _ _ _ hL (vbs_c.1 hs).2 hJ h
    · cases h
  case dup_x1 =>
    unfold lj_st at h
    dsimp only at h
    split at h
    · rename_i v w r
      obtain ⟨h1, h2⟩ := vbs_c.1 hs
      obtain ⟨h3, h4⟩ := vbs_c.1 h2
      cases hb : (lj_is2 v || lj_is2 w) with
      | true => rw [hb] at h; cases h
      | false => rw [hb] at h; exact hg _ _ _ _ _ hL (vbs_c.2 ⟨h1, vbs_c.2 ⟨h3, vbs_c.2 ⟨h1, h4⟩⟩⟩) hJ h
    · cases h
  case dup_x2 =>
    unfold lj_st at h
    dsimp only at h
    split at h
    · rename_i v w u r
      obtain ⟨h1, h2⟩ := vbs_c.1 hs
      obtain ⟨h3, h4⟩ := vbs_c.1 h2
      obtain ⟨h5, h6⟩ := vbs_c.1 h4
      cases hb : (lj_is2 v || lj_is2 w || lj_is2 u) with
      | true => rw [hb] at h; cases h
      | false => rw [hb] at h; exact hg _ _ _ _ _ hL (vbs_c.2 ⟨h1, vbs_c.2 ⟨h3, vbs_c.2 ⟨h5, vbs_c.2 ⟨h1, h6⟩⟩⟩⟩) hJ h
    · cases h
  case dup2 =>
    unfold lj_st at h
    dsimp only at h
    split at h
    · rename_i v w r
      obtain ⟨h1, h2⟩ := vbs_c.1 hs
      obtain ⟨h3, h4⟩ := vbs_c.1 h2
      cases hb : lj_is2 v with
      | true => rw [hb] at h; exact hg _ _ _ _ _ hL (vbs_c.2 ⟨h1, hs⟩) hJ h
      | false =>
        rw [hb] at h
        dsimp only [cond_false] at h
        cases hc : lj_is2 w with
        | true => rw [hc] at h; cases h
        | false => rw [hc] at h; exact hg _ _ _ _ _ hL (vbs_c.2 ⟨h1, vbs_c.2 ⟨h3, hs⟩⟩) hJ h
    · cases h
  case arraylength =>
    unfold lj_st at h
    dsimp only at h
    split at h
    · split at h
      · exact hg _ _ _ _ _ hL (vbs_c.2 ⟨rfl, (vbs_c.1 hs).2⟩) hJ h
      · cases h
    · cases h
  case ifnull t =>
    unfold lj_st at h
    dsimp only at h
    split at h
    · exact hg _ _ _ _ _ hL (vbs_c.1 hs).2 hJ h
    · exact hg _ _ _ _ _ hL (vbs_c.1 hs).2 hJ h
    · cases h
  case ifnonnull t =>
    unfold lj_st at h
    dsimp only at h
    split at h
    · exact hg _ _ _ _ _ hL (vbs_c.1 hs).2 hJ h
    · exact hg _ _ _ _ _ hL (vbs_c.1 hs).2 hJ h
    · cases h
  case ifCond c t => exact ft_i1 hs (fun x r hr h => lj_cmp_ft (fun h => hg _ _ _ _ _ hL hr hJ h) (fun h => hg _ _ _ _ _ hL hr hJ h) h) h
  case if_icmp c t => exact ft_i2 hs (fun x y r hr h => lj_cmp_ft (fun h => hg _ _ _ _ _ hL hr hJ h) (fun h => hg _ _ _ _ _ hL hr hJ h) h) h
  case tableswitch d lo hi' os => exact ft_i1 hs (fun x r hr h => lj_tab_ft (fun t h => hg _ _ _ _ _ hL hr hJ h) h) h
  case lookupswitch d ps => exact ft_i1 hs (fun x r hr h => lj_lkp_ft (fun t h => hg _ _ _ _ _ hL hr hJ h) h) h
  case goto t => exact hg _ _ _ _ _ hL hs hJ h
  case istore i => exact ft_i1 hs (fun x r hr h => hg _ _ _ _ _ (vbs_sto1 hL rfl) hr hJ h) h
  case istore_n i => exact ft_i1 hs (fun x r hr h => hg _ _ _ _ _ (vbs_sto1 hL rfl) hr hJ h) h
  case lstore i => exact ft_l1 hs (fun x r hr h => hg _ _ _ _ _ (vbs_sto2 hL rfl) hr hJ h) h
  case lstore_n i => exact ft_l1 hs (fun x r hr h => hg _ _ _ _ _ (vbs_sto2 hL rfl) hr hJ h) h
  case iinc i n => exact ft_ild (fun x h => hg _ _ _ _ _ (vbs_sto1 hL rfl) hs hJ h) h
  case aload i => exact ft_rld hL (fun x hx h => hg _ _ _ _ _ hL (vbs_c.2 ⟨hx, hs⟩) hJ h) h
  case aload_n i => exact ft_rld hL (fun x hx h => hg _ _ _ _ _ hL (vbs_c.2 ⟨hx, hs⟩) hJ h) h
  case iload i => exact ft_ild (fun x h => hg _ _ _ _ _ hL (vbs_c.2 ⟨rfl, hs⟩) hJ h) h
  case iload_n i => exact ft_ild (fun x h => hg _ _ _ _ _ hL (vbs_c.2 ⟨rfl, hs⟩) hJ h) h
  case lload i => exact ft_lld (fun x h => hg _ _ _ _ _ hL (vbs_c.2 ⟨rfl, hs⟩) hJ h) h
  case lload_n i => exact ft_lld (fun x h => hg _ _ _ _ _ hL (vbs_c.2 ⟨rfl, hs⟩) hJ h) h
  case idiv => exact ft_i2 hs (fun x y r hr h => by
    split at h
    · cases h
    · exact hg _ _ _ _ _ hL (vbs_c.2 ⟨rfl, hr⟩) hJ h) h
  case irem => exact ft_i2 hs (fun x y r hr h => by
    split at h
    · cases h
    · exact hg _ _ _ _ _ hL (vbs_c.2 ⟨rfl, hr⟩) hJ h) h
  case ldiv => exact ft_l2 hs (fun x y r hr h => by
    split at h
    · cases h
    · exact hg _ _ _ _ _ hL (vbs_c.2 ⟨rfl, hr⟩) hJ h) h
  case lrem => exact ft_l2 hs (fun x y r hr h => by
    split at h
    · cases h
    · exact hg _ _ _ _ _ hL (vbs_c.2 ⟨rfl, hr⟩) hJ h) h
  all_goals first
    | (have h : (none : Option lj_O) = some o := h
       cases h)
    | exact hg _ _ _ _ _ hL (vbs_c.2 ⟨rfl, hs⟩) hJ h
    | exact ft_i1 hs (fun x r hr h => hg _ _ _ _ _ hL (vbs_c.2 ⟨rfl, hr⟩) hJ h) h
    | exact ft_i2 hs (fun x y r hr h => hg _ _ _ _ _ hL (vbs_c.2 ⟨rfl, hr⟩) hJ h) h
    | exact ft_l1 hs (fun x r hr h => hg _ _ _ _ _ hL (vbs_c.2 ⟨rfl, hr⟩) hJ h) h
    | exact ft_l2 hs (fun x y r hr h => hg _ _ _ _ _ hL (vbs_c.2 ⟨rfl, hr⟩) hJ h) h
    | exact ft_li hs (fun x y r hr h => hg _ _ _ _ _ hL (vbs_c.2 ⟨rfl, hr⟩) hJ h) h
/-- calls that leave guarded places alone, where what is given is as A says -/
def ftC2 (za : Nat → Bool) (S : Nat → Bool) (A : Nat → List Value → Prop) (J : lj_S → Prop) (call : lj_Y) : Prop := ∀ id as σ o, S id = true → A id as → vbs za as = true → J σ → call id as σ = some o → ftO za J o
def ftX (ds : List lj_C) (S : Nat → Bool) (A : Nat → List Value → Prop) (M : lj_M) : Prop := ∀ i id n t rc as, lj_find M.2.2.2.1 i = some (id, n, t, rc) → as.length = n → lj_rc ds rc as = true → S id = true → A id as
theorem args_len : ∀ {n : Nat} {acc st as r : List Value}, lj_args n acc st = some (as, r) → as.length = n + acc.length
  | 0, acc, st, as, r, e => by cases e; omega
  | n + 1, acc, v :: st, as, r, e => by have := args_len (n := n) e; rw [List.length_cons] at this; omega
  | _ + 1, _, [], _, _, e => by cases e
theorem vbs_al {n : Nat} {st as r : List Value} (e : lj_args n [] st = some (as, r)) : as.length = n := by have := args_len e; simpa using this
theorem ft_inv2 {A : Nat → List Value → Prop} {ca : Nat → Nat → Bool} {call : lj_Y} (hC : ftC2 za S A J call) (hAx : ftX ds S A M) (hg : ftG za J go) {i : Nat} (hi : (match lj_find M.2.2.2.1 i with
    | some (id, _) => S id
    | none => true) = true) (hL : vbs za L = true) (hs : vbs za st = true) (hJ : J σ) (h : lj_inv ds ca call M i pc L st σ go = some o) : ftO za J o := by
  unfold lj_inv at h
  cases hf : lj_find M.2.2.2.1 i with
  | none => rw [hf] at h; cases h
  | some q =>
    obtain ⟨id, n, t, rc⟩ := q
    rw [hf] at h hi
    dsimp only at h hi
    cases ha : lj_args n [] st with
    | none => rw [ha] at h; cases h
    | some q =>
      obtain ⟨as, r⟩ := q
      rw [ha] at h
      dsimp only at h
      cases hb : (lj_rc ds rc as && Nat.ble (lj_w r) 8) with
      | false => rw [hb] at h; cases h
      | true =>
        rw [hb] at h
        obtain ⟨a1, a2⟩ := vbs_args vbs_n hs ha
        exact ft_back hg hL a2 (fun o' e => hC id as σ o' hi (hAx i id n t rc as hf (vbs_al ha) (by rw [Bool.and_eq_true] at hb; exact hb.1) hi) a1 hJ e) (fun x σ' hx hJ' h => ft_hh hg hL hx hJ' h) h
set_option maxHeartbeats 4000000 in
theorem ft_one2 {A : Nat → List Value → Prop} {ca : Nat → Nat → Bool} {call : lj_Y} (hX : ftJ2 ds zp za J) (hC : ftC2 za S A J call) (hAx : ftX ds S A M) (hg : ftG za J go) {ins : Instr} (hi : ft1 ds zp za S M ins = true) (hL : vbs za L = true) (hs : vbs za st = true) (hJ : J σ) (h : lj_one ds ca call M ins pc len L st σ go = some o) : ftO za J o := by
  unfold lj_one at h
  split at h
  · split at h
    · cases h; exact ⟨hJ, fun v e => (by cases e), fun y e => by cases e⟩
    · cases h
  · split at h
    · cases h; exact ⟨hJ, fun v e => (by cases e; rfl), fun y e => by cases e⟩
    · cases h
  · split at h
    · cases h; exact ⟨hJ, fun v e => (by cases e; rfl), fun y e => by cases e⟩
    · cases h
  · split at h
    · cases h; exact ⟨hJ, fun v e => (by cases e; exact (vbs_c.1 hs).1), fun y e => by cases e⟩
    · cases h
  · split at h
    · rename_i x r
      cases hb : Nat.blt x 2000 with
      | false => rw [hb] at h; cases h
      | true =>
        rw [hb] at h
        exact ft_hh hg hL (by have := (vbs_c.1 hs).1; unfold vb at this; simpa using this) hJ h
    · cases h
  · exact ft_inv2 hC hAx hg hi hL hs hJ h
  · exact ft_inv2 hC hAx hg hi hL hs hJ h
  · exact ft_st2 hX hg hi hL hs hJ h
theorem ft_ex2 {A : Nat → List Value → Prop} {ca : Nat → Nat → Bool} {call : lj_Y} (hX : ftJ2 ds zp za J) (hC : ftC2 za S A J call) (hAx : ftX ds S A M) (hM : ftM ds zp za S M = true) {jump : lj_K} (hj : ftG za J jump) : ∀ k, ftG za J (lj_ex ds ca call M jump k)
  | 0 => fun pc L st σ o _ _ _ h => by cases h
  | k + 1 => fun pc L st σ o hL hs hJ h => by
    unfold lj_ex at h
    split at h
    · cases h
    · rename_i ins len hf
      obtain ⟨a, ha⟩ := lj_find_all hM hf
      refine ft_one2 hX hC hAx (fun pc' L' st' σ' o' hL' hs' hJ' h' => ?_) ha hL hs hJ h
      cases hb : lj_mem M.2.1 pc' with
      | true => rw [hb] at h'; exact hj _ _ _ _ _ hL' hs' hJ' h'
      | false => rw [hb] at h'; exact ft_ex2 hX hC hAx hM hj k _ _ _ _ _ hL' hs' hJ' h'
theorem ft_exec2 {A : Nat → List Value → Prop} {ca : Nat → Nat → Bool} {call : lj_Y} (hX : ftJ2 ds zp za J) (hC : ftC2 za S A J call) (hAx : ftX ds S A M) (hM : ftM ds zp za S M = true) : ∀ n, ftG za J (lj_exec ds ca call M n)
  | 0 => fun pc L st σ o _ _ _ h => by cases h
  | n + 1 => ft_ex2 hX hC hAx hM (ft_exec2 hX hC hAx hM n) 4000
/-- methods of S keep what is to be kept; those of Z by their own proofs -/
theorem ft_run2 {A : Nat → List Value → Prop} {Z : Nat → Bool} {P : lj_P} (hX : ftJ2 P.1 zp za J) (hS : ∀ id nL M, S id = true → Z id = false → P.2.2.2 id = some (nL, M) → ftM P.1 zp za S M = true ∧ ftX P.1 S A M) (hP : ∀ id as σ o, P.2.2.1 id as σ = some o → J σ → ftO za J o)
    (hZ : ∀ D n, ftC2 za S A J (lj_run P D n) → ∀ id as σ o, S id = true → Z id = true → A id as → vbs za as = true → J σ → lj_run P (D + 1) n id as σ = some o → ftO za J o) : ∀ D n, ftC2 za S A J (lj_run P D n)
  | 0, n => fun id as σ o _ _ _ _ h => by cases h
  | D + 1, n => fun id as σ o h1 h1a h2 hJ h => by
    cases hz : Z id with
    | true => exact hZ D n (ft_run2 hX hS hP hZ D n) id as σ o h1 hz h1a h2 hJ h
    | false =>
      unfold lj_run at h
      cases hm : P.2.2.2 id with
      | none => rw [hm] at h; exact hP _ _ _ _ h hJ
      | some q =>
        obtain ⟨nL, M⟩ := q
        rw [hm] at h
        dsimp only at h
        cases hb : lj_may P id as nL σ with
        | false => rw [hb] at h; cases h
        | true =>
          rw [hb] at h
          obtain ⟨w1, w2⟩ := hS id nL M h1 hz hm
          exact ft_exec2 hX (ft_run2 hX hS hP hZ D n) w2 w1 n 0 _ _ _ _ (vbs_loc h2) rfl hJ h
theorem ft_R2 {A : Nat → List Value → Prop} {Z : Nat → Bool} {P : lj_P} (hX : ftJ2 P.1 zp za J) (hS : ∀ id nL M, S id = true → Z id = false → P.2.2.2 id = some (nL, M) → ftM P.1 zp za S M = true ∧ ftX P.1 S A M) (hP : ∀ id as σ o, P.2.2.1 id as σ = some o → J σ → ftO za J o)
    (hZ : ∀ D n, ftC2 za S A J (lj_run P D n) → ∀ id as σ o, S id = true → Z id = true → A id as → vbs za as = true → J σ → lj_run P (D + 1) n id as σ = some o → ftO za J o) {id : Nat} {as : List Value} {σ : lj_S} {o : lj_O} (h1 : S id = true) (h1a : A id as) (h2 : vbs za as = true) (hJ : J σ) (h : lj_R P id as σ = some o) : ftO za J o := by
  obtain ⟨n, hn⟩ := lj_R_spec.1 h
  exact ft_run2 hX hS hP hZ n n id as σ o h1 h1a h2 hJ hn

/-- arrays of bytes hold bytes, arrays of truths hold truths -/
def tyJ (ds : List lj_C) (σ : lj_S) : Prop := ∀ k t n i, lj_nth ds k = some (.inr (t, n)) → i < n → (t = 2 → lz_by (σ.1 k i) = σ.1 k i) ∧ (t = 3 → σ.1 k i = 0 ∨ σ.1 k i = 1)
theorem nar_by (w : Int32) : lz_by (vp_nar .byte w) = vp_nar .byte w := lz_by2 w
theorem nar_bo (w : Int32) : vp_nar .boolean w = 0 ∨ vp_nar .boolean w = 1 := by
  have e : vp_nar .boolean w = w &&& 1 := rfl
  have q := lz_and w 1 (by decide)
  have q2 : (w &&& 1).toInt ≤ 1 := q.2
  rw [e]
  by_cases z : (w &&& 1).toInt = 0
  · exact Or.inl (lz_ext z)
  · exact Or.inr (lz_ext (by show (w &&& 1).toInt = 1; omega))
theorem tyJ_J (ds : List lj_C) : ftJ2 ds (fun _ _ => false) (fun _ => false) (tyJ ds) := by
  refine ⟨fun σ k j ci fs f h1 h2 h3 hJ => ⟨fun v k' t n i' h h' => ?_, fun v k' t n i' h h' => ?_⟩, fun σ k i t0 n0 h1 h2 h3 hJ => ⟨fun v v2 v3 k' t n i' h h' => ?_, fun v k' t n i' h h' => ?_⟩⟩
  · have hn : ¬ (k' = k ∧ i' = j) := fun e => by rw [e.1, h1] at h; cases h
    rw [(put_oth σ v hn).1]; exact hJ k' t n i' h h'
  · rw [show (lj_putL σ k j v).1 k' i' = σ.1 k' i' from rfl]; exact hJ k' t n i' h h'
  · by_cases e : k' = k ∧ i' = i
    · rw [e.1, h1] at h
      cases h
      rw [e.1, e.2, lj_put_1, if_pos ⟨rfl, rfl⟩]
      refine ⟨fun e2 => ?_, fun e3 => ?_⟩
      · obtain ⟨w, rfl⟩ := v2 e2; exact nar_by w
      · obtain ⟨w, rfl⟩ := v3 e3; exact nar_bo w
    · rw [(put_oth σ v e).1]; exact hJ k' t n i' h h'
  · rw [show (lj_putL σ k i v).1 k' i' = σ.1 k' i' from rfl]; exact hJ k' t n i' h h'
theorem lc_ty {id : Nat} {as : List Value} {σ : lj_S} {o : lj_O} (hJ : tyJ lc_ds σ) (h : lj_R lc_P id as σ = some o) : tyJ lc_ds o.2 :=
  (ft_R2 (A := fun _ _ => True) (Z := fun _ => false) (S := fun _ => true) (za := fun _ => false) (zp := fun _ _ => false) (P := lc_P) (tyJ_J lc_ds) (fun _ _ M _ _ _ => ⟨List.all_eq_true.2 (fun _ _ => ft1_t _ M _), fun _ _ _ _ _ _ _ _ _ _ => trivial⟩) (lc_ftP (fun _ _ => rfl)) (fun _ _ _ _ _ _ _ _ hz _ _ _ _ => (Bool.false_ne_true hz).elim) rfl trivial (List.all_eq_true.2 (fun v _ => by cases v <;> rfl)) hJ h).1
theorem lm_ty {id : Nat} {as : List Value} {σ : lj_S} {o : lj_O} (hJ : tyJ lm_ds σ) (h : lj_R lm_P id as σ = some o) : tyJ lm_ds o.2 :=
  (ft_R2 (A := fun _ _ => True) (Z := fun _ => false) (S := fun _ => true) (za := fun _ => false) (zp := fun _ _ => false) (P := lm_P) (tyJ_J lm_ds) (fun _ _ M _ _ _ => ⟨List.all_eq_true.2 (fun _ _ => ft1_t _ M _), fun _ _ _ _ _ _ _ _ _ _ => trivial⟩) lm_ftP (fun _ _ _ _ _ _ _ _ hz _ _ _ _ => (Bool.false_ne_true hz).elim) rfl trivial (List.all_eq_true.2 (fun v _ => by cases v <;> rfl)) hJ h).1
