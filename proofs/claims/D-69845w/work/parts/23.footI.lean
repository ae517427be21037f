/-! FOOTPRINTS of both programs -/
theorem lj_mem_in : ∀ {l : List Nat} {k : Nat}, lj_mem l k = true → k ∈ l
  | [], _, h => by cases h
  | a :: r, k, h => by
    unfold lj_mem at h
    cases hb : Nat.beq a k with
    | true => rw [Nat.eq_of_beq_eq_true hb]; exact List.mem_cons_self
    | false => rw [hb] at h; exact List.mem_cons_of_mem _ (lj_mem_in h)
def ftA (P : lj_P) (zp : Nat → Nat → Bool) (za : Nat → Bool) (ids : List Nat) : Bool := ids.all fun id => match P.2.2.2 id with
  | some (_, M) => ftM P.1 zp za (lj_mem ids) M
  | none => true
theorem ft_ids {P : lj_P} {zp : Nat → Nat → Bool} {za : Nat → Bool} {ids : List Nat} (h : ftA P zp za ids = true) (id nL : Nat) (M : lj_M) (hm : lj_mem ids id = true) (e : P.2.2.2 id = some (nL, M)) : ftM P.1 zp za (lj_mem ids) M = true := by
  have := List.all_eq_true.1 h id (lj_mem_in hm)
  (try dsimp only at this)
  rw [e] at this
  exact this
/-- guarded places are as they were -/
def zKp (zp : Nat → Nat → Bool) (σ0 σ : lj_S) : Prop := ∀ k i, zp k i = true → σ.1 k i = σ0.1 k i ∧ σ.2 k i = σ0.2 k i
theorem put_oth (σ : lj_S) {k i k' i' : Nat} (v : Int32) (h : ¬ (k' = k ∧ i' = i)) : (lj_put σ k i v).1 k' i' = σ.1 k' i' ∧ (lj_put σ k i v).2 k' i' = σ.2 k' i' := by
  refine ⟨?_, rfl⟩
  unfold lj_put
  (try dsimp only)
  split
  · rename_i e
    subst e
    unfold upd
    split
    · rename_i e; exact absurd ⟨rfl, e⟩ h
    · rfl
  · rfl
theorem putL_oth (σ : lj_S) {k i k' i' : Nat} (v : Int64) (h : ¬ (k' = k ∧ i' = i)) : (lj_putL σ k i v).1 k' i' = σ.1 k' i' ∧ (lj_putL σ k i v).2 k' i' = σ.2 k' i' := by
  refine ⟨rfl, ?_⟩
  unfold lj_putL
  (try dsimp only)
  split
  · rename_i e
    subst e
    unfold vp_updL
    split
    · rename_i e; exact absurd ⟨rfl, e⟩ h
    · rfl
  · rfl
theorem zKp_J {ds : List lj_C} {zp : Nat → Nat → Bool} {za : Nat → Bool} (hz : ∀ k i t n, lj_nth ds k = some (.inr (t, n)) → zp k i = true → za k = true) (σ0 : lj_S) : ftJ ds zp za (zKp zp σ0) := by
  refine ⟨fun σ k j ci fs f h1 h2 h3 hJ => ⟨fun v k' i' h => ?_, fun v k' i' h => ?_⟩, fun σ k i t n h1 h2 h3 hJ => ⟨fun v k' i' h => ?_, fun v k' i' h => ?_⟩⟩
  · rw [(put_oth σ v (fun e => by rw [e.1, e.2, h3] at h; cases h)).1, (put_oth σ v (fun e => by rw [e.1, e.2, h3] at h; cases h)).2]; exact hJ k' i' h
  · rw [(putL_oth σ v (fun e => by rw [e.1, e.2, h3] at h; cases h)).1, (putL_oth σ v (fun e => by rw [e.1, e.2, h3] at h; cases h)).2]; exact hJ k' i' h
  · have hn : ¬ (k' = k ∧ i' = i) := fun e => by rw [e.1, e.2] at h; rw [hz k i t n h1 h] at h2; cases h2
    rw [(put_oth σ v hn).1, (put_oth σ v hn).2]; exact hJ k' i' h
  · have hn : ¬ (k' = k ∧ i' = i) := fun e => by rw [e.1, e.2] at h; rw [hz k i t n h1 h] at h2; cases h2
    rw [(putL_oth σ v hn).1, (putL_oth σ v hn).2]; exact hJ k' i' h
/-- places beyond the ends of arrays are as they were -/
def rKp (ds : List lj_C) (σ0 σ : lj_S) : Prop := ∀ k t n i, lj_nth ds k = some (.inr (t, n)) → n ≤ i → σ.1 k i = σ0.1 k i ∧ σ.2 k i = σ0.2 k i
theorem rKp_J (ds : List lj_C) (σ0 : lj_S) : ftJ ds (fun _ _ => false) (fun _ => false) (rKp ds σ0) := by
  refine ⟨fun σ k j ci fs f h1 h2 h3 hJ => ⟨fun v k' t n i' h h' => ?_, fun v k' t n i' h h' => ?_⟩, fun σ k i t0 n0 h1 h2 h3 hJ => ⟨fun v k' t n i' h h' => ?_, fun v k' t n i' h h' => ?_⟩⟩
  · have hn : ¬ (k' = k ∧ i' = j) := fun e => by rw [e.1, h1] at h; cases h
    rw [(put_oth σ v hn).1, (put_oth σ v hn).2]; exact hJ k' t n i' h h'
  · have hn : ¬ (k' = k ∧ i' = j) := fun e => by rw [e.1, h1] at h; cases h
    rw [(putL_oth σ v hn).1, (putL_oth σ v hn).2]; exact hJ k' t n i' h h'
  · have hn : ¬ (k' = k ∧ i' = i) := fun e => by rw [e.1, h1] at h; cases h; omega
    rw [(put_oth σ v hn).1, (put_oth σ v hn).2]; exact hJ k' t n i' h h'
  · have hn : ¬ (k' = k ∧ i' = i) := fun e => by rw [e.1, h1] at h; cases h; omega
    rw [(putL_oth σ v hn).1, (putL_oth σ v hn).2]; exact hJ k' t n i' h h'
theorem lj_alln_t {f : Nat → lj_C → Bool} (hf : ∀ k d, f k d = true) : ∀ (l : List lj_C) (k : Nat), lj_alln f k l = true
  | [], _ => rfl
  | d :: r, k => by unfold lj_alln; rw [hf, lj_alln_t hf r]; rfl
theorem ft1_t (ds : List lj_C) (M : lj_M) (ins : Instr) : ft1 ds (fun _ _ => false) (fun _ => false) (fun _ => true) M ins = true := by
  unfold ft1
  split
  · split
    · refine List.all_eq_true.2 (fun d _ => ?_)
      split
      · generalize Nat.beq _ _ = bb
        cases bb
        · rfl
        · dsimp only [cond_true]
          split <;> rfl
      · rfl
    · rfl
  · split
    · refine lj_alln_t (fun k d => ?_) _ _
      dsimp only
      split
      · generalize Nat.beq _ _ = bb
        cases bb <;> rfl
      · rfl
    · rfl
  · split <;> rfl
  · split <;> rfl
  · split <;> rfl
  · split <;> rfl
  · rfl
theorem lc_prim_o (id : Nat) (as : List Value) (σ : lj_S) (o : lj_O) (h : lc_P.2.2.1 id as σ = some o) : o.2 = σ ∧ (∀ v, o.1 = .inl (some v) → ∃ x, v = .int x) ∧ ∀ x, o.1 = .inr x → 2000 ≤ x := by
  have h : lc_prim id as σ = some o := h
  unfold lc_prim at h
  repeat' split at h
  all_goals first
    | (cases h; exact ⟨rfl, fun v e => (by cases e; exact ⟨_, rfl⟩), fun x e => (by cases e)⟩)
    | (cases h; exact ⟨rfl, fun v e => (by cases e), fun x e => (by cases e <;> decide)⟩)
    | cases h
theorem lc_ftP {za : Nat → Bool} {J : lj_S → Prop} (hz : ∀ x, 2000 ≤ x → za x = false) (id : Nat) (as : List Value) (σ : lj_S) (o : lj_O) (h : lc_P.2.2.1 id as σ = some o) (hJ : J σ) : ftO za J o := by
  obtain ⟨h1, h2, h3⟩ := lc_prim_o id as σ o h
  exact ⟨by rw [h1]; exact hJ, fun v e => (by obtain ⟨x, rfl⟩ := h2 v e; rfl), fun x e => hz x (h3 x e)⟩
theorem lm_ftP {za : Nat → Bool} {J : lj_S → Prop} (id : Nat) (as : List Value) (σ : lj_S) (o : lj_O) (h : lm_P.2.2.1 id as σ = some o) (_ : J σ) : ftO za J o := by
  have h : (none : Option lj_O) = some o := h
  cases h
/-- the component never changes what lies beyond the ends of its arrays -/
theorem lc_rng {id : Nat} {as : List Value} {σ : lj_S} {o : lj_O} (h : lj_R lc_P id as σ = some o) : rKp lc_ds σ o.2 :=
  (ft_R (S := fun _ => true) (za := fun _ => false) (zp := fun _ _ => false) (P := lc_P) (rKp_J lc_ds σ) (fun _ _ M _ _ => List.all_eq_true.2 (fun _ _ => ft1_t _ M _)) (lc_ftP (fun _ _ => rfl)) rfl (List.all_eq_true.2 (fun v _ => by cases v <;> rfl)) (fun _ _ _ _ _ _ => ⟨rfl, rfl⟩) h).1
theorem lm_rng {id : Nat} {as : List Value} {σ : lj_S} {o : lj_O} (h : lj_R lm_P id as σ = some o) : rKp lm_ds σ o.2 :=
  (ft_R (S := fun _ => true) (za := fun _ => false) (zp := fun _ _ => false) (P := lm_P) (rKp_J lm_ds σ) (fun _ _ M _ _ => List.all_eq_true.2 (fun _ _ => ft1_t _ M _)) lm_ftP rfl (List.all_eq_true.2 (fun v _ => by cases v <;> rfl)) (fun _ _ _ _ _ _ => ⟨rfl, rfl⟩) h).1

/-- what a run of the component leaves alone -/
def za_cr (k : Nat) : Bool := Nat.ble 16 k && Nat.ble k 21
def zp_cr (k i : Nat) : Bool := za_cr k || (Nat.beq k 0 || Nat.beq k 1 || Nat.beq k 4 || Nat.beq k 3 && (Nat.beq i 9 || Nat.beq i 10))
def ids_cr : List Nat := [3, 20, 22, 23, 25, 26, 27, 29, 33, 34, 35, 36, 37, 38, 112, 113, 114, 115, 116, 117, 118, 119, 120, 121, 122, 125, 128, 129, 130, 131, 132, 133, 134, 135, 136, 137, 138, 139, 140, 141, 142, 143, 144, 145, 146, 147, 148, 149, 150, 151, 152, 153, 154, 155, 156, 157, 158, 159, 160, 161, 162, 163, 164, 165, 166, 167, 168, 169, 170, 171, 172, 173, 174, 175, 176, 177, 178, 179, 180, 181, 182, 183, 184, 185, 186, 187, 188, 189, 190, 191, 192, 193, 194, 195, 196, 197, 198, 199, 200, 201, 202, 203, 204, 205, 206, 207, 208, 209, 210, 211, 212, 213, 214, 215, 216, 217, 218, 219, 220, 221, 222, 224, 225, 226, 227, 228, 900, 901]
set_option maxRecDepth 100000 in
theorem ft_cr : ftA lc_P zp_cr za_cr ids_cr = true := by decide +kernel
theorem zh_cr (k i t n : Nat) (h : lj_nth lc_ds k = some (.inr (t, n))) (hz : zp_cr k i = true) : za_cr k = true := by
  match k, h with
  | 0, h => cases h
  | 1, h => cases h
  | 2, h => cases h
  | 3, h => cases h
  | 4, h => cases h
  | 5, h => cases h
  | 6, h => cases h
  | 7, h => cases h
  | 8, h => cases h
  | k + 9, h =>
    unfold zp_cr at hz
    rw [Bool.or_eq_true] at hz
    rcases hz with hz | hz
    · exact hz
    · simp at hz
theorem kp_cr {id : Nat} {as : List Value} {σ : lj_S} {o : lj_O} (hi : lj_mem ids_cr id = true) (ha : vbs za_cr as = true) (h : lj_R lc_P id as σ = some o) : zKp zp_cr σ o.2 :=
  (ft_R (zp := zp_cr) (P := lc_P) (zKp_J zh_cr σ) (ft_ids ft_cr) (lc_ftP (fun x hx => Bool.eq_false_iff.2 (fun hz => by unfold za_cr at hz; simp only [Bool.or_eq_true, Bool.and_eq_true, Nat.ble_eq, Nat.beq_eq] at hz; omega))) hi ha (fun _ _ _ => ⟨rfl, rfl⟩) h).1
/-- what load leaves alone -/
def za_cl (k : Nat) : Bool := Nat.ble 17 k && Nat.ble k 56 || Nat.beq k 78 || Nat.ble 79 k && Nat.ble k 84 || Nat.ble 86 k && Nat.ble k 89 || Nat.ble 91 k && Nat.ble k 113
def zp_cl (k i : Nat) : Bool := za_cl k || (Nat.beq k 0 || Nat.beq k 1 || Nat.beq k 4 || Nat.beq k 5 || Nat.beq k 6 || Nat.beq k 3 && (Nat.beq i 9 || Nat.beq i 10) || Nat.beq k 8 && (Nat.beq i 1 || Nat.beq i 3))
def ids_cl : List Nat := [20, 22, 23, 24, 25, 26, 27, 28, 29, 32, 111, 112, 113, 114, 115, 116, 124, 126, 127, 900, 901]
set_option maxRecDepth 100000 in
theorem ft_cl : ftA lc_P zp_cl za_cl ids_cl = true := by decide +kernel
theorem zh_cl (k i t n : Nat) (h : lj_nth lc_ds k = some (.inr (t, n))) (hz : zp_cl k i = true) : za_cl k = true := by
  match k, h with
  | 0, h => cases h
  | 1, h => cases h
  | 2, h => cases h
  | 3, h => cases h
  | 4, h => cases h
  | 5, h => cases h
  | 6, h => cases h
  | 7, h => cases h
  | 8, h => cases h
  | k + 9, h =>
    unfold zp_cl at hz
    rw [Bool.or_eq_true] at hz
    rcases hz with hz | hz
    · exact hz
    · simp at hz
theorem kp_cl {id : Nat} {as : List Value} {σ : lj_S} {o : lj_O} (hi : lj_mem ids_cl id = true) (ha : vbs za_cl as = true) (h : lj_R lc_P id as σ = some o) : zKp zp_cl σ o.2 :=
  (ft_R (zp := zp_cl) (P := lc_P) (zKp_J zh_cl σ) (ft_ids ft_cl) (lc_ftP (fun x hx => Bool.eq_false_iff.2 (fun hz => by unfold za_cl at hz; simp only [Bool.or_eq_true, Bool.and_eq_true, Nat.ble_eq, Nat.beq_eq] at hz; omega))) hi ha (fun _ _ _ => ⟨rfl, rfl⟩) h).1
/-- what a run of the model leaves alone -/
def za_mr (k : Nat) : Bool := Nat.beq k 1 || Nat.ble 9 k && Nat.ble k 11
def zp_mr (k i : Nat) : Bool := za_mr k || (Nat.beq k 0 && (Nat.beq i 1 || Nat.beq i 2 || Nat.beq i 3 || Nat.beq i 4 || Nat.beq i 5 || Nat.beq i 6 || Nat.beq i 15 || Nat.beq i 16 || Nat.beq i 24 || Nat.beq i 25 || Nat.beq i 34 || Nat.beq i 65 || Nat.beq i 66))
def ids_mr : List Nat := [2, 3, 4, 17, 108, 109, 110, 111, 112, 113, 114, 115, 116, 120, 121, 122, 123, 124, 125, 126, 127, 128, 129, 130, 131, 132, 133, 134, 135, 136, 137, 138, 139, 140, 141, 142, 143, 144, 145, 146, 147, 148, 149, 150, 151, 152, 153, 154, 155, 156, 157, 158, 159, 160, 161, 162, 163, 164, 165, 166, 167, 168, 169, 170, 171, 172, 173, 174, 175, 176, 177, 178, 179, 180, 181, 182, 183, 184, 185, 186, 187, 188, 189, 190, 191, 192, 193, 194, 195, 196, 197, 198, 199, 200, 201, 202, 203, 204, 205, 206, 207, 208, 209, 210, 211, 212, 213, 214, 215, 216, 217, 218, 219, 220, 221, 222, 223, 224, 225, 226, 227, 228, 229, 230, 231, 232, 233, 234, 235, 236, 237, 238]
set_option maxRecDepth 100000 in
theorem ft_mr : ftA lm_P zp_mr za_mr ids_mr = true := by decide +kernel
theorem zh_mr (k i t n : Nat) (h : lj_nth lm_ds k = some (.inr (t, n))) (hz : zp_mr k i = true) : za_mr k = true := by
  match k, h with
  | 0, h => cases h
  | k + 1, h =>
    unfold zp_mr at hz
    rw [Bool.or_eq_true] at hz
    rcases hz with hz | hz
    · exact hz
    · simp at hz
theorem kp_mr {id : Nat} {as : List Value} {σ : lj_S} {o : lj_O} (hi : lj_mem ids_mr id = true) (ha : vbs za_mr as = true) (h : lj_R lm_P id as σ = some o) : zKp zp_mr σ o.2 :=
  (ft_R (zp := zp_mr) (P := lm_P) (zKp_J zh_mr σ) (ft_ids ft_mr) lm_ftP hi ha (fun _ _ _ => ⟨rfl, rfl⟩) h).1
