/-! THE SMALL MACHINE's STORE IN THE HEAP: ad: the cells' addresses (and the String constants', from 1000 on), cA: the array classes -/
def lj_re (ad : Nat → Nat) : Value → Value
  | .ref k => .ref (ad k)
  | v => v
def lj_fs (ad : Nat → Nat) (σ : lj_S) (k : Nat) : Nat → List (Nat × Nat) → List Value
  | _, [] => []
  | j, f :: r => lj_re ad (lj_fld σ k j f) :: lj_fs ad σ k (j + 1) r
def lj_ent (cA : Nat → ClassId) (ad : Nat → Nat) (σ : lj_S) (k : Nat) (c : lj_C) : va_E := match c with
  | .inl (ci, fs) => .inr (ci, lj_fs ad σ k 0 fs)
  | .inr (t, n) => .inl (cA t, n, bif Nat.beq t 1 then .inr (.inl (σ.2 k)) else .inl (σ.1 k))
def lj_ws (cA : Nat → ClassId) (ad : Nat → Nat) (σ : lj_S) : Nat → List lj_C → va_W
  | _, [] => []
  | k, c :: r => (ad k, lj_ent cA ad σ k c) :: lj_ws cA ad σ (k + 1) r
theorem lj_nth_eq {α : Type} : ∀ (l : List α) (k : Nat), lj_nth l k = l[k]?
  | [], _ => by simp [lj_nth]
  | _ :: _, 0 => by simp [lj_nth]
  | _ :: r, k + 1 => by simp [lj_nth, lj_nth_eq r k]
theorem lj_fs_get {ad : Nat → Nat} {σ : lj_S} {k : Nat} : ∀ (fs : List (Nat × Nat)) (b j : Nat), (lj_fs ad σ k b fs)[j]? = (lj_nth fs j).map (fun f => lj_re ad (lj_fld σ k (b + j) f))
  | [], _, _ => by simp [lj_fs, lj_nth]
  | _ :: _, _, 0 => by simp [lj_fs, lj_nth]
  | _ :: r, b, j + 1 => by
    simp only [lj_fs, lj_nth, List.getElem?_cons_succ]
    rw [lj_fs_get r (b + 1) j, show b + 1 + j = b + (j + 1) by omega]
theorem lj_ws_get {cA : Nat → ClassId} {ad : Nat → Nat} {σ : lj_S} : ∀ (ds : List lj_C) (b k : Nat), (lj_ws cA ad σ b ds)[k]? = (lj_nth ds k).map (fun c => (ad (b + k), lj_ent cA ad σ (b + k) c))
  | [], _, _ => by simp [lj_ws, lj_nth]
  | _ :: _, _, 0 => by simp [lj_ws, lj_nth]
  | _ :: r, b, j + 1 => by
    simp only [lj_ws, lj_nth, List.getElem?_cons_succ]
    rw [lj_ws_get r (b + 1) j, show b + 1 + j = b + (j + 1) by omega]
theorem lj_ws_at {cA : Nat → ClassId} {ad : Nat → Nat} {σ : lj_S} {ds : List lj_C} {k : Nat} {c : lj_C} (h : lj_nth ds k = some c) : (lj_ws cA ad σ 0 ds)[k]? = some (ad k, lj_ent cA ad σ k c) := by
  rw [lj_ws_get, h]; simp
theorem lj_fs_len {ad : Nat → Nat} {σ : lj_S} {k : Nat} : ∀ (fs : List (Nat × Nat)) (b : Nat), (lj_fs ad σ k b fs).length = fs.length
  | [], _ => rfl
  | _ :: r, b => by simp [lj_fs, lj_fs_len r (b + 1)]
theorem lj_fs_set {ad : Nat → Nat} {σ σ' : lj_S} {k j : Nat} {fs : List (Nat × Nat)} {f : Nat × Nat} {v : Value} (hf : lj_nth fs j = some f) (hv : lj_re ad (lj_fld σ' k j f) = v) (ho : ∀ i g, i ≠ j → lj_fld σ' k i g = lj_fld σ k i g) : (lj_fs ad σ k 0 fs).set j v = lj_fs ad σ' k 0 fs := by
  apply List.ext_getElem?
  intro i
  rw [List.getElem?_set, lj_fs_get, lj_fs_get, lj_fs_len]
  simp only [Nat.zero_add]
  by_cases h : j = i
  · subst h
    rw [if_pos rfl, hf]
    have hl : j < fs.length := by
      rw [lj_nth_eq] at hf
      exact (List.getElem?_eq_some_iff.mp hf).1
    simp [hl, hv]
  · rw [if_neg h]
    congr 1
    funext g
    rw [ho i g (Ne.symm h)]
theorem lj_ws_set {cA : Nat → ClassId} {ad : Nat → Nat} {σ σ' : lj_S} {ds : List lj_C} {k : Nat} {c : lj_C} {e : va_E} (hc : lj_nth ds k = some c) (he : lj_ent cA ad σ' k c = e) (ho : ∀ i, i ≠ k → σ'.1 i = σ.1 i ∧ σ'.2 i = σ.2 i) : (lj_ws cA ad σ 0 ds).set k (ad k, e) = lj_ws cA ad σ' 0 ds := by
  apply List.ext_getElem?
  intro i
  rw [List.getElem?_set, lj_ws_get, lj_ws_get]
  simp only [Nat.zero_add]
  by_cases h : k = i
  · subst h
    rw [if_pos rfl, hc]
    have hl : k < (lj_ws cA ad σ 0 ds).length := by
      have := lj_ws_at (cA := cA) (ad := ad) (σ := σ) hc
      exact (List.getElem?_eq_some_iff.mp this).1
    simp [hl, he]
  · rw [if_neg h]
    congr 1
    funext q
    obtain ⟨h1, h2⟩ := ho i (Ne.symm h)
    have hf : ∀ j f, lj_fld σ i j f = lj_fld σ' i j f := fun j f => by simp only [lj_fld, h1, h2]
    have hfs : ∀ (fs : List (Nat × Nat)) b, lj_fs ad σ i b fs = lj_fs ad σ' i b fs := by
      intro fs
      induction fs with
      | nil => intro b; rfl
      | cons f r ih => intro b; simp only [lj_fs, ih, hf]
    rcases q with ⟨ci, fs⟩ | ⟨t, n⟩
    · simp only [lj_ent, hfs]
    · simp only [lj_ent, h1, h2]
theorem lj_put_o {σ : lj_S} {k j : Nat} {v : Int32} : ∀ i, i ≠ k → (lj_put σ k j v).1 i = σ.1 i ∧ (lj_put σ k j v).2 i = σ.2 i := fun i h => ⟨by simp [lj_put, h], rfl⟩
theorem lj_putL_o {σ : lj_S} {k j : Nat} {v : Int64} : ∀ i, i ≠ k → (lj_putL σ k j v).1 i = σ.1 i ∧ (lj_putL σ k j v).2 i = σ.2 i := fun i h => ⟨rfl, by simp [lj_putL, h]⟩
/-- the cells lie apart, in A -/
def lj_apart (ad : Nat → Nat) (A : Nat → Prop) (ds : List lj_C) : Prop := (∀ i j, i < ds.length → j < ds.length → ad i = ad j → i = j) ∧ ∀ i, i < ds.length → A (ad i)
theorem lj_wsD {cA : Nat → ClassId} {ad : Nat → Nat} {A : Nat → Prop} {ds : List lj_C} (h : lj_apart ad A ds) (σ : lj_S) : va_D A (lj_ws cA ad σ 0 ds) := by
  have hg : ∀ (k : Nat) (q : Nat × va_E), (lj_ws cA ad σ 0 ds)[k]? = some q → k < ds.length ∧ q.1 = ad k := by
    intro k q hq
    rw [lj_ws_get, lj_nth_eq] at hq
    cases hd : ds[k]? with
    | none => rw [hd] at hq; cases hq
    | some c =>
      rw [hd] at hq
      simp only [Option.map_some, Option.some.injEq, Nat.zero_add] at hq
      exact ⟨(List.getElem?_eq_some_iff.mp hd).1, by rw [← hq]⟩
  refine ⟨fun i j p q hi hj hpq => ?_, fun k q hk => ?_⟩
  · obtain ⟨a1, a2⟩ := hg i p hi
    obtain ⟨b1, b2⟩ := hg j q hj
    exact h.1 i j a1 b1 (by rw [← a2, ← b2]; exact hpq)
  · obtain ⟨a1, a2⟩ := hg k q hk
    rw [a2]; exact h.2 k a1
/-- locals that hold values -/
def lj_al (ad : Nat → Nat) : Nat → List Value → List (Nat × Value)
  | _, [] => []
  | i, .retAddr _ :: r => lj_al ad (i + 1) r
  | i, v :: r => (i, lj_re ad v) :: lj_al ad (i + 1) r
def lj_set (v : Value) : Prop := ∀ q, v ≠ .retAddr q
theorem lj_al_in {ad : Nat → Nat} : ∀ (L : List Value) (b i : Nat) (v : Value), lj_nth L i = some v → lj_set v → (b + i, lj_re ad v) ∈ lj_al ad b L
  | [], _, _, _, h, _ => by cases h
  | w :: r, b, 0, v, h, hs => by
    cases h
    cases w <;> first | exact List.mem_cons_self | exact absurd rfl (hs _)
  | w :: r, b, i + 1, v, h, hs => by
    have ih := lj_al_in (ad := ad) r (b + 1) i v h hs
    rw [show b + 1 + i = b + (i + 1) by omega] at ih
    cases w <;> first | exact ih | exact List.mem_cons_of_mem _ ih
theorem lj_al_of {ad : Nat → Nat} : ∀ (L : List Value) (b : Nat) (q : Nat × Value), q ∈ lj_al ad b L → ∃ i v, lj_nth L i = some v ∧ lj_set v ∧ q = (b + i, lj_re ad v)
  | [], _, _, h => by cases h
  | w :: r, b, q, h => by
    have step : q ∈ lj_al ad (b + 1) r → ∃ i v, lj_nth (w :: r) i = some v ∧ lj_set v ∧ q = (b + i, lj_re ad v) := by
      intro h
      obtain ⟨i, v, h1, h2, h3⟩ := lj_al_of r (b + 1) q h
      exact ⟨i + 1, v, h1, h2, by rw [h3, show b + 1 + i = b + (i + 1) by omega]⟩
    by_cases hw : ∃ z, w = .retAddr z
    · obtain ⟨z, rfl⟩ := hw
      exact step h
    · have hs : lj_set w := fun z e => hw ⟨z, e⟩
      have h : q ∈ (b, lj_re ad w) :: lj_al ad (b + 1) r := by cases w <;> first | exact h | exact absurd ⟨_, rfl⟩ hw
      rcases List.mem_cons.mp h with h | h
      · exact ⟨0, w, rfl, hs, h⟩
      · exact step h
def lj_has (ad : Nat → Nat) (ls : Array Slot) (nL : Nat) (L : List Value) : Prop := lv_has ls nL (lj_al ad 0 L)
theorem lj_has.at {ad : Nat → Nat} {ls : Array Slot} {nL : Nat} {L : List Value} (h : lj_has ad ls nL L) {i : Nat} {v : Value} (hv : lj_nth L i = some v) (hs : lj_set v) : ls[i]? = some (.val (lj_re ad v)) := by
  have := h.2.2 _ (lj_al_in L 0 i v hv hs)
  simpa using this
theorem lj_is2_cat {ad : Nat → Nat} {v : Value} : (lj_re ad v).category = if lj_is2 v = true then 2 else 1 := by
  cases v <;> simp [lj_re, lj_is2, Value.category]
theorem lj_nth_lset : ∀ (L : List Value) (i j : Nat) (v : Value), lj_nth (lj_lset L i v) j = if j = i then (lj_nth L i).map (fun _ => v) else lj_nth L j
  | [], i, j, v => by simp [lj_lset, lj_nth]
  | w :: r, 0, 0, v => by simp [lj_lset, lj_nth]
  | w :: r, 0, j + 1, v => by simp [lj_lset, lj_nth]
  | w :: r, i + 1, 0, v => by simp [lj_lset, lj_nth]
  | w :: r, i + 1, j + 1, v => by simp [lj_lset, lj_nth, lj_nth_lset r i j v]
/-- what is left of the locals when one below a place was long -/
theorem lj_nth_kill : ∀ (L : List Value) (i j : Nat) (v : Value), lj_nth (lj_kill L i) j = some v → lj_set v → lj_nth L j = some v ∧ ¬ (j + 1 = i ∧ lj_is2 v = true)
  | [], i, j, v, h, hs => by cases h
  | w :: r, 0, j, v, h, hs => ⟨h, fun q => by omega⟩
  | w :: r, 1, 0, v, h, hs => by
    simp only [lj_kill, lj_nth, Option.some.injEq] at h
    cases hw : lj_is2 w with
    | true => rw [hw] at h; exact absurd h.symm (hs 0)
    | false =>
      rw [hw] at h
      have h : w = v := h
      subst h
      exact ⟨rfl, fun q => by rw [hw] at q; cases q.2⟩
  | w :: r, 1, j + 1, v, h, hs => ⟨h, fun q => by omega⟩
  | w :: r, i + 2, 0, v, h, hs => ⟨h, fun q => by omega⟩
  | w :: r, i + 2, j + 1, v, h, hs => by
    obtain ⟨h1, h2⟩ := lj_nth_kill r (i + 1) j v h hs
    exact ⟨h1, fun q => h2 ⟨by omega, q.2⟩⟩
theorem lj_has.sto1 {ad : Nat → Nat} {ls : Array Slot} {nL : Nat} {L : List Value} {i : Nat} {v : Value} (h : lv_has ls nL ((i, lj_re ad v) :: (lj_al ad 0 L).filter (fun q => !(q.1 == i) && !(q.1 + 1 == i && q.2.category == 2)))) : lj_has ad ls nL (lj_sto1 L i v) := by
  refine ⟨h.1, h.2.1, fun q hq => h.2.2 q ?_⟩
  obtain ⟨j, w, h1, h2, rfl⟩ := lj_al_of _ _ _ hq
  unfold lj_sto1 at h1
  rw [lj_nth_lset] at h1
  by_cases hj : j = i
  · subst hj
    rw [if_pos rfl] at h1
    cases hx : lj_nth (lj_kill L j) j with
    | none => rw [hx] at h1; cases h1
    | some y =>
      rw [hx] at h1
      cases h1
      simp
  · rw [if_neg hj] at h1
    obtain ⟨h3, h4⟩ := lj_nth_kill L i j w h1 h2
    refine List.mem_cons_of_mem _ (List.mem_filter.mpr ⟨lj_al_in L 0 j w h3 h2, ?_⟩)
    simp only [Nat.zero_add, Bool.and_eq_true, Bool.not_eq_true', beq_eq_false_iff_ne, Bool.and_eq_false_imp, beq_iff_eq]
    refine ⟨hj, fun hq => ?_⟩
    rw [lj_is2_cat]
    have : ¬ lj_is2 w = true := fun q => h4 ⟨hq, q⟩
    simp [this]
theorem lj_has.sto2 {ad : Nat → Nat} {ls : Array Slot} {nL : Nat} {L : List Value} {i : Nat} {v : Value} (h : lv_has ls nL ((i, lj_re ad v) :: (lj_al ad 0 L).filter (fun q => !(q.1 == i) && (!(q.1 == i + 1) && !(q.1 + 1 == i && q.2.category == 2))))) : lj_has ad ls nL (lj_sto2 L i v) := by
  refine ⟨h.1, h.2.1, fun q hq => h.2.2 q ?_⟩
  obtain ⟨j, w, h1, h2, rfl⟩ := lj_al_of _ _ _ hq
  unfold lj_sto2 at h1
  rw [lj_nth_lset] at h1
  by_cases hj1 : j = i + 1
  · rw [if_pos hj1] at h1
    cases hx : lj_nth (lj_lset (lj_kill L i) i v) (i + 1) with
    | none => rw [hx] at h1; cases h1
    | some y => rw [hx] at h1; cases h1; exact absurd rfl (h2 0)
  · rw [if_neg hj1, lj_nth_lset] at h1
    by_cases hj : j = i
    · subst hj
      rw [if_pos rfl] at h1
      cases hx : lj_nth (lj_kill L j) j with
      | none => rw [hx] at h1; cases h1
      | some y =>
        rw [hx] at h1
        cases h1
        simp
    · rw [if_neg hj] at h1
      obtain ⟨h3, h4⟩ := lj_nth_kill L i j w h1 h2
      refine List.mem_cons_of_mem _ (List.mem_filter.mpr ⟨lj_al_in L 0 j w h3 h2, ?_⟩)
      simp only [Nat.zero_add, Bool.and_eq_true, Bool.not_eq_true', beq_eq_false_iff_ne, Bool.and_eq_false_imp, beq_iff_eq]
      refine ⟨hj, hj1, fun hq => ?_⟩
      rw [lj_is2_cat]
      have : ¬ lj_is2 w = true := fun q => h4 ⟨hq, q⟩
      simp [this]
