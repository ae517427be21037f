/-! what may still be done by a chain of parts -/
/-- the frames of the text alone count -/
def thF (F : kF) : Nat := if kS F = 0 then kN F else 0
def thL : List kF → Nat
  | [] => 0
  | F :: L => thF F + thL L
def thP (FP : Nat → List kF) : List Nat → Nat
  | [] => 0
  | q :: r => thL (FP q) + thP FP r
/-- how much the gathering may still do -/
def gaM (MO LA : List Nat) : Nat := 5000 * (LA.tail.length + MO.length) + 2 * LA.tail.length
/-- all parts: those of the chain, and the others -/
def thA (FP : Nat → List kF) (ch : List Nat) : Nat := thP FP ch + thP FP ((List.range 26).filter (fun q => decide (q ∉ ch)))
/-- all that may still be done, and all that was marked ever -/
def thM (FP : Nat → List kF) (ch MO LA : List Nat) : Nat := LA.headD 0 + gaM MO LA + thA FP ch
theorem thP_o {FP FP' : Nat → List kF} : ∀ {r : List Nat}, (∀ q ∈ r, FP' q = FP q) → thP FP' r = thP FP r
  | [], _ => rfl
  | q :: r, h => by
    show thL (FP' q) + thP FP' r = thL (FP q) + thP FP r
    rw [thP_o (fun q hq => h q (List.mem_cons_of_mem _ hq)), h q List.mem_cons_self]
theorem thP_p (FP : Nat → List kF) {p : Nat} {r : List Nat} (hp : p ∉ r) (X : List kF) : thP (fpT FP p X) (p :: r) = thL X + thP FP r := by
  show thL (fpT FP p X p) + thP (fpT FP p X) r = _
  rw [fpT_o, thP_o (FP := FP)]
  intro q hq
  unfold fpT
  rw [if_neg (fun z => hp (by rw [← z]; exact hq))]
theorem thM_p (FP : Nat → List kF) {p : Nat} {r : List Nat} (hp : p ∉ r) (X : List kF) (MO LA : List Nat) : thM (fpT FP p X) (p :: r) MO LA + thL (FP p) = thM FP (p :: r) MO LA + thL X := by
  have o : thP (fpT FP p X) ((List.range 26).filter (fun q => decide (q ∉ p :: r))) = thP FP ((List.range 26).filter (fun q => decide (q ∉ p :: r))) := thP_o (fun q hq => by
    have := (List.mem_filter.1 hq).2
    unfold fpT
    rw [if_neg (fun z => of_decide_eq_true this (by rw [z]; exact List.mem_cons_self))])
  unfold thM thA
  rw [thP_p FP hp, o]
  show _ + (thL X + thP FP r + _) + thL (FP p) = _ + (thL (FP p) + thP FP r + _) + thL X
  omega
/-- a part comes into the chain, or leaves it -/
theorem thP_f (FP : Nat → List kF) {p : Nat} {r : List Nat} (hp : p ∉ r) : ∀ (l : List Nat), l.Nodup → thP FP (l.filter (fun q => decide (q ∉ r))) = thP FP (l.filter (fun q => decide (q ∉ p :: r))) + (if p ∈ l then thL (FP p) else 0)
  | [], _ => rfl
  | a :: l, h => by
    have ih := thP_f FP hp l (List.nodup_cons.1 h).2
    by_cases z : a = p
    · subst z
      have nm := (List.nodup_cons.1 h).1
      rw [if_neg nm] at ih
      rw [List.filter_cons_of_pos (by simp [hp]), List.filter_cons_of_neg (by simp), if_pos List.mem_cons_self]
      show thL (FP a) + _ = _
      omega
    · have e : (p ∈ a :: l) ↔ p ∈ l := ⟨fun w => by
        rcases List.mem_cons.1 w with w | w
        · exact absurd w.symm z
        · exact w, List.mem_cons_of_mem _⟩
      have e2 : (if p ∈ a :: l then thL (FP p) else 0) = if p ∈ l then thL (FP p) else 0 := by
        by_cases y : p ∈ l
        · rw [if_pos y, if_pos (e.2 y)]
        · rw [if_neg y, if_neg (fun w => y (e.1 w))]
      rw [e2]
      by_cases y : a ∈ r
      · rw [List.filter_cons_of_neg (by simp [y]), List.filter_cons_of_neg (by simp [y])]
        exact ih
      · rw [List.filter_cons_of_pos (by simp [y]), List.filter_cons_of_pos (by simp [y, z])]
        show thL (FP a) + _ = thL (FP a) + _ + _
        omega
theorem thM_in (FP : Nat → List kF) {q : Nat} {r : List Nat} (hq : q < 26) (hr : q ∉ r) (MO LA : List Nat) : thM FP (q :: r) MO LA = thM FP r MO LA := by
  have := thP_f FP hr (List.range 26) List.nodup_range
  rw [if_pos (List.mem_range.2 hq)] at this
  unfold thM thA
  rw [this]
  show _ + (thL (FP q) + thP FP r + _) = _
  omega
theorem thF_0 {F : kF} (h : kS F = 0) : thF F = kN F := by
  unfold thF
  rw [if_pos h]
theorem thF_n {F : kF} (h : kS F ≠ 0) : thF F = 0 := by
  unfold thF
  rw [if_neg h]
/-- the uppermost frame goes -/
theorem thM_d {FP : Nat → List kF} {p : Nat} {r : List Nat} (hp : p ∉ r) {F : kF} {L : List kF} (hF : FP p = F :: L) (MO LA : List Nat) : thM (fpT FP p L) (p :: r) MO LA + thF F = thM FP (p :: r) MO LA := by
  have x := thM_p FP hp L MO LA
  rw [hF] at x
  have y : thL (F :: L) = thF F + thL L := rfl
  omega
/-- the uppermost frame becomes another -/
theorem thM_t {FP : Nat → List kF} {p : Nat} {r : List Nat} (hp : p ∉ r) {F : kF} {L : List kF} (hF : FP p = F :: L) (F' : kF) (MO LA : List Nat) : thM (fpT FP p (F' :: L)) (p :: r) MO LA + thF F = thM FP (p :: r) MO LA + thF F' := by
  have x := thM_p FP hp (F' :: L) MO LA
  rw [hF] at x
  have y : thL (F :: L) = thF F + thL L := rfl
  have z : thL (F' :: L) = thF F' + thL L := rfl
  omega
/-- a frame more -/
theorem thM_c (FP : Nat → List kF) {p : Nat} {r : List Nat} (hp : p ∉ r) (F : kF) (MO LA : List Nat) : thM (fpT FP p (F :: FP p)) (p :: r) MO LA = thM FP (p :: r) MO LA + thF F := by
  have x := thM_p FP hp (F :: FP p) MO LA
  have z : thL (F :: FP p) = thF F + thL (FP p) := rfl
  omega
/-- a part without frames -/
theorem thP_e {FP : Nat → List kF} {p : Nat} (r : List Nat) (hF : FP p = []) : ∀ (l : List Nat), thP FP (l.filter (fun q => decide (q ∉ p :: r))) = thP FP (l.filter (fun q => decide (q ∉ r)))
  | [] => rfl
  | a :: l => by
    have ih := thP_e r hF l
    by_cases y : a ∈ r
    · rw [List.filter_cons_of_neg (by simp [y]), List.filter_cons_of_neg (by simp [y])]
      exact ih
    · by_cases z : a = p
      · subst z
        rw [List.filter_cons_of_neg (by simp), List.filter_cons_of_pos (by simp [y]), ih]
        show _ = thL (FP a) + _
        rw [hF]
        show _ = 0 + _
        omega
      · rw [List.filter_cons_of_pos (by simp [y, z]), List.filter_cons_of_pos (by simp [y])]
        show thL (FP a) + _ = thL (FP a) + _
        rw [ih]
theorem thM_e {FP : Nat → List kF} {p : Nat} (r : List Nat) (hF : FP p = []) (MO LA : List Nat) : thM FP (p :: r) MO LA = thM FP r MO LA := by
  unfold thM thA
  rw [thP_e r hF]
  show _ + (thL (FP p) + thP FP r + _) = _
  rw [hF]
  show _ + (0 + thP FP r + _) = _
  rw [Nat.zero_add]
/-- more than ever may be done -/
def TH : Nat := 2305843009213693952
/-- the gathering frames, the uppermost first -/
def gL (p : Nat) : List kF → List Nat
  | [] => []
  | F :: L => if kS F = 2 then (20 * p + L.length) :: gL p L else gL p L
def gX (FP : Nat → List kF) : List Nat → List Nat
  | [] => []
  | q :: r => gL q (FP q) ++ gX FP r
/-- frames that put a truth ahead of what came, before any other frame -/
def pf1 : List kF → Nat
  | [] => 0
  | F :: L => if kS F = 1 then 1 + pf1 L else 0
def pfA : List kF → Bool
  | [] => true
  | F :: L => if kS F = 1 then pfA L else false
def pfx (FP : Nat → List kF) : List Nat → Nat
  | [] => 0
  | q :: r => pf1 (FP q) + (if pfA (FP q) = true then 1 + pfx FP r else 0)
theorem pfx_o {FP FP' : Nat → List kF} : ∀ {r : List Nat}, (∀ q ∈ r, FP' q = FP q) → pfx FP' r = pfx FP r
  | [], _ => rfl
  | q :: r, h => by
    unfold pfx
    rw [pfx_o (fun q hq => h q (List.mem_cons_of_mem _ hq)), h q List.mem_cons_self]
theorem fpT_ne (FP : Nat → List kF) {p : Nat} {r : List Nat} (hp : p ∉ r) (X : List kF) : ∀ q ∈ r, fpT FP p X q = FP q := fun q hq => by
  unfold fpT
  rw [if_neg (fun z => hp (by rw [← z]; exact hq))]
/-- where others were let go on few truths are to be put ahead -/
def pfI (FP : Nat → List kF) : List Nat → Prop
  | [] => True
  | q :: r => pfx FP (q :: r) ≤ 50 ∧ pfI FP r
theorem pfI_o {FP FP' : Nat → List kF} : ∀ {r : List Nat}, (∀ q ∈ r, FP' q = FP q) → pfI FP r → pfI FP' r
  | [], _, _ => trivial
  | q :: r, h, w => ⟨by rw [pfx_o h]; exact w.1, pfI_o (fun q hq => h q (List.mem_cons_of_mem _ hq)) w.2⟩
/-- frames at work -/
def wkR (FP : Nat → List kF) (ch A : List Nat) (σ : lj_S) : Prop := (∀ i ∈ A, σ.1 102 i = 1) ∧ A.Sublist (gX FP ch) ∧ pfI FP ch.tail
theorem pf1_le : ∀ L : List kF, pf1 L ≤ L.length
  | [] => Nat.le_refl _
  | F :: L => by
    unfold pf1
    rw [List.length_cons]
    have := pf1_le L
    split <;> omega
/-- below a frame at most so many truths are put ahead -/
theorem pfx_le {FP : Nat → List kF} {p : Nat} {r : List Nat} (hl : (FP p).length ≤ 20) (h : pfI FP r) : pfx FP (p :: r) ≤ 71 := by
  have h1 := pf1_le (FP p)
  have h2 : pfx FP r ≤ 50 := by
    cases r with
    | nil => exact Nat.zero_le _
    | cons q r => exact h.1
  unfold pfx
  split <;> omega
