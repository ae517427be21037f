/-! the acts of both codes, side by side -/
/-- a point of both codes: function, places in the two codes, shape of the stack (0 a value, 1 a mark of both, 2 a mark of the model, 3 and 4 what a for hides, 5 a row, 7 a string; uppermost first), locals that live, locals from which on the model may have others -/
abbrev pT : Type := Nat × Nat × Nat × List Nat × List Nat × Nat
def cI (σ : lj_S) (c : Nat) (o a l : Int32) : Prop := σ.1 22 c = o ∧ σ.1 23 c = a ∧ σ.1 26 c = l
def mI (τ : lj_S) (m : Nat) (o a l : Int32) : Prop := τ.1 20 m = o ∧ τ.1 21 m = a ∧ τ.1 23 m = l
/-- fors that are open, the outer one first -/
def flo (s : List Nat) : List Nat := (s.filter (fun x => x == 3 || x == 4)).reverse
/-- values of a row -/
def rowS (r : List Nat) : Prop := (∀ x ∈ r, x = 0 ∨ x = 5) ∧ r.length ≤ 16 ∧ ∀ x ∈ r.tail, x = 0
/-- values of a shape, its marks -/
def va : List Nat → Nat
  | [] => 0
  | x :: s => (if x = 3 ∨ x = 4 then 3 else if x = 1 ∨ x = 2 then 0 else 1) + va s
def cn (y : Nat) : List Nat → Nat
  | [] => 0
  | x :: s => (if x = y then 1 else 0) + cn y s
def sB (s : List Nat) : Prop := va s ≤ 402 ∧ cn 1 s ≤ 26 ∧ cn 2 s ≤ 26 ∧ ∀ x ∈ s, x ≠ 5
/-- a shape that fits: rows of any size lie uppermost alone -/
def sOK (s : List Nat) : Prop := va s ≤ 430 ∧ cn 1 s ≤ 30 ∧ cn 2 s ≤ 30 ∧ ∀ x ∈ s.tail, x ≠ 5
theorem va_app : ∀ (r s : List Nat), va (r ++ s) = va r + va s
  | [], s => by simp [va]
  | x :: r, s => by show _ + va (r ++ s) = (_ + va r) + va s; rw [va_app r s]; omega
theorem cn_app (y : Nat) : ∀ (r s : List Nat), cn y (r ++ s) = cn y r + cn y s
  | [], s => by simp [cn]
  | x :: r, s => by show _ + cn y (r ++ s) = (_ + cn y r) + cn y s; rw [cn_app y r s]; omega
theorem va_c (x : Nat) (s : List Nat) : va (x :: s) ≤ va s + 3 := by show _ + va s ≤ _; split <;> (try split) <;> omega
theorem cn_c (y x : Nat) (s : List Nat) : cn y (x :: s) ≤ cn y s + 1 := by show _ + cn y s ≤ _; split <;> omega
theorem va_z : ∀ (r : List Nat), (∀ x ∈ r, x = 0 ∨ x = 5 ∨ x = 6) → va r = r.length ∧ cn 1 r = 0 ∧ cn 2 r = 0
  | [], _ => ⟨rfl, rfl, rfl⟩
  | x :: r, h => by
    obtain ⟨a, b, c⟩ := va_z r (fun y hy => h y (List.mem_cons_of_mem _ hy))
    have hx := h x List.mem_cons_self
    refine ⟨?_, ?_, ?_⟩
    · show _ + va r = _; rw [if_neg (by omega), if_neg (by omega), a, List.length_cons]; omega
    · show _ + cn 1 r = _; rw [if_neg (by omega), b]
    · show _ + cn 2 r = _; rw [if_neg (by omega), c]
theorem sk0 {s : List Nat} (h : sB s) : sOK s := ⟨by have := h.1; omega, by have := h.2.1; omega, by have := h.2.2.1; omega, fun x hx => h.2.2.2 x (List.mem_of_mem_tail hx)⟩
theorem sk1 {x : Nat} {s : List Nat} (h : sB s) : sOK (x :: s) := ⟨by have := va_c x s; have := h.1; omega, by have := cn_c 1 x s; have := h.2.1; omega, by have := cn_c 2 x s; have := h.2.2.1; omega, h.2.2.2⟩
theorem sk2 {x y : Nat} {s : List Nat} (h : sB s) (hy : y ≠ 5) : sOK (x :: y :: s) := by
  have a1 := va_c x (y :: s); have a2 := va_c y s
  have b1 := cn_c 1 x (y :: s); have b2 := cn_c 1 y s
  have c1 := cn_c 2 x (y :: s); have c2 := cn_c 2 y s
  obtain ⟨h1, h2, h3, h4⟩ := h
  refine ⟨by omega, by omega, by omega, fun z hz => ?_⟩
  rcases List.mem_cons.1 (show z ∈ y :: s from hz) with e | e
  · rw [e]; exact hy
  · exact h4 z e
theorem sk3 {x y w : Nat} {s : List Nat} (h : sB s) (hy : y ≠ 5) (hw : w ≠ 5) : sOK (x :: y :: w :: s) := by
  have a1 := va_c x (y :: w :: s); have a2 := va_c y (w :: s); have a3 := va_c w s
  have b1 := cn_c 1 x (y :: w :: s); have b2 := cn_c 1 y (w :: s); have b3 := cn_c 1 w s
  have c1 := cn_c 2 x (y :: w :: s); have c2 := cn_c 2 y (w :: s); have c3 := cn_c 2 w s
  obtain ⟨h1, h2, h3, h4⟩ := h
  refine ⟨by omega, by omega, by omega, fun z hz => ?_⟩
  rcases List.mem_cons.1 (show z ∈ y :: w :: s from hz) with e | e
  · rw [e]; exact hy
  rcases List.mem_cons.1 e with e | e
  · rw [e]; exact hw
  · exact h4 z e
/-- a row upon a shape -/
theorem skr {r s t : List Nat} (hr : rowS r) (h : sB s) (ht : t.length ≤ 4) (h5 : ∀ x ∈ t, x ≠ 5) : sOK (r ++ (t ++ s)) := by
  have tl : ∀ t : List Nat, va t ≤ 3 * t.length ∧ cn 1 t ≤ t.length ∧ cn 2 t ≤ t.length := by
    intro t
    induction t with
    | nil => exact ⟨Nat.le_refl _, Nat.le_refl _, Nat.le_refl _⟩
    | cons x t ih => have a1 := va_c x t; have a2 := cn_c 1 x t; have a3 := cn_c 2 x t; rw [List.length_cons]; omega
  obtain ⟨t1, t2, t3⟩ := tl t
  obtain ⟨q1, q2, q3⟩ := va_z r (fun x hx => by have := hr.1 x hx; omega)
  have hl := hr.2.1
  obtain ⟨h1, h2, h3, h4⟩ := h
  have n5 : ∀ x ∈ t ++ s, x ≠ 5 := fun x hx => by
    rcases List.mem_append.1 hx with e | e
    · exact h5 x e
    · exact h4 x e
  refine ⟨by rw [va_app, va_app]; omega, by rw [cn_app, cn_app]; omega, by rw [cn_app, cn_app]; omega, fun x hx => ?_⟩
  cases r with
  | nil => exact n5 x (List.mem_of_mem_tail hx)
  | cons y r =>
    rcases List.mem_append.1 (show x ∈ r ++ (t ++ s) from hx) with e | e
    · have := hr.2.2 x e; omega
    · exact n5 x e
/-- a local is known at a place of the component's code -/
def scK (σ : lj_S) (f c x : Nat) : Prop := ∃ k : Nat, (k : Int) < lv σ 5 18 ∧ lv σ 37 k = (f : Int) ∧ lv σ 39 k ≤ (c : Int) ∧ (c : Int) < lv σ 40 k ∧ lv σ 38 k = (x : Int)
/-- at a place where others may be called, what lives is what is known -/
def scl (σ : lj_S) (f c : Nat) (s l : List Nat) (dd : Nat) : Prop := dd = 50 ∧ (∀ x, x < 1000 → (scK σ f c x ↔ x ∈ l)) ∧ ∀ d e, e < 3 → (scK σ f c (1000 + 3 * d + e) ↔ (flo s)[d]? = some 4)
/-- the same string -/
def sEi (σ τ : lj_S) (x y : Int32) : Prop := ∃ a a' : Nat, a < 2600 ∧ a' < 3000 ∧ x = Int32.ofNat a ∧ y = Int32.ofNat a' ∧ sE σ τ a a'
/-- the model's word for an operator with two sides -/
def opB2 (k : Nat) : Option (Int32 × Int32 × Int32) :=
  match k with
  | 40 => some (31, 3, 0) | 41 => some (31, 4, 0) | 42 => some (31, 5, 0) | 43 => some (31, 6, 0) | 44 => some (31, 7, 0) | 45 => some (31, 8, 0) | 46 => some (31, 9, 0) | 47 => some (31, 10, 0) | 48 => some (31, 11, 0) | 49 => some (31, 12, 0)
  | 50 => some (33, 0, 0) | 52 => some (36, 0, 0) | 53 => some (36, 1, 0) | 54 => some (37, 1, 0) | 55 => some (37, 1, 1) | 56 => some (37, 0, 0) | 57 => some (37, 0, 1)
  | _ => none
/-- a function of both: where it begins, its parameters live -/
def fnE (σ τ : lj_S) (q : Nat) : pT := (q, (lv σ 28 q).toNat, (lv τ 12 q).toNat, [], (List.range (lv σ 29 q).toNat).reverse, 50)
/-- what function q takes from f, where l lives -/
def fnC (σ τ : lj_S) (q f : Nat) (l : List Nat) : Prop := ((σ.1 29 q = τ.1 13 q ∧ 0 ≤ lv σ 29 q ∧ lv σ 29 q ≤ 50) ∧ 0 ≤ lv σ 28 q ∧ 0 ≤ lv τ 12 q) ∧ (q : Int) < lv σ 5 8 ∧ lv σ 33 q = lv τ 15 q ∧ 0 ≤ lv σ 33 q ∧ lv σ 33 q ≤ 30 ∧ ∀ k : Nat, (k : Int) < lv σ 33 q → σ.1 34 (30 * q + k) = τ.1 18 (30 * q + k) ∧ σ.1 35 (30 * q + k) = τ.1 19 (30 * q + k) ∧ ∃ x : Nat, σ.1 35 (30 * q + k) = Int32.ofNat x ∧ (σ.1 34 (30 * q + k) = 1 ∧ x ∈ l ∨ σ.1 34 (30 * q + k) = 0 ∧ (x : Int) < lv σ 33 f)
/-- one act of both (number k of their kinds) at a point, and the points that may come next -/
def insK (σ τ : lj_S) (f c m : Nat) (s l : List Nat) (dd : Nat) (L : List pT) : Nat → Prop
  -- a step
  | 0 => σ.1 22 c = 0 ∧ τ.1 20 m = 0 ∧ L = [(f, c + 1, m + 1, s, l, dd)]
  -- values
  | 1 => σ.1 22 c = 1 ∧ τ.1 20 m = 1 ∧ L = [(f, c + 1, m + 1, 0 :: s, l, dd)]
  | 2 => (σ.1 22 c = 2 ∧ τ.1 21 m = 1 ∨ σ.1 22 c = 3 ∧ τ.1 21 m = 0) ∧ τ.1 20 m = 2 ∧ L = [(f, c + 1, m + 1, 0 :: s, l, dd)]
  | 3 => ∃ i : Nat, i < 1501 ∧ σ.1 22 c = 4 ∧ σ.1 23 c = Int32.ofNat i ∧ τ.1 20 m = 4 ∧ τ.1 21 m = Int32.ofNat i ∧ σ.2 27 i = τ.2 24 i ∧ L = [(f, c + 1, m + 1, 0 :: s, l, dd)]
  | 4 => σ.1 22 c = 5 ∧ τ.1 20 m = 5 ∧ sEi σ τ (σ.1 23 c) (τ.1 21 m) ∧ L = [(f, c + 1, m + 1, 0 :: s, l, dd)]
  -- names
  | 5 => ∃ x : Nat, x ∈ l ∧ σ.1 22 c = 6 ∧ σ.1 23 c = Int32.ofNat x ∧ τ.1 20 m = 6 ∧ τ.1 21 m = Int32.ofNat x ∧ L = [(f, c + 1, m + 1, 0 :: s, l, dd)]
  | 6 => ∃ x : Nat, (x : Int) < lv σ 33 f ∧ σ.1 22 c = 7 ∧ σ.1 23 c = Int32.ofNat x ∧ τ.1 20 m = 7 ∧ τ.1 21 m = Int32.ofNat x ∧ L = [(f, c + 1, m + 1, 0 :: s, l, dd)]
  | 7 => σ.1 22 c = 8 ∧ τ.1 20 m = 8 ∧ sEi σ τ (σ.1 23 c) (τ.1 21 m) ∧ L = [(f, c + 1, m + 1, 0 :: s, l, dd)]
  | 8 => ∃ x s', x ∈ l ∧ s = 0 :: s' ∧ σ.1 22 c = 9 ∧ σ.1 23 c = Int32.ofNat x ∧ τ.1 20 m = 9 ∧ τ.1 21 m = Int32.ofNat x ∧ L = [(f, c + 1, m + 1, s', l, dd)]
  | 9 => ∃ (x : Nat) (s' l' : List Nat), (x < 50 ∧ x ∉ l ∧ (x : Int) < lv σ 31 f) ∧ s = 0 :: s' ∧ (∀ y, y ∈ l' ↔ y = x ∨ y ∈ l) ∧ σ.1 22 c = 9 ∧ σ.1 23 c = Int32.ofNat x ∧ τ.1 20 m = 19 ∧ τ.1 21 m = Int32.ofNat x ∧ L = [(f, c + 1, m + 1, s', l', dd)]
  | 10 => ∃ (x : Nat) (s' : List Nat), (x : Int) < lv σ 33 f ∧ s = 0 :: s' ∧ σ.1 22 c = 10 ∧ σ.1 23 c = Int32.ofNat x ∧ τ.1 20 m = 10 ∧ τ.1 21 m = Int32.ofNat x ∧ L = [(f, c + 1, m + 1, s', l, dd)]
  | 11 => ∃ s', s = 0 :: s' ∧ σ.1 22 c = 11 ∧ τ.1 20 m = 11 ∧ sEi σ τ (σ.1 23 c) (τ.1 21 m) ∧ L = [(f, c + 1, m + 1, s', l, dd)]
  -- places of tables
  | 12 => ∃ s', s = 0 :: 0 :: s' ∧ σ.1 22 c = 12 ∧ τ.1 20 m = 12 ∧ σ.1 26 c = τ.1 23 m ∧ scl σ f c s' l dd ∧ L = [(f, c + 1, m + 1, 0 :: s', l, dd)]
  | 13 => ∃ r r' s' : List Nat, s = 0 :: (r ++ 0 :: 0 :: (r' ++ 2 :: s')) ∧ (∀ x ∈ r, x = 0 ∨ x = 6) ∧ (∀ x ∈ r', x = 0 ∨ x = 6) ∧ σ.1 22 c = 13 ∧ σ.1 23 c = Int32.ofNat r.length ∧ τ.1 20 m = 13 ∧ τ.1 21 m = Int32.ofNat r'.length ∧ σ.1 26 c = τ.1 23 m ∧ scl σ f c s' l dd ∧ L = [(f, c + 1, m + 1, r ++ 6 :: 6 :: (r' ++ 2 :: s'), l, dd)]
  | 14 => ∃ r s' : List Nat, s = r ++ 2 :: s' ∧ (∀ x ∈ r, x = 0 ∨ x = 6) ∧ σ.1 22 c = 14 ∧ σ.1 23 c = Int32.ofNat r.length ∧ τ.1 20 m = 47 ∧ L = [(f, c + 1, m + 1, s', l, dd)]
  | 15 => ∃ s', s = 2 :: s' ∧ τ.1 20 m = 47 ∧ L = [(f, c, m + 1, s', l, dd)]
  -- marks
  | 16 => σ.1 22 c = 15 ∧ τ.1 20 m = 14 ∧ L = [(f, c + 1, m + 1, 1 :: s, l, dd)]
  | 17 => τ.1 20 m = 14 ∧ L = [(f, c, m + 1, 2 :: s, l, dd)]
  -- calls: one value, a row, none, all into a table
  | 18 => ∃ r s', rowS r ∧ s = r ++ 1 :: 0 :: s' ∧ σ.1 22 c = 16 ∧ τ.1 20 m = 16 ∧ σ.1 26 c = τ.1 23 m ∧ scl σ f c s' l dd ∧ σ.1 22 (c + 1) = 17 ∧ τ.1 21 m = 1 ∧ L = [(f, c + 2, m + 1, 0 :: s', l, dd)]
  | 19 => ∃ r s', rowS r ∧ s = r ++ 1 :: 0 :: s' ∧ σ.1 22 c = 16 ∧ τ.1 20 m = 16 ∧ σ.1 26 c = τ.1 23 m ∧ scl σ f c s' l dd ∧ σ.1 22 (c + 1) = 18 ∧ τ.1 21 m = -1 ∧ L = [(f, c + 2, m + 1, 5 :: s', l, dd)]
  | 20 => ∃ r s', rowS r ∧ s = r ++ 1 :: 0 :: s' ∧ σ.1 22 c = 16 ∧ τ.1 20 m = 16 ∧ σ.1 26 c = τ.1 23 m ∧ scl σ f c s' l dd ∧ σ.1 22 (c + 1) = 19 ∧ τ.1 21 m = 0 ∧ L = [(f, c + 2, m + 1, s', l, dd)]
  | 21 => ∃ r s', rowS r ∧ s = r ++ 1 :: 0 :: 2 :: 8 :: s' ∧ σ.1 22 c = 16 ∧ τ.1 20 m = 16 ∧ σ.1 26 c = τ.1 23 m ∧ scl σ f c s' l dd ∧ σ.1 22 (c + 1) = 25 ∧ τ.1 21 m = -1 ∧ τ.1 20 (m + 1) = 29 ∧ (∃ i : Nat, i < 60 ∧ σ.1 23 (c + 1) = Int32.ofNat i ∧ τ.1 21 (m + 1) = Int32.ofNat i) ∧ L = [(f, c + 2, m + 2, 8 :: s', l, dd)]
  -- the rest of what was given: one value, a row, all into a table
  | 22 => σ.1 22 c = 21 ∧ τ.1 20 m = 30 ∧ σ.1 22 (c + 1) = 17 ∧ τ.1 21 m = 1 ∧ L = [(f, c + 2, m + 1, 0 :: s, l, dd)]
  | 23 => σ.1 22 c = 21 ∧ τ.1 20 m = 30 ∧ σ.1 22 (c + 1) = 18 ∧ τ.1 21 m = -1 ∧ L = [(f, c + 2, m + 1, 5 :: s, l, dd)]
  | 24 => ∃ s', s = 2 :: 8 :: s' ∧ σ.1 22 c = 21 ∧ τ.1 20 m = 30 ∧ σ.1 22 (c + 1) = 25 ∧ τ.1 21 m = -1 ∧ τ.1 20 (m + 1) = 29 ∧ (∃ i : Nat, i < 60 ∧ σ.1 23 (c + 1) = Int32.ofNat i ∧ τ.1 21 (m + 1) = Int32.ofNat i) ∧ L = [(f, c + 2, m + 2, 8 :: s', l, dd)]
  -- so many values of a row
  | 25 => ∃ (n : Nat) (r s' : List Nat), n ≤ 50 ∧ rowS r ∧ s = r ++ 1 :: s' ∧ σ.1 22 c = 20 ∧ σ.1 23 c = Int32.ofNat n ∧ σ.1 24 c = 0 ∧ τ.1 20 m = 17 ∧ τ.1 23 m = σ.1 26 c ∧ τ.1 20 (m + 1) = 18 ∧ τ.1 21 (m + 1) = Int32.ofNat n ∧ L = [(f, c + 1, m + 2, List.replicate n 0 ++ s', l, dd)]
  | 26 => ∃ (n : Nat) (s' : List Nat), n ≤ 50 ∧ s = 1 :: s' ∧ σ.1 22 c = 20 ∧ σ.1 23 c = Int32.ofNat n ∧ σ.1 24 c = 0 ∧ τ.1 20 m = 18 ∧ τ.1 21 m = Int32.ofNat n ∧ L = [(f, c + 1, m + 1, List.replicate n 0 ++ s', l, dd)]
  -- back to the caller
  | 27 => ∃ r s', rowS r ∧ s = r ++ 1 :: s' ∧ σ.1 22 c = 40 ∧ τ.1 20 m = 17 ∧ τ.1 23 m = σ.1 26 c ∧ τ.1 20 (m + 1) = 38 ∧ L = []
  | 28 => ∃ s', s = 1 :: s' ∧ σ.1 22 c = 40 ∧ τ.1 20 m = 38 ∧ L = []
  -- functions and tables
  | 29 => ∃ q : Nat, (q < 51 ∧ σ.1 22 (lv σ 28 q).toNat = 0 ∧ τ.1 20 (lv τ 12 q).toNat = 0) ∧ fnC σ τ q f l ∧ σ.1 22 c = 22 ∧ σ.1 23 c = Int32.ofNat q ∧ τ.1 20 m = 25 ∧ τ.1 21 m = Int32.ofNat q ∧ L = [(f, c + 1, m + 1, 0 :: s, l, dd), fnE σ τ q]
  | 30 => σ.1 22 c = 23 ∧ τ.1 20 m = 26 ∧ L = [(f, c + 1, m + 1, 8 :: s, l, dd)]
  | 31 => ∃ s', s = 0 :: 2 :: 8 :: s' ∧ σ.1 22 c = 24 ∧ τ.1 20 m = 28 ∧ (∃ i : Nat, i < 60 ∧ σ.1 23 c = Int32.ofNat i ∧ τ.1 21 m = Int32.ofNat i) ∧ L = [(f, c + 1, m + 1, 8 :: s', l, dd)]
  | 32 => ∃ s', s = 0 :: 0 :: 8 :: s' ∧ σ.1 22 c = 26 ∧ τ.1 20 m = 27 ∧ σ.1 26 c = τ.1 23 m ∧ L = [(f, c + 1, m + 1, 8 :: s', l, dd)]
  | 33 => ∃ s', s = 0 :: s' ∧ σ.1 22 c = 27 ∧ sEi σ τ (σ.1 23 c) (τ.1 21 (m + 1)) ∧ τ.1 20 m = 45 ∧ τ.1 20 (m + 1) = 5 ∧ τ.1 20 (m + 2) = 12 ∧ σ.1 26 c = τ.1 23 (m + 2) ∧ τ.1 20 (m + 3) = 46 ∧ τ.1 20 (m + 4) = 15 ∧ scl σ f c s' l dd ∧ L = [(f, c + 1, m + 5, 0 :: 1 :: 0 :: s', l, dd)]
  -- operators
  | 34 => ∃ (k : Nat) (s' : List Nat), s = 0 :: 0 :: s' ∧ σ.1 22 c = 28 ∧ σ.1 23 c = Int32.ofNat k ∧ opB2 k = some (τ.1 20 m, τ.1 21 m, τ.1 22 m) ∧ σ.1 26 c = τ.1 23 m ∧ scl σ f c s' l dd ∧ L = [(f, c + 1, m + 1, 0 :: s', l, dd)]
  | 35 => ∃ s', s = 0 :: s' ∧ σ.1 22 c = 29 ∧ σ.1 23 c = 23 ∧ τ.1 20 m = 35 ∧ L = [(f, c + 1, m + 1, 0 :: s', l, dd)]
  | 36 => ∃ s', s = 0 :: s' ∧ σ.1 22 c = 29 ∧ (σ.1 23 c = 59 ∧ τ.1 20 m = 34 ∨ σ.1 23 c = 41 ∧ τ.1 20 m = 32 ∧ τ.1 21 m = 13 ∨ σ.1 23 c = 47 ∧ τ.1 20 m = 32 ∧ τ.1 21 m = 14) ∧ σ.1 26 c = τ.1 23 m ∧ scl σ f c s' l dd ∧ L = [(f, c + 1, m + 1, 0 :: s', l, dd)]
  -- jumps
  | 37 => ∃ a a' : Nat, a < 14000 ∧ (a' < 14000 ∧ (c < a ∧ m < a' ∨ σ.1 22 a = 0 ∧ τ.1 20 a' = 0)) ∧ σ.1 22 c = 30 ∧ σ.1 23 c = Int32.ofNat a ∧ τ.1 20 m = 21 ∧ τ.1 21 m = Int32.ofNat a' ∧ L = [(f, a, a', s, l, dd)]
  | 38 => ∃ a : Nat, a < 14000 ∧ σ.1 22 c = 30 ∧ σ.1 23 c = Int32.ofNat a ∧ c < a ∧ L = [(f, a, m, s, l, dd)]
  | 39 => ∃ (a a' : Nat) (s' : List Nat), a < 14000 ∧ (a' < 14000 ∧ c < a ∧ m < a') ∧ s = 0 :: s' ∧ σ.1 22 c = 31 ∧ σ.1 23 c = Int32.ofNat a ∧ τ.1 20 m = 22 ∧ τ.1 21 m = Int32.ofNat a' ∧ L = [(f, c + 1, m + 1, s', l, dd), (f, a, a', s', l, dd)]
  | 40 => ∃ (a a' : Nat) (s' : List Nat), a < 14000 ∧ (a' < 14000 ∧ c < a ∧ m < a') ∧ s = 0 :: s' ∧ (σ.1 22 c = 32 ∧ τ.1 20 m = 23 ∨ σ.1 22 c = 33 ∧ τ.1 20 m = 24) ∧ σ.1 23 c = Int32.ofNat a ∧ τ.1 21 m = Int32.ofNat a' ∧ L = [(f, c + 1, m + 1, s', l, dd), (f, a, a', s, l, dd)]
  -- until: without locals, with locals
  | 41 => ∃ (a t t' o : Nat) (s' : List Nat), a < 14000 ∧ t < 14000 ∧ (t' < 14000 ∧ σ.1 22 t = 0 ∧ τ.1 20 t' = 0) ∧ (o < 14000 ∧ c < o) ∧ s = 0 :: s' ∧ σ.1 22 c = 31 ∧ σ.1 23 c = Int32.ofNat a ∧ σ.1 22 (c + 1) = 30 ∧ σ.1 23 (c + 1) = Int32.ofNat o ∧ σ.1 22 a = 30 ∧ σ.1 23 a = Int32.ofNat t ∧ τ.1 20 m = 22 ∧ τ.1 21 m = Int32.ofNat t' ∧ L = [(f, o, m + 1, s', l, dd), (f, t, t', s', l, dd)]
  | 42 => ∃ (a t t' o p q : Nat) (s' : List Nat), a < 14000 ∧ t < 14000 ∧ (t' < 14000 ∧ σ.1 22 t = 0 ∧ τ.1 20 t' = 0) ∧ (o < 14000 ∧ c < o) ∧ p < 50 ∧ (q ≤ 50 ∧ (q : Int) ≤ lv σ 31 f) ∧ s = 0 :: s' ∧ (∀ x ∈ l, x < q) ∧ σ.1 22 c = 31 ∧ σ.1 23 c = Int32.ofNat a ∧ σ.1 22 (c + 1) = 34 ∧ σ.1 23 (c + 1) = Int32.ofNat p ∧ σ.1 24 (c + 1) = Int32.ofNat q ∧ σ.1 22 (c + 2) = 30 ∧ σ.1 23 (c + 2) = Int32.ofNat o ∧ σ.1 22 a = 34 ∧ σ.1 23 a = Int32.ofNat p ∧ σ.1 24 a = Int32.ofNat q ∧ σ.1 22 (a + 1) = 30 ∧ σ.1 23 (a + 1) = Int32.ofNat t ∧ τ.1 20 m = 20 ∧ τ.1 21 m = Int32.ofNat p ∧ τ.1 20 (m + 1) = 22 ∧ τ.1 21 (m + 1) = Int32.ofNat t' ∧ p ≤ dd ∧ L = [(f, o, m + 2, s', l.filter (· < p), 50), (f, t, t', s', l.filter (· < p), 50)]
  -- locals end: in both, in the component, in the model
  | 43 => ∃ p q : Nat, p < 50 ∧ (q ≤ 50 ∧ (q : Int) ≤ lv σ 31 f) ∧ (∀ x ∈ l, x < q) ∧ σ.1 22 c = 34 ∧ σ.1 23 c = Int32.ofNat p ∧ σ.1 24 c = Int32.ofNat q ∧ τ.1 20 m = 20 ∧ τ.1 21 m = Int32.ofNat p ∧ p ≤ dd ∧ L = [(f, c + 1, m + 1, s, l.filter (· < p), 50)]
  | 44 => ∃ p q : Nat, p < 50 ∧ (q ≤ 50 ∧ (q : Int) ≤ lv σ 31 f) ∧ (∀ x ∈ l, x < q) ∧ σ.1 22 c = 34 ∧ σ.1 23 c = Int32.ofNat p ∧ σ.1 24 c = Int32.ofNat q ∧ L = [(f, c + 1, m, s, l.filter (· < p), min dd p)]
  | 45 => ∃ p : Nat, p ≤ 50 ∧ τ.1 20 m = 20 ∧ τ.1 21 m = Int32.ofNat p ∧ p ≤ dd ∧ (∀ x ∈ l, x < p) ∧ L = [(f, c, m + 1, s, l, 50)]
  -- counted fors
  | 46 => ∃ (d : Nat) (s' : List Nat), s = 0 :: 0 :: 0 :: s' ∧ d = (flo s').length ∧ (d : Int) < lv σ 32 f ∧ σ.1 22 c = 35 ∧ σ.1 23 c = Int32.ofNat d ∧ σ.1 24 c = 0 ∧ τ.1 20 m = 39 ∧ σ.1 26 c = τ.1 23 m ∧ L = [(f, c + 1, m + 1, 3 :: s', l, dd)]
  | 47 => ∃ (d x a a' : Nat) (s' : List Nat), a < 14000 ∧ (a' < 14000 ∧ c < a ∧ m < a') ∧ (x < 50 ∧ x ∉ l ∧ (x : Int) < lv σ 31 f) ∧ s = 3 :: s' ∧ d = (flo s').length ∧ (d : Int) < lv σ 32 f ∧ σ.1 22 c = 36 ∧ σ.1 23 c = Int32.ofNat d ∧ σ.1 24 c = Int32.ofNat x ∧ σ.1 25 c = Int32.ofNat a ∧ τ.1 20 m = 40 ∧ τ.1 21 m = Int32.ofNat a' ∧ τ.1 22 m = Int32.ofNat x ∧ L = [(f, c + 1, m + 1, s, x :: l, dd), (f, a, a', s, l, dd)]
  | 48 => ∃ (d t t' a' : Nat) (s' : List Nat), t < 14000 ∧ (t' < 14000 ∧ σ.1 22 t = 0 ∧ τ.1 20 t' = 0) ∧ (a' < 14000 ∧ m < a') ∧ s = 3 :: s' ∧ d = (flo s').length ∧ (d : Int) < lv σ 32 f ∧ σ.1 22 c = 37 ∧ σ.1 23 c = Int32.ofNat d ∧ σ.1 24 c = Int32.ofNat t ∧ τ.1 20 m = 41 ∧ τ.1 21 m = Int32.ofNat a' ∧ τ.1 22 m = Int32.ofNat t' ∧ L = [(f, t, t', s, l, dd), (f, c + 1, a', s, l, dd)]
  | 49 => ∃ s', (s = 3 :: s' ∨ s = 4 :: s') ∧ τ.1 20 m = 44 ∧ τ.1 21 m = 3 ∧ L = [(f, c, m + 1, s', l, dd)]
  -- called fors
  | 50 => ∃ (d : Nat) (s' : List Nat), s = 0 :: 0 :: 0 :: s' ∧ d = (flo s').length ∧ (d : Int) < lv σ 32 f ∧ σ.1 22 c = 35 ∧ σ.1 23 c = Int32.ofNat d ∧ σ.1 24 c = 1 ∧ L = [(f, c + 1, m, 4 :: s', l, dd)]
  | 51 => ∃ (d n x a a' : Nat) (s' : List Nat), a < 14000 ∧ (a' < 14000 ∧ c < a ∧ m < a') ∧ 0 < n ∧ (x + n ≤ 50 ∧ (∀ y ∈ l, y < x) ∧ ((x + n : Nat) : Int) ≤ lv σ 31 f) ∧ s = 4 :: s' ∧ d = (flo s').length ∧ (d : Int) < lv σ 32 f ∧ σ.1 22 c = 38 ∧ σ.1 23 c = Int32.ofNat d ∧ σ.1 22 (c + 1) = 16 ∧ σ.1 26 (c + 1) = τ.1 23 m ∧ σ.1 22 (c + 2) = 20 ∧ σ.1 23 (c + 2) = Int32.ofNat n ∧ σ.1 24 (c + 2) = 1 ∧ σ.1 22 (c + 3) = 39 ∧ σ.1 23 (c + 3) = Int32.ofNat x ∧ σ.1 24 (c + 3) = Int32.ofNat (n + 256 * d) ∧ σ.1 25 (c + 3) = Int32.ofNat a ∧ τ.1 20 m = 42 ∧ τ.1 21 m = Int32.ofNat n ∧ τ.1 20 (m + 1) = 43 ∧ τ.1 21 (m + 1) = Int32.ofNat a' ∧ τ.1 22 (m + 1) = Int32.ofNat (100 * n + x) ∧ scl σ f (c + 1) s l dd ∧ L = [(f, c + 4, m + 2, s, ((List.range n).map (x + ·)).reverse ++ l, dd), (f, a, a', s, l, dd)]
  -- a field with a name: its name, then it
  | 52 => σ.1 22 c = 5 ∧ τ.1 20 m = 5 ∧ sEi σ τ (σ.1 23 c) (τ.1 21 m) ∧ L = [(f, c + 1, m + 1, 7 :: s, l, dd)]
  | 53 => ∃ s', s = 0 :: 7 :: 8 :: s' ∧ σ.1 22 c = 26 ∧ τ.1 20 m = 27 ∧ L = [(f, c + 1, m + 1, 8 :: s', l, dd)]
  -- a table that was made is a value
  | 54 => ∃ s', s = 8 :: s' ∧ L = [(f, c, m, 0 :: s', l, dd)]
  | _ => False
def insE (σ τ : lj_S) (y : pT) (L : List pT) : Prop := ∃ k, insK σ τ y.1 y.2.1 y.2.2.1 y.2.2.2.1 y.2.2.2.2.1 y.2.2.2.2.2 L k
def ins (σ τ : lj_S) (y : pT) (L : List pT) : Prop := sOK y.2.2.2.1 ∧ insE σ τ y L
/-- a step of both -/
def ins0 (σ τ : lj_S) (y : pT) (L : List pT) : Prop := sOK y.2.2.2.1 ∧ insK σ τ y.1 y.2.1 y.2.2.1 y.2.2.2.1 y.2.2.2.2.1 y.2.2.2.2.2 L 0
/-- at most n acts up to points of E, or to steps of S -/
def gN (σ τ : lj_S) (E S : pT → Prop) : Nat → pT → Prop
  | 0, y => E y ∨ S y
  | n + 1, y => gN σ τ E S n y ∨ ∃ L, ins σ τ y L ∧ ∀ z ∈ L, gN σ τ E S n z
/-- closed under steps -/
def gK (σ τ : lj_S) (E S : pT → Prop) : Prop := ∀ y, S y → ∃ L, ins0 σ τ y L ∧ ∀ z ∈ L, ∃ n, gN σ τ E S n z
/-- all acts from a point on are acts of both, up to points of E -/
def seg (σ τ : lj_S) (x : pT) (E : pT → Prop) : Prop := ∃ S : pT → Prop, (∃ n, gN σ τ E S n x) ∧ gK σ τ E S
theorem gN_up {σ τ : lj_S} {E S : pT → Prop} {n : Nat} : ∀ (d : Nat) {y : pT}, gN σ τ E S n y → gN σ τ E S (n + d) y
  | 0, _, h => h
  | d + 1, _, h => Or.inl (gN_up d h)
theorem gN_le {σ τ : lj_S} {E S : pT → Prop} {n m : Nat} (h : n ≤ m) {y : pT} (g : gN σ τ E S n y) : gN σ τ E S m y := by
  obtain ⟨d, rfl⟩ := Nat.exists_eq_add_of_le h
  exact gN_up d g
theorem gN_all {σ τ : lj_S} {E S : pT → Prop} : ∀ (L : List pT), (∀ z ∈ L, ∃ n, gN σ τ E S n z) → ∃ n, ∀ z ∈ L, gN σ τ E S n z
  | [], _ => ⟨0, fun z hz => by cases hz⟩
  | x :: L, h => by
    obtain ⟨n, hn⟩ := h x List.mem_cons_self
    obtain ⟨m, hm⟩ := gN_all L (fun z hz => h z (List.mem_cons_of_mem _ hz))
    refine ⟨n + m, fun z hz => ?_⟩
    rcases List.mem_cons.1 hz with e | e
    · rw [e]; exact gN_le (Nat.le_add_right _ _) hn
    · exact gN_le (Nat.le_add_left _ _) (hm z e)
/-- other ends -/
theorem gN_tr {σ τ : lj_S} {E E' S S' : pT → Prop} (h : ∀ y, E y ∨ S y → ∃ n, gN σ τ E' S' n y) : ∀ (n : Nat) {x : pT}, gN σ τ E S n x → ∃ n, gN σ τ E' S' n x
  | 0, x, g => h x g
  | n + 1, x, g => by
    rcases g with g | ⟨L, i, g⟩
    · exact gN_tr h n g
    · obtain ⟨m, hm⟩ := gN_all L (fun z hz => gN_tr h n (g z hz))
      exact ⟨m + 1, Or.inr ⟨L, i, hm⟩⟩
/-- all points of closed sets -/
def gS (σ τ : lj_S) (E : pT → Prop) (y : pT) : Prop := ∃ S, S y ∧ gK σ τ E S
theorem gK_S {σ τ : lj_S} {E : pT → Prop} : gK σ τ E (gS σ τ E) := by
  rintro y ⟨S, h1, h2⟩
  obtain ⟨L, i, g⟩ := h2 y h1
  refine ⟨L, i, fun z hz => ?_⟩
  obtain ⟨n, hn⟩ := g z hz
  exact gN_tr (fun w hw => ⟨0, hw.elim Or.inl (fun e => Or.inr ⟨S, e, h2⟩)⟩) n hn
theorem seg.g {σ τ : lj_S} {x : pT} {E : pT → Prop} (h : seg σ τ x E) : ∃ n, gN σ τ E (gS σ τ E) n x := by
  obtain ⟨S, ⟨n, hn⟩, h2⟩ := h
  exact gN_tr (fun w hw => ⟨0, hw.elim Or.inl (fun e => Or.inr ⟨S, e, h2⟩)⟩) n hn
theorem seg_ex {σ τ : lj_S} {x : pT} {E : pT → Prop} (h : E x) : seg σ τ x E := ⟨fun _ => False, ⟨0, Or.inl h⟩, fun _ e => e.elim⟩
theorem seg_in {σ τ : lj_S} {x : pT} {E : pT → Prop} (L : List pT) (h : insE σ τ x L) (g : ∀ z ∈ L, seg σ τ z E) (hb : sOK x.2.2.2.1 := by first | exact sk0 (by assumption) | exact sk1 (by assumption) | exact sk2 (by assumption) (by decide) | exact sk3 (by assumption) (by decide) (by decide) | exact skr (t := [1, 0]) (by assumption) (by assumption) (by decide) (by decide) | exact skr (t := [1]) (by assumption) (by assumption) (by decide) (by decide) | exact skr (t := [1, 0, 2, 8]) (by assumption) (by assumption) (by decide) (by decide) | exact skr (t := [1, 0, 2]) (by assumption) (by assumption) (by decide) (by decide)) : seg σ τ x E := by
  obtain ⟨n, hn⟩ := gN_all L (fun z hz => (g z hz).g)
  exact ⟨gS σ τ E, ⟨n + 1, Or.inr ⟨L, ⟨hb, h⟩, hn⟩⟩, gK_S⟩
theorem seg.tr {σ τ : lj_S} {x : pT} {E E' : pT → Prop} (h : seg σ τ x E) (g : ∀ y, E y → seg σ τ y E') : seg σ τ x E' := by
  obtain ⟨S, ⟨n, hn⟩, h2⟩ := h
  have k : ∀ y, E y ∨ S y → ∃ n, gN σ τ E' (fun y => S y ∨ gS σ τ E' y) n y := fun y hy => by
    rcases hy with e | e
    · obtain ⟨m, hm⟩ := (g y e).g
      exact gN_tr (fun w hw => ⟨0, hw.elim Or.inl (fun e => Or.inr (Or.inr e))⟩) m hm
    · exact ⟨0, Or.inr (Or.inl e)⟩
  refine ⟨fun y => S y ∨ gS σ τ E' y, gN_tr k n hn, fun y hy => ?_⟩
  rcases hy with e | e
  · obtain ⟨L, i, z⟩ := h2 y e
    refine ⟨L, i, fun w hw => ?_⟩
    obtain ⟨m, hm⟩ := z w hw
    exact gN_tr k m hm
  · obtain ⟨L, i, z⟩ := gK_S y e
    refine ⟨L, i, fun w hw => ?_⟩
    obtain ⟨m, hm⟩ := z w hw
    exact gN_tr (fun w hw => ⟨0, hw.elim Or.inl (fun e => Or.inr (Or.inr e))⟩) m hm
theorem seg_loop {σ τ : lj_S} {x : pT} {E : pT → Prop} (L : List pT) (h : insK σ τ x.1 x.2.1 x.2.2.1 x.2.2.2.1 x.2.2.2.2.1 x.2.2.2.2.2 L 0) (g : ∀ z ∈ L, seg σ τ z (fun y => E y ∨ y = x)) (hb : sOK x.2.2.2.1 := by first | exact sk0 (by assumption) | exact sk1 (by assumption) | exact sk2 (by assumption) (by decide)) : seg σ τ x E := by
  have k : ∀ y, (E y ∨ y = x) ∨ gS σ τ (fun y => E y ∨ y = x) y → ∃ n, gN σ τ E (fun y => y = x ∨ gS σ τ (fun y => E y ∨ y = x) y) n y := fun y hy => by
    rcases hy with (e | e) | e
    · exact ⟨0, Or.inl e⟩
    · exact ⟨0, Or.inr (Or.inl e)⟩
    · exact ⟨0, Or.inr (Or.inr e)⟩
  refine ⟨fun y => y = x ∨ gS σ τ (fun y => E y ∨ y = x) y, ⟨0, Or.inr (Or.inl rfl)⟩, fun y hy => ?_⟩
  rcases hy with e | e
  · rw [e]
    refine ⟨L, ⟨hb, h⟩, fun z hz => ?_⟩
    obtain ⟨m, hm⟩ := (g z hz).g
    exact gN_tr k m hm
  · obtain ⟨L, i, z⟩ := gK_S y e
    refine ⟨L, i, fun w hw => ?_⟩
    obtain ⟨m, hm⟩ := z w hw
    exact gN_tr k m hm
/-- a step is at hand there, and all acts from it on are acts of both -/
theorem gS.sgm {σ τ : lj_S} {x : pT} {E : pT → Prop} (h : gS σ τ E x) : seg σ τ x E := ⟨gS σ τ E, ⟨0, Or.inr h⟩, gK_S⟩
theorem gS.stp {σ τ : lj_S} {x : pT} {E : pT → Prop} (h : gS σ τ E x) : σ.1 22 x.2.1 = 0 ∧ τ.1 20 x.2.2.1 = 0 := by
  obtain ⟨S, h1, h2⟩ := h
  obtain ⟨L, i, _⟩ := h2 x h1
  exact ⟨i.2.1, i.2.2.1⟩
theorem gS.tr {σ τ : lj_S} {x : pT} {E E' : pT → Prop} (h : gS σ τ E x) (g : ∀ y, E y → seg σ τ y E') : gS σ τ E' x := by
  obtain ⟨S, hx, h2⟩ := h
  have k : ∀ y, E y ∨ S y → ∃ n, gN σ τ E' (fun y => S y ∨ gS σ τ E' y) n y := fun y hy => by
    rcases hy with e | e
    · obtain ⟨m, hm⟩ := (g y e).g
      exact gN_tr (fun w hw => ⟨0, hw.elim Or.inl (fun e => Or.inr (Or.inr e))⟩) m hm
    · exact ⟨0, Or.inr (Or.inl e)⟩
  refine ⟨fun y => S y ∨ gS σ τ E' y, Or.inl hx, fun y hy => ?_⟩
  rcases hy with e | e
  · obtain ⟨L, i, z⟩ := h2 y e
    refine ⟨L, i, fun w hw => ?_⟩
    obtain ⟨m, hm⟩ := z w hw
    exact gN_tr k m hm
  · obtain ⟨L, i, z⟩ := gK_S y e
    refine ⟨L, i, fun w hw => ?_⟩
    obtain ⟨m, hm⟩ := z w hw
    exact gN_tr (fun w hw => ⟨0, hw.elim Or.inl (fun e => Or.inr (Or.inr e))⟩) m hm
theorem gS_in {σ τ : lj_S} {x : pT} {E : pT → Prop} (L : List pT) (h : insK σ τ x.1 x.2.1 x.2.2.1 x.2.2.2.1 x.2.2.2.2.1 x.2.2.2.2.2 L 0) (g : ∀ z ∈ L, seg σ τ z E) (hb : sOK x.2.2.2.1 := by first | exact sk0 (by assumption) | exact sk1 (by assumption) | exact sk2 (by assumption) (by decide)) : gS σ τ E x := by
  refine ⟨fun y => y = x ∨ gS σ τ E y, Or.inl rfl, fun y hy => ?_⟩
  rcases hy with e | e
  · rw [e]
    refine ⟨L, ⟨hb, h⟩, fun z hz => ?_⟩
    obtain ⟨m, hm⟩ := (g z hz).g
    exact gN_tr (fun w hw => ⟨0, hw.elim Or.inl (fun e => Or.inr (Or.inr e))⟩) m hm
  · obtain ⟨L, i, z⟩ := gK_S y e
    refine ⟨L, i, fun w hw => ?_⟩
    obtain ⟨m, hm⟩ := z w hw
    exact gN_tr (fun w hw => ⟨0, hw.elim Or.inl (fun e => Or.inr (Or.inr e))⟩) m hm
/-- nothing is done up to X, or a step is at hand -/
def seg0 (σ τ : lj_S) (x X : pT) (E : pT → Prop) : Prop := x = X ∨ gS σ τ E x
theorem seg0.tr {σ τ : lj_S} {x X : pT} {B E' : pT → Prop} (h : seg0 σ τ x X (fun y => y = X ∨ B y)) (g : ∀ y, (y = X ∨ B y) → seg σ τ y E') : seg σ τ x E' := by
  rcases h with e | e
  · rw [e]; exact g X (Or.inl rfl)
  · exact (e.tr g).sgm
theorem seg0.tr0 {σ τ : lj_S} {x X X' : pT} {B E' : pT → Prop} (h : seg0 σ τ x X (fun y => y = X ∨ B y)) (hX : gS σ τ E' X) (g : ∀ y, (y = X ∨ B y) → seg σ τ y E') : seg0 σ τ x X' E' := by
  rcases h with e | e
  · rw [e]; exact Or.inr hX
  · exact Or.inr (e.tr g)
theorem seg0_in {σ τ : lj_S} {x X : pT} {E : pT → Prop} (L : List pT) (h : insK σ τ x.1 x.2.1 x.2.2.1 x.2.2.2.1 x.2.2.2.2.1 x.2.2.2.2.2 L 0) (g : ∀ z ∈ L, seg σ τ z E) (hb : sOK x.2.2.2.1 := by first | exact sk0 (by assumption) | exact sk1 (by assumption) | exact sk2 (by assumption) (by decide)) : seg0 σ τ x X E := Or.inr (gS_in L h g hb)
