/-! what is reached: plain -/
/-- closed sets: roots, what is held, what is held by a key -/
def clo (root : Nat → Prop) (edge : Nat → Nat → Prop) (eph : Nat → Nat → Nat → Prop) (S : Nat → Prop) : Prop := (∀ x, root x → S x) ∧ (∀ o x, S o → edge o x → S x) ∧ ∀ t k v, S t → S k → eph t k v → S v
def lstR (root : Nat → Prop) (edge : Nat → Nat → Prop) (eph : Nat → Nat → Nat → Prop) (x : Nat) : Prop := ∀ S, clo root edge eph S → S x
theorem lstR_clo (root : Nat → Prop) (edge : Nat → Nat → Prop) (eph : Nat → Nat → Nat → Prop) : clo root edge eph (lstR root edge eph) := ⟨fun x h S c => c.1 x h, fun o x h e S c => c.2.1 o x (h S c) e, fun t k v h1 h2 e S c => c.2.2 t k v (h1 S c) (h2 S c) e⟩
theorem lstR_cg {root root' : Nat → Prop} {edge edge' : Nat → Nat → Prop} {eph eph' : Nat → Nat → Nat → Prop} (h1 : ∀ x, root x ↔ root' x) (h2 : ∀ o x, edge o x ↔ edge' o x) (h3 : ∀ t k v, eph t k v ↔ eph' t k v) (x : Nat) : lstR root edge eph x ↔ lstR root' edge' eph' x := by
  have e1 : root = root' := funext (fun x => propext (h1 x))
  have e2 : edge = edge' := funext (fun o => funext (fun x => propext (h2 o x)))
  have e3 : eph = eph' := funext (fun t => funext (fun k => funext (fun v => propext (h3 t k v))))
  rw [e1, e2, e3]
/-- flags grow, and what is flagged newly waits: N was flagged -/
def rgN (n : Nat) (P : Nat → Prop) (S : Nat → Bool) (Q : List Nat) (S' : Nat → Bool) (Q' : List Nat) : Prop := ∃ N : List Nat, Q' = N ++ Q ∧ (∀ x, S' x = true ↔ S x = true ∨ x ∈ N) ∧ N.Nodup ∧ ∀ x ∈ N, S x = false ∧ x ≤ n ∧ P x
theorem rgN.rf (n : Nat) (P : Nat → Prop) (S : Nat → Bool) (Q : List Nat) : rgN n P S Q S Q := ⟨[], rfl, fun x => ⟨Or.inl, fun h => h.elim id (fun z => by cases z)⟩, List.nodup_nil, fun x hx => by cases hx⟩
theorem rgN.one {n : Nat} {P : Nat → Prop} {S : Nat → Bool} (Q : List Nat) {x : Nat} (h : S x = false) (hx : x ≤ n) (hp : P x) : rgN n P S Q (fun y => S y || y == x) (x :: Q) := ⟨[x], rfl, fun y => by simp, by simp, fun y hy => by
  have : y = x := by simpa using hy
  rw [this]
  exact ⟨h, hx, hp⟩⟩
theorem rgN.tr {n : Nat} {P : Nat → Prop} {S S1 S2 : Nat → Bool} {Q Q1 Q2 : List Nat} (h : rgN n P S Q S1 Q1) (g : rgN n P S1 Q1 S2 Q2) : rgN n P S Q S2 Q2 := by
  obtain ⟨N, h1, h2, h3, h4⟩ := h
  obtain ⟨K, g1, g2, g3, g4⟩ := g
  refine ⟨K ++ N, by rw [g1, h1, List.append_assoc], fun x => ?_, List.nodup_append.2 ⟨g3, h3, fun a ha b hb e => ?_⟩, fun x hx => ?_⟩
  · rw [g2, h2, List.mem_append]
    constructor
    · rintro ((z | z) | z)
      · exact Or.inl z
      · exact Or.inr (Or.inr z)
      · exact Or.inr (Or.inl z)
    · rintro (z | z | z)
      · exact Or.inl (Or.inl z)
      · exact Or.inr z
      · exact Or.inl (Or.inr z)
  · have := (g4 a ha).1
    rw [e, (h2 b).2 (Or.inr hb)] at this
    cases this
  · rcases List.mem_append.1 hx with z | z
    · refine ⟨?_, (g4 x z).2⟩
      cases y : S x with
      | false => rfl
      | true =>
        have := (g4 x z).1
        rw [(h2 x).2 (Or.inl y)] at this
        cases this
    · exact h4 x z
theorem rgN.up {n : Nat} {P : Nat → Prop} {S S' : Nat → Bool} {Q Q' : List Nat} (h : rgN n P S Q S' Q') {x : Nat} (hx : S x = true) : S' x = true := by
  obtain ⟨N, h1, h2, _⟩ := h
  exact (h2 x).2 (Or.inl hx)
theorem rgN.mo {n : Nat} {P P' : Nat → Prop} (w : ∀ x, P x → P' x) {S S' : Nat → Bool} {Q Q' : List Nat} (h : rgN n P S Q S' Q') : rgN n P' S Q S' Q' := by
  obtain ⟨N, h1, h2, h3, h4⟩ := h
  exact ⟨N, h1, h2, h3, fun x hx => ⟨(h4 x hx).1, (h4 x hx).2.1, w x (h4 x hx).2.2⟩⟩
/-- how many are not flagged yet -/
def cnt0 (S : Nat → Bool) : Nat → Nat
  | 0 => if S 0 = true then 0 else 1
  | n + 1 => cnt0 S n + if S (n + 1) = true then 0 else 1
theorem cnt0_cg {S S' : Nat → Bool} : ∀ {n : Nat}, (∀ x, x ≤ n → S' x = S x) → cnt0 S' n = cnt0 S n
  | 0, h => by
    unfold cnt0
    rw [h 0 (Nat.le_refl _)]
  | n + 1, h => by
    unfold cnt0
    rw [cnt0_cg (fun x hx => h x (by omega)), h (n + 1) (Nat.le_refl _)]
theorem cnt0_one {S S' : Nat → Bool} {y : Nat} (h : S y = false) (h' : S' y = true) (ho : ∀ x, x ≠ y → S' x = S x) : ∀ {n : Nat}, y ≤ n → cnt0 S' n + 1 = cnt0 S n
  | 0, hy => by
    have : y = 0 := by omega
    subst this
    unfold cnt0
    rw [h, h']
    rfl
  | n + 1, hy => by
    unfold cnt0
    by_cases z : y = n + 1
    · subst z
      rw [cnt0_cg (S := S) (fun x hx => ho x (by omega)), h, h']
      rfl
    · have ih := cnt0_one h h' ho (n := n) (by omega)
      rw [ho (n + 1) (fun q => z q.symm)]
      omega
theorem cnt0_N {S : Nat → Bool} {n : Nat} : ∀ {N : List Nat} {S' : Nat → Bool}, N.Nodup → (∀ x ∈ N, S x = false ∧ x ≤ n) → (∀ x, S' x = true ↔ S x = true ∨ x ∈ N) → cnt0 S' n + N.length = cnt0 S n
  | [], S', _, _, h => by
    show cnt0 S' n + 0 = _
    rw [Nat.add_zero]
    refine cnt0_cg (fun x _ => ?_)
    have := h x
    cases y : S x with
    | true => exact this.2 (Or.inl y)
    | false =>
      cases y' : S' x with
      | false => rfl
      | true =>
        rcases this.1 y' with z | z
        · rw [y] at z; cases z
        · cases z
  | a :: N, S', nd, h, e => by
    have nd' := List.nodup_cons.1 nd
    obtain ⟨T, hT⟩ : ∃ T : Nat → Bool, ∀ x, T x = true ↔ S x = true ∨ x ∈ N := ⟨fun x => S x || decide (x ∈ N), fun x => by simp⟩
    have ih := cnt0_N (S := S) (n := n) (N := N) (S' := T) nd'.2 (fun x hx => h x (List.mem_cons_of_mem _ hx)) hT
    have ha := h a List.mem_cons_self
    have Ta : T a = false := by
      cases y : T a with
      | false => rfl
      | true =>
        rcases (hT a).1 y with z | z
        · rw [ha.1] at z; cases z
        · exact absurd z nd'.1
    have one := cnt0_one (S := T) (S' := S') (y := a) Ta ((e a).2 (Or.inr List.mem_cons_self)) (fun x hx => by
      have i1 := e x
      have i2 := hT x
      have i3 : (S x = true ∨ x ∈ a :: N) ↔ (S x = true ∨ x ∈ N) := by
        rw [List.mem_cons]
        constructor
        · rintro (z | z | z)
          · exact Or.inl z
          · exact absurd z hx
          · exact Or.inr z
        · rintro (z | z)
          · exact Or.inl z
          · exact Or.inr (Or.inr z)
      rw [i3, ← i2] at i1
      cases y : T x with
      | true => exact i1.2 y
      | false =>
        cases y' : S' x with
        | false => rfl
        | true =>
          have := i1.1 y'
          rw [y] at this
          cases this) (n := n) ha.2
    rw [List.length_cons]
    omega
/-- the number of what is not flagged and of what waits stays -/
theorem rgN.ct {n : Nat} {P : Nat → Prop} {S S' : Nat → Bool} {Q Q' : List Nat} (h : rgN n P S Q S' Q') : cnt0 S' n + Q'.length = cnt0 S n + Q.length := by
  obtain ⟨N, h1, h2, h3, h4⟩ := h
  have := cnt0_N (S := S) (n := n) h3 (fun x hx => ⟨(h4 x hx).1, (h4 x hx).2.1⟩) h2
  rw [h1, List.length_append]
  omega
theorem cnt0_le (S : Nat → Bool) : ∀ n, cnt0 S n ≤ n + 1
  | 0 => by
    unfold cnt0
    split <;> omega
  | n + 1 => by
    have := cnt0_le S n
    unfold cnt0
    split <;> omega
/-- flags S, Q waits -/
def wlI (root : Nat → Prop) (edge : Nat → Nat → Prop) (eph : Nat → Nat → Nat → Prop) (n : Nat) (S : Nat → Bool) (Q : List Nat) : Prop := (∀ x, S x = true → lstR root edge eph x ∧ x ≤ n) ∧ (∀ x ∈ Q, S x = true) ∧ (∀ o, S o = true → o ∉ Q → ∀ x, edge o x → S x = true) ∧ (∀ t k v, S t = true → t ∉ Q → S k = true → k ∉ Q → eph t k v → S v = true) ∧ Q.Nodup
/-- one that waited is done -/
theorem wlI.step {root : Nat → Prop} {edge : Nat → Nat → Prop} {eph : Nat → Nat → Nat → Prop} {n o : Nat} {S S' : Nat → Bool} {Q Q' : List Nat} (h : wlI root edge eph n S (o :: Q)) (g : rgN n (lstR root edge eph) S Q S' Q') (he : ∀ x, edge o x → S' x = true) (h1 : ∀ k v, S k = true → eph o k v → S' v = true) (h2 : ∀ t v, S t = true → t ∉ Q → eph t o v → S' v = true) : wlI root edge eph n S' Q' := by
  obtain ⟨a1, a2, a3, a4, a5⟩ := h
  have nd := List.nodup_cons.1 a5
  obtain ⟨N, b1, b2, b3, b4⟩ := g
  have old : ∀ x, S' x = true → x ∉ Q' → S x = true ∧ x ∉ Q := fun x y z => by
    rw [b1] at z
    rcases (b2 x).1 y with w | w
    · exact ⟨w, fun q => z (List.mem_append_right _ q)⟩
    · exact absurd (List.mem_append_left _ w) z
  refine ⟨fun x y => ?_, fun x y => ?_, fun p y z x e => ?_, fun t k v y z y' z' e => ?_, ?_⟩
  · rcases (b2 x).1 y with w | w
    · exact a1 x w
    · exact ⟨(b4 x w).2.2, (b4 x w).2.1⟩
  · rw [b1] at y
    rcases List.mem_append.1 y with w | w
    · exact (b2 x).2 (Or.inr w)
    · exact (b2 x).2 (Or.inl (a2 x (List.mem_cons_of_mem _ w)))
  · obtain ⟨s1, s2⟩ := old p y z
    by_cases q : p = o
    · rw [q] at e; exact he x e
    · exact (b2 x).2 (Or.inl (a3 p s1 (fun w => by
        rcases List.mem_cons.1 w with w | w
        · exact q w
        · exact s2 w) x e))
  · obtain ⟨s1, s2⟩ := old t y z
    obtain ⟨s3, s4⟩ := old k y' z'
    by_cases q : t = o
    · rw [q] at e; exact h1 k v s3 e
    · by_cases q' : k = o
      · rw [q'] at e; exact h2 t v s1 s2 e
      · exact (b2 v).2 (Or.inl (a4 t k v s1 (fun w => by
          rcases List.mem_cons.1 w with w | w
          · exact q w
          · exact s2 w) s3 (fun w => by
          rcases List.mem_cons.1 w with w | w
          · exact q' w
          · exact s4 w) e))
  · rw [b1]
    refine List.nodup_append.2 ⟨b3, nd.2, fun a ha b hb e => ?_⟩
    have := (b4 a ha).1
    rw [e, a2 b (List.mem_cons_of_mem _ hb)] at this
    cases this
/-- nothing waits: just what is reached is flagged -/
theorem wlI.fin {root : Nat → Prop} {edge : Nat → Nat → Prop} {eph : Nat → Nat → Nat → Prop} {n : Nat} {S : Nat → Bool} (h : wlI root edge eph n S []) (hr : ∀ x, root x → S x = true) (x : Nat) : S x = true ↔ lstR root edge eph x := ⟨fun y => (h.1 x y).1, fun y => y (fun z => S z = true) ⟨hr, fun o z s e => h.2.2.1 o s (fun q => by cases q) z e, fun t k v s1 s2 e => h.2.2.2.1 t k v s1 (fun q => by cases q) s2 (fun q => by cases q) e⟩⟩
/-- all that is flagged are roots, and waits -/
theorem wlI.ini {root : Nat → Prop} {edge : Nat → Nat → Prop} {eph : Nat → Nat → Nat → Prop} {n : Nat} {S : Nat → Bool} {Q : List Nat} (g : rgN n (lstR root edge eph) (fun _ => false) [] S Q) : wlI root edge eph n S Q := by
  obtain ⟨N, b1, b2, b3, b4⟩ := g
  rw [List.append_nil] at b1
  subst b1
  have s : ∀ x, S x = true → x ∈ Q := fun x y => by
    rcases (b2 x).1 y with z | z
    · cases z
    · exact z
  exact ⟨fun x y => ⟨(b4 x (s x y)).2.2, (b4 x (s x y)).2.1⟩, fun x y => (b2 x).2 (Or.inr y), fun o y z => absurd (s o y) z, fun t k v y z => absurd (s t y) z, b3⟩
/-- a second round: what was reached stays, more is flagged -/
theorem wlI.two {root : Nat → Prop} {edge : Nat → Nat → Prop} {eph : Nat → Nat → Nat → Prop} {n : Nat} {S0 S : Nat → Bool} {Q : List Nat} (h0 : ∀ x, S0 x = true → lstR root edge eph x ∧ x ≤ n) (h1 : ∀ o x, S0 o = true → edge o x → S0 x = true) (h2 : ∀ t k v, S0 t = true → S0 k = true → eph t k v → S0 v = true) (g : rgN n (lstR root edge eph) S0 [] S Q) : wlI root edge eph n S Q := by
  obtain ⟨N, b1, b2, b3, b4⟩ := g
  rw [List.append_nil] at b1
  subst b1
  have s : ∀ x, S x = true → x ∉ Q → S0 x = true := fun x y z => by
    rcases (b2 x).1 y with w | w
    · exact w
    · exact absurd w z
  refine ⟨fun x y => ?_, fun x y => (b2 x).2 (Or.inr y), fun o y z x e => (b2 x).2 (Or.inl (h1 o x (s o y z) e)), fun t k v y z y' z' e => (b2 v).2 (Or.inl (h2 t k v (s t y z) (s k y' z') e)), b3⟩
  rcases (b2 x).1 y with w | w
  · exact h0 x w
  · exact ⟨(b4 x w).2.2, (b4 x w).2.1⟩
