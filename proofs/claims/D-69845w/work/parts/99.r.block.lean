/-! blocks: how both grow -/
/-- locals e are known besides, captured ones may have come -/
def lvY (e : List kT) (N N' : List lT) : Prop := ∃ (z : lT) (R : List lT) (z' : lT) (R' : List lT), N = z :: R ∧ N' = z' :: R' ∧ z'.1 = z.1 ∧ z'.2.1 = e ++ z.2.1 ∧ (∃ t, z'.2.2 = z.2.2 ++ t) ∧ lvX R R'
theorem lvY_of {N N' : List lT} (hne : N ≠ []) (h : lvX N N') : lvY [] N N' := by
  cases N with
  | nil => exact absurd rfl hne
  | cons z R =>
    cases N' with
    | nil => exact h.elim
    | cons z' R' => exact ⟨z, R, z', R', rfl, rfl, h.1, by rw [h.2.1]; rfl, h.2.2.1, h.2.2.2⟩
theorem lvY_X {N N' : List lT} (h : lvY [] N N') : lvX N N' := by
  obtain ⟨z, R, z', R', rfl, rfl, h1, h2, h3, h4⟩ := h
  exact ⟨h1, h2, h3, h4⟩
theorem lvY.tr {e e' : List kT} {A B C : List lT} (h : lvY e A B) (g : lvY e' B C) : lvY (e' ++ e) A C := by
  obtain ⟨z, R, z', R', rfl, rfl, h1, h2, ⟨t, h3⟩, h4⟩ := h
  obtain ⟨y, S, y', S', e1, rfl, g1, g2, ⟨t', g3⟩, g4⟩ := g
  obtain ⟨rfl, rfl⟩ := List.cons.inj e1
  exact ⟨z, R, y', S', rfl, rfl, g1.trans h1, by rw [g2, h2, List.append_assoc], ⟨t ++ t', by rw [g3, h3, List.append_assoc]⟩, h4.tr g4⟩
theorem lvY_q {e : List kT} {A B : List lT} (h : lvY e A B) : B.map (·.1) = A.map (·.1) := by
  obtain ⟨z, R, z', R', rfl, rfl, h1, _, _, h4⟩ := h
  simp only [List.map_cons, h1, lvX_q h4]
theorem lvY_len {e : List kT} {A B : List lT} (h : lvY e A B) : B.length = A.length := by
  obtain ⟨z, R, z', R', rfl, rfl, _, _, _, h4⟩ := h
  simp only [List.length_cons, (lvX_map h4).2.1]
theorem lvY_hd {e : List kT} {N N' : List lT} {f : Nat} {l : List Nat} (h : hdN N f l) (g : lvY e N N') : hdN N' f (e.map (·.2.2) ++ l) := by
  obtain ⟨z, R, z', R', rfl, rfl, h1, h2, _, _⟩ := g
  obtain ⟨y, S, e1, e2, e3⟩ := h
  obtain ⟨rfl, rfl⟩ := List.cons.inj e1
  exact ⟨z', R', rfl, h1.trans e2, by rw [h2, List.map_append, e3]⟩
theorem hdN_ne {N : List lT} {f : Nat} {l : List Nat} (h : hdN N f l) : N ≠ [] := by
  obtain ⟨z, R, rfl, _⟩ := h
  exact fun q => by cases q
def GS (e : List kT) (N N' : List lT) (F F' p p' c c' m m' : Nat) (σ τ σ' τ' : lj_S) : Prop := TX N σ τ σ' τ' ∧ lvY e N N' ∧ F ≤ F' ∧ p ≤ p' ∧ c ≤ c' ∧ m ≤ m' ∧ fz 0 c 0 m σ τ σ' τ'
theorem GR.gs {N N' : List lT} {F F' p p' c c' m m' : Nat} {σ τ σ' τ' : lj_S} (h : GR N N' F F' p p' c c' m m' σ τ σ' τ') (hne : N ≠ []) : GS [] N N' F F' p p' c c' m m' σ τ σ' τ' := ⟨h.1, lvY_of hne h.2.1, h.2.2⟩
theorem GS.gr {N N' : List lT} {F F' p p' c c' m m' : Nat} {σ τ σ' τ' : lj_S} (h : GS [] N N' F F' p p' c c' m m' σ τ σ' τ') : GR N N' F F' p p' c c' m m' σ τ σ' τ' := ⟨h.1, lvY_X h.2.1, h.2.2⟩
theorem GS.tr {e e' : List kT} {N N1 N2 : List lT} {F F1 F2 p p1 p2 c c1 c2 m m1 m2 : Nat} {σ τ σ1 τ1 σ2 τ2 : lj_S} (h : GS e N N1 F F1 p p1 c c1 m m1 σ τ σ1 τ1) (g : GS e' N1 N2 F1 F2 p1 p2 c1 c2 m1 m2 σ1 τ1 σ2 τ2) : GS (e' ++ e) N N2 F F2 p p2 c c2 m m2 σ τ σ2 τ2 := by
  obtain ⟨a1, a2, a3, a4, a5, a6, a7⟩ := h
  obtain ⟨b1, b2, b3, b4, b5, b6, b7⟩ := g
  exact ⟨a1.tr b1 (fun q _ hq => by rw [lvY_q a2]; exact hq), a2.tr b2, (by omega), (by omega), (by omega), (by omega), a7.tr (b7.mo (by omega) (by omega) (by omega) (by omega))⟩
/-- growth before one that tells of expressions, and behind it -/
theorem GS.r {e : List kT} {N N1 N2 : List lT} {F F1 F2 p p1 p2 c c1 c2 m m1 m2 : Nat} {σ τ σ1 τ1 σ2 τ2 : lj_S} (h : GS e N N1 F F1 p p1 c c1 m m1 σ τ σ1 τ1) (g : GR N1 N2 F1 F2 p1 p2 c1 c2 m1 m2 σ1 τ1 σ2 τ2) : GS e N N2 F F2 p p2 c c2 m m2 σ τ σ2 τ2 := by
  have hne : N1 ≠ [] := by obtain ⟨z, R, z', R', _, rfl, _⟩ := h.2.1; exact fun q => by cases q
  exact h.tr (g.gs hne)
theorem GR.s {e : List kT} {N N1 N2 : List lT} {F F1 F2 p p1 p2 c c1 c2 m m1 m2 : Nat} {σ τ σ1 τ1 σ2 τ2 : lj_S} (h : GR N N1 F F1 p p1 c c1 m m1 σ τ σ1 τ1) (hne : N ≠ []) (g : GS e N1 N2 F1 F2 p1 p2 c1 c2 m1 m2 σ1 τ1 σ2 τ2) : GS e N N2 F F2 p p2 c c2 m m2 σ τ σ2 τ2 := by
  have := (h.gs hne).tr g
  rwa [List.append_nil] at this
/-- acts that were laid stay, but for where breaks go -/
def fzB (nb : List (Nat × Nat)) (c0 c1 m0 m1 : Nat) (σ τ σ' τ' : lj_S) : Prop := (∀ k j, 22 ≤ k → k ≤ 26 → c0 ≤ j → j < c1 → (k = 23 → ∀ x ∈ nb, x.1 ≠ j) → σ'.1 k j = σ.1 k j) ∧ ∀ k j, 20 ≤ k → k ≤ 23 → m0 ≤ j → j < m1 → (k = 21 → ∀ x ∈ nb, x.2 ≠ j) → τ'.1 k j = τ.1 k j
def LB (N : List lT) (nb : List (Nat × Nat)) (a c d m : Nat) (σ τ σ2 τ2 : lj_S) : Prop := TX N σ τ σ2 τ2 ∧ fzB nb a c d m σ τ σ2 τ2
theorem LT.lb {N : List lT} {a c d m : Nat} {σ τ σ2 τ2 : lj_S} (h : LT N a c d m σ τ σ2 τ2) (nb : List (Nat × Nat)) : LB N nb a c d m σ τ σ2 τ2 :=
  ⟨h.1, fun k j a b c d _ => h.2.1 k j a b c d, fun k j a b c d _ => h.2.2 k j a b c d⟩
theorem LB.lt {N : List lT} {a c d m : Nat} {σ τ σ2 τ2 : lj_S} (h : LB N [] a c d m σ τ σ2 τ2) : LT N a c d m σ τ σ2 τ2 :=
  ⟨h.1, fun k j a b c d => h.2.1 k j a b c d (fun _ x hx => by simp at hx), fun k j a b c d => h.2.2 k j a b c d (fun _ x hx => by simp at hx)⟩
theorem LB.mo {N : List lT} {nb nb' : List (Nat × Nat)} {a c d m a' c' d' m' : Nat} {σ τ σ2 τ2 : lj_S} (h : LB N nb a c d m σ τ σ2 τ2) (h1 : a ≤ a') (h2 : c' ≤ c) (h3 : d ≤ d') (h4 : m' ≤ m) (hb : ∀ x ∈ nb, (a' ≤ x.1 → x.1 < c' → x ∈ nb') ∧ (d' ≤ x.2 → x.2 < m' → x ∈ nb')) : LB N nb' a' c' d' m' σ τ σ2 τ2 :=
  ⟨h.1, fun k j q1 q2 q3 q4 q5 => h.2.1 k j q1 q2 (by omega) (by omega) (fun e x hx ex => q5 e x ((hb x hx).1 (by omega) (by omega)) ex), fun k j q1 q2 q3 q4 q5 => h.2.2 k j q1 q2 (by omega) (by omega) (fun e x hx ex => q5 e x ((hb x hx).2 (by omega) (by omega)) ex)⟩
theorem LB.no {N : List lT} {nb : List (Nat × Nat)} {a c d m a' c' d' m' : Nat} {σ τ σ2 τ2 : lj_S} (h : LB N nb a c d m σ τ σ2 τ2) (h1 : a ≤ a') (h2 : c' ≤ c) (h3 : d ≤ d') (h4 : m' ≤ m) (hb : ∀ x ∈ nb, ¬ (a' ≤ x.1 ∧ x.1 < c') ∧ ¬ (d' ≤ x.2 ∧ x.2 < m')) : LT N a' c' d' m' σ τ σ2 τ2 :=
  (h.mo (nb' := []) h1 h2 h3 h4 (fun x hx => ⟨fun q1 q2 => absurd ⟨q1, q2⟩ (hb x hx).1, fun q1 q2 => absurd ⟨q1, q2⟩ (hb x hx).2⟩)).lt
theorem GS.bk {e : List kT} {nb : List (Nat × Nat)} {N N' : List lT} {F F' p p' c c' m m' a d : Nat} {σ τ σ' τ' σ2 τ2 : lj_S} (g : GS e N N' F F' p p' c c' m m' σ τ σ' τ') (h : LB N' nb a c' d m' σ' τ' σ2 τ2) : LB N nb a c d m σ τ σ2 τ2 := by
  obtain ⟨a1, a2, a3, a4, a5, a6, a7⟩ := g
  exact ⟨a1.tr h.1 (fun q _ hq => by rw [lvY_q a2]; exact hq), fun k j q1 q2 q3 q4 q5 => (h.2.1 k j q1 q2 q3 (by omega) q5).trans (a7.1 k j q1 q2 (by omega) (by omega)), fun k j q1 q2 q3 q4 q5 => (h.2.2 k j q1 q2 q3 (by omega) q5).trans (a7.2 k j q1 q2 (by omega) (by omega))⟩
theorem GR.bkB {nb : List (Nat × Nat)} {N N' : List lT} {F F' p p' c c' m m' a d : Nat} {σ τ σ' τ' σ2 τ2 : lj_S} (g : GR N N' F F' p p' c c' m m' σ τ σ' τ') (h : LB N' nb a c' d m' σ' τ' σ2 τ2) : LB N nb a c d m σ τ σ2 τ2 := by
  obtain ⟨a1, a2, a3, a4, a5, a6, a7⟩ := g
  exact ⟨a1.tr h.1 (fun q _ hq => by rw [lvX_q a2]; exact hq), fun k j q1 q2 q3 q4 q5 => (h.2.1 k j q1 q2 q3 (by omega) q5).trans (a7.1 k j q1 q2 (by omega) (by omega)), fun k j q1 q2 q3 q4 q5 => (h.2.2 k j q1 q2 q3 (by omega) q5).trans (a7.2 k j q1 q2 (by omega) (by omega))⟩
/-- breaks of the loop at hand -/
def adB (nb : List (Nat × Nat)) : List zT → List zT
  | [] => []
  | x :: Y => (x.1, x.2.1, x.2.2.1, nb.map (·.1) ++ x.2.2.2.1, nb.map (·.2) ++ x.2.2.2.2) :: Y
theorem adB_nil : ∀ (Z : List zT), adB [] Z = Z
  | [] => rfl
  | _ :: _ => rfl
theorem adB_app (n1 n2 : List (Nat × Nat)) : ∀ (Z : List zT), adB n2 (adB n1 Z) = adB (n2 ++ n1) Z
  | [] => rfl
  | x :: Y => by simp only [adB, List.map_append, List.append_assoc]
theorem adB_len (nb : List (Nat × Nat)) : ∀ (Z : List zT), (adB nb Z).length = Z.length
  | [] => rfl
  | _ :: _ => rfl
/-- within a loop of the function at hand -/
def inL (f : Nat) (Z : List zT) : Prop := ∃ x Y, Z = x :: Y ∧ x.1 = f
theorem inL_ad {f : Nat} {nb : List (Nat × Nat)} : ∀ {Z : List zT}, inL f (adB nb Z) ↔ inL f Z
  | [] => Iff.rfl
  | x :: Y => ⟨fun ⟨y, S, e1, e2⟩ => ⟨x, Y, rfl, by rw [← (List.cons.inj e1).1] at e2; exact e2⟩, fun ⟨y, S, e1, e2⟩ => ⟨_, _, rfl, by rw [← (List.cons.inj e1).1] at e2; exact e2⟩⟩
/-- lB what lived before the loop, D from which on its locals are -/
def lpH (f lev : Nat) (l lB : List Nat) (D nl : Nat) (Z : List zT) : Prop := ∀ x Y, Z = x :: Y → (x.1 = f ↔ x.2.1 = lev) ∧ (x.1 = f → lB.length = x.2.2.1 ∧ (∃ e, l = e ++ lB ∧ ∀ y ∈ e, D ≤ y) ∧ D ≤ nl)
theorem lpH_ad {f lev : Nat} {l lB : List Nat} {D nl : Nat} {Z : List zT} (h : lpH f lev l lB D nl Z) (nb : List (Nat × Nat)) {nl' : Nat} (hn : nl ≤ nl') {e : List Nat} (he : ∀ y ∈ e, nl ≤ y) : lpH f lev (e ++ l) lB D nl' (adB nb Z) := by
  intro x Y e1
  cases Z with
  | nil => simp [adB] at e1
  | cons z S =>
    simp only [adB] at e1
    obtain ⟨e3, e4⟩ := List.cons.inj e1
    refine ⟨by rw [← e3]; exact (h z S rfl).1, fun e2 => ?_⟩
    obtain ⟨h1, ⟨e0, h2, h3⟩, h4⟩ := (h z S rfl).2 (by rw [← e3] at e2; exact e2)
    refine ⟨by rw [← e3]; exact h1, ⟨e ++ e0, by rw [h2, List.append_assoc], fun y hy => ?_⟩, (by omega)⟩
    rcases List.mem_append.1 hy with q | q
    · have := he y q; omega
    · exact h3 y q
def bkE (nb : List (Nat × Nat)) (f : Nat) (s lB : List Nat) (D : Nat) (y : pT) : Prop := ∃ x ∈ nb, ∃ d, D ≤ d ∧ d ≤ 50 ∧ y = (f, x.1, x.2, s, lB, d)
def nbK (nb : List (Nat × Nat)) (c c' m m' : Nat) (σ τ : lj_S) : Prop := ∀ x ∈ nb, c ≤ x.1 ∧ x.1 < c' ∧ m ≤ x.2 ∧ x.2 < m' ∧ σ.1 22 x.1 = 30 ∧ τ.1 20 x.2 = 21
/-- what a statement, or a block, comes to -/
def stR (b : Nat → Int32) (n T : Nat) (Q : tkQ) (X : List Int32 → Prop) (FO0 : List fT) (nl rv : Nat) (fl : List Nat) (Z : List zT) (PL : List qT) (v : Nat) (W : List wT) (f : Nat) (s l lB : List Nat) (D : Nat) (N : List lT) (F p c m : Nat) (σ τ : lj_S) (E : Nat → Prop) (K : Nat) (oC oM : Option lj_O) : Prop :=
  fltR n oC oM ∨ ∃ σ' τ' p' c' m' wh' F' N' nl' e nb, oC = some (.inl none, σ') ∧ oM = mLoop τ' ∧ PS b n T Q X F' N' (((nl', rv), fl) :: FO0) (adB nb Z) PL c' m' p' v c' m' wh' W σ' τ' ∧ GS e N N' F F' p p' c c' m m' σ τ σ' τ' ∧ nl ≤ nl' ∧ (∀ y ∈ e, nl ≤ y.2.2) ∧ E p' ∧ c' + K ≤ c + 25 * (p' - p) ∧ m' + K ≤ m + 25 * (p' - p) ∧ nbK nb c c' m m' σ' τ' ∧ (nb ≠ [] → inL f Z) ∧ ∀ σ2 τ2, LB N' nb c c' m m' σ' τ' σ2 τ2 → seg0 σ2 τ2 (f, c, m, s, l, 50) (f, c', m', s, e.map (·.2.2) ++ l, 50) (fun y => y = (f, c', m', s, e.map (·.2.2) ++ l, 50) ∨ bkE nb f s lB D y)
/-- what ends a block -/
abbrev blE (k : Nat) : Prop := k = 0 ∨ k = 13 ∨ k = 14 ∨ k = 15 ∨ k = 29
/-- what waits behind a block fails where a block does not end -/
def bW (b : Nat → Int32) (n T : Nat) (Q : tkQ) (B : Nat) (W : List wT) (m0 : Nat) (τ0 : lj_S) : Prop :=
  ∀ (σ τ : lj_S) (p m kn : Nat) (σ1 : lj_S), TE b n T Q σ τ → p ≤ T → τ.1 0 25 = Int32.ofNat p → τ.1 0 41 = Int32.ofNat m → m0 ≤ m → m ≤ B → τ.1 0 4 = 0 → mWt τ W → τ.1 0 50 = Int32.ofNat kn → kn ≤ 1500 → (∀ j, j < m0 → τ.1 21 j = τ0.1 21 j) → ¬ blE (Q p).1 → fltR n (some (.inr 1, cFl σ1 (fq (Q p).1 2) (Q p).2.1)) (mLoop τ)
/-- where a statement begins, only what fors hide lies on the stack -/
def fls (s fl : List Nat) : Prop := flo s = fmn fl ∧ ∀ x ∈ s, x = 3 ∨ x = 4
theorem fls_va : ∀ (s : List Nat), (∀ x ∈ s, x = 3 ∨ x = 4) → va s = 3 * s.length ∧ cn 1 s = 0 ∧ cn 2 s = 0 ∧ (flo s).length = s.length
  | [], _ => ⟨rfl, rfl, rfl, rfl⟩
  | x :: s, h => by
    obtain ⟨a, b, c, d⟩ := fls_va s (fun y hy => h y (List.mem_cons_of_mem _ hy))
    have hx := h x List.mem_cons_self
    refine ⟨?_, ?_, ?_, ?_⟩
    · show _ + va s = _; rw [if_pos hx, a, List.length_cons]; omega
    · show _ + cn 1 s = _; rw [if_neg (by omega), b]
    · show _ + cn 2 s = _; rw [if_neg (by omega), c]
    · have : (x :: s).filter (fun x => x == 3 || x == 4) = x :: s.filter (fun x => x == 3 || x == 4) := List.filter_cons_of_pos (by rcases hx with e | e <;> rw [e] <;> rfl)
      unfold flo at d ⊢
      rw [this, List.length_reverse, List.length_cons, List.length_cons]
      rw [List.length_reverse] at d
      omega
theorem fls.hd {s fl : List Nat} (h : fls s fl) {v : Nat} (hv : fl.length ≤ v) {nl rv : Nat} {FO0 : List fT} : hdF (3 * v) 0 (((nl, rv), fl) :: FO0) s := by
  obtain ⟨a, b, c, d⟩ := fls_va s h.2
  have e : (flo s).length = fl.length := by rw [h.1]; unfold fmn; rw [List.length_map]
  exact ⟨⟨_, _, rfl, h.1⟩, by omega, by omega, by omega, fun x hx => by have := h.2 x hx; omega⟩
theorem fls.sb {s fl : List Nat} (h : fls s fl) {v : Nat} (hv : fl.length ≤ v) (hv2 : v ≤ 20) : sB s := (h.hd (nl := 0) (rv := 0) (FO0 := []) hv).sb (by omega) (by omega)
theorem PS.fv {b : Nat → Int32} {n T : Nat} {Q : tkQ} {X : List Int32 → Prop} {FO0 : List fT} {nl rv : Nat} {fl : List Nat} {Z : List zT} {PL : List qT} {cl ml : Nat} {F : Nat} {N : List lT} {p v c m wh : Nat} {W : List wT} {σ τ : lj_S} (h : PS b n T Q X F N (((nl, rv), fl) :: FO0) Z PL cl ml p v c m wh W σ τ) : fl.length ≤ v := h.2.2.2.2.1.2.2.2.2.2.1 _ List.mem_cons_self
theorem fls.sb4 {s fl : List Nat} (h : fls s fl) (hv : fl.length ≤ 20) (x : Nat) (hx : x = 3 ∨ x = 4) : sB (x :: s) := by
  obtain ⟨a, b, c, d⟩ := fls_va (x :: s) (fun y hy => by
    rcases List.mem_cons.1 hy with e | e
    · rw [e]; exact hx
    · exact h.2 y e)
  obtain ⟨_, _, _, d'⟩ := fls_va s h.2
  have e : (flo s).length = fl.length := by rw [h.1]; unfold fmn; rw [List.length_map]
  rw [List.length_cons] at a
  refine ⟨by omega, by omega, by omega, fun y hy => ?_⟩
  rcases List.mem_cons.1 hy with e | e
  · omega
  · have := h.2 y e; omega
theorem skq (r : List Nat) {s : List Nat} (hr : ∀ x ∈ r, x = 0 ∨ x = 6) (hl : va s + r.length ≤ 430) (h : sB s) : sOK (r ++ 2 :: s) := by
  obtain ⟨a, b, c⟩ := va_z r (fun x hx => by have := hr x hx; omega)
  obtain ⟨h1, h2, h3, h4⟩ := h
  have n5 : ∀ x ∈ r ++ 2 :: s, x ≠ 5 := fun x hx => by
    rcases List.mem_append.1 hx with e | e
    · have := hr x e; omega
    · rcases List.mem_cons.1 e with e | e
      · omega
      · exact h4 x e
  refine ⟨?_, ?_, ?_, fun x hx => n5 x (List.mem_of_mem_tail hx)⟩
  · rw [va_app]; show va r + (0 + va s) ≤ _; omega
  · rw [cn_app]; show cn 1 r + (0 + cn 1 s) ≤ _; omega
  · rw [cn_app]; show cn 2 r + (1 + cn 2 s) ≤ _; omega
theorem sB.tl {x : Nat} {s : List Nat} (h : sB (x :: s)) : sB s := by
  obtain ⟨h1, h2, h3, h4⟩ := h
  refine ⟨?_, ?_, ?_, fun y hy => h4 y (List.mem_cons_of_mem _ hy)⟩
  · have h1 : _ + va s ≤ 402 := h1
    omega
  · have h2 : _ + cn 1 s ≤ 26 := h2
    omega
  · have h3 : _ + cn 2 s ≤ 26 := h3
    omega
/-- how many locals there are at least -/
theorem PS.l31 {b : Nat → Int32} {n T : Nat} {Q : tkQ} {X : List Int32 → Prop} {FO0 : List fT} {nl rv : Nat} {fl : List Nat} {Z : List zT} {PL : List qT} {cl ml : Nat} {F : Nat} {N : List lT} {p v c m wh : Nat} {W : List wT} {σ τ : lj_S} (h : PS b n T Q X F N (((nl, rv), fl) :: FO0) Z PL cl ml p v c m wh W σ τ) {f : Nat} {l : List Nat} (hN : hdN N f l) {N1 : List lT} {σ2 τ2 : lj_S} (tx : TX N1 σ τ σ2 τ2) : (nl : Int) ≤ lv σ2 31 f ∧ ∀ y ∈ l, y < nl := by
  obtain ⟨z, R, rfl, rfl, rfl⟩ := hN
  obtain ⟨s1, s2, s3, s4⟩ := h.1.2.2.2.2.2.1.1.2.2.2.2.2.2
  have s1 : σ.1 31 z.1 = Int32.ofNat nl := s1
  have s2 : nl ≤ 50 := s2
  have hz : z.1 < F := h.1.2.2.2.2.1 z (List.mem_cons_self)
  have hF := h.1.2.2.2.1
  have e58 : lv σ 5 8 = (F : Int) := by unfold lv; rw [hF.1, lz_lit (by have := hF.2.2.1; omega)]
  have w := (tx.2.2.2.2.2.2.1 z.1 (by rw [e58]; omega)).2.2.2.1.2
  have e : lv σ 31 z.1 = (nl : Int) := by unfold lv; rw [s1, lz_lit (by omega)]
  exact ⟨by omega, s4⟩
/-- blocks with fewer than k tokens to come -/
def CK (b : Nat → Int32) (n T : Nat) (Q : tkQ) (X : List Int32 → Prop) (k : Nat) : Prop :=
  ∀ (F : Nat) (N : List lT) (FO0 : List fT) (nl rv : Nat) (fl : List Nat) (Z : List zT) (PL : List qT) (cl ml : Nat) (p v c m wh : Nat) (W : List wT) (σ τ : lj_S) (f : Nat) (s l lB : List Nat) (D : Nat), T - p < k → PS b n T Q X F N (((nl, rv), fl) :: FO0) Z PL cl ml p v c m wh ((0, 0, 0, 0) :: W) σ τ → hdN N f l → fls s fl → W.length + 18 ≤ 40 * v + 60 → c + 40 ≤ 25 * p + 100 → m + 40 ≤ 25 * p + 100 → bW b n T Q 13300 W m τ → lpH f (N.length - 1) l lB D nl Z →
    stR b n T Q X FO0 nl rv fl Z PL v W f s l lB D N F p c m σ τ (fun p' => blE (Q p').1) 0 (lj_R lc_P 61 [.ref 6] σ) (mLoop τ)
