/-! both machines, whole -/
/-- the code is what was compiled -/
def cdC (k _j : Nat) : Bool := k == 5 || (Nat.ble 22 k && Nat.ble k 42)
def cdM (k _j : Nat) : Bool := Nat.ble 12 k && Nat.ble k 24
def cdR (σ0 τ0 σ τ : lj_S) : Prop := (∀ k j, cdC k j = true → σ.1 k j = σ0.1 k j ∧ σ.2 k j = σ0.2 k j) ∧ ∀ k j, cdM k j = true → τ.1 k j = τ0.1 k j ∧ τ.2 k j = τ0.2 k j
/-- names of events, of modes, of numbers -/
def evM (k : Nat) : Nat := [3, 4, 5, 6, 7, 8, 9, 10, 11, 12, 13, 14, 15, 16, 17, 18, 19, 0, 1, 2, 20].getD k 0
def nmR (σ τ : lj_S) : Prop := (∀ k, k < 21 → sEi σ τ (σ.1 78 k) (Int32.ofNat (evM k))) ∧ sEi σ τ (σ.1 8 1) 21 ∧ sEi σ τ (σ.1 8 3) 36
theorem sEi.up {σ τ σ' τ' : lj_S} {x y : Int32} (h : sEi σ τ x y) (g : sG σ τ σ' τ') : sEi σ' τ' x y := by
  obtain ⟨a, a', h1, h2, h3, h4, h5⟩ := h
  exact ⟨a, a', h1, h2, h3, h4, h5.up g⟩
theorem nmR.up {σ τ σ' τ' : lj_S} (h : nmR σ τ) (g : sG σ τ σ' τ') (h78 : ∀ j, σ'.1 78 j = σ.1 78 j) (h1 : σ'.1 8 1 = σ.1 8 1) (h3 : σ'.1 8 3 = σ.1 8 3) : nmR σ' τ' := ⟨fun k hk => by rw [h78]; exact (h.1 k hk).up g, by rw [h1]; exact h.2.1.up g, by rw [h3]; exact h.2.2.up g⟩
/-- objects of other states -/
theorem obR.cg {σ τ σ' τ' : lj_S} {n : Nat} (h : obR σ τ n) (hC : ∀ k j, (k = 57 ∨ k = 58 ∨ k = 62 ∨ k = 64 ∨ k = 7 ∧ j = 0) → σ'.1 k j = σ.1 k j) (hM : ∀ k j, (k = 38 ∨ k = 39 ∨ k = 43) → τ'.1 k j = τ.1 k j) : obR σ' τ' n := by
  have l70 : lv σ' 7 0 = lv σ 7 0 := by unfold lv; rw [hC 7 0 (by omega)]
  have ha : ∀ o k, obA σ τ o k → obA σ' τ' o k := fun o k w => ⟨w.1, w.2.1, by rw [l70]; exact w.2.2.1, by rw [hC 57 o (by omega)]; exact w.2.2.2.1, by rw [hM 38 o (by omega)]; exact w.2.2.2.2⟩
  refine ⟨by rw [hC 58 0 (by omega)]; exact h.1, fun o h1 h2 => ?_⟩
  obtain ⟨a1, a2, a3, a4⟩ := h.2 o h1 h2
  rw [hC 57 o (by omega), hC 58 o (by omega), hC 62 o (by omega), hC 64 o (by omega), hM 38 o (by omega), hM 39 o (by omega), hM 43 o (by omega)]
  refine ⟨a1, fun e => ?_, a3, a4⟩
  rcases a2 e with w | ⟨m, w1, w2⟩
  · exact Or.inl w
  · exact Or.inr ⟨m, ha m 4 w1, w2⟩
/-- what is known of the functions of all objects -/
def fnO (σ0 τ0 σ τ : lj_S) : Prop := ∀ o f : Nat, obA σ τ o 5 → f < 51 → σ.1 62 o = Int32.ofNat f → (∃ n, n ≤ 2 ∧ gn σ0 τ0 n (fnE σ0 τ0 f)) ∧ (σ0.1 29 f = τ0.1 13 f ∧ 0 ≤ lv σ0 29 f ∧ lv σ0 29 f ≤ 50) ∧ (0 ≤ lv σ0 28 f ∧ 0 ≤ lv τ0 12 f) ∧ lv σ0 33 f = lv τ0 15 f ∧ 0 ≤ lv σ0 33 f ∧ lv σ0 33 f ≤ 30 ∧ (f : Int) < lv σ0 5 8
/-- where a captured cell lies, what lies at a place -/
def loC (σ : lj_S) (c : Nat) : Nat := if lv σ 74 c < 0 then 325000 + c else (lv σ 74 c).toNat
def vaC (σ : lj_S) (a : Nat) : vT := if a < 325000 then cv σ a else (σ.1 75 (a - 325000), σ.2 76 (a - 325000))
/-- the k-th cell of a function object -/
def cpO (σ0 σ τ : lj_S) (o k c : Nat) : Prop := obA σ τ o 5 ∧ ∃ f r : Nat, f < 51 ∧ σ.1 62 o = Int32.ofNat f ∧ (k : Int) < lv σ0 33 f ∧ r ≤ 60000 ∧ σ.1 63 o = Int32.ofNat r ∧ σ.1 77 (r + k) = Int32.ofNat c ∧ c < 60000
/-- places that are in use: locals that live, cells that are closed -/
def usd (σ0 σ τ : lj_S) (FP : Nat → List kF) (a : Nat) : Prop := (∃ p, lsL (FP p) a ∧ (τ.1 58 p ≠ 4 ∨ ∃ o k c, cpO σ0 σ τ o k c ∧ σ.1 74 c = Int32.ofNat a)) ∨ ∃ o k c, cpO σ0 σ τ o k c ∧ lv σ 74 c < 0 ∧ a = 325000 + c
/-- a pile of the model's free cells -/
def fcM (τ : lj_S) : List Nat → Prop
  | [] => True
  | c :: l => τ.1 57 l.length = Int32.ofNat c ∧ fcM τ l
/-- variables of both: ρ tells the model's cell of a place -/
def clR (σ0 σ τ : lj_S) (FP : Nat → List kF) (ρ : Nat → Nat) (n : Nat) : Prop :=
  (∀ a, usd σ0 σ τ FP a → ρ a < 95000 ∧ vR σ τ (vaC σ a) (τ.1 54 (ρ a), τ.2 55 (ρ a))) ∧
  (∀ a b, usd σ0 σ τ FP a → usd σ0 σ τ FP b → ρ a = ρ b → a = b) ∧
  (∃ Fc : List Nat, fcM τ Fc ∧ lv τ 0 96 = (Fc.length : Int) ∧ Fc.Nodup ∧ ∀ c ∈ Fc, c < 95000 ∧ ∀ a, usd σ0 σ τ FP a → ρ a ≠ c) ∧
  (∀ o f : Nat, obA σ τ o 5 → f < 51 → σ.1 62 o = Int32.ofNat f → ∃ r : Nat, σ.1 63 o = Int32.ofNat r ∧ (r : Int) + lv σ0 33 f ≤ lv σ 7 25 ∧ ∀ k : Nat, (k : Int) < lv σ0 33 f → ∃ c : Nat, (c : Int) < lv σ 7 21 ∧ σ.1 77 (r + k) = Int32.ofNat c ∧ τ.1 44 (30 * o + k) = Int32.ofNat (ρ (loC σ c))) ∧
  (∀ c : Nat, (c : Int) < lv σ 7 21 → σ.1 74 c = -1 ∨ ∃ s : Nat, (∃ p, lsL (FP p) s) ∧ s < 325000 ∧ σ.1 74 c = Int32.ofNat s ∧ σ.1 81 s = Int32.ofNat c) ∧
  (∀ p s, lsL (FP p) s → s < 325000 ∧ (σ.1 81 s = -1 ∨ ∃ c : Nat, (c : Int) < lv σ 7 21 ∧ σ.1 81 s = Int32.ofNat c ∧ σ.1 74 c = Int32.ofNat s)) ∧
  (0 ≤ lv σ 7 21 ∧ lv σ 7 21 ≤ lv σ 7 25 ∧ lv σ 7 25 ≤ 30 * (n : Int))
/-- the chain of parts that let each other go on, the one at hand first -/
def chn (σ0 σ τ : lj_S) (FP : Nat → List kF) : List Nat → Prop
  | [] => False
  | [q] => q = 0
  | q :: q' :: r => (q ≠ 0 ∧ σ.1 84 q = Int32.ofNat q' ∧ τ.1 66 q = Int32.ofNat q') ∧ awR σ0 (FP q') (σ.1 86 q) (τ.1 67 q) (τ.1 68 q) ∧ (σ.1 83 q' = 3 ∧ τ.1 58 q' = 3) ∧ chn σ0 σ τ FP (q' :: r)
/-- parts of both: np were made, p is at hand -/
def ptR (σ0 σ τ : lj_S) (FP : Nat → List kF) (p : Nat) (r : List Nat) (np n : Nat) : Prop :=
  (σ.1 7 1 = Int32.ofNat np ∧ τ.1 0 110 = Int32.ofNat np ∧ np ≤ 25) ∧ (σ.1 8 7 = Int32.ofNat p ∧ τ.1 0 111 = Int32.ofNat p) ∧ (σ.1 83 p = 2 ∧ τ.1 58 p = 2) ∧
  chn σ0 σ τ FP (p :: r) ∧ (p :: r).Nodup ∧ (∀ q ∈ p :: r, q ≤ np) ∧ σ.1 8 18 = Int32.ofNat r.length ∧ r.length ≤ 10 ∧ (∀ q, np < q → FP q = []) ∧ τ.1 59 0 = 0 ∧
  ((∀ q, 1 ≤ q → q ≤ np → ∃ o : Nat, 1 ≤ o ∧ o ≤ n ∧ σ.1 85 q = Int32.ofNat o ∧ τ.1 59 q = Int32.ofNat o ∧ ((τ.1 58 q ≠ 4 → obA σ τ o 6) ∧ (obA σ τ o 6 → σ.1 64 o = Int32.ofNat q))) ∧ ∀ o, obA σ τ o 6 → ∃ q : Nat, 1 ≤ q ∧ q ≤ np ∧ σ.1 64 o = Int32.ofNat q ∧ σ.1 85 q = Int32.ofNat o) ∧
  ∀ q, q ≤ np → q ∉ p :: r → (σ.1 83 q = 0 ∧ τ.1 58 q = 0 ∧ FP q = [] ∧ σ.1 88 q = 5 ∧ vR σ τ (σ.1 88 q, σ.2 89 q) (τ.1 60 q, τ.2 61 q)) ∨ (σ.1 83 q = 1 ∧ τ.1 58 q = 1 ∧ awR σ0 (FP q) (σ.1 87 q) (τ.1 69 q) (τ.1 70 q) ∧ ∀ F ∈ FP q, kS F ≠ 2) ∨ (τ.1 58 q = 4 ∧ τ.1 62 q = 0 ∧ ((FP q).length ≤ 20 ∧ ∀ s, lsL (FP q) s → 12500 * q ≤ s ∧ s < 12500 * q + 12500) ∧ (σ.1 83 q = 4 ∨ ∃ o : Nat, o ≤ 2000 ∧ σ.1 85 q = Int32.ofNat o ∧ σ.1 57 o = 0 ∧ (σ.1 83 q = 0 ∨ σ.1 83 q = 1)))
/-- the frames of a part, and where both keep their ends -/
def paR (σ0 τ0 σ τ : lj_S) (ρ : Nat → Nat) (FP : Nat → List kF) (p q ce me mq : Nat) : Prop :=
  prt σ0 τ0 σ τ ρ q (FP q) ce me mq ∧ ((FP q).length ≤ 20 ∧ ce ≤ 12500 * q + 12500 ∧ me ≤ 10000 ∧ mq ≤ 2000) ∧ (if q = p then σ.1 8 8 = Int32.ofNat ce else σ.1 82 q = Int32.ofNat ce) ∧ σ.1 90 q = Int32.ofNat (FP q).length ∧ τ.1 63 q = Int32.ofNat me ∧ τ.1 64 q = Int32.ofNat mq ∧ τ.1 62 q = Int32.ofNat (FP q).length ∧ τ.1 65 q = Int32.ofNat (FP q).length
/-- the frame at hand -/
def fhR (σ : lj_S) (p : Nat) : List kF → Prop
  | [] => σ.1 8 34 = -1
  | F :: L => σ.1 8 34 = Int32.ofNat (20 * p + L.length) ∧ (kS F = 0 → σ.1 8 35 = Int32.ofNat (kB F))
theorem fcM_cg {τ τ' : lj_S} (h : ∀ j, τ'.1 57 j = τ.1 57 j) : ∀ {l : List Nat}, fcM τ l → fcM τ' l
  | [], _ => trivial
  | _ :: l, g => ⟨by rw [h]; exact g.1, fcM_cg h g.2⟩
theorem lsL_ne {L : List kF} {a : Nat} (h : lsL L a) : L ≠ [] := fun e => by
  rw [e] at h
  obtain ⟨F, hF, _⟩ := h
  cases hF
/-- variables of other states -/
theorem clR.cg' {σ0 σ τ σ' τ' : lj_S} {FP : Nat → List kF} {ρ : Nat → Nat} {n : Nat} (h : clR σ0 σ τ FP ρ n) (hv : ∀ a b, vR σ τ a b → vR σ' τ' a b) (hC : ∀ k j, (k = 57 ∨ k = 62 ∨ k = 63 ∨ k = 74 ∨ k = 75 ∨ k = 77 ∨ k = 7 ∧ (j = 0 ∨ j = 21 ∨ j = 25)) → σ'.1 k j = σ.1 k j) (h76 : ∀ j, σ'.2 76 j = σ.2 76 j) (hl : ∀ p s, lsL (FP p) s → cv σ' s = cv σ s ∧ σ'.1 81 s = σ.1 81 s) (hM : ∀ k j, (k = 38 ∨ k = 44 ∨ k = 54 ∨ k = 57 ∨ k = 0 ∧ j = 96) → τ'.1 k j = τ.1 k j) (h55 : ∀ j, τ'.2 55 j = τ.2 55 j) (h58 : ∀ q, FP q ≠ [] → (τ'.1 58 q = 4 ↔ τ.1 58 q = 4)) : clR σ0 σ' τ' FP ρ n := by
  have e57 : ∀ j, σ'.1 57 j = σ.1 57 j := fun j => hC 57 j (by omega)
  have e62 : ∀ j, σ'.1 62 j = σ.1 62 j := fun j => hC 62 j (by omega)
  have e63 : ∀ j, σ'.1 63 j = σ.1 63 j := fun j => hC 63 j (by omega)
  have e74 : ∀ j, σ'.1 74 j = σ.1 74 j := fun j => hC 74 j (by omega)
  have e75 : ∀ j, σ'.1 75 j = σ.1 75 j := fun j => hC 75 j (by omega)
  have e77 : ∀ j, σ'.1 77 j = σ.1 77 j := fun j => hC 77 j (by omega)
  have e70 : σ'.1 7 0 = σ.1 7 0 := hC 7 0 (by omega)
  have e721 : σ'.1 7 21 = σ.1 7 21 := hC 7 21 (by omega)
  have e725 : σ'.1 7 25 = σ.1 7 25 := hC 7 25 (by omega)
  have m38 : ∀ j, τ'.1 38 j = τ.1 38 j := fun j => hM 38 j (by omega)
  have m44 : ∀ j, τ'.1 44 j = τ.1 44 j := fun j => hM 44 j (by omega)
  have m54 : ∀ j, τ'.1 54 j = τ.1 54 j := fun j => hM 54 j (by omega)
  have m57 : ∀ j, τ'.1 57 j = τ.1 57 j := fun j => hM 57 j (by omega)
  have m96 : τ'.1 0 96 = τ.1 0 96 := hM 0 96 (by omega)
  have oa : ∀ o k, obA σ' τ' o k ↔ obA σ τ o k := fun o k => by unfold obA lv; simp only [e57, e70, m38]
  have us : ∀ a, usd σ0 σ' τ' FP a ↔ usd σ0 σ τ FP a := fun a => by
    have n58 : ∀ q, (lsL (FP q) a ∧ (τ'.1 58 q ≠ 4 ∨ ∃ o k c, cpO σ0 σ' τ' o k c ∧ σ'.1 74 c = Int32.ofNat a)) ↔ (lsL (FP q) a ∧ (τ.1 58 q ≠ 4 ∨ ∃ o k c, cpO σ0 σ τ o k c ∧ σ.1 74 c = Int32.ofNat a)) := fun q => by
      have cp : ∀ o k c, cpO σ0 σ' τ' o k c ↔ cpO σ0 σ τ o k c := fun o k c => by unfold cpO lv; simp only [oa, e62, e63, e77]
      simp only [cp, e74]
      constructor
      · rintro ⟨w1, w2⟩
        have := h58 q (lsL_ne w1)
        exact ⟨w1, w2.imp (fun z y => z (this.2 y)) id⟩
      · rintro ⟨w1, w2⟩
        have := h58 q (lsL_ne w1)
        exact ⟨w1, w2.imp (fun z y => z (this.1 y)) id⟩
    unfold usd
    simp only [n58]
    unfold cpO lv
    simp only [oa, e62, e63, e74, e77]
  have lo : ∀ c, loC σ' c = loC σ c := fun c => by unfold loC lv; rw [e74]
  have l21 : lv σ' 7 21 = lv σ 7 21 := by unfold lv; rw [e721]
  have l25 : lv σ' 7 25 = lv σ 7 25 := by unfold lv; rw [e725]
  obtain ⟨h1, h2, ⟨Fc, f1, f2, f3, f4⟩, h4, h5, h6, h7⟩ := h
  have va : ∀ a, usd σ0 σ τ FP a → vaC σ' a = vaC σ a := fun a w => by
    unfold vaC
    rcases w with ⟨p, w, _⟩ | ⟨o, k, c, _, _, w⟩
    · have := (h6 p a w).1
      rw [if_pos this, if_pos this, (hl p a w).1]
    · rw [if_neg (by omega), if_neg (by omega), e75, h76]
  refine ⟨fun a w => ?_, fun a b w1 w2 => h2 a b ((us a).1 w1) ((us b).1 w2), ⟨Fc, fcM_cg m57 f1, by unfold lv; rw [m96]; exact f2, f3, fun c hc => ⟨(f4 c hc).1, fun a w => (f4 c hc).2 a ((us a).1 w)⟩⟩, fun o f w1 w2 w3 => ?_, fun c hc => ?_, fun p s w => ?_, by rw [l21, l25]; exact h7⟩
  · have w' := (us a).1 w
    obtain ⟨a1, a2⟩ := h1 a w'
    exact ⟨a1, by rw [va a w', m54, h55]; exact hv _ _ a2⟩
  · rw [e62] at w3
    obtain ⟨r, r1, r2, r3⟩ := h4 o f ((oa o 5).1 w1) w2 w3
    refine ⟨r, by rw [e63]; exact r1, by rw [l25]; exact r2, fun k hk => ?_⟩
    obtain ⟨c, c1, c2, c3⟩ := r3 k hk
    exact ⟨c, by rw [l21]; exact c1, by rw [e77]; exact c2, by rw [m44, lo]; exact c3⟩
  · rw [l21] at hc
    rw [e74]
    rcases h5 c hc with w | ⟨s, ⟨p, s1⟩, s2, s3, s4⟩
    · exact Or.inl w
    · exact Or.inr ⟨s, ⟨p, s1⟩, s2, s3, by rw [(hl p s s1).2]; exact s4⟩
  · obtain ⟨a1, a2⟩ := h6 p s w
    refine ⟨a1, ?_⟩
    rw [(hl p s w).2, l21]
    rcases a2 with z | ⟨c, c1, c2, c3⟩
    · exact Or.inl z
    · exact Or.inr ⟨c, c1, c2, by rw [e74]; exact c3⟩
theorem clR.cg {σ0 σ τ σ' τ' : lj_S} {FP : Nat → List kF} {ρ : Nat → Nat} {n : Nat} (h : clR σ0 σ τ FP ρ n) (hv : ∀ a b, vR σ τ a b → vR σ' τ' a b) (hC : ∀ k j, (k = 57 ∨ k = 62 ∨ k = 63 ∨ k = 74 ∨ k = 75 ∨ k = 77 ∨ k = 7 ∧ (j = 0 ∨ j = 21 ∨ j = 25)) → σ'.1 k j = σ.1 k j) (h76 : ∀ j, σ'.2 76 j = σ.2 76 j) (hl : ∀ p s, lsL (FP p) s → cv σ' s = cv σ s ∧ σ'.1 81 s = σ.1 81 s) (hM : ∀ k j, (k = 38 ∨ k = 44 ∨ k = 54 ∨ k = 57 ∨ k = 58 ∨ k = 0 ∧ j = 96) → τ'.1 k j = τ.1 k j) (h55 : ∀ j, τ'.2 55 j = τ.2 55 j) : clR σ0 σ' τ' FP ρ n := h.cg' hv hC h76 hl (fun k j w => hM k j (by omega)) h55 (fun q _ => by rw [hM 58 q (by omega)])
