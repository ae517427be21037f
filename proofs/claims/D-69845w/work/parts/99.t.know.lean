/-! a scope more; a local that is known -/
theorem pw_len {x : Nat} : ∀ {l : List Nat}, l.Pairwise (· > ·) → (∀ y ∈ l, y < x) → l.length ≤ x
  | [], _, _ => Nat.zero_le _
  | a :: r, h, g => by
    have h' := List.pairwise_cons.1 h
    have h1 := pw_len (x := a) h'.2 (fun y hy => h'.1 y hy)
    have h2 := g a (List.mem_cons_self)
    rw [List.length_cons]; omega
/-- a scope of function f more: slot x, from c on -/
def scP (σ : lj_S) (f S : Nat) (x : Int32) : lj_S := lj_put (lj_put (lj_put (lj_put (lj_put (lj_put (lj_put σ 37 S (Int32.ofNat f)) 38 S x) 39 S (σ.1 5 0)) 40 S 14000) 41 S (σ.1 42 f)) 42 f (Int32.ofNat S)) 5 18 (Int32.ofNat (S + 1))
theorem c_scope {σ : lj_S} {S f : Nat} (h18 : σ.1 5 18 = Int32.ofNat S) (hS : S < 4000) (hf : f < 51) (x : Int32) : lj_R lc_P 56 [.ref 5, .int (Int32.ofNat f), .int x] σ = some (.inl (some (.int (Int32.ofNat S))), scP σ f S x) := by
  have i1 : lj_in (Int32.ofNat S) 4000 := ofN_in hS (by omega)
  have i2 : lj_in (Int32.ofNat f) 51 := ofN_in hf (by omega)
  rw [rc_56, kc_56_0, h18]
  simp only [if_pos i1, if_pos i2, lz_onat (show S < 2147483648 by omega), lz_onat (show f < 2147483648 by omega), lz_osucc]
  rfl
theorem scP_o (σ : lj_S) (f S : Nat) (x : Int32) (k j : Nat) (h : ¬ (37 ≤ k ∧ k ≤ 41 ∧ j = S)) (h42 : ¬ (k = 42 ∧ j = f)) (h5 : ¬ (k = 5 ∧ j = 18)) : (scP σ f S x).1 k j = σ.1 k j := by
  unfold scP
  rw [lj_put_1, if_neg (by omega), lj_put_1, if_neg (by omega), lj_put_1, if_neg (by omega), lj_put_1, if_neg (by omega), lj_put_1, if_neg (by omega), lj_put_1, if_neg (by omega), lj_put_1, if_neg (by omega)]
theorem scP_get (σ : lj_S) (f S : Nat) (x : Int32) : (scP σ f S x).1 37 S = Int32.ofNat f ∧ (scP σ f S x).1 38 S = x ∧ (scP σ f S x).1 39 S = σ.1 5 0 ∧ (scP σ f S x).1 40 S = 14000 ∧ (scP σ f S x).1 41 S = σ.1 42 f ∧ (scP σ f S x).1 42 f = Int32.ofNat S ∧ (scP σ f S x).1 5 18 = Int32.ofNat (S + 1) := by
  unfold scP; simp [lj_put_1]
/-- what such a state has -/
def scN (σ σ' : lj_S) (f S x c : Nat) : Prop := (σ.1 5 18 = Int32.ofNat S ∧ σ'.1 5 18 = Int32.ofNat (S + 1) ∧ S < 4000 ∧ f < 51 ∧ x < 2000 ∧ c < 14000) ∧ (∀ k, k ≠ S → σ'.1 37 k = σ.1 37 k ∧ σ'.1 38 k = σ.1 38 k ∧ σ'.1 39 k = σ.1 39 k ∧ σ'.1 40 k = σ.1 40 k ∧ σ'.1 41 k = σ.1 41 k) ∧ (σ'.1 37 S = Int32.ofNat f ∧ σ'.1 38 S = Int32.ofNat x ∧ σ'.1 39 S = Int32.ofNat c ∧ σ'.1 40 S = 14000 ∧ σ'.1 41 S = σ.1 42 f) ∧ σ'.1 42 f = Int32.ofNat S ∧ ∀ q, q ≠ f → σ'.1 42 q = σ.1 42 q
theorem scN_ar {σ σ' : lj_S} {f S x c : Nat} (h : scN σ σ' f S x c) : lv σ 5 18 = (S : Int) ∧ lv σ' 5 18 = (S : Int) + 1 ∧ lv σ' 37 S = (f : Int) ∧ lv σ' 38 S = (x : Int) ∧ lv σ' 39 S = (c : Int) ∧ lv σ' 40 S = 14000 ∧ lv σ' 41 S = lv σ 42 f ∧ lv σ' 42 f = (S : Int) ∧ ∀ k, k ≠ S → lv σ' 37 k = lv σ 37 k ∧ lv σ' 38 k = lv σ 38 k ∧ lv σ' 39 k = lv σ 39 k ∧ lv σ' 40 k = lv σ 40 k ∧ lv σ' 41 k = lv σ 41 k := by
  obtain ⟨⟨a1, a2, a3, a4, a5, a6⟩, b, ⟨c1, c2, c3, c4, c5⟩, d1, d2⟩ := h
  unfold lv
  refine ⟨by rw [a1, lz_lit (by omega)], by rw [a2, lz_lit (by omega)]; omega, by rw [c1, lz_lit (by omega)], by rw [c2, lz_lit (by omega)], by rw [c3, lz_lit (by omega)], by rw [c4]; rfl, by rw [c5], by rw [d1, lz_lit (by omega)], fun k hk => ?_⟩
  obtain ⟨b1, b2, b3, b4, b5⟩ := b k hk
  rw [b1, b2, b3, b4, b5]
  exact ⟨rfl, rfl, rfl, rfl, rfl⟩
theorem scN_opn {σ σ' : lj_S} {f S x c : Nat} (h : scN σ σ' f S x c) (q y : Nat) : openK σ' q y ↔ openK σ q y ∨ (q = f ∧ y = x) := by
  obtain ⟨a1, a2, a3, a4, a5, a6, a7, a8, a9⟩ := scN_ar h
  constructor
  · rintro ⟨k, k1, k2, k3, k4⟩
    by_cases e : k = S
    · subst e; exact Or.inr ⟨(by omega), (by omega)⟩
    · obtain ⟨b1, b2, b3, b4, b5⟩ := a9 k e
      exact Or.inl ⟨k, (by omega), (by omega), (by omega), (by omega)⟩
  · rintro (⟨k, k1, k2, k3, k4⟩ | ⟨rfl, rfl⟩)
    · have e : k ≠ S := by omega
      obtain ⟨b1, b2, b3, b4, b5⟩ := a9 k e
      exact ⟨k, (by omega), (by omega), (by omega), (by omega)⟩
    · exact ⟨S, (by omega), a3, a6, a4⟩
theorem scN_opA {σ σ' : lj_S} {f S x c : Nat} (h : scN σ σ' f S x c) (q y k : Nat) : opA σ' q y k ↔ opA σ q y k ∨ (q = f ∧ y = x ∧ k = S) := by
  obtain ⟨a1, a2, a3, a4, a5, a6, a7, a8, a9⟩ := scN_ar h
  constructor
  · rintro ⟨k1, k2, k3, k4⟩
    by_cases e : k = S
    · subst e; exact Or.inr ⟨(by omega), (by omega), rfl⟩
    · obtain ⟨b1, b2, b3, b4, b5⟩ := a9 k e
      exact Or.inl ⟨(by omega), (by omega), (by omega), (by omega)⟩
  · rintro (⟨k1, k2, k3, k4⟩ | ⟨rfl, rfl, rfl⟩)
    · have e : k ≠ S := by omega
      obtain ⟨b1, b2, b3, b4, b5⟩ := a9 k e
      exact ⟨(by omega), (by omega), (by omega), (by omega)⟩
    · exact ⟨(by omega), a3, a6, a4⟩
theorem scN_opU {σ σ' : lj_S} {f S x c : Nat} (h : scN σ σ' f S x c) (g : opU σ) (hn : ¬ openK σ f x) : opU σ' := by
  obtain ⟨a1, a2, a3, a4, a5, a6, a7, a8, a9⟩ := scN_ar h
  intro k k' q1 q2 q3 q4 q5 q6
  by_cases e : k = S
  · by_cases e' : k' = S
    · rw [e, e']
    · obtain ⟨b1, b2, b3, b4, b5⟩ := a9 k' e'
      subst e
      exact absurd ⟨k', (by omega), (by omega), (by omega), (by omega)⟩ hn
  · obtain ⟨b1, b2, b3, b4, b5⟩ := a9 k e
    by_cases e' : k' = S
    · subst e'
      exact absurd ⟨k, (by omega), (by omega), (by omega), (by omega)⟩ hn
    · obtain ⟨d1, d2, d3, d4, d5⟩ := a9 k' e'
      exact g k k' (by omega) (by omega) (by omega) (by omega) (by omega) (by omega)
theorem scN_SCr {σ σ' : lj_S} {f S x c : Nat} (h : scN σ σ' f S x c) (g : SCr σ c) (hn : ¬ openK σ f x) (h58 : σ'.1 5 8 = σ.1 5 8) (hf : (f : Int) < lv σ 5 8) : SCr σ' c := by
  obtain ⟨a1, a2, a3, a4, a5, a6, a7, a8, a9⟩ := scN_ar h
  have e8 : lv σ' 5 8 = lv σ 5 8 := by unfold lv; rw [h58]
  refine ⟨⟨(by omega), scN_opU h g.1.2 hn⟩, fun k hk => ?_⟩
  by_cases e : k = S
  · subst e; omega
  · obtain ⟨b1, b2, b3, b4, b5⟩ := a9 k e
    have := g.2 k (by omega)
    omega
theorem scN_scL {σ σ' : lj_S} {f S x c : Nat} (h : scN σ σ' f S x c) (q : Nat) : scL σ' q = if q = f then S :: scL σ q else scL σ q := by
  obtain ⟨a1, a2, a3, a4, a5, a6, a7, a8, a9⟩ := scN_ar h
  have e1 : (lv σ' 5 18).toNat = S + 1 := by omega
  have e2 : (lv σ 5 18).toNat = S := by omega
  have ef : (List.range S).filter (fun k => decide (lv σ' 37 k = (q : Int))) = (List.range S).filter (fun k => decide (lv σ 37 k = (q : Int))) := by
    apply List.filter_congr
    intro k hk
    have : k ≠ S := by have := List.mem_range.1 hk; omega
    rw [(a9 k this).1]
  unfold scL
  rw [e1, e2, List.range_succ, List.filter_append, ef, List.reverse_append]
  by_cases e : q = f
  · rw [if_pos e, List.filter_cons_of_pos (by rw [a3, e]; simp)]
    simp
  · rw [if_neg e, List.filter_cons_of_neg (by rw [a3]; simp; omega)]
    simp
theorem scN_FX {σ σ' : lj_S} {f S x c : Nat} (h : scN σ σ' f S x c) {q : Nat} (g : FX σ q) (h29 : σ'.1 29 q = σ.1 29 q) (h31 : σ'.1 31 q = σ.1 31 q) (h32 : σ'.1 32 q = σ.1 32 q) : FX σ' q := by
  obtain ⟨g1, g2, g3, g4, g5⟩ := g
  obtain ⟨a1, a2, a3, a4, a5, a6, a7, a8, a9⟩ := scN_ar h
  have e29 : lv σ' 29 q = lv σ 29 q := by unfold lv; rw [h29]
  have e31 : lv σ' 31 q = lv σ 31 q := by unfold lv; rw [h31]
  have e32 : lv σ' 32 q = lv σ 32 q := by unfold lv; rw [h32]
  have hmem : ∀ k ∈ scL σ q, k ≠ S := fun k hk => by
    unfold scL at hk
    have := List.mem_range.1 (List.mem_filter.1 (List.mem_reverse.1 hk)).1
    omega
  have hcg : ∀ h0, lk (lv σ 41) h0 (scL σ q) → lk (lv σ' 41) h0 (scL σ q) := fun h0 => lk_cong (fun k hk => (a9 k (hmem k hk)).2.2.2.2.symm)
  refine ⟨(by omega), (by omega), (by omega), (by omega), ?_⟩
  rw [scN_scL h q]
  by_cases e : q = f
  · rw [if_pos e]
    subst e
    exact ⟨a8, by rw [a7]; exact hcg _ g5⟩
  · rw [if_neg e]
    have : lv σ' 42 q = lv σ 42 q := by unfold lv; rw [h.2.2.2.2 q e]
    rw [this]
    exact hcg _ g5
theorem scN_ksc {σ σ' : lj_S} {f S x c : Nat} (h : scN σ σ' f S x c) {q : Nat} : ∀ {r : List kT}, (∀ i, i < r.length → σ'.1 47 (50 * q + i) = σ.1 47 (50 * q + i)) → ksc σ q r → ksc σ' q r
  | [], _, _ => trivial
  | e :: r, h47, g => by
    obtain ⟨a1, a2, a3, a4, a5, a6, a7, a8, a9⟩ := scN_ar h
    obtain ⟨k, k1, k2, k3, k4, k5⟩ := g.1
    obtain ⟨b1, b2, b3, b4, b5⟩ := a9 k (by omega)
    exact ⟨⟨k, by rw [h47 _ (by simp)]; exact k1, (by omega), (by omega), (by omega), (by omega)⟩, scN_ksc h (fun i hi => h47 i (by simp; omega)) g.2⟩
/-- the rest of what a later state keeps -/
theorem scN_TX (N : List lT) {σ τ σ' τ' : lj_S} {f S x c : Nat} (h : scN σ σ' f S x c) (f1 : lf pC σ σ') (g : lf pM τ τ') {X : List Int32 → Prop} (hs : sR σ τ X) (h5 : σ.1 5 0 = Int32.ofNat c) (hC : ∀ k j, (k = 28 ∨ k = 29 ∨ k = 31 ∨ k = 33 ∨ k = 34 ∨ k = 35 ∨ (k = 5 ∧ (j = 0 ∨ j = 6 ∨ j = 8))) → σ'.1 k j = σ.1 k j) (h32 : ∀ q, lv σ 32 q ≤ lv σ' 32 q) (hM : ∀ k j, txM k j = true → τ'.1 k j = τ.1 k j) (h27 : ∀ i, σ'.2 27 i = σ.2 27 i) (h24 : ∀ i, τ'.2 24 i = τ.2 24 i) : TX N σ τ σ' τ' := by
  obtain ⟨a1, a2, a3, a4, a5, a6, a7, a8, a9⟩ := scN_ar h
  have hc := h.1.2.2.2.2.2
  have e50 : lv σ 5 0 = (c : Int) := by unfold lv; rw [h5, lz_lit (by omega)]
  refine ⟨(sR_pp hs f1 g).2, by unfold lv; rw [hC 5 0 (by omega)]; exact Int.le_refl _, by unfold lv; rw [hC 5 6 (by omega)]; exact Int.le_refl _, by unfold lv; rw [hC 5 8 (by omega)]; exact Int.le_refl _, (by omega), fun i _ => ⟨h27 i, h24 i⟩, fun q _ => ⟨hC 28 q (by omega), hC 29 q (by omega), ⟨hM 12 q rfl, hM 13 q rfl⟩, ⟨h32 q, by unfold lv; rw [hC 31 q (by omega)]; exact Int.le_refl _⟩, by unfold lv; rw [hC 33 q (by omega)]; exact Int.le_refl _⟩, fun q _ _ => ⟨hC 33 q (by omega), hM 15 q rfl, fun i _ => ⟨hC 34 _ (by omega), hC 35 _ (by omega), hM 18 _ rfl, hM 19 _ rfl⟩⟩, fun k hk => ?_, fun k h1 h2 => ?_, f1, pM_g g⟩
  · obtain ⟨b1, b2, b3, b4, b5⟩ := h.2.1 k (by omega)
    exact ⟨b1, b2, b3, Or.inl b4⟩
  · have : k = S := by omega
    rw [this, e50, a5]
    exact Int.le_refl _
/-- functions around another one -/
theorem lvS_out {σ σ' : lj_S} {f : Nat} (h49 : ∀ q, q ≠ f → σ'.1 49 q = σ.1 49 q) (h32 : ∀ q, q ≠ f → lv σ 32 q ≤ lv σ' 32 q) (h31 : ∀ q, q ≠ f → σ'.1 31 q = σ.1 31 q) (ho : ∀ q x k, q ≠ f → (opA σ' q x k ↔ opA σ q x k)) (hk : ∀ q r, q ≠ f → r.length ≤ 50 → ksc σ q r → ksc σ' q r) : ∀ {R : List lT} {FO : List fT}, (∀ z ∈ R, z.2.1.length ≤ 50) → f ∉ R.map (·.1) → lvS σ R FO → lvS σ' R FO
  | [], [], _, _, _ => trivial
  | z :: R, fl :: FO, hl, hn, h => by
    rw [List.map_cons, List.mem_cons, not_or] at hn
    have hz : z.1 ≠ f := fun q => hn.1 q.symm
    refine ⟨⟨by rw [h49 _ hz]; exact h.1.1, Int.le_trans h.1.2.1 (h32 _ hz), h.1.2.2.1, fun x hx => (opA_K (fun k => ho _ _ k hz)).trans (h.1.2.2.2.1 x hx), hOp_cg (fun x k _ => ho _ _ k hz) h.1.2.2.2.2.1, hk _ _ hz (hl z (List.mem_cons_self)) h.1.2.2.2.2.2.1, by unfold slt; rw [h31 _ hz]; exact h.1.2.2.2.2.2.2⟩, lvS_out h49 h32 h31 ho hk (fun y hy => hl y (List.mem_cons_of_mem _ hy)) hn.2 h.2⟩
  | [], _ :: _, _, _, h => h.elim
  | _ :: _, [], _, _, h => h.elim
theorem nmC_len {σ : lj_S} : ∀ {N : List lT}, nmC σ N → ∀ z ∈ N, z.2.1.length ≤ 50
  | x :: R, h, z, hz => by
    rcases List.mem_cons.1 hz with e | e
    · rw [e]; exact h.1.2.2.2.1
    · exact nmC_len h.2 z e
theorem cpC_eq {σ σ' : lj_S} {q : Nat} {cp : List cT} (h : cpC σ q cp) (hC : ∀ k j, (k = 33 ∨ k = 34 ∨ k = 35 ∨ k = 48) → σ'.1 k j = σ.1 k j) : cpC σ' q cp :=
  cpC_cg h (fun j => hC 33 j (by omega)) (fun j => hC 34 j (by omega)) (fun j => hC 35 j (by omega)) (fun j => hC 48 j (by omega))
/-- names of functions around another one -/
theorem nmC_out' {σ σ' : lj_S} {f : Nat} (hC : ∀ k j, (k = 33 ∨ k = 34 ∨ k = 35 ∨ k = 48 ∨ k = 43) → σ'.1 k j = σ.1 k j) (h44 : ∀ q, q ≠ f → σ'.1 44 q = σ.1 44 q) (hk : ∀ k q i, (k = 45 ∨ k = 46) → q ≠ f → i < 50 → σ'.1 k (50 * q + i) = σ.1 k (50 * q + i)) : ∀ {R : List lT}, f ∉ R.map (·.1) → nmC σ R → nmC σ' R
  | [], _, _ => trivial
  | z :: R, hn, h => by
    rw [List.map_cons, List.mem_cons, not_or] at hn
    have hz : z.1 ≠ f := fun q => hn.1 q.symm
    have kn : ∀ (r : List kT), r.length ≤ 50 → knC σ z.1 r → knC σ' z.1 r := by
      intro r
      induction r with
      | nil => intro _ _; trivial
      | cons e r ih =>
        intro hl g
        simp only [List.length_cons] at hl
        exact ⟨by rw [hk 45 z.1 r.length (by omega) hz (by omega), hk 46 z.1 r.length (by omega) hz (by omega)]; exact g.1, ih (by omega) g.2⟩
    exact ⟨⟨h.1.1, by rw [hC 43 _ (by omega)]; exact h.1.2.1, by rw [h44 _ hz]; exact h.1.2.2.1, h.1.2.2.2.1, kn _ h.1.2.2.2.1 h.1.2.2.2.2.1, cpC_eq h.1.2.2.2.2.2 (fun k j q => hC k j (by omega))⟩, nmC_out' hC h44 hk hn.2 h.2⟩
theorem knM_lt {τ τ' : lj_S} {base B : Nat} (hM : ∀ k j, (k = 29 ∨ k = 30) → j < B → τ'.1 k j = τ.1 k j) : ∀ {r : List kT}, base + r.length ≤ B → knM τ base r → knM τ' base r
  | [], _, _ => trivial
  | e :: r, hl, g => by
    simp only [List.length_cons] at hl
    exact ⟨by rw [hM 29 _ (by omega) (by omega), hM 30 _ (by omega) (by omega)]; exact g.1, knM_lt hM (by omega) g.2⟩
/-- names of the model that were known before -/
theorem nmM_lt {τ τ' : lj_S} {B : Nat} (hC : ∀ k j, (k = 15 ∨ k = 18 ∨ k = 19 ∨ k = 31 ∨ k = 32) → τ'.1 k j = τ.1 k j) (hM : ∀ k j, (k = 29 ∨ k = 30) → j < B → τ'.1 k j = τ.1 k j) : ∀ {R : List lT}, baseN R ≤ B → nmM τ R → nmM τ' R
  | [], _, _ => trivial
  | z :: R, hl, h => by
    have hb : z.2.1.length + baseN R ≤ B := hl
    exact ⟨⟨h.1.1, by rw [hC 32 _ (by omega)]; exact h.1.2.1, by rw [hC 31 _ (by omega)]; exact h.1.2.2.1, h.1.2.2.2.1, knM_lt hM (by omega) h.1.2.2.2.2.1, cpM_cg h.1.2.2.2.2.2 (fun j => hC 15 j (by omega)) (fun j => hC 18 j (by omega)) (fun j => hC 19 j (by omega))⟩, nmM_lt hC hM (by omega) h.2⟩
theorem knC_eq {σ σ' : lj_S} {q : Nat} (hk : ∀ k i, (k = 45 ∨ k = 46) → i < 50 → σ'.1 k (50 * q + i) = σ.1 k (50 * q + i)) : ∀ {r : List kT}, r.length ≤ 50 → knC σ q r → knC σ' q r
  | [], _, _ => trivial
  | e :: r, hl, g => by
    simp only [List.length_cons] at hl
    exact ⟨by rw [hk 45 r.length (by omega) (by omega), hk 46 r.length (by omega) (by omega)]; exact g.1, knC_eq hk (by omega) g.2⟩
theorem knC_lt {σ σ' : lj_S} {q K : Nat} (hk : ∀ k i, (k = 45 ∨ k = 46) → i < K → σ'.1 k (50 * q + i) = σ.1 k (50 * q + i)) : ∀ {r : List kT}, r.length ≤ K → knC σ q r → knC σ' q r
  | [], _, _ => trivial
  | e :: r, hl, g => by
    simp only [List.length_cons] at hl
    exact ⟨by rw [hk 45 r.length (by omega) (by omega), hk 46 r.length (by omega) (by omega)]; exact g.1, knC_lt hk (by omega) g.2⟩
/-- the states behind know -/
def cKn (σ : lj_S) (f K S : Nat) (a x : Int32) : lj_S := lj_put (lj_put (scP (lj_put (lj_put σ 45 (50 * f + K) a) 46 (50 * f + K) x) f S x) 47 (50 * f + K) (Int32.ofNat S)) 44 f (Int32.ofNat (K + 1))
def mKn (τ : lj_S) (B : Nat) (a x : Int32) : lj_S := lj_put (lj_put (lj_put τ 29 B a) 30 B x) 0 50 (Int32.ofNat (B + 1))
theorem cKn_o (σ : lj_S) (f K S : Nat) (a x : Int32) (k j : Nat) (h1 : ¬ ((k = 45 ∨ k = 46 ∨ k = 47) ∧ j = 50 * f + K)) (h2 : ¬ (37 ≤ k ∧ k ≤ 41 ∧ j = S)) (h3 : ¬ ((k = 42 ∨ k = 44) ∧ j = f)) (h4 : ¬ (k = 5 ∧ j = 18)) : (cKn σ f K S a x).1 k j = σ.1 k j := by
  unfold cKn
  rw [lj_put_1, if_neg (by omega), lj_put_1, if_neg (by omega), scP_o _ _ _ _ _ _ (by omega) (by omega) (by omega), lj_put_1, if_neg (by omega), lj_put_1, if_neg (by omega)]
theorem mKn_o (τ : lj_S) (B : Nat) (a x : Int32) (k j : Nat) (h1 : ¬ ((k = 29 ∨ k = 30) ∧ j = B)) (h2 : ¬ (k = 0 ∧ j = 50)) : (mKn τ B a x).1 k j = τ.1 k j := by
  unfold mKn
  rw [lj_put_1, if_neg (by omega), lj_put_1, if_neg (by omega), lj_put_1, if_neg (by omega)]
theorem cm_know {b : Nat → Int32} {n T : Nat} {Q : tkQ} {X : List Int32 → Prop} {FO0 : List fT} {nl rv : Nat} {fl : List Nat} {Z : List zT} {PL : List qT} {cl ml : Nat} {F : Nat} {N : List lT} {p v c m wh : Nat} {W : List wT} {σ τ : lj_S} (h : PS b n T Q X F N (((nl, rv + 1), fl) :: FO0) Z PL cl ml p v c m wh W σ τ) {f : Nat} {l : List Nat} (hN : hdN N f l) {x : Nat} (hx : x < nl) (hlx : ∀ y ∈ l, y < x) {a a' : Nat} (hq : nmQ σ τ a a') (ha : a < 2600 ∨ a = 4294967294) (ha' : a' < 3000) (hT : T ≤ 520) :
    ∃ σ' τ' N', lj_R lc_P 83 [.ref 6, .int (Int32.ofNat a), .int (Int32.ofNat x)] σ = some (.inl none, σ') ∧ lj_R lm_P 55 [.ref 0, .int (Int32.ofNat a'), .int (Int32.ofNat x)] τ = some (.inl none, τ') ∧ PS b n T Q X F N' (((nl, rv), fl) :: FO0) Z PL cl ml p v c m wh W σ' τ' ∧ GS [(a, a', x)] N N' F F p p c c m m σ τ σ' τ' ∧ (∀ k j, k = 19 ∨ k = 20 ∨ k = 21 → σ'.1 k j = σ.1 k j) ∧ σ'.2 = σ.2 ∧ τ'.2 = τ.2 := by
  obtain ⟨z, R, rfl, rfl, hl⟩ := hN
  have hNR := h.1.2.2.1
  have hF := h.1.2.2.2.1
  have hLv := h.1.2.2.2.2.2.1
  have hSC := h.1.2.2.2.2.2.2
  have hz51 : z.1 < 51 := hNR.1.1.1
  have h62 : σ.1 6 2 = Int32.ofNat z.1 := hNR.2.2.2.2.2.2.1
  have hzF : z.1 < F := h.1.2.2.2.2.1 z (List.mem_cons_self)
  obtain ⟨s1, s2, s3, s4⟩ := hLv.1.2.2.2.2.2.2
  have s1 : σ.1 31 z.1 = Int32.ofNat nl := s1
  have s2 : nl ≤ 50 := s2
  rw [hl] at s3 s4
  have hK : z.2.1.length ≤ x := by
    have := pw_len s3 hlx
    rw [← hl, List.length_map] at this
    exact this
  have h44 : σ.1 44 z.1 = Int32.ofNat z.2.1.length := hNR.1.1.2.2.1
  have hnd : z.1 ∉ R.map (·.1) := by
    have := hNR.2.2.2.1
    rw [List.map_cons, List.nodup_cons] at this
    exact this.1
  have hib := h.2.2.2.2.1.2.1
  have hp := h.2.2.1.1
  have hS0 := hSC.1.1
  have hS1 := hib.1
  simp only [rsv] at hS1
  obtain ⟨S, hS⟩ : ∃ S : Nat, lv σ 5 18 = (S : Int) := ⟨(lv σ 5 18).toNat, by omega⟩
  have h18 : σ.1 5 18 = Int32.ofNat S := by apply lz_ext; rw [lz_lit (by omega)]; exact hS
  have hS4 : S < 4000 := by omega
  have h50 : τ.1 0 50 = Int32.ofNat (z.2.1.length + baseN R) := hNR.2.2.2.2.2.2.2.2.1
  have hB : baseN (z :: R) ≤ 50 * (z :: R).length := baseN_le hNR.1
  have hR22 := hNR.2.2.2.2.2.1
  have hB' : z.2.1.length + baseN R ≤ 1100 := by
    have : baseN (z :: R) = z.2.1.length + baseN R := rfl
    omega
  have hc5 : σ.1 5 0 = Int32.ofNat c := h.2.1.2.2.2.2.1
  have hc14 := h.c14 hT
  have hno : ¬ openK σ z.1 x := fun q => by
    have := (hLv.1.2.2.2.1 x (by omega)).1 q
    rw [hl] at this
    have := hlx x this
    omega
  generalize hKd : z.2.1.length = K at *
  generalize hBd : baseN R = B at *
  have i1 : lj_in (Int32.ofNat z.1) 51 := ofN_in hz51 (by omega)
  have i2 : lj_in (Int32.ofNat (50 * z.1 + K)) 2550 := ofN_in (by omega) (by omega)
  refine ⟨cKn σ z.1 K S (Int32.ofNat a) (Int32.ofNat x), mKn τ (K + B) (Int32.ofNat a') (Int32.ofNat x), (z.1, (a, a', x) :: z.2.1, z.2.2) :: R, ?_, ?_, ?_⟩
  · rw [rc_83, kc_83_0, h62]
    simp only [if_pos i1, lz_onat (show z.1 < 2147483648 by omega), h44, lz_m50, if_pos i2, lz_onat (show 50 * z.1 + K < 2147483648 by omega)]
    rw [c_scope (S := S) (by rw [lj_put_1, if_neg (by omega), lj_put_1, if_neg (by omega)]; exact h18) hS4 hz51, bi_ok]
    have e62 : (scP (lj_put (lj_put σ 45 (50 * z.1 + K) (Int32.ofNat a)) 46 (50 * z.1 + K) (Int32.ofNat x)) z.1 S (Int32.ofNat x)).1 6 2 = Int32.ofNat z.1 := by rw [scP_o _ _ _ _ 6 2 (by omega) (by omega) (by omega), lj_put_1, if_neg (by omega), lj_put_1, if_neg (by omega)]; exact h62
    have e44 : (scP (lj_put (lj_put σ 45 (50 * z.1 + K) (Int32.ofNat a)) 46 (50 * z.1 + K) (Int32.ofNat x)) z.1 S (Int32.ofNat x)).1 44 z.1 = Int32.ofNat K := by rw [scP_o _ _ _ _ 44 _ (by omega) (by omega) (by omega), lj_put_1, if_neg (by omega), lj_put_1, if_neg (by omega)]; exact h44
    simp only [e62, if_pos i1, lz_onat (show z.1 < 2147483648 by omega), e44, lz_osucc]
    rfl
  · have i3 : lj_in (Int32.ofNat (K + B)) 1600 := ofN_in (by omega) (by omega)
    rw [rm_55, km_55_0, h50]
    simp only [if_pos i3, lz_onat (show K + B < 2147483648 by omega), lz_osucc]
    rfl
  · have oC := cKn_o σ z.1 K S (Int32.ofNat a) (Int32.ofNat x)
    have oM := mKn_o τ (K + B) (Int32.ofNat a') (Int32.ofNat x)
    have fC : lf pC σ (cKn σ z.1 K S (Int32.ofNat a) (Int32.ofNat x)) := by
      unfold cKn scP
      exact lf_put (lf_put (lf_put (lf_put (lf_put (lf_put (lf_put (lf_put (lf_put (lf_put (lf_put (lf_rf _ _) _ _ _ rfl) _ _ _ rfl) _ _ _ rfl) _ _ _ rfl) _ _ _ rfl) _ _ _ rfl) _ _ _ rfl) _ _ _ rfl) _ _ _ rfl) _ _ _ rfl) _ _ _ rfl
    have fM : lf pM τ (mKn τ (K + B) (Int32.ofNat a') (Int32.ofNat x)) := by
      unfold mKn
      exact lf_put (lf_put (lf_put (lf_rf _ _) _ _ _ rfl) _ _ _ rfl) _ _ _ rfl
    have sn : scN σ (cKn σ z.1 K S (Int32.ofNat a) (Int32.ofNat x)) z.1 S x c := by
      refine ⟨⟨h18, by unfold cKn scP; simp [lj_put_1], hS4, hz51, (by omega), (by omega)⟩, fun k hk => ⟨oC 37 k (by omega) (by omega) (by omega) (by omega), oC 38 k (by omega) (by omega) (by omega) (by omega), oC 39 k (by omega) (by omega) (by omega) (by omega), oC 40 k (by omega) (by omega) (by omega) (by omega), oC 41 k (by omega) (by omega) (by omega) (by omega)⟩, ⟨by unfold cKn scP; simp [lj_put_1], by unfold cKn scP; simp [lj_put_1], by unfold cKn scP; simp [lj_put_1, hc5], by unfold cKn scP; simp [lj_put_1], by unfold cKn scP; simp [lj_put_1]⟩, by unfold cKn scP; simp [lj_put_1], fun q hq => oC 42 q (by omega) (by omega) (by omega) (by omega)⟩
    have g45 : (cKn σ z.1 K S (Int32.ofNat a) (Int32.ofNat x)).1 45 (50 * z.1 + K) = Int32.ofNat a := by unfold cKn scP; simp [lj_put_1]
    have g46 : (cKn σ z.1 K S (Int32.ofNat a) (Int32.ofNat x)).1 46 (50 * z.1 + K) = Int32.ofNat x := by unfold cKn scP; simp [lj_put_1]
    have g47 : (cKn σ z.1 K S (Int32.ofNat a) (Int32.ofNat x)).1 47 (50 * z.1 + K) = Int32.ofNat S := by unfold cKn scP; simp [lj_put_1]
    have g44 : (cKn σ z.1 K S (Int32.ofNat a) (Int32.ofNat x)).1 44 z.1 = Int32.ofNat (K + 1) := by unfold cKn scP; simp [lj_put_1]
    have w29 : (mKn τ (K + B) (Int32.ofNat a') (Int32.ofNat x)).1 29 (K + B) = Int32.ofNat a' := by unfold mKn; simp [lj_put_1]
    have w30 : (mKn τ (K + B) (Int32.ofNat a') (Int32.ofNat x)).1 30 (K + B) = Int32.ofNat x := by unfold mKn; simp [lj_put_1]
    have w50 : (mKn τ (K + B) (Int32.ofNat a') (Int32.ofNat x)).1 0 50 = Int32.ofNat (K + B + 1) := by unfold mKn; simp [lj_put_1]
    have tC2 : (cKn σ z.1 K S (Int32.ofNat a) (Int32.ofNat x)).2 = σ.2 := rfl
    have tM2 : (mKn τ (K + B) (Int32.ofNat a') (Int32.ofNat x)).2 = τ.2 := rfl
    generalize cKn σ z.1 K S (Int32.ofNat a) (Int32.ofNat x) = σ' at *
    generalize mKn τ (K + B) (Int32.ofNat a') (Int32.ofNat x) = τ' at *
    have xC : ∀ k j, (k < 37 ∨ 47 < k ∨ k = 43) → k ≠ 5 → σ'.1 k j = σ.1 k j := fun k j q1 q2 => oC k j (by omega) (by omega) (by omega) (by omega)
    have cs : ∀ t, cS σ' t = cS σ t := cS_cong (fun j => xC 9 j (by omega) (by omega)) (fun j => xC 10 j (by omega) (by omega)) (fun j => xC 11 j (by omega) (by omega))
    have ms : ∀ t, mS τ' t = mS τ t := mS_cong (fun j => oM 2 j (by omega) (by omega)) (fun j => oM 3 j (by omega) (by omega)) (fun j => oM 4 j (by omega) (by omega))
    have nq : ∀ e e', nmQ σ τ e e' → nmQ σ' τ' e e' := fun e e' q => by
      have e1 : lv τ' 0 14 = lv τ 0 14 := by unfold lv; rw [oM 0 14 (by omega) (by omega)]
      have e2 : lv σ' 3 7 = lv σ 3 7 := by unfold lv; rw [xC 3 7 (by omega) (by omega)]
      rcases q with ⟨q1, q2⟩ | ⟨q1, q2, q3⟩
      · exact Or.inl ⟨q1, by rw [e2]; exact q2.1, by rw [e1]; exact q2.2.1, by rw [cs, ms]; exact q2.2.2⟩
      · exact Or.inr ⟨q1, by rw [e1]; exact q2, fun s hs => by rw [e2] at hs; rw [cs, ms]; exact q3 s hs⟩
    have e42 : openK σ' z.1 = fun y => openK σ z.1 y ∨ y = x := by
      funext y
      exact propext ((scN_opn sn z.1 y).trans (by simp))
    have nr : NR σ' τ' ((z.1, (a, a', x) :: z.2.1, z.2.2) :: R) := by
      obtain ⟨n1, n2, n3, n4, n5, n6, n7, n8, n9, n10⟩ := hNR
      refine ⟨⟨⟨hz51, by rw [xC 43 _ (by omega) (by omega)]; exact n1.1.2.1, by rw [g44]; simp [hKd], by simp [hKd]; omega, ⟨⟨by rw [hKd]; exact g45, by rw [hKd]; exact g46, ha, ha', by show x < 50; omega⟩, knC_lt (K := K) (fun k i q1 q2 => oC k _ (by omega) (by omega) (by omega) (by omega)) (by omega) n1.1.2.2.2.2.1⟩, cpC_eq n1.1.2.2.2.2.2 (fun k j q => xC k j (by omega) (by omega))⟩, nmC_out' (f := z.1) (fun k j q => xC k j (by omega) (by omega)) (fun q hq => oC 44 q (by omega) (by omega) (by omega) (by omega)) (fun k q i q1 q2 q3 => oC k _ (by omega) (by omega) (by omega) (by omega)) hnd n1.2⟩, ⟨⟨hz51, by rw [oM 32 _ (by omega) (by omega)]; exact n2.1.2.1, by rw [oM 31 _ (by omega) (by omega)]; exact n2.1.2.2.1, by simp [hKd]; omega, ⟨⟨by rw [hKd, hBd, Nat.add_comm B K]; exact w29, by rw [hKd, hBd, Nat.add_comm B K]; exact w30, ha, ha', by show x < 50; omega⟩, knM_lt (B := K + B) (fun k j q1 q2 => oM k j (by omega) (by omega)) (by omega) n2.1.2.2.2.2.1⟩, cpM_cg n2.1.2.2.2.2.2 (fun j => oM 15 j (by omega) (by omega)) (fun j => oM 18 j (by omega) (by omega)) (fun j => oM 19 j (by omega) (by omega))⟩, nmM_lt (B := K + B) (fun k j q => oM k j (by omega) (by omega)) (fun k j q1 q2 => oM k j (by omega) (by omega)) (by omega) n2.2⟩, ⟨⟨n3.1.1, n3.1.2.1, ?_⟩, n3.2⟩, n4, by simp, n6, by rw [xC 6 2 (by omega) (by omega)]; exact n7, by rw [oM 0 53 (by omega) (by omega)]; exact n8, ?_, fun y hy e he => ?_⟩
      · show (x :: z.2.1.map (·.2.2)).Nodup
        rw [List.nodup_cons, hl]
        exact ⟨fun q => by have := hlx x q; omega, by rw [← hl]; exact n3.1.2.2⟩
      · rw [w50]
        show Int32.ofNat (K + B + 1) = Int32.ofNat ((z.2.1.length + 1) + baseN R)
        rw [hKd, hBd]; congr 1; omega
      · rcases List.mem_cons.1 hy with q | q
        · rw [q] at he
          rcases List.mem_cons.1 he with q' | q'
          · rw [q']; exact nq _ _ hq
          · exact nq _ _ (n10 z (List.mem_cons_self) e q')
        · exact nq _ _ (n10 y (List.mem_cons_of_mem _ q) e he)
    have hf8 : (z.1 : Int) < lv σ 5 8 := by unfold lv; rw [hF.1, lz_lit (by have := hF.2.2.1; omega)]; omega
    have e58 : σ'.1 5 8 = σ.1 5 8 := oC 5 8 (by omega) (by omega) (by omega) (by omega)
    have tx : TX (z :: R) σ τ σ' τ' := scN_TX _ sn fC fM h.1.2.1 hc5 (fun k j q => oC k j (by omega) (by omega) (by omega) (by omega)) (fun q => by unfold lv; rw [xC 32 q (by omega) (by omega)]; exact Int.le_refl _) (fun k j q => oM k j (by rintro ⟨e | e, _⟩ <;> rw [e] at q <;> cases q) (by rintro ⟨e, _⟩; rw [e] at q; cases q)) (fun i => by rw [tC2]) (fun i => by rw [tM2])
    refine ⟨h.mk' fC fM nr ⟨by rw [e58]; exact hF.1, by rw [oM 0 34 (by omega) (by omega)]; exact hF.2.1, hF.2.2.1, fun q hq => ?_⟩ (fun y hy => ?_) ?_ (scN_SCr sn hSC hno e58 hf8) (hnd_eq h.2.1 (fun k j q => oC k j (by rintro ⟨e | e | e, _⟩ <;> rw [e] at q <;> cases q) (by rintro ⟨e1, e2, _⟩; have : k = 6 ∨ k = 5 := (by simp [hdC] at q; omega); omega) (by rintro ⟨e | e, _⟩ <;> rw [e] at q <;> cases q) (by rintro ⟨e1, e2⟩; rw [e1, e2] at q; cases q)) (fun k j q => oM k j (by rintro ⟨e | e, _⟩ <;> rw [e] at q <;> cases q) (by rintro ⟨e1, e2⟩; rw [e1, e2] at q; cases q))) h.2.2.1 (LPr_eq h.2.2.2.1 (fun k j q => by have : 50 ≤ k ∨ k = 6 := (by simp [lpC] at q; omega); exact xC k j (by omega) (by omega)) (fun k j q => oM k j (by rintro ⟨e | e, _⟩ <;> rw [e] at q <;> cases q) (by rintro ⟨e1, e2⟩; rw [e1, e2] at q; cases q)) (Nat.le_refl _) (Nat.le_refl _) (fun j _ => oM 21 j (by omega) (by omega))) h.2.2.2.2.1.1 ?_ h.2.2.2.2.2, ⟨tx, ⟨z, R, _, R, rfl, rfl, rfl, rfl, ⟨[], by simp⟩, lvX_rf R⟩, (Nat.le_refl _), (Nat.le_refl _), (Nat.le_refl _), (Nat.le_refl _), fz_eq (fun k j q1 q2 => xC k j (by omega) (by omega)) (fun k j q1 q2 => oM k j (by omega) (by omega))⟩, fun k j q => xC k j (by omega) (by omega), tC2, tM2⟩
    · obtain ⟨a1, a2, a3, a4, a5, a6, a7, a8⟩ := hF.2.2.2 q hq
      have y31 : lv σ' 31 q = lv σ 31 q := by unfold lv; rw [xC 31 q (by omega) (by omega)]
      exact ⟨by rw [xC 31 q (by omega) (by omega), oM 14 q (by omega) (by omega)]; exact a1, by rw [y31]; exact a2, by rw [y31]; exact a3, by rw [xC 33 q (by omega) (by omega), oM 15 q (by omega) (by omega)]; exact a4, by rw [xC 30 q (by omega) (by omega), oM 16 q (by omega) (by omega)]; exact a5, by rw [xC 30 q (by omega) (by omega)]; exact a6, by rw [xC 36 q (by omega) (by omega), oM 17 q (by omega) (by omega)]; exact a7, scN_FX sn a8 (xC 29 q (by omega) (by omega)) (xC 31 q (by omega) (by omega)) (xC 32 q (by omega) (by omega))⟩
    · rcases List.mem_cons.1 hy with q | q
      · rw [q]; exact hzF
      · exact h.1.2.2.2.2.1 y (List.mem_cons_of_mem _ q)
    · have y32 : ∀ q, lv σ' 32 q = lv σ 32 q := fun q => by unfold lv; rw [xC 32 q (by omega) (by omega)]
      refine ⟨⟨by rw [xC 49 _ (by omega) (by omega)]; exact hLv.1.1, by rw [y32]; exact hLv.1.2.1, hLv.1.2.2.1, fun y hy => ?_, hOp_cg (fun y k hy => (scN_opA sn z.1 y k).trans ⟨fun q => q.elim id (fun q => absurd q.2.1 (by omega)), Or.inl⟩) hLv.1.2.2.2.2.1, ⟨⟨S, by rw [hKd]; exact g47, by have := scN_ar sn; omega, (scN_ar sn).2.2.1, (scN_ar sn).2.2.2.1, (scN_ar sn).2.2.2.2.2.1⟩, scN_ksc sn (fun i hi => oC 47 _ (by omega) (by omega) (by omega) (by omega)) hLv.1.2.2.2.2.2.1⟩, ⟨by rw [xC 31 _ (by omega) (by omega)]; exact s1, s2, ?_, fun y hy => ?_⟩⟩, lvS_out (f := z.1) (fun q _ => xC 49 q (by omega) (by omega)) (fun q _ => by rw [y32]; exact Int.le_refl _) (fun q _ => xC 31 q (by omega) (by omega)) (fun q y k hq => (scN_opA sn q y k).trans (by simp [hq])) (fun q r hq hr => scN_ksc sn (fun i hi => oC 47 _ (by omega) (by omega) (by omega) (by omega))) (fun y hy => nmC_len hNR.1 y (List.mem_cons_of_mem _ hy)) hnd hLv.2⟩
      · rw [e42]
        show (openK σ z.1 y ∨ y = x) ↔ y ∈ x :: z.2.1.map (·.2.2)
        rw [hLv.1.2.2.2.1 y hy, List.mem_cons]
        exact Or.comm
      · show (x :: z.2.1.map (·.2.2)).Pairwise (· > ·)
        rw [List.pairwise_cons, hl]
        exact ⟨fun y hy => hlx y hy, s3⟩
      · have hy : y ∈ x :: z.2.1.map (·.2.2) := hy
        rcases List.mem_cons.1 hy with q | q
        · rw [q]; exact hx
        · rw [hl] at q; exact s4 y q
    · obtain ⟨⟨q1, q2, q3⟩, q4⟩ := h.2.2.2.2.1.2
      have ar := scN_ar sn
      refine ⟨⟨?_, q2, fun y hy => ?_⟩, ?_⟩
      · simp only [rsv]
        omega
      · have e8 : lv σ' 5 8 = lv σ 5 8 := by unfold lv; rw [e58]
        rw [e8]; exact q3 y hy
      · obtain ⟨a1, a2, a3, a4, a5⟩ := q4
        refine ⟨a1, a2, by simpa using a3, fun y hy => ?_, fun y hy => by simpa using a5 y hy⟩
        rcases List.mem_cons.1 hy with e | e
        · rw [e]; exact a4 ((nl, rv + 1), fl) (List.mem_cons_self)
        · exact a4 y (List.mem_cons_of_mem _ e)
