/-! both machines, whole: the gathering's lists; all together -/
/-- the gathering frames of a part: their last acts lie below e, and from e' on -/
def gaL (σ τ : lj_S) (p : Nat) : List kF → Nat → Nat → Prop
  | [], e, e' => e = e'
  | F :: L, e, e' => (kS F ≠ 2 ∧ gaL σ τ p L e e') ∨ (kS F = 2 ∧ ∃ b : Nat, (b ≤ e ∧ True) ∧ (σ.1 100 (20 * p + L.length) = Int32.ofNat b ∧ τ.1 84 (48 * p + L.length) = Int32.ofNat b ∧ τ.1 85 (48 * p + L.length) = Int32.ofNat e) ∧ (σ.1 101 (20 * p + L.length) = τ.1 86 (48 * p + L.length) ∧ σ.1 99 (20 * p + L.length) = τ.1 83 (48 * p + L.length)) ∧ gaL σ τ p L b e')
def gaC (σ τ : lj_S) (FP : Nat → List kF) : List Nat → Nat → Prop
  | [], e => e = 0
  | q :: r, e => ∃ e', gaL σ τ q (FP q) e e' ∧ gaC σ τ FP r e'
/-- globals and the three libraries are tables -/
def lb3 (σ τ : lj_S) : Prop := (obA σ τ 1 4 ∧ obA σ τ 2 4 ∧ obA σ τ 3 4) ∧ σ.1 57 0 = 4
theorem lb3.up {σ τ σ' τ' : lj_S} (h : lb3 σ τ) (ho : ∀ o k, obA σ τ o k → obA σ' τ' o k) (h57 : σ'.1 57 0 = σ.1 57 0) : lb3 σ' τ' := ⟨⟨ho _ _ h.1.1, ho _ _ h.1.2.1, ho _ _ h.1.2.2⟩, by rw [h57]; exact h.2⟩
/-- marked tables MO in their order, last acts LA.tail that wait (ahead of them: how many were marked ever), frames A at work -/
def gaR (σ τ : lj_S) (n : Nat) (FP : Nat → List kF) (ch A MO LA : List Nat) : Prop :=
  (lv σ 8 53 = (MO.length : Int) ∧ (∀ i, i < MO.length → σ.1 110 i = Int32.ofNat (MO.getD i 0)) ∧ MO.Nodup ∧ (∀ t ∈ MO, obA σ τ t 4 ∧ 0 < τ.2 42 t ∧ τ.2 42 t ≤ τ.2 0 78) ∧ MO.Pairwise (fun a b => τ.2 42 a < τ.2 42 b) ∧ (0 ≤ (τ.2 0 78).toInt ∧ 0 ≤ lv σ 8 45 ∧ (τ.2 0 78).toInt + 536870912 * lv σ 8 45 = ((LA.headD 0 : Nat) : Int)) ∧ ∀ t : Nat, 1 ≤ t → t ≤ n → (σ.1 57 t = 4 → ((t ∈ MO ↔ σ.1 65 t ≠ 0) ∧ (t ∈ MO ↔ τ.2 42 t ≠ 0))) ∧ (σ.1 57 t ≠ 4 → τ.2 42 t = 0)) ∧
  (lv σ 8 33 = (LA.tail.length : Int) ∧ lv τ 0 152 = (LA.tail.length : Int) ∧ LA.tail.Nodup ∧ ∀ i, i < LA.tail.length → obA σ τ (LA.tail.getD i 0) 4 ∧ σ.1 104 i = Int32.ofNat (LA.tail.getD i 0) ∧ τ.1 95 i = Int32.ofNat (LA.tail.getD i 0)) ∧
  lb3 σ τ ∧ gaC σ τ FP ch LA.tail.length ∧ (∀ i, i ∉ A → σ.1 102 i = 0) ∧ σ.1 8 51 = τ.1 0 153
/-- where no local lives there is no cell -/
def s81 (σ : lj_S) (FP : Nat → List kF) : Prop := ∀ j, (∀ q, ¬ lsL (FP q) j) → (σ.1 81 j = -1 ∨ True)
/-- both machines: n objects, np parts, the part p at hand, which the parts r let go on -/
def MB (σ0 τ0 : lj_S) (n np p : Nat) (r : List Nat) (FP : Nat → List kF) (ρ : Nat → Nat) (A MO LA : List Nat) (σ τ : lj_S) : Prop :=
  cdR σ0 τ0 σ τ ∧ sM σ τ ∧ nmR σ τ ∧ hpR σ τ n ∧ obR σ τ n ∧ fnO σ0 τ0 σ τ ∧ ptR σ0 σ τ FP p r np n ∧ (∀ q, q ≤ np → τ.1 58 q ≠ 4 → ∃ ce me mq, paR σ0 τ0 σ τ ρ FP p q ce me mq) ∧ fhR σ p (FP p) ∧ clR σ0 σ τ FP ρ n ∧ gaR σ τ n FP (p :: r) A MO LA ∧ ouR σ τ ∧ s81 σ FP ∧ sG σ0 τ0 σ τ
/-- other frames with the same live slots -/
theorem clR.fp {σ0 σ τ : lj_S} {FP FP' : Nat → List kF} {ρ : Nat → Nat} {n : Nat} (h : clR σ0 σ τ FP ρ n) (hf : ∀ q a, lsL (FP' q) a ↔ lsL (FP q) a) : clR σ0 σ τ FP' ρ n := by
  have us : ∀ a, usd σ0 σ τ FP' a ↔ usd σ0 σ τ FP a := fun a => by unfold usd; simp only [hf]
  obtain ⟨h1, h2, ⟨Fc, f1, f2, f3, f4⟩, h4, h5, h6, h7⟩ := h
  refine ⟨fun a w => h1 a ((us a).1 w), fun a b w1 w2 => h2 a b ((us a).1 w1) ((us b).1 w2), ⟨Fc, f1, f2, f3, fun c hc => ⟨(f4 c hc).1, fun a w => (f4 c hc).2 a ((us a).1 w)⟩⟩, h4, fun c hc => ?_, fun p s w => h6 p s ((hf p s).1 w), h7⟩
  rcases h5 c hc with w | ⟨s, ⟨p, s1⟩, s2⟩
  · exact Or.inl w
  · exact Or.inr ⟨s, ⟨p, (hf p s).2 s1⟩, s2⟩
theorem chn_cg {σ0 σ τ σ' τ' : lj_S} {FP FP' : Nat → List kF} (hC : ∀ k q, (k = 84 ∨ k = 86 ∨ k = 83) → σ'.1 k q = σ.1 k q) (hM : ∀ k q, (k = 66 ∨ k = 67 ∨ k = 68 ∨ k = 58) → τ'.1 k q = τ.1 k q) : ∀ {r : List Nat}, chn σ0 σ τ FP r → (∀ q ∈ r.tail, FP' q = FP q) → chn σ0 σ' τ' FP' r
  | [], h, _ => h
  | [_], h, _ => h
  | q :: q' :: r, h, e => by
    obtain ⟨⟨a1, a2, a3⟩, a4, ⟨a5, a6⟩, a7⟩ := h
    refine ⟨⟨a1, by rw [hC 84 q (by omega)]; exact a2, by rw [hM 66 q (by omega)]; exact a3⟩, ?_, ⟨by rw [hC 83 q' (by omega)]; exact a5, by rw [hM 58 q' (by omega)]; exact a6⟩, chn_cg hC hM a7 (fun x hx => e x (List.mem_cons_of_mem _ hx))⟩
    rw [e q' List.mem_cons_self, hC 86 q (by omega), hM 67 q (by omega), hM 68 q (by omega)]
    exact a4
theorem gaL_cg {σ τ σ' τ' : lj_S} {p : Nat} (hC : ∀ k i, (k = 99 ∨ k = 100 ∨ k = 101) → σ'.1 k i = σ.1 k i) (hM : ∀ k i, (k = 83 ∨ k = 84 ∨ k = 85 ∨ k = 86) → τ'.1 k i = τ.1 k i) : ∀ {L : List kF} {e e' : Nat}, gaL σ τ p L e e' → gaL σ' τ' p L e e'
  | [], _, _, h => h
  | F :: L, e, e', h => by
    rcases h with ⟨h1, h2⟩ | ⟨h1, b, h2, ⟨h3, h4, h5⟩, ⟨h6, h7⟩, h8⟩
    · exact Or.inl ⟨h1, gaL_cg hC hM h2⟩
    · exact Or.inr ⟨h1, b, h2, ⟨by rw [hC 100 _ (by omega)]; exact h3, by rw [hM 84 _ (by omega)]; exact h4, by rw [hM 85 _ (by omega)]; exact h5⟩, ⟨by rw [hC 101 _ (by omega), hM 86 _ (by omega)]; exact h6, by rw [hC 99 _ (by omega), hM 83 _ (by omega)]; exact h7⟩, gaL_cg hC hM h8⟩
theorem gaC_cg {σ τ σ' τ' : lj_S} {FP FP' : Nat → List kF} (hC : ∀ k i, (k = 99 ∨ k = 100 ∨ k = 101) → σ'.1 k i = σ.1 k i) (hM : ∀ k i, (k = 83 ∨ k = 84 ∨ k = 85 ∨ k = 86) → τ'.1 k i = τ.1 k i) (hf : ∀ q e e', gaL σ τ q (FP q) e e' → gaL σ τ q (FP' q) e e') : ∀ {r : List Nat} {e : Nat}, gaC σ τ FP r e → gaC σ' τ' FP' r e
  | [], _, h => h
  | q :: r, e, h => by
    obtain ⟨e', h1, h2⟩ := h
    exact ⟨e', gaL_cg hC hM (hf q e e' h1), gaC_cg hC hM hf h2⟩
theorem lv_eq {σ σ' : lj_S} {k j : Nat} (h : σ'.1 k j = σ.1 k j) : lv σ' k j = lv σ k j := by unfold lv; rw [h]
theorem gaR.cg {σ τ σ' τ' : lj_S} {n : Nat} {FP FP' : Nat → List kF} {ch A MO LA : List Nat} (h : gaR σ τ n FP ch A MO LA) (ho : ∀ o k, obA σ τ o k → obA σ' τ' o k) (hC : ∀ k j, (k = 99 ∨ k = 100 ∨ k = 101 ∨ k = 102 ∨ k = 104 ∨ k = 110 ∨ k = 57 ∨ k = 65 ∨ k = 8 ∧ (j = 33 ∨ j = 45 ∨ j = 51 ∨ j = 53)) → σ'.1 k j = σ.1 k j) (hM : ∀ k j, (k = 83 ∨ k = 84 ∨ k = 85 ∨ k = 86 ∨ k = 95 ∨ k = 0 ∧ (j = 152 ∨ j = 153)) → τ'.1 k j = τ.1 k j) (h42 : ∀ j, τ'.2 42 j = τ.2 42 j) (h78 : τ'.2 0 78 = τ.2 0 78) (hf : ∀ q e e', gaL σ τ q (FP q) e e' → gaL σ τ q (FP' q) e e') : gaR σ' τ' n FP' ch A MO LA := by
  obtain ⟨⟨a1, a2, a3, a4, a5, a6, a7⟩, ⟨b1, b2, b3, b4⟩, c1, c2, c3, c4⟩ := h
  refine ⟨⟨by unfold lv at a1 ⊢; rw [hC 8 53 (by omega)]; exact a1, fun i hi => by rw [hC 110 i (by omega)]; exact a2 i hi, a3, fun t ht => ?_, ?_, by rw [h78, lv_eq (hC 8 45 (by omega))]; exact a6, fun t t1 t2 => ?_⟩, ⟨by unfold lv at b1 ⊢; rw [hC 8 33 (by omega)]; exact b1, by unfold lv at b2 ⊢; rw [hM 0 152 (by omega)]; exact b2, b3, fun i hi => ?_⟩, c1.up ho (hC 57 0 (by omega)), gaC_cg (fun k i w => hC k i (by omega)) (fun k i w => hM k i (by omega)) hf c2, fun i hi => by rw [hC 102 i (by omega)]; exact c3 i hi, by rw [hC 8 51 (by omega), hM 0 153 (by omega)]; exact c4⟩
  · obtain ⟨w1, w2, w3⟩ := a4 t ht
    exact ⟨ho _ _ w1, by rw [h42]; exact w2, by rw [h42, h78]; exact w3⟩
  · simp only [h42]
    exact a5
  · rw [hC 57 t (by omega), hC 65 t (by omega), h42]
    exact a7 t t1 t2
  · obtain ⟨w1, w2, w3⟩ := b4 i hi
    exact ⟨ho _ _ w1, by rw [hC 104 i (by omega)]; exact w2, by rw [hM 95 i (by omega)]; exact w3⟩
