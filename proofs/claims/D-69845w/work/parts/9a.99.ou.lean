/-! outputs may come -/
def kqC (k j : Nat) : Bool := k == 5 || (Nat.ble 22 k && Nat.ble k 42) || k == 78 || (Nat.ble 82 k && Nat.ble k 98) || (k == 7 && j == 1) || (k == 8 && (j == 1 || j == 3 || j == 7 || j == 8 || j == 18 || j == 34 || j == 35))
def kqM (k j : Nat) : Bool := (Nat.ble 12 k && Nat.ble k 24) || (Nat.ble 58 k && Nat.ble k 82) || k == 87 || (k == 0 && (j == 110 || j == 111))
theorem MB.upo {σ0 τ0 σ τ : lj_S} {n np p : Nat} {r : List Nat} {FP : Nat → List kF} {ρ : Nat → Nat} {A MO LA : List Nat} (h : MB σ0 τ0 n np p r FP ρ A MO LA σ τ) {σ' τ' : lj_S} {n' : Nat} {ρ' : Nat → Nat} {MO' LA' : List Nat} (f : ∀ k j, kqC k j = true → σ'.1 k j = σ.1 k j ∧ σ'.2 k j = σ.2 k j) (g : ∀ k j, kqM k j = true → τ'.1 k j = τ.1 k j ∧ τ'.2 k j = τ.2 k j) (sl : ∀ j, (∀ q, ¬ lsL (FP q) j) → σ'.1 79 j = σ.1 79 j ∧ σ'.2 80 j = σ.2 80 j ∧ σ'.1 81 j = σ.1 81 j) (hr : ∀ q a, lsL (FP q) a → ρ' a = ρ a) (hG : sG σ τ σ' τ') (hO : oG σ τ σ' τ') (h62 : ∀ o, obA σ τ o 5 → σ'.1 62 o = σ.1 62 o) (h64 : ∀ o, obA σ τ o 6 → σ'.1 64 o = σ.1 64 o) (h6' : ∀ o, obA σ' τ' o 6 → obA σ τ o 6) (hn : n ≤ n') (gsM : sM σ' τ') (ghp : hpR σ' τ' n') (gob : obR σ' τ' n') (gfn : fnO σ0 τ0 σ' τ') (gcl : clR σ0 σ' τ' FP ρ' n') (gga : gaR σ' τ' n' FP (p :: r) A MO' LA') (gou : ouR σ' τ') : MB σ0 τ0 n' np p r FP ρ' A MO' LA' σ' τ' := by
  have hls := h.ls
  obtain ⟨h1, h2, h3, h4, h5, h6, h7, h8, h9, h10, h11, h12, h13⟩ := h
  have hv : ∀ a b, vR σ τ a b → vR σ' τ' a b := fun a b w => w.up hG hO
  have l70 : lv σ 7 0 = (n : Int) := h4.2.1
  have n2000 : n ≤ 2000 := h4.1
  have c : ∀ k j, kqC k j = true → σ'.1 k j = σ.1 k j := fun k j q => (f k j q).1
  have m : ∀ k j, kqM k j = true → τ'.1 k j = τ.1 k j := fun k j q => (g k j q).1
  have oA : ∀ o k, 1 ≤ o → o ≤ n → (obA σ' τ' o k ↔ obA σ τ o k) := fun o k o1 o2 => by
    have w := hO.2 o o1 (by omega) (by rw [l70]; omega)
    constructor
    · intro z
      exact ⟨z.1, z.2.1, by rw [l70]; omega, by rw [← w.1]; exact z.2.2.2.1, by rw [← w.2]; exact z.2.2.2.2⟩
    · exact fun z => z.up hO
  refine ⟨⟨fun k j q => ?_, fun k j q => ?_⟩, gsM, h3.up hG (fun j => c 78 j rfl) (c 8 1 rfl) (c 8 3 rfl), ghp, gob, gfn, ?_, fun q q1 q2 => ?_, ?_, gcl, gga, gou, fun j z => by rw [(sl j z).2.2]; exact h13.1 j z, h13.2.tr hG⟩
  · have := f k j (by unfold cdC at q; unfold kqC; simp at q ⊢; omega)
    have w := h1.1 k j q
    exact ⟨by rw [this.1]; exact w.1, by rw [this.2]; exact w.2⟩
  · have := g k j (by unfold cdM at q; unfold kqM; simp at q ⊢; omega)
    have w := h1.2 k j q
    exact ⟨by rw [this.1]; exact w.1, by rw [this.2]; exact w.2⟩
  · obtain ⟨⟨a1, a2, a3⟩, ⟨b1, b2⟩, ⟨c1, c2⟩, d1, d2, d3, d4, d5, d6, d7, d8, d9⟩ := h7
    refine ⟨⟨by rw [c 7 1 rfl]; exact a1, by rw [m 0 110 rfl]; exact a2, a3⟩, ⟨by rw [c 8 7 rfl]; exact b1, by rw [m 0 111 rfl]; exact b2⟩, ⟨by rw [c 83 p rfl]; exact c1, by rw [m 58 p rfl]; exact c2⟩, chn_cg (fun k q w => c k q (by rcases w with w | w | w <;> rw [w] <;> rfl)) (fun k q w => m k q (by rcases w with w | w | w | w <;> rw [w] <;> rfl)) d1 (fun q hq => rfl), d2, d3, by rw [c 8 18 rfl]; exact d4, d5, d6, by rw [m 59 0 rfl]; exact d7, ⟨fun q q1 q2 => ?_, fun o w => ?_⟩, fun q q1 q2 => ?_⟩
    · obtain ⟨o, o1, o2, o3, o4, o5, o6⟩ := d8.1 q q1 q2
      exact ⟨o, o1, by omega, by rw [c 85 q rfl]; exact o3, by rw [m 59 q rfl]; exact o4, fun w => (oA o 6 o1 o2).2 (o5 (by rw [← m 58 q rfl]; exact w)), fun w => by rw [h64 o ((oA o 6 o1 o2).1 w)]; exact o6 ((oA o 6 o1 o2).1 w)⟩
    · have w' := h6' o w
      obtain ⟨q, q1, q2, q3, q4⟩ := d8.2 o w'
      exact ⟨q, q1, q2, by rw [h64 o w']; exact q3, by rw [c 85 q rfl]; exact q4⟩
    · rw [c 83 q rfl, m 58 q rfl, c 88 q rfl, (f 89 q rfl).2, m 60 q rfl, (g 61 q rfl).2, c 87 q rfl, m 69 q rfl, m 70 q rfl, m 62 q rfl, c 85 q rfl]
      rcases d9 q q1 q2 with ⟨w1, w2, w3, w4, w5⟩ | w | ⟨w1, w2, w3, w4⟩
      · exact Or.inl ⟨w1, w2, w3, w4, hv _ _ w5⟩
      · exact Or.inr (Or.inl w)
      · refine Or.inr (Or.inr ⟨w1, w2, w3, w4.imp id (fun ⟨o, e0, e1, e2, e3⟩ => ⟨o, e0, e1, ?_, e3⟩)⟩)
        -- the object of the part is one of the old ones
        have q0 : 1 ≤ q := by
          rcases Nat.eq_zero_or_pos q with z | z
          · exfalso
            have : 0 ∈ p :: r := by
              have : ∀ (l : List Nat), chn σ0 σ τ FP l → 0 ∈ l := by
                intro l
                induction l with
                | nil => intro z; exact z.elim
                | cons a l ih =>
                  intro hc
                  cases l with
                  | nil => rw [show a = 0 from hc]; exact List.mem_cons_self
                  | cons b l => exact List.mem_cons_of_mem _ (ih hc.2.2.2)
              exact this _ d1
            rw [z] at q2
            exact q2 this
          · exact z
        obtain ⟨o', o1, o2, o3, _⟩ := d8.1 q q0 q1
        have : o = o' := by
          rw [e1] at o3
          exact (ofN_eq (by omega) (by omega)).1 o3
        rw [this] at e2 ⊢
        rw [(hO.2 o' o1 (by omega) (by rw [l70]; omega)).1]
        exact e2
  · have q2' : τ.1 58 q ≠ 4 := by rw [m 58 q rfl] at q2; exact q2
    obtain ⟨ce, me, mq, pr, ⟨b1, b2, b3, b4⟩, e8, e90, e63, e64, e62, e65⟩ := h8 q q1 q2'
    refine ⟨ce, me, mq, prt_cg hv hO h62 pr (fun j w1 w2 w3 => sl j (fun q' w => ?_)) (fun k i w1 w2 w3 => c k _ (by unfold kqC; simp; omega)) (fun j w => ⟨m 71 _ rfl, (g 72 _ rfl).2⟩) (fun j w => m 73 _ rfl) (fun k i w1 w2 w3 => m k _ (by unfold kqM; simp; omega)) (fun i x _ _ => m 87 _ rfl) (fun a w => hr q a w), ⟨b1, b2, b3, b4⟩, ?_, by rw [c 90 q rfl]; exact e90, by rw [m 63 q rfl]; exact e63, by rw [m 64 q rfl]; exact e64, by rw [m 62 q rfl]; exact e62, by rw [m 65 q rfl]; exact e65⟩
    · have := hls q' j w
      have : q' = q := by omega
      rw [this] at w
      exact w3 w
    · by_cases z : q = p
      · rw [if_pos z] at e8 ⊢; rw [c 8 8 rfl]; exact e8
      · rw [if_neg z] at e8 ⊢; rw [c 82 q rfl]; exact e8
  · cases e : FP p with
    | nil => rw [e] at h9; show σ'.1 8 34 = -1; rw [c 8 34 rfl]; exact h9
    | cons F L => rw [e] at h9; exact ⟨by rw [c 8 34 rfl]; exact h9.1, fun z => by rw [c 8 35 rfl]; exact h9.2 z⟩
def pzC (k j : Nat) : Bool := szC k j || otC k j
def pzM (k j : Nat) : Bool := szM k j || otM k j
theorem MB.ou {σ0 τ0 σ τ : lj_S} {n np p : Nat} {r : List Nat} {FP : Nat → List kF} {ρ : Nat → Nat} {A MO LA : List Nat} (h : MB σ0 τ0 n np p r FP ρ A MO LA σ τ) {σ' τ' : lj_S} (f : lf pzC σ σ') (g : lf pzM τ τ') (gou : ouR σ' τ') : MB σ0 τ0 n np p r FP ρ A MO LA σ' τ' := by
  have c : ∀ k j, ¬ (k = 14 ∨ k = 3 ∧ j = 6 ∨ k = 7 ∧ (j = 27 ∨ j = 28) ∨ (105 ≤ k ∧ k ≤ 108) ∨ k = 8 ∧ (j = 38 ∨ 41 ≤ j ∧ j ≤ 44) ∨ k = 2 ∨ k = 109 ∨ k = 8 ∧ j = 50) → σ'.1 k j = σ.1 k j ∧ σ'.2 k j = σ.2 k j := fun k j z => f k j (by unfold pzC otC; rw [szC_f (by omega)]; simp; omega)
  have m : ∀ k j, ¬ (k = 8 ∨ k = 0 ∧ (j = 20 ∨ j = 90 ∨ j = 91 ∨ 129 ≤ j ∧ j ≤ 145) ∨ (88 ≤ k ∧ k ≤ 91) ∨ k = 94 ∨ k = 0 ∧ j = 150) → τ'.1 k j = τ.1 k j ∧ τ'.2 k j = τ.2 k j := fun k j z => g k j (by unfold pzM otM; rw [szM_f (by omega)]; simp; omega)
  obtain ⟨hO, oA⟩ := oA_eq (σ := σ) (τ := τ) (σ' := σ') (τ' := τ') (c 7 0 (by omega)).1 (fun j => (c 57 j (by omega)).1) (fun j => (m 38 j (by omega)).1)
  have vC : ∀ k j, vqC k j = true → σ'.1 k j = σ.1 k j := fun k j q => (c k j (by unfold vqC at q; simp at q; omega)).1
  have vM : ∀ k j, vqM k j = true → τ'.1 k j = τ.1 k j := fun k j q => (m k j (by unfold vqM at q; simp at q; omega)).1
  have hv : ∀ a b, vR σ τ a b → vR σ' τ' a b := fun a b w => w.cg vC vM
  exact h.upo (fun k j q => c k j (by unfold kqC at q; simp at q; omega)) (fun k j q => m k j (by unfold kqM at q; simp at q; omega)) (fun j _ => ⟨(c 79 j (by omega)).1, (c 80 j (by omega)).2, (c 81 j (by omega)).1⟩) (fun _ _ _ => rfl) (sG_eq vC vM) hO (fun o _ => (c 62 o (by omega)).1) (fun o _ => (c 64 o (by omega)).1) (fun o w => (oA o 6).1 w) (Nat.le_refl _) (h.2.1.cg (fun k j q => (c k j (by unfold sqC at q; simp at q; omega)).1) (fun k j q => (m k j (by unfold sqM at q; simp at q; omega)).1)) (h.2.2.2.1.cg (fun k j q => c k j (by unfold hqC vqC at q; simp at q; omega)) (fun k j q => m k j (by unfold hqM vqM at q; simp at q; omega))) (h.2.2.2.2.1.cg (fun k j q => (c k j (by omega)).1) (fun k j q => (m k j (by omega)).1)) (fun o q w1 w2 w3 => h.2.2.2.2.2.1 o q ((oA o 5).1 w1) w2 (by rw [← (c 62 o (by omega)).1]; exact w3)) (h.2.2.2.2.2.2.2.2.2.1.cg hv (fun k j w => (c k j (by omega)).1) (fun j => (c 76 j (by omega)).2) (fun q s w => ⟨by unfold cv; rw [(c 79 s (by omega)).1, (c 80 s (by omega)).2], (c 81 s (by omega)).1⟩) (fun k j w => (m k j (by omega)).1) (fun j => (m 55 j (by omega)).2)) (h.2.2.2.2.2.2.2.2.2.2.1.cg (fun o k w => (oA o k).2 w) (fun k j w => (c k j (by omega)).1) (fun k j w => (m k j (by omega)).1) (fun j => (m 42 j (by omega)).2) (m 0 78 (by omega)).2 (fun q e e' w => w)) gou
