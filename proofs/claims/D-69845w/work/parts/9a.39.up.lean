/-! other heaps, strings and variables: what the frames rest on stays -/
theorem hpR.us {σ τ σ' τ' : lj_S} {n : Nat} (h : hpR σ τ n) (hC : ∀ k j, (hwC k j || (k == 7 && j == 0)) = true → σ'.1 k j = σ.1 k j ∧ σ'.2 k j = σ.2 k j) (hM : ∀ k j, (hwM k j || k == 53 || (k == 0 && j == 77)) = true → τ'.1 k j = τ.1 k j ∧ τ'.2 k j = τ.2 k j) (hv : ∀ a b, vR σ τ a b → vR σ' τ' a b) (h57 : ∀ t, t ≤ n → (σ'.1 57 t ≠ 4 → σ.1 57 t ≠ 4)) : hpR σ' τ' n := by
  obtain ⟨h1, h2, h3, P, B, Fr, P', B', Fr', hc, hm, hl, he⟩ := h
  have lC : ∀ k j, (hwC k j || (k == 7 && j == 0)) = true → lv σ' k j = lv σ k j := fun k j q => by unfold lv; rw [(hC k j q).1]
  have lM : ∀ k j, (hwM k j || k == 53 || (k == 0 && j == 77)) = true → lv τ' k j = lv τ k j := fun k j q => by unfold lv; rw [(hM k j q).1]
  refine ⟨h1, by rw [lC 7 0 rfl]; exact h2, by rw [lM 0 77 rfl]; exact h3, P, B, Fr, P', B', Fr', ⟨hpC_cg hc.1 (fun k j q => (hC k j (by rcases q with q | q | q | q | q | q | q <;> rw [q] <;> rfl)).1) (fun j => (hC 67 j rfl).2), ⟨?_, by rw [lC 7 11 rfl]; exact hc.2.1.2.1, hc.2.1.2.2⟩, fun t ht => by rw [lC 61 t rfl]; exact hc.2.2 t ht⟩, ⟨hpM_cg hm.1 (fun k j q => (hM k j (by rcases q with q | q | q | q | q | q | q <;> rw [q] <;> rfl)).1) (fun j => (hM 46 j rfl).2), fsM_cg (fun j => (hM 53 j rfl).1) hm.2.1, by rw [lM 0 88 rfl]; exact hm.2.2.1, by rw [lM 0 89 rfl]; exact hm.2.2.2.1, hm.2.2.2.2⟩, ⟨hl.1, fun i hi => by rw [(hC 66 i rfl).1]; exact hl.2.1 i hi, fun t ht z => hl.2.2 t ht (h57 t ht z)⟩, fun t ht => ?_⟩
  · have : lv σ' 70 = lv σ 70 := by funext j; exact lC 70 j rfl
    rw [this, lC 7 12 rfl]
    exact hc.2.1.1
  · have e1 : enC σ' = enC σ := by funext p; unfold enC; rw [(hC 66 p rfl).1, (hC 67 p rfl).2, (hC 68 p rfl).1, (hC 69 p rfl).2]
    have e2 : enM τ' = enM τ := by funext p; unfold enM; rw [(hM 45 p rfl).1, (hM 46 p rfl).2, (hM 47 p rfl).1, (hM 48 p rfl).2]
    rw [e1, e2]
    exact eR_up (he t ht) (fun p _ q _ w => w.mo hv)
/-- the slots of locals lie in their parts -/
theorem MB.ls {σ0 τ0 σ τ : lj_S} {n np p : Nat} {r : List Nat} {FP : Nat → List kF} {ρ : Nat → Nat} {A MO LA : List Nat} (h : MB σ0 τ0 n np p r FP ρ A MO LA σ τ) (q s : Nat) (w : lsL (FP q) s) : 12500 * q ≤ s ∧ s < 12500 * q + 12500 ∧ q ≤ np := by
  obtain ⟨h1, h2, h3, h4, h5, h6, h7, h8, h9, h10, h11, h12, h13⟩ := h
  by_cases y : q ≤ np ∧ τ.1 58 q ≠ 4
  · obtain ⟨ce1, me1, mq1, q1, ⟨_, q2, _⟩, _⟩ := h8 q y.1 y.2
    have := (prt_rg q1).2 s w
    exact ⟨by omega, by omega, y.1⟩
  · have : (12500 * q ≤ s ∧ s < 12500 * q + 12500 ∧ q ≤ np) ∨ FP q = [] := by
      by_cases y1 : q ≤ np
      · have y2 : τ.1 58 q = 4 := by
          by_cases y3 : τ.1 58 q = 4
          · exact y3
          · exact absurd ⟨y1, y3⟩ y
        have hn : q ∉ p :: r := fun hm => by
          rcases List.mem_cons.1 hm with e | e
          · rw [e, h7.2.2.1.2] at y2
            exact absurd y2 (by decide)
          · have : ∀ (l : List Nat) (a : Nat), chn σ0 σ τ FP (a :: l) → q ∈ l → τ.1 58 q = 3 := by
              intro l
              induction l with
              | nil => intro a _ hq; cases hq
              | cons b l ih =>
                intro a hc hq
                rcases List.mem_cons.1 hq with e | e
                · rw [e]; exact hc.2.2.1.2
                · exact ih b hc.2.2.2 e
            have := this r p h7.2.2.2.1 e
            rw [y2] at this
            exact absurd this (by decide)
        rcases h7.2.2.2.2.2.2.2.2.2.2.2 q y1 hn with v | v | v
        · exact Or.inr v.2.2.1
        · rw [v.2.1] at y2; exact absurd y2 (by decide)
        · exact Or.inl ⟨(v.2.2.1.2 s w).1, (v.2.2.1.2 s w).2, y1⟩
      · exact Or.inr (h7.2.2.2.2.2.2.2.2.1 q (by omega))
    rcases this with z | z
    · exact z
    · exact absurd z (lsL_ne w)
/-- what the frames and parts rest on -/
def kpC (k j : Nat) : Bool := k == 5 || (Nat.ble 22 k && Nat.ble k 42) || k == 78 || (Nat.ble 82 k && Nat.ble k 98) || k == 109 || (k == 7 && j == 1) || (k == 8 && (j == 1 || j == 3 || j == 7 || j == 8 || j == 18 || j == 34 || j == 35 || j == 50))
def kpM (k j : Nat) : Bool := (Nat.ble 12 k && Nat.ble k 24) || (Nat.ble 58 k && Nat.ble k 82) || k == 87 || k == 94 || (k == 0 && (j == 110 || j == 111 || j == 150))
set_option maxHeartbeats 1000000 in
theorem MB.up {σ0 τ0 σ τ : lj_S} {n np p : Nat} {r : List Nat} {FP : Nat → List kF} {ρ : Nat → Nat} {A MO LA : List Nat} (h : MB σ0 τ0 n np p r FP ρ A MO LA σ τ) {σ' τ' : lj_S} {n' : Nat} {ρ' : Nat → Nat} {MO' LA' : List Nat} (f : ∀ k j, kpC k j = true → σ'.1 k j = σ.1 k j ∧ σ'.2 k j = σ.2 k j) (g : ∀ k j, kpM k j = true → τ'.1 k j = τ.1 k j ∧ τ'.2 k j = τ.2 k j) (sl : ∀ j, (∀ q, ¬ lsL (FP q) j) → σ'.1 79 j = σ.1 79 j ∧ σ'.2 80 j = σ.2 80 j ∧ σ'.1 81 j = σ.1 81 j) (hr : ∀ q a, lsL (FP q) a → ρ' a = ρ a) (hG : sG σ τ σ' τ') (hO : oG σ τ σ' τ') (h62 : ∀ o, obA σ τ o 5 → σ'.1 62 o = σ.1 62 o) (h64 : ∀ o, obA σ τ o 6 → σ'.1 64 o = σ.1 64 o) (h6' : ∀ o, obA σ' τ' o 6 → obA σ τ o 6) (hn : n ≤ n') (gsM : sM σ' τ') (ghp : hpR σ' τ' n') (gob : obR σ' τ' n') (gfn : fnO σ0 τ0 σ' τ') (gcl : clR σ0 σ' τ' FP ρ' n') (gga : gaR σ' τ' n' FP (p :: r) A MO' LA') : MB σ0 τ0 n' np p r FP ρ' A MO' LA' σ' τ' := by
  have hls := h.ls
  obtain ⟨h1, h2, h3, h4, h5, h6, h7, h8, h9, h10, h11, h12, h13⟩ := h
  have hv : ∀ a b, vR σ τ a b → vR σ' τ' a b := fun a b w => w.up hG hO
  have l70 : lv σ 7 0 = (n : Int) := h4.2.1
  have n2000 : n ≤ 2000 := h4.1
  have c : ∀ k j, kpC k j = true → σ'.1 k j = σ.1 k j := fun k j q => (f k j q).1
  have m : ∀ k j, kpM k j = true → τ'.1 k j = τ.1 k j := fun k j q => (g k j q).1
  have oA : ∀ o k, 1 ≤ o → o ≤ n → (obA σ' τ' o k ↔ obA σ τ o k) := fun o k o1 o2 => by
    have w := hO.2 o o1 (by omega) (by rw [l70]; omega)
    constructor
    · intro z
      exact ⟨z.1, z.2.1, by rw [l70]; omega, by rw [← w.1]; exact z.2.2.2.1, by rw [← w.2]; exact z.2.2.2.2⟩
    · exact fun z => z.up hO
  refine ⟨⟨fun k j q => ?_, fun k j q => ?_⟩, gsM, h3.up hG (fun j => c 78 j rfl) (c 8 1 rfl) (c 8 3 rfl), ghp, gob, gfn, ?_, fun q q1 q2 => ?_, ?_, gcl, gga, ?_, fun j z => by rw [(sl j z).2.2]; exact h13.1 j z, h13.2.tr hG⟩
  · have := f k j (by unfold cdC at q; unfold kpC; simp at q ⊢; omega)
    have w := h1.1 k j q
    exact ⟨by rw [this.1]; exact w.1, by rw [this.2]; exact w.2⟩
  · have := g k j (by unfold cdM at q; unfold kpM; simp at q ⊢; omega)
    have w := h1.2 k j q
    exact ⟨by rw [this.1]; exact w.1, by rw [this.2]; exact w.2⟩
  · obtain ⟨⟨a1, a2, a3⟩, ⟨b1, b2⟩, ⟨c1, c2⟩, d1, d2, d3, d4, d5, d6, d7, d8, d9⟩ := h7
    refine ⟨⟨by rw [c 7 1 rfl]; exact a1, by rw [m 0 110 rfl]; exact a2, a3⟩, ⟨by rw [c 8 7 rfl]; exact b1, by rw [m 0 111 rfl]; exact b2⟩, ⟨by rw [c 83 p rfl]; exact c1, by rw [m 58 p rfl]; exact c2⟩, chn_cg (fun k q w => c k q (by rcases w with w | w | w <;> rw [w] <;> rfl)) (fun k q w => m k q (by rcases w with w | w | w | w <;> rw [w] <;> rfl)) d1 (fun q hq => rfl), d2, d3, by rw [c 8 18 rfl]; exact d4, d5, d6, by rw [m 59 0 rfl]; exact d7, ⟨fun q q1 q2 => ?_, fun o w => ?_⟩, fun q q1 q2 => ?_⟩
    · obtain ⟨o, o1, o2, o3, o4, o5, o6⟩ := d8.1 q q1 q2
      exact ⟨o, o1, by omega, by rw [c 85 q rfl]; exact o3, by rw [m 59 q rfl]; exact o4, fun w => (oA o 6 o1 o2).2 (o5 (by rw [← m 58 q rfl]; exact w)), fun w => by rw [h64 o ((oA o 6 o1 o2).1 w)]; exact o6 ((oA o 6 o1 o2).1 w)⟩
    · have w' := h6' o w
      obtain ⟨q, q1, q2, q3, q4⟩ := d8.2 o w'
      exact ⟨q, q1, q2, by rw [h64 o w']; exact q3, by rw [c 85 q rfl]; exact q4⟩
    · rw [c 83 q rfl, m 58 q rfl, c 88 q rfl, (f 89 q rfl).2, m 60 q rfl, (g 61 q rfl).2, c 87 q rfl, m 69 q rfl, m 70 q rfl, m 62 q rfl, c 85 q rfl]
      rcases d9 q q1 q2 with ⟨w1, w2, w3, w4, w5⟩ | w | ⟨w1, w2, w3, w4⟩
      · exact Or.inl ⟨w1, w2, w3, w4, hv _ _ w5⟩
      · exact Or.inr (Or.inl w)
      · refine Or.inr (Or.inr ⟨w1, w2, w3, w4.imp id (fun ⟨o, e0, e1, e2, e3⟩ => ⟨o, e0, e1, ?_, e3⟩)⟩)
        -- the object of the part is one of the old ones
        have q0 : 1 ≤ q := by
          rcases Nat.eq_zero_or_pos q with z | z
          · exfalso
            have : 0 ∈ p :: r := by
              have : ∀ (l : List Nat), chn σ0 σ τ FP l → 0 ∈ l := by
                intro l
                induction l with
                | nil => intro z; exact z.elim
                | cons a l ih =>
                  intro hc
                  cases l with
                  | nil => rw [show a = 0 from hc]; exact List.mem_cons_self
                  | cons b l => exact List.mem_cons_of_mem _ (ih hc.2.2.2)
              exact this _ d1
            rw [z] at q2
            exact q2 this
          · exact z
        obtain ⟨o', o1, o2, o3, _⟩ := d8.1 q q0 q1
        have : o = o' := by
          rw [e1] at o3
          exact (ofN_eq (by omega) (by omega)).1 o3
        rw [this] at e2 ⊢
        rw [(hO.2 o' o1 (by omega) (by rw [l70]; omega)).1]
        exact e2
  · have q2' : τ.1 58 q ≠ 4 := by rw [m 58 q rfl] at q2; exact q2
    obtain ⟨ce, me, mq, pr, ⟨b1, b2, b3, b4⟩, e8, e90, e63, e64, e62, e65⟩ := h8 q q1 q2'
    refine ⟨ce, me, mq, prt_cg hv hO h62 pr (fun j w1 w2 w3 => sl j (fun q' w => ?_)) (fun k i w1 w2 w3 => c k _ (by unfold kpC; simp; omega)) (fun j w => ⟨m 71 _ rfl, (g 72 _ rfl).2⟩) (fun j w => m 73 _ rfl) (fun k i w1 w2 w3 => m k _ (by unfold kpM; simp; omega)) (fun i x _ _ => m 87 _ rfl) (fun a w => hr q a w), ⟨b1, b2, b3, b4⟩, ?_, by rw [c 90 q rfl]; exact e90, by rw [m 63 q rfl]; exact e63, by rw [m 64 q rfl]; exact e64, by rw [m 62 q rfl]; exact e62, by rw [m 65 q rfl]; exact e65⟩
    · have := hls q' j w
      have : q' = q := by omega
      rw [this] at w
      exact w3 w
    · by_cases z : q = p
      · rw [if_pos z] at e8 ⊢; rw [c 8 8 rfl]; exact e8
      · rw [if_neg z] at e8 ⊢; rw [c 82 q rfl]; exact e8
  · cases e : FP p with
    | nil => rw [e] at h9; show σ'.1 8 34 = -1; rw [c 8 34 rfl]; exact h9
    | cons F L => rw [e] at h9; exact ⟨by rw [c 8 34 rfl]; exact h9.1, fun z => by rw [c 8 35 rfl]; exact h9.2 z⟩
  · have e : lv σ' 8 50 = lv σ 8 50 := by unfold lv; rw [c 8 50 rfl]
    refine ⟨by rw [c 8 50 rfl, m 0 150 rfl]; exact h12.1, by rw [e]; exact h12.2.1, fun j j1 j2 => ?_⟩
    rw [c 109 j rfl, m 94 j rfl]
    exact h12.2.2 j j1 (by rw [e] at j2; exact j2)
/-- objects stay as they are: strings, scratch and values alone may be others -/
theorem oA_eq {σ τ σ' τ' : lj_S} (h70 : σ'.1 7 0 = σ.1 7 0) (h57 : ∀ j, σ'.1 57 j = σ.1 57 j) (h38 : ∀ j, τ'.1 38 j = τ.1 38 j) : oG σ τ σ' τ' ∧ ∀ o k, obA σ' τ' o k ↔ obA σ τ o k := by
  refine ⟨⟨?_, fun o _ _ _ => ⟨h57 o, h38 o⟩⟩, fun o k => ?_⟩
  · unfold lv; rw [h70]; exact Int.le_refl _
  · unfold obA lv; rw [h70, h57, h38]
theorem MB.st {σ0 τ0 σ τ : lj_S} {n np p : Nat} {r : List Nat} {FP : Nat → List kF} {ρ : Nat → Nat} {A MO LA : List Nat} (h : MB σ0 τ0 n np p r FP ρ A MO LA σ τ) {σ' τ' : lj_S} (f : lf erC σ σ') (g : lf erM τ τ') (hG : sG σ τ σ' τ') (gsM : sM σ' τ') : MB σ0 τ0 n np p r FP ρ A MO LA σ' τ' := by
  have c : ∀ k j, ¬ (k = 14 ∨ k = 3 ∨ 9 ≤ k ∧ k ≤ 15 ∨ k = 2 ∨ k = 8 ∧ (j = 42 ∨ j = 43)) → σ'.1 k j = σ.1 k j ∧ σ'.2 k j = σ.2 k j := fun k j z => f k j (by unfold erC cAc cAd cAs; simp; omega)
  have m : ∀ k j, ¬ (2 ≤ k ∧ k ≤ 8 ∨ k = 0 ∧ (j = 8 ∨ j = 14 ∨ j = 17 ∨ j = 18 ∨ j = 20 ∨ j = 129 ∨ 141 ≤ j ∧ j ≤ 143)) → τ'.1 k j = τ.1 k j ∧ τ'.2 k j = τ.2 k j := fun k j z => g k j (by unfold erM mAc mAd mAs; simp; omega)
  obtain ⟨hO, oA⟩ := oA_eq (c 7 0 (by omega)).1 (fun j => (c 57 j (by omega)).1) (fun j => (m 38 j (by omega)).1)
  have hv : ∀ a b, vR σ τ a b → vR σ' τ' a b := fun a b w => w.up hG hO
  refine h.up (fun k j q => c k j (by unfold kpC at q; simp at q; omega)) (fun k j q => m k j (by unfold kpM at q; simp at q; omega)) (fun j _ => ⟨(c 79 j (by omega)).1, (c 80 j (by omega)).2, (c 81 j (by omega)).1⟩) (fun _ _ _ => rfl) hG hO (fun o _ => (c 62 o (by omega)).1) (fun o _ => (c 64 o (by omega)).1) (fun o w => (oA o 6).1 w) (Nat.le_refl _) gsM (h.2.2.2.1.us (fun k j q => c k j (by unfold hwC at q; simp at q; omega)) (fun k j q => m k j (by unfold hwM at q; simp at q; omega)) hv (fun t _ z => by rw [← (c 57 t (by omega)).1]; exact z)) (h.2.2.2.2.1.cg (fun k j q => (c k j (by omega)).1) (fun k j q => (m k j (by omega)).1)) (fun o q w1 w2 w3 => h.2.2.2.2.2.1 o q ((oA o 5).1 w1) w2 (by rw [← (c 62 o (by omega)).1]; exact w3)) (h.2.2.2.2.2.2.2.2.2.1.cg hv (fun k j w => (c k j (by omega)).1) (fun j => (c 76 j (by omega)).2) (fun q s w => ⟨by unfold cv; rw [(c 79 s (by omega)).1, (c 80 s (by omega)).2], (c 81 s (by omega)).1⟩) (fun k j w => (m k j (by omega)).1) (fun j => (m 55 j (by omega)).2)) (h.2.2.2.2.2.2.2.2.2.2.1.cg (fun o k w => (oA o k).2 w) (fun k j w => (c k j (by omega)).1) (fun k j w => (m k j (by omega)).1) (fun j => (m 42 j (by omega)).2) (m 0 78 (by omega)).2 (fun q e e' w => w))
/-- what questions look at -/
def QR (σ τ : lj_S) (n : Nat) : Prop :=
  sM σ τ ∧ hpR σ τ n ∧ obR σ τ n ∧ ouR σ τ ∧ (σ.1 8 51 = τ.1 0 153 ∧ ∃ MO : List Nat, lv σ 8 53 = (MO.length : Int) ∧ MO.Nodup ∧ (∀ t ∈ MO, obA σ τ t 4 ∧ 0 < τ.2 42 t) ∧ ∀ t : Nat, 1 ≤ t → t ≤ n → (σ.1 57 t = 4 → (t ∈ MO ↔ τ.2 42 t ≠ 0)) ∧ (σ.1 57 t ≠ 4 → τ.2 42 t = 0)) ∧
  (∀ o, obA σ τ o 6 → ∃ q : Nat, 1 ≤ q ∧ q < 26 ∧ σ.1 64 o = Int32.ofNat q ∧ σ.1 83 q = τ.1 58 q) ∧ σ.2 8 44 = τ.2 0 145
def qrC (k j : Nat) : Bool := sqC k j || hqC k j || k == 58 || k == 62 || k == 64 || k == 83 || k == 109 || (k == 8 && (j == 44 || j == 50 || j == 51 || j == 53))
def qrM (k j : Nat) : Bool := sqM k j || hqM k j || k == 39 || k == 42 || k == 43 || k == 58 || k == 94 || (k == 0 && (j == 145 || j == 150 || j == 153))
theorem QR.cg {σ τ σ' τ' : lj_S} {n : Nat} (h : QR σ τ n) (f : ∀ k j, qrC k j = true → σ'.1 k j = σ.1 k j ∧ σ'.2 k j = σ.2 k j) (g : ∀ k j, qrM k j = true → τ'.1 k j = τ.1 k j ∧ τ'.2 k j = τ.2 k j) : QR σ' τ' n := by
  obtain ⟨h1, h2, h3, h4, ⟨h5, MO, m1, m2, m3, m4⟩, h6, h7⟩ := h
  obtain ⟨hO, oA⟩ := oA_eq (σ := σ) (τ := τ) (σ' := σ') (τ' := τ') (f 7 0 rfl).1 (fun j => (f 57 j rfl).1) (fun j => (g 38 j rfl).1)
  refine ⟨h1.cg (fun k j q => (f k j (by unfold qrC; rw [q]; rfl)).1) (fun k j q => (g k j (by unfold qrM; rw [q]; rfl)).1), h2.cg (fun k j q => f k j (by unfold qrC; rw [q]; simp)) (fun k j q => g k j (by unfold qrM; rw [q]; simp)), h3.cg (fun k j q => ?_) (fun k j q => ?_), ?_, ⟨by rw [(f 8 51 rfl).1, (g 0 153 rfl).1]; exact h5, MO, by unfold lv at m1 ⊢; rw [(f 8 53 rfl).1]; exact m1, m2, fun t ht => ⟨(oA t 4).2 (m3 t ht).1, by rw [(g 42 t rfl).2]; exact (m3 t ht).2⟩, fun t t1 t2 => ?_⟩, fun o w => ?_, by rw [(f 8 44 rfl).2, (g 0 145 rfl).2]; exact h7⟩
  · rcases q with q | q | q | q | q
    · rw [q]; exact (f 57 j rfl).1
    · rw [q]; exact (f 58 j rfl).1
    · rw [q]; exact (f 62 j rfl).1
    · rw [q]; exact (f 64 j rfl).1
    · rw [q.1, q.2]; exact (f 7 0 rfl).1
  · rcases q with q | q | q
    · rw [q]; exact (g 38 j rfl).1
    · rw [q]; exact (g 39 j rfl).1
    · rw [q]; exact (g 43 j rfl).1
  · have e : lv σ' 8 50 = lv σ 8 50 := by unfold lv; rw [(f 8 50 rfl).1]
    refine ⟨by rw [(f 8 50 rfl).1, (g 0 150 rfl).1]; exact h4.1, by rw [e]; exact h4.2.1, fun j j1 j2 => ?_⟩
    rw [(f 109 j rfl).1, (g 94 j rfl).1]
    exact h4.2.2 j j1 (by rw [e] at j2; exact j2)
  · rw [(f 57 t rfl).1, (g 42 t rfl).2]
    exact m4 t t1 t2
  · obtain ⟨q, q1, q2, q3, q4⟩ := h6 o ((oA o 6).1 w)
    exact ⟨q, q1, q2, by rw [(f 64 o rfl).1]; exact q3, by rw [(f 83 q rfl).1, (g 58 q rfl).1]; exact q4⟩
theorem MB.q {σ0 τ0 σ τ : lj_S} {n np p : Nat} {r : List Nat} {FP : Nat → List kF} {ρ : Nat → Nat} {A MO LA : List Nat} (h : MB σ0 τ0 n np p r FP ρ A MO LA σ τ) (hs : σ.2 8 44 = τ.2 0 145) : QR σ τ n := by
  obtain ⟨h1, h2, h3, h4, h5, h6, h7, h8, h9, h10, h11, h12, h13⟩ := h
  obtain ⟨⟨a1, a2, a3, a4, a5, a6, a7⟩, b, c1, c2, c3, c4⟩ := h11
  refine ⟨h2, h4, h5, h12, ⟨c4, MO, a1, a3, fun t ht => ⟨(a4 t ht).1, (a4 t ht).2.1⟩, fun t t1 t2 => ⟨fun z => ((a7 t t1 t2).1 z).2, (a7 t t1 t2).2⟩⟩, fun o w => ?_, hs⟩
  obtain ⟨e1, e2, e3, d1, d2, d3, d4, d5, d6, d7, d8, d9⟩ := h7
  obtain ⟨q, q1, q2, q3, q4⟩ := d8.2 o w
  refine ⟨q, q1, by omega, q3, ?_⟩
  by_cases z : q ∈ p :: r
  · rcases List.mem_cons.1 z with y | y
    · rw [y, e3.1, e3.2]
    · have : ∀ (l : List Nat) (a : Nat), chn σ0 σ τ FP (a :: l) → q ∈ l → σ.1 83 q = τ.1 58 q := by
        intro l
        induction l with
        | nil => intro a _ hq; cases hq
        | cons b l ih =>
          intro a hc hq
          rcases List.mem_cons.1 hq with e | e
          · rw [e, hc.2.2.1.1, hc.2.2.1.2]
          · exact ih b hc.2.2.2 e
      exact this r p d1 y
  · rcases d9 q q2 z with w1 | w1 | ⟨w1, w2, w3, w4⟩
    · rw [w1.1, w1.2.1]
    · rw [w1.1, w1.2.1]
    · rcases w4 with w4 | ⟨o', e0, e1, e2, _⟩
      · rw [w1, w4]
      · exfalso
        rw [e1] at q4
        have oo : o' = o := (ofN_eq (by omega) (by have := w.2.1; omega)).1 q4
        rw [oo, w.2.2.2.1] at e2
        exact absurd e2 (by decide)
/-- what a new load rests on -/
def lsR (σ0 τ0 σ τ : lj_S) : Prop := cdR σ0 τ0 σ τ ∧ nmR σ τ ∧ sG σ0 τ0 σ τ
/-- an error of both, or no room -/
def eoR (σ0 τ0 : lj_S) (n np p : Nat) (r : List Nat) (FP : Nat → List kF) (ρ : Nat → Nat) (A MO LA : List Nat) (σ τ : lj_S) : Prop :=
  σ.1 8 46 = 0 ∧ σ.1 8 45 = τ.1 0 144 ∧ σ.2 8 44 = τ.2 0 145 ∧ (σ.1 2 6 = 1 ∧ τ.1 0 143 = 4 ∧ QR σ τ n ∧ lsR σ0 τ0 σ τ ∨ σ.1 2 6 = 0 ∧ τ.1 0 143 = 0 ∧ τ.1 0 129 = 2 ∧ vR σ τ (σ.1 8 42, σ.2 8 43) (τ.1 0 141, τ.2 0 142) ∧ ∃ hx : Nat, MB σ0 τ0 n np p r FP ρ A MO LA σ (lj_put τ 63 p (Int32.ofNat hx)) ∧ ∀ F L, FP p = F :: L → kS F = 2 → τ.1 63 p = Int32.ofNat hx)
theorem MB.er {σ0 τ0 σ τ : lj_S} {n np p : Nat} {r : List Nat} {FP : Nat → List kF} {ρ : Nat → Nat} {A MO LA : List Nat} (h : MB σ0 τ0 n np p r FP ρ A MO LA σ τ) (rg : rgR σ τ) {σ' τ' : lj_S} (e : raR σ τ σ' τ') : eoR σ0 τ0 n np p r FP ρ A MO LA σ' τ' := by
  obtain ⟨f, g, e1, e2, e3, e4⟩ := e
  have h' := h.st f g e2 e1
  have h'' := h'
  obtain ⟨g1, g2, g3, g4, g5⟩ := rg
  have s44 : σ'.2 8 44 = τ'.2 0 145 := by rw [(f 8 44 rfl).2, (g 0 145 rfl).2]; exact g5
  refine ⟨by rw [(f 8 46 rfl).1]; exact g1, by rw [(f 8 45 rfl).1, (g 0 144 rfl).1]; exact g4, s44, ?_⟩
  rcases e4 with ⟨w1, w2⟩ | ⟨w1, w2, w3⟩
  · exact Or.inl ⟨w1, w2, h'.q s44, h'.1, h'.2.2.1, h'.2.2.2.2.2.2.2.2.2.2.2.2.2⟩
  · obtain ⟨_, _, _, _, _, _, h7, h8, _⟩ := h'
    obtain ⟨ce, me, mq, pa⟩ := h8 p (h7.2.2.2.2.2.1 p List.mem_cons_self) (by rw [h7.2.2.1.2]; decide)
    refine Or.inr ⟨w1, by rw [w2]; exact g2, e3, w3, me, ?_, fun _ _ _ _ => pa.2.2.2.2.1⟩
    rw [← pa.2.2.2.2.1, put_id]
    exact h''
/-- the same, where the model's stack is higher -/
theorem MB.er63 {σ0 τ0 σ τ : lj_S} {n np p : Nat} {r : List Nat} {FP : Nat → List kF} {ρ : Nat → Nat} {A MO LA : List Nat} {hx : Nat} (h : MB σ0 τ0 n np p r FP ρ A MO LA σ (lj_put τ 63 p (Int32.ofNat hx))) (rg : rgR σ τ) (hT : ∀ F L, FP p = F :: L → kS F ≠ 2) {σ' τ' : lj_S} (e : raR σ τ σ' τ') : eoR σ0 τ0 n np p r FP ρ A MO LA σ' τ' := by
  obtain ⟨f, g, e1, e2, e3, e4⟩ := e
  have pe : ∀ (τ : lj_S) k j, k ≠ 63 → (lj_put τ 63 p (Int32.ofNat hx)).1 k j = τ.1 k j := fun τ k j z => by rw [lj_put_1, if_neg (by omega)]
  have g' : lf erM (lj_put τ 63 p (Int32.ofNat hx)) (lj_put τ' 63 p (Int32.ofNat hx)) := fun k j q => by
    obtain ⟨a, b⟩ := g k j q
    refine ⟨?_, b⟩
    rw [lj_put_1, lj_put_1]
    split
    · rfl
    · exact a
  have vq : ∀ k j, vqM k j = true → k ≠ 63 := fun k j q z => by rw [z] at q; simp [vqM] at q
  have G1 : sG σ (lj_put τ 63 p (Int32.ofNat hx)) σ τ := sG_eq (fun _ _ _ => rfl) (fun k j q => (pe τ k j (vq k j q)).symm)
  have G2 : sG σ' τ' σ' (lj_put τ' 63 p (Int32.ofNat hx)) := sG_eq (fun _ _ _ => rfl) (fun k j q => pe τ' k j (vq k j q))
  have G3 : sG σ' (lj_put τ' 63 p (Int32.ofNat hx)) σ' τ' := sG_eq (fun _ _ _ => rfl) (fun k j q => (pe τ' k j (vq k j q)).symm)
  have h' := h.st f g' ((G1.tr e2).tr G2) (e1.cg (fun _ _ _ => rfl) (fun k j q => pe τ' k j (fun z => by rw [z] at q; simp [sqM] at q)))
  obtain ⟨g1, g2, g3, g4, g5⟩ := rg
  have s44 : σ'.2 8 44 = τ'.2 0 145 := by rw [(f 8 44 rfl).2, (g 0 145 rfl).2]; exact g5
  refine ⟨by rw [(f 8 46 rfl).1]; exact g1, by rw [(f 8 45 rfl).1, (g 0 144 rfl).1]; exact g4, s44, ?_⟩
  rcases e4 with ⟨w1, w2⟩ | ⟨w1, w2, w3⟩
  · refine Or.inl ⟨w1, w2, (h'.q s44).cg (fun _ _ _ => ⟨rfl, rfl⟩) (fun k j q => ⟨(pe τ' k j (fun z => by rw [z] at q; simp [qrM, sqM, hqM, vqM] at q)).symm, rfl⟩), ⟨h'.1.1, fun k j q => ?_⟩, h'.2.2.1.up G3 (fun _ => rfl) rfl rfl, h'.2.2.2.2.2.2.2.2.2.2.2.2.2.tr G3⟩
    have := h'.1.2 k j q
    rw [pe τ' k j (fun z => by rw [z] at q; simp [cdM] at q)] at this
    exact this
  · exact Or.inr ⟨w1, by rw [w2]; exact g2, e3, w3, hx, h', fun F L y1 y2 => absurd y2 (hT F L y1)⟩
