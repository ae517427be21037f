/-! the frames of the part at hand become others -/
def rxC (p k j : Nat) : Bool := szC k j || (k == 90 && j == p) || (Nat.ble 91 k && Nat.ble k 102 && (decide (20 * p ≤ j) && decide (j < 20 * p + 20))) || (k == 8 && (j == 8 || j == 34 || j == 35)) || ((k == 79 || k == 80 || k == 81) && (decide (12500 * p ≤ j) && decide (j < 12500 * p + 12500))) || k == 74 || k == 75 || k == 76 || k == 77 || (k == 7 && (j == 21 || j == 25))
def rxM (p k j : Nat) : Bool := szM k j || ((k == 62 || k == 63 || k == 64 || k == 65) && j == p) || ((k == 71 || k == 72) && (decide (10000 * p ≤ j) && decide (j < 10000 * p + 10000))) || (k == 73 && (decide (2000 * p ≤ j) && decide (j < 2000 * p + 2000))) || (Nat.ble 74 k && Nat.ble k 86 && (decide (48 * p ≤ j) && decide (j < 48 * p + 48))) || (k == 87 && (decide (50 * (48 * p) ≤ j) && decide (j < 50 * (48 * p + 48)))) || k == 54 || k == 55 || k == 56 || k == 57 || k == 44 || (k == 0 && j == 96)
theorem rx_eq {σ σ' : lj_S} {p : Nat} (f : lf (rxC p) σ σ') {k j : Nat} (h : ¬ (k = 14 ∨ k = 3 ∧ j = 6 ∨ k = 7 ∧ (j = 21 ∨ j = 25 ∨ j = 27 ∨ j = 28) ∨ (105 ≤ k ∧ k ≤ 108) ∨ k = 8 ∧ (j = 8 ∨ j = 34 ∨ j = 35 ∨ j = 38 ∨ 41 ≤ j ∧ j ≤ 44) ∨ k = 2) ∧ (k ≠ 90 ∨ j ≠ p) ∧ (k < 91 ∨ 102 < k ∨ j < 20 * p ∨ 20 * p + 20 ≤ j) ∧ ((k < 79 ∨ 81 < k) ∨ j < 12500 * p ∨ 12500 * p + 12500 ≤ j) ∧ (k < 74 ∨ 77 < k)) : σ'.1 k j = σ.1 k j ∧ σ'.2 k j = σ.2 k j := f k j (by unfold rxC szC; simp; omega)
theorem rx_eqM {τ τ' : lj_S} {p : Nat} (g : lf (rxM p) τ τ') {k j : Nat} (h : ¬ (k = 8 ∨ k = 0 ∧ (j = 20 ∨ j = 90 ∨ j = 91 ∨ j = 96 ∨ 129 ≤ j ∧ j ≤ 145) ∨ (88 ≤ k ∧ k ≤ 91)) ∧ ((k < 62 ∨ 65 < k) ∨ j ≠ p) ∧ ((k ≠ 71 ∧ k ≠ 72) ∨ j < 10000 * p ∨ 10000 * p + 10000 ≤ j) ∧ (k ≠ 73 ∨ j < 2000 * p ∨ 2000 * p + 2000 ≤ j) ∧ (k < 74 ∨ 86 < k ∨ j < 48 * p ∨ 48 * p + 48 ≤ j) ∧ (k ≠ 87 ∨ j < 50 * (48 * p) ∨ 50 * (48 * p + 48) ≤ j) ∧ (k < 54 ∨ 57 < k) ∧ k ≠ 44) : τ'.1 k j = τ.1 k j ∧ τ'.2 k j = τ.2 k j := g k j (by unfold rxM szM; simp; omega)
set_option maxHeartbeats 2000000 in
theorem MB.rx {σ0 τ0 σ τ : lj_S} {n np p : Nat} {r : List Nat} {FP : Nat → List kF} {ρ : Nat → Nat} {A MO LA : List Nat} (h : MB σ0 τ0 n np p r FP ρ A MO LA σ τ) {σ' τ' : lj_S} {ρ' : Nat → Nat} {X : List kF} {A' MO' LA' : List Nat} (f : lf (rxC p) σ σ') (g : lf (rxM p) τ τ') (hr : ∀ q a, q ≠ p → lsL (FP q) a → ρ' a = ρ a) (gcl : clR σ0 σ' τ' (fpT FP p X) ρ' n) (gpa : ∃ ce me mq, paR σ0 τ0 σ' τ' ρ' (fpT FP p X) p p ce me mq) (gfh : fhR σ' p X) (gga : gaR σ' τ' n (fpT FP p X) (p :: r) A' MO' LA') (g81 : s81 σ' (fpT FP p X)) : MB σ0 τ0 n np p r (fpT FP p X) ρ' A' MO' LA' σ' τ' := by
  have hls := h.ls
  obtain ⟨h1, h2, h3, h4, h5, h6, h7, h8, h9, h10, h11, h12, h13⟩ := h
  have vC : ∀ k j, vqC k j = true → σ'.1 k j = σ.1 k j := fun k j q => (rx_eq f (by unfold vqC at q; simp at q; omega)).1
  have vM : ∀ k j, vqM k j = true → τ'.1 k j = τ.1 k j := fun k j q => (rx_eqM g (by unfold vqM at q; simp at q; omega)).1
  have hv : ∀ a b, vR σ τ a b → vR σ' τ' a b := fun a b w => w.cg vC vM
  have hO := oG_eq vC vM
  have hG := sG_eq vC vM
  have oa : ∀ o k, obA σ' τ' o k ↔ obA σ τ o k := fun o k => by unfold obA lv; rw [vC 7 0 rfl, vC 57 o rfl, vM 38 o rfl]
  have c : ∀ k j, ((k < 74 ∨ 77 < k) ∧ k ≠ 7 ∧ k ≠ 8 ∧ k ≠ 14 ∧ k ≠ 3 ∧ k ≠ 2 ∧ (k < 90 ∨ 108 < k) ∧ (k < 79 ∨ 81 < k)) → σ'.1 k j = σ.1 k j ∧ σ'.2 k j = σ.2 k j := fun k j z => rx_eq f (by omega)
  have m : ∀ k j, (k ≠ 0 ∧ k ≠ 8 ∧ k ≠ 44 ∧ (k < 54 ∨ 57 < k) ∧ (k < 62 ∨ 65 < k) ∧ (k < 71 ∨ 91 < k)) → τ'.1 k j = τ.1 k j ∧ τ'.2 k j = τ.2 k j := fun k j z => rx_eqM g (by omega)
  have oth : ∀ q, q ≠ p → fpT FP p X q = FP q := fun q w => by unfold fpT; rw [if_neg w]
  have own := fpT_o FP p X
  refine ⟨⟨fun k j q => ?_, fun k j q => ?_⟩, h2.cg (fun k j q => ?_) (fun k j q => ?_), h3.up hG (fun j => (c 78 j (by omega)).1) (rx_eq f (k := 8) (j := 1) (by omega)).1 (rx_eq f (k := 8) (j := 3) (by omega)).1, h4.cg (fun k j q => ?_) (fun k j q => ?_), h5.cg (fun k j q => ?_) (fun k j q => ?_), fun o q w1 w2 w3 => h6 o q ((oa o 5).1 w1) w2 (by rw [← (c 62 o (by omega)).1]; exact w3), ?_, fun q q1 q2 => ?_, by rw [own]; exact gfh, gcl, gga, ?_, g81, h13.2.tr hG⟩
  · have := rx_eq f (k := k) (j := j) (by unfold cdC at q; simp at q; omega)
    have w := h1.1 k j q
    exact ⟨by rw [this.1]; exact w.1, by rw [this.2]; exact w.2⟩
  · have := rx_eqM g (k := k) (j := j) (by unfold cdM at q; simp at q; omega)
    have w := h1.2 k j q
    exact ⟨by rw [this.1]; exact w.1, by rw [this.2]; exact w.2⟩
  · exact (rx_eq f (by unfold sqC at q; simp at q; omega)).1
  · exact (rx_eqM g (by unfold sqM at q; simp at q; omega)).1
  · exact rx_eq f (by unfold hqC vqC at q; simp at q; omega)
  · exact rx_eqM g (by unfold hqM vqM at q; simp at q; omega)
  · exact (rx_eq f (by omega)).1
  · exact (rx_eqM g (by omega)).1
  · obtain ⟨⟨a1, a2, a3⟩, ⟨b1, b2⟩, ⟨c1, c2⟩, d1, d2, d3, d4, d5, d6, d7, d8, d9⟩ := h7
    have nd := List.nodup_cons.1 d2
    refine ⟨⟨by rw [(rx_eq f (k := 7) (j := 1) (by omega)).1]; exact a1, by rw [(rx_eqM g (k := 0) (j := 110) (by omega)).1]; exact a2, a3⟩, ⟨by rw [(rx_eq f (k := 8) (j := 7) (by omega)).1]; exact b1, by rw [(rx_eqM g (k := 0) (j := 111) (by omega)).1]; exact b2⟩, ⟨by rw [(c 83 p (by omega)).1]; exact c1, by rw [(m 58 p (by omega)).1]; exact c2⟩, chn_cg (fun k q w => (c k q (by omega)).1) (fun k q w => (m k q (by omega)).1) d1 (fun q hq => oth q (fun z => nd.1 (by rw [← z]; exact hq))), d2, d3, by rw [(rx_eq f (k := 8) (j := 18) (by omega)).1]; exact d4, d5, fun q hq => ?_, by rw [(m 59 0 (by omega)).1]; exact d7, ⟨fun q q1 q2 => ?_, fun o w => ?_⟩, fun q q1 q2 => ?_⟩
    · by_cases z : q = p
      · exfalso
        have := d3 p List.mem_cons_self
        omega
      · rw [oth q z]; exact d6 q hq
    · obtain ⟨o, o1, o2, o3, o4, o5, o6⟩ := d8.1 q q1 q2
      exact ⟨o, o1, o2, by rw [(c 85 q (by omega)).1]; exact o3, by rw [(m 59 q (by omega)).1]; exact o4, fun w => (oa o 6).2 (o5 (by rw [← (m 58 q (by omega)).1]; exact w)), fun w => by rw [(c 64 o (by omega)).1]; exact o6 ((oa o 6).1 w)⟩
    · obtain ⟨q, q1, q2, q3, q4⟩ := d8.2 o ((oa o 6).1 w)
      exact ⟨q, q1, q2, by rw [(c 64 o (by omega)).1]; exact q3, by rw [(c 85 q (by omega)).1]; exact q4⟩
    · have z : q ≠ p := fun z => q2 (by rw [z]; exact List.mem_cons_self)
      rw [oth q z, (c 83 q (by omega)).1, (m 58 q (by omega)).1, (c 88 q (by omega)).1, (c 89 q (by omega)).2, (m 60 q (by omega)).1, (m 61 q (by omega)).2, (c 87 q (by omega)).1, (m 69 q (by omega)).1, (m 70 q (by omega)).1, (rx_eqM g (k := 62) (j := q) (by omega)).1, (c 85 q (by omega)).1]
      rcases d9 q q1 q2 with ⟨w1, w2, w3, w4, w5⟩ | w | ⟨w1, w2, w3, w4⟩
      · exact Or.inl ⟨w1, w2, w3, w4, hv _ _ w5⟩
      · exact Or.inr (Or.inl w)
      · exact Or.inr (Or.inr ⟨w1, w2, w3, w4.imp id (fun ⟨o, o0, o1, o2, o3⟩ => ⟨o, o0, o1, by rw [(c 57 o (by omega)).1]; exact o2, o3⟩)⟩)
  · have q2' : τ.1 58 q ≠ 4 := by rw [(m 58 q (by omega)).1] at q2; exact q2
    by_cases z : q = p
    · rw [z]; exact gpa
    · obtain ⟨ce1, me1, mq1, pr, ⟨x1, x2, x3, x4⟩, y8, y90, y63, y64, y62, y65⟩ := h8 q q1 q2'
      refine ⟨ce1, me1, mq1, ?_⟩
      unfold paR
      rw [oth q z, if_neg z, (c 82 q (by omega)).1, (rx_eq f (k := 90) (j := q) (by omega)).1, (rx_eqM g (k := 63) (j := q) (by omega)).1, (rx_eqM g (k := 64) (j := q) (by omega)).1, (rx_eqM g (k := 62) (j := q) (by omega)).1, (rx_eqM g (k := 65) (j := q) (by omega)).1]
      rw [if_neg z] at y8
      refine ⟨prt_cg hv hO (fun o _ => (c 62 o (by omega)).1) pr (fun j w1 w2 _ => ?_) (fun k i w1 w2 w3 => (rx_eq f (by omega)).1) (fun j w => ⟨(rx_eqM g (by omega)).1, (rx_eqM g (by omega)).2⟩) (fun j w => (rx_eqM g (by omega)).1) (fun k i w1 w2 w3 => (rx_eqM g (by omega)).1) (fun i w1 w2 w3 => (rx_eqM g (by omega)).1) (fun a w => hr q a z w), ⟨x1, x2, x3, x4⟩, y8, y90, y63, y64, y62, y65⟩
      exact ⟨(rx_eq f (k := 79) (j := j) (by omega)).1, (rx_eq f (k := 80) (j := j) (by omega)).2, (rx_eq f (k := 81) (j := j) (by omega)).1⟩
  · have e : lv σ' 8 50 = lv σ 8 50 := by unfold lv; rw [(rx_eq f (k := 8) (j := 50) (by omega)).1]
    refine ⟨by rw [(rx_eq f (k := 8) (j := 50) (by omega)).1, (rx_eqM g (k := 0) (j := 150) (by omega)).1]; exact h12.1, by rw [e]; exact h12.2.1, fun j j1 j2 => ?_⟩
    rw [(c 109 j (by omega)).1, (m 94 j (by omega)).1]
    exact h12.2.2 j j1 (by rw [e] at j2; exact j2)
