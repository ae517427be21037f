/-! the uppermost frame becomes another one -/
/-- places that may be others: of the uppermost frame, of variables, scratch -/
def rzC (p i lo k j : Nat) : Bool := szC k j || (k == 94 && j == i) || (k == 97 && j == i) || (k == 8 && j == 8) || ((k == 79 || k == 80 || k == 81) && (decide (lo ≤ j) && decide (j < 12500 * p + 12500))) || k == 74 || k == 75 || k == 76 || k == 77 || (k == 7 && (j == 21 || j == 25))
def rzM (p i mb kb k j : Nat) : Bool := szM k j || (k == 77 && j == i) || ((k == 63 || k == 64) && j == p) || ((k == 71 || k == 72) && (decide (10000 * p + mb ≤ j) && decide (j < 10000 * p + 10000))) || (k == 73 && (decide (2000 * p + kb ≤ j) && decide (j < 2000 * p + 2000))) || (k == 87 && (decide (50 * i ≤ j) && decide (j < 50 * i + 50))) || k == 54 || k == 55 || k == 56 || k == 57 || k == 44 || (k == 0 && j == 96)
theorem rz_eq {σ σ' : lj_S} {p i lo : Nat} (f : lf (rzC p i lo) σ σ') {k j : Nat} (h : ¬ (k = 14 ∨ k = 3 ∧ j = 6 ∨ k = 7 ∧ (j = 21 ∨ j = 25 ∨ j = 27 ∨ j = 28) ∨ (105 ≤ k ∧ k ≤ 108) ∨ k = 8 ∧ (j = 8 ∨ j = 38 ∨ 41 ≤ j ∧ j ≤ 44) ∨ k = 2) ∧ (k ≠ 94 ∨ j ≠ i) ∧ (k ≠ 97 ∨ j ≠ i) ∧ ((k < 79 ∨ 81 < k) ∨ j < lo ∨ 12500 * p + 12500 ≤ j) ∧ (k < 74 ∨ 77 < k)) : σ'.1 k j = σ.1 k j ∧ σ'.2 k j = σ.2 k j := f k j (by unfold rzC szC; simp; omega)
theorem rz_eqM {τ τ' : lj_S} {p i mb kb : Nat} (g : lf (rzM p i mb kb) τ τ') {k j : Nat} (h : ¬ (k = 8 ∨ k = 0 ∧ (j = 20 ∨ j = 90 ∨ j = 91 ∨ j = 96 ∨ 129 ≤ j ∧ j ≤ 145) ∨ (88 ≤ k ∧ k ≤ 91)) ∧ (k ≠ 77 ∨ j ≠ i) ∧ ((k ≠ 63 ∧ k ≠ 64) ∨ j ≠ p) ∧ ((k ≠ 71 ∧ k ≠ 72) ∨ j < 10000 * p + mb ∨ 10000 * p + 10000 ≤ j) ∧ (k ≠ 73 ∨ j < 2000 * p + kb ∨ 2000 * p + 2000 ≤ j) ∧ (k ≠ 87 ∨ j < 50 * i ∨ 50 * i + 50 ≤ j) ∧ (k < 54 ∨ 57 < k) ∧ k ≠ 44) : τ'.1 k j = τ.1 k j ∧ τ'.2 k j = τ.2 k j := g k j (by unfold rzM szM; simp; omega)
set_option maxHeartbeats 2000000 in
theorem MB.rf {σ0 τ0 σ τ : lj_S} {n np p : Nat} {r : List Nat} {FP : Nat → List kF} {ρ : Nat → Nat} {A MO LA : List Nat} (h : MB σ0 τ0 n np p r FP ρ A MO LA σ τ) {F : kF} {L : List kF} (hF : FP p = F :: L) (h0 : kS F = 0) {ms ks ce me mq : Nat} (V : vw σ0 τ0 σ τ ρ FP p F L ms ks ce me mq) {σ' τ' : lj_S} {ρ' : Nat → Nat} {F' : kF} (hS : kS F' = 0) (hC : kC F' = kC F) (hD : kD F' = kD F) (f : lf (rzC p (20 * p + L.length) (kC F)) σ σ') (g : lf (rzM p (48 * p + L.length) ms ks) τ τ') (hr : ∀ q a, lsL (fpT FP p L q) a → ρ' a = ρ a) {ce' me' mq' : Nat} (gcl : clR σ0 σ' τ' (fpT FP p (F' :: L)) ρ' n) (gfr : frm σ0 τ0 σ' τ' ρ' p L.length F' ms ks ce' me' mq') (e8 : σ'.1 8 8 = Int32.ofNat ce') (e63 : τ'.1 63 p = Int32.ofNat me') (e64 : τ'.1 64 p = Int32.ofNat mq') (b1 : ce' ≤ 12500 * p + 12500) (b2 : me' ≤ 10000) (b3 : mq' ≤ 2000) (g81 : s81 σ' (fpT FP p (F' :: L))) : MB σ0 τ0 n np p r (fpT FP p (F' :: L)) ρ' A MO LA σ' τ' := by
  have hls := h.ls
  have B := V.bd
  obtain ⟨h1, h2, h3, h4, h5, h6, h7, h8, h9, h10, h11, h12, h13⟩ := h
  have vC : ∀ k j, vqC k j = true → σ'.1 k j = σ.1 k j := fun k j q => (rz_eq f (by unfold vqC at q; simp at q; omega)).1
  have vM : ∀ k j, vqM k j = true → τ'.1 k j = τ.1 k j := fun k j q => (rz_eqM g (by unfold vqM at q; simp at q; omega)).1
  have hv : ∀ a b, vR σ τ a b → vR σ' τ' a b := fun a b w => w.cg vC vM
  have hO := oG_eq vC vM
  have hG := sG_eq vC vM
  have oa : ∀ o k, obA σ' τ' o k ↔ obA σ τ o k := fun o k => by unfold obA lv; rw [vC 7 0 rfl, vC 57 o rfl, vM 38 o rfl]
  have c : ∀ k j, ((k < 74 ∨ 77 < k) ∧ k ≠ 7 ∧ k ≠ 8 ∧ k ≠ 14 ∧ k ≠ 3 ∧ k ≠ 2 ∧ k ≠ 94 ∧ k ≠ 97 ∧ (k < 79 ∨ 81 < k) ∧ (k < 105 ∨ 108 < k)) → σ'.1 k j = σ.1 k j ∧ σ'.2 k j = σ.2 k j := fun k j z => rz_eq f (by omega)
  have m : ∀ k j, (k ≠ 0 ∧ k ≠ 8 ∧ k ≠ 44 ∧ (k < 54 ∨ 57 < k) ∧ k ≠ 63 ∧ k ≠ 64 ∧ (k < 71 ∨ 73 < k) ∧ k ≠ 77 ∧ (k < 87 ∨ 91 < k)) → τ'.1 k j = τ.1 k j ∧ τ'.2 k j = τ.2 k j := fun k j z => rz_eqM g (by omega)
  have oth : ∀ q, q ≠ p → fpT FP p (F' :: L) q = FP q := fun q w => by unfold fpT; rw [if_neg w]
  have oth' : ∀ q, q ≠ p → fpT FP p L q = FP q := fun q w => by unfold fpT; rw [if_neg w]
  have own := fpT_o FP p (F' :: L)
  refine ⟨⟨fun k j q => ?_, fun k j q => ?_⟩, h2.cg (fun k j q => ?_) (fun k j q => ?_), h3.up hG (fun j => (c 78 j (by omega)).1) (rz_eq f (k := 8) (j := 1) (by omega)).1 (rz_eq f (k := 8) (j := 3) (by omega)).1, h4.cg (fun k j q => ?_) (fun k j q => ?_), h5.cg (fun k j q => ?_) (fun k j q => ?_), fun o q w1 w2 w3 => h6 o q ((oa o 5).1 w1) w2 (by rw [← (c 62 o (by omega)).1]; exact w3), ?_, fun q q1 q2 => ?_, ?_, gcl, ?_, ?_, g81, h13.2.tr hG⟩
  · have := rz_eq f (k := k) (j := j) (by unfold cdC at q; simp at q; omega)
    have w := h1.1 k j q
    exact ⟨by rw [this.1]; exact w.1, by rw [this.2]; exact w.2⟩
  · have := rz_eqM g (k := k) (j := j) (by unfold cdM at q; simp at q; omega)
    have w := h1.2 k j q
    exact ⟨by rw [this.1]; exact w.1, by rw [this.2]; exact w.2⟩
  · exact (rz_eq f (by unfold sqC at q; simp at q; omega)).1
  · exact (rz_eqM g (by unfold sqM at q; simp at q; omega)).1
  · exact rz_eq f (by unfold hqC vqC at q; simp at q; omega)
  · exact rz_eqM g (by unfold hqM vqM at q; simp at q; omega)
  · exact (rz_eq f (by omega)).1
  · exact (rz_eqM g (by omega)).1
  · obtain ⟨⟨a1, a2, a3⟩, ⟨b1, b2⟩, ⟨c1, c2⟩, d1, d2, d3, d4, d5, d6, d7, d8, d9⟩ := h7
    have nd := List.nodup_cons.1 d2
    refine ⟨⟨by rw [(rz_eq f (k := 7) (j := 1) (by omega)).1]; exact a1, by rw [(rz_eqM g (k := 0) (j := 110) (by omega)).1]; exact a2, a3⟩, ⟨by rw [(rz_eq f (k := 8) (j := 7) (by omega)).1]; exact b1, by rw [(rz_eqM g (k := 0) (j := 111) (by omega)).1]; exact b2⟩, ⟨by rw [(c 83 p (by omega)).1]; exact c1, by rw [(m 58 p (by omega)).1]; exact c2⟩, chn_cg (fun k q w => (c k q (by omega)).1) (fun k q w => (m k q (by omega)).1) d1 (fun q hq => oth q (fun z => nd.1 (by rw [← z]; exact hq))), d2, d3, by rw [(rz_eq f (k := 8) (j := 18) (by omega)).1]; exact d4, d5, fun q hq => ?_, by rw [(m 59 0 (by omega)).1]; exact d7, ⟨fun q q1 q2 => ?_, fun o w => ?_⟩, fun q q1 q2 => ?_⟩
    · by_cases z : q = p
      · exfalso
        have := d3 p List.mem_cons_self
        omega
      · rw [oth q z]; exact d6 q hq
    · obtain ⟨o, o1, o2, o3, o4, o5, o6⟩ := d8.1 q q1 q2
      exact ⟨o, o1, o2, by rw [(c 85 q (by omega)).1]; exact o3, by rw [(m 59 q (by omega)).1]; exact o4, fun w => (oa o 6).2 (o5 (by rw [← (m 58 q (by omega)).1]; exact w)), fun w => by rw [(c 64 o (by omega)).1]; exact o6 ((oa o 6).1 w)⟩
    · obtain ⟨q, q1, q2, q3, q4⟩ := d8.2 o ((oa o 6).1 w)
      exact ⟨q, q1, q2, by rw [(c 64 o (by omega)).1]; exact q3, by rw [(c 85 q (by omega)).1]; exact q4⟩
    · have z : q ≠ p := fun z => q2 (by rw [z]; exact List.mem_cons_self)
      rw [oth q z, (c 83 q (by omega)).1, (m 58 q (by omega)).1, (c 88 q (by omega)).1, (c 89 q (by omega)).2, (m 60 q (by omega)).1, (m 61 q (by omega)).2, (c 87 q (by omega)).1, (m 69 q (by omega)).1, (m 70 q (by omega)).1, (m 62 q (by omega)).1, (c 85 q (by omega)).1]
      rcases d9 q q1 q2 with ⟨w1, w2, w3, w4, w5⟩ | w | ⟨w1, w2, w3, w4⟩
      · exact Or.inl ⟨w1, w2, w3, w4, hv _ _ w5⟩
      · exact Or.inr (Or.inl w)
      · exact Or.inr (Or.inr ⟨w1, w2, w3, w4.imp id (fun ⟨o, o0, o1, o2, o3⟩ => ⟨o, o0, o1, by rw [(c 57 o (by omega)).1]; exact o2, o3⟩)⟩)
  · have q2' : τ.1 58 q ≠ 4 := by rw [(m 58 q (by omega)).1] at q2; exact q2
    by_cases z : q = p
    · rw [z]
      obtain ⟨p1, ⟨p2, p3, p4, p5⟩, p6, p7, p8, p9, p10, p11⟩ := V.1
      rw [hF, List.length_cons] at p2 p7 p10 p11
      refine ⟨ce', me', mq', ?_⟩
      unfold paR
      rw [own, if_pos rfl, List.length_cons, (c 90 p (by omega)).1, (m 62 p (by omega)).1, (m 65 p (by omega)).1]
      refine ⟨⟨ms, ks, ?_, gfr, ?_⟩, ⟨by omega, b1, b2, b3⟩, e8, p7, e63, e64, p10, p11⟩
      · rw [hC]
        refine prt_cg hv hO (fun o _ => (c 62 o (by omega)).1) V.2.1 (fun j w1 w2 _ => ⟨(rz_eq f (by omega)).1, (rz_eq f (by omega)).2, (rz_eq f (by omega)).1⟩) (fun k i w1 w2 w3 => (rz_eq f (by omega)).1) (fun j w => ⟨(rz_eqM g (by omega)).1, (rz_eqM g (by omega)).2⟩) (fun j w => (rz_eqM g (by omega)).1) (fun k i w1 w2 w3 => (rz_eqM g (by omega)).1) (fun i x w1 w2 => (rz_eqM g (by omega)).1) (fun a w => hr p a (by rw [fpT_o]; exact w))
      · rw [(c 98 _ (by omega)).1, (m 78 _ (by omega)).1, (m 79 _ (by omega)).1]
        exact V.2.2.2.1
    · obtain ⟨ce1, me1, mq1, pr, ⟨x1, x2, x3, x4⟩, y8, y90, y63, y64, y62, y65⟩ := h8 q q1 q2'
      refine ⟨ce1, me1, mq1, ?_⟩
      unfold paR
      rw [oth q z, if_neg z, (c 82 q (by omega)).1, (c 90 q (by omega)).1, (rz_eqM g (k := 63) (j := q) (by omega)).1, (rz_eqM g (k := 64) (j := q) (by omega)).1, (m 62 q (by omega)).1, (m 65 q (by omega)).1]
      rw [if_neg z] at y8
      refine ⟨prt_cg hv hO (fun o _ => (c 62 o (by omega)).1) pr (fun j w1 w2 _ => ?_) (fun k i w1 w2 w3 => (rz_eq f (by omega)).1) (fun j w => ⟨(rz_eqM g (by omega)).1, (rz_eqM g (by omega)).2⟩) (fun j w => (rz_eqM g (by omega)).1) (fun k i w1 w2 w3 => (rz_eqM g (by omega)).1) (fun i w1 w2 w3 => (rz_eqM g (by omega)).1) (fun a w => hr q a (by rw [oth' q z]; exact w)), ⟨x1, x2, x3, x4⟩, y8, y90, y63, y64, y62, y65⟩
      exact ⟨(rz_eq f (k := 79) (j := j) (by omega)).1, (rz_eq f (k := 80) (j := j) (by omega)).2, (rz_eq f (k := 81) (j := j) (by omega)).1⟩
  · rw [own]
    rw [hF] at h9
    have hB : kB F' = kB F := by show kC F' + kD F' = kC F + kD F; rw [hC, hD]
    exact ⟨by rw [(rz_eq f (k := 8) (j := 34) (by omega)).1]; exact h9.1, fun _ => by rw [(rz_eq f (k := 8) (j := 35) (by omega)).1, hB]; exact h9.2 h0⟩
  · refine h11.cg (fun o k w => (oa o k).2 w) (fun k j w => (rz_eq f (by omega)).1) (fun k j w => (rz_eqM g (by omega)).1) (fun j => (m 42 j (by omega)).2) (rz_eqM g (k := 0) (j := 78) (by omega)).2 (fun q e e' w => ?_)
    by_cases z : q = p
    · rw [z, own]
      rw [z, hF] at w
      rcases w with ⟨w1, w2⟩ | ⟨w1, _⟩
      · exact Or.inl ⟨by rw [hS]; decide, w2⟩
      · rw [h0] at w1; exact absurd w1 (by decide)
    · rw [oth q z]; exact w
  · have e : lv σ' 8 50 = lv σ 8 50 := by unfold lv; rw [(rz_eq f (k := 8) (j := 50) (by omega)).1]
    refine ⟨by rw [(rz_eq f (k := 8) (j := 50) (by omega)).1, (rz_eqM g (k := 0) (j := 150) (by omega)).1]; exact h12.1, by rw [e]; exact h12.2.1, fun j j1 j2 => ?_⟩
    rw [(c 109 j (by omega)).1, (m 94 j (by omega)).1]
    exact h12.2.2 j j1 (by rw [e] at j2; exact j2)
