/-! the uppermost frame goes on -/
/-- the same frame at another point -/
def kTo (F : kF) (c m : Nat) (s l : List Nat) (dd n w : Nat) : kF := (0, kO F, ((kY F).1, c, m, s, l, dd), n, w, kC F, kD F)
/-- frames where the uppermost one of a part is another one -/
def fpT (FP : Nat → List kF) (p : Nat) (X : List kF) (q : Nat) : List kF := if q = p then X else FP q
theorem tp_pt {σ0 σ σ' τ τ' : lj_S} {p i ob p' i' mb kb np n : Nat} {r : List Nat} {FP : Nat → List kF} {X : List kF} (f : lf (tpC p i ob) σ σ') (g : lf (tpM p' i' mb kb) τ τ') (h : ptR σ0 σ τ FP p r np n) (hX : np < p → X = []) : ptR σ0 σ' τ' (fpT FP p X) p r np n := by
  have c : ∀ k j, ¬ (k = 14 ∨ k = 3 ∧ j = 6 ∨ k = 7 ∧ (j = 27 ∨ j = 28) ∨ (105 ≤ k ∧ k ≤ 108) ∨ k = 8 ∧ (j = 8 ∨ j = 38 ∨ 41 ≤ j ∧ j ≤ 44) ∨ k = 2) ∧ k ≠ 94 ∧ k ≠ 97 ∧ (k < 79 ∨ 81 < k) → σ'.1 k j = σ.1 k j := fun k j w => (tp_eq f w).1
  have m : ∀ k j, ¬ (k = 8 ∨ k = 0 ∧ (j = 20 ∨ j = 90 ∨ j = 91 ∨ 129 ≤ j ∧ j ≤ 145) ∨ (88 ≤ k ∧ k ≤ 91)) ∧ k ≠ 77 ∧ k ≠ 63 ∧ k ≠ 64 ∧ (k < 71 ∨ 73 < k) → τ'.1 k j = τ.1 k j := fun k j w => (tp_eqM g w).1
  obtain ⟨⟨a1, a2, a3⟩, ⟨b1, b2⟩, ⟨c1, c2⟩, d1, d2, d3, d4, d5, d6, d7, d8, d9⟩ := h
  have ne : ∀ q, q ≠ p → fpT FP p X q = FP q := fun q w => by unfold fpT; rw [if_neg w]
  have nd := List.nodup_cons.1 d2
  refine ⟨⟨by rw [c 7 1 (by omega)]; exact a1, by rw [m 0 110 (by omega)]; exact a2, a3⟩, ⟨by rw [c 8 7 (by omega)]; exact b1, by rw [m 0 111 (by omega)]; exact b2⟩, ⟨by rw [c 83 p (by omega)]; exact c1, by rw [m 58 p (by omega)]; exact c2⟩, chn_cg (fun k q w => c k q (by omega)) (fun k q w => m k q (by omega)) d1 (fun q hq => ne q (fun z => nd.1 (by rw [← z]; exact hq))), d2, d3, by rw [c 8 18 (by omega)]; exact d4, d5, fun q hq => ?_, by rw [m 59 0 (by omega)]; exact d7, ⟨fun q q1 q2 => ?_, fun o w => ?_⟩, fun q q1 q2 => ?_⟩
  · by_cases z : q = p
    · unfold fpT; rw [if_pos z]; exact hX (by omega)
    · rw [ne q z]; exact d6 q hq
  · obtain ⟨o, o1, o2, o3, o4, o5, o6⟩ := d8.1 q q1 q2
    exact ⟨o, o1, o2, by rw [c 85 q (by omega)]; exact o3, by rw [m 59 q (by omega)]; exact o4, fun w => (tp_oa f g o 6).2 (o5 (by rw [← m 58 q (by omega)]; exact w)), fun w => by rw [c 64 o (by omega)]; exact o6 ((tp_oa f g o 6).1 w)⟩
  · obtain ⟨q, q1, q2, q3, q4⟩ := d8.2 o ((tp_oa f g o 6).1 w)
    exact ⟨q, q1, q2, by rw [c 64 o (by omega)]; exact q3, by rw [c 85 q (by omega)]; exact q4⟩
  · have z : q ≠ p := fun z => q2 (by rw [z]; exact List.mem_cons_self)
    rw [ne q z, c 83 q (by omega), m 58 q (by omega), c 88 q (by omega), (tp_eq f (k := 89) (j := q) (by omega)).2, m 60 q (by omega), (tp_eqM g (k := 61) (j := q) (by omega)).2, c 87 q (by omega), m 69 q (by omega), m 70 q (by omega), m 62 q (by omega), c 85 q (by omega)]
    rcases d9 q q1 q2 with ⟨w1, w2, w3, w4, w5⟩ | w | ⟨w1, w2, w3, w4⟩
    · exact Or.inl ⟨w1, w2, w3, w4, w5.cg (tp_vR f g).1 (tp_vR f g).2⟩
    · exact Or.inr (Or.inl w)
    · refine Or.inr (Or.inr ⟨w1, w2, w3, w4.imp id (fun ⟨o, o0, o1, o2, o3⟩ => ⟨o, o0, o1, by rw [c 57 o (by omega)]; exact o2, o3⟩)⟩)
/-- the frames of another part stay -/
theorem tp_pa {σ0 τ0 σ σ' τ τ' : lj_S} {ρ : Nat → Nat} {p d ob mb kb q ce me mq : Nat} {FP : Nat → List kF} {X : List kF} (f : lf (tpC p (20 * p + d) ob) σ σ') (g : lf (tpM p (48 * p + d) mb kb) τ τ') (hd : d < 20) (hob : 12500 * p ≤ ob) (hq : q ≠ p) (h : paR σ0 τ0 σ τ ρ FP p q ce me mq) : paR σ0 τ0 σ' τ' ρ (fpT FP p X) p q ce me mq := by
  have c : ∀ k j, ¬ (k = 14 ∨ k = 3 ∧ j = 6 ∨ k = 7 ∧ (j = 27 ∨ j = 28) ∨ (105 ≤ k ∧ k ≤ 108) ∨ k = 8 ∧ (j = 8 ∨ j = 38 ∨ 41 ≤ j ∧ j ≤ 44) ∨ k = 2) ∧ k ≠ 94 ∧ k ≠ 97 ∧ (k < 79 ∨ 81 < k) → σ'.1 k j = σ.1 k j := fun k j w => (tp_eq f w).1
  have m : ∀ k j, ¬ (k = 8 ∨ k = 0 ∧ (j = 20 ∨ j = 90 ∨ j = 91 ∨ 129 ≤ j ∧ j ≤ 145) ∨ (88 ≤ k ∧ k ≤ 91)) ∧ k ≠ 77 ∧ k ≠ 63 ∧ k ≠ 64 ∧ (k < 71 ∨ 73 < k) → τ'.1 k j = τ.1 k j := fun k j w => (tp_eqM g w).1
  have e : fpT FP p X q = FP q := by unfold fpT; rw [if_neg hq]
  obtain ⟨h1, ⟨h2, h3, h4, h5⟩, h6, h7, h8, h9, h10, h11⟩ := h
  unfold paR
  rw [e, if_neg hq, c 82 q (by omega), c 90 q (by omega), (g 63 q (tpM_f (szM_f (by omega)) (by omega) (by omega) (by omega) (by omega))).1, (g 64 q (tpM_f (szM_f (by omega)) (by omega) (by omega) (by omega) (by omega))).1, m 62 q (by omega), m 65 q (by omega)]
  rw [if_neg hq] at h6
  refine ⟨prt_cg (fun a b w => w.cg (tp_vR f g).1 (tp_vR f g).2) (oG_eq (tp_vR f g).1 (tp_vR f g).2) (fun o _ => c 62 o (by omega)) h1 (fun j w1 w2 _ => ?_) (fun k i w1 w2 w3 => ?_) (fun j w => ?_) (fun j w => ?_) (fun k i w1 w2 w3 => ?_) (fun i x _ _ => m 87 _ (by omega)) (fun a _ => rfl), ⟨h2, h3, h4, h5⟩, h6, h7, h8, h9, h10, h11⟩
  · exact ⟨(f 79 j (tpC_f (szC_f (by omega)) (by omega) (by omega) (by omega) (by omega))).1, (f 80 j (tpC_f (szC_f (by omega)) (by omega) (by omega) (by omega) (by omega))).2, (f 81 j (tpC_f (szC_f (by omega)) (by omega) (by omega) (by omega) (by omega))).1⟩
  · exact (f k _ (tpC_f (szC_f (by omega)) (by omega) (by omega) (by omega) (by omega))).1
  · exact ⟨(g 71 _ (tpM_f (szM_f (by omega)) (by omega) (by omega) (by omega) (by omega))).1, (g 72 _ (tpM_f (szM_f (by omega)) (by omega) (by omega) (by omega) (by omega))).2⟩
  · exact (g 73 _ (tpM_f (szM_f (by omega)) (by omega) (by omega) (by omega) (by omega))).1
  · exact (g k _ (tpM_f (szM_f (by omega)) (by omega) (by omega) (by omega) (by omega))).1
