/-! a part goes on -/
theorem chn_cy {σ0 σ τ σ' τ' : lj_S} {FP : Nat → List kF} : ∀ {l : List Nat} {a : Nat}, (∀ k q, (k = 84 ∨ k = 86) → q ∈ a :: l → σ'.1 k q = σ.1 k q) → (∀ k q, (k = 66 ∨ k = 67 ∨ k = 68) → q ∈ a :: l → τ'.1 k q = τ.1 k q) → chn σ0 σ τ FP (a :: l) → (∀ q ∈ l, σ'.1 83 q = σ.1 83 q ∧ τ'.1 58 q = τ.1 58 q) → chn σ0 σ' τ' FP (a :: l)
  | [], _, _, _, h, _ => h
  | b :: l, a, hC, hM, h, w => by
    obtain ⟨⟨h1, h2, h3⟩, h4, ⟨h5, h6⟩, h7⟩ := h
    obtain ⟨w1, w2⟩ := w b List.mem_cons_self
    have m : a ∈ a :: b :: l := List.mem_cons_self
    exact ⟨⟨h1, by rw [hC 84 _ (by omega) m]; exact h2, by rw [hM 66 _ (by omega) m]; exact h3⟩, by rw [hC 86 _ (by omega) m, hM 67 _ (by omega) m, hM 68 _ (by omega) m]; exact h4, ⟨by rw [w1]; exact h5, by rw [w2]; exact h6⟩, chn_cy (fun k q z y => hC k q z (List.mem_cons_of_mem _ y)) (fun k q z y => hM k q z (List.mem_cons_of_mem _ y)) h7 (fun q hq => w q (List.mem_cons_of_mem _ hq))⟩
theorem gaL_1 {σ τ : lj_S} {p : Nat} : ∀ {L : List kF} {e : Nat}, (∀ F ∈ L, kS F ≠ 2) → gaL σ τ p L e e
  | [], _, _ => rfl
  | F :: L, e, hk => Or.inl ⟨hk F List.mem_cons_self, gaL_1 (fun F hF => hk F (List.mem_cons_of_mem _ hF))⟩
set_option maxHeartbeats 1000000 in
theorem MB.goes {σ0 τ0 σ τ : lj_S} {n np p q : Nat} {r : List Nat} {FP : Nat → List kF} {ρ : Nat → Nat} {A MO LA : List Nat} (h : MB σ0 τ0 n np p r FP ρ A MO LA σ τ) (hq : q ∉ p :: r) (q0 : q ≠ 0) (qn : q ≤ np) (hrl : r.length < 10) {oq : Nat} (obq : obA σ τ oq 6) (q85 : σ.1 85 q = Int32.ofNat oq) (nq4 : τ.1 58 q ≠ 4) (hk : ∀ F ∈ FP q, kS F ≠ 2) {σ' τ' : lj_S}
    (f : ∀ k j, ¬ (szC k j = true ∨ k = 83 ∧ (j = p ∨ j = q) ∨ k = 82 ∧ j = p ∨ (k = 84 ∨ k = 86) ∧ j = q ∨ k = 8 ∧ (j = 7 ∨ j = 8 ∨ j = 18 ∨ j = 34 ∨ j = 35)) → σ'.1 k j = σ.1 k j ∧ σ'.2 k j = σ.2 k j)
    (g : ∀ k j, ¬ (szM k j = true ∨ k = 58 ∧ (j = p ∨ j = q) ∨ (66 ≤ k ∧ k ≤ 68) ∧ j = q ∨ k = 0 ∧ j = 111) → τ'.1 k j = τ.1 k j ∧ τ'.2 k j = τ.2 k j)
    (e7 : σ'.1 8 7 = Int32.ofNat q) (e111 : τ'.1 0 111 = Int32.ofNat q) (e18 : σ'.1 8 18 = Int32.ofNat (r.length + 1)) (e83 : σ'.1 83 q = 2) (e58 : τ'.1 58 q = 2) (e83p : σ'.1 83 p = 3) (e58p : τ'.1 58 p = 3) (e8 : σ'.1 8 8 = σ.1 82 q) (e82 : σ'.1 82 p = σ.1 8 8) (e84 : σ'.1 84 q = Int32.ofNat p) (e66 : τ'.1 66 q = Int32.ofNat p) (haw : awR σ0 (FP p) (σ'.1 86 q) (τ'.1 67 q) (τ'.1 68 q)) (hfh : fhR σ' q (FP q)) : MB σ0 τ0 n np q (p :: r) FP ρ A MO LA σ' τ' := by
  have szc : ∀ k j, (k < 2 ∨ 2 < k) ∧ k ≠ 3 ∧ k ≠ 7 ∧ k ≠ 8 ∧ k ≠ 14 ∧ (k < 105 ∨ 108 < k) → szC k j = false := fun k j z => szC_f (by omega)
  have szm : ∀ k j, k ≠ 0 ∧ k ≠ 8 ∧ (k < 88 ∨ 91 < k) → szM k j = false := fun k j z => szM_f (by omega)
  have c : ∀ k j, (k < 2 ∨ 2 < k) ∧ k ≠ 3 ∧ k ≠ 7 ∧ k ≠ 8 ∧ k ≠ 14 ∧ (k < 105 ∨ 108 < k) → ¬ (k = 83 ∧ (j = p ∨ j = q) ∨ k = 82 ∧ j = p ∨ (k = 84 ∨ k = 86) ∧ j = q) → σ'.1 k j = σ.1 k j ∧ σ'.2 k j = σ.2 k j := fun k j z1 z2 => f k j (by
    rw [szc k j z1]
    rintro (w | w)
    · cases w
    · omega)
  have m : ∀ k j, k ≠ 0 ∧ k ≠ 8 ∧ (k < 88 ∨ 91 < k) → ¬ (k = 58 ∧ (j = p ∨ j = q) ∨ (66 ≤ k ∧ k ≤ 68) ∧ j = q) → τ'.1 k j = τ.1 k j ∧ τ'.2 k j = τ.2 k j := fun k j z1 z2 => g k j (by
    rw [szm k j z1]
    rintro (w | w)
    · cases w
    · omega)
  have c7 : ∀ j, ¬ (j = 27 ∨ j = 28) → σ'.1 7 j = σ.1 7 j ∧ σ'.2 7 j = σ.2 7 j := fun j z => f 7 j (by
    rw [szC_f (by omega)]
    rintro (w | w)
    · cases w
    · omega)
  have c3 : ∀ j, j ≠ 6 → σ'.1 3 j = σ.1 3 j ∧ σ'.2 3 j = σ.2 3 j := fun j z => f 3 j (by
    rw [szC_f (by omega)]
    rintro (w | w)
    · cases w
    · omega)
  have c8 : ∀ j, ¬ (j = 7 ∨ j = 8 ∨ j = 18 ∨ j = 34 ∨ j = 35 ∨ j = 38 ∨ 41 ≤ j ∧ j ≤ 44) → σ'.1 8 j = σ.1 8 j ∧ σ'.2 8 j = σ.2 8 j := fun j z => f 8 j (by
    rw [szC_f (by omega)]
    rintro (w | w)
    · cases w
    · omega)
  have m0 : ∀ j, ¬ (j = 20 ∨ j = 90 ∨ j = 91 ∨ 129 ≤ j ∧ j ≤ 145 ∨ j = 111) → τ'.1 0 j = τ.1 0 j ∧ τ'.2 0 j = τ.2 0 j := fun j z => g 0 j (by
    rw [szM_f (by omega)]
    rintro (w | w)
    · cases w
    · omega)
  have hls := h.ls
  obtain ⟨h1, h2, h3, h4, h5, h6, h7, h8, h9, h10, h11, h12, h13⟩ := h
  have vC : ∀ k j, vqC k j = true → σ'.1 k j = σ.1 k j := fun k j q => by
    by_cases z : k = 7
    · subst z; exact (c7 j (by unfold vqC at q; simp at q; omega)).1
    by_cases y : k = 3
    · subst y; exact (c3 j (by unfold vqC at q; simp at q; omega)).1
    · exact (c k j (by unfold vqC at q; simp at q; omega) (by unfold vqC at q; simp at q; omega)).1
  have vM : ∀ k j, vqM k j = true → τ'.1 k j = τ.1 k j := fun k j q => by
    by_cases z : k = 0
    · subst z; exact (m0 j (by unfold vqM at q; simp at q; omega)).1
    · exact (m k j (by unfold vqM at q; simp at q; omega) (by unfold vqM at q; simp at q; omega)).1
  have hv : ∀ a b, vR σ τ a b → vR σ' τ' a b := fun a b w => w.cg vC vM
  have hO := oG_eq vC vM
  have hG := sG_eq vC vM
  have oa : ∀ o k, obA σ' τ' o k ↔ obA σ τ o k := fun o k => by unfold obA lv; rw [vC 7 0 rfl, vC 57 o rfl, vM 38 o rfl]
  obtain ⟨⟨a1, a2, a3⟩, ⟨b1, b2⟩, ⟨x1, x2⟩, d1, d2, d3, d4, d5, d6, d7, d8, d9⟩ := h7
  have pq : p ≠ q := fun z => hq (by rw [z]; exact List.mem_cons_self)
  have pnp : p ≤ np := d3 p List.mem_cons_self
  have pf : ∀ u, u ≤ np → τ'.1 58 u ≠ 4 → ∃ ce me mq, paR σ0 τ0 σ' τ' ρ FP q u ce me mq := fun u q1 q2 => by
    have q2' : τ.1 58 u ≠ 4 := by
      by_cases z : u = p
      · rw [z, x2]; decide
      · by_cases z' : u = q
        · rw [z']; exact nq4
        · rw [(m 58 u (by omega) (by omega)).1] at q2; exact q2
    obtain ⟨ce1, me1, mq1, pr, ⟨t1, t2, t3, t4⟩, t8, t90, t63, t64, t62, t65⟩ := h8 u q1 q2'
    refine ⟨ce1, me1, mq1, prt_cg hv hO (fun o _ => (c 62 o (by omega) (by omega)).1) pr (fun j w1 w2 _ => ⟨(c 79 j (by omega) (by omega)).1, (c 80 j (by omega) (by omega)).2, (c 81 j (by omega) (by omega)).1⟩) (fun k i w1 w2 w3 => (c k _ (by omega) (by omega)).1) (fun j w => ⟨(m 71 _ (by omega) (by omega)).1, (m 72 _ (by omega) (by omega)).2⟩) (fun j w => (m 73 _ (by omega) (by omega)).1) (fun k i w1 w2 w3 => (m k _ (by omega) (by omega)).1) (fun i x w2 w3 => (m 87 _ (by omega) (by omega)).1) (fun _ _ => rfl), ⟨t1, t2, t3, t4⟩, ?_, by rw [(c 90 u (by omega) (by omega)).1]; exact t90, by rw [(m 63 u (by omega) (by omega)).1]; exact t63, by rw [(m 64 u (by omega) (by omega)).1]; exact t64, by rw [(m 62 u (by omega) (by omega)).1]; exact t62, by rw [(m 65 u (by omega) (by omega)).1]; exact t65⟩
    by_cases z : u = q
    · rw [if_pos z, e8, ← z]
      rw [if_neg (fun y => pq (y.symm.trans z))] at t8
      exact t8
    · rw [if_neg z]
      by_cases z' : u = p
      · rw [if_pos z'] at t8
        rw [z', e82]
        exact t8
      · rw [if_neg z'] at t8
        rw [(c 82 u (by omega) (by omega)).1]
        exact t8
  have hpt : ptR σ0 σ' τ' FP q (p :: r) np n := by
    have nd := List.nodup_cons.1 d2
    refine ⟨⟨by rw [(c7 1 (by omega)).1]; exact a1, by rw [(m0 110 (by omega)).1]; exact a2, a3⟩, ⟨e7, e111⟩, ⟨e83, e58⟩, ⟨⟨q0, e84, e66⟩, haw, ⟨e83p, e58p⟩, chn_cy (fun k u w y => ?_) (fun k u w y => ?_) d1 (fun u hu => ?_)⟩, List.nodup_cons.2 ⟨hq, d2⟩, fun u hu => ?_, by rw [List.length_cons]; exact e18, by rw [List.length_cons]; omega, d6, by rw [(m 59 0 (by omega) (by omega)).1]; exact d7, ⟨fun u q1 q2 => ?_, fun o w => ?_⟩, fun u q1 q2 => ?_⟩
    · have : u ≠ q := fun z => hq (by rw [← z]; exact y)
      exact (c k u (by omega) (by omega)).1
    · have : u ≠ q := fun z => hq (by rw [← z]; exact y)
      exact (m k u (by omega) (by omega)).1
    · have z1 : u ≠ q := fun z => hq (by rw [← z]; exact List.mem_cons_of_mem _ hu)
      have z2 : u ≠ p := fun z => nd.1 (by rw [← z]; exact hu)
      exact ⟨(c 83 u (by omega) (by omega)).1, (m 58 u (by omega) (by omega)).1⟩
    · rcases List.mem_cons.1 hu with y | y
      · rw [y]; exact qn
      · exact d3 u y
    · obtain ⟨o, o1, o2, o3, o4, o5, o6⟩ := d8.1 u q1 q2
      refine ⟨o, o1, o2, by rw [(c 85 u (by omega) (by omega)).1]; exact o3, by rw [(m 59 u (by omega) (by omega)).1]; exact o4, fun w => (oa o 6).2 ?_, fun w => by rw [(c 64 o (by omega) (by omega)).1]; exact o6 ((oa o 6).1 w)⟩
      by_cases y : u = q
      · rw [y, q85] at o3
        have := obq.2.1
        have n2 : o ≤ 2000 := Nat.le_trans o2 h4.1
        rw [show o = oq from ((ofN_eq (by omega) (by omega)).1 o3).symm]
        exact obq
      · refine o5 ?_
        by_cases z : u = p
        · rw [z, x2]; decide
        · rw [← (m 58 u (by omega) (by omega)).1]; exact w
    · obtain ⟨u, q1, q2, q3, q4⟩ := d8.2 o ((oa o 6).1 w)
      exact ⟨u, q1, q2, by rw [(c 64 o (by omega) (by omega)).1]; exact q3, by rw [(c 85 u (by omega) (by omega)).1]; exact q4⟩
    · have z : u ≠ p := fun y => q2 (by rw [y]; exact List.mem_cons_of_mem _ List.mem_cons_self)
      have z' : u ≠ q := fun y => q2 (by rw [y]; exact List.mem_cons_self)
      rw [(c 83 u (by omega) (by omega)).1, (m 58 u (by omega) (by omega)).1, (c 88 u (by omega) (by omega)).1, (c 89 u (by omega) (by omega)).2, (m 60 u (by omega) (by omega)).1, (m 61 u (by omega) (by omega)).2, (c 87 u (by omega) (by omega)).1, (m 69 u (by omega) (by omega)).1, (m 70 u (by omega) (by omega)).1, (m 62 u (by omega) (by omega)).1, (c 85 u (by omega) (by omega)).1]
      rcases d9 u q1 (fun y => q2 (List.mem_cons_of_mem _ y)) with ⟨w1, w2, w3, w4, w5⟩ | w | ⟨w1, w2, w3, w4⟩
      · exact Or.inl ⟨w1, w2, w3, w4, hv _ _ w5⟩
      · exact Or.inr (Or.inl w)
      · exact Or.inr (Or.inr ⟨w1, w2, w3, w4.imp id (fun ⟨o, o0, o1, o2, o3⟩ => ⟨o, o0, o1, by rw [(c 57 o (by omega) (by omega)).1]; exact o2, o3⟩)⟩)
  refine ⟨⟨fun k j q => ?_, fun k j q => ?_⟩, h2.cg (fun k j q => ?_) (fun k j q => ?_), h3.up hG (fun j => (c 78 j (by omega) (by omega)).1) (c8 1 (by omega)).1 (c8 3 (by omega)).1, h4.cg (fun k j q => ?_) (fun k j q => ?_), h5.cg (fun k j q => ?_) (fun k j q => ?_), fun o q w1 w2 w3 => h6 o q ((oa o 5).1 w1) w2 (by rw [← (c 62 o (by omega) (by omega)).1]; exact w3), hpt, pf, hfh, h10.cg' hv (fun k j w => ?_) (fun j => (c 76 j (by omega) (by omega)).2) (fun q s w => ⟨by unfold cv; rw [(c 79 s (by omega) (by omega)).1, (c 80 s (by omega) (by omega)).2], (c 81 s (by omega) (by omega)).1⟩) (fun k j w => ?_) (fun j => (m 55 j (by omega) (by omega)).2) (fun u _ => by
    by_cases z : u = p
    · rw [z, x2, e58p]
      decide
    · by_cases z' : u = q
      · rw [z', e58]
        exact ⟨fun y => absurd y (by decide), fun y => absurd y nq4⟩
      · rw [(m 58 u (by omega) (by omega)).1]), ?_, ?_, fun j z => by rw [(c 81 j (by omega) (by omega)).1]; exact h13.1 j z, h13.2.tr hG⟩
  · obtain ⟨w1, w2⟩ := h1.1 k j q
    obtain ⟨v1, v2⟩ := c k j (by unfold cdC at q; simp at q; omega) (by unfold cdC at q; simp at q; omega)
    exact ⟨v1.trans w1, v2.trans w2⟩
  · obtain ⟨w1, w2⟩ := h1.2 k j q
    obtain ⟨v1, v2⟩ := m k j (by unfold cdM at q; simp at q; omega) (by unfold cdM at q; simp at q; omega)
    exact ⟨v1.trans w1, v2.trans w2⟩
  · by_cases z : k = 3
    · subst z; exact (c3 j (by unfold sqC at q; simp at q; omega)).1
    · exact (c k j (by unfold sqC at q; simp at q; omega) (by unfold sqC at q; simp at q; omega)).1
  · by_cases z : k = 0
    · subst z; exact (m0 j (by unfold sqM at q; simp at q; omega)).1
    · exact (m k j (by unfold sqM at q; simp at q; omega) (by unfold sqM at q; simp at q; omega)).1
  · by_cases z : k = 7
    · subst z; exact c7 j (by unfold hqC vqC at q; simp at q; omega)
    by_cases y : k = 3
    · subst y; exact c3 j (by unfold hqC vqC at q; simp at q; omega)
    · exact c k j (by unfold hqC vqC at q; simp at q; omega) (by unfold hqC vqC at q; simp at q; omega)
  · by_cases z : k = 0
    · subst z; exact m0 j (by unfold hqM vqM at q; simp at q; omega)
    · exact m k j (by unfold hqM vqM at q; simp at q; omega) (by unfold hqM vqM at q; simp at q; omega)
  · by_cases z : k = 7
    · subst z; exact (c7 j (by omega)).1
    · exact (c k j (by omega) (by omega)).1
  · exact (m k j (by omega) (by omega)).1
  · by_cases z : k = 7
    · subst z; exact (c7 j (by omega)).1
    · exact (c k j (by omega) (by omega)).1
  · by_cases z : k = 0
    · subst z; exact (m0 j (by omega)).1
    · exact (m k j (by omega) (by omega)).1
  · have ga := h11.cx (σ' := σ') (τ' := τ') (FP' := FP) (fun o k w => (oa o k).2 w) (fun k j w => by
      by_cases z : k = 8
      · subst z; exact (c8 j (by omega)).1
      · exact (c k j (by omega) (by omega)).1) (fun k j w => by
      by_cases z : k = 0
      · subst z; exact (m0 j (by omega)).1
      · exact (m k j (by omega) (by omega)).1) (fun j => (m 42 j (by omega) (by omega)).2) (m0 78 (by omega)).2 (fun q e e' w => gaL_cx (fun k i w1 _ => (c k _ (by omega) (by omega)).1) (fun k i w1 _ => (m k _ (by omega) (by omega)).1) w)
    obtain ⟨g1, g2, g3, g4, g6, g7⟩ := ga
    exact ⟨g1, g2, g3, ⟨_, gaL_1 hk, g4⟩, g6, g7⟩
  · have e : lv σ' 8 50 = lv σ 8 50 := by unfold lv; rw [(c8 50 (by omega)).1]
    refine ⟨by rw [(c8 50 (by omega)).1, (m0 150 (by omega)).1]; exact h12.1, by rw [e]; exact h12.2.1, fun j j1 j2 => ?_⟩
    rw [(c 109 j (by omega) (by omega)).1, (m 94 j (by omega) (by omega)).1]
    exact h12.2.2 j j1 (by rw [e] at j2; exact j2)
