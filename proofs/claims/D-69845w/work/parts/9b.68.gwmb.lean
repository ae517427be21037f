/-! the gathering: its world, out of the relation -/
theorem prt_wait {σ0 τ0 σ τ : lj_S} {ρ : Nat → Nat} {p : Nat} : ∀ {L : List kF} {ce me mq : Nat}, prt σ0 τ0 σ τ ρ p L ce me mq → (∀ F ∈ L.head?, kS F = 0 → kW F ≠ 0) → ∀ F ∈ L, kS F = 0 → kW F ≠ 0
  | [], _, _, _, _, _, F, hF => by cases hF
  | F :: L, ce, me, mq, h, hd, G, hG => by
    obtain ⟨ms, ks, h1, h2, h3⟩ := h
    rcases List.mem_cons.1 hG with e | e
    · rw [e]
      exact hd F rfl
    · refine prt_wait h1 (fun H hH => ?_) G e
      cases L with
      | nil => cases hH
      | cons H' L =>
        have : H' = H := by
          have hH : some H' = some H := hH
          exact Option.some.inj hH
        rw [← this]
        intro z
        rcases h3 with w | w | w
        · rw [z] at w; exact absurd w.1 (by decide)
        · rw [z] at w; exact absurd w.1 (by decide)
        · exact w.2.1
theorem aw_head {σ0 : lj_S} {L : List kF} {as md wt : Int32} (h : awR σ0 L as md wt) : ∀ F ∈ L.head?, kS F = 0 → kW F ≠ 0 := fun F hF z => by
  cases L with
  | nil => cases hF
  | cons G L =>
    have : G = F := by
      have hF : some G = some F := hF
      exact Option.some.inj hF
    rw [← this] at z ⊢
    rcases h with w | w | w
    · rw [z] at w; exact absurd w.1 (by decide)
    · rw [z] at w; exact absurd w.1 (by decide)
    · exact w.2.1
theorem chn_aw {σ0 σ τ : lj_S} {FP : Nat → List kF} : ∀ {l : List Nat}, chn σ0 σ τ FP l → ∀ q ∈ l.tail, ∃ as md wt, awR σ0 (FP q) as md wt
  | [], h, _, _ => h.elim
  | [_], _, _, hq => by cases hq
  | a :: b :: l, h, q, hq => by
    rcases List.mem_cons.1 hq with e | e
    · rw [e]
      exact ⟨_, _, _, h.2.1⟩
    · exact chn_aw h.2.2.2 q e
theorem MB.gw {σ0 τ0 σ τ : lj_S} {n np p : Nat} {r : List Nat} {FP : Nat → List kF} {ρ : Nat → Nat} {A MO LA : List Nat} (h : MB σ0 τ0 n np p r FP ρ A MO LA σ τ) {as md wt : Int32} (ha : awR σ0 (FP p) as md wt) : ∃ (P B : Nat → List Nat) (Fr : List Nat) (P' B' : Nat → List Nat) (Fr' : List Nat), gw σ0 τ0 n np p r FP ρ P B Fr P' B' Fr' σ τ := by
  obtain ⟨h1, h2, h3, h4, h5, h6, h7, h8, h9, h10, h11, h12, h13⟩ := h
  obtain ⟨P, B, Fr, P', B', Fr', hX⟩ := h4.X
  refine ⟨P, B, Fr, P', B', Fr', h1, ⟨h2.1, h3.2.1, hX, h5⟩, h6, h7, fun q q1 q2 => ?_, h10, h11.2.2.1, fun q q1 q2 => ?_⟩
  · obtain ⟨ce, me, mq, pr, t1, t8, t90, t63, t64, t62, t65⟩ := h8 q q1 q2
    exact ⟨ce, me, mq, pr, t1, t8, Or.inl t90, t63, t62⟩
  · obtain ⟨ce, me, mq, pr, _⟩ := h8 q q1 q2
    refine prt_wait pr ?_
    by_cases e : q ∈ p :: r
    · rcases List.mem_cons.1 e with e | e
      · rw [e]
        exact aw_head ha
      · obtain ⟨_, _, _, w⟩ := chn_aw h7.2.2.2.1 q e
        exact aw_head w
    · rcases h7.2.2.2.2.2.2.2.2.2.2.2 q q1 e with ⟨_, _, w, _⟩ | ⟨_, _, w, _⟩ | ⟨w, _⟩
      · intro F hF
        rw [w] at hF
        cases hF
      · exact aw_head w
      · exact absurd w q2
/-- the component has laid a frame more -/
theorem gw.psh {σ0 τ0 σ τ : lj_S} {n np p : Nat} {r : List Nat} {FP : Nat → List kF} {ρ : Nat → Nat} {P B : Nat → List Nat} {Fr : List Nat} {P' B' : Nat → List Nat} {Fr' : List Nat} (h : gw σ0 τ0 n np p r FP ρ P B Fr P' B' Fr' σ τ) (hl : (FP p).length < 20) {σ2 : lj_S} (f : ∀ k j, ¬ (k = 8 ∧ j = 34) → ¬ (k = 90 ∧ j = p) → ¬ (91 ≤ k ∧ k ≤ 102 ∧ j = 20 * p + (FP p).length) → σ2.1 k j = σ.1 k j ∧ σ2.2 k j = σ.2 k j) (e90 : σ2.1 90 p = Int32.ofNat ((FP p).length + 1)) (e91 : σ2.1 91 (20 * p + (FP p).length) = 2) (e95 : σ2.1 95 (20 * p + (FP p).length) = σ.1 8 8) : gw σ0 τ0 n np p r FP ρ P B Fr P' B' Fr' σ2 τ := by
  obtain ⟨h1, h2, h3, h4, h5, h6, h7, h8⟩ := h
  have c : ∀ k j, k ≠ 8 → k ≠ 90 → (k < 91 ∨ 102 < k) → σ2.1 k j = σ.1 k j ∧ σ2.2 k j = σ.2 k j := fun k j w1 w2 w3 => f k j (by omega) (by omega) (by omega)
  have vC : ∀ k j, vqC k j = true → σ2.1 k j = σ.1 k j := fun k j q => (c k j (by unfold vqC at q; simp at q; omega) (by unfold vqC at q; simp at q; omega) (by unfold vqC at q; simp at q; omega)).1
  have hv : ∀ a b, vR σ τ a b → vR σ2 τ a b := fun a b w => w.cg vC (fun _ _ _ => rfl)
  have oa : ∀ o k, obA σ2 τ o k ↔ obA σ τ o k := fun o k => by unfold obA lv; rw [vC 7 0 rfl, vC 57 o rfl]
  refine ⟨⟨fun k j q => ?_, h1.2⟩, ⟨h2.1.cg (fun k j q => (c k j (by unfold sqC at q; simp at q; omega) (by unfold sqC at q; simp at q; omega) (by unfold sqC at q; simp at q; omega)).1) (fun _ _ _ => rfl), ?_, h2.2.2.1.cg (fun k j q => c k j (by unfold hqC vqC at q; simp at q; omega) (by unfold hqC vqC at q; simp at q; omega) (by unfold hqC vqC at q; simp at q; omega)) (fun _ _ _ => ⟨rfl, rfl⟩), h2.2.2.2.cg (fun k j q => (c k j (by omega) (by omega) (by omega)).1) (fun _ _ _ => rfl)⟩, fun o q w1 w2 w3 => h3 o q ((oa o 5).1 w1) w2 (by rw [← (c 62 o (by omega) (by omega) (by omega)).1]; exact w3), ?_, fun q q1 q2 => ?_, h6.cg hv (fun k j w => (c k j (by omega) (by omega) (by omega)).1) (fun j => (c 76 j (by omega) (by omega) (by omega)).2) (fun q s w => ⟨by unfold cv; rw [(c 79 s (by omega) (by omega) (by omega)).1, (c 80 s (by omega) (by omega) (by omega)).2], (c 81 s (by omega) (by omega) (by omega)).1⟩) (fun _ _ _ => rfl) (fun _ => rfl), h7.up (fun o k w => (oa o k).2 w) (vC 57 0 rfl), h8⟩
  · have w := h1.1 k j q
    obtain ⟨y1, y2⟩ := c k j (by unfold cdC at q; simp at q; omega) (by unfold cdC at q; simp at q; omega) (by unfold cdC at q; simp at q; omega)
    exact ⟨y1.trans w.1, y2.trans w.2⟩
  · rw [(f 8 1 (by omega) (by omega) (by omega)).1]
    exact h2.2.1.up (sG_eq vC (fun _ _ _ => rfl))
  · obtain ⟨⟨a1, a2, a3⟩, ⟨b1, b2⟩, ⟨c1, c2⟩, d1, d2, d3, d4, d5, d6, d7, d8, d9⟩ := h4
    refine ⟨⟨by rw [(c 7 1 (by omega) (by omega) (by omega)).1]; exact a1, a2, a3⟩, ⟨by rw [(f 8 7 (by omega) (by omega) (by omega)).1]; exact b1, b2⟩, ⟨by rw [(c 83 p (by omega) (by omega) (by omega)).1]; exact c1, c2⟩, chn_cg (fun k q w => (c k q (by omega) (by omega) (by omega)).1) (fun _ _ _ => rfl) d1 (fun q hq => rfl), d2, d3, by rw [(f 8 18 (by omega) (by omega) (by omega)).1]; exact d4, d5, d6, d7, ⟨fun q q1 q2 => ?_, fun o w => ?_⟩, fun q q1 q2 => ?_⟩
    · obtain ⟨o, o1, o2, o3, o4, o5, o6⟩ := d8.1 q q1 q2
      exact ⟨o, o1, o2, by rw [(c 85 q (by omega) (by omega) (by omega)).1]; exact o3, o4, fun w => (oa o 6).2 (o5 w), fun w => by rw [(c 64 o (by omega) (by omega) (by omega)).1]; exact o6 ((oa o 6).1 w)⟩
    · obtain ⟨q, q1, q2, q3, q4⟩ := d8.2 o ((oa o 6).1 w)
      exact ⟨q, q1, q2, by rw [(c 64 o (by omega) (by omega) (by omega)).1]; exact q3, by rw [(c 85 q (by omega) (by omega) (by omega)).1]; exact q4⟩
    · rw [(c 83 q (by omega) (by omega) (by omega)).1, (c 88 q (by omega) (by omega) (by omega)).1, (c 89 q (by omega) (by omega) (by omega)).2, (c 87 q (by omega) (by omega) (by omega)).1, (c 85 q (by omega) (by omega) (by omega)).1]
      rcases d9 q q1 q2 with ⟨w1, w2, w3, w4, w5⟩ | w | ⟨w1, w2, w3, w4⟩
      · exact Or.inl ⟨w1, w2, w3, w4, hv _ _ w5⟩
      · exact Or.inr (Or.inl w)
      · exact Or.inr (Or.inr ⟨w1, w2, w3, w4.imp id (fun ⟨o, o0, o1, o2, o3⟩ => ⟨o, o0, o1, by rw [vC 57 o rfl]; exact o2, o3⟩)⟩)
  · obtain ⟨ce, me, mq, pr, ⟨t1, t2, t3, t4⟩, t8, t90, t63, t62⟩ := h5 q q1 q2
    have np25 := h4.1.2.2
    refine ⟨ce, me, mq, prt_cg hv (oG_eq vC (fun _ _ _ => rfl)) (fun o _ => (c 62 o (by omega) (by omega) (by omega)).1) pr (fun j _ _ _ => ⟨(c 79 j (by omega) (by omega) (by omega)).1, (c 80 j (by omega) (by omega) (by omega)).2, (c 81 j (by omega) (by omega) (by omega)).1⟩) (fun k i w1 w2 w3 => (f k _ (by omega) (by omega) (fun y => ?_)).1) (fun _ _ => ⟨rfl, rfl⟩) (fun _ _ => rfl) (fun _ _ _ _ _ => rfl) (fun _ _ _ _ => rfl) (fun _ _ => rfl), ⟨t1, t2, t3, t4⟩, by rw [(f 8 8 (by omega) (by omega) (by omega)).1, (c 82 q (by omega) (by omega) (by omega)).1]; exact t8, ?_, t63, t62⟩
    · have e : q = p := by omega
      rw [e] at w3
      omega
    · by_cases e : q = p
      · right
        rw [e] at t8 t2 ⊢
        rw [if_pos rfl] at t8
        exact ⟨hl, e90, e91, by rw [e95]; exact t8⟩
      · rcases t90 with w | ⟨w1, w2, w3, w4⟩
        · left
          rw [(f 90 q (by omega) (by omega) (by omega)).1]
          exact w
        · right
          refine ⟨w1, by rw [(f 90 q (by omega) (by omega) (by omega)).1]; exact w2, ?_, ?_⟩
          · rw [(f 91 _ (by omega) (by omega) (fun y => e (by omega))).1]
            exact w3
          · rw [(f 95 _ (by omega) (by omega) (fun y => e (by omega))).1]
            exact w4
/-- a frame that is no text holds nothing -/
theorem ptC_fp {σ0 σ : lj_S} {p : Nat} {FP : Nat → List kF} {F : kF} {L : List kF} (hF : FP p = L) (hS : kS F ≠ 0) (hC : tpN σ p p = kC F) (q x : Nat) : ptC σ0 σ p (fpT FP p (F :: L)) q x ↔ ptC σ0 σ p FP q x := by
  unfold ptC
  by_cases e : q = p
  · rw [e, fpT_o, hF, hC]
    constructor
    · rintro (w | w)
      · exact Or.inl w
      · rcases w with w | w
        · exact absurd w.1 hS
        · exact Or.inr w
    · rintro (w | w)
      · exact Or.inl w
      · exact Or.inr (Or.inr w)
  · have : fpT FP p (F :: L) q = FP q := by unfold fpT; rw [if_neg e]
    rw [this]
