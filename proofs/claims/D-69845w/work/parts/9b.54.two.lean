/-! the gathering: between the two rounds -/
def gDC (k j : Nat) : Bool := k == 111 || k == 112 || k == 113 || k == 65 || k == 68 || k == 69 || k == 104 || k == 110 || (k == 8 && (j == 58 || j == 60 || j == 33 || j == 53)) || (k == 7 && (j == 27 || j == 28))
def gDM (k j : Nat) : Bool := k == 96 || k == 97 || k == 98 || k == 99 || k == 100 || k == 42 || k == 47 || k == 95 || (k == 0 && (j == 157 || j == 90 || j == 91 || j == 152))
theorem gD_v {σ σ' : lj_S} (f : lf gDC σ σ') : ∀ k j, vqC k j = true → σ'.1 k j = σ.1 k j := fun k j q => (f k j (by unfold vqC at q; unfold gDC; simp at q ⊢; omega)).1
theorem gE_v {τ τ' : lj_S} (g : lf gDM τ τ') : ∀ k j, vqM k j = true → τ'.1 k j = τ.1 k j := fun k j q => (g k j (by unfold vqM at q; unfold gDM; simp at q ⊢; omega)).1
theorem gD_o {σ σ' : lj_S} (f : lf gDC σ σ') {k j : Nat} (z : k ≠ 111 ∧ k ≠ 112 ∧ k ≠ 113 ∧ k ≠ 65 ∧ k ≠ 68 ∧ k ≠ 69 ∧ k ≠ 104 ∧ k ≠ 110 ∧ ¬ (k = 8 ∧ (j = 58 ∨ j = 60 ∨ j = 33 ∨ j = 53)) ∧ ¬ (k = 7 ∧ (j = 27 ∨ j = 28))) : σ'.1 k j = σ.1 k j ∧ σ'.2 k j = σ.2 k j := f k j (by unfold gDC; simp; omega)
theorem gE_o {τ τ' : lj_S} (g : lf gDM τ τ') {k j : Nat} (z : (k < 95 ∨ 100 < k) ∧ k ≠ 42 ∧ k ≠ 47 ∧ ¬ (k = 0 ∧ (j = 157 ∨ j = 90 ∨ j = 91 ∨ j = 152))) : τ'.1 k j = τ.1 k j ∧ τ'.2 k j = τ.2 k j := g k j (by unfold gDM; simp; omega)
theorem gKC_D {k j : Nat} (h : gKC k j = true) : gDC k j = true := by
  unfold gKC at h
  unfold gDC
  simp at h ⊢
  omega
theorem gKM_D {k j : Nat} (h : gKM k j = true) : gDM k j = true := by
  unfold gKM at h
  unfold gDM
  simp at h ⊢
  omega
theorem prt_gD {σ0 τ0 σ τ σ' τ' : lj_S} {ρ : Nat → Nat} {p : Nat} (f : lf gDC σ σ') (g : lf gDM τ τ') {L : List kF} {ce me mq : Nat} (h : prt σ0 τ0 σ τ ρ p L ce me mq) : prt σ0 τ0 σ' τ' ρ p L ce me mq :=
  prt_cg (fun a b w => w.cg (gD_v f) (gE_v g)) (oG_eq (gD_v f) (gE_v g)) (fun o _ => (gD_o f (by omega)).1) h (fun j _ _ _ => ⟨(gD_o f (by omega)).1, (gD_o f (by omega)).2, (gD_o f (by omega)).1⟩) (fun k i w1 w2 _ => (gD_o f (by omega)).1) (fun j _ => ⟨(gE_o g (by omega)).1, (gE_o g (by omega)).2⟩) (fun j _ => (gE_o g (by omega)).1) (fun k i w1 w2 _ => (gE_o g (by omega)).1) (fun i x _ _ => (gE_o g (by omega)).1) (fun _ _ => rfl)
theorem ptR_gD {σ0 σ τ σ' τ' : lj_S} {FP : Nat → List kF} {p np n : Nat} {r : List Nat} (f : lf gDC σ σ') (g : lf gDM τ τ') (h : ptR σ0 σ τ FP p r np n) : ptR σ0 σ' τ' FP p r np n := by
  have oa : ∀ o k, obA σ' τ' o k ↔ obA σ τ o k := fun o k => by unfold obA lv; rw [gD_v f 7 0 rfl, gD_v f 57 o rfl, gE_v g 38 o rfl]
  have c : ∀ k j, 59 ≤ k ∧ k ≤ 103 ∧ k ≠ 65 ∧ k ≠ 68 ∧ k ≠ 69 → σ'.1 k j = σ.1 k j ∧ σ'.2 k j = σ.2 k j := fun k j z => gD_o f (by omega)
  have m : ∀ k j, 58 ≤ k ∧ k ≤ 94 → τ'.1 k j = τ.1 k j ∧ τ'.2 k j = τ.2 k j := fun k j z => gE_o g (by omega)
  obtain ⟨⟨a1, a2, a3⟩, ⟨b1, b2⟩, ⟨c1, c2⟩, d1, d2, d3, d4, d5, d6, d7, d8, d9⟩ := h
  refine ⟨⟨by rw [(gD_o f (k := 7) (j := 1) (by omega)).1]; exact a1, by rw [(gE_o g (k := 0) (j := 110) (by omega)).1]; exact a2, a3⟩, ⟨by rw [(gD_o f (k := 8) (j := 7) (by omega)).1]; exact b1, by rw [(gE_o g (k := 0) (j := 111) (by omega)).1]; exact b2⟩, ⟨by rw [(c 83 p (by omega)).1]; exact c1, by rw [(m 58 p (by omega)).1]; exact c2⟩, chn_cg (fun k q w => (c k q (by omega)).1) (fun k q w => (m k q (by omega)).1) d1 (fun q hq => rfl), d2, d3, by rw [(gD_o f (k := 8) (j := 18) (by omega)).1]; exact d4, d5, d6, by rw [(m 59 0 (by omega)).1]; exact d7, ⟨fun q q1 q2 => ?_, fun o w => ?_⟩, fun q q1 q2 => ?_⟩
  · obtain ⟨o, o1, o2, o3, o4, o5, o6⟩ := d8.1 q q1 q2
    exact ⟨o, o1, o2, by rw [(c 85 q (by omega)).1]; exact o3, by rw [(m 59 q (by omega)).1]; exact o4, fun w => (oa o 6).2 (o5 (by rw [← (m 58 q (by omega)).1]; exact w)), fun w => by rw [(c 64 o (by omega)).1]; exact o6 ((oa o 6).1 w)⟩
  · obtain ⟨q, q1, q2, q3, q4⟩ := d8.2 o ((oa o 6).1 w)
    exact ⟨q, q1, q2, by rw [(c 64 o (by omega)).1]; exact q3, by rw [(c 85 q (by omega)).1]; exact q4⟩
  · rw [(c 83 q (by omega)).1, (m 58 q (by omega)).1, (c 88 q (by omega)).1, (c 89 q (by omega)).2, (m 60 q (by omega)).1, (m 61 q (by omega)).2, (c 87 q (by omega)).1, (m 69 q (by omega)).1, (m 70 q (by omega)).1, (m 62 q (by omega)).1, (c 85 q (by omega)).1]
    rcases d9 q q1 q2 with ⟨w1, w2, w3, w4, w5⟩ | w | ⟨w1, w2, w3, w4⟩
    · exact Or.inl ⟨w1, w2, w3, w4, w5.cg (gD_v f) (gE_v g)⟩
    · exact Or.inr (Or.inl w)
    · exact Or.inr (Or.inr ⟨w1, w2, w3, w4.imp id (fun ⟨o, o0, o1, o2, o3⟩ => ⟨o, o0, o1, by rw [gD_v f 57 o rfl]; exact o2, o3⟩)⟩)
theorem gw.up {σ0 τ0 σ τ σ' τ' : lj_S} {n np p : Nat} {r : List Nat} {FP : Nat → List kF} {ρ : Nat → Nat} {P B : Nat → List Nat} {Fr : List Nat} {P' B' : Nat → List Nat} {Fr' : List Nat} (h : gw σ0 τ0 n np p r FP ρ P B Fr P' B' Fr' σ τ) (f : lf gDC σ σ') (g : lf gDM τ τ') (ht : tw σ' τ' n P B Fr P' B' Fr') : gw σ0 τ0 n np p r FP ρ P B Fr P' B' Fr' σ' τ' := by
  obtain ⟨h1, h2, h3, h4, h5, h6, h7, h8⟩ := h
  have oa : ∀ o k, obA σ' τ' o k ↔ obA σ τ o k := fun o k => by unfold obA lv; rw [gD_v f 7 0 rfl, gD_v f 57 o rfl, gE_v g 38 o rfl]
  have e58 : ∀ q, τ'.1 58 q = τ.1 58 q := fun q => (gE_o g (by omega)).1
  have hv : ∀ a b, vR σ τ a b → vR σ' τ' a b := fun a b w => w.cg (gD_v f) (gE_v g)
  refine ⟨⟨fun k j q => ?_, fun k j q => ?_⟩, ht, fun o q w1 w2 w3 => h3 o q ((oa o 5).1 w1) w2 (by rw [← (gD_o f (k := 62) (j := o) (by omega)).1]; exact w3), ptR_gD f g h4, fun q q1 q2 => ?_, h6.cg hv (fun k j w => (gD_o f (by omega)).1) (fun j => (gD_o f (by omega)).2) (fun q s w => ⟨by unfold cv; rw [(gD_o f (k := 79) (j := s) (by omega)).1, (gD_o f (k := 80) (j := s) (by omega)).2], (gD_o f (by omega)).1⟩) (fun k j w => (gE_o g (by omega)).1) (fun j => (gE_o g (by omega)).2), h7.up (fun o k w => (oa o k).2 w) (gD_v f 57 0 rfl), fun q q1 q2 => h8 q q1 (by rw [← e58]; exact q2)⟩
  · have w := h1.1 k j q
    have := gD_o f (k := k) (j := j) (by unfold cdC at q; simp at q; omega)
    exact ⟨this.1.trans w.1, this.2.trans w.2⟩
  · have w := h1.2 k j q
    have := gE_o g (k := k) (j := j) (by unfold cdM at q; simp at q; omega)
    exact ⟨this.1.trans w.1, this.2.trans w.2⟩
  · obtain ⟨ce, me, mq, a1, a2, a3, a4, a5, a6⟩ := h5 q q1 (by rw [← e58]; exact q2)
    refine ⟨ce, me, mq, prt_gD f g a1, a2, ?_, ?_, by rw [(gE_o g (k := 63) (j := q) (by omega)).1]; exact a5, by rw [(gE_o g (k := 62) (j := q) (by omega)).1]; exact a6⟩
    · rw [(gD_o f (k := 8) (j := 8) (by omega)).1, (gD_o f (k := 82) (j := q) (by omega)).1]
      exact a3
    · rw [(gD_o f (k := 90) (j := q) (by omega)).1, (gD_o f (k := 91) (by omega)).1, (gD_o f (k := 95) (by omega)).1]
      exact a4
theorem ptC_gD {σ0 σ σ' : lj_S} (f : lf gDC σ σ') (p : Nat) (FP : Nat → List kF) (q x : Nat) : ptC σ0 σ' p FP q x ↔ ptC σ0 σ p FP q x := by
  have ec : ∀ j, cv σ' j = cv σ j := fun j => by unfold cv; rw [(gD_o f (k := 79) (j := j) (by omega)).1, (gD_o f (k := 80) (j := j) (by omega)).2]
  have tp : tpN σ' p q = tpN σ p q := by unfold tpN lv; rw [(gD_o f (k := 8) (j := 8) (by omega)).1, (gD_o f (k := 82) (j := q) (by omega)).1]
  unfold ptC
  rw [pCt_cg ec, tp, (gD_o f (k := 83) (j := q) (by omega)).1, (gD_o f (k := 88) (j := q) (by omega)).1, (gD_o f (k := 89) (j := q) (by omega)).2]
theorem kyC_gD {σ σ' : lj_S} (f : lf gDC σ σ') (q : Nat) : kyC σ' q = kyC σ q := by
  show ((σ'.1 66 q, σ'.2 67 q) : vT) = (σ.1 66 q, σ.2 67 q)
  rw [(gD_o f (k := 66) (j := q) (by omega)).1, (gD_o f (k := 67) (j := q) (by omega)).2]
/-- where pairs were dropped there are fewer ways -/
theorem edX_gD {σ0 σ τ σ' τ' : lj_S} (f : lf gDC σ σ') (g : lf gDM τ τ') {p : Nat} {FP : Nat → List kF} {P : Nat → List Nat} {o : Nat} (hmd : mdX σ' P o = mdX σ P o) (h68 : ∀ q, σ'.1 68 q ≠ 0 → σ'.1 68 q = σ.1 68 q ∧ σ'.2 69 q = σ.2 69 q) {x : Nat} (h : edX σ0 σ' τ' p FP P o x) : edX σ0 σ τ p FP P o x := by
  have ec : ∀ j, cv σ' j = cv σ j := fun j => by unfold cv; rw [(gD_o f (k := 79) (j := j) (by omega)).1, (gD_o f (k := 80) (j := j) (by omega)).2]
  have va : ∀ x, vaC σ' x = vaC σ x := fun x => by unfold vaC; rw [ec, (gD_o f (k := 75) (by omega)).1, (gD_o f (k := 76) (by omega)).2]
  have lo : ∀ x, loC σ' x = loC σ x := fun x => by unfold loC lv; rw [(gD_o f (k := 74) (j := x) (by omega)).1]
  have oa : ∀ o k, obA σ' τ' o k ↔ obA σ τ o k := fun o k => by unfold obA lv; rw [gD_v f 7 0 rfl, gD_v f 57 o rfl, gE_v g 38 o rfl]
  have e57 : σ'.1 57 o = σ.1 57 o := gD_v f 57 o rfl
  have e64 : σ'.1 64 o = σ.1 64 o := (gD_o f (by omega)).1
  have e58 : ∀ q, τ'.1 58 q = τ.1 58 q := fun q => (gE_o g (by omega)).1
  unfold edX at h
  rw [e57, e64] at h
  rcases h with ⟨k4, w⟩ | ⟨k5, w⟩ | ⟨k6, q, q1, q2, q3, q4, q5⟩
  · refine Or.inl ⟨k4, ?_⟩
    rcases w with ⟨w1, w2⟩ | ⟨q, hq, w1, w2⟩
    · left
      unfold lv at w2 ⊢
      rw [(gD_o f (k := 58) (j := o) (by omega)).1] at w2
      exact ⟨w1, w2⟩
    · right
      have ev : vlC σ' q = vlC σ q := by
        show ((σ'.1 68 q, σ'.2 69 q) : vT) = (σ.1 68 q, σ.2 69 q)
        rw [(h68 q w1).1, (h68 q w1).2]
      rw [hmd, kyC_gD f, ev] at w2
      exact ⟨q, hq, by rw [← (h68 q w1).1]; exact w1, w2⟩
  · refine Or.inr (Or.inl ⟨k5, ?_⟩)
    have e62 : ∀ j, σ'.1 62 j = σ.1 62 j := fun j => (gD_o f (by omega)).1
    have e63 : ∀ j, σ'.1 63 j = σ.1 63 j := fun j => (gD_o f (by omega)).1
    have e77 : ∀ j, σ'.1 77 j = σ.1 77 j := fun j => (gD_o f (by omega)).1
    unfold fnX cpO at w ⊢
    simp only [va, lo, oa, e62, e63, e77] at w
    exact w
  · exact Or.inr (Or.inr ⟨k6, q, q1, q2, q3, by rw [← e58]; exact q4, (ptC_gD f p FP q x).1 q5⟩)
theorem epX_gD {σ σ' : lj_S} (f : lf gDC σ σ') {P : Nat → List Nat} {t : Nat} (hmd : mdX σ' P t = mdX σ P t) (h68 : ∀ q, σ'.1 68 q ≠ 0 → σ'.1 68 q = σ.1 68 q ∧ σ'.2 69 q = σ.2 69 q) {k v : Nat} (h : epX σ' P t k v) : epX σ P t k v := by
  obtain ⟨a1, a2, a3, a4, q, hq, a5, a6, a7⟩ := h
  have ev : vlC σ' q = vlC σ q := by
    show ((σ'.1 68 q, σ'.2 69 q) : vT) = (σ.1 68 q, σ.2 69 q)
    rw [(h68 q a5).1, (h68 q a5).2]
  exact ⟨by rw [← gD_v f 57 t rfl]; exact a1, by rw [← hmd]; exact a2, a3, a4, q, hq, by rw [← (h68 q a5).1]; exact a5, by rw [← kyC_gD f]; exact a6, by rw [← ev]; exact a7⟩
theorem lsB_cg {b : Bool} {md : Nat} {S S' : Nat → Bool} (h : ∀ x, x ≠ 0 → S' x = S x) (k v : Nat) : lsB b md S' k v = lsB b md S k v := by
  unfold lsB
  by_cases z : v = 0
  · by_cases y : k = 0
    · simp [z, y]
    · rw [h k y]
      simp [z]
  · by_cases y : k = 0
    · rw [h v z]
      simp [y]
    · rw [h v z, h k y]
theorem dmB_S {σ τ : lj_S} {P P' : Nat → List Nat} {u : Nat} {b : Bool} {S S' : Nat → Bool} (h : ∀ x, x ≠ 0 → S' x = S x) : dmB σ τ P P' u b S' = dmB σ τ P P' u b S := by
  funext q
  unfold dmB
  rw [lsB_cg h]
