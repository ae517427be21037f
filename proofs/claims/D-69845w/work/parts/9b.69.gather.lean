/-! what is built in: the gathering -/
theorem gL_mem {p i : Nat} : ∀ {L : List kF}, i ∈ gL p L → ∃ j, j < L.length ∧ i = 20 * p + j
  | [], h => by cases h
  | F :: L, h => by
    unfold gL at h
    by_cases e : kS F = 2
    · rw [if_pos e] at h
      rcases List.mem_cons.1 h with w | w
      · exact ⟨L.length, by rw [List.length_cons]; omega, w⟩
      · obtain ⟨j, j1, j2⟩ := gL_mem w
        exact ⟨j, by rw [List.length_cons]; omega, j2⟩
    · rw [if_neg e] at h
      obtain ⟨j, j1, j2⟩ := gL_mem h
      exact ⟨j, by rw [List.length_cons]; omega, j2⟩
theorem gX_mem {FP : Nat → List kF} {i : Nat} : ∀ {l : List Nat}, i ∈ gX FP l → ∃ q ∈ l, ∃ j, j < (FP q).length ∧ i = 20 * q + j
  | [], h => by cases h
  | q :: l, h => by
    rcases List.mem_append.1 h with w | w
    · exact ⟨q, List.mem_cons_self, gL_mem w⟩
    · obtain ⟨q', q1, q2⟩ := gX_mem w
      exact ⟨q', List.mem_cons_of_mem _ q1, q2⟩
theorem ls_len (S : Nat → Bool) : ∀ (M : List Nat), (lsS S M).length + (lsN S M).length = M.length
  | [] => rfl
  | t :: M => by
    have := ls_len S M
    unfold lsS lsN at this ⊢
    rw [List.filter_cons, List.filter_cons]
    cases e : S t with
    | true => simp only [Bool.not_true, if_true, List.length_cons]; simp; omega
    | false => simp only [Bool.not_false, if_true, List.length_cons]; simp; omega
/-- before anything is gathered: the frame is laid in both -/
theorem gat0 {σ0 τ0 σ τ : lj_S} {n np p : Nat} {r : List Nat} {FP : Nat → List kF} {ρ : Nat → Nat} {A MO LA : List Nat} (h : MB σ0 τ0 n np p r FP ρ A MO LA σ τ) (hwk : wkR FP (p :: r) A σ) {as line : Int32} (ha : awR σ0 (FP p) as (τ.1 0 130) (τ.1 0 131)) {L : List kF} (hL : L = FP p) (hl : L.length < 20) {σ1 : lj_S} (e34 : σ1.1 8 34 = Int32.ofNat (20 * p + L.length)) (e90 : σ1.1 90 p = Int32.ofNat (L.length + 1)) (e91 : σ1.1 91 (20 * p + L.length) = 2) (e98 : σ1.1 98 (20 * p + L.length) = as) (e99 : σ1.1 99 (20 * p + L.length) = line) (e95 : σ1.1 95 (20 * p + L.length) = σ.1 8 8) (e2 : ∀ k j, ¬ (k = 8 ∧ j = 34) → ¬ (k = 90 ∧ j = p) → ¬ ((k = 91 ∨ k = 98 ∨ k = 99 ∨ k = 95) ∧ j = (20 * p + L.length)) → σ1.1 k j = σ.1 k j ∧ σ1.2 k j = σ.2 k j) {σ2 : lj_S} (hσ2 : σ2 = lj_put (lj_put σ1 100 (20 * p + L.length) (σ1.1 8 33)) 102 (20 * p + L.length) 0) {τv : lj_S} (hτv : τv = lj_put (lj_put (lj_put (lj_put (lj_put (lj_put (lj_put (lj_put (lj_put (lj_put (lj_put τ 62 p (Int32.ofNat (L.length + 1))) 65 p (Int32.ofNat (L.length + 1))) 74 (48 * p + L.length) 2) 78 (48 * p + L.length) (τ.1 0 130)) 79 (48 * p + L.length) (τ.1 0 131)) 80 (48 * p + L.length) (τ.1 63 p)) 81 (48 * p + L.length) (τ.1 64 p)) 83 (48 * p + L.length) line) 84 (48 * p + L.length) (τ.1 0 152)) 85 (48 * p + L.length) (τ.1 0 152)) 86 (48 * p + L.length) (σ2.1 101 (20 * p + L.length))) {ce : Nat} (hce : σ.1 8 8 = Int32.ofNat ce) (ce2 : ce < 2147483648) : MB σ0 τ0 n np p r (fpT FP p ((2, 0, (0, 0, 0, [], [], 0), 0, 0, ce, 0) :: L)) ρ A MO LA σ2 τv ∧ wkR (fpT FP p ((2, 0, (0, 0, 0, [], [], 0), 0, 0, ce, 0) :: L)) (p :: r) A σ2 := by
  have h7 := h.2.2.2.2.2.2.1
  have hpr : p ∉ r := (List.nodup_cons.1 h7.2.2.2.2.1).1
  have np25 := h7.1.2.2
  have hp : p ≤ np := h7.2.2.2.2.2.1 p List.mem_cons_self
  obtain ⟨F, hFd⟩ : ∃ F : kF, F = (2, 0, (0, 0, 0, [], [], 0), 0, 0, ce, 0) := ⟨_, rfl⟩
  rw [← hFd]
  have kSF : kS F = 2 := by rw [hFd]
  have kCF : kC F = ce := by rw [hFd]
  have c2 : ∀ k j, ¬ (k = 8 ∧ j = 34) → ¬ (k = 90 ∧ j = p) → ¬ (91 ≤ k ∧ k ≤ 102 ∧ j = (20 * p + L.length)) → σ2.1 k j = σ.1 k j ∧ σ2.2 k j = σ.2 k j := fun k j z1 z2 z3 => by
    obtain ⟨u1, u2⟩ := e2 k j z1 z2 (fun y => z3 ⟨by omega, by omega, y.2⟩)
    rw [hσ2]
    exact ⟨by rw [lj_put_1, if_neg (by omega), lj_put_1, if_neg (by omega)]; exact u1, u2⟩
  have mv : ∀ k j, ¬ ((k = 62 ∨ k = 65) ∧ j = p) → ¬ (74 ≤ k ∧ k ≤ 86 ∧ j = (48 * p + L.length)) → τv.1 k j = τ.1 k j ∧ τv.2 k j = τ.2 k j := fun k j z1 z2 => by
    rw [hτv]
    exact ⟨by rw [lj_put_1, if_neg (by omega), lj_put_1, if_neg (by omega), lj_put_1, if_neg (by omega), lj_put_1, if_neg (by omega), lj_put_1, if_neg (by omega), lj_put_1, if_neg (by omega), lj_put_1, if_neg (by omega), lj_put_1, if_neg (by omega), lj_put_1, if_neg (by omega), lj_put_1, if_neg (by omega), lj_put_1, if_neg (by omega)], rfl⟩
  have nA : (20 * p + L.length) ∉ A := fun w => by
    obtain ⟨q, q1, j, j1, j2⟩ := gX_mem (hwk.2.1.subset w)
    have ql := h.l20 (h7.2.2.2.2.2.1 q q1)
    have e : q = p := by omega
    rw [e, ← hL] at j1
    rw [e] at j2
    omega
  have vC : ∀ k j, vqC k j = true → σ2.1 k j = σ.1 k j := fun k j q => (c2 k j (by unfold vqC at q; simp at q; omega) (by unfold vqC at q; simp at q; omega) (by unfold vqC at q; simp at q; omega)).1
  have vM : ∀ k j, vqM k j = true → τv.1 k j = τ.1 k j := fun k j q => (mv k j (by unfold vqM at q; simp at q; omega) (by unfold vqM at q; simp at q; omega)).1
  have oA : ∀ o k, obA σ τ o k → obA σ2 τv o k := fun o k w => ⟨w.1, w.2.1, by unfold lv; rw [vC 7 0 rfl]; exact w.2.2.1, by rw [vC 57 o rfl]; exact w.2.2.2.1, by rw [vM 38 o rfl]; exact w.2.2.2.2⟩
  have s102 : ∀ i, σ2.1 102 i = if i = (20 * p + L.length) then 0 else σ.1 102 i := fun i => by
    by_cases e : i = (20 * p + L.length)
    · rw [if_pos e, hσ2, lj_put_1, if_pos ⟨rfl, e⟩]
    · rw [if_neg e]
      exact (c2 102 i (by omega) (by omega) (by omega)).1
  obtain ⟨⟨a1, a2, a3, a4, a5, a6, a7⟩, ⟨b1, b2, b3, b4⟩, c1, cc2, c3, c4⟩ := h.2.2.2.2.2.2.2.2.2.2.1
  have lLa : LA.tail.length ≤ n + 1 := nd_len b3 (fun x hx => by
    obtain ⟨i, i1, i2⟩ := List.getElem_of_mem hx
    have w := (b4 i i1).1
    have e : LA.tail.getD i 0 = x := by rw [List.getD_eq_getElem?_getD, List.getElem?_eq_getElem i1, i2]; rfl
    rw [e] at w
    have y1 := w.2.2.1
    have y2 := h.2.2.2.1.2.1
    omega)
  have n2000 := h.2.2.2.1.1
  have e33 : σ1.1 8 33 = Int32.ofNat LA.tail.length := by
    rw [(e2 8 33 (by omega) (by omega) (by omega)).1]
    exact lz_ext (by rw [lz_lit (by omega)]; exact b1)
  have e152 : τ.1 0 152 = Int32.ofNat LA.tail.length := by
    rw [← e33, (e2 8 33 (by omega) (by omega) (by omega)).1]
    exact lz_ext (by rw [lv_def, lv_def, b1, b2])
  have gga : gaR σ2 τv n (fpT FP p (F :: L)) (p :: r) A MO LA := by
    refine ⟨⟨by unfold lv at a1 ⊢; rw [(c2 8 53 (by omega) (by omega) (by omega)).1]; exact a1, fun i hi => by rw [(c2 110 i (by omega) (by omega) (by omega)).1]; exact a2 i hi, a3, fun t ht => ?_, ?_, by rw [(mv 0 78 (by omega) (by omega)).2, lv_eq (c2 8 45 (by omega) (by omega) (by omega)).1]; exact a6, fun t t1 t2 => ?_⟩, ⟨by unfold lv at b1 ⊢; rw [(c2 8 33 (by omega) (by omega) (by omega)).1]; exact b1, by unfold lv at b2 ⊢; rw [(mv 0 152 (by omega) (by omega)).1]; exact b2, b3, fun i hi => ?_⟩, c1.up oA (vC 57 0 rfl), ?_, fun i hi => ?_, by rw [(c2 8 51 (by omega) (by omega) (by omega)).1, (mv 0 153 (by omega) (by omega)).1]; exact c4⟩
    · obtain ⟨w1, w2, w3⟩ := a4 t ht
      rw [(mv 42 t (by omega) (by omega)).2, (mv 0 78 (by omega) (by omega)).2]
      exact ⟨oA _ _ w1, w2, w3⟩
    · exact a5.imp (fun {x y} w => by rw [(mv 42 x (by omega) (by omega)).2, (mv 42 y (by omega) (by omega)).2]; exact w)
    · rw [vC 57 t rfl, (c2 65 t (by omega) (by omega) (by omega)).1, (mv 42 t (by omega) (by omega)).2]
      exact a7 t t1 t2
    · obtain ⟨w1, w2, w3⟩ := b4 i hi
      exact ⟨oA _ _ w1, by rw [(c2 104 i (by omega) (by omega) (by omega)).1]; exact w2, by rw [(mv 95 i (by omega) (by omega)).1]; exact w3⟩
    · obtain ⟨e', g1, g2⟩ := cc2
      refine ⟨e', ?_, ?_⟩
      · rw [fpT_o]
        refine Or.inr ⟨kSF, LA.tail.length, ⟨Nat.le_refl _, trivial⟩, ⟨?_, ?_, ?_⟩, ⟨?_, ?_⟩, ?_⟩
        · rw [hσ2, lj_put_1, if_neg (by omega), lj_put_1, if_pos ⟨rfl, rfl⟩]; exact e33
        · have x : τv.1 84 (48 * p + L.length) = τ.1 0 152 := by rw [hτv]; simp [lj_put_1]
          rw [x]; exact e152
        · have x : τv.1 85 (48 * p + L.length) = τ.1 0 152 := by rw [hτv]; simp [lj_put_1]
          rw [x]; exact e152
        · rw [hτv]; simp [lj_put_1]
        · rw [hσ2, hτv]; simp [lj_put_1]; exact e99
        · rw [← hL] at g1
          exact gaL_cx (fun k i y1 y2 => (c2 k _ (by omega) (by omega) (by omega)).1) (fun k i y1 y2 => (mv k _ (by omega) (by omega)).1) g1
      · have : ∀ (l : List Nat) (e : Nat), (∀ q ∈ l, q ∈ r) → gaC σ τ FP l e → gaC σ2 τv (fpT FP p (F :: L)) l e := by
          intro l
          induction l with
          | nil => intro e _ w; exact w
          | cons q l ih =>
            intro e hl' w
            obtain ⟨e'', w1, w2⟩ := w
            have qr := hl' q List.mem_cons_self
            have qp : q ≠ p := fun z => hpr (by rw [← z]; exact qr)
            have ql := h.l20 (h7.2.2.2.2.2.1 q (List.mem_cons_of_mem _ qr))
            refine ⟨e'', ?_, ih e'' (fun x hx => hl' x (List.mem_cons_of_mem _ hx)) w2⟩
            rw [fpT_ne FP hpr _ q qr]
            exact gaL_cx (fun k i y1 y2 => (c2 k _ (by omega) (by omega) (by omega)).1) (fun k i y1 y2 => (mv k _ (by omega) (by omega)).1) w1
        exact this r e' (fun _ y => y) g2
    · rw [s102]
      by_cases e : i = (20 * p + L.length)
      · rw [if_pos e]
      · rw [if_neg e]; exact c3 i hi
  refine ⟨h.pnf hL.symm hl (Or.inr kSF) (by rw [kCF]; exact hce) (by rw [kCF]; exact ce2) (fun k j z => c2 k j (fun y => z (Or.inl y)) (fun y => z (Or.inr (Or.inl y))) (fun y => z (Or.inr (Or.inr (Or.inl y))))) (fun k j z => mv k j (fun y => z (Or.inl y)) (fun y => z (Or.inr (Or.inl y)))) (by rw [hσ2, lj_put_1, if_neg (by omega), lj_put_1, if_neg (by omega)]; exact e34) (by rw [hσ2, lj_put_1, if_neg (by omega), lj_put_1, if_neg (by omega)]; exact e90) (by rw [hσ2, lj_put_1, if_neg (by omega), lj_put_1, if_neg (by omega), kSF]; exact e91) (by rw [hσ2, lj_put_1, if_neg (by omega), lj_put_1, if_neg (by omega)]; exact e95) (by rw [hτv]; simp [lj_put_1]) (by rw [hτv]; simp [lj_put_1]) (by rw [hτv, kSF]; simp [lj_put_1]) (by rw [hτv]; simp [lj_put_1]) (by rw [hτv]; simp [lj_put_1]) ?_ gga, fun i hi => ?_, ?_, pfI_o (fpT_ne FP hpr _) hwk.2.2⟩
  · have x1 : σ2.1 98 (20 * p + L.length) = as := by rw [hσ2, lj_put_1, if_neg (by omega), lj_put_1, if_neg (by omega)]; exact e98
    have x2 : τv.1 78 (48 * p + L.length) = τ.1 0 130 := by rw [hτv]; simp [lj_put_1]
    have x3 : τv.1 79 (48 * p + L.length) = τ.1 0 131 := by rw [hτv]; simp [lj_put_1]
    rw [x1, x2, x3, hL]
    exact ha
  · rw [s102, if_neg (fun e => nA (by rw [← e]; exact hi))]
    exact hwk.1 i hi
  · rw [gX_p FP hpr]
    show A.Sublist ((if kS F = 2 then (20 * p + L.length) :: gL p L else gL p L) ++ gX FP r)
    rw [if_pos kSF, hL]
    exact List.Sublist.cons _ hwk.2.1
