/-! the gathering: the relation afterwards -/
def gyC (k j : Nat) : Bool := k == 57 || k == 59 || k == 60 || k == 61 || k == 65 || k == 68 || k == 69 || k == 70 || k == 72 || k == 73 || k == 99 || k == 100 || k == 101 || k == 102 || k == 104 || k == 110 || k == 111 || k == 112 || k == 113 || (k == 7 && (j == 11 || j == 12 || j == 27 || j == 28)) || (k == 8 && (j == 33 || j == 53 || j == 58 || j == 60))
def gyM (k j : Nat) : Bool := k == 38 || k == 40 || k == 41 || k == 42 || k == 47 || k == 50 || k == 51 || k == 52 || k == 53 || k == 58 || k == 62 || k == 63 || k == 83 || k == 84 || k == 85 || k == 86 || k == 95 || k == 96 || k == 97 || k == 98 || k == 99 || k == 100 || (k == 0 && (j == 88 || j == 89 || j == 90 || j == 91 || j == 129 || j == 152 || j == 157))
theorem pCt_ls {σ0 σ : lj_S} : ∀ {L : List kF} {ce a : Nat}, lsL L a → ov (cv σ a) ≠ 0 → pCt σ0 σ L ce (ov (cv σ a))
  | [], _, _, ⟨G, hG, _⟩, _ => by cases hG
  | F :: L, ce, a, ⟨G, hG, wG⟩, z => by
    rcases List.mem_cons.1 hG with e | e
    · rw [e] at wG
      obtain ⟨w0, y, hy, ey⟩ := wG
      exact Or.inl ⟨w0, z, Or.inr (Or.inr (Or.inl ⟨y, hy, by rw [ey]⟩))⟩
    · exact Or.inr (pCt_ls ⟨G, e, wG⟩ z)
theorem MB.gat {σ0 τ0 σ τ : lj_S} {n np p : Nat} {r : List Nat} {FP : Nat → List kF} {ρ : Nat → Nat} {A MO LA : List Nat} (h : MB σ0 τ0 n np p r FP ρ A MO LA σ τ) {T : Nat → Bool} {σ' τ' : lj_S} (f : ∀ k j, gyC k j = false → σ'.1 k j = σ.1 k j ∧ σ'.2 k j = σ.2 k j) (g : ∀ k j, gyM k j = false → τ'.1 k j = τ.1 k j ∧ τ'.2 k j = τ.2 k j) (hp : hpR σ' τ' n) (kd : ∀ u, (kdA n T u → σ'.1 57 u = 0 ∧ τ'.1 38 u = 0) ∧ (¬ kdA n T u → σ'.1 57 u = σ.1 57 u ∧ τ'.1 38 u = τ.1 38 u)) (k58 : ∀ q, q < 26 → tkP n T τ 1 q → τ'.1 58 q = 4 ∧ τ'.1 62 q = 0 ∧ τ'.1 63 q = 0) (k58' : ∀ q, ¬ (q < 26 ∧ tkP n T τ 1 q) → τ'.1 58 q = τ.1 58 q ∧ τ'.1 62 q = τ.1 62 q ∧ τ'.1 63 q = τ.1 63 q) (hR : ∀ q ∈ p :: r, ∀ o : Nat, 1 ≤ q → σ.1 85 q = Int32.ofNat o → 1 ≤ o → o ≤ n → T o = true) (hc : ∀ q ∈ p :: r, ∀ x, ptC σ0 σ p FP q x → T x = true) (hmt : ∀ t m : Nat, T t = true → σ.1 57 t = 4 → lv σ 58 t = (m : Int) → m ≠ 0 → T m = true) (hfn : ∀ o x, T o = true → σ.1 57 o = 5 → fnX σ0 σ τ o x → T x = true) (hpt : ∀ o q x, T o = true → σ.1 57 o = 6 → 1 ≤ q → q ≤ 25 → σ.1 64 o = Int32.ofNat q → τ.1 58 q ≠ 4 → ptC σ0 σ p FP q x → T x = true) {A' MO' LA' : List Nat} (gga : gaR σ' τ' n FP (p :: r) A' MO' LA') : MB σ0 τ0 n np p r FP ρ A' MO' LA' σ' τ' := by
  obtain ⟨h1, h2, h3, h4, h5, h6, h7, h8, h9, h10, h11, h12, h13⟩ := h
  have n2000 : n ≤ 2000 := h4.1
  have l70 : lv σ 7 0 = (n : Int) := h4.2.1
  have c : ∀ k j, gyC k j = false → σ'.1 k j = σ.1 k j := fun k j q => (f k j q).1
  have m : ∀ k j, gyM k j = false → τ'.1 k j = τ.1 k j := fun k j q => (g k j q).1
  have hG : sG σ τ σ' τ' := by
    have e1 : lv σ' 3 7 = lv σ 3 7 := by unfold lv; rw [c 3 7 rfl]
    have e2 : lv τ' 0 14 = lv τ 0 14 := by unfold lv; rw [m 0 14 rfl]
    exact ⟨by omega, by omega, fun t _ => cS_cong (fun j => c 9 j rfl) (fun j => c 10 j rfl) (fun j => c 11 j rfl) t, fun t _ => mS_cong (fun j => m 2 j rfl) (fun j => m 3 j rfl) (fun j => m 4 j rfl) t⟩
  have l70' : lv σ' 7 0 = lv σ 7 0 := by unfold lv; rw [c 7 0 rfl]
  have kT : ∀ o, T o = true → σ'.1 57 o = σ.1 57 o ∧ τ'.1 38 o = τ.1 38 o := fun o w => (kd o).2 (fun y => by have := y.2.2; rw [w] at this; cases this)
  have back : ∀ o k, k ≠ 0 → obA σ' τ' o k → obA σ τ o k ∧ T o = true := fun o k k0 w => by
    have on : o ≤ n := by
      have := w.2.2.1
      rw [l70', l70] at this
      omega
    have nk : ¬ kdA n T o := fun y => k0 (by rw [← w.2.2.2.1]; exact ((kd o).1 y).1)
    obtain ⟨e1, e2⟩ := (kd o).2 nk
    refine ⟨⟨w.1, w.2.1, by rw [← l70']; exact w.2.2.1, by rw [← e1]; exact w.2.2.2.1, by rw [← e2]; exact w.2.2.2.2⟩, ?_⟩
    cases e : T o with
    | true => rfl
    | false => exact absurd ⟨w.1, on, e⟩ nk
  have forw : ∀ o k, obA σ τ o k → T o = true → obA σ' τ' o k := fun o k w y => ⟨w.1, w.2.1, by rw [l70']; exact w.2.2.1, by rw [(kT o y).1]; exact w.2.2.2.1, by rw [(kT o y).2]; exact w.2.2.2.2⟩
  have hv : ∀ a b, vR σ τ a b → (ov a ≠ 0 → T (ov a) = true) → vR σ' τ' a b := fun a b w y => w.tT hG l70' kT y
  have af : afS T σ τ σ' τ' := ⟨fun k j w => f k j (by unfold gyC; simp; omega), fun k j w => g k j (by unfold gyM; simp; omega), hv, forw⟩
  obtain ⟨⟨a1, a2, a3⟩, ⟨b1, b2⟩, ⟨x1, x2⟩, d1, d2, d3, d4, d5, d6, d7, d8, d9⟩ := h7
  have z0 : 0 ∈ p :: r := by
    have : ∀ (l : List Nat), chn σ0 σ τ FP l → 0 ∈ l := by
      intro l
      induction l with
      | nil => intro z; exact z.elim
      | cons a l ih =>
        intro hc
        cases l with
        | nil => rw [show a = 0 from hc]; exact List.mem_cons_self
        | cons b l => exact List.mem_cons_of_mem _ (ih hc.2.2.2)
    exact this _ d1
  -- parts that go
  have tk : ∀ q, q < 26 → tkP n T τ 1 q → ∃ u : Nat, T u = false ∧ obA σ τ u 6 ∧ u ≤ n ∧ 1 ≤ q ∧ q ≤ np ∧ σ.1 85 q = Int32.ofNat u := fun q hq ⟨u, u1, u2, u3, u4, u5⟩ => by
    have o6 : σ.1 57 u = 6 := by rw [(h5.2 u u1 u2).1.1]; exact u4
    obtain ⟨q', q1, q2, q3, q4⟩ := (h5.2 u u1 u2).2.2.2 o6
    have e : q' = q := (ofN_eq (by omega) (by omega)).1 (by rw [← q4, u5])
    have ou : obA σ τ u 6 := ⟨u1, by omega, by rw [l70]; omega, o6, u4⟩
    obtain ⟨q'', y1, y2, y3, y4⟩ := d8.2 u ou
    have e' : q'' = q := by
      rw [q3] at y3
      have := (ofN_eq (by omega) (by omega)).1 y3
      omega
    rw [e'] at y1 y2 y4
    exact ⟨u, u3, ou, u2, y1, y2, y4⟩
  have chN : ∀ q ∈ p :: r, ¬ (q < 26 ∧ tkP n T τ 1 q) := fun q hq ⟨w1, w2⟩ => by
    obtain ⟨u, y1, y2, y3, y4, y5, y6⟩ := tk q w1 w2
    rw [hR q hq u y4 y6 y2.1 y3] at y1
    cases y1
  -- objects of parts that stay
  have lives : ∀ q, q ≤ np → τ'.1 58 q ≠ 4 → ¬ (q < 26 ∧ tkP n T τ 1 q) ∧ τ.1 58 q ≠ 4 := fun q q1 q2 => by
    have nt : ¬ (q < 26 ∧ tkP n T τ 1 q) := fun w => q2 (k58 q w.1 w.2).1
    exact ⟨nt, by rw [← (k58' q nt).1]; exact q2⟩
  have livo : ∀ q, 1 ≤ q → q ≤ np → τ'.1 58 q ≠ 4 → ∃ o : Nat, obA σ τ o 6 ∧ T o = true ∧ σ.1 85 q = Int32.ofNat o ∧ σ.1 64 o = Int32.ofNat q := fun q q0 q1 q2 => by
    obtain ⟨nt, q4⟩ := lives q q1 q2
    obtain ⟨o, o1, o2, o3, o4, o5, o6⟩ := d8.1 q q0 q1
    have ob := o5 q4
    refine ⟨o, ob, ?_, o3, o6 ob⟩
    cases e : T o with
    | true => rfl
    | false =>
      refine absurd ⟨by omega, o, o1, o2, e, ob.2.2.2.2, ?_⟩ nt
      obtain ⟨q', y1, y2, y3, y4⟩ := (h5.2 o o1 o2).2.2.2 ob.2.2.2.1
      rw [y4, ← y3]
      exact o6 ob
  have conT : ∀ q, q ≤ np → τ'.1 58 q ≠ 4 → ∀ x, ptC σ0 σ p FP q x → T x = true := fun q q1 q2 x hx => by
    by_cases e : q ∈ p :: r
    · exact hc q e x hx
    · have q0 : 1 ≤ q := by
        rcases Nat.eq_zero_or_pos q with z | z
        · rw [z] at e; exact absurd z0 e
        · exact z
      obtain ⟨o, y1, y2, y3, y4⟩ := livo q q0 q1 q2
      exact hpt o q x y2 y1.2.2.2.1 q0 (by omega) y4 (lives q q1 q2).2 hx
  refine ⟨⟨fun k j q => ?_, fun k j q => ?_⟩, h2.cg (fun k j q => c k j (by unfold sqC at q; unfold gyC; simp at q ⊢; omega)) (fun k j q => m k j (by unfold sqM at q; unfold gyM; simp at q ⊢; omega)), h3.up hG (fun j => c 78 j rfl) (c 8 1 rfl) (c 8 3 rfl), hp, ⟨by rw [c 58 0 rfl]; exact h5.1, fun o o1 o2 => ?_⟩, fun o q w1 w2 w3 => h6 o q (back o 5 (by decide) w1).1 w2 (by rw [← c 62 o rfl]; exact w3), ⟨⟨by rw [c 7 1 rfl]; exact a1, by rw [m 0 110 rfl]; exact a2, a3⟩, ⟨by rw [c 8 7 rfl]; exact b1, by rw [m 0 111 rfl]; exact b2⟩, ⟨by rw [c 83 p rfl]; exact x1, by rw [(k58' p (chN p List.mem_cons_self)).1]; exact x2⟩, chn_cx (fun k q w => c k q (by rcases w with w | w <;> rw [w] <;> rfl)) (fun k q w => m k q (by rcases w with w | w | w <;> rw [w] <;> rfl)) d1 (fun q hq => ⟨c 83 q rfl, (k58' q (chN q (List.mem_of_mem_tail hq))).1⟩), d2, d3, by rw [c 8 18 rfl]; exact d4, d5, d6, by rw [m 59 0 rfl]; exact d7, ⟨fun q q1 q2 => ?_, fun o w => ?_⟩, fun q q1 q2 => ?_⟩, fun q q1 q2 => ?_, ?_, clR_T h10 af (fun o w => back o 5 (by decide) w) (fun k j w => c k j (by unfold gyC; simp; omega)) (fun j => (f 76 j rfl).2) (fun k j w => m k j (by unfold gyM; simp; omega)) (fun j => (g 55 j rfl).2) (fun q w => ?_) (fun o x w y => hfn o x w (by obtain ⟨_, _, _, y', _⟩ := y; exact y'.1.2.2.2.1) y), gga, ⟨by rw [c 8 50 rfl, m 0 150 rfl]; exact h12.1, by unfold lv; rw [c 8 50 rfl]; exact h12.2.1, fun i i1 i2 => ?_⟩, fun j z => by rw [c 81 j rfl]; exact h13.1 j z, h13.2.tr hG⟩
  · have w := h1.1 k j q
    obtain ⟨e1, e2⟩ := f k j (by unfold cdC at q; unfold gyC; simp at q ⊢; omega)
    exact ⟨e1.trans w.1, e2.trans w.2⟩
  · have w := h1.2 k j q
    obtain ⟨e1, e2⟩ := g k j (by unfold cdM at q; unfold gyM; simp at q ⊢; omega)
    exact ⟨e1.trans w.1, e2.trans w.2⟩
  · obtain ⟨⟨w1, w2⟩, w3, w4, w5⟩ := h5.2 o o1 o2
    rw [c 58 o rfl, m 39 o rfl, c 62 o rfl, m 43 o rfl, c 64 o rfl]
    by_cases y : kdA n T o
    · obtain ⟨e1, e2⟩ := (kd o).1 y
      rw [e1, e2]
      exact ⟨⟨rfl, Or.inl rfl⟩, fun z => absurd z (by decide), fun z => absurd z (by decide), fun z => absurd z (by decide)⟩
    · obtain ⟨e1, e2⟩ := (kd o).2 y
      rw [e1, e2]
      have To : T o = true := by
        cases e : T o with
        | true => rfl
        | false => exact absurd ⟨o1, o2, e⟩ y
      refine ⟨⟨w1, w2⟩, fun z => (w3 z).imp id (fun ⟨mm, z1, z2, z3⟩ => ⟨mm, forw mm 4 z1 (hmt o mm To z ?_ (by have := z1.1; omega)), z2, z3⟩), w4, w5⟩
      unfold lv
      rw [z2, lz_lit (by have := z1.2.1; omega)]
  · obtain ⟨o, o1, o2, o3, o4, o5, o6⟩ := d8.1 q q1 q2
    refine ⟨o, o1, o2, by rw [c 85 q rfl]; exact o3, by rw [m 59 q rfl]; exact o4, fun w => ?_, fun w => by rw [c 64 o rfl]; exact o6 (back o 6 (by decide) w).1⟩
    obtain ⟨o', y1, y2, y3, _⟩ := livo q q1 q2 w
    have e : o' = o := by
      rw [o3] at y3
      have := y1.2.1
      exact ((ofN_eq (by omega) (by omega)).1 y3).symm
    rw [← e]
    exact forw o' 6 y1 y2
  · obtain ⟨q, q1, q2, q3, q4⟩ := d8.2 o (back o 6 (by decide) w).1
    exact ⟨q, q1, q2, by rw [c 64 o rfl]; exact q3, by rw [c 85 q rfl]; exact q4⟩
  · have q0 : 1 ≤ q := by
      rcases Nat.eq_zero_or_pos q with z | z
      · rw [z] at q2; exact absurd z0 q2
      · exact z
    rw [c 83 q rfl, c 88 q rfl, (f 89 q rfl).2, m 60 q rfl, (g 61 q rfl).2, c 87 q rfl, m 69 q rfl, m 70 q rfl, c 85 q rfl]
    by_cases y : q < 26 ∧ tkP n T τ 1 q
    · obtain ⟨e1, e2, e3⟩ := k58 q y.1 y.2
      obtain ⟨u, u1, u2, u3, u4, u5, u6⟩ := tk q y.1 y.2
      have u0 : σ'.1 57 u = 0 := ((kd u).1 ⟨u2.1, u3, u1⟩).1
      rw [e1, e2]
      rcases d9 q q1 q2 with ⟨w1, w2, w3, _⟩ | ⟨w1, w2, _⟩ | ⟨w1, w2, w3, w4⟩
      · refine Or.inr (Or.inr ⟨rfl, rfl, ⟨by rw [w3]; exact Nat.zero_le _, fun s hs => ?_⟩, Or.inr ⟨u, u2.2.1, u6, u0, Or.inl w1⟩⟩)
        obtain ⟨G, hG', _⟩ := hs
        rw [w3] at hG'
        cases hG'
      · obtain ⟨ce, me, mq, pr, ⟨t1, t2, _⟩, _⟩ := h8 q q1 (by rw [w2]; decide)
        refine Or.inr (Or.inr ⟨rfl, rfl, ⟨t1, fun s hs => ?_⟩, Or.inr ⟨u, u2.2.1, u6, u0, Or.inr w1⟩⟩)
        have := (prt_rg pr).2 s hs
        omega
      · exact Or.inr (Or.inr ⟨rfl, rfl, w3, w4.imp id (fun ⟨o, e0, e1, e2, e3⟩ => ⟨o, e0, e1, by
          by_cases z : kdA n T o
          · exact ((kd o).1 z).1
          · rw [((kd o).2 z).1]; exact e2, e3⟩)⟩)
    · obtain ⟨e1, e2, e3⟩ := k58' q y
      rw [e1, e2]
      rcases d9 q q1 q2 with ⟨w1, w2, w3, w4, w5⟩ | w | ⟨w1, w2, w3, w4⟩
      · refine Or.inl ⟨w1, w2, w3, w4, hv _ _ w5 (fun z => conT q q1 (by rw [e1, w2]; decide) _ (Or.inl ⟨w1, z, rfl⟩))⟩
      · exact Or.inr (Or.inl w)
      · exact Or.inr (Or.inr ⟨w1, w2, w3, w4.imp id (fun ⟨o, e0, e1, e2, e3⟩ => ⟨o, e0, e1, by
          by_cases z : kdA n T o
          · exact ((kd o).1 z).1
          · rw [((kd o).2 z).1]; exact e2, e3⟩)⟩)
  · obtain ⟨nt, q4⟩ := lives q q1 q2
    obtain ⟨e1, e2, e3⟩ := k58' q nt
    obtain ⟨ce, me, mq, pr, ⟨t1, t2, t3, t4⟩, t8, t90, t63, t64, t62, t65⟩ := h8 q q1 q4
    have etp : tpN σ p q = ce := by
      unfold tpN
      by_cases z : q = p
      · rw [if_pos z] at t8 ⊢
        unfold lv
        rw [t8, lz_lit (by omega)]
        omega
      · rw [if_neg z] at t8 ⊢
        unfold lv
        rw [t8, lz_lit (by omega)]
        omega
    refine ⟨ce, me, mq, prt_T af pr (fun x hx => conT q q1 q2 x (Or.inr (by rw [etp]; exact hx))), ⟨t1, t2, t3, t4⟩, ?_, by rw [c 90 q rfl]; exact t90, by rw [e3]; exact t63, by rw [m 64 q rfl]; exact t64, by rw [e2]; exact t62, by rw [m 65 q rfl]; exact t65⟩
    rw [c 8 8 rfl, c 82 q rfl]
    exact t8
  · cases e : FP p with
    | nil =>
      rw [e] at h9
      show σ'.1 8 34 = -1
      rw [c 8 34 rfl]
      exact h9
    | cons F L =>
      rw [e] at h9
      exact ⟨by rw [c 8 34 rfl]; exact h9.1, fun z => by rw [c 8 35 rfl]; exact h9.2 z⟩
  · by_cases qn : q ≤ np
    · exact ⟨(lives q qn w).2, fun a ls z => conT q qn w _ (Or.inr (pCt_ls ls z))⟩
    · have e0 : FP q = [] := d6 q (by omega)
      refine ⟨fun z => ?_, fun a ls => by obtain ⟨G, hG', _⟩ := ls; rw [e0] at hG'; cases hG'⟩
      by_cases y : q < 26 ∧ tkP n T τ 1 q
      · exact w (k58 q y.1 y.2).1
      · exact w (by rw [(k58' q y).1]; exact z)
  · have i2 : (i : Int) < lv σ 8 50 := by unfold lv at i2 ⊢; rw [← c 8 50 rfl]; exact i2
    rw [c 109 i rfl, m 94 i rfl]
    exact h12.2.2 i i1 i2
