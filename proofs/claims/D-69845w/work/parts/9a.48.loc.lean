/-! what refers to the model's cells -/
theorem prt_gd {σ0 τ0 σ τ : lj_S} {ρ : Nat → Nat} {p : Nat} : ∀ {L : List kF} {ce me mq : Nat}, prt σ0 τ0 σ τ ρ p L ce me mq → (∀ a, lsL L a → ρ a < 95000) → ∀ i, i < L.length → τ.1 74 (48 * p + i) = 0 → ∀ y, y < 50 → gdc (τ.1 87 (50 * (48 * p + i) + y))
  | [], _, _, _, _, _, i, hi, _, _, _ => absurd hi (by simp)
  | F :: L, ce, me, mq, h, hr, i, hi, ht, y, hy => by
    obtain ⟨ms, ks, h1, h2, h3⟩ := h
    rw [List.length_cons] at hi
    by_cases z : i < L.length
    · exact prt_gd h1 (fun a ⟨G, hG, wG⟩ => hr a ⟨G, List.mem_cons_of_mem _ hG, wG⟩) i z ht y hy
    · have e : i = L.length := by omega
      rw [e] at ht ⊢
      rcases h2.2 with ⟨s0, t⟩ | ⟨s0, _, t, _⟩
      · obtain ⟨_, _, _, _, ⟨t5, t6, _⟩, _⟩ := t
        by_cases w : y ∈ (kY F).2.2.2.2.1
        · exact Or.inr ⟨_, hr _ ⟨F, List.mem_cons_self, s0, y, w, rfl⟩, (t5 y w).2⟩
        · exact (t6 y hy w).2
      · rw [t] at ht
        rcases s0 with s0 | s0 <;> rw [s0] at ht <;> exact absurd ht (by decide)
theorem prt_rf {σ0 τ0 σ τ : lj_S} {ρ : Nat → Nat} {p : Nat} : ∀ {L : List kF} {ce me mq : Nat}, prt σ0 τ0 σ τ ρ p L ce me mq → ∀ a, lsL L a → ∃ i, i < L.length ∧ τ.1 74 (48 * p + i) = 0 ∧ ∃ y, y < 50 ∧ τ.1 87 (50 * (48 * p + i) + y) = Int32.ofNat (ρ a)
  | [], _, _, _, _, a, ⟨G, hG, _⟩ => by cases hG
  | F :: L, ce, me, mq, h, a, ⟨G, hG, wG⟩ => by
    obtain ⟨ms, ks, h1, h2, h3⟩ := h
    rcases List.mem_cons.1 hG with e | e
    · rw [e] at wG
      obtain ⟨s0, x, hx, ex⟩ := wG
      rcases h2.2 with ⟨_, t⟩ | ⟨s1, _⟩
      · obtain ⟨_, ⟨b1, _⟩, _, _, ⟨t5, _⟩, t9⟩ := t
        have := (t5 x hx).1
        have := t9.1.2.1
        exact ⟨L.length, by rw [List.length_cons]; omega, b1, x, by omega, by rw [ex]; exact (t5 x hx).2⟩
      · omega
    · obtain ⟨i, i1, i2, i3⟩ := prt_rf h1 a ⟨G, e, wG⟩
      exact ⟨i, by rw [List.length_cons]; omega, i2, i3⟩
/-- a dead part -/
theorem MB.dead {σ0 τ0 σ τ : lj_S} {n np p : Nat} {r : List Nat} {FP : Nat → List kF} {ρ : Nat → Nat} {A MO LA : List Nat} (h : MB σ0 τ0 n np p r FP ρ A MO LA σ τ) {q : Nat} (q1 : q ≤ np) (q2 : τ.1 58 q = 4) : τ.1 62 q = 0 ∧ (FP q).length ≤ 20 := by
  obtain ⟨h1, h2, h3, h4, h5, h6, h7, h8, h9, h10, h11, h12, h13⟩ := h
  have hn : q ∉ p :: r := fun hm => by
    rcases List.mem_cons.1 hm with e | e
    · rw [e, h7.2.2.1.2] at q2
      exact absurd q2 (by decide)
    · have : ∀ (l : List Nat) (a : Nat), chn σ0 σ τ FP (a :: l) → q ∈ l → τ.1 58 q = 3 := by
        intro l
        induction l with
        | nil => intro a _ hq; cases hq
        | cons b l ih =>
          intro a hc hq
          rcases List.mem_cons.1 hq with e | e
          · rw [e]; exact hc.2.2.1.2
          · exact ih b hc.2.2.2 e
      have := this r p h7.2.2.2.1 e
      rw [q2] at this
      exact absurd this (by decide)
  rcases h7.2.2.2.2.2.2.2.2.2.2.2 q q1 hn with v | v | v
  · rw [v.2.1] at q2; exact absurd q2 (by decide)
  · rw [v.2.1] at q2; exact absurd q2 (by decide)
  · exact ⟨v.2.1, v.2.2.1.1⟩
theorem MB.l20 {σ0 τ0 σ τ : lj_S} {n np p : Nat} {r : List Nat} {FP : Nat → List kF} {ρ : Nat → Nat} {A MO LA : List Nat} (h : MB σ0 τ0 n np p r FP ρ A MO LA σ τ) {q : Nat} (q1 : q ≤ np) : (FP q).length ≤ 20 := by
  by_cases z : τ.1 58 q = 4
  · exact (h.dead q1 z).2
  · obtain ⟨ce, me, mq, _, ⟨b1, _⟩, _⟩ := h.2.2.2.2.2.2.2.1 q q1 z
    exact b1
theorem MB.rfa {σ0 τ0 σ τ : lj_S} {n np p : Nat} {r : List Nat} {FP : Nat → List kF} {ρ : Nat → Nat} {A MO LA : List Nat} (h : MB σ0 τ0 n np p r FP ρ A MO LA σ τ) : rfA τ np n (fun q => if τ.1 58 q = 4 then 0 else (FP q).length) ∧ ∀ a, usd σ0 σ τ FP a → rfM τ np n (fun q => if τ.1 58 q = 4 then 0 else (FP q).length) (ρ a) := by
  have hls := h.ls
  have hd := h
  obtain ⟨h1, h2, h3, h4, h5, h6, h7, h8, h9, h10, h11, h12, h13⟩ := h
  have n2 := h4.1
  have us := h10.1
  have cap := fun o f k w1 w2 w3 w4 => h10.cap n2 (o := o) (f := f) (k := k) w1 w2 w3 w4
  have dead : ∀ q, q ≤ np → τ.1 58 q = 4 → τ.1 62 q = 0 := fun q q1 q2 => (hd.dead q1 q2).1
  have fo : ∀ o : Nat, 1 ≤ o → o ≤ n → τ.1 38 o = 5 → ∃ f : Nat, f < 51 ∧ obA σ τ o 5 ∧ σ.1 62 o = Int32.ofNat f ∧ τ.1 43 o = Int32.ofNat f ∧ τ.1 15 f = Int32.ofNat (lv σ0 33 f).toNat ∧ 0 ≤ lv σ0 33 f ∧ lv σ0 33 f ≤ 30 := fun o o1 o2 o3 => by
    obtain ⟨⟨a1, _⟩, _, a3, _⟩ := h5.2 o o1 o2
    rw [o3] at a1
    obtain ⟨f, f1, f2, f3⟩ := a3 a1
    have ob : obA σ τ o 5 := ⟨o1, by omega, by rw [h4.2.1]; omega, a1, o3⟩
    obtain ⟨_, _, _, g1, g2, g3, _⟩ := h6 o f ob f1 f2
    refine ⟨f, f1, ob, f2, f3, ?_, g2, g3⟩
    rw [(h1.2 15 f (by unfold cdM; rfl)).1]
    exact lz_ext (by rw [lz_lit (by omega)]; show lv τ0 15 f = _; omega)
  refine ⟨⟨h7.1.2.2, n2, h7.1.2.1, lz_ext (by rw [lz_lit (by omega)]; exact h4.2.2.1), fun q hq => ?_, fun q hq i hi t y hy => ?_, fun o o1 o2 o3 => ?_⟩, fun a w => ⟨(us a w).1, ?_⟩⟩
  · by_cases z : τ.1 58 q = 4
    · rw [dead q hq z]
      dsimp only
      rw [if_pos z]
      exact ⟨rfl, by decide⟩
    · obtain ⟨ce, me, mq, _, ⟨b1, _⟩, _, _, _, _, b2, _⟩ := h8 q hq z
      dsimp only
      rw [if_neg z]
      exact ⟨b2, b1⟩
  · by_cases z : τ.1 58 q = 4
    · dsimp only at hi
      rw [if_pos z] at hi
      exact absurd hi (by simp)
    · obtain ⟨ce, me, mq, pr, _⟩ := h8 q hq z
      dsimp only at hi
      rw [if_neg z] at hi
      exact prt_gd pr (fun a w => (us a (Or.inl ⟨q, w, Or.inl z⟩)).1) i hi t y hy
  · obtain ⟨f, f1, f2, f3, f4, f5, f6, f7⟩ := fo o o1 o2 o3
    refine ⟨f, (lv σ0 33 f).toNat, f1, f4, by omega, f5, fun k hk => ?_⟩
    obtain ⟨rr, c, _, _, _, _, c5, _, c7, _⟩ := cap o f k f2 f1 f3 (by omega)
    exact ⟨_, c7, c5⟩
  · have capd : ∀ o k c, cpO σ0 σ τ o k c → loC σ c = a → rfM τ np n (fun q => if τ.1 58 q = 4 then 0 else (FP q).length) (ρ a) := fun o k c ⟨w1, f, rr, w2, w3, w4, w5, w6, w7, w8⟩ lc => by
      refine ⟨(us a w).1, ?_⟩
      have on : o ≤ n := by have := w1.2.2.1; rw [h4.2.1] at this; omega
      obtain ⟨f', f1, f2, f3, f4, f5, f6, f7⟩ := fo o w1.1 on w1.2.2.2.2
      have ff : f' = f := (ofN_eq (by omega) (by omega)).1 (by rw [← f3, ← w3])
      rw [ff] at f4 f5 f6 f7
      obtain ⟨rr', c', c1, _, c3, c4, c5, _⟩ := cap o f k w1 w2 w3 w4
      have er : rr' = rr := by
        have x1 := h10.2.2.2.1 o f w1 w2 w3
        obtain ⟨r0, z1, z2, _⟩ := x1
        have b7 := h10.2.2.2.2.2.2
        have e1 : rr = r0 := (ofN_eq (by omega) (by omega)).1 (by rw [← w6, ← z1])
        have := c1
        rw [w6] at this
        have q1 : lv σ 63 o = (rr : Int) := by unfold lv; rw [w6, lz_lit (by omega)]
        by_cases y : rr' < 2147483648
        · exact ((ofN_eq (by omega) (by omega)).1 this).symm
        · exfalso; omega
      rw [er, w7] at c3
      have ec : c' = c := ((ofN_eq (by omega) (by omega)).1 c3).symm
      rw [ec, lc] at c5
      exact Or.inr ⟨o, w1.1, on, w1.2.2.2.2, f, (lv σ0 33 f).toNat, w2, f4, by omega, f5, k, by omega, c5⟩
    rcases w with ⟨q, w, z | ⟨o, k, c, w1, w2⟩⟩ | ⟨o, k, c, w1, w9, w10⟩
    · have lq := hls q a w
      obtain ⟨ce, me, mq, pr, _⟩ := h8 q lq.2.2 z
      obtain ⟨i, i1, i2, y, i3, i4⟩ := prt_rf pr a w
      refine Or.inl ⟨q, lq.2.2, i, ?_, i2, y, i3, i4⟩
      dsimp only
      rw [if_neg z]
      exact i1
    · refine (capd o k c w1 ?_).2
      have a3 := (h10.2.2.2.2.2.1 q a w).1
      unfold loC lv
      rw [w2, lz_lit (by omega), if_neg (by omega)]
      rfl
    · refine (capd o k c w1 ?_).2
      unfold loC
      rw [if_pos w9, w10]
/-! a local begins -/
theorem setC_88 (σ : lj_S) (a : Nat) (u : vT) (x : Int32) : lj_put (setC σ a u) 8 8 x = setC (lj_put σ 8 8 x) a u := by
  unfold setC
  by_cases z : a < 325000
  · rw [if_pos z, if_pos z]
    show lj_putL (lj_put (lj_put σ 79 a u.1) 8 8 x) 80 a u.2 = lj_putL (lj_put (lj_put σ 8 8 x) 79 a u.1) 80 a u.2
    rw [put_cm _ _ _ (by omega)]
  · rw [if_neg z, if_neg z]
    show lj_putL (lj_put (lj_put σ 75 (a - 325000) u.1) 8 8 x) 76 (a - 325000) u.2 = lj_putL (lj_put (lj_put σ 8 8 x) 75 (a - 325000) u.1) 76 (a - 325000) u.2
    rw [put_cm _ _ _ (by omega)]
/-- places that a new local changes in the model -/
def nlM (i k j : Nat) : Bool := k == 54 || k == 55 || k == 56 || k == 57 || (k == 0 && j == 96) || (k == 87 && (decide (50 * i ≤ j) && decide (j < 50 * i + 50)))
theorem MB.nl {σ0 τ0 σ τ : lj_S} {n np p : Nat} {r : List Nat} {FP : Nat → List kF} {ρ : Nat → Nat} {A MO LA : List Nat} (h : MB σ0 τ0 n np p r FP ρ A MO LA σ τ) {F : kF} {L : List kF} (hF : FP p = F :: L) (h0 : kS F = 0) {ms ks ce me mq : Nat} (V : vw σ0 τ0 σ τ ρ FP p F L ms ks ce me mq) {x : Nat} {u w : vT} (hx : x < nL σ0 (kY F).1) (hxl : x ∉ (kY F).2.2.2.2.1) (hv : vR σ τ u w) {l' : List Nat} (hl' : ∀ y, y ∈ l' ↔ y = x ∨ y ∈ (kY F).2.2.2.2.1) : ∃ τ' ρ', lj_R lm_P 150 [.ref 0, .int (Int32.ofNat (48 * p + L.length)), .int (Int32.ofNat x), .int w.1, .long w.2] τ = some (.inl none, τ') ∧ lf (nlM (48 * p + L.length)) τ τ' ∧ MB σ0 τ0 n np p r (fpT FP p (kTo F (kY F).2.1 (kY F).2.2.1 (kY F).2.2.2.1 l' (kY F).2.2.2.2.2 0 0 :: L)) ρ' A MO LA (setC σ (kB F + x) u) τ' := by
  have B := V.bd
  have nl := V.ff.1
  have x50 : x < 50 := by omega
  have hls := h.ls
  obtain ⟨ra, ru⟩ := h.rfa
  have hcl := h.2.2.2.2.2.2.2.2.2.1
  obtain ⟨Fc, f1, f2, f3, f4⟩ := hcl.2.2.1
  obtain ⟨τc, c, Fc', e1, ⟨e2, e2'⟩, e3, e4, e5, e6⟩ := m_cell ra f1 f2 f3 (fun c hc => (f4 c hc).1) w
  have ec : (50 : Int32) * Int32.ofNat (48 * p + L.length) + Int32.ofNat x = Int32.ofNat (50 * (48 * p + L.length) + x) := by rw [show (50 : Int32) = Int32.ofNat 50 from rfl, ← Int32.ofNat_mul, ← Int32.ofNat_add]
  have oC : ∀ k j, k ≠ 54 → k ≠ 55 → k ≠ 56 → k ≠ 57 → ¬ (k = 0 ∧ j = 96) → τc.1 k j = τ.1 k j ∧ τc.2 k j = τ.2 k j := fun k j z1 z2 z3 z4 z5 => e2 k j (by simp; omega)
  have gM : lf (nlM (48 * p + L.length)) τ (lj_put τc 87 (50 * (48 * p + L.length) + x) (Int32.ofNat c)) := lf_put (e2.mo (fun k j q => by unfold nlM at q; simp at q ⊢; omega)) 87 _ _ (by unfold nlM; simp; omega)
  have a3 : kB F + x < 325000 := by omega
  have lsp : ∀ y, lsL (FP p) (kB F + y) → y ∈ (kY F).2.2.2.2.1 ∨ nL σ0 (kY F).1 ≤ y := fun y w => by
    rw [hF] at w
    obtain ⟨G, hG, wG⟩ := w
    rcases List.mem_cons.1 hG with e | e
    · rw [e] at wG
      obtain ⟨_, z, hz, ez⟩ := wG
      left
      rw [show y = z by omega]
      exact hz
    · have := (prt_rg V.2.1).2 _ ⟨G, e, wG⟩
      omega
  have nlv : ∀ q, ¬ lsL (FP q) (kB F + x) := fun q w => by
    have w1 := hls q _ w
    have : q = p := by omega
    rw [this] at w
    rcases lsp x w with z | z
    · exact hxl z
    · omega
  have f : lf (rzC p (20 * p + L.length) (kC F)) σ (setC σ (kB F + x) u) := fun k j q => setC_o σ _ u k j (by
    unfold rzC at q
    simp at q
    constructor
    · intro z
      have := q.1.1.1.1.2
      omega
    · omega)
  have g : lf (rzM p (48 * p + L.length) ms ks) τ (lj_put τc 87 (50 * (48 * p + L.length) + x) (Int32.ofNat c)) := gM.mo (fun k j q => by
    unfold rzM at q
    unfold nlM
    simp at q ⊢
    omega)
  have vC : ∀ k j, vqC k j = true → (setC σ (kB F + x) u).1 k j = σ.1 k j := fun k j q => (rz_eq f (by unfold vqC at q; simp at q; omega)).1
  have vM : ∀ k j, vqM k j = true → (lj_put τc 87 (50 * (48 * p + L.length) + x) (Int32.ofNat c)).1 k j = τ.1 k j := fun k j q => (rz_eqM g (by unfold vqM at q; simp at q; omega)).1
  have cS : ∀ k j, (k ≠ 79 ∧ k ≠ 80 ∧ k ≠ 75 ∧ k ≠ 76) ∨ (k ≠ 75 ∧ k ≠ 76 ∧ j ≠ kB F + x) → (setC σ (kB F + x) u).1 k j = σ.1 k j ∧ (setC σ (kB F + x) u).2 k j = σ.2 k j := fun k j z => setC_o σ _ u k j (by omega)
  have mS : ∀ k j, k ≠ 54 → k ≠ 55 → k ≠ 56 → k ≠ 57 → ¬ (k = 0 ∧ j = 96) → ¬ (k = 87 ∧ j = 50 * (48 * p + L.length) + x) → (lj_put τc 87 (50 * (48 * p + L.length) + x) (Int32.ofNat c)).1 k j = τ.1 k j ∧ (lj_put τc 87 (50 * (48 * p + L.length) + x) (Int32.ofNat c)).2 k j = τ.2 k j := fun k j z1 z2 z3 z4 z5 z6 => ⟨by rw [lj_put_1, if_neg z6]; exact (oC k j z1 z2 z3 z4 z5).1, (oC k j z1 z2 z3 z4 z5).2⟩
  have hf : ∀ q b, lsL (fpT FP p (kTo F (kY F).2.1 (kY F).2.2.1 (kY F).2.2.2.1 l' (kY F).2.2.2.2.2 0 0 :: L) q) b ↔ lsL (FP q) b ∨ q = p ∧ b = kB F + x := fun q b => by
    by_cases z : q = p
    · rw [z, fpT_o, hF]
      constructor
      · rintro ⟨G, hG, wG⟩
        rcases List.mem_cons.1 hG with e | e
        · rw [e] at wG
          obtain ⟨_, y, hy, ey⟩ := wG
          rcases (hl' y).1 hy with w | w
          · right; exact ⟨rfl, by rw [ey, w]; rfl⟩
          · left; exact ⟨F, List.mem_cons_self, h0, y, w, ey⟩
        · left; exact ⟨G, List.mem_cons_of_mem _ e, wG⟩
      · rintro (⟨G, hG, wG⟩ | ⟨_, w⟩)
        · rcases List.mem_cons.1 hG with e | e
          · rw [e] at wG
            obtain ⟨_, y, hy, ey⟩ := wG
            exact ⟨_, List.mem_cons_self, rfl, y, (hl' y).2 (Or.inr hy), ey⟩
          · exact ⟨G, List.mem_cons_of_mem _ e, wG⟩
        · exact ⟨_, List.mem_cons_self, rfl, x, (hl' x).2 (Or.inl rfl), w⟩
    · unfold fpT
      rw [if_neg z]
      exact ⟨Or.inl, fun w => w.resolve_right (fun y => z y.1)⟩
  obtain ⟨t5, t6, t7, t8, t10⟩ := V.2.2.2.2.1.2.2.2.2.1
  have gcl := hcl.new (σ' := setC σ (kB F + x) u) (τ' := lj_put τc 87 (50 * (48 * p + L.length) + x) (Int32.ofNat c)) (p := p) (a := kB F + x) (c := c) h.2.2.2.1.1 (fun a b z => z.cg vC vM) (fun k j z => (setC_o σ _ u k j (by omega)).1) (fun j => (setC_o σ _ u 76 j (by omega)).2) (fun q s z => by
      have ne : s ≠ kB F + x := fun y => nlv q (by rw [← y]; exact z)
      unfold cv
      rw [(cS 79 s (by omega)).1, (cS 80 s (by omega)).2, (cS 81 s (by omega)).1]
      exact ⟨rfl, rfl⟩) (fun k j z => (mS k j (by omega) (by omega) (by omega) (by omega) (by omega) (by omega)).1) (by rw [h.2.2.2.2.2.2.1.2.2.1.2]; decide) (fun y z => by
      have := e2 54 y (by simp; exact z)
      have := e2 55 y (by simp; exact z)
      exact ⟨by rw [lj_put_1, if_neg (by omega)]; exact (e2 54 y (by simp; exact z)).1, (e2 55 y (by simp; exact z)).2⟩) hf a3 nlv (e6 c List.mem_cons_self).1 (fun b w => by
      rcases (e6 c List.mem_cons_self).2 with z | z
      · exact (f4 c z).2 b w
      · intro y; exact z (by rw [← y]; exact ru b w)) (Fc := Fc') (fcM_cg (fun j => by rw [lj_put_1, if_neg (by omega)]) e3) (by unfold lv; rw [lj_put_1, if_neg (by omega)]; exact e4) e5 (fun y hy => ⟨(e6 y (List.mem_cons_of_mem _ hy)).1, fun b w => by
      rcases (e6 y (List.mem_cons_of_mem _ hy)).2 with z | z
      · exact (f4 y z).2 b w
      · intro e; exact z (by rw [← e]; exact ru b w)⟩) (by rw [(cS 81 _ (by omega)).1]; exact t7 x hx hxl) (by
      have ev := vaC_s σ (kB F + x) u
      unfold vaC at ev
      rw [if_pos a3] at ev
      rw [ev, lj_put_1, if_neg (by omega)]
      show vR _ _ u (τc.1 54 c, τc.2 55 c)
      rw [e2']
      exact hv.cg vC vM)
  have gfr := frm_re V h0 (ρ' := fun b => if b = kB F + x then c else ρ b) f g (c' := (kY F).2.1) (m' := (kY F).2.2.1) (dd' := (kY F).2.2.2.2.2) (n' := 0) (w' := 0) (ce' := ce) (me' := me) (mq' := mq) (s' := (kY F).2.2.2.1) (l' := l') (by rw [(cS 94 _ (by omega)).1]; exact V.2.2.2.2.1.1.2.2.2.1) (by rw [(mS 77 _ (by omega) (by omega) (by omega) (by omega) (by omega) (by omega)).1]; exact V.2.2.2.2.1.2.1.2.2.2.1) (fun j w1 w2 => ⟨(cS 79 j (by omega)).1, (cS 80 j (by omega)).2, (cS 81 j (by omega)).1⟩) (fun j w => ⟨(mS 71 _ (by omega) (by omega) (by omega) (by omega) (by omega) (by omega)).1, (mS 72 _ (by omega) (by omega) (by omega) (by omega) (by omega) (by omega)).2⟩) (by
      rw [(cS 97 _ (by omega)).1]
      exact stk_cg (fun a b z => z.cg vC vM) V.st (fun j z => ⟨(cS 79 j (by omega)).1, (cS 80 j (by omega)).2, (cS 81 j (by omega)).1⟩) (fun j z => ⟨(cS 79 j (by omega)).1, (cS 80 j (by omega)).2⟩) (fun j z => ⟨(mS 71 _ (by omega) (by omega) (by omega) (by omega) (by omega) (by omega)).1, (mS 72 _ (by omega) (by omega) (by omega) (by omega) (by omega) (by omega)).2⟩) (fun j z => (mS 73 _ (by omega) (by omega) (by omega) (by omega) (by omega) (by omega)).1)) ⟨fun y hy => ?_, fun y y1 y2 => ?_, fun y y1 y2 => ?_, fun i hi => ?_, t10⟩ nl.2.2.2.1 (Or.inl ⟨rfl, rfl⟩) (fun z => absurd rfl z)
  · refine ⟨lj_put τc 87 (50 * (48 * p + L.length) + x) (Int32.ofNat c), _, ?_, gM, h.rf hF h0 V (F' := kTo F (kY F).2.1 (kY F).2.2.1 (kY F).2.2.2.1 l' (kY F).2.2.2.2.2 0 0) rfl rfl rfl f g (ρ' := fun b => if b = kB F + x then c else ρ b) (fun q a w => ?_) gcl gfr (by rw [(cS 8 8 (by omega)).1]; exact V.tp) (by rw [(mS 63 p (by omega) (by omega) (by omega) (by omega) (by omega) (by omega)).1]; exact V.at.2.2.1) (by rw [(mS 64 p (by omega) (by omega) (by omega) (by omega) (by omega) (by omega)).1]; exact V.at.2.2.2.2.1) (by omega) (by omega) (by omega) (fun j z => by rw [(cS 81 j (by omega)).1]; exact h.2.2.2.2.2.2.2.2.2.2.2.2.1 j (fun q w => z q ((hf q j).2 (Or.inl w))))⟩
    · rw [rm_150, km_150_0, e1, bi_ok, ec, if_pos (ofN_in (by omega) (by omega)), lz_onat (by omega)]
    · show (if a = kB F + x then c else ρ a) = ρ a
      rw [if_neg (fun y => ?_)]
      rw [y] at w
      by_cases z : q = p
      · rw [z, fpT_o] at w
        have := (prt_rg V.2.1).2 _ w
        omega
      · unfold fpT at w
        rw [if_neg z] at w
        exact nlv q w
  · show y < _ ∧ _ = Int32.ofNat (if kB F + y = kB F + x then c else ρ (kB F + y))
    by_cases z : y = x
    · rw [z, if_pos rfl, lj_put_1, if_pos ⟨rfl, rfl⟩]
      exact ⟨hx, rfl⟩
    · rw [if_neg (by omega), (mS 87 _ (by omega) (by omega) (by omega) (by omega) (by omega) (by omega)).1]
      exact t5 y (((hl' y).1 hy).resolve_left z)
  · have z : y ≠ x := fun z => y2 ((hl' y).2 (Or.inl z))
    rw [(mS 87 _ (by omega) (by omega) (by omega) (by omega) (by omega) (by omega)).1]
    exact t6 y y1 (fun w => y2 ((hl' y).2 (Or.inr w)))
  · have z : y ≠ x := fun z => y2 ((hl' y).2 (Or.inl z))
    rw [(cS 81 _ (by omega)).1]
    exact t7 y y1 (fun w => y2 ((hl' y).2 (Or.inr w)))
  · rw [(cS 81 _ (by omega)).1]
    exact t8 i hi
theorem act_9 {σ0 τ0 σ τ : lj_S} {n np p : Nat} {r : List Nat} {FP : Nat → List kF} {ρ : Nat → Nat} {A MO LA : List Nat} (h : MB σ0 τ0 n np p r FP ρ A MO LA σ τ) {F : kF} {L : List kF} (hF : FP p = F :: L) (h0 : kS F = 0) (rg : rgR σ τ) (hs : stF σ0 τ0) {Z : List pT} (hk : insK σ0 τ0 (kY F).1 (kY F).2.1 (kY F).2.2.1 (kY F).2.2.2.1 (kY F).2.2.2.2.1 (kY F).2.2.2.2.2 Z 9) {n' : Nat} (hn : ∀ z ∈ Z, gn σ0 τ0 n' z) : ∃ ρ', (∃ σ' τ' z, z ∈ Z ∧ (∀ v, goC v σ = goC v σ') ∧ (∀ x, mRun x τ = mRun x τ') ∧ MB σ0 τ0 n np p r (fpT FP p (kAt F z (n' + 1) :: L)) ρ' A MO LA σ' τ' ∧ rgR σ' τ') := by
  obtain ⟨x, s', l', ⟨x1, x2, x3⟩, hsh, hl', k1, k1', k2, k2', rfl⟩ := hk
  obtain ⟨ms, ks, ce, me, mq, V⟩ := h.w hF h0
  have B := V.bd
  have xn : x < nL σ0 (kY F).1 := by unfold nL; omega
  obtain ⟨h1, rg1⟩ := h.ft hF h0 rg V true true
  have h1 : MB σ0 τ0 n np p r (fpT FP p (kTo F ((kY F).2.1 + 1) ((kY F).2.2.1 + 1) (kY F).2.2.2.1 (kY F).2.2.2.2.1 (kY F).2.2.2.2.2 0 0 :: L)) ρ A MO LA (lj_put σ 94 (20 * p + L.length) (Int32.ofNat ((kY F).2.1 + 1))) (lj_put τ 77 (48 * p + L.length) (Int32.ofNat ((kY F).2.2.1 + 1))) := h1
  have rg1 : rgR (lj_put σ 94 (20 * p + L.length) (Int32.ofNat ((kY F).2.1 + 1))) (lj_put τ 77 (48 * p + L.length) (Int32.ofNat ((kY F).2.2.1 + 1))) := rg1
  have fo := fpT_o FP p (kTo F ((kY F).2.1 + 1) ((kY F).2.2.1 + 1) (kY F).2.2.2.1 (kY F).2.2.2.2.1 (kY F).2.2.2.2.2 0 0 :: L)
  obtain ⟨ms1, ks1, ce1, me1, mq1, V1⟩ := h1.w fo rfl
  have st1 := V1.st
  have hsh1 : (kY (kTo F ((kY F).2.1 + 1) ((kY F).2.2.1 + 1) (kY F).2.2.2.1 (kY F).2.2.2.2.1 (kY F).2.2.2.2.2 0 0)).2.2.2.1 = 0 :: s' := hsh
  rw [hsh1] at st1
  obtain ⟨ce', me', c1e, m1e, hv, _⟩ := st1.u0 (Or.inl rfl)
  obtain ⟨τ2, ρ', e1, e2, e3⟩ := MB.nl h1 fo rfl V1 xn x2 hv hl'
  rw [fpT_2] at e3
  have e3 : MB σ0 τ0 n np p r (fpT FP p (kTo F ((kY F).2.1 + 1) ((kY F).2.2.1 + 1) (kY F).2.2.2.1 l' (kY F).2.2.2.2.2 0 0 :: L)) ρ' A MO LA (setC (lj_put σ 94 (20 * p + L.length) (Int32.ofNat ((kY F).2.1 + 1))) (kB F + x) (cv (lj_put σ 94 (20 * p + L.length) (Int32.ofNat ((kY F).2.1 + 1))) ce')) τ2 := e3
  have fo2 := fpT_o FP p (kTo F ((kY F).2.1 + 1) ((kY F).2.2.1 + 1) (kY F).2.2.2.1 l' (kY F).2.2.2.2.2 0 0 :: L)
  have oC : ∀ k j, k = 8 ∨ k = 97 ∨ k = 94 → (setC (lj_put σ 94 (20 * p + L.length) (Int32.ofNat ((kY F).2.1 + 1))) (kB F + x) (cv (lj_put σ 94 (20 * p + L.length) (Int32.ofNat ((kY F).2.1 + 1))) ce')).1 k j = (lj_put σ 94 (20 * p + L.length) (Int32.ofNat ((kY F).2.1 + 1))).1 k j ∧ (setC (lj_put σ 94 (20 * p + L.length) (Int32.ofNat ((kY F).2.1 + 1))) (kB F + x) (cv (lj_put σ 94 (20 * p + L.length) (Int32.ofNat ((kY F).2.1 + 1))) ce')).2 k j = (lj_put σ 94 (20 * p + L.length) (Int32.ofNat ((kY F).2.1 + 1))).2 k j := fun k j z => setC_o _ _ _ k j (by omega)
  have oM : ∀ k j, ¬ (54 ≤ k ∧ k ≤ 57) → ¬ (k = 0 ∧ j = 96) → k ≠ 87 → τ2.1 k j = (lj_put τ 77 (48 * p + L.length) (Int32.ofNat ((kY F).2.2.1 + 1))).1 k j ∧ τ2.2 k j = (lj_put τ 77 (48 * p + L.length) (Int32.ofNat ((kY F).2.2.1 + 1))).2 k j := fun k j z1 z2 z3 => e2 k j (by unfold nlM; simp; omega)
  have rg2 : rgR (setC (lj_put σ 94 (20 * p + L.length) (Int32.ofNat ((kY F).2.1 + 1))) (kB F + x) (cv (lj_put σ 94 (20 * p + L.length) (Int32.ofNat ((kY F).2.1 + 1))) ce')) τ2 := by
    obtain ⟨r1, r2, r3, r4, r5⟩ := rg1
    exact ⟨by rw [(oC 8 46 (by omega)).1]; exact r1, by rw [(oM 0 143 (by omega) (by omega) (by omega)).1]; exact r2, by rw [(oM 0 129 (by omega) (by omega) (by omega)).1]; exact r3, by rw [(oC 8 45 (by omega)).1, (oM 0 144 (by omega) (by omega) (by omega)).1]; exact r4, by rw [(oC 8 44 (by omega)).2, (oM 0 145 (by omega) (by omega) (by omega)).2]; exact r5⟩
  obtain ⟨ms2, ks2, ce2, me2, mq2, V2⟩ := e3.w fo2 rfl
  have B1 := V1.bd
  have B2 := V2.bd
  have st2 := V2.st
  have hsh2 : (kY (kTo F ((kY F).2.1 + 1) ((kY F).2.2.1 + 1) (kY F).2.2.2.1 l' (kY F).2.2.2.2.2 0 0)).2.2.2.1 = 0 :: s' := hsh
  have hO2 := V2.ff.1.2.2.2.1
  have hfl2 := V2.fl
  rw [hsh2] at st2 hO2 hfl2
  obtain ⟨ce2', me2', c2e, m2e, _, _, _, _, st2⟩ := st2.u0 (Or.inl rfl)
  have q8 := V2.tp
  rw [(oC 8 8 (by omega)).1, lj_put_1, if_neg (by omega), V.tp] at q8
  have q8 := (ofN_eq (by omega) (by omega)).1 q8
  have p8 := V1.tp
  rw [lj_put_1, if_neg (by omega), V.tp] at p8
  have p8 := (ofN_eq (by omega) (by omega)).1 p8
  have q6 := V2.at.2.2.1
  rw [(oM 63 p (by omega) (by omega) (by omega)).1, lj_put_1, if_neg (by omega), V.at.2.2.1] at q6
  have q6 := (ofN_eq (by omega) (by omega)).1 q6
  have p6 := V1.at.2.2.1
  rw [lj_put_1, if_neg (by omega), V.at.2.2.1] at p6
  have p6 := (ofN_eq (by omega) (by omega)).1 p6
  have ee : ce2' = ce' := by omega
  have ee2 : me2' = me' := by omega
  obtain ⟨g1, g2⟩ := e3.dn fo2 rfl rg2 V2 st2 (σ' := lj_put (setC (lj_put σ 94 (20 * p + L.length) (Int32.ofNat ((kY F).2.1 + 1))) (kB F + x) (cv (lj_put σ 94 (20 * p + L.length) (Int32.ofNat ((kY F).2.1 + 1))) ce')) 8 8 (Int32.ofNat ce2')) (τ' := lj_put τ2 63 p (Int32.ofNat me2')) (tq_88 (lf_rf _ _) _) (tm_63 (lf_rf _ _) _) (by simp [lj_put_1, lj_putL_1]) (c' := (kY F).2.1 + 1) (m' := (kY F).2.2.1 + 1) (by rw [lj_put_1, if_neg (by omega)]; exact V2.2.2.2.2.1.1.2.2.2.1) (by rw [lj_put_1, if_neg (by omega)]; exact V2.2.2.2.2.1.2.1.2.2.2.1) (by simp [lj_put_1, lj_putL_1]) (by simp [lj_put_1, lj_putL_1]) (by rw [lj_put_1, if_neg (by omega)]; exact V2.at.2.2.2.2.1) hO2.tl (Nat.le_trans (flo_t 0 s') hfl2) (n' := n' + 1) (Or.inr ⟨Nat.succ_ne_zero _, hn _ List.mem_cons_self⟩)
  rw [fpT_2] at g1
  obtain ⟨f1, f2, f3, f4, fA, fL, fK, f5⟩ := c_ft h hF h0 hs k1 (by decide)
  have nl := V.ff.1
  have a3 : kB F + x < 325000 := by omega
  obtain ⟨i1, i2, i3⟩ := c_pre (x := σ.1 8 8) (t := ce') (by rw [V.tp]; congr 1; omega) (by omega)
  have eb : σ.1 8 35 + Int32.ofNat x = Int32.ofNat (kB F + x) := by rw [h.bs hF h0, ← Int32.ofNat_add]
  refine ⟨ρ', _, _, _, List.mem_cons_self, go_step rg.1 ?_, run_step rg.2.1 rg.2.2.1 (m_lo h hF h0 V hs k2 (by decide) (fun z1 z2 => ?_)), g1, g2⟩
  · rw [ca_9 σ f1 f3 f4 (fA.trans k1') fL fK, eb, if_pos i1, if_pos (ofN_in (by omega) (by omega)), if_pos i1, if_pos (ofN_in (by omega) (by omega)), kc_139_1051, f2, lz_osucc, i2, i3, lz_onat (by omega), ee, setC_88, setC_lt _ a3, cv_p _ (by decide)]
    rfl
  · have e1 : lj_R lm_P 150 [.ref 0, .int (Int32.ofNat (48 * p + L.length)), .int (Int32.ofNat x), .int (mv (lj_put τ 77 (48 * p + L.length) (Int32.ofNat ((kY F).2.2.1 + 1))) (10000 * p + me')).1, .long (mv (lj_put τ 77 (48 * p + L.length) (Int32.ofNat ((kY F).2.2.1 + 1))) (10000 * p + me')).2] (lj_put τ 77 (48 * p + L.length) (Int32.ofNat ((kY F).2.2.1 + 1))) = some (.inl none, τ2) := e1
    have em : tk τ p me = mv (lj_put τ 77 (48 * p + L.length) (Int32.ofNat ((kY F).2.2.1 + 1))) (10000 * p + me') := by rw [mv_p _ (by decide), show me = me' + 1 by omega, tk_1]
    have at2 := V2.at
    have dr := m_drop at2 (d := 1) (by omega)
    have dr : lj_R lm_P 126 [.ref 0, .int 1] τ2 = _ := dr
    rw [my_19 _ z1 z2, em, k2', e1, bv_ok, dr, bv_ok, km_127_420, show me2 - 1 = me2' by omega]
