/-! the uppermost frame goes on: all together -/
theorem tp_pp {σ0 τ0 σ σ' τ τ' : lj_S} {ρ : Nat → Nat} {p ms ks ce me mq : Nat} {F : kF} {L : List kF} (h0 : kS F = 0) (hp : prt σ0 τ0 σ τ ρ p L (kC F) ms ks) (ht : frm σ0 τ0 σ τ ρ p L.length F ms ks ce me mq) (hw : awR σ0 L (σ.1 98 (20 * p + L.length)) (τ.1 78 (48 * p + L.length)) (τ.1 79 (48 * p + L.length))) (hc : ce ≤ 12500 * p + 12500) (hm : me ≤ 10000) (hk : mq ≤ 2000)
    (f : lf (tpC p (20 * p + L.length) (kB F + nL σ0 (kY F).1 + 3 * nH σ0 (kY F).1)) σ σ') (g : lf (tpM p (48 * p + L.length) (ms + kD F) ks) τ τ') {c' m' dd' n' w' ce' me' mq' : Nat} {s' : List Nat} (e94 : σ'.1 94 (20 * p + L.length) = Int32.ofNat c') (e77 : τ'.1 77 (48 * p + L.length) = Int32.ofNat m') (hs : stk σ' τ' p (kB F + nL σ0 (kY F).1) (kB F + nL σ0 (kY F).1 + 3 * nH σ0 (kY F).1) (ms + kD F) ks s' ce' me' mq' (σ'.1 97 (20 * p + L.length))) (hfl : (flo s').length ≤ nH σ0 (kY F).1) (hdd : dd' ≤ (kY F).2.2.2.2.2) (hff : ffa σ0 τ0 σ' τ' (kTo F c' m' s' (kY F).2.2.2.2.1 dd' n' w')) :
    prt σ0 τ0 σ' τ' ρ p (kTo F c' m' s' (kY F).2.2.2.2.1 dd' n' w' :: L) ce' me' mq' := by
  have hB : kB F = kC F + kD F := rfl
  obtain ⟨r1, r2⟩ := prt_rg hp
  have fr := frm_rg ht
  obtain ⟨⟨h1, h2, h3⟩, h4⟩ := ht
  rcases h4 with ⟨_, t⟩ | ⟨e, _⟩
  · obtain ⟨⟨a1, a2, a3, a4, a5⟩, ⟨b1, b2, b3, b4, b5⟩, t3, t4, ⟨t5, t6, t7, t8, t10⟩, t9⟩ := t
    obtain ⟨q1, q2, q3, _⟩ := stk_bd t4
    have vr := tp_vR f g
    have cf : ∀ k, 91 ≤ k → k ≤ 98 → k ≠ 94 → k ≠ 97 → σ'.1 k (20 * p + L.length) = σ.1 k (20 * p + L.length) := fun k w1 w2 w3 w4 => (f k _ (tpC_f (szC_f (by omega)) (by omega) (by omega) (by omega) (by omega))).1
    have mf : ∀ k, 74 ≤ k → k ≤ 87 → k ≠ 77 → ∀ j, τ'.1 k j = τ.1 k j := fun k w1 w2 w3 j => (g k j (tpM_f (szM_f (by omega)) (by omega) (by omega) (by omega) (by omega))).1
    have sl : ∀ j, j < kB F + nL σ0 (kY F).1 + 3 * nH σ0 (kY F).1 → σ'.1 79 j = σ.1 79 j ∧ σ'.2 80 j = σ.2 80 j ∧ σ'.1 81 j = σ.1 81 j := fun j w => ⟨(f 79 j (tpC_f (szC_f (by omega)) (by omega) (by omega) (by omega) (by omega))).1, (f 80 j (tpC_f (szC_f (by omega)) (by omega) (by omega) (by omega) (by omega))).2, (f 81 j (tpC_f (szC_f (by omega)) (by omega) (by omega) (by omega) (by omega))).1⟩
    have vl : ∀ j, j < ms + kD F → τ'.1 71 (10000 * p + j) = τ.1 71 (10000 * p + j) ∧ τ'.2 72 (10000 * p + j) = τ.2 72 (10000 * p + j) := fun j w => ⟨(g 71 _ (tpM_f (szM_f (by omega)) (by omega) (by omega) (by omega) (by omega))).1, (g 72 _ (tpM_f (szM_f (by omega)) (by omega) (by omega) (by omega) (by omega))).2⟩
    refine ⟨ms, ks, prt_cg (fun a b w => w.cg vr.1 vr.2) (oG_eq vr.1 vr.2) (fun o _ => (tp_eq f (k := 62) (j := o) (by omega)).1) hp (fun j w1 w2 _ => sl j (by have w2 : j < kC F := w2; omega)) (fun k i w1 w2 w3 => (f k _ (tpC_f (szC_f (by omega)) (by omega) (by omega) (by omega) (by omega))).1) (fun j w => vl j (by omega)) (fun j w => (g 73 _ (tpM_f (szM_f (by omega)) (by omega) (by omega) (by omega) (by omega))).1) (fun k i w1 w2 w3 => (g k _ (tpM_f (szM_f (by omega)) (by omega) (by omega) (by omega) (by omega))).1) (fun i x _ _ => mf 87 (by decide) (by decide) (by decide) _) (fun a _ => rfl), ⟨⟨by rw [cf 95 (by decide) (by decide) (by decide) (by decide)]; exact h1, by rw [mf 80 (by decide) (by decide) (by decide)]; exact h2, by rw [mf 81 (by decide) (by decide) (by decide)]; exact h3⟩, Or.inl ⟨rfl, ⟨by rw [cf 91 (by decide) (by decide) (by decide) (by decide)]; exact a1, by rw [cf 92 (by decide) (by decide) (by decide) (by decide)]; exact a2, by rw [cf 93 (by decide) (by decide) (by decide) (by decide)]; exact a3, e94, by rw [cf 96 (by decide) (by decide) (by decide) (by decide)]; exact a5⟩, ⟨by rw [mf 74 (by decide) (by decide) (by decide)]; exact b1, by rw [mf 75 (by decide) (by decide) (by decide)]; exact b2, by rw [mf 76 (by decide) (by decide) (by decide)]; exact b3, e77, by rw [mf 82 (by decide) (by decide) (by decide)]; exact b5⟩, fun i hi => ?_, hs, ⟨fun x hx => ?_, fun x x1 x2 => ?_, fun x x1 x2 => ?_, fun i hi => ?_, hfl⟩, hff⟩⟩, ?_⟩
    · have hi : i < kD F := hi
      obtain ⟨c1, c2⟩ := t3 i hi
      obtain ⟨o1, o2, o3⟩ := sl (kC F + i) (by omega)
      obtain ⟨o4, o5⟩ := vl (ms + i) (by omega)
      show vR σ' τ' (cv σ' (kC F + i)) (mv τ' (10000 * p + (ms + i))) ∧ σ'.1 81 (kC F + i) = -1
      unfold cv mv at c1 ⊢
      rw [o1, o2, o3, o4, o5]
      exact ⟨c1.cg vr.1 vr.2, c2⟩
    · obtain ⟨c1, c2⟩ := t5 x hx
      exact ⟨c1, by rw [mf 87 (by decide) (by decide) (by decide)]; exact c2⟩
    · rw [mf 87 (by decide) (by decide) (by decide)]
      exact ⟨fun x3 => (t6 x x1 x2).1 (by have x3 : x < dd' := x3; omega), (t6 x x1 x2).2⟩
    · have x1 : x < nL σ0 (kY F).1 := x1
      show σ'.1 81 (kB F + x) = -1
      rw [(sl (kB F + x) (by omega)).2.2]
      exact t7 x x1 x2
    · have hi : i < 3 * nH σ0 (kY F).1 := hi
      show σ'.1 81 (kB F + nL σ0 (kY F).1 + i) = -1
      rw [(sl (kB F + nL σ0 (kY F).1 + i) (by omega)).2.2]
      exact t8 i hi
    · rw [cf 98 (by decide) (by decide) (by decide) (by decide), mf 78 (by decide) (by decide) (by decide), mf 79 (by decide) (by decide) (by decide)]
      exact hw
  · rcases e with e | e <;> rw [h0] at e <;> exact absurd e (by decide)
/-- both machines behind an act that changes the uppermost frame's stacks alone -/
theorem MB.top {σ0 τ0 σ σ' τ τ' : lj_S} {n np p : Nat} {r : List Nat} {FP : Nat → List kF} {ρ : Nat → Nat} {A MO LA : List Nat} (h : MB σ0 τ0 n np p r FP ρ A MO LA σ τ) {F : kF} {L : List kF} (hF : FP p = F :: L) (h0 : kS F = 0) {ms ks ce me mq : Nat} (hpa : paR σ0 τ0 σ τ ρ FP p p ce me mq) (hp : prt σ0 τ0 σ τ ρ p L (kC F) ms ks) (ht : frm σ0 τ0 σ τ ρ p L.length F ms ks ce me mq) (hw : awR σ0 L (σ.1 98 (20 * p + L.length)) (τ.1 78 (48 * p + L.length)) (τ.1 79 (48 * p + L.length)))
    (f : lf (tpC p (20 * p + L.length) (kB F + nL σ0 (kY F).1 + 3 * nH σ0 (kY F).1)) σ σ') (g : lf (tpM p (48 * p + L.length) (ms + kD F) ks) τ τ') {c' m' dd' n' w' ce' me' mq' : Nat} {s' : List Nat} (e94 : σ'.1 94 (20 * p + L.length) = Int32.ofNat c') (e77 : τ'.1 77 (48 * p + L.length) = Int32.ofNat m') (e8 : σ'.1 8 8 = Int32.ofNat ce') (e63 : τ'.1 63 p = Int32.ofNat me') (e64 : τ'.1 64 p = Int32.ofNat mq') (hc : ce' ≤ 12500 * p + 12500) (hm : me' ≤ 10000) (hk : mq' ≤ 2000) (hs : stk σ' τ' p (kB F + nL σ0 (kY F).1) (kB F + nL σ0 (kY F).1 + 3 * nH σ0 (kY F).1) (ms + kD F) ks s' ce' me' mq' (σ'.1 97 (20 * p + L.length))) (hfl : (flo s').length ≤ nH σ0 (kY F).1) (hdd : dd' ≤ (kY F).2.2.2.2.2) (hff : ffa σ0 τ0 σ' τ' (kTo F c' m' s' (kY F).2.2.2.2.1 dd' n' w')) (g81 : ∀ j, σ'.1 81 j = σ.1 81 j ∨ σ'.1 81 j = -1) :
    MB σ0 τ0 n np p r (fpT FP p (kTo F c' m' s' (kY F).2.2.2.2.1 dd' n' w' :: L)) ρ A MO LA σ' τ' := by
  obtain ⟨h1, h2, h3, h4, h5, h6, h7, h8, h9, h10, h11, h12, h13⟩ := h
  have vr := tp_vR f g
  obtain ⟨p1, ⟨p2, p3, p4, p5⟩, p6, p7, p8, p9, p10, p11⟩ := hpa
  have hlen : L.length < 20 := by rw [hF, List.length_cons] at p2; omega
  have hB : kB F = kC F + kD F := rfl
  have rg := (prt_rg hp).1
  have own : fpT FP p (kTo F c' m' s' (kY F).2.2.2.2.1 dd' n' w' :: L) p = kTo F c' m' s' (kY F).2.2.2.2.1 dd' n' w' :: L := by unfold fpT; rw [if_pos rfl]
  have oth : ∀ q, q ≠ p → fpT FP p (kTo F c' m' s' (kY F).2.2.2.2.1 dd' n' w' :: L) q = FP q := fun q w => by unfold fpT; rw [if_neg w]
  have ls : ∀ q a, lsL (fpT FP p (kTo F c' m' s' (kY F).2.2.2.2.1 dd' n' w' :: L) q) a ↔ lsL (FP q) a := fun q a => by
    by_cases z : q = p
    · rw [z, own, hF]
      constructor
      · rintro ⟨G, hG, wG⟩
        rcases List.mem_cons.1 hG with e | e
        · rw [e] at wG; exact ⟨F, List.mem_cons_self, h0, wG.2⟩
        · exact ⟨G, List.mem_cons_of_mem _ e, wG⟩
      · rintro ⟨G, hG, wG⟩
        rcases List.mem_cons.1 hG with e | e
        · rw [e] at wG; exact ⟨_, List.mem_cons_self, rfl, wG.2⟩
        · exact ⟨G, List.mem_cons_of_mem _ e, wG⟩
    · rw [oth q z]
  have lv20 : ∀ q s, lsL (FP q) s → cv σ' s = cv σ s ∧ σ'.1 81 s = σ.1 81 s := fun q s w => by
    -- slots of locals lie below the stacks
    have nt : s < kB F + nL σ0 (kY F).1 + 3 * nH σ0 (kY F).1 ∨ 12500 * p + 12500 ≤ s := by
      by_cases z : q = p
      · rw [z, hF] at w
        obtain ⟨G, hG, wG⟩ := w
        rcases List.mem_cons.1 hG with e | e
        · rw [e] at wG
          obtain ⟨_, x, hx, ex⟩ := wG
          rcases ht.2 with ⟨_, t⟩ | ⟨t, _⟩
          · have := (t.2.2.2.2.1.1 x hx).1
            omega
          · rw [h0] at t; omega
        · have := (prt_rg hp).2 s ⟨G, e, wG⟩
          omega
      · by_cases y : q ≤ np ∧ τ.1 58 q ≠ 4
        · obtain ⟨ce1, me1, mq1, q1, ⟨_, q2, _⟩, _⟩ := h8 q y.1 y.2
          have := (prt_rg q1).2 s w
          omega
        · have : (12500 * q ≤ s ∧ s < 12500 * q + 12500) ∨ FP q = [] := by
            by_cases y1 : q ≤ np
            · have y2 : τ.1 58 q = 4 := by
                by_cases y3 : τ.1 58 q = 4
                · exact y3
                · exact absurd ⟨y1, y3⟩ y
              have hn : q ∉ p :: r := fun hm => by
                rcases List.mem_cons.1 hm with e | e
                · exact z e
                · have : ∀ (l : List Nat) (a : Nat), chn σ0 σ τ FP (a :: l) → q ∈ l → τ.1 58 q = 3 := by
                    intro l
                    induction l with
                    | nil => intro a _ hq; cases hq
                    | cons b l ih =>
                      intro a hc hq
                      rcases List.mem_cons.1 hq with e | e
                      · rw [e]; exact hc.2.2.1.2
                      · exact ih b hc.2.2.2 e
                  have := this r p h7.2.2.2.1 e
                  rw [y2] at this
                  exact absurd this (by decide)
              rcases h7.2.2.2.2.2.2.2.2.2.2.2 q y1 hn with v | v | v
              · exact Or.inr v.2.2.1
              · rw [v.2.1] at y2; exact absurd y2 (by decide)
              · exact Or.inl (v.2.2.1.2 s w)
            · exact Or.inr (h7.2.2.2.2.2.2.2.2.1 q (by omega))
          rcases this with this | this
          · omega
          · exact absurd this (lsL_ne w)
    unfold cv
    rw [(f 79 s (tpC_f (szC_f (by omega)) (by omega) (by omega) (by omega) (by omega))).1, (f 80 s (tpC_f (szC_f (by omega)) (by omega) (by omega) (by omega) (by omega))).2, (f 81 s (tpC_f (szC_f (by omega)) (by omega) (by omega) (by omega) (by omega))).1]
    exact ⟨rfl, rfl⟩
  refine ⟨⟨fun k j q => ?_, fun k j q => ?_⟩, tp_sM f g h2, h3.up (sG_eq vr.1 vr.2) (fun j => (tp_eq f (k := 78) (j := j) (by omega)).1) (tp_eq f (k := 8) (j := 1) (by omega)).1 (tp_eq f (k := 8) (j := 3) (by omega)).1, tp_hp f g h4, tp_ob f g h5, tp_fn f g h6, tp_pt f g h7 (fun z => absurd (h7.2.2.2.2.2.1 p List.mem_cons_self) (by omega)), fun q q1 q2 => ?_, ?_, (h10.cg (fun a b w => w.cg vr.1 vr.2) (fun k j w => (tp_eq f (by omega)).1) (fun j => (tp_eq f (k := 76) (j := j) (by omega)).2) lv20 (fun k j w => (tp_eqM g (by omega)).1) (fun j => (tp_eqM g (k := 55) (j := j) (by omega)).2)).fp ls, h11.cg (fun o k w => (tp_oa f g o k).2 w) (fun k j w => (tp_eq f (by omega)).1) (fun k j w => (tp_eqM g (by omega)).1) (fun j => (tp_eqM g (k := 42) (j := j) (by omega)).2) (tp_eqM g (k := 0) (j := 78) (by omega)).2 (fun q e e' w => ?_), tp_ou f g h12, fun j z => (g81 j).elim (fun y => by rw [y]; exact h13.1 j (fun q w => z q ((ls q j).2 w))) Or.inl, h13.2.tr (sG_eq vr.1 vr.2)⟩
  · have := tp_eq f (k := k) (j := j) (by unfold cdC at q; simp at q; omega)
    have w := h1.1 k j q
    exact ⟨by rw [this.1]; exact w.1, by rw [this.2]; exact w.2⟩
  · have := tp_eqM g (k := k) (j := j) (by unfold cdM at q; simp at q; omega)
    have w := h1.2 k j q
    exact ⟨by rw [this.1]; exact w.1, by rw [this.2]; exact w.2⟩
  · by_cases z : q = p
    · rw [z]
      refine ⟨ce', me', mq', ?_⟩
      unfold paR
      rw [own, if_pos rfl, List.length_cons, (tp_eq f (k := 90) (j := p) (by omega)).1, (tp_eqM g (k := 62) (j := p) (by omega)).1, (tp_eqM g (k := 65) (j := p) (by omega)).1]
      rw [hF, List.length_cons] at p7 p10 p11
      exact ⟨tp_pp h0 hp ht hw p3 p4 p5 f g e94 e77 hs hfl hdd hff, ⟨by omega, hc, hm, hk⟩, e8, p7, e63, e64, p10, p11⟩
    · rw [(tp_eqM g (k := 58) (j := q) (by omega)).1] at q2
      obtain ⟨ce1, me1, mq1, w⟩ := h8 q q1 q2
      exact ⟨ce1, me1, mq1, tp_pa f g hlen (by omega) z w⟩
  · rw [own]
    rw [hF] at h9
    exact ⟨by rw [(tp_eq f (k := 8) (j := 34) (by omega)).1]; exact h9.1, fun _ => by rw [(tp_eq f (k := 8) (j := 35) (by omega)).1]; exact h9.2 h0⟩
  · by_cases z : q = p
    · rw [z, own]
      rw [z, hF] at w
      rcases w with ⟨w1, w2⟩ | ⟨w1, _⟩
      · exact Or.inl ⟨show (0 : Nat) ≠ 2 by decide, w2⟩
      · rw [h0] at w1; exact absurd w1 (by decide)
    · rw [oth q z]; exact w
