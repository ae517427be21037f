/-! a call of what is no function: the chain of its events -/
/-- the event of a call, of a value -/
def evC (σ : lj_S) (a u : vT) : Prop := lj_R lc_P 118 [.ref 7, .int a.1, .long a.2, .int (σ.1 78 19)] σ = some (.inl (some (.int (if u.1 = 0 then 0 else 1))), fdC σ u)
theorem fdC_inj {σ : lj_S} {u w : vT} (h : fdC σ u = fdC σ w) : u = w := by
  have h1 : (fdC σ u).1 7 27 = (fdC σ w).1 7 27 := by rw [h]
  have h2 : (fdC σ u).2 7 28 = (fdC σ w).2 7 28 := by rw [h]
  rw [fdC_1, fdC_1, if_pos ⟨rfl, rfl⟩, if_pos ⟨rfl, rfl⟩] at h1
  rw [fdC_2, fdC_2, if_pos ⟨rfl, rfl⟩, if_pos ⟨rfl, rfl⟩] at h2
  exact Prod.ext h1 h2
/-- it stays while the heap stays -/
theorem evC.cg {σ τ σ' : lj_S} {n : Nat} (h : hpR σ τ n) (ho : obR σ τ n) {a b : vT} (hab : vR σ τ a b) {u : vT} (e : evC σ a u) (hC : ∀ k j, hqC k j = true → σ'.1 k j = σ.1 k j ∧ σ'.2 k j = σ.2 k j) (h58 : ∀ j, σ'.1 58 j = σ.1 58 j) (h78 : σ'.1 78 19 = σ.1 78 19) : evC σ' a u := by
  have no : ∀ s : lj_S, lj_putL (lj_put s 7 27 0) 7 28 0 = fdC s (0, 0) := fun _ => rfl
  have fin : ∀ {w : vT}, (some (.inl (some (.int (if w.1 = 0 then 0 else 1))), fdC σ w) : Option lj_O) = some (.inl (some (.int (if u.1 = 0 then 0 else 1))), fdC σ u) → w = u := fun z => by
    have := Option.some.inj z
    exact fdC_inj (Prod.mk.inj this).2
  unfold evC at e ⊢
  rw [h78]
  generalize σ.1 78 19 = x at *
  by_cases k : a.1 = 4
  · obtain ⟨o, e1, e2, ob⟩ := hab.tb k
    obtain ⟨o1, o2, o3, o4, o5⟩ := ob
    have on : o ≤ n := by have := h.2.1; omega
    have it : lj_in (Int32.ofNat o) 2001 := ofN_in (by omega) (by omega)
    rw [e1] at e ⊢
    rw [rc_118, kc_118_0, if_pos rfl] at e ⊢
    simp only [i64_32, if_pos it, lz_onat (show o < 2147483648 by omega)] at e ⊢
    rw [h58]
    rcases (ho.2 o o1 on).2.1 o4 with ⟨m1, m2⟩ | ⟨m, ma, m1, m2⟩
    · rw [m1, if_neg (by decide), kc_118_15, no] at e
      have := fin (w := (0, 0)) e
      rw [m1, if_neg (by decide), kc_118_15, no, ← this]
      rfl
    · have mn : m ≤ n := by have := ma.2.2.1; have := h.2.1; omega
      have c0 : (0 : Int32) ≤ Int32.ofNat m := by rw [lz_le, lz_lit (by have := ma.2.1; omega)]; show (0 : Int) ≤ _; omega
      rw [m1, if_pos c0] at e ⊢
      obtain ⟨h1, h2, h3, P, B, Fr, P', B', Fr', hc, hm, hl, he⟩ := h
      have hc' : hpC σ' (· ≤ n) P B := hpC_cg hc.1 (fun k j q => (hC k j (by unfold hqC; simp; omega)).1) (fun j => (hC 67 j rfl).2)
      have bo : ∀ (w : vT), vp_nar .boolean (if w.1 = 0 then (0 : Int32) else 1) = if w.1 = 0 then 0 else 1 := fun w => by
        by_cases z : w.1 = 0
        · rw [if_pos z]; rfl
        · rw [if_neg z]; rfl
      rcases c_hget hc.1 (fun t ht => by have ht : t ≤ n := ht; omega) (show m ≤ n from mn) 3 x.toInt64 with ⟨q, hq, k1, run⟩ | ⟨nf, run⟩
      · rw [run, bi_ok] at e
        have b0 : vp_nar .boolean (if σ.1 68 q = 0 then (0 : Int32) else 1) = if σ.1 68 q = 0 then 0 else 1 := bo (σ.1 68 q, σ.2 69 q)
        rw [b0] at e
        have e' := fin (w := (σ.1 68 q, σ.2 69 q)) e
        rcases c_hget hc' (fun t ht => by have ht : t ≤ n := ht; omega) (show m ≤ n from mn) 3 x.toInt64 with ⟨q', hq', k1', run'⟩ | ⟨nf', run'⟩
        · have a1 : (σ.1 66 q, σ.2 67 q) = ((3 : Int32), x.toInt64) := k1
          have a2 : (σ'.1 66 q', σ'.2 67 q') = ((3 : Int32), x.toInt64) := k1'
          rw [(hC 66 q' rfl).1, (hC 67 q' rfl).2] at a2
          have qq : q = q' := (hc.1.2.2 m mn q hq).2.2.2 q' hq' (by rw [(Prod.mk.inj a1).1, (Prod.mk.inj a2).1]) (by rw [(Prod.mk.inj a1).2, (Prod.mk.inj a2).2])
          subst qq
          rw [run', bi_ok, (hC 68 q rfl).1, (hC 69 q rfl).2, ← e']
          have := bo (σ.1 68 q, σ.2 69 q)
          show (some (.inl (some (.int (vp_nar .boolean (if σ.1 68 q = 0 then (0 : Int32) else 1)))), _) : Option lj_O) = _
          rw [this]
          rfl
        · refine absurd ?_ (nf' q hq)
          show (σ'.1 66 q, σ'.2 67 q) = _
          rw [(hC 66 q rfl).1, (hC 67 q rfl).2]
          exact k1
      · rw [run, bi_ok, no] at e
        have e' := fin (w := (0, 0)) e
        rcases c_hget hc' (fun t ht => by have ht : t ≤ n := ht; omega) (show m ≤ n from mn) 3 x.toInt64 with ⟨q', hq', k1', run'⟩ | ⟨nf', run'⟩
        · refine absurd ?_ (nf q' hq')
          have a2 : (σ'.1 66 q', σ'.2 67 q') = ((3 : Int32), x.toInt64) := k1'
          rw [(hC 66 q' rfl).1, (hC 67 q' rfl).2] at a2
          exact a2
        · rw [run', bi_ok, no, ← e']
          rfl
  · rw [rc_118, kc_118_0, if_neg k, kc_118_15, no] at e ⊢
    have := fin (w := (0, 0)) e
    rw [← this]
    rfl
def cgC (k j : Nat) : Bool := (k == 7 && (j == 27 || j == 28)) || k == 105 || k == 106 || (k == 8 && j == 38)
def cgM (k j : Nat) : Bool := (k == 0 && (j == 90 || j == 91 || j == 133 || j == 134 || j == 137)) || k == 88 || k == 89
/-- the model puts what is called ahead of what is given -/
theorem m_gf_loop (t : Int32) (G : List vT) (hl : G.length ≤ 126) : ∀ (i : Nat) (σ : lj_S), i ≤ G.length → lv σ 0 137 = (G.length : Int) → shI 88 89 σ i G → ∃ σ' z, lj_D lm_P lm_M185 70 [.ref 0, .int t, .int (Int32.ofNat i)] [] σ = lj_D lm_P lm_M185 2 [.ref 0, .int t, .int z] [] σ' ∧ gvM σ' ((σ.1 0 133, σ.2 0 134) :: G) ∧ (σ'.1 0 133, σ'.2 0 134) = (σ.1 0 90, σ.2 0 91) ∧ lf cgM σ σ'
  | 0, σ, _, h38, h => by
    have z0 : (0 : Int32).toNatClampNeg = 0 := by decide
    obtain ⟨σa, hσa⟩ : ∃ σa, σa = lj_put (lj_putL (lj_put σ 88 0 (σ.1 0 133)) 89 0 (σ.2 0 134)) 0 137 (σ.1 0 137 + 1) := ⟨_, rfl⟩
    obtain ⟨σb, hσb⟩ : ∃ σb, σb = lj_putL (lj_put σa 0 133 (σ.1 0 90)) 0 134 (σ.2 0 91) := ⟨_, rfl⟩
    have o : ∀ k j, ¬ (k = 0 ∧ (j = 133 ∨ j = 134)) → σb.1 k j = σa.1 k j ∧ σb.2 k j = σa.2 k j := fun k j z => by
      rw [hσb]
      refine ⟨by rw [lj_putL_1, lj_put_1, if_neg (by omega)], ?_⟩
      rw [lj_putL_2, if_neg (by omega)]
      rfl
    refine ⟨σb, 0, ?_, ⟨?_, ?_⟩, ?_, by rw [hσb, hσa]; exact lf_putL (lf_put (lf_put (lf_putL (lf_put (lf_rf _ _) _ _ _ rfl) _ _ _ rfl) _ _ _ rfl) _ _ _ rfl) _ _ _ rfl⟩
    · rw [show Int32.ofNat 0 = 0 from rfl, km_185_70, if_pos (by decide), if_pos (by decide), if_pos (by decide), z0, hσb, hσa]
    · have e38 : σ.1 0 137 = Int32.ofNat G.length := lz_ext (by rw [lz_lit (by omega)]; exact h38)
      unfold lv
      rw [(o 0 137 (by omega)).1, hσa, lj_put_1, if_pos ⟨rfl, rfl⟩, e38, lz_osucc, lz_lit (by omega), List.length_cons]
    · refine shI_fin h ?_ (fun j => ⟨?_, ?_⟩)
      · rw [(o 88 0 (by omega)).1, (o 89 0 (by omega)).2, hσa, lj_put_1, if_neg (by omega), lj_putL_1, lj_put_1, if_pos ⟨rfl, rfl⟩]
        show (σ.1 0 133, (lj_putL (lj_put σ 88 0 (σ.1 0 133)) 89 0 (σ.2 0 134)).2 89 0) = _
        rw [lj_putL_2, if_pos ⟨rfl, rfl⟩]
      · rw [(o 88 _ (by omega)).1, hσa, lj_put_1, if_neg (by omega), lj_putL_1, lj_put_1, if_neg (by omega)]
      · rw [(o 89 _ (by omega)).2, hσa]
        show (lj_putL (lj_put σ 88 0 (σ.1 0 133)) 89 0 (σ.2 0 134)).2 89 (j + 1) = _
        rw [lj_putL_2, if_neg (by omega)]
        rfl
    · rw [hσb, lj_putL_1, lj_put_1, if_pos ⟨rfl, rfl⟩, lj_putL_2, if_pos ⟨rfl, rfl⟩]
  | i + 1, σ, hi, h38, h => by
    have i1 : lj_in (Int32.ofNat i) 128 := ofN_in (by omega) (by omega)
    have i2 : lj_in (Int32.ofNat (i + 1)) 128 := ofN_in (by omega) (by omega)
    have e1 : (Int32.ofNat i).toNatClampNeg = i := lz_onat (by omega)
    have e2 : (Int32.ofNat (i + 1)).toNatClampNeg = i + 1 := lz_onat (by omega)
    obtain ⟨σ', z, a1, a2, a3, a4⟩ := m_gf_loop t G hl i (shS 88 89 σ i) (by omega) (by show lv (lj_putL (lj_put σ 88 (i + 1) (σ.1 88 i)) 89 (i + 1) (σ.2 89 i)) 0 137 = _; rw [lv_putL, lv_put, if_neg (by omega)]; exact h38) (shI_step h hi)
    rw [shS_1, shS_2, if_neg (by omega), if_neg (by omega)] at a2 a3
    refine ⟨σ', z, ?_, a2, a3, (lf_putL (lf_put (lf_rf cgM σ) 88 (i + 1) (σ.1 88 i) rfl) 89 (i + 1) (σ.2 89 i) rfl).tr a4⟩
    rw [km_185_70, if_neg (ofN_le0 i (by omega)), lz_pred', if_pos i1, if_pos i2, if_pos i1, if_pos i2, lz_pred, e1, e2]
    exact a1
/-- one step of the chain -/
theorem ch_step {σ0 τ0 σ τ : lj_S} {n np p : Nat} {r : List Nat} {FP : Nat → List kF} {ρ : Nat → Nat} {A MO LA : List Nat} (h : MB σ0 τ0 n np p r FP ρ A MO LA σ τ) {a b : vT} (hab : vR σ τ a b) (h5 : a.1 ≠ 5) (hb : (τ.1 0 133, τ.2 0 134) = b) (as line : Int32) (hln : τ.1 0 132 = line) {G G' : List vT} (hG : gwR σ τ G G') (hGl : G.length ≤ 60) (x1 : Int32) (x2 : Int64) (X Y Z : Value) {t : Nat} (ht : t ≤ 20) : ∃ u w : vT, vR σ τ u w ∧ evC σ a u ∧
    ((u.1 = 0 ∨ t = 20) → ∃ σ' τ', raR (fdC σ u) (fdM τ w) σ' τ' ∧ lj_D lc_P lc_M155 9 [.ref 8, .int x1, .long x2, .retAddr 0, .int as, .int line, .int a.1, .long a.2, .retAddr 0, .int (Int32.ofNat t), X, Y, .retAddr 0] [] σ = some (.inr 2, σ') ∧ lj_D lm_P lm_M185 2 [.ref 0, .int (Int32.ofNat t), Z] [] τ = some (.inl none, τ')) ∧
    (u.1 ≠ 0 → t < 20 → ∃ σ1 τ1 X' Y' Z', lf cgC σ σ1 ∧ lf cgM τ τ1 ∧ gwR σ1 τ1 (a :: G) (b :: G') ∧ (τ1.1 0 133, τ1.2 0 134) = w ∧ lj_D lc_P lc_M155 9 [.ref 8, .int x1, .long x2, .retAddr 0, .int as, .int line, .int a.1, .long a.2, .retAddr 0, .int (Int32.ofNat t), X, Y, .retAddr 0] [] σ = lj_D lc_P lc_M155 9 [.ref 8, .int x1, .long x2, .retAddr 0, .int as, .int line, .int u.1, .long u.2, .retAddr 0, .int (Int32.ofNat (t + 1)), X', Y', .retAddr 0] [] σ1 ∧ lj_D lm_P lm_M185 2 [.ref 0, .int (Int32.ofNat t), Z] [] τ = lj_D lm_P lm_M185 2 [.ref 0, .int (Int32.ofNat (t + 1)), Z'] [] τ1) := by
  obtain ⟨u, w, e1, e2, e3⟩ := cm_event h.2.1.1 h.2.2.2.1 h.2.2.2.2.1 hab (h.2.2.1.1 19 (by decide))
  have e3 : lj_R lm_P 130 [.ref 0, .int b.1, .long b.2, .int 2] τ = some (.inl none, fdM τ w) := e3
  have hb1 : τ.1 0 133 = b.1 := by rw [← hb]
  have hb2 : τ.2 0 134 = b.2 := by rw [← hb]
  have nf : ¬ (b.1 = 5 ∨ b.1 = 7) := fun z => h5 (hab.kf.2 z)
  have m140 : lj_R lm_P 140 [.int b.1] τ = some (.inl (some (.int 0)), τ) := by
    rw [rm_140, km_140_0, if_neg (fun z => nf (Or.inl z)), if_neg (fun z => nf (Or.inr z)), km_140_16]
    rfl
  have i19 : lj_in 19 24 := by decide
  have n19 : (19 : Int32).toNatClampNeg = 19 := by decide
  have s1 : sM (fdC σ u) (fdM τ w) := h.2.1.cg (fun k j q => by rw [fdC_1, if_neg (by unfold sqC at q; simp at q; omega)]) (fun k j q => by rw [fdM_1, if_neg (by unfold sqM at q; simp at q; omega)])
  have f132 : (fdM τ w).1 0 132 = line := by rw [fdM_1, if_neg (by omega)]; exact hln
  have f133 : (fdM τ w).1 0 133 = b.1 := by rw [fdM_1, if_neg (by omega)]; exact hb1
  have f90 : (fdM τ w).1 0 90 = w.1 := by rw [fdM_1, if_pos ⟨rfl, rfl⟩]
  have vf : ∀ {c d : vT}, vR σ τ c d → vR (fdC σ u) (fdM τ w) c d := fun z => z.cg (fun k j q => by rw [fdC_1, if_neg (by unfold vqC at q; simp at q; omega)]) (fun k j q => by rw [fdM_1, if_neg (by unfold vqM at q; simp at q; omega)])
  refine ⟨u, w, e1, e2, fun z => ?_, fun z1 z2 => ?_⟩
  · by_cases z0 : u.1 = 0
    · have w0 : w.1 = 0 := e1.k0.1 z0
      obtain ⟨σ', τ', q1, q2, q3⟩ := cm_wrongOf s1 line (e := 3) (by decide) (vf hab)
      have q1 : lj_br (lj_R lc_P 156 [.ref 8, .int line, .ref 1013, .int a.1] (fdC σ u)) (fun y s => (bif Nat.blt y 2000 then lj_up y s else none)) lj_up = some (.inr 2, σ') := q1
      have q2 : lj_R lm_P 131 [.ref 0, .int 3, .int line, .int b.1] (fdM τ w) = some (.inl none, τ') := q2
      refine ⟨σ', τ', q3, ?_, ?_⟩
      · rw [kc_155_9, if_neg h5, if_pos i19, n19, e2, bi_ok, if_pos (by rw [if_pos z0]), q1]
      · rw [km_185_2, hb1, m140, bi_ok, if_pos rfl, hb1, hb2, e3, bv_ok, if_pos (by rw [f90]; exact w0), f132, f133, q2, bv_ok]
    · have w0 : w.1 ≠ 0 := fun y => z0 (e1.k0.2 y)
      have t20 : t = 20 := z.resolve_left z0
      subst t20
      obtain ⟨σ', τ', q1, q2, q3⟩ := cm_wrong s1 line (e := 1) (by decide)
      have q1 : lj_br (lj_R lc_P 133 [.ref 8, .int line, .ref 1021] (fdC σ u)) (fun y s => (bif Nat.blt y 2000 then lj_up y s else none)) lj_up = some (.inr 2, σ') := q1
      have q2 : lj_R lm_P 142 [.ref 0, .int 1, .int line] (fdM τ w) = some (.inl none, τ') := q2
      refine ⟨σ', τ', q3, ?_, ?_⟩
      · rw [kc_155_9, if_neg h5, if_pos i19, n19, e2, bi_ok, if_neg (by rw [if_neg z0]; decide), if_pos (by decide), q1]
      · rw [km_185_2, hb1, m140, bi_ok, if_pos rfl, hb1, hb2, e3, bv_ok, if_neg (by rw [f90]; exact w0), if_neg (by decide), f132, q2, bv_ok]
  · have w0 : w.1 ≠ 0 := fun y => z1 (e1.k0.2 y)
    obtain ⟨g1, g2, g3, g4⟩ := hG
    obtain ⟨σ1, c1, c2, c3⟩ := c_giveFirst (σ := fdC σ u) (G := G) ⟨by unfold lv; rw [fdC_1, if_neg (by omega)]; exact g1.1, fun j hj => by rw [fdC_1, fdC_2, if_neg (by omega), if_neg (by omega)]; exact g1.2 j hj⟩ (by omega) a
    have m137 : (fdM τ w).1 0 137 = Int32.ofNat G'.length := by
      rw [fdM_1, if_neg (by omega)]
      exact lz_ext (by rw [lz_lit (by omega)]; exact g2.1)
    obtain ⟨τ1, zz, d1, d2, d3, d4⟩ := m_gf_loop (Int32.ofNat (t + 1)) G' (by omega) G'.length (fdM τ w) (Nat.le_refl _) (by unfold lv; rw [m137, lz_lit (by omega)]) ⟨fun j hj => by rw [fdM_1, fdM_2, if_neg (by omega), if_neg (by omega)]; exact g2.2 j hj, fun j y1 y2 => by omega⟩
    have f134 : (fdM τ w).2 0 134 = b.2 := by rw [fdM_2, if_neg (by omega)]; exact hb2
    have f91 : (fdM τ w).2 0 91 = w.2 := by rw [fdM_2, if_pos ⟨rfl, rfl⟩]
    rw [f133, f134] at d2
    rw [f90, f91] at d3
    have lc : lf cgC σ σ1 := (lf_putL (lf_put (lf_rf cgC σ) 7 27 u.1 rfl) 7 28 u.2 rfl).tr (c3.mo (fun k j q => by unfold cgC at q; unfold gsC; simp at q ⊢; omega))
    have lm : lf cgM τ τ1 := (lf_putL (lf_put (lf_rf cgM τ) 0 90 w.1 rfl) 0 91 w.2 rfl).tr d4
    have v1 : ∀ {c d : vT}, vR σ τ c d → vR σ1 τ1 c d := fun z => z.cg (fun k j q => (lc k j (by unfold vqC at q; unfold cgC; simp at q ⊢; omega)).1) (fun k j q => (lm k j (by unfold vqM at q; unfold cgM; simp at q ⊢; omega)).1)
    have t20 : ¬ (Int32.ofNat t = 20) := fun y => by
      have := (ofN_eq (c := 20) (by omega) (by omega)).1 y
      omega
    have tle : Int32.ofNat t + 1 ≤ 20 := by
      rw [lz_osucc, lz_le, lz_lit (by omega)]
      show _ ≤ (20 : Int)
      omega
    refine ⟨σ1, τ1, .int u.1, .long u.2, .int zz, lc, lm, ⟨c2, d2, by rw [List.length_cons, List.length_cons, g3], fun j hj => ?_⟩, d3, ?_, ?_⟩
    · cases j with
      | zero => exact v1 hab
      | succ j => exact v1 (g4 j (by rw [List.length_cons] at hj; omega))
    · rw [kc_155_9, if_neg h5, if_pos i19, n19, e2, bi_ok, if_neg (by rw [if_neg z1]; decide), if_neg t20, c1, bv_ok, lz_osucc]
      have q1 : (fdC σ u).1 7 27 = u.1 := by rw [fdC_1, if_pos ⟨rfl, rfl⟩]
      have q2 : (fdC σ u).2 7 28 = u.2 := by rw [fdC_2, if_pos ⟨rfl, rfl⟩]
      rw [q1, q2]
    · rw [km_185_2, hb1, m140, bi_ok, if_pos rfl, hb1, hb2, e3, bv_ok, if_neg (by rw [f90]; exact w0), if_pos tle, lz_osucc, m137, d1]
