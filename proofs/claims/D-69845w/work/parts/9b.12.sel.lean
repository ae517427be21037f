/-! what is built in: select -/
theorem sl_loop {σ0 τ0 : lj_S} {n np p : Nat} {r : List Nat} {FP : Nat → List kF} {ρ : Nat → Nat} {A MO LA : List Nat} {m : Nat} {G G' : List vT} (hGl : G.length ≤ 49) (hm : m < G.length) (as line : Int32) (x4 y2 y4 : Int64) : ∀ (d k : Nat) (σ τ : lj_S) (R R' : List vT), k + d = m + 1 → 1 ≤ k → MB σ0 τ0 n np p r FP ρ A MO LA σ τ → gwR σ τ G G' → rsC σ R → rsM τ R' → rwE σ τ R R' → R.length ≤ k → ∃ σ' τ' R1 R1', lj_D lc_P lc_M174 164 [.ref 8, .int line, .int as, .int (Int32.ofNat m), .long x4, .retAddr 0, .long (i64 k), .retAddr 0] [] σ = finC (lj_R lc_P 144 [.ref 8, .int as] σ') ∧ lj_D lm_P lm_M205 140 [.ref 0, .int (Int32.ofNat m), .long y2, .retAddr 0, .long y4, .retAddr 0, .long (i64 k), .retAddr 0] [] τ = some (.inl none, τ') ∧ MB σ0 τ0 n np p r FP ρ A MO LA σ' τ' ∧ rsC σ' R1 ∧ rsM τ' R1' ∧ rwE σ' τ' R1 R1' ∧ R1.length ≤ m + 1 ∧ lf bfC σ σ' ∧ lf bfM τ τ' ∧ τ'.1 0 129 = τ.1 0 129
  | 0, k, σ, τ, R, R', hd, hk, h, hG, rs, rm, rw, hR => by
    have c := (i64_cmp (a := k) (b := m) (by omega) (by omega)).1.2 (by omega)
    have c : 0 < lg_cmp (i64 k) (Int32.ofNat m).toInt64 := c
    refine ⟨σ, τ, R, R', ?_, ?_, h, rs, rm, rw, by omega, lf_rf _ _, lf_rf _ _, rfl⟩
    · rw [kc_174_164, if_pos c]
      rfl
    · rw [km_205_140, if_pos c, km_205_184]
  | d + 1, k, σ, τ, R, R', hd, hk, h, hG, rs, rm, rw, hR => by
    have c : ¬ (0 < lg_cmp (i64 k) (Int32.ofNat m).toInt64) := fun z => by
      have := (i64_cmp (a := k) (b := m) (by omega) (by omega)).1.1 z
      omega
    have c0 : ¬ (lg_cmp (i64 k) 0 ≤ 0) := fun z => by
      have := (i64_cmp (a := k) (b := 0) (by omega) (by omega)).2.1 z
      omega
    have ik : lj_in (Int32.ofNat k) 128 := ofN_in (by omega) (by omega)
    have nk : (Int32.ofNat k).toNatClampNeg = k := lz_onat (by omega)
    have hGl' := hG.2.2.1
    obtain ⟨σ2, τ2, p1, p2, p3, p4, p5, p6, p7⟩ := x_gv rs rm rw (by omega) (hG.v k)
    have g2 : gwR σ2 τ2 G G' := hG.cg (fun k j q => p6 k j (by unfold rtC; simp; omega)) (fun k j q => p7 k j (by unfold rtM; simp; omega)) (fun _ _ z => rtC_v p6 p7 z)
    have k1 := hG.1.2 k (by omega)
    have k2 := hG.2.1.2 k (by omega)
    rw [← k1] at p1
    rw [← k2] at p2
    have p1 : lj_R lc_P 143 [.ref 8, .int (σ.1 105 k), .long (σ.2 106 k)] σ = some (.inl none, σ2) := p1
    have p2 : lj_R lm_P 184 [.ref 0, .int (τ.1 88 k), .long (τ.2 89 k)] τ = some (.inl none, τ2) := p2
    obtain ⟨σ', τ', R1, R1', q1, q2, q3, q4, q5, q6, q7, q8, q9, q10⟩ := sl_loop hGl hm as line x4 y2 y4 d (k + 1) σ2 τ2 _ _ (by omega) (by omega) (h.sc (rtC_z p6) (rtM_z p7)) g2 p3 p4 p5 (by simp; omega)
    refine ⟨σ', τ', R1, R1', ?_, ?_, q3, q4, q5, q6, q7, (rtC_b p6).tr q8, (rtM_b p7).tr q9, ?_⟩
    · rw [kc_174_164, if_neg c]
      simp only [i64_32, if_pos ik, nk]
      rw [p1, bv_ok, i64_succ (by omega)]
      exact q1
    · rw [km_205_140, if_neg c, if_neg c0]
      simp only [i64_32, if_pos ik, nk]
      rw [p2, bv_ok, i64_succ (by omega)]
      exact q2
    · rw [q10, (p7 0 129 rfl).1]
theorem bi_15 {σ0 τ0 σ τ : lj_S} {n np p : Nat} {r : List Nat} {FP : Nat → List kF} {ρ : Nat → Nat} {A MO LA : List Nat} {M : Nat} (D : DLV σ0 τ0 M) (h : MB σ0 τ0 n np p r FP ρ A MO LA σ τ) (ry : ryR σ τ) (hwk : wkR FP (p :: r) A σ) {as line : Int32} (ht : τ.1 0 129 = 1) (ha : awR σ0 (FP p) as (τ.1 0 130) (τ.1 0 131)) (hln : τ.1 0 132 = line) {G G' : List vT} (hG : gwR σ τ G G') (hGl : G.length ≤ 49) (hM : thM FP (p :: r) MO LA + 5001 ≤ M) {X : Nat} (hX : X ≤ TH) (hT : thM FP (p :: r) MO LA + 5001 ≤ X) (hB : G.length + pfx FP (p :: r) ≤ 30 ∨ (G.getD 0 (0, 0)).1 = 4) : ∃ τ1, lj_R lm_P 187 [.ref 0, .int 15] τ = some (.inl none, τ1) ∧ ocR σ0 τ0 A (fun t => t ≤ X) σ τ1 (lj_R lc_P 159 [.ref 8, .int 15, .int as, .int line] σ) := by
  have c0 := hG.c0 hGl
  have m1 := hG.m1 hGl
  have hv := hG.v 0
  have px := h.px hwk
  have hGl' := hG.2.2.1
  have e38 : σ.1 8 38 = Int32.ofNat G.length := lz_ext (by rw [lz_lit (by omega)]; exact hG.1.1)
  have e137 : τ.1 0 137 = Int32.ofNat G.length := lz_ext (by rw [lz_lit (by omega), hGl']; exact hG.2.1.1)
  obtain ⟨m, hm⟩ : ∃ m, m = G.length - 1 := ⟨_, rfl⟩
  have rC : ∀ {x : Option lj_O}, lj_D lc_P lc_M174 17 [.ref 8, .int line, .int as, .retAddr 0, .retAddr 0, .retAddr 0, .retAddr 0, .retAddr 0] [.int (Int32.ofNat m)] σ = x → lj_R lc_P 159 [.ref 8, .int 15, .int as, .int line] σ = finC x := fun e => by
    have q : lj_R lc_P 174 [.ref 8, .int line, .int as] σ = lj_D lc_P lc_M174 17 [.ref 8, .int line, .int as, .retAddr 0, .retAddr 0, .retAddr 0, .retAddr 0, .retAddr 0] [.int (Int32.ofNat m)] σ := by
      rw [rc_174, kc_174_0, e38]
      by_cases z : G.length = 0
      · rw [if_pos (by rw [z]; decide), hm, z]
        rfl
      · obtain ⟨g, hg⟩ : ∃ g, G.length = g + 1 := ⟨G.length - 1, by omega⟩
        rw [hg, if_neg (ofN_le0 g (by omega)), lz_pred', hm, hg]
        rfl
    rw [rc_159, kc_159_0, if_neg (by decide), if_neg (by decide), if_neg (by decide), if_neg (by decide), if_neg (by decide), if_neg (by decide), if_neg (by decide), if_neg (by decide), if_neg (by decide), if_neg (by decide), if_neg (by decide), if_neg (by decide), if_neg (by decide), if_neg (by decide), if_neg (by decide), if_pos rfl, q, e]
    simp only [kc_159_901]
    rfl
  have rM : ∀ {τx : lj_S}, lj_D lm_P lm_M205 17 [.ref 0, .retAddr 0, .retAddr 0, .retAddr 0, .retAddr 0, .retAddr 0, .retAddr 0, .retAddr 0] [.int (Int32.ofNat m)] τ = some (.inl none, τx) → lj_R lm_P 187 [.ref 0, .int 15] τ = some (.inl none, τx) := fun e => by
    have q : lj_R lm_P 205 [.ref 0] τ = lj_D lm_P lm_M205 17 [.ref 0, .retAddr 0, .retAddr 0, .retAddr 0, .retAddr 0, .retAddr 0, .retAddr 0, .retAddr 0] [.int (Int32.ofNat m)] τ := by
      rw [rm_205, km_205_0, e137]
      by_cases z : G.length = 0
      · rw [if_pos (by rw [z]; decide), hm, z]
        rfl
      · obtain ⟨g, hg⟩ : ∃ g, G.length = g + 1 := ⟨G.length - 1, by omega⟩
        rw [hg, if_neg (ofN_le0 g (by omega)), lz_pred', hm, hg]
        rfl
    rw [rm_187, km_187_0, if_neg (by decide), if_neg (by decide), if_neg (by decide), if_neg (by decide), if_neg (by decide), if_neg (by decide), if_neg (by decide), if_neg (by decide), if_neg (by decide), if_neg (by decide), if_neg (by decide), if_neg (by decide), if_neg (by decide), if_neg (by decide), if_neg (by decide), if_pos rfl, q, e, bv_ok, km_187_308]
  -- where no sign for the number of values is given
  have main : ∃ τ1, lj_D lm_P lm_M205 71 [.ref 0, .int (Int32.ofNat m), .retAddr 0, .retAddr 0, .retAddr 0, .retAddr 0, .retAddr 0, .retAddr 0] [] τ = some (.inl none, τ1) ∧ ocR σ0 τ0 A (fun t => t ≤ X) σ τ1 (lj_D lc_P lc_M174 81 [.ref 8, .int line, .int as, .int (Int32.ofNat m), .retAddr 0, .retAddr 0, .retAddr 0, .retAddr 0] [] σ) := by
    have bad : ∀ (r1 : lj_D lc_P lc_M174 81 [.ref 8, .int line, .int as, .int (Int32.ofNat m), .retAddr 0, .retAddr 0, .retAddr 0, .retAddr 0] [] σ = lj_D lc_P lc_M174 117 [.ref 8, .int line, .int as, .int (Int32.ofNat m), .retAddr 0, .retAddr 0, .retAddr 0, .retAddr 0] [.ref 8] σ) (v : Int64) (r2 : lj_D lm_P lm_M205 71 [.ref 0, .int (Int32.ofNat m), .retAddr 0, .retAddr 0, .retAddr 0, .retAddr 0, .retAddr 0, .retAddr 0] [] τ = lj_D lm_P lm_M205 106 [.ref 0, .int (Int32.ofNat m), .long v, .retAddr 0, .retAddr 0, .retAddr 0, .retAddr 0, .retAddr 0] [] τ), ∃ τ1, lj_D lm_P lm_M205 71 [.ref 0, .int (Int32.ofNat m), .retAddr 0, .retAddr 0, .retAddr 0, .retAddr 0, .retAddr 0, .retAddr 0] [] τ = some (.inl none, τ1) ∧ ocR σ0 τ0 A (fun t => t ≤ X) σ τ1 (lj_D lc_P lc_M174 81 [.ref 8, .int line, .int as, .int (Int32.ofNat m), .retAddr 0, .retAddr 0, .retAddr 0, .retAddr 0] [] σ) := fun r1 v r2 => by
      obtain ⟨σ', τ', q1, q2, q3⟩ := nd_bad h.2.1 hln 1 (w := 15) (by decide)
      have q1 : lj_R lc_P 168 [.ref 8, .int 0, .int 1, .int 15, .int line] σ = some (.inr 2, σ') := q1
      have q2 : lj_R lm_P 199 [.ref 0, .int 1, .int 15] τ = some (.inl none, τ') := q2
      refine ⟨τ', by rw [r2, km_205_106, q2, bv_ok], ?_⟩
      rw [r1, kc_174_117, kc_174_118, q1, bv_th]
      exact bt_er ry hwk h (lf_rf _ _) (lf_rf _ _) q3 (by omega)
    by_cases z2 : (G.getD 0 (0, 0)).1 = 2
    · have e := hv.wh z2
      obtain ⟨v, hv2⟩ : ∃ v, v = (G.getD 0 (0, 0)).2 := ⟨_, rfl⟩
      have ea : G.getD 0 (0, 0) = (2, v) := Prod.ext z2 hv2.symm
      rw [ea] at e c0
      rw [e] at m1
      have gne : 0 < G.length := by
        rcases Nat.eq_zero_or_pos G.length with y | y
        · rw [List.getD_eq_getElem?_getD, List.getElem?_eq_none (by omega)] at z2
          exact absurd z2 (by decide)
        · exact y
      have mi : m < G.length := by omega
      have ng : (-(Int32.ofNat m)).toInt64.toInt = -(m : Int) := by
        rw [Int32.toInt_toInt64, Int32.toInt_neg, lz_lit (by omega), Int.bmod_eq_of_le] <;> omega
      by_cases v0 : v = 0
      · refine bad ?_ v ?_
        · rw [kc_174_81, c0.1, bi_ok, if_pos rfl, c0.2, bl_ok, if_pos ((lg_eq0 _ _).2 v0)]
        · rw [km_205_71, m1.2, bl_ok, m1.1, bi_ok, if_pos rfl, if_pos ((lg_eq0 _ _).2 v0)]
      · have n0 : ¬ (lg_cmp v 0 = 0) := fun y => v0 ((lg_eq0 _ _).1 y)
        have z64 : (0 : Int64).toInt = 0 := by decide
        have vn : v.toInt ≠ 0 := fun y => v0 (lg_ext (by rw [y, z64]))
        by_cases lo : v.toInt < -(m : Int)
        · have c1 : lg_cmp v (-(Int32.ofNat m)).toInt64 < 0 := (lg_lt _ _).2 (Int64.lt_iff_toInt_lt.2 (by rw [ng]; exact lo))
          have c2 : ¬ (0 ≤ lg_cmp v (-(Int32.ofNat m)).toInt64) := Int32.not_le.2 c1
          have c3 : ¬ (0 ≤ lg_cmp v 0) := fun y => by
            have := (lg_ge _ _).1 y
            rw [Int64.le_iff_toInt_le, z64] at this
            omega
          refine bad ?_ v ?_
          · rw [kc_174_81, c0.1, bi_ok, if_pos rfl, c0.2, bl_ok, if_neg n0, c0.2, bl_ok, if_pos c1]
          · rw [km_205_71, m1.2, bl_ok, m1.1, bi_ok, if_pos rfl, if_neg n0, if_neg c3, if_neg c2]
        · have c1 : ¬ (lg_cmp v (-(Int32.ofNat m)).toInt64 < 0) := fun y => by
            have := Int64.lt_iff_toInt_lt.1 ((lg_lt _ _).1 y)
            rw [ng] at this
            exact lo this
          have c2 : 0 ≤ lg_cmp v (-(Int32.ofNat m)).toInt64 := Int32.not_lt.1 c1
          -- where the values begin
          have body : ∀ (f : Int64), 1 ≤ f.toInt → (m : Int) < f.toInt ∨ f.toInt ≤ (m : Int) → lj_D lc_P lc_M174 118 [.ref 8, .int line, .int as, .int (Int32.ofNat m), .retAddr 0, .retAddr 0, .retAddr 0, .retAddr 0] [.int 1, .ref 8] σ = lj_D lc_P lc_M174 153 [.ref 8, .int line, .int as, .int (Int32.ofNat m), .retAddr 0, .retAddr 0, .retAddr 0, .retAddr 0] [.long f] σ → lj_D lm_P lm_M205 114 [.ref 0, .int (Int32.ofNat m), .long v, .retAddr 0, .retAddr 0, .retAddr 0, .retAddr 0, .retAddr 0] [] τ = lj_D lm_P lm_M205 134 [.ref 0, .int (Int32.ofNat m), .long v, .retAddr 0, .retAddr 0, .retAddr 0, .retAddr 0, .retAddr 0] [.long f] (lj_put (lj_put τ 0 140 0) 0 129 1) → ∃ τ1, lj_D lm_P lm_M205 114 [.ref 0, .int (Int32.ofNat m), .long v, .retAddr 0, .retAddr 0, .retAddr 0, .retAddr 0, .retAddr 0] [] τ = some (.inl none, τ1) ∧ ocR σ0 τ0 A (fun t => t ≤ X) σ τ1 (lj_D lc_P lc_M174 118 [.ref 8, .int line, .int as, .int (Int32.ofNat m), .retAddr 0, .retAddr 0, .retAddr 0, .retAddr 0] [.int 1, .ref 8] σ) := fun f f1 f2 r1 r2 => by
            have lC : lf szC σ (lj_put σ 8 41 0) := lf_put (lf_rf _ _) _ _ _ rfl
            have lM : lf szM τ (lj_put (lj_put τ 0 140 0) 0 129 1) := lf_put (lf_put (lf_rf _ _) _ _ _ rfl) _ _ _ rfl
            have hC := h.sc lC lM
            have gC : gwR (lj_put σ 8 41 0) (lj_put (lj_put τ 0 140 0) 0 129 1) G G' := hG.cg (fun k j q => ⟨by rw [lj_put_1, if_neg (by omega)], rfl⟩) (fun k j q => ⟨by rw [lj_put_1, if_neg (by omega), lj_put_1, if_neg (by omega)], rfl⟩) (fun _ _ w => w.cg (fun k j q => by rw [lj_put_1, if_neg (by unfold vqC at q; simp at q; omega)]) (fun k j q => by rw [lj_put_1, if_neg (by unfold vqM at q; simp at q; omega), lj_put_1, if_neg (by unfold vqM at q; simp at q; omega)]))
            have rm0 : rsM (lj_put (lj_put τ 0 140 0) 0 129 1) [] := ⟨by unfold lv; rw [lj_put_1, if_neg (by omega), lj_put_1, if_pos ⟨rfl, rfl⟩]; rfl, fun j hj => absurd hj (by simp)⟩
            have lb1 : lf bfC σ (lj_put σ 8 41 0) := lf_put (lf_rf _ _) _ _ _ rfl
            have lb2 : lf bfM τ (lj_put (lj_put τ 0 140 0) 0 129 1) := lf_put (lf_put (lf_rf _ _) _ _ _ rfl) _ _ _ rfl
            have mt : ((Int32.ofNat m).toInt64).toInt = (m : Int) := by rw [Int32.toInt_toInt64, lz_lit (by omega)]
            by_cases fm : (m : Int) < f.toInt
            · have c : 0 < lg_cmp f (Int32.ofNat m).toInt64 := Int32.not_le.1 (fun y => by
                have := Int64.le_iff_toInt_le.1 ((lg_le _ _).1 y)
                rw [mt] at this
                omega)
              have dl := bi_dl D ry hwk ha hC lb1 lb2 (by simp [lj_put_1, lj_putL_1]) (x_rs0 σ) rm0 ⟨rfl, by simp, fun j => vR_nil _ _⟩ (by simp; omega) (by omega) (by omega) hX
              refine ⟨lj_put (lj_put τ 0 140 0) 0 129 1, by rw [r2, km_205_134, km_205_140, if_pos c, km_205_184], ?_⟩
              rw [r1, kc_174_153, kc_174_164, if_pos c]
              exact dl.fin
            · obtain ⟨k, hk⟩ : ∃ k : Nat, (k : Int) = f.toInt := ⟨f.toInt.toNat, by omega⟩
              have fk : f = i64 k := lg_ext (by rw [i64_int (by omega)]; exact hk.symm)
              obtain ⟨σ', τ', R1, R1', q1, q2, q3, q4, q5, q6, q7, q8, q9, q10⟩ := sl_loop hGl mi as line f v f (m + 1 - k) k _ _ [] [] (by omega) (by omega) hC gC (x_rs0 σ) rm0 ⟨rfl, by simp, fun j => vR_nil _ _⟩ (by simp)
              have dl := bi_dl D ry hwk ha q3 (lb1.tr q8) (lb2.tr q9) (by rw [q10]; exact (by simp [lj_put_1, lj_putL_1])) q4 q5 q6 (by
                rcases hB with y | y
                · omega
                · rw [z2] at y; exact absurd y (by decide)) (by omega) (by omega) hX
              rw [← fk] at q1 q2
              refine ⟨τ', by rw [r2, km_205_134]; exact q2, ?_⟩
              rw [r1, kc_174_153, q1]
              exact dl.fin
          have g192 : lj_R lm_P 192 [.ref 0] τ = some (.inl none, lj_put (lj_put τ 0 140 0) 0 129 1) := by rw [rm_192, km_192_0]
          by_cases pos : 0 < v.toInt
          · have c3 : 0 ≤ lg_cmp v 0 := (lg_ge _ _).2 (Int64.le_iff_toInt_le.2 (by rw [z64]; omega))
            have c4 : ¬ (lg_cmp v 0 ≤ 0) := fun y => by
              have := Int64.le_iff_toInt_le.1 ((lg_le _ _).1 y)
              rw [z64] at this
              omega
            obtain ⟨τ1, p1, p2⟩ := body v (by omega) (by omega) (by rw [kc_174_118, nd_ok _ (by decide), bv_ok, c0.2, bl_ok, if_pos c3, c0.2, bl_ok]) (by rw [km_205_114, g192, bv_ok, if_neg c4])
            refine ⟨τ1, ?_, ?_⟩
            · rw [km_205_71, m1.2, bl_ok, m1.1, bi_ok, if_pos rfl, if_neg n0, if_pos c3]
              exact p1
            · rw [kc_174_81, c0.1, bi_ok, if_pos rfl, c0.2, bl_ok, if_neg n0, c0.2, bl_ok, if_neg c1]
              exact p2
          · have c3 : ¬ (0 ≤ lg_cmp v 0) := fun y => by
              have := Int64.le_iff_toInt_le.1 ((lg_ge _ _).1 y)
              rw [z64] at this
              omega
            have c4 : lg_cmp v 0 ≤ 0 := (lg_le _ _).2 (Int64.le_iff_toInt_le.2 (by rw [z64]; omega))
            have i1 : (1 : Int64).toInt = 1 := by decide
            have ft : ((Int32.ofNat m).toInt64 + v + 1).toInt = (m : Int) + v.toInt + 1 := by
              have mt : ((Int32.ofNat m).toInt64).toInt = (m : Int) := by rw [Int32.toInt_toInt64, lz_lit (by omega)]
              have s1 : ((Int32.ofNat m).toInt64 + v).toInt = (m : Int) + v.toInt := by
                rw [Int64.toInt_add, mt, Int.bmod_eq_of_le] <;> omega
              rw [Int64.toInt_add, s1, i1, Int.bmod_eq_of_le] <;> omega
            obtain ⟨τ1, p1, p2⟩ := body ((Int32.ofNat m).toInt64 + v + 1) (by rw [ft]; omega) (by rw [ft]; omega) (by rw [kc_174_118, nd_ok _ (by decide), bv_ok, c0.2, bl_ok, if_neg c3, c0.2, bl_ok]) (by rw [km_205_114, g192, bv_ok, if_pos c4])
            refine ⟨τ1, ?_, ?_⟩
            · rw [km_205_71, m1.2, bl_ok, m1.1, bi_ok, if_pos rfl, if_neg n0, if_neg c3, if_pos c2]
              exact p1
            · rw [kc_174_81, c0.1, bi_ok, if_pos rfl, c0.2, bl_ok, if_neg n0, c0.2, bl_ok, if_neg c1]
              exact p2
    · have z2' : ¬ ((G'.getD 0 (0, 0)).1 = 2) := fun q => z2 ((hv.kk (by decide) (by decide)).2 q)
      refine bad ?_ (G'.getD 0 (0, 0)).2 ?_
      · rw [kc_174_81, c0.1, bi_ok, if_neg z2]
      · rw [km_205_71, m1.2, bl_ok, m1.1, bi_ok, if_neg z2']
  by_cases z3 : (G.getD 0 (0, 0)).1 = 3
  · obtain ⟨s, s', s1, s2, e1, e2, se⟩ := hv.st z3
    rw [e1] at c0
    rw [e2] at m1
    obtain ⟨b1, b2, b3⟩ := sE_sz h.2.1.1 se
    have is : lj_in (Int32.ofNat s) 2600 := ofN_in (by omega) (by omega)
    have is' : lj_in (Int32.ofNat s') 3000 := ofN_in (by omega) (by omega)
    have ns : (Int32.ofNat s).toNatClampNeg = s := lz_onat (by omega)
    have ns' : (Int32.ofNat s').toNatClampNeg = s' := lz_onat (by omega)
    obtain ⟨τm, pm1, pm2⟩ := main
    by_cases sz : (cS σ s).length = 1
    · obtain ⟨b, _, y1, y2, y3, y4⟩ := x_byt h.2.1.1 se (i := 0) (by omega)
      obtain ⟨w1, w2⟩ := by_255 y1
      have y2 : lj_R lc_P 37 [.ref 3, .int (Int32.ofNat s), .int 0] σ = _ := y2
      have ad : τ.1 3 s' + Int32.ofNat 0 = τ.1 3 s' := Int32.add_zero _
      rw [ad] at y3 y4
      have t35 : (35 : Int32).toInt = 35 := by decide
      have c11 : σ.1 11 s = 1 := by rw [b1, sz]; rfl
      have c4 : τ.1 4 s' = 1 := by rw [b2, sz]; rfl
      by_cases e35 : b = 35
      · have e35' : b &&& 255 = 35 := lz_ext (by rw [e35] at w2; rw [e35, t35]; rw [t35] at w2; omega)
        obtain ⟨τ2, p1, p2⟩ := bi_one D ry hwk ha h (lf_rf _ _) (lf_rf _ _) (vR_whole σ τ (Int32.ofNat m).toInt64) (by omega) (by omega) hX 15
        refine ⟨τ2, rM ?_, ?_⟩
        · rw [km_205_17, m1.1, bi_ok, if_pos rfl, m1.2, bl_ok]
          simp only [i64_32, if_pos is', ns', c4]
          rw [if_pos trivial, m1.2, bl_ok]
          simp only [i64_32, if_pos is', ns']
          rw [if_pos y3, if_pos (by rw [y4]; exact e35), p1, bv_ok]
        · rw [rC rfl, kc_174_17, c0.1, bi_ok, if_pos rfl, c0.2, bl_ok]
          simp only [i64_32, if_pos is, ns, c11]
          rw [if_pos trivial, c0.2, bl_ok]
          simp only [i64_32]
          rw [y2, bi_ok, if_pos e35']
          exact p2.fin.fin
      · have e35' : ¬ (b &&& 255 = 35) := fun w => by
          have := congrArg Int32.toInt w
          rw [t35] at this
          exact e35 (lz_ext (by rw [t35]; omega))
        refine ⟨τm, rM ?_, ?_⟩
        · rw [km_205_17, m1.1, bi_ok, if_pos rfl, m1.2, bl_ok]
          simp only [i64_32, if_pos is', ns', c4]
          rw [if_pos trivial, m1.2, bl_ok]
          simp only [i64_32, if_pos is', ns']
          rw [if_pos y3, if_neg (by rw [y4]; exact e35)]
          exact pm1
        · rw [rC rfl, kc_174_17, c0.1, bi_ok, if_pos rfl, c0.2, bl_ok]
          simp only [i64_32, if_pos is, ns, c11]
          rw [if_pos trivial, c0.2, bl_ok]
          simp only [i64_32]
          rw [y2, bi_ok, if_neg e35']
          exact pm2.fin
    · have c11 : ¬ (σ.1 11 s = 1) := fun y => by
        rw [b1] at y
        exact sz ((ofN_eq (c := 1) (by omega) (by omega)).1 y)
      have c4 : ¬ (τ.1 4 s' = 1) := fun y => by
        rw [b2] at y
        exact sz ((ofN_eq (c := 1) (by omega) (by omega)).1 y)
      refine ⟨τm, rM ?_, ?_⟩
      · rw [km_205_17, m1.1, bi_ok, if_pos rfl, m1.2, bl_ok]
        simp only [i64_32, if_pos is', ns', if_neg c4]
        exact pm1
      · rw [rC rfl, kc_174_17, c0.1, bi_ok, if_pos rfl, c0.2, bl_ok]
        simp only [i64_32, if_pos is, ns, if_neg c11]
        exact pm2.fin
  · have z3' : ¬ ((G'.getD 0 (0, 0)).1 = 3) := fun q => z3 ((hv.kk (by decide) (by decide)).2 q)
    obtain ⟨τm, pm1, pm2⟩ := main
    refine ⟨τm, rM ?_, ?_⟩
    · rw [km_205_17, m1.1, bi_ok, if_neg z3']
      exact pm1
    · rw [rC rfl, kc_174_17, c0.1, bi_ok, if_neg z3]
      exact pm2.fin
