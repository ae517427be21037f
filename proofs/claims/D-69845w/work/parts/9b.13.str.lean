/-! what is built in: bytes of texts -/
theorem m_dgx (τ : lj_S) (x : Int32) {D : List Int32} (hD : mDr τ D) (hl : D.length + 1 ≤ 4200) : ∃ τ', lj_R lm_P 134 [.ref 0, .int x] τ = some (.inl none, τ') ∧ mDr τ' (D ++ [lz_by x]) ∧ lf mAd τ τ' := by
  have := mDr_dig hD (by omega) x
  exact ⟨_, m_digit τ x hD (by omega), this.1, this.2.1⟩
theorem bi_23 {σ0 τ0 σ τ : lj_S} {n np p : Nat} {r : List Nat} {FP : Nat → List kF} {ρ : Nat → Nat} {A MO LA : List Nat} {M : Nat} (D : DLV σ0 τ0 M) (h : MB σ0 τ0 n np p r FP ρ A MO LA σ τ) (ry : ryR σ τ) (hwk : wkR FP (p :: r) A σ) {as line : Int32} (ht : τ.1 0 129 = 1) (ha : awR σ0 (FP p) as (τ.1 0 130) (τ.1 0 131)) (hln : τ.1 0 132 = line) {G G' : List vT} (hG : gwR σ τ G G') (hGl : G.length ≤ 49) (hM : thM FP (p :: r) MO LA + 5001 ≤ M) {X : Nat} (hX : X ≤ TH) (hT : thM FP (p :: r) MO LA + 5001 ≤ X) : ∃ τ1, lj_R lm_P 187 [.ref 0, .int 23] τ = some (.inl none, τ1) ∧ ocR σ0 τ0 A (fun t => t ≤ X) σ τ1 (lj_R lc_P 159 [.ref 8, .int 23, .int as, .int line] σ) := by
  have c0 := hG.c0 hGl
  have c1 := hG.c1 hGl
  have m1 := hG.m1 hGl
  have m2 := hG.m2 hGl
  have hv := hG.v 0
  have hw := hG.v 1
  have px := h.px hwk
  have rC : ∀ {x : Option lj_O}, lj_bi (lj_R lc_P 163 [.ref 8, .int 0] σ) (fun y19 σ18 => (if y19 = 3 then lj_D lc_P lc_M187 263 [.ref 8, .int 23, .int as, .int line, .retAddr 0, .retAddr 0, .retAddr 0, .retAddr 0, .retAddr 0, .retAddr 0] [.int 1, .ref 8] σ18 else lj_D lc_P lc_M187 263 [.ref 8, .int 23, .int as, .int line, .retAddr 0, .retAddr 0, .retAddr 0, .retAddr 0, .retAddr 0, .retAddr 0] [.int 0, .ref 8] σ18)) lj_up = x → lj_R lc_P 159 [.ref 8, .int 23, .int as, .int line] σ = finC x := fun e => by
    rw [cb_more (by decide) (by decide), rc_187, kc_187_0, if_neg (by decide), if_neg (by decide), if_neg (by decide), if_neg (by decide), if_neg (by decide), if_neg (by decide), if_pos rfl, e]
  have rM : ∀ {τx : lj_S}, lj_R lm_P 228 [.ref 0] τ = some (.inl none, τx) → lj_R lm_P 187 [.ref 0, .int 23] τ = some (.inl none, τx) := fun e => mb_more (by decide) (by rw [rm_221, km_221_0, if_neg (by decide), if_neg (by decide), if_neg (by decide), if_neg (by decide), if_neg (by decide), if_neg (by decide), if_pos rfl, e, bv_ok, km_221_215])
  by_cases z3 : (G.getD 0 (0, 0)).1 = 3
  · obtain ⟨s, s', s1, s2, e1, e2, se⟩ := hv.st z3
    rw [e1] at c0
    rw [e2] at m1
    obtain ⟨b1, b2, b3⟩ := sE_sz h.2.1.1 se
    have is : lj_in (Int32.ofNat s) 2600 := ofN_in (by omega) (by omega)
    have is' : lj_in (Int32.ofNat s') 3000 := ofN_in (by omega) (by omega)
    have ns : (Int32.ofNat s).toNatClampNeg = s := lz_onat (by omega)
    have ns' : (Int32.ofNat s').toNatClampNeg = s' := lz_onat (by omega)
    have w4 := (m_wants hG (by omega) (i := 0) (by omega) 3 23).1 (by rw [e2])
    have w4 : lj_R lm_P 198 [.ref 0, .int 1, .int 3, .int 23] τ = some (.inl (some (.int 1)), τ) := w4
    have lt : ((Int32.ofNat (cS σ s).length).toInt64).toInt = ((cS σ s).length : Int) := by rw [Int32.toInt_toInt64, lz_lit (by omega)]
    -- which byte is known
    have main : ∀ (v : Int64) (x5 : Int64), ∃ τ1, lj_D lm_P lm_M228 91 [.ref 0, .int (Int32.ofNat s'), .long (Int32.ofNat (cS σ s).length).toInt64, .retAddr 0, .retAddr 0, .retAddr 0] [.long v] τ = some (.inl none, τ1) ∧ ocR σ0 τ0 A (fun t => t ≤ X) σ τ1 (lj_D lc_P lc_M187 356 [.ref 8, .int 23, .int as, .int line, .int (Int32.ofNat s), .long x5, .retAddr 0, .retAddr 0, .retAddr 0, .retAddr 0] [.long v] σ) := fun v x5 => by
      have lC : lf szC σ (lj_put σ 8 41 0) := lf_put (lf_rf _ _) _ _ _ rfl
      have lM : lf szM τ (lj_put (lj_put τ 0 140 0) 0 129 1) := lf_put (lf_put (lf_rf _ _) _ _ _ rfl) _ _ _ rfl
      have lb1 : lf bfC σ (lj_put σ 8 41 0) := lf_put (lf_rf _ _) _ _ _ rfl
      have lb2 : lf bfM τ (lj_put (lj_put τ 0 140 0) 0 129 1) := lf_put (lf_put (lf_rf _ _) _ _ _ rfl) _ _ _ rfl
      have hC := h.sc lC lM
      have rm0 : rsM (lj_put (lj_put τ 0 140 0) 0 129 1) [] := ⟨by unfold lv; rw [lj_put_1, if_neg (by omega), lj_put_1, if_pos ⟨rfl, rfl⟩]; rfl, fun j hj => absurd hj (by simp)⟩
      have g192 : lj_R lm_P 192 [.ref 0] τ = some (.inl none, lj_put (lj_put τ 0 140 0) 0 129 1) := by rw [rm_192, km_192_0]
      have i1 : (1 : Int64).toInt = 1 := by decide
      by_cases inn : 1 ≤ v.toInt ∧ v.toInt ≤ ((cS σ s).length : Int)
      · obtain ⟨k, hk⟩ : ∃ k : Nat, ((k + 1 : Nat) : Int) = v.toInt := ⟨v.toInt.toNat - 1, by omega⟩
        have vk : v = i64 (k + 1) := lg_ext (by rw [i64_int (by omega)]; exact hk.symm)
        have se' : sE (lj_put σ 8 41 0) (lj_put (lj_put τ 0 140 0) 0 129 1) s s' := se.up (sG_eq (fun k j q => by rw [lj_put_1, if_neg (by unfold vqC at q; simp at q; omega)]) (fun k j q => by rw [lj_put_1, if_neg (by unfold vqM at q; simp at q; omega), lj_put_1, if_neg (by unfold vqM at q; simp at q; omega)]))
        have cs' : cS (lj_put σ 8 41 0) s = cS σ s := (sG_eq (σ := σ) (τ := τ) (σ' := lj_put σ 8 41 0) (τ' := τ) (fun k j q => by rw [lj_put_1, if_neg (by unfold vqC at q; simp at q; omega)]) (fun _ _ _ => rfl)).2.2.1 s se.1
        obtain ⟨b, _, y1, y2, y3, y4⟩ := x_byt hC.2.1.1 se' (i := k) (by rw [cs']; omega)
        obtain ⟨σ2, τ2, p1, p2, p3, p4, p5, p6, p7⟩ := x_gv (x_rs0 σ) rm0 ⟨rfl, by simp, fun j => vR_nil _ _⟩ (by simp) (vR_whole (lj_put σ 8 41 0) (lj_put (lj_put τ 0 140 0) 0 129 1) (b &&& 255).toInt64)
        have dl := bi_dl D ry hwk ha (hC.sc (rtC_z p6) (rtM_z p7)) (lb1.tr (rtC_b p6)) (lb2.tr (rtM_b p7)) (by rw [(p7 0 129 rfl).1]; exact (by simp [lj_put_1, lj_putL_1])) p3 p4 p5 (by simp; omega) (by omega) (by omega) hX
        have n1 : ¬ (lg_cmp v 1 < 0) := fun y => by
          have := Int64.lt_iff_toInt_lt.1 ((lg_lt _ _).1 y)
          rw [i1] at this
          omega
        have n2 : ¬ (0 < lg_cmp v (Int32.ofNat (cS σ s).length).toInt64) := fun y => Int32.not_le.2 y ((lg_le _ _).2 (Int64.le_iff_toInt_le.2 (by rw [lt]; exact inn.2)))
        have ad : (lj_put (lj_put τ 0 140 0) 0 129 1).1 3 s' + (v : Int64).toInt32 - 1 = (lj_put (lj_put τ 0 140 0) 0 129 1).1 3 s' + Int32.ofNat k := by
          rw [vk, i64_32, ← lz_osucc k, ← Int32.add_assoc, Int32.add_sub_cancel]
        refine ⟨τ2, ?_, ?_⟩
        · rw [km_228_91, g192, bv_ok, if_neg n1, if_neg n2, if_pos is', ns', ad, if_pos y3, y4, p2, bv_ok, km_228_138]
        · have q : (if (1 : Int64).toInt ≤ v.toInt ∧ v.toInt ≤ ((Int32.ofNat (cS σ s).length).toInt64).toInt then (1 : Int32) else 0) = 1 := by rw [i1, lt, if_pos inn]
          have vm : (v : Int64).toInt32 - 1 = Int32.ofNat k := by rw [vk, i64_32, lz_pred']
          rw [kc_187_356, if_pos is, ns, b1, c_isIn, bi_ok, q, if_neg (by decide), vm, y2, bi_ok, p1, bv_ok, kc_187_409]
          simp only [kc_187_919]
          exact dl.fin
      · have dl := bi_dl D ry hwk ha hC lb1 lb2 (by simp [lj_put_1, lj_putL_1]) (x_rs0 σ) rm0 ⟨rfl, by simp, fun j => vR_nil _ _⟩ (by simp; omega) (by omega) (by omega) hX
        refine ⟨lj_put (lj_put τ 0 140 0) 0 129 1, ?_, ?_⟩
        · rw [km_228_91, g192, bv_ok]
          by_cases y1 : lg_cmp v 1 < 0
          · rw [if_pos y1, km_228_138]
          · have y2 : 0 < lg_cmp v (Int32.ofNat (cS σ s).length).toInt64 := Int32.not_le.1 (fun y => by
              have a1 := Int64.le_iff_toInt_le.1 ((lg_le _ _).1 y)
              rw [lt] at a1
              have a2 : ¬ (v.toInt < 1) := fun q => y1 ((lg_lt _ _).2 (Int64.lt_iff_toInt_lt.2 (by rw [i1]; exact q)))
              omega)
            rw [if_neg y1, if_pos y2, km_228_138]
        · have q : (if (1 : Int64).toInt ≤ v.toInt ∧ v.toInt ≤ ((Int32.ofNat (cS σ s).length).toInt64).toInt then (1 : Int32) else 0) = 0 := by rw [i1, lt, if_neg inn]
          rw [kc_187_356, if_pos is, ns, b1, c_isIn, bi_ok, q, if_pos rfl, kc_187_409]
          simp only [kc_187_919]
          exact dl.fin
    by_cases w0 : (G.getD 1 (0, 0)).1 = 0
    · have w0' : (G'.getD 1 (0, 0)).1 = 0 := hw.k0.1 w0
      obtain ⟨τ1, p1, p2⟩ := main 1 1
      refine ⟨τ1, rM ?_, ?_⟩
      · rw [rm_228, km_228_0, w4, bi_ok, if_neg (by decide), m2.1, bi_ok, if_pos w0', km_228_37, m1.2, bl_ok]
        simp only [i64_32, if_pos is', ns', b2]
        rw [m2.1, bi_ok, if_pos w0']
        exact p1
      · rw [rC rfl, c0.1, bi_ok, if_pos rfl, kc_187_263, nd_ok _ (by decide), bv_ok, c1.1, bi_ok, if_pos w0, kc_187_287, kc_187_292, nd_ok _ (by decide), bv_ok, c0.2, bl_ok, c1.1, bi_ok, if_pos w0, kc_187_323, if_pos (by decide)]
        simp only [i64_32]
        exact p2.fin
    · have w0' : ¬ ((G'.getD 1 (0, 0)).1 = 0) := fun q => w0 (hw.k0.2 q)
      by_cases w2 : (G.getD 1 (0, 0)).1 = 2
      · have e := hw.wh w2
        obtain ⟨v, hv2⟩ : ∃ v, v = (G.getD 1 (0, 0)).2 := ⟨_, rfl⟩
        have ea : G.getD 1 (0, 0) = (2, v) := Prod.ext w2 hv2.symm
        rw [ea] at e c1
        rw [e] at m2
        by_cases pos : 0 ≤ lg_cmp v 0
        · obtain ⟨τ1, p1, p2⟩ := main v v
          refine ⟨τ1, rM ?_, ?_⟩
          · rw [rm_228, km_228_0, w4, bi_ok, if_neg (by decide), m2.1, bi_ok, if_neg (by dsimp only; decide), m2.1, bi_ok, if_pos rfl, km_228_37, m1.2, bl_ok]
            simp only [i64_32, if_pos is', ns', b2]
            rw [m2.1, bi_ok, if_neg (by dsimp only; decide), m2.2, bl_ok, if_pos pos, m2.2, bl_ok]
            exact p1
          · rw [rC rfl, c0.1, bi_ok, if_pos rfl, kc_187_263, nd_ok _ (by decide), bv_ok, c1.1, bi_ok, if_neg (by dsimp only; decide), c1.1, bi_ok, if_pos rfl, kc_187_287, kc_187_292, nd_ok _ (by decide), bv_ok, c0.2, bl_ok, c1.1, bi_ok, if_neg (by dsimp only; decide), c1.2, bl_ok, kc_187_323, if_pos pos]
            simp only [i64_32]
            exact p2.fin
        · obtain ⟨τ1, p1, p2⟩ := main (v + (Int32.ofNat (cS σ s).length).toInt64 + 1) v
          refine ⟨τ1, rM ?_, ?_⟩
          · rw [rm_228, km_228_0, w4, bi_ok, if_neg (by decide), m2.1, bi_ok, if_neg (by dsimp only; decide), m2.1, bi_ok, if_pos rfl, km_228_37, m1.2, bl_ok]
            simp only [i64_32, if_pos is', ns', b2]
            rw [m2.1, bi_ok, if_neg (by dsimp only; decide), m2.2, bl_ok, if_neg pos, m2.2, bl_ok, Int64.add_comm (Int32.ofNat (cS σ s).length).toInt64 v]
            exact p1
          · rw [rC rfl, c0.1, bi_ok, if_pos rfl, kc_187_263, nd_ok _ (by decide), bv_ok, c1.1, bi_ok, if_neg (by dsimp only; decide), c1.1, bi_ok, if_pos rfl, kc_187_287, kc_187_292, nd_ok _ (by decide), bv_ok, c0.2, bl_ok, c1.1, bi_ok, if_neg (by dsimp only; decide), c1.2, bl_ok, kc_187_323, if_neg pos]
            simp only [i64_32, if_pos is, ns, b1]
            exact p2.fin
      · have w2' : ¬ ((G'.getD 1 (0, 0)).1 = 2) := fun q => w2 ((hw.kk (by decide) (by decide)).2 q)
        obtain ⟨σ', τ', q1, q2, q3⟩ := nd_bad h.2.1 hln 2 (w := 23) (by decide)
        have q1 : lj_R lc_P 168 [.ref 8, .int 0, .int 2, .int 23, .int line] σ = some (.inr 2, σ') := q1
        have q2 : lj_R lm_P 199 [.ref 0, .int 2, .int 23] τ = some (.inl none, τ') := q2
        refine ⟨τ', rM ?_, ?_⟩
        · rw [rm_228, km_228_0, w4, bi_ok, if_neg (by decide), m2.1, bi_ok, if_neg w0', m2.1, bi_ok, if_neg w2', q2, bv_ok]
        · rw [rC rfl, c0.1, bi_ok, if_pos rfl, kc_187_263, nd_ok _ (by decide), bv_ok, c1.1, bi_ok, if_neg w0, c1.1, bi_ok, if_neg w2, kc_187_292, q1, bv_th]
          exact (bt_er ry hwk h (lf_rf _ _) (lf_rf _ _) q3 (by omega)).fin
  · have z3' : ¬ ((G'.getD 0 (0, 0)).1 = 3) := fun q => z3 ((hv.kk (by decide) (by decide)).2 q)
    obtain ⟨σ', τ', q1, q2, q3⟩ := nd_bad h.2.1 hln 1 (w := 23) (by decide)
    have q1 : lj_R lc_P 168 [.ref 8, .int 0, .int 1, .int 23, .int line] σ = some (.inr 2, σ') := q1
    have w4 := (m_wants hG (by omega) (i := 0) (by omega) 3 23).2 z3' τ' q2
    have w4 : lj_R lm_P 198 [.ref 0, .int 1, .int 3, .int 23] τ = some (.inl (some (.int 0)), τ') := w4
    refine ⟨τ', rM ?_, ?_⟩
    · rw [rm_228, km_228_0, w4, bi_ok, if_pos rfl]
    · rw [rC rfl, c0.1, bi_ok, if_neg z3, kc_187_263, q1, bv_th]
      exact (bt_er ry hwk h (lf_rf _ _) (lf_rf _ _) q3 (by omega)).fin
/-- both look whether all that is given are bytes -/
theorem ch_chk {σ τ : lj_S} {G G' : List vT} (hs : sM σ τ) (hG : gwR σ τ G G') (hGl : G.length ≤ 49) {line : Int32} (hln : τ.1 0 132 = line) (as : Int32) : ∀ (d k : Nat), k + d = G.length → (∃ σ' τ', raR σ τ σ' τ' ∧ lj_D lc_P lc_M187 420 [.ref 8, .int 24, .int as, .int line, .int (Int32.ofNat k), .retAddr 0, .retAddr 0, .retAddr 0, .retAddr 0, .retAddr 0] [] σ = some (.inr 2, σ') ∧ lj_D lm_P lm_M229 2 [.ref 0, .int (Int32.ofNat (k + 1))] [] τ = some (.inl none, τ')) ∨ ((∀ j, k ≤ j → j < G.length → ∃ v, G.getD j (0, 0) = (2, v) ∧ G'.getD j (0, 0) = (2, v)) ∧ lj_D lc_P lc_M187 420 [.ref 8, .int 24, .int as, .int line, .int (Int32.ofNat k), .retAddr 0, .retAddr 0, .retAddr 0, .retAddr 0, .retAddr 0] [] σ = lj_D lc_P lc_M187 489 [.ref 8, .int 24, .int as, .int line, .int 0, .retAddr 0, .retAddr 0, .retAddr 0, .retAddr 0, .retAddr 0] [] (lj_put σ 3 6 0) ∧ lj_D lm_P lm_M229 2 [.ref 0, .int (Int32.ofNat (k + 1))] [] τ = lj_D lm_P lm_M229 62 [.ref 0, .int 1] [] (lj_put τ 0 20 0))
  | 0, k, hd => by
    have e38 : σ.1 8 38 = Int32.ofNat G.length := lz_ext (by rw [lz_lit (by omega)]; exact hG.1.1)
    have e137 : τ.1 0 137 = Int32.ofNat G.length := lz_ext (by rw [lz_lit (by omega), hG.2.2.1]; exact hG.2.1.1)
    refine Or.inr ⟨fun j j1 j2 => by omega, ?_, ?_⟩
    · rw [kc_187_420, e38, if_pos ((ofN_le (by omega) (by omega)).2 (by omega)), (c_bgn σ).1, bv_ok]
    · rw [km_229_2, e137, if_pos (by rw [lz_lt, lz_lit (by omega), lz_lit (by omega)]; omega)]
  | d + 1, k, hd => by
    have e38 : σ.1 8 38 = Int32.ofNat G.length := lz_ext (by rw [lz_lit (by omega)]; exact hG.1.1)
    have e137 : τ.1 0 137 = Int32.ofNat G.length := lz_ext (by rw [lz_lit (by omega), hG.2.2.1]; exact hG.2.1.1)
    have l1 : ¬ (Int32.ofNat G.length ≤ Int32.ofNat k) := fun z => by have := (ofN_le (by omega) (by omega)).1 z; omega
    have l2 : ¬ (Int32.ofNat G.length < Int32.ofNat (k + 1)) := by rw [lz_lt, lz_lit (by omega), lz_lit (by omega)]; omega
    obtain ⟨ck, cvv⟩ := hG.c (by omega) (i := k) (by omega)
    obtain ⟨mk, mv⟩ := hG.m (by omega) (i := k) (by omega)
    have hv := hG.v k
    have bad : lj_D lc_P lc_M187 420 [.ref 8, .int 24, .int as, .int line, .int (Int32.ofNat k), .retAddr 0, .retAddr 0, .retAddr 0, .retAddr 0, .retAddr 0] [] σ = lj_D lc_P lc_M187 460 [.ref 8, .int 24, .int as, .int line, .int (Int32.ofNat k), .retAddr 0, .retAddr 0, .retAddr 0, .retAddr 0, .retAddr 0] [.ref 8] σ → lj_D lm_P lm_M229 2 [.ref 0, .int (Int32.ofNat (k + 1))] [] τ = lj_D lm_P lm_M229 41 [.ref 0, .int (Int32.ofNat (k + 1))] [] τ → ∃ σ' τ', raR σ τ σ' τ' ∧ lj_D lc_P lc_M187 420 [.ref 8, .int 24, .int as, .int line, .int (Int32.ofNat k), .retAddr 0, .retAddr 0, .retAddr 0, .retAddr 0, .retAddr 0] [] σ = some (.inr 2, σ') ∧ lj_D lm_P lm_M229 2 [.ref 0, .int (Int32.ofNat (k + 1))] [] τ = some (.inl none, τ') := fun r1 r2 => by
      obtain ⟨σ', τ', q1, q2, q3⟩ := nd_bad hs hln (Int32.ofNat (k + 1)) (w := 24) (by decide)
      have q1 : lj_R lc_P 168 [.ref 8, .int 0, .int (Int32.ofNat (k + 1)), .int 24, .int line] σ = some (.inr 2, σ') := q1
      have q2 : lj_R lm_P 199 [.ref 0, .int (Int32.ofNat (k + 1)), .int 24] τ = some (.inl none, τ') := q2
      exact ⟨σ', τ', q3, by rw [r1, kc_187_460, kc_187_461, lz_osucc, q1, bv_th], by rw [r2, km_229_41, q2, bv_ok]⟩
    by_cases z2 : (G.getD k (0, 0)).1 = 2
    · have e := hv.wh z2
      obtain ⟨v, hv2⟩ : ∃ v, v = (G.getD k (0, 0)).2 := ⟨_, rfl⟩
      have ea : G.getD k (0, 0) = (2, v) := Prod.ext z2 hv2.symm
      rw [ea] at e ck cvv
      rw [e] at mk mv
      have t0 : (0 : Int64).toInt = 0 := by decide
      have t255 : (255 : Int64).toInt = 255 := by decide
      by_cases inn : 0 ≤ v.toInt ∧ v.toInt ≤ 255
      · have q : (if (0 : Int64).toInt ≤ v.toInt ∧ v.toInt ≤ (255 : Int64).toInt then (1 : Int32) else 0) = 1 := by rw [t0, t255, if_pos inn]
        have s1 : lj_D lc_P lc_M187 420 [.ref 8, .int 24, .int as, .int line, .int (Int32.ofNat k), .retAddr 0, .retAddr 0, .retAddr 0, .retAddr 0, .retAddr 0] [] σ = lj_D lc_P lc_M187 420 [.ref 8, .int 24, .int as, .int line, .int (Int32.ofNat (k + 1)), .retAddr 0, .retAddr 0, .retAddr 0, .retAddr 0, .retAddr 0] [] σ := by
          rw [kc_187_420, e38, if_neg l1, ck, bi_ok, if_pos rfl, cvv, bl_ok, c_isIn, bi_ok, q, if_neg (by decide), kc_187_461, nd_ok _ (by decide), bv_ok, lz_osucc]
        have s2 : lj_D lm_P lm_M229 2 [.ref 0, .int (Int32.ofNat (k + 1))] [] τ = lj_D lm_P lm_M229 2 [.ref 0, .int (Int32.ofNat (k + 1 + 1))] [] τ := by
          rw [km_229_2, e137, if_neg l2, mk, bi_ok, if_pos rfl, mv, bl_ok, if_neg (fun y => by
            have : v.toInt < (0 : Int64).toInt := Int64.lt_iff_toInt_lt.1 ((lg_lt _ _).1 y)
            rw [t0] at this
            omega), mv, bl_ok, if_pos ((lg_le _ _).2 (Int64.le_iff_toInt_le.2 (by rw [t255]; exact inn.2))), lz_osucc]
        rcases ch_chk hs hG hGl hln as d (k + 1) (by omega) with ⟨σ', τ', q1, q2, q3⟩ | ⟨q1, q2, q3⟩
        · exact Or.inl ⟨σ', τ', q1, s1.trans q2, s2.trans q3⟩
        · refine Or.inr ⟨fun j j1 j2 => ?_, s1.trans q2, s2.trans q3⟩
          by_cases y : j = k
          · rw [y]; exact ⟨v, ea, e⟩
          · exact q1 j (by omega) j2
      · refine Or.inl (bad ?_ ?_)
        · have q : (if (0 : Int64).toInt ≤ v.toInt ∧ v.toInt ≤ (255 : Int64).toInt then (1 : Int32) else 0) = 0 := by rw [t0, t255, if_neg inn]
          rw [kc_187_420, e38, if_neg l1, ck, bi_ok, if_pos rfl, cvv, bl_ok, c_isIn, bi_ok, q, if_pos rfl]
        · rw [km_229_2, e137, if_neg l2, mk, bi_ok, if_pos rfl, mv, bl_ok]
          by_cases y1 : lg_cmp v 0 < 0
          · rw [if_pos y1]
          · have a2 : ¬ (v.toInt < 0) := fun q => y1 ((lg_lt _ _).2 (Int64.lt_iff_toInt_lt.2 (by rw [t0]; exact q)))
            rw [if_neg y1, mv, bl_ok, if_neg (fun y => by
              have : v.toInt ≤ (255 : Int64).toInt := Int64.le_iff_toInt_le.1 ((lg_le _ _).1 y)
              rw [t255] at this
              omega)]
    · have z2' : ¬ ((G'.getD k (0, 0)).1 = 2) := fun q => z2 ((hv.kk (by decide) (by decide)).2 q)
      refine Or.inl (bad ?_ ?_)
      · rw [kc_187_420, e38, if_neg l1, ck, bi_ok, if_neg z2]
      · rw [km_229_2, e137, if_neg l2, mk, bi_ok, if_neg z2']
/-- both draft bytes -/
theorem ch_add {G G' : List vT} (hGl : G.length ≤ 49) (hh : ∀ j, j < G.length → ∃ v, G.getD j (0, 0) = (2, v) ∧ G'.getD j (0, 0) = (2, v)) (as line : Int32) : ∀ (d k : Nat) (σ τ : lj_S) (T : List Int32), k + d = G.length → gwR σ τ G G' → cDr σ T → mDr τ T → T.length = k → ∃ σ' τ' T', lj_D lc_P lc_M187 489 [.ref 8, .int 24, .int as, .int line, .int (Int32.ofNat k), .retAddr 0, .retAddr 0, .retAddr 0, .retAddr 0, .retAddr 0] [] σ = lj_bi (lj_R lc_P 136 [.ref 8] σ') (fun y s => finC (lj_R lc_P 164 [.ref 8, .int 24, .int 3, .long y.toInt64, .int as] s)) lj_up ∧ lj_D lm_P lm_M229 62 [.ref 0, .int (Int32.ofNat (k + 1))] [] τ = lj_bv (lj_R lm_P 194 [.ref 0] τ') (fun s => some (.inl none, s)) lj_up ∧ cDr σ' T' ∧ mDr τ' T' ∧ T'.length = G.length ∧ lf cAd σ σ' ∧ lf mAd τ τ'
  | 0, k, σ, τ, T, hd, hG, hC, hD, hT => by
    have e38 : σ.1 8 38 = Int32.ofNat G.length := lz_ext (by rw [lz_lit (by omega)]; exact hG.1.1)
    have e137 : τ.1 0 137 = Int32.ofNat G.length := lz_ext (by rw [lz_lit (by omega), hG.2.2.1]; exact hG.2.1.1)
    refine ⟨σ, τ, T, ?_, ?_, hC, hD, by omega, lf_rf _ _, lf_rf _ _⟩
    · rw [kc_187_489, e38, if_pos ((ofN_le (by omega) (by omega)).2 (by omega))]
      simp only [kc_187_919]
      rfl
    · rw [km_229_62, e137, if_pos (by rw [lz_lt, lz_lit (by omega), lz_lit (by omega)]; omega)]
  | d + 1, k, σ, τ, T, hd, hG, hC, hD, hT => by
    have e38 : σ.1 8 38 = Int32.ofNat G.length := lz_ext (by rw [lz_lit (by omega)]; exact hG.1.1)
    have e137 : τ.1 0 137 = Int32.ofNat G.length := lz_ext (by rw [lz_lit (by omega), hG.2.2.1]; exact hG.2.1.1)
    have l1 : ¬ (Int32.ofNat G.length ≤ Int32.ofNat k) := fun z => by have := (ofN_le (by omega) (by omega)).1 z; omega
    have l2 : ¬ (Int32.ofNat G.length < Int32.ofNat (k + 1)) := by rw [lz_lt, lz_lit (by omega), lz_lit (by omega)]; omega
    obtain ⟨_, cvv⟩ := hG.c (by omega) (i := k) (by omega)
    obtain ⟨_, mv⟩ := hG.m (by omega) (i := k) (by omega)
    obtain ⟨v, e1, e2⟩ := hh k (by omega)
    rw [e1] at cvv
    rw [e2] at mv
    obtain ⟨σ1, a1, a2, a3⟩ := c_add σ (v.toInt32) hC (by omega)
    obtain ⟨τ1, b1, b2, b3⟩ := m_dgx τ (v.toInt32) hD (by omega)
    obtain ⟨σ', τ', T', q1, q2, q3, q4, q5, q6, q7⟩ := ch_add hGl hh as line d (k + 1) σ1 τ1 _ (by omega) (hG.ad a3 b3) a2 b2 (by simp; omega)
    refine ⟨σ', τ', T', ?_, ?_, q3, q4, q5, a3.tr q6, b3.tr q7⟩
    · rw [kc_187_489, e38, if_neg l1, cvv, bl_ok, a1, bv_ok, lz_osucc]
      exact q1
    · rw [km_229_62, e137, if_neg l2, mv, bl_ok, b1, bv_ok, lz_osucc]
      exact q2
theorem bi_24 {σ0 τ0 σ τ : lj_S} {n np p : Nat} {r : List Nat} {FP : Nat → List kF} {ρ : Nat → Nat} {A MO LA : List Nat} {M : Nat} (D : DLV σ0 τ0 M) (h : MB σ0 τ0 n np p r FP ρ A MO LA σ τ) (ry : ryR σ τ) (hwk : wkR FP (p :: r) A σ) {as line : Int32} (ht : τ.1 0 129 = 1) (ha : awR σ0 (FP p) as (τ.1 0 130) (τ.1 0 131)) (hln : τ.1 0 132 = line) {G G' : List vT} (hG : gwR σ τ G G') (hGl : G.length ≤ 49) (hM : thM FP (p :: r) MO LA + 5001 ≤ M) {X : Nat} (hX : X ≤ TH) (hT : thM FP (p :: r) MO LA + 5001 ≤ X) : ∃ τ1, lj_R lm_P 187 [.ref 0, .int 24] τ = some (.inl none, τ1) ∧ ocR σ0 τ0 A (fun t => t ≤ X) σ τ1 (lj_R lc_P 159 [.ref 8, .int 24, .int as, .int line] σ) := by
  have rC : ∀ {x : Option lj_O}, lj_D lc_P lc_M187 420 [.ref 8, .int 24, .int as, .int line, .int 0, .retAddr 0, .retAddr 0, .retAddr 0, .retAddr 0, .retAddr 0] [] σ = x → lj_R lc_P 159 [.ref 8, .int 24, .int as, .int line] σ = finC x := fun e => by
    rw [cb_more (by decide) (by decide), rc_187, kc_187_0, if_neg (by decide), if_neg (by decide), if_neg (by decide), if_neg (by decide), if_neg (by decide), if_neg (by decide), if_neg (by decide), if_pos rfl, e]
  have rM : ∀ {τx : lj_S}, lj_D lm_P lm_M229 2 [.ref 0, .int 1] [] τ = some (.inl none, τx) → lj_R lm_P 187 [.ref 0, .int 24] τ = some (.inl none, τx) := fun e => mb_more (by decide) (by rw [rm_221, km_221_0, if_neg (by decide), if_neg (by decide), if_neg (by decide), if_neg (by decide), if_neg (by decide), if_neg (by decide), if_neg (by decide), if_pos rfl, rm_229, km_229_0, e, bv_ok, km_221_215])
  rcases ch_chk h.2.1 hG hGl hln as G.length 0 (by omega) with ⟨σ', τ', q1, q2, q3⟩ | ⟨q1, q2, q3⟩
  · refine ⟨τ', rM q3, ?_⟩
    rw [rC q2]
    exact (bt_er ry hwk h (lf_rf _ _) (lf_rf _ _) q1 (by omega)).fin
  · obtain ⟨b1, b2, b3⟩ := c_bgn σ
    obtain ⟨d2, d3⟩ := m_bgn τ
    obtain ⟨σ', τ', T', r1, r2, r3, r4, r5, r6, r7⟩ := ch_add hGl (fun j hj => q1 j (by omega) hj) as line G.length 0 (lj_put σ 3 6 0) (lj_put τ 0 20 0) [] (by omega) (hG.ad b3 d3) b2 d2 rfl
    obtain ⟨τ2, p1, p2⟩ := bi_mk D ry hwk ha (h.sc (cAd_z (b3.tr r6)) (mAd_z (d3.tr r7))) (cAd_b (b3.tr r6)) (mAd_b (d3.tr r7)) r3 r4 (by omega) (by omega) (by omega) hX 24
    have r1 : lj_D lc_P lc_M187 489 [.ref 8, .int 24, .int as, .int line, .int 0, .retAddr 0, .retAddr 0, .retAddr 0, .retAddr 0, .retAddr 0] [] (lj_put σ 3 6 0) = _ := r1
    have r2 : lj_D lm_P lm_M229 62 [.ref 0, .int 1] [] (lj_put τ 0 20 0) = _ := r2
    refine ⟨τ2, rM ?_, ?_⟩
    · have q3 : lj_D lm_P lm_M229 2 [.ref 0, .int 1] [] τ = _ := q3
      rw [q3, r2]
      exact bvF p1
    · rw [rC (q2.trans r1)]
      exact p2.fin
