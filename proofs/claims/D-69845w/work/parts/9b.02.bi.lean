/-! what is built in: lengths, pairs, each -/
theorem sE_sz {σ τ : lj_S} {X : List Int32 → Prop} (hs : sR σ τ X) {s s' : Nat} (e : sE σ τ s s') : σ.1 11 s = Int32.ofNat (cS σ s).length ∧ τ.1 4 s' = Int32.ofNat (cS σ s).length ∧ (cS σ s).length ≤ 40000 := by
  have h1 := hs.1.2.2.1 s e.1
  have h2 := hs.1.2.1
  have h3 := hs.2.1.2.2.1 s' e.2.1
  have h4 := hs.2.1.2.1
  have l1 := cS_len σ s
  have l2 := mS_len τ s'
  rw [← e.2.2] at l2
  refine ⟨lz_ext ?_, lz_ext ?_, by omega⟩
  · rw [lz_lit (by omega)]
    show lv σ 11 s = _
    omega
  · rw [lz_lit (by omega)]
    show lv τ 4 s' = _
    omega
theorem bi_10 {σ0 τ0 σ τ : lj_S} {n np p : Nat} {r : List Nat} {FP : Nat → List kF} {ρ : Nat → Nat} {A MO LA : List Nat} {M : Nat} (D : DLV σ0 τ0 M) (h : MB σ0 τ0 n np p r FP ρ A MO LA σ τ) (ry : ryR σ τ) (hwk : wkR FP (p :: r) A σ) {as line : Int32} (ht : τ.1 0 129 = 1) (ha : awR σ0 (FP p) as (τ.1 0 130) (τ.1 0 131)) (hln : τ.1 0 132 = line) {G G' : List vT} (hG : gwR σ τ G G') (hGl : G.length ≤ 49) (hM : thM FP (p :: r) MO LA + 5001 ≤ M) {X : Nat} (hX : X ≤ TH) (hT : thM FP (p :: r) MO LA + 5001 ≤ X) : ∃ τ1, lj_R lm_P 187 [.ref 0, .int 10] τ = some (.inl none, τ1) ∧ ocR σ0 τ0 A (fun t => t ≤ X) σ τ1 (lj_R lc_P 159 [.ref 8, .int 10, .int as, .int line] σ) := by
  have c0 := hG.c0 hGl
  have m1 := hG.m1 hGl
  have hv := hG.v 0
  by_cases z : (G.getD 0 (0, 0)).1 = 4
  · obtain ⟨o, e1, e2, ob⟩ := hv.tb z
    have on : o ≤ n := by have := ob.2.2.1; have := h.2.2.2.1.2.1; omega
    obtain ⟨m, hm, a1, a2⟩ := cm_len h.2.1.1 h.2.2.2.1 on
    rw [tm_p ob.1] at a2
    have w4 := (m_wants hG (by omega) (i := 0) (by omega) 4 10).1 (by rw [e2])
    have w4 : lj_R lm_P 198 [.ref 0, .int 1, .int 4, .int 10] τ = some (.inl (some (.int 1)), τ) := w4
    obtain ⟨τ2, q1, q2⟩ := bi_one D ry hwk ha (h.fd (0, 0) (0, 0)) (lf_fdC σ _) (lf_fdM τ _) (vR_whole _ _ (i64 m)) (by omega) (by omega) hX 10
    rw [e1] at c0
    rw [e2] at m1
    refine ⟨τ2, ?_, ?_⟩
    · rw [rm_187, km_187_0, if_neg (by decide), if_neg (by decide), if_neg (by decide), if_neg (by decide), if_neg (by decide), if_neg (by decide), if_neg (by decide), if_neg (by decide), if_neg (by decide), if_neg (by decide), if_pos rfl, km_187_176, rm_201, km_201_0, if_neg (by decide), if_pos rfl, m1.1, bi_ok, if_neg (by dsimp only; decide), km_201_77, w4, bi_ok, if_neg (by decide), m1.2, bl_ok, if_pos rfl]
      simp only [i64_32]
      rw [a2, bl_ok, q1, bv_ok, km_201_200, bv_ok, km_187_308]
    · rw [rc_159, kc_159_0, if_neg (by decide), if_neg (by decide), if_neg (by decide), if_neg (by decide), if_neg (by decide), if_neg (by decide), if_neg (by decide), if_neg (by decide), if_neg (by decide), if_neg (by decide), if_pos rfl, c0.1, bi_ok, if_pos rfl, kc_159_649, kc_159_654, nd_ok _ (by decide), bv_ok, c0.1, bi_ok, if_pos rfl, c0.2, bl_ok]
      simp only [i64_32]
      rw [a1, bl_ok, kc_159_709]
      simp only [kc_159_901]
      exact q2.fin
  · have z' : ¬ ((G'.getD 0 (0, 0)).1 = 4) := fun y => z ((hv.kk (by decide) (by decide)).2 y)
    by_cases y : (G.getD 0 (0, 0)).1 = 3
    · obtain ⟨s, s', s1, s2, e1, e2, se⟩ := hv.st y
      obtain ⟨b1, b2, b3⟩ := sE_sz h.2.1.1 se
      obtain ⟨τ2, q1, q2⟩ := bi_one D ry hwk ha h (lf_rf _ _) (lf_rf _ _) (vR_whole _ _ (i64 (cS σ s).length)) (by omega) (by omega) hX 10
      rw [e1] at c0
      rw [e2] at m1
      have i1 : lj_in (Int32.ofNat s) 2600 := ofN_in (by omega) (by omega)
      have i2 : lj_in (Int32.ofNat s') 3000 := ofN_in (by omega) (by omega)
      have n1 : (Int32.ofNat s).toNatClampNeg = s := lz_onat (by omega)
      have n2 : (Int32.ofNat s').toNatClampNeg = s' := lz_onat (by omega)
      refine ⟨τ2, ?_, ?_⟩
      · rw [rm_187, km_187_0, if_neg (by decide), if_neg (by decide), if_neg (by decide), if_neg (by decide), if_neg (by decide), if_neg (by decide), if_neg (by decide), if_neg (by decide), if_neg (by decide), if_neg (by decide), if_pos rfl, km_187_176, rm_201, km_201_0, if_neg (by decide), if_pos rfl, m1.1, bi_ok, if_pos rfl, m1.2, bl_ok]
        simp only [i64_32, if_pos i2, n2, b2]
        rw [q1, bv_ok, bv_ok, km_187_308]
      · rw [rc_159, kc_159_0, if_neg (by decide), if_neg (by decide), if_neg (by decide), if_neg (by decide), if_neg (by decide), if_neg (by decide), if_neg (by decide), if_neg (by decide), if_neg (by decide), if_neg (by decide), if_pos rfl, c0.1, bi_ok, if_neg (by dsimp only; decide), c0.1, bi_ok, if_pos rfl, kc_159_649, kc_159_654, nd_ok _ (by decide), bv_ok, c0.1, bi_ok, if_neg (by dsimp only; decide), c0.2, bl_ok]
        simp only [i64_32, if_pos i1, n1, b1]
        rw [kc_159_709]
        simp only [kc_159_901]
        exact q2.fin
    · have y' : ¬ ((G'.getD 0 (0, 0)).1 = 3) := fun x => y ((hv.kk (by decide) (by decide)).2 x)
      obtain ⟨σ', τ', q1, q2, q3⟩ := nd_bad h.2.1 hln 1 (w := 10) (by decide)
      have q1 : lj_R lc_P 168 [.ref 8, .int 0, .int 1, .int 10, .int line] σ = some (.inr 2, σ') := q1
      have q2 : lj_R lm_P 199 [.ref 0, .int 1, .int 10] τ = some (.inl none, τ') := q2
      have w4 := (m_wants hG (by omega) (i := 0) (by omega) 4 10).2 z' τ' q2
      have w4 : lj_R lm_P 198 [.ref 0, .int 1, .int 4, .int 10] τ = some (.inl (some (.int 0)), τ') := w4
      refine ⟨τ', ?_, ?_⟩
      · rw [rm_187, km_187_0, if_neg (by decide), if_neg (by decide), if_neg (by decide), if_neg (by decide), if_neg (by decide), if_neg (by decide), if_neg (by decide), if_neg (by decide), if_neg (by decide), if_neg (by decide), if_pos rfl, km_187_176, rm_201, km_201_0, if_neg (by decide), if_pos rfl, m1.1, bi_ok, if_neg y', km_201_77, w4, bi_ok, if_pos rfl, bv_ok, km_187_308]
      · rw [rc_159, kc_159_0, if_neg (by decide), if_neg (by decide), if_neg (by decide), if_neg (by decide), if_neg (by decide), if_neg (by decide), if_neg (by decide), if_neg (by decide), if_neg (by decide), if_neg (by decide), if_pos rfl, c0.1, bi_ok, if_neg z, c0.1, bi_ok, if_neg y, kc_159_654, q1, bv_th]
        exact bt_er ry hwk h (lf_rf _ _) (lf_rf _ _) q3 (by omega)
theorem getD_ap (R : List vT) (u d : vT) (j : Nat) : (R ++ [u]).getD j d = if j < R.length then R.getD j d else if j = R.length then u else d := by
  rw [List.getD_eq_getElem?_getD]
  by_cases z : j < R.length
  · rw [if_pos z, List.getElem?_append_left z, List.getD_eq_getElem?_getD]
  · rw [if_neg z, List.getElem?_append_right (by omega)]
    by_cases y : j = R.length
    · rw [if_pos y, y, Nat.sub_self]
      rfl
    · rw [if_neg y, List.getElem?_eq_none (by simp; omega)]
      rfl
theorem rwE.ap {σ τ : lj_S} {R R' : List vT} (h : rwE σ τ R R') (hl : R.length < 110) {u w : vT} (huw : vR σ τ u w) : rwE σ τ (R ++ [u]) (R' ++ [w]) := by
  refine ⟨by simp [h.1], by simp; omega, fun j => ?_⟩
  rw [getD_ap, getD_ap, ← h.1]
  by_cases z : j < R.length
  · rw [if_pos z, if_pos z]; exact h.2.2 j
  · rw [if_neg z, if_neg z]
    by_cases y : j = R.length
    · rw [if_pos y, if_pos y]; exact huw
    · rw [if_neg y, if_neg y]; exact vR_nil _ _
/-- one more result of both -/
theorem x_gv {σ τ : lj_S} {R R' : List vT} (rs : rsC σ R) (rm : rsM τ R') (h : rwE σ τ R R') (hl : R.length < 110) {u w : vT} (huw : vR σ τ u w) : ∃ σ' τ', lj_R lc_P 143 [.ref 8, .int u.1, .long u.2] σ = some (.inl none, σ') ∧ lj_R lm_P 184 [.ref 0, .int w.1, .long w.2] τ = some (.inl none, τ') ∧ rsC σ' (R ++ [u]) ∧ rsM τ' (R' ++ [w]) ∧ rwE σ' τ' (R ++ [u]) (R' ++ [w]) ∧ lf rtC σ σ' ∧ lf rtM τ τ' := by
  obtain ⟨σ', a1, a2, a3⟩ := c_gives rs (by omega) u
  obtain ⟨τ', b1, b2, b3⟩ := m_also rm (by have := h.1; omega) w
  have w := h.ap hl huw
  exact ⟨σ', τ', a1, b1, a2, b2, ⟨w.1, w.2.1, fun j => (w.2.2 j).cg (fun k j q => (a3 k j (by unfold vqC at q; unfold rtC; simp at q ⊢; omega)).1) (fun k j q => (b3 k j (by unfold vqM at q; unfold rtM; simp at q ⊢; omega)).1)⟩, a3, b3⟩
theorem rtC_z {σ σ' : lj_S} (h : lf rtC σ σ') : lf szC σ σ' := h.mo (fun k j q => by unfold szC at q; unfold rtC; simp at q ⊢; omega)
theorem rtM_z {σ σ' : lj_S} (h : lf rtM σ σ') : lf szM σ σ' := h.mo (fun k j q => by unfold szM at q; unfold rtM; simp at q ⊢; omega)
theorem rtC_b {σ σ' : lj_S} (h : lf rtC σ σ') : lf bfC σ σ' := h.mo (fun k j q => by unfold bfC at q; unfold rtC; simp at q ⊢; omega)
theorem rtM_b {σ σ' : lj_S} (h : lf rtM σ σ') : lf bfM σ σ' := h.mo (fun k j q => by unfold bfM at q; unfold rtM; simp at q ⊢; omega)
theorem rtC_v {σ τ σ' τ' : lj_S} (h : lf rtC σ σ') (g : lf rtM τ τ') {a b : vT} (w : vR σ τ a b) : vR σ' τ' a b := w.cg (fun k j q => (h k j (by unfold vqC at q; unfold rtC; simp at q ⊢; omega)).1) (fun k j q => (g k j (by unfold vqM at q; unfold rtM; simp at q ⊢; omega)).1)
theorem oneM_z (τ : lj_S) (w : vT) : lf szM τ (oneM τ w) := fun k j q => oneM_o τ w (by unfold szM at q; simp at q; omega)
theorem oneM_b (τ : lj_S) (w : vT) : lf bfM τ (oneM τ w) := fun k j q => oneM_o τ w (by unfold bfM at q; simp at q; omega)
theorem bi_5 {σ0 τ0 σ τ : lj_S} {n np p : Nat} {r : List Nat} {FP : Nat → List kF} {ρ : Nat → Nat} {A MO LA : List Nat} {M : Nat} (D : DLV σ0 τ0 M) (h : MB σ0 τ0 n np p r FP ρ A MO LA σ τ) (ry : ryR σ τ) (hwk : wkR FP (p :: r) A σ) {as line : Int32} (ht : τ.1 0 129 = 1) (ha : awR σ0 (FP p) as (τ.1 0 130) (τ.1 0 131)) (hln : τ.1 0 132 = line) {G G' : List vT} (hG : gwR σ τ G G') (hGl : G.length ≤ 49) (hM : thM FP (p :: r) MO LA + 5001 ≤ M) {X : Nat} (hX : X ≤ TH) (hT : thM FP (p :: r) MO LA + 5001 ≤ X) : ∃ τ1, lj_R lm_P 187 [.ref 0, .int 5] τ = some (.inl none, τ1) ∧ ocR σ0 τ0 A (fun t => t ≤ X) σ τ1 (lj_R lc_P 159 [.ref 8, .int 5, .int as, .int line] σ) := by
  rcases bi_tab h.2.1 h.2.2.2.1 hG (by omega) hln (w := 5) (by decide) with ⟨o, ob, on, e1, e2, e3, e4⟩ | ⟨σ', τ', q1, q2, q3⟩
  · have e3 : lj_R lc_P 167 [.ref 8, .int 0, .int 5, .int line] σ = some (.inl (some (.int (Int32.ofNat o))), σ) := e3
    have e4 : lj_R lm_P 198 [.ref 0, .int 1, .int 4, .int 5] τ = some (.inl (some (.int 1)), τ) := e4
    obtain ⟨σ1, a1, a2, a3⟩ := c_gives (x_rs0 σ) (by decide) (5, bn 4)
    have a1 : lj_R lc_P 143 [.ref 8, .int 5, .long (-5)] (lj_put σ 8 41 0) = some (.inl none, σ1) := a1
    have a2 : rsC σ1 [(5, bn 4)] := a2
    have b1 := m_one τ (7, i64 4)
    have b1 : lj_R lm_P 195 [.ref 0, .int 7, .long 4] τ = _ := b1
    have l1 : lf szC σ σ1 := (lf_put (lf_rf _ σ) 8 41 0 rfl).tr (rtC_z a3)
    have l2 : lf bfC σ σ1 := (lf_put (lf_rf _ σ) 8 41 0 rfl).tr (rtC_b a3)
    have v1 : ∀ {a b : vT}, vR σ τ a b → vR σ1 (oneM τ (7, i64 4)) a b := fun z => z.cg (fun k j q => (l1 k j (by unfold vqC at q; unfold szC; simp at q ⊢; omega)).1) (fun k j q => (oneM_o τ _ (by unfold vqM at q; simp at q; omega)).1)
    have g1 : gwR σ1 (oneM τ (7, i64 4)) G G' := hG.cg (fun k j q => by
      obtain ⟨u1, u2⟩ := a3 k j (by unfold rtC; simp; omega)
      exact ⟨by rw [u1, lj_put_1, if_neg (by omega)], by rw [u2]; rfl⟩) (fun k j q => oneM_o τ _ (by omega)) (fun _ _ z => v1 z)
    have m1 := g1.m1 hGl
    rw [e2] at m1
    obtain ⟨σ2, τ2, p1, p2, p3, p4, p5, p6, p7⟩ := x_gv a2 (oneM_rs τ (7, i64 4)) ⟨rfl, by simp, fun j => by
      cases j with
      | zero => exact vR_bn (by decide)
      | succ j => exact vR_nil _ _⟩ (by simp) (v1 (vR_ob (Or.inl rfl) ob))
    obtain ⟨σ3, τ3, r1, r2, r3, r4, r5, r6, r7⟩ := x_gv p3 p4 p5 (by simp) (u := (0, 0)) (w := (0, 0)) (vR_nil _ _)
    have hb : MB σ0 τ0 n np p r FP ρ A MO LA σ3 τ3 := h.sc ((l1.tr (rtC_z p6)).tr (rtC_z r6)) (((oneM_z τ _).tr (rtM_z p7)).tr (rtM_z r7))
    have t1 : τ3.1 0 129 = 1 := by
      rw [(r7 0 129 rfl).1, (p7 0 129 rfl).1]
      unfold oneM
      exact (by simp [lj_put_1, lj_putL_1])
    have px := h.px hwk
    have dl := bi_dl D ry hwk ha hb ((l2.tr (rtC_b p6)).tr (rtC_b r6)) (((oneM_b τ _).tr (rtM_b p7)).tr (rtM_b r7)) t1 r3 r4 r5 (by simp; omega) (by omega) (by omega) hX
    have p1 : lj_R lc_P 143 [.ref 8, .int 4, .long (Int32.ofNat o).toInt64] σ1 = some (.inl none, σ2) := p1
    refine ⟨τ3, ?_, ?_⟩
    · rw [rm_187, km_187_0, if_neg (by decide), if_neg (by decide), if_neg (by decide), if_neg (by decide), if_neg (by decide), if_pos rfl, km_187_168, rm_200, km_200_0, e4, bi_ok, if_neg (by decide), if_pos rfl, km_200_28, b1, bv_ok, m1.2, bl_ok, p2, bv_ok, if_pos rfl, km_200_52, r2, bv_ok, bv_ok, km_187_308]
    · rw [rc_159, kc_159_0, if_neg (by decide), if_neg (by decide), if_neg (by decide), if_neg (by decide), if_neg (by decide), if_pos rfl, kc_159_282, e3, bi_ok, if_pos rfl, kc_159_312, a1, bv_ok, p1, bv_ok, if_pos rfl, kc_159_334, r1, bv_ok]
      simp only [kc_159_901]
      exact dl.fin
  · have q2 : lj_R lc_P 167 [.ref 8, .int 0, .int 5, .int line] σ = some (.inr 2, σ') := q2
    have q3 : lj_R lm_P 198 [.ref 0, .int 1, .int 4, .int 5] τ = some (.inl (some (.int 0)), τ') := q3
    refine ⟨τ', ?_, ?_⟩
    · rw [rm_187, km_187_0, if_neg (by decide), if_neg (by decide), if_neg (by decide), if_neg (by decide), if_neg (by decide), if_pos rfl, km_187_168, rm_200, km_200_0, q3, bi_ok, if_pos rfl, bv_ok, km_187_308]
    · rw [rc_159, kc_159_0, if_neg (by decide), if_neg (by decide), if_neg (by decide), if_neg (by decide), if_neg (by decide), if_pos rfl, kc_159_282, q2, bi_th]
      exact bt_er ry hwk h (lf_rf _ _) (lf_rf _ _) q1 (by omega)
theorem bi_6 {σ0 τ0 σ τ : lj_S} {n np p : Nat} {r : List Nat} {FP : Nat → List kF} {ρ : Nat → Nat} {A MO LA : List Nat} {M : Nat} (D : DLV σ0 τ0 M) (h : MB σ0 τ0 n np p r FP ρ A MO LA σ τ) (ry : ryR σ τ) (hwk : wkR FP (p :: r) A σ) {as line : Int32} (ht : τ.1 0 129 = 1) (ha : awR σ0 (FP p) as (τ.1 0 130) (τ.1 0 131)) (hln : τ.1 0 132 = line) {G G' : List vT} (hG : gwR σ τ G G') (hGl : G.length ≤ 49) (hM : thM FP (p :: r) MO LA + 5001 ≤ M) {X : Nat} (hX : X ≤ TH) (hT : thM FP (p :: r) MO LA + 5001 ≤ X) : ∃ τ1, lj_R lm_P 187 [.ref 0, .int 6] τ = some (.inl none, τ1) ∧ ocR σ0 τ0 A (fun t => t ≤ X) σ τ1 (lj_R lc_P 159 [.ref 8, .int 6, .int as, .int line] σ) := by
  rcases bi_tab h.2.1 h.2.2.2.1 hG (by omega) hln (w := 6) (by decide) with ⟨o, ob, on, e1, e2, e3, e4⟩ | ⟨σ', τ', q1, q2, q3⟩
  · have e3 : lj_R lc_P 167 [.ref 8, .int 0, .int 6, .int line] σ = some (.inl (some (.int (Int32.ofNat o))), σ) := e3
    have e4 : lj_R lm_P 198 [.ref 0, .int 1, .int 4, .int 6] τ = some (.inl (some (.int 1)), τ) := e4
    obtain ⟨σ1, a1, a2, a3⟩ := c_gives (x_rs0 σ) (by decide) (5, bn 31)
    have a1 : lj_R lc_P 143 [.ref 8, .int 5, .long (-32)] (lj_put σ 8 41 0) = some (.inl none, σ1) := a1
    have a2 : rsC σ1 [(5, bn 31)] := a2
    have b1 := m_one τ (7, i64 31)
    have b1 : lj_R lm_P 195 [.ref 0, .int 7, .long 31] τ = _ := b1
    have l1 : lf szC σ σ1 := (lf_put (lf_rf _ σ) 8 41 0 rfl).tr (rtC_z a3)
    have l2 : lf bfC σ σ1 := (lf_put (lf_rf _ σ) 8 41 0 rfl).tr (rtC_b a3)
    have v1 : ∀ {a b : vT}, vR σ τ a b → vR σ1 (oneM τ (7, i64 31)) a b := fun z => z.cg (fun k j q => (l1 k j (by unfold vqC at q; unfold szC; simp at q ⊢; omega)).1) (fun k j q => (oneM_o τ _ (by unfold vqM at q; simp at q; omega)).1)
    have g1 : gwR σ1 (oneM τ (7, i64 31)) G G' := hG.cg (fun k j q => by
      obtain ⟨u1, u2⟩ := a3 k j (by unfold rtC; simp; omega)
      exact ⟨by rw [u1, lj_put_1, if_neg (by omega)], by rw [u2]; rfl⟩) (fun k j q => oneM_o τ _ (by omega)) (fun _ _ z => v1 z)
    have m1 := g1.m1 hGl
    rw [e2] at m1
    obtain ⟨σ2, τ2, p1, p2, p3, p4, p5, p6, p7⟩ := x_gv a2 (oneM_rs τ (7, i64 31)) ⟨rfl, by simp, fun j => by
      cases j with
      | zero => exact vR_bn (by decide)
      | succ j => exact vR_nil _ _⟩ (by simp) (v1 (vR_ob (Or.inl rfl) ob))
    obtain ⟨σ3, τ3, r1, r2, r3, r4, r5, r6, r7⟩ := x_gv p3 p4 p5 (by simp) (u := (2, 0)) (w := (2, 0)) ((fun s t => vR_whole s t 0) _ _)
    have hb : MB σ0 τ0 n np p r FP ρ A MO LA σ3 τ3 := h.sc ((l1.tr (rtC_z p6)).tr (rtC_z r6)) (((oneM_z τ _).tr (rtM_z p7)).tr (rtM_z r7))
    have t1 : τ3.1 0 129 = 1 := by
      rw [(r7 0 129 rfl).1, (p7 0 129 rfl).1]
      unfold oneM
      exact (by simp [lj_put_1, lj_putL_1])
    have px := h.px hwk
    have dl := bi_dl D ry hwk ha hb ((l2.tr (rtC_b p6)).tr (rtC_b r6)) (((oneM_b τ _).tr (rtM_b p7)).tr (rtM_b r7)) t1 r3 r4 r5 (by simp; omega) (by omega) (by omega) hX
    have p1 : lj_R lc_P 143 [.ref 8, .int 4, .long (Int32.ofNat o).toInt64] σ1 = some (.inl none, σ2) := p1
    refine ⟨τ3, ?_, ?_⟩
    · rw [rm_187, km_187_0, if_neg (by decide), if_neg (by decide), if_neg (by decide), if_neg (by decide), if_neg (by decide), if_neg (by decide), if_pos rfl, km_187_168, rm_200, km_200_0, e4, bi_ok, if_neg (by decide), if_neg (by decide), km_200_28, b1, bv_ok, m1.2, bl_ok, p2, bv_ok, if_neg (by decide), km_200_52, r2, bv_ok, bv_ok, km_187_308]
    · rw [rc_159, kc_159_0, if_neg (by decide), if_neg (by decide), if_neg (by decide), if_neg (by decide), if_neg (by decide), if_neg (by decide), if_pos rfl, kc_159_282, e3, bi_ok, if_neg (by decide), kc_159_312, a1, bv_ok, p1, bv_ok, if_neg (by decide), kc_159_334, r1, bv_ok]
      simp only [kc_159_901]
      exact dl.fin
  · have q2 : lj_R lc_P 167 [.ref 8, .int 0, .int 6, .int line] σ = some (.inr 2, σ') := q2
    have q3 : lj_R lm_P 198 [.ref 0, .int 1, .int 4, .int 6] τ = some (.inl (some (.int 0)), τ') := q3
    refine ⟨τ', ?_, ?_⟩
    · rw [rm_187, km_187_0, if_neg (by decide), if_neg (by decide), if_neg (by decide), if_neg (by decide), if_neg (by decide), if_neg (by decide), if_pos rfl, km_187_168, rm_200, km_200_0, q3, bi_ok, if_pos rfl, bv_ok, km_187_308]
    · rw [rc_159, kc_159_0, if_neg (by decide), if_neg (by decide), if_neg (by decide), if_neg (by decide), if_neg (by decide), if_neg (by decide), if_pos rfl, kc_159_282, q2, bi_th]
      exact bt_er ry hwk h (lf_rf _ _) (lf_rf _ _) q1 (by omega)
theorem bi_31 {σ0 τ0 σ τ : lj_S} {n np p : Nat} {r : List Nat} {FP : Nat → List kF} {ρ : Nat → Nat} {A MO LA : List Nat} {M : Nat} (D : DLV σ0 τ0 M) (h : MB σ0 τ0 n np p r FP ρ A MO LA σ τ) (ry : ryR σ τ) (hwk : wkR FP (p :: r) A σ) {as line : Int32} (ht : τ.1 0 129 = 1) (ha : awR σ0 (FP p) as (τ.1 0 130) (τ.1 0 131)) (hln : τ.1 0 132 = line) {G G' : List vT} (hG : gwR σ τ G G') (hGl : G.length ≤ 49) (hM : thM FP (p :: r) MO LA + 5001 ≤ M) {X : Nat} (hX : X ≤ TH) (hT : thM FP (p :: r) MO LA + 5001 ≤ X) : ∃ τ1, lj_R lm_P 187 [.ref 0, .int 31] τ = some (.inl none, τ1) ∧ ocR σ0 τ0 A (fun t => t ≤ X) σ τ1 (lj_R lc_P 159 [.ref 8, .int 31, .int as, .int line] σ) := by
  have c1 := hG.c1 hGl
  have m1 := hG.m1 hGl
  have m2 := hG.m2 hGl
  have rC : ∀ {x : Option lj_O}, lj_bi (lj_R lc_P 167 [.ref 8, .int 0, .int 31, .int line] σ) (fun y76 σ75 => lj_bi (lj_R lc_P 163 [.ref 8, .int 1] σ75) (fun y78 σ77 => (if y78 = 2 then lj_D lc_P lc_M159 370 [.ref 8, .int 31, .int as, .int line, .int y76, .retAddr 0, .retAddr 0] [.int 1, .ref 8] σ77 else lj_D lc_P lc_M159 370 [.ref 8, .int 31, .int as, .int line, .int y76, .retAddr 0, .retAddr 0] [.int 0, .ref 8] σ77)) lj_up) lj_up = x → lj_R lc_P 159 [.ref 8, .int 31, .int as, .int line] σ = x := fun e => by
    rw [rc_159, kc_159_0, if_neg (by decide), if_neg (by decide), if_neg (by decide), if_neg (by decide), if_neg (by decide), if_neg (by decide), if_neg (by decide), if_neg (by decide), if_neg (by decide), if_neg (by decide), if_neg (by decide), if_neg (by decide), if_neg (by decide), if_neg (by decide), if_neg (by decide), if_neg (by decide), if_neg (by decide), if_neg (by decide), if_neg (by decide), if_neg (by decide), if_neg (by decide), if_neg (by decide), if_neg (by decide), if_neg (by decide), if_neg (by decide), if_neg (by decide), if_neg (by decide), if_neg (by decide), if_neg (by decide), if_neg (by decide), if_neg (by decide), if_pos rfl]
    exact e
  have rM : ∀ {τx : lj_S}, lj_R lm_P 236 [.ref 0] τ = some (.inl none, τx) → lj_R lm_P 187 [.ref 0, .int 31] τ = some (.inl none, τx) := fun e => by
    rw [rm_187, km_187_0, if_neg (by decide), if_neg (by decide), if_neg (by decide), if_neg (by decide), if_neg (by decide), if_neg (by decide), if_neg (by decide), if_neg (by decide), if_neg (by decide), if_neg (by decide), if_neg (by decide), if_neg (by decide), if_neg (by decide), if_neg (by decide), if_neg (by decide), if_neg (by decide), if_neg (by decide), rm_221, km_221_0, if_neg (by decide), if_neg (by decide), if_neg (by decide), if_neg (by decide), if_neg (by decide), if_neg (by decide), if_neg (by decide), if_neg (by decide), if_neg (by decide), if_neg (by decide), if_neg (by decide), if_neg (by decide), if_neg (by decide), if_neg (by decide), e, bv_ok, km_221_215, bv_ok, km_187_308]
  rcases bi_tab h.2.1 h.2.2.2.1 hG (by omega) hln (w := 31) (by decide) with ⟨o, ob, on, e1, e2, e3, e4⟩ | ⟨σ', τ', q1, q2, q3⟩
  · have e3 : lj_R lc_P 167 [.ref 8, .int 0, .int 31, .int line] σ = some (.inl (some (.int (Int32.ofNat o))), σ) := e3
    have e4 : lj_R lm_P 198 [.ref 0, .int 1, .int 4, .int 31] τ = some (.inl (some (.int 1)), τ) := e4
    rw [e2] at m1
    by_cases z : (G.getD 1 (0, 0)).1 = 2
    · have e := (hG.v 1).wh z
      obtain ⟨y, hy⟩ : ∃ y, y = (G.getD 1 (0, 0)).2 := ⟨_, rfl⟩
      have ea : G.getD 1 (0, 0) = (2, y) := Prod.ext z hy.symm
      rw [ea] at e
      rw [ea] at c1
      rw [e] at m2
      have w4 := (m_wants hG (by omega) (i := 1) (by omega) 2 31).1 (by rw [e])
      have w4 : lj_R lm_P 198 [.ref 0, .int 2, .int 2, .int 31] τ = some (.inl (some (.int 1)), τ) := w4
      obtain ⟨σa, hσa⟩ : ∃ σa, σa = lj_put σ 8 41 0 := ⟨_, rfl⟩
      have la : lf szC σ σa := by rw [hσa]; exact lf_put (lf_rf _ σ) 8 41 0 rfl
      have lb : lf bfC σ σa := by rw [hσa]; exact lf_put (lf_rf _ σ) 8 41 0 rfl
      have hA := h.sc la (lf_rf szM τ)
      obtain ⟨u, w, a1, a2, a3⟩ := cm_get hA.2.1.1 hA.2.2.2.1 on (vR_whole σa τ (y + 1))
      rw [tm_p ob.1] at a3
      have hB := hA.fd u w
      have f1 : (fdC σa u).1 7 27 = u.1 := by rw [fdC_1, if_pos ⟨rfl, rfl⟩]
      have f2 : (fdC σa u).2 7 28 = u.2 := by rw [fdC_2, if_pos ⟨rfl, rfl⟩]
      have f3 : (fdM τ w).1 0 90 = w.1 := by rw [fdM_1, if_pos ⟨rfl, rfl⟩]
      have f4 : (fdM τ w).2 0 91 = w.2 := by rw [fdM_2, if_pos ⟨rfl, rfl⟩]
      have lbc : lf bfC σ (fdC σa u) := lb.tr (lf_fdC σa u)
      have r0 : rsC (fdC σa u) [] := ⟨by unfold lv; rw [fdC_1, if_neg (by omega), hσa, lj_put_1, if_pos ⟨rfl, rfl⟩]; rfl, fun j hj => absurd hj (by simp)⟩
      have px := h.px hwk
      by_cases u0 : u.1 = 0
      · have w0 : w.1 = 0 := a1.k0.1 u0
        obtain ⟨σ1, g1, g2, g3⟩ := c_gives r0 (by decide) (0, 0)
        have g1 : lj_R lc_P 143 [.ref 8, .int 0, .long 0] (fdC σa u) = some (.inl none, σ1) := g1
        have b1 := m_one (fdM τ w) (0, 0)
        have b1 : lj_R lm_P 195 [.ref 0, .int 0, .long 0] (fdM τ w) = _ := b1
        have hC : MB σ0 τ0 n np p r FP ρ A MO LA σ1 (oneM (fdM τ w) (0, 0)) := hB.sc (rtC_z g3) (oneM_z _ _)
        have dl := bi_dl D ry hwk ha hC (lbc.tr (rtC_b g3)) ((lf_fdM τ w).tr (oneM_b _ _)) (by unfold oneM; exact (by simp [lj_put_1, lj_putL_1])) g2 (oneM_rs _ _) ⟨rfl, by simp, fun j => by
          cases j with
          | zero => exact vR_nil _ _
          | succ j => exact vR_nil _ _⟩ (by simp; omega) (by omega) (by omega) hX
        refine ⟨oneM (fdM τ w) (0, 0), rM ?_, ?_⟩
        · rw [rm_236, km_236_0, e4, bi_ok, if_neg (by decide), w4, bi_ok, if_neg (by decide), m2.2, bl_ok, m1.2, bl_ok]
          simp only [i64_32]
          rw [a3, bv_ok, if_pos (by rw [f3]; exact w0), b1, bv_ok, km_236_77]
        · have run : lj_R lc_P 159 [.ref 8, .int 31, .int as, .int line] σ = finC (finC (lj_R lc_P 144 [.ref 8, .int as] σ1)) := rC (by
            rw [e3, bi_ok, c1.1, bi_ok, if_pos rfl, kc_159_370, nd_ok _ (by decide), bv_ok, c1.2, bl_ok, ← hσa, a2, bi_ok, if_pos (by rw [if_pos u0]), g1, bv_ok, kc_159_448]
            simp only [kc_159_901]
            unfold finC
            cases lj_R lc_P 144 [.ref 8, .int as] σ1 with
            | none => rfl
            | some v =>
              obtain ⟨v1, v2⟩ := v
              rcases v1 with (_ | v1) | v1 <;> rfl)
          rw [run]
          exact dl.fin.fin
      · have w0 : ¬ (w.1 = 0) := fun x => u0 (a1.k0.2 x)
        obtain ⟨σ1, g1, g2, g3⟩ := c_gives r0 (by decide) (2, y + 1)
        have g1 : lj_R lc_P 143 [.ref 8, .int 2, .long (y + 1)] (fdC σa u) = some (.inl none, σ1) := g1
        have g2 : rsC σ1 [(2, y + 1)] := g2
        have b1 := m_one (fdM τ w) (2, y + 1)
        have b1 : lj_R lm_P 195 [.ref 0, .int 2, .long (y + 1)] (fdM τ w) = _ := b1
        have v1 : ∀ {a b : vT}, vR (fdC σa u) (fdM τ w) a b → vR σ1 (oneM (fdM τ w) (2, y + 1)) a b := fun z => z.cg (fun k j q => (g3 k j (by unfold vqC at q; unfold rtC; simp at q ⊢; omega)).1) (fun k j q => (oneM_o (fdM τ w) _ (by unfold vqM at q; simp at q; omega)).1)
        obtain ⟨σ2, τ2, p1, p2, p3, p4, p5, p6, p7⟩ := x_gv g2 (oneM_rs (fdM τ w) (2, y + 1)) ⟨rfl, by simp, fun j => by
          cases j with
          | zero => exact vR_whole _ _ _
          | succ j => exact vR_nil _ _⟩ (by simp) (v1 (a1.fd u w))
        have hC : MB σ0 τ0 n np p r FP ρ A MO LA σ2 τ2 := hB.sc ((rtC_z g3).tr (rtC_z p6)) ((oneM_z _ _).tr (rtM_z p7))
        have t1 : τ2.1 0 129 = 1 := by
          rw [(p7 0 129 rfl).1]
          unfold oneM
          exact (by simp [lj_put_1, lj_putL_1])
        have dl := bi_dl D ry hwk ha hC ((lbc.tr (rtC_b g3)).tr (rtC_b p6)) (((lf_fdM τ w).tr (oneM_b _ _)).tr (rtM_b p7)) t1 p3 p4 p5 (by simp; omega) (by omega) (by omega) hX
        have h1 : σ1.1 7 27 = u.1 := by rw [(g3 7 27 rfl).1]; exact f1
        have h2 : σ1.2 7 28 = u.2 := by rw [(g3 7 28 rfl).2]; exact f2
        have h3 : (oneM (fdM τ w) (2, y + 1)).1 0 90 = w.1 := by rw [(oneM_o _ _ (by omega)).1]; exact f3
        have h4 : (oneM (fdM τ w) (2, y + 1)).2 0 91 = w.2 := by rw [(oneM_o _ _ (by omega)).2]; exact f4
        refine ⟨τ2, rM ?_, ?_⟩
        · rw [rm_236, km_236_0, e4, bi_ok, if_neg (by decide), w4, bi_ok, if_neg (by decide), m2.2, bl_ok, m1.2, bl_ok]
          simp only [i64_32]
          rw [a3, bv_ok, if_neg (by rw [f3]; exact w0), b1, bv_ok, h3, h4, p2, bv_ok, km_236_77]
        · have run : lj_R lc_P 159 [.ref 8, .int 31, .int as, .int line] σ = finC (finC (lj_R lc_P 144 [.ref 8, .int as] σ2)) := rC (by
            rw [e3, bi_ok, c1.1, bi_ok, if_pos rfl, kc_159_370, nd_ok _ (by decide), bv_ok, c1.2, bl_ok, ← hσa, a2, bi_ok, if_neg (by rw [if_neg u0]; decide), g1, bv_ok, h1, h2, p1, bv_ok, kc_159_448]
            simp only [kc_159_901]
            unfold finC
            cases lj_R lc_P 144 [.ref 8, .int as] σ2 with
            | none => rfl
            | some v =>
              obtain ⟨v1, v2⟩ := v
              rcases v1 with (_ | v1) | v1 <;> rfl)
          rw [run]
          exact dl.fin.fin
    · have z' : ¬ ((G'.getD 1 (0, 0)).1 = 2) := fun y => z (((hG.v 1).kk (by decide) (by decide)).2 y)
      obtain ⟨σ', τ', q1, q2, q3⟩ := nd_bad h.2.1 hln 2 (w := 31) (by decide)
      have q1 : lj_R lc_P 168 [.ref 8, .int 0, .int 2, .int 31, .int line] σ = some (.inr 2, σ') := q1
      have w4 := (m_wants hG (by omega) (i := 1) (by omega) 2 31).2 z' τ' q2
      have w4 : lj_R lm_P 198 [.ref 0, .int 2, .int 2, .int 31] τ = some (.inl (some (.int 0)), τ') := w4
      refine ⟨τ', rM ?_, ?_⟩
      · rw [rm_236, km_236_0, e4, bi_ok, if_neg (by decide), w4, bi_ok, if_pos rfl, km_236_22]
      · rw [rC (by rw [e3, bi_ok, c1.1, bi_ok, if_neg z, kc_159_370, q1, bv_th])]
        exact bt_er ry hwk h (lf_rf _ _) (lf_rf _ _) q3 (by omega)
  · have q2 : lj_R lc_P 167 [.ref 8, .int 0, .int 31, .int line] σ = some (.inr 2, σ') := q2
    have q3 : lj_R lm_P 198 [.ref 0, .int 1, .int 4, .int 31] τ = some (.inl (some (.int 0)), τ') := q3
    refine ⟨τ', rM ?_, ?_⟩
    · rw [rm_236, km_236_0, q3, bi_ok, if_pos rfl, km_236_22]
    · rw [rC (by rw [q2, bi_th])]
      exact bt_er ry hwk h (lf_rf _ _) (lf_rf _ _) q1 (by omega)
