/-! what is built in: raw reading and writing -/
theorem tm_p {o : Nat} (h : 1 ≤ o) : tm o = o := by
  unfold tm
  rw [if_neg (by omega)]
theorem bi_7 {σ0 τ0 σ τ : lj_S} {n np p : Nat} {r : List Nat} {FP : Nat → List kF} {ρ : Nat → Nat} {A MO LA : List Nat} {M : Nat} (D : DLV σ0 τ0 M) (h : MB σ0 τ0 n np p r FP ρ A MO LA σ τ) (ry : ryR σ τ) (hwk : wkR FP (p :: r) A σ) {as line : Int32} (ht : τ.1 0 129 = 1) (ha : awR σ0 (FP p) as (τ.1 0 130) (τ.1 0 131)) (hln : τ.1 0 132 = line) {G G' : List vT} (hG : gwR σ τ G G') (hGl : G.length ≤ 49) (hM : thM FP (p :: r) MO LA + 5001 ≤ M) {X : Nat} (hX : X ≤ TH) (hT : thM FP (p :: r) MO LA + 5001 ≤ X) : ∃ τ1, lj_R lm_P 187 [.ref 0, .int 7] τ = some (.inl none, τ1) ∧ ocR σ0 τ0 A (fun t => t ≤ X) σ τ1 (lj_R lc_P 159 [.ref 8, .int 7, .int as, .int line] σ) := by
  have c1 := hG.c1 hGl
  have m1 := hG.m1 hGl
  have m2 := hG.m2 hGl
  rcases bi_tab h.2.1 h.2.2.2.1 hG (by omega) hln (w := 7) (by decide) with ⟨o, ob, on, e1, e2, e3, e4⟩ | ⟨σ', τ', q1, q2, q3⟩
  · obtain ⟨u, w, a1, a2, a3⟩ := cm_get h.2.1.1 h.2.2.2.1 on (hG.v 1)
    rw [tm_p ob.1] at a3
    have e3 : lj_R lc_P 167 [.ref 8, .int 0, .int 7, .int line] σ = some (.inl (some (.int (Int32.ofNat o))), σ) := e3
    have e4 : lj_R lm_P 198 [.ref 0, .int 1, .int 4, .int 7] τ = some (.inl (some (.int 1)), τ) := e4
    obtain ⟨τ2, q1, q2⟩ := bi_one D ry hwk ha (h.fd u w) (lf_fdC σ u) (lf_fdM τ w) (a1.fd u w) (by omega) (by omega) hX 7
    have f1 : (fdC σ u).1 7 27 = u.1 := by rw [fdC_1, if_pos ⟨rfl, rfl⟩]
    have f2 : (fdC σ u).2 7 28 = u.2 := by rw [fdC_2, if_pos ⟨rfl, rfl⟩]
    have f3 : (fdM τ w).1 0 90 = w.1 := by rw [fdM_1, if_pos ⟨rfl, rfl⟩]
    have f4 : (fdM τ w).2 0 91 = w.2 := by rw [fdM_2, if_pos ⟨rfl, rfl⟩]
    rw [e2] at m1
    refine ⟨τ2, ?_, ?_⟩
    · rw [rm_187, km_187_0, if_neg (by decide), if_neg (by decide), if_neg (by decide), if_neg (by decide), if_neg (by decide), if_neg (by decide), if_neg (by decide), if_pos rfl, km_187_176, rm_201, km_201_0, if_neg (by decide), if_neg (by decide), km_201_77, e4, bi_ok, if_neg (by decide), m1.2, bl_ok, if_neg (by decide), if_pos rfl, m2.1, bi_ok, m2.2, bl_ok]
      simp only [i64_32]
      rw [a3, bv_ok, f3, f4, q1, bv_ok, km_201_200, bv_ok, km_187_308]
    · rw [rc_159, kc_159_0, if_neg (by decide), if_neg (by decide), if_neg (by decide), if_neg (by decide), if_neg (by decide), if_neg (by decide), if_neg (by decide), if_pos rfl, e3, bi_ok, c1.1, bi_ok, c1.2, bl_ok, a2, bi_ok, f1, f2]
      simp only [kc_159_901]
      exact q2.fin
  · have q2 : lj_R lc_P 167 [.ref 8, .int 0, .int 7, .int line] σ = some (.inr 2, σ') := q2
    have q3 : lj_R lm_P 198 [.ref 0, .int 1, .int 4, .int 7] τ = some (.inl (some (.int 0)), τ') := q3
    refine ⟨τ', ?_, ?_⟩
    · rw [rm_187, km_187_0, if_neg (by decide), if_neg (by decide), if_neg (by decide), if_neg (by decide), if_neg (by decide), if_neg (by decide), if_neg (by decide), if_pos rfl, km_187_176, rm_201, km_201_0, if_neg (by decide), if_neg (by decide), km_201_77, q3, bi_ok, if_pos rfl, bv_ok, km_187_308]
    · rw [rc_159, kc_159_0, if_neg (by decide), if_neg (by decide), if_neg (by decide), if_neg (by decide), if_neg (by decide), if_neg (by decide), if_neg (by decide), if_pos rfl, q2, bi_th]
      exact bt_er ry hwk h (lf_rf _ _) (lf_rf _ _) q1 (by omega)
theorem bi_8 {σ0 τ0 σ τ : lj_S} {n np p : Nat} {r : List Nat} {FP : Nat → List kF} {ρ : Nat → Nat} {A MO LA : List Nat} {M : Nat} (D : DLV σ0 τ0 M) (h : MB σ0 τ0 n np p r FP ρ A MO LA σ τ) (ry : ryR σ τ) (hwk : wkR FP (p :: r) A σ) {as line : Int32} (ht : τ.1 0 129 = 1) (ha : awR σ0 (FP p) as (τ.1 0 130) (τ.1 0 131)) (hln : τ.1 0 132 = line) {G G' : List vT} (hG : gwR σ τ G G') (hGl : G.length ≤ 49) (hM : thM FP (p :: r) MO LA + 5001 ≤ M) {X : Nat} (hX : X ≤ TH) (hT : thM FP (p :: r) MO LA + 5001 ≤ X) : ∃ τ1, lj_R lm_P 187 [.ref 0, .int 8] τ = some (.inl none, τ1) ∧ ocR σ0 τ0 A (fun t => t ≤ X) σ τ1 (lj_R lc_P 159 [.ref 8, .int 8, .int as, .int line] σ) := by
  have c1 := hG.c1 hGl
  have c2 := hG.c2 hGl
  have m1 := hG.m1 hGl
  have m2 := hG.m2 hGl
  have m3 := hG.m3 hGl
  rcases bi_tab h.2.1 h.2.2.2.1 hG (by omega) hln (w := 8) (by decide) with ⟨o, ob, on, e1, e2, e3, e4⟩ | ⟨σ', τ', q1, q2, q3⟩
  · have e3 : lj_R lc_P 167 [.ref 8, .int 0, .int 8, .int line] σ = some (.inl (some (.int (Int32.ofNat o))), σ) := e3
    have e4 : lj_R lm_P 198 [.ref 0, .int 1, .int 4, .int 8] τ = some (.inl (some (.int 1)), τ) := e4
    rw [e2] at m1
    by_cases z : (G.getD 1 (0, 0)).1 = 0
    · have z' : (G'.getD 1 (0, 0)).1 = 0 := (hG.v 1).k0.1 z
      obtain ⟨σ', τ', q1, q2, q3⟩ := nd_bad h.2.1 hln 2 (w := 8) (by decide)
      have q1 : lj_R lc_P 168 [.ref 8, .int 0, .int 2, .int 8, .int line] σ = some (.inr 2, σ') := q1
      have q2 : lj_R lm_P 199 [.ref 0, .int 2, .int 8] τ = some (.inl none, τ') := q2
      refine ⟨τ', ?_, ?_⟩
      · rw [rm_187, km_187_0, if_neg (by decide), if_neg (by decide), if_neg (by decide), if_neg (by decide), if_neg (by decide), if_neg (by decide), if_neg (by decide), if_neg (by decide), if_pos rfl, km_187_176, rm_201, km_201_0, if_neg (by decide), if_neg (by decide), km_201_77, e4, bi_ok, if_neg (by decide), m1.2, bl_ok, if_neg (by decide), if_neg (by decide), m2.1, bi_ok, if_pos z', q2, bv_ok, km_201_200, bv_ok, km_187_308]
      · rw [rc_159, kc_159_0, if_neg (by decide), if_neg (by decide), if_neg (by decide), if_neg (by decide), if_neg (by decide), if_neg (by decide), if_neg (by decide), if_neg (by decide), if_pos rfl, e3, bi_ok, c1.1, bi_ok, if_pos z, kc_159_537, q1, bv_th]
        exact bt_er ry hwk h (lf_rf _ _) (lf_rf _ _) q3 (by omega)
    · have z' : ¬ ((G'.getD 1 (0, 0)).1 = 0) := fun y => z ((hG.v 1).k0.2 y)
      have st := cm_set h.2.1.1 h.2.2.2.1 on (hG.v 1) z (hG.v 2) (fun z0 => by have := ob.1; omega) ob.2.2.2.1
      rw [tm_p ob.1] at st
      have rm : ∀ (τx : lj_S) (y : Int32), lj_R lm_P 108 [.ref 0, .int (Int32.ofNat o), .int (G'.getD 1 (0, 0)).1, .long (G'.getD 1 (0, 0)).2, .int (G'.getD 2 (0, 0)).1, .long (G'.getD 2 (0, 0)).2] τ = some (.inl (some (.int y)), τx) → lj_R lm_P 187 [.ref 0, .int 8] τ = some (.inl none, oneM τx (4, i64 o)) := fun τx y e => by
        rw [rm_187, km_187_0, if_neg (by decide), if_neg (by decide), if_neg (by decide), if_neg (by decide), if_neg (by decide), if_neg (by decide), if_neg (by decide), if_neg (by decide), if_pos rfl, km_187_176, rm_201, km_201_0, if_neg (by decide), if_neg (by decide), km_201_77, e4, bi_ok, if_neg (by decide), m1.2, bl_ok, if_neg (by decide), if_neg (by decide), m2.1, bi_ok, if_neg z', m2.1, bi_ok, m2.2, bl_ok, m3.1, bi_ok, m3.2, bl_ok]
        simp only [i64_32]
        rw [e, bi_ok]
        have := m_one τx (4, i64 o)
        have this : lj_R lm_P 195 [.ref 0, .int 4, .long (Int32.ofNat o).toInt64] τx = _ := this
        rw [this, bv_ok, km_201_200, bv_ok, km_187_308]
      rcases st with ⟨s1, s2⟩ | ⟨σ', τ', s1, s2, s3, s4, s5⟩
      · refine ⟨_, rm _ _ s2, ?_⟩
        rw [rc_159, kc_159_0, if_neg (by decide), if_neg (by decide), if_neg (by decide), if_neg (by decide), if_neg (by decide), if_neg (by decide), if_neg (by decide), if_neg (by decide), if_pos rfl, e3, bi_ok, c1.1, bi_ok, if_neg z, kc_159_537, nd_ok _ (by decide), bv_ok, c1.1, bi_ok, c1.2, bl_ok, c2.1, bi_ok, c2.2, bl_ok, s1, bv_th]
        have hm : lf szM τ (oneM (lj_put τ 0 143 4) (4, i64 o)) := fun k j q => by
          have y : ¬ (k = 90 ∨ k = 91 ∨ k = 0 ∧ (j = 129 ∨ j = 140 ∨ j = 143)) := by unfold szM at q; simp at q; omega
          obtain ⟨u1, u2⟩ := oneM_o (lj_put τ 0 143 4) (4, i64 o) (k := k) (j := j) (by omega)
          exact ⟨by rw [u1, lj_put_1, if_neg (by omega)], by rw [u2]; rfl⟩
        refine bi_nr ry hwk (h.sc (lf_put (lf_rf _ _) _ _ _ rfl) hm) (lf_put (lf_rf _ _) _ _ _ rfl) ⟨?_, ?_⟩ (by simp [lj_put_1, lj_putL_1]) ?_ (by omega)
        · rw [(oneM_o _ _ (by omega)).1, lj_put_1, if_neg (by omega)]
        · rw [(oneM_o _ _ (by omega)).2]; rfl
        · rw [(oneM_o _ _ (by omega)).1]; exact (by simp [lj_put_1, lj_putL_1])
      · have hb := h.hw s4 s5 s3
        have l1 : lf bfC σ σ' := s4.mo (fun k j q => by unfold bfC at q; unfold hwC; simp at q ⊢; omega)
        have l2 : lf bfM τ τ' := s5.mo (fun k j q => by unfold bfM at q; unfold hwM; simp at q ⊢; omega)
        have v4 : vR σ' τ' (4, i64 o) (4, i64 o) := (vR_ob (Or.inl rfl) ob).cg (fun k j q => (s4 k j (by unfold vqC at q; unfold hwC; simp at q ⊢; omega)).1) (fun k j q => (s5 k j (by unfold vqM at q; unfold hwM; simp at q ⊢; omega)).1)
        obtain ⟨τ2, w1, w2⟩ := bi_one D ry hwk ha hb l1 l2 v4 (by omega) (by omega) hX 8
        rw [m_one] at w1
        have w1 : oneM τ' (4, i64 o) = τ2 := (Prod.mk.inj (Option.some.inj w1)).2
        refine ⟨τ2, by rw [← w1]; exact rm _ _ s2, ?_⟩
        rw [rc_159, kc_159_0, if_neg (by decide), if_neg (by decide), if_neg (by decide), if_neg (by decide), if_neg (by decide), if_neg (by decide), if_neg (by decide), if_neg (by decide), if_pos rfl, e3, bi_ok, c1.1, bi_ok, if_neg z, kc_159_537, nd_ok _ (by decide), bv_ok, c1.1, bi_ok, c1.2, bl_ok, c2.1, bi_ok, c2.2, bl_ok, s1, bv_ok]
        simp only [kc_159_901]
        exact w2.fin
  · have q2 : lj_R lc_P 167 [.ref 8, .int 0, .int 8, .int line] σ = some (.inr 2, σ') := q2
    have q3 : lj_R lm_P 198 [.ref 0, .int 1, .int 4, .int 8] τ = some (.inl (some (.int 0)), τ') := q3
    refine ⟨τ', ?_, ?_⟩
    · rw [rm_187, km_187_0, if_neg (by decide), if_neg (by decide), if_neg (by decide), if_neg (by decide), if_neg (by decide), if_neg (by decide), if_neg (by decide), if_neg (by decide), if_pos rfl, km_187_176, rm_201, km_201_0, if_neg (by decide), if_neg (by decide), km_201_77, q3, bi_ok, if_pos rfl, bv_ok, km_187_308]
    · rw [rc_159, kc_159_0, if_neg (by decide), if_neg (by decide), if_neg (by decide), if_neg (by decide), if_neg (by decide), if_neg (by decide), if_neg (by decide), if_neg (by decide), if_pos rfl, q2, bi_th]
      exact bt_er ry hwk h (lf_rf _ _) (lf_rf _ _) q1 (by omega)
