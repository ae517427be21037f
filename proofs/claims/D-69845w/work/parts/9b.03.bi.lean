/-! what is built in: print, types, texts, states -/
theorem m_136_any {x y : Int32} {τ : lj_S} (e : lj_R lm_P 136 [.int x] τ = some (.inl (some (.int y)), τ)) (τ' : lj_S) : lj_R lm_P 136 [.int x] τ' = some (.inl (some (.int y)), τ') := by
  rw [rm_136, km_136_0] at e ⊢
  by_cases z : x = 7
  · rw [if_pos z, km_136_13] at e ⊢
    rw [(Prod.mk.inj (Option.some.inj e)).1]
  · rw [if_neg z, km_136_13] at e ⊢
    rw [(Prod.mk.inj (Option.some.inj e)).1]
theorem cAd_z {σ σ' : lj_S} (h : lf cAd σ σ') : lf szC σ σ' := h.mo (fun k j q => by unfold szC at q; unfold cAd; simp at q ⊢; omega)
theorem mAd_z {σ σ' : lj_S} (h : lf mAd σ σ') : lf szM σ σ' := h.mo (fun k j q => by unfold szM at q; unfold mAd; simp at q ⊢; omega)
theorem cAd_b {σ σ' : lj_S} (h : lf cAd σ σ') : lf bfC σ σ' := h.mo (fun k j q => by unfold bfC at q; unfold cAd; simp at q ⊢; omega)
theorem mAd_b {σ σ' : lj_S} (h : lf mAd σ σ') : lf bfM σ σ' := h.mo (fun k j q => by unfold bfM at q; unfold mAd; simp at q ⊢; omega)
theorem c_bgn (σ : lj_S) : lj_R lc_P 22 [.ref 3] σ = some (.inl none, lj_put σ 3 6 0) ∧ cDr (lj_put σ 3 6 0) [] ∧ lf cAd σ (lj_put σ 3 6 0) := ⟨by rw [rc_22, kc_22_0], ⟨by rw [lv_put, if_pos ⟨rfl, rfl⟩]; rfl, fun i a _ => absurd a (Nat.not_lt_zero _), fun b hb => by cases hb⟩, lf_put (lf_rf _ _) _ _ _ rfl⟩
theorem m_bgn (τ : lj_S) : mDr (lj_put τ 0 20 0) [] ∧ lf mAd τ (lj_put τ 0 20 0) := ⟨⟨by rw [lv_put, if_pos ⟨rfl, rfl⟩]; rfl, fun i a => absurd a (Nat.not_lt_zero _), fun b hb => by cases hb⟩, lf_put (lf_rf _ _) _ _ _ rfl⟩
theorem gwR.ad {σ τ σ' τ' : lj_S} {G G' : List vT} (h : gwR σ τ G G') (f : lf cAd σ σ') (g : lf mAd τ τ') : gwR σ' τ' G G' := h.cg (fun k j q => f k j (by unfold cAd; simp; omega)) (fun k j q => g k j (by unfold mAd; simp; omega)) (fun _ _ z => z.cg (fun k j q => (f k j (by unfold vqC at q; unfold cAd; simp at q ⊢; omega)).1) (fun k j q => (g k j (by unfold vqM at q; unfold mAd; simp at q ⊢; omega)).1))
theorem vR.ad {σ τ σ' τ' : lj_S} {a b : vT} (h : vR σ τ a b) (f : lf cAd σ σ') (g : lf mAd τ τ') : vR σ' τ' a b := h.cg (fun k j q => (f k j (by unfold vqC at q; unfold cAd; simp at q ⊢; omega)).1) (fun k j q => (g k j (by unfold vqM at q; unfold mAd; simp at q ⊢; omega)).1)
/-- a string is made and given -/
theorem bi_mk {σ0 τ0 σ τ σ' τ' : lj_S} {n np p : Nat} {r : List Nat} {FP : Nat → List kF} {ρ : Nat → Nat} {A MO LA : List Nat} {M X : Nat} (D : DLV σ0 τ0 M) (ry : ryR σ τ) (hwk : wkR FP (p :: r) A σ) {as : Int32} (ha : awR σ0 (FP p) as (τ.1 0 130) (τ.1 0 131)) (h : MB σ0 τ0 n np p r FP ρ A MO LA σ' τ') (f : lf bfC σ σ') (g : lf bfM τ τ') {T : List Int32} (hC : cDr σ' T) (hD : mDr τ' T) (hl : T.length ≤ 1000) (hM : thM FP (p :: r) MO LA ≤ M) (hT : thM FP (p :: r) MO LA + 1 ≤ X) (hX : X ≤ TH) (x : Int32) : ∃ τ2, lj_R lm_P 194 [.ref 0] τ' = some (.inl none, τ2) ∧ ocR σ0 τ0 A (fun t => t ≤ X) σ τ2 (lj_bi (lj_R lc_P 136 [.ref 8] σ') (fun y s => finC (lj_R lc_P 164 [.ref 8, .int x, .int 3, .long y.toInt64, .int as] s)) lj_up) := by
  rcases cm_make h.2.1 hC hD hl with ⟨e1, e2⟩ | ⟨σ1, τ1, s, s', e1, e2, s1, s2, se, ec, eM, eG, l1, l2⟩
  · have mo := m_one (lj_put τ' 0 143 4) (3, (-1 : Int32).toInt64)
    have mo : lj_R lm_P 195 [.ref 0, .int 3, .long (-1 : Int32).toInt64] (lj_put τ' 0 143 4) = _ := mo
    refine ⟨_, by rw [rm_194, km_194_0, e2, bi_ok, mo, bv_ok], ?_⟩
    rw [e1, bi_th]
    refine bi_nr ry hwk (h.sc (lf_put (lf_rf _ _) _ _ _ rfl) ((lf_put (lf_rf szM τ') 0 143 4 rfl).tr (oneM_z _ _))) (f.tr (lf_put (lf_rf _ _) _ _ _ rfl)) ⟨?_, ?_⟩ (by simp [lj_put_1, lj_putL_1]) ?_ hT
    · rw [(oneM_o _ _ (by omega)).1, lj_put_1, if_neg (by omega), (g 0 144 rfl).1]
    · rw [(oneM_o _ _ (by omega)).2]
      exact (g 0 145 rfl).2
    · rw [(oneM_o _ _ (by omega)).1]; exact (by simp [lj_put_1, lj_putL_1])
  · have hb : MB σ0 τ0 n np p r FP ρ A MO LA σ1 τ1 := h.st (l1.mo (fun k j q => by unfold erC at q; simp at q; exact q.1.1.1)) (l2.mo (fun k j q => by unfold erM at q; simp at q; exact q.1.1)) eG eM
    have f1 : lf bfC σ σ1 := f.tr (l1.mo (fun k j q => by unfold bfC at q; unfold cAc cAs; simp at q ⊢; omega))
    have g1 : lf bfM τ τ1 := g.tr (l2.mo (fun k j q => by unfold bfM at q; unfold mAc mAs; simp at q ⊢; omega))
    obtain ⟨τ2, q1, q2⟩ := bi_one D ry hwk ha hb f1 g1 (vR_str se s1 s2) hM (by omega) hX x
    refine ⟨τ2, by rw [rm_194, km_194_0, e2, bi_ok]; exact bvF q1, ?_⟩
    rw [e1, bi_ok]
    exact q2.fin
theorem bi_1 {σ0 τ0 σ τ : lj_S} {n np p : Nat} {r : List Nat} {FP : Nat → List kF} {ρ : Nat → Nat} {A MO LA : List Nat} {M : Nat} (D : DLV σ0 τ0 M) (h : MB σ0 τ0 n np p r FP ρ A MO LA σ τ) (ry : ryR σ τ) (hwk : wkR FP (p :: r) A σ) {as line : Int32} (ht : τ.1 0 129 = 1) (ha : awR σ0 (FP p) as (τ.1 0 130) (τ.1 0 131)) (hln : τ.1 0 132 = line) {G G' : List vT} (hG : gwR σ τ G G') (hGl : G.length ≤ 49) (hM : thM FP (p :: r) MO LA + 5001 ≤ M) {X : Nat} (hX : X ≤ TH) (hT : thM FP (p :: r) MO LA + 5001 ≤ X) : ∃ τ1, lj_R lm_P 187 [.ref 0, .int 1] τ = some (.inl none, τ1) ∧ ocR σ0 τ0 A (fun t => t ≤ X) σ τ1 (lj_R lc_P 159 [.ref 8, .int 1, .int as, .int line] σ) := by
  obtain ⟨b1, b2, b3⟩ := c_bgn σ
  obtain ⟨d2, d3⟩ := m_bgn τ
  have hA := h.sc (cAd_z b3) (mAd_z d3)
  have gA := hG.ad b3 d3
  have c0 := gA.c0 hGl
  have m1 := hG.m1 hGl
  obtain ⟨k, hk, ek, y, τ', t1, t2, t3, t4⟩ := m_type hA.2.1 (gA.v 0) d2 (by decide)
  obtain ⟨σ', s1, s2, s3⟩ := c_type (lj_put σ 3 6 0) b2 (by decide) k hk
  rw [List.nil_append] at s2 t3
  have kl : (cW (1014 + k)).length ≤ 1000 := by
    have : ∀ k, k < 7 → (cW (1014 + k)).length ≤ 1000 := by decide +kernel
    exact this k hk
  obtain ⟨τ2, q1, q2⟩ := bi_mk D ry hwk ha (hA.sc (cAd_z s3) (mAd_z t4)) ((cAd_b b3).tr (cAd_b s3)) ((mAd_b d3).tr (mAd_b t4)) s2 t3 kl (by omega) (by omega) hX 1
  rw [ek] at c0
  refine ⟨τ2, ?_, ?_⟩
  · rw [rm_187, km_187_0, if_neg (by decide), if_pos rfl, m1.1, bi_ok, m_136_any t1 τ, bi_ok, rm_193, km_193_0, t2, bv_ok, q1, bv_ok, bv_ok, km_187_308]
  · rw [rc_159, kc_159_0, if_neg (by decide), if_pos rfl, b1, bv_ok, c0.1, bi_ok, s1, bv_ok]
    simp only [kc_159_901]
    exact q2
theorem bi_2 {σ0 τ0 σ τ : lj_S} {n np p : Nat} {r : List Nat} {FP : Nat → List kF} {ρ : Nat → Nat} {A MO LA : List Nat} {M : Nat} (D : DLV σ0 τ0 M) (h : MB σ0 τ0 n np p r FP ρ A MO LA σ τ) (ry : ryR σ τ) (hwk : wkR FP (p :: r) A σ) {as line : Int32} (ht : τ.1 0 129 = 1) (ha : awR σ0 (FP p) as (τ.1 0 130) (τ.1 0 131)) (hln : τ.1 0 132 = line) {G G' : List vT} (hG : gwR σ τ G G') (hGl : G.length ≤ 49) (hM : thM FP (p :: r) MO LA + 5001 ≤ M) {X : Nat} (hX : X ≤ TH) (hT : thM FP (p :: r) MO LA + 5001 ≤ X) : ∃ τ1, lj_R lm_P 187 [.ref 0, .int 2] τ = some (.inl none, τ1) ∧ ocR σ0 τ0 A (fun t => t ≤ X) σ τ1 (lj_R lc_P 159 [.ref 8, .int 2, .int as, .int line] σ) := by
  have c0 := hG.c0 hGl
  have m1 := hG.m1 hGl
  have hv := hG.v 0
  by_cases z : (G.getD 0 (0, 0)).1 = 3
  · have z' : (G'.getD 0 (0, 0)).1 = 3 := (hv.kk (by decide) (by decide)).1 z
    obtain ⟨τ2, q1, q2⟩ := bi_one D ry hwk ha h (lf_rf _ _) (lf_rf _ _) hv (by omega) (by omega) hX 2
    rw [z'] at q1
    rw [z] at q2
    refine ⟨τ2, ?_, ?_⟩
    · rw [rm_187, km_187_0, if_neg (by decide), if_neg (by decide), if_pos rfl, m1.1, bi_ok, if_pos z', m1.2, bl_ok, q1, bv_ok, km_187_308]
    · rw [rc_159, kc_159_0, if_neg (by decide), if_neg (by decide), if_pos rfl, c0.1, bi_ok, if_pos z, c0.2, bl_ok]
      simp only [kc_159_901]
      exact q2.fin
  · have z' : ¬ ((G'.getD 0 (0, 0)).1 = 3) := fun y => z ((hv.kk (by decide) (by decide)).2 y)
    obtain ⟨b1, b2, b3⟩ := c_bgn σ
    obtain ⟨d2, d3⟩ := m_bgn τ
    have hA := h.sc (cAd_z b3) (mAd_z d3)
    have gA := hG.ad b3 d3
    have c0' := gA.c0 hGl
    have m1' := gA.m1 hGl
    obtain ⟨T, σ', τ', tl, t1, t2, t3, t4, t5, t6⟩ := cm_text hA.2.1 b2 d2 (by decide) (gA.v 0)
    rw [List.nil_append] at t3 t4
    obtain ⟨τ2, q1, q2⟩ := bi_mk D ry hwk ha (hA.sc (cAd_z t5) (mAd_z t6)) ((cAd_b b3).tr (cAd_b t5)) ((mAd_b d3).tr (mAd_b t6)) t3 t4 tl (by omega) (by omega) hX 2
    refine ⟨τ2, ?_, ?_⟩
    · rw [rm_187, km_187_0, if_neg (by decide), if_neg (by decide), if_pos rfl, m1.1, bi_ok, if_neg z', m1'.1, bi_ok, m1'.2, bl_ok, t2, bv_ok, q1, bv_ok, km_187_308]
    · rw [rc_159, kc_159_0, if_neg (by decide), if_neg (by decide), if_pos rfl, c0.1, bi_ok, if_neg z, b1, bv_ok, c0'.1, bi_ok, c0'.2, bl_ok, t1, bv_ok]
      simp only [kc_159_901]
      exact q2
theorem bi_0 {σ0 τ0 σ τ : lj_S} {n np p : Nat} {r : List Nat} {FP : Nat → List kF} {ρ : Nat → Nat} {A MO LA : List Nat} {M : Nat} (D : DLV σ0 τ0 M) (h : MB σ0 τ0 n np p r FP ρ A MO LA σ τ) (ry : ryR σ τ) (hwk : wkR FP (p :: r) A σ) {as line : Int32} (ht : τ.1 0 129 = 1) (ha : awR σ0 (FP p) as (τ.1 0 130) (τ.1 0 131)) (hln : τ.1 0 132 = line) {G G' : List vT} (hG : gwR σ τ G G') (hGl : G.length ≤ 49) (hM : thM FP (p :: r) MO LA + 5001 ≤ M) {X : Nat} (hX : X ≤ TH) (hT : thM FP (p :: r) MO LA + 5001 ≤ X) : ∃ τ1, lj_R lm_P 187 [.ref 0, .int 0] τ = some (.inl none, τ1) ∧ ocR σ0 τ0 A (fun t => t ≤ X) σ τ1 (lj_R lc_P 159 [.ref 8, .int 0, .int as, .int line] σ) := by
  obtain ⟨σ', τ', e1, e2, e3, e4, e5⟩ := cm_print (by omega) hG.1 hG.2.1 ⟨hG.2.2.1, hG.2.2.2⟩ h.2.1 h.2.2.2.2.2.2.2.2.2.2.2.1
  have oM : ∀ k j, ¬ (k = 0 ∧ (j = 129 ∨ j = 140)) → (lj_put (lj_put τ' 0 140 0) 0 129 1).1 k j = τ'.1 k j := fun k j z => by rw [lj_put_1, if_neg (by omega), lj_put_1, if_neg (by omega)]
  have oC : ∀ k j, ¬ (k = 8 ∧ j = 41) → (lj_put σ' 8 41 0).1 k j = σ'.1 k j := fun k j z => by rw [lj_put_1, if_neg (by omega)]
  have l1 : lf pzC σ (lj_put σ' 8 41 0) := lf_put (e4.mo (fun k j q => by unfold pzC szC otC at q; unfold prC otC cAd; simp at q ⊢; omega)) _ _ _ rfl
  have l2 : lf pzM τ (lj_put (lj_put τ' 0 140 0) 0 129 1) := lf_put (lf_put (e5.mo (fun k j q => by unfold pzM szM otM at q; unfold prM otM mAd; simp at q ⊢; omega)) _ _ _ rfl) _ _ _ rfl
  have hb := h.ou l1 l2 (by
    obtain ⟨x1, x2, x3⟩ := e3
    refine ⟨by rw [oC 8 50 (by omega), oM 0 150 (by omega)]; exact x1, by unfold lv; rw [oC 8 50 (by omega)]; exact x2, fun i i1 i2 => ?_⟩
    rw [oC 109 i (by omega), oM 94 i (by omega)]
    unfold lv at i2
    rw [oC 8 50 (by omega)] at i2
    exact x3 i i1 i2)
  have px := h.px hwk
  have dl := bi_dl D ry hwk ha hb (lf_put (e4.mo (fun k j q => by unfold bfC at q; unfold prC otC cAd; simp at q ⊢; omega)) _ _ _ rfl) (lf_put (lf_put (e5.mo (fun k j q => by unfold bfM at q; unfold prM otM mAd; simp at q ⊢; omega)) _ _ _ rfl) _ _ _ rfl) (by simp [lj_put_1, lj_putL_1]) (x_rs0 σ') (R' := []) ⟨by unfold lv; rw [lj_put_1, if_neg (by omega), lj_put_1, if_pos ⟨rfl, rfl⟩]; rfl, fun j hj => absurd hj (by simp)⟩ ⟨rfl, by simp, fun j => vR_nil _ _⟩ (by simp; omega) (by omega) (by omega) hX
  refine ⟨lj_put (lj_put τ' 0 140 0) 0 129 1, ?_, ?_⟩
  · rw [rm_187, km_187_0, if_pos rfl, e2, bv_ok, km_187_308]
  · rw [rc_159, kc_159_0, if_pos rfl, e1, bv_ok]
    simp only [kc_159_901]
    exact dl.fin
/-! what is built in: the others -/
theorem cb_more {x : Int32} (h : ∀ k : Nat, k < 17 → x ≠ Int32.ofNat k) (h31 : x ≠ 31) (as line : Int32) (σ : lj_S) : lj_R lc_P 159 [.ref 8, .int x, .int as, .int line] σ = finC (lj_R lc_P 187 [.ref 8, .int x, .int as, .int line] σ) := by
  rw [rc_159, kc_159_0, if_neg (show ¬ (x = 0) from h 0 (by decide)), if_neg (show ¬ (x = 1) from h 1 (by decide)), if_neg (show ¬ (x = 2) from h 2 (by decide)), if_neg (show ¬ (x = 3) from h 3 (by decide)), if_neg (show ¬ (x = 4) from h 4 (by decide)), if_neg (show ¬ (x = 5) from h 5 (by decide)), if_neg (show ¬ (x = 6) from h 6 (by decide)), if_neg (show ¬ (x = 7) from h 7 (by decide)), if_neg (show ¬ (x = 8) from h 8 (by decide)), if_neg (show ¬ (x = 9) from h 9 (by decide)), if_neg (show ¬ (x = 10) from h 10 (by decide)), if_neg (show ¬ (x = 11) from h 11 (by decide)), if_neg (show ¬ (x = 12) from h 12 (by decide)), if_neg (show ¬ (x = 13) from h 13 (by decide)), if_neg (show ¬ (x = 14) from h 14 (by decide)), if_neg (show ¬ (x = 15) from h 15 (by decide)), if_neg (show ¬ (x = 16) from h 16 (by decide))]
  simp only [if_neg h31, ite_self]
  rw [kc_159_894]
  simp only [kc_159_901]
  rfl
theorem mb_more {x : Int32} (h : ∀ k : Nat, k < 17 → x ≠ Int32.ofNat k) {τ τ' : lj_S} (e : lj_R lm_P 221 [.ref 0, .int x] τ = some (.inl none, τ')) : lj_R lm_P 187 [.ref 0, .int x] τ = some (.inl none, τ') := by
  rw [rm_187, km_187_0, if_neg (show ¬ (x = 0) from h 0 (by decide)), if_neg (show ¬ (x = 1) from h 1 (by decide)), if_neg (show ¬ (x = 2) from h 2 (by decide)), if_neg (show ¬ (x = 3) from h 3 (by decide)), if_neg (show ¬ (x = 4) from h 4 (by decide)), if_neg (show ¬ (x = 5) from h 5 (by decide)), if_neg (show ¬ (x = 6) from h 6 (by decide)), if_neg (show ¬ (x = 7) from h 7 (by decide)), if_neg (show ¬ (x = 8) from h 8 (by decide)), if_neg (show ¬ (x = 9) from h 9 (by decide)), if_neg (show ¬ (x = 10) from h 10 (by decide)), if_neg (show ¬ (x = 11) from h 11 (by decide)), if_neg (show ¬ (x = 12) from h 12 (by decide)), if_neg (show ¬ (x = 13) from h 13 (by decide)), if_neg (show ¬ (x = 14) from h 14 (by decide)), if_neg (show ¬ (x = 15) from h 15 (by decide)), if_neg (show ¬ (x = 16) from h 16 (by decide)), e, bv_ok, km_187_308]
