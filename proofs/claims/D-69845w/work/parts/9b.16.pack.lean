/-! what is built in: lists are written to -/
theorem MB.set {σ0 τ0 σ τ : lj_S} {n np p : Nat} {r : List Nat} {FP : Nat → List kF} {ρ : Nat → Nat} {A MO LA : List Nat} (h : MB σ0 τ0 n np p r FP ρ A MO LA σ τ) {t : Nat} (t1 : 1 ≤ t) (ht : t ≤ n) {a b : vT} (hab : vR σ τ a b) (ha : a.1 ≠ 0) {u w : vT} (huw : vR σ τ u w) (hk4 : σ.1 57 t = 4) :
    (lj_R lc_P 113 [.ref 7, .int (Int32.ofNat t), .int a.1, .long a.2, .int u.1, .long u.2] σ = some (.inr 2, lj_put σ 2 6 1) ∧ lj_R lm_P 108 [.ref 0, .int (Int32.ofNat t), .int b.1, .long b.2, .int w.1, .long w.2] τ = some (.inl (some (.int 0)), lj_put τ 0 143 4)) ∨
    ∃ σ' τ', lj_R lc_P 113 [.ref 7, .int (Int32.ofNat t), .int a.1, .long a.2, .int u.1, .long u.2] σ = some (.inl none, σ') ∧ lj_R lm_P 108 [.ref 0, .int (Int32.ofNat t), .int b.1, .long b.2, .int w.1, .long w.2] τ = some (.inl (some (.int 1)), τ') ∧ MB σ0 τ0 n np p r FP ρ A MO LA σ' τ' ∧ lf hwC σ σ' ∧ lf hwM τ τ' := by
  have := cm_set h.2.1.1 h.2.2.2.1 ht hab ha huw (fun z => by omega) hk4
  rw [tm_p t1] at this
  rcases this with w | ⟨σ', τ', s1, s2, s3, s4, s5⟩
  · exact Or.inl w
  · exact Or.inr ⟨σ', τ', s1, s2, h.hw s4 s5 s3, s4, s5⟩
theorem hwC_b {σ σ' : lj_S} (h : lf hwC σ σ') : lf bfC σ σ' := h.mo (fun k j q => by unfold bfC at q; unfold hwC; simp at q ⊢; omega)
theorem hwM_b {σ σ' : lj_S} (h : lf hwM σ σ') : lf bfM σ σ' := h.mo (fun k j q => by unfold bfM at q; unfold hwM; simp at q ⊢; omega)
theorem vR.hw {σ τ σ' τ' : lj_S} {a b : vT} (h : vR σ τ a b) (f : lf hwC σ σ') (g : lf hwM τ τ') : vR σ' τ' a b := h.cg (fun k j q => (f k j (by unfold vqC at q; unfold hwC; simp at q ⊢; omega)).1) (fun k j q => (g k j (by unfold vqM at q; unfold hwM; simp at q ⊢; omega)).1)
theorem gwR.hw {σ τ σ' τ' : lj_S} {G G' : List vT} (h : gwR σ τ G G') (f : lf hwC σ σ') (g : lf hwM τ τ') : gwR σ' τ' G G' := h.cg (fun k j q => f k j (by unfold hwC; simp; omega)) (fun k j q => g k j (by unfold hwM; simp; omega)) (fun _ _ z => z.hw f g)
/-- no room, and the model has still given one value -/
theorem bi_nr1 {σ0 τ0 σ τ σ' τ' : lj_S} {X n np p : Nat} {r : List Nat} {FP : Nat → List kF} {ρ : Nat → Nat} {A MO LA : List Nat} (ry : ryR σ τ) (hwk : wkR FP (p :: r) A σ) (h : MB σ0 τ0 n np p r FP ρ A MO LA σ' τ') (f : lf bfC σ σ') (g : lf bfM τ τ') (w : vT) (hT : thM FP (p :: r) MO LA + 1 ≤ X) : ocR σ0 τ0 A (fun t => t ≤ X) σ (oneM (lj_put τ' 0 143 4) w) (some (.inr 2, lj_put σ' 2 6 1)) := by
  refine bi_nr ry hwk (h.sc (lf_put (lf_rf _ _) _ _ _ rfl) ((lf_put (lf_rf szM τ') 0 143 4 rfl).tr (oneM_z _ _))) (f.tr (lf_put (lf_rf _ _) _ _ _ rfl)) ⟨?_, ?_⟩ (by simp [lj_put_1, lj_putL_1]) ?_ hT
  · rw [(oneM_o _ _ (by omega)).1, lj_put_1, if_neg (by omega), (g 0 144 rfl).1]
  · rw [(oneM_o _ _ (by omega)).2]
    exact (g 0 145 rfl).2
  · rw [(oneM_o _ _ (by omega)).1]; exact (by simp [lj_put_1, lj_putL_1])
/-- no room, and the model has given nothing -/
theorem bi_nr0 {σ0 τ0 σ τ σ' τ' : lj_S} {X n np p : Nat} {r : List Nat} {FP : Nat → List kF} {ρ : Nat → Nat} {A MO LA : List Nat} (ry : ryR σ τ) (hwk : wkR FP (p :: r) A σ) (h : MB σ0 τ0 n np p r FP ρ A MO LA σ' τ') (f : lf bfC σ σ') (g : lf bfM τ τ') (hT : thM FP (p :: r) MO LA + 1 ≤ X) : ocR σ0 τ0 A (fun t => t ≤ X) σ (lj_put τ' 0 143 4) (some (.inr 2, lj_put σ' 2 6 1)) := by
  refine bi_nr ry hwk (h.sc (lf_put (lf_rf _ _) _ _ _ rfl) (lf_put (lf_rf szM τ') 0 143 4 rfl)) (f.tr (lf_put (lf_rf _ _) _ _ _ rfl)) ⟨?_, ?_⟩ (by simp [lj_put_1, lj_putL_1]) (by simp [lj_put_1, lj_putL_1]) hT
  · rw [lj_put_1, if_neg (by omega), (g 0 144 rfl).1]
  · exact (g 0 145 rfl).2
/-- both write what is given into a list -/
theorem bpk_loop {σ0 τ0 σs τs : lj_S} {n np p : Nat} {r : List Nat} {FP : Nat → List kF} {ρ : Nat → Nat} {A MO LA : List Nat} {M X : Nat} (D : DLV σ0 τ0 M) (ry : ryR σs τs) (hwk : wkR FP (p :: r) A σs) {as : Int32} (ha : awR σ0 (FP p) as (τs.1 0 130) (τs.1 0 131)) (hM : thM FP (p :: r) MO LA ≤ M) (hT : thM FP (p :: r) MO LA + 1 ≤ X) (hX : X ≤ TH) {G G' : List vT} (hGl : G.length ≤ 49) {o : Nat} (o1 : 1 ≤ o) (on : o ≤ n) : ∀ (d k : Nat) (σ τ : lj_S), k + d = G.length → MB σ0 τ0 n np p r FP ρ A MO LA σ τ → obA σ τ o 4 → gwR σ τ G G' → lf bfC σs σ → lf bfM τs τ → ∃ τ1, lj_D lm_P lm_M225 15 [.ref 0, .int (Int32.ofNat o), .int 1, .int (Int32.ofNat (k + 1))] [] τ = some (.inl none, τ1) ∧ ocR σ0 τ0 A (fun t => t ≤ X) σs τ1 (lj_D lc_P lc_M193 14 [.ref 8, .int as, .int (Int32.ofNat o), .int (Int32.ofNat k)] [] σ)
  | 0, k, σ, τ, hd, h, ob, hG, f, g => by
    have e38 : σ.1 8 38 = Int32.ofNat G.length := lz_ext (by rw [lz_lit (by omega)]; exact hG.1.1)
    have e137 : τ.1 0 137 = Int32.ofNat G.length := lz_ext (by rw [lz_lit (by omega), hG.2.2.1]; exact hG.2.1.1)
    obtain ⟨s, s', u1, u2, e3, e4, e5⟩ := h.2.2.1.2.2
    have s36 : s' = 36 := ((ofN_eq (a := 36) (by omega) (by omega)).1 e4).symm
    subst s36
    have hv : vR σ τ (2, i64 G.length) (2, i64 G.length) := vR_whole _ _ _
    have mo := fun τx => m_one τx (4, i64 o)
    have rC : lj_D lc_P lc_M193 14 [.ref 8, .int as, .int (Int32.ofNat o), .int (Int32.ofNat k)] [] σ = lj_bv (lj_R lc_P 113 [.ref 7, .int (Int32.ofNat o), .int 3, .long (i64 s), .int 2, .long (i64 G.length)] σ) (fun σ1 => lj_bv (lj_R lc_P 164 [.ref 8, .int 20, .int 4, .long (Int32.ofNat o).toInt64, .int as] σ1) (fun σ2 => some (.inl none, σ2)) lj_up) lj_up := by
      rw [kc_193_14, e38, if_pos ((ofN_le (by omega) (by omega)).2 (by omega)), e3]
    have rM : lj_D lm_P lm_M225 15 [.ref 0, .int (Int32.ofNat o), .int 1, .int (Int32.ofNat (k + 1))] [] τ = lj_bi (lj_R lm_P 108 [.ref 0, .int (Int32.ofNat o), .int 3, .long (i64 36), .int 2, .long (i64 G.length)] τ) (fun y2 σ1 => (if y2 = 0 then lj_D lm_P lm_M225 78 [.ref 0, .int (Int32.ofNat o), .int 1, .int (Int32.ofNat (k + 1))] [] σ1 else lj_D lm_P lm_M225 79 [.ref 0, .int (Int32.ofNat o), .int 1, .int (Int32.ofNat (k + 1))] [.int 1] σ1)) lj_up := by
      rw [km_225_15, e137, if_pos (by rw [lz_lt, lz_lit (by omega), lz_lit (by omega)]; omega), km_225_52, if_neg (by decide), e137]
      rfl
    rcases h.set o1 on (vR_str e5 u1 u2) (show (3 : Int32) ≠ 0 by decide) hv ob.2.2.2.1 with ⟨s1, s2⟩ | ⟨σ', τ', s1, s2, s3, s4, s5⟩
    · have s1 : lj_R lc_P 113 [.ref 7, .int (Int32.ofNat o), .int 3, .long (i64 s), .int 2, .long (i64 G.length)] σ = _ := s1
      have s2 : lj_R lm_P 108 [.ref 0, .int (Int32.ofNat o), .int 3, .long (i64 36), .int 2, .long (i64 G.length)] τ = _ := s2
      have m1 := mo (lj_put τ 0 143 4)
      have m1 : lj_R lm_P 195 [.ref 0, .int 4, .long (Int32.ofNat o).toInt64] (lj_put τ 0 143 4) = _ := m1
      refine ⟨oneM (lj_put τ 0 143 4) (4, i64 o), by rw [rM, s2, bi_ok, if_pos rfl, km_225_78, km_225_79, m1, bv_ok], ?_⟩
      rw [rC, s1, bv_th]
      exact bi_nr1 ry hwk h f g _ hT
    · have s1 : lj_R lc_P 113 [.ref 7, .int (Int32.ofNat o), .int 3, .long (i64 s), .int 2, .long (i64 G.length)] σ = _ := s1
      have s2 : lj_R lm_P 108 [.ref 0, .int (Int32.ofNat o), .int 3, .long (i64 36), .int 2, .long (i64 G.length)] τ = _ := s2
      obtain ⟨τ2, p1, p2⟩ := bi_one D ry hwk ha s3 (f.tr (hwC_b s4)) (g.tr (hwM_b s5)) ((vR_ob (Or.inl rfl) ob).hw s4 s5) hM (by omega) hX 20
      have p1 : lj_R lm_P 195 [.ref 0, .int 4, .long (Int32.ofNat o).toInt64] τ' = some (.inl none, τ2) := p1
      refine ⟨τ2, by rw [rM, s2, bi_ok, if_neg (by decide), km_225_79, p1, bv_ok], ?_⟩
      rw [rC, s1, bv_ok]
      exact p2.fin
  | d + 1, k, σ, τ, hd, h, ob, hG, f, g => by
    have e38 : σ.1 8 38 = Int32.ofNat G.length := lz_ext (by rw [lz_lit (by omega)]; exact hG.1.1)
    have e137 : τ.1 0 137 = Int32.ofNat G.length := lz_ext (by rw [lz_lit (by omega), hG.2.2.1]; exact hG.2.1.1)
    have l1 : ¬ (Int32.ofNat G.length ≤ Int32.ofNat k) := fun z => by have := (ofN_le (by omega) (by omega)).1 z; omega
    have l2 : ¬ (Int32.ofNat G.length < Int32.ofNat (k + 1)) := by rw [lz_lt, lz_lit (by omega), lz_lit (by omega)]; omega
    have ik : lj_in (Int32.ofNat k) 128 := ofN_in (by omega) (by omega)
    have nk : (Int32.ofNat k).toNatClampNeg = k := lz_onat (by omega)
    obtain ⟨mk, mv⟩ := hG.m (by omega) (i := k) (by omega)
    have kC := hG.1.2 k (by omega)
    have hv := hG.v k
    have k1 : i64 k + 1 = i64 (k + 1) := i64_succ (by omega)
    have rC : lj_D lc_P lc_M193 14 [.ref 8, .int as, .int (Int32.ofNat o), .int (Int32.ofNat k)] [] σ = lj_bv (lj_R lc_P 113 [.ref 7, .int (Int32.ofNat o), .int 2, .long (i64 (k + 1)), .int (G.getD k (0, 0)).1, .long (G.getD k (0, 0)).2] σ) (fun σ3 => lj_D lc_P lc_M193 14 [.ref 8, .int as, .int (Int32.ofNat o), .int (Int32.ofNat (k + 1))] [] σ3) lj_up := by
      rw [kc_193_14, e38, if_neg l1, if_pos ik, if_pos ik, nk, lz_osucc, ← kC, ← k1]
    have rM : lj_D lm_P lm_M225 15 [.ref 0, .int (Int32.ofNat o), .int 1, .int (Int32.ofNat (k + 1))] [] τ = lj_bi (lj_R lm_P 108 [.ref 0, .int (Int32.ofNat o), .int 2, .long (i64 (k + 1)), .int (G'.getD k (0, 0)).1, .long (G'.getD k (0, 0)).2] τ) (fun y6 σ5 => lj_D lm_P lm_M225 15 [.ref 0, .int (Int32.ofNat o), .int y6, .int (Int32.ofNat (k + 1 + 1))] [] σ5) lj_up := by
      rw [km_225_15, e137, if_neg l2, if_neg (by decide), mk, bi_ok, mv, bl_ok, lz_osucc]
    rcases h.set o1 on (vR_whole σ τ (i64 (k + 1))) (show (2 : Int32) ≠ 0 by decide) hv ob.2.2.2.1 with ⟨s1, s2⟩ | ⟨σ', τ', s1, s2, s3, s4, s5⟩
    · have s1 : lj_R lc_P 113 [.ref 7, .int (Int32.ofNat o), .int 2, .long (i64 (k + 1)), .int (G.getD k (0, 0)).1, .long (G.getD k (0, 0)).2] σ = _ := s1
      have s2 : lj_R lm_P 108 [.ref 0, .int (Int32.ofNat o), .int 2, .long (i64 (k + 1)), .int (G'.getD k (0, 0)).1, .long (G'.getD k (0, 0)).2] τ = _ := s2
      have m1 := m_one (lj_put τ 0 143 4) (4, i64 o)
      have m1 : lj_R lm_P 195 [.ref 0, .int 4, .long (Int32.ofNat o).toInt64] (lj_put τ 0 143 4) = _ := m1
      have r52 : lj_D lm_P lm_M225 52 [.ref 0, .int (Int32.ofNat o), .int 0, .int (Int32.ofNat (k + 1 + 1))] [] (lj_put τ 0 143 4) = some (.inl none, oneM (lj_put τ 0 143 4) (4, i64 o)) := by
        rw [km_225_52, if_pos rfl, km_225_78, km_225_79, m1, bv_ok]
      refine ⟨oneM (lj_put τ 0 143 4) (4, i64 o), ?_, ?_⟩
      · rw [rM, s2, bi_ok, km_225_15]
        by_cases y : (lj_put τ 0 143 4).1 0 137 < Int32.ofNat (k + 1 + 1)
        · rw [if_pos y, r52]
        · rw [if_neg y, if_pos rfl, r52]
      · rw [rC, s1, bv_th]
        exact bi_nr1 ry hwk h f g _ hT
    · have s1 : lj_R lc_P 113 [.ref 7, .int (Int32.ofNat o), .int 2, .long (i64 (k + 1)), .int (G.getD k (0, 0)).1, .long (G.getD k (0, 0)).2] σ = _ := s1
      have s2 : lj_R lm_P 108 [.ref 0, .int (Int32.ofNat o), .int 2, .long (i64 (k + 1)), .int (G'.getD k (0, 0)).1, .long (G'.getD k (0, 0)).2] τ = _ := s2
      have ob' : obA σ' τ' o 4 := ⟨ob.1, ob.2.1, by rw [s4.v rfl]; exact ob.2.2.1, by rw [(s4 57 o rfl).1]; exact ob.2.2.2.1, by rw [(s5 38 o rfl).1]; exact ob.2.2.2.2⟩
      obtain ⟨τ1, q1, q2⟩ := bpk_loop D ry hwk ha hM hT hX hGl o1 on d (k + 1) σ' τ' (by omega) s3 ob' (hG.hw s4 s5) (f.tr (hwC_b s4)) (g.tr (hwM_b s5))
      refine ⟨τ1, by rw [rM, s2, bi_ok]; exact q1, ?_⟩
      rw [rC, s1, bv_ok]
      exact q2
theorem bi_20 {σ0 τ0 σ τ : lj_S} {n np p : Nat} {r : List Nat} {FP : Nat → List kF} {ρ : Nat → Nat} {A MO LA : List Nat} {M : Nat} (D : DLV σ0 τ0 M) (h : MB σ0 τ0 n np p r FP ρ A MO LA σ τ) (ry : ryR σ τ) (hwk : wkR FP (p :: r) A σ) {as line : Int32} (ht : τ.1 0 129 = 1) (ha : awR σ0 (FP p) as (τ.1 0 130) (τ.1 0 131)) (hln : τ.1 0 132 = line) {G G' : List vT} (hG : gwR σ τ G G') (hGl : G.length ≤ 49) (hM : thM FP (p :: r) MO LA + 5001 ≤ M) {X : Nat} (hX : X ≤ TH) (hT : thM FP (p :: r) MO LA + 5001 ≤ X) : ∃ τ1, lj_R lm_P 187 [.ref 0, .int 20] τ = some (.inl none, τ1) ∧ ocR σ0 τ0 A (fun t => t ≤ X) σ τ1 (lj_R lc_P 159 [.ref 8, .int 20, .int as, .int line] σ) := by
  have rC : ∀ {x : Option lj_O}, lj_R lc_P 193 [.ref 8, .int as] σ = x → lj_R lc_P 159 [.ref 8, .int 20, .int as, .int line] σ = finC (finC x) := fun e => by
    rw [cb_more (by decide) (by decide), rc_187, kc_187_0, if_neg (by decide), if_neg (by decide), if_neg (by decide), if_pos rfl, e]
    simp only [kc_187_919]
    rfl
  have rM : ∀ {τx : lj_S}, lj_R lm_P 225 [.ref 0] τ = some (.inl none, τx) → lj_R lm_P 187 [.ref 0, .int 20] τ = some (.inl none, τx) := fun e => mb_more (by decide) (by rw [rm_221, km_221_0, if_neg (by decide), if_neg (by decide), if_neg (by decide), if_pos rfl, e, bv_ok, km_221_215])
  rcases cm_object h.2.2.2.1 4 with ⟨z, x1, x2⟩ | ⟨z, x1, x2, x3, x4, x5⟩
  · refine ⟨lj_put τ 0 143 4, rM ?_, ?_⟩
    · rw [rm_225, km_225_0, x2, bi_ok, if_pos rfl]
    · rw [rC rfl, rc_193, kc_193_0, x1, bi_th]
      exact (bi_nr0 ry hwk h (lf_rf _ _) (lf_rf _ _) (by omega)).fin.fin
  · obtain ⟨y1, y2⟩ := h.nt z x3 x4 x5
    have oC : ∀ k j, ¬ (k = 7 ∧ j = 0) → k < 57 ∨ 61 < k → k ≠ 65 → (cOb σ (n + 1) 4).1 k j = σ.1 k j := fun k j w1 w2 w3 => by
      rw [cOb_1]; repeat rw [if_neg (by omega)]
    have oM : ∀ k j, ¬ (k = 0 ∧ j = 77) → k < 38 ∨ 41 < k → (mOb τ (n + 1) 4).1 k j = τ.1 k j := fun k j w1 w2 => by
      rw [mOb_1]; repeat rw [if_neg (by omega)]
    have oM2 : ∀ k j, k ≠ 42 → (mOb τ (n + 1) 4).2 k j = τ.2 k j := fun k j w => by rw [mOb_2, if_neg (by omega)]
    have gw : gwR (cOb σ (n + 1) 4) (mOb τ (n + 1) 4) G G' := hG.cg (fun k j q => ⟨oC k j (by omega) (by omega) (by omega), by rw [cOb_2]⟩) (fun k j q => ⟨oM k j (by omega) (by omega), oM2 k j (by omega)⟩) (fun _ _ w => w.up x4 x5)
    have f : lf bfC σ (cOb σ (n + 1) 4) := fun k j q => ⟨oC k j (by unfold bfC at q; simp at q; omega) (by unfold bfC at q; simp at q; omega) (by unfold bfC at q; simp at q; omega), by rw [cOb_2]⟩
    have g : lf bfM τ (mOb τ (n + 1) 4) := fun k j q => ⟨oM k j (by unfold bfM at q; simp at q; omega) (by unfold bfM at q; simp at q; omega), oM2 k j (by unfold bfM at q; simp at q; omega)⟩
    obtain ⟨τ1, q1, q2⟩ := bpk_loop D ry hwk ha (M := M) (X := X) (by omega) (by omega) hX hGl (o := n + 1) (by omega) (Nat.le_refl _) G.length 0 _ _ (by omega) y1 y2 gw f g
    have nz : ¬ (Int32.ofNat (n + 1) = 0) := fun y => by
      have := (ofN_eq (a := n + 1) (c := 0) (by omega) (by omega)).1 y
      omega
    refine ⟨τ1, rM ?_, ?_⟩
    · have q1 : lj_D lm_P lm_M225 15 [.ref 0, .int (Int32.ofNat (n + 1)), .int 1, .int 1] [] (mOb τ (n + 1) 4) = some (.inl none, τ1) := q1
      rw [rm_225, km_225_0, x2, bi_ok, if_neg nz, q1]
    · rw [rC rfl, rc_193, kc_193_0, x1, bi_ok]
      exact q2.fin.fin
