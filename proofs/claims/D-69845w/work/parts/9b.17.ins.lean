/-! what is built in: insert -/
def noneM (τ : lj_S) : lj_S := lj_put (lj_put τ 0 140 0) 0 129 1
theorem m_none (τ : lj_S) : lj_R lm_P 192 [.ref 0] τ = some (.inl none, noneM τ) := by
  rw [rm_192, km_192_0]
  rfl
theorem noneM_z (τ : lj_S) : lf szM τ (noneM τ) := lf_put (lf_put (lf_rf _ _) _ _ _ rfl) _ _ _ rfl
theorem noneM_b (τ : lj_S) : lf bfM τ (noneM τ) := lf_put (lf_put (lf_rf _ _) _ _ _ rfl) _ _ _ rfl
/-- nothing is given -/
theorem bi_none {σ0 τ0 σ τ σ' τ' : lj_S} {n np p : Nat} {r : List Nat} {FP : Nat → List kF} {ρ : Nat → Nat} {A MO LA : List Nat} {M X : Nat} (D : DLV σ0 τ0 M) (ry : ryR σ τ) (hwk : wkR FP (p :: r) A σ) {as : Int32} (ha : awR σ0 (FP p) as (τ.1 0 130) (τ.1 0 131)) (h : MB σ0 τ0 n np p r FP ρ A MO LA σ' τ') (f : lf bfC σ σ') (g : lf bfM τ τ') (hM : thM FP (p :: r) MO LA ≤ M) (hT : thM FP (p :: r) MO LA ≤ X) (hX : X ≤ TH) : ocR σ0 τ0 A (fun t => t ≤ X) σ (noneM τ') (lj_R lc_P 144 [.ref 8, .int as] (lj_put σ' 8 41 0)) := by
  have px := h.px hwk
  exact bi_dl D ry hwk ha (h.sc (lf_put (lf_rf _ _) _ _ _ rfl) (noneM_z τ')) (f.tr (lf_put (lf_rf _ _) _ _ _ rfl)) (g.tr (noneM_b τ')) (by unfold noneM; exact (by simp [lj_put_1, lj_putL_1])) (x_rs0 σ') (R' := []) ⟨by unfold lv noneM; rw [lj_put_1, if_neg (by omega), lj_put_1, if_pos ⟨rfl, rfl⟩]; rfl, fun j hj => absurd hj (by simp)⟩ ⟨rfl, by simp, fun j => vR_nil _ _⟩ (by simp; omega) hM (by omega) hX
/-- no room, and the model has given nothing -/
theorem bi_nrn {σ0 τ0 σ τ σ' τ' : lj_S} {X n np p : Nat} {r : List Nat} {FP : Nat → List kF} {ρ : Nat → Nat} {A MO LA : List Nat} (ry : ryR σ τ) (hwk : wkR FP (p :: r) A σ) (h : MB σ0 τ0 n np p r FP ρ A MO LA σ' τ') (f : lf bfC σ σ') (g : lf bfM τ τ') (hT : thM FP (p :: r) MO LA + 1 ≤ X) : ocR σ0 τ0 A (fun t => t ≤ X) σ (noneM (lj_put τ' 0 143 4)) (some (.inr 2, lj_put σ' 2 6 1)) := by
  refine bi_nr ry hwk (h.sc (lf_put (lf_rf _ _) _ _ _ rfl) ((lf_put (lf_rf szM τ') 0 143 4 rfl).tr (noneM_z _))) (f.tr (lf_put (lf_rf _ _) _ _ _ rfl)) ⟨?_, ?_⟩ (by simp [lj_put_1, lj_putL_1]) ?_ hT
  · unfold noneM
    rw [lj_put_1, if_neg (by omega), lj_put_1, if_neg (by omega), lj_put_1, if_neg (by omega), (g 0 144 rfl).1]
  · exact (g 0 145 rfl).2
  · unfold noneM
    exact (by simp [lj_put_1, lj_putL_1])
theorem i64_pred {k : Nat} (h : k < 2147483647) : i64 (k + 1) - 1 = i64 k := by
  rw [← i64_succ h, Int64.add_sub_cancel]
/-- both move the values of a list, then write the new one -/
theorem is_loop {σ0 τ0 σs τs : lj_S} {n np p : Nat} {r : List Nat} {FP : Nat → List kF} {ρ : Nat → Nat} {A MO LA : List Nat} {M X : Nat} (D : DLV σ0 τ0 M) (ry : ryR σs τs) (hwk : wkR FP (p :: r) A σs) {as : Int32} (ha : awR σ0 (FP p) as (τs.1 0 130) (τs.1 0 131)) (hM : thM FP (p :: r) MO LA ≤ M) (hT : thM FP (p :: r) MO LA + 1 ≤ X) (hX : X ≤ TH) {G G' : List vT} (hGl : G.length ≤ 49) {o q : Nat} (o1 : 1 ≤ o) (on : o ≤ n) (q1 : 1 ≤ q) (e1 : G.getD 1 (0, 0) = (2, i64 q)) (e2 : G'.getD 1 (0, 0) = (2, i64 q)) (line : Int32) (N : Int64) : ∀ (d k : Nat) (σ τ : lj_S) (X8 : Value), k + 1 = q + d → k ≤ 3000 → MB σ0 τ0 n np p r FP ρ A MO LA σ τ → gwR σ τ G G' → lf bfC σs σ → lf bfM τs τ → σ.1 57 o = 4 → ∃ τ1, lj_D lm_P lm_M222 112 [.ref 0, .int (Int32.ofNat o), .long N, .retAddr 0, .int 1, .long (i64 k), .retAddr 0] [] τ = some (.inl none, τ1) ∧ ocR σ0 τ0 A (fun t => t ≤ X) σs τ1 (lj_D lc_P lc_M188 121 [.ref 8, .int (Int32.ofNat o), .int line, .int as, .long N, .retAddr 0, .long (i64 k), .retAddr 0, X8] [] σ)
  | 0, k, σ, τ, X8, hd, hk, h, hG, f, g, h57 => by
    have c1 := hG.c1 hGl
    have c2 := hG.c2 hGl
    have m2 := hG.m2 hGl
    have m3 := hG.m3 hGl
    rw [e1] at c1
    rw [e2] at m2
    have lt : lg_cmp (i64 k) (i64 q) < 0 := (lg_lt _ _).2 (Int64.lt_iff_toInt_lt.2 (by rw [i64_int (by omega), i64_int (by omega)]; omega))
    rcases h.set o1 on (vR_whole σ τ (i64 q)) (show (2 : Int32) ≠ 0 by decide) (hG.v 2) h57 with ⟨s1, s2⟩ | ⟨σ', τ', s1, s2, s3, s4, s5⟩
    · have s1 : lj_R lc_P 113 [.ref 7, .int (Int32.ofNat o), .int 2, .long (i64 q), .int (G.getD 2 (0, 0)).1, .long (G.getD 2 (0, 0)).2] σ = _ := s1
      have s2 : lj_R lm_P 108 [.ref 0, .int (Int32.ofNat o), .int 2, .long (i64 q), .int (G'.getD 2 (0, 0)).1, .long (G'.getD 2 (0, 0)).2] τ = _ := s2
      refine ⟨noneM (lj_put τ 0 143 4), ?_, ?_⟩
      · rw [km_222_112, m2.2, bl_ok, if_pos lt, km_222_165, if_neg (by decide), m2.2, bl_ok, m3.1, bi_ok, m3.2, bl_ok, s2, bi_ok, if_pos rfl, km_222_198, km_222_199, m_none, bv_ok]
      · rw [kc_188_121, c1.2, bl_ok, if_pos lt, c1.2, bl_ok, c2.1, bi_ok, c2.2, bl_ok, s1, bv_th]
        exact bi_nrn ry hwk h f g hT
    · have s1 : lj_R lc_P 113 [.ref 7, .int (Int32.ofNat o), .int 2, .long (i64 q), .int (G.getD 2 (0, 0)).1, .long (G.getD 2 (0, 0)).2] σ = _ := s1
      have s2 : lj_R lm_P 108 [.ref 0, .int (Int32.ofNat o), .int 2, .long (i64 q), .int (G'.getD 2 (0, 0)).1, .long (G'.getD 2 (0, 0)).2] τ = _ := s2
      have dl := bi_none D ry hwk ha s3 (f.tr (hwC_b s4)) (g.tr (hwM_b s5)) hM (by omega) hX
      refine ⟨noneM τ', ?_, ?_⟩
      · rw [km_222_112, m2.2, bl_ok, if_pos lt, km_222_165, if_neg (by decide), m2.2, bl_ok, m3.1, bi_ok, m3.2, bl_ok, s2, bi_ok, if_neg (by decide), km_222_199, m_none, bv_ok]
      · rw [kc_188_121, c1.2, bl_ok, if_pos lt, c1.2, bl_ok, c2.1, bi_ok, c2.2, bl_ok, s1, bv_ok, kc_188_220]
        exact dl.fin
  | d + 1, k, σ, τ, X8, hd, hk, h, hG, f, g, h57 => by
    have c1 := hG.c1 hGl
    have m2 := hG.m2 hGl
    rw [e1] at c1
    rw [e2] at m2
    have lt : ¬ (lg_cmp (i64 k) (i64 q) < 0) := fun y => by
      have := Int64.lt_iff_toInt_lt.1 ((lg_lt _ _).1 y)
      rw [i64_int (by omega), i64_int (by omega)] at this
      omega
    obtain ⟨u, w, a1, a2, a3⟩ := cm_get h.2.1.1 h.2.2.2.1 on (vR_whole σ τ (i64 k))
    rw [tm_p o1] at a3
    have hB := h.fd u w
    have gB := hG.fd u w
    have f1 : (fdC σ u).1 7 27 = u.1 := by rw [fdC_1, if_pos ⟨rfl, rfl⟩]
    have f2 : (fdC σ u).2 7 28 = u.2 := by rw [fdC_2, if_pos ⟨rfl, rfl⟩]
    have f3 : (fdM τ w).1 0 90 = w.1 := by rw [fdM_1, if_pos ⟨rfl, rfl⟩]
    have f4 : (fdM τ w).2 0 91 = w.2 := by rw [fdM_2, if_pos ⟨rfl, rfl⟩]
    obtain ⟨k', rfl⟩ : ∃ k', k = k' + 1 := ⟨k - 1, by omega⟩
    have kp : i64 (k' + 1) + 1 = i64 (k' + 1 + 1) := i64_succ (by omega)
    have km : i64 (k' + 1) - 1 = i64 k' := i64_pred (by omega)
    have rC : lj_D lc_P lc_M188 121 [.ref 8, .int (Int32.ofNat o), .int line, .int as, .long N, .retAddr 0, .long (i64 (k' + 1)), .retAddr 0, X8] [] σ = lj_bv (lj_R lc_P 113 [.ref 7, .int (Int32.ofNat o), .int 2, .long (i64 (k' + 1 + 1)), .int u.1, .long u.2] (fdC σ u)) (fun σ12 => lj_D lc_P lc_M188 121 [.ref 8, .int (Int32.ofNat o), .int line, .int as, .long N, .retAddr 0, .long (i64 k'), .retAddr 0, .int (if u.1 = 0 then 0 else 1)] [] σ12) lj_up := by
      rw [kc_188_121, c1.2, bl_ok, if_neg lt, a2, bi_ok, f1, f2, kp, km]
    have rM : lj_D lm_P lm_M222 112 [.ref 0, .int (Int32.ofNat o), .long N, .retAddr 0, .int 1, .long (i64 (k' + 1)), .retAddr 0] [] τ = lj_bi (lj_R lm_P 108 [.ref 0, .int (Int32.ofNat o), .int 2, .long (i64 (k' + 1 + 1)), .int w.1, .long w.2] (fdM τ w)) (fun y5 σ4 => lj_D lm_P lm_M222 112 [.ref 0, .int (Int32.ofNat o), .long N, .retAddr 0, .int y5, .long (i64 k'), .retAddr 0] [] σ4) lj_up := by
      rw [km_222_112, m2.2, bl_ok, if_neg lt, if_neg (by decide), a3, bv_ok, f3, f4, kp, km]
    rcases hB.set o1 on (vR_whole (fdC σ u) (fdM τ w) (i64 (k' + 1 + 1))) (show (2 : Int32) ≠ 0 by decide) (a1.fd u w) (by rw [fdC_1, if_neg (by omega)]; exact h57) with ⟨s1, s2⟩ | ⟨σ', τ', s1, s2, s3, s4, s5⟩
    · have s1 : lj_R lc_P 113 [.ref 7, .int (Int32.ofNat o), .int 2, .long (i64 (k' + 1 + 1)), .int u.1, .long u.2] (fdC σ u) = _ := s1
      have s2 : lj_R lm_P 108 [.ref 0, .int (Int32.ofNat o), .int 2, .long (i64 (k' + 1 + 1)), .int w.1, .long w.2] (fdM τ w) = _ := s2
      have gn : gwR (fdC σ u) (lj_put (fdM τ w) 0 143 4) G G' := gB.cg (fun _ _ _ => ⟨rfl, rfl⟩) (fun k j q => ⟨by rw [lj_put_1, if_neg (by omega)], rfl⟩) (fun _ _ z => z.cg (fun _ _ _ => rfl) (fun k j q => by rw [lj_put_1, if_neg (by unfold vqM at q; simp at q; omega)]))
      have m2' := gn.m2 hGl
      rw [e2] at m2'
      have r165 : lj_D lm_P lm_M222 165 [.ref 0, .int (Int32.ofNat o), .long N, .retAddr 0, .int 0, .long (i64 k'), .retAddr 0] [] (lj_put (fdM τ w) 0 143 4) = some (.inl none, noneM (lj_put (fdM τ w) 0 143 4)) := by
        rw [km_222_165, if_pos rfl, km_222_198, km_222_199, m_none, bv_ok]
      refine ⟨noneM (lj_put (fdM τ w) 0 143 4), ?_, ?_⟩
      · rw [rM, s2, bi_ok, km_222_112, m2'.2, bl_ok]
        by_cases y : lg_cmp (i64 k') (i64 q) < 0
        · rw [if_pos y, r165]
        · rw [if_neg y, if_pos rfl, r165]
      · rw [rC, s1, bv_th]
        exact bi_nrn ry hwk hB (f.tr (lf_fdC σ u)) (g.tr (lf_fdM τ w)) hT
    · have s1 : lj_R lc_P 113 [.ref 7, .int (Int32.ofNat o), .int 2, .long (i64 (k' + 1 + 1)), .int u.1, .long u.2] (fdC σ u) = _ := s1
      have s2 : lj_R lm_P 108 [.ref 0, .int (Int32.ofNat o), .int 2, .long (i64 (k' + 1 + 1)), .int w.1, .long w.2] (fdM τ w) = _ := s2
      obtain ⟨τ1, r1, r2⟩ := is_loop D ry hwk ha hM hT hX hGl o1 on q1 e1 e2 line N d k' σ' τ' (.int (if u.1 = 0 then 0 else 1)) (by omega) (by omega) s3 (gB.hw s4 s5) ((f.tr (lf_fdC σ u)).tr (hwC_b s4)) ((g.tr (lf_fdM τ w)).tr (hwM_b s5)) (by rw [(s4 57 o rfl).1, fdC_1, if_neg (by omega)]; exact h57)
      refine ⟨τ1, by rw [rM, s2, bi_ok]; exact r1, ?_⟩
      rw [rC, s1, bv_ok]
      exact r2
theorem bi_17 {σ0 τ0 σ τ : lj_S} {n np p : Nat} {r : List Nat} {FP : Nat → List kF} {ρ : Nat → Nat} {A MO LA : List Nat} {M : Nat} (D : DLV σ0 τ0 M) (h : MB σ0 τ0 n np p r FP ρ A MO LA σ τ) (ry : ryR σ τ) (hwk : wkR FP (p :: r) A σ) {as line : Int32} (ht : τ.1 0 129 = 1) (ha : awR σ0 (FP p) as (τ.1 0 130) (τ.1 0 131)) (hln : τ.1 0 132 = line) {G G' : List vT} (hG : gwR σ τ G G') (hGl : G.length ≤ 49) (hM : thM FP (p :: r) MO LA + 5001 ≤ M) {X : Nat} (hX : X ≤ TH) (hT : thM FP (p :: r) MO LA + 5001 ≤ X) : ∃ τ1, lj_R lm_P 187 [.ref 0, .int 17] τ = some (.inl none, τ1) ∧ ocR σ0 τ0 A (fun t => t ≤ X) σ τ1 (lj_R lc_P 159 [.ref 8, .int 17, .int as, .int line] σ) := by
  have m1 := hG.m1 hGl
  have e38 : σ.1 8 38 = Int32.ofNat G.length := lz_ext (by rw [lz_lit (by omega)]; exact hG.1.1)
  have e137 : τ.1 0 137 = Int32.ofNat G.length := lz_ext (by rw [lz_lit (by omega), hG.2.2.1]; exact hG.2.1.1)
  have rM : ∀ {τx : lj_S}, lj_R lm_P 222 [.ref 0] τ = some (.inl none, τx) → lj_R lm_P 187 [.ref 0, .int 17] τ = some (.inl none, τx) := fun e => mb_more (by decide) (by rw [rm_221, km_221_0, if_pos rfl, e, bv_ok, km_221_215])
  rcases bi_tab h.2.1 h.2.2.2.1 hG (by omega) hln (w := 17) (by decide) with ⟨o, ob, on, e1, e2, e3, e4⟩ | ⟨σ', τ', q1, q2, q3⟩
  · have e3 : lj_R lc_P 167 [.ref 8, .int 0, .int 17, .int line] σ = some (.inl (some (.int (Int32.ofNat o))), σ) := e3
    have e4 : lj_R lm_P 198 [.ref 0, .int 1, .int 4, .int 17] τ = some (.inl (some (.int 1)), τ) := e4
    rw [e2] at m1
    have rC : ∀ {x : Option lj_O}, lj_R lc_P 188 [.ref 8, .int (Int32.ofNat o), .int line, .int as] σ = x → lj_R lc_P 159 [.ref 8, .int 17, .int as, .int line] σ = finC (finC x) := fun e => by
      rw [cb_more (by decide) (by decide), rc_187, kc_187_0, if_pos rfl, e3, bi_ok, e]
      simp only [kc_187_919]
      rfl
    obtain ⟨m, hm, a1, a2⟩ := cm_len h.2.1.1 h.2.2.2.1 on
    rw [tm_p ob.1] at a2
    have hB := h.fd (0, 0) (0, 0)
    have gB := hG.fd (0, 0) (0, 0)
    have c1 := gB.c1 hGl
    have m2 := gB.m2 hGl
    have g38 : (fdC σ (0, 0)).1 8 38 = Int32.ofNat G.length := by rw [fdC_1, if_neg (by omega)]; exact e38
    have g137 : (fdM τ (0, 0)).1 0 137 = Int32.ofNat G.length := by rw [fdM_1, if_neg (by omega)]; exact e137
    have kp : i64 m + 1 = i64 (m + 1) := i64_succ (by omega)
    have headM : lj_R lm_P 222 [.ref 0] τ = lj_bl (lj_R lm_P 166 [.ref 0, .int (Int32.ofNat o)] τ) (fun y6 σ5 => (if (σ5.1 0 137) = 2 then lj_bi (lj_R lm_P 190 [.ref 0, .int 2] σ5) (fun y14 σ13 => lj_bl (lj_R lm_P 191 [.ref 0, .int 2] σ13) (fun y16 σ15 => lj_bi (lj_R lm_P 108 [.ref 0, .int (Int32.ofNat o), .int 2, .long (y6 + 1), .int y14, .long y16] σ15) (fun y18 σ17 => lj_bv (lj_R lm_P 192 [.ref 0] σ17) (fun σ19 => some (.inl none, σ19)) lj_up) lj_up) lj_up) lj_up else (if (σ5.1 0 137) = 3 then lj_bi (lj_R lm_P 190 [.ref 0, .int 2] σ5) (fun y8 σ7 => (if y8 = 2 then lj_bl (lj_R lm_P 191 [.ref 0, .int 2] σ7) (fun y10 σ9 => (if (lg_cmp y10 1) < 0 then lj_D lm_P lm_M222 98 [.ref 0, .int (Int32.ofNat o), .long y6, .retAddr 0, .retAddr 0, .retAddr 0, .retAddr 0] [] σ9 else lj_bl (lj_R lm_P 191 [.ref 0, .int 2] σ9) (fun y12 σ11 => (if (lg_cmp y12 (y6 + 1)) ≤ 0 then lj_D lm_P lm_M222 112 [.ref 0, .int (Int32.ofNat o), .long y6, .retAddr 0, .int 1, .long y6, .retAddr 0] [] σ11 else lj_D lm_P lm_M222 98 [.ref 0, .int (Int32.ofNat o), .long y6, .retAddr 0, .retAddr 0, .retAddr 0, .retAddr 0] [] σ11)) lj_up)) lj_up else lj_D lm_P lm_M222 98 [.ref 0, .int (Int32.ofNat o), .long y6, .retAddr 0, .retAddr 0, .retAddr 0, .retAddr 0] [] σ7)) lj_up else lj_D lm_P lm_M222 98 [.ref 0, .int (Int32.ofNat o), .long y6, .retAddr 0, .retAddr 0, .retAddr 0, .retAddr 0] [] σ5))) lj_up := by
      rw [rm_222, km_222_0, e4, bi_ok, if_neg (by decide), m1.2, bl_ok]
      simp only [i64_32]
    -- a bad second one, behind the length
    have bad : ∀ (σx : lj_S), MB σ0 τ0 n np p r FP ρ A MO LA σx (fdM τ (0, 0)) → lf bfC σ σx → lj_R lm_P 222 [.ref 0] τ = lj_D lm_P lm_M222 98 [.ref 0, .int (Int32.ofNat o), .long (i64 m), .retAddr 0, .retAddr 0, .retAddr 0, .retAddr 0] [] (fdM τ (0, 0)) → (∀ σ' , lj_R lc_P 168 [.ref 8, .int 0, .int 2, .int 17, .int line] σx = some (.inr 2, σ') → lj_R lc_P 188 [.ref 8, .int (Int32.ofNat o), .int line, .int as] σ = some (.inr 2, σ')) → ∃ τ1, lj_R lm_P 187 [.ref 0, .int 17] τ = some (.inl none, τ1) ∧ ocR σ0 τ0 A (fun t => t ≤ X) σ τ1 (lj_R lc_P 159 [.ref 8, .int 17, .int as, .int line] σ) := fun σx hx fx r1 r2 => by
      have f132 : (fdM τ (0, 0)).1 0 132 = line := by rw [fdM_1, if_neg (by omega)]; exact hln
      obtain ⟨σ', τ', q1, q2, q3⟩ := nd_bad hx.2.1 f132 2 (w := 17) (by decide)
      have q1 : lj_R lc_P 168 [.ref 8, .int 0, .int 2, .int 17, .int line] σx = some (.inr 2, σ') := q1
      have q2 : lj_R lm_P 199 [.ref 0, .int 2, .int 17] (fdM τ (0, 0)) = some (.inl none, τ') := q2
      refine ⟨τ', rM (by rw [r1, km_222_98, q2, bv_ok]), ?_⟩
      rw [rC (r2 σ' q1)]
      exact (bt_er ry hwk hx fx (lf_fdM τ _) q3 (by omega)).fin.fin
    have two : (σ.1 8 38 = 2 ↔ G.length = 2) := by
      rw [e38]
      exact ofN_eq (c := 2) (by omega) (by omega)
    have three : (σ.1 8 38 = 3 ↔ G.length = 3) := by
      rw [e38]
      exact ofN_eq (c := 3) (by omega) (by omega)
    have two' : ((fdM τ (0, 0)).1 0 137 = 2 ↔ G.length = 2) := by
      rw [g137]
      exact ofN_eq (c := 2) (by omega) (by omega)
    have three' : ((fdM τ (0, 0)).1 0 137 = 3 ↔ G.length = 3) := by
      rw [g137]
      exact ofN_eq (c := 3) (by omega) (by omega)
    have two'' : ((fdC σ (0, 0)).1 8 38 = 2 ↔ G.length = 2) := by
      rw [g38]
      exact ofN_eq (c := 2) (by omega) (by omega)
    by_cases z2 : G.length = 2
    · rcases hB.set ob.1 on (vR_whole (fdC σ (0, 0)) (fdM τ (0, 0)) (i64 (m + 1))) (show (2 : Int32) ≠ 0 by decide) (gB.v 1) (by rw [fdC_1, if_neg (by omega)]; exact ob.2.2.2.1) with ⟨s1, s2⟩ | ⟨σ', τ', s1, s2, s3, s4, s5⟩
      · have s1 : lj_R lc_P 113 [.ref 7, .int (Int32.ofNat o), .int 2, .long (i64 (m + 1)), .int (G.getD 1 (0, 0)).1, .long (G.getD 1 (0, 0)).2] (fdC σ (0, 0)) = _ := s1
        have s2 : lj_R lm_P 108 [.ref 0, .int (Int32.ofNat o), .int 2, .long (i64 (m + 1)), .int (G'.getD 1 (0, 0)).1, .long (G'.getD 1 (0, 0)).2] (fdM τ (0, 0)) = _ := s2
        refine ⟨noneM (lj_put (fdM τ (0, 0)) 0 143 4), rM ?_, ?_⟩
        · rw [headM, a2, bl_ok, if_pos (two'.2 z2), m2.1, bi_ok, m2.2, bl_ok, kp, s2, bi_ok, m_none, bv_ok]
        · rw [rC rfl, rc_188, kc_188_0, if_pos (two.2 z2), kc_188_17, kc_188_22, nd_ok _ (by decide), bv_ok, a1, bl_ok, if_pos (two''.2 z2), c1.1, bi_ok, c1.2, bl_ok, kp, s1, bv_th]
          exact (bi_nrn ry hwk hB (lf_fdC σ _) (lf_fdM τ _) (by omega)).fin.fin
      · have s1 : lj_R lc_P 113 [.ref 7, .int (Int32.ofNat o), .int 2, .long (i64 (m + 1)), .int (G.getD 1 (0, 0)).1, .long (G.getD 1 (0, 0)).2] (fdC σ (0, 0)) = _ := s1
        have s2 : lj_R lm_P 108 [.ref 0, .int (Int32.ofNat o), .int 2, .long (i64 (m + 1)), .int (G'.getD 1 (0, 0)).1, .long (G'.getD 1 (0, 0)).2] (fdM τ (0, 0)) = _ := s2
        have dl := bi_none D ry hwk ha s3 ((lf_fdC σ _).tr (hwC_b s4)) ((lf_fdM τ _).tr (hwM_b s5)) (by omega) (by omega) hX
        refine ⟨noneM τ', rM ?_, ?_⟩
        · rw [headM, a2, bl_ok, if_pos (two'.2 z2), m2.1, bi_ok, m2.2, bl_ok, kp, s2, bi_ok, m_none, bv_ok]
        · rw [rC rfl, rc_188, kc_188_0, if_pos (two.2 z2), kc_188_17, kc_188_22, nd_ok _ (by decide), bv_ok, a1, bl_ok, if_pos (two''.2 z2), c1.1, bi_ok, c1.2, bl_ok, kp, s1, bv_ok, kc_188_220]
          exact dl.fin.fin.fin
    · have n2 : ¬ (σ.1 8 38 = 2) := fun y => z2 (two.1 y)
      have n2' : ¬ ((fdM τ (0, 0)).1 0 137 = 2) := fun y => z2 (two'.1 y)
      have n2'' : ¬ ((fdC σ (0, 0)).1 8 38 = 2) := fun y => z2 (two''.1 y)
      by_cases z3 : G.length = 3
      · have headC : lj_R lc_P 188 [.ref 8, .int (Int32.ofNat o), .int line, .int as] σ = lj_bi (lj_R lc_P 163 [.ref 8, .int 1] (fdC σ (0, 0))) (fun y5 σ4 => (if y5 = 2 then lj_bl (lj_R lc_P 165 [.ref 8, .int 1] σ4) (fun y7 σ6 => lj_bi (lj_R lc_P 3 [.long y7, .long 1, .long (i64 (m + 1))] σ6) (fun y9 σ8 => (if y9 = 0 then lj_D lc_P lc_M188 109 [.ref 8, .int (Int32.ofNat o), .int line, .int as, .long (i64 m), .retAddr 0, .retAddr 0, .retAddr 0, .retAddr 0] [.ref 8] σ8 else lj_D lc_P lc_M188 110 [.ref 8, .int (Int32.ofNat o), .int line, .int as, .long (i64 m), .retAddr 0, .retAddr 0, .retAddr 0, .retAddr 0] [.int 1, .ref 8] σ8)) lj_up) lj_up else lj_D lc_P lc_M188 109 [.ref 8, .int (Int32.ofNat o), .int line, .int as, .long (i64 m), .retAddr 0, .retAddr 0, .retAddr 0, .retAddr 0] [.ref 8] σ4)) lj_up := by
          rw [rc_188, kc_188_0, if_neg n2, if_pos (three.2 z3), kc_188_17, kc_188_22, nd_ok _ (by decide), bv_ok, a1, bl_ok, if_neg n2'', kp]
        have hv := gB.v 1
        by_cases k2 : (G.getD 1 (0, 0)).1 = 2
        · have e := hv.wh k2
          obtain ⟨v, hv2⟩ : ∃ v, v = (G.getD 1 (0, 0)).2 := ⟨_, rfl⟩
          have ea : G.getD 1 (0, 0) = (2, v) := Prod.ext k2 hv2.symm
          rw [ea] at e c1
          rw [e] at m2
          have i1 : (1 : Int64).toInt = 1 := by decide
          have im : (i64 (m + 1)).toInt = ((m + 1 : Nat) : Int) := i64_int (by omega)
          by_cases inn : 1 ≤ v.toInt ∧ v.toInt ≤ ((m + 1 : Nat) : Int)
          · obtain ⟨q, hq⟩ : ∃ q : Nat, (q : Int) = v.toInt := ⟨v.toInt.toNat, by omega⟩
            have vq : v = i64 q := lg_ext (by rw [i64_int (by omega)]; exact hq.symm)
            rw [vq] at ea e
            obtain ⟨τ1, r1, r2⟩ := is_loop (as := as) D ry hwk ha (M := M) (X := X) (by omega) (by omega) hX hGl ob.1 on (q := q) (by omega) ea e line (i64 m) (m + 1 - q) m (fdC σ (0, 0)) (fdM τ (0, 0)) (.retAddr 0) (by omega) (by omega) hB gB (lf_fdC σ _) (lf_fdM τ _) (by rw [fdC_1, if_neg (by omega)]; exact ob.2.2.2.1)
            refine ⟨τ1, rM ?_, ?_⟩
            · rw [headM, a2, bl_ok, if_neg n2', if_pos (three'.2 z3), m2.1, bi_ok, if_pos rfl, m2.2, bl_ok, if_neg (fun y => by
                have : v.toInt < (1 : Int64).toInt := Int64.lt_iff_toInt_lt.1 ((lg_lt _ _).1 y)
                rw [i1] at this
                omega), m2.2, bl_ok, kp, if_pos ((lg_le _ _).2 (Int64.le_iff_toInt_le.2 (by rw [im]; exact inn.2)))]
              exact r1
            · have q' : (if (1 : Int64).toInt ≤ v.toInt ∧ v.toInt ≤ (i64 (m + 1)).toInt then (1 : Int32) else 0) = 1 := by rw [i1, im, if_pos inn]
              rw [rC rfl, headC, c1.1, bi_ok, if_pos rfl, c1.2, bl_ok, c_isIn, bi_ok, q', if_neg (by decide), kc_188_110, nd_ok _ (by decide), bv_ok]
              exact r2.fin.fin
          · refine bad (fdC σ (0, 0)) hB (lf_fdC σ _) ?_ (fun σ' e' => ?_)
            · rw [headM, a2, bl_ok, if_neg n2', if_pos (three'.2 z3), m2.1, bi_ok, if_pos rfl, m2.2, bl_ok]
              by_cases y1 : lg_cmp v 1 < 0
              · rw [if_pos y1]
              · have a2 : ¬ (v.toInt < 1) := fun q => y1 ((lg_lt _ _).2 (Int64.lt_iff_toInt_lt.2 (by rw [i1]; exact q)))
                rw [if_neg y1, m2.2, bl_ok, kp, if_neg (fun y => by
                  have : v.toInt ≤ (i64 (m + 1)).toInt := Int64.le_iff_toInt_le.1 ((lg_le _ _).1 y)
                  rw [im] at this
                  omega)]
            · have q' : (if (1 : Int64).toInt ≤ v.toInt ∧ v.toInt ≤ (i64 (m + 1)).toInt then (1 : Int32) else 0) = 0 := by rw [i1, im, if_neg inn]
              rw [headC, c1.1, bi_ok, if_pos rfl, c1.2, bl_ok, c_isIn, bi_ok, q', if_pos rfl, kc_188_109, kc_188_110, e', bv_th]
        · have k2' : ¬ ((G'.getD 1 (0, 0)).1 = 2) := fun q => k2 ((hv.kk (by decide) (by decide)).2 q)
          refine bad (fdC σ (0, 0)) hB (lf_fdC σ _) ?_ (fun σ' e' => ?_)
          · rw [headM, a2, bl_ok, if_neg n2', if_pos (three'.2 z3), m2.1, bi_ok, if_neg k2']
          · rw [headC, c1.1, bi_ok, if_neg k2, kc_188_109, kc_188_110, e', bv_th]
      · refine bad σ (h.sc (lf_rf _ _) (lf_putL (lf_put (lf_rf _ _) _ _ _ rfl) _ _ _ rfl)) (lf_rf _ _) ?_ (fun σ' e' => ?_)
        · rw [headM, a2, bl_ok, if_neg n2', if_neg (fun y => z3 (three'.1 y))]
        · rw [rc_188, kc_188_0, if_neg n2, if_neg (fun y => z3 (three.1 y)), kc_188_22, e', bv_th]
  · have q2 : lj_R lc_P 167 [.ref 8, .int 0, .int 17, .int line] σ = some (.inr 2, σ') := q2
    have q3 : lj_R lm_P 198 [.ref 0, .int 1, .int 4, .int 17] τ = some (.inl (some (.int 0)), τ') := q3
    refine ⟨τ', rM ?_, ?_⟩
    · rw [rm_222, km_222_0, q3, bi_ok, if_pos rfl]
    · rw [cb_more (by decide) (by decide), rc_187, kc_187_0, if_pos rfl, q2, bi_th]
      exact (bt_er ry hwk h (lf_rf _ _) (lf_rf _ _) q1 (by omega)).fin
