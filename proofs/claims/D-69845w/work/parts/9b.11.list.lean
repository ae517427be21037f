/-! what is built in: rows of values -/
theorem i64_cmp {a b : Nat} (ha : a < 2147483648) (hb : b < 2147483648) : (0 < lg_cmp (i64 a) (i64 b) ↔ b < a) ∧ (lg_cmp (i64 a) (i64 b) ≤ 0 ↔ a ≤ b) := by
  have h : lg_cmp (i64 a) (i64 b) ≤ 0 ↔ a ≤ b := by
    rw [lg_le, Int64.le_iff_toInt_le, i64_int ha, i64_int hb]
    omega
  refine ⟨?_, h⟩
  constructor
  · intro z
    refine Classical.byContradiction (fun y => ?_)
    have := h.2 (by omega)
    exact Int32.not_le.2 z this
  · intro z
    exact Int32.not_le.1 (fun y => by have := h.1 y; omega)
/-- both give the values of a list -/
theorem up_loop {σ0 τ0 : lj_S} {n np p : Nat} {r : List Nat} {FP : Nat → List kF} {ρ : Nat → Nat} {A MO LA : List Nat} {o m : Nat} (o1 : 1 ≤ o) (on : o ≤ n) (hm : m ≤ 30) {G G' : List vT} (hGl : G.length ≤ 49) (e2 : G'.getD 0 (0, 0) = (4, i64 o)) (as line : Int32) : ∀ (d k : Nat) (σ τ : lj_S) (R R' : List vT) (X9 : Value), k + d = m → MB σ0 τ0 n np p r FP ρ A MO LA σ τ → gwR σ τ G G' → rsC σ R → rsM τ R' → rwE σ τ R R' → R.length = k → ∃ σ' τ' R1 R1', lj_D lc_P lc_M187 173 [.ref 8, .int 21, .int as, .int line, .int (Int32.ofNat o), .long (i64 m), .retAddr 0, .long (i64 (k + 1)), .retAddr 0, X9] [] σ = finC (lj_R lc_P 144 [.ref 8, .int as] σ') ∧ lj_D lm_P lm_M226 47 [.ref 0, .long (i64 m), .retAddr 0, .long (i64 (k + 1)), .retAddr 0] [] τ = some (.inl none, τ') ∧ MB σ0 τ0 n np p r FP ρ A MO LA σ' τ' ∧ rsC σ' R1 ∧ rsM τ' R1' ∧ rwE σ' τ' R1 R1' ∧ R1.length = m ∧ lf bfC σ σ' ∧ lf bfM τ τ' ∧ τ'.1 0 129 = τ.1 0 129
  | 0, k, σ, τ, R, R', X9, hd, h, hG, rs, rm, rw, hR => by
    have c := (i64_cmp (a := k + 1) (b := m) (by omega) (by omega)).1.2 (by omega)
    refine ⟨σ, τ, R, R', ?_, ?_, h, rs, rm, rw, by omega, lf_rf _ _, lf_rf _ _, rfl⟩
    · rw [kc_187_173, if_pos c]
      simp only [kc_187_919]
      rfl
    · rw [km_226_47, if_pos c]
  | d + 1, k, σ, τ, R, R', X9, hd, h, hG, rs, rm, rw, hR => by
    have c : ¬ (0 < lg_cmp (i64 (k + 1)) (i64 m)) := fun z => by
      have := (i64_cmp (a := k + 1) (b := m) (by omega) (by omega)).1.1 z
      omega
    obtain ⟨u, w, a1, a2, a3⟩ := cm_get h.2.1.1 h.2.2.2.1 on (vR_whole σ τ (i64 (k + 1)))
    rw [tm_p o1] at a3
    have hB := h.fd u w
    have gB := hG.fd u w
    have f1 : (fdC σ u).1 7 27 = u.1 := by rw [fdC_1, if_pos ⟨rfl, rfl⟩]
    have f2 : (fdC σ u).2 7 28 = u.2 := by rw [fdC_2, if_pos ⟨rfl, rfl⟩]
    have f3 : (fdM τ w).1 0 90 = w.1 := by rw [fdM_1, if_pos ⟨rfl, rfl⟩]
    have f4 : (fdM τ w).2 0 91 = w.2 := by rw [fdM_2, if_pos ⟨rfl, rfl⟩]
    have rs1 : rsC (fdC σ u) R := ⟨by unfold lv; rw [fdC_1, if_neg (by omega)]; exact rs.1, fun j hj => by rw [fdC_1, fdC_2, if_neg (by omega), if_neg (by omega)]; exact rs.2 j hj⟩
    have rm1 : rsM (fdM τ w) R' := ⟨by unfold lv; rw [fdM_1, if_neg (by omega)]; exact rm.1, fun j hj => by rw [fdM_1, fdM_2, if_neg (by omega), if_neg (by omega)]; exact rm.2 j hj⟩
    obtain ⟨σ2, τ2, p1, p2, p3, p4, p5, p6, p7⟩ := x_gv rs1 rm1 ⟨rw.1, rw.2.1, fun j => (rw.2.2 j).fd u w⟩ (by omega) (a1.fd u w)
    have m1 := hG.m1 hGl
    rw [e2] at m1
    have g2 : gwR σ2 τ2 G G' := gB.cg (fun k j q => p6 k j (by unfold rtC; simp; omega)) (fun k j q => p7 k j (by unfold rtM; simp; omega)) (fun _ _ z => rtC_v p6 p7 z)
    obtain ⟨σ', τ', R1, R1', q1, q2, q3, q4, q5, q6, q7, q8, q9, q10⟩ := up_loop o1 on hm hGl e2 as line d (k + 1) σ2 τ2 (R ++ [u]) (R' ++ [w]) (.int (if u.1 = 0 then 0 else 1)) (by omega) (hB.sc (rtC_z p6) (rtM_z p7)) g2 p3 p4 p5 (by simp; omega)
    refine ⟨σ', τ', R1, R1', ?_, ?_, q3, q4, q5, q6, q7, ((lf_fdC σ u).tr (rtC_b p6)).tr q8, ((lf_fdM τ w).tr (rtM_b p7)).tr q9, ?_⟩
    · rw [kc_187_173, if_neg c, a2, bi_ok, f1, f2, p1, bv_ok, i64_succ (by omega)]
      exact q1
    · rw [km_226_47, if_neg c, m1.2, bl_ok]
      simp only [i64_32]
      rw [a3, bv_ok, f3, f4, p2, bv_ok, i64_succ (by omega)]
      exact q2
    · rw [q10, (p7 0 129 rfl).1, fdM_1, if_neg (by omega)]
theorem bi_21 {σ0 τ0 σ τ : lj_S} {n np p : Nat} {r : List Nat} {FP : Nat → List kF} {ρ : Nat → Nat} {A MO LA : List Nat} {M : Nat} (D : DLV σ0 τ0 M) (h : MB σ0 τ0 n np p r FP ρ A MO LA σ τ) (ry : ryR σ τ) (hwk : wkR FP (p :: r) A σ) {as line : Int32} (ht : τ.1 0 129 = 1) (ha : awR σ0 (FP p) as (τ.1 0 130) (τ.1 0 131)) (hln : τ.1 0 132 = line) {G G' : List vT} (hG : gwR σ τ G G') (hGl : G.length ≤ 49) (hM : thM FP (p :: r) MO LA + 5001 ≤ M) {X : Nat} (hX : X ≤ TH) (hT : thM FP (p :: r) MO LA + 5001 ≤ X) : ∃ τ1, lj_R lm_P 187 [.ref 0, .int 21] τ = some (.inl none, τ1) ∧ ocR σ0 τ0 A (fun t => t ≤ X) σ τ1 (lj_R lc_P 159 [.ref 8, .int 21, .int as, .int line] σ) := by
  have m1 := hG.m1 hGl
  have px := h.px hwk
  rcases bi_tab h.2.1 h.2.2.2.1 hG (by omega) hln (w := 21) (by decide) with ⟨o, ob, on, e1, e2, e3, e4⟩ | ⟨σ', τ', q1, q2, q3⟩
  · have e3 : lj_R lc_P 167 [.ref 8, .int 0, .int 21, .int line] σ = some (.inl (some (.int (Int32.ofNat o))), σ) := e3
    have e4 : lj_R lm_P 198 [.ref 0, .int 1, .int 4, .int 21] τ = some (.inl (some (.int 1)), τ) := e4
    rw [e2] at m1
    obtain ⟨m, hm, a1, a2⟩ := cm_len h.2.1.1 h.2.2.2.1 on
    rw [tm_p ob.1] at a2
    have hB := h.fd (0, 0) (0, 0)
    have cmp := (i64_cmp (a := m) (b := 30) (by omega) (by omega)).2
    have cmp : lg_cmp (i64 m) 30 ≤ 0 ↔ m ≤ 30 := cmp
    by_cases z : m ≤ 30
    · have lC : lf szC (fdC σ (0, 0)) (lj_put (fdC σ (0, 0)) 8 41 0) := lf_put (lf_rf _ _) _ _ _ rfl
      have lM : lf szM (fdM τ (0, 0)) (lj_put (lj_put (fdM τ (0, 0)) 0 140 0) 0 129 1) := lf_put (lf_put (lf_rf _ _) _ _ _ rfl) _ _ _ rfl
      have hC := hB.sc lC lM
      have gC : gwR (lj_put (fdC σ (0, 0)) 8 41 0) (lj_put (lj_put (fdM τ (0, 0)) 0 140 0) 0 129 1) G G' := (hG.fd (0, 0) (0, 0)).cg (fun k j q => ⟨by rw [lj_put_1, if_neg (by omega)], rfl⟩) (fun k j q => ⟨by rw [lj_put_1, if_neg (by omega), lj_put_1, if_neg (by omega)], rfl⟩) (fun _ _ w => w.cg (fun k j q => by rw [lj_put_1, if_neg (by unfold vqC at q; simp at q; omega)]) (fun k j q => by rw [lj_put_1, if_neg (by unfold vqM at q; simp at q; omega), lj_put_1, if_neg (by unfold vqM at q; simp at q; omega)]))
      obtain ⟨σ', τ', R1, R1', r1, r2, r3, r4, r5, r6, r7, r8, r9, r10⟩ := up_loop ob.1 on z hGl e2 as line m 0 _ _ [] [] (.retAddr 0) (by omega) hC gC (x_rs0 _) ⟨by unfold lv; rw [lj_put_1, if_neg (by omega), lj_put_1, if_pos ⟨rfl, rfl⟩]; rfl, fun j hj => absurd hj (by simp)⟩ ⟨rfl, by simp, fun j => vR_nil _ _⟩ rfl
      have lb1 : lf bfC σ σ' := ((lf_fdC σ (0, 0)).tr (lf_put (lf_rf _ _) _ _ _ rfl)).tr r8
      have lb2 : lf bfM τ τ' := ((lf_fdM τ (0, 0)).tr (lf_put (lf_put (lf_rf _ _) _ _ _ rfl) _ _ _ rfl)).tr r9
      have dl := bi_dl D ry hwk ha r3 lb1 lb2 (by rw [r10]; exact (by simp [lj_put_1, lj_putL_1])) r4 r5 r6 (by omega) (by omega) (by omega) hX
      refine ⟨τ', mb_more (by decide) ?_, ?_⟩
      · rw [rm_221, km_221_0, if_neg (by decide), if_neg (by decide), if_neg (by decide), if_neg (by decide), if_pos rfl, rm_226, km_226_0, e4, bi_ok, if_neg (by decide), m1.2, bl_ok]
        simp only [i64_32]
        rw [a2, bl_ok, if_pos (cmp.2 z), rm_192, km_192_0, bv_ok]
        have r2 : lj_D lm_P lm_M226 47 [.ref 0, .long (i64 m), .retAddr 0, .long 1, .retAddr 0] [] (lj_put (lj_put (fdM τ (0, 0)) 0 140 0) 0 129 1) = some (.inl none, τ') := r2
        rw [r2, bv_ok, km_221_215]
      · have r1 : lj_D lc_P lc_M187 173 [.ref 8, .int 21, .int as, .int line, .int (Int32.ofNat o), .long (i64 m), .retAddr 0, .long 1, .retAddr 0, .retAddr 0] [] (lj_put (fdC σ (0, 0)) 8 41 0) = finC (lj_R lc_P 144 [.ref 8, .int as] σ') := r1
        rw [cb_more (by decide) (by decide), rc_187, kc_187_0, if_neg (by decide), if_neg (by decide), if_neg (by decide), if_neg (by decide), if_pos rfl, e3, bi_ok, a1, bl_ok, if_pos (cmp.2 z), r1]
        exact dl.fin.fin
    · obtain ⟨σ', τ', q1, q2, q3⟩ := cm_wrong hB.2.1 line (e := 4) (by decide)
      have q1 : lj_br (lj_R lc_P 133 [.ref 8, .int line, .ref 1027] (fdC σ (0, 0))) (fun y s => (bif Nat.blt y 2000 then lj_up y s else none)) lj_up = some (.inr 2, σ') := q1
      have q2 : lj_R lm_P 142 [.ref 0, .int 4, .int line] (fdM τ (0, 0)) = some (.inl none, τ') := q2
      have f132 : (fdM τ (0, 0)).1 0 132 = line := by rw [fdM_1, if_neg (by omega)]; exact hln
      refine ⟨τ', mb_more (by decide) ?_, ?_⟩
      · rw [rm_221, km_221_0, if_neg (by decide), if_neg (by decide), if_neg (by decide), if_neg (by decide), if_pos rfl, rm_226, km_226_0, e4, bi_ok, if_neg (by decide), m1.2, bl_ok]
        simp only [i64_32]
        rw [a2, bl_ok, if_neg (fun y => z (cmp.1 y)), f132, q2, bv_ok, bv_ok, km_221_215]
      · rw [cb_more (by decide) (by decide), rc_187, kc_187_0, if_neg (by decide), if_neg (by decide), if_neg (by decide), if_neg (by decide), if_pos rfl, e3, bi_ok, a1, bl_ok, if_neg (fun y => z (cmp.1 y)), q1]
        exact (bt_er ry hwk hB (lf_fdC σ _) (lf_fdM τ _) q3 (by omega)).fin
  · have q2 : lj_R lc_P 167 [.ref 8, .int 0, .int 21, .int line] σ = some (.inr 2, σ') := q2
    have q3 : lj_R lm_P 198 [.ref 0, .int 1, .int 4, .int 21] τ = some (.inl (some (.int 0)), τ') := q3
    refine ⟨τ', mb_more (by decide) ?_, ?_⟩
    · rw [rm_221, km_221_0, if_neg (by decide), if_neg (by decide), if_neg (by decide), if_neg (by decide), if_pos rfl, rm_226, km_226_0, q3, bi_ok, if_pos rfl, bv_ok, km_221_215]
    · rw [cb_more (by decide) (by decide), rc_187, kc_187_0, if_neg (by decide), if_neg (by decide), if_neg (by decide), if_neg (by decide), if_pos rfl, q2, bi_th]
      exact (bt_er ry hwk h (lf_rf _ _) (lf_rf _ _) q1 (by omega)).fin
