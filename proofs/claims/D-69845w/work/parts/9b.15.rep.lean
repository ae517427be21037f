/-! what is built in: texts many times -/
def rpt (S : List Int32) : Nat → List Int32
  | 0 => []
  | k + 1 => rpt S k ++ S
theorem rpt_len (S : List Int32) : ∀ k, (rpt S k).length = k * S.length
  | 0 => by rw [Nat.zero_mul]; rfl
  | k + 1 => by
    show (rpt S k ++ S).length = _
    rw [List.length_append, rpt_len S k, Nat.succ_mul]
/-- the component drafts until there is enough -/
theorem rp_C {s : Nat} (s1 : s < 2600) (as line : Int32) {v : Int64} {G G' : List vT} (hGl : G.length ≤ 49) (e1 : G.getD 1 (0, 0) = (2, v)) {S : List Int32} (hS : 1 ≤ S.length) (hS2 : S.length ≤ 1000) : ∀ (d k : Nat) (σ τ : lj_S), k + d = 1001 → sM σ τ → gwR σ τ G G' → (s : Int) < lv σ 3 7 → cS σ s = S → cDr σ (rpt S k) → (k : Int) ≤ max v.toInt 0 → ∃ σ' k', lj_D lc_P lc_M195 64 [.ref 8, .int line, .int as, .int (Int32.ofNat s), .long (i64 k), .retAddr 0] [] σ = lj_D lc_P lc_M195 126 [.ref 8, .int line, .int as, .int (Int32.ofNat s), .long (i64 k'), .retAddr 0] [] σ' ∧ cDr σ' (rpt S k') ∧ k' ≤ 1001 ∧ (k' : Int) ≤ max v.toInt 0 ∧ (v.toInt ≤ (k' : Int) ∨ 1000 < k' * S.length) ∧ lf cAd σ σ'
  | d, k, σ, τ, hd, hs, hG, hs7, hcS, hC, hk => by
    have c1 := hG.c1 hGl
    rw [e1] at c1
    have is : lj_in (Int32.ofNat s) 2600 := ofN_in (by omega) (by omega)
    have ns : (Int32.ofNat s).toNatClampNeg = s := lz_onat (by omega)
    have kt : (i64 k).toInt = (k : Int) := i64_int (by omega)
    have b := hs.1.1.2.2.1 s hs7
    have l11 : lv σ 11 s = (S.length : Int) := by
      have := cS_len σ s
      rw [hcS] at this
      omega
    have l6 : σ.1 3 6 = Int32.ofNat (k * S.length) := lz_ext (by
      have := hC.1
      rw [rpt_len] at this
      have b2 : k * S.length ≤ 1001 * 1000 := Nat.mul_le_mul (by omega) hS2
      rw [lz_lit (by omega)]
      exact this)
    have b2 : k * S.length ≤ 1001 * 1000 := Nat.mul_le_mul (by omega) hS2
    by_cases z1 : v.toInt ≤ (k : Int)
    · refine ⟨σ, k, ?_, hC, by omega, hk, Or.inl z1, lf_rf _ _⟩
      rw [kc_195_64, c1.2, bl_ok, if_pos ((lg_ge _ _).2 (Int64.le_iff_toInt_le.2 (by rw [kt]; exact z1)))]
    · have g1 : ¬ (0 ≤ lg_cmp (i64 k) v) := fun y => by
        have := Int64.le_iff_toInt_le.1 ((lg_ge _ _).1 y)
        rw [kt] at this
        exact z1 this
      have g2 : ¬ (σ.1 11 s ≤ 0) := by
        rw [lz_le]
        show ¬ (lv σ 11 s ≤ (0 : Int))
        omega
      by_cases z2 : 1000 < k * S.length
      · refine ⟨σ, k, ?_, hC, by omega, hk, Or.inr z2, lf_rf _ _⟩
        rw [kc_195_64, c1.2, bl_ok, if_neg g1, if_pos is, ns, if_neg g2, if_pos (by rw [l6, lz_lt, lz_lit (by omega)]; show (1000 : Int) < _; omega)]
      · have g3 : ¬ ((1000 : Int32) < σ.1 3 6) := by
          rw [l6, lz_lt, lz_lit (by omega)]
          show ¬ ((1000 : Int) < _)
          omega
        obtain ⟨d', rfl⟩ : ∃ d', d = d' + 1 := by
          refine ⟨d - 1, ?_⟩
          rcases Nat.eq_zero_or_pos d with y | y
          · exfalso
            have : 1001 * 1 ≤ k * S.length := Nat.mul_le_mul (by omega) hS
            omega
          · omega
        obtain ⟨σ1, a1, a2, a3⟩ := c_addString σ hs.1.1 hs7 hC (by rw [rpt_len]; omega)
        rw [hcS] at a2
        have l7 : lv σ1 3 7 = lv σ 3 7 := a3.v (by unfold cAd; simp)
        have cs1 : cS σ1 s = S := by
          rw [(sG_dr (σ := σ) (τ := τ) (σ' := σ1) (τ' := τ) a3 (lf_rf _ _)).2.2.1 s hs7]
          exact hcS
        obtain ⟨σ', k', q1, q2, q3, q4, q5, q6⟩ := rp_C s1 as line hGl e1 hS hS2 d' (k + 1) σ1 τ (by omega) (hs.dr a3 (lf_rf _ _)) (hG.ad a3 (lf_rf _ _)) (by rw [l7]; exact hs7) cs1 a2 (by omega)
        refine ⟨σ', k', ?_, q2, q3, q4, q5, a3.tr q6⟩
        rw [kc_195_64, c1.2, bl_ok, if_neg g1, if_pos is, ns, if_neg g2, if_neg g3, a1, bv_ok, i64_succ (by omega)]
        exact q1
/-- the model drafts so often -/
theorem rp_M {s : Nat} (s1 : s < 3000) {S : List Int32} {N : Nat} (hN : N ≤ 1000) (hN2 : N * S.length ≤ 1000) : ∀ (d k : Nat) (σ τ : lj_S), k + d = N → sM σ τ → (s : Int) < lv τ 0 14 → mS τ s = S → mDr τ (rpt S k) → ∃ τ', lj_D lm_P lm_M230 102 [.ref 0, .int (Int32.ofNat s), .long (i64 N), .retAddr 0, .long (i64 k), .retAddr 0] [] τ = lj_bv (lj_R lm_P 194 [.ref 0] τ') (fun s => some (.inl none, s)) lj_up ∧ mDr τ' (rpt S N) ∧ lf mAd τ τ'
  | 0, k, σ, τ, hd, hs, hs7, hmS, hD => by
    have kn : k = N := by omega
    subst kn
    refine ⟨τ, ?_, hD, lf_rf _ _⟩
    rw [km_230_102, if_pos ((lg_ge _ _).2 (Int64.le_refl _))]
  | d + 1, k, σ, τ, hd, hs, hs7, hmS, hD => by
    have g1 : ¬ (0 ≤ lg_cmp (i64 k) (i64 N)) := fun y => by
      have := Int64.le_iff_toInt_le.1 ((lg_ge _ _).1 y)
      rw [i64_int (by omega), i64_int (by omega)] at this
      omega
    have b2 : (k + 1) * S.length ≤ N * S.length := Nat.mul_le_mul_right _ (by omega)
    rw [Nat.succ_mul] at b2
    obtain ⟨τ1, a1, a2, a3⟩ := m_copyString τ hs.1.2.1 hs7 hD (by rw [rpt_len, hmS]; omega)
    rw [hmS] at a2
    have l7 : lv τ1 0 14 = lv τ 0 14 := a3.v (by unfold mAd; simp)
    have cs1 : mS τ1 s = S := by
      rw [(sG_dr (σ := σ) (τ := τ) (σ' := σ) (τ' := τ1) (lf_rf _ _) a3).2.2.2 s hs7]
      exact hmS
    obtain ⟨τ', q1, q2, q3⟩ := rp_M s1 hN hN2 d (k + 1) σ τ1 (by omega) (hs.dr (lf_rf _ _) a3) (by rw [l7]; exact hs7) cs1 a2
    refine ⟨τ', ?_, q2, a3.tr q3⟩
    rw [km_230_102, if_neg g1, a1, bv_ok, i64_succ (by omega)]
    exact q1
theorem bi_25 {σ0 τ0 σ τ : lj_S} {n np p : Nat} {r : List Nat} {FP : Nat → List kF} {ρ : Nat → Nat} {A MO LA : List Nat} {M : Nat} (D : DLV σ0 τ0 M) (h : MB σ0 τ0 n np p r FP ρ A MO LA σ τ) (ry : ryR σ τ) (hwk : wkR FP (p :: r) A σ) {as line : Int32} (ht : τ.1 0 129 = 1) (ha : awR σ0 (FP p) as (τ.1 0 130) (τ.1 0 131)) (hln : τ.1 0 132 = line) {G G' : List vT} (hG : gwR σ τ G G') (hGl : G.length ≤ 49) (hM : thM FP (p :: r) MO LA + 5001 ≤ M) {X : Nat} (hX : X ≤ TH) (hT : thM FP (p :: r) MO LA + 5001 ≤ X) : ∃ τ1, lj_R lm_P 187 [.ref 0, .int 25] τ = some (.inl none, τ1) ∧ ocR σ0 τ0 A (fun t => t ≤ X) σ τ1 (lj_R lc_P 159 [.ref 8, .int 25, .int as, .int line] σ) := by
  have c0 := hG.c0 hGl
  have c1 := hG.c1 hGl
  have m1 := hG.m1 hGl
  have m2 := hG.m2 hGl
  have hv := hG.v 0
  have hw := hG.v 1
  have rC : ∀ {x : Option lj_O}, lj_R lc_P 195 [.ref 8, .int line, .int as] σ = x → lj_R lc_P 159 [.ref 8, .int 25, .int as, .int line] σ = finC (finC x) := fun e => by
    rw [cb_more (by decide) (by decide), rc_187, kc_187_0, if_neg (by decide), if_neg (by decide), if_neg (by decide), if_neg (by decide), if_neg (by decide), if_neg (by decide), if_neg (by decide), if_neg (by decide), if_pos rfl, e]
    simp only [kc_187_919]
    rfl
  have rM : ∀ {τx : lj_S}, lj_R lm_P 230 [.ref 0] τ = some (.inl none, τx) → lj_R lm_P 187 [.ref 0, .int 25] τ = some (.inl none, τx) := fun e => mb_more (by decide) (by rw [rm_221, km_221_0, if_neg (by decide), if_neg (by decide), if_neg (by decide), if_neg (by decide), if_neg (by decide), if_neg (by decide), if_neg (by decide), if_neg (by decide), if_pos rfl, e, bv_ok, km_221_215])
  by_cases z3 : (G.getD 0 (0, 0)).1 = 3
  · obtain ⟨s, s', s1, s2, e1, e2, se⟩ := hv.st z3
    rw [e1] at c0
    rw [e2] at m1
    obtain ⟨b1, b2, b3⟩ := sE_sz h.2.1.1 se
    have l1000 : (cS σ s).length ≤ 1000 := h.2.1.2.2.2.1 s se.1
    have is : lj_in (Int32.ofNat s) 2600 := ofN_in (by omega) (by omega)
    have is' : lj_in (Int32.ofNat s') 3000 := ofN_in (by omega) (by omega)
    have ns : (Int32.ofNat s).toNatClampNeg = s := lz_onat (by omega)
    have ns' : (Int32.ofNat s').toNatClampNeg = s' := lz_onat (by omega)
    have w4 := (m_wants hG (by omega) (i := 0) (by omega) 3 25).1 (by rw [e2])
    have w4 : lj_R lm_P 198 [.ref 0, .int 1, .int 3, .int 25] τ = some (.inl (some (.int 1)), τ) := w4
    by_cases w2 : (G.getD 1 (0, 0)).1 = 2
    · have e := hw.wh w2
      obtain ⟨v, hv2⟩ : ∃ v, v = (G.getD 1 (0, 0)).2 := ⟨_, rfl⟩
      have ea : G.getD 1 (0, 0) = (2, v) := Prod.ext w2 hv2.symm
      rw [ea] at e c1
      rw [e] at m2
      have w5 := (m_wants hG (by omega) (i := 1) (by omega) 2 25).1 (by rw [e])
      have w5 : lj_R lm_P 198 [.ref 0, .int 2, .int 2, .int 25] τ = some (.inl (some (.int 1)), τ) := w5
      obtain ⟨bb1, bb2, bb3⟩ := c_bgn σ
      obtain ⟨dd2, dd3⟩ := m_bgn τ
      have i1 : (1 : Int64).toInt = 1 := by decide
      have headC : lj_R lc_P 195 [.ref 8, .int line, .int as] σ = lj_D lc_P lc_M195 64 [.ref 8, .int line, .int as, .int (Int32.ofNat s), .long 0, .retAddr 0] [] (lj_put σ 3 6 0) := by
        rw [rc_195, kc_195_0, c0.1, bi_ok, if_pos rfl, kc_195_15, nd_ok _ (by decide), bv_ok, c1.1, bi_ok, if_pos rfl, kc_195_37, nd_ok _ (by decide), bv_ok, c0.2, bl_ok, bb1, bv_ok]
        simp only [i64_32]
      -- how often the model drafts it
      obtain ⟨N0, hN0⟩ : ∃ N0 : Int64, N0 = if v.toInt < 1 ∨ (cS σ s).length = 0 then 0 else v := ⟨_, rfl⟩
      have headM : lj_R lm_P 230 [.ref 0] τ = lj_D lm_P lm_M230 58 [.ref 0, .int (Int32.ofNat s'), .retAddr 0, .retAddr 0, .retAddr 0, .retAddr 0] [.long N0] τ := by
        rw [rm_230, km_230_0, w4, bi_ok, if_neg (by decide), w5, bi_ok, if_neg (by decide), m1.2, bl_ok, m2.2, bl_ok]
        by_cases z : v.toInt < 1
        · rw [if_pos ((lg_lt _ _).2 (Int64.lt_iff_toInt_lt.2 (by rw [i1]; exact z))), i64_32, km_230_49, hN0, if_pos (Or.inl z)]
        · rw [if_neg (fun y => by
            have := Int64.lt_iff_toInt_lt.1 ((lg_lt _ _).1 y)
            rw [i1] at this
            exact z this)]
          simp only [i64_32, if_pos is', ns', b2]
          by_cases y : (cS σ s).length = 0
          · rw [if_pos (by rw [y]; rfl), km_230_49, hN0, if_pos (Or.inr y)]
          · rw [if_neg (show ¬ (Int32.ofNat (cS σ s).length = 0) from fun q => y ((ofN_eq (c := 0) (by omega) (by omega)).1 q)), m2.2, bl_ok, hN0, if_neg (fun q => q.elim z y)]
      have hA := h.sc (cAd_z bb3) (mAd_z dd3)
      have t1000 : (1000 : Int64).toInt = 1000 := by decide
      -- it is given
      have good : ∀ (K : Nat) (σ1 : lj_S) (x4 : Int64), K ≤ 1000 → K * (cS σ s).length ≤ 1000 → N0 = i64 K → cDr σ1 (rpt (cS σ s) K) → lf cAd σ σ1 → lj_R lc_P 195 [.ref 8, .int line, .int as] σ = lj_D lc_P lc_M195 126 [.ref 8, .int line, .int as, .int (Int32.ofNat s), .long x4, .retAddr 0] [] σ1 → ∃ τ1, lj_R lm_P 187 [.ref 0, .int 25] τ = some (.inl none, τ1) ∧ ocR σ0 τ0 A (fun t => t ≤ X) σ τ1 (lj_R lc_P 159 [.ref 8, .int 25, .int as, .int line] σ) := fun K σ1 x4 k1 k2 k3 k4 k5 k6 => by
        have se' : (s' : Int) < lv (lj_put τ 0 20 0) 0 14 := by
          have : lv (lj_put τ 0 20 0) 0 14 = lv τ 0 14 := dd3.v (by unfold mAd; simp)
          rw [this]
          exact se.2.1
        have ms' : mS (lj_put τ 0 20 0) s' = cS σ s := by
          rw [(sG_dr (σ := σ) (τ := τ) (σ' := σ) (τ' := lj_put τ 0 20 0) (lf_rf _ _) dd3).2.2.2 s' se.2.1]
          exact se.2.2.symm
        obtain ⟨τ2, q1, q2, q3⟩ := rp_M (S := cS σ s) s2 k1 k2 K 0 σ (lj_put τ 0 20 0) (by omega) (h.2.1.dr (lf_rf _ _) dd3) se' ms' dd2
        obtain ⟨τ3, p1, p2⟩ := bi_mk D ry hwk ha (h.sc (cAd_z k5) (mAd_z (dd3.tr q3))) (cAd_b k5) (mAd_b (dd3.tr q3)) k4 q2 (by rw [rpt_len]; exact k2) (by omega) (by omega) hX 25
        have q1 : lj_D lm_P lm_M230 102 [.ref 0, .int (Int32.ofNat s'), .long (i64 K), .retAddr 0, .long 0, .retAddr 0] [] (lj_put τ 0 20 0) = _ := q1
        refine ⟨τ3, rM ?_, ?_⟩
        · have c1' : ¬ (0 < lg_cmp (i64 K) 1000) := fun y => Int32.not_le.2 y ((lg_le _ _).2 (Int64.le_iff_toInt_le.2 (by rw [i64_int (by omega), t1000]; omega)))
          have mul : (i64 K * (Int32.ofNat (cS σ s).length).toInt64).toInt = ((K * (cS σ s).length : Nat) : Int) := by
            rw [Int64.toInt_mul, i64_int (by omega), Int32.toInt_toInt64, lz_lit (by omega), ← Int.natCast_mul, Int.bmod_eq_of_le] <;> omega
          have c2' : lg_cmp (i64 K * (Int32.ofNat (cS σ s).length).toInt64) 1000 ≤ 0 := (lg_le _ _).2 (Int64.le_iff_toInt_le.2 (by rw [mul, t1000]; omega))
          rw [headM, k3, km_230_58, if_neg c1', if_pos is', ns', b2, if_pos c2', q1]
          exact bvF p1
        · have l6 : σ1.1 3 6 ≤ 1000 := by
            rw [lz_le]
            have := k4.1
            rw [rpt_len] at this
            show lv σ1 3 6 ≤ (1000 : Int)
            omega
          have mk : ∀ o : Option lj_O, lj_bi (lj_bi o (fun y2 s => some (.inl (some (.int y2)), s)) lj_up) (fun y2 s => lj_bv (lj_R lc_P 164 [.ref 8, .int 25, .int 3, .long y2.toInt64, .int as] s) (fun σ3 => some (.inl none, σ3)) lj_up) lj_up = lj_bi o (fun y s => finC (lj_R lc_P 164 [.ref 8, .int 25, .int 3, .long y.toInt64, .int as] s)) lj_up := fun o => by
            cases o with
            | none => rfl
            | some w =>
              obtain ⟨w1, w2⟩ := w
              rcases w1 with (_ | w1) | w1
              · rfl
              · cases w1 <;> rfl
              · rfl
          rw [rC k6, kc_195_126, rc_192, kc_192_0, if_pos l6, mk]
          exact p2.fin.fin
      -- it is too long
      have bad : ∀ (σ1 : lj_S) (x4 : Int64), (1000 : Int) < lv σ1 3 6 → lf cAd σ σ1 → lj_D lm_P lm_M230 58 [.ref 0, .int (Int32.ofNat s'), .retAddr 0, .retAddr 0, .retAddr 0, .retAddr 0] [.long N0] τ = lj_D lm_P lm_M230 83 [.ref 0, .int (Int32.ofNat s'), .long N0, .retAddr 0, .retAddr 0, .retAddr 0] [] τ → lj_R lc_P 195 [.ref 8, .int line, .int as] σ = lj_D lc_P lc_M195 126 [.ref 8, .int line, .int as, .int (Int32.ofNat s), .long x4, .retAddr 0] [] σ1 → ∃ τ1, lj_R lm_P 187 [.ref 0, .int 25] τ = some (.inl none, τ1) ∧ ocR σ0 τ0 A (fun t => t ≤ X) σ τ1 (lj_R lc_P 159 [.ref 8, .int 25, .int as, .int line] σ) := fun σ1 x4 k1 k2 k3 k4 => by
        have hB := h.sc (cAd_z k2) (lf_rf szM τ)
        obtain ⟨σ', τ', q1, q2, q3⟩ := cm_wrong hB.2.1 line (e := 7) (by decide)
        have q1 : lj_br (lj_R lc_P 133 [.ref 8, .int line, .ref 1026] σ1) (fun y s => (bif Nat.blt y 2000 then lj_up y s else none)) lj_up = some (.inr 2, σ') := q1
        have q2 : lj_R lm_P 142 [.ref 0, .int 7, .int line] τ = some (.inl none, τ') := q2
        refine ⟨τ', rM ?_, ?_⟩
        · rw [headM, k3, km_230_83, hln, q2, bv_ok]
        · have l6 : ¬ (σ1.1 3 6 ≤ 1000) := by
            rw [lz_le]
            show ¬ (lv σ1 3 6 ≤ (1000 : Int))
            omega
          rw [rC k4, kc_195_126, rc_192, kc_192_0, if_neg l6, q1, bi_th]
          exact (bt_er ry hwk hB (cAd_b k2) (lf_rf _ _) q3 (by omega)).fin.fin
      by_cases emp : (cS σ s).length = 0
      · refine good 0 (lj_put σ 3 6 0) 0 (by omega) (by omega) (by rw [hN0, if_pos (Or.inr emp)]; rfl) bb2 bb3 ?_
        rw [headC]
        have c1' := (hG.ad bb3 dd3).c1 hGl
        rw [ea] at c1'
        rw [kc_195_64, c1'.2, bl_ok]
        by_cases z : 0 ≤ lg_cmp 0 v
        · rw [if_pos z]
        · have o11 : (lj_put σ 3 6 0).1 11 s ≤ 0 := by rw [lj_put_1, if_neg (by omega), b1, emp]; decide
          rw [if_neg z, if_pos is, ns, if_pos o11]
      · have cs1 : cS (lj_put σ 3 6 0) s = cS σ s := (sG_dr (σ := σ) (τ := τ) bb3 dd3).2.2.1 s se.1
        have s7 : (s : Int) < lv (lj_put σ 3 6 0) 3 7 := by
          have : lv (lj_put σ 3 6 0) 3 7 = lv σ 3 7 := bb3.v (by unfold cAd; simp)
          rw [this]
          exact se.1
        obtain ⟨σ1, K, r1, r2, r3, r4, r5, r6⟩ := rp_C s1 as line hGl ea (S := cS σ s) (by omega) l1000 1001 0 (lj_put σ 3 6 0) (lj_put τ 0 20 0) (by omega) hA.2.1 (hG.ad bb3 dd3) s7 cs1 bb2 (by omega)
        have r1 : lj_D lc_P lc_M195 64 [.ref 8, .int line, .int as, .int (Int32.ofNat s), .long 0, .retAddr 0] [] (lj_put σ 3 6 0) = _ := r1
        have run := headC.trans r1
        by_cases big : 1000 < K * (cS σ s).length
        · refine bad σ1 _ (by have := r2.1; rw [rpt_len] at this; omega) (bb3.tr r6) ?_ run
          have kp : 1 ≤ K := by
            rcases Nat.eq_zero_or_pos K with y | y
            · rw [y, Nat.zero_mul] at big; omega
            · exact y
          have vK : (K : Int) ≤ v.toInt := by omega
          have hN : N0 = v := by rw [hN0, if_neg (fun q => q.elim (fun w => by omega) emp)]
          rw [hN, km_230_58]
          by_cases z : 0 < lg_cmp v 1000
          · rw [if_pos z]
          · have vl : v.toInt ≤ 1000 := by
              have := Int64.le_iff_toInt_le.1 ((lg_le _ _).1 (Int32.not_lt.1 z))
              rw [t1000] at this
              exact this
            obtain ⟨V, hV⟩ : ∃ V : Nat, (V : Int) = v.toInt := ⟨v.toInt.toNat, by omega⟩
            have ge : K * (cS σ s).length ≤ V * (cS σ s).length := Nat.mul_le_mul_right _ (by omega)
            have le : V * (cS σ s).length ≤ 1000 * 1000 := Nat.mul_le_mul (by omega) l1000
            have mul : (v * (Int32.ofNat (cS σ s).length).toInt64).toInt = ((V * (cS σ s).length : Nat) : Int) := by
              rw [Int64.toInt_mul, ← hV, Int32.toInt_toInt64, lz_lit (by omega), ← Int.natCast_mul, Int.bmod_eq_of_le] <;> omega
            rw [if_neg z, if_pos is', ns', b2, if_neg (fun y => by
              have := Int64.le_iff_toInt_le.1 ((lg_le _ _).1 y)
              rw [mul, t1000] at this
              omega)]
        · have vK : v.toInt ≤ (K : Int) := r5.resolve_right big
          have K1000 : K ≤ 1000 := by
            refine Classical.byContradiction (fun y => big ?_)
            have : 1001 * 1 ≤ K * (cS σ s).length := Nat.mul_le_mul (by omega) (by omega)
            omega
          refine good K σ1 _ K1000 (by omega) ?_ r2 (bb3.tr r6) run
          rw [hN0]
          by_cases z : v.toInt < 1
          · have : K = 0 := by omega
            rw [if_pos (Or.inl z), this]
            rfl
          · rw [if_neg (fun q => q.elim z emp)]
            exact lg_ext (by rw [i64_int (by omega)]; omega)
    · have w2' : ¬ ((G'.getD 1 (0, 0)).1 = 2) := fun q => w2 ((hw.kk (by decide) (by decide)).2 q)
      obtain ⟨σ', τ', q1, q2, q3⟩ := nd_bad h.2.1 hln 2 (w := 25) (by decide)
      have q1 : lj_R lc_P 168 [.ref 8, .int 0, .int 2, .int 25, .int line] σ = some (.inr 2, σ') := q1
      have w5 := (m_wants hG (by omega) (i := 1) (by omega) 2 25).2 w2' τ' q2
      have w5 : lj_R lm_P 198 [.ref 0, .int 2, .int 2, .int 25] τ = some (.inl (some (.int 0)), τ') := w5
      refine ⟨τ', rM ?_, ?_⟩
      · rw [rm_230, km_230_0, w4, bi_ok, if_neg (by decide), w5, bi_ok, if_pos rfl, km_230_22]
      · rw [rC rfl, rc_195, kc_195_0, c0.1, bi_ok, if_pos rfl, kc_195_15, nd_ok _ (by decide), bv_ok, c1.1, bi_ok, if_neg w2, kc_195_37, q1, bv_th]
        exact (bt_er ry hwk h (lf_rf _ _) (lf_rf _ _) q3 (by omega)).fin.fin
  · have z3' : ¬ ((G'.getD 0 (0, 0)).1 = 3) := fun q => z3 ((hv.kk (by decide) (by decide)).2 q)
    obtain ⟨σ', τ', q1, q2, q3⟩ := nd_bad h.2.1 hln 1 (w := 25) (by decide)
    have q1 : lj_R lc_P 168 [.ref 8, .int 0, .int 1, .int 25, .int line] σ = some (.inr 2, σ') := q1
    have w4 := (m_wants hG (by omega) (i := 0) (by omega) 3 25).2 z3' τ' q2
    have w4 : lj_R lm_P 198 [.ref 0, .int 1, .int 3, .int 25] τ = some (.inl (some (.int 0)), τ') := w4
    refine ⟨τ', rM ?_, ?_⟩
    · rw [rm_230, km_230_0, w4, bi_ok, if_pos rfl, km_230_22]
    · rw [rC rfl, rc_195, kc_195_0, c0.1, bi_ok, if_neg z3, kc_195_15, q1, bv_th]
      exact (bt_er ry hwk h (lf_rf _ _) (lf_rf _ _) q3 (by omega)).fin.fin
