/-! what is built in: parts of texts, texts many times -/
theorem by_and {b : Int32} (h : lz_by b = b) : lz_by (b &&& 255) = b := by
  have : lz_by (b &&& 255) = lz_by b := by
    unfold lz_by
    rw [lz_255]
  rw [this, h]
theorem sb_loop {s s' : Nat} (s1 : s < 2600) (s2 : s' < 3000) (as line : Int32) (x4 x6 y2 y4 : Int64) {t : Nat} (ht : t ≤ 1000) : ∀ (d k : Nat) (σ τ : lj_S) (T : List Int32), k + d = t + 1 → 1 ≤ k → sM σ τ → sE σ τ s s' → t ≤ (cS σ s).length → cDr σ T → mDr τ T → T.length + 1 ≤ k → ∃ σ' τ' T', lj_D lc_P lc_M194 200 [.ref 8, .int line, .int as, .int (Int32.ofNat s), .long x4, .retAddr 0, .long x6, .retAddr 0, .long (i64 t), .retAddr 0, .long (i64 k), .retAddr 0] [] σ = lj_bi (lj_R lc_P 136 [.ref 8] σ') (fun y s => finC (lj_R lc_P 164 [.ref 8, .int 22, .int 3, .long y.toInt64, .int as] s)) lj_up ∧ lj_D lm_P lm_M227 172 [.ref 0, .int (Int32.ofNat s'), .long y2, .retAddr 0, .long y4, .retAddr 0, .long (i64 t), .retAddr 0, .long (i64 k), .retAddr 0] [] τ = lj_bv (lj_R lm_P 194 [.ref 0] τ') (fun s => some (.inl none, s)) lj_up ∧ cDr σ' T' ∧ mDr τ' T' ∧ T'.length ≤ t ∧ lf cAd σ σ' ∧ lf mAd τ τ'
  | 0, k, σ, τ, T, hd, hk, hs, se, hl, hC, hD, hT => by
    have c := (i64_cmp (a := k) (b := t) (by omega) (by omega)).1.2 (by omega)
    refine ⟨σ, τ, T, ?_, ?_, hC, hD, by omega, lf_rf _ _, lf_rf _ _⟩
    · rw [kc_194_200, if_pos c]
      rfl
    · rw [km_227_172, if_pos c, km_227_217]
  | d + 1, k, σ, τ, T, hd, hk, hs, se, hl, hC, hD, hT => by
    have c : ¬ (0 < lg_cmp (i64 k) (i64 t)) := fun z => by
      have := (i64_cmp (a := k) (b := t) (by omega) (by omega)).1.1 z
      omega
    have c0 : ¬ (lg_cmp (i64 k) 0 ≤ 0) := fun z => by
      have := (i64_cmp (a := k) (b := 0) (by omega) (by omega)).2.1 z
      omega
    obtain ⟨k', rfl⟩ : ∃ k', k = k' + 1 := ⟨k - 1, by omega⟩
    obtain ⟨b, _, y1, y2', y3, y4'⟩ := x_byt hs.1 se (i := k') (by omega)
    have is' : lj_in (Int32.ofNat s') 3000 := ofN_in (by omega) (by omega)
    have ns' : (Int32.ofNat s').toNatClampNeg = s' := lz_onat (by omega)
    obtain ⟨σ1, a1, a2, a3⟩ := c_add σ (b &&& 255) hC (by omega)
    obtain ⟨τ1, b1, b2, b3⟩ := m_dgx τ b hD (by omega)
    rw [by_and y1] at a2
    rw [y1] at b2
    have hs1 := hs.dr a3 b3
    have se1 : sE σ1 τ1 s s' := se.up (sG_dr a3 b3)
    have cs1 : cS σ1 s = cS σ s := (sG_dr (σ := σ) (τ := τ) a3 b3).2.2.1 s se.1
    obtain ⟨σ', τ', T', q1, q2, q3, q4, q5, q6, q7⟩ := sb_loop s1 s2 as line x4 x6 y2 y4 ht d (k' + 1 + 1) σ1 τ1 _ (by omega) (by omega) hs1 se1 (by rw [cs1]; exact hl) a2 b2 (by simp; omega)
    have ad : τ.1 3 s' + (i64 (k' + 1) : Int64).toInt32 - 1 = τ.1 3 s' + Int32.ofNat k' := by
      rw [i64_32, ← lz_osucc k', ← Int32.add_assoc, Int32.add_sub_cancel]
    refine ⟨σ', τ', T', ?_, ?_, q3, q4, q5, a3.tr q6, b3.tr q7⟩
    · rw [kc_194_200, if_neg c, i64_32, lz_pred', y2', bi_ok, a1, bv_ok, i64_succ (by omega)]
      exact q1
    · rw [km_227_172, if_neg c, if_neg c0, if_pos is', ns', ad, if_pos y3, y4', b1, bv_ok, i64_succ (by omega)]
      exact q2
theorem bi_22 {σ0 τ0 σ τ : lj_S} {n np p : Nat} {r : List Nat} {FP : Nat → List kF} {ρ : Nat → Nat} {A MO LA : List Nat} {M : Nat} (D : DLV σ0 τ0 M) (h : MB σ0 τ0 n np p r FP ρ A MO LA σ τ) (ry : ryR σ τ) (hwk : wkR FP (p :: r) A σ) {as line : Int32} (ht : τ.1 0 129 = 1) (ha : awR σ0 (FP p) as (τ.1 0 130) (τ.1 0 131)) (hln : τ.1 0 132 = line) {G G' : List vT} (hG : gwR σ τ G G') (hGl : G.length ≤ 49) (hM : thM FP (p :: r) MO LA + 5001 ≤ M) {X : Nat} (hX : X ≤ TH) (hT : thM FP (p :: r) MO LA + 5001 ≤ X) : ∃ τ1, lj_R lm_P 187 [.ref 0, .int 22] τ = some (.inl none, τ1) ∧ ocR σ0 τ0 A (fun t => t ≤ X) σ τ1 (lj_R lc_P 159 [.ref 8, .int 22, .int as, .int line] σ) := by
  have c0 := hG.c0 hGl
  have c1 := hG.c1 hGl
  have c2 := hG.c2 hGl
  have m1 := hG.m1 hGl
  have m2 := hG.m2 hGl
  have m3 := hG.m3 hGl
  have hv := hG.v 0
  have hw := hG.v 1
  have hu := hG.v 2
  have rC : ∀ {x : Option lj_O}, lj_R lc_P 194 [.ref 8, .int line, .int as] σ = x → lj_R lc_P 159 [.ref 8, .int 22, .int as, .int line] σ = finC (finC x) := fun e => by
    rw [cb_more (by decide) (by decide), rc_187, kc_187_0, if_neg (by decide), if_neg (by decide), if_neg (by decide), if_neg (by decide), if_neg (by decide), if_pos rfl, e]
    simp only [kc_187_919]
    rfl
  have rM : ∀ {τx : lj_S}, lj_R lm_P 227 [.ref 0] τ = some (.inl none, τx) → lj_R lm_P 187 [.ref 0, .int 22] τ = some (.inl none, τx) := fun e => mb_more (by decide) (by rw [rm_221, km_221_0, if_neg (by decide), if_neg (by decide), if_neg (by decide), if_neg (by decide), if_neg (by decide), if_pos rfl, e, bv_ok, km_221_215])
  by_cases z3 : (G.getD 0 (0, 0)).1 = 3
  · obtain ⟨s, s', s1, s2, e1, e2, se⟩ := hv.st z3
    rw [e1] at c0
    rw [e2] at m1
    obtain ⟨b1, b2, b3⟩ := sE_sz h.2.1.1 se
    have l1000 : (cS σ s).length ≤ 1000 := h.2.1.2.2.2.1 s se.1
    have is : lj_in (Int32.ofNat s) 2600 := ofN_in (by omega) (by omega)
    have is' : lj_in (Int32.ofNat s') 3000 := ofN_in (by omega) (by omega)
    have ns : (Int32.ofNat s).toNatClampNeg = s := lz_onat (by omega)
    have ns' : (Int32.ofNat s').toNatClampNeg = s' := lz_onat (by omega)
    have w4 := (m_wants hG (by omega) (i := 0) (by omega) 3 22).1 (by rw [e2])
    have w4 : lj_R lm_P 198 [.ref 0, .int 1, .int 3, .int 22] τ = some (.inl (some (.int 1)), τ) := w4
    obtain ⟨N, hN⟩ : ∃ N : Int64, N = (Int32.ofNat (cS σ s).length).toInt64 := ⟨_, rfl⟩
    have lt : N.toInt = ((cS σ s).length : Int) := by rw [hN, Int32.toInt_toInt64, lz_lit (by omega)]
    by_cases w2 : (G.getD 1 (0, 0)).1 = 2
    · have e := hw.wh w2
      obtain ⟨v, hv2⟩ : ∃ v, v = (G.getD 1 (0, 0)).2 := ⟨_, rfl⟩
      have ea : G.getD 1 (0, 0) = (2, v) := Prod.ext w2 hv2.symm
      rw [ea] at e c1
      rw [e] at m2
      have w5 := (m_wants hG (by omega) (i := 1) (by omega) 2 22).1 (by rw [e])
      have w5 : lj_R lm_P 198 [.ref 0, .int 2, .int 2, .int 22] τ = some (.inl (some (.int 1)), τ) := w5
      have i1 : (1 : Int64).toInt = 1 := by decide
      -- both ends are known
      have main : ∀ (f t : Int64), ∃ τ1, lj_D lm_P lm_M227 131 [.ref 0, .int (Int32.ofNat s'), .long N, .retAddr 0, .long f, .retAddr 0, .retAddr 0, .retAddr 0, .retAddr 0, .retAddr 0] [.long t] τ = some (.inl none, τ1) ∧ ocR σ0 τ0 A (fun t => t ≤ X) σ τ1 (lj_D lc_P lc_M194 167 [.ref 8, .int line, .int as, .int (Int32.ofNat s), .long N, .retAddr 0, .long f, .retAddr 0, .retAddr 0, .retAddr 0, .retAddr 0, .retAddr 0] [.long t] σ) := fun f t => by
        obtain ⟨F, hF⟩ : ∃ F : Int64, F = if lg_cmp f 1 < 0 then 1 else f := ⟨_, rfl⟩
        obtain ⟨T, hT2⟩ : ∃ T : Int64, T = if 0 < lg_cmp t N then N else t := ⟨_, rfl⟩
        obtain ⟨bb1, bb2, bb3⟩ := c_bgn σ
        obtain ⟨dd2, dd3⟩ := m_bgn τ
        have rc1 : lj_D lc_P lc_M194 167 [.ref 8, .int line, .int as, .int (Int32.ofNat s), .long N, .retAddr 0, .long f, .retAddr 0, .retAddr 0, .retAddr 0, .retAddr 0, .retAddr 0] [.long t] σ = lj_D lc_P lc_M194 200 [.ref 8, .int line, .int as, .int (Int32.ofNat s), .long N, .retAddr 0, .long F, .retAddr 0, .long T, .retAddr 0, .long F, .retAddr 0] [] (lj_put σ 3 6 0) := by
          have x1 : lj_R lc_P 224 [.long f, .long 1] σ = some (.inl (some (.long F)), σ) := by
            rw [rc_224, kc_224_0, hF]
            by_cases z : lg_cmp f 1 < 0
            · rw [if_pos z, if_pos z, kc_224_11]
            · rw [if_neg z, if_neg z, kc_224_11]
          have x2 : lj_R lc_P 225 [.long t, .long N] σ = some (.inl (some (.long T)), σ) := by
            rw [rc_225, kc_225_0, hT2]
            by_cases z : 0 < lg_cmp t N
            · rw [if_pos z, if_pos z, kc_225_11]
            · rw [if_neg z, if_neg z, kc_225_11]
          rw [kc_194_167, x1, bl_ok, x2, bl_ok, bb1, bv_ok]
        have rm1 : lj_D lm_P lm_M227 131 [.ref 0, .int (Int32.ofNat s'), .long N, .retAddr 0, .long f, .retAddr 0, .retAddr 0, .retAddr 0, .retAddr 0, .retAddr 0] [.long t] τ = lj_D lm_P lm_M227 172 [.ref 0, .int (Int32.ofNat s'), .long N, .retAddr 0, .long F, .retAddr 0, .long T, .retAddr 0, .long F, .retAddr 0] [] (lj_put τ 0 20 0) := by
          have x2 : lj_D lm_P lm_M227 146 [.ref 0, .int (Int32.ofNat s'), .long N, .retAddr 0, .long f, .retAddr 0, .long t, .retAddr 0, .retAddr 0, .retAddr 0] [.long F] τ = lj_D lm_P lm_M227 172 [.ref 0, .int (Int32.ofNat s'), .long N, .retAddr 0, .long F, .retAddr 0, .long T, .retAddr 0, .long F, .retAddr 0] [] (lj_put τ 0 20 0) := by
            rw [km_227_146, hT2]
            by_cases z : 0 < lg_cmp t N
            · rw [if_neg (Int32.not_le.2 z), if_pos z, km_227_161]
            · rw [if_pos (Int32.not_lt.1 z), if_neg z, km_227_161]
          rw [km_227_131, ← x2]
          by_cases z : lg_cmp f 1 < 0
          · rw [if_neg (Int32.not_le.2 z), hF, if_pos z]
          · rw [if_pos (Int32.not_lt.1 z), hF, if_neg z]
        have F1 : 1 ≤ F.toInt := by
          rw [hF]
          by_cases z : lg_cmp f 1 < 0
          · rw [if_pos z, i1]; omega
          · rw [if_neg z]
            have : ¬ (f.toInt < 1) := fun q => z ((lg_lt _ _).2 (Int64.lt_iff_toInt_lt.2 (by rw [i1]; exact q)))
            omega
        have T1 : T.toInt ≤ ((cS σ s).length : Int) := by
          rw [hT2]
          by_cases z : 0 < lg_cmp t N
          · rw [if_pos z, lt]; omega
          · rw [if_neg z]
            have := Int64.le_iff_toInt_le.1 ((lg_le _ _).1 (Int32.not_lt.1 z))
            rw [lt] at this
            exact this
        have hA := h.sc (cAd_z bb3) (mAd_z dd3)
        by_cases emp : T.toInt < F.toInt
        · have c : 0 < lg_cmp F T := Int32.not_le.1 (fun y => by
            have := Int64.le_iff_toInt_le.1 ((lg_le _ _).1 y)
            omega)
          obtain ⟨τ2, p1, p2⟩ := bi_mk D ry hwk ha hA (cAd_b bb3) (mAd_b dd3) bb2 dd2 (by decide) (by omega) (by omega) hX 22
          refine ⟨τ2, ?_, ?_⟩
          · rw [rm1, km_227_172, if_pos c, km_227_217]
            exact bvF p1
          · rw [rc1, kc_194_200, if_pos c]
            exact p2
        · obtain ⟨k, hk⟩ : ∃ k : Nat, (k : Int) = F.toInt := ⟨F.toInt.toNat, by omega⟩
          obtain ⟨tt, htt⟩ : ∃ tt : Nat, (tt : Int) = T.toInt := ⟨T.toInt.toNat, by omega⟩
          have Fk : F = i64 k := lg_ext (by rw [i64_int (by omega)]; exact hk.symm)
          have Tt : T = i64 tt := lg_ext (by rw [i64_int (by omega)]; exact htt.symm)
          have se1 : sE (lj_put σ 3 6 0) (lj_put τ 0 20 0) s s' := se.up (sG_dr bb3 dd3)
          have cs1 : cS (lj_put σ 3 6 0) s = cS σ s := (sG_dr (σ := σ) (τ := τ) bb3 dd3).2.2.1 s se.1
          obtain ⟨σ', τ', T', q1, q2, q3, q4, q5, q6, q7⟩ := sb_loop s1 s2 as line N F N F (t := tt) (by omega) (tt + 1 - k) k (lj_put σ 3 6 0) (lj_put τ 0 20 0) [] (by omega) (by omega) hA.2.1 se1 (by rw [cs1]; omega) bb2 dd2 (by simp; omega)
          rw [← Fk, ← Tt] at q1 q2
          obtain ⟨τ2, p1, p2⟩ := bi_mk D ry hwk ha (hA.sc (cAd_z q6) (mAd_z q7)) ((cAd_b bb3).tr (cAd_b q6)) ((mAd_b dd3).tr (mAd_b q7)) q3 q4 (by omega) (by omega) (by omega) hX 22
          refine ⟨τ2, ?_, ?_⟩
          · rw [rm1, q2]
            exact bvF p1
          · rw [rc1, q1]
            exact p2
      -- where it begins is known
      have mid : ∀ (f : Int64), (G.getD 2 (0, 0)).1 = 0 ∨ (G.getD 2 (0, 0)).1 = 2 → ∃ τ1, lj_D lm_P lm_M227 90 [.ref 0, .int (Int32.ofNat s'), .long N, .retAddr 0, .retAddr 0, .retAddr 0, .retAddr 0, .retAddr 0, .retAddr 0, .retAddr 0] [.long f] τ = some (.inl none, τ1) ∧ ocR σ0 τ0 A (fun t => t ≤ X) σ τ1 (lj_D lc_P lc_M194 124 [.ref 8, .int line, .int as, .int (Int32.ofNat s), .long N, .retAddr 0, .retAddr 0, .retAddr 0, .retAddr 0, .retAddr 0, .retAddr 0, .retAddr 0] [.long f] σ) := fun f hk => by
        by_cases u0 : (G.getD 2 (0, 0)).1 = 0
        · have u0' : (G'.getD 2 (0, 0)).1 = 0 := hu.k0.1 u0
          obtain ⟨τ1, p1, p2⟩ := main f N
          refine ⟨τ1, ?_, ?_⟩
          · rw [km_227_90, m3.1, bi_ok, if_pos u0']
            exact p1
          · rw [kc_194_124, c2.1, bi_ok, if_pos u0]
            exact p2
        · have u2 : (G.getD 2 (0, 0)).1 = 2 := hk.resolve_left u0
          have e' := hu.wh u2
          obtain ⟨t, ht2⟩ : ∃ t, t = (G.getD 2 (0, 0)).2 := ⟨_, rfl⟩
          have ea' : G.getD 2 (0, 0) = (2, t) := Prod.ext u2 ht2.symm
          rw [ea'] at e' c2
          rw [e'] at m3
          by_cases pos : 0 ≤ lg_cmp t 0
          · obtain ⟨τ1, p1, p2⟩ := main f t
            refine ⟨τ1, ?_, ?_⟩
            · rw [km_227_90, m3.1, bi_ok, if_neg (by dsimp only; decide), m3.2, bl_ok, if_pos pos, m3.2, bl_ok]
              exact p1
            · rw [kc_194_124, c2.1, bi_ok, if_neg (by dsimp only; decide), c2.2, bl_ok, if_pos pos, c2.2, bl_ok]
              exact p2
          · obtain ⟨τ1, p1, p2⟩ := main f (t + N + 1)
            refine ⟨τ1, ?_, ?_⟩
            · rw [km_227_90, m3.1, bi_ok, if_neg (by dsimp only; decide), m3.2, bl_ok, if_neg pos, m3.2, bl_ok, Int64.add_comm N t]
              exact p1
            · rw [kc_194_124, c2.1, bi_ok, if_neg (by dsimp only; decide), c2.2, bl_ok, if_neg pos, c2.2, bl_ok]
              exact p2
      have go : (G.getD 2 (0, 0)).1 = 0 ∨ (G.getD 2 (0, 0)).1 = 2 → ∃ τ1, lj_D lm_P lm_M227 48 [.ref 0, .retAddr 0, .retAddr 0, .retAddr 0, .retAddr 0, .retAddr 0, .retAddr 0, .retAddr 0, .retAddr 0, .retAddr 0] [] τ = some (.inl none, τ1) ∧ ocR σ0 τ0 A (fun t => t ≤ X) σ τ1 (lj_D lc_P lc_M194 67 [.ref 8, .int line, .int as, .retAddr 0, .retAddr 0, .retAddr 0, .retAddr 0, .retAddr 0, .retAddr 0, .retAddr 0, .retAddr 0, .retAddr 0] [.int 1, .ref 8] σ) := fun hk => by
        by_cases pos : 0 ≤ lg_cmp v 0
        · obtain ⟨τ1, p1, p2⟩ := mid v hk
          refine ⟨τ1, ?_, ?_⟩
          · rw [km_227_48, m1.2, bl_ok]
            simp only [i64_32, if_pos is', ns', b2]
            rw [m2.2, bl_ok, if_pos pos, m2.2, bl_ok, ← hN]
            exact p1
          · rw [kc_194_67, nd_ok _ (by decide), bv_ok, c0.2, bl_ok]
            simp only [i64_32, if_pos is, ns, b1]
            rw [c1.2, bl_ok, if_pos pos, c1.2, bl_ok, ← hN]
            exact p2
        · obtain ⟨τ1, p1, p2⟩ := mid (v + N + 1) hk
          refine ⟨τ1, ?_, ?_⟩
          · rw [km_227_48, m1.2, bl_ok]
            simp only [i64_32, if_pos is', ns', b2]
            rw [m2.2, bl_ok, if_neg pos, m2.2, bl_ok, ← hN, Int64.add_comm N v]
            exact p1
          · rw [kc_194_67, nd_ok _ (by decide), bv_ok, c0.2, bl_ok]
            simp only [i64_32, if_pos is, ns, b1]
            rw [c1.2, bl_ok, if_neg pos, c1.2, bl_ok, ← hN]
            exact p2
      by_cases u0 : (G.getD 2 (0, 0)).1 = 0
      · have u0' : (G'.getD 2 (0, 0)).1 = 0 := hu.k0.1 u0
        obtain ⟨τ1, p1, p2⟩ := go (Or.inl u0)
        refine ⟨τ1, rM ?_, ?_⟩
        · rw [rm_227, km_227_0, w4, bi_ok, if_neg (by decide), w5, bi_ok, if_neg (by decide), m3.1, bi_ok, if_pos u0']
          exact p1
        · rw [rC rfl, rc_194, kc_194_0, c0.1, bi_ok, if_pos rfl, kc_194_15, nd_ok _ (by decide), bv_ok, c1.1, bi_ok, if_pos rfl, kc_194_37, nd_ok _ (by decide), bv_ok, c2.1, bi_ok, if_pos u0, kc_194_62]
          exact p2.fin.fin
      · have u0' : ¬ ((G'.getD 2 (0, 0)).1 = 0) := fun q => u0 (hu.k0.2 q)
        by_cases u2 : (G.getD 2 (0, 0)).1 = 2
        · have u2' : (G'.getD 2 (0, 0)).1 = 2 := (hu.kk (by decide) (by decide)).1 u2
          obtain ⟨τ1, p1, p2⟩ := go (Or.inr u2)
          refine ⟨τ1, rM ?_, ?_⟩
          · rw [rm_227, km_227_0, w4, bi_ok, if_neg (by decide), w5, bi_ok, if_neg (by decide), m3.1, bi_ok, if_neg u0', m3.1, bi_ok, if_pos u2']
            exact p1
          · rw [rC rfl, rc_194, kc_194_0, c0.1, bi_ok, if_pos rfl, kc_194_15, nd_ok _ (by decide), bv_ok, c1.1, bi_ok, if_pos rfl, kc_194_37, nd_ok _ (by decide), bv_ok, c2.1, bi_ok, if_neg u0, c2.1, bi_ok, if_pos u2, kc_194_62]
            exact p2.fin.fin
        · have u2' : ¬ ((G'.getD 2 (0, 0)).1 = 2) := fun q => u2 ((hu.kk (by decide) (by decide)).2 q)
          obtain ⟨σ', τ', q1, q2, q3⟩ := nd_bad h.2.1 hln 3 (w := 22) (by decide)
          have q1 : lj_R lc_P 168 [.ref 8, .int 0, .int 3, .int 22, .int line] σ = some (.inr 2, σ') := q1
          have q2 : lj_R lm_P 199 [.ref 0, .int 3, .int 22] τ = some (.inl none, τ') := q2
          refine ⟨τ', rM ?_, ?_⟩
          · rw [rm_227, km_227_0, w4, bi_ok, if_neg (by decide), w5, bi_ok, if_neg (by decide), m3.1, bi_ok, if_neg u0', m3.1, bi_ok, if_neg u2', q2, bv_ok]
          · rw [rC rfl, rc_194, kc_194_0, c0.1, bi_ok, if_pos rfl, kc_194_15, nd_ok _ (by decide), bv_ok, c1.1, bi_ok, if_pos rfl, kc_194_37, nd_ok _ (by decide), bv_ok, c2.1, bi_ok, if_neg u0, c2.1, bi_ok, if_neg u2, kc_194_67, q1, bv_th]
            exact (bt_er ry hwk h (lf_rf _ _) (lf_rf _ _) q3 (by omega)).fin.fin
    · have w2' : ¬ ((G'.getD 1 (0, 0)).1 = 2) := fun q => w2 ((hw.kk (by decide) (by decide)).2 q)
      obtain ⟨σ', τ', q1, q2, q3⟩ := nd_bad h.2.1 hln 2 (w := 22) (by decide)
      have q1 : lj_R lc_P 168 [.ref 8, .int 0, .int 2, .int 22, .int line] σ = some (.inr 2, σ') := q1
      have w5 := (m_wants hG (by omega) (i := 1) (by omega) 2 22).2 w2' τ' q2
      have w5 : lj_R lm_P 198 [.ref 0, .int 2, .int 2, .int 22] τ = some (.inl (some (.int 0)), τ') := w5
      refine ⟨τ', rM ?_, ?_⟩
      · rw [rm_227, km_227_0, w4, bi_ok, if_neg (by decide), w5, bi_ok, if_pos rfl, km_227_22]
      · rw [rC rfl, rc_194, kc_194_0, c0.1, bi_ok, if_pos rfl, kc_194_15, nd_ok _ (by decide), bv_ok, c1.1, bi_ok, if_neg w2, kc_194_37, q1, bv_th]
        exact (bt_er ry hwk h (lf_rf _ _) (lf_rf _ _) q3 (by omega)).fin.fin
  · have z3' : ¬ ((G'.getD 0 (0, 0)).1 = 3) := fun q => z3 ((hv.kk (by decide) (by decide)).2 q)
    obtain ⟨σ', τ', q1, q2, q3⟩ := nd_bad h.2.1 hln 1 (w := 22) (by decide)
    have q1 : lj_R lc_P 168 [.ref 8, .int 0, .int 1, .int 22, .int line] σ = some (.inr 2, σ') := q1
    have w4 := (m_wants hG (by omega) (i := 0) (by omega) 3 22).2 z3' τ' q2
    have w4 : lj_R lm_P 198 [.ref 0, .int 1, .int 3, .int 22] τ = some (.inl (some (.int 0)), τ') := w4
    refine ⟨τ', rM ?_, ?_⟩
    · rw [rm_227, km_227_0, w4, bi_ok, if_pos rfl, km_227_22]
    · rw [rC rfl, rc_194, kc_194_0, c0.1, bi_ok, if_neg z3, kc_194_15, q1, bv_th]
      exact (bt_er ry hwk h (lf_rf _ _) (lf_rf _ _) q3 (by omega)).fin.fin
