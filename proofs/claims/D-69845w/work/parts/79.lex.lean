theorem lz_osub {a c : Nat} (h : c ≤ a) (ha : a < 2147483648) : Int32.ofNat a - Int32.ofNat c = Int32.ofNat (a - c) := by
  apply lz_ext
  rw [lz_sub (by rw [lz_lit ha, lz_lit (by omega)]; omega), lz_lit ha, lz_lit (by omega), lz_lit (by omega)]
  omega
theorem cTok_comm (σ : lj_S) (T : Nat) (kd : Int32) (v : Int64) (p : Nat) (x : Int32) : cTok (lj_put σ 4 2 x) T kd v p = lj_put (cTok σ T kd v p) 4 2 x := by
  unfold cTok
  apply Prod.ext
  · funext k1 j1
    simp only [lj_put_1, lj_putL_1]
    by_cases a : k1 = 4 ∧ j1 = 2
    · obtain ⟨rfl, rfl⟩ := a; simp
    · simp [a]
  · rfl
/-- all but strings -/
def cDx (k j : Nat) : Bool := k == 14 || k == 4 || (k == 3 && j == 6)
def mDx (k j : Nat) : Bool := k == 8 || (k == 0 && j != 14 && j != 8)
theorem sR_dx {σ τ σ' τ' : lj_S} {X : List Int32 → Prop} (h : sR σ τ X) (f : lf cDx σ σ') (g : lf mDx τ τ') : sR σ' τ' X ∧ sG σ τ σ' τ' := by
  have kS : ∀ t, cS σ' t = cS σ t := cS_cong (fun j => (f 9 j rfl).1) (fun j => (f 10 j rfl).1) (fun j => (f 11 j rfl).1)
  have kM : ∀ t, mS τ' t = mS τ t := mS_cong (fun j => (g 2 j rfl).1) (fun j => (g 3 j rfl).1) (fun j => (g 4 j rfl).1)
  have l7 : lv σ' 3 7 = lv σ 3 7 := f.v rfl
  have l14 : lv τ' 0 14 = lv τ 0 14 := g.v rfl
  refine ⟨⟨cOK_cong h.1 (fun j => (f 9 j rfl).1) (fun j => (f 10 j rfl).1) (fun j => (f 11 j rfl).1) (fun j => (f 12 j rfl).1) (fun j => (f 13 j rfl).1) (f 3 7 rfl).1 (f 3 8 rfl).1, mOK_cong h.2.1 (fun j => (g 2 j rfl).1) (fun j => (g 3 j rfl).1) (fun j => (g 4 j rfl).1) (fun j => (g 6 j rfl).1) (fun j => (g 7 j rfl).1) (g 0 14 rfl).1 (g 0 8 rfl).1, fun D => ?_⟩, ⟨by omega, by omega, fun t _ => kS t, fun t _ => kM t⟩⟩
  have e1 : mHas τ' D ↔ mHas τ D := by
    unfold mHas lv
    simp only [l14, kM, (g 5 _ rfl).1]
    rw [show (τ'.1 0 14) = τ.1 0 14 from (g 0 14 rfl).1]
  have e2 : cHas σ' D ↔ cHas σ D := by
    unfold cHas
    simp only [l7, kS, (f 15 _ rfl).1]
  rw [e1, e2]; exact h.2.2 D
theorem cAt_dx (σ : lj_S) (b : Nat → Int32) (k : Nat) : lf cDx σ (cAt σ b k) := lf_put (lf_put (lf_rf _ _) _ _ _ rfl) _ _ _ rfl
theorem l_w1 : ∀ w : Fin 21, (Int32.ofNat w.val + 1).toInt64 = Int64.ofNat (w.val + 1) := by decide
theorem l_w2 : ∀ w : Fin 21, ¬ (Int32.ofNat w.val + 1 ≤ 0) ∧ ¬ Int32.ofNat w.val < 0 := by decide
theorem l_w3 : ∀ w : Fin 21, (10 : Int32) + Int32.ofNat w.val = Int32.ofNat (10 + w.val) := by decide
theorem cm_readName {b : Nat → Int32} {n : Nat} (hb : tB b n) (σ τ : lj_S) (hC : tC σ b n) (hM : tM τ b n) (X : List Int32 → Prop) (h : sR σ τ X) (T : Nat) (hT : lv σ 4 4 = (T : Int)) (hT2 : T < 1502) (c1 : lv σ 3 7 < 2600) (c2 : lv σ 3 8 ≤ 39000) (c3 : lv τ 0 14 < 3000) (c4 : lv τ 0 8 ≤ 39000) (k : Nat) (hl : lLet (b k)) :
    rdR b n X σ τ T k (lj_R lc_P 44 [.ref 4] (cAt σ b k)) (lj_R lm_P 16 [.ref 0, .int (Int32.ofNat k)] τ) := by
  have hn := hb.1
  have hkn : k < n := lNm_n hb (Or.inl hl)
  obtain ⟨k', r1, r2, r3, r4⟩ := run_end hb lNm (by decide) (n - k + 1) k (by omega)
  have hk' : k' ≤ n := r2 (by omega)
  have hlt : k < k' := by
    rcases Nat.lt_or_ge k k' with q | q
    · exact q
    · rw [show k' = k by omega] at r4; exact absurd (Or.inl hl) r4
  have htN : tN b k' = tN b k := tN_eq' (by omega) (fun i a c => (lNm_10 (r3 i a c)).1)
  have hCk := tC_at hC k'
  have h32 : ∀ j, j < k' - k → b (k + j) ≠ 32 := fun j hj => (lNm_10 (r3 (k + j) (by omega) (by omega))).2.1
  have h127 : ∀ j, j < k' - k → 1 ≤ (b (k + j)).toInt ∧ (b (k + j)).toInt ≤ 127 := fun j hj => (lNm_10 (r3 (k + j) (by omega) (by omega))).2.2
  have esub : Int32.ofNat k' - Int32.ofNat k = Int32.ofNat (k' - k) := lz_osub (by omega) (by omega)
  have nl : ¬ lLet (b k') := fun z => r4 (Or.inl z)
  have nd : ¬ lDig (b k') := fun z => r4 (Or.inr z)
  -- the one
  have eC : lj_R lc_P 44 [.ref 4] (cAt σ b k) = (if lidx (tP b k (k' - k)) lwords 0 < 0 then (if Int32.ofNat (k' - k) ≤ 30 then lj_bv (lj_R lc_P 22 [.ref 3] (cAt σ b k')) (fun σ11 => lj_D lc_P lc_M44 108 [.ref 4, .int (Int32.ofNat k), .int (lidx (tP b k (k' - k)) lwords 0), .int (Int32.ofNat k)] [] σ11) lj_up else some (.inl (some (.int 0)), (lj_put (cAt σ b k') 4 2 (Int32.ofNat k)))) else lj_bv (lj_R lc_P 42 [.ref 4, .int (10 + lidx (tP b k (k' - k)) lwords 0), .long 0, .int (Int32.ofNat k)] (cAt σ b k')) (fun σ12 => some (.inl (some (.int 1)), σ12)) lj_up) := by
    rw [rc_44, kc_44_0, cAt_2, c_name_loop hb σ hC (Int32.ofNat k) k' hk' (k' - k) k (by omega) r3, kc_44_5, cAt_2, c_byteAt hb hCk k' (by omega)]
    unfold lj_bi
    simp only []
    rw [c_isLetter]
    simp only []
    rw [if_neg nl, if_pos rfl, cAt_2, c_byteAt hb hCk k' (by omega)]
    simp only []
    rw [c_isDigit]
    simp only []
    rw [if_neg nd, if_pos rfl, cAt_2, esub, c_seek hb hCk 1000 lwords lwords_row (by omega) (by decide) lwords_ok k (k' - k) (by omega) h32]
    simp only []
    rw [cAt_2, esub]
  -- the other
  have hM2 : tM (lj_put τ 0 69 (Int32.ofNat k')) b n := ⟨by rw [lv_put, if_neg (by omega)]; exact hM.1, fun i hi => by rw [lj_put_1, if_neg (by omega)]; exact hM.2 i hi⟩
  have eM : lj_R lm_P 16 [.ref 0, .int (Int32.ofNat k)] τ = (if lidx (tP b k (k' - k)) lwords 0 + 1 ≤ 0 then (if Int32.ofNat (k' - k) ≤ 30 then lj_D lm_P lm_M16 75 [.ref 0, .int (Int32.ofNat k), .int (Int32.ofNat k'), .int (lidx (tP b k (k' - k)) lwords 0 + 1), .retAddr 0] [.int 1, .ref 0] (lj_put τ 0 69 (Int32.ofNat k')) else lj_D lm_P lm_M16 75 [.ref 0, .int (Int32.ofNat k), .int (Int32.ofNat k'), .int (lidx (tP b k (k' - k)) lwords 0 + 1), .retAddr 0] [.int 7, .ref 0] (lj_put τ 0 69 (Int32.ofNat k'))) else some (.inl none, (lj_putL (lj_put (lj_put τ 0 69 (Int32.ofNat k')) 0 67 4) 0 68 ((lidx (tP b k (k' - k)) lwords 0 + 1 : Int32).toInt64)))) := by
    rw [rm_16, km_16_0, m_name_loop hb τ hM (Int32.ofNat k) k' hk' (k' - k) k (by omega) r3, km_16_2, m_at hb hM k' (by omega)]
    unfold lj_bi
    simp only []
    rw [m_isLetter]
    simp only []
    rw [if_neg nl, if_pos rfl, m_at hb hM k' (by omega)]
    simp only []
    rw [m_isDigit]
    simp only []
    rw [if_neg nd, if_pos rfl, esub, m_wordAt hb hM2 k (k' - k) (by omega) (by omega) h127]
  rw [eC, eM]
  rcases lidx_cases (tP b k (k' - k)) lwords 0 with e | ⟨w, w1, w2, e⟩
  · rw [e, if_pos (show (-1 : Int32) < 0 by decide), if_pos (show (-1 : Int32) + 1 ≤ 0 by decide)]
    have e30 : (30 : Int32).toInt = 30 := by decide
    by_cases q : Int32.ofNat (k' - k) ≤ 30
    · rw [if_pos q, if_pos q]
      rw [lz_le, lz_lit (by omega), e30] at q
      rw [c_begin, km_16_75, if_pos rfl]
      -- drafts
      have dC : cDr (lj_put (cAt σ b k') 3 6 0) ((tP b k (k - k)).map lz_by) := by rw [Nat.sub_self]; exact cDr_begin _
      have tC0 : tC (lj_put (cAt σ b k') 3 6 0) b n := ⟨by rw [lv_put, if_neg (by omega)]; exact hCk.1, fun i hi => by rw [lj_put_1, if_neg (by omega)]; exact hCk.2 i hi⟩
      obtain ⟨σ2, s1, s2, s3⟩ := c_name_draft hb (Int32.ofNat k) (-1) k k' hk' (k' - k) k (lj_put (cAt σ b k') 3 6 0) (by omega) (by omega) tC0 (by unfold lv; rw [lj_put_1, if_neg (by omega), cAt_2, lz_lit (by omega)]) dC
      have dM : mDr (lj_put (lj_put (lj_put τ 0 69 (Int32.ofNat k')) 0 67 1) 0 20 0) ((tP b k (k - k)).map lz_by) := by rw [Nat.sub_self]; exact mDr_begin _
      have tM0 : tM (lj_put (lj_put (lj_put τ 0 69 (Int32.ofNat k')) 0 67 1) 0 20 0) b n := ⟨by rw [lv_put, if_neg (by omega), lv_put, if_neg (by omega)]; exact hM2.1, fun i hi => by rw [lj_put_1, if_neg (by omega), lj_put_1, if_neg (by omega)]; exact hM2.2 i hi⟩
      obtain ⟨τ2, u1, u2, u3⟩ := m_name_draft hb (Int32.ofNat k) (-1 + 1) k k' hk' (by omega) (k' - k) k _ (by omega) (by omega) tM0 dM
      have fC : lf cDx σ σ2 := ((cAt_dx σ b k').tr (lf_put (lf_rf _ _) 3 6 0 rfl)).tr (s3.mo (fun k j q => by simp [cDx] at q; simp [cAd]; omega))
      have fM : lf mDx τ τ2 := (lf_put (lf_put (lf_put (lf_rf _ _) 0 69 _ rfl) 0 67 1 rfl) 0 20 0 rfl).tr (u3.mo (fun k j q => by simp [mDx] at q; simp [mAd]; omega))
      obtain ⟨hR2, hG2⟩ := sR_dx h fC fM
      have lD : ((tP b k (k' - k)).map lz_by).length = k' - k := by rw [List.length_map, tP_len]
      have v7 : lv σ2 3 7 = lv σ 3 7 := fC.v rfl
      have v8 : lv σ2 3 8 = lv σ 3 8 := fC.v rfl
      have v14 : lv τ2 0 14 = lv τ 0 14 := fM.v rfl
      have v08 : lv τ2 0 8 = lv τ 0 8 := fM.v rfl
      obtain ⟨σ3, τ3, s, s', y1, y2, y3, y4, y5, y6, y7, y8, y9, y10, y11, y12, y13⟩ := cm_settle σ2 τ2 X hR2 s2 u2 (by omega) (by omega) (by omega) (by omega) (by omega)
      have g2 : σ3.1 4 2 = Int32.ofNat k' := by rw [(y6 4 2 rfl).1, (s3 4 2 rfl).1, lj_put_1, if_neg (by omega), cAt_2]
      have g3 : σ3.1 4 3 = Int32.ofNat (1 + tN b k') := by rw [(y6 4 3 rfl).1, (s3 4 3 rfl).1, lj_put_1, if_neg (by omega), cAt_3]
      have g4 : lv σ3 4 4 = (T : Int) := by rw [y6.v (by rfl), s3.v (by rfl), lv_put, if_neg (by omega)]; unfold lv; rw [cAt_o _ _ _ (by omega)]; exact hT
      have frC : lf cLx (cAt σ b k') σ3 := ((lf_put (lf_rf _ _) 3 6 0 rfl).tr (s3.mo (fun k j q => by simp [cLx] at q; exact q.1))).tr (y6.mo (fun k j q => by simp [cLx] at q; exact q.2))
      have frM : lf mLx τ τ3 := ((lf_put (lf_put (lf_put (lf_rf _ _) 0 69 _ rfl) 0 67 1 rfl) 0 20 0 rfl).tr (u3.mo (fun k j q => by simp [mLx] at q; exact q.1.1))).tr (y7.mo (fun k j q => by simp [mLx] at q; exact q.1.2))
      have hun := cUn_at σ3 σ b k' g2 g3
      have frU := cUn_lf frC
      have kU : ∀ t, cS (cUn σ3 σ) t = cS σ3 t := cS_cong (fun j => cUn_o _ _ (by omega)) (fun j => cUn_o _ _ (by omega)) (fun j => cUn_o _ _ (by omega))
      have l7 : lv (cUn σ3 σ) 3 7 = lv σ3 3 7 := by unfold lv; rw [cUn_o _ _ (by omega)]
      have l8 : lv (cUn σ3 σ) 3 8 = lv σ3 3 8 := by unfold lv; rw [cUn_o _ _ (by omega)]
      have dxU : lf cDx σ3 (cUn σ3 σ) := lf_put (lf_put (lf_rf _ _) _ _ _ rfl) _ _ _ rfl
      have dxT : lf mDx τ3 (lj_putL τ3 0 68 ((Int32.ofNat s').toInt64)) := lf_putL (lf_rf _ _) _ _ _ rfl
      obtain ⟨hR4, hG4⟩ := sR_dx y4 dxU dxT
      refine ⟨cUn σ3 σ, lj_putL τ3 0 68 ((Int32.ofNat s').toInt64), frU, lf_putL frM _ _ _ rfl, hR4, (hG2.tr y5).tr hG4, by omega, by omega, by rw [lv_putL]; omega, by rw [lv_putL]; omega, ?_, Or.inl ⟨k', 1, (Int32.ofNat s).toInt64, hlt, hk', htN, by omega, by rw [lv_putL]; omega, ?_, ?_, ?_⟩⟩
      · rw [u1, km_16_94, if_pos (by rw [lz_le]; omega), y2]
        unfold lj_bi
        simp only []
        rw [km_16_143]
      · unfold lj_bv
        simp only []
        rw [s1, kc_44_108, if_pos (by rw [show σ2.1 4 2 = Int32.ofNat k' from by rw [(s3 4 2 rfl).1, lj_put_1, if_neg (by omega), cAt_2], lz_le]; omega), y1]
        unfold lj_bi
        simp only []
        rw [c_put σ3 T g4 hT2]
        unfold lj_bv
        simp only []
        rw [← cTok_comm, cAt_up _ _ _ _ htN, ← hun]
      · show τ3.1 0 69 = _
        rw [(y7 0 69 rfl).1, (u3 0 69 rfl).1, lj_put_1, if_neg (by omega), lj_put_1, if_neg (by omega), lj_put_1, if_pos ⟨rfl, rfl⟩]
      · refine Or.inr (Or.inr (Or.inl ⟨Or.inl ⟨rfl, ?_⟩, s, s', y12, y13, rfl, ?_, y3.up hG4⟩))
        · show τ3.1 0 67 = _
          rw [(y7 0 67 rfl).1, (u3 0 67 rfl).1, lj_put_1, if_neg (by omega), lj_put_1, if_pos ⟨rfl, rfl⟩]
        · rw [lj_putL_2, if_pos ⟨rfl, rfl⟩]
    · rw [if_neg q, if_neg q, km_16_75, if_neg (by decide), km_16_143]
      have fM : lf mDx τ (lj_put (lj_put τ 0 69 (Int32.ofNat k')) 0 67 7) := lf_put (lf_put (lf_rf _ _) _ _ _ rfl) _ _ _ rfl
      obtain ⟨hR, hG⟩ := sR_dx h (lf_rf cDx σ) fM
      refine ⟨σ, _, lf_rf _ _, lf_put (lf_put (lf_rf _ _) _ _ _ rfl) _ _ _ rfl, hR, hG, by omega, by omega, by rw [lv_put, if_neg (by omega), lv_put, if_neg (by omega)]; omega, by rw [lv_put, if_neg (by omega), lv_put, if_neg (by omega)]; omega, rfl, Or.inr ⟨?_, by rw [lj_put_1, if_pos ⟨rfl, rfl⟩]⟩⟩
      rw [cAt_up _ _ _ _ htN.symm]
  · have w3 := l_w2 ⟨w, by simpa [lwords] using w2⟩
    have w21 : w < 21 := by simpa [lwords] using w2
    rw [e, if_neg w3.2, if_neg w3.1, l_w3 ⟨w, w21⟩, l_w1 ⟨w, w21⟩, c_put (cAt σ b k') T (by unfold lv; rw [cAt_o _ _ _ (by omega)]; exact hT) hT2]
    have fM : lf mDx τ (lj_putL (lj_put (lj_put τ 0 69 (Int32.ofNat k')) 0 67 4) 0 68 (Int64.ofNat (w + 1))) := lf_putL (lf_put (lf_put (lf_rf _ _) _ _ _ rfl) _ _ _ rfl) _ _ _ rfl
    obtain ⟨hR, hG⟩ := sR_dx h (lf_rf cDx σ) fM
    refine ⟨σ, _, lf_rf _ _, lf_putL (lf_put (lf_put (lf_rf _ _) _ _ _ rfl) _ _ _ rfl) _ _ _ rfl, hR, hG, by omega, by omega, by rw [lv_putL, lv_put, if_neg (by omega), lv_put, if_neg (by omega)]; omega, by rw [lv_putL, lv_put, if_neg (by omega), lv_put, if_neg (by omega)]; omega, rfl, Or.inl ⟨k', Int32.ofNat (10 + w), 0, hlt, hk', htN, by omega, by rw [lv_putL, lv_put, if_neg (by omega), lv_put, if_neg (by omega)]; omega, ?_, ?_, Or.inl ⟨w, w21, rfl, ?_, ?_⟩⟩⟩
    · unfold lj_bv
      simp only []
      rw [← cTok_comm, cAt_up _ _ _ _ htN]
    · rw [lj_putL_1, lj_put_1, if_neg (by omega), lj_put_1, if_pos ⟨rfl, rfl⟩]
    · rw [lj_putL_1, lj_put_1, if_pos ⟨rfl, rfl⟩]
    · rw [lj_putL_2, if_pos ⟨rfl, rfl⟩]
