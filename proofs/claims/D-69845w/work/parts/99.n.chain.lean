/-! chains -/
theorem cc_step {b : Nat → Int32} {n T : Nat} {Q : tkQ} {X : List Int32 → Prop} (hT5 : T ≤ 520) (k : Nat) (ihV : CV b n T Q X k) (ihG : CG b n T Q X k) : CC b n T Q X (k + 1) := by
  intro F N FO Z PL cl ml p v c m wh W σ τ f s l hTp hPS hN hFO hWl
  have hTE := hPS.1.1
  have hb := hPS.2.2.1
  have hpT := hb.1
  have h1 := hPS.2.1
  have hk := tk_lt hTE hpT
  have hbc := hb.2.2.1
  have hbm := hb.2.2.2.1
  have hn520 := hTE.2.1
  have PA := hPS.pop
  have goA : ∀ y τ', (y = 0 ∨ y = 1) → lj_R lm_P 69 [.ref 0] (lj_put τ 0 46 (Int32.ofNat W.length)) = some (.inl (some (.int y)), τ') → mLoop τ = mNx y τ' := fun y τ' hy e => hPS.go hy (by rw [rm_30, km_30_0, if_neg (by decide), if_neg (by decide), if_neg (by decide), if_neg (by decide), if_neg (by decide), if_neg (by decide), if_neg (by decide), if_pos rfl, e, bi_ok, vpb y hy])
  generalize hτa : lj_put τ 0 46 (Int32.ofNat W.length) = τa at *
  have ha := PA.1.2.1
  have hTEa := PA.1.1.1
  obtain ⟨hin, hkk, hvv⟩ := m_kindv hTEa hpT ha.2.1
  have t1 : ∀ k : Fin 70, ((tkk k.val = 1) ↔ k.val = 1) := by decide
  have t1' := t1 ⟨(Q p).1, hk⟩
  have s60 := m_isSign hTEa hpT ha.2.1 20 (by omega) 40 rfl
  have ps0 := c_pass hTE hpT h1.1 60 (by omega)
  rw [rc_87, kc_87_0, c_kind hTE hpT h1.1, bi_ok]
  have eM : lj_R lm_P 69 [.ref 0] τa = _ := rm_69 τa
  rw [km_69_0, if_pos hin, hkk] at eM
  by_cases a1 : (Q p).1 = 1
  · have hlt : p < T := hPS.lt (by omega) (by omega)
    obtain ⟨n1, n2, n3, n4, n5⟩ := (hTEa.2.2.2.2.1 p hpT).2.2.2.2.2.2.2.2.1 (Or.inl a1)
    rw [if_pos (show Int32.ofNat (Q p).1 = 1 by rw [a1]; rfl)]
    rw [if_pos (t1'.2 a1), if_pos hin, m_here hTEa hpT ha.2.1, bi_ok, ha.2.1, lz_onat (by omega), n4, Int32.toInt32_toInt64] at eM
    rcases cm_name hTEa hpT h1.1 a1 PA.1.1.2.1 PA.1.1.2.2.1 ha.2.2.2.2.2.2.2.2.2 with ⟨what, srt, v1, v2, N', σ', τ', r1, r2, r3, r4, r5, r6, r7, r8, r9, r10, r11, r12, r13, r14, r15, r16, r17⟩ | ⟨σ', τ', r1, r2, r3, r4, r5, r6⟩
    · have hw' : mWt τ' W := mWt_cg ha.2.2.2.2.2.2.2.2.1 (r15 0 46 rfl).1 (fun k j q => (r15 k j (by simp [nmcM, capM]; omega)).1)
      have u : hnd p v c m wh W σ τ' := ⟨ha.1, by rw [(r15 0 25 rfl).1]; exact ha.2.1, ha.2.2.1, by rw [(r15 0 47 rfl).1]; exact ha.2.2.2.1, ha.2.2.2.2.1, by rw [(r15 0 41 rfl).1]; exact ha.2.2.2.2.2.1, ha.2.2.2.2.2.2.1, by rw [(r15 0 40 rfl).1]; exact ha.2.2.2.2.2.2.2.1, hw', by rw [(r15 0 4 rfl).1]; exact ha.2.2.2.2.2.2.2.2.2⟩
      have u1 := hnd_W u (8, 0, 0, 0)
      have u2 := hnd_p u1 (p + 1)
      have w4 := PA.1.w4
      have gp : lf pM τa (mW τ' W.length (8, 0, 0, 0)) := (r15.mo (fun k j q => by have := pM_k q; simp [nmcM, capM]; omega)).tr ((mW_lf _ _ _).mo (fun k j q => by have := pM_k q; simp [aM]; omega))
      rw [r2, bv_ok, (m_later hw' (by omega) 8 0 0 0).1, bv_ok, if_pos u1.2.2.2.2.2.2.2.2.2, m_take (TE_pp hTEa (lf_rf _ σ) gp) hpT u1.2.1 (by omega), bi_ok, if_neg (by decide), km_69_59] at eM
      have hh : hnd (p + 1) v c m wh ((8, 0, 0, 0) :: W) σ' (lj_put (mW τ' W.length (8, 0, 0, 0)) 0 25 (Int32.ofNat (p + 1))) := ⟨r6, u2.2.1, by rw [(r14 6 1 rfl).1]; exact ha.2.2.1, u2.2.2.2.1, by rw [(r14 5 0 rfl).1]; exact ha.2.2.2.2.1, u2.2.2.2.2.2.1, by rw [(r14 5 6 rfl).1]; exact ha.2.2.2.2.2.2.1, u2.2.2.2.2.2.2.2⟩
      have PN := PA.1.nm r14 r15 r12 r13 r16 r17 (lf_put (mW_lf _ _ _) _ _ _ rfl) (Nat.le_succ p) hh ⟨(by omega), hb.2.1, (by omega), (by omega), by have := hb.2.2.2.2.1; omega, by simp; omega⟩ (fun _ => rfl) (fun k j a b => by rw [lj_put_1, if_neg (by omega), mW_o _ _ _ _ _ (by omega) (by omega)])
      have oo : ∀ j, j = 61 ∨ j = 62 ∨ j = 63 → (lj_put (mW τ' W.length (8, 0, 0, 0)) 0 25 (Int32.ofNat (p + 1))).1 0 j = τ'.1 0 j := fun j hj => by rw [lj_put_1, if_neg (by omega), mW_o _ _ _ _ _ (by omega) (by omega)]
      rw [goA 1 _ (Or.inr rfl) eM, nx1 hh, r1, bi_ok, kc_87_34]
      generalize hτb : lj_put (mW τ' W.length (8, 0, 0, 0)) 0 25 (Int32.ofNat (p + 1)) = τb at *
      refine cm_suffix k ihV ihG hFO hWl hT5 hbc hbm k F N' (p + 1) c m wh σ' τb what _ (by omega) (Nat.le_refl _) PN.1 (hdN_X hN r13) (Or.inr (Or.inr (Or.inl ⟨srt, v1, v2, _, _, ?_, ?_, ?_, r3, r4, r5, r7, ?_, ?_, ?_, rfl, rfl⟩))) (PA.2.tr PN.2) (by omega) (by omega) (by omega)
      · rcases r3 with ⟨e, _⟩ | ⟨e, _⟩ | ⟨e, _⟩
        · exact Or.inl e
        · exact Or.inr (Or.inl e)
        · exact Or.inr (Or.inr e)
      · rcases r3 with ⟨e, e', _⟩ | ⟨e, e', _⟩ | ⟨e, e', _⟩
        · exact Or.inl ⟨e, e'⟩
        · exact Or.inr (Or.inl ⟨e, e'⟩)
        · exact Or.inr (Or.inr (Or.inl ⟨e, e'⟩))
      · rw [oo 61 (by omega)]; exact r9
      · rw [oo 62 (by omega)]; exact r10
      · rw [oo 63 (by omega), r8, r11]
      · intro e
        rcases r3 with ⟨e', _⟩ | ⟨e', _⟩ | ⟨_, _, e1, e2⟩
        · rw [e] at e'; exact absurd e' (by decide)
        · rw [e] at e'; exact absurd e' (by decide)
        · rw [e1, e2]; exact n5.up PN.2.1.1
    · have hw' : mWt τ' W := mWt_cg ha.2.2.2.2.2.2.2.2.1 (r6 0 46 rfl).1 (fun k j q => (r6 k j (by simp [nmcM5, nmcM, capM]; omega)).1)
      have w4 := PA.1.w4
      have o4 : (mW τ' W.length (8, 0, 0, 0)).1 0 4 = 3 := by rw [mW_o _ _ _ _ _ (by omega) (by omega)]; exact r3
      rw [r2, bv_ok, (m_later hw' (by omega) 8 0 0 0).1, bv_ok, if_neg (by rw [o4]; decide), km_69_58, km_69_59] at eM
      rw [goA 0 _ (Or.inl rfl) eM, nx0, r1]
      have c14 := hPS.c14 hT5
      refine Or.inl ⟨_, _, 3, (Q p).2.1, rfl, m_bad (m := m) (by rw [mW_o _ _ _ _ _ (by omega) (by omega), r5]; exact ha.2.2.2.2.2.1) (by omega), ?_, ?_, ?_, ?_, Or.inr (Or.inr (Or.inl rfl)), (hTE.2.2.2.2.1 p hpT).2.2.2.2.1⟩
      · unfold cFl; rw [lj_put_1, if_neg (by omega), lj_put_1, if_pos ⟨rfl, rfl⟩]
      · unfold cFl; rw [lj_put_1, if_pos ⟨rfl, rfl⟩]
      · rw [mP_o _ _ _ _ _ _ _ _ (by omega) (by omega), mP_o _ _ _ _ _ _ _ _ (by omega) (by omega)]; exact o4
      · rw [mP_o _ _ _ _ _ _ _ _ (by omega) (by omega), mP_o _ _ _ _ _ _ _ _ (by omega) (by omega), mW_o _ _ _ _ _ (by omega) (by omega)]; exact r4
  · rw [if_neg (show ¬ (Int32.ofNat (Q p).1 = 1) from fun q => a1 ((ofN_eq (c := 1) (by omega) (by omega)).1 q))]
    rw [if_neg (fun q => a1 (t1'.1 q)), s60, bi_ok] at eM
    by_cases a60 : (Q p).1 = 60
    · have hlt : p < T := hPS.lt (by omega) (by omega)
      rw [if_pos (show (Q p).1 = 40 + 20 by omega), if_neg (by decide)] at eM
      rw [if_pos a60] at ps0
      have w4 := PA.1.w4
      have P1 := PA.1.la (by omega) (9, 0, 0, 0)
      have P2 := P1.1.la (by simp; omega) (3, 0, 0, 0)
      have P3 := P2.1.st hlt
      rw [(m_later ha.2.2.2.2.2.2.2.2.1 (by omega) 9 0 0 0).1, bv_ok, (m_later P1.1.2.1.2.2.2.2.2.2.2.2.1 (by simp; omega) 3 0 0 0).1, bv_ok, m_take P2.1.1.1 hpT P2.1.2.1.2.1 (by omega), bi_ok] at eM
      rw [goA 1 _ (Or.inr rfl) eM, nx1 P3.1.2.1, show lj_R lc_P 71 [.ref 6, .int 60] σ = _ from ps0, bv_ok]
      have G3 := ((PA.2.tr P1.2).tr P2.2).tr P3.2
      rcases ihV F N FO Z PL cl ml (p + 1) v c m wh ((9, 0, 0, 0) :: W) _ _ f s l (by omega) P3.1 hN (hFO.up (by omega) (by omega)) (by simp; omega) with hf | ⟨σ3, τ3, p3, c3, m3, wh3, F3, N3, i1, i2, i3, i4, i5, i6, i7, i8⟩
      · exact Or.inl (flt_bv hf _)
      · rw [i1, bv_ok, i2]
        have hTE3 := i3.1.1
        have hp3 := i3.2.2.1.1
        have ps1 := c_pass hTE3 hp3 i3.2.1.1 61 (by omega)
        have Pa := i3.pop
        have Pb := Pa.1.ch 61 (by omega) 5
        have Pc := Pb.1.la (by omega) (8, 0, 0, 0)
        have e61 : (mW (lj_put (lj_put τ3 0 46 (Int32.ofNat W.length)) 0 61 5) W.length (8, 0, 0, 0)).1 0 61 = 5 := by rw [mW_o _ _ _ _ _ (by omega) (by omega), lj_put_1, if_pos ⟨rfl, rfl⟩]
        have ns := m_needSign Pc.1.1.1 hp3 Pc.1.2.1.2.1 Pc.1.2.1.2.2.2.2.2.2.2.2.2 21 (by omega) 41 rfl
        have l8 := (m_later Pb.1.2.1.2.2.2.2.2.2.2.2.1 (by omega) 8 0 0 0).1
        have goB : ∀ y τ', (y = 0 ∨ y = 1) → lj_R lm_P 74 [.ref 0, .int 41] (mW (lj_put (lj_put τ3 0 46 (Int32.ofNat W.length)) 0 61 5) W.length (8, 0, 0, 0)) = some (.inl (some (.int y)), τ') → mLoop τ3 = mNx y τ' := fun y τ' hy e => i3.go hy (by rw [rm_30, km_30_0, if_neg (by decide), if_neg (by decide), if_neg (by decide), if_neg (by decide), if_neg (by decide), if_neg (by decide), if_neg (by decide), if_neg (by decide), if_neg (by decide), if_pos rfl, rm_73, km_73_0, l8, bv_ok, e, bi_ok, vpb y hy, bi_ok, vpb y hy])
        generalize hτc : mW (lj_put (lj_put τ3 0 46 (Int32.ofNat W.length)) 0 61 5) W.length (8, 0, 0, 0) = τc at *
        by_cases a61 : (Q p3).1 = 61
        · have hlt3 : p3 < T := i3.lt (by omega) (by omega)
          rw [if_pos a61] at ps1
          rw [if_pos (show (Q p3).1 = 40 + 21 by omega)] at ns
          have Pd := Pc.1.st hlt3
          have G6 := ((Pa.2.tr Pb.2).tr Pc.2).tr Pd.2
          rw [show lj_R lc_P 71 [.ref 6, .int 61] σ3 = _ from ps1, bv_ok, goB 1 _ (Or.inr rfl) ns, nx1 Pd.1.2.1, kc_87_34]
          refine cm_suffix k ihV ihG hFO hWl hT5 hbc hbm k F3 N3 (p3 + 1) c3 m3 wh3 _ _ 0 _ (by omega) (Nat.le_refl _) Pd.1 (hdN_X hN i4.2.1) (Or.inl ⟨rfl, ?_, Or.inl ⟨rfl, fun σ7 τ7 t7 z7 => ?_⟩⟩) ((G3.tr i4).tr G6) (by omega) (by omega) (by omega)
          · rw [lj_put_1, if_neg (by omega)]; exact e61
          · have L := G6.bk (a := c) (d := m) ⟨t7, z7⟩
            rcases i8 with ⟨_, hE⟩ | ⟨q, _⟩ | ⟨q, _⟩
            · exact hE σ7 τ7 L.1 L.2
            · exact absurd q (by decide)
            · exact absurd q (by decide)
        · rw [if_neg a61] at ps1
          rw [if_neg (show ¬ (Q p3).1 = 40 + 21 by omega)] at ns
          rw [show lj_R lc_P 71 [.ref 6, .int 61] σ3 = _ from ps1, goB 0 _ (Or.inl rfl) ns, nx0]
          exact Or.inl (flt_bv (Pc.1.flt hT5 2 (Or.inl rfl) _) _)
    · rw [if_neg a60] at ps0
      rw [if_neg (show ¬ (Q p).1 = 40 + 20 by omega), if_pos rfl, m_wrong hTEa hpT ha.2.1 ha.2.2.2.2.2.2.2.2.2, bi_ok] at eM
      rw [goA 0 _ (Or.inl rfl) eM, nx0, show lj_R lc_P 71 [.ref 6, .int 60] σ = _ from ps0]
      exact Or.inl (flt_bv (PA.1.flt hT5 2 (Or.inl rfl) _) _)
