/-! statements: break -/
theorem cs_break {b : Nat → Int32} {n T : Nat} {Q : tkQ} {X : List Int32 → Prop} (hT5 : T ≤ 520) {F : Nat} {N : List lT} {FO0 : List fT} {nl rv : Nat} {fl : List Nat} {Z : List zT} {PL : List qT} {cl ml : Nat} {p v c m wh : Nat} {W : List wT} {σ τ : lj_S} {f : Nat} {s l lB : List Nat} {D : Nat} (h : PS b n T Q X F N (((nl, rv), fl) :: FO0) Z PL cl ml p v c m wh W σ τ) (hN : hdN N f l) (hs : fls s fl) (hc : c + 40 ≤ 25 * p + 100) (hm : m + 40 ≤ 25 * p + 100) (hlp : lpH f (N.length - 1) l lB D nl Z) (a11 : (Q p).1 = 11) :
    ∃ y τ', (y = 0 ∨ y = 1) ∧ lj_R lm_P 42 [.ref 0] τ = some (.inl (some (.int y)), τ') ∧ stR b n T Q X FO0 nl rv fl Z PL v W f s l lB D N F p c m σ τ (fun p' => p < p') 0 (lj_bi (lj_R lc_P 54 [.ref 5, .int 0, .int 0, .int 0] σ) (fun _ σ1 => lj_R lc_P 109 [.ref 6] σ1) lj_up) (mNx y τ') := by
  have hv20 := h.2.2.1.2.1
  have hfv := h.fv
  have hsB : sB s := hs.sb hfv hv20
  have hpT := h.2.2.1.1
  have hlt : p < T := h.lt (by omega) (by omega)
  have c14 := h.c14 hT5
  have h1 := h.2.1
  obtain ⟨z0, R0, rfl, hf0, hl0⟩ := hN
  have P1 := h.C (by omega) hT5 0 0 0 0 0
  have P2 := P1.1.M (by omega) 0 0 0 0
  have P3 := P2.1.st hlt
  have hNR := P2.1.1.2.2.1
  have h22 := hNR.2.2.2.2.2.1
  have h62 : (cP σ c 0 0 0 0 0).1 6 2 = Int32.ofNat z0.1 := hNR.2.2.2.2.2.2.1
  have hz51 : z0.1 < 51 := hNR.1.1.1
  have h53 := P3.1.1.2.2.1.2.2.2.2.2.2.2.1
  have eM : lj_R lm_P 42 [.ref 0] τ = _ := m_st42 h hT5 (by omega)
  rw [a11] at eM
  unfold mSt at eM
  rw [if_neg (by decide), if_neg (by decide), if_neg (by decide), if_neg (by decide), if_neg (by decide), if_neg (by decide), if_neg (by decide), if_neg (by decide), if_neg (by decide), if_neg (by decide), if_neg (by decide), if_neg (by decide), if_neg (by decide), if_neg (by decide), if_neg (by decide), if_neg (by decide), if_neg (by decide), if_neg (by decide), if_neg (by decide), km_42_309, rm_57, km_57_0] at eM
  have eC : lj_R lc_P 109 [.ref 6] (cP σ c 0 0 0 0 0) = _ := rc_109 _
  rw [kc_109_0] at eC
  have lp := P2.1.2.2.2.1
  have lp3 := P3.1.2.2.2.1
  -- none to leave
  have bad : lj_R lc_P 109 [.ref 6] (cP σ c 0 0 0 0 0) = lj_D lc_P lc_M109 25 [.ref 6] [] (cP σ c 0 0 0 0 0) → lj_R lm_P 42 [.ref 0] τ = lj_bi (lj_D lm_P lm_M57 25 [.ref 0, .int (Int32.ofNat (Q p).2.1)] [] (lj_put (mP τ m 0 0 0 0) 0 25 (Int32.ofNat (p + 1)))) (fun y2 σ1 => some (.inl (some (.int (vp_nar .boolean y2))), σ1)) lj_up → ∃ y τ', (y = 0 ∨ y = 1) ∧ lj_R lm_P 42 [.ref 0] τ = some (.inl (some (.int y)), τ') ∧ stR b n T Q X FO0 nl rv fl Z PL v W f s l lB D (z0 :: R0) F p c m σ τ (fun p' => p < p') 0 (lj_bi (lj_R lc_P 54 [.ref 5, .int 0, .int 0, .int 0] σ) (fun _ σ1 => lj_R lc_P 109 [.ref 6] σ1) lj_up) (mNx y τ') := fun q1 q2 => by
    rw [km_57_25, m_fail _ P3.1.2.1.2.2.2.2.2.2.2.2.2, bi_ok, bi_ok] at q2
    refine ⟨0, _, Or.inl rfl, q2, ?_⟩
    rw [c_put3 h1.2.2.2.2.1 (by omega), bi_ok, q1, kc_109_25, P2.1.2.1.1, if_neg (fun z => by have := (ofN_eq (c := 1500) (by omega) (by omega)).1 z; omega), kc_109_41, c_throw P2.1.1.1 hpT P2.1.2.1.1, nx0]
    have hfq : fq (Q p).1 4 = 4 := by unfold fq; rw [if_neg (by omega)]
    rw [hfq]
    exact Or.inl (flt_mk (m := m + 1) P3.1.2.1.2.2.2.2.2.1 (by omega) (Or.inr (Or.inr (Or.inr rfl))) (h.1.1.2.2.2.2.1 p hpT).2.2.2.2.1)
  cases Z with
  | nil =>
    have e10 : (cP σ c 0 0 0 0 0).1 6 10 = 0 := lp.1
    have e56 : (lj_put (mP τ m 0 0 0 0) 0 25 (Int32.ofNat (p + 1))).1 0 56 = 0 := lp3.2.1
    rw [if_pos e10] at eC
    rw [if_pos e56] at eM
    exact bad eC eM
  | cons x Y =>
    have hZ20 := lp.2.2.1
    simp only [List.length_cons] at hZ20
    have e10 : (cP σ c 0 0 0 0 0).1 6 10 = Int32.ofNat (Y.length + 1) := lp.1
    have e56 : (lj_put (mP τ m 0 0 0 0) 0 25 (Int32.ofNat (p + 1))).1 0 56 = Int32.ofNat (Y.length + 1) := lp3.2.1
    have n10 : ¬ (Int32.ofNat (Y.length + 1) = 0) := fun q => by have := (ofN_eq (c := 0) (by omega) (by omega)).1 q; omega
    have iY : lj_in (Int32.ofNat Y.length) 22 := ofN_in (by omega) (by omega)
    have iY' : lj_in (Int32.ofNat Y.length) 64 := ofN_in (by omega) (by omega)
    have e50 : (cP σ c 0 0 0 0 0).1 50 Y.length = Int32.ofNat x.1 := lp.2.2.2.2.2.2.2.2.1.1.1
    have e34 : (lj_put (mP τ m 0 0 0 0) 0 25 (Int32.ofNat (p + 1))).1 34 Y.length = Int32.ofNat x.2.1 := lp3.2.2.2.2.2.2.2.2.1.1.2.1
    have e51 : (cP σ c 0 0 0 0 0).1 51 Y.length = Int32.ofNat x.2.2.1 := lp.2.2.2.2.2.2.2.2.1.1.2.2.1
    have hx8 := h.2.2.2.2.1.2.1.2.2 x (List.mem_cons_self)
    have hxl := h.2.2.2.2.1.2.2.2.2.2.2 x (List.mem_cons_self)
    have hF50 := h.1.2.2.2.1.2.2.1
    have hF8 : lv σ 5 8 = (F : Int) := by unfold lv; rw [h.1.2.2.2.1.1, lz_lit (by omega)]
    simp only [List.length_cons] at h22 hxl
    obtain ⟨q1, q2⟩ := hlp x Y rfl
    rw [if_neg (by rw [e10]; exact n10), e10, lz_pred'] at eC
    rw [if_neg (by rw [e56]; exact n10), e56, lz_pred'] at eM
    simp only [if_pos iY, lz_onat (show Y.length < 2147483648 by omega), e50, h62, e51] at eC
    simp only [if_pos iY', lz_onat (show Y.length < 2147483648 by omega), e34, h53] at eM
    by_cases hx : x.1 = f
    · -- it leaves the loop at hand
      have hlv := q1.1 hx
      obtain ⟨q3, ⟨e0, q4, q5⟩, q6⟩ := q2 hx
      rw [if_pos (by rw [hx, hf0])] at eC
      rw [if_pos (by rw [hlv])] at eM
      -- known before the loop, known since
      have hsp : ∃ e kn, z0.2.1 = e ++ kn ∧ kn.length = x.2.2.1 ∧ kn.map (·.2.2) = lB ∧ e.map (·.2.2) = e0 := by
        refine ⟨z0.2.1.take e0.length, z0.2.1.drop e0.length, (List.take_append_drop _ _).symm, ?_, ?_, ?_⟩
        · have : z0.2.1.length = e0.length + lB.length := by
            have := congrArg List.length (hl0.trans q4)
            simpa using this
          rw [List.length_drop, ← q3]; omega
        · rw [List.map_drop, hl0, q4]; simp
        · rw [List.map_take, hl0, q4]; simp
      obtain ⟨e, kn, k1, k2, k3, k4⟩ := hsp
      rw [← k2] at eC
      obtain ⟨s1, s2, s3, s4⟩ := P2.1.1.2.2.2.2.2.1.1.2.2.2.2.2.2
      have s1 : (cP σ c 0 0 0 0 0).1 31 z0.1 = Int32.ofNat nl := s1
      have s2 : nl ≤ 50 := s2
      have s4 : ∀ y ∈ z0.2.1.map (·.2.2), y < nl := s4
      have hbk := h.2.2.2.2.1.2.1.2.1
      have b13 : (cP σ c 0 0 0 0 0).1 6 13 = Int32.ofNat (bks (x :: Y)) := lp.2.2.2.1
      have ibk : lj_in (Int32.ofNat (bks (x :: Y))) 1502 := ofN_in (by omega) (by omega)
      have g3 := mP_get (lj_put (mP τ m 0 0 0 0) 0 25 (Int32.ofNat (p + 1))) (m + 1) 21 ((lj_put (mP τ m 0 0 0 0) 0 25 (Int32.ofNat (p + 1))).1 33 Y.length) 0 0
      have oM3 := mP_o (lj_put (mP τ m 0 0 0 0) 0 25 (Int32.ofNat (p + 1))) (m + 1) 21 ((lj_put (mP τ m 0 0 0 0) 0 25 (Int32.ofNat (p + 1))).1 33 Y.length) 0 0
      rw [m_emit P3.1.2.1.2.2.2.2.2.1 (by omega), bi_ok] at eM
      have eM2 : lj_R lm_P 42 [.ref 0] τ = some (.inl (some (.int 1)), lj_put (mP (lj_put (mP τ m 0 0 0 0) 0 25 (Int32.ofNat (p + 1))) (m + 1) 21 ((lj_put (mP τ m 0 0 0 0) 0 25 (Int32.ofNat (p + 1))).1 33 Y.length) 0 0) 33 Y.length (Int32.ofNat (m + 1))) := by rw [eM]; rfl
      refine ⟨1, _, Or.inr rfl, eM2, ?_⟩
      rw [c_put3 h1.2.2.2.2.1 (by omega), bi_ok, eC]
      -- how it ends, from a place c1 of the component's code
      have fin : ∀ (c1 : Nat) (σ1 : lj_S), PS b n T Q X F (z0 :: R0) (((nl, rv), fl) :: FO0) (x :: Y) PL cl ml p v c1 (m + 1) wh W σ1 (mP τ m 0 0 0 0) → GR (z0 :: R0) (z0 :: R0) F F p p (c + 1) c1 (m + 1) (m + 1) (cP σ c 0 0 0 0 0) (mP τ m 0 0 0 0) σ1 (mP τ m 0 0 0 0) → c1 ≤ c + 2 → (∀ σ2 τ2, LT (z0 :: R0) (c + 1) c1 (m + 1) (m + 1) σ1 (mP τ m 0 0 0 0) σ2 τ2 → ∃ d, D ≤ d ∧ d ≤ 50 ∧ seg σ2 τ2 (f, c + 1, m + 1, s, l, 50) (fun y => y = (f, c1, m + 1, s, lB, d))) → σ1.1 6 13 = Int32.ofNat (bks (x :: Y)) → σ1.1 6 10 = Int32.ofNat (Y.length + 1) →
          stR b n T Q X FO0 nl rv fl (x :: Y) PL v W f s l lB D (z0 :: R0) F p c m σ τ (fun p' => p < p') 0 (if lj_in (σ1.1 6 13) 1502 then lj_bi (lj_R lc_P 54 [.ref 5, .int 30, .int 0, .int 0] (lj_put σ1 53 (σ1.1 6 13).toNatClampNeg (σ1.1 6 10))) (fun y3 σ2 => if lj_in (σ1.1 6 13) 1502 then lj_bv (lj_R lc_P 67 [.ref 6] (lj_put (lj_put σ2 52 (σ1.1 6 13).toNatClampNeg y3) 6 13 (σ2.1 6 13 + 1))) (fun σ4 => some (.inl none, σ4)) lj_up else none) lj_up else none) (mNx 1 (lj_put (mP (lj_put (mP τ m 0 0 0 0) 0 25 (Int32.ofNat (p + 1))) (m + 1) 21 ((lj_put (mP τ m 0 0 0 0) 0 25 (Int32.ofNat (p + 1))).1 33 Y.length) 0 0) 33 Y.length (Int32.ofNat (m + 1)))) := fun c1 σ1 u1 u2 u3 u4 u5 u6 => by
        have hc1 := u2.2.2.2.2.1
        have c14' := u1.c14 hT5
        rw [u5, u6]
        simp only [if_pos ibk, lz_onat (show bks (x :: Y) < 2147483648 by omega)]
        have e5 : (lj_put σ1 53 (bks (x :: Y)) (Int32.ofNat (Y.length + 1))).1 5 0 = Int32.ofNat c1 := by rw [lj_put_1, if_neg (by omega)]; exact u1.2.1.2.2.2.2.1
        rw [c_put3 e5 (by omega), bi_ok]
        have gC := cP_get (lj_put σ1 53 (bks (x :: Y)) (Int32.ofNat (Y.length + 1))) c1 30 0 0 0 0
        have oC := cP_o (lj_put σ1 53 (bks (x :: Y)) (Int32.ofNat (Y.length + 1))) c1 30 0 0 0 0
        have e13 : (cP (lj_put σ1 53 (bks (x :: Y)) (Int32.ofNat (Y.length + 1))) c1 30 0 0 0 0).1 6 13 = Int32.ofNat (bks (x :: Y)) := by rw [oC 6 13 (by omega) (by omega), lj_put_1, if_neg (by omega)]; exact u5
        have hTE4 : TE b n T Q (lj_put (lj_put (cP (lj_put σ1 53 (bks (x :: Y)) (Int32.ofNat (Y.length + 1))) c1 30 0 0 0 0) 52 (bks (x :: Y)) (Int32.ofNat c1)) 6 13 ((cP (lj_put σ1 53 (bks (x :: Y)) (Int32.ofNat (Y.length + 1))) c1 30 0 0 0 0).1 6 13 + 1)) (mP τ m 0 0 0 0) := TE_pp u1.1.1 (lf_put (lf_put (lf_put (lf_put (lf_put (lf_put (lf_put (lf_put (lf_put (lf_rf _ _) _ _ _ rfl) _ _ _ rfl) _ _ _ rfl) _ _ _ rfl) _ _ _ rfl) _ _ _ rfl) _ _ _ rfl) _ _ _ rfl) _ _ _ rfl) (lf_rf _ _)
        rw [c_step hTE4 hpT (by rw [lj_put_1, if_neg (by omega), lj_put_1, if_neg (by omega), oC 6 0 (by omega) (by omega), lj_put_1, if_neg (by omega)]; exact u1.2.1.1), bv_ok, e13, lz_osucc]
        have e33 : (lj_put (mP τ m 0 0 0 0) 0 25 (Int32.ofNat (p + 1))).1 33 Y.length = (mP τ m 0 0 0 0).1 33 Y.length := by rw [lj_put_1, if_neg (by omega)]
        have B := u1.brk hT5 hlt (by omega) (by omega) (σ' := lj_put (lj_put (lj_put (cP (lj_put σ1 53 (bks (x :: Y)) (Int32.ofNat (Y.length + 1))) c1 30 0 0 0 0) 52 (bks (x :: Y)) (Int32.ofNat c1)) 6 13 (Int32.ofNat (bks (x :: Y) + 1))) 6 0 (Int32.ofNat (p + 1))) (τ' := lj_put (mP (lj_put (mP τ m 0 0 0 0) 0 25 (Int32.ofNat (p + 1))) (m + 1) 21 ((lj_put (mP τ m 0 0 0 0) 0 25 (Int32.ofNat (p + 1))).1 33 Y.length) 0 0) 33 Y.length (Int32.ofNat (m + 1))) (fun k j r1 r2 r3 r4 => by rw [lj_put_1, if_neg (by omega), lj_put_1, if_neg (by omega), lj_put_1, if_neg (by omega), oC k j (by omega) (by omega), lj_put_1, if_neg (by omega)]) (fun k j r1 r2 r3 => by rw [lj_put_1, if_neg (by omega), oM3 k j (by omega) (by omega), lj_put_1, if_neg (by omega)]) rfl rfl (by rw [lj_put_1, if_neg (by omega), lj_put_1, if_neg (by omega), lj_put_1, if_neg (by omega)]; exact gC.2.2.2.2.2) (by rw [lj_put_1, if_neg (by omega), lj_put_1, if_neg (by omega), lj_put_1, if_pos ⟨rfl, rfl⟩]) (by rw [lj_put_1, if_neg (by omega), lj_put_1, if_neg (by omega), lj_put_1, if_neg (by omega), oC 53 _ (by omega) (by omega), lj_put_1, if_pos ⟨rfl, rfl⟩]) (by rw [lj_put_1, if_neg (by omega), lj_put_1, if_pos ⟨rfl, rfl⟩]) (by rw [lj_put_1, if_pos ⟨rfl, rfl⟩]) (by rw [lj_put_1, if_neg (by omega)]; exact g3.2.2.2.2) (by rw [lj_put_1, if_neg (by omega), oM3 0 25 (by omega) (by omega), lj_put_1, if_pos ⟨rfl, rfl⟩]) (by rw [lj_put_1, if_pos ⟨rfl, rfl⟩]) (by rw [lj_put_1, if_neg (by omega), g3.2.1, e33])
        rw [nx1 B.1.2.1]
        have GG := P1.2.tr (P2.2.tr (u2.tr B.2))
        refine Or.inr ⟨_, _, p + 1, c1 + 1, m + 2, wh, F, _, nl, [], [(c1, m + 1)], rfl, rfl, B.1, GG.gs (by simp), (Nat.le_refl _), fun y hy => by simp at hy, (by omega), (by omega), (by omega), fun y hy => ?_, fun _ => ⟨x, Y, rfl, hx⟩, fun σ2 τ2 L => ?_⟩
        · rw [List.mem_singleton.1 hy]
          refine ⟨(by omega), (by omega), (by omega), (by omega), ?_, ?_⟩
          · show (lj_put _ _ _ _).1 22 c1 = 30
            rw [lj_put_1, if_neg (by omega), lj_put_1, if_neg (by omega), lj_put_1, if_neg (by omega)]; exact gC.1
          · show (lj_put _ _ _ _).1 20 (m + 1) = 21
            rw [lj_put_1, if_neg (by omega)]; exact g3.1
        · have LB1 := B.2.bkB L
          have L1 := LB1.no (a' := c) (c' := c1) (d' := m) (m' := m + 1) (Nat.le_refl _) (Nat.le_refl _) (Nat.le_refl _) (Nat.le_refl _) (fun y hy => by rw [List.mem_singleton.1 hy]; constructor <;> (dsimp only; omega))
          have L2 := u2.bk L1
          have La := P2.2.bk L2
          have g1 := La.gC (by omega)
          have g2 := L2.gM (by omega)
          obtain ⟨d, d1, d2, d3⟩ := u4 σ2 τ2 (L1.mo (by omega) (by omega) (by omega) (by omega))
          refine seg0_in [(f, c + 1, m + 1, s, l, 50)] ⟨g1.1, g2.1, rfl⟩ (fun y hy => ?_)
          rw [List.mem_singleton.1 hy]
          refine d3.tr (fun y hy => ?_)
          rw [hy]
          exact seg_ex (Or.inr ⟨(c1, m + 1), List.mem_singleton.2 rfl, d, d1, d2, rfl⟩)
      rcases c_closeFrom hNR.1 h62 s1 P2.1.2.1.2.2.2.2.1 (by omega) k1 with ⟨ce, cf⟩ | ⟨e', t, ce, ct, cf⟩
      · rw [cf, bv_ok]
        have hl1 : l = lB := by rw [← k3, ← hl0, k1, ce]; rfl
        exact fin (c + 1) _ P2.1 (GR_rf _ _ _ _ _ _ _) (by omega) (fun σ2 τ2 _ => ⟨50, (by omega), (by omega), by rw [hl1]; exact seg_ex rfl⟩) b13 e10
      · rw [cf, bv_ok]
        have P5 := P2.1.C (by omega) hT5 34 (Int32.ofNat t.2.2) (Int32.ofNat nl) 0 0
        have oC5 := cP_o (cP σ c 0 0 0 0 0) (c + 1) 34 (Int32.ofNat t.2.2) (Int32.ofNat nl) 0 0
        refine fin (c + 2) _ P5.1 P5.2 (by omega) (fun σ2 τ2 L => ?_) (by rw [oC5 6 13 (by omega) (by omega)]; exact b13) (by rw [oC5 6 10 (by omega) (by omega)]; exact e10)
        have g5 := L.gC (by omega)
        have hk2 : z0.2.1 = e' ++ t :: kn := by rw [k1, ce]; simp
        have fe := sl_filter (e' := e') (t := t) (kn := kn) (by rw [← hk2]; exact s3)
        rw [← hk2, hl0, k3] at fe
        have hD : D ≤ t.2.2 := q5 t.2.2 (by rw [← k4, ce]; simp)
        refine ⟨t.2.2, hD, (by omega), seg_in [(f, c + 2, m + 1, s, lB, t.2.2)] ⟨44, t.2.2, nl, ct, ⟨s2, (P5.1.l31 ⟨z0, R0, rfl, hf0, hl0⟩ L.1).1⟩, by show ∀ y ∈ l, y < nl; rw [← hl0]; exact s4, g5.1, g5.2.1, g5.2.2.1, ?_⟩ (fun y hy => by rw [List.mem_singleton.1 hy]; exact seg_ex rfl)⟩
        show [(f, c + 2, m + 1, s, lB, t.2.2)] = [(f, c + 1 + 1, m + 1, s, l.filter (· < t.2.2), min 50 t.2.2)]
        rw [fe, Nat.min_eq_right (by omega)]
    · -- another function's
      rw [if_neg (fun q => hx (by rw [← hf0]; exact (ofN_eq (by omega) (by omega)).1 q))] at eC
      rw [if_neg (fun q => hx (q1.2 (by have := (ofN_eq (a := x.2.1) (c := (z0 :: R0).length - 1) (by omega) (by simp; omega)).1 q; exact this)))] at eM
      exact bad eC eM
