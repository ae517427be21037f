/-! statements: local function -/
theorem m_kn {τ : lj_S} {B : Nat} (h : τ.1 0 50 = Int32.ofNat B) (hB : B < 1600) (a x : Int32) : lj_R lm_P 55 [.ref 0, .int a, .int x] τ = some (.inl none, mKn τ B a x) := by
  have i3 : lj_in (Int32.ofNat B) 1600 := ofN_in hB (by omega)
  rw [rm_55, km_55_0, h]
  simp only [if_pos i3, lz_onat (show B < 2147483648 by omega), lz_osucc]
  rfl
theorem mKn_put (τ : lj_S) (B : Nat) (a x y : Int32) {k i : Nat} (h1 : ¬ (k = 29 ∧ i = B)) (h2 : ¬ (k = 30 ∧ i = B)) (h3 : ¬ (k = 0 ∧ i = 50)) : mKn (lj_put τ k i y) B a x = lj_put (mKn τ B a x) k i y := by
  unfold mKn
  rw [put_cm τ y a h1, put_cm _ y x h2, put_cm _ y _ h3]
theorem mKn_P (τ : lj_S) (B m : Nat) (a' x o a d l : Int32) : mKn (mP τ m o a d l) B a' x = mP (mKn τ B a' x) m o a d l := by
  unfold mP
  rw [mKn_put _ _ _ _ _ (by omega) (by omega) (by omega), mKn_put _ _ _ _ _ (by omega) (by omega) (by omega), mKn_put _ _ _ _ _ (by omega) (by omega) (by omega), mKn_put _ _ _ _ _ (by omega) (by omega) (by omega), mKn_put _ _ _ _ _ (by omega) (by omega) (by omega)]
theorem cs_localf {b : Nat → Int32} {n T : Nat} {Q : tkQ} {X : List Int32 → Prop} (hT5 : T ≤ 520) (k : Nat) (hB : CB b n T Q X k) {F : Nat} {N : List lT} {FO0 : List fT} {nl rv : Nat} {fl : List Nat} {Z : List zT} {PL : List qT} {cl ml : Nat} {p v c m wh : Nat} {W : List wT} {σ τ : lj_S} {f : Nat} {s l lB : List Nat} {D : Nat} (hTp : T - p < k + 1) (h : PS b n T Q X F N (((nl, rv), fl) :: FO0) Z PL cl ml p v c m wh W σ τ) (hN : hdN N f l) (hNv : N.length ≤ v) (hs : fls s fl) (hW : W.length + 25 ≤ 40 * v + 60) (hc : c + 40 ≤ 25 * p + 100) (hm : m + 40 ≤ 25 * p + 100) (a21 : (Q p).1 = 21) (a18 : (Q (p + 1)).1 = 18) :
    ∃ y τ', (y = 0 ∨ y = 1) ∧ lj_R lm_P 42 [.ref 0] τ = some (.inl (some (.int y)), τ') ∧ stR b n T Q X FO0 nl rv fl Z PL v W f s l lB D N F p c m σ τ (fun p' => p < p') 0 (lj_bi (lj_R lc_P 54 [.ref 5, .int 0, .int 0, .int 0] σ) (fun _ σ1 => lj_R lc_P 108 [.ref 6] σ1) lj_up) (mNx y τ') := by
  have hv20 := h.2.2.1.2.1
  have hfv := h.fv
  have hsB : sB s := hs.sb hfv hv20
  have hpT := h.2.2.1.1
  have hv20 := h.2.2.1.2.1
  have hlt : p < T := h.lt (by omega) (by omega)
  have hp1 : p + 1 ≤ T := hlt
  have c14 := h.c14 hT5
  have h1 := h.2.1
  have hNe := hdN_ne hN
  have sl : nl ≤ 50 ∧ ∀ y ∈ l, y < nl := by
    obtain ⟨z, R, rfl, _, e⟩ := hN
    obtain ⟨_, q2, _, q4⟩ := h.1.2.2.2.2.2.1.1.2.2.2.2.2.2
    rw [e] at q4
    exact ⟨q2, q4⟩
  have P1 := h.C (by omega) hT5 0 0 0 0 0
  have P2 := P1.1.M (by omega) 0 0 0 0
  have P3 := P2.1.st hlt
  have hlt1 : p + 1 < T := P3.1.lt (by omega) (by omega)
  have hp2 : p + 2 ≤ T := hlt1
  have P4 := P3.1.st hlt1
  have h4 := P4.1.2.1
  have hk := tk_lt P4.1.1.1 hp2
  obtain ⟨hin, hkk, hvv⟩ := m_kindv P4.1.1.1 hp2 h4.2.1
  have t1 : ∀ k : Fin 70, ((tkk k.val = 1) ↔ k.val = 1) := by decide
  have t1' := t1 ⟨(Q (p + 2)).1, hk⟩
  have eM : lj_R lm_P 42 [.ref 0] τ = _ := m_st42 h hT5 (by omega)
  rw [a21] at eM
  unfold mSt at eM
  rw [if_neg (by decide), if_neg (by decide), if_neg (by decide), if_neg (by decide), if_neg (by decide), if_neg (by decide), if_neg (by decide), if_neg (by decide), if_neg (by decide), if_pos (by decide), rm_54, km_54_0, m_isWord P3.1.1.1 hp1 P3.1.2.1.2.1 8 (by omega) 9 rfl, bi_ok, if_pos (show (Q (p + 1)).1 = 10 + 8 from a18), if_neg (by decide), m_take P3.1.1.1 hp1 P3.1.2.1.2.1 (by omega), bi_ok, if_neg (by decide), if_pos hin, hkk] at eM
  have tk := c_take P3.1.1.1 hp1 P3.1.2.1.1 18 (by omega)
  rw [if_pos a18] at tk
  rw [c_put3 h1.2.2.2.2.1 (by omega), bi_ok, rc_108, kc_108_0, c_step P1.1.1.1 hpT P1.1.2.1.1, bv_ok, show lj_R lc_P 84 [.ref 6, .int 18] _ = _ from tk, bi_ok, if_neg (by decide), c_kind P4.1.1.1 hp2 h4.1, bi_ok]
  have G4 := P1.2.tr (P2.2.tr (P3.2.tr P4.2))
  by_cases a1 : (Q (p + 2)).1 = 1
  · have hlt2 : p + 2 < T := P4.1.lt (by show (Q (p + 2)).1 ≠ 0; omega) (by show (Q (p + 2)).1 ≠ 4; omega)
    rw [if_pos (show tkk (Q (p + 2)).1 = 1 from t1'.2 a1), km_54_38, m_here P4.1.1.1 hp2 h4.2.1, bi_ok] at eM
    rw [if_pos (show Int32.ofNat (Q (p + 2)).1 = 1 by rw [a1]; rfl), c_name P4.1.1.1 hp2 h4.1 (Or.inl a1), bi_ok, h4.1]
    rcases cm_decl P4.1 hN (t := p + 2) hp2 hT5 with ⟨q1, q2, q3⟩ | ⟨q1, q2, q3, q4, q5⟩
    · rw [q3, bi_ok, if_neg (by decide), bi_ok] at eM
      refine ⟨0, _, Or.inl rfl, eM, Or.inl ?_⟩
      rw [q2, nx0]
      exact flt_mk h4.2.2.2.2.2.1 (by omega) (Or.inr (Or.inr (Or.inl rfl))) (P4.1.1.1.2.2.2.2.1 (p + 2) hp2).2.2.2.2.1
    · have R5' := q4.stR hlt2
      have R5 : PS b n T Q X F N (((nl + 1, rv + 1), fl) :: FO0) Z PL cl ml (p + 3) v (c + 1) (m + 1) wh W _ _ := R5'.1.rvd (by omega)
      have X1 := R5.C (by omega) hT5 1 0 0 0 0
      have X2 := X1.1.M (by omega) 1 0 0 0
      have X3 := X2.1.C (by omega) hT5 9 (Int32.ofNat nl) 0 0 0
      have X4 := X3.1.M (by omega) 19 (Int32.ofNat nl) 0 0
      obtain ⟨t1, t2, t3, t4, t5⟩ := (q4.1.1.2.2.2.2.1 (p + 2) hp2).2.2.2.2.2.2.2.2.1 (Or.inl a1)
      obtain ⟨_, _, _, _, t5'⟩ := (X4.1.1.1.2.2.2.2.1 (p + 2) hp2).2.2.2.2.2.2.2.2.1 (Or.inl a1)
      obtain ⟨σ6, τ6, N6, w1, w2, w3, w4, w5, w6, w7⟩ := cm_know (nl := nl + 1) (rv := rv) X4.1 hN (x := nl) (by omega) sl.2 (Or.inl ⟨t1, t5'⟩) (Or.inl t1) t2 hT5
      have Y1 := w3.la (by omega) (40, Int32.ofNat nl, 0, 0)
      have Y2 := Y1.1.la (by simp; omega) (19, 0, 0, 0)
      have hBB : ∃ B, (lj_put (lj_put (lj_put (mP τ m 0 0 0 0) 0 25 (Int32.ofNat (p + 1))) 0 25 (Int32.ofNat (p + 2))) 14 f (Int32.ofNat (nl + 1))).1 0 50 = Int32.ofNat B ∧ B < 1600 := by
        obtain ⟨z, R, rfl, _, _⟩ := hN
        have hNR := q4.1.2.2.1
        have hB1 : baseN (z :: R) ≤ 50 * (z :: R).length := baseN_le hNR.1
        have hR22 := hNR.2.2.2.2.2.1
        exact ⟨baseN (z :: R), hNR.2.2.2.2.2.2.2.2.1, (by omega)⟩
      obtain ⟨B, e50, hBl⟩ := hBB
      generalize hτd : lj_put (lj_put (lj_put (mP τ m 0 0 0 0) 0 25 (Int32.ofNat (p + 1))) 0 25 (Int32.ofNat (p + 2))) 14 f (Int32.ofNat (nl + 1)) = τd at *
      have kn1 := m_kn e50 hBl (Int32.ofNat (Q (p + 2)).2.2.2) (Int32.ofNat nl)
      have kn2 := m_kn (τ := mP (mP (lj_put τd 0 25 (Int32.ofNat (p + 3))) (m + 1) 1 0 0 0) (m + 1 + 1) 19 (Int32.ofNat nl) 0 0) (B := B) (by rw [mP_o _ _ _ _ _ _ _ _ (by omega) (by omega), mP_o _ _ _ _ _ _ _ _ (by omega) (by omega), lj_put_1, if_neg (by omega)]; exact e50) hBl (Int32.ofNat (Q (p + 2)).2.2.2) (Int32.ofNat nl)
      have e6 : τ6 = lj_put (mP (mP (mKn τd B (Int32.ofNat (Q (p + 2)).2.2.2) (Int32.ofNat nl)) (m + 1) 1 0 0 0) (m + 1 + 1) 19 (Int32.ofNat nl) 0 0) 0 25 (Int32.ofNat (p + 3)) := by
        have := w2.symm.trans kn2
        rw [mKn_P, mKn_P, mKn_put _ _ _ _ _ (by omega) (by omega) (by omega), mP_25, mP_25] at this
        injection this with this
        exact (Prod.mk.inj this).2
      have hTE3 : TE b n T Q (lj_put (lj_put (lj_put (cP σ c 0 0 0 0 0) 6 0 (Int32.ofNat (p + 1))) 6 0 (Int32.ofNat (p + 2))) 31 f (Int32.ofNat (nl + 1))) (mP (mP (mKn τd B (Int32.ofNat (Q (p + 2)).2.2.2) (Int32.ofNat nl)) (m + 1) 1 0 0 0) (m + 1 + 1) 19 (Int32.ofNat nl) 0 0) := TE_pp (TE_up (TE_pp q4.1.1 (lf_rf _ _) (by unfold mKn; exact lf_put (lf_put (lf_put (lf_rf _ _) _ _ _ rfl) _ _ _ rfl) _ _ _ rfl)) (lf_rf _ _) ((mP_lf _ (m + 1) 1 0 0 0).tr (mP_lf _ (m + 1 + 1) 19 (Int32.ofNat nl) 0 0))) (lf_rf _ _) (lf_rf _ _)
      have oK := mKn_o τd B (Int32.ofNat (Q (p + 2)).2.2.2) (Int32.ofNat nl)
      have d41 : τd.1 0 41 = Int32.ofNat (m + 1) := q4.2.1.2.2.2.2.2.1
      have d25 : τd.1 0 25 = Int32.ofNat (p + 2) := q4.2.1.2.1
      rw [q3, bi_ok, if_pos (by rw [lz_le, lz_lit (by omega)]; show (0 : Int) ≤ _; omega), d25, if_pos (ofN_in (by have := P4.1.1.1.2.1; have := P4.1.1.1.2.2.1; omega) (by omega)), lz_onat (by omega), t4, Int32.toInt32_toInt64, kn1, bv_ok, m_emit (m := m + 1) (by rw [oK 0 41 (by omega) (by omega)]; exact d41) (by omega), bi_ok, m_emit (m := m + 1 + 1) (mP_get _ _ _ _ _ _).2.2.2.2 (by omega), bi_ok, m_take hTE3 hp2 (by rw [mP_o _ _ _ _ _ _ _ _ (by omega) (by omega), mP_o _ _ _ _ _ _ _ _ (by omega) (by omega), oK 0 25 (by omega) (by omega)]; exact d25) (by omega), bi_ok, if_neg (by decide), ← e6, (m_later w3.2.1.2.2.2.2.2.2.2.2.1 (by omega) 40 (Int32.ofNat nl) 0 0).1, bv_ok, (m_later Y1.1.2.1.2.2.2.2.2.2.2.2.1 (by simp; omega) 19 0 0 0).1, bv_ok, bi_ok] at eM
      refine ⟨1, _, Or.inr rfl, eM, ?_⟩
      rw [nx1 Y2.1.2.1, q2, bi_ok, c_step q4.1.1 hp2 q4.2.1.1, bv_ok, c_put3 R5.2.1.2.2.2.2.1 (by omega), bi_ok, c_put3 X1.1.2.1.2.2.2.2.1 (by omega), bi_ok, w1, bv_ok]
      have hN6 := lvY_hd hN w4.2.1
      have hN6 : hdN N6 f (nl :: l) := hN6
      have GX := X1.2.tr (X2.2.tr (X3.2.tr X4.2))
      have G0 := G4.tr (q5.tr (R5'.2.tr GX))
      rcases hB F N6 _ Z PL cl ml (p + 3) v (c + 3) (m + 3) wh ((40, Int32.ofNat nl, 0, 0) :: W) _ _ f s (nl :: l) 0 (by omega) Y2.1 hN6 ((hs.hd hfv).up (by omega) (by omega)) (by omega) (by simp; omega) (by rw [lvY_len w4.2.1]; exact hNv) (by omega) (by omega) with hf | ⟨σ7, τ7, p7, c7, m7, wh7, F7, N7, j1, j2, j3, j4, j5, j6, j7, j8, j9⟩
      · exact Or.inl (flt_bv hf _)
      rcases j8 with ⟨_, hE⟩ | ⟨q, _⟩ | ⟨q, _⟩
      rotate_left
      · exact absurd q (by decide)
      · exact absurd q (by decide)
      have hp7 := j3.2.2.1.1
      have c147 := j3.c14 hT5
      have hcc7 := j4.2.2.2.2.1
      have hmm7 := j4.2.2.2.2.2.1
      have hpp7 := j4.2.2.2.1
      have B1 := j3.pop
      have Z1 := B1.1.C (by omega) hT5 9 (Int32.ofNat nl) 0 0 0
      have Z2 := Z1.1.M (by omega) 9 (Int32.ofNat nl) 0 0
      have go7 : mLoop τ7 = mNx 1 (mP (lj_put τ7 0 46 (Int32.ofNat W.length)) m7 9 (Int32.ofNat nl) 0 0) := j3.go (Or.inr rfl) (by
        rw [rm_30, km_30_0, if_neg (by decide), if_neg (by decide), if_neg (by decide), if_neg (by decide), if_neg (by decide), if_neg (by decide), if_neg (by decide), if_neg (by decide), if_neg (by decide), if_neg (by decide), if_neg (by decide), if_neg (by decide), if_neg (by decide), if_neg (by decide), if_neg (by decide), if_neg (by decide), if_neg (by decide), if_neg (by decide), if_neg (by decide), if_neg (by decide), if_neg (by decide), rm_86, km_86_0, if_neg (by decide), if_neg (by decide), if_neg (by decide), if_neg (by decide), if_neg (by decide), if_neg (by decide), if_neg (by decide), if_neg (by decide), if_neg (by decide), if_neg (by decide), if_neg (by decide), if_neg (by decide), if_neg (by decide), if_neg (by decide), if_neg (by decide), if_neg (by decide), if_neg (by decide), if_neg (by decide), if_neg (by decide), if_pos rfl, m_emit B1.1.2.1.2.2.2.2.2.1 (by omega), bi_ok, bi_ok]
        rfl)
      rw [show lj_R lc_P 81 [.ref 6, .int 0] σ6 = _ from j1, bv_ok, j2, c_put3 j3.2.1.2.2.2.2.1 (by omega), bi_ok, go7, nx1 Z2.1.2.1]
      have H7 := B1.2.tr (Z1.2.tr Z2.2)
      have GL := (Y1.2.tr Y2.2).tr (j4.tr H7)
      refine Or.inr ⟨_, _, p7, c7 + 1, m7 + 1, wh7, F7, N7, nl + 1, [((Q (p + 2)).2.2.1, (Q (p + 2)).2.2.2, nl)], [], rfl, rfl, by rw [adB_nil]; exact Z2.1.top, (G0.s hNe w4).r GL, (by omega), fun y hy => by rw [List.mem_singleton.1 hy]; exact (Nat.le_refl _), (by omega), (by omega), (by omega), fun x hx => by simp at hx, fun q => absurd rfl q, fun σ2 τ2 L => ?_⟩
      have L2 := L.lt
      have L1 := Z2.2.bk L2
      have g1 := L1.gC (by omega)
      have g2 := L2.gM (by omega)
      have L7 := B1.2.bk (Z1.2.bk L1)
      have L6 := ((w4.bk (((Y1.2.tr Y2.2).tr j4).bk L7 |>.lb [])).lt)
      have K3 := X4.2.bk L6
      have x3 := K3.gC (by omega)
      have x4 := L6.gM (by omega)
      have h31 : (nl : Int) < lv σ2 31 f := by have := (X3.1.l31 hN K3.1).1; omega
      have K2 := X3.2.bk K3
      have K1 := X2.2.bk K2
      have x1 := K1.gC (by omega)
      have x2 := K2.gM (by omega)
      have K0 := P3.2.bk (P4.2.bk (q5.bk (R5'.2.bk (X1.2.bk K1))))
      have K00 := P2.2.bk K0
      have z1 := K00.gC (by omega)
      have z2 := K0.gM (by omega)
      refine seg0_in [(f, c + 1, m + 1, s, l, 50)] ⟨z1.1, z2.1, rfl⟩ (fun y hy => ?_)
      rw [List.mem_singleton.1 hy]
      refine seg_in [(f, c + 2, m + 2, 0 :: s, l, 50)] ⟨1, x1.1, x2.1, rfl⟩ (fun y hy => ?_)
      rw [List.mem_singleton.1 hy]
      refine seg_in [(f, c + 3, m + 3, s, nl :: l, 50)] ⟨9, nl, s, nl :: l, ⟨q1, fun w => Nat.lt_irrefl _ (sl.2 nl w), h31⟩, rfl, fun y => List.mem_cons, x3.1, x3.2.1, x4.1, x4.2.1, rfl⟩ (fun y hy => ?_)
      rw [List.mem_singleton.1 hy]
      refine (hE σ2 τ2 L7.1 (L7.2.mo (by omega) (by omega) (by omega) (by omega))).tr (fun y hy => ?_)
      rw [hy]
      refine seg_in [(f, c7 + 1, m7 + 1, s, nl :: l, 50)] ⟨8, nl, s, List.mem_cons_self, rfl, g1.1, g1.2.1, g2.1, g2.2.1, rfl⟩ (fun y hy => ?_)
      rw [List.mem_singleton.1 hy]
      exact seg_ex (Or.inl rfl)
  · rw [if_neg (show ¬ tkk (Q (p + 2)).1 = 1 from fun z => a1 (t1'.1 z)), m_wrong P4.1.1.1 hp2 h4.2.1 h4.2.2.2.2.2.2.2.2.2, bi_ok, if_pos rfl, km_54_36, bi_ok] at eM
    refine ⟨0, _, Or.inl rfl, eM, Or.inl ?_⟩
    rw [if_neg (show ¬ Int32.ofNat (Q (p + 2)).1 = 1 from fun z => a1 ((ofN_eq (c := 1) (by omega) (by omega)).1 z)), c_throw P4.1.1.1 hp2 h4.1, nx0]
    exact P4.1.flt hT5 2 (Or.inl rfl) _
