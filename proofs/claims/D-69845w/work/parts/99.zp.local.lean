/-! statements: local -/
theorem div100 {k s : Nat} (hk : k ≤ 50) (hs : s < 100) : Int32.ofNat (k * 100 + s) / 100 = Int32.ofNat k := by
  apply Int32.toInt_inj.1
  rw [Int32.toInt_div_of_ne_right _ _ (by decide), lz_lit (by omega), lz_lit (by omega), show (100 : Int32).toInt = 100 from rfl, Int.tdiv_eq_ediv_of_nonneg (by omega)]
  omega
theorem mul100 (k s : Nat) : Int32.ofNat k * 100 + Int32.ofNat s = Int32.ofNat (k * 100 + s) := by
  rw [show Int32.ofNat k * 100 = Int32.ofNat (k * 100) from (Int32.ofNat_mul k 100).symm, ofN_add']
theorem ofN_sub' (a d : Nat) : Int32.ofNat (a + d) - Int32.ofNat d = Int32.ofNat a := by
  rw [← ofN_add', Int32.add_sub_cancel]
theorem ofN_sub'' (a d : Nat) : Int32.ofNat (a + d) - Int32.ofNat a = Int32.ofNat d := by
  rw [Nat.add_comm, ofN_sub']
theorem cs_local {b : Nat → Int32} {n T : Nat} {Q : tkQ} {X : List Int32 → Prop} (hT5 : T ≤ 520) (k0 : Nat) (hR : CR b n T Q X k0) {F : Nat} {N : List lT} {FO0 : List fT} {nl rv : Nat} {fl : List Nat} {Z : List zT} {PL : List qT} {cl ml : Nat} {p v c m wh : Nat} {W : List wT} {σ τ : lj_S} {f : Nat} {s l lB : List Nat} {D : Nat} (hTp : T - p < k0 + 1) (h : PS b n T Q X F N (((nl, rv), fl) :: FO0) Z PL cl ml p v c m wh W σ τ) (hN : hdN N f l) (hs : fls s fl) (hW : W.length + 25 ≤ 40 * v + 60) (hc : c + 40 ≤ 25 * p + 100) (hm : m + 40 ≤ 25 * p + 100) (a21 : (Q p).1 = 21) (n18 : (Q (p + 1)).1 ≠ 18) :
    ∃ y τ', (y = 0 ∨ y = 1) ∧ lj_R lm_P 42 [.ref 0] τ = some (.inl (some (.int y)), τ') ∧ stR b n T Q X FO0 nl rv fl Z PL v W f s l lB D N F p c m σ τ (fun p' => p < p') 0 (lj_bi (lj_R lc_P 54 [.ref 5, .int 0, .int 0, .int 0] σ) (fun _ σ1 => lj_R lc_P 108 [.ref 6] σ1) lj_up) (mNx y τ') := by
  have hv20 := h.2.2.1.2.1
  have hfv := h.fv
  have hsB : sB s := hs.sb hfv hv20
  have hpT := h.2.2.1.1
  have hv20 := h.2.2.1.2.1
  have hlt : p < T := h.lt (by omega) (by omega)
  have hp1 : p + 1 ≤ T := hlt
  have c14 := h.c14 hT5
  have h1 := h.2.1
  have hNe := hdN_ne hN
  have P1 := h.C (by omega) hT5 0 0 0 0 0
  have P2 := P1.1.M (by omega) 0 0 0 0
  have P3 := P2.1.st hlt
  obtain ⟨z0, R0, rfl, hf0, hl0⟩ := hN
  have hNR3 := P3.1.1.2.2.1
  have hF3 := P3.1.1.2.2.2.1
  have hz51 : z0.1 < 51 := hNR3.1.1.1
  have hzF := P3.1.1.2.2.2.2.1 z0 (List.mem_cons_self)
  obtain ⟨sl1, sl2, sl3, sl4⟩ := P3.1.1.2.2.2.2.2.1.1.2.2.2.2.2.2
  have sl2 : nl ≤ 50 := sl2
  have sl4 : ∀ y ∈ z0.2.1.map (·.2.2), y < nl := sl4
  rw [hl0] at sl4
  have h14 : (lj_put (mP τ m 0 0 0 0) 0 25 (Int32.ofNat (p + 1))).1 14 z0.1 = Int32.ofNat nl := by rw [← (hF3.2.2.2 z0.1 hzF).1]; exact sl1
  have eM : lj_R lm_P 42 [.ref 0] τ = _ := m_st42 h hT5 (by omega)
  rw [a21] at eM
  unfold mSt at eM
  rw [if_neg (by decide), if_neg (by decide), if_neg (by decide), if_neg (by decide), if_neg (by decide), if_neg (by decide), if_neg (by decide), if_neg (by decide), if_neg (by decide), if_pos (by decide), rm_54, km_54_0, m_isWord P3.1.1.1 hp1 P3.1.2.1.2.1 8 (by omega) 9 rfl, bi_ok, if_neg (show ¬ (Q (p + 1)).1 = 10 + 8 from n18), if_pos rfl, m_prt hNR3, bi_ok, if_pos (ofN_in hz51 (by omega)), lz_onat (by omega), h14, P3.1.2.1.2.1] at eM
  have tk := c_take P3.1.1.1 hp1 P3.1.2.1.1 18 (by omega)
  rw [if_neg n18] at tk
  rw [c_put3 h1.2.2.2.2.1 (by omega), bi_ok, rc_108, kc_108_0, c_step P1.1.1.1 hpT P1.1.2.1.1, bv_ok, show lj_R lc_P 84 [.ref 6, .int 18] _ = _ from tk, bi_ok, if_pos rfl, P3.1.2.1.1]
  have G3 := P1.2.tr (P2.2.tr P3.2)
  have hN3 : hdN (z0 :: R0) f l := ⟨z0, R0, rfl, hf0, hl0⟩
  rcases cm_names hT5 hN3 (p1 := p + 1) (Int32.ofNat nl) (T + 1) 0 (p + 1) _ _ (.retAddr 0) (by omega) (by omega) (fun j hj => by omega) P3.1 with ⟨τ', r1, r2⟩ | ⟨k, p3, σ3, τ3, x4', r1, r2, r3, r4, r5, r6, r7⟩
  · rw [show lj_D lm_P lm_M54 136 [.ref 0, .int (Int32.ofNat (p + 1)), .int 0, .int (Int32.ofNat nl), .int 1, .retAddr 0, .retAddr 0] [] _ = _ from r1, bi_ok] at eM
    refine ⟨0, τ', Or.inl rfl, eM, Or.inl ?_⟩
    rw [nx0]
    exact r2
  · have hp3 := r6.2.2.1.1
    have hp3' : p3 ≤ T := hp3
    have c143 := r6.c14 hT5
    have hh := r6.2.1
    have hk50 : nl + k ≤ 50 := r6.1.2.2.2.2.2.1.1.2.2.2.2.2.2.2.1
    have hL31 : σ3.1 31 z0.1 = Int32.ofNat (nl + k) := r6.1.2.2.2.2.2.1.1.2.2.2.2.2.2.1
    have hpp3 := r7.2.2.2.1
    rw [show lj_D lm_P lm_M54 136 [.ref 0, .int (Int32.ofNat (p + 1)), .int 0, .int (Int32.ofNat nl), .int 1, .retAddr 0, .retAddr 0] [] _ = _ from r5, km_54_136, if_pos rfl, m_emit hh.2.2.2.2.2.1 (by omega), bi_ok] at eM
    rw [show lj_D lc_P lc_M108 110 [.ref 6, .int (Int32.ofNat (p + 1)), .int 0, .int 1, .retAddr 0, .retAddr 0, .retAddr 0] [] _ = _ from r4, kc_108_110, if_pos rfl, c_line r6.1.1 hp3 hh.1, bi_ok, c_put3 hh.2.2.2.2.1 (by omega), bi_ok]
    have P5 := r6.C (by omega) hT5 15 0 0 0 0
    have P6 := P5.1.M (by omega) 14 0 0 0
    have G6 := G3.tr (r7.tr (P5.2.tr P6.2))
    have tk3 := c_take P6.1.1.1 hp3 P6.1.2.1.1 58 (by omega)
    rw [m_isSign P6.1.1.1 hp3 P6.1.2.1.2.1 18 (by omega) 61 rfl, bi_ok] at eM
    generalize hLn : Int32.ofNat (1 + tN b (Q p3).2.1) = Ln at *
    -- the acts up to the mark
    have sgM : ∀ σ2 τ2, LT (z0 :: R0) c (c + 1 + 1) m (m + 1 + 1) _ _ σ2 τ2 → gS σ2 τ2 (fun y => y = (f, c + 2, m + 2, 1 :: s, l, 50)) (f, c, m, s, l, 50) := fun σ2 τ2 L6 => by
      have L5 := P6.2.bk L6
      have L3 := P3.2.bk (r7.bk (P5.2.bk L5))
      have k3 := L5.gC (by omega)
      have k4 := L6.gM (by omega)
      have L2 := P2.2.bk L3
      have k1 := L2.gC (by omega)
      have k2 := L3.gM (by omega)
      refine gS_in [(f, c + 1, m + 1, s, l, 50)] ⟨k1.1, k2.1, rfl⟩ (fun y hy => ?_)
      rw [List.mem_singleton.1 hy]
      refine seg_in [(f, c + 2, m + 2, 1 :: s, l, 50)] ⟨16, k3.1, k4.1, rfl⟩ (fun y hy => ?_)
      rw [List.mem_singleton.1 hy]
      exact seg_ex rfl
    -- behind the act that makes them so many
    have fin : ∀ (F' : Nat) (N' : List lT) (p' c' m' wh' : Nat) (σ' τ' : lj_S) (y3 y4 z1 x5 : Int32), PS b n T Q X F' N' (((nl + k, rv + k), fl) :: FO0) Z PL cl ml p' v c' m' wh' W σ' τ' → GR (z0 :: R0) N' F F' p p' c c' m m' σ τ σ' τ' → p3 ≤ p' → c' + 20 + k ≤ c + 25 * (p' - p) → m' + 20 + k ≤ m + 25 * (p' - p) → (∀ σ2 τ2, LT N' c c' m m' σ' τ' σ2 τ2 → gS σ2 τ2 (fun y => y = (f, c', m', List.replicate k 0 ++ s, l, 50)) (f, c, m, s, l, 50)) →
        ∃ σ'' τ'', lj_D lc_P lc_M108 231 [.ref 6, .int (Int32.ofNat (p + 1)), .int (Int32.ofNat k), .int y3, .int y4, .int (Int32.ofNat nl), .int (Int32.ofNat k - 1)] [] σ' = some (.inl none, σ'') ∧ lj_D lm_P lm_M56 34 [.ref 0, .int z1, .int (Int32.ofNat (p + 1)), .int (Int32.ofNat k), .int (Int32.ofNat nl), .int x5, .int (Int32.ofNat k - 1)] [] τ' = some (.inl (some (.int 1)), τ'') ∧ mNx 1 τ'' = mLoop τ'' ∧ stR b n T Q X FO0 nl rv fl Z PL v W f s l lB D (z0 :: R0) F p c m σ τ (fun p' => p < p') 0 (some (.inl none, σ'')) (mLoop τ'') := fun F' N' p' c' m' wh' σ' τ' y3 y4 z1 x5 u1 u2 u3 u4 u5 u6 => by
      obtain ⟨σ5, τ5, x5', q1, q2, q3, q4, q5⟩ := cm_sets hT5 (nl := nl) (f := f) (Int32.ofNat (p + 1)) (Int32.ofNat k) y3 y4 z1 (Int32.ofNat (p + 1)) (Int32.ofNat k) k c' m' σ' τ' x5 u1 hk50 (by omega) (by omega)
      have hN' : hdN N' f l := hdN_X hN3 u2.2.1
      obtain ⟨σ6, τ6, N6, e6, w1, w2, w3, w4, w5⟩ := cm_knows hT5 (nl := nl) (rv := rv) (k := k) (f := f) (l := l) (p1 := p + 1) (by omega) r3 sl4 y3 y4 z1 k 0 N' σ5 τ5 [] x5' (by omega) q3 ((GR_rf _ _ _ _ _ _ _).gs (hdN_ne hN')) hN' (fun y => by
        constructor
        · intro q; simp at q
        · intro q; omega)
      refine ⟨σ6, τ6, by rw [q1]; exact w1, by rw [q2]; exact w2, nx1 w3.2.1, Or.inr ⟨σ6, τ6, p', c' + k, m' + k, wh', F', N6, nl + k, e6, [], rfl, rfl, by rw [adB_nil]; exact w3.top, (u2.tr q4).s hNe w4, (by omega), fun y hy => ((w5 y.2.2).1 (List.mem_map.2 ⟨y, hy, rfl⟩)).1, (by omega), (by omega), (by omega), fun x hx => by simp at hx, fun q => absurd rfl q, fun σ2 τ2 L => ?_⟩⟩
      have hcc' := u2.2.2.2.2.1
      have hmm' := u2.2.2.2.2.2.1
      have L5 : LT N' c (c' + k) m (m' + k) σ5 τ5 σ2 τ2 := (w4.bk L).lt
      refine Or.inr ((u6 σ2 τ2 (q4.bk L5)).tr (fun y hy => ?_))
      rw [hy]
      refine (q5 σ2 τ2 ⟨L5.1, L5.2.mo (by omega) (by omega) (by omega) (by omega)⟩ s l (e6.map (·.2.2) ++ l) r1 (((hs.hd (nl := 0) (rv := 0) (FO0 := []) hfv).k k).sb (by omega) (by omega)) (fun y hy => Or.inl (sl4 y hy)) (q3.l31 hN' L5.1).1 (fun y => ?_)).tr (fun y hy => seg_ex (Or.inl hy))
      rw [List.mem_append, w5 y]
    by_cases a58 : (Q p3).1 = 58
    · have hlt3 : p3 < T := P6.1.lt (by omega) (by omega)
      have hp31 : p3 + 1 ≤ T := hlt3
      rw [if_pos a58] at tk3
      have P7 := P6.1.st hlt3
      rw [show lj_R lc_P 84 [.ref 6, .int 58] _ = _ from tk3, bi_ok, if_neg (by decide)]
      rw [if_pos (show (Q p3).1 = 40 + 18 by omega), if_neg (by decide), m_lineHere P6.1.1.1 hp3 P6.1.2.1.2.1, bi_ok, m_take P6.1.1.1 hp3 P6.1.2.1.2.1 (by omega), bi_ok, if_neg (by decide), m_beginsE P7.1.1.1 hp31 P7.1.2.1.2.1, bi_ok, hLn] at eM
      by_cases hE : bgE (Q (p3 + 1)).1
      · have P8 := P7.1.la (by omega) (39, Ln, Int32.ofNat (p + 1), Int32.ofNat (k * 100 + nl))
        have P9 := P8.1.la (by simp; omega) (14, 0, 0, 0)
        have P10 := P9.1.la (by simp; omega) (3, 0, 0, 0)
        rw [if_pos hE, if_neg (by decide), mul100, (m_later P7.1.2.1.2.2.2.2.2.2.2.2.1 (by omega) 39 Ln (Int32.ofNat (p + 1)) (Int32.ofNat (k * 100 + nl))).1, bv_ok, (m_later P8.1.2.1.2.2.2.2.2.2.2.2.1 (by simp; omega) 14 0 0 0).1, bv_ok, (m_later P9.1.2.1.2.2.2.2.2.2.2.2.1 (by simp; omega) 3 0 0 0).1, bv_ok, bi_ok] at eM
        refine ⟨1, _, Or.inr rfl, eM, ?_⟩
        rw [nx1 P10.1.2.1]
        rcases hR F (z0 :: R0) _ Z PL cl ml (p3 + 1) v (c + 2) (m + 2) wh ((39, Ln, Int32.ofNat (p + 1), Int32.ofNat (k * 100 + nl)) :: W) _ _ f (1 :: s) l Ln (by omega) P10.1 hN3 ((hs.hd hfv).o.up (by omega) (by omega)) (by simp; omega) hE with hf | ⟨σ8, τ8, p8, c8, m8, wh8, F8, N8, r, i1, i2, i3, i4, i5, i6, i7, i8, i9⟩
        · exact Or.inl (flt_bv hf _)
        · have hc8 := i4.2.2.2.2.1
          have hm8 := i4.2.2.2.2.2.1
          have c148 := i3.c14 hT5
          have hp8 := i3.2.2.1.1
          have G10 := G6.tr (P7.2.tr (P8.2.tr (P9.2.tr P10.2)))
          have Q1 := i3.pop
          have X1 := Q1.1.C (by omega) hT5 20 (Int32.ofNat k) 0 0 Ln
          have X2 := X1.1.M (by omega) 17 0 0 Ln
          have X3 := X2.1.M (by omega) 18 (Int32.ofNat k) 0 0
          obtain ⟨z8, R8, e8, ez1, ez2⟩ := hdN_X hN3 i4.2.1
          subst e8
          have x62 : (cP σ8 c8 20 (Int32.ofNat k) 0 0 Ln).1 6 2 = Int32.ofNat z8.1 := X1.1.1.2.2.1.2.2.2.2.2.2.1
          have x31 : (cP σ8 c8 20 (Int32.ofNat k) 0 0 Ln).1 31 z8.1 = Int32.ofNat (nl + k) := X1.1.1.2.2.2.2.2.1.1.2.2.2.2.2.2.1
          have z851 : z8.1 < 51 := X1.1.1.2.2.1.1.1.1
          obtain ⟨σ9, τ9, f1, f2, f3, f4⟩ := fin F8 (z8 :: R8) p8 (c8 + 1) (m8 + 2) wh8 _ _ 0 Ln Ln (Int32.ofNat (m8 + 1)) X3.1 (G10.tr (i4.tr (Q1.2.tr (X1.2.tr (X2.2.tr X3.2))))) (by omega) (by omega) (by omega) (fun σ2 τ2 L => by
            have L3 := X3.2.bk L
            have L2 := X2.2.bk L3
            have g1 := L2.gC (by omega)
            have g2 := L3.gM (by omega)
            have g3 := L.gM (by omega)
            have La := Q1.2.bk (X1.2.bk L2)
            have Lm := P7.2.bk (P8.2.bk (P9.2.bk (P10.2.bk (i4.bk La))))
            refine (sgM σ2 τ2 Lm).tr (fun y hy => ?_)
            rw [hy]
            refine (i9 σ2 τ2 La.1 (La.2.mo (by omega) (by omega) (by omega) (by omega))).tr (fun y hy => ?_)
            rw [hy]
            have hrw := i8.1
            refine seg_in [(f, c8 + 1, m8 + 2, List.replicate k 0 ++ s, l, 50)] ⟨25, k, r, s, (by omega), hrw, rfl, g1.1, g1.2.1, g1.2.2.1, g2.1, by show τ2.1 23 m8 = σ2.1 26 c8; rw [g2.2.2.2, g1.2.2.2.2], g3.1, g3.2.1, rfl⟩ (fun y hy => ?_)
            rw [List.mem_singleton.1 hy]
            exact seg_ex rfl)
          have e56 : lj_R lm_P 56 [.ref 0, .int Ln, .int (Int32.ofNat (p + 1)), .int (Int32.ofNat k), .int (Int32.ofNat nl)] (lj_put τ8 0 46 (Int32.ofNat W.length)) = some (.inl (some (.int 1)), τ9) := by
            rw [rm_56, km_56_0, if_neg (by
              have q1 := (P6.1.1.1.2.2.2.2.1 p3 hp3).2.2.2.2.1
              have q2 := P6.1.1.1.2.1
              have q3 := tN_le b (Q p3).2.1
              rw [← hLn, lz_le, lz_lit (by omega)]
              show ¬ (((1 + tN b (Q p3).2.1 : Nat) : Int) ≤ 0)
              omega), m_emit Q1.1.2.1.2.2.2.2.2.1 (by omega), bi_ok, km_56_18, m_emit X2.1.2.1.2.2.2.2.2.1 (by omega), bi_ok]
            exact f2
          have go9 : mLoop τ8 = mNx 1 τ9 := i3.go (Or.inr rfl) (by
            rw [rm_30, km_30_0, if_neg (by decide), if_neg (by decide), if_neg (by decide), if_neg (by decide), if_neg (by decide), if_neg (by decide), if_neg (by decide), if_neg (by decide), if_neg (by decide), if_neg (by decide), if_neg (by decide), if_neg (by decide), if_neg (by decide), if_neg (by decide), if_neg (by decide), if_neg (by decide), if_neg (by decide), if_neg (by decide), if_neg (by decide), if_neg (by decide), if_neg (by decide), rm_86, km_86_0, if_neg (by decide), if_neg (by decide), if_neg (by decide), if_neg (by decide), if_neg (by decide), if_neg (by decide), if_neg (by decide), if_neg (by decide), if_neg (by decide), if_neg (by decide), if_neg (by decide), if_neg (by decide), if_neg (by decide), if_neg (by decide), if_neg (by decide), if_neg (by decide), if_neg (by decide), if_neg (by decide), if_pos rfl, if_neg (by decide), if_neg (by decide), div100 (by omega) (by omega), show Int32.ofNat k * 100 = Int32.ofNat (k * 100) from (Int32.ofNat_mul k 100).symm, ofN_sub'', e56, bi_ok, bi_ok]
            rfl)
          rw [i1, bv_ok, i2, kc_108_191, c_put3 Q1.1.2.1.2.2.2.2.1 (by omega), bi_ok, x62, if_pos (ofN_in z851 (by omega)), lz_onat (by omega), x31, ofN_sub', f1, go9, f3]
          exact f4
      · rw [if_neg hE, if_pos rfl, m_wrong P7.1.1.1 hp31 P7.1.2.1.2.1 P7.1.2.1.2.2.2.2.2.2.2.2.2, bi_ok, bi_ok] at eM
        refine ⟨0, _, Or.inl rfl, eM, Or.inl ?_⟩
        rw [nx0, rc_95, kc_95_0, kc_95_4, if_neg (by decide), c_beginsE P7.1.1.1 hp31 P7.1.2.1.1, bi_ok, if_neg hE, if_pos rfl, c_throw P7.1.1.1 hp31 P7.1.2.1.1]
        exact flt_bv (P7.1.flt hT5 2 (Or.inl rfl) _) _
    · rw [if_neg a58] at tk3
      have X1 := P6.1.C (by omega) hT5 20 (Int32.ofNat k) 0 0 Ln
      have X2 := X1.1.M (by omega) 18 (Int32.ofNat k) 0 0
      have x62 : (cP (cP σ3 (c + 1) 15 0 0 0 0) (c + 1 + 1) 20 (Int32.ofNat k) 0 0 Ln).1 6 2 = Int32.ofNat z0.1 := X1.1.1.2.2.1.2.2.2.2.2.2.1
      have x31 : (cP (cP σ3 (c + 1) 15 0 0 0 0) (c + 1 + 1) 20 (Int32.ofNat k) 0 0 Ln).1 31 z0.1 = Int32.ofNat (nl + k) := X1.1.1.2.2.2.2.2.1.1.2.2.2.2.2.2.1
      obtain ⟨σ9, τ9, f1, f2, f3, f4⟩ := fin F (z0 :: R0) p3 (c + 3) (m + 3) wh _ _ 0 Ln 0 (Int32.ofNat (m + 2)) X2.1 (G6.tr (X1.2.tr X2.2)) (by omega) (by omega) (by omega) (fun σ2 τ2 L => by
        have L2 := X2.2.bk L
        have g1 := L2.gC (by omega)
        have g2 := L.gM (by omega)
        have La := X1.2.bk L2
        refine (sgM σ2 τ2 La).tr (fun y hy => ?_)
        rw [hy]
        refine seg_in [(f, c + 3, m + 3, List.replicate k 0 ++ s, l, 50)] ⟨26, k, s, (by omega), rfl, g1.1, g1.2.1, g1.2.2.1, g2.1, g2.2.1, rfl⟩ (fun y hy => ?_)
        rw [List.mem_singleton.1 hy]
        exact seg_ex rfl)
      rw [if_neg (show ¬ (Q p3).1 = 40 + 18 by omega), if_pos rfl, rm_56, km_56_0, if_pos (by decide), km_56_18, m_emit P6.1.2.1.2.2.2.2.2.1 (by omega), bi_ok, show lj_D lm_P lm_M56 34 _ [] _ = _ from f2, bi_ok, bi_ok] at eM
      refine ⟨1, τ9, Or.inr rfl, eM, ?_⟩
      rw [show lj_R lc_P 84 [.ref 6, .int 58] _ = _ from tk3, bi_ok, if_pos rfl, kc_108_191, c_put3 P6.1.2.1.2.2.2.2.1 (by omega), bi_ok, x62, if_pos (ofN_in hz51 (by omega)), lz_onat (by omega), x31, ofN_sub', f1, f3]
      exact f4
