/-! statements: a called for -/
theorem ci_M (x1 x2 : Int32) {k nl : Nat} (hk : k ≤ 50) (hn : nl < 100) (σ : lj_S) : lj_D lm_P lm_M101 0 [.ref 0, .int x1, .int x2, .int (Int32.ofNat (k * 100 + nl)), .retAddr 0, .retAddr 0, .retAddr 0, .retAddr 0, .retAddr 0] [] σ = lj_bi (lj_R lm_P 49 [.ref 0, .int 3] σ) (fun y2 σ1 => (if y2 = 0 then some (.inl (some (.int 0)), σ1) else lj_bi (lj_R lm_P 28 [.ref 0, .int 17, .int 0, .int 0, .int x1] σ1) (fun y4 σ3 => lj_bi (lj_R lm_P 28 [.ref 0, .int 18, .int 3, .int 0, .int 0] σ3) (fun y6 σ5 => ciM x1 x2 (Int32.ofNat (k * 100 + nl)) (Int32.ofNat k) (Int32.ofNat nl) σ5) lj_up) lj_up)) lj_up := by
  have e1 : Int32.ofNat (k * 100 + nl) / 100 = Int32.ofNat k := div100 hk hn
  have e2 : Int32.ofNat (k * 100 + nl) - Int32.ofNat k * 100 = Int32.ofNat nl := by
    rw [show Int32.ofNat k * 100 = Int32.ofNat (k * 100) from (Int32.ofNat_mul k 100).symm, ofN_sub'']
  rw [km_101_0]
  simp only [e1, e2, if_neg (show ¬ ((100 : Int32) = 0) by decide)]
  rfl
theorem cs_fori {b : Nat → Int32} {n T : Nat} {Q : tkQ} {X : List Int32 → Prop} (hT5 : T ≤ 520) (k0 : Nat) (hR : CR b n T Q X k0) (hK : CK b n T Q X k0) {F : Nat} {N : List lT} {FO0 : List fT} {nl rv : Nat} {fl : List Nat} {Z : List zT} {PL : List qT} {cl ml : Nat} {p v c m wh : Nat} {W : List wT} {σ τ : lj_S} {f : Nat} {s l lB : List Nat} {D : Nat} (hTp : T - p < k0 + 1) (h : PS b n T Q X F N (((nl, rv), fl) :: FO0) Z PL cl ml p v c m wh W σ τ) (hN : hdN N f l) (hs : fls s fl) (hW : W.length + 25 ≤ 40 * v + 60) (hc : c + 40 ≤ 25 * p + 100) (hm : m + 40 ≤ 25 * p + 100) (hZ : Z.length + 1 ≤ v) (hfl : fl.length + 1 ≤ v) (a17 : (Q p).1 = 17) (a1 : (Q (p + 1)).1 = 1) (hnl : nl < 50) (n58 : (Q (p + 2)).1 ≠ 58) :
    ∃ y τ', (y = 0 ∨ y = 1) ∧ lj_R lm_P 42 [.ref 0] τ = some (.inl (some (.int y)), τ') ∧ stR b n T Q X FO0 nl rv fl Z PL v W f s l lB D N F p c m σ τ (fun p' => p < p') 0 (lj_bi (lj_R lc_P 54 [.ref 5, .int 0, .int 0, .int 0] σ) (fun _ σ1 => lj_R lc_P 102 [.ref 6] σ1) lj_up) (mNx y τ') := by
  have hv20 := h.2.2.1.2.1
  have hfv := h.fv
  have hsB : sB s := hs.sb hfv hv20
  have hpT := h.2.2.1.1
  have hv20 := h.2.2.1.2.1
  have hlt : p < T := h.lt (by omega) (by omega)
  have hp1 : p + 1 ≤ T := hlt
  have c14 := h.c14 hT5
  have h1 := h.2.1
  have hNe := hdN_ne hN
  have sl : nl ≤ 50 ∧ ∀ y ∈ l, y < nl := by
    obtain ⟨z, R, rfl, _, e⟩ := hN
    obtain ⟨_, q2, _, q4⟩ := h.1.2.2.2.2.2.1.1.2.2.2.2.2.2
    rw [e] at q4
    exact ⟨q2, q4⟩
  have P1 := h.C (by omega) hT5 0 0 0 0 0
  have P2 := P1.1.M (by omega) 0 0 0 0
  have P3 := P2.1.st hlt
  have h3 := P3.1.2.1
  have hk := tk_lt P3.1.1.1 hp1
  obtain ⟨hin, hkk, hvv⟩ := m_kindv P3.1.1.1 hp1 h3.2.1
  have t1 : ∀ k : Fin 70, ((tkk k.val = 1) ↔ k.val = 1) := by decide
  have t1' := t1 ⟨(Q (p + 1)).1, hk⟩
  have eM : lj_R lm_P 42 [.ref 0] τ = _ := m_st42 h hT5 (by omega)
  rw [a17] at eM
  unfold mSt at eM
  generalize hL0 : Int32.ofNat (1 + tN b (Q p).2.1) = L0 at *
  rw [if_neg (by decide), if_neg (by decide), if_neg (by decide), if_neg (by decide), if_neg (by decide), if_pos (by decide), rm_46, km_46_0, if_pos hin, hkk] at eM
  rw [c_put3 h1.2.2.2.2.1 (by omega), bi_ok, rc_102, kc_102_0, c_line P1.1.1.1 hpT P1.1.2.1.1, bi_ok, c_step P1.1.1.1 hpT P1.1.2.1.1, bv_ok, c_kind P3.1.1.1 hp1 h3.1, bi_ok, hL0]
  have G3 := P1.2.tr (P2.2.tr P3.2)
  have hlt1 : p + 1 < T := P3.1.lt (by omega) (by omega)
  have hp2 : p + 2 ≤ T := hlt1
  rw [if_pos (show tkk (Q (p + 1)).1 = 1 from t1'.2 a1), m_here P3.1.1.1 hp1 h3.2.1, bi_ok] at eM
  rw [if_pos (show Int32.ofNat (Q (p + 1)).1 = 1 by rw [a1]; rfl), h3.1]
  rcases cm_decl P3.1 hN (t := p + 1) hp1 hT5 with ⟨q1, q2, q3⟩ | ⟨q1, q2, q3, q4, q5⟩
  · omega
  have P4' := q4.stR hlt1
  have P4 : PS b n T Q X F N (((nl + 1, rv + 1), fl) :: FO0) Z PL cl ml (p + 2) v (c + 1) (m + 1) wh W _ _ := P4'.1.rvd (by omega)
  have G4 := G3.tr (q5.tr P4'.2)
  have h62 : ∀ {F' : Nat} {z : lT} {R : List lT} {FO' : List fT} {p' c' m' wh' : Nat} {W' : List wT} {σ' τ' : lj_S}, PS b n T Q X F' (z :: R) FO' Z PL cl ml p' v c' m' wh' W' σ' τ' → σ'.1 6 2 = Int32.ofNat z.1 ∧ σ'.1 44 z.1 = Int32.ofNat z.2.1.length ∧ z.1 < 51 := fun g => ⟨g.1.2.2.1.2.2.2.2.2.2.1, g.1.2.2.1.1.1.2.2.1, g.1.2.2.1.1.1.1⟩
  obtain ⟨z0, R0, rfl, e1, e2⟩ := hN
  have hN : hdN (z0 :: R0) f l := ⟨z0, R0, rfl, e1, e2⟩
  obtain ⟨x62, x44, z51⟩ := h62 P4
  have i51 : lj_in (Int32.ofNat z0.1) 51 := ofN_in z51 (by omega)
  rw [q3, bi_ok, if_neg (ofN_nneg (by omega)), m_take q4.1.1 hp1 q4.2.1.2.1 (by omega), bi_ok, if_neg (by decide), m_isSign P4.1.1 hp2 P4.2.1.2.1 18 (by omega) 61 rfl, bi_ok, if_neg (show ¬ (Q (p + 2)).1 = 40 + 18 by omega), if_pos rfl, show (lj_put (mP τ m 0 0 0 0) 0 25 (Int32.ofNat (p + 1))).1 0 25 = Int32.ofNat (p + 1) from h3.2.1] at eM
  have hk2 := tk_lt P4.1.1 hp2
  rw [q2, bi_ok, c_step q4.1.1 hp1 q4.2.1.1, bv_ok, c_kind P4.1.1 hp2 P4.2.1.1, bi_ok, if_neg (show ¬ Int32.ofNat (Q (p + 2)).1 = 58 from fun z => n58 ((ofN_eq (c := 58) (by omega) (by omega)).1 z)), rc_105, kc_105_0, x62, if_pos i51, lz_onat (show z0.1 < 2147483648 by omega), x44]
  rcases fi_names hT5 (rv := rv) hN (p1 := p + 1) (Int32.ofNat nl) (Int32.ofNat z0.2.1.length) L0 (T - (p + 2) + 1) 1 (p + 2) _ _ (.retAddr 0) (by omega) (by omega) (by omega) (fun j hj => by
    have : j = 0 := by omega
    rw [this]; exact a1) P4 with ⟨τ', r1, r2⟩ | ⟨k, p', σ', τ', x5', r1, r2, r3, r3', r4, r5, r6, r7⟩
  · rw [show (1 : Int32) = Int32.ofNat 1 from rfl] at eM ⊢
    rw [r1, bi_ok] at eM
    exact ⟨0, _, Or.inl rfl, eM, Or.inl (flt_bv r2 _)⟩
  rw [show lj_D lm_P lm_M46 85 [.ref 0, .int L0, .int (Int32.ofNat (p + 1)), .int (Int32.ofNat nl), .int 1, .retAddr 0, .retAddr 0] [] _ = _ from r5] at eM
  have G5 := G4.tr r7
  have sk : nl + k ≤ 50 := r6.1.2.2.2.2.2.1.1.2.2.2.2.2.2.2.1
  have hp' := r6.2.2.1.1
  have h6 := r6.2.1
  have hpp := r7.2.2.2.1
  have tk := c_take r6.1.1 hp' h6.1 68 (by omega)
  rw [if_neg r3'] at tk
  have sg := m_isSign r6.1.1 hp' h6.2.1 28 (by omega) 44 rfl
  rw [if_neg (show ¬ (Q p').1 = 40 + 28 by omega)] at sg
  have nw := m_needWord r6.1.1 hp' h6.2.1 h6.2.2.2.2.2.2.2.2.2 10 (by omega) 11 rfl
  have ps := c_pass r6.1.1 hp' h6.1 20 (by omega)
  rw [km_46_85, sg, bi_ok, if_pos rfl, m_lineHere r6.1.1 hp' h6.2.1, bi_ok, nw] at eM
  have eC : ∀ {oM : Option lj_O}, stR b n T Q X FO0 nl rv fl Z PL v W f s l lB D (z0 :: R0) F p c m σ τ (fun p' => p < p') 0 (lj_D lc_P lc_M105 13 [.ref 6, .int (Int32.ofNat (p + 1)), .int (Int32.ofNat nl), .int (Int32.ofNat z0.2.1.length), .int (Int32.ofNat k), x5', .retAddr 0, .retAddr 0, .retAddr 0, .retAddr 0, .retAddr 0, .retAddr 0, .retAddr 0] [] σ') oM → stR b n T Q X FO0 nl rv fl Z PL v W f s l lB D (z0 :: R0) F p c m σ τ (fun p' => p < p') 0 (lj_bv (lj_D lc_P lc_M105 13 [.ref 6, .int (Int32.ofNat (p + 1)), .int (Int32.ofNat nl), .int (Int32.ofNat z0.2.1.length), .int 1, .retAddr 0, .retAddr 0, .retAddr 0, .retAddr 0, .retAddr 0, .retAddr 0, .retAddr 0, .retAddr 0] [] _) (fun σ11 => lj_D lc_P lc_M102 63 [.ref 6, .int L0, .int (Int32.ofNat (p + 1)), .int (Int32.ofNat nl)] [] σ11) lj_up) oM := fun hh => by
    rw [show lj_D lc_P lc_M105 13 [.ref 6, .int (Int32.ofNat (p + 1)), .int (Int32.ofNat nl), .int (Int32.ofNat z0.2.1.length), .int 1, .retAddr 0, .retAddr 0, .retAddr 0, .retAddr 0, .retAddr 0, .retAddr 0, .retAddr 0, .retAddr 0] [] _ = _ from r4]
    exact stR.id102 hh _ _ _
  generalize hLn : Int32.ofNat (1 + tN b (Q p').2.1) = Ln at *
  suffices hsuf : ∃ y τ2, (y = 0 ∨ y = 1) ∧ lj_R lm_P 42 [.ref 0] τ = some (.inl (some (.int y)), τ2) ∧ stR b n T Q X FO0 nl rv fl Z PL v W f s l lB D (z0 :: R0) F p c m σ τ (fun p' => p < p') 0 (lj_D lc_P lc_M105 13 [.ref 6, .int (Int32.ofNat (p + 1)), .int (Int32.ofNat nl), .int (Int32.ofNat z0.2.1.length), .int (Int32.ofNat k), x5', .retAddr 0, .retAddr 0, .retAddr 0, .retAddr 0, .retAddr 0, .retAddr 0, .retAddr 0] [] σ') (mNx y τ2) by
    obtain ⟨y, τ2, s1, s2, s3⟩ := hsuf
    exact ⟨y, τ2, s1, s2, eC s3⟩
  rw [kc_105_13, show lj_R lc_P 84 [.ref 6, .int 68] σ' = _ from tk, bi_ok, if_pos rfl, c_line r6.1.1 hp' h6.1, bi_ok, hLn]
  by_cases a20 : (Q p').1 = 20
  rotate_left
  · rw [if_neg a20] at ps
    rw [if_neg (show ¬ (Q p').1 = 10 + 10 by omega), bi_ok, if_pos rfl, bi_ok] at eM
    refine ⟨0, _, Or.inl rfl, eM, Or.inl ?_⟩
    rw [show lj_R lc_P 71 [.ref 6, .int 20] σ' = _ from ps, nx0]
    exact flt_bv (r6.flt hT5 2 (Or.inl rfl) _) _
  have hlt' : p' < T := r6.lt (by omega) (by omega)
  have hp'1 : p' + 1 ≤ T := hlt'
  have A1 := r6.stR hlt'
  have A2 := A1.1.C (by omega) hT5 15 0 0 0 0
  rw [if_pos a20] at ps
  rw [if_pos (show (Q p').1 = 10 + 10 by omega), bi_ok, if_neg (by decide), m_beginsE A1.1.1.1 hp'1 A1.1.2.1.2.1, bi_ok] at eM
  rw [show lj_R lc_P 71 [.ref 6, .int 20] σ' = _ from ps, bv_ok, c_put3 A1.1.2.1.2.2.2.2.1 (by omega), bi_ok]
  by_cases hE : bgE (Q (p' + 1)).1
  rotate_left
  · rw [if_neg hE, if_pos rfl, m_wrong A1.1.1.1 hp'1 A1.1.2.1.2.1 A1.1.2.1.2.2.2.2.2.2.2.2.2, bi_ok, bi_ok] at eM
    refine ⟨0, _, Or.inl rfl, eM, Or.inl ?_⟩
    rw [nx0, rc_95, kc_95_0, kc_95_4, if_neg (by decide), c_beginsE A2.1.1.1 hp'1 A2.1.2.1.1, bi_ok, if_neg hE, if_pos rfl, c_throw A2.1.1.1 hp'1 A2.1.2.1.1]
    exact flt_bv (A1.1.flt hT5 2 (Or.inl rfl) _) _
  have A3 := A2.1.M (by omega) 14 0 0 0
  have A4 := A3.1.la (by omega) (35, Ln, Int32.ofNat (p + 1), Int32.ofNat (k * 100 + nl))
  have A5 := A4.1.la (by simp; omega) (14, 0, 0, 0)
  have A6 := A5.1.la (by simp; omega) (3, 0, 0, 0)
  rw [if_pos hE, if_neg (by decide), m_emit A1.1.2.1.2.2.2.2.2.1 (by omega), bi_ok, mul100, (m_later A3.1.2.1.2.2.2.2.2.2.2.2.1 (by omega) 35 Ln (Int32.ofNat (p + 1)) (Int32.ofNat (k * 100 + nl))).1, bv_ok, (m_later A4.1.2.1.2.2.2.2.2.2.2.2.1 (by simp; omega) 14 0 0 0).1, bv_ok, (m_later A5.1.2.1.2.2.2.2.2.2.2.2.1 (by simp; omega) 3 0 0 0).1, bv_ok, bi_ok] at eM
  refine ⟨1, _, Or.inr rfl, eM, ?_⟩
  rw [nx1 A6.1.2.1]
  have G6 := G5.tr (A1.2.tr (A2.2.tr (A3.2.tr (A4.2.tr (A5.2.tr A6.2)))))
  rcases hR F (z0 :: R0) _ Z PL cl ml (p' + 1) v (c + 2) (m + 2) wh ((35, Ln, Int32.ofNat (p + 1), Int32.ofNat (k * 100 + nl)) :: W) _ _ f (1 :: s) l Ln (by omega) A6.1 hN ((hs.hd hfv).o.up (by omega) (by omega)) (by simp; omega) hE with hf | ⟨σ8, τ8, p8, c8, m8, wh8, F8, N8, r, i1, i2, i3, i4, i5, i6, i7, i8, i9⟩
  · exact Or.inl (flt_bv hf _)
  have hc8 := i4.2.2.2.2.1
  have hm8 := i4.2.2.2.2.2.1
  have c148 := i3.c14 hT5
  have hp8 := i3.2.2.1.1
  have Q1 := i3.pop
  have XC := Q1.1.C (by omega) hT5 20 3 0 0 Ln
  have ps8 := c_pass XC.1.1.1 hp8 XC.1.2.1.1 12 (by omega)
  have nw8 := m_needWord Q1.1.1.1 hp8 Q1.1.2.1.2.1 Q1.1.2.1.2.2.2.2.2.2.2.2.2 2 (by omega) 3 rfl
  have go8 : ∀ y τ2, (y = 0 ∨ y = 1) → lj_R lm_P 101 [.ref 0, .int Ln, .int (Int32.ofNat (p + 1)), .int (Int32.ofNat (k * 100 + nl))] (lj_put τ8 0 46 (Int32.ofNat W.length)) = some (.inl (some (.int y)), τ2) → mLoop τ8 = mNx y τ2 := fun y τ2 hy e => i3.go hy (by rw [rm_30, km_30_0, if_neg (by decide), if_neg (by decide), if_neg (by decide), if_neg (by decide), if_neg (by decide), if_neg (by decide), if_neg (by decide), if_neg (by decide), if_neg (by decide), if_neg (by decide), if_neg (by decide), if_neg (by decide), if_neg (by decide), if_neg (by decide), if_neg (by decide), if_neg (by decide), if_neg (by decide), if_neg (by decide), if_neg (by decide), if_neg (by decide), if_neg (by decide), rm_86, km_86_0, if_neg (by decide), if_neg (by decide), if_neg (by decide), if_neg (by decide), if_neg (by decide), if_neg (by decide), if_neg (by decide), if_neg (by decide), if_neg (by decide), if_neg (by decide), if_neg (by decide), if_neg (by decide), if_neg (by decide), if_neg (by decide), if_pos rfl, e, bi_ok, bi_ok, vpb y hy, vpb y hy])
  have eW : lj_R lm_P 101 [.ref 0, .int Ln, .int (Int32.ofNat (p + 1)), .int (Int32.ofNat (k * 100 + nl))] (lj_put τ8 0 46 (Int32.ofNat W.length)) = _ := rm_101 _ _ _ _
  rw [ci_M _ _ (show k ≤ 50 by omega) (show nl < 100 by omega), nw8] at eW
  rw [i1, bv_ok, c_put3 Q1.1.2.1.2.2.2.2.1 (by omega), bi_ok, i2]
  by_cases a12 : (Q p8).1 = 12
  rotate_left
  · rw [if_neg a12] at ps8
    rw [if_neg (show ¬ (Q p8).1 = 10 + 2 by omega), bi_ok, if_pos rfl] at eW
    rw [show lj_R lc_P 71 [.ref 6, .int 12] _ = _ from ps8, go8 0 _ (Or.inl rfl) eW, nx0]
    exact Or.inl (flt_bv (Q1.1.flt hT5 2 (Or.inl rfl) _) _)
  have hlt8 : p8 < T := i3.lt (by omega) (by omega)
  have B1 := Q1.1.stR hlt8
  have B2 := B1.1.C (by omega) hT5 20 3 0 0 Ln
  have B3 := B2.1.M (by omega) 17 0 0 Ln
  have B4 := B3.1.M (by omega) 18 3 0 0
  have B5 : PS b n T Q X F8 N8 (((nl + k, rv + k + 3), fl) :: FO0) Z PL cl ml (p8 + 1) v (c8 + 1) (m8 + 2) wh8 W _ _ := B4.1.rvd (by omega)
  rw [if_pos a12] at ps8
  rw [if_pos (show (Q p8).1 = 10 + 2 by omega), bi_ok, if_neg (by decide), m_emit B1.1.2.1.2.2.2.2.2.1 (by omega), bi_ok, m_emit B3.1.2.1.2.2.2.2.2.1 (by omega), bi_ok] at eW
  rw [show lj_R lc_P 71 [.ref 6, .int 12] _ = _ from ps8, bv_ok, ← cP_60]
  obtain ⟨z8, R8, rfl, f1, f2⟩ := hdN_X hN i4.2.1
  have hz8 : z8.2.1 = z0.2.1 := by
    have := i4.2.1
    exact this.2.1
  obtain ⟨τd, g1, g2, g3⟩ := fi_tail hT5 k0 hK (t := p + 1) (by omega) B5 f1 f2 hs hW (by omega) (by omega) hZ hfl r1 (by omega) r3 sl.2 Ln (Int32.ofNat (k * 100 + nl))
  rw [hz8] at g3
  rw [g1] at eW
  rw [go8 1 _ (Or.inr rfl) eW, g2]
  rcases g3 with hf | ⟨σ9, τ9, p9, c9, m9, wh9, F9, N9, nl9, j1, j2, j3, j4, j5, j6, j7, j8, j9⟩
  · exact Or.inl hf
  have GB := Q1.2.tr (B1.2.tr (B2.2.tr (B3.2.tr B4.2)))
  have G9 := (G6.tr i4).tr GB
  have w1 := j4.2.2.2.2.1
  have w2 := j4.2.2.2.2.2.1
  refine Or.inr ⟨σ9, τ9, p9, c9, m9, wh9, F9, N9, nl9, [], [], j1, j2, by rw [adB_nil]; exact j3, (G9.tr j4).gs hNe, (by omega), fun y hy => by simp at hy, (by omega), (by omega), (by omega), fun x hx => by simp at hx, fun q => absurd rfl q, fun σ2 τ2 L => ?_⟩
  have L0' := L.lt
  have L4 := j4.bk L0'
  have k4 := L4.gM (by omega)
  have L3 := B4.2.bk L4
  have k3 := L3.gM (by omega)
  have L2 := B3.2.bk L3
  have k2 := L2.gC (by omega)
  have La := Q1.2.bk (B1.2.bk (B2.2.bk L2))
  have Lb := A4.2.bk (A5.2.bk (A6.2.bk (i4.bk La)))
  have kb := Lb.gM (by omega)
  have Lc := A3.2.bk Lb
  have kc := Lc.gC (by omega)
  have Ld := P3.2.bk (q5.bk (P4'.2.bk (r7.bk (A1.2.bk (A2.2.bk Lc)))))
  have kd := Ld.gM (by omega)
  have ke := (P2.2.bk Ld).gC (by omega)
  refine seg0_in [(f, c + 1, m + 1, s, l, 50)] ⟨ke.1, kd.1, rfl⟩ (fun y hy => ?_)
  rw [List.mem_singleton.1 hy]
  refine seg_in [(f, c + 2, m + 2, 1 :: s, l, 50)] ⟨16, kc.1, kb.1, rfl⟩ (fun y hy => ?_)
  rw [List.mem_singleton.1 hy]
  refine (i9 σ2 τ2 La.1 (La.2.mo (by omega) (by omega) (by omega) (by omega))).tr (fun y hy => ?_)
  rw [hy]
  have hrw := i8.1
  refine seg_in [(f, c8 + 1, m8 + 2, 0 :: 0 :: 0 :: s, l, 50)] ⟨25, 3, r, s, (by omega), hrw, rfl, k2.1, k2.2.1, k2.2.2.1, k3.1, by show τ2.1 23 m8 = σ2.1 26 c8; rw [k3.2.2.2, k2.2.2.2.2], k4.1, k4.2.1, rfl⟩ (fun y hy => ?_)
  rw [List.mem_singleton.1 hy]
  exact (j9 σ2 τ2 ⟨L0'.1, L0'.2.mo (by omega) (by omega) (by omega) (by omega)⟩).tr (fun y hy => seg_ex (Or.inl hy))
