/-! statements: while -/
theorem cs_while {b : Nat → Int32} {n T : Nat} {Q : tkQ} {X : List Int32 → Prop} (hT5 : T ≤ 520) (k : Nat) (hV : CV b n T Q X k) (hD : CD b n T Q X k) {F : Nat} {N : List lT} {FO0 : List fT} {nl rv : Nat} {fl : List Nat} {Z : List zT} {PL : List qT} {cl ml : Nat} {p v c m wh : Nat} {W : List wT} {σ τ : lj_S} {f : Nat} {s l lB : List Nat} {D : Nat} (hTp : T - p < k + 1) (h : PS b n T Q X F N (((nl, rv), fl) :: FO0) Z PL cl ml p v c m wh W σ τ) (hN : hdN N f l) (hs : fls s fl) (hW : W.length + 25 ≤ 40 * v + 60) (hc : c + 40 ≤ 25 * p + 100) (hm : m + 40 ≤ 25 * p + 100) (hZ : Z.length + 1 ≤ v) (a30 : (Q p).1 = 30) :
    ∃ y τ', (y = 0 ∨ y = 1) ∧ lj_R lm_P 42 [.ref 0] τ = some (.inl (some (.int y)), τ') ∧ stR b n T Q X FO0 nl rv fl Z PL v W f s l lB D N F p c m σ τ (fun p' => p < p') 0 (lj_bi (lj_R lc_P 54 [.ref 5, .int 0, .int 0, .int 0] σ) (fun _ σ1 => lj_R lc_P 72 [.ref 6] σ1) lj_up) (mNx y τ') := by
  have hv20 := h.2.2.1.2.1
  have hfv := h.fv
  have hsB : sB s := hs.sb hfv hv20
  have hpT := h.2.2.1.1
  have hlt : p < T := h.lt (by omega) (by omega)
  have c14 := h.c14 hT5
  have h1 := h.2.1
  have hNe := hdN_ne hN
  have w4 := h.w4
  have P1 := h.C (by omega) hT5 0 0 0 0 0
  have P2 := P1.1.M (by omega) 0 0 0 0
  have P3 := P2.1.st hlt
  have P4 := P3.1.C (by omega) hT5 0 0 0 0 0
  have P5 := P4.1.M (by omega) 0 0 0 0
  have P6 := P5.1.la (by omega) (26, Int32.ofNat (m + 1), 0, 0)
  have P7 := P6.1.la (by simp; omega) (3, 0, 0, 0)
  have eM : lj_R lm_P 42 [.ref 0] τ = _ := m_st42 h hT5 (by omega)
  rw [a30] at eM
  unfold mSt at eM
  rw [if_neg (by decide), if_neg (by decide), if_neg (by decide), if_neg (by decide), if_neg (by decide), if_neg (by decide), if_neg (by decide), if_neg (by decide), if_neg (by decide), if_neg (by decide), if_neg (by decide), if_neg (by decide), if_neg (by decide), if_neg (by decide), if_neg (by decide), if_neg (by decide), if_neg (by decide), if_neg (by decide), if_pos (by decide), m_emit P3.1.2.1.2.2.2.2.2.1 (by omega), bi_ok, (m_later P5.1.2.1.2.2.2.2.2.2.2.2.1 (by omega) 26 (Int32.ofNat (m + 1)) 0 0).1, bv_ok, (m_later P6.1.2.1.2.2.2.2.2.2.2.2.1 (by simp; omega) 3 0 0 0).1, bv_ok] at eM
  refine ⟨1, _, Or.inr rfl, eM, ?_⟩
  have G7 := P1.2.tr (P2.2.tr (P3.2.tr (P4.2.tr (P5.2.tr (P6.2.tr P7.2)))))
  rw [nx1 P7.1.2.1, c_put3 h1.2.2.2.2.1 (by omega), bi_ok, rc_72, kc_72_0, c_step P1.1.1.1 hpT P1.1.2.1.1, bv_ok, c_put3 P3.1.2.1.2.2.2.2.1 (by omega), bi_ok]
  rcases hV F N (((nl, rv), fl) :: FO0) Z PL cl ml (p + 1) v (c + 2) (m + 2) wh ((26, Int32.ofNat (m + 1), 0, 0) :: W) _ _ f s l (by omega) P7.1 hN ((hs.hd hfv).up (by omega) (by omega)) (by simp; omega) with hf | ⟨σ3, τ3, p3, c3, m3, wh3, F3, N3, i1, i2, i3, i4, i5, i6, i7, i8⟩
  · exact Or.inl (flt_bv hf _)
  · have hc3 := i4.2.2.2.2.1
    have hm3 := i4.2.2.2.2.2.1
    have hp3 := i3.2.2.1.1
    have c143 := i3.c14 hT5
    obtain ⟨z3, R3, e3, ez1, ez2⟩ := hdN_X hN i4.2.1
    subst e3
    rw [i1, bv_ok, i2, c_put3 i3.2.1.2.2.2.2.1 (by omega), bi_ok]
    have A1 := i3.pop
    have A2 := A1.1.C (by omega) hT5 31 0 0 0 0
    have ps := c_pass A2.1.1.1 hp3 A2.1.2.1.1 12 (by omega)
    have nw := m_needWord A1.1.1.1 hp3 A1.1.2.1.2.1 A1.1.2.1.2.2.2.2.2.2.2.2.2 2 (by omega) 3 rfl
    have ge : ∀ y τ2, (y = 0 ∨ y = 1) → lj_R lm_P 92 [.ref 0, .int (Int32.ofNat (m + 1))] (lj_put τ3 0 46 (Int32.ofNat W.length)) = some (.inl (some (.int y)), τ2) → mLoop τ3 = mNx y τ2 := fun y τ2 hy e => i3.go hy (by rw [rm_30, km_30_0, if_neg (by decide), if_neg (by decide), if_neg (by decide), if_neg (by decide), if_neg (by decide), if_neg (by decide), if_neg (by decide), if_neg (by decide), if_neg (by decide), if_neg (by decide), if_neg (by decide), if_neg (by decide), if_neg (by decide), if_neg (by decide), if_neg (by decide), if_neg (by decide), if_neg (by decide), if_neg (by decide), if_neg (by decide), if_neg (by decide), if_neg (by decide), rm_86, km_86_0, if_neg (by decide), if_neg (by decide), if_neg (by decide), if_neg (by decide), if_neg (by decide), if_pos rfl, e, bi_ok, bi_ok, vpb y hy, vpb y hy])
    have eW : lj_R lm_P 92 [.ref 0, .int (Int32.ofNat (m + 1))] (lj_put τ3 0 46 (Int32.ofNat W.length)) = _ := rm_92 _ _
    rw [km_92_0, nw] at eW
    by_cases a12 : (Q p3).1 = 12
    · have hlt3 : p3 < T := i3.lt (by omega) (by omega)
      rw [if_pos a12] at ps
      rw [if_pos (show (Q p3).1 = 10 + 2 by omega), bi_ok, if_neg (by decide)] at eW
      rw [show lj_R lc_P 71 [.ref 6, .int 12] _ = _ from ps, bv_ok]
      have A3 := A2.1.st hlt3
      obtain ⟨σ4, τ4, b1, b2, b3, b4, b5, b6⟩ := cm_enter A3.1 hZ
      rw [b1, bv_ok]
      have A5 := b3.M (by omega) 22 (-1) 0 0
      have lpx := b3.2.2.2.1
      have l2 : τ4.1 0 56 = Int32.ofNat (Z.length + 1) := lpx.2.1
      have l3 := lpx.2.2.1
      simp only [List.length_cons] at l3
      have y33 : τ4.1 33 Z.length = -1 := lpx.2.2.2.2.2.2.2.2.1.1.2.2.2.2
      have g5 := mP_get τ4 m3 22 (-1) 0 0
      have A6 := A5.1.chn hT5 (by rw [g5.2.1, mP_o _ _ _ _ _ _ _ _ (by omega) (by omega), y33]) (by have := b3.2.2.2.2.2; omega)
      have hNR6 := A6.1.1.2.2.1
      have hF6 := A6.1.1.2.2.2.1
      have hz51 : z3.1 < 51 := hNR6.1.1.1
      have hzF := A6.1.1.2.2.2.2.1 z3 (List.mem_cons_self)
      obtain ⟨sl1, sl2, sl3, sl4⟩ := A6.1.1.2.2.2.2.2.1.1.2.2.2.2.2.2
      have sl2 : nl ≤ 50 := sl2
      have sl4 : ∀ y ∈ z3.2.1.map (·.2.2), y < nl := sl4
      have h14 : (lj_put (mP τ4 m3 22 (-1) 0 0) 33 Z.length (Int32.ofNat m3)).1 14 z3.1 = Int32.ofNat nl := by rw [← (hF6.2.2.2 z3.1 hzF).1]; exact sl1
      have h50 := hNR6.2.2.2.2.2.2.2.2.1
      have A7 := A6.1.la (by omega) (27, Int32.ofNat (m + 1), Int32.ofNat nl, 0)
      have A8 := A7.1.la (by simp; omega) (2, Int32.ofNat (z3.2.1.length + baseN R3), 0, 0)
      have A9 := A8.1.la (by simp; omega) (0, 0, 0, 0)
      have hwl := h.w4
      rw [b2, bv_ok, m_emit b3.2.1.2.2.2.2.2.1 (by omega), bi_ok, l2, lz_pred', if_pos (ofN_in (by omega) (by omega)), lz_onat (by omega), m_prt hNR6, bi_ok, if_pos (ofN_in hz51 (by omega)), lz_onat (by omega), h14, (m_later A6.1.2.1.2.2.2.2.2.2.2.2.1 (by omega) 27 (Int32.ofNat (m + 1)) (Int32.ofNat nl) 0).1, bv_ok, rm_43, km_43_0, mW_o _ _ _ 0 50 (by omega) (by omega), h50, show baseN (z3 :: R3) = z3.2.1.length + baseN R3 from rfl, (m_later A7.1.2.1.2.2.2.2.2.2.2.2.1 (by simp; omega) 2 (Int32.ofNat (z3.2.1.length + baseN R3)) 0 0).1, bv_ok, (m_later A8.1.2.1.2.2.2.2.2.2.2.2.1 (by simp; omega) 0 0 0 0).1, bv_ok, bv_ok] at eW
      rw [ge 1 _ (Or.inr rfl) eW, nx1 A9.1.2.1]
      have G9 := A1.2.tr (A2.2.tr (A3.2.tr (b4.tr (A5.2.tr (A6.2.tr (A7.2.tr (A8.2.tr A9.2)))))))
      have hwl2 : W.length < 3000 := by have := h.2.2.1.2.1; omega
      rcases hD F3 z3 R3 FO0 nl rv fl _ PL cl (m3 + 1) (p3 + 1) v (c3 + 1) (m3 + 1) wh3 ((27, Int32.ofNat (m + 1), Int32.ofNat nl, 0) :: W) _ _ f s l l nl (by omega) A9.1 ez1 ez2 hs (by simp; omega) (by omega) (by omega) (bW_while (by omega) (by omega) _ _) (by
        intro x Y ex
        obtain ⟨rfl, rfl⟩ := List.cons.inj ex
        refine ⟨by simp [ez1], fun _ => ⟨by rw [← ez2]; simp, ⟨[], rfl, fun y hy => by simp at hy⟩, (Nat.le_refl _)⟩⟩) with hf | ⟨σ5, τ5, p5, c5, m5, wh5, F5, N5, nl5, nb, j1, j2, j3, j4, j5, j6, j7, j8, j9, j10, j11⟩
      · exact Or.inl (flt_bv hf _)
      · have hc5 := j4.2.2.2.2.1
        have hm5 := j4.2.2.2.2.2.1
        have hp5 := j3.2.2.1.1
        have hpp5 := j4.2.2.2.1
        have c145 := j3.c14 hT5
        rw [j1, bv_ok, j2, c_put3 j3.2.1.2.2.2.2.1 (by omega), bi_ok]
        have B1 := j3.pop
        have B2 := B1.1.C (by omega) hT5 30 (Int32.ofNat (c + 1)) 0 0 0
        have B3 := B2.1.M (by omega) 21 (Int32.ofNat (m + 1)) 0 0
        have zf := (G9.tr j4).2.2.2.2.2.2
        -- the act that goes out, when laid and later
        have g31 : ∀ k, 22 ≤ k → k ≤ 26 → (cP σ5 c5 30 (Int32.ofNat (c + 1)) 0 0 0).1 k c3 = (cP σ3 c3 31 0 0 0 0).1 k c3 := fun k q1 q2 => by
          rw [cP_o _ _ _ _ _ _ _ _ _ (by omega) (by omega), j4.2.2.2.2.2.2.1 k c3 (by omega) (by omega) (by omega) (by omega), (A3.2.tr (b4.tr (A5.2.tr (A6.2.tr (A7.2.tr (A8.2.tr A9.2)))))).2.2.2.2.2.2.1 k c3 (by omega) (by omega) (by omega) (by omega)]
        have gc3 := cP_get σ3 c3 31 0 0 0 0
        have ld := c_land (j := c3) B2.1.2.1.2.2.2.2.1 (by omega) (by rw [g31 22 (by omega) (by omega), gc3.1]; decide) (by rw [g31 22 (by omega) (by omega), gc3.1]; decide)
        rw [ld, bv_ok]
        have B4 := B3.1.p23 c3 23 (Or.inl rfl) (Int32.ofNat (c5 + 1))
        have hnb5 : ∀ j ∈ (nb.map (·.1) ++ ([] : List Nat)), j < c5 ∧ c3 + 1 ≤ j ∧ σ5.1 22 j = 30 := fun j hj => by
          rw [List.append_nil] at hj
          obtain ⟨x, hx, rfl⟩ := List.mem_map.1 hj
          have := j9 x hx
          exact ⟨(by omega), (by omega), this.2.2.2.2.1⟩
        have hZlt := h.2.2.2.1.2.2.2.2.2.2.2.2.2.2
        have hml := h.2.2.2.2.2
        obtain ⟨σ6, τ6, d1, d2, d3, d4, d5, d6, d7, d8, d9, d10⟩ := cm_leave (x := (z3.1, R3.length, z3.2.1.length, nb.map (·.1) ++ [], nb.map (·.2) ++ [m3])) (Y := Z) B4.1 hT5 (by omega) (fun j hj => by have := hnb5 j hj; rw [lj_put_1, if_neg (by omega), cP_o _ _ _ _ _ _ _ _ _ (by omega) (by omega)]; exact this.2.2) (fun y hy j hj hj2 => by
          have q1 := (hZlt y hy).2 j hj
          rcases List.mem_append.1 hj2 with w | w
          · obtain ⟨x, hx, rfl⟩ := List.mem_map.1 w
            have := j9 x hx
            omega
          · rw [List.mem_singleton] at w
            omega) nl
        rw [d1, bv_ok]
        have ps5 := c_pass d3.1.1 hp5 d3.2.1.1 15 (by omega)
        have nw5 := m_needWord B1.1.1.1 hp5 B1.1.2.1.2.1 B1.1.2.1.2.2.2.2.2.2.2.2.2 5 (by omega) 6 rfl
        have ge5 : ∀ y τ2, (y = 0 ∨ y = 1) → lj_R lm_P 93 [.ref 0, .int (Int32.ofNat (m + 1)), .int (Int32.ofNat nl)] (lj_put τ5 0 46 (Int32.ofNat W.length)) = some (.inl (some (.int y)), τ2) → mLoop τ5 = mNx y τ2 := fun y τ2 hy e => j3.go hy (by rw [rm_30, km_30_0, if_neg (by decide), if_neg (by decide), if_neg (by decide), if_neg (by decide), if_neg (by decide), if_neg (by decide), if_neg (by decide), if_neg (by decide), if_neg (by decide), if_neg (by decide), if_neg (by decide), if_neg (by decide), if_neg (by decide), if_neg (by decide), if_neg (by decide), if_neg (by decide), if_neg (by decide), if_neg (by decide), if_neg (by decide), if_neg (by decide), if_neg (by decide), rm_86, km_86_0, if_neg (by decide), if_neg (by decide), if_neg (by decide), if_neg (by decide), if_neg (by decide), if_neg (by decide), if_pos rfl, e, bi_ok, bi_ok, vpb y hy, vpb y hy])
        have eE : lj_R lm_P 93 [.ref 0, .int (Int32.ofNat (m + 1)), .int (Int32.ofNat nl)] (lj_put τ5 0 46 (Int32.ofNat W.length)) = _ := rm_93 _ _ _
        rw [km_93_0, nw5] at eE
        by_cases a15 : (Q p5).1 = 15
        · have hlt5 : p5 < T := j3.lt (by omega) (by omega)
          have B7 := d3.st hlt5
          rw [if_pos a15] at ps5
          rw [if_pos (show (Q p5).1 = 10 + 5 by omega), bi_ok, if_neg (by decide), m_emit (by rw [lj_put_1, if_neg (by omega)]; exact B1.1.2.1.2.2.2.2.2.1) (by omega), bi_ok, mP_25, mR94_25 B4.1 hT5 d2, bv_ok] at eE
          rw [show lj_R lc_P 71 [.ref 6, .int 15] σ6 = _ from ps5, bv_ok, ge5 1 _ (Or.inr rfl) eE, nx1 B7.1.2.1]
          -- states between
          generalize hσb : lj_put (cP σ5 c5 30 (Int32.ofNat (c + 1)) 0 0 0) 23 c3 (Int32.ofNat (c5 + 1)) = σb at *
          generalize hτb : mP (lj_put τ5 0 46 (Int32.ofNat W.length)) m5 21 (Int32.ofNat (m + 1)) 0 0 = τb at *
          have G5b := B1.2.tr (B2.2.tr B3.2)
          have Gall := G7.tr (i4.tr (G9.tr (j4.tr G5b)))
          have z56 : ∀ a0 d0, a0 ≤ c3 → d0 ≤ m3 → fz 0 a0 0 d0 (cP σ5 c5 30 (Int32.ofNat (c + 1)) 0 0 0) τb σ6 τ6 := fun a0 d0 q1 q2 => (B4.2.2.mo (by omega) (by omega) (by omega) (by omega)).tr ⟨fun k j w1 w2 _ w4 => d6 k j w1 w2 (fun w => by have := hnb5 j w.2; omega), fun k j w1 w2 _ w4 => d8 k j w1 w2 (by omega) (fun w => by
            rcases List.mem_append.1 w.2 with u | u
            · obtain ⟨x, hx, rfl⟩ := List.mem_map.1 u
              have := j9 x hx
              omega
            · rw [List.mem_singleton] at u
              omega)⟩
          have tx56 : TX N5 (cP σ5 c5 30 (Int32.ofNat (c + 1)) 0 0 0) τb σ6 τ6 := B4.2.1.tr d4 (fun _ _ q => q)
          have Gfin : GR N N5 F F5 p (p5 + 1) c (c5 + 1) m (m5 + 2) σ τ _ _ := ⟨(Gall.1.tr tx56 (fun q _ hq => by rw [lvX_q Gall.2.1]; exact hq)).tr B7.2.1 (fun q _ hq => by rw [lvX_q Gall.2.1]; exact hq), Gall.2.1, Gall.2.2.1, (by omega), (by omega), (by omega), (Gall.2.2.2.2.2.2.tr (z56 c m (by omega) (by omega))).tr (B7.2.2.2.2.2.2.2.mo (by omega) (by omega) (by omega) (by omega))⟩
          refine Or.inr ⟨_, _, p5 + 1, c5 + 1, m5 + 2, wh5, F5, N5, nl5, [], [], rfl, rfl, by rw [adB_nil]; exact B7.1.top, Gfin.gs hNe, (by omega), fun y hy => by simp at hy, (by omega), (by omega), (by omega), fun y hy => by simp at hy, fun q => absurd rfl q, fun σ2 τ2 L => ?_⟩
          have L6 := B7.2.bk L.lt
          have SC := L6.2.1
          have SM := L6.2.2
          have gb := cP_get σ5 c5 30 (Int32.ofNat (c + 1)) 0 0 0
          have gm := mP_get (lj_put τ5 0 46 (Int32.ofNat W.length)) m5 21 (Int32.ofNat (m + 1)) 0 0
          rw [hτb] at gm
          have nc3 : ∀ j, j = c5 ∨ j ≤ c3 → ¬ (j ∈ nb.map (·.1) ++ ([] : List Nat)) := fun j hj w => by have := hnb5 j w; omega
          have hσb' : ∀ k j, ¬ (k = 23 ∧ j = c3) → σb.1 k j = (cP σ5 c5 30 (Int32.ofNat (c + 1)) 0 0 0).1 k j := fun k j q => by rw [← hσb, lj_put_1, if_neg q]
          have hσb3 : σb.1 23 c3 = Int32.ofNat (c5 + 1) := by rw [← hσb, lj_put_1, if_pos ⟨rfl, rfl⟩]
          -- the condition
          have L3 := (LT_of (G9.tr (j4.tr G5b)) tx56 (z56 c3 m3 (by omega) (by omega)) L6 (by omega) (by omega) (by omega) (by omega)).mo (a' := c + 2) (c' := c3) (d' := m + 2) (m' := m3) (by omega) (by omega) (by omega) (by omega)
          have L0 := LT_of (i4.tr (G9.tr (j4.tr G5b))) tx56 (z56 (c + 2) (m + 2) (by omega) (by omega)) L6 (by omega) (by omega) (by omega) (by omega)
          have L5 := P6.2.bk (P7.2.bk L0)
          have L4 := P5.2.bk L5
          have L2 := P3.2.bk (P4.2.bk L4)
          have L1 := P2.2.bk L2
          have k1 := L1.gC (by omega)
          have k2 := L2.gM (by omega)
          have k4 := L4.gC (by omega)
          have k5 := L5.gM (by omega)
          -- the body
          have Lb : LB N5 nb (c3 + 1) c5 (m3 + 1) m5 σ5 τ5 σ2 τ2 := by
            refine ⟨(G5b.1.tr tx56 (fun _ _ q => q)).tr L6.1 (fun _ _ q => q), fun k j w1 w2 w3 w4 w5 => ?_, fun k j w1 w2 w3 w4 w5 => ?_⟩
            · rw [SC k j w1 w2 (by omega) (by omega), d6 k j w1 w2 (fun w => by
                rw [List.append_nil] at w
                obtain ⟨x, hx, e⟩ := List.mem_map.1 w.2
                exact w5 w.1 x hx e), hσb' k j (by omega), cP_o _ _ _ _ _ _ _ _ _ (by omega) (by omega)]
            · rw [SM k j w1 w2 (by omega) (by omega), d8 k j w1 w2 (by omega) (fun w => by
                rcases List.mem_append.1 w.2 with u | u
                · obtain ⟨x, hx, e⟩ := List.mem_map.1 u
                  exact w5 w.1 x hx e
                · rw [List.mem_singleton] at u
                  omega), ← hτb, mP_o _ _ _ _ _ _ _ _ (by omega) (by omega), lj_put_1, if_neg (by omega)]
          -- the way out
          have ex : ∀ d, nl ≤ d → d ≤ 50 → seg σ2 τ2 (f, c5 + 1, m5 + 1, s, l, d) (fun y => (y = (f, c5 + 1, m5 + 2, s, ([] : List kT).map (·.2.2) ++ l, 50) ∨ bkE [] f s lB D y) ∨ y = (f, c + 1, m + 1, s, l, 50)) := fun d q1 q2 =>
            seg_in [(f, c5 + 1, m5 + 2, s, l, 50)] ⟨45, nl, sl2, by show τ2.1 20 (m5 + 1) = 20; rw [SM 20 _ (by omega) (by omega) (by omega) (by omega)]; exact d9, by show τ2.1 21 (m5 + 1) = _; rw [SM 21 _ (by omega) (by omega) (by omega) (by omega)]; exact d10, q1, fun y hy => sl4 y (by rw [ez2]; exact hy), rfl⟩ (fun y hy => by rw [List.mem_singleton.1 hy]; exact seg_ex (Or.inl (Or.inl rfl)))
          refine seg0_in [(f, c + 1, m + 1, s, l, 50)] ⟨k1.1, k2.1, rfl⟩ (fun y hy => ?_)
          rw [List.mem_singleton.1 hy]
          refine seg_loop [(f, c + 2, m + 2, s, l, 50)] ⟨k4.1, k5.1, rfl⟩ (fun y hy => ?_)
          rw [List.mem_singleton.1 hy]
          rcases i8 with ⟨_, hE⟩ | ⟨q, _⟩ | ⟨q, _⟩
          · refine (hE σ2 τ2 L3.1 L3.2).tr (fun y hy => ?_)
            rw [hy]
            have t1 : σ2.1 22 c3 = 31 := by rw [SC 22 c3 (by omega) (by omega) (by omega) (by omega), d6 22 c3 (by omega) (by omega) (by omega), hσb' 22 c3 (by omega), g31 22 (by omega) (by omega)]; exact gc3.1
            have t2 : σ2.1 23 c3 = Int32.ofNat (c5 + 1) := by rw [SC 23 c3 (by omega) (by omega) (by omega) (by omega), d6 23 c3 (by omega) (by omega) (fun w => nc3 c3 (by omega) w.2)]; exact hσb3
            have t3 : τ2.1 20 m3 = 22 := by
              rw [SM 20 m3 (by omega) (by omega) (by omega) (by omega), d8 20 m3 (by omega) (by omega) (by omega) (by omega), ← hτb, mP_o _ _ _ _ _ _ _ _ (by omega) (by omega), lj_put_1, if_neg (by omega), j4.2.2.2.2.2.2.2 20 m3 (by omega) (by omega) (by omega) (by omega), (A6.2.tr (A7.2.tr (A8.2.tr A9.2))).2.2.2.2.2.2.2 20 m3 (by omega) (by omega) (by omega) (by omega)]
              exact g5.1
            have t4 : τ2.1 21 m3 = Int32.ofNat (m5 + 1) := by rw [SM 21 m3 (by omega) (by omega) (by omega) (by omega)]; exact d7 m3 (List.mem_append_right _ (List.mem_singleton.2 rfl))
            refine seg_in [(f, c3 + 1, m3 + 1, s, l, 50), (f, c5 + 1, m5 + 1, s, l, 50)] ⟨39, c5 + 1, m5 + 1, s, (by omega), ⟨by omega, by first | omega | (dsimp only; omega), by first | omega | (dsimp only; omega)⟩, rfl, t1, t2, t3, t4, rfl⟩ (fun y hy => ?_)
            rcases List.mem_cons.1 hy with hy | hy
            · rw [hy]
              refine (j11 σ2 τ2 Lb).tr (fun y hy => ?_)
              rcases hy with hy | ⟨x, hx, d, x1, x2, x3⟩
              · rw [hy]
                have t5 : σ2.1 22 c5 = 30 := by rw [SC 22 c5 (by omega) (by omega) (by omega) (by omega), d6 22 c5 (by omega) (by omega) (by omega), hσb' 22 c5 (by omega)]; exact gb.1
                have t6 : σ2.1 23 c5 = Int32.ofNat (c + 1) := by rw [SC 23 c5 (by omega) (by omega) (by omega) (by omega), d6 23 c5 (by omega) (by omega) (fun w => nc3 c5 (by omega) w.2), hσb' 23 c5 (by omega)]; exact gb.2.1
                have nm5 : m5 ∉ nb.map (·.2) ++ [m3] := fun w => by
                  rcases List.mem_append.1 w with u | u
                  · obtain ⟨x, hx, e⟩ := List.mem_map.1 u
                    have := j9 x hx
                    omega
                  · rw [List.mem_singleton] at u
                    omega
                have t7 : τ2.1 20 m5 = 21 := by rw [SM 20 m5 (by omega) (by omega) (by omega) (by omega), d8 20 m5 (by omega) (by omega) (by omega) (by omega)]; exact gm.1
                have t8 : τ2.1 21 m5 = Int32.ofNat (m + 1) := by rw [SM 21 m5 (by omega) (by omega) (by omega) (by omega), d8 21 m5 (by omega) (by omega) (by omega) (fun w => nm5 w.2)]; exact gm.2.1
                exact seg_in [(f, c + 1, m + 1, s, l, 50)] ⟨37, c + 1, m + 1, (by omega), ⟨(by omega), Or.inr ⟨k4.1, k5.1⟩⟩, t5, t6, t7, t8, rfl⟩ (fun y hy => by rw [List.mem_singleton.1 hy]; exact seg_ex (Or.inr rfl))
              · rw [x3]
                obtain ⟨y1, y2, y3, y4, y5, y6⟩ := j9 x hx
                have t5 : σ2.1 22 x.1 = 30 := by rw [SC 22 x.1 (by omega) (by omega) (by omega) (by omega), d6 22 x.1 (by omega) (by omega) (by omega), hσb' 22 x.1 (by omega), cP_o _ _ _ _ _ _ _ _ _ (by omega) (by omega)]; exact y5
                have t6 : σ2.1 23 x.1 = Int32.ofNat (c5 + 1) := by rw [SC 23 x.1 (by omega) (by omega) (by omega) (by omega)]; exact d5 x.1 (List.mem_append_left _ (List.mem_map.2 ⟨x, hx, rfl⟩))
                have t7 : τ2.1 20 x.2 = 21 := by rw [SM 20 x.2 (by omega) (by omega) (by omega) (by omega), d8 20 x.2 (by omega) (by omega) (by omega) (by omega), ← hτb, mP_o _ _ _ _ _ _ _ _ (by omega) (by omega), lj_put_1, if_neg (by omega)]; exact y6
                have t8 : τ2.1 21 x.2 = Int32.ofNat (m5 + 1) := by rw [SM 21 x.2 (by omega) (by omega) (by omega) (by omega)]; exact d7 x.2 (List.mem_append_left _ (List.mem_map.2 ⟨x, hx, rfl⟩))
                exact seg_in [(f, c5 + 1, m5 + 1, s, l, d)] ⟨37, c5 + 1, m5 + 1, (by omega), ⟨by omega, Or.inl ⟨by first | omega | (dsimp only; omega), by first | omega | (dsimp only; omega)⟩⟩, t5, t6, t7, t8, rfl⟩ (fun y hy => by rw [List.mem_singleton.1 hy]; exact ex d x1 x2)
            · rw [List.mem_singleton.1 hy]
              exact ex 50 sl2 (Nat.le_refl _)
          · exact absurd q (by decide)
          · exact absurd q (by decide)
        · rw [if_neg a15] at ps5
          rw [if_neg (show ¬ (Q p5).1 = 10 + 5 by omega), bi_ok, if_pos rfl] at eE
          rw [show lj_R lc_P 71 [.ref 6, .int 15] σ6 = _ from ps5, ge5 0 _ (Or.inl rfl) eE, nx0]
          exact Or.inl (flt_bv (B1.1.flt hT5 2 (Or.inl rfl) _) _)
    · rw [if_neg a12] at ps
      rw [if_neg (show ¬ (Q p3).1 = 10 + 2 by omega), bi_ok, if_pos rfl] at eW
      rw [show lj_R lc_P 71 [.ref 6, .int 12] _ = _ from ps, ge 0 _ (Or.inl rfl) eW, nx0]
      exact Or.inl (flt_bv (A1.1.flt hT5 2 (Or.inl rfl) _) _)
