/-! a counted for, behind its values -/
theorem flo_3 (s : List Nat) : flo (3 :: s) = flo s ++ [3] := by
  unfold flo
  rw [List.filter_cons_of_pos (by decide), List.reverse_cons]
noncomputable def cfM (x1 x2 x3 : Int32) (σ1 : lj_S) : Option lj_O := lj_bi (lj_R lm_P 28 [.ref 0, .int 39, .int 0, .int 0, .int x1] σ1) (fun y4 σ3 => lj_bi (lj_R lm_P 28 [.ref 0, .int 0, .int 0, .int 0, .int 0] σ3) (fun y6 σ5 => lj_bv (lj_R lm_P 44 [.ref 0] σ5) (fun σ7 => lj_bi (lj_R lm_P 28 [.ref 0, .int 40, .int (-1), .int x3, .int 0] σ7) (fun y9 σ8 => (if lj_in ((σ7.1 0 56) - 1) 64 then lj_bv (lj_R lm_P 29 [.ref 0, .int 34, .int y6, .int x3, .int (σ8.1 0 50)] (lj_put σ8 33 (((σ7.1 0 56) - 1).toNatClampNeg) y9)) (fun σ10 => (if lj_in x2 1502 then lj_bv (lj_R lm_P 55 [.ref 0, .int (((σ10.2 11 x2.toNatClampNeg) : Int64).toInt32), .int x3] σ10) (fun σ11 => lj_bv (lj_R lm_P 29 [.ref 0, .int 0, .int 0, .int 0, .int 0] σ11) (fun σ12 => some (.inl (some (.int 1)), σ12)) lj_up) lj_up else none)) lj_up else none)) lj_up) lj_up) lj_up) lj_up
theorem cf_M (x1 x2 x3 : Int32) (σ : lj_S) : lj_D lm_P lm_M99 0 [.ref 0, .int x1, .int x2, .int x3, .retAddr 0, .retAddr 0] [] σ = lj_bi (lj_R lm_P 49 [.ref 0, .int 3] σ) (fun y2 σ1 => (if y2 = 0 then some (.inl (some (.int 0)), σ1) else cfM x1 x2 x3 σ1)) lj_up := by
  rw [km_99_0]; rfl
noncomputable def cfC (x1 x2 x3 : Int32) (σ1 : lj_S) : Option lj_O := lj_bi (lj_R lc_P 104 [.ref 6] σ1) (fun y3 σ2 => (if lj_in (σ2.1 6 2) 51 then lj_bi (lj_R lc_P 54 [.ref 5, .int 35, .int y3, .int x3] σ2) (fun y5 σ4 => lj_bi (lj_R lc_P 54 [.ref 5, .int 0, .int 0, .int 0] σ4) (fun y7 σ6 => lj_bi (lj_R lc_P 55 [.ref 5, .int 36, .int y3, .int x2, .int 0, .int 0] σ6) (fun y9 σ8 => lj_bv (lj_R lc_P 98 [.ref 6] σ8) (fun σ10 => (if lj_in x1 1502 then lj_bv (lj_R lc_P 83 [.ref 6, .int (((σ10.2 21 x1.toNatClampNeg) : Int64).toInt32), .int x2] σ10) (fun σ11 => lj_bv (lj_R lc_P 61 [.ref 6] σ11) (fun σ12 => lj_bv (lj_R lc_P 69 [.ref 6, .int ((σ2.1 44 ((σ2.1 6 2).toNatClampNeg)))] σ12) (fun σ13 => lj_bi (lj_R lc_P 55 [.ref 5, .int 37, .int y3, .int y7, .int 0, .int 0] σ13) (fun y15 σ14 => lj_bv (lj_R lc_P 57 [.ref 5, .int y9] σ14) (fun σ16 => lj_bv (lj_R lc_P 99 [.ref 6] σ16) (fun σ17 => (if lj_in (σ17.1 6 2) 51 then (if lj_in (σ17.1 6 2) 51 then lj_bv (lj_R lc_P 71 [.ref 6, .int 15] (lj_put σ17 49 ((σ17.1 6 2).toNatClampNeg) (((σ17.1 49 ((σ17.1 6 2).toNatClampNeg))) - 1))) (fun σ18 => some (.inl none, σ18)) lj_up else none) else none)) lj_up) lj_up) lj_up) lj_up) lj_up) lj_up else none)) lj_up) lj_up) lj_up) lj_up else none)) lj_up
theorem cf_C (x1 x2 x3 : Int32) (σ : lj_S) : lj_D lc_P lc_M103 86 [.ref 6, .int x1, .int x2, .int x3, .retAddr 0, .retAddr 0, .retAddr 0, .retAddr 0, .retAddr 0] [] σ = lj_bv (lj_R lc_P 71 [.ref 6, .int 12] σ) (fun σ1 => cfC x1 x2 x3 σ1) lj_up := by
  rw [kc_103_86]; rfl
def frR (b : Nat → Int32) (n T : Nat) (Q : tkQ) (X : List Int32 → Prop) (FO0 : List fT) (nl rv : Nat) (fl : List Nat) (Z : List zT) (PL : List qT) (v : Nat) (W : List wT) (f : Nat) (s l : List Nat) (N : List lT) (F p c m : Nat) (σ τ : lj_S) (oC oM : Option lj_O) : Prop :=
  fltR n oC oM ∨ ∃ σ' τ' p' c' m' wh' F' N' nl', oC = some (.inl none, σ') ∧ oM = mLoop τ' ∧ PS b n T Q X F' N' (((nl', rv), fl) :: FO0) Z PL c' m' p' v c' m' wh' W σ' τ' ∧ GR N N' F F' p p' c c' m m' σ τ σ' τ' ∧ nl ≤ nl' ∧ p < p' ∧ c' ≤ c + 25 * (p' - p) ∧ m' ≤ m + 25 * (p' - p) ∧ ∀ σ2 τ2, LT N' c c' m m' σ' τ' σ2 τ2 → seg σ2 τ2 (f, c, m, 0 :: 0 :: 0 :: s, l, 50) (fun y => y = (f, c', m', s, l, 50))
theorem fr_tail {b : Nat → Int32} {n T : Nat} {Q : tkQ} {X : List Int32 → Prop} (hT5 : T ≤ 520) (k0 : Nat) (hK : CK b n T Q X k0) {F : Nat} {z0 : lT} {R0 : List lT} {FO0 : List fT} {nl rv : Nat} {fl : List Nat} {Z : List zT} {PL : List qT} {cl ml : Nat} {p v c m wh : Nat} {W : List wT} {σ τ : lj_S} {f : Nat} {s l : List Nat} (hTp : T - p < k0) (h : PS b n T Q X F (z0 :: R0) (((nl + 1, rv + 1), fl) :: FO0) Z PL cl ml p v c m wh W σ τ) (hf0 : z0.1 = f) (hl0 : z0.2.1.map (·.2.2) = l) (hs : fls s fl) (hW : W.length + 25 ≤ 40 * v + 60) (hc : c + 50 ≤ 25 * p + 100) (hm : m + 50 ≤ 25 * p + 100) (hZ : Z.length + 1 ≤ v) (hfl : fl.length + 1 ≤ v) {t : Nat} (ht : t ≤ T) (at1 : (Q t).1 = 1) (hl : ∀ y ∈ l, y < nl) (Ln : Int32) :
    ∃ τd, cfM Ln (Int32.ofNat t) (Int32.ofNat nl) τ = some (.inl (some (.int 1)), τd) ∧ mNx 1 τd = mLoop τd ∧ frR b n T Q X FO0 (nl + 1) rv fl Z PL v W f s l (z0 :: R0) F p c m σ τ (cfC (Int32.ofNat t) (Int32.ofNat nl) Ln σ) (mLoop τd) := by
  have hv20 := h.2.2.1.2.1
  have hfv := h.fv
  have hsB : sB s := hs.sb hfv hv20
  have hpT := h.2.2.1.1
  have hv20 := h.2.2.1.2.1
  have c14 := h.c14 hT5
  have hn520 := h.1.1.2.1
  have hTn := h.1.1.2.2.1
  have sl2 : nl + 1 ≤ 50 := h.1.2.2.2.2.2.1.1.2.2.2.2.2.2.2.1
  obtain ⟨σ1, q1, P1, G1, hd32⟩ := cm_hide h hfl
  have P2 := P1.C (by omega) hT5 35 (Int32.ofNat fl.length) 0 0 Ln
  have P3 := P2.1.M (by omega) 39 0 0 Ln
  have P4 := P3.1.C (by omega) hT5 0 0 0 0 0
  have P5 := P4.1.M (by omega) 0 0 0 0
  have P6 := P5.1.C (by omega) hT5 36 (Int32.ofNat fl.length) (Int32.ofNat nl) 0 0
  obtain ⟨σ7, τ7, b1, b2, b3, b4, b5, b6⟩ := cm_enter P6.1 hZ
  have P8 := b3.M (by omega) 40 (-1) (Int32.ofNat nl) 0
  have lpx := b3.2.2.2.1
  have l2 : τ7.1 0 56 = Int32.ofNat (Z.length + 1) := lpx.2.1
  have y33 : τ7.1 33 Z.length = -1 := lpx.2.2.2.2.2.2.2.2.1.1.2.2.2.2
  have g8 := mP_get τ7 (m + 1 + 1) 40 (-1) (Int32.ofNat nl) 0
  have o8 := mP_o τ7 (m + 1 + 1) 40 (-1) (Int32.ofNat nl) 0
  have P9 := P8.1.chn hT5 (by rw [g8.2.1, o8 33 _ (by omega) (by omega), y33]) (by have := b3.2.2.2.2.2; omega)
  have hNR9 := P9.1.1.2.2.1
  have h50 := hNR9.2.2.2.2.2.2.2.2.1
  have hz51 : z0.1 < 51 := hNR9.1.1.1
  have P10 := P9.1.la (by omega) (34, Int32.ofNat (m + 1), Int32.ofNat nl, Int32.ofNat (z0.2.1.length + baseN R0))
  obtain ⟨t1, t2, t3, t4, t5⟩ := (P10.1.1.1.2.2.2.2.1 t ht).2.2.2.2.2.2.2.2.1 (Or.inl at1)
  obtain ⟨σ11, τ11, N11, w1, w2, w3, w4, w5, w6, w7⟩ := cm_know (nl := nl + 1) (rv := rv) P10.1 ⟨z0, R0, rfl, hf0, hl0⟩ (x := nl) (by omega) hl (Or.inl ⟨t1, t5⟩) (Or.inl t1) t2 hT5
  have P12 := w3.la (by simp; omega) (0, 0, 0, 0)
  have it : lj_in (Int32.ofNat t) 1502 := ofN_in (by omega) (by omega)
  have h62 : σ1.1 6 2 = Int32.ofNat z0.1 := P1.1.2.2.1.2.2.2.2.2.2.1
  have h44 : σ1.1 44 z0.1 = Int32.ofNat z0.2.1.length := P1.1.2.2.1.1.1.2.2.1
  have eMd : cfM Ln (Int32.ofNat t) (Int32.ofNat nl) τ = some (.inl (some (.int 1)), mW τ11 ((34, Int32.ofNat (m + 1), Int32.ofNat nl, Int32.ofNat (z0.2.1.length + baseN R0)) :: W).length (0, 0, 0, 0)) := by
    unfold cfM
    rw [m_emit h.2.1.2.2.2.2.2.1 (by omega), bi_ok, m_emit P3.1.2.1.2.2.2.2.2.1 (by omega), bi_ok, b2, bv_ok, m_emit b3.2.1.2.2.2.2.2.1 (by omega), bi_ok, l2, lz_pred', if_pos (ofN_in (by have := lpx.2.2.1; simp only [List.length_cons] at this; omega) (by omega)), lz_onat (by omega), show (mP τ7 (m + 1 + 1) 40 (-1) (Int32.ofNat nl) 0).1 0 50 = Int32.ofNat (z0.2.1.length + baseN R0) by rw [lj_put_1, if_neg (by omega)] at h50; exact h50, (m_later P9.1.2.1.2.2.2.2.2.2.2.2.1 (by omega) 34 (Int32.ofNat (m + 1)) (Int32.ofNat nl) (Int32.ofNat (z0.2.1.length + baseN R0))).1, bv_ok, if_pos it, lz_onat (by omega), t4, Int32.toInt32_toInt64, w2, bv_ok, (m_later w3.2.1.2.2.2.2.2.2.2.2.1 (by simp; omega) 0 0 0 0).1, bv_ok]
  refine ⟨_, eMd, nx1 P12.1.2.1, ?_⟩
  unfold cfC
  rw [q1, bi_ok, h62, if_pos (ofN_in hz51 (by omega)), lz_onat (show z0.1 < 2147483648 by omega), h44, c_put3 P1.2.1.2.2.2.2.1 (by omega), bi_ok, c_put3 P2.1.2.1.2.2.2.2.1 (by omega), bi_ok, c_put5 P4.1.2.1.2.2.2.2.1 (by omega), bi_ok, b1, bv_ok, if_pos it, lz_onat (by omega), t3, Int32.toInt32_toInt64, w1, bv_ok]
  have G6 := G1.tr (P2.2.tr (P3.2.tr (P4.2.tr (P5.2.tr P6.2))))
  have G10 := G6.tr (b4.tr (P8.2.tr (P9.2.tr P10.2)))
  have hN11 := lvY_hd (⟨z0, R0, rfl, hf0, hl0⟩ : hdN (z0 :: R0) f l) w4.2.1
  have hN11 : hdN N11 f (nl :: l) := hN11
  have hlen11 := lvY_len w4.2.1
  have hwl : W.length < 3000 := by omega
  rcases hK F N11 FO0 (nl + 1) rv (fl ++ [3]) _ PL cl (m + 3) p v (c + 3) (m + 3) wh ((34, Int32.ofNat (m + 1), Int32.ofNat nl, Int32.ofNat (z0.2.1.length + baseN R0)) :: W) σ11 _ f (3 :: s) (nl :: l) l nl hTp P12.1 hN11 ⟨by rw [flo_3, hs.1, fmn_app]; rfl, fun x hx => (List.mem_cons.1 hx).elim Or.inl (hs.2 x)⟩ (by simp; omega) (by omega) (by omega) (bW_for (by omega) (by omega) _ _ _) (by
    intro x Y ex
    obtain ⟨rfl, rfl⟩ := List.cons.inj ex
    rw [hlen11]
    refine ⟨by simp [hf0], fun _ => ⟨by rw [← hl0]; simp, ⟨[nl], rfl, fun y hy => by rw [List.mem_singleton.1 hy]; exact (Nat.le_refl _)⟩, (by omega)⟩⟩) with hf | ⟨σ5, τ5, p5, c5, m5, wh5, F5, N5, nl5, e, nb, j1, j2, j3, j4, j5, j6, j7, j8, j9, j10, j11, j12⟩
  · exact Or.inl (flt_bv hf _)
  · have hc5 := j4.2.2.2.2.1
    have hm5 := j4.2.2.2.2.2.1
    have hp5 := j3.2.2.1.1
    have hpp5 := j4.2.2.2.1
    have c145 := j3.c14 hT5
    have hne11 := hdN_ne hN11
    rw [j1, bv_ok, j2]
    have B1 := j3.pop
    -- locals of the block, and the one of the loop
    have gsA : GS (e ++ [((Q t).2.2.1, (Q t).2.2.2, nl)]) (z0 :: R0) N5 F F5 p p5 c c5 m m5 σ τ σ5 (lj_put τ5 0 46 (Int32.ofNat W.length)) := ((G10.s (by simp) w4).r P12.2).tr (j4.r B1.2)
    have hsp : ∃ z R, N5 = z :: R ∧ z.2.1 = (e ++ [((Q t).2.2.1, (Q t).2.2.2, nl)]) ++ z0.2.1 ∧ baseN R = baseN R0 ∧ z.1 = z0.1 := by
      obtain ⟨y, S, y', S', e1, e2, b1, b2, b3, b4⟩ := gsA.2.1
      obtain ⟨rfl, rfl⟩ := List.cons.inj e1
      exact ⟨y', S', e2, b2, (lvX_map b4).2.2.1, b1⟩
    obtain ⟨z5, R5, rfl, hk5, hb5, hz5⟩ := hsp
    have hl5 : z5.2.1.map (·.2.2) = e.map (·.2.2) ++ (nl :: l) := by rw [hk5, List.map_append, List.map_append, hl0]; simp
    obtain ⟨σ6, τ6, c6, m6, f1, f2, f3, f4, f5, f6, f7, f8, f9, f10⟩ := cm_forget B1.1 hk5 (by omega) (by omega) hT5
    rw [f1, bv_ok]
    have c146 := f3.c14 hT5
    have X1 := f3.C (by omega) hT5 37 (Int32.ofNat fl.length) (Int32.ofNat (c + 1)) 0 0
    have X2 := X1.1.M (by omega) 41 (τ6.1 33 Z.length) (Int32.ofNat (m + 1)) 0
    have gX1 := cP_get σ6 c6 37 (Int32.ofNat fl.length) (Int32.ofNat (c + 1)) 0 0
    have oX1 := cP_o σ6 c6 37 (Int32.ofNat fl.length) (Int32.ofNat (c + 1)) 0 0
    have gX2 := mP_get τ6 m6 41 (τ6.1 33 Z.length) (Int32.ofNat (m + 1)) 0
    have oX2 := mP_o τ6 m6 41 (τ6.1 33 Z.length) (Int32.ofNat (m + 1)) 0
    have X3 := X2.1.chn hT5 (by rw [gX2.2.1, oX2 33 _ (by omega) (by omega)]) f8
    -- acts that were laid before the block
    have zA : fz 0 (c + 3) 0 (m + 3) σ11 _ σ5 τ5 := j4.2.2.2.2.2.2
    have zB : fz 0 (c + 3) 0 (m + 3) _ _ σ11 (mW τ11 ((34, Int32.ofNat (m + 1), Int32.ofNat nl, Int32.ofNat (z0.2.1.length + baseN R0)) :: W).length (0, 0, 0, 0)) := (w4.2.2.2.2.2.2).tr (P12.2.2.2.2.2.2.2)
    have C3 : ∀ k j, 22 ≤ k → k ≤ 26 → j < c + 3 → σ5.1 k j = (cP (cP (cP σ1 c 35 (Int32.ofNat fl.length) 0 0 Ln) (c + 1) 0 0 0 0 0) (c + 1 + 1) 36 (Int32.ofNat fl.length) (Int32.ofNat nl) 0 0).1 k j := fun k j v1 v2 v3 => by
      rw [zA.1 k j v1 v2 (Nat.zero_le _) v3, zB.1 k j v1 v2 (Nat.zero_le _) v3, b5 k j (by omega) (by omega) (by omega)]
    have g36 := cP_get (cP (cP σ1 c 35 (Int32.ofNat fl.length) 0 0 Ln) (c + 1) 0 0 0 0 0) (c + 1 + 1) 36 (Int32.ofNat fl.length) (Int32.ofNat nl) 0 0
    have x36 : (cP σ6 c6 37 (Int32.ofNat fl.length) (Int32.ofNat (c + 1)) 0 0).1 22 (c + 2) = 36 := by rw [oX1 22 _ (by omega) (by omega), f5.1 22 (c + 2) (by omega) (by omega) (by omega) (by omega), C3 22 (c + 2) (by omega) (by omega) (by omega)]; exact g36.1
    rw [c_put5 f3.2.1.2.2.2.2.1 (by omega), bi_ok, show Int32.ofNat (c + 1 + 1) = Int32.ofNat (c + 2) from rfl, c_landF (j := c + 2) gX1.2.2.2.2.2 (by omega) (Or.inl x36), bv_ok]
    have X4 := X3.1.p23 (c + 2) 25 (Or.inr rfl) (Int32.ofNat (c6 + 1))
    have hnb5 : ∀ j ∈ (nb.map (·.1) ++ ([] : List Nat)), j < c5 ∧ c + 3 ≤ j ∧ σ5.1 22 j = 30 := fun j hj => by
      rw [List.append_nil] at hj
      obtain ⟨x, hx, rfl⟩ := List.mem_map.1 hj
      have := j10 x hx
      exact ⟨(by omega), (by omega), this.2.2.2.2.1⟩
    have hmb5 : ∀ j ∈ (m6 :: (nb.map (·.2) ++ [m + 1 + 1])), j = m6 ∨ j = m + 2 ∨ (m + 3 ≤ j ∧ j < m5) := fun j hj => by
      rcases List.mem_cons.1 hj with u | u
      · exact Or.inl u
      · rcases List.mem_append.1 u with u | u
        · obtain ⟨x, hx, rfl⟩ := List.mem_map.1 u
          have := j10 x hx
          exact Or.inr (Or.inr ⟨(by omega), (by omega)⟩)
        · rw [List.mem_singleton] at u
          exact Or.inr (Or.inl u)
    have hZlt := h.2.2.2.1.2.2.2.2.2.2.2.2.2.2
    have hml := h.2.2.2.2.2
    obtain ⟨σ8, τ8, d1, d2, d3, d4, d5, d6, d7, d8, d9, d10⟩ := cm_leave (x := (z0.1, R0.length, z0.2.1.length, nb.map (·.1) ++ [], m6 :: (nb.map (·.2) ++ [m + 1 + 1]))) (Y := Z) X4.1 hT5 (by omega) (fun j hj => by have := hnb5 j hj; rw [lj_put_1, if_neg (by omega), oX1 22 j (by omega) (by omega), f5.1 22 j (by omega) (by omega) (by omega) (by omega)]; exact this.2.2) (fun y hy j hj hj2 => by have q1 := (hZlt y hy).2 j hj; have := hmb5 j hj2; omega) nl
    rw [d1, bv_ok]
    have X5 := d3.M (by omega) 44 3 0 0
    obtain ⟨u49, U1, U2⟩ := X5.1.unh
    have u49 : σ8.1 49 z5.1 = Int32.ofNat (fl.length + 1) := u49
    have U1 : PS b n T Q X F5 ((z5.1, z0.2.1, z5.2.2) :: R5) (((nl5, rv), fl) :: FO0) Z PL _ _ p5 v (c6 + 1) (m6 + 3) wh5 W (lj_put σ8 49 z5.1 (Int32.ofNat fl.length)) (mP τ8 (m6 + 1 + 1) 44 3 0 0) := U1
    have h628 : σ8.1 6 2 = Int32.ofNat z5.1 := d3.1.2.2.1.2.2.2.2.2.2.1
    have z551 : z5.1 < 51 := by rw [hz5]; exact hz51
    have i851 : lj_in (Int32.ofNat z5.1) 51 := ofN_in z551 (by omega)
    have ps5 := c_pass U1.1.1 hp5 U1.2.1.1 15 (by omega)
    simp only [h628, if_pos i851, lz_onat (show z5.1 < 2147483648 by omega), u49, lz_pred']
    have nw5 := m_needWord B1.1.1.1 hp5 B1.1.2.1.2.1 B1.1.2.1.2.2.2.2.2.2.2.2.2 5 (by omega) 6 rfl
    have ge5 : ∀ y τ2, (y = 0 ∨ y = 1) → lj_R lm_P 100 [.ref 0, .int (Int32.ofNat (m + 1)), .int (Int32.ofNat nl), .int (Int32.ofNat (z0.2.1.length + baseN R0))] (lj_put τ5 0 46 (Int32.ofNat W.length)) = some (.inl (some (.int y)), τ2) → mLoop τ5 = mNx y τ2 := fun y τ2 hy e => j3.go hy (by rw [rm_30, km_30_0, if_neg (by decide), if_neg (by decide), if_neg (by decide), if_neg (by decide), if_neg (by decide), if_neg (by decide), if_neg (by decide), if_neg (by decide), if_neg (by decide), if_neg (by decide), if_neg (by decide), if_neg (by decide), if_neg (by decide), if_neg (by decide), if_neg (by decide), if_neg (by decide), if_neg (by decide), if_neg (by decide), if_neg (by decide), if_neg (by decide), if_neg (by decide), rm_86, km_86_0, if_neg (by decide), if_neg (by decide), if_neg (by decide), if_neg (by decide), if_neg (by decide), if_neg (by decide), if_neg (by decide), if_neg (by decide), if_neg (by decide), if_neg (by decide), if_neg (by decide), if_neg (by decide), if_neg (by decide), if_pos rfl, e, bi_ok, bi_ok, vpb y hy, vpb y hy])
    have eE : lj_R lm_P 100 [.ref 0, .int (Int32.ofNat (m + 1)), .int (Int32.ofNat nl), .int (Int32.ofNat (z0.2.1.length + baseN R0))] (lj_put τ5 0 46 (Int32.ofNat W.length)) = _ := rm_100 _ _ _ _
    rw [km_100_0, nw5] at eE
    by_cases a15 : (Q p5).1 = 15
    · have hlt5 : p5 < T := j3.lt (by omega) (by omega)
      have V := U1.st hlt5
      rw [if_pos a15] at ps5
      have e56 : τ6.1 0 56 = Int32.ofNat (Z.length + 1) := f3.2.2.2.1.2.1
      have hZ20 := f3.2.2.2.1.2.2.1
      have hZ20 : Z.length + 1 ≤ 20 := hZ20
      have i64 : lj_in (Int32.ofNat Z.length) 64 := ofN_in (by omega) (by omega)
      rw [hb5] at f2
      rw [if_pos (show (Q p5).1 = 10 + 5 by omega), bi_ok, if_neg (by decide), m58_25 B1.1.2.1.2.2.2.2.2.1 (by omega) f2, bv_ok, show (lj_put τ6 0 25 (Int32.ofNat (p5 + 1))).1 0 56 = Int32.ofNat (Z.length + 1) by rw [lj_put_1, if_neg (by omega)]; exact e56, lz_pred'] at eE
      simp only [if_pos i64, lz_onat (show Z.length < 2147483648 by omega)] at eE
      rw [show (lj_put τ6 0 25 (Int32.ofNat (p5 + 1))).1 33 Z.length = τ6.1 33 Z.length by rw [lj_put_1, if_neg (by omega)], m_emit (by rw [lj_put_1, if_neg (by omega)]; exact f3.2.1.2.2.2.2.2.1) (by omega), bi_ok, mP_25, put_cm _ _ _ (by omega), mR94_25 X4.1 hT5 d2, bv_ok, m_emit (by rw [lj_put_1, if_neg (by omega)]; exact d3.2.1.2.2.2.2.2.1) (by omega), bi_ok, mP_25] at eE
      rw [show lj_R lc_P 71 [.ref 6, .int 15] (lj_put σ8 49 z5.1 (Int32.ofNat fl.length)) = _ from ps5, bv_ok, ge5 1 _ (Or.inr rfl) eE, nx1 V.1.2.1]
      have nbC : ∀ j, (c5 ≤ j ∨ j < c + 3) → j ∉ nb.map (·.1) ++ ([] : List Nat) := fun j hj w => by have := hnb5 j w; omega
      have nbM : ∀ j, j ≠ m6 → j ≠ m + 2 → (m5 ≤ j ∨ j < m + 3) → j ∉ m6 :: (nb.map (·.2) ++ [m + 1 + 1]) := fun j q1 q2 q3 w => by have := hmb5 j w; omega
      have tx : TX (z5 :: R5) σ5 (lj_put τ5 0 46 (Int32.ofNat W.length)) _ _ := ((((((f4.tr (X1.2.tr (X2.2.tr X3.2)).1 (fun _ _ q => q)).tr X4.2.1 (fun _ _ q => q)).tr d4 (fun _ _ q => q)).tr X5.2.1 (fun _ _ q => q)).tr U2.1 (fun _ _ q => q)).tr V.2.1 (fun _ _ q => q))
      have z8 : fz 0 (c + 2) 0 (m + 2) _ _ σ8 τ8 := ⟨fun k j w1 w2 _ w4 => d6 k j w1 w2 (fun w => nbC j (by omega) w.2), fun k j w1 w2 _ w4 => d8 k j w1 w2 (by omega) (fun w => nbM j (by omega) (by omega) (by omega) w.2)⟩
      have zz : fz 0 (c + 2) 0 (m + 2) σ5 (lj_put τ5 0 46 (Int32.ofNat W.length)) _ _ := (((((f5.mo (by omega) (by omega) (by omega) (by omega)).tr ((X1.2.tr (X2.2.tr X3.2)).2.2.2.2.2.2.mo (by omega) (by omega) (by omega) (by omega))).tr (X4.2.2.mo (by omega) (by omega) (by omega) (by omega))).tr z8).tr (X5.2.2.2.2.2.2.2.mo (by omega) (by omega) (by omega) (by omega))).tr ((U2.2.2.2.2.2.2.mo (by omega) (by omega) (by omega) (by omega)).tr (V.2.2.2.2.2.2.2.mo (by omega) (by omega) (by omega) (by omega)))
      have gfin := GS_fg2 (c' := c6 + 1) (m' := m6 + 3) rfl rfl gsA tx (zz.mo (by omega) (by omega) (by omega) (by omega)) (by omega) (by omega)
      refine Or.inr ⟨_, _, p5 + 1, c6 + 1, m6 + 3, wh5, F5, _, nl5, rfl, rfl, V.1.top, ⟨gfin.1, gfin.2.1, gfin.2.2.1, (by omega), gfin.2.2.2.2⟩, (by omega), (by omega), (by omega), (by omega), fun σ2 τ2 L => ?_⟩
      have SC : ∀ k j, 22 ≤ k → k ≤ 26 → c ≤ j → j < c6 + 1 → σ2.1 k j = σ8.1 k j := fun k j v1 v2 v3 v4 => by rw [L.2.1 k j v1 v2 v3 v4, lj_put_1, if_neg (by omega), lj_put_1, if_neg (by omega)]
      have gX5 := mP_get τ8 (m6 + 1 + 1) 44 3 0 0
      have oX5 := mP_o τ8 (m6 + 1 + 1) 44 3 0 0
      have SM : ∀ k j, 20 ≤ k → k ≤ 23 → m ≤ j → j < m6 + 3 → τ2.1 k j = (mP τ8 (m6 + 1 + 1) 44 3 0 0).1 k j := fun k j v1 v2 v3 v4 => by rw [L.2.2 k j v1 v2 v3 v4, lj_put_1, if_neg (by omega)]
      have C6 : ∀ k j, 22 ≤ k → k ≤ 26 → c ≤ j → j < c6 → ¬ (k = 23 ∧ j ∈ nb.map (·.1) ++ ([] : List Nat)) → ¬ (k = 25 ∧ j = c + 2) → σ2.1 k j = σ6.1 k j := fun k j v1 v2 v3 v4 v5 v6 => by rw [SC k j v1 v2 v3 (by omega), d6 k j v1 v2 v5, lj_put_1, if_neg (by omega), oX1 k j (by omega) (by omega)]
      have M6 : ∀ k j, 20 ≤ k → k ≤ 23 → m ≤ j → j < m6 → ¬ (k = 21 ∧ j ∈ m6 :: (nb.map (·.2) ++ [m + 1 + 1])) → τ2.1 k j = τ6.1 k j := fun k j v1 v2 v3 v4 v5 => by rw [SM k j v1 v2 v3 (by omega), oX5 k j (by omega) (by omega), d8 k j v1 v2 (by omega) v5, lj_put_1, if_neg (by omega), oX2 k j (by omega) (by omega)]
      have C0 : ∀ k j, 22 ≤ k → k ≤ 26 → c ≤ j → j < c + 3 → ¬ (k = 25 ∧ j = c + 2) → σ2.1 k j = (cP (cP (cP σ1 c 35 (Int32.ofNat fl.length) 0 0 Ln) (c + 1) 0 0 0 0 0) (c + 1 + 1) 36 (Int32.ofNat fl.length) (Int32.ofNat nl) 0 0).1 k j := fun k j v1 v2 v3 v4 v5 => by rw [C6 k j v1 v2 v3 (by omega) (fun w => nbC j (by omega) w.2) v5, f5.1 k j v1 v2 (by omega) (by omega), C3 k j v1 v2 v4]
      have M3 : ∀ k j, 20 ≤ k → k ≤ 23 → j < m + 3 → τ5.1 k j = (mP τ7 (m + 1 + 1) 40 (-1) (Int32.ofNat nl) 0).1 k j := fun k j v1 v2 v3 => by
        rw [zA.2 k j v1 v2 (Nat.zero_le _) v3, zB.2 k j v1 v2 (Nat.zero_le _) v3, mW_o _ _ _ _ _ (by omega) (by omega), lj_put_1, if_neg (by omega)]
      have M0 : ∀ k j, 20 ≤ k → k ≤ 23 → m ≤ j → j < m + 3 → ¬ (k = 21 ∧ j = m + 2) → τ2.1 k j = (mP τ7 (m + 1 + 1) 40 (-1) (Int32.ofNat nl) 0).1 k j := fun k j v1 v2 v3 v4 v5 => by rw [M6 k j v1 v2 v3 (by omega) (fun w => nbM j (by omega) (by omega) (by omega) w.2), f5.2 k j v1 v2 (by omega) (by omega), lj_put_1, if_neg (by omega), M3 k j v1 v2 v4]
      have tx' : TX ((z5.1, z0.2.1, z5.2.2) :: R5) σ6 τ6 σ2 τ2 := ((((((X1.2.tr (X2.2.tr X3.2)).1.tr X4.2.1 (fun _ _ q => q)).tr d4 (fun _ _ q => q)).tr X5.2.1 (fun _ _ q => q)).tr U2.1 (fun _ _ q => q)).tr V.2.1 (fun _ _ q => q)).tr L.1 (fun _ _ q => q)
      have TX5 : TX (z5 :: R5) σ5 τ5 σ2 τ2 := (B1.2.1.tr tx (fun _ _ q => q)).tr L.1 (fun _ _ q => q)
      have g1A : GS (e ++ [((Q t).2.2.1, (Q t).2.2.2, nl)]) (z0 :: R0) (z5 :: R5) F F5 p p5 c c5 m m5 σ1 τ σ5 τ5 := ((((P2.2.tr (P3.2.tr (P4.2.tr (P5.2.tr P6.2)))).tr (b4.tr (P8.2.tr (P9.2.tr P10.2)))).s (by simp) w4).r P12.2).tr j4
      have T1 : TX (z0 :: R0) σ1 τ σ2 τ2 := g1A.1.tr TX5 (fun q _ hq => by rw [lvY_q g1A.2.1]; exact hq)
      have hzF : z0.1 < F := P1.1.2.2.2.2.1 z0 (List.mem_cons_self)
      have e58 : lv σ1 5 8 = (F : Int) := by unfold lv; rw [P1.1.2.2.2.1.1, lz_lit (by have := P1.1.2.2.2.1.2.2.1; omega)]
      have hd2 : (fl.length : Int) < lv σ2 32 f := by
        have := (T1.2.2.2.2.2.2.1 z0.1 (by rw [e58]; omega)).2.2.2.1.1
        rw [← hf0]
        omega
      have hd : fl.length = (flo s).length := by rw [hs.1, fmn_len]
      have h31 := (P1.l31 ⟨z0, R0, rfl, hf0, hl0⟩ T1).1
      have hsB3 : sB (3 :: s) := hs.sb4 (by omega) 3 (Or.inl rfl)
      -- the way out
      have ex : ∀ d, nl ≤ d → d ≤ 50 → ∀ E : pT → Prop, E (f, c6 + 1, m6 + 3, s, l, 50) → seg σ2 τ2 (f, c6 + 1, m6 + 1, 3 :: s, l, d) E := fun d v1 v2 E hE => by
        refine seg_in [(f, c6 + 1, m6 + 2, 3 :: s, l, 50)] ⟨45, nl, (by omega), by show τ2.1 20 (m6 + 1) = 20; rw [SM 20 _ (by omega) (by omega) (by omega) (by omega), oX5 20 _ (by omega) (by omega)]; exact d9, by show τ2.1 21 (m6 + 1) = _; rw [SM 21 _ (by omega) (by omega) (by omega) (by omega), oX5 21 _ (by omega) (by omega)]; exact d10, v1, hl, rfl⟩ (fun y hy => ?_)
        rw [List.mem_singleton.1 hy]
        refine seg_in [(f, c6 + 1, m6 + 3, s, l, 50)] ⟨49, s, Or.inl rfl, by show τ2.1 20 (m6 + 2) = 44; rw [SM 20 _ (by omega) (by omega) (by omega) (by omega)]; exact gX5.1, by show τ2.1 21 (m6 + 2) = 3; rw [SM 21 _ (by omega) (by omega) (by omega) (by omega)]; exact gX5.2.1, rfl⟩ (fun y hy => ?_)
        rw [List.mem_singleton.1 hy]
        exact seg_ex hE
      have g35 := cP_get σ1 c 35 (Int32.ofNat fl.length) 0 0 Ln
      have o36 := cP_o (cP (cP σ1 c 35 (Int32.ofNat fl.length) 0 0 Ln) (c + 1) 0 0 0 0 0) (c + 1 + 1) 36 (Int32.ofNat fl.length) (Int32.ofNat nl) 0 0
      have oSt := cP_o (cP σ1 c 35 (Int32.ofNat fl.length) 0 0 Ln) (c + 1) 0 0 0 0 0
      have gSt := cP_get (cP σ1 c 35 (Int32.ofNat fl.length) 0 0 Ln) (c + 1) 0 0 0 0 0
      have g39 := mP_get τ m 39 0 0 Ln
      have oMs := mP_o (mP τ m 39 0 0 Ln) (m + 1) 0 0 0 0
      have gMs := mP_get (mP τ m 39 0 0 Ln) (m + 1) 0 0 0 0
      refine seg_in [(f, c + 1, m + 1, 3 :: s, l, 50)] ⟨46, fl.length, s, rfl, hd, hd2, ?_, ?_, ?_, ?_, ?_, rfl⟩ (fun y hy => ?_)
      · show σ2.1 22 c = 35
        rw [C0 22 c (by omega) (by omega) (by omega) (by omega) (by omega), o36 22 c (by omega) (by omega), oSt 22 c (by omega) (by omega)]; exact g35.1
      · show σ2.1 23 c = _
        rw [C0 23 c (by omega) (by omega) (by omega) (by omega) (by omega), o36 23 c (by omega) (by omega), oSt 23 c (by omega) (by omega)]; exact g35.2.1
      · show σ2.1 24 c = 0
        rw [C0 24 c (by omega) (by omega) (by omega) (by omega) (by omega), o36 24 c (by omega) (by omega), oSt 24 c (by omega) (by omega)]; exact g35.2.2.1
      · show τ2.1 20 m = 39
        rw [M0 20 m (by omega) (by omega) (by omega) (by omega) (by omega), o8 20 m (by omega) (by omega), b6 20 m (by omega) (by omega) (by omega), oMs 20 m (by omega) (by omega)]; exact g39.1
      · show σ2.1 26 c = τ2.1 23 m
        rw [C0 26 c (by omega) (by omega) (by omega) (by omega) (by omega), o36 26 c (by omega) (by omega), oSt 26 c (by omega) (by omega), M0 23 m (by omega) (by omega) (by omega) (by omega) (by omega), o8 23 m (by omega) (by omega), b6 23 m (by omega) (by omega) (by omega), oMs 23 m (by omega) (by omega), g35.2.2.2.2.1, g39.2.2.2.1]
      · rw [List.mem_singleton.1 hy]
        have st0 : σ2.1 22 (c + 1) = 0 := by
          rw [C0 22 _ (by omega) (by omega) (by omega) (by omega) (by omega), o36 22 _ (by omega) (by omega)]; exact gSt.1
        have st1 : τ2.1 20 (m + 1) = 0 := by
          rw [M0 20 _ (by omega) (by omega) (by omega) (by omega) (by omega), o8 20 _ (by omega) (by omega), b6 20 _ (by omega) (by omega) (by omega)]; exact gMs.1
        refine seg_loop [(f, c + 2, m + 2, 3 :: s, l, 50)] ⟨st0, st1, rfl⟩ (fun y hy => ?_)
        · rw [List.mem_singleton.1 hy]
          refine seg_in [(f, c + 3, m + 3, 3 :: s, nl :: l, 50), (f, c6 + 1, m6 + 1, 3 :: s, l, 50)] ⟨47, fl.length, nl, c6 + 1, m6 + 1, s, (by omega), ⟨by omega, by first | omega | (dsimp only; omega), by first | omega | (dsimp only; omega)⟩, ⟨(by omega), fun w => Nat.lt_irrefl _ (hl nl w), by show (nl : Int) < lv σ2 31 f; omega⟩, rfl, hd, hd2, ?_, ?_, ?_, ?_, ?_, ?_, ?_, rfl⟩ (fun y hy => ?_)
          · show σ2.1 22 (c + 2) = 36
            rw [C0 22 _ (by omega) (by omega) (by omega) (by omega) (by omega)]; exact g36.1
          · show σ2.1 23 (c + 2) = _
            rw [C0 23 _ (by omega) (by omega) (by omega) (by omega) (by omega)]; exact g36.2.1
          · show σ2.1 24 (c + 2) = _
            rw [C0 24 _ (by omega) (by omega) (by omega) (by omega) (by omega)]; exact g36.2.2.1
          · show σ2.1 25 (c + 2) = _
            rw [SC 25 _ (by omega) (by omega) (by omega) (by omega), d6 25 _ (by omega) (by omega) (by omega), lj_put_1, if_pos ⟨rfl, rfl⟩]
          · show τ2.1 20 (m + 2) = 40
            rw [M0 20 _ (by omega) (by omega) (by omega) (by omega) (by omega)]; exact g8.1
          · show τ2.1 21 (m + 2) = _
            rw [SM 21 _ (by omega) (by omega) (by omega) (by omega), oX5 21 _ (by omega) (by omega)]; exact d7 (m + 2) (List.mem_cons_of_mem _ (List.mem_append_right _ (List.mem_singleton.2 rfl)))
          · show τ2.1 22 (m + 2) = _
            rw [M0 22 _ (by omega) (by omega) (by omega) (by omega) (by omega)]; exact g8.2.2.1
          · rcases List.mem_cons.1 hy with hy | hy
            · rw [hy]
              refine (j12 σ2 τ2 ⟨TX5, fun k j v1 v2 v3 v4 v5 => ?_, fun k j v1 v2 v3 v4 v5 => ?_⟩).tr (fun y hy => ?_)
              · rw [C6 k j v1 v2 (by omega) (by omega) (fun w => by
                  rw [List.append_nil] at w
                  obtain ⟨x, hx, ex⟩ := List.mem_map.1 w.2
                  exact v5 w.1 x hx ex) (by omega), f5.1 k j v1 v2 (by omega) (by omega)]
              · rw [M6 k j v1 v2 (by omega) (by omega) (fun w => by
                  rcases List.mem_cons.1 w.2 with u | u
                  · omega
                  · rcases List.mem_append.1 u with u | u
                    · obtain ⟨x, hx, ex⟩ := List.mem_map.1 u
                      exact v5 w.1 x hx ex
                    · rw [List.mem_singleton] at u
                      omega), f5.2 k j v1 v2 (by omega) (by omega), lj_put_1, if_neg (by omega)]
              · rcases hy with hy | ⟨x, hx, d, x1, x2, x3⟩
                · rw [hy, ← hl5, ← hf0, ← hz5]
                  refine (f10 (3 :: s) hsB3 σ2 τ2 ⟨tx', fun k j v1 v2 v3 v4 => C6 k j v1 v2 (by omega) (by omega) (fun w => nbC j (by omega) w.2) (by omega), fun k j v1 v2 v3 v4 => M6 k j v1 v2 (by omega) (by omega) (fun w => nbM j (by omega) (by omega) (by omega) w.2)⟩).tr (fun y hy => ?_)
                  rw [hy, hl0, hz5, hf0]
                  refine seg_in [(f, c + 1, m + 1, 3 :: s, l, 50), (f, c6 + 1, m6 + 1, 3 :: s, l, 50)] ⟨48, fl.length, c + 1, m + 1, m6 + 1, s, (by omega), ⟨(by omega), st0, st1⟩, ⟨by omega, by first | omega | (dsimp only; omega)⟩, rfl, hd, hd2, ?_, ?_, ?_, ?_, ?_, ?_, rfl⟩ (fun y hy => ?_)
                  · show σ2.1 22 c6 = 37
                    rw [SC 22 c6 (by omega) (by omega) (by omega) (by omega), d6 22 c6 (by omega) (by omega) (by omega), lj_put_1, if_neg (by omega)]; exact gX1.1
                  · show σ2.1 23 c6 = _
                    rw [SC 23 c6 (by omega) (by omega) (by omega) (by omega), d6 23 c6 (by omega) (by omega) (fun w => nbC c6 (by omega) w.2), lj_put_1, if_neg (by omega)]; exact gX1.2.1
                  · show σ2.1 24 c6 = _
                    rw [SC 24 c6 (by omega) (by omega) (by omega) (by omega), d6 24 c6 (by omega) (by omega) (by omega), lj_put_1, if_neg (by omega)]; exact gX1.2.2.1
                  · show τ2.1 20 m6 = 41
                    rw [SM 20 m6 (by omega) (by omega) (by omega) (by omega), oX5 20 m6 (by omega) (by omega), d8 20 m6 (by omega) (by omega) (by omega) (by omega), lj_put_1, if_neg (by omega)]; exact gX2.1
                  · show τ2.1 21 m6 = _
                    rw [SM 21 m6 (by omega) (by omega) (by omega) (by omega), oX5 21 m6 (by omega) (by omega)]; exact d7 m6 (List.mem_cons_self)
                  · show τ2.1 22 m6 = _
                    rw [SM 22 m6 (by omega) (by omega) (by omega) (by omega), oX5 22 m6 (by omega) (by omega), d8 22 m6 (by omega) (by omega) (by omega) (by omega), lj_put_1, if_neg (by omega)]; exact gX2.2.2.1
                  · rcases List.mem_cons.1 hy with hy | hy
                    · rw [hy]; exact seg_ex (Or.inr rfl)
                    · rw [List.mem_singleton.1 hy]; exact ex 50 (by omega) (by omega) _ (Or.inl rfl)
                · rw [x3]
                  obtain ⟨y1, y2, y3, y4, y5, y6⟩ := j10 x hx
                  have s1 : σ2.1 22 x.1 = 30 := by rw [C6 22 x.1 (by omega) (by omega) (by omega) (by omega) (by omega) (by omega), f5.1 22 x.1 (by omega) (by omega) (by omega) (by omega)]; exact y5
                  have s2 : σ2.1 23 x.1 = Int32.ofNat (c6 + 1) := by rw [SC 23 x.1 (by omega) (by omega) (by omega) (by omega)]; exact d5 x.1 (List.mem_append_left _ (List.mem_map.2 ⟨x, hx, rfl⟩))
                  have s3 : τ2.1 20 x.2 = 21 := by rw [M6 20 x.2 (by omega) (by omega) (by omega) (by omega) (by omega), f5.2 20 x.2 (by omega) (by omega) (by omega) (by omega), lj_put_1, if_neg (by omega)]; exact y6
                  have s4 : τ2.1 21 x.2 = Int32.ofNat (m6 + 1) := by rw [SM 21 x.2 (by omega) (by omega) (by omega) (by omega), oX5 21 x.2 (by omega) (by omega)]; exact d7 x.2 (List.mem_cons_of_mem _ (List.mem_append_left _ (List.mem_map.2 ⟨x, hx, rfl⟩)))
                  exact seg_in [(f, c6 + 1, m6 + 1, 3 :: s, l, d)] ⟨37, c6 + 1, m6 + 1, (by omega), ⟨by omega, Or.inl ⟨by first | omega | (dsimp only; omega), by first | omega | (dsimp only; omega)⟩⟩, s1, s2, s3, s4, rfl⟩ (fun y hy => by rw [List.mem_singleton.1 hy]; exact ex d x1 x2 _ (Or.inl rfl))
            · rw [List.mem_singleton.1 hy]; exact ex 50 (by omega) (by omega) _ (Or.inl rfl)
    · rw [if_neg a15] at ps5
      rw [if_neg (show ¬ (Q p5).1 = 10 + 5 by omega), bi_ok, if_pos rfl] at eE
      rw [show lj_R lc_P 71 [.ref 6, .int 15] (lj_put σ8 49 z5.1 (Int32.ofNat fl.length)) = _ from ps5, ge5 0 _ (Or.inl rfl) eE, nx0]
      exact Or.inl (flt_bv (B1.1.flt hT5 2 (Or.inl rfl) _) _)
