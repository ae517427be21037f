/-! a called for, behind its values -/
theorem flo_4 (s : List Nat) : flo (4 :: s) = flo s ++ [4] := by
  unfold flo
  rw [List.filter_cons_of_pos (by decide), List.reverse_cons]
noncomputable def ciM (x1 x2 x3 x4 x5 : Int32) (σ5 : lj_S) : Option lj_O := lj_bi (lj_R lm_P 28 [.ref 0, .int 0, .int 0, .int 0, .int 0] σ5) (fun y8 σ7 => lj_bi (lj_R lm_P 28 [.ref 0, .int 42, .int x4, .int 0, .int x1] σ7) (fun y10 σ9 => lj_bv (lj_R lm_P 44 [.ref 0] σ9) (fun σ11 => lj_bi (lj_R lm_P 28 [.ref 0, .int 43, .int (-1), .int ((x4 * 100) + x5), .int 0] σ11) (fun y13 σ12 => (if lj_in ((σ11.1 0 56) - 1) 64 then lj_bv (lj_R lm_P 29 [.ref 0, .int 36, .int y8, .int x5, .int (σ12.1 0 50)] (lj_put σ12 33 (((σ11.1 0 56) - 1).toNatClampNeg) y13)) (fun σ14 => lj_D lm_P lm_M101 114 [.ref 0, .int x1, .int x2, .int x3, .int x4, .int x5, .int y10, .int y8, .int 0] [] σ14) lj_up else none)) lj_up) lj_up) lj_up) lj_up
noncomputable def ciC (x1 x2 x3 x4 y4 : Int32) (σ11 : lj_S) : Option lj_O := lj_bi (lj_R lc_P 104 [.ref 6] σ11) (fun y13 σ12 => lj_bi (lj_R lc_P 56 [.ref 5, .int (σ12.1 6 2), .int (1000 + (3 * y13))] σ12) (fun y15 σ14 => lj_bi (lj_R lc_P 56 [.ref 5, .int (σ14.1 6 2), .int (1001 + (3 * y13))] σ14) (fun y17 σ16 => lj_bi (lj_R lc_P 56 [.ref 5, .int (σ16.1 6 2), .int (1002 + (3 * y13))] σ16) (fun y19 σ18 => lj_bi (lj_R lc_P 55 [.ref 5, .int 35, .int y13, .int 1, .int 0, .int y4] σ18) (fun y21 σ20 => lj_bi (lj_R lc_P 54 [.ref 5, .int 0, .int 0, .int 0] σ20) (fun y23 σ22 => lj_bi (lj_R lc_P 54 [.ref 5, .int 38, .int y13, .int y4] σ22) (fun y25 σ24 => lj_bi (lj_R lc_P 54 [.ref 5, .int 16, .int 0, .int y4] σ24) (fun y27 σ26 => lj_bi (lj_R lc_P 55 [.ref 5, .int 20, .int x4, .int 1, .int 0, .int y4] σ26) (fun y29 σ28 => lj_bi (lj_R lc_P 55 [.ref 5, .int 39, .int x2, .int (x4 ||| (y13 <<< (8 &&& 31))), .int 0, .int 0] σ28) (fun y31 σ30 => lj_bv (lj_R lc_P 98 [.ref 6] σ30) (fun σ32 => lj_D lc_P lc_M105 307 [.ref 6, .int x1, .int x2, .int x3, .int x4, .int y4, .int y13, .int y15, .int y17, .int y19, .int y23, .int y31, .int 0] [] σ32) lj_up) lj_up) lj_up) lj_up) lj_up) lj_up) lj_up) lj_up) lj_up) lj_up) lj_up
theorem fi_tail {b : Nat → Int32} {n T : Nat} {Q : tkQ} {X : List Int32 → Prop} (hT5 : T ≤ 520) (k0 : Nat) (hK : CK b n T Q X k0) {F : Nat} {z0 : lT} {R0 : List lT} {FO0 : List fT} {nl rv : Nat} {fl : List Nat} {Z : List zT} {PL : List qT} {cl ml : Nat} {p v c m wh : Nat} {W : List wT} {σ τ : lj_S} {f : Nat} {s l : List Nat} {nk t : Nat} (hTp : T - p < k0) (h : PS b n T Q X F (z0 :: R0) (((nl + nk, rv + nk + 3), fl) :: FO0) Z PL cl ml p v c m wh W σ τ) (hf0 : z0.1 = f) (hl0 : z0.2.1.map (·.2.2) = l) (hs : fls s fl) (hW : W.length + 25 ≤ 40 * v + 60) (hc : c + 50 ≤ 25 * p + 100) (hm : m + 50 ≤ 25 * p + 100) (hZ : Z.length + 1 ≤ v) (hfl : fl.length + 1 ≤ v) (hk0 : 0 < nk) (ht : t + 2 * nk ≤ T + 1) (hnm : ∀ j, j < nk → (Q (t + 2 * j)).1 = 1) (hl : ∀ y ∈ l, y < nl) (Ln x3 : Int32) :
    ∃ τd, ciM Ln (Int32.ofNat t) x3 (Int32.ofNat nk) (Int32.ofNat nl) τ = some (.inl (some (.int 1)), τd) ∧ mNx 1 τd = mLoop τd ∧ frR b n T Q X FO0 (nl + nk) rv fl Z PL v W f s l (z0 :: R0) F p c m σ τ (ciC (Int32.ofNat t) (Int32.ofNat nl) (Int32.ofNat z0.2.1.length) (Int32.ofNat nk) Ln σ) (mLoop τd) := by
  have hv20 := h.2.2.1.2.1
  have hfv := h.fv
  have hsB : sB s := hs.sb hfv hv20
  have hpT := h.2.2.1.1
  have hv20 := h.2.2.1.2.1
  have c14 := h.c14 hT5
  have hn520 := h.1.1.2.1
  have hTn := h.1.1.2.2.1
  have sl2 : nl + nk ≤ 50 := h.1.2.2.2.2.2.1.1.2.2.2.2.2.2.2.1
  obtain ⟨σ0, q0, P0, G0, hd32⟩ := cm_hide h hfl
  obtain ⟨S, σa, σb, σ1, u1, u2, u3, u4, u5, hS4, P1, G1⟩ := P0.cal hT5 (rv := rv + nk)
  have P2 := P1.C (by omega) hT5 35 (Int32.ofNat fl.length) 1 0 Ln
  have P4 := P2.1.C (by omega) hT5 0 0 0 0 0
  have P5 := P4.1.M (by omega) 0 0 0 0
  have A1 := P5.1.C (by omega) hT5 38 (Int32.ofNat fl.length) 0 0 Ln
  have A2 := A1.1.C (by omega) hT5 16 0 0 0 Ln
  have A3 := A2.1.C (by omega) hT5 20 (Int32.ofNat nk) 1 0 Ln
  have A4 := A3.1.M (by omega) 42 (Int32.ofNat nk) 0 Ln
  have P6 := A4.1.C (by omega) hT5 39 (Int32.ofNat nl) (Int32.ofNat (nk + 256 * fl.length)) 0 0
  obtain ⟨σ7, τ7, b1, b2, b3, b4, b5, b6⟩ := cm_enter P6.1 hZ
  have P8 := b3.M (by omega) 43 (-1) (Int32.ofNat (nk * 100 + nl)) 0
  have lpx := b3.2.2.2.1
  have l2 : τ7.1 0 56 = Int32.ofNat (Z.length + 1) := lpx.2.1
  have y33 : τ7.1 33 Z.length = -1 := lpx.2.2.2.2.2.2.2.2.1.1.2.2.2.2
  have g8 := mP_get τ7 (m + 1 + 1) 43 (-1) (Int32.ofNat (nk * 100 + nl)) 0
  have o8 := mP_o τ7 (m + 1 + 1) 43 (-1) (Int32.ofNat (nk * 100 + nl)) 0
  have P9 := P8.1.chn hT5 (by rw [g8.2.1, o8 33 _ (by omega) (by omega), y33]) (by have := b3.2.2.2.2.2; omega)
  have hNR9 := P9.1.1.2.2.1
  have h50 := hNR9.2.2.2.2.2.2.2.2.1
  have hz51 : z0.1 < 51 := hNR9.1.1.1
  have P10 := P9.1.la (by omega) (36, Int32.ofNat m, Int32.ofNat nl, Int32.ofNat (z0.2.1.length + baseN R0))
  have G6 := G0.tr (G1.tr (P2.2.tr (P4.2.tr (P5.2.tr (A1.2.tr (A2.2.tr (A3.2.tr (A4.2.tr P6.2))))))))
  have G10 := G6.tr (b4.tr (P8.2.tr (P9.2.tr P10.2)))
  have hN0 : hdN (z0 :: R0) f l := ⟨z0, R0, rfl, hf0, hl0⟩
  obtain ⟨σ11, τ11, N11, e1, w1, w2, w3, w4, hN11, we⟩ := fi_knows hT5 (nl := nl) (rv := rv) (k := nk) (f := f) (l := l) (p1 := t) ht hnm hl (Int32.ofNat z0.2.1.length) Ln (Int32.ofNat fl.length) (Int32.ofNat S) (Int32.ofNat (S + 1)) (Int32.ofNat (S + 2)) (Int32.ofNat (c + 1)) (Int32.ofNat (c + 1 + 1 + 1 + 1 + 1)) Ln x3 (Int32.ofNat (m + 1)) (Int32.ofNat m) nk 0 (z0 :: R0) _ _ [] (by omega) P10.1 ((GR_rf _ _ _ _ _ _ _).gs (by simp)) hN0 rfl
  have P12 := w3.la (by simp; omega) (0, 0, 0, 0)
  have h62 : σ0.1 6 2 = Int32.ofNat z0.1 := P0.1.2.2.1.2.2.2.2.2.2.1
  have eMd : ciM Ln (Int32.ofNat t) x3 (Int32.ofNat nk) (Int32.ofNat nl) τ = some (.inl (some (.int 1)), mW τ11 ((36, Int32.ofNat m, Int32.ofNat nl, Int32.ofNat (z0.2.1.length + baseN R0)) :: W).length (0, 0, 0, 0)) := by
    unfold ciM
    rw [m_emit h.2.1.2.2.2.2.2.1 (by omega), bi_ok, m_emit P5.1.2.1.2.2.2.2.2.1 (by omega), bi_ok, b2, bv_ok, mul100, m_emit b3.2.1.2.2.2.2.2.1 (by omega), bi_ok, l2, lz_pred', if_pos (ofN_in (by have := lpx.2.2.1; simp only [List.length_cons] at this; omega) (by omega)), lz_onat (by omega), show (mP τ7 (m + 1 + 1) 43 (-1) (Int32.ofNat (nk * 100 + nl)) 0).1 0 50 = Int32.ofNat (z0.2.1.length + baseN R0) by rw [lj_put_1, if_neg (by omega)] at h50; exact h50, (m_later P9.1.2.1.2.2.2.2.2.2.2.2.1 (by omega) 36 (Int32.ofNat m) (Int32.ofNat nl) (Int32.ofNat (z0.2.1.length + baseN R0))).1, bv_ok]
    refine Eq.trans w2 ?_
    rw [km_101_114, if_pos (by rw [lz_le]; exact Int.le_refl _), (m_later w3.2.1.2.2.2.2.2.2.2.2.1 (by simp; omega) 0 0 0 0).1, bv_ok]
  refine ⟨_, eMd, nx1 P12.1.2.1, ?_⟩
  have hsh := or_sh ⟨nk, by omega⟩ ⟨fl.length, by omega⟩
  have hsh : Int32.ofNat nk ||| (Int32.ofNat fl.length <<< ((8 : Int32) &&& 31)) = Int32.ofNat (nk + 256 * fl.length) := hsh
  have e1000 : (1000 : Int32) + 3 * Int32.ofNat fl.length = Int32.ofNat (1000 + 3 * fl.length) := by
    rw [show (3 : Int32) = Int32.ofNat 3 from rfl, ← Int32.ofNat_mul, show (1000 : Int32) = Int32.ofNat 1000 from rfl, ofN_add']
  have e1001 : (1001 : Int32) + 3 * Int32.ofNat fl.length = Int32.ofNat (1000 + 3 * fl.length + 1) := by
    rw [show (3 : Int32) = Int32.ofNat 3 from rfl, ← Int32.ofNat_mul, show (1001 : Int32) = Int32.ofNat 1001 from rfl, ofN_add']; congr 1; omega
  have e1002 : (1002 : Int32) + 3 * Int32.ofNat fl.length = Int32.ofNat (1000 + 3 * fl.length + 2) := by
    rw [show (3 : Int32) = Int32.ofNat 3 from rfl, ← Int32.ofNat_mul, show (1002 : Int32) = Int32.ofNat 1002 from rfl, ofN_add']; congr 1; omega
  have eCd : ciC (Int32.ofNat t) (Int32.ofNat nl) (Int32.ofNat z0.2.1.length) (Int32.ofNat nk) Ln σ = lj_D lc_P lc_M105 307 [.ref 6, .int (Int32.ofNat t), .int (Int32.ofNat nl), .int (Int32.ofNat z0.2.1.length), .int (Int32.ofNat nk), .int Ln, .int (Int32.ofNat fl.length), .int (Int32.ofNat S), .int (Int32.ofNat (S + 1)), .int (Int32.ofNat (S + 2)), .int (Int32.ofNat (c + 1)), .int (Int32.ofNat (c + 1 + 1 + 1 + 1 + 1)), .int (Int32.ofNat nk)] [] σ11 := by
    unfold ciC
    rw [q0, bi_ok, h62, e1000, u1, bi_ok, u2, e1001, u3, bi_ok, u4, e1002, u5, bi_ok, c_put5 P1.2.1.2.2.2.2.1 (by omega), bi_ok, c_put3 P2.1.2.1.2.2.2.2.1 (by omega), bi_ok, c_put3 P4.1.2.1.2.2.2.2.1 (by omega), bi_ok, c_put3 A1.1.2.1.2.2.2.2.1 (by omega), bi_ok, c_put5 A2.1.2.1.2.2.2.2.1 (by omega), bi_ok, hsh, c_put5 A3.1.2.1.2.2.2.2.1 (by omega), bi_ok, b1, bv_ok]
    exact w1
  rw [eCd, kc_105_307, if_pos (by rw [lz_le]; exact Int.le_refl _)]
  have hlen11 := lvY_len w4.2.1
  have hwl : W.length < 3000 := by omega
  generalize hl1 : ((List.range nk).map (nl + ·)).reverse = lk1 at *
  have hlk : ∀ y ∈ lk1, nl ≤ y := fun y hy => by
    rw [← hl1, List.mem_reverse, List.mem_map] at hy
    obtain ⟨a, _, rfl⟩ := hy
    omega
  rw [we] at hN11
  rcases hK F N11 FO0 (nl + nk) rv (fl ++ [4 + S]) _ PL cl (m + 3) p v (c + 6) (m + 3) wh ((36, Int32.ofNat m, Int32.ofNat nl, Int32.ofNat (z0.2.1.length + baseN R0)) :: W) σ11 _ f (4 :: s) (lk1 ++ l) l nl hTp P12.1 hN11 ⟨by rw [flo_4, hs.1, fmn_app]; show _ = _ ++ [min (4 + S) 4]; rw [Nat.min_eq_right (by omega)], fun x hx => (List.mem_cons.1 hx).elim Or.inr (hs.2 x)⟩ (by simp; omega) (by omega) (by omega) (bW_in (by omega) (by omega) _ _ _) (by
    intro x Y ex
    obtain ⟨rfl, rfl⟩ := List.cons.inj ex
    rw [hlen11]
    refine ⟨by simp [hf0], fun _ => ⟨by rw [← hl0]; simp, ⟨lk1, rfl, hlk⟩, (by omega)⟩⟩) with hf | ⟨σ5, τ5, p5, c5, m5, wh5, F5, N5, nl5, e, nb, j1, j2, j3, j4, j5, j6, j7, j8, j9, j10, j11, j12⟩
  · exact Or.inl (flt_bv hf _)
  · have hc5 := j4.2.2.2.2.1
    have hm5 := j4.2.2.2.2.2.1
    have hp5 := j3.2.2.1.1
    have hpp5 := j4.2.2.2.1
    have c145 := j3.c14 hT5
    have hne11 := hdN_ne hN11
    rw [j1, bv_ok, j2]
    have B1 := j3.pop
    -- locals of the block, and the one of the loop
    have gsA : GS (e ++ e1) (z0 :: R0) N5 F F5 p p5 c c5 m m5 σ τ σ5 (lj_put τ5 0 46 (Int32.ofNat W.length)) := ((G10.s (by simp) w4).r P12.2).tr (j4.r B1.2)
    have hsp : ∃ z R, N5 = z :: R ∧ z.2.1 = (e ++ e1) ++ z0.2.1 ∧ baseN R = baseN R0 ∧ z.1 = z0.1 := by
      obtain ⟨y, S, y', S', e1, e2, b1, b2, b3, b4⟩ := gsA.2.1
      obtain ⟨rfl, rfl⟩ := List.cons.inj e1
      exact ⟨y', S', e2, b2, (lvX_map b4).2.2.1, b1⟩
    obtain ⟨z5, R5, rfl, hk5, hb5, hz5⟩ := hsp
    have hl5 : z5.2.1.map (·.2.2) = e.map (·.2.2) ++ (lk1 ++ l) := by rw [hk5, List.map_append, List.map_append, hl0, we, List.append_assoc]
    obtain ⟨σ6, τ6, c6, m6, f1, f2, f3, f4, f5, f6, f7, f8, f9, f10⟩ := cm_forget B1.1 hk5 (by omega) (by omega) hT5
    rw [f1, bv_ok]
    have c146 := f3.c14 hT5
    have X1 := f3.C (by omega) hT5 30 (Int32.ofNat (c + 1)) 0 0 0
    have X2 := X1.1.M (by omega) 21 (Int32.ofNat m) 0 0
    have gX1 := cP_get σ6 c6 30 (Int32.ofNat (c + 1)) 0 0 0
    have oX1 := cP_o σ6 c6 30 (Int32.ofNat (c + 1)) 0 0 0
    have gX2 := mP_get τ6 m6 21 (Int32.ofNat m) 0 0
    have oX2 := mP_o τ6 m6 21 (Int32.ofNat m) 0 0
    -- acts that were laid before the block
    have zA : fz 0 (c + 6) 0 (m + 3) σ11 _ σ5 τ5 := j4.2.2.2.2.2.2
    have zB : fz 0 (c + 6) 0 (m + 3) _ _ σ11 (mW τ11 ((36, Int32.ofNat m, Int32.ofNat nl, Int32.ofNat (z0.2.1.length + baseN R0)) :: W).length (0, 0, 0, 0)) := (w4.2.2.2.2.2.2).tr (P12.2.2.2.2.2.2.2)
    have C3 : ∀ k j, 22 ≤ k → k ≤ 26 → j < c + 6 → σ5.1 k j = (cP (cP (cP (cP (cP (cP σ1 c 35 (Int32.ofNat fl.length) 1 0 Ln) (c + 1) 0 0 0 0 0) (c + 1 + 1) 38 (Int32.ofNat fl.length) 0 0 Ln) (c + 1 + 1 + 1) 16 0 0 0 Ln) (c + 1 + 1 + 1 + 1) 20 (Int32.ofNat nk) 1 0 Ln) (c + 1 + 1 + 1 + 1 + 1) 39 (Int32.ofNat nl) (Int32.ofNat (nk + 256 * fl.length)) 0 0).1 k j := fun k j v1 v2 v3 => by
      rw [zA.1 k j v1 v2 (Nat.zero_le _) v3, zB.1 k j v1 v2 (Nat.zero_le _) v3, b5 k j (by omega) (by omega) (by omega)]
    have g39 := cP_get (cP (cP (cP (cP (cP σ1 c 35 (Int32.ofNat fl.length) 1 0 Ln) (c + 1) 0 0 0 0 0) (c + 1 + 1) 38 (Int32.ofNat fl.length) 0 0 Ln) (c + 1 + 1 + 1) 16 0 0 0 Ln) (c + 1 + 1 + 1 + 1) 20 (Int32.ofNat nk) 1 0 Ln) (c + 1 + 1 + 1 + 1 + 1) 39 (Int32.ofNat nl) (Int32.ofNat (nk + 256 * fl.length)) 0 0
    have x39 : (cP σ6 c6 30 (Int32.ofNat (c + 1)) 0 0 0).1 22 (c + 5) = 39 := by rw [oX1 22 _ (by omega) (by omega), f5.1 22 (c + 5) (by omega) (by omega) (by omega) (by omega), C3 22 (c + 5) (by omega) (by omega) (by omega)]; exact g39.1
    rw [c_put3 f3.2.1.2.2.2.2.1 (by omega), bi_ok, show Int32.ofNat (c + 1 + 1 + 1 + 1 + 1) = Int32.ofNat (c + 5) from rfl, c_landF (j := c + 5) gX1.2.2.2.2.2 (by omega) (Or.inr x39), bv_ok]
    have X4 := X2.1.p23 (c + 5) 25 (Or.inr rfl) (Int32.ofNat (c6 + 1))
    have hnb5 : ∀ j ∈ (nb.map (·.1) ++ ([] : List Nat)), j < c5 ∧ c + 6 ≤ j ∧ σ5.1 22 j = 30 := fun j hj => by
      rw [List.append_nil] at hj
      obtain ⟨x, hx, rfl⟩ := List.mem_map.1 hj
      have := j10 x hx
      exact ⟨(by omega), (by omega), this.2.2.2.2.1⟩
    have hmb5 : ∀ j ∈ (nb.map (·.2) ++ [m + 1 + 1]), j = m + 2 ∨ (m + 3 ≤ j ∧ j < m5) := fun j hj => by
      rcases List.mem_append.1 hj with u | u
      · obtain ⟨x, hx, rfl⟩ := List.mem_map.1 u
        have := j10 x hx
        exact Or.inr ⟨(by omega), (by omega)⟩
      · rw [List.mem_singleton] at u
        exact Or.inl u
    have hZlt := h.2.2.2.1.2.2.2.2.2.2.2.2.2.2
    have hml := h.2.2.2.2.2
    obtain ⟨σ8, τ8, d1, d2, d3, d4, d5, d6, d7, d8, d9, d10⟩ := cm_leave (x := (z0.1, R0.length, z0.2.1.length, nb.map (·.1) ++ [], nb.map (·.2) ++ [m + 1 + 1])) (Y := Z) X4.1 hT5 (by omega) (fun j hj => by have := hnb5 j hj; rw [lj_put_1, if_neg (by omega), oX1 22 j (by omega) (by omega), f5.1 22 j (by omega) (by omega) (by omega) (by omega)]; exact this.2.2) (fun y hy j hj hj2 => by have q1 := (hZlt y hy).2 j hj; have := hmb5 j hj2; omega) nl
    rw [d1, bv_ok]
    have X5 := d3.M (by omega) 44 3 0 0
    obtain ⟨hS8, V1, V2⟩ := X5.1.ucl hT5
    obtain ⟨u49, U1, U2⟩ := V1.unh
    have e50 : σ8.1 5 0 = Int32.ofNat (c6 + 1) := d3.2.1.2.2.2.2.1
    have clo : ∀ k j, k ≠ 40 → (clS σ8 S).1 k j = σ8.1 k j := fun k j q => by
      unfold clS
      rw [lj_put_1, if_neg (by omega), lj_put_1, if_neg (by omega), lj_put_1, if_neg (by omega)]
    have u49 : (clS σ8 S).1 49 z5.1 = Int32.ofNat (fl.length + 1) := u49
    have U1 : PS b n T Q X F5 ((z5.1, z0.2.1, z5.2.2) :: R5) (((nl5, rv), fl) :: FO0) Z PL _ _ p5 v (c6 + 1) (m6 + 3) wh5 W (lj_put (clS σ8 S) 49 z5.1 (Int32.ofNat fl.length)) (mP τ8 (m6 + 1 + 1) 44 3 0 0) := U1
    have h628 : σ8.1 6 2 = Int32.ofNat z5.1 := d3.1.2.2.1.2.2.2.2.2.2.1
    have z551 : z5.1 < 51 := by rw [hz5]; exact hz51
    have i851 : lj_in (Int32.ofNat z5.1) 51 := ofN_in z551 (by omega)
    have ps5 := c_pass U1.1.1 hp5 U1.2.1.1 15 (by omega)
    have iS0 : lj_in (Int32.ofNat S) 4000 := ofN_in (by omega) (by omega)
    have iS1 : lj_in (Int32.ofNat (S + 1)) 4000 := ofN_in (by omega) (by omega)
    have iS2 : lj_in (Int32.ofNat (S + 2)) 4000 := ofN_in (by omega) (by omega)
    have ecl : lj_put (lj_put (lj_put (lj_put σ8 40 S (σ8.1 5 0)) 40 (S + 1) (σ8.1 5 0)) 40 (S + 2) (σ8.1 5 0)) 49 z5.1 (σ8.1 49 z5.1 - 1) = lj_put (clS σ8 S) 49 z5.1 (Int32.ofNat fl.length) := by
      rw [← clo 49 z5.1 (by omega), u49, lz_pred']; rfl
    simp only [h628, if_pos i851, if_pos iS0, if_pos iS1, if_pos iS2, lz_onat (show z5.1 < 2147483648 by omega), lz_onat (show S < 2147483648 by omega), lz_onat (show S + 1 < 2147483648 by omega), lz_onat (show S + 2 < 2147483648 by omega), ecl]
    have nw5 := m_needWord B1.1.1.1 hp5 B1.1.2.1.2.1 B1.1.2.1.2.2.2.2.2.2.2.2.2 5 (by omega) 6 rfl
    have ge5 : ∀ y τ2, (y = 0 ∨ y = 1) → lj_R lm_P 102 [.ref 0, .int (Int32.ofNat m), .int (Int32.ofNat nl), .int (Int32.ofNat (z0.2.1.length + baseN R0))] (lj_put τ5 0 46 (Int32.ofNat W.length)) = some (.inl (some (.int y)), τ2) → mLoop τ5 = mNx y τ2 := fun y τ2 hy e => j3.go hy (by rw [rm_30, km_30_0, if_neg (by decide), if_neg (by decide), if_neg (by decide), if_neg (by decide), if_neg (by decide), if_neg (by decide), if_neg (by decide), if_neg (by decide), if_neg (by decide), if_neg (by decide), if_neg (by decide), if_neg (by decide), if_neg (by decide), if_neg (by decide), if_neg (by decide), if_neg (by decide), if_neg (by decide), if_neg (by decide), if_neg (by decide), if_neg (by decide), if_neg (by decide), rm_86, km_86_0, if_neg (by decide), if_neg (by decide), if_neg (by decide), if_neg (by decide), if_neg (by decide), if_neg (by decide), if_neg (by decide), if_neg (by decide), if_neg (by decide), if_neg (by decide), if_neg (by decide), if_neg (by decide), if_neg (by decide), if_neg (by decide), if_neg (by decide), if_pos rfl, e, bi_ok, bi_ok, vpb y hy, vpb y hy])
    have eE : lj_R lm_P 102 [.ref 0, .int (Int32.ofNat m), .int (Int32.ofNat nl), .int (Int32.ofNat (z0.2.1.length + baseN R0))] (lj_put τ5 0 46 (Int32.ofNat W.length)) = _ := rm_102 _ _ _ _
    rw [km_102_0, nw5] at eE
    by_cases a15 : (Q p5).1 = 15
    · have hlt5 : p5 < T := j3.lt (by omega) (by omega)
      have V := U1.st hlt5
      rw [if_pos a15] at ps5
      rw [hb5] at f2
      rw [if_pos (show (Q p5).1 = 10 + 5 by omega), bi_ok, if_neg (by decide), m58_25 B1.1.2.1.2.2.2.2.2.1 (by omega) f2, bv_ok, m_emit (by rw [lj_put_1, if_neg (by omega)]; exact f3.2.1.2.2.2.2.2.1) (by omega), bi_ok, mP_25, mR94_25 X4.1 hT5 d2, bv_ok, m_emit (by rw [lj_put_1, if_neg (by omega)]; exact d3.2.1.2.2.2.2.2.1) (by omega), bi_ok, mP_25] at eE
      rw [show lj_R lc_P 71 [.ref 6, .int 15] (lj_put (clS σ8 S) 49 z5.1 (Int32.ofNat fl.length)) = _ from ps5, bv_ok, ge5 1 _ (Or.inr rfl) eE, nx1 V.1.2.1]
      have nbC : ∀ j, (c5 ≤ j ∨ j < c + 6) → j ∉ nb.map (·.1) ++ ([] : List Nat) := fun j hj w => by have := hnb5 j w; omega
      have nbM : ∀ j, j ≠ m + 2 → (m5 ≤ j ∨ j < m + 3) → j ∉ nb.map (·.2) ++ [m + 1 + 1] := fun j q2 q3 w => by have := hmb5 j w; omega
      have tx : TX (z5 :: R5) σ5 (lj_put τ5 0 46 (Int32.ofNat W.length)) _ _ := (((((((f4.tr (X1.2.tr X2.2).1 (fun _ _ q => q)).tr X4.2.1 (fun _ _ q => q)).tr d4 (fun _ _ q => q)).tr X5.2.1 (fun _ _ q => q)).tr V2.1 (fun _ _ q => q)).tr U2.1 (fun _ _ q => q)).tr V.2.1 (fun _ _ q => q))
      have z8 : fz 0 (c + 5) 0 (m + 2) _ _ σ8 τ8 := ⟨fun k j w1 w2 _ w4 => d6 k j w1 w2 (fun w => nbC j (by omega) w.2), fun k j w1 w2 _ w4 => d8 k j w1 w2 (by omega) (fun w => nbM j (by omega) (by omega) w.2)⟩
      have zz : fz 0 (c + 5) 0 (m + 2) σ5 (lj_put τ5 0 46 (Int32.ofNat W.length)) _ _ := (((((f5.mo (by omega) (by omega) (by omega) (by omega)).tr ((X1.2.tr X2.2).2.2.2.2.2.2.mo (by omega) (by omega) (by omega) (by omega))).tr (X4.2.2.mo (by omega) (by omega) (by omega) (by omega))).tr z8).tr (X5.2.2.2.2.2.2.2.mo (by omega) (by omega) (by omega) (by omega))).tr ((V2.2.2.2.2.2.2.mo (by omega) (by omega) (by omega) (by omega)).tr ((U2.2.2.2.2.2.2.mo (by omega) (by omega) (by omega) (by omega)).tr (V.2.2.2.2.2.2.2.mo (by omega) (by omega) (by omega) (by omega))))
      have gfin := GS_fg2 (c' := c6 + 1) (m' := m6 + 3) rfl rfl gsA tx (zz.mo (by omega) (by omega) (by omega) (by omega)) (by omega) (by omega)
      refine Or.inr ⟨_, _, p5 + 1, c6 + 1, m6 + 3, wh5, F5, _, nl5, rfl, rfl, V.1.top, ⟨gfin.1, gfin.2.1, gfin.2.2.1, (by omega), gfin.2.2.2.2⟩, (by omega), (by omega), (by omega), (by omega), fun σ2 τ2 L => ?_⟩
      have SC : ∀ k j, 22 ≤ k → k ≤ 26 → c ≤ j → j < c6 + 1 → σ2.1 k j = σ8.1 k j := fun k j v1 v2 v3 v4 => by rw [L.2.1 k j v1 v2 v3 v4, lj_put_1, if_neg (by omega), lj_put_1, if_neg (by omega), clo k j (by omega)]
      have gX5 := mP_get τ8 (m6 + 1 + 1) 44 3 0 0
      have oX5 := mP_o τ8 (m6 + 1 + 1) 44 3 0 0
      have SM : ∀ k j, 20 ≤ k → k ≤ 23 → m ≤ j → j < m6 + 3 → τ2.1 k j = (mP τ8 (m6 + 1 + 1) 44 3 0 0).1 k j := fun k j v1 v2 v3 v4 => by rw [L.2.2 k j v1 v2 v3 v4, lj_put_1, if_neg (by omega)]
      have C6 : ∀ k j, 22 ≤ k → k ≤ 26 → c ≤ j → j < c6 → ¬ (k = 23 ∧ j ∈ nb.map (·.1) ++ ([] : List Nat)) → ¬ (k = 25 ∧ j = c + 5) → σ2.1 k j = σ6.1 k j := fun k j v1 v2 v3 v4 v5 v6 => by rw [SC k j v1 v2 v3 (by omega), d6 k j v1 v2 v5, lj_put_1, if_neg (by omega), oX1 k j (by omega) (by omega)]
      have M6 : ∀ k j, 20 ≤ k → k ≤ 23 → m ≤ j → j < m6 → ¬ (k = 21 ∧ j ∈ nb.map (·.2) ++ [m + 1 + 1]) → τ2.1 k j = τ6.1 k j := fun k j v1 v2 v3 v4 v5 => by rw [SM k j v1 v2 v3 (by omega), oX5 k j (by omega) (by omega), d8 k j v1 v2 (by omega) v5, oX2 k j (by omega) (by omega)]
      have C0 : ∀ k j, 22 ≤ k → k ≤ 26 → c ≤ j → j < c + 6 → ¬ (k = 25 ∧ j = c + 5) → σ2.1 k j = (cP (cP (cP (cP (cP (cP σ1 c 35 (Int32.ofNat fl.length) 1 0 Ln) (c + 1) 0 0 0 0 0) (c + 1 + 1) 38 (Int32.ofNat fl.length) 0 0 Ln) (c + 1 + 1 + 1) 16 0 0 0 Ln) (c + 1 + 1 + 1 + 1) 20 (Int32.ofNat nk) 1 0 Ln) (c + 1 + 1 + 1 + 1 + 1) 39 (Int32.ofNat nl) (Int32.ofNat (nk + 256 * fl.length)) 0 0).1 k j := fun k j v1 v2 v3 v4 v5 => by rw [C6 k j v1 v2 v3 (by omega) (fun w => nbC j (by omega) w.2) v5, f5.1 k j v1 v2 (by omega) (by omega), C3 k j v1 v2 v4]
      have M3 : ∀ k j, 20 ≤ k → k ≤ 23 → j < m + 3 → τ5.1 k j = (mP τ7 (m + 1 + 1) 43 (-1) (Int32.ofNat (nk * 100 + nl)) 0).1 k j := fun k j v1 v2 v3 => by
        rw [zA.2 k j v1 v2 (Nat.zero_le _) v3, zB.2 k j v1 v2 (Nat.zero_le _) v3, mW_o _ _ _ _ _ (by omega) (by omega), lj_put_1, if_neg (by omega)]
      have M0 : ∀ k j, 20 ≤ k → k ≤ 23 → m ≤ j → j < m + 3 → ¬ (k = 21 ∧ j = m + 2) → τ2.1 k j = (mP τ7 (m + 1 + 1) 43 (-1) (Int32.ofNat (nk * 100 + nl)) 0).1 k j := fun k j v1 v2 v3 v4 v5 => by rw [M6 k j v1 v2 v3 (by omega) (fun w => nbM j (by omega) (by omega) w.2), f5.2 k j v1 v2 (by omega) (by omega), lj_put_1, if_neg (by omega), M3 k j v1 v2 v4]
      have tx' : TX ((z5.1, z0.2.1, z5.2.2) :: R5) σ6 τ6 σ2 τ2 := (((((((X1.2.tr X2.2).1.tr X4.2.1 (fun _ _ q => q)).tr d4 (fun _ _ q => q)).tr X5.2.1 (fun _ _ q => q)).tr V2.1 (fun _ _ q => q)).tr U2.1 (fun _ _ q => q)).tr V.2.1 (fun _ _ q => q)).tr L.1 (fun _ _ q => q)
      have TX5 : TX (z5 :: R5) σ5 τ5 σ2 τ2 := (B1.2.1.tr tx (fun _ _ q => q)).tr L.1 (fun _ _ q => q)
      have g1A : GS (e ++ e1) (z0 :: R0) (z5 :: R5) F F5 p p5 (c + 4) c5 (m + 1) m5 _ _ σ5 τ5 := (((((A3.2.tr (A4.2.tr P6.2)).tr (b4.tr (P8.2.tr (P9.2.tr P10.2)))).s (by simp) w4).r P12.2).tr j4)
      have T1 : TX (z0 :: R0) (cP (cP (cP (cP σ1 c 35 (Int32.ofNat fl.length) 1 0 Ln) (c + 1) 0 0 0 0 0) (c + 1 + 1) 38 (Int32.ofNat fl.length) 0 0 Ln) (c + 1 + 1 + 1) 16 0 0 0 Ln) (mP τ m 0 0 0 0) σ2 τ2 := g1A.1.tr TX5 (fun q _ hq => by rw [lvY_q g1A.2.1]; exact hq)
      have T0 : TX (z0 :: R0) σ0 τ σ2 τ2 := (G1.tr (P2.2.tr (P4.2.tr (P5.2.tr (A1.2.tr A2.2))))).1.tr T1 (fun _ _ q => q)
      have hzF : z0.1 < F := P0.1.2.2.2.2.1 z0 (List.mem_cons_self)
      have e58 : lv σ0 5 8 = (F : Int) := by unfold lv; rw [P0.1.2.2.2.1.1, lz_lit (by have := P0.1.2.2.2.1.2.2.1; omega)]
      have hd2 : (fl.length : Int) < lv σ2 32 f := by
        have := (T0.2.2.2.2.2.2.1 z0.1 (by rw [e58]; omega)).2.2.2.1.1
        rw [← hf0]
        omega
      have hscl : scl σ2 f (c + 3) (4 :: s) l 50 := by
        have hS4 := A1.1.1.2.2.2.2.2
        rw [← hf0, ← hl0]
        exact scl_mk hS4.2 hS4.1 (cP_lf (cP (cP (cP σ1 c 35 (Int32.ofNat fl.length) 1 0 Ln) (c + 1) 0 0 0 0 0) (c + 1 + 1) 38 (Int32.ofNat fl.length) 0 0 Ln) (c + 1 + 1 + 1) 16 0 0 0 Ln) (by unfold lv; rw [(cP_get _ _ _ _ _ _ _).2.2.2.2.2, lz_lit (by omega)]) T1 (by omega) (by rw [flo_4, hs.1, fmn_app]; show _ = _ ++ [min (4 + S) 4]; rw [Nat.min_eq_right (by omega)])
      have hd : fl.length = (flo s).length := by rw [hs.1, fmn_len]
      have h31 := (P0.l31 ⟨z0, R0, rfl, hf0, hl0⟩ T0).1
      have hsB4 : sB (4 :: s) := hs.sb4 (by omega) 4 (Or.inr rfl)
      -- the way out
      have ex : ∀ d, nl ≤ d → d ≤ 50 → ∀ E : pT → Prop, E (f, c6 + 1, m6 + 3, s, l, 50) → seg σ2 τ2 (f, c6 + 1, m6 + 1, 4 :: s, l, d) E := fun d v1 v2 E hE => by
        refine seg_in [(f, c6 + 1, m6 + 2, 4 :: s, l, 50)] ⟨45, nl, (by omega), by show τ2.1 20 (m6 + 1) = 20; rw [SM 20 _ (by omega) (by omega) (by omega) (by omega), oX5 20 _ (by omega) (by omega)]; exact d9, by show τ2.1 21 (m6 + 1) = _; rw [SM 21 _ (by omega) (by omega) (by omega) (by omega), oX5 21 _ (by omega) (by omega)]; exact d10, v1, hl, rfl⟩ (fun y hy => ?_)
        rw [List.mem_singleton.1 hy]
        refine seg_in [(f, c6 + 1, m6 + 3, s, l, 50)] ⟨49, s, Or.inr rfl, by show τ2.1 20 (m6 + 2) = 44; rw [SM 20 _ (by omega) (by omega) (by omega) (by omega)]; exact gX5.1, by show τ2.1 21 (m6 + 2) = 3; rw [SM 21 _ (by omega) (by omega) (by omega) (by omega)]; exact gX5.2.1, rfl⟩ (fun y hy => ?_)
        rw [List.mem_singleton.1 hy]
        exact seg_ex hE
      have g35 := cP_get σ1 c 35 (Int32.ofNat fl.length) 1 0 Ln
      have gSt := cP_get (cP σ1 c 35 (Int32.ofNat fl.length) 1 0 Ln) (c + 1) 0 0 0 0 0
      have g38 := cP_get (cP (cP σ1 c 35 (Int32.ofNat fl.length) 1 0 Ln) (c + 1) 0 0 0 0 0) (c + 1 + 1) 38 (Int32.ofNat fl.length) 0 0 Ln
      have g16 := cP_get (cP (cP (cP σ1 c 35 (Int32.ofNat fl.length) 1 0 Ln) (c + 1) 0 0 0 0 0) (c + 1 + 1) 38 (Int32.ofNat fl.length) 0 0 Ln) (c + 1 + 1 + 1) 16 0 0 0 Ln
      have g20 := cP_get (cP (cP (cP (cP σ1 c 35 (Int32.ofNat fl.length) 1 0 Ln) (c + 1) 0 0 0 0 0) (c + 1 + 1) 38 (Int32.ofNat fl.length) 0 0 Ln) (c + 1 + 1 + 1) 16 0 0 0 Ln) (c + 1 + 1 + 1 + 1) 20 (Int32.ofNat nk) 1 0 Ln
      have oK2 := cP_o (cP σ1 c 35 (Int32.ofNat fl.length) 1 0 Ln) (c + 1) 0 0 0 0 0
      have oK3 := cP_o (cP (cP σ1 c 35 (Int32.ofNat fl.length) 1 0 Ln) (c + 1) 0 0 0 0 0) (c + 1 + 1) 38 (Int32.ofNat fl.length) 0 0 Ln
      have oK4 := cP_o (cP (cP (cP σ1 c 35 (Int32.ofNat fl.length) 1 0 Ln) (c + 1) 0 0 0 0 0) (c + 1 + 1) 38 (Int32.ofNat fl.length) 0 0 Ln) (c + 1 + 1 + 1) 16 0 0 0 Ln
      have oK5 := cP_o (cP (cP (cP (cP σ1 c 35 (Int32.ofNat fl.length) 1 0 Ln) (c + 1) 0 0 0 0 0) (c + 1 + 1) 38 (Int32.ofNat fl.length) 0 0 Ln) (c + 1 + 1 + 1) 16 0 0 0 Ln) (c + 1 + 1 + 1 + 1) 20 (Int32.ofNat nk) 1 0 Ln
      have oK6 := cP_o (cP (cP (cP (cP (cP σ1 c 35 (Int32.ofNat fl.length) 1 0 Ln) (c + 1) 0 0 0 0 0) (c + 1 + 1) 38 (Int32.ofNat fl.length) 0 0 Ln) (c + 1 + 1 + 1) 16 0 0 0 Ln) (c + 1 + 1 + 1 + 1) 20 (Int32.ofNat nk) 1 0 Ln) (c + 1 + 1 + 1 + 1 + 1) 39 (Int32.ofNat nl) (Int32.ofNat (nk + 256 * fl.length)) 0 0
      have gMs := mP_get τ m 0 0 0 0
      have g42 := mP_get (mP τ m 0 0 0 0) (m + 1) 42 (Int32.ofNat nk) 0 Ln
      have oM2 := mP_o (mP τ m 0 0 0 0) (m + 1) 42 (Int32.ofNat nk) 0 Ln
      refine seg_in [(f, c + 1, m, 4 :: s, l, 50)] ⟨50, fl.length, s, rfl, hd, hd2, ?_, ?_, ?_, rfl⟩ (fun y hy => ?_)
      · show σ2.1 22 c = 35
        rw [C0 22 c (by omega) (by omega) (by omega) (by omega) (by omega), oK6 22 c (by omega) (by omega), oK5 22 c (by omega) (by omega), oK4 22 c (by omega) (by omega), oK3 22 c (by omega) (by omega), oK2 22 c (by omega) (by omega)]; exact g35.1
      · show σ2.1 23 c = _
        rw [C0 23 c (by omega) (by omega) (by omega) (by omega) (by omega), oK6 23 c (by omega) (by omega), oK5 23 c (by omega) (by omega), oK4 23 c (by omega) (by omega), oK3 23 c (by omega) (by omega), oK2 23 c (by omega) (by omega)]; exact g35.2.1
      · show σ2.1 24 c = 1
        rw [C0 24 c (by omega) (by omega) (by omega) (by omega) (by omega), oK6 24 c (by omega) (by omega), oK5 24 c (by omega) (by omega), oK4 24 c (by omega) (by omega), oK3 24 c (by omega) (by omega), oK2 24 c (by omega) (by omega)]; exact g35.2.2.1
      · rw [List.mem_singleton.1 hy]
        have st0 : σ2.1 22 (c + 1) = 0 := by
          rw [C0 22 _ (by omega) (by omega) (by omega) (by omega) (by omega), oK6 22 _ (by omega) (by omega), oK5 22 _ (by omega) (by omega), oK4 22 _ (by omega) (by omega), oK3 22 _ (by omega) (by omega)]; exact gSt.1
        have st1 : τ2.1 20 m = 0 := by
          rw [M0 20 _ (by omega) (by omega) (by omega) (by omega) (by omega), o8 20 _ (by omega) (by omega), b6 20 _ (by omega) (by omega) (by omega), oM2 20 _ (by omega) (by omega)]; exact gMs.1
        refine seg_loop [(f, c + 2, m + 1, 4 :: s, l, 50)] ⟨st0, st1, rfl⟩ (fun y hy => ?_)
        · rw [List.mem_singleton.1 hy]
          refine seg_in [(f, c + 6, m + 3, 4 :: s, ((List.range nk).map (nl + ·)).reverse ++ l, 50), (f, c6 + 1, m6 + 1, 4 :: s, l, 50)] ⟨51, fl.length, nk, nl, c6 + 1, m6 + 1, s, (by omega), ⟨by omega, by first | omega | (dsimp only; omega), by first | omega | (dsimp only; omega)⟩, hk0, ⟨sl2, hl, h31⟩, rfl, hd, hd2, ?_, ?_, ?_, ?_, ?_, ?_, ?_, ?_, ?_, ?_, ?_, ?_, ?_, ?_, ?_, ?_, hscl, rfl⟩ (fun y hy => ?_)
          · show σ2.1 22 (c + 2) = 38
            rw [C0 22 _ (by omega) (by omega) (by omega) (by omega) (by omega), oK6 22 _ (by omega) (by omega), oK5 22 _ (by omega) (by omega), oK4 22 _ (by omega) (by omega)]; exact g38.1
          · show σ2.1 23 (c + 2) = _
            rw [C0 23 _ (by omega) (by omega) (by omega) (by omega) (by omega), oK6 23 _ (by omega) (by omega), oK5 23 _ (by omega) (by omega), oK4 23 _ (by omega) (by omega)]; exact g38.2.1
          · show σ2.1 22 (c + 3) = 16
            rw [C0 22 _ (by omega) (by omega) (by omega) (by omega) (by omega), oK6 22 _ (by omega) (by omega), oK5 22 _ (by omega) (by omega)]; exact g16.1
          · show σ2.1 26 (c + 3) = τ2.1 23 (m + 1)
            rw [C0 26 _ (by omega) (by omega) (by omega) (by omega) (by omega), oK6 26 _ (by omega) (by omega), oK5 26 _ (by omega) (by omega), M0 23 _ (by omega) (by omega) (by omega) (by omega) (by omega), o8 23 _ (by omega) (by omega), b6 23 _ (by omega) (by omega) (by omega)]
            exact g16.2.2.2.2.1.trans g42.2.2.2.1.symm
          · show σ2.1 22 (c + 4) = 20
            rw [C0 22 _ (by omega) (by omega) (by omega) (by omega) (by omega), oK6 22 _ (by omega) (by omega)]; exact g20.1
          · show σ2.1 23 (c + 4) = _
            rw [C0 23 _ (by omega) (by omega) (by omega) (by omega) (by omega), oK6 23 _ (by omega) (by omega)]; exact g20.2.1
          · show σ2.1 24 (c + 4) = 1
            rw [C0 24 _ (by omega) (by omega) (by omega) (by omega) (by omega), oK6 24 _ (by omega) (by omega)]; exact g20.2.2.1
          · show σ2.1 22 (c + 5) = 39
            rw [C0 22 _ (by omega) (by omega) (by omega) (by omega) (by omega)]; exact g39.1
          · show σ2.1 23 (c + 5) = _
            rw [C0 23 _ (by omega) (by omega) (by omega) (by omega) (by omega)]; exact g39.2.1
          · show σ2.1 24 (c + 5) = _
            rw [C0 24 _ (by omega) (by omega) (by omega) (by omega) (by omega)]; exact g39.2.2.1
          · show σ2.1 25 (c + 5) = _
            rw [SC 25 _ (by omega) (by omega) (by omega) (by omega), d6 25 _ (by omega) (by omega) (by omega), lj_put_1, if_pos ⟨rfl, rfl⟩]
          · show τ2.1 20 (m + 1) = 42
            rw [M0 20 _ (by omega) (by omega) (by omega) (by omega) (by omega), o8 20 _ (by omega) (by omega), b6 20 _ (by omega) (by omega) (by omega)]; exact g42.1
          · show τ2.1 21 (m + 1) = _
            rw [M0 21 _ (by omega) (by omega) (by omega) (by omega) (by omega), o8 21 _ (by omega) (by omega), b6 21 _ (by omega) (by omega) (by omega)]; exact g42.2.1
          · show τ2.1 20 (m + 2) = 43
            rw [M0 20 _ (by omega) (by omega) (by omega) (by omega) (by omega)]; exact g8.1
          · show τ2.1 21 (m + 2) = _
            rw [SM 21 _ (by omega) (by omega) (by omega) (by omega), oX5 21 _ (by omega) (by omega)]; exact d7 (m + 2) (List.mem_append_right _ (List.mem_singleton.2 rfl))
          · show τ2.1 22 (m + 2) = Int32.ofNat (100 * nk + nl)
            rw [show 100 * nk + nl = nk * 100 + nl from by omega, M0 22 _ (by omega) (by omega) (by omega) (by omega) (by omega)]; exact g8.2.2.1
          · rcases List.mem_cons.1 hy with hy | hy
            · rw [hy, hl1]
              refine (j12 σ2 τ2 ⟨TX5, fun k j v1 v2 v3 v4 v5 => ?_, fun k j v1 v2 v3 v4 v5 => ?_⟩).tr (fun y hy => ?_)
              · rw [C6 k j v1 v2 (by omega) (by omega) (fun w => by
                  rw [List.append_nil] at w
                  obtain ⟨x, hx, ex⟩ := List.mem_map.1 w.2
                  exact v5 w.1 x hx ex) (by omega), f5.1 k j v1 v2 (by omega) (by omega)]
              · rw [M6 k j v1 v2 (by omega) (by omega) (fun w => by
                  rcases List.mem_append.1 w.2 with u | u
                  · obtain ⟨x, hx, ex⟩ := List.mem_map.1 u
                    exact v5 w.1 x hx ex
                  · rw [List.mem_singleton] at u
                    omega), f5.2 k j v1 v2 (by omega) (by omega), lj_put_1, if_neg (by omega)]
              · rcases hy with hy | ⟨x, hx, d, x1, x2, x3⟩
                · rw [hy, ← hl5, ← hf0, ← hz5]
                  refine (f10 (4 :: s) hsB4 σ2 τ2 ⟨tx', fun k j v1 v2 v3 v4 => C6 k j v1 v2 (by omega) (by omega) (fun w => nbC j (by omega) w.2) (by omega), fun k j v1 v2 v3 v4 => M6 k j v1 v2 (by omega) (by omega) (fun w => nbM j (by omega) (by omega) w.2)⟩).tr (fun y hy => ?_)
                  rw [hy, hl0, hz5, hf0]
                  refine seg_in [(f, c + 1, m, 4 :: s, l, 50)] ⟨37, c + 1, m, (by omega), ⟨(by omega), Or.inr ⟨st0, st1⟩⟩, ?_, ?_, ?_, ?_, rfl⟩ (fun y hy => ?_)
                  · show σ2.1 22 c6 = 30
                    rw [SC 22 c6 (by omega) (by omega) (by omega) (by omega), d6 22 c6 (by omega) (by omega) (by omega), lj_put_1, if_neg (by omega)]; exact gX1.1
                  · show σ2.1 23 c6 = _
                    rw [SC 23 c6 (by omega) (by omega) (by omega) (by omega), d6 23 c6 (by omega) (by omega) (fun w => nbC c6 (by omega) w.2), lj_put_1, if_neg (by omega)]; exact gX1.2.1
                  · show τ2.1 20 m6 = 21
                    rw [SM 20 m6 (by omega) (by omega) (by omega) (by omega), oX5 20 m6 (by omega) (by omega), d8 20 m6 (by omega) (by omega) (by omega) (by omega)]; exact gX2.1
                  · show τ2.1 21 m6 = _
                    rw [SM 21 m6 (by omega) (by omega) (by omega) (by omega), oX5 21 m6 (by omega) (by omega), d8 21 m6 (by omega) (by omega) (by omega) (fun w => nbM m6 (by omega) (by omega) w.2)]; exact gX2.2.1
                  · rw [List.mem_singleton.1 hy]; exact seg_ex (Or.inr rfl)
                · rw [x3]
                  obtain ⟨y1, y2, y3, y4, y5, y6⟩ := j10 x hx
                  have s1 : σ2.1 22 x.1 = 30 := by rw [C6 22 x.1 (by omega) (by omega) (by omega) (by omega) (by omega) (by omega), f5.1 22 x.1 (by omega) (by omega) (by omega) (by omega)]; exact y5
                  have s2 : σ2.1 23 x.1 = Int32.ofNat (c6 + 1) := by rw [SC 23 x.1 (by omega) (by omega) (by omega) (by omega)]; exact d5 x.1 (List.mem_append_left _ (List.mem_map.2 ⟨x, hx, rfl⟩))
                  have s3 : τ2.1 20 x.2 = 21 := by rw [M6 20 x.2 (by omega) (by omega) (by omega) (by omega) (by omega), f5.2 20 x.2 (by omega) (by omega) (by omega) (by omega), lj_put_1, if_neg (by omega)]; exact y6
                  have s4 : τ2.1 21 x.2 = Int32.ofNat (m6 + 1) := by rw [SM 21 x.2 (by omega) (by omega) (by omega) (by omega), oX5 21 x.2 (by omega) (by omega)]; exact d7 x.2 (List.mem_append_left _ (List.mem_map.2 ⟨x, hx, rfl⟩))
                  exact seg_in [(f, c6 + 1, m6 + 1, 4 :: s, l, d)] ⟨37, c6 + 1, m6 + 1, (by omega), ⟨by omega, Or.inl ⟨by first | omega | (dsimp only; omega), by first | omega | (dsimp only; omega)⟩⟩, s1, s2, s3, s4, rfl⟩ (fun y hy => by rw [List.mem_singleton.1 hy]; exact ex d x1 x2 _ (Or.inl rfl))
            · rw [List.mem_singleton.1 hy]; exact ex 50 (by omega) (by omega) _ (Or.inl rfl)
    · rw [if_neg a15] at ps5
      rw [if_neg (show ¬ (Q p5).1 = 10 + 5 by omega), bi_ok, if_pos rfl] at eE
      rw [show lj_R lc_P 71 [.ref 6, .int 15] (lj_put (clS σ8 S) 49 z5.1 (Int32.ofNat fl.length)) = _ from ps5, ge5 0 _ (Or.inl rfl) eE, nx0]
      exact Or.inl (flt_bv (B1.1.flt hT5 2 (Or.inl rfl) _) _)
