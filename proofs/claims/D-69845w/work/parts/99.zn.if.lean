/-! if: its arms -/
/-- an arm, behind the word that begins it -/
noncomputable def ifC (x1 : Int32) (σ : lj_S) : Option lj_O :=
  lj_bv (lj_R lc_P 73 [.ref 6] σ) (fun σ5 => lj_bi (lj_R lc_P 54 [.ref 5, .int 31, .int 0, .int 0] σ5) (fun y7 σ6 => lj_bv (lj_R lc_P 71 [.ref 6, .int 27] σ6) (fun σ8 => lj_bv (lj_R lc_P 68 [.ref 6] σ8) (fun σ9 => lj_bi (lj_R lc_P 55 [.ref 5, .int 30, .int 0, .int x1, .int 0, .int 0] σ9) (fun y11 σ10 => lj_bv (lj_R lc_P 57 [.ref 5, .int y7] σ10) (fun σ12 => lj_bi (lj_R lc_P 63 [.ref 6] σ12) (fun y14 σ13 => (if y14 = 14 then lj_D lc_P lc_M101 83 [.ref 6, .int y11, .int 1, .int y7] [.int 1] σ13 else lj_D lc_P lc_M101 83 [.ref 6, .int y11, .int 1, .int y7] [.int 0] σ13)) lj_up) lj_up) lj_up) lj_up) lj_up) lj_up) lj_up
theorem if_C (x1 : Int32) (x3 : Value) (σ : lj_S) : lj_D lc_P lc_M101 4 [.ref 6, .int x1, .int 1, x3] [] σ = lj_bv (lj_R lc_P 67 [.ref 6] σ) (fun σ4 => ifC x1 σ4) lj_up := by
  rw [kc_101_4, if_neg (by decide)]; rfl
def ifR (b : Nat → Int32) (n T : Nat) (Q : tkQ) (X : List Int32 → Prop) (FO0 : List fT) (nl rv : Nat) (fl : List Nat) (Z : List zT) (PL : List qT) (v : Nat) (W : List wT) (f : Nat) (s l lB : List Nat) (D : Nat) (N : List lT) (F p c m : Nat) (nbE : List (Nat × Nat)) (σ τ : lj_S) (oC oM : Option lj_O) : Prop :=
  fltR n oC oM ∨ ∃ σ' τ' p' c' m' wh' F' N' nl' nb, oC = some (.inl none, σ') ∧ oM = mLoop τ' ∧ PS b n T Q X F' N' (((nl', rv), fl) :: FO0) (adB nb Z) PL c' m' p' v c' m' wh' W σ' τ' ∧ (TX N σ τ σ' τ' ∧ lvX N N' ∧ F ≤ F' ∧ p < p' ∧ c ≤ c' ∧ m ≤ m') ∧ fzB nbE 0 c 0 m σ τ σ' τ' ∧ (∀ x ∈ nbE, σ'.1 23 x.1 = Int32.ofNat c' ∧ τ'.1 21 x.2 = Int32.ofNat m') ∧ nl ≤ nl' ∧ c' ≤ c + 25 * (p' - p) ∧ m' ≤ m + 25 * (p' - p) ∧ nbK nb c c' m m' σ' τ' ∧ (nb ≠ [] → inL f Z) ∧ ∀ σ2 τ2, LB N' nb c c' m m' σ' τ' σ2 τ2 → seg σ2 τ2 (f, c, m, s, l, 50) (fun y => y = (f, c', m', s, l, 50) ∨ bkE nb f s lB D y)
theorem ci_of {b : Nat → Int32} {n T : Nat} {Q : tkQ} {X : List Int32 → Prop} (hT5 : T ≤ 520) (k : Nat) (hV : CV b n T Q X k) (hD : CD b n T Q X k) : ∀ (dd : Nat) (F : Nat) (N : List lT) (FO0 : List fT) (nl rv : Nat) (fl : List Nat) (Z : List zT) (PL : List qT) (cl ml : Nat) (p v c m wh : Nat) (W : List wT) (σ τ : lj_S) (f : Nat) (s l lB : List Nat) (D : Nat) (nbE : List (Nat × Nat)) (e1 e2 : Int32), T - p < dd → dd ≤ k → PS b n T Q X F N (((nl, rv), fl) :: FO0) Z PL cl ml p v c m wh ((3, 0, 0, 0) :: (23, e2, 0, 0) :: W) σ τ → hdN N f l → fls s fl → W.length + 25 ≤ 40 * v + 60 → c + 40 ≤ 25 * p + 100 → m + 40 ≤ 25 * p + 100 → lpH f (N.length - 1) l lB D nl Z → chC σ e1 (nbE.map (·.1)) → chM τ e2 (nbE.map (·.2)) → (∀ x ∈ nbE, x.1 < c ∧ x.2 < m ∧ σ.1 22 x.1 = 30) → (∀ y ∈ Z, ∀ j ∈ y.2.2.2.2, j ∉ nbE.map (·.2)) →
    ifR b n T Q X FO0 nl rv fl Z PL v W f s l lB D N F p c m nbE σ τ (ifC e1 σ) (mLoop τ) := by
  intro dd
  induction dd with
  | zero => intro F N FO0 nl rv fl Z PL cl ml p v c m wh W σ τ f s l lB D nbE e1 e2 h0; omega
  | succ dd ih =>
  intro F N FO0 nl rv fl Z PL cl ml p v c m wh W σ τ f s l lB D nbE e1 e2 hTp hdk h hN hs hW hc hm hlp hch1 hch2 hE hdj
  have hv20 := h.2.2.1.2.1
  have hfv := h.fv
  have hsB : sB s := hs.sb hfv hv20
  have hpT := h.2.2.1.1
  have hv20 := h.2.2.1.2.1
  unfold ifC
  rcases hV F N (((nl, rv), fl) :: FO0) Z PL cl ml p v c m wh ((23, e2, 0, 0) :: W) σ τ f s l (by omega) h hN ((hs.hd hfv).up (by omega) (by omega)) (by simp; omega) with hf | ⟨σ3, τ3, p3, c3, m3, wh3, F3, N3, i1, i2, i3, i4, i5, i6, i7, i8⟩
  · exact Or.inl (flt_bv hf _)
  · have hc3 := i4.2.2.2.2.1
    have hm3 := i4.2.2.2.2.2.1
    have hp3 := i3.2.2.1.1
    have c143 := i3.c14 hT5
    have hmlZ := h.2.2.2.2.2
    have hZlt := h.2.2.2.1.2.2.2.2.2.2.2.2.2.2
    have hlen3 := (lvX_map i4.2.1).2.1
    obtain ⟨z3, R3, e3, ez1, ez2⟩ := hdN_X hN i4.2.1
    subst e3
    rcases i8 with ⟨_, hE3⟩ | ⟨q, _⟩ | ⟨q, _⟩
    rotate_left
    · exact absurd q (by decide)
    · exact absurd q (by decide)
    rw [i1, bv_ok, i2, c_put3 i3.2.1.2.2.2.2.1 (by omega), bi_ok]
    have A1 := i3.pop
    have A2 := A1.1.C (by omega) hT5 31 0 0 0 0
    have ps := c_pass A2.1.1.1 hp3 A2.1.2.1.1 27 (by omega)
    have nw := m_needWord A1.1.1.1 hp3 A1.1.2.1.2.1 A1.1.2.1.2.2.2.2.2.2.2.2.2 17 (by omega) 18 rfl
    have ge : ∀ y τ2, (y = 0 ∨ y = 1) → lj_R lm_P 89 [.ref 0, .int e2] (lj_put τ3 0 46 (Int32.ofNat W.length)) = some (.inl (some (.int y)), τ2) → mLoop τ3 = mNx y τ2 := fun y τ2 hy e => i3.go hy (by rw [rm_30, km_30_0, if_neg (by decide), if_neg (by decide), if_neg (by decide), if_neg (by decide), if_neg (by decide), if_neg (by decide), if_neg (by decide), if_neg (by decide), if_neg (by decide), if_neg (by decide), if_neg (by decide), if_neg (by decide), if_neg (by decide), if_neg (by decide), if_neg (by decide), if_neg (by decide), if_neg (by decide), if_neg (by decide), if_neg (by decide), if_neg (by decide), if_neg (by decide), rm_86, km_86_0, if_neg (by decide), if_neg (by decide), if_pos rfl, e, bi_ok, bi_ok, vpb y hy, vpb y hy])
    have eW : lj_R lm_P 89 [.ref 0, .int e2] (lj_put τ3 0 46 (Int32.ofNat W.length)) = _ := rm_89 _ _
    rw [km_89_0, nw] at eW
    by_cases a27 : (Q p3).1 = 27
    · have hlt3 : p3 < T := i3.lt (by omega) (by omega)
      rw [if_pos a27] at ps
      rw [show lj_R lc_P 71 [.ref 6, .int 27] _ = _ from ps, bv_ok]
      have A3 := A2.1.st hlt3
      have A4 := A3.1.M (by omega) 22 0 0 0
      have hNR4 := A4.1.1.2.2.1
      have A5 := A4.1.la (by omega) (24, Int32.ofNat m3, e2, 0)
      have A6 := A5.1.la (by simp; omega) (2, Int32.ofNat (z3.2.1.length + baseN R3), 0, 0)
      have A7 := A6.1.la (by simp; omega) (0, 0, 0, 0)
      have h50 := hNR4.2.2.2.2.2.2.2.2.1
      rw [if_pos (show (Q p3).1 = 10 + 17 by omega), bi_ok, if_neg (by decide), m_emit (by rw [lj_put_1, if_neg (by omega)]; exact A1.1.2.1.2.2.2.2.2.1) (by omega), bi_ok, (m_later A4.1.2.1.2.2.2.2.2.2.2.2.1 (by omega) 24 (Int32.ofNat m3) e2 0).1, bv_ok, rm_43, km_43_0, mW_o _ _ _ 0 50 (by omega) (by omega), h50, show baseN (z3 :: R3) = z3.2.1.length + baseN R3 from rfl, (m_later A5.1.2.1.2.2.2.2.2.2.2.2.1 (by simp; omega) 2 (Int32.ofNat (z3.2.1.length + baseN R3)) 0 0).1, bv_ok, (m_later A6.1.2.1.2.2.2.2.2.2.2.2.1 (by simp; omega) 0 0 0 0).1, bv_ok, bv_ok] at eW
      rw [ge 1 _ (Or.inr rfl) eW, nx1 A7.1.2.1]
      have G7 := A1.2.tr (A2.2.tr (A3.2.tr (A4.2.tr (A5.2.tr (A6.2.tr A7.2)))))
      have eEm : ∀ j ∈ nbE.map (·.2), j < m := fun j hj => by
        obtain ⟨x, hx, rfl⟩ := List.mem_map.1 hj
        exact (hE x hx).2.1
      have eEc : ∀ j ∈ nbE.map (·.1), j < c ∧ σ.1 22 j = 30 := fun j hj => by
        obtain ⟨x, hx, rfl⟩ := List.mem_map.1 hj
        exact ⟨(hE x hx).1, (hE x hx).2.2⟩
      have z37 := (i4.tr G7).2.2.2.2.2.2
      rcases hD F3 z3 R3 FO0 nl rv fl Z PL cl ml (p3 + 1) v (c3 + 1) (m3 + 1) wh3 ((24, Int32.ofNat m3, e2, 0) :: W) _ _ f s l lB D (by omega) A7.1 ez1 ez2 hs (by simp; omega) (by omega) (by omega) (bW_if (by omega) (by omega) (r := nbE.map (·.2)) (chM_cg' (fun j hj => z37.2 21 j (by omega) (by omega) (by omega) (eEm j hj)) hch2) (by omega) (by omega) (fun w => by have := eEm _ w; omega) (fun i hi => by have := eEm i hi; omega)) (by rw [hlen3]; exact hlp) with hf | ⟨σ5, τ5, p5, c5, m5, wh5, F5, N5, nl5, nb, j1, j2, j3, j4, j5, j6, j7, j8, j9, j10, j11⟩
      · exact Or.inl (flt_bv hf _)
      · have hc5 := j4.2.2.2.2.1
        have hm5 := j4.2.2.2.2.2.1
        have hp5 := j3.2.2.1.1
        have hpp5 := j4.2.2.2.1
        have hpp3 := i4.2.2.2.1
        have c145 := j3.c14 hT5
        have g4 := G7.tr j4
        have hlen5 := (lvX_map g4.2.1).2.1
        obtain ⟨z5, R5, e5, ey1, ey2⟩ := hdN_X ⟨z3, R3, rfl, ez1, ez2⟩ g4.2.1
        subst e5
        have x22 : σ5.1 22 c3 = 31 := by
          rw [j4.2.2.2.2.2.2.1 22 c3 (by omega) (by omega) (by omega) (by omega), (A3.2.tr (A4.2.tr (A5.2.tr (A6.2.tr A7.2)))).2.2.2.2.2.2.1 22 c3 (by omega) (by omega) (by omega) (by omega)]
          exact (cP_get σ3 c3 31 0 0 0 0).1
        have y20 : τ5.1 20 m3 = 22 := by
          rw [j4.2.2.2.2.2.2.2 20 m3 (by omega) (by omega) (by omega) (by omega), (A5.2.tr (A6.2.tr A7.2)).2.2.2.2.2.2.2 20 m3 (by omega) (by omega) (by omega) (by omega)]
          exact (mP_get _ m3 22 0 0 0).1
        rw [j1, bv_ok, j2, c_put5 j3.2.1.2.2.2.2.1 (by omega), bi_ok]
        have B1 := j3.pop
        have B2 := B1.1.C (by omega) hT5 30 0 e1 0 0
        have gB2 := cP_get σ5 c5 30 0 e1 0 0
        have oB2 := cP_o σ5 c5 30 0 e1 0 0
        rw [c_land (j := c3) B2.1.2.1.2.2.2.2.1 (by omega) (by rw [oB2 22 c3 (by omega) (by omega), x22]; decide) (by rw [oB2 22 c3 (by omega) (by omega), x22]; decide), bv_ok]
        have hchains : ∀ y ∈ adB nb Z, ∀ j ∈ y.2.2.2.2, j ≠ m3 ∧ j ∉ nbE.map (·.2) ∧ j < m5 := fun y hy j hj => by
          rcases adB_mem hy j hj with ⟨x, hx, e⟩ | ⟨y', hy', hj'⟩
          · have := j9 x hx
            exact ⟨(by omega), fun w => by have := eEm j w; omega, (by omega)⟩
          · have := (hZlt y' hy').2 j hj'
            exact ⟨(by omega), hdj y' hy' j hj', (by omega)⟩
        have oL : ∀ k j, ¬ (k = 23 ∧ j = c3) → (lj_put (cP σ5 c5 30 0 e1 0 0) 23 c3 (Int32.ofNat (c5 + 1))).1 k j = (cP σ5 c5 30 0 e1 0 0).1 k j := fun k j q => by rw [lj_put_1, if_neg q]
        have gL : (lj_put (cP σ5 c5 30 0 e1 0 0) 23 c3 (Int32.ofNat (c5 + 1))).1 23 c3 = Int32.ofNat (c5 + 1) := by rw [lj_put_1, if_pos ⟨rfl, rfl⟩]
        have ze5 := (i4.tr g4).2.2.2.2.2.2
        have hchC : ∀ σx : lj_S, (∀ j ∈ nbE.map (·.1), σx.1 24 j = σ5.1 24 j) → chC σx e1 (nbE.map (·.1)) := fun σx q => chC_cg (fun j hj => by rw [q j hj]; exact ze5.1 24 j (by omega) (by omega) (by omega) (eEc j hj).1) hch1
        have hchM : ∀ τx : lj_S, (∀ j ∈ nbE.map (·.2), τx.1 21 j = τ5.1 21 j) → chM τx e2 (nbE.map (·.2)) := fun τx q => chM_cg' (fun j hj => by rw [q j hj]; exact ze5.2 21 j (by omega) (by omega) (by omega) (eEm j hj)) hch2
        have h22 : ∀ j ∈ nbE.map (·.1), σ5.1 22 j = 30 := fun j hj => by rw [ze5.1 22 j (by omega) (by omega) (by omega) (eEc j hj).1]; exact (eEc j hj).2
        have w5 := m_isWord B1.1.1.1 hp5 B1.1.2.1.2.1 4 (by omega) 5 rfl
        have w4 := m_isWord B1.1.1.1 hp5 B1.1.2.1.2.1 3 (by omega) 4 rfl
        have ge5 : ∀ y τ2, (y = 0 ∨ y = 1) → lj_R lm_P 90 [.ref 0, .int (Int32.ofNat m3), .int e2] (lj_put τ5 0 46 (Int32.ofNat W.length)) = some (.inl (some (.int y)), τ2) → mLoop τ5 = mNx y τ2 := fun y τ2 hy e => j3.go hy (by rw [rm_30, km_30_0, if_neg (by decide), if_neg (by decide), if_neg (by decide), if_neg (by decide), if_neg (by decide), if_neg (by decide), if_neg (by decide), if_neg (by decide), if_neg (by decide), if_neg (by decide), if_neg (by decide), if_neg (by decide), if_neg (by decide), if_neg (by decide), if_neg (by decide), if_neg (by decide), if_neg (by decide), if_neg (by decide), if_neg (by decide), if_neg (by decide), if_neg (by decide), rm_86, km_86_0, if_neg (by decide), if_neg (by decide), if_neg (by decide), if_pos rfl, e, bi_ok, bi_ok, vpb y hy, vpb y hy])
        have eE : lj_R lm_P 90 [.ref 0, .int (Int32.ofNat m3), .int e2] (lj_put τ5 0 46 (Int32.ofNat W.length)) = _ := rm_90 _ _ _
        rw [km_90_0, w5, bi_ok] at eE
        have kd : lj_R lc_P 63 [.ref 6] (lj_put (cP σ5 c5 30 0 e1 0 0) 23 c3 (Int32.ofNat (c5 + 1))) = _ := c_kind (TE_up B2.1.1.1 (lf_put (lf_rf _ _) _ _ _ rfl) (lf_rf aM (lj_put τ5 0 46 (Int32.ofNat W.length)))) hp5 (by rw [oL _ _ (by omega)]; exact B2.1.2.1.1)
        rw [kd, bi_ok]
        -- the model lays a jump too
        have B3 := B2.1.M (by omega) 21 e2 0 0
        have gB3 := mP_get (lj_put τ5 0 46 (Int32.ofNat W.length)) m5 21 e2 0 0
        have oB3 := mP_o (lj_put τ5 0 46 (Int32.ofNat W.length)) m5 21 e2 0 0
        have B4 := B3.1.am (σ' := lj_put (cP σ5 c5 30 0 e1 0 0) 23 c3 (Int32.ofNat (c5 + 1))) (τ' := lj_put (mP (lj_put τ5 0 46 (Int32.ofNat W.length)) m5 21 e2 0 0) 21 m3 (Int32.ofNat (m5 + 1))) (BC := [c3]) (BM := [m3]) (fun k j q => by rw [lj_put_1, if_neg (fun w => q ⟨w.1, by rw [w.2]; exact List.mem_singleton.2 rfl⟩)]) (fun k j q => by rw [lj_put_1, if_neg (fun w => q ⟨w.1, by rw [w.2]; exact List.mem_singleton.2 rfl⟩)]) rfl rfl (fun y hy j hj w => (hchains y hy j hj).1 (List.mem_singleton.1 w))
        have oMl : ∀ k j, ¬ (k = 21 ∧ j = m3) → (lj_put (mP (lj_put τ5 0 46 (Int32.ofNat W.length)) m5 21 e2 0 0) 21 m3 (Int32.ofNat (m5 + 1))).1 k j = (mP (lj_put τ5 0 46 (Int32.ofNat W.length)) m5 21 e2 0 0).1 k j := fun k j q => by rw [lj_put_1, if_neg q]
        have gMl : (lj_put (mP (lj_put τ5 0 46 (Int32.ofNat W.length)) m5 21 e2 0 0) 21 m3 (Int32.ofNat (m5 + 1))).1 21 m3 = Int32.ofNat (m5 + 1) := by rw [lj_put_1, if_pos ⟨rfl, rfl⟩]
        have z13 := (B1.2.tr (B2.2.tr B3.2)).2.2.2.2.2.2
        -- what holds of all ends
        have fin : ∀ (σ' τ' : lj_S) (p' c' m' wh' F' : Nat) (N' : List lT) (nl' : Nat) (nb' : List (Nat × Nat)) (mj : Nat), PS b n T Q X F' N' (((nl', rv), fl) :: FO0) (adB nb' (adB nb Z)) PL c' m' p' v c' m' wh' W σ' τ' → TX (z5 :: R5) σ5 τ5 σ' τ' → lvX (z5 :: R5) N' → F5 ≤ F' → p5 < p' → c5 < c' → m5 ≤ m' →
            (∀ k j, 22 ≤ k → k ≤ 26 → j < c5 → ¬ (k = 23 ∧ (j = c3 ∨ j ∈ nbE.map (·.1))) → σ'.1 k j = σ5.1 k j) → (∀ k j, 20 ≤ k → k ≤ 23 → j < m5 → ¬ (k = 21 ∧ (j = m3 ∨ j ∈ nbE.map (·.2))) → τ'.1 k j = τ5.1 k j) → σ'.1 23 c3 = Int32.ofNat (c5 + 1) → τ'.1 21 m3 = Int32.ofNat mj → (mj < 14000 ∧ m5 ≤ mj) → (∀ x ∈ nbE, σ'.1 23 x.1 = Int32.ofNat c' ∧ τ'.1 21 x.2 = Int32.ofNat m') → nl5 ≤ nl' → c' ≤ c5 + 1 + 25 * (p' - p5) → m' ≤ m5 + 1 + 25 * (p' - p5) → nbK nb' c5 c' m5 m' σ' τ' → (nb' ≠ [] → inL f Z) →
            (∀ σ2 τ2, LB N' nb' c5 c' m5 m' σ' τ' σ2 τ2 → seg σ2 τ2 (f, c5, m5, s, l, 50) (fun y => y = (f, c', m', s, l, 50) ∨ bkE nb' f s lB D y)) → (∀ σ2 τ2, LB N' nb' c5 c' m5 m' σ' τ' σ2 τ2 → seg σ2 τ2 (f, c5 + 1, mj, s, l, 50) (fun y => y = (f, c', m', s, l, 50) ∨ bkE nb' f s lB D y)) →
            ifR b n T Q X FO0 nl rv fl Z PL v W f s l lB D N F p c m nbE σ τ (some (.inl none, σ')) (mLoop τ') := fun σ' τ' p' c' m' wh' F' N' nl' nb' mj u1 u2 u3 u4 u5 u6 u7 u8 u9 u10 u11 u12 u13 u14 u15 u16 u17 u18 u19 u20 => by
          obtain ⟨t1, t2, t3, t4, t5⟩ := if_arm i4 g4 (by omega) (by omega) x22 y20 hE3 j11 j9 u2 u3 u8 u9 (fun x hx => ⟨(hE x hx).1, (hE x hx).2.1⟩) u10 u11 (by omega) u12 u6 u7 u17 u19 u20
          have hFF := (i4.tr g4).2.2.1
          rw [adB_app] at u1
          exact Or.inr ⟨σ', τ', p', c', m', wh', F', N', nl', nb' ++ nb, rfl, rfl, u1, ⟨t1, t2, (by omega), (by omega), (by omega), (by omega)⟩, t3, u13, (by omega), (by omega), (by omega), t4, fun q => by
            by_cases w : nb' = []
            · rw [w, List.nil_append] at q
              exact j10 q
            · exact u18 w, t5⟩
        by_cases a14 : (Q p5).1 = 14
        · -- another arm
          have hlt5 : p5 < T := j3.lt (by omega) (by omega)
          have B5 := B4.1.st hlt5
          have B6 := B5.1.la (by omega) (23, Int32.ofNat m5, 0, 0)
          have B7 := B6.1.la (by simp; omega) (3, 0, 0, 0)
          have tk := m_take B4.1.1.1 hp5 B4.1.2.1.2.1 (by omega)
          rw [if_pos (show (Q p5).1 = 10 + 4 by omega), if_neg (by decide), km_90_18, w5, bi_ok, m_emit B1.1.2.1.2.2.2.2.2.1 (by omega), bi_ok, if_pos (ofN_in (by omega) (by omega)), lz_onat (by omega), gB3.2.2.2.2, tk, bi_ok, if_neg (by decide), if_pos (show (Q p5).1 = 10 + 4 by omega), if_neg (by decide), (m_later B5.1.2.1.2.2.2.2.2.2.2.2.1 (by omega) 23 (Int32.ofNat m5) 0 0).1, bv_ok, (m_later B6.1.2.1.2.2.2.2.2.2.2.2.1 (by simp; omega) 3 0 0 0).1, bv_ok, km_90_92] at eE
          rw [a14, if_pos (by decide), kc_101_83, if_C, c_step (TE_up B4.1.1.1 (lf_rf _ _) (lf_rf _ _)) hp5 B4.1.2.1.1, bv_ok, ge5 1 _ (Or.inr rfl) eE, nx1 B7.1.2.1]
          have z57 := (B5.2.tr (B6.2.tr B7.2)).2.2.2.2.2.2
          rcases ih F5 (z5 :: R5) FO0 nl5 rv fl (adB nb Z) PL c5 m5 (p5 + 1) v (c5 + 1) (m5 + 1) wh5 W _ _ f s l lB D ((c5, m5) :: nbE) (Int32.ofNat c5) (Int32.ofNat m5) (by omega) (by omega) B7.1 ⟨z5, R5, rfl, ey1, ey2⟩ hs hW (by omega) (by omega) (by rw [hlen5, hlen3]; exact lpH_ad (e := []) hlp nb (by omega) (fun y hy => by simp at hy)) (by
              refine ⟨rfl, (by show c5 < 14000; omega), ?_⟩
              show chC _ ((lj_put _ 6 0 _).1 24 c5) _
              rw [lj_put_1, if_neg (by omega), oL 24 c5 (by omega), gB2.2.2.1]
              exact hchC _ (fun j hj => by have := (eEc j hj).1; rw [lj_put_1, if_neg (by omega), oL 24 j (by omega), oB2 24 j (by omega) (by omega)])) (by
              refine ⟨rfl, (by show m5 < 14000; omega), ?_⟩
              show chM _ ((mW _ _ _).1 21 m5) _
              rw [z57.2 21 m5 (by omega) (by omega) (by omega) (by omega), oMl 21 m5 (by omega), gB3.2.1]
              exact hchM _ (fun j hj => by have := eEm j hj; rw [z57.2 21 j (by omega) (by omega) (by omega) (by omega), oMl 21 j (by omega), oB3 21 j (by omega) (by omega), lj_put_1, if_neg (by omega)])) (by
              intro x hx
              rcases List.mem_cons.1 hx with u | u
              · rw [u]
                exact ⟨(by omega), (by omega), by rw [lj_put_1, if_neg (by omega), oL 22 c5 (by omega)]; exact gB2.1⟩
              · have q := hE x u
                have q2 := h22 x.1 (List.mem_map.2 ⟨x, u, rfl⟩)
                exact ⟨(by omega), (by omega), by rw [lj_put_1, if_neg (by omega), oL 22 _ (by omega), oB2 22 _ (by omega) (by omega)]; exact q2⟩) (by
              intro y hy j hj w
              have q := hchains y hy j hj
              rcases List.mem_cons.1 w with u | u
              · have u : j = m5 := u
                omega
              · exact q.2.1 u) with hf | ⟨σ', τ', p', c', m', wh', F', N', nl', nb', q1, q2, q3, q4, q5, q6, q7, q8, q9, q10, q11, q12⟩
          · exact Or.inl hf
          · rw [q1, q2]
            obtain ⟨v1, v2, v3, v4, v5, v6⟩ := q4
            have zc : ∀ k j, 22 ≤ k → k ≤ 26 → j < c5 + 1 → ¬ (k = 23 ∧ (j = c5 ∨ j ∈ nbE.map (·.1))) → σ'.1 k j = (lj_put (cP σ5 c5 30 0 e1 0 0) 23 c3 (Int32.ofNat (c5 + 1))).1 k j := fun k j w1 w2 w4 w5 => by
              rw [q5.1 k j w1 w2 (Nat.zero_le _) w4 (fun e x hx e2 => w5 ⟨e, by
                rcases List.mem_cons.1 hx with u | u
                · rw [u] at e2; exact Or.inl e2.symm
                · exact Or.inr (List.mem_map.2 ⟨x, u, e2⟩)⟩), z57.1 k j w1 w2 (Nat.zero_le _) w4]
            have zm : ∀ k j, 20 ≤ k → k ≤ 23 → j < m5 + 1 → ¬ (k = 21 ∧ (j = m5 ∨ j ∈ nbE.map (·.2))) → τ'.1 k j = (lj_put (mP (lj_put τ5 0 46 (Int32.ofNat W.length)) m5 21 e2 0 0) 21 m3 (Int32.ofNat (m5 + 1))).1 k j := fun k j w1 w2 w4 w5 => by
              rw [q5.2 k j w1 w2 (Nat.zero_le _) w4 (fun e x hx e2 => w5 ⟨e, by
                rcases List.mem_cons.1 hx with u | u
                · rw [u] at e2; exact Or.inl e2.symm
                · exact Or.inr (List.mem_map.2 ⟨x, u, e2⟩)⟩), z57.2 k j w1 w2 (Nat.zero_le _) w4]
            have qe := q6 (c5, m5) (List.mem_cons_self)
            refine fin σ' τ' p' c' m' wh' F' N' nl' nb' (m5 + 1) q3 ((((B1.2.tr (B2.2.tr B3.2)).1.tr B4.2 (fun _ _ q => q)).tr (B5.2.tr (B6.2.tr B7.2)).1 (fun _ _ q => q)).tr v1 (fun _ _ q => q)) v2 v3 (by omega) (by omega) (by omega) (fun k j w1 w2 w3 w4 => ?_) (fun k j w1 w2 w3 w4 => ?_) ?_ ?_ (by omega) (fun x hx => q6 x (List.mem_cons_of_mem _ hx)) q7 (by omega) (by omega) (fun x hx => ?_) (fun q => inL_ad.1 (q11 q)) (fun σ2 τ2 L => ?_) (fun σ2 τ2 L => ?_)
            · rw [zc k j w1 w2 (by omega) (fun w => w4 ⟨w.1, w.2.elim (fun u => absurd u (by omega)) Or.inr⟩), oL k j (fun w => w4 ⟨w.1, Or.inl w.2⟩), oB2 k j (by omega) (by omega)]
            · rw [zm k j w1 w2 (by omega) (fun w => w4 ⟨w.1, w.2.elim (fun u => absurd u (by omega)) Or.inr⟩), oMl k j (fun w => w4 ⟨w.1, Or.inl w.2⟩), oB3 k j (by omega) (by omega), lj_put_1, if_neg (by omega)]
            · rw [zc 23 c3 (by omega) (by omega) (by omega) (fun w => w.2.elim (fun u => absurd u (by omega)) (fun u => by have := (eEc _ u).1; omega))]; exact gL
            · rw [zm 21 m3 (by omega) (by omega) (by omega) (fun w => w.2.elim (fun u => absurd u (by omega)) (fun u => by have := eEm _ u; omega))]; exact gMl
            · have := q10 x hx
              exact ⟨(by omega), (by omega), (by omega), (by omega), this.2.2.2.2⟩
            · have r1 : σ2.1 22 c5 = 30 := by rw [L.2.1 22 c5 (by omega) (by omega) (by omega) (by omega) (by omega), zc 22 c5 (by omega) (by omega) (by omega) (by omega), oL 22 c5 (by omega)]; exact gB2.1
              have r2 : σ2.1 23 c5 = Int32.ofNat c' := by rw [L.2.1 23 c5 (by omega) (by omega) (by omega) (by omega) (fun _ x hx => by have := q10 x hx; omega)]; exact qe.1
              have r3 : τ2.1 20 m5 = 21 := by rw [L.2.2 20 m5 (by omega) (by omega) (by omega) (by omega) (by omega), zm 20 m5 (by omega) (by omega) (by omega) (by omega), oMl 20 m5 (by omega)]; exact gB3.1
              have r4 : τ2.1 21 m5 = Int32.ofNat m' := by rw [L.2.2 21 m5 (by omega) (by omega) (by omega) (by omega) (fun _ x hx => by have := q10 x hx; omega)]; exact qe.2
              have cc' := q3.c14 hT5
              exact seg_in [(f, c', m', s, l, 50)] ⟨37, c', m', (by omega), ⟨by omega, Or.inl ⟨by first | omega | (dsimp only; omega), by first | omega | (dsimp only; omega)⟩⟩, r1, r2, r3, r4, rfl⟩ (fun y hy => by rw [List.mem_singleton.1 hy]; exact seg_ex (Or.inl rfl))
            · exact q12 σ2 τ2 (L.mo (by omega) (Nat.le_refl _) (by omega) (Nat.le_refl _) (fun x hx => ⟨fun _ _ => hx, fun _ _ => hx⟩))
        · have tl := tk_lt j3.1.1 hp5
          have hTL : TE b n T Q (lj_put (cP σ5 c5 30 0 e1 0 0) 23 c3 (Int32.ofNat (c5 + 1))) (lj_put τ5 0 46 (Int32.ofNat W.length)) := TE_up B2.1.1.1 (lf_put (lf_rf _ _) _ _ _ rfl) (lf_rf _ _)
          have tkc := c_take hTL hp5 (by rw [oL _ _ (by omega)]; exact B2.1.2.1.1) 13 (by omega)
          rw [if_neg (show ¬ (Int32.ofNat (Q p5).1 = 14) from fun z => a14 ((ofN_eq (c := 14) (by omega) (by omega)).1 z)), kc_101_83, kc_101_4, if_pos rfl]
          rw [if_neg (show ¬ (Q p5).1 = 10 + 4 by omega), if_pos rfl, w4, bi_ok] at eE
          have hrc : ∀ j ∈ c5 :: nbE.map (·.1), j = c5 ∨ j < c := fun j hj => (List.mem_cons.1 hj).elim Or.inl (fun u => Or.inr (eEc j u).1)
          have hrm : ∀ j ∈ m5 :: nbE.map (·.2), j = m5 ∨ j < m := fun j hj => (List.mem_cons.1 hj).elim Or.inl (fun u => Or.inr (eEm j u))
          by_cases a13 : (Q p5).1 = 13
          · -- else
            have hlt5 : p5 < T := j3.lt (by omega) (by omega)
            have B5 := B4.1.st hlt5
            have B6 := B5.1.la (by omega) (25, Int32.ofNat m5, 0, 0)
            have B7 := B6.1.la (by simp; omega) (2, Int32.ofNat (z5.2.1.length + baseN R5), 0, 0)
            have B8 := B7.1.la (by simp; omega) (0, 0, 0, 0)
            have h505 := B5.1.1.2.2.1.2.2.2.2.2.2.2.2.1
            have tk := m_take B4.1.1.1 hp5 B4.1.2.1.2.1 (by omega)
            rw [if_pos a13] at tkc
            rw [show lj_R lc_P 84 [.ref 6, .int 13] _ = _ from tkc, bi_ok, if_neg (by decide)]
            rw [if_pos (show (Q p5).1 = 10 + 3 by omega), if_neg (by decide), km_90_18, w5, bi_ok, m_emit B1.1.2.1.2.2.2.2.2.1 (by omega), bi_ok, if_pos (ofN_in (by omega) (by omega)), lz_onat (by omega), gB3.2.2.2.2, tk, bi_ok, if_neg (by decide), if_neg (show ¬ (Q p5).1 = 10 + 4 by omega), if_pos rfl, (m_later B5.1.2.1.2.2.2.2.2.2.2.2.1 (by omega) 25 (Int32.ofNat m5) 0 0).1, bv_ok, rm_43, km_43_0, mW_o _ _ _ 0 50 (by omega) (by omega), h505, show baseN (z5 :: R5) = z5.2.1.length + baseN R5 from rfl, (m_later B6.1.2.1.2.2.2.2.2.2.2.2.1 (by simp; omega) 2 (Int32.ofNat (z5.2.1.length + baseN R5)) 0 0).1, bv_ok, (m_later B7.1.2.1.2.2.2.2.2.2.2.2.1 (by simp; omega) 0 0 0 0).1, bv_ok, bv_ok, km_90_92] at eE
            rw [ge5 1 _ (Or.inr rfl) eE, nx1 B8.1.2.1]
            have z58 := (B5.2.tr (B6.2.tr (B7.2.tr B8.2))).2.2.2.2.2.2
            have e21 : ∀ τx : lj_S, (∀ j, j < m5 + 1 → τx.1 21 j = (lj_put (mP (lj_put τ5 0 46 (Int32.ofNat W.length)) m5 21 e2 0 0) 21 m3 (Int32.ofNat (m5 + 1))).1 21 j) → chM τx (Int32.ofNat m5) (m5 :: nbE.map (·.2)) := fun τx q => by
              refine ⟨rfl, (by omega), ?_⟩
              rw [q m5 (by omega), oMl 21 m5 (by omega), gB3.2.1]
              exact hchM _ (fun j hj => by have := eEm j hj; rw [q j (by omega), oMl 21 j (by omega), oB3 21 j (by omega) (by omega), lj_put_1, if_neg (by omega)])
            rcases hD F5 z5 R5 FO0 nl5 rv fl (adB nb Z) PL c5 m5 (p5 + 1) v (c5 + 1) (m5 + 1) wh5 ((25, Int32.ofNat m5, 0, 0) :: W) _ _ f s l lB D (by omega) B8.1 ey1 ey2 hs (by simp; omega) (by omega) (by omega) (bW_ife (by omega) (by omega) (e21 _ (fun j hj => z58.2 21 j (by omega) (by omega) (by omega) (by omega))) (fun j hj => by have := hrm j hj; omega)) (by rw [hlen5, hlen3]; exact lpH_ad (e := []) hlp nb (by omega) (fun y hy => by simp at hy)) with hf | ⟨σ7, τ7, p7, c7, m7, wh7, F7, N7, nl7, nb7, u1, u2, u3, u4, u5, u6, u7, u8, u9, u10, u11⟩
            · exact Or.inl (flt_bv hf _)
            · rw [u1, bv_ok, u2]
              have D1 := u3.pop
              have hc7 := u4.2.2.2.2.1
              have hm7 := u4.2.2.2.2.2.1
              have hpp7 := u4.2.2.2.1
              have c147 := u3.c14 hT5
              have z7 := u4.2.2.2.2.2.2
              have C7 : ∀ k j, 22 ≤ k → k ≤ 26 → j < c5 + 1 → σ7.1 k j = (lj_put (cP σ5 c5 30 0 e1 0 0) 23 c3 (Int32.ofNat (c5 + 1))).1 k j := fun k j w1 w2 w3 => by rw [z7.1 k j w1 w2 (Nat.zero_le _) w3, z58.1 k j w1 w2 (Nat.zero_le _) w3]
              have M7 : ∀ k j, 20 ≤ k → k ≤ 23 → j < m5 + 1 → τ7.1 k j = (lj_put (mP (lj_put τ5 0 46 (Int32.ofNat W.length)) m5 21 e2 0 0) 21 m3 (Int32.ofNat (m5 + 1))).1 k j := fun k j w1 w2 w3 => by rw [z7.2 k j w1 w2 (Nat.zero_le _) w3, z58.2 k j w1 w2 (Nat.zero_le _) w3]
              obtain ⟨y, τ8, hy, e91, R⟩ := if_fin hT5 D1.1 (e1 := Int32.ofNat c5) (e2 := Int32.ofNat m5) (rc := c5 :: nbE.map (·.1)) (rm := m5 :: nbE.map (·.2)) ⟨rfl, (by omega), by
                rw [C7 24 c5 (by omega) (by omega) (by omega), oL 24 c5 (by omega), gB2.2.2.1]
                exact hchC _ (fun j hj => by have := (eEc j hj).1; rw [C7 24 j (by omega) (by omega) (by omega), oL 24 j (by omega), oB2 24 j (by omega) (by omega)])⟩ (e21 _ (fun j hj => by rw [lj_put_1, if_neg (by omega)]; exact M7 21 j (by omega) (by omega) (by omega))) (fun j hj => by
                rcases List.mem_cons.1 hj with u | u
                · rw [u, C7 22 c5 (by omega) (by omega) (by omega), oL 22 c5 (by omega)]; exact gB2.1
                · have := (eEc j u).1
                  rw [C7 22 j (by omega) (by omega) (by omega), oL 22 j (by omega), oB2 22 j (by omega) (by omega)]; exact h22 j u) (fun y hy j hj w => by
                have q := hrm j w
                rcases adB_mem hy j hj with ⟨x, hx, e⟩ | ⟨y', hy', hj'⟩
                · have := u9 x hx
                  omega
                · have q2 := hchains y' hy' j hj'
                  rcases List.mem_cons.1 w with u | u
                  · omega
                  · exact q2.2.1 u) 0 (.int (Int32.ofNat c3))
              rw [u3.go hy (by rw [rm_30, km_30_0, if_neg (by decide), if_neg (by decide), if_neg (by decide), if_neg (by decide), if_neg (by decide), if_neg (by decide), if_neg (by decide), if_neg (by decide), if_neg (by decide), if_neg (by decide), if_neg (by decide), if_neg (by decide), if_neg (by decide), if_neg (by decide), if_neg (by decide), if_neg (by decide), if_neg (by decide), if_neg (by decide), if_neg (by decide), if_neg (by decide), if_neg (by decide), rm_86, km_86_0, if_neg (by decide), if_neg (by decide), if_neg (by decide), if_neg (by decide), if_pos rfl, e91, bi_ok, bi_ok, vpb y hy, vpb y hy])]
              rcases R with hf | ⟨σ8, r1, r2, r3, r4, r5, r6, r7, r8⟩
              · exact Or.inl hf
              · rw [r1, r2]
                have hcj : ∀ j, c ≤ j → j ≠ c5 → j ∉ c5 :: nbE.map (·.1) := fun j q1 q2 w => by have := hrc j w; omega
                have hmj : ∀ j, m ≤ j → j ≠ m5 → j ∉ m5 :: nbE.map (·.2) := fun j q1 q2 w => by have := hrm j w; omega
                refine fin σ8 τ8 (p7 + 1) c7 m7 wh7 F7 N7 nl7 nb7 (m5 + 1) r3.top (((((B1.2.tr (B2.2.tr B3.2)).1.tr B4.2 (fun _ _ q => q)).tr (B5.2.tr (B6.2.tr (B7.2.tr B8.2))).1 (fun _ _ q => q)).tr (u4.tr D1.2).1 (fun _ _ q => q)).tr r4 (fun q _ hq => by rw [lvX_q u4.2.1]; exact hq)) u4.2.1 u4.2.2.1 (by omega) (by omega) (by omega) (fun k j w1 w2 w3 w4 => ?_) (fun k j w1 w2 w3 w4 => ?_) ?_ ?_ (by omega) (fun x hx => ⟨r5 x.1 (List.mem_cons_of_mem _ (List.mem_map.2 ⟨x, hx, rfl⟩)), r7 x.2 (List.mem_cons_of_mem _ (List.mem_map.2 ⟨x, hx, rfl⟩))⟩) u5 (by omega) (by omega) (fun x hx => ?_) (fun q => inL_ad.1 (u10 q)) (fun σ2 τ2 L => ?_) (fun σ2 τ2 L => ?_)
                · rw [r6 k j w1 w2 (fun w => w4 ⟨w.1, (List.mem_cons.1 w.2).elim (fun u => absurd u (by omega)) Or.inr⟩), C7 k j w1 w2 (by omega), oL k j (fun w => w4 ⟨w.1, Or.inl w.2⟩), oB2 k j (by omega) (by omega)]
                · rw [r8 k j w1 w2 (fun w => w4 ⟨w.1, (List.mem_cons.1 w.2).elim (fun u => absurd u (by omega)) Or.inr⟩), lj_put_1, if_neg (by omega), M7 k j w1 w2 (by omega), oMl k j (fun w => w4 ⟨w.1, Or.inl w.2⟩), oB3 k j (by omega) (by omega), lj_put_1, if_neg (by omega)]
                · rw [r6 23 c3 (by omega) (by omega) (fun w => hcj c3 (by omega) (by omega) w.2), C7 23 c3 (by omega) (by omega) (by omega)]; exact gL
                · rw [r8 21 m3 (by omega) (by omega) (fun w => hmj m3 (by omega) (by omega) w.2), lj_put_1, if_neg (by omega), M7 21 m3 (by omega) (by omega) (by omega)]; exact gMl
                · obtain ⟨v1, v2, v3, v4, v5, v6⟩ := u9 x hx
                  exact ⟨(by omega), (by omega), (by omega), (by omega), by rw [r6 22 x.1 (by omega) (by omega) (by omega)]; exact v5, by rw [r8 20 x.2 (by omega) (by omega) (by omega), lj_put_1, if_neg (by omega)]; exact v6⟩
                · have s1 : σ2.1 22 c5 = 30 := by rw [L.2.1 22 c5 (by omega) (by omega) (by omega) (by omega) (by omega), r6 22 c5 (by omega) (by omega) (by omega), C7 22 c5 (by omega) (by omega) (by omega), oL 22 c5 (by omega)]; exact gB2.1
                  have s2 : σ2.1 23 c5 = Int32.ofNat c7 := by rw [L.2.1 23 c5 (by omega) (by omega) (by omega) (by omega) (fun _ x hx => by have := u9 x hx; omega)]; exact r5 c5 (List.mem_cons_self)
                  have s3 : τ2.1 20 m5 = 21 := by rw [L.2.2 20 m5 (by omega) (by omega) (by omega) (by omega) (by omega), r8 20 m5 (by omega) (by omega) (by omega), lj_put_1, if_neg (by omega), M7 20 m5 (by omega) (by omega) (by omega), oMl 20 m5 (by omega)]; exact gB3.1
                  have s4 : τ2.1 21 m5 = Int32.ofNat m7 := by rw [L.2.2 21 m5 (by omega) (by omega) (by omega) (by omega) (fun _ x hx => by have := u9 x hx; omega)]; exact r7 m5 (List.mem_cons_self)
                  exact seg_in [(f, c7, m7, s, l, 50)] ⟨37, c7, m7, (by omega), ⟨by omega, Or.inl ⟨by first | omega | (dsimp only; omega), by first | omega | (dsimp only; omega)⟩⟩, s1, s2, s3, s4, rfl⟩ (fun y hy => by rw [List.mem_singleton.1 hy]; exact seg_ex (Or.inl rfl))
                · refine u11 σ2 τ2 ⟨(D1.2.1.tr r4 (fun _ _ q => q)).tr L.1 (fun _ _ q => q), fun k j w1 w2 w3 w4 w5 => ?_, fun k j w1 w2 w3 w4 w5 => ?_⟩
                  · rw [L.2.1 k j w1 w2 (by omega) w4 w5, r6 k j w1 w2 (fun w => hcj j (by omega) (by omega) w.2)]
                  · rw [L.2.2 k j w1 w2 (by omega) w4 w5, r8 k j w1 w2 (fun w => hmj j (by omega) (by omega) w.2), lj_put_1, if_neg (by omega)]
          · -- no else
            rw [if_neg a13] at tkc
            rw [show lj_R lc_P 84 [.ref 6, .int 13] _ = _ from tkc, bi_ok, if_pos rfl]
            have C4 := B2.1.am (σ' := lj_put (cP σ5 c5 30 0 e1 0 0) 23 c3 (Int32.ofNat (c5 + 1))) (τ' := lj_put (lj_put τ5 0 46 (Int32.ofNat W.length)) 21 m3 (Int32.ofNat m5)) (BC := [c3]) (BM := [m3]) (fun k j q => by rw [lj_put_1, if_neg (fun w => q ⟨w.1, by rw [w.2]; exact List.mem_singleton.2 rfl⟩)]) (fun k j q => by rw [lj_put_1, if_neg (fun w => q ⟨w.1, by rw [w.2]; exact List.mem_singleton.2 rfl⟩)]) rfl rfl (fun y hy j hj w => (hchains y hy j hj).1 (List.mem_singleton.1 w))
            have oM4 : ∀ k j, ¬ (k = 21 ∧ j = m3) → (lj_put (lj_put τ5 0 46 (Int32.ofNat W.length)) 21 m3 (Int32.ofNat m5)).1 k j = (lj_put τ5 0 46 (Int32.ofNat W.length)).1 k j := fun k j q => by rw [lj_put_1, if_neg q]
            have gM4 : (lj_put (lj_put τ5 0 46 (Int32.ofNat W.length)) 21 m3 (Int32.ofNat m5)).1 21 m3 = Int32.ofNat m5 := by rw [lj_put_1, if_pos ⟨rfl, rfl⟩]
            obtain ⟨y, τ8, hy, e91, R⟩ := if_fin hT5 C4.1 (e1 := Int32.ofNat c5) (e2 := e2) (rc := c5 :: nbE.map (·.1)) (rm := nbE.map (·.2)) ⟨rfl, (by omega), by
              rw [oL 24 c5 (by omega), gB2.2.2.1]
              exact hchC _ (fun j hj => by have := (eEc j hj).1; rw [oL 24 j (by omega), oB2 24 j (by omega) (by omega)])⟩ (hchM _ (fun j hj => by have := eEm j hj; rw [oM4 21 j (by omega), lj_put_1, if_neg (by omega)])) (fun j hj => by
              rcases List.mem_cons.1 hj with u | u
              · rw [u, oL 22 c5 (by omega)]; exact gB2.1
              · have := (eEc j u).1
                rw [oL 22 j (by omega), oB2 22 j (by omega) (by omega)]; exact h22 j u) (fun y hy j hj w => (hchains y hy j hj).2.1 w) 0 (.int (Int32.ofNat c3))
            rw [if_neg (show ¬ (Q p5).1 = 10 + 3 by omega), if_pos rfl, if_pos (ofN_in (by omega) (by omega)), lz_onat (by omega), B1.1.2.1.2.2.2.2.2.1, e91, bi_ok, vpb y hy] at eE
            rw [ge5 y _ hy eE]
            rcases R with hf | ⟨σ8, r1, r2, r3, r4, r5, r6, r7, r8⟩
            · exact Or.inl hf
            · rw [r1, r2]
              have hcj : ∀ j, c ≤ j → j ≠ c5 → j ∉ c5 :: nbE.map (·.1) := fun j q1 q2 w => by have := hrc j w; omega
              refine fin σ8 τ8 (p5 + 1) (c5 + 1) m5 wh5 F5 (z5 :: R5) nl5 [] m5 (by rw [adB_nil]; exact r3.top) ((((B1.2.tr B2.2).1.tr C4.2 (fun _ _ q => q))).tr r4 (fun _ _ q => q)) (lvX_rf _) (by omega) (by omega) (by omega) (by omega) (fun k j w1 w2 w3 w4 => ?_) (fun k j w1 w2 w3 w4 => ?_) ?_ ?_ (by omega) (fun x hx => ⟨r5 x.1 (List.mem_cons_of_mem _ (List.mem_map.2 ⟨x, hx, rfl⟩)), r7 x.2 (List.mem_map.2 ⟨x, hx, rfl⟩)⟩) (by omega) (by omega) (by omega) (fun x hx => by simp at hx) (fun q => absurd rfl q) (fun σ2 τ2 L => ?_) (fun σ2 τ2 L => ?_)
              · rw [r6 k j w1 w2 (fun w => w4 ⟨w.1, (List.mem_cons.1 w.2).elim (fun u => absurd u (by omega)) Or.inr⟩), oL k j (fun w => w4 ⟨w.1, Or.inl w.2⟩), oB2 k j (by omega) (by omega)]
              · rw [r8 k j w1 w2 (fun w => w4 ⟨w.1, Or.inr w.2⟩), oM4 k j (fun w => w4 ⟨w.1, Or.inl w.2⟩), lj_put_1, if_neg (by omega)]
              · rw [r6 23 c3 (by omega) (by omega) (fun w => hcj c3 (by omega) (by omega) w.2)]; exact gL
              · rw [r8 21 m3 (by omega) (by omega) (fun w => by have := eEm _ w.2; omega)]; exact gM4
              · have s1 : σ2.1 22 c5 = 30 := by rw [L.2.1 22 c5 (by omega) (by omega) (by omega) (by omega) (by omega), r6 22 c5 (by omega) (by omega) (by omega), oL 22 c5 (by omega)]; exact gB2.1
                have s2 : σ2.1 23 c5 = Int32.ofNat (c5 + 1) := by rw [L.2.1 23 c5 (by omega) (by omega) (by omega) (by omega) (fun _ x hx => by simp at hx)]; exact r5 c5 (List.mem_cons_self)
                exact seg_in [(f, c5 + 1, m5, s, l, 50)] ⟨38, c5 + 1, (by omega), s1, s2, Nat.lt_succ_self _, rfl⟩ (fun y hy => by rw [List.mem_singleton.1 hy]; exact seg_ex (Or.inl rfl))
              · exact seg_ex (Or.inl rfl)
    · rw [if_neg a27] at ps
      rw [if_neg (show ¬ (Q p3).1 = 10 + 17 by omega), bi_ok, if_pos rfl] at eW
      rw [show lj_R lc_P 71 [.ref 6, .int 27] _ = _ from ps, ge 0 _ (Or.inl rfl) eW, nx0]
      exact Or.inl (flt_bv (A1.1.flt hT5 2 (Or.inl rfl) _) _)
theorem cs_if {b : Nat → Int32} {n T : Nat} {Q : tkQ} {X : List Int32 → Prop} (hT5 : T ≤ 520) (k : Nat) (hV : CV b n T Q X k) (hD : CD b n T Q X k) {F : Nat} {N : List lT} {FO0 : List fT} {nl rv : Nat} {fl : List Nat} {Z : List zT} {PL : List qT} {cl ml : Nat} {p v c m wh : Nat} {W : List wT} {σ τ : lj_S} {f : Nat} {s l lB : List Nat} {D : Nat} (hTp : T - p < k + 1) (h : PS b n T Q X F N (((nl, rv), fl) :: FO0) Z PL cl ml p v c m wh W σ τ) (hN : hdN N f l) (hs : fls s fl) (hW : W.length + 25 ≤ 40 * v + 60) (hc : c + 40 ≤ 25 * p + 100) (hm : m + 40 ≤ 25 * p + 100) (hlp : lpH f (N.length - 1) l lB D nl Z) (a19 : (Q p).1 = 19) :
    ∃ y τ', (y = 0 ∨ y = 1) ∧ lj_R lm_P 42 [.ref 0] τ = some (.inl (some (.int y)), τ') ∧ stR b n T Q X FO0 nl rv fl Z PL v W f s l lB D N F p c m σ τ (fun p' => p < p') 0 (lj_bi (lj_R lc_P 54 [.ref 5, .int 0, .int 0, .int 0] σ) (fun _ σ1 => lj_R lc_P 101 [.ref 6] σ1) lj_up) (mNx y τ') := by
  have hv20 := h.2.2.1.2.1
  have hfv := h.fv
  have hsB : sB s := hs.sb hfv hv20
  have hpT := h.2.2.1.1
  have hv20 := h.2.2.1.2.1
  have hlt : p < T := h.lt (by omega) (by omega)
  have c14 := h.c14 hT5
  have h1 := h.2.1
  have hNe := hdN_ne hN
  have P1 := h.C (by omega) hT5 0 0 0 0 0
  have P2 := P1.1.M (by omega) 0 0 0 0
  have P3 := P2.1.st hlt
  have P4 := P3.1.la (by omega) (23, -1, 0, 0)
  have P5 := P4.1.la (by simp; omega) (3, 0, 0, 0)
  have eM : lj_R lm_P 42 [.ref 0] τ = _ := m_st42 h hT5 (by omega)
  rw [a19] at eM
  unfold mSt at eM
  rw [if_neg (by decide), if_neg (by decide), if_neg (by decide), if_neg (by decide), if_neg (by decide), if_neg (by decide), if_neg (by decide), if_pos (by decide), (m_later P3.1.2.1.2.2.2.2.2.2.2.2.1 (by omega) 23 (-1) 0 0).1, bv_ok, (m_later P4.1.2.1.2.2.2.2.2.2.2.2.1 (by simp; omega) 3 0 0 0).1, bv_ok] at eM
  refine ⟨1, _, Or.inr rfl, eM, ?_⟩
  have G5 := P1.2.tr (P2.2.tr (P3.2.tr (P4.2.tr P5.2)))
  rw [nx1 P5.1.2.1, c_put3 h1.2.2.2.2.1 (by omega), bi_ok, rc_101, kc_101_0, if_C, c_step P1.1.1.1 hpT P1.1.2.1.1, bv_ok]
  rcases ci_of hT5 k hV hD k F N FO0 nl rv fl Z PL cl ml (p + 1) v (c + 1) (m + 1) wh W _ _ f s l lB D [] (-1) (-1) (by omega) (Nat.le_refl _) P5.1 hN hs hW (by omega) (by omega) hlp rfl rfl (fun x hx => by simp at hx) (fun _ _ _ _ w => by simp at w) with hf | ⟨σ', τ', p', c', m', wh', F', N', nl', nb, i1, i2, i3, i4, i5, i6, i7, i8, i9, i10, i11, i12⟩
  · exact Or.inl hf
  · obtain ⟨u1, u2, u3, u4, u5, u6⟩ := i4
    have zf : fz 0 (c + 1) 0 (m + 1) _ _ σ' τ' := ⟨fun k j w1 w2 w3 w4 => i5.1 k j w1 w2 w3 w4 (fun _ x hx => by simp at hx), fun k j w1 w2 w3 w4 => i5.2 k j w1 w2 w3 w4 (fun _ x hx => by simp at hx)⟩
    have Gx : GR N N' F F' (p + 1) p' (c + 1) c' (m + 1) m' _ _ σ' τ' := ⟨u1, u2, u3, (by omega), u5, u6, zf⟩
    refine Or.inr ⟨σ', τ', p', c', m', wh', F', N', nl', [], nb, i1, i2, i3, (G5.tr Gx).gs hNe, i7, fun y hy => by simp at hy, (by omega), (by omega), (by omega), fun x hx => ?_, i11, fun σ2 τ2 L => ?_⟩
    · have := i10 x hx
      exact ⟨(by omega), (by omega), (by omega), (by omega), this.2.2.2.2⟩
    · have L5 := (Gx.bkB L).no (a' := c) (c' := c + 1) (d' := m) (m' := m + 1) (by omega) (by omega) (by omega) (by omega) (fun x hx => by have := i10 x hx; constructor <;> omega)
      have L2 := P3.2.bk (P4.2.bk (P5.2.bk L5))
      have L1 := P2.2.bk L2
      have k1 := L1.gC (by omega)
      have k2 := L2.gM (by omega)
      refine seg0_in [(f, c + 1, m + 1, s, l, 50)] ⟨k1.1, k2.1, rfl⟩ (fun y hy => ?_)
      rw [List.mem_singleton.1 hy]
      exact i12 σ2 τ2 (L.mo (by omega) (Nat.le_refl _) (by omega) (Nat.le_refl _) (fun x hx => ⟨fun _ _ => hx, fun _ _ => hx⟩))
