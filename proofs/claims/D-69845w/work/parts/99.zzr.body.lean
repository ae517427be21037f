/-! bodies -/
theorem cb_of {b : Nat → Int32} {n T : Nat} {Q : tkQ} {X : List Int32 → Prop} (hT5 : T ≤ 520) (k : Nat) (hK : CK b n T Q X k) : CB b n T Q X (k + 1) := by
  intro F N FO Z PL cl ml p v c m wh W σ τ f s l me hTp h hN hFO hme hWl hNv hcb hmb
  have hv20 := h.2.2.1.2.1
  have hsB : sB s := hFO.sb (by omega) (by omega)
  have hs0 : sB ([] : List Nat) := ⟨by decide, by decide, by decide, fun x hx => by cases hx⟩
  obtain ⟨z, R, rfl, e1, e2⟩ := hN
  have hN : hdN (z :: R) f l := ⟨z, R, rfl, e1, e2⟩
  have Q0 := h.pop
  have hpT := h.2.2.1.1
  have hv20 := h.2.2.1.2.1
  have hbc := h.2.2.1.2.2.1
  have hbm := h.2.2.1.2.2.2.1
  have c14 := h.c14 hT5
  have h1 := h.2.1
  have hml := h.2.2.2.2.2
  have hcl := h.2.2.2.2.1.1
  have go : ∀ y τ', (y = 0 ∨ y = 1) → lj_R lm_P 83 [.ref 0, .int (Int32.ofNat me)] (lj_put τ 0 46 (Int32.ofNat W.length)) = some (.inl (some (.int y)), τ') → mLoop τ = mNx y τ' := fun y τ' hy e => h.go hy (by
    rw [rm_30, km_30_0, if_neg (by decide), if_neg (by decide), if_neg (by decide), if_neg (by decide), if_neg (by decide), if_neg (by decide), if_neg (by decide), if_neg (by decide), if_neg (by decide), if_neg (by decide), if_neg (by decide), if_neg (by decide), if_neg (by decide), if_neg (by decide), if_neg (by decide), if_neg (by decide), if_neg (by decide), if_neg (by decide), if_neg (by decide), if_pos rfl, e, bi_ok, vpb y hy])
  have e58 : σ.1 5 8 = Int32.ofNat F := h.1.2.2.2.1.1
  have e34 : (lj_put τ 0 46 (Int32.ofNat W.length)).1 0 34 = Int32.ofNat F := Q0.1.1.2.2.2.1.2.1
  have hF50 : F ≤ 50 := h.1.2.2.2.1.2.2.1
  have hk := tk_lt h.1.1 hpT
  have eM : lj_R lm_P 83 [.ref 0, .int (Int32.ofNat me)] (lj_put τ 0 46 (Int32.ofNat W.length)) = _ := rm_83 _ _
  rw [km_83_0, m_isSign Q0.1.1.1 hpT Q0.1.2.1.2.1 20 (by omega) 40 rfl, bi_ok] at eM
  rw [rc_81, kc_81_0, c_kind h.1.1 hpT h1.1, bi_ok]
  by_cases a60 : (Q p).1 = 60
  rotate_left
  · rw [if_neg (show ¬ (Q p).1 = 40 + 20 by omega), if_pos rfl, m_wrong Q0.1.1.1 hpT Q0.1.2.1.2.1 Q0.1.2.1.2.2.2.2.2.2.2.2.2, bi_ok] at eM
    rw [go 0 _ (Or.inl rfl) eM, nx0, if_neg (show ¬ Int32.ofNat (Q p).1 = 60 from fun z => a60 ((ofN_eq (c := 60) (by omega) (by omega)).1 z)), c_throw h.1.1 hpT h1.1]
    exact Or.inl (Q0.1.flt hT5 2 (Or.inl rfl) _)
  rw [if_pos (show (Q p).1 = 40 + 20 by omega), if_neg (by decide), e34] at eM
  rw [if_pos (show Int32.ofNat (Q p).1 = 60 by rw [a60]; rfl), e58]
  by_cases a50 : F = 50
  · have q50 : Int32.ofNat F = 50 := by rw [a50]; rfl
    have fq3 : fq (Q p).1 3 = 3 := by unfold fq; rw [if_neg (by omega)]
    rw [if_pos q50, m_here Q0.1.1.1 hpT Q0.1.2.1.2.1, bi_ok, m_fail _ Q0.1.2.1.2.2.2.2.2.2.2.2.2 3 (Q p).2.1, bi_ok] at eM
    have hfl := Q0.1.flt hT5 3 (Or.inr (Or.inl rfl)) σ
    rw [go 0 _ (Or.inl rfl) eM, nx0, if_pos q50, c_throw h.1.1 hpT h1.1]
    rw [fq3] at hfl ⊢
    exact Or.inl hfl
  have hF : F < 50 := by omega
  have q50 : ¬ (Int32.ofNat F = 50) := fun q => a50 ((ofN_eq (c := 50) (by omega) (by omega)).1 q)
  rw [if_neg q50] at eM
  rw [if_neg q50]
  have eM : lj_R lm_P 83 [.ref 0, .int (Int32.ofNat me)] (lj_put τ 0 46 (Int32.ofNat W.length)) = bmO (Int32.ofNat me) (lj_put τ 0 46 (Int32.ofNat W.length)) := eM
  change vlR b n T Q X FO Z PL cl ml v W f s l (z :: R) F p c m σ τ (bdO (Int32.ofNat me) σ) (mLoop τ)
  have hlt : p < T := h.lt (by omega) (by omega)
  rcases bd_open hT5 Q0.1 a60 hF hNv hme (by omega) (by omega) with ⟨τ', r1, r2⟩ | ⟨nl, e, N', p', σ', τ', r1, r2, r3, r4, r5, r6, r7, r8, r9, r10, r11, r12, r13, r14, r15⟩
  · rw [go 0 τ' (Or.inl rfl) (eM.trans r1), nx0]
    exact Or.inl r2
  have hp'T := r3.2.2.1.1
  have C1 := r3.C (by omega) hT5 0 0 0 0 0
  have L1 := C1.1.la (by omega) (20, Int32.ofNat m, Int32.ofNat F, 0)
  have L2 := L1.1.la (by simp only [List.length_cons]; omega) (0, 0, 0, 0)
  have e83 : lj_R lm_P 83 [.ref 0, .int (Int32.ofNat me)] (lj_put τ 0 46 (Int32.ofNat W.length)) = some (.inl (some (.int 1)), mW (mW τ' W.length (20, Int32.ofNat m, Int32.ofNat F, 0)) ((20, Int32.ofNat m, Int32.ofNat F, 0) :: W).length (0, 0, 0, 0)) := by
    rw [eM, r2]
    unfold bmE
    rw [(m_later r3.2.1.2.2.2.2.2.2.2.2.1 (by omega) 20 (Int32.ofNat m) (Int32.ofNat F) 0).1, bv_ok, (m_later L1.1.2.1.2.2.2.2.2.2.2.2.1 (by simp only [List.length_cons]; omega) 0 0 0 0).1, bv_ok]
  have hZx := h.2.2.2.2.1.2.1.2.2
  have hZy := h.2.2.2.2.1.2.2.2.2.2.2
  have hZz := h.2.2.2.1.2.2.2.2.2.2.2.2.2.2
  have l58 : lv σ 5 8 = (F : Int) := by unfold lv; rw [e58, lz_lit (by omega)]
  have hlY : N'.length = R.length + 2 := by rw [lvY_len r5]; simp
  rw [go 1 _ (Or.inr rfl) e83, nx1 L2.1.2.1, r1]
  unfold bdC
  rw [rc_60, kc_60_0, c_put3 r3.2.1.2.2.2.2.1 (by omega), bi_ok]
  rcases hK (F + 1) N' FO nl 0 [] Z PL cl ml p' v (c + 2) (m + 2) wh ((20, Int32.ofNat m, Int32.ofNat F, 0) :: W) _ _ F [] (List.range nl).reverse [] 0 (by omega) L2.1 r4 ⟨rfl, fun x hx => by cases hx⟩ (by simp only [List.length_cons]; omega) (by omega) (by omega) (bW_body (by omega) (by omega) _ _) (by
    intro x Y ex
    have hx : x ∈ Z := by rw [ex]; exact List.mem_cons_self
    have q1 := hZx x hx
    have q2 := hZy x hx
    simp only [List.length_cons] at q2
    refine ⟨⟨fun e => by omega, fun e => by omega⟩, fun e => by omega⟩) with hf | ⟨σ5, τ5, p5, c5, m5, wh5, F5, N5, nl5, e5, nb, j1, j2, j3, j4, j5, j6, j7, j8, j9, j10, j11, j12⟩
  · exact Or.inl (flt_bv (flt_bv hf _) _)
  have hnb : nb = [] := by
    cases nb with
    | nil => rfl
    | cons a r =>
      obtain ⟨x, Y, ex, ey⟩ := j11 (by simp)
      have := hZx x (by rw [ex]; exact List.mem_cons_self)
      omega
  subst hnb
  rw [adB_nil] at j3
  have hc5 := j4.2.2.2.2.1
  have hm5 := j4.2.2.2.2.2.1
  have hpp5 := j4.2.2.2.1
  have hp5 := j3.2.2.1.1
  have c145 := j3.c14 hT5
  have hFF := j4.2.2.1
  obtain ⟨y5, S5, hN5, y51, y52, hX5⟩ : ∃ y S, N5 = y :: S ∧ y.1 = F ∧ y.2.1 = e5 ++ e ∧ lvX (z :: R) S := by
    obtain ⟨y, S, y', S', q1, q2, q3, q4, q5, q6⟩ := r5.tr j4.2.1
    obtain ⟨rfl, rfl⟩ := List.cons.inj q1
    exact ⟨y', S', q2, q3, by rw [q4]; simp, q6⟩
  subst hN5
  obtain ⟨z5, R5, rfl⟩ : ∃ z5 R5, S5 = z5 :: R5 := by
    cases S5 with
    | nil => exact hX5.elim
    | cons a r => exact ⟨a, r, rfl⟩
  have z51 : z5.1 = z.1 := hX5.1
  have hl5 : z5.2.1.map (·.2.2) = l := by rw [hX5.2.1]; exact e2
  have hRl : (z5 :: R5).length = (z :: R).length := (lvX_map hX5).2.1
  rw [j1, bv_ok, j2]
  have B1 := j3.pop
  have B2 : PS b n T Q X F5 (y5 :: z5 :: R5) (((nl5, 0), []) :: FO) Z PL cl ml p5 v c5 m5 wh5 W σ5 (lj_put τ5 0 46 (Int32.ofNat W.length)) := B1.1.low hZz (by omega) (by omega)
  have X1 := B2.C (by omega) hT5 15 0 0 0 0
  have X2 := X1.1.C (by omega) hT5 40 0 0 0 0
  have X3 := X2.1.M (by omega) 14 0 0 0
  have X4 := X3.1.M (by omega) 38 0 0 0
  have F51 : F < 51 := by omega
  have y551 : y5.1 < 51 := by rw [y51]; exact F51
  have g62 := X4.1.1.2.2.1.2.2.2.2.2.2.1
  have g62 : (cP (cP σ5 c5 15 0 0 0 0) (c5 + 1) 40 0 0 0 0).1 6 2 = Int32.ofNat y5.1 := g62
  have g44 : (cP (cP σ5 c5 15 0 0 0 0) (c5 + 1) 40 0 0 0 0).1 44 y5.1 = Int32.ofNat y5.2.1.length := X4.1.1.2.2.1.1.1.2.2.1
  have gl50 : y5.2.1.length ≤ 50 := X4.1.1.2.2.1.1.1.2.2.2.1
  have hks := X4.1.1.2.2.2.2.2.1.1.2.2.2.2.2.1
  obtain ⟨_, ks2, _⟩ := ksc_app (kn := []) y5.2.1 (by rw [List.append_nil]; exact hks)
  have hS40 : lv (cP (cP σ5 c5 15 0 0 0 0) (c5 + 1) 40 0 0 0 0) 5 18 < 4000 := by
    have u1 := X4.1.2.2.2.2.1.2.1.1
    have : (0 : Int) ≤ (rsv (((nl5, 0), []) :: FO) : Int) := Int.natCast_nonneg _
    omega
  have cls := c_cls60 (f := y5.1) y551
  obtain ⟨σ6, q1, q2, q3, q4, q5, q6, q7⟩ := cls_loop y551 cls.1 cls.2 y5.2.1.length _ g62 (by rw [Nat.zero_add]; exact g44) (by omega) (fun i a b => by
    obtain ⟨k, x, v1, v2, v3, _⟩ := ks2 i (Nat.zero_le _) (by rw [List.append_nil]; omega)
    exact ⟨k, v2, by omega⟩)
  have cl6 := X4.1.cls (e := y5.2.1) (kn := []) (by rw [List.append_nil]) hT5 q2 q3 q4 q5 q6 q7 (τ' := lj_put (mP (mP (lj_put τ5 0 46 (Int32.ofNat W.length)) m5 14 0 0 0) (m5 + 1) 38 0 0 0) 0 50 (Int32.ofNat (baseN (z5 :: R5)))) (by rw [lj_put_1, if_pos ⟨rfl, rfl⟩]; simp) (fun k j q => by rw [lj_put_1, if_neg q]) rfl
  generalize hτ6 : lj_put (mP (mP (lj_put τ5 0 46 (Int32.ofNat W.length)) m5 14 0 0 0) (m5 + 1) 38 0 0 0) 0 50 (Int32.ofNat (baseN (z5 :: R5))) = τ6 at *
  have hC6 : lj_R lc_P 60 [.ref 6] σ' = some (.inl none, σ6) := by
    rw [rc_60, kc_60_0, c_put3 r3.2.1.2.2.2.2.1 (by omega), bi_ok, j1, bv_ok, c_put3 B2.2.1.2.2.2.2.1 (by omega), bi_ok, c_put3 X1.1.2.1.2.2.2.2.1 (by omega), bi_ok]
    exact q1
  rw [c_put3 B2.2.1.2.2.2.2.1 (by omega), bi_ok, c_put3 X1.1.2.1.2.2.2.2.1 (by omega), bi_ok, q1, bv_ok]
  -- the model at the end
  have ge : ∀ y τ2, (y = 0 ∨ y = 1) → lj_R lm_P 85 [.ref 0, .int (Int32.ofNat m), .int (Int32.ofNat F)] (lj_put τ5 0 46 (Int32.ofNat W.length)) = some (.inl (some (.int y)), τ2) → mLoop τ5 = mNx y τ2 := fun y τ2 hy e => j3.go hy (by rw [rm_30, km_30_0, if_neg (by decide), if_neg (by decide), if_neg (by decide), if_neg (by decide), if_neg (by decide), if_neg (by decide), if_neg (by decide), if_neg (by decide), if_neg (by decide), if_neg (by decide), if_neg (by decide), if_neg (by decide), if_neg (by decide), if_neg (by decide), if_neg (by decide), if_neg (by decide), if_neg (by decide), if_neg (by decide), if_neg (by decide), if_neg (by decide), if_pos rfl, e, bi_ok, vpb y hy])
  have eE : lj_R lm_P 85 [.ref 0, .int (Int32.ofNat m), .int (Int32.ofNat F)] (lj_put τ5 0 46 (Int32.ofNat W.length)) = _ := rm_85 _ _ _
  rw [km_85_0, m_needWord B1.1.1.1 hp5 B1.1.2.1.2.1 B1.1.2.1.2.2.2.2.2.2.2.2.2 5 (by omega) 6 rfl] at eE
  have ps := c_pass cl6.1.1.1 hp5 cl6.1.2.1.1 15 (by omega)
  by_cases a15 : (Q p5).1 = 15
  rotate_left
  · rw [if_neg a15] at ps
    rw [if_neg (show ¬ (Q p5).1 = 10 + 5 by omega), bi_ok, if_pos rfl] at eE
    rw [show lj_R lc_P 71 [.ref 6, .int 15] σ6 = _ from ps, ge 0 _ (Or.inl rfl) eE, nx0]
    exact Or.inl (flt_bv (B1.1.flt hT5 2 (Or.inl rfl) _) _)
  have hlt5 : p5 < T := j3.lt (by omega) (by omega)
  rw [if_pos a15] at ps
  have V := cl6.1.st hlt5
  have Rm := V.1.rmf rfl (fun x hx => by rw [hRl]; exact hZy x hx)
  have J1 := Rm.1.p23 c 23 (Or.inl rfl) (Int32.ofNat (c5 + 2))
  have J2 := J1.1.p21 (j := m) hml (Int32.ofNat (m5 + 2))
  have K1 := J2.1.C (by omega) hT5 22 (Int32.ofNat F) 0 0 0
  have K2 := K1.1.M (by omega) 25 (Int32.ofNat F) 0 0
  generalize hσf : lj_put (lj_put (lj_put σ6 6 0 (Int32.ofNat (p5 + 1))) 6 2 (Int32.ofNat z5.1)) 23 c (Int32.ofNat (c5 + 2)) = σf at *
  generalize hτf : lj_put (lj_put (lj_put τ6 0 25 (Int32.ofNat (p5 + 1))) 0 53 (Int32.ofNat R5.length)) 21 m (Int32.ofNat (m5 + 2)) = τf at *
  have hg3 : lf aM (mP τf (m5 + 1 + 1) 25 (Int32.ofNat F) 0 0) (lj_put (mP τf (m5 + 1 + 1) 25 (Int32.ofNat F) 0 0) 0 64 (-1)) := lf_put (lf_rf _ _) _ _ _ rfl
  have K3 : PS b n T Q X F5 (z5 :: R5) FO Z PL cl ml (p5 + 1) v (c5 + 3) (m5 + 3) wh5 W (cP σf (c5 + 1 + 1) 22 (Int32.ofNat F) 0 0 0) (lj_put (mP τf (m5 + 1 + 1) 25 (Int32.ofNat F) 0 0) 0 64 (-1)) := K2.1.up (lf_rf _ _) hg3 (hnd_eq K2.1.2.1 (fun _ _ _ => rfl) (fun k j q => by rw [lj_put_1, if_neg (by rintro ⟨a, a'⟩; rw [a, a'] at q; cases q)])) K2.1.2.2.1 (Nat.le_refl _) (Nat.le_refl _) (fun j _ => by rw [lj_put_1, if_neg (by omega)])
  have TK3 : TX (z5 :: R5) (cP σf (c5 + 1 + 1) 22 (Int32.ofNat F) 0 0 0) (mP τf (m5 + 1 + 1) 25 (Int32.ofNat F) 0 0) (cP σf (c5 + 1 + 1) 22 (Int32.ofNat F) 0 0 0) (lj_put (mP τf (m5 + 1 + 1) 25 (Int32.ofNat F) 0 0) 0 64 (-1)) := putM_TX _ _ _ _ hg3 (fun _ => rfl)
  -- acts of the end state
  have SC : ∀ k j, 22 ≤ k → k ≤ 26 → j < c5 + 2 → ¬ (k = 23 ∧ j = c) → (cP σf (c5 + 1 + 1) 22 (Int32.ofNat F) 0 0 0).1 k j = (cP (cP σ5 c5 15 0 0 0 0) (c5 + 1) 40 0 0 0 0).1 k j := fun k j v1 v2 v3 v4 => by
    rw [cP_o _ _ _ _ _ _ _ k j (by omega) (by omega), ← hσf, lj_put_1, if_neg v4, lj_put_1, if_neg (by omega), lj_put_1, if_neg (by omega), q3 k j (by omega) (by omega)]
  have SM : ∀ k j, 20 ≤ k → k ≤ 23 → j < m5 + 2 → ¬ (k = 21 ∧ j = m) → (lj_put (mP τf (m5 + 1 + 1) 25 (Int32.ofNat F) 0 0) 0 64 (-1)).1 k j = (mP (mP (lj_put τ5 0 46 (Int32.ofNat W.length)) m5 14 0 0 0) (m5 + 1) 38 0 0 0).1 k j := fun k j v1 v2 v3 v4 => by
    rw [lj_put_1, if_neg (by omega), mP_o _ _ _ _ _ _ k j (by omega) (by omega), ← hτf, lj_put_1, if_neg v4, lj_put_1, if_neg (by omega), lj_put_1, if_neg (by omega), ← hτ6, lj_put_1, if_neg (by omega)]
  have zA : fz 0 (c + 2) 0 (m + 2) (cP σ' (c + 1) 0 0 0 0 0) τ' σ5 τ5 := (L1.2.tr L2.2).2.2.2.2.2.2.tr j4.2.2.2.2.2.2
  have C5 : ∀ k j, 22 ≤ k → k ≤ 26 → j < c5 → (cP (cP σ5 c5 15 0 0 0 0) (c5 + 1) 40 0 0 0 0).1 k j = σ5.1 k j := fun k j v1 v2 v3 => by rw [cP_o _ _ _ _ _ _ _ k j (by omega) (by omega), cP_o _ _ _ _ _ _ _ k j (by omega) (by omega)]
  have M5 : ∀ k j, 20 ≤ k → k ≤ 23 → j < m5 → (mP (mP (lj_put τ5 0 46 (Int32.ofNat W.length)) m5 14 0 0 0) (m5 + 1) 38 0 0 0).1 k j = τ5.1 k j := fun k j v1 v2 v3 => by rw [mP_o _ _ _ _ _ _ k j (by omega) (by omega), mP_o _ _ _ _ _ _ k j (by omega) (by omega), lj_put_1, if_neg (by omega)]
  -- later states
  have sub : ∀ q, q ∉ (y5 :: z5 :: R5).map (·.1) → q ∉ (z5 :: R5).map (·.1) := fun q w => by
    rw [List.map_cons, List.mem_cons, not_or] at w
    exact w.2
  have t56 : TX (y5 :: z5 :: R5) σ5 τ5 σ6 τ6 := (B1.2.1.tr (X1.2.tr (X2.2.tr (X3.2.tr X4.2))).1 (fun _ _ q => q)).tr cl6.2.1 (fun _ _ q => q)
  have t6f : TX (y5 :: z5 :: R5) σ6 τ6 (cP σf (c5 + 1 + 1) 22 (Int32.ofNat F) 0 0 0) (lj_put (mP τf (m5 + 1 + 1) 25 (Int32.ofNat F) 0 0) 0 64 (-1)) := (V.2.1.tr (Rm.2.1 (y5 :: z5 :: R5)) (fun _ _ q => q)).tr (((J1.2.1.tr J2.2.1 (fun _ _ q => q)).tr (K1.2.tr K2.2).1 (fun _ _ q => q)).tr TK3 (fun _ _ q => q)) (fun q _ w => sub q w)
  have t5f := t56.tr t6f (fun _ _ q => q)
  have tsf : TX N' (cP σ' (c + 1) 0 0 0 0 0) τ' (cP σf (c5 + 1 + 1) 22 (Int32.ofNat F) 0 0 0) (lj_put (mP τf (m5 + 1 + 1) 25 (Int32.ofNat F) 0 0) 0 64 (-1)) := ((L1.2.tr L2.2).1.tr j4.1 (fun _ _ q => q)).tr t5f (fun q _ w => by rw [lvY_q j4.2.1]; exact w)
  have tAll : TX (z :: R) σ τ (cP σf (c5 + 1 + 1) 22 (Int32.ofNat F) 0 0 0) (lj_put (mP τf (m5 + 1 + 1) 25 (Int32.ofNat F) 0 0) 0 64 (-1)) := (Q0.2.1.tr r6 (fun _ _ q => q)).tr (C1.2.1.tr tsf (fun _ _ q => q)) (fun q hq w => by
    rw [lvY_q r5, List.map_cons, List.mem_cons, not_or]
    refine ⟨fun e => ?_, w⟩
    have e' : q = F := e
    omega)
  have e50F : (cP (cP σ5 c5 15 0 0 0 0) (c5 + 1) 40 0 0 0 0).1 5 0 = Int32.ofNat (c5 + 1 + 1) := X4.1.2.1.2.2.2.2.1
  have r50 : (lj_put (lj_put σ6 6 0 (Int32.ofNat (p5 + 1))) 6 2 (Int32.ofNat z5.1)).1 5 0 = Int32.ofNat (c5 + 2) := Rm.1.2.1.2.2.2.2.1
  have r22 : (lj_put (lj_put σ6 6 0 (Int32.ofNat (p5 + 1))) 6 2 (Int32.ofNat z5.1)).1 22 c = 30 := by
    rw [lj_put_1, if_neg (by omega), lj_put_1, if_neg (by omega), q3 22 c (by omega) (by omega), C5 22 c (by omega) (by omega) (by omega), zA.1 22 c (by omega) (by omega) (by omega) (by omega), cP_o _ _ _ _ _ _ _ 22 c (by omega) (by omega)]; exact r8
  -- the component
  have eCf : lj_bv (lj_R lc_P 71 [.ref 6, .int 15] σ6) (fun σ3 => lj_bv (lj_R lc_P 57 [.ref 5, .int (Int32.ofNat c)] (lj_put σ3 6 2 (Int32.ofNat z.1))) (fun σ4 => lj_bi (lj_R lc_P 54 [.ref 5, .int 22, .int (Int32.ofNat F), .int 0] σ4) (fun y6 σ5 => some (.inl none, σ5)) lj_up) lj_up) lj_up = some (.inl none, cP σf (c5 + 1 + 1) 22 (Int32.ofNat F) 0 0 0) := by
    rw [show lj_R lc_P 71 [.ref 6, .int 15] σ6 = _ from ps, bv_ok, ← z51, c_land r50 (by omega) (by rw [r22]; decide) (by rw [r22]; decide), bv_ok, hσf, c_put3 J2.1.2.1.2.2.2.2.1 (by omega), bi_ok]
  -- the model
  have hNM := X4.1.1.2.2.1
  have m53 : (mP (mP (lj_put τ5 0 46 (Int32.ofNat W.length)) m5 14 0 0 0) (m5 + 1) 38 0 0 0).1 0 53 = Int32.ofNat (z5 :: R5).length := hNM.2.2.2.2.2.2.2.1
  have m31 : (mP (mP (lj_put τ5 0 46 (Int32.ofNat W.length)) m5 14 0 0 0) (m5 + 1) 38 0 0 0).1 31 (z5 :: R5).length = Int32.ofNat (baseN (z5 :: R5)) := hNM.2.1.1.2.2.1
  have m41 : (mP (mP (lj_put τ5 0 46 (Int32.ofNat W.length)) m5 14 0 0 0) (m5 + 1) 38 0 0 0).1 0 41 = Int32.ofNat (m5 + 2) := X4.1.2.1.2.2.2.2.2.1
  have hR22 := hNM.2.2.2.2.2.1
  simp only [List.length_cons] at hR22
  have eMf : lj_R lm_P 85 [.ref 0, .int (Int32.ofNat m), .int (Int32.ofNat F)] (lj_put τ5 0 46 (Int32.ofNat W.length)) = some (.inl (some (.int 1)), lj_put (mP τf (m5 + 1 + 1) 25 (Int32.ofNat F) 0 0) 0 64 (-1)) := by
    rw [if_pos (show (Q p5).1 = 10 + 5 by omega), bi_ok, if_neg (by decide), m_emit (m := m5) (by rw [lj_put_1, if_neg (by omega)]; exact B2.2.1.2.2.2.2.2.1) (by omega), bi_ok, mP_25, m_emit (m := m5 + 1) (by rw [lj_put_1, if_neg (by omega)]; exact X3.1.2.1.2.2.2.2.2.1) (by omega), bi_ok, mP_25] at eE
    rw [show (lj_put (mP (mP (lj_put τ5 0 46 (Int32.ofNat W.length)) m5 14 0 0 0) (m5 + 1) 38 0 0 0) 0 25 (Int32.ofNat (p5 + 1))).1 0 53 = Int32.ofNat (z5 :: R5).length by rw [lj_put_1, if_neg (by omega)]; exact m53, if_pos (ofN_in (by simp only [List.length_cons]; omega) (by omega)), if_pos (ofN_in (by omega) (by omega)), lz_onat (show (z5 :: R5).length < 2147483648 by simp only [List.length_cons]; omega), lz_onat (show m < 2147483648 by omega), show (lj_put (mP (mP (lj_put τ5 0 46 (Int32.ofNat W.length)) m5 14 0 0 0) (m5 + 1) 38 0 0 0) 0 25 (Int32.ofNat (p5 + 1))).1 31 (z5 :: R5).length = Int32.ofNat (baseN (z5 :: R5)) by rw [lj_put_1, if_neg (by omega)]; exact m31, show (lj_put (mP (mP (lj_put τ5 0 46 (Int32.ofNat W.length)) m5 14 0 0 0) (m5 + 1) 38 0 0 0) 0 25 (Int32.ofNat (p5 + 1))).1 0 41 = Int32.ofNat (m5 + 2) by rw [lj_put_1, if_neg (by omega)]; exact m41, List.length_cons, lz_pred', show lj_put (lj_put (mP (mP (lj_put τ5 0 46 (Int32.ofNat W.length)) m5 14 0 0 0) (m5 + 1) 38 0 0 0) 0 25 (Int32.ofNat (p5 + 1))) 0 50 (Int32.ofNat (baseN (z5 :: R5))) = lj_put (lj_put (mP (mP (lj_put τ5 0 46 (Int32.ofNat W.length)) m5 14 0 0 0) (m5 + 1) 38 0 0 0) 0 50 (Int32.ofNat (baseN (z5 :: R5)))) 0 25 (Int32.ofNat (p5 + 1)) from put_cm _ _ _ (by omega), hτ6, hτf, m_emit J2.1.2.1.2.2.2.2.2.1 (by omega), bi_ok] at eE
    exact eE
  rw [ge 1 _ (Or.inr rfl) eMf, nx1 K3.2.1]
  refine Or.inr ⟨_, _, p5 + 1, c5 + 3, m5 + 3, wh5, F5, z5 :: R5, eCf, rfl, K3, ⟨tAll, hX5, (by omega), (by omega), (by omega), (by omega), ?_⟩, (by omega), (by omega), (by omega), Or.inl ⟨rfl, fun σ2 τ2 tx fzz => ?_⟩, by rw [lj_put_1, if_pos ⟨rfl, rfl⟩]⟩
  · refine ⟨fun k j v1 v2 v3 v4 => ?_, fun k j v1 v2 v3 v4 => ?_⟩
    · rw [SC k j v1 v2 (by omega) (by omega), C5 k j v1 v2 (by omega), zA.1 k j v1 v2 v3 (by omega), cP_o _ _ _ _ _ _ _ k j (by omega) (by omega), r7.1 k j v1 v2 v3 v4]
    · rw [SM k j v1 v2 (by omega) (by omega), M5 k j v1 v2 (by omega), zA.2 k j v1 v2 v3 (by omega), r7.2 k j v1 v2 v3 v4, lj_put_1, if_neg (by omega)]
  · -- the acts
    have D22 : ∀ k, 22 ≤ k → k ≤ 26 → ¬ (k = 23) → σ2.1 k c = σ'.1 k c := fun k v1 v2 v3 => by rw [fzz.1 k c v1 v2 (by omega) (by omega), SC k c v1 v2 (by omega) (by omega), C5 k c v1 v2 (by omega), zA.1 k c v1 v2 (by omega) (by omega), cP_o _ _ _ _ _ _ _ k c (by omega) (by omega)]
    have n23 : σ2.1 23 c = Int32.ofNat (c5 + 2) := by
      rw [fzz.1 23 c (by omega) (by omega) (by omega) (by omega), cP_o _ _ _ _ _ _ _ 23 c (by omega) (by omega), ← hσf, lj_put_1, if_pos ⟨rfl, rfl⟩]
    have n21 : τ2.1 21 m = Int32.ofNat (m5 + 2) := by
      rw [fzz.2 21 m (by omega) (by omega) (by omega) (by omega), lj_put_1, if_neg (by omega), mP_o _ _ _ _ _ _ 21 m (by omega) (by omega), ← hτf, lj_put_1, if_pos ⟨rfl, rfl⟩]
    have n20 : τ2.1 20 m = 21 := by
      rw [fzz.2 20 m (by omega) (by omega) (by omega) (by omega), SM 20 m (by omega) (by omega) (by omega) (by omega), M5 20 m (by omega) (by omega) (by omega), zA.2 20 m (by omega) (by omega) (by omega) (by omega)]; exact r9
    have gK1 := cP_get σf (c5 + 1 + 1) 22 (Int32.ofNat F) 0 0 0
    have gK2 := mP_get τf (m5 + 1 + 1) 25 (Int32.ofNat F) 0 0
    have hFn : F ∉ (z5 :: R5).map (·.1) := fun w => by
      have hnd := j3.1.2.2.1.2.2.2.1
      rw [List.map_cons, List.nodup_cons, y51] at hnd
      exact hnd.1 w
    have l58f : lv (cP σf (c5 + 1 + 1) 22 (Int32.ofNat F) 0 0 0) 5 8 = (F5 : Int) := by unfold lv; rw [K3.1.2.2.2.1.1, lz_lit (by have := K3.1.2.2.2.1.2.2.1; omega)]
    have hNR6 := cl6.1.1.2.2.1
    have z5F : z5.1 < F5 := K3.1.2.2.2.2.1 z5 (List.mem_cons_self)
    have c58 : lv (cP σ' (c + 1) 0 0 0 0 0) 5 8 = ((F + 1 : Nat) : Int) := by unfold lv; rw [C1.1.1.2.2.2.1.1, lz_lit (by omega)]
    obtain ⟨s28, s29, ⟨s12, s13⟩, _⟩ := tsf.2.2.2.2.2.2.1 F (by rw [c58]; omega)
    have s28 := s28.trans ((cP_o σ' (c + 1) 0 0 0 0 0 28 F (by omega) (by omega)).trans r12)
    have s29 := s29.trans ((cP_o σ' (c + 1) 0 0 0 0 0 29 F (by omega) (by omega)).trans r14)
    rw [r13] at s12
    rw [r15] at s13
    have nl50 : nl ≤ 50 := by
      have := r3.1.2.2.2.2.2.1
      obtain ⟨y, S, rfl, _, _⟩ := r4
      exact this.1.2.2.2.2.2.2.2.1
    have hfc : fnC σ2 τ2 F z5.1 l := fnC_mk (σ0 := σ6) (τ0 := τ6) (kn := []) (cp := y5.2.2) (R := R5) (by rw [← y51]; exact hNR6.1.1.2.2.2.2.2) (by rw [← y51]; exact hNR6.2.1.1.2.2.2.2.2) hNR6.2.2.1 hNR6.1.2.1.2.2.2.2.2 hl5 (fun k j q => by rw [cP_o _ _ _ _ _ _ _ k j (by omega) (by omega), ← hσf, lj_put_1, if_neg (by omega), lj_put_1, if_neg (by omega), lj_put_1, if_neg (by omega)]) (fun k j q => by rw [lj_put_1, if_neg (by omega), mP_o _ _ _ _ _ _ k j (by omega) (by omega), ← hτf, lj_put_1, if_neg (by omega), lj_put_1, if_neg (by omega), lj_put_1, if_neg (by omega)]) tx (by rw [l58f]; omega) hFn (by rw [l58f]; omega) s29 s13 nl50 (by unfold lv; rw [s28, lz_lit (by omega)]; omega) (by unfold lv; rw [s12, lz_lit (by omega)]; omega)
    rw [z51, e1] at hfc
    obtain ⟨w28, w29, ⟨w12, w13⟩, _⟩ := tx.2.2.2.2.2.2.1 F (by rw [l58f]; omega)
    have hfe : fnE σ2 τ2 F = (F, c + 1, m + 1, [], (List.range nl).reverse, 50) := by
      have a1 : lv σ2 28 F = ((c + 1 : Nat) : Int) := by unfold lv; rw [w28, s28, lz_lit (by omega)]
      have a2 : lv τ2 12 F = ((m + 1 : Nat) : Int) := by unfold lv; rw [w12, s12, lz_lit (by omega)]
      have a3 : lv σ2 29 F = (nl : Int) := by unfold lv; rw [w29, s29, lz_lit (by omega)]
      unfold fnE
      rw [a1, a2, a3]
      rfl
    have st0 : σ2.1 22 (c + 1) = 0 := by
      rw [fzz.1 22 (c + 1) (by omega) (by omega) (by omega) (by omega), SC 22 (c + 1) (by omega) (by omega) (by omega) (by omega), C5 22 (c + 1) (by omega) (by omega) (by omega), zA.1 22 (c + 1) (by omega) (by omega) (by omega) (by omega)]; exact (cP_get _ _ _ _ _ _ _).1
    have st1 : τ2.1 20 (m + 1) = 0 := by
      rw [fzz.2 20 (m + 1) (by omega) (by omega) (by omega) (by omega), SM 20 (m + 1) (by omega) (by omega) (by omega) (by omega), M5 20 (m + 1) (by omega) (by omega) (by omega), zA.2 20 (m + 1) (by omega) (by omega) (by omega) (by omega)]; exact r10
    have en0 : (lv σ2 28 F).toNat = c + 1 := congrArg (fun x : pT => x.2.1) hfe
    have en1 : (lv τ2 12 F).toNat = m + 1 := congrArg (fun x : pT => x.2.2.1) hfe
    refine seg_in [(f, c5 + 2, m5 + 2, s, l, 50)] ⟨37, c5 + 2, m5 + 2, (by omega), ⟨by omega, Or.inl ⟨by first | omega | (dsimp only; omega), by first | omega | (dsimp only; omega)⟩⟩, by show σ2.1 22 c = 30; rw [D22 22 (by omega) (by omega) (by omega)]; exact r8, n23, n20, n21, rfl⟩ (fun y hy => ?_)
    rw [List.mem_singleton.1 hy]
    refine seg_in [(f, c5 + 3, m5 + 3, 0 :: s, l, 50), fnE σ2 τ2 F] ⟨29, F, ⟨F51, by rw [en0]; exact st0, by rw [en1]; exact st1⟩, hfc, ?_, ?_, ?_, ?_, rfl⟩ (fun y hy => ?_)
    · show σ2.1 22 (c5 + 2) = 22
      rw [fzz.1 22 (c5 + 2) (by omega) (by omega) (by omega) (by omega)]; exact gK1.1
    · show σ2.1 23 (c5 + 2) = _
      rw [fzz.1 23 (c5 + 2) (by omega) (by omega) (by omega) (by omega)]; exact gK1.2.1
    · show τ2.1 20 (m5 + 2) = 25
      rw [fzz.2 20 (m5 + 2) (by omega) (by omega) (by omega) (by omega), lj_put_1, if_neg (by omega)]; exact gK2.1
    · show τ2.1 21 (m5 + 2) = _
      rw [fzz.2 21 (m5 + 2) (by omega) (by omega) (by omega) (by omega), lj_put_1, if_neg (by omega)]; exact gK2.2.1
    · rcases List.mem_cons.1 hy with hy | hy
      · rw [hy]; exact seg_ex rfl
      · rw [List.mem_singleton.1 hy, hfe]
        refine seg_in [(F, c + 2, m + 2, [], (List.range nl).reverse, 50)] ⟨0, st0, st1, rfl⟩ (fun y hy => ?_)
        · rw [List.mem_singleton.1 hy]
          refine (j12 σ2 τ2 ⟨t5f.tr tx (fun q _ w => sub q w), fun k j v1 v2 v3 v4 _ => ?_, fun k j v1 v2 v3 v4 _ => ?_⟩).tr (fun y hy => ?_)
          · rw [fzz.1 k j v1 v2 (by omega) (by omega), SC k j v1 v2 (by omega) (by omega), C5 k j v1 v2 v4]
          · rw [fzz.2 k j v1 v2 (by omega) (by omega), SM k j v1 v2 (by omega) (by omega), M5 k j v1 v2 v4]
          · rcases hy with hy | ⟨x, hx, _⟩
            · rw [hy]
              refine seg_in [(F, c5 + 1, m5 + 1, [1], e5.map (·.2.2) ++ (List.range nl).reverse, 50)] ⟨16, ?_, ?_, rfl⟩ (fun y hy => ?_)
              · show σ2.1 22 c5 = 15
                rw [fzz.1 22 c5 (by omega) (by omega) (by omega) (by omega), SC 22 c5 (by omega) (by omega) (by omega) (by omega), cP_o _ _ _ _ _ _ _ 22 c5 (by omega) (by omega)]; exact (cP_get _ _ _ _ _ _ _).1
              · show τ2.1 20 m5 = 14
                rw [fzz.2 20 m5 (by omega) (by omega) (by omega) (by omega), SM 20 m5 (by omega) (by omega) (by omega) (by omega), mP_o _ _ _ _ _ _ 20 m5 (by omega) (by omega)]; exact (mP_get _ _ _ _ _ _).1
              · rw [List.mem_singleton.1 hy]
                refine seg_in [] ⟨28, [], rfl, ?_, ?_, rfl⟩ (fun y hy => by cases hy)
                · show σ2.1 22 (c5 + 1) = 40
                  rw [fzz.1 22 (c5 + 1) (by omega) (by omega) (by omega) (by omega), SC 22 (c5 + 1) (by omega) (by omega) (by omega) (by omega)]; exact (cP_get _ _ _ _ _ _ _).1
                · show τ2.1 20 (m5 + 1) = 38
                  rw [fzz.2 20 (m5 + 1) (by omega) (by omega) (by omega) (by omega), SM 20 (m5 + 1) (by omega) (by omega) (by omega) (by omega)]; exact (mP_get _ _ _ _ _ _).1
            · cases hx
