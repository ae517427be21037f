/-! expressions: the loop over operators -/
theorem bv_ok (σ : lj_S) (k : lj_S → Option lj_O) (h : Nat → lj_S → Option lj_O) : lj_bv (some (.inl none, σ)) k h = k σ := rfl
theorem bi_ok (σ : lj_S) (x : Int32) (k : Int32 → lj_S → Option lj_O) (h : Nat → lj_S → Option lj_O) : lj_bi (some (.inl (some (.int x)), σ)) k h = k x σ := rfl
theorem hnd_21 {p v c m wh : Nat} {W : List wT} {σ τ : lj_S} (h : hnd p v c m wh W σ τ) (i : Nat) (x : Int32) : hnd p v c m wh W σ (lj_put τ 21 i x) := by
  obtain ⟨h1, h2, h3, h4, h5, h6, h7, h8, h9, h10⟩ := h
  refine ⟨h1, ?_, h3, ?_, h5, ?_, h7, ?_, mWt_cg h9 ?_ (fun k j _ => ?_), ?_⟩
  all_goals rw [lj_put_1, if_neg (by omega)]
  all_goals assumption
theorem hnd_23 {p v c m wh : Nat} {W : List wT} {σ τ : lj_S} (h : hnd p v c m wh W σ τ) (k i : Nat) (hk : k = 23 ∨ k = 25) (x : Int32) : hnd p v c m wh W (lj_put σ k i x) τ := by
  obtain ⟨h1, h2, h3, h4, h5, h6, h7, h8, h9, h10⟩ := h
  refine ⟨?_, h2, ?_, h4, ?_, h6, ?_, h8, h9, h10⟩
  all_goals rw [lj_put_1, if_neg (by omega)]
  all_goals assumption
theorem limR_new (K : Nat) (hK : K < 70) (h : 1 ≤ stC K) : limR (if K = 50 then stC K - 1 else stC K) (if stM K = 9 then 8 else stM K) := by
  have t : ∀ k : Fin 70, 1 ≤ stC k.val → (((if k.val = 50 then stC k.val - 1 else stC k.val) = (if stM k.val = 9 then 8 else stM k.val) ∧ (if k.val = 50 then stC k.val - 1 else stC k.val) ≤ 7) ∨ ((if k.val = 50 then stC k.val - 1 else stC k.val) = 7 ∧ (if stM k.val = 9 then 8 else stM k.val) = 8) ∨ ((if k.val = 50 then stC k.val - 1 else stC k.val) = 9 ∧ (if stM k.val = 9 then 8 else stM k.val) = 10) ∨ ((if k.val = 50 then stC k.val - 1 else stC k.val) = 10 ∧ (if stM k.val = 9 then 8 else stM k.val) = 11) ∨ ((if k.val = 50 then stC k.val - 1 else stC k.val) = 10 ∧ (if stM k.val = 9 then 8 else stM k.val) = 12)) := by decide
  exact t ⟨K, hK⟩ h
theorem putC_TX (N : List lT) (σ τ : lj_S) (k j : Nat) (x : Int32) (h : aC k j = true) (h0 : ¬ (k = 5 ∧ (j = 0 ∨ j = 6))) (τ' : lj_S) (g : lf aM τ τ') (g2 : τ'.2 = τ.2) : TX N σ τ (lj_put σ k j x) τ' := by
  refine TX_up N (lf_put (lf_rf _ _) _ _ _ h) g ?_ ?_ (fun i _ => ⟨rfl, by rw [g2]⟩)
  · rw [lv_put, if_neg (by omega)]; exact Int.le_refl _
  · rw [lv_put, if_neg (by omega)]; exact Int.le_refl _
theorem putM_TX (N : List lT) (σ τ τ' : lj_S) (g : lf aM τ τ') (g2 : ∀ i, τ'.2 24 i = τ.2 24 i) : TX N σ τ σ τ' :=
  TX_up N (lf_rf _ _) g (Int.le_refl _) (Int.le_refl _) (fun i _ => ⟨rfl, g2 i⟩)
theorem cm_ops {b : Nat → Int32} {n T : Nat} {Q : tkQ} {X : List Int32 → Prop} (k : Nat) (ih : CE b n T Q X k) {FO : List fT} {Z : List zT} {PL : List qT} {cl ml v : Nat} {W : List wT} {f : Nat} {s l : List Nat} (hFO : hdF (16 * v + 78) (v + 4) FO s) (hB : sB s) (hWl : W.length + 10 ≤ 40 * v + 60) {N0 : List lT} {F0 p0 c0 m0 : Nat} {σ0 τ0 : lj_S} (hc00 : c0 ≤ 25 * p0 + 100) (hm00 : m0 ≤ 25 * p0 + 100) {lc ld : Nat} (hlim : limR lc ld) (hT5 : T ≤ 520) (hvb : vbd N0.length FO Z PL v) :
    ∀ (j F : Nat) (N : List lT) (p c m wh : Nat) (σ τ : lj_S) (what x3 : Int32) (x4 : Value), T - p < j → j ≤ k + 1 → PS b n T Q X F N FO Z PL cl ml p (v + 1) c m wh ((4, Int32.ofNat ld, 0, 0) :: (1, 0, 0, 0) :: W) σ τ → hdN N f l → exS f s l N c0 m0 c m what σ τ → GR N0 N F0 F p0 p c0 c m0 m σ0 τ0 σ τ → p0 < p → c + 10 ≤ c0 + 25 * (p - p0) → m + 10 ≤ m0 + 25 * (p - p0) → (what = 0 → τ.1 0 64 = -1) →
      exR b n T Q X FO Z PL cl ml v W f s l N0 F0 p0 c0 m0 σ0 τ0 (lj_D lc_P lc_M75 92 [.ref 6, .int (Int32.ofNat lc), .int what, .int x3, x4] [] σ) (mLoop τ)
  | 0, _, _, _, _, _, _, _, _, _, _, _, hj, _, _, _, _, _, _, _, _, _ => by omega
  | j + 1, F, N, p, c, m, wh, σ, τ, what, x3, x4, hj, hjk, hPS, hN, hE, hG, hp0, hcr, hmr, hlm => by
    have hTE := hPS.1.1
    have hb := hPS.2.2.1
    have hpT := hb.1
    have hv := hb.2.1
    have h1 := hPS.2.1
    have hk := tk_lt hTE hpT
    have hlb := limR_b hlim
    have hsC := stC_le (Q p).1
    have hsM := stM_le (Q p).1
    have h46 := h1.2.2.2.2.2.2.2.2.1
    have hWn : ((1, 0, 0, 0) :: W : List wT).length < 4000 := by simp; omega
    -- the component up to the choice
    have eC : lj_D lc_P lc_M75 92 [.ref 6, .int (Int32.ofNat lc), .int what, .int x3, x4] [] σ = (if Int32.ofNat (stC (Q p).1) ≤ Int32.ofNat lc then some (.inl (some (.int what)), (lj_put σ 6 1 ((σ.1 6 1) - 1))) else lj_bv (lj_R lc_P 78 [.ref 6, .int what] σ) (fun σ5 => lj_bv (lj_R lc_P 97 [.ref 6] σ5) (fun σ6 => lj_D lc_P lc_M75 92 [.ref 6, .int (Int32.ofNat lc), .int 0, .int x3, x4] [] σ6) lj_up) lj_up) := by
      rw [kc_75_92, c_kind hTE hpT h1.1]
      unfold lj_bi
      simp only []
      rw [c_strength σ _ hk]
    -- the model up to it
    have f0 : lf aM τ (lj_put τ 0 46 (Int32.ofNat ((1, 0, 0, 0) :: W : List wT).length)) := lf_put (lf_rf _ _) _ _ _ rfl
    have hpop := hnd_pop h1
    have goOps : ∀ τ', lj_R lm_P 63 [.ref 0, .int (Int32.ofNat ld)] (lj_put τ 0 46 (Int32.ofNat ((1, 0, 0, 0) :: W : List wT).length)) = some (.inl (some (.int 1)), τ') → τ'.1 0 4 = 0 → mLoop τ = mLoop τ' := fun τ' e e4 => by
      refine m_go h46 hWn (y := 1) ?_ (by decide) e4
      show lj_R lm_P 30 [.ref 0, .int 4, .int (Int32.ofNat ld), .int 0, .int 0] _ = _
      rw [rm_30, km_30_0, if_neg (by decide), if_neg (by decide), if_neg (by decide), if_neg (by decide), if_pos rfl, e]
      rfl
    generalize hτa : lj_put τ 0 46 (Int32.ofNat ((1, 0, 0, 0) :: W : List wT).length) = τa at *
    have hTEa : TE b n T Q σ τa := TE_up hTE (lf_rf _ _) f0
    have ha46 := hpop.2.2.2.2.2.2.2.2.1
    by_cases hst : stC (Q p).1 ≤ lc
    · -- no operator more
      have hsM' := (limR_st hlim (Q p).1).1 hst
      have e1 := goOps τa (by
        rw [rm_63, km_63_0, m_strength hTEa hpT hpop.2.1]
        unfold lj_bi
        simp only []
        rw [if_neg (by rw [lz_lt, lz_lit (by omega), lz_lit (by omega)]; omega)]) hpop.2.2.2.2.2.2.2.2.2
      have hpop2 := hnd_pop hpop
      have hend := hnd_v hpop2 v
      have e2 : mLoop τa = mLoop (lj_put (lj_put τa 0 46 (Int32.ofNat W.length)) 0 47 (Int32.ofNat v)) := by
        refine m_go ha46 (by omega) (y := 1) ?_ (by decide) hend.2.2.2.2.2.2.2.2.2
        show lj_R lm_P 30 [.ref 0, .int 1, .int 0, .int 0, .int 0] _ = _
        rw [rm_30, km_30_0, if_neg (by decide), if_pos rfl, hpop2.2.2.2.1, lz_pred']
      have fC : lf aC σ (lj_put σ 6 1 (Int32.ofNat v)) := lf_put (lf_rf _ _) _ _ _ rfl
      have fM : lf aM τ (lj_put (lj_put τa 0 46 (Int32.ofNat W.length)) 0 47 (Int32.ofNat v)) := lf_put (lf_put f0 _ _ _ rfl) _ _ _ rfl
      have oM : ∀ k j, ¬ (k = 0 ∧ (j = 46 ∨ j = 47)) → (lj_put (lj_put τa 0 46 (Int32.ofNat W.length)) 0 47 (Int32.ofNat v)).1 k j = τ.1 k j := fun k j q => by
        rw [lj_put_1, if_neg (by omega), lj_put_1, if_neg (by omega), ← hτa, lj_put_1, if_neg (by omega)]
      have tx : TX N σ τ (lj_put σ 6 1 (Int32.ofNat v)) (lj_put (lj_put τa 0 46 (Int32.ofNat W.length)) 0 47 (Int32.ofNat v)) := putC_TX N σ τ 6 1 _ rfl (by omega) _ fM (by rw [← hτa]; rfl)
      refine Or.inr ⟨what, _, _, p, c, m, wh, F, N, ?_, e1.trans e2, hPS.upv fC fM hend ⟨hpT, by omega, hb.2.2.1, hb.2.2.2.1, hb.2.2.2.2.1, by omega⟩ (Nat.le_refl _) (Nat.le_refl _) (fun i _ => oM 21 i (by omega)) (Nat.le_refl _) (hvb.X hG.2.1), hG.tr ⟨tx, lvX_rf _, Nat.le_refl _, Nat.le_refl _, Nat.le_refl _, Nat.le_refl _, ⟨fun k i _ _ _ _ => by rw [lj_put_1, if_neg (by omega)], fun k i _ _ _ _ => oM k i (by omega)⟩⟩, hp0, hcr, hmr, exS_cg hE tx (fun k i _ _ => by rw [lj_put_1, if_neg (by omega)]) (fun k i _ _ => oM k i (by omega)) (oM 0 64 (by omega)), fun e => by rw [oM 0 64 (by omega)]; exact hlm e⟩
      rw [eC, if_pos (by rw [lz_le, lz_lit (by omega), lz_lit (by omega)]; omega), h1.2.2.1, lz_pred']
    · -- an operator
      have hsM' : ld < stM (Q p).1 := by have := limR_st hlim (Q p).1; omega
      have hK4 : (Q p).1 ≠ 0 ∧ (Q p).1 ≠ 4 := by
        constructor <;> (intro e; rw [e] at hst; exact hst (by show 0 ≤ lc; omega))
      have hpT' : p < T := by
        rcases Nat.lt_or_ge p T with q | q
        · exact q
        · have e : p = T := by omega
          have := hTE.2.2.2.2.2.2.1
          rw [← e] at this
          omega
      have hc0 := hG.2.2.2.2.1
      have hm0 := hG.2.2.2.2.2.1
      obtain ⟨σ1, c1, g1, hPS1, hE1, hcc1, hcc1', tx1, fz1, fl1⟩ := ex_get hPS hE (by omega) hT5 hc0 hm0
      obtain ⟨τ2, m2, cc, jj, r1, r2, r3, r4, r5⟩ := m_readOps (TE_up hPS1.1.1 (lf_rf _ _) f0) (show hnd p (v + 1) c1 m wh ((1, 0, 0, 0) :: W) σ1 τa by rw [← hτa]; exact hnd_pop hPS1.2.1) hpT (by simp; omega) (by omega) ld (by omega) hsM'
      have h2 := r3 σ1 (by rw [← hτa]; exact hnd_pop hPS1.2.1)
      have e1 := goOps τ2 r1 h2.2.2.2.2.2.2.2.2.2
      have fM2 : lf aM τ τ2 := f0.tr r2
      have fC2 : lf aC σ1 (lj_put σ1 6 0 (Int32.ofNat (p + 1))) := lf_put (lf_rf _ _) _ _ _ rfl
      have hTE1 := hPS1.1.1
      have h11 := hPS1.2.1
      have hb1 := hPS1.2.2.1
      rw [e1]
      -- the component's operator
      have eO : lj_R lc_P 97 [.ref 6] σ1 = (if Int32.ofNat (Q p).1 = 10 then lj_D lc_P lc_M97 32 [.ref 6, .int (Int32.ofNat (Q p).1), .int (Int32.ofNat (1 + tN b (Q p).2.1)), .int (Int32.ofNat (stC (Q p).1)), .retAddr 0] [] (lj_put σ1 6 0 (Int32.ofNat (p + 1))) else (if Int32.ofNat (Q p).1 = 24 then lj_D lc_P lc_M97 32 [.ref 6, .int (Int32.ofNat (Q p).1), .int (Int32.ofNat (1 + tN b (Q p).2.1)), .int (Int32.ofNat (stC (Q p).1)), .retAddr 0] [] (lj_put σ1 6 0 (Int32.ofNat (p + 1))) else (if Int32.ofNat (Q p).1 = 50 then lj_D lc_P lc_M97 96 [.ref 6, .int (Int32.ofNat (Q p).1), .int (Int32.ofNat (1 + tN b (Q p).2.1)), .int (Int32.ofNat (stC (Q p).1)), .retAddr 0] [.int (Int32.ofNat (stC (Q p).1) - 1), .ref 6, .ref 6] (lj_put σ1 6 0 (Int32.ofNat (p + 1))) else lj_D lc_P lc_M97 96 [.ref 6, .int (Int32.ofNat (Q p).1), .int (Int32.ofNat (1 + tN b (Q p).2.1)), .int (Int32.ofNat (stC (Q p).1)), .retAddr 0] [.int (Int32.ofNat (stC (Q p).1)), .ref 6, .ref 6] (lj_put σ1 6 0 (Int32.ofNat (p + 1)))))) := by
        rw [rc_97, kc_97_0, c_kind hTE1 hpT h11.1]
        unfold lj_bi
        simp only []
        rw [c_line hTE1 hpT h11.1]
        simp only []
        rw [c_strength σ1 _ hk]
        simp only []
        rw [c_step hTE1 hpT h11.1]
        rfl
      rw [eC, if_neg (by rw [lz_le, lz_lit (by omega), lz_lit (by omega)]; omega), g1, bv_ok]
      obtain ⟨r5, r7⟩ := r5
      have hbW : ((6, cc, Int32.ofNat (1 + tN b (Q p).2.1), jj) :: (4, Int32.ofNat ld, 0, 0) :: (1, 0, 0, 0) :: W : List wT).length = W.length + 3 := by simp
      have a2 : τa.2 = τ.2 := by rw [← hτa]; rfl
      have oa : ∀ k i, 20 ≤ k → τa.1 k i = τ.1 k i := fun k i q => by rw [← hτa, lj_put_1, if_neg (by omega)]
      generalize hσ2 : lj_put σ1 6 0 (Int32.ofNat (p + 1)) = σ2 at *
      have o2 : ∀ k i, k ≠ 6 → σ2.1 k i = σ1.1 k i := fun k i q => by rw [← hσ2, lj_put_1, if_neg (by omega)]
      have tx2 : TX N σ1 τ σ2 τ2 := by rw [← hσ2]; exact putC_TX N σ1 τ 6 0 _ rfl (by omega) τ2 fM2 (r7.trans a2)
      generalize hLn : Int32.ofNat (1 + tN b (Q p).2.1) = Ln at *
      have hmlm : ml ≤ m := hPS1.2.2.2.2.2
      have h1st : 1 ≤ stC (Q p).1 := by omega
      have hlim' := limR_new (Q p).1 hk h1st
      generalize hldn : (if stM (Q p).1 = 9 then 8 else stM (Q p).1) = ldn at *
      rcases r5 with ⟨k3, em2, ecc⟩ | ⟨kao, em2, ejj⟩
      · -- two values
        subst em2
        have hPS2 : PS b n T Q X F N FO Z PL cl ml (p + 1) (v + 1) c1 m2 wh ((3, Int32.ofNat ldn, 0, 0) :: (6, cc, Ln, jj) :: (4, Int32.ofNat ld, 0, 0) :: (1, 0, 0, 0) :: W) σ2 τ2 := hPS1.up fC2 fM2 h2 ⟨by omega, hv, by have := hb1.2.2.1; omega, by have := hb1.2.2.2.1; omega, by have := hb1.2.2.2.2.1; omega, by simp; omega⟩ (Nat.le_refl _) (Nat.le_refl _) (fun i hi => by rw [r4 21 i (by omega) (by omega) (by omega), oa 21 i (by omega)])
        have hIH := ih F N FO Z PL cl ml (p + 1) (v + 1) c1 m2 wh _ σ2 τ2 f (0 :: s) l _ ldn (by omega) hPS2 hN (hFO.z.up (by omega) (by omega)) hlim' (by rw [hbW]; omega)
        generalize hlcn : (if (Q p).1 = 50 then stC (Q p).1 - 1 else stC (Q p).1) = lcn at *
        have n10 : (Q p).1 ≠ 10 ∧ (Q p).1 ≠ 24 := by
          constructor <;> (intro e; rw [e] at k3; exact absurd k3 (by decide))
        have eO2 : lj_R lc_P 97 [.ref 6] σ1 = lj_bi (lj_R lc_P 75 [.ref 6, .int (Int32.ofNat lcn)] σ2) (fun y2 σ1 => lj_bv (lj_R lc_P 78 [.ref 6, .int y2] σ1) (fun σ3 => lj_bi (lj_R lc_P 54 [.ref 5, .int 28, .int (Int32.ofNat (Q p).1), .int Ln] σ3) (fun y5 σ4 => some (.inl none, σ4)) lj_up) lj_up) lj_up := by
          rw [eO, if_neg (show ¬ (Int32.ofNat (Q p).1 = 10) from fun q => n10.1 ((ofN_eq (c := 10) (by omega) (by omega)).1 q)), if_neg (show ¬ (Int32.ofNat (Q p).1 = 24) from fun q => n10.2 ((ofN_eq (c := 24) (by omega) (by omega)).1 q)), kc_97_96, kc_97_96]
          by_cases e50 : (Q p).1 = 50
          · rw [if_pos (by rw [e50]; rfl)]
            rw [if_pos e50] at hlcn
            rw [← hlcn, e50]; rfl
          · rw [if_neg (show ¬ (Int32.ofNat (Q p).1 = 50) from fun q => e50 ((ofN_eq (c := 50) (by omega) (by omega)).1 q))]
            rw [if_neg e50] at hlcn
            rw [← hlcn]
        rw [eO2]
        rcases hIH with hf | ⟨what3, σ3, τ3, p3, c3, m3, wh3, F3, N3, i1, i2, i3, i4, i5, i6, i7, i8, i9⟩
        · exact Or.inl (flt_bv (flt_bi hf _) _)
        · have i4' := i4
          obtain ⟨j1, j2, j3, j4, j5, j6, j7⟩ := i4'
          have hb3 := i3.2.2.1
          have hb31 := hb3.1
          have hb32 := hb3.2.2.1
          have hb33 := hb3.2.2.2.1
          have hB0 : sB (0 :: s) := hFO.z.sb (by omega) (by omega)
          obtain ⟨σ4, c4, g4, hPS4, hE4, hcc4, hcc4', tx4, fz4, fl4⟩ := ex_get i3 i8 (by omega) hT5 j5 j6
          have h4h := hPS4.2.1
          have c4b : c4 < 14000 := by omega
          have m3b : m3 < 14000 := by omega
          have hp4 := hnd_pop h4h
          have hW4 : ((4, Int32.ofNat ld, 0, 0) :: (1, 0, 0, 0) :: W : List wT).length < 4000 := by simp; omega
          have f3a : lf aM τ3 (lj_put τ3 0 46 (Int32.ofNat ((4, Int32.ofNat ld, 0, 0) :: (1, 0, 0, 0) :: W : List wT).length)) := lf_put (lf_rf _ _) _ _ _ rfl
          have w46 := h4h.2.2.2.2.2.2.2.2.1
          generalize hτ3a : lj_put τ3 0 46 (Int32.ofNat ((4, Int32.ofNat ld, 0, 0) :: (1, 0, 0, 0) :: W : List wT).length) = τ3a at *
          obtain ⟨o, aa, bb, q1, q2⟩ := m_binary τ3a hp4.2.2.2.2.2.1 m3b (Q p).1 k3 Ln jj
          generalize hσ5 : cP σ4 c4 28 (Int32.ofNat (Q p).1) 0 0 Ln = σ5
          generalize hτ4 : mP (lj_put τ3a 0 64 (-1)) m3 o aa bb Ln = τ4 at q2
          have hn5 : hnd p3 (v + 1) (c4 + 1) (m3 + 1) wh3 ((4, Int32.ofNat ld, 0, 0) :: (1, 0, 0, 0) :: W) σ5 τ4 := by
            rw [← hσ5, ← hτ4]
            exact hnd_C (hnd_M (hnd_ch hp4 0 64 (-1) (by omega)) _ _ _ _) _ _ _ _ _
          have f5 : lf aC σ4 σ5 := by rw [← hσ5]; exact cP_lf _ _ _ _ _ _ _
          have f34 : lf aM τ3 τ4 := by rw [← hτ4]; exact (lf_put f3a _ _ _ rfl).tr (mP_lf _ _ _ _ _ _)
          have g5 := cP_get σ4 c4 28 (Int32.ofNat (Q p).1) 0 0 Ln
          have gm := mP_get (lj_put τ3a 0 64 (-1)) m3 o aa bb Ln
          rw [hσ5] at g5
          rw [hτ4] at gm
          have o5 : ∀ k i, i < c4 → 22 ≤ k → k ≤ 26 → σ5.1 k i = σ4.1 k i := fun k i q1 q2 q3 => by rw [← hσ5, cP_o _ _ _ _ _ _ _ _ _ (by omega) (by omega)]
          have o4 : ∀ k i, i < m3 → 20 ≤ k → k ≤ 23 → τ4.1 k i = τ3.1 k i := fun k i q1 q2 q3 => by rw [← hτ4, mP_o _ _ _ _ _ _ _ _ (by omega) (by omega), lj_put_1, if_neg (by omega), ← hτ3a, lj_put_1, if_neg (by omega)]
          have e64 : τ4.1 0 64 = -1 := by rw [← hτ4, mP_o _ _ _ _ _ _ _ _ (by omega) (by omega), lj_put_1, if_pos ⟨rfl, rfl⟩]
          have hml3 : ml ≤ m3 := hPS4.2.2.2.2.2
          have hPS5 : PS b n T Q X F3 N3 FO Z PL cl ml p3 (v + 1) (c4 + 1) (m3 + 1) wh3 ((4, Int32.ofNat ld, 0, 0) :: (1, 0, 0, 0) :: W) σ5 τ4 := hPS4.up f5 f34 hn5 ⟨hb3.1, hv, by omega, by omega, hb3.2.2.2.2.1, by simp; omega⟩ (by omega) (by omega) (fun i hi => o4 21 i (by omega) (by omega) (by omega))
          have tx5 : TX N3 σ4 τ3 σ5 τ4 := by
            refine TX_up N3 f5 f34 ?_ ?_ (fun i _ => ⟨by rw [← hσ5]; rfl, by rw [← hτ4, ← hτ3a]; rfl⟩)
            · unfold lv; rw [g5.2.2.2.2.2, h4h.2.2.2.2.1, lz_lit (by omega), lz_lit (by omega)]; omega
            · unfold lv; rw [← hσ5, cP_o _ _ _ _ _ _ _ _ _ (by omega) (by omega)]; exact Int.le_refl _
          have z45 : fz 0 c4 0 m3 σ4 τ3 σ5 τ4 := ⟨fun k i q1 q2 _ q4 => o5 k i q4 q1 q2, fun k i q1 q2 _ q4 => o4 k i q4 q1 q2⟩
          have z12 : fz 0 c1 0 m2 σ1 τ σ2 τ2 := ⟨fun k i q1 q2 _ q4 => o2 k i (by omega), fun k i q1 q2 _ q4 => by rw [r4 k i q4 q1 q2, oa k i q1]⟩
          have G1 : GR N N F F p p c c1 m2 m2 σ τ σ1 τ := ⟨tx1, lvX_rf _, Nat.le_refl _, Nat.le_refl _, hcc1, Nat.le_refl _, fz1⟩
          have G12 : GR N N F F p (p + 1) c1 c1 m2 m2 σ1 τ σ2 τ2 := ⟨tx2, lvX_rf _, Nat.le_refl _, by omega, Nat.le_refl _, Nat.le_refl _, z12⟩
          have G34 : GR N3 N3 F3 F3 p3 p3 c3 c4 m3 m3 σ3 τ3 σ4 τ3 := ⟨tx4, lvX_rf _, Nat.le_refl _, Nat.le_refl _, hcc4, Nat.le_refl _, fz4⟩
          have G45 : GR N3 N3 F3 F3 p3 p3 c4 (c4 + 1) m3 (m3 + 1) σ4 τ3 σ5 τ4 := ⟨tx5, lvX_rf _, Nat.le_refl _, Nat.le_refl _, by omega, by omega, z45⟩
          have GA := ((G12.tr i4).tr G34).tr G45
          have hN3 := hdN_X hN j2
          have hE5 : exS f s l N3 c0 m0 (c4 + 1) (m3 + 1) 0 σ5 τ4 := by
            rcases hE1 with ⟨_, hE1⟩ | ⟨q, _⟩ | ⟨q, _⟩
            · rcases hE4 with ⟨_, hE4⟩ | ⟨q, _⟩ | ⟨q, _⟩
              · refine Or.inl ⟨rfl, fun σ6 τ6 t6 z6 => ?_⟩
                have s1 := hE1 σ6 τ6 (GA.1.tr t6 (fun q _ hq => by rw [lvX_q j2]; exact hq)) ((GA.2.2.2.2.2.2.mo (by omega) (by omega) (by omega) (by omega)).tr (z6.mo (by omega) (by omega) (by omega) (by omega)))
                have s2 := hE4 σ6 τ6 (tx5.tr t6 (fun _ _ q => q)) ((z45.mo (by omega) (by omega) (by omega) (by omega)).tr (z6.mo (by omega) (by omega) (by omega) (by omega)))
                refine s1.tr (fun y hy => ?_)
                rw [hy]
                refine s2.tr (fun y hy => ?_)
                rw [hy]
                obtain ⟨z, R, eN, ez, el⟩ := hN3
                obtain ⟨fl, FO', eF, ef⟩ := hFO.1
                have hS4 := hPS4.1.2.2.2.2.2
                have hscl : scl σ6 f c4 s l 50 := by
                  rw [← ez, ← el]
                  rw [eN, eF] at hS4
                  exact scl_mk hS4.2 hS4.1 f5 (by unfold lv; rw [g5.2.2.2.2.2, lz_lit (by omega)]) t6 c4b ef
                refine seg_in [(f, c4 + 1, m3 + 1, 0 :: s, l, 50)] ⟨34, (Q p).1, s, rfl, ?_, ?_, ?_, ?_, hscl, rfl⟩ (fun y hy => ?_)
                · show σ6.1 22 c4 = 28; rw [z6.1 22 c4 (by omega) (by omega) (by omega) (by omega)]; exact g5.1
                · show σ6.1 23 c4 = _; rw [z6.1 23 c4 (by omega) (by omega) (by omega) (by omega)]; exact g5.2.1
                · show opB2 (Q p).1 = some (τ6.1 20 m3, τ6.1 21 m3, τ6.1 22 m3)
                  rw [z6.2 20 m3 (by omega) (by omega) (by omega) (by omega), z6.2 21 m3 (by omega) (by omega) (by omega) (by omega), z6.2 22 m3 (by omega) (by omega) (by omega) (by omega), gm.1, gm.2.1, gm.2.2.1]; exact q1
                · show σ6.1 26 c4 = τ6.1 23 m3
                  rw [z6.1 26 c4 (by omega) (by omega) (by omega) (by omega), z6.2 23 m3 (by omega) (by omega) (by omega) (by omega), gm.2.2.2.1, g5.2.2.2.2.1]
                · rw [List.mem_singleton.1 hy]; exact seg_ex rfl
              · exact absurd q (by decide)
              · exact absurd q (by decide)
            · exact absurd q (by decide)
            · exact absurd q (by decide)
          have e2 : mLoop τ3 = mLoop τ4 := by
            refine m_go w46 hW4 (y := 1) ?_ (by decide) hn5.2.2.2.2.2.2.2.2.2
            show lj_R lm_P 30 [.ref 0, .int 6, .int cc, .int Ln, .int jj] _ = _
            rw [rm_30, km_30_0, if_neg (by decide), if_neg (by decide), if_neg (by decide), if_neg (by decide), if_neg (by decide), if_neg (by decide), if_pos rfl, hτ3a, ecc, q2]
            rfl
          rw [i1, bi_ok, g4, bv_ok, c_put3 h4h.2.2.2.2.1 c4b, bi_ok, bv_ok, hσ5, i2, e2]
          exact cm_ops k ih hFO hB hWl hc00 hm00 hlim hT5 hvb j F3 N3 p3 (c4 + 1) (m3 + 1) wh3 σ5 τ4 0 x3 x4 (by omega) (by omega) hPS5 hN3 hE5 (((hG.tr G1).tr GA)) (by omega) (by omega) (by omega) (fun _ => e64)
      · -- and, or
        subst em2 ejj
        have n50 : (Q p).1 ≠ 50 := by rcases kao with q | q <;> omega
        obtain ⟨oC, oM, hk1, hk2, hk3, hk4⟩ : ∃ oC oM : Int32, (oC = 32 ∧ oM = 23 ∨ oC = 33 ∧ oM = 24) ∧ τ2.1 20 m = oM ∧ (cc = 1 ∨ cc = 2) ∧ lj_R lc_P 97 [.ref 6] σ1 = lj_D lc_P lc_M97 52 [.ref 6, .int (Int32.ofNat (Q p).1), .int Ln, .int (Int32.ofNat (stC (Q p).1)), .retAddr 0] [.int oC, .ref 5] σ2 := by
          rcases kao with ⟨q1, q2, q3⟩ | ⟨q1, q2, q3⟩
          · refine ⟨32, 23, Or.inl ⟨rfl, rfl⟩, q3, Or.inr q2, ?_⟩
            rw [eO, q1, if_pos (by decide), kc_97_32, if_pos (by decide)]
          · refine ⟨33, 24, Or.inr ⟨rfl, rfl⟩, q3, Or.inl q2, ?_⟩
            rw [eO, q1, if_neg (by decide), if_pos (by decide), kc_97_32, if_neg (by decide)]
        rw [if_neg n50] at hlim'
        have fC3 : lf aC σ1 (cP σ2 c1 oC 0 0 0 0) := fC2.tr (cP_lf _ _ _ _ _ _ _)
        have h3 := hnd_C h2 oC 0 0 0 0
        have g3 := cP_get σ2 c1 oC 0 0 0 0
        have s2c : σ2.1 5 0 = Int32.ofNat c1 := h2.2.2.2.2.1
        have c1b : c1 < 14000 := by omega
        have eO2 : lj_R lc_P 97 [.ref 6] σ1 = lj_bi (lj_R lc_P 75 [.ref 6, .int (Int32.ofNat (stC (Q p).1))] (cP σ2 c1 oC 0 0 0 0)) (fun y4 σ3 => lj_bv (lj_R lc_P 78 [.ref 6, .int y4] σ3) (fun σ5 => lj_bv (lj_R lc_P 57 [.ref 5, .int (Int32.ofNat c1)] σ5) (fun σ6 => some (.inl none, σ6)) lj_up) lj_up) lj_up := by
          rw [hk4, kc_97_52, c_put3 s2c c1b, bi_ok]
        have o3' : ∀ k i, ¬ (22 ≤ k ∧ k ≤ 26 ∧ i = c1) → ¬ (k = 5 ∧ i = 0) → k ≠ 6 → (cP σ2 c1 oC 0 0 0 0).1 k i = σ1.1 k i := fun k i q1 q2 q3 => by rw [cP_o _ _ _ _ _ _ _ _ _ q1 q2, o2 k i q3]
        have tx3 : TX N σ1 τ (cP σ2 c1 oC 0 0 0 0) τ2 := tx2.tr (cP_TX N σ2 τ2 c1 s2c c1b oC 0 0 0 0) (fun _ _ q => q)
        generalize hσ3 : cP σ2 c1 oC 0 0 0 0 = σs at *
        have hPS2 : PS b n T Q X F N FO Z PL cl ml (p + 1) (v + 1) (c1 + 1) (m + 1) wh ((3, Int32.ofNat ldn, 0, 0) :: (6, cc, Ln, Int32.ofNat m) :: (4, Int32.ofNat ld, 0, 0) :: (1, 0, 0, 0) :: W) σs τ2 := hPS1.up fC3 fM2 h3 ⟨by omega, hv, by have := hb1.2.2.1; omega, by have := hb1.2.2.2.1; omega, by have := hb1.2.2.2.2.1; omega, by simp; omega⟩ (by omega) (by omega) (fun i hi => by rw [r4 21 i (by omega) (by omega) (by omega), oa 21 i (by omega)])
        have hIH := ih F N FO Z PL cl ml (p + 1) (v + 1) (c1 + 1) (m + 1) wh _ σs τ2 f s l _ ldn (by omega) hPS2 hN (hFO.up (by omega) (by omega)) hlim' (by rw [hbW]; omega)
        rw [eO2]
        rcases hIH with hf | ⟨what3, σ3, τ3, p3, c3, m3, wh3, F3, N3, i1, i2, i3, i4, i5, i6, i7, i8, i9⟩
        · exact Or.inl (flt_bv (flt_bi hf _) _)
        · have i4' := i4
          obtain ⟨j1, j2, j3, j4, j5, j6, j7⟩ := i4'
          have hb3 := i3.2.2.1
          have hb31 := hb3.1
          have hb32 := hb3.2.2.1
          have hb33 := hb3.2.2.2.1
          have hB0 : sB (0 :: s) := hFO.z.sb (by omega) (by omega)
          obtain ⟨σ4, c4, g4, hPS4, hE4, hcc4, hcc4', tx4, fz4, fl4⟩ := ex_get i3 i8 (by omega) hT5 j5 j6
          have h4h := hPS4.2.1
          have c4b : c4 < 14000 := by omega
          have m3b : m3 < 14000 := by omega
          have hp4 := hnd_pop h4h
          have hW4 : ((4, Int32.ofNat ld, 0, 0) :: (1, 0, 0, 0) :: W : List wT).length < 4000 := by simp; omega
          have f3a : lf aM τ3 (lj_put τ3 0 46 (Int32.ofNat ((4, Int32.ofNat ld, 0, 0) :: (1, 0, 0, 0) :: W : List wT).length)) := lf_put (lf_rf _ _) _ _ _ rfl
          have w46 := h4h.2.2.2.2.2.2.2.2.1
          generalize hτ3a : lj_put τ3 0 46 (Int32.ofNat ((4, Int32.ofNat ld, 0, 0) :: (1, 0, 0, 0) :: W : List wT).length) = τ3a at *
          have act4 : σ4.1 22 c1 = oC := by
            rw [fz4.1 22 c1 (by omega) (by omega) (by omega) (by omega), j7.1 22 c1 (by omega) (by omega) (by omega) (by omega)]; exact g3.1
          have land := c_land h4h.2.2.2.2.1 (j := c1) c1b (by rw [act4]; rcases hk1 with ⟨q, _⟩ | ⟨q, _⟩ <;> rw [q] <;> decide) (by rw [act4]; rcases hk1 with ⟨q, _⟩ | ⟨q, _⟩ <;> rw [q] <;> decide)
          have q2 : lj_R lm_P 67 [.ref 0, .int cc, .int Ln, .int (Int32.ofNat m)] τ3a = some (.inl (some (.int 1)), lj_put (lj_put τ3a 0 64 (-1)) 21 m (Int32.ofNat m3)) := by
            rw [rm_67, km_67_0]
            have hin : lj_in (Int32.ofNat m) 14000 := ofN_in (by omega) (by omega)
            rw [if_neg (by rcases hk3 with q | q <;> rw [q] <;> decide), if_pos hin, lz_onat (by omega), hp4.2.2.2.2.2.1, km_67_157]
          generalize hσ5 : lj_put σ4 23 c1 (Int32.ofNat c4) = σ5 at land
          generalize hτ4 : lj_put (lj_put τ3a 0 64 (-1)) 21 m (Int32.ofNat m3) = τ4 at q2
          have hn5 : hnd p3 (v + 1) c4 m3 wh3 ((4, Int32.ofNat ld, 0, 0) :: (1, 0, 0, 0) :: W) σ5 τ4 := by
            rw [← hσ5, ← hτ4]
            exact hnd_23 (hnd_21 (hnd_ch hp4 0 64 (-1) (by omega)) _ _) _ _ (Or.inl rfl) _
          have f5 : lf aC σ4 σ5 := by rw [← hσ5]; exact lf_put (lf_rf _ _) _ _ _ rfl
          have f34 : lf aM τ3 τ4 := by rw [← hτ4]; exact lf_put (lf_put f3a _ _ _ rfl) _ _ _ rfl
          have o5 : ∀ k i, ¬ (k = 23 ∧ i = c1) → σ5.1 k i = σ4.1 k i := fun k i q1 => by rw [← hσ5, lj_put_1, if_neg q1]
          have o4 : ∀ k i, ¬ (k = 21 ∧ i = m) → 20 ≤ k → k ≤ 23 → τ4.1 k i = τ3.1 k i := fun k i q1 q2 q3 => by rw [← hτ4, lj_put_1, if_neg q1, lj_put_1, if_neg (by omega), ← hτ3a, lj_put_1, if_neg (by omega)]
          have a5 : σ5.1 23 c1 = Int32.ofNat c4 := by rw [← hσ5, lj_put_1, if_pos ⟨rfl, rfl⟩]
          have a4 : τ4.1 21 m = Int32.ofNat m3 := by rw [← hτ4, lj_put_1, if_pos ⟨rfl, rfl⟩]
          have e64 : τ4.1 0 64 = -1 := by rw [← hτ4, lj_put_1, if_neg (by omega), lj_put_1, if_pos ⟨rfl, rfl⟩]
          have hPS5 : PS b n T Q X F3 N3 FO Z PL cl ml p3 (v + 1) c4 m3 wh3 ((4, Int32.ofNat ld, 0, 0) :: (1, 0, 0, 0) :: W) σ5 τ4 := hPS4.up f5 f34 hn5 ⟨hb3.1, hv, by omega, by omega, hb3.2.2.2.2.1, by simp; omega⟩ (Nat.le_refl _) (Nat.le_refl _) (fun i hi => o4 21 i (by omega) (by omega) (by omega))
          have tx5 : TX N3 σ4 τ3 σ5 τ4 := by
            refine TX_up N3 f5 f34 ?_ ?_ (fun i _ => ⟨by rw [← hσ5]; rfl, by rw [← hτ4, ← hτ3a]; rfl⟩)
            · unfold lv; rw [o5 5 0 (by omega)]; exact Int.le_refl _
            · unfold lv; rw [o5 5 6 (by omega)]; exact Int.le_refl _
          have z13 : fz 0 c1 0 m σ1 τ σs τ2 := ⟨fun k i q1 q2 _ q4 => o3' k i (by omega) (by omega) (by omega), fun k i q1 q2 _ q4 => by rw [r4 k i q4 q1 q2, oa k i q1]⟩
          have z45 : fz 0 c1 0 m σ4 τ3 σ5 τ4 := ⟨fun k i q1 q2 _ q4 => o5 k i (by omega), fun k i q1 q2 _ q4 => o4 k i (by omega) q1 q2⟩
          have zA : fz 0 c1 0 m σ1 τ σ5 τ4 := ((z13.tr (j7.mo (by omega) (by omega) (by omega) (by omega))).tr (fz4.mo (by omega) (by omega) (by omega) (by omega))).tr z45
          have hNq : ∀ q : Nat, q ∉ N.map (·.1) → q ∉ N3.map (·.1) := fun q hq => by rw [lvX_q j2]; exact hq
          have tA : TX N σ1 τ σ5 τ4 := ((tx3.tr j1 (fun _ _ q => q)).tr tx4 (fun q _ hq => hNq q hq)).tr tx5 (fun q _ hq => hNq q hq)
          have G1 : GR N N F F p p c c1 m m σ τ σ1 τ := ⟨tx1, lvX_rf _, Nat.le_refl _, Nat.le_refl _, hcc1, Nat.le_refl _, fz1⟩
          have GA : GR N N3 F F3 p p3 c1 c4 m m3 σ1 τ σ5 τ4 := ⟨tA, j2, j3, by omega, by omega, by omega, zA⟩
          have hN3 := hdN_X hN j2
          have hE5 : exS f s l N3 c0 m0 c4 m3 0 σ5 τ4 := by
            rcases hE1 with ⟨_, hE1⟩ | ⟨q, _⟩ | ⟨q, _⟩
            · rcases hE4 with ⟨_, hE4⟩ | ⟨q, _⟩ | ⟨q, _⟩
              · refine Or.inl ⟨rfl, fun σ6 τ6 t6 z6 => ?_⟩
                have s1 := hE1 σ6 τ6 (tA.tr t6 (fun q _ hq => hNq q hq)) ((zA.mo (by omega) (by omega) (by omega) (by omega)).tr (z6.mo (by omega) (by omega) (by omega) (by omega)))
                have s2 := hE4 σ6 τ6 (tx5.tr t6 (fun _ _ q => q)) ⟨fun k i q1 q2 q3 q4 => by rw [z6.1 k i q1 q2 (by omega) q4, o5 k i (by omega)], fun k i q1 q2 q3 q4 => by rw [z6.2 k i q1 q2 (by omega) q4, o4 k i (by omega) q1 q2]⟩
                refine s1.tr (fun y hy => ?_)
                rw [hy]
                refine seg_in [(f, c1 + 1, m + 1, s, l, 50), (f, c4, m3, 0 :: s, l, 50)] ⟨40, c4, m3, s, c4b, ⟨m3b, by show c1 < c4; omega, by show m < m3; omega⟩, rfl, ?_, ?_, ?_, rfl⟩ (fun y hy => ?_)
                · have e1 : σ6.1 22 c1 = oC := by rw [z6.1 22 c1 (by omega) (by omega) (by omega) (by omega), o5 22 c1 (by omega)]; exact act4
                  have e2 : τ6.1 20 m = oM := by rw [z6.2 20 m (by omega) (by omega) (by omega) (by omega), o4 20 m (by omega) (by omega) (by omega), j7.2 20 m (by omega) (by omega) (by omega) (by omega)]; exact hk2
                  show (σ6.1 22 c1 = 32 ∧ τ6.1 20 m = 23 ∨ σ6.1 22 c1 = 33 ∧ τ6.1 20 m = 24)
                  rw [e1, e2]; exact hk1
                · show σ6.1 23 c1 = _; rw [z6.1 23 c1 (by omega) (by omega) (by omega) (by omega)]; exact a5
                · show τ6.1 21 m = _; rw [z6.2 21 m (by omega) (by omega) (by omega) (by omega)]; exact a4
                · simp only [List.mem_cons, List.not_mem_nil, or_false] at hy
                  rcases hy with hy | hy
                  · rw [hy]; exact s2
                  · rw [hy]; exact seg_ex rfl
              · exact absurd q (by decide)
              · exact absurd q (by decide)
            · exact absurd q (by decide)
            · exact absurd q (by decide)
          have e2 : mLoop τ3 = mLoop τ4 := by
            refine m_go w46 hW4 (y := 1) ?_ (by decide) hn5.2.2.2.2.2.2.2.2.2
            show lj_R lm_P 30 [.ref 0, .int 6, .int cc, .int Ln, .int (Int32.ofNat m)] _ = _
            rw [rm_30, km_30_0, if_neg (by decide), if_neg (by decide), if_neg (by decide), if_neg (by decide), if_neg (by decide), if_neg (by decide), if_pos rfl, hτ3a, q2]
            rfl
          rw [i1, bi_ok, g4, bv_ok, land, bv_ok, bv_ok, i2, e2]
          exact cm_ops k ih hFO hB hWl hc00 hm00 hlim hT5 hvb j F3 N3 p3 c4 m3 wh3 σ5 τ4 0 x3 x4 (by omega) (by omega) hPS5 hN3 hE5 ((hG.tr G1).tr GA) (by omega) (by omega) (by omega) (fun _ => e64)
