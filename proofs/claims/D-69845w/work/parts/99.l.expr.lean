/-! chains: what may stand behind -/
theorem rowS_app {r r0 : List Nat} (h : rowS r ∧ r.length ≤ 15) (h0 : r0 = [] ∨ r0 = [0]) : rowS (r ++ r0) := by
  rcases h0 with e | e
  · rw [e, List.append_nil]; exact h.1
  · rw [e]
    refine ⟨fun x hx => ?_, by rw [List.length_append]; have := h.2; simp; omega, fun x hx => ?_⟩
    · rcases List.mem_append.1 hx with w | w
      · exact h.1.1 x w
      · exact Or.inl (List.mem_singleton.1 w)
    · cases r with
      | nil => cases hx
      | cons y r =>
        rcases List.mem_append.1 (show x ∈ r ++ [0] from hx) with w | w
        · exact h.1.2.2 x w
        · exact List.mem_singleton.1 w
theorem cm_suffix {b : Nat → Int32} {n T : Nat} {Q : tkQ} {X : List Int32 → Prop} (k : Nat) (ihV : CV b n T Q X k) (ihG : CG b n T Q X k) {FO : List fT} {Z : List zT} {PL : List qT} {cl ml v : Nat} {W : List wT} {f : Nat} {s l : List Nat} (hFO : hdF (16 * v + 62) (v + 3) FO s) (hWl : W.length + 25 ≤ 40 * v + 60) (hT5 : T ≤ 520) {N0 : List lT} {F0 p0 c0 m0 : Nat} {σ0 τ0 : lj_S} (hc00 : c0 ≤ 25 * p0 + 100) (hm00 : m0 ≤ 25 * p0 + 100) :
    ∀ (j F : Nat) (N : List lT) (p c m wh : Nat) (σ τ : lj_S) (what : Int32) (x3 : Value), T - p < j → j ≤ k → PS b n T Q X F N FO Z PL cl ml p v c m wh ((8, 0, 0, 0) :: W) σ τ → hdN N f l → chS f s l N c0 m0 c m what σ τ → GR N0 N F0 F p0 p c0 c m0 m σ0 τ0 σ τ → p0 < p → c + 12 ≤ c0 + 25 * (p - p0) → m + 12 ≤ m0 + 25 * (p - p0) →
      chR b n T Q X FO Z PL cl ml v W f s l N0 F0 p0 c0 m0 σ0 τ0 (lj_D lc_P lc_M87 36 [.ref 6, .int what, .int 1, x3] [] σ) (mLoop τ)
  | 0, _, _, _, _, _, _, _, _, _, _, hj, _, _, _, _, _, _, _, _ => by omega
  | j + 1, F, N, p, c, m, wh, σ, τ, what, x3, hj, hjk, hPS, hN, hS, hG, hp0, hcr, hmr => by
    have hTE := hPS.1.1
    have hb := hPS.2.2.1
    have hpT := hb.1
    have hbv := hb.2.1
    have hB : sB s := hFO.sb (by omega) (by omega)
    have hbw := hb.2.2.2.2.1
    have h1 := hPS.2.1
    have hk := tk_lt hTE hpT
    have hn520 := hTE.2.1
    have hTn := hTE.2.2.1
    have hc0 : c0 ≤ c := hG.2.2.2.2.1
    have hm0 : m0 ≤ m := hG.2.2.2.2.2.1
    have hml : ml ≤ m := hPS.2.2.2.2.2
    have w46 := h1.2.2.2.2.2.2.2.2.1
    have hln := c_line hTE hpT h1.1
    have hkd := c_kind hTE hpT h1.1
    have hpop := hnd_pop h1
    have fa : lf aM τ (lj_put τ 0 46 (Int32.ofNat W.length)) := lf_put (lf_rf _ _) _ _ _ rfl
    have oa : ∀ k i, ¬ (k = 0 ∧ i = 46) → (lj_put τ 0 46 (Int32.ofNat W.length)).1 k i = τ.1 k i := fun k i q => by rw [lj_put_1, if_neg q]
    have goS : ∀ y τ', (y = 0 ∨ y = 1) → lj_R lm_P 70 [.ref 0] (lj_put τ 0 46 (Int32.ofNat W.length)) = some (.inl (some (.int y)), τ') → mLoop τ = mNx y τ' := fun y τ' hy e => by
      rw [(m_iter w46 (by omega)).1]
      show lj_bi (lj_R lm_P 30 [.ref 0, .int 8, .int 0, .int 0, .int 0] _) _ _ = _
      rw [rm_30, km_30_0, if_neg (by decide), if_neg (by decide), if_neg (by decide), if_neg (by decide), if_neg (by decide), if_neg (by decide), if_neg (by decide), if_neg (by decide), if_pos rfl, e, bi_ok, bi_ok, vpb y hy]
      rfl
    have hSa := chS_pop hS (Int32.ofNat W.length)
    have a2 : (lj_put τ 0 46 (Int32.ofNat W.length)).2 = τ.2 := rfl
    generalize hτa : lj_put τ 0 46 (Int32.ofNat W.length) = τa at *
    have hPSa : PS b n T Q X F N FO Z PL cl ml p v c m wh W σ τa := hPS.up (lf_rf _ _) fa hpop ⟨hpT, hbv, hb.2.2.1, hb.2.2.2.1, hbw, by omega⟩ (Nat.le_refl _) (Nat.le_refl _) (fun i hi => oa 21 i (by omega))
    have hTEa := hPSa.1.1
    have txa : TX N σ τ σ τa := putM_TX N σ τ _ fa (fun i => by rw [a2])
    have Ga : GR N N F F p p c c m m σ τ σ τa := ⟨txa, lvX_rf _, Nat.le_refl _, Nat.le_refl _, Nat.le_refl _, Nat.le_refl _, ⟨fun _ _ _ _ _ _ => rfl, fun k i q1 q2 _ _ => oa k i (by omega)⟩⟩
    have hmln := m_lineHere hTEa hpT hpop.2.1
    have s69 := m_isSign hTEa hpT hpop.2.1 29 (by omega) 46 rfl
    have s64 := m_isSign hTEa hpT hpop.2.1 24 (by omega) 91 rfl
    have s67 := m_isSign hTEa hpT hpop.2.1 27 (by omega) 58 rfl
    have sbg := m_beginsGiven hTEa hpT hpop.2.1
    have cbg := c_beginsGiven hTE hpT h1.1
    generalize hLn : Int32.ofNat (1 + tN b (Q p).2.1) = Ln at *
    have ne : ∀ c : Nat, c < 70 → (Q p).1 ≠ c → ¬ (Int32.ofNat (Q p).1 = Int32.ofNat c) := fun c hc q z => q ((ofN_eq (by omega) (by omega)).1 z)
    obtain ⟨σ1, τ1, c1, m1, v1, v2, hPS1, hE1, hcc1, hcc1', hmm1, hmm1', tx1, fz1⟩ := ch_val hPSa hN hFO hSa hc0 hm0 (by omega) (by omega) hT5
    have G1 : GR N N F F p p c c1 m m1 σ τ σ1 τ1 := Ga.tr ⟨tx1, lvX_rf _, Nat.le_refl _, Nat.le_refl _, hcc1, hmm1, fz1⟩
    have hTE1 := hPS1.1.1
    have h11 := hPS1.2.1
    have hb1 := hPS1.2.2.1
    have c14 : c1 + 10 < 14000 := by omega
    have m14 : m1 + 10 < 14000 := by omega
    have hml1 : ml ≤ m1 := hPS1.2.2.2.2.2
    have hE1' : ∀ σ2 τ2, TX N σ1 τ1 σ2 τ2 → fz c0 c1 m0 m1 σ1 τ1 σ2 τ2 → seg σ2 τ2 (f, c0, m0, s, l, 50) (fun y => y = (f, c1, m1, 0 :: s, l, 50)) := by
      rcases hE1 with ⟨_, q⟩ | ⟨q, _⟩ | ⟨q, _⟩
      · exact q
      · exact absurd q (by decide)
      · exact absurd q (by decide)
    -- one token on
    have h12 := hnd_p h11 (p + 1)
    have st1 := c_step hTE1 hpT h11.1
    have hstep : p < T → PS b n T Q X F N FO Z PL cl ml (p + 1) v c1 m1 wh W (lj_put σ1 6 0 (Int32.ofNat (p + 1))) (lj_put τ1 0 25 (Int32.ofNat (p + 1))) ∧ GR N N F F p (p + 1) c1 c1 m1 m1 σ1 τ1 (lj_put σ1 6 0 (Int32.ofNat (p + 1))) (lj_put τ1 0 25 (Int32.ofNat (p + 1))) := fun hlt => by
      have fC2 : lf aC σ1 (lj_put σ1 6 0 (Int32.ofNat (p + 1))) := lf_put (lf_rf _ _) _ _ _ rfl
      have fM2 : lf aM τ1 (lj_put τ1 0 25 (Int32.ofNat (p + 1))) := lf_put (lf_rf _ _) _ _ _ rfl
      have z2 : fz 0 c1 0 m1 σ1 τ1 (lj_put σ1 6 0 (Int32.ofNat (p + 1))) (lj_put τ1 0 25 (Int32.ofNat (p + 1))) := ⟨fun k i q1 q2 _ _ => by rw [lj_put_1, if_neg (by omega)], fun k i q1 q2 _ _ => by rw [lj_put_1, if_neg (by omega)]⟩
      exact ⟨hPS1.up fC2 fM2 h12 ⟨by omega, hbv, by omega, by omega, by omega, by omega⟩ (Nat.le_refl _) (Nat.le_refl _) (fun i hi => z2.2 21 i (by omega) (by omega) (by omega) (by omega)), ⟨putC_TX N σ1 τ1 6 0 _ rfl (by omega) _ fM2 rfl, lvX_rf _, Nat.le_refl _, by omega, Nat.le_refl _, Nat.le_refl _, z2⟩⟩
    have hlt : (Q p).1 ≠ 0 → (Q p).1 ≠ 4 → p < T := fun q1 q2 => by
      rcases Nat.lt_or_ge p T with q | q
      · exact q
      · have e : p = T := by omega
        have := hTE.2.2.2.2.2.2.1
        rw [← e] at this
        omega
    -- a call has been read
    have callEnd : ∀ (σs τs : lj_S) (ps cs ms : Nat) (r0 : List Nat) (oC oM : Option lj_O), GR N N F F p ps c cs m ms σ τ σs τs → (r0 = [] ∨ r0 = [0]) → p ≤ ps → cs + 12 ≤ c0 + 25 * (ps - p0) + 8 → ms + 12 ≤ m0 + 25 * (ps - p0) + 8 → (∀ σ2 τ2, TX N σs τs σ2 τ2 → fz c0 cs m0 ms σs τs σ2 τ2 → seg σ2 τ2 (f, c0, m0, s, l, 50) (fun y => y = (f, cs, ms, r0 ++ 1 :: 0 :: s, l, 50))) → gvR b n T Q X FO Z PL cl ml v W f (r0 ++ 1 :: 0 :: s) l N F ps cs ms σs τs oC oM → chR b n T Q X FO Z PL cl ml v W f s l N0 F0 p0 c0 m0 σ0 τ0 (lj_bv oC (fun σ6 => lj_D lc_P lc_M87 252 [.ref 6, .int 1, .int 1, .int Ln] [] σ6) lj_up) oM := by
      intro σs τs ps cs ms r0 oC oM hGs hr0 hps hcs hms hsg hgv
      rcases hgv with hf | ⟨σ6, τ6, p6, c6, m6, wh6, F6, N6, r6, i1, i2, i3, i4, i5, i6, i7, i8, i9, i10, i11, i12, i13, i14, i15, i16, i17⟩
      · exact Or.inl (flt_bv hf _)
      · rw [i1, bv_ok, kc_87_252, if_neg (by decide), kc_87_267, i2]
        have GA := hGs.tr i4
        have hp6 : p6 ≤ T := i3.2.2.1.1
        have hcs1 : c ≤ cs := hGs.2.2.2.2.1
        have hms1 : m ≤ ms := hGs.2.2.2.2.2.1
        refine cm_suffix k ihV ihG hFO hWl hT5 hc00 hm00 j F6 N6 p6 (c6 + 1) (m6 + 1) wh6 σ6 τ6 1 _ (by omega) (by omega) i3 (hdN_X hN i4.2.1) (Or.inr (Or.inl ⟨rfl, i10, m6, i11, Or.inr (Or.inl ⟨rfl, c6, m6, r6 ++ r0, rfl, rfl, by omega, by omega, by rw [lj_put_1, if_pos ⟨rfl, rfl⟩], i12, by rw [lj_put_1, if_neg (by omega)]; exact i13, by rw [lj_put_1, if_neg (by omega)]; exact i14, by rw [lj_put_1, if_neg (by omega)]; exact i15, rowS_app i16 hr0, fun σ2 τ2 t2 z2 => ?_⟩)⟩)) (hG.tr GA) (by omega) (by omega) (by omega)
        · have g6 : lf aM τ6 (lj_put τ6 0 64 (Int32.ofNat m6)) := lf_put (lf_rf _ _) _ _ _ rfl
          have t6 : TX N6 σ6 τ6 σ2 τ2 := (putM_TX N6 σ6 τ6 _ g6 (fun _ => rfl)).tr t2 (fun _ _ q => q)
          have z6 : fz c0 c6 m0 m6 σ6 τ6 σ2 τ2 := ⟨z2.1, fun k i q1 q2 q3 q4 => by rw [z2.2 k i q1 q2 q3 q4, lj_put_1, if_neg (by omega)]⟩
          obtain ⟨w1, w2⟩ := i17 σ2 τ2 t6 (z6.mo (by omega) (by omega) (by omega) (by omega))
          have s1 := hsg σ2 τ2 (i4.1.tr t6 (fun q _ hq => by rw [lvX_q i4.2.1]; exact hq)) ((i4.2.2.2.2.2.2.mo (by omega) (by omega) (by omega) (by omega)).tr (z6.mo (by omega) (by omega) (by omega) (by omega)))
          refine ⟨s1.tr (fun y hy => ?_), ?_⟩
          · rw [hy]
            refine w1.tr (fun y hy => ?_)
            rw [hy, ← List.append_assoc]
            exact seg_ex rfl
          · refine ⟨w2.1, w2.2.1, fun d e he => ?_⟩
            have := w2.2.2 d e he
            have ef : flo (r0 ++ 1 :: 0 :: s) = flo s := by
              rcases hr0 with e | e
              · rw [e]; rfl
              · rw [e]; rfl
            rw [ef] at this
            exact this
    by_cases a69 : (Q p).1 = 69
    · -- a dot
      have hpT' := hlt (by omega) (by omega)
      obtain ⟨hPS2, G2⟩ := hstep hpT'
      have hTE2 := hPS2.1.1
      have hp2 : p + 1 ≤ T := by omega
      have hk2 := tk_lt hTE2 hp2
      have htk := m_take hTE1 hpT h11.2.1 (by omega)
      have h2 := hPS2.2.1
      generalize hσ2 : lj_put σ1 6 0 (Int32.ofNat (p + 1)) = σ2 at *
      generalize hτ2 : lj_put τ1 0 25 (Int32.ofNat (p + 1)) = τ2 at *
      obtain ⟨hin, hkk, hvv⟩ := m_kindv hTE2 hp2 h2.2.1
      have t1 : ∀ k : Fin 70, ((tkk k.val = 1) ↔ k.val = 1) := by decide
      have t1' := t1 ⟨(Q (p + 1)).1, hk2⟩
      have eC : lj_D lc_P lc_M87 36 [.ref 6, .int what, .int 1, x3] [] σ = (if Int32.ofNat (Q (p + 1)).1 = 1 then lj_bi (lj_R lc_P 80 [.ref 6] σ2) (fun y40 σ39 => lj_bi (lj_R lc_P 54 [.ref 5, .int 5, .int y40, .int 0] σ39) (fun y42 σ41 => lj_bv (lj_R lc_P 67 [.ref 6] σ41) (fun σ43 => lj_D lc_P lc_M87 252 [.ref 6, .int 6, .int 1, .int Ln] [] σ43) lj_up) lj_up) lj_up else lj_br (lj_R lc_P 65 [.ref 6, .int 2] σ2) (fun y45 σ44 => (bif Nat.blt y45 2000 then lj_up y45 σ44 else none)) lj_up) := by
        rw [kc_87_36, if_neg (by decide), hln, bi_ok, hkd, bi_ok, if_pos (by rw [a69]; rfl), v1, bv_ok, st1, bv_ok, c_kind hTE2 hp2 h2.1, bi_ok]
      have eM : lj_R lm_P 70 [.ref 0] τa = (if tkk (Q (p + 1)).1 = 1 then lj_bi (lj_R lm_P 28 [.ref 0, .int 5, .int ((τ2.2 11 (τ2.1 0 25).toNatClampNeg).toInt32), .int 0, .int 0] τ2) (fun y48 σ47 => lj_bv (lj_R lm_P 29 [.ref 0, .int 8, .int 0, .int 0, .int 0] (lj_put (lj_put σ47 0 61 3) 0 63 Ln)) (fun σ49 => lj_bi (lj_R lm_P 36 [.ref 0] σ49) (fun y51 σ50 => some (.inl (some (.int (vp_nar .boolean y51))), σ50)) lj_up) lj_up) lj_up else lj_bi (lj_R lm_P 47 [.ref 0] τ2) (fun y53 σ52 => some (.inl (some (.int (vp_nar .boolean y53))), σ52)) lj_up) := by
        rw [rm_70, km_70_0, hmln, bi_ok, s69, bi_ok, if_pos (show (Q p).1 = 40 + 29 by omega), if_neg (by decide), v2, bv_ok, htk, bi_ok, if_neg (by decide), if_pos hin, hkk, if_pos hin]
      by_cases a1 : (Q (p + 1)).1 = 1
      · have hp2' : p + 1 < T := by
          rcases Nat.lt_or_ge (p + 1) T with q | q
          · exact q
          · have e : p + 1 = T := by omega
            have := hTE2.2.2.2.2.2.2.1
            rw [← e] at this
            omega
        obtain ⟨n1, n2, n3, n4, n5⟩ := (hTE2.2.2.2.2.1 (p + 1) hp2).2.2.2.2.2.2.2.2.1 (Or.inl a1)
        rw [if_pos (t1'.2 a1), h2.2.1, lz_onat (by omega), n4, Int32.toInt32_toInt64, m_emit h2.2.2.2.2.2.1 (by omega), bi_ok] at eM
        have fC3 := cP_lf σ2 c1 5 (Int32.ofNat (Q (p + 1)).2.2.1) 0 0 0
        have g3 := cP_get σ2 c1 5 (Int32.ofNat (Q (p + 1)).2.2.1) 0 0 0
        have gm3 := mP_get τ2 m1 5 (Int32.ofNat (Q (p + 1)).2.2.2) 0 0
        have h3 := hnd_ch (hnd_ch (hnd_M (hnd_C h2 5 (Int32.ofNat (Q (p + 1)).2.2.1) 0 0 0) 5 (Int32.ofNat (Q (p + 1)).2.2.2) 0 0) 0 61 3 (by omega)) 0 63 Ln (by omega)
        have l1 := (m_later h3.2.2.2.2.2.2.2.2.1 (by omega) 8 0 0 0).1
        have h4 := hnd_W h3 (8, 0, 0, 0)
        rw [l1, bv_ok] at eM
        have fM4 : lf aM τ2 (mW (lj_put (lj_put (mP τ2 m1 5 (Int32.ofNat (Q (p + 1)).2.2.2) 0 0) 0 61 3) 0 63 Ln) W.length (8, 0, 0, 0)) := (lf_put (lf_put (mP_lf _ _ _ _ _ _) _ _ _ rfl) _ _ _ rfl).tr (mW_lf _ _ _)
        have oM4 : ∀ k i, 20 ≤ k → k ≤ 24 → (mW (lj_put (lj_put (mP τ2 m1 5 (Int32.ofNat (Q (p + 1)).2.2.2) 0 0) 0 61 3) 0 63 Ln) W.length (8, 0, 0, 0)).1 k i = (mP τ2 m1 5 (Int32.ofNat (Q (p + 1)).2.2.2) 0 0).1 k i := fun k i q1 q2 => by
          rw [mW_o _ _ _ _ _ (by omega) (by omega), lj_put_1, if_neg (by omega), lj_put_1, if_neg (by omega)]
        have e61 : (mW (lj_put (lj_put (mP τ2 m1 5 (Int32.ofNat (Q (p + 1)).2.2.2) 0 0) 0 61 3) 0 63 Ln) W.length (8, 0, 0, 0)).1 0 61 = 3 := by
          rw [mW_o _ _ _ _ _ (by omega) (by omega), lj_put_1, if_neg (by omega), lj_put_1, if_pos ⟨rfl, rfl⟩]
        have e63 : (mW (lj_put (lj_put (mP τ2 m1 5 (Int32.ofNat (Q (p + 1)).2.2.2) 0 0) 0 61 3) 0 63 Ln) W.length (8, 0, 0, 0)).1 0 63 = Ln := by
          rw [mW_o _ _ _ _ _ (by omega) (by omega), lj_put_1, if_pos ⟨rfl, rfl⟩]
        have d4 : (mW (lj_put (lj_put (mP τ2 m1 5 (Int32.ofNat (Q (p + 1)).2.2.2) 0 0) 0 61 3) 0 63 Ln) W.length (8, 0, 0, 0)).2 = τ2.2 := rfl
        generalize hτ4 : mW (lj_put (lj_put (mP τ2 m1 5 (Int32.ofNat (Q (p + 1)).2.2.2) 0 0) 0 61 3) 0 63 Ln) W.length (8, 0, 0, 0) = τ4 at *
        rw [m_take (TE_up hTE2 (lf_rf _ _) fM4) hp2 h4.2.1 (by omega), bi_ok] at eM
        have h6 := hnd_cc (hnd_p h4 (p + 1 + 1)) 17 Ln (by omega)
        have st3 := c_step (TE_up hTE2 fC3 (lf_rf _ _)) hp2 (hnd_C h2 5 (Int32.ofNat (Q (p + 1)).2.2.1) 0 0 0).1
        have fC6 : lf aC σ2 (lj_put (lj_put (cP σ2 c1 5 (Int32.ofNat (Q (p + 1)).2.2.1) 0 0 0) 6 0 (Int32.ofNat (p + 1 + 1))) 6 17 Ln) := lf_put (lf_put fC3 _ _ _ rfl) _ _ _ rfl
        have fM6 : lf aM τ2 (lj_put τ4 0 25 (Int32.ofNat (p + 1 + 1))) := lf_put fM4 _ _ _ rfl
        have oC6 : ∀ k i, k ≠ 6 → (lj_put (lj_put (cP σ2 c1 5 (Int32.ofNat (Q (p + 1)).2.2.1) 0 0 0) 6 0 (Int32.ofNat (p + 1 + 1))) 6 17 Ln).1 k i = (cP σ2 c1 5 (Int32.ofNat (Q (p + 1)).2.2.1) 0 0 0).1 k i := fun k i q => by rw [lj_put_1, if_neg (by omega), lj_put_1, if_neg (by omega)]
        have oM6 : ∀ k i, 20 ≤ k → k ≤ 24 → (lj_put τ4 0 25 (Int32.ofNat (p + 1 + 1))).1 k i = (mP τ2 m1 5 (Int32.ofNat (Q (p + 1)).2.2.2) 0 0).1 k i := fun k i q1 q2 => by rw [lj_put_1, if_neg (by omega), oM4 k i q1 q2]
        have tx6 : TX N σ2 τ2 (lj_put (lj_put (cP σ2 c1 5 (Int32.ofNat (Q (p + 1)).2.2.1) 0 0 0) 6 0 (Int32.ofNat (p + 1 + 1))) 6 17 Ln) (lj_put τ4 0 25 (Int32.ofNat (p + 1 + 1))) := by
          refine TX_up N fC6 fM6 ?_ ?_ (fun i _ => ⟨rfl, by show τ4.2 24 i = _; rw [d4]⟩)
          · unfold lv; rw [oC6 5 0 (by omega), g3.2.2.2.2.2, h2.2.2.2.2.1, lz_lit (by omega), lz_lit (by omega)]; omega
          · unfold lv; rw [oC6 5 6 (by omega), cP_o _ _ _ _ _ _ _ _ _ (by omega) (by omega)]; exact Int.le_refl _
        have z6 : fz 0 c1 0 m1 σ2 τ2 (lj_put (lj_put (cP σ2 c1 5 (Int32.ofNat (Q (p + 1)).2.2.1) 0 0 0) 6 0 (Int32.ofNat (p + 1 + 1))) 6 17 Ln) (lj_put τ4 0 25 (Int32.ofNat (p + 1 + 1))) := ⟨fun k i q1 q2 _ q4 => by rw [oC6 k i (by omega), cP_o _ _ _ _ _ _ _ _ _ (by omega) (by omega)], fun k i q1 q2 _ q4 => by rw [oM6 k i q1 (by omega), mP_o _ _ _ _ _ _ _ _ (by omega) (by omega)]⟩
        have G6 : GR N N F F (p + 1) (p + 1 + 1) c1 (c1 + 1) m1 (m1 + 1) σ2 τ2 _ _ := ⟨tx6, lvX_rf _, Nat.le_refl _, by omega, by omega, by omega, z6⟩
        have hPS6 := hPS2.up fC6 fM6 h6 ⟨by omega, hbv, by omega, by omega, by omega, by simp; omega⟩ (by omega) (by omega) (fun i hi => z6.2 21 i (by omega) (by omega) (by omega) (by omega))
        have eL : mNx 1 (lj_put τ4 0 25 (Int32.ofNat (p + 1 + 1))) = mLoop (lj_put τ4 0 25 (Int32.ofNat (p + 1 + 1))) := by unfold mNx; rw [if_neg (by decide), if_pos h6.2.2.2.2.2.2.2.2.2]
        rw [goS 1 _ (Or.inr rfl) eM, eL, eC, if_pos (by rw [a1]; rfl), c_name hTE2 hp2 h2.1 (Or.inl a1), bi_ok, c_put3 h2.2.2.2.2.1 (by omega), bi_ok, st3, bv_ok, kc_87_252, if_pos rfl, if_neg (by decide), kc_87_267]
        have GA := (G1.tr G2).tr G6
        refine cm_suffix k ihV ihG hFO hWl hT5 hc00 hm00 j F N (p + 1 + 1) (c1 + 1) (m1 + 1) wh _ _ 6 _ (by omega) (by omega) hPS6 hN (Or.inr (Or.inr (Or.inr ⟨rfl, ?_, ?_, fun σ7 τ7 t7 z7 => ?_⟩))) (hG.tr GA) (by omega) (by omega) (by omega)
        · rw [lj_put_1, if_neg (by omega)]; exact e61
        · rw [lj_put_1, if_pos ⟨rfl, rfl⟩, lj_put_1, if_neg (by omega)]; exact e63.symm
        · have s1 := hE1' σ7 τ7 ((G2.1.tr tx6 (fun _ _ q => q)).tr t7 (fun _ _ q => q)) (((G2.2.2.2.2.2.2.tr z6).mo (by omega) (by omega) (by omega) (by omega)).tr (z7.mo (by omega) (by omega) (by omega) (by omega)))
          refine s1.tr (fun y hy => ?_)
          rw [hy]
          refine seg_in [(f, c1 + 1, m1 + 1, 0 :: 0 :: s, l, 50)] ⟨4, ?_, ?_, ⟨_, _, n1, n2, ?_, ?_, (n5.up tx6.1).up t7.1⟩, rfl⟩ (fun y hy => by rw [List.mem_singleton.1 hy]; exact seg_ex rfl)
          · show σ7.1 22 c1 = 5; rw [z7.1 22 c1 (by omega) (by omega) (by omega) (by omega), oC6 22 c1 (by omega)]; exact g3.1
          · show τ7.1 20 m1 = 5; rw [z7.2 20 m1 (by omega) (by omega) (by omega) (by omega), oM6 20 m1 (by omega) (by omega)]; exact gm3.1
          · show σ7.1 23 c1 = _; rw [z7.1 23 c1 (by omega) (by omega) (by omega) (by omega), oC6 23 c1 (by omega)]; exact g3.2.1
          · show τ7.1 21 m1 = _; rw [z7.2 21 m1 (by omega) (by omega) (by omega) (by omega), oM6 21 m1 (by omega) (by omega)]; exact gm3.2.1
      · rw [if_neg (fun q => a1 (t1'.1 q)), m_wrong hTE2 hp2 h2.2.1 h2.2.2.2.2.2.2.2.2.2, bi_ok] at eM
        rw [goS 0 _ (Or.inl rfl) eM, eC, if_neg (show ¬ (Int32.ofNat (Q (p + 1)).1 = 1) from fun q => a1 ((ofN_eq (c := 1) (by omega) (by omega)).1 q)), c_throw hTE2 hp2 h2.1]
        refine Or.inl ?_
        unfold mNx
        rw [if_pos rfl]
        exact flt_mk (m := m1) h2.2.2.2.2.2.1 (by omega) (fq_ok _ (Or.inl rfl)) (hTE2.2.2.2.2.1 (p + 1) hp2).2.2.2.2.1
    · by_cases a64 : (Q p).1 = 64
      · -- a bracket
        have hpT' := hlt (by omega) (by omega)
        have u1 := hnd_W h11 (10, Ln, 0, 0)
        have l1 := (m_later h11.2.2.2.2.2.2.2.2.1 (by omega) 10 Ln 0 0).1
        have f2 := mW_lf τ1 W.length (10, Ln, 0, 0)
        have o2 := mW_o τ1 W.length (10, Ln, 0, 0)
        have d2 : (mW τ1 W.length (10, Ln, 0, 0)).2 = τ1.2 := rfl
        generalize hτb : mW τ1 W.length (10, Ln, 0, 0) = τb at *
        have u2 := hnd_W u1 (3, 0, 0, 0)
        have l2 := (m_later u1.2.2.2.2.2.2.2.2.1 (by simp; omega) 3 0 0 0).1
        have f3 := mW_lf τb ((10, Ln, 0, 0) :: W : List wT).length (3, 0, 0, 0)
        have o3 := mW_o τb ((10, Ln, 0, 0) :: W : List wT).length (3, 0, 0, 0)
        have d3 : (mW τb ((10, Ln, 0, 0) :: W : List wT).length (3, 0, 0, 0)).2 = τb.2 := rfl
        generalize hτc : mW τb ((10, Ln, 0, 0) :: W : List wT).length (3, 0, 0, 0) = τc at *
        have htk := m_take (TE_up hTE1 (lf_rf _ _) (f2.tr f3)) hpT u2.2.1 (by omega)
        have u3 := hnd_p u2 (p + 1)
        have fCd : lf aC σ1 (lj_put σ1 6 0 (Int32.ofNat (p + 1))) := lf_put (lf_rf _ _) _ _ _ rfl
        have fMd : lf aM τ1 (lj_put τc 0 25 (Int32.ofNat (p + 1))) := lf_put (f2.tr f3) _ _ _ rfl
        have oMd : ∀ k i, 20 ≤ k → k ≤ 24 → (lj_put τc 0 25 (Int32.ofNat (p + 1))).1 k i = τ1.1 k i := fun k i q1 q2 => by rw [lj_put_1, if_neg (by omega), o3 k i (by omega) (by omega), o2 k i (by omega) (by omega)]
        have txd : TX N σ1 τ1 (lj_put σ1 6 0 (Int32.ofNat (p + 1))) (lj_put τc 0 25 (Int32.ofNat (p + 1))) := putC_TX N σ1 τ1 6 0 _ rfl (by omega) _ fMd (by show τc.2 = τ1.2; rw [d3, d2])
        have zd : fz 0 c1 0 m1 σ1 τ1 (lj_put σ1 6 0 (Int32.ofNat (p + 1))) (lj_put τc 0 25 (Int32.ofNat (p + 1))) := ⟨fun k i q1 q2 _ _ => by rw [lj_put_1, if_neg (by omega)], fun k i q1 q2 _ _ => oMd k i q1 (by omega)⟩
        have Gd : GR N N F F p (p + 1) c1 c1 m1 m1 σ1 τ1 (lj_put σ1 6 0 (Int32.ofNat (p + 1))) (lj_put τc 0 25 (Int32.ofNat (p + 1))) := ⟨txd, lvX_rf _, Nat.le_refl _, by omega, Nat.le_refl _, Nat.le_refl _, zd⟩
        have hPSd := hPS1.up fCd fMd u3 ⟨by omega, hbv, by omega, by omega, by omega, by simp; omega⟩ (Nat.le_refl _) (Nat.le_refl _) (fun i hi => oMd 21 i (by omega) (by omega))
        have eL0 : mNx 1 (lj_put τc 0 25 (Int32.ofNat (p + 1))) = mLoop (lj_put τc 0 25 (Int32.ofNat (p + 1))) := by unfold mNx; rw [if_neg (by decide), if_pos u3.2.2.2.2.2.2.2.2.2]
        have eM : lj_R lm_P 70 [.ref 0] τa = some (.inl (some (.int 1)), lj_put τc 0 25 (Int32.ofNat (p + 1))) := by
          rw [rm_70, km_70_0, hmln, bi_ok, s69, bi_ok, if_neg (show ¬ (Q p).1 = 40 + 29 by omega), if_pos rfl, s64, bi_ok, if_pos (show (Q p).1 = 40 + 24 by omega), if_neg (by decide), v2, bv_ok, l1, bv_ok, l2, bv_ok, htk, bi_ok]
          rfl
        have eC : lj_D lc_P lc_M87 36 [.ref 6, .int what, .int 1, x3] [] σ = lj_bv (lj_R lc_P 73 [.ref 6] (lj_put σ1 6 0 (Int32.ofNat (p + 1)))) (fun σ33 => lj_bv (lj_R lc_P 71 [.ref 6, .int 65] σ33) (fun σ34 => lj_D lc_P lc_M87 252 [.ref 6, .int 6, .int 1, .int Ln] [] σ34) lj_up) lj_up := by
          rw [kc_87_36, if_neg (by decide), hln, bi_ok, hkd, bi_ok, if_neg (show ¬ (Int32.ofNat (Q p).1 = 69) from ne 69 (by omega) a69), hkd, bi_ok, if_pos (by rw [a64]; rfl), v1, bv_ok, st1, bv_ok]
        rw [goS 1 _ (Or.inr rfl) eM, eL0, eC]
        rcases ihV F N FO Z PL cl ml (p + 1) v c1 m1 wh ((10, Ln, 0, 0) :: W) _ _ f (0 :: s) l (by omega) hPSd hN (hFO.z.up (by omega) (by omega)) (by simp; omega) with hf | ⟨σ3, τ3, p3, c3, m3, wh3, F3, N3, i1, i2, i3, i4, i5, i6, i7, i8⟩
        · exact Or.inl (flt_bv hf _)
        · rw [i1, bv_ok, i2]
          have hTE3 := i3.1.1
          have hb3 := i3.2.2.1
          have hb31 := hb3.1
          have hb32 := hb3.2.2.1
          have hb33 := hb3.2.2.2.1
          have hh3 := i3.2.1
          have hk3 := tk_lt hTE3 hb31
          have w463 := hh3.2.2.2.2.2.2.2.2.1
          have hpop3 := hnd_pop hh3
          have hml3 : ml ≤ m3 := i3.2.2.2.2.2
          have hc13 : c1 ≤ c3 := i4.2.2.2.2.1
          have hm13 : m1 ≤ m3 := i4.2.2.2.2.2.1
          have fa3 : lf aM τ3 (lj_put τ3 0 46 (Int32.ofNat W.length)) := lf_put (lf_rf _ _) _ _ _ rfl
          have h4 := hnd_ch (hnd_ch hpop3 0 61 3 (by omega)) 0 63 Ln (by omega)
          have l3 := (m_later h4.2.2.2.2.2.2.2.2.1 (by omega) 8 0 0 0).1
          have h5 := hnd_W h4 (8, 0, 0, 0)
          have f5 : lf aM τ3 (mW (lj_put (lj_put (lj_put τ3 0 46 (Int32.ofNat W.length)) 0 61 3) 0 63 Ln) W.length (8, 0, 0, 0)) := (lf_put (lf_put fa3 _ _ _ rfl) _ _ _ rfl).tr (mW_lf _ _ _)
          have o5 : ∀ k i, 20 ≤ k → k ≤ 24 → (mW (lj_put (lj_put (lj_put τ3 0 46 (Int32.ofNat W.length)) 0 61 3) 0 63 Ln) W.length (8, 0, 0, 0)).1 k i = τ3.1 k i := fun k i q1 q2 => by
            rw [mW_o _ _ _ _ _ (by omega) (by omega), lj_put_1, if_neg (by omega), lj_put_1, if_neg (by omega), lj_put_1, if_neg (by omega)]
          have e61 : (mW (lj_put (lj_put (lj_put τ3 0 46 (Int32.ofNat W.length)) 0 61 3) 0 63 Ln) W.length (8, 0, 0, 0)).1 0 61 = 3 := by
            rw [mW_o _ _ _ _ _ (by omega) (by omega), lj_put_1, if_neg (by omega), lj_put_1, if_pos ⟨rfl, rfl⟩]
          have e63 : (mW (lj_put (lj_put (lj_put τ3 0 46 (Int32.ofNat W.length)) 0 61 3) 0 63 Ln) W.length (8, 0, 0, 0)).1 0 63 = Ln := by
            rw [mW_o _ _ _ _ _ (by omega) (by omega), lj_put_1, if_pos ⟨rfl, rfl⟩]
          have d5 : (mW (lj_put (lj_put (lj_put τ3 0 46 (Int32.ofNat W.length)) 0 61 3) 0 63 Ln) W.length (8, 0, 0, 0)).2 = τ3.2 := rfl
          have goB : ∀ y τ', (y = 0 ∨ y = 1) → lj_R lm_P 74 [.ref 0, .int 93] (mW (lj_put (lj_put (lj_put τ3 0 46 (Int32.ofNat W.length)) 0 61 3) 0 63 Ln) W.length (8, 0, 0, 0)) = some (.inl (some (.int y)), τ') → mLoop τ3 = mNx y τ' := fun y τ' hy e => by
            rw [(m_iter w463 (by omega)).1]
            show lj_bi (lj_R lm_P 30 [.ref 0, .int 10, .int Ln, .int 0, .int 0] _) _ _ = _
            rw [rm_30, km_30_0, if_neg (by decide), if_neg (by decide), if_neg (by decide), if_neg (by decide), if_neg (by decide), if_neg (by decide), if_neg (by decide), if_neg (by decide), if_neg (by decide), if_neg (by decide), if_pos rfl, rm_75, km_75_0, l3, bv_ok, e, bi_ok, bi_ok, bi_ok, vpb y hy, vpb y hy]
            rfl
          generalize hτ5 : mW (lj_put (lj_put (lj_put τ3 0 46 (Int32.ofNat W.length)) 0 61 3) 0 63 Ln) W.length (8, 0, 0, 0) = τ5 at *
          have hTE5 : TE b n T Q σ3 τ5 := TE_up hTE3 (lf_rf _ _) f5
          have ns := m_needSign hTE5 hb31 h5.2.1 h5.2.2.2.2.2.2.2.2.2 25 (by omega) 93 rfl
          have ps := c_pass hTE3 hb31 hh3.1 65 (by omega)
          by_cases a65 : (Q p3).1 = 65
          · rw [if_pos (show (Q p3).1 = 40 + 25 by omega)] at ns
            rw [if_pos a65] at ps
            have hp3T : p3 < T := by
              rcases Nat.lt_or_ge p3 T with q | q
              · exact q
              · have e : p3 = T := by omega
                have := hTE3.2.2.2.2.2.2.1
                rw [← e] at this
                omega
            have h6 := hnd_cc (hnd_p h5 (p3 + 1)) 17 Ln (by omega)
            have fC6 : lf aC σ3 (lj_put (lj_put σ3 6 0 (Int32.ofNat (p3 + 1))) 6 17 Ln) := lf_put (lf_put (lf_rf _ _) _ _ _ rfl) _ _ _ rfl
            have fM6 : lf aM τ3 (lj_put τ5 0 25 (Int32.ofNat (p3 + 1))) := lf_put f5 _ _ _ rfl
            have oC6 : ∀ k i, k ≠ 6 → (lj_put (lj_put σ3 6 0 (Int32.ofNat (p3 + 1))) 6 17 Ln).1 k i = σ3.1 k i := fun k i q => by rw [lj_put_1, if_neg (by omega), lj_put_1, if_neg (by omega)]
            have oM6 : ∀ k i, 20 ≤ k → k ≤ 24 → (lj_put τ5 0 25 (Int32.ofNat (p3 + 1))).1 k i = τ3.1 k i := fun k i q1 q2 => by rw [lj_put_1, if_neg (by omega), o5 k i q1 q2]
            have tx6 : TX N3 σ3 τ3 (lj_put (lj_put σ3 6 0 (Int32.ofNat (p3 + 1))) 6 17 Ln) (lj_put τ5 0 25 (Int32.ofNat (p3 + 1))) := by
              refine TX_up N3 fC6 fM6 ?_ ?_ (fun i _ => ⟨rfl, by show τ5.2 24 i = _; rw [d5]⟩)
              · unfold lv; rw [oC6 5 0 (by omega)]; exact Int.le_refl _
              · unfold lv; rw [oC6 5 6 (by omega)]; exact Int.le_refl _
            have z6 : fz 0 c3 0 m3 σ3 τ3 (lj_put (lj_put σ3 6 0 (Int32.ofNat (p3 + 1))) 6 17 Ln) (lj_put τ5 0 25 (Int32.ofNat (p3 + 1))) := ⟨fun k i q1 q2 _ _ => oC6 k i (by omega), fun k i q1 q2 _ _ => oM6 k i q1 (by omega)⟩
            have G6 : GR N3 N3 F3 F3 p3 (p3 + 1) c3 c3 m3 m3 σ3 τ3 _ _ := ⟨tx6, lvX_rf _, Nat.le_refl _, by omega, Nat.le_refl _, Nat.le_refl _, z6⟩
            have hPS6 := i3.up fC6 fM6 h6 ⟨by omega, hbv, by omega, by omega, by have := hb3.2.2.2.2.1; omega, by simp; omega⟩ (Nat.le_refl _) (Nat.le_refl _) (fun i hi => oM6 21 i (by omega) (by omega))
            have eL : mNx 1 (lj_put τ5 0 25 (Int32.ofNat (p3 + 1))) = mLoop (lj_put τ5 0 25 (Int32.ofNat (p3 + 1))) := by unfold mNx; rw [if_neg (by decide), if_pos h6.2.2.2.2.2.2.2.2.2]
            rw [goB 1 _ (Or.inr rfl) ns, eL, show lj_R lc_P 71 [.ref 6, .int 65] σ3 = _ from ps, bv_ok, kc_87_252, if_pos rfl, if_neg (by decide), kc_87_267]
            have GA := ((G1.tr Gd).tr i4).tr G6
            have hNq : ∀ q : Nat, q ∉ N.map (·.1) → q ∉ N3.map (·.1) := fun q hq => by rw [lvX_q i4.2.1]; exact hq
            refine cm_suffix k ihV ihG hFO hWl hT5 hc00 hm00 j F3 N3 (p3 + 1) c3 m3 wh3 _ _ 6 _ (by omega) (by omega) hPS6 (hdN_X hN i4.2.1) (Or.inr (Or.inr (Or.inr ⟨rfl, ?_, ?_, fun σ7 τ7 t7 z7 => ?_⟩))) (hG.tr GA) (by omega) (by omega) (by omega)
            · rw [lj_put_1, if_neg (by omega)]; exact e61
            · rw [lj_put_1, if_pos ⟨rfl, rfl⟩, lj_put_1, if_neg (by omega)]; exact e63.symm
            · have GB := (Gd.tr i4).tr G6
              have s1 := hE1' σ7 τ7 (GB.1.tr t7 (fun q _ hq => hNq q hq)) ((GB.2.2.2.2.2.2.mo (by omega) (by omega) (by omega) (by omega)).tr (z7.mo (by omega) (by omega) (by omega) (by omega)))
              rcases i8 with ⟨_, hE⟩ | ⟨q, _⟩ | ⟨q, _⟩
              · have s2 := hE σ7 τ7 (tx6.tr t7 (fun _ _ q => q)) ((z6.mo (by omega) (by omega) (by omega) (by omega)).tr (z7.mo (by omega) (by omega) (by omega) (by omega)))
                exact s1.tr (fun y hy => by rw [hy]; exact s2)
              · exact absurd q (by decide)
              · exact absurd q (by decide)
          · rw [if_neg (show ¬ (Q p3).1 = 40 + 25 by omega)] at ns
            rw [if_neg a65] at ps
            rw [goB 0 _ (Or.inl rfl) ns, show lj_R lc_P 71 [.ref 6, .int 65] σ3 = _ from ps]
            refine Or.inl ?_
            unfold mNx
            rw [if_pos rfl]
            exact flt_bv (flt_mk (m := m3) h5.2.2.2.2.2.1 (by omega) (fq_ok _ (Or.inl rfl)) (hTE3.2.2.2.2.1 p3 hb31).2.2.2.2.1) _
      · by_cases a67 : (Q p).1 = 67
        · -- a colon
          have hpT' := hlt (by omega) (by omega)
          obtain ⟨hPS2, G2⟩ := hstep hpT'
          have hTE2 := hPS2.1.1
          have hp2 : p + 1 ≤ T := (by omega)
          have hk2 := tk_lt hTE2 hp2
          have htk := m_take hTE1 hpT h11.2.1 (by omega)
          have h2 := hPS2.2.1
          generalize hσ2 : lj_put σ1 6 0 (Int32.ofNat (p + 1)) = σ2 at *
          generalize hτ2 : lj_put τ1 0 25 (Int32.ofNat (p + 1)) = τ2 at *
          obtain ⟨hin, hkk, hvv⟩ := m_kindv hTE2 hp2 h2.2.1
          have t1 : ∀ k : Fin 70, ((tkk k.val = 1) ↔ k.val = 1) := by decide
          have t1' := t1 ⟨(Q (p + 1)).1, hk2⟩
          have eC := kc_87_36 what 1 x3 σ
          rw [if_neg (by decide), hln, bi_ok, hkd, bi_ok, if_neg (show ¬ (Int32.ofNat (Q p).1 = 69) from ne 69 (by omega) a69), hkd, bi_ok, if_neg (show ¬ (Int32.ofNat (Q p).1 = 64) from ne 64 (by omega) a64), hkd, bi_ok, if_pos (by rw [a67]; rfl), v1, bv_ok, st1, bv_ok, c_kind hTE2 hp2 h2.1, bi_ok] at eC
          have eM : lj_R lm_P 70 [.ref 0] τa = _ := rm_70 τa
          rw [km_70_0, hmln, bi_ok, s69, bi_ok, if_neg (show ¬ (Q p).1 = 40 + 29 by omega), if_pos rfl, s64, bi_ok, if_neg (show ¬ (Q p).1 = 40 + 24 by omega), if_pos rfl, s67, bi_ok, if_pos (show (Q p).1 = 40 + 27 by omega), if_neg (by decide), v2, bv_ok, htk, bi_ok, if_neg (by decide), if_pos hin, hkk] at eM
          by_cases a1 : (Q (p + 1)).1 = 1
          · have hp2' : p + 1 < T := hPS2.lt (by omega) (by omega)
            obtain ⟨n1, n2, n3, n4, n5⟩ := (hTE2.2.2.2.2.1 (p + 1) hp2).2.2.2.2.2.2.2.2.1 (Or.inl a1)
            have PC := hPS2.C (by omega) hT5 27 (Int32.ofNat (Q (p + 1)).2.2.1) 0 0 Ln
            have PM1 := PC.1.M (by omega) 45 0 0 0
            have PM2 := PM1.1.M (by omega) 5 (Int32.ofNat (Q (p + 1)).2.2.2) 0 0
            have PM3 := PM2.1.M (by omega) 12 0 0 Ln
            have PM4 := PM3.1.M (by omega) 46 0 0 0
            have PM5 := PM4.1.M (by omega) 15 0 0 0
            have P9 := PM5.1.st hp2'
            have i2 : (mP τ2 m1 45 0 0 0).1 0 25 = Int32.ofNat (p + 1) := PM1.1.2.1.2.1
            have e2 : (mP τ2 m1 45 0 0 0).2 = τ2.2 := rfl
            have hin2 : lj_in (Int32.ofNat (p + 1)) 1502 := by rw [← h2.2.1]; exact hin
            rw [if_pos (show Int32.ofNat (Q (p + 1)).1 = 1 by rw [a1]; rfl), c_name hTE2 hp2 h2.1 (Or.inl a1), bi_ok, c_put3 h2.2.2.2.2.1 (by omega), bi_ok, c_step PC.1.1.1 hp2 PC.1.2.1.1, bv_ok, c_beginsGiven P9.1.1.1 P9.1.2.2.1.1 P9.1.2.1.1, bi_ok] at eC
            rw [if_pos (t1'.2 a1), m_emit h2.2.2.2.2.2.1 (by omega), bi_ok, i2, if_pos hin2, e2, lz_onat (by omega), n4, Int32.toInt32_toInt64, m_emit PM1.1.2.1.2.2.2.2.2.1 (by omega), bi_ok, m_emit PM2.1.2.1.2.2.2.2.2.1 (by omega), bi_ok, m_emit PM3.1.2.1.2.2.2.2.2.1 (by omega), bi_ok, m_emit PM4.1.2.1.2.2.2.2.2.1 (by omega), bi_ok, m_take PM5.1.1.1 hp2 PM5.1.2.1.2.1 (by omega), bi_ok, if_neg (by decide), m_beginsGiven P9.1.1.1 P9.1.2.2.1.1 P9.1.2.1.2.1, bi_ok] at eM
            have G9 := (((((PC.2.tr PM1.2).tr PM2.2).tr PM3.2).tr PM4.2).tr PM5.2).tr P9.2
            have gk : ∀ σ7 τ7, LT N c0 (c1 + 1) m0 (m1 + 5) _ _ σ7 τ7 → seg σ7 τ7 (f, c0, m0, s, l, 50) (fun y => y = (f, c1 + 1, m1 + 5, [0] ++ 1 :: 0 :: s, l, 50)) := fun σ7 τ7 L9 => by
              have L5 := P9.2.bk L9
              have L4 := PM5.2.bk L5
              have L3 := PM4.2.bk L4
              have L2 := PM3.2.bk L3
              have L1 := PM2.2.bk L2
              have LC := PM1.2.bk L1
              have L0 := G2.bk (PC.2.bk LC)
              have g0 := LC.gC (by omega)
              have g1 := L1.gM (by omega)
              have g2 := L2.gM (by omega)
              have g3 := L3.gM (by omega)
              have g4 := L4.gM (by omega)
              have g5 := L5.gM (by omega)
              refine (hE1' σ7 τ7 L0.1 L0.2).tr (fun y hy => ?_)
              rw [hy]
              exact seg_in [(f, c1 + 1, m1 + 5, [0] ++ 1 :: 0 :: s, l, 50)] ⟨33, s, rfl, g0.1, ⟨_, _, n1, n2, g0.2.1, g2.2.1, n5.up (PC.2.bk LC).1.1⟩, g1.1, g2.1, g3.1, by show σ7.1 26 c1 = τ7.1 23 (m1 + 2); rw [g0.2.2.2.2, g3.2.2.2], g4.1, g5.1, hPS2.scl hN hFO hT5 LC, rfl⟩ (fun y hy => by rw [List.mem_singleton.1 hy]; exact seg_ex rfl)
            generalize hσ9 : lj_put (cP σ2 c1 27 (Int32.ofNat (Q (p + 1)).2.2.1) 0 0 Ln) 6 0 (Int32.ofNat (p + 1 + 1)) = σ9 at *
            generalize hτ9 : lj_put (mP (mP (mP (mP (mP τ2 m1 45 0 0 0) (m1 + 1) 5 (Int32.ofNat (Q (p + 1)).2.2.2) 0 0) (m1 + 1 + 1) 12 0 0 Ln) (m1 + 1 + 1 + 1) 46 0 0 0) (m1 + 1 + 1 + 1 + 1) 15 0 0 0) 0 25 (Int32.ofNat (p + 1 + 1)) = τ9 at *
            have hp9 := P9.1.2.2.1.1
            by_cases hbG : bgG (Q (p + 1 + 1)).1
            · rw [if_pos hbG, if_neg (by decide)] at eC eM
              obtain ⟨y, τy, r1, r2, r3⟩ := ihG F N FO Z PL cl ml (p + 1 + 1) v (c1 + 1) (m1 + 1 + 1 + 1 + 1 + 1) wh W _ _ f (0 :: 1 :: 0 :: s) l (by omega) P9.1 hN (hFO.z.o.z.up (by omega) (by omega)) (by omega) hbG
              rw [r1, bi_ok, km_70_247, vpb y r2] at eM
              rw [goS y τy r2 eM, eC]
              exact callEnd _ _ (p + 1 + 1) (c1 + 1) (m1 + 5) [0] _ _ ((G1.tr G2).tr G9) (Or.inr rfl) (by omega) (by omega) (by omega) (fun σ7 τ7 t7 z7 => gk σ7 τ7 ⟨t7, z7⟩) r3
            · rw [if_neg hbG, if_pos rfl] at eC eM
              rw [m_wrong P9.1.1.1 hp9 P9.1.2.1.2.1 P9.1.2.1.2.2.2.2.2.2.2.2.2, bi_ok, km_70_247] at eM
              rw [goS 0 _ (Or.inl rfl) eM, eC, c_throw P9.1.1.1 hp9 P9.1.2.1.1, nx0]
              exact Or.inl (P9.1.flt hT5 2 (Or.inl rfl) _)
          · rw [if_neg (show ¬ (Int32.ofNat (Q (p + 1)).1 = 1) from fun q => a1 ((ofN_eq (c := 1) (by omega) (by omega)).1 q)), c_throw hTE2 hp2 h2.1] at eC
            rw [if_neg (fun q => a1 (t1'.1 q)), m_wrong hTE2 hp2 h2.2.1 h2.2.2.2.2.2.2.2.2.2, bi_ok] at eM
            rw [goS 0 _ (Or.inl rfl) eM, eC, nx0]
            exact Or.inl (hPS2.flt hT5 2 (Or.inl rfl) _)
        · -- the component up to here
          have eC : lj_D lc_P lc_M87 36 [.ref 6, .int what, .int 1, x3] [] σ = (if (if bgG (Q p).1 then (1 : Int32) else 0) = 0 then lj_D lc_P lc_M87 252 [.ref 6, .int what, .int 0, .int Ln] [] σ else lj_bv (lj_R lc_P 78 [.ref 6, .int what] σ) (fun σ11 => lj_bi (lj_R lc_P 54 [.ref 5, .int 15, .int 0, .int 0] σ11) (fun y13 σ12 => lj_bv (lj_R lc_P 94 [.ref 6] σ12) (fun σ14 => lj_D lc_P lc_M87 252 [.ref 6, .int 1, .int 1, .int Ln] [] σ14) lj_up) lj_up) lj_up) := by
            rw [kc_87_36, if_neg (by decide), hln, bi_ok, hkd, bi_ok, if_neg (show ¬ (Int32.ofNat (Q p).1 = 69) from ne 69 (by omega) a69), hkd, bi_ok, if_neg (show ¬ (Int32.ofNat (Q p).1 = 64) from ne 64 (by omega) a64), hkd, bi_ok, if_neg (show ¬ (Int32.ofNat (Q p).1 = 67) from ne 67 (by omega) a67), cbg, bi_ok]
          have eM : lj_R lm_P 70 [.ref 0] τa = (if (if bgG (Q p).1 then (1 : Int32) else 0) = 0 then some (.inl (some (.int 1)), τa) else lj_bv (lj_R lm_P 53 [.ref 0] τa) (fun σ11 => lj_bi (lj_R lm_P 28 [.ref 0, .int 14, .int 0, .int 0, .int 0] σ11) (fun y13 σ12 => lj_bi (lj_R lm_P 72 [.ref 0] σ12) (fun y15 σ14 => some (.inl (some (.int (vp_nar .boolean y15))), σ14)) lj_up) lj_up) lj_up) := by
            rw [rm_70, km_70_0, hmln, bi_ok, s69, bi_ok, if_neg (show ¬ (Q p).1 = 40 + 29 by omega), if_pos rfl, s64, bi_ok, if_neg (show ¬ (Q p).1 = 40 + 24 by omega), if_pos rfl, s67, bi_ok, if_neg (show ¬ (Q p).1 = 40 + 27 by omega), if_pos rfl, sbg, bi_ok]
          by_cases hbG : bgG (Q p).1
          · -- a call
            rw [if_pos hbG, if_neg (by decide)] at eC eM
            have fC3 := cP_lf σ1 c1 15 0 0 0 0
            have fM3 := mP_lf τ1 m1 14 0 0 0
            have g3 := cP_get σ1 c1 15 0 0 0 0
            have gm3 := mP_get τ1 m1 14 0 0 0
            have h3 := hnd_M (hnd_C h11 15 0 0 0 0) 14 0 0 0
            have tx3 : TX N σ1 τ1 (cP σ1 c1 15 0 0 0 0) (mP τ1 m1 14 0 0 0) := (cP_TX N σ1 τ1 c1 h11.2.2.2.2.1 (by omega) _ _ _ _ _).tr (mP_TX N _ τ1 m1 _ _ _ _) (fun _ _ q => q)
            have z3 : fz 0 c1 0 m1 σ1 τ1 (cP σ1 c1 15 0 0 0 0) (mP τ1 m1 14 0 0 0) := (cP_fz σ1 τ1 c1 m1 _ _ _ _ _).tr (mP_fz _ τ1 c1 m1 _ _ _ _)
            have G3 : GR N N F F p p c1 (c1 + 1) m1 (m1 + 1) σ1 τ1 (cP σ1 c1 15 0 0 0 0) (mP τ1 m1 14 0 0 0) := ⟨tx3, lvX_rf _, Nat.le_refl _, Nat.le_refl _, by omega, by omega, z3⟩
            have hPS3 : PS b n T Q X F N FO Z PL cl ml p v (c1 + 1) (m1 + 1) wh W (cP σ1 c1 15 0 0 0 0) (mP τ1 m1 14 0 0 0) := hPS1.up fC3 fM3 h3 ⟨hpT, hbv, by omega, by omega, hbw, by omega⟩ (by omega) (by omega) (fun i hi => z3.2 21 i (by omega) (by omega) (by omega) (by omega))
            obtain ⟨y, τy, r1, r2, r3⟩ := ihG F N FO Z PL cl ml p v (c1 + 1) (m1 + 1) wh W _ _ f (1 :: 0 :: s) l (by omega) hPS3 hN (hFO.z.o.up (by omega) (by omega)) (by omega) hbG
            rw [v2, bv_ok, m_emit h11.2.2.2.2.2.1 (by omega), bi_ok, r1, bi_ok, vpb y r2] at eM
            rw [goS y τy r2 eM, eC, v1, bv_ok, c_put3 h11.2.2.2.2.1 (by omega), bi_ok]
            refine callEnd _ _ p (c1 + 1) (m1 + 1) [] _ _ (G1.tr G3) (Or.inl rfl) (Nat.le_refl _) (by omega) (by omega) (fun σ2 τ2 t2 z2 => ?_) r3
            have s1 := hE1' σ2 τ2 (tx3.tr t2 (fun _ _ q => q)) ((z3.mo (by omega) (by omega) (by omega) (by omega)).tr (z2.mo (by omega) (by omega) (by omega) (by omega)))
            refine s1.tr (fun y hy => ?_)
            rw [hy]
            refine seg_in [(f, c1 + 1, m1 + 1, 1 :: 0 :: s, l, 50)] ⟨16, ?_, ?_, rfl⟩ (fun y hy => by rw [List.mem_singleton.1 hy]; exact seg_ex rfl)
            · show σ2.1 22 c1 = 15; rw [z2.1 22 c1 (by omega) (by omega) (by omega) (by omega)]; exact g3.1
            · show τ2.1 20 m1 = 14; rw [z2.2 20 m1 (by omega) (by omega) (by omega) (by omega)]; exact gm3.1
          · -- the end
            rw [if_neg hbG, if_pos rfl] at eC eM
            have eL : mNx 1 τa = mLoop τa := by unfold mNx; rw [if_neg (by decide), if_pos hpop.2.2.2.2.2.2.2.2.2]
            rw [goS 1 _ (Or.inr rfl) eM, eL, eC]
            have k36 : lj_D lc_P lc_M87 252 [.ref 6, .int what, .int 0, .int Ln] [] σ = some (.inl (some (.int what)), σ) := by
              have k267 : lj_D lc_P lc_M87 267 [.ref 6, .int what, .int 0, .int Ln] [] σ = some (.inl (some (.int what)), σ) := by
                rw [kc_87_267, kc_87_36, if_pos rfl]
              rw [kc_87_252, if_pos rfl, k267]
              split <;> rfl
            rw [k36]
            exact Or.inr ⟨what, σ, τa, p, c, m, wh, F, N, rfl, rfl, hPSa, hG.tr Ga, hp0, hcr, hmr, hSa⟩
