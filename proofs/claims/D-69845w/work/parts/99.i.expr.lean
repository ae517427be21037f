/-! rows of expressions -/
/-- what a row comes to -/
def rwR (b : Nat → Int32) (n T : Nat) (Q : tkQ) (X : List Int32 → Prop) (FO : List fT) (Z : List zT) (PL : List qT) (cl ml : Nat) (v : Nat) (W : List wT) (f : Nat) (s l : List Nat) (N : List lT) (F p c m : Nat) (σ τ : lj_S) (oC oM : Option lj_O) : Prop :=
  fltR n oC oM ∨ ∃ σ' τ' p' c' m' wh' F' N' r, oC = some (.inl none, σ') ∧ oM = mLoop τ' ∧ PS b n T Q X F' N' FO Z PL cl ml p' v c' m' wh' W σ' τ' ∧ GR N N' F F' p p' c c' m m' σ τ σ' τ' ∧ p < p' ∧ c' + 9 ≤ c + 25 * (p' - p) ∧ m' + 9 ≤ m + 25 * (p' - p) ∧ (rowS r ∧ r.length ≤ 15) ∧ ∀ σ2 τ2, TX N' σ' τ' σ2 τ2 → fz c c' m m' σ' τ' σ2 τ2 → seg σ2 τ2 (f, c, m, s, l, 50) (fun y => y = (f, c', m', r ++ s, l, 50))
theorem cm_row_loop {b : Nat → Int32} {n T : Nat} {Q : tkQ} {X : List Int32 → Prop} (k : Nat) (ih : CE b n T Q X k) {FO : List fT} {Z : List zT} {PL : List qT} {cl ml v : Nat} {W : List wT} {f : Nat} {s l : List Nat} (hFO : hdF (16 * v + 64) (v + 4) FO s) (hWl : W.length + 15 ≤ 40 * v + 60) (hT5 : T ≤ 520) {N0 : List lT} {F0 p0 c0 m0 : Nat} {σ0 τ0 : lj_S} (hc00 : c0 ≤ 25 * p0 + 100) (hm00 : m0 ≤ 25 * p0 + 100) (x1 : Int32) :
    ∀ (j F : Nat) (N : List lT) (p c m wh i : Nat) (σ τ : lj_S) (r : List Nat) (x4 : Value), T - p < j → j ≤ k → i < 15 → bgE (Q p).1 → PS b n T Q X F N FO Z PL cl ml p v c m wh ((3, 0, 0, 0) :: (14, Int32.ofNat i, 0, 0) :: W) σ τ → hdN N f l → GR N0 N F0 F p0 p c0 c m0 m σ0 τ0 σ τ → c ≤ c0 + 25 * (p - p0) → m ≤ m0 + 25 * (p - p0) → ((∀ x ∈ r, x = 0) ∧ r.length ≤ i) → (∀ σ2 τ2, TX N σ τ σ2 τ2 → fz c0 c m0 m σ τ σ2 τ2 → seg σ2 τ2 (f, c0, m0, s, l, 50) (fun y => y = (f, c, m, r ++ s, l, 50))) →
      rwR b n T Q X FO Z PL cl ml v W f s l N0 F0 p0 c0 m0 σ0 τ0 (lj_D lc_P lc_M95 4 [.ref 6, .int x1, .int (Int32.ofNat i), .int 1, x4] [] σ) (mLoop τ)
  | 0, _, _, _, _, _, _, _, _, _, _, _, hj, _, _, _, _, _, _, _, _, _, _ => by omega
  | j + 1, F, N, p, c, m, wh, i, σ, τ, r, x4, hj, hjk, hi, hbE, hPS, hN, hG, hcr, hmr, hrs, hsg => by
    have hTE := hPS.1.1
    have hb := hPS.2.2.1
    have hpT := hb.1
    have hbv := hb.2.1
    have h1 := hPS.2.1
    have hri := hrs.2
    have hdr := hdF_row hFO r hrs.1
    have hB : sB (r ++ s) := hdr.sb (by omega) (by omega)
    have hrow : ∀ x, (x = 0 ∨ x = 5) → rowS (x :: r) ∧ (x :: r).length ≤ 15 := fun x hx => ⟨⟨fun y hy => by
      rcases List.mem_cons.1 hy with e | e
      · rw [e]; exact hx
      · exact Or.inl (hrs.1 y e), by rw [List.length_cons]; omega, hrs.1⟩, by rw [List.length_cons]; omega⟩
    have hIH := ih F N FO Z PL cl ml p v c m wh ((14, Int32.ofNat i, 0, 0) :: W) σ τ f (r ++ s) l 0 0 (by omega) hPS hN (hdr.up (by omega) (by omega)) (Or.inl ⟨rfl, by omega⟩) (by simp; omega)
    have hp0 : p0 ≤ p := hG.2.2.2.1
    have hc0 : c0 ≤ c := hG.2.2.2.2.1
    have hm0 : m0 ≤ m := hG.2.2.2.2.2.1
    have eC : lj_D lc_P lc_M95 4 [.ref 6, .int x1, .int (Int32.ofNat i), .int 1, x4] [] σ = lj_bi (lj_R lc_P 75 [.ref 6, .int (Int32.ofNat 0)] σ) (fun y4 σ3 => lj_bi (lj_R lc_P 63 [.ref 6] σ3) (fun y6 σ5 => (if y6 = 68 then lj_D lc_P lc_M95 56 [.ref 6, .int x1, .int (Int32.ofNat (i + 1)), .int 1, .int y4] [.int 1] σ5 else lj_D lc_P lc_M95 56 [.ref 6, .int x1, .int (Int32.ofNat (i + 1)), .int 1, .int y4] [.int 0] σ5)) lj_up) lj_up := by
      rw [kc_95_4, if_neg (by decide), c_beginsE hTE hpT h1.1, if_pos hbE, bi_ok, if_neg (by decide), if_neg (show ¬ (Int32.ofNat i = 15) from fun q => by have := (ofN_eq (c := 15) (by omega) (by omega)).1 q; omega), rc_74, kc_74_0, lz_osucc]
      show lj_bi (lj_bi (lj_R lc_P 75 [.ref 6, .int (Int32.ofNat 0)] σ) _ lj_up) _ lj_up = _
      cases lj_R lc_P 75 [.ref 6, .int (Int32.ofNat 0)] σ with
      | none => rfl
      | some o =>
        obtain ⟨o1, o2⟩ := o
        cases o1 with
        | inr x => rfl
        | inl x =>
          cases x with
          | none => rfl
          | some y => cases y <;> rfl
    rw [eC]
    rcases hIH with hf | ⟨what, σ3, τ3, p3, c3, m3, wh3, F3, N3, i1, i2, i3, i4, i5, i6, i7, i8, i9⟩
    · exact Or.inl (flt_bi hf _)
    · have i4' := i4
      obtain ⟨j1, j2, j3, j4, j5, j6, j7⟩ := i4'
      have hb3 := i3.2.2.1
      have hb31 := hb3.1
      have hb32 := hb3.2.2.1
      have hb33 := hb3.2.2.2.1
      have h3 := i3.2.1
      have hTE3 := i3.1.1
      have hk3 := tk_lt hTE3 hb31
      have w46 := h3.2.2.2.2.2.2.2.2.1
      have hpop := hnd_pop h3
      have hN3 := hdN_X hN j2
      have hml3 : ml ≤ m3 := i3.2.2.2.2.2
      have hmlm : ml ≤ m := hPS.2.2.2.2.2
      have hNq : ∀ q : Nat, q ∉ N.map (·.1) → q ∉ N3.map (·.1) := fun q hq => by rw [lvX_q j2]; exact hq
      have f3a : lf aM τ3 (lj_put τ3 0 46 (Int32.ofNat W.length)) := lf_put (lf_rf _ _) _ _ _ rfl
      have o3a : ∀ k i, ¬ (k = 0 ∧ i = 46) → (lj_put τ3 0 46 (Int32.ofNat W.length)).1 k i = τ3.1 k i := fun k i q => by rw [lj_put_1, if_neg q]
      have c14 : c3 < 14000 := by omega
      have m14 : m3 < 14000 := by omega
      -- the model's row
      have goR : ∀ y τ', (y = 0 ∨ y = 1) → lj_R lm_P 78 [.ref 0, .int (Int32.ofNat i)] (lj_put τ3 0 46 (Int32.ofNat W.length)) = some (.inl (some (.int y)), τ') → mLoop τ3 = mNx y τ' := fun y τ' hy e => by
        rw [(m_iter w46 (by omega)).1]
        show lj_bi (lj_R lm_P 30 [.ref 0, .int 14, .int (Int32.ofNat i), .int 0, .int 0] _) _ _ = _
        rw [rm_30, km_30_0, if_neg (by decide), if_neg (by decide), if_neg (by decide), if_neg (by decide), if_neg (by decide), if_neg (by decide), if_neg (by decide), if_neg (by decide), if_neg (by decide), if_neg (by decide), if_neg (by decide), if_neg (by decide), if_neg (by decide), if_neg (by decide), if_pos rfl, e, bi_ok, bi_ok, vpb y hy]
        rfl
      generalize hτ3a : lj_put τ3 0 46 (Int32.ofNat W.length) = τ3a at *
      have hTE3a : TE b n T Q σ3 τ3a := TE_up hTE3 (lf_rf _ _) f3a
      have s68 := m_isSign hTE3a hb31 hpop.2.1 28 (by omega) 44 rfl
      rw [i1, bi_ok, c_kind hTE3 hb31 h3.1, bi_ok, i2]
      by_cases hcm : (Q p3).1 = 68
      · -- more
        have hpT3 : p3 < T := by
          rcases Nat.lt_or_ge p3 T with q | q
          · exact q
          · have e : p3 = T := by omega
            have := hTE3.2.2.2.2.2.2.1
            rw [← e] at this
            omega
        rw [if_pos (by rw [hcm]; rfl), kc_95_56, if_neg (by decide), kc_95_91]
        obtain ⟨σ4, c4, g4, hPS4, hE4, hcc4, hcc4', tx4, fz4, fl4⟩ := ex_get i3 i8 (by omega) hT5 j5 j6
        have h4h := hPS4.2.1
        have hTE4 := hPS4.1.1
        have htk := m_take hTE3a hb31 hpop.2.1 (by omega)
        have hp4 : hnd p3 v c4 m3 wh3 W σ4 τ3a := by rw [← hτ3a]; exact hnd_pop h4h
        have hp1 := hnd_p hp4 (p3 + 1)
        have fb : lf aM τ3 (lj_put τ3a 0 25 (Int32.ofNat (p3 + 1))) := lf_put f3a _ _ _ rfl
        have fCb : lf aC σ4 (lj_put σ4 6 0 (Int32.ofNat (p3 + 1))) := lf_put (lf_rf _ _) _ _ _ rfl
        have a2 : (lj_put τ3a 0 25 (Int32.ofNat (p3 + 1))).2 = τ3.2 := by rw [← hτ3a]; rfl
        have ob : ∀ k i, 20 ≤ k → (lj_put τ3a 0 25 (Int32.ofNat (p3 + 1))).1 k i = τ3.1 k i := fun k i q => by rw [lj_put_1, if_neg (by omega), o3a k i (by omega)]
        have txb : TX N3 σ4 τ3 (lj_put σ4 6 0 (Int32.ofNat (p3 + 1))) (lj_put τ3a 0 25 (Int32.ofNat (p3 + 1))) := putC_TX N3 σ4 τ3 6 0 _ rfl (by omega) _ fb a2
        have hst := c_step hTE4 hb31 h4h.1
        rw [g4, bv_ok, kc_95_97, if_neg (by decide), hst, bv_ok, kc_95_105]
        generalize hσ5 : lj_put σ4 6 0 (Int32.ofNat (p3 + 1)) = σ5 at *
        generalize hτ5 : lj_put τ3a 0 25 (Int32.ofNat (p3 + 1)) = τ5 at *
        have oσ5 : ∀ k i, k ≠ 6 → σ5.1 k i = σ4.1 k i := fun k i q => by rw [← hσ5, lj_put_1, if_neg (by omega)]
        have hTE5 : TE b n T Q σ5 τ5 := TE_up hTE4 fCb fb
        have hp5T : p3 + 1 ≤ T := by omega
        have h541 : τ5.1 0 41 = Int32.ofNat m3 := hp1.2.2.2.2.2.1
        have h54 := hp1.2.2.2.2.2.2.2.2.2
        have hpl5 : (Q (p3 + 1)).2.1 ≤ n := (hTE5.2.2.2.2.1 (p3 + 1) hp5T).2.2.2.2.1
        have eR : lj_R lm_P 78 [.ref 0, .int (Int32.ofNat i)] τ3a = lj_bi (lj_R lm_P 38 [.ref 0] τ5) (fun y6 σ5 => (if y6 = 0 then lj_bi (lj_R lm_P 47 [.ref 0] σ5) (fun y14 σ13 => some (.inl (some (.int (vp_nar .boolean y14))), σ13)) lj_up else (if Int32.ofNat (i + 1) = 15 then lj_bi (lj_R lm_P 34 [.ref 0] σ5) (fun y10 σ9 => lj_bi (lj_R lm_P 37 [.ref 0, .int 3, .int y10] σ9) (fun y12 σ11 => some (.inl (some (.int (vp_nar .boolean y12))), σ11)) lj_up) lj_up else lj_bv (lj_R lm_P 29 [.ref 0, .int 14, .int (Int32.ofNat (i + 1)), .int 0, .int 0] σ5) (fun σ7 => lj_bv (lj_R lm_P 29 [.ref 0, .int 3, .int 0, .int 0, .int 0] σ7) (fun σ8 => some (.inl (some (.int 1)), σ8)) lj_up) lj_up))) lj_up := by
          rw [rm_78, km_78_0, s68, bi_ok, if_pos (show (Q p3).1 = 40 + 28 by omega), if_neg (by decide), htk, bi_ok, if_neg (by decide), lz_osucc]
        rw [m_beginsE hTE5 hp5T hp1.2.1, bi_ok] at eR
        by_cases hbE5 : bgE (Q (p3 + 1)).1
        · have hK5 : (Q (p3 + 1)).1 ≠ 4 := by intro e; rw [e] at hbE5; exact absurd hbE5 (by decide)
          rw [if_pos hbE5, if_neg (by decide)] at eR
          by_cases e15 : i + 1 = 15
          · -- too many
            rw [if_pos (by rw [e15]; rfl), m_here hTE5 hp5T hp1.2.1, bi_ok, m_fail τ5 h54, bi_ok] at eR
            rw [goR 0 _ (Or.inl rfl) eR, kc_95_4, if_neg (by decide), c_beginsE hTE5 hp5T hp1.1, if_pos hbE5, bi_ok, if_neg (by decide), if_pos (by rw [e15]; rfl), c_throw hTE5 hp5T hp1.1]
            have hq : fq (Q (p3 + 1)).1 3 = 3 := by unfold fq; rw [if_neg hK5]
            rw [hq]
            refine Or.inl ?_
            unfold mNx
            rw [if_pos rfl]
            exact flt_mk (m := m3) h541 (by omega) (by decide) hpl5
          · rw [if_neg (show ¬ (Int32.ofNat (i + 1) = 15) from fun q => e15 ((ofN_eq (c := 15) (by omega) (by omega)).1 q))] at eR
            obtain ⟨l1, l2⟩ := m_later hp1.2.2.2.2.2.2.2.2.1 (by omega) 14 (Int32.ofNat (i + 1)) 0 0
            have u1 := hnd_W hp1 (14, Int32.ofNat (i + 1), 0, 0)
            rw [l1, bv_ok] at eR
            have fw1 := mW_lf τ5 W.length (14, Int32.ofNat (i + 1), 0, 0)
            have ow1 : ∀ k j, 20 ≤ k → k ≤ 24 → (mW τ5 W.length (14, Int32.ofNat (i + 1), 0, 0)).1 k j = τ5.1 k j := fun k j q1 q2 => by
              unfold mW
              rw [lj_put_1, if_neg (by omega), lj_put_1, if_neg (by omega), lj_put_1, if_neg (by omega), lj_put_1, if_neg (by omega), lj_put_1, if_neg (by omega)]
            have d1 : (mW τ5 W.length (14, Int32.ofNat (i + 1), 0, 0)).2 = τ5.2 := rfl
            generalize hτ6 : mW τ5 W.length (14, Int32.ofNat (i + 1), 0, 0) = τ6 at *
            obtain ⟨l3, l4⟩ := m_later l2 (by simp; omega) 3 0 0 0
            have u2 := hnd_W u1 (3, 0, 0, 0)
            rw [l3, bv_ok] at eR
            have fw2 := mW_lf τ6 ((14, Int32.ofNat (i + 1), 0, 0) :: W : List wT).length (3, 0, 0, 0)
            have ow2 : ∀ k j, 20 ≤ k → k ≤ 24 → (mW τ6 ((14, Int32.ofNat (i + 1), 0, 0) :: W : List wT).length (3, 0, 0, 0)).1 k j = τ6.1 k j := fun k j q1 q2 => by
              unfold mW
              rw [lj_put_1, if_neg (by omega), lj_put_1, if_neg (by omega), lj_put_1, if_neg (by omega), lj_put_1, if_neg (by omega), lj_put_1, if_neg (by omega)]
            have d2 : (mW τ6 ((14, Int32.ofNat (i + 1), 0, 0) :: W : List wT).length (3, 0, 0, 0)).2 = τ6.2 := rfl
            generalize hτ7 : mW τ6 ((14, Int32.ofNat (i + 1), 0, 0) :: W : List wT).length (3, 0, 0, 0) = τ7 at *
            have f37 : lf aM τ3 τ7 := (fb.tr fw1).tr fw2
            have o37 : ∀ k j, 20 ≤ k → k ≤ 24 → τ7.1 k j = τ3.1 k j := fun k j q1 q2 => by rw [ow2 k j q1 q2, ow1 k j q1 q2, ob k j q1]
            have t37 : TX N3 σ4 τ3 σ5 τ7 := by
              refine TX_up N3 fCb f37 ?_ ?_ (fun i _ => ⟨by rw [← hσ5]; rfl, by rw [d2, d1, a2]⟩)
              · unfold lv; rw [oσ5 5 0 (by omega)]; exact Int.le_refl _
              · unfold lv; rw [oσ5 5 6 (by omega)]; exact Int.le_refl _
            have hPS7 : PS b n T Q X F3 N3 FO Z PL cl ml (p3 + 1) v c4 m3 wh3 ((3, 0, 0, 0) :: (14, Int32.ofNat (i + 1), 0, 0) :: W) σ5 τ7 := hPS4.up fCb f37 u2 ⟨hp5T, hbv, by omega, by omega, by have := hb3.2.2.2.2.1; omega, by simp; omega⟩ (Nat.le_refl _) (Nat.le_refl _) (fun i hi => o37 21 i (by omega) (by omega))
            have G34 : GR N3 N3 F3 F3 p3 p3 c3 c4 m3 m3 σ3 τ3 σ4 τ3 := ⟨tx4, lvX_rf _, Nat.le_refl _, Nat.le_refl _, hcc4, Nat.le_refl _, fz4⟩
            have z47 : fz 0 c4 0 m3 σ4 τ3 σ5 τ7 := ⟨fun k i q1 q2 _ _ => oσ5 k i (by omega), fun k i q1 q2 _ _ => o37 k i q1 (by omega)⟩
            have G47 : GR N3 N3 F3 F3 p3 (p3 + 1) c4 c4 m3 m3 σ4 τ3 σ5 τ7 := ⟨t37, lvX_rf _, Nat.le_refl _, by omega, Nat.le_refl _, Nat.le_refl _, z47⟩
            have GA := (i4.tr G34).tr G47
            have eL : mNx 1 τ7 = mLoop τ7 := by unfold mNx; rw [if_neg (by decide), if_pos u2.2.2.2.2.2.2.2.2.2]
            rw [goR 1 _ (Or.inr rfl) eR, eL]
            refine cm_row_loop k ih hFO hWl hT5 hc00 hm00 x1 j F3 N3 (p3 + 1) c4 m3 wh3 (i + 1) σ5 τ7 (0 :: r) (.int what) (by omega) (by omega) (by omega) hbE5 hPS7 hN3 (hG.tr GA) (by omega) (by omega) ⟨fun x hx => ?_, by rw [List.length_cons]; omega⟩ (fun σ6 τ6' t6 z6 => ?_)
            · rcases List.mem_cons.1 hx with e | e
              · exact e
              · exact hrs.1 x e
            · rcases hE4 with ⟨_, hE4⟩ | ⟨q, _⟩ | ⟨q, _⟩
              · have s1 := hsg σ6 τ6' (GA.1.tr t6 (fun q _ hq => hNq q hq)) ((GA.2.2.2.2.2.2.mo (by omega) (by omega) (by omega) (by omega)).tr (z6.mo (by omega) (by omega) (by omega) (by omega)))
                have s2 := hE4 σ6 τ6' (t37.tr t6 (fun _ _ q => q)) ((z47.mo (by omega) (by omega) (by omega) (by omega)).tr (z6.mo (by omega) (by omega) (by omega) (by omega)))
                exact s1.tr (fun y hy => by rw [hy]; exact s2)
              · exact absurd q (by decide)
              · exact absurd q (by decide)
        · -- no expression
          rw [if_neg hbE5, if_pos rfl, m_wrong hTE5 hp5T hp1.2.1 h54, bi_ok] at eR
          rw [goR 0 _ (Or.inl rfl) eR, kc_95_4, if_neg (by decide), c_beginsE hTE5 hp5T hp1.1, if_neg hbE5, bi_ok, if_pos rfl, c_throw hTE5 hp5T hp1.1]
          refine Or.inl ?_
          unfold mNx
          rw [if_pos rfl]
          exact flt_mk (m := m3) h541 (by omega) (fq_ok _ (Or.inl rfl)) hpl5
      · -- the last one
        rw [if_neg (show ¬ (Int32.ofNat (Q p3).1 = 68) from fun q => hcm ((ofN_eq (c := 68) (by omega) (by omega)).1 q)), kc_95_56, if_pos rfl]
        have k97 : ∀ σ', lj_D lc_P lc_M95 97 [.ref 6, .int x1, .int (Int32.ofNat (i + 1)), .int 0, .int what] [] σ' = some (.inl none, σ') := fun σ' => by
          rw [kc_95_97, if_pos rfl, kc_95_105, kc_95_4, if_pos rfl]
        have eR0 : lj_R lm_P 78 [.ref 0, .int (Int32.ofNat i)] τ3a = (if (τ3a.1 0 64) < 0 then some (.inl (some (.int 1)), τ3a) else (if lj_in (τ3a.1 0 64) 14000 then some (.inl (some (.int 1)), (lj_put τ3a 21 ((τ3a.1 0 64).toNatClampNeg) (-1))) else none)) := by
          rw [rm_78, km_78_0, s68, bi_ok, if_neg (show ¬ (Q p3).1 = 40 + 28 by omega), if_pos rfl, km_78_26, km_78_26]
        have e64 : τ3a.1 0 64 = τ3.1 0 64 := o3a 0 64 (by omega)
        have cS : ∀ {c5 : Nat}, c5 < 14000 → c3 = c5 → lj_D lc_P lc_M95 73 [.ref 6, .int x1, .int (Int32.ofNat (i + 1)), .int 0, .int what] [] σ3 = some (.inl none, cP σ3 c3 18 0 0 0 0) := fun _ _ => by
          rw [kc_95_73, c_put3 h3.2.2.2.2.1 c14, bi_ok, k97]
        -- an open call or rest
        have opn : ∀ m1, what = 1 ∨ what = 2 → m3 = m1 + 1 → m ≤ m1 → τ3.1 0 64 = Int32.ofNat m1 → (∀ σ2 τ2, TX N3 (cP σ3 c3 18 0 0 0 0) (lj_put τ3a 21 m1 (-1)) σ2 τ2 → fz c (c3 + 1) m m3 (cP σ3 c3 18 0 0 0 0) (lj_put τ3a 21 m1 (-1)) σ2 τ2 → seg σ2 τ2 (f, c, m, r ++ s, l, 50) (fun y => y = (f, c3 + 1, m3, 5 :: (r ++ s), l, 50))) → rwR b n T Q X FO Z PL cl ml v W f s l N0 F0 p0 c0 m0 σ0 τ0 (lj_D lc_P lc_M95 73 [.ref 6, .int x1, .int (Int32.ofNat (i + 1)), .int 0, .int what] [] σ3) (mLoop τ3) := by
          intro m1 hw em hmm1 h64 hseg
          have eR : lj_R lm_P 78 [.ref 0, .int (Int32.ofNat i)] τ3a = some (.inl (some (.int 1)), lj_put τ3a 21 m1 (-1)) := by
            rw [eR0, e64, h64, if_neg (ofN_nneg (by omega)), if_pos (ofN_in (by omega) (by omega)), lz_onat (by omega)]
          have fC := cP_lf σ3 c3 18 0 0 0 0
          have fM : lf aM τ3 (lj_put τ3a 21 m1 (-1)) := lf_put f3a _ _ _ rfl
          have hh := hnd_21 (hnd_C hpop 18 0 0 0 0) m1 (-1)
          have g := cP_get σ3 c3 18 0 0 0 0
          have tx : TX N3 σ3 τ3 (cP σ3 c3 18 0 0 0 0) (lj_put τ3a 21 m1 (-1)) := (cP_TX N3 σ3 τ3 c3 h3.2.2.2.2.1 c14 18 0 0 0 0).tr (putM_TX N3 _ τ3 _ fM (fun i => by rw [← hτ3a]; rfl)) (fun _ _ q => q)
          have oM : ∀ k i, ¬ (k = 21 ∧ i = m1) → 20 ≤ k → (lj_put τ3a 21 m1 (-1)).1 k i = τ3.1 k i := fun k i q1 q2 => by rw [lj_put_1, if_neg q1, o3a k i (by omega)]
          have zz : fz 0 c 0 m σ3 τ3 (cP σ3 c3 18 0 0 0 0) (lj_put τ3a 21 m1 (-1)) := ⟨fun k i q1 q2 _ q4 => cP_o _ _ _ _ _ _ _ _ _ (by omega) (by omega), fun k i q1 q2 _ q4 => oM k i (by omega) q1⟩
          have tA : TX N σ τ (cP σ3 c3 18 0 0 0 0) (lj_put τ3a 21 m1 (-1)) := j1.tr tx (fun q _ hq => hNq q hq)
          have zA : fz 0 c 0 m σ τ (cP σ3 c3 18 0 0 0 0) (lj_put τ3a 21 m1 (-1)) := j7.tr zz
          have GA : GR N N3 F F3 p p3 c (c3 + 1) m m3 σ τ (cP σ3 c3 18 0 0 0 0) (lj_put τ3a 21 m1 (-1)) := ⟨tA, j2, j3, j4, by omega, j6, zA⟩
          have eL : mNx 1 (lj_put τ3a 21 m1 (-1)) = mLoop (lj_put τ3a 21 m1 (-1)) := by unfold mNx; rw [if_neg (by decide), if_pos hh.2.2.2.2.2.2.2.2.2]
          refine Or.inr ⟨cP σ3 c3 18 0 0 0 0, lj_put τ3a 21 m1 (-1), p3, c3 + 1, m3, wh3, F3, N3, 5 :: r, cS c14 rfl, by rw [goR 1 _ (Or.inr rfl) eR, eL], i3.up fC fM hh ⟨hb31, hbv, by omega, hb33, hb3.2.2.2.2.1, by omega⟩ (by omega) (Nat.le_refl _) (fun i hi => oM 21 i (by omega) (by omega)), hG.tr GA, by omega, by omega, by omega, hrow 5 (Or.inr rfl), fun σ2 τ2 t2 z2 => ?_⟩
          · have s1 := hsg σ2 τ2 (tA.tr t2 (fun q _ hq => hNq q hq)) ((zA.mo (by omega) (by omega) (by omega) (by omega)).tr (z2.mo (by omega) (by omega) (by omega) (by omega)))
            have s2 := hseg σ2 τ2 t2 (z2.mo (by omega) (by omega) (by omega) (by omega))
            exact s1.tr (fun y hy => by rw [hy]; exact s2)
        have i8' := i8
        rcases i8' with ⟨q, hE⟩ | ⟨q, c1, m1, r2, e1, e2, e3, e4, e5, e6, e7, e8, e9, e10, e11⟩ | ⟨q, c1, m1, e1, e2, e3, e4, e5, e6, e7, e8, e9⟩
        · -- a value
          subst q
          have eR : lj_R lm_P 78 [.ref 0, .int (Int32.ofNat i)] τ3a = some (.inl (some (.int 1)), τ3a) := by
            rw [eR0, e64, i9 rfl, if_pos (by decide)]
          have eL : mNx 1 τ3a = mLoop τ3a := by unfold mNx; rw [if_neg (by decide), if_pos hpop.2.2.2.2.2.2.2.2.2]
          rw [if_neg (by decide), if_neg (by decide), kc_95_91, c_get0, bv_ok, k97, goR 1 _ (Or.inr rfl) eR, eL]
          have tx : TX N3 σ3 τ3 σ3 τ3a := putM_TX N3 σ3 τ3 _ f3a (fun i => by rw [← hτ3a]; rfl)
          have zz : fz 0 c3 0 m3 σ3 τ3 σ3 τ3a := ⟨fun _ _ _ _ _ _ => rfl, fun k i q1 q2 _ _ => o3a k i (by omega)⟩
          have GA := i4.tr (⟨tx, lvX_rf _, Nat.le_refl _, Nat.le_refl _, Nat.le_refl _, Nat.le_refl _, zz⟩ : GR N3 N3 F3 F3 p3 p3 c3 c3 m3 m3 σ3 τ3 σ3 τ3a)
          refine Or.inr ⟨σ3, τ3a, p3, c3, m3, wh3, F3, N3, 0 :: r, rfl, rfl, i3.up (lf_rf _ _) f3a hpop ⟨hb31, hbv, hb32, hb33, hb3.2.2.2.2.1, by omega⟩ (Nat.le_refl _) (Nat.le_refl _) (fun i hi => o3a 21 i (by omega)), hG.tr GA, by omega, by omega, by omega, hrow 0 (Or.inl rfl), fun σ2 τ2 t2 z2 => ?_⟩
          · have s1 := hsg σ2 τ2 (GA.1.tr t2 (fun q _ hq => hNq q hq)) ((GA.2.2.2.2.2.2.mo (by omega) (by omega) (by omega) (by omega)).tr (z2.mo (by omega) (by omega) (by omega) (by omega)))
            have s2 := hE σ2 τ2 (tx.tr t2 (fun _ _ q => q)) ((zz.mo (by omega) (by omega) (by omega) (by omega)).tr (z2.mo (by omega) (by omega) (by omega) (by omega)))
            exact s1.tr (fun y hy => by rw [hy]; exact s2)
        · subst q
          rw [if_pos rfl]
          refine opn m1 (Or.inl rfl) e2 e4 e5 (fun σ2 τ2 t2 z2 => ?_)
          have tx0 : TX N3 σ3 τ3 (cP σ3 c3 18 0 0 0 0) (lj_put τ3a 21 m1 (-1)) := (cP_TX N3 σ3 τ3 c3 h3.2.2.2.2.1 c14 18 0 0 0 0).tr (putM_TX N3 _ τ3 _ (lf_put f3a _ _ _ rfl) (fun i => by rw [← hτ3a]; rfl)) (fun _ _ q => q)
          obtain ⟨w1, w2⟩ := e11 σ2 τ2 (tx0.tr t2 (fun _ _ q => q)) ⟨fun k i q1 q2 q3 q4 => by rw [z2.1 k i q1 q2 q3 (by omega), cP_o _ _ _ _ _ _ _ _ _ (by omega) (by omega)], fun k i q1 q2 q3 q4 => by rw [z2.2 k i q1 q2 q3 (by omega), lj_put_1, if_neg (by omega), o3a k i (by omega)]⟩
          refine w1.tr (fun y hy => ?_)
          rw [hy]
          subst e1 e2
          have g := cP_get σ3 (c1 + 1) 18 0 0 0 0
          refine seg_in [(f, c1 + 1 + 1, m1 + 1, 5 :: (r ++ s), l, 50)] ⟨19, r2, r ++ s, e10, rfl, ?_, ?_, ?_, w2, ?_, ?_, rfl⟩ (fun y hy => by rw [List.mem_singleton.1 hy]; exact seg_ex rfl)
          · show σ2.1 22 c1 = 16; rw [z2.1 22 c1 (by omega) (by omega) (by omega) (by omega), cP_o _ _ _ _ _ _ _ _ _ (by omega) (by omega)]; exact e6
          · show τ2.1 20 m1 = 16; rw [z2.2 20 m1 (by omega) (by omega) (by omega) (by omega), lj_put_1, if_neg (by omega), o3a 20 m1 (by omega)]; exact e7
          · show σ2.1 26 c1 = τ2.1 23 m1; rw [z2.1 26 c1 (by omega) (by omega) (by omega) (by omega), cP_o _ _ _ _ _ _ _ _ _ (by omega) (by omega), z2.2 23 m1 (by omega) (by omega) (by omega) (by omega), lj_put_1, if_neg (by omega), o3a 23 m1 (by omega)]; exact e9
          · show σ2.1 22 (c1 + 1) = 18; rw [z2.1 22 (c1 + 1) (by omega) (by omega) (by omega) (by omega)]; exact g.1
          · show τ2.1 21 m1 = -1; rw [z2.2 21 m1 (by omega) (by omega) (by omega) (by omega), lj_put_1, if_pos ⟨rfl, rfl⟩]
        · subst q
          rw [if_neg (by decide), if_pos rfl]
          refine opn m1 (Or.inr rfl) e2 e4 e5 (fun σ2 τ2 t2 z2 => ?_)
          have tx0 : TX N3 σ3 τ3 (cP σ3 c3 18 0 0 0 0) (lj_put τ3a 21 m1 (-1)) := (cP_TX N3 σ3 τ3 c3 h3.2.2.2.2.1 c14 18 0 0 0 0).tr (putM_TX N3 _ τ3 _ (lf_put f3a _ _ _ rfl) (fun i => by rw [← hτ3a]; rfl)) (fun _ _ q => q)
          have w1 := e9 σ2 τ2 (tx0.tr t2 (fun _ _ q => q)) ⟨fun k i q1 q2 q3 q4 => by rw [z2.1 k i q1 q2 q3 (by omega), cP_o _ _ _ _ _ _ _ _ _ (by omega) (by omega)], fun k i q1 q2 q3 q4 => by rw [z2.2 k i q1 q2 q3 (by omega), lj_put_1, if_neg (by omega), o3a k i (by omega)]⟩
          refine w1.tr (fun y hy => ?_)
          rw [hy]
          subst e1 e2
          have g := cP_get σ3 (c1 + 1) 18 0 0 0 0
          refine seg_in [(f, c1 + 1 + 1, m1 + 1, 5 :: (r ++ s), l, 50)] ⟨23, ?_, ?_, ?_, ?_, rfl⟩ (fun y hy => by rw [List.mem_singleton.1 hy]; exact seg_ex rfl)
          · show σ2.1 22 c1 = 21; rw [z2.1 22 c1 (by omega) (by omega) (by omega) (by omega), cP_o _ _ _ _ _ _ _ _ _ (by omega) (by omega)]; exact e6
          · show τ2.1 20 m1 = 30; rw [z2.2 20 m1 (by omega) (by omega) (by omega) (by omega), lj_put_1, if_neg (by omega), o3a 20 m1 (by omega)]; exact e7
          · show σ2.1 22 (c1 + 1) = 18; rw [z2.1 22 (c1 + 1) (by omega) (by omega) (by omega) (by omega)]; exact g.1
          · show τ2.1 21 m1 = -1; rw [z2.2 21 m1 (by omega) (by omega) (by omega) (by omega), lj_put_1, if_pos ⟨rfl, rfl⟩]
/-- rows with fewer than k tokens to come -/
def CR (b : Nat → Int32) (n T : Nat) (Q : tkQ) (X : List Int32 → Prop) (k : Nat) : Prop :=
  ∀ (F : Nat) (N : List lT) (FO : List fT) (Z : List zT) (PL : List qT) (cl ml : Nat) (p v c m wh : Nat) (W : List wT) (σ τ : lj_S) (f : Nat) (s l : List Nat) (x1 : Int32), T - p < k → PS b n T Q X F N FO Z PL cl ml p v c m wh ((3, 0, 0, 0) :: (14, 0, 0, 0) :: W) σ τ → hdN N f l → hdF (16 * v + 64) (v + 4) FO s → W.length + 15 ≤ 40 * v + 60 → bgE (Q p).1 →
    rwR b n T Q X FO Z PL cl ml v W f s l N F p c m σ τ (lj_R lc_P 95 [.ref 6, .int x1] σ) (mLoop τ)
theorem cr_of {b : Nat → Int32} {n T : Nat} {Q : tkQ} {X : List Int32 → Prop} (hT5 : T ≤ 520) (k : Nat) (ih : CE b n T Q X k) : CR b n T Q X k := by
  intro F N FO Z PL cl ml p v c m wh W σ τ f s l x1 hTp hPS hN hFO hWl hbE
  have hb := hPS.2.2.1
  rw [rc_95, kc_95_0]
  exact cm_row_loop k ih hFO hWl hT5 hb.2.2.1 hb.2.2.2.1 x1 (T - p + 1) F N p c m wh 0 σ τ [] _ (by omega) (by omega) (by omega) hbE hPS hN (GR_rf _ _ _ _ _ _ _) (by omega) (by omega) ⟨fun x hx => by simp at hx, Nat.le_refl _⟩ (fun σ2 τ2 _ _ => seg_ex rfl)
/-- a value: an expression and its uppermost one -/
def CV (b : Nat → Int32) (n T : Nat) (Q : tkQ) (X : List Int32 → Prop) (k : Nat) : Prop :=
  ∀ (F : Nat) (N : List lT) (FO : List fT) (Z : List zT) (PL : List qT) (cl ml : Nat) (p v c m wh : Nat) (W : List wT) (σ τ : lj_S) (f : Nat) (s l : List Nat), T - p < k → PS b n T Q X F N FO Z PL cl ml p v c m wh ((3, 0, 0, 0) :: W) σ τ → hdN N f l → hdF (16 * v + 78) (v + 4) FO s → W.length + 10 ≤ 40 * v + 60 →
    fltR n (lj_R lc_P 73 [.ref 6] σ) (mLoop τ) ∨ ∃ σ' τ' p' c' m' wh' F' N', lj_R lc_P 73 [.ref 6] σ = some (.inl none, σ') ∧ mLoop τ = mLoop τ' ∧ PS b n T Q X F' N' FO Z PL cl ml p' v c' m' wh' W σ' τ' ∧ GR N N' F F' p p' c c' m m' σ τ σ' τ' ∧ p < p' ∧ c' + 9 ≤ c + 25 * (p' - p) ∧ m' + 9 ≤ m + 25 * (p' - p) ∧ exS f s l N' c m c' m' 0 σ' τ'
theorem cv_of {b : Nat → Int32} {n T : Nat} {Q : tkQ} {X : List Int32 → Prop} (hT5 : T ≤ 520) (k : Nat) (ih : CE b n T Q X k) : CV b n T Q X k := by
  intro F N FO Z PL cl ml p v c m wh W σ τ f s l hTp hPS hN hFO hWl
  have hb := hPS.2.2.1
  have hv20 := hb.2.1
  have hB : sB s := hFO.sb (by omega) (by omega)
  have hb2 := hb.2.2.1
  have hIH := ih F N FO Z PL cl ml p v c m wh W σ τ f s l 0 0 hTp hPS hN hFO (Or.inl ⟨rfl, by omega⟩) hWl
  have eC : lj_R lc_P 73 [.ref 6] σ = lj_bi (lj_R lc_P 75 [.ref 6, .int (Int32.ofNat 0)] σ) (fun y2 σ1 => lj_bv (lj_R lc_P 78 [.ref 6, .int y2] σ1) (fun σ3 => some (.inl none, σ3)) lj_up) lj_up := by
    rw [rc_73, kc_73_0, rc_74, kc_74_0]
    show lj_bi (lj_bi (lj_R lc_P 75 [.ref 6, .int (Int32.ofNat 0)] σ) _ lj_up) _ lj_up = _
    cases lj_R lc_P 75 [.ref 6, .int (Int32.ofNat 0)] σ with
    | none => rfl
    | some o =>
      obtain ⟨o1, o2⟩ := o
      cases o1 with
      | inr x => rfl
      | inl x =>
        cases x with
        | none => rfl
        | some y => cases y <;> rfl
  rw [eC]
  rcases hIH with hf | ⟨what, σ3, τ3, p3, c3, m3, wh3, F3, N3, i1, i2, i3, i4, i5, i6, i7, i8, i9⟩
  · exact Or.inl (flt_bi hf _)
  · have hb3 := i3.2.2.1
    have hb31 := hb3.1
    have hb32 := hb3.2.2.1
    obtain ⟨σ4, c4, g4, hPS4, hE4, hcc4, hcc4', tx4, fz4, fl4⟩ := ex_get i3 i8 (by omega) hT5 i4.2.2.2.2.1 i4.2.2.2.2.2.1
    refine Or.inr ⟨σ4, τ3, p3, c4, m3, wh3, F3, N3, by rw [i1, bi_ok, g4, bv_ok], i2, hPS4, i4.tr ⟨tx4, lvX_rf _, Nat.le_refl _, Nat.le_refl _, hcc4, Nat.le_refl _, fz4⟩, i5, by omega, by omega, hE4⟩
