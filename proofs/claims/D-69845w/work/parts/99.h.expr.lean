/-! expressions: all operands -/
theorem m_proto {σ τ : lj_S} {z : lT} {R : List lT} (h : NR σ τ (z :: R)) (τ' : lj_S) (h53 : τ'.1 0 53 = τ.1 0 53) (h32 : ∀ j, τ'.1 32 j = τ.1 32 j) : lj_R lm_P 45 [.ref 0] τ' = some (.inl (some (.int (Int32.ofNat z.1))), τ') := by
  have hl : R.length < 22 := by have := h.2.2.2.2.2.1; simp at this; omega
  have e : τ.1 0 53 = Int32.ofNat R.length := h.2.2.2.2.2.2.2.1
  rw [rm_45, km_45_0, h53, e, if_pos (ofN_in (by omega) (by omega)), lz_onat (by omega), h32, h.2.1.1.2.1]
theorem ex_leaf3 {b : Nat → Int32} {n T : Nat} {Q : tkQ} {X : List Int32 → Prop} {F : Nat} {N : List lT} {FO : List fT} {Z : List zT} {PL : List qT} {cl ml p v c m wh : Nat} {W : List wT} {σ τ : lj_S} (h : PS b n T Q X F N FO Z PL cl ml p v c m wh W σ τ) (hpT : p < T) (hT5 : T ≤ 520) {f : Nat} {s l : List Nat} (o a o' a' : Int32) (hins : ∀ σ2 τ2, sG σ τ σ2 τ2 → σ2.1 22 c = o → σ2.1 23 c = a → τ2.1 20 m = o' → τ2.1 21 m = a' → ∃ kk, insK σ2 τ2 f c m s l 50 [(f, c + 1, m + 1, 0 :: s, l, 50)] kk) (hB : sB s := by assumption) :
    ∃ τ', lj_R lm_P 61 [.ref 0, .int o', .int a'] (lj_put τ 0 64 (-1)) = some (.inl (some (.int 1)), τ') ∧ exR b n T Q X FO Z PL cl ml v W f s l N F p c m σ τ (lj_bi (lj_R lc_P 54 [.ref 5, .int o, .int a, .int 0] σ) (fun y σ3 => lj_bv (lj_R lc_P 67 [.ref 6] σ3) (fun σ5 => some (.inl (some (.int 0)), σ5)) lj_up) lj_up) (mNx 1 τ') :=
  ⟨_, ex_leaf2 h hpT hT5 o a o' a' hins⟩
theorem exS_cg0 {f : Nat} {s l : List Nat} {N : List lT} {c0 m0 c m : Nat} {σ τ σ' τ' : lj_S} (h : exS f s l N c0 m0 c m 0 σ τ) (tx : TX N σ τ σ' τ') (hC : ∀ k j, 22 ≤ k → k ≤ 26 → σ'.1 k j = σ.1 k j) (hM : ∀ k j, 20 ≤ k → k ≤ 23 → τ'.1 k j = τ.1 k j) : exS f s l N c0 m0 c m 0 σ' τ' := by
  rcases h with ⟨e0, h⟩ | ⟨q, _⟩ | ⟨q, _⟩
  · exact Or.inl ⟨e0, fun σ2 τ2 t2 g => h σ2 τ2 (tx.tr t2 (fun _ _ q => q)) ⟨fun k j a b d e => (g.1 k j a b d e).trans (hC k j a b), fun k j a b d e => (g.2 k j a b d e).trans (hM k j a b)⟩⟩
  · exact absurd q (by decide)
  · exact absurd q (by decide)
theorem chS_M {f : Nat} {s l : List Nat} {N : List lT} {c0 m0 c m : Nat} {what : Int32} {σ τ τ' : lj_S} (h : chS f s l N c0 m0 c m what σ τ) (hw : what = 3 ∨ what = 4 ∨ what = 5 ∨ what = 6) (g : lf aM τ τ') (g2 : τ'.2 = τ.2) (hM : ∀ k j, 20 ≤ k → k ≤ 23 → τ'.1 k j = τ.1 k j) (h6 : ∀ j, j = 61 ∨ j = 62 ∨ j = 63 → τ'.1 0 j = τ.1 0 j) : chS f s l N c0 m0 c m what σ τ' := by
  have tx : TX N σ τ σ τ' := putM_TX N σ τ τ' g (fun i => by rw [g2])
  rcases h with ⟨q, _⟩ | ⟨q, _⟩ | ⟨srt, v, v', a, a', q, q1, q2, q3, q4, q5, q6, q7, q8, q9, q10⟩ | ⟨q, q1, q2, q3⟩
  · rw [q] at hw; exact absurd hw (by decide)
  · rw [q] at hw; exact absurd hw (by decide)
  · exact Or.inr (Or.inr (Or.inl ⟨srt, v, v', a, a', q, q1, by rw [h6 61 (by omega)]; exact q2, q3, q4, q5, q6, by rw [h6 62 (by omega)]; exact q7, by rw [h6 63 (by omega)]; exact q8, fun e => (q9 e).up tx.1, q10⟩))
  · exact Or.inr (Or.inr (Or.inr ⟨q, by rw [h6 61 (by omega)]; exact q1, by rw [h6 63 (by omega)]; exact q2, fun σ2 τ2 t2 z2 => q3 σ2 τ2 (tx.tr t2 (fun _ _ q => q)) ⟨z2.1, fun k j a b d e => (z2.2 k j a b d e).trans (hM k j a b)⟩⟩))
theorem co_step {b : Nat → Int32} {n T : Nat} {Q : tkQ} {X : List Int32 → Prop} (hT5 : T ≤ 520) (k : Nat) (ihB : CB b n T Q X k) (ihT : CT b n T Q X (k + 1)) (ihC : CC b n T Q X (k + 1)) : CO b n T Q X (k + 1) := by
  intro F N FO Z PL cl ml p v c m wh W σ τ f s l hTp hPS hN hFO hWl hNv hbE hu
  have hv20 := hPS.2.2.1.2.1
  have hB : sB s := hFO.sb (by omega) (by omega)
  have hTE := hPS.1.1
  have hb := hPS.2.2.1
  have hpT := hb.1
  have hbc := hb.2.2.1
  have hbm := hb.2.2.2.1
  have hbw := hb.2.2.2.2.1
  have hbv := hb.2.1
  have h1 := hPS.2.1
  have hk := tk_lt hTE hpT
  have hK4 : (Q p).1 ≠ 0 ∧ (Q p).1 ≠ 4 := by
    constructor <;> (intro e; rw [e] at hbE; exact absurd hbE (by decide))
  have hpT' : p < T := by
    rcases Nat.lt_or_ge p T with q | q
    · exact q
    · have e : p = T := by omega
      have := hTE.2.2.2.2.2.2.1
      rw [← e] at this
      omega
  have c14 : c < 14000 := by omega
  have m14 : m < 14000 := by omega
  have hml : ml ≤ m := hPS.2.2.2.2.2
  have hT1 : T ≤ n ∧ n ≤ 520 := ⟨hTE.2.2.1, hTE.2.1⟩
  have f0 : lf aM τ (lj_put τ 0 64 (-1)) := lf_put (lf_rf _ _) _ _ _ rfl
  have h0 := hnd_ch h1 0 64 (-1) (by omega)
  have o0 : ∀ k i, ¬ (k = 0 ∧ i = 64) → (lj_put τ 0 64 (-1)).1 k i = τ.1 k i := fun k i q => by rw [lj_put_1, if_neg q]
  have hTE0 : TE b n T Q σ (lj_put τ 0 64 (-1)) := TE_up hTE (lf_rf _ _) f0
  obtain ⟨hin, hkk, hvv⟩ := m_kindv hTE hpT h1.2.1
  have w22 := m_isWord hTE0 hpT h0.2.1 12 (by omega) 13 rfl
  have w28 := m_isWord hTE0 hpT h0.2.1 18 (by omega) 19 rfl
  have w16 := m_isWord hTE0 hpT h0.2.1 6 (by omega) 7 rfl
  have s51 := m_isSign hTE0 hpT h0.2.1 11 (by omega) 301 rfl
  have w18 := m_isWord hTE0 hpT h0.2.1 8 (by omega) 9 rfl
  have s62 := m_isSign hTE0 hpT h0.2.1 22 (by omega) 123 rfl
  have t23 : ∀ k : Fin 70, ((tkk k.val = 2) ↔ k.val = 2) ∧ ((tkk k.val = 3) ↔ k.val = 3) := by decide
  have t23' := t23 ⟨(Q p).1, hk⟩
  have ne : ∀ c : Nat, c < 70 → (Q p).1 ≠ c → ¬ (Int32.ofNat (Q p).1 = Int32.ofNat c) := fun c hc q z => q ((ofN_eq (by omega) (by omega)).1 z)
  have hkd := c_kind hTE hpT h1.1
  -- the model up to names
  have eM : (Q p).1 ≠ 2 → (Q p).1 ≠ 3 → lj_R lm_P 60 [.ref 0] τ = (if (Q p).1 = 22 then lj_bi (lj_R lm_P 61 [.ref 0, .int 1, .int 0] (lj_put τ 0 64 (-1))) (fun y31 σ30 => some (.inl (some (.int (vp_nar .boolean y31))), σ30)) lj_up else if (Q p).1 = 28 then lj_bi (lj_R lm_P 61 [.ref 0, .int 2, .int 1] (lj_put τ 0 64 (-1))) (fun y31 σ30 => some (.inl (some (.int (vp_nar .boolean y31))), σ30)) lj_up else if (Q p).1 = 16 then lj_bi (lj_R lm_P 61 [.ref 0, .int 2, .int 0] (lj_put τ 0 64 (-1))) (fun y31 σ30 => some (.inl (some (.int (vp_nar .boolean y31))), σ30)) lj_up else if (Q p).1 = 51 then lj_bi (lj_R lm_P 34 [.ref 0] (lj_put τ 0 64 (-1))) (fun y21 σ20 => lj_bi (lj_R lm_P 36 [.ref 0] σ20) (fun y23 σ22 => (if y23 = 0 then some (.inl (some (.int 0)), σ22) else lj_bi (lj_R lm_P 45 [.ref 0] σ22) (fun y25 σ24 => (if lj_in y25 51 then (if (σ24.1 16 y25.toNatClampNeg) = 0 then lj_bi (lj_R lm_P 37 [.ref 0, .int 4, .int y21] σ24) (fun y29 σ28 => some (.inl (some (.int (vp_nar .boolean y29))), σ28)) lj_up else lj_bi (lj_R lm_P 28 [.ref 0, .int 30, .int 1, .int 0, .int 0] σ24) (fun y27 σ26 => some (.inl (some (.int 1)), (lj_put σ26 0 64 y27))) lj_up) else none)) lj_up)) lj_up) lj_up else if (Q p).1 = 18 then lj_bv (lj_R lm_P 29 [.ref 0, .int 19, .int 0, .int 0, .int 0] (lj_put τ 0 64 (-1))) (fun σ17 => lj_bi (lj_R lm_P 36 [.ref 0] σ17) (fun y19 σ18 => some (.inl (some (.int (vp_nar .boolean y19))), σ18)) lj_up) lj_up else if (Q p).1 = 62 then lj_bi (lj_R lm_P 62 [.ref 0] (lj_put τ 0 64 (-1))) (fun y16 σ15 => some (.inl (some (.int (vp_nar .boolean y16))), σ15)) lj_up else lj_bv (lj_R lm_P 29 [.ref 0, .int 11, .int 0, .int 0, .int 0] (lj_put τ 0 64 (-1))) (fun σ13 => lj_bv (lj_R lm_P 29 [.ref 0, .int 7, .int 0, .int 0, .int 0] σ13) (fun σ14 => some (.inl (some (.int 1)), σ14)) lj_up) lj_up) := by
    intro n2 n3
    rw [rm_60, km_60_0, if_pos hin, hkk, if_neg (fun z => n2 (t23'.1.1 z)), if_pos hin, if_neg (fun z => n3 (t23'.2.1 z)), w22, bi_ok]
    by_cases a22 : (Q p).1 = 22
    · rw [if_pos (show (Q p).1 = 10 + 12 by omega), if_neg (by decide), if_pos a22]
    · rw [if_neg (show ¬ (Q p).1 = 10 + 12 by omega), if_pos rfl, if_neg a22, w28, bi_ok]
      by_cases a28 : (Q p).1 = 28
      · rw [if_pos (show (Q p).1 = 10 + 18 by omega), if_neg (by decide), if_pos a28, km_60_121, w28, bi_ok, if_pos (show (Q p).1 = 10 + 18 by omega), if_neg (by decide), km_60_137]
      · rw [if_neg (show ¬ (Q p).1 = 10 + 18 by omega), if_pos rfl, if_neg a28, w16, bi_ok]
        by_cases a16 : (Q p).1 = 16
        · rw [if_pos (show (Q p).1 = 10 + 6 by omega), if_neg (by decide), if_pos a16, km_60_121, w28, bi_ok, if_neg (show ¬ (Q p).1 = 10 + 18 by omega), if_pos rfl, km_60_137]
        · rw [if_neg (show ¬ (Q p).1 = 10 + 6 by omega), if_pos rfl, if_neg a16, s51, bi_ok]
          by_cases a51 : (Q p).1 = 51
          · rw [if_pos (show (Q p).1 = 40 + 11 by omega), if_neg (by decide), if_pos a51]
          · rw [if_neg (show ¬ (Q p).1 = 40 + 11 by omega), if_pos rfl, if_neg a51, w18, bi_ok]
            by_cases a18 : (Q p).1 = 18
            · rw [if_pos (show (Q p).1 = 10 + 8 by omega), if_neg (by decide), if_pos a18]
            · rw [if_neg (show ¬ (Q p).1 = 10 + 8 by omega), if_pos rfl, if_neg a18, s62, bi_ok]
              by_cases a62 : (Q p).1 = 62
              · rw [if_pos (show (Q p).1 = 40 + 22 by omega), if_neg (by decide), if_pos a62]
              · rw [if_neg (show ¬ (Q p).1 = 40 + 22 by omega), if_pos rfl, if_neg a62]
  have cne : ∀ c : Nat, c < 70 → (Q p).1 ≠ c → ∀ {α : Type} (x y : α), (if Int32.ofNat (Q p).1 = Int32.ofNat c then x else y) = y := fun c hc q α x y => if_neg (ne c hc q)
  by_cases a2 : (Q p).1 = 2
  · -- a whole number
    obtain ⟨τ', r1, r2⟩ := ex_whole hPS hpT' hT5 (f := f) (s := s) (l := l) a2
    refine ⟨1, τ', ?_, Or.inr rfl, ?_⟩
    · rw [rm_60, km_60_0, if_pos hin, hkk, if_pos (t23'.1.2 a2), if_pos hin, h1.2.2.2.2.2.2.2.1, if_pos (ofN_in (by omega) (by omega)), lz_osucc, lz_pred', lz_onat (by omega), h1.2.1, lz_onat (by omega), r1, bi_ok]
      rfl
    · rw [rc_79, kc_79_0, hkd, bi_ok, a2, if_pos (by decide), h1.1, if_pos (ofN_in (by omega) (by omega)), h1.2.2.2.2.2.2.1, if_pos (ofN_in (by omega) (by omega)), lz_onat (by omega), lz_onat (by omega), lz_osucc]
      exact r2
  · by_cases a3 : (Q p).1 = 3
    · -- a string
      obtain ⟨u1, u2, u3, u4, u5⟩ := (hTE.2.2.2.2.1 p hpT).2.2.2.2.2.2.2.2.1 (Or.inr a3)
      obtain ⟨τL, r1, r2⟩ := ex_leaf3 hPS hpT' hT5 (f := f) (s := s) (l := l) 5 (Int32.ofNat (Q p).2.2.1) 5 (Int32.ofNat (Q p).2.2.2) (fun σ2 τ2 g x1 x2 y1 y2 => ⟨4, x1, y1, ⟨_, _, u1, u2, x2, y2, u5.up g⟩, rfl⟩)
      refine ⟨1, τL, ?_, Or.inr rfl, ?_⟩
      · rw [rm_60, km_60_0, if_pos hin, hkk, if_neg (fun z => a2 (t23'.1.1 z)), if_pos hin, if_pos (t23'.2.2 a3), if_pos hin, h1.2.1, lz_onat (by omega), u4, Int32.toInt32_toInt64, r1, bi_ok]
        rfl
      · rw [rc_79, kc_79_0, hkd, bi_ok, a3, if_neg (by decide), if_pos (by decide), c_name hTE hpT h1.1 (Or.inr a3), bi_ok]
        exact r2
    · have eM' := eM a2 a3
      by_cases a22 : (Q p).1 = 22
      · obtain ⟨τL, r1, r2⟩ := ex_leaf3 hPS hpT' hT5 (f := f) (s := s) (l := l) 1 0 1 0 (fun σ2 τ2 g x1 x2 y1 y2 => ⟨1, x1, y1, rfl⟩)
        refine ⟨1, τL, ?_, Or.inr rfl, ?_⟩
        · rw [eM', if_pos a22, r1, bi_ok]; rfl
        · rw [rc_79, kc_79_0, hkd, bi_ok, a22, if_neg (by decide), if_neg (by decide), if_neg (by decide), if_neg (by decide), if_pos (by decide)]
          exact r2
      · by_cases a28 : (Q p).1 = 28
        · obtain ⟨τL, r1, r2⟩ := ex_leaf3 hPS hpT' hT5 (f := f) (s := s) (l := l) 2 0 2 1 (fun σ2 τ2 g x1 x2 y1 y2 => ⟨2, Or.inl ⟨x1, y2⟩, y1, rfl⟩)
          refine ⟨1, τL, ?_, Or.inr rfl, ?_⟩
          · rw [eM', if_neg a22, if_pos a28, r1, bi_ok]; rfl
          · rw [rc_79, kc_79_0, hkd, bi_ok, a28, if_neg (by decide), if_neg (by decide), if_neg (by decide), if_neg (by decide), if_neg (by decide), if_pos (by decide)]
            exact r2
        · by_cases a16 : (Q p).1 = 16
          · obtain ⟨τL, r1, r2⟩ := ex_leaf3 hPS hpT' hT5 (f := f) (s := s) (l := l) 3 0 2 0 (fun σ2 τ2 g x1 x2 y1 y2 => ⟨2, Or.inr ⟨x1, y2⟩, y1, rfl⟩)
            refine ⟨1, τL, ?_, Or.inr rfl, ?_⟩
            · rw [eM', if_neg a22, if_neg a28, if_pos a16, r1, bi_ok]; rfl
            · rw [rc_79, kc_79_0, hkd, bi_ok, a16, if_neg (by decide), if_neg (by decide), if_pos (by decide)]
              exact r2
          · by_cases a51 : (Q p).1 = 51
            · -- the rest of what was given
              obtain ⟨z, R, eN, ez, el⟩ := hN
              have hNR := hPS.1.2.2.1
              rw [eN] at hNR
              have hzF : z.1 < F := hPS.1.2.2.2.2.1 z (by rw [eN]; exact List.mem_cons_self)
              have hz51 := hNR.1.1.1
              obtain ⟨_, _, _, _, x30, x01, _⟩ := hPS.1.2.2.2.1.2.2.2 z.1 hzF
              have h62 : σ.1 6 2 = Int32.ofNat z.1 := hNR.2.2.2.2.2.2.1
              have htk := m_take hTE0 hpT h0.2.1 hK4.2
              have hhr := m_here hTE0 hpT h0.2.1
              generalize hτt : lj_put (lj_put τ 0 64 (-1)) 0 25 (Int32.ofNat (p + 1)) = τt at *
              have ot : ∀ k i, ¬ (k = 0 ∧ (i = 64 ∨ i = 25)) → τt.1 k i = τ.1 k i := fun k i q => by rw [← hτt, lj_put_1, if_neg (by omega), lj_put_1, if_neg (by omega)]
              have hpr := m_proto hNR τt (ot 0 53 (by omega)) (fun j => ot 32 j (by omega))
              have e16 : τt.1 16 z.1 = σ.1 30 z.1 := by rw [ot 16 z.1 (by omega), x30]
              have hM1 : lj_R lm_P 60 [.ref 0] τ = (if σ.1 30 z.1 = 0 then lj_bi (lj_R lm_P 37 [.ref 0, .int 4, .int (Int32.ofNat (Q p).2.1)] τt) (fun y29 σ28 => some (.inl (some (.int (vp_nar .boolean y29))), σ28)) lj_up else lj_bi (lj_R lm_P 28 [.ref 0, .int 30, .int 1, .int 0, .int 0] τt) (fun y27 σ26 => some (.inl (some (.int 1)), (lj_put σ26 0 64 y27))) lj_up) := by
                rw [eM', if_neg a22, if_neg a28, if_neg a16, if_pos a51, hhr, bi_ok, htk, bi_ok, if_neg (by decide), hpr, bi_ok, if_pos (ofN_in hz51 (by omega)), lz_onat (by omega), e16]
              have hC1 : lj_R lc_P 79 [.ref 6] σ = (if σ.1 30 z.1 = 0 then lj_D lc_P lc_M79 269 [.ref 6, .int (Int32.ofNat 51), .retAddr 0] [.int 4, .ref 6] σ else lj_bi (lj_R lc_P 54 [.ref 5, .int 21, .int 0, .int 0] σ) (fun y23 σ22 => lj_bv (lj_R lc_P 67 [.ref 6] σ22) (fun σ24 => some (.inl (some (.int 2)), σ24)) lj_up) lj_up) := by
                rw [rc_79, kc_79_0, hkd, bi_ok, a51, if_neg (by decide), if_neg (by decide), if_neg (by decide), if_neg (by decide), if_neg (by decide), if_neg (by decide), if_pos (by decide), h62, if_pos (ofN_in hz51 (by omega)), lz_onat (by omega), h1.1, if_neg (show ¬ (Int32.ofNat p = 1500) from fun q => by have := (ofN_eq (c := 1500) (by omega) (by omega)).1 q; omega)]
              by_cases e0 : σ.1 30 z.1 = 0
              · refine ⟨0, mFl τt 4 (Q p).2.1, ?_, Or.inl rfl, Or.inl ?_⟩
                · rw [hM1, if_pos e0, m_fail τt (by rw [ot 0 4 (by omega)]; exact h1.2.2.2.2.2.2.2.2.2), bi_ok]; rfl
                · rw [hC1, if_pos e0, kc_79_269, c_throw hTE hpT h1.1]
                  have hq : fq (Q p).1 4 = 4 := by unfold fq; rw [if_neg hK4.2]
                  rw [hq]
                  unfold mNx
                  rw [if_pos rfl]
                  exact flt_mk (m := m) (by rw [ot 0 41 (by omega)]; exact h1.2.2.2.2.2.1) (by omega) (by decide) (hTE.2.2.2.2.1 p hpT).2.2.2.2.1
              · have h41t : τt.1 0 41 = Int32.ofNat m := by rw [ot 0 41 (by omega)]; exact h1.2.2.2.2.2.1
                have fC1 := cP_lf σ c 21 0 0 0 0
                have g1 := cP_get σ c 21 0 0 0 0
                have gm := mP_get τt m 30 1 0 0
                have ft : lf aM τ τt := by rw [← hτt]; exact lf_put f0 _ _ _ rfl
                have fC : lf aC σ (lj_put (cP σ c 21 0 0 0 0) 6 0 (Int32.ofNat (p + 1))) := lf_put fC1 _ _ _ rfl
                have fM : lf aM τ (lj_put (mP τt m 30 1 0 0) 0 64 (Int32.ofNat m)) := lf_put (ft.tr (mP_lf _ _ _ _ _ _)) _ _ _ rfl
                have hp1 := hnd_p (hnd_C h0 21 0 0 0 0) (p + 1)
                rw [hτt] at hp1
                have hh := hnd_ch (hnd_M hp1 30 1 0 0) 0 64 (Int32.ofNat m) (by omega)
                have oC : ∀ k i, k ≠ 6 → (lj_put (cP σ c 21 0 0 0 0) 6 0 (Int32.ofNat (p + 1))).1 k i = (cP σ c 21 0 0 0 0).1 k i := fun k i q => by rw [lj_put_1, if_neg (by omega)]
                have oM : ∀ k i, k ≠ 0 → (lj_put (mP τt m 30 1 0 0) 0 64 (Int32.ofNat m)).1 k i = (mP τt m 30 1 0 0).1 k i := fun k i q => by rw [lj_put_1, if_neg (by omega)]
                have tx : TX N σ τ (lj_put (cP σ c 21 0 0 0 0) 6 0 (Int32.ofNat (p + 1))) (lj_put (mP τt m 30 1 0 0) 0 64 (Int32.ofNat m)) := by
                  refine TX_up N fC fM ?_ ?_ (fun i _ => ⟨rfl, by rw [← hτt]; rfl⟩)
                  · unfold lv; rw [oC 5 0 (by omega), g1.2.2.2.2.2, h1.2.2.2.2.1, lz_lit (by omega), lz_lit (by omega)]; omega
                  · unfold lv; rw [oC 5 6 (by omega), cP_o _ _ _ _ _ _ _ _ _ (by omega) (by omega)]; exact Int.le_refl _
                have zz : fz 0 c 0 m σ τ (lj_put (cP σ c 21 0 0 0 0) 6 0 (Int32.ofNat (p + 1))) (lj_put (mP τt m 30 1 0 0) 0 64 (Int32.ofNat m)) := ⟨fun k i q1 q2 _ q4 => by rw [oC k i (by omega), cP_o _ _ _ _ _ _ _ _ _ (by omega) (by omega)], fun k i q1 q2 _ q4 => by rw [oM k i (by omega), mP_o _ _ _ _ _ _ _ _ (by omega) (by omega), ot k i (by omega)]⟩
                refine ⟨1, lj_put (mP τt m 30 1 0 0) 0 64 (Int32.ofNat m), ?_, Or.inr rfl, Or.inr ⟨2, lj_put (cP σ c 21 0 0 0 0) 6 0 (Int32.ofNat (p + 1)), lj_put (mP τt m 30 1 0 0) 0 64 (Int32.ofNat m), p + 1, c + 1, m + 1, wh, F, N, ?_, ?_, hPS.up fC fM hh ⟨by omega, hb.2.1, by omega, by omega, by omega, hb.2.2.2.2.2⟩ (by omega) (by omega) (fun i hi => zz.2 21 i (by omega) (by omega) (by omega) (by omega)), ⟨tx, lvX_rf _, Nat.le_refl _, by omega, by omega, by omega, zz⟩, by omega, by omega, by omega, Or.inr (Or.inr ⟨rfl, c, m, rfl, rfl, Nat.le_refl _, Nat.le_refl _, ?_, ?_, ?_, ?_, fun σ2 τ2 _ _ => seg_ex rfl⟩), fun q => absurd q (by decide)⟩⟩
                · rw [hM1, if_neg e0, m_emit h41t m14, bi_ok]
                · rw [hC1, if_neg e0, c_put3 h1.2.2.2.2.1 c14, bi_ok, c_step (TE_up hTE fC1 (lf_rf _ _)) hpT (hnd_C h1 21 0 0 0 0).1, bv_ok]
                · unfold mNx; rw [if_neg (by decide), if_pos hh.2.2.2.2.2.2.2.2.2]
                · rw [lj_put_1, if_pos ⟨rfl, rfl⟩]
                · rw [oC 22 c (by omega)]; exact g1.1
                · rw [oM 20 m (by omega)]; exact gm.1
                · rw [oM 21 m (by omega)]; exact gm.2.1
            · by_cases a18 : (Q p).1 = 18
              · -- a function
                obtain ⟨l1, l2⟩ := m_later h0.2.2.2.2.2.2.2.2.1 (by omega) 19 0 0 0
                have hw := hnd_W h0 (19, 0, 0, 0)
                have fw : lf aM τ (mW (lj_put τ 0 64 (-1)) W.length (19, 0, 0, 0)) := f0.tr (mW_lf _ _ _)
                have ow : ∀ k i, 20 ≤ k → k ≤ 24 → (mW (lj_put τ 0 64 (-1)) W.length (19, 0, 0, 0)).1 k i = τ.1 k i := fun k i q1 q2 => by
                  unfold mW
                  rw [lj_put_1, if_neg (by omega), lj_put_1, if_neg (by omega), lj_put_1, if_neg (by omega), lj_put_1, if_neg (by omega), lj_put_1, if_neg (by omega), lj_put_1, if_neg (by omega)]
                have w2 : (mW (lj_put τ 0 64 (-1)) W.length (19, 0, 0, 0)).2 = τ.2 := rfl
                generalize hτw : mW (lj_put τ 0 64 (-1)) W.length (19, 0, 0, 0) = τw at *
                have htk := m_take (TE_up hTE (lf_rf _ _) fw) hpT hw.2.1 hK4.2
                have hp1 := hnd_p hw (p + 1)
                have fC : lf aC σ (lj_put σ 6 0 (Int32.ofNat (p + 1))) := lf_put (lf_rf _ _) _ _ _ rfl
                have fM : lf aM τ (lj_put τw 0 25 (Int32.ofNat (p + 1))) := lf_put fw _ _ _ rfl
                have tx : TX N σ τ (lj_put σ 6 0 (Int32.ofNat (p + 1))) (lj_put τw 0 25 (Int32.ofNat (p + 1))) := putC_TX N σ τ 6 0 _ rfl (by omega) _ fM w2
                have oM : ∀ k i, 20 ≤ k → k ≤ 23 → (lj_put τw 0 25 (Int32.ofNat (p + 1))).1 k i = τ.1 k i := fun k i q1 q2 => by rw [lj_put_1, if_neg (by omega), ow k i q1 (by omega)]
                have G1 : GR N N F F p (p + 1) c c m m σ τ (lj_put σ 6 0 (Int32.ofNat (p + 1))) (lj_put τw 0 25 (Int32.ofNat (p + 1))) := ⟨tx, lvX_rf _, Nat.le_refl _, by omega, Nat.le_refl _, Nat.le_refl _, ⟨fun k i q1 q2 _ _ => by rw [lj_put_1, if_neg (by omega)], fun k i q1 q2 _ _ => oM k i q1 q2⟩⟩
                have hPS1 : PS b n T Q X F N FO Z PL cl ml (p + 1) v c m wh ((19, Int32.ofNat 0, 0, 0) :: W) (lj_put σ 6 0 (Int32.ofNat (p + 1))) (lj_put τw 0 25 (Int32.ofNat (p + 1))) := hPS.up fC fM hp1 ⟨by omega, hb.2.1, by omega, by omega, by omega, by simp; omega⟩ (Nat.le_refl _) (Nat.le_refl _) (fun i hi => oM 21 i (by omega) (by omega))
                have hB := ihB F N FO Z PL cl ml (p + 1) v c m wh W _ _ f s l 0 (by omega) hPS1 hN (hFO.up (by omega) (by omega)) (by omega) (by omega) hNv (by omega) (by omega)
                refine ⟨1, lj_put τw 0 25 (Int32.ofNat (p + 1)), ?_, Or.inr rfl, ?_⟩
                · rw [eM', if_neg a22, if_neg a28, if_neg a16, if_neg a51, if_pos a18, l1, bv_ok, htk, bi_ok]; rfl
                · have eC : lj_R lc_P 79 [.ref 6] σ = lj_bv (lj_R lc_P 81 [.ref 6, .int (Int32.ofNat 0)] (lj_put σ 6 0 (Int32.ofNat (p + 1)))) (fun σ15 => some (.inl (some (.int 0)), σ15)) lj_up := by
                    rw [rc_79, kc_79_0, hkd, bi_ok, a18, if_neg (by decide), if_neg (by decide), if_neg (by decide), if_pos (by decide), c_step hTE hpT h1.1, bv_ok]
                    rfl
                  have eN : mNx 1 (lj_put τw 0 25 (Int32.ofNat (p + 1))) = mLoop (lj_put τw 0 25 (Int32.ofNat (p + 1))) := by
                    unfold mNx; rw [if_neg (by decide), if_pos hp1.2.2.2.2.2.2.2.2.2]
                  rw [eC, eN]
                  rcases hB with hf | ⟨σ2, τ2, p2, c2, m2, wh2, F2, N2, i1, i2, i3, i4, i5, i6, i7, i8, i9⟩
                  · exact Or.inl (flt_bv hf _)
                  · exact Or.inr ⟨0, σ2, τ2, p2, c2, m2, wh2, F2, N2, by rw [i1, bv_ok], i2, i3, G1.tr i4, by omega, by omega, by omega, i8, fun _ => i9⟩
              · by_cases a62 : (Q p).1 = 62
                · -- a table
                  have fC := lf_rf aC σ
                  have G1 : GR N N F F p p c c m m σ τ σ (lj_put τ 0 64 (-1)) := ⟨putM_TX N σ τ _ f0 (fun _ => rfl), lvX_rf _, Nat.le_refl _, Nat.le_refl _, Nat.le_refl _, Nat.le_refl _, ⟨fun _ _ _ _ _ _ => rfl, fun k i q1 q2 _ _ => o0 k i (by omega)⟩⟩
                  have hPS1 : PS b n T Q X F N FO Z PL cl ml p v c m wh W σ (lj_put τ 0 64 (-1)) := hPS.up fC f0 h0 hb (Nat.le_refl _) (Nat.le_refl _) (fun i hi => o0 21 i (by omega))
                  obtain ⟨y, τ1, r1, r2, r3⟩ := ihT F N FO Z PL cl ml p v c m wh W σ _ f s l hTp hPS1 hN (hFO.up (by omega) (by omega)) (by omega) a62
                  refine ⟨y, τ1, ?_, r2, ?_⟩
                  · rw [eM', if_neg a22, if_neg a28, if_neg a16, if_neg a51, if_neg a18, if_pos a62, r1, bi_ok, vpb y r2]
                  · have eC : lj_R lc_P 79 [.ref 6] σ = lj_bv (lj_R lc_P 85 [.ref 6] σ) (fun σ15 => some (.inl (some (.int 0)), σ15)) lj_up := by
                      rw [rc_79, kc_79_0, hkd, bi_ok, a62, if_neg (by decide), if_neg (by decide), if_neg (by decide), if_neg (by decide), if_neg (by decide), if_neg (by decide), if_neg (by decide), if_pos (by decide)]
                    rw [eC]
                    rcases r3 with hf | ⟨σ2, τ2, p2, c2, m2, wh2, F2, N2, i1, i2, i3, i4, i5, i6, i7, i8, i9⟩
                    · exact Or.inl (flt_bv hf _)
                    · exact Or.inr ⟨0, σ2, τ2, p2, c2, m2, wh2, F2, N2, by rw [i1, bv_ok], i2, i3, G1.tr i4, by omega, by omega, by omega, i8, fun _ => i9⟩
                · -- a chain
                  obtain ⟨l1, l2⟩ := m_later h0.2.2.2.2.2.2.2.2.1 (by omega) 11 0 0 0
                  have hw := hnd_W h0 (11, 0, 0, 0)
                  have fw : lf aM τ (mW (lj_put τ 0 64 (-1)) W.length (11, 0, 0, 0)) := f0.tr (mW_lf _ _ _)
                  have ow : ∀ k i, 20 ≤ k → k ≤ 24 → (mW (lj_put τ 0 64 (-1)) W.length (11, 0, 0, 0)).1 k i = τ.1 k i := fun k i q1 q2 => by
                    unfold mW
                    rw [lj_put_1, if_neg (by omega), lj_put_1, if_neg (by omega), lj_put_1, if_neg (by omega), lj_put_1, if_neg (by omega), lj_put_1, if_neg (by omega), lj_put_1, if_neg (by omega)]
                  have w2 : (mW (lj_put τ 0 64 (-1)) W.length (11, 0, 0, 0)).2 = τ.2 := rfl
                  generalize hτw : mW (lj_put τ 0 64 (-1)) W.length (11, 0, 0, 0) = τw at *
                  obtain ⟨l3, l4⟩ := m_later l2 (by simp; omega) 7 0 0 0
                  have hw2 := hnd_W hw (7, 0, 0, 0)
                  have fw2 : lf aM τ (mW τw ((11, 0, 0, 0) :: W : List wT).length (7, 0, 0, 0)) := fw.tr (mW_lf _ _ _)
                  have ow2 : ∀ k i, 20 ≤ k → k ≤ 24 → (mW τw ((11, 0, 0, 0) :: W : List wT).length (7, 0, 0, 0)).1 k i = τ.1 k i := fun k i q1 q2 => by
                    rw [← ow k i q1 q2]
                    unfold mW
                    rw [lj_put_1, if_neg (by omega), lj_put_1, if_neg (by omega), lj_put_1, if_neg (by omega), lj_put_1, if_neg (by omega), lj_put_1, if_neg (by omega)]
                  have w3 : (mW τw ((11, 0, 0, 0) :: W : List wT).length (7, 0, 0, 0)).2 = τ.2 := w2
                  generalize hτv : mW τw ((11, 0, 0, 0) :: W : List wT).length (7, 0, 0, 0) = τv at *
                  have G1 : GR N N F F p p c c m m σ τ σ τv := ⟨putM_TX N σ τ _ fw2 (fun i => by rw [w3]), lvX_rf _, Nat.le_refl _, Nat.le_refl _, Nat.le_refl _, Nat.le_refl _, ⟨fun _ _ _ _ _ _ => rfl, fun k i q1 q2 _ _ => ow2 k i q1 (by omega)⟩⟩
                  have hPS1 : PS b n T Q X F N FO Z PL cl ml p v c m wh ((7, 0, 0, 0) :: (11, 0, 0, 0) :: W) σ τv := hPS.up (lf_rf _ _) fw2 hw2 ⟨by omega, hb.2.1, hbc, hbm, hbw, by simp; omega⟩ (Nat.le_refl _) (Nat.le_refl _) (fun i hi => ow2 21 i (by omega) (by omega))
                  have hC := ihC F N FO Z PL cl ml p v c m wh ((11, 0, 0, 0) :: W) σ τv f s l hTp hPS1 hN hFO (by simp; omega)
                  refine ⟨1, τv, ?_, Or.inr rfl, ?_⟩
                  · rw [eM', if_neg a22, if_neg a28, if_neg a16, if_neg a51, if_neg a18, if_neg a62, l1, bv_ok, l3, bv_ok]
                  · have eC : lj_R lc_P 79 [.ref 6] σ = lj_bi (lj_R lc_P 87 [.ref 6] σ) (fun y27 σ26 => (if y27 < 3 then some (.inl (some (.int y27)), σ26) else lj_bv (lj_R lc_P 78 [.ref 6, .int y27] σ26) (fun σ28 => some (.inl (some (.int 0)), σ28)) lj_up)) lj_up := by
                      rw [rc_79, kc_79_0, hkd, bi_ok, if_neg (show ¬ (Int32.ofNat (Q p).1 = 2) from ne 2 (by omega) a2), if_neg (show ¬ (Int32.ofNat (Q p).1 = 3) from ne 3 (by omega) a3), if_neg (show ¬ (Int32.ofNat (Q p).1 = 16) from ne 16 (by omega) a16), if_neg (show ¬ (Int32.ofNat (Q p).1 = 18) from ne 18 (by omega) a18), if_neg (show ¬ (Int32.ofNat (Q p).1 = 22) from ne 22 (by omega) a22), if_neg (show ¬ (Int32.ofNat (Q p).1 = 28) from ne 28 (by omega) a28), if_neg (show ¬ (Int32.ofNat (Q p).1 = 51) from ne 51 (by omega) a51), if_neg (show ¬ (Int32.ofNat (Q p).1 = 62) from ne 62 (by omega) a62)]
                    have eN : mNx 1 τv = mLoop τv := by
                      unfold mNx; rw [if_neg (by decide), if_pos hw2.2.2.2.2.2.2.2.2.2]
                    rw [eC, eN]
                    rcases hC with hf | ⟨what, σ2, τ2, p2, c2, m2, wh2, F2, N2, i1, i2, i3, i4, i5, i6, i7, i8⟩
                    · exact Or.inl (flt_bi hf _)
                    · have hb2 := i3.2.2.1
                      have hb21 := hb2.1
                      have h2 := i3.2.1
                      have h46 := h2.2.2.2.2.2.2.2.2.1
                      have hpop := hnd_pop h2
                      have hch := hnd_ch hpop 0 64 (-1) (by omega)
                      have hml2 : ml ≤ m2 := i3.2.2.2.2.2
                      have fa : lf aM τ2 (lj_put (lj_put τ2 0 46 (Int32.ofNat W.length)) 0 64 (-1)) := lf_put (lf_put (lf_rf _ _) _ _ _ rfl) _ _ _ rfl
                      have oa : ∀ k i, ¬ (k = 0 ∧ (i = 46 ∨ i = 64)) → (lj_put (lj_put τ2 0 46 (Int32.ofNat W.length)) 0 64 (-1)).1 k i = τ2.1 k i := fun k i q => by rw [lj_put_1, if_neg (by omega), lj_put_1, if_neg (by omega)]
                      have ob : ∀ k i, ¬ (k = 0 ∧ i = 46) → (lj_put τ2 0 46 (Int32.ofNat W.length)).1 k i = τ2.1 k i := fun k i q => by rw [lj_put_1, if_neg q]
                      have txa : TX N2 σ2 τ2 σ2 (lj_put (lj_put τ2 0 46 (Int32.ofNat W.length)) 0 64 (-1)) := putM_TX N2 σ2 τ2 _ fa (fun _ => rfl)
                      have Ga : GR N2 N2 F2 F2 p2 p2 c2 c2 m2 m2 σ2 τ2 σ2 (lj_put (lj_put τ2 0 46 (Int32.ofNat W.length)) 0 64 (-1)) := ⟨txa, lvX_rf _, Nat.le_refl _, Nat.le_refl _, Nat.le_refl _, Nat.le_refl _, ⟨fun _ _ _ _ _ _ => rfl, fun k i q1 q2 _ _ => oa k i (by omega)⟩⟩
                      have hPSa : PS b n T Q X F2 N2 FO Z PL cl ml p2 v c2 m2 wh2 W σ2 (lj_put (lj_put τ2 0 46 (Int32.ofNat W.length)) 0 64 (-1)) := i3.up (lf_rf _ _) fa hch ⟨hb2.1, hb2.2.1, hb2.2.2.1, hb2.2.2.2.1, hb2.2.2.2.2.1, by omega⟩ (Nat.le_refl _) (Nat.le_refl _) (fun i hi => oa 21 i (by omega))
                      have goV : ∀ τ', lj_R lm_P 76 [.ref 0] (lj_put τ2 0 46 (Int32.ofNat W.length)) = some (.inl (some (.int 1)), τ') → τ'.1 0 4 = 0 → mLoop τ2 = mLoop τ' := fun τ' e e4 => by
                        refine m_go h46 (by omega) (y := 1) ?_ (by decide) e4
                        show lj_R lm_P 30 [.ref 0, .int 11, .int 0, .int 0, .int 0] _ = _
                        rw [rm_30, km_30_0, if_neg (by decide), if_neg (by decide), if_neg (by decide), if_neg (by decide), if_neg (by decide), if_neg (by decide), if_neg (by decide), if_neg (by decide), if_neg (by decide), if_neg (by decide), if_neg (by decide), if_pos rfl, e]
                        rfl
                      have i8' := i8
                      rcases i8' with ⟨q, q1, q2⟩ | ⟨q, q1, m1, q2, q3⟩ | hname
                      · -- a value
                        subst q
                        have e5 : (lj_put τ2 0 46 (Int32.ofNat W.length)).1 0 61 = 5 := by rw [ob 0 61 (by omega)]; exact q1
                        have ev := goV (lj_put (lj_put τ2 0 46 (Int32.ofNat W.length)) 0 64 (-1)) (by
                          rw [rm_76, km_76_0, e5, if_neg (by decide), rm_53, km_53_0]
                          rw [show (lj_put (lj_put τ2 0 46 (Int32.ofNat W.length)) 0 64 (-1)).1 0 61 = 5 by rw [oa 0 61 (by omega)]; exact q1]
                          rw [if_pos (by decide), if_neg (by decide), km_53_55, bv_ok, km_76_28]) hch.2.2.2.2.2.2.2.2.2
                        rw [i1, bi_ok, if_pos (by decide)]
                        refine Or.inr ⟨0, σ2, _, p2, c2, m2, wh2, F2, N2, rfl, i2.trans ev, hPSa, (G1.tr i4).tr Ga, i5, by omega, by omega, exS_cg0 q2 txa (fun _ _ _ _ => rfl) (fun k i a b => oa k i (by omega)), fun _ => by rw [lj_put_1, if_pos ⟨rfl, rfl⟩]⟩
                      · -- a call
                        subst q
                        have e4 : (lj_put τ2 0 46 (Int32.ofNat W.length)).1 0 61 = 4 := by rw [ob 0 61 (by omega)]; exact q1
                        have hch2 := hnd_ch hpop 0 64 (Int32.ofNat m1) (by omega)
                        have fb : lf aM τ2 (lj_put (lj_put τ2 0 46 (Int32.ofNat W.length)) 0 64 (Int32.ofNat m1)) := lf_put (lf_put (lf_rf _ _) _ _ _ rfl) _ _ _ rfl
                        have oc : ∀ k i, ¬ (k = 0 ∧ (i = 46 ∨ i = 64)) → (lj_put (lj_put τ2 0 46 (Int32.ofNat W.length)) 0 64 (Int32.ofNat m1)).1 k i = τ2.1 k i := fun k i q => by rw [lj_put_1, if_neg (by omega), lj_put_1, if_neg (by omega)]
                        have ev := goV (lj_put (lj_put τ2 0 46 (Int32.ofNat W.length)) 0 64 (Int32.ofNat m1)) (by
                          rw [rm_76, km_76_0, e4, if_pos rfl, ob 0 62 (by omega), q2, lj_put_put, km_76_28]) hch2.2.2.2.2.2.2.2.2.2
                        have txb : TX N2 σ2 τ2 σ2 (lj_put (lj_put τ2 0 46 (Int32.ofNat W.length)) 0 64 (Int32.ofNat m1)) := putM_TX N2 σ2 τ2 _ fb (fun _ => rfl)
                        have Gb : GR N2 N2 F2 F2 p2 p2 c2 c2 m2 m2 σ2 τ2 σ2 (lj_put (lj_put τ2 0 46 (Int32.ofNat W.length)) 0 64 (Int32.ofNat m1)) := ⟨txb, lvX_rf _, Nat.le_refl _, Nat.le_refl _, Nat.le_refl _, Nat.le_refl _, ⟨fun _ _ _ _ _ _ => rfl, fun k i q1 q2 _ _ => oc k i (by omega)⟩⟩
                        have txc : TX N2 σ2 (lj_put τ2 0 64 (Int32.ofNat m1)) σ2 (lj_put (lj_put τ2 0 46 (Int32.ofNat W.length)) 0 64 (Int32.ofNat m1)) := by
                          refine putM_TX N2 σ2 _ _ (fun k j q => ?_) (fun _ => rfl)
                          refine ⟨?_, rfl⟩
                          by_cases e : k = 0 ∧ j = 64
                          · rw [e.1, e.2, lj_put_1, if_pos ⟨rfl, rfl⟩, lj_put_1, if_pos ⟨rfl, rfl⟩]
                          · rw [lj_put_1, if_neg e, lj_put_1, if_neg (fun w => by rw [w.1, w.2] at q; exact absurd q (by decide)), lj_put_1, if_neg e]
                        rw [i1, bi_ok, if_pos (by decide)]
                        refine Or.inr ⟨1, σ2, _, p2, c2, m2, wh2, F2, N2, rfl, i2.trans ev, i3.up (lf_rf _ _) fb hch2 ⟨hb2.1, hb2.2.1, hb2.2.2.1, hb2.2.2.2.1, hb2.2.2.2.2.1, by omega⟩ (Nat.le_refl _) (Nat.le_refl _) (fun i hi => oc 21 i (by omega)), (G1.tr i4).tr Gb, i5, by omega, by omega, exS_cg q3 txc (fun _ _ _ _ => rfl) (fun k i a b => by rw [oc k i (by omega), lj_put_1, if_neg (by omega)]) (by rw [lj_put_1, if_pos ⟨rfl, rfl⟩, lj_put_1, if_pos ⟨rfl, rfl⟩]), fun q => absurd q (by decide)⟩
                      · -- a name or an item
                        have hw3 : what = 3 ∨ what = 4 ∨ what = 5 ∨ what = 6 := by
                          rcases hname with ⟨srt, v1, v1', a, a', q, _⟩ | ⟨q, _⟩
                          · rcases q with e | e | e
                            · exact Or.inl e
                            · exact Or.inr (Or.inl e)
                            · exact Or.inr (Or.inr (Or.inl e))
                          · exact Or.inr (Or.inr (Or.inr q))
                        have hchS : chS f s l N2 c m c2 m2 what σ2 (lj_put (lj_put τ2 0 46 (Int32.ofNat W.length)) 0 64 (-1)) := chS_M i8 hw3 fa rfl (fun k j a b => oa k j (by omega)) (fun j hj => oa 0 j (by omega))
                        obtain ⟨σ3, τ3, g1, g2, g3, g4, g5, g6, g7, g8, g9, g10⟩ := ch_get hPSa (hdN_X hN i4.2.1) hFO hchS hw3 i4.2.2.2.2.1 i4.2.2.2.2.2.1 (by omega) (by omega) hT5
                        have n4 : ¬ ((lj_put τ2 0 46 (Int32.ofNat W.length)).1 0 61 = 4) := by
                          rw [ob 0 61 (by omega)]
                          rcases hname with ⟨srt, v1, v1', a, a', q, q1, q2, _⟩ | ⟨q, q1, _⟩
                          · rw [q2]
                            rcases q1 with ⟨_, e⟩ | ⟨_, e⟩ | ⟨_, e⟩ | ⟨_, e⟩ <;> rw [e] <;> decide
                          · rw [q1]; decide
                        have n3 : ¬ (what < 3) := by rcases hw3 with e | e | e | e <;> rw [e] <;> decide
                        have ev := goV τ3 (by rw [rm_76, km_76_0, if_neg n4, g2, bv_ok, km_76_28]) g3.2.1.2.2.2.2.2.2.2.2.2
                        have Gc : GR N2 N2 F2 F2 p2 p2 c2 (c2 + 1) m2 (m2 + 1) σ2 (lj_put (lj_put τ2 0 46 (Int32.ofNat W.length)) 0 64 (-1)) σ3 τ3 := ⟨g5, lvX_rf _, Nat.le_refl _, Nat.le_refl _, by omega, by omega, g6⟩
                        rw [i1, bi_ok, if_neg n3, g1, bv_ok]
                        exact Or.inr ⟨0, σ3, τ3, p2, c2 + 1, m2 + 1, wh2, F2, N2, rfl, i2.trans ev, g3, ((G1.tr i4).tr Ga).tr Gc, i5, by omega, by omega, g4, fun _ => by rw [g9 64 (by omega), lj_put_1, if_pos ⟨rfl, rfl⟩]⟩
