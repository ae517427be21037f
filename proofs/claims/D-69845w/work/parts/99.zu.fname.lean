/-! the name of a function that is stored -/
theorem fn_item {b : Nat → Int32} {n T : Nat} {Q : tkQ} {X : List Int32 → Prop} (hT5 : T ≤ 520) {FO : List fT} {Z : List zT} {PL : List qT} {cl ml v : Nat} {W : List wT} {f : Nat} {s l : List Nat} {ha ho : Nat} (hFO : hdF ha ho FO s) (hsB : sB s) {c0 m0 : Nat} {F : Nat} {N : List lT} {p c m wh : Nat} {σ τ : lj_S} {what : Int32} (h : PS b n T Q X F N FO Z PL cl ml p v c m wh W σ τ) (hN : hdN N f l) (hS : chS f s l N c0 m0 c m what σ τ) (hw : what = 3 ∨ what = 4 ∨ what = 5 ∨ what = 6) (hc0 : c0 ≤ c) (hm0 : m0 ≤ m) (hc : c + 10 ≤ 25 * p + 100) (hm : m + 10 ≤ 25 * p + 100) (q0 : (Q p).1 = 69 ∨ (Q p).1 = 67) (x1 x50 : Int32) (x3 x3' : Value) :
    (∃ τ', lj_D lm_P lm_M50 100 [.ref 0, .int x1, .int 0, x3'] [.int x50] τ = some (.inl (some (.int 0)), τ') ∧ fltR n (lj_bv (lj_R lc_P 78 [.ref 6, .int what] σ) (fun σ1 => lj_D lc_P lc_M106 66 [.ref 6, .int what, .int 0, x3, .retAddr 0] [.int x50] σ1) lj_up) (mBad τ')) ∨
    ∃ (σ' τ' : lj_S) (y7 Ln : Int32), lj_bv (lj_R lc_P 78 [.ref 6, .int what] σ) (fun σ1 => lj_D lc_P lc_M106 66 [.ref 6, .int what, .int 0, x3, .retAddr 0] [.int x50] σ1) lj_up = lj_D lc_P lc_M106 25 [.ref 6, .int 6, .int x50, .int Ln, .retAddr 0] [] σ' ∧ lj_D lm_P lm_M50 100 [.ref 0, .int x1, .int 0, x3'] [.int x50] τ = lj_D lm_P lm_M50 64 [.ref 0, .int y7, .int x50, .int Ln] [] τ' ∧ PS b n T Q X F N FO Z PL cl ml (p + 2) v (c + 2) (m + 2) wh W σ' τ' ∧ GR N N F F p (p + 2) c (c + 2) m (m + 2) σ τ σ' τ' ∧ chS f s l N c0 m0 (c + 2) (m + 2) 6 σ' τ' := by
  have hpT := h.2.2.1.1
  have c14 := h.c14 hT5
  have hlt : p < T := h.lt (by omega) (by omega)
  have hp1 : p + 1 ≤ T := hlt
  have h1 := h.2.1
  obtain ⟨σ1, τ1, v1, v2, P1, hE, tx1, fz1, f1, f2, f3, f4⟩ := ch_get h hN hFO hS hw hc0 hm0 (by omega) (by omega) hT5
  have G1 : GR N N F F p p c (c + 1) m (m + 1) σ τ σ1 τ1 := ⟨tx1, lvX_rf _, (Nat.le_refl _), (Nat.le_refl _), (by omega), (by omega), fz1⟩
  have hE : ∀ σ2 τ2, TX N σ1 τ1 σ2 τ2 → fz c0 (c + 1) m0 (m + 1) σ1 τ1 σ2 τ2 → seg σ2 τ2 (f, c0, m0, s, l, 50) (fun y => y = (f, c + 1, m + 1, 0 :: s, l, 50)) := by
    rcases hE with ⟨_, q⟩ | ⟨q, _⟩ | ⟨q, _⟩
    · exact q
    · exact absurd q (by decide)
    · exact absurd q (by decide)
  have P2 := P1.st hlt
  have h2 := P2.1.2.1
  have hk := tk_lt P2.1.1.1 hp1
  obtain ⟨hin, hkk, hvv⟩ := m_kindv P2.1.1.1 hp1 h2.2.1
  have t1 : ∀ k : Fin 70, ((tkk k.val = 1) ↔ k.val = 1) := by decide
  have t1' := t1 ⟨(Q (p + 1)).1, hk⟩
  rw [v1, bv_ok, kc_106_66, c_line P1.1.1 hpT P1.2.1.1, bi_ok, c_step P1.1.1 hpT P1.2.1.1, bv_ok, c_kind P2.1.1.1 hp1 h2.1, bi_ok, km_50_100, m_lineHere h.1.1 hpT h1.2.1, bi_ok, v2, bv_ok, m_take P1.1.1 hpT P1.2.1.2.1 (by omega), bi_ok, if_neg (by decide)]
  generalize hLn : Int32.ofNat (1 + tN b (Q p).2.1) = Ln at *
  rw [if_pos hin, hkk]
  by_cases a1 : (Q (p + 1)).1 = 1
  · have hlt1 : p + 1 < T := P2.1.lt (by omega) (by omega)
    obtain ⟨n1, n2, n3, n4, n5⟩ := (P2.1.1.1.2.2.2.2.1 (p + 1) hp1).2.2.2.2.2.2.2.2.1 (Or.inl a1)
    rw [if_pos (show tkk (Q (p + 1)).1 = 1 from t1'.2 a1), if_pos hin, if_pos (show Int32.ofNat (Q (p + 1)).1 = 1 by rw [a1]; rfl), c_name P2.1.1.1 hp1 h2.1 (Or.inl a1), bi_ok]
    have P3 := P2.1.C (by omega) hT5 5 (Int32.ofNat (Q (p + 1)).2.2.1) 0 0 0
    have P4 := P3.1.M (by omega) 5 (Int32.ofNat (Q (p + 1)).2.2.2) 0 0
    have e25 : (lj_put τ1 0 25 (Int32.ofNat (p + 1))).1 0 25 = Int32.ofNat (p + 1) := h2.2.1
    have hn := P2.1.1.1.2.1
    have hn2 := P2.1.1.1.2.2.1
    simp only [e25, lz_onat (show p + 1 < 2147483648 by omega)]
    rw [n4, Int32.toInt32_toInt64, m_emit h2.2.2.2.2.2.1 (by omega), bi_ok, c_put3 h2.2.2.2.2.1 (by omega), bi_ok]
    -- what stands at hand of the chain
    have oM : ∀ k i, ¬ (k = 0 ∧ (i = 61 ∨ i = 63)) → (lj_put (lj_put (mP (lj_put τ1 0 25 (Int32.ofNat (p + 1))) (m + 1) 5 (Int32.ofNat (Q (p + 1)).2.2.2) 0 0) 0 61 3) 0 63 Ln).1 k i = (mP (lj_put τ1 0 25 (Int32.ofNat (p + 1))) (m + 1) 5 (Int32.ofNat (Q (p + 1)).2.2.2) 0 0).1 k i := fun k i q => by rw [lj_put_1, if_neg (by omega), lj_put_1, if_neg (by omega)]
    have oC : ∀ k i, ¬ (k = 6 ∧ i = 17) → (lj_put (cP (lj_put σ1 6 0 (Int32.ofNat (p + 1))) (c + 1) 5 (Int32.ofNat (Q (p + 1)).2.2.1) 0 0 0) 6 17 Ln).1 k i = (cP (lj_put σ1 6 0 (Int32.ofNat (p + 1))) (c + 1) 5 (Int32.ofNat (Q (p + 1)).2.2.1) 0 0 0).1 k i := fun k i q => by rw [lj_put_1, if_neg q]
    have fC : lf aC (cP (lj_put σ1 6 0 (Int32.ofNat (p + 1))) (c + 1) 5 (Int32.ofNat (Q (p + 1)).2.2.1) 0 0 0) (lj_put (cP (lj_put σ1 6 0 (Int32.ofNat (p + 1))) (c + 1) 5 (Int32.ofNat (Q (p + 1)).2.2.1) 0 0 0) 6 17 Ln) := lf_put (lf_rf _ _) _ _ _ rfl
    have fM : lf aM (mP (lj_put τ1 0 25 (Int32.ofNat (p + 1))) (m + 1) 5 (Int32.ofNat (Q (p + 1)).2.2.2) 0 0) (lj_put (lj_put (mP (lj_put τ1 0 25 (Int32.ofNat (p + 1))) (m + 1) 5 (Int32.ofNat (Q (p + 1)).2.2.2) 0 0) 0 61 3) 0 63 Ln) := lf_put (lf_put (lf_rf _ _) _ _ _ rfl) _ _ _ rfl
    obtain ⟨a1', a2', a3', a4', a5', a6', a7', a8', a9', a10'⟩ := P4.1.2.1
    have P5 : PS b n T Q X F N FO Z PL cl ml (p + 1) v (c + 2) (m + 2) wh W (lj_put (cP (lj_put σ1 6 0 (Int32.ofNat (p + 1))) (c + 1) 5 (Int32.ofNat (Q (p + 1)).2.2.1) 0 0 0) 6 17 Ln) (lj_put (lj_put (mP (lj_put τ1 0 25 (Int32.ofNat (p + 1))) (m + 1) 5 (Int32.ofNat (Q (p + 1)).2.2.2) 0 0) 0 61 3) 0 63 Ln) := P4.1.up fC fM ⟨by rw [oC _ _ (by omega)]; exact a1', by rw [oM _ _ (by omega)]; exact a2', by rw [oC _ _ (by omega)]; exact a3', by rw [oM _ _ (by omega)]; exact a4', by rw [oC _ _ (by omega)]; exact a5', by rw [oM _ _ (by omega)]; exact a6', by rw [oC _ _ (by omega)]; exact a7', by rw [oM _ _ (by omega)]; exact a8', mWt_cg a9' (oM _ _ (by omega)) (fun k j q => oM _ _ (by omega)), by rw [oM _ _ (by omega)]; exact a10'⟩ P4.1.2.2.1 (Nat.le_refl _) (Nat.le_refl _) (fun j _ => oM _ _ (by omega))
    have G5 : GR N N F F (p + 1) (p + 1) (c + 2) (c + 2) (m + 2) (m + 2) (cP (lj_put σ1 6 0 (Int32.ofNat (p + 1))) (c + 1) 5 (Int32.ofNat (Q (p + 1)).2.2.1) 0 0 0) (mP (lj_put τ1 0 25 (Int32.ofNat (p + 1))) (m + 1) 5 (Int32.ofNat (Q (p + 1)).2.2.2) 0 0) (lj_put (cP (lj_put σ1 6 0 (Int32.ofNat (p + 1))) (c + 1) 5 (Int32.ofNat (Q (p + 1)).2.2.1) 0 0 0) 6 17 Ln) (lj_put (lj_put (mP (lj_put τ1 0 25 (Int32.ofNat (p + 1))) (m + 1) 5 (Int32.ofNat (Q (p + 1)).2.2.2) 0 0) 0 61 3) 0 63 Ln) := ⟨TX_up N fC fM (by unfold lv; rw [oC _ _ (by omega)]; exact Int.le_refl _) (by unfold lv; rw [oC _ _ (by omega)]; exact Int.le_refl _) (fun _ _ => ⟨rfl, rfl⟩), lvX_rf _, (Nat.le_refl _), (Nat.le_refl _), (Nat.le_refl _), (Nat.le_refl _), fz_eq (fun k j _ _ => oC _ _ (by omega)) (fun k j _ _ => oM _ _ (by omega))⟩
    have P6 := P5.st hlt1
    rw [c_step P3.1.1.1 hp1 P3.1.2.1.1, bv_ok, m_take P5.1.1 hp1 P5.2.1.2.1 (by omega), bi_ok, if_neg (by decide), put_cm (k := 6) (i := 0) (k' := 6) (i' := 17) _ _ Ln (by omega)]
    refine Or.inr ⟨_, _, _, _, rfl, rfl, P6.1, G1.tr (P2.2.tr (P3.2.tr (P4.2.tr (G5.tr P6.2)))), Or.inr (Or.inr (Or.inr ⟨rfl, ?_, ?_, fun σ2 τ2 t fz2 => ?_⟩))⟩
    · rw [lj_put_1, if_neg (by omega), lj_put_1, if_neg (by omega), lj_put_1, if_pos ⟨rfl, rfl⟩]
    · rw [lj_put_1, if_neg (by omega), lj_put_1, if_pos ⟨rfl, rfl⟩, lj_put_1, if_neg (by omega), lj_put_1, if_pos ⟨rfl, rfl⟩]
    · have L : LT N c0 (c + 2) m0 (m + 2) _ _ σ2 τ2 := ⟨t, fz2⟩
      have L4 := G5.bk (P6.2.bk L)
      have g2 := L4.gM (by omega)
      have L3 := P4.2.bk L4
      have g1 := L3.gC (by omega)
      have L2 := P3.2.bk L3
      have L1 := P2.2.bk L2
      refine (hE σ2 τ2 L1.1 L1.2).tr (fun y hy => ?_)
      rw [hy]
      exact seg_in [(f, c + 2, m + 2, 0 :: 0 :: s, l, 50)] ⟨4, g1.1, g2.1, ⟨_, _, n1, n2, g1.2.1, g2.2.1, n5.up L2.1.1⟩, rfl⟩ (fun y hy => by rw [List.mem_singleton.1 hy]; exact seg_ex rfl)
  · rw [if_neg (show ¬ tkk (Q (p + 1)).1 = 1 from fun z => a1 (t1'.1 z)), if_neg (show ¬ Int32.ofNat (Q (p + 1)).1 = 1 from fun z => a1 ((ofN_eq (c := 1) (by omega) (by omega)).1 z)), c_throw P2.1.1.1 hp1 h2.1, m_wrong P2.1.1.1 hp1 h2.2.1 h2.2.2.2.2.2.2.2.2.2, bi_ok]
    exact Or.inl ⟨_, rfl, P2.1.flt hT5 2 (Or.inl rfl) _⟩
