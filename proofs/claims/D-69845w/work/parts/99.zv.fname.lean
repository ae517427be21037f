theorem fn_loop {b : Nat → Int32} {n T : Nat} {Q : tkQ} {X : List Int32 → Prop} (hT5 : T ≤ 520) {FO : List fT} {Z : List zT} {PL : List qT} {cl ml v : Nat} {W : List wT} {f : Nat} {s l : List Nat} {ha ho : Nat} (hFO : hdF ha ho FO s) (hsB : sB s) {c0 m0 : Nat} {F : Nat} {N : List lT} {wh : Nat} (hN : hdN N f l) :
    ∀ (j p c m : Nat) (σ τ : lj_S) (what x1 : Int32) (x3 x3' : Value), T - p < j → PS b n T Q X F N FO Z PL cl ml p v c m wh W σ τ → chS f s l N c0 m0 c m what σ τ → (what = 3 ∨ what = 4 ∨ what = 5 ∨ what = 6) → c0 ≤ c → m0 ≤ m → c + 10 ≤ 25 * p + 100 → m + 10 ≤ 25 * p + 100 →
    (∃ τ', lj_D lm_P lm_M50 64 [.ref 0, .int x1, .int 0, x3'] [] τ = some (.inl (some (.int 0)), τ') ∧ fltR n (lj_D lc_P lc_M106 25 [.ref 6, .int what, .int 0, x3, .retAddr 0] [] σ) (mBad τ')) ∨
    ∃ (p' c' m' : Nat) (σ' τ' : lj_S) (what' : Int32) (me : Nat) (x1' : Int32) (y3 y3' : Value), lj_D lc_P lc_M106 25 [.ref 6, .int what, .int 0, x3, .retAddr 0] [] σ = lj_D lc_P lc_M106 122 [.ref 6, .int what', .int (Int32.ofNat me), y3, .retAddr 0] [] σ' ∧ lj_D lm_P lm_M50 64 [.ref 0, .int x1, .int 0, x3'] [] τ = lj_D lm_P lm_M50 177 [.ref 0, .int x1', .int (Int32.ofNat me), y3'] [] τ' ∧ me ≤ 1 ∧ PS b n T Q X F N FO Z PL cl ml p' v c' m' wh W σ' τ' ∧ GR N N F F p p' c c' m m' σ τ σ' τ' ∧ chS f s l N c0 m0 c' m' what' σ' τ' ∧ (what' = 3 ∨ what' = 4 ∨ what' = 5 ∨ what' = 6) ∧ c' ≤ c + 25 * (p' - p) ∧ m' ≤ m + 25 * (p' - p) := by
  intro j
  induction j with
  | zero => intro p c m σ τ what x1 x3 x3' h0; omega
  | succ j ih =>
  intro p c m σ τ what x1 x3 x3' hTp h hS hw hc0 hm0 hc hm
  have hpT := h.2.2.1.1
  have h1 := h.2.1
  have hk := tk_lt h.1.1 hpT
  have kd := c_kind h.1.1 hpT h1.1
  have s69 := m_isSign h.1.1 hpT h1.2.1 29 (by omega) 46 rfl
  have s67 := m_isSign h.1.1 hpT h1.2.1 27 (by omega) 58 rfl
  have ne : ∀ x : Nat, x < 70 → (Q p).1 ≠ x → ¬ (Int32.ofNat (Q p).1 = Int32.ofNat x) := fun x hx q z => q ((ofN_eq (by omega) (by omega)).1 z)
  have e47 : ∀ y : Int32, y = (if (Q p).1 = 67 then 1 else 0) → lj_D lc_P lc_M106 47 [.ref 6, .int what, .int 0, x3, .retAddr 0] [] σ = lj_bv (lj_R lc_P 78 [.ref 6, .int what] σ) (fun σ1 => lj_D lc_P lc_M106 66 [.ref 6, .int what, .int 0, x3, .retAddr 0] [.int y] σ1) lj_up := fun y hy => by
    obtain ⟨σ1, τ1, v1, v2, P1, _⟩ := ch_get h hN hFO hS hw hc0 hm0 (by omega) (by omega) hT5
    rw [kc_106_47, v1, bv_ok, bv_ok, c_kind P1.1.1 hpT P1.2.1.1, bi_ok, hy]
    by_cases a : (Q p).1 = 67
    · rw [if_pos (by rw [a]; rfl), if_pos a]
    · rw [if_neg (show ¬ Int32.ofNat (Q p).1 = 67 from ne 67 (by omega) a), if_neg a]
  rw [kc_106_25, if_pos rfl, kd, bi_ok, km_50_64, s69, bi_ok]
  by_cases a69 : (Q p).1 = 69
  · have hlt : p < T := h.lt (by omega) (by omega)
    rw [if_pos (show Int32.ofNat (Q p).1 = 69 by rw [a69]; rfl), e47 0 (by rw [if_neg (by omega)]), if_pos (show (Q p).1 = 40 + 29 by omega), if_neg (show ¬ ((1 : Int32) = 0) by decide), km_50_82, if_pos rfl, s67, bi_ok, if_neg (show ¬ (Q p).1 = 40 + 27 by omega), if_pos rfl]
    rcases fn_item hT5 hFO hsB h hN hS hw hc0 hm0 hc hm (Or.inl a69) x1 0 x3 x3' with ⟨τ', r1, r2⟩ | ⟨σ', τ', y7, Ln, r1, r2, r3, r4, r5⟩
    · exact Or.inl ⟨τ', r1, r2⟩
    · rw [r1, r2]
      rcases ih (p + 2) (c + 2) (m + 2) σ' τ' 6 y7 (.int Ln) (.int Ln) (by omega) r3 r5 (Or.inr (Or.inr (Or.inr rfl))) (by omega) (by omega) (by omega) (by omega) with ⟨τ3, q1, q2⟩ | ⟨p3, c3, m3, σ3, τ3, w3, me, x3a, y3, y3', q1, q2, q3, q4, q5, q6, q7, q8, q9⟩
      · exact Or.inl ⟨τ3, q1, q2⟩
      · have := q5.2.2.2.1
        exact Or.inr ⟨p3, c3, m3, σ3, τ3, w3, me, x3a, y3, y3', q1, q2, q3, q4, r4.tr q5, q6, q7, (by omega), (by omega)⟩
  · rw [if_neg (show ¬ Int32.ofNat (Q p).1 = 69 from ne 69 (by omega) a69), kd, bi_ok, if_neg (show ¬ (Q p).1 = 40 + 29 by omega), if_pos (show (0 : Int32) = 0 from rfl), s67, bi_ok]
    by_cases a67 : (Q p).1 = 67
    · rw [if_pos (show Int32.ofNat (Q p).1 = 67 by rw [a67]; rfl), e47 1 (by rw [if_pos a67]), if_pos (show (Q p).1 = 40 + 27 by omega), if_neg (show ¬ ((1 : Int32) = 0) by decide), km_50_82, if_pos rfl, s67, bi_ok, if_pos (show (Q p).1 = 40 + 27 by omega), if_neg (show ¬ ((1 : Int32) = 0) by decide)]
      rcases fn_item hT5 hFO hsB h hN hS hw hc0 hm0 hc hm (Or.inr a67) x1 1 x3 x3' with ⟨τ', r1, r2⟩ | ⟨σ', τ', y7, Ln, r1, r2, r3, r4, r5⟩
      · exact Or.inl ⟨τ', r1, r2⟩
      · rw [r1, r2]
        have hp2 := r3.2.2.1.1
        have s69' := m_isSign r3.1.1 hp2 r3.2.1.2.1 29 (by omega) 46 rfl
        have s67' := m_isSign r3.1.1 hp2 r3.2.1.2.1 27 (by omega) 58 rfl
        refine Or.inr ⟨p + 2, c + 2, m + 2, σ', τ', 6, 1, y7, .int Ln, .int Ln, ?_, ?_, (Nat.le_refl _), r3, r4, r5, Or.inr (Or.inr (Or.inr rfl)), (by omega), (by omega)⟩
        · rw [kc_106_25, if_neg (by decide)]; rfl
        · rw [km_50_64, s69', bi_ok]
          by_cases b69 : (Q (p + 2)).1 = 40 + 29
          · rw [if_pos b69, if_neg (by decide), km_50_82, if_neg (by decide)]; rfl
          · rw [if_neg b69, if_pos rfl, s67', bi_ok]
            by_cases b67 : (Q (p + 2)).1 = 40 + 27
            · rw [if_pos b67, if_neg (by decide), km_50_82, if_neg (by decide)]; rfl
            · rw [if_neg b67, if_pos rfl]; rfl
    · rw [if_neg (show ¬ Int32.ofNat (Q p).1 = 67 from ne 67 (by omega) a67), if_neg (show ¬ (Q p).1 = 40 + 27 by omega), if_pos (show (0 : Int32) = 0 from rfl)]
      exact Or.inr ⟨p, c, m, σ, τ, what, 0, x1, x3, x3', rfl, rfl, (by omega), h, GR_rf _ _ _ _ _ _ _, hS, hw, (by omega), (by omega)⟩
