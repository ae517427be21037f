/-- load, step by step: both go on with what is filled -/
theorem ld_a : ∀ (d i : Nat) (σ τ : lj_S), i + d = 17 → ldI 0 i σ τ → ∃ σ' τ', lj_D lc_P lc_M126 98 [.ref 8, .int (Int32.ofNat i), .retAddr 0] [] σ = lj_D lc_P lc_M126 124 [.ref 8, .int 0, .retAddr 0] [] σ' ∧ lj_D lm_P lm_M105 33 [.ref 0, .int (Int32.ofNat i), .retAddr 0] [] τ = lj_D lm_P lm_M105 62 [.ref 0, .int 0, .retAddr 0] [] τ' ∧ ldI 0 17 σ' τ' ∧ lf ldC σ σ' ∧ lf hwM τ τ'
  | 0, i, σ, τ, h, hI => by
    have e : i = 17 := h
    refine ⟨σ, τ, ?_, ?_, by rw [← e]; exact hI, lf_rf _ _, lf_rf _ _⟩
    · rw [e, kc_126_98, if_pos (by decide)]
    · rw [e, km_105_33, if_pos (by decide)]
  | d + 1, i, σ, τ, h, hI => by
    obtain ⟨σ1, σ2, τ2, s, e1, e2, e3, e4, e5, e6⟩ := ld_fill hI (by omega) (k := i) (t := 0) (by omega) (by omega)
    rw [if_pos (by omega)] at e1
    obtain ⟨σ', τ', g1, g2, g3, g4, g5⟩ := ld_a d (i + 1) σ2 τ2 (by omega) e4
    refine ⟨σ', τ', ?_, ?_, g3, e5.tr g4, e6.tr g5⟩
    · rw [kc_126_98, if_neg (by rw [show (16 : Int32) = Int32.ofNat 16 from rfl, lz_lt, lz_lit (by omega), lz_lit (by omega)]; omega), e1, bi_ok, show (0 : Int32) = Int32.ofNat 0 from rfl, e2, bv_ok, lz_osucc]
      exact g1
    · have n37 : (37 : Int32) + Int32.ofNat i = Int32.ofNat (nmI i) := by
        unfold nmI
        rw [if_pos (by omega), show (37 : Int32) = Int32.ofNat 37 from rfl, ← Int32.ofNat_add]
      rw [km_105_33, if_neg (by rw [show (17 : Int32) = Int32.ofNat 17 from rfl, ofN_le (by omega) (by omega)]; omega), n37]
      have e3 : lj_R lm_P 107 [.ref 0, .int 2001, .int (Int32.ofNat (nmI i)), .int 7, .long (Int32.ofNat i).toInt64] τ = some (.inl none, τ2) := e3
      rw [e3, bv_ok, lz_osucc]
      exact g2
def ldD (k j : Nat) : Bool := ldC k j || k == 57 || k == 58 || k == 65 || (k == 7 && j == 0)
def ldM (k j : Nat) : Bool := hwM k j || k == 38 || k == 39 || k == 42 || (k == 0 && j == 77)
/-- a table more, under a name of both -/
theorem ld_ob {n m : Nat} {σ τ : lj_S} (h : ldI n m σ τ) (hn : n < 3) (hm : m < 3000) {r w : Nat} {W : List Int32} (hr : 1000 ≤ r) (hW : lj_nth lc_str (r - 1000) = some W) (hb : W.map lz_by = W) (hl : W.length ≤ 20) (hh : cHas σ W) (hw : w < 69) (eW : W = mBw w) : ∃ σ1 σ2 σ' τ1 τ' s, lj_R lc_P 116 [.ref 7, .int 4] σ = some (.inl (some (.int (Int32.ofNat (n + 1)))), σ1) ∧ lj_R lm_P 111 [.ref 0, .int 4] τ = some (.inl (some (.int (Int32.ofNat (n + 1)))), τ1) ∧ lj_R lc_P 28 [.ref 3, .ref r] σ1 = some (.inl (some (.int (Int32.ofNat s))), σ2) ∧ lj_R lc_P 113 [.ref 7, .int 0, .int 3, .long (Int32.ofNat s).toInt64, .int 4, .long (Int32.ofNat (n + 1)).toInt64] σ2 = some (.inl none, σ') ∧ lj_R lm_P 107 [.ref 0, .int 2001, .int (Int32.ofNat w), .int 4, .long (Int32.ofNat (n + 1)).toInt64] τ1 = some (.inl none, τ') ∧ ldI (n + 1) (m + 1) σ' τ' ∧ lf ldD σ σ' ∧ lf ldM τ τ' ∧ (σ'.1 58 (n + 1) = -1 ∧ τ'.1 39 (n + 1) = 0 ∧ σ'.1 65 (n + 1) = 0 ∧ τ'.2 42 (n + 1) = 0) ∧ (∀ o, o ≠ n + 1 → σ'.1 58 o = σ.1 58 o ∧ τ'.1 39 o = τ.1 39 o ∧ σ'.1 65 o = σ.1 65 o ∧ τ'.2 42 o = τ.2 42 o) := by
  obtain ⟨q1, q2, q3, q4, ⟨q5, q5', q5''⟩, q6, ⟨q7, q7', q7''⟩, q8, q9⟩ := h
  rcases cm_object q6 4 with ⟨z, _⟩ | ⟨_, a1, a2, a3, a4, a5⟩
  · omega
  obtain ⟨σ1, hσ1⟩ : ∃ s, s = cOb σ (n + 1) 4 := ⟨_, rfl⟩
  obtain ⟨τ1, hτ1⟩ : ∃ s, s = mOb τ (n + 1) 4 := ⟨_, rfl⟩
  rw [← hσ1] at a1 a3 a4 a5
  rw [← hτ1] at a2 a3 a4 a5
  have o1 : ∀ k j, ¬ (k = 7 ∧ j = 0) → ¬ ((57 ≤ k ∧ k ≤ 61 ∨ k = 65) ∧ j = n + 1) → σ1.1 k j = σ.1 k j := fun k j w1 w2 => by
    rw [hσ1, cOb_1, if_neg (by omega), if_neg (by omega), if_neg (by omega), if_neg (by omega), if_neg (by omega), if_neg (by omega), if_neg (by omega), if_neg (by omega)]
  have p1 : ∀ k j, ¬ (k = 0 ∧ j = 77) → ¬ (38 ≤ k ∧ k ≤ 41 ∧ j = n + 1) → τ1.1 k j = τ.1 k j := fun k j w1 w2 => by
    rw [hτ1, mOb_1, if_neg (by omega), if_neg (by omega), if_neg (by omega), if_neg (by omega), if_neg (by omega)]
  have p2 : ∀ k j, ¬ (k = 42 ∧ j = n + 1) → τ1.2 k j = τ.2 k j := fun k j w1 => by rw [hτ1, mOb_2, if_neg w1]
  have o2 : σ1.2 = σ.2 := by rw [hσ1]; exact cOb_2 _ _ _
  have L1 : lf ldD σ σ1 := fun k j w => ⟨o1 k j (by unfold ldD at w; simp at w; omega) (by unfold ldD ldC hwC at w; simp at w; omega), by rw [o2]⟩
  have M1 : lf ldM τ τ1 := fun k j w => ⟨p1 k j (by unfold ldM at w; simp at w; omega) (by unfold ldM hwM at w; simp at w; omega), p2 k j (by unfold ldM at w; simp at w; omega)⟩
  have s1R : sR σ1 τ1 (fun _ => False) := q1.cg (fun k j w => o1 k j (by unfold sqC at w; simp at w; omega) (by unfold sqC at w; simp at w; omega)) (fun k j w => p1 k j (by unfold sqM at w; simp at w; omega) (by unfold sqM at w; simp at w; omega))
  have e7 : lv σ1 3 7 = lv σ 3 7 := by unfold lv; rw [o1 3 7 (by omega) (by omega)]
  have e8 : lv σ1 3 8 = lv σ 3 8 := by unfold lv; rw [o1 3 8 (by omega) (by omega)]
  have e11 : lv σ1 7 11 = lv σ 7 11 := by unfold lv; rw [o1 7 11 (by omega) (by omega)]
  have eS : ∀ t, cS σ1 t = cS σ t := cS_cong (fun j => o1 9 j (by omega) (by omega)) (fun j => o1 10 j (by omega) (by omega)) (fun j => o1 11 j (by omega) (by omega))
  have mSe : ∀ t, mS τ1 t = mS τ t := mS_cong (fun j => p1 2 j (by omega) (by omega)) (fun j => p1 3 j (by omega) (by omega)) (fun j => p1 4 j (by omega) (by omega))
  have e14 : lv τ1 0 14 = lv τ 0 14 := by unfold lv; rw [p1 0 14 (by omega) (by omega)]
  have has : ∀ E, cHas σ E → cHas σ1 E := fun E ⟨t, t1, t2, t3⟩ => ⟨t, by rw [e7]; exact t1, by rw [eS]; exact t2, by rw [o1 15 t (by omega) (by omega)]; exact t3⟩
  have I1 : ldI (n + 1) m σ1 τ1 := ⟨s1R, fun s hs => by rw [o1 15 s (by omega) (by omega)]; exact q2 s (by rw [← e7]; exact hs), ⟨by rw [e14]; exact q3.1, fun s hs => by rw [mSe]; exact q3.2 s hs⟩, fun k hk => has _ (q4 k hk), ⟨has _ q5, has _ q5', has _ q5''⟩, a3, ⟨by rw [e11]; exact q7, by rw [e7]; exact q7', by rw [e8]; exact q7''⟩, by rw [o1 57 0 (by omega) (by omega)]; exact q8, fun o a b => by
    by_cases z : o = n + 1
    · rw [z, hσ1, hτ1, cOb_1, mOb_1, if_pos ⟨rfl, rfl⟩, if_neg (by omega), if_neg (by omega), if_neg (by omega), if_pos ⟨rfl, rfl⟩]
      exact ⟨rfl, rfl⟩
    · rw [o1 57 o (by omega) (by omega), p1 38 o (by omega) (by omega)]
      exact q9 o a (by omega)⟩
  obtain ⟨σ2, x, b1, b2, b3⟩ := c_sk σ1 s1R.1 r hr hW hb (by omega)
  rcases b3.symm with ⟨_, no⟩ | ⟨s, rfl, s2, s3, s4⟩
  · exfalso
    obtain ⟨t, t1, t2, _⟩ := has _ hh
    exact no t t1 t2
  have b2' : lf ldC σ1 σ2 := b2.mo (fun k j w => by unfold ldC at w; simp at w; exact w.1)
  have hp2 : hpR σ2 τ1 (n + 1) := a3.cg (fun k j w => b2 k j (by unfold hqC vqC at w; unfold cAd; simp at w ⊢; omega)) (fun _ _ _ => ⟨rfl, rfl⟩)
  have I2 : ldI (n + 1) m σ2 τ1 := I1.cg b2' (lf_rf _ _) hp2 (by unfold lv; rw [(b2 7 11 rfl).1]; exact I1.2.2.2.2.2.2.1.1)
  obtain ⟨r1, r2, r3, r4, r5, r6, r7, r8, r9⟩ := id I2
  have hE : sE σ2 τ1 s w := ⟨by unfold lv at s3 ⊢; rw [(b2 3 7 rfl).1]; exact s3, by have := r3.1; omega, by rw [cS_draft b2, s4, r3.2 w hw]; exact eW⟩
  have hob : obA σ2 τ1 (n + 1) 4 := ⟨(by omega), (by omega), by rw [r6.2.1]; omega, (r9 (n + 1) (by omega) (by omega)).1, (r9 (n + 1) (by omega) (by omega)).2⟩
  obtain ⟨σ', τ', c1, c2, c3, c4, c5, c6⟩ := cm_set2 r1 r6 (Nat.zero_le _) (a := (3, i64 s)) (b := (3, i64 w)) (vR_str hE s2 (by omega)) (by decide) (u := (4, i64 (n + 1))) (w := (4, i64 (n + 1))) (vR_ob (Or.inl rfl) hob) (fun _ => rfl) r8 (by have := r7.1; omega)
  have f2 : lf ldC σ2 σ' := c4.mo (fun k j w => by unfold ldC at w; simp at w; exact w.2)
  have I3 := I2.cg f2 c5 c3 (m' := m + 1) (by have := r7.1; push_cast; omega)
  have g12 : ∀ k j, ldC k j = false → σ'.1 k j = σ1.1 k j := fun k j w => by rw [(f2 k j w).1, (b2' k j w).1]
  refine ⟨σ1, σ2, σ', τ1, τ', s, a1, a2, b1, c1, ?_, I3, (L1.tr (b2'.mo (fun k j w => by unfold ldD at w; simp at w; exact w.1.1.1.1))).tr (f2.mo (fun k j w => by unfold ldD at w; simp at w; exact w.1.1.1.1)), M1.tr (c5.mo (fun k j w => by unfold ldM at w; simp at w; exact w.1.1.1.1)), ⟨?_, ?_, ?_, ?_⟩, fun o ho => ⟨?_, ?_, ?_, ?_⟩⟩
  · rw [rm_107, km_107_0]
    have c2 : lj_R lm_P 108 [.ref 0, .int 2001, .int 3, .long (Int32.ofNat w).toInt64, .int 4, .long (Int32.ofNat (n + 1)).toInt64] τ1 = some (.inl (some (.int 1)), τ') := c2
    rw [c2, bi_ok]
  · rw [g12 58 _ rfl, hσ1, cOb_1, if_neg (by omega), if_neg (by omega), if_neg (by omega), if_neg (by omega), if_neg (by omega), if_pos ⟨rfl, rfl⟩]
  · rw [(c5 39 _ rfl).1, hτ1, mOb_1, if_neg (by omega), if_neg (by omega), if_pos ⟨rfl, rfl⟩]
  · rw [g12 65 _ rfl, hσ1, cOb_1, if_neg (by omega), if_pos ⟨rfl, rfl⟩]
  · rw [(c5 42 _ rfl).2, hτ1, mOb_2, if_pos ⟨rfl, rfl⟩]
  · rw [g12 58 o rfl, o1 58 o (by omega) (by omega)]
  · rw [(c5 39 o rfl).1, p1 39 o (by omega) (by omega)]
  · rw [g12 65 o rfl, o1 65 o (by omega) (by omega)]
  · rw [(c5 42 o rfl).2, p2 42 o (by omega)]
/-- names of tables 1, 2, 3 -/
theorem ld_c {t : Nat} (ht : t ≤ 3) (ht1 : 1 ≤ t) {e : Nat} (he : e ≤ 31) (pM : Nat) (hM : ∀ k x2 τ, k < e → (t = 1 → 17 ≤ k) → (t = 2 → 22 ≤ k) → (t = 3 → 26 ≤ k) → lj_D lm_P lm_M105 pM [.ref 0, .int (Int32.ofNat k), x2] [] τ = lj_bv (lj_R lm_P 107 [.ref 0, .int (Int32.ofNat t), .int (Int32.ofNat (nmI k)), .int 7, .long (i64 k)] τ) (fun σ1 => lj_D lm_P lm_M105 pM [.ref 0, .int (Int32.ofNat (k + 1)), x2] [] σ1) lj_up) (hC : ∀ k x2 σ, k < e → (t = 1 → 17 ≤ k) → (t = 2 → 22 ≤ k) → (t = 3 → 26 ≤ k) → lj_D lc_P lc_M126 197 [.ref 8, .int (Int32.ofNat k), x2] [] σ = lj_D lc_P lc_M126 225 [.ref 8, .int (Int32.ofNat k), x2] [.int (Int32.ofNat t), .ref 8] σ) : ∀ (d i m : Nat) (σ τ : lj_S) (x2 y2 : Value), i + d = e → 17 ≤ i → (t = 2 → 22 ≤ i) → (t = 3 → 26 ≤ i) → m + d < 2000 → ldI 3 m σ τ → ∃ σ' τ', lj_D lc_P lc_M126 197 [.ref 8, .int (Int32.ofNat i), x2] [] σ = lj_D lc_P lc_M126 197 [.ref 8, .int (Int32.ofNat e), x2] [] σ' ∧ lj_D lm_P lm_M105 pM [.ref 0, .int (Int32.ofNat i), y2] [] τ = lj_D lm_P lm_M105 pM [.ref 0, .int (Int32.ofNat e), y2] [] τ' ∧ ldI 3 (m + d) σ' τ' ∧ lf ldC σ σ' ∧ lf hwM τ τ'
  | 0, i, m, σ, τ, x2, y2, h, _, _, _, _, hI => by
    have e' : i = e := h
    exact ⟨σ, τ, by rw [e'], by rw [e'], hI, lf_rf _ _, lf_rf _ _⟩
  | d + 1, i, m, σ, τ, x2, y2, h, h17, h22, h26, hm, hI => by
    obtain ⟨σ1, σ2, τ2, s, e1, e2, e3, e4, e5, e6⟩ := ld_fill hI (by omega) (k := i) (t := t) (by omega) (by omega)
    rw [if_neg (by omega)] at e1
    rw [show tm t = t from by unfold tm; rw [if_neg (by omega)]] at e3
    obtain ⟨σ', τ', g1, g2, g3, g4, g5⟩ := ld_c ht ht1 he pM hM hC d (i + 1) (m + 1) σ2 τ2 x2 y2 (by omega) (by omega) (fun w => by have := h22 w; omega) (fun w => by have := h26 w; omega) (by omega) e4
    refine ⟨σ', τ', ?_, ?_, by rw [show m + (d + 1) = m + 1 + d by omega]; exact g3, e5.tr g4, e6.tr g5⟩
    · rw [hC i x2 σ (by omega) (fun _ => h17) h22 h26, kc_126_225, e1, bi_ok, e2, bv_ok, lz_osucc]
      exact g1
    · rw [hM i y2 τ (by omega) (fun _ => h17) h22 h26, e3, bv_ok]
      exact g2
