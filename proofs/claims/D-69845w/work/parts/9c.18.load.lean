/-- the component's state when load is done with its own, before it fills tables -/
def cLd (σ : lj_S) : lj_S := lj_put (lj_put (lj_put (lj_put (lj_put (lj_put (lj_put (lj_putL (lj_put (lj_put (lj_put σ 8 48 0) 8 46 0) 8 47 2) 8 44 0) 8 50 0) 8 51 0) 8 53 0) 8 33 0) 8 41 0) 8 7 0) 8 18 0
theorem c_dep : ∀ (d i : Nat) (σ : lj_S), i + d = 26 → ∃ σ', lj_D lc_P lc_M126 77 [.ref 8, .int (Int32.ofNat i), .retAddr 0] [] σ = lj_D lc_P lc_M126 98 [.ref 8, .int 0, .retAddr 0] [] σ' ∧ (∀ k, i ≤ k → k < 26 → σ'.1 90 k = 0) ∧ lf (fun k j => k == 90 && decide (i ≤ j)) σ σ'
  | 0, i, σ, h => by
    refine ⟨σ, ?_, fun k h1 h2 => (by omega), lf_rf _ _⟩
    rw [kc_126_77, if_pos (by rw [show (26 : Int32) = Int32.ofNat 26 from rfl, ofN_le (by omega) (by omega)]; omega)]
  | d + 1, i, σ, h => by
    obtain ⟨σ', e1, e2, e3⟩ := c_dep d (i + 1) (lj_put σ 90 i 0) (by omega)
    refine ⟨σ', ?_, fun k h1 h2 => ?_, ?_⟩
    · rw [kc_126_77, if_neg (by rw [show (26 : Int32) = Int32.ofNat 26 from rfl, ofN_le (by omega) (by omega)]; omega), if_pos (ofN_in (by omega) (by omega)), lz_onat (by omega), lz_osucc]
      exact e1
    · by_cases z : k = i
      · rw [z, (e3 90 i (by simp)).1, lj_put_1, if_pos ⟨rfl, rfl⟩]
      · exact e2 k (by omega) (by omega)
    · exact (lf_put (lf_rf _ _) _ _ _ (by simp)).tr (e3.mo (fun k j w => by
        simp at w ⊢
        omega))
/-- tables of what is built in, in both: from the start of the fills to their end -/
theorem ld_all {σ τ : lj_S} (h : ldI 0 0 σ τ) : ∃ σ' τ' x2, lj_D lc_P lc_M126 98 [.ref 8, .int 0, .retAddr 0] [] σ = some (.inl none, σ') ∧ lj_D lm_P lm_M105 33 [.ref 0, .int 0, .retAddr 0] [] τ = lj_D lm_P lm_M105 158 [.ref 0, .int (Int32.ofNat 31), x2] [] τ' ∧ ldI 3 34 σ' τ' ∧ lf ldD σ σ' ∧ lf ldM τ τ' ∧ (∀ o, 1 ≤ o → o ≤ 3 → σ'.1 58 o = -1 ∧ τ'.1 39 o = 0 ∧ σ'.1 65 o = 0 ∧ τ'.2 42 o = 0) ∧ σ'.1 58 0 = σ.1 58 0 := by
  have cd : ∀ {k j : Nat}, ldD k j = false → ldC k j = false := fun w => by unfold ldD at w; simp at w; exact w.1.1.1.1
  have md : ∀ {k j : Nat}, ldM k j = false → hwM k j = false := fun w => by unfold ldM at w; simp at w; exact w.1.1.1.1
  obtain ⟨σ1, τ1, a1, a2, a3, a4, a5⟩ := ld_a 17 0 σ τ rfl h
  obtain ⟨σa, σb, σ2, τa, τ2, s1, b1, b2, b3, b4, b5, b6, b7, b8, b9, b10⟩ := ld_ob a3 (by decide) (by decide) (r := 1005) (w := 54) (by decide) w_str.1 w_by.1 (by decide) a3.2.2.2.2.1.1 (by decide) w_mB.1
  obtain ⟨σc, σd, σ3, τc, τ3, s2, c1, c2, c3, c4, c5, c6, c7, c8, c9, c10⟩ := ld_ob b6 (by decide) (by decide) (r := 1006) (w := 55) (by decide) w_str.2.1 w_by.2.1 (by decide) b6.2.2.2.2.1.2.1 (by decide) w_mB.2.1
  obtain ⟨σe, σf, σ4, τe, τ4, s3, d1, d2, d3, d4, d5, d6, d7, d8, d9, d10⟩ := ld_ob c6 (by decide) (by decide) (r := 1007) (w := 56) (by decide) w_str.2.2.1 w_by.2.2.1 (by decide) c6.2.2.2.2.1.2.2 (by decide) w_mB.2.2.1
  have h22 : ∀ k, k < 31 → ((22 : Int32) ≤ Int32.ofNat k ↔ 22 ≤ k) := fun k hk => by rw [show (22 : Int32) = Int32.ofNat 22 from rfl, ofN_le (by omega) (by omega)]
  have h26 : ∀ k, k < 31 → ((26 : Int32) ≤ Int32.ofNat k ↔ 26 ≤ k) := fun k hk => by rw [show (26 : Int32) = Int32.ofNat 26 from rfl, ofN_le (by omega) (by omega)]
  have h30 : ∀ k, k < 31 → ¬ ((30 : Int32) < Int32.ofNat k) := fun k hk => by rw [show (30 : Int32) = Int32.ofNat 30 from rfl, lz_lt, lz_lit (by omega), lz_lit (by omega)]; omega
  have ar : ∀ a b k : Nat, b ≤ a + k → a < 1000 → k < 1000 → Int32.ofNat a + Int32.ofNat k - Int32.ofNat b = Int32.ofNat (a + k - b) := fun a b k w1 w2 w3 => by
    apply lz_ext
    rw [← Int32.ofNat_add, lz_sub (by rw [lz_lit (by omega), lz_lit (by omega)]; omega), lz_lit (by omega), lz_lit (by omega), lz_lit (by omega)]
    omega
  -- list
  obtain ⟨σ5, τ5, e1, e2, e3, e4, e5⟩ := ld_c (t := 1) (by decide) (by decide) (e := 22) (by decide) 96 (fun k x2 τ hk g1 g2 g3 => by
      have := g1 rfl
      rw [km_105_96, if_neg (by rw [h22 k (by omega)]; omega), show (57 : Int32) = Int32.ofNat 57 from rfl, show (17 : Int32) = Int32.ofNat 17 from rfl, ar 57 17 k (by omega) (by omega) (by omega), show nmI k = 57 + k - 17 by unfold nmI; rw [if_neg (by omega), if_pos (by omega)]; omega, lz_osucc]
      rfl) (fun k x2 σ hk g1 g2 g3 => by
      rw [kc_126_197, if_neg (h30 k (by omega)), if_neg (by rw [h22 k (by omega)]; omega)]
      rfl) 5 17 20 σ4 τ4 (.int (Int32.ofNat 3)) (.int (Int32.ofNat 3)) rfl (Nat.le_refl _) (fun w => absurd w (by decide)) (fun w => absurd w (by decide)) (by decide) d6
  -- text
  obtain ⟨σ6, τ6, f1, f2, f3, f4, f5⟩ := ld_c (t := 2) (by decide) (by decide) (e := 26) (by decide) 127 (fun k x2 τ hk g1 g2 g3 => by
      have := g2 rfl
      rw [km_105_127, if_neg (by rw [h26 k (by omega)]; omega), show (62 : Int32) = Int32.ofNat 62 from rfl, show (22 : Int32) = Int32.ofNat 22 from rfl, ar 62 22 k (by omega) (by omega) (by omega), show nmI k = 62 + k - 22 by unfold nmI; rw [if_neg (by omega), if_neg (by omega), if_pos (by omega)]; omega, lz_osucc]
      rfl) (fun k x2 σ hk g1 g2 g3 => by
      have := g2 rfl
      rw [kc_126_197, if_neg (h30 k (by omega)), if_pos (by rw [h22 k (by omega)]; omega), if_neg (by rw [h26 k (by omega)]; omega)]
      rfl) 4 22 25 σ5 τ5 (.int (Int32.ofNat 3)) (.int (Int32.ofNat 3)) rfl (by decide) (fun _ => (Nat.le_refl _)) (fun w => absurd w (by decide)) (by decide) e3
  -- part
  obtain ⟨σ7, τ7, g1, g2, g3, g4, g5⟩ := ld_c (t := 3) (by decide) (by decide) (e := 31) (by decide) 158 (fun k x2 τ hk g1 g2 g3 => by
      have := g3 rfl
      have n31 : ¬ ((31 : Int32) ≤ Int32.ofNat k) := by rw [show (31 : Int32) = Int32.ofNat 31 from rfl, ofN_le (by omega) (by omega)]; omega
      rw [km_105_158, if_neg n31]
      by_cases z : k = 26
      · rw [z, if_pos rfl, km_105_195]; rfl
      · rw [if_neg (fun w => z ((ofN_eq (a := k) (c := 26) (by omega) (by omega)).1 w))]
        by_cases y : k = 30
        · rw [y, if_pos rfl, km_105_195]; rfl
        · rw [if_neg (fun w => y ((ofN_eq (a := k) (c := 30) (by omega) (by omega)).1 w)), km_105_195, show (66 : Int32) = Int32.ofNat 66 from rfl, show (27 : Int32) = Int32.ofNat 27 from rfl, ar 66 27 k (by omega) (by omega) (by omega), show nmI k = 66 + k - 27 by unfold nmI; rw [if_neg (by omega), if_neg (by omega), if_neg (by omega), if_neg z, if_neg y]; omega, lz_osucc]
          rfl) (fun k x2 σ hk g1 g2 g3 => by
      have := g3 rfl
      rw [kc_126_197, if_neg (h30 k (by omega)), if_pos (by rw [h22 k (by omega)]; omega), if_pos (by rw [h26 k (by omega)]; omega)]
      rfl) 5 26 29 σ6 τ6 (.int (Int32.ofNat 3)) (.int (Int32.ofNat 3)) rfl (by decide) (fun _ => by decide) (fun _ => (Nat.le_refl _)) (by decide) f3
  have LC : lf ldD σ4 σ7 := ((e4.tr f4).tr g4).mo (fun k j w => cd w)
  have LM : lf ldM τ4 τ7 := ((e5.tr f5).tr g5).mo (fun k j w => md w)
  have s58 : ∀ o, σ7.1 58 o = σ4.1 58 o := fun o => by rw [(g4 58 o rfl).1, (f4 58 o rfl).1, (e4 58 o rfl).1]
  have s65 : ∀ o, σ7.1 65 o = σ4.1 65 o := fun o => by rw [(g4 65 o rfl).1, (f4 65 o rfl).1, (e4 65 o rfl).1]
  have s39 : ∀ o, τ7.1 39 o = τ4.1 39 o := fun o => by rw [(g5 39 o rfl).1, (f5 39 o rfl).1, (e5 39 o rfl).1]
  have s42 : ∀ o, τ7.2 42 o = τ4.2 42 o := fun o => by rw [(g5 42 o rfl).2, (f5 42 o rfl).2, (e5 42 o rfl).2]
  refine ⟨σ7, τ7, .int (Int32.ofNat 3), ?_, ?_, g3, ((((a4.mo (fun k j w => cd w)).tr b7).tr c7).tr d7).tr LC, ((((a5.mo (fun k j w => md w)).tr b8).tr c8).tr d8).tr LM, fun o o1 o2 => ?_, ?_⟩
  · rw [show (0 : Int32) = Int32.ofNat 0 from rfl, a1]
    rw [kc_126_124, if_neg (by decide), b1, bi_ok, if_pos rfl, kc_126_178, b3, bi_ok, b4, bv_ok]
    rw [kc_126_124, if_neg (by decide), c1, bi_ok, if_neg (by decide), if_pos (by decide), kc_126_178, c3, bi_ok, c4, bv_ok]
    rw [kc_126_124, if_neg (by decide), d1, bi_ok, if_neg (by decide), if_neg (by decide), kc_126_178, d3, bi_ok, d4, bv_ok]
    rw [kc_126_124, if_pos (by decide), show (17 : Int32) = Int32.ofNat 17 from rfl, e1, f1, g1, kc_126_197, if_pos (by decide), kc_126_250]
  · rw [show (0 : Int32) = Int32.ofNat 0 from rfl, a2]
    rw [km_105_62, if_neg (by decide), b2, bi_ok, show (54 : Int32) + 0 = Int32.ofNat 54 from rfl, b5, bv_ok]
    rw [km_105_62, if_neg (by decide), c2, bi_ok, show (54 : Int32) + (0 + 1) = Int32.ofNat 55 from rfl, c5, bv_ok]
    rw [km_105_62, if_neg (by decide), d2, bi_ok, show (54 : Int32) + (0 + 1 + 1) = Int32.ofNat 56 from rfl, d5, bv_ok]
    rw [km_105_62, if_pos (by decide), show (17 : Int32) = Int32.ofNat 17 from rfl, e2, km_105_96, if_pos (by decide), show (22 : Int32) = Int32.ofNat 22 from rfl, f2, km_105_127, if_pos (by decide), show (26 : Int32) = Int32.ofNat 26 from rfl, g2]
  · rw [s58, s65, s39, s42]
    have c : o = 1 ∨ o = 2 ∨ o = 3 := by omega
    rcases c with e | e | e
    · rw [e]
      obtain ⟨x1, x2, x3, x4⟩ := d10 1 (by decide)
      obtain ⟨y1, y2, y3, y4⟩ := c10 1 (by decide)
      rw [x1, x2, x3, x4, y1, y2, y3, y4]
      exact b9
    · rw [e]
      obtain ⟨x1, x2, x3, x4⟩ := d10 2 (by decide)
      rw [x1, x2, x3, x4]
      exact c9
    · rw [e]; exact d9
  · rw [s58, (d10 0 (by decide)).1, (c10 0 (by decide)).1, (b10 0 (by decide)).1, (a4 58 0 rfl).1]
