/-- what load changes -/
def lxC (k j : Nat) : Bool := bkS k j || hcS k j || ldD k j || k == 90 || (k == 8 && (j == 7 || j == 18 || j == 33 || j == 41 || j == 44 || j == 46 || j == 47 || j == 48 || j == 50 || j == 51 || j == 53))
def lxM (k j : Nat) : Bool := fgMx k j || ldM k j || k == 58 || k == 59 || k == 62 || k == 63 || k == 64 || k == 65 || (k == 0 && (j == 111 || j == 130 || j == 131 || j == 132 || j == 137))
/-- both are loaded (the model has not opened its frame yet) -/
def ldQ (σ0 τ0 σ τ : lj_S) : Prop :=
  (cdR σ0 τ0 σ τ ∧ sM σ τ ∧ nmR σ τ ∧ hpR σ τ 3 ∧ obR σ τ 3 ∧ ouR σ τ ∧ sG σ0 τ0 σ τ) ∧
  (∀ o, 1 ≤ o → o ≤ 3 → σ.1 57 o = 4 ∧ τ.1 38 o = 4 ∧ σ.1 65 o = 0 ∧ τ.2 42 o = 0) ∧
  (σ.1 7 1 = 0 ∧ σ.1 7 21 = 0 ∧ σ.1 7 25 = 0 ∧ σ.1 57 0 = 4 ∧ σ.1 8 18 = 0 ∧ σ.1 8 33 = 0 ∧ σ.1 8 46 = 0 ∧ σ.1 8 48 = 0 ∧ σ.1 8 51 = 0 ∧ σ.1 8 53 = 0 ∧ σ.2 8 44 = 0 ∧ ∀ i, σ.1 102 i = 0) ∧
  (τ.1 0 110 = 0 ∧ τ.1 0 111 = 0 ∧ τ.1 58 0 = 2 ∧ τ.1 59 0 = 0 ∧ τ.1 62 0 = 0 ∧ τ.1 63 0 = 0 ∧ τ.1 64 0 = 0 ∧ τ.1 65 0 = 0 ∧ τ.1 0 130 = 0 ∧ τ.1 0 131 = -1 ∧ τ.1 0 137 = 0 ∧ τ.1 0 143 = 0 ∧ τ.2 0 145 = 0 ∧ τ.1 0 152 = 0 ∧ τ.1 0 153 = 0 ∧ τ.2 0 78 = 0 ∧ τ.1 0 96 = Int32.ofNat 95000 ∧ ∀ i, i < 95000 → τ.1 57 i = Int32.ofNat (94999 - i))
set_option maxHeartbeats 1000000 in
theorem ld_both {σ0 τ0 : lj_S} {Fn fx bs : Nat} (st : stc σ0 τ0 Fn fx bs) {σ τ : lj_S} (h : ldH σ0 τ0 bs σ τ) : ∃ σ' τ1, lj_R lc_P 126 [.ref 8] σ = some (.inl none, σ') ∧ lj_R lm_P 105 [.ref 0] τ = lj_bv (lj_R lm_P 113 [.ref 0, .int 0, .int 0] τ1) (fun σ2 => some (.inl none, lj_put σ2 0 129 0)) lj_up ∧ ldQ σ0 τ0 σ' τ1 ∧ lf lxC σ σ' ∧ lf lxM τ τ1 ∧ (lv σ' 3 7 = (fx : Int) ∧ lv τ1 0 14 = (bs : Int)) := by
  obtain ⟨⟨σ1, a1, a2, a3, a4, a5, a6, a7⟩, hb1, hb2⟩ := ld_str st h
  obtain ⟨⟨s1, s2, s3, s4, s5, sR0⟩, ⟨B1, B2, B3, B4⟩, ⟨LC, LM⟩, ⟨W1, W2⟩, ⟨N1, N2, N3, N4⟩, ⟨f9, f7, f10, f16⟩, ⟨b15, b14, b16, bso⟩, _, _⟩ := st
  obtain ⟨hcd, hG, hc, hm, ⟨g9, g10, g16⟩, ⟨g15, g16', g34⟩, hso, ⟨h78, h81, h83⟩, h102⟩ := h
  obtain ⟨σ2, c1, c2, c3⟩ := c_hclear σ1
  obtain ⟨σ4, d1, d2, d3⟩ := c_dep 26 0 (cLd σ2) rfl
  obtain ⟨τ1, e1, e2, ⟨e3, e3'⟩, e4, ⟨e17, e18, e77, e78, e88, e89, e96⟩, ⟨e110, e143, e145, e148, e150, e152, e153⟩, e52, e53, e57, e5⟩ := m_forg hm hb2 (by rw [g15]; exact b15) hb1
  obtain ⟨τ2, hτ2⟩ : ∃ t, t = lj_put (lj_put (lj_put τ1 40 2001 (-1)) 41 2001 (-1)) 39 2001 0 := ⟨_, rfl⟩
  -- frames up to here
  have F12 : lf lxC σ σ2 := (a7.mo (fun k j w => by unfold lxC at w; simp at w; exact w.1.1.1.1)).tr (c3.mo (fun k j w => by unfold lxC at w; simp at w; exact w.1.1.1.2))
  have Fcl : lf lxC σ2 (cLd σ2) := by
    unfold cLd
    exact lf_put (lf_put (lf_put (lf_put (lf_put (lf_put (lf_put (lf_putL (lf_put (lf_put (lf_put (lf_rf _ _) _ _ _ rfl) _ _ _ rfl) _ _ _ rfl) _ _ _ rfl) _ _ _ rfl) _ _ _ rfl) _ _ _ rfl) _ _ _ rfl) _ _ _ rfl) _ _ _ rfl) _ _ _ rfl
  have F4 : lf lxC σ σ4 := (F12.tr Fcl).tr (d3.mo (fun k j w => by unfold lxC at w; simp at w ⊢; intro e; exact absurd e w.1.2))
  have M2 : lf lxM τ τ2 := by
    rw [hτ2]
    exact lf_put (lf_put (lf_put (e5.mo (fun k j w => by unfold lxM at w; simp at w; exact w.1.1.1.1.1.1.1.1)) _ _ _ rfl) _ _ _ rfl) _ _ _ rfl
  -- cells of σ4
  have q4 : ∀ k j, k ≠ 90 → k ≠ 8 → σ4.1 k j = σ2.1 k j ∧ σ4.2 k j = σ2.2 k j := fun k j w1 w2 => by
    rw [(d3 k j (by simp; intro e; exact absurd e w1)).1, (d3 k j (by simp; intro e; exact absurd e w1)).2]
    unfold cLd
    refine ⟨by simp only [lj_put_1, lj_putL_1]; simp [w2], ?_⟩
    show (lj_putL _ 8 44 0).2 k j = _
    rw [lj_putL_2, if_neg (fun e => w2 e.1)]
    rfl
  have q8 : ∀ j, σ4.1 8 j = (cLd σ2).1 8 j ∧ σ4.2 8 j = (cLd σ2).2 8 j := fun j => d3 8 j rfl
  have q2 : ∀ k j, hcS k j = false → σ2.1 k j = σ1.1 k j := fun k j w => (c3 k j w).1
  have p2 : ∀ k j, ¬ (39 ≤ k ∧ k ≤ 41 ∧ j = 2001) → τ2.1 k j = τ1.1 k j ∧ τ2.2 k j = τ1.2 k j := fun k j w => ⟨by rw [hτ2, lj_put_1, if_neg (by omega), lj_put_1, if_neg (by omega), lj_put_1, if_neg (by omega)], by rw [hτ2]; rfl⟩
  have p40 : τ2.1 40 2001 = -1 := by rw [hτ2]; simp [lj_put_1]
  have p41 : τ2.1 41 2001 = -1 := by rw [hτ2]; simp [lj_put_1]
  -- strings
  have sC : ∀ k j, sqC k j = true → σ4.1 k j = σ1.1 k j := fun k j w => by
    rw [(q4 k j (by unfold sqC at w; simp at w; omega) (by unfold sqC at w; simp at w; omega)).1, q2 k j (by unfold sqC at w; unfold hcS; simp at w ⊢; omega)]
  have sMM : ∀ k j, sqM k j = true → τ2.1 k j = τ1.1 k j := fun k j w => (p2 k j (by unfold sqM at w; simp at w; omega)).1
  have k7 : lv σ4 3 7 = (fx : Int) := by unfold lv at a3 ⊢; rw [sC 3 7 rfl]; exact a3
  have k8 : lv σ4 3 8 = lv σ0 3 8 := by unfold lv at a4 ⊢; rw [sC 3 8 rfl]; exact a4
  have kS : ∀ s, s < fx → cS σ4 s = cS σ0 s := fun s hs => by rw [cS_cong (fun j => sC 9 j rfl) (fun j => sC 10 j rfl) (fun j => sC 11 j rfl) s]; exact (a5 s hs).1
  have k15 : ∀ s, s < fx → σ4.1 15 s = σ0.1 15 s := fun s hs => by rw [sC 15 s rfl]; exact (a5 s hs).2
  have t14 : lv τ2 0 14 = (bs : Int) := by unfold lv at e3 ⊢; rw [sMM 0 14 rfl]; exact e3
  have t8 : lv τ2 0 8 = lv τ0 0 8 := by unfold lv; rw [sMM 0 8 rfl, e3', g16', b16]
  have tS : ∀ s, s < bs → mS τ2 s = mS τ0 s := fun s hs => by
    rw [mS_cong (fun j => sMM 2 j rfl) (fun j => sMM 3 j rfl) (fun j => sMM 4 j rfl) s, mS_cong (fun j => (e5 2 j rfl).1) (fun j => (e5 3 j rfl).1) (fun j => (e5 4 j rfl).1) s]
    exact hG.2.2.2 s (by rw [b14]; omega)
  have t5 : ∀ s, s < bs → τ2.1 5 s = τ0.1 5 s := fun s hs => by
    rw [sMM 5 s rfl, e4 s hs]
    have w := hso.2.2 s hs
    rcases w.2 with z | z | z
    · rw [z, if_neg (by decide)]
      rcases bso s hs with y | y
      · exact y.symm
      · rw [w.1.2 y] at z; exact absurd z (by decide)
    · rw [z, if_neg (by decide)]; exact (w.1.1 z).symm
    · rw [if_pos z]
      rcases bso s hs with y | y
      · exact y.symm
      · rw [w.1.2 y] at z; exact absurd z (by decide)
  have hasC : ∀ D, cHas σ4 D ↔ cHas σ0 D := fun D => by
    constructor
    · rintro ⟨s, h1, h2, h3⟩
      have hs : s < fx := by rw [k7] at h1; omega
      exact ⟨s, by rw [f7]; omega, by rw [← kS s hs]; exact h2, by rw [← k15 s hs]; exact h3⟩
    · rintro ⟨s, h1, h2, h3⟩
      have hs : s < fx := by rw [f7] at h1; omega
      exact ⟨s, by rw [k7]; omega, by rw [kS s hs]; exact h2, by rw [k15 s hs]; exact h3⟩
  have hasM : ∀ D, mHas τ2 D ↔ mHas τ0 D := fun D => by
    constructor
    · rintro ⟨s, h1, h2, h3⟩
      have hs : s < bs := by rw [t14] at h1; omega
      exact ⟨s, by rw [b14]; omega, by rw [← tS s hs]; exact h2, by unfold lv at h3 ⊢; rw [← t5 s hs]; exact h3⟩
    · rintro ⟨s, h1, h2, h3⟩
      have hs : s < bs := by rw [b14] at h1; omega
      exact ⟨s, by rw [t14]; omega, by rw [tS s hs]; exact h2, by unfold lv at h3 ⊢; rw [t5 s hs]; exact h3⟩
  have sR4 : sR σ4 τ2 (fun _ => False) := ⟨cOK_cong a2 (fun j => sC 9 j rfl) (fun j => sC 10 j rfl) (fun j => sC 11 j rfl) (fun j => sC 12 j rfl) (fun j => sC 13 j rfl) (sC 3 7 rfl) (sC 3 8 rfl), mOK_cong e2 (fun j => sMM 2 j rfl) (fun j => sMM 3 j rfl) (fun j => sMM 4 j rfl) (fun j => sMM 6 j rfl) (fun j => sMM 7 j rfl) (sMM 0 14 rfl) (sMM 0 8 rfl), fun D => by rw [hasM, hasC]; exact sR0.2.2 D⟩
  -- heaps
  have hc4 : hc0 σ4 := by
    obtain ⟨⟨x1, x2, x3, x4, x5, x6⟩, x7, x8, ⟨y1, y2, y3, y4, y5, y6⟩⟩ := c2
    refine ⟨⟨?_, ?_, ?_, ?_, ?_, ?_⟩, fun k hk => ?_, fun b hb => ?_, ⟨?_, ?_, ?_, ?_, ?_, ?_⟩⟩
    · rw [(q4 7 0 (by omega) (by omega)).1]; exact x1
    · rw [(q4 7 1 (by omega) (by omega)).1]; exact x2
    · rw [(q4 7 11 (by omega) (by omega)).1]; exact x3
    · rw [(q4 7 12 (by omega) (by omega)).1]; exact x4
    · rw [(q4 7 21 (by omega) (by omega)).1]; exact x5
    · rw [(q4 7 25 (by omega) (by omega)).1]; exact x6
    · rw [(q4 70 k (by omega) (by omega)).1]; exact x7 k hk
    · rw [(q4 73 b (by omega) (by omega)).1]; exact x8 b hb
    · rw [(q4 57 0 (by omega) (by omega)).1]; exact y1
    · rw [(q4 58 0 (by omega) (by omega)).1]; exact y2
    · rw [(q4 59 0 (by omega) (by omega)).1]; exact y3
    · rw [(q4 60 0 (by omega) (by omega)).1]; exact y4
    · rw [(q4 61 0 (by omega) (by omega)).1]; exact y5
    · rw [(q4 65 0 (by omega) (by omega)).1]; exact y6
  have hp4 : hpR σ4 τ2 0 := hpR_0 hc4 (by rw [(p2 0 77 (by omega)).1]; exact e77) (by rw [(p2 0 88 (by omega)).1]; exact e88) (by rw [(p2 0 89 (by omega)).1]; exact e89) (fun i hi => by rw [(p2 52 i (by omega)).1]; exact e52 i hi) (fun i hi => by rw [(p2 53 i (by omega)).1]; exact e53 i hi) p40 p41
  have I0 : ldI 0 0 σ4 τ2 := ⟨sR4, fun s hs => by rw [k7] at hs; rw [k15 s (by omega)]; exact (f16 s (by omega)).2, ⟨by rw [t14, ← b14]; exact W1, fun s hs => by rw [tS s (by rw [b14] at W1; omega)]; exact W2 s hs⟩, fun k hk => (hasC _).2 (N1 k hk), ⟨(hasC _).2 N2, (hasC _).2 N3, (hasC _).2 N4⟩, hp4, ⟨by unfold lv; rw [hc4.1.2.2.1]; exact Int.le_refl _, by rw [k7, ← f7]; omega, by rw [k8]; omega⟩, hc4.2.2.2.1, fun o o1 o2 => (by omega)⟩
  obtain ⟨σ', τ3, x2, l1, l2, l3, l4, l5, l6, l7⟩ := ld_all I0
  obtain ⟨τ4, hτ4⟩ : ∃ t, t = lj_put (lj_put (lj_put (lj_put (lj_put (lj_put (lj_put (lj_put (lj_put (lj_put (lj_put τ3 0 111 0) 58 0 2) 59 0 0) 62 0 0) 63 0 0) 64 0 0) 65 0 0) 0 137 0) 0 130 0) 0 131 (-1)) 0 132 0 := ⟨_, rfl⟩
  have r4 : ∀ k j, ¬ (k = 0 ∧ (j = 111 ∨ 130 ≤ j ∧ j ≤ 132 ∨ j = 137)) → ¬ ((58 ≤ k ∧ k ≤ 59 ∨ 62 ≤ k ∧ k ≤ 65) ∧ j = 0) → τ4.1 k j = τ3.1 k j ∧ τ4.2 k j = τ3.2 k j := fun k j w1 w2 => ⟨by rw [hτ4, lj_put_1, if_neg (by omega), lj_put_1, if_neg (by omega), lj_put_1, if_neg (by omega), lj_put_1, if_neg (by omega), lj_put_1, if_neg (by omega), lj_put_1, if_neg (by omega), lj_put_1, if_neg (by omega), lj_put_1, if_neg (by omega), lj_put_1, if_neg (by omega), lj_put_1, if_neg (by omega), lj_put_1, if_neg (by omega)], by rw [hτ4]; rfl⟩
  have FC : lf lxC σ σ' := F4.tr (l4.mo (fun k j w => by unfold lxC at w; simp at w; exact w.1.1.2))
  have FM : lf lxM τ τ4 := by
    rw [hτ4]
    exact lf_put (lf_put (lf_put (lf_put (lf_put (lf_put (lf_put (lf_put (lf_put (lf_put (lf_put (M2.tr (l5.mo (fun k j w => by unfold lxM at w; simp at w; exact w.1.1.1.1.1.1.1.2))) _ _ _ rfl) _ _ _ rfl) _ _ _ rfl) _ _ _ rfl) _ _ _ rfl) _ _ _ rfl) _ _ _ rfl) _ _ _ rfl) _ _ _ rfl) _ _ _ rfl) _ _ _ rfl
  -- cells at the end
  have z4 : ∀ k j, ldD k j = false → σ'.1 k j = σ4.1 k j ∧ σ'.2 k j = σ4.2 k j := l4
  have z3 : ∀ k j, ldM k j = false → τ3.1 k j = τ2.1 k j ∧ τ3.2 k j = τ2.2 k j := l5
  obtain ⟨i1, i2, i3, i4, i5, i6, i7, i8, i9⟩ := l3
  have v7 : lv σ' 3 7 = (fx : Int) := by unfold lv at k7 ⊢; rw [(z4 3 7 rfl).1]; exact k7
  have v8 : lv σ' 3 8 = lv σ0 3 8 := by unfold lv at k8 ⊢; rw [(z4 3 8 rfl).1]; exact k8
  have v14 : lv τ4 0 14 = (bs : Int) := by unfold lv at t14 ⊢; rw [(r4 0 14 (by omega) (by omega)).1, (z3 0 14 rfl).1]; exact t14
  have v08 : lv τ4 0 8 = lv τ0 0 8 := by unfold lv at t8 ⊢; rw [(r4 0 8 (by omega) (by omega)).1, (z3 0 8 rfl).1]; exact t8
  have vS : ∀ s, s < fx → cS σ' s = cS σ0 s := fun s hs => by rw [cS_cong (fun j => (z4 9 j rfl).1) (fun j => (z4 10 j rfl).1) (fun j => (z4 11 j rfl).1) s]; exact kS s hs
  have vM : ∀ s, s < bs → mS τ4 s = mS τ0 s := fun s hs => by rw [mS_cong (fun j => (r4 2 j (by omega) (by omega)).1) (fun j => (r4 3 j (by omega) (by omega)).1) (fun j => (r4 4 j (by omega) (by omega)).1) s, mS_cong (fun j => (z3 2 j rfl).1) (fun j => (z3 3 j rfl).1) (fun j => (z3 4 j rfl).1) s]; exact tS s hs
  have sR' : sR σ' τ4 (fun _ => False) := i1.cg (fun _ _ _ => rfl) (fun k j w => (r4 k j (by unfold sqM at w; simp at w; omega) (by unfold sqM at w; simp at w; omega)).1)
  have hp' : hpR σ' τ4 3 := i6.cg (fun _ _ _ => ⟨rfl, rfl⟩) (fun k j w => r4 k j (by unfold hqM vqM at w; simp at w; omega) (by unfold hqM vqM at w; simp at w; omega))
  have sG' : sG σ0 τ0 σ' τ4 := ⟨by rw [v7, f7]; exact Int.le_refl _, by rw [v14, b14]; exact Int.le_refl _, fun t ht => vS t (by rw [f7] at ht; omega), fun t ht => vM t (by rw [b14] at ht; omega)⟩
  have c13 : lv σ' 3 13 = 0 := by unfold lv; rw [(z4 3 13 rfl).1, sC 3 13 rfl, a6.1]; rfl
  have c14 : lv σ' 3 14 = 0 := by unfold lv; rw [(z4 3 14 rfl).1, sC 3 14 rfl, a6.2]; rfl
  have m17 : lv τ4 0 17 = 0 := by unfold lv; rw [(r4 0 17 (by omega) (by omega)).1, (z3 0 17 rfl).1, sMM 0 17 rfl, e17]; rfl
  have m18 : lv τ4 0 18 = 0 := by unfold lv; rw [(r4 0 18 (by omega) (by omega)).1, (z3 0 18 rfl).1, sMM 0 18 rfl, e18]; rfl
  have sM' : sM σ' τ4 := ⟨sR', ⟨by rw [c13, m17], by rw [c14, m18], by rw [c13]; exact Int.le_refl _, by rw [c13]; decide, by rw [c14]; exact Int.le_refl _, by rw [c14]; decide⟩, ⟨by rw [v7, c13, ← f7]; omega, by rw [v8, c14]; omega, by rw [v14, m17, ← b14]; omega, by rw [v08, m18]; omega⟩, fun s hs => by rw [v7] at hs; rw [vS s (by omega)]; exact LC s (by rw [f7]; omega), fun s hs => by rw [v14] at hs; rw [vM s (by omega)]; exact LM s (by rw [b14]; omega), by rw [v14, ← b14]; exact W1, fun s hs => by rw [vM s (by rw [b14] at W1; omega)]; exact W2 s hs⟩
  have g8 : ∀ j, ldD 8 j = false := fun j => rfl
  have c8 : ∀ j, σ'.1 8 j = (cLd σ2).1 8 j := fun j => by rw [(z4 8 j (g8 j)).1, (q8 j).1]
  have hcl := hc4
  refine ⟨σ', τ4, ?_, ?_, ⟨⟨⟨fun k j q => ?_, fun k j q => ?_⟩, sM', ?_, hp', ⟨?_, fun o o1 o2 => ?_⟩, ⟨?_, ?_, fun i i1 i2 => ?_⟩, sG'⟩, fun o o1 o2 => ?_, ⟨?_, ?_, ?_, i8, ?_, ?_, ?_, ?_, ?_, ?_, ?_, fun i => ?_⟩, ?_⟩, FC, FM, v7, v14⟩
  · rw [rc_126, kc_126_0, a1, bv_ok, c1, bv_ok, show (0 : Int32) = Int32.ofNat 0 from rfl]
    exact d1.trans (by rw [← l1]; rfl)
  · have i21 : lj_in 2001 2002 := by decide
    have i026 : lj_in 0 26 := by decide
    rw [rm_105, km_105_0, e1, bv_ok, if_pos i21, if_pos i21, if_pos i21, show (2001 : Int32).toNatClampNeg = 2001 from rfl, ← hτ2, l2, km_105_158, if_pos (by decide), if_pos i026, if_pos i026, if_pos i026, if_pos i026, if_pos i026, if_pos i026, rm_112, km_112_0, bv_ok, hτ4]
    rfl
  · exact ⟨(FC k j (by unfold cdC at q; unfold lxC bkS hcS ldD ldC cAd hwC; simp at q ⊢; omega)).1.trans (hcd.1 k j q).1, (FC k j (by unfold cdC at q; unfold lxC bkS hcS ldD ldC cAd hwC; simp at q ⊢; omega)).2.trans (hcd.1 k j q).2⟩
  · exact ⟨(FM k j (by unfold cdM at q; unfold lxM fgMx ldM hwM; simp at q ⊢; omega)).1.trans (hcd.2 k j q).1, (FM k j (by unfold cdM at q; unfold lxM fgMx ldM hwM; simp at q ⊢; omega)).2.trans (hcd.2 k j q).2⟩
  · refine ⟨fun k hk => ?_, ?_, ?_⟩
    · rw [(FC 78 k rfl).1, h78 k hk]; exact (s5.1 k hk).up sG'
    · rw [(FC 8 1 rfl).1, h81]; exact s5.2.1.up sG'
    · rw [(FC 8 3 rfl).1, h83]; exact s5.2.2.up sG'
  · rw [l7]; exact hc4.2.2.2.2.1
  · obtain ⟨y1, y2⟩ := i9 o o1 o2
    obtain ⟨y3, y4, y5, y6⟩ := l6 o o1 o2
    have y2' : τ4.1 38 o = 4 := by rw [(r4 38 o (by omega) (by omega)).1]; exact y2
    exact ⟨⟨by rw [y1, y2'], Or.inr (Or.inl y1)⟩, fun _ => Or.inl ⟨y3, by rw [(r4 39 o (by omega) (by omega)).1]; exact y4⟩, fun w => absurd (y1.symm.trans w) (by decide), fun w => absurd (y1.symm.trans w) (by decide)⟩
  · rw [c8, (r4 0 150 (by omega) (by omega)).1, (z3 0 150 rfl).1, (p2 0 150 (by omega)).1, e150]; unfold cLd; simp [lj_put_1, lj_putL_1]
  · unfold lv; rw [c8]; unfold cLd; simp [lj_put_1, lj_putL_1]
  · exfalso
    have : (σ'.1 8 50).toInt = 0 := by rw [c8]; unfold cLd; simp [lj_put_1, lj_putL_1]
    unfold lv at i2
    omega
  · obtain ⟨y1, y2⟩ := i9 o o1 o2
    obtain ⟨y3, y4, y5, y6⟩ := l6 o o1 o2
    exact ⟨y1, by rw [(r4 38 o (by omega) (by omega)).1]; exact y2, y5, by rw [(r4 42 o (by omega) (by omega)).2]; exact y6⟩
  · rw [(z4 7 1 rfl).1]; exact hc4.1.2.1
  · rw [(z4 7 21 rfl).1]; exact hc4.1.2.2.2.2.1
  · rw [(z4 7 25 rfl).1]; exact hc4.1.2.2.2.2.2
  · rw [c8]; unfold cLd; simp [lj_put_1, lj_putL_1]
  · rw [c8]; unfold cLd; simp [lj_put_1, lj_putL_1]
  · rw [c8]; unfold cLd; simp [lj_put_1, lj_putL_1]
  · rw [c8]; unfold cLd; simp [lj_put_1, lj_putL_1]
  · rw [c8]; unfold cLd; simp [lj_put_1, lj_putL_1]
  · rw [c8]; unfold cLd; simp [lj_put_1, lj_putL_1]
  · rw [(z4 8 44 rfl).2, (q8 44).2]; unfold cLd; simp [lj_put_2, lj_putL_2]
  · rw [(FC 102 i rfl).1]; exact h102 i
  · have y0 : ∀ j, ldM 0 j = false → ¬ (j = 111 ∨ 130 ≤ j ∧ j ≤ 132 ∨ j = 137) → τ4.1 0 j = τ1.1 0 j ∧ τ4.2 0 j = τ1.2 0 j := fun j w1 w2 => by rw [(r4 0 j (by omega) (by omega)).1, (r4 0 j (by omega) (by omega)).2, (z3 0 j w1).1, (z3 0 j w1).2, (p2 0 j (by omega)).1, (p2 0 j (by omega)).2]; exact ⟨rfl, rfl⟩
    refine ⟨?_, ?_, ?_, ?_, ?_, ?_, ?_, ?_, ?_, ?_, ?_, ?_, ?_, ?_, ?_, ?_, ?_, fun i hi => ?_⟩
    · rw [(y0 110 rfl (by omega)).1]; exact e110
    · rw [hτ4]; simp [lj_put_1]
    · rw [hτ4]; simp [lj_put_1]
    · rw [hτ4]; simp [lj_put_1]
    · rw [hτ4]; simp [lj_put_1]
    · rw [hτ4]; simp [lj_put_1]
    · rw [hτ4]; simp [lj_put_1]
    · rw [hτ4]; simp [lj_put_1]
    · rw [hτ4]; simp [lj_put_1]
    · rw [hτ4]; simp [lj_put_1]
    · rw [hτ4]; simp [lj_put_1]
    · rw [(y0 143 rfl (by omega)).1]; exact e143
    · rw [(y0 145 rfl (by omega)).2]; exact e145
    · rw [(y0 152 rfl (by omega)).1]; exact e152
    · rw [(y0 153 rfl (by omega)).1]; exact e153
    · rw [(y0 78 rfl (by omega)).2]; exact e78
    · rw [(y0 96 rfl (by omega)).1]; exact e96
    · rw [(r4 57 i (by omega) (by omega)).1, (z3 57 i rfl).1, (p2 57 i (by omega)).1]; exact e57 i hi
