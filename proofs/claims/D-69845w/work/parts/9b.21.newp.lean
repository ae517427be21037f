/-! what is built in: a new part -/
theorem bi_26 {σ0 τ0 σ τ : lj_S} {n np p : Nat} {r : List Nat} {FP : Nat → List kF} {ρ : Nat → Nat} {A MO LA : List Nat} {M : Nat} (D : DLV σ0 τ0 M) (h : MB σ0 τ0 n np p r FP ρ A MO LA σ τ) (ry : ryR σ τ) (hwk : wkR FP (p :: r) A σ) {as line : Int32} (ht : τ.1 0 129 = 1) (ha : awR σ0 (FP p) as (τ.1 0 130) (τ.1 0 131)) (hln : τ.1 0 132 = line) {G G' : List vT} (hG : gwR σ τ G G') (hGl : G.length ≤ 49) (hM : thM FP (p :: r) MO LA + 5001 ≤ M) {X : Nat} (hX : X ≤ TH) (hT : thM FP (p :: r) MO LA + 5001 ≤ X) : ∃ τ1, lj_R lm_P 187 [.ref 0, .int 26] τ = some (.inl none, τ1) ∧ ocR σ0 τ0 A (fun t => t ≤ X) σ τ1 (lj_R lc_P 159 [.ref 8, .int 26, .int as, .int line] σ) := by
  have c0 := hG.c0 hGl
  have m1 := hG.m1 hGl
  have hv := hG.v 0
  have rC : ∀ {x : Option lj_O}, lj_bi (lj_R lc_P 163 [.ref 8, .int 0] σ) (fun y22 σ21 => (if y22 = 5 then lj_D lc_P lc_M187 560 [.ref 8, .int 26, .int as, .int line, .retAddr 0, .retAddr 0, .retAddr 0, .retAddr 0, .retAddr 0, .retAddr 0] [.int 1, .ref 8] σ21 else lj_D lc_P lc_M187 560 [.ref 8, .int 26, .int as, .int line, .retAddr 0, .retAddr 0, .retAddr 0, .retAddr 0, .retAddr 0, .retAddr 0] [.int 0, .ref 8] σ21)) lj_up = x → lj_R lc_P 159 [.ref 8, .int 26, .int as, .int line] σ = finC x := fun e => by
    rw [cb_more (by decide) (by decide), rc_187, kc_187_0, if_neg (by decide), if_neg (by decide), if_neg (by decide), if_neg (by decide), if_neg (by decide), if_neg (by decide), if_neg (by decide), if_neg (by decide), if_neg (by decide), if_pos rfl, e]
  have rM : ∀ {τx : lj_S}, lj_R lm_P 231 [.ref 0] τ = some (.inl none, τx) → lj_R lm_P 187 [.ref 0, .int 26] τ = some (.inl none, τx) := fun e => mb_more (by decide) (by rw [rm_221, km_221_0, if_neg (by decide), if_neg (by decide), if_neg (by decide), if_neg (by decide), if_neg (by decide), if_neg (by decide), if_neg (by decide), if_neg (by decide), if_neg (by decide), if_pos rfl, e, bv_ok, km_221_215])
  by_cases z5 : (G.getD 0 (0, 0)).1 = 5
  · have m140 : lj_R lm_P 140 [.int (G'.getD 0 (0, 0)).1] τ = some (.inl (some (.int 1)), τ) := by
      rw [rm_140, km_140_0]
      rcases hv.kf.1 z5 with z | z
      · rw [if_pos z, km_140_11, km_140_16]; rfl
      · rw [if_neg (by rw [z]; decide), if_pos z, km_140_11, km_140_16]; rfl
    obtain ⟨⟨a1, a2, a3⟩, _⟩ := h.2.2.2.2.2.2.1
    have headC : ∀ {x : Option lj_O}, (if σ.1 7 1 = 25 then lj_br (lj_R lc_P 20 [.ref 2, .int 1] σ) (fun y8 σ7 => (bif Nat.blt y8 2000 then lj_up y8 σ7 else none)) lj_up else lj_bi (lj_R lc_P 116 [.ref 7, .int 6] σ) (fun y3 σ2 => (if lj_in y3 2001 then (if lj_in ((σ2.1 7 1) + 1) 26 then (if lj_in ((σ2.1 7 1) + 1) 26 then (if lj_in ((σ2.1 7 1) + 1) 26 then lj_bl (lj_R lc_P 165 [.ref 8, .int 0] (lj_put (lj_put (lj_put (lj_put (lj_put σ2 7 1 ((σ2.1 7 1) + 1)) 64 y3.toNatClampNeg ((σ2.1 7 1) + 1)) 85 (((σ2.1 7 1) + 1).toNatClampNeg) y3) 83 (((σ2.1 7 1) + 1).toNatClampNeg) 0) 88 (((σ2.1 7 1) + 1).toNatClampNeg) 5)) (fun y5 σ4 => (if lj_in ((σ2.1 7 1) + 1) 26 then (if lj_in ((σ2.1 7 1) + 1) 26 then (if lj_in ((σ2.1 7 1) + 1) 26 then lj_bv (lj_R lc_P 164 [.ref 8, .int 26, .int 6, .long ((y3 : Int32).toInt64), .int as] (lj_put (lj_put (lj_putL σ4 89 (((σ2.1 7 1) + 1).toNatClampNeg) y5) 82 (((σ2.1 7 1) + 1).toNatClampNeg) (((σ2.1 7 1) + 1) * 12500)) 90 (((σ2.1 7 1) + 1).toNatClampNeg) 0)) (fun σ6 => lj_D lc_P lc_M187 919 [.ref 8, .int 26, .int as, .int line, .int y3, .int ((σ2.1 7 1) + 1), .retAddr 0, .retAddr 0, .retAddr 0, .retAddr 0] [] σ6) lj_up else none) else none) else none)) lj_up else none) else none) else none) else none)) lj_up) = x → lj_R lc_P 159 [.ref 8, .int 26, .int as, .int line] σ = finC x := fun e => rC (by rw [c0.1, bi_ok, if_pos z5, kc_187_560, nd_ok _ (by decide), bv_ok]; exact e)
    by_cases full : np = 25
    · have s71 : σ.1 7 1 = 25 := by rw [a1, full]; rfl
      have t110 : τ.1 0 110 = 25 := by rw [a2, full]; rfl
      refine ⟨lj_put τ 0 143 4, rM ?_, ?_⟩
      · rw [rm_231, km_231_0, m1.1, bi_ok, m140, bi_ok, if_neg (by decide), if_pos t110]
      · have e20 : lj_br (lj_R lc_P 20 [.ref 2, .int 1] σ) (fun y8 σ7 => (bif Nat.blt y8 2000 then lj_up y8 σ7 else none)) lj_up = some (.inr 2, lj_put σ 2 6 1) := by
          rw [rc_20, kc_20_0, if_pos (Or.inr rfl), br_ok]
          rfl
        rw [headC (by rw [if_pos s71, e20])]
        exact (bi_nr0 ry hwk h (lf_rf _ _) (lf_rf _ _) (by omega)).fin
    · have s71 : ¬ (σ.1 7 1 = 25) := fun y => full ((ofN_eq (c := 25) (by omega) (by omega)).1 (by rw [← a1]; exact y))
      have t110 : ¬ (τ.1 0 110 = 25) := fun y => full ((ofN_eq (c := 25) (by omega) (by omega)).1 (by rw [← a2]; exact y))
      rcases cm_object h.2.2.2.1 6 with ⟨z, x1, x2⟩ | ⟨z, x1, x2, x3, x4, x5⟩
      · refine ⟨lj_put τ 0 143 4, rM ?_, ?_⟩
        · rw [rm_231, km_231_0, m1.1, bi_ok, m140, bi_ok, if_neg (by decide), if_neg t110, x2, bi_ok, if_pos rfl]
        · rw [headC (by rw [if_neg s71, x1, bi_th])]
          exact (bi_nr0 ry hwk h (lf_rf _ _) (lf_rf _ _) (by omega)).fin
      · obtain ⟨σ2, hσ2⟩ : ∃ s, s = cOb σ (n + 1) 6 := ⟨_, rfl⟩
        obtain ⟨τ2, hτ2⟩ : ∃ s, s = mOb τ (n + 1) 6 := ⟨_, rfl⟩
        rw [← hσ2] at x1 x3 x4 x5
        rw [← hτ2] at x2 x3 x4 x5
        have oC : ∀ k j, ¬ (k = 7 ∧ j = 0) → ¬ ((57 ≤ k ∧ k ≤ 61 ∨ k = 65) ∧ j = n + 1) → σ2.1 k j = σ.1 k j := fun k j w1 w2 => by
          rw [hσ2, cOb_1]; repeat rw [if_neg (by omega)]
        have oC2 : ∀ k j, σ2.2 k j = σ.2 k j := fun k j => by rw [hσ2, cOb_2]
        have oM : ∀ k j, ¬ (k = 0 ∧ j = 77) → ¬ ((38 ≤ k ∧ k ≤ 41) ∧ j = n + 1) → τ2.1 k j = τ.1 k j := fun k j w1 w2 => by
          rw [hτ2, mOb_1]; repeat rw [if_neg (by omega)]
        have oM2 : ∀ k j, ¬ (k = 42 ∧ j = n + 1) → τ2.2 k j = τ.2 k j := fun k j w => by rw [hτ2, mOb_2, if_neg w]
        have n71 : σ2.1 7 1 + 1 = Int32.ofNat (np + 1) := by rw [oC 7 1 (by omega) (by omega), a1, lz_osucc]
        have n110 : τ2.1 0 110 + 1 = Int32.ofNat (np + 1) := by rw [oM 0 110 (by omega) (by omega), a2, lz_osucc]
        have iq : lj_in (Int32.ofNat (np + 1)) 26 := ofN_in (by omega) (by omega)
        have nq : (Int32.ofNat (np + 1)).toNatClampNeg = np + 1 := lz_onat (by omega)
        have io : lj_in (Int32.ofNat (n + 1)) 2001 := ofN_in (by omega) (by omega)
        have io' : lj_in (Int32.ofNat (n + 1)) 2002 := ofN_in (by omega) (by omega)
        have no : (Int32.ofNat (n + 1)).toNatClampNeg = n + 1 := lz_onat (by omega)
        have nz : ¬ (Int32.ofNat (n + 1) = 0) := fun y => by
          have := (ofN_eq (a := n + 1) (c := 0) (by omega) (by omega)).1 y
          omega
        have mul : Int32.ofNat (np + 1) * 12500 = Int32.ofNat (12500 * (np + 1)) := by
          rw [show (12500 : Int32) = Int32.ofNat 12500 from rfl, ← Int32.ofNat_mul, Nat.mul_comm]
        -- the component
        obtain ⟨σ3, hσ3⟩ : ∃ s, s = lj_put (lj_put (lj_put (lj_put (lj_put σ2 7 1 (Int32.ofNat (np + 1))) 64 (n + 1) (Int32.ofNat (np + 1))) 85 (np + 1) (Int32.ofNat (n + 1))) 83 (np + 1) 0) 88 (np + 1) 5 := ⟨_, rfl⟩
        have p3 : ∀ k j, ¬ (k = 7 ∧ j = 1) → ¬ (k = 64 ∧ j = n + 1) → ¬ ((k = 85 ∨ k = 83 ∨ k = 88) ∧ j = np + 1) → σ3.1 k j = σ2.1 k j := fun k j w1 w2 w3 => by
          rw [hσ3, lj_put_1, if_neg (by omega), lj_put_1, if_neg (by omega), lj_put_1, if_neg (by omega), lj_put_1, if_neg (by omega), lj_put_1, if_neg (by omega)]
        have g3 : gvC σ3 G := ⟨by unfold lv; rw [p3 8 38 (by omega) (by omega) (by omega), oC 8 38 (by omega) (by omega)]; exact hG.1.1, fun j hj => by rw [p3 105 j (by omega) (by omega) (by omega), oC 105 j (by omega) (by omega), show σ3.2 106 j = σ2.2 106 j by rw [hσ3]; rfl, oC2]; exact hG.1.2 j hj⟩
        have v3 := c_valueOf g3 (by omega) (i := 0) (by omega)
        have v3 : lj_R lc_P 165 [.ref 8, .int 0] σ3 = some (.inl (some (.long (G.getD 0 (0, 0)).2)), σ3) := v3
        obtain ⟨σ', hσ'⟩ : ∃ s, s = lj_put (lj_put (lj_putL σ3 89 (np + 1) (G.getD 0 (0, 0)).2) 82 (np + 1) (Int32.ofNat (12500 * (np + 1)))) 90 (np + 1) 0 := ⟨_, rfl⟩
        have p4 : ∀ k j, ¬ ((k = 82 ∨ k = 90) ∧ j = np + 1) → σ'.1 k j = σ3.1 k j := fun k j w => by
          rw [hσ', lj_put_1, if_neg (by omega), lj_put_1, if_neg (by omega), lj_putL_1]
        have f : ∀ a j, ¬ (a = 7 ∧ (j = 0 ∨ j = 1)) → ¬ ((57 ≤ a ∧ a ≤ 61 ∨ a = 64 ∨ a = 65) ∧ j = n + 1) → ¬ ((a = 82 ∨ a = 83 ∨ a = 85 ∨ a = 88 ∨ a = 90) ∧ j = np + 1) → σ'.1 a j = σ.1 a j := fun a j w1 w2 w3 => by rw [p4 a j (by omega), p3 a j (by omega) (by omega) (by omega), oC a j (by omega) (by omega)]
        have f2 : ∀ a j, ¬ (a = 89 ∧ j = np + 1) → σ'.2 a j = σ.2 a j := fun a j w => by
          rw [hσ']
          show (lj_putL σ3 89 (np + 1) (G.getD 0 (0, 0)).2).2 a j = _
          rw [lj_putL_2, if_neg w, ← oC2 a j, hσ3]
          rfl
        have c89 : σ'.2 89 (np + 1) = (G.getD 0 (0, 0)).2 := by
          rw [hσ']
          show (lj_putL σ3 89 (np + 1) (G.getD 0 (0, 0)).2).2 89 (np + 1) = _
          rw [lj_putL_2, if_pos ⟨rfl, rfl⟩]
        -- the model
        obtain ⟨τ3, hτ3⟩ : ∃ s, s = lj_put (lj_put (lj_put (lj_put τ2 0 110 (Int32.ofNat (np + 1))) 43 (n + 1) (Int32.ofNat (np + 1))) 59 (np + 1) (Int32.ofNat (n + 1))) 58 (np + 1) 0 := ⟨_, rfl⟩
        have r3 : ∀ k j, ¬ (k = 0 ∧ j = 110) → ¬ (k = 43 ∧ j = n + 1) → ¬ ((k = 59 ∨ k = 58) ∧ j = np + 1) → τ3.1 k j = τ2.1 k j := fun k j w1 w2 w3 => by
          rw [hτ3, lj_put_1, if_neg (by omega), lj_put_1, if_neg (by omega), lj_put_1, if_neg (by omega), lj_put_1, if_neg (by omega)]
        have h3 : gvM τ3 G' := ⟨by unfold lv; rw [r3 0 137 (by omega) (by omega) (by omega), oM 0 137 (by omega) (by omega)]; exact hG.2.1.1, fun j hj => by rw [r3 88 j (by omega) (by omega) (by omega), oM 88 j (by omega) (by omega), show τ3.2 89 j = τ2.2 89 j by rw [hτ3]; rfl, oM2 89 j (by omega)]; exact hG.2.1.2 j hj⟩
        have gl' : G'.length ≤ 128 := by rw [← hG.2.2.1]; omega
        have k3 := m_ak h3 gl' (i := 0) (by omega)
        have k3 : lj_R lm_P 190 [.ref 0, .int 1] τ3 = some (.inl (some (.int (G'.getD 0 (0, 0)).1)), τ3) := k3
        have h4 : gvM (lj_put τ3 60 (np + 1) (G'.getD 0 (0, 0)).1) G' := ⟨by unfold lv; rw [lj_put_1, if_neg (by omega)]; exact h3.1, fun j hj => by rw [lj_put_1, if_neg (by omega)]; exact h3.2 j hj⟩
        have k4 := m_an h4 gl' (i := 0) (by omega)
        have k4 : lj_R lm_P 191 [.ref 0, .int 1] (lj_put τ3 60 (np + 1) (G'.getD 0 (0, 0)).1) = some (.inl (some (.long (G'.getD 0 (0, 0)).2)), lj_put τ3 60 (np + 1) (G'.getD 0 (0, 0)).1) := k4
        have t3 : τ3.1 0 110 = Int32.ofNat (np + 1) := by rw [hτ3]; exact (by simp [lj_put_1, lj_putL_1])
        have t4 : (lj_put τ3 60 (np + 1) (G'.getD 0 (0, 0)).1).1 0 110 = Int32.ofNat (np + 1) := by rw [lj_put_1, if_neg (by omega)]; exact t3
        obtain ⟨τ', hτ'⟩ : ∃ s, s = lj_put (lj_put (lj_put (lj_put (lj_putL (lj_put τ3 60 (np + 1) (G'.getD 0 (0, 0)).1) 61 (np + 1) (G'.getD 0 (0, 0)).2) 62 (np + 1) 0) 63 (np + 1) 0) 64 (np + 1) 0) 65 (np + 1) 0 := ⟨_, rfl⟩
        have r4 : ∀ k j, ¬ ((60 ≤ k ∧ k ≤ 65) ∧ j = np + 1) → τ'.1 k j = τ3.1 k j := fun k j w => by
          rw [hτ', lj_put_1, if_neg (by omega), lj_put_1, if_neg (by omega), lj_put_1, if_neg (by omega), lj_put_1, if_neg (by omega), lj_putL_1, lj_put_1, if_neg (by omega)]
        have g : ∀ a j, ¬ (a = 0 ∧ (j = 77 ∨ j = 110)) → ¬ ((38 ≤ a ∧ a ≤ 43) ∧ j = n + 1) → ¬ ((58 ≤ a ∧ a ≤ 65) ∧ j = np + 1) → τ'.1 a j = τ.1 a j := fun a j w1 w2 w3 => by rw [r4 a j (by omega), r3 a j (by omega) (by omega) (by omega), oM a j (by omega) (by omega)]
        have g2 : ∀ a j, ¬ (a = 42 ∧ j = n + 1) → ¬ (a = 61 ∧ j = np + 1) → τ'.2 a j = τ.2 a j := fun a j w1 w2 => by
          rw [hτ']
          show (lj_putL (lj_put τ3 60 (np + 1) (G'.getD 0 (0, 0)).1) 61 (np + 1) (G'.getD 0 (0, 0)).2).2 a j = _
          rw [lj_putL_2, if_neg w2, ← oM2 a j w1, hτ3]
          rfl
        have t61 : τ'.2 61 (np + 1) = (G'.getD 0 (0, 0)).2 := by
          rw [hτ']
          show (lj_putL (lj_put τ3 60 (np + 1) (G'.getD 0 (0, 0)).1) 61 (np + 1) (G'.getD 0 (0, 0)).2).2 61 (np + 1) = _
          rw [lj_putL_2, if_pos ⟨rfl, rfl⟩]
        have t60 : τ'.1 60 (np + 1) = (G'.getD 0 (0, 0)).1 := by rw [hτ']; exact (by simp [lj_put_1, lj_putL_1])
        -- both are related
        have sC : ∀ k j, ¬ (k = 7 ∧ j = 1) → k ≠ 64 → ¬ (82 ≤ k ∧ k ≤ 90) → σ'.1 k j = σ2.1 k j := fun k j w1 w2 w3 => by rw [p4 k j (by omega), p3 k j (by omega) (by omega) (by omega)]
        have sC2 : ∀ k j, k ≠ 89 → σ'.2 k j = σ2.2 k j := fun k j w => by rw [f2 k j (by omega), oC2]
        have sM : ∀ k j, ¬ (k = 0 ∧ j = 110) → k ≠ 43 → ¬ (58 ≤ k ∧ k ≤ 65) → τ'.1 k j = τ2.1 k j := fun k j w1 w2 w3 => by rw [r4 k j (by omega), r3 k j (by omega) (by omega) (by omega)]
        have sM2 : ∀ k j, k ≠ 42 → k ≠ 61 → τ'.2 k j = τ2.2 k j := fun k j w1 w2 => by rw [g2 k j (by omega) (by omega), oM2 k j (by omega)]
        have vC : ∀ k j, vqC k j = true → σ'.1 k j = σ2.1 k j := fun k j q => sC k j (by unfold vqC at q; simp at q; omega) (by unfold vqC at q; simp at q; omega) (by unfold vqC at q; simp at q; omega)
        have vM : ∀ k j, vqM k j = true → τ'.1 k j = τ2.1 k j := fun k j q => sM k j (by unfold vqM at q; simp at q; omega) (by unfold vqM at q; simp at q; omega) (by unfold vqM at q; simp at q; omega)
        have hG' := x4.tr (sG_eq vC vM)
        have hO' := x5.tr (oG_eq vC vM)
        have ghp : hpR σ' τ' (n + 1) := x3.cg (fun k j q => ⟨sC k j (by unfold hqC vqC at q; simp at q; omega) (by unfold hqC vqC at q; simp at q; omega) (by unfold hqC vqC at q; simp at q; omega), sC2 k j (by unfold hqC vqC at q; simp at q; omega)⟩) (fun k j q => ⟨sM k j (by unfold hqM vqM at q; simp at q; omega) (by unfold hqM vqM at q; simp at q; omega) (by unfold hqM vqM at q; simp at q; omega), sM2 k j (by unfold hqM vqM at q; simp at q; omega) (by unfold hqM vqM at q; simp at q; omega)⟩)
        have gv : vR σ' τ' (5, σ'.2 89 (np + 1)) (τ'.1 60 (np + 1), τ'.2 61 (np + 1)) := by
          rw [c89, t60, t61, ← z5]
          exact hv.up hG' hO'
        obtain ⟨y1, y2⟩ := h.newp z (by omega) f f2 g g2 (by rw [p4 7 1 (by omega), hσ3]; exact (by simp [lj_put_1, lj_putL_1])) (by rw [sC 57 _ (by omega) (by omega) (by omega), hσ2, cOb_1, if_pos ⟨rfl, rfl⟩]) (by rw [p4 64 _ (by omega), hσ3]; exact (by simp [lj_put_1, lj_putL_1])) (by rw [p4 85 _ (by omega), hσ3]; exact (by simp [lj_put_1, lj_putL_1])) (by rw [p4 83 _ (by omega), hσ3]; exact (by simp [lj_put_1, lj_putL_1])) (by rw [p4 88 _ (by omega), hσ3]; exact (by simp [lj_put_1, lj_putL_1])) (by rw [hσ']; exact (by simp [lj_put_1, lj_putL_1])) (by rw [hσ']; exact (by simp [lj_put_1, lj_putL_1])) (by rw [sC 65 _ (by omega) (by omega) (by omega), hσ2, cOb_1, if_neg (by omega), if_pos ⟨rfl, rfl⟩]) (by rw [r4 0 110 (by omega)]; exact t3) (by rw [sM 38 _ (by omega) (by omega) (by omega), hτ2, mOb_1, if_neg (by omega), if_neg (by omega), if_neg (by omega), if_pos ⟨rfl, rfl⟩]) (by rw [r4 43 _ (by omega), hτ3]; exact (by simp [lj_put_1, lj_putL_1])) (by rw [r4 59 _ (by omega), hτ3]; exact (by simp [lj_put_1, lj_putL_1])) (by rw [r4 58 _ (by omega), hτ3]; exact (by simp [lj_put_1, lj_putL_1])) (by rw [hτ']; exact (by simp [lj_put_1, lj_putL_1])) (by rw [hτ']; exact (by simp [lj_put_1, lj_putL_1])) (by rw [hτ']; exact (by simp [lj_put_1, lj_putL_1])) (by rw [hτ']; exact (by simp [lj_put_1, lj_putL_1])) (by rw [hτ']; show (lj_putL (lj_put τ3 60 (np + 1) (G'.getD 0 (0, 0)).1) 61 (np + 1) (G'.getD 0 (0, 0)).2).2 42 (n + 1) = 0; rw [lj_putL_2, if_neg (by omega), hτ3, hτ2]; show (mOb τ (n + 1) 6).2 42 (n + 1) = 0; rw [mOb_2, if_pos ⟨rfl, rfl⟩]) gv ghp hG' hO'
        have bC : lf bfC σ σ' := fun k j q => ⟨f k j (by unfold bfC at q; simp at q; omega) (by unfold bfC at q; simp at q; omega) (by unfold bfC at q; simp at q; omega), f2 k j (by unfold bfC at q; simp at q; omega)⟩
        have bM : lf bfM τ τ' := fun k j q => ⟨g k j (by unfold bfM at q; simp at q; omega) (by unfold bfM at q; simp at q; omega) (by unfold bfM at q; simp at q; omega), g2 k j (by unfold bfM at q; simp at q; omega) (by unfold bfM at q; simp at q; omega)⟩
        obtain ⟨τ5, u1, u2⟩ := bi_one D ry hwk ha y1 bC bM (vR_ob (Or.inr (Or.inr rfl)) y2) (by omega) (by omega) hX 26
        have u1 : lj_R lm_P 195 [.ref 0, .int 6, .long (Int32.ofNat (n + 1)).toInt64] τ' = some (.inl none, τ5) := u1
        have k3' : lj_R lm_P 190 [.ref 0, .int 1] (lj_put (lj_put (lj_put (lj_put τ2 0 110 (Int32.ofNat (np + 1))) 43 (Int32.ofNat (n + 1)).toNatClampNeg (Int32.ofNat (np + 1))) 59 (Int32.ofNat (np + 1)).toNatClampNeg (Int32.ofNat (n + 1))) 58 (Int32.ofNat (np + 1)).toNatClampNeg 0) = some (.inl (some (.int (G'.getD 0 (0, 0)).1)), τ3) := by rw [nq, no, ← hτ3]; exact k3
        have k4' : lj_R lm_P 191 [.ref 0, .int 1] (lj_put τ3 60 (Int32.ofNat (np + 1)).toNatClampNeg (G'.getD 0 (0, 0)).1) = some (.inl (some (.long (G'.getD 0 (0, 0)).2)), lj_put τ3 60 (np + 1) (G'.getD 0 (0, 0)).1) := by rw [nq]; exact k4
        have v3' : lj_R lc_P 165 [.ref 8, .int 0] (lj_put (lj_put (lj_put (lj_put (lj_put σ2 7 1 (Int32.ofNat (np + 1))) 64 (Int32.ofNat (n + 1)).toNatClampNeg (Int32.ofNat (np + 1))) 85 (Int32.ofNat (np + 1)).toNatClampNeg (Int32.ofNat (n + 1))) 83 (Int32.ofNat (np + 1)).toNatClampNeg 0) 88 (Int32.ofNat (np + 1)).toNatClampNeg 5) = some (.inl (some (.long (G.getD 0 (0, 0)).2)), σ3) := by rw [nq, no, ← hσ3]; exact v3
        refine ⟨τ5, rM ?_, ?_⟩
        · rw [rm_231, km_231_0, m1.1, bi_ok, m140, bi_ok, if_neg (by decide), if_neg t110, x2, bi_ok, if_neg nz, if_pos io', n110, if_pos iq, if_pos iq, k3', bi_ok, if_pos iq, k4', bl_ok, t3, if_pos iq, t4, if_pos iq, if_pos iq, if_pos iq, if_pos iq, nq, ← hτ', u1, bv_ok]
        · have run : (if σ.1 7 1 = 25 then lj_br (lj_R lc_P 20 [.ref 2, .int 1] σ) (fun y8 σ7 => (bif Nat.blt y8 2000 then lj_up y8 σ7 else none)) lj_up else lj_bi (lj_R lc_P 116 [.ref 7, .int 6] σ) (fun y3 σ2 => (if lj_in y3 2001 then (if lj_in ((σ2.1 7 1) + 1) 26 then (if lj_in ((σ2.1 7 1) + 1) 26 then (if lj_in ((σ2.1 7 1) + 1) 26 then lj_bl (lj_R lc_P 165 [.ref 8, .int 0] (lj_put (lj_put (lj_put (lj_put (lj_put σ2 7 1 ((σ2.1 7 1) + 1)) 64 y3.toNatClampNeg ((σ2.1 7 1) + 1)) 85 (((σ2.1 7 1) + 1).toNatClampNeg) y3) 83 (((σ2.1 7 1) + 1).toNatClampNeg) 0) 88 (((σ2.1 7 1) + 1).toNatClampNeg) 5)) (fun y5 σ4 => (if lj_in ((σ2.1 7 1) + 1) 26 then (if lj_in ((σ2.1 7 1) + 1) 26 then (if lj_in ((σ2.1 7 1) + 1) 26 then lj_bv (lj_R lc_P 164 [.ref 8, .int 26, .int 6, .long ((y3 : Int32).toInt64), .int as] (lj_put (lj_put (lj_putL σ4 89 (((σ2.1 7 1) + 1).toNatClampNeg) y5) 82 (((σ2.1 7 1) + 1).toNatClampNeg) (((σ2.1 7 1) + 1) * 12500)) 90 (((σ2.1 7 1) + 1).toNatClampNeg) 0)) (fun σ6 => lj_D lc_P lc_M187 919 [.ref 8, .int 26, .int as, .int line, .int y3, .int ((σ2.1 7 1) + 1), .retAddr 0, .retAddr 0, .retAddr 0, .retAddr 0] [] σ6) lj_up else none) else none) else none)) lj_up else none) else none) else none) else none)) lj_up) = finC (lj_R lc_P 164 [.ref 8, .int 26, .int 6, .long (Int32.ofNat (n + 1)).toInt64, .int as] σ') := by
            rw [if_neg s71, x1, bi_ok, if_pos io, n71, if_pos iq, if_pos iq, if_pos iq, v3', bl_ok, if_pos iq, if_pos iq, if_pos iq, mul, nq, ← hσ']
            simp only [kc_187_919]
            rfl
          rw [headC run]
          exact u2.fin.fin
  · have z5' : ¬ ((G'.getD 0 (0, 0)).1 = 5 ∨ (G'.getD 0 (0, 0)).1 = 7) := fun y => z5 (hv.kf.2 y)
    have m140 : lj_R lm_P 140 [.int (G'.getD 0 (0, 0)).1] τ = some (.inl (some (.int 0)), τ) := by
      rw [rm_140, km_140_0, if_neg (fun z => z5' (Or.inl z)), if_neg (fun z => z5' (Or.inr z)), km_140_16]
      rfl
    obtain ⟨σ', τ', q1, q2, q3⟩ := nd_bad h.2.1 hln 1 (w := 26) (by decide)
    have q1 : lj_R lc_P 168 [.ref 8, .int 0, .int 1, .int 26, .int line] σ = some (.inr 2, σ') := q1
    have q2 : lj_R lm_P 199 [.ref 0, .int 1, .int 26] τ = some (.inl none, τ') := q2
    refine ⟨τ', rM ?_, ?_⟩
    · rw [rm_231, km_231_0, m1.1, bi_ok, m140, bi_ok, if_pos rfl, q2, bv_ok]
    · rw [rC rfl, c0.1, bi_ok, if_neg z5, kc_187_560, q1, bv_th]
      exact (bt_er ry hwk h (lf_rf _ _) (lf_rf _ _) q3 (by omega)).fin
