/-! a mark of both -/
theorem act_16 {σ0 τ0 σ τ : lj_S} {n np p : Nat} {r : List Nat} {FP : Nat → List kF} {ρ : Nat → Nat} {A MO LA : List Nat} (h : MB σ0 τ0 n np p r FP ρ A MO LA σ τ) {F : kF} {L : List kF} (hF : FP p = F :: L) (h0 : kS F = 0) (rg : rgR σ τ) (hs : stF σ0 τ0) (k1 : σ0.1 22 (kY F).2.1 = 15) (k2 : τ0.1 20 (kY F).2.2.1 = 14) {n' : Nat} (hn : gn σ0 τ0 n' ((kY F).1, (kY F).2.1 + 1, (kY F).2.2.1 + 1, 1 :: (kY F).2.2.2.1, (kY F).2.2.2.2.1, (kY F).2.2.2.2.2)) :
    ∃ σ' τ', (∀ v, goC v σ = goC v σ') ∧ (∀ x, mRun x τ = mRun x τ') ∧ MB σ0 τ0 n np p r (fpT FP p (kTo F ((kY F).2.1 + 1) ((kY F).2.2.1 + 1) (1 :: (kY F).2.2.2.1) (kY F).2.2.2.2.1 (kY F).2.2.2.2.2 (n' + 1) 0 :: L)) ρ A MO LA σ' τ' ∧ rgR σ' τ' := by
  obtain ⟨cx, cy⟩ := h.cx hF h0 hs
  obtain ⟨⟨c1, c2, c3, c4, c5⟩, c6⟩ := cx (by rw [k1]; decide)
  obtain ⟨⟨m1, m2, m3, m4, m5, m6, m7⟩, m8⟩ := cy (by rw [k2]; decide)
  obtain ⟨ms, ks, ce, me, mq, pa, hp, ht, hw, t, hl, p26, h34, h8, at0, bd⟩ := h.v hF h0
  have k20 : τ.1 20 (kY F).2.2.1 = 14 := by rw [m8 20 (by decide) (by decide)]; exact k2
  have at1 : mAt (lj_put τ 77 (48 * p + L.length) (Int32.ofNat ((kY F).2.2.1 + 1))) p me mq := by
    obtain ⟨a1, a2, a3, a4, a5, a6⟩ := at0
    exact ⟨by rw [lj_put_1, if_neg (by omega)]; exact a1, a2, by rw [lj_put_1, if_neg (by omega)]; exact a3, a4, by rw [lj_put_1, if_neg (by omega)]; exact a5, a6⟩
  have prtF : prt σ0 τ0 σ τ ρ p (F :: L) ce me mq := ⟨ms, ks, hp, ht, hw⟩
  obtain ⟨t1, t2, t3, t4, t5, t6⟩ := t
  obtain ⟨q1, q2, q3, _⟩ := stk_bd t4
  have hB : kB F = kC F + kD F := rfl
  have r0 := (prt_rg hp).1
  have g8 : (lj_put σ 94 (20 * p + L.length) (Int32.ofNat ((kY F).2.1 + 1))).1 8 8 = Int32.ofNat ce := by rw [lj_put_1, if_neg (by omega)]; exact h8
  have g34 : (lj_put σ 94 (20 * p + L.length) (Int32.ofNat ((kY F).2.1 + 1))).1 8 34 = Int32.ofNat (20 * p + L.length) := by rw [lj_put_1, if_neg (by omega)]; exact h34
  have g97 : (lj_put σ 94 (20 * p + L.length) (Int32.ofNat ((kY F).2.1 + 1))).1 97 (20 * p + L.length) = σ.1 97 (20 * p + L.length) := by rw [lj_put_1, if_neg (by omega)]
  have cpm := c_pushMark g8 (by omega) g34 (by omega)
  rw [g97] at cpm
  have tc : ∀ k j, (k = 94 ∧ j = 20 * p + L.length ∨ k = 97 ∧ j = 20 * p + L.length ∨ k = 8 ∧ j = 8 ∨ (k = 79 ∨ k = 80 ∨ k = 81) ∧ j = ce) → tpC p (20 * p + L.length) (kB F + nL σ0 (kY F).1 + 3 * nH σ0 (kY F).1) k j = true := fun k j z => by
    unfold tpC; simp; omega
  have tmm : ∀ k j, (k = 77 ∧ j = 48 * p + L.length ∨ k = 64 ∧ j = p ∨ k = 73 ∧ j = 2000 * p + mq) → tpM p (48 * p + L.length) (ms + kD F) ks k j = true := fun k j z => by
    unfold tpM; simp; omega
  generalize hsg : cPu (lj_put (lj_put σ 94 (20 * p + L.length) (Int32.ofNat ((kY F).2.1 + 1))) 97 (20 * p + L.length) (Int32.ofNat ce)) ce (9, (σ.1 97 (20 * p + L.length)).toInt64) = σ' at cpm
  have f : lf (tpC p (20 * p + L.length) (kB F + nL σ0 (kY F).1 + 3 * nH σ0 (kY F).1)) σ σ' := by
    rw [← hsg]
    unfold cPu
    exact lf_put (lf_put (lf_putL (lf_put (lf_put (lf_put (lf_rf _ σ) 94 (20 * p + L.length) _ (tc _ _ (by omega))) 97 (20 * p + L.length) _ (tc _ _ (by omega))) 79 ce _ (tc _ _ (by omega))) 80 ce _ (tc _ _ (by omega))) 81 ce _ (tc _ _ (by omega))) 8 8 _ (tc _ _ (by omega))
  have eC : ∀ k j, ¬ (k = 8 ∧ j = 8) → ¬ ((k = 79 ∨ k = 81) ∧ j = ce) → ¬ (k = 94 ∨ k = 97) → σ'.1 k j = σ.1 k j := fun k j z1 z2 z3 => by
    rw [← hsg, cPu_1, if_neg (by omega), if_neg (by omega), if_neg (by omega), lj_put_1, if_neg (by omega), lj_put_1, if_neg (by omega)]
  have eC2 : ∀ k j, ¬ (k = 80 ∧ j = ce) → σ'.2 k j = σ.2 k j := fun k j z => by
    rw [← hsg, cPu_2, if_neg z]; rfl
  have g : lf (tpM p (48 * p + L.length) (ms + kD F) ks) τ (lj_put (lj_put (lj_put τ 77 (48 * p + L.length) (Int32.ofNat ((kY F).2.2.1 + 1))) 73 (2000 * p + mq) (Int32.ofNat me)) 64 p (Int32.ofNat (mq + 1))) := lf_put (lf_put (lf_put (lf_rf _ τ) 77 (48 * p + L.length) _ (tmm _ _ (by omega))) 73 (2000 * p + mq) _ (tmm _ _ (by omega))) 64 p _ (tmm _ _ (by omega))
  have eM : ∀ k j, ¬ (k = 64 ∧ j = p) → ¬ (k = 73 ∧ j = 2000 * p + mq) → k ≠ 77 → (lj_put (lj_put (lj_put τ 77 (48 * p + L.length) (Int32.ofNat ((kY F).2.2.1 + 1))) 73 (2000 * p + mq) (Int32.ofNat me)) 64 p (Int32.ofNat (mq + 1))).1 k j = τ.1 k j := fun k j z1 z2 z3 => by
    rw [lj_put_1, if_neg z1, lj_put_1, if_neg z2, lj_put_1, if_neg (by omega)]
  have vr := tp_vR f g
  have st := stk_p1 (stk_cg (σ' := σ') (τ' := lj_put (lj_put (lj_put τ 77 (48 * p + L.length) (Int32.ofNat ((kY F).2.2.1 + 1))) 73 (2000 * p + mq) (Int32.ofNat me)) 64 p (Int32.ofNat (mq + 1))) (fun a b z => z.cg vr.1 vr.2) t4 (fun j z => ⟨eC 79 j (by omega) (by omega) (by omega), eC2 80 j (by omega), eC 81 j (by omega) (by omega) (by omega)⟩) (fun j z => ⟨eC 79 j (by omega) (by omega) (by omega), eC2 80 j (by omega)⟩) (fun j z => ⟨eM 71 _ (by omega) (by omega) (by omega), rfl⟩) (fun j z => eM 73 _ (by omega) (by omega) (by omega))) (by rw [← hsg, cPu_1, if_neg (by omega), if_neg (by omega), if_pos ⟨rfl, rfl⟩]) (by rw [← hsg, cPu_2, if_pos ⟨rfl, rfl⟩]) (by rw [← hsg, cPu_1, if_neg (by omega), if_pos ⟨rfl, rfl⟩]) (by rw [lj_put_1, if_neg (by omega), lj_put_1, if_pos ⟨rfl, rfl⟩])
  have e97 : σ'.1 97 (20 * p + L.length) = Int32.ofNat ce := by rw [← hsg, cPu_1, if_neg (by omega), if_neg (by omega), if_neg (by omega), lj_put_1, if_pos ⟨rfl, rfl⟩]
  rw [← e97] at st
  obtain ⟨ff1, ff2, ff3, ff4⟩ := t6
  refine ⟨σ', _, go_step rg.1 ?_, run_step rg.2.1 rg.2.2.1 (τ' := lj_put (lj_put (lj_put τ 77 (48 * p + L.length) (Int32.ofNat ((kY F).2.2.1 + 1))) 73 (2000 * p + mq) (Int32.ofNat me)) 64 p (Int32.ofNat (mq + 1))) ?_, h.top hF h0 pa hp ht hw f g ?_ ?_ ?_ ?_ ?_ (by omega) (by omega) (by omega) st ?_ (Nat.le_refl _) ⟨⟨ff1.1, ff1.2.1, ff1.2.2.1, gn_ok hn, ff1.2.2.2.2⟩, ff2.imp id (fun z => ⟨(tp_oa f g _ _).2 z.1, by show σ'.1 62 (kO F) = _; rw [eC 62 _ (by omega) (by omega) (by omega)]; exact z.2⟩), Or.inr ⟨Nat.succ_ne_zero _, hn⟩, fun z => absurd rfl z⟩ (fun j => ?_), ?_⟩
  · rw [ca_15 σ c1 c3 c4 rfl rfl (by rw [c5, c6 22 (by decide) (by decide)]; exact k1), c2, lz_osucc, cpm, bv_ok, kc_139_1051]
  · rw [mw_x τ m1 m2 m3 m5 m6 rfl (K := 14) (by rw [m7]; exact k20) (by decide), m4, lz_osucc, m_w127 at1 _ _ _ (fun z => by
      show 0 ≤ (lj_put τ 77 (48 * p + L.length) (Int32.ofNat ((kY F).2.2.1 + 1))).1 71 _
      rw [lj_put_1, if_neg (by omega)]
      exact prt_nn prtF (me - 1) (by omega)), my_14 _ m6 (by rw [m7, lj_put_1, if_neg (by omega)]; exact k20), if_pos at1.i.1, at1.i.2.1, at1.2.2.1, m_pushMark at1 (by omega), bv_ok, km_127_420, bv_ok, km_121_398]
  · rw [← hsg, cPu_1, if_neg (by omega), if_neg (by omega), if_neg (by omega), lj_put_1, if_neg (by omega), lj_put_1, if_pos ⟨rfl, rfl⟩]
  · rw [lj_put_1, if_neg (by omega), lj_put_1, if_neg (by omega), lj_put_1, if_pos ⟨rfl, rfl⟩]
  · rw [← hsg, cPu_1, if_pos ⟨rfl, rfl⟩]
  · rw [eM 63 p (by omega) (by omega) (by omega)]; exact at0.2.2.1
  · rw [lj_put_1, if_pos ⟨rfl, rfl⟩]
  · rw [flo_c (by decide)]; exact t5.2.2.2.2
  · by_cases y : j = ce
    · right; rw [y, ← hsg, cPu_1, if_neg (by omega), if_pos ⟨rfl, rfl⟩]
    · left; exact eC 81 j (by omega) (by omega) (by omega)
  · obtain ⟨g1, g2, g3, g4, g5⟩ := rg
    exact ⟨by rw [eC 8 46 (by omega) (by omega) (by omega)]; exact g1, by rw [eM 0 143 (by omega) (by omega) (by omega)]; exact g2, by rw [eM 0 129 (by omega) (by omega) (by omega)]; exact g3, by rw [eC 8 45 (by omega) (by omega) (by omega), eM 0 144 (by omega) (by omega) (by omega)]; exact g4, by rw [eC2 8 44 (by omega)]; exact g5⟩
