/-! marks -/
/-- a mark of the model alone -/
theorem act_17 {σ0 τ0 σ τ : lj_S} {n np p : Nat} {r : List Nat} {FP : Nat → List kF} {ρ : Nat → Nat} {A MO LA : List Nat} (h : MB σ0 τ0 n np p r FP ρ A MO LA σ τ) {F : kF} {L : List kF} (hF : FP p = F :: L) (h0 : kS F = 0) (rg : rgR σ τ) (hs : stF σ0 τ0) (k2 : τ0.1 20 (kY F).2.2.1 = 14) {n' : Nat} (hn : gn σ0 τ0 n' ((kY F).1, (kY F).2.1, (kY F).2.2.1 + 1, 2 :: (kY F).2.2.2.1, (kY F).2.2.2.2.1, (kY F).2.2.2.2.2)) :
    ∃ τ', (∀ x, mRun x τ = mRun x τ') ∧ MB σ0 τ0 n np p r (fpT FP p (kTo F (kY F).2.1 ((kY F).2.2.1 + 1) (2 :: (kY F).2.2.2.1) (kY F).2.2.2.2.1 (kY F).2.2.2.2.2 (n' + 1) 0 :: L)) ρ A MO LA σ τ' ∧ rgR σ τ' := by
  obtain ⟨_, cy⟩ := h.cx hF h0 hs
  obtain ⟨⟨m1, m2, m3, m4, m5, m6, m7⟩, m8⟩ := cy (by rw [k2]; decide)
  obtain ⟨ms, ks, ce, me, mq, pa, hp, ht, hw, t, hl, p26, h34, h8, at0, bd⟩ := h.v hF h0
  have k20 : τ.1 20 (kY F).2.2.1 = 14 := by rw [m8 20 (by decide) (by decide)]; exact k2
  have at1 : mAt (lj_put τ 77 (48 * p + L.length) (Int32.ofNat ((kY F).2.2.1 + 1))) p me mq := by
    obtain ⟨a1, a2, a3, a4, a5, a6⟩ := at0
    exact ⟨by rw [lj_put_1, if_neg (by omega)]; exact a1, a2, by rw [lj_put_1, if_neg (by omega)]; exact a3, a4, by rw [lj_put_1, if_neg (by omega)]; exact a5, a6⟩
  have prtF : prt σ0 τ0 σ τ ρ p (F :: L) ce me mq := ⟨ms, ks, hp, ht, hw⟩
  obtain ⟨t1, t2, t3, t4, t5, t6⟩ := t
  obtain ⟨q1, q2, q3, _⟩ := stk_bd t4
  have tmm : ∀ k j, (k = 77 ∧ j = 48 * p + L.length ∨ k = 64 ∧ j = p ∨ k = 73 ∧ j = 2000 * p + mq) → tpM p (48 * p + L.length) (ms + kD F) ks k j = true := fun k j z => by
    unfold tpM; simp; omega
  have f : lf (tpC p (20 * p + L.length) (kB F + nL σ0 (kY F).1 + 3 * nH σ0 (kY F).1)) σ σ := lf_rf _ _
  have g : lf (tpM p (48 * p + L.length) (ms + kD F) ks) τ (lj_put (lj_put (lj_put τ 77 (48 * p + L.length) (Int32.ofNat ((kY F).2.2.1 + 1))) 73 (2000 * p + mq) (Int32.ofNat me)) 64 p (Int32.ofNat (mq + 1))) := lf_put (lf_put (lf_put (lf_rf _ τ) 77 (48 * p + L.length) _ (tmm _ _ (by omega))) 73 (2000 * p + mq) _ (tmm _ _ (by omega))) 64 p _ (tmm _ _ (by omega))
  have eM : ∀ k j, ¬ (k = 64 ∧ j = p) → ¬ (k = 73 ∧ j = 2000 * p + mq) → k ≠ 77 → (lj_put (lj_put (lj_put τ 77 (48 * p + L.length) (Int32.ofNat ((kY F).2.2.1 + 1))) 73 (2000 * p + mq) (Int32.ofNat me)) 64 p (Int32.ofNat (mq + 1))).1 k j = τ.1 k j := fun k j z1 z2 z3 => by
    rw [lj_put_1, if_neg z1, lj_put_1, if_neg z2, lj_put_1, if_neg (by omega)]
  have vr := tp_vR f g
  have st := stk_p2 (stk_cg (σ' := σ) (τ' := lj_put (lj_put (lj_put τ 77 (48 * p + L.length) (Int32.ofNat ((kY F).2.2.1 + 1))) 73 (2000 * p + mq) (Int32.ofNat me)) 64 p (Int32.ofNat (mq + 1))) (fun a b z => z.cg vr.1 vr.2) t4 (fun j _ => ⟨rfl, rfl, rfl⟩) (fun j _ => ⟨rfl, rfl⟩) (fun j z => ⟨eM 71 _ (by omega) (by omega) (by omega), rfl⟩) (fun j z => eM 73 _ (by omega) (by omega) (by omega))) (by rw [lj_put_1, if_neg (by omega), lj_put_1, if_pos ⟨rfl, rfl⟩])
  obtain ⟨ff1, ff2, ff3, ff4⟩ := t6
  refine ⟨_, run_step rg.2.1 rg.2.2.1 (τ' := lj_put (lj_put (lj_put τ 77 (48 * p + L.length) (Int32.ofNat ((kY F).2.2.1 + 1))) 73 (2000 * p + mq) (Int32.ofNat me)) 64 p (Int32.ofNat (mq + 1))) ?_, h.top hF h0 pa hp ht hw f g t1.2.2.2.1 ?_ h8 ?_ ?_ (by omega) (by omega) (by omega) st ?_ (Nat.le_refl _) ⟨⟨ff1.1, ff1.2.1, ff1.2.2.1, gn_ok hn, ff1.2.2.2.2⟩, ff2.imp id (fun z => ⟨(tp_oa f g _ _).2 z.1, z.2⟩), Or.inr ⟨Nat.succ_ne_zero _, hn⟩, fun z => absurd rfl z⟩ (fun j => Or.inl rfl), ?_⟩
  · rw [mw_x τ m1 m2 m3 m5 m6 rfl (K := 14) (by rw [m7]; exact k20) (by decide), m4, lz_osucc, m_w127 at1 _ _ _ (fun z => by
      show 0 ≤ (lj_put τ 77 (48 * p + L.length) (Int32.ofNat ((kY F).2.2.1 + 1))).1 71 _
      rw [lj_put_1, if_neg (by omega)]
      exact prt_nn prtF (me - 1) (by omega)), my_14 _ m6 (by rw [m7, lj_put_1, if_neg (by omega)]; exact k20), if_pos at1.i.1, at1.i.2.1, at1.2.2.1, m_pushMark at1 (by omega), bv_ok, km_127_420, bv_ok, km_121_398]
  · rw [lj_put_1, if_neg (by omega), lj_put_1, if_neg (by omega), lj_put_1, if_pos ⟨rfl, rfl⟩]
  · rw [eM 63 p (by omega) (by omega) (by omega)]; exact at0.2.2.1
  · rw [lj_put_1, if_pos ⟨rfl, rfl⟩]
  · rw [flo_c (by decide)]; exact t5.2.2.2.2
  · obtain ⟨g1, g2, g3, g4, g5⟩ := rg
    exact ⟨g1, by rw [eM 0 143 (by omega) (by omega) (by omega)]; exact g2, by rw [eM 0 129 (by omega) (by omega) (by omega)]; exact g3, by rw [eM 0 144 (by omega) (by omega) (by omega)]; exact g4, g5⟩
