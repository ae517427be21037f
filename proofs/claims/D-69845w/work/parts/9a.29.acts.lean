/-! acts that leave the stacks as they are -/
theorem act_stay {σ0 τ0 σ τ σ' τ' : lj_S} {n np p : Nat} {r : List Nat} {FP : Nat → List kF} {ρ : Nat → Nat} {A MO LA : List Nat} (h : MB σ0 τ0 n np p r FP ρ A MO LA σ τ) {F : kF} {L : List kF} (hF : FP p = F :: L) (h0 : kS F = 0) (fC : ∀ k j, ¬ (k = 94 ∧ j = 20 * p + L.length ∨ szC k j = true) → σ'.1 k j = σ.1 k j ∧ σ'.2 k j = σ.2 k j) (fM : ∀ k j, ¬ (k = 77 ∧ j = 48 * p + L.length ∨ szM k j = true) → τ'.1 k j = τ.1 k j ∧ τ'.2 k j = τ.2 k j) {c' m' n' : Nat} (e94 : σ'.1 94 (20 * p + L.length) = Int32.ofNat c') (e77 : τ'.1 77 (48 * p + L.length) = Int32.ofNat m') (hn : gn σ0 τ0 n' ((kY F).1, c', m', (kY F).2.2.2.1, (kY F).2.2.2.2.1, (kY F).2.2.2.2.2)) :
    MB σ0 τ0 n np p r (fpT FP p (kTo F c' m' (kY F).2.2.2.1 (kY F).2.2.2.2.1 (kY F).2.2.2.2.2 (n' + 1) 0 :: L)) ρ A MO LA σ' τ' := by
  obtain ⟨ms, ks, ce, me, mq, pa, hp, ht, hw, t, hl, p26, h34, h8, at0, bd⟩ := h.v hF h0
  obtain ⟨t1, t2, t3, t4, t5, t6⟩ := t
  have f : lf (tpC p (20 * p + L.length) (kB F + nL σ0 (kY F).1 + 3 * nH σ0 (kY F).1)) σ σ' := fun k j q => fC k j (fun z => by
    rcases z with z | z
    · rw [z.1, z.2] at q
      unfold tpC at q
      simp at q
    · unfold tpC at q
      rw [z] at q
      simp at q)
  have g : lf (tpM p (48 * p + L.length) (ms + kD F) ks) τ τ' := fun k j q => fM k j (fun z => by
    rcases z with z | z
    · rw [z.1, z.2] at q
      unfold tpM at q
      simp at q
    · unfold tpM at q
      rw [z] at q
      simp at q)
  have vr := tp_vR f g
  have sC : ∀ k j, ¬ (k = 14 ∨ k = 3 ∧ j = 6 ∨ k = 7 ∧ (j = 27 ∨ j = 28) ∨ (105 ≤ k ∧ k ≤ 108) ∨ k = 8 ∧ (j = 38 ∨ 41 ≤ j ∧ j ≤ 44) ∨ k = 2) → k ≠ 94 → σ'.1 k j = σ.1 k j ∧ σ'.2 k j = σ.2 k j := fun k j z1 z2 => fC k j (fun z => by
    rcases z with z | z
    · exact z2 z.1
    · rw [szC_f z1] at z; cases z)
  have sM' : ∀ k j, ¬ (k = 8 ∨ k = 0 ∧ (j = 20 ∨ j = 90 ∨ j = 91 ∨ 129 ≤ j ∧ j ≤ 145) ∨ (88 ≤ k ∧ k ≤ 91)) → k ≠ 77 → τ'.1 k j = τ.1 k j ∧ τ'.2 k j = τ.2 k j := fun k j z1 z2 => fM k j (fun z => by
    rcases z with z | z
    · exact z2 z.1
    · rw [szM_f z1] at z; cases z)
  have st := stk_cg (σ' := σ') (τ' := τ') (fun a b z => z.cg vr.1 vr.2) t4 (fun j _ => ⟨(sC 79 j (by omega) (by omega)).1, (sC 80 j (by omega) (by omega)).2, (sC 81 j (by omega) (by omega)).1⟩) (fun j _ => ⟨(sC 79 j (by omega) (by omega)).1, (sC 80 j (by omega) (by omega)).2⟩) (fun j _ => ⟨(sM' 71 _ (by omega) (by omega)).1, (sM' 72 _ (by omega) (by omega)).2⟩) (fun j _ => (sM' 73 _ (by omega) (by omega)).1)
  rw [← (sC 97 (20 * p + L.length) (by omega) (by omega)).1] at st
  obtain ⟨ff1, ff2, ff3, ff4⟩ := t6
  exact h.top hF h0 pa hp ht hw f g e94 e77 (by rw [(sC 8 8 (by omega) (by omega)).1]; exact h8) (by rw [(sM' 63 p (by omega) (by omega)).1]; exact at0.2.2.1) (by rw [(sM' 64 p (by omega) (by omega)).1]; exact at0.2.2.2.2.1) (by omega) (by omega) (by omega) st t5.2.2.2.2 (Nat.le_refl _) ⟨⟨ff1.1, ff1.2.1, ff1.2.2.1, gn_ok hn, ff1.2.2.2.2⟩, ff2.imp id (fun z => ⟨(tp_oa f g _ _).2 z.1, by show σ'.1 62 (kO F) = _; rw [(sC 62 (kO F) (by omega) (by omega)).1]; exact z.2⟩), Or.inr ⟨Nat.succ_ne_zero _, hn⟩, fun z => absurd rfl z⟩ (fun j => Or.inl (sC 81 j (by omega) (by omega)).1)
/-- no step is left: both stop -/
theorem act_0c {σ0 τ0 σ τ : lj_S} {n np p : Nat} {r : List Nat} {FP : Nat → List kF} {ρ : Nat → Nat} {A MO LA : List Nat} (h : MB σ0 τ0 n np p r FP ρ A MO LA σ τ) {F : kF} {L : List kF} (hF : FP p = F :: L) (h0 : kS F = 0) (rg : rgR σ τ) (hs : stF σ0 τ0) (k1 : σ0.1 22 (kY F).2.1 = 0) (k2 : τ0.1 20 (kY F).2.2.1 = 0) (hl : σ.1 8 45 = 0) : (∀ v, goC v σ = some (.inl none, σ)) ∧ ∀ x, mRun x τ = some (.inl (some (.int 2)), τ) := by
  obtain ⟨cx, cy⟩ := h.cx hF h0 hs
  obtain ⟨⟨c1, c2, c3, c4, c5⟩, c6⟩ := cx (by rw [k1]; decide)
  obtain ⟨⟨m1, m2, m3, m4, m5, m6, m7⟩, m8⟩ := cy (by rw [k2]; decide)
  refine ⟨fun v => ?_, fun x => ?_⟩
  · unfold goC
    rw [kc_138_2, if_neg (by decide), if_pos rg.1, ca_0c σ c1 c3 c4 rfl rfl (by rw [c5, c6 22 (by decide) (by decide)]; exact k1) hl, bi_ok, kc_138_2, if_pos rfl, kc_138_31]
  · unfold mRun
    rw [km_120_46, if_pos rg.2.1, if_pos rg.2.2.1, mw_0c τ m1 m2 m3 m5 m6 rfl (by rw [m7, m8 20 (by decide) (by decide)]; exact k2) (by rw [← rg.2.2.2.1]; exact hl), bi_ok, if_pos rfl]
