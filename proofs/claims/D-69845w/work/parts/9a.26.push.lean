/-! acts that lay one value on both stacks -/
/-- the component's loop, the model's loop -/
noncomputable def goC (v : Value) (σ : lj_S) : Option lj_O := lj_D lc_P lc_M138 2 [.ref 8, .int 1, v] [] σ
noncomputable def mRun (x : Int32) (τ : lj_S) : Option lj_O := lj_D lm_P lm_M120 46 [.ref 0, .int x] [] τ
/-- both run: not ended, nothing else to do, as many steps left and done -/
def rgR (σ τ : lj_S) : Prop := σ.1 8 46 = 0 ∧ τ.1 0 143 = 0 ∧ τ.1 0 129 = 0 ∧ σ.1 8 45 = τ.1 0 144 ∧ σ.2 8 44 = τ.2 0 145
theorem go_step {σ σ' : lj_S} (h : σ.1 8 46 = 0) (e : lj_R lc_P 139 [.ref 8] σ = some (.inl (some (.int 1)), σ')) (v : Value) : goC v σ = goC v σ' := by
  unfold goC
  rw [kc_138_2, if_neg (by decide), if_pos h, e, bi_ok]
theorem run_step {τ τ' : lj_S} (h1 : τ.1 0 143 = 0) (h2 : τ.1 0 129 = 0) (e : lj_R lm_P 121 [.ref 0] τ = some (.inl (some (.int 1)), τ')) (x : Int32) : mRun x τ = mRun x τ' := by
  unfold mRun
  rw [km_120_46, if_pos h1, if_pos h2, e, bi_ok, if_neg (by decide)]
/-- the uppermost frame, seen alone -/
theorem MB.v {σ0 τ0 σ τ : lj_S} {n np p : Nat} {r : List Nat} {FP : Nat → List kF} {ρ : Nat → Nat} {A MO LA : List Nat} (h : MB σ0 τ0 n np p r FP ρ A MO LA σ τ) {F : kF} {L : List kF} (hF : FP p = F :: L) (h0 : kS F = 0) : ∃ ms ks ce me mq, paR σ0 τ0 σ τ ρ FP p p ce me mq ∧ prt σ0 τ0 σ τ ρ p L (kC F) ms ks ∧ frm σ0 τ0 σ τ ρ p L.length F ms ks ce me mq ∧ awR σ0 L (σ.1 98 (20 * p + L.length)) (τ.1 78 (48 * p + L.length)) (τ.1 79 (48 * p + L.length)) ∧ tfr σ0 τ0 σ τ ρ p L.length F ms ks ce me mq ∧ L.length ≤ 19 ∧ p < 26 ∧ σ.1 8 34 = Int32.ofNat (20 * p + L.length) ∧ σ.1 8 8 = Int32.ofNat ce ∧ mAt τ p me mq ∧ (ce + 10 ≤ 12500 * p + 12500 ∧ me + 10 ≤ 10000 ∧ mq + 10 ≤ 2000) := by
  obtain ⟨h1, h2, h3, h4, h5, h6, h7, h8, h9, h10, h11, h12, h13⟩ := h
  have hnp : p ≤ np := h7.2.2.2.2.2.1 p List.mem_cons_self
  have np25 := h7.1.2.2
  obtain ⟨ce, me, mq, pa⟩ := h8 p hnp (by rw [h7.2.2.1.2]; decide)
  have pa' := pa
  obtain ⟨p1, ⟨p2, p3, p4, p5⟩, p6, p7, p8, p9, p10, p11⟩ := pa
  rw [hF] at p1 p2 h9
  rw [List.length_cons] at p2
  rw [if_pos rfl] at p6
  obtain ⟨ms, ks, q1, q2, q3⟩ := p1
  have t : tfr σ0 τ0 σ τ ρ p L.length F ms ks ce me mq := by
    rcases q2.2 with ⟨_, t⟩ | ⟨e, _⟩
    · exact t
    · rw [h0] at e; omega
  have ff := t.2.2.2.2.2.1
  have bd := top_bd q1 q3 (by omega) ff.2.2.2.2.1 ff.2.1 ff.2.2.1 t.2.2.2.1 ff.2.2.2.1
  exact ⟨ms, ks, ce, me, mq, pa', q1, q2, q3, t, by omega, by omega, h9.1, p6, ⟨h7.2.1.2, by omega, p8, p4, p9, p5⟩, bd⟩
theorem act_push {σ0 τ0 σ τ : lj_S} {n np p : Nat} {r : List Nat} {FP : Nat → List kF} {ρ : Nat → Nat} {A MO LA : List Nat} (h : MB σ0 τ0 n np p r FP ρ A MO LA σ τ) {F : kF} {L : List kF} (hF : FP p = F :: L) (h0 : kS F = 0) (rg : rgR σ τ) {u w : vT} (huw : vR σ τ u w)
    (hC : lj_R lc_P 139 [.ref 8] σ = lj_bv (lj_R lc_P 137 [.ref 8, .int u.1, .long u.2] (lj_put σ 94 (20 * p + L.length) (Int32.ofNat ((kY F).2.1 + 1)))) (fun s => some (.inl (some (.int 1)), s)) lj_up) (hM : lj_R lm_P 121 [.ref 0] τ = lj_bv (lj_R lm_P 116 [.ref 0, .int w.1, .long w.2] (lj_put τ 77 (48 * p + L.length) (Int32.ofNat ((kY F).2.2.1 + 1)))) (fun s => some (.inl (some (.int 1)), s)) lj_up) {n' : Nat} (hn : gn σ0 τ0 n' ((kY F).1, (kY F).2.1 + 1, (kY F).2.2.1 + 1, 0 :: (kY F).2.2.2.1, (kY F).2.2.2.2.1, (kY F).2.2.2.2.2)) :
    ∃ σ' τ', (∀ v, goC v σ = goC v σ') ∧ (∀ x, mRun x τ = mRun x τ') ∧ MB σ0 τ0 n np p r (fpT FP p (kTo F ((kY F).2.1 + 1) ((kY F).2.2.1 + 1) (0 :: (kY F).2.2.2.1) (kY F).2.2.2.2.1 (kY F).2.2.2.2.2 (n' + 1) 0 :: L)) ρ A MO LA σ' τ' ∧ rgR σ' τ' := by
  obtain ⟨ms, ks, ce, me, mq, pa, hp, ht, hw, t, hl, p26, h34, h8, at0, bd⟩ := h.v hF h0
  obtain ⟨t1, t2, t3, t4, t5, t6⟩ := t
  obtain ⟨q1, q2, q3, _⟩ := stk_bd t4
  have hB : kB F = kC F + kD F := rfl
  have r0 := (prt_rg hp).1
  have g8 : (lj_put σ 94 (20 * p + L.length) (Int32.ofNat ((kY F).2.1 + 1))).1 8 8 = Int32.ofNat ce := by rw [lj_put_1, if_neg (by omega)]; exact h8
  have at1 : mAt (lj_put τ 77 (48 * p + L.length) (Int32.ofNat ((kY F).2.2.1 + 1))) p me mq := by
    obtain ⟨a1, a2, a3, a4, a5, a6⟩ := at0
    exact ⟨by rw [lj_put_1, if_neg (by omega)]; exact a1, a2, by rw [lj_put_1, if_neg (by omega)]; exact a3, a4, by rw [lj_put_1, if_neg (by omega)]; exact a5, a6⟩
  have tc : ∀ k j, (k = 94 ∧ j = 20 * p + L.length ∨ k = 8 ∧ j = 8 ∨ (k = 79 ∨ k = 80 ∨ k = 81) ∧ j = ce) → tpC p (20 * p + L.length) (kB F + nL σ0 (kY F).1 + 3 * nH σ0 (kY F).1) k j = true := fun k j z => by
    unfold tpC; simp; omega
  have tmm : ∀ k j, (k = 77 ∧ j = 48 * p + L.length ∨ k = 63 ∧ j = p ∨ (k = 71 ∨ k = 72) ∧ j = 10000 * p + me) → tpM p (48 * p + L.length) (ms + kD F) ks k j = true := fun k j z => by
    unfold tpM; simp; omega
  have f : lf (tpC p (20 * p + L.length) (kB F + nL σ0 (kY F).1 + 3 * nH σ0 (kY F).1)) σ (cPu (lj_put σ 94 (20 * p + L.length) (Int32.ofNat ((kY F).2.1 + 1))) ce u) := by
    unfold cPu
    exact lf_put (lf_put (lf_putL (lf_put (lf_put (lf_rf _ σ) 94 (20 * p + L.length) _ (tc _ _ (by omega))) 79 ce _ (tc _ _ (by omega))) 80 ce _ (tc _ _ (by omega))) 81 ce _ (tc _ _ (by omega))) 8 8 _ (tc _ _ (by omega))
  have g : lf (tpM p (48 * p + L.length) (ms + kD F) ks) τ (mPu (lj_put τ 77 (48 * p + L.length) (Int32.ofNat ((kY F).2.2.1 + 1))) p me w) := by
    unfold mPu
    exact lf_put (lf_putL (lf_put (lf_put (lf_rf _ τ) 77 (48 * p + L.length) _ (tmm _ _ (by omega))) 71 (10000 * p + me) _ (tmm _ _ (by omega))) 72 (10000 * p + me) _ (tmm _ _ (by omega))) 63 p _ (tmm _ _ (by omega))
  have vr := tp_vR f g
  have eC : ∀ k j, ¬ (k = 8 ∧ j = 8) → ¬ ((k = 79 ∨ k = 81) ∧ j = ce) → ¬ (k = 94) → (cPu (lj_put σ 94 (20 * p + L.length) (Int32.ofNat ((kY F).2.1 + 1))) ce u).1 k j = σ.1 k j := fun k j z1 z2 z3 => by
    rw [cPu_1, if_neg (by omega), if_neg (by omega), if_neg (by omega), lj_put_1, if_neg (by omega)]
  have eM : ∀ k j, ¬ (k = 63 ∧ j = p) → ¬ (k = 71 ∧ j = 10000 * p + me) → ¬ (k = 77) → (mPu (lj_put τ 77 (48 * p + L.length) (Int32.ofNat ((kY F).2.2.1 + 1))) p me w).1 k j = τ.1 k j := fun k j z1 z2 z3 => by
    rw [mPu_1, if_neg (by omega), if_neg (by omega), lj_put_1, if_neg (by omega)]
  have eC2 : ∀ j, j ≠ ce → (cPu (lj_put σ 94 (20 * p + L.length) (Int32.ofNat ((kY F).2.1 + 1))) ce u).2 80 j = σ.2 80 j := fun j z => by
    rw [cPu_2, if_neg (by omega)]; rfl
  have eM2 : ∀ j, j ≠ 10000 * p + me → (mPu (lj_put τ 77 (48 * p + L.length) (Int32.ofNat ((kY F).2.2.1 + 1))) p me w).2 72 j = τ.2 72 j := fun j z => by
    rw [mPu_2, if_neg (by omega)]; rfl
  have st := stk_p0 (stk_cg (σ' := cPu (lj_put σ 94 (20 * p + L.length) (Int32.ofNat ((kY F).2.1 + 1))) ce u) (τ' := mPu (lj_put τ 77 (48 * p + L.length) (Int32.ofNat ((kY F).2.2.1 + 1))) p me w) (fun a b z => z.cg vr.1 vr.2) t4 (fun j z => ⟨eC 79 j (by omega) (by omega) (by omega), eC2 j (by omega), eC 81 j (by omega) (by omega) (by omega)⟩) (fun j z => ⟨eC 79 j (by omega) (by omega) (by omega), eC2 j (by omega)⟩) (fun j z => ⟨eM 71 _ (by omega) (by omega) (by omega), eM2 _ (by omega)⟩) (fun j z => eM 73 _ (by omega) (by omega) (by omega))) (by
    unfold cv mv
    rw [cPu_1, if_neg (by omega), if_neg (by omega), if_pos ⟨rfl, rfl⟩, cPu_2, if_pos ⟨rfl, rfl⟩, mPu_1, if_neg (by omega), if_pos ⟨rfl, rfl⟩, mPu_2, if_pos ⟨rfl, rfl⟩]
    exact huw.cg vr.1 vr.2) (by rw [cPu_1, if_neg (by omega), if_pos ⟨rfl, rfl⟩])
  have e97 := eC 97 (20 * p + L.length) (by omega) (by omega) (by omega)
  rw [← e97] at st
  obtain ⟨ff1, ff2, ff3, ff4⟩ := t6
  have ffo : kO F = 0 ∧ lv σ0 33 (kY F).1 = 0 ∨ obA (cPu (lj_put σ 94 (20 * p + L.length) (Int32.ofNat ((kY F).2.1 + 1))) ce u) (mPu (lj_put τ 77 (48 * p + L.length) (Int32.ofNat ((kY F).2.2.1 + 1))) p me w) (kO F) 5 ∧ (cPu (lj_put σ 94 (20 * p + L.length) (Int32.ofNat ((kY F).2.1 + 1))) ce u).1 62 (kO F) = Int32.ofNat (kY F).1 := ff2.imp id (fun z => ⟨(tp_oa f g _ _).2 z.1, by rw [eC 62 _ (by omega) (by omega) (by omega)]; exact z.2⟩)
  refine ⟨_, _, go_step rg.1 (by rw [hC, c_push g8 (by omega) u, bv_ok]), run_step rg.2.1 rg.2.2.1 (by rw [hM, m_push at1 (by omega) w, bv_ok]), h.top hF h0 pa hp ht hw f g (c' := (kY F).2.1 + 1) (m' := (kY F).2.2.1 + 1) (dd' := (kY F).2.2.2.2.2) (n' := n' + 1) (w' := 0) (ce' := ce + 1) (me' := me + 1) (mq' := mq) (s' := 0 :: (kY F).2.2.2.1) ?_ ?_ ?_ ?_ ?_ (by omega) (by omega) (by omega) st ?_ (Nat.le_refl _) ⟨⟨ff1.1, ff1.2.1, ff1.2.2.1, gn_ok hn, ff1.2.2.2.2⟩, ffo, Or.inr ⟨Nat.succ_ne_zero _, hn⟩, fun z => absurd rfl z⟩ (fun j => ?_), ?_⟩
  · rw [cPu_1, if_neg (by omega), if_neg (by omega), if_neg (by omega), lj_put_1, if_pos ⟨rfl, rfl⟩]
  · rw [mPu_1, if_neg (by omega), if_neg (by omega), lj_put_1, if_pos ⟨rfl, rfl⟩]
  · rw [cPu_1, if_pos ⟨rfl, rfl⟩]
  · rw [mPu_1, if_pos ⟨rfl, rfl⟩]
  · rw [eM 64 p (by omega) (by omega) (by omega)]; exact at0.2.2.2.2.1
  · rw [flo_c (by decide)]; exact t5.2.2.2.2
  · by_cases y : j = ce
    · right; rw [y, cPu_1, if_neg (by omega), if_pos ⟨rfl, rfl⟩]
    · left; exact eC 81 j (by omega) (by omega) (by omega)
  · obtain ⟨g1, g2, g3, g4, g5⟩ := rg
    refine ⟨by rw [eC 8 46 (by omega) (by omega) (by omega)]; exact g1, by rw [eM 0 143 (by omega) (by omega) (by omega)]; exact g2, by rw [eM 0 129 (by omega) (by omega) (by omega)]; exact g3, by rw [eC 8 45 (by omega) (by omega) (by omega), eM 0 144 (by omega) (by omega) (by omega)]; exact g4, ?_⟩
    rw [cPu_2, if_neg (by omega), mPu_2, if_neg (by omega)]
    exact g5
