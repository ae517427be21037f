/-! what came is delivered where no frame waits -/
theorem chn_0 {σ0 σ τ : lj_S} {FP : Nat → List kF} : ∀ {r : List Nat} {p : Nat}, chn σ0 σ τ FP (p :: r) → (p = 0 ↔ r = [])
  | [], p, h => ⟨fun _ => rfl, fun _ => h⟩
  | q :: r, p, h => ⟨fun z => absurd z h.1.1, fun z => by cases z⟩
theorem dl_part {σ0 τ0 σ τ : lj_S} {n np p q' : Nat} {r' : List Nat} {FP : Nat → List kF} {ρ : Nat → Nat} {A MO LA : List Nat} (h : MB σ0 τ0 n np p (q' :: r') FP ρ A MO LA σ τ) (hF : FP p = []) {G G' : List vT} (d : dlR σ τ G G') (hl : G.length < 110) : ∃ σ2 τ2, lj_R lc_P 144 [.ref 8, .int 8] σ = finC (finC (lj_R lc_P 144 [.ref 8, .int (σ.1 86 p)] σ2)) ∧ (∀ x, mRun x τ = mRun x τ2) ∧ MB σ0 τ0 n np q' r' FP ρ A MO LA σ2 τ2 ∧ dlR σ2 τ2 ((1, 1) :: G) ((1, 1) :: G') ∧ awR σ0 (FP q') (σ.1 86 p) (τ2.1 0 130) (τ2.1 0 131) ∧ ∀ j, σ2.1 102 j = σ.1 102 j ∧ σ2.1 103 j = σ.1 103 j := by
  obtain ⟨⟨d1, d2, d3, d4, d5⟩, d6, d7, d8⟩ := d
  obtain ⟨σ2, τ2, e1, e2, e3, e4, e5, e6⟩ := x_endR h hF d6 d7 d8 hl ⟨d1, d2, d4, d5⟩ 1
  have pt := h.2.2.2.2.2.2.1
  have b2 := pt.2.1.2
  have pnp : p ≤ np := pt.2.2.2.2.2.1 p List.mem_cons_self
  have np25 := pt.1.2.2
  have p0 : p ≠ 0 := pt.2.2.2.1.1.1
  obtain ⟨_, _, _, _, _, _, _, _, _, t62, _⟩ := h.2.2.2.2.2.2.2.1 p pnp (by rw [pt.2.2.1.2]; decide)
  rw [hF] at t62
  have i111 : lj_in (τ.1 0 111) 26 := by rw [b2]; exact ofN_in (by omega) (by omega)
  have n111 : (τ.1 0 111).toNatClampNeg = p := by rw [b2]; exact lz_onat (by omega)
  have gt : ¬ (τ.1 0 111 ≤ 0) := by
    rw [b2, show (0 : Int32) = Int32.ofNat 0 from rfl, ofN_le (by omega) (by omega)]
    omega
  refine ⟨σ2, τ2, ?_, dl_step d2 d3 ?_, e3, e4, e5, e6⟩
  · rw [rc_144, kc_144_0, if_neg (by decide), if_neg (by decide), if_neg (by decide), if_neg (by decide), if_neg (by decide), if_neg (by decide), if_neg (by decide), if_neg (by decide), if_pos rfl, e1]
    show lj_bv _ _ _ = lj_bv _ _ _
    congr 1
    funext s
    rw [kc_144_316]
  · have c62 : τ.1 62 (τ.1 0 111).toNatClampNeg = 0 := by rw [n111]; exact t62
    rw [rm_178, km_178_0, if_pos i111, if_pos c62, if_neg gt, e2, bv_ok]
/-- the model keeps what came at last -/
theorem m_fin_loop (x1 : Int32) {G : List vT} (hG : G.length ≤ 128) : ∀ (d k : Nat) (τ : lj_S), k + d = G.length → rsM τ G → (∀ j, j < k → (τ.1 92 j, τ.2 93 j) = G.getD j (0, 0)) → ∃ τ', lj_D lm_P lm_M182 15 [.ref 0, .int x1, .int (Int32.ofNat k)] [] τ = some (.inl none, τ') ∧ (∀ j, j < G.length → (τ'.1 92 j, τ'.2 93 j) = G.getD j (0, 0)) ∧ ∀ k j, k ≠ 92 → k ≠ 93 → τ'.1 k j = τ.1 k j ∧ τ'.2 k j = τ.2 k j
  | 0, k, τ, hk, h, hj => by
    have e : τ.1 0 140 = Int32.ofNat G.length := lz_ext (by rw [lz_lit (by omega)]; exact h.1)
    refine ⟨τ, ?_, fun j z => hj j (by omega), fun _ _ _ _ => ⟨rfl, rfl⟩⟩
    rw [km_182_15, e, if_pos ((ofN_le (by omega) (by omega)).2 (by omega))]
  | d + 1, k, τ, hk, h, hj => by
    have e : τ.1 0 140 = Int32.ofNat G.length := lz_ext (by rw [lz_lit (by omega)]; exact h.1)
    have i1 : lj_in (Int32.ofNat k) 128 := ofN_in (by omega) (by omega)
    obtain ⟨τ1, hτ1⟩ : ∃ τ1, τ1 = lj_putL (lj_put τ 92 k (τ.1 90 k)) 93 k (τ.2 91 k) := ⟨_, rfl⟩
    have o1 : ∀ kk j, ¬ (kk = 92 ∧ j = k) → τ1.1 kk j = τ.1 kk j := fun kk j z => by rw [hτ1, lj_putL_1, lj_put_1, if_neg z]
    have o2 : ∀ kk j, ¬ (kk = 93 ∧ j = k) → τ1.2 kk j = τ.2 kk j := fun kk j z => by rw [hτ1, lj_putL_2, if_neg z]; rfl
    have h1 : rsM τ1 G := ⟨by unfold lv; rw [o1 0 140 (by omega)]; exact h.1, fun j z => by rw [o1 90 j (by omega), o2 91 j (by omega)]; exact h.2 j z⟩
    obtain ⟨τ', w1, w2, w3⟩ := m_fin_loop x1 hG d (k + 1) τ1 (by omega) h1 (fun j z => by
      by_cases y : j = k
      · rw [y, hτ1, lj_putL_1, lj_put_1, if_pos ⟨rfl, rfl⟩, lj_putL_2, if_pos ⟨rfl, rfl⟩]
        exact h.2 k (by omega)
      · rw [o1 92 j (by omega), o2 93 j (by omega)]
        exact hj j (by omega))
    refine ⟨τ', ?_, w2, fun kk j z1 z2 => ?_⟩
    · rw [km_182_15, e, if_neg (by rw [ofN_le (by omega) (by omega)]; omega), if_pos i1, if_pos i1, if_pos i1, if_pos i1, lz_onat (by omega), lz_osucc, ← hτ1, w1]
    · obtain ⟨v1, v2⟩ := w3 kk j z1 z2
      exact ⟨v1.trans (o1 kk j (by omega)), v2.trans (o2 kk j (by omega))⟩
theorem m_finish {τ : lj_S} {G : List vT} (h : rsM τ G) (hG : G.length ≤ 128) (x1 : Int32) : ∃ τ', lj_R lm_P 182 [.ref 0, .int x1] τ = some (.inl none, τ') ∧ τ'.1 0 143 = x1 ∧ lv τ' 0 148 = (G.length : Int) ∧ (∀ j, j < G.length → (τ'.1 92 j, τ'.2 93 j) = G.getD j (0, 0)) ∧ ∀ k j, k ≠ 92 → k ≠ 93 → ¬ (k = 0 ∧ (j = 143 ∨ j = 148)) → τ'.1 k j = τ.1 k j ∧ τ'.2 k j = τ.2 k j := by
  have e : τ.1 0 140 = Int32.ofNat G.length := lz_ext (by rw [lz_lit (by omega)]; exact h.1)
  obtain ⟨τ1, hτ1⟩ : ∃ τ1, τ1 = lj_put (lj_put τ 0 143 x1) 0 148 (Int32.ofNat G.length) := ⟨_, rfl⟩
  have o1 : ∀ k j, ¬ (k = 0 ∧ (j = 143 ∨ j = 148)) → τ1.1 k j = τ.1 k j := fun k j z => by rw [hτ1, lj_put_1, if_neg (by omega), lj_put_1, if_neg (by omega)]
  have o2 : τ1.2 = τ.2 := by rw [hτ1]; rfl
  obtain ⟨τ', w1, w2, w3⟩ := m_fin_loop x1 hG G.length 0 τ1 (Nat.zero_add _) ⟨by unfold lv; rw [o1 0 140 (by omega)]; exact h.1, fun j z => by rw [o1 90 j (by omega), o2]; exact h.2 j z⟩ (fun j z => absurd z (by omega))
  have w1 : lj_D lm_P lm_M182 15 [.ref 0, .int x1, .int 0] [] τ1 = _ := w1
  refine ⟨τ', by rw [rm_182, km_182_0, e, ← hτ1, w1], ?_, ?_, w2, fun k j z1 z2 z3 => ?_⟩
  · rw [(w3 0 143 (by omega) (by omega)).1, hτ1]; exact (by simp [lj_put_1, lj_putL_1])
  · unfold lv
    rw [(w3 0 148 (by omega) (by omega)).1, hτ1, lj_put_1, if_pos ⟨rfl, rfl⟩, lz_lit (by omega)]
  · obtain ⟨v1, v2⟩ := w3 k j z1 z2
    exact ⟨v1.trans (o1 k j z3), by rw [v2, o2]⟩
/-- the whole text is over: g tells whether all went well -/
theorem x_over {σ0 τ0 σ τ : lj_S} {n np : Nat} {r : List Nat} {FP : Nat → List kF} {ρ : Nat → Nat} {A MO LA : List Nat} (h : MB σ0 τ0 n np 0 r FP ρ A MO LA σ τ) {G G' : List vT} (hr : rsC σ G) (hm : rsM τ G') (hrw : rwE σ τ G G') (ry : ryR σ τ) (g : Bool) : ∃ σ' τ', lj_R lc_P 199 [.ref 8, .int (bif g then 1 else 0)] σ = some (.inl none, σ') ∧ lj_R lm_P 182 [.ref 0, .int (bif g then 1 else 2)] τ = some (.inl none, τ') ∧ finR σ0 τ0 σ' τ' ∧ ∀ j, σ'.1 103 j = σ.1 103 j := by
  obtain ⟨τ', e1, e2, e3, e4, e5⟩ := m_finish hm (by rw [← hrw.1]; have := hrw.2.1; omega) (bif g then 1 else 2)
  have b1 : σ.1 8 7 = 0 := h.2.2.2.2.2.2.1.2.1.1
  obtain ⟨σ', hσ'⟩ : ∃ σ', σ' = lj_put (lj_put σ 8 46 1) 8 47 (bif g then 0 else 1) := ⟨_, rfl⟩
  have o : ∀ k j, ¬ (k = 8 ∧ (j = 46 ∨ j = 47)) → σ'.1 k j = σ.1 k j ∧ σ'.2 k j = σ.2 k j := fun k j z => by
    rw [hσ']
    exact ⟨by rw [lj_put_1, if_neg (by omega), lj_put_1, if_neg (by omega)], rfl⟩
  have vC : ∀ k j, vqC k j = true → σ'.1 k j = σ.1 k j := fun k j q => (o k j (by unfold vqC at q; simp at q; omega)).1
  have vM : ∀ k j, vqM k j = true → τ'.1 k j = τ.1 k j := fun k j q => (e5 k j (by unfold vqM at q; simp at q; omega) (by unfold vqM at q; simp at q; omega) (by unfold vqM at q; simp at q; omega)).1
  have hG := sG_eq vC vM
  refine ⟨σ', τ', ?_, e1, ⟨⟨fun k j q => ?_, fun k j q => ?_⟩, h.2.2.1.up hG (fun j => (o 78 j (by omega)).1) (o 8 1 (by omega)).1 (o 8 3 (by omega)).1, h.2.2.2.2.2.2.2.2.2.2.2.2.2.tr hG, ⟨n, (h.q ry.2.2.2).cg (fun k j q => o k j ?_) (fun k j q => e5 k j ?_ ?_ ?_)⟩, ?_, ?_, G, G', ⟨?_, fun j hj => ?_⟩, e3, e4, hrw.1, hrw.2.1, fun j => (hrw.2.2 j).cg vC vM⟩, fun j => (o 103 j (by omega)).1⟩
  · rw [rc_199 _ _ h.g0, kc_199_0, if_pos b1]
    cases g
    · rw [if_pos (by decide), kc_199_22, hσ']; rfl
    · rw [if_neg (by decide), kc_199_22, hσ']; rfl
  · obtain ⟨w1, w2⟩ := h.1.1 k j q
    obtain ⟨v1, v2⟩ := o k j (by unfold cdC at q; simp at q; omega)
    exact ⟨v1.trans w1, v2.trans w2⟩
  · obtain ⟨w1, w2⟩ := h.1.2 k j q
    obtain ⟨v1, v2⟩ := e5 k j (by unfold cdM at q; simp at q; omega) (by unfold cdM at q; simp at q; omega) (by unfold cdM at q; simp at q; omega)
    exact ⟨v1.trans w1, v2.trans w2⟩
  · unfold qrC sqC hqC vqC at q; simp at q; omega
  · unfold qrM sqM hqM vqM at q; simp at q; omega
  · unfold qrM sqM hqM vqM at q; simp at q; omega
  · unfold qrM sqM hqM vqM at q; simp at q; omega
  · rw [hσ']; exact (by simp [lj_put_1, lj_putL_1])
  · cases g
    · exact Or.inr ⟨by rw [hσ']; exact (by simp [lj_put_1, lj_putL_1]), e2⟩
    · exact Or.inl ⟨by rw [hσ']; exact (by simp [lj_put_1, lj_putL_1]), e2⟩
  · unfold lv
    rw [(o 8 41 (by omega)).1]
    exact hr.1
  · rw [(o 107 j (by omega)).1, (o 108 j (by omega)).2]
    exact hr.2 j hj
theorem dl_over {σ0 τ0 σ τ : lj_S} {n np : Nat} {FP : Nat → List kF} {ρ : Nat → Nat} {A MO LA : List Nat} (h : MB σ0 τ0 n np 0 [] FP ρ A MO LA σ τ) (hF : FP 0 = []) {G G' : List vT} (d : dlR σ τ G G') {O : Nat → Prop} : ocR σ0 τ0 A O σ τ (lj_R lc_P 144 [.ref 8, .int 8] σ) := by
  obtain ⟨⟨d1, d2, d3, d4, d5⟩, d6, d7, d8⟩ := d
  obtain ⟨σ', τ', e1, e2, e3, e4⟩ := x_over h d6 d7 d8 ⟨d1, d2, d4, d5⟩ true
  have pt := h.2.2.2.2.2.2.1
  have b2 : τ.1 0 111 = 0 := pt.2.1.2
  obtain ⟨_, _, _, _, _, _, _, _, _, t62, _⟩ := h.2.2.2.2.2.2.2.1 0 (Nat.zero_le _) (by rw [pt.2.2.1.2]; decide)
  rw [hF] at t62
  have i111 : lj_in (τ.1 0 111) 26 := by rw [b2]; decide
  have n111 : (τ.1 0 111).toNatClampNeg = 0 := by rw [b2]; decide
  have e1 : lj_R lc_P 199 [.ref 8, .int 1] σ = _ := e1
  have e2 : lj_R lm_P 182 [.ref 0, .int 1] τ = _ := e2
  refine Or.inr (Or.inr (Or.inl ⟨σ', τ', ?_, dl_step d2 d3 ?_, e3, fun i _ => e4 i⟩))
  · rw [rc_144, kc_144_0, if_neg (by decide), if_neg (by decide), if_neg (by decide), if_neg (by decide), if_neg (by decide), if_neg (by decide), if_neg (by decide), if_neg (by decide), if_pos rfl, e1, bv_ok, kc_144_316]
  · have c62 : τ.1 62 (τ.1 0 111).toNatClampNeg = 0 := by rw [n111]; exact t62
    rw [rm_178, km_178_0, if_pos i111, if_pos c62, if_pos (by rw [b2]; decide), e2, bv_ok]
