/-! back to the caller -/
theorem c_gb (x1 x2 x3 x4 : Int32) {G : List vT} {c1 : Nat} (hc : c1 + G.length < 325000) (hl : G.length ≤ 110) : ∀ (d k : Nat) (σ : lj_S), k + d = G.length → rsC σ (G.take k) → (∀ j, j < G.length → cv σ (c1 + j) = G.getD j (0, 0)) → σ.1 8 8 = Int32.ofNat (c1 + G.length) → ∃ σ', lj_D lc_P lc_M217 860 [.ref 8, .int x1, .int x2, .int x3, .int x4, .int (Int32.ofNat (c1 + k)), .retAddr 0, .retAddr 0] [] σ = lj_D lc_P lc_M217 860 [.ref 8, .int x1, .int x2, .int x3, .int x4, .int (Int32.ofNat (c1 + G.length)), .retAddr 0, .retAddr 0] [] σ' ∧ rsC σ' G ∧ lf rtC σ σ'
  | 0, k, σ, hk, hr, hv, h8 => by
    have e : k = G.length := by omega
    rw [e, List.take_length] at hr
    exact ⟨σ, by rw [e], hr, lf_rf _ _⟩
  | d + 1, k, σ, hk, hr, hv, h8 => by
    have ii : lj_in (Int32.ofNat (c1 + k)) 325000 := ofN_in (by omega) (by omega)
    obtain ⟨σ1, e1, e2, e3⟩ := c_gives hr (by rw [List.length_take]; omega) (cv σ (c1 + k))
    have e1 : lj_R lc_P 143 [.ref 8, .int (σ.1 79 (c1 + k)), .long (σ.2 80 (c1 + k))] σ = some (.inl none, σ1) := e1
    have et : G.take k ++ [cv σ (c1 + k)] = G.take (k + 1) := by
      rw [hv k (by omega), List.take_add_one, List.getD_eq_getElem?_getD, List.getElem?_eq_getElem (show k < G.length by omega)]
      rfl
    rw [et] at e2
    have o : ∀ k j, ¬ (k = 107 ∨ k = 108 ∨ k = 8 ∧ j = 41) → σ1.1 k j = σ.1 k j ∧ σ1.2 k j = σ.2 k j := fun k j z => e3 k j (by unfold rtC; simp; omega)
    obtain ⟨σ', w1, w2, w3⟩ := c_gb x1 x2 x3 x4 hc hl d (k + 1) σ1 (by omega) e2 (fun j hj => by rw [← hv j hj]; unfold cv; rw [(o 79 _ (by omega)).1, (o 80 _ (by omega)).2]) (by rw [(o 8 8 (by omega)).1]; exact h8)
    refine ⟨σ', ?_, w2, e3.tr w3⟩
    rw [kc_217_860, h8, if_neg (by rw [ofN_le (by omega) (by omega)]; omega), if_pos ii, if_pos ii, lz_onat (by omega), e1, bv_ok, lz_osucc, Nat.add_assoc, w1]
theorem m_gb (J : Int32) {G : List vT} {p m0 : Nat} (hp : p < 26) (hm : m0 + G.length < 10000) (hl : G.length ≤ 110) : ∀ (d k : Nat) (τ : lj_S), k + d = G.length → τ.1 0 140 = Int32.ofNat G.length → (∀ j, j < k → (τ.1 90 j, τ.2 91 j) = G.getD j (0, 0)) → (∀ j, j < G.length → mv τ (10000 * p + (m0 + j)) = G.getD j (0, 0)) → τ.1 0 111 = Int32.ofNat p → ∃ τ', lj_D lm_P lm_M170 22 [.ref 0, .int J, .int (Int32.ofNat m0), .int (Int32.ofNat k)] [] τ = lj_D lm_P lm_M170 22 [.ref 0, .int J, .int (Int32.ofNat m0), .int (Int32.ofNat G.length)] [] τ' ∧ rsM τ' G ∧ ∀ k j, k ≠ 90 → k ≠ 91 → τ'.1 k j = τ.1 k j ∧ τ'.2 k j = τ.2 k j
  | 0, k, τ, hk, h140, hj, hv, h111 => by
    have e : k = G.length := by omega
    exact ⟨τ, by rw [e], ⟨by unfold lv; rw [h140, lz_lit (by omega)], fun j z => hj j (by omega)⟩, fun _ _ _ _ => ⟨rfl, rfl⟩⟩
  | d + 1, k, τ, hk, h140, hj, hv, h111 => by
    have em : (10000 : Int32) * τ.1 0 111 + Int32.ofNat m0 + Int32.ofNat k = Int32.ofNat (10000 * p + (m0 + k)) := by
      rw [h111, show (10000 : Int32) = Int32.ofNat 10000 from rfl, ← Int32.ofNat_mul, ← Int32.ofNat_add, ← Int32.ofNat_add, Nat.add_assoc]
    have i6 : lj_in (Int32.ofNat (10000 * p + (m0 + k))) 260000 := ofN_in (by omega) (by omega)
    have i7 : lj_in (Int32.ofNat k) 128 := ofN_in (by omega) (by omega)
    obtain ⟨τ1, hτ1⟩ : ∃ τ1, τ1 = lj_putL (lj_put τ 90 k (τ.1 71 (10000 * p + (m0 + k)))) 91 k (τ.2 72 (10000 * p + (m0 + k))) := ⟨_, rfl⟩
    have o1 : ∀ kk j, ¬ (kk = 90 ∧ j = k) → τ1.1 kk j = τ.1 kk j := fun kk j z => by rw [hτ1, lj_putL_1, lj_put_1, if_neg z]
    have o2 : ∀ kk j, ¬ (kk = 91 ∧ j = k) → τ1.2 kk j = τ.2 kk j := fun kk j z => by rw [hτ1, lj_putL_2, if_neg z]; rfl
    obtain ⟨τ', w1, w2, w3⟩ := m_gb J hp hm hl d (k + 1) τ1 (by omega) (by rw [o1 0 140 (by omega)]; exact h140) (fun j z => by
      by_cases y : j = k
      · rw [y, hτ1, lj_putL_1, lj_put_1, if_pos ⟨rfl, rfl⟩, lj_putL_2, if_pos ⟨rfl, rfl⟩]
        exact hv k (by omega)
      · rw [o1 90 j (by omega), o2 91 j (by omega)]
        exact hj j (by omega)) (fun j hj => by rw [← hv j hj]; unfold mv; rw [o1 71 _ (by omega), o2 72 _ (by omega)]) (by rw [o1 0 111 (by omega)]; exact h111)
    refine ⟨τ', ?_, w2, fun kk j z1 z2 => ?_⟩
    · rw [km_170_22, h140, if_neg (by rw [ofN_le (by omega) (by omega)]; omega), em, if_pos i6, if_pos i7, if_pos i6, if_pos i7, lz_onat (by omega), lz_onat (by omega), lz_osucc, ← hτ1, w1]
    · obtain ⟨v1, v2⟩ := w3 kk j z1 z2
      exact ⟨v1.trans (o1 kk j (by omega)), v2.trans (o2 kk j (by omega))⟩
theorem x_give {σ0 τ0 σ τ : lj_S} {n np p : Nat} {r : List Nat} {FP : Nat → List kF} {ρ : Nat → Nat} {A MO LA : List Nat} (h : MB σ0 τ0 n np p r FP ρ A MO LA σ τ) {F : kF} {L : List kF} (hF : FP p = F :: L) (h0 : kS F = 0) (rg : rgR σ τ) {ms ks ce me mq : Nat} (V : vw σ0 τ0 σ τ ρ FP p F L ms ks ce me mq) (hs : stF σ0 τ0) (k1 : σ0.1 22 (kY F).2.1 = 40) (k2 : τ0.1 20 (kY F).2.2.1 = 38) {s' : List Nat} {k c0 m0 mq' : Nat} {cm' : Int32} (w : rkR σ τ p (kB F + nL σ0 (kY F).1) (kB F + nL σ0 (kY F).1 + 3 * nH σ0 (kY F).1) (ms + kD F) ks (20 * p + L.length) s' ce me mq k c0 m0 mq' cm') (hk : k ≤ 30) (hwk : wkR FP (p :: r) A σ) {M : Nat} (D : DLV σ0 τ0 M) (hM : thM FP (p :: r) MO LA ≤ M) (hT : thM FP (p :: r) MO LA ≤ TH) : ∃ oC τ1, lj_R lc_P 139 [.ref 8] σ = lj_bv oC (fun s => some (.inl (some (.int 1)), s)) lj_up ∧ (∀ x, mRun x τ = mRun x τ1) ∧ ocR σ0 τ0 A (fun t => t ≤ thM (fpT FP p L) (p :: r) MO LA) σ τ1 oC := by
  have B := V.bd
  have hpr : p ∉ r := (List.nodup_cons.1 h.2.2.2.2.2.2.1.2.2.2.2.1).1
  obtain ⟨⟨hce, hme, hmq⟩, ⟨h97, h80, h81, h73⟩, hv, st'⟩ := w
  obtain ⟨c1, c2, c3, c4, cA, cL, cK, c5⟩ := c_ft h hF h0 hs k1 (by decide)
  have kl := rsK_len σ (c0 + 1) k
  have nl := rsN_len τ p m0 k
  -- the component gathers
  obtain ⟨σa, hσa⟩ : ∃ σa, σa = lj_put (lj_put σ 94 (20 * p + L.length) (Int32.ofNat ((kY F).2.1 + 1))) 8 41 0 := ⟨_, rfl⟩
  have oa : ∀ k j, ¬ (k = 94 ∧ j = (20 * p + L.length)) → ¬ (k = 8 ∧ j = 41) → σa.1 k j = σ.1 k j ∧ σa.2 k j = σ.2 k j := fun k j z1 z2 => by
    rw [hσa]
    exact ⟨by rw [lj_put_1, if_neg z2, lj_put_1, if_neg z1], rfl⟩
  obtain ⟨σg, e1, e2, e3⟩ := c_gb (Int32.ofNat (kY F).2.1) (σ0.1 23 (kY F).2.1) (σ0.1 26 (kY F).2.1) (Int32.ofNat k) (G := rsK σ (c0 + 1) k) (c1 := c0 + 1) (by rw [kl]; omega) (by rw [kl]; omega) k 0 σa (by rw [kl]; omega) ⟨by unfold lv; rw [hσa, lj_put_1, if_pos ⟨rfl, rfl⟩]; rfl, fun j hj => absurd hj (by simp)⟩ (fun j hj => by
    rw [kl] at hj
    rw [rsK_get _ _ _ _ hj]
    unfold cv
    rw [(oa 79 _ (by omega) (by omega)).1, (oa 80 _ (by omega) (by omega)).2]) (by rw [(oa 8 8 (by omega) (by omega)).1, V.tp, hce, kl])
  have og : ∀ k j, ¬ (k = 107 ∨ k = 108 ∨ k = 8 ∧ j = 41) → σg.1 k j = σa.1 k j ∧ σg.2 k j = σa.2 k j := fun k j z => e3 k j (by unfold rtC; simp; omega)
  -- the model gathers
  obtain ⟨τa, hτa⟩ : ∃ τa, τa = lj_put (lj_put τ 77 (48 * p + L.length) (Int32.ofNat ((kY F).2.2.1 + 1))) 0 140 (Int32.ofNat k) := ⟨_, rfl⟩
  have ma : ∀ k j, ¬ (k = 77 ∧ j = (48 * p + L.length)) → ¬ (k = 0 ∧ j = 140) → τa.1 k j = τ.1 k j ∧ τa.2 k j = τ.2 k j := fun k j z1 z2 => by
    rw [hτa]
    exact ⟨by rw [lj_put_1, if_neg z2, lj_put_1, if_neg z1], rfl⟩
  obtain ⟨τb, f1, f2, f3⟩ := m_gb (Int32.ofNat (48 * p + L.length)) (G := rsN τ p m0 k) (p := p) (m0 := m0) B.2.1 (by rw [nl]; omega) (by rw [nl]; omega) k 0 τa (by rw [nl]; omega) (by rw [hτa, lj_put_1, if_pos ⟨rfl, rfl⟩, nl]) (fun j hj => absurd hj (by omega)) (fun j hj => by
    rw [nl] at hj
    rw [rsN_get _ _ _ _ _ hj]
    unfold mv
    rw [(ma 71 _ (by omega) (by omega)).1, (ma 72 _ (by omega) (by omega)).2]) (by rw [(ma 0 111 (by omega) (by omega)).1]; exact V.at.1)
  obtain ⟨τg, hτg⟩ : ∃ τg, τg = lj_put (lj_put τb 0 130 (τb.1 78 (48 * p + L.length))) 0 131 (τb.1 79 (48 * p + L.length)) := ⟨_, rfl⟩
  have mg : ∀ k j, ¬ (k = 0 ∧ (j = 130 ∨ j = 131)) → τg.1 k j = τb.1 k j ∧ τg.2 k j = τb.2 k j := fun k j z => by
    rw [hτg]
    exact ⟨by rw [lj_put_1, if_neg (by omega), lj_put_1, if_neg (by omega)], rfl⟩
  have fC : lf (tqC p (20 * p + L.length) ce) σ σg := fun k j q => by
    have q1 : ¬ (k = 107 ∨ k = 108 ∨ k = 8 ∧ j = 41) ∧ ¬ (k = 94 ∧ j = (20 * p + L.length)) := by
      unfold tqC sxC szC at q
      simp at q
      omega
    obtain ⟨u1, u2⟩ := og k j q1.1
    obtain ⟨v1, v2⟩ := oa k j q1.2 (by omega)
    exact ⟨u1.trans v1, u2.trans v2⟩
  have gM : lf (tqM p (48 * p + L.length) me mq) τ τg := fun k j q => by
    have q1 : ¬ (k = 90 ∨ k = 91) ∧ ¬ (k = 77 ∧ j = (48 * p + L.length)) ∧ ¬ (k = 0 ∧ (j = 130 ∨ j = 131 ∨ j = 140)) := by
      unfold tqM sxM szM at q
      simp at q
      omega
    obtain ⟨u1, u2⟩ := mg k j (by omega)
    obtain ⟨v1, v2⟩ := f3 k j (by omega) (by omega)
    obtain ⟨w1, w2⟩ := ma k j (by omega) (by omega)
    exact ⟨u1.trans (v1.trans w1), u2.trans (v2.trans w2)⟩
  have s94 : σg.1 94 (20 * p + L.length) = Int32.ofNat ((kY F).2.1 + 1) := by rw [(og 94 _ (by omega)).1, hσa, lj_put_1, if_neg (by omega), lj_put_1, if_pos ⟨rfl, rfl⟩]
  have t77 : τg.1 77 (48 * p + L.length) = Int32.ofNat ((kY F).2.2.1 + 1) := by rw [(mg 77 _ (by omega)).1, (f3 77 _ (by omega) (by omega)).1, hτa, lj_put_1, if_neg (by omega), lj_put_1, if_pos ⟨rfl, rfl⟩]
  have m63 := V.at.2.2.1
  have m64 := V.at.2.2.2.2.1
  obtain ⟨h1, rg1⟩ := h.dn hF h0 rg V V.st fC gM (by rw [(og 97 _ (by omega)).1, (oa 97 _ (by omega) (by omega)).1]) s94 t77 (by rw [(og 8 8 (by omega)).1, (oa 8 8 (by omega) (by omega)).1]; exact V.tp) (by rw [(mg 63 _ (by omega)).1, (f3 63 _ (by omega) (by omega)).1, (ma 63 _ (by omega) (by omega)).1]; exact m63) (by rw [(mg 64 _ (by omega)).1, (f3 64 _ (by omega) (by omega)).1, (ma 64 _ (by omega) (by omega)).1]; exact m64) V.ff.1.2.2.2.1 V.fl (n' := 0) (Or.inl rfl) (fun j => Or.inl (by rw [(og 81 j (by omega)).1, (oa 81 j (by omega) (by omega)).1]))
  have fo := fpT_o FP p (kTo F ((kY F).2.1 + 1) ((kY F).2.2.1 + 1) (kY F).2.2.2.1 (kY F).2.2.2.2.1 (kY F).2.2.2.2.2 0 0 :: L)
  obtain ⟨σ2, τ2, ρ', p1, p2, p3, p4, p5⟩ := x_pop h1 fo rfl
  rw [fpT_2] at p3
  have vr : ∀ a b, vR σ τ a b → vR σ2 τ2 a b := fun a b z => (vR_tq fC gM z).cg (fun k j q => (p4 k j (by unfold vqC at q; simp at q; omega) (by unfold vqC at q; simp at q; omega) (by unfold vqC at q; simp at q; omega) (by unfold vqC at q; simp at q; omega)).1) (fun k j q => (p5 k j (by unfold vqM at q; simp at q; omega)).1)
  have d : dlR σ2 (lj_put τ2 0 129 1) (rsK σ (c0 + 1) k) (rsN τ p m0 k) := by
    obtain ⟨g1, g2, g3, g4, g5⟩ := rg1
    have t0 : ∀ j, j ≠ 129 → (lj_put τ2 0 129 1).1 0 j = τg.1 0 j := fun j z => by rw [lj_put_1, if_neg (by omega), (p5 0 j (by omega)).1]
    refine ⟨⟨by rw [(p4 8 46 (by omega) (by omega) (by omega) (by omega)).1]; exact g1, by rw [t0 143 (by omega)]; exact g2, (by simp [lj_put_1, lj_putL_1]), by rw [(p4 8 45 (by omega) (by omega) (by omega) (by omega)).1, t0 144 (by omega)]; exact g4, by rw [(p4 8 44 (by omega) (by omega) (by omega) (by omega)).2]; show σg.2 8 44 = τ2.2 0 145; rw [(p5 0 145 (by omega)).2]; exact g5⟩, ⟨by unfold lv; rw [(p4 8 41 (by omega) (by omega) (by omega) (by omega)).1]; exact e2.1, fun j hj => by rw [(p4 107 j (by omega) (by omega) (by omega) (by omega)).1, (p4 108 j (by omega) (by omega) (by omega) (by omega)).2]; exact e2.2 j hj⟩, ⟨by unfold lv; rw [t0 140 (by omega), (mg 0 140 (by omega)).1]; exact f2.1, fun j hj => ?_⟩, by rw [kl, nl], by rw [kl]; omega, fun j => ?_⟩
    · rw [lj_put_1, if_neg (by omega), (p5 90 j (by omega)).1, (mg 90 j (by omega)).1]
      show (τb.1 90 j, τ2.2 91 j) = _
      rw [(p5 91 j (by omega)).2, (mg 91 j (by omega)).2]
      exact f2.2 j hj
    · refine vR_129 ?_ 1
      by_cases z : j < k
      · rw [rsK_get _ _ _ _ z, rsN_get _ _ _ _ _ z]
        exact vr _ _ (hv j z).1
      · rw [List.getD_eq_getElem?_getD, List.getD_eq_getElem?_getD, List.getElem?_eq_none (by rw [kl]; omega), List.getElem?_eq_none (by rw [nl]; omega)]
        exact vR_nil _ _
  have aw : awR σ0 L (σg.1 98 (20 * p + L.length)) (τ2.1 0 130) (τ2.1 0 131) := by
    have e130 : τ2.1 0 130 = τ.1 78 (48 * p + L.length) := by rw [(p5 0 130 (by omega)).1, hτg, lj_put_1, if_neg (by omega), lj_put_1, if_pos ⟨rfl, rfl⟩, (f3 78 _ (by omega) (by omega)).1, (ma 78 _ (by omega) (by omega)).1]
    have e131 : τ2.1 0 131 = τ.1 79 (48 * p + L.length) := by rw [(p5 0 131 (by omega)).1, hτg, lj_put_1, if_pos ⟨rfl, rfl⟩, (f3 79 _ (by omega) (by omega)).1, (ma 79 _ (by omega) (by omega)).1]
    rw [(og 98 _ (by omega)).1, (oa 98 _ (by omega) (by omega)).1, e130, e131]
    exact V.2.2.2.1
  have wk2 : wkR (fpT FP p L) (p :: r) A σ2 := by
    refine ⟨fun i hi => by rw [(p4 102 i (by omega) (by omega) (by omega) (by omega)).1, (og 102 i (by omega)).1, (oa 102 i (by omega) (by omega)).1]; exact hwk.1 i hi, ?_, pfI_o (fpT_ne FP hpr _) hwk.2.2⟩
    have x := hwk.2.1
    have fs := fpT_s hF
    have x1 := gX_p FP hpr (F :: L)
    rw [fs] at x1
    rw [x1] at x
    rw [gX_p FP hpr]
    have : gL p (F :: L) = gL p L := by
      show (if kS F = 2 then _ else gL p L) = _
      rw [if_neg (by omega)]
    rw [← this]
    exact x
  have px := pfx_le (FP := fpT FP p L) (p := p) (r := r) (by rw [fpT_o]; omega) wk2.2.2
  have out := D n np p r (fpT FP p L) ρ' A MO LA σ2 (lj_put τ2 0 129 1) _ _ (σg.1 98 (20 * p + L.length)) (p3.t129 1) d (by rw [fpT_o, lj_put_1, if_neg (by omega), lj_put_1, if_neg (by omega)]; exact aw) wk2 (by rw [kl]; omega) (by have := thM_d (List.nodup_cons.1 h.2.2.2.2.2.2.1.2.2.2.2.1).1 hF MO LA; omega) (by have := thM_d (List.nodup_cons.1 h.2.2.2.2.2.2.1.2.2.2.2.1).1 hF MO LA; omega)
  refine ⟨finC (lj_R lc_P 144 [.ref 8, .int (σg.1 98 (20 * p + L.length))] σ2), lj_put τ2 0 129 1, ?_, ?_, out.fin.pre (fun _ => rfl) (fun i _ => by rw [(p4 103 i (by omega) (by omega) (by omega) (by omega)).1, (og 103 i (by omega)).1, (oa 103 i (by omega) (by omega)).1]) (fun _ z => z)⟩
  · have bh := c_behind (σ := lj_put σ 94 (20 * p + L.length) (Int32.ofNat ((kY F).2.1 + 1))) (t := ce) (i := (20 * p + L.length)) (c := c0) (by rw [lj_put_1, if_neg (by omega)]; exact V.tp) (by rw [lj_put_1, if_neg (by omega)]; exact V.i34) (by omega) (by rw [lj_put_1, if_neg (by omega)]; exact h97) (by omega) (by omega)
    rw [show ce - c0 - 1 = k by omega] at bh
    have kb : (lj_put σ 94 (20 * p + L.length) (Int32.ofNat ((kY F).2.1 + 1))).1 22 (Int32.ofNat (kY F).2.1).toNatClampNeg = 40 := by rw [lj_put_1, if_neg (by omega)]; exact cK
    have es : (lj_put σ 94 (20 * p + L.length) (Int32.ofNat ((kY F).2.1 + 1))).1 8 8 - Int32.ofNat k = Int32.ofNat (c0 + 1 + 0) := by
      rw [lj_put_1, if_neg (by omega), V.tp]
      refine lz_ext ?_
      rw [lz_sub (by rw [lz_lit (by omega), lz_lit (by omega)]; omega), lz_lit (by omega), lz_lit (by omega), lz_lit (by omega)]
      omega
    have g34 : σg.1 8 34 = Int32.ofNat (20 * p + L.length) := by rw [(og 8 34 (by omega)).1, (oa 8 34 (by omega) (by omega)).1]; exact V.i34
    have ig : lj_in (σg.1 8 34) 520 := by rw [g34]; exact ofN_in (by omega) (by omega)
    have ng : (σg.1 8 34).toNatClampNeg = (20 * p + L.length) := by rw [g34]; exact lz_onat (by omega)
    have g8 : σg.1 8 8 = Int32.ofNat (c0 + 1 + (rsK σ (c0 + 1) k).length) := by rw [(og 8 8 (by omega)).1, (oa 8 8 (by omega) (by omega)).1, V.tp, hce, kl]
    have fin : lj_D lc_P lc_M217 860 [.ref 8, .int (Int32.ofNat (kY F).2.1), .int (σ0.1 23 (kY F).2.1), .int (σ0.1 26 (kY F).2.1), .int (Int32.ofNat k), .int (Int32.ofNat (c0 + 1 + (rsK σ (c0 + 1) k).length)), .retAddr 0, .retAddr 0] [] σg = finC (lj_R lc_P 144 [.ref 8, .int (σg.1 98 (20 * p + L.length))] σ2) := by
      rw [kc_217_860, if_pos (by rw [g8]; exact (ofN_le (by omega) (by omega)).2 (Nat.le_refl _)), if_pos ig, p1, bv_ok, ng]
      unfold finC
      congr 1
      funext s
      rw [kc_217_917]
    have k30 : Int32.ofNat k ≤ (30 : Int32) := (ofN_le (b := 30) (by omega) (by omega)).2 hk
    rw [ca_x σ c1 c3 c4 cA cL cK (by decide), c2, lz_osucc, cg_40 _ c4 kb, bh, bi_ok, if_pos k30, es, ← hσa, e1, fin]
    congr 1
    funext s
    rw [kc_139_1051]
  · have at1 := mAt_p (i := (48 * p + L.length)) (v := Int32.ofNat ((kY F).2.2.1 + 1)) V.at
    rw [hmq] at at1
    have mk := m_mark at1
    rw [lj_put_1, if_neg (by omega), h73] at mk
    have sb : Int32.ofNat me - Int32.ofNat m0 = Int32.ofNat k := lz_ext (by rw [lz_sub (by rw [lz_lit (by omega), lz_lit (by omega)]; omega), lz_lit (by omega), lz_lit (by omega), lz_lit (by omega)]; omega)
    have imi : lj_in (Int32.ofNat (48 * p + L.length)) 1248 := ofN_in (by omega) (by omega)
    have nmi : (Int32.ofNat (48 * p + L.length)).toNatClampNeg = (48 * p + L.length) := lz_onat (by omega)
    have f1' : lj_D lm_P lm_M170 22 [.ref 0, .int (Int32.ofNat (48 * p + L.length)), .int (Int32.ofNat m0), .int 0] [] τa = _ := f1
    have b140 : τb.1 0 140 = Int32.ofNat (rsN τ p m0 k).length := lz_ext (by rw [lz_lit (by omega)]; exact f2.1)
    refine run_step rg.2.1 rg.2.2.1 (m_hi h hF h0 V hs k2 (by decide) (fun z1 z2 => ?_))
    rw [mz_38 _ z1 z2, rm_170, km_170_0, mk, bi_ok, if_pos at1.i.1, at1.i.2.1, at1.2.2.1, sb, ← hτa, f1', km_170_22, b140, if_pos ((ofN_le (by omega) (by omega)).2 (Nat.le_refl _)), if_pos imi, if_pos imi, nmi, ← hτg, p2, bv_ok, bv_ok, km_153_483]
