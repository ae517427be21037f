/-! called fors: they go on -/
theorem fdv_1 : ∀ k x : Fin 51, (Int32.ofNat (100 * k.1 + x.1)) / 100 = Int32.ofNat k.1 := by decide +kernel
theorem fdv_2 : ∀ k : Fin 51, ∀ d : Fin 64, (Int32.ofNat (k.1 + 256 * d.1)) >>> ((8 : Int32) &&& 31) = Int32.ofNat d.1 ∧ (Int32.ofNat (k.1 + 256 * d.1)) &&& 255 = Int32.ofNat k.1 := by decide +kernel
theorem tqC_lo {p i lo lo' k j : Nat} (h : lo' ≤ lo) (q : tqC p i lo' k j = false) : tqC p i lo k j = false := by
  unfold tqC at q ⊢
  rw [Bool.or_eq_false_iff] at q ⊢
  refine ⟨q.1, ?_⟩
  have q2 := q.2
  simp at q2 ⊢
  omega
theorem hf_for {σ0 τ0 σ τ : lj_S} {n np p : Nat} {r : List Nat} {FP : Nat → List kF} {ρ : Nat → Nat} {A MO LA : List Nat} (h : MB σ0 τ0 n np p r FP ρ A MO LA σ τ) {F : kF} {L : List kF} (hF : FP p = F :: L) (h0 : kS F = 0) (rg : rgR σ τ) {ms ks ce me mq : Nat} (V : vw σ0 τ0 σ τ ρ FP p F L ms ks ce me mq) (hs : stF σ0 τ0) {G G' : List vT} {σ1 : lj_S} (hf : hfw σ σ1 p (20 * p + L.length) ce G) (hG : G.length ≤ 128) (hcb2 : ce + 1 + G.length < 12500 * p + 12500) {d k x a a' : Nat} {s' : List Nat} (ha : a < 14000) (ha' : a' < 14000) (hk0 : 0 < k) (hx : x + k ≤ 50 ∧ (∀ y ∈ (kY F).2.2.2.2.1, y < x) ∧ ((x + k : Nat) : Int) ≤ lv σ0 31 (kY F).1) (hsh : (kY F).2.2.2.1 = 4 :: s') (hd : d = (flo s').length) (hd2 : (d : Int) < lv σ0 32 (kY F).1) (k1 : σ0.1 22 (kY F).2.1 = 20) (k1' : σ0.1 23 (kY F).2.1 = Int32.ofNat k) (k1'' : σ0.1 24 (kY F).2.1 = 1) (k3 : σ0.1 22 ((kY F).2.1 + 1) = 39) (k3' : σ0.1 23 ((kY F).2.1 + 1) = Int32.ofNat x) (k3'' : σ0.1 24 ((kY F).2.1 + 1) = Int32.ofNat (k + 256 * d)) (k3a : σ0.1 25 ((kY F).2.1 + 1) = Int32.ofNat a) (k2 : τ0.1 20 (kY F).2.2.1 = 43) (k2' : τ0.1 21 (kY F).2.2.1 = Int32.ofNat a') (k2'' : τ0.1 22 (kY F).2.2.1 = Int32.ofNat (100 * k + x)) {nn : Nat} (w2 : gn σ0 τ0 nn ((kY F).1, (kY F).2.1 + 2, (kY F).2.2.1 + 1, (kY F).2.2.2.1, ((List.range k).map (x + ·)).reverse ++ (kY F).2.2.2.2.1, (kY F).2.2.2.2.2)) (w3 : gn σ0 τ0 nn ((kY F).1, a, a', (kY F).2.2.2.1, (kY F).2.2.2.2.1, (kY F).2.2.2.2.2)) (hl : G'.length = k) (hv : ∀ i, i < k → vR σ τ (G.getD i (0, 0)) (G'.getD i (0, 0))) (hcb : ce + k < 12500 * p + 12500) (hmb : me + k < 10000) : ∃ ρ' σ' τ' z, (∀ v, goC v σ1 = goC v σ') ∧ (∀ x, mRun x (mPus p τ me G') = mRun x τ') ∧ MB σ0 τ0 n np p r (fpT FP p (kAt F z (nn + 1) :: L)) ρ' A MO LA σ' τ' ∧ rgR σ' τ' := by
  have B := V.bd
  have nl := V.ff.1
  have st := V.st
  rw [hsh] at st
  obtain ⟨m0, em, hv3, st3⟩ := st.u3 (Or.inr rfl)
  obtain ⟨b1, b2, b3, _⟩ := stk_bd st3
  rw [← hd] at hv3
  have dn : d < nH σ0 (kY F).1 := by unfold nH; omega
  have xn : x + k ≤ nL σ0 (kY F).1 := by unfold nL; omega
  have m64 : τ.1 64 p = Int32.ofNat mq := V.at.2.2.2.2.1
  obtain ⟨σ2, g1, g2, g3, g4, g5, g6, g7⟩ := hf_adj h hF h0 V hs hf (k := k) (by omega) hG hcb hcb2 (by rw [(hf.1 8 46 (tqC_f (sxC_f (by omega)) (by omega))).1]; exact rg.1) k1 k1' k1''
  have v0 : ∀ i, i < k → vR σ τ (cv σ2 (ce + i)) (G'.getD i (0, 0)) := fun i hi => by rw [g6 i hi]; exact hv i hi
  -- the component at its second act
  obtain ⟨h2, r2⟩ := h.dn hF h0 rg V V.st (σ' := lj_put σ2 8 8 (Int32.ofNat ce)) (τ' := τ) (tq_88 g2 _) (lf_rf _ _) (by rw [lj_put_1, if_neg (by omega)]; exact g4) (c' := (kY F).2.1 + 1) (m' := (kY F).2.2.1) (n' := 0) (by rw [lj_put_1, if_neg (by omega)]; exact g5) V.2.2.2.2.1.2.1.2.2.2.1 (by rw [lj_put_1, if_pos ⟨rfl, rfl⟩]) V.at.2.2.1 m64 V.ff.1.2.2.2.1 V.fl (Or.inl rfl) (fun j => by rw [lj_put_1, if_neg (by omega)]; exact g7 j)
  have fo := fpT_o FP p (kTo F ((kY F).2.1 + 1) (kY F).2.2.1 (kY F).2.2.2.1 (kY F).2.2.2.2.1 (kY F).2.2.2.2.2 0 0 :: L)
  obtain ⟨ms2, ks2, ce2, me2, mq2, V2⟩ := h2.w fo rfl
  have fs : ∀ lo, lf (tqC p (20 * p + L.length) lo) (lj_put σ2 8 8 (Int32.ofNat ce)) σ2 := fun lo kk j q => ⟨by rw [lj_put_1, if_neg (fun z => by rw [tqC_t (Or.inr (Or.inr (Or.inl z)))] at q; cases q)], rfl⟩
  obtain ⟨f1, f2, f3, f4, fA, fL, fK, f5⟩ := c_fq h2 fo rfl V2 hs (K := 39) k3 (by decide) (fs 0) g5
  have f3 : σ2.1 94 (σ2.1 8 34).toNatClampNeg = Int32.ofNat ((kY F).2.1 + 1) := f3
  have f4 : lj_in (Int32.ofNat ((kY F).2.1 + 1)) 14000 := f4
  have fA : σ2.1 23 (Int32.ofNat ((kY F).2.1 + 1)).toNatClampNeg = σ0.1 23 ((kY F).2.1 + 1) := fA
  have fL : σ2.1 26 (Int32.ofNat ((kY F).2.1 + 1)).toNatClampNeg = σ0.1 26 ((kY F).2.1 + 1) := fL
  have fK : σ2.1 22 (Int32.ofNat ((kY F).2.1 + 1)).toNatClampNeg = 39 := fK
  have f5 : (Int32.ofNat ((kY F).2.1 + 1)).toNatClampNeg = (kY F).2.1 + 1 := f5
  have cd : ∀ kk j, (kk = 24 ∨ kk = 25) → σ2.1 kk j = σ0.1 kk j := fun kk j z => by
    have := (h2.1.1 kk j (by unfold cdC; simp; omega)).1
    rw [lj_put_1, if_neg (by omega)] at this
    exact this
  obtain ⟨σ3, hσ3⟩ : ∃ s, s = lj_put σ2 94 (20 * p + L.length) (Int32.ofNat ((kY F).2.1 + 1 + 1)) := ⟨_, rfl⟩
  have ch : lj_R lc_P 218 [.ref 8, .int (Int32.ofNat d)] σ3 = some (.inl (some (.int (Int32.ofNat ((kB F + nL σ0 (kY F).1) + 3 * d)))), σ3) := by
    rw [hσ3]
    exact c_hid h2 fo rfl V2 (tq_94 (fs _) _) d (by omega)
  have e24 : σ3.1 24 (Int32.ofNat ((kY F).2.1 + 1)).toNatClampNeg = Int32.ofNat (k + 256 * d) := by rw [hσ3, lj_put_1, if_neg (by omega), f5, cd 24 _ (by omega)]; exact k3''
  have e25 : σ3.1 25 (Int32.ofNat ((kY F).2.1 + 1)).toNatClampNeg = Int32.ofNat a := by rw [hσ3, lj_put_1, if_neg (by omega), f5, cd 25 _ (by omega)]; exact k3a
  have e22 : σ3.1 22 (Int32.ofNat ((kY F).2.1 + 1)).toNatClampNeg = 39 := by rw [hσ3, lj_put_1, if_neg (by omega)]; exact fK
  have e34 : σ3.1 8 34 = Int32.ofNat (20 * p + L.length) := by rw [hσ3, lj_put_1, if_neg (by omega), (g2 8 34 (tqC_f (sxC_f (by omega)) (by omega))).1]; exact V.i34
  have e35 : σ3.1 8 35 = Int32.ofNat (kB F) := by rw [hσ3, lj_put_1, if_neg (by omega), (g2 8 35 (tqC_f (sxC_f (by omega)) (by omega))).1]; exact h.bs hF h0
  have e88 : σ3.1 8 8 = Int32.ofNat (ce + k) := by rw [hσ3, lj_put_1, if_neg (by omega)]; exact g3
  have d64 : d < 64 := by have := nl.2.2.1; omega
  have sh8 : Int32.ofNat (k + 256 * d) >>> ((8 : Int32) &&& 31) = Int32.ofNat d := (fdv_2 ⟨k, by omega⟩ ⟨d, d64⟩).1
  have an8 : Int32.ofNat (k + 256 * d) &&& 255 = Int32.ofNat k := (fdv_2 ⟨k, by omega⟩ ⟨d, d64⟩).2
  have sub : Int32.ofNat (ce + k) - Int32.ofNat k = Int32.ofNat ce := ofN_sub' ce k
  have ice : lj_in (Int32.ofNat ce) 325000 := ofN_in (by omega) (by omega)
  have nce : (Int32.ofNat ce).toNatClampNeg = ce := lz_onat (by omega)
  have ici : lj_in (Int32.ofNat (20 * p + L.length)) 520 := ofN_in (by omega) (by omega)
  have nci : (Int32.ofNat (20 * p + L.length)).toNatClampNeg = (20 * p + L.length) := lz_onat (by omega)
  obtain ⟨σ4, hσ4⟩ : ∃ s, s = lj_put σ3 8 8 (Int32.ofNat ce) := ⟨_, rfl⟩
  have cv4 : ∀ j, cv σ4 j = cv σ2 j := fun j => by rw [hσ4, cv_p _ (by decide), hσ3, cv_p _ (by decide)]
  have cR : lj_R lc_P 217 [.ref 8, .int (Int32.ofNat ((kY F).2.1 + 1)), .int (Int32.ofNat x), .int (σ0.1 26 ((kY F).2.1 + 1))] σ3 = if (cv σ2 ce).1 = 0 then some (.inl none, lj_put σ4 94 (20 * p + L.length) (Int32.ofNat a)) else lj_D lc_P lc_M217 720 [.ref 8, .int (Int32.ofNat ((kY F).2.1 + 1)), .int (Int32.ofNat x), .int (σ0.1 26 ((kY F).2.1 + 1)), .int (Int32.ofNat k), .int (Int32.ofNat ((kB F + nL σ0 (kY F).1) + 3 * d)), .int 0, .retAddr 0] [] σ4 := by
    rw [cg_39 σ3 f4 e22, if_pos f4, if_pos f4, e24, sh8, ch, bi_ok, an8, e88, sub, if_pos ice, nce, ← hσ4]
    have v79 : σ3.1 79 ce = (cv σ2 ce).1 := by rw [hσ3, lj_put_1, if_neg (by omega)]; rfl
    by_cases z : (cv σ2 ce).1 = 0
    · rw [if_pos z, if_pos (v79.trans z), if_pos f4, e34, if_pos ici, nci, e25, kc_217_821, kc_217_917]
    · rw [if_neg z, if_neg (fun y => z (v79.symm.trans y))]
  have cst : ∀ {s : lj_S}, lj_R lc_P 217 [.ref 8, .int (Int32.ofNat ((kY F).2.1 + 1)), .int (Int32.ofNat x), .int (σ0.1 26 ((kY F).2.1 + 1))] σ3 = some (.inl none, s) → ∀ v, goC v σ2 = goC v s := fun {s} q => go_step (by rw [(g2 8 46 (tqC_f (sxC_f (by omega)) (by omega))).1]; exact rg.1) (by
    rw [ca_x σ2 f1 f3 f4 (fA.trans k3') fL fK (by decide), f2, lz_osucc]
    have q' : lj_R lc_P 217 [.ref 8, .int (Int32.ofNat ((kY F).2.1 + 1)), .int (Int32.ofNat x), .int (σ0.1 26 ((kY F).2.1 + 1))] (lj_put σ2 94 (20 * p + L.length) (Int32.ofNat ((kY F).2.1 + 1 + 1))) = some (.inl none, s) := by rw [← hσ3]; exact q
    rw [q', bv_ok, kc_139_1051])
  -- the model
  obtain ⟨τ2, hτ2⟩ : ∃ s, s = mPus p τ me G' := ⟨_, rfl⟩
  have o2 : ∀ kk j, ¬ (kk = 63 ∧ j = p) → kk ≠ 71 → kk ≠ 72 → τ2.1 kk j = τ.1 kk j := fun kk j z1 z2 z3 => by rw [hτ2]; exact (mPus_o p G' τ me kk j z1 (Or.inl ⟨z2, z3⟩)).1
  have at2 : mAt τ2 p (me + k) mq := by
    obtain ⟨a1, a2, a3, a4, a5, a6⟩ := V.at
    refine ⟨by rw [o2 0 111 (by omega) (by omega) (by omega)]; exact a1, a2, ?_, (by omega), by rw [o2 64 p (by omega) (by omega) (by omega)]; exact a5, a6⟩
    rw [hτ2, mPus_63 p G' τ me a3, hl]
  have mv2 : ∀ i, i < k → mv τ2 (10000 * p + (me + i)) = G'.getD i (0, 0) := fun i hi => by rw [hτ2]; exact mPus_v p G' τ me i (by omega)
  have mvo : ∀ i, i < me → mv τ2 (10000 * p + i) = mv τ (10000 * p + i) := fun i hi => by
    have q1 := mPus_o p G' τ me 71 (10000 * p + i) (by omega) (by omega)
    have q2 := mPus_o p G' τ me 72 (10000 * p + i) (by omega) (by omega)
    rw [hτ2]
    unfold mv
    rw [q1.1, q2.2]
  obtain ⟨τ3, hτ3⟩ : ∃ s, s = lj_put τ2 77 (48 * p + L.length) (Int32.ofNat ((kY F).2.2.1 + 1)) := ⟨_, rfl⟩
  have at3 : mAt τ3 p (me + k) mq := by rw [hτ3]; exact mAt_p (i := (48 * p + L.length)) (v := Int32.ofNat ((kY F).2.2.1 + 1)) at2
  have mv3 : ∀ j, mv τ3 j = mv τ2 j := fun j => by rw [hτ3]; exact mv_p _ (by decide)
  have dv : Int32.ofNat (100 * k + x) / 100 = Int32.ofNat k := fdv_1 ⟨k, by omega⟩ ⟨x, by omega⟩
  have md : Int32.ofNat (100 * k + x) - Int32.ofNat k * 100 = Int32.ofNat x := by
    rw [show (100 : Int32) = Int32.ofNat 100 from rfl, ← Int32.ofNat_mul, show 100 * k + x = x + k * 100 by omega]
    exact ofN_sub' x (k * 100)
  have ei : 10000 * τ3.1 0 111 + τ3.1 63 (τ3.1 0 111).toNatClampNeg - Int32.ofNat k = Int32.ofNat (10000 * p + me) := by
    rw [at3.i.2.2.1, ← Nat.add_assoc]
    exact ofN_sub' (10000 * p + me) k
  have ej : Int32.ofNat (10000 * p + me) - 1 = Int32.ofNat (10000 * p + (m0 + 2)) := by
    rw [show 10000 * p + me = 10000 * p + (m0 + 2) + 1 by omega]
    exact ofN_sub' (10000 * p + (m0 + 2)) 1
  have ii : lj_in (Int32.ofNat (10000 * p + me)) 260000 := ofN_in (by omega) (by omega)
  have ij : lj_in (Int32.ofNat (10000 * p + (m0 + 2))) 260000 := ofN_in (by omega) (by omega)
  have ni : (Int32.ofNat (10000 * p + me)).toNatClampNeg = 10000 * p + me := lz_onat (by omega)
  have nj : (Int32.ofNat (10000 * p + (m0 + 2))).toNatClampNeg = 10000 * p + (m0 + 2) := lz_onat (by omega)
  have imi : lj_in (Int32.ofNat (48 * p + L.length)) 1248 := ofN_in (by omega) (by omega)
  have nmi : (Int32.ofNat (48 * p + L.length)).toNatClampNeg = (48 * p + L.length) := lz_onat (by omega)
  have mv0 : (τ3.1 71 (10000 * p + me), τ3.2 72 (10000 * p + me)) = G'.getD 0 (0, 0) := by
    have := mv2 0 hk0
    rw [← mv3] at this
    exact this
  have mv0a : τ3.1 71 (10000 * p + me) = (G'.getD 0 (0, 0)).1 := congrArg Prod.fst mv0
  have mv0b : τ3.2 72 (10000 * p + me) = (G'.getD 0 (0, 0)).2 := congrArg Prod.snd mv0
  have k0 : (cv σ2 ce).1 = 0 ↔ (G'.getD 0 (0, 0)).1 = 0 := (v0 0 hk0).k0
  obtain ⟨τ4, hτ4⟩ : ∃ s, s = lj_putL (lj_put τ3 71 (10000 * p + (m0 + 2)) (G'.getD 0 (0, 0)).1) 72 (10000 * p + (m0 + 2)) (G'.getD 0 (0, 0)).2 := ⟨_, rfl⟩
  have dr := m_drop at3 (d := k) (by omega)
  rw [Nat.add_sub_cancel] at dr
  have mR : lj_R lm_P 176 [.ref 0, .int (Int32.ofNat (48 * p + L.length)), .int (Int32.ofNat a'), .int (Int32.ofNat (100 * k + x))] τ3 = if (cv σ2 ce).1 = 0 then some (.inl none, lj_put (lj_put τ3 63 p (Int32.ofNat me)) 77 (48 * p + L.length) (Int32.ofNat a')) else lj_D lm_P lm_M176 94 [.ref 0, .int (Int32.ofNat (48 * p + L.length)), .int (Int32.ofNat a'), .int (Int32.ofNat (100 * k + x)), .int (Int32.ofNat k), .int (Int32.ofNat x), .int (Int32.ofNat (10000 * p + me)), .int 0] [] τ4 := by
    rw [rm_176, km_176_0, if_neg (by decide), if_neg (by decide), dv, if_pos at3.i.1, ei, if_pos ii, md]
    simp only [ni, mv0a, mv0b]
    by_cases z : (cv σ2 ce).1 = 0
    · rw [if_pos z, if_pos (k0.1 z), dr, bv_ok, if_pos imi, nmi]
    · rw [if_neg z, if_neg (fun y => z (k0.2 y)), ej, if_pos ii, if_pos ij, if_pos ii, if_pos ij, nj, ← hτ4]
  have mst : ∀ {t : lj_S}, lj_R lm_P 176 [.ref 0, .int (Int32.ofNat (48 * p + L.length)), .int (Int32.ofNat a'), .int (Int32.ofNat (100 * k + x))] τ3 = some (.inl none, t) → ∀ x, mRun x (mPus p τ me G') = mRun x t := fun {t} q => by
    rw [← hτ2]
    refine run_step (by rw [o2 0 143 (by omega) (by omega) (by omega)]; exact rg.2.1) (by rw [o2 0 129 (by omega) (by omega) (by omega)]; exact rg.2.2.1) (m_hx h hF h0 hs (o2 0 111 (by omega) (by omega) (by omega)) (o2 62 p (by omega) (by omega) (by omega)) (fun kk j z1 z2 => o2 kk j (by omega) (by omega) (by omega)) (by rw [o2 77 _ (by omega) (by omega) (by omega)]; exact V.2.2.2.2.1.2.1.2.2.2.1) at2 (fun _ => ?_) k2 (by decide) (fun z1 z2 z3 => ?_))
    · rw [show me + k - 1 = me + (k - 1) by omega, mv2 (k - 1) (by omega)]
      exact (hv (k - 1) (by omega)).nn
    · rw [← hτ3] at z3 ⊢
      have e22 : τ3.1 22 (Int32.ofNat (kY F).2.2.1).toNatClampNeg = Int32.ofNat (100 * k + x) := by
        rw [z2, hτ3, lj_put_1, if_neg (by omega), o2 22 _ (by omega) (by omega) (by omega), (h.1.2 22 _ (by unfold cdM; simp)).1]
        exact k2''
      rw [mz_43 _ z1 z3, if_pos z1, e22, k2', q, bv_ok, km_153_483]
  by_cases z : (cv σ2 ce).1 = 0
  · -- over
    rw [if_pos z] at cR mR
    have fC : lf (tqC p (20 * p + L.length) ce) σ (lj_put σ4 94 (20 * p + L.length) (Int32.ofNat a)) := by rw [hσ4, hσ3]; exact tq_94 (tq_88 (tq_94 g2 _) _) _
    have fM : lf (tqM p (48 * p + L.length) me mq) τ (lj_put (lj_put τ3 63 p (Int32.ofNat me)) 77 (48 * p + L.length) (Int32.ofNat a')) := by rw [hτ3, hτ2]; exact tm_77 (tm_63 (tm_77 (tm_pus G' (lf_rf _ _) (Nat.le_refl _) (by omega)) _) _) _
    obtain ⟨y1, y2⟩ := h.dn hF h0 rg V V.st fC fM (by rw [lj_put_1, if_neg (by omega), hσ4, lj_put_1, if_neg (by omega), hσ3, lj_put_1, if_neg (by omega)]; exact g4) (c' := a) (m' := a') (n' := nn + 1) (by simp [lj_put_1, lj_putL_1]) (by simp [lj_put_1, lj_putL_1]) (by rw [lj_put_1, if_neg (by omega), hσ4, lj_put_1, if_pos ⟨rfl, rfl⟩]) (by rw [lj_put_1, if_neg (by omega), lj_put_1, if_pos ⟨rfl, rfl⟩]) (by rw [lj_put_1, if_neg (by omega), lj_put_1, if_neg (by omega)]; exact at3.2.2.2.2.1) V.ff.1.2.2.2.1 V.fl (Or.inr ⟨Nat.succ_ne_zero _, w3⟩) (fun j => by rw [lj_put_1, if_neg (by omega), hσ4, lj_put_1, if_neg (by omega), hσ3, lj_put_1, if_neg (by omega)]; exact g7 j)
    exact ⟨ρ, _, _, ((kY F).1, a, a', (kY F).2.2.2.1, (kY F).2.2.2.2.1, (kY F).2.2.2.2.2), fun v => (g1 v).trans (cst cR v), mst mR, y1, y2⟩
  · -- it goes on
    rw [if_neg z] at cR mR
    obtain ⟨σ5, hσ5⟩ : ∃ s, s = setC σ4 ((kB F + nL σ0 (kY F).1) + 3 * d + 2) (cv σ4 ce) := ⟨_, rfl⟩
    obtain ⟨τ5, hτ5⟩ : ∃ s, s = lj_put τ4 63 p (Int32.ofNat me) := ⟨_, rfl⟩
    have h3 : (kB F + nL σ0 (kY F).1) + 3 * d + 3 ≤ ce := by omega
    have fC : lf (tqC p (20 * p + L.length) (kB F + nL σ0 (kY F).1)) σ σ5 := by
      rw [hσ5, hσ4, hσ3]
      exact tq_set (tq_88 (tq_94 (g2.mo (fun kk j q => tqC_lo (by omega) q)) _) _) _ (by omega) (by omega) (by omega)
    have fM : lf (tqM p (48 * p + L.length) (ms + kD F) ks) τ τ5 := by
      rw [hτ5, hτ4, hτ3, hτ2]
      exact tm_63 (lf_putL (lf_put (tm_77 (tm_pus G' (lf_rf _ _) (by omega) (by omega)) _) 71 _ _ (tqM_t (by omega))) 72 _ _ (tqM_t (by omega))) _
    have oC : ∀ kk j, (kk = 79 ∨ kk = 80 ∨ kk = 81) → j < ce → j ≠ (kB F + nL σ0 (kY F).1) + 3 * d + 2 → σ5.1 kk j = σ.1 kk j ∧ σ5.2 kk j = σ.2 kk j := fun kk j z1 z2 z3 => by
      obtain ⟨q1, q2⟩ := setC_o σ4 ((kB F + nL σ0 (kY F).1) + 3 * d + 2) (cv σ4 ce) kk j (by omega)
      obtain ⟨q3, q4⟩ := g2 kk j (tqC_f (sxC_f (by omega)) (by omega))
      rw [hσ5]
      exact ⟨q1.trans (by rw [hσ4, lj_put_1, if_neg (by omega), hσ3, lj_put_1, if_neg (by omega)]; exact q3), q2.trans (by rw [hσ4, hσ3]; exact q4)⟩
    have oM : ∀ j, j < me → j ≠ m0 + 2 → τ5.1 71 (10000 * p + j) = τ.1 71 (10000 * p + j) ∧ τ5.2 72 (10000 * p + j) = τ.2 72 (10000 * p + j) := fun j z1 z2 => by
      have q1 := mPus_o p G' τ me 71 (10000 * p + j) (by omega) (by omega)
      have q2 := mPus_o p G' τ me 72 (10000 * p + j) (by omega) (by omega)
      rw [hτ5, hτ4, hτ3, hτ2]
      refine ⟨?_, ?_⟩
      · rw [lj_put_1, if_neg (by omega), lj_putL_1, lj_put_1, if_neg (by omega), lj_put_1, if_neg (by omega)]; exact q1.1
      · rw [lj_put_2, lj_putL_2, if_neg (by omega), lj_put_2, lj_put_2]; exact q2.2
    have m5 : ∀ kk j, kk ≠ 71 → kk ≠ 72 → ¬ (kk = 63 ∧ j = p) → ¬ (kk = 77 ∧ j = (48 * p + L.length)) → τ5.1 kk j = τ.1 kk j := fun kk j z1 z2 z3 z4 => by
      rw [hτ5, lj_put_1, if_neg z3, hτ4, lj_putL_1, lj_put_1, if_neg (by omega), hτ3, lj_put_1, if_neg z4, o2 kk j z3 z1 z2]
    have c5 : ∀ kk j, kk ≠ 79 → kk ≠ 80 → kk ≠ 75 → kk ≠ 76 → σ5.1 kk j = σ4.1 kk j := fun kk j z1 z2 z3 z4 => by rw [hσ5]; exact (setC_o σ4 _ _ kk j (by omega)).1
    have stn : stk σ5 τ5 p (kB F + nL σ0 (kY F).1) (kB F + nL σ0 (kY F).1 + 3 * nH σ0 (kY F).1) (ms + kD F) ks (4 :: s') ce me mq (σ5.1 97 (20 * p + L.length)) := by
      rw [c5 97 _ (by omega) (by omega) (by omega) (by omega), hσ4, lj_put_1, if_neg (by omega), hσ3, lj_put_1, if_neg (by omega), g4]
      refine Or.inr (Or.inr (Or.inl ⟨Or.inr rfl, m0, em, fun i hi => ⟨?_, fun y => absurd y (by decide)⟩, ?_⟩))
      · rw [← hd]
        by_cases y : i = 2
        · subst y
          have e1 : cv σ5 ((kB F + nL σ0 (kY F).1) + 3 * d + 2) = cv σ2 (ce + 0) := by rw [hσ5, cv_ss _ (by omega), cv4]; rfl
          have e2 : mv τ5 (10000 * p + m0 + 2) = G'.getD 0 (0, 0) := by
            rw [Nat.add_assoc, hτ5, mv_p _ (by decide), hτ4]
            unfold mv
            rw [lj_putL_1, lj_put_1, if_pos ⟨rfl, rfl⟩, lj_putL_2, if_pos ⟨rfl, rfl⟩]
          rw [e1, e2]
          exact vR_tq fC fM (v0 0 hk0)
        · have e1 : cv σ5 ((kB F + nL σ0 (kY F).1) + 3 * d + i) = cv σ ((kB F + nL σ0 (kY F).1) + 3 * d + i) := by
            unfold cv
            rw [(oC 79 _ (by omega) (by omega) (by omega)).1, (oC 80 _ (by omega) (by omega) (by omega)).2]
          have e2 : mv τ5 (10000 * p + m0 + i) = mv τ (10000 * p + m0 + i) := by
            unfold mv
            rw [Nat.add_assoc, (oM (m0 + i) (by omega) (by omega)).1, (oM (m0 + i) (by omega) (by omega)).2]
          rw [e1, e2]
          exact vR_tq fC fM (hv3 i hi).1
      · exact stk_cg (fun a b q => vR_tq fC fM q) st3 (fun j q => ⟨(oC 79 j (by omega) (by omega) (by omega)).1, (oC 80 j (by omega) (by omega) (by omega)).2, (oC 81 j (by omega) (by omega) (by omega)).1⟩) (fun j q => ⟨(oC 79 j (by omega) (by omega) (by omega)).1, (oC 80 j (by omega) (by omega) (by omega)).2⟩) (fun j q => oM j (by omega) (by omega)) (fun j q => m5 73 _ (by omega) (by omega) (by omega) (by omega))
    obtain ⟨h5, r5⟩ := h.hf hF h0 rg V fC fM (s' := 4 :: s') (c' := (kY F).2.1 + 1 + 1) (m' := (kY F).2.2.1 + 1) (n' := 0) (w' := 0) (ce' := ce) (me' := me) (mq' := mq) stn (by rw [c5 94 _ (by omega) (by omega) (by omega) (by omega), hσ4, lj_put_1, if_neg (by omega), hσ3, lj_put_1, if_pos ⟨rfl, rfl⟩]) (by rw [hτ5, lj_put_1, if_neg (by omega), hτ4, lj_putL_1, lj_put_1, if_neg (by omega), hτ3, lj_put_1, if_pos ⟨rfl, rfl⟩]) (by rw [c5 8 8 (by omega) (by omega) (by omega) (by omega), hσ4, lj_put_1, if_pos ⟨rfl, rfl⟩]) (by rw [hτ5, lj_put_1, if_pos ⟨rfl, rfl⟩]) (by rw [m5 64 p (by omega) (by omega) (by omega) (by omega)]; exact m64) (by have := V.ff.1.2.2.2.1; rw [hsh] at this; exact this) (by have := V.fl; rw [hsh] at this; exact this) (Or.inl ⟨rfl, rfl⟩) (fun y => absurd rfl y) (fun j => by rw [c5 81 j (by omega) (by omega) (by omega) (by omega), hσ4, lj_put_1, if_neg (by omega), hσ3, lj_put_1, if_neg (by omega)]; exact g7 j)
    have mv5 : ∀ i, i < k → mv τ5 (10000 * p + (me + i)) = G'.getD i (0, 0) := fun i hi => by
      have q := mv2 i hi
      rw [← mv3] at q
      rw [hτ5, mv_p _ (by decide), hτ4]
      unfold mv at q ⊢
      rw [lj_putL_1, lj_put_1, if_neg (by omega), lj_putL_2, if_neg (by omega)]
      exact q
    obtain ⟨τ6, ρ6, x1, x2, x3⟩ := x_fst h5 (x := x) (k := k) (me := me) (fun i => cv σ4 (ce + i)) (by omega) xn hx.2.1 hmb (fun i hi => by
      rw [mv5 i hi, cv4]
      exact vR_tq fC fM (v0 i hi)) (Int32.ofNat (me + k)) (Int32.ofNat a') (Int32.ofNat (100 * k + x)) k (Nat.le_refl _)
    have e63 : lj_put τ5 63 p (Int32.ofNat (me + k)) = τ4 := by
      have q := put_id τ4 63 p
      have q1 : τ4.1 63 p = Int32.ofNat (me + k) := by rw [hτ4, lj_putL_1, lj_put_1, if_neg (by omega)]; exact at3.2.2.1
      rw [q1] at q
      rw [hτ5, put_put]
      exact q
    rw [e63] at x1
    have n6 : ∀ kk j, ¬ (54 ≤ kk ∧ kk ≤ 57) → ¬ (kk = 0 ∧ j = 96) → kk ≠ 87 → τ6.1 kk j = τ5.1 kk j ∧ τ6.2 kk j = τ5.2 kk j := fun kk j z1 z2 z3 => x2 kk j (by unfold nlM; simp; omega)
    have at6 : mAt (lj_put τ6 63 p (Int32.ofNat (me + k))) p (me + k) mq := by
      obtain ⟨a1, a2, a3, a4, a5, a6⟩ := V.at
      exact ⟨by rw [lj_put_1, if_neg (by omega), (n6 0 111 (by omega) (by omega) (by omega)).1, m5 0 111 (by omega) (by omega) (by omega) (by omega)]; exact a1, a2, by rw [lj_put_1, if_pos ⟨rfl, rfl⟩], (by omega), by rw [lj_put_1, if_neg (by omega), (n6 64 p (by omega) (by omega) (by omega)).1, m5 64 p (by omega) (by omega) (by omega) (by omega)]; exact a5, a6⟩
    have dr6 := m_drop at6 (d := k) (by omega)
    rw [Nat.add_sub_cancel, put_put] at dr6
    have e6 : lj_put τ6 63 p (Int32.ofNat me) = τ6 := by
      have q := put_id τ6 63 p
      have q1 : τ6.1 63 p = Int32.ofNat me := by rw [(n6 63 p (by omega) (by omega) (by omega)).1, hτ5, lj_put_1, if_pos ⟨rfl, rfl⟩]
      rw [q1] at q
      exact q
    rw [e6] at dr6
    have mR6 : lj_R lm_P 176 [.ref 0, .int (Int32.ofNat (48 * p + L.length)), .int (Int32.ofNat a'), .int (Int32.ofNat (100 * k + x))] τ3 = some (.inl none, τ6) := by
      rw [mR, x1, km_176_94, if_pos ((ofN_le (by omega) (by omega)).2 (Nat.le_refl _)), dr6, bv_ok]
    have cL := c_fst (t := ce) (b := kB F) (x := x) (hh := (kB F + nL σ0 (kY F).1) + 3 * d) (k := k) (σ := σ4) (Int32.ofNat ((kY F).2.1 + 1)) (σ0.1 26 ((kY F).2.1 + 1)) (by omega) (by omega) (by omega) (by omega) (by omega) (by rw [hσ4, lj_put_1, if_pos ⟨rfl, rfl⟩]) (by rw [hσ4, lj_put_1, if_neg (by omega)]; exact e35) k 0 (Nat.zero_add _)
    rw [sL_s _ _ _ _ (by omega) _ (by omega), ← hσ5] at cL
    have cR6 := cR.trans cL
    have r6 : rgR (sL (kB F + x) (fun i => cv σ4 (ce + i)) σ5 k) τ6 := by
      obtain ⟨r1, r2, r3, r4, r5⟩ := r5
      have so := fun kk j => sL_o (kB F + x) (fun i => cv σ4 (ce + i)) σ5 kk j k (by omega)
      exact ⟨by rw [(so 8 46 (by omega)).1]; exact r1, by rw [(n6 0 143 (by omega) (by omega) (by omega)).1]; exact r2, by rw [(n6 0 129 (by omega) (by omega) (by omega)).1]; exact r3, by rw [(so 8 45 (by omega)).1, (n6 0 144 (by omega) (by omega) (by omega)).1]; exact r4, by rw [(so 8 44 (by omega)).2, (n6 0 145 (by omega) (by omega) (by omega)).2]; exact r5⟩
    have w2' : gn σ0 τ0 nn ((kY F).1, (kY F).2.1 + 1 + 1, (kY F).2.2.1 + 1, 4 :: s', ((List.range k).map (x + ·)).reverse ++ (kY F).2.2.2.2.1, (kY F).2.2.2.2.2) := by rw [← hsh]; exact w2
    exact ⟨ρ6, _, _, ((kY F).1, (kY F).2.1 + 1 + 1, (kY F).2.2.1 + 1, 4 :: s', ((List.range k).map (x + ·)).reverse ++ (kY F).2.2.2.2.1, (kY F).2.2.2.2.2), fun v => (g1 v).trans (cst cR6 v), mst mR6, x3.fin r6 w2', r6⟩
