/-! called fors: the call -/
/-- half-way, a called for waits -/
theorem hw_10 {σ0 τ0 σ τ : lj_S} {n np p : Nat} {r : List Nat} {FP : Nat → List kF} {ρ : Nat → Nat} {A MO LA : List Nat} (h : MB σ0 τ0 n np p r FP ρ A MO LA σ τ) {F : kF} {L : List kF} (hF : FP p = F :: L) (h0 : kS F = 0) (hs : stF σ0 τ0) {ms ks ce me mq : Nat} (V : vw σ0 τ0 σ τ ρ FP p F L ms ks ce me mq) {G G' : List vT} (d : dlR σ τ G G') (hw : kW F = 10) (hm : τ.1 0 130 = 0) (hn : τ.1 0 131 = waN σ0 (kY F).2.1 (kW F)) : hoX σ0 τ0 n np p r FP A MO LA (hfS σ (20 * p + L.length) ce G) τ F L := by
  have B := V.bd
  have dl := d.l
  obtain ⟨w1, w2, w3, w4⟩ := V.wt (by omega)
  have rm := V.rm w4
  have h' := h.t129 0
  have rg := d.rg
  obtain ⟨ms1, ks1, ce1, me1, mq1, V1⟩ := h'.w hF h0
  have B1 := V1.bd
  have ec : ce1 = ce := (ofN_eq (by omega) (by omega)).1 (by rw [← V1.tp, ← V.tp])
  have em : me1 = me := (ofN_eq (by omega) (by omega)).1 (by rw [← V1.at.2.2.1, ← V.at.2.2.1, lj_put_1, if_neg (by omega)])
  subst ec em
  have hf := hfw_mk (σ := σ) (p := p) (i := (20 * p + L.length)) (ce := ce1) (G := G) V.i34 (by omega) (by omega) (by omega)
  have eN : kN F - 1 + 1 = kN F := by omega
  have vv : ∀ i, vR σ (lj_put τ 0 129 0) (G.getD i (0, 0)) (G'.getD i (0, 0)) := fun i => vR_129 (d.2.2.2.2.2 i) 0
  rw [hw] at w2 hn
  obtain ⟨q, k, x, a, a', s', y1, y2, y3, y4, y5, y6, y7, y8, y9, y10, y11, y12, y13, y14, y15, y16, y17, y18, y19⟩ : ∃ (q k x a a' : Nat) (s' : List Nat), a < 14000 ∧ a' < 14000 ∧ 0 < k ∧ (x + k ≤ 50 ∧ (∀ y ∈ (kY F).2.2.2.2.1, y < x) ∧ ((x + k : Nat) : Int) ≤ lv σ0 31 (kY F).1) ∧ (kY F).2.2.2.1 = 4 :: s' ∧ q = (flo s').length ∧ (q : Int) < lv σ0 32 (kY F).1 ∧ σ0.1 22 (kY F).2.1 = 20 ∧ σ0.1 23 (kY F).2.1 = Int32.ofNat k ∧ σ0.1 24 (kY F).2.1 = 1 ∧ σ0.1 22 ((kY F).2.1 + 1) = 39 ∧ σ0.1 23 ((kY F).2.1 + 1) = Int32.ofNat x ∧ σ0.1 24 ((kY F).2.1 + 1) = Int32.ofNat (k + 256 * q) ∧ σ0.1 25 ((kY F).2.1 + 1) = Int32.ofNat a ∧ τ0.1 20 (kY F).2.2.1 = 43 ∧ τ0.1 21 (kY F).2.2.1 = Int32.ofNat a' ∧ τ0.1 22 (kY F).2.2.1 = Int32.ofNat (100 * k + x) ∧ gn σ0 τ0 (kN F - 1) ((kY F).1, (kY F).2.1 + 2, (kY F).2.2.1 + 1, (kY F).2.2.2.1, ((List.range k).map (x + ·)).reverse ++ (kY F).2.2.2.2.1, (kY F).2.2.2.2.2) ∧ gn σ0 τ0 (kN F - 1) ((kY F).1, a, a', (kY F).2.2.2.1, (kY F).2.2.2.2.1, (kY F).2.2.2.2.2) := w2
  have hn : τ.1 0 131 = Int32.ofNat k := by
    rw [hn]
    unfold waN
    rw [if_pos rfl]
    exact y9
  have dm := m_dlvV (nn := k) (V.mf hF) V.at d.2.2.1 (by omega) hm (Or.inl ⟨hn, by omega⟩) (by omega)
  have mst := dl_step d.1.2.1 d.1.2.2.1 dm
  obtain ⟨ρ', σ', τ', z, g1, g2, g3, g4⟩ := hf_for h' hF h0 rg V1 hs (G' := tkN G' k) hf (by omega) (by omega) y1 y2 y3 y4 y5 y6 y7 y8 y9 y10 y11 y12 y13 y14 y15 y16 y17 y18 y19 (tkN_len _ _) (fun i hi => by rw [tkN_get _ _ _ hi]; exact vv i) (by omega) (by omega)
  rw [eN] at g3
  exact Or.inl ⟨ρ', σ', τ', z, g1, fun x => (mst x).trans (g2 x), g3, g4⟩
/-- a call with two values that are given already -/
theorem x_cg2 {σ0 τ0 σ τ : lj_S} {n np p : Nat} {r : List Nat} {FP : Nat → List kF} {ρ : Nat → Nat} {A MO LA : List Nat} (C : ∀ M k, CAL σ0 τ0 M k) (h : MB σ0 τ0 n np p r FP ρ A MO LA σ τ) (ry : ryR σ τ) (hwk : wkR FP (p :: r) A σ) {F : kF} {L : List kF} (hF : FP p = F :: L) (h0 : kS F = 0) (hW : kW F ≠ 0) {f f' c c' d d' : vT} (hf : vR σ τ f f') (hc : vR σ τ c c') (hd : vR σ τ d d') (hg : gvC σ [c, d]) (line : Int32) {as md wt : Int32} (e : as = waA (kW F) ∧ md = waM (kW F) ∧ wt = waN σ0 (kY F).2.1 (kW F)) (hT : thM FP (p :: r) MO LA + 5001 ≤ TH) : ocR σ0 τ0 A (fun t => t ≤ thM FP (p :: r) MO LA + 5001) σ (gv2 τ md wt line f' c' d') (lj_R lc_P 155 [.ref 8, .int f.1, .long f.2, .int as, .int line] σ) := by
  have g2 := gv2_lf τ md wt line f' c' d'
  have v2 := gv2_v τ md wt line f' c' d'
  have sM' : lf szM τ (gv2 τ md wt line f' c' d') := g2.mo (fun k j q => by unfold szM at q; unfold gv2s; simp at q ⊢; omega)
  have h2 := h.sc (lf_rf szC σ) sM'
  have vv : ∀ {a b : vT}, vR σ τ a b → vR σ (gv2 τ md wt line f' c' d') a b := fun w => w.cg (fun k j q => rfl) (fun k j q => (g2 k j (by unfold vqM at q; unfold gv2s; simp at q ⊢; omega)).1)
  have px := pfx_0 (r := r) hF h0
  exact C (thM FP (p :: r) MO LA) 200 n np p r FP ρ A MO LA σ _ f f' [c, d] [c', d'] as line h2 ⟨ry.1, by rw [(g2 0 143 rfl).1]; exact ry.2.1, by rw [(g2 0 144 rfl).1]; exact ry.2.2.1, by rw [(g2 0 145 rfl).2]; exact ry.2.2.2⟩ hwk (vv hf) v2.2.2.2.2.1 v2.1 (by rw [hF, v2.2.1, v2.2.2.1]; exact wa_aw h0 hW e) v2.2.2.2.1 ⟨hg, v2.2.2.2.2.2, rfl, fun j hj => by
    have hj : j < 2 := hj
    rcases Nat.lt_or_ge j 1 with q | q
    · have : j = 0 := by omega
      subst this
      exact vv hc
    · have : j = 1 := by omega
      subst this
      exact vv hd⟩ (Or.inl ⟨by rw [px]; simp, by simp⟩) (Nat.le_refl _) hT
theorem act_51 {σ0 τ0 σ τ : lj_S} {n np p : Nat} {r : List Nat} {FP : Nat → List kF} {ρ : Nat → Nat} {A MO LA : List Nat} (h : MB σ0 τ0 n np p r FP ρ A MO LA σ τ) {F : kF} {L : List kF} (hF : FP p = F :: L) (h0 : kS F = 0) (rg : rgR σ τ) (hs : stF σ0 τ0) {Z : List pT} (hk : insK σ0 τ0 (kY F).1 (kY F).2.1 (kY F).2.2.1 (kY F).2.2.2.1 (kY F).2.2.2.2.1 (kY F).2.2.2.2.2 Z 51) {n' : Nat} (hn : ∀ z ∈ Z, gn σ0 τ0 n' z) (hA : A = []) (hN : n' + 6001 ≤ kN F) (hwk : wkR FP (p :: r) A σ) (C : ∀ M k, CAL σ0 τ0 M k) (hT : thM FP (p :: r) MO LA ≤ TH) : acR σ0 τ0 (fun t => t < thM FP (p :: r) MO LA) σ τ := by
  subst hA
  obtain ⟨d, k, x, a, a', s', ha, hb, hk0, hx, hsh, hd, hd2, k1, k1', c1, cl, c2, c2', c2'', c3, c3', c3'', c3a, m1, m1', m2, m2', m2'', ksc, rfl⟩ := hk
  obtain ⟨ms, ks, ce, me, mq, V⟩ := h.w hF h0
  have B := V.bd
  have nl := V.ff.1
  have st := V.st
  have m64 : τ.1 64 p = Int32.ofNat mq := V.at.2.2.2.2.1
  rw [hsh] at st
  obtain ⟨m0, em, hv3, st3⟩ := st.u3 (Or.inr rfl)
  obtain ⟨b1, b2, b3, _⟩ := stk_bd st3
  rw [← hd] at hv3
  have dn : d < nH σ0 (kY F).1 := by unfold nH; omega
  have gz1 := hn _ List.mem_cons_self
  have gz2 := hn _ (List.mem_cons_of_mem _ List.mem_cons_self)
  have wt : wtR σ0 τ0 (kY F).1 ((kY F).2.1 + 2) ((kY F).2.2.1 + 1) (kY F).2.2.2.1 (kY F).2.2.2.2.1 (kY F).2.2.2.2.2 n' 10 := ⟨d, k, x, a, a', s', ha, hb.1, hk0, hx, hsh, hd, hd2, c2, c2', c2'', c3, c3', c3'', c3a, m2, m2', m2'', gz1, gz2⟩
  have n5 : ∀ y ∈ (kY F).2.2.2.1, y ≠ 5 := fun y hy => by
    have o := gn_ok gz2
    have o : sOK (kY F).2.2.2.1 := o
    rw [hsh] at o hy
    rcases List.mem_cons.1 hy with q | q
    · rw [q]; decide
    · exact o.2.2.2 y q
  have hX := lsX_of h.npr hF h0 MO LA hN
  have pc14 : (kY F).2.1 + 1 < 14000 := Nat.lt_of_not_le (fun q => by rw [hs.1 _ q] at c1; exact absurd c1 (by decide))
  obtain ⟨f1, f2, f3, f4, fA, fL, fK, f5⟩ := c_ft h hF h0 hs k1 (by decide)
  -- the component lays what is to be called
  obtain ⟨hh, ehh⟩ : ∃ y, y = (kB F + nL σ0 (kY F).1) + 3 * d := ⟨_, rfl⟩
  have hh3 : hh + 3 ≤ ce := by omega
  obtain ⟨σa, hσa⟩ : ∃ s, s = lj_put σ 94 (20 * p + L.length) (Int32.ofNat ((kY F).2.1 + 1)) := ⟨_, rfl⟩
  have a0 : ∀ kk j, ¬ (kk = 94 ∧ j = (20 * p + L.length)) → σa.1 kk j = σ.1 kk j := fun kk j z => by rw [hσa, lj_put_1, if_neg z]
  have a02 : ∀ kk j, σa.2 kk j = σ.2 kk j := fun kk j => by rw [hσa]; rfl
  have fa : lf (tqC p (20 * p + L.length) ce) σ σa := by rw [hσa]; exact tq_94 (lf_rf _ _) _
  have ch : lj_R lc_P 218 [.ref 8, .int (Int32.ofNat d)] σa = some (.inl (some (.int (Int32.ofNat hh))), σa) := by
    rw [hσa, ehh]
    exact c_hid h hF h0 V (tq_94 (lf_rf _ _) _) d (by omega)
  obtain ⟨σb, hσb⟩ : ∃ s, s = cPu σa ce (cv σ hh) := ⟨_, rfl⟩
  have p1 : lj_R lc_P 137 [.ref 8, .int (cv σ hh).1, .long (cv σ hh).2] σa = some (.inl none, σb) := by rw [hσb]; exact c_push (by rw [a0 8 8 (by omega)]; exact V.tp) (by omega) _
  have fb : lf (tqC p (20 * p + L.length) ce) σa σb := by rw [hσb]; exact tq_pu (lf_rf _ _) _ (by omega) (by omega)
  have b34 : σb.1 8 34 = Int32.ofNat (20 * p + L.length) := by rw [(fb 8 34 (tqC_f (sxC_f (by omega)) (by omega))).1, a0 8 34 (by omega)]; exact V.i34
  have b8 : σb.1 8 8 = Int32.ofNat (ce + 1) := by rw [hσb]; exact cPus_8 [cv σ hh] σa ce (by rw [a0 8 8 (by omega)]; exact V.tp)
  have p2 := c_pushMark b8 (by omega) b34 (by omega)
  obtain ⟨σc, hσc⟩ : ∃ s, s = cPu (lj_put σb 97 (20 * p + L.length) (Int32.ofNat (ce + 1))) (ce + 1) (9, (σb.1 97 (20 * p + L.length)).toInt64) := ⟨_, rfl⟩
  rw [← hσc] at p2
  have fc : lf (tqC p (20 * p + L.length) ce) σa σc := by rw [hσc]; exact tq_pu (tq_97 fb _) _ (by omega) (by omega)
  have c8 : σc.1 8 8 = Int32.ofNat (ce + 1 + 1) := by rw [hσc, cPu_1, if_pos ⟨rfl, rfl⟩]
  obtain ⟨σd, hσd⟩ : ∃ s, s = cPu σc (ce + 1 + 1) (cv σ (hh + 1)) := ⟨_, rfl⟩
  have p3 : lj_R lc_P 137 [.ref 8, .int (cv σ (hh + 1)).1, .long (cv σ (hh + 1)).2] σc = some (.inl none, σd) := by rw [hσd]; exact c_push c8 (by omega) _
  have fd : lf (tqC p (20 * p + L.length) ce) σa σd := by rw [hσd]; exact tq_pu fc _ (by omega) (by omega)
  have d8 : σd.1 8 8 = Int32.ofNat (ce + 1 + 1 + 1) := by rw [hσd, cPu_1, if_pos ⟨rfl, rfl⟩]
  obtain ⟨σe, hσe⟩ : ∃ s, s = hfS σb (20 * p + L.length) (ce + 1) [cv σ (hh + 1), cv σ (hh + 2)] := ⟨_, rfl⟩
  have p4 : lj_R lc_P 137 [.ref 8, .int (cv σ (hh + 2)).1, .long (cv σ (hh + 2)).2] σd = some (.inl none, σe) := by
    have q := c_push d8 (by omega) (cv σ (hh + 2))
    rw [q, hσe, hσd, hσc]
    rfl
  have hf := hfw_mk (σ := σb) (p := p) (i := (20 * p + L.length)) (ce := ce + 1) (G := [cv σ (hh + 1), cv σ (hh + 2)]) b34 (by omega) (by omega) (by show ce + 1 + 1 + 2 < _; omega)
  rw [← hσe] at hf
  have fe : lf (tqC p (20 * p + L.length) ce) σa σe := fb.tr (hf.1.mo (fun kk j q => tqC_lo (Nat.le_succ _) q))
  have i0 : lj_in (Int32.ofNat hh) 325000 := ofN_in (by omega) (by omega)
  have i1 : lj_in (Int32.ofNat (hh + 1)) 325000 := ofN_in (by omega) (by omega)
  have i2 : lj_in (Int32.ofNat (hh + 2)) 325000 := ofN_in (by omega) (by omega)
  have n0 : (Int32.ofNat hh).toNatClampNeg = hh := lz_onat (by omega)
  have n1 : (Int32.ofNat (hh + 1)).toNatClampNeg = hh + 1 := lz_onat (by omega)
  have n2 : (Int32.ofNat (hh + 2)).toNatClampNeg = hh + 2 := lz_onat (by omega)
  have a2 : Int32.ofNat hh + 2 = Int32.ofNat (hh + 2) := by rw [show (2 : Int32) = Int32.ofNat 2 from rfl, ← Int32.ofNat_add]
  have u0 : σa.1 79 hh = (cv σ hh).1 ∧ σa.2 80 hh = (cv σ hh).2 := ⟨a0 79 hh (by omega), a02 80 hh⟩
  have u1 : σc.1 79 (hh + 1) = (cv σ (hh + 1)).1 ∧ σc.2 80 (hh + 1) = (cv σ (hh + 1)).2 := ⟨(fc 79 _ (tqC_f (sxC_f (by omega)) (by omega))).1.trans (a0 79 _ (by omega)), (fc 80 _ (tqC_f (sxC_f (by omega)) (by omega))).2.trans (a02 80 _)⟩
  have u2 : σd.1 79 (hh + 2) = (cv σ (hh + 2)).1 ∧ σd.2 80 (hh + 2) = (cv σ (hh + 2)).2 := ⟨(fd 79 _ (tqC_f (sxC_f (by omega)) (by omega))).1.trans (a0 79 _ (by omega)), (fd 80 _ (tqC_f (sxC_f (by omega)) (by omega))).2.trans (a02 80 _)⟩
  have cR : lj_R lc_P 217 [.ref 8, .int (Int32.ofNat (kY F).2.1), .int (Int32.ofNat d), .int (σ0.1 26 (kY F).2.1)] σa = some (.inl none, σe) := by
    rw [cg_38 σa f4 (by rw [a0 22 _ (by omega)]; exact fK), ch, bi_ok, if_pos i0, if_pos i0, n0, u0.1, u0.2, p1, bv_ok, p2, bv_ok, lz_osucc, if_pos i1, if_pos i1, n1, u1.1, u1.2, p3, bv_ok, a2, if_pos i2, if_pos i2, n2, u2.1, u2.2, p4, bv_ok, kc_217_917]
  have go1 : ∀ v, goC v σ = goC v σe := go_step rg.1 (by
    rw [ca_x σ f1 f3 f4 (fA.trans k1') fL fK (by decide), f2, lz_osucc, ← hσa, cR, bv_ok, kc_139_1051])
  -- the call
  obtain ⟨h2, rg2⟩ := h.ft hF h0 rg V true false
  have h2 : MB σ0 τ0 n np p r (fpT FP p (kTo F ((kY F).2.1 + 1) (kY F).2.2.1 (kY F).2.2.2.1 (kY F).2.2.2.2.1 (kY F).2.2.2.2.2 0 0 :: L)) ρ [] MO LA σa τ := by rw [hσa]; exact h2
  have fo := fpT_o FP p (kTo F ((kY F).2.1 + 1) (kY F).2.2.1 (kY F).2.2.2.1 (kY F).2.2.2.2.1 (kY F).2.2.2.2.2 0 0 :: L)
  obtain ⟨ms2, ks2, ce2, me2, mq2, V2⟩ := h2.w fo rfl
  have e94 : σe.1 94 (20 * p + L.length) = Int32.ofNat ((kY F).2.1 + 1) := by
    rw [hf.2.2.2.1, hσb, show (cPu σa ce (cv σ hh)).1 94 (20 * p + L.length) = σa.1 94 (20 * p + L.length) from (cPus_o [cv σ hh] σa ce 94 (20 * p + L.length) (by omega) (by omega)).1, hσa, lj_put_1, if_pos ⟨rfl, rfl⟩]
  obtain ⟨t1, t2, t3, t4, tA, tL, tK, t5⟩ := c_fq h2 fo rfl V2 hs (K := 16) c1 (by decide) fe e94
  have t3 : σe.1 94 (σe.1 8 34).toNatClampNeg = Int32.ofNat ((kY F).2.1 + 1) := t3
  have t4 : lj_in (Int32.ofNat ((kY F).2.1 + 1)) 14000 := t4
  have tL : σe.1 26 (Int32.ofNat ((kY F).2.1 + 1)).toNatClampNeg = σ0.1 26 ((kY F).2.1 + 1) := tL
  have tK : σe.1 22 (Int32.ofNat ((kY F).2.1 + 1)).toNatClampNeg = 16 := tK
  have cst : lj_R lc_P 139 [.ref 8] σe = _ := ca_16 σe t1 t3 t4 rfl tL tK
  rw [t2, lz_osucc] at cst
  obtain ⟨q1, q2, q3, q4, q5, q6⟩ := hf.2.1
  obtain ⟨σf, hσf⟩ : ∃ s, s = lj_put σe 94 (20 * p + L.length) (Int32.ofNat ((kY F).2.1 + 1 + 1)) := ⟨_, rfl⟩
  rw [← hσf] at cst
  have ef : ∀ kk j, ¬ (kk = 94 ∧ j = (20 * p + L.length)) → σf.1 kk j = σe.1 kk j := fun kk j z => by rw [hσf, lj_put_1, if_neg z]
  have cvf : ∀ j, cv σf j = cv σe j := fun j => by rw [hσf]; exact cv_p _ (by decide)
  have b97 : σb.1 97 (20 * p + L.length) = σ.1 97 (20 * p + L.length) := by rw [hσb, show (cPu σa ce (cv σ hh)).1 97 (20 * p + L.length) = σa.1 97 (20 * p + L.length) from (cPus_o [cv σ hh] σa ce 97 (20 * p + L.length) (by omega) (by omega)).1, a0 97 _ (by omega)]
  obtain ⟨σ2, y1, y2, y3, y4, y5⟩ := c_cl (σ := σf) (i := (20 * p + L.length)) (c00 := ce) (k := 2) (cm := σ.1 97 (20 * p + L.length)) (σ0.1 26 ((kY F).2.1 + 1)) (by rw [ef 8 34 (by omega)]; exact q2) (by omega) (by rw [ef 97 _ (by omega)]; exact q3) (by rw [ef 8 8 (by omega)]; exact q1) (by omega) (by decide) (by rw [← b97, hσf]; exact q4)
  have cvc : cv σf ce = cv σ hh := by
    rw [cvf]
    have q := hf.1
    have e1 : cv σe ce = cv σb ce := by
      unfold cv
      rw [(q 79 ce (tqC_f (sxC_f (by omega)) (by omega))).1, (q 80 ce (tqC_f (sxC_f (by omega)) (by omega))).2]
    rw [e1, hσb]
    exact (cPus_v [cv σ hh] σa ce 0 (by simp)).1
  have rk : rsK σf (ce + 2) 2 = [cv σ (hh + 1), cv σ (hh + 2)] := by
    have e0 := (hf.2.2.1 0 (by simp)).1
    have e1 := (hf.2.2.1 1 (by simp)).1
    show [cv σf (ce + 2 + 0), cv σf (ce + 2 + 1)] = _
    rw [cvf, cvf]
    have e0 : cv σe (ce + 2 + 0) = cv σ (hh + 1) := e0
    have e1 : cv σe (ce + 2 + 1) = cv σ (hh + 2) := e1
    rw [e0, e1]
  rw [rk] at y2
  have ff' : lf (tqC p (20 * p + L.length) ce) σ σf := by rw [hσf]; exact tq_94 (fa.tr fe) _
  have fC : lf (tqC p (20 * p + L.length) ce) σ σ2 := fun kk j q => by
    obtain ⟨v1, v2⟩ := y5 kk j (by unfold tqC sxC szC at q; simp at q; omega)
    exact ⟨v1.trans (ff' kk j q).1, v2.trans (ff' kk j q).2⟩
  obtain ⟨τm, hτm⟩ : ∃ s, s = lj_put τ 77 (48 * p + L.length) (Int32.ofNat ((kY F).2.2.1 + 1)) := ⟨_, rfl⟩
  have fM : lf (tqM p (48 * p + L.length) me mq) τ τm := by rw [hτm]; exact tm_77 (lf_rf _ _) _
  have tm : ∀ kk j, ¬ (kk = 77 ∧ j = (48 * p + L.length)) → τm.1 kk j = τ.1 kk j := fun kk j z => by rw [hτm, lj_put_1, if_neg z]
  obtain ⟨h3, rg3⟩ := h.dn hF h0 rg V V.st fC fM y3 (c' := (kY F).2.1 + 2) (m' := (kY F).2.2.1 + 1) (n' := 0) (by rw [(y5 94 _ (by omega)).1, hσf, lj_put_1, if_pos ⟨rfl, rfl⟩]) (by rw [hτm, lj_put_1, if_pos ⟨rfl, rfl⟩]) y4 (by rw [tm 63 p (by omega)]; exact V.at.2.2.1) (by rw [tm 64 p (by omega)]; exact m64) V.ff.1.2.2.2.1 V.fl (Or.inl rfl) (fun j => by
    rw [(y5 81 j (by omega)).1, ef 81 j (by omega)]
    rcases hf.2.2.2.2.2 j with q | q
    · rw [q, hσb]
      by_cases z : j = ce
      · rw [z]; exact Or.inr (cPus_v [cv σ hh] σa ce 0 (by simp)).2
      · left
        rw [show (cPu σa ce (cv σ hh)).1 81 j = σa.1 81 j from (cPus_o [cv σ hh] σa ce 81 j (by omega) (by show _ ∨ j < ce ∨ ce + 1 ≤ j; omega)).1, a0 81 j (by omega)]
    · exact Or.inr q)
  have h4 := h3.wt rg3 wt ⟨(by omega), (by omega)⟩ (by show scl σ0 (kY F).1 ((kY F).2.1 + 2 - 1) _ _ _; exact ksc) n5
  have q := hX (kTo F ((kY F).2.1 + 2) ((kY F).2.2.1 + 1) (kY F).2.2.2.1 (kY F).2.2.2.2.1 (kY F).2.2.2.2.2 (n' + 1) 10) rfl (Nat.le_refl _)
  have v3 : ∀ i, i < 3 → vR σ2 τm (cv σ (hh + i)) (mv τ (10000 * p + (m0 + i))) := fun i hi => by
    have := (hv3 i hi).1
    rw [Nat.add_assoc (10000 * p), ← ehh] at this
    exact vR_tq fC fM this
  have out := x_cg2 C h4 (rg_ry rg3) (wk_nil h.npr hwk _) (fpT_o _ _ _) rfl (by show (10 : Nat) ≠ 0; decide) (v3 0 (by decide)) (v3 1 (by decide)) (v3 2 (by decide)) y2 (σ0.1 26 ((kY F).2.1 + 1)) (as := 0) (md := 0) (wt := Int32.ofNat k) ⟨rfl, rfl, c2'.symm⟩ (by omega)
  -- the model
  have l23 : τm.1 23 (Int32.ofNat (kY F).2.2.1).toNatClampNeg = σ0.1 26 ((kY F).2.1 + 1) := by
    obtain ⟨⟨_, _, _, _, _, _, m7⟩, m8⟩ := (h.cx hF h0 hs).2 (by rw [m1]; decide)
    rw [tm 23 _ (by omega), m7, m8 23 (by decide) (by decide)]
    exact cl.symm
  have at1 : mAt (lj_put (lj_put (lj_put τm 0 130 0) 0 131 (Int32.ofNat k)) 0 132 (σ0.1 26 ((kY F).2.1 + 1))) p (m0 + 3) mq := by
    obtain ⟨a1, a2, a3, a4, a5, a6⟩ := V.at
    refine ⟨?_, a2, ?_, (by omega), ?_, a6⟩
    · rw [lj_put_1, if_neg (by omega), lj_put_1, if_neg (by omega), lj_put_1, if_neg (by omega), tm 0 111 (by omega)]; exact a1
    · rw [lj_put_1, if_neg (by omega), lj_put_1, if_neg (by omega), lj_put_1, if_neg (by omega), tm 63 p (by omega), ← em]; exact a3
    · rw [lj_put_1, if_neg (by omega), lj_put_1, if_neg (by omega), lj_put_1, if_neg (by omega), tm 64 p (by omega)]; exact a5
  have mvm : ∀ j, mv (lj_put (lj_put (lj_put τm 0 130 0) 0 131 (Int32.ofNat k)) 0 132 (σ0.1 26 ((kY F).2.1 + 1))) j = mv τ j := fun j => by
    rw [mv_p _ (by decide), mv_p _ (by decide), mv_p _ (by decide), hτm, mv_p _ (by decide)]
  have tk := fun i => m_topK at1 (d := 2 - i)
  have tn := fun i => m_topN at1 (d := 2 - i)
  have tk0 := tk 0 (by omega)
  have tn0 := tn 0 (by omega)
  have tk1 := tk 1 (by omega)
  have tn1 := tn 1 (by omega)
  have tk2 := tk 2 (by omega)
  have tn2 := tn 2 (by omega)
  rw [show m0 + 3 - 1 - (2 - 0) = m0 by omega, mvm] at tk0 tn0
  rw [show m0 + 3 - 1 - (2 - 1) = m0 + 1 by omega, mvm] at tk1 tn1
  rw [show m0 + 3 - 1 - (2 - 2) = m0 + 2 by omega, mvm] at tk2 tn2
  have tk0 : lj_R lm_P 124 [.ref 0, .int 2] _ = _ := tk0
  have tn0 : lj_R lm_P 125 [.ref 0, .int 2] _ = _ := tn0
  have tk1 : lj_R lm_P 124 [.ref 0, .int 1] _ = _ := tk1
  have tn1 : lj_R lm_P 125 [.ref 0, .int 1] _ = _ := tn1
  have tk2 : lj_R lm_P 124 [.ref 0, .int 0] _ = _ := tk2
  have tn2 : lj_R lm_P 125 [.ref 0, .int 0] _ = _ := tn2
  have m175 : lj_R lm_P 175 [.ref 0, .int (Int32.ofNat k), .int (σ0.1 26 ((kY F).2.1 + 1))] τm = some (.inl none, gv2 τm 0 (Int32.ofNat k) (σ0.1 26 ((kY F).2.1 + 1)) (mv τ (10000 * p + (m0 + 0))) (mv τ (10000 * p + (m0 + 1))) (mv τ (10000 * p + (m0 + 2)))) := by
    have j0 : lj_in 0 128 := by decide
    have j1 : lj_in 1 128 := by decide
    rw [rm_175, km_175_0, rm_112, km_112_0, bv_ok, tk0, bi_ok, tn0, bl_ok, tk1, bi_ok, tn1, bl_ok, tk2, bi_ok, tn2, bl_ok, rm_141, km_141_0, if_pos j0, if_pos j0, if_pos j1, if_pos j1, bv_ok]
    rfl
  have ac : acR σ0 τ0 (fun t => t < thM FP (p :: r) MO LA) σe τ := ac_of out.fin (by rw [(fe 8 46 (tqC_f (sxC_f (by omega)) (by omega))).1, a0 8 46 (by omega)]; exact rg.1) (by
    rw [cst, y1, cvc]
    congr 1
    funext s
    rw [kc_139_1051]) (run_step rg.2.1 rg.2.2.1 (m_hi h hF h0 V hs m1 (by decide) (τ2 := gv2 τm 0 (Int32.ofNat k) (σ0.1 26 ((kY F).2.1 + 1)) (mv τ (10000 * p + (m0 + 0))) (mv τ (10000 * p + (m0 + 1))) (mv τ (10000 * p + (m0 + 2)))) (fun z1 z2 => by
      rw [← hτm] at z2 ⊢
      rw [mz_42 _ z1 z2, l23, m1', m175, bv_ok, km_153_483]))) (fun t ht => by have ht : t ≤ _ := ht; show t < _; omega)
  exact ac.pre go1 (fun _ => rfl)
