/-! an error goes up to what catches it -/
theorem uw_all {σ0 τ0 : lj_S} {M : Nat} (D : DLV σ0 τ0 M) (N : ∀ k, NLA σ0 τ0 M k) {σ τ : lj_S} {n np p : Nat} {r : List Nat} {FP : Nat → List kF} {ρ : Nat → Nat} {A MO LA : List Nat} {x : Int32} (h : MB σ0 τ0 n np p r FP ρ A MO LA σ (lj_put τ 63 p x)) (hx : ∀ F L, FP p = F :: L → kS F = 2 → τ.1 63 p = x) (ry : ryR σ τ) (ht : τ.1 0 129 = 2) (he : vR σ τ (σ.1 8 42, σ.2 8 43) (τ.1 0 141, τ.2 0 142)) (hwk : wkR FP (p :: r) A σ) (hM : thM FP (p :: r) MO LA ≤ M) (hT : thM FP (p :: r) MO LA ≤ TH) : ocR σ0 τ0 A (fun t => t ≤ thM FP (p :: r) MO LA) σ τ (lj_R lc_P 221 [.ref 8] σ) := by
  obtain ⟨y1, y2, y3, y4⟩ := ry
  have hpr : p ∉ r := (List.nodup_cons.1 h.2.2.2.2.2.2.1.2.2.2.2.1).1
  obtain ⟨u, hu⟩ : ∃ u : vT, u = (σ.1 8 42, σ.2 8 43) := ⟨_, rfl⟩
  obtain ⟨w, hw⟩ : ∃ w : vT, w = (τ.1 0 141, τ.2 0 142) := ⟨_, rfl⟩
  have r0 : rsC (lj_put σ 8 41 0) [] := ⟨by unfold lv; rw [lj_put_1, if_pos ⟨rfl, rfl⟩]; rfl, fun j hj => absurd hj (by simp)⟩
  obtain ⟨σ1, c1, c2, c3⟩ := c_gives r0 (by decide) (σ.1 8 42, σ.2 8 43)
  have c1 : lj_R lc_P 143 [.ref 8, .int (σ.1 8 42), .long (σ.2 8 43)] (lj_put σ 8 41 0) = some (.inl none, σ1) := c1
  rw [← hu] at c2
  have c2 : rsC σ1 [u] := c2
  have o1 : ∀ k j, ¬ (k = 107 ∨ k = 108 ∨ k = 8 ∧ j = 41) → σ1.1 k j = σ.1 k j ∧ σ1.2 k j = σ.2 k j := fun k j z => by
    obtain ⟨u1, u2⟩ := c3 k j (by unfold rtC; simp; omega)
    exact ⟨u1.trans (by rw [lj_put_1, if_neg (by omega)]), u2⟩
  have h1 : MB σ0 τ0 n np p r FP ρ A MO LA σ1 (lj_put τ 63 p x) := h.sc (fun k j q => o1 k j (by unfold szC at q; simp at q; omega)) (lf_rf _ _)
  obtain ⟨σ', τ', ρ', x', L', g1, g2, g3, g4, ⟨g5, g6, g7⟩, g8, g9⟩ := uw_loop (FP p) FP σ1 τ ρ x rfl h1 y2 ht (fun F L'' e z => hx F L'' e z)
  have run : lj_R lc_P 221 [.ref 8] σ = lj_D lc_P lc_M221 48 [.ref 8] [] σ' := by rw [rc_221, kc_221_0, c1, bv_ok, g1]
  have os : ∀ k j, ¬ (74 ≤ k ∧ k ≤ 76) → k ≠ 81 → ¬ (k = 8 ∧ (j = 8 ∨ j = 34 ∨ j = 35)) → k ≠ 90 → ¬ (k = 107 ∨ k = 108 ∨ k = 8 ∧ j = 41) → σ'.1 k j = σ.1 k j ∧ σ'.2 k j = σ.2 k j := fun k j z1 z2 z3 z4 z5 => by
    obtain ⟨u1, u2⟩ := g8 k j z1 z2 z3 z4
    obtain ⟨v1, v2⟩ := o1 k j z5
    exact ⟨u1.trans v1, u2.trans v2⟩
  have rs : rsC σ' [u] := by
    refine ⟨?_, fun j hj => ?_⟩
    · unfold lv
      rw [(g8 8 41 (by omega) (by omega) (by omega) (by omega)).1]
      exact c2.1
    · rw [(g8 107 j (by omega) (by omega) (by omega) (by omega)).1, (g8 108 j (by omega) (by omega) (by omega) (by omega)).2]
      exact c2.2 j hj
  have t2 : τ'.1 0 129 = 2 := by rw [(g9 0 129 (by omega) (by omega) (by omega)).1]; exact ht
  have rt : ryR σ' τ' := ⟨by rw [(os 8 46 (by omega) (by omega) (by omega) (by omega) (by omega)).1]; exact y1, by rw [(g9 0 143 (by omega) (by omega) (by omega)).1]; exact y2, by rw [(os 8 45 (by omega) (by omega) (by omega) (by omega) (by omega)).1, (g9 0 144 (by omega) (by omega) (by omega)).1]; exact y3, by rw [(os 8 44 (by omega) (by omega) (by omega) (by omega) (by omega)).2, (g9 0 145 (by omega) (by omega) (by omega)).2]; exact y4⟩
  have hw' : (τ'.1 0 141, τ'.2 0 142) = w := by rw [hw, (g9 0 141 (by omega) (by omega) (by omega)).1, (g9 0 142 (by omega) (by omega) (by omega)).2]
  have vC : vR σ' τ' u w := by
    rw [hu, hw]
    exact he.cg (fun k j q => (os k j (by unfold vqC at q; simp at q; omega) (by unfold vqC at q; simp at q; omega) (by unfold vqC at q; simp at q; omega) (by unfold vqC at q; simp at q; omega) (by unfold vqC at q; simp at q; omega)).1) (fun k j q => (g9 k j (by unfold vqM at q; simp at q; omega) (by unfold vqM at q; simp at q; omega) (by unfold vqM at q; simp at q; omega)).1)
  have one : rwE σ' τ' [u] [w] := ⟨rfl, by simp, fun j => by
    cases j with
    | zero => exact vC
    | succ j => exact vR_nil _ _⟩
  have ne := fpT_ne FP hpr L'
  have rk : thM (fpT FP p L') (p :: r) MO LA ≤ thM FP (p :: r) MO LA := by
    have x := thM_p FP hpr L' MO LA
    omega
  have gx : gX (fpT FP p L') (p :: r) = gX FP (p :: r) := by
    rw [gX_p FP hpr, g6]
    rfl
  have wk : wkR (fpT FP p L') (p :: r) A σ' := ⟨fun i hi => by rw [(os 102 i (by omega) (by omega) (by omega) (by omega) (by omega)).1]; exact hwk.1 i hi, by rw [gx]; exact hwk.2.1, pfI_o ne hwk.2.2⟩
  have s103 : ∀ i, σ'.1 103 i = σ.1 103 i := fun i => (os 103 i (by omega) (by omega) (by omega) (by omega) (by omega)).1
  have h7 := g3.2.2.2.2.2.2.1
  have hp : p ≤ np := h7.2.2.2.2.2.1 p List.mem_cons_self
  have np25 := h7.1.2.2
  have hch := h7.2.2.2.1
  obtain ⟨ce, me, mq, pa⟩ := g3.2.2.2.2.2.2.2.1 p hp (by rw [h7.2.2.1.2]; decide)
  obtain ⟨p1, ⟨p2, _⟩, p6, p7, p8, p9, p10, p11⟩ := pa
  rw [fpT_o] at p1 p2 p7 p10
  have i7 : lj_in (σ'.1 8 7) 26 := by rw [h7.2.1.1]; exact ofN_in (by omega) (by omega)
  have n7 : (σ'.1 8 7).toNatClampNeg = p := by rw [h7.2.1.1]; exact lz_onat (by omega)
  have m111 : τ'.1 0 111 = Int32.ofNat p := by
    have := h7.2.1.2
    rw [lj_put_1, if_neg (by omega)] at this
    exact this
  have m62 : τ'.1 62 p = Int32.ofNat L'.length := by
    rw [lj_put_1, if_neg (by omega)] at p10
    exact p10
  have r0M : rsM (lj_put τ' 0 140 0) [] := ⟨by unfold lv; rw [lj_put_1, if_pos ⟨rfl, rfl⟩]; rfl, fun j hj => absurd hj (by simp)⟩
  obtain ⟨τa, a1, a2, a3⟩ := m_also r0M (by decide) (τ'.1 0 141, τ'.2 0 142)
  have a1 : lj_R lm_P 184 [.ref 0, .int (τ'.1 0 141), .long (τ'.2 0 142)] (lj_put τ' 0 140 0) = some (.inl none, τa) := a1
  rw [hw'] at a2
  have a2 : rsM τa [w] := a2
  have oa : ∀ k j, ¬ (k = 90 ∨ k = 91 ∨ k = 0 ∧ j = 140) → τa.1 k j = τ'.1 k j ∧ τa.2 k j = τ'.2 k j := fun k j z => by
    obtain ⟨u1, u2⟩ := a3 k j (by unfold rtM; simp; omega)
    exact ⟨u1.trans (by rw [lj_put_1, if_neg (by omega)]), u2⟩
  have ha : MB σ0 τ0 n np p r (fpT FP p L') ρ' A MO LA σ' (lj_put τa 63 p x') := g3.sc63 (lf_rf _ _) (fun k j q => oa k j (by unfold szM at q; simp at q; omega))
  have ia : lj_in (τa.1 0 111) 26 := by rw [(oa 0 111 (by omega)).1, m111]; exact ofN_in (by omega) (by omega)
  have na : (τa.1 0 111).toNatClampNeg = p := by rw [(oa 0 111 (by omega)).1, m111]; exact lz_onat (by omega)
  have rta : ryR σ' τa := ⟨rt.1, by rw [(oa 0 143 (by omega)).1]; exact rt.2.1, by rw [(oa 0 144 (by omega)).1]; exact rt.2.2.1, by rw [(oa 0 145 (by omega)).2]; exact rt.2.2.2⟩
  have onea : rwE σ' τa [u] [w] := ⟨one.1, one.2.1, fun j => (one.2.2 j).cg (fun _ _ _ => rfl) (fun k j q => (oa k j (by unfold vqM at q; simp at q; omega)).1)⟩
  cases L' with
  | nil =>
    have c90 : σ'.1 90 (σ'.1 8 7).toNatClampNeg = 0 := by rw [n7]; exact p7
    have c62 : τa.1 62 (τa.1 0 111).toNatClampNeg = 0 := by rw [na, (oa 62 p (by omega)).1]; exact m62
    have run2 : lj_R lc_P 221 [.ref 8] σ = finC (lj_R lc_P 199 [.ref 8, .int 0] σ') := by
      rw [run, kc_221_48, if_pos i7, if_pos c90]
      unfold finC
      congr 1
      funext s
      rw [kc_221_93]
    cases r with
    | nil =>
      have p0 : p = 0 := (chn_0 hch).2 rfl
      subst p0
      obtain ⟨b1, b2⟩ := ha.q63 rta.2.2.2
      obtain ⟨σ2, τ2, f1, f2, f3, f4⟩ := x_overQ b1 b2 h7.2.1.1 ha.g0 rs a2 onea false
      have f1 : lj_R lc_P 199 [.ref 8, .int 0] σ' = some (.inl none, σ2) := f1
      have f2 : lj_R lm_P 182 [.ref 0, .int 2] τa = some (.inl none, τ2) := f2
      have z0 : τa.1 0 111 ≤ 0 := by rw [(oa 0 111 (by omega)).1, m111]; decide
      refine Or.inr (Or.inr (Or.inl ⟨σ2, τ2, ?_, fun y => (g2 y).trans (uw_step rt.2.1 t2 ?_ y), f3, fun i _ => (f4 i).trans (s103 i)⟩))
      · rw [run2, f1]
        unfold finC
        rw [bv_ok]
      · rw [rm_183, km_183_0, a1, bv_ok, if_pos ia, if_pos c62, if_pos z0, f2, bv_ok, km_183_49]
    | cons q' r' =>
      have p0 : p ≠ 0 := fun z => by
        have := (chn_0 hch).1 z
        cases this
      have z0 : ¬ (τa.1 0 111 ≤ 0) := by
        rw [(oa 0 111 (by omega)).1, m111]
        obtain ⟨p', rfl⟩ : ∃ p', p = p' + 1 := ⟨p - 1, by omega⟩
        exact ofN_le0 _ (by omega)
      have q63 : ∀ k j, k ≠ 63 → (lj_put τa 63 p x').1 k j = τa.1 k j := fun k j z => by rw [lj_put_1, if_neg (by omega)]
      obtain ⟨σ2, τ2, f1, f2, f3, f4, f5, f6⟩ := x_endR ha (fpT_o _ _ _) (G := [u]) (G' := [w]) rs ⟨by unfold lv; rw [q63 0 140 (by omega)]; exact a2.1, fun j hj => by rw [q63 90 j (by omega)]; exact a2.2 j hj⟩ ⟨onea.1, onea.2.1, fun j => (onea.2.2 j).cg (fun _ _ _ => rfl) (fun k j q => q63 k j (fun z => by rw [z] at q; simp [vqM] at q))⟩ (by simp) ⟨rta.1, by rw [q63 0 143 (by omega)]; exact rta.2.1, by rw [q63 0 144 (by omega)]; exact rta.2.2.1, rta.2.2.2⟩ 0
      rw [m179_63 τa (by rw [(oa 0 111 (by omega)).1]; exact m111) (by omega) x' 0] at f2
      have e2 := thM_e (FP := fpT FP p []) (p := p) (q' :: r') (fpT_o _ _ _) MO LA
      have e3 : gX (fpT FP p []) (p :: q' :: r') = gX (fpT FP p []) (q' :: r') := by
        show gL p (fpT FP p [] p) ++ _ = _
        rw [fpT_o]
        rfl
      have px : pfx (fpT FP p []) (q' :: r') ≤ 50 := wk.2.2.1
      have dl := D n np q' r' (fpT FP p []) ρ' A MO LA σ2 τ2 _ _ _ f3 f4 f5 ⟨fun i hi => by rw [(f6 i).1]; exact wk.1 i hi, by rw [← e3]; exact wk.2.1, wk.2.2.2⟩ (by rw [List.length_cons, List.length_cons]; show 0 + 1 + 1 + _ ≤ 110; omega) (by omega) (by omega)
      rw [run2, f1]
      rw [e2] at rk
      refine (dl.fin.fin).pre (fun y => (g2 y).trans (uw_step rt.2.1 t2 ?_ y)) (fun i _ => ((f6 i).2).trans (s103 i)) (fun C w => Nat.le_trans w rk)
      rw [rm_183, km_183_0, a1, bv_ok, if_pos ia, if_pos c62, if_neg z0, f2, bv_ok, km_183_49]
  | cons F L =>
    rw [List.length_cons] at p2 p7 m62
    obtain ⟨gk, g63⟩ := g4 F L rfl
    have fh := g3.2.2.2.2.2.2.2.2.1
    rw [fpT_o] at fh
    have c90 : ¬ (σ'.1 90 (σ'.1 8 7).toNatClampNeg = 0) := by
      rw [n7, p7]
      intro z
      have := (ofN_eq (a := L.length + 1) (c := 0) (by omega) (by omega)).1 z
      omega
    have i34 : lj_in (σ'.1 8 34) 520 := by rw [fh.1]; exact ofN_in (by omega) (by omega)
    have n34 : (σ'.1 8 34).toNatClampNeg = (20 * p + L.length) := by rw [fh.1]; exact lz_onat (by omega)
    obtain ⟨ms, ks, q1, q2, q3⟩ := p1
    have ks := g3.ks (fpT_o _ _ _)
    have c91 : σ'.1 91 (20 * p + L.length) = Int32.ofNat (kS F) := by
      rcases q2.2 with ⟨z, _⟩ | ⟨_, w, _⟩
      · exact absurd z gk
      · exact w
    rcases ks with z | z | z
    · exact absurd z gk
    · have c91' : σ'.1 91 (σ'.1 8 34).toNatClampNeg = 1 := by rw [n34, c91, z]; rfl
      have run2 : lj_R lc_P 221 [.ref 8] σ = finC (lj_R lc_P 148 [.ref 8, .int 0] σ') := by
        rw [run, kc_221_48, if_pos i7, if_neg c90, if_pos i34, if_pos c91']
        unfold finC
        congr 1
        funext s
        rw [kc_221_93]
      obtain ⟨σ2, τ2, f1, f2, f3, f4, f5, f6⟩ := uw_prot g3 (fpT_o _ _ _) z rt t2 rs hw' vC
      rw [fpT_2] at f3
      have rk2 : thM (fpT FP p L) (p :: r) MO LA ≤ thM FP (p :: r) MO LA := by
        have x := thM_p FP hpr L MO LA
        have y : thL (F :: L) = thF F + thL L := rfl
        omega
      have gx2 : gX (fpT FP p L) (p :: r) = gX FP (p :: r) := by
        rw [← gx, gX_p FP hpr, gX_p FP hpr]
        show _ = (if kS F = 2 then _ else gL p L) ++ _
        rw [if_neg (by omega)]
      have px := pfx_le (FP := fpT FP p L) (p := p) (r := r) (by rw [fpT_o]; omega) (pfI_o (fpT_ne FP hpr L) hwk.2.2)
      have dl := D n np p r (fpT FP p L) ρ' A MO LA σ2 τ2 _ _ _ f3 f4 (by rw [fpT_o]; exact f5) ⟨fun i hi => by rw [(f6 i).1]; exact wk.1 i hi, by rw [gx2]; exact hwk.2.1, pfI_o (fpT_ne FP hpr L) hwk.2.2⟩ (by rw [List.length_cons, List.length_cons]; show 0 + 1 + 1 + _ ≤ 110; omega) (by omega) (by omega)
      rw [run2, f1]
      exact (dl.fin.fin).pre (fun y => (g2 y).trans (f2 y)) (fun i _ => ((f6 i).2).trans (s103 i)) (fun C w => Nat.le_trans w rk2)
    · have c91' : ¬ (σ'.1 91 (σ'.1 8 34).toNatClampNeg = 1) := by rw [n34, c91, z]; decide
      have run2 : lj_R lc_P 221 [.ref 8] σ = finC (lj_R lc_P 153 [.ref 8] σ') := by
        rw [run, kc_221_48, if_pos i7, if_neg c90, if_pos i34, if_neg c91']
        unfold finC
        congr 1
        funext s
        rw [kc_221_93]
      have e63 : lj_put τa 63 p x' = τa := by
        have : τa.1 63 p = x' := by rw [(oa 63 p (by omega)).1]; exact g63 z
        rw [← this, put_id]
      rw [e63] at ha
      have a62 : τa.1 62 p = Int32.ofNat (L.length + 1) := by rw [(oa 62 p (by omega)).1]; exact m62
      have r122 : lj_R lm_P 122 [.ref 0] τa = some (.inl (some (.int (Int32.ofNat (48 * p + L.length)))), τa) := by
        rw [rm_122, km_122_0, if_pos ia, na, a62, (oa 0 111 (by omega)).1, m111, show (48 : Int32) = Int32.ofNat 48 from rfl, ← Int32.ofNat_mul, ← Int32.ofNat_add, ← Nat.add_assoc, lz_pred']
      have imi : lj_in (Int32.ofNat (48 * p + L.length)) 1248 := ofN_in (by omega) (by omega)
      have nmi : (Int32.ofNat (48 * p + L.length)).toNatClampNeg = (48 * p + L.length) := lz_onat (by omega)
      have c62 : τa.1 62 (τa.1 0 111).toNatClampNeg ≠ 0 := by
        rw [na, a62]
        intro z
        have := (ofN_eq (a := L.length + 1) (c := 0) (by omega) (by omega)).1 z
        omega
      have m74 : τ'.1 74 (48 * p + L.length) = 2 := by
        rcases q2.2 with ⟨y, _⟩ | ⟨_, _, w, _⟩
        · omega
        · rw [lj_put_1, if_neg (by omega), z] at w
          exact w
      have c74 : τa.1 74 (Int32.ofNat (48 * p + L.length)).toNatClampNeg = 2 := by rw [nmi, (oa 74 _ (by omega)).1]; exact m74
      have nl := N _ n np p r (fpT FP p (F :: L)) ρ' A MO LA σ' (lj_put τa 0 129 4) F L (ha.t129 4) (fpT_o _ _ _) z wk ⟨rta.1, by rw [lj_put_1, if_neg (by omega)]; exact rta.2.1, by rw [lj_put_1, if_neg (by omega)]; exact rta.2.2.1, rta.2.2.2⟩ (by simp [lj_put_1, lj_putL_1]) (Nat.le_refl _) (by omega) (by omega)
      rw [run2]
      refine nl.fin.pre (fun y => (g2 y).trans (uw_step rt.2.1 t2 ?_ y)) (fun i _ => s103 i) (fun C w => Nat.le_trans w rk)
      rw [rm_183, km_183_0, a1, bv_ok, if_pos ia, if_neg c62, r122, bi_ok, if_pos imi, if_pos c74]
