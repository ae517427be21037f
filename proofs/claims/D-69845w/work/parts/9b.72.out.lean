/-! acts that may call: tools -/
theorem wk_nil {FP : Nat → List kF} {p : Nat} {r : List Nat} (hpr : p ∉ r) {σ σ' : lj_S} (h : wkR FP (p :: r) [] σ) (X : List kF) : wkR (fpT FP p X) (p :: r) [] σ' := ⟨fun i hi => (by cases hi), List.nil_sublist _, pfI_o (fpT_ne FP hpr _) h.2.2⟩
theorem MB.npr {σ0 τ0 σ τ : lj_S} {n np p : Nat} {r : List Nat} {FP : Nat → List kF} {ρ : Nat → Nat} {A MO LA : List Nat} (h : MB σ0 τ0 n np p r FP ρ A MO LA σ τ) : p ∉ r := (List.nodup_cons.1 h.2.2.2.2.2.2.1.2.2.2.2.1).1
/-- both go on: an outcome -/
theorem ac_ny {σ0 τ0 σ τ : lj_S} {n np p : Nat} {r : List Nat} {FP : Nat → List kF} {ρ : Nat → Nat} {A MO LA : List Nat} (h : MB σ0 τ0 n np p r FP ρ A MO LA σ τ) {F : kF} {L : List kF} (hF : FP p = F :: L) (h0 : kS F = 0) (hA : A = []) (hwk : wkR FP (p :: r) A σ) {n' : Nat} {Z : List pT} (x : nyR σ0 τ0 n np p r FP A MO LA σ τ F L n' Z) (hN : n' + 1 < kN F) : acR σ0 τ0 (fun t => t < thM FP (p :: r) MO LA) σ τ := by
  subst hA
  have hpr := h.npr
  obtain ⟨ρ', σ', τ', z, _, x1, x2, x3, x4⟩ := x
  refine Or.inl ⟨σ', τ', n, np, p, r, _, MO, LA, x1, x2, Or.inl ⟨ρ', _, L, fpT_o _ _ _, rfl, Nat.succ_ne_zero _, rfl, x3, x4⟩, ?_, wk_nil hpr hwk _⟩
  have e := thM_t hpr hF (kAt F z (n' + 1)) MO LA
  rw [thF_0 h0, thF_0 (F := kAt F z (n' + 1)) rfl] at e
  have e2 : kN (kAt F z (n' + 1)) = n' + 1 := rfl
  show thM _ _ _ _ < _
  omega
theorem ac_nx {σ0 τ0 σ τ : lj_S} {n np p : Nat} {r : List Nat} {FP : Nat → List kF} {ρ : Nat → Nat} {A MO LA : List Nat} (h : MB σ0 τ0 n np p r FP ρ A MO LA σ τ) {F : kF} {L : List kF} (hF : FP p = F :: L) (h0 : kS F = 0) (hA : A = []) (hwk : wkR FP (p :: r) A σ) {n' : Nat} {Z : List pT} (x : nxR σ0 τ0 n np p r FP ρ A MO LA σ τ F L n' Z) (hN : n' + 1 < kN F) : acR σ0 τ0 (fun t => t < thM FP (p :: r) MO LA) σ τ := by
  obtain ⟨σ', τ', z, x0, x1, x2, x3, x4⟩ := x
  exact ac_ny h hF h0 hA hwk ⟨ρ, σ', τ', z, x0, x1, x2, x3, x4⟩ hN
theorem ac_tr {σ0 τ0 σ τ : lj_S} {n np p : Nat} {r : List Nat} {FP : Nat → List kF} {ρ : Nat → Nat} {A MO LA : List Nat} (h : MB σ0 τ0 n np p r FP ρ A MO LA σ τ) {F : kF} {L : List kF} (hF : FP p = F :: L) (h0 : kS F = 0) (hA : A = []) (hwk : wkR FP (p :: r) A σ) {F' : kF} (h0' : kS F' = 0) (hN : kN F' + 1 < kN F) {ρ' : Nat → Nat} (x : trR σ0 τ0 n np p r (fpT FP p (F' :: L)) ρ' A MO LA σ τ) : acR σ0 τ0 (fun t => t < thM FP (p :: r) MO LA) σ τ := by
  subst hA
  have hpr := h.npr
  obtain ⟨σ1, σ', τ', x1, x2, x3, x4, x5⟩ := x
  refine Or.inr (Or.inl ⟨σ1, σ', τ', n, np, p, r, _, ρ', MO, LA, x1, x2, x3, x4, x5, ?_, wk_nil hpr hwk _⟩)
  have e := thM_t hpr hF F' MO LA
  rw [thF_0 h0, thF_0 h0'] at e
  show thM _ _ _ _ + 1 < _
  omega
theorem pfx_0 {FP : Nat → List kF} {p : Nat} {r : List Nat} {F : kF} {L : List kF} (hF : FP p = F :: L) (h0 : kS F = 0) : pfx FP (p :: r) = 0 := by
  unfold pfx
  rw [hF]
  unfold pf1 pfA
  rw [if_neg (by rw [h0]; decide), if_neg (by rw [h0, if_neg (by decide)]; decide)]
/-- in the middle of an act the frame begins to wait -/
theorem MB.wt {σ0 τ0 σ τ : lj_S} {n np p : Nat} {r : List Nat} {FP : Nat → List kF} {ρ : Nat → Nat} {A MO LA : List Nat} {F : kF} {L : List kF} {c m n1 n' w : Nat} {s l : List Nat} {dd : Nat} (h : MB σ0 τ0 n np p r (fpT FP p (kTo F c m s l dd n1 0 :: L)) ρ A MO LA σ τ) (rg : rgR σ τ) (hn : wtR σ0 τ0 (kY F).1 c m s l dd n' w) (hc : 1 ≤ c ∧ c ≤ 14000) (hsc : scl σ0 (kY F).1 (c - 1) s l dd) (h5 : ∀ x ∈ s, x ≠ 5) : MB σ0 τ0 n np p r (fpT FP p (kTo F c m s l dd (n' + 1) w :: L)) ρ A MO LA σ τ := by
  have hF := fpT_o FP p (kTo F c m s l dd n1 0 :: L)
  obtain ⟨ms, ks, ce, me, mq, V⟩ := h.w hF rfl
  have st := V.st
  obtain ⟨b1, b2, b3, _⟩ := stk_bd st
  have := (h.tpw hF rfl rg V b1 b2 b3 (lf_rf _ _) (lf_rf _ _) st (Nat.le_refl _) (Nat.le_refl _) (Nat.le_refl _) V.fl id V.2.2.2.2.1.1.2.2.2.1 V.2.2.2.2.1.2.1.2.2.2.1 V.tp V.at.2.2.1 V.at.2.2.2.2.1 V.ff.1.2.2.2.1 V.fl (n' := n' + 1) (w' := w) (Or.inr ⟨Nat.succ_ne_zero _, hn⟩) (fun _ => ⟨⟨hc, hsc⟩, h5⟩)).1
  rw [fpT_2] at this
  exact this
/-- the model gives two values to a call -/
def gv2 (τ : lj_S) (md wt line : Int32) (f c d : vT) : lj_S := lj_put (lj_put (lj_putL (lj_put (lj_putL (lj_put (lj_putL (lj_put (lj_put (lj_put (lj_put τ 0 130 md) 0 131 wt) 0 132 line) 0 133 f.1) 0 134 f.2) 88 0 c.1) 89 0 c.2) 88 1 d.1) 89 1 d.2) 0 137 2) 0 129 3
theorem m_gv2 (τ : lj_S) (md wt line : Int32) (f c d : vT) (K : lj_S → Option lj_O) : lj_bv (lj_R lm_P 112 [.ref 0, .int md, .int wt, .int line] τ) (fun s => lj_bv (lj_R lm_P 141 [.ref 0, .int f.1, .long f.2, .int c.1, .long c.2, .int d.1, .long d.2] s) K lj_up) lj_up = K (gv2 τ md wt line f c d) := by
  have i0 : lj_in 0 128 := by decide
  have i1 : lj_in 1 128 := by decide
  rw [rm_112, km_112_0, bv_ok, rm_141, km_141_0, if_pos i0, if_pos i0, if_pos i1, if_pos i1, bv_ok]
  rfl
def gv2s (k j : Nat) : Bool := k == 88 || k == 89 || (k == 0 && (j == 129 || j == 130 || j == 131 || j == 132 || j == 133 || j == 134 || j == 137))
theorem gv2_lf (τ : lj_S) (md wt line : Int32) (f c d : vT) : lf gv2s τ (gv2 τ md wt line f c d) := by
  unfold gv2
  exact lf_put (lf_put (lf_putL (lf_put (lf_putL (lf_put (lf_putL (lf_put (lf_put (lf_put (lf_put (lf_rf _ _) _ _ _ rfl) _ _ _ rfl) _ _ _ rfl) _ _ _ rfl) _ _ _ rfl) _ _ _ rfl) _ _ _ rfl) _ _ _ rfl) _ _ _ rfl) _ _ _ rfl) _ _ _ rfl
theorem gv2_v (τ : lj_S) (md wt line : Int32) (f c d : vT) : (gv2 τ md wt line f c d).1 0 129 = 3 ∧ (gv2 τ md wt line f c d).1 0 130 = md ∧ (gv2 τ md wt line f c d).1 0 131 = wt ∧ (gv2 τ md wt line f c d).1 0 132 = line ∧ ((gv2 τ md wt line f c d).1 0 133, (gv2 τ md wt line f c d).2 0 134) = f ∧ gvM (gv2 τ md wt line f c d) [c, d] := by
  unfold gv2
  refine ⟨by simp [lj_put_1, lj_putL_1], by simp [lj_put_1, lj_putL_1], by simp [lj_put_1, lj_putL_1], by simp [lj_put_1, lj_putL_1], by simp [lj_put_1, lj_putL_1, lj_put_2, lj_putL_2], by unfold lv; simp [lj_put_1, lj_putL_1], fun j hj => ?_⟩
  have hj : j < 2 := hj
  rcases Nat.lt_or_ge j 1 with q | q
  · have : j = 0 := by omega
    subst this
    simp [lj_put_1, lj_putL_1, lj_put_2, lj_putL_2]
  · have : j = 1 := by omega
    subst this
    simp [lj_put_1, lj_putL_1, lj_put_2, lj_putL_2]
theorem wa_aw {σ0 : lj_S} {F : kF} {L : List kF} (h0 : kS F = 0) (hW : kW F ≠ 0) {as md wt : Int32} (e : as = waA (kW F) ∧ md = waM (kW F) ∧ wt = waN σ0 (kY F).2.1 (kW F)) : awR σ0 (F :: L) as md wt := Or.inr (Or.inr ⟨h0, hW, e⟩)
/-- an event is called with two values -/
theorem x_ev2 {σ0 τ0 σ τ : lj_S} {n np p : Nat} {r : List Nat} {FP : Nat → List kF} {ρ : Nat → Nat} {A MO LA : List Nat} (C : ∀ M k, CAL σ0 τ0 M k) (h : MB σ0 τ0 n np p r FP ρ A MO LA σ τ) (ry : ryR σ τ) (hwk : wkR FP (p :: r) A σ) {F : kF} {L : List kF} (hF : FP p = F :: L) (h0 : kS F = 0) (hW : kW F ≠ 0) {f f' c c' d d' : vT} (hf : vR σ τ f f') (hc : vR σ τ c c') (hd : vR σ τ d d') (line : Int32) {as md wt : Int32} (e : as = waA (kW F) ∧ md = waM (kW F) ∧ wt = waN σ0 (kY F).2.1 (kW F)) (hT : thM FP (p :: r) MO LA + 5001 ≤ TH) : ∃ σ2, (∀ K, lj_bv (lj_R lc_P 154 [.ref 8, .int c.1, .long c.2] (lj_put σ 8 38 0)) (fun s => lj_bv (lj_R lc_P 154 [.ref 8, .int d.1, .long d.2] s) K lj_up) lj_up = K σ2) ∧ ocR σ0 τ0 A (fun t => t ≤ thM FP (p :: r) MO LA + 5001) σ (gv2 τ md wt line f' c' d') (lj_R lc_P 155 [.ref 8, .int f.1, .long f.2, .int as, .int line] σ2) := by
  have g0 : gvC (lj_put σ 8 38 0) [] := ⟨by unfold lv; rw [lj_put_1, if_pos ⟨rfl, rfl⟩]; rfl, fun j hj => absurd hj (by simp)⟩
  obtain ⟨σ1, a1, a2, a3⟩ := c_give g0 (by decide) c
  obtain ⟨σ2, b1, b2, b3⟩ := c_give a2 (by simp) d
  have f2 : lf gsC σ σ2 := ((lf_put (lf_rf _ _) 8 38 _ rfl).tr a3).tr b3
  have g2 := gv2_lf τ md wt line f' c' d'
  have v2 := gv2_v τ md wt line f' c' d'
  have sC : lf szC σ σ2 := f2.mo (fun k j q => by unfold szC at q; unfold gsC; simp at q ⊢; omega)
  have sM' : lf szM τ (gv2 τ md wt line f' c' d') := g2.mo (fun k j q => by unfold szM at q; unfold gv2s; simp at q ⊢; omega)
  have h2 := h.sc sC sM'
  have vv : ∀ {a b : vT}, vR σ τ a b → vR σ2 (gv2 τ md wt line f' c' d') a b := fun w => w.cg (fun k j q => (f2 k j (by unfold vqC at q; unfold gsC; simp at q ⊢; omega)).1) (fun k j q => (g2 k j (by unfold vqM at q; unfold gv2s; simp at q ⊢; omega)).1)
  refine ⟨σ2, fun K => by rw [a1, bv_ok, b1, bv_ok], ?_⟩
  have px := pfx_0 (r := r) hF h0
  have := C (thM FP (p :: r) MO LA) 200 n np p r FP ρ A MO LA σ2 _ f f' [c, d] [c', d'] as line h2 ⟨by rw [(f2 8 46 rfl).1]; exact ry.1, by rw [(g2 0 143 rfl).1]; exact ry.2.1, by rw [(f2 8 45 rfl).1, (g2 0 144 rfl).1]; exact ry.2.2.1, by rw [(f2 8 44 rfl).2, (g2 0 145 rfl).2]; exact ry.2.2.2⟩ ⟨fun i hi => by rw [(f2 102 i rfl).1]; exact hwk.1 i hi, hwk.2⟩ (vv hf) v2.2.2.2.2.1 v2.1 (by rw [hF, v2.2.1, v2.2.2.1]; exact wa_aw h0 hW e) v2.2.2.2.1 ⟨b2, v2.2.2.2.2.2, rfl, fun j hj => by
    have hj : j < 2 := hj
    rcases Nat.lt_or_ge j 1 with q | q
    · have : j = 0 := by omega
      subst this
      exact vv hc
    · have : j = 1 := by omega
      subst this
      exact vv hd⟩ (Or.inl ⟨by rw [px]; simp, by simp⟩) (Nat.le_refl _) hT
  exact this.pre (fun _ => rfl) (fun i _ => (f2 103 i rfl).1) (fun _ q => q)
/-- what an act may leave to be done -/
def lsX (FP : Nat → List kF) (p : Nat) (r : List Nat) (L : List kF) (MO LA : List Nat) (n' X : Nat) : Prop := ∀ F' : kF, kS F' = 0 → kN F' ≤ n' + 1 → thM (fpT FP p (F' :: L)) (p :: r) MO LA + 5001 < X
theorem lsX_of {FP : Nat → List kF} {p : Nat} {r : List Nat} (hpr : p ∉ r) {F : kF} {L : List kF} (hF : FP p = F :: L) (h0 : kS F = 0) (MO LA : List Nat) {n' : Nat} (hN : n' + 6001 ≤ kN F) : lsX FP p r L MO LA n' (thM FP (p :: r) MO LA) := fun F' h0' hn => by
  have e := thM_t hpr hF F' MO LA
  rw [thF_0 h0, thF_0 h0'] at e
  omega
/-- both run on -/
theorem oc_go {σ0 τ0 σ σ' τ' σa : lj_S} {n np p : Nat} {r : List Nat} {FP : Nat → List kF} {ρ : Nat → Nat} {MO LA : List Nat} {F' : kF} {L : List kF} (h : MB σ0 τ0 n np p r (fpT FP p (F' :: L)) ρ [] MO LA σ' τ') (rg : rgR σ' τ') (hwk : wkR FP (p :: r) [] σa) (hS : kS F' = 0) (hN : kN F' ≠ 0) (hW : kW F' = 0) {n' X : Nat} (hn : kN F' ≤ n' + 1) (hX : lsX FP p r L MO LA n' X) : ocR σ0 τ0 [] (fun t => t < X) σ τ' (some (.inl none, σ')) := by
  have q := hX F' hS hn
  exact Or.inl ⟨σ', τ', n, np, p, r, _, MO, LA, rfl, fun _ => rfl, Or.inl ⟨ρ, F', L, fpT_o _ _ _, hS, hN, hW, h, rg⟩, by show thM _ _ _ _ < X; omega, wk_nil h.npr hwk _, fun i hi => by cases hi⟩
theorem rg_ry {σ τ : lj_S} (rg : rgR σ τ) : ryR σ τ := ⟨rg.1, rg.2.1, rg.2.2.2.1, rg.2.2.2.2⟩
/-- both err -/
theorem oc_er {σ0 τ0 σ τ σ' τ' σ1 σa : lj_S} {n np p : Nat} {r : List Nat} {FP : Nat → List kF} {ρ : Nat → Nat} {MO LA : List Nat} {F' : kF} {L : List kF} (h : MB σ0 τ0 n np p r (fpT FP p (F' :: L)) ρ [] MO LA σ τ) (ry : ryR σ τ) (hwk : wkR FP (p :: r) [] σa) (e : raR σ τ σ' τ') (hS : kS F' = 0) {n' X : Nat} (hn : kN F' ≤ n' + 1) (hX : lsX FP p r L MO LA n' X) : ocR σ0 τ0 [] (fun t => t < X) σ1 τ' (some (.inr 2, σ')) := by
  have q := hX F' hS hn
  exact h.eoc ry e (wk_nil h.npr hwk _) (by show thM _ _ _ _ + 1 < X; omega)
/-- in the middle of an act a value is laid -/
theorem x_top {σ0 τ0 σ τ : lj_S} {n np p : Nat} {r : List Nat} {FP : Nat → List kF} {ρ : Nat → Nat} {A MO LA : List Nat} {F : kF} {L : List kF} {c m : Nat} {s l : List Nat} {dd n1 : Nat} (h : MB σ0 τ0 n np p r (fpT FP p (kTo F c m s l dd n1 0 :: L)) ρ A MO LA σ τ) (rg : rgR σ τ) : ∃ ce me mq, σ.1 8 8 = Int32.ofNat ce ∧ ce + 10 ≤ 325000 ∧ mAt τ p me mq ∧ me + 10 ≤ 10000 ∧ ∀ (u w : vT) (σ1 τ1 : lj_S) (N : Nat), lf sxC σ σ1 → lf sxM τ τ1 → vR σ τ u w → sOK (0 :: s) → (N = 0 ∨ N ≠ 0 ∧ gn σ0 τ0 (N - 1) ((kY F).1, c, m, 0 :: s, l, dd)) → MB σ0 τ0 n np p r (fpT FP p (kTo F c m (0 :: s) l dd N 0 :: L)) ρ A MO LA (cPu σ1 ce u) (mPu τ1 p me w) ∧ rgR (cPu σ1 ce u) (mPu τ1 p me w) := by
  have hF := fpT_o FP p (kTo F c m s l dd n1 0 :: L)
  obtain ⟨ms, ks, ce, me, mq, V⟩ := h.w hF rfl
  have B := V.bd
  refine ⟨ce, me, mq, V.tp, (by omega), V.at, (by omega), fun u w σ1 τ1 N f g hv hOK hn => ?_⟩
  have fC : lf (tqC p (20 * p + L.length) ce) σ σ1 := f.mo (fun k j q => by unfold tqC at q; simp at q; exact q.1.1.1.1)
  have fM : lf (tqM p (48 * p + L.length) me mq) τ τ1 := g.mo (fun k j q => by unfold tqM at q; simp at q; exact q.1.1.1.1)
  have sc : ∀ k j, sxC k j = false → σ1.1 k j = σ.1 k j := fun k j q => (f k j q).1
  have sm : ∀ k j, sxM k j = false → τ1.1 k j = τ.1 k j := fun k j q => (g k j q).1
  have e := h.pu hF rfl rg V V.st (σ1 := σ1) (τ1 := τ1) fC fM (sc 97 _ (sxC_f (by omega))) (c' := c) (m' := m) (n' := N) (w' := 0) (by rw [sc 94 _ (sxC_f (by omega))]; exact V.2.2.2.2.1.1.2.2.2.1) (by rw [sm 77 _ (sxM_f (by omega))]; exact V.2.2.2.2.1.2.1.2.2.2.1) (by rw [sm 64 _ (sxM_f (by omega))]; exact V.at.2.2.2.2.1) hOK V.fl hv (hn.imp (fun z => ⟨z, rfl⟩) id) (fun z => absurd rfl z) (fun j => Or.inl (sc 81 j (sxC_f (by omega))))
  rw [fpT_2] at e
  exact e
theorem fdS_x {k j : Nat} (q : sxC k j = false) : fdS k j = false := by unfold sxC szC at q; unfold fdS; simp at q ⊢; omega
theorem fdT_x {k j : Nat} (q : sxM k j = false) : fdT k j = false := by unfold sxM szM at q; unfold fdT; simp at q ⊢; omega
theorem rdS_x {k j : Nat} (q : sxC k j = false) : rdS k j = false := rd_t (by
  intro y
  unfold sxC szC at q
  simp at q
  omega)
theorem vR.fdr {σ τ σ1 τ1 : lj_S} (f : lf fdS σ σ1) (g : lf fdT τ τ1) {a b : vT} (h : vR σ1 τ1 a b) : vR σ τ a b := h.cg (fun k j q => (f k j (by unfold vqC at q; unfold fdS; simp at q ⊢; omega)).1.symm) (fun k j q => (g k j (by unfold vqM at q; unfold fdT; simp at q ⊢; omega)).1.symm)
theorem vR.fdl {σ τ σ1 τ1 : lj_S} (f : lf fdS σ σ1) (g : lf fdT τ τ1) {a b : vT} (h : vR σ τ a b) : vR σ1 τ1 a b := h.cg (fun k j q => (f k j (by unfold vqC at q; unfold fdS; simp at q ⊢; omega)).1) (fun k j q => (g k j (by unfold vqM at q; unfold fdT; simp at q ⊢; omega)).1)
theorem MB.fdx {σ0 τ0 σ τ σ1 τ1 : lj_S} {n np p : Nat} {r : List Nat} {FP : Nat → List kF} {ρ : Nat → Nat} {A MO LA : List Nat} (h : MB σ0 τ0 n np p r FP ρ A MO LA σ τ) (f : lf fdS σ σ1) (g : lf fdT τ τ1) : MB σ0 τ0 n np p r FP ρ A MO LA σ1 τ1 := h.sc (f.mo (fun k j q => by unfold szC at q; unfold fdS; simp at q ⊢; omega)) (g.mo (fun k j q => by unfold szM at q; unfold fdT; simp at q ⊢; omega))
theorem ryR.fdx {σ τ σ1 τ1 : lj_S} (h : ryR σ τ) (f : lf fdS σ σ1) (g : lf fdT τ τ1) : ryR σ1 τ1 := ⟨by rw [(f 8 46 rfl).1]; exact h.1, by rw [(g 0 143 rfl).1]; exact h.2.1, by rw [(f 8 45 rfl).1, (g 0 144 rfl).1]; exact h.2.2.1, by rw [(f 8 44 rfl).2, (g 0 145 rfl).2]; exact h.2.2.2⟩
theorem rgR.fdx {σ τ σ1 τ1 : lj_S} (h : rgR σ τ) (f : lf fdS σ σ1) (g : lf fdT τ τ1) : rgR σ1 τ1 := ⟨by rw [(f 8 46 rfl).1]; exact h.1, by rw [(g 0 143 rfl).1]; exact h.2.1, by rw [(g 0 129 rfl).1]; exact h.2.2.1, by rw [(f 8 45 rfl).1, (g 0 144 rfl).1]; exact h.2.2.2.1, by rw [(f 8 44 rfl).2, (g 0 145 rfl).2]; exact h.2.2.2.2⟩
theorem MB.rb {σ0 τ0 σ τ : lj_S} {n np p : Nat} {r : List Nat} {FP : Nat → List kF} {ρ : Nat → Nat} {A MO LA : List Nat} (h : MB σ0 τ0 n np p r FP ρ A MO LA σ τ) : rbR σ τ n := ⟨h.2.1, h.2.2.2.1, h.2.2.2.2.1, h.2.2.1⟩
/-- a frame in the middle of an act calls with two values, and waits -/
theorem x_wev {σ0 τ0 σ τ : lj_S} {n np p : Nat} {r : List Nat} {FP : Nat → List kF} {ρ : Nat → Nat} {MO LA : List Nat} {F : kF} {L : List kF} {c m : Nat} {s l : List Nat} {dd n1 : Nat} (C : ∀ M k, CAL σ0 τ0 M k) (h : MB σ0 τ0 n np p r (fpT FP p (kTo F c m s l dd n1 0 :: L)) ρ [] MO LA σ τ) (rg : rgR σ τ) {σa : lj_S} (hwk : wkR FP (p :: r) [] σa) {n' w : Nat} (hw : w ≠ 0) (hn : wtR σ0 τ0 (kY F).1 c m s l dd n' w) (hc : 1 ≤ c ∧ c ≤ 14000) (hsc : scl σ0 (kY F).1 (c - 1) s l dd) (h5 : ∀ x ∈ s, x ≠ 5) {X : Nat} (hX : lsX FP p r L MO LA n' X) (hT : X ≤ TH) {f f' a a' b b' : vT} (hf : vR σ τ f f') (ha : vR σ τ a a') (hb : vR σ τ b b') (line : Int32) {as md wt : Int32} (e : as = waA w ∧ md = waM w ∧ wt = waN σ0 c w) : ∃ σ2, (∀ K, lj_bv (lj_R lc_P 154 [.ref 8, .int a.1, .long a.2] (lj_put σ 8 38 0)) (fun s => lj_bv (lj_R lc_P 154 [.ref 8, .int b.1, .long b.2] s) K lj_up) lj_up = K σ2) ∧ ocR σ0 τ0 [] (fun t => t < X) σ (gv2 τ md wt line f' a' b') (lj_R lc_P 155 [.ref 8, .int f.1, .long f.2, .int as, .int line] σ2) := by
  have h1 := h.wt rg hn hc hsc h5
  have q := hX (kTo F c m s l dd (n' + 1) w) rfl (Nat.le_refl _)
  obtain ⟨σ2, x1, x2⟩ := x_ev2 C h1 (rg_ry rg) (wk_nil h.npr hwk _) (fpT_o _ _ _) rfl hw hf ha hb line (as := as) (md := md) (wt := wt) e (by omega)
  exact ⟨σ2, x1, x2.pre (fun _ => rfl) (fun i hi => by cases hi) (fun t ht => by have ht : t ≤ _ := ht; show t < X; omega)⟩
