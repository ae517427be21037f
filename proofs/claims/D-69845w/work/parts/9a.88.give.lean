/-! acts that give back -/
/-- what an act comes to where no frame is at work -/
def acR (σ0 τ0 : lj_S) (O : Nat → Prop) (σ τ : lj_S) : Prop :=
  (∃ σ' τ' n np p r FP MO LA, (∀ v, goC v σ = goC v σ') ∧ (∀ x, mRun x τ = mRun x τ') ∧ runR σ0 τ0 n np p r FP [] MO LA σ' τ' ∧ O (thM FP (p :: r) MO LA) ∧ wkR FP (p :: r) [] σ') ∨
  (∃ σ1 σ' τ' n np p r FP ρ MO LA, (∀ v, goC v σ = goC v σ1) ∧ σ1.1 8 46 = 0 ∧ lj_R lc_P 139 [.ref 8] σ1 = some (.inr 2, σ') ∧ (∀ x, mRun x τ = mRun x τ') ∧ eoR σ0 τ0 n np p r FP ρ [] MO LA σ' τ' ∧ O (thM FP (p :: r) MO LA + 1) ∧ wkR FP (p :: r) [] σ') ∨
  (∃ σ' τ', (∀ v, goC v σ = goC v σ') ∧ (∀ x, mRun x τ = mRun x τ') ∧ finR σ0 τ0 σ' τ')
theorem ac_of {σ0 τ0 : lj_S} {O O' : Nat → Prop} {σ τ σr τ1 : lj_S} {oC : Option lj_O} (h : ocR σ0 τ0 [] O σr τ1 oC) (h46 : σ.1 8 46 = 0) (run : lj_R lc_P 139 [.ref 8] σ = lj_bv oC (fun s => some (.inl (some (.int 1)), s)) lj_up) (m : ∀ x, mRun x τ = mRun x τ1) (hO : ∀ C, O C → O' C) : acR σ0 τ0 O' σ τ := by
  rcases h with ⟨σ', τ', n, np, p, r, FP, MO, LA, x1, x2, x3, x4, x5, x6⟩ | ⟨σ', τ', n, np, p, r, FP, ρ, MO, LA, x1, x2, x3, x4, x5⟩ | ⟨σ', τ', x1, x2, x3, x4⟩ | ⟨σ', τ', n, np, p, r, FP, ρ, MO, LA, F, L, A', x1, x2, x3, x4, x5, x6, x7⟩
  · rw [x1, bv_ok] at run
    exact Or.inl ⟨σ', τ', n, np, p, r, FP, MO, LA, go_step h46 run, fun x => (m x).trans (x2 x), x3, hO _ x4, x5⟩
  · rw [x1, bv_th] at run
    exact Or.inr (Or.inl ⟨σ, σ', τ', n, np, p, r, FP, ρ, MO, LA, fun _ => rfl, h46, run, fun x => (m x).trans (x2 x), x3, hO _ x4, x5⟩)
  · rw [x1, bv_ok] at run
    exact Or.inr (Or.inr ⟨σ', τ', go_step h46 run, fun x => (m x).trans (x2 x), x3⟩)
  · cases x6
theorem acR.pre {σ0 τ0 : lj_S} {O : Nat → Prop} {σ τ σ1 τ1 : lj_S} (h : acR σ0 τ0 O σ1 τ1) (g : ∀ v, goC v σ = goC v σ1) (m : ∀ x, mRun x τ = mRun x τ1) : acR σ0 τ0 O σ τ := by
  rcases h with ⟨σ', τ', n, np, p, r, FP, MO, LA, x1, x2, x3⟩ | ⟨σ2, σ', τ', n, np, p, r, FP, ρ, MO, LA, x1, x2, x3, x4, x5⟩ | ⟨σ', τ', x1, x2, x3⟩
  · exact Or.inl ⟨σ', τ', n, np, p, r, FP, MO, LA, fun v => (g v).trans (x1 v), fun x => (m x).trans (x2 x), x3⟩
  · exact Or.inr (Or.inl ⟨σ2, σ', τ', n, np, p, r, FP, ρ, MO, LA, fun v => (g v).trans (x1 v), x2, x3, fun x => (m x).trans (x4 x), x5⟩)
  · exact Or.inr (Or.inr ⟨σ', τ', fun v => (g v).trans (x1 v), fun x => (m x).trans (x2 x), x3⟩)
theorem wk_top {FP : Nat → List kF} {p : Nat} {r A : List Nat} (hpr : p ∉ r) {F F' : kF} {L : List kF} (hF : FP p = F :: L) (hS : kS F' = kS F) {σ σ' : lj_S} (h : wkR FP (p :: r) A σ) (e : ∀ i, σ'.1 102 i = σ.1 102 i) : wkR (fpT FP p (F' :: L)) (p :: r) A σ' := by
  refine ⟨fun i hi => by rw [e]; exact h.1 i hi, ?_, pfI_o (fpT_ne FP hpr _) h.2.2⟩
  have x := h.2.1
  have x1 := gX_p FP hpr (F :: L)
  rw [fpT_s hF] at x1
  rw [x1] at x
  rw [gX_p FP hpr, gL_k hS]
  exact x
theorem act_28 {σ0 τ0 σ τ : lj_S} {n np p : Nat} {r : List Nat} {FP : Nat → List kF} {ρ : Nat → Nat} {A MO LA : List Nat} (h : MB σ0 τ0 n np p r FP ρ A MO LA σ τ) {F : kF} {L : List kF} (hF : FP p = F :: L) (h0 : kS F = 0) (rg : rgR σ τ) (hs : stF σ0 τ0) {Z : List pT} (hk : insK σ0 τ0 (kY F).1 (kY F).2.1 (kY F).2.2.1 (kY F).2.2.2.1 (kY F).2.2.2.2.1 (kY F).2.2.2.2.2 Z 28) (hA : A = []) (hN : kN F ≠ 0) (hwk : wkR FP (p :: r) A σ) {M : Nat} (D : DLV σ0 τ0 M) (hM : thM FP (p :: r) MO LA ≤ M) (hT : thM FP (p :: r) MO LA ≤ TH) : acR σ0 τ0 (fun t => t < thM FP (p :: r) MO LA) σ τ := by
  subst hA
  have hpr : p ∉ r := (List.nodup_cons.1 h.2.2.2.2.2.2.1.2.2.2.2.1).1
  obtain ⟨s', hsh, k1, k2, rfl⟩ := hk
  obtain ⟨ms, ks, ce, me, mq, V⟩ := h.w hF h0
  have st := V.st
  rw [hsh] at st
  obtain ⟨k, c0, m0, mq', cm', hk, w⟩ := rk_of (w := []) (fun x hx => by cases hx) st
  obtain ⟨oC, τ1, e1, e2, e3⟩ := x_give h hF h0 rg V hs k1 k2 w (Nat.le_trans hk (by decide)) hwk D hM hT
  have x1 := thM_d hpr hF MO LA
  rw [thF_0 h0] at x1
  exact ac_of e3 rg.1 e1 e2 (fun C z => by have z : C ≤ _ := z; show C < _; omega)
theorem act_27 {σ0 τ0 σ τ : lj_S} {n np p : Nat} {r : List Nat} {FP : Nat → List kF} {ρ : Nat → Nat} {A MO LA : List Nat} (h : MB σ0 τ0 n np p r FP ρ A MO LA σ τ) {F : kF} {L : List kF} (hF : FP p = F :: L) (h0 : kS F = 0) (rg : rgR σ τ) (hs : stF σ0 τ0) {Z : List pT} (hk : insK σ0 τ0 (kY F).1 (kY F).2.1 (kY F).2.2.1 (kY F).2.2.2.1 (kY F).2.2.2.2.1 (kY F).2.2.2.2.2 Z 27) (hA : A = []) (hN : 1 < kN F) (hwk : wkR FP (p :: r) A σ) {M : Nat} (D : DLV σ0 τ0 M) (hM : thM FP (p :: r) MO LA ≤ M) (hT : thM FP (p :: r) MO LA ≤ TH) : acR σ0 τ0 (fun t => t < thM FP (p :: r) MO LA) σ τ := by
  subst hA
  have hpr : p ∉ r := (List.nodup_cons.1 h.2.2.2.2.2.2.1.2.2.2.2.1).1
  obtain ⟨wr, s', hwr, hsh, k1, k2, k2l, k3, rfl⟩ := hk
  obtain ⟨ms, ks, ce, me, mq, V⟩ := h.w hF h0
  have B := V.bd
  have st := V.st
  rw [hsh] at st
  obtain ⟨k, c0, m0, mq', cm', hk, w⟩ := rk_of hwr.1 st
  have hk126 := Nat.le_trans hk (row_bd hwr)
  obtain ⟨⟨hce, hme, hmq⟩, ⟨h97, h80, h81, h73⟩, hv, st'⟩ := w
  have at1 := mAt_p (i := (48 * p + L.length)) (v := Int32.ofNat ((kY F).2.2.1 + 1)) V.at
  rw [hmq] at at1
  have mk := m_mark at1
  rw [lj_put_1, if_neg (by omega), h73] at mk
  have sb : Int32.ofNat me - Int32.ofNat m0 = Int32.ofNat k := lz_ext (by rw [lz_sub (by rw [lz_lit (by omega), lz_lit (by omega)]; omega), lz_lit (by omega), lz_lit (by omega), lz_lit (by omega)]; omega)
  have k30 : (Int32.ofNat k ≤ 30) ↔ k ≤ 30 := ofN_le (b := 30) (by omega) (by omega)
  by_cases z : k ≤ 30
  · obtain ⟨h1, rg1⟩ := h.ft hF h0 rg V false true
    have h1 : MB σ0 τ0 n np p r (fpT FP p (kTo F (kY F).2.1 ((kY F).2.2.1 + 1) (kY F).2.2.2.1 (kY F).2.2.2.2.1 (kY F).2.2.2.2.2 0 0 :: L)) ρ [] MO LA σ (lj_put τ 77 (48 * p + L.length) (Int32.ofNat ((kY F).2.2.1 + 1))) := h1
    have rg1 : rgR σ (lj_put τ 77 (48 * p + L.length) (Int32.ofNat ((kY F).2.2.1 + 1))) := rg1
    have fo := fpT_o FP p (kTo F (kY F).2.1 ((kY F).2.2.1 + 1) (kY F).2.2.2.1 (kY F).2.2.2.2.1 (kY F).2.2.2.2.2 0 0 :: L)
    obtain ⟨ms1, ks1, ce1, me1, mq1, V1⟩ := h1.w fo rfl
    have st1 := V1.st
    have hsh1 : (kY (kTo F (kY F).2.1 ((kY F).2.2.1 + 1) (kY F).2.2.2.1 (kY F).2.2.2.2.1 (kY F).2.2.2.2.2 0 0)).2.2.2.1 = wr ++ 1 :: s' := hsh
    rw [hsh1] at st1
    obtain ⟨k', c0', m0', mq1', cm1', hk', w1⟩ := rk_of hwr.1 st1
    have kk : k' = k := by
      obtain ⟨⟨a1, _, _⟩, ⟨a2, _⟩, _⟩ := w1
      have b1 := V1.tp
      rw [V.tp, a1] at b1
      rw [h97] at a2
      have B1 := V1.bd
      have x1 := (ofN_eq (by omega) (by omega)).1 b1
      have x2 := (ofN_eq (by omega) (by omega)).1 a2
      omega
    have wk1 := wk_top (F' := kTo F (kY F).2.1 ((kY F).2.2.1 + 1) (kY F).2.2.2.1 (kY F).2.2.2.2.1 (kY F).2.2.2.2.2 0 0) hpr hF (show (0 : Nat) = kS F from h0.symm) hwk (fun _ => rfl)
    have x1 := thM_d hpr hF MO LA
    have x2 := thM_t hpr hF (kTo F (kY F).2.1 ((kY F).2.2.1 + 1) (kY F).2.2.2.1 (kY F).2.2.2.2.1 (kY F).2.2.2.2.2 0 0) MO LA
    rw [thF_0 h0] at x1 x2
    rw [thF_0 (F := kTo F (kY F).2.1 ((kY F).2.2.1 + 1) (kY F).2.2.2.1 (kY F).2.2.2.2.1 (kY F).2.2.2.2.2 0 0) rfl] at x2
    have x3 : kN (kTo F (kY F).2.1 ((kY F).2.2.1 + 1) (kY F).2.2.2.1 (kY F).2.2.2.2.1 (kY F).2.2.2.2.2 0 0) = 0 := rfl
    obtain ⟨oC, τ1, e1, e2, e3⟩ := x_give h1 fo rfl rg1 V1 hs k1 k3 w1 (by omega) wk1 D (by omega) (by omega)
    rw [fpT_2] at e3
    refine (ac_of e3 rg1.1 e1 e2 (fun C z => by have z : C ≤ _ := z; show C < _; omega)).pre (fun _ => rfl) (run_step rg.2.1 rg.2.2.1 (m_lo h hF h0 V hs k2 (by decide) (fun z1 z2 => ?_)))
    rw [my_17 _ z1 z2, if_pos at1.i.1, mk, bi_ok, at1.i.2.1, at1.2.2.1, sb, if_pos (k30.2 z), km_127_420]
  · obtain ⟨h1, rg1⟩ := h.ft hF h0 rg V true true
    have h1 : MB σ0 τ0 n np p r (fpT FP p (kTo F ((kY F).2.1 + 1) ((kY F).2.2.1 + 1) (kY F).2.2.2.1 (kY F).2.2.2.2.1 (kY F).2.2.2.2.2 0 0 :: L)) ρ [] MO LA (lj_put σ 94 (20 * p + L.length) (Int32.ofNat ((kY F).2.1 + 1))) (lj_put τ 77 (48 * p + L.length) (Int32.ofNat ((kY F).2.2.1 + 1))) := h1
    have rg1 : rgR (lj_put σ 94 (20 * p + L.length) (Int32.ofNat ((kY F).2.1 + 1))) (lj_put τ 77 (48 * p + L.length) (Int32.ofNat ((kY F).2.2.1 + 1))) := rg1
    obtain ⟨σ', τ', e1, e2, e3⟩ := cm_wrong h1.2.1 (σ0.1 26 (kY F).2.1) (e := 4) (by decide)
    obtain ⟨f1, f2, f3, f4, fA, fL, fK, f5⟩ := c_ft h hF h0 hs k1 (by decide)
    have bh := c_behind (σ := lj_put σ 94 (20 * p + L.length) (Int32.ofNat ((kY F).2.1 + 1))) (t := ce) (i := (20 * p + L.length)) (c := c0) (by rw [lj_put_1, if_neg (by omega)]; exact V.tp) (by rw [lj_put_1, if_neg (by omega)]; exact V.i34) (by omega) (by rw [lj_put_1, if_neg (by omega)]; exact h97) (by omega) (by omega)
    rw [show ce - c0 - 1 = k by omega] at bh
    have wk1 := wk_top (F' := kTo F ((kY F).2.1 + 1) ((kY F).2.2.1 + 1) (kY F).2.2.2.1 (kY F).2.2.2.2.1 (kY F).2.2.2.2.2 0 0) hpr hF (show (0 : Nat) = kS F from h0.symm) hwk (σ' := lj_put σ 94 (20 * p + L.length) (Int32.ofNat ((kY F).2.1 + 1))) (fun i => by rw [lj_put_1, if_neg (by omega)])
    have x2 := thM_t hpr hF (kTo F ((kY F).2.1 + 1) ((kY F).2.2.1 + 1) (kY F).2.2.2.1 (kY F).2.2.2.2.1 (kY F).2.2.2.2.2 0 0) MO LA
    rw [thF_0 h0, thF_0 (F := kTo F ((kY F).2.1 + 1) ((kY F).2.2.1 + 1) (kY F).2.2.2.1 (kY F).2.2.2.2.1 (kY F).2.2.2.2.2 0 0) rfl] at x2
    have x3 : kN (kTo F ((kY F).2.1 + 1) ((kY F).2.2.1 + 1) (kY F).2.2.2.1 (kY F).2.2.2.2.1 (kY F).2.2.2.2.2 0 0) = 0 := rfl
    refine Or.inr (Or.inl ⟨σ, σ', τ', n, np, p, r, _, ρ, MO, LA, fun _ => rfl, rg.1, ?_, run_step rg.2.1 rg.2.2.1 (m_lo h hF h0 V hs k2 (by decide) (fun z1 z2 => ?_)), h1.er rg1 e3, (by show thM _ _ _ _ + 1 < _; omega), e3.wk wk1⟩)
    · have kb : (lj_put σ 94 (20 * p + L.length) (Int32.ofNat ((kY F).2.1 + 1))).1 22 (Int32.ofNat (kY F).2.1).toNatClampNeg = 40 := by rw [lj_put_1, if_neg (by omega)]; exact fK
      have e1 : lj_br (lj_R lc_P 133 [.ref 8, .int (σ0.1 26 (kY F).2.1), .ref 1027] (lj_put σ 94 (20 * p + L.length) (Int32.ofNat ((kY F).2.1 + 1)))) (fun y s => (bif Nat.blt y 2000 then lj_up y s else none)) lj_up = some (.inr 2, σ') := e1
      rw [ca_x σ f1 f3 f4 fA fL fK (by decide), f2, lz_osucc, cg_40 _ f4 kb, bh, bi_ok, if_neg (fun y => z (k30.1 y)), e1, bv_th]
    · have e2 : lj_R lm_P 142 [.ref 0, .int 4, .int (σ0.1 26 (kY F).2.1)] (lj_put τ 77 (48 * p + L.length) (Int32.ofNat ((kY F).2.2.1 + 1))) = some (.inl none, τ') := e2
      have l23 : (lj_put τ 77 (48 * p + L.length) (Int32.ofNat ((kY F).2.2.1 + 1))).1 23 (Int32.ofNat (kY F).2.2.1).toNatClampNeg = σ0.1 26 (kY F).2.1 := by
        have := ((h.cx hF h0 hs).2 (by rw [k2]; decide)).1.2.2.2.2.2.2
        rw [lj_put_1, if_neg (by omega), this, (h.1.2 23 _ (by unfold cdM; simp)).1]
        exact k2l
      rw [my_17 _ z1 z2, if_pos at1.i.1, mk, bi_ok, at1.i.2.1, at1.2.2.1, sb, if_neg (fun y => z (k30.1 y)), if_pos z1, l23, e2, bv_ok, km_127_420]
