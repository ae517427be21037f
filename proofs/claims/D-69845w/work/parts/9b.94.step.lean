/-! steps, and the run -/
theorem MB.left {σ0 τ0 σ τ : lj_S} {n np p : Nat} {r : List Nat} {FP : Nat → List kF} {ρ : Nat → Nat} {A MO LA : List Nat} (h : MB σ0 τ0 n np p r FP ρ A MO LA σ τ) (hl : σ.1 8 45 ≠ 0) : ∃ hd : Nat, hd + 536870912 = LA.headD 0 ∧ MB σ0 τ0 n np p r FP ρ A MO (hd :: LA.tail) (lj_put σ 8 45 (σ.1 8 45 - 1)) τ := by
  obtain ⟨σ', hσ'⟩ : ∃ s, s = lj_put σ 8 45 (σ.1 8 45 - 1) := ⟨_, rfl⟩
  rw [← hσ']
  have o : ∀ k j, ¬ (k = 8 ∧ j = 45) → σ'.1 k j = σ.1 k j := fun k j z => by rw [hσ', lj_put_1, if_neg z]
  have o2 : ∀ k j, σ'.2 k j = σ.2 k j := fun k j => by rw [hσ']; rfl
  obtain ⟨hO, oA⟩ := oA_eq (σ := σ) (τ := τ) (σ' := σ') (τ' := τ) (o 7 0 (by omega)) (fun j => o 57 j (by omega)) (fun j => rfl)
  have vC : ∀ k j, vqC k j = true → σ'.1 k j = σ.1 k j := fun k j q => o k j (by unfold vqC at q; simp at q; omega)
  have hv : ∀ a b, vR σ τ a b → vR σ' τ a b := fun a b w => w.cg vC (fun _ _ _ => rfl)
  obtain ⟨⟨a1, a2, a3, a4, a5, ⟨p1, p2, p3⟩, a7⟩, ⟨b1, b2, b3, b4⟩, c1, c2, c3, c4⟩ := h.2.2.2.2.2.2.2.2.2.2.1
  have l0 : lv σ 8 45 ≠ 0 := fun z => hl (lz_ext (by
    have : (σ.1 8 45).toInt = 0 := z
    rw [this]; rfl))
  have i1 : (1 : Int32).toInt = 1 := by decide
  have u : (σ.1 8 45).toInt ≤ 2147483647 := Int32.toInt_le _
  have lv1 : lv σ' 8 45 = lv σ 8 45 - 1 := by
    have e : σ'.1 8 45 = σ.1 8 45 - 1 := by rw [hσ', lj_put_1, if_pos ⟨rfl, rfl⟩]
    unfold lv at l0 p2 ⊢
    rw [e, lz_sub (by rw [i1]; omega), i1]
  obtain ⟨hd, ehd⟩ : ∃ hd : Nat, hd + 536870912 = LA.headD 0 := ⟨LA.headD 0 - 536870912, by omega⟩
  have g' : gaR σ' τ n FP (p :: r) A MO (hd :: LA.tail) := by
    have ho : ∀ o' k, obA σ τ o' k → obA σ' τ o' k := fun o' k w => (oA o' k).2 w
    refine ⟨⟨by unfold lv at a1 ⊢; rw [o 8 53 (by omega)]; exact a1, fun i hi => by rw [o 110 i (by omega)]; exact a2 i hi, a3, fun t ht => ⟨ho _ _ (a4 t ht).1, (a4 t ht).2⟩, a5, ?_, fun t t1 t2 => by rw [o 57 t (by omega), o 65 t (by omega)]; exact a7 t t1 t2⟩, ⟨by unfold lv at b1 ⊢; rw [o 8 33 (by omega)]; exact b1, b2, b3, fun i hi => ⟨ho _ _ (b4 i hi).1, by rw [o 104 i (by omega)]; exact (b4 i hi).2.1, (b4 i hi).2.2⟩⟩, c1.up ho (o 57 0 (by omega)), gaC_cg (fun k i w => o k i (by omega)) (fun _ _ _ => rfl) (fun _ _ _ w => w) c2, fun i hi => by rw [o 102 i (by omega)]; exact c3 i hi, by rw [o 8 51 (by omega)]; exact c4⟩
    rw [lv1]
    show 0 ≤ (τ.2 0 78).toInt ∧ 0 ≤ lv σ 8 45 - 1 ∧ (τ.2 0 78).toInt + 536870912 * (lv σ 8 45 - 1) = ((hd : Nat) : Int)
    omega
  exact ⟨hd, ehd, h.up (fun k j q => ⟨o k j (by unfold kpC at q; simp at q; omega), o2 k j⟩) (fun k j q => ⟨rfl, rfl⟩) (fun j _ => ⟨o 79 j (by omega), o2 80 j, o 81 j (by omega)⟩) (fun _ _ _ => rfl) (sG_eq vC (fun _ _ _ => rfl)) hO (fun o' _ => o 62 o' (by omega)) (fun o' _ => o 64 o' (by omega)) (fun o' w => (oA o' 6).1 w) (Nat.le_refl _) (h.2.1.cg (fun k j q => o k j (by unfold sqC at q; simp at q; omega)) (fun _ _ _ => rfl)) (h.2.2.2.1.cg (fun k j q => ⟨o k j (by unfold hqC vqC at q; simp at q; omega), o2 k j⟩) (fun _ _ _ => ⟨rfl, rfl⟩)) (h.2.2.2.2.1.cg (fun k j q => o k j (by omega)) (fun _ _ _ => rfl)) (fun o' q w1 w2 w3 => h.2.2.2.2.2.1 o' q ((oA o' 5).1 w1) w2 (by rw [← o 62 o' (by omega)]; exact w3)) (h.2.2.2.2.2.2.2.2.2.1.cg hv (fun k j w => o k j (by omega)) (fun j => o2 76 j) (fun q s w => ⟨by unfold cv; rw [o 79 s (by omega), o2 80 s], o 81 s (by omega)⟩) (fun _ _ _ => rfl) (fun _ => rfl)) g'⟩
/-- a step, where one is left -/
theorem act_0 {σ0 τ0 σ τ : lj_S} {n np p : Nat} {r : List Nat} {FP : Nat → List kF} {ρ : Nat → Nat} {A MO LA : List Nat} (h : MB σ0 τ0 n np p r FP ρ A MO LA σ τ) {F : kF} {L : List kF} (hF : FP p = F :: L) (h0 : kS F = 0) (rg : rgR σ τ) (hs : stF σ0 τ0) (k1 : σ0.1 22 (kY F).2.1 = 0) (k2 : τ0.1 20 (kY F).2.2.1 = 0) (hl : σ.1 8 45 ≠ 0) {n' : Nat} (hn : gn σ0 τ0 n' ((kY F).1, (kY F).2.1 + 1, (kY F).2.2.1 + 1, (kY F).2.2.2.1, (kY F).2.2.2.2.1, (kY F).2.2.2.2.2)) :
    ∃ σ' τ' hd, (∀ v, goC v σ = goC v σ') ∧ (∀ x, mRun x τ = mRun x τ') ∧ MB σ0 τ0 n np p r (fpT FP p (kTo F ((kY F).2.1 + 1) ((kY F).2.2.1 + 1) (kY F).2.2.2.1 (kY F).2.2.2.2.1 (kY F).2.2.2.2.2 (n' + 1) 0 :: L)) ρ A MO (hd :: LA.tail) σ' τ' ∧ rgR σ' τ' ∧ hd + 536870912 = LA.headD 0 := by
  obtain ⟨hd, eh, hm⟩ := h.left hl
  obtain ⟨cx, cy⟩ := h.cx hF h0 hs
  obtain ⟨⟨c1, c2, c3, c4, c5⟩, c6⟩ := cx (by rw [k1]; decide)
  obtain ⟨⟨m1, m2, m3, m4, m5, m6, m7⟩, m8⟩ := cy (by rw [k2]; decide)
  have k22 : σ.1 22 (kY F).2.1 = 0 := by rw [c6 22 (by decide) (by decide)]; exact k1
  refine ⟨lj_put (lj_putL (lj_put σ 8 45 ((σ.1 8 45) - 1)) 8 44 ((σ.2 8 44) + 1)) 94 (20 * p + L.length) (Int32.ofNat ((kY F).2.1 + 1)), lj_put (lj_putL (lj_put τ 0 144 ((τ.1 0 144) - 1)) 0 145 ((τ.2 0 145) + 1)) 77 (48 * p + L.length) (Int32.ofNat ((kY F).2.2.1 + 1)), hd, go_step rg.1 ?_, run_step rg.2.1 rg.2.2.1 ?_, act_stay hm hF h0 (fun k j z => ?_) (fun k j z => ?_) ?_ ?_ hn, ?_, ?_⟩
  · rw [ca_0 σ c1 c3 c4 rfl rfl (by rw [c5]; exact k22) hl, c2, lz_osucc, cg_0 _ c4 (by rw [c5, lj_put_1, if_neg (by omega), lj_putL_1, lj_put_1, if_neg (by omega)]; exact k22), bv_ok, kc_139_1051]
  · rw [mw_0 τ m1 m2 m3 m5 m6 rfl (by rw [m7, m8 20 (by decide) (by decide)]; exact k2) (by rw [← rg.2.2.2.1]; exact hl), m4, lz_osucc]
  · have z8 : ¬ (k = 8 ∧ j = 44) := fun y => z (Or.inr (by unfold szC; rcases y with ⟨rfl, rfl⟩; rfl))
    refine ⟨by rw [lj_put_1, if_neg (fun y => z (Or.inl y)), lj_putL_1], ?_⟩
    show (lj_putL (lj_put σ 8 45 ((σ.1 8 45) - 1)) 8 44 ((σ.2 8 44) + 1)).2 k j = _
    rw [lj_putL_2, if_neg z8]
  · have z8 : ¬ (k = 0 ∧ (j = 144 ∨ j = 145)) := fun y => z (Or.inr (by unfold szM; rcases y with ⟨rfl, rfl | rfl⟩ <;> rfl))
    refine ⟨by rw [lj_put_1, if_neg (fun y => z (Or.inl y)), lj_putL_1, lj_put_1, if_neg (by omega)], ?_⟩
    show (lj_putL (lj_put τ 0 144 ((τ.1 0 144) - 1)) 0 145 ((τ.2 0 145) + 1)).2 k j = _
    rw [lj_putL_2, if_neg (by omega)]; rfl
  · rw [lj_put_1, if_pos ⟨rfl, rfl⟩]
  · rw [lj_put_1, if_pos ⟨rfl, rfl⟩]
  · obtain ⟨g1, g2, g3, g4, g5⟩ := rg
    refine ⟨?_, ?_, ?_, ?_, ?_⟩
    · rw [lj_put_1, if_neg (by omega), lj_putL_1, lj_put_1, if_neg (by omega)]; exact g1
    · rw [lj_put_1, if_neg (by omega), lj_putL_1, lj_put_1, if_neg (by omega)]; exact g2
    · rw [lj_put_1, if_neg (by omega), lj_putL_1, lj_put_1, if_neg (by omega)]; exact g3
    · rw [lj_put_1, if_neg (by omega), lj_putL_1, lj_put_1, if_pos ⟨rfl, rfl⟩, lj_put_1, if_neg (by omega), lj_putL_1, lj_put_1, if_pos ⟨rfl, rfl⟩, g4]
    · show (lj_putL (lj_put σ 8 45 ((σ.1 8 45) - 1)) 8 44 ((σ.2 8 44) + 1)).2 8 44 = (lj_putL (lj_put τ 0 144 ((τ.1 0 144) - 1)) 0 145 ((τ.2 0 145) + 1)).2 0 145
      rw [lj_putL_2, if_pos ⟨rfl, rfl⟩, lj_putL_2, if_pos ⟨rfl, rfl⟩, g5]
  · exact eh
theorem wt_54 {σ0 τ0 : lj_S} {f c m : Nat} {s l : List Nat} {dd : Nat} : wtp σ0 τ0 (f, c, m, 0 :: s, l, dd) ≤ wtp σ0 τ0 (f, c, m, 8 :: s, l, dd) := by
  unfold wtp
  by_cases q : σ0.1 22 c = 0 ∧ τ0.1 20 m = 0
  · rw [if_pos q]; exact Nat.zero_le _
  · rw [if_neg q, if_neg q]
    show 6000 * (2 * (14000 - c) + 2 * (14000 - m) + (if (some 0 : Option Nat) = some 8 then 1 else 0) + 1) ≤ 6000 * (2 * (14000 - c) + 2 * (14000 - m) + (if (some 8 : Option Nat) = some 8 then 1 else 0) + 1)
    rw [if_neg (by decide), if_pos rfl]
    omega
theorem wt_W {σ0 τ0 : lj_S} (y : pT) : wtp σ0 τ0 y + 1 < 536870912 := by
  unfold wtp
  by_cases q : σ0.1 22 y.2.1 = 0 ∧ τ0.1 20 y.2.2.1 = 0
  · rw [if_pos q]; decide
  · rw [if_neg q]
    have b : (if y.2.2.2.1.head? = some 8 then 1 else 0) ≤ 1 := by
      by_cases z : y.2.2.2.1.head? = some 8
      · rw [if_pos z]; exact Nat.le_refl 1
      · rw [if_neg z]; decide
    omega
/-- both run, at a frame that waits for nothing -/
def rnR (σ0 τ0 : lj_S) (n np p : Nat) (r : List Nat) (FP : Nat → List kF) (MO LA : List Nat) (σ τ : lj_S) : Prop := ∃ ρ F L, FP p = F :: L ∧ kS F = 0 ∧ kN F ≠ 0 ∧ kW F = 0 ∧ MB σ0 τ0 n np p r FP ρ [] MO LA σ τ ∧ rgR σ τ
/-- both stop: no step is left -/
def haR (σ0 τ0 : lj_S) (X : Nat) (σ τ : lj_S) : Prop := ∃ σ' τ' n np p r FP MO LA, (∀ v, goC v σ = some (.inl none, σ')) ∧ (∀ x, mRun x τ = some (.inl (some (.int 2)), τ')) ∧ rnR σ0 τ0 n np p r FP MO LA σ' τ' ∧ thM FP (p :: r) MO LA ≤ X ∧ wkR FP (p :: r) [] σ'
theorem run_0 {σ0 τ0 σ τ : lj_S} {n np p : Nat} {r : List Nat} {FP : Nat → List kF} {ρ : Nat → Nat} {MO LA : List Nat} (h : MB σ0 τ0 n np p r FP ρ [] MO LA σ τ) {F : kF} {L : List kF} (hF : FP p = F :: L) (h0 : kS F = 0) (hN : kN F ≠ 0) (hW : kW F = 0) (rg : rgR σ τ) (hs : stF σ0 τ0) (hwk : wkR FP (p :: r) [] σ) (k1 : σ0.1 22 (kY F).2.1 = 0) (k2 : τ0.1 20 (kY F).2.2.1 = 0) (hg : ∃ k, gN σ0 τ0 (fun _ => False) (gS σ0 τ0 (fun _ => False)) k ((kY F).1, (kY F).2.1 + 1, (kY F).2.2.1 + 1, (kY F).2.2.2.1, (kY F).2.2.2.2.1, (kY F).2.2.2.2.2)) : acR σ0 τ0 (fun t => t < thM FP (p :: r) MO LA) σ τ ∨ haR σ0 τ0 (thM FP (p :: r) MO LA) σ τ := by
  by_cases z : σ.1 8 45 = 0
  · right
    obtain ⟨e1, e2⟩ := act_0c h hF h0 rg hs k1 k2 z
    exact ⟨σ, τ, n, np, p, r, FP, MO, LA, e1, e2, ⟨ρ, F, L, hF, h0, hN, hW, h, rg⟩, Nat.le_refl _, hwk⟩
  · left
    have hpr := h.npr
    obtain ⟨n', hn'⟩ : ∃ w, w = wtp σ0 τ0 ((kY F).1, (kY F).2.1 + 1, (kY F).2.2.1 + 1, (kY F).2.2.2.1, (kY F).2.2.2.2.1, (kY F).2.2.2.2.2) := ⟨_, rfl⟩
    obtain ⟨σ', τ', hd, x1, x2, x3, x4, x5⟩ := act_0 h hF h0 rg hs k1 k2 z (n' := n') ⟨hg, by omega⟩
    refine Or.inl ⟨σ', τ', n, np, p, r, _, MO, _, x1, x2, Or.inl ⟨ρ, _, L, fpT_o _ _ _, rfl, Nat.succ_ne_zero _, rfl, x3, x4⟩, ?_, wk_nil hpr hwk _⟩
    have e := thM_t hpr hF (kTo F ((kY F).2.1 + 1) ((kY F).2.2.1 + 1) (kY F).2.2.2.1 (kY F).2.2.2.2.1 (kY F).2.2.2.2.2 (n' + 1) 0) MO LA
    rw [thF_0 h0, thF_0 (F := kTo F ((kY F).2.1 + 1) ((kY F).2.2.1 + 1) (kY F).2.2.2.1 (kY F).2.2.2.2.1 (kY F).2.2.2.2.2 (n' + 1) 0) rfl] at e
    have e2 : kN (kTo F ((kY F).2.1 + 1) ((kY F).2.2.1 + 1) (kY F).2.2.2.1 (kY F).2.2.2.2.1 (kY F).2.2.2.2.2 (n' + 1) 0) = n' + 1 := rfl
    have e3 : thM (fpT FP p (kTo F ((kY F).2.1 + 1) ((kY F).2.2.1 + 1) (kY F).2.2.2.1 (kY F).2.2.2.2.1 (kY F).2.2.2.2.2 (n' + 1) 0 :: L)) (p :: r) MO LA = LA.headD 0 + gaM MO LA + thA (fpT FP p (kTo F ((kY F).2.1 + 1) ((kY F).2.2.1 + 1) (kY F).2.2.2.1 (kY F).2.2.2.2.1 (kY F).2.2.2.2.2 (n' + 1) 0 :: L)) (p :: r) := rfl
    have w := wt_W (σ0 := σ0) (τ0 := τ0) ((kY F).1, (kY F).2.1 + 1, (kY F).2.2.1 + 1, (kY F).2.2.2.1, (kY F).2.2.2.2.1, (kY F).2.2.2.2.2)
    show hd + gaM MO LA + thA (fpT FP p (kTo F ((kY F).2.1 + 1) ((kY F).2.2.1 + 1) (kY F).2.2.2.1 (kY F).2.2.2.2.1 (kY F).2.2.2.2.2 (n' + 1) 0 :: L)) (p :: r) < _
    omega
/-- one act of both, at any running frame -/
theorem run_1 {σ0 τ0 : lj_S} {n np p : Nat} {r : List Nat} {MO LA : List Nat} {L : List kF} (hs : stF σ0 τ0) (C : ∀ M k, CAL σ0 τ0 M k) (D : ∀ M, DLV σ0 τ0 M) : ∀ (k : Nat) {FP : Nat → List kF} {ρ : Nat → Nat} {σ τ : lj_S} {F : kF}, MB σ0 τ0 n np p r FP ρ [] MO LA σ τ → FP p = F :: L → kS F = 0 → kN F ≠ 0 → kW F = 0 → rgR σ τ → wkR FP (p :: r) [] σ → thM FP (p :: r) MO LA ≤ TH → gN σ0 τ0 (fun _ => False) (gS σ0 τ0 (fun _ => False)) k (kY F) → wtp σ0 τ0 (kY F) < kN F → acR σ0 τ0 (fun t => t < thM FP (p :: r) MO LA) σ τ ∨ haR σ0 τ0 (thM FP (p :: r) MO LA) σ τ
  | 0, FP, ρ, σ, τ, F, h, hF, h0, hN, hW, rg, hwk, hT, hg, hw => by
    rcases hg with hg | hg
    · exact hg.elim
    · obtain ⟨Z, ⟨_, k1, k2, rfl⟩, i2⟩ := gK_S _ hg
      exact run_0 h hF h0 hN hW rg hs hwk k1 k2 (i2 _ List.mem_cons_self)
  | k + 1, FP, ρ, σ, τ, F, h, hF, h0, hN, hW, rg, hwk, hT, hg, hw => by
    rcases hg with hg | ⟨Z, ⟨_, K, i⟩, hz⟩
    · exact run_1 hs C D k h hF h0 hN hW rg hwk hT hg hw
    · by_cases K0 : K = 0
      · subst K0
        obtain ⟨k1, k2, rfl⟩ := i
        exact run_0 h hF h0 hN hW rg hs hwk k1 k2 ⟨k, hz _ List.mem_cons_self⟩
      · by_cases K54 : K = 54
        · subst K54
          have i' := i
          obtain ⟨s', hsh, rfl⟩ := i
          have w54 : wtp σ0 τ0 ((kY F).1, (kY F).2.1, (kY F).2.2.1, 0 :: s', (kY F).2.2.2.2.1, (kY F).2.2.2.2.2) ≤ wtp σ0 τ0 (kY F) := by
            have q := wt_54 (σ0 := σ0) (τ0 := τ0) (f := (kY F).1) (c := (kY F).2.1) (m := (kY F).2.2.1) (s := s') (l := (kY F).2.2.2.2.1) (dd := (kY F).2.2.2.2.2)
            rw [← hsh] at q
            exact q
          have hn : ∀ z ∈ [((kY F).1, (kY F).2.1, (kY F).2.2.1, 0 :: s', (kY F).2.2.2.2.1, (kY F).2.2.2.2.2)], gn σ0 τ0 (kN F - 1) z := fun z hz' => by
            rcases List.mem_cons.1 hz' with e | e
            · rw [e]; exact ⟨⟨k, hz _ List.mem_cons_self⟩, by omega⟩
            · cases e
          obtain ⟨σ', τ', z, hzz, g1, g2, g3, g4⟩ := act_54 h hF h0 rg i' (n' := kN F - 1) hn
          have ez : z = ((kY F).1, (kY F).2.1, (kY F).2.2.1, 0 :: s', (kY F).2.2.2.2.1, (kY F).2.2.2.2.2) := by
            rcases List.mem_cons.1 hzz with e | e
            · exact e
            · cases e
          subst ez
          have eN : kN F - 1 + 1 = kN F := by omega
          rw [eN] at g3
          have eT : thM (fpT FP p (kAt F ((kY F).1, (kY F).2.1, (kY F).2.2.1, 0 :: s', (kY F).2.2.2.2.1, (kY F).2.2.2.2.2) (kN F) :: L)) (p :: r) MO LA = thM FP (p :: r) MO LA := by
            have e := thM_t h.npr hF (kAt F ((kY F).1, (kY F).2.1, (kY F).2.2.1, 0 :: s', (kY F).2.2.2.2.1, (kY F).2.2.2.2.2) (kN F)) MO LA
            rw [thF_0 h0, thF_0 (F := kAt F ((kY F).1, (kY F).2.1, (kY F).2.2.1, 0 :: s', (kY F).2.2.2.2.1, (kY F).2.2.2.2.2) (kN F)) rfl] at e
            have e2 : kN (kAt F ((kY F).1, (kY F).2.1, (kY F).2.2.1, 0 :: s', (kY F).2.2.2.2.1, (kY F).2.2.2.2.2) (kN F)) = kN F := rfl
            omega
          have res := run_1 hs C D k g3 (fpT_o _ _ _) rfl hN rfl g4 (wk_nil h.npr hwk _) (by rw [eT]; exact hT) (hz _ List.mem_cons_self) (Nat.lt_of_le_of_lt w54 hw)
          rw [eT] at res
          rcases res with res | ⟨σ2, τ2, n2, np2, p2, r2, FP2, MO2, LA2, y1, y2, y3⟩
          · exact Or.inl (res.pre g1 g2)
          · exact Or.inr ⟨σ2, τ2, n2, np2, p2, r2, FP2, MO2, LA2, fun v => (g1 v).trans (y1 v), fun x => (g2 x).trans (y2 x), y3⟩
        · have lt := wtp_lt hs K K0 K54 i
          have lt1 : 6000 ≤ wtp σ0 τ0 (kY F) := lt.1
          have lt2 : ∀ z ∈ Z, wtp σ0 τ0 z + 6000 ≤ wtp σ0 τ0 (kY F) := lt.2
          exact Or.inl (act_all h hF h0 rg hs rfl hwk C D hT (n' := kN F - 6001) (by omega) (fun z hz' => ⟨⟨k, hz z hz'⟩, by have := lt2 z hz'; omega⟩) K K0 K54 i)
