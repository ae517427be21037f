/-! the run of both -/
/-- what a run of both ends in: no step is left, or both have ended, or there is no room -/
def endR (σ0 τ0 : lj_S) (Y : Nat) (oC oM : Option lj_O) : Prop :=
  (∃ σ' τ' n np p r FP MO LA, oC = some (.inl none, σ') ∧ oM = some (.inl (some (.int 2)), τ') ∧ rnR σ0 τ0 n np p r FP MO LA σ' τ' ∧ thM FP (p :: r) MO LA ≤ Y ∧ wkR FP (p :: r) [] σ') ∨
  (∃ σ' τ', oC = some (.inl none, σ') ∧ oM = lj_bi (lj_R lm_P 238 [.ref 0] τ') (fun y2 σ1 => some (.inl (some (.int y2)), σ1)) lj_up ∧ finR σ0 τ0 σ' τ') ∨
  (∃ σ1 τ' n, oC = some (.inl none, lj_put (lj_put (lj_put σ1 8 46 1) 8 47 3) 8 41 0) ∧ oM = lj_bi (lj_R lm_P 238 [.ref 0] τ') (fun y2 σ1 => some (.inl (some (.int y2)), σ1)) lj_up ∧ τ'.1 0 143 = 4 ∧ σ1.1 8 46 = 0 ∧ σ1.1 8 45 = τ'.1 0 144 ∧ σ1.2 8 44 = τ'.2 0 145 ∧ σ1.1 2 6 = 1 ∧ QR σ1 τ' n ∧ lsR σ0 τ0 σ1 τ')
def runS (σ0 τ0 : lj_S) (X : Nat) : Prop := ∀ (n np p : Nat) (r : List Nat) (FP : Nat → List kF) (MO LA : List Nat) (σ τ : lj_S), runR σ0 τ0 n np p r FP [] MO LA σ τ → wkR FP (p :: r) [] σ → thM FP (p :: r) MO LA < X → thM FP (p :: r) MO LA ≤ TH → ∀ Y : Nat, thM FP (p :: r) MO LA ≤ Y → ∀ (v : Value) (x : Int32), endR σ0 τ0 Y (goC v σ) (mRun x τ)
noncomputable def ctC (x3 : Value) (σ : lj_S) : Option lj_O := lj_bi (lj_D lc_P lc_M220 2 [.ref 8, .ref 2, .ref 2, x3] [] σ) (fun y2 σ1 => lj_D lc_P lc_M138 2 [.ref 8, .int y2, .ref 2] [] σ1) (fun e3 σ4 => some (.inr e3, σ4))
def errS (σ0 τ0 : lj_S) (X : Nat) : Prop := ∀ (n np p : Nat) (r : List Nat) (FP : Nat → List kF) (ρ : Nat → Nat) (MO LA : List Nat) (σ τ : lj_S), eoR σ0 τ0 n np p r FP ρ [] MO LA σ τ → wkR FP (p :: r) [] σ → thM FP (p :: r) MO LA < X → thM FP (p :: r) MO LA ≤ TH → ∀ Y : Nat, thM FP (p :: r) MO LA ≤ Y → ∀ (x3 : Value) (x : Int32), endR σ0 τ0 Y (ctC x3 σ) (mRun x τ)
theorem go_end {σ : lj_S} (h : σ.1 8 46 = 1) (v : Value) : goC v σ = some (.inl none, σ) := by
  unfold goC
  rw [kc_138_2, if_neg (by decide), if_neg (by rw [h]; decide), kc_138_31]
theorem mrn_end {τ : lj_S} (h : τ.1 0 143 ≠ 0) (x : Int32) : mRun x τ = lj_bi (lj_R lm_P 238 [.ref 0] τ) (fun y2 σ1 => some (.inl (some (.int y2)), σ1)) lj_up := by
  unfold mRun
  rw [km_120_46, if_neg h]
theorem fin_end {σ0 τ0 σ τ : lj_S} (h : finR σ0 τ0 σ τ) (Y : Nat) (v : Value) (x : Int32) : endR σ0 τ0 Y (goC v σ) (mRun x τ) := by
  have h1 := h.2.2.2.2.1
  have h2 := h.2.2.2.2.2.1
  have h3 : τ.1 0 143 ≠ 0 := by
    rcases h2 with w | w
    · rw [w.2]; decide
    · rw [w.2]; decide
  exact Or.inr (Or.inl ⟨σ, τ, go_end h1 v, mrn_end h3 x, h⟩)
theorem go_th {σ σ' : lj_S} (h : σ.1 8 46 = 0) (e : lj_R lc_P 139 [.ref 8] σ = some (.inr 2, σ')) (v : Value) : goC v σ = ctC (.retAddr 0) σ' := by
  unfold goC ctC
  rw [kc_138_2, if_neg (by decide), if_pos h, e]
  show (bif lc_ca 263 2 then lj_D lc_P lc_M138 21 [.ref 8, .int 1, v] [.ref 2] σ' else none) = _
  rw [show lc_ca 263 2 = true from rfl]
  show lj_D lc_P lc_M138 21 [.ref 8, .int 1, v] [.ref 2] σ' = _
  rw [kc_138_21, rc_220, kc_220_0]
theorem end_le {σ0 τ0 : lj_S} {Y Y' : Nat} (h : Y ≤ Y') {oC oM : Option lj_O} (e : endR σ0 τ0 Y oC oM) : endR σ0 τ0 Y' oC oM := by
  rcases e with ⟨σ', τ', n, np, p, r, FP, MO, LA, x1, x2, x3, x4, x5⟩ | e | e
  · exact Or.inl ⟨σ', τ', n, np, p, r, FP, MO, LA, x1, x2, x3, Nat.le_trans x4 h, x5⟩
  · exact Or.inr (Or.inl e)
  · exact Or.inr (Or.inr e)
/-- from what an act comes to -/
theorem ac_end {σ0 τ0 σ τ : lj_S} {X T : Nat} (R : runS σ0 τ0 X) (E : errS σ0 τ0 X) (hX : T ≤ X) (hT : T ≤ TH) (a : acR σ0 τ0 (fun t => t < T) σ τ) (v : Value) (x : Int32) : endR σ0 τ0 T (goC v σ) (mRun x τ) := by
  rcases a with ⟨σ', τ', n, np, p, r, FP, MO, LA, x1, x2, x3, x4, x5⟩ | ⟨σ1, σ', τ', n, np, p, r, FP, ρ, MO, LA, x1, x2, x3, x4, x5, x6, x7⟩ | ⟨σ', τ', x1, x2, x3⟩
  · have x4 : thM FP (p :: r) MO LA < T := x4
    rw [x1, x2]
    exact R n np p r FP MO LA σ' τ' x3 x5 (by omega) (by omega) T (by omega) v x
  · have x6 : thM FP (p :: r) MO LA + 1 < T := x6
    rw [x1, x4, go_th x2 x3]
    exact E n np p r FP ρ MO LA σ' τ' x5 x7 (by omega) (by omega) T (by omega) _ x
  · rw [x1, x2]
    exact fin_end x3 T v x
theorem run_all {σ0 τ0 : lj_S} (hs : stF σ0 τ0) (C : ∀ M k, CAL σ0 τ0 M k) (D : ∀ M, DLV σ0 τ0 M) (N : ∀ M k, NLA σ0 τ0 M k) : ∀ X, runS σ0 τ0 X ∧ errS σ0 τ0 X
  | 0 => ⟨fun n np p r FP MO LA σ τ _ _ h => absurd h (Nat.not_lt_zero _), fun n np p r FP ρ MO LA σ τ _ _ h => absurd h (Nat.not_lt_zero _)⟩
  | X + 1 => by
    obtain ⟨R, E⟩ := run_all hs C D N X
    -- at a running frame
    have R1 : ∀ {n np p : Nat} {r : List Nat} {FP : Nat → List kF} {ρ : Nat → Nat} {MO LA : List Nat} {σ τ : lj_S} {F : kF} {L : List kF}, FP p = F :: L → kS F = 0 → kN F ≠ 0 → kW F = 0 → MB σ0 τ0 n np p r FP ρ [] MO LA σ τ → rgR σ τ → wkR FP (p :: r) [] σ → thM FP (p :: r) MO LA < X + 1 → thM FP (p :: r) MO LA ≤ TH → ∀ (v : Value) (x : Int32), endR σ0 τ0 (thM FP (p :: r) MO LA) (goC v σ) (mRun x τ) := fun {n np p r FP ρ MO LA σ τ F L} hF h0 hN hW h rg hwk hX hT v x => by
      obtain ⟨ms, ks, ce, me, mq, V⟩ := h.w hF h0
      have g : gn σ0 τ0 (kN F - 1) (kY F) := by
        rcases V.ff.2.2.1 with w | w
        · exact absurd w.1 hN
        · have q := w.2
          rw [hW] at q
          exact q
      obtain ⟨⟨k, gk⟩, gw⟩ := g
      rcases run_1 hs C D k h hF h0 hN hW rg hwk hT gk (by omega) with a | ⟨σ', τ', n', np', p', r', FP', MO', LA', y1, y2, y3⟩
      · exact ac_end R E (by omega) hT a v x
      · rw [y1 v, y2 x]
        exact Or.inl ⟨σ', τ', n', np', p', r', FP', MO', LA', rfl, rfl, y3⟩
    have RR : runS σ0 τ0 (X + 1) := fun n np p r FP MO LA σ τ hr hwk hX hT Y hY v x => by
      refine end_le hY ?_
      rcases hr with ⟨ρ, F, L, hF, h0, hN, hW, h, rg⟩ | ⟨ρ, F, L, σw, G, G', ce, hF, h0, hW, h, h8, hce, d, hm, hn, rfl⟩
      · exact R1 hF h0 hN hW h rg hwk hX hT v x
      · obtain ⟨ms, ks, ce', me, mq, V⟩ := h.w hF h0
        have B := V.bd
        have ec : ce' = ce := (ofN_eq (by omega) (by omega)).1 (by rw [← V.tp, ← h8])
        subst ec
        obtain ⟨w1, w2, w3, w4⟩ := V.wt (by omega)
        have ho : hoX σ0 τ0 n np p r FP [] MO LA (hfS σw (20 * p + L.length) ce' G) τ F L := by
          by_cases z : kW F = 10
          · exact hw_10 h hF h0 hs V d z hm hn
          · refine hw_6789 h hF h0 hs V d ?_ hm hn
            obtain ⟨w, hw⟩ : ∃ w, w = kW F := ⟨_, rfl⟩
            rw [← hw] at w2 hW z ⊢
            rcases Nat.lt_or_ge w 11 with q | q
            · omega
            · exfalso
              obtain ⟨u, rfl⟩ := Nat.exists_eq_add_of_le q
              rw [Nat.add_comm] at w2
              exact w2
        rcases ho with ⟨ρ', σ', τ', z, g1, g2, g3, g4⟩ | ⟨ρ', F', q0, σ1, σ', τ', g1, g2, g3, g4, g5⟩
        · have eT : thM (fpT FP p (kAt F z (kN F) :: L)) (p :: r) MO LA = thM FP (p :: r) MO LA := by
            have e := thM_t h.npr hF (kAt F z (kN F)) MO LA
            rw [thF_0 h0, thF_0 (F := kAt F z (kN F)) rfl] at e
            have e2 : kN (kAt F z (kN F)) = kN F := rfl
            omega
          rw [g1, g2, ← eT]
          exact R1 (F := kAt F z (kN F)) (L := L) (fpT_o _ _ _) rfl w1 rfl g3 g4 (wk_nil h.npr hwk _) (by rw [eT]; exact hX) (by rw [eT]; exact hT) v x
        · have e := thM_t h.npr hF (kTo F' (kY F').2.1 (kY F').2.2.1 (kY F').2.2.2.1 (kY F').2.2.2.2.1 (kY F').2.2.2.2.2 0 0) MO LA
          rw [thF_0 h0, thF_0 (F := kTo F' (kY F').2.1 (kY F').2.2.1 (kY F').2.2.2.1 (kY F').2.2.2.2.1 (kY F').2.2.2.2.2 0 0) rfl] at e
          have e2 : kN (kTo F' (kY F').2.1 (kY F').2.2.1 (kY F').2.2.2.1 (kY F').2.2.2.2.1 (kY F').2.2.2.2.2 0 0) = 0 := rfl
          rw [g1, g4, go_th g2 g3]
          exact E _ _ _ _ _ _ _ _ _ _ (g5.mid q0) (wk_nil h.npr hwk _) (by omega) (by omega) _ (by omega) _ x
    refine ⟨RR, fun n np p r FP ρ MO LA σ τ he hwk hX hT Y hY x3 x => ?_⟩
    refine end_le hY ?_
    obtain ⟨e1, e2, e3, e4⟩ := he
    rcases e4 with ⟨u1, u2, u3, u4⟩ | ⟨u1, u2, u3, u4, hx, u5, u6⟩
    · -- no room
      refine Or.inr (Or.inr ⟨σ, τ, n, ?_, mrn_end (by rw [u2]; decide) x, u2, e1, e2, e3, u1, u3, u4⟩)
      unfold ctC
      rw [kc_220_2, if_neg (by rw [u1]; decide), bi_ok, kc_138_2, if_pos rfl, kc_138_31]
    · have uw := uw_all (D (thM FP (p :: r) MO LA)) (N (thM FP (p :: r) MO LA)) u5 u6 ⟨e1, u2, e2, e3⟩ u3 u4 hwk (Nat.le_refl _) hT
      rcases uw with ⟨σ', τ', n', np', p', r', FP', MO', LA', x1, x2, y3, y4, y5, _⟩ | ⟨σ', τ', n', np', p', r', FP', ρ', MO', LA', x1, x2, y3, y4, y5⟩ | ⟨σ', τ', x1, x2, y3, _⟩ | ⟨σ', τ', n', np', p', r', FP', ρ', MO', LA', F', L', A', _, _, _, _, _, y6, _⟩
      · have y4 : thM FP' (p' :: r') MO' LA' ≤ thM FP (p :: r) MO LA := y4
        have q : ctC x3 σ = goC (.ref 2) σ' := by
          unfold ctC goC
          rw [kc_220_2, if_pos u1, x1, bv_ok, kc_220_2n, bi_ok]
        rw [q, x2]
        exact RR n' np' p' r' FP' MO' LA' σ' τ' y3 y5 (by omega) (by omega) _ y4 _ x
      · have y4 : thM FP' (p' :: r') MO' LA' + 1 ≤ thM FP (p :: r) MO LA := y4
        have q : ctC x3 σ = ctC (.ref 2) σ' := by
          unfold ctC
          rw [kc_220_2, if_pos u1, x1]
          show lj_bi (bif lc_ca 263 2 then lj_D lc_P lc_M220 39 [.ref 8, .ref 2, .ref 2, x3] [.ref 2] σ' else none) _ _ = _
          rw [show lc_ca 263 2 = true from rfl]
          show lj_bi (lj_D lc_P lc_M220 39 [.ref 8, .ref 2, .ref 2, x3] [.ref 2] σ') _ _ = _
          rw [kc_220_39]
        rw [q, x2]
        exact E n' np' p' r' FP' ρ' MO' LA' σ' τ' y3 y5 (by omega) (by omega) _ (by omega) _ x
      · have q : ctC x3 σ = goC (.ref 2) σ' := by
          unfold ctC goC
          rw [kc_220_2, if_pos u1, x1, bv_ok, kc_220_2n, bi_ok]
        rw [q, x2]
        exact fin_end y3 _ _ x
      · cases y6
