/-! counted fors: they begin -/
def brX (o : Option lj_O) : Option lj_O := lj_br o (fun y s => (bif Nat.blt y 2000 then lj_up y s else none)) lj_up
theorem c_bfk {σ : lj_S} {t i : Nat} (h8 : σ.1 8 8 = Int32.ofNat t) (ht : t + 3 ≤ 325000) (hi : i < 3) (H line : Int32) {u : vT} (hu : cv σ (t + i) = u) : lj_D lc_P lc_M219 13 [.ref 8, .int H, .int 0, .int line, .int (Int32.ofNat i)] [] σ = if u.1 = 2 then lj_D lc_P lc_M219 48 [.ref 8, .int H, .int 0, .int line, .int (Int32.ofNat i)] [] σ else brX (lj_R lc_P 133 [.ref 8, .int line, .ref 1044] σ) := by
  subst hu
  have n3 : ¬ ((3 : Int32) ≤ Int32.ofNat i) := by
    rw [show (3 : Int32) = Int32.ofNat 3 from rfl, ofN_le (by omega) (by omega)]; omega
  rw [kc_219_13, if_neg n3, if_pos rfl, h8, ← Int32.ofNat_add, if_pos (ofN_in (by omega) (by omega)), lz_onat (by omega)]
  rfl
/-- the same kind, where it is not that of functions -/
theorem kd2 {σ τ : lj_S} {a b : vT} (h : vR σ τ a b) : b.1 = 2 ↔ a.1 = 2 := by
  rcases h.k with ⟨e | ⟨e1, e⟩, _⟩
  · rw [e]
  · rw [e1, e]
    constructor
    · intro z; exact absurd z (by decide)
    · intro z; exact absurd z (by decide)
/-- so far as the copies went -/
def eS (σ σe : lj_S) (h t : Nat) : Prop := (∀ k j, ¬ ((k = 79 ∨ k = 80) ∧ h ≤ j ∧ j < h + 3) → ¬ (k = 8 ∧ j = 8) → σe.1 k j = σ.1 k j ∧ σe.2 k j = σ.2 k j) ∧ σe.1 8 8 = Int32.ofNat t
theorem eS_0 (σ : lj_S) (h t : Nat) : eS σ (lj_put σ 8 8 (Int32.ofNat t)) h t := ⟨fun k j _ z => ⟨by rw [lj_put_1, if_neg z], rfl⟩, (by simp [lj_put_1, lj_putL_1])⟩
theorem eS_s {σ σe : lj_S} {h t a : Nat} (e : eS σ σe h t) (ha : h ≤ a) (ha2 : a < h + 3) (h3 : h + 3 ≤ 325000) (u : vT) : eS σ (setC σe a u) h t := ⟨fun k j z1 z2 => by
    obtain ⟨a1, a2⟩ := setC_o σe a u k j (by omega)
    obtain ⟨b1, b2⟩ := e.1 k j z1 z2
    exact ⟨a1.trans b1, a2.trans b2⟩, by rw [(setC_o σe a u 8 8 (by omega)).1]; exact e.2⟩
theorem c_bfor0 {σ : lj_S} {h t : Nat} (h8 : σ.1 8 8 = Int32.ofNat (t + 3)) (hh : h + 3 ≤ t) (ht : t + 3 ≤ 325000) (line : Int32) :
    ((∀ i, i < 3 → (cv σ (t + i)).1 = 2) → lj_R lc_P 219 [.ref 8, .int (Int32.ofNat h), .int 0, .int line] σ = if (cv σ (t + 2)).2 = 0 then brX (lj_R lc_P 133 [.ref 8, .int line, .ref 1045] (bf3 σ h t)) else some (.inl none, bf3 σ h t)) ∧
    ((∃ i, i < 3 ∧ (cv σ (t + i)).1 ≠ 2) → ∃ σe, lj_R lc_P 219 [.ref 8, .int (Int32.ofNat h), .int 0, .int line] σ = brX (lj_R lc_P 133 [.ref 8, .int line, .ref 1044] σe) ∧ eS σ σe h t) := by
  have e3 : σ.1 8 8 - 3 = Int32.ofNat t := by
    have e1 : (3 : Int32).toInt = 3 := by decide
    exact lz_ext (by rw [h8, lz_sub (by rw [lz_lit (by omega), e1]; omega), lz_lit (by omega), e1, lz_lit (by omega)]; omega)
  have s0 := eS_0 σ h t
  have s1 := eS_s s0 (a := h) (by omega) (by omega) (by omega) (cv σ t)
  have s2 := eS_s s1 (a := h + 1) (by omega) (by omega) (by omega) (cv σ (t + 1))
  have b0 := c_bf1 (i := 0) s0.2 (h := h) (by omega) (by omega) (by omega) 0 line
  have b1 := c_bf1 (i := 1) s1.2 (h := h) (by omega) (by omega) (by omega) 0 line
  have b2 := c_bf1 (i := 2) s2.2 (h := h) (by omega) (by omega) (by omega) 0 line
  have k0 := c_bfk (i := 0) s0.2 ht (by decide) (Int32.ofNat h) line (u := cv σ t) (by rw [Nat.add_zero, cv_p _ (by decide)])
  have k1 := c_bfk (i := 1) s1.2 ht (by decide) (Int32.ofNat h) line (u := cv σ (t + 1)) (by rw [cv_s _ (by omega), cv_p _ (by decide)])
  have k2 := c_bfk (i := 2) s2.2 ht (by decide) (Int32.ofNat h) line (u := cv σ (t + 2)) (by rw [cv_s _ (by omega), cv_s _ (by omega), cv_p _ (by decide)])
  simp only [Nat.add_zero] at b0
  rw [cv_p _ (by decide)] at b0
  rw [cv_s _ (by omega), cv_p _ (by decide)] at b1
  rw [cv_s _ (by omega), cv_s _ (by omega), cv_p _ (by decide)] at b2
  have st : lj_R lc_P 219 [.ref 8, .int (Int32.ofNat h), .int 0, .int line] σ = lj_D lc_P lc_M219 13 [.ref 8, .int (Int32.ofNat h), .int 0, .int line, .int (Int32.ofNat 0)] [] (lj_put σ 8 8 (Int32.ofNat t)) := by rw [rc_219, kc_219_0, e3]; rfl
  constructor
  · intro hk
    have z0 := hk 0 (by decide)
    rw [Nat.add_zero] at z0
    rw [st, k0, if_pos z0, b0, k1, if_pos (hk 1 (by decide)), b1, k2, if_pos (hk 2 (by decide)), b2, kc_219_13, if_pos (by decide), if_pos rfl, show (2 : Int32) = Int32.ofNat 2 from rfl, ← Int32.ofNat_add, if_pos (ofN_in (by omega) (by omega)), lz_onat (by omega)]
    have ev : (bf3 σ h t).2 80 (h + 2) = (cv σ (t + 2)).2 := by
      have := bf3_v σ (h := h) (t := t) (by omega) 2 (by decide)
      rw [← this]
      rfl
    show (if lg_cmp ((bf3 σ h t).2 80 (h + 2)) 0 = 0 then brX (lj_R lc_P 133 [.ref 8, .int line, .ref 1045] (bf3 σ h t)) else lj_D lc_P lc_M219 122 [.ref 8, .int (Int32.ofNat h), .int 0, .int line, .int (Int32.ofNat (2 + 1))] [] (bf3 σ h t)) = _
    rw [ev]
    by_cases z : (cv σ (t + 2)).2 = 0
    · rw [if_pos (by rw [lg0]; exact z), if_pos z]
    · rw [if_neg (by rw [lg0]; exact z), if_neg z, kc_219_122]
  · intro hk
    rw [st, k0]
    by_cases z0 : (cv σ t).1 = 2
    · rw [if_pos z0, b0, k1]
      by_cases z1 : (cv σ (t + 1)).1 = 2
      · rw [if_pos z1, b1, k2]
        by_cases z2 : (cv σ (t + 2)).1 = 2
        · exfalso
          obtain ⟨i, i1, i2⟩ := hk
          rcases (show i = 0 ∨ i = 1 ∨ i = 2 by omega) with z | z | z
          · rw [z] at i2; exact i2 z0
          · rw [z] at i2; exact i2 z1
          · rw [z] at i2; exact i2 z2
        · rw [if_neg z2]; exact ⟨_, rfl, s2⟩
      · rw [if_neg z1]; exact ⟨_, rfl, s1⟩
    · rw [if_neg z0]; exact ⟨_, rfl, s0⟩
theorem act_46 {σ0 τ0 σ τ : lj_S} {n np p : Nat} {r : List Nat} {FP : Nat → List kF} {ρ : Nat → Nat} {A MO LA : List Nat} (h : MB σ0 τ0 n np p r FP ρ A MO LA σ τ) {F : kF} {L : List kF} (hF : FP p = F :: L) (h0 : kS F = 0) (rg : rgR σ τ) (hs : stF σ0 τ0) {Z : List pT} (hk : insK σ0 τ0 (kY F).1 (kY F).2.1 (kY F).2.2.1 (kY F).2.2.2.1 (kY F).2.2.2.2.1 (kY F).2.2.2.2.2 Z 46) {n' : Nat} (hn : ∀ z ∈ Z, gn σ0 τ0 n' z) : oaR σ0 τ0 n np p r FP ρ A MO LA σ τ F L n' Z := by
  obtain ⟨d, s', hsh, hd, hd2, k1, k1', k1'', k2, kl, rfl⟩ := hk
  obtain ⟨ms, ks, ce, me, mq, V⟩ := h.w hF h0
  have B := V.bd
  have nl := V.ff.1
  have st := V.st
  have hO := V.ff.1.2.2.2.1
  have hfl := V.fl
  rw [hsh] at st hO hfl
  obtain ⟨c2, m2, rfl, rfl, v2, _, _, _, st⟩ := st.u0 (Or.inl rfl)
  obtain ⟨c1, m1, rfl, rfl, v1, _, _, _, st⟩ := st.u0 (Or.inl rfl)
  obtain ⟨c0, m0, rfl, rfl, v0, _, _, _, st⟩ := st.u0 (Or.inl rfl)
  obtain ⟨b1, b2, b3, _⟩ := stk_bd st
  have dn : d < nH σ0 (kY F).1 := by unfold nH; omega
  have hh3 : (kB F + nL σ0 (kY F).1) + 3 * d + 3 ≤ c0 := by omega
  obtain ⟨f1, f2, f3, f4, fA, fL, fK, f5⟩ := c_ft h hF h0 hs k1 (by decide)
  have hq : lf (tqC p (20 * p + L.length) (kB F + nL σ0 (kY F).1)) σ (lj_put σ 94 (20 * p + L.length) (Int32.ofNat ((kY F).2.1 + 1))) := tq_94 (lf_rf _ _) _
  have gq : lf (tqM p (48 * p + L.length) (ms + kD F) ks) τ (lj_put τ 77 (48 * p + L.length) (Int32.ofNat ((kY F).2.2.1 + 1))) := tm_77 (lf_rf _ _) _
  have ch := c_hid h hF h0 V hq d (by omega)
  obtain ⟨bfA, bfB⟩ := c_bfor0 (σ := lj_put σ 94 (20 * p + L.length) (Int32.ofNat ((kY F).2.1 + 1))) (h := (kB F + nL σ0 (kY F).1) + 3 * d) (t := c0) (by rw [lj_put_1, if_neg (by omega)]; exact V.tp) hh3 (by omega) (σ0.1 26 (kY F).2.1)
  have hvv : ∀ i, i < 3 → vR σ τ (cv σ (c0 + i)) (mv τ (10000 * p + (m0 + i))) := fun i hi => by
    rcases (show i = 0 ∨ i = 1 ∨ i = 2 by omega) with z | z | z
    · rw [z]; exact v0
    · rw [z]; exact v1
    · rw [z]; exact v2
  have e24 : (lj_put σ 94 (20 * p + L.length) (Int32.ofNat ((kY F).2.1 + 1))).1 24 (Int32.ofNat (kY F).2.1).toNatClampNeg = 0 := by
    rw [lj_put_1, if_neg (by omega), f5, (h.1.1 24 _ (by unfold cdC; simp)).1]; exact k1''
  have cst : lj_R lc_P 139 [.ref 8] σ = lj_bv (lj_bv (lj_R lc_P 219 [.ref 8, .int (Int32.ofNat ((kB F + nL σ0 (kY F).1) + 3 * d)), .int 0, .int (σ0.1 26 (kY F).2.1)] (lj_put σ 94 (20 * p + L.length) (Int32.ofNat ((kY F).2.1 + 1)))) (fun s => some (.inl none, s)) lj_up) (fun s => some (.inl (some (.int 1)), s)) lj_up := by
    rw [ca_x σ f1 f3 f4 (fA.trans k1') fL fK (by decide), f2, lz_osucc, cg_35 _ f4 (by rw [lj_put_1, if_neg (by omega)]; exact fK), ch, bi_ok, if_pos f4, if_neg (by rw [e24]; decide), kc_217_282]
    congr 1
    · congr 1
      funext s
      rw [kc_217_917]
    · funext s
      rw [kc_139_1051]
  -- the model's kinds
  have at1 := mAt_p (i := (48 * p + L.length)) (v := Int32.ofNat ((kY F).2.2.1 + 1)) V.at
  have tk0 : lj_R lm_P 124 [.ref 0, .int 0] (lj_put τ 77 (48 * p + L.length) (Int32.ofNat ((kY F).2.2.1 + 1))) = some (.inl (some (.int (mv τ (10000 * p + (m0 + 2))).1)), lj_put τ 77 (48 * p + L.length) (Int32.ofNat ((kY F).2.2.1 + 1))) := by
    have := m_topK at1 (d := 0) (by omega)
    rw [mv_p _ (by decide), show m0 + 1 + 1 + 1 - 1 - 0 = m0 + 2 by omega] at this
    exact this
  have tk1 : lj_R lm_P 124 [.ref 0, .int 1] (lj_put τ 77 (48 * p + L.length) (Int32.ofNat ((kY F).2.2.1 + 1))) = some (.inl (some (.int (mv τ (10000 * p + (m0 + 1))).1)), lj_put τ 77 (48 * p + L.length) (Int32.ofNat ((kY F).2.2.1 + 1))) := by
    have := m_topK at1 (d := 1) (by omega)
    rw [mv_p _ (by decide), show m0 + 1 + 1 + 1 - 1 - 1 = m0 + 1 by omega] at this
    exact this
  have tk2 : lj_R lm_P 124 [.ref 0, .int 2] (lj_put τ 77 (48 * p + L.length) (Int32.ofNat ((kY F).2.2.1 + 1))) = some (.inl (some (.int (mv τ (10000 * p + (m0 + 0))).1)), lj_put τ 77 (48 * p + L.length) (Int32.ofNat ((kY F).2.2.1 + 1))) := by
    have := m_topK at1 (d := 2) (by omega)
    rw [mv_p _ (by decide), show m0 + 1 + 1 + 1 - 1 - 2 = m0 + 0 by omega] at this
    exact this
  have tn0 : lj_R lm_P 125 [.ref 0, .int 0] (lj_put τ 77 (48 * p + L.length) (Int32.ofNat ((kY F).2.2.1 + 1))) = some (.inl (some (.long (mv τ (10000 * p + (m0 + 2))).2)), lj_put τ 77 (48 * p + L.length) (Int32.ofNat ((kY F).2.2.1 + 1))) := by
    have := m_topN at1 (d := 0) (by omega)
    rw [mv_p _ (by decide), show m0 + 1 + 1 + 1 - 1 - 0 = m0 + 2 by omega] at this
    exact this
  have kd : ∀ i, i < 3 → ((mv τ (10000 * p + (m0 + i))).1 = 2 ↔ (cv σ (c0 + i)).1 = 2) := fun i hi => kd2 (hvv i hi)
  have l23 : (lj_put τ 77 (48 * p + L.length) (Int32.ofNat ((kY F).2.2.1 + 1))).1 23 (Int32.ofNat (kY F).2.2.1).toNatClampNeg = σ0.1 26 (kY F).2.1 := by
    have := ((h.cx hF h0 hs).2 (by rw [k2]; decide)).1.2.2.2.2.2.2
    rw [lj_put_1, if_neg (by omega), this, (h.1.2 23 _ (by unfold cdM; simp)).1]
    exact kl.symm
  have rg1 : rgR (lj_put σ 94 (20 * p + L.length) (Int32.ofNat ((kY F).2.1 + 1))) (lj_put τ 77 (48 * p + L.length) (Int32.ofNat ((kY F).2.2.1 + 1))) := tq_rg hq gq rg
  -- an error at a state
  have err : ∀ (σe : lj_S) (e : Nat), e < 16 → eS (lj_put σ 94 (20 * p + L.length) (Int32.ofNat ((kY F).2.1 + 1))) σe ((kB F + nL σ0 (kY F).1) + 3 * d) c0 → lj_R lc_P 219 [.ref 8, .int (Int32.ofNat ((kB F + nL σ0 (kY F).1) + 3 * d)), .int 0, .int (σ0.1 26 (kY F).2.1)] (lj_put σ 94 (20 * p + L.length) (Int32.ofNat ((kY F).2.1 + 1))) = brX (lj_R lc_P 133 [.ref 8, .int (σ0.1 26 (kY F).2.1), .ref (eW e)] σe) → (∀ τ', lj_R lm_P 142 [.ref 0, .int (Int32.ofNat e), .int (σ0.1 26 (kY F).2.1)] (lj_put τ 77 (48 * p + L.length) (Int32.ofNat ((kY F).2.2.1 + 1))) = some (.inl none, τ') → lj_R lm_P 172 [.ref 0, .int (σ0.1 26 (kY F).2.1)] (lj_put τ 77 (48 * p + L.length) (Int32.ofNat ((kY F).2.2.1 + 1))) = some (.inl none, τ')) → ∃ F', kS F' = 0 ∧ trR σ0 τ0 n np p r (fpT FP p (F' :: L)) ρ A MO LA σ τ := fun σe e he es ce mm => by
    have fe : lf (tqC p (20 * p + L.length) (kB F + nL σ0 (kY F).1)) σ σe := fun k j q => by
      by_cases y : (k = 79 ∨ k = 80) ∧ (kB F + nL σ0 (kY F).1) + 3 * d ≤ j ∧ j < (kB F + nL σ0 (kY F).1) + 3 * d + 3
      · exfalso
        rw [tqC_t (by omega)] at q
        cases q
      · by_cases y2 : k = 8 ∧ j = 8
        · exfalso
          rw [tqC_t (by omega)] at q
          cases q
        · obtain ⟨a1, a2⟩ := es.1 k j y y2
          obtain ⟨b1, b2⟩ := hq k j q
          exact ⟨a1.trans b1, a2.trans b2⟩
    have o : ∀ k j, ¬ ((k = 79 ∨ k = 80) ∧ (kB F + nL σ0 (kY F).1) + 3 * d ≤ j ∧ j < (kB F + nL σ0 (kY F).1) + 3 * d + 3) → ¬ (k = 8 ∧ j = 8) → k ≠ 94 → σe.1 k j = σ.1 k j ∧ σe.2 k j = σ.2 k j := fun k j z1 z2 z3 => by
      obtain ⟨a1, a2⟩ := es.1 k j z1 z2
      rw [a1, a2, lj_put_1, if_neg (by omega)]
      exact ⟨rfl, rfl⟩
    have ge : lf (tqM p (48 * p + L.length) (ms + kD F) ks) τ (lj_put (lj_put τ 77 (48 * p + L.length) (Int32.ofNat ((kY F).2.2.1 + 1))) 63 p (Int32.ofNat m0)) := tm_63 gq _
    obtain ⟨g1, g2⟩ := h.hf hF h0 rg V fe ge (s' := s') (c' := (kY F).2.1 + 1) (m' := (kY F).2.2.1 + 1) (n' := 0) (w' := 0) (ce' := c0) (me' := m0) (mq' := mq) (by
        rw [(o 97 _ (by omega) (by omega) (by omega)).1]
        exact stk_cg (fun a b z => vR_tq fe ge z) st (fun j z => ⟨(o 79 _ (by omega) (by omega) (by omega)).1, (o 80 _ (by omega) (by omega) (by omega)).2, (o 81 _ (by omega) (by omega) (by omega)).1⟩) (fun j z => ⟨(o 79 _ (by omega) (by omega) (by omega)).1, (o 80 _ (by omega) (by omega) (by omega)).2⟩) (fun j z => ⟨by simp [lj_put_1], rfl⟩) (fun j z => by simp [lj_put_1])) (by rw [(es.1 94 _ (by omega) (by omega)).1, lj_put_1, if_pos ⟨rfl, rfl⟩]) (by simp [lj_put_1, lj_putL_1]) es.2 (by simp [lj_put_1, lj_putL_1]) (by simp [lj_put_1, V.at.2.2.2.2.1]) hO.tl.tl.tl (by omega) (Or.inl ⟨rfl, rfl⟩) (fun z => absurd rfl z) (fun j => Or.inl (o 81 j (by omega) (by omega) (by omega)).1)
    have rge : rgR σe (lj_put τ 77 (48 * p + L.length) (Int32.ofNat ((kY F).2.2.1 + 1))) := tq_rg fe gq rg
    have sm : sM σe (lj_put τ 77 (48 * p + L.length) (Int32.ofNat ((kY F).2.2.1 + 1))) := tp_sM (tq_tp (Nat.le_refl _) fe) (tq_tpM (Nat.le_refl _) (Nat.le_refl _) gq) h.2.1
    obtain ⟨σ', τ', x1, x2, x3⟩ := cm_wrong sm (σ0.1 26 (kY F).2.1) he
    refine ⟨_, rfl, σ, σ', τ', fun _ => rfl, rg.1, ?_, run_step rg.2.1 rg.2.2.1 (m_hi h hF h0 V hs k2 (by decide) (fun z1 z2 => ?_)), g1.er63 rge (fun F' L' y => by rw [fpT_o] at y; cases y; show (0 : Nat) ≠ 2; decide) x3⟩
    · have x1 : brX (lj_R lc_P 133 [.ref 8, .int (σ0.1 26 (kY F).2.1), .ref (eW e)] σe) = some (.inr 2, σ') := x1
      rw [cst, ce, x1, bv_th, bv_th]
    · rw [mz_39 _ z1 z2, l23, mm τ' x2, bv_ok, km_153_483]
  by_cases kk : ∀ i, i < 3 → (cv σ (c0 + i)).1 = 2
  · have kk' : ∀ i, i < 3 → (cv (lj_put σ 94 (20 * p + L.length) (Int32.ofNat ((kY F).2.1 + 1))) (c0 + i)).1 = 2 := fun i hi => by rw [cv_p _ (by decide)]; exact kk i hi
    have bA := bfA kk'
    rw [cv_p _ (by decide)] at bA
    have w2 : mv τ (10000 * p + (m0 + 2)) = cv σ (c0 + 2) := (hvv 2 (by decide)).wh (kk 2 (by decide))
    by_cases z0 : (cv σ (c0 + 2)).2 = 0
    · right
      rw [if_pos z0] at bA
      have es3 : eS (lj_put σ 94 (20 * p + L.length) (Int32.ofNat ((kY F).2.1 + 1))) (bf3 (lj_put σ 94 (20 * p + L.length) (Int32.ofNat ((kY F).2.1 + 1))) ((kB F + nL σ0 (kY F).1) + 3 * d) c0) ((kB F + nL σ0 (kY F).1) + 3 * d) c0 := eS_s (eS_s (eS_s (eS_0 _ _ _) (by omega) (by omega) (by omega) _) (by omega) (by omega) (by omega) _) (by omega) (by omega) (by omega) _
      refine err _ 12 (by decide) es3 bA (fun τ' x => ?_)
      have x : lj_R lm_P 142 [.ref 0, .int 12, .int (σ0.1 26 (kY F).2.1)] (lj_put τ 77 (48 * p + L.length) (Int32.ofNat ((kY F).2.2.1 + 1))) = some (.inl none, τ') := x
      rw [rm_172, km_172_0, tk0, bi_ok, if_pos ((kd 2 (by decide)).2 (kk 2 (by decide))), tk1, bi_ok, if_pos ((kd 1 (by decide)).2 (kk 1 (by decide))), tk2, bi_ok, if_pos ((kd 0 (by decide)).2 (kk 0 (by decide))), tn0, bl_ok, if_pos (by rw [lg0, w2]; exact z0), x, bv_ok, km_172_54]
    · left
      rw [if_neg z0] at bA
      have f : lf (tqC p (20 * p + L.length) (kB F + nL σ0 (kY F).1)) σ (bf3 (lj_put σ 94 (20 * p + L.length) (Int32.ofNat ((kY F).2.1 + 1))) ((kB F + nL σ0 (kY F).1) + 3 * d) c0) := tq_bf3 hq (by omega) (by omega) (by omega)
      have o := bf3_o (lj_put σ 94 (20 * p + L.length) (Int32.ofNat ((kY F).2.1 + 1))) (h := (kB F + nL σ0 (kY F).1) + 3 * d) (t := c0) (by omega)
      have vv := bf3_v (lj_put σ 94 (20 * p + L.length) (Int32.ofNat ((kY F).2.1 + 1))) (h := (kB F + nL σ0 (kY F).1) + 3 * d) (t := c0) (by omega)
      obtain ⟨g1, g2⟩ := h.hf hF h0 rg V f gq (s' := 3 :: s') (c' := (kY F).2.1 + 1) (m' := (kY F).2.2.1 + 1) (n' := n' + 1) (w' := 0) (ce' := c0) (me' := m0 + 3) (mq' := mq) (by
          rw [(o 97 _ (by omega)).1, lj_put_1, if_neg (by omega)]
          refine Or.inr (Or.inr (Or.inl ⟨Or.inl rfl, m0, rfl, fun i hi => ?_, ?_⟩))
          · have e1 : cv (bf3 (lj_put σ 94 (20 * p + L.length) (Int32.ofNat ((kY F).2.1 + 1))) ((kB F + nL σ0 (kY F).1) + 3 * d) c0) ((kB F + nL σ0 (kY F).1) + 3 * d + i) = cv σ (c0 + i) := by rw [vv i hi, cv_p _ (by decide)]
            rw [← hd]
            refine ⟨?_, fun _ => ?_⟩
            · rw [e1, mv_p _ (by decide), show 10000 * p + m0 + i = 10000 * p + (m0 + i) by omega]
              exact vR_tq f gq (hvv i hi)
            · have := congrArg Prod.fst e1
              exact this.trans (kk i hi)
          · exact stk_cg (fun a b z => vR_tq f gq z) st (fun j z => ⟨by rw [(o 79 _ (by omega)).1, lj_put_1, if_neg (by omega)], by rw [(o 80 _ (by omega)).2]; rfl, by rw [(o 81 _ (by omega)).1, lj_put_1, if_neg (by omega)]⟩) (fun j z => ⟨by rw [(o 79 _ (by omega)).1, lj_put_1, if_neg (by omega)], by rw [(o 80 _ (by omega)).2]; rfl⟩) (fun j z => ⟨by simp [lj_put_1], rfl⟩) (fun j z => by simp [lj_put_1])) (by rw [(o 94 _ (by omega)).1, lj_put_1, if_pos ⟨rfl, rfl⟩]) (by simp [lj_put_1, lj_putL_1]) (by unfold bf3; rw [(setC_o _ _ _ 8 8 (by omega)).1, (setC_o _ _ _ 8 8 (by omega)).1, (setC_o _ _ _ 8 8 (by omega)).1]; exact (by simp [lj_put_1, lj_putL_1])) (by rw [lj_put_1, if_neg (by omega)]; exact V.at.2.2.1) (by simp [lj_put_1, V.at.2.2.2.2.1]) (gn_ok (hn _ List.mem_cons_self)) (by
          have e : (flo (3 :: s')).length = (flo s').length + 1 := by
            unfold flo
            rw [List.length_reverse, List.length_reverse, List.filter_cons_of_pos (by rfl), List.length_cons]
          omega) (Or.inr ⟨Nat.succ_ne_zero _, hn _ List.mem_cons_self⟩) (fun z => absurd rfl z) (fun j => Or.inl (by rw [(o 81 _ (by omega)).1, lj_put_1, if_neg (by omega)]))
      refine ⟨_, _, _, List.mem_cons_self, go_step rg.1 (by rw [cst, bA, bv_ok, bv_ok]), run_step rg.2.1 rg.2.2.1 (m_hi h hF h0 V hs k2 (by decide) (fun z1 z2 => ?_)), g1, g2⟩
      rw [mz_39 _ z1 z2, rm_172, km_172_0, tk0, bi_ok, if_pos ((kd 2 (by decide)).2 (kk 2 (by decide))), tk1, bi_ok, if_pos ((kd 1 (by decide)).2 (kk 1 (by decide))), tk2, bi_ok, if_pos ((kd 0 (by decide)).2 (kk 0 (by decide))), tn0, bl_ok, if_neg (by rw [lg0, w2]; exact z0), km_172_54, bv_ok, km_153_483]
  · right
    have ex : ∃ i, i < 3 ∧ (cv σ (c0 + i)).1 ≠ 2 := by
      by_cases q0 : (cv σ (c0 + 0)).1 = 2
      · by_cases q1 : (cv σ (c0 + 1)).1 = 2
        · by_cases q2 : (cv σ (c0 + 2)).1 = 2
          · exfalso
            apply kk
            intro i hi
            rcases (show i = 0 ∨ i = 1 ∨ i = 2 by omega) with z | z | z
            · rw [z]; exact q0
            · rw [z]; exact q1
            · rw [z]; exact q2
          · exact ⟨2, by decide, q2⟩
        · exact ⟨1, by decide, q1⟩
      · exact ⟨0, by decide, q0⟩
    obtain ⟨i, i1, i2⟩ := ex
    obtain ⟨σe, y1, y2⟩ := bfB ⟨i, i1, by rw [cv_p _ (by decide)]; exact i2⟩
    refine err σe 11 (by decide) y2 y1 (fun τ' x => ?_)
    have x : lj_R lm_P 142 [.ref 0, .int 11, .int (σ0.1 26 (kY F).2.1)] (lj_put τ 77 (48 * p + L.length) (Int32.ofNat ((kY F).2.2.1 + 1))) = some (.inl none, τ') := x
    have x27 : lj_D lm_P lm_M172 27 [.ref 0, .int (σ0.1 26 (kY F).2.1)] [] (lj_put τ 77 (48 * p + L.length) (Int32.ofNat ((kY F).2.2.1 + 1))) = some (.inl none, τ') := by rw [km_172_27, x, bv_ok, km_172_54]
    rw [rm_172, km_172_0, tk0, bi_ok]
    by_cases q2 : (mv τ (10000 * p + (m0 + 2))).1 = 2
    · rw [if_pos q2, tk1, bi_ok]
      by_cases q1 : (mv τ (10000 * p + (m0 + 1))).1 = 2
      · rw [if_pos q1, tk2, bi_ok]
        by_cases q0 : (mv τ (10000 * p + (m0 + 0))).1 = 2
        · exfalso
          rcases (show i = 0 ∨ i = 1 ∨ i = 2 by omega) with z | z | z
          · rw [z] at i2; exact i2 ((kd 0 (by decide)).1 q0)
          · rw [z] at i2; exact i2 ((kd 1 (by decide)).1 q1)
          · rw [z] at i2; exact i2 ((kd 2 (by decide)).1 q2)
        · rw [if_neg q0, x27]
      · rw [if_neg q1, x27]
    · rw [if_neg q2, x27]
