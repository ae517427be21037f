/-! a method of a value: what came goes below it, with a mark between -/
theorem pt2 (σ : lj_S) (k i : Nat) (v : Int32) : (lj_put σ k i v).2 = σ.2 := rfl
theorem m_swap {τ : lj_S} {p m0 mq : Nat} (a : mAt τ p (m0 + 2) mq) : ∃ τ', lj_R lm_P 177 [.ref 0] τ = some (.inl none, τ') ∧ (∀ k j, ¬ ((k = 71 ∨ k = 72) ∧ (j = 10000 * p + m0 ∨ j = 10000 * p + (m0 + 1))) → τ'.1 k j = τ.1 k j ∧ τ'.2 k j = τ.2 k j) ∧ mv τ' (10000 * p + m0) = mv τ (10000 * p + (m0 + 1)) ∧ mv τ' (10000 * p + (m0 + 1)) = mv τ (10000 * p + m0) := by
  have h2 := a.2.1
  have h4 := a.2.2.2.1
  have i1 : 10000 * (τ.1 0 111) + τ.1 63 (τ.1 0 111).toNatClampNeg - 1 = Int32.ofNat (10000 * p + (m0 + 1)) := by
    rw [a.i.2.2.1, show 10000 * p + (m0 + 2) = 10000 * p + (m0 + 1) + 1 by omega]; exact lz_pred' _
  have i2 : 10000 * (τ.1 0 111) + τ.1 63 (τ.1 0 111).toNatClampNeg - 1 - 1 = Int32.ofNat (10000 * p + m0) := by
    rw [i1, show 10000 * p + (m0 + 1) = 10000 * p + m0 + 1 by omega]; exact lz_pred' _
  have j1 : lj_in (10000 * (τ.1 0 111) + τ.1 63 (τ.1 0 111).toNatClampNeg - 1) 260000 := by rw [i1]; exact ofN_in (by omega) (by omega)
  have j2 : lj_in (10000 * (τ.1 0 111) + τ.1 63 (τ.1 0 111).toNatClampNeg - 1 - 1) 260000 := by rw [i2]; exact ofN_in (by omega) (by omega)
  have n1 : (Int32.ofNat (10000 * p + (m0 + 1))).toNatClampNeg = 10000 * p + (m0 + 1) := lz_onat (by omega)
  have n2 : (Int32.ofNat (10000 * p + m0)).toNatClampNeg = 10000 * p + m0 := lz_onat (by omega)
  refine ⟨_, by rw [rm_177, km_177_0, if_pos a.i.1, if_pos j1, if_pos j1, if_pos j2, if_pos j1, if_pos j2, if_pos j1, if_pos j2, if_pos j2, i2, i1, n1, n2], fun k j z => ⟨?_, ?_⟩, ?_, ?_⟩
  · rw [lj_putL_1, lj_put_1, if_neg (by omega), lj_putL_1, lj_put_1, if_neg (by omega)]
  · show (lj_putL (lj_put (lj_putL (lj_put τ 71 _ _) 72 _ _) 71 _ _) 72 _ _).2 k j = _
    rw [lj_putL_2, if_neg (by omega)]
    show (lj_putL (lj_put τ 71 _ _) 72 _ _).2 k j = _
    rw [lj_putL_2, if_neg (by omega)]
    rfl
  · unfold mv
    refine Prod.ext ?_ ?_
    · dsimp only
      rw [lj_putL_1, lj_put_1, if_pos ⟨rfl, rfl⟩]
    · dsimp only
      rw [lj_putL_2, if_pos ⟨rfl, rfl⟩]
  · unfold mv
    refine Prod.ext ?_ ?_
    · dsimp only
      rw [lj_putL_1, lj_put_1, if_neg (by omega), lj_putL_1, lj_put_1, if_pos ⟨rfl, rfl⟩]
    · dsimp only
      rw [lj_putL_2, if_neg (by omega), pt2, lj_putL_2, if_pos ⟨rfl, rfl⟩]
/-- the component's -/
theorem c_d5 {σ : lj_S} {G : List vT} {c0 i : Nat} (h : rsC σ G) (h8 : σ.1 8 8 = Int32.ofNat (c0 + 1)) (hc : c0 + 5 < 325000) (h34 : σ.1 8 34 = Int32.ofNat i) (hi : i < 520) : lj_R lc_P 144 [.ref 8, .int 5] σ = some (.inl none, cPu (cPu (lj_put (cPu (lj_put σ 8 8 (Int32.ofNat c0)) c0 (G.getD 0 (0, 0))) 97 i (Int32.ofNat (c0 + 1))) (c0 + 1) (9, (σ.1 97 i).toInt64)) (c0 + 1 + 1) (cv σ c0)) := by
  obtain ⟨r1, r2⟩ := rs_0 h
  obtain ⟨i1, i2, i3⟩ := c_pre h8 (by omega)
  have q8 : (lj_put σ 8 8 (Int32.ofNat c0)).1 8 8 = Int32.ofNat c0 := (by simp [lj_put_1, lj_putL_1])
  have pu := c_push q8 (by omega) (G.getD 0 (0, 0))
  have s1 : ∀ u : vT, (cPu (lj_put σ 8 8 (Int32.ofNat c0)) c0 u).1 8 8 = Int32.ofNat (c0 + 1) := fun u => by rw [cPu_1, if_pos ⟨rfl, rfl⟩]
  have s2 : ∀ u : vT, (cPu (lj_put σ 8 8 (Int32.ofNat c0)) c0 u).1 8 34 = Int32.ofNat i := fun u => by rw [cPu_1, if_neg (by omega), if_neg (by omega), if_neg (by omega), lj_put_1, if_neg (by omega)]; exact h34
  have s3 : ∀ u : vT, (cPu (lj_put σ 8 8 (Int32.ofNat c0)) c0 u).1 97 i = σ.1 97 i := fun u => by rw [cPu_1, if_neg (by omega), if_neg (by omega), if_neg (by omega), lj_put_1, if_neg (by omega)]
  have pm := c_pushMark (s1 (G.getD 0 (0, 0))) (by omega) (s2 _) hi
  rw [s3] at pm
  have pv : lj_R lc_P 137 [.ref 8, .int (σ.1 79 c0), .long (σ.2 80 c0)] (cPu (lj_put (cPu (lj_put σ 8 8 (Int32.ofNat c0)) c0 (G.getD 0 (0, 0))) 97 i (Int32.ofNat (c0 + 1))) (c0 + 1) (9, (σ.1 97 i).toInt64)) = _ := c_push (t := c0 + 1 + 1) (by rw [cPu_1, if_pos ⟨rfl, rfl⟩]) (by omega) (cv σ c0)
  have fin : ∀ x50 : Int32, ∀ x51 : Int64, (x50, x51) = G.getD 0 (0, 0) → lj_D lc_P lc_M144 277 [.ref 8, .int 5, .int (σ.1 79 c0), .long (σ.2 80 c0), .retAddr 0] [.long x51, .int x50, .ref 8] (lj_put σ 8 8 (Int32.ofNat c0)) = some (.inl none, cPu (cPu (lj_put (cPu (lj_put σ 8 8 (Int32.ofNat c0)) c0 (G.getD 0 (0, 0))) 97 i (Int32.ofNat (c0 + 1))) (c0 + 1) (9, (σ.1 97 i).toInt64)) (c0 + 1 + 1) (cv σ c0)) := fun x50 x51 e => by
    have pu' : lj_R lc_P 137 [.ref 8, .int x50, .long x51] (lj_put σ 8 8 (Int32.ofNat c0)) = some (.inl none, cPu (lj_put σ 8 8 (Int32.ofNat c0)) c0 (x50, x51)) := by rw [← e] at pu; exact pu
    rw [kc_144_277, pu', bv_ok, e, pm, bv_ok, pv, bv_ok, kc_144_316]
  rw [rc_144, kc_144_0, if_neg (by decide), if_neg (by decide), if_neg (by decide), if_neg (by decide), if_neg (by decide), if_pos rfl, if_pos i1, if_pos i1, i2, i3]
  have e41 : (lj_put σ 8 8 (Int32.ofNat c0)).1 8 41 = σ.1 8 41 := (by simp [lj_put_1, lj_putL_1])
  by_cases z : G = []
  · rw [if_pos (r1.2 z), kc_144_260, e41, if_pos (r1.2 z)]
    exact fin 0 0 (by rw [z]; rfl)
  · have e := r2 z
    rw [if_neg (fun y => z (r1.1 y)), if_pos i128, n0z, kc_144_260, e41, if_neg (fun y => z (r1.1 y)), if_pos i128, n0z]
    exact fin (σ.1 107 0) (σ.2 108 0) e
/-- both: the model has laid what came upon the value -/
theorem x_self {σ0 τ0 σ τ : lj_S} {n np p : Nat} {r : List Nat} {FP : Nat → List kF} {ρ : Nat → Nat} {A MO LA : List Nat} {F : kF} {L : List kF} {c m dd : Nat} {s l : List Nat} {G : List vT} {c0 : Nat} (hA : MB σ0 τ0 n np p r (fpT FP p (kTo F c m (0 :: 0 :: s) l dd 0 0 :: L)) ρ A MO LA (cPu σ (c0 + 1) (G.getD 0 (0, 0))) τ) (rg : rgR (cPu σ (c0 + 1) (G.getD 0 (0, 0))) τ) (hs : stF σ0 τ0) (hr : rsC σ G) (h8 : σ.1 8 8 = Int32.ofNat (c0 + 1)) (hc9 : c0 < 324900) (k2 : τ0.1 20 m = 46) (k3 : τ0.1 20 (m + 1) = 15) (hO : sOK (0 :: 1 :: 0 :: s)) : ∃ σ' τ', lj_R lc_P 144 [.ref 8, .int 5] σ = some (.inl none, σ') ∧ (∀ x, mRun x τ = mRun x τ') ∧ MB σ0 τ0 n np p r (fpT FP p (kTo F c (m + 2) (0 :: 1 :: 0 :: s) l dd 0 0 :: L)) ρ A MO LA σ' τ' ∧ rgR σ' τ' := by
  have fo := fpT_o FP p (kTo F c m (0 :: 0 :: s) l dd 0 0 :: L)
  obtain ⟨ms, ks, ce, me, mq, V⟩ := hA.w fo rfl
  have B := V.bd
  have st := V.st
  have hfl := V.fl
  have st : stk (cPu σ (c0 + 1) (G.getD 0 (0, 0))) τ p _ _ _ ks (0 :: 0 :: s) ce me mq _ := st
  obtain ⟨c1', m1', hc1, hm1, v1, _, _, _, st⟩ := st.u0 (Or.inl rfl)
  obtain ⟨c0', m0, hc0, hm0, v0, _, _, _, st⟩ := st.u0 (Or.inl rfl)
  have ec : ce = c0 + 2 := (ofN_eq (by omega) (by omega)).1 (by rw [← V.tp, cPu_1, if_pos ⟨rfl, rfl⟩])
  have e0 : c0 = c0' := by omega
  subst hm1
  subst hm0
  have hc1 : c1' = c0 + 1 := by omega
  subst hc1
  subst e0
  obtain ⟨b1, b2, b3, _⟩ := stk_bd st
  have ci520 : 20 * p + L.length < 520 := by omega
  have e34 : σ.1 8 34 = Int32.ofNat (20 * p + L.length) := by have := V.i34; rw [cPu_1, if_neg (by omega), if_neg (by omega), if_neg (by omega)] at this; exact this
  have d5 := c_d5 hr h8 (by omega) e34 ci520
  have at0 := V.at
  -- the values
  have va : cv (cPu σ (c0 + 1) (G.getD 0 (0, 0))) (c0 + 1) = G.getD 0 (0, 0) := by
    unfold cv
    rw [cPu_1, if_neg (by omega), if_neg (by omega), if_pos ⟨rfl, rfl⟩, cPu_2, if_pos ⟨rfl, rfl⟩]
  have vb : cv (cPu σ (c0 + 1) (G.getD 0 (0, 0))) c0 = cv σ c0 := by
    unfold cv
    rw [cPu_1, if_neg (by omega), if_neg (by omega), if_neg (by omega), cPu_2, if_neg (by omega)]
  rw [va] at v1
  rw [vb] at v0
  -- the model turns them round
  have at1 : mAt (lj_put τ 77 (48 * p + L.length) (Int32.ofNat (m + 1))) p (m0 + 2) mq := mAt_p at0
  obtain ⟨τ2, s1, s2, s3, s4⟩ := m_swap at1
  rw [mv_p _ (by decide)] at s3 s4
  have gB : lf (tqM p (48 * p + L.length) m0 mq) τ τ2 := (tm_77 (lf_rf _ _) (Int32.ofNat (m + 1))).tr (fun k j q => s2 k j (fun z => by
    rw [tqM_t (by omega)] at q
    cases q))
  have fB : lf (tqC p (20 * p + L.length) c0) (cPu σ (c0 + 1) (G.getD 0 (0, 0))) (cPu (cPu (cPu σ (c0 + 1) (G.getD 0 (0, 0))) c0 (G.getD 0 (0, 0))) (c0 + 1) (cv σ c0)) := tq_pu (tq_pu (lf_rf _ _) _ (Nat.le_refl _) (by omega)) _ (by omega) (by omega)
  have vB := tp_vR (tq_tp b1 fB) (tq_tpM b2 b3 gB)
  have oB : ∀ k j, ¬ (k = 8 ∧ j = 8) → k < 79 ∨ 81 < k ∨ (j ≠ c0 ∧ j ≠ c0 + 1) → (cPu (cPu (cPu σ (c0 + 1) (G.getD 0 (0, 0))) c0 (G.getD 0 (0, 0))) (c0 + 1) (cv σ c0)).1 k j = (cPu σ (c0 + 1) (G.getD 0 (0, 0))).1 k j := fun k j z1 z2 => by rw [cPu_1, if_neg z1, if_neg (by omega), if_neg (by omega), cPu_1, if_neg z1, if_neg (by omega), if_neg (by omega)]
  have kB2 : 12500 * p ≤ kC F := B.2.2.2.2.2.1
  obtain ⟨g1, g2⟩ := hA.tp fo rfl rg V b1 b2 b3 fB gB st (Nat.le_refl _) (Nat.le_refl _) (Nat.le_refl _) (Nat.le_trans (flo_t 0 s) (Nat.le_trans (flo_t 0 (0 :: s)) hfl)) (s' := 0 :: 0 :: s) (ce' := c0 + 1 + 1) (me' := m0 + 1 + 1) (mq' := mq) (fun z => by
      rw [oB 97 _ (by omega) (by omega)]
      refine stk_p0 (stk_p0 z ?_ ?_) ?_ ?_
      · have e1 : cv (cPu (cPu (cPu σ (c0 + 1) (G.getD 0 (0, 0))) c0 (G.getD 0 (0, 0))) (c0 + 1) (cv σ c0)) c0 = G.getD 0 (0, 0) := by
          unfold cv
          rw [cPu_1, if_neg (by omega), if_neg (by omega), if_neg (by omega), cPu_1, if_neg (by omega), if_neg (by omega), if_pos ⟨rfl, rfl⟩, cPu_2, if_neg (by omega), cPu_2, if_pos ⟨rfl, rfl⟩]
        rw [e1, s3]
        exact v1.cg vB.1 vB.2
      · rw [cPu_1, if_neg (by omega), if_neg (by omega), if_neg (by omega), cPu_1, if_neg (by omega), if_pos ⟨rfl, rfl⟩]
      · have e1 : cv (cPu (cPu (cPu σ (c0 + 1) (G.getD 0 (0, 0))) c0 (G.getD 0 (0, 0))) (c0 + 1) (cv σ c0)) (c0 + 1) = cv σ c0 := by
          unfold cv
          rw [cPu_1, if_neg (by omega), if_neg (by omega), if_pos ⟨rfl, rfl⟩, cPu_2, if_pos ⟨rfl, rfl⟩]
        rw [e1, s4]
        exact v0.cg vB.1 vB.2
      · rw [cPu_1, if_neg (by omega), if_pos ⟨rfl, rfl⟩]) (c' := c) (m' := m + 1) (by rw [oB 94 _ (by omega) (by omega)]; exact V.2.2.2.2.1.1.2.2.2.1) (by rw [(s2 77 _ (by omega)).1, lj_put_1, if_pos ⟨rfl, rfl⟩]) (by rw [cPu_1, if_pos ⟨rfl, rfl⟩]) (by rw [(s2 63 _ (by omega)).1, lj_put_1, if_neg (by omega)]; exact at0.2.2.1) (by rw [(s2 64 _ (by omega)).1, lj_put_1, if_neg (by omega)]; exact at0.2.2.2.2.1) V.ff.1.2.2.2.1 hfl (n' := 0) (Or.inl rfl) (fun j => by
      by_cases y : j = c0 ∨ j = c0 + 1
      · right
        rcases y with y | y
        · rw [y, cPu_1, if_neg (by omega), if_neg (by omega), if_neg (by omega), cPu_1, if_neg (by omega), if_pos ⟨rfl, rfl⟩]
        · rw [y, cPu_1, if_neg (by omega), if_pos ⟨rfl, rfl⟩]
      · left; exact oB 81 j (by omega) (by omega))
  rw [fpT_2, kTo_2] at g1
  have g1 : MB σ0 τ0 n np p r (fpT FP p (kTo F c (m + 1) (0 :: 0 :: s) l dd 0 0 :: L)) ρ A MO LA (cPu (cPu (cPu σ (c0 + 1) (G.getD 0 (0, 0))) c0 (G.getD 0 (0, 0))) (c0 + 1) (cv σ c0)) τ2 := g1
  have r1 : ∀ x, mRun x τ = mRun x τ2 := run_step rg.2.1 rg.2.2.1 (m_hi hA fo rfl V hs k2 (by decide) (fun z1 z2 => by
    have s1 : lj_R lm_P 177 [.ref 0] (lj_put τ 77 (48 * p + L.length) (Int32.ofNat ((kY (kTo F c m (0 :: 0 :: s) l dd 0 0)).2.2.1 + 1))) = some (.inl none, τ2) := s1
    rw [mz_46 _ z1 z2, s1, bv_ok, km_153_483]))
  -- the mark
  have fo2 := fpT_o FP p (kTo F c (m + 1) (0 :: 0 :: s) l dd 0 0 :: L)
  obtain ⟨ms2, ks2, ce2, me2, mq2, V2⟩ := g1.w fo2 rfl
  have B2 := V2.bd
  have st2 : stk (cPu (cPu (cPu σ (c0 + 1) (G.getD 0 (0, 0))) c0 (G.getD 0 (0, 0))) (c0 + 1) (cv σ c0)) τ2 p _ _ _ ks2 (0 :: 0 :: s) ce2 me2 mq2 _ := V2.st
  obtain ⟨c3, m3, hc3, hm3, u1, _, _, _, st2a⟩ := st2.u0 (Or.inl rfl)
  obtain ⟨c4, m4, hc4, hm4, u0, _, _, _, st2b⟩ := st2a.u0 (Or.inl rfl)
  have ec2 : ce2 = c0 + 2 := (ofN_eq (by omega) (by omega)).1 (by rw [← V2.tp, cPu_1, if_pos ⟨rfl, rfl⟩])
  have em2 : me2 = m0 + 2 := (ofN_eq (by omega) (by omega)).1 (by rw [← V2.at.2.2.1, (s2 63 _ (by omega)).1, lj_put_1, if_neg (by omega)]; exact at0.2.2.1)
  have eq2 : mq = mq2 := ((ofN_eq (by omega) (by omega)).1 (by rw [← V2.at.2.2.2.2.1, (s2 64 _ (by omega)).1, lj_put_1, if_neg (by omega)]; exact at0.2.2.2.2.1)).symm
  subst eq2
  have x4 : c0 = c4 := by omega
  have x5 : m0 = m4 := by omega
  subst x4
  subst x5
  have hc3 : c0 + 1 = c3 := by omega
  subst hc3
  subst hm4
  obtain ⟨d1, d2, d3, _⟩ := stk_bd st2b
  have at2 : mAt (lj_put τ2 77 (48 * p + L.length) (Int32.ofNat (m + 1 + 1))) p (m0 + 2) mq := by
    have := V2.at
    rw [em2] at this
    exact mAt_p this
  have e63 : Int32.ofNat (m0 + 2) - 1 = Int32.ofNat (m0 + 1) := lz_pred' (m0 + 1)
  have pm := m_pushMark at2 (by omega) (Int32.ofNat (m0 + 1))
  have fS : lf (tqC p (20 * p + L.length) c0) σ (cPu (cPu (cPu σ (c0 + 1) (G.getD 0 (0, 0))) c0 (G.getD 0 (0, 0))) (c0 + 1) (cv σ c0)) := tq_pu (tq_pu (tq_pu (lf_rf _ _) _ (by omega) (by omega)) _ (by omega) (by omega)) _ (by omega) (by omega)
  have fE : lf (tqC p (20 * p + L.length) c0) σ (cPu (cPu (lj_put (cPu (lj_put σ 8 8 (Int32.ofNat c0)) c0 (G.getD 0 (0, 0))) 97 (20 * p + L.length) (Int32.ofNat (c0 + 1))) (c0 + 1) (9, (σ.1 97 (20 * p + L.length)).toInt64)) (c0 + 1 + 1) (cv σ c0)) := tq_pu (tq_pu (tq_97 (tq_pu (tq_88 (lf_rf _ _) _) _ (by omega) (by omega)) _) _ (by omega) (by omega)) _ (by omega) (by omega)
  have fC : lf (tqC p (20 * p + L.length) c0) (cPu (cPu (cPu σ (c0 + 1) (G.getD 0 (0, 0))) c0 (G.getD 0 (0, 0))) (c0 + 1) (cv σ c0)) (cPu (cPu (lj_put (cPu (lj_put σ 8 8 (Int32.ofNat c0)) c0 (G.getD 0 (0, 0))) 97 (20 * p + L.length) (Int32.ofNat (c0 + 1))) (c0 + 1) (9, (σ.1 97 (20 * p + L.length)).toInt64)) (c0 + 1 + 1) (cv σ c0)) := fun k j q => ⟨(fE k j q).1.trans (fS k j q).1.symm, (fE k j q).2.trans (fS k j q).2.symm⟩
  have gC : lf (tqM p (48 * p + L.length) m0 mq) τ2 (lj_put (lj_put (lj_put τ2 77 (48 * p + L.length) (Int32.ofNat (m + 1 + 1))) 73 (2000 * p + mq) (Int32.ofNat (m0 + 1))) 64 p (Int32.ofNat (mq + 1))) := tm_64 (tm_73 (tm_77 (lf_rf _ _) _) _ (Nat.le_refl _) (by omega)) _
  have vC := tp_vR (tq_tp d1 fC) (tq_tpM d2 d3 gC)
  generalize hsE : cPu (cPu (lj_put (cPu (lj_put σ 8 8 (Int32.ofNat c0)) c0 (G.getD 0 (0, 0))) 97 (20 * p + L.length) (Int32.ofNat (c0 + 1))) (c0 + 1) (9, (σ.1 97 (20 * p + L.length)).toInt64)) (c0 + 1 + 1) (cv σ c0) = σE at *
  have q1 : σE.1 97 (20 * p + L.length) = Int32.ofNat (c0 + 1) := by rw [← hsE, cPu_1, if_neg (by omega), if_neg (by omega), if_neg (by omega), cPu_1, if_neg (by omega), if_neg (by omega), if_neg (by omega), lj_put_1, if_pos ⟨rfl, rfl⟩]
  have q2 : cv σE c0 = G.getD 0 (0, 0) := by
    rw [← hsE]
    unfold cv
    rw [cPu_1, if_neg (by omega), if_neg (by omega), if_neg (by omega), cPu_1, if_neg (by omega), if_neg (by omega), if_neg (by omega), lj_put_1, if_neg (by omega), cPu_1, if_neg (by omega), if_neg (by omega), if_pos ⟨rfl, rfl⟩, cPu_2, if_neg (by omega), cPu_2, if_neg (by omega), pt2, cPu_2, if_pos ⟨rfl, rfl⟩]
  have q3 : σE.1 81 c0 = -1 := by rw [← hsE, cPu_1, if_neg (by omega), if_neg (by omega), if_neg (by omega), cPu_1, if_neg (by omega), if_neg (by omega), if_neg (by omega), lj_put_1, if_neg (by omega), cPu_1, if_neg (by omega), if_pos ⟨rfl, rfl⟩]
  have q4 : σE.1 79 (c0 + 1) = 9 := by rw [← hsE, cPu_1, if_neg (by omega), if_neg (by omega), if_neg (by omega), cPu_1, if_neg (by omega), if_neg (by omega), if_pos ⟨rfl, rfl⟩]
  have q5 : σE.2 80 (c0 + 1) = (σ.1 97 (20 * p + L.length)).toInt64 := by rw [← hsE, cPu_2, if_neg (by omega), cPu_2, if_pos ⟨rfl, rfl⟩]
  have q6 : σE.1 81 (c0 + 1) = -1 := by rw [← hsE, cPu_1, if_neg (by omega), if_neg (by omega), if_neg (by omega), cPu_1, if_neg (by omega), if_pos ⟨rfl, rfl⟩]
  have q7 : cv σE (c0 + 1 + 1) = cv σ c0 := by
    rw [← hsE]
    unfold cv
    rw [cPu_1, if_neg (by omega), if_neg (by omega), if_pos ⟨rfl, rfl⟩, cPu_2, if_pos ⟨rfl, rfl⟩]
  have q8 : σE.1 81 (c0 + 1 + 1) = -1 := by rw [← hsE, cPu_1, if_neg (by omega), if_pos ⟨rfl, rfl⟩]
  have q9 : ∀ k j, ¬ (k = 8 ∧ j = 8) → k ≠ 97 → k < 79 ∨ 81 < k ∨ (j < c0 ∨ c0 + 2 < j) → σE.1 k j = σ.1 k j := fun k j z1 z2 z3 => by rw [← hsE, cPu_1, if_neg z1, if_neg (by omega), if_neg (by omega), cPu_1, if_neg z1, if_neg (by omega), if_neg (by omega), lj_put_1, if_neg (by omega), cPu_1, if_neg z1, if_neg (by omega), if_neg (by omega), lj_put_1, if_neg z1]
  have p9 : ∀ k j, ¬ (k = 8 ∧ j = 8) → k < 79 ∨ 81 < k ∨ (j < c0 ∨ c0 + 1 < j) → (cPu (cPu (cPu σ (c0 + 1) (G.getD 0 (0, 0))) c0 (G.getD 0 (0, 0))) (c0 + 1) (cv σ c0)).1 k j = σ.1 k j := fun k j z1 z2 => by rw [oB k j z1 (by omega), cPu_1, if_neg z1, if_neg (by omega), if_neg (by omega)]
  have mvE : ∀ j, mv (lj_put (lj_put (lj_put τ2 77 (48 * p + L.length) (Int32.ofNat (m + 1 + 1))) 73 (2000 * p + mq) (Int32.ofNat (m0 + 1))) 64 p (Int32.ofNat (mq + 1))) j = mv τ2 j := fun j => by rw [mv_p _ (by decide), mv_p _ (by decide), mv_p _ (by decide)]
  have w0 : vR (cPu (cPu (cPu σ (c0 + 1) (G.getD 0 (0, 0))) c0 (G.getD 0 (0, 0))) (c0 + 1) (cv σ c0)) τ2 (G.getD 0 (0, 0)) (mv τ2 (10000 * p + m0)) := by rw [s3]; exact v1.cg vB.1 vB.2
  have w1 : vR (cPu (cPu (cPu σ (c0 + 1) (G.getD 0 (0, 0))) c0 (G.getD 0 (0, 0))) (c0 + 1) (cv σ c0)) τ2 (cv σ c0) (mv τ2 (10000 * p + (m0 + 1))) := by rw [s4]; exact v0.cg vB.1 vB.2
  obtain ⟨y1, y2⟩ := g1.tp fo2 rfl g2 V2 d1 d2 d3 fC gC st2b (Nat.le_refl _) (Nat.le_refl _) (Nat.le_refl _) (Nat.le_trans (flo_t 0 s) (Nat.le_trans (flo_t 0 (0 :: s)) hfl)) (s' := 0 :: 1 :: 0 :: s) (ce' := c0 + 1 + 1 + 1) (me' := m0 + 1 + 1) (mq' := mq + 1) (fun z => by
      rw [q1]
      refine stk_p0 (stk_p1 (stk_p0 z ?_ q3) q4 ?_ q6 ?_) ?_ q8
      · rw [q2, mvE]; exact w0.cg vC.1 vC.2
      · rw [q5, p9 97 _ (by omega) (by omega)]
      · rw [lj_put_1, if_neg (by omega), lj_put_1, if_pos ⟨rfl, rfl⟩]
      · rw [q7, mvE]; exact w1.cg vC.1 vC.2) (c' := c) (m' := m + 1 + 1) (by rw [q9 94 _ (by omega) (by omega) (by omega)]; have := V.2.2.2.2.1.1.2.2.2.1; rw [cPu_1, if_neg (by omega), if_neg (by omega), if_neg (by omega)] at this; exact this) (by simp [lj_put_1, lj_putL_1]) (by rw [← hsE, cPu_1, if_pos ⟨rfl, rfl⟩]) (by rw [lj_put_1, if_neg (by omega), lj_put_1, if_neg (by omega), lj_put_1, if_neg (by omega)]; have := V2.at.2.2.1; rw [em2] at this; exact this) (by simp [lj_put_1, lj_putL_1]) hO (by rw [flo_c (by decide), flo_c (by decide), flo_c (by decide)]; exact Nat.le_trans (flo_t 0 s) (Nat.le_trans (flo_t 0 (0 :: s)) hfl)) (n' := 0) (Or.inl rfl) (fun j => by
      by_cases y : c0 ≤ j ∧ j ≤ c0 + 2
      · right
        rcases (show j = c0 ∨ j = c0 + 1 ∨ j = c0 + 1 + 1 by omega) with y | y | y
        · rw [y]; exact q3
        · rw [y]; exact q6
        · rw [y]; exact q8
      · left; rw [q9 81 j (by omega) (by omega) (by omega), p9 81 j (by omega) (by omega)])
  rw [fpT_2, kTo_2] at y1
  refine ⟨σE, _, d5, fun x => (r1 x).trans (run_step g2.2.1 g2.2.2.1 (m_lo g1 fo2 rfl V2 hs k3 (by decide) (fun z1 z2 => ?_)) x), y1, y2⟩
  have pm : lj_R lm_P 147 [.ref 0, .int (Int32.ofNat (m0 + 1))] (lj_put τ2 77 (48 * p + L.length) (Int32.ofNat ((kY (kTo F c (m + 1) (0 :: 0 :: s) l dd 0 0)).2.2.1 + 1))) = _ := pm
  have e6 : (lj_put τ2 77 (48 * p + L.length) (Int32.ofNat ((kY (kTo F c (m + 1) (0 :: 0 :: s) l dd 0 0)).2.2.1 + 1))).1 63 ((lj_put τ2 77 (48 * p + L.length) (Int32.ofNat ((kY (kTo F c (m + 1) (0 :: 0 :: s) l dd 0 0)).2.2.1 + 1))).1 0 111).toNatClampNeg = Int32.ofNat (m0 + 2) := by
    have := at2.2.2.1
    have e := at2.i.2.1
    have e : ((lj_put τ2 77 (48 * p + L.length) (Int32.ofNat ((kY (kTo F c (m + 1) (0 :: 0 :: s) l dd 0 0)).2.2.1 + 1))).1 0 111).toNatClampNeg = p := e
    rw [e]
    exact this
  rw [my_15 _ z1 z2, if_pos (show lj_in ((lj_put τ2 77 (48 * p + L.length) (Int32.ofNat ((kY (kTo F c (m + 1) (0 :: 0 :: s) l dd 0 0)).2.2.1 + 1))).1 0 111) 26 from at2.i.1), e6, e63, pm, bv_ok, km_127_420]
theorem dl_self {σ0 τ0 σ τ : lj_S} {n np p : Nat} {r : List Nat} {FP : Nat → List kF} {ρ : Nat → Nat} {A MO LA : List Nat} (h : MB σ0 τ0 n np p r FP ρ A MO LA σ τ) {F : kF} {L : List kF} (hF : FP p = F :: L) (h0 : kS F = 0) (hs : stF σ0 τ0) {G G' : List vT} (d : dlR σ τ G G') (hw : kW F = 5) (hm : τ.1 0 130 = 0) (hn : τ.1 0 131 = 1) : doS σ0 τ0 n np p r FP A MO LA σ τ F L 5 := by
  obtain ⟨ms, ks, ce, me, mq, V⟩ := h.w hF h0
  have B := V.bd
  have dl := d.l
  obtain ⟨w1, w2, w3, w4⟩ := V.wt (by rw [hw]; decide)
  rw [hw] at w2
  obtain ⟨s', hsh, k2, k3, w2⟩ : ∃ s', (kY F).2.2.2.1 = 0 :: s' ∧ τ0.1 20 (kY F).2.2.1 = 46 ∧ τ0.1 20 ((kY F).2.2.1 + 1) = 15 ∧ gn σ0 τ0 (kN F - 1) ((kY F).1, (kY F).2.1, (kY F).2.2.1 + 2, 0 :: 1 :: 0 :: s', (kY F).2.2.2.2.1, (kY F).2.2.2.2.2) := w2
  have rm := V.rm w4
  have h' := h.t129 0
  obtain ⟨ms1, ks1, ce1, me1, mq1, V1⟩ := h'.w hF h0
  have B1 := V1.bd
  have ec : ce1 = ce := (ofN_eq (by omega) (by omega)).1 (by rw [← V1.tp, ← V.tp])
  have em : me1 = me := (ofN_eq (by omega) (by omega)).1 (by rw [← V1.at.2.2.1, ← V.at.2.2.1, lj_put_1, if_neg (by omega)])
  have dm := m_dlvV (nn := 1) (V.mf hF) V.at d.2.2.1 (by omega) hm (Or.inl ⟨hn, by decide⟩) (by omega)
  have st := V.st
  rw [hsh] at st
  obtain ⟨c0, m0, hc0, hm0, _⟩ := st.u0 (Or.inl rfl)
  have hO0 := V.ff.1.2.2.2.1
  rw [hsh] at hO0
  have hOO : sOK (0 :: (kY F).2.2.2.1) := by
    rw [hsh]
    have hOf := gn_ok w2
    obtain ⟨a1, a2, a3, a4⟩ := hOf
    have a1 : 1 + (0 + (1 + va s')) ≤ 430 := a1
    have a2 : 0 + (1 + (0 + cn 1 s')) ≤ 30 := a2
    have a3 : 0 + (0 + (0 + cn 2 s')) ≤ 30 := a3
    refine ⟨?_, ?_, ?_, fun y hy => ?_⟩
    · show 1 + (1 + va s') ≤ 430; omega
    · show 0 + (0 + cn 1 s') ≤ 30; omega
    · show 0 + (0 + cn 2 s') ≤ 30; omega
    · rw [hsh] at w4
      exact w4 y hy
  obtain ⟨g1, g2⟩ := h'.pu hF h0 d.rg V1 V1.st (lf_rf _ _) (lf_rf _ _) rfl (c' := (kY F).2.1) (m' := (kY F).2.2.1) (n' := 0) (w' := 0) V1.2.2.2.2.1.1.2.2.2.1 V1.2.2.2.2.1.2.1.2.2.2.1 V1.at.2.2.2.2.1 hOO V1.fl (vR_129 (d.2.2.2.2.2 0) 0) (Or.inl ⟨rfl, rfl⟩) (fun z => absurd rfl z)
  rw [ec, em, hsh, hc0] at g1
  rw [ec, em, hc0] at g2
  have t8 := V.tp
  rw [hc0] at t8
  obtain ⟨σ', τ', y1, y2, y3, y4⟩ := x_self g1 g2 hs d.2.1 t8 (by omega) k2 k3 (gn_ok w2)
  have dm : lj_R lm_P 178 [.ref 0] τ = some (.inl none, mPu (lj_put τ 0 129 0) p me (G'.getD 0 (0, 0))) := dm
  have y3 := MB.fin (F := F) y3 y4 w2
  rw [show kN F - 1 + 1 = kN F by omega] at y3
  refine ⟨σ', y1, ρ, τ', ((kY F).1, (kY F).2.1, (kY F).2.2.1 + 2, 0 :: 1 :: 0 :: s', (kY F).2.2.2.2.1, (kY F).2.2.2.2.2), fun x => (dl_step d.1.2.1 d.1.2.2.1 dm x).trans (y2 x), y3, y4, fun j => ?_⟩
  have e5 := c_d5 d.2.1 t8 (by omega) V.i34 (by omega)
  rw [y1] at e5
  have e5 : σ' = _ := congrArg Prod.snd (Option.some.inj e5)
  rw [e5]
  exact ⟨by rw [(cPu_w j).1, (cPu_w j).1, lj_put_1, if_neg (by omega), (cPu_w j).1, lj_put_1, if_neg (by omega)], by rw [(cPu_w j).2, (cPu_w j).2, lj_put_1, if_neg (by omega), (cPu_w j).2, lj_put_1, if_neg (by omega)]⟩
