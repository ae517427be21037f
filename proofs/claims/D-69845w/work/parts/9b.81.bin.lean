/-! operators with two sides -/
theorem opB2_k {k : Nat} {x : Int32 × Int32 × Int32} (h : opB2 k = some x) : ((40 ≤ k ∧ k ≤ 49) ∧ x = (31, Int32.ofNat (k - 37), 0)) ∨ (k = 50 ∧ x = (33, 0, 0)) ∨ (k = 52 ∧ x = (36, 0, 0)) ∨ (k = 53 ∧ x = (36, 1, 0)) ∨ (k = 54 ∧ x = (37, 1, 0)) ∨ (k = 55 ∧ x = (37, 1, 1)) ∨ (k = 56 ∧ x = (37, 0, 0)) ∨ (k = 57 ∧ x = (37, 0, 1)) := by
  unfold opB2 at h
  split at h <;> first | (cases h; simp) | (cases h)
/-- in the middle of an act with two values -/
theorem MB.two {σ0 τ0 σ τ : lj_S} {n np p : Nat} {r : List Nat} {FP : Nat → List kF} {ρ : Nat → Nat} {A MO LA : List Nat} (h : MB σ0 τ0 n np p r FP ρ A MO LA σ τ) {F : kF} {L : List kF} (hF : FP p = F :: L) (h0 : kS F = 0) (rg : rgR σ τ) (hs : stF σ0 τ0) {ms ks ce me mq : Nat} (V : vw σ0 τ0 σ τ ρ FP p F L ms ks ce me mq) {s' : List Nat} (hsh : (kY F).2.2.2.1 = 0 :: 0 :: s') : ∃ ce' me', ce = ce' + 2 ∧ me = me' + 2 ∧ vR σ τ (cv σ ce') (mv τ (10000 * p + me')) ∧ vR σ τ (cv σ (ce' + 1)) (mv τ (10000 * p + (me' + 1))) ∧ MB σ0 τ0 n np p r (fpT FP p (kTo F ((kY F).2.1 + 1) ((kY F).2.2.1 + 1) s' (kY F).2.2.2.2.1 (kY F).2.2.2.2.2 0 0 :: L)) ρ A MO LA (lj_put (lj_put σ 94 (20 * p + L.length) (Int32.ofNat ((kY F).2.1 + 1))) 8 8 (Int32.ofNat ce')) (lj_put (lj_put τ 77 (48 * p + L.length) (Int32.ofNat ((kY F).2.2.1 + 1))) 63 p (Int32.ofNat me')) ∧ rgR (lj_put (lj_put σ 94 (20 * p + L.length) (Int32.ofNat ((kY F).2.1 + 1))) 8 8 (Int32.ofNat ce')) (lj_put (lj_put τ 77 (48 * p + L.length) (Int32.ofNat ((kY F).2.2.1 + 1))) 63 p (Int32.ofNat me')) ∧ (∀ a b, vR σ τ a b → vR (lj_put (lj_put σ 94 (20 * p + L.length) (Int32.ofNat ((kY F).2.1 + 1))) 8 8 (Int32.ofNat ce')) (lj_put (lj_put τ 77 (48 * p + L.length) (Int32.ofNat ((kY F).2.2.1 + 1))) 63 p (Int32.ofNat me')) a b) ∧ ∀ x ∈ s', x ≠ 5 := by
  have B := V.bd
  have st := V.st
  have hO := V.ff.1.2.2.2.1
  have hfl := V.fl
  have m64 : τ.1 64 p = Int32.ofNat mq := V.at.2.2.2.2.1
  rw [hsh] at st hO hfl
  obtain ⟨ce1, me1, e1, e2, hv1, _, _, _, st1⟩ := st.u0 (Or.inl rfl)
  obtain ⟨ce', me', e3, e4, hv, _, _, _, st2⟩ := st1.u0 (Or.inl rfl)
  subst e3 e4
  have hfl' : (flo s').length ≤ nH σ0 (kY F).1 := Nat.le_trans (flo_t 0 s') (Nat.le_trans (flo_t 0 _) hfl)
  have fC : lf (tqC p (20 * p + L.length) ce') σ (lj_put (lj_put σ 94 (20 * p + L.length) (Int32.ofNat ((kY F).2.1 + 1))) 8 8 (Int32.ofNat ce')) := tq_88 (tq_94 (lf_rf _ _) _) _
  have fM := tm_63 (tm_77 (lf_rf (tqM p (48 * p + L.length) me' mq) τ) (Int32.ofNat ((kY F).2.2.1 + 1))) (Int32.ofNat me')
  obtain ⟨g1, g2⟩ := h.dn hF h0 rg V st2 fC fM (n' := 0) (c' := (kY F).2.1 + 1) (m' := (kY F).2.2.1 + 1) (by simp [lj_put_1, lj_putL_1]) (by simp [lj_put_1, lj_putL_1]) (by simp [lj_put_1, lj_putL_1]) (by simp [lj_put_1, lj_putL_1]) (by simp [lj_put_1, lj_putL_1]) (by simp [lj_put_1, m64]) hO.tl.tl hfl' (Or.inl rfl)
  exact ⟨ce', me', e1, e2, hv, hv1, g1, g2, fun a b q => vR_tq fC fM q, fun x hx => hO.2.2.2 x (List.mem_cons_of_mem _ hx)⟩
theorem act_34 {σ0 τ0 σ τ : lj_S} {n np p : Nat} {r : List Nat} {FP : Nat → List kF} {ρ : Nat → Nat} {A MO LA : List Nat} (h : MB σ0 τ0 n np p r FP ρ A MO LA σ τ) {F : kF} {L : List kF} (hF : FP p = F :: L) (h0 : kS F = 0) (rg : rgR σ τ) (hs : stF σ0 τ0) {Z : List pT} (hk : insK σ0 τ0 (kY F).1 (kY F).2.1 (kY F).2.2.1 (kY F).2.2.2.1 (kY F).2.2.2.2.1 (kY F).2.2.2.2.2 Z 34) {n' : Nat} (hn : ∀ z ∈ Z, gn σ0 τ0 n' z) (hA : A = []) (hN : n' + 6001 ≤ kN F) (hwk : wkR FP (p :: r) A σ) (C : ∀ M k, CAL σ0 τ0 M k) (hT : thM FP (p :: r) MO LA ≤ TH) : acR σ0 τ0 (fun t => t < thM FP (p :: r) MO LA) σ τ := by
  subst hA
  obtain ⟨k, s', hsh, k1, k1', kop, kl, ksc, rfl⟩ := hk
  obtain ⟨ms, ks, ce, me, mq, V⟩ := h.w hF h0
  have B := V.bd
  obtain ⟨ce', me', ec, em, hv, hv1, g1, g2, vr, n5⟩ := h.two hF h0 rg hs V hsh
  obtain ⟨f1, f2, f3, f4, fA, fL, fK, f5⟩ := c_ft h hF h0 hs k1 (by decide)
  have gz := hn _ List.mem_cons_self
  have hX := lsX_of h.npr hF h0 MO LA hN
  have pc14 : (kY F).2.1 < 14000 := Nat.lt_of_not_le (fun q => by rw [hs.1 _ q] at k1; exact absurd k1 (by decide))
  have hc : 1 ≤ (kY F).2.1 + 1 ∧ (kY F).2.1 + 1 ≤ 14000 := ⟨by omega, by omega⟩
  have ksc' : scl σ0 (kY F).1 ((kY F).2.1 + 1 - 1) s' (kY F).2.2.2.2.1 (kY F).2.2.2.2.2 := by rw [Nat.add_sub_cancel]; exact ksc
  have hv' := vr _ _ hv
  have hv1' := vr _ _ hv1
  -- the component
  have cst : lj_R lc_P 139 [.ref 8] σ = _ := ca_28 σ f1 f3 f4 fA fL fK
  rw [f2, lz_osucc, k1'] at cst
  have c8a : (lj_put σ 94 (20 * p + L.length) (Int32.ofNat ((kY F).2.1 + 1))).1 8 8 - 1 = Int32.ofNat (ce' + 1) := by rw [lj_put_1, if_neg (by omega), V.tp, ec]; exact ofN_sub' (ce' + 1) 1
  have c8b : (lj_put σ 94 (20 * p + L.length) (Int32.ofNat ((kY F).2.1 + 1))).1 8 8 - 2 = Int32.ofNat ce' := by rw [lj_put_1, if_neg (by omega), V.tp, ec]; exact ofN_sub' ce' 2
  have i1 : lj_in (Int32.ofNat ce') 325000 := ofN_in (by omega) (by omega)
  have i2 : lj_in (Int32.ofNat (ce' + 1)) 325000 := ofN_in (by omega) (by omega)
  have n1 : (Int32.ofNat ce').toNatClampNeg = ce' := lz_onat (by omega)
  have n2 : (Int32.ofNat (ce' + 1)).toNatClampNeg = ce' + 1 := lz_onat (by omega)
  have cc := kc_209_0 (Int32.ofNat k) (σ0.1 26 (kY F).2.1) (lj_put σ 94 (20 * p + L.length) (Int32.ofNat ((kY F).2.1 + 1)))
  rw [c8a, c8b, if_pos i2, if_pos i2, if_pos i1, if_pos i1, n1, n2] at cc
  have v79 : ∀ j, (lj_put σ 94 (20 * p + L.length) (Int32.ofNat ((kY F).2.1 + 1))).1 79 j = (cv σ j).1 := fun j => by rw [lj_put_1, if_neg (by omega)]; rfl
  have v80 : ∀ j, (lj_put σ 94 (20 * p + L.length) (Int32.ofNat ((kY F).2.1 + 1))).2 80 j = (cv σ j).2 := fun j => rfl
  rw [v79, v79, v80, v80] at cc
  -- the model
  have at1 := mAt_p (i := (48 * p + L.length)) (v := Int32.ofNat ((kY F).2.2.1 + 1)) V.at
  rw [em] at at1
  have tk0 := m_topK at1 (d := 0) (by omega)
  have tn0 := m_topN at1 (d := 0) (by omega)
  have tk1 := m_topK at1 (d := 1) (by omega)
  have tn1 := m_topN at1 (d := 1) (by omega)
  have dr := m_drop at1 (d := 2) (by omega)
  rw [show me' + 2 - 1 - 0 = me' + 1 by omega, mv_p _ (by decide)] at tk0 tn0
  rw [show me' + 2 - 1 - 1 = me' by omega, mv_p _ (by decide)] at tk1 tn1
  rw [show me' + 2 - 2 = me' by omega] at dr
  have tk0 : lj_R lm_P 124 [.ref 0, .int 0] _ = _ := tk0
  have tn0 : lj_R lm_P 125 [.ref 0, .int 0] _ = _ := tn0
  have tk1 : lj_R lm_P 124 [.ref 0, .int 1] _ = _ := tk1
  have tn1 : lj_R lm_P 125 [.ref 0, .int 1] _ = _ := tn1
  have dr : lj_R lm_P 126 [.ref 0, .int 2] _ = _ := dr
  have tke : tk τ p me = mv τ (10000 * p + (me' + 1)) := by rw [em]; exact tk_1 τ p (me' + 1)
  have ln : ∀ K : Int32, τ0.1 20 (kY F).2.2.1 = K → K ≠ -1 → (lj_put τ 77 (48 * p + L.length) (Int32.ofNat ((kY F).2.2.1 + 1))).1 23 (Int32.ofNat (kY F).2.2.1).toNatClampNeg = σ0.1 26 (kY F).2.1 := fun K q1 q2 => by
    obtain ⟨⟨_, _, _, _, _, _, m7⟩, m8⟩ := (h.cx hF h0 hs).2 (by rw [q1]; exact q2)
    rw [lj_put_1, if_neg (by omega), m7, m8 23 (by decide) (by decide)]
    exact kl.symm
  have l22 : ∀ K : Int32, τ0.1 20 (kY F).2.2.1 = K → K ≠ -1 → (lj_put τ 77 (48 * p + L.length) (Int32.ofNat ((kY F).2.2.1 + 1))).1 22 (Int32.ofNat (kY F).2.2.1).toNatClampNeg = τ0.1 22 (kY F).2.2.1 := fun K q1 q2 => by
    obtain ⟨⟨_, _, _, _, _, _, m7⟩, m8⟩ := (h.cx hF h0 hs).2 (by rw [q1]; exact q2)
    rw [lj_put_1, if_neg (by omega), m7, m8 22 (by decide) (by decide)]
  -- the end of all of them
  have fin : ∀ (oC : Option lj_O) (τ1 : lj_S) (K : Int32), τ0.1 20 (kY F).2.2.1 = K → 26 < K → ocR σ0 τ0 [] (fun t => t < thM FP (p :: r) MO LA) (lj_put (lj_put σ 94 (20 * p + L.length) (Int32.ofNat ((kY F).2.1 + 1))) 8 8 (Int32.ofNat ce')) τ1 oC → (lj_R lc_P 209 [.ref 8, .int (Int32.ofNat k), .int (σ0.1 26 (kY F).2.1)] (lj_put σ 94 (20 * p + L.length) (Int32.ofNat ((kY F).2.1 + 1))) = oC) → (lj_in (Int32.ofNat (kY F).2.2.1) 14000 → (lj_put τ 77 (48 * p + L.length) (Int32.ofNat ((kY F).2.2.1 + 1))).1 20 (Int32.ofNat (kY F).2.2.1).toNatClampNeg = K → lj_R lm_P 153 [.ref 0, .int (Int32.ofNat (48 * p + L.length)), .int (Int32.ofNat (kY F).2.2.1), .int (τ0.1 21 (kY F).2.2.1), .int (mv τ (10000 * p + (me' + 1))).1, .long (mv τ (10000 * p + (me' + 1))).2] (lj_put τ 77 (48 * p + L.length) (Int32.ofNat ((kY F).2.2.1 + 1))) = some (.inl none, τ1)) → acR σ0 τ0 (fun t => t < thM FP (p :: r) MO LA) σ τ := fun oC τ1 K q1 q2 q3 q4 q5 => by
    refine ac_of q3 rg.1 ?_ (run_step rg.2.1 rg.2.2.1 (m_hi h hF h0 V hs q1 q2 (τ2 := τ1) (fun x1 x2 => by rw [tke]; exact q5 x1 x2))) (fun _ q => q)
    rw [cst, q4]
    congr 1
    funext s
    rw [kc_139_1051]
  rcases opB2_k kop with ⟨q0, q⟩ | ⟨q0, q⟩ | ⟨q0, q⟩ | ⟨q0, q⟩ | ⟨q0, q⟩ | ⟨q0, q⟩ | ⟨q0, q⟩ | ⟨q0, q⟩
  · -- reckoning
    have e20 : τ0.1 20 (kY F).2.2.1 = 31 := congrArg (fun x : Int32 × Int32 × Int32 => x.1) q
    have e21 : τ0.1 21 (kY F).2.2.1 = Int32.ofNat (k - 37) := congrArg (fun x : Int32 × Int32 × Int32 => x.2.1) q
    obtain ⟨τ1, r1, r2⟩ := x_ari C g1 g2 (σa := σ) hwk (Nat.zero_le _) gz hc ksc' n5 hX hT q0 hv' hv1' (σ0.1 26 (kY F).2.1)
    have ne : ∀ x : Nat, x < 58 → x ≠ k → ¬ (Int32.ofNat k = Int32.ofNat x) := fun x h1 h2 q => h2 ((ofN_eq (by omega) (by omega)).1 q).symm
    refine fin _ τ1 31 e20 (by decide) r2 ?_ (fun x1 x2 => ?_)
    · rw [rc_209, cc, if_neg (show ¬ (Int32.ofNat k = 50) from ne 50 (by omega) (by omega)), if_neg (show ¬ (Int32.ofNat k = 51) from ne 51 (by omega) (by omega)), if_neg (show ¬ (Int32.ofNat k = 52) from ne 52 (by omega) (by omega)), if_neg (show ¬ (Int32.ofNat k = 53) from ne 53 (by omega) (by omega)), if_neg (show ¬ (Int32.ofNat k = 54) from ne 54 (by omega) (by omega)), if_neg (show ¬ (Int32.ofNat k = 55) from ne 55 (by omega) (by omega)), if_neg (show ¬ (Int32.ofNat k = 56) from ne 56 (by omega) (by omega)), if_neg (show ¬ (Int32.ofNat k = 57) from ne 57 (by omega) (by omega))]
    · rw [mz_31 _ x1 x2, tk1, bi_ok, tn1, bl_ok, dr, bv_ok, ln 31 e20 (by decide), e21, r1, bv_ok, km_153_483]
  · -- joining
    have e20 : τ0.1 20 (kY F).2.2.1 = 33 := congrArg (fun x : Int32 × Int32 × Int32 => x.1) q
    subst q0
    obtain ⟨τ1, r1, r2⟩ := x_cat C g1 g2 (σa := σ) hwk (Nat.zero_le _) gz hc ksc' n5 hX hT hv' hv1' (σ0.1 26 (kY F).2.1)
    refine fin _ τ1 33 e20 (by decide) r2.fin ?_ (fun x1 x2 => ?_)
    · rw [rc_209, cc, if_pos (by decide)]
      unfold finC
      congr 1
      funext s
      rw [kc_209_335]
    · rw [mz_33 _ x1 x2, ln 33 e20 (by decide), rm_162, km_162_0, tk0, bi_ok, tn0, bl_ok, tk1, bi_ok, tn1, bl_ok, dr, bv_ok, r1, bv_ok, km_153_483]
  · -- equal
    have e20 : τ0.1 20 (kY F).2.2.1 = 36 := congrArg (fun x : Int32 × Int32 × Int32 => x.1) q
    have e21 : τ0.1 21 (kY F).2.2.1 = 0 := congrArg (fun x : Int32 × Int32 × Int32 => x.2.1) q
    subst q0
    obtain ⟨τ1, r1, r2⟩ := x_eq C g1 g2 (σa := σ) hwk (Nat.zero_le _) gz hc ksc' n5 hX hT (q := 0) (Or.inl rfl) hv' hv1' (σ0.1 26 (kY F).2.1)
    refine fin _ τ1 36 e20 (by decide) r2 ?_ (fun x1 x2 => ?_)
    · rw [rc_209, cc, if_neg (by decide), if_neg (by decide), if_pos (by decide)]
    · rw [mz_36 _ x1 x2, e21, if_neg (by decide), km_153_295, ln 36 e20 (by decide), rm_167, km_167_0, tk0, bi_ok, tn0, bl_ok, tk1, bi_ok, tn1, bl_ok, dr, bv_ok]
      have r1 := r1
      rw [show Int32.ofNat 0 = 0 from rfl] at r1
      rw [r1, bv_ok, km_153_483]
  · -- not equal
    have e20 : τ0.1 20 (kY F).2.2.1 = 36 := congrArg (fun x : Int32 × Int32 × Int32 => x.1) q
    have e21 : τ0.1 21 (kY F).2.2.1 = 1 := congrArg (fun x : Int32 × Int32 × Int32 => x.2.1) q
    subst q0
    obtain ⟨τ1, r1, r2⟩ := x_eq C g1 g2 (σa := σ) hwk (Nat.zero_le _) gz hc ksc' n5 hX hT (q := 1) (Or.inr rfl) hv' hv1' (σ0.1 26 (kY F).2.1)
    refine fin _ τ1 36 e20 (by decide) r2 ?_ (fun x1 x2 => ?_)
    · rw [rc_209, cc, if_neg (by decide), if_neg (by decide), if_neg (by decide), if_pos (by decide)]
    · rw [mz_36 _ x1 x2, e21, if_pos rfl, km_153_295, ln 36 e20 (by decide), rm_167, km_167_0, tk0, bi_ok, tn0, bl_ok, tk1, bi_ok, tn1, bl_ok, dr, bv_ok]
      have r1 := r1
      rw [show Int32.ofNat 1 = 1 from rfl] at r1
      rw [r1, bv_ok, km_153_483]
  · -- less or equal
    have e20 : τ0.1 20 (kY F).2.2.1 = 37 := congrArg (fun x : Int32 × Int32 × Int32 => x.1) q
    have e21 : τ0.1 21 (kY F).2.2.1 = 1 := congrArg (fun x : Int32 × Int32 × Int32 => x.2.1) q
    have e22 : τ0.1 22 (kY F).2.2.1 = 0 := congrArg (fun x : Int32 × Int32 × Int32 => x.2.2) q
    subst q0
    obtain ⟨τ1, r1, r2⟩ := x_cmp C g1 g2 (σa := σ) hwk (Nat.zero_le _) gz hc ksc' n5 hX hT (q := 1) (Or.inr rfl) hv' hv1' (σ0.1 26 (kY F).2.1) 0
    refine fin _ τ1 37 e20 (by decide) r2.fin ?_ (fun x1 x2 => ?_)
    · rw [rc_209, cc, if_neg (by decide), if_neg (by decide), if_neg (by decide), if_neg (by decide), if_pos (by decide), kc_209_205]
      unfold finC
      congr 1
      funext s
      rw [kc_209_335]
    · rw [mz_37 _ x1 x2, e21, if_pos rfl, km_153_314, if_pos x1, l22 37 e20 (by decide), e22, if_neg (by decide), km_153_329, ln 37 e20 (by decide), rm_168, km_168_0, if_pos rfl, km_168_10, tk1, bi_ok, if_pos rfl, km_168_25, tn1, bl_ok, if_pos rfl, km_168_40, tk0, bi_ok, if_pos rfl, km_168_55, tn0, bl_ok, dr, bv_ok]
      have r1 := r1
      rw [show Int32.ofNat 1 = 1 from rfl] at r1
      rw [r1, bv_ok, km_153_483]
  · -- more or equal
    have e20 : τ0.1 20 (kY F).2.2.1 = 37 := congrArg (fun x : Int32 × Int32 × Int32 => x.1) q
    have e21 : τ0.1 21 (kY F).2.2.1 = 1 := congrArg (fun x : Int32 × Int32 × Int32 => x.2.1) q
    have e22 : τ0.1 22 (kY F).2.2.1 = 1 := congrArg (fun x : Int32 × Int32 × Int32 => x.2.2) q
    subst q0
    obtain ⟨τ1, r1, r2⟩ := x_cmp C g1 g2 (σa := σ) hwk (Nat.zero_le _) gz hc ksc' n5 hX hT (q := 1) (Or.inr rfl) hv1' hv' (σ0.1 26 (kY F).2.1) 1
    refine fin _ τ1 37 e20 (by decide) r2.fin ?_ (fun x1 x2 => ?_)
    · rw [rc_209, cc, if_neg (by decide), if_neg (by decide), if_neg (by decide), if_neg (by decide), if_neg (by decide), if_pos (by decide), kc_209_221, if_neg (by decide), kc_209_235]
      unfold finC
      congr 1
      funext s
      rw [kc_209_335]
    · rw [mz_37 _ x1 x2, e21, if_pos rfl, km_153_314, if_pos x1, l22 37 e20 (by decide), e22, if_pos rfl, km_153_329, ln 37 e20 (by decide), rm_168, km_168_0, if_neg (by decide), km_168_10, tk0, bi_ok, if_neg (by decide), km_168_25, tn0, bl_ok, if_neg (by decide), km_168_40, tk1, bi_ok, if_neg (by decide), km_168_55, tn1, bl_ok, dr, bv_ok]
      have r1 := r1
      rw [show Int32.ofNat 1 = 1 from rfl] at r1
      rw [r1, bv_ok, km_153_483]
  · -- less
    have e20 : τ0.1 20 (kY F).2.2.1 = 37 := congrArg (fun x : Int32 × Int32 × Int32 => x.1) q
    have e21 : τ0.1 21 (kY F).2.2.1 = 0 := congrArg (fun x : Int32 × Int32 × Int32 => x.2.1) q
    have e22 : τ0.1 22 (kY F).2.2.1 = 0 := congrArg (fun x : Int32 × Int32 × Int32 => x.2.2) q
    subst q0
    obtain ⟨τ1, r1, r2⟩ := x_cmp C g1 g2 (σa := σ) hwk (Nat.zero_le _) gz hc ksc' n5 hX hT (q := 0) (Or.inl rfl) hv' hv1' (σ0.1 26 (kY F).2.1) 0
    refine fin _ τ1 37 e20 (by decide) r2.fin ?_ (fun x1 x2 => ?_)
    · rw [rc_209, cc, if_neg (by decide), if_neg (by decide), if_neg (by decide), if_neg (by decide), if_neg (by decide), if_neg (by decide), if_pos (by decide), kc_209_205]
      unfold finC
      congr 1
      funext s
      rw [kc_209_335]
    · rw [mz_37 _ x1 x2, e21, if_neg (by decide), km_153_314, if_pos x1, l22 37 e20 (by decide), e22, if_neg (by decide), km_153_329, ln 37 e20 (by decide), rm_168, km_168_0, if_pos rfl, km_168_10, tk1, bi_ok, if_pos rfl, km_168_25, tn1, bl_ok, if_pos rfl, km_168_40, tk0, bi_ok, if_pos rfl, km_168_55, tn0, bl_ok, dr, bv_ok]
      have r1 := r1
      rw [show Int32.ofNat 0 = 0 from rfl] at r1
      rw [r1, bv_ok, km_153_483]
  · -- more
    have e20 : τ0.1 20 (kY F).2.2.1 = 37 := congrArg (fun x : Int32 × Int32 × Int32 => x.1) q
    have e21 : τ0.1 21 (kY F).2.2.1 = 0 := congrArg (fun x : Int32 × Int32 × Int32 => x.2.1) q
    have e22 : τ0.1 22 (kY F).2.2.1 = 1 := congrArg (fun x : Int32 × Int32 × Int32 => x.2.2) q
    subst q0
    obtain ⟨τ1, r1, r2⟩ := x_cmp C g1 g2 (σa := σ) hwk (Nat.zero_le _) gz hc ksc' n5 hX hT (q := 0) (Or.inl rfl) hv1' hv' (σ0.1 26 (kY F).2.1) 1
    refine fin _ τ1 37 e20 (by decide) r2.fin ?_ (fun x1 x2 => ?_)
    · rw [rc_209, cc, if_neg (by decide), if_neg (by decide), if_neg (by decide), if_neg (by decide), if_neg (by decide), if_neg (by decide), if_neg (by decide), if_pos (by decide), kc_209_221, if_pos (by decide), kc_209_235]
      unfold finC
      congr 1
      funext s
      rw [kc_209_335]
    · rw [mz_37 _ x1 x2, e21, if_neg (by decide), km_153_314, if_pos x1, l22 37 e20 (by decide), e22, if_pos rfl, km_153_329, ln 37 e20 (by decide), rm_168, km_168_0, if_neg (by decide), km_168_10, tk0, bi_ok, if_neg (by decide), km_168_25, tn0, bl_ok, if_neg (by decide), km_168_40, tk1, bi_ok, if_neg (by decide), km_168_55, tn1, bl_ok, dr, bv_ok]
      have r1 := r1
      rw [show Int32.ofNat 0 = 0 from rfl] at r1
      rw [r1, bv_ok, km_153_483]
