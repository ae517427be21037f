/-! a place of a table is written: the act -/
theorem flo_row {r : List Nat} (hr : ∀ x ∈ r, x = 0 ∨ x = 6) (S : List Nat) : flo (r ++ S) = flo S := by
  induction r with
  | nil => rfl
  | cons x r ih =>
    rw [List.cons_append, flo_c (by rcases hr x List.mem_cons_self with e | e <;> rw [e] <;> decide)]
    exact ih (fun y hy => hr y (List.mem_cons_of_mem _ hy))
/-- a row upon other things -/
theorem stk_rowR {σ τ : lj_S} {p hb ob mb kb : Nat} : ∀ {r S : List Nat} {ce me mq : Nat} {cm : Int32}, (∀ x ∈ r, x = 0 ∨ x = 6) → stk σ τ p hb ob mb kb (r ++ S) ce me mq cm → ∃ ce' me', ce = ce' + r.length ∧ me = me' + r.length ∧ stk σ τ p hb ob mb kb S ce' me' mq cm ∧ ∀ (σ' τ' : lj_S) (S' : List Nat) (mq' : Nat) (cm' : Int32), (∀ a b, vR σ τ a b → vR σ' τ' a b) → (∀ j, ce' ≤ j → σ'.1 79 j = σ.1 79 j ∧ σ'.2 80 j = σ.2 80 j ∧ σ'.1 81 j = σ.1 81 j) → (∀ j, 10000 * p + me' ≤ j → τ'.1 71 j = τ.1 71 j ∧ τ'.2 72 j = τ.2 72 j) → stk σ' τ' p hb ob mb kb S' ce' me' mq' cm' → stk σ' τ' p hb ob mb kb (r ++ S') ce me mq' cm'
  | [], S, ce, me, mq, cm, _, h => ⟨ce, me, rfl, rfl, h, fun _ _ _ _ _ _ _ _ q => q⟩
  | x :: r, S, ce, me, mq, cm, hx, h => by
    rcases hx x List.mem_cons_self with e | e
    · rw [e] at h
      obtain ⟨ce', me', e1, e2, hv, h81, _, _, g⟩ := stk.u0 (Or.inl rfl) h
      obtain ⟨ce2, me2, e3, e4, g2, g3⟩ := stk_rowR (fun y hy => hx y (List.mem_cons_of_mem _ hy)) g
      refine ⟨ce2, me2, by rw [List.length_cons]; omega, by rw [List.length_cons]; omega, g2, fun σ' τ' S' mq' cm' v c m q => ?_⟩
      have q' := g3 σ' τ' S' mq' cm' v c m q
      rw [e, e1, e2]
      refine stk_p0 q' ?_ (by rw [(c ce' (by omega)).2.2]; exact h81)
      have : cv σ' ce' = cv σ ce' := by unfold cv; rw [(c ce' (by omega)).1, (c ce' (by omega)).2.1]
      rw [this]
      have : mv τ' (10000 * p + me') = mv τ (10000 * p + me') := by unfold mv; rw [(m _ (by omega)).1, (m _ (by omega)).2]
      rw [this]
      exact v _ _ hv
    · rw [e] at h
      obtain ⟨ce', me', e1, e2, h79, h71, h81, g⟩ := stk.u6 h
      obtain ⟨ce2, me2, e3, e4, g2, g3⟩ := stk_rowR (fun y hy => hx y (List.mem_cons_of_mem _ hy)) g
      refine ⟨ce2, me2, by rw [List.length_cons]; omega, by rw [List.length_cons]; omega, g2, fun σ' τ' S' mq' cm' v c m q => ?_⟩
      have q' := g3 σ' τ' S' mq' cm' v c m q
      rw [e, e1, e2]
      exact Or.inr (Or.inr (Or.inr (Or.inr (Or.inr ⟨rfl, ce', me', rfl, rfl, by rw [(c ce' (by omega)).1]; exact h79, by rw [(m _ (by omega)).1]; exact h71, by rw [(c ce' (by omega)).2.2]; exact h81, q'⟩))))
theorem stk_p6 {σ τ : lj_S} {p hb ob mb kb : Nat} {s : List Nat} {ce me mq : Nat} {cm : Int32} (h : stk σ τ p hb ob mb kb s ce me mq cm) (h79 : σ.1 79 ce = 0) (h71 : τ.1 71 (10000 * p + me) = 0) (h8 : σ.1 81 ce = -1) : stk σ τ p hb ob mb kb (6 :: s) (ce + 1) (me + 1) mq cm := Or.inr (Or.inr (Or.inr (Or.inr (Or.inr ⟨rfl, ce, me, rfl, rfl, h79, h71, h8, h⟩))))
theorem act_13 {σ0 τ0 σ τ : lj_S} {n np p : Nat} {r : List Nat} {FP : Nat → List kF} {ρ : Nat → Nat} {A MO LA : List Nat} (h : MB σ0 τ0 n np p r FP ρ A MO LA σ τ) {F : kF} {L : List kF} (hF : FP p = F :: L) (h0 : kS F = 0) (rg : rgR σ τ) (hs : stF σ0 τ0) {Z : List pT} (hk : insK σ0 τ0 (kY F).1 (kY F).2.1 (kY F).2.2.1 (kY F).2.2.2.1 (kY F).2.2.2.2.1 (kY F).2.2.2.2.2 Z 13) {n' : Nat} (hn : ∀ z ∈ Z, gn σ0 τ0 n' z) (hA : A = []) (hN : n' + 6001 ≤ kN F) (hwk : wkR FP (p :: r) A σ) (C : ∀ M k, CAL σ0 τ0 M k) (hT : thM FP (p :: r) MO LA ≤ TH) : acR σ0 τ0 (fun t => t < thM FP (p :: r) MO LA) σ τ := by
  subst hA
  obtain ⟨ra, rb, s', hsh, hra, hrb, k1, k1', k2, k2', kl, ksc, rfl⟩ := hk
  obtain ⟨ms, ks, ce, me, mq, V⟩ := h.w hF h0
  have B := V.bd
  have st := V.st
  have hO := V.ff.1.2.2.2.1
  have hfl := V.fl
  rw [hsh] at st hO hfl
  obtain ⟨ce1, me1, e1, e2, hvv, _, _, _, st⟩ := st.u0 (Or.inl rfl)
  obtain ⟨ce2, me2, e3, e4, st, back⟩ := stk_rowR hra st
  obtain ⟨ck, mk, e5, e6, hvk, h81k, _, _, st⟩ := st.u0 (Or.inl rfl)
  obtain ⟨ct, mt, e7, e8, hvt, h81t, _, _, st⟩ := st.u0 (Or.inl rfl)
  have stb := st
  obtain ⟨ce3, me3, e9, e10, st⟩ := stk_row hrb st
  obtain ⟨mq', hq, hm, _⟩ := st.u2
  subst e5 e7 e6 e8
  obtain ⟨b1, b2, b3, _⟩ := stk_bd stb
  obtain ⟨f1, f2, f3, f4, fA, fL, fK, f5⟩ := c_ft h hF h0 hs k1 (by decide)
  have gz := hn _ List.mem_cons_self
  have hX := lsX_of h.npr hF h0 MO LA hN
  have pc14 : (kY F).2.1 < 14000 := Nat.lt_of_not_le (fun q => by rw [hs.1 _ q] at k1; exact absurd k1 (by decide))
  have m64 : τ.1 64 p = Int32.ofNat mq := V.at.2.2.2.2.1
  have hfs : flo (0 :: (ra ++ 0 :: 0 :: (rb ++ 2 :: s'))) = flo s' := by rw [flo_c (by decide), flo_row hra, flo_c (by decide), flo_c (by decide), flo_row hrb, flo_c (by decide)]
  have hfn : flo (ra ++ 6 :: 6 :: (rb ++ 2 :: s')) = flo s' := by rw [flo_row hra, flo_c (by decide), flo_c (by decide), flo_row hrb, flo_c (by decide)]
  have hfb : flo (rb ++ 2 :: s') = flo s' := by rw [flo_row hrb, flo_c (by decide)]
  rw [hfs] at hfl
  -- both have taken the value, the table and the key
  obtain ⟨σm, hσm⟩ : ∃ x, x = lj_put (lj_put (lj_put (lj_put σ 94 (20 * p + L.length) (Int32.ofNat ((kY F).2.1 + 1))) 8 8 (Int32.ofNat ce1)) 79 ct 0) 79 (ct + 1) 0 := ⟨_, rfl⟩
  obtain ⟨τm, hτm⟩ : ∃ x, x = lj_put (lj_put (lj_put (lj_put τ 77 (48 * p + L.length) (Int32.ofNat ((kY F).2.2.1 + 1))) 63 p (Int32.ofNat me1)) 71 (10000 * p + mt) 0) 71 (10000 * p + (mt + 1)) 0 := ⟨_, rfl⟩
  have oC : ∀ k j, ¬ (k = 94 ∧ j = (20 * p + L.length) ∨ k = 8 ∧ j = 8 ∨ k = 79 ∧ (j = ct ∨ j = ct + 1)) → σm.1 k j = σ.1 k j := fun k j z => by rw [hσm, lj_put_1, if_neg (by omega), lj_put_1, if_neg (by omega), lj_put_1, if_neg (by omega), lj_put_1, if_neg (by omega)]
  have oC2 : ∀ k j, σm.2 k j = σ.2 k j := fun k j => by rw [hσm]; rfl
  have oM : ∀ k j, ¬ (k = 77 ∧ j = (48 * p + L.length) ∨ k = 63 ∧ j = p ∨ k = 71 ∧ (j = 10000 * p + mt ∨ j = 10000 * p + (mt + 1))) → τm.1 k j = τ.1 k j := fun k j z => by rw [hτm, lj_put_1, if_neg (by omega), lj_put_1, if_neg (by omega), lj_put_1, if_neg (by omega), lj_put_1, if_neg (by omega)]
  have oM2 : ∀ k j, τm.2 k j = τ.2 k j := fun k j => by rw [hτm]; rfl
  have fC : lf (tqC p (20 * p + L.length) ct) σ σm := fun k j q => ⟨oC k j (fun z => by
    have : tqC p (20 * p + L.length) ct k j = true := tqC_t (by omega)
    rw [this] at q; cases q), oC2 k j⟩
  have fM : lf (tqM p (48 * p + L.length) mt mq) τ τm := fun k j q => ⟨oM k j (fun z => by
    have : tqM p (48 * p + L.length) mt mq k j = true := tqM_t (by omega)
    rw [this] at q; cases q), oM2 k j⟩
  have vr : ∀ a b, vR σ τ a b → vR σm τm a b := fun a b q => vR_tq fC fM q
  have n5 : ∀ x ∈ ra ++ 6 :: 6 :: (rb ++ 2 :: s'), x ≠ 5 := fun x hx => by
    rcases List.mem_append.1 hx with q | q
    · rcases hra x q with e | e <;> rw [e] <;> decide
    · rcases List.mem_cons.1 q with q | q
      · rw [q]; decide
      · rcases List.mem_cons.1 q with q | q
        · rw [q]; decide
        · refine hO.2.2.2 x ?_
          show x ∈ ra ++ 0 :: 0 :: (rb ++ 2 :: s')
          exact List.mem_append_right _ (List.mem_cons_of_mem _ (List.mem_cons_of_mem _ q))
  obtain ⟨g1, g2⟩ := h.tpw hF h0 rg V b1 b2 b3 fC fM stb (Nat.le_refl _) (Nat.le_refl _) (Nat.le_refl _) (by rw [hfb]; exact hfl) (s' := ra ++ 6 :: 6 :: (rb ++ 2 :: s')) (c' := (kY F).2.1 + 1) (m' := (kY F).2.2.1 + 1) (n' := 0) (w' := 0) (ce' := ce1) (me' := me1) (mq' := mq) (fun q => by
    rw [oC 97 _ (by omega)]
    refine back σm τm _ mq _ vr (fun j hj => ⟨oC 79 j (by omega), oC2 80 j, oC 81 j (by omega)⟩) (fun j hj => ⟨oM 71 j (by omega), oM2 72 j⟩) ?_
    refine stk_p6 (stk_p6 q ?_ ?_ ?_) ?_ ?_ ?_
    · rw [hσm, lj_put_1, if_neg (by omega), lj_put_1, if_pos ⟨rfl, rfl⟩]
    · rw [hτm, lj_put_1, if_neg (by omega), lj_put_1, if_pos ⟨rfl, rfl⟩]
    · rw [oC 81 ct (by omega)]; exact h81t
    · rw [hσm, lj_put_1, if_pos ⟨rfl, rfl⟩]
    · rw [hτm, lj_put_1, if_pos ⟨rfl, rfl⟩]
    · rw [oC 81 (ct + 1) (by omega)]; exact h81k) (by rw [hσm, lj_put_1, if_neg (by omega), lj_put_1, if_neg (by omega), lj_put_1, if_neg (by omega), lj_put_1, if_pos ⟨rfl, rfl⟩]) (by rw [hτm, lj_put_1, if_neg (by omega), lj_put_1, if_neg (by omega), lj_put_1, if_neg (by omega), lj_put_1, if_pos ⟨rfl, rfl⟩]) (by rw [hσm, lj_put_1, if_neg (by omega), lj_put_1, if_neg (by omega), lj_put_1, if_pos ⟨rfl, rfl⟩]) (by rw [hτm, lj_put_1, if_neg (by omega), lj_put_1, if_neg (by omega), lj_put_1, if_pos ⟨rfl, rfl⟩]) (by rw [oM 64 p (by omega)]; exact m64) (gn_ok gz) (by rw [hfn]; exact hfl) (Or.inl ⟨rfl, rfl⟩) (fun z => absurd rfl z) (fun j => Or.inl (oC 81 j (by omega)))
  obtain ⟨τ1, r1, r2⟩ := x_wr C g1 g2 (σa := σ) hwk (Nat.zero_le _) gz ⟨(by omega), (by omega)⟩ (by
    obtain ⟨a1, a2, a3⟩ := ksc
    show scl σ0 (kY F).1 ((kY F).2.1 + 1 - 1) _ (kY F).2.2.2.2.1 (kY F).2.2.2.2.2
    rw [Nat.add_sub_cancel]
    exact ⟨a1, a2, fun d e he => by rw [hfn]; exact a3 d e he⟩) n5 hX hT (vr _ _ hvt) (vr _ _ hvk) (vr _ _ hvv) (σ0.1 26 (kY F).2.1)
  -- the component
  have cst : lj_R lc_P 139 [.ref 8] σ = _ := ca_13 σ f1 f3 f4 fA fL fK
  have x1e : σ.1 8 8 - 3 - Int32.ofNat ra.length = Int32.ofNat ct := by
    have tp3 : σ.1 8 8 = Int32.ofNat (ct + ra.length + 3) := by rw [V.tp]; congr 1; omega
    have u1 : Int32.ofNat (ct + ra.length + 3) - 3 = Int32.ofNat (ct + ra.length) := ofN_sub' (ct + ra.length) 3
    rw [tp3, u1]
    exact ofN_sub' ct ra.length
  have i1 : lj_in (Int32.ofNat ct) 325000 := ofN_in (by omega) (by omega)
  have i2 : lj_in (Int32.ofNat (ct + 1)) 325000 := ofN_in (by omega) (by omega)
  have n1 : (Int32.ofNat ct).toNatClampNeg = ct := lz_onat (by omega)
  have n2 : (Int32.ofNat (ct + 1)).toNatClampNeg = ct + 1 := lz_onat (by omega)
  have c8 : (lj_put σ 94 (20 * p + L.length) (Int32.ofNat ((kY F).2.1 + 1))).1 8 8 - 1 = Int32.ofNat ce1 := by rw [lj_put_1, if_neg (by omega), V.tp, e1]; exact ofN_sub' ce1 1
  have i3 : lj_in (Int32.ofNat ce1) 325000 := ofN_in (by omega) (by omega)
  have n3 : (Int32.ofNat ce1).toNatClampNeg = ce1 := lz_onat (by omega)
  have v79 : ∀ j, (lj_put σ 94 (20 * p + L.length) (Int32.ofNat ((kY F).2.1 + 1))).1 79 j = (cv σ j).1 := fun j => by rw [lj_put_1, if_neg (by omega)]; rfl
  have v80 : ∀ j, (lj_put σ 94 (20 * p + L.length) (Int32.ofNat ((kY F).2.1 + 1))).2 80 j = (cv σ j).2 := fun j => rfl
  have v79' : (lj_put (lj_put (lj_put σ 94 (20 * p + L.length) (Int32.ofNat ((kY F).2.1 + 1))) 79 ct 0) 79 (ct + 1) 0).1 79 ce1 = (cv σ ce1).1 := by rw [lj_put_1, if_neg (by omega), lj_put_1, if_neg (by omega)]; exact v79 ce1
  have e201 : lj_R lc_P 201 [.ref 8, .int (Int32.ofNat ct), .int (σ0.1 26 (kY F).2.1)] (lj_put σ 94 (20 * p + L.length) (Int32.ofNat ((kY F).2.1 + 1))) = finC (lj_R lc_P 202 [.ref 8, .int (cv σ ct).1, .long (cv σ ct).2, .int (cv σ (ct + 1)).1, .long (cv σ (ct + 1)).2, .int (cv σ ce1).1, .long (cv σ ce1).2, .int (σ0.1 26 (kY F).2.1)] σm) := by
    rw [rc_201, kc_201_0, lz_osucc, if_pos i1, if_pos i1, if_pos i2, if_pos i2, if_pos i1, if_pos i2, c8, if_pos i3, if_pos i3, n1, n2, n3, v79', v79, v79, v80, v80, v80, ← hσm]
    rfl
  refine ac_of r2.fin rg.1 ?_ (run_step rg.2.1 rg.2.2.1 (m_lo h hF h0 V hs k2 (by decide) (τ2 := τ1) (fun x1 x2 => ?_))) (fun _ q => q)
  · rw [cst, k1', x1e, f2, lz_osucc, e201]
    congr 1
    funext s
    rw [kc_139_1051]
  · have at1 := mAt_p (i := (48 * p + L.length)) (v := Int32.ofNat ((kY F).2.2.1 + 1)) V.at
    rw [hq] at at1
    have mk := m_mark at1
    rw [lj_put_1, if_neg (by omega), hm] at mk
    have at2 := mAt_p (i := (48 * p + L.length)) (v := Int32.ofNat ((kY F).2.2.1 + 1)) V.at
    have tk0 := m_topK at2 (d := 0) (by omega)
    have tn0 := m_topN at2 (d := 0) (by omega)
    have dr := m_drop at2 (d := 1) (by omega)
    rw [show me - 1 - 0 = me1 by omega, mv_p _ (by decide)] at tk0 tn0
    rw [show me - 1 = me1 by omega] at dr
    have tk0 : lj_R lm_P 124 [.ref 0, .int 0] _ = _ := tk0
    have tn0 : lj_R lm_P 125 [.ref 0, .int 0] _ = _ := tn0
    have dr : lj_R lm_P 126 [.ref 0, .int 1] _ = _ := dr
    have ix : (10000 : Int32) * (lj_put τ 77 (48 * p + L.length) (Int32.ofNat ((kY F).2.2.1 + 1))).1 0 111 + Int32.ofNat me3 + Int32.ofNat rb.length = Int32.ofNat (10000 * p + mt) := by
      rw [at1.1, show (10000 : Int32) = Int32.ofNat 10000 from rfl, ← Int32.ofNat_mul, ← Int32.ofNat_add, ← Int32.ofNat_add]
      congr 1
      omega
    have p26 := at1.2.1
    have j1 : lj_in (Int32.ofNat (10000 * p + mt)) 260000 := ofN_in (by omega) (by omega)
    have j2 : lj_in (Int32.ofNat (10000 * p + mt + 1)) 260000 := ofN_in (by omega) (by omega)
    have o1 : (Int32.ofNat (10000 * p + mt)).toNatClampNeg = 10000 * p + mt := lz_onat (by omega)
    have o2 : (Int32.ofNat (10000 * p + mt + 1)).toNatClampNeg = 10000 * p + (mt + 1) := by rw [Nat.add_assoc]; exact lz_onat (by omega)
    have ln : (lj_put τ 77 (48 * p + L.length) (Int32.ofNat ((kY F).2.2.1 + 1))).1 23 (Int32.ofNat (kY F).2.2.1).toNatClampNeg = σ0.1 26 (kY F).2.1 := by
      obtain ⟨⟨_, _, _, _, _, _, m7⟩, m8⟩ := (h.cx hF h0 hs).2 (by rw [k2]; decide)
      rw [lj_put_1, if_neg (by omega), m7, m8 23 (by decide) (by decide)]
      exact kl.symm
    have w71 : ∀ j, (lj_put (lj_put τ 77 (48 * p + L.length) (Int32.ofNat ((kY F).2.2.1 + 1))) 63 p (Int32.ofNat me1)).1 71 j = (mv τ j).1 := fun j => by rw [lj_put_1, if_neg (by omega), lj_put_1, if_neg (by omega)]; rfl
    have w72 : ∀ j, (lj_put (lj_put τ 77 (48 * p + L.length) (Int32.ofNat ((kY F).2.2.1 + 1))) 63 p (Int32.ofNat me1)).2 72 j = (mv τ j).2 := fun j => rfl
    rw [my_13 _ x1 x2, if_pos x1, ln, k2', rm_143, km_143_0, mk, bi_ok, ix, km_143_16, tk0, bi_ok, tn0, bl_ok, dr, bv_ok, km_143_35, lz_osucc, if_pos j1, if_pos j1, if_pos j2, if_pos j2, if_pos j1, if_pos j2, o1, o2, w71, w71, w72, w72, ← hτm, r1, bv_ok, bv_ok, km_127_420]
