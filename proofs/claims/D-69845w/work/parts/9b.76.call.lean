/-! acts that call -/
theorem sOK_ap {r s : List Nat} (h : sOK (r ++ s)) (h5 : ∀ x ∈ s, x ≠ 5) : sOK s := by
  obtain ⟨a1, a2, a3, _⟩ := h
  rw [va_app] at a1
  rw [cn_app] at a2 a3
  exact ⟨by omega, by omega, by omega, fun x hx => h5 x (List.mem_of_mem_tail hx)⟩
theorem x_cll {σ0 τ0 σ τ : lj_S} {n np p : Nat} {r : List Nat} {FP : Nat → List kF} {ρ : Nat → Nat} {A MO LA : List Nat} (h : MB σ0 τ0 n np p r FP ρ A MO LA σ τ) {F : kF} {L : List kF} (hF : FP p = F :: L) (h0 : kS F = 0) (rg : rgR σ τ) (hs : stF σ0 τ0) (k1 : σ0.1 22 (kY F).2.1 = 16) (k2 : τ0.1 20 (kY F).2.2.1 = 16) (kl : σ0.1 26 (kY F).2.1 = τ0.1 23 (kY F).2.2.1) {r0 s' : List Nat} (hr : rowS r0) (hsh : (kY F).2.2.2.1 = r0 ++ 1 :: 0 :: s') {n' w : Nat} (hw0 : 6 ≤ w ∧ w ≤ 10) (hw : wtR σ0 τ0 (kY F).1 ((kY F).2.1 + 1) ((kY F).2.2.1 + 1) s' (kY F).2.2.2.2.1 (kY F).2.2.2.2.2 n' w) (hwn : τ0.1 21 (kY F).2.2.1 = waN σ0 ((kY F).2.1 + 1) w) (hsc : scl σ0 (kY F).1 (kY F).2.1 s' (kY F).2.2.2.2.1 (kY F).2.2.2.2.2) (hA : A = []) (hN : n' + 6001 ≤ kN F) (hwk : wkR FP (p :: r) A σ) (C : ∀ M k, CAL σ0 τ0 M k) (hT : thM FP (p :: r) MO LA ≤ TH) : acR σ0 τ0 (fun t => t < thM FP (p :: r) MO LA) σ τ := by
  subst hA
  obtain ⟨ms, ks, ce, me, mq, V⟩ := h.w hF h0
  have B := V.bd
  have st := V.st
  have hO := V.ff.1.2.2.2.1
  have hfl := V.fl
  rw [hsh] at st hO hfl
  obtain ⟨k, c0, m0, mq', cm', hk, w1⟩ := rk_of hr.1 st
  have hk126 := Nat.le_trans hk (row_bd hr)
  obtain ⟨⟨hce, hme, hmq⟩, ⟨h97, h80, h81, h73⟩, hv, st'⟩ := w1
  obtain ⟨c00, m00, rfl, rfl, hvf, _, _, _, st2⟩ := st'.u0 (Or.inl rfl)
  have n5 : ∀ x ∈ s', x ≠ 5 := fun x hx => by
    cases r0 with
    | nil => exact hO.2.2.2 x (List.mem_cons_of_mem _ hx)
    | cons y r0 => exact hO.2.2.2 x (List.mem_append_right _ (List.mem_cons_of_mem _ (List.mem_cons_of_mem _ hx)))
  have hO' : sOK s' := by
    have e : r0 ++ 1 :: 0 :: s' = (r0 ++ [1, 0]) ++ s' := by simp
    rw [e] at hO
    exact sOK_ap hO n5
  have hfl' : (flo s').length ≤ nH σ0 (kY F).1 := Nat.le_trans (flo_t 0 s') (Nat.le_trans (flo_t 1 _) (Nat.le_trans (flo_ts r0 _) hfl))
  obtain ⟨b1, b2, b3, _⟩ := stk_bd st2
  obtain ⟨f1, f2, f3, f4, fA, fL, fK, f5⟩ := c_ft h hF h0 hs k1 (by decide)
  have hX := lsX_of h.npr hF h0 MO LA hN
  have pc14 : (kY F).2.1 < 14000 := Nat.lt_of_not_le (fun q => by rw [hs.1 _ q] at k1; exact absurd k1 (by decide))
  have cst : lj_R lc_P 139 [.ref 8] σ = _ := ca_16 σ f1 f3 f4 fA fL fK
  rw [f2, lz_osucc] at cst
  have ln : (lj_put τ 77 (48 * p + L.length) (Int32.ofNat ((kY F).2.2.1 + 1))).1 23 (Int32.ofNat (kY F).2.2.1).toNatClampNeg = σ0.1 26 (kY F).2.1 := by
    obtain ⟨⟨_, _, _, _, _, _, m7⟩, m8⟩ := (h.cx hF h0 hs).2 (by rw [k2]; decide)
    rw [lj_put_1, if_neg (by omega), m7, m8 23 (by decide) (by decide)]
    exact kl.symm
  have at1 := mAt_p (i := (48 * p + L.length)) (v := Int32.ofNat ((kY F).2.2.1 + 1)) V.at
  rw [hme, hmq] at at1
  have e73 : (lj_put τ 77 (48 * p + L.length) (Int32.ofNat ((kY F).2.2.1 + 1))).1 73 (2000 * p + mq') = Int32.ofNat (m00 + 1) := by rw [lj_put_1, if_neg (by omega)]; exact h73
  by_cases z : k ≤ 30
  · obtain ⟨σ2, y1, y2, y3, y4, y5⟩ := c_cl (σ := lj_put σ 94 (20 * p + L.length) (Int32.ofNat ((kY F).2.1 + 1))) (i := (20 * p + L.length)) (c00 := c00) (k := k) (cm := cm') (σ0.1 26 (kY F).2.1) (by rw [lj_put_1, if_neg (by omega)]; exact V.i34) (by omega) (by rw [lj_put_1, if_neg (by omega)]; exact h97) (by rw [lj_put_1, if_neg (by omega), V.tp, hce]) (by omega) z h80
    obtain ⟨τ2, x1, x2, ⟨x3, x4, x5, x6, x7⟩, ⟨x8, x9, x11⟩, x10⟩ := m_cl (τ := lj_put τ 77 (48 * p + L.length) (Int32.ofNat ((kY F).2.2.1 + 1))) (p := p) (m00 := m00) (k := k) (mq := mq') (τ0.1 21 (kY F).2.2.1) (σ0.1 26 (kY F).2.1) at1 (by omega) e73 z
    have oC : ∀ kk j, ¬ (kk = 105 ∨ kk = 106 ∨ kk = 8 ∧ (j = 38 ∨ j = 8) ∨ kk = 97 ∧ j = (20 * p + L.length) ∨ kk = 94 ∧ j = (20 * p + L.length)) → σ2.1 kk j = σ.1 kk j ∧ σ2.2 kk j = σ.2 kk j := fun kk j q => by
      obtain ⟨v1, v2⟩ := y5 kk j (by omega)
      exact ⟨v1.trans (by rw [lj_put_1, if_neg (by omega)]), v2⟩
    have oM : ∀ kk j, ¬ (kk = 88 ∨ kk = 89 ∨ kk = 0 ∧ (j = 129 ∨ j = 130 ∨ j = 131 ∨ j = 132 ∨ j = 133 ∨ j = 134 ∨ j = 137) ∨ (kk = 63 ∨ kk = 64) ∧ j = p ∨ kk = 77 ∧ j = (48 * p + L.length)) → τ2.1 kk j = τ.1 kk j ∧ τ2.2 kk j = τ.2 kk j := fun kk j q => by
      obtain ⟨v1, v2⟩ := x10 kk j (by omega)
      exact ⟨v1.trans (by rw [lj_put_1, if_neg (by omega)]), v2⟩
    have fC : lf (tqC p (20 * p + L.length) c00) σ σ2 := fun kk j q => oC kk j (by unfold tqC sxC szC at q; simp at q; omega)
    have fM : lf (tqM p (48 * p + L.length) m00 mq') τ (lj_put τ2 0 129 0) := fun kk j q => by
      have q1 : ¬ (kk = 88 ∨ kk = 89 ∨ kk = 0 ∧ (j = 130 ∨ j = 131 ∨ j = 132 ∨ j = 133 ∨ j = 134 ∨ j = 137) ∨ (kk = 63 ∨ kk = 64) ∧ j = p ∨ kk = 77 ∧ j = (48 * p + L.length)) := by
        unfold tqM sxM szM at q; simp at q; omega
      by_cases e : kk = 0 ∧ j = 129
      · rw [e.1, e.2]
        exact ⟨by rw [lj_put_1, if_pos ⟨rfl, rfl⟩]; exact rg.2.2.1.symm, x11⟩
      · have q2 := oM kk j (by
          rintro (u | u | ⟨u1, u2 | u2⟩ | u | u)
          · exact q1 (Or.inl u)
          · exact q1 (Or.inr (Or.inl u))
          · exact e ⟨u1, u2⟩
          · exact q1 (Or.inr (Or.inr (Or.inl ⟨u1, u2⟩)))
          · exact q1 (Or.inr (Or.inr (Or.inr (Or.inl u))))
          · exact q1 (Or.inr (Or.inr (Or.inr (Or.inr u)))))
        exact ⟨by rw [lj_put_1, if_neg e]; exact q2.1, q2.2⟩
    obtain ⟨g1, g2⟩ := h.tpw hF h0 rg V b1 b2 b3 fC fM st2 (Nat.le_refl _) (Nat.le_refl _) (Nat.le_refl _) hfl' (s' := s') (c' := (kY F).2.1 + 1) (m' := (kY F).2.2.1 + 1) (n' := n' + 1) (w' := w) (ce' := c00) (me' := m00) (mq' := mq') (fun q => by rw [y3]; exact q) (by rw [(y5 94 _ (by omega)).1, lj_put_1, if_pos ⟨rfl, rfl⟩]) (by rw [lj_put_1, if_neg (by omega), (x10 77 _ (by omega)).1, lj_put_1, if_pos ⟨rfl, rfl⟩]) y4 (by rw [lj_put_1, if_neg (by omega)]; exact x8) (by rw [lj_put_1, if_neg (by omega)]; exact x9) hO' hfl' (Or.inr ⟨Nat.succ_ne_zero _, hw⟩) (fun _ => ⟨⟨⟨(by omega), (by omega)⟩, by rw [Nat.add_sub_cancel]; exact hsc⟩, n5⟩) (fun j => Or.inl (oC 81 j (by omega)).1)
    have g3 := g1.t129 3
    have pid : lj_put τ2 0 129 3 = τ2 := by
      have q := put_id τ2 0 129
      rw [x3] at q
      exact q
    rw [put_put, pid] at g3
    have vr : ∀ a b, vR σ τ a b → vR σ2 τ2 a b := fun a b q => q.cg (fun kk j u => (oC kk j (by unfold vqC at u; simp at u; omega)).1) (fun kk j u => (oM kk j (by unfold vqM at u; simp at u; omega)).1)
    have kn := rsK_len (lj_put σ 94 (20 * p + L.length) (Int32.ofNat ((kY F).2.1 + 1))) (c00 + 2) k
    have nn := rsN_len (lj_put τ 77 (48 * p + L.length) (Int32.ofNat ((kY F).2.2.1 + 1))) p (m00 + 1) k
    have q := hX (kTo F ((kY F).2.1 + 1) ((kY F).2.2.1 + 1) s' (kY F).2.2.2.2.1 (kY F).2.2.2.2.2 (n' + 1) w) rfl (Nat.le_refl _)
    have fo := fpT_o FP p (kTo F ((kY F).2.1 + 1) ((kY F).2.2.1 + 1) s' (kY F).2.2.2.2.1 (kY F).2.2.2.2.2 (n' + 1) w :: L)
    have px := pfx_0 (r := r) fo rfl
    have out := C (thM (fpT FP p (kTo F ((kY F).2.1 + 1) ((kY F).2.2.1 + 1) s' (kY F).2.2.2.2.1 (kY F).2.2.2.2.2 (n' + 1) w :: L)) (p :: r) MO LA) 200 n np p r _ ρ [] MO LA σ2 τ2 (cv σ c00) (mv τ (10000 * p + m00)) _ _ 0 (σ0.1 26 (kY F).2.1) g3 ⟨by rw [(oC 8 46 (by omega)).1]; exact rg.1, by rw [(oM 0 143 (by omega)).1]; exact rg.2.1, by rw [(oC 8 45 (by omega)).1, (oM 0 144 (by omega)).1]; exact rg.2.2.2.1, by rw [(oC 8 44 (by omega)).2, (oM 0 145 (by omega)).2]; exact rg.2.2.2.2⟩ (wk_nil h.npr hwk _) (vr _ _ hvf) (by rw [x7, mv_p _ (by decide)]) x3 (by
      rw [fo, x4, x5, hwn]
      refine wa_aw rfl (by show w ≠ 0; omega) ⟨?_, ?_, rfl⟩
      · show (0 : Int32) = waA w
        rcases (by omega : w = 6 ∨ w = 7 ∨ w = 8 ∨ w = 9 ∨ w = 10) with e | e | e | e | e <;> (rw [e]; rfl)
      · show (0 : Int32) = waM w
        rcases (by omega : w = 6 ∨ w = 7 ∨ w = 8 ∨ w = 9 ∨ w = 10) with e | e | e | e | e <;> (rw [e]; rfl)) x6 ⟨y2, x2, by rw [kn, nn], fun j hj => by
      rw [kn] at hj
      show vR σ2 τ2 ((rsK _ _ _).getD j (0, 0)) ((rsN _ _ _ _).getD j (0, 0))
      rw [rsK_get _ _ _ _ hj, rsN_get _ _ _ _ _ hj, cv_p _ (by decide), mv_p _ (by decide)]
      exact vr _ _ (hv j hj).1⟩ (Or.inl ⟨by rw [px, kn]; omega, by rw [kn]; omega⟩) (Nat.le_refl _) (by omega)
    refine ac_of out.fin rg.1 ?_ (run_step rg.2.1 rg.2.2.1 (m_lo h hF h0 V hs k2 (by decide) (τ2 := τ2) (fun v1 v2 => ?_))) (fun t ht => by have ht : t ≤ _ := ht; show t < _; omega)
    · rw [cst, y1, cv_p _ (by decide)]
      congr 1
      funext s
      rw [kc_139_1051]
    · rw [my_16 _ v1 v2, if_pos v1, ln, x1, bv_ok, km_127_420]
  · -- too many
    obtain ⟨h1, rg1⟩ := h.ft hF h0 rg V true true
    have h1 : MB σ0 τ0 n np p r (fpT FP p (kTo F ((kY F).2.1 + 1) ((kY F).2.2.1 + 1) (kY F).2.2.2.1 (kY F).2.2.2.2.1 (kY F).2.2.2.2.2 0 0 :: L)) ρ [] MO LA (lj_put σ 94 (20 * p + L.length) (Int32.ofNat ((kY F).2.1 + 1))) (lj_put τ 77 (48 * p + L.length) (Int32.ofNat ((kY F).2.2.1 + 1))) := h1
    have rg1 : rgR (lj_put σ 94 (20 * p + L.length) (Int32.ofNat ((kY F).2.1 + 1))) (lj_put τ 77 (48 * p + L.length) (Int32.ofNat ((kY F).2.2.1 + 1))) := rg1
    obtain ⟨σ', τ', e1, e2, e3⟩ := cm_wrong h1.2.1 (σ0.1 26 (kY F).2.1) (e := 4) (by decide)
    have k30 : ¬ (Int32.ofNat k ≤ (30 : Int32)) := fun q => z ((ofN_le (b := 30) (by omega) (by omega)).1 q)
    have bh := c_behind (σ := lj_put σ 94 (20 * p + L.length) (Int32.ofNat ((kY F).2.1 + 1))) (t := ce) (i := (20 * p + L.length)) (c := c00 + 1) (by rw [lj_put_1, if_neg (by omega)]; exact V.tp) (by rw [lj_put_1, if_neg (by omega)]; exact V.i34) (by omega) (by rw [lj_put_1, if_neg (by omega)]; exact h97) (by omega) (by omega)
    rw [show ce - (c00 + 1) - 1 = k by omega] at bh
    have mk := m_mark at1
    rw [e73] at mk
    have sb : Int32.ofNat (m00 + 1 + k) - Int32.ofNat (m00 + 1) = Int32.ofNat k := ofN_sub'' (m00 + 1) k
    refine ac_tr h hF h0 rfl hwk (F' := kTo F ((kY F).2.1 + 1) ((kY F).2.2.1 + 1) (kY F).2.2.2.1 (kY F).2.2.2.2.1 (kY F).2.2.2.2.2 0 0) rfl (by show 0 + 1 < kN F; omega) ⟨σ, σ', τ', fun _ => rfl, rg.1, ?_, run_step rg.2.1 rg.2.2.1 (m_lo h hF h0 V hs k2 (by decide) (τ2 := τ') (fun v1 v2 => ?_)), h1.er rg1 e3⟩
    · have e1 : lj_br (lj_R lc_P 133 [.ref 8, .int (σ0.1 26 (kY F).2.1), .ref 1027] (lj_put σ 94 (20 * p + L.length) (Int32.ofNat ((kY F).2.1 + 1)))) (fun y s => (bif Nat.blt y 2000 then lj_up y s else none)) lj_up = some (.inr 2, σ') := e1
      rw [cst, rc_203, kc_203_0, bh, bi_ok, if_neg k30, e1, bv_th]
    · have e2 : lj_R lm_P 142 [.ref 0, .int 4, .int (σ0.1 26 (kY F).2.1)] (lj_put τ 77 (48 * p + L.length) (Int32.ofNat ((kY F).2.2.1 + 1))) = some (.inl none, τ') := e2
      rw [my_16 _ v1 v2, if_pos v1, ln, rm_148, km_148_0, mk, bi_ok, if_pos at1.i.1, at1.i.2.1, at1.2.2.1, sb, if_neg k30, e2, bv_ok, bv_ok, km_127_420]
theorem act_call {σ0 τ0 σ τ : lj_S} {n np p : Nat} {r : List Nat} {FP : Nat → List kF} {ρ : Nat → Nat} {A MO LA : List Nat} (h : MB σ0 τ0 n np p r FP ρ A MO LA σ τ) {F : kF} {L : List kF} (hF : FP p = F :: L) (h0 : kS F = 0) (rg : rgR σ τ) (hs : stF σ0 τ0) {Z : List pT} {K : Nat} (hK : K = 18 ∨ K = 19 ∨ K = 20 ∨ K = 21) (hk : insK σ0 τ0 (kY F).1 (kY F).2.1 (kY F).2.2.1 (kY F).2.2.2.1 (kY F).2.2.2.2.1 (kY F).2.2.2.2.2 Z K) {n' : Nat} (hn : ∀ z ∈ Z, gn σ0 τ0 n' z) (hA : A = []) (hN : n' + 6001 ≤ kN F) (hwk : wkR FP (p :: r) A σ) (C : ∀ M k, CAL σ0 τ0 M k) (hT : thM FP (p :: r) MO LA ≤ TH) : acR σ0 τ0 (fun t => t < thM FP (p :: r) MO LA) σ τ := by
  rcases hK with e | e | e | e <;> subst e
  · obtain ⟨r0, s', hr, hsh, k1, k2, kl, ksc, k3, k4, rfl⟩ := hk
    exact x_cll h hF h0 rg hs k1 k2 kl hr hsh (w := 6) (by decide) ⟨k3, hn _ List.mem_cons_self⟩ k4 ksc hA hN hwk C hT
  · obtain ⟨r0, s', hr, hsh, k1, k2, kl, ksc, k3, k4, rfl⟩ := hk
    exact x_cll h hF h0 rg hs k1 k2 kl hr hsh (w := 7) (by decide) ⟨k3, hn _ List.mem_cons_self⟩ k4 ksc hA hN hwk C hT
  · obtain ⟨r0, s', hr, hsh, k1, k2, kl, ksc, k3, k4, rfl⟩ := hk
    exact x_cll h hF h0 rg hs k1 k2 kl hr hsh (w := 8) (by decide) ⟨k3, hn _ List.mem_cons_self⟩ k4 ksc hA hN hwk C hT
  · obtain ⟨r0, s', hr, hsh, k1, k2, kl, ksc, k3, k4, k5, ⟨i, i1, i2, i3⟩, rfl⟩ := hk
    exact x_cll h hF h0 rg hs k1 k2 kl hr hsh (w := 9) (by decide) ⟨s', i, rfl, i1, k3, i2, k5, i3, hn _ List.mem_cons_self⟩ k4 (by
      obtain ⟨a1, a2, a3⟩ := ksc
      exact ⟨a1, a2, fun d e he => by rw [flo_c (by decide), flo_c (by decide)]; exact a3 d e he⟩) hA hN hwk C hT
