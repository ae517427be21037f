/-! values and marks that go -/
/-- rows of values that are needed no more -/
theorem stk_row {σ τ : lj_S} {p hb ob mb kb : Nat} : ∀ {r s : List Nat} {ce me mq : Nat} {cm : Int32}, (∀ x ∈ r, x = 0 ∨ x = 6) → stk σ τ p hb ob mb kb (r ++ s) ce me mq cm → ∃ ce' me', ce = ce' + r.length ∧ me = me' + r.length ∧ stk σ τ p hb ob mb kb s ce' me' mq cm
  | [], s, ce, me, mq, cm, _, h => ⟨ce, me, rfl, rfl, h⟩
  | x :: r, s, ce, me, mq, cm, hx, h => by
    rcases hx x List.mem_cons_self with e | e
    · rw [e] at h
      obtain ⟨ce', me', rfl, rfl, _, _, _, _, g⟩ := stk.u0 (Or.inl rfl) h
      obtain ⟨ce2, me2, rfl, rfl, g2⟩ := stk_row (fun y hy => hx y (List.mem_cons_of_mem _ hy)) g
      exact ⟨ce2, me2, by rw [List.length_cons]; omega, by rw [List.length_cons]; omega, g2⟩
    · rw [e] at h
      obtain ⟨ce', me', rfl, rfl, _, _, _, g⟩ := stk.u6 h
      obtain ⟨ce2, me2, rfl, rfl, g2⟩ := stk_row (fun y hy => hx y (List.mem_cons_of_mem _ hy)) g
      exact ⟨ce2, me2, by rw [List.length_cons]; omega, by rw [List.length_cons]; omega, g2⟩
theorem sOK.tls {r s : List Nat} (h : sOK (r ++ s)) : sOK s := by
  induction r with
  | nil => exact h
  | cons x r ih => exact ih (sOK.tl h)
theorem flo_ts (r s : List Nat) : (flo s).length ≤ (flo (r ++ s)).length := by
  induction r with
  | nil => exact Nat.le_refl _
  | cons x r ih => exact Nat.le_trans ih (flo_t x (r ++ s))
/-- the model takes a mark and what lies behind it -/
theorem m_w47 {σ0 τ0 σ τ : lj_S} {n np p : Nat} {r : List Nat} {FP : Nat → List kF} {ρ : Nat → Nat} {A MO LA : List Nat} (h : MB σ0 τ0 n np p r FP ρ A MO LA σ τ) {F : kF} {L : List kF} (hF : FP p = F :: L) (h0 : kS F = 0) {ms ks ce me mq : Nat} (V : vw σ0 τ0 σ τ ρ FP p F L ms ks ce me mq) (hs : stF σ0 τ0) (k2 : τ0.1 20 (kY F).2.2.1 = 47) {mq' me' : Nat} (hq : mq = mq' + 1) (hm : τ.1 73 (2000 * p + mq') = Int32.ofNat me') : lj_R lm_P 121 [.ref 0] τ = some (.inl (some (.int 1)), lj_put (lj_put (lj_put τ 77 (48 * p + L.length) (Int32.ofNat ((kY F).2.2.1 + 1))) 63 p (Int32.ofNat me')) 64 p (Int32.ofNat mq')) := by
  subst hq
  refine m_hi h hF h0 V hs k2 (by decide) (fun z1 z2 => ?_)
  have at1 := mAt_p (i := (48 * p + L.length)) (v := Int32.ofNat ((kY F).2.2.1 + 1)) V.at
  have mk := m_mark at1
  rw [lj_put_1, if_neg (by omega), hm] at mk
  rw [mz_47 _ z1 z2, mk, bi_ok, if_pos at1.i.1, if_pos at1.i.1, if_pos at1.i.1, at1.i.2.1, at1.2.2.2.2.1, lz_pred', km_153_483]
theorem act_15 {σ0 τ0 σ τ : lj_S} {n np p : Nat} {r : List Nat} {FP : Nat → List kF} {ρ : Nat → Nat} {A MO LA : List Nat} (h : MB σ0 τ0 n np p r FP ρ A MO LA σ τ) {F : kF} {L : List kF} (hF : FP p = F :: L) (h0 : kS F = 0) (rg : rgR σ τ) (hs : stF σ0 τ0) {Z : List pT} (hk : insK σ0 τ0 (kY F).1 (kY F).2.1 (kY F).2.2.1 (kY F).2.2.2.1 (kY F).2.2.2.2.1 (kY F).2.2.2.2.2 Z 15) {n' : Nat} (hn : ∀ z ∈ Z, gn σ0 τ0 n' z) : nxR σ0 τ0 n np p r FP ρ A MO LA σ τ F L n' Z := by
  obtain ⟨s', hsh, k2, rfl⟩ := hk
  obtain ⟨ms, ks, ce, me, mq, V⟩ := h.w hF h0
  have B := V.bd
  have st := V.st
  have hO := V.ff.1.2.2.2.1
  have hfl := V.fl
  rw [hsh] at st hO hfl
  obtain ⟨mq', hq, hm, st⟩ := st.u2
  obtain ⟨g1, g2⟩ := h.dn hF h0 rg V st (σ' := σ) (τ' := lj_put (lj_put (lj_put τ 77 (48 * p + L.length) (Int32.ofNat ((kY F).2.2.1 + 1))) 63 p (Int32.ofNat me)) 64 p (Int32.ofNat mq')) (lf_rf _ _) (tm_64 (tm_63 (tm_77 (lf_rf _ _) _) _) _) rfl V.2.2.2.2.1.1.2.2.2.1 (by simp [lj_put_1, lj_putL_1]) V.tp (by simp [lj_put_1, lj_putL_1]) (by simp [lj_put_1, lj_putL_1]) hO.tl (Nat.le_trans (flo_t 2 s') hfl) (Or.inr ⟨Nat.succ_ne_zero _, hn _ List.mem_cons_self⟩)
  exact ⟨σ, _, _, List.mem_cons_self, fun _ => rfl, run_step rg.2.1 rg.2.2.1 (m_w47 h hF h0 V hs k2 hq hm), g1, g2⟩
theorem act_14 {σ0 τ0 σ τ : lj_S} {n np p : Nat} {r : List Nat} {FP : Nat → List kF} {ρ : Nat → Nat} {A MO LA : List Nat} (h : MB σ0 τ0 n np p r FP ρ A MO LA σ τ) {F : kF} {L : List kF} (hF : FP p = F :: L) (h0 : kS F = 0) (rg : rgR σ τ) (hs : stF σ0 τ0) {Z : List pT} (hk : insK σ0 τ0 (kY F).1 (kY F).2.1 (kY F).2.2.1 (kY F).2.2.2.1 (kY F).2.2.2.2.1 (kY F).2.2.2.2.2 Z 14) {n' : Nat} (hn : ∀ z ∈ Z, gn σ0 τ0 n' z) : nxR σ0 τ0 n np p r FP ρ A MO LA σ τ F L n' Z := by
  obtain ⟨w, s', hsh, hw, k1, k1', k2, rfl⟩ := hk
  obtain ⟨ms, ks, ce, me, mq, V⟩ := h.w hF h0
  have B := V.bd
  have st := V.st
  have hO := V.ff.1.2.2.2.1
  have hfl := V.fl
  rw [hsh] at st hO hfl
  obtain ⟨ce', me', hce, hme, st⟩ := stk_row hw st
  obtain ⟨mq', hq, hm, st⟩ := st.u2
  obtain ⟨c1, c2, c3, c4, cA, cL, cK, c5⟩ := c_ft h hF h0 hs k1 (by decide)
  obtain ⟨g1, g2⟩ := h.dn hF h0 rg V st (σ' := lj_put (lj_put σ 94 (20 * p + L.length) (Int32.ofNat ((kY F).2.1 + 1))) 8 8 (Int32.ofNat ce')) (τ' := lj_put (lj_put (lj_put τ 77 (48 * p + L.length) (Int32.ofNat ((kY F).2.2.1 + 1))) 63 p (Int32.ofNat me')) 64 p (Int32.ofNat mq')) (tq_88 (tq_94 (lf_rf _ _) _) _) (tm_64 (tm_63 (tm_77 (lf_rf _ _) _) _) _) (by simp [lj_put_1, lj_putL_1]) (by simp [lj_put_1, lj_putL_1]) (by simp [lj_put_1, lj_putL_1]) (by simp [lj_put_1, lj_putL_1]) (by simp [lj_put_1, lj_putL_1]) (by simp [lj_put_1, lj_putL_1]) hO.tls.tl (Nat.le_trans (flo_t 2 s') (Nat.le_trans (flo_ts w _) hfl)) (Or.inr ⟨Nat.succ_ne_zero _, hn _ List.mem_cons_self⟩)
  have sb : Int32.ofNat ce - Int32.ofNat w.length = Int32.ofNat ce' := lz_ext (by rw [lz_sub (by rw [lz_lit (by omega), lz_lit (by omega)]; omega), lz_lit (by omega), lz_lit (by omega), lz_lit (by omega)]; omega)
  refine ⟨_, _, _, List.mem_cons_self, go_step rg.1 ?_, run_step rg.2.1 rg.2.2.1 (m_w47 h hF h0 V hs k2 hq hm), g1, g2⟩
  rw [ca_14 σ c1 c3 c4 cA cL cK, c2, lz_osucc, kc_139_1051, k1', V.tp, sb]
/-- the hidden three of a for go -/
theorem act_49 {σ0 τ0 σ τ : lj_S} {n np p : Nat} {r : List Nat} {FP : Nat → List kF} {ρ : Nat → Nat} {A MO LA : List Nat} (h : MB σ0 τ0 n np p r FP ρ A MO LA σ τ) {F : kF} {L : List kF} (hF : FP p = F :: L) (h0 : kS F = 0) (rg : rgR σ τ) (hs : stF σ0 τ0) {Z : List pT} (hk : insK σ0 τ0 (kY F).1 (kY F).2.1 (kY F).2.2.1 (kY F).2.2.2.1 (kY F).2.2.2.2.1 (kY F).2.2.2.2.2 Z 49) {n' : Nat} (hn : ∀ z ∈ Z, gn σ0 τ0 n' z) : nxR σ0 τ0 n np p r FP ρ A MO LA σ τ F L n' Z := by
  obtain ⟨s', hsh, k2, k2', rfl⟩ := hk
  obtain ⟨x, hx, hsh⟩ : ∃ x, (x = 3 ∨ x = 4) ∧ (kY F).2.2.2.1 = x :: s' := by
    rcases hsh with e | e
    · exact ⟨3, Or.inl rfl, e⟩
    · exact ⟨4, Or.inr rfl, e⟩
  obtain ⟨ms, ks, ce, me, mq, V⟩ := h.w hF h0
  have B := V.bd
  have st := V.st
  have hO := V.ff.1.2.2.2.1
  have hfl := V.fl
  rw [hsh] at st hO hfl
  obtain ⟨me', hme, _, st⟩ := st.u3 hx
  have m64 : τ.1 64 p = Int32.ofNat mq := V.at.2.2.2.2.1
  have at1 := mAt_p (i := (48 * p + L.length)) (v := Int32.ofNat ((kY F).2.2.1 + 1)) V.at
  have dr : lj_R lm_P 126 [.ref 0, .int 3] _ = _ := m_drop at1 (d := 3) (by omega)
  obtain ⟨g1, g2⟩ := h.dn hF h0 rg V st (σ' := σ) (τ' := lj_put (lj_put τ 77 (48 * p + L.length) (Int32.ofNat ((kY F).2.2.1 + 1))) 63 p (Int32.ofNat me')) (lf_rf _ _) (tm_63 (tm_77 (lf_rf _ _) _) _) rfl V.2.2.2.2.1.1.2.2.2.1 (by simp [lj_put_1, lj_putL_1]) V.tp (by simp [lj_put_1, lj_putL_1]) (by simp [lj_put_1, m64]) hO.tl (Nat.le_trans (flo_t x s') hfl) (Or.inr ⟨Nat.succ_ne_zero _, hn _ List.mem_cons_self⟩)
  refine ⟨σ, _, _, List.mem_cons_self, fun _ => rfl, run_step rg.2.1 rg.2.2.1 (m_hi h hF h0 V hs k2 (by decide) (fun z1 z2 => ?_)), g1, g2⟩
  rw [mz_44 _ z1 z2, k2', dr, bv_ok, km_153_483, show me - 3 = me' by omega]
/-- a table that was made is a value -/
theorem act_54 {σ0 τ0 σ τ : lj_S} {n np p : Nat} {r : List Nat} {FP : Nat → List kF} {ρ : Nat → Nat} {A MO LA : List Nat} (h : MB σ0 τ0 n np p r FP ρ A MO LA σ τ) {F : kF} {L : List kF} (hF : FP p = F :: L) (h0 : kS F = 0) (rg : rgR σ τ) {Z : List pT} (hk : insK σ0 τ0 (kY F).1 (kY F).2.1 (kY F).2.2.1 (kY F).2.2.2.1 (kY F).2.2.2.2.1 (kY F).2.2.2.2.2 Z 54) {n' : Nat} (hn : ∀ z ∈ Z, gn σ0 τ0 n' z) : nxR σ0 τ0 n np p r FP ρ A MO LA σ τ F L n' Z := by
  obtain ⟨s', hsh, rfl⟩ := hk
  obtain ⟨ms, ks, ce, me, mq, V⟩ := h.w hF h0
  have st := V.st
  have hO := V.ff.1.2.2.2.1
  have hfl := V.fl
  rw [hsh] at st hO hfl
  obtain ⟨b1, b2, b3, _⟩ := stk_bd st
  have fe : (flo (0 :: s')).length ≤ nH σ0 (kY F).1 := by
    rw [flo_c (by decide)] at hfl ⊢
    exact hfl
  have hO' : sOK (0 :: s') := ⟨hO.1, hO.2.1, hO.2.2.1, hO.2.2.2⟩
  obtain ⟨g1, g2⟩ := h.tp hF h0 rg V (σ' := σ) (τ' := τ) b1 b2 b3 (lf_rf _ _) (lf_rf _ _) st (Nat.le_refl _) (Nat.le_refl _) (Nat.le_refl _) hfl (s' := 0 :: s') (fun z => by
    obtain ⟨ce', me', rfl, rfl, v1, v2, _, _, z⟩ := stk.u0 (Or.inr (Or.inr rfl)) z
    exact stk_p0 z v1 v2) V.2.2.2.2.1.1.2.2.2.1 V.2.2.2.2.1.2.1.2.2.2.1 V.tp V.at.2.2.1 V.at.2.2.2.2.1 hO' fe (n' := n' + 1) (Or.inr ⟨Nat.succ_ne_zero _, hn _ List.mem_cons_self⟩)
  exact ⟨σ, τ, _, List.mem_cons_self, fun _ => rfl, fun _ => rfl, g1, g2⟩
