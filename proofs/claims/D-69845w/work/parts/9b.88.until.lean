/-! until, with locals -/
theorem act_42 {σ0 τ0 σ τ : lj_S} {n np p : Nat} {r : List Nat} {FP : Nat → List kF} {ρ : Nat → Nat} {A MO LA : List Nat} (h : MB σ0 τ0 n np p r FP ρ A MO LA σ τ) {F : kF} {L : List kF} (hF : FP p = F :: L) (h0 : kS F = 0) (rg : rgR σ τ) (hs : stF σ0 τ0) {Z : List pT} (hk : insK σ0 τ0 (kY F).1 (kY F).2.1 (kY F).2.2.1 (kY F).2.2.2.1 (kY F).2.2.2.2.1 (kY F).2.2.2.2.2 Z 42) {n' : Nat} (hn : ∀ z ∈ Z, gn σ0 τ0 n' z) : nyR σ0 τ0 n np p r FP A MO LA σ τ F L n' Z := by
  obtain ⟨a, t, t', o, x, q, s', ha, ht, ⟨ht', _, _⟩, ⟨ho, _⟩, x50, q50, hsh, hlq, k1, k1', k3, k3', k3'', k4, k4', k5, k5', k5'', k6, k6', k2, k2', k7, k7', hdd, rfl⟩ := hk
  obtain ⟨ms, ks, ce, me, mq, V⟩ := h.w hF h0
  have B := V.bd
  have st := V.st
  have hO := V.ff.1.2.2.2.1
  have hfl := V.fl
  rw [hsh] at st hO hfl
  obtain ⟨ce', me', e1, e2, hv, _, _, _, st2⟩ := st.u0 (Or.inl rfl)
  subst e1 e2
  obtain ⟨c1, c2, c3, c4, cA, cL, cK, c5⟩ := c_ft h hF h0 hs k1 (by decide)
  obtain ⟨i1, i2, i3⟩ := c_pre (x := (lj_put σ 94 (20 * p + L.length) (Int32.ofNat ((kY F).2.1 + 1))).1 8 8) (t := ce') (by rw [lj_put_1, if_neg (by omega)]; exact V.tp) (by omega)
  have ct : lj_R lc_P 146 [.ref 8, .int ((lj_put σ 94 (20 * p + L.length) (Int32.ofNat ((kY F).2.1 + 1))).1 79 ce'), .long ((lj_put σ 94 (20 * p + L.length) (Int32.ofNat ((kY F).2.1 + 1))).2 80 ce')] (lj_put (lj_put σ 94 (20 * p + L.length) (Int32.ofNat ((kY F).2.1 + 1))) 8 8 (Int32.ofNat ce')) = some (.inl (some (.int (if tru (cv σ ce') then 1 else 0))), lj_put (lj_put σ 94 (20 * p + L.length) (Int32.ofNat ((kY F).2.1 + 1))) 8 8 (Int32.ofNat ce')) := by
    have := c_isTrue (lj_put (lj_put σ 94 (20 * p + L.length) (Int32.ofNat ((kY F).2.1 + 1))) 8 8 (Int32.ofNat ce')) (cv (lj_put σ 94 (20 * p + L.length) (Int32.ofNat ((kY F).2.1 + 1))) ce')
    rw [cv_p ce' (by decide)] at this
    exact this
  have e34 : (lj_put (lj_put σ 94 (20 * p + L.length) (Int32.ofNat ((kY F).2.1 + 1))) 8 8 (Int32.ofNat ce')).1 8 34 = Int32.ofNat (20 * p + L.length) := by rw [lj_put_1, if_neg (by omega), lj_put_1, if_neg (by omega)]; exact V.i34
  have hO := hO.tl
  have hfl : (flo s').length ≤ nH σ0 (kY F).1 := Nat.le_trans (flo_t 0 s') hfl
  have m64 : τ.1 64 p = Int32.ofNat mq := V.at.2.2.2.2.1
  have m77 : τ.1 77 (48 * p + L.length) = Int32.ofNat (kY F).2.2.1 := V.2.2.2.2.1.2.1.2.2.2.1
  -- the model forgets its locals
  obtain ⟨τ2, w1, w2, w3⟩ := m_endl (J := Int32.ofNat (48 * p + L.length)) (P := Int32.ofNat (kY F).2.2.1) (A := Int32.ofNat x) (k := (tk τ p (me' + 1)).1) (n := (tk τ p (me' + 1)).2) rfl (by omega) (50 - x) x (lj_put τ 77 (48 * p + L.length) (Int32.ofNat ((kY F).2.2.1 + 1))) (by omega)
  have o2 : ∀ k j, k ≠ 87 → k ≠ 77 → τ2.1 k j = τ.1 k j := fun k j z1 z2 => by rw [w2, if_neg (by omega), lj_put_1, if_neg (by omega)]
  have o77 : τ2.1 77 (48 * p + L.length) = Int32.ofNat ((kY F).2.2.1 + 1) := by rw [w2, if_neg (by omega), lj_put_1, if_pos ⟨rfl, rfl⟩]
  have s1 : lj_R lm_P 121 [.ref 0] τ = some (.inl (some (.int 1)), τ2) := m_lo h hF h0 V hs k2 (by decide) (fun z1 z2 => by rw [my_20 _ z1 z2, k2', w1])
  have at2 : mAt τ2 p (me' + 1) mq := by
    obtain ⟨a1, a2, a3, a4, a5, a6⟩ := V.at
    exact ⟨by rw [o2 0 111 (by omega) (by omega)]; exact a1, a2, by rw [o2 63 p (by omega) (by omega)]; exact a3, a4, by rw [o2 64 p (by omega) (by omega)]; exact a5, a6⟩
  have at3 := mAt_p (i := (48 * p + L.length)) (v := Int32.ofNat ((kY F).2.2.1 + 1 + 1)) at2
  have dr : lj_R lm_P 126 [.ref 0, .int 1] (lj_put τ2 77 (48 * p + L.length) (Int32.ofNat ((kY F).2.2.1 + 1 + 1))) = some (.inl none, lj_put (lj_put τ2 77 (48 * p + L.length) (Int32.ofNat ((kY F).2.2.1 + 1 + 1))) 63 p (Int32.ofNat me')) := m_drop at3 (d := 1) (by omega)
  have mv2 : mv τ2 (10000 * p + me') = mv τ (10000 * p + me') := by
    unfold mv
    rw [o2 71 _ (by omega) (by omega), w3]
    rfl
  have tk2 : tk τ2 p (me' + 1) = mv τ (10000 * p + me') := by rw [tk_1]; exact mv2
  have mt := m_isTrue (lj_put (lj_put τ2 77 (48 * p + L.length) (Int32.ofNat ((kY F).2.2.1 + 1 + 1))) 63 p (Int32.ofNat me')) (mv τ (10000 * p + me'))
  rw [tru_R hv] at mt
  have nn : (mv τ2 (10000 * p + (me' + 1 - 1))).1 ≥ 0 := by
    rw [show me' + 1 - 1 = me' by omega, mv2]
    exact hv.nn
  -- the end, whichever way they go
  have fin : ∀ (cj tc c3' m' : Nat) (σ1 : lj_S), (∀ v, goC v σ = goC v σ1) → lf (tqC p (20 * p + L.length) ce') σ σ1 → σ1.1 97 (20 * p + L.length) = σ.1 97 (20 * p + L.length) → σ1.1 94 (20 * p + L.length) = Int32.ofNat cj → σ1.1 8 8 = Int32.ofNat ce' → (∀ j, σ1.1 81 j = σ.1 81 j) → σ0.1 22 cj = 34 → σ0.1 23 cj = Int32.ofNat x → σ0.1 24 cj = Int32.ofNat q → σ0.1 22 (cj + 1) = 30 → σ0.1 23 (cj + 1) = Int32.ofNat tc → lj_R lm_P 121 [.ref 0] τ2 = some (.inl (some (.int 1)), lj_put (lj_put (lj_put τ2 77 (48 * p + L.length) (Int32.ofNat ((kY F).2.2.1 + 1 + 1))) 63 p (Int32.ofNat me')) 77 (48 * p + L.length) (Int32.ofNat m')) → gn σ0 τ0 n' ((kY F).1, tc, m', s', (kY F).2.2.2.2.1.filter (· < x), 50) → ∃ ρ' σ' τ', (∀ v, goC v σ = goC v σ') ∧ (∀ x, mRun x τ = mRun x τ') ∧ MB σ0 τ0 n np p r (fpT FP p (kTo F tc m' s' ((kY F).2.2.2.2.1.filter (· < x)) 50 (n' + 1) 0 :: L)) ρ' A MO LA σ' τ' ∧ rgR σ' τ' := fun cj tc c3' m' σ1 g0 fC f97 f94 f88 f81 y1 y2 y3 y4 y5 y6 y7 => by
    obtain ⟨g1, r1⟩ := h.dn hF h0 rg V st2 (σ' := σ1) (τ' := lj_put τ 63 p (Int32.ofNat me')) fC (tm_63 (lf_rf _ _) _) f97 (c' := cj) (m' := (kY F).2.2.1) f94 (by rw [lj_put_1, if_neg (by omega)]; exact m77) f88 (by rw [lj_put_1, if_pos ⟨rfl, rfl⟩]) (by rw [lj_put_1, if_neg (by omega)]; exact m64) hO hfl (n' := 0) (Or.inl rfl) (fun j => Or.inl (f81 j))
    have fo1 := fpT_o FP p (kTo F cj (kY F).2.2.1 s' (kY F).2.2.2.2.1 (kY F).2.2.2.2.2 0 0 :: L)
    obtain ⟨σ2, ρ', g2, h2, r2⟩ := x_44 g1 fo1 rfl r1 hs x50 q50 hlq y1 y2 y3
    rw [fpT_2, kTo_2] at h2
    have fo2 := fpT_o FP p (kTo F (cj + 1) (kY F).2.2.1 s' ((kY F).2.2.2.2.1.filter (· < x)) (min (kY F).2.2.2.2.2 x) 0 0 :: L)
    obtain ⟨σ3, g3, h3, r3⟩ := x_38 h2 fo2 rfl r2 hs ⟨y4, y5⟩
    rw [fpT_2, kTo_2] at h3
    have fo3 := fpT_o FP p (kTo F tc (kY F).2.2.1 s' ((kY F).2.2.2.2.1.filter (· < x)) (min (kY F).2.2.2.2.2 x) 0 0 :: L)
    obtain ⟨ms3, ks3, ce3, me3, mq3, V3⟩ := h3.w fo3 rfl
    have h4 := h3.el fo3 rfl V3 (τ' := lj_put (lj_put τ2 63 p (Int32.ofNat me')) 77 (48 * p + L.length) (Int32.ofNat (kY F).2.2.1)) (x := x) (by show x ≤ min (kY F).2.2.2.2.2 x; omega) (fun y hy => by
      have hy : y ∈ (kY F).2.2.2.2.1.filter (· < x) := hy
      have := (List.mem_filter.1 hy).2
      simpa using this) (fun k j => by
      by_cases z1 : k = 77 ∧ j = (48 * p + L.length)
      · rw [z1.1, z1.2, lj_put_1, if_pos ⟨rfl, rfl⟩, if_neg (by omega), lj_put_1, if_neg (by omega)]
        exact m77.symm
      · by_cases z2 : k = 63 ∧ j = p
        · rw [z2.1, z2.2, lj_put_1, if_neg (by omega), lj_put_1, if_pos ⟨rfl, rfl⟩, if_neg (by omega), lj_put_1, if_pos ⟨rfl, rfl⟩]
        · rw [lj_put_1, if_neg z1, lj_put_1, if_neg z2, w2, lj_put_1, if_neg z1, lj_put_1, if_neg z2]) (by show τ2.2 = _; rw [w3]; rfl)
    rw [fpT_2, kTo_2] at h4
    have fo4 := fpT_o FP p (kTo F tc (kY F).2.2.1 s' ((kY F).2.2.2.2.1.filter (· < x)) 50 0 0 :: L)
    have r4 : rgR σ3 (lj_put (lj_put τ2 63 p (Int32.ofNat me')) 77 (48 * p + L.length) (Int32.ofNat (kY F).2.2.1)) := by
      obtain ⟨u1, u2, u3, u4, u5⟩ := r3
      have t0 : ∀ j, (lj_put (lj_put τ2 63 p (Int32.ofNat me')) 77 (48 * p + L.length) (Int32.ofNat (kY F).2.2.1)).1 0 j = (lj_put τ 63 p (Int32.ofNat me')).1 0 j := fun j => by rw [lj_put_1, if_neg (by omega), lj_put_1, if_neg (by omega), lj_put_1, if_neg (by omega), o2 0 j (by omega) (by omega)]
      exact ⟨u1, by rw [t0]; exact u2, by rw [t0]; exact u3, by rw [t0]; exact u4, by show _ = τ2.2 0 145; rw [w3]; exact u5⟩
    obtain ⟨ms4, ks4, ce4, me4, mq4, V4⟩ := h4.w fo4 rfl
    obtain ⟨h5, r5⟩ := h4.dn fo4 rfl r4 V4 V4.st (σ' := σ3) (τ' := lj_put (lj_put (lj_put τ2 63 p (Int32.ofNat me')) 77 (48 * p + L.length) (Int32.ofNat (kY F).2.2.1)) 77 (48 * p + L.length) (Int32.ofNat m')) (lf_rf _ _) (tm_77 (lf_rf _ _) _) rfl (c' := tc) (m' := m') V4.2.2.2.2.1.1.2.2.2.1 (by rw [lj_put_1, if_pos ⟨rfl, rfl⟩]) V4.tp (by rw [lj_put_1, if_neg (by omega)]; exact V4.at.2.2.1) (by rw [lj_put_1, if_neg (by omega)]; exact V4.at.2.2.2.2.1) V4.ff.1.2.2.2.1 V4.fl (n' := 0) (Or.inl rfl) (fun j => Or.inl rfl)
    rw [fpT_2, kTo_2] at h5
    have h6 := MB.fin (F := F) h5 r5 y7
    have et : lj_put (lj_put (lj_put τ2 77 (48 * p + L.length) (Int32.ofNat ((kY F).2.2.1 + 1 + 1))) 63 p (Int32.ofNat me')) 77 (48 * p + L.length) (Int32.ofNat m') = lj_put (lj_put (lj_put τ2 63 p (Int32.ofNat me')) 77 (48 * p + L.length) (Int32.ofNat (kY F).2.2.1)) 77 (48 * p + L.length) (Int32.ofNat m') := by
      rw [put_put (lj_put τ2 63 p (Int32.ofNat me')), put_cm (lj_put τ2 77 (48 * p + L.length) (Int32.ofNat ((kY F).2.2.1 + 1 + 1))) (Int32.ofNat me') (Int32.ofNat m') (k := 63) (i := p) (k' := 77) (i' := (48 * p + L.length)) (by omega), put_put τ2, put_cm τ2 (Int32.ofNat m') (Int32.ofNat me') (k := 77) (i := (48 * p + L.length)) (k' := 63) (i' := p) (by omega)]
    rw [et] at y6
    exact ⟨ρ', σ3, _, fun v => (g0 v).trans ((g2 v).trans (g3 v)), fun y => (run_step rg.2.1 rg.2.2.1 s1 y).trans (run_step (by rw [o2 0 143 (by omega) (by omega)]; exact rg.2.1) (by rw [o2 0 129 (by omega) (by omega)]; exact rg.2.2.1) y6 y), h6, r5⟩
  have s2 : ∀ (m' : Nat) (v : Int32), (if tru (cv σ ce') = true then Int32.ofNat ((kY F).2.2.1 + 1) + 1 else Int32.ofNat t') = Int32.ofNat m' → lj_R lm_P 121 [.ref 0] τ2 = some (.inl (some (.int 1)), lj_put (lj_put (lj_put τ2 77 (48 * p + L.length) (Int32.ofNat ((kY F).2.2.1 + 1 + 1))) 63 p (Int32.ofNat me')) 77 (48 * p + L.length) (Int32.ofNat m')) := fun m' v ev => m_lx h hF h0 hs (o2 0 111 (by omega) (by omega)) (o2 62 p (by omega) (by omega)) (fun k j z1 z2 => o2 k j (by omega) (by omega)) o77 at2 (fun _ => nn) k7 (by decide) (fun z1 z2 z3 => by
    rw [my_22 _ z1 z3, tk2, dr, bv_ok, mt, bi_ok, k7']
    by_cases tv : tru (cv σ ce') = true
    · rw [if_pos tv] at ev ⊢
      rw [if_neg (by decide), km_127_334, if_pos (ofN_in (by omega) (by omega)), km_127_420, lz_onat (by omega), ev]
    · rw [if_neg tv] at ev ⊢
      rw [if_pos rfl, km_127_334, if_pos (ofN_in (by omega) (by omega)), km_127_420, lz_onat (by omega), ev])
  by_cases tv : tru (cv σ ce') = true
  · rw [if_pos tv] at ct
    obtain ⟨ρ', σ', τ', z1, z2, z3, z4⟩ := fin ((kY F).2.1 + 1) o 0 ((kY F).2.2.1 + 2) (lj_put (lj_put σ 94 (20 * p + L.length) (Int32.ofNat ((kY F).2.1 + 1))) 8 8 (Int32.ofNat ce')) (go_step rg.1 (by
      rw [ca_x σ c1 c3 c4 cA cL cK (by decide), c2, lz_osucc, cg_31 _ c4 (by rw [lj_put_1, if_neg (by omega)]; exact cK), if_pos i1, if_pos i1, i2, i3, ct, bi_ok, if_neg (by decide), kc_217_917, bv_ok, kc_139_1051])) (tq_88 (tq_94 (lf_rf _ _) _) _) (by simp [lj_put_1, lj_putL_1]) (by simp [lj_put_1, lj_putL_1]) (by simp [lj_put_1, lj_putL_1]) (fun j => (by simp [lj_put_1, lj_putL_1])) k3 k3' k3'' k4 k4' (s2 ((kY F).2.2.1 + 2) 0 (by rw [if_pos tv, lz_osucc])) (hn _ List.mem_cons_self)
    exact ⟨ρ', σ', τ', _, List.mem_cons_self, z1, z2, z3, z4⟩
  · rw [if_neg tv] at ct
    obtain ⟨ρ', σ', τ', z1, z2, z3, z4⟩ := fin a t 0 t' (lj_put (lj_put (lj_put σ 94 (20 * p + L.length) (Int32.ofNat ((kY F).2.1 + 1))) 8 8 (Int32.ofNat ce')) 94 (20 * p + L.length) (Int32.ofNat a)) (go_step rg.1 (by
      rw [ca_x σ c1 c3 c4 cA cL cK (by decide), c2, lz_osucc, cg_31 _ c4 (by rw [lj_put_1, if_neg (by omega)]; exact cK), if_pos i1, if_pos i1, i2, i3, ct, bi_ok, if_pos rfl, e34, if_pos (ofN_in (by omega) (by omega)), kc_217_917, bv_ok, kc_139_1051, lz_onat (by omega), k1'])) (tq_94 (tq_88 (tq_94 (lf_rf _ _) _) _) _) (by simp [lj_put_1, lj_putL_1]) (by simp [lj_put_1, lj_putL_1]) (by simp [lj_put_1, lj_putL_1]) (fun j => (by simp [lj_put_1, lj_putL_1])) k5 k5' k5'' k6 k6' (s2 t' 0 (by rw [if_neg tv])) (hn _ (List.mem_cons_of_mem _ List.mem_cons_self))
    exact ⟨ρ', σ', τ', _, List.mem_cons_of_mem _ List.mem_cons_self, z1, z2, z3, z4⟩
