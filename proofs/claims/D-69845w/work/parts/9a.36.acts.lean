/-! acts that take values off, tests and jumps -/
/-- the same frame at a point -/
def kAt (F : kF) (z : pT) (n : Nat) : kF := kTo F z.2.1 z.2.2.1 z.2.2.2.1 z.2.2.2.2.1 z.2.2.2.2.2 n 0
/-- both go on: to one of the points -/
def nxR (σ0 τ0 : lj_S) (n np p : Nat) (r : List Nat) (FP : Nat → List kF) (ρ : Nat → Nat) (A MO LA : List Nat) (σ τ : lj_S) (F : kF) (L : List kF) (n' : Nat) (Z : List pT) : Prop :=
  ∃ σ' τ' z, z ∈ Z ∧ (∀ v, goC v σ = goC v σ') ∧ (∀ x, mRun x τ = mRun x τ') ∧ MB σ0 τ0 n np p r (fpT FP p (kAt F z (n' + 1) :: L)) ρ A MO LA σ' τ' ∧ rgR σ' τ'
theorem sOK.tl {x : Nat} {s : List Nat} (h : sOK (x :: s)) : sOK s := by
  obtain ⟨h1, h2, h3, h4⟩ := h
  have e1 : va (x :: s) = (if x = 3 ∨ x = 4 then 3 else if x = 1 ∨ x = 2 then 0 else 1) + va s := rfl
  have e2 : ∀ y, cn y (x :: s) = (if x = y then 1 else 0) + cn y s := fun y => rfl
  rw [e1] at h1
  rw [e2] at h2 h3
  exact ⟨by omega, by omega, by omega, fun y hy => h4 y (List.mem_of_mem_tail hy)⟩
theorem flo_t (x : Nat) (s : List Nat) : (flo s).length ≤ (flo (x :: s)).length := by
  unfold flo
  rw [List.length_reverse, List.length_reverse]
  by_cases e : x = 3 ∨ x = 4
  · rw [List.filter_cons_of_pos (by rcases e with e | e <;> simp [e]), List.length_cons]; omega
  · rw [List.filter_cons_of_neg (by simp; omega)]; omega
theorem vw.fl {σ0 τ0 σ τ : lj_S} {ρ : Nat → Nat} {FP : Nat → List kF} {p : Nat} {F : kF} {L : List kF} {ms ks ce me mq : Nat} (V : vw σ0 τ0 σ τ ρ FP p F L ms ks ce me mq) : (flo (kY F).2.2.2.1).length ≤ nH σ0 (kY F).1 := V.2.2.2.2.1.2.2.2.2.1.2.2.2.2
/-- the component's top, one below -/
theorem c_pre {t : Nat} {x : Int32} (h : x = Int32.ofNat (t + 1)) (ht : t < 325000) : lj_in (x - 1) 325000 ∧ (x - 1).toNatClampNeg = t ∧ x - 1 = Int32.ofNat t := by
  have e : x - 1 = Int32.ofNat t := by rw [h]; exact lz_pred' t
  exact ⟨by rw [e]; exact ofN_in ht (by omega), by rw [e]; exact lz_onat (by omega), e⟩
/-- whether a value is true: the model's -/
theorem m_isTrue (τ : lj_S) (a : vT) : lj_R lm_P 151 [.int a.1, .long a.2] τ = some (.inl (some (.int (if tru a then 1 else 0))), τ) := by
  rw [rm_151, km_151_0]
  unfold tru
  by_cases h0 : a.1 = 0
  · rw [if_pos h0, km_151_19, km_151_20]
    simp [h0]
    rfl
  · rw [if_neg h0]
    by_cases h1 : a.1 = 1
    · rw [if_pos h1]
      by_cases h2 : a.2 = 0
      · rw [if_pos (by rw [lg0]; exact h2), km_151_19, km_151_20]
        simp [h1, h2]
        rfl
      · rw [if_neg (by rw [lg0]; exact h2), km_151_15, km_151_20]
        simp [h1, h2]
        rfl
    · rw [if_neg h1, km_151_15, km_151_20]
      simp [h0, h1]
      rfl
theorem cv_p {σ : lj_S} {k i : Nat} {v : Int32} (j : Nat) (h : k ≠ 79) : cv (lj_put σ k i v) j = cv σ j := by
  unfold cv
  rw [lj_put_1, if_neg (fun z => h z.1.symm)]
  rfl
theorem mv_p {τ : lj_S} {k i : Nat} {v : Int32} (j : Nat) (h : k ≠ 71) : mv (lj_put τ k i v) j = mv τ j := by
  unfold mv
  rw [lj_put_1, if_neg (fun z => h z.1.symm)]
  rfl
theorem mAt_p {τ : lj_S} {p me mq i : Nat} {v : Int32} (h : mAt τ p me mq) : mAt (lj_put τ 77 i v) p me mq := by
  obtain ⟨a1, a2, a3, a4, a5, a6⟩ := h
  exact ⟨by rw [lj_put_1, if_neg (by omega)]; exact a1, a2, by rw [lj_put_1, if_neg (by omega)]; exact a3, a4, by rw [lj_put_1, if_neg (by omega)]; exact a5, a6⟩
/-- fewer values on both -/
theorem MB.dn {σ0 τ0 σ τ : lj_S} {n np p : Nat} {r : List Nat} {FP : Nat → List kF} {ρ : Nat → Nat} {A MO LA : List Nat} (h : MB σ0 τ0 n np p r FP ρ A MO LA σ τ) {F : kF} {L : List kF} (hF : FP p = F :: L) (h0 : kS F = 0) (rg : rgR σ τ) {ms ks ce me mq : Nat} (V : vw σ0 τ0 σ τ ρ FP p F L ms ks ce me mq) {σ' τ' : lj_S} {s1 : List Nat} {ce1 me1 mq1 : Nat} (b : stk σ τ p (kB F + nL σ0 (kY F).1) (kB F + nL σ0 (kY F).1 + 3 * nH σ0 (kY F).1) (ms + kD F) ks s1 ce1 me1 mq1 (σ.1 97 (20 * p + L.length))) (f : lf (tqC p (20 * p + L.length) ce1) σ σ') (g : lf (tqM p (48 * p + L.length) me1 mq1) τ τ') (e97 : σ'.1 97 (20 * p + L.length) = σ.1 97 (20 * p + L.length)) {c' m' n' : Nat} (e94 : σ'.1 94 (20 * p + L.length) = Int32.ofNat c') (e77 : τ'.1 77 (48 * p + L.length) = Int32.ofNat m') (e8 : σ'.1 8 8 = Int32.ofNat ce1) (e63 : τ'.1 63 p = Int32.ofNat me1) (e64 : τ'.1 64 p = Int32.ofNat mq1) (hO : sOK s1) (hfl : (flo s1).length ≤ nH σ0 (kY F).1) (hn : n' = 0 ∨ n' ≠ 0 ∧ gn σ0 τ0 (n' - 1) ((kY F).1, c', m', s1, (kY F).2.2.2.2.1, (kY F).2.2.2.2.2)) (g81 : ∀ j, σ'.1 81 j = σ.1 81 j ∨ σ'.1 81 j = -1 := by intro j; left; simp [lj_put_1, lj_putL_1]) :
    MB σ0 τ0 n np p r (fpT FP p (kTo F c' m' s1 (kY F).2.2.2.2.1 (kY F).2.2.2.2.2 n' 0 :: L)) ρ A MO LA σ' τ' ∧ rgR σ' τ' := by
  obtain ⟨b1, b2, b3, _⟩ := stk_bd b
  exact h.tp hF h0 rg V b1 b2 b3 f g b (Nat.le_refl _) (Nat.le_refl _) (Nat.le_refl _) hfl (fun z => by rw [e97]; exact z) e94 e77 e8 e63 e64 hO hfl hn g81
theorem fpT_2 (FP : Nat → List kF) (p : Nat) (X Y : List kF) : fpT (fpT FP p X) p Y = fpT FP p Y := by
  funext q
  unfold fpT
  by_cases z : q = p
  · rw [if_pos z, if_pos z]
  · rw [if_neg z, if_neg z, if_neg z]
theorem fpT_o (FP : Nat → List kF) (p : Nat) (X : List kF) : fpT FP p X p = X := by unfold fpT; rw [if_pos rfl]
/-- the act is done -/
theorem MB.fin {σ0 τ0 σ τ : lj_S} {n np p : Nat} {r : List Nat} {FP : Nat → List kF} {ρ : Nat → Nat} {A MO LA : List Nat} {F : kF} {L : List kF} {c m n1 n' : Nat} {s l : List Nat} {dd : Nat} (h : MB σ0 τ0 n np p r (fpT FP p (kTo F c m s l dd n1 0 :: L)) ρ A MO LA σ τ) (rg : rgR σ τ) (hn : gn σ0 τ0 n' ((kY F).1, c, m, s, l, dd)) : MB σ0 τ0 n np p r (fpT FP p (kTo F c m s l dd (n' + 1) 0 :: L)) ρ A MO LA σ τ := by
  have hF := fpT_o FP p (kTo F c m s l dd n1 0 :: L)
  obtain ⟨ms, ks, ce, me, mq, V⟩ := h.w hF rfl
  have st := V.st
  obtain ⟨b1, b2, b3, _⟩ := stk_bd st
  have := (h.tp hF rfl rg V b1 b2 b3 (lf_rf _ _) (lf_rf _ _) st (Nat.le_refl _) (Nat.le_refl _) (Nat.le_refl _) V.fl id V.2.2.2.2.1.1.2.2.2.1 V.2.2.2.2.1.2.1.2.2.2.1 V.tp V.at.2.2.1 V.at.2.2.2.2.1 V.ff.1.2.2.2.1 V.fl (n' := n' + 1) (Or.inr ⟨Nat.succ_ne_zero _, hn⟩)).1
  rw [fpT_2] at this
  exact this
/-- a jump when the value is not true -/
theorem x_39 {σ0 τ0 σ τ : lj_S} {n np p : Nat} {r : List Nat} {FP : Nat → List kF} {ρ : Nat → Nat} {A MO LA : List Nat} (h : MB σ0 τ0 n np p r FP ρ A MO LA σ τ) {F : kF} {L : List kF} (hF : FP p = F :: L) (h0 : kS F = 0) (rg : rgR σ τ) (hs : stF σ0 τ0) {a a' : Nat} {s' : List Nat} (hsh : (kY F).2.2.2.1 = 0 :: s') (k1 : σ0.1 22 (kY F).2.1 = 31) (k1' : σ0.1 23 (kY F).2.1 = Int32.ofNat a) (k2 : τ0.1 20 (kY F).2.2.1 = 22) (k2' : τ0.1 21 (kY F).2.2.1 = Int32.ofNat a') :
    ∃ σ' τ' c' m', (c' = (kY F).2.1 + 1 ∧ m' = (kY F).2.2.1 + 1 ∨ c' = a ∧ m' = a') ∧ (∀ v, goC v σ = goC v σ') ∧ (∀ x, mRun x τ = mRun x τ') ∧ MB σ0 τ0 n np p r (fpT FP p (kTo F c' m' s' (kY F).2.2.2.2.1 (kY F).2.2.2.2.2 0 0 :: L)) ρ A MO LA σ' τ' ∧ rgR σ' τ' := by
  obtain ⟨ms, ks, ce, me, mq, V⟩ := h.w hF h0
  have B := V.bd
  have st := V.st
  have hO := V.ff.1.2.2.2.1
  have hfl := V.fl
  rw [hsh] at st hO hfl
  obtain ⟨ce', me', rfl, rfl, hv, _, _, _, st⟩ := st.u0 (Or.inl rfl)
  obtain ⟨c1, c2, c3, c4, cA, cL, cK, c5⟩ := c_ft h hF h0 hs k1 (by decide)
  obtain ⟨i1, i2, i3⟩ := c_pre (x := (lj_put σ 94 (20 * p + L.length) (Int32.ofNat ((kY F).2.1 + 1))).1 8 8) (t := ce') (by rw [lj_put_1, if_neg (by omega)]; exact V.tp) (by omega)
  have ct : lj_R lc_P 146 [.ref 8, .int ((lj_put σ 94 (20 * p + L.length) (Int32.ofNat ((kY F).2.1 + 1))).1 79 ce'), .long ((lj_put σ 94 (20 * p + L.length) (Int32.ofNat ((kY F).2.1 + 1))).2 80 ce')] (lj_put (lj_put σ 94 (20 * p + L.length) (Int32.ofNat ((kY F).2.1 + 1))) 8 8 (Int32.ofNat ce')) = some (.inl (some (.int (if tru (cv σ ce') then 1 else 0))), lj_put (lj_put σ 94 (20 * p + L.length) (Int32.ofNat ((kY F).2.1 + 1))) 8 8 (Int32.ofNat ce')) := by
    have := c_isTrue (lj_put (lj_put σ 94 (20 * p + L.length) (Int32.ofNat ((kY F).2.1 + 1))) 8 8 (Int32.ofNat ce')) (cv (lj_put σ 94 (20 * p + L.length) (Int32.ofNat ((kY F).2.1 + 1))) ce')
    rw [cv_p ce' (by decide)] at this
    exact this
  have e34 : (lj_put (lj_put σ 94 (20 * p + L.length) (Int32.ofNat ((kY F).2.1 + 1))) 8 8 (Int32.ofNat ce')).1 8 34 = Int32.ofNat (20 * p + L.length) := by rw [lj_put_1, if_neg (by omega), lj_put_1, if_neg (by omega)]; exact V.i34
  have at1 := mAt_p (i := (48 * p + L.length)) (v := Int32.ofNat ((kY F).2.2.1 + 1)) V.at
  have dr := m_drop at1 (d := 1) (by omega)
  have dr : lj_R lm_P 126 [.ref 0, .int 1] (lj_put τ 77 (48 * p + L.length) (Int32.ofNat ((kY F).2.2.1 + 1))) = some (.inl none, lj_put (lj_put τ 77 (48 * p + L.length) (Int32.ofNat ((kY F).2.2.1 + 1))) 63 p (Int32.ofNat me')) := dr
  have mt := m_isTrue (lj_put (lj_put τ 77 (48 * p + L.length) (Int32.ofNat ((kY F).2.2.1 + 1))) 63 p (Int32.ofNat me')) (mv τ (10000 * p + me'))
  have em : mv τ (10000 * p + me') = tk τ p (me' + 1) := (tk_1 τ p me').symm
  rw [tru_R hv, em] at mt
  have hO := hO.tl
  have hfl : (flo s').length ≤ nH σ0 (kY F).1 := Nat.le_trans (flo_t 0 s') hfl
  have m64 : τ.1 64 p = Int32.ofNat mq := V.at.2.2.2.2.1
  by_cases tv : tru (cv σ ce') = true
  · rw [if_pos tv] at ct mt
    obtain ⟨g1, g2⟩ := h.dn hF h0 rg V st (σ' := lj_put (lj_put σ 94 (20 * p + L.length) (Int32.ofNat ((kY F).2.1 + 1))) 8 8 (Int32.ofNat ce')) (τ' := lj_put (lj_put (lj_put τ 77 (48 * p + L.length) (Int32.ofNat ((kY F).2.2.1 + 1))) 63 p (Int32.ofNat me')) 77 (48 * p + L.length) (Int32.ofNat ((kY F).2.2.1 + 1))) (tq_88 (tq_94 (lf_rf _ _) _) _) (tm_77 (tm_63 (tm_77 (lf_rf _ _) _) _) _) (by simp [lj_put_1, lj_putL_1]) (c' := (kY F).2.1 + 1) (m' := (kY F).2.2.1 + 1) (by simp [lj_put_1, lj_putL_1]) (by simp [lj_put_1, lj_putL_1]) (by simp [lj_put_1, lj_putL_1]) (by simp [lj_put_1, lj_putL_1]) (by simp [lj_put_1, m64]) hO hfl (n' := 0) (Or.inl rfl)
    refine ⟨_, _, _, _, Or.inl ⟨rfl, rfl⟩, go_step rg.1 ?_, run_step rg.2.1 rg.2.2.1 (m_lo h hF h0 V hs k2 (by decide) (fun z1 z2 => ?_)), g1, g2⟩
    · rw [ca_x σ c1 c3 c4 cA cL cK (by decide), c2, lz_osucc, cg_31 _ c4 (by rw [lj_put_1, if_neg (by omega)]; exact cK), if_pos i1, if_pos i1, i2, i3, ct, bi_ok, if_neg (by decide), kc_217_917, bv_ok, kc_139_1051]
    · rw [my_22 _ z1 z2, dr, bv_ok, mt, bi_ok, if_neg (by decide), km_127_334, if_pos (ofN_in (by omega) (by omega)), km_127_420, lz_onat (by omega), lz_osucc]
  · rw [if_neg tv] at ct mt
    obtain ⟨g1, g2⟩ := h.dn hF h0 rg V st (σ' := lj_put (lj_put (lj_put σ 94 (20 * p + L.length) (Int32.ofNat ((kY F).2.1 + 1))) 8 8 (Int32.ofNat ce')) 94 (20 * p + L.length) (Int32.ofNat a)) (τ' := lj_put (lj_put (lj_put τ 77 (48 * p + L.length) (Int32.ofNat ((kY F).2.2.1 + 1))) 63 p (Int32.ofNat me')) 77 (48 * p + L.length) (Int32.ofNat a')) (tq_94 (tq_88 (tq_94 (lf_rf _ _) _) _) _) (tm_77 (tm_63 (tm_77 (lf_rf _ _) _) _) _) (by simp [lj_put_1, lj_putL_1]) (c' := a) (m' := a') (by simp [lj_put_1, lj_putL_1]) (by simp [lj_put_1, lj_putL_1]) (by simp [lj_put_1, lj_putL_1]) (by simp [lj_put_1, lj_putL_1]) (by simp [lj_put_1, m64]) hO hfl (n' := 0) (Or.inl rfl)
    refine ⟨_, _, _, _, Or.inr ⟨rfl, rfl⟩, go_step rg.1 ?_, run_step rg.2.1 rg.2.2.1 (m_lo h hF h0 V hs k2 (by decide) (fun z1 z2 => ?_)), g1, g2⟩
    · rw [ca_x σ c1 c3 c4 cA cL cK (by decide), c2, lz_osucc, cg_31 _ c4 (by rw [lj_put_1, if_neg (by omega)]; exact cK), if_pos i1, if_pos i1, i2, i3, ct, bi_ok, if_pos rfl, e34, if_pos (ofN_in (by omega) (by omega)), kc_217_917, bv_ok, kc_139_1051, lz_onat (by omega), k1']
    · rw [my_22 _ z1 z2, dr, bv_ok, mt, bi_ok, if_pos rfl, km_127_334, if_pos (ofN_in (by omega) (by omega)), km_127_420, lz_onat (by omega), k2']
theorem act_39 {σ0 τ0 σ τ : lj_S} {n np p : Nat} {r : List Nat} {FP : Nat → List kF} {ρ : Nat → Nat} {A MO LA : List Nat} (h : MB σ0 τ0 n np p r FP ρ A MO LA σ τ) {F : kF} {L : List kF} (hF : FP p = F :: L) (h0 : kS F = 0) (rg : rgR σ τ) (hs : stF σ0 τ0) {Z : List pT} (hk : insK σ0 τ0 (kY F).1 (kY F).2.1 (kY F).2.2.1 (kY F).2.2.2.1 (kY F).2.2.2.2.1 (kY F).2.2.2.2.2 Z 39) {n' : Nat} (hn : ∀ z ∈ Z, gn σ0 τ0 n' z) : nxR σ0 τ0 n np p r FP ρ A MO LA σ τ F L n' Z := by
  obtain ⟨a, a', s', ha, ⟨ha', _, _⟩, hsh, k1, k1', k2, k2', rfl⟩ := hk
  obtain ⟨σ', τ', c', m', hc, g1, g2, g3, g4⟩ := x_39 h hF h0 rg hs hsh k1 k1' k2 k2'
  rcases hc with ⟨rfl, rfl⟩ | ⟨rfl, rfl⟩
  · exact ⟨σ', τ', _, List.mem_cons_self, g1, g2, g3.fin g4 (hn _ List.mem_cons_self), g4⟩
  · exact ⟨σ', τ', _, List.mem_cons_of_mem _ List.mem_cons_self, g1, g2, g3.fin g4 (hn _ (List.mem_cons_of_mem _ List.mem_cons_self)), g4⟩
/-- the component jumps, in the middle of an act -/
theorem x_38 {σ0 τ0 σ τ : lj_S} {n np p : Nat} {r : List Nat} {FP : Nat → List kF} {ρ : Nat → Nat} {A MO LA : List Nat} (h : MB σ0 τ0 n np p r FP ρ A MO LA σ τ) {F : kF} {L : List kF} (hF : FP p = F :: L) (h0 : kS F = 0) (rg : rgR σ τ) (hs : stF σ0 τ0) {a : Nat} (k1 : σ0.1 22 (kY F).2.1 = 30 ∧ σ0.1 23 (kY F).2.1 = Int32.ofNat a) :
    ∃ σ', (∀ v, goC v σ = goC v σ') ∧ MB σ0 τ0 n np p r (fpT FP p (kTo F a (kY F).2.2.1 (kY F).2.2.2.1 (kY F).2.2.2.2.1 (kY F).2.2.2.2.2 0 0 :: L)) ρ A MO LA σ' τ ∧ rgR σ' τ := by
  obtain ⟨ms, ks, ce, me, mq, V⟩ := h.w hF h0
  obtain ⟨g1, g2⟩ := h.dn hF h0 rg V V.st (σ' := lj_put (lj_put σ 94 (20 * p + L.length) (Int32.ofNat ((kY F).2.1 + 1))) 94 (20 * p + L.length) (Int32.ofNat a)) (τ' := τ) (tq_94 (tq_94 (lf_rf _ _) _) _) (lf_rf _ _) (by simp [lj_put_1, lj_putL_1]) (c' := a) (by simp [lj_put_1, lj_putL_1]) V.2.2.2.2.1.2.1.2.2.2.1 (by simp [lj_put_1, V.tp]) V.at.2.2.1 V.at.2.2.2.2.1 V.ff.1.2.2.2.1 V.fl (n' := 0) (Or.inl rfl)
  exact ⟨_, go_step rg.1 (c_jump h hF h0 hs k1), g1, g2⟩
/-- until, without locals -/
theorem act_41 {σ0 τ0 σ τ : lj_S} {n np p : Nat} {r : List Nat} {FP : Nat → List kF} {ρ : Nat → Nat} {A MO LA : List Nat} (h : MB σ0 τ0 n np p r FP ρ A MO LA σ τ) {F : kF} {L : List kF} (hF : FP p = F :: L) (h0 : kS F = 0) (rg : rgR σ τ) (hs : stF σ0 τ0) {Z : List pT} (hk : insK σ0 τ0 (kY F).1 (kY F).2.1 (kY F).2.2.1 (kY F).2.2.2.1 (kY F).2.2.2.2.1 (kY F).2.2.2.2.2 Z 41) {n' : Nat} (hn : ∀ z ∈ Z, gn σ0 τ0 n' z) : nxR σ0 τ0 n np p r FP ρ A MO LA σ τ F L n' Z := by
  obtain ⟨a, t, t', o, s', ha, ht, ⟨ht', _, _⟩, ⟨ho, _⟩, hsh, k1, k1', k3, k3', k4, k4', k2, k2', rfl⟩ := hk
  obtain ⟨σ1, τ1, c', m', hc, g1, g2, g3, g4⟩ := x_39 h hF h0 rg hs hsh k1 k1' k2 k2'
  have fo := fpT_o FP p (kTo F c' m' s' (kY F).2.2.2.2.1 (kY F).2.2.2.2.2 0 0 :: L)
  rcases hc with ⟨rfl, rfl⟩ | ⟨rfl, rfl⟩
  · obtain ⟨σ2, e1, e2, e3⟩ := x_38 g3 fo rfl g4 hs ⟨k3, k3'⟩
    rw [fpT_2] at e2
    have e2 := MB.fin (F := F) e2 e3 (hn _ List.mem_cons_self)
    exact ⟨σ2, τ1, _, List.mem_cons_self, fun v => (g1 v).trans (e1 v), g2, e2, e3⟩
  · obtain ⟨σ2, e1, e2, e3⟩ := x_38 g3 fo rfl g4 hs ⟨k4, k4'⟩
    rw [fpT_2] at e2
    have e2 := MB.fin (F := F) e2 e3 (hn _ (List.mem_cons_of_mem _ List.mem_cons_self))
    exact ⟨σ2, τ1, _, List.mem_cons_of_mem _ List.mem_cons_self, fun v => (g1 v).trans (e1 v), g2, e2, e3⟩
