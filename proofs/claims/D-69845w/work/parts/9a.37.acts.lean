/-! and, or -/
theorem act_40 {σ0 τ0 σ τ : lj_S} {n np p : Nat} {r : List Nat} {FP : Nat → List kF} {ρ : Nat → Nat} {A MO LA : List Nat} (h : MB σ0 τ0 n np p r FP ρ A MO LA σ τ) {F : kF} {L : List kF} (hF : FP p = F :: L) (h0 : kS F = 0) (rg : rgR σ τ) (hs : stF σ0 τ0) {Z : List pT} (hk : insK σ0 τ0 (kY F).1 (kY F).2.1 (kY F).2.2.1 (kY F).2.2.2.1 (kY F).2.2.2.2.1 (kY F).2.2.2.2.2 Z 40) {n' : Nat} (hn : ∀ z ∈ Z, gn σ0 τ0 n' z) : nxR σ0 τ0 n np p r FP ρ A MO LA σ τ F L n' Z := by
  obtain ⟨a, a', s', ha, ⟨ha', _, _⟩, hsh, kk, k1', k2', rfl⟩ := hk
  obtain ⟨ms, ks, ce, me, mq, V⟩ := h.w hF h0
  have B := V.bd
  have st0 := V.st
  have hO0 := V.ff.1.2.2.2.1
  have hfl0 := V.fl
  have m64 : τ.1 64 p = Int32.ofNat mq := V.at.2.2.2.2.1
  have m63 : τ.1 63 p = Int32.ofNat me := V.at.2.2.1
  have st := st0
  have hO := hO0
  have hfl := hfl0
  rw [hsh] at st hO hfl
  obtain ⟨ce', me', rfl, rfl, hv, _, _, _, st⟩ := st.u0 (Or.inl rfl)
  have hO := hO.tl
  have hfl : (flo s').length ≤ nH σ0 (kY F).1 := Nat.le_trans (flo_t 0 s') hfl
  obtain ⟨i1, i2, i3⟩ := c_pre (x := (lj_put σ 94 (20 * p + L.length) (Int32.ofNat ((kY F).2.1 + 1))).1 8 8) (t := ce') (by rw [lj_put_1, if_neg (by omega)]; exact V.tp) (by omega)
  have ct : lj_R lc_P 146 [.ref 8, .int ((lj_put σ 94 (20 * p + L.length) (Int32.ofNat ((kY F).2.1 + 1))).1 79 ce'), .long ((lj_put σ 94 (20 * p + L.length) (Int32.ofNat ((kY F).2.1 + 1))).2 80 ce')] (lj_put σ 94 (20 * p + L.length) (Int32.ofNat ((kY F).2.1 + 1))) = some (.inl (some (.int (if tru (cv σ ce') then 1 else 0))), lj_put σ 94 (20 * p + L.length) (Int32.ofNat ((kY F).2.1 + 1))) := by
    have := c_isTrue (lj_put σ 94 (20 * p + L.length) (Int32.ofNat ((kY F).2.1 + 1))) (cv (lj_put σ 94 (20 * p + L.length) (Int32.ofNat ((kY F).2.1 + 1))) ce')
    rw [cv_p ce' (by decide)] at this
    exact this
  have e34 : (lj_put σ 94 (20 * p + L.length) (Int32.ofNat ((kY F).2.1 + 1))).1 8 34 = Int32.ofNat (20 * p + L.length) := by rw [lj_put_1, if_neg (by omega)]; exact V.i34
  have at1 := mAt_p (i := (48 * p + L.length)) (v := Int32.ofNat ((kY F).2.2.1 + 1)) V.at
  have dr := m_drop at1 (d := 1) (by omega)
  have dr : lj_R lm_P 126 [.ref 0, .int 1] (lj_put τ 77 (48 * p + L.length) (Int32.ofNat ((kY F).2.2.1 + 1))) = some (.inl none, lj_put (lj_put τ 77 (48 * p + L.length) (Int32.ofNat ((kY F).2.2.1 + 1))) 63 p (Int32.ofNat me')) := dr
  have mt := m_isTrue (lj_put τ 77 (48 * p + L.length) (Int32.ofNat ((kY F).2.2.1 + 1))) (mv τ (10000 * p + me'))
  have em : mv τ (10000 * p + me') = tk τ p (me' + 1) := (tk_1 τ p me').symm
  rw [tru_R hv, em] at mt
  -- the value stays, both jump
  have stay : MB σ0 τ0 n np p r (fpT FP p (kAt F ((kY F).1, a, a', (kY F).2.2.2.1, (kY F).2.2.2.2.1, (kY F).2.2.2.2.2) (n' + 1) :: L)) ρ A MO LA (lj_put (lj_put σ 94 (20 * p + L.length) (Int32.ofNat ((kY F).2.1 + 1))) 94 (20 * p + L.length) (Int32.ofNat a)) (lj_put (lj_put τ 77 (48 * p + L.length) (Int32.ofNat ((kY F).2.2.1 + 1))) 77 (48 * p + L.length) (Int32.ofNat a')) ∧ rgR (lj_put (lj_put σ 94 (20 * p + L.length) (Int32.ofNat ((kY F).2.1 + 1))) 94 (20 * p + L.length) (Int32.ofNat a)) (lj_put (lj_put τ 77 (48 * p + L.length) (Int32.ofNat ((kY F).2.2.1 + 1))) 77 (48 * p + L.length) (Int32.ofNat a')) :=
    h.dn hF h0 rg V st0 (tq_94 (tq_94 (lf_rf _ _) _) _) (tm_77 (tm_77 (lf_rf _ _) _) _) (by simp [lj_put_1, lj_putL_1]) (by simp [lj_put_1, lj_putL_1]) (by simp [lj_put_1, lj_putL_1]) (by simp [lj_put_1, V.tp]) (by simp [lj_put_1, m63]) (by simp [lj_put_1, m64]) hO0 hfl0 (Or.inr ⟨Nat.succ_ne_zero _, hn ((kY F).1, a, a', (kY F).2.2.2.1, (kY F).2.2.2.2.1, (kY F).2.2.2.2.2) (List.mem_cons_of_mem _ List.mem_cons_self)⟩)
  have down : MB σ0 τ0 n np p r (fpT FP p (kAt F ((kY F).1, (kY F).2.1 + 1, (kY F).2.2.1 + 1, s', (kY F).2.2.2.2.1, (kY F).2.2.2.2.2) (n' + 1) :: L)) ρ A MO LA (lj_put (lj_put σ 94 (20 * p + L.length) (Int32.ofNat ((kY F).2.1 + 1))) 8 8 (Int32.ofNat ce')) (lj_put (lj_put τ 77 (48 * p + L.length) (Int32.ofNat ((kY F).2.2.1 + 1))) 63 p (Int32.ofNat me')) ∧ rgR (lj_put (lj_put σ 94 (20 * p + L.length) (Int32.ofNat ((kY F).2.1 + 1))) 8 8 (Int32.ofNat ce')) (lj_put (lj_put τ 77 (48 * p + L.length) (Int32.ofNat ((kY F).2.2.1 + 1))) 63 p (Int32.ofNat me')) :=
    h.dn hF h0 rg V st (tq_88 (tq_94 (lf_rf _ _) _) _) (tm_63 (tm_77 (lf_rf _ _) _) _) (by simp [lj_put_1, lj_putL_1]) (by simp [lj_put_1, lj_putL_1]) (by simp [lj_put_1, lj_putL_1]) (by simp [lj_put_1, lj_putL_1]) (by simp [lj_put_1, lj_putL_1]) (by simp [lj_put_1, m64]) hO hfl (Or.inr ⟨Nat.succ_ne_zero _, hn ((kY F).1, (kY F).2.1 + 1, (kY F).2.2.1 + 1, s', (kY F).2.2.2.2.1, (kY F).2.2.2.2.2) List.mem_cons_self⟩)
  have mi34 : lj_in (Int32.ofNat (48 * p + L.length)) 1248 := ofN_in (by omega) (by omega)
  rcases kk with ⟨k1, k2⟩ | ⟨k1, k2⟩
  · obtain ⟨c1, c2, c3, c4, cA, cL, cK, c5⟩ := c_ft h hF h0 hs k1 (by decide)
    have cK' : (lj_put σ 94 (20 * p + L.length) (Int32.ofNat ((kY F).2.1 + 1))).1 22 (Int32.ofNat (kY F).2.1).toNatClampNeg = 32 := by rw [lj_put_1, if_neg (by omega)]; exact cK
    by_cases tv : tru (cv σ ce') = true
    · rw [if_pos tv] at ct mt
      refine ⟨_, _, _, List.mem_cons_self, go_step rg.1 ?_, run_step rg.2.1 rg.2.2.1 (m_lo h hF h0 V hs k2 (by decide) (fun z1 z2 => ?_)), down.1, down.2⟩
      · rw [ca_x σ c1 c3 c4 cA cL cK (by decide), c2, lz_osucc, cg_32 _ c4 cK', kc_217_133, if_pos i1, if_pos i1, i2, ct, bi_ok, if_pos c4, if_neg (by rw [cK']; decide), kc_217_181, if_neg (by decide), i3, kc_217_917, bv_ok, kc_139_1051]
      · rw [my_23 _ z1 z2, km_127_338, mt, bi_ok, if_pos z1, if_pos z2, km_127_361, if_pos rfl, dr, bv_ok, km_127_420]
    · rw [if_neg tv] at ct mt
      refine ⟨_, _, _, List.mem_cons_of_mem _ List.mem_cons_self, go_step rg.1 ?_, run_step rg.2.1 rg.2.2.1 (m_lo h hF h0 V hs k2 (by decide) (fun z1 z2 => ?_)), stay.1, stay.2⟩
      · rw [ca_x σ c1 c3 c4 cA cL cK (by decide), c2, lz_osucc, cg_32 _ c4 cK', kc_217_133, if_pos i1, if_pos i1, i2, ct, bi_ok, if_pos c4, if_neg (by rw [cK']; decide), kc_217_181, if_pos rfl, e34, if_pos (ofN_in (by omega) (by omega)), kc_217_917, bv_ok, kc_139_1051, lz_onat (by omega), k1']
      · rw [my_23 _ z1 z2, km_127_338, mt, bi_ok, if_pos z1, if_pos z2, km_127_361, if_neg (by decide), if_pos mi34, km_127_420, lz_onat (by omega), k2']
  · obtain ⟨c1, c2, c3, c4, cA, cL, cK, c5⟩ := c_ft h hF h0 hs k1 (by decide)
    have cK' : (lj_put σ 94 (20 * p + L.length) (Int32.ofNat ((kY F).2.1 + 1))).1 22 (Int32.ofNat (kY F).2.1).toNatClampNeg = 33 := by rw [lj_put_1, if_neg (by omega)]; exact cK
    by_cases tv : tru (cv σ ce') = true
    · rw [if_pos tv] at ct mt
      refine ⟨_, _, _, List.mem_cons_of_mem _ List.mem_cons_self, go_step rg.1 ?_, run_step rg.2.1 rg.2.2.1 (m_lo h hF h0 V hs k2 (by decide) (fun z1 z2 => ?_)), stay.1, stay.2⟩
      · rw [ca_x σ c1 c3 c4 cA cL cK (by decide), c2, lz_osucc, cg_33 _ c4 cK', kc_217_133, if_pos i1, if_pos i1, i2, ct, bi_ok, if_pos c4, if_pos cK', kc_217_181, if_pos rfl, e34, if_pos (ofN_in (by omega) (by omega)), kc_217_917, bv_ok, kc_139_1051, lz_onat (by omega), k1']
      · rw [my_24 _ z1 z2, km_127_338, mt, bi_ok, if_pos z1, if_neg (by rw [z2]; decide), km_127_361, if_neg (by decide), if_pos mi34, km_127_420, lz_onat (by omega), k2']
    · rw [if_neg tv] at ct mt
      refine ⟨_, _, _, List.mem_cons_self, go_step rg.1 ?_, run_step rg.2.1 rg.2.2.1 (m_lo h hF h0 V hs k2 (by decide) (fun z1 z2 => ?_)), down.1, down.2⟩
      · rw [ca_x σ c1 c3 c4 cA cL cK (by decide), c2, lz_osucc, cg_33 _ c4 cK', kc_217_133, if_pos i1, if_pos i1, i2, ct, bi_ok, if_pos c4, if_pos cK', kc_217_181, if_neg (by decide), i3, kc_217_917, bv_ok, kc_139_1051]
      · rw [my_24 _ z1 z2, km_127_338, mt, bi_ok, if_pos z1, if_neg (by rw [z2]; decide), km_127_361, if_pos rfl, dr, bv_ok, km_127_420]
/-! a value in the place of others -/
theorem MB.pu {σ0 τ0 σ τ : lj_S} {n np p : Nat} {r : List Nat} {FP : Nat → List kF} {ρ : Nat → Nat} {A MO LA : List Nat} (h : MB σ0 τ0 n np p r FP ρ A MO LA σ τ) {F : kF} {L : List kF} (hF : FP p = F :: L) (h0 : kS F = 0) (rg : rgR σ τ) {ms ks ce me mq : Nat} (V : vw σ0 τ0 σ τ ρ FP p F L ms ks ce me mq) {σ1 τ1 : lj_S} {s1 : List Nat} {ce1 me1 mq1 : Nat} (b : stk σ τ p (kB F + nL σ0 (kY F).1) (kB F + nL σ0 (kY F).1 + 3 * nH σ0 (kY F).1) (ms + kD F) ks s1 ce1 me1 mq1 (σ.1 97 (20 * p + L.length))) (f : lf (tqC p (20 * p + L.length) ce1) σ σ1) (g : lf (tqM p (48 * p + L.length) me1 mq1) τ τ1) (e97 : σ1.1 97 (20 * p + L.length) = σ.1 97 (20 * p + L.length)) {c' m' n' w' : Nat} (e94 : σ1.1 94 (20 * p + L.length) = Int32.ofNat c') (e77 : τ1.1 77 (48 * p + L.length) = Int32.ofNat m') (e64 : τ1.1 64 p = Int32.ofNat mq1) (hO : sOK (0 :: s1)) (hfl : (flo s1).length ≤ nH σ0 (kY F).1) {u w : vT} (hv : vR σ τ u w) (hn : n' = 0 ∧ w' = 0 ∨ n' ≠ 0 ∧ wtR σ0 τ0 (kY F).1 c' m' (0 :: s1) (kY F).2.2.2.2.1 (kY F).2.2.2.2.2 (n' - 1) w') (hw : w' ≠ 0 → ((1 ≤ c' ∧ c' ≤ 14000) ∧ scl σ0 (kY F).1 (c' - 1) (0 :: s1) (kY F).2.2.2.2.1 (kY F).2.2.2.2.2) ∧ ∀ x ∈ 0 :: s1, x ≠ 5) (g81 : ∀ j, σ1.1 81 j = σ.1 81 j ∨ σ1.1 81 j = -1 := by intro j; left; simp [lj_put_1, lj_putL_1]) :
    MB σ0 τ0 n np p r (fpT FP p (kTo F c' m' (0 :: s1) (kY F).2.2.2.2.1 (kY F).2.2.2.2.2 n' w' :: L)) ρ A MO LA (cPu σ1 ce1 u) (mPu τ1 p me1 w) ∧ rgR (cPu σ1 ce1 u) (mPu τ1 p me1 w) := by
  obtain ⟨b1, b2, b3, _⟩ := stk_bd b
  have nl := V.ff.1
  have bd := top_bd V.2.1 V.2.2.2.1 V.2.2.2.2.2.1 nl.2.2.2.2.1 nl.2.1 nl.2.2.1 b hO.tl
  have f' : lf (tqC p (20 * p + L.length) ce1) σ (cPu σ1 ce1 u) := tq_pu f u (Nat.le_refl _) (by omega)
  have g' : lf (tqM p (48 * p + L.length) me1 mq1) τ (mPu τ1 p me1 w) := tm_pu g w (Nat.le_refl _) (by omega)
  have vr := tp_vR (tq_tp b1 f') (tq_tpM b2 b3 g')
  refine h.tpw hF h0 rg V b1 b2 b3 f' g' b (Nat.le_refl _) (Nat.le_refl _) (Nat.le_refl _) hfl (ce' := ce1 + 1) (me' := me1 + 1) (mq' := mq1) (fun z => ?_) ?_ ?_ ?_ ?_ ?_ hO (by rw [flo_c (by decide)]; exact hfl) hn hw (fun j => ?_)
  · rw [cPu_1, if_neg (by omega), if_neg (by omega), if_neg (by omega), e97]
    refine stk_p0 z ?_ (by rw [cPu_1, if_neg (by omega), if_pos ⟨rfl, rfl⟩])
    unfold cv mv
    rw [cPu_1, if_neg (by omega), if_neg (by omega), if_pos ⟨rfl, rfl⟩, cPu_2, if_pos ⟨rfl, rfl⟩, mPu_1, if_neg (by omega), if_pos ⟨rfl, rfl⟩, mPu_2, if_pos ⟨rfl, rfl⟩]
    exact hv.cg vr.1 vr.2
  · rw [cPu_1, if_neg (by omega), if_neg (by omega), if_neg (by omega)]; exact e94
  · rw [mPu_1, if_neg (by omega), if_neg (by omega)]; exact e77
  · rw [cPu_1, if_pos ⟨rfl, rfl⟩]
  · rw [mPu_1, if_pos ⟨rfl, rfl⟩]
  · rw [mPu_1, if_neg (by omega), if_neg (by omega)]; exact e64
  · by_cases y : j = ce1
    · right; rw [y, cPu_1, if_neg (by omega), if_pos ⟨rfl, rfl⟩]
    · rw [cPu_1, if_neg (by omega), if_neg (by omega), if_neg (by omega)]; exact g81 j
/-! not -/
theorem act_35 {σ0 τ0 σ τ : lj_S} {n np p : Nat} {r : List Nat} {FP : Nat → List kF} {ρ : Nat → Nat} {A MO LA : List Nat} (h : MB σ0 τ0 n np p r FP ρ A MO LA σ τ) {F : kF} {L : List kF} (hF : FP p = F :: L) (h0 : kS F = 0) (rg : rgR σ τ) (hs : stF σ0 τ0) {Z : List pT} (hk : insK σ0 τ0 (kY F).1 (kY F).2.1 (kY F).2.2.1 (kY F).2.2.2.1 (kY F).2.2.2.2.1 (kY F).2.2.2.2.2 Z 35) {n' : Nat} (hn : ∀ z ∈ Z, gn σ0 τ0 n' z) : nxR σ0 τ0 n np p r FP ρ A MO LA σ τ F L n' Z := by
  obtain ⟨s', hsh, k1, k1', k2, rfl⟩ := hk
  obtain ⟨ms, ks, ce, me, mq, V⟩ := h.w hF h0
  have B := V.bd
  have st := V.st
  have hO := V.ff.1.2.2.2.1
  have hfl := V.fl
  have m64 : τ.1 64 p = Int32.ofNat mq := V.at.2.2.2.2.1
  rw [hsh] at st hO hfl
  have hO' := hO
  obtain ⟨ce', me', rfl, rfl, hv, _, _, _, st⟩ := st.u0 (Or.inl rfl)
  have hfl' : (flo s').length ≤ nH σ0 (kY F).1 := Nat.le_trans (flo_t 0 s') hfl
  obtain ⟨b1, b2, b3, _⟩ := stk_bd st
  obtain ⟨c1, c2, c3, c4, cA, cL, cK, c5⟩ := c_ft h hF h0 hs k1 (by decide)
  have at1 := mAt_p (i := (48 * p + L.length)) (v := Int32.ofNat ((kY F).2.2.1 + 1)) V.at
  have dr := m_drop at1 (d := 1) (by omega)
  have dr : lj_R lm_P 126 [.ref 0, .int 1] (lj_put τ 77 (48 * p + L.length) (Int32.ofNat ((kY F).2.2.1 + 1))) = some (.inl none, lj_put (lj_put τ 77 (48 * p + L.length) (Int32.ofNat ((kY F).2.2.1 + 1))) 63 p (Int32.ofNat me')) := dr
  have at2 : mAt (lj_put (lj_put τ 77 (48 * p + L.length) (Int32.ofNat ((kY F).2.2.1 + 1))) 63 p (Int32.ofNat me')) p me' mq := by
    obtain ⟨a1, a2, a3, a4, a5, a6⟩ := at1
    exact ⟨by rw [lj_put_1, if_neg (by omega)]; exact a1, a2, by rw [lj_put_1, if_pos ⟨rfl, rfl⟩], by omega, by rw [lj_put_1, if_neg (by omega)]; exact a5, a6⟩
  have mt := m_isTrue (lj_put (lj_put τ 77 (48 * p + L.length) (Int32.ofNat ((kY F).2.2.1 + 1))) 63 p (Int32.ofNat me')) (mv τ (10000 * p + me'))
  have em : mv τ (10000 * p + me') = tk τ p (me' + 1) := (tk_1 τ p me').symm
  rw [tru_R hv, em] at mt
  obtain ⟨i1, i2, i3⟩ := c_pre (x := (lj_put σ 94 (20 * p + L.length) (Int32.ofNat ((kY F).2.1 + 1))).1 8 8) (t := ce') (by rw [lj_put_1, if_neg (by omega)]; exact V.tp) (by omega)
  have ct : lj_R lc_P 146 [.ref 8, .int ((lj_put σ 94 (20 * p + L.length) (Int32.ofNat ((kY F).2.1 + 1))).1 79 ce'), .long ((lj_put σ 94 (20 * p + L.length) (Int32.ofNat ((kY F).2.1 + 1))).2 80 ce')] (lj_put (lj_put σ 94 (20 * p + L.length) (Int32.ofNat ((kY F).2.1 + 1))) 8 8 (Int32.ofNat ce')) = some (.inl (some (.int (if tru (cv σ ce') then 1 else 0))), lj_put (lj_put σ 94 (20 * p + L.length) (Int32.ofNat ((kY F).2.1 + 1))) 8 8 (Int32.ofNat ce')) := by
    have := c_isTrue (lj_put (lj_put σ 94 (20 * p + L.length) (Int32.ofNat ((kY F).2.1 + 1))) 8 8 (Int32.ofNat ce')) (cv (lj_put σ 94 (20 * p + L.length) (Int32.ofNat ((kY F).2.1 + 1))) ce')
    rw [cv_p ce' (by decide)] at this
    exact this
  have q8 : (lj_put (lj_put σ 94 (20 * p + L.length) (Int32.ofNat ((kY F).2.1 + 1))) 8 8 (Int32.ofNat ce')).1 8 8 = Int32.ofNat ce' := (by simp [lj_put_1, lj_putL_1])
  have res : ∀ (x : Int64), (x = 0 ∨ x = 1) → MB σ0 τ0 n np p r (fpT FP p (kAt F ((kY F).1, (kY F).2.1 + 1, (kY F).2.2.1 + 1, 0 :: s', (kY F).2.2.2.2.1, (kY F).2.2.2.2.2) (n' + 1) :: L)) ρ A MO LA (cPu (lj_put (lj_put σ 94 (20 * p + L.length) (Int32.ofNat ((kY F).2.1 + 1))) 8 8 (Int32.ofNat ce')) ce' (1, x)) (mPu (lj_put (lj_put τ 77 (48 * p + L.length) (Int32.ofNat ((kY F).2.2.1 + 1))) 63 p (Int32.ofNat me')) p me' (1, x)) ∧ rgR (cPu (lj_put (lj_put σ 94 (20 * p + L.length) (Int32.ofNat ((kY F).2.1 + 1))) 8 8 (Int32.ofNat ce')) ce' (1, x)) (mPu (lj_put (lj_put τ 77 (48 * p + L.length) (Int32.ofNat ((kY F).2.2.1 + 1))) 63 p (Int32.ofNat me')) p me' (1, x)) := fun x hx =>
    h.pu hF h0 rg V st (tq_88 (tq_94 (lf_rf _ _) _) _) (tm_63 (tm_77 (lf_rf _ _) _) _) (by simp [lj_put_1, lj_putL_1]) (by simp [lj_put_1, lj_putL_1]) (by simp [lj_put_1, lj_putL_1]) (by simp [lj_put_1, m64]) hO' hfl' (w' := 0) (vR_truth σ τ hx) (Or.inr ⟨Nat.succ_ne_zero _, hn _ List.mem_cons_self⟩) (fun z => absurd rfl z)
  by_cases tv : tru (cv σ ce') = true
  · rw [if_pos tv] at ct mt
    refine ⟨_, _, _, List.mem_cons_self, go_step rg.1 ?_, run_step rg.2.1 rg.2.2.1 (m_hi h hF h0 V hs k2 (by decide) (fun z1 z2 => ?_)), (res 0 (Or.inl rfl)).1, (res 0 (Or.inl rfl)).2⟩
    · have pt := c_pushTruth q8 (by omega) 0
      rw [if_pos rfl] at pt
      rw [ca_29 σ c1 c3 c4 cA cL cK, c2, lz_osucc, rc_216, kc_216_0, if_pos i1, if_pos i1, k1', if_pos rfl, i2, i3, ct, bi_ok, if_neg (by decide), kc_216_57, pt, bv_ok, kc_216_274, bv_ok, kc_139_1051]
    · have mp : lj_R lm_P 116 [.ref 0, .int 1, .long 0] _ = _ := m_push at2 (by omega) (1, 0)
      rw [mz_35 _ z1 z2, dr, bv_ok, mt, bi_ok, if_neg (by decide), km_153_278, mp, bv_ok, km_153_483]
  · rw [if_neg tv] at ct mt
    refine ⟨_, _, _, List.mem_cons_self, go_step rg.1 ?_, run_step rg.2.1 rg.2.2.1 (m_hi h hF h0 V hs k2 (by decide) (fun z1 z2 => ?_)), (res 1 (Or.inr rfl)).1, (res 1 (Or.inr rfl)).2⟩
    · have pt := c_pushTruth q8 (by omega) 1
      rw [if_neg (by decide)] at pt
      rw [ca_29 σ c1 c3 c4 cA cL cK, c2, lz_osucc, rc_216, kc_216_0, if_pos i1, if_pos i1, k1', if_pos rfl, i2, i3, ct, bi_ok, if_pos rfl, kc_216_57, pt, bv_ok, kc_216_274, bv_ok, kc_139_1051]
    · have mp : lj_R lm_P 116 [.ref 0, .int 1, .long 1] _ = _ := m_push at2 (by omega) (1, 1)
      rw [mz_35 _ z1 z2, dr, bv_ok, mt, bi_ok, if_pos rfl, km_153_278, mp, bv_ok, km_153_483]
