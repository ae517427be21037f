/-! so many values of a row -/
theorem c_nils {c0 n : Nat} (hn : c0 + n < 325000) (x2 x3 x4 x6 : Int32) : ∀ (d t : Nat) (σ : lj_S), t + d = c0 + n → σ.1 8 8 = Int32.ofNat t → lj_D lc_P lc_M207 120 [.ref 8, .int (Int32.ofNat n), .int x2, .int x3, .int x4, .int (Int32.ofNat c0), .int x6] [] σ = some (.inl none, cPus σ t (List.replicate d (0, 0)))
  | 0, t, σ, hd, h8 => by
    rw [kc_207_120, h8, ← Int32.ofNat_add, if_pos ((ofN_le (by omega) (by omega)).2 (by omega))]
    rfl
  | d + 1, t, σ, hd, h8 => by
    have pu : lj_R lc_P 137 [.ref 8, .int 0, .long 0] σ = some (.inl none, cPu σ t (0, 0)) := c_push h8 (by omega) (0, 0)
    rw [kc_207_120, h8, ← Int32.ofNat_add, if_neg (by rw [ofN_le (by omega) (by omega)]; omega), pu, bv_ok, c_nils hn x2 x3 x4 x6 d (t + 1) (cPu σ t (0, 0)) (by omega) (by rw [cPu_1, if_pos ⟨rfl, rfl⟩])]
    rfl
theorem c_min (σ : lj_S) {a b : Nat} (ha : a < 2147483648) (hb : b < 2147483648) : lj_R lc_P 222 [.int (Int32.ofNat a), .int (Int32.ofNat b)] σ = some (.inl (some (.int (Int32.ofNat (min a b)))), σ) := by
  have e : (Int32.ofNat b < Int32.ofNat a) ↔ b < a := by
    have := ofN_le ha hb
    rw [← Int32.not_le, this]
    omega
  rw [rc_222, kc_222_0]
  by_cases z : b < a
  · rw [if_pos (e.2 z), kc_222_10, Nat.min_eq_right (by omega)]
  · rw [if_neg (fun y => z (e.1 y)), kc_222_10, Nat.min_eq_left (by omega)]
theorem c_adj_loop {b c0 n k : Nat} (hb : b + 1 < 325000) (hk : k < 1000) (hn : n < 1000) (x2 x3 : Int32) : ∀ (d a : Nat) (σ : lj_S), a + d = b → σ.1 8 8 = Int32.ofNat (b + 1) → ∃ σ', lj_D lc_P lc_M207 58 [.ref 8, .int (Int32.ofNat n), .int x2, .int x3, .int (Int32.ofNat k), .int (Int32.ofNat c0), .int (Int32.ofNat a)] [] σ = lj_D lc_P lc_M207 120 [.ref 8, .int (Int32.ofNat n), .int x2, .int x3, .int (Int32.ofNat k), .int (Int32.ofNat c0), .int (Int32.ofNat b)] [] (lj_put σ' 8 8 (Int32.ofNat (c0 + min k n))) ∧ shD σ σ' a b
  | 0, a, σ, hd, h8 => by
    have e : a = b := by omega
    refine ⟨σ, ?_, by rw [e]; exact shD_0 _ _⟩
    rw [kc_207_58, h8, lz_osucc, if_pos (by rw [e]; exact (ofN_le (by omega) (by omega)).2 (Nat.le_refl _)), c_min _ (by omega) (by omega), bi_ok, e, Int32.ofNat_add c0]
  | d + 1, a, σ, hd, h8 => by
    obtain ⟨σ', e1, e2⟩ := c_adj_loop hb hk hn x2 x3 d (a + 1) (lj_putL (lj_put σ 79 a (σ.1 79 (a + 1))) 80 a (σ.2 80 (a + 1))) (by omega) (by rw [lj_putL_1, lj_put_1, if_neg (by omega)]; exact h8)
    refine ⟨σ', ?_, shD_s (by omega) e2⟩
    have i1 : lj_in (Int32.ofNat (a + 1)) 325000 := ofN_in (by omega) (by omega)
    have i2 : lj_in (Int32.ofNat a) 325000 := ofN_in (by omega) (by omega)
    rw [kc_207_58, h8, lz_osucc, if_neg (by rw [ofN_le (by omega) (by omega)]; omega), if_pos i1, if_pos i2, if_pos i1, if_pos i2, lz_onat (by omega), lz_onat (by omega), e1]
theorem c_adjust {σ : lj_S} {i c0 k n : Nat} {cm : Int32} (h : mkC σ i c0 k cm) (hk : k < 1000) (hn : n < 1000) (hn2 : c0 + n < 325000) {x2 : Int32} (hx : k ≤ 30 ∨ x2 ≠ 0) (line : Int32) : ∃ σ', lj_R lc_P 207 [.ref 8, .int (Int32.ofNat n), .int x2, .int line] σ = some (.inl none, cPus (lj_put σ' 8 8 (Int32.ofNat (c0 + min k n))) (c0 + min k n) (List.replicate (n - min k n) (0, 0))) ∧ shD (lj_put σ 97 i cm) σ' c0 (c0 + k) := by
  obtain ⟨i1, i2, i3, i4, i5⟩ := h.i
  obtain ⟨h1, h2, h3, h4, h5, h6⟩ := h
  have bh := c_behind h1 h2 h5 h3 (by omega) (by omega)
  rw [show c0 + 1 + k - c0 - 1 = k by omega] at bh
  obtain ⟨σ', e1, e2⟩ := c_adj_loop (b := c0 + k) (c0 := c0) (by omega) hk hn x2 line k c0 (lj_put σ 97 i cm) rfl (by rw [lj_put_1, if_neg (by omega), h1]; congr 1; omega)
  refine ⟨σ', ?_, e2⟩
  have k30 : (Int32.ofNat k ≤ 30) ↔ k ≤ 30 := ofN_le (b := 30) (by omega) (by omega)
  have nl := c_nils (c0 := c0) (n := n) hn2 x2 line (Int32.ofNat k) (Int32.ofNat (c0 + k)) (n - min k n) (c0 + min k n) (lj_put σ' 8 8 (Int32.ofNat (c0 + min k n))) (by have := Nat.min_le_right k n; omega) (by simp [lj_put_1, lj_putL_1])
  have step : lj_D lc_P lc_M207 26 [.ref 8, .int (Int32.ofNat n), .int x2, .int line, .int (Int32.ofNat k), .retAddr 0, .retAddr 0] [] σ = some (.inl none, cPus (lj_put σ' 8 8 (Int32.ofNat (c0 + min k n))) (c0 + min k n) (List.replicate (n - min k n) (0, 0))) := by
    have e97 : σ.1 97 (σ.1 8 34).toNatClampNeg = Int32.ofNat c0 := by rw [i2]; exact h3
    rw [kc_207_26, if_pos i1, if_pos (by rw [e97]; exact i3), if_pos i1, e97, i2, i4, i5, e1, nl]
  rw [rc_207, kc_207_0, bh, bi_ok]
  by_cases z : k ≤ 30
  · rw [if_pos (k30.2 z), step]
  · rw [if_neg (fun y => z (k30.1 y)), if_neg (hx.resolve_left z), step]
/-- the model's -/
theorem m_adj_loop {p m0 n mq : Nat} (hb : m0 + n < 10000) : ∀ (d t : Nat) (τ : lj_S), (t + d = m0 + n ∨ d = 0 ∧ m0 + n ≤ t) → m0 ≤ t → mAt τ p t mq → lj_D lm_P lm_M149 18 [.ref 0, .int (Int32.ofNat n), .int (Int32.ofNat m0)] [] τ = some (.inl none, lj_put (mPus p τ t (List.replicate d (0, 0))) 63 p (Int32.ofNat (m0 + n)))
  | 0, t, τ, hd, h0, a => by
    have t4 := a.2.2.2.1
    have e : Int32.ofNat t - Int32.ofNat m0 = Int32.ofNat (t - m0) := lz_ext (by rw [lz_sub (by rw [lz_lit (by omega), lz_lit (by omega)]; omega), lz_lit (by omega), lz_lit (by omega), lz_lit (by omega)]; omega)
    have e63 : τ.1 63 (τ.1 0 111).toNatClampNeg = Int32.ofNat t := by rw [a.i.2.1]; exact a.2.2.1
    rw [km_149_18, if_pos a.i.1, if_pos (by rw [e63, e]; exact (ofN_le (by omega) (by omega)).2 (by omega)), if_pos a.i.1, a.i.2.1, ← Int32.ofNat_add]
    rfl
  | d + 1, t, τ, hd, h0, a => by
    have t4 := a.2.2.2.1
    have e : Int32.ofNat t - Int32.ofNat m0 = Int32.ofNat (t - m0) := lz_ext (by rw [lz_sub (by rw [lz_lit (by omega), lz_lit (by omega)]; omega), lz_lit (by omega), lz_lit (by omega), lz_lit (by omega)]; omega)
    have pu : lj_R lm_P 116 [.ref 0, .int 0, .long 0] τ = some (.inl none, mPu τ p t (0, 0)) := m_push a (by omega) (0, 0)
    have e63 : τ.1 63 (τ.1 0 111).toNatClampNeg = Int32.ofNat t := by rw [a.i.2.1]; exact a.2.2.1
    rw [km_149_18, if_pos a.i.1, if_neg (by rw [e63, e, ofN_le (by omega) (by omega)]; omega), pu, bv_ok, m_adj_loop hb d (t + 1) (mPu τ p t (0, 0)) (by omega) (by omega) (mAt_pu a (by omega) _)]
    rfl
theorem m_adjust {τ : lj_S} {p m0 k n mq : Nat} (a : mAt τ p (m0 + k) (mq + 1)) (h73 : τ.1 73 (2000 * p + mq) = Int32.ofNat m0) (hb : m0 + n < 10000) : lj_R lm_P 149 [.ref 0, .int (Int32.ofNat n)] τ = some (.inl none, lj_put (mPus p (lj_put τ 64 p (Int32.ofNat mq)) (m0 + k) (List.replicate (n - k) (0, 0))) 63 p (Int32.ofNat (m0 + n))) := by
  have mk := m_mark a
  rw [h73] at mk
  have a1 : mAt (lj_put τ 64 p (Int32.ofNat mq)) p (m0 + k) mq := by
    obtain ⟨a1, a2, a3, a4, a5, a6⟩ := a
    exact ⟨by rw [lj_put_1, if_neg (by omega)]; exact a1, a2, by rw [lj_put_1, if_neg (by omega)]; exact a3, a4, by rw [lj_put_1, if_pos ⟨rfl, rfl⟩], by omega⟩
  rw [rm_149, km_149_0, mk, bi_ok, if_pos a.i.1, if_pos a.i.1, a.i.2.1, a.2.2.2.2.1, lz_pred', m_adj_loop hb (n - k) (m0 + k) (lj_put τ 64 p (Int32.ofNat mq)) (by omega) (by omega) a1]
/-- the stacks fit, with values upon a shape -/
theorem top_bds {σ0 τ0 σ τ σ' τ' : lj_S} {ρ : Nat → Nat} {p : Nat} {L : List kF} {F : kF} {ms ks : Nat} {as md wt : Int32} (hp : prt σ0 τ0 σ τ ρ p L (kC F) ms ks) (hw : awR σ0 L as md wt) (hl : L.length ≤ 19) (hD : kD F ≤ 49) (h1 : nL σ0 (kY F).1 ≤ 50) (h2 : nH σ0 (kY F).1 ≤ 20) {s t : List Nat} {ce me mq : Nat} {cm : Int32} (hs : stk σ' τ' p (kB F + nL σ0 (kY F).1) (kB F + nL σ0 (kY F).1 + 3 * nH σ0 (kY F).1) (ms + kD F) ks s ce me mq cm) (ho : sOK (t ++ s)) (ht : ∀ x ∈ t, x = 0 ∨ x = 5 ∨ x = 6) : ce + t.length + 10 ≤ 12500 * p + 12500 ∧ me + t.length + 10 ≤ 10000 ∧ mq + 10 ≤ 2000 := by
  have hB : kB F = kC F + kD F := rfl
  obtain ⟨b1, b2, b3⟩ := prt_bd hp hw
  obtain ⟨_, _, _, b4, b5, b6, _⟩ := stk_bd hs
  obtain ⟨s1, s2, s3, s4⟩ := ho
  have c5 := cn5_1 s4
  rw [va_app] at s1
  rw [cn_app] at s2 s3 c5
  obtain ⟨v1, _, _⟩ := va_z t ht
  omega
theorem tq_sh {p i lo a b : Nat} {σ σ1 σ2 : lj_S} (f : lf (tqC p i lo) σ σ1) (h : shD σ1 σ2 a b) (h1 : lo ≤ a) (h2 : b ≤ 12500 * p + 12500) : lf (tqC p i lo) σ σ2 := f.tr (h.2.mo (fun k j q => by
  unfold tqC at q
  unfold sdC
  simp at q ⊢
  intro z1 z2
  have := q.2 (by omega) (by omega)
  omega))
/-- a row behind a mark of both -/
def rkR (σ τ : lj_S) (p hb ob mb kb i : Nat) (s : List Nat) (ce me mq k c0 m0 mq' : Nat) (cm' : Int32) : Prop :=
  (ce = c0 + 1 + k ∧ me = m0 + k ∧ mq = mq' + 1) ∧ (σ.1 97 i = Int32.ofNat c0 ∧ σ.2 80 c0 = cm'.toInt64 ∧ σ.1 81 c0 = -1 ∧ τ.1 73 (2000 * p + mq') = Int32.ofNat m0) ∧ (∀ i, i < k → vR σ τ (cv σ (c0 + 1 + i)) (mv τ (10000 * p + (m0 + i))) ∧ σ.1 81 (c0 + 1 + i) = -1) ∧ stk σ τ p hb ob mb kb s c0 m0 mq' cm'
theorem rk_of {σ τ : lj_S} {p hb ob mb kb i : Nat} {w s : List Nat} {ce me mq : Nat} (hw : ∀ x ∈ w, x = 0 ∨ x = 5) (h : stk σ τ p hb ob mb kb (w ++ 1 :: s) ce me mq (σ.1 97 i)) : ∃ k c0 m0 mq' cm', k ≤ w.length + 110 * cn 5 w ∧ rkR σ τ p hb ob mb kb i s ce me mq k c0 m0 mq' cm' := by
  obtain ⟨k, c1, m0, hce, hme, hk, hv, st⟩ := stk_vals hw h
  obtain ⟨c0, mq', cm', rfl, hq, h97, ⟨_, h80, h81⟩, h73, st⟩ := st.u1
  exact ⟨k, c0, m0, mq', cm', hk, ⟨hce, hme, hq⟩, ⟨h97, h80, h81, h73⟩, hv, st⟩
theorem flo_rep (k : Nat) (s : List Nat) : flo (List.replicate k 0 ++ s) = flo s := by
  induction k with
  | zero => rfl
  | succ k ih => rw [List.replicate_succ, List.cons_append, flo_c (by decide), ih]
theorem gdr (k i : Nat) : (List.replicate k ((0, 0) : vT)).getD i (0, 0) = (0, 0) := by
  rw [List.getD_eq_getElem?_getD, List.getElem?_replicate]
  by_cases z : i < k
  · rw [if_pos z]; rfl
  · rw [if_neg z]; rfl
/-- both take n of the k values behind the mark -/
theorem x_adj {σ0 τ0 σ τ : lj_S} {n np p : Nat} {r : List Nat} {FP : Nat → List kF} {ρ : Nat → Nat} {A MO LA : List Nat} (h : MB σ0 τ0 n np p r FP ρ A MO LA σ τ) {F : kF} {L : List kF} (hF : FP p = F :: L) (h0 : kS F = 0) (rg : rgR σ τ) (hs : stF σ0 τ0) {nn : Nat} (hnn : nn ≤ 50) {s' : List Nat} (k1 : σ0.1 22 (kY F).2.1 = 20) (k1' : σ0.1 23 (kY F).2.1 = Int32.ofNat nn) (k1'' : σ0.1 24 (kY F).2.1 = 0) (k2 : τ0.1 20 (kY F).2.2.1 = 18) (k2' : τ0.1 21 (kY F).2.2.1 = Int32.ofNat nn) (hO' : sOK (List.replicate nn 0 ++ s')) {ms ks ce me mq : Nat} (V : vw σ0 τ0 σ τ ρ FP p F L ms ks ce me mq) {k c0 m0 mq' : Nat} {cm' : Int32} (w : rkR σ τ p (kB F + nL σ0 (kY F).1) (kB F + nL σ0 (kY F).1 + 3 * nH σ0 (kY F).1) (ms + kD F) ks (20 * p + L.length) s' ce me mq k c0 m0 mq' cm') (k30 : k ≤ 30) (hfl' : (flo s').length ≤ nH σ0 (kY F).1) :
    ∃ σ' τ', (∀ v, goC v σ = goC v σ') ∧ (∀ x, mRun x τ = mRun x τ') ∧ MB σ0 τ0 n np p r (fpT FP p (kTo F ((kY F).2.1 + 1) ((kY F).2.2.1 + 1) (List.replicate nn 0 ++ s') (kY F).2.2.2.2.1 (kY F).2.2.2.2.2 0 0 :: L)) ρ A MO LA σ' τ' ∧ rgR σ' τ' := by
  have B := V.bd
  obtain ⟨⟨hce, hme, rfl⟩, ⟨h97, h80, h81, h73⟩, hv, st⟩ := w
  obtain ⟨b1, b2, b3, _⟩ := stk_bd st
  obtain ⟨f1, f2, f3, f4, fA, fL, fK, f5⟩ := c_ft h hF h0 hs k1 (by decide)
  have nl := V.ff.1
  have z0 : ∀ x ∈ List.replicate nn 0, x = 0 ∨ x = 5 ∨ x = 6 := fun x hx => Or.inl (List.eq_of_mem_replicate hx)
  have bd := top_bds V.2.1 V.2.2.2.1 V.2.2.2.2.2.1 nl.2.2.2.2.1 nl.2.1 nl.2.2.1 st hO' z0
  rw [List.length_replicate] at bd
  have mk : mkC (lj_put σ 94 (20 * p + L.length) (Int32.ofNat ((kY F).2.1 + 1))) (20 * p + L.length) c0 k cm' := ⟨by rw [lj_put_1, if_neg (by omega), V.tp, hce], by rw [lj_put_1, if_neg (by omega)]; exact V.i34, by rw [lj_put_1, if_neg (by omega)]; exact h97, h80, (by omega), (by omega)⟩
  obtain ⟨σ1, e1, sd⟩ := c_adjust mk (by omega) (n := nn) (by omega) (by omega) (x2 := 0) (Or.inl k30) (σ0.1 26 (kY F).2.1)
  have at1 : mAt (lj_put τ 77 (48 * p + L.length) (Int32.ofNat ((kY F).2.2.1 + 1))) p (m0 + k) (mq' + 1) := by
    have := mAt_p (i := (48 * p + L.length)) (v := Int32.ofNat ((kY F).2.2.1 + 1)) V.at
    rw [hme] at this
    exact this
  have e2 := m_adjust at1 (n := nn) (by rw [lj_put_1, if_neg (by omega)]; exact h73) (by omega)
  have mn := Nat.min_le_left k nn
  have mn2 := Nat.min_le_right k nn
  have f : lf (tqC p (20 * p + L.length) c0) σ (cPus (lj_put σ1 8 8 (Int32.ofNat (c0 + min k nn))) (c0 + min k nn) (List.replicate (nn - min k nn) (0, 0))) := tq_pus _ (tq_88 (tq_sh (tq_97 (tq_94 (lf_rf _ _) _) _) sd (by omega) (by omega)) _) (by omega) (by rw [List.length_replicate]; omega)
  have g : lf (tqM p (48 * p + L.length) m0 mq') τ (lj_put (mPus p (lj_put (lj_put τ 77 (48 * p + L.length) (Int32.ofNat ((kY F).2.2.1 + 1))) 64 p (Int32.ofNat mq')) (m0 + k) (List.replicate (nn - k) (0, 0))) 63 p (Int32.ofNat (m0 + nn))) := tm_63 (tm_pus _ (tm_64 (tm_77 (lf_rf _ _) _) _) (by omega) (by rw [List.length_replicate]; omega)) _
  have vr := tp_vR (tq_tp b1 f) (tq_tpM b2 b3 g)
  -- the values
  have vC : ∀ i, i < nn → cv (cPus (lj_put σ1 8 8 (Int32.ofNat (c0 + min k nn))) (c0 + min k nn) (List.replicate (nn - min k nn) (0, 0))) (c0 + i) = (if i < k then cv σ (c0 + 1 + i) else (0, 0)) ∧ (cPus (lj_put σ1 8 8 (Int32.ofNat (c0 + min k nn))) (c0 + min k nn) (List.replicate (nn - min k nn) (0, 0))).1 81 (c0 + i) = -1 := fun i hi => by
    by_cases z : i < k
    · have zo : c0 + i < c0 + min k nn := by omega
      have o := fun kk => cPus_o (List.replicate (nn - min k nn) (0, 0)) (lj_put σ1 8 8 (Int32.ofNat (c0 + min k nn))) (c0 + min k nn) kk (c0 + i)
      have a1 := sd.1 (c0 + i) (by omega) (by omega)
      have a2 := (sd.2 81 (c0 + i) (by unfold sdC; simp)).1
      rw [if_pos z]
      refine ⟨?_, ?_⟩
      · unfold cv
        rw [(o 79 (by omega) (by omega)).1, (o 80 (by omega) (by omega)).2, lj_put_1, if_neg (by omega)]
        have : cv σ1 (c0 + i) = cv σ (c0 + 1 + i) := by
          rw [a1, cv_p _ (by decide), cv_p _ (by decide), show c0 + i + 1 = c0 + 1 + i by omega]
        exact this
      · rw [(o 81 (by omega) (by omega)).1, lj_put_1, if_neg (by omega), a2, lj_put_1, if_neg (by omega), lj_put_1, if_neg (by omega)]
        by_cases y : i = 0
        · rw [y]; exact h81
        · have := (hv (i - 1) (by omega)).2
          rw [show c0 + 1 + (i - 1) = c0 + i by omega] at this
          exact this
    · have v := cPus_v (List.replicate (nn - min k nn) (0, 0)) (lj_put σ1 8 8 (Int32.ofNat (c0 + min k nn))) (c0 + min k nn) (i - min k nn) (by rw [List.length_replicate]; omega)
      rw [show c0 + min k nn + (i - min k nn) = c0 + i by omega] at v
      rw [if_neg z]
      refine ⟨?_, v.2⟩
      rw [v.1, gdr]
  have vM : ∀ i, i < nn → mv (lj_put (mPus p (lj_put (lj_put τ 77 (48 * p + L.length) (Int32.ofNat ((kY F).2.2.1 + 1))) 64 p (Int32.ofNat mq')) (m0 + k) (List.replicate (nn - k) (0, 0))) 63 p (Int32.ofNat (m0 + nn))) (10000 * p + (m0 + i)) = (if i < k then mv τ (10000 * p + (m0 + i)) else (0, 0)) := fun i hi => by
    rw [mv_p _ (by decide)]
    by_cases z : i < k
    · have o := fun kk => mPus_o p (List.replicate (nn - k) (0, 0)) (lj_put (lj_put τ 77 (48 * p + L.length) (Int32.ofNat ((kY F).2.2.1 + 1))) 64 p (Int32.ofNat mq')) (m0 + k) kk (10000 * p + (m0 + i))
      rw [if_pos z]
      unfold mv
      rw [(o 71 (by omega) (by omega)).1, (o 72 (by omega) (by omega)).2, lj_put_1, if_neg (by omega), lj_put_1, if_neg (by omega)]
      rfl
    · have v := mPus_v p (List.replicate (nn - k) (0, 0)) (lj_put (lj_put τ 77 (48 * p + L.length) (Int32.ofNat ((kY F).2.2.1 + 1))) 64 p (Int32.ofNat mq')) (m0 + k) (i - k) (by rw [List.length_replicate]; omega)
      rw [show m0 + k + (i - k) = m0 + i by omega] at v
      rw [if_neg z, v, gdr]
  have oo := fun kk j => cPus_o (List.replicate (nn - min k nn) (0, 0)) (lj_put σ1 8 8 (Int32.ofNat (c0 + min k nn))) (c0 + min k nn) kk j
  have e97 : (cPus (lj_put σ1 8 8 (Int32.ofNat (c0 + min k nn))) (c0 + min k nn) (List.replicate (nn - min k nn) (0, 0))).1 97 (20 * p + L.length) = cm' := by
    rw [(oo 97 _ (by omega) (by omega)).1, lj_put_1, if_neg (by omega), (sd.2 97 _ (by unfold sdC; simp)).1, lj_put_1, if_pos ⟨rfl, rfl⟩]
  have g81 : ∀ j, (cPus (lj_put σ1 8 8 (Int32.ofNat (c0 + min k nn))) (c0 + min k nn) (List.replicate (nn - min k nn) (0, 0))).1 81 j = σ.1 81 j ∨ (cPus (lj_put σ1 8 8 (Int32.ofNat (c0 + min k nn))) (c0 + min k nn) (List.replicate (nn - min k nn) (0, 0))).1 81 j = -1 := fun j => by
    by_cases y : c0 + min k nn ≤ j ∧ j < c0 + nn
    · right
      have v := cPus_v (List.replicate (nn - min k nn) (0, 0)) (lj_put σ1 8 8 (Int32.ofNat (c0 + min k nn))) (c0 + min k nn) (j - (c0 + min k nn)) (by rw [List.length_replicate]; omega)
      rw [show c0 + min k nn + (j - (c0 + min k nn)) = j by omega] at v
      exact v.2
    · left
      rw [(oo 81 j (by omega) (by rw [List.length_replicate]; omega)).1, lj_put_1, if_neg (by omega), (sd.2 81 j (by unfold sdC; simp)).1, lj_put_1, if_neg (by omega), lj_put_1, if_neg (by omega)]
  obtain ⟨g1, g2⟩ := h.tp hF h0 rg V b1 b2 b3 f g st (Nat.le_refl _) (Nat.le_refl _) (Nat.le_refl _) hfl' (s' := List.replicate nn 0 ++ s') (ce' := c0 + nn) (me' := m0 + nn) (mq' := mq') (fun z => by
    rw [e97]
    refine stk_ps z nn (fun i hi => ?_)
    obtain ⟨q1, q2⟩ := vC i hi
    refine ⟨?_, q2⟩
    rw [q1, vM i hi]
    by_cases y : i < k
    · rw [if_pos y, if_pos y]; exact (hv i y).1.cg vr.1 vr.2
    · rw [if_neg y, if_neg y]; exact vR_nil _ _) (c' := (kY F).2.1 + 1) (m' := (kY F).2.2.1 + 1) (by rw [(oo 94 _ (by omega) (by omega)).1, lj_put_1, if_neg (by omega), (sd.2 94 _ (by unfold sdC; simp)).1, lj_put_1, if_neg (by omega), lj_put_1, if_pos ⟨rfl, rfl⟩]) (by rw [lj_put_1, if_neg (by omega), (mPus_o p _ _ _ 77 _ (by omega) (by omega)).1, lj_put_1, if_neg (by omega), lj_put_1, if_pos ⟨rfl, rfl⟩]) (by rw [cPus_8 _ _ _ (by simp [lj_put_1, lj_putL_1]), List.length_replicate]; congr 1; omega) (by simp [lj_put_1, lj_putL_1]) (by rw [lj_put_1, if_neg (by omega), (mPus_o p _ _ _ 64 _ (by omega) (by omega)).1, lj_put_1, if_pos ⟨rfl, rfl⟩]) hO' (by rw [flo_rep]; exact hfl') (n' := 0) (Or.inl rfl) g81
  refine ⟨_, _, go_step rg.1 ?_, run_step rg.2.1 rg.2.2.1 (m_lo h hF h0 V hs k2 (by decide) (fun z1 z2 => ?_)), g1, g2⟩
  · rw [ca_20 σ f1 f3 f4 fA fL fK, if_pos f4, f5, show σ.1 24 (kY F).2.1 = 0 from ((h.1.1 24 _ (by unfold cdC; simp)).1.trans k1''), if_neg (by decide), f2, lz_osucc, kc_139_651, k1', e1, bv_ok, kc_139_1051]
  · rw [my_18 _ z1 z2, k2', e2, bv_ok, km_127_420]
theorem act_26 {σ0 τ0 σ τ : lj_S} {n np p : Nat} {r : List Nat} {FP : Nat → List kF} {ρ : Nat → Nat} {A MO LA : List Nat} (h : MB σ0 τ0 n np p r FP ρ A MO LA σ τ) {F : kF} {L : List kF} (hF : FP p = F :: L) (h0 : kS F = 0) (rg : rgR σ τ) (hs : stF σ0 τ0) {Z : List pT} (hk : insK σ0 τ0 (kY F).1 (kY F).2.1 (kY F).2.2.1 (kY F).2.2.2.1 (kY F).2.2.2.2.1 (kY F).2.2.2.2.2 Z 26) {n' : Nat} (hn : ∀ z ∈ Z, gn σ0 τ0 n' z) : nxR σ0 τ0 n np p r FP ρ A MO LA σ τ F L n' Z := by
  obtain ⟨nn, s', hnn, hsh, k1, k1', k1'', k2, k2', rfl⟩ := hk
  obtain ⟨ms, ks, ce, me, mq, V⟩ := h.w hF h0
  have st := V.st
  have hfl := V.fl
  rw [hsh] at st hfl
  obtain ⟨k, c0, m0, mq', cm', hk, w⟩ := rk_of (w := []) (fun x hx => by cases hx) st
  obtain ⟨σ', τ', g1, g2, g3, g4⟩ := x_adj h hF h0 rg hs hnn k1 k1' k1'' k2 k2' (gn_ok (hn _ List.mem_cons_self)) V w (Nat.le_trans hk (by decide)) (Nat.le_trans (flo_t 1 s') hfl)
  exact ⟨σ', τ', _, List.mem_cons_self, g1, g2, g3.fin g4 (hn _ List.mem_cons_self), g4⟩
/-! an act that ends in an error -/
theorem bv_th (σ : lj_S) (k : lj_S → Option lj_O) : lj_bv (some (.inr 2, σ)) k lj_up = some (.inr 2, σ) := rfl
theorem bi_th (σ : lj_S) (k : Int32 → lj_S → Option lj_O) : lj_bi (some (.inr 2, σ)) k lj_up = some (.inr 2, σ) := rfl
theorem bl_th (σ : lj_S) (k : Int64 → lj_S → Option lj_O) : lj_bl (some (.inr 2, σ)) k lj_up = some (.inr 2, σ) := rfl
/-- the component throws, the model keeps an error -/
def trR (σ0 τ0 : lj_S) (n np p : Nat) (r : List Nat) (FP : Nat → List kF) (ρ : Nat → Nat) (A MO LA : List Nat) (σ τ : lj_S) : Prop :=
  ∃ σ1 σ' τ', (∀ v, goC v σ = goC v σ1) ∧ σ1.1 8 46 = 0 ∧ lj_R lc_P 139 [.ref 8] σ1 = some (.inr 2, σ') ∧ (∀ x, mRun x τ = mRun x τ') ∧ eoR σ0 τ0 n np p r FP ρ A MO LA σ' τ'
/-- both go on, or end in an error -/
def oaR (σ0 τ0 : lj_S) (n np p : Nat) (r : List Nat) (FP : Nat → List kF) (ρ : Nat → Nat) (A MO LA : List Nat) (σ τ : lj_S) (F : kF) (L : List kF) (n' : Nat) (Z : List pT) : Prop :=
  nxR σ0 τ0 n np p r FP ρ A MO LA σ τ F L n' Z ∨ ∃ F', kS F' = 0 ∧ trR σ0 τ0 n np p r (fpT FP p (F' :: L)) ρ A MO LA σ τ
/-- both have fetched -/
theorem MB.ft {σ0 τ0 σ τ : lj_S} {n np p : Nat} {r : List Nat} {FP : Nat → List kF} {ρ : Nat → Nat} {A MO LA : List Nat} (h : MB σ0 τ0 n np p r FP ρ A MO LA σ τ) {F : kF} {L : List kF} (hF : FP p = F :: L) (h0 : kS F = 0) (rg : rgR σ τ) {ms ks ce me mq : Nat} (V : vw σ0 τ0 σ τ ρ FP p F L ms ks ce me mq) (a b : Bool) : MB σ0 τ0 n np p r (fpT FP p (kTo F ((kY F).2.1 + a.toNat) ((kY F).2.2.1 + b.toNat) (kY F).2.2.2.1 (kY F).2.2.2.2.1 (kY F).2.2.2.2.2 0 0 :: L)) ρ A MO LA (bif a then lj_put σ 94 (20 * p + L.length) (Int32.ofNat ((kY F).2.1 + 1)) else σ) (bif b then lj_put τ 77 (48 * p + L.length) (Int32.ofNat ((kY F).2.2.1 + 1)) else τ) ∧ rgR (bif a then lj_put σ 94 (20 * p + L.length) (Int32.ofNat ((kY F).2.1 + 1)) else σ) (bif b then lj_put τ 77 (48 * p + L.length) (Int32.ofNat ((kY F).2.2.1 + 1)) else τ) := by
  have m64 : τ.1 64 p = Int32.ofNat mq := V.at.2.2.2.2.1
  have m63 : τ.1 63 p = Int32.ofNat me := V.at.2.2.1
  have e94 := V.2.2.2.2.1.1.2.2.2.1
  have e77 := V.2.2.2.2.1.2.1.2.2.2.1
  cases a <;> cases b
  · exact h.dn hF h0 rg V V.st (lf_rf _ _) (lf_rf _ _) rfl e94 e77 V.tp m63 m64 V.ff.1.2.2.2.1 V.fl (n' := 0) (Or.inl rfl)
  · exact h.dn hF h0 rg V V.st (lf_rf _ _) (tm_77 (lf_rf _ _) _) rfl e94 (by simp [lj_put_1, lj_putL_1]) V.tp (by simp [lj_put_1, m63]) (by simp [lj_put_1, m64]) V.ff.1.2.2.2.1 V.fl (n' := 0) (Or.inl rfl)
  · exact h.dn hF h0 rg V V.st (tq_94 (lf_rf _ _) _) (lf_rf _ _) (by simp [lj_put_1, lj_putL_1]) (by simp [lj_put_1, lj_putL_1]) e77 (by simp [lj_put_1, V.tp]) m63 m64 V.ff.1.2.2.2.1 V.fl (n' := 0) (Or.inl rfl)
  · exact h.dn hF h0 rg V V.st (tq_94 (lf_rf _ _) _) (tm_77 (lf_rf _ _) _) (by simp [lj_put_1, lj_putL_1]) (by simp [lj_put_1, lj_putL_1]) (by simp [lj_put_1, lj_putL_1]) (by simp [lj_put_1, V.tp]) (by simp [lj_put_1, m63]) (by simp [lj_put_1, m64]) V.ff.1.2.2.2.1 V.fl (n' := 0) (Or.inl rfl)
theorem act_25 {σ0 τ0 σ τ : lj_S} {n np p : Nat} {r : List Nat} {FP : Nat → List kF} {ρ : Nat → Nat} {A MO LA : List Nat} (h : MB σ0 τ0 n np p r FP ρ A MO LA σ τ) {F : kF} {L : List kF} (hF : FP p = F :: L) (h0 : kS F = 0) (rg : rgR σ τ) (hs : stF σ0 τ0) {Z : List pT} (hk : insK σ0 τ0 (kY F).1 (kY F).2.1 (kY F).2.2.1 (kY F).2.2.2.1 (kY F).2.2.2.2.1 (kY F).2.2.2.2.2 Z 25) {n' : Nat} (hn : ∀ z ∈ Z, gn σ0 τ0 n' z) : oaR σ0 τ0 n np p r FP ρ A MO LA σ τ F L n' Z := by
  obtain ⟨nn, wr, s', hnn, hwr, hsh, k1, k1', k1'', k2, k2l, k3, k3', rfl⟩ := hk
  obtain ⟨ms, ks, ce, me, mq, V⟩ := h.w hF h0
  have B := V.bd
  have st := V.st
  have hfl := V.fl
  rw [hsh] at st hfl
  obtain ⟨k, c0, m0, mq', cm', hk, w⟩ := rk_of hwr.1 st
  have hk126 := Nat.le_trans hk (row_bd hwr)
  obtain ⟨⟨hce, hme, hmq⟩, ⟨h97, h80, h81, h73⟩, hv, st'⟩ := w
  have at1 := mAt_p (i := (48 * p + L.length)) (v := Int32.ofNat ((kY F).2.2.1 + 1)) V.at
  rw [hmq] at at1
  have mk := m_mark at1
  rw [lj_put_1, if_neg (by omega), h73] at mk
  have sb : Int32.ofNat me - Int32.ofNat m0 = Int32.ofNat k := lz_ext (by rw [lz_sub (by rw [lz_lit (by omega), lz_lit (by omega)]; omega), lz_lit (by omega), lz_lit (by omega), lz_lit (by omega)]; omega)
  have k30 : (Int32.ofNat k ≤ 30) ↔ k ≤ 30 := ofN_le (b := 30) (by omega) (by omega)
  by_cases z : k ≤ 30
  · -- the model checks, then both take
    left
    have ft := h.ft hF h0 rg V false true
    obtain ⟨h1, rg1⟩ := ft
    have h1 : MB σ0 τ0 n np p r (fpT FP p (kTo F (kY F).2.1 ((kY F).2.2.1 + 1) (kY F).2.2.2.1 (kY F).2.2.2.2.1 (kY F).2.2.2.2.2 0 0 :: L)) ρ A MO LA σ (lj_put τ 77 (48 * p + L.length) (Int32.ofNat ((kY F).2.2.1 + 1))) := h1
    have rg1 : rgR σ (lj_put τ 77 (48 * p + L.length) (Int32.ofNat ((kY F).2.2.1 + 1))) := rg1
    have fo := fpT_o FP p (kTo F (kY F).2.1 ((kY F).2.2.1 + 1) (kY F).2.2.2.1 (kY F).2.2.2.2.1 (kY F).2.2.2.2.2 0 0 :: L)
    obtain ⟨ms1, ks1, ce1, me1, mq1, V1⟩ := h1.w fo rfl
    have st1 := V1.st
    have hsh1 : (kY (kTo F (kY F).2.1 ((kY F).2.2.1 + 1) (kY F).2.2.2.1 (kY F).2.2.2.2.1 (kY F).2.2.2.2.2 0 0)).2.2.2.1 = wr ++ 1 :: s' := hsh
    rw [hsh1] at st1
    obtain ⟨k', c0', m0', mq1', cm1', hk', w1⟩ := rk_of hwr.1 st1
    have kk : k' = k := by
      obtain ⟨⟨a1, _, _⟩, ⟨a2, _⟩, _⟩ := w1
      have b1 := V1.tp
      rw [V.tp, a1] at b1
      rw [h97] at a2
      have B1 := V1.bd
      have x1 := (ofN_eq (by omega) (by omega)).1 b1
      have x2 := (ofN_eq (by omega) (by omega)).1 a2
      omega
    obtain ⟨σ', τ', g1, g2, g3, g4⟩ := x_adj h1 fo rfl rg1 hs hnn k1 k1' k1'' k3 k3' (gn_ok (hn _ List.mem_cons_self)) V1 w1 (by omega) (Nat.le_trans (flo_t 1 s') (Nat.le_trans (flo_ts wr _) hfl))
    rw [fpT_2] at g3
    have g3 := MB.fin (F := F) g3 g4 (hn _ List.mem_cons_self)
    refine ⟨σ', τ', _, List.mem_cons_self, g1, fun x => (run_step rg.2.1 rg.2.2.1 (m_lo h hF h0 V hs k2 (by decide) (fun z1 z2 => ?_)) x).trans (g2 x), g3, g4⟩
    rw [my_17 _ z1 z2, if_pos at1.i.1, mk, bi_ok, at1.i.2.1, at1.2.2.1, sb, if_pos (k30.2 z), km_127_420]
  · -- too many
    right
    obtain ⟨h1, rg1⟩ := h.ft hF h0 rg V true true
    have h1 : MB σ0 τ0 n np p r (fpT FP p (kTo F ((kY F).2.1 + 1) ((kY F).2.2.1 + 1) (kY F).2.2.2.1 (kY F).2.2.2.2.1 (kY F).2.2.2.2.2 0 0 :: L)) ρ A MO LA (lj_put σ 94 (20 * p + L.length) (Int32.ofNat ((kY F).2.1 + 1))) (lj_put τ 77 (48 * p + L.length) (Int32.ofNat ((kY F).2.2.1 + 1))) := h1
    have rg1 : rgR (lj_put σ 94 (20 * p + L.length) (Int32.ofNat ((kY F).2.1 + 1))) (lj_put τ 77 (48 * p + L.length) (Int32.ofNat ((kY F).2.2.1 + 1))) := rg1
    obtain ⟨σ', τ', e1, e2, e3⟩ := cm_wrong h1.2.1 (σ0.1 26 (kY F).2.1) (e := 4) (by decide)
    obtain ⟨f1, f2, f3, f4, fA, fL, fK, f5⟩ := c_ft h hF h0 hs k1 (by decide)
    have bh := c_behind (σ := lj_put σ 94 (20 * p + L.length) (Int32.ofNat ((kY F).2.1 + 1))) (t := ce) (i := (20 * p + L.length)) (c := c0) (by rw [lj_put_1, if_neg (by omega)]; exact V.tp) (by rw [lj_put_1, if_neg (by omega)]; exact V.i34) (by omega) (by rw [lj_put_1, if_neg (by omega)]; exact h97) (by omega) (by omega)
    rw [show ce - c0 - 1 = k by omega] at bh
    refine ⟨_, rfl, σ, σ', τ', fun _ => rfl, rg.1, ?_, run_step rg.2.1 rg.2.2.1 (m_lo h hF h0 V hs k2 (by decide) (fun z1 z2 => ?_)), h1.er rg1 e3⟩
    · rw [ca_20 σ f1 f3 f4 fA fL fK, if_pos f4, f5, show σ.1 24 (kY F).2.1 = 0 from ((h.1.1 24 _ (by unfold cdC; simp)).1.trans k1''), if_neg (by decide), f2, lz_osucc, kc_139_651, rc_207, kc_207_0, bh, bi_ok, if_neg (fun y => z (k30.1 y)), if_pos rfl]
      have e1 : lj_br (lj_R lc_P 133 [.ref 8, .int (σ0.1 26 (kY F).2.1), .ref 1027] (lj_put σ 94 (20 * p + L.length) (Int32.ofNat ((kY F).2.1 + 1)))) (fun y s => (bif Nat.blt y 2000 then lj_up y s else none)) lj_up = some (.inr 2, σ') := e1
      rw [e1, bv_th]
    · have e2 : lj_R lm_P 142 [.ref 0, .int 4, .int (σ0.1 26 (kY F).2.1)] (lj_put τ 77 (48 * p + L.length) (Int32.ofNat ((kY F).2.2.1 + 1))) = some (.inl none, τ') := e2
      have l23 : (lj_put τ 77 (48 * p + L.length) (Int32.ofNat ((kY F).2.2.1 + 1))).1 23 (Int32.ofNat (kY F).2.2.1).toNatClampNeg = σ0.1 26 (kY F).2.1 := by
        have := ((h.cx hF h0 hs).2 (by rw [k2]; decide)).1.2.2.2.2.2.2
        rw [lj_put_1, if_neg (by omega), this, (h.1.2 23 _ (by unfold cdM; simp)).1]
        exact k2l
      rw [my_17 _ z1 z2, if_pos at1.i.1, mk, bi_ok, at1.i.2.1, at1.2.2.1, sb, if_neg (fun y => z (k30.1 y)), if_pos z1, l23, e2, bv_ok, km_127_420]
