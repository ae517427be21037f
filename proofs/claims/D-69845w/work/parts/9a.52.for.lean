/-! fors -/
/-- an act that changes the hidden slots and the stacks of the uppermost frame -/
theorem MB.hf {σ0 τ0 σ τ : lj_S} {n np p : Nat} {r : List Nat} {FP : Nat → List kF} {ρ : Nat → Nat} {A MO LA : List Nat} (h : MB σ0 τ0 n np p r FP ρ A MO LA σ τ) {F : kF} {L : List kF} (hF : FP p = F :: L) (h0 : kS F = 0) (rg : rgR σ τ) {ms ks ce me mq : Nat} (V : vw σ0 τ0 σ τ ρ FP p F L ms ks ce me mq) {σ' τ' : lj_S} (f : lf (tqC p (20 * p + L.length) (kB F + nL σ0 (kY F).1)) σ σ') (g : lf (tqM p (48 * p + L.length) (ms + kD F) ks) τ τ') {s' : List Nat} {c' m' n' w' ce' me' mq' : Nat} (hs : stk σ' τ' p (kB F + nL σ0 (kY F).1) (kB F + nL σ0 (kY F).1 + 3 * nH σ0 (kY F).1) (ms + kD F) ks s' ce' me' mq' (σ'.1 97 (20 * p + L.length))) (e94 : σ'.1 94 (20 * p + L.length) = Int32.ofNat c') (e77 : τ'.1 77 (48 * p + L.length) = Int32.ofNat m') (e8 : σ'.1 8 8 = Int32.ofNat ce') (e63 : τ'.1 63 p = Int32.ofNat me') (e64 : τ'.1 64 p = Int32.ofNat mq') (hO : sOK s') (hfl : (flo s').length ≤ nH σ0 (kY F).1) (hn : n' = 0 ∧ w' = 0 ∨ n' ≠ 0 ∧ wtR σ0 τ0 (kY F).1 c' m' s' (kY F).2.2.2.2.1 (kY F).2.2.2.2.2 (n' - 1) w') (hw : w' ≠ 0 → ((1 ≤ c' ∧ c' ≤ 14000) ∧ scl σ0 (kY F).1 (c' - 1) s' (kY F).2.2.2.2.1 (kY F).2.2.2.2.2) ∧ ∀ x ∈ s', x ≠ 5) (g81 : ∀ j, σ'.1 81 j = σ.1 81 j ∨ σ'.1 81 j = -1 := by intro j; left; simp [lj_put_1, lj_putL_1]) :
    MB σ0 τ0 n np p r (fpT FP p (kTo F c' m' s' (kY F).2.2.2.2.1 (kY F).2.2.2.2.2 n' w' :: L)) ρ A MO LA σ' τ' ∧ rgR σ' τ' := by
  have B := V.bd
  have nl := V.ff.1
  have bd := top_bd V.2.1 V.2.2.2.1 V.2.2.2.2.2.1 nl.2.2.2.2.1 nl.2.1 nl.2.2.1 hs hO
  obtain ⟨t5, t6, t7, t8, t10⟩ := V.2.2.2.2.1.2.2.2.2.1
  have fz : lf (rzC p (20 * p + L.length) (kC F)) σ σ' := f.mo (fun k j q => by
    unfold rzC at q
    unfold tqC sxC
    simp at q ⊢
    obtain ⟨⟨⟨⟨⟨⟨⟨⟨⟨q1, q2⟩, q3⟩, q4⟩, q5⟩, _⟩, _⟩, _⟩, _⟩, _⟩ := q
    exact ⟨⟨⟨⟨(fun y => by rw [q1] at y; cases y), q2⟩, q3⟩, q4⟩, fun z1 z2 => q5 z1 (by omega)⟩)
  have gz : lf (rzM p (48 * p + L.length) ms ks) τ τ' := g.mo (fun k j q => by
    unfold rzM at q
    unfold tqM sxM
    simp at q ⊢
    obtain ⟨⟨⟨⟨⟨⟨⟨⟨⟨⟨⟨q1, q2⟩, q3⟩, q4⟩, q5⟩, _⟩, _⟩, _⟩, _⟩, _⟩, _⟩, _⟩ := q
    exact ⟨⟨⟨⟨(fun y => by rw [q1] at y; cases y), q2⟩, q3⟩, fun z1 z2 => q4 z1 (by omega)⟩, fun z1 z2 => q5 z1 (by omega)⟩)
  have vC : ∀ k j, vqC k j = true → σ'.1 k j = σ.1 k j := fun k j q => (rz_eq fz (by unfold vqC at q; simp at q; omega)).1
  have vM : ∀ k j, vqM k j = true → τ'.1 k j = τ.1 k j := fun k j q => (rz_eqM gz (by unfold vqM at q; simp at q; omega)).1
  have lo : ∀ k j, 79 ≤ k → k ≤ 81 → (j < (kB F + nL σ0 (kY F).1) ∨ 12500 * p + 12500 ≤ j) → σ'.1 k j = σ.1 k j ∧ σ'.2 k j = σ.2 k j := fun k j z1 z2 z3 => f k j (tqC_f (sxC_f (by omega)) (by omega))
  have m87 : ∀ j, τ'.1 87 j = τ.1 87 j := fun j => (g 87 j (tqM_f (sxM_f (by omega)) (by omega))).1
  have ls : ∀ q a, lsL (fpT FP p (kTo F c' m' s' (kY F).2.2.2.2.1 (kY F).2.2.2.2.2 n' w' :: L) q) a ↔ lsL (FP q) a := fun q a => by
    by_cases z : q = p
    · rw [z, fpT_o, hF]
      constructor
      · rintro ⟨G, hG, wG⟩
        rcases List.mem_cons.1 hG with e | e
        · rw [e] at wG; exact ⟨F, List.mem_cons_self, h0, wG.2⟩
        · exact ⟨G, List.mem_cons_of_mem _ e, wG⟩
      · rintro ⟨G, hG, wG⟩
        rcases List.mem_cons.1 hG with e | e
        · rw [e] at wG; exact ⟨_, List.mem_cons_self, rfl, wG.2⟩
        · exact ⟨G, List.mem_cons_of_mem _ e, wG⟩
    · unfold fpT; rw [if_neg z]
  have hls := h.ls
  have low : ∀ q s, lsL (FP q) s → s < (kB F + nL σ0 (kY F).1) ∨ 12500 * p + 12500 ≤ s := fun q s w => by
    have w1 := hls q s w
    by_cases z : q = p
    · rw [z, hF] at w
      obtain ⟨G, hG, wG⟩ := w
      rcases List.mem_cons.1 hG with e | e
      · rw [e] at wG
        obtain ⟨_, x, hx, ex⟩ := wG
        have := (t5 x hx).1
        omega
      · have := (prt_rg V.2.1).2 s ⟨G, e, wG⟩
        omega
    · omega
  have gcl := (h.2.2.2.2.2.2.2.2.2.1.cg (fun a b z => z.cg vC vM) (fun k j z => (f k j (tqC_f (sxC_f (by omega)) (by omega))).1) (fun j => (f 76 j (tqC_f (sxC_f (by omega)) (by omega))).2) (fun q s w => by
      have y := low q s w
      unfold cv
      rw [(lo 79 s (by omega) (by omega) (by omega)).1, (lo 80 s (by omega) (by omega) (by omega)).2, (lo 81 s (by omega) (by omega) (by omega)).1]
      exact ⟨rfl, rfl⟩) (fun k j z => (g k j (tqM_f (sxM_f (by omega)) (by omega))).1) (fun j => (g 55 j (tqM_f (sxM_f (by omega)) (by omega))).2)).fp ls
  have gfr := frm_re V h0 (ρ' := ρ) fz gz (l' := (kY F).2.2.2.2.1) (dd' := (kY F).2.2.2.2.2) e94 e77 (fun j w1 w2 => ⟨(lo 79 j (by omega) (by omega) (by omega)).1, (lo 80 j (by omega) (by omega) (by omega)).2, (lo 81 j (by omega) (by omega) (by omega)).1⟩) (fun j w => ⟨(g 71 _ (tqM_f (sxM_f (by omega)) (by omega))).1, (g 72 _ (tqM_f (sxM_f (by omega)) (by omega))).2⟩) hs ⟨fun y hy => ⟨(t5 y hy).1, by rw [m87]; exact (t5 y hy).2⟩, fun y y1 y2 => by rw [m87]; exact t6 y y1 y2, fun y y1 y2 => by rw [(lo 81 _ (by omega) (by omega) (by omega)).1]; exact t7 y y1 y2, fun i hi => (g81 _).elim (fun y => by rw [y]; exact t8 i hi) id, hfl⟩ hO hn hw
  exact ⟨h.rf hF h0 V (F' := kTo F c' m' s' (kY F).2.2.2.2.1 (kY F).2.2.2.2.2 n' w') rfl rfl rfl fz gz (ρ' := ρ) (fun q a w => rfl) gcl gfr e8 e63 e64 (by omega) (by omega) (by omega) (fun j z => (g81 j).elim (fun y => by rw [y]; exact h.2.2.2.2.2.2.2.2.2.2.2.2.1 j (fun q w => z q ((ls q j).2 w))) Or.inl), tq_rg f g rg⟩
/-- where the hidden ones of a for lie -/
theorem c_hid {σ0 τ0 σ τ : lj_S} {n np p : Nat} {r : List Nat} {FP : Nat → List kF} {ρ : Nat → Nat} {A MO LA : List Nat} (h : MB σ0 τ0 n np p r FP ρ A MO LA σ τ) {F : kF} {L : List kF} (hF : FP p = F :: L) (h0 : kS F = 0) {ms ks ce me mq : Nat} (V : vw σ0 τ0 σ τ ρ FP p F L ms ks ce me mq) {σ1 : lj_S} (f : lf (tqC p (20 * p + L.length) (kB F + nL σ0 (kY F).1)) σ σ1) (d : Nat) (hd : d < 1000) : lj_R lc_P 218 [.ref 8, .int (Int32.ofNat d)] σ1 = some (.inl (some (.int (Int32.ofNat ((kB F + nL σ0 (kY F).1) + 3 * d)))), σ1) := by
  have B := V.bd
  have nl := V.ff.1
  have e34 : σ1.1 8 34 = Int32.ofNat (20 * p + L.length) := by rw [(f 8 34 (tqC_f (sxC_f (by omega)) (by omega))).1]; exact V.i34
  have e35 : σ1.1 8 35 = Int32.ofNat (kB F) := by rw [(f 8 35 (tqC_f (sxC_f (by omega)) (by omega))).1]; exact h.bs hF h0
  have e92 : σ1.1 92 (20 * p + L.length) = Int32.ofNat (kY F).1 := by rw [(f 92 _ (tqC_f (sxC_f (by omega)) (by omega))).1]; exact V.2.2.2.2.1.1.2.1
  have e31 : σ1.1 31 (kY F).1 = Int32.ofNat (nL σ0 (kY F).1) := by
    rw [(f 31 _ (tqC_f (sxC_f (by omega)) (by omega))).1, (h.1.1 31 _ (by unfold cdC; simp)).1]
    refine lz_ext ?_
    rw [lz_lit (by omega)]
    have := nl.2.2.2.2.2.1
    unfold nL
    show lv σ0 31 (kY F).1 = _
    omega
  rw [rc_218, kc_218_0, e34, if_pos (ofN_in (by omega) (by omega)), lz_onat (by omega), e92, if_pos (ofN_in (by omega) (by omega)), lz_onat (by omega), e31, e35, ← Int32.ofNat_add, show (3 : Int32) = Int32.ofNat 3 from rfl, ← Int32.ofNat_mul, ← Int32.ofNat_add]
theorem cv_s {σ : lj_S} {a j : Nat} (u : vT) (h : j ≠ a) : cv (setC σ a u) j = cv σ j := by
  unfold cv
  rw [(setC_o σ a u 79 j (by omega)).1, (setC_o σ a u 80 j (by omega)).2]
theorem cv_ss {σ : lj_S} {a : Nat} (u : vT) (h : a < 325000) : cv (setC σ a u) a = u := by
  have := vaC_s σ a u
  unfold vaC at this
  rw [if_pos h] at this
  exact this
theorem tq_set {p i lo : Nat} {σ σ1 : lj_S} (f : lf (tqC p i lo) σ σ1) {a : Nat} (u : vT) (h1 : lo ≤ a) (h2 : a < 12500 * p + 12500) (h3 : a < 325000) : lf (tqC p i lo) σ (setC σ1 a u) := by
  rw [setC_lt _ h3]
  exact lf_putL (lf_put f 79 a _ (tqC_t (by omega))) 80 a _ (tqC_t (by omega))
/-- three values go where the hidden ones lie -/
theorem c_bf1 {σ : lj_S} {h t i : Nat} (h8 : σ.1 8 8 = Int32.ofNat t) (hh : h + 3 ≤ 325000) (ht : t + 3 ≤ 325000) (hi : i < 3) (x2 x3 : Int32) : lj_D lc_P lc_M219 48 [.ref 8, .int (Int32.ofNat h), .int x2, .int x3, .int (Int32.ofNat i)] [] σ = lj_D lc_P lc_M219 13 [.ref 8, .int (Int32.ofNat h), .int x2, .int x3, .int (Int32.ofNat (i + 1))] [] (setC σ (h + i) (cv σ (t + i))) := by
  rw [kc_219_48, h8, ← Int32.ofNat_add, ← Int32.ofNat_add, if_pos (ofN_in (by omega) (by omega)), if_pos (ofN_in (by omega) (by omega)), if_pos (ofN_in (by omega) (by omega)), if_pos (ofN_in (by omega) (by omega)), lz_onat (by omega), lz_onat (by omega), lz_osucc, setC_lt _ (by omega)]
  rfl
def bf3 (σ : lj_S) (h t : Nat) : lj_S := setC (setC (setC (lj_put σ 8 8 (Int32.ofNat t)) h (cv σ t)) (h + 1) (cv σ (t + 1))) (h + 2) (cv σ (t + 2))
theorem bf3_o (σ : lj_S) {h t : Nat} (hh : h + 3 ≤ 325000) (k j : Nat) (z : ¬ ((k = 79 ∨ k = 80) ∧ h ≤ j ∧ j < h + 3) ∧ ¬ (k = 8 ∧ j = 8)) : (bf3 σ h t).1 k j = σ.1 k j ∧ (bf3 σ h t).2 k j = σ.2 k j := by
  unfold bf3
  obtain ⟨a1, a2⟩ := setC_o (setC (setC (lj_put σ 8 8 (Int32.ofNat t)) h (cv σ t)) (h + 1) (cv σ (t + 1))) (h + 2) (cv σ (t + 2)) k j (by omega)
  obtain ⟨b1, b2⟩ := setC_o (setC (lj_put σ 8 8 (Int32.ofNat t)) h (cv σ t)) (h + 1) (cv σ (t + 1)) k j (by omega)
  obtain ⟨c1, c2⟩ := setC_o (lj_put σ 8 8 (Int32.ofNat t)) h (cv σ t) k j (by omega)
  rw [a1, a2, b1, b2, c1, c2, lj_put_1, if_neg z.2]
  exact ⟨rfl, rfl⟩
theorem bf3_v (σ : lj_S) {h t : Nat} (hh : h + 3 ≤ 325000) (i : Nat) (hi : i < 3) : cv (bf3 σ h t) (h + i) = cv σ (t + i) := by
  unfold bf3
  by_cases z2 : i = 2
  · rw [z2, cv_ss _ (by omega)]
  · rw [cv_s _ (by omega)]
    by_cases z1 : i = 1
    · rw [z1, cv_ss _ (by omega)]
    · have : i = 0 := by omega
      rw [this, cv_s _ (by omega)]
      exact cv_ss _ (by omega)
theorem tq_bf3 {p i lo : Nat} {σ σ1 : lj_S} (f : lf (tqC p i lo) σ σ1) {h t : Nat} (h1 : lo ≤ h) (h2 : h + 3 ≤ 12500 * p + 12500) (h3 : h + 3 ≤ 325000) : lf (tqC p i lo) σ (bf3 σ1 h t) := tq_set (tq_set (tq_set (tq_88 f _) _ (by omega) (by omega) (by omega)) _ (by omega) (by omega) (by omega)) _ (by omega) (by omega) (by omega)
/-- called for -/
theorem c_bfor1 {σ : lj_S} {h t : Nat} (h8 : σ.1 8 8 = Int32.ofNat (t + 3)) (hh : h + 3 ≤ t) (ht : t + 3 ≤ 325000) (line : Int32) : lj_R lc_P 219 [.ref 8, .int (Int32.ofNat h), .int 1, .int line] σ = some (.inl none, bf3 σ h t) := by
  have e3 : σ.1 8 8 - 3 = Int32.ofNat t := by
    have e1 : (3 : Int32).toInt = 3 := by decide
    exact lz_ext (by rw [h8, lz_sub (by rw [lz_lit (by omega), e1]; omega), lz_lit (by omega), e1, lz_lit (by omega)]; omega)
  have q0 : (lj_put σ 8 8 (Int32.ofNat t)).1 8 8 = Int32.ofNat t := (by simp [lj_put_1, lj_putL_1])
  have q1 : (setC (lj_put σ 8 8 (Int32.ofNat t)) h (cv σ t)).1 8 8 = Int32.ofNat t := by rw [(setC_o _ _ _ 8 8 (by omega)).1]; exact q0
  have q2 : (setC (setC (lj_put σ 8 8 (Int32.ofNat t)) h (cv σ t)) (h + 1) (cv σ (t + 1))).1 8 8 = Int32.ofNat t := by rw [(setC_o _ _ _ 8 8 (by omega)).1]; exact q1
  have b0 := c_bf1 (i := 0) q0 (h := h) (by omega) (by omega) (by omega) 1 line
  have b1 := c_bf1 (i := 1) q1 (h := h) (by omega) (by omega) (by omega) 1 line
  have b2 := c_bf1 (i := 2) q2 (h := h) (by omega) (by omega) (by omega) 1 line
  simp only [Nat.add_zero] at b0
  rw [cv_p _ (by decide)] at b0
  rw [cv_s _ (by omega), cv_p _ (by decide)] at b1
  rw [cv_s _ (by omega), cv_s _ (by omega), cv_p _ (by decide)] at b2
  have b0 : lj_D lc_P lc_M219 48 [.ref 8, .int (Int32.ofNat h), .int 1, .int line, .int 0] [] _ = _ := b0
  rw [rc_219, kc_219_0, e3, kc_219_13, if_neg (by decide), if_neg (by decide), b0, kc_219_13, if_neg (by decide), if_neg (by decide), b1, kc_219_13, if_neg (by decide), if_neg (by decide), b2, kc_219_13, if_pos (by decide), if_neg (by decide), kc_219_122]
  rfl
theorem act_50 {σ0 τ0 σ τ : lj_S} {n np p : Nat} {r : List Nat} {FP : Nat → List kF} {ρ : Nat → Nat} {A MO LA : List Nat} (h : MB σ0 τ0 n np p r FP ρ A MO LA σ τ) {F : kF} {L : List kF} (hF : FP p = F :: L) (h0 : kS F = 0) (rg : rgR σ τ) (hs : stF σ0 τ0) {Z : List pT} (hk : insK σ0 τ0 (kY F).1 (kY F).2.1 (kY F).2.2.1 (kY F).2.2.2.1 (kY F).2.2.2.2.1 (kY F).2.2.2.2.2 Z 50) {n' : Nat} (hn : ∀ z ∈ Z, gn σ0 τ0 n' z) : nxR σ0 τ0 n np p r FP ρ A MO LA σ τ F L n' Z := by
  obtain ⟨d, s', hsh, hd, hd2, k1, k1', k1'', rfl⟩ := hk
  obtain ⟨ms, ks, ce, me, mq, V⟩ := h.w hF h0
  have B := V.bd
  have nl := V.ff.1
  have st := V.st
  have hO := V.ff.1.2.2.2.1
  have hfl := V.fl
  rw [hsh] at st hO hfl
  obtain ⟨c2, m2, rfl, rfl, v2, _, _, _, st⟩ := st.u0 (Or.inl rfl)
  obtain ⟨c1, m1, rfl, rfl, v1, _, _, _, st⟩ := st.u0 (Or.inl rfl)
  obtain ⟨c0, m0, rfl, rfl, v0, _, _, _, st⟩ := st.u0 (Or.inl rfl)
  obtain ⟨b1, b2, b3, _⟩ := stk_bd st
  have dn : d < nH σ0 (kY F).1 := by unfold nH; omega
  have hh3 : (kB F + nL σ0 (kY F).1) + 3 * d + 3 ≤ c0 := by omega
  obtain ⟨f1, f2, f3, f4, fA, fL, fK, f5⟩ := c_ft h hF h0 hs k1 (by decide)
  have hq : lf (tqC p (20 * p + L.length) (kB F + nL σ0 (kY F).1)) σ (lj_put σ 94 (20 * p + L.length) (Int32.ofNat ((kY F).2.1 + 1))) := tq_94 (lf_rf _ _) _
  have ch := c_hid h hF h0 V hq d (by omega)
  have bf := c_bfor1 (σ := lj_put σ 94 (20 * p + L.length) (Int32.ofNat ((kY F).2.1 + 1))) (h := (kB F + nL σ0 (kY F).1) + 3 * d) (t := c0) (by rw [lj_put_1, if_neg (by omega)]; exact V.tp) hh3 (by omega) (σ0.1 26 (kY F).2.1)
  have f : lf (tqC p (20 * p + L.length) (kB F + nL σ0 (kY F).1)) σ (bf3 (lj_put σ 94 (20 * p + L.length) (Int32.ofNat ((kY F).2.1 + 1))) ((kB F + nL σ0 (kY F).1) + 3 * d) c0) := tq_bf3 hq (by omega) (by omega) (by omega)
  have o := bf3_o (lj_put σ 94 (20 * p + L.length) (Int32.ofNat ((kY F).2.1 + 1))) (h := (kB F + nL σ0 (kY F).1) + 3 * d) (t := c0) (by omega)
  have vv := bf3_v (lj_put σ 94 (20 * p + L.length) (Int32.ofNat ((kY F).2.1 + 1))) (h := (kB F + nL σ0 (kY F).1) + 3 * d) (t := c0) (by omega)
  have g : lf (tqM p (48 * p + L.length) (ms + kD F) ks) τ τ := lf_rf _ _
  obtain ⟨g1, g2⟩ := h.hf hF h0 rg V f g (s' := 4 :: s') (c' := (kY F).2.1 + 1) (m' := (kY F).2.2.1) (n' := n' + 1) (w' := 0) (ce' := c0) (me' := m0 + 3) (mq' := mq) (by
      rw [(o 97 _ (by omega)).1, lj_put_1, if_neg (by omega)]
      refine Or.inr (Or.inr (Or.inl ⟨Or.inr rfl, m0, rfl, fun i hi => ⟨?_, fun z => absurd z (by decide)⟩, ?_⟩))
      · rw [← hd, vv i hi, cv_p _ (by decide)]
        refine vR_tq f g ?_
        rcases (show i = 0 ∨ i = 1 ∨ i = 2 by omega) with z | z | z
        · rw [z]; exact v0
        · rw [z]; exact v1
        · rw [z]; exact v2
      · exact stk_cg (fun a b z => vR_tq f g z) st (fun j z => ⟨by rw [(o 79 _ (by omega)).1, lj_put_1, if_neg (by omega)], by rw [(o 80 _ (by omega)).2]; rfl, by rw [(o 81 _ (by omega)).1, lj_put_1, if_neg (by omega)]⟩) (fun j z => ⟨by rw [(o 79 _ (by omega)).1, lj_put_1, if_neg (by omega)], by rw [(o 80 _ (by omega)).2]; rfl⟩) (fun j z => ⟨rfl, rfl⟩) (fun j z => rfl)) (by rw [(o 94 _ (by omega)).1, lj_put_1, if_pos ⟨rfl, rfl⟩]) V.2.2.2.2.1.2.1.2.2.2.1 (by unfold bf3; rw [(setC_o _ _ _ 8 8 (by omega)).1, (setC_o _ _ _ 8 8 (by omega)).1, (setC_o _ _ _ 8 8 (by omega)).1]; exact (by simp [lj_put_1, lj_putL_1])) V.at.2.2.1 V.at.2.2.2.2.1 (gn_ok (hn _ List.mem_cons_self)) (by
      have e : (flo (4 :: s')).length = (flo s').length + 1 := by
        unfold flo
        rw [List.length_reverse, List.length_reverse, List.filter_cons_of_pos (by rfl), List.length_cons]
      omega) (Or.inr ⟨Nat.succ_ne_zero _, hn _ List.mem_cons_self⟩) (fun z => absurd rfl z) (fun j => Or.inl (by rw [(o 81 _ (by omega)).1, lj_put_1, if_neg (by omega)]))
  refine ⟨_, τ, _, List.mem_cons_self, go_step rg.1 ?_, fun _ => rfl, g1, g2⟩
  have e24 : (lj_put σ 94 (20 * p + L.length) (Int32.ofNat ((kY F).2.1 + 1))).1 24 (Int32.ofNat (kY F).2.1).toNatClampNeg = 1 := by
    rw [lj_put_1, if_neg (by omega), f5, (h.1.1 24 _ (by unfold cdC; simp)).1]; exact k1''
  rw [ca_x σ f1 f3 f4 (fA.trans k1') fL fK (by decide), f2, lz_osucc, cg_35 _ f4 (by rw [lj_put_1, if_neg (by omega)]; exact fK), ch, bi_ok, if_pos f4, if_pos e24, kc_217_282, bf, bv_ok, kc_217_917, bv_ok, kc_139_1051]
