/-! acts on variables -/
theorem setC_lt (σ : lj_S) {a : Nat} (h : a < 325000) (u : vT) : setC σ a u = lj_putL (lj_put σ 79 a u.1) 80 a u.2 := by unfold setC; rw [if_pos h]
theorem setC_ge (σ : lj_S) (c : Nat) (u : vT) : setC σ (325000 + c) u = lj_putL (lj_put σ 75 c u.1) 76 c u.2 := by unfold setC; rw [if_neg (by omega), Nat.add_sub_cancel_left]
theorem setM_63 (τ : lj_S) (c p : Nat) (w : vT) (x : Int32) : lj_put (setM τ c w) 63 p x = setM (lj_put τ 63 p x) c w := by
  show lj_putL (lj_put (lj_put τ 54 c w.1) 63 p x) 55 c w.2 = lj_putL (lj_put (lj_put τ 63 p x) 54 c w.1) 55 c w.2
  rw [put_cm _ _ _ (by omega)]
theorem vR_tq {p i lo p' i' ml kl : Nat} {σ σ' τ τ' : lj_S} (f : lf (tqC p i lo) σ σ') (g : lf (tqM p' i' ml kl) τ τ') {a b : vT} (h : vR σ τ a b) : vR σ' τ' a b := by
  have vr := tp_vR (tq_tp (Nat.le_refl lo) f) (tq_tpM (Nat.le_refl ml) (Nat.le_refl kl) g)
  exact h.cg vr.1 vr.2
theorem rg_set {σ τ : lj_S} (rg : rgR σ τ) (a : Nat) (u : vT) (c : Nat) (w : vT) : rgR (setC σ a u) (setM τ c w) := by
  obtain ⟨r1, r2, r3, r4, r5⟩ := rg
  refine ⟨?_, ?_, ?_, ?_, ?_⟩
  · rw [(setC_o _ _ _ 8 46 (by omega)).1]; exact r1
  · rw [(setM_o _ _ _ 0 143 (by omega)).1]; exact r2
  · rw [(setM_o _ _ _ 0 129 (by omega)).1]; exact r3
  · rw [(setC_o _ _ _ 8 45 (by omega)).1, (setM_o _ _ _ 0 144 (by omega)).1]; exact r4
  · rw [(setC_o _ _ _ 8 44 (by omega)).2, (setM_o _ _ _ 0 145 (by omega)).2]; exact r5
/-- the model's store -/
theorem m_store {τ : lj_S} {p me mq c : Nat} (h : mAt τ p (me + 1) mq) (hc : c < 95000) (J P A : Int32) : lj_D lm_P lm_M121 327 [.ref 0, .int J, .int P, .int A, .retAddr 0, .retAddr 0, .retAddr 0] [.int (Int32.ofNat c)] τ = some (.inl (some (.int 1)), setM (lj_put τ 63 p (Int32.ofNat me)) c (mv τ (10000 * p + me))) := by
  have i : lj_in (Int32.ofNat c) 95000 := ofN_in hc (by omega)
  have e : (Int32.ofNat c).toNatClampNeg = c := lz_onat (by omega)
  have tK := m_topK h (d := 0) (by omega)
  rw [show me + 1 - 1 - 0 = me by omega] at tK
  have tK : lj_R lm_P 124 [.ref 0, .int 0] τ = _ := tK
  have h1 : mAt (lj_put τ 54 c (mv τ (10000 * p + me)).1) p (me + 1) mq := by
    obtain ⟨a1, a2, a3, a4, a5, a6⟩ := h
    exact ⟨by rw [lj_put_1, if_neg (by omega)]; exact a1, a2, by rw [lj_put_1, if_neg (by omega)]; exact a3, a4, by rw [lj_put_1, if_neg (by omega)]; exact a5, a6⟩
  have tN := m_topN h1 (d := 0) (by omega)
  rw [show me + 1 - 1 - 0 = me by omega, mv_p _ (by decide)] at tN
  have tN : lj_R lm_P 125 [.ref 0, .int 0] _ = _ := tN
  have h2 : mAt (setM τ c (mv τ (10000 * p + me))) p (me + 1) mq := h1
  have dr := m_drop h2 (d := 1) (by omega)
  rw [show me + 1 - 1 = me by omega, setM_63] at dr
  have dr : lj_R lm_P 126 [.ref 0, .int 1] (lj_putL (lj_put τ 54 c (mv τ (10000 * p + me)).1) 55 c (mv τ (10000 * p + me)).2) = _ := dr
  rw [km_121_327, tK, bi_ok]
  simp only [if_pos i, e]
  rw [tN, bl_ok, dr, bv_ok, km_121_398]
/-- the base of the frame at hand -/
theorem MB.bs {σ0 τ0 σ τ : lj_S} {n np p : Nat} {r : List Nat} {FP : Nat → List kF} {ρ : Nat → Nat} {A MO LA : List Nat} (h : MB σ0 τ0 n np p r FP ρ A MO LA σ τ) {F : kF} {L : List kF} (hF : FP p = F :: L) (h0 : kS F = 0) : σ.1 8 35 = Int32.ofNat (kB F) := by
  have := h.2.2.2.2.2.2.2.2.1
  rw [hF] at this
  exact this.2 h0
theorem act_8 {σ0 τ0 σ τ : lj_S} {n np p : Nat} {r : List Nat} {FP : Nat → List kF} {ρ : Nat → Nat} {A MO LA : List Nat} (h : MB σ0 τ0 n np p r FP ρ A MO LA σ τ) {F : kF} {L : List kF} (hF : FP p = F :: L) (h0 : kS F = 0) (rg : rgR σ τ) (hs : stF σ0 τ0) {Z : List pT} (hk : insK σ0 τ0 (kY F).1 (kY F).2.1 (kY F).2.2.1 (kY F).2.2.2.1 (kY F).2.2.2.2.1 (kY F).2.2.2.2.2 Z 8) {n' : Nat} (hn : ∀ z ∈ Z, gn σ0 τ0 n' z) : nxR σ0 τ0 n np p r FP ρ A MO LA σ τ F L n' Z := by
  obtain ⟨x, s', hx, hsh, k1, k1', k2, k2', rfl⟩ := hk
  obtain ⟨ms, ks, ce, me, mq, V⟩ := h.w hF h0
  have B := V.bd
  have st := V.st
  have hO := V.ff.1.2.2.2.1
  have hfl := V.fl
  have m64 : τ.1 64 p = Int32.ofNat mq := V.at.2.2.2.2.1
  rw [hsh] at st hO hfl
  obtain ⟨ce', me', rfl, rfl, hv, _, _, _, st⟩ := st.u0 (Or.inl rfl)
  obtain ⟨f1, f2, f3, f4, fA, fL, fK, f5⟩ := c_ft h hF h0 hs k1 (by decide)
  have hfl' : (flo s').length ≤ nH σ0 (kY F).1 := Nat.le_trans (flo_t 0 s') hfl
  obtain ⟨g1, g2⟩ := h.dn hF h0 rg V st (σ' := lj_put (lj_put σ 94 (20 * p + L.length) (Int32.ofNat ((kY F).2.1 + 1))) 8 8 (Int32.ofNat ce')) (τ' := lj_put (lj_put τ 77 (48 * p + L.length) (Int32.ofNat ((kY F).2.2.1 + 1))) 63 p (Int32.ofNat me')) (tq_88 (tq_94 (lf_rf _ _) _) _) (tm_63 (tm_77 (lf_rf _ _) _) _) (by simp [lj_put_1, lj_putL_1]) (by simp [lj_put_1, lj_putL_1]) (by simp [lj_put_1, lj_putL_1]) (by simp [lj_put_1, lj_putL_1]) (by simp [lj_put_1, lj_putL_1]) (by simp [lj_put_1, m64]) hO.tl hfl' (Or.inr ⟨Nat.succ_ne_zero _, hn _ List.mem_cons_self⟩)
  have xl := V.2.2.2.2.1.2.2.2.2.1.1 x hx
  have ls : lsL (fpT FP p (kTo F ((kY F).2.1 + 1) ((kY F).2.2.1 + 1) s' (kY F).2.2.2.2.1 (kY F).2.2.2.2.2 (n' + 1) 0 :: L) p) (kB F + x) := by
    rw [fpT_o]
    exact ⟨_, List.mem_cons_self, rfl, x, hx, rfl⟩
  have us : usd σ0 (lj_put (lj_put σ 94 (20 * p + L.length) (Int32.ofNat ((kY F).2.1 + 1))) 8 8 (Int32.ofNat ce')) (lj_put (lj_put τ 77 (48 * p + L.length) (Int32.ofNat ((kY F).2.2.1 + 1))) 63 p (Int32.ofNat me')) (fpT FP p (kTo F ((kY F).2.1 + 1) ((kY F).2.2.1 + 1) s' (kY F).2.2.2.2.1 (kY F).2.2.2.2.2 (n' + 1) 0 :: L)) (kB F + x) := Or.inl ⟨p, ls, Or.inl (by rw [lj_put_1, if_neg (by omega), lj_put_1, if_neg (by omega), h.2.2.2.2.2.2.1.2.2.1.2]; decide)⟩
  have a3 : kB F + x < 325000 := (g1.2.2.2.2.2.2.2.2.2.1.2.2.2.2.2.1 p _ ls).1
  have rb : ρ (kB F + x) < 95000 := (g1.2.2.2.2.2.2.2.2.2.1.1 _ us).1
  have g3 := g1.var us (u := cv σ ce') (w := mv τ (10000 * p + me')) (vR_tq (tq_88 (tq_94 (lf_rf (tqC p (20 * p + L.length) 0) σ) _) _) (tm_63 (tm_77 (lf_rf (tqM p (48 * p + L.length) 0 0) τ) _) _) hv)
  obtain ⟨i1, i2, i3⟩ := c_pre (x := σ.1 8 8) (t := ce') V.tp (by omega)
  have eb : σ.1 8 35 + Int32.ofNat x = Int32.ofNat (kB F + x) := by rw [h.bs hF h0, ← Int32.ofNat_add]
  refine ⟨_, _, _, List.mem_cons_self, go_step rg.1 ?_, run_step rg.2.1 rg.2.2.1 ?_, g3, rg_set g2 _ _ _ _⟩
  · rw [ca_9 σ f1 f3 f4 (fA.trans k1') fL fK, eb, if_pos i1, if_pos (ofN_in (by omega) (by omega)), if_pos i1, if_pos (ofN_in (by omega) (by omega)), kc_139_1051, f2, lz_osucc, i2, i3, lz_onat (by omega), setC_lt _ a3]
    rfl
  · obtain ⟨⟨m1, m2, m3, m4, m5, m6, m7⟩, m8⟩ := (h.cx hF h0 hs).2 (by rw [k2]; decide)
    have k20 : τ.1 20 (kY F).2.2.1 = 9 := by rw [m8 20 (by decide) (by decide)]; exact k2
    have at1 := mAt_p (i := (48 * p + L.length)) (v := Int32.ofNat ((kY F).2.2.1 + 1)) V.at
    have ec : (50 : Int32) * Int32.ofNat (48 * p + L.length) + Int32.ofNat x = Int32.ofNat (50 * (48 * p + L.length) + x) := by rw [show (50 : Int32) = Int32.ofNat 50 from rfl, ← Int32.ofNat_mul, ← Int32.ofNat_add]
    have x50 : x < 50 := by have := V.ff.1.2.1; omega
    have ic : lj_in (Int32.ofNat (50 * (48 * p + L.length) + x)) 62400 := ofN_in (by omega) (by omega)
    rw [mw_9 τ m1 m2 m3 m5 m6 (A := Int32.ofNat x) (by rw [m7, m8 21 (by decide) (by decide)]; exact k2') (by rw [m7]; exact k20), m4, lz_osucc, km_121_286, if_pos m6, if_pos (by rw [m7, lj_put_1, if_neg (by omega)]; exact k20), ec, if_pos ic, lz_onat (by omega), lj_put_1, if_neg (by omega), xl.2, m_store at1 rb, mv_p _ (by decide)]
/-- a captured variable of the frame at hand: where it lies -/
theorem MB.cap {σ0 τ0 σ τ : lj_S} {n np p : Nat} {r : List Nat} {FP : Nat → List kF} {ρ : Nat → Nat} {A MO LA : List Nat} (h : MB σ0 τ0 n np p r FP ρ A MO LA σ τ) {F : kF} {L : List kF} (hF : FP p = F :: L) (h0 : kS F = 0) {ms ks ce me mq : Nat} (V : vw σ0 τ0 σ τ ρ FP p F L ms ks ce me mq) {x : Nat} (hx : (x : Int) < lv σ0 33 (kY F).1) : obA σ τ (kO F) 5 ∧ σ.1 62 (kO F) = Int32.ofNat (kY F).1 := by
  rcases V.ff.2.1 with ⟨_, w⟩ | w
  · omega
  · exact w
/-- the component's captured cell -/
theorem c_cap {σ : lj_S} {i o r x c : Nat} (h34 : σ.1 8 34 = Int32.ofNat i) (hi : i < 520) (h93 : σ.1 93 i = Int32.ofNat o) (ho : o ≤ 2000) (h63 : σ.1 63 o = Int32.ofNat r) (hr : r + x < 60000) (h77 : σ.1 77 (r + x) = Int32.ofNat c) : lj_R lc_P 140 [.ref 8, .int (Int32.ofNat x)] σ = some (.inl (some (.int (Int32.ofNat c))), σ) := by
  rw [rc_140, kc_140_0, h34, if_pos (ofN_in (by omega) (by omega)), lz_onat (by omega), h93, if_pos (ofN_in (by omega) (by omega)), lz_onat (by omega), h63, ← Int32.ofNat_add, if_pos (ofN_in (by omega) (by omega)), lz_onat (by omega), h77]
theorem act_6 {σ0 τ0 σ τ : lj_S} {n np p : Nat} {r : List Nat} {FP : Nat → List kF} {ρ : Nat → Nat} {A MO LA : List Nat} (h : MB σ0 τ0 n np p r FP ρ A MO LA σ τ) {F : kF} {L : List kF} (hF : FP p = F :: L) (h0 : kS F = 0) (rg : rgR σ τ) (hs : stF σ0 τ0) {Z : List pT} (hk : insK σ0 τ0 (kY F).1 (kY F).2.1 (kY F).2.2.1 (kY F).2.2.2.1 (kY F).2.2.2.2.1 (kY F).2.2.2.2.2 Z 6) {n' : Nat} (hn : ∀ z ∈ Z, gn σ0 τ0 n' z) : nxR σ0 τ0 n np p r FP ρ A MO LA σ τ F L n' Z := by
  obtain ⟨x, hx, k1, k1', k2, k2', rfl⟩ := hk
  obtain ⟨ms, ks, ce, me, mq, V⟩ := h.w hF h0
  have B := V.bd
  have m64 : τ.1 64 p = Int32.ofNat mq := V.at.2.2.2.2.1
  obtain ⟨ho, h62⟩ := MB.cap h hF h0 V hx
  have o2 := ho.2.1
  obtain ⟨rr, c, c1, c2, c3, c4, c5, c6, c7, c8, c9⟩ := h.2.2.2.2.2.2.2.2.2.1.cap h.2.2.2.1.1 ho V.ff.1.1 h62 hx
  have x30 : x < 30 := by have := (h.2.2.2.2.2.1 (kO F) (kY F).1 ho V.ff.1.1 h62).2.2.2.2.2; omega
  obtain ⟨f1, f2, f3, f4, fA, fL, fK, f5⟩ := c_ft h hF h0 hs k1 (by decide)
  have nx : ∀ w : Int32, w = (vaC σ (loC σ c)).1 → nxR σ0 τ0 n np p r FP ρ A MO LA σ τ F L n' [((kY F).1, (kY F).2.1 + 1, (kY F).2.2.1 + 1, 0 :: (kY F).2.2.2.1, (kY F).2.2.2.2.1, (kY F).2.2.2.2.2)] := fun _ _ => by
    obtain ⟨g1, g2⟩ := h.pu hF h0 rg V V.st (σ1 := lj_put (lj_put σ 94 (20 * p + L.length) (Int32.ofNat ((kY F).2.1 + 1))) 7 27 (vaC σ (loC σ c)).1) (τ1 := lj_put τ 77 (48 * p + L.length) (Int32.ofNat ((kY F).2.2.1 + 1))) (lf_put (tq_94 (lf_rf _ _) _) 7 27 _ (by unfold tqC sxC szC; simp)) (tm_77 (lf_rf _ _) _) (by simp [lj_put_1, lj_putL_1]) (c' := (kY F).2.1 + 1) (m' := (kY F).2.2.1 + 1) (n' := n' + 1) (w' := 0) (by simp [lj_put_1, lj_putL_1]) (by simp [lj_put_1, lj_putL_1]) (by simp [lj_put_1, m64]) (gn_ok (hn _ List.mem_cons_self)) V.fl c8 (Or.inr ⟨Nat.succ_ne_zero _, hn _ List.mem_cons_self⟩) (fun z => absurd rfl z)
    refine ⟨_, _, _, List.mem_cons_self, go_step rg.1 ?_, run_step rg.2.1 rg.2.2.1 ?_, g1, g2⟩
    · have cc : lj_R lc_P 140 [.ref 8, .int (Int32.ofNat x)] (lj_put σ 94 (20 * p + L.length) (Int32.ofNat ((kY F).2.1 + 1))) = _ := c_cap (i := (20 * p + L.length)) (o := kO F) (r := rr) (x := x) (c := c) (by rw [lj_put_1, if_neg (by omega)]; exact V.i34) (by omega) (by rw [lj_put_1, if_neg (by omega)]; exact V.2.2.2.2.1.1.2.2.1) o2 (by rw [lj_put_1, if_neg (by omega)]; exact c1) c2 (by rw [lj_put_1, if_neg (by omega)]; exact c3)
      have co : lj_R lc_P 141 [.ref 8, .int (Int32.ofNat c)] (lj_put σ 94 (20 * p + L.length) (Int32.ofNat ((kY F).2.1 + 1))) = some (.inl (some (.long (vaC σ (loC σ c)).2)), lj_put (lj_put σ 94 (20 * p + L.length) (Int32.ofNat ((kY F).2.1 + 1))) 7 27 (vaC σ (loC σ c)).1) := by
        have ic : lj_in (Int32.ofNat c) 60000 := ofN_in (by omega) (by omega)
        have e74 : (lj_put σ 94 (20 * p + L.length) (Int32.ofNat ((kY F).2.1 + 1))).1 74 (Int32.ofNat c).toNatClampNeg = σ.1 74 c := by rw [lz_onat (by omega), lj_put_1, if_neg (by omega)]
        rw [rc_141, kc_141_0, if_pos ic]
        rcases c9 with ⟨d1, d2⟩ | ⟨s, d1, d2, d3, _⟩
        · rw [if_pos (by rw [e74, d1]; decide), if_pos ic, kc_141_45, if_pos (by rw [e74, d1]; decide), if_pos ic, kc_141_73, d2, lz_onat (by omega), lj_put_1, if_neg (by omega)]
          unfold vaC
          rw [if_neg (by omega), Nat.add_sub_cancel_left]
          rfl
        · have nl : ¬ (Int32.ofNat s < 0) := by
            rw [lz_lt, lz_lit (by omega)]
            show ¬ ((s : Int) < 0)
            omega
          rw [if_neg (by rw [e74, d2]; exact nl), if_pos (by rw [e74, d2]; exact ofN_in (by omega) (by omega)), kc_141_45, if_neg (by rw [e74, d2]; exact nl), if_pos (by rw [e74, d2]; exact ofN_in (by omega) (by omega)), kc_141_73, e74, d2, d3, lz_onat (by omega), lj_put_1, if_neg (by omega)]
          unfold vaC
          rw [if_pos d1]
          rfl
      have pu := c_push (σ := lj_put (lj_put σ 94 (20 * p + L.length) (Int32.ofNat ((kY F).2.1 + 1))) 7 27 (vaC σ (loC σ c)).1) (t := ce) (by simp [lj_put_1, V.tp]) (by omega) (vaC σ (loC σ c))
      rw [ca_7 σ f1 f3 f4 (fA.trans k1') fL fK, f2, lz_osucc, cc, bi_ok, co, bl_ok, show (lj_put (lj_put σ 94 (20 * p + L.length) (Int32.ofNat ((kY F).2.1 + 1))) 7 27 (vaC σ (loC σ c)).1).1 7 27 = (vaC σ (loC σ c)).1 from (by simp [lj_put_1, lj_putL_1]), pu, bv_ok, kc_139_1051]
    · obtain ⟨⟨m1, m2, m3, m4, m5, m6, m7⟩, m8⟩ := (h.cx hF h0 hs).2 (by rw [k2]; decide)
      have at1 := mAt_p (i := (48 * p + L.length)) (v := Int32.ofNat ((kY F).2.2.1 + 1)) V.at
      have pu := m_push at1 (by omega) (τ.1 54 (ρ (loC σ c)), τ.2 55 (ρ (loC σ c)))
      have e76 : τ.1 76 (48 * p + L.length) = Int32.ofNat (kO F) := V.2.2.2.2.1.2.1.2.2.1
      have ec : (30 : Int32) * Int32.ofNat (kO F) + Int32.ofNat x = Int32.ofNat (30 * kO F + x) := by rw [show (30 : Int32) = Int32.ofNat 30 from rfl, ← Int32.ofNat_mul, ← Int32.ofNat_add]
      have e76' : τ.1 76 (Int32.ofNat (48 * p + L.length)).toNatClampNeg = Int32.ofNat (kO F) := by rw [m4]; exact e76
      have e44 : τ.1 44 (30 * τ.1 76 (Int32.ofNat (48 * p + L.length)).toNatClampNeg + Int32.ofNat x).toNatClampNeg = Int32.ofNat (ρ (loC σ c)) := by rw [e76', ec, lz_onat (by omega)]; exact c5
      rw [mw_7 τ m1 m2 m3 m5 m6 (A := Int32.ofNat x) (by rw [m7, m8 21 (by decide) (by decide)]; exact k2') (by rw [m7, m8 20 (by decide) (by decide)]; exact k2), if_pos m3, if_pos (by rw [e76', ec]; exact ofN_in (by omega) (by omega)), if_pos (by rw [e44]; exact ofN_in c7 (by omega)), if_pos (by rw [e44]; exact ofN_in c7 (by omega)), e44, m4, lz_osucc, lz_onat (n := ρ (loC σ c)) (by omega), pu, bv_ok, km_121_398]
  exact nx _ rfl
theorem act_10 {σ0 τ0 σ τ : lj_S} {n np p : Nat} {r : List Nat} {FP : Nat → List kF} {ρ : Nat → Nat} {A MO LA : List Nat} (h : MB σ0 τ0 n np p r FP ρ A MO LA σ τ) {F : kF} {L : List kF} (hF : FP p = F :: L) (h0 : kS F = 0) (rg : rgR σ τ) (hs : stF σ0 τ0) {Z : List pT} (hk : insK σ0 τ0 (kY F).1 (kY F).2.1 (kY F).2.2.1 (kY F).2.2.2.1 (kY F).2.2.2.2.1 (kY F).2.2.2.2.2 Z 10) {n' : Nat} (hn : ∀ z ∈ Z, gn σ0 τ0 n' z) : nxR σ0 τ0 n np p r FP ρ A MO LA σ τ F L n' Z := by
  obtain ⟨x, s', hx, hsh, k1, k1', k2, k2', rfl⟩ := hk
  obtain ⟨ms, ks, ce, me, mq, V⟩ := h.w hF h0
  have B := V.bd
  have st := V.st
  have hO := V.ff.1.2.2.2.1
  have hfl := V.fl
  have m64 : τ.1 64 p = Int32.ofNat mq := V.at.2.2.2.2.1
  rw [hsh] at st hO hfl
  obtain ⟨ce', me', rfl, rfl, hv, _, _, _, st⟩ := st.u0 (Or.inl rfl)
  obtain ⟨f1, f2, f3, f4, fA, fL, fK, f5⟩ := c_ft h hF h0 hs k1 (by decide)
  have hfl' : (flo s').length ≤ nH σ0 (kY F).1 := Nat.le_trans (flo_t 0 s') hfl
  have fC : lf (tqC p (20 * p + L.length) ce') σ (lj_put (lj_put σ 94 (20 * p + L.length) (Int32.ofNat ((kY F).2.1 + 1))) 8 8 (Int32.ofNat ce')) := tq_88 (tq_94 (lf_rf _ _) _) _
  have fM : lf (tqM p (48 * p + L.length) me' mq) τ (lj_put (lj_put τ 77 (48 * p + L.length) (Int32.ofNat ((kY F).2.2.1 + 1))) 63 p (Int32.ofNat me')) := tm_63 (tm_77 (lf_rf _ _) _) _
  obtain ⟨g1, g2⟩ := h.dn hF h0 rg V st fC fM (by simp [lj_put_1, lj_putL_1]) (by simp [lj_put_1, lj_putL_1]) (by simp [lj_put_1, lj_putL_1]) (by simp [lj_put_1, lj_putL_1]) (by simp [lj_put_1, lj_putL_1]) (by simp [lj_put_1, m64]) hO.tl hfl' (Or.inr ⟨Nat.succ_ne_zero _, hn _ List.mem_cons_self⟩)
  have fo := fpT_o FP p (kTo F ((kY F).2.1 + 1) ((kY F).2.2.1 + 1) s' (kY F).2.2.2.2.1 (kY F).2.2.2.2.2 (n' + 1) 0 :: L)
  obtain ⟨ms2, ks2, ce2, me2, mq2, V2⟩ := g1.w fo rfl
  obtain ⟨ho, h62⟩ := MB.cap g1 fo rfl V2 hx
  have ho : obA (lj_put (lj_put σ 94 (20 * p + L.length) (Int32.ofNat ((kY F).2.1 + 1))) 8 8 (Int32.ofNat ce')) (lj_put (lj_put τ 77 (48 * p + L.length) (Int32.ofNat ((kY F).2.2.1 + 1))) 63 p (Int32.ofNat me')) (kO F) 5 := ho
  have h62 : (lj_put (lj_put σ 94 (20 * p + L.length) (Int32.ofNat ((kY F).2.1 + 1))) 8 8 (Int32.ofNat ce')).1 62 (kO F) = Int32.ofNat (kY F).1 := h62
  have o2 := ho.2.1
  obtain ⟨rr, c, c1, c2, c3, c4, c5, c6, c7, c8, c9⟩ := g1.2.2.2.2.2.2.2.2.2.1.cap g1.2.2.2.1.1 ho V.ff.1.1 h62 hx
  have x30 : x < 30 := by have := (g1.2.2.2.2.2.1 (kO F) (kY F).1 ho V.ff.1.1 h62).2.2.2.2.2; omega
  generalize hlo : loC (lj_put (lj_put σ 94 (20 * p + L.length) (Int32.ofNat ((kY F).2.1 + 1))) 8 8 (Int32.ofNat ce')) c = a at c5 c6 c7 c8 c9
  have g3 := g1.var c6 (u := cv σ ce') (w := mv τ (10000 * p + me')) (vR_tq fC fM hv)
  have q8 : (lj_put σ 94 (20 * p + L.length) (Int32.ofNat ((kY F).2.1 + 1))).1 8 8 = Int32.ofNat (ce' + 1) := by rw [lj_put_1, if_neg (by omega)]; exact V.tp
  obtain ⟨i1, i2, i3⟩ := c_pre q8 (by omega)
  refine ⟨_, _, _, List.mem_cons_self, go_step rg.1 ?_, run_step rg.2.1 rg.2.2.1 ?_, g3, rg_set g2 _ _ _ _⟩
  · have cc : lj_R lc_P 140 [.ref 8, .int (Int32.ofNat x)] (lj_put σ 94 (20 * p + L.length) (Int32.ofNat ((kY F).2.1 + 1))) = _ := c_cap (i := (20 * p + L.length)) (o := kO F) (r := rr) (x := x) (c := c) (by rw [lj_put_1, if_neg (by omega)]; exact V.i34) (by omega) (by rw [lj_put_1, if_neg (by omega)]; exact V.2.2.2.2.1.1.2.2.1) o2 (by rw [lj_put_1, if_neg (by omega)] at c1; exact c1) c2 (by rw [lj_put_1, if_neg (by omega)] at c3; exact c3)
    have cs : lj_R lc_P 200 [.ref 8, .int (Int32.ofNat c)] (lj_put σ 94 (20 * p + L.length) (Int32.ofNat ((kY F).2.1 + 1))) = some (.inl none, setC (lj_put (lj_put σ 94 (20 * p + L.length) (Int32.ofNat ((kY F).2.1 + 1))) 8 8 (Int32.ofNat ce')) a (cv σ ce')) := by
      have e74 : (lj_put (lj_put σ 94 (20 * p + L.length) (Int32.ofNat ((kY F).2.1 + 1))) 8 8 (Int32.ofNat ce')).1 74 c = (lj_put σ 94 (20 * p + L.length) (Int32.ofNat ((kY F).2.1 + 1))).1 74 c := by rw [lj_put_1, if_neg (by omega)]
      rw [e74] at c9
      have ev : ((lj_put σ 94 (20 * p + L.length) (Int32.ofNat ((kY F).2.1 + 1))).1 79 ce', (lj_put σ 94 (20 * p + L.length) (Int32.ofNat ((kY F).2.1 + 1))).2 80 ce') = cv σ ce' := cv_p ce' (by decide)
      have ev1 : (lj_put σ 94 (20 * p + L.length) (Int32.ofNat ((kY F).2.1 + 1))).1 79 ce' = (cv σ ce').1 := congrArg Prod.fst ev
      have ev2 : (lj_put σ 94 (20 * p + L.length) (Int32.ofNat ((kY F).2.1 + 1))).2 80 ce' = (cv σ ce').2 := congrArg Prod.snd ev
      have ic : lj_in (Int32.ofNat c) 60000 := ofN_in (by omega) (by omega)
      have e74' : (lj_put σ 94 (20 * p + L.length) (Int32.ofNat ((kY F).2.1 + 1))).1 74 (Int32.ofNat c).toNatClampNeg = (lj_put σ 94 (20 * p + L.length) (Int32.ofNat ((kY F).2.1 + 1))).1 74 c := by rw [lz_onat (by omega)]
      rw [rc_200, kc_200_0, if_pos ic]
      rcases c9 with ⟨d1, d2⟩ | ⟨s, d1, d2, d3, _⟩
      · rw [if_pos (by rw [e74', d1]; decide), if_pos i1, if_pos ic, if_pos i1, if_pos ic, kc_200_102, i2, i3, ev1, ev2, d2, setC_ge, lz_onat (by omega)]
      · have nl : ¬ (Int32.ofNat s < 0) := by
          rw [lz_lt, lz_lit (by omega)]
          show ¬ ((s : Int) < 0)
          omega
        have is : lj_in (Int32.ofNat s) 325000 := ofN_in (by omega) (by omega)
        rw [if_neg (by rw [e74', d2]; exact nl), if_pos i1, if_pos (by rw [e74', d2]; exact is), if_pos i1, if_pos (by rw [e74', d2]; exact is), kc_200_102, i2, i3, ev1, ev2, e74', d2, d3, lz_onat (by omega), setC_lt _ d1]
    rw [ca_10 σ f1 f3 f4 (fA.trans k1') fL fK, f2, lz_osucc, cc, bi_ok, cs, bv_ok, kc_139_1051]
  · obtain ⟨⟨m1, m2, m3, m4, m5, m6, m7⟩, m8⟩ := (h.cx hF h0 hs).2 (by rw [k2]; decide)
    have k20 : τ.1 20 (kY F).2.2.1 = 10 := by rw [m8 20 (by decide) (by decide)]; exact k2
    have at1 := mAt_p (i := (48 * p + L.length)) (v := Int32.ofNat ((kY F).2.2.1 + 1)) V.at
    have e76 : (lj_put τ 77 (48 * p + L.length) (Int32.ofNat ((kY F).2.2.1 + 1))).1 76 (48 * p + L.length) = Int32.ofNat (kO F) := by rw [lj_put_1, if_neg (by omega)]; exact V.2.2.2.2.1.2.1.2.2.1
    have e44 : (lj_put τ 77 (48 * p + L.length) (Int32.ofNat ((kY F).2.2.1 + 1))).1 44 (30 * kO F + x) = Int32.ofNat (ρ a) := by rw [lj_put_1, if_neg (by omega)] at c5; exact c5
    have ec : (30 : Int32) * Int32.ofNat (kO F) + Int32.ofNat x = Int32.ofNat (30 * kO F + x) := by rw [show (30 : Int32) = Int32.ofNat 30 from rfl, ← Int32.ofNat_mul, ← Int32.ofNat_add]
    rw [mw_10 τ m1 m2 m3 m5 m6 (A := Int32.ofNat x) (by rw [m7, m8 21 (by decide) (by decide)]; exact k2') (by rw [m7]; exact k20), m4, lz_osucc, km_121_286, if_pos m6, if_neg (by rw [m7, lj_put_1, if_neg (by omega), k20]; decide), if_pos m3, m4, e76, ec, if_pos (ofN_in (by omega) (by omega)), lz_onat (by omega), e44, m_store at1 c7, mv_p _ (by decide)]
