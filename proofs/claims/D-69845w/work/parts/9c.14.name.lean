/-- words of one string each -/
def w5 : List Int32 := [108, 105, 115, 116]
def w6 : List Int32 := [116, 101, 120, 116]
def w7 : List Int32 := [112, 97, 114, 116]
def w8 : List Int32 := [95, 95]
def w9 : List Int32 := [95, 95, 109, 111, 100, 101]
def w10 : List Int32 := [110]
set_option maxRecDepth 100000 in
theorem w_str : lj_nth lc_str (1005 - 1000) = some w5 ∧ lj_nth lc_str (1006 - 1000) = some w6 ∧ lj_nth lc_str (1007 - 1000) = some w7 ∧ lj_nth lc_str (1008 - 1000) = some w8 ∧ lj_nth lc_str (1009 - 1000) = some w9 ∧ lj_nth lc_str (1010 - 1000) = some w10 := by decide +kernel
set_option maxRecDepth 100000 in
theorem w_by : w5.map lz_by = w5 ∧ w6.map lz_by = w6 ∧ w7.map lz_by = w7 ∧ w8.map lz_by = w8 ∧ w9.map lz_by = w9 ∧ w10.map lz_by = w10 := by decide +kernel
set_option maxRecDepth 100000 in
theorem w_mB : w5 = mBw 54 ∧ w6 = mBw 55 ∧ w7 = mBw 56 ∧ w9 = mBw 21 ∧ w10 = mBw 36 := by decide +kernel
theorem evM_l2 {k : Nat} (hk : k < 21) : evM k < 69 := (by decide : ∀ k : Fin 21, evM k.val < 69) ⟨k, hk⟩
/-- a word is drafted -/
theorem c_wd (σ : lj_S) (r : Nat) {W : List Int32} (hr : 1000 ≤ r) (h : lj_nth lc_str (r - 1000) = some W) (hb : W.map lz_by = W) (hl : W.length < 1000) : ∃ σ', lj_R lc_P 22 [.ref 3] σ = some (.inl none, lj_put σ 3 6 0) ∧ lj_R lc_P 29 [.ref 3, .ref r] (lj_put σ 3 6 0) = some (.inl none, σ') ∧ cDr σ' W ∧ lf cAd σ σ' := by
  obtain ⟨σ', e1, e2, e3⟩ := c_addWord (lj_put σ 3 6 0) r h hr hl (cDr_begin σ) (by decide)
  rw [hb, List.nil_append] at e2
  exact ⟨σ', c_begin σ, e1, e2, (lf_put (lf_rf _ _) _ _ _ rfl).tr e3⟩
/-- event j's name is there -/
def evH (σ : lj_S) (j : Nat) : Prop := ∃ a : Nat, a < 2600 ∧ σ.1 78 j = Int32.ofNat a ∧ (a : Int) < lv σ 3 7 ∧ cS σ a = mBw (evM j)
theorem evH.up {σ σ' : lj_S} {j : Nat} (h : evH σ j) (g : sgC σ σ') (h78 : σ'.1 78 j = σ.1 78 j) : evH σ' j := by
  obtain ⟨a, a1, a2, a3, a4⟩ := h
  exact ⟨a, a1, by rw [h78]; exact a2, Int.lt_of_lt_of_le a3 g.1, by rw [g.2.1 a a3]; exact a4⟩
theorem c_ev {σ0 τ : lj_S} {X : List Int32 → Prop} (b7 : lv σ0 3 7 + 60 < 2600) (b8 : lv σ0 3 8 + 1300 ≤ 40000) (x1 : Int32) : ∀ (d i : Nat) (σ σs : lj_S), i + d = 21 → nIv σ0 τ X (34 + i) σ → sgC σs σ → (∀ j, j < i → evH σ j) → ∃ σ', lj_D lc_P lc_M123 144 [.ref 8, .int x1, .int (Int32.ofNat i)] [] σ = lj_D lc_P lc_M123 144 [.ref 8, .int x1, .int (Int32.ofNat 21)] [] σ' ∧ nIv σ0 τ X 55 σ' ∧ sgC σs σ' ∧ ∀ j, j < 21 → evH σ' j
  | 0, i, σ, σs, h, hn, hg, he => by
    have e : i = 21 := h
    exact ⟨σ, by rw [e], by rw [e] at hn; exact hn, hg, by rw [← e]; exact he⟩
  | d + 1, i, σ, σs, h, hn, hg, he => by
    obtain ⟨σ1, a1, a2, a3, a4⟩ := c_wd σ 1008 (by decide) w_str.2.2.2.1 w_by.2.2.2.1 (by decide)
    obtain ⟨σ2, b1, b2, b3⟩ := c_evw σ1 (k := i) (by omega) a3 (by decide)
    have ee := evI_ok ⟨i, by omega⟩
    have ee1 : w8 ++ (wsE.getD i []).map lz_by = mBw (evM i) := ee.1
    have ee2 : ((wsE.getD i []).map lz_by).length ≤ 12 := ee.2
    have f12 := a4.tr b3
    obtain ⟨σ3, s, e1, e2, e3, e4, e5⟩ := (hn.dr f12).mk b2 (by rw [List.length_append]; show 2 + _ ≤ 20; omega) (by omega) (by push_cast; omega)
    have e2' := e2.put 78 i (Int32.ofNat s) (Or.inl rfl)
    have g3 : sgC σ (lj_put σ3 78 i (Int32.ofNat s)) := by
      refine ((sgC_dr f12).tr e4).tr ⟨?_, fun t _ => ?_, fun E w => ?_⟩
      · rw [lv_put, if_neg (by omega)]; exact Int.le_refl _
      · exact cS_cong (fun j => by rw [lj_put_1, if_neg (by omega)]) (fun j => by rw [lj_put_1, if_neg (by omega)]) (fun j => by rw [lj_put_1, if_neg (by omega)]) t
      · obtain ⟨t, t1, t2, t3⟩ := w
        exact ⟨t, by rw [lv_put, if_neg (by omega)]; exact t1, by rw [cS_cong (fun j => by rw [lj_put_1, if_neg (by omega)]) (fun j => by rw [lj_put_1, if_neg (by omega)]) (fun j => by rw [lj_put_1, if_neg (by omega)]) t]; exact t2, by rw [lj_put_1, if_neg (by omega)]; exact t3⟩
    have o78 : ∀ j, j ≠ i → (lj_put σ3 78 i (Int32.ofNat s)).1 78 j = σ.1 78 j := fun j w => by rw [lj_put_1, if_neg (by omega), (e5 78 j rfl).1, (f12 78 j rfl).1]
    obtain ⟨σ', g1, g2, g4, g5⟩ := c_ev b7 b8 x1 d (i + 1) (lj_put σ3 78 i (Int32.ofNat s)) σs (by omega) (by rw [show 34 + (i + 1) = 34 + i + 1 by omega]; exact e2') (hg.tr g3) (fun j hj => by
      by_cases z : j = i
      · rw [z]
        refine ⟨s, e3.1, by rw [lj_put_1, if_pos ⟨rfl, rfl⟩], by rw [lv_put, if_neg (by omega)]; exact e3.2.1, ?_⟩
        rw [cS_cong (fun j => by rw [lj_put_1, if_neg (by omega)]) (fun j => by rw [lj_put_1, if_neg (by omega)]) (fun j => by rw [lj_put_1, if_neg (by omega)]) s, e3.2.2, ee1]
      · exact (he j (by omega)).up g3 (o78 j z))
    refine ⟨σ', ?_, g2, g4, g5⟩
    rw [kc_123_144, if_neg (by rw [show (20 : Int32) = Int32.ofNat 20 from rfl, lz_lt, lz_lit (by omega), lz_lit (by omega)]; omega), a1, bv_ok, a2, bv_ok, b1, bv_ok, e1, bi_ok, if_pos (ofN_in (by omega) (by omega)), lz_onat (by omega), lz_osucc]
    exact g1
theorem sgC_put {σ : lj_S} (k j : Nat) (v : Int32) (hk : k = 78 ∨ k = 8) : sgC σ (lj_put σ k j v) := by
  have o : ∀ k' j', k' ≠ 78 → k' ≠ 8 → (lj_put σ k j v).1 k' j' = σ.1 k' j' := fun k' j' w1 w2 => by rw [lj_put_1, if_neg (by omega)]
  have hS : ∀ t, cS (lj_put σ k j v) t = cS σ t := cS_cong (fun j' => o 9 j' (by omega) (by omega)) (fun j' => o 10 j' (by omega) (by omega)) (fun j' => o 11 j' (by omega) (by omega))
  have e7 : lv (lj_put σ k j v) 3 7 = lv σ 3 7 := by unfold lv; rw [o 3 7 (by omega) (by omega)]
  exact ⟨by rw [e7]; exact Int.le_refl _, fun t _ => hS t, fun E ⟨t, t1, t2, t3⟩ => ⟨t, by rw [e7]; exact t1, by rw [hS]; exact t2, by rw [o 15 t (by omega) (by omega)]; exact t3⟩⟩
/-- all names are there: the component has what the model had -/
theorem c_nameA {σ τ : lj_S} {X : List Int32 → Prop} (h : sR σ τ X) (hX : ∀ D, X D ↔ ((∃ k, k < 31 ∧ D = nmX k) ∨ D = w5 ∨ D = w6 ∨ D = w7 ∨ D = w10)) (b7 : lv σ 3 7 + 60 < 2600) (b8 : lv σ 3 8 + 1300 ≤ 40000) (hm : 69 ≤ lv τ 0 14) (hB : ∀ s : Nat, s < 69 → mS τ s = mBw s) : ∃ σ', lj_R lc_P 123 [.ref 8] σ = some (.inl none, σ') ∧ sR σ' τ (fun _ => False) ∧ nmR σ' τ ∧ (lv σ' 3 7 ≤ lv σ 3 7 + 57 ∧ lv σ' 3 8 ≤ lv σ 3 8 + 1140) ∧ sgC σ σ' ∧ lf nmF σ σ' ∧ (∀ k, k < 31 → cHas σ' (nmX k)) ∧ cHas σ' w5 ∧ cHas σ' w6 ∧ cHas σ' w7 := by
  have n0 : nIv σ τ X 0 σ := ⟨h, ⟨(by omega), (by omega)⟩, sgC_rf σ, lf_rf _ _⟩
  obtain ⟨σ1, x2, a1, a2, a3⟩ := c_nm_a (fun k hk => (hX _).2 (Or.inl ⟨k, hk, rfl⟩)) b7 b8 17 0 σ (.retAddr 0) rfl n0 (fun k hk => absurd hk (Nat.not_lt_zero _))
  obtain ⟨σ2, x2', b1, b2, b3⟩ := c_nm_b (fun k hk => (hX _).2 (Or.inl ⟨k, hk, rfl⟩)) b7 b8 14 17 σ1 x2 rfl (Nat.le_refl _) a2 a3
  obtain ⟨σ3, c1, c2, c3, c4⟩ := c_wd σ2 1005 (by decide) w_str.1 w_by.1 (by decide)
  obtain ⟨σ4, s4, d1, d2, d3, d4, d5, d6⟩ := (b2.dr c4).set c3 (by decide) ((hX _).2 (Or.inr (Or.inl rfl))) (by omega) (by push_cast; omega)
  obtain ⟨σ5, e1, e2, e3, e4⟩ := c_wd σ4 1006 (by decide) w_str.2.1 w_by.2.1 (by decide)
  obtain ⟨σ6, s6, f1, f2, f3, f4, f5, f6⟩ := (d2.dr e4).set e3 (by decide) ((hX _).2 (Or.inr (Or.inr (Or.inl rfl)))) (by omega) (by push_cast; omega)
  obtain ⟨σ7, g1, g2, g3, g4⟩ := c_wd σ6 1007 (by decide) w_str.2.2.1 w_by.2.2.1 (by decide)
  obtain ⟨σ8, s8, i1, i2, i3, i4, i5, i6⟩ := (f2.dr g4).set g3 (by decide) ((hX _).2 (Or.inr (Or.inr (Or.inr (Or.inl rfl))))) (by omega) (by push_cast; omega)
  obtain ⟨σ9, j1, j2, j3, j4⟩ := c_ev b7 b8 (Int32.ofNat s8) 21 0 σ8 σ8 rfl i2 (sgC_rf _) (fun j hj => absurd hj (Nat.not_lt_zero _))
  obtain ⟨σa, k1, k2, k3, k4⟩ := c_wd σ9 1009 (by decide) w_str.2.2.2.2.1 w_by.2.2.2.2.1 (by decide)
  obtain ⟨σb, sb, l1, l2, l3, l4, l5⟩ := (j2.dr k4).mk k3 (by decide) (by omega) (by push_cast; omega)
  have l2' := l2.put 8 1 (Int32.ofNat sb) (Or.inr ⟨rfl, Or.inl rfl⟩)
  obtain ⟨σc, m1, m2, m3, m4⟩ := c_wd (lj_put σb 8 1 (Int32.ofNat sb)) 1010 (by decide) w_str.2.2.2.2.2 w_by.2.2.2.2.2 (by decide)
  obtain ⟨σd, sd, o1, o2, o3, o4, o5, o6⟩ := (l2'.dr m4).set m3 (by decide) ((hX _).2 (Or.inr (Or.inr (Or.inr (Or.inr rfl))))) (by omega) (by push_cast; omega)
  have o2' := o2.put 8 3 (Int32.ofNat sd) (Or.inr ⟨rfl, Or.inr rfl⟩)
  -- what was there stays
  have G9 : sgC σ9 (lj_put σd 8 3 (Int32.ofNat sd)) := ((((((sgC_dr k4).tr l4).tr (sgC_put 8 1 (Int32.ofNat sb) (Or.inr rfl))).tr (sgC_dr m4)).tr o5)).tr (sgC_put 8 3 (Int32.ofNat sd) (Or.inr rfl))
  have G8 := j3.tr G9
  have G6 := ((sgC_dr g4).tr i5).tr G8
  have G4 := ((sgC_dr e4).tr f5).tr G6
  have G2 := ((sgC_dr c4).tr d5).tr G4
  refine ⟨lj_put σd 8 3 (Int32.ofNat sd), ?_, ⟨o2'.1.1, o2'.1.2.1, fun D => ?_⟩, ⟨fun k hk => ?_, ?_, ?_⟩, ?_, o2'.2.2.1, o2'.2.2.2, fun k hk => G2.2.2 _ (b3 k hk), G4.2.2 _ d3, G6.2.2 _ f3, G8.2.2 _ i3⟩
  · rw [rc_123, kc_123_0, show (0 : Int32) = Int32.ofNat 0 from rfl, a1, b1, kc_123_24, if_pos (by decide), c1, bv_ok, c2, bv_ok, d1, bi_ok, e1, bv_ok, e2, bv_ok, f1, bi_ok, g1, bv_ok, g2, bv_ok, i1, bi_ok, show (0 : Int32) = Int32.ofNat 0 from rfl, j1, kc_123_144, if_pos (by decide), rc_30, kc_30_0, k1, bv_ok, k2, bv_ok, l1, bi_ok, bi_ok, m1, bv_ok, m2, bv_ok, o1, bi_ok]
  · rw [o2'.1.2.2 D]
    constructor
    · rintro (w | w)
      · exact Or.inl w
      · left
        rcases (hX D).1 w with ⟨k, hk, e⟩ | e | e | e | e
        · rw [e]; exact G2.2.2 _ (b3 k hk)
        · rw [e]; exact G4.2.2 _ d3
        · rw [e]; exact G6.2.2 _ f3
        · rw [e]; exact G8.2.2 _ i3
        · rw [e]; exact (sgC_put 8 3 (Int32.ofNat sd) (Or.inr rfl)).2.2 _ o3
    · rintro (w | w)
      · exact Or.inl w
      · exact w.elim
  · have e78 : (lj_put σd 8 3 (Int32.ofNat sd)).1 78 k = σ9.1 78 k := by rw [lj_put_1, if_neg (by omega), (o6 78 k rfl).1, (m4 78 k rfl).1, lj_put_1, if_neg (by omega), (l5 78 k rfl).1, (k4 78 k rfl).1]
    obtain ⟨a, q1, q2, q3, q4⟩ := (j4 k hk).up G9 e78
    have ek : evM k < 69 := evM_l2 hk
    exact ⟨a, evM k, q1, (by omega), q2, rfl, q3, (by omega), by rw [q4, hB _ ek]⟩
  · refine ⟨sb, 21, l3.1, (by omega), ?_, rfl, ?_, (by omega), ?_⟩
    · rw [lj_put_1, if_neg (by omega), (o6 8 1 rfl).1, (m4 8 1 rfl).1, lj_put_1, if_pos ⟨rfl, rfl⟩]
    · have G := (((sgC_put 8 1 (Int32.ofNat sb) (Or.inr rfl) : sgC σb _).tr (sgC_dr m4)).tr o5).tr (sgC_put 8 3 (Int32.ofNat sd) (Or.inr rfl))
      exact Int.lt_of_lt_of_le l3.2.1 G.1
    · have G := (((sgC_put 8 1 (Int32.ofNat sb) (Or.inr rfl) : sgC σb _).tr (sgC_dr m4)).tr o5).tr (sgC_put 8 3 (Int32.ofNat sd) (Or.inr rfl))
      rw [G.2.1 sb l3.2.1, l3.2.2, hB 21 (by omega)]
      exact w_mB.2.2.2.1
  · refine ⟨sd, 36, o4.1, (by omega), ?_, rfl, ?_, (by omega), ?_⟩
    · rw [lj_put_1, if_pos ⟨rfl, rfl⟩]
    · rw [lv_put, if_neg (by omega)]; exact o4.2.1
    · rw [(sgC_put 8 3 (Int32.ofNat sd) (Or.inr rfl) : sgC σd _).2.1 sd o4.2.1, o4.2.2, hB 36 (by omega)]
      exact w_mB.2.2.2.2
  · have := o2'.2.1
    push_cast at this
    omega
