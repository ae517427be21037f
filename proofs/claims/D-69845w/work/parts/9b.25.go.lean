/-! what is built in: a part goes on, all cases -/
theorem gvN_t (G : List vT) (j : Nat) : gvN G.tail j = G.getD (j + 1) (0, 0) := by
  unfold gvN
  cases G with
  | nil => rfl
  | cons x G => rfl
theorem bi_27 {σ0 τ0 σ τ : lj_S} {n np p : Nat} {r : List Nat} {FP : Nat → List kF} {ρ : Nat → Nat} {A MO LA : List Nat} {M : Nat} (D : DLV σ0 τ0 M) (h : MB σ0 τ0 n np p r FP ρ A MO LA σ τ) (ry : ryR σ τ) (hwk : wkR FP (p :: r) A σ) {as line : Int32} (ht : τ.1 0 129 = 1) (ha : awR σ0 (FP p) as (τ.1 0 130) (τ.1 0 131)) (hln : τ.1 0 132 = line) {G G' : List vT} (hG : gwR σ τ G G') (hGl : G.length ≤ 49) (hM : thM FP (p :: r) MO LA + 5001 ≤ M) {X : Nat} (hX : X ≤ TH) (hT : thM FP (p :: r) MO LA + 5001 ≤ X) {k M' : Nat} (C : k ≠ 0 → CAL σ0 τ0 M' (k - 1)) (hM' : thM FP (p :: r) MO LA ≤ M') (hB : gvB k p r FP σ 27 G) : ∃ τ1, lj_R lm_P 187 [.ref 0, .int 27] τ = some (.inl none, τ1) ∧ ocR σ0 τ0 A (fun t => t ≤ X) σ τ1 (lj_R lc_P 159 [.ref 8, .int 27, .int as, .int line] σ) := by
  have c0 := hG.c0 hGl
  have m1 := hG.m1 hGl
  have hv := hG.v 0
  have hGl' := hG.2.2.1
  have h7 := h.2.2.2.2.2.2.1
  have np25 := h7.1.2.2
  have hp : p ≤ np := h7.2.2.2.2.2.1 p List.mem_cons_self
  have b1 := h7.2.1.1
  have b2 := h7.2.1.2
  have rM : ∀ {τx : lj_S}, lj_R lm_P 232 [.ref 0] τ = some (.inl none, τx) → lj_R lm_P 187 [.ref 0, .int 27] τ = some (.inl none, τx) := fun e => mb_more (by decide) (by rw [rm_221, km_221_0, if_neg (by decide), if_neg (by decide), if_neg (by decide), if_neg (by decide), if_neg (by decide), if_neg (by decide), if_neg (by decide), if_neg (by decide), if_neg (by decide), if_neg (by decide), if_pos rfl, e, bv_ok, km_221_215])
  have rC : ∀ {x : Option lj_O}, lj_R lc_P 196 [.ref 8, .int line, .int as] σ = x → lj_R lc_P 159 [.ref 8, .int 27, .int as, .int line] σ = finC (finC x) := fun e => by
    rw [cb_more (by decide) (by decide), rc_187, kc_187_0, if_neg (by decide), if_neg (by decide), if_neg (by decide), if_neg (by decide), if_neg (by decide), if_neg (by decide), if_neg (by decide), if_neg (by decide), if_neg (by decide), if_neg (by decide), if_pos rfl, e]
    simp only [kc_187_919]
    rfl
  by_cases z : (G.getD 0 (0, 0)).1 = 6
  · obtain ⟨o, q, e1, e2, o2, q26, hq, e3, e4⟩ := h.pov hv z
    obtain ⟨ks, k5, s1, s2, qn, sIn, sOut⟩ := h.stt hq
    have w4 := (m_wants hG (by omega) (i := 0) (by omega) 6 27).1 (by rw [e2])
    have w4 : lj_R lm_P 198 [.ref 0, .int 1, .int 6, .int 27] τ = some (.inl (some (.int 1)), τ) := w4
    rw [e1] at c0
    rw [e2] at m1
    have iq : lj_in (Int32.ofNat q) 26 := ofN_in (by omega) (by omega)
    have nq : (Int32.ofNat q).toNatClampNeg = q := lz_onat (by omega)
    have hdC : lj_R lc_P 196 [.ref 8, .int line, .int as] σ = lj_D lc_P lc_M196 54 [.ref 8, .int line, .int as, .retAddr 0, .retAddr 0, .retAddr 0] [.int (Int32.ofNat q)] σ := by
      rw [rc_196, kc_196_0, c0.1, bi_ok, if_pos rfl, kc_196_16, nd_ok _ (by decide), bv_ok, c0.2, bl_ok]
      rcases e3 with ⟨rfl, rfl⟩ | ⟨o0, q0, f1, f2⟩
      · rw [if_pos (show lg_cmp ((6 : Int32), i64 0).2 0 = 0 by decide)]
        rfl
      · have ne : ¬ (lg_cmp (i64 o) 0 = 0) := fun z => by
          have z := (lg_eq0 _ _).1 z
          exact o0 (i64_inj (n := o) (m := 0) (by omega) (by omega) z)
        have io : lj_in (Int32.ofNat o) 2001 := ofN_in (by omega) (by omega)
        have no : (Int32.ofNat o).toNatClampNeg = o := lz_onat (by omega)
        rw [if_neg ne, c0.2, bl_ok]
        simp only [i64_32, if_pos io, no, f1]
    have hdM : ∀ {X : Option lj_O}, (if (τ.1 58 (Int32.ofNat q).toNatClampNeg) ≤ 1 then lj_bi (lj_R lm_P 234 [.ref 0] τ) (fun y8 σ7 => (if y8 = 10 then lj_bv (lj_R lm_P 142 [.ref 0, .int 13, .int (σ7.1 0 132)] σ7) (fun σ9 => some (.inl none, σ9)) lj_up else (if lj_in (Int32.ofNat q) 26 then (if (σ7.1 58 (Int32.ofNat q).toNatClampNeg) = 0 then lj_D lm_P lm_M232 112 [.ref 0, .int (Int32.ofNat q), .retAddr 0, .retAddr 0] [.int 1] σ7 else lj_D lm_P lm_M232 112 [.ref 0, .int (Int32.ofNat q), .retAddr 0, .retAddr 0] [.int 0] σ7) else none))) lj_up else (if lj_in (Int32.ofNat q) 26 then (if (τ.1 58 (Int32.ofNat q).toNatClampNeg) = 4 then lj_D lm_P lm_M232 56 [.ref 0, .int (Int32.ofNat q), .retAddr 0, .retAddr 0] [.int 35, .ref 0] (lj_put τ 0 20 0) else lj_D lm_P lm_M232 56 [.ref 0, .int (Int32.ofNat q), .retAddr 0, .retAddr 0] [.int 34, .ref 0] (lj_put τ 0 20 0)) else none)) = X → lj_R lm_P 232 [.ref 0] τ = X := fun e => by
      rw [rm_232, km_232_0, w4, bi_ok, if_neg (by decide), m1.2, bl_ok, e4, bi_ok, if_pos iq]
      exact e
    have k83 : σ.1 83 (Int32.ofNat q).toNatClampNeg = Int32.ofNat ks := by rw [nq]; exact s1
    have k58 : τ.1 58 (Int32.ofNat q).toNatClampNeg = Int32.ofNat ks := by rw [nq]; exact s2
    by_cases k1 : ks ≤ 1
    · -- it goes on
      have hqr : q ∉ p :: r := fun y => by
        rcases sIn y with w | w <;> omega
      have q0 : q ≠ 0 := fun y => hqr (by rw [y]; exact chn_m0 h7.2.2.2.1)
      have pq : p ≠ q := fun y => hqr (by rw [y]; exact List.mem_cons_self)
      obtain ⟨oq, obq, q85⟩ : ∃ o, obA σ τ o 6 ∧ σ.1 85 q = Int32.ofNat o := by
        rcases hq with y | y
        · exact absurd y q0
        · exact y.2.2
      have k234 : lj_R lm_P 234 [.ref 0] τ = some (.inl (some (.int (Int32.ofNat r.length))), τ) := by
        have := m_opn r p 0 h7.2.2.2.1 (fun u hu => Nat.le_trans (h7.2.2.2.2.2.1 u hu) np25)
        rw [Nat.zero_add] at this
        rw [rm_234, km_234_0, b2]
        exact this
      have le1 : τ.1 58 (Int32.ofNat q).toNatClampNeg ≤ 1 := by
        rw [k58, lz_le, lz_lit (by omega)]
        show (ks : Int) ≤ 1
        omega
      have d4 := h7.2.2.2.2.2.2.1
      have d5 := h7.2.2.2.2.2.2.2.1
      have c54 : ∀ {x : Option lj_O}, lj_D lc_P lc_M196 140 [.ref 8, .int line, .int as, .int (Int32.ofNat q), .retAddr 0, .retAddr 0] [] σ = x → lj_R lc_P 196 [.ref 8, .int line, .int as] σ = x := fun e => by
        rw [hdC, kc_196_54, if_pos iq]
        by_cases y : ks = 0
        · rw [if_pos (by rw [k83, y]; rfl)]
          exact e
        · have y1 : ks = 1 := by omega
          rw [if_neg (by rw [k83, y1]; decide), if_pos iq, if_pos (by rw [k83, y1]; rfl)]
          exact e
      by_cases full : r.length = 10
      · obtain ⟨σ', τ', q1, q2, q3⟩ := cm_wrong h.2.1 line (e := 13) (by decide)
        have q1 : lj_br (lj_R lc_P 133 [.ref 8, .int line, .ref 1011] σ) (fun y s => (bif Nat.blt y 2000 then lj_up y s else none)) lj_up = some (.inr 2, σ') := q1
        have q2 : lj_R lm_P 142 [.ref 0, .int 13, .int line] τ = some (.inl none, τ') := q2
        refine ⟨τ', rM (hdM ?_), ?_⟩
        · rw [if_pos le1, k234, bi_ok, if_pos (by rw [full]; rfl), hln, q2, bv_ok]
        · rw [rC (c54 (by rw [kc_196_140, if_pos (by rw [d4, full]; rfl), q1]))]
          exact (bt_er ry hwk h (lf_rf _ _) (lf_rf _ _) q3 (by omega)).fin.fin
      · have n18 : ¬ (σ.1 8 18 = 10) := fun y => full ((ofN_eq (c := 10) (by omega) (by omega)).1 (by rw [← d4]; exact y))
        have n234 : ¬ (Int32.ofNat r.length = 10) := fun y => full ((ofN_eq (c := 10) (by omega) (by omega)).1 y)
        have hk : ∀ F ∈ FP q, kS F ≠ 2 := by
          rcases sOut hqr with w | w | w
          · intro F hF
            rw [w.2.1] at hF
            cases hF
          · exact w.2.2
          · omega
        obtain ⟨hB1, hB2⟩ : G.length + pfx FP (p :: r) ≤ 30 ∧ G.length + 100 ≤ k := by
          rcases hB with w | ⟨_, ⟨c, G2, y1, y2, _⟩, _⟩
          · exact w
          · rw [y1] at z
            have z : c.1 = 6 := z
            rw [y2] at z
            exact absurd z (by decide)
        have G1 : 1 ≤ G.length := by
          cases G with
          | nil => exact absurd z (by decide)
          | cons x G => rw [List.length_cons]; omega
        have nq4 : τ.1 58 q ≠ 4 := by
          rw [s2]
          intro y
          have := (ofN_eq (a := ks) (c := 4) (by omega) (by omega)).1 y
          omega
        obtain ⟨ce1, me1, mq1, pr1, ⟨u1, u2, u3, u4⟩, u8, u90, u63, u64, u62, u65⟩ := h.2.2.2.2.2.2.2.1 q qn nq4
        -- the component
        have e18 : σ.1 8 18 + 1 = Int32.ofNat (r.length + 1) := by rw [d4, lz_osucc]
        obtain ⟨σa, hσa⟩ : ∃ s, s = lj_put σ 8 18 (Int32.ofNat (r.length + 1)) := ⟨_, rfl⟩
        have oa : ∀ k j, ¬ (k = 8 ∧ j = 18) → σa.1 k j = σ.1 k j ∧ σa.2 k j = σ.2 k j := fun k j w => by
          rw [hσa]
          exact ⟨by rw [lj_put_1, if_neg w], rfl⟩
        have ga : gvC σa G := ⟨by unfold lv; rw [(oa 8 38 (by omega)).1]; exact hG.1.1, fun j hj => by rw [(oa 105 j (by omega)).1, (oa 106 j (by omega)).2]; exact hG.1.2 j hj⟩
        obtain ⟨σ1, x1, x2, x3⟩ := c_dropGiven ga (by omega)
        have o1 : ∀ k j, ¬ (k = 105 ∨ k = 106 ∨ k = 8 ∧ j = 38) → σ1.1 k j = σa.1 k j ∧ σ1.2 k j = σa.2 k j := fun k j w => x3 k j (by unfold gsC; simp; omega)
        have s7 : σ1.1 8 7 = Int32.ofNat p := by rw [(o1 8 7 (by omega)).1, (oa 8 7 (by omega)).1]; exact b1
        have ip : lj_in (Int32.ofNat p) 26 := ofN_in (by omega) (by omega)
        have np' : (Int32.ofNat p).toNatClampNeg = p := lz_onat (by omega)
        obtain ⟨σ2, hσ2⟩ : ∃ s, s = lj_put (lj_put (lj_put (lj_put σ1 86 q as) 84 q (Int32.ofNat p)) 82 p (σ1.1 8 8)) 83 p 3 := ⟨_, rfl⟩
        have o2' : ∀ k j, ¬ ((k = 86 ∨ k = 84) ∧ j = q) → ¬ ((k = 82 ∨ k = 83) ∧ j = p) → σ2.1 k j = σ1.1 k j ∧ σ2.2 k j = σ1.2 k j := fun k j w1 w2 => by
          rw [hσ2]
          exact ⟨by rw [lj_put_1, if_neg (by omega), lj_put_1, if_neg (by omega), lj_put_1, if_neg (by omega), lj_put_1, if_neg (by omega)], rfl⟩
        obtain ⟨σ3, hσ3⟩ : ∃ s, s = lj_put (lj_put (lj_put σ2 8 7 (Int32.ofNat q)) 83 q 2) 8 8 (σ2.1 82 q) := ⟨_, rfl⟩
        have o3 : ∀ k j, ¬ (k = 8 ∧ (j = 7 ∨ j = 8)) → ¬ (k = 83 ∧ j = q) → σ3.1 k j = σ2.1 k j ∧ σ3.2 k j = σ2.2 k j := fun k j w1 w2 => by
          rw [hσ3]
          exact ⟨by rw [lj_put_1, if_neg (by omega), lj_put_1, if_neg (by omega), lj_put_1, if_neg (by omega)], rfl⟩
        have f3 : ∀ k j, ¬ (k = 8 ∧ (j = 7 ∨ j = 8 ∨ j = 18 ∨ j = 38)) → ¬ (k = 105 ∨ k = 106) → ¬ ((k = 83 ∨ k = 84 ∨ k = 86) ∧ j = q) → ¬ ((k = 82 ∨ k = 83) ∧ j = p) → σ3.1 k j = σ.1 k j ∧ σ3.2 k j = σ.2 k j := fun k j w1 w2 w3 w4 => by
          obtain ⟨v1, v2⟩ := o3 k j (by omega) (by omega)
          obtain ⟨v3, v4⟩ := o2' k j (by omega) (by omega)
          obtain ⟨v5, v6⟩ := o1 k j (by omega)
          obtain ⟨v7, v8⟩ := oa k j (by omega)
          exact ⟨v1.trans (v3.trans (v5.trans v7)), v2.trans (v4.trans (v6.trans v8))⟩
        have sf := c_setF (σ := σ3) (p := q) (l := (FP q).length) (by rw [hσ3]; exact (by simp [lj_put_1, lj_putL_1])) (by omega) (by rw [(f3 90 q (by omega) (by omega) (by omega) (by omega)).1]; exact u90) u1
        have c96 : σ3.1 96 (20 * q + ((FP q).length - 1)) = σ.1 96 (20 * q + ((FP q).length - 1)) := (f3 96 _ (by omega) (by omega) (by omega) (by omega)).1
        rw [c96] at sf
        obtain ⟨σ4, hσ4⟩ : ∃ s, s = (if (FP q).length = 0 then lj_put (lj_put σ3 8 34 (-1)) 8 35 0 else lj_put (lj_put σ3 8 34 (Int32.ofNat (20 * q + ((FP q).length - 1)))) 8 35 (σ.1 96 (20 * q + ((FP q).length - 1)))) := ⟨_, rfl⟩
        rw [← hσ4] at sf
        have o4 : ∀ k j, ¬ (k = 8 ∧ (j = 34 ∨ j = 35)) → σ4.1 k j = σ3.1 k j ∧ σ4.2 k j = σ3.2 k j := fun k j w => by
          rw [hσ4]
          by_cases y : (FP q).length = 0
          · rw [if_pos y, lj_put_1, if_neg (by omega), lj_put_1, if_neg (by omega)]
            exact ⟨rfl, rfl⟩
          · rw [if_neg y, lj_put_1, if_neg (by omega), lj_put_1, if_neg (by omega)]
            exact ⟨rfl, rfl⟩
        have f4 : ∀ k j, ¬ (k = 8 ∧ (j = 7 ∨ j = 8 ∨ j = 18 ∨ j = 34 ∨ j = 35 ∨ j = 38)) → ¬ (k = 105 ∨ k = 106) → ¬ ((k = 83 ∨ k = 84 ∨ k = 86) ∧ j = q) → ¬ ((k = 82 ∨ k = 83) ∧ j = p) → σ4.1 k j = σ.1 k j ∧ σ4.2 k j = σ.2 k j := fun k j w1 w2 w3 w4 => by
          obtain ⟨v1, v2⟩ := o4 k j (by omega)
          obtain ⟨v3, v4⟩ := f3 k j (by omega) (by omega) (by omega) (by omega)
          exact ⟨v1.trans v3, v2.trans v4⟩
        have g4 : gvC σ4 G.tail := ⟨by unfold lv; rw [(o4 8 38 (by omega)).1, (o3 8 38 (by omega) (by omega)).1, (o2' 8 38 (by omega) (by omega)).1]; exact x2.1, fun j hj => by rw [(o4 105 j (by omega)).1, (o3 105 j (by omega) (by omega)).1, (o2' 105 j (by omega) (by omega)).1, (o4 106 j (by omega)).2, (o3 106 j (by omega) (by omega)).2, (o2' 106 j (by omega) (by omega)).2]; exact x2.2 j hj⟩
        -- the model
        obtain ⟨τa, hτa⟩ : ∃ s, s = lj_put (lj_put (lj_put (lj_put (lj_put (lj_put τ 66 q (Int32.ofNat p)) 67 q (τ.1 0 130)) 68 q (τ.1 0 131)) 58 p 3) 58 q 2) 0 111 (Int32.ofNat q) := ⟨_, rfl⟩
        have ma : ∀ k j, ¬ ((66 ≤ k ∧ k ≤ 68) ∧ j = q) → ¬ (k = 58 ∧ (j = p ∨ j = q)) → ¬ (k = 0 ∧ j = 111) → τa.1 k j = τ.1 k j ∧ τa.2 k j = τ.2 k j := fun k j w1 w2 w3 => by
          rw [hτa]
          exact ⟨by rw [lj_put_1, if_neg (by omega), lj_put_1, if_neg (by omega), lj_put_1, if_neg (by omega), lj_put_1, if_neg (by omega), lj_put_1, if_neg (by omega), lj_put_1, if_neg (by omega)], rfl⟩
        have gva : gvM τa G' := ⟨by unfold lv; rw [(ma 0 137 (by omega) (by omega) (by omega)).1]; exact hG.2.1.1, fun j hj => by rw [(ma 88 j (by omega) (by omega) (by omega)).1, (ma 89 j (by omega) (by omega) (by omega)).2]; exact hG.2.1.2 j hj⟩
        obtain ⟨τb, y1, y2, y3, y4, y5⟩ := m_shift gva (by omega)
        have mb : ∀ k j, ¬ (k = 88 ∨ k = 89 ∨ k = 0 ∧ (j = 129 ∨ j = 133 ∨ j = 134 ∨ j = 137)) → τb.1 k j = τa.1 k j ∧ τb.2 k j = τa.2 k j := fun k j w => y3 k j (by unfold shM; simp; omega)
        have fb : ∀ k j, ¬ (k = 88 ∨ k = 89 ∨ k = 0 ∧ (j = 129 ∨ j = 133 ∨ j = 134 ∨ j = 137)) → ¬ ((66 ≤ k ∧ k ≤ 68) ∧ j = q) → ¬ (k = 58 ∧ (j = p ∨ j = q)) → ¬ (k = 0 ∧ j = 111) → τb.1 k j = τ.1 k j ∧ τb.2 k j = τ.2 k j := fun k j w1 w2 w3 w4 => by
          obtain ⟨v1, v2⟩ := mb k j w1
          obtain ⟨v3, v4⟩ := ma k j w2 w3 w4
          exact ⟨v1.trans v3, v2.trans v4⟩
        have hfh : fhR σ4 q (FP q) := by
          cases hF : FP q with
          | nil =>
            show σ4.1 8 34 = -1
            rw [hσ4, hF, if_pos (show ([] : List kF).length = 0 from rfl)]; exact (by simp [lj_put_1, lj_putL_1])
          | cons F2 L2 =>
            rw [hF] at hσ4 pr1
            rw [if_neg (by simp), List.length_cons, Nat.add_sub_cancel] at hσ4
            refine ⟨by rw [hσ4]; exact (by simp [lj_put_1, lj_putL_1]), fun z => ?_⟩
            obtain ⟨ms3, ks3, v1, v2, v3⟩ := pr1
            rcases v2.2 with ⟨_, t⟩ | ⟨y, _⟩
            · rw [hσ4, lj_put_1, if_pos ⟨rfl, rfl⟩]; exact t.1.2.2.2.2
            · omega
        have mbn : MB σ0 τ0 n np q (p :: r) FP ρ A MO LA σ4 τb := h.goes hqr q0 qn (by omega) obq q85 nq4 hk (fun k j w => by
            have zz : szC k j = false := by
              cases y : szC k j with
              | false => rfl
              | true => exact absurd (Or.inl y) w
            exact f4 k j (fun y => by
              by_cases y38 : k = 8 ∧ j = 38
              · rw [y38.1, y38.2] at zz; exact absurd zz (by decide)
              · exact w (by omega)) (fun y => by unfold szC at zz; simp at zz; omega) (fun y => w (by omega)) (fun y => w (by omega))) (fun k j w => by
            have zz : szM k j = false := by
              cases y : szM k j with
              | false => rfl
              | true => exact absurd (Or.inl y) w
            exact fb k j (fun y => by unfold szM at zz; simp at zz; omega) (fun y => w (by omega)) (fun y => w (by omega)) (fun y => w (by omega)))
          (by rw [(o4 8 7 (by omega)).1, hσ3]; exact (by simp [lj_put_1, lj_putL_1])) (by rw [(mb 0 111 (by omega)).1, hτa]; exact (by simp [lj_put_1, lj_putL_1])) (by rw [(o4 8 18 (by omega)).1, (o3 8 18 (by omega) (by omega)).1, (o2' 8 18 (by omega) (by omega)).1, (o1 8 18 (by omega)).1, hσa]; exact (by simp [lj_put_1, lj_putL_1])) (by rw [(o4 83 q (by omega)).1, hσ3]; exact (by simp [lj_put_1, lj_putL_1])) (by rw [(mb 58 q (by omega)).1, hτa]; exact (by simp [lj_put_1, lj_putL_1])) (by rw [(o4 83 p (by omega)).1, (o3 83 p (by omega) (by omega)).1, hσ2]; exact (by simp [lj_put_1, lj_putL_1])) (by rw [(mb 58 p (by omega)).1, hτa, lj_put_1, if_neg (by omega), lj_put_1, if_neg (by omega), lj_put_1, if_pos ⟨rfl, rfl⟩]) (by rw [(o4 8 8 (by omega)).1, hσ3, lj_put_1, if_pos ⟨rfl, rfl⟩, (o2' 82 q (by omega) (by omega)).1, (o1 82 q (by omega)).1, (oa 82 q (by omega)).1]) (by rw [(o4 82 p (by omega)).1, (o3 82 p (by omega) (by omega)).1, hσ2]; exact (show _ = σ1.1 8 8 from (by simp [lj_put_1, lj_putL_1])).trans (by rw [(o1 8 8 (by omega)).1, (oa 8 8 (by omega)).1])) (by rw [(o4 84 q (by omega)).1, (o3 84 q (by omega) (by omega)).1, hσ2]; exact (by simp [lj_put_1, lj_putL_1])) (by rw [(mb 66 q (by omega)).1, hτa]; exact (by simp [lj_put_1, lj_putL_1])) (by
            have q1 : σ4.1 86 q = as := by rw [(o4 86 q (by omega)).1, (o3 86 q (by omega) (by omega)).1, hσ2]; exact (by simp [lj_put_1, lj_putL_1])
            have q2 : τb.1 67 q = τ.1 0 130 := by rw [(mb 67 q (by omega)).1, hτa]; exact (by simp [lj_put_1, lj_putL_1])
            have q3 : τb.1 68 q = τ.1 0 131 := by rw [(mb 68 q (by omega)).1, hτa]; exact (by simp [lj_put_1, lj_putL_1])
            rw [q1, q2, q3]
            exact ha) hfh
        have hv4 : ∀ a b, vR σ τ a b → vR σ4 τb a b := fun a b w => w.cg (fun k j q => (f4 k j (by unfold vqC at q; simp at q; omega) (by unfold vqC at q; simp at q; omega) (by unfold vqC at q; simp at q; omega) (by unfold vqC at q; simp at q; omega)).1) (fun k j q => (fb k j (by unfold vqM at q; simp at q; omega) (by unfold vqM at q; simp at q; omega) (by unfold vqM at q; simp at q; omega) (by unfold vqM at q; simp at q; omega)).1)
        have hw2 : wkR FP (q :: p :: r) A σ4 := ⟨fun i hi => by rw [(f4 102 i (by omega) (by omega) (by omega) (by omega)).1]; exact hwk.1 i hi, by
          rw [show gX FP (q :: p :: r) = gL q (FP q) ++ gX FP (p :: r) from rfl, gL_0 hk]
          exact hwk.2.1, by omega, hwk.2.2⟩
        have tm := thM_in FP (q := q) (r := p :: r) q26 hqr MO LA
        have pfl : pfx FP (q :: p :: r) ≤ 71 := pfx_le u1 hw2.2.2
        have tl : G.tail.length = G.length - 1 := List.length_tail
        have tl' : G'.tail.length = G'.length - 1 := List.length_tail
        -- both come here
        have cgo : ∀ {x : Option lj_O}, lj_D lc_P lc_M196 226 [.ref 8, .int line, .int as, .int (Int32.ofNat q), .retAddr 0, .retAddr 0] [.int (if ks = 0 then 1 else 0)] σ2 = x → lj_R lc_P 196 [.ref 8, .int line, .int as] σ = x := fun e => c54 (by
          have h83 : (lj_put σ1 83 p 3).1 83 q = Int32.ofNat ks := by rw [lj_put_1, if_neg (by omega), (o1 83 q (by omega)).1, (oa 83 q (by omega)).1]; exact s1
          have z83 : ((lj_put σ1 83 p 3).1 83 (Int32.ofNat q).toNatClampNeg = 0) = (ks = 0) := by
            rw [nq, h83]
            exact propext ⟨fun y => (ofN_eq (c := 0) (by omega) (by omega)).1 y, fun y => by rw [y]; rfl⟩
          rw [kc_196_140, if_neg n18, e18, ← hσa, x1, bv_ok, if_pos iq, if_pos iq, s7, if_pos ip, if_pos ip, if_pos iq, np']
          rw [← e, hσ2]
          by_cases y : ks = 0
          · rw [if_pos (show (lj_put σ1 83 p 3).1 83 (Int32.ofNat q).toNatClampNeg = 0 by rw [z83]; exact y), if_pos y, nq]
          · rw [if_neg (show ¬ ((lj_put σ1 83 p 3).1 83 (Int32.ofNat q).toNatClampNeg = 0) by rw [z83]; exact y), if_neg y, nq])
        have i111 : lj_in (τ.1 0 111) 26 := by rw [b2]; exact ofN_in (by omega) (by omega)
        have n111 : (τ.1 0 111).toNatClampNeg = p := by rw [b2]; exact lz_onat (by omega)
        have y1' : lj_R lm_P 204 [.ref 0] (lj_put (lj_put (lj_put (lj_put (lj_put (lj_put τ 66 (Int32.ofNat q).toNatClampNeg (τ.1 0 111)) 67 (Int32.ofNat q).toNatClampNeg (τ.1 0 130)) 68 (Int32.ofNat q).toNatClampNeg (τ.1 0 131)) 58 ((τ.1 0 111).toNatClampNeg) 3) 58 (Int32.ofNat q).toNatClampNeg 2) 0 111 (Int32.ofNat q)) = some (.inl none, τb) := by rw [nq, n111, b2, ← hτa]; exact y1
        have sf' : lj_R lc_P 129 [.ref 8] (lj_put (lj_put (lj_put σ2 8 7 (Int32.ofNat q)) 83 (Int32.ofNat q).toNatClampNeg 2) 8 8 (σ2.1 82 (Int32.ofNat q).toNatClampNeg)) = some (.inl none, σ4) := by rw [nq, ← hσ3]; exact sf
        rcases sOut hqr with ⟨kz, w1, w2, w3⟩ | ⟨kz, w1, w2⟩ | w
        · -- a new part: a call
          have hvq := hv4 _ _ w3
          have c88 : σ4.1 88 q = σ.1 88 q := (f4 88 q (by omega) (by omega) (by omega) (by omega)).1
          have c89 : σ4.2 89 q = σ.2 89 q := (f4 89 q (by omega) (by omega) (by omega) (by omega)).2
          obtain ⟨τc, hτc⟩ : ∃ s, s = lj_put (lj_put (lj_putL (lj_put τb 0 133 (τb.1 60 q)) 0 134 (τb.2 61 q)) 0 130 0) 0 131 (-1) := ⟨_, rfl⟩
          have mc : ∀ k j, ¬ (k = 0 ∧ (j = 130 ∨ j = 131 ∨ j = 133 ∨ j = 134)) → τc.1 k j = τb.1 k j ∧ τc.2 k j = τb.2 k j := fun k j w => by
            rw [hτc]
            refine ⟨by rw [lj_put_1, if_neg (by omega), lj_put_1, if_neg (by omega), lj_putL_1, lj_put_1, if_neg (by omega)], ?_⟩
            show (lj_putL (lj_put τb 0 133 (τb.1 60 q)) 0 134 (τb.2 61 q)).2 k j = _
            rw [lj_putL_2, if_neg (by omega)]
            rfl
          have mbc : MB σ0 τ0 n np q (p :: r) FP ρ A MO LA σ4 τc := mbn.sc (lf_rf _ _) (fun k j q => mc k j (by unfold szM at q; simp at q; omega))
          have hvc : ∀ a b, vR σ4 τb a b → vR σ4 τc a b := fun a b w => w.cg (fun _ _ _ => rfl) (fun k j q => (mc k j (by unfold vqM at q; simp at q; omega)).1)
          have gw : gwR σ4 τc G.tail G'.tail := ⟨g4, ⟨by unfold lv; rw [(mc 0 137 (by omega)).1]; exact y2.1, fun j hj => by rw [(mc 88 j (by omega)).1, (mc 89 j (by omega)).2]; exact y2.2 j hj⟩, by omega, fun j hj => by
            rw [gvN_t, gvN_t]
            exact hvc _ _ (hv4 _ _ (hG.v (j + 1)))⟩
          have px : pfx FP (q :: p :: r) = 1 + pfx FP (p :: r) := by
            show pf1 (FP q) + (if pfA (FP q) = true then 1 + pfx FP (p :: r) else 0) = _
            rw [w1]
            show 0 + (if true = true then 1 + pfx FP (p :: r) else 0) = _
            rw [if_pos rfl, Nat.zero_add]
          have cal := C (by omega) n np q (p :: r) FP ρ A MO LA σ4 τc (σ.1 88 q, σ.2 89 q) (τ.1 60 q, τ.2 61 q) G.tail G'.tail 8 line mbc ⟨by rw [(f4 8 46 (by omega) (by omega) (by omega) (by omega)).1]; exact ry.1, by rw [(mc 0 143 (by omega)).1, (fb 0 143 (by omega) (by omega) (by omega) (by omega)).1]; exact ry.2.1, by rw [(f4 8 45 (by omega) (by omega) (by omega) (by omega)).1, (mc 0 144 (by omega)).1, (fb 0 144 (by omega) (by omega) (by omega) (by omega)).1]; exact ry.2.2.1, by rw [(f4 8 44 (by omega) (by omega) (by omega) (by omega)).2, (mc 0 145 (by omega)).2, (fb 0 145 (by omega) (by omega) (by omega) (by omega)).2]; exact ry.2.2.2⟩ hw2 (hvc _ _ hvq) (by
              rw [hτc]
              have t1 : (lj_put (lj_put (lj_putL (lj_put τb 0 133 (τb.1 60 q)) 0 134 (τb.2 61 q)) 0 130 0) 0 131 (-1)).1 0 133 = τ.1 60 q := by
                rw [lj_put_1, if_neg (by omega), lj_put_1, if_neg (by omega), lj_putL_1, lj_put_1, if_pos ⟨rfl, rfl⟩, (fb 60 q (by omega) (by omega) (by omega) (by omega)).1]
              have t2 : (lj_put (lj_put (lj_putL (lj_put τb 0 133 (τb.1 60 q)) 0 134 (τb.2 61 q)) 0 130 0) 0 131 (-1)).2 0 134 = τ.2 61 q := by
                show (lj_putL (lj_put τb 0 133 (τb.1 60 q)) 0 134 (τb.2 61 q)).2 0 134 = _
                rw [lj_putL_2, if_pos ⟨rfl, rfl⟩, (fb 61 q (by omega) (by omega) (by omega) (by omega)).2]
              rw [t1, t2]) (by rw [(mc 0 129 (by omega)).1]; exact y5) (by rw [w1]; rfl) (by rw [(mc 0 132 (by omega)).1, (fb 0 132 (by omega) (by omega) (by omega) (by omega)).1]; exact hln) gw (Or.inl ⟨by rw [px]; omega, by omega⟩) (by omega) (by omega)
          have cal : ocR σ0 τ0 A (fun t => t ≤ thM FP (q :: p :: r) MO LA + 5001) σ4 τc (lj_R lc_P 155 [.ref 8, .int (σ.1 88 q), .long (σ.2 89 q), .int 8, .int line] σ4) := cal
          refine ⟨τc, rM (hdM ?_), ?_⟩
          · rw [if_pos le1, k234, bi_ok, if_neg n234, if_pos iq, if_pos (by rw [k58, kz]; rfl), km_232_112, if_pos iq, if_pos iq, if_pos iq, if_pos i111, if_pos iq, y1', bv_ok, if_neg (by decide), if_pos iq, if_pos iq, nq, hτc]
          · rw [rC (x := finC (lj_R lc_P 155 [.ref 8, .int (σ.1 88 q), .long (σ.2 89 q), .int 8, .int line] σ4)) (cgo (by
              rw [if_pos kz, kc_196_226, if_pos iq, if_pos iq, sf', bv_ok, if_neg (by decide), if_pos iq, if_pos iq, nq, c88, c89]
              rfl))]
            exact (cal.pre (fun _ => rfl) (fun i _ => (f4 103 i (by omega) (by omega) (by omega) (by omega)).1) (fun t w => by show t ≤ X; omega)).fin.fin.fin
        · -- one that had stopped
          obtain ⟨σ5, c1, c2, c3, c4⟩ := c_cp (Φ := fun x s => lj_D lc_P lc_M196 287 [.ref 8, .int line, .int as, .int (Int32.ofNat q), .int 0, .int x] [] s) (G := G.tail) (by omega) (fun x s w1 w2 => by
            show lj_D lc_P lc_M196 287 [.ref 8, .int line, .int as, .int (Int32.ofNat q), .int 0, .int x] [] s = _
            rw [kc_196_287, if_neg w2, if_pos w1, if_pos w1]) G.tail.length 0 (lj_put σ4 8 41 0) (by omega) ⟨by unfold lv; rw [lj_put_1, if_neg (by omega)]; exact g4.1, fun j hj => by rw [lj_put_1, if_neg (by omega)]; exact g4.2 j hj⟩ (x_rs0 σ4)
          have c1 : lj_D lc_P lc_M196 287 [.ref 8, .int line, .int as, .int (Int32.ofNat q), .int 0, .int 0] [] (lj_put σ4 8 41 0) = lj_D lc_P lc_M196 287 [.ref 8, .int line, .int as, .int (Int32.ofNat q), .int 0, .int (Int32.ofNat G.tail.length)] [] σ5 := c1
          have l5 : lf rtC σ4 σ5 := (lf_put (lf_rf rtC σ4) 8 41 0 rfl).tr c4
          obtain ⟨τc, d1, d2, d3⟩ := m_cp (Φ := fun x s => lj_D lm_P lm_M232 214 [.ref 0, .int (Int32.ofNat q), .int 0, .int x] [] s) (G := G'.tail) (by omega) (fun x s w1 w2 => by
            show lj_D lm_P lm_M232 214 [.ref 0, .int (Int32.ofNat q), .int 0, .int x] [] s = _
            rw [km_232_214, if_neg w2, if_pos w1, if_pos w1, if_pos w1, if_pos w1]) G'.tail.length 0 (lj_put τb 0 140 (τb.1 0 137)) (by omega) ⟨by unfold lv; rw [lj_put_1, if_neg (by omega)]; exact y2.1, fun j hj => by rw [lj_put_1, if_neg (by omega)]; exact y2.2 j hj⟩ (fun j hj => absurd hj (Nat.not_lt_zero _))
          have d1 : lj_D lm_P lm_M232 214 [.ref 0, .int (Int32.ofNat q), .int 0, .int 0] [] (lj_put τb 0 140 (τb.1 0 137)) = lj_D lm_P lm_M232 214 [.ref 0, .int (Int32.ofNat q), .int 0, .int (Int32.ofNat G'.tail.length)] [] τc := d1
          have mc : ∀ k j, ¬ (k = 90 ∨ k = 91 ∨ k = 0 ∧ j = 140) → τc.1 k j = τb.1 k j ∧ τc.2 k j = τb.2 k j := fun k j w => by
            obtain ⟨v1, v2⟩ := d3 k j (by omega) (by omega)
            exact ⟨v1.trans (by rw [lj_put_1, if_neg (by omega)]), v2⟩
          obtain ⟨τd, hτd⟩ : ∃ s, s = lj_put (lj_put (lj_put τc 0 130 (τc.1 69 q)) 0 131 (τc.1 70 q)) 0 129 1 := ⟨_, rfl⟩
          have md : ∀ k j, ¬ (k = 0 ∧ (j = 129 ∨ j = 130 ∨ j = 131)) → τd.1 k j = τc.1 k j ∧ τd.2 k j = τc.2 k j := fun k j w => by
            rw [hτd]
            exact ⟨by rw [lj_put_1, if_neg (by omega), lj_put_1, if_neg (by omega), lj_put_1, if_neg (by omega)], rfl⟩
          have fd : ∀ k j, ¬ (k = 90 ∨ k = 91 ∨ k = 0 ∧ (j = 129 ∨ j = 130 ∨ j = 131 ∨ j = 140)) → τd.1 k j = τb.1 k j ∧ τd.2 k j = τb.2 k j := fun k j w => by
            obtain ⟨v1, v2⟩ := md k j (by omega)
            obtain ⟨v3, v4⟩ := mc k j (by omega)
            exact ⟨v1.trans v3, v2.trans v4⟩
          have mbd : MB σ0 τ0 n np q (p :: r) FP ρ A MO LA σ5 τd := mbn.sc (rtC_z l5) (fun k j q => fd k j (by unfold szM at q; simp at q; omega))
          have f5 : ∀ k j, ¬ (k = 107 ∨ k = 108 ∨ k = 8 ∧ j = 41) → σ5.1 k j = σ4.1 k j ∧ σ5.2 k j = σ4.2 k j := fun k j w => l5 k j (by unfold rtC; simp; omega)
          have rd : rsM τd G'.tail := ⟨by unfold lv; rw [(md 0 140 (by omega)).1, (d3 0 140 (by omega) (by omega)).1, lj_put_1, if_pos ⟨rfl, rfl⟩]; exact y2.1, fun j hj => by rw [(md 90 j (by omega)).1, (md 91 j (by omega)).2]; exact d2 j hj⟩
          have c87 : σ5.1 87 q = σ.1 87 q := by rw [(f5 87 q (by omega)).1, (f4 87 q (by omega) (by omega) (by omega) (by omega)).1]
          have t130 : τd.1 0 130 = τ.1 69 q := by rw [hτd, lj_put_1, if_neg (by omega), lj_put_1, if_neg (by omega), lj_put_1, if_pos ⟨rfl, rfl⟩, (mc 69 q (by omega)).1, (fb 69 q (by omega) (by omega) (by omega) (by omega)).1]
          have t131 : τd.1 0 131 = τ.1 70 q := by rw [hτd, lj_put_1, if_neg (by omega), lj_put_1, if_pos ⟨rfl, rfl⟩, (mc 70 q (by omega)).1, (fb 70 q (by omega) (by omega) (by omega) (by omega)).1]
          have dl := D n np q (p :: r) FP ρ A MO LA σ5 τd G.tail G'.tail (σ.1 87 q) mbd ⟨⟨by rw [(f5 8 46 (by omega)).1, (f4 8 46 (by omega) (by omega) (by omega) (by omega)).1]; exact ry.1, by rw [(fd 0 143 (by omega)).1, (fb 0 143 (by omega) (by omega) (by omega) (by omega)).1]; exact ry.2.1, by rw [hτd]; exact (by simp [lj_put_1, lj_putL_1]), by rw [(f5 8 45 (by omega)).1, (f4 8 45 (by omega) (by omega) (by omega) (by omega)).1, (fd 0 144 (by omega)).1, (fb 0 144 (by omega) (by omega) (by omega) (by omega)).1]; exact ry.2.2.1, by rw [(f5 8 44 (by omega)).2, (f4 8 44 (by omega) (by omega) (by omega) (by omega)).2, (fd 0 145 (by omega)).2, (fb 0 145 (by omega) (by omega) (by omega) (by omega)).2]; exact ry.2.2.2⟩, c2, rd, ⟨by omega, by omega, fun j => by
              have t1 : G.tail.getD j (0, 0) = G.getD (j + 1) (0, 0) := gvN_t G j
              have t2 : G'.tail.getD j (0, 0) = G'.getD (j + 1) (0, 0) := gvN_t G' j
              rw [t1, t2]
              exact (hv4 _ _ (hG.v (j + 1))).cg (fun k j q => (f5 k j (by unfold vqC at q; simp at q; omega)).1) (fun k j q => (fd k j (by unfold vqM at q; simp at q; omega)).1)⟩⟩ (by rw [t130, t131]; exact w1) ⟨fun i hi => by rw [(f5 102 i (by omega)).1]; exact hw2.1 i hi, hw2.2⟩ (by omega) (by omega) (by omega)
          refine ⟨τd, rM (hdM ?_), ?_⟩
          · rw [if_pos le1, k234, bi_ok, if_neg n234, if_pos iq, if_neg (by rw [k58, kz]; decide), km_232_112, if_pos iq, if_pos iq, if_pos iq, if_pos i111, if_pos iq, y1', bv_ok, if_pos rfl, d1, km_232_214, if_pos (by rw [(mc 0 137 (by omega)).1, lz_le, lz_lit (by omega)]; have := y2.1; unfold lv at this; rw [this]; exact Int.le_refl _), if_pos iq, if_pos iq, nq, hτd]
          · rw [rC (x := finC (lj_R lc_P 144 [.ref 8, .int (σ.1 87 q)] σ5)) (cgo (by
              rw [if_neg (by omega), kc_196_226, if_pos iq, if_pos iq, sf', bv_ok, if_pos rfl, c1, kc_196_287, if_pos (by rw [lz_le, lz_lit (by omega)]; have := c3.1; unfold lv at this; rw [this]; exact Int.le_refl _), if_pos iq, nq, c87]
              rfl))]
            exact (dl.pre (fun _ => rfl) (fun i _ => by rw [(f5 103 i (by omega)).1, (f4 103 i (by omega) (by omega) (by omega) (by omega)).1]) (fun t w => by show t ≤ X; omega)).fin.fin.fin
        · omega
    · -- it may not
      have gt1 : ¬ (τ.1 58 (Int32.ofNat q).toNatClampNeg ≤ 1) := by
        rw [k58, lz_le, lz_lit (by omega)]
        show ¬ ((ks : Int) ≤ 1)
        omega
      have n0 : ¬ (σ.1 83 (Int32.ofNat q).toNatClampNeg = 0) := by
        rw [k83]
        intro y
        have := (ofN_eq (a := ks) (c := 0) (by omega) (by omega)).1 y
        omega
      have n1 : ¬ (σ.1 83 (Int32.ofNat q).toNatClampNeg = 1) := by
        rw [k83]
        intro y
        have := (ofN_eq (a := ks) (c := 1) (by omega) (by omega)).1 y
        omega
      obtain ⟨σ1, a1, a2, a3⟩ := c_gives (x_rs0 σ) (by decide) (1, 0)
      have a1 : lj_R lc_P 143 [.ref 8, .int 1, .long 0] (lj_put σ 8 41 0) = some (.inl none, σ1) := a1
      have k1 : (lj_put σ1 3 6 0).1 83 (Int32.ofNat q).toNatClampNeg = Int32.ofNat ks := by
        rw [lj_put_1, if_neg (by omega), (a3 83 _ rfl).1, lj_put_1, if_neg (by omega)]
        exact k83
      by_cases k4 : ks = 4
      · obtain ⟨τ1, r1, r2⟩ := bi_ft D h ry hwk ht ha hln hG hGl hM hX hT (rw0 := 1028) (wm := 35) (by decide) (by decide) (by decide) go_eq.1 go_eq.2.2.1 (Int32.ofNat q) (as := as) (line := line)
        have r1 : lj_D lm_P lm_M232 56 [.ref 0, .int (Int32.ofNat q), .retAddr 0, .retAddr 0] [.int 35, .ref 0] (lj_put τ 0 20 0) = some (.inl none, τ1) := r1
        refine ⟨τ1, rM (hdM ?_), ?_⟩
        · rw [if_neg gt1, if_pos iq, if_pos (by rw [k58, k4]; rfl), r1]
        · rw [rC (by rw [hdC, kc_196_54, if_pos iq, if_neg n0, if_pos iq, if_neg n1, a1, bv_ok, (c_bgn σ1).1, bv_ok, if_pos iq, if_pos (by rw [k1, k4]; rfl)])]
          rw [a1, bv_ok, (c_bgn σ1).1, bv_ok] at r2
          exact r2.fin.fin
      · obtain ⟨τ1, r1, r2⟩ := bi_ft D h ry hwk ht ha hln hG hGl hM hX hT (rw0 := 1029) (wm := 34) (by decide) (by decide) (by decide) go_eq.2.1 go_eq.2.2.2 (Int32.ofNat q) (as := as) (line := line)
        have r1 : lj_D lm_P lm_M232 56 [.ref 0, .int (Int32.ofNat q), .retAddr 0, .retAddr 0] [.int 34, .ref 0] (lj_put τ 0 20 0) = some (.inl none, τ1) := r1
        have n4 : ∀ {x : Int32}, x = Int32.ofNat ks → ¬ (x = 4) := fun e y => k4 ((ofN_eq (c := 4) (by omega) (by omega)).1 (by rw [← e]; exact y))
        refine ⟨τ1, rM (hdM ?_), ?_⟩
        · rw [if_neg gt1, if_pos iq, if_neg (n4 k58), r1]
        · rw [rC (by rw [hdC, kc_196_54, if_pos iq, if_neg n0, if_pos iq, if_neg n1, a1, bv_ok, (c_bgn σ1).1, bv_ok, if_pos iq, if_neg (n4 k1)])]
          rw [a1, bv_ok, (c_bgn σ1).1, bv_ok] at r2
          exact r2.fin.fin
  · have z' : ¬ ((G'.getD 0 (0, 0)).1 = 6) := fun y => z ((hv.kk (by decide) (by decide)).2 y)
    obtain ⟨σ', τ', q1, q2, q3⟩ := nd_bad h.2.1 hln 1 (w := 27) (by decide)
    have q1 : lj_R lc_P 168 [.ref 8, .int 0, .int 1, .int 27, .int line] σ = some (.inr 2, σ') := q1
    have w4 := (m_wants hG (by omega) (i := 0) (by omega) 6 27).2 z' τ' q2
    have w4 : lj_R lm_P 198 [.ref 0, .int 1, .int 6, .int 27] τ = some (.inl (some (.int 0)), τ') := w4
    refine ⟨τ', rM ?_, ?_⟩
    · rw [rm_232, km_232_0, w4, bi_ok, if_pos rfl]
    · rw [rC (by rw [rc_196, kc_196_0, c0.1, bi_ok, if_neg z, kc_196_16, q1, bv_th])]
      exact (bt_er ry hwk h (lf_rf _ _) (lf_rf _ _) q3 (by omega)).fin.fin
