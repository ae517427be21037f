/-! bodies: parameters, one after the other -/
theorem rng_rev (k : Nat) : (List.range (k + 1)).reverse = k :: (List.range k).reverse := by
  rw [List.range_succ, List.reverse_append]; rfl
theorem bp_loop {b : Nat → Int32} {n T : Nat} {Q : tkQ} {X : List Int32 → Prop} (hT5 : T ≤ 520) {F : Nat} {FO : List fT} {Z : List zT} {PL : List qT} {cl ml v c m wh : Nat} {W : List wT} {f : Nat} (x1 x2 x3 x5 : Int32) :
    ∀ (d nl : Nat) (N : List lT) (p : Nat) (σ τ : lj_S) (x7 z3 : Value), T - p < d → PS b n T Q X F N (((nl, 1), []) :: FO) Z PL cl ml p v c m wh W σ τ → hdN N f (List.range nl).reverse →
    (∃ τ', lj_D lm_P lm_M84 16 [.ref 0, .int (Int32.ofNat f), .int 1, z3] [] τ = some (.inl (some (.int 0)), τ') ∧ fltR n (lj_D lc_P lc_M81 145 [.ref 6, .int x1, .int x2, .int x3, .int (Int32.ofNat f), .int x5, .int 1, x7] [] σ) (mBad τ')) ∨
    ∃ nl' e N' p' σ' τ', lj_D lc_P lc_M81 145 [.ref 6, .int x1, .int x2, .int x3, .int (Int32.ofNat f), .int x5, .int 1, x7] [] σ = bdC x2 x3 (Int32.ofNat f) σ' ∧ lj_D lm_P lm_M84 16 [.ref 0, .int (Int32.ofNat f), .int 1, z3] [] τ = some (.inl (some (.int 1)), τ') ∧ PS b n T Q X F N' (((nl', 0), []) :: FO) Z PL cl ml p' v c m wh W σ' (lj_put τ' 13 f (τ'.1 14 f)) ∧ hdN N' f (List.range nl').reverse ∧ lvY e N N' ∧ TXq f N σ τ σ' (lj_put τ' 13 f (τ'.1 14 f)) ∧ fz 0 c 0 m σ τ σ' (lj_put τ' 13 f (τ'.1 14 f)) ∧ p < p' ∧ σ'.1 29 f = Int32.ofNat nl' ∧ (lj_put τ' 13 f (τ'.1 14 f)).1 13 f = Int32.ofNat nl' := by
  intro d
  induction d with
  | zero => intro nl N p σ τ x7 z3 h0; omega
  | succ d ih =>
  intro nl N p σ τ x7 z3 hTp h hN
  have hpT := h.2.2.1.1
  have h1 := h.2.1
  have c14 := h.c14 hT5
  have hNe := hdN_ne hN
  have hn520 := h.1.1.2.1
  have hTn := h.1.1.2.2.1
  have hf51 : f < 51 := by
    obtain ⟨zz, R, eN, ez, el⟩ := hN
    have := h.1.2.2.1.1
    rw [eN] at this
    rw [← ez]; exact this.1.1
  have hzF : f < F := by
    obtain ⟨zz, R, eN, ez, el⟩ := hN
    rw [← ez]; exact h.1.2.2.2.2.1 zz (by rw [eN]; exact List.mem_cons_self)
  have iF : lj_in (Int32.ofNat f) 51 := ofN_in hf51 (by omega)
  have tk := c_take h.1.1 hpT h1.1 51 (by omega)
  have sg := m_isSign h.1.1 hpT h1.2.1 11 (by omega) 301 rfl
  rw [kc_81_145, if_neg (show ¬ ((1 : Int32) = 0) by decide), km_84_16, if_neg (show ¬ ((1 : Int32) = 0) by decide), sg, bi_ok]
  by_cases a51 : (Q p).1 = 51
  · have hlt : p < T := h.lt (by omega) (by omega)
    rw [if_pos a51] at tk
    obtain ⟨b1, b2, b3, b4, b5, b6, b7, b8⟩ := h.1.2.2.2.1.2.2.2 f hzF
    have l29 : lv (lj_put σ 30 f 1) 29 f = lv σ 29 f := by rw [lv_put, if_neg (by omega)]
    have l31 : lv (lj_put σ 30 f 1) 31 f = lv σ 31 f := by rw [lv_put, if_neg (by omega)]
    have P := h.pfn (q := f) (σ' := lj_put σ 30 f 1) (τ' := lj_put τ 16 f 1) (fun k j w => by rw [lj_put_1, if_neg (by omega)]) (fun k j w => by rw [lj_put_1, if_neg (by omega)]) rfl rfl (by rw [lj_put_1, if_pos ⟨rfl, rfl⟩, lj_put_1, if_pos ⟨rfl, rfl⟩]) (by rw [lj_put_1, if_pos ⟨rfl, rfl⟩]; exact Or.inr rfl) (by rw [l29, l31]; exact ⟨b8.2.1, b8.1⟩)
    have S := P.1.st hlt
    have eC : lj_put (lj_put σ 6 0 (Int32.ofNat (p + 1))) 30 f (vp_nar .boolean 1) = lj_put (lj_put σ 30 f 1) 6 0 (Int32.ofNat (p + 1)) := put_cm _ _ _ (by omega)
    rw [if_pos (show (Q p).1 = 40 + 11 by omega), if_neg (by decide)]
    simp only [if_pos iF, lz_onat (show f < 2147483648 by omega)]
    rw [show vp_nar .boolean 1 = 1 from rfl, m_take P.1.1.1 hpT P.1.2.1.2.1 (by omega), bi_ok, if_neg (by decide), show lj_R lc_P 84 [.ref 6, .int 51] σ = _ from tk, bi_ok, if_neg (by decide), show lj_put (lj_put σ 6 0 (Int32.ofNat (p + 1))) 30 f 1 = lj_put (lj_put σ 30 f 1) 6 0 (Int32.ofNat (p + 1)) from put_cm _ _ _ (by omega)]
    rcases bp_end hT5 S.1 hN x1 x2 x3 x5 x7 with ⟨_, q1, q2⟩ | ⟨σ', τ', q0, _, q1, q2, q3, q4, q5, q6, q7⟩
    · rw [q1, q2, bi_ok, if_pos rfl, km_84_57, km_84_58]
      exact Or.inl ⟨_, rfl, S.1.flt hT5 2 (Or.inl rfl) _⟩
    · rw [q1, q2, bi_ok, if_neg (by decide), km_84_58]
      exact Or.inr ⟨nl, [], N, p + 1 + 1, σ', τ', rfl, rfl, q3.rvd (by omega), hN, lvY_of hNe (lvX_rf _), (P.2.1.tr (S.2.1.q f) (fun _ w => w)).tr q4 (fun _ w => w), ((P.2.2 c m).tr (fz_eq (fun k j w1 w2 => by rw [lj_put_1, if_neg (by omega)]) (fun k j w1 w2 => by rw [lj_put_1, if_neg (by omega)]))).tr (q5 c m), (by omega), q6, q7⟩
  · rw [if_neg a51] at tk
    have hk := tk_lt h.1.1 hpT
    obtain ⟨hin, hkk, hvv⟩ := m_kindv h.1.1 hpT h1.2.1
    have t1 : ∀ k : Fin 70, ((tkk k.val = 1) ↔ k.val = 1) := by decide
    have t1' := t1 ⟨(Q p).1, hk⟩
    rw [if_neg (show ¬ (Q p).1 = 40 + 11 by omega), if_pos rfl, if_pos hin, hkk, show lj_R lc_P 84 [.ref 6, .int 51] σ = _ from tk, bi_ok, if_pos rfl, c_kind h.1.1 hpT h1.1, bi_ok]
    by_cases a1 : (Q p).1 = 1
    · have hlt : p < T := h.lt (by omega) (by omega)
      have hp1 : p + 1 ≤ T := hlt
      rw [if_pos (show tkk (Q p).1 = 1 from t1'.2 a1), if_pos (show Int32.ofNat (Q p).1 = 1 by rw [a1]; rfl), h1.1, m_here h.1.1 hpT h1.2.1, bi_ok]
      rcases cm_decl h hN (t := p) hpT hT5 with ⟨q1, q2, q3⟩ | ⟨q1, q2, q3, q4, q5⟩
      · rw [q2, q3, bi_ok, if_neg (by decide)]
        refine Or.inl ⟨_, rfl, ?_⟩
        exact flt_mk h1.2.2.2.2.2.1 (by omega) (Or.inr (Or.inr (Or.inl rfl))) (h.1.1.2.2.2.2.1 p hpT).2.2.2.2.1
      · obtain ⟨t1, t2, t3, t4, t5⟩ := (q4.1.1.2.2.2.2.1 p hpT).2.2.2.2.2.2.2.2.1 (Or.inl a1)
        obtain ⟨σ1, τ1, N1, w1, w2, w3, w4, w5, w6, w7⟩ := cm_know (nl := nl + 1) (rv := 0) q4 hN (x := nl) (by omega) (fun y hy => by
          rw [List.mem_reverse, List.mem_range] at hy
          exact hy) (Or.inl ⟨t1, t5⟩) (Or.inl t1) t2 hT5
        have S := w3.stR hlt
        have hN1 : hdN N1 f (List.range (nl + 1)).reverse := by
          rw [rng_rev]
          exact lvY_hd hN w4.2.1
        have d25 : (lj_put τ 14 f (Int32.ofNat (nl + 1))).1 0 25 = Int32.ofNat p := q4.2.1.2.1
        have tk1 := c_take S.1.1.1 hp1 S.1.2.1.1 68 (by omega)
        have sg1 := m_isSign S.1.1.1 hp1 S.1.2.1.2.1 28 (by omega) 44 rfl
        have g1 : TXq f N σ τ (lj_put σ1 6 0 (Int32.ofNat (p + 1))) (lj_put τ1 0 25 (Int32.ofNat (p + 1))) := ((q5.1.tr w4.1 (fun q _ hq => hq)).tr S.2.1 (fun q _ hq => by rw [lvY_q w4.2.1]; exact hq)).q f
        have z1 : fz 0 c 0 m σ τ (lj_put σ1 6 0 (Int32.ofNat (p + 1))) (lj_put τ1 0 25 (Int32.ofNat (p + 1))) := (q5.2.2.2.2.2.2.tr w4.2.2.2.2.2.2).tr S.2.2.2.2.2.2.2
        rw [q2, bi_ok, c_name q4.1.1 hpT q4.2.1.1 (Or.inl a1), bi_ok, w1, bv_ok, c_step w3.1.1 hpT w3.2.1.1, bv_ok, q3, bi_ok, if_pos (by rw [lz_le, lz_lit (by omega)]; show (0 : Int) ≤ _; omega), d25, if_pos (ofN_in (by omega) (by omega)), lz_onat (show p < 2147483648 by omega), t4, Int32.toInt32_toInt64, w2, bv_ok, m_take w3.1.1 hpT w3.2.1.2.1 (by omega), bi_ok, if_neg (by decide), sg1, bi_ok]
        by_cases a68 : (Q (p + 1)).1 = 68
        · have hlt1 : p + 1 < T := S.1.lt (by omega) (by omega)
          have S2 := S.1.st hlt1
          have S3 : PS b n T Q X F N1 (((nl + 1, 1), []) :: FO) Z PL cl ml (p + 1 + 1) v c m wh W _ _ := S2.1.rvd (by omega)
          rw [if_pos a68] at tk1
          rw [show lj_R lc_P 84 [.ref 6, .int 68] _ = _ from tk1, bi_ok, if_pos (show (Q (p + 1)).1 = 40 + 28 by omega), if_neg (by decide), m_take S.1.1.1 hp1 S.1.2.1.2.1 (by omega), bi_ok, if_neg (by decide), km_84_136]
          rcases ih (nl + 1) N1 (p + 1 + 1) _ _ (.int (Int32.ofNat nl)) (.int (Int32.ofNat nl)) (by omega) S3 hN1 with ⟨τ', r1, r2⟩ | ⟨nl', e, N', p', σ', τ', r1, r2, r3, r4, r5, r6, r7, r8, r9, r10⟩
          · exact Or.inl ⟨τ', r1, r2⟩
          · refine Or.inr ⟨nl', _, N', p', σ', τ', r1, r2, r3, r4, w4.2.1.tr r5, (g1.tr (S2.2.1.q f) (fun r w => by rw [lvY_q w4.2.1]; exact w)).tr r6 (fun r w => by rw [lvY_q w4.2.1]; exact w), (z1.tr (fz_eq (fun k j w1 w2 => by rw [lj_put_1, if_neg (by omega)]) (fun k j w1 w2 => by rw [lj_put_1, if_neg (by omega)]))).tr r7, (by omega), r9, r10⟩
        · rw [if_neg a68] at tk1
          rw [show lj_R lc_P 84 [.ref 6, .int 68] _ = _ from tk1, bi_ok, if_neg (show ¬ (Q (p + 1)).1 = 40 + 28 by omega), if_pos rfl, km_84_136, km_84_16, if_pos rfl]
          rcases bp_end hT5 S.1 hN1 x1 x2 x3 x5 (.int (Int32.ofNat nl)) with ⟨_, q1, q2⟩ | ⟨σ', τ', q0, _, q1, q2, q3, q4, q5, q6, q7⟩
          · rw [q1, q2, bi_ok]
            exact Or.inl ⟨_, rfl, S.1.flt hT5 2 (Or.inl rfl) _⟩
          · rw [q1, q2, bi_ok]
            exact Or.inr ⟨nl + 1, _, N1, p + 1 + 1, σ', τ', rfl, rfl, q3.rvd (by omega), hN1, w4.2.1, g1.tr q4 (fun r w => by rw [lvY_q w4.2.1]; exact w), z1.tr (q5 c m), (by omega), q6, q7⟩
    · rw [if_neg (show ¬ tkk (Q p).1 = 1 from fun z => a1 (t1'.1 z)), if_neg (show ¬ Int32.ofNat (Q p).1 = 1 from fun z => a1 ((ofN_eq (c := 1) (by omega) (by omega)).1 z)), c_throw h.1.1 hpT h1.1, m_wrong h.1.1 hpT h1.2.1 h1.2.2.2.2.2.2.2.2.2, bi_ok]
      exact Or.inl ⟨_, rfl, h.flt hT5 2 (Or.inl rfl) _⟩
