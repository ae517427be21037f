/-! statements: a call -/
noncomputable def acC (y2 : Int32) (σ1 : lj_S) : Option lj_O := (if y2 = 1 then lj_bi (lj_R lc_P 63 [.ref 6] σ1) (fun y4 σ3 => (if y4 = 58 then lj_D lc_P lc_M110 44 [.ref 6, .int y2, .retAddr 0, .retAddr 0, .retAddr 0, .retAddr 0, .retAddr 0, .retAddr 0, .retAddr 0] [] σ3 else lj_bi (lj_R lc_P 63 [.ref 6] σ3) (fun y6 σ5 => (if y6 = 68 then lj_D lc_P lc_M110 44 [.ref 6, .int y2, .retAddr 0, .retAddr 0, .retAddr 0, .retAddr 0, .retAddr 0, .retAddr 0, .retAddr 0] [] σ5 else lj_bi (lj_R lc_P 54 [.ref 5, .int 19, .int 0, .int 0] σ5) (fun y8 σ7 => some (.inl none, σ7)) lj_up)) lj_up)) lj_up else lj_D lc_P lc_M110 44 [.ref 6, .int y2, .retAddr 0, .retAddr 0, .retAddr 0, .retAddr 0, .retAddr 0, .retAddr 0, .retAddr 0] [] σ1)
theorem ac_C (σ : lj_S) : lj_D lc_P lc_M110 0 [.ref 6, .retAddr 0, .retAddr 0, .retAddr 0, .retAddr 0, .retAddr 0, .retAddr 0, .retAddr 0, .retAddr 0] [] σ = lj_bi (lj_R lc_P 87 [.ref 6] σ) (fun y2 σ1 => acC y2 σ1) lj_up := by
  rw [kc_110_0]; rfl
theorem ac_call {b : Nat → Int32} {n T : Nat} {Q : tkQ} {X : List Int32 → Prop} (hT5 : T ≤ 520) {FO : List fT} {Z : List zT} {PL : List qT} {cl ml : Nat} {F : Nat} {N : List lT} {p v c m wh : Nat} {W : List wT} {σ τ : lj_S} {f : Nat} {s l : List Nat} {c0 m0 : Nat} {what : Int32} (h : PS b n T Q X F N FO Z PL cl ml p v c m wh W σ τ) (hml : ml ≤ m0) (hS : chS f (2 :: s) l N c0 m0 c m what σ τ) (n58 : (Q p).1 ≠ 58) (n68 : (Q p).1 ≠ 68) (hc : c + 1 ≤ 25 * p + 100) (hm : m + 1 ≤ 25 * p + 100) (hsB : sB s := by assumption) :
    ∃ y τ', (y = 0 ∨ y = 1) ∧ lj_R lm_P 87 [.ref 0, .int (Int32.ofNat PL.length)] τ = some (.inl (some (.int y)), τ') ∧ (fltR n (acC what σ) (mNx y τ') ∨ ∃ σ', acC what σ = some (.inl none, σ') ∧ mNx y τ' = mLoop τ' ∧ PS b n T Q X F N FO Z PL cl ml p v (c + 1) (m + 1) wh W σ' τ' ∧ TX N σ τ σ' τ' ∧ fz 0 c0 0 m0 σ τ σ' τ' ∧ ∀ σ2 τ2, LT N c0 (c + 1) m0 (m + 1) σ' τ' σ2 τ2 → seg σ2 τ2 (f, c0, m0, 2 :: s, l, 50) (fun y => y = (f, c + 1, m + 1, s, l, 50))) := by
  have hpT := h.2.2.1.1
  have c14 := h.c14 hT5
  have h1 := h.2.1
  have hk := tk_lt h.1.1 hpT
  have kd := c_kind h.1.1 hpT h1.1
  have ne : ∀ x : Nat, x < 70 → (Q p).1 ≠ x → ¬ (Int32.ofNat (Q p).1 = Int32.ofNat x) := fun x hx q z => q ((ofN_eq (by omega) (by omega)).1 z)
  have i58 : ¬ (Int32.ofNat (Q p).1 = 58) := ne 58 (by omega) n58
  have i68 : ¬ (Int32.ofNat (Q p).1 = 68) := ne 68 (by omega) n68
  have s61 := m_isSign h.1.1 hpT h1.2.1 18 (by omega) 61 rfl
  have s44 := m_isSign h.1.1 hpT h1.2.1 28 (by omega) 44 rfl
  rw [if_neg (show ¬ (Q p).1 = 40 + 18 by omega)] at s61
  rw [if_neg (show ¬ (Q p).1 = 40 + 28 by omega)] at s44
  have e44 : lj_D lc_P lc_M110 44 [.ref 6, .int what, .retAddr 0, .retAddr 0, .retAddr 0, .retAddr 0, .retAddr 0, .retAddr 0, .retAddr 0] [] σ = some (.inr 1, cFl σ (fq (Q p).1 2) (Q p).2.1) := by
    rw [kc_110_44, kd, bi_ok, if_neg i58, kd, bi_ok, if_neg i68, kc_110_67, c_throw h.1.1 hpT h1.1]
  have e13 : ∀ x50 : Int32, lj_D lm_P lm_M87 13 [.ref 0, .int (Int32.ofNat PL.length), .retAddr 0, .retAddr 0, .retAddr 0] [.int x50] τ = (if (τ.1 0 61) = 4 then (if (τ.1 0 60) ≤ Int32.ofNat PL.length then (if lj_in (τ.1 0 62) 14000 then lj_bi (lj_R lm_P 28 [.ref 0, .int 47, .int 0, .int 0, .int 0] (lj_put τ 21 ((τ.1 0 62).toNatClampNeg) 0)) (fun y6 σ5 => some (.inl (some (.int 1)), σ5)) lj_up else none) else lj_D lm_P lm_M87 257 [.ref 0, .int (Int32.ofNat PL.length), .int x50, .retAddr 0, .retAddr 0] [] τ) else lj_D lm_P lm_M87 257 [.ref 0, .int (Int32.ofNat PL.length), .int x50, .retAddr 0, .retAddr 0] [] τ) := fun x50 => by
    rw [km_87_13, s61, bi_ok, if_pos rfl, s44, bi_ok, if_pos rfl]
  have w47 : ∀ x50 : Int32, lj_D lm_P lm_M87 257 [.ref 0, .int (Int32.ofNat PL.length), .int x50, .retAddr 0, .retAddr 0] [] τ = some (.inl (some (.int 0)), mFl τ (fq (Q p).1 2) (Q p).2.1) := fun x50 => by
    rw [km_87_257, m_wrong h.1.1 hpT h1.2.1 h1.2.2.2.2.2.2.2.2.2, bi_ok]; rfl
  have e60 : τ.1 0 60 = Int32.ofNat PL.length := h.2.2.2.1.2.2.2.2.2.2.1
  by_cases w1 : what = 1
  · subst w1
    rcases hS with ⟨q, _⟩ | ⟨_, q61, m1', q62, hx⟩ | ⟨_, _, _, _, _, q, _⟩ | ⟨q, _⟩
    · exact absurd q (by decide)
    · rcases hx with ⟨q, _⟩ | ⟨_, c1, m1, r, u1, u2, u3, u4, u5, u6, u7, u8, u9, u10, u11⟩ | ⟨q, _⟩
      · exact absurd q (by decide)
      · have e1 : Int32.ofNat m1' = Int32.ofNat m1 := by rw [lj_put_1, if_pos ⟨rfl, rfl⟩] at u5; exact u5
        rw [e1] at q62
        have u7 : τ.1 20 m1 = 16 := u7
        subst u1 u2
        have X1 := h.p21 (j := m1) (by omega) 0
        have X2 := X1.1.C (by omega) hT5 19 0 0 0 0
        have X3 := X2.1.M (by omega) 47 0 0 0
        have e41 : (lj_put τ 21 m1 0).1 0 41 = Int32.ofNat (m1 + 1) := by rw [lj_put_1, if_neg (by omega)]; exact h1.2.2.2.2.2.1
        refine ⟨1, mP (lj_put τ 21 m1 0) (m1 + 1) 47 0 0 0, Or.inr rfl, ?_, Or.inr ⟨cP σ (c1 + 1) 19 0 0 0 0, ?_, nx1 X3.1.2.1, X3.1, X1.2.1.tr (X2.2.tr X3.2).1 (fun _ _ q => q), (X1.2.2.mo (by omega) (by omega) (by omega) (by omega)).tr ((X2.2.tr X3.2).2.2.2.2.2.2.mo (by omega) (by omega) (by omega) (by omega)), fun σ2 τ2 L => ?_⟩⟩
        · rw [rm_87, km_87_0]
          rw [q61, if_pos (by decide), e13, q61, if_pos rfl, e60, if_pos (by rw [lz_le]; exact Int.le_refl _), q62, if_pos (ofN_in (by omega) (by omega)), lz_onat (by omega), m_emit e41 (by omega), bi_ok]
        · unfold acC
          rw [if_pos rfl, kd, bi_ok, if_neg i58, kd, bi_ok, if_neg i68, c_put3 h1.2.2.2.2.1 (by omega), bi_ok]
        · have k3 := L.gM (by omega)
          have L2 := X3.2.bk L
          have k2 := L2.gC (by omega)
          have L1 := X2.2.bk L2
          have LT1 : TX N σ (lj_put τ 0 64 (Int32.ofNat m1')) σ2 τ2 := (putM_TX N σ (lj_put τ 0 64 (Int32.ofNat m1')) τ (fun k j q => ⟨by rw [lj_put_1, if_neg (by rintro ⟨e1, e2⟩; rw [e1, e2] at q; cases q)], rfl⟩) (fun _ => rfl)).tr (X1.2.1.tr L1.1 (fun _ _ q => q)) (fun _ _ q => q)
          have Cx : ∀ k j, 22 ≤ k → k ≤ 26 → c0 ≤ j → j < c1 + 1 → σ2.1 k j = σ.1 k j := fun k j v1 v2 v3 v4 => L1.2.1 k j v1 v2 v3 v4
          have Mx : ∀ k j, 20 ≤ k → k ≤ 23 → m0 ≤ j → j < m1 + 1 → ¬ (k = 21 ∧ j = m1) → τ2.1 k j = τ.1 k j := fun k j v1 v2 v3 v4 v5 => by rw [L1.2.2 k j v1 v2 v3 v4, lj_put_1, if_neg v5]
          obtain ⟨s1, s2⟩ := u11 σ2 τ2 LT1 ⟨fun k j v1 v2 v3 v4 => Cx k j v1 v2 v3 (by omega), fun k j v1 v2 v3 v4 => by rw [Mx k j v1 v2 v3 (by omega) (by omega), lj_put_1, if_neg (by omega)]⟩
          have u9 : σ.1 26 c1 = τ.1 23 m1 := by rw [lj_put_1, if_neg (by omega)] at u9; exact u9
          refine s1.tr (fun y hy => ?_)
          rw [hy]
          refine seg_in [(f, c1 + 2, m1 + 1, 2 :: s, l, 50)] ⟨20, r, 2 :: s, u10, rfl, ?_, ?_, ?_, s2, k2.1, ?_, rfl⟩ (fun y hy => ?_)
          · show σ2.1 22 c1 = 16
            rw [Cx 22 c1 (by omega) (by omega) (by omega) (by omega)]; exact u6
          · show τ2.1 20 m1 = 16
            rw [Mx 20 m1 (by omega) (by omega) (by omega) (by omega) (by omega)]; exact u7
          · show σ2.1 26 c1 = τ2.1 23 m1
            rw [Cx 26 c1 (by omega) (by omega) (by omega) (by omega), Mx 23 m1 (by omega) (by omega) (by omega) (by omega) (by omega)]; exact u9
          · show τ2.1 21 m1 = 0
            rw [L1.2.2 21 m1 (by omega) (by omega) (by omega) (by omega), lj_put_1, if_pos ⟨rfl, rfl⟩]
          · rw [List.mem_singleton.1 hy]
            exact seg_in [(f, c1 + 2, m1 + 2, s, l, 50)] ⟨15, s, rfl, k3.1, rfl⟩ (fun y hy => by rw [List.mem_singleton.1 hy]; exact seg_ex rfl)
      · exact absurd q (by decide)
    · rcases q with q | q | q <;> exact absurd q (by decide)
    · exact absurd q (by decide)
  · have n4 : ¬ τ.1 0 61 = 4 := by
      rcases hS with ⟨_, q, _⟩ | ⟨q, _⟩ | ⟨srt, _, _, _, _, _, q1, q, _⟩ | ⟨_, q, _⟩
      · rw [q]; decide
      · exact absurd q w1
      · rw [q]
        rcases q1 with ⟨_, e⟩ | ⟨_, e⟩ | ⟨_, e⟩ | ⟨_, e⟩ <;> rw [e] <;> decide
      · rw [q]; decide
    refine ⟨0, mFl τ (fq (Q p).1 2) (Q p).2.1, Or.inl rfl, ?_, Or.inl ?_⟩
    · rw [rm_87, km_87_0]
      by_cases z : 3 < τ.1 0 61
      · rw [if_pos z, e13, if_neg n4, w47]
      · rw [if_neg z, e13, if_neg n4, w47]
    · unfold acC
      rw [if_neg w1, e44, nx0]
      exact h.flt hT5 2 (Or.inl rfl) _
