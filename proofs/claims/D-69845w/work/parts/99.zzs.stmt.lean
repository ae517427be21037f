/-! statements: all kinds -/
theorem cs_of {b : Nat → Int32} {n T : Nat} {Q : tkQ} {X : List Int32 → Prop} (hT5 : T ≤ 520) (k : Nat) (hV : CV b n T Q X k) (hR : CR b n T Q X k) (hD : CD b n T Q X k) (hK : CK b n T Q X k) (hB : CB b n T Q X k) (hC1 : CC b n T Q X (k + 1)) (hR1 : CR b n T Q X (k + 1)) : CS b n T Q X (k + 1) := by
  intro F N FO0 nl rv fl Z PL cl ml p v c m wh W σ τ f s l lB D hTp h hN hs hW hc hm hlp hS
  rcases st_open h hS hW hT5 with hf | ⟨hv, σd, τb, eC, eM, P, G⟩
  · exact stR_flt hf
  have hNe := hdN_ne hN
  have hvb := h.2.2.2.2.1.2.2
  have hZ : Z.length + 1 ≤ v + 1 := by have := hvb.1; omega
  have hPL : PL.length + 20 ≤ 20 * (v + 1) := by have := hvb.2.1; omega
  have hNv : N.length ≤ v + 1 := hvb.2.2.1
  have hfl : fl.length + 1 ≤ v + 1 := by have := hvb.2.2.2.1 _ (List.mem_cons_self); simp only at this; omega
  have c14 := h.c14 hT5
  have hk := tk_lt h.1.1 h.2.2.1.1
  have hW' : ((1, 0, 0, 0) :: (0, 0, 0, 0) :: W : List wT).length + 30 ≤ 40 * (v + 1) + 60 := by simp only [List.length_cons]; omega
  have fin : ∀ (oC : Option lj_O), (∃ y τ', (y = 0 ∨ y = 1) ∧ lj_R lm_P 42 [.ref 0] τb = some (.inl (some (.int y)), τ') ∧ stR b n T Q X FO0 nl rv fl Z PL (v + 1) ((1, 0, 0, 0) :: (0, 0, 0, 0) :: W) f s l lB D N F p c m σd τb (fun p' => p < p') 0 oC (mNx y τ')) → lj_R lc_P 64 [.ref 6] σ = lj_bv oC (fun σ' => lj_D lc_P lc_M64 269 [.ref 6, .int (Int32.ofNat (Q p).1), .int 1] [] σ') lj_up → stR b n T Q X FO0 nl rv fl Z PL v ((0, 0, 0, 0) :: W) f s l lB D N F p c m σ τ (fun p' => p < p') 0 (lj_R lc_P 64 [.ref 6] σ) (mLoop τ) := fun oC ⟨y, τ', hy, e, hst⟩ e64 => by
    rw [e64, eM y τ' hy e]
    exact (st_close hst hvb hv (by simp only [List.length_cons]; omega) _ _).fr G hNe
  have e54 := c_put3 P.2.1.2.2.2.2.1 (show c < 14000 by omega) 0 0 0
  rcases hS with a | a | a | a | a | a | a | a | a | a | a
  · -- an empty one
    refine fin _ (cs_semi hT5 P hNe a) ?_
    rw [eC, if_pos a, a, kc_64_110, if_neg (by decide), if_neg (by decide), if_neg (by decide), if_neg (by decide), if_neg (by decide), if_neg (by decide), if_neg (by decide), if_neg (by decide), if_pos (by decide)]
  · refine fin _ (cs_ac hT5 (k + 1) hC1 hR1 hTp P hN hs hW' hPL hc hm (Or.inl a)) ?_
    rw [eC, if_neg (by omega), e54, bi_ok, bi_ok, a, kc_64_110, if_neg (by decide), if_neg (by decide), if_neg (by decide), if_neg (by decide), if_neg (by decide), if_neg (by decide), if_neg (by decide), if_neg (by decide), if_neg (by decide)]
  · refine fin _ (cs_ac hT5 (k + 1) hC1 hR1 hTp P hN hs hW' hPL hc hm (Or.inr a)) ?_
    rw [eC, if_neg (by omega), e54, bi_ok, bi_ok, a, kc_64_110, if_neg (by decide), if_neg (by decide), if_neg (by decide), if_neg (by decide), if_neg (by decide), if_neg (by decide), if_neg (by decide), if_neg (by decide), if_neg (by decide)]
  · -- do
    refine fin _ (cs_do hT5 k hD hTp P hN hs (by omega) hc hm hlp a 0 0) ?_
    rw [eC, if_neg (by omega), e54, bi_ok, bi_ok, a, kc_64_110, if_neg (by decide), if_pos (by decide), bv_bv]
    simp only [bv_bv]
  · -- while
    refine fin _ (cs_while hT5 k hV hD hTp P hN hs (by omega) hc hm hZ a) ?_
    rw [eC, if_neg (by omega), e54, bi_ok, bi_ok, a, kc_64_110, if_neg (by decide), if_neg (by decide), if_neg (by decide), if_neg (by decide), if_neg (by decide), if_neg (by decide), if_neg (by decide), if_pos (by decide)]
  · -- repeat
    refine fin _ (cs_repeat hT5 k hV hK hTp P hN hs (by omega) hc hm hZ a) ?_
    rw [eC, if_neg (by omega), e54, bi_ok, bi_ok, a, kc_64_110, if_neg (by decide), if_neg (by decide), if_neg (by decide), if_neg (by decide), if_neg (by decide), if_neg (by decide), if_pos (by decide)]
  · -- if
    refine fin _ (cs_if hT5 k hV hD hTp P hN hs (by omega) hc hm hlp a) ?_
    rw [eC, if_neg (by omega), e54, bi_ok, bi_ok, a, kc_64_110, if_neg (by decide), if_neg (by decide), if_neg (by decide), if_neg (by decide), if_pos (by decide)]
  · -- for
    have e64 : lj_R lc_P 64 [.ref 6] σ = lj_bv (lj_bi (lj_R lc_P 54 [.ref 5, .int 0, .int 0, .int 0] σd) (fun _ σ1 => lj_R lc_P 102 [.ref 6] σ1) lj_up) (fun σ' => lj_D lc_P lc_M64 269 [.ref 6, .int (Int32.ofNat (Q p).1), .int 1] [] σ') lj_up := by
      rw [eC, if_neg (by omega), e54, bi_ok, bi_ok, a, kc_64_110, if_neg (by decide), if_neg (by decide), if_pos (by decide)]
    by_cases w : (Q (p + 1)).1 = 1 ∧ nl < 50 ∧ (Q (p + 2)).1 ≠ 58
    · exact fin _ (cs_fori hT5 k hR hK hTp P hN hs (by omega) hc hm hZ hfl a w.1 w.2.1 w.2.2) e64
    · exact fin _ (cs_forc hT5 k hV hK hTp P hN hs (by omega) hc hm hZ hfl a (fun u1 u2 => Classical.byContradiction (fun u3 => w ⟨u1, u2, u3⟩))) e64
  · -- function
    refine fin _ (cs_fn hT5 k hB hTp P hN hNv hs (by omega) hc hm a) ?_
    rw [eC, if_neg (by omega), e54, bi_ok, bi_ok, a, kc_64_110, if_neg (by decide), if_neg (by decide), if_neg (by decide), if_pos (by decide)]
  · -- local
    have e64 : lj_R lc_P 64 [.ref 6] σ = lj_bv (lj_bi (lj_R lc_P 54 [.ref 5, .int 0, .int 0, .int 0] σd) (fun _ σ1 => lj_R lc_P 108 [.ref 6] σ1) lj_up) (fun σ' => lj_D lc_P lc_M64 269 [.ref 6, .int (Int32.ofNat (Q p).1), .int 1] [] σ') lj_up := by
      rw [eC, if_neg (by omega), e54, bi_ok, bi_ok, a, kc_64_110, if_neg (by decide), if_neg (by decide), if_neg (by decide), if_neg (by decide), if_neg (by decide), if_pos (by decide)]
    by_cases w : (Q (p + 1)).1 = 18
    · exact fin _ (cs_localf hT5 k hB hTp P hN hNv hs (by omega) hc hm a w) e64
    · exact fin _ (cs_local hT5 k hR hTp P hN hs (by omega) hc hm a w) e64
  · -- break
    refine fin _ (cs_break hT5 P hN hs hc hm hlp a) ?_
    rw [eC, if_neg (by omega), e54, bi_ok, bi_ok, a, kc_64_110, if_pos (by decide)]
/-- all that is promised of both parsers -/
theorem c_all {b : Nat → Int32} {n T : Nat} {Q : tkQ} {X : List Int32 → Prop} (hT5 : T ≤ 520) : ∀ k : Nat, CE b n T Q X k ∧ CT b n T Q X k ∧ CB b n T Q X k ∧ CS b n T Q X k
  | 0 => by
    refine ⟨?_, ?_, ?_, ?_⟩
    · intro F N FO Z PL cl ml p v c m wh W σ τ f s l lc ld h0; omega
    · intro F N FO Z PL cl ml p v c m wh W σ τ f s l h0; omega
    · intro F N FO Z PL cl ml p v c m wh W σ τ f s l me h0; omega
    · intro F N FO0 nl rv fl Z PL cl ml p v c m wh W σ τ f s l lB D h0; omega
  | k + 1 => by
    obtain ⟨hE, hT, hB, hS⟩ := c_all (b := b) (n := n) (Q := Q) (X := X) hT5 k
    have hR := cr_of hT5 k hE
    have hV := cv_of hT5 k hE
    have hC1 := cc_step hT5 k hV (cg_of hT5 k hT hR)
    have hT1 := ct_step hT5 k hV hE
    have hE1 := ce_step hT5 k hE (co_step hT5 k hB hT1 hC1)
    have hK := ck_of hT5 k hS hR
    exact ⟨hE1, hT1, cb_of hT5 k hK, cs_of hT5 k hV hR (cd_of hT5 k hK) hK hB hC1 (cr_of hT5 (k + 1) hE1)⟩
theorem ck_all {b : Nat → Int32} {n T : Nat} {Q : tkQ} {X : List Int32 → Prop} (hT5 : T ≤ 520) (k : Nat) : CK b n T Q X k := ck_of hT5 k (c_all (b := b) (n := n) (Q := Q) (X := X) hT5 k).2.2.2 (cr_of hT5 k (c_all (b := b) (n := n) (Q := Q) (X := X) hT5 k).1)
