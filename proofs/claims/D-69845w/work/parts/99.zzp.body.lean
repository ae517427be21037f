/-! bodies: a function is opened, its parameters are read -/
theorem TX_29 (N : List lT) (σ τ : lj_S) {F : Nat} (hF : lv σ 5 8 ≤ (F : Int)) (x y : Int32) : TX N σ τ (lj_put σ 29 F x) (lj_put τ 13 F y) := by
  have oC : ∀ k j, k ≠ 29 → (lj_put σ 29 F x).1 k j = σ.1 k j := fun k j w => by rw [lj_put_1, if_neg (by omega)]
  have oM : ∀ k j, k ≠ 13 → (lj_put τ 13 F y).1 k j = τ.1 k j := fun k j w => by rw [lj_put_1, if_neg (by omega)]
  have le : ∀ k j, k ≠ 29 → lv σ k j ≤ lv (lj_put σ 29 F x) k j := fun k j w => by unfold lv; rw [oC k j w]; exact Int.le_refl _
  have e18 : lv (lj_put σ 29 F x) 5 18 = lv σ 5 18 := by unfold lv; rw [oC 5 18 (by omega)]
  refine ⟨⟨le 3 7 (by omega), by unfold lv; rw [oM 0 14 (by omega)]; exact Int.le_refl _, fun t _ => cS_cong (fun j => oC 9 j (by omega)) (fun j => oC 10 j (by omega)) (fun j => oC 11 j (by omega)) t, fun t _ => mS_cong (fun j => oM 2 j (by omega)) (fun j => oM 3 j (by omega)) (fun j => oM 4 j (by omega)) t⟩, le 5 0 (by omega), le 5 6 (by omega), le 5 8 (by omega), le 5 18 (by omega), fun i _ => ⟨rfl, rfl⟩, fun q hq => ⟨oC 28 q (by omega), by rw [lj_put_1, if_neg (by omega)], ⟨oM 12 q (by omega), by rw [lj_put_1, if_neg (by omega)]⟩, ⟨le 32 q (by omega), le 31 q (by omega)⟩, le 33 q (by omega)⟩, fun q _ _ => ⟨oC 33 q (by omega), oM 15 q (by omega), fun i _ => ⟨oC 34 _ (by omega), oC 35 _ (by omega), oM 18 _ (by omega), oM 19 _ (by omega)⟩⟩, fun k _ => ⟨oC 37 k (by omega), oC 38 k (by omega), oC 39 k (by omega), Or.inl (oC 40 k (by omega))⟩, fun k a b => by omega, lf_put (lf_rf _ _) _ _ _ rfl, lf_put (lf_rf _ _) _ _ _ rfl⟩
noncomputable def bdO (x1 : Int32) (σ1 : lj_S) : Option lj_O := lj_bi (lj_R lc_P 54 [.ref 5, .int 30, .int 0, .int 0] σ1) (fun y4 σ3 => lj_bi (lj_R lc_P 77 [.ref 6] σ3) (fun y6 σ5 => lj_bv (lj_R lc_P 59 [.ref 6, .int y6, .int 0] σ5) (fun σ7 => lj_bv (lj_R lc_P 67 [.ref 6] σ7) (fun σ8 => (if lj_in (σ7.1 6 2) 51 then (if x1 = 0 then lj_D lc_P lc_M81 129 [.ref 6, .int x1, .int (σ1.1 6 2), .int y4, .int (σ7.1 6 2), .int (σ7.1 6 0), .retAddr 0, .retAddr 0] [] (lj_put σ8 28 ((σ7.1 6 2).toNatClampNeg) (σ8.1 5 0)) else lj_bi (lj_R lc_P 82 [.ref 6, .int (σ7.1 6 0)] (lj_put σ8 28 ((σ7.1 6 2).toNatClampNeg) (σ8.1 5 0))) (fun y10 σ9 => lj_bv (lj_R lc_P 83 [.ref 6, .int (σ9.1 0 8), .int y10] σ9) (fun σ11 => lj_D lc_P lc_M81 129 [.ref 6, .int x1, .int (σ1.1 6 2), .int y4, .int (σ7.1 6 2), .int (σ7.1 6 0), .int y10, .retAddr 0] [] σ11) lj_up) lj_up) else none)) lj_up) lj_up) lj_up) lj_up
noncomputable def bmO (x1 : Int32) (σ1 : lj_S) : Option lj_O := lj_bi (lj_R lm_P 28 [.ref 0, .int 21, .int 0, .int 0, .int 0] σ1) (fun y4 σ3 => (if lj_in ((σ3.1 0 53) + 1) 52 then (if lj_in ((σ3.1 0 53) + 1) 52 then (if lj_in (σ3.1 0 34) 51 then (if lj_in (σ3.1 0 34) 51 then (if lj_in (σ3.1 0 34) 51 then lj_bi (lj_R lm_P 33 [.ref 0] (lj_put (lj_put (lj_put (lj_put (lj_put (lj_put (lj_put σ3 0 34 ((σ3.1 0 34) + 1)) 0 53 ((σ3.1 0 53) + 1)) 31 (((σ3.1 0 53) + 1).toNatClampNeg) (σ3.1 0 50)) 32 (((σ3.1 0 53) + 1).toNatClampNeg) (σ3.1 0 34)) 14 ((σ3.1 0 34).toNatClampNeg) 0) 15 ((σ3.1 0 34).toNatClampNeg) 0) 16 ((σ3.1 0 34).toNatClampNeg) (vp_nar .boolean 0))) (fun y6 σ5 => (if lj_in (σ3.1 0 34) 51 then (if lj_in (σ3.1 0 34) 51 then lj_bi (lj_R lm_P 28 [.ref 0, .int 0, .int 0, .int 0, .int 0] (lj_put (lj_put σ5 17 ((σ3.1 0 34).toNatClampNeg) y6) 12 ((σ3.1 0 34).toNatClampNeg) (σ5.1 0 41))) (fun y8 σ7 => (if x1 ≤ 0 then lj_D lm_P lm_M83 175 [.ref 0, .int x1, .int y4, .int (σ3.1 0 34), .int y8] [] σ7 else lj_bv (lj_R lm_P 2 [.ref 0, .long 1936026726] (lj_put σ7 0 20 0)) (fun σ9 => lj_bi (lj_R lm_P 3 [.ref 0, .int 0] σ9) (fun y11 σ10 => lj_bi (lj_R lm_P 34 [.ref 0] σ10) (fun y13 σ12 => lj_bi (lj_R lm_P 48 [.ref 0, .int y13] σ12) (fun y15 σ14 => lj_bv (lj_R lm_P 55 [.ref 0, .int y11, .int y15] σ14) (fun σ16 => lj_D lm_P lm_M83 175 [.ref 0, .int x1, .int y4, .int (σ3.1 0 34), .int y8] [] σ16) lj_up) lj_up) lj_up) lj_up) lj_up)) lj_up else none) else none)) lj_up else none) else none) else none) else none) else none)) lj_up
/-- what the model does behind its parameters -/
noncomputable def bmE (x2 x3 : Int32) (σ : lj_S) : Option lj_O := lj_bv (lj_R lm_P 29 [.ref 0, .int 20, .int x2, .int x3, .int 0] σ) (fun σ5 => lj_bv (lj_R lm_P 29 [.ref 0, .int 0, .int 0, .int 0, .int 0] σ5) (fun σ6 => some (.inl (some (.int 1)), σ6)) lj_up) lj_up
/-- parameters, from the bracket on -/
theorem bp_all {b : Nat → Int32} {n T : Nat} {Q : tkQ} {X : List Int32 → Prop} (hT5 : T ≤ 520) {F : Nat} {FO : List fT} {Z : List zT} {PL : List qT} {cl ml v c m wh : Nat} {W : List wT} {f nl : Nat} {N : List lT} {p : Nat} {σ τ : lj_S} (h : PS b n T Q X F N (((nl, 1), []) :: FO) Z PL cl ml p v c m wh W σ τ) (hN : hdN N f (List.range nl).reverse) (x1 x2 x3 x5 : Int32) (x6 : Value) :
    (∃ τ', lj_R lm_P 84 [.ref 0, .int (Int32.ofNat f)] τ = some (.inl (some (.int 0)), τ') ∧ fltR n (lj_D lc_P lc_M81 129 [.ref 6, .int x1, .int x2, .int x3, .int (Int32.ofNat f), .int x5, x6, .retAddr 0] [] σ) (mBad τ')) ∨
    ∃ nl' e N' p' σ' τ', lj_D lc_P lc_M81 129 [.ref 6, .int x1, .int x2, .int x3, .int (Int32.ofNat f), .int x5, x6, .retAddr 0] [] σ = bdC x2 x3 (Int32.ofNat f) σ' ∧ lj_R lm_P 84 [.ref 0, .int (Int32.ofNat f)] τ = some (.inl (some (.int 1)), τ') ∧ PS b n T Q X F N' (((nl', 0), []) :: FO) Z PL cl ml p' v c m wh W σ' (lj_put τ' 13 f (τ'.1 14 f)) ∧ hdN N' f (List.range nl').reverse ∧ lvY e N N' ∧ TXq f N σ τ σ' (lj_put τ' 13 f (τ'.1 14 f)) ∧ fz 0 c 0 m σ τ σ' (lj_put τ' 13 f (τ'.1 14 f)) ∧ p < p' ∧ σ'.1 29 f = Int32.ofNat nl' ∧ (lj_put τ' 13 f (τ'.1 14 f)).1 13 f = Int32.ofNat nl' := by
  have hpT := h.2.2.1.1
  have h1 := h.2.1
  have hk := tk_lt h.1.1 hpT
  have sg := m_isSign h.1.1 hpT h1.2.1 21 (by omega) 41 rfl
  rw [rm_84, km_84_0, sg, bi_ok, kc_81_129, c_kind h.1.1 hpT h1.1, bi_ok]
  by_cases a61 : (Q p).1 = 61
  · rw [if_pos (show (Q p).1 = 40 + 21 by omega), if_neg (by decide), m_take h.1.1 hpT h1.2.1 (by omega), bi_ok, if_pos (show Int32.ofNat (Q p).1 = 61 by rw [a61]; rfl), kc_81_143]
    rcases bp_end hT5 h hN x1 x2 x3 x5 (.retAddr 0) with ⟨q, _⟩ | ⟨σ', τ', q0, e0, q1, q2, q3, q4, q5, q6, q7⟩
    · exact absurd a61 q
    · subst e0
      exact Or.inr ⟨nl, [], N, p + 1, σ', _, q1, rfl, q3.rvd (by omega), hN, lvY_of (hdN_ne hN) (lvX_rf _), q4, q5 c m, (by omega), q6, q7⟩
  · rw [if_neg (show ¬ (Q p).1 = 40 + 21 by omega), if_pos rfl, if_neg (show ¬ Int32.ofNat (Q p).1 = 61 from fun z => a61 ((ofN_eq (c := 61) (by omega) (by omega)).1 z)), kc_81_143]
    exact bp_loop hT5 x1 x2 x3 x5 (T - p + 1) nl N p σ τ (.retAddr 0) (.retAddr 0) (by omega) h hN
theorem opC_lf (σ : lj_S) (F f : Nat) (Ln : Int32) : lf pC σ (opC σ F f Ln) := by
  unfold opC
  exact lf_put (lf_put (lf_put (lf_put (lf_put (lf_put (lf_put (lf_put (lf_put (lf_put (lf_put (lf_put (lf_rf _ _) _ _ _ rfl) _ _ _ rfl) _ _ _ rfl) _ _ _ rfl) _ _ _ rfl) _ _ _ rfl) _ _ _ rfl) _ _ _ rfl) _ _ _ rfl) _ _ _ rfl) _ _ _ rfl) _ _ _ rfl
theorem bd_open {b : Nat → Int32} {n T : Nat} {Q : tkQ} {X : List Int32 → Prop} (hT5 : T ≤ 520) {FO : List fT} {Z : List zT} {PL : List qT} {cl ml : Nat} {F : Nat} {z : lT} {R : List lT} {p v c m wh : Nat} {W : List wT} {σ τ : lj_S} (h : PS b n T Q X F (z :: R) FO Z PL cl ml p v c m wh W σ τ) (a60 : (Q p).1 = 60) (hF : F < 50) (hNv : (z :: R).length ≤ v) {me : Nat} (hme : me ≤ 1) (hc : c + 1 ≤ 25 * p + 100) (hm : m + 2 ≤ 25 * p + 100) :
    (∃ τ', bmO (Int32.ofNat me) τ = some (.inl (some (.int 0)), τ') ∧ fltR n (bdO (Int32.ofNat me) σ) (mBad τ')) ∨
    ∃ nl e N' p' σ' τ', bdO (Int32.ofNat me) σ = bdC (Int32.ofNat z.1) (Int32.ofNat c) (Int32.ofNat F) σ' ∧ bmO (Int32.ofNat me) τ = bmE (Int32.ofNat m) (Int32.ofNat F) τ' ∧ PS b n T Q X (F + 1) N' (((nl, 0), []) :: FO) Z PL cl ml p' v (c + 1) (m + 2) wh W σ' τ' ∧ hdN N' F (List.range nl).reverse ∧ lvY e ((F, [], []) :: z :: R) N' ∧ TX (z :: R) σ τ σ' τ' ∧ fz 0 c 0 m σ τ σ' τ' ∧ σ'.1 22 c = 30 ∧ τ'.1 20 m = 21 ∧ τ'.1 20 (m + 1) = 0 ∧ p + 2 ≤ p' ∧ σ'.1 28 F = Int32.ofNat (c + 1) ∧ τ'.1 12 F = Int32.ofNat (m + 1) ∧ σ'.1 29 F = Int32.ofNat nl ∧ τ'.1 13 F = Int32.ofNat nl := by
  have hpT := h.2.2.1.1
  have hv20 := h.2.2.1.2.1
  have c14 := h.c14 hT5
  have h1 := h.2.1
  have hlt : p < T := h.lt (by omega) (by omega)
  have hp1 : p + 1 ≤ T := hlt
  have hn520 := h.1.1.2.1
  have hTn := h.1.1.2.2.1
  have hFR := h.1.2.2.2.1
  have hzF := h.1.2.2.2.2.1 z (List.mem_cons_self)
  have P1 := h.C (by omega) hT5 30 0 0 0 0
  have P2 := P1.1.M (by omega) 21 0 0 0
  generalize hLn : Int32.ofNat (1 + tN b (Q p).2.1) = Ln
  have P3 := P2.1.opn hT5 hF hNv Ln (Int32.ofNat (m + 1)) (Int32.ofNat (c + 1))
  have P4 := P3.1.M (by omega) 0 0 0 0
  have hNR2 := P2.1.1.2.2.1
  have e53 : (mP τ m 21 0 0 0).1 0 53 = Int32.ofNat R.length := by
    have := hNR2.2.2.2.2.2.2.2.1
    simpa using this
  have e50 : (mP τ m 21 0 0 0).1 0 50 = Int32.ofNat (baseN (z :: R)) := hNR2.2.2.2.2.2.2.2.2.1
  have e34 : (mP τ m 21 0 0 0).1 0 34 = Int32.ofNat F := P2.1.1.2.2.2.1.2.1
  have hlen : (z :: R).length = R.length + 1 := List.length_cons
  have hB1 : baseN (z :: R) ≤ 50 * (z :: R).length := baseN_le hNR2.1
  rw [hlen] at hNv hB1
  have i52 : lj_in (Int32.ofNat (R.length + 1)) 52 := ofN_in (by omega) (by omega)
  have iF : lj_in (Int32.ofNat F) 51 := ofN_in (by omega) (by omega)
  rw [hlen] at P3 P4
  have x62 : σ.1 6 2 = Int32.ofNat z.1 := h.1.2.2.1.2.2.2.2.2.2.1
  have x62' : (cP σ c 30 0 0 0 0).1 6 2 = Int32.ofNat z.1 := P1.1.1.2.2.1.2.2.2.2.2.2.1
  have x58 : (cP σ c 30 0 0 0 0).1 5 8 = Int32.ofNat F := P1.1.1.2.2.2.1.1
  -- states in between
  have hT7 : TE b n T Q (opC (cP σ c 30 0 0 0 0) F z.1 Ln) (mP τ m 21 0 0 0) := TE_pp P2.1.1.1 (opC_lf _ _ _ _) (lf_rf _ _)
  have g7 := opC_get (cP σ c 30 0 0 0 0) F z.1 Ln
  have o7 := opC_o (cP σ c 30 0 0 0 0) F z.1 Ln
  have x60 : (opC (cP σ c 30 0 0 0 0) F z.1 Ln).1 6 0 = Int32.ofNat p := by rw [o7 6 0 (by omega) (by omega) (by omega)]; exact P1.1.2.1.1
  have x50 : (lj_put (opC (cP σ c 30 0 0 0 0) F z.1 Ln) 6 0 (Int32.ofNat (p + 1))).1 5 0 = Int32.ofNat (c + 1) := by rw [lj_put_1, if_neg (by omega), o7 5 0 (by omega) (by omega) (by omega)]; exact P1.1.2.1.2.2.2.2.1
  have eA : lj_put (lj_put (opC (cP σ c 30 0 0 0 0) F z.1 Ln) 6 0 (Int32.ofNat (p + 1))) 28 F (Int32.ofNat (c + 1)) = lj_put (lj_put (opC (cP σ c 30 0 0 0 0) F z.1 Ln) 28 F (Int32.ofNat (c + 1))) 6 0 (Int32.ofNat (p + 1)) := put_cm _ _ _ (by omega)
  have hLh : lj_R lm_P 33 [.ref 0] (lj_put (lj_put (lj_put (lj_put (lj_put (lj_put (lj_put (mP τ m 21 0 0 0) 0 34 (Int32.ofNat (F + 1))) 0 53 (Int32.ofNat (R.length + 1))) 31 (R.length + 1) (Int32.ofNat (baseN (z :: R)))) 32 (R.length + 1) (Int32.ofNat F)) 14 F 0) 15 F 0) 16 F 0) = some (.inl (some (.int Ln)), lj_put (lj_put (lj_put (lj_put (lj_put (lj_put (lj_put (mP τ m 21 0 0 0) 0 34 (Int32.ofNat (F + 1))) 0 53 (Int32.ofNat (R.length + 1))) 31 (R.length + 1) (Int32.ofNat (baseN (z :: R)))) 32 (R.length + 1) (Int32.ofNat F)) 14 F 0) 15 F 0) 16 F 0) := by
    rw [← hLn]
    exact m_lineHere (TE_pp P2.1.1.1 (lf_rf _ _) (lf_put (lf_put (lf_put (lf_put (lf_put (lf_put (lf_put (lf_rf _ _) _ _ _ rfl) _ _ _ rfl) _ _ _ rfl) _ _ _ rfl) _ _ _ rfl) _ _ _ rfl) _ _ _ rfl)) hpT (by rw [lj_put_1, if_neg (by omega), lj_put_1, if_neg (by omega), lj_put_1, if_neg (by omega), lj_put_1, if_neg (by omega), lj_put_1, if_neg (by omega), lj_put_1, if_neg (by omega), lj_put_1, if_neg (by omega)]; exact P2.1.2.1.2.1)
  have e41 : (lj_put (lj_put (lj_put (lj_put (lj_put (lj_put (lj_put (mP τ m 21 0 0 0) 0 34 (Int32.ofNat (F + 1))) 0 53 (Int32.ofNat (R.length + 1))) 31 (R.length + 1) (Int32.ofNat (baseN (z :: R)))) 32 (R.length + 1) (Int32.ofNat F)) 14 F 0) 15 F 0) 16 F 0).1 0 41 = Int32.ofNat (m + 1) := by
    rw [lj_put_1, if_neg (by omega), lj_put_1, if_neg (by omega), lj_put_1, if_neg (by omega), lj_put_1, if_neg (by omega), lj_put_1, if_neg (by omega), lj_put_1, if_neg (by omega), lj_put_1, if_neg (by omega)]; exact P2.1.2.1.2.2.2.2.2.1
  have eMo : ∀ x1 : Int32, bmO x1 τ = (if x1 ≤ 0 then lj_D lm_P lm_M83 175 [.ref 0, .int x1, .int (Int32.ofNat m), .int (Int32.ofNat F), .int (Int32.ofNat (m + 1))] [] (mP (opM (mP τ m 21 0 0 0) F (R.length + 1) (baseN (z :: R)) Ln (Int32.ofNat (m + 1))) (m + 1) 0 0 0 0) else lj_bv (lj_R lm_P 2 [.ref 0, .long 1936026726] (lj_put (mP (opM (mP τ m 21 0 0 0) F (R.length + 1) (baseN (z :: R)) Ln (Int32.ofNat (m + 1))) (m + 1) 0 0 0 0) 0 20 0)) (fun σ9 => lj_bi (lj_R lm_P 3 [.ref 0, .int 0] σ9) (fun y11 σ10 => lj_bi (lj_R lm_P 34 [.ref 0] σ10) (fun y13 σ12 => lj_bi (lj_R lm_P 48 [.ref 0, .int y13] σ12) (fun y15 σ14 => lj_bv (lj_R lm_P 55 [.ref 0, .int y11, .int y15] σ14) (fun σ16 => lj_D lm_P lm_M83 175 [.ref 0, .int x1, .int (Int32.ofNat m), .int (Int32.ofNat F), .int (Int32.ofNat (m + 1))] [] σ16) lj_up) lj_up) lj_up) lj_up) lj_up) := fun x1 => by
    unfold bmO
    rw [m_emit h1.2.2.2.2.2.1 (by omega), bi_ok, e53, e34, e50, lz_osucc, lz_osucc]
    simp only [if_pos i52, if_pos iF, lz_onat (show R.length + 1 < 2147483648 by omega), lz_onat (show F < 2147483648 by omega)]
    rw [show vp_nar .boolean 0 = 0 from rfl, hLh, bi_ok, e41]
    rw [show lj_put (lj_put (lj_put (lj_put (lj_put (lj_put (lj_put (lj_put (lj_put (mP τ m 21 0 0 0) 0 34 (Int32.ofNat (F + 1))) 0 53 (Int32.ofNat (R.length + 1))) 31 (R.length + 1) (Int32.ofNat (baseN (z :: R)))) 32 (R.length + 1) (Int32.ofNat F)) 14 F 0) 15 F 0) 16 F 0) 17 F Ln) 12 F (Int32.ofNat (m + 1)) = opM (mP τ m 21 0 0 0) F (R.length + 1) (baseN (z :: R)) Ln (Int32.ofNat (m + 1)) from rfl, m_emit P3.1.2.1.2.2.2.2.2.1 (by omega), bi_ok]
  have eCo : ∀ x1 : Int32, bdO x1 σ = (if x1 = 0 then lj_D lc_P lc_M81 129 [.ref 6, .int x1, .int (Int32.ofNat z.1), .int (Int32.ofNat c), .int (Int32.ofNat F), .int (Int32.ofNat p), .retAddr 0, .retAddr 0] [] (lj_put (lj_put (opC (cP σ c 30 0 0 0 0) F z.1 Ln) 28 F (Int32.ofNat (c + 1))) 6 0 (Int32.ofNat (p + 1))) else lj_bi (lj_R lc_P 82 [.ref 6, .int (Int32.ofNat p)] (lj_put (lj_put (opC (cP σ c 30 0 0 0 0) F z.1 Ln) 28 F (Int32.ofNat (c + 1))) 6 0 (Int32.ofNat (p + 1)))) (fun y10 σ9 => lj_bv (lj_R lc_P 83 [.ref 6, .int (σ9.1 0 8), .int y10] σ9) (fun σ11 => lj_D lc_P lc_M81 129 [.ref 6, .int x1, .int (Int32.ofNat z.1), .int (Int32.ofNat c), .int (Int32.ofNat F), .int (Int32.ofNat p), .int y10, .retAddr 0] [] σ11) lj_up) lj_up) := fun x1 => by
    unfold bdO
    rw [c_put3 h1.2.2.2.2.1 (by omega), bi_ok, c_line P1.1.1.1 hpT P1.1.2.1.1, bi_ok, hLn, c_open x58 (by omega) hF x62' Ln, bv_ok, c_step hT7 hpT x60, bv_ok, g7.2.2.2.2.2.2.2.2.2.2.2]
    simp only [if_pos iF, lz_onat (show F < 2147483648 by omega)]
    rw [x60, x62, x50, eA]
  -- what was laid
  have zo : fz 0 (c + 1) 0 (m + 2) (cP σ c 30 0 0 0 0) (mP (mP τ m 21 0 0 0) (m + 1) 0 0 0 0) (lj_put (opC (cP σ c 30 0 0 0 0) F z.1 Ln) 28 F (Int32.ofNat (c + 1))) (mP (opM (mP τ m 21 0 0 0) F (R.length + 1) (baseN (z :: R)) Ln (Int32.ofNat (m + 1))) (m + 1) 0 0 0 0) := by
    refine ⟨fun k j q1 q2 q3 q4 => by rw [lj_put_1, if_neg (by omega), o7 k j (by omega) (by omega) (by omega)], fun k j q1 q2 q3 q4 => ?_⟩
    by_cases e : j = m + 1
    · subst e
      have a1 := mP_get (mP τ m 21 0 0 0) (m + 1) 0 0 0 0
      have a2 := mP_get (opM (mP τ m 21 0 0 0) F (R.length + 1) (baseN (z :: R)) Ln (Int32.ofNat (m + 1))) (m + 1) 0 0 0 0
      have : k = 20 ∨ k = 21 ∨ k = 22 ∨ k = 23 := by omega
      rcases this with e | e | e | e <;> subst e
      · rw [a1.1, a2.1]
      · rw [a1.2.1, a2.2.1]
      · rw [a1.2.2.1, a2.2.2.1]
      · rw [a1.2.2.2.1, a2.2.2.2.1]
    · rw [mP_o _ _ _ _ _ _ k j (by omega) (by omega), mP_o _ _ _ _ _ _ k j (by omega) (by omega), opM_o _ _ _ _ _ _ k j (by omega) (by omega) (by omega)]
  -- behind the bracket
  have fin : ∀ (nl : Nat) (N1 : List lT) (e1 : List kT) (σb τb : lj_S) (y6 : Value), PS b n T Q X (F + 1) N1 (((nl, 1), []) :: FO) Z PL cl ml (p + 1) v (c + 1) (m + 2) wh W σb τb → hdN N1 F (List.range nl).reverse → lvY e1 ((F, [], []) :: z :: R) N1 → TXq F ((F, [], []) :: z :: R) (lj_put (opC (cP σ c 30 0 0 0 0) F z.1 Ln) 28 F (Int32.ofNat (c + 1))) (mP (opM (mP τ m 21 0 0 0) F (R.length + 1) (baseN (z :: R)) Ln (Int32.ofNat (m + 1))) (m + 1) 0 0 0 0) σb τb → fz 0 (c + 1) 0 (m + 2) (lj_put (opC (cP σ c 30 0 0 0 0) F z.1 Ln) 28 F (Int32.ofNat (c + 1))) (mP (opM (mP τ m 21 0 0 0) F (R.length + 1) (baseN (z :: R)) Ln (Int32.ofNat (m + 1))) (m + 1) 0 0 0 0) σb τb → bdO (Int32.ofNat me) σ = lj_D lc_P lc_M81 129 [.ref 6, .int (Int32.ofNat me), .int (Int32.ofNat z.1), .int (Int32.ofNat c), .int (Int32.ofNat F), .int (Int32.ofNat p), y6, .retAddr 0] [] σb → bmO (Int32.ofNat me) τ = lj_bi (lj_R lm_P 84 [.ref 0, .int (Int32.ofNat F)] τb) (fun y4 σ3 => (if y4 = 0 then lj_D lm_P lm_M83 190 [.ref 0, .int (Int32.ofNat me), .int (Int32.ofNat m), .int (Int32.ofNat F), .int (Int32.ofNat (m + 1))] [] σ3 else (if lj_in (Int32.ofNat F) 51 then (if lj_in (Int32.ofNat F) 51 then bmE (Int32.ofNat m) (Int32.ofNat F) (lj_put σ3 13 (Int32.ofNat F).toNatClampNeg (σ3.1 14 (Int32.ofNat F).toNatClampNeg)) else none) else none))) lj_up →
      (∃ τ', bmO (Int32.ofNat me) τ = some (.inl (some (.int 0)), τ') ∧ fltR n (bdO (Int32.ofNat me) σ) (mBad τ')) ∨
      ∃ nl e N' p' σ' τ', bdO (Int32.ofNat me) σ = bdC (Int32.ofNat z.1) (Int32.ofNat c) (Int32.ofNat F) σ' ∧ bmO (Int32.ofNat me) τ = bmE (Int32.ofNat m) (Int32.ofNat F) τ' ∧ PS b n T Q X (F + 1) N' (((nl, 0), []) :: FO) Z PL cl ml p' v (c + 1) (m + 2) wh W σ' τ' ∧ hdN N' F (List.range nl).reverse ∧ lvY e ((F, [], []) :: z :: R) N' ∧ TX (z :: R) σ τ σ' τ' ∧ fz 0 c 0 m σ τ σ' τ' ∧ σ'.1 22 c = 30 ∧ τ'.1 20 m = 21 ∧ τ'.1 20 (m + 1) = 0 ∧ p + 2 ≤ p' ∧ σ'.1 28 F = Int32.ofNat (c + 1) ∧ τ'.1 12 F = Int32.ofNat (m + 1) ∧ σ'.1 29 F = Int32.ofNat nl ∧ τ'.1 13 F = Int32.ofNat nl := fun nl N1 e1 σb τb y6 u1 u2 u3 u4 u5 u6 u7 => by
    rcases bp_all hT5 u1 u2 (Int32.ofNat me) (Int32.ofNat z.1) (Int32.ofNat c) (Int32.ofNat p) y6 with ⟨τ', r1, r2⟩ | ⟨nl', e, N', p', σ', τ', r1, r2, r3, r4, r5, r6, r7, r8, r9, r10⟩
    · refine Or.inl ⟨τ', ?_, ?_⟩
      · rw [u7, r1, bi_ok, if_pos rfl, km_83_190]
      · rw [u6]; exact r2
    · have lz : (Int32.ofNat F).toNatClampNeg = F := lz_onat (by omega)
      have tq := u4.tr r6 (fun r w => by rw [lvY_q u3]; exact w)
      generalize hτe : lj_put τ' 13 F (τ'.1 14 F) = τe at *
      have zz : fz 0 (c + 1) 0 (m + 2) (cP σ c 30 0 0 0 0) (mP (mP τ m 21 0 0 0) (m + 1) 0 0 0 0) σ' τe := (zo.tr u5).tr r7
      have tF := tq (σ'.1 29 F) (τe.1 13 F)
      rw [put_id, put_id] at tF
      have l58 : lv (cP σ c 30 0 0 0 0) 5 8 = (F : Int) := by unfold lv; rw [x58, lz_lit (by omega)]
      have tO : TX (z :: R) (cP σ c 30 0 0 0 0) (mP τ m 21 0 0 0) σ' τe := ((TX_29 (z :: R) (cP σ c 30 0 0 0 0) (mP τ m 21 0 0 0) (F := F) (by omega) (σ'.1 29 F) (τe.1 13 F)).tr (((P3.2.1.tr (mP_TX (z :: R) _ _ (m + 1) 0 0 0 0) (fun _ _ q => q)).q F) (σ'.1 29 F) (τe.1 13 F)) (fun _ _ q => q)).tr tF (fun q hq hn => by
        rw [List.map_cons, List.mem_cons, not_or]
        refine ⟨fun e => ?_, hn⟩
        have e' : q = F := e
        omega)
      have c28 := (tF.2.2.2.2.2.2.1 F (by
        have : lv (lj_put (lj_put (opC (cP σ c 30 0 0 0 0) F z.1 Ln) 28 F (Int32.ofNat (c + 1))) 29 F (σ'.1 29 F)) 5 8 = ((F + 1 : Nat) : Int) := by
          unfold lv
          rw [lj_put_1, if_neg (by omega), lj_put_1, if_neg (by omega), g7.2.2.2.2.2.2.2.2.2.2.1, lz_lit (by omega)]
        omega))
      refine Or.inr ⟨nl', _, N', p', σ', τe, by rw [u6, r1], ?_, r3, r4, u3.tr r5, (P1.2.tr P2.2).1.tr tO (fun _ _ q => q), ?_, ?_, ?_, ?_, (by omega), ?_, ?_, r9, r10⟩
      · rw [u7, r2, bi_ok, if_neg (by decide), if_pos iF, if_pos iF, lz, hτe]
      · refine ((P1.2.tr P2.2).2.2.2.2.2.2).tr ⟨fun k j q1 q2 q3 q4 => zz.1 k j q1 q2 q3 (by omega), fun k j q1 q2 q3 q4 => ?_⟩
        rw [zz.2 k j q1 q2 q3 (by omega), mP_o _ _ _ _ _ _ k j (by omega) (by omega)]
      · rw [zz.1 22 c (by omega) (by omega) (by omega) (by omega)]; exact (cP_get _ _ _ _ _ _ _).1
      · rw [zz.2 20 m (by omega) (by omega) (by omega) (by omega), mP_o _ _ _ _ _ _ 20 m (by omega) (by omega)]; exact (mP_get _ _ _ _ _ _).1
      · rw [zz.2 20 (m + 1) (by omega) (by omega) (by omega) (by omega)]; exact (mP_get _ _ _ _ _ _).1
      · rw [c28.1, lj_put_1, if_neg (by omega), lj_put_1, if_pos ⟨rfl, rfl⟩]
      · rw [c28.2.2.1.1, lj_put_1, if_neg (by omega), mP_o _ _ _ _ _ _ 12 F (by omega) (by omega)]; exact (opM_get _ _ _ _ _ _).2.2.2.2.2.2.2.2
  have hd0 : hdN ((F, [], []) :: z :: R) F (List.range 0).reverse := ⟨_, _, rfl, rfl, rfl⟩
  by_cases m0 : me = 0
  · subst m0
    have S := P4.1.stR hlt
    have S1 : PS b n T Q X (F + 1) ((F, [], []) :: z :: R) (((0, 1), []) :: FO) Z PL cl ml (p + 1) v (c + 1) (m + 2) wh W _ _ := S.1.rvd (by omega)
    refine fin 0 _ [] _ _ (.retAddr 0) S1 hd0 (lvY_of (by simp) (lvX_rf _)) (S.2.1.q F) (S.2.2.2.2.2.2.2) ?_ ?_
    · rw [eCo, if_pos (by decide)]
    · rw [eMo, if_pos (by decide), km_83_175, m_take P4.1.1.1 hpT P4.1.2.1.2.1 (by omega), bi_ok, if_neg (by decide)]
      rfl
  · have m1 : me = 1 := by omega
    subst m1
    obtain ⟨τw, τi, a, a', w1, w2, I1, I2, w3, w4, w5, w6, w7⟩ := P4.1.slf
    have S := I1.stR hlt
    have hFz : (F, ([] : List kT), ([] : List cT)).1 = F := rfl
    rcases cm_decl I1 hd0 (t := p) hpT hT5 with ⟨q1, _⟩ | ⟨_, _, q3, q4, _⟩
    · omega
    rcases cm_decl S.1 hd0 (t := p) hpT hT5 with ⟨q1, _⟩ | ⟨_, r2, r3, r4, r5⟩
    · omega
    have hn8 : (lj_put (lj_put (lj_put (opC (cP σ c 30 0 0 0 0) F z.1 Ln) 28 F (Int32.ofNat (c + 1))) 6 0 (Int32.ofNat (p + 1))) 31 F (Int32.ofNat (0 + 1))).1 0 8 = Int32.ofNat a := by
      rw [lj_put_1, if_neg (by omega), lj_put_1, if_neg (by omega)]; exact w3
    have nq : nmQ (lj_put (lj_put (lj_put (opC (cP σ c 30 0 0 0 0) F z.1 Ln) 28 F (Int32.ofNat (c + 1))) 6 0 (Int32.ofNat (p + 1))) 31 F (Int32.ofNat (0 + 1))) (lj_put (lj_put τi 0 25 (Int32.ofNat (p + 1))) 14 F (Int32.ofNat (0 + 1))) a a' := nmQ_pp w4 (fun j => by rw [lj_put_1, if_neg (by omega), lj_put_1, if_neg (by omega)]) (fun j => by rw [lj_put_1, if_neg (by omega), lj_put_1, if_neg (by omega)]) (fun j => by rw [lj_put_1, if_neg (by omega), lj_put_1, if_neg (by omega)]) (by rw [lj_put_1, if_neg (by omega), lj_put_1, if_neg (by omega)]) (fun j => by rw [lj_put_1, if_neg (by omega), lj_put_1, if_neg (by omega)]) (fun j => by rw [lj_put_1, if_neg (by omega), lj_put_1, if_neg (by omega)]) (fun j => by rw [lj_put_1, if_neg (by omega), lj_put_1, if_neg (by omega)]) (by rw [lj_put_1, if_neg (by omega), lj_put_1, if_neg (by omega)])
    obtain ⟨σ1, τ1, N1, k1, k2, k3, k4, k5, k6, k7⟩ := cm_know (nl := 0 + 1) (rv := 1) r4 hd0 (x := 0) (by omega) (fun y hy => by simp at hy) nq w5 w6 hT5
    have hN1 : hdN N1 F (List.range 1).reverse := lvY_hd hd0 k4.2.1
    -- the model knows it before the bracket
    have e50i : τi.1 0 50 = Int32.ofNat (baseN (z :: R)) := by
      have := I1.1.2.2.1.2.2.2.2.2.2.2.2.1
      have e : baseN ((F, ([] : List kT), ([] : List cT)) :: z :: R) = baseN (z :: R) := Nat.zero_add _
      rw [e] at this
      exact this
    have kn1 := m_kn (τ := lj_put τi 14 F (Int32.ofNat (0 + 1))) (B := baseN (z :: R)) (by rw [lj_put_1, if_neg (by omega)]; exact e50i) (by omega) (Int32.ofNat a') (Int32.ofNat 0)
    have kn2 := m_kn (τ := lj_put (lj_put τi 0 25 (Int32.ofNat (p + 1))) 14 F (Int32.ofNat (0 + 1))) (B := baseN (z :: R)) (by rw [lj_put_1, if_neg (by omega), lj_put_1, if_neg (by omega)]; exact e50i) (by omega) (Int32.ofNat a') (Int32.ofNat 0)
    have eτ : τ1 = lj_put (mKn (lj_put τi 14 F (Int32.ofNat (0 + 1))) (baseN (z :: R)) (Int32.ofNat a') (Int32.ofNat 0)) 0 25 (Int32.ofNat (p + 1)) := by
      have := k2.symm.trans kn2
      rw [put_cm τi _ _ (by omega), mKn_put _ _ _ _ _ (by omega) (by omega) (by omega)] at this
      injection this with this
      exact (Prod.mk.inj this).2
    have hTEk : TE b n T Q (lj_put (opC (cP σ c 30 0 0 0 0) F z.1 Ln) 28 F (Int32.ofNat (c + 1))) (mKn (lj_put τi 14 F (Int32.ofNat (0 + 1))) (baseN (z :: R)) (Int32.ofNat a') (Int32.ofNat 0)) := TE_pp I1.1.1 (lf_rf _ _) (by unfold mKn; exact lf_put (lf_put (lf_put (lf_put (lf_rf _ _) _ _ _ rfl) _ _ _ rfl) _ _ _ rfl) _ _ _ rfl)
    have G := (I2.tr (S.2.tr r5))
    refine fin 1 N1 _ σ1 τ1 (.int (Int32.ofNat 0)) k3 hN1 k4.2.1 ((G.1.tr k4.1 (fun _ _ q => q)).q F) (G.2.2.2.2.2.2.tr k4.2.2.2.2.2.2) ?_ ?_
    · rw [eCo, if_neg (by decide), r2, bi_ok, hn8, k1, bv_ok]
    · rw [eMo, if_neg (by decide), w1, bv_ok, w2, bi_ok, m_here I1.1.1 hpT I1.2.1.2.1, bi_ok, q3, bi_ok, kn1, bv_ok, km_83_175, m_take hTEk hpT (by rw [mKn_o _ _ _ _ _ _ (by omega) (by omega), lj_put_1, if_neg (by omega)]; exact I1.2.1.2.1) (by omega), bi_ok, if_neg (by decide), ← eτ]
      rfl
