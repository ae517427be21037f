/-! tables: what ends a field -/
theorem PS.vv {b : Nat → Int32} {n T : Nat} {Q : tkQ} {X : List Int32 → Prop} {FO : List fT} {Z : List zT} {PL : List qT} {cl ml : Nat} {F : Nat} {N : List lT} {p v c m wh : Nat} {W : List wT} {σ τ : lj_S} (h : PS b n T Q X F N FO Z PL cl ml p v c m wh W σ τ) (v' : Nat) (hv : v' ≤ 20) (hw : W.length ≤ 40 * v' + 60) (hvb : vbd N.length FO Z PL v') : PS b n T Q X F N FO Z PL cl ml p v' c m wh W (lj_put σ 6 1 (Int32.ofNat v')) (lj_put τ 0 47 (Int32.ofNat v')) ∧ GR N N F F p p c c m m σ τ (lj_put σ 6 1 (Int32.ofNat v')) (lj_put τ 0 47 (Int32.ofNat v')) := by
  have hb := h.2.2.1
  have fM : lf aM τ (lj_put τ 0 47 (Int32.ofNat v')) := lf_put (lf_rf _ _) _ _ _ rfl
  exact ⟨h.upv (lf_put (lf_rf _ _) _ _ _ rfl) fM (hnd_v h.2.1 v') ⟨hb.1, hv, hb.2.2.1, hb.2.2.2.1, hb.2.2.2.2.1, hw⟩ (Nat.le_refl _) (Nat.le_refl _) (fun j _ => by rw [lj_put_1, if_neg (by omega)]) (Nat.le_refl _) hvb, putC_TX N σ τ 6 1 _ rfl (by omega) _ fM rfl, lvX_rf _, (Nat.le_refl _), (Nat.le_refl _), (Nat.le_refl _), (Nat.le_refl _), fun k i a b _ _ => by rw [lj_put_1, if_neg (by omega)], fun k i a b _ _ => by rw [lj_put_1, if_neg (by omega)]⟩
/-- an act of the model is amended -/
theorem PS.p21 {b : Nat → Int32} {n T : Nat} {Q : tkQ} {X : List Int32 → Prop} {FO : List fT} {Z : List zT} {PL : List qT} {cl ml : Nat} {F : Nat} {N : List lT} {p v c m wh : Nat} {W : List wT} {σ τ : lj_S} (h : PS b n T Q X F N FO Z PL cl ml p v c m wh W σ τ) {j : Nat} (hj : ml ≤ j) (x : Int32) : PS b n T Q X F N FO Z PL cl ml p v c m wh W σ (lj_put τ 21 j x) ∧ TX N σ τ σ (lj_put τ 21 j x) ∧ fz 0 c 0 j σ τ σ (lj_put τ 21 j x) := by
  obtain ⟨h1, h2, h3, h4, h5, h6, h7, h8, h9, h10⟩ := h.2.1
  have fM : lf aM τ (lj_put τ 21 j x) := lf_put (lf_rf _ _) _ _ _ rfl
  have o : ∀ k i, k ≠ 21 → (lj_put τ 21 j x).1 k i = τ.1 k i := fun k i q => by rw [lj_put_1, if_neg (by omega)]
  exact ⟨h.up (lf_rf _ _) fM ⟨h1, by rw [o _ _ (by omega)]; exact h2, h3, by rw [o _ _ (by omega)]; exact h4, h5, by rw [o _ _ (by omega)]; exact h6, h7, by rw [o _ _ (by omega)]; exact h8, mWt_cg h9 (o _ _ (by omega)) (fun k i q => o _ _ (by omega)), by rw [o _ _ (by omega)]; exact h10⟩ h.2.2.1 (Nat.le_refl _) (Nat.le_refl _) (fun i hi => by rw [lj_put_1, if_neg (by omega)]), putM_TX N σ τ _ fM (fun _ => rfl), fun _ _ _ _ _ _ => rfl, fun k i _ _ _ q => by rw [lj_put_1, if_neg (by omega)]⟩
theorem m_sep {b : Nat → Int32} {n T : Nat} {Q : tkQ} {σ τ : lj_S} (h : TE b n T Q σ τ) {p : Nat} (hp : p ≤ T) (h0 : τ.1 0 25 = Int32.ofNat p) : lj_R lm_P 81 [.ref 0] τ = some (.inl (some (.int (if (Q p).1 = 68 ∨ (Q p).1 = 66 then 1 else 0))), τ) := by
  have s1 := m_isSign h hp h0 28 (by omega) 44 rfl
  have s2 := m_isSign h hp h0 26 (by omega) 59 rfl
  rw [rm_81, km_81_0, s1, bi_ok]
  by_cases e : (Q p).1 = 68
  · rw [if_pos (show (Q p).1 = 40 + 28 by omega), if_neg (by decide), km_81_18, km_81_23, if_pos (Or.inl e)]; rfl
  · rw [if_neg (show ¬ (Q p).1 = 40 + 28 by omega), if_pos rfl, s2, bi_ok]
    by_cases e2 : (Q p).1 = 66
    · rw [if_pos (show (Q p).1 = 40 + 26 by omega), if_neg (by decide), km_81_18, km_81_23, if_pos (Or.inr e2)]; rfl
    · rw [if_neg (show ¬ (Q p).1 = 40 + 26 by omega), if_pos rfl, km_81_23, if_neg (fun q => q.elim e e2)]; rfl
/-- the component, behind a field -/
noncomputable def tbE (x1 x2 x50 : Int32) (σ2 : lj_S) : Option lj_O := lj_bi (lj_R lc_P 63 [.ref 6] (lj_put σ2 6 1 ((σ2.1 6 1) - 1))) (fun y5 σ4 => (if y5 = 63 then lj_D lc_P lc_M85 136 [.ref 6, .int x1, .int x2, .int x50] [] σ4 else lj_bi (lj_R lc_P 63 [.ref 6] σ4) (fun y7 σ6 => (if y7 = 68 then lj_D lc_P lc_M85 136 [.ref 6, .int x1, .int x2, .int x50] [] σ6 else lj_bi (lj_R lc_P 63 [.ref 6] σ6) (fun y9 σ8 => (if y9 = 66 then lj_D lc_P lc_M85 136 [.ref 6, .int x1, .int x2, .int x50] [] σ8 else lj_br (lj_R lc_P 65 [.ref 6, .int 2] σ8) (fun y11 σ10 => (bif Nat.blt y11 2000 then lj_up y11 σ10 else none)) lj_up)) lj_up)) lj_up)) lj_up
theorem tbE_ok {b : Nat → Int32} {n T : Nat} {Q : tkQ} {σ τ : lj_S} (h : TE b n T Q σ τ) {p v : Nat} (hp : p ≤ T) (h0 : σ.1 6 0 = Int32.ofNat p) (h1 : σ.1 6 1 = Int32.ofNat (v + 1)) (x1 x2 x50 : Int32) : tbE x1 x2 x50 σ = if (Q p).1 = 63 then lj_D lc_P lc_M85 25 [.ref 6, .int x1, .int x2, .int x50] [] (lj_put σ 6 1 (Int32.ofNat v)) else if (Q p).1 = 68 ∨ (Q p).1 = 66 then lj_D lc_P lc_M85 25 [.ref 6, .int x1, .int x2, .int x50] [] (lj_put (lj_put σ 6 1 (Int32.ofNat v)) 6 0 (Int32.ofNat (p + 1))) else some (.inr 1, cFl (lj_put σ 6 1 (Int32.ofNat v)) (fq (Q p).1 2) (Q p).2.1) := by
  have hk := tk_lt h hp
  have h' : TE b n T Q (lj_put σ 6 1 (Int32.ofNat v)) τ := TE_up h (lf_put (lf_rf _ _) _ _ _ rfl) (lf_rf _ _)
  have h0' : (lj_put σ 6 1 (Int32.ofNat v)).1 6 0 = Int32.ofNat p := by rw [lj_put_1, if_neg (by omega)]; exact h0
  have kd := c_kind h' hp h0'
  have st := c_step h' hp h0'
  have ne : ∀ c : Nat, c < 70 → (Q p).1 ≠ c → ¬ (Int32.ofNat (Q p).1 = Int32.ofNat c) := fun c hc q z => q ((ofN_eq (by omega) (by omega)).1 z)
  have k136 : lj_D lc_P lc_M85 136 [.ref 6, .int x1, .int x2, .int x50] [] (lj_put σ 6 1 (Int32.ofNat v)) = if (Q p).1 = 63 then lj_D lc_P lc_M85 25 [.ref 6, .int x1, .int x2, .int x50] [] (lj_put σ 6 1 (Int32.ofNat v)) else lj_D lc_P lc_M85 25 [.ref 6, .int x1, .int x2, .int x50] [] (lj_put (lj_put σ 6 1 (Int32.ofNat v)) 6 0 (Int32.ofNat (p + 1))) := by
    rw [kc_85_136, kd, bi_ok]
    by_cases e : (Q p).1 = 63
    · rw [if_pos (by rw [e]; rfl), if_pos e, kc_85_149]
    · rw [if_neg (show ¬ (Int32.ofNat (Q p).1 = 63) from ne 63 (by omega) e), if_neg e, st, bv_ok, kc_85_149]
  unfold tbE
  rw [h1, lz_pred', kd, bi_ok]
  by_cases e : (Q p).1 = 63
  · rw [if_pos (by rw [e]; rfl), k136, if_pos e, if_pos e]
  · rw [if_neg (show ¬ (Int32.ofNat (Q p).1 = 63) from ne 63 (by omega) e), if_neg e, kd, bi_ok]
    rw [if_neg e] at k136
    by_cases e8 : (Q p).1 = 68
    · rw [if_pos (by rw [e8]; rfl), if_pos (Or.inl e8), k136]
    · rw [if_neg (show ¬ (Int32.ofNat (Q p).1 = 68) from ne 68 (by omega) e8), kd, bi_ok]
      by_cases e6 : (Q p).1 = 66
      · rw [if_pos (by rw [e6]; rfl), if_pos (Or.inr e6), k136]
      · rw [if_neg (show ¬ (Int32.ofNat (Q p).1 = 66) from ne 66 (by omega) e6), if_neg (fun q => q.elim e8 e6), c_throw h' hp h0']
/-- a field with a key ends -/
theorem fk_end {b : Nat → Int32} {n T : Nat} {Q : tkQ} {X : List Int32 → Prop} {FO : List fT} {Z : List zT} {PL : List qT} {cl ml : Nat} {F : Nat} {N : List lT} {p v c m wh : Nat} {W : List wT} {σ τ : lj_S} (hT5 : T ≤ 520) {ln pos nn : Int32} (h : PS b n T Q X F N FO Z PL cl ml p (v + 1) c m wh ((17, ln, pos, nn) :: W) σ τ) (hc : c + 1 ≤ 25 * p + 100) (hm : m + 1 ≤ 25 * p + 100) (hw : W.length + 20 ≤ 40 * v + 60) (hvb : vbd N.length FO Z PL v) (Ln x1 x2 x50 : Int32) :
    fltR n (tbE x1 x2 x50 (cP σ c 26 0 0 0 Ln)) (mLoop τ) ∨ ∃ σ' τ' p', tbE x1 x2 x50 (cP σ c 26 0 0 0 Ln) = lj_D lc_P lc_M85 25 [.ref 6, .int x1, .int x2, .int x50] [] σ' ∧ mLoop τ = mLoop τ' ∧ PS b n T Q X F N FO Z PL cl ml p' v (c + 1) (m + 1) wh ((15, pos, nn + 1, 0) :: W) σ' τ' ∧ GR N N F F p p' c (c + 1) m (m + 1) σ τ σ' τ' ∧ ∀ a d σ2 τ2, LT N a (c + 1) d (m + 1) σ' τ' σ2 τ2 → a ≤ c → d ≤ m → σ2.1 22 c = 26 ∧ σ2.1 26 c = Ln ∧ τ2.1 20 m = 27 ∧ τ2.1 23 m = ln := by
  have hv := h.2.2.1.2.1
  have hpT := h.2.2.1.1
  have c14 := h.c14 hT5
  have P0 := h.pop
  have P1 := P0.1.C hc hT5 26 0 0 0 Ln
  have P2 := P1.1.vv v (by omega) (by omega) hvb
  have P3 := P2.1.M hm 27 0 0 ln
  have P4 := P3.1.la (by omega) (15, pos, nn + 1, 0)
  have w4 := P0.1.w4
  have eC := tbE_ok P1.1.1.1 hpT P1.1.2.1.1 P1.1.2.1.2.2.1 x1 x2 x50
  have s63 := m_isSign P4.1.1.1 hpT P4.1.2.1.2.1 23 (by omega) 125 rfl
  have goA : ∀ y τ', (y = 0 ∨ y = 1) → lj_R lm_P 80 [.ref 0, .int ln, .int pos, .int nn] (lj_put τ 0 46 (Int32.ofNat W.length)) = some (.inl (some (.int y)), τ') → mLoop τ = mNx y τ' := fun y τ' hy e => h.go hy (by rw [rm_30, km_30_0, if_neg (by decide), if_neg (by decide), if_neg (by decide), if_neg (by decide), if_neg (by decide), if_neg (by decide), if_neg (by decide), if_neg (by decide), if_neg (by decide), if_neg (by decide), if_neg (by decide), if_neg (by decide), if_neg (by decide), if_neg (by decide), if_neg (by decide), if_neg (by decide), if_neg (by decide), if_pos rfl, e, bi_ok, vpb y hy])
  have eM : lj_R lm_P 80 [.ref 0, .int ln, .int pos, .int nn] (lj_put τ 0 46 (Int32.ofNat W.length)) = _ := rm_80 ln pos nn _
  rw [km_80_0, P0.1.2.1.2.2.2.1, lz_pred', m_emit P2.1.2.1.2.2.2.2.2.1 (by omega), bi_ok, (m_later P3.1.2.1.2.2.2.2.2.2.2.2.1 (by omega) 15 pos (nn + 1) 0).1, bv_ok, m_sep P4.1.1.1 hpT P4.1.2.1.2.1, bi_ok] at eM
  have fin : ∀ σ' τ' p', GR N N F F p p' (c + 1) (c + 1) (m + 1) (m + 1) (lj_put (cP σ c 26 0 0 0 Ln) 6 1 (Int32.ofNat v)) (mW (mP (lj_put (lj_put τ 0 46 (Int32.ofNat W.length)) 0 47 (Int32.ofNat v)) m 27 0 0 ln) W.length (15, pos, nn + 1, 0)) σ' τ' → GR N N F F p p' c (c + 1) m (m + 1) σ τ σ' τ' ∧ ∀ a d σ2 τ2, LT N a (c + 1) d (m + 1) σ' τ' σ2 τ2 → a ≤ c → d ≤ m → σ2.1 22 c = 26 ∧ σ2.1 26 c = Ln ∧ τ2.1 20 m = 27 ∧ τ2.1 23 m = ln := fun σ' τ' p' g => by
    refine ⟨((((P0.2.tr P1.2).tr P2.2).tr P3.2).tr P4.2).tr g, fun a d σ2 τ2 L ha hd => ?_⟩
    have L3 := P4.2.bk (g.bk L)
    have L1 := P2.2.bk (P3.2.bk L3)
    have g1 := L1.gC ha
    have g3 := L3.gM hd
    exact ⟨g1.1, g1.2.2.2.2, g3.1, g3.2.2.2⟩
  by_cases e : (Q p).1 = 63
  · rw [if_pos e] at eC
    rw [if_neg (show ¬ ((Q p).1 = 68 ∨ (Q p).1 = 66) by omega), if_pos rfl, s63, bi_ok, if_pos (show (Q p).1 = 40 + 23 by omega), if_neg (by decide), km_80_62, km_80_67] at eM
    exact Or.inr ⟨_, _, p, eC, by rw [goA 1 _ (Or.inr rfl) eM, nx1 P4.1.2.1], P4.1, fin _ _ p (GR_rf _ _ _ _ _ _ _)⟩
  · rw [if_neg e] at eC
    by_cases e2 : (Q p).1 = 68 ∨ (Q p).1 = 66
    · rw [if_pos e2] at eC
      rw [if_pos e2, if_neg (by decide), m_take P4.1.1.1 hpT P4.1.2.1.2.1 (by omega), bi_ok, km_80_67] at eM
      have P5 := P4.1.st (h.lt (by omega) (by omega))
      exact Or.inr ⟨_, _, p + 1, eC, by rw [goA 1 _ (Or.inr rfl) eM, nx1 P5.1.2.1], P5.1, fin _ _ _ P5.2⟩
    · rw [if_neg e2] at eC
      rw [if_neg e2, if_pos rfl, s63, bi_ok, if_neg (show ¬ (Q p).1 = 40 + 23 by omega), if_pos rfl, m_wrong P4.1.1.1 hpT P4.1.2.1.2.1 P4.1.2.1.2.2.2.2.2.2.2.2.2, bi_ok, if_pos rfl, km_80_67] at eM
      rw [eC, goA 0 _ (Or.inl rfl) eM, nx0]
      exact Or.inl (P4.1.flt hT5 2 (Or.inl rfl) _)
