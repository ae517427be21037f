/-! an assignment or a call begins -/
theorem ac_start {b : Nat → Int32} {n T : Nat} {Q : tkQ} {X : List Int32 → Prop} (hT5 : T ≤ 520) {FO : List fT} {Z : List zT} {PL : List qT} {cl ml : Nat} {F : Nat} {N : List lT} {p v c m wh : Nat} {W : List wT} {σ τ : lj_S} (h : PS b n T Q X F N FO Z PL cl ml p v c m wh W σ τ) (hw : (Q p).1 = 1 ∨ (Q p).1 = 60) (hW : W.length + 2 ≤ 40 * v + 60) (hc : c + 2 ≤ 25 * p + 100) (hm : m + 2 ≤ 25 * p + 100) :
    ∃ τ', lj_R lm_P 42 [.ref 0] τ = some (.inl (some (.int 1)), τ') ∧ mNx 1 τ' = mLoop τ' ∧ PS b n T Q X F N FO Z PL cl ml p v (c + 1) (m + 2) wh ((7, 0, 0, 0) :: (21, Int32.ofNat PL.length, 0, 0) :: W) (cP σ c 0 0 0 0 0) τ' ∧ GR N N F F p p c (c + 1) m (m + 2) σ τ (cP σ c 0 0 0 0 0) τ' ∧ ∀ σ2 τ2, LT N c (c + 1) m (m + 2) (cP σ c 0 0 0 0 0) τ' σ2 τ2 → ∀ f s l, sB s → gS σ2 τ2 (fun y => y = (f, c + 1, m + 2, 2 :: s, l, 50)) (f, c, m, s, l, 50) := by
  have hpT := h.2.2.1.1
  have hv20 := h.2.2.1.2.1
  have c14 := h.c14 hT5
  have h1 := h.2.1
  have P1 := h.C (by omega) hT5 0 0 0 0 0
  have P2 := P1.1.M (by omega) 0 0 0 0
  have P3 := P2.1.M (by omega) 14 0 0 0
  have P4 := P3.1.la (by omega) (21, Int32.ofNat PL.length, 0, 0)
  have P5 := P4.1.la (by simp only [List.length_cons]; omega) (7, 0, 0, 0)
  have hk := tk_lt h.1.1 hpT
  obtain ⟨b1, b2, b3⟩ := m_kindv P2.1.1.1 hpT P2.1.2.1.2.1
  have t4 : ∀ k : Fin 70, (k.val = 1 ∨ k.val = 60) → ¬ (tkk k.val = 4) := by decide
  have n4 : ¬ (tkk (Q p).1 = 4) := t4 ⟨(Q p).1, hk⟩ hw
  have e60 : (mP (mP τ m 0 0 0 0) (m + 1) 14 0 0 0).1 0 60 = Int32.ofNat PL.length := P3.1.2.2.2.1.2.2.2.2.2.2.1
  refine ⟨_, ?_, nx1 P5.1.2.1, P5.1, P1.2.tr (P2.2.tr (P3.2.tr (P4.2.tr P5.2))), fun σ2 τ2 L f s l hsB => ?_⟩
  · rw [rm_42, km_42_0, m_isSign h.1.1 hpT h1.2.1 26 (by omega) 59 rfl, if_neg (show ¬ (Q p).1 = 40 + 26 by omega), bi_ok, if_pos rfl, m_lineHere h.1.1 hpT h1.2.1, bi_ok, m_emit h1.2.2.2.2.2.1 (by omega), bi_ok, if_pos b1, b2, if_neg n4, m_emit P2.1.2.1.2.2.2.2.2.1 (by omega), bi_ok, e60, (m_later P3.1.2.1.2.2.2.2.2.2.2.2.1 (by omega) 21 (Int32.ofNat PL.length) 0 0).1, bv_ok, (m_later P4.1.2.1.2.2.2.2.2.2.2.2.1 (by simp only [List.length_cons]; omega) 7 0 0 0).1, bv_ok]
  · have L3 := P4.2.bk (P5.2.bk L)
    have k3 := L3.gM (by omega)
    have L2 := P3.2.bk L3
    have k2 := L2.gM (by omega)
    have k1 := (P2.2.bk L2).gC (by omega)
    refine gS_in [(f, c + 1, m + 1, s, l, 50)] ⟨k1.1, k2.1, rfl⟩ (fun y hy => ?_)
    rw [List.mem_singleton.1 hy]
    exact seg_in [(f, c + 1, m + 2, 2 :: s, l, 50)] ⟨17, k3.1, rfl⟩ (fun y hy => by rw [List.mem_singleton.1 hy]; exact seg_ex rfl)
