/-! statements: do -/
theorem cs_do {b : Nat → Int32} {n T : Nat} {Q : tkQ} {X : List Int32 → Prop} (hT5 : T ≤ 520) (k : Nat) (hD : CD b n T Q X k) {F : Nat} {N : List lT} {FO0 : List fT} {nl rv : Nat} {fl : List Nat} {Z : List zT} {PL : List qT} {cl ml : Nat} {p v c m wh : Nat} {W : List wT} {σ τ : lj_S} {f : Nat} {s l lB : List Nat} {D : Nat} (hTp : T - p < k + 1) (h : PS b n T Q X F N (((nl, rv), fl) :: FO0) Z PL cl ml p v c m wh W σ τ) (hN : hdN N f l) (hs : fls s fl) (hW : W.length + 25 ≤ 40 * v + 60) (hc : c + 40 ≤ 25 * p + 100) (hm : m + 40 ≤ 25 * p + 100) (hlp : lpH f (N.length - 1) l lB D nl Z) (a12 : (Q p).1 = 12) (x1 x2 : Int32) :
    ∃ y τ', (y = 0 ∨ y = 1) ∧ lj_R lm_P 42 [.ref 0] τ = some (.inl (some (.int y)), τ') ∧ stR b n T Q X FO0 nl rv fl Z PL v W f s l lB D N F p c m σ τ (fun p' => p < p') 0 (lj_bi (lj_R lc_P 54 [.ref 5, .int 0, .int 0, .int 0] σ) (fun _ σ1 => lj_bv (lj_R lc_P 67 [.ref 6] σ1) (fun σ2 => lj_bv (lj_R lc_P 68 [.ref 6] σ2) (fun σ3 => lj_R lc_P 71 [.ref 6, .int 15] σ3) lj_up) lj_up) lj_up) (mNx y τ') := by
  have hv20 := h.2.2.1.2.1
  have hfv := h.fv
  have hsB : sB s := hs.sb hfv hv20
  have hpT := h.2.2.1.1
  have hlt : p < T := h.lt (by omega) (by omega)
  have c14 := h.c14 hT5
  have h1 := h.2.1
  have w4 := h.w4
  obtain ⟨z0, R0, rfl, hf0, hl0⟩ := hN
  have P1 := h.C (by omega) hT5 0 0 0 0 0
  have P2 := P1.1.M (by omega) 0 0 0 0
  have P3 := P2.1.st hlt
  have P4 := P3.1.la (by omega) (30, 0, 0, 0)
  have hNR := P4.1.1.2.2.1
  have h50 := hNR.2.2.2.2.2.2.2.2.1
  have P5 := P4.1.la (by simp; omega) (2, Int32.ofNat (z0.2.1.length + baseN R0), 0, 0)
  have P6 := P5.1.la (by simp; omega) (0, 0, 0, 0)
  have eM : lj_R lm_P 42 [.ref 0] τ = _ := m_st42 h hT5 (by omega)
  rw [a12] at eM
  unfold mSt at eM
  rw [if_pos (by decide), (m_later P3.1.2.1.2.2.2.2.2.2.2.2.1 (by omega) 30 0 0 0).1, bv_ok, rm_43, km_43_0, h50, show baseN (z0 :: R0) = z0.2.1.length + baseN R0 from rfl, (m_later P4.1.2.1.2.2.2.2.2.2.2.2.1 (by simp; omega) 2 (Int32.ofNat (z0.2.1.length + baseN R0)) 0 0).1, bv_ok, (m_later P5.1.2.1.2.2.2.2.2.2.2.2.1 (by simp; omega) 0 0 0 0).1, bv_ok, bv_ok] at eM
  refine ⟨1, _, Or.inr rfl, eM, ?_⟩
  rw [nx1 P6.1.2.1, c_put3 h1.2.2.2.2.1 (by omega), bi_ok, c_step P1.1.1.1 hpT P1.1.2.1.1, bv_ok]
  have G6 := P1.2.tr (P2.2.tr (P3.2.tr (P4.2.tr (P5.2.tr P6.2))))
  have hv := h.2.2.1.2.1
  rcases hD F z0 R0 FO0 nl rv fl Z PL cl ml (p + 1) v (c + 1) (m + 1) wh ((30, 0, 0, 0) :: W) _ _ f s l lB D (by omega) P6.1 hf0 hl0 hs (by simp; omega) (by omega) (by omega) (bW_do (by omega) (by omega)) hlp with hfl | ⟨σ', τ', p', c', m', wh', F', N', nl', nb, i1, i2, i3, i4, i5, i6, i7, i8, i9, i10, i11⟩
  · exact Or.inl (flt_bv hfl _)
  · rw [i1, bv_ok, i2]
    have hp' := i3.2.2.1.1
    have hpp := i4.2.2.2.1
    have Pa := i3.pop
    have ps := c_pass i3.1.1 hp' i3.2.1.1 15 (by omega)
    have nw := m_needWord Pa.1.1.1 hp' Pa.1.2.1.2.1 Pa.1.2.1.2.2.2.2.2.2.2.2.2 5 (by omega) 6 rfl
    have ge : ∀ y τ2, (y = 0 ∨ y = 1) → lj_R lm_P 49 [.ref 0, .int 6] (lj_put τ' 0 46 (Int32.ofNat W.length)) = some (.inl (some (.int y)), τ2) → mLoop τ' = mNx y τ2 := fun y τ2 hy e => i3.go hy (by rw [rm_30, km_30_0, if_neg (by decide), if_neg (by decide), if_neg (by decide), if_neg (by decide), if_neg (by decide), if_neg (by decide), if_neg (by decide), if_neg (by decide), if_neg (by decide), if_neg (by decide), if_neg (by decide), if_neg (by decide), if_neg (by decide), if_neg (by decide), if_neg (by decide), if_neg (by decide), if_neg (by decide), if_neg (by decide), if_neg (by decide), if_neg (by decide), if_neg (by decide), rm_86, km_86_0, if_neg (by decide), if_neg (by decide), if_neg (by decide), if_neg (by decide), if_neg (by decide), if_neg (by decide), if_neg (by decide), if_neg (by decide), if_neg (by decide), if_pos rfl, e, bi_ok, bi_ok, vpb y hy, vpb y hy])
    by_cases a15 : (Q p').1 = 15
    · have hlt' : p' < T := i3.lt (by omega) (by omega)
      have Pb := Pa.1.st hlt'
      rw [if_pos a15] at ps
      rw [if_pos (show (Q p').1 = 10 + 5 by omega)] at nw
      rw [show lj_R lc_P 71 [.ref 6, .int 15] σ' = _ from ps, ge 1 _ (Or.inr rfl) nw, nx1 Pb.1.2.1]
      have Gb := Pa.2.tr Pb.2
      have zb := Gb.2.2.2.2.2.2
      refine Or.inr ⟨_, _, p' + 1, c', m', wh', F', N', nl', [], nb, rfl, rfl, Pb.1, (G6.tr (i4.tr Gb)).gs (by simp), i5, fun y hy => by simp at hy, (by omega), (by omega), (by omega), fun x hx => ?_, i10, fun σ2 τ2 L => ?_⟩
      · obtain ⟨q1, q2, q3, q4, q5, q6⟩ := i9 x hx
        exact ⟨(by omega), q2, (by omega), q4, by rw [zb.1 22 x.1 (by omega) (by omega) (by omega) (by omega)]; exact q5, by rw [zb.2 20 x.2 (by omega) (by omega) (by omega) (by omega)]; exact q6⟩
      · have Lb := Gb.bkB L
        have A1 := i11 σ2 τ2 (Lb.mo (by omega) (by omega) (by omega) (by omega) (fun x hx => ⟨fun _ _ => hx, fun _ _ => hx⟩))
        have L6 := i4.bkB Lb
        have L0 := L6.no (Nat.le_refl _) (Nat.le_refl _) (Nat.le_refl _) (Nat.le_refl _) (fun x hx => by have := i9 x hx; constructor <;> omega)
        have L5 := P3.2.bk (P4.2.bk (P5.2.bk (P6.2.bk L0)))
        have L1 := P2.2.bk L5
        have g1 := L1.gC (by omega)
        have g2 := L5.gM (by omega)
        refine seg0_in [(f, c + 1, m + 1, s, l, 50)] ⟨g1.1, g2.1, rfl⟩ (fun y hy => ?_)
        rw [List.mem_singleton.1 hy]
        exact A1
    · rw [if_neg a15] at ps
      rw [if_neg (show ¬ (Q p').1 = 10 + 5 by omega)] at nw
      rw [show lj_R lc_P 71 [.ref 6, .int 15] σ' = _ from ps, ge 0 _ (Or.inl rfl) nw, nx0]
      exact Or.inl (Pa.1.flt hT5 2 (Or.inl rfl) _)
