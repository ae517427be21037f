/-! statements and blocks: their frame -/
theorem vb_ad {nl a a' rv rv' : Nat} {fl : List Nat} {FO0 : List fT} {Z : List zT} {PL : List qT} {v : Nat} (h : vbd nl (((a, rv), fl) :: FO0) Z PL v) (nb : List (Nat × Nat)) : vbd nl (((a', rv'), fl) :: FO0) (adB nb Z) PL v := by
  obtain ⟨h1, h2, h3, h4, h5⟩ := h
  refine ⟨by rw [adB_len]; exact h1, h2, h3, fun x hx => ?_, fun x hx => ?_⟩
  · rcases List.mem_cons.1 hx with e | e
    · rw [e]; exact h4 ((a, rv), fl) (List.mem_cons_self)
    · exact h4 x (List.mem_cons_of_mem _ e)
  · cases Z with
    | nil => simp [adB] at hx
    | cons y Y =>
      simp only [adB] at hx
      rcases List.mem_cons.1 hx with e | e
      · rw [e]; exact h5 y (List.mem_cons_self)
      · exact h5 x (List.mem_cons_of_mem _ e)
/-- statements with fewer than k tokens to come -/
def CS (b : Nat → Int32) (n T : Nat) (Q : tkQ) (X : List Int32 → Prop) (k : Nat) : Prop :=
  ∀ (F : Nat) (N : List lT) (FO0 : List fT) (nl rv : Nat) (fl : List Nat) (Z : List zT) (PL : List qT) (cl ml : Nat) (p v c m wh : Nat) (W : List wT) (σ τ : lj_S) (f : Nat) (s l lB : List Nat) (D : Nat), T - p < k → PS b n T Q X F N (((nl, rv), fl) :: FO0) Z PL cl ml p v c m wh ((0, 0, 0, 0) :: W) σ τ → hdN N f l → fls s fl → W.length + 18 ≤ 40 * v + 60 → c + 40 ≤ 25 * p + 100 → m + 40 ≤ 25 * p + 100 → lpH f (N.length - 1) l lB D nl Z → bgS (Q p).1 →
    stR b n T Q X FO0 nl rv fl Z PL v ((0, 0, 0, 0) :: W) f s l lB D N F p c m σ τ (fun p' => p < p') 0 (lj_R lc_P 64 [.ref 6] σ) (mLoop τ)
/-- a statement begins -/
theorem st_open {b : Nat → Int32} {n T : Nat} {Q : tkQ} {X : List Int32 → Prop} {FO : List fT} {Z : List zT} {PL : List qT} {cl ml : Nat} {F : Nat} {N : List lT} {p v c m wh : Nat} {W : List wT} {σ τ : lj_S} (h : PS b n T Q X F N FO Z PL cl ml p v c m wh ((0, 0, 0, 0) :: W) σ τ) (hS : bgS (Q p).1) (hW : W.length + 18 ≤ 40 * v + 60) (hT5 : T ≤ 520) :
    fltR n (lj_R lc_P 64 [.ref 6] σ) (mLoop τ) ∨ (v < 20 ∧ ∃ σd τb, lj_R lc_P 64 [.ref 6] σ = (if (Q p).1 = 66 then lj_D lc_P lc_M64 110 [.ref 6, .int (Int32.ofNat (Q p).1), .int 1] [] σd else lj_bi (lj_R lc_P 54 [.ref 5, .int 0, .int 0, .int 0] σd) (fun _ σ2 => lj_D lc_P lc_M64 110 [.ref 6, .int (Int32.ofNat (Q p).1), .int 1] [] σ2) lj_up) ∧ (∀ y τ', (y = 0 ∨ y = 1) → lj_R lm_P 42 [.ref 0] τb = some (.inl (some (.int y)), τ') → mLoop τ = mNx y τ') ∧ PS b n T Q X F N FO Z PL cl ml p (v + 1) c m wh ((1, 0, 0, 0) :: (0, 0, 0, 0) :: W) σd τb ∧ GR N N F F p p c c m m σ τ σd τb) := by
  have hTE := h.1.1
  have hb := h.2.2.1
  have hpT := hb.1
  have hv := hb.2.1
  have h1 := h.2.1
  have hk := tk_lt hTE hpT
  have PA := h.pop
  have w4 := PA.1.w4
  have ha := PA.1.2.1
  have hTEa := PA.1.1.1
  have hK : (Q p).1 ≠ 4 ∧ (Q p).1 ≠ 26 := by constructor <;> (intro e; rw [e] at hS; exact absurd hS (by decide))
  have hfq : fq (Q p).1 3 = 3 := by unfold fq; rw [if_neg hK.1]
  have PB := PA.1.la (by omega) (0, 0, 0, 0)
  have ge : ∀ y τ', (y = 0 ∨ y = 1) → lj_R lm_P 31 [.ref 0] (lj_put τ 0 46 (Int32.ofNat W.length)) = some (.inl (some (.int y)), τ') → mLoop τ = mNx y τ' := fun y τ' hy e => h.go hy (by rw [rm_30, km_30_0, if_pos rfl, e, bi_ok, vpb y hy])
  have eM : lj_R lm_P 31 [.ref 0] (lj_put τ 0 46 (Int32.ofNat W.length)) = _ := rm_31 _
  rw [km_31_0, m_isWord hTEa hpT ha.2.1 16 (by omega) 17 rfl, if_neg (show ¬ (Q p).1 = 10 + 16 by omega), bi_ok, if_pos rfl, m_begS hTEa hpT ha.2.1, if_pos hS, bi_ok, if_neg (by decide), (m_later ha.2.2.2.2.2.2.2.2.1 (by omega) 0 0 0 0).1, bv_ok, m_enter PB.1.1.1 hpT PB.1.2.1.2.1 PB.1.2.1.2.2.2.2.2.2.2.2.2 hv PB.1.2.1.2.2.2.1] at eM
  have eC : lj_R lc_P 64 [.ref 6] σ = _ := c_begS hTE hpT h1.1
  rw [if_pos hS, kc_64_75, if_neg (by decide), c_deeper hTE hpT h1.1 hv h1.2.2.1] at eC
  by_cases e20 : v = 20
  · rw [if_pos e20] at eC
    rw [if_pos e20, bi_ok, if_pos rfl] at eM
    rw [eC, ge 0 _ (Or.inl rfl) eM, nx0]
    have := PB.1.flt hT5 3 (Or.inr (Or.inl rfl)) σ
    rw [hfq] at this ⊢
    exact Or.inl (flt_bv this _)
  · have Pd := PB.1.vv (v + 1) (by omega) (by simp; omega) (h.2.2.2.2.1.2.2.mo (by omega))
    have Pe := Pd.1.la (by simp; omega) (1, 0, 0, 0)
    rw [if_neg e20, bv_ok] at eC
    rw [if_neg e20, bi_ok, if_neg (by decide), (m_later Pd.1.2.1.2.2.2.2.2.2.2.2.1 (by simp; omega) 1 0 0 0).1, bv_ok] at eM
    refine Or.inr ⟨(by omega), _, _, ?_, fun y τ' hy e => ?_, Pe.1, PA.2.tr (PB.2.tr (Pd.2.tr Pe.2))⟩
    · rw [eC]
      by_cases e66 : (Q p).1 = 66
      · rw [if_pos e66, if_pos (by rw [e66]; rfl)]
      · rw [if_neg e66, if_neg (show ¬ (Int32.ofNat (Q p).1 = 66) from fun q => e66 ((ofN_eq (c := 66) (by omega) (by omega)).1 q))]
    · rw [e, bi_ok, vpb y hy] at eM
      exact ge y τ' hy eM
/-- a statement ends -/
theorem st_close {b : Nat → Int32} {n T : Nat} {Q : tkQ} {X : List Int32 → Prop} {FO0 : List fT} {nl rv : Nat} {fl : List Nat} {Z : List zT} {PL : List qT} {v : Nat} {W : List wT} {f : Nat} {s l lB : List Nat} {D : Nat} {N : List lT} {F p c m : Nat} {σ τ : lj_S} {E : Nat → Prop} {K : Nat} {oC oM : Option lj_O} (h : stR b n T Q X FO0 nl rv fl Z PL (v + 1) ((1, 0, 0, 0) :: W) f s l lB D N F p c m σ τ E K oC oM) (hvb : vbd N.length (((nl, rv), fl) :: FO0) Z PL v) (hv : v < 20) (hW : W.length ≤ 40 * v + 60) (x1 x2 : Int32) : stR b n T Q X FO0 nl rv fl Z PL v W f s l lB D N F p c m σ τ E K (lj_bv oC (fun σ' => lj_D lc_P lc_M64 269 [.ref 6, .int x1, .int x2] [] σ') lj_up) oM := by
  rcases h with hf | ⟨σ', τ', p', c', m', wh', F', N', nl', e, nb, i1, i2, i3, i4, i5, i6, i7, i8, i9, i10, i11, i12⟩
  · exact Or.inl (flt_bv hf _)
  · have Pa := i3.pop
    have Pb := Pa.1.vv v (by omega) (by omega) (by rw [lvY_len i4.2.1]; exact vb_ad hvb nb)
    have w4 := Pa.1.w4
    have eL : mLoop τ' = mNx 1 (lj_put (lj_put τ' 0 46 (Int32.ofNat W.length)) 0 47 (Int32.ofNat v)) := i3.go (Or.inr rfl) (by rw [rm_30, km_30_0, if_neg (by decide), if_pos rfl, Pa.1.2.1.2.2.2.1, lz_pred'])
    have Gb := Pa.2.tr Pb.2
    refine Or.inr ⟨_, _, p', c', m', wh', F', N', nl', e, nb, ?_, i2.trans (eL.trans (nx1 Pb.1.2.1)), Pb.1, i4.r Gb, i5, i6, i7, i8, i9, ?_, i11, fun σ2 τ2 L => i12 σ2 τ2 (Gb.bkB L)⟩
    · rw [i1, bv_ok, kc_64_269, i3.2.1.2.2.1, lz_pred']
    · intro x hx
      obtain ⟨q1, q2, q3, q4, q5, q6⟩ := i10 x hx
      exact ⟨q1, q2, q3, q4, by rw [lj_put_1, if_neg (by omega)]; exact q5, by rw [lj_put_1, if_neg (by omega), lj_put_1, if_neg (by omega)]; exact q6⟩
/-- what has been laid so far, and what follows -/
theorem sg_app {f : Nat} {s l0 l1 l2 lB : List Nat} {D c0 m0 c1 m1 c2 m2 : Nat} {nb nb' : List (Nat × Nat)} {σ τ : lj_S} (h : seg0 σ τ (f, c0, m0, s, l0, 50) (f, c1, m1, s, l1, 50) (fun y => y = (f, c1, m1, s, l1, 50) ∨ bkE nb f s lB D y)) (g : seg0 σ τ (f, c1, m1, s, l1, 50) (f, c2, m2, s, l2, 50) (fun y => y = (f, c2, m2, s, l2, 50) ∨ bkE nb' f s lB D y)) : seg0 σ τ (f, c0, m0, s, l0, 50) (f, c2, m2, s, l2, 50) (fun y => y = (f, c2, m2, s, l2, 50) ∨ bkE (nb' ++ nb) f s lB D y) := by
  rcases h with h | h
  · rw [h]
    rcases g with g | g
    · exact Or.inl g
    · refine Or.inr (g.tr (fun y hy => ?_))
      rcases hy with hy | ⟨x, hx, d, q⟩
      · exact seg_ex (Or.inl hy)
      · exact seg_ex (Or.inr ⟨x, List.mem_append_left _ hx, d, q⟩)
  refine Or.inr (h.tr (fun y hy => ?_))
  rcases hy with hy | ⟨x, hx, d, q⟩
  · rw [hy]
    refine g.tr (fun y hy => ?_)
    rcases hy with hy | ⟨x, hx, d, q⟩
    · exact seg_ex (Or.inl hy)
    · exact seg_ex (Or.inr ⟨x, List.mem_append_left _ hx, d, q⟩)
  · exact seg_ex (Or.inr ⟨x, List.mem_append_right _ hx, d, q⟩)
theorem stR_flt {b : Nat → Int32} {n T : Nat} {Q : tkQ} {X : List Int32 → Prop} {FO0 : List fT} {nl rv : Nat} {fl : List Nat} {Z : List zT} {PL : List qT} {v : Nat} {W : List wT} {f : Nat} {s l lB : List Nat} {D : Nat} {N : List lT} {F p c m : Nat} {σ τ : lj_S} {E : Nat → Prop} {K : Nat} {oC oM : Option lj_O} (h : fltR n oC oM) : stR b n T Q X FO0 nl rv fl Z PL v W f s l lB D N F p c m σ τ E K oC oM := Or.inl h
theorem blE_no {k : Nat} (h : blE k) : edB k ∧ k ≠ 26 ∧ ¬ bgS k := by
  refine ⟨?_, ?_, ?_⟩
  · rcases h with e | e | e | e | e <;> rw [e] <;> decide
  · omega
  · rcases h with e | e | e | e | e <;> rw [e] <;> decide
theorem edB_bl {k : Nat} (h : edB k) (h' : k ≠ 26) : blE k := by
  rcases h with e | e | e | e | e | e <;> first | exact absurd e h' | (rw [e]; decide)
/-- the model's row of states behind a block, at a token where none ends -/
theorem bW_flt {b : Nat → Int32} {n T : Nat} {Q : tkQ} {X : List Int32 → Prop} {FO : List fT} {Z : List zT} {PL : List qT} {cl ml : Nat} {F : Nat} {N : List lT} {p v c m wh : Nat} {W : List wT} {σ τ : lj_S} {m0 : Nat} {τ0 : lj_S} (hW : bW b n T Q 13300 W m0 τ0) (h : PS b n T Q X F N FO Z PL cl ml p v c m wh W σ τ) (hT5 : T ≤ 520) (hm0 : m0 ≤ m) (h21 : ∀ j, j < m0 → τ.1 21 j = τ0.1 21 j) (hn : ¬ blE (Q p).1) (σ1 : lj_S) : fltR n (some (.inr 1, cFl σ1 (fq (Q p).1 2) (Q p).2.1)) (mLoop τ) := by
  have hNR := h.1.2.2.1
  have hB := baseN_le hNR.1
  have h22 := hNR.2.2.2.2.2.1
  have hp1 := h.2.2.1.1
  have hm1 := h.2.2.1.2.2.2.1
  exact hW σ τ p m (baseN N) σ1 h.1.1 h.2.2.1.1 h.2.1.2.1 h.2.1.2.2.2.2.2.1 hm0 (by omega) h.2.1.2.2.2.2.2.2.2.2.2 h.2.1.2.2.2.2.2.2.2.2.1 hNR.2.2.2.2.2.2.2.2.1 (by omega) h21 hn
