/-! statements: a counted for -/
theorem mP_40 (τ : lj_S) (m : Nat) (o a d l x : Int32) : mP (lj_put τ 0 40 x) m o a d l = lj_put (mP τ m o a d l) 0 40 x := by
  unfold mP
  rw [put_cm τ x o (by omega), put_cm _ x a (by omega), put_cm _ x d (by omega), put_cm _ x l (by omega), put_cm _ x _ (by omega)]
/-- the whole number 1, in both -/
theorem PS.one {b : Nat → Int32} {n T : Nat} {Q : tkQ} {X : List Int32 → Prop} {FO : List fT} {Z : List zT} {PL : List qT} {cl ml : Nat} {F : Nat} {N : List lT} {p v c m wh : Nat} {W : List wT} {σ τ : lj_S} (h : PS b n T Q X F N FO Z PL cl ml p v c m wh W σ τ) (hT5 : T ≤ 520) (hw : wh + 1 ≤ p) (hc : c + 1 ≤ 25 * p + 100) (hm : m + 1 ≤ 25 * p + 100) :
    PS b n T Q X F N FO Z PL cl ml p v (c + 1) (m + 1) (wh + 1) W (cP (lj_put (lj_putL σ 27 wh 1) 5 6 (Int32.ofNat (wh + 1))) c 4 (Int32.ofNat wh) 0 0 0) (lj_put (mP (lj_putL τ 24 wh 1) m 4 (Int32.ofNat wh) 0 0) 0 40 (Int32.ofNat (wh + 1))) ∧ GR N N F F p p c (c + 1) m (m + 1) σ τ (cP (lj_put (lj_putL σ 27 wh 1) 5 6 (Int32.ofNat (wh + 1))) c 4 (Int32.ofNat wh) 0 0 0) (lj_put (mP (lj_putL τ 24 wh 1) m 4 (Int32.ofNat wh) 0 0) 0 40 (Int32.ofNat (wh + 1))) ∧
    ∀ σ2 τ2, LT N c (c + 1) m (m + 1) (cP (lj_put (lj_putL σ 27 wh 1) 5 6 (Int32.ofNat (wh + 1))) c 4 (Int32.ofNat wh) 0 0 0) (lj_put (mP (lj_putL τ 24 wh 1) m 4 (Int32.ofNat wh) 0 0) 0 40 (Int32.ofNat (wh + 1))) σ2 τ2 → ∀ f s l, sB s → seg σ2 τ2 (f, c, m, s, l, 50) (fun y => y = (f, c + 1, m + 1, 0 :: s, l, 50)) := by
  have hb := h.2.2.1
  have hpT := hb.1
  have c14 := h.c14 hT5
  obtain ⟨h1, h2, h3, h4, h5, h6, h7, h8, h9, h10⟩ := h.2.1
  have fC : lf aC σ (lj_put (lj_putL σ 27 wh 1) 5 6 (Int32.ofNat (wh + 1))) := lf_put (lf_putL (lf_rf _ _) _ _ _ rfl) _ _ _ rfl
  have fM : lf aM τ (lj_put (lj_putL τ 24 wh 1) 0 40 (Int32.ofNat (wh + 1))) := lf_put (lf_putL (lf_rf _ _) _ _ _ rfl) _ _ _ rfl
  have oC : ∀ k i, ¬ (k = 5 ∧ i = 6) → (lj_put (lj_putL σ 27 wh 1) 5 6 (Int32.ofNat (wh + 1))).1 k i = σ.1 k i := fun k i q => by rw [lj_put_1, if_neg q]; rfl
  have oM : ∀ k i, ¬ (k = 0 ∧ i = 40) → (lj_put (lj_putL τ 24 wh 1) 0 40 (Int32.ofNat (wh + 1))).1 k i = τ.1 k i := fun k i q => by rw [lj_put_1, if_neg q]; rfl
  have e56 : lv σ 5 6 = (wh : Int) := by unfold lv; rw [h7, lz_lit (by omega)]
  have P1 : PS b n T Q X F N FO Z PL cl ml p v c m (wh + 1) W (lj_put (lj_putL σ 27 wh 1) 5 6 (Int32.ofNat (wh + 1))) (lj_put (lj_putL τ 24 wh 1) 0 40 (Int32.ofNat (wh + 1))) := h.up fC fM ⟨by rw [oC _ _ (by omega)]; exact h1, by rw [oM _ _ (by omega)]; exact h2, by rw [oC _ _ (by omega)]; exact h3, by rw [oM _ _ (by omega)]; exact h4, by rw [oC _ _ (by omega)]; exact h5, by rw [oM _ _ (by omega)]; exact h6, by rw [lj_put_1, if_pos ⟨rfl, rfl⟩], by rw [lj_put_1, if_pos ⟨rfl, rfl⟩], mWt_cg h9 (oM _ _ (by omega)) (fun k j q => oM _ _ (by omega)), by rw [oM _ _ (by omega)]; exact h10⟩ ⟨hb.1, hb.2.1, hb.2.2.1, hb.2.2.2.1, hw, hb.2.2.2.2.2⟩ (Nat.le_refl _) (Nat.le_refl _) (fun j _ => oM _ _ (by omega))
  have G1 : GR N N F F p p c c m m σ τ (lj_put (lj_putL σ 27 wh 1) 5 6 (Int32.ofNat (wh + 1))) (lj_put (lj_putL τ 24 wh 1) 0 40 (Int32.ofNat (wh + 1))) := ⟨TX_up N fC fM (by unfold lv; rw [oC _ _ (by omega)]; exact Int.le_refl _) (by rw [e56]; unfold lv; rw [lj_put_1, if_pos ⟨rfl, rfl⟩, lz_lit (by omega)]; omega) (fun i hi => by
    rw [e56] at hi
    have hi : i ≠ wh := by omega
    exact ⟨by show (lj_putL σ 27 wh 1).2 27 i = _; rw [lj_putL_2, if_neg (by omega)], by show (lj_putL τ 24 wh 1).2 24 i = _; rw [lj_putL_2, if_neg (by omega)]⟩), lvX_rf _, (Nat.le_refl _), (Nat.le_refl _), (Nat.le_refl _), (Nat.le_refl _), fz_eq (fun k j _ _ => oC _ _ (by omega)) (fun k j _ _ => oM _ _ (by omega))⟩
  have P2 := P1.C hc hT5 4 (Int32.ofNat wh) 0 0 0
  have P3 := P2.1.M hm 4 (Int32.ofNat wh) 0 0
  rw [mP_40] at P3
  refine ⟨P3.1, G1.tr (P2.2.tr P3.2), fun σ2 τ2 L f s l hsB => ?_⟩
  have L' := L
  rw [← mP_40] at L'
  have k2 := L'.gM (by omega)
  have k1 := (P3.2.bk L).gC (by omega)
  have e7 := P3.1.2.1.2.2.2.2.2.2.1
  have tw := L.1.2.2.2.2.2.1 wh (by unfold lv; rw [e7, lz_lit (by omega)]; omega)
  refine seg_in [(f, c + 1, m + 1, 0 :: s, l, 50)] ⟨3, wh, (by omega), k1.1, k1.2.1, k2.1, k2.2.1, ?_, rfl⟩ (fun y hy => by rw [List.mem_singleton.1 hy]; exact seg_ex rfl)
  rw [tw.1, tw.2]
  show (lj_putL σ 27 wh 1).2 27 wh = (lj_putL τ 24 wh 1).2 24 wh
  rw [lj_putL_2, if_pos ⟨rfl, rfl⟩, lj_putL_2, if_pos ⟨rfl, rfl⟩]
theorem stR.id102 {b : Nat → Int32} {n T : Nat} {Q : tkQ} {X : List Int32 → Prop} {FO0 : List fT} {nl rv : Nat} {fl : List Nat} {Z : List zT} {PL : List qT} {v : Nat} {W : List wT} {f : Nat} {s l lB : List Nat} {D : Nat} {N : List lT} {F p c m : Nat} {σ τ : lj_S} {E : Nat → Prop} {K : Nat} {oC oM : Option lj_O} (h : stR b n T Q X FO0 nl rv fl Z PL v W f s l lB D N F p c m σ τ E K oC oM) (x1 x2 x3 : Int32) : stR b n T Q X FO0 nl rv fl Z PL v W f s l lB D N F p c m σ τ E K (lj_bv oC (fun σ' => lj_D lc_P lc_M102 63 [.ref 6, .int x1, .int x2, .int x3] [] σ') lj_up) oM := by
  rcases h with hf | ⟨σ', τ', p', c', m', wh', F', N', nl', e, nb, i1, i2⟩
  · exact Or.inl (flt_bv hf _)
  · exact Or.inr ⟨σ', τ', p', c', m', wh', F', N', nl', e, nb, by rw [i1, bv_ok, kc_102_63], i2⟩
theorem cs_forc {b : Nat → Int32} {n T : Nat} {Q : tkQ} {X : List Int32 → Prop} (hT5 : T ≤ 520) (k : Nat) (hV : CV b n T Q X k) (hK : CK b n T Q X k) {F : Nat} {N : List lT} {FO0 : List fT} {nl rv : Nat} {fl : List Nat} {Z : List zT} {PL : List qT} {cl ml : Nat} {p v c m wh : Nat} {W : List wT} {σ τ : lj_S} {f : Nat} {s l lB : List Nat} {D : Nat} (hTp : T - p < k + 1) (h : PS b n T Q X F N (((nl, rv), fl) :: FO0) Z PL cl ml p v c m wh W σ τ) (hN : hdN N f l) (hs : fls s fl) (hW : W.length + 25 ≤ 40 * v + 60) (hc : c + 40 ≤ 25 * p + 100) (hm : m + 40 ≤ 25 * p + 100) (hZ : Z.length + 1 ≤ v) (hfl : fl.length + 1 ≤ v) (a17 : (Q p).1 = 17) (a58 : (Q (p + 1)).1 = 1 → nl < 50 → (Q (p + 2)).1 = 58) :
    ∃ y τ', (y = 0 ∨ y = 1) ∧ lj_R lm_P 42 [.ref 0] τ = some (.inl (some (.int y)), τ') ∧ stR b n T Q X FO0 nl rv fl Z PL v W f s l lB D N F p c m σ τ (fun p' => p < p') 0 (lj_bi (lj_R lc_P 54 [.ref 5, .int 0, .int 0, .int 0] σ) (fun _ σ1 => lj_R lc_P 102 [.ref 6] σ1) lj_up) (mNx y τ') := by
  have hv20 := h.2.2.1.2.1
  have hfv := h.fv
  have hsB : sB s := hs.sb hfv hv20
  have hpT := h.2.2.1.1
  have hv20 := h.2.2.1.2.1
  have hlt : p < T := h.lt (by omega) (by omega)
  have hp1 : p + 1 ≤ T := hlt
  have c14 := h.c14 hT5
  have h1 := h.2.1
  have hNe := hdN_ne hN
  have sl : nl ≤ 50 ∧ ∀ y ∈ l, y < nl := by
    obtain ⟨z, R, rfl, _, e⟩ := hN
    obtain ⟨_, q2, _, q4⟩ := h.1.2.2.2.2.2.1.1.2.2.2.2.2.2
    rw [e] at q4
    exact ⟨q2, q4⟩
  have P1 := h.C (by omega) hT5 0 0 0 0 0
  have P2 := P1.1.M (by omega) 0 0 0 0
  have P3 := P2.1.st hlt
  have h3 := P3.1.2.1
  have hk := tk_lt P3.1.1.1 hp1
  obtain ⟨hin, hkk, hvv⟩ := m_kindv P3.1.1.1 hp1 h3.2.1
  have t1 : ∀ k : Fin 70, ((tkk k.val = 1) ↔ k.val = 1) := by decide
  have t1' := t1 ⟨(Q (p + 1)).1, hk⟩
  have eM : lj_R lm_P 42 [.ref 0] τ = _ := m_st42 h hT5 (by omega)
  rw [a17] at eM
  unfold mSt at eM
  generalize hLn : Int32.ofNat (1 + tN b (Q p).2.1) = Ln at *
  rw [if_neg (by decide), if_neg (by decide), if_neg (by decide), if_neg (by decide), if_neg (by decide), if_pos (by decide), rm_46, km_46_0, if_pos hin, hkk] at eM
  rw [c_put3 h1.2.2.2.2.1 (by omega), bi_ok, rc_102, kc_102_0, c_line P1.1.1.1 hpT P1.1.2.1.1, bi_ok, c_step P1.1.1.1 hpT P1.1.2.1.1, bv_ok, c_kind P3.1.1.1 hp1 h3.1, bi_ok, hLn]
  have G3 := P1.2.tr (P2.2.tr P3.2)
  by_cases a1 : (Q (p + 1)).1 = 1
  · have hlt1 : p + 1 < T := P3.1.lt (by omega) (by omega)
    have hp2 : p + 2 ≤ T := hlt1
    rw [if_pos (show tkk (Q (p + 1)).1 = 1 from t1'.2 a1), m_here P3.1.1.1 hp1 h3.2.1, bi_ok] at eM
    rw [if_pos (show Int32.ofNat (Q (p + 1)).1 = 1 by rw [a1]; rfl), h3.1]
    rcases cm_decl P3.1 hN (t := p + 1) hp1 hT5 with ⟨q1, q2, q3⟩ | ⟨q1, q2, q3, q4, q5⟩
    · rw [q3, bi_ok, if_pos (by decide), km_46_43, bi_ok] at eM
      refine ⟨0, _, Or.inl rfl, eM, Or.inl ?_⟩
      rw [q2, nx0]
      exact flt_mk h3.2.2.2.2.2.1 (by omega) (Or.inr (Or.inr (Or.inl rfl))) (P3.1.1.1.2.2.2.2.1 (p + 1) hp1).2.2.2.2.1
    · have a58 := a58 a1 q1
      have P4' := q4.stR hlt1
      have P4 : PS b n T Q X F N (((nl + 1, rv + 1), fl) :: FO0) Z PL cl ml (p + 2) v (c + 1) (m + 1) wh W _ _ := P4'.1.rvd (by omega)
      have hlt2 : p + 2 < T := P4.lt (by omega) (by omega)
      have P5 := P4.st hlt2
      have P6 := P5.1.la (by omega) (31, Ln, Int32.ofNat (p + 1), Int32.ofNat nl)
      have P7 := P6.1.la (by simp; omega) (3, 0, 0, 0)
      rw [q3, bi_ok, if_neg (ofN_nneg (by omega)), m_take q4.1.1 hp1 q4.2.1.2.1 (by omega), bi_ok, if_neg (by decide), m_isSign P4.1.1 hp2 P4.2.1.2.1 18 (by omega) 61 rfl, bi_ok, if_pos (show (Q (p + 2)).1 = 40 + 18 by omega), if_neg (by decide), m_take P4.1.1 hp2 P4.2.1.2.1 (by omega), bi_ok, if_neg (by decide), show (lj_put (mP τ m 0 0 0 0) 0 25 (Int32.ofNat (p + 1))).1 0 25 = Int32.ofNat (p + 1) from h3.2.1, (m_later P5.1.2.1.2.2.2.2.2.2.2.2.1 (by omega) 31 Ln (Int32.ofNat (p + 1)) (Int32.ofNat nl)).1, bv_ok, (m_later P6.1.2.1.2.2.2.2.2.2.2.2.1 (by simp; omega) 3 0 0 0).1, bv_ok, bi_ok] at eM
      refine ⟨1, _, Or.inr rfl, eM, ?_⟩
      rw [nx1 P7.1.2.1, q2, bi_ok, c_step q4.1.1 hp1 q4.2.1.1, bv_ok, c_kind P4.1.1 hp2 P4.2.1.1, bi_ok, if_pos (show Int32.ofNat (Q (p + 2)).1 = 58 by rw [a58]; rfl)]
      refine stR.id102 ?_ _ _ _
      rw [rc_103, kc_103_0, c_step P4.1.1 hp2 P4.2.1.1, bv_ok]
      have G7 := G3.tr (q5.tr (P4'.2.tr (P5.2.tr (P6.2.tr P7.2))))
      -- behind 'do'
      have fin : ∀ (F9 : Nat) (N9 : List lT) (p9 c9 m9 wh9 : Nat) (σ9 τ9 : lj_S), PS b n T Q X F9 N9 (((nl + 1, rv + 1), fl) :: FO0) Z PL cl ml p9 v c9 m9 wh9 W σ9 τ9 → GR N N9 F F9 p p9 c c9 m m9 σ τ σ9 τ9 → p + 5 ≤ p9 → c9 + 60 ≤ c + 25 * (p9 - p) → m9 + 60 ≤ m + 25 * (p9 - p) → (∀ σ2 τ2, LT N9 c c9 m m9 σ9 τ9 σ2 τ2 → gS σ2 τ2 (fun y => y = (f, c9, m9, 0 :: 0 :: 0 :: s, l, 50)) (f, c, m, s, l, 50)) →
          ∃ τd, cfM Ln (Int32.ofNat (p + 1)) (Int32.ofNat nl) τ9 = some (.inl (some (.int 1)), τd) ∧ mNx 1 τd = mLoop τd ∧ stR b n T Q X FO0 nl rv fl Z PL v W f s l lB D N F p c m σ τ (fun p' => p < p') 0 (cfC (Int32.ofNat (p + 1)) (Int32.ofNat nl) Ln σ9) (mLoop τd) := fun F9 N9 p9 c9 m9 wh9 σ9 τ9 u1 u2 u3 u4 u5 u6 => by
        obtain ⟨z9, R9, rfl, e1, e2⟩ := hdN_X hN u2.2.1
        obtain ⟨τd, r1, r2, r3⟩ := fr_tail hT5 k hK (by omega) u1 e1 e2 hs hW (by omega) (by omega) hZ hfl hp1 a1 sl.2 Ln
        refine ⟨τd, r1, r2, ?_⟩
        rcases r3 with hf | ⟨σ', τ', p', c', m', wh', F', N', nl', i1, i2, i3, i4, i5, i6, i7, i8, i9⟩
        · exact Or.inl hf
        · have w1 := u2.2.2.2.2.1
          have w2 := u2.2.2.2.2.2.1
          refine Or.inr ⟨σ', τ', p', c', m', wh', F', N', nl', [], [], i1, i2, by rw [adB_nil]; exact i3, (u2.tr i4).gs hNe, (by omega), fun y hy => by simp at hy, (by omega), (by omega), (by omega), fun x hx => by simp at hx, fun q => absurd rfl q, fun σ2 τ2 L => ?_⟩
          have L0 := L.lt
          refine Or.inr ((u6 σ2 τ2 (i4.bk L0)).tr (fun y hy => ?_))
          rw [hy]
          exact (i9 σ2 τ2 ⟨L0.1, L0.2.mo (by omega) (by omega) (by omega) (by omega)⟩).tr (fun y hy => seg_ex (Or.inl hy))
      rcases hV F N _ Z PL cl ml (p + 3) v (c + 1) (m + 1) wh ((31, Ln, Int32.ofNat (p + 1), Int32.ofNat nl) :: W) _ _ f s l (by omega) P7.1 hN ((hs.hd hfv).up (by omega) (by omega)) (by simp; omega) with hf | ⟨σ3, τ3, p3, c3, m3, wh3, F3, N3, i1, i2, i3, i4, i5, i6, i7, i8⟩
      · exact Or.inl (flt_bv hf _)
      rcases i8 with ⟨_, hE1⟩ | ⟨q, _⟩ | ⟨q, _⟩
      rotate_left
      · exact absurd q (by decide)
      · exact absurd q (by decide)
      have hp3 := i3.2.2.1.1
      have c143 := i3.c14 hT5
      have hcc3 := i4.2.2.2.2.1
      have hmm3 := i4.2.2.2.2.2.1
      have A1 := i3.pop
      have ps := c_pass i3.1.1 hp3 i3.2.1.1 68 (by omega)
      have ns := m_needSign A1.1.1.1 hp3 A1.1.2.1.2.1 A1.1.2.1.2.2.2.2.2.2.2.2.2 28 (by omega) 44 rfl
      have ge : ∀ y τ2, (y = 0 ∨ y = 1) → lj_R lm_P 97 [.ref 0, .int Ln, .int (Int32.ofNat (p + 1)), .int (Int32.ofNat nl)] (lj_put τ3 0 46 (Int32.ofNat W.length)) = some (.inl (some (.int y)), τ2) → mLoop τ3 = mNx y τ2 := fun y τ2 hy e => i3.go hy (by rw [rm_30, km_30_0, if_neg (by decide), if_neg (by decide), if_neg (by decide), if_neg (by decide), if_neg (by decide), if_neg (by decide), if_neg (by decide), if_neg (by decide), if_neg (by decide), if_neg (by decide), if_neg (by decide), if_neg (by decide), if_neg (by decide), if_neg (by decide), if_neg (by decide), if_neg (by decide), if_neg (by decide), if_neg (by decide), if_neg (by decide), if_neg (by decide), if_neg (by decide), rm_86, km_86_0, if_neg (by decide), if_neg (by decide), if_neg (by decide), if_neg (by decide), if_neg (by decide), if_neg (by decide), if_neg (by decide), if_neg (by decide), if_neg (by decide), if_neg (by decide), if_pos rfl, e, bi_ok, bi_ok, vpb y hy, vpb y hy])
      have eW : lj_R lm_P 97 [.ref 0, .int Ln, .int (Int32.ofNat (p + 1)), .int (Int32.ofNat nl)] (lj_put τ3 0 46 (Int32.ofNat W.length)) = _ := rm_97 _ _ _ _
      rw [km_97_0, ns] at eW
      rw [i1, bv_ok, i2]
      by_cases a68 : (Q p3).1 = 68
      rotate_left
      · rw [if_neg a68] at ps
        rw [if_neg (show ¬ (Q p3).1 = 40 + 28 by omega), bi_ok, if_pos rfl] at eW
        rw [show lj_R lc_P 71 [.ref 6, .int 68] _ = _ from ps, ge 0 _ (Or.inl rfl) eW, nx0]
        exact Or.inl (flt_bv (A1.1.flt hT5 2 (Or.inl rfl) _) _)
      have hlt3 : p3 < T := i3.lt (by omega) (by omega)
      have A2 := A1.1.st hlt3
      have A3 := A2.1.la (by omega) (32, Ln, Int32.ofNat (p + 1), Int32.ofNat nl)
      have A4 := A3.1.la (by simp; omega) (3, 0, 0, 0)
      rw [if_pos a68] at ps
      rw [if_pos (show (Q p3).1 = 40 + 28 by omega), bi_ok, if_neg (by decide), (m_later A2.1.2.1.2.2.2.2.2.2.2.2.1 (by omega) 32 Ln (Int32.ofNat (p + 1)) (Int32.ofNat nl)).1, bv_ok, (m_later A3.1.2.1.2.2.2.2.2.2.2.2.1 (by simp; omega) 3 0 0 0).1, bv_ok] at eW
      rw [show lj_R lc_P 71 [.ref 6, .int 68] _ = _ from ps, bv_ok, ge 1 _ (Or.inr rfl) eW, nx1 A4.1.2.1]
      have hN3 := hdN_X hN i4.2.1
      have hpp3 := i4.2.2.2.1
      rcases hV F3 N3 _ Z PL cl ml (p3 + 1) v c3 m3 wh3 ((32, Ln, Int32.ofNat (p + 1), Int32.ofNat nl) :: W) _ _ f (0 :: s) l (by omega) A4.1 hN3 ((hs.hd hfv).z.up (by omega) (by omega)) (by simp; omega) with hf | ⟨σ5, τ5, p5, c5, m5, wh5, F5, N5, j1, j2, j3, j4, j5, j6, j7, j8⟩
      · exact Or.inl (flt_bv hf _)
      rcases j8 with ⟨_, hE2⟩ | ⟨q, _⟩ | ⟨q, _⟩
      rotate_left
      · exact absurd q (by decide)
      · exact absurd q (by decide)
      have hp5 := j3.2.2.1.1
      have c145 := j3.c14 hT5
      have hcc5 := j4.2.2.2.2.1
      have hmm5 := j4.2.2.2.2.2.1
      have hpp5 := j4.2.2.2.1
      have hN5 := hdN_X hN3 j4.2.1
      have H35 := A1.2.tr (A2.2.tr (A3.2.tr (A4.2.tr j4)))
      have GP := P3.2.tr (q5.tr (P4'.2.tr (P5.2.tr (P6.2.tr P7.2))))
      have G5 := G7.tr (i4.tr H35)
      have sg2 : ∀ σ2 τ2, LT N5 c c5 m m5 σ5 τ5 σ2 τ2 → gS σ2 τ2 (fun y => y = (f, c5, m5, 0 :: 0 :: s, l, 50)) (f, c, m, s, l, 50) := fun σ2 τ2 L5 => by
        have L3 := H35.bk L5
        have L2 := GP.bk (i4.bk L3)
        have L1 := P2.2.bk L2
        have k1 := L1.gC (by omega)
        have k2 := L2.gM (by omega)
        refine gS_in [(f, c + 1, m + 1, s, l, 50)] ⟨k1.1, k2.1, rfl⟩ (fun y hy => ?_)
        rw [List.mem_singleton.1 hy]
        refine (hE1 σ2 τ2 L3.1 (L3.2.mo (by omega) (by omega) (by omega) (by omega))).tr (fun y hy => ?_)
        rw [hy]
        exact hE2 σ2 τ2 L5.1 (L5.2.mo (by omega) (by omega) (by omega) (by omega))
      have B1 := j3.pop
      have tk := c_take j3.1.1 hp5 j3.2.1.1 68 (by omega)
      have sg := m_isSign B1.1.1.1 hp5 B1.1.2.1.2.1 28 (by omega) 44 rfl
      have ge5 : ∀ y τ2, (y = 0 ∨ y = 1) → lj_R lm_P 98 [.ref 0, .int Ln, .int (Int32.ofNat (p + 1)), .int (Int32.ofNat nl)] (lj_put τ5 0 46 (Int32.ofNat W.length)) = some (.inl (some (.int y)), τ2) → mLoop τ5 = mNx y τ2 := fun y τ2 hy e => j3.go hy (by rw [rm_30, km_30_0, if_neg (by decide), if_neg (by decide), if_neg (by decide), if_neg (by decide), if_neg (by decide), if_neg (by decide), if_neg (by decide), if_neg (by decide), if_neg (by decide), if_neg (by decide), if_neg (by decide), if_neg (by decide), if_neg (by decide), if_neg (by decide), if_neg (by decide), if_neg (by decide), if_neg (by decide), if_neg (by decide), if_neg (by decide), if_neg (by decide), if_neg (by decide), rm_86, km_86_0, if_neg (by decide), if_neg (by decide), if_neg (by decide), if_neg (by decide), if_neg (by decide), if_neg (by decide), if_neg (by decide), if_neg (by decide), if_neg (by decide), if_neg (by decide), if_neg (by decide), if_pos rfl, e, bi_ok, bi_ok, vpb y hy, vpb y hy])
      have eE : lj_R lm_P 98 [.ref 0, .int Ln, .int (Int32.ofNat (p + 1)), .int (Int32.ofNat nl)] (lj_put τ5 0 46 (Int32.ofNat W.length)) = _ := rm_98 _ _ _ _
      rw [km_98_0, sg, bi_ok] at eE
      rw [j1, bv_ok, j2]
      by_cases b68 : (Q p5).1 = 68
      · -- a third value
        have hlt5 : p5 < T := j3.lt (by omega) (by omega)
        have B2 := B1.1.la (by omega) (33, Ln, Int32.ofNat (p + 1), Int32.ofNat nl)
        have B3 := B2.1.la (by simp; omega) (3, 0, 0, 0)
        have B4 := B3.1.st hlt5
        rw [if_pos b68] at tk
        rw [if_pos (show (Q p5).1 = 40 + 28 by omega), if_neg (by decide), (m_later B1.1.2.1.2.2.2.2.2.2.2.2.1 (by omega) 33 Ln (Int32.ofNat (p + 1)) (Int32.ofNat nl)).1, bv_ok, (m_later B2.1.2.1.2.2.2.2.2.2.2.2.1 (by simp; omega) 3 0 0 0).1, bv_ok, m_take B3.1.1.1 hp5 B3.1.2.1.2.1 (by omega), bi_ok] at eE
        rw [show lj_R lc_P 84 [.ref 6, .int 68] _ = _ from tk, bi_ok, if_neg (by decide), ge5 1 _ (Or.inr rfl) eE, nx1 B4.1.2.1]
        rcases hV F5 N5 _ Z PL cl ml (p5 + 1) v c5 m5 wh5 ((33, Ln, Int32.ofNat (p + 1), Int32.ofNat nl) :: W) _ _ f (0 :: 0 :: s) l (by omega) B4.1 hN5 ((hs.hd hfv).z.z.up (by omega) (by omega)) (by simp; omega) with hf | ⟨σ7, τ7, p7, c7, m7, wh7, F7, N7, k1, k2, k3, k4, k5, k6, k7, k8⟩
        · exact Or.inl (flt_bv hf _)
        rcases k8 with ⟨_, hE3⟩ | ⟨q, _⟩ | ⟨q, _⟩
        rotate_left
        · exact absurd q (by decide)
        · exact absurd q (by decide)
        have hp7 := k3.2.2.1.1
        have hcc7 := k4.2.2.2.2.1
        have hmm7 := k4.2.2.2.2.2.1
        have C1 := k3.pop
        have ps7 := c_pass k3.1.1 hp7 k3.2.1.1 12 (by omega)
        have nw7 := m_needWord C1.1.1.1 hp7 C1.1.2.1.2.1 C1.1.2.1.2.2.2.2.2.2.2.2.2 2 (by omega) 3 rfl
        have ge7 : ∀ y τ2, (y = 0 ∨ y = 1) → lj_R lm_P 99 [.ref 0, .int Ln, .int (Int32.ofNat (p + 1)), .int (Int32.ofNat nl)] (lj_put τ7 0 46 (Int32.ofNat W.length)) = some (.inl (some (.int y)), τ2) → mLoop τ7 = mNx y τ2 := fun y τ2 hy e => k3.go hy (by rw [rm_30, km_30_0, if_neg (by decide), if_neg (by decide), if_neg (by decide), if_neg (by decide), if_neg (by decide), if_neg (by decide), if_neg (by decide), if_neg (by decide), if_neg (by decide), if_neg (by decide), if_neg (by decide), if_neg (by decide), if_neg (by decide), if_neg (by decide), if_neg (by decide), if_neg (by decide), if_neg (by decide), if_neg (by decide), if_neg (by decide), if_neg (by decide), if_neg (by decide), rm_86, km_86_0, if_neg (by decide), if_neg (by decide), if_neg (by decide), if_neg (by decide), if_neg (by decide), if_neg (by decide), if_neg (by decide), if_neg (by decide), if_neg (by decide), if_neg (by decide), if_neg (by decide), if_neg (by decide), if_pos rfl, e, bi_ok, bi_ok, vpb y hy, vpb y hy])
        have eG : lj_R lm_P 99 [.ref 0, .int Ln, .int (Int32.ofNat (p + 1)), .int (Int32.ofNat nl)] (lj_put τ7 0 46 (Int32.ofNat W.length)) = _ := rm_99 _ _ _ _
        rw [cf_M, nw7] at eG
        rw [k1, bv_ok, k2, cf_C]
        by_cases a12 : (Q p7).1 = 12
        · have hlt7 : p7 < T := k3.lt (by omega) (by omega)
          have C2 := C1.1.st hlt7
          have H57 := B1.2.tr (B2.2.tr (B3.2.tr (B4.2.tr (k4.tr (C1.2.tr C2.2)))))
          obtain ⟨τd, f1, f2, f3⟩ := fin F7 N7 (p7 + 1) c7 m7 wh7 _ _ C2.1 (G5.tr H57) (by omega) (by omega) (by omega) (fun σ2 τ2 L => by
            have L7 := C1.2.bk (C2.2.bk L)
            refine (sg2 σ2 τ2 (H57.bk L)).tr (fun y hy => ?_)
            rw [hy]
            exact hE3 σ2 τ2 L7.1 (L7.2.mo (by omega) (by omega) (by omega) (by omega)))
          rw [if_pos a12] at ps7
          rw [if_pos (show (Q p7).1 = 10 + 2 by omega), bi_ok, if_neg (by decide), f1] at eG
          rw [show lj_R lc_P 71 [.ref 6, .int 12] σ7 = _ from ps7, bv_ok, ge7 1 _ (Or.inr rfl) eG, f2]
          exact f3
        · rw [if_neg a12] at ps7
          rw [if_neg (show ¬ (Q p7).1 = 10 + 2 by omega), bi_ok, if_pos rfl] at eG
          rw [show lj_R lc_P 71 [.ref 6, .int 12] σ7 = _ from ps7, ge7 0 _ (Or.inl rfl) eG, nx0]
          exact Or.inl (flt_bv (C1.1.flt hT5 2 (Or.inl rfl) _) _)
      · -- none: one
        have hwh5 := j3.2.2.1.2.2.2.2.1
        rw [if_neg b68] at tk
        have e56 := j3.2.1.2.2.2.2.2.2.1
        have e40 := B1.1.2.1.2.2.2.2.2.2.2.1
        have iw : lj_in (Int32.ofNat wh5) 1502 := ofN_in (by omega) (by omega)
        have iw' : lj_in (Int32.ofNat wh5) 1501 := ofN_in (by omega) (by omega)
        rw [if_neg (show ¬ (Q p5).1 = 40 + 28 by omega), if_pos rfl, e40] at eE
        simp only [if_pos iw', lz_onat (show wh5 < 2147483648 by omega)] at eE
        rw [m_emit (m := m5) (by exact B1.1.2.1.2.2.2.2.2.1) (by omega), bi_ok, mP_o _ _ _ _ _ _ 0 40 (by omega) (by omega), show (lj_putL (lj_put τ5 0 46 (Int32.ofNat W.length)) 24 wh5 1).1 0 40 = Int32.ofNat wh5 from e40, lz_osucc, rm_99, cf_M] at eE
        rw [show lj_R lc_P 84 [.ref 6, .int 68] _ = _ from tk, bi_ok, if_pos rfl, e56]
        simp only [if_pos iw, lz_onat (show wh5 < 2147483648 by omega), lz_osucc]
        rw [c_put3 (c := c5) (by rw [lj_put_1, if_neg (by omega)]; exact j3.2.1.2.2.2.2.1) (by omega), bi_ok, cf_C]
        have fC : lf aC σ5 (cP (lj_put (lj_putL σ5 27 wh5 1) 5 6 (Int32.ofNat (wh5 + 1))) c5 4 (Int32.ofNat wh5) 0 0 0) := (lf_put (lf_putL (lf_rf _ _) _ _ _ rfl) _ _ _ rfl).tr (cP_lf _ _ _ _ _ _ _)
        have fM : lf aM (lj_put τ5 0 46 (Int32.ofNat W.length)) (lj_put (mP (lj_putL (lj_put τ5 0 46 (Int32.ofNat W.length)) 24 wh5 1) m5 4 (Int32.ofNat wh5) 0 0) 0 40 (Int32.ofNat (wh5 + 1))) := lf_put ((lf_putL (lf_rf _ _) _ _ _ rfl).tr (mP_lf _ _ _ _ _ _)) _ _ _ rfl
        have oC : ∀ k i, ¬ (22 ≤ k ∧ k ≤ 26 ∧ i = c5) → ¬ (k = 5 ∧ (i = 0 ∨ i = 6)) → (cP (lj_put (lj_putL σ5 27 wh5 1) 5 6 (Int32.ofNat (wh5 + 1))) c5 4 (Int32.ofNat wh5) 0 0 0).1 k i = σ5.1 k i := fun k i q1 q2 => by rw [cP_o _ _ _ _ _ _ _ _ _ q1 (by omega), lj_put_1, if_neg (by omega)]; rfl
        have oM : ∀ k i, ¬ (20 ≤ k ∧ k ≤ 23 ∧ i = m5) → ¬ (k = 0 ∧ (i = 41 ∨ i = 40)) → (lj_put (mP (lj_putL (lj_put τ5 0 46 (Int32.ofNat W.length)) 24 wh5 1) m5 4 (Int32.ofNat wh5) 0 0) 0 40 (Int32.ofNat (wh5 + 1))).1 k i = (lj_put τ5 0 46 (Int32.ofNat W.length)).1 k i := fun k i q1 q2 => by rw [lj_put_1, if_neg (by omega), mP_o _ _ _ _ _ _ _ _ q1 (by omega)]; rfl
        have hTEw := TE_up B1.1.1.1 fC fM
        have ps5 := c_pass hTEw hp5 (by rw [oC _ _ (by omega) (by omega)]; exact j3.2.1.1) 12 (by omega)
        have nw5 := m_needWord hTEw hp5 (by rw [oM _ _ (by omega) (by omega)]; exact B1.1.2.1.2.1) (by rw [oM _ _ (by omega) (by omega)]; exact B1.1.2.1.2.2.2.2.2.2.2.2.2) 2 (by omega) 3 rfl
        rw [nw5] at eE
        by_cases a12 : (Q p5).1 = 12
        · have hlt5 : p5 < T := j3.lt (by omega) (by omega)
          have B2 := B1.1.st hlt5
          obtain ⟨O1, O2, O3⟩ := B2.1.one hT5 (by omega) (by omega) (by omega)
          have eC : cP (lj_put (lj_putL (lj_put σ5 6 0 (Int32.ofNat (p5 + 1))) 27 wh5 1) 5 6 (Int32.ofNat (wh5 + 1))) c5 4 (Int32.ofNat wh5) 0 0 0 = lj_put (cP (lj_put (lj_putL σ5 27 wh5 1) 5 6 (Int32.ofNat (wh5 + 1))) c5 4 (Int32.ofNat wh5) 0 0 0) 6 0 (Int32.ofNat (p5 + 1)) := by
            rw [show lj_putL (lj_put σ5 6 0 (Int32.ofNat (p5 + 1))) 27 wh5 1 = lj_put (lj_putL σ5 27 wh5 1) 6 0 (Int32.ofNat (p5 + 1)) from rfl, put_cm _ _ _ (by omega), cP_60]
          have eMm : lj_put (mP (lj_putL (lj_put (lj_put τ5 0 46 (Int32.ofNat W.length)) 0 25 (Int32.ofNat (p5 + 1))) 24 wh5 1) m5 4 (Int32.ofNat wh5) 0 0) 0 40 (Int32.ofNat (wh5 + 1)) = lj_put (lj_put (mP (lj_putL (lj_put τ5 0 46 (Int32.ofNat W.length)) 24 wh5 1) m5 4 (Int32.ofNat wh5) 0 0) 0 40 (Int32.ofNat (wh5 + 1))) 0 25 (Int32.ofNat (p5 + 1)) := by
            rw [show lj_putL (lj_put (lj_put τ5 0 46 (Int32.ofNat W.length)) 0 25 (Int32.ofNat (p5 + 1))) 24 wh5 1 = lj_put (lj_putL (lj_put τ5 0 46 (Int32.ofNat W.length)) 24 wh5 1) 0 25 (Int32.ofNat (p5 + 1)) from rfl, mP_25, put_cm _ _ _ (by omega)]
          have H57 := B1.2.tr (B2.2.tr O2)
          obtain ⟨τd, f1, f2, f3⟩ := fin F5 N5 (p5 + 1) (c5 + 1) (m5 + 1) (wh5 + 1) _ _ O1 (G5.tr H57) (by omega) (by omega) (by omega) (fun σ2 τ2 L => by
            refine (sg2 σ2 τ2 (H57.bk L)).tr (fun y hy => ?_)
            rw [hy]
            exact O3 σ2 τ2 ⟨L.1, L.2.mo (by omega) (by omega) (by omega) (by omega)⟩ f (0 :: 0 :: s) l ((hs.hd (nl := 0) (rv := 0) (FO0 := []) hfv).z.z.sb (by omega) (by omega)))
          rw [eMm] at f1
          rw [eC] at f3
          rw [if_pos a12] at ps5
          rw [if_pos (show (Q p5).1 = 10 + 2 by omega), bi_ok, if_neg (by decide), f1, bi_ok] at eE
          rw [show lj_R lc_P 71 [.ref 6, .int 12] _ = _ from ps5, bv_ok, ge5 1 _ (Or.inr rfl) eE, f2]
          exact f3
        · rw [if_neg a12] at ps5
          rw [if_neg (show ¬ (Q p5).1 = 10 + 2 by omega), bi_ok, if_pos rfl, bi_ok] at eE
          rw [show lj_R lc_P 71 [.ref 6, .int 12] _ = _ from ps5, ge5 0 _ (Or.inl rfl) eE, nx0]
          refine Or.inl (flt_bv (flt_mk (m := m5 + 1) (by rw [lj_put_1, if_neg (by omega)]; exact (mP_get _ _ _ _ _ _).2.2.2.2) (by omega) (fq_ok _ (Or.inl rfl)) (B1.1.1.1.2.2.2.2.1 p5 hp5).2.2.2.2.1) _)
  · rw [if_neg (show ¬ tkk (Q (p + 1)).1 = 1 from fun z => a1 (t1'.1 z)), m_wrong P3.1.1.1 hp1 h3.2.1 h3.2.2.2.2.2.2.2.2.2, bi_ok, bi_ok] at eM
    refine ⟨0, _, Or.inl rfl, eM, Or.inl ?_⟩
    rw [if_neg (show ¬ Int32.ofNat (Q (p + 1)).1 = 1 from fun z => a1 ((ofN_eq (c := 1) (by omega) (by omega)).1 z)), c_throw P3.1.1.1 hp1 h3.1, nx0]
    exact P3.1.flt hT5 2 (Or.inl rfl) _
