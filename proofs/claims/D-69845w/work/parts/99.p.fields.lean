/-! tables: an item without a key ends -/
/-- the component, behind such an item -/
noncomputable def pE (x1 x2 y2 : Int32) (σ1 : lj_S) : Option lj_O := lj_bi (lj_R lc_P 63 [.ref 6] σ1) (fun y4 σ3 => (if y4 = 63 then lj_D lc_P lc_M86 201 [.ref 6, .int x1, .int x2, .int y2, .retAddr 0] [] σ3 else lj_bi (lj_R lc_P 63 [.ref 6] σ3) (fun y6 σ5 => (if y6 = 68 then lj_D lc_P lc_M86 169 [.ref 6, .int x1, .int x2, .int y2, .retAddr 0] [] σ5 else lj_bi (lj_R lc_P 63 [.ref 6] σ5) (fun y8 σ7 => (if y8 = 66 then lj_D lc_P lc_M86 169 [.ref 6, .int x1, .int x2, .int y2, .retAddr 0] [] σ7 else lj_D lc_P lc_M86 205 [.ref 6, .int x1, .int x2, .int y2, .retAddr 0] [] σ7)) lj_up)) lj_up)) lj_up
/-- the last item -/
def lstI (Q : tkQ) (p : Nat) : Prop := (Q p).1 = 63 ∨ ((Q p).1 = 68 ∨ (Q p).1 = 66) ∧ (Q (p + 1)).1 = 63
theorem pE_ok {b : Nat → Int32} {n T : Nat} {Q : tkQ} {σ τ : lj_S} (h : TE b n T Q σ τ) {p : Nat} (hp : p ≤ T) (hT5 : T ≤ 520) (h0 : σ.1 6 0 = Int32.ofNat p) (x1 x2 y2 : Int32) : (lstI Q p → pE x1 x2 y2 σ = lj_D lc_P lc_M86 206 [.ref 6, .int x1, .int x2, .int y2, .retAddr 0] [.int 1] σ) ∧ (¬ lstI Q p → pE x1 x2 y2 σ = lj_D lc_P lc_M86 206 [.ref 6, .int x1, .int x2, .int y2, .retAddr 0] [.int 0] σ) := by
  have hk := tk_lt h hp
  have kd := c_kind h hp h0
  have ne : ∀ c : Nat, c < 70 → (Q p).1 ≠ c → ¬ (Int32.ofNat (Q p).1 = Int32.ofNat c) := fun c hc q z => q ((ofN_eq (by omega) (by omega)).1 z)
  have k169 : ((Q p).1 = 68 ∨ (Q p).1 = 66) → lj_D lc_P lc_M86 169 [.ref 6, .int x1, .int x2, .int y2, .retAddr 0] [] σ = if (Q (p + 1)).1 = 63 then lj_D lc_P lc_M86 201 [.ref 6, .int x1, .int x2, .int y2, .retAddr 0] [] σ else lj_D lc_P lc_M86 205 [.ref 6, .int x1, .int x2, .int y2, .retAddr 0] [] σ := fun e => by
    have hp1 : p < T := by
      rcases Nat.lt_or_ge p T with q | q
      · exact q
      · have e1 : p = T := by omega
        have := h.2.2.2.2.2.2.1
        rw [← e1] at this
        omega
    have hk1 := tk_lt h (show p + 1 ≤ T by omega)
    rw [kc_86_169, h0, if_neg (by rw [lz_le, lz_lit (by omega)]; show ¬ ((1500 : Int) ≤ (p : Int)); omega), lz_osucc, if_pos (ofN_in (by omega) (by omega)), lz_onat (by omega), (h.2.2.2.2.1 (p + 1) hp1).2.1]
    by_cases e3 : (Q (p + 1)).1 = 63
    · rw [if_pos (by rw [e3]; rfl), if_pos e3]
    · rw [if_neg (show ¬ (Int32.ofNat (Q (p + 1)).1 = 63) from fun z => e3 ((ofN_eq (c := 63) (by omega) (by omega)).1 z)), if_neg e3]
  unfold pE
  rw [kd, bi_ok]
  by_cases e : (Q p).1 = 63
  · rw [if_pos (by rw [e]; rfl), kc_86_201]
    exact ⟨fun _ => rfl, fun q => absurd (Or.inl e) q⟩
  · rw [if_neg (show ¬ (Int32.ofNat (Q p).1 = 63) from ne 63 (by omega) e), kd, bi_ok]
    by_cases e2 : (Q p).1 = 68 ∨ (Q p).1 = 66
    · have k1 := k169 e2
      have key : (if Int32.ofNat (Q p).1 = 68 then lj_D lc_P lc_M86 169 [.ref 6, .int x1, .int x2, .int y2, .retAddr 0] [] σ else lj_bi (lj_R lc_P 63 [.ref 6] σ) (fun y8 σ7 => (if y8 = 66 then lj_D lc_P lc_M86 169 [.ref 6, .int x1, .int x2, .int y2, .retAddr 0] [] σ7 else lj_D lc_P lc_M86 205 [.ref 6, .int x1, .int x2, .int y2, .retAddr 0] [] σ7)) lj_up) = lj_D lc_P lc_M86 169 [.ref 6, .int x1, .int x2, .int y2, .retAddr 0] [] σ := by
        by_cases e8 : (Q p).1 = 68
        · rw [if_pos (by rw [e8]; rfl)]
        · rw [if_neg (show ¬ (Int32.ofNat (Q p).1 = 68) from ne 68 (by omega) e8), kd, bi_ok, if_pos (by rw [e2.resolve_left e8]; rfl)]
      rw [key, k1, kc_86_201, kc_86_205]
      by_cases e3 : (Q (p + 1)).1 = 63
      · rw [if_pos e3]
        exact ⟨fun _ => rfl, fun q => absurd (Or.inr ⟨e2, e3⟩) q⟩
      · rw [if_neg e3]
        exact ⟨fun q => absurd q (fun q => by rcases q with q | q; exact e q; exact e3 q.2), fun _ => rfl⟩
    · rw [if_neg (show ¬ (Int32.ofNat (Q p).1 = 68) from ne 68 (by omega) (fun q => e2 (Or.inl q))), kd, bi_ok, if_neg (show ¬ (Int32.ofNat (Q p).1 = 66) from ne 66 (by omega) (fun q => e2 (Or.inr q))), kc_86_205]
      exact ⟨fun q => absurd q (fun q => by rcases q with q | q; exact e q; exact e2 q.1), fun _ => rfl⟩
theorem fp_end {b : Nat → Int32} {n T : Nat} {Q : tkQ} {X : List Int32 → Prop} {FO : List fT} {Z : List zT} {PL : List qT} {cl ml : Nat} {F : Nat} {N : List lT} {p v c m wh : Nat} {W : List wT} {σ τ : lj_S} (hT5 : T ≤ 520) {it : Nat} (hit : it < 58) {nn : Int32} (h : PS b n T Q X F N FO Z PL cl ml p (v + 1) c m wh ((18, Int32.ofNat (it + 1), nn, 0) :: W) σ τ) {f : Nat} {s l : List Nat} {c0 m0 : Nat} {what : Int32} (hE : exS f (2 :: 8 :: s) l N c0 m0 c m what σ τ) (h64 : what = 0 → τ.1 0 64 = -1) (hc0 : c0 ≤ c) (hm0 : m0 ≤ m) (hml : ml ≤ m0) (hc : c + 2 ≤ 25 * p + 100) (hm : m + 1 ≤ 25 * p + 100) (hw : W.length + 20 ≤ 40 * v + 60) (hvb : vbd N.length FO Z PL v) (x1 x2 x50 : Int32) (hB : sB s := by assumption) (hB2 : sB (2 :: 8 :: s) := by assumption) :
    fltR n (lj_bi (pE (Int32.ofNat it) x2 what σ) (fun y3 σ2 => tbE x1 (Int32.ofNat it + y3) x50 σ2) lj_up) (mLoop τ) ∨ ∃ σ' τ' p' c' m', lj_bi (pE (Int32.ofNat it) x2 what σ) (fun y3 σ2 => tbE x1 (Int32.ofNat it + y3) x50 σ2) lj_up = lj_D lc_P lc_M85 25 [.ref 6, .int x1, .int (Int32.ofNat (it + 1)), .int x50] [] σ' ∧ mLoop τ = mLoop τ' ∧ PS b n T Q X F N FO Z PL cl ml p' v c' m' wh ((15, Int32.ofNat (it + 2), nn + 1, 0) :: W) σ' τ' ∧ TX N σ τ σ' τ' ∧ fz 0 c0 0 m0 σ τ σ' τ' ∧ p ≤ p' ∧ c ≤ c' ∧ c' ≤ c + 2 ∧ m ≤ m' ∧ m' ≤ m + 1 ∧ ∀ σ2 τ2, LT N c0 c' m0 m' σ' τ' σ2 τ2 → seg σ2 τ2 (f, c0, m0, 2 :: 8 :: s, l, 50) (fun y => y = (f, c', m', 8 :: s, l, 50)) := by
  have hv := h.2.2.1.2.1
  have hpT := h.2.2.1.1
  have c14 := h.c14 hT5
  have P0 := h.pop
  have w4 := P0.1.w4
  have hk := tk_lt h.1.1 hpT
  obtain ⟨pe1, pe0⟩ := pE_ok h.1.1 hpT hT5 h.2.1.1 (Int32.ofNat it) x2 what
  have goA : ∀ y τ', (y = 0 ∨ y = 1) → lj_R lm_P 82 [.ref 0, .int (Int32.ofNat (it + 1)), .int nn] (lj_put τ 0 46 (Int32.ofNat W.length)) = some (.inl (some (.int y)), τ') → mLoop τ = mNx y τ' := fun y τ' hy e => h.go hy (by rw [rm_30, km_30_0, if_neg (by decide), if_neg (by decide), if_neg (by decide), if_neg (by decide), if_neg (by decide), if_neg (by decide), if_neg (by decide), if_neg (by decide), if_neg (by decide), if_neg (by decide), if_neg (by decide), if_neg (by decide), if_neg (by decide), if_neg (by decide), if_neg (by decide), if_neg (by decide), if_neg (by decide), if_neg (by decide), if_pos rfl, e, bi_ok, vpb y hy])
  have eM : lj_R lm_P 82 [.ref 0, .int (Int32.ofNat (it + 1)), .int nn] (lj_put τ 0 46 (Int32.ofNat W.length)) = _ := rm_82 (Int32.ofNat (it + 1)) nn _
  have o64 : (lj_put τ 0 46 (Int32.ofNat W.length)).1 0 64 = τ.1 0 64 := by rw [lj_put_1, if_neg (by omega)]
  rw [km_82_0, P0.1.2.1.2.2.2.1, lz_pred', o64] at eM
  have osu : Int32.ofNat it + 1 = Int32.ofNat (it + 1) := lz_osucc _
  have osu2 : Int32.ofNat (it + 1) + 1 = Int32.ofNat (it + 2) := lz_osucc _
  have Pv := P0.1.vv v (by omega) (by omega) hvb
  rw [m_sep Pv.1.1.1 hpT Pv.1.2.1.2.1, bi_ok] at eM
  have s63 := m_isSign Pv.1.1.1 hpT Pv.1.2.1.2.1 23 (by omega) 125 rfl
  by_cases hend : ¬ ((Q p).1 = 63 ∨ (Q p).1 = 68 ∨ (Q p).1 = 66)
  · -- wrong
    have nl : ¬ lstI Q p := fun q => by rcases q with q | q; exact hend (Or.inl q); exact hend (Or.inr q.1)
    rw [if_neg (fun q => hend (Or.inr q)), if_pos rfl, km_82_35, if_pos rfl, s63, bi_ok, if_neg (show ¬ (Q p).1 = 40 + 23 from fun q => hend (Or.inl q)), if_pos rfl, m_wrong Pv.1.1.1 hpT Pv.1.2.1.2.1 Pv.1.2.1.2.2.2.2.2.2.2.2.2, bi_ok] at eM
    obtain ⟨σ4, c4, g4, hPS4, hE4, hcc4, hcc4', tx4, fz4, fl4⟩ := ex_get h hE (by omega) hT5 hc0 hm0
    have P1 := hPS4.C (by omega) hT5 24 (Int32.ofNat (it + 1)) 0 0 0
    have eC := tbE_ok P1.1.1.1 hpT P1.1.2.1.1 P1.1.2.1.2.2.1 x1 (Int32.ofNat it + 1) x50
    rw [if_neg (fun q => hend (Or.inl q)), if_neg (fun q => hend (Or.inr q))] at eC
    rw [pe0 nl, kc_86_206, if_pos rfl, kc_86_243, g4, bv_ok, osu, c_put3 hPS4.2.1.2.2.2.2.1 (by have := hPS4.c14 hT5; omega), bi_ok, kc_86_265, bi_ok, eC, goA 0 _ (Or.inl rfl) eM, nx0]
    exact Or.inl (Pv.1.flt hT5 2 (Or.inl rfl) _)
  · have hend : (Q p).1 = 63 ∨ (Q p).1 = 68 ∨ (Q p).1 = 66 := by omega
    refine Or.inr ?_
    -- one token on, or not
    obtain ⟨p', hpp, hpT', hsame⟩ : ∃ p', (p' = p ∧ (Q p).1 = 63 ∨ p' = p + 1 ∧ ((Q p).1 = 68 ∨ (Q p).1 = 66)) ∧ p' ≤ T ∧ (lstI Q p ↔ (Q p').1 = 63) := by
      by_cases e : (Q p).1 = 63
      · exact ⟨p, Or.inl ⟨rfl, e⟩, hpT, fun _ => e, fun _ => Or.inl e⟩
      · have e2 := hend.resolve_left e
        have := h.lt (by omega) (by omega)
        exact ⟨p + 1, Or.inr ⟨rfl, e2⟩, this, fun q => by rcases q with q | q; exact absurd q e; exact q.2, fun q => Or.inr ⟨e2, q⟩⟩
    -- the step of both
    have stB : ∀ {c m : Nat} {σ' τ' : lj_S}, PS b n T Q X F N FO Z PL cl ml p v c m wh W σ' τ' → ∃ σ2 τ2, PS b n T Q X F N FO Z PL cl ml p' v c m wh W σ2 τ2 ∧ GR N N F F p p' c c m m σ' τ' σ2 τ2 ∧ (∀ k i, k ≠ 0 → τ2.1 k i = τ'.1 k i) ∧ τ2.2 = τ'.2 ∧ (∀ k i, k ≠ 6 → σ2.1 k i = σ'.1 k i) ∧ (σ2 = if (Q p).1 = 63 then σ' else lj_put σ' 6 0 (Int32.ofNat (p + 1))) ∧ (lj_D lm_P lm_M82 35 [.ref 0, .int (Int32.ofNat (it + 1)), .int nn, .int (τ.1 0 64), .int (if (Q p).1 = 68 ∨ (Q p).1 = 66 then 1 else 0), .retAddr 0] [] τ2 = lj_D lm_P lm_M82 54 [.ref 0, .int (Int32.ofNat (it + 1)), .int nn, .int (τ.1 0 64), .int (if (Q p).1 = 68 ∨ (Q p).1 = 66 then 1 else 0), .retAddr 0] [] τ2) ∧ ((if (if (Q p).1 = 68 ∨ (Q p).1 = 66 then (1 : Int32) else 0) = 0 then lj_D lm_P lm_M82 35 [.ref 0, .int (Int32.ofNat (it + 1)), .int nn, .int (τ.1 0 64), .int (if (Q p).1 = 68 ∨ (Q p).1 = 66 then 1 else 0), .retAddr 0] [] τ' else lj_bi (lj_R lm_P 36 [.ref 0] τ') (fun y4 σ3 => (if y4 = 0 then some (.inl (some (.int 0)), σ3) else lj_D lm_P lm_M82 35 [.ref 0, .int (Int32.ofNat (it + 1)), .int nn, .int (τ.1 0 64), .int (if (Q p).1 = 68 ∨ (Q p).1 = 66 then 1 else 0), .retAddr 0] [] σ3)) lj_up) = lj_D lm_P lm_M82 35 [.ref 0, .int (Int32.ofNat (it + 1)), .int nn, .int (τ.1 0 64), .int (if (Q p).1 = 68 ∨ (Q p).1 = 66 then 1 else 0), .retAddr 0] [] τ2) := by
      intro c m σ' τ' hP
      rcases hpp with ⟨rfl, e⟩ | ⟨rfl, e⟩
      · refine ⟨σ', τ', hP, GR_rf _ _ _ _ _ _ _, fun _ _ _ => rfl, rfl, fun _ _ _ => rfl, by rw [if_pos e], ?_, ?_⟩
        · rw [if_neg (show ¬ ((Q p').1 = 68 ∨ (Q p').1 = 66) by omega), km_82_35, if_pos rfl, m_isSign hP.1.1 hpT hP.2.1.2.1 23 (by omega) 125 rfl, bi_ok, if_pos (show (Q p').1 = 40 + 23 by omega), if_neg (by decide)]
        · rw [if_pos (show (if (Q p').1 = 68 ∨ (Q p').1 = 66 then (1 : Int32) else 0) = 0 by rw [if_neg (show ¬ ((Q p').1 = 68 ∨ (Q p').1 = 66) by omega)])]
      · have S := hP.st (by omega)
        refine ⟨_, _, S.1, S.2, fun k i q => by rw [lj_put_1, if_neg (by omega)], rfl, fun k i q => by rw [lj_put_1, if_neg (by omega)], by rw [if_neg (by omega)], ?_, ?_⟩
        · rw [if_pos e, km_82_35, if_neg (by decide)]
        · rw [if_neg (show ¬ (if (Q p).1 = 68 ∨ (Q p).1 = 66 then (1 : Int32) else 0) = 0 by rw [if_pos e]; decide), m_take hP.1.1 hpT hP.2.1.2.1 (by omega), bi_ok, if_neg (by decide)]
    have tb : ∀ {c m : Nat} {σ' τ' : lj_S} {W' : List wT}, PS b n T Q X F N FO Z PL cl ml p (v + 1) c m wh W' σ' τ' → tbE x1 (Int32.ofNat it + 1) x50 σ' = lj_D lc_P lc_M85 25 [.ref 6, .int x1, .int (Int32.ofNat (it + 1)), .int x50] [] (if (Q p).1 = 63 then lj_put σ' 6 1 (Int32.ofNat v) else lj_put (lj_put σ' 6 1 (Int32.ofNat v)) 6 0 (Int32.ofNat (p + 1))) := by
      intro c m σ' τ' W' hP
      rw [tbE_ok hP.1.1 hpT hP.2.1.1 hP.2.1.2.2.1, osu]
      by_cases e : (Q p).1 = 63
      · rw [if_pos e, if_pos e]
      · rw [if_neg e, if_pos (hend.resolve_left e), if_neg e]
    by_cases hL : lstI Q p ∧ what ≠ 0
    · -- all of it
      obtain ⟨hL, hw0⟩ := hL
      have hq63 := hsame.1 hL
      have hw12 : what = 1 ∨ what = 2 := by
        rcases hE with ⟨q, _⟩ | ⟨q, _⟩ | ⟨q, _⟩
        · exact absurd q hw0
        · exact Or.inl q
        · exact Or.inr q
      obtain ⟨c1, m1, e1, e2, e3, e4, e5⟩ : ∃ c1 m1, c = c1 + 1 ∧ m = m1 + 1 ∧ c0 ≤ c1 ∧ m0 ≤ m1 ∧ τ.1 0 64 = Int32.ofNat m1 := by
        rcases hE with ⟨q, _⟩ | ⟨_, c1, m1, r, e1, e2, e3, e4, e5, _⟩ | ⟨_, c1, m1, e1, e2, e3, e4, e5, _⟩
        · exact absurd q hw0
        · exact ⟨c1, m1, e1, e2, e3, e4, e5⟩
        · exact ⟨c1, m1, e1, e2, e3, e4, e5⟩
      have P1 := P0.1.C (by omega) hT5 25 (Int32.ofNat (it + 1)) 0 0 0
      have P2 := P1.1.vv v (by omega) (by omega) hvb
      obtain ⟨σ3, τ3, P3, G3, oM3, dM3, oC3, eσ3, k35, kst⟩ := stB P2.1
      have P4 := P3.p21 (j := m1) (by omega) (-1)
      have hp' := P3.2.2.1.1
      have hpp' : p ≤ p' := by omega
      have P5 := P4.1.M (by omega) 29 (Int32.ofNat (it + 1)) 0 0
      have P6 := P5.1.la (by omega) (15, Int32.ofNat (it + 2), nn + 1, 0)
      have s63' := m_isSign P3.1.1 hp' P3.2.1.2.1 23 (by omega) 125 rfl
      have hneg : ¬ (Int32.ofNat m1 < 0) := ofN_nneg (by omega)
      rw [kst, k35, e5, km_82_54, s63', bi_ok, if_pos (show (Q p').1 = 40 + 23 by omega), if_neg (by decide), if_neg hneg, if_pos (ofN_in (by omega) (by omega)), lz_onat (by omega), m_emit P4.1.2.1.2.2.2.2.2.1 (by omega), bi_ok, km_82_102, osu2, (m_later P5.1.2.1.2.2.2.2.2.2.2.2.1 (by omega) 15 (Int32.ofNat (it + 2)) (nn + 1) 0).1, bv_ok] at eM
      have eC : pE (Int32.ofNat it) x2 what σ = some (.inl (some (.int 1)), cP σ c 25 (Int32.ofNat (it + 1)) 0 0 0) := by
        rw [pe1 hL, kc_86_206, if_neg (by decide)]
        have k223 : lj_D lc_P lc_M86 223 [.ref 6, .int (Int32.ofNat it), .int x2, .int what, .int 1] [] σ = some (.inl (some (.int 1)), cP σ c 25 (Int32.ofNat (it + 1)) 0 0 0) := by
          rw [kc_86_223, osu, c_put3 h.2.1.2.2.2.2.1 (by omega), bi_ok, kc_86_265]
        rcases hw12 with q | q
        · rw [if_pos q, k223]
        · rw [if_neg (by rw [q]; decide), if_pos q, k223]
      have GA := P0.2.tr (P1.2.tr (P2.2.tr G3))
      have GB := P5.2.tr P6.2
      have GC := P2.2.tr G3
      have tx34 := P4.2.1
      have fz34 := P4.2.2
      refine ⟨σ3, _, p', c + 1, m + 1, by rw [eC, bi_ok, tb P1.1, eσ3], by rw [goA 1 _ (Or.inr rfl) eM, nx1 P6.1.2.1], P6.1, (GA.1.tr tx34 (fun _ _ q => q)).tr GB.1 (fun _ _ q => q), ?_, (by omega), (by omega), (by omega), (by omega), (by omega), fun σ2 τ2 L6 => ?_⟩
      · exact ((GA.2.2.2.2.2.2.mo (by omega) (by omega) (by omega) (by omega)).tr (fz34.mo (by omega) (by omega) (by omega) (by omega))).tr (GB.2.2.2.2.2.2.mo (by omega) (by omega) (by omega) (by omega))
      · have L5 := P6.2.bk L6
        have L4 := P5.2.bk L5
        have L3 : LT N c0 (c + 1) m0 m1 σ3 τ3 σ2 τ2 := ⟨tx34.tr L4.1 (fun _ _ q => q), (fz34.mo (by omega) (by omega) (by omega) (by omega)).tr (L4.2.mo (by omega) (by omega) (by omega) (by omega))⟩
        have L1 : LT N c0 (c + 1) m0 m1 (cP σ c 25 (Int32.ofNat (it + 1)) 0 0 0) (lj_put τ 0 46 (Int32.ofNat W.length)) σ2 τ2 := ⟨GC.1.tr L3.1 (fun _ _ q => q), (GC.2.2.2.2.2.2.mo (by omega) (by omega) (by omega) (by omega)).tr L3.2⟩
        have L0 : LT N c0 c1 m0 m1 σ τ σ2 τ2 := ⟨GA.1.tr L3.1 (fun _ _ q => q), (GA.2.2.2.2.2.2.mo (by omega) (by omega) (by omega) (by omega)).tr (L3.2.mo (by omega) (by omega) (by omega) (by omega))⟩
        have g1 : σ2.1 22 c = 25 ∧ σ2.1 23 c = Int32.ofNat (it + 1) := by
          have g := cP_get σ c 25 (Int32.ofNat (it + 1)) 0 0 0
          rw [L1.2.1 22 c (by omega) (by omega) (by omega) (by omega), L1.2.1 23 c (by omega) (by omega) (by omega) (by omega)]
          exact ⟨g.1, g.2.1⟩
        have g5 := L5.gM (by omega)
        have xc : ∀ k, 22 ≤ k → k ≤ 26 → σ2.1 k c1 = σ.1 k c1 := fun k a b => by rw [L1.2.1 k c1 a b (by omega) (by omega), cP_o _ _ _ _ _ _ _ _ _ (by omega) (by omega)]
        have xm : ∀ k, 20 ≤ k → k ≤ 23 → k ≠ 21 → τ2.1 k m1 = τ.1 k m1 := fun k a b e => by
          rw [L4.2.2 k m1 a b (by omega) (by omega), lj_put_1, if_neg (by omega), oM3 k m1 (by omega), lj_put_1, if_neg (by omega), lj_put_1, if_neg (by omega)]
        have x21 : τ2.1 21 m1 = -1 := by rw [L4.2.2 21 m1 (by omega) (by omega) (by omega) (by omega), lj_put_1, if_pos ⟨rfl, rfl⟩]
        subst e1 e2
        rcases hE with ⟨q, _⟩ | ⟨q, c1', m1', r, f1, f2, f3, f4, f5, f6, f7, f8, f9, f10, f11⟩ | ⟨q, c1', m1', f1, f2, f3, f4, f5, f6, f7, f8, f9⟩
        · exact absurd q hw0
        · obtain rfl : c1 = c1' := by omega
          obtain rfl : m1 = m1' := by omega
          obtain ⟨w1, w2⟩ := f11 σ2 τ2 L0.1 L0.2
          refine w1.tr (fun y hy => ?_)
          rw [hy]
          refine seg_in [(f, c1 + 2, m1 + 2, 8 :: s, l, 50)] ⟨21, r, s, f10, rfl, ?_, ?_, ?_, ?_, g1.1, x21, g5.1, ⟨it + 1, (by omega), g1.2, g5.2.1⟩, rfl⟩ (fun y hy => by rw [List.mem_singleton.1 hy]; exact seg_ex rfl)
          · show σ2.1 22 c1 = 16; rw [xc 22 (by omega) (by omega)]; exact f6
          · show τ2.1 20 m1 = 16; rw [xm 20 (by omega) (by omega) (by omega)]; exact f7
          · show σ2.1 26 c1 = τ2.1 23 m1; rw [xc 26 (by omega) (by omega), xm 23 (by omega) (by omega) (by omega)]; exact f9
          · exact w2
        · obtain rfl : c1 = c1' := by omega
          obtain rfl : m1 = m1' := by omega
          have w1 := f9 σ2 τ2 L0.1 L0.2
          refine w1.tr (fun y hy => ?_)
          rw [hy]
          refine seg_in [(f, c1 + 2, m1 + 2, 8 :: s, l, 50)] ⟨24, s, rfl, ?_, ?_, g1.1, x21, g5.1, ⟨it + 1, (by omega), g1.2, g5.2.1⟩, rfl⟩ (fun y hy => by rw [List.mem_singleton.1 hy]; exact seg_ex rfl)
          · show σ2.1 22 c1 = 21; rw [xc 22 (by omega) (by omega)]; exact f6
          · show τ2.1 20 m1 = 30; rw [xm 20 (by omega) (by omega) (by omega)]; exact f7
    · -- one of it
      obtain ⟨σ4, c4, g4, hPS4, hE4, hcc4, hcc4', tx4, fz4, fl4⟩ := ex_get h hE (by omega) hT5 hc0 hm0
      have Q0 := hPS4.pop
      have Q1 := Q0.1.C (by omega) hT5 24 (Int32.ofNat (it + 1)) 0 0 0
      have Q2 := Q1.1.vv v (by omega) (by omega) hvb
      obtain ⟨σ3, τ3, P3, G3, oM3, dM3, oC3, eσ3, k35, kst⟩ := stB Q2.1
      have hp' := P3.2.2.1.1
      have hpp' : p ≤ p' := by omega
      have P5 := P3.M (by omega) 28 (Int32.ofNat (it + 1)) 0 0
      have P6 := P5.1.la (by omega) (15, Int32.ofNat (it + 2), nn + 1, 0)
      have s63' := m_isSign P3.1.1 hp' P3.2.1.2.1 23 (by omega) 125 rfl
      have k91 : lj_D lm_P lm_M82 91 [.ref 0, .int (Int32.ofNat (it + 1)), .int nn, .int (τ.1 0 64), .int (if (Q p).1 = 68 ∨ (Q p).1 = 66 then 1 else 0), .int 0] [] τ3 = some (.inl (some (.int 1)), mW (mP τ3 m 28 (Int32.ofNat (it + 1)) 0 0) W.length (15, Int32.ofNat (it + 2), nn + 1, 0)) := by
        rw [km_82_91, m_emit P3.2.1.2.2.2.2.2.1 (by omega), bi_ok, km_82_102, osu2, (m_later P5.1.2.1.2.2.2.2.2.2.2.2.1 (by omega) 15 (Int32.ofNat (it + 2)) (nn + 1) 0).1, bv_ok]
      have k54 : lj_D lm_P lm_M82 54 [.ref 0, .int (Int32.ofNat (it + 1)), .int nn, .int (τ.1 0 64), .int (if (Q p).1 = 68 ∨ (Q p).1 = 66 then 1 else 0), .retAddr 0] [] τ3 = some (.inl (some (.int 1)), mW (mP τ3 m 28 (Int32.ofNat (it + 1)) 0 0) W.length (15, Int32.ofNat (it + 2), nn + 1, 0)) := by
        rw [km_82_54, s63', bi_ok]
        by_cases q : (Q p').1 = 40 + 23
        · have hw0 : what = 0 := by
            by_cases e : what = 0
            · exact e
            · exact absurd ⟨hsame.2 (by omega), e⟩ hL
          rw [if_pos q, if_neg (by decide), if_pos (show τ.1 0 64 < 0 by rw [h64 hw0]; decide), k91]
        · rw [if_neg q, if_pos rfl, k91]
      rw [kst, k35, k54] at eM
      have k243 : ∀ x4, lj_D lc_P lc_M86 243 [.ref 6, .int (Int32.ofNat it), .int x2, .int what, .int x4] [] σ = some (.inl (some (.int 1)), cP σ4 c4 24 (Int32.ofNat (it + 1)) 0 0 0) := fun x4 => by
        rw [kc_86_243, g4, bv_ok, osu, c_put3 hPS4.2.1.2.2.2.2.1 (by omega), bi_ok, kc_86_265]
      have eC : pE (Int32.ofNat it) x2 what σ = some (.inl (some (.int 1)), cP σ4 c4 24 (Int32.ofNat (it + 1)) 0 0 0) := by
        by_cases q : lstI Q p
        · have hw0 : what = 0 := by
            by_cases e : what = 0
            · exact e
            · exact absurd ⟨q, e⟩ hL
          rw [pe1 q, kc_86_206, if_neg (by decide), if_neg (by rw [hw0]; decide), if_neg (by rw [hw0]; decide), k243]
        · rw [pe0 q, kc_86_206, if_pos rfl, k243]
      have GX : GR N N F F p p c c4 m m σ τ σ4 τ := ⟨tx4, lvX_rf _, (Nat.le_refl _), (Nat.le_refl _), hcc4, (Nat.le_refl _), fz4⟩
      have GA := GX.tr (Q0.2.tr (Q1.2.tr (Q2.2.tr (G3.tr (P5.2.tr P6.2)))))
      refine ⟨σ3, _, p', c4 + 1, m + 1, by rw [eC, bi_ok, tb Q1.1, eσ3], by rw [goA 1 _ (Or.inr rfl) eM, nx1 P6.1.2.1], P6.1, GA.1, GA.2.2.2.2.2.2.mo (by omega) (by omega) (by omega) (by omega), (by omega), (by omega), (by omega), (by omega), (by omega), fun σ2 τ2 L6 => ?_⟩
      have L5 := P6.2.bk L6
      have L3 := P5.2.bk L5
      have L1 := Q2.2.bk (G3.bk L3)
      have L0 := Q0.2.bk (Q1.2.bk L1)
      have g1 := L1.gC (by omega)
      have g5 := L5.gM (by omega)
      rcases hE4 with ⟨_, hE4⟩ | ⟨q, _⟩ | ⟨q, _⟩
      · refine (hE4 σ2 τ2 L0.1 L0.2).tr (fun y hy => ?_)
        rw [hy]
        exact seg_in [(f, c4 + 1, m + 1, 8 :: s, l, 50)] ⟨31, s, rfl, g1.1, g5.1, ⟨it + 1, (by omega), g1.2.1, g5.2.1⟩, rfl⟩ (fun y hy => by rw [List.mem_singleton.1 hy]; exact seg_ex rfl)
      · exact absurd q (by decide)
      · exact absurd q (by decide)
