/-! an assignment from its = on -/
/-- what the rest of an assignment comes to -/
def asR (b : Nat → Int32) (n T : Nat) (Q : tkQ) (X : List Int32 → Prop) (FO : List fT) (Z : List zT) (PL : List qT) (cl ml : Nat) (v : Nat) (W : List wT) (f : Nat) (S s l : List Nat) (cs ms : Nat) (N : List lT) (F p c m : Nat) (σ τ : lj_S) (p0 c0 m0 : Nat) (oC oM : Option lj_O) : Prop :=
  fltR n oC oM ∨ ∃ σ' τ' p' c' m' wh' F' N', oC = some (.inl none, σ') ∧ oM = mLoop τ' ∧ PS b n T Q X F' N' FO Z PL cl ml p' v c' m' wh' W σ' τ' ∧ GR N N' F F' p p' c c' m m' σ τ σ' τ' ∧ c' + 25 * p0 ≤ c0 + 25 * p' ∧ m' + 25 * p0 ≤ m0 + 25 * p' ∧ ∀ σ2 τ2, LT N' cs c' ms m' σ' τ' σ2 τ2 → seg σ2 τ2 (f, cs, ms, S, l, 50) (fun y => y = (f, c', m', s, l, 50))
theorem asR.pre {b : Nat → Int32} {n T : Nat} {Q : tkQ} {X : List Int32 → Prop} {FO : List fT} {Z : List zT} {PL : List qT} {cl ml : Nat} {v : Nat} {W : List wT} {f : Nat} {S S1 s l : List Nat} {cs ms cs1 ms1 : Nat} {N N1 : List lT} {F F1 p p1 c c1 m m1 : Nat} {σ τ σ1 τ1 : lj_S} {p0 c0 m0 : Nat} {oC oM : Option lj_O} (h : asR b n T Q X FO Z PL cl ml v W f S1 s l cs1 ms1 N1 F1 p1 c1 m1 σ1 τ1 p0 c0 m0 oC oM) (g : GR N N1 F F1 p p1 c c1 m m1 σ τ σ1 τ1) (hc : cs ≤ cs1) (hm : ms ≤ ms1) (hs : ∀ σ2 τ2, LT N1 cs c1 ms m1 σ1 τ1 σ2 τ2 → seg σ2 τ2 (f, cs, ms, S, l, 50) (fun y => y = (f, cs1, ms1, S1, l, 50))) : asR b n T Q X FO Z PL cl ml v W f S s l cs ms N F p c m σ τ p0 c0 m0 oC oM := by
  rcases h with h | ⟨σ', τ', p', c', m', wh', F', N', i1, i2, i3, i4, i5, i6, i7⟩
  · exact Or.inl h
  · refine Or.inr ⟨σ', τ', p', c', m', wh', F', N', i1, i2, i3, g.tr i4, i5, i6, fun σ2 τ2 L => ?_⟩
    refine (hs σ2 τ2 (i4.bk L)).tr (fun y hy => ?_)
    rw [hy]
    exact i7 σ2 τ2 ⟨L.1, L.2.mo hc (Nat.le_refl _) hm (Nat.le_refl _)⟩
noncomputable def asM (x1 : Int32) (σ1 : lj_S) : Option lj_O := lj_bi (lj_R lm_P 33 [.ref 0] σ1) (fun y10 σ9 => lj_bi (lj_R lm_P 36 [.ref 0] σ9) (fun y12 σ11 => (if y12 = 0 then some (.inl (some (.int 0)), σ11) else lj_bi (lj_R lm_P 38 [.ref 0] σ11) (fun y14 σ13 => (if y14 = 0 then lj_bi (lj_R lm_P 47 [.ref 0] σ13) (fun y21 σ20 => some (.inl (some (.int (vp_nar .boolean y21))), σ20)) lj_up else lj_bi (lj_R lm_P 28 [.ref 0, .int 14, .int 0, .int 0, .int 0] σ13) (fun y16 σ15 => lj_bv (lj_R lm_P 29 [.ref 0, .int 22, .int x1, .int y10, .int 0] σ15) (fun σ17 => lj_bv (lj_R lm_P 29 [.ref 0, .int 14, .int 0, .int 0, .int 0] σ17) (fun σ18 => lj_bv (lj_R lm_P 29 [.ref 0, .int 3, .int 0, .int 0, .int 0] σ18) (fun σ19 => some (.inl (some (.int 1)), σ19)) lj_up) lj_up) lj_up) lj_up)) lj_up)) lj_up) lj_up
/-- both have stored all: the rest -/
theorem as_fin {b : Nat → Int32} {n T : Nat} {Q : tkQ} {X : List Int32 → Prop} (hT5 : T ≤ 520) {FO : List fT} {Z : List zT} {PL ps : List qT} {cl ml : Nat} {F : Nat} {N : List lT} {p v c m wh : Nat} {W : List wT} {σ τ : lj_S} {f : Nat} {s l : List Nat} (h : PS b n T Q X F N FO Z (ps ++ PL) cl ml p v c m wh W σ τ) (hps : ps.length ≤ 20) (hPL : PL.length ≤ 380) (hc : c + 1 ≤ 25 * p + 100) (hm : m + 1 ≤ 25 * p + 100) (y1 y3 y4 y5 y7 z2 z3 z4 z5 : Int32) (hsB : sB s := by assumption) (hs3 : va s ≤ 120 := by assumption) :
    ∃ σ' τ' c', lj_D lc_P lc_M110 294 [.ref 6, .int y1, .int (Int32.ofNat PL.length), .int y3, .int y4, .int y5, .int (Int32.ofNat (itN ps)), .int y7, .int (Int32.ofNat 0 - 1)] [] σ = some (.inl none, σ') ∧ lj_D lm_P lm_M88 80 [.ref 0, .int (Int32.ofNat PL.length), .int z2, .int z3, .int z4, .int z5, .int (Int32.ofNat PL.length - 1)] [] τ = some (.inl (some (.int 1)), τ') ∧ PS b n T Q X F N FO Z PL cl ml p v c' (m + 1) wh W σ' τ' ∧ GR N N F F p p c c' m (m + 1) σ τ σ' τ' ∧ c' ≤ c + 1 ∧ ∀ σ2 τ2, LT N c c' m (m + 1) σ' τ' σ2 τ2 → seg σ2 τ2 (f, c, m, plS ps [] s, l, 50) (fun y => y = (f, c', m + 1, s, l, 50)) := by
  have c14 := h.c14 hT5
  have hle := itN_le ps
  have eB : Int32.ofNat PL.length - 1 < Int32.ofNat PL.length := by
    cases hB : PL.length with
    | zero => decide
    | succ k => rw [lz_pred', lz_lt, lz_lit (by omega), lz_lit (by omega)]; omega
  have eM : ∀ τ', (lj_put τ 0 60 (Int32.ofNat PL.length)).1 0 41 = Int32.ofNat m → mP (lj_put τ 0 60 (Int32.ofNat PL.length)) m 47 0 0 0 = τ' → lj_D lm_P lm_M88 80 [.ref 0, .int (Int32.ofNat PL.length), .int z2, .int z3, .int z4, .int z5, .int (Int32.ofNat PL.length - 1)] [] τ = some (.inl (some (.int 1)), τ') := fun τ' e1 e2 => by
    rw [km_88_80, if_pos eB, m_emit e1 (by omega), bi_ok, e2]
  by_cases h0 : itN ps = 0
  · have D := h.pld
    have E := D.1.M (by omega) 47 0 0 0
    refine ⟨_, _, c, ?_, eM _ D.1.2.1.2.2.2.2.2.1 rfl, E.1, D.2.tr E.2, (by omega), fun σ2 τ2 L => ?_⟩
    · rw [kc_110_294, if_pos (by decide), h0, if_pos (by decide), kc_110_400]
    · have k1 := L.gM (by omega)
      unfold plS
      rw [h0]
      exact seg_in [(f, c, m + 1, s, l, 50)] ⟨15, s, rfl, k1.1, rfl⟩ (fun y hy => by rw [List.mem_singleton.1 hy]; exact seg_ex rfl)
  · have Y := h.C (by omega) hT5 14 (Int32.ofNat (2 * itN ps)) 0 0 0
    have D := Y.1.pld
    have E := D.1.M (by omega) 47 0 0 0
    refine ⟨_, _, c + 1, ?_, eM _ D.1.2.1.2.2.2.2.2.1 rfl, E.1, Y.2.tr (D.2.tr E.2), (by omega), fun σ2 τ2 L => ?_⟩
    · rw [kc_110_294, if_pos (by decide), if_neg (by rw [lz_le, lz_lit (by omega)]; show ¬ ((itN ps : Int) ≤ 0); omega), show (2 : Int32) = Int32.ofNat 2 from rfl, ← Int32.ofNat_mul, c_put3 h.2.1.2.2.2.2.1 (by omega), bi_ok, kc_110_400]
    · have k1 := L.gM (by omega)
      have k2 := (D.2.bk (E.2.bk L)).gC (by omega)
      exact seg_in [(f, c + 1, m + 1, s, l, 50)] ⟨14, List.replicate (2 * itN ps) 6, s, rfl, fun x hx => Or.inr (List.eq_of_mem_replicate hx), k2.1, by rw [List.length_replicate]; exact k2.2.1, k1.1, rfl⟩ (fun y hy => by rw [List.mem_singleton.1 hy]; exact seg_ex rfl) (skq (List.replicate (2 * itN ps) 6) (fun x hx => Or.inr (List.eq_of_mem_replicate hx)) (by rw [List.length_replicate]; omega) hsB)
theorem ac_asg {b : Nat → Int32} {n T : Nat} {Q : tkQ} {X : List Int32 → Prop} (hT5 : T ≤ 520) (k : Nat) (hR : CR b n T Q X k) {FO : List fT} {Z : List zT} {PL ps : List qT} {cl ml : Nat} {F : Nat} {N : List lT} {p v c m wh : Nat} {W : List wT} {σ τ : lj_S} {f : Nat} {s l : List Nat} {p0 c0 m0 : Nat} (hTp : T - p < k + 1) (h : PS b n T Q X F N FO Z (ps ++ PL) cl ml p v c m wh W σ τ) (hN : hdN N f l) (hFO : hdF (3 * v) 0 FO s) (hV : ∀ x ∈ ps, plV f l x σ τ) (hps : ps.length ≤ 20) (hPL : PL.length ≤ 380) (hW : W.length + 25 ≤ 40 * v + 60) (a58 : (Q p).1 = 58) (hc0 : c0 ≤ 25 * p0 + 100) (hm0 : m0 ≤ 25 * p0 + 100) (hc : c + ps.length + 9 + 25 * p0 ≤ c0 + 25 * p) (hm : m + ps.length + 9 + 25 * p0 ≤ m0 + 25 * p) (y1 : Int32) :
    ∃ y τ', (y = 0 ∨ y = 1) ∧ asM (Int32.ofNat PL.length) τ = some (.inl (some (.int y)), τ') ∧ asR b n T Q X FO Z PL cl ml v W f (List.replicate (2 * itN ps) 0 ++ 2 :: s) s l c m N F p c m σ τ p0 c0 m0 (lj_D lc_P lc_M110 83 [.ref 6, .int y1, .int (Int32.ofNat PL.length), .int (Int32.ofNat ps.length), .int 0, .retAddr 0, .retAddr 0, .retAddr 0, .retAddr 0] [] σ) (mNx y τ') := by
  have hpT := h.2.2.1.1
  have hv20 := h.2.2.1.2.1
  have c14 := h.c14 hT5
  have hlt : p < T := h.lt (by omega) (by omega)
  have hp1 : p + 1 ≤ T := hlt
  have h1 := h.2.1
  have P1 := h.st hlt
  have P2 := P1.1.C (by omega) hT5 15 0 0 0 0
  have ps1 := c_pass h.1.1 hpT h1.1 58 (by omega)
  rw [if_pos a58] at ps1
  unfold asM
  rw [m_lineHere h.1.1 hpT h1.2.1, bi_ok, m_take h.1.1 hpT h1.2.1 (by omega), bi_ok, if_neg (by decide), m_beginsE P1.1.1.1 hp1 P1.1.2.1.2.1, bi_ok]
  rw [kc_110_83, if_pos rfl, c_line h.1.1 hpT h1.1, bi_ok, show lj_R lc_P 71 [.ref 6, .int 58] σ = _ from ps1, bv_ok, c_put3 P1.1.2.1.2.2.2.2.1 (by omega), bi_ok]
  generalize hLn : Int32.ofNat (1 + tN b (Q p).2.1) = Ln at *
  by_cases hE : bgE (Q (p + 1)).1
  · have P3 := P2.1.M (by omega) 14 0 0 0
    have P4 := P3.1.la (by omega) (22, Int32.ofNat PL.length, Ln, 0)
    have P5 := P4.1.la (by simp only [List.length_cons]; omega) (14, 0, 0, 0)
    have P6 := P5.1.la (by simp only [List.length_cons]; omega) (3, 0, 0, 0)
    have G6 := P1.2.tr (P2.2.tr (P3.2.tr (P4.2.tr (P5.2.tr P6.2))))
    have hv20 := h.2.2.1.2.1
    have hle := itN_le ps
    have hsB : sB s := hFO.sb (by omega) (by omega)
    have hs3 : va s ≤ 120 := by have := hFO.2.1; omega
    have hFS := hFO.t.k (2 * itN ps)
    have hsB2 : sB (List.replicate (2 * itN ps) 0 ++ 2 :: s) := hFS.sb (by omega) (by omega)
    rw [if_pos hE, if_neg (by decide), m_emit P1.1.2.1.2.2.2.2.2.1 (by omega), bi_ok, (m_later P3.1.2.1.2.2.2.2.2.2.2.2.1 (by omega) 22 (Int32.ofNat PL.length) Ln 0).1, bv_ok, (m_later P4.1.2.1.2.2.2.2.2.2.2.2.1 (by simp only [List.length_cons]; omega) 14 0 0 0).1, bv_ok, (m_later P5.1.2.1.2.2.2.2.2.2.2.2.1 (by simp only [List.length_cons]; omega) 3 0 0 0).1, bv_ok]
    refine ⟨1, _, Or.inr rfl, rfl, ?_⟩
    rw [nx1 P6.1.2.1]
    rcases hR F N FO Z (ps ++ PL) cl ml (p + 1) v (c + 1) (m + 1) wh ((22, Int32.ofNat PL.length, Ln, 0) :: W) _ _ f (1 :: (List.replicate (2 * itN ps) 0 ++ 2 :: s)) l Ln (by omega) P6.1 hN (hFS.o.up (by omega) (by omega)) (by simp only [List.length_cons]; omega) hE with hf | ⟨σ8, τ8, p8, c8, m8, wh8, F8, N8, r, i1, i2, i3, i4, i5, i6, i7, i8, i9⟩
    · exact Or.inl (flt_bv hf _)
    · have hc8 := i4.2.2.2.2.1
      have hm8 := i4.2.2.2.2.2.1
      have c148 := i3.c14 hT5
      have hp8 := i3.2.2.1.1
      have hN8 := hdN_X hN i4.2.1
      have Q1 := i3.pop
      have X1 := Q1.1.C (by omega) hT5 20 (Int32.ofNat ps.length) 0 0 Ln
      have X2 := X1.1.M (by omega) 17 0 0 Ln
      have X3 := X2.1.M (by omega) 18 (Int32.ofNat ps.length) 0 0
      have GX := i4.tr (Q1.2.tr (X1.2.tr (X2.2.tr X3.2)))
      have hf8 := hdN_8 h hN
      have hV8 : ∀ x ∈ ps, plV f l x _ _ := fun x hx => (hV x hx).up (G6.tr GX).1 hf8
      have hA3 := X3.1.2.2.2.1.2.2.2.2.2.2.2.2.2.1
      have e60 : (lj_put τ8 0 46 (Int32.ofNat W.length)).1 0 60 = Int32.ofNat (ps.length + PL.length) := by
        have := Q1.1.2.2.2.1.2.2.2.2.2.2.1
        rw [List.length_append] at this
        exact this
      have e60' := X3.1.2.2.2.1.2.2.2.2.2.2.1
      rw [List.length_append] at e60'
      obtain ⟨σ9, τ9, z9, r1, r2, r3, r4, r5⟩ := pl_all hT5 hN8 hFO hsB (by have := hFO.2.1; omega) hps hPL y1 (Int32.ofNat ps.length) 0 Ln Ln (Int32.ofNat ps.length) ps [] (c8 + 1) (m8 + 1 + 1) _ _ (Int32.ofNat (m8 + 1)) rfl X3.1 hV8 (by omega) (by omega)
      have cp := c_prs (σ := _) (τ := _) hps hPL hA3 y1 0 Ln ps.length ps [] rfl (List.append_nil _)
      have mp := m_prs (σ := _) (τ := _) hps hPL hA3 (fun x hx => (hV x hx).srt) e60' (Int32.ofNat PL.length) Ln (Int32.ofNat ps.length) (Int32.ofNat (m8 + 1)) ps.length ps [] rfl (List.append_nil _)
      rw [show ([] : List qT).length + PL.length = PL.length from Nat.zero_add _] at mp
      obtain ⟨σ10, τ10, c10, q1, q2, q3, q4, q5, q6⟩ := as_fin hT5 (f := f) (s := s) (l := l) r3 hps hPL (by omega) (by omega) y1 (Int32.ofNat ps.length) 0 Ln (Int32.ofNat (itN ps)) Ln (Int32.ofNat ps.length) z9 (Int32.ofNat 0)
      have e88 : lj_R lm_P 88 [.ref 0, .int (Int32.ofNat PL.length), .int Ln] (lj_put τ8 0 46 (Int32.ofNat W.length)) = some (.inl (some (.int 1)), τ10) := by
        rw [rm_88, km_88_0, e60, ofN_sub', m_emit Q1.1.2.1.2.2.2.2.2.1 (by omega), bi_ok, m_emit X2.1.2.1.2.2.2.2.2.1 (by omega), bi_ok]
        refine Eq.trans ?_ q2
        rw [← r2]
        exact mp
      have go : mLoop τ8 = mNx 1 τ10 := i3.go (Or.inr rfl) (by
        rw [rm_30, km_30_0, if_neg (by decide), if_neg (by decide), if_neg (by decide), if_neg (by decide), if_neg (by decide), if_neg (by decide), if_neg (by decide), if_neg (by decide), if_neg (by decide), if_neg (by decide), if_neg (by decide), if_neg (by decide), if_neg (by decide), if_neg (by decide), if_neg (by decide), if_neg (by decide), if_neg (by decide), if_neg (by decide), if_neg (by decide), if_neg (by decide), if_neg (by decide), rm_86, km_86_0, if_neg (by decide), if_pos rfl, e88, bi_ok, bi_ok]
        rfl)
      refine Or.inr ⟨σ10, τ10, p8, c10, m8 + 1 + 1 + ps.length + 1, wh8, F8, N8, ?_, ?_, q3, G6.tr (GX.tr (r4.tr q4)), (by omega), (by omega), fun σ2 τ2 L => ?_⟩
      · rw [i1, bv_ok, c_put3 Q1.1.2.1.2.2.2.2.1 (by omega), bi_ok]
        refine Eq.trans ?_ q1
        rw [← r1]
        exact cp
      · rw [i2, go, nx1 q3.2.1]
      · have L9 := q4.bk L
        have L3 := r4.bk L9
        have k3 := L3.gM (by omega)
        have L2 := X3.2.bk L3
        have k2 := L2.gM (by omega)
        have L1 := X2.2.bk L2
        have k1 := L1.gC (by omega)
        have La := Q1.2.bk (X1.2.bk L1)
        have Lb := P4.2.bk (P5.2.bk (P6.2.bk (i4.bk La)))
        have kb := Lb.gM (by omega)
        have ka := (P3.2.bk Lb).gC (by omega)
        refine seg_in [(f, c + 1, m + 1, 1 :: (List.replicate (2 * itN ps) 0 ++ 2 :: s), l, 50)] ⟨16, ka.1, kb.1, rfl⟩ (fun y hy => ?_)
        rw [List.mem_singleton.1 hy]
        refine (i9 σ2 τ2 La.1 (La.2.mo (by omega) (by omega) (by omega) (by omega))).tr (fun y hy => ?_)
        rw [hy]
        have hrw := i8.1
        refine seg_in [(f, c8 + 1, m8 + 2, List.replicate ps.length 0 ++ (List.replicate (2 * itN ps) 0 ++ 2 :: s), l, 50)] ⟨25, ps.length, r, List.replicate (2 * itN ps) 0 ++ 2 :: s, (by omega), hrw, rfl, k1.1, k1.2.1, k1.2.2.1, k2.1, by show τ2.1 23 m8 = σ2.1 26 c8; rw [k2.2.2.2, k1.2.2.2.2], k3.1, k3.2.1, rfl⟩ (fun y hy => ?_)
        rw [List.mem_singleton.1 hy]
        refine (r5 σ2 τ2 ⟨L9.1, L9.2.mo (by omega) (by omega) (by omega) (by omega)⟩).tr (fun y hy => ?_)
        rw [hy]
        exact q6 σ2 τ2 ⟨L.1, L.2.mo (by omega) (by omega) (by omega) (by omega)⟩
  · rw [if_neg hE, if_pos rfl, m_wrong P1.1.1.1 hp1 P1.1.2.1.2.1 P1.1.2.1.2.2.2.2.2.2.2.2.2, bi_ok]
    refine ⟨0, _, Or.inl rfl, rfl, Or.inl ?_⟩
    rw [nx0, rc_95, kc_95_0, kc_95_4, if_neg (by decide), c_beginsE P2.1.1.1 hp1 P2.1.2.1.1, bi_ok, if_neg hE, if_pos rfl, c_throw P2.1.1.1 hp1 P2.1.2.1.1]
    exact flt_bv (P1.1.flt hT5 2 (Or.inl rfl) _) _
