/-! called fors: their names -/
theorem or_sh : ∀ n : Fin 51, ∀ d : Fin 21, Int32.ofNat n.val ||| (Int32.ofNat d.val <<< ((8 : Int32) &&& 31)) = Int32.ofNat (n.val + 256 * d.val) := by decide +kernel
theorem fi_names {b : Nat → Int32} {n T : Nat} {Q : tkQ} {X : List Int32 → Prop} (hT5 : T ≤ 520) {FO0 : List fT} {nl rv : Nat} {fl : List Nat} {Z : List zT} {PL : List qT} {cl ml F : Nat} {N : List lT} {v c m wh : Nat} {W : List wT} {f : Nat} {l : List Nat} (hN : hdN N f l) {p1 : Nat} (slot x3 z1 : Int32) :
    ∀ (d i p : Nat) (σ τ : lj_S) (x5 : Value), T - p < d → p + 1 = p1 + 2 * i → 0 < i → (∀ j, j < i → (Q (p1 + 2 * j)).1 = 1) → PS b n T Q X F N (((nl + i, rv + i), fl) :: FO0) Z PL cl ml p v c m wh W σ τ →
    (∃ τ', lj_D lm_P lm_M46 85 [.ref 0, .int z1, .int (Int32.ofNat p1), .int slot, .int (Int32.ofNat i), .retAddr 0, .retAddr 0] [] τ = some (.inl (some (.int 0)), τ') ∧ fltR n (lj_D lc_P lc_M105 13 [.ref 6, .int (Int32.ofNat p1), .int slot, .int x3, .int (Int32.ofNat i), x5, .retAddr 0, .retAddr 0, .retAddr 0, .retAddr 0, .retAddr 0, .retAddr 0, .retAddr 0] [] σ) (mBad τ')) ∨
    ∃ (k p' : Nat) (σ' τ' : lj_S) (x5' : Value), 0 < k ∧ p' + 1 = p1 + 2 * k ∧ (∀ j, j < k → (Q (p1 + 2 * j)).1 = 1) ∧ (Q p').1 ≠ 68 ∧ lj_D lc_P lc_M105 13 [.ref 6, .int (Int32.ofNat p1), .int slot, .int x3, .int (Int32.ofNat i), x5, .retAddr 0, .retAddr 0, .retAddr 0, .retAddr 0, .retAddr 0, .retAddr 0, .retAddr 0] [] σ = lj_D lc_P lc_M105 13 [.ref 6, .int (Int32.ofNat p1), .int slot, .int x3, .int (Int32.ofNat k), x5', .retAddr 0, .retAddr 0, .retAddr 0, .retAddr 0, .retAddr 0, .retAddr 0, .retAddr 0] [] σ' ∧ lj_D lm_P lm_M46 85 [.ref 0, .int z1, .int (Int32.ofNat p1), .int slot, .int (Int32.ofNat i), .retAddr 0, .retAddr 0] [] τ = lj_D lm_P lm_M46 85 [.ref 0, .int z1, .int (Int32.ofNat p1), .int slot, .int (Int32.ofNat k), .retAddr 0, .retAddr 0] [] τ' ∧ PS b n T Q X F N (((nl + k, rv + k), fl) :: FO0) Z PL cl ml p' v c m wh W σ' τ' ∧ GR N N F F p p' c c m m σ τ σ' τ' := by
  intro d
  induction d with
  | zero => intro i p σ τ x5 h0; omega
  | succ d ih =>
  intro i p σ τ x5 hTp hp hi hnm h
  have hpT := h.2.2.1.1
  have h1 := h.2.1
  by_cases a68 : (Q p).1 = 68
  · have hlt : p < T := h.lt (by omega) (by omega)
    have hp1 : p + 1 ≤ T := hlt
    have P1 := h.st hlt
    have tk := c_take h.1.1 hpT h1.1 68 (by omega)
    rw [if_pos a68] at tk
    have sg := m_isSign h.1.1 hpT h1.2.1 28 (by omega) 44 rfl
    rw [if_pos (show (Q p).1 = 40 + 28 by omega)] at sg
    have hk := tk_lt P1.1.1.1 hp1
    obtain ⟨hin, hkk, hvv⟩ := m_kindv P1.1.1.1 hp1 P1.1.2.1.2.1
    have t1 : ∀ k : Fin 70, ((tkk k.val = 1) ↔ k.val = 1) := by decide
    have t1' := t1 ⟨(Q (p + 1)).1, hk⟩
    rw [km_46_85, sg, bi_ok, if_neg (by decide), m_take h.1.1 hpT h1.2.1 (by omega), bi_ok, if_neg (by decide), if_pos hin, hkk, kc_105_13, show lj_R lc_P 84 [.ref 6, .int 68] σ = _ from tk, bi_ok, if_neg (show ¬ ((1 : Int32) = 0) by decide), c_kind P1.1.1.1 hp1 P1.1.2.1.1, bi_ok]
    by_cases a1 : (Q (p + 1)).1 = 1
    · have hlt1 : p + 1 < T := P1.1.lt (by omega) (by omega)
      rw [if_pos (show tkk (Q (p + 1)).1 = 1 from t1'.2 a1), if_pos (show Int32.ofNat (Q (p + 1)).1 = 1 by rw [a1]; rfl), P1.1.2.1.1, m_here P1.1.1.1 hp1 P1.1.2.1.2.1, bi_ok]
      rcases cm_decl P1.1 hN (t := p + 1) hp1 hT5 with ⟨q1, q2, q3⟩ | ⟨q1, q2, q3, q4, q5⟩
      · rw [q2, q3, bi_ok, if_pos (by decide), km_46_139]
        refine Or.inl ⟨_, rfl, ?_⟩
        have c14 := P1.1.c14 hT5
        exact flt_mk P1.1.2.1.2.2.2.2.2.1 (by omega) (Or.inr (Or.inr (Or.inl rfl))) (P1.1.1.1.2.2.2.2.1 (p + 1) hp1).2.2.2.2.1
      · have P2 := q4.stR hlt1
        have P3 : PS b n T Q X F N (((nl + (i + 1), rv + (i + 1)), fl) :: FO0) Z PL cl ml (p + 1 + 1) v c m wh W _ _ := P2.1.rvd (by omega)
        rw [q2, bi_ok, q3, bi_ok, if_neg (ofN_nneg (by omega)), c_step q4.1.1 hp1 q4.2.1.1, bv_ok, m_take q4.1.1 hp1 q4.2.1.2.1 (by omega), bi_ok, if_neg (by decide), lz_osucc]
        rcases ih (i + 1) (p + 2) _ _ (.int (Int32.ofNat (nl + i))) (by omega) (by omega) (by omega) (fun j hj => by
          by_cases e : j = i
          · rw [e, ← hp]; exact a1
          · exact hnm j (by omega)) P3 with ⟨τ', r1, r2⟩ | ⟨k, p', σ', τ', x5', r1, r2, r3, r3', r4, r5, r6, r7⟩
        · exact Or.inl ⟨τ', r1, r2⟩
        · exact Or.inr ⟨k, p', σ', τ', x5', r1, r2, r3, r3', r4, r5, r6, P1.2.tr (q5.tr (P2.2.tr r7))⟩
    · rw [if_neg (show ¬ tkk (Q (p + 1)).1 = 1 from fun z => a1 (t1'.1 z)), if_neg (show ¬ Int32.ofNat (Q (p + 1)).1 = 1 from fun z => a1 ((ofN_eq (c := 1) (by omega) (by omega)).1 z)), c_throw P1.1.1.1 hp1 P1.1.2.1.1, m_wrong P1.1.1.1 hp1 P1.1.2.1.2.1 P1.1.2.1.2.2.2.2.2.2.2.2.2, bi_ok]
      exact Or.inl ⟨_, rfl, P1.1.flt hT5 2 (Or.inl rfl) _⟩
  · exact Or.inr ⟨i, p, σ, τ, x5, hi, hp, hnm, a68, rfl, rfl, h, GR_rf _ _ _ _ _ _ _⟩
/-- they are known, in both -/
theorem fi_knows {b : Nat → Int32} {n T : Nat} {Q : tkQ} {X : List Int32 → Prop} (hT5 : T ≤ 520) {FO0 : List fT} {nl rv k : Nat} {fl : List Nat} {Z : List zT} {PL : List qT} {cl ml F : Nat} {p v c m wh : Nat} {W : List wT} {f : Nat} {l : List Nat} {p1 : Nat} (hp1 : p1 + 2 * k ≤ T + 1) (hnm : ∀ j, j < k → (Q (p1 + 2 * j)).1 = 1) (hl : ∀ y ∈ l, y < nl) {N0 : List lT} {F0 p0 c0 m0 : Nat} {σ0 τ0 : lj_S} (y3 y5 y6 y7 y8 y9 y10 y11 z1 z3 z6 z7 : Int32) :
    ∀ (r i : Nat) (N : List lT) (σ τ : lj_S) (e : List kT), i + r = k → PS b n T Q X F N (((nl + k, rv + r), fl) :: FO0) Z PL cl ml p v c m wh W σ τ → GS e N0 N F0 F p0 p c0 c m0 m σ0 τ0 σ τ → hdN N f (e.map (·.2.2) ++ l) → e.map (·.2.2) = ((List.range i).map (nl + ·)).reverse →
    ∃ σ' τ' N' e', lj_D lc_P lc_M105 307 [.ref 6, .int (Int32.ofNat p1), .int (Int32.ofNat nl), .int y3, .int (Int32.ofNat k), .int y5, .int y6, .int y7, .int y8, .int y9, .int y10, .int y11, .int (Int32.ofNat i)] [] σ = lj_D lc_P lc_M105 307 [.ref 6, .int (Int32.ofNat p1), .int (Int32.ofNat nl), .int y3, .int (Int32.ofNat k), .int y5, .int y6, .int y7, .int y8, .int y9, .int y10, .int y11, .int (Int32.ofNat k)] [] σ' ∧ lj_D lm_P lm_M101 114 [.ref 0, .int z1, .int (Int32.ofNat p1), .int z3, .int (Int32.ofNat k), .int (Int32.ofNat nl), .int z6, .int z7, .int (Int32.ofNat i)] [] τ = lj_D lm_P lm_M101 114 [.ref 0, .int z1, .int (Int32.ofNat p1), .int z3, .int (Int32.ofNat k), .int (Int32.ofNat nl), .int z6, .int z7, .int (Int32.ofNat k)] [] τ' ∧ PS b n T Q X F N' (((nl + k, rv), fl) :: FO0) Z PL cl ml p v c m wh W σ' τ' ∧ GS e' N0 N' F0 F p0 p c0 c m0 m σ0 τ0 σ' τ' ∧ hdN N' f (e'.map (·.2.2) ++ l) ∧ e'.map (·.2.2) = ((List.range k).map (nl + ·)).reverse := by
  intro r
  induction r with
  | zero =>
    intro i N σ τ e hi h g hN he
    have hi : i = k := hi
    subst hi
    exact ⟨σ, τ, N, e, rfl, rfl, h, g, hN, he⟩
  | succ r ih =>
    intro i N σ τ e hi h g hN he
    have hT520 := h.1.1.2.2.1
    have hn520 := h.1.1.2.1
    have hq : p1 + 2 * i ≤ T := by omega
    have a1 := hnm i (by omega)
    obtain ⟨t1, t2, t3, t4, t5⟩ := (h.1.1.2.2.2.2.1 _ hq).2.2.2.2.2.2.2.2.1 (Or.inl a1)
    obtain ⟨σ1, τ1, N1, r1, r2, r3, r4, r5, r6, r7⟩ := cm_know (rv := rv + r) h hN (x := nl + i) (by omega) (fun y hy => by
      rcases List.mem_append.1 hy with w | w
      · rw [he, List.mem_reverse, List.mem_map] at w
        obtain ⟨a, ha, rfl⟩ := w
        have := List.mem_range.1 ha
        omega
      · have := hl y w; omega) (Or.inl ⟨t1, t5⟩) (Or.inl t1) t2 hT5
    have hx := lvY_hd hN r4.2.1
    have he1 : (((Q (p1 + 2 * i)).2.2.1, (Q (p1 + 2 * i)).2.2.2, nl + i) :: e).map (·.2.2) = ((List.range (i + 1)).map (nl + ·)).reverse := by
      rw [List.map_cons, he, List.range_succ, List.map_append, List.reverse_append]
      rfl
    obtain ⟨σ', τ', N', e', q1, q2, q3, q4, q5, q6⟩ := ih (i + 1) N1 σ1 τ1 (((Q (p1 + 2 * i)).2.2.1, (Q (p1 + 2 * i)).2.2.2, nl + i) :: e) (by omega) r3 (g.tr r4) hx he1
    refine ⟨σ', τ', N', e', ?_, ?_, q3, q4, q5, q6⟩
    · rw [← q1, kc_105_307, if_neg (by rw [lz_le, lz_lit (by omega), lz_lit (by omega)]; omega), ofN_two, if_pos (ofN_in (by omega) (by omega)), lz_onat (by omega), t3, Int32.toInt32_toInt64, ofN_add', r1, bv_ok, lz_osucc]
    · rw [← q2, km_101_114, if_neg (by rw [lz_le, lz_lit (by omega), lz_lit (by omega)]; omega), ofN_two, if_pos (ofN_in (by omega) (by omega)), lz_onat (by omega), t4, Int32.toInt32_toInt64, ofN_add', r2, bv_ok, lz_osucc]
