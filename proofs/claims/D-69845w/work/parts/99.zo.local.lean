/-! local: its names, what is laid for them, what is known then -/
theorem ofN_m1 : ∀ j : Nat, Int32.ofNat j + (-1) = Int32.ofNat j - 1
  | 0 => by decide
  | j + 1 => by rw [lz_pred, lz_pred']
theorem ofN_add' (a d : Nat) : Int32.ofNat a + Int32.ofNat d = Int32.ofNat (a + d) := (Int32.ofNat_add a d).symm
theorem ofN_two (p i : Nat) : Int32.ofNat p + 2 * Int32.ofNat i = Int32.ofNat (p + 2 * i) := by
  have : (2 : Int32) * Int32.ofNat i = Int32.ofNat (2 * i) := (Int32.ofNat_mul 2 i).symm
  rw [this, ofN_add']
/-- names of locals, in both -/
theorem cm_names {b : Nat → Int32} {n T : Nat} {Q : tkQ} {X : List Int32 → Prop} (hT5 : T ≤ 520) {FO0 : List fT} {nl rv : Nat} {fl : List Nat} {Z : List zT} {PL : List qT} {cl ml F : Nat} {N : List lT} {v c m wh : Nat} {W : List wT} {f : Nat} {l : List Nat} (hN : hdN N f l) {p1 : Nat} (slot : Int32) :
    ∀ (d i p : Nat) (σ τ : lj_S) (x4 : Value), T - p < d → p = p1 + 2 * i → (∀ j, j < i → (Q (p1 + 2 * j)).1 = 1) → PS b n T Q X F N (((nl + i, rv + i), fl) :: FO0) Z PL cl ml p v c m wh W σ τ →
    (∃ τ', lj_D lm_P lm_M54 136 [.ref 0, .int (Int32.ofNat p1), .int (Int32.ofNat i), .int slot, .int 1, .retAddr 0, .retAddr 0] [] τ = some (.inl (some (.int 0)), τ') ∧ fltR n (lj_D lc_P lc_M108 110 [.ref 6, .int (Int32.ofNat p1), .int (Int32.ofNat i), .int 1, x4, .retAddr 0, .retAddr 0] [] σ) (mBad τ')) ∨
    ∃ (k p' : Nat) (σ' τ' : lj_S) (x4' : Value), 0 < k ∧ p' + 1 = p1 + 2 * k ∧ (∀ j, j < k → (Q (p1 + 2 * j)).1 = 1) ∧ lj_D lc_P lc_M108 110 [.ref 6, .int (Int32.ofNat p1), .int (Int32.ofNat i), .int 1, x4, .retAddr 0, .retAddr 0] [] σ = lj_D lc_P lc_M108 110 [.ref 6, .int (Int32.ofNat p1), .int (Int32.ofNat k), .int 0, x4', .retAddr 0, .retAddr 0] [] σ' ∧ lj_D lm_P lm_M54 136 [.ref 0, .int (Int32.ofNat p1), .int (Int32.ofNat i), .int slot, .int 1, .retAddr 0, .retAddr 0] [] τ = lj_D lm_P lm_M54 136 [.ref 0, .int (Int32.ofNat p1), .int (Int32.ofNat k), .int slot, .int 0, .retAddr 0, .retAddr 0] [] τ' ∧ PS b n T Q X F N (((nl + k, rv + k), fl) :: FO0) Z PL cl ml p' v c m wh W σ' τ' ∧ GR N N F F p p' c c m m σ τ σ' τ' := by
  intro d
  induction d with
  | zero => intro i p σ τ x4 h0; omega
  | succ d ih =>
  intro i p σ τ x4 hTp hp hnm h
  have hpT := h.2.2.1.1
  have h1 := h.2.1
  have hk := tk_lt h.1.1 hpT
  obtain ⟨hin, hkk, hvv⟩ := m_kindv h.1.1 hpT h1.2.1
  have t1 : ∀ k : Fin 70, ((tkk k.val = 1) ↔ k.val = 1) := by decide
  have t1' := t1 ⟨(Q p).1, hk⟩
  rw [km_54_136, if_neg (show ¬ ((1 : Int32) = 0) by decide), if_pos hin, hkk, kc_108_110, if_neg (show ¬ ((1 : Int32) = 0) by decide), c_kind h.1.1 hpT h1.1, bi_ok]
  by_cases a1 : (Q p).1 = 1
  · have hlt : p < T := h.lt (by omega) (by omega)
    rw [if_pos (show tkk (Q p).1 = 1 from t1'.2 a1), if_pos (show Int32.ofNat (Q p).1 = 1 by rw [a1]; rfl), h1.1, m_here h.1.1 hpT h1.2.1, bi_ok]
    rcases cm_decl h hN (t := p) hpT hT5 with ⟨q1, q2, q3⟩ | ⟨q1, q2, q3, q4, q5⟩
    · rw [q2, q3, bi_ok, if_pos (by decide), km_54_177]
      refine Or.inl ⟨_, rfl, ?_⟩
      have c14 := h.c14 hT5
      exact flt_mk h1.2.2.2.2.2.1 (by omega) (Or.inr (Or.inr (Or.inl rfl))) (h.1.1.2.2.2.2.1 p hpT).2.2.2.2.1
    · have P2 := q4.stR hlt
      have P3 : PS b n T Q X F N (((nl + (i + 1), rv + (i + 1)), fl) :: FO0) Z PL cl ml (p + 1) v c m wh W _ _ := P2.1.rvd (by omega)
      have hp1 : p + 1 ≤ T := hlt
      have tk := c_take P3.1.1 hp1 P3.2.1.1 68 (by omega)
      have sg := m_isSign P3.1.1 hp1 P3.2.1.2.1 28 (by omega) 44 rfl
      rw [q2, bi_ok, q3, bi_ok, if_neg (ofN_nneg (by omega)), c_step q4.1.1 hpT q4.2.1.1, bv_ok, m_take q4.1.1 hpT q4.2.1.2.1 (by omega), bi_ok, if_neg (by decide), sg, bi_ok, lz_osucc]
      by_cases a68 : (Q (p + 1)).1 = 68
      · have hlt1 : p + 1 < T := P3.lt (by omega) (by omega)
        have P4 := P3.st hlt1
        rw [if_pos a68] at tk
        rw [show lj_R lc_P 84 [.ref 6, .int 68] _ = _ from tk, bi_ok, if_pos (show (Q (p + 1)).1 = 40 + 28 by omega), if_neg (by decide), m_take P3.1.1 hp1 P3.2.1.2.1 (by omega), bi_ok, if_neg (by decide)]
        rcases ih (i + 1) (p + 2) _ _ (.int (Int32.ofNat (nl + i))) (by omega) (by omega) (fun j hj => by
          by_cases e : j = i
          · rw [e, ← hp]; exact a1
          · exact hnm j (by omega)) P4.1 with ⟨τ', r1, r2⟩ | ⟨k, p', σ', τ', x4', r1, r2, r3, r4, r5, r6, r7⟩
        · exact Or.inl ⟨τ', r1, r2⟩
        · exact Or.inr ⟨k, p', σ', τ', x4', r1, r2, r3, r4, r5, r6, q5.tr (P2.2.tr (P4.2.tr r7))⟩
      · rw [if_neg a68] at tk
        rw [show lj_R lc_P 84 [.ref 6, .int 68] _ = _ from tk, bi_ok, if_neg (show ¬ (Q (p + 1)).1 = 40 + 28 by omega), if_pos rfl]
        refine Or.inr ⟨i + 1, p + 1, _, _, .int (Int32.ofNat (nl + i)), (by omega), (by omega), fun j hj => ?_, rfl, rfl, P3, q5.tr P2.2⟩
        by_cases e : j = i
        · rw [e, ← hp]; exact a1
        · exact hnm j (by omega)
  · rw [if_neg (show ¬ tkk (Q p).1 = 1 from fun z => a1 (t1'.1 z)), if_neg (show ¬ Int32.ofNat (Q p).1 = 1 from fun z => a1 ((ofN_eq (c := 1) (by omega) (by omega)).1 z)), c_throw h.1.1 hpT h1.1, m_wrong h.1.1 hpT h1.2.1 h1.2.2.2.2.2.2.2.2.2, bi_ok]
    exact Or.inl ⟨_, rfl, h.flt hT5 2 (Or.inl rfl) _⟩
/-- the acts that set them, last one first -/
theorem cm_sets {b : Nat → Int32} {n T : Nat} {Q : tkQ} {X : List Int32 → Prop} (hT5 : T ≤ 520) {FO : List fT} {nl : Nat} {Z : List zT} {PL : List qT} {cl ml F : Nat} {N : List lT} {p v wh : Nat} {W : List wT} {f : Nat} (y1 y2 y3 y4 z1 z2 z3 : Int32) :
    ∀ (j c m : Nat) (σ τ : lj_S) (x5 : Int32), PS b n T Q X F N FO Z PL cl ml p v c m wh W σ τ → nl + j ≤ 50 → c + j ≤ 25 * p + 100 → m + j ≤ 25 * p + 100 →
    ∃ σ' τ' x5', lj_D lc_P lc_M108 231 [.ref 6, .int y1, .int y2, .int y3, .int y4, .int (Int32.ofNat nl), .int (Int32.ofNat j - 1)] [] σ = lj_D lc_P lc_M108 264 [.ref 6, .int y1, .int y2, .int y3, .int y4, .int (Int32.ofNat nl), .int 0] [] σ' ∧ lj_D lm_P lm_M56 34 [.ref 0, .int z1, .int z2, .int z3, .int (Int32.ofNat nl), .int x5, .int (Int32.ofNat j - 1)] [] τ = lj_D lm_P lm_M56 63 [.ref 0, .int z1, .int z2, .int z3, .int (Int32.ofNat nl), .int x5', .int 0] [] τ' ∧ PS b n T Q X F N FO Z PL cl ml p v (c + j) (m + j) wh W σ' τ' ∧ GR N N F F p p c (c + j) m (m + j) σ τ σ' τ' ∧
      ∀ σ2 τ2, LT N c (c + j) m (m + j) σ' τ' σ2 τ2 → ∀ (s l1 l2 : List Nat), 0 < j → sB (List.replicate j 0 ++ s) → (∀ y ∈ l1, y < nl ∨ nl + j ≤ y) → ((nl + j : Nat) : Int) ≤ lv σ2 31 f → (∀ y, y ∈ l2 ↔ (nl ≤ y ∧ y < nl + j) ∨ y ∈ l1) → seg σ2 τ2 (f, c, m, List.replicate j 0 ++ s, l1, 50) (fun y => y = (f, c + j, m + j, s, l2, 50)) := by
  intro j
  induction j with
  | zero =>
    intro c m σ τ x5 h _ _ _
    exact ⟨σ, τ, x5, by rw [kc_108_231, if_pos (by decide)], by rw [km_56_34, if_pos (by decide)], h, GR_rf _ _ _ _ _ _ _, fun _ _ _ _ _ _ q _ _ _ _ => absurd q (Nat.lt_irrefl 0)⟩
  | succ j ih =>
    intro c m σ τ x5 h hj hc hm
    have c14 := h.c14 hT5
    have P1 := h.C (by omega) hT5 9 (Int32.ofNat (nl + j)) 0 0 0
    have P2 := P1.1.M (by omega) 19 (Int32.ofNat (nl + j)) 0 0
    obtain ⟨σ', τ', x5', r1, r2, r3, r4, r5⟩ := ih (c + 1) (m + 1) _ _ (Int32.ofNat m) P2.1 (by omega) (by omega) (by omega)
    have ec : c + 1 + j = c + (j + 1) := by omega
    have em : m + 1 + j = m + (j + 1) := by omega
    rw [ec, em] at r3 r4 r5
    refine ⟨σ', τ', x5', ?_, ?_, r3, P1.2.tr (P2.2.tr r4), fun σ2 τ2 L s l1 l2 _ hsB hl1 h31 hl => ?_⟩
    · rw [lz_pred', kc_108_231, if_neg (ofN_nneg (by omega)), ofN_add', c_put3 h.2.1.2.2.2.2.1 (by omega), bi_ok, ofN_m1]; exact r1
    · rw [lz_pred', km_56_34, if_neg (ofN_nneg (by omega)), ofN_add', m_emit h.2.1.2.2.2.2.2.1 (by omega), bi_ok, ofN_m1]; exact r2
    · have La := r4.bk L
      have Lb := P2.2.bk La
      have k1 := Lb.gC (by omega)
      have k2 := La.gM (by omega)
      have hx50 : nl + j < 50 ∧ nl + j ∉ l1 ∧ ((nl + j : Nat) : Int) < lv σ2 31 f := ⟨by omega, fun w => by have := hl1 _ w; omega, by omega⟩
      by_cases j0 : j = 0
      · subst j0
        refine seg_in [(f, c + 1, m + 1, s, l2, 50)] ⟨9, nl + 0, s, l2, hx50, rfl, fun y => ?_, k1.1, k1.2.1, k2.1, k2.2.1, rfl⟩ (fun y hy => ?_) (sk0 hsB)
        · show y ∈ l2 ↔ y = nl + 0 ∨ y ∈ l1
          rw [hl y]
          constructor
          · rintro (q | q)
            · exact Or.inl (by omega)
            · exact Or.inr q
          · rintro (q | q)
            · exact Or.inl (by omega)
            · exact Or.inr q
        · rw [List.mem_singleton.1 hy]; exact seg_ex rfl
      · refine seg_in [(f, c + 1, m + 1, List.replicate j 0 ++ s, (nl + j) :: l1, 50)] ⟨9, nl + j, List.replicate j 0 ++ s, (nl + j) :: l1, hx50, rfl, fun y => List.mem_cons, k1.1, k1.2.1, k2.1, k2.2.1, rfl⟩ (fun y hy => ?_) (sk0 hsB)
        rw [List.mem_singleton.1 hy]
        refine r5 σ2 τ2 ⟨L.1, L.2.mo (by omega) (by omega) (by omega) (by omega)⟩ s _ l2 (by omega) (sB.tl (x := 0) hsB) (fun y hy => by
          rcases List.mem_cons.1 hy with w | w
          · right; omega
          · have := hl1 y w; omega) (by omega) (fun y => ?_)
        rw [hl y, List.mem_cons]
        constructor
        · rintro (q | q)
          · by_cases e : y = nl + j
            · exact Or.inr (Or.inl e)
            · exact Or.inl (by omega)
          · exact Or.inr (Or.inr q)
        · rintro (q | q | q)
          · exact Or.inl (by omega)
          · exact Or.inl (by omega)
          · exact Or.inr q
theorem cm_knows {b : Nat → Int32} {n T : Nat} {Q : tkQ} {X : List Int32 → Prop} (hT5 : T ≤ 520) {FO0 : List fT} {nl rv k : Nat} {fl : List Nat} {Z : List zT} {PL : List qT} {cl ml F : Nat} {p v c m wh : Nat} {W : List wT} {f : Nat} {l : List Nat} {p1 : Nat} (hp1 : p1 + 2 * k ≤ T + 1) (hnm : ∀ j, j < k → (Q (p1 + 2 * j)).1 = 1) (hl : ∀ y ∈ l, y < nl) {N0 : List lT} {F0 p0 c0 m0 : Nat} {σ0 τ0 : lj_S} (y3 y4 z1 : Int32) :
    ∀ (r i : Nat) (N : List lT) (σ τ : lj_S) (e : List kT) (x5 : Int32), i + r = k → PS b n T Q X F N (((nl + k, rv + r), fl) :: FO0) Z PL cl ml p v c m wh W σ τ → GS e N0 N F0 F p0 p c0 c m0 m σ0 τ0 σ τ → hdN N f (e.map (·.2.2) ++ l) → (∀ y, y ∈ e.map (·.2.2) ↔ nl ≤ y ∧ y < nl + i) →
    ∃ σ' τ' N' e', lj_D lc_P lc_M108 264 [.ref 6, .int (Int32.ofNat p1), .int (Int32.ofNat k), .int y3, .int y4, .int (Int32.ofNat nl), .int (Int32.ofNat i)] [] σ = some (.inl none, σ') ∧ lj_D lm_P lm_M56 63 [.ref 0, .int z1, .int (Int32.ofNat p1), .int (Int32.ofNat k), .int (Int32.ofNat nl), .int x5, .int (Int32.ofNat i)] [] τ = some (.inl (some (.int 1)), τ') ∧ PS b n T Q X F N' (((nl + k, rv), fl) :: FO0) Z PL cl ml p v c m wh W σ' τ' ∧ GS e' N0 N' F0 F p0 p c0 c m0 m σ0 τ0 σ' τ' ∧ ∀ y, y ∈ e'.map (·.2.2) ↔ nl ≤ y ∧ y < nl + k := by
  intro r
  induction r with
  | zero =>
    intro i N σ τ e x5 hi h g _ he
    have hi : i = k := hi
    subst hi
    exact ⟨σ, τ, N, e, by rw [kc_108_264, if_pos (by rw [lz_le]; exact Int.le_refl _)], by rw [km_56_63, if_pos (by rw [lz_le]; exact Int.le_refl _)], h, g, he⟩
  | succ r ih =>
    intro i N σ τ e x5 hi h g hN he
    have hT520 := h.1.1.2.2.1
    have hn520 := h.1.1.2.1
    have hq : p1 + 2 * i ≤ T := by omega
    have a1 := hnm i (by omega)
    obtain ⟨t1, t2, t3, t4, t5⟩ := (h.1.1.2.2.2.2.1 _ hq).2.2.2.2.2.2.2.2.1 (Or.inl a1)
    obtain ⟨σ1, τ1, N1, r1, r2, r3, r4, r5, r6, r7⟩ := cm_know (rv := rv + r) h hN (x := nl + i) (by omega) (fun y hy => by
      rcases List.mem_append.1 hy with w | w
      · exact ((he y).1 w).2
      · have := hl y w; omega) (Or.inl ⟨t1, t5⟩) (Or.inl t1) t2 hT5
    have hx := lvY_hd hN r4.2.1
    obtain ⟨σ', τ', N', e', q1, q2, q3, q4, q5⟩ := ih (i + 1) N1 σ1 τ1 ([((Q (p1 + 2 * i)).2.2.1, (Q (p1 + 2 * i)).2.2.2, nl + i)] ++ e) x5 (by omega) r3 (g.tr r4) hx (fun y => by
      show y ∈ (nl + i) :: e.map (·.2.2) ↔ _
      rw [List.mem_cons, he y]
      constructor
      · rintro (q | q) <;> exact ⟨(by omega), (by omega)⟩
      · intro q
        by_cases w : y = nl + i
        · exact Or.inl w
        · exact Or.inr ⟨(by omega), (by omega)⟩)
    refine ⟨σ', τ', N', e', ?_, ?_, q3, q4, q5⟩
    · rw [kc_108_264, if_neg (by rw [lz_le, lz_lit (by omega), lz_lit (by omega)]; omega), ofN_two, if_pos (ofN_in (by omega) (by omega)), lz_onat (by omega), t3, Int32.toInt32_toInt64, ofN_add', r1, bv_ok, lz_osucc]; exact q1
    · rw [km_56_63, if_neg (by rw [lz_le, lz_lit (by omega), lz_lit (by omega)]; omega), ofN_two, if_pos (ofN_in (by omega) (by omega)), lz_onat (by omega), t4, Int32.toInt32_toInt64, ofN_add', r2, bv_ok, lz_osucc]; exact q2
