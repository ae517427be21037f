/-! the model's cells: all marked, the free ones gathered, one taken -/
theorem addm1 (d : Nat) : Int32.ofNat (d + 1) + (-1) = Int32.ofNat d := by
  rw [← lz_osucc, Int32.add_assoc, show (1 : Int32) + -1 = 0 by decide, Int32.add_zero]
theorem m_mk_0 (x2 x3 x4 : Value) : ∀ (d c : Nat) (τ : lj_S), c + d = 95000 → (∀ b, b < c → τ.1 56 b = 0) → ∃ τ', lj_D lm_P lm_M115 2 [.ref 0, .int (Int32.ofNat c), .retAddr 0, .retAddr 0, .retAddr 0] [] τ = lj_D lm_P lm_M115 23 [.ref 0, .int 0, .retAddr 0, .retAddr 0, .retAddr 0] [] τ' ∧ lf (fun k _ => k == 56) τ τ' ∧ ∀ b, b < 95000 → τ'.1 56 b = 0
  | 0, c, τ, hd, hb => by
    refine ⟨τ, ?_, lf_rf _ _, fun b h => hb b (by omega)⟩
    have q : (95000 : Int32) ≤ Int32.ofNat c := (ofN_le (a := 95000) (b := c) (by omega) (by omega)).2 (by omega)
    rw [km_115_2, if_pos q]
  | d + 1, c, τ, hd, hb => by
    obtain ⟨τ', e1, e2, e3⟩ := m_mk_0 x2 x3 x4 d (c + 1) (lj_put τ 56 c (vp_nar .boolean 0)) (by omega) (fun b h => by
      rw [lj_put_1]
      by_cases z : b = c
      · rw [if_pos ⟨rfl, z⟩]; rfl
      · rw [if_neg (fun y => z y.2)]; exact hb b (by omega))
    refine ⟨τ', ?_, (lf_put (lf_rf _ _) 56 c _ rfl).tr e2, e3⟩
    rw [km_115_2, if_neg (fun y => by have := (ofN_le (a := 95000) (by omega) (by omega)).1 y; omega), if_pos (ofN_in (by omega) (by omega)), lz_onat (by omega), lz_osucc, e1]
/-- what refers to a cell -/
def rfM (τ : lj_S) (np n : Nat) (len : Nat → Nat) (c : Nat) : Prop := c < 95000 ∧ ((∃ q', q' ≤ np ∧ ∃ i', i' < len q' ∧ τ.1 74 (48 * q' + i') = 0 ∧ ∃ y, y < 50 ∧ τ.1 87 (50 * (48 * q' + i') + y) = Int32.ofNat c) ∨ ∃ o', 1 ≤ o' ∧ o' ≤ n ∧ τ.1 38 o' = 5 ∧ ∃ f cn : Nat, f < 51 ∧ τ.1 43 o' = Int32.ofNat f ∧ cn ≤ 30 ∧ τ.1 15 f = Int32.ofNat cn ∧ ∃ k, k < cn ∧ τ.1 44 (30 * o' + k) = Int32.ofNat c)
/-- all that refers to cells is in order -/
def rfA (τ : lj_S) (np n : Nat) (len : Nat → Nat) : Prop := np ≤ 25 ∧ n ≤ 2000 ∧ τ.1 0 110 = Int32.ofNat np ∧ τ.1 0 77 = Int32.ofNat n ∧ (∀ q, q ≤ np → τ.1 62 q = Int32.ofNat (len q) ∧ len q ≤ 20) ∧ (∀ q, q ≤ np → ∀ i, i < len q → τ.1 74 (48 * q + i) = 0 → ∀ y, y < 50 → gdc (τ.1 87 (50 * (48 * q + i) + y))) ∧ obF τ n
theorem m_markCells {τ : lj_S} {np n : Nat} {len : Nat → Nat} (h : rfA τ np n len) : ∃ τ', lj_R lm_P 115 [.ref 0] τ = some (.inl none, τ') ∧ lf (fun k _ => k == 56) τ τ' ∧ (∀ c, rfM τ np n len c → τ'.1 56 c ≠ 0) ∧ ∃ M : List Nat, M.length ≤ 86000 ∧ ∀ c, c < 95000 → τ'.1 56 c ≠ 0 → c ∈ M := by
  obtain ⟨h1, h2, h3, h4, h5, h6, h7⟩ := h
  obtain ⟨τ1, a1, a2, a3⟩ := m_mk_0 (.retAddr 0) (.retAddr 0) (.retAddr 0) 95000 0 τ rfl (fun b h => absurd h (by omega))
  have e1 : ∀ k j, k ≠ 56 → τ1.1 k j = τ.1 k j := fun k j z => (a2 k j (beq_eq_false_iff_ne.2 z)).1
  obtain ⟨τ2, y2, y3, y4, b1, b2⟩ := m_mk_ps h1 (len := len) (np + 1) 0 τ1 (.retAddr 0) (.retAddr 0) (.retAddr 0) (by omega) (by rw [e1 0 110 (by omega)]; exact h3) (fun q hq => by rw [e1 62 q (by omega)]; exact h5 q hq) (fun q hq i hi t y hy => by rw [e1 74 _ (by omega)] at t; rw [e1 87 _ (by omega)]; exact h6 q hq i hi t y hy)
  have e2 : ∀ k j, k ≠ 56 → τ2.1 k j = τ.1 k j := fun k j z => by rw [b2.e z, e1 k j z]
  obtain ⟨τ3, c1, c2⟩ := m_mk_os h2 n 1 τ2 y2 y3 y4 (by omega) (Nat.le_refl _) (by rw [e2 0 77 (by omega)]; exact h4) (fun o o1 o2 o3 => by
    rw [e2 38 o (by omega)] at o3
    obtain ⟨f', cn', g1, g2, g3, g4, g5⟩ := h7 o o1 o2 o3
    exact ⟨f', cn', g1, by rw [e2 43 o (by omega)]; exact g2, g3, by rw [e2 15 f' (by omega)]; exact g4, fun k hk => by rw [e2 44 _ (by omega)]; exact g5 k hk⟩)
  have t3 := b2.tr c2
  refine ⟨τ3, ?_, a2.tr t3.1, fun c w => t3.2.2.1 c ?_, ?_⟩
  · have a1 : lj_D lm_P lm_M115 2 [.ref 0, .int 0, .retAddr 0, .retAddr 0, .retAddr 0] [] τ = _ := a1
    have b1 : lj_D lm_P lm_M115 23 [.ref 0, .int 0, .retAddr 0, .retAddr 0, .retAddr 0] [] τ1 = _ := b1
    have c1 : lj_D lm_P lm_M115 122 [.ref 0, .int 1, y2, y3, y4] [] τ2 = _ := c1
    rw [rm_115, km_115_0, a1, b1, c1]
  · obtain ⟨w1, w⟩ := w
    rcases w with ⟨q', q1, i', i1, i2, y, y1, y2⟩ | ⟨o', o1, o2, o3, f, cn, g1, g2, g3, g4, k, k1, k2⟩
    · exact Or.inl ⟨w1, q', Nat.zero_le _, q1, i', i1, by rw [e1 74 _ (by omega)]; exact i2, y, y1, by rw [e1 87 _ (by omega)]; exact y2⟩
    · exact Or.inr ⟨w1, o', o1, o2, by rw [e2 38 _ (by omega)]; exact o3, f, cn, g1, by rw [e2 43 _ (by omega)]; exact g2, g3, by rw [e2 15 _ (by omega)]; exact g4, k, k1, by rw [e2 44 _ (by omega)]; exact k2⟩
  · obtain ⟨_, _, _, M, m1, m2⟩ := t3
    exact ⟨M, by omega, fun c hc w => (m2 c w).resolve_left (fun z => z (a3 c hc))⟩
/-- the free ones are gathered -/
theorem m_free (x1 : Int32) (x2 : Int64) : ∀ (d : Nat) (τ : lj_S) (Fc : List Nat), Fc.length + d ≤ 95000 → fcM τ Fc → τ.1 0 96 = Int32.ofNat Fc.length → Fc.Nodup → (∀ c ∈ Fc, d ≤ c ∧ c < 95000 ∧ τ.1 56 c = 0) → d ≤ 95000 → ∃ τ' Fc', lj_D lm_P lm_M114 16 [.ref 0, .int x1, .long x2, .retAddr 0, .int (Int32.ofNat d + (-1))] [] τ = lj_D lm_P lm_M114 58 [.ref 0, .int x1, .long x2, .retAddr 0, .int (-1)] [] τ' ∧ fcM τ' Fc' ∧ τ'.1 0 96 = Int32.ofNat Fc'.length ∧ Fc'.length ≤ 95000 ∧ Fc'.Nodup ∧ (∀ c ∈ Fc', c < 95000 ∧ τ.1 56 c = 0) ∧ (∀ c, c < d ∨ c ∈ Fc → τ.1 56 c = 0 → c ∈ Fc') ∧ lf (fun k j => k == 57 || (k == 0 && j == 96)) τ τ'
  | 0, τ, Fc, hl, h1, h2, h3, h4, _ => by
    refine ⟨τ, Fc, ?_, h1, h2, by omega, h3, fun c hc => (h4 c hc).2, fun c hc _ => hc.resolve_left (by omega), lf_rf _ _⟩
    have : Int32.ofNat 0 + (-1) = -1 := by decide
    rw [this, km_114_16, if_pos (by decide)]
  | d + 1, τ, Fc, hl, h1, h2, h3, h4, hd => by
    have nl : ¬ (Int32.ofNat d < 0) := by
      rw [lz_lt, lz_lit (by omega)]
      show ¬ ((d : Int) < 0)
      omega
    by_cases z : τ.1 56 d = 0
    · have o : ∀ k j, ¬ (k = 57 ∧ j = Fc.length) → ¬ (k = 0 ∧ j = 96) → (lj_put (lj_put τ 57 Fc.length (Int32.ofNat d)) 0 96 (Int32.ofNat (Fc.length + 1))).1 k j = τ.1 k j := fun k j y1 y2 => by rw [lj_put_1, if_neg y2, lj_put_1, if_neg y1]
      have cg : ∀ (l : List Nat), l.length ≤ Fc.length → fcM τ l → fcM (lj_put (lj_put τ 57 Fc.length (Int32.ofNat d)) 0 96 (Int32.ofNat (Fc.length + 1))) l := by
        intro l
        induction l with
        | nil => intro _ _; trivial
        | cons c l ih =>
          intro w1 w2
          rw [List.length_cons] at w1
          exact ⟨by rw [o 57 l.length (by omega) (by omega)]; exact w2.1, ih (by omega) w2.2⟩
      obtain ⟨τ', Fc', e1, e2, e3, e4, e5, e6, e7, e8⟩ := m_free x1 x2 d (lj_put (lj_put τ 57 Fc.length (Int32.ofNat d)) 0 96 (Int32.ofNat (Fc.length + 1))) (d :: Fc) (by rw [List.length_cons]; omega) ⟨by rw [lj_put_1, if_neg (by omega), lj_put_1, if_pos ⟨rfl, rfl⟩], cg Fc (Nat.le_refl _) h1⟩ (by rw [lj_put_1, if_pos ⟨rfl, rfl⟩, List.length_cons]) (List.nodup_cons.2 ⟨fun w => by have := (h4 d w).1; omega, h3⟩) (fun c hc => by
        rw [o 56 c (by omega) (by omega)]
        rcases List.mem_cons.1 hc with e | e
        · rw [e]; exact ⟨Nat.le_refl _, by omega, z⟩
        · have := h4 c e; exact ⟨by omega, this.2⟩) (by omega)
      refine ⟨τ', Fc', ?_, e2, e3, e4, e5, fun c hc => ?_, fun c hc w => ?_, (lf_put (lf_put (lf_rf _ _) 57 _ _ rfl) 0 96 _ rfl).tr e8⟩
      · rw [addm1, km_114_16, if_neg nl, if_pos (ofN_in (by omega) (by omega)), lz_onat (by omega), if_pos z, h2, if_pos (ofN_in (by omega) (by omega)), lz_onat (by omega), lz_osucc, km_114_52, e1]
      · have := e6 c hc
        rw [o 56 c (by omega) (by omega)] at this
        exact this
      · refine e7 c ?_ (by rw [o 56 c (by omega) (by omega)]; exact w)
        rcases hc with hc | hc
        · by_cases y : c = d
          · right; rw [y]; exact List.mem_cons_self
          · left; omega
        · right; exact List.mem_cons_of_mem _ hc
    · obtain ⟨τ', Fc', e1, e2, e3, e4, e5, e6, e7, e8⟩ := m_free x1 x2 d τ Fc (by omega) h1 h2 h3 (fun c hc => ⟨by have := (h4 c hc).1; omega, (h4 c hc).2⟩) (by omega)
      refine ⟨τ', Fc', ?_, e2, e3, e4, e5, e6, fun c hc w => ?_, e8⟩
      · rw [addm1, km_114_16, if_neg nl, if_pos (ofN_in (by omega) (by omega)), lz_onat (by omega), if_neg z, km_114_52, e1]
      · refine e7 c ?_ w
        rcases hc with hc | hc
        · by_cases y : c = d
          · rw [y] at w; exact absurd w z
          · left; omega
        · right; exact hc
/-- a cell is taken -/
def clA (τ τ' : lj_S) (c : Nat) (w : vT) : Prop := lf (fun k j => k == 56 || k == 57 || (k == 0 && j == 96) || ((k == 54 || k == 55) && j == c)) τ τ' ∧ (τ'.1 54 c, τ'.2 55 c) = w
theorem m_take1 {τ : lj_S} {c : Nat} {Fc : List Nat} (h1 : fcM τ (c :: Fc)) (h2 : τ.1 0 96 = Int32.ofNat (c :: Fc).length) (hl : Fc.length < 95000) (hc : c < 95000) (w : vT) (x4 : Value) : ∃ τ', lj_D lm_P lm_M114 58 [.ref 0, .int w.1, .long w.2, .retAddr 0, x4] [] τ = some (.inl (some (.int (Int32.ofNat c))), τ') ∧ clA τ τ' c w ∧ fcM τ' Fc ∧ lv τ' 0 96 = (Fc.length : Int) := by
  rw [List.length_cons] at h2
  have i1 : lj_in (Int32.ofNat Fc.length) 95000 := ofN_in hl (by omega)
  have i2 : lj_in (Int32.ofNat c) 95000 := ofN_in hc (by omega)
  have e1 : (Int32.ofNat Fc.length).toNatClampNeg = Fc.length := lz_onat (by omega)
  have e2 : (Int32.ofNat c).toNatClampNeg = c := lz_onat (by omega)
  refine ⟨_, by rw [km_114_58, h2, lz_pred', if_pos i1, e1, h1.1, if_pos i2, if_pos i2, e2], ⟨lf_putL (lf_put (lf_put (lf_rf _ _) 0 96 _ (by simp)) 54 c _ (by simp)) 55 c _ (by simp), ?_⟩, fcM_cg (fun j => by rw [lj_putL_1, lj_put_1, if_neg (by omega), lj_put_1, if_neg (by omega)]) h1.2, ?_⟩
  · rw [lj_putL_1, lj_put_1, if_pos ⟨rfl, rfl⟩, lj_putL_2, if_pos ⟨rfl, rfl⟩]
  · unfold lv
    rw [lj_putL_1, lj_put_1, if_neg (by omega), lj_put_1, if_pos ⟨rfl, rfl⟩, lz_lit (by omega)]
theorem m_cell {τ : lj_S} {np n : Nat} {len : Nat → Nat} (h : rfA τ np n len) {Fc : List Nat} (f1 : fcM τ Fc) (f2 : lv τ 0 96 = (Fc.length : Int)) (f3 : Fc.Nodup) (f4 : ∀ c ∈ Fc, c < 95000) (w : vT) : ∃ τ' c Fc', lj_R lm_P 114 [.ref 0, .int w.1, .long w.2] τ = some (.inl (some (.int (Int32.ofNat c))), τ') ∧ clA τ τ' c w ∧ fcM τ' Fc' ∧ lv τ' 0 96 = (Fc'.length : Int) ∧ (c :: Fc').Nodup ∧ ∀ x ∈ c :: Fc', x < 95000 ∧ (x ∈ Fc ∨ ¬ rfM τ np n len x) := by
  have fl := nd_le 95000 Fc f3 f4
  have e96 : τ.1 0 96 = Int32.ofNat Fc.length := lz_ext (by rw [lz_lit (by omega)]; exact f2)
  cases Fc with
  | cons c Fc =>
    rw [List.length_cons] at fl
    obtain ⟨τ', e1, e2, e3, e4⟩ := m_take1 f1 e96 (by omega) (f4 c List.mem_cons_self) w (.retAddr 0)
    refine ⟨τ', c, Fc, ?_, e2, e3, e4, f3, fun x hx => ⟨f4 x hx, Or.inl hx⟩⟩
    rw [rm_114, km_114_0, e96, if_neg (fun y => by rw [List.length_cons] at y; have := (ofN_eq (a := Fc.length + 1) (c := 0) (by omega) (by omega)).1 y; omega), e1]
  | nil =>
    obtain ⟨τ1, a1, a2, a3, M, m1, m2⟩ := m_markCells h
    have o1 : ∀ k j, k ≠ 56 → τ1.1 k j = τ.1 k j := fun k j z => (a2 k j (beq_eq_false_iff_ne.2 z)).1
    obtain ⟨τ2, Fc', b1, b2, b3, b4, b5, b6, b7, b8⟩ := m_free w.1 w.2 95000 τ1 [] (by decide) trivial (by rw [o1 0 96 (by omega)]; exact e96) List.nodup_nil (fun c hc => by cases hc) (Nat.le_refl _)
    have ne : Fc' ≠ [] := fun z => by
      have all : ∀ c, c < 95000 → c ∈ M := fun c hc => m2 c hc (fun y => by
        have := b7 c (Or.inl hc) y
        rw [z] at this
        cases this)
      have := sub_len (List.range 95000) M List.nodup_range (fun x hx => all x (List.mem_range.1 hx))
      rw [List.length_range] at this
      omega
    cases Fc' with
    | nil => exact absurd rfl ne
    | cons c Fc' =>
      rw [List.length_cons] at b4
      obtain ⟨τ', e1, e2, e3, e4⟩ := m_take1 b2 b3 (by omega) (b6 c List.mem_cons_self).1 w (.int (-1))
      refine ⟨τ', c, Fc', ?_, ⟨?_, e2.2⟩, e3, e4, b5, fun x hx => ⟨(b6 x hx).1, Or.inr (fun y => a3 x y (b6 x hx).2)⟩⟩
      · have b1 : lj_D lm_P lm_M114 16 [.ref 0, .int w.1, .long w.2, .retAddr 0, .int 94999] [] τ1 = _ := b1
        rw [rm_114, km_114_0, e96, if_pos (show Int32.ofNat ([] : List Nat).length = 0 from rfl), a1, bv_ok, b1, e1]
      · refine ((a2.mo (fun k j q => ?_)).tr (b8.mo (fun k j q => ?_))).tr e2.1
        · simp at q ⊢; omega
        · simp at q ⊢; omega
