/-! what both machines do with their stacks and rows -/
theorem ofN_pred {n : Nat} (h : n + 1 < 2147483648) : Int32.ofNat (n + 1) - 1 = Int32.ofNat n := lz_pred' n
/-- the component: a value more -/
def cPu (σ : lj_S) (t : Nat) (u : vT) : lj_S := lj_put (lj_put (lj_putL (lj_put σ 79 t u.1) 80 t u.2) 81 t (-1)) 8 8 (Int32.ofNat (t + 1))
theorem cPu_1 (σ : lj_S) (t : Nat) (u : vT) (k j : Nat) : (cPu σ t u).1 k j = if k = 8 ∧ j = 8 then Int32.ofNat (t + 1) else if k = 81 ∧ j = t then -1 else if k = 79 ∧ j = t then u.1 else σ.1 k j := by
  unfold cPu
  rw [lj_put_1, lj_put_1, lj_putL_1, lj_put_1]
theorem cPu_2 (σ : lj_S) (t : Nat) (u : vT) (k j : Nat) : (cPu σ t u).2 k j = if k = 80 ∧ j = t then u.2 else σ.2 k j := by
  unfold cPu
  show (lj_putL (lj_put σ 79 t u.1) 80 t u.2).2 k j = _
  rw [lj_putL_2]
  rfl
theorem c_push {σ : lj_S} {t : Nat} (h8 : σ.1 8 8 = Int32.ofNat t) (ht : t < 325000) (u : vT) : lj_R lc_P 137 [.ref 8, .int u.1, .long u.2] σ = some (.inl none, cPu σ t u) := by
  have i : lj_in (σ.1 8 8) 325000 := by rw [h8]; exact ofN_in ht (by omega)
  have e : (σ.1 8 8).toNatClampNeg = t := by rw [h8]; exact lz_onat (by omega)
  rw [rc_137, kc_137_0, if_pos i, if_pos i, if_pos i, e, h8, lz_osucc]
  rfl
/-- a mark more -/
theorem c_pushMark {σ : lj_S} {t i : Nat} (h8 : σ.1 8 8 = Int32.ofNat t) (ht : t < 325000) (h34 : σ.1 8 34 = Int32.ofNat i) (hi : i < 520) : lj_R lc_P 145 [.ref 8] σ = some (.inl none, cPu (lj_put σ 97 i (Int32.ofNat t)) t (9, (σ.1 97 i).toInt64)) := by
  have q : lj_in (σ.1 8 34) 520 := by rw [h34]; exact ofN_in hi (by omega)
  have e : (σ.1 8 34).toNatClampNeg = i := by rw [h34]; exact lz_onat (by omega)
  have h8' : (lj_put σ 97 i (Int32.ofNat t)).1 8 8 = Int32.ofNat t := by rw [lj_put_1, if_neg (by omega)]; exact h8
  have := c_push h8' ht (9, (σ.1 97 i).toInt64)
  rw [rc_145, kc_145_0, if_pos q, if_pos q, e, h8]
  show lj_bv (lj_R lc_P 137 [.ref 8, .int (9, (σ.1 97 i).toInt64).1, .long (9, (σ.1 97 i).toInt64).2] _) _ _ = _
  rw [this, bv_ok]
/-- how many lie behind the mark -/
theorem c_behind {σ : lj_S} {t i c : Nat} (h8 : σ.1 8 8 = Int32.ofNat t) (h34 : σ.1 8 34 = Int32.ofNat i) (hi : i < 520) (h97 : σ.1 97 i = Int32.ofNat c) (hc : c < t) (ht : t < 325001) : lj_R lc_P 204 [.ref 8] σ = some (.inl (some (.int (Int32.ofNat (t - c - 1)))), σ) := by
  have q : lj_in (σ.1 8 34) 520 := by rw [h34]; exact ofN_in hi (by omega)
  have e : (σ.1 8 34).toNatClampNeg = i := by rw [h34]; exact lz_onat (by omega)
  have e1 : (1 : Int32).toInt = 1 := by decide
  have e2 : (Int32.ofNat t - Int32.ofNat c).toInt = (t : Int) - c := by rw [lz_sub (by rw [lz_lit (by omega), lz_lit (by omega)]; omega), lz_lit (by omega), lz_lit (by omega)]
  rw [rc_204, kc_204_0, if_pos q, e, h8, h97]
  have : Int32.ofNat t - Int32.ofNat c - 1 = Int32.ofNat (t - c - 1) := lz_ext (by rw [lz_sub (by rw [e2, e1]; omega), e2, e1, lz_lit (by omega)]; omega)
  rw [this]
/-- whether a value is true -/
def tru (a : vT) : Bool := !(a.1 == 0) && !(a.1 == 1 && a.2 == 0)
theorem tru_R {σ τ : lj_S} {a b : vT} (h : vR σ τ a b) : tru b = tru a := by
  rcases h.k.2 with k | k | k | k | k | k | k
  · rw [(h.nil k).1, (h.nil k).2]
  · rw [(h.tr k).1]
  · rw [h.wh k]
  all_goals
    have n0 : a.1 ≠ 0 ∧ a.1 ≠ 1 := by rw [k]; decide
    have m0 : b.1 ≠ 0 ∧ b.1 ≠ 1 := by
      rcases h.k.1 with e | ⟨_, e⟩
      · rw [e]; exact n0
      · rw [e]; decide
    unfold tru
    rw [beq_eq_false_iff_ne.2 n0.1, beq_eq_false_iff_ne.2 n0.2, beq_eq_false_iff_ne.2 m0.1, beq_eq_false_iff_ne.2 m0.2]
    rfl
theorem c_isTrue (σ : lj_S) (a : vT) : lj_R lc_P 146 [.ref 8, .int a.1, .long a.2] σ = some (.inl (some (.int (if tru a then 1 else 0))), σ) := by
  rw [rc_146, kc_146_0]
  unfold tru
  by_cases h0 : a.1 = 0
  · rw [if_pos h0, kc_146_19, kc_146_20]
    simp [h0]
    rfl
  · rw [if_neg h0]
    by_cases h1 : a.1 = 1
    · rw [if_pos h1]
      by_cases h2 : a.2 = 0
      · rw [if_pos (by rw [lg0]; exact h2), kc_146_19, kc_146_20]
        simp [h1, h2]
        rfl
      · rw [if_neg (by rw [lg0]; exact h2), kc_146_15, kc_146_20]
        simp [h1, h2]
        rfl
    · rw [if_neg h1, kc_146_15, kc_146_20]
      simp [h0, h1]
      rfl
theorem c_pushTruth {σ : lj_S} {t : Nat} (h8 : σ.1 8 8 = Int32.ofNat t) (ht : t < 325000) (x : Int32) : lj_R lc_P 147 [.ref 8, .int x] σ = some (.inl none, cPu σ t (1, if x = 0 then 0 else 1)) := by
  have c0 := c_push h8 ht (1, 0)
  have c1 := c_push h8 ht (1, 1)
  have c0 : lj_R lc_P 137 [.ref 8, .int 1, .long 0] σ = _ := c0
  have c1 : lj_R lc_P 137 [.ref 8, .int 1, .long 1] σ = _ := c1
  rw [rc_147, kc_147_0]
  by_cases h : x = 0
  · rw [if_pos h, kc_147_11, c0, bv_ok, if_pos h]
  · rw [if_neg h, kc_147_11, c1, bv_ok, if_neg h]
/-- rows of what is given, of results -/
def gvC (σ : lj_S) (G : List vT) : Prop := lv σ 8 38 = (G.length : Int) ∧ ∀ j, j < G.length → (σ.1 105 j, σ.2 106 j) = G.getD j (0, 0)
def rsC (σ : lj_S) (G : List vT) : Prop := lv σ 8 41 = (G.length : Int) ∧ ∀ j, j < G.length → (σ.1 107 j, σ.2 108 j) = G.getD j (0, 0)
def gvM (τ : lj_S) (G : List vT) : Prop := lv τ 0 137 = (G.length : Int) ∧ ∀ j, j < G.length → (τ.1 88 j, τ.2 89 j) = G.getD j (0, 0)
def rsM (τ : lj_S) (G : List vT) : Prop := lv τ 0 140 = (G.length : Int) ∧ ∀ j, j < G.length → (τ.1 90 j, τ.2 91 j) = G.getD j (0, 0)
def gsC (k j : Nat) : Bool := k == 105 || k == 106 || (k == 8 && j == 38)
def rtC (k j : Nat) : Bool := k == 107 || k == 108 || (k == 8 && j == 41)
theorem c_give {σ : lj_S} {G : List vT} (h : gvC σ G) (hl : G.length < 128) (u : vT) : ∃ σ', lj_R lc_P 154 [.ref 8, .int u.1, .long u.2] σ = some (.inl none, σ') ∧ gvC σ' (G ++ [u]) ∧ lf gsC σ σ' := by
  have e38 : σ.1 8 38 = Int32.ofNat G.length := lz_ext (by rw [lz_lit (by omega)]; exact h.1)
  have i : lj_in (σ.1 8 38) 128 := by rw [e38]; exact ofN_in hl (by omega)
  have e : (σ.1 8 38).toNatClampNeg = G.length := by rw [e38]; exact lz_onat (by omega)
  refine ⟨_, by rw [rc_154, kc_154_0, if_pos i, if_pos i], ⟨?_, fun j hj => ?_⟩, lf_put (lf_putL (lf_put (lf_rf _ _) _ _ _ rfl) _ _ _ rfl) _ _ _ rfl⟩
  · rw [lv_put, if_pos ⟨rfl, rfl⟩, e38, lz_osucc, lz_lit (by omega), List.length_append]; rfl
  · rw [lj_put_1, if_neg (by omega), lj_putL_1, lj_put_1]
    show (_, (lj_putL (lj_put σ 105 (σ.1 8 38).toNatClampNeg u.1) 106 (σ.1 8 38).toNatClampNeg u.2).2 106 j) = _
    rw [lj_putL_2, e]
    rw [List.length_append] at hj
    have hj : j < G.length + 1 := hj
    by_cases w : j = G.length
    · rw [if_pos ⟨rfl, w⟩, if_pos ⟨rfl, w⟩, w]
      simp
    · rw [if_neg (fun z => w z.2), if_neg (fun z => w z.2)]
      have := h.2 j (by omega)
      rw [List.getD_eq_getElem?_getD] at this ⊢
      rw [List.getElem?_append_left (by omega)]
      exact this
theorem c_gives {σ : lj_S} {G : List vT} (h : rsC σ G) (hl : G.length < 128) (u : vT) : ∃ σ', lj_R lc_P 143 [.ref 8, .int u.1, .long u.2] σ = some (.inl none, σ') ∧ rsC σ' (G ++ [u]) ∧ lf rtC σ σ' := by
  have e38 : σ.1 8 41 = Int32.ofNat G.length := lz_ext (by rw [lz_lit (by omega)]; exact h.1)
  have i : lj_in (σ.1 8 41) 128 := by rw [e38]; exact ofN_in hl (by omega)
  have e : (σ.1 8 41).toNatClampNeg = G.length := by rw [e38]; exact lz_onat (by omega)
  refine ⟨_, by rw [rc_143, kc_143_0, if_pos i, if_pos i], ⟨?_, fun j hj => ?_⟩, lf_put (lf_putL (lf_put (lf_rf _ _) _ _ _ rfl) _ _ _ rfl) _ _ _ rfl⟩
  · rw [lv_put, if_pos ⟨rfl, rfl⟩, e38, lz_osucc, lz_lit (by omega), List.length_append]; rfl
  · rw [lj_put_1, if_neg (by omega), lj_putL_1, lj_put_1]
    show (_, (lj_putL (lj_put σ 107 (σ.1 8 41).toNatClampNeg u.1) 108 (σ.1 8 41).toNatClampNeg u.2).2 108 j) = _
    rw [lj_putL_2, e]
    rw [List.length_append] at hj
    have hj : j < G.length + 1 := hj
    by_cases w : j = G.length
    · rw [if_pos ⟨rfl, w⟩, if_pos ⟨rfl, w⟩, w]
      simp
    · rw [if_neg (fun z => w z.2), if_neg (fun z => w z.2)]
      have := h.2 j (by omega)
      rw [List.getD_eq_getElem?_getD] at this ⊢
      rw [List.getElem?_append_left (by omega)]
      exact this
/-- the model: a value more; the uppermost ones; fewer -/
def mPu (τ : lj_S) (p me : Nat) (w : vT) : lj_S := lj_put (lj_putL (lj_put τ 71 (10000 * p + me) w.1) 72 (10000 * p + me) w.2) 63 p (Int32.ofNat (me + 1))
theorem mPu_1 (τ : lj_S) (p me : Nat) (w : vT) (k j : Nat) : (mPu τ p me w).1 k j = if k = 63 ∧ j = p then Int32.ofNat (me + 1) else if k = 71 ∧ j = 10000 * p + me then w.1 else τ.1 k j := by
  unfold mPu
  rw [lj_put_1, lj_putL_1, lj_put_1]
theorem mPu_2 (τ : lj_S) (p me : Nat) (w : vT) (k j : Nat) : (mPu τ p me w).2 k j = if k = 72 ∧ j = 10000 * p + me then w.2 else τ.2 k j := by
  unfold mPu
  show (lj_putL (lj_put τ 71 (10000 * p + me) w.1) 72 (10000 * p + me) w.2).2 k j = _
  rw [lj_putL_2]
  rfl
/-- the part at hand in the model, its height and marks -/
def mAt (τ : lj_S) (p me mq : Nat) : Prop := τ.1 0 111 = Int32.ofNat p ∧ p < 26 ∧ τ.1 63 p = Int32.ofNat me ∧ me ≤ 10000 ∧ τ.1 64 p = Int32.ofNat mq ∧ mq ≤ 2000
theorem mAt.i {τ : lj_S} {p me mq : Nat} (h : mAt τ p me mq) : lj_in (τ.1 0 111) 26 ∧ (τ.1 0 111).toNatClampNeg = p ∧ 10000 * (τ.1 0 111) + τ.1 63 (τ.1 0 111).toNatClampNeg = Int32.ofNat (10000 * p + me) ∧ 2000 * (τ.1 0 111) + τ.1 64 (τ.1 0 111).toNatClampNeg = Int32.ofNat (2000 * p + mq) := by
  obtain ⟨h1, h2, h3, h4, h5, h6⟩ := h
  have e : (τ.1 0 111).toNatClampNeg = p := by rw [h1]; exact lz_onat (by omega)
  refine ⟨by rw [h1]; exact ofN_in h2 (by omega), e, ?_, ?_⟩
  · rw [e, h3, h1, show (10000 : Int32) = Int32.ofNat 10000 from rfl, ← Int32.ofNat_mul, ← Int32.ofNat_add]
  · rw [e, h5, h1, show (2000 : Int32) = Int32.ofNat 2000 from rfl, ← Int32.ofNat_mul, ← Int32.ofNat_add]
theorem m_push {τ : lj_S} {p me mq : Nat} (h : mAt τ p me mq) (hm : me < 10000) (w : vT) : lj_R lm_P 116 [.ref 0, .int w.1, .long w.2] τ = some (.inl none, mPu τ p me w) := by
  obtain ⟨i1, i2, i3, _⟩ := h.i
  have q : lj_in (10000 * (τ.1 0 111) + τ.1 63 (τ.1 0 111).toNatClampNeg) 260000 := by rw [i3]; exact ofN_in (by have := h.2.1; omega) (by omega)
  have e : (10000 * (τ.1 0 111) + τ.1 63 (τ.1 0 111).toNatClampNeg).toNatClampNeg = 10000 * p + me := by rw [i3]; exact lz_onat (by have := h.2.1; omega)
  rw [rm_116, km_116_0, if_pos i1, if_pos q, if_pos q, if_pos i1, if_pos i1, e, i2, h.2.2.1, lz_osucc]
  rfl
theorem m_deep {τ : lj_S} {p me mq d : Nat} (h : mAt τ p me mq) (hd : d < me) : 10000 * (τ.1 0 111) + τ.1 63 (τ.1 0 111).toNatClampNeg - 1 - Int32.ofNat d = Int32.ofNat (10000 * p + (me - 1 - d)) := by
  obtain ⟨i1, i2, i3, _⟩ := h.i
  have h2 := h.2.1
  have h4 := h.2.2.2.1
  have e1 : (1 : Int32).toInt = 1 := by decide
  have e2 : (Int32.ofNat (10000 * p + me) - 1).toInt = ((10000 * p + me : Nat) : Int) - 1 := by rw [lz_sub (by rw [lz_lit (by omega), e1]; omega), lz_lit (by omega), e1]
  rw [i3]
  exact lz_ext (by rw [lz_sub (by rw [e2, lz_lit (by omega)]; omega), e2, lz_lit (by omega), lz_lit (by omega)]; omega)
theorem m_topK {τ : lj_S} {p me mq d : Nat} (h : mAt τ p me mq) (hd : d < me) : lj_R lm_P 124 [.ref 0, .int (Int32.ofNat d)] τ = some (.inl (some (.int (mv τ (10000 * p + (me - 1 - d))).1)), τ) := by
  have e := m_deep h hd
  have h2 := h.2.1
  have h4 := h.2.2.2.1
  have q : lj_in (10000 * (τ.1 0 111) + τ.1 63 (τ.1 0 111).toNatClampNeg - 1 - Int32.ofNat d) 260000 := by rw [e]; exact ofN_in (by omega) (by omega)
  have e' : (10000 * (τ.1 0 111) + τ.1 63 (τ.1 0 111).toNatClampNeg - 1 - Int32.ofNat d).toNatClampNeg = 10000 * p + (me - 1 - d) := by rw [e]; exact lz_onat (by omega)
  rw [rm_124, km_124_0, if_pos h.i.1, if_pos q, e']
  rfl
theorem m_topN {τ : lj_S} {p me mq d : Nat} (h : mAt τ p me mq) (hd : d < me) : lj_R lm_P 125 [.ref 0, .int (Int32.ofNat d)] τ = some (.inl (some (.long (mv τ (10000 * p + (me - 1 - d))).2)), τ) := by
  have e := m_deep h hd
  have h2 := h.2.1
  have h4 := h.2.2.2.1
  have q : lj_in (10000 * (τ.1 0 111) + τ.1 63 (τ.1 0 111).toNatClampNeg - 1 - Int32.ofNat d) 260000 := by rw [e]; exact ofN_in (by omega) (by omega)
  have e' : (10000 * (τ.1 0 111) + τ.1 63 (τ.1 0 111).toNatClampNeg - 1 - Int32.ofNat d).toNatClampNeg = 10000 * p + (me - 1 - d) := by rw [e]; exact lz_onat (by omega)
  rw [rm_125, km_125_0, if_pos h.i.1, if_pos q, e']
  rfl
theorem m_drop {τ : lj_S} {p me mq d : Nat} (h : mAt τ p me mq) (hd : d ≤ me) : lj_R lm_P 126 [.ref 0, .int (Int32.ofNat d)] τ = some (.inl none, lj_put τ 63 p (Int32.ofNat (me - d))) := by
  have h4 := h.2.2.2.1
  have e : Int32.ofNat me - Int32.ofNat d = Int32.ofNat (me - d) := lz_ext (by rw [lz_sub (by rw [lz_lit (by omega), lz_lit (by omega)]; omega), lz_lit (by omega), lz_lit (by omega), lz_lit (by omega)]; omega)
  rw [rm_126, km_126_0, if_pos h.i.1, if_pos h.i.1, h.i.2.1, h.2.2.1, e]
theorem m_mark {τ : lj_S} {p me mq : Nat} (h : mAt τ p me (mq + 1)) : lj_R lm_P 144 [.ref 0] τ = some (.inl (some (.int (τ.1 73 (2000 * p + mq)))), τ) := by
  obtain ⟨i1, i2, _, i4⟩ := h.i
  have h2 := h.2.1
  have h6 := h.2.2.2.2.2
  have e : 2000 * (τ.1 0 111) + τ.1 64 (τ.1 0 111).toNatClampNeg - 1 = Int32.ofNat (2000 * p + mq) := by rw [i4, ← Nat.add_assoc]; exact lz_pred' _
  have q : lj_in (2000 * (τ.1 0 111) + τ.1 64 (τ.1 0 111).toNatClampNeg - 1) 52000 := by rw [e]; exact ofN_in (by omega) (by omega)
  have e' : (2000 * (τ.1 0 111) + τ.1 64 (τ.1 0 111).toNatClampNeg - 1).toNatClampNeg = 2000 * p + mq := by rw [e]; exact lz_onat (by omega)
  rw [rm_144, km_144_0, if_pos i1, if_pos q, e']
theorem m_pushMark {τ : lj_S} {p me mq : Nat} (h : mAt τ p me mq) (hm : mq < 2000) (x : Int32) : lj_R lm_P 147 [.ref 0, .int x] τ = some (.inl none, lj_put (lj_put τ 73 (2000 * p + mq) x) 64 p (Int32.ofNat (mq + 1))) := by
  obtain ⟨i1, i2, _, i4⟩ := h.i
  have h2 := h.2.1
  have q : lj_in (2000 * (τ.1 0 111) + τ.1 64 (τ.1 0 111).toNatClampNeg) 52000 := by rw [i4]; exact ofN_in (by omega) (by omega)
  have e' : (2000 * (τ.1 0 111) + τ.1 64 (τ.1 0 111).toNatClampNeg).toNatClampNeg = 2000 * p + mq := by rw [i4]; exact lz_onat (by omega)
  rw [rm_147, km_147_0, if_pos i1, if_pos q, if_pos i1, if_pos i1, e', i2, h.2.2.2.2.1, lz_osucc]
