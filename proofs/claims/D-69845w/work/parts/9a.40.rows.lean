/-! rows of values upon the stacks -/
def cPus : lj_S → Nat → List vT → lj_S
  | σ, _, [] => σ
  | σ, t, u :: G => cPus (cPu σ t u) (t + 1) G
def mPus (p : Nat) : lj_S → Nat → List vT → lj_S
  | τ, _, [] => τ
  | τ, t, w :: G => mPus p (mPu τ p t w) (t + 1) G
theorem cPus_o : ∀ (G : List vT) (σ : lj_S) (t k j : Nat), ¬ (k = 8 ∧ j = 8) → ((k < 79 ∨ 81 < k) ∨ j < t ∨ t + G.length ≤ j) → (cPus σ t G).1 k j = σ.1 k j ∧ (cPus σ t G).2 k j = σ.2 k j
  | [], _, _, _, _, _, _ => ⟨rfl, rfl⟩
  | u :: G, σ, t, k, j, h1, h2 => by
    rw [List.length_cons] at h2
    obtain ⟨e1, e2⟩ := cPus_o G (cPu σ t u) (t + 1) k j h1 (by omega)
    show (cPus (cPu σ t u) (t + 1) G).1 k j = _ ∧ (cPus (cPu σ t u) (t + 1) G).2 k j = _
    rw [e1, e2, cPu_1, if_neg h1, if_neg (by omega), if_neg (by omega), cPu_2, if_neg (by omega)]
    exact ⟨rfl, rfl⟩
theorem cPus_v : ∀ (G : List vT) (σ : lj_S) (t i : Nat), i < G.length → cv (cPus σ t G) (t + i) = G.getD i (0, 0) ∧ (cPus σ t G).1 81 (t + i) = -1
  | [], _, _, _, h => absurd h (by simp)
  | u :: G, σ, t, 0, _ => by
    have e := cPus_o G (cPu σ t u) (t + 1)
    show cv (cPus (cPu σ t u) (t + 1) G) t = u ∧ (cPus (cPu σ t u) (t + 1) G).1 81 t = -1
    unfold cv
    rw [(e 79 t (by omega) (by omega)).1, (e 80 t (by omega) (by omega)).2, (e 81 t (by omega) (by omega)).1, cPu_1, if_neg (by omega), if_neg (by omega), if_pos ⟨rfl, rfl⟩, cPu_2, if_pos ⟨rfl, rfl⟩, cPu_1, if_neg (by omega), if_pos ⟨rfl, rfl⟩]
    exact ⟨rfl, rfl⟩
  | u :: G, σ, t, i + 1, h => by
    have := cPus_v G (cPu σ t u) (t + 1) i (by rw [List.length_cons] at h; omega)
    rw [show t + 1 + i = t + (i + 1) by omega] at this
    exact this
theorem cPus_8 : ∀ (G : List vT) (σ : lj_S) (t : Nat), σ.1 8 8 = Int32.ofNat t → (cPus σ t G).1 8 8 = Int32.ofNat (t + G.length)
  | [], _, _, h => h
  | u :: G, σ, t, _ => by
    have := cPus_8 G (cPu σ t u) (t + 1) (by rw [cPu_1, if_pos ⟨rfl, rfl⟩])
    rw [List.length_cons, show t + (G.length + 1) = t + 1 + G.length by omega]
    exact this
theorem tq_pus {p i lo : Nat} {σ : lj_S} : ∀ (G : List vT) {σ1 : lj_S} {t : Nat}, lf (tqC p i lo) σ σ1 → lo ≤ t → t + G.length ≤ 12500 * p + 12500 → lf (tqC p i lo) σ (cPus σ1 t G)
  | [], _, _, f, _, _ => f
  | u :: G, σ1, t, f, h1, h2 => by
    rw [List.length_cons] at h2
    exact tq_pus G (tq_pu f u h1 (by omega)) (by omega) (by omega)
theorem mPus_o (p : Nat) : ∀ (G : List vT) (τ : lj_S) (t k j : Nat), ¬ (k = 63 ∧ j = p) → ((k ≠ 71 ∧ k ≠ 72) ∨ j < 10000 * p + t ∨ 10000 * p + t + G.length ≤ j) → (mPus p τ t G).1 k j = τ.1 k j ∧ (mPus p τ t G).2 k j = τ.2 k j
  | [], _, _, _, _, _, _ => ⟨rfl, rfl⟩
  | u :: G, τ, t, k, j, h1, h2 => by
    rw [List.length_cons] at h2
    obtain ⟨e1, e2⟩ := mPus_o p G (mPu τ p t u) (t + 1) k j h1 (by omega)
    show (mPus p (mPu τ p t u) (t + 1) G).1 k j = _ ∧ (mPus p (mPu τ p t u) (t + 1) G).2 k j = _
    rw [e1, e2, mPu_1, if_neg h1, if_neg (by omega), mPu_2, if_neg (by omega)]
    exact ⟨rfl, rfl⟩
theorem mPus_v (p : Nat) : ∀ (G : List vT) (τ : lj_S) (t i : Nat), i < G.length → mv (mPus p τ t G) (10000 * p + (t + i)) = G.getD i (0, 0)
  | [], _, _, _, h => absurd h (by simp)
  | u :: G, τ, t, 0, _ => by
    have e := mPus_o p G (mPu τ p t u) (t + 1)
    show mv (mPus p (mPu τ p t u) (t + 1) G) (10000 * p + t) = u
    unfold mv
    rw [(e 71 (10000 * p + t) (by omega) (by omega)).1, (e 72 (10000 * p + t) (by omega) (by omega)).2, mPu_1, if_neg (by omega), if_pos ⟨rfl, rfl⟩, mPu_2, if_pos ⟨rfl, rfl⟩]
  | u :: G, τ, t, i + 1, h => by
    have := mPus_v p G (mPu τ p t u) (t + 1) i (by rw [List.length_cons] at h; omega)
    rw [show t + 1 + i = t + (i + 1) by omega] at this
    exact this
theorem mPus_63 (p : Nat) : ∀ (G : List vT) (τ : lj_S) (t : Nat), τ.1 63 p = Int32.ofNat t → (mPus p τ t G).1 63 p = Int32.ofNat (t + G.length)
  | [], _, _, h => h
  | u :: G, τ, t, _ => by
    have := mPus_63 p G (mPu τ p t u) (t + 1) (by rw [mPu_1, if_pos ⟨rfl, rfl⟩])
    rw [List.length_cons, show t + (G.length + 1) = t + 1 + G.length by omega]
    exact this
theorem tm_pus {p i ml kl : Nat} {τ : lj_S} : ∀ (G : List vT) {τ1 : lj_S} {t : Nat}, lf (tqM p i ml kl) τ τ1 → ml ≤ t → t + G.length ≤ 10000 → lf (tqM p i ml kl) τ (mPus p τ1 t G)
  | [], _, _, f, _, _ => f
  | u :: G, τ1, t, f, h1, h2 => by
    rw [List.length_cons] at h2
    exact tm_pus G (tm_pu f u h1 (by omega)) (by omega) (by omega)
theorem mAt_pu {τ : lj_S} {p me mq : Nat} (h : mAt τ p me mq) (hm : me < 10000) (w : vT) : mAt (mPu τ p me w) p (me + 1) mq := by
  obtain ⟨a1, a2, a3, a4, a5, a6⟩ := h
  exact ⟨by rw [mPu_1, if_neg (by omega), if_neg (by omega)]; exact a1, a2, by rw [mPu_1, if_pos ⟨rfl, rfl⟩], by omega, by rw [mPu_1, if_neg (by omega), if_neg (by omega)]; exact a5, a6⟩
/-- rows upon a shape -/
theorem stk_p5 {σ τ : lj_S} {p hb ob mb kb : Nat} {s : List Nat} {ce me mq : Nat} {cm : Int32} (h : stk σ τ p hb ob mb kb s ce me mq cm) {k : Nat} (hk : k ≤ 110) (hv : ∀ i, i < k → vR σ τ (cv σ (ce + i)) (mv τ (10000 * p + (me + i))) ∧ σ.1 81 (ce + i) = -1) : stk σ τ p hb ob mb kb (5 :: s) (ce + k) (me + k) mq cm := Or.inr (Or.inr (Or.inr (Or.inl ⟨rfl, k, ce, me, rfl, rfl, hk, fun i hi => by rw [Nat.add_assoc]; exact hv i hi, h⟩)))
theorem stk_ps {σ τ : lj_S} {p hb ob mb kb : Nat} {s : List Nat} {ce me mq : Nat} {cm : Int32} (h : stk σ τ p hb ob mb kb s ce me mq cm) : ∀ (k : Nat), (∀ i, i < k → vR σ τ (cv σ (ce + i)) (mv τ (10000 * p + (me + i))) ∧ σ.1 81 (ce + i) = -1) → stk σ τ p hb ob mb kb (List.replicate k 0 ++ s) (ce + k) (me + k) mq cm
  | 0, _ => h
  | k + 1, hv => by
    have ih := stk_ps h k (fun i hi => hv i (by omega))
    rw [List.replicate_succ]
    exact stk_p0 ih (hv k (by omega)).1 (hv k (by omega)).2
/-- values of a row taken apart -/
theorem stk_vals {σ τ : lj_S} {p hb ob mb kb : Nat} : ∀ {r s : List Nat} {ce me mq : Nat} {cm : Int32}, (∀ x ∈ r, x = 0 ∨ x = 5) → stk σ τ p hb ob mb kb (r ++ s) ce me mq cm → ∃ k c1 m1, ce = c1 + k ∧ me = m1 + k ∧ k ≤ r.length + 110 * cn 5 r ∧ (∀ i, i < k → vR σ τ (cv σ (c1 + i)) (mv τ (10000 * p + (m1 + i))) ∧ σ.1 81 (c1 + i) = -1) ∧ stk σ τ p hb ob mb kb s c1 m1 mq cm
  | [], s, ce, me, mq, cm, _, h => ⟨0, ce, me, rfl, rfl, Nat.zero_le _, fun i hi => absurd hi (by omega), h⟩
  | x :: r, s, ce, me, mq, cm, hx, h => by
    have e5 : cn 5 (x :: r) = (if x = 5 then 1 else 0) + cn 5 r := rfl
    rcases hx x List.mem_cons_self with e | e
    · rw [e] at h
      obtain ⟨ce', me', rfl, rfl, v1, v2, _, _, g⟩ := stk.u0 (Or.inl rfl) h
      obtain ⟨k, c1, m1, rfl, rfl, hk, hv, g2⟩ := stk_vals (fun y hy => hx y (List.mem_cons_of_mem _ hy)) g
      refine ⟨k + 1, c1, m1, by omega, by omega, by rw [List.length_cons, e5]; omega, fun i hi => ?_, g2⟩
      by_cases z : i < k
      · exact hv i z
      · have : i = k := by omega
        rw [this]
        exact ⟨v1, v2⟩
    · rw [e] at h
      obtain ⟨k0, ce', me', rfl, rfl, k110, v, g⟩ := stk.u5 h
      obtain ⟨k, c1, m1, rfl, rfl, hk, hv, g2⟩ := stk_vals (fun y hy => hx y (List.mem_cons_of_mem _ hy)) g
      refine ⟨k + k0, c1, m1, by omega, by omega, by rw [List.length_cons, e5, if_pos e]; omega, fun i hi => ?_, g2⟩
      by_cases z : i < k
      · exact hv i z
      · obtain ⟨v1, v2⟩ := v (i - k) (by omega)
        rw [show c1 + k + (i - k) = c1 + i by omega] at v1 v2
        rw [show 10000 * p + (m1 + k) + (i - k) = 10000 * p + (m1 + i) by omega] at v1
        exact ⟨v1, v2⟩
theorem row_bd {r : List Nat} (h : rowS r) : r.length + 110 * cn 5 r ≤ 126 := by
  have := h.2.1
  have c := cn5_1 (s := r) (fun x hx => by have := h.2.2 x hx; omega)
  omega
/-! the component's rows behind a mark -/
/-- a mark of the frame i at c0, k values behind it -/
def mkC (σ : lj_S) (i c0 k : Nat) (cm : Int32) : Prop := σ.1 8 8 = Int32.ofNat (c0 + 1 + k) ∧ σ.1 8 34 = Int32.ofNat i ∧ σ.1 97 i = Int32.ofNat c0 ∧ σ.2 80 c0 = cm.toInt64 ∧ i < 520 ∧ c0 + 1 + k < 325000
theorem mkC.i {σ : lj_S} {i c0 k : Nat} {cm : Int32} (h : mkC σ i c0 k cm) : lj_in (σ.1 8 34) 520 ∧ (σ.1 8 34).toNatClampNeg = i ∧ lj_in (Int32.ofNat c0) 325000 ∧ (Int32.ofNat c0).toNatClampNeg = c0 ∧ (σ.2 80 c0).toInt32 = cm := by
  obtain ⟨h1, h2, h3, h4, h5, h6⟩ := h
  exact ⟨by rw [h2]; exact ofN_in h5 (by omega), by rw [h2]; exact lz_onat (by omega), ofN_in (by omega) (by omega), lz_onat (by omega), by rw [h4]; exact Int32.toInt32_toInt64 _⟩
theorem c_take1 {σ : lj_S} {i c0 k : Nat} {cm : Int32} (h : mkC σ i c0 k cm) : lj_R lc_P 205 [.ref 8] σ = some (.inl none, cPu (lj_put (lj_put σ 97 i cm) 8 8 (Int32.ofNat c0)) c0 (if k = 0 then (0, 0) else cv σ (c0 + 1))) := by
  obtain ⟨i1, i2, i3, i4, i5⟩ := h.i
  obtain ⟨h1, h2, h3, h4, h5, h6⟩ := h
  have q8 : (lj_put (lj_put σ 97 i cm) 8 8 (Int32.ofNat c0)).1 8 8 = Int32.ofNat c0 := (by simp [lj_put_1, lj_putL_1])
  have pu := c_push q8 (by omega) (if k = 0 then (0, 0) else cv σ (c0 + 1))
  have le : Int32.ofNat (c0 + 1 + k) ≤ Int32.ofNat (c0 + 1) ↔ k = 0 := by rw [ofN_le (by omega) (by omega)]; omega
  have i6 : lj_in (Int32.ofNat (c0 + 1)) 325000 := ofN_in (by omega) (by omega)
  have i7 : (Int32.ofNat (c0 + 1)).toNatClampNeg = c0 + 1 := lz_onat (by omega)
  rw [rc_205, kc_205_0, if_pos i1, i2, h1, h3, lz_osucc]
  by_cases z : k = 0
  · rw [if_pos z] at pu
    have pu : lj_R lc_P 137 [.ref 8, .int 0, .long 0] _ = _ := pu
    rw [if_pos (le.2 z), kc_205_25, if_pos rfl, kc_205_42, if_pos rfl, kc_205_59, if_pos i3, if_pos i1, i2, i4, i5, pu, bv_ok, if_pos z]
  · rw [if_neg z] at pu
    have pu : lj_R lc_P 137 [.ref 8, .int (σ.1 79 (c0 + 1)), .long (σ.2 80 (c0 + 1))] _ = _ := pu
    rw [if_neg (fun y => z (le.1 y)), kc_205_25, if_neg (by decide), lz_osucc, if_pos i6, i7, kc_205_42, if_neg (by decide), lz_osucc, if_pos i6, i7, kc_205_59, if_pos i3, if_pos i1, i2, i4, i5, pu, bv_ok, if_neg z]
/-- values move down by one -/
def sdC (a b k j : Nat) : Bool := (k == 79 || k == 80) && (decide (a ≤ j) && decide (j < b))
def shD (σ σ' : lj_S) (a b : Nat) : Prop := (∀ j, a ≤ j → j < b → cv σ' j = cv σ (j + 1)) ∧ lf (sdC a b) σ σ'
theorem shD_0 (σ : lj_S) (a : Nat) : shD σ σ a a := ⟨fun j h1 h2 => absurd h2 (by omega), lf_rf _ _⟩
theorem shD_s {σ σ' : lj_S} {a b : Nat} (hab : a < b) (h : shD (lj_putL (lj_put σ 79 a (σ.1 79 (a + 1))) 80 a (σ.2 80 (a + 1))) σ' (a + 1) b) : shD σ σ' a b := by
  obtain ⟨h1, h2⟩ := h
  refine ⟨fun j j1 j2 => ?_, fun k j q => ?_⟩
  · by_cases z : j = a
    · have e1 := (h2 79 a (by unfold sdC; simp; omega)).1
      have e2 := (h2 80 a (by unfold sdC; simp; omega)).2
      unfold cv
      rw [z, e1, e2, lj_putL_1, lj_put_1, if_pos ⟨rfl, rfl⟩, lj_putL_2, if_pos ⟨rfl, rfl⟩]
    · rw [h1 j (by omega) j2]
      unfold cv
      rw [lj_putL_1, lj_put_1, if_neg (by omega), lj_putL_2, if_neg (by omega)]
      rfl
  · unfold sdC at q
    simp at q
    obtain ⟨e1, e2⟩ := h2 k j (by unfold sdC; simp; intro z w; exact q z (by omega))
    refine ⟨?_, ?_⟩
    · rw [e1, lj_putL_1, lj_put_1, if_neg (fun w => by have := q (Or.inl w.1) (by omega); omega)]
    · rw [e2, lj_putL_2, if_neg (fun w => by have := q (Or.inr w.1) (by omega); omega)]
      rfl
theorem c_spl_loop {b : Nat} (hb : b + 1 < 325000) (x1 : Int32) : ∀ (d a : Nat) (σ : lj_S), a + d = b → σ.1 8 8 = Int32.ofNat (b + 1) → ∃ σ', lj_D lc_P lc_M206 28 [.ref 8, .int x1, .int (Int32.ofNat a)] [] σ = some (.inl none, lj_put σ' 8 8 (Int32.ofNat b)) ∧ shD σ σ' a b
  | 0, a, σ, hd, h8 => by
    have e : a = b := by omega
    refine ⟨σ, ?_, by rw [e]; exact shD_0 _ _⟩
    rw [kc_206_28, h8, lz_osucc, if_pos (by rw [e]; exact (ofN_le (by omega) (by omega)).2 (Nat.le_refl _)), lz_pred']
  | d + 1, a, σ, hd, h8 => by
    obtain ⟨σ', e1, e2⟩ := c_spl_loop hb x1 d (a + 1) (lj_putL (lj_put σ 79 a (σ.1 79 (a + 1))) 80 a (σ.2 80 (a + 1))) (by omega) (by rw [lj_putL_1, lj_put_1, if_neg (by omega)]; exact h8)
    refine ⟨σ', ?_, shD_s (by omega) e2⟩
    have i1 : lj_in (Int32.ofNat (a + 1)) 325000 := ofN_in (by omega) (by omega)
    have i2 : lj_in (Int32.ofNat a) 325000 := ofN_in (by omega) (by omega)
    rw [kc_206_28, h8, lz_osucc, if_neg (by rw [ofN_le (by omega) (by omega)]; omega), if_pos i1, if_pos i2, if_pos i1, if_pos i2, lz_onat (by omega), lz_onat (by omega), e1]
theorem c_splice {σ : lj_S} {i c0 k : Nat} {cm : Int32} (h : mkC σ i c0 k cm) : ∃ σ', lj_R lc_P 206 [.ref 8] σ = some (.inl none, lj_put σ' 8 8 (Int32.ofNat (c0 + k))) ∧ shD (lj_put σ 97 i cm) σ' c0 (c0 + k) := by
  obtain ⟨i1, i2, i3, i4, i5⟩ := h.i
  obtain ⟨h1, h2, h3, h4, h5, h6⟩ := h
  obtain ⟨σ', e1, e2⟩ := c_spl_loop (b := c0 + k) (by omega) (Int32.ofNat c0) k c0 (lj_put σ 97 i cm) rfl (by rw [lj_put_1, if_neg (by omega), h1]; congr 1; omega)
  refine ⟨σ', ?_, e2⟩
  have e97 : σ.1 97 (σ.1 8 34).toNatClampNeg = Int32.ofNat c0 := by rw [i2]; exact h3
  rw [rc_206, kc_206_0, if_pos i1, if_pos (by rw [e97]; exact i3), if_pos i1, e97, i2, i4, i5, e1]
