/-! the model's heap: keys are sought -/
def hbIM (t k : Int32) (x : Int64) : Int32 := ((((((x * 31) + (((k : Int32).toInt64) * 7)) + (((t : Int32).toInt64) * 131)) ^^^ ((((((x * 31) + (((k : Int32).toInt64) * 7)) + (((t : Int32).toInt64) * 131)) : Int64).toUInt64 >>> ((17 : Int32).toInt64.toUInt64 &&& Int64.toUInt64 63)).toInt64)) ^^^ ((((((x * 31) + (((k : Int32).toInt64) * 7)) + (((t : Int32).toInt64) * 131)) : Int64).toUInt64 >>> ((34 : Int32).toInt64.toUInt64 &&& Int64.toUInt64 63)).toInt64) : Int64).toInt32) &&& 4095
def hbM (t k : Int32) (x : Int64) : Nat := (hbIM t k x).toNatClampNeg
theorem hbM_lt (t k : Int32) (x : Int64) : hbM t k x < 4096 := by
  have e : hbM t k x = (hbIM t k x).toInt.toNat := rfl
  have h : 0 ≤ (hbIM t k x).toInt ∧ (hbIM t k x).toInt < 4096 := by unfold hbIM; exact and_in _
  rw [e]
  omega
theorem hbM_of (t k : Int32) (x : Int64) : hbIM t k x = Int32.ofNat (hbM t k x) := by
  unfold hbM
  exact clamp_ofNat (by unfold hbIM; exact (and_in _).1)
theorem m_hbkt (t k : Int32) (x : Int64) (σ : lj_S) : lj_R lm_P 110 [.int t, .int k, .long x] σ = some (.inl (some (.int (Int32.ofNat (hbM t k x)))), σ) := by
  rw [rm_110, km_110_0, ← hbM_of]
  rfl
/-- the model's heap -/
abbrev hpM (σ : lj_S) (V : Nat → Prop) (P B : Nat → List Nat) : Prop := hpI 40 41 50 51 52 49 45 46 hbM 3001 σ V P B
theorem m_hseek_loop {σ : lj_S} (t k : Int32) (x : Int64) : ∀ (L : List Nat) (y : Int32), lk (lv σ 51) y.toInt L → (∀ p ∈ L, p < 3001) →
    (∃ p ∈ L, σ.1 49 p = t ∧ σ.1 45 p = k ∧ σ.2 46 p = x ∧ lj_D lm_P lm_M109 13 [.ref 0, .int t, .int k, .long x, .retAddr 0, .int y] [] σ = some (.inl (some (.int (Int32.ofNat p))), σ)) ∨ ((∀ p ∈ L, ¬ (σ.1 49 p = t ∧ σ.1 45 p = k ∧ σ.2 46 p = x)) ∧ lj_D lm_P lm_M109 13 [.ref 0, .int t, .int k, .long x, .retAddr 0, .int y] [] σ = some (.inl (some (.int (-1))), σ))
  | [], y, h, _ => by
    have h : y.toInt = -1 := h
    have e : y = -1 := lz_ext (by rw [h]; rfl)
    refine Or.inr ⟨fun p hp => absurd hp List.not_mem_nil, ?_⟩
    rw [e, km_109_13, if_pos (by decide)]
  | p :: L, y, h, hL => by
    have hp := hL p (List.mem_cons_self)
    have e : y = Int32.ofNat p := lz_ext (by rw [h.1, lz_lit (by omega)])
    have i3 : lj_in (Int32.ofNat p) 3001 := ofN_in (by omega) (by omega)
    have nx : lj_D lm_P lm_M109 55 [.ref 0, .int t, .int k, .long x, .retAddr 0, .int (Int32.ofNat p)] [] σ = lj_D lm_P lm_M109 13 [.ref 0, .int t, .int k, .long x, .retAddr 0, .int (σ.1 51 p)] [] σ := by
      rw [km_109_55, if_pos i3, lz_onat (by omega)]
    have st : lj_D lm_P lm_M109 13 [.ref 0, .int t, .int k, .long x, .retAddr 0, .int y] [] σ = if σ.1 49 p = t ∧ σ.1 45 p = k ∧ σ.2 46 p = x then some (.inl (some (.int (Int32.ofNat p))), σ) else lj_D lm_P lm_M109 13 [.ref 0, .int t, .int k, .long x, .retAddr 0, .int (σ.1 51 p)] [] σ := by
      rw [e, km_109_13, if_neg (ofN_nneg (by omega))]
      simp only [if_pos i3, lz_onat (show p < 2147483648 by omega), lg0]
      by_cases a : σ.1 49 p = t
      · rw [if_pos a]
        by_cases b : σ.1 45 p = k
        · rw [if_pos b]
          by_cases c : σ.2 46 p = x
          · rw [if_pos c, if_pos ⟨a, b, c⟩]
          · rw [if_neg c, if_neg (fun w => c w.2.2), nx]
        · rw [if_neg b, if_neg (fun w => b w.2.1), nx]
      · rw [if_neg a, if_neg (fun w => a w.1), nx]
    by_cases w : σ.1 49 p = t ∧ σ.1 45 p = k ∧ σ.2 46 p = x
    · rw [if_pos w] at st
      exact Or.inl ⟨p, List.mem_cons_self, w.1, w.2.1, w.2.2, st⟩
    · rw [if_neg w] at st
      rcases m_hseek_loop t k x L (σ.1 51 p) h.2 (fun q hq => hL q (List.mem_cons_of_mem _ hq)) with ⟨q, q1, q2, q3, q4, q5⟩ | ⟨q1, q2⟩
      · exact Or.inl ⟨q, List.mem_cons_of_mem _ q1, q2, q3, q4, st.trans q5⟩
      · refine Or.inr ⟨fun q hq => ?_, st.trans q2⟩
        rcases List.mem_cons.1 hq with u | u
        · rw [u]; exact w
        · exact q1 q u
theorem m_hseek {σ : lj_S} {V : Nat → Prop} {P B : Nat → List Nat} (h : hpM σ V P B) (hM : ∀ t, V t → t < 2147483648) {t : Nat} (ht : V t) (k : Int32) (x : Int64) :
    (∃ p ∈ P t, σ.1 45 p = k ∧ σ.2 46 p = x ∧ lj_R lm_P 109 [.ref 0, .int (Int32.ofNat t), .int k, .long x] σ = some (.inl (some (.int (Int32.ofNat p))), σ)) ∨ ((∀ p ∈ P t, ¬ (σ.1 45 p = k ∧ σ.2 46 p = x)) ∧ lj_R lm_P 109 [.ref 0, .int (Int32.ofNat t), .int k, .long x] σ = some (.inl (some (.int (-1))), σ)) := by
  have hb := hbM_lt (Int32.ofNat t) k x
  have fd := hp_find h ht hM hbM_lt k x
  have hL : ∀ p ∈ B (hbM (Int32.ofNat t) k x), p < 3001 := fun p hp => by
    obtain ⟨⟨t', ht', hp'⟩, _⟩ := (h.2.1 _ hb).2 p hp
    exact (h.2.2 t' ht' p hp').1
  have st : lj_R lm_P 109 [.ref 0, .int (Int32.ofNat t), .int k, .long x] σ = lj_D lm_P lm_M109 13 [.ref 0, .int (Int32.ofNat t), .int k, .long x, .retAddr 0, .int (σ.1 52 (hbM (Int32.ofNat t) k x))] [] σ := by
    rw [rm_109, km_109_0, m_hbkt, bi_ok, if_pos (ofN_in hb (by omega)), lz_onat (by omega)]
  rcases m_hseek_loop (σ := σ) (Int32.ofNat t) k x _ (σ.1 52 (hbM (Int32.ofNat t) k x)) (h.2.1 _ hb).1 hL with ⟨p, q1, q2, q3, q4, q5⟩ | ⟨q1, q2⟩
  · exact Or.inl ⟨p, ((fd p).1 ⟨q1, q2, q3, q4⟩).1, q3, q4, st.trans q5⟩
  · refine Or.inr ⟨fun p hp w => ?_, st.trans q2⟩
    have := (fd p).2 ⟨hp, w.1, w.2⟩
    exact q1 p this.1 this.2
