/-! the component's heap: keys are sought -/
def hbIC (t k : Int32) (x : Int64) : Int32 := ((((((((x * (-7046029254386353131)) + (((t : Int32).toInt64) * 1663821227)) + (((k : Int32).toInt64) * 2232777461)) : Int64).toUInt64 >>> ((40 : Int32).toInt64.toUInt64 &&& Int64.toUInt64 63)).toInt64) ^^^ ((((((x * (-7046029254386353131)) + (((t : Int32).toInt64) * 1663821227)) + (((k : Int32).toInt64) * 2232777461)) : Int64).toUInt64 >>> ((20 : Int32).toInt64.toUInt64 &&& Int64.toUInt64 63)).toInt64) : Int64).toInt32) &&& 4095
def hbC (t k : Int32) (x : Int64) : Nat := (hbIC t k x).toNatClampNeg
theorem and_in (y : Int32) : 0 ≤ (y &&& 4095).toInt ∧ (y &&& 4095).toInt < 4096 := by
  have := lz_and y 4095 (by decide)
  have e : (4095 : Int32).toInt = 4095 := by decide
  omega
theorem clamp_ofNat {y : Int32} (h : 0 ≤ y.toInt) : y = Int32.ofNat y.toNatClampNeg := by
  apply lz_ext
  have e : y.toNatClampNeg = y.toInt.toNat := rfl
  have := Int32.toInt_lt y
  rw [lz_lit (by rw [e]; omega), e]
  omega
theorem hbC_lt (t k : Int32) (x : Int64) : hbC t k x < 4096 := by
  have e : hbC t k x = (hbIC t k x).toInt.toNat := rfl
  have h : 0 ≤ (hbIC t k x).toInt ∧ (hbIC t k x).toInt < 4096 := by unfold hbIC; exact and_in _
  rw [e]
  omega
theorem hbC_of (t k : Int32) (x : Int64) : hbIC t k x = Int32.ofNat (hbC t k x) := by
  unfold hbC
  exact clamp_ofNat (by unfold hbIC; exact (and_in _).1)
theorem c_hbkt (t k : Int32) (x : Int64) (σ : lj_S) : lj_R lc_P 115 [.ref 7, .int t, .int k, .long x] σ = some (.inl (some (.int (Int32.ofNat (hbC t k x)))), σ) := by
  rw [rc_115, kc_115_0, ← hbC_of]
  rfl
/-- the component's heap -/
abbrev hpC (σ : lj_S) (V : Nat → Prop) (P B : Nat → List Nat) : Prop := hpI 59 60 70 72 73 71 66 67 hbC 3000 σ V P B
theorem c_hseek_loop {σ : lj_S} (t k : Int32) (x : Int64) : ∀ (L : List Nat) (y : Int32), lk (lv σ 72) y.toInt L → (∀ p ∈ L, p < 3000) →
    (∃ p ∈ L, σ.1 71 p = t ∧ σ.1 66 p = k ∧ σ.2 67 p = x ∧ lj_D lc_P lc_M114 14 [.ref 7, .int t, .int k, .long x, .retAddr 0, .int y] [] σ = some (.inl (some (.int (Int32.ofNat p))), σ)) ∨ ((∀ p ∈ L, ¬ (σ.1 71 p = t ∧ σ.1 66 p = k ∧ σ.2 67 p = x)) ∧ lj_D lc_P lc_M114 14 [.ref 7, .int t, .int k, .long x, .retAddr 0, .int y] [] σ = some (.inl (some (.int (-1))), σ))
  | [], y, h, _ => by
    have h : y.toInt = -1 := h
    have e : y = -1 := lz_ext (by rw [h]; rfl)
    refine Or.inr ⟨fun p hp => absurd hp List.not_mem_nil, ?_⟩
    rw [e, kc_114_14, if_pos (by decide), kc_114_65]
  | p :: L, y, h, hL => by
    have hp := hL p (List.mem_cons_self)
    have e : y = Int32.ofNat p := lz_ext (by rw [h.1, lz_lit (by omega)])
    have i3 : lj_in (Int32.ofNat p) 3000 := ofN_in (by omega) (by omega)
    have nx : lj_D lc_P lc_M114 53 [.ref 7, .int t, .int k, .long x, .retAddr 0, .int (Int32.ofNat p)] [] σ = lj_D lc_P lc_M114 14 [.ref 7, .int t, .int k, .long x, .retAddr 0, .int (σ.1 72 p)] [] σ := by
      rw [kc_114_53, if_pos i3, lz_onat (by omega)]
    have st : lj_D lc_P lc_M114 14 [.ref 7, .int t, .int k, .long x, .retAddr 0, .int y] [] σ = if σ.1 71 p = t ∧ σ.1 66 p = k ∧ σ.2 67 p = x then some (.inl (some (.int (Int32.ofNat p))), σ) else lj_D lc_P lc_M114 14 [.ref 7, .int t, .int k, .long x, .retAddr 0, .int (σ.1 72 p)] [] σ := by
      rw [e, kc_114_14, if_neg (ofN_nneg (by omega))]
      simp only [if_pos i3, lz_onat (show p < 2147483648 by omega), lg0]
      by_cases a : σ.1 71 p = t
      · rw [if_pos a]
        by_cases b : σ.1 66 p = k
        · rw [if_pos b]
          by_cases c : σ.2 67 p = x
          · rw [if_pos c, if_pos ⟨a, b, c⟩, kc_114_65]
          · rw [if_neg c, if_neg (fun w => c w.2.2), nx]
        · rw [if_neg b, if_neg (fun w => b w.2.1), nx]
      · rw [if_neg a, if_neg (fun w => a w.1), nx]
    by_cases w : σ.1 71 p = t ∧ σ.1 66 p = k ∧ σ.2 67 p = x
    · rw [if_pos w] at st
      exact Or.inl ⟨p, List.mem_cons_self, w.1, w.2.1, w.2.2, st⟩
    · rw [if_neg w] at st
      rcases c_hseek_loop t k x L (σ.1 72 p) h.2 (fun q hq => hL q (List.mem_cons_of_mem _ hq)) with ⟨q, q1, q2, q3, q4, q5⟩ | ⟨q1, q2⟩
      · exact Or.inl ⟨q, List.mem_cons_of_mem _ q1, q2, q3, q4, st.trans q5⟩
      · refine Or.inr ⟨fun q hq => ?_, st.trans q2⟩
        rcases List.mem_cons.1 hq with u | u
        · rw [u]; exact w
        · exact q1 q u
theorem c_hseek {σ : lj_S} {V : Nat → Prop} {P B : Nat → List Nat} (h : hpC σ V P B) (hM : ∀ t, V t → t < 2147483648) {t : Nat} (ht : V t) (k : Int32) (x : Int64) :
    (∃ p ∈ P t, σ.1 66 p = k ∧ σ.2 67 p = x ∧ lj_R lc_P 114 [.ref 7, .int (Int32.ofNat t), .int k, .long x] σ = some (.inl (some (.int (Int32.ofNat p))), σ)) ∨ ((∀ p ∈ P t, ¬ (σ.1 66 p = k ∧ σ.2 67 p = x)) ∧ lj_R lc_P 114 [.ref 7, .int (Int32.ofNat t), .int k, .long x] σ = some (.inl (some (.int (-1))), σ)) := by
  have hb := hbC_lt (Int32.ofNat t) k x
  have fd := hp_find h ht hM hbC_lt k x
  have hL : ∀ p ∈ B (hbC (Int32.ofNat t) k x), p < 3000 := fun p hp => by
    obtain ⟨⟨t', ht', hp'⟩, _⟩ := (h.2.1 _ hb).2 p hp
    exact (h.2.2 t' ht' p hp').1
  have st : lj_R lc_P 114 [.ref 7, .int (Int32.ofNat t), .int k, .long x] σ = lj_D lc_P lc_M114 14 [.ref 7, .int (Int32.ofNat t), .int k, .long x, .retAddr 0, .int (σ.1 73 (hbC (Int32.ofNat t) k x))] [] σ := by
    rw [rc_114, kc_114_0, c_hbkt, bi_ok, if_pos (ofN_in hb (by omega)), lz_onat (by omega)]
  rcases c_hseek_loop (σ := σ) (Int32.ofNat t) k x _ (σ.1 73 (hbC (Int32.ofNat t) k x)) (h.2.1 _ hb).1 hL with ⟨p, q1, q2, q3, q4, q5⟩ | ⟨q1, q2⟩
  · exact Or.inl ⟨p, ((fd p).1 ⟨q1, q2, q3, q4⟩).1, q3, q4, st.trans q5⟩
  · refine Or.inr ⟨fun p hp w => ?_, st.trans q2⟩
    have := (fd p).2 ⟨hp, w.1, w.2⟩
    exact q1 p this.1 this.2
