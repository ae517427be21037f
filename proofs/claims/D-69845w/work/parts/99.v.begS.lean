/-! statements: their beginning -/
abbrev bgS (k : Nat) : Prop := k = 66 ∨ k = 1 ∨ k = 60 ∨ k = 12 ∨ k = 30 ∨ k = 25 ∨ k = 19 ∨ k = 17 ∨ k = 18 ∨ k = 21 ∨ k = 11
theorem c_begS {b : Nat → Int32} {n T : Nat} {Q : tkQ} {σ τ : lj_S} (h : TE b n T Q σ τ) {p : Nat} (hp : p ≤ T) (h0 : σ.1 6 0 = Int32.ofNat p) : lj_R lc_P 64 [.ref 6] σ = lj_D lc_P lc_M64 75 [.ref 6, .int (Int32.ofNat (Q p).1), .retAddr 0] [.int (if bgS (Q p).1 then 1 else 0)] σ := by
  have hk := tk_lt h hp
  have ne : ∀ c : Nat, c < 70 → (Q p).1 ≠ c → ¬ (Int32.ofNat (Q p).1 = Int32.ofNat c) := fun c hc q z => q ((ofN_eq (by omega) (by omega)).1 z)
  rw [rc_64, kc_64_0, c_kind h hp h0, bi_ok]
  simp only [kc_64_70]
  generalize (Q p).1 = K at *
  by_cases hb : bgS K
  · rw [if_pos hb]
    rcases hb with hb | hb | hb | hb | hb | hb | hb | hb | hb | hb | hb
    all_goals (subst_vars; rfl)
  · rw [if_neg hb, if_neg (show ¬ (Int32.ofNat K = 66) from ne 66 (by omega) (by omega)), if_neg (show ¬ (Int32.ofNat K = 1) from ne 1 (by omega) (by omega)), if_neg (show ¬ (Int32.ofNat K = 60) from ne 60 (by omega) (by omega)), if_neg (show ¬ (Int32.ofNat K = 12) from ne 12 (by omega) (by omega)), if_neg (show ¬ (Int32.ofNat K = 30) from ne 30 (by omega) (by omega)), if_neg (show ¬ (Int32.ofNat K = 25) from ne 25 (by omega) (by omega)), if_neg (show ¬ (Int32.ofNat K = 19) from ne 19 (by omega) (by omega)), if_neg (show ¬ (Int32.ofNat K = 17) from ne 17 (by omega) (by omega)), if_neg (show ¬ (Int32.ofNat K = 18) from ne 18 (by omega) (by omega)), if_neg (show ¬ (Int32.ofNat K = 21) from ne 21 (by omega) (by omega)), if_neg (show ¬ (Int32.ofNat K = 11) from ne 11 (by omega) (by omega))]
theorem m_begS {b : Nat → Int32} {n T : Nat} {Q : tkQ} {σ τ : lj_S} (h : TE b n T Q σ τ) {p : Nat} (hp : p ≤ T) (h0 : τ.1 0 25 = Int32.ofNat p) : lj_R lm_P 40 [.ref 0] τ = some (.inl (some (.int (if bgS (Q p).1 then 1 else 0))), τ) := by
  have hk := tk_lt h hp
  have hI := (h.2.2.2.2.1 p hp).1
  obtain ⟨hin, hkk, hvv⟩ := m_kindv h hp h0
  have s66 := m_isSign h hp h0 26 (by omega) 59 rfl
  have s60 := m_isSign h hp h0 20 (by omega) 40 rfl
  rw [rm_40, km_40_0]
  simp only [if_pos hin, hkk, km_40_31, s66, bi_ok, s60, km_40_60, km_40_107, km_40_112]
  have t1 : ∀ k : Fin 70, ((tkk k.val = 1) ↔ k.val = 1) := by decide
  have e1 := t1 ⟨(Q p).1, hk⟩
  by_cases w : 10 ≤ (Q p).1 ∧ (Q p).1 < 40
  · have hv := hvv w.1
    rw [hv]
    generalize hK : (Q p).1 = K at *
    have hw : 10 ≤ K ∧ K < 31 := by rcases hI with z | z | z <;> omega
    have t : ∀ j : Fin 21, ∀ u v : Option lj_O, (if (tkw (10 + j.val)).toInt32 = 3 then u else if (tkw (10 + j.val)).toInt32 = 21 then u else if (tkw (10 + j.val)).toInt32 = 16 then u else if (tkw (10 + j.val)).toInt32 = 10 then u else if (tkw (10 + j.val)).toInt32 = 8 then u else if (tkw (10 + j.val)).toInt32 = 9 then u else if (tkw (10 + j.val)).toInt32 = 12 then u else if (tkw (10 + j.val)).toInt32 = 2 then u else v) = if bgS (10 + j.val) then u else v := by
      intro j u v
      match j with
      | ⟨0, _⟩ => rfl
      | ⟨1, _⟩ => rfl
      | ⟨2, _⟩ => rfl
      | ⟨3, _⟩ => rfl
      | ⟨4, _⟩ => rfl
      | ⟨5, _⟩ => rfl
      | ⟨6, _⟩ => rfl
      | ⟨7, _⟩ => rfl
      | ⟨8, _⟩ => rfl
      | ⟨9, _⟩ => rfl
      | ⟨10, _⟩ => rfl
      | ⟨11, _⟩ => rfl
      | ⟨12, _⟩ => rfl
      | ⟨13, _⟩ => rfl
      | ⟨14, _⟩ => rfl
      | ⟨15, _⟩ => rfl
      | ⟨16, _⟩ => rfl
      | ⟨17, _⟩ => rfl
      | ⟨18, _⟩ => rfl
      | ⟨19, _⟩ => rfl
      | ⟨20, _⟩ => rfl
      | ⟨n + 21, hn⟩ => exact absurd hn (by omega)
    have := t ⟨K - 10, by omega⟩ (some (.inl (some (.int 1)), τ)) (some (.inl (some (.int 0)), τ))
    have e : 10 + (K - 10) = K := by omega
    simp only [e] at this
    have e4 : tkk K = 4 := by rw [← e]; exact (tkk_w ⟨K - 10, by omega⟩).1
    rw [if_neg (show ¬ tkk K = 1 by rw [e4]; decide), if_neg (show ¬ K = 40 + 26 by omega), if_pos rfl, if_neg (show ¬ K = 40 + 20 by omega), if_pos rfl, if_pos e4, show vp_nar .boolean 1 = 1 from rfl, show vp_nar .boolean 0 = 0 from rfl, this]
    split <;> rfl
  · generalize hK : (Q p).1 = K at *
    have n4 : ¬ (tkk K = 4) := by
      have t : ∀ k : Fin 70, ¬ (10 ≤ k.val ∧ k.val < 40) → (k.val < 5 ∨ (10 ≤ k.val ∧ k.val < 31) ∨ (40 ≤ k.val ∧ k.val < 70)) → ¬ (tkk k.val = 4) := by decide
      exact t ⟨K, hk⟩ w hI
    have t : ∀ k : Fin 70, ¬ (10 ≤ k.val ∧ k.val < 40) → (bgS k.val ↔ (k.val = 1 ∨ k.val = 66 ∨ k.val = 60)) := by decide
    have tt := t ⟨K, hk⟩ w
    simp only [] at tt e1
    simp only [tt, e1, if_neg n4]
    by_cases a1 : K = 1
    · simp [a1]
    · by_cases a2 : K = 66
      · simp [a2]
      · by_cases a3 : K = 60
        · simp [a3]
        · simp [a1, a2, a3]; rfl
