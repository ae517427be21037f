/-! sets of tokens, in both -/
abbrev bgE (k : Nat) : Prop := k = 22 ∨ k = 16 ∨ k = 28 ∨ k = 2 ∨ k = 3 ∨ k = 51 ∨ k = 18 ∨ k = 62 ∨ k = 1 ∨ k = 60 ∨ k = 23 ∨ k = 59 ∨ k = 41 ∨ k = 47
abbrev edB (k : Nat) : Prop := k = 0 ∨ k = 13 ∨ k = 14 ∨ k = 15 ∨ k = 29 ∨ k = 26
abbrev bgG (k : Nat) : Prop := k = 60 ∨ k = 62 ∨ k = 3
theorem c_beginsE {b : Nat → Int32} {n T : Nat} {Q : tkQ} {σ τ : lj_S} (h : TE b n T Q σ τ) {p : Nat} (hp : p ≤ T) (h0 : σ.1 6 0 = Int32.ofNat p) : lj_R lc_P 76 [.ref 6] σ = some (.inl (some (.int (if bgE (Q p).1 then 1 else 0))), σ) := by
  have hk := tk_lt h hp
  have ne : ∀ c : Nat, c < 70 → (Q p).1 ≠ c → ¬ (Int32.ofNat (Q p).1 = Int32.ofNat c) := fun c hc q z => q ((ofN_eq (by omega) (by omega)).1 z)
  rw [rc_76, kc_76_0, c_kind h hp h0]
  unfold lj_bi
  simp only [kc_76_86, kc_76_91]
  generalize (Q p).1 = K at *
  by_cases hb : bgE K
  · rw [if_pos hb]
    rcases hb with hb | hb | hb | hb | hb | hb | hb | hb | hb | hb | hb | hb | hb | hb
    all_goals (subst_vars; rfl)
  · rw [if_neg hb, if_neg (show ¬ (Int32.ofNat K = 22) from ne 22 (by omega) (by omega)), if_neg (show ¬ (Int32.ofNat K = 16) from ne 16 (by omega) (by omega)), if_neg (show ¬ (Int32.ofNat K = 28) from ne 28 (by omega) (by omega)), if_neg (show ¬ (Int32.ofNat K = 2) from ne 2 (by omega) (by omega)), if_neg (show ¬ (Int32.ofNat K = 3) from ne 3 (by omega) (by omega)), if_neg (show ¬ (Int32.ofNat K = 51) from ne 51 (by omega) (by omega)), if_neg (show ¬ (Int32.ofNat K = 18) from ne 18 (by omega) (by omega)), if_neg (show ¬ (Int32.ofNat K = 62) from ne 62 (by omega) (by omega)), if_neg (show ¬ (Int32.ofNat K = 1) from ne 1 (by omega) (by omega)), if_neg (show ¬ (Int32.ofNat K = 60) from ne 60 (by omega) (by omega)), if_neg (show ¬ (Int32.ofNat K = 23) from ne 23 (by omega) (by omega)), if_neg (show ¬ (Int32.ofNat K = 59) from ne 59 (by omega) (by omega)), if_neg (show ¬ (Int32.ofNat K = 41) from ne 41 (by omega) (by omega)), if_neg (show ¬ (Int32.ofNat K = 47) from ne 47 (by omega) (by omega))]
    rfl
theorem c_endsBlock {b : Nat → Int32} {n T : Nat} {Q : tkQ} {σ τ : lj_S} (h : TE b n T Q σ τ) {p : Nat} (hp : p ≤ T) (h0 : σ.1 6 0 = Int32.ofNat p) : lj_R lc_P 62 [.ref 6] σ = some (.inl (some (.int (if edB (Q p).1 then 1 else 0))), σ) := by
  have hk := tk_lt h hp
  have ne : ∀ c : Nat, c < 70 → (Q p).1 ≠ c → ¬ (Int32.ofNat (Q p).1 = Int32.ofNat c) := fun c hc q z => q ((ofN_eq (by omega) (by omega)).1 z)
  rw [rc_62, kc_62_0, c_kind h hp h0]
  unfold lj_bi
  simp only [kc_62_39, kc_62_44]
  generalize (Q p).1 = K at *
  by_cases hb : edB K
  · rw [if_pos hb]
    rcases hb with hb | hb | hb | hb | hb | hb
    all_goals (subst_vars; rfl)
  · rw [if_neg hb, if_neg (show ¬ (Int32.ofNat K = 0) from ne 0 (by omega) (by omega)), if_neg (show ¬ (Int32.ofNat K = 13) from ne 13 (by omega) (by omega)), if_neg (show ¬ (Int32.ofNat K = 14) from ne 14 (by omega) (by omega)), if_neg (show ¬ (Int32.ofNat K = 15) from ne 15 (by omega) (by omega)), if_neg (show ¬ (Int32.ofNat K = 29) from ne 29 (by omega) (by omega)), if_neg (show ¬ (Int32.ofNat K = 26) from ne 26 (by omega) (by omega))]
    rfl
theorem c_beginsGiven {b : Nat → Int32} {n T : Nat} {Q : tkQ} {σ τ : lj_S} (h : TE b n T Q σ τ) {p : Nat} (hp : p ≤ T) (h0 : σ.1 6 0 = Int32.ofNat p) : lj_R lc_P 93 [.ref 6] σ = some (.inl (some (.int (if bgG (Q p).1 then 1 else 0))), σ) := by
  have hk := tk_lt h hp
  have ne : ∀ c : Nat, c < 70 → (Q p).1 ≠ c → ¬ (Int32.ofNat (Q p).1 = Int32.ofNat c) := fun c hc q z => q ((ofN_eq (by omega) (by omega)).1 z)
  have hkd := c_kind h hp h0
  rw [rc_93, kc_93_0, hkd]
  unfold lj_bi
  simp only [hkd, kc_93_26, kc_93_31]
  generalize (Q p).1 = K at *
  by_cases hb : bgG K
  · rw [if_pos hb]
    rcases hb with hb | hb | hb
    all_goals (subst_vars; rfl)
  · rw [if_neg hb, if_neg (show ¬ (Int32.ofNat K = 60) from ne 60 (by omega) (by omega)), if_neg (show ¬ (Int32.ofNat K = 62) from ne 62 (by omega) (by omega)), if_neg (show ¬ (Int32.ofNat K = 3) from ne 3 (by omega) (by omega))]
    rfl
theorem m_kindv {b : Nat → Int32} {n T : Nat} {Q : tkQ} {σ τ : lj_S} (h : TE b n T Q σ τ) {p : Nat} (hp : p ≤ T) (h0 : τ.1 0 25 = Int32.ofNat p) : lj_in (τ.1 0 25) 1502 ∧ τ.1 9 (τ.1 0 25).toNatClampNeg = tkk (Q p).1 ∧ (10 ≤ (Q p).1 → τ.2 11 (τ.1 0 25).toNatClampNeg = tkw (Q p).1) := by
  have hT := h.2.2.1
  have hn := h.2.1
  have hA := h.2.2.2.2.1 p hp
  rw [h0, lz_onat (by omega)]
  exact ⟨ofN_in (by omega) (by omega), hA.2.2.1, hA.2.2.2.1⟩
theorem m_beginsGiven {b : Nat → Int32} {n T : Nat} {Q : tkQ} {σ τ : lj_S} (h : TE b n T Q σ τ) {p : Nat} (hp : p ≤ T) (h0 : τ.1 0 25 = Int32.ofNat p) : lj_R lm_P 71 [.ref 0] τ = some (.inl (some (.int (if bgG (Q p).1 then 1 else 0))), τ) := by
  have hk := tk_lt h hp
  obtain ⟨hin, hkk, hvv⟩ := m_kindv h hp h0
  have s60 := m_isSign h hp h0 20 (by omega) 40 rfl
  have s62 := m_isSign h hp h0 22 (by omega) 123 rfl
  have t3 : ∀ k : Fin 70, (tkk k.val = 3) ↔ k.val = 3 := by decide
  have t3' := t3 ⟨(Q p).1, hk⟩
  rw [rm_71, km_71_0, s60]
  unfold lj_bi
  simp only [s62, km_71_31, km_71_36, if_pos hin, hkk, t3']
  generalize (Q p).1 = K at *
  by_cases a : K = 60
  · simp [a]; rfl
  · by_cases c : K = 62
    · simp [c]; rfl
    · by_cases d : K = 3
      · simp [d]; rfl
      · simp [bgG, a, c, d]; rfl
theorem m_isParting {b : Nat → Int32} {n T : Nat} {Q : tkQ} {σ τ : lj_S} (h : TE b n T Q σ τ) {p : Nat} (hp : p ≤ T) (h0 : τ.1 0 25 = Int32.ofNat p) : lj_R lm_P 81 [.ref 0] τ = some (.inl (some (.int (if (Q p).1 = 68 ∨ (Q p).1 = 66 then 1 else 0))), τ) := by
  have s68 := m_isSign h hp h0 28 (by omega) 44 rfl
  have s66 := m_isSign h hp h0 26 (by omega) 59 rfl
  rw [rm_81, km_81_0, s68]
  unfold lj_bi
  simp only [s66, km_81_18, km_81_23]
  generalize (Q p).1 = K at *
  by_cases a : K = 68
  · simp [a]; rfl
  · by_cases c : K = 66
    · simp [c]; rfl
    · simp [a, c]; rfl
theorem m_beginsE {b : Nat → Int32} {n T : Nat} {Q : tkQ} {σ τ : lj_S} (h : TE b n T Q σ τ) {p : Nat} (hp : p ≤ T) (h0 : τ.1 0 25 = Int32.ofNat p) : lj_R lm_P 38 [.ref 0] τ = some (.inl (some (.int (if bgE (Q p).1 then 1 else 0))), τ) := by
  have hk := tk_lt h hp
  have hI := (h.2.2.2.2.1 p hp).1
  obtain ⟨hin, hkk, hvv⟩ := m_kindv h hp h0
  have s51 := m_isSign h hp h0 11 (by omega) 301 rfl
  have s62 := m_isSign h hp h0 22 (by omega) 123 rfl
  have s60 := m_isSign h hp h0 20 (by omega) 40 rfl
  have s59 := m_isSign h hp h0 19 (by omega) 35 rfl
  have s41 := m_isSign h hp h0 1 (by omega) 45 rfl
  have s47 := m_isSign h hp h0 7 (by omega) 126 rfl
  rw [rm_38, km_38_0]
  unfold lj_bi
  simp only [if_pos hin, hkk, km_38_39, km_38_95, km_38_100, km_38_156, km_38_161, s51, s62, s60, s59, s41, s47]
  by_cases w : 10 ≤ (Q p).1 ∧ (Q p).1 < 40
  · have hv := hvv w.1
    rw [hv]
    generalize hK : (Q p).1 = K at *
    have hw : 10 ≤ K ∧ K < 31 := by rcases hI with z | z | z <;> omega
    have t : ∀ j : Fin 21, ∀ u v : Option lj_O, (if tkk (10 + j.val) = 1 then u else if tkk (10 + j.val) = 2 then u else if tkk (10 + j.val) = 3 then u else if tkk (10 + j.val) = 4 then (if (tkw (10 + j.val)).toInt32 = 13 then u else if (tkw (10 + j.val)).toInt32 = 7 then u else if (tkw (10 + j.val)).toInt32 = 19 then u else if (tkw (10 + j.val)).toInt32 = 14 then u else if (tkw (10 + j.val)).toInt32 = 9 then u else v) else v) = if bgE (10 + j.val) then u else v := by
      intro j u v
      match j with
      | ⟨0, _⟩ => rfl
      | ⟨1, _⟩ => rfl
      | ⟨2, _⟩ => rfl
      | ⟨3, _⟩ => rfl
      | ⟨4, _⟩ => rfl
      | ⟨5, _⟩ => rfl
      | ⟨6, _⟩ => rfl
      | ⟨7, _⟩ => rfl
      | ⟨8, _⟩ => rfl
      | ⟨9, _⟩ => rfl
      | ⟨10, _⟩ => rfl
      | ⟨11, _⟩ => rfl
      | ⟨12, _⟩ => rfl
      | ⟨13, _⟩ => rfl
      | ⟨14, _⟩ => rfl
      | ⟨15, _⟩ => rfl
      | ⟨16, _⟩ => rfl
      | ⟨17, _⟩ => rfl
      | ⟨18, _⟩ => rfl
      | ⟨19, _⟩ => rfl
      | ⟨20, _⟩ => rfl
      | ⟨n + 21, hn⟩ => exact absurd hn (by omega)
    have := t ⟨K - 10, by omega⟩ (some (.inl (some (.int 1)), τ)) (some (.inl (some (.int 0)), τ))
    have e : 10 + (K - 10) = K := by omega
    simp only [e] at this
    have e4 : tkk K = 4 := by rw [← e]; exact (tkk_w ⟨K - 10, by omega⟩).1
    rw [if_neg (show ¬ tkk K = 1 by rw [e4]; decide), if_neg (show ¬ tkk K = 2 by rw [e4]; decide), if_neg (show ¬ tkk K = 3 by rw [e4]; decide), if_pos e4] at this ⊢
    rw [show vp_nar .boolean 1 = 1 from rfl, show vp_nar .boolean 0 = 0 from rfl, this]
    split <;> rfl
  · generalize hK : (Q p).1 = K at *
    have n4 : ¬ (tkk K = 4) := by
      have t : ∀ k : Fin 70, ¬ (10 ≤ k.val ∧ k.val < 40) → (k.val < 5 ∨ (10 ≤ k.val ∧ k.val < 31) ∨ (40 ≤ k.val ∧ k.val < 70)) → ¬ (tkk k.val = 4) := by decide
      exact t ⟨K, hk⟩ w hI
    have t1 : ∀ k : Fin 70, ((tkk k.val = 1) ↔ k.val = 1) ∧ ((tkk k.val = 2) ↔ k.val = 2) ∧ ((tkk k.val = 3) ↔ k.val = 3) := by decide
    obtain ⟨e1, e2, e3⟩ := t1 ⟨K, hk⟩
    simp only [e1, e2, e3, if_neg n4]
    have t : ∀ k : Fin 70, ¬ (10 ≤ k.val ∧ k.val < 40) → (bgE k.val ↔ (k.val = 1 ∨ k.val = 2 ∨ k.val = 3 ∨ k.val = 51 ∨ k.val = 62 ∨ k.val = 60 ∨ k.val = 59 ∨ k.val = 41 ∨ k.val = 47)) := by decide
    have tt := t ⟨K, hk⟩ w
    simp only [] at tt
    simp only [tt]
    by_cases a1 : K = 1
    · simp [a1]
    · by_cases a2 : K = 2
      · simp [a2]
      · by_cases a3 : K = 3
        · simp [a3]
        · by_cases a4 : K = 51
          · simp [a4]; rfl
          · by_cases a5 : K = 62
            · simp [a5]; rfl
            · by_cases a6 : K = 60
              · simp [a6]; rfl
              · by_cases a7 : K = 59
                · simp [a7]; rfl
                · by_cases a8 : K = 41
                  · simp [a8]; rfl
                  · by_cases a9 : K = 47
                    · simp [a9]; rfl
                    · simp [a1, a2, a3, a4, a5, a6, a7, a8, a9]; rfl
def stC (k : Nat) : Nat := if k = 10 then 2 else if k = 24 then 1 else if k = 40 then 9 else if k = 41 then 9 else if k = 42 then 10 else if k = 43 then 10 else if k = 44 then 10 else if k = 45 then 6 else if k = 46 then 4 else if k = 47 then 5 else if k = 48 then 7 else if k = 49 then 7 else if k = 50 then 8 else if k = 52 then 3 else if k = 53 then 3 else if k = 54 then 3 else if k = 55 then 3 else if k = 56 then 3 else if k = 57 then 3 else 0
def stM (k : Nat) : Nat := if stC k ≤ 7 then stC k else stC k + 1
theorem stC_le : ∀ k : Nat, stC k ≤ 10 := by
  intro k
  by_cases h : k < 70
  · have t : ∀ j : Fin 70, stC j.val ≤ 10 := by decide
    exact t ⟨k, h⟩
  · unfold stC
    rw [if_neg (by omega), if_neg (by omega), if_neg (by omega), if_neg (by omega), if_neg (by omega), if_neg (by omega), if_neg (by omega), if_neg (by omega), if_neg (by omega), if_neg (by omega), if_neg (by omega), if_neg (by omega), if_neg (by omega), if_neg (by omega), if_neg (by omega), if_neg (by omega), if_neg (by omega), if_neg (by omega), if_neg (by omega)]
    omega
set_option maxRecDepth 4000 in
theorem c_strength (σ : lj_S) (k : Nat) (hk : k < 70) : lj_R lc_P 96 [.ref 6, .int (Int32.ofNat k)] σ = some (.inl (some (.int (Int32.ofNat (stC k)))), σ) := by
  rw [rc_96, kc_96_0]
  simp only [kc_96_216, kc_96_233, kc_96_243, kc_96_248, kc_96_253, kc_96_254]
  match k, hk with
  | 0, _ => rfl
  | 1, _ => rfl
  | 2, _ => rfl
  | 3, _ => rfl
  | 4, _ => rfl
  | 5, _ => rfl
  | 6, _ => rfl
  | 7, _ => rfl
  | 8, _ => rfl
  | 9, _ => rfl
  | 10, _ => rfl
  | 11, _ => rfl
  | 12, _ => rfl
  | 13, _ => rfl
  | 14, _ => rfl
  | 15, _ => rfl
  | 16, _ => rfl
  | 17, _ => rfl
  | 18, _ => rfl
  | 19, _ => rfl
  | 20, _ => rfl
  | 21, _ => rfl
  | 22, _ => rfl
  | 23, _ => rfl
  | 24, _ => rfl
  | 25, _ => rfl
  | 26, _ => rfl
  | 27, _ => rfl
  | 28, _ => rfl
  | 29, _ => rfl
  | 30, _ => rfl
  | 31, _ => rfl
  | 32, _ => rfl
  | 33, _ => rfl
  | 34, _ => rfl
  | 35, _ => rfl
  | 36, _ => rfl
  | 37, _ => rfl
  | 38, _ => rfl
  | 39, _ => rfl
  | 40, _ => rfl
  | 41, _ => rfl
  | 42, _ => rfl
  | 43, _ => rfl
  | 44, _ => rfl
  | 45, _ => rfl
  | 46, _ => rfl
  | 47, _ => rfl
  | 48, _ => rfl
  | 49, _ => rfl
  | 50, _ => rfl
  | 51, _ => rfl
  | 52, _ => rfl
  | 53, _ => rfl
  | 54, _ => rfl
  | 55, _ => rfl
  | 56, _ => rfl
  | 57, _ => rfl
  | 58, _ => rfl
  | 59, _ => rfl
  | 60, _ => rfl
  | 61, _ => rfl
  | 62, _ => rfl
  | 63, _ => rfl
  | 64, _ => rfl
  | 65, _ => rfl
  | 66, _ => rfl
  | 67, _ => rfl
  | 68, _ => rfl
  | 69, _ => rfl
  | n + 70, hk => exact absurd hk (by omega)
theorem m_leftOf (τ : lj_S) (k : Nat) (hk : 40 ≤ k ∧ k < 70) : lj_R lm_P 65 [.int (tkw k).toInt32] τ = some (.inl (some (.int (Int32.ofNat (stM k)))), τ) := by
  rw [rm_65, km_65_0]
  simp only [km_65_148, km_65_157, km_65_163, km_65_166]
  match k, hk with
  | 0, hk => exact absurd hk.1 (by omega)
  | 1, hk => exact absurd hk.1 (by omega)
  | 2, hk => exact absurd hk.1 (by omega)
  | 3, hk => exact absurd hk.1 (by omega)
  | 4, hk => exact absurd hk.1 (by omega)
  | 5, hk => exact absurd hk.1 (by omega)
  | 6, hk => exact absurd hk.1 (by omega)
  | 7, hk => exact absurd hk.1 (by omega)
  | 8, hk => exact absurd hk.1 (by omega)
  | 9, hk => exact absurd hk.1 (by omega)
  | 10, hk => exact absurd hk.1 (by omega)
  | 11, hk => exact absurd hk.1 (by omega)
  | 12, hk => exact absurd hk.1 (by omega)
  | 13, hk => exact absurd hk.1 (by omega)
  | 14, hk => exact absurd hk.1 (by omega)
  | 15, hk => exact absurd hk.1 (by omega)
  | 16, hk => exact absurd hk.1 (by omega)
  | 17, hk => exact absurd hk.1 (by omega)
  | 18, hk => exact absurd hk.1 (by omega)
  | 19, hk => exact absurd hk.1 (by omega)
  | 20, hk => exact absurd hk.1 (by omega)
  | 21, hk => exact absurd hk.1 (by omega)
  | 22, hk => exact absurd hk.1 (by omega)
  | 23, hk => exact absurd hk.1 (by omega)
  | 24, hk => exact absurd hk.1 (by omega)
  | 25, hk => exact absurd hk.1 (by omega)
  | 26, hk => exact absurd hk.1 (by omega)
  | 27, hk => exact absurd hk.1 (by omega)
  | 28, hk => exact absurd hk.1 (by omega)
  | 29, hk => exact absurd hk.1 (by omega)
  | 30, hk => exact absurd hk.1 (by omega)
  | 31, hk => exact absurd hk.1 (by omega)
  | 32, hk => exact absurd hk.1 (by omega)
  | 33, hk => exact absurd hk.1 (by omega)
  | 34, hk => exact absurd hk.1 (by omega)
  | 35, hk => exact absurd hk.1 (by omega)
  | 36, hk => exact absurd hk.1 (by omega)
  | 37, hk => exact absurd hk.1 (by omega)
  | 38, hk => exact absurd hk.1 (by omega)
  | 39, hk => exact absurd hk.1 (by omega)
  | 40, _ => rfl
  | 41, _ => rfl
  | 42, _ => rfl
  | 43, _ => rfl
  | 44, _ => rfl
  | 45, _ => rfl
  | 46, _ => rfl
  | 47, _ => rfl
  | 48, _ => rfl
  | 49, _ => rfl
  | 50, _ => rfl
  | 51, _ => rfl
  | 52, _ => rfl
  | 53, _ => rfl
  | 54, _ => rfl
  | 55, _ => rfl
  | 56, _ => rfl
  | 57, _ => rfl
  | 58, _ => rfl
  | 59, _ => rfl
  | 60, _ => rfl
  | 61, _ => rfl
  | 62, _ => rfl
  | 63, _ => rfl
  | 64, _ => rfl
  | 65, _ => rfl
  | 66, _ => rfl
  | 67, _ => rfl
  | 68, _ => rfl
  | 69, _ => rfl
  | n + 70, hk => exact absurd hk.2 (by omega)
theorem m_strength {b : Nat → Int32} {n T : Nat} {Q : tkQ} {σ τ : lj_S} (h : TE b n T Q σ τ) {p : Nat} (hp : p ≤ T) (h0 : τ.1 0 25 = Int32.ofNat p) : lj_R lm_P 64 [.ref 0] τ = some (.inl (some (.int (Int32.ofNat (stM (Q p).1)))), τ) := by
  have hk := tk_lt h hp
  have hI := (h.2.2.2.2.1 p hp).1
  obtain ⟨hin, hkk, hvv⟩ := m_kindv h hp h0
  have w24 := m_isWord h hp h0 14 (by omega) 15 rfl
  have w10 := m_isWord h hp h0 0 (by omega) 1 rfl
  rw [rm_64, km_64_0, w24]
  unfold lj_bi
  simp only [w10, if_pos hin, hkk, km_64_51]
  by_cases a : (Q p).1 = 24
  · rw [if_pos (show (Q p).1 = 10 + 14 by omega), if_neg (by decide), a]; rfl
  · rw [if_neg (show ¬ (Q p).1 = 10 + 14 by omega), if_pos rfl]
    by_cases c : (Q p).1 = 10
    · rw [if_pos (show (Q p).1 = 10 + 0 by omega), if_neg (by decide), c]; rfl
    · rw [if_neg (show ¬ (Q p).1 = 10 + 0 by omega), if_pos rfl]
      by_cases s : 40 ≤ (Q p).1
      · have e5 : tkk (Q p).1 = 5 := by
          have t : ∀ k : Fin 70, 40 ≤ k.val → tkk k.val = 5 := by decide
          exact t ⟨_, hk⟩ s
        rw [if_pos e5, hvv (by omega), m_leftOf τ (Q p).1 ⟨s, hk⟩]
      · have e5 : ¬ (tkk (Q p).1 = 5) := by
          have t : ∀ k : Fin 70, ¬ 40 ≤ k.val → ¬ tkk k.val = 5 := by decide
          exact t ⟨_, hk⟩ s
        have e0 : stM (Q p).1 = 0 := by
          have t : ∀ k : Fin 70, ¬ 40 ≤ k.val → k.val ≠ 24 → k.val ≠ 10 → stM k.val = 0 := by decide
          exact t ⟨_, hk⟩ s a c
        rw [if_neg e5, e0]; rfl
