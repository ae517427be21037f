/-! both heaps anew -/
theorem c_hc_a : ∀ (d i : Nat) (σ : lj_S), i + d = 3000 → ∃ σ', lj_D lc_P lc_M111 32 [.ref 7, .int (Int32.ofNat i)] [] σ = lj_D lc_P lc_M111 69 [.ref 7, .int 0] [] σ' ∧ (∀ k, i ≤ k → k < 3000 → σ'.1 70 k = if k + 1 < 3000 then Int32.ofNat (k + 1) else -1) ∧ lf (fun k j => k == 70 && decide (i ≤ j)) σ σ'
  | 0, i, σ, h => by
    refine ⟨σ, ?_, fun k h1 h2 => (by omega), lf_rf _ _⟩
    rw [kc_111_32, if_pos (by rw [show (3000 : Int32) = Int32.ofNat 3000 from rfl, ofN_le (by omega) (by omega)]; omega)]
  | d + 1, i, σ, h => by
    obtain ⟨σ', e1, e2, e3⟩ := c_hc_a d (i + 1) (lj_put σ 70 i (if i + 1 < 3000 then Int32.ofNat (i + 1) else -1)) (by omega)
    refine ⟨σ', ?_, fun k h1 h2 => ?_, ?_⟩
    · rw [kc_111_32, if_neg (by rw [show (3000 : Int32) = Int32.ofNat 3000 from rfl, ofN_le (by omega) (by omega)]; omega), lz_osucc]
      by_cases z : i + 1 < 3000
      · rw [if_neg (by rw [show (3000 : Int32) = Int32.ofNat 3000 from rfl, ofN_le (by omega) (by omega)]; omega), kc_111_60, if_pos (ofN_in (by omega) (by omega)), lz_onat (by omega), lz_osucc]
        rw [if_pos z] at e1
        exact e1
      · rw [if_pos (by rw [show (3000 : Int32) = Int32.ofNat 3000 from rfl, ofN_le (by omega) (by omega)]; omega), kc_111_60, if_pos (ofN_in (by omega) (by omega)), lz_onat (by omega), lz_osucc]
        rw [if_neg z] at e1
        exact e1
    · by_cases z : k = i
      · rw [z, (e3 70 i (by simp)).1, lj_put_1, if_pos ⟨rfl, rfl⟩]
      · exact e2 k (by omega) (by omega)
    · exact (lf_put (lf_rf _ _) _ _ _ (by simp)).tr (e3.mo (fun k j w => by
        simp at w ⊢
        omega))
theorem c_hc_b : ∀ (d i : Nat) (σ : lj_S), i + d = 4096 → ∃ σ', lj_D lc_P lc_M111 69 [.ref 7, .int (Int32.ofNat i)] [] σ = lj_bv (lj_R lc_P 112 [.ref 7, .int 0] σ') (fun σ1 => some (.inl none, σ1)) lj_up ∧ (∀ k, i ≤ k → k < 4096 → σ'.1 73 k = -1) ∧ lf (fun k j => k == 73 && decide (i ≤ j)) σ σ'
  | 0, i, σ, h => by
    refine ⟨σ, ?_, fun k h1 h2 => (by omega), lf_rf _ _⟩
    rw [kc_111_69, if_pos (by rw [show (4096 : Int32) = Int32.ofNat 4096 from rfl, ofN_le (by omega) (by omega)]; omega)]
  | d + 1, i, σ, h => by
    obtain ⟨σ', e1, e2, e3⟩ := c_hc_b d (i + 1) (lj_put σ 73 i (-1)) (by omega)
    refine ⟨σ', ?_, fun k h1 h2 => ?_, ?_⟩
    · rw [kc_111_69, if_neg (by rw [show (4096 : Int32) = Int32.ofNat 4096 from rfl, ofN_le (by omega) (by omega)]; omega), if_pos (ofN_in (by omega) (by omega)), lz_onat (by omega), lz_osucc]
      exact e1
    · by_cases z : k = i
      · rw [z, (e3 73 i (by simp)).1, lj_put_1, if_pos ⟨rfl, rfl⟩]
      · exact e2 k (by omega) (by omega)
    · exact (lf_put (lf_rf _ _) _ _ _ (by simp)).tr (e3.mo (fun k j w => by
        simp at w ⊢
        omega))
def hcS (k j : Nat) : Bool := k == 70 || k == 73 || (Nat.ble 57 k && Nat.ble k 61) || k == 65 || (k == 7 && (j == 0 || j == 1 || j == 11 || j == 12 || j == 21 || j == 25))
/-- a heap without anything but the globals -/
def hc0 (σ : lj_S) : Prop := (σ.1 7 0 = 0 ∧ σ.1 7 1 = 0 ∧ σ.1 7 11 = 0 ∧ σ.1 7 12 = 0 ∧ σ.1 7 21 = 0 ∧ σ.1 7 25 = 0) ∧ (∀ k, k < 3000 → σ.1 70 k = if k + 1 < 3000 then Int32.ofNat (k + 1) else -1) ∧ (∀ b, b < 4096 → σ.1 73 b = -1) ∧ (σ.1 57 0 = 4 ∧ σ.1 58 0 = -1 ∧ σ.1 59 0 = -1 ∧ σ.1 60 0 = -1 ∧ σ.1 61 0 = 0 ∧ σ.1 65 0 = 0)
theorem c_hclear (σ : lj_S) : ∃ σ', lj_R lc_P 111 [.ref 7] σ = some (.inl none, σ') ∧ hc0 σ' ∧ lf hcS σ σ' := by
  obtain ⟨σ0, hσ0⟩ : ∃ s, s = lj_put (lj_put (lj_put (lj_put (lj_put (lj_put σ 7 0 0) 7 1 0) 7 21 0) 7 25 0) 7 11 0) 7 12 0 := ⟨_, rfl⟩
  obtain ⟨σ1, a1, a2, a3⟩ := c_hc_a 3000 0 σ0 rfl
  obtain ⟨σ2, b1, b2, b3⟩ := c_hc_b 4096 0 σ1 rfl
  obtain ⟨σ', hσ'⟩ : ∃ s, s = lj_put (lj_put (lj_put (lj_put (lj_put (lj_put σ2 57 0 4) 58 0 (-1)) 59 0 (-1)) 60 0 (-1)) 61 0 0) 65 0 0 := ⟨_, rfl⟩
  have l0 : lf hcS σ σ0 := by rw [hσ0]; exact lf_put (lf_put (lf_put (lf_put (lf_put (lf_put (lf_rf _ _) _ _ _ rfl) _ _ _ rfl) _ _ _ rfl) _ _ _ rfl) _ _ _ rfl) _ _ _ rfl
  have l1 : lf hcS σ0 σ1 := a3.mo (fun k j w => by unfold hcS at w; simp at w ⊢; omega)
  have l2 : lf hcS σ1 σ2 := b3.mo (fun k j w => by unfold hcS at w; simp at w ⊢; omega)
  have l3 : lf hcS σ σ' := by rw [hσ']; exact lf_put (lf_put (lf_put (lf_put (lf_put (lf_put ((l0.tr l1).tr l2) _ _ _ rfl) _ _ _ rfl) _ _ _ rfl) _ _ _ rfl) _ _ _ rfl) _ _ _ rfl
  have o7 : ∀ j, σ'.1 7 j = σ0.1 7 j := fun j => by rw [hσ', lj_put_1, if_neg (by omega), lj_put_1, if_neg (by omega), lj_put_1, if_neg (by omega), lj_put_1, if_neg (by omega), lj_put_1, if_neg (by omega), lj_put_1, if_neg (by omega), (b3 7 j rfl).1, (a3 7 j rfl).1]
  have o : ∀ k j, (k = 70 ∨ k = 73) → σ'.1 k j = σ2.1 k j := fun k j w => by rw [hσ', lj_put_1, if_neg (by omega), lj_put_1, if_neg (by omega), lj_put_1, if_neg (by omega), lj_put_1, if_neg (by omega), lj_put_1, if_neg (by omega), lj_put_1, if_neg (by omega)]
  refine ⟨σ', ?_, ⟨⟨?_, ?_, ?_, ?_, ?_, ?_⟩, fun k hk => ?_, fun b hb => ?_, ⟨?_, ?_, ?_, ?_, ?_, ?_⟩⟩, l3⟩
  · have i0 : lj_in 0 2001 := by decide
    rw [rc_111, kc_111_0, ← hσ0, show (0 : Int32) = Int32.ofNat 0 from rfl, a1, show (0 : Int32) = Int32.ofNat 0 from rfl, b1, rc_112, kc_112_0, if_pos i0, if_pos i0, if_pos i0, if_pos i0, if_pos i0, if_pos i0, bv_ok, hσ']
    rfl
  · rw [o7, hσ0]; simp [lj_put_1]
  · rw [o7, hσ0]; simp [lj_put_1]
  · rw [o7, hσ0]; simp [lj_put_1]
  · rw [o7, hσ0]; simp [lj_put_1]
  · rw [o7, hσ0]; simp [lj_put_1]
  · rw [o7, hσ0]; simp [lj_put_1]
  · rw [o 70 k (Or.inl rfl), (b3 70 k rfl).1]; exact a2 k (Nat.zero_le _) hk
  · rw [o 73 b (Or.inr rfl)]; exact b2 b (Nat.zero_le _) hb
  · rw [hσ']; simp [lj_put_1]
  · rw [hσ']; simp [lj_put_1]
  · rw [hσ']; simp [lj_put_1]
  · rw [hσ']; simp [lj_put_1]
  · rw [hσ']; simp [lj_put_1]
  · rw [hσ']; simp [lj_put_1]
/-- the model: sorts of strings are set back -/
theorem m_fg_s {b : Nat} (hb : b ≤ 3000) : ∀ (d i : Nat) (τ : lj_S), i + d = b → τ.1 0 15 = Int32.ofNat b → ∃ τ', lj_D lm_P lm_M106 14 [.ref 0, .int (Int32.ofNat i)] [] τ = lj_D lm_P lm_M106 66 [.ref 0, .int 0] [] (lj_put (lj_put τ' 0 17 0) 0 18 0) ∧ (∀ s, i ≤ s → s < b → τ'.1 5 s = if τ.1 5 s = 2 then 0 else τ.1 5 s) ∧ lf (fun k j => k == 5 && decide (i ≤ j)) τ τ'
  | 0, i, τ, h, h15 => by
    refine ⟨τ, ?_, fun s h1 h2 => (by omega), lf_rf _ _⟩
    rw [km_106_14, h15, if_pos (by rw [ofN_le (by omega) (by omega)]; omega)]
  | d + 1, i, τ, h, h15 => by
    obtain ⟨τ', e1, e2, e3⟩ := m_fg_s hb d (i + 1) (lj_put τ 5 i (if τ.1 5 i = 2 then 0 else τ.1 5 i)) (by omega) (by rw [lj_put_1, if_neg (by omega)]; exact h15)
    refine ⟨τ', ?_, fun s h1 h2 => ?_, ?_⟩
    · rw [km_106_14, h15, if_neg (by rw [ofN_le (by omega) (by omega)]; omega), if_pos (ofN_in (by omega) (by omega)), lz_onat (by omega)]
      by_cases z : τ.1 5 i = 2
      · rw [if_pos z, km_106_47, if_pos (ofN_in (by omega) (by omega)), lz_onat (by omega), lz_osucc]
        rw [if_pos z] at e1
        exact e1
      · rw [if_neg z, if_pos (ofN_in (by omega) (by omega)), km_106_47, if_pos (ofN_in (by omega) (by omega)), lz_onat (by omega), lz_osucc]
        rw [if_neg z] at e1
        exact e1
    · by_cases z : s = i
      · rw [z, (e3 5 i (by simp)).1, lj_put_1, if_pos ⟨rfl, rfl⟩]
      · rw [e2 s (by omega) (by omega), lj_put_1, if_neg (by omega)]
    · exact (lf_put (lf_rf _ _) _ _ _ (by simp)).tr (e3.mo (fun k j w => by
        simp at w ⊢
        omega))
theorem m_fg_h : ∀ (d i : Nat) (τ : lj_S), i + d = 4096 → ∃ τ', lj_D lm_P lm_M106 66 [.ref 0, .int (Int32.ofNat i)] [] τ = lj_D lm_P lm_M106 95 [.ref 0, .int 2999] [] (lj_put τ' 0 88 0) ∧ (∀ s, i ≤ s → s < 4096 → τ'.1 52 s = -1) ∧ lf (fun k j => k == 52 && decide (i ≤ j)) τ τ'
  | 0, i, τ, h => by
    refine ⟨τ, ?_, fun s h1 h2 => (by omega), lf_rf _ _⟩
    rw [km_106_66, if_pos (by rw [show (4096 : Int32) = Int32.ofNat 4096 from rfl, ofN_le (by omega) (by omega)]; omega)]
  | d + 1, i, τ, h => by
    obtain ⟨τ', e1, e2, e3⟩ := m_fg_h d (i + 1) (lj_put τ 52 i (-1)) (by omega)
    refine ⟨τ', ?_, fun s h1 h2 => ?_, ?_⟩
    · rw [km_106_66, if_neg (by rw [show (4096 : Int32) = Int32.ofNat 4096 from rfl, ofN_le (by omega) (by omega)]; omega), if_pos (ofN_in (by omega) (by omega)), lz_onat (by omega), lz_osucc]
      exact e1
    · by_cases z : s = i
      · rw [z, (e3 52 i (by simp)).1, lj_put_1, if_pos ⟨rfl, rfl⟩]
      · exact e2 s (by omega) (by omega)
    · exact (lf_put (lf_rf _ _) _ _ _ (by simp)).tr (e3.mo (fun k j w => by
        simp at w ⊢
        omega))
/-- r to go: the number at hand -/
def rX (r : Nat) : Int32 := if r = 0 then -1 else Int32.ofNat (r - 1)
theorem rX_s {r : Nat} (hr : r < 2000000) : rX (r + 1) = Int32.ofNat r ∧ Int32.ofNat r + (-1) = rX r ∧ ¬ (Int32.ofNat r < 0) := by
  refine ⟨by unfold rX; rw [if_neg (by omega)]; rfl, ?_, by rw [lz_lt, lz_lit (by omega)]; show ¬ ((r : Int) < 0); omega⟩
  unfold rX
  by_cases z : r = 0
  · rw [z]; rfl
  · rw [if_neg z]
    apply lz_ext
    rw [lz_add (by rw [lz_lit (by omega)]; show _ ≤ (r : Int) + (-1) ∧ (r : Int) + (-1) < _; omega), lz_lit (by omega), lz_lit (by omega)]
    show (r : Int) + (-1) = _
    omega
theorem m_fg_p : ∀ (r c : Nat) (τ : lj_S), c + r = 3000 → τ.1 0 88 = Int32.ofNat c → ∃ τ', lj_D lm_P lm_M106 95 [.ref 0, .int (rX r)] [] τ = lj_D lm_P lm_M106 139 [.ref 0, .int 94999] [] (lj_put (lj_put τ' 0 89 0) 0 96 0) ∧ τ'.1 0 88 = Int32.ofNat 3000 ∧ (∀ i, c ≤ i → i < 3000 → τ'.1 53 i = Int32.ofNat (2999 - i)) ∧ lf (fun k j => (k == 53 && decide (c ≤ j)) || (k == 0 && j == 88)) τ τ'
  | 0, c, τ, h, h88 => by
    have e : c = 3000 := h
    refine ⟨τ, ?_, by rw [h88, e], fun i h1 h2 => (by omega), lf_rf _ _⟩
    rw [km_106_95, if_pos (by unfold rX; decide)]
  | r + 1, c, τ, h, h88 => by
    obtain ⟨x1, x2, x3⟩ := rX_s (r := r) (by omega)
    obtain ⟨τ', e1, e2, e3, e4⟩ := m_fg_p r (c + 1) (lj_put (lj_put τ 53 c (Int32.ofNat r)) 0 88 (Int32.ofNat (c + 1))) (by omega) (by rw [lj_put_1, if_pos ⟨rfl, rfl⟩])
    refine ⟨τ', ?_, e2, fun i h1 h2 => ?_, ?_⟩
    · rw [x1, km_106_95, if_neg x3, h88, if_pos (ofN_in (by omega) (by omega)), lz_onat (by omega), lz_osucc, x2]
      exact e1
    · by_cases z : i = c
      · rw [z, (e4 53 c (by simp)).1, lj_put_1, if_neg (by omega), lj_put_1, if_pos ⟨rfl, rfl⟩, show r = 2999 - c by omega]
      · exact e3 i (by omega) (by omega)
    · exact (lf_put (lf_put (lf_rf _ _) _ _ _ (by simp)) _ _ _ (by simp)).tr (e4.mo (fun k j w => by
        simp at w ⊢
        omega))
/-- the model's state when all was forgotten -/
def mFg (τ : lj_S) : lj_S := lj_put (lj_put (lj_putL (lj_put (lj_put (lj_put (lj_put (lj_putL (lj_put τ 0 77 0) 0 78 0) 0 110 0) 0 152 0) 0 153 0) 0 150 0) 0 145 0) 0 143 0) 0 148 0
theorem m_fg_c : ∀ (r c : Nat) (τ : lj_S), c + r = 95000 → τ.1 0 96 = Int32.ofNat c → ∃ τ', lj_D lm_P lm_M106 139 [.ref 0, .int (rX r)] [] τ = some (.inl none, mFg τ') ∧ τ'.1 0 96 = Int32.ofNat 95000 ∧ (∀ i, c ≤ i → i < 95000 → τ'.1 57 i = Int32.ofNat (94999 - i)) ∧ lf (fun k j => (k == 57 && decide (c ≤ j)) || (k == 0 && j == 96)) τ τ'
  | 0, c, τ, h, h88 => by
    have e : c = 95000 := h
    refine ⟨τ, ?_, by rw [h88, e], fun i h1 h2 => (by omega), lf_rf _ _⟩
    rw [km_106_139, if_pos (by unfold rX; decide)]
    rfl
  | r + 1, c, τ, h, h88 => by
    obtain ⟨x1, x2, x3⟩ := rX_s (r := r) (by omega)
    obtain ⟨τ', e1, e2, e3, e4⟩ := m_fg_c r (c + 1) (lj_put (lj_put τ 57 c (Int32.ofNat r)) 0 96 (Int32.ofNat (c + 1))) (by omega) (by rw [lj_put_1, if_pos ⟨rfl, rfl⟩])
    refine ⟨τ', ?_, e2, fun i h1 h2 => ?_, ?_⟩
    · rw [x1, km_106_139, if_neg x3, h88, if_pos (ofN_in (by omega) (by omega)), lz_onat (by omega), lz_osucc, x2]
      exact e1
    · by_cases z : i = c
      · rw [z, (e4 57 c (by simp)).1, lj_put_1, if_neg (by omega), lj_put_1, if_pos ⟨rfl, rfl⟩, show r = 94999 - c by omega]
      · exact e3 i (by omega) (by omega)
    · exact (lf_put (lf_put (lf_rf _ _) _ _ _ (by simp)) _ _ _ (by simp)).tr (e4.mo (fun k j w => by
        simp at w ⊢
        omega))
def fgMx (k j : Nat) : Bool := k == 5 || k == 7 || k == 52 || k == 53 || k == 57 || (k == 0 && (j == 8 || j == 14 || j == 17 || j == 18 || j == 77 || j == 78 || j == 88 || j == 89 || j == 96 || j == 110 || j == 143 || j == 145 || j == 148 || j == 150 || j == 152 || j == 153))
/-- the model forgets what a run made -/
theorem m_forg {τ : lj_S} (h : mOK τ) {b : Nat} (hb : (b : Int) ≤ lv τ 0 14) (h15 : τ.1 0 15 = Int32.ofNat b) (h16 : (τ.1 0 16).toInt = if (b : Int) < lv τ 0 14 then lv τ 3 b else lv τ 0 8) : ∃ τ', lj_R lm_P 106 [.ref 0] τ = some (.inl none, τ') ∧ mOK τ' ∧ (lv τ' 0 14 = (b : Int) ∧ τ'.1 0 8 = τ.1 0 16) ∧ (∀ s, s < b → τ'.1 5 s = if τ.1 5 s = 2 then 0 else τ.1 5 s) ∧ (τ'.1 0 17 = 0 ∧ τ'.1 0 18 = 0 ∧ τ'.1 0 77 = 0 ∧ τ'.2 0 78 = 0 ∧ τ'.1 0 88 = Int32.ofNat 3000 ∧ τ'.1 0 89 = 0 ∧ τ'.1 0 96 = Int32.ofNat 95000) ∧ (τ'.1 0 110 = 0 ∧ τ'.1 0 143 = 0 ∧ τ'.2 0 145 = 0 ∧ τ'.1 0 148 = 0 ∧ τ'.1 0 150 = 0 ∧ τ'.1 0 152 = 0 ∧ τ'.1 0 153 = 0) ∧ (∀ i, i < 4096 → τ'.1 52 i = -1) ∧ (∀ i, i < 3000 → τ'.1 53 i = Int32.ofNat (2999 - i)) ∧ (∀ i, i < 95000 → τ'.1 57 i = Int32.ofNat (94999 - i)) ∧ lf fgMx τ τ' := by
  obtain ⟨τ1, a1, a2, a3, a4, a5⟩ := m_forget h hb h16
  have b3 : b ≤ 3000 := by have := h.1.2; omega
  obtain ⟨τ2, b1, b2, b4⟩ := m_fg_s b3 b 0 τ1 (by omega) (by rw [(a5 0 15 rfl).1]; exact h15)
  obtain ⟨τ3, c1, c2, c3⟩ := m_fg_h 4096 0 (lj_put (lj_put τ2 0 17 0) 0 18 0) rfl
  obtain ⟨τ4, d1, d2, d3, d4⟩ := m_fg_p 3000 0 (lj_put τ3 0 88 0) rfl (by rw [lj_put_1, if_pos ⟨rfl, rfl⟩]; rfl)
  obtain ⟨τ5, e1, e2, e3, e4⟩ := m_fg_c 95000 0 (lj_put (lj_put τ4 0 89 0) 0 96 0) rfl (by rw [lj_put_1, if_pos ⟨rfl, rfl⟩]; rfl)
  have L1 : lf fgMx τ τ1 := a5.mo (fun k j w => by unfold fgMx at w; unfold fgS; simp at w ⊢; omega)
  have L2 : lf fgMx τ1 (lj_put (lj_put τ2 0 17 0) 0 18 0) := lf_put (lf_put (b4.mo (fun k j w => by unfold fgMx at w; simp at w ⊢; omega)) _ _ _ rfl) _ _ _ rfl
  have L3 : lf fgMx (lj_put (lj_put τ2 0 17 0) 0 18 0) (lj_put τ3 0 88 0) := lf_put (c3.mo (fun k j w => by unfold fgMx at w; simp at w ⊢; omega)) _ _ _ rfl
  have L4 : lf fgMx (lj_put τ3 0 88 0) (lj_put (lj_put τ4 0 89 0) 0 96 0) := lf_put (lf_put (d4.mo (fun k j w => by unfold fgMx at w; simp at w ⊢; omega)) _ _ _ rfl) _ _ _ rfl
  have L5 : lf fgMx (lj_put (lj_put τ4 0 89 0) 0 96 0) (mFg τ5) := by
    unfold mFg
    exact lf_put (lf_put (lf_putL (lf_put (lf_put (lf_put (lf_put (lf_putL (lf_put (e4.mo (fun k j w => by unfold fgMx at w; simp at w ⊢; omega)) _ _ _ rfl) _ _ _ rfl) _ _ _ rfl) _ _ _ rfl) _ _ _ rfl) _ _ _ rfl) _ _ _ rfl) _ _ _ rfl) _ _ _ rfl
  have LA := (((L1.tr L2).tr L3).tr L4).tr L5
  -- from τ1 on: strings but their sorts are as they are
  have S : ∀ k j, ¬ (k = 5 ∨ k = 52 ∨ k = 53 ∨ k = 57 ∨ k = 0) → (mFg τ5).1 k j = τ1.1 k j := fun k j w => by
    rw [show (mFg τ5).1 k j = τ5.1 k j by unfold mFg; simp only [lj_put_1, lj_putL_1]; simp; omega, (e4 k j (by simp; omega)).1, lj_put_1, if_neg (by omega), lj_put_1, if_neg (by omega), (d4 k j (by simp; omega)).1, lj_put_1, if_neg (by omega), (c3 k j (by simp; omega)).1, lj_put_1, if_neg (by omega), lj_put_1, if_neg (by omega), (b4 k j (by simp; omega)).1]
  have S0 : ∀ j, (j = 8 ∨ j = 14) → (mFg τ5).1 0 j = τ1.1 0 j := fun j w => by
    rw [show (mFg τ5).1 0 j = τ5.1 0 j by unfold mFg; simp only [lj_put_1, lj_putL_1]; rcases w with e | e <;> rw [e] <;> simp, (e4 0 j (by simp; omega)).1, lj_put_1, if_neg (by omega), lj_put_1, if_neg (by omega), (d4 0 j (by simp; omega)).1, lj_put_1, if_neg (by omega), (c3 0 j rfl).1, lj_put_1, if_neg (by omega), lj_put_1, if_neg (by omega), (b4 0 j rfl).1]
  have ok : mOK (mFg τ5) := mOK_cong a2 (fun j => S 2 j (by omega)) (fun j => S 3 j (by omega)) (fun j => S 4 j (by omega)) (fun j => S 6 j (by omega)) (fun j => S 7 j (by omega)) (S0 14 (Or.inr rfl)) (S0 8 (Or.inl rfl))
  refine ⟨mFg τ5, ?_, ok, ⟨?_, ?_⟩, fun s hs => ?_, ⟨?_, ?_, ?_, ?_, ?_, ?_, ?_⟩, ⟨?_, ?_, ?_, ?_, ?_, ?_, ?_⟩, fun i hi => ?_, fun i hi => ?_, fun i hi => ?_, LA⟩
  · rw [rm_106, km_106_0, h15, a1, bv_ok, show (0 : Int32) = Int32.ofNat 0 from rfl, b1, show (0 : Int32) = Int32.ofNat 0 from rfl, c1]
    rw [show (2999 : Int32) = rX 3000 from rfl, show (Int32.ofNat 0) = 0 from rfl, d1, show (94999 : Int32) = rX 95000 from rfl, e1]
  · have := S0 14 (Or.inr rfl); unfold lv at a3 ⊢; rw [this]; exact a3
  · rw [S0 8 (Or.inl rfl), a4]
  · have : (mFg τ5).1 5 s = τ2.1 5 s := by
      rw [show (mFg τ5).1 5 s = τ5.1 5 s by unfold mFg; simp [lj_put_1, lj_putL_1], (e4 5 s rfl).1, lj_put_1, if_neg (by omega), lj_put_1, if_neg (by omega), (d4 5 s rfl).1, lj_put_1, if_neg (by omega), (c3 5 s rfl).1, lj_put_1, if_neg (by omega), lj_put_1, if_neg (by omega)]
    rw [this, b2 s (Nat.zero_le _) hs, (a5 5 s rfl).1]
  · rw [show (mFg τ5).1 0 17 = τ5.1 0 17 by unfold mFg; simp [lj_put_1, lj_putL_1], (e4 0 17 rfl).1, lj_put_1, if_neg (by omega), lj_put_1, if_neg (by omega), (d4 0 17 rfl).1, lj_put_1, if_neg (by omega), (c3 0 17 rfl).1, lj_put_1, if_neg (by omega), lj_put_1, if_pos ⟨rfl, rfl⟩]
  · rw [show (mFg τ5).1 0 18 = τ5.1 0 18 by unfold mFg; simp [lj_put_1, lj_putL_1], (e4 0 18 rfl).1, lj_put_1, if_neg (by omega), lj_put_1, if_neg (by omega), (d4 0 18 rfl).1, lj_put_1, if_neg (by omega), (c3 0 18 rfl).1, lj_put_1, if_pos ⟨rfl, rfl⟩]
  · unfold mFg; simp [lj_put_1, lj_putL_1]
  · unfold mFg; simp [lj_put_2, lj_putL_2]
  · rw [show (mFg τ5).1 0 88 = τ5.1 0 88 by unfold mFg; simp [lj_put_1, lj_putL_1], (e4 0 88 rfl).1, lj_put_1, if_neg (by omega), lj_put_1, if_neg (by omega), d2]
  · rw [show (mFg τ5).1 0 89 = τ5.1 0 89 by unfold mFg; simp [lj_put_1, lj_putL_1], (e4 0 89 rfl).1, lj_put_1, if_neg (by omega), lj_put_1, if_pos ⟨rfl, rfl⟩]
  · rw [show (mFg τ5).1 0 96 = τ5.1 0 96 by unfold mFg; simp [lj_put_1, lj_putL_1], e2]
  · unfold mFg; simp [lj_put_1, lj_putL_1]
  · unfold mFg; simp [lj_put_1, lj_putL_1]
  · unfold mFg; simp [lj_put_2, lj_putL_2]
  · unfold mFg; simp [lj_put_1, lj_putL_1]
  · unfold mFg; simp [lj_put_1, lj_putL_1]
  · unfold mFg; simp [lj_put_1, lj_putL_1]
  · unfold mFg; simp [lj_put_1, lj_putL_1]
  · rw [show (mFg τ5).1 52 i = τ5.1 52 i by unfold mFg; simp [lj_put_1, lj_putL_1], (e4 52 i rfl).1, lj_put_1, if_neg (by omega), lj_put_1, if_neg (by omega), (d4 52 i rfl).1, lj_put_1, if_neg (by omega)]
    exact c2 i (Nat.zero_le _) hi
  · rw [show (mFg τ5).1 53 i = τ5.1 53 i by unfold mFg; simp [lj_put_1, lj_putL_1], (e4 53 i rfl).1, lj_put_1, if_neg (by omega), lj_put_1, if_neg (by omega)]
    exact d3 i (Nat.zero_le _) hi
  · rw [show (mFg τ5).1 57 i = τ5.1 57 i by unfold mFg; simp [lj_put_1, lj_putL_1]]
    exact e3 i (Nat.zero_le _) hi
