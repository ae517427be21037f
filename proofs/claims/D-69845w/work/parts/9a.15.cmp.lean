/-! bytes of strings; which string comes first -/
theorem c_sbyte {σ : lj_S} {s : Nat} (hs : cIn σ s) {i : Nat} (hi : i < (cS σ s).length) : lj_R lc_P 37 [.ref 3, .int (Int32.ofNat s), .int (Int32.ofNat i)] σ = some (.inl (some (.int ((cS σ s)[i] &&& 255))), σ) := by
  obtain ⟨h1, h2, h3, h4⟩ := hs
  have ln := cS_len σ s
  have e : (Int32.ofNat s).toNatClampNeg = s := lz_onat (by omega)
  have ad : (σ.1 10 s + Int32.ofNat i).toInt = lv σ 10 s + i := by rw [lz_add (by rw [lz_lit (by omega), lv_def]; omega), lz_lit (by omega), lv_def]
  have q : lj_in (σ.1 10 (Int32.ofNat s).toNatClampNeg + Int32.ofNat i) 40000 := by rw [e]; exact lz_in.2 (by rw [ad]; omega)
  have n : (σ.1 10 s + Int32.ofNat i).toNatClampNeg = (lv σ 10 s).toNat + i := by rw [lz_nat, ad]; omega
  rw [rc_37, kc_37_0, if_pos (ofN_in h1 (by omega)), if_pos q, e, n, cS_get]
theorem m_sbyte {τ : lj_S} {s : Nat} (hs : mIn τ s) {i : Nat} (hi : i < (mS τ s).length) : lj_in (τ.1 3 s + Int32.ofNat i) 40000 ∧ τ.1 2 (τ.1 3 s + Int32.ofNat i).toNatClampNeg = (mS τ s)[i] := by
  obtain ⟨h1, h2, h3, h4⟩ := hs
  have ln := mS_len τ s
  have ad : (τ.1 3 s + Int32.ofNat i).toInt = lv τ 3 s + i := by rw [lz_add (by rw [lz_lit (by omega), lv_def]; omega), lz_lit (by omega), lv_def]
  have n : (τ.1 3 s + Int32.ofNat i).toNatClampNeg = (lv τ 3 s).toNat + i := by rw [lz_nat, ad]; omega
  exact ⟨lz_in.2 (by rw [ad]; omega), by rw [n, mS_get]⟩
/-- rows of bytes: which comes first -/
def cmpL : List Int32 → List Int32 → Int32
  | [], [] => 0
  | [], _ :: _ => -1
  | _ :: _, [] => 1
  | x :: l, y :: r => if x &&& 255 = y &&& 255 then cmpL l r else if y &&& 255 ≤ x &&& 255 then 1 else -1
theorem cmpL_end {A B : List Int32} {i : Nat} (h : i = min A.length B.length) : cmpL (A.drop i) (B.drop i) = if A.length = B.length then 0 else if B.length < A.length then 1 else -1 := by
  by_cases e : A.length = B.length
  · rw [if_pos e, List.drop_of_length_le (by omega), List.drop_of_length_le (by omega)]
    rfl
  · rw [if_neg e]
    by_cases w : B.length < A.length
    · rw [if_pos w, List.drop_of_length_le (l := B) (by omega), List.drop_eq_getElem_cons (show i < A.length by omega)]
      rfl
    · rw [if_neg w, List.drop_of_length_le (l := A) (by omega), List.drop_eq_getElem_cons (show i < B.length by omega)]
      rfl
theorem cmpL_step {A B : List Int32} {i : Nat} (ha : i < A.length) (hb : i < B.length) : cmpL (A.drop i) (B.drop i) = if A[i] &&& 255 = B[i] &&& 255 then cmpL (A.drop (i + 1)) (B.drop (i + 1)) else if B[i] &&& 255 ≤ A[i] &&& 255 then 1 else -1 := by
  rw [List.drop_eq_getElem_cons ha, List.drop_eq_getElem_cons hb]
  rfl
theorem c_cmp_loop {σ : lj_S} {a b : Nat} (ha : cIn σ a) (hb : cIn σ b) : ∀ (d i : Nat), i + d = min (cS σ a).length (cS σ b).length → lj_D lc_P lc_M38 19 [.ref 3, .int (Int32.ofNat a), .int (Int32.ofNat b), .int (Int32.ofNat (min (cS σ a).length (cS σ b).length)), .int (Int32.ofNat i)] [] σ = some (.inl (some (.int (cmpL ((cS σ a).drop i) ((cS σ b).drop i)))), σ)
  | 0, i, hi => by
    have la := cS_len σ a
    have lb := cS_len σ b
    have a1 := ha.1
    have b1 := hb.1
    have a3 := ha.2.2.1
    have b3 := hb.2.2.1
    have a4 := ha.2.2.2
    have b4 := hb.2.2.2
    have a2 := ha.2.1
    have b2 := hb.2.1
    have ea : σ.1 11 (Int32.ofNat a).toNatClampNeg = Int32.ofNat (cS σ a).length := by rw [lz_onat (by omega)]; exact lz_ext (by rw [lz_lit (by omega), la]; show lv σ 11 a = _; omega)
    have eb : σ.1 11 (Int32.ofNat b).toNatClampNeg = Int32.ofNat (cS σ b).length := by rw [lz_onat (by omega)]; exact lz_ext (by rw [lz_lit (by omega), lb]; show lv σ 11 b = _; omega)
    rw [kc_38_19, if_pos (by rw [ofN_le (by omega) (by omega)]; omega), if_pos (ofN_in a1 (by omega)), if_pos (ofN_in b1 (by omega)), ea, eb, cmpL_end (by omega), rc_228, kc_228_0]
    by_cases e : (cS σ a).length = (cS σ b).length
    · rw [if_pos (by rw [ofN_le (by omega) (by omega)]; omega), if_pos (by rw [e]), kc_228_19, bi_ok, if_pos e]
    · rw [if_neg e]
      by_cases w : (cS σ b).length < (cS σ a).length
      · rw [if_pos (by rw [ofN_le (by omega) (by omega)]; omega), if_neg (fun z => e ((ofN_eq (by omega) (by omega)).1 z)), kc_228_19, bi_ok, if_pos w]
      · rw [if_neg (by rw [ofN_le (by omega) (by omega)]; omega), kc_228_19, bi_ok, if_neg w]
  | d + 1, i, hi => by
    have la := cS_len σ a
    have lb := cS_len σ b
    have a4 := ha.2.2.2
    have b4 := hb.2.2.2
    have a2 := ha.2.1
    have b2 := hb.2.1
    have hA : i < (cS σ a).length := by omega
    have hB : i < (cS σ b).length := by omega
    have cA := c_sbyte ha hA
    have cB := c_sbyte hb hB
    rw [kc_38_19, if_neg (by rw [ofN_le (by omega) (by omega)]; omega), cA, bi_ok, cB, bi_ok, cmpL_step hA hB]
    by_cases e : (cS σ a)[i] &&& 255 = (cS σ b)[i] &&& 255
    · rw [if_pos e, if_pos e, lz_osucc]
      exact c_cmp_loop ha hb d (i + 1) (by omega)
    · rw [if_neg e, if_neg e, cA, bi_ok, cB, bi_ok]
      by_cases w : (cS σ b)[i] &&& 255 ≤ (cS σ a)[i] &&& 255
      · rw [if_pos w, if_pos w, kc_38_64]
      · rw [if_neg w, if_neg w, kc_38_64]
theorem c_compare {σ : lj_S} {a b : Nat} (ha : cIn σ a) (hb : cIn σ b) : lj_R lc_P 38 [.ref 3, .int (Int32.ofNat a), .int (Int32.ofNat b)] σ = some (.inl (some (.int (cmpL (cS σ a) (cS σ b)))), σ) := by
  have la := cS_len σ a
  have lb := cS_len σ b
  have a1 := ha.1
  have b1 := hb.1
  have a2 := ha.2.1
  have b2 := hb.2.1
  have a3 := ha.2.2.1
  have b3 := hb.2.2.1
  have a4 := ha.2.2.2
  have b4 := hb.2.2.2
  have ea : σ.1 11 (Int32.ofNat a).toNatClampNeg = Int32.ofNat (cS σ a).length := by rw [lz_onat (by omega)]; exact lz_ext (by rw [lz_lit (by omega), la]; show lv σ 11 a = _; omega)
  have eb : σ.1 11 (Int32.ofNat b).toNatClampNeg = Int32.ofNat (cS σ b).length := by rw [lz_onat (by omega)]; exact lz_ext (by rw [lz_lit (by omega), lb]; show lv σ 11 b = _; omega)
  have mn : lj_R lc_P 222 [.int (Int32.ofNat (cS σ a).length), .int (Int32.ofNat (cS σ b).length)] σ = some (.inl (some (.int (Int32.ofNat (min (cS σ a).length (cS σ b).length)))), σ) := by
    rw [rc_222, kc_222_0]
    by_cases w : (cS σ b).length < (cS σ a).length
    · rw [if_pos (by rw [lz_lt, lz_lit (by omega), lz_lit (by omega)]; omega), kc_222_10, Nat.min_eq_right (by omega)]
    · rw [if_neg (by rw [lz_lt, lz_lit (by omega), lz_lit (by omega)]; omega), kc_222_10, Nat.min_eq_left (by omega)]
  have := c_cmp_loop ha hb (min (cS σ a).length (cS σ b).length) 0 (Nat.zero_add _)
  rw [rc_38, kc_38_0, if_pos (ofN_in a1 (by omega)), if_pos (ofN_in b1 (by omega)), ea, eb, mn, bi_ok]
  exact this
theorem m_cmp_loop {τ : lj_S} {a b : Nat} (ha : mIn τ a) (hb : mIn τ b) : ∀ (d i : Nat) (v w : Value), i + d = min (mS τ a).length (mS τ b).length → lj_D lm_P lm_M169 34 [.ref 0, .int (Int32.ofNat a), .int (Int32.ofNat b), .int (Int32.ofNat (min (mS τ a).length (mS τ b).length)), .int (Int32.ofNat i), v, w] [] τ = some (.inl (some (.int (cmpL ((mS τ a).drop i) ((mS τ b).drop i)))), τ)
  | 0, i, v, w, hi => by
    have la := mS_len τ a
    have lb := mS_len τ b
    have a1 := ha.1
    have b1 := hb.1
    have a3 := ha.2.2.1
    have b3 := hb.2.2.1
    have a4 := ha.2.2.2
    have b4 := hb.2.2.2
    have a2 := ha.2.1
    have b2 := hb.2.1
    have ea : τ.1 4 (Int32.ofNat a).toNatClampNeg = Int32.ofNat (mS τ a).length := by rw [lz_onat (by omega)]; exact lz_ext (by rw [lz_lit (by omega), la]; show lv τ 4 a = _; omega)
    have eb : τ.1 4 (Int32.ofNat b).toNatClampNeg = Int32.ofNat (mS τ b).length := by rw [lz_onat (by omega)]; exact lz_ext (by rw [lz_lit (by omega), lb]; show lv τ 4 b = _; omega)
    have i1 : lj_in (Int32.ofNat a) 3000 := ofN_in a1 (by omega)
    have i2 : lj_in (Int32.ofNat b) 3000 := ofN_in b1 (by omega)
    rw [km_169_34, if_pos (by rw [ofN_le (by omega) (by omega)]; omega), if_pos i1, if_pos i2, ea, eb, cmpL_end (by omega)]
    by_cases e : (mS τ a).length = (mS τ b).length
    · rw [if_pos (by rw [e]), km_169_145, if_pos e]
    · rw [if_neg (fun z => e ((ofN_eq (by omega) (by omega)).1 z)), if_neg e, if_pos i1, if_pos i2]
      by_cases w : (mS τ b).length < (mS τ a).length
      · rw [if_pos (by rw [ofN_le (by omega) (by omega)]; omega), km_169_145, if_pos w]
      · rw [if_neg (by rw [ofN_le (by omega) (by omega)]; omega), km_169_145, if_neg w]
  | d + 1, i, v, w, hi => by
    have la := mS_len τ a
    have lb := mS_len τ b
    have a1 := ha.1
    have b1 := hb.1
    have a4 := ha.2.2.2
    have b4 := hb.2.2.2
    have a2 := ha.2.1
    have b2 := hb.2.1
    have hA : i < (mS τ a).length := by omega
    have hB : i < (mS τ b).length := by omega
    obtain ⟨p1, p2⟩ := m_sbyte ha hA
    obtain ⟨q1, q2⟩ := m_sbyte hb hB
    have i1 : lj_in (Int32.ofNat a) 3000 := ofN_in a1 (by omega)
    have i2 : lj_in (Int32.ofNat b) 3000 := ofN_in b1 (by omega)
    have e1 : (Int32.ofNat a).toNatClampNeg = a := lz_onat (by omega)
    have e2 : (Int32.ofNat b).toNatClampNeg = b := lz_onat (by omega)
    rw [← e1] at p1
    rw [← e2] at q1
    rw [km_169_34, if_neg (by rw [ofN_le (by omega) (by omega)]; omega), if_pos i1, if_pos p1, if_pos i2, if_pos q1, cmpL_step hA hB]
    simp only [e1, e2, p2, q2]
    by_cases e : (mS τ a)[i] &&& 255 = (mS τ b)[i] &&& 255
    · rw [if_pos e, if_pos e, lz_osucc]
      exact m_cmp_loop ha hb d (i + 1) _ _ (by omega)
    · rw [if_neg e, if_neg e]
      by_cases w : (mS τ b)[i] &&& 255 ≤ (mS τ a)[i] &&& 255
      · rw [if_pos w, if_pos w, km_169_99]
      · rw [if_neg w, if_neg w, km_169_99]
theorem m_compare {τ : lj_S} {a b : Nat} (ha : mIn τ a) (hb : mIn τ b) : lj_R lm_P 169 [.ref 0, .int (Int32.ofNat a), .int (Int32.ofNat b)] τ = some (.inl (some (.int (cmpL (mS τ a) (mS τ b)))), τ) := by
  have la := mS_len τ a
  have lb := mS_len τ b
  have a1 := ha.1
  have b1 := hb.1
  have a2 := ha.2.1
  have b2 := hb.2.1
  have a3 := ha.2.2.1
  have b3 := hb.2.2.1
  have a4 := ha.2.2.2
  have b4 := hb.2.2.2
  have ea : τ.1 4 (Int32.ofNat a).toNatClampNeg = Int32.ofNat (mS τ a).length := by rw [lz_onat (by omega)]; exact lz_ext (by rw [lz_lit (by omega), la]; show lv τ 4 a = _; omega)
  have eb : τ.1 4 (Int32.ofNat b).toNatClampNeg = Int32.ofNat (mS τ b).length := by rw [lz_onat (by omega)]; exact lz_ext (by rw [lz_lit (by omega), lb]; show lv τ 4 b = _; omega)
  have i1 : lj_in (Int32.ofNat a) 3000 := ofN_in a1 (by omega)
  have i2 : lj_in (Int32.ofNat b) 3000 := ofN_in b1 (by omega)
  have lp := m_cmp_loop ha hb (min (mS τ a).length (mS τ b).length) 0 (.retAddr 0) (.retAddr 0) (Nat.zero_add _)
  rw [rm_169, km_169_0, if_pos i1, if_pos i2, ea, eb]
  by_cases w : (mS τ b).length ≤ (mS τ a).length
  · rw [Nat.min_eq_right w] at lp
    rw [if_pos (by rw [ofN_le (by omega) (by omega)]; omega), if_pos i2, km_169_30]
    exact lp
  · rw [Nat.min_eq_left (by omega)] at lp
    rw [if_neg (by rw [ofN_le (by omega) (by omega)]; omega), if_pos i1, km_169_30]
    exact lp
/-- strings of both compare alike -/
theorem cm_compare {σ τ : lj_S} {X : List Int32 → Prop} (h : sR σ τ X) {a a' b b' : Nat} (ha : sE σ τ a a') (hb : sE σ τ b b') : ∃ r, lj_R lc_P 38 [.ref 3, .int (Int32.ofNat a), .int (Int32.ofNat b)] σ = some (.inl (some (.int r)), σ) ∧ lj_R lm_P 169 [.ref 0, .int (Int32.ofNat a'), .int (Int32.ofNat b')] τ = some (.inl (some (.int r)), τ) := ⟨_, c_compare (h.1.inn ha.1) (h.1.inn hb.1), by rw [m_compare (h.2.1.inn ha.2.1) (h.2.1.inn hb.2.1), ← ha.2.2, ← hb.2.2]⟩
