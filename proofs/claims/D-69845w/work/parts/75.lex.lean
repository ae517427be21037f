/-! the words of the language -/
def lwords : List (List Int32) := [[97, 110, 100], [98, 114, 101, 97, 107], [100, 111], [101, 108, 115, 101], [101, 108, 115, 101, 105, 102], [101, 110, 100], [102, 97, 108, 115, 101], [102, 111, 114], [102, 117, 110, 99, 116, 105, 111, 110], [105, 102], [105, 110], [108, 111, 99, 97, 108], [110, 105, 108], [110, 111, 116], [111, 114], [114, 101, 112, 101, 97, 116], [114, 101, 116, 117, 114, 110], [116, 104, 101, 110], [116, 114, 117, 101], [117, 110, 116, 105, 108], [119, 104, 105, 108, 101]]
def lsigns : List (List Int32) := [[43], [45], [42], [47, 47], [37], [38], [124], [126], [60, 60], [62, 62], [46, 46], [46, 46, 46], [61, 61], [126, 61], [60, 61], [62, 61], [60], [62], [61], [35], [40], [41], [123], [125], [91], [93], [59], [58], [44], [46]]
theorem lwords_row : lj_nth lc_str 0 = some (rowt lwords) := by decide
theorem lsigns_row : lj_nth lc_str 1 = some (rowt lsigns) := by decide
theorem lwords_ok : ∀ w ∈ lwords, (32 : Int32) ∉ w := by decide
theorem lsigns_ok : ∀ w ∈ lsigns, (32 : Int32) ∉ w := by decide
theorem lwords_len : ∀ w ∈ lwords, w.length ≤ 8 ∧ ∀ c ∈ w, 1 ≤ c.toInt ∧ c.toInt ≤ 127 := by decide
/-- bytes packed into a long -/
def lst (v : Int64) (c : Int32) : Int64 := (v <<< ((8 : Int32).toInt64 &&& 63)) ||| c.toInt64
def lpk (P : List Int32) : Int64 := P.foldl lst 0
def pkR : List Int32 → Nat
  | [] => 0
  | c :: l => pkR l * 256 + c.toInt.toNat
theorem pkR_lt : ∀ (l : List Int32), (∀ c ∈ l, 1 ≤ c.toInt ∧ c.toInt ≤ 127) → pkR l < 256 ^ l.length
  | [], _ => by decide
  | c :: l, h => by
    have h1 := h c (List.mem_cons_self)
    have h2 := pkR_lt l (fun x hx => h x (List.mem_cons_of_mem _ hx))
    simp only [pkR, List.length_cons, Nat.pow_succ]
    omega
theorem pkR_inj : ∀ (l l' : List Int32), (∀ c ∈ l, 1 ≤ c.toInt ∧ c.toInt ≤ 127) → (∀ c ∈ l', 1 ≤ c.toInt ∧ c.toInt ≤ 127) → pkR l = pkR l' → l = l'
  | [], [], _, _, _ => rfl
  | [], c :: l, _, h, e => by have := h c (List.mem_cons_self); simp only [pkR] at e; omega
  | c :: l, [], h, _, e => by have := h c (List.mem_cons_self); simp only [pkR] at e; omega
  | c :: l, c' :: l', h, h', e => by
    have h1 := h c (List.mem_cons_self)
    have h1' := h' c' (List.mem_cons_self)
    simp only [pkR] at e
    have e1 : c = c' := lz_ext (by omega)
    have e2 := pkR_inj l l' (fun x hx => h x (List.mem_cons_of_mem _ hx)) (fun x hx => h' x (List.mem_cons_of_mem _ hx)) (by omega)
    rw [e1, e2]
theorem lst_nat (v : Int64) (c : Int32) (hc : 0 ≤ c.toInt ∧ c.toInt ≤ 255) (hv : v.toBitVec.toNat < 2 ^ 56) : (lst v c).toBitVec.toNat = v.toBitVec.toNat * 256 + c.toInt.toNat := by
  have e8 : ((8 : Int32).toInt64 &&& 63) = 8 := by decide
  have ec : c.toInt64.toBitVec.toNat = c.toInt.toNat := by
    have h1 : c.toInt64.toInt = c.toInt := Int32.toInt_toInt64 c
    have h2 : c.toInt64.toInt = c.toInt64.toBitVec.toInt := rfl
    rw [BitVec.toInt_eq_toNat_cond] at h2
    have := c.toInt64.toBitVec.isLt
    split at h2 <;> omega
  unfold lst
  rw [e8, Int64.toBitVec_or, BitVec.toNat_or, ec]
  have es : (v <<< (8 : Int64)).toBitVec.toNat = v.toBitVec.toNat * 256 := by
    rw [Int64.toBitVec_shiftLeft]
    have : ((8 : Int64).toBitVec.smod 64) = 8 := by decide
    rw [this]
    show (v.toBitVec <<< (8#64).toNat).toNat = _
    rw [BitVec.toNat_shiftLeft, Nat.shiftLeft_eq]
    rw [Nat.mod_eq_of_lt]
    · rfl
    · have : v.toBitVec.toNat * 2 ^ 8 < 2 ^ 56 * 2 ^ 8 := Nat.mul_lt_mul_of_pos_right hv (by decide)
      exact this
  rw [es]
  have h := Nat.two_pow_add_eq_or_of_lt (i := 8) (show c.toInt.toNat < 2 ^ 8 by omega) v.toBitVec.toNat
  rw [Nat.mul_comm, show (256 : Nat) = 2 ^ 8 from rfl, ← h]
theorem lpk_nat : ∀ (l : List Int32), l.length ≤ 8 → (∀ c ∈ l, 1 ≤ c.toInt ∧ c.toInt ≤ 127) → (lpk l.reverse).toBitVec.toNat = pkR l
  | [], _, _ => rfl
  | c :: l, hl, h => by
    have hc := h c (List.mem_cons_self)
    have hl' : ∀ x ∈ l, 1 ≤ x.toInt ∧ x.toInt ≤ 127 := fun x hx => h x (List.mem_cons_of_mem _ hx)
    have ih := lpk_nat l (by simp at hl; omega) hl'
    have hlt := pkR_lt l hl'
    have h56 : pkR l < 2 ^ 56 := by
      refine Nat.lt_of_lt_of_le hlt ?_
      rw [show (2 : Nat) ^ 56 = 256 ^ 7 from by decide]
      exact Nat.pow_le_pow_right (by decide) (by simp at hl; omega)
    rw [List.reverse_cons]
    unfold lpk at ih ⊢
    rw [List.foldl_append]
    show (lst _ c).toBitVec.toNat = _
    rw [lst_nat _ _ (by omega) (by rw [ih]; exact h56), ih]
    rfl
theorem lpk_inj {P w : List Int32} (hP : P.length ≤ 8) (hw : w.length ≤ 8) (h1 : ∀ c ∈ P, 1 ≤ c.toInt ∧ c.toInt ≤ 127) (h2 : ∀ c ∈ w, 1 ≤ c.toInt ∧ c.toInt ≤ 127) (e : lpk P = lpk w) : P = w := by
  have a := lpk_nat P.reverse (by simp; omega) (fun c hc => h1 c (by simpa using hc))
  have b := lpk_nat w.reverse (by simp; omega) (fun c hc => h2 c (by simpa using hc))
  rw [List.reverse_reverse] at a b
  have := pkR_inj _ _ (fun c hc => h1 c (by simpa using hc)) (fun c hc => h2 c (by simpa using hc)) (a.symm.trans ((congrArg (fun v : Int64 => v.toBitVec.toNat) e).trans b))
  exact List.reverse_inj.1 this
theorem m_pack_loop {τ : lj_S} {b : Nat → Int32} {n : Nat} (hb : tB b n) (hM : tM τ b n) (p N : Nat) (hp : p + N ≤ n) (h8 : N ≤ 8) : ∀ (m j : Nat), j + m = N → lj_D lm_P lm_M18 5 [.ref 0, .int (Int32.ofNat p), .int (Int32.ofNat N), .long (lpk (tP b p j)), .retAddr 0, .int (Int32.ofNat j)] [] τ = lj_D lm_P lm_M18 39 [.ref 0, .int (Int32.ofNat p), .int (Int32.ofNat N), .long (lpk (tP b p N)), .retAddr 0, .int (Int32.ofNat N)] [] τ
  | 0, j, hj => by
    have hn := hb.1
    rw [km_18_5, if_pos (by rw [lz_le, lz_lit (by omega), lz_lit (by omega)]; omega)]
    rw [show j = N by omega]
  | m + 1, j, hj => by
    have hn := hb.1
    have e1 : Int32.ofNat p + Int32.ofNat j = Int32.ofNat (p + j) := (Int32.ofNat_add p j).symm
    have e8 : (8 : Int32).toInt = 8 := by decide
    rw [km_18_5, if_neg (by rw [lz_le, lz_lit (by omega), lz_lit (by omega)]; omega), if_neg (by rw [lz_lt, lz_lit (by omega), e8]; omega), e1, if_pos (lz_in.2 (by rw [lz_lit (by omega)]; omega)), lz_onat (by omega), hM.2 (p + j) (by omega), lz_osucc]
    have : lpk (tP b p (j + 1)) = lst (lpk (tP b p j)) (b (p + j)) := by
      unfold lpk tP
      rw [List.range_succ, List.map_append, List.foldl_append]; rfl
    have ih := m_pack_loop hb hM p N hp h8 m (j + 1) (by omega)
    rw [this] at ih
    exact ih
theorem m_wordAt {τ : lj_S} {b : Nat → Int32} {n : Nat} (hb : tB b n) (hM : tM τ b n) (p N : Nat) (hN : 0 < N) (hp : p + N ≤ n) (hc : ∀ j, j < N → 1 ≤ (b (p + j)).toInt ∧ (b (p + j)).toInt ≤ 127) : lj_R lm_P 18 [.ref 0, .int (Int32.ofNat p), .int (Int32.ofNat N)] τ = some (.inl (some (.int (lidx (tP b p N) lwords 0 + 1))), τ) := by
  have hn := hb.1
  have hPc : ∀ c ∈ tP b p N, 1 ≤ c.toInt ∧ c.toInt ≤ 127 := fun c h => by
    simp only [tP, List.mem_map, List.mem_range] at h
    obtain ⟨j, hj, e⟩ := h
    rw [← e]; exact hc j hj
  have start : ∃ (v : Int64) (j : Int32), lj_R lm_P 18 [.ref 0, .int (Int32.ofNat p), .int (Int32.ofNat N)] τ = lj_D lm_P lm_M18 39 [.ref 0, .int (Int32.ofNat p), .int (Int32.ofNat N), .long v, .retAddr 0, .int j] [] τ ∧ ∀ w ∈ lwords, (v = lpk w ↔ tP b p N = w) := by
    by_cases h8 : N ≤ 8
    · refine ⟨lpk (tP b p N), Int32.ofNat N, ?_, fun w hw => ⟨fun e => lpk_inj (by rw [tP_len]; exact h8) (lwords_len w hw).1 hPc (lwords_len w hw).2 e, fun e => by rw [e]⟩⟩
      rw [rm_18, km_18_0]
      exact m_pack_loop hb hM p N hp h8 N 0 (by omega)
    · have e8 : (8 : Int32).toInt = 8 := by decide
      refine ⟨0, 0, ?_, fun w hw => ⟨fun e => ?_, fun e => ?_⟩⟩
      · rw [rm_18, km_18_0, km_18_5, if_neg (by rw [lz_le, lz_lit (by omega), show (0 : Int32).toInt = 0 from rfl]; omega), if_pos (by rw [lz_lt, lz_lit (by omega), e8]; omega)]
      · have : ∀ w ∈ lwords, (0 : Int64) ≠ lpk w := by decide
        exact absurd e (this w hw)
      · have := (lwords_len w hw).1
        rw [← e, tP_len] at this
        omega
  obtain ⟨v, j, hs, hv⟩ := start
  rw [hs, km_18_39]
  have q0 : (lg_cmp v 6385252 = 0) ↔ tP b p N = [97, 110, 100] := by rw [lg_cmp_eq, ← hv [97, 110, 100] (by decide)]; exact Iff.rfl
  have q1 : (lg_cmp v 422826041707 = 0) ↔ tP b p N = [98, 114, 101, 97, 107] := by rw [lg_cmp_eq, ← hv [98, 114, 101, 97, 107] (by decide)]; exact Iff.rfl
  have q2 : (lg_cmp v 25711 = 0) ↔ tP b p N = [100, 111] := by rw [lg_cmp_eq, ← hv [100, 111] (by decide)]; exact Iff.rfl
  have q3 : (lg_cmp v 1701606245 = 0) ↔ tP b p N = [101, 108, 115, 101] := by rw [lg_cmp_eq, ← hv [101, 108, 115, 101] (by decide)]; exact Iff.rfl
  have q4 : (lg_cmp v 111516466899302 = 0) ↔ tP b p N = [101, 108, 115, 101, 105, 102] := by rw [lg_cmp_eq, ← hv [101, 108, 115, 101, 105, 102] (by decide)]; exact Iff.rfl
  have q5 : (lg_cmp v 6647396 = 0) ↔ tP b p N = [101, 110, 100] := by rw [lg_cmp_eq, ← hv [101, 110, 100] (by decide)]; exact Iff.rfl
  have q6 : (lg_cmp v 439721161573 = 0) ↔ tP b p N = [102, 97, 108, 115, 101] := by rw [lg_cmp_eq, ← hv [102, 97, 108, 115, 101] (by decide)]; exact Iff.rfl
  have q7 : (lg_cmp v 6713202 = 0) ↔ tP b p N = [102, 111, 114] := by rw [lg_cmp_eq, ← hv [102, 111, 114] (by decide)]; exact Iff.rfl
  have q8 : (lg_cmp v 7382928537577680750 = 0) ↔ tP b p N = [102, 117, 110, 99, 116, 105, 111, 110] := by rw [lg_cmp_eq, ← hv [102, 117, 110, 99, 116, 105, 111, 110] (by decide)]; exact Iff.rfl
  have q9 : (lg_cmp v 26982 = 0) ↔ tP b p N = [105, 102] := by rw [lg_cmp_eq, ← hv [105, 102] (by decide)]; exact Iff.rfl
  have q10 : (lg_cmp v 26990 = 0) ↔ tP b p N = [105, 110] := by rw [lg_cmp_eq, ← hv [105, 110] (by decide)]; exact Iff.rfl
  have q11 : (lg_cmp v 465725251948 = 0) ↔ tP b p N = [108, 111, 99, 97, 108] := by rw [lg_cmp_eq, ← hv [108, 111, 99, 97, 108] (by decide)]; exact Iff.rfl
  have q12 : (lg_cmp v 7235948 = 0) ↔ tP b p N = [110, 105, 108] := by rw [lg_cmp_eq, ← hv [110, 105, 108] (by decide)]; exact Iff.rfl
  have q13 : (lg_cmp v 7237492 = 0) ↔ tP b p N = [110, 111, 116] := by rw [lg_cmp_eq, ← hv [110, 111, 116] (by decide)]; exact Iff.rfl
  have q14 : (lg_cmp v 28530 = 0) ↔ tP b p N = [111, 114] := by rw [lg_cmp_eq, ← hv [111, 114] (by decide)]; exact Iff.rfl
  have q15 : (lg_cmp v 125780002955636 = 0) ↔ tP b p N = [114, 101, 112, 101, 97, 116] := by rw [lg_cmp_eq, ← hv [114, 101, 112, 101, 97, 116] (by decide)]; exact Iff.rfl
  have q16 : (lg_cmp v 125780071117422 = 0) ↔ tP b p N = [114, 101, 116, 117, 114, 110] := by rw [lg_cmp_eq, ← hv [114, 101, 116, 117, 114, 110] (by decide)]; exact Iff.rfl
  have q17 : (lg_cmp v 1952998766 = 0) ↔ tP b p N = [116, 104, 101, 110] := by rw [lg_cmp_eq, ← hv [116, 104, 101, 110] (by decide)]; exact Iff.rfl
  have q18 : (lg_cmp v 1953658213 = 0) ↔ tP b p N = [116, 114, 117, 101] := by rw [lg_cmp_eq, ← hv [116, 114, 117, 101] (by decide)]; exact Iff.rfl
  have q19 : (lg_cmp v 504364296556 = 0) ↔ tP b p N = [117, 110, 116, 105, 108] := by rw [lg_cmp_eq, ← hv [117, 110, 116, 105, 108] (by decide)]; exact Iff.rfl
  have q20 : (lg_cmp v 512852847717 = 0) ↔ tP b p N = [119, 104, 105, 108, 101] := by rw [lg_cmp_eq, ← hv [119, 104, 105, 108, 101] (by decide)]; exact Iff.rfl
  by_cases c0 : tP b p N = [97, 110, 100]
  · rw [if_pos (q0.2 c0), c0]; rfl
  rw [if_neg (fun z => c0 (q0.1 z))]
  by_cases c1 : tP b p N = [98, 114, 101, 97, 107]
  · rw [if_pos (q1.2 c1), c1]; rfl
  rw [if_neg (fun z => c1 (q1.1 z))]
  by_cases c2 : tP b p N = [100, 111]
  · rw [if_pos (q2.2 c2), c2]; rfl
  rw [if_neg (fun z => c2 (q2.1 z))]
  by_cases c3 : tP b p N = [101, 108, 115, 101]
  · rw [if_pos (q3.2 c3), c3]; rfl
  rw [if_neg (fun z => c3 (q3.1 z))]
  by_cases c4 : tP b p N = [101, 108, 115, 101, 105, 102]
  · rw [if_pos (q4.2 c4), c4]; rfl
  rw [if_neg (fun z => c4 (q4.1 z))]
  by_cases c5 : tP b p N = [101, 110, 100]
  · rw [if_pos (q5.2 c5), c5]; rfl
  rw [if_neg (fun z => c5 (q5.1 z))]
  by_cases c6 : tP b p N = [102, 97, 108, 115, 101]
  · rw [if_pos (q6.2 c6), c6]; rfl
  rw [if_neg (fun z => c6 (q6.1 z))]
  by_cases c7 : tP b p N = [102, 111, 114]
  · rw [if_pos (q7.2 c7), c7]; rfl
  rw [if_neg (fun z => c7 (q7.1 z))]
  by_cases c8 : tP b p N = [102, 117, 110, 99, 116, 105, 111, 110]
  · rw [if_pos (q8.2 c8), c8]; rfl
  rw [if_neg (fun z => c8 (q8.1 z))]
  by_cases c9 : tP b p N = [105, 102]
  · rw [if_pos (q9.2 c9), c9]; rfl
  rw [if_neg (fun z => c9 (q9.1 z))]
  by_cases c10 : tP b p N = [105, 110]
  · rw [if_pos (q10.2 c10), c10]; rfl
  rw [if_neg (fun z => c10 (q10.1 z))]
  rw [rm_19, km_19_0]
  unfold lj_bi
  by_cases c11 : tP b p N = [108, 111, 99, 97, 108]
  · rw [if_pos (q11.2 c11), c11]; rfl
  rw [if_neg (fun z => c11 (q11.1 z))]
  by_cases c12 : tP b p N = [110, 105, 108]
  · rw [if_pos (q12.2 c12), c12]; rfl
  rw [if_neg (fun z => c12 (q12.1 z))]
  by_cases c13 : tP b p N = [110, 111, 116]
  · rw [if_pos (q13.2 c13), c13]; rfl
  rw [if_neg (fun z => c13 (q13.1 z))]
  by_cases c14 : tP b p N = [111, 114]
  · rw [if_pos (q14.2 c14), c14]; rfl
  rw [if_neg (fun z => c14 (q14.1 z))]
  by_cases c15 : tP b p N = [114, 101, 112, 101, 97, 116]
  · rw [if_pos (q15.2 c15), c15]; rfl
  rw [if_neg (fun z => c15 (q15.1 z))]
  by_cases c16 : tP b p N = [114, 101, 116, 117, 114, 110]
  · rw [if_pos (q16.2 c16), c16]; rfl
  rw [if_neg (fun z => c16 (q16.1 z))]
  by_cases c17 : tP b p N = [116, 104, 101, 110]
  · rw [if_pos (q17.2 c17), c17]; rfl
  rw [if_neg (fun z => c17 (q17.1 z))]
  by_cases c18 : tP b p N = [116, 114, 117, 101]
  · rw [if_pos (q18.2 c18), c18]; rfl
  rw [if_neg (fun z => c18 (q18.1 z))]
  by_cases c19 : tP b p N = [117, 110, 116, 105, 108]
  · rw [if_pos (q19.2 c19), c19]; rfl
  rw [if_neg (fun z => c19 (q19.1 z))]
  by_cases c20 : tP b p N = [119, 104, 105, 108, 101]
  · rw [if_pos (q20.2 c20), km_19_113, c20]; rfl
  rw [if_neg (fun z => c20 (q20.1 z)), km_19_113]
  have e : lidx (tP b p N) lwords 0 = -1 := by
    unfold lwords
    simp only [lidx, if_neg c0, if_neg c1, if_neg c2, if_neg c3, if_neg c4, if_neg c5, if_neg c6, if_neg c7, if_neg c8, if_neg c9, if_neg c10, if_neg c11, if_neg c12, if_neg c13, if_neg c14, if_neg c15, if_neg c16, if_neg c17, if_neg c18, if_neg c19, if_neg c20]
  rw [e]; rfl
