/-! TableTongueModel's strings -/
def mDr (σ : lj_S) (D : List Int32) : Prop := lv σ 0 20 = (D.length : Int) ∧ (∀ i (h : i < D.length), σ.1 8 i = D[i]) ∧ ∀ b ∈ D, lz_by b = b
def mS (σ : lj_S) (s : Nat) : List Int32 := (List.range (lv σ 4 s).toNat).map fun i => σ.1 2 ((lv σ 3 s).toNat + i)
theorem mS_len (σ : lj_S) (s : Nat) : (mS σ s).length = (lv σ 4 s).toNat := by simp [mS]
theorem mS_get (σ : lj_S) (s i : Nat) (h : i < (mS σ s).length) : (mS σ s)[i] = σ.1 2 ((lv σ 3 s).toNat + i) := by simp [mS]
def bkM (D : List Int32) : Int32 := (D.foldl (fun h b => 31 * h + b) (Int32.ofNat D.length) ^^^ ((D.foldl (fun h b => 31 * h + b) (Int32.ofNat D.length) : Int32).toUInt32 >>> ((10 : Int32).toUInt32 &&& Int32.toUInt32 31)).toInt32) &&& 1023
theorem bkM_b (D : List Int32) : 0 ≤ (bkM D).toInt ∧ (bkM D).toInt < 1024 := by
  have h := lz_and (D.foldl (fun h b => 31 * h + b) (Int32.ofNat D.length) ^^^ ((D.foldl (fun h b => 31 * h + b) (Int32.ofNat D.length) : Int32).toUInt32 >>> ((10 : Int32).toUInt32 &&& Int32.toUInt32 31)).toInt32) 1023 (by decide)
  have e : (1023 : Int32).toInt = 1023 := by decide
  rw [e] at h
  exact ⟨h.1, Int.lt_of_le_of_lt h.2 (by decide)⟩
/-- places that a draft changes -/
def mAd (k j : Nat) : Bool := k == 8 || (k == 0 && j == 20)
theorem mDr_begin (σ : lj_S) : mDr (lj_put σ 0 20 0) [] := by
  refine ⟨?_, fun i h => absurd h (by simp), fun b h => absurd h (by simp)⟩
  rw [lv_put, if_pos ⟨rfl, rfl⟩]; rfl
/-- a byte more in the buffer -/
def m_dig (σ : lj_S) (x : Int32) : lj_S := lj_put (lj_put σ 8 (σ.1 0 20).toNatClampNeg (lz_by x)) 0 20 (σ.1 0 20 + 1)
theorem mDr_dig {σ : lj_S} {D : List Int32} (hD : mDr σ D) (hl : D.length < 4200) (x : Int32) : mDr (m_dig σ x) (D ++ [lz_by x]) ∧ lf mAd σ (m_dig σ x) ∧ lj_in (σ.1 0 20) 4200 := by
  have hd : (σ.1 0 20).toInt = (D.length : Int) := hD.1
  have one : (1 : Int32).toInt = 1 := by decide
  have hadd : ((σ.1 0 20) + 1).toInt = (D.length : Int) + 1 := by rw [lz_add (by omega), hd, one]
  have hn : (σ.1 0 20).toNatClampNeg = D.length := by rw [lz_nat, hd]; omega
  refine ⟨⟨?_, ?_, ?_⟩, lf_put (lf_put (lf_rf _ _) _ _ _ rfl) _ _ _ rfl, lz_in.2 (by rw [hd]; omega)⟩
  · unfold m_dig; rw [lv_put, if_pos ⟨rfl, rfl⟩, hadd]; simp
  · intro i hi
    unfold m_dig
    rw [lj_put_1, if_neg (by omega), lj_put_1, hn]
    by_cases q : i = D.length
    · subst q
      rw [if_pos ⟨rfl, rfl⟩]
      simp
    · rw [if_neg (fun z => q z.2), List.getElem_append_left (by simp at hi; omega)]
      exact hD.2.1 i (by simp at hi; omega)
  · intro b hb
    rcases List.mem_append.1 hb with h | h
    · exact hD.2.2 b h
    · rw [List.mem_singleton.1 h, lz_by2]
theorem m_digit (σ : lj_S) (x : Int32) {D : List Int32} (hD : mDr σ D) (hl : D.length < 4200) : lj_R lm_P 134 [.ref 0, .int x] σ = some (.inl none, m_dig σ x) := by
  rw [rm_134, km_134_0, if_pos (mDr_dig hD hl x).2.2]
  show some (_, lj_put (lj_put σ 8 _ (lz_by (lz_by x))) 0 20 _) = _
  rw [lz_by2]; rfl
theorem m_hash_loop (σ : lj_S) {D : List Int32} (hD : mDr σ D) (h42 : D.length ≤ 4200) : ∀ (n i : Nat) (h : Int32), i + n = D.length → lj_D lm_P lm_M4 4 [.ref 0, .int (Int32.ofNat D.length), .int h, .int (Int32.ofNat i)] [] σ = some (.inl (some (.int (((D.drop i).foldl (fun h b => 31 * h + b) h ^^^ ((((D.drop i).foldl (fun h b => 31 * h + b) h : Int32)).toUInt32 >>> ((10 : Int32).toUInt32 &&& Int32.toUInt32 31)).toInt32) &&& 1023))), σ)
  | 0, i, h, hi => by
    rw [km_4_4, if_pos (by rw [lz_le, lz_lit (by omega), lz_lit (by omega)]; omega)]
    rw [List.drop_of_length_le (by omega)]
    rfl
  | n + 1, i, h, hi => by
    rw [km_4_4, if_neg (by rw [lz_le, lz_lit (by omega), lz_lit (by omega)]; omega), if_pos (lz_in.2 (by rw [lz_lit (by omega)]; omega)), lz_osucc, m_hash_loop σ hD h42 n (i + 1) _ (by omega)]
    rw [lz_onat (by omega), hD.2.1 i (by omega)]
    rw [List.drop_eq_getElem_cons (show i < D.length by omega)]
    rfl
theorem m_hash (σ : lj_S) {D : List Int32} (hD : mDr σ D) (h42 : D.length ≤ 4200) : lj_R lm_P 4 [.ref 0, .int (σ.1 0 20)] σ = some (.inl (some (.int (bkM D))), σ) := by
  have e : (σ.1 0 20) = Int32.ofNat D.length := lz_ext (by rw [lz_lit (by omega)]; exact hD.1)
  rw [e, rm_4, km_4_0]
  exact m_hash_loop σ hD h42 D.length 0 _ (by omega)
def mIn (σ : lj_S) (s : Nat) : Prop := s < 3000 ∧ 0 ≤ lv σ 3 s ∧ 0 ≤ lv σ 4 s ∧ lv σ 3 s + lv σ 4 s ≤ 40000
theorem m_same_loop3 (σ : lj_S) {D : List Int32} (hD : mDr σ D) (h42 : D.length ≤ 4200) {s : Nat} (hs : mIn σ s) (hl : (mS σ s).length = D.length) (x1 x2 : Int32) : ∀ (n i : Nat), i + n = D.length → ∃ y : Int32, lj_D lm_P lm_M3 43 [.ref 0, .int x1, .int x2, .int (Int32.ofNat s), .int 1, .int (Int32.ofNat i)] [] σ = lj_D lm_P lm_M3 94 [.ref 0, .int x1, .int x2, .int (Int32.ofNat s), .int (if (mS σ s).drop i = D.drop i then 1 else 0), .int y] [] σ
  | 0, i, hi => by
    have hd : (σ.1 0 20).toInt = (D.length : Int) := hD.1
    refine ⟨Int32.ofNat i, ?_⟩
    rw [km_3_43, if_pos (by rw [lz_le, hd, lz_lit (by omega)]; omega)]
    rw [List.drop_of_length_le (by omega), List.drop_of_length_le (by omega), if_pos rfl]
  | n + 1, i, hi => by
    have hd : (σ.1 0 20).toInt = (D.length : Int) := hD.1
    have hs' := hs
    obtain ⟨s1, s2, s3, s4⟩ := hs'
    have ln := mS_len σ s
    have hsn : (Int32.ofNat s).toNatClampNeg = s := lz_onat (by omega)
    have hfi : ((σ.1 3 s) + Int32.ofNat i).toInt = lv σ 3 s + i := by rw [lz_add (by rw [lz_lit (by omega), lv_def]; omega), lz_lit (by omega), lv_def]
    have hfn : ((σ.1 3 s) + Int32.ofNat i).toNatClampNeg = (lv σ 3 s).toNat + i := by rw [lz_nat, hfi]; omega
    rw [km_3_43, if_neg (by rw [lz_le, hd, lz_lit (by omega)]; omega), if_neg (by decide), if_pos (lz_in.2 (by rw [lz_lit (by omega)]; omega)), hsn, if_pos (lz_in.2 (by rw [hfi]; omega)), if_pos (lz_in.2 (by rw [lz_lit (by omega)]; omega)), hfn, lz_onat (by omega), hD.2.1 i (by omega)]
    rw [← mS_get σ s i (by omega)]
    rw [List.drop_eq_getElem_cons (show i < (mS σ s).length by omega), List.drop_eq_getElem_cons (show i < D.length by omega)]
    by_cases q : (mS σ s)[i]'(by omega) = D[i]
    · obtain ⟨y, hy⟩ := m_same_loop3 σ hD h42 hs hl x1 x2 n (i + 1) (by omega)
      refine ⟨y, ?_⟩
      rw [if_pos q, km_3_86, lz_osucc, hy]
      simp only [List.cons.injEq, q, true_and]
    · refine ⟨Int32.ofNat i + 1, ?_⟩
      rw [if_neg q, km_3_86, km_3_43]
      rw [if_neg (show ¬ _ = _ from fun z => q (List.cons.inj z).1)]
      by_cases h : (σ.1 0 20) ≤ Int32.ofNat i + 1
      · rw [if_pos h]
      · rw [if_neg h, if_pos rfl]
theorem m_same3 (σ : lj_S) {D : List Int32} (hD : mDr σ D) (h42 : D.length ≤ 4200) {s : Nat} (hs : mIn σ s) (x1 x2 : Int32) (x4 x5 : Value) : ∃ y : Int32, lj_D lm_P lm_M3 16 [.ref 0, .int x1, .int x2, .int (Int32.ofNat s), x4, x5] [] σ = lj_D lm_P lm_M3 94 [.ref 0, .int x1, .int x2, .int (Int32.ofNat s), .int (if mS σ s = D then 1 else 0), .int y] [] σ := by
  have hd : (σ.1 0 20).toInt = (D.length : Int) := hD.1
  have hs' := hs
  obtain ⟨s1, s2, s3, s4⟩ := hs'
  have ln := mS_len σ s
  rw [km_3_16, if_neg (by rw [lz_lt, lz_lit (by omega), show (0 : Int32).toInt = 0 from rfl]; omega), if_pos (lz_in.2 (by rw [lz_lit (by omega)]; omega)), lz_onat (by omega)]
  by_cases h : σ.1 4 s = σ.1 0 20
  · rw [if_pos h, km_3_38]
    rw [lz_eq, hd, lv_def] at h
    have := m_same_loop3 σ hD h42 hs (by omega) x1 x2 D.length 0 (by omega)
    simpa using this
  · rw [if_neg h, km_3_38, km_3_43]
    rw [lz_eq, hd, lv_def] at h
    rw [if_neg (show ¬ mS σ s = D from fun z => h (by rw [← z, ln]; omega))]
    split
    · exact ⟨_, rfl⟩
    · rw [if_pos rfl]; exact ⟨_, rfl⟩
theorem m_same_loop139 (σ : lj_S) {D : List Int32} (hD : mDr σ D) (h42 : D.length ≤ 4200) {s : Nat} (hs : mIn σ s) (hl : (mS σ s).length = D.length) (x1 x2 : Int32) : ∀ (n i : Nat), i + n = D.length → ∃ y : Int32, lj_D lm_P lm_M139 49 [.ref 0, .int x1, .int x2, .int (Int32.ofNat s), .int 1, .int (Int32.ofNat i)] [] σ = lj_D lm_P lm_M139 100 [.ref 0, .int x1, .int x2, .int (Int32.ofNat s), .int (if (mS σ s).drop i = D.drop i then 1 else 0), .int y] [] σ
  | 0, i, hi => by
    have hd : (σ.1 0 20).toInt = (D.length : Int) := hD.1
    refine ⟨Int32.ofNat i, ?_⟩
    rw [km_139_49, if_pos (by rw [lz_le, hd, lz_lit (by omega)]; omega)]
    rw [List.drop_of_length_le (by omega), List.drop_of_length_le (by omega), if_pos rfl]
  | n + 1, i, hi => by
    have hd : (σ.1 0 20).toInt = (D.length : Int) := hD.1
    have hs' := hs
    obtain ⟨s1, s2, s3, s4⟩ := hs'
    have ln := mS_len σ s
    have hsn : (Int32.ofNat s).toNatClampNeg = s := lz_onat (by omega)
    have hfi : ((σ.1 3 s) + Int32.ofNat i).toInt = lv σ 3 s + i := by rw [lz_add (by rw [lz_lit (by omega), lv_def]; omega), lz_lit (by omega), lv_def]
    have hfn : ((σ.1 3 s) + Int32.ofNat i).toNatClampNeg = (lv σ 3 s).toNat + i := by rw [lz_nat, hfi]; omega
    rw [km_139_49, if_neg (by rw [lz_le, hd, lz_lit (by omega)]; omega), if_neg (by decide), if_pos (lz_in.2 (by rw [lz_lit (by omega)]; omega)), hsn, if_pos (lz_in.2 (by rw [hfi]; omega)), if_pos (lz_in.2 (by rw [lz_lit (by omega)]; omega)), hfn, lz_onat (by omega), hD.2.1 i (by omega)]
    rw [← mS_get σ s i (by omega)]
    rw [List.drop_eq_getElem_cons (show i < (mS σ s).length by omega), List.drop_eq_getElem_cons (show i < D.length by omega)]
    by_cases q : (mS σ s)[i]'(by omega) = D[i]
    · obtain ⟨y, hy⟩ := m_same_loop139 σ hD h42 hs hl x1 x2 n (i + 1) (by omega)
      refine ⟨y, ?_⟩
      rw [if_pos q, km_139_92, lz_osucc, hy]
      simp only [List.cons.injEq, q, true_and]
    · refine ⟨Int32.ofNat i + 1, ?_⟩
      rw [if_neg q, km_139_92, km_139_49]
      rw [if_neg (show ¬ _ = _ from fun z => q (List.cons.inj z).1)]
      by_cases h : (σ.1 0 20) ≤ Int32.ofNat i + 1
      · rw [if_pos h]
      · rw [if_neg h, if_pos rfl]
theorem m_same139 (σ : lj_S) {D : List Int32} (hD : mDr σ D) (h42 : D.length ≤ 4200) {s : Nat} (hs : mIn σ s) (x1 x2 : Int32) (x4 x5 : Value) (h2 : ¬ 0 ≤ x2) : ∃ y : Int32, lj_D lm_P lm_M139 18 [.ref 0, .int x1, .int x2, .int (Int32.ofNat s), x4, x5] [] σ = lj_D lm_P lm_M139 100 [.ref 0, .int x1, .int x2, .int (Int32.ofNat s), .int (if mS σ s = D then 1 else 0), .int y] [] σ := by
  have hd : (σ.1 0 20).toInt = (D.length : Int) := hD.1
  have hs' := hs
  obtain ⟨s1, s2, s3, s4⟩ := hs'
  have ln := mS_len σ s
  rw [km_139_18, if_neg (by rw [lz_lt, lz_lit (by omega), show (0 : Int32).toInt = 0 from rfl]; omega), if_neg h2, if_pos (lz_in.2 (by rw [lz_lit (by omega)]; omega)), lz_onat (by omega)]
  by_cases h : σ.1 4 s = σ.1 0 20
  · rw [if_pos h, km_139_44]
    rw [lz_eq, hd, lv_def] at h
    have := m_same_loop139 σ hD h42 hs (by omega) x1 x2 D.length 0 (by omega)
    simpa using this
  · rw [if_neg h, km_139_44, km_139_49]
    rw [lz_eq, hd, lv_def] at h
    rw [if_neg (show ¬ mS σ s = D from fun z => h (by rw [← z, ln]; omega))]
    split
    · exact ⟨_, rfl⟩
    · rw [if_pos rfl]; exact ⟨_, rfl⟩
theorem m_find (σ : lj_S) {D : List Int32} (hD : mDr σ D) (h42 : D.length ≤ 4200) (x1 x2 : Int32) : ∀ (l : List Nat) (x : Int32) (x4 x5 : Value), lk (lv σ 6) x.toInt l → (∀ s ∈ l, mIn σ s) →
    (∃ s, l.find? (fun s => decide (mS σ s = D)) = some s ∧ lj_D lm_P lm_M3 16 [.ref 0, .int x1, .int x2, .int x, x4, x5] [] σ = some (.inl (some (.int (Int32.ofNat s))), lj_put σ 5 s (if x1 = 1 then 1 else σ.1 5 s))) ∨
    (l.find? (fun s => decide (mS σ s = D)) = none ∧ ∃ x4' x5', lj_D lm_P lm_M3 16 [.ref 0, .int x1, .int x2, .int x, x4, x5] [] σ = lj_D lm_P lm_M3 16 [.ref 0, .int x1, .int x2, .int (-1), x4', x5'] [] σ)
  | [], x, x4, x5, hx, hl => by
    have e : x = -1 := lz_ext (by rw [lz_m1]; exact hx)
    rw [e]; exact Or.inr ⟨rfl, _, _, rfl⟩
  | p :: l, x, x4, x5, hx, hl => by
    have hp := hl p (List.mem_cons_self)
    have hp1 := hp.1
    have e : x = Int32.ofNat p := lz_ext (by rw [lz_lit (by omega)]; exact hx.1)
    obtain ⟨y, hy⟩ := m_same3 σ hD h42 hp x1 x2 x4 x5
    rw [e, hy, km_3_94]
    have ip : lj_in (Int32.ofNat p) 3000 := lz_in.2 (by rw [lz_lit (by omega)]; omega)
    by_cases q : mS σ p = D
    · simp only [q, if_true]
      rw [if_neg (by decide), List.find?_cons_of_pos (by simp [q])]
      refine Or.inl ⟨p, rfl, ?_⟩
      by_cases h1 : x1 = 1
      · rw [if_pos h1, if_pos h1, km_3_119, if_pos ip, lz_onat (by omega)]
      · rw [if_neg h1, if_neg h1, if_pos ip, km_3_119, if_pos ip, lz_onat (by omega)]
    · simp only [q, if_false]
      rw [if_pos trivial, if_pos ip, lz_onat (by omega), List.find?_cons_of_neg (by simp [q])]
      exact m_find σ hD h42 x1 x2 l _ _ _ hx.2 (fun s hs => hl s (List.mem_cons_of_mem _ hs))
def mOK (σ : lj_S) : Prop :=
  (0 ≤ lv σ 0 14 ∧ lv σ 0 14 ≤ 3000) ∧ (0 ≤ lv σ 0 8 ∧ lv σ 0 8 ≤ 40000 ∧ nxtS (lv σ 3) (lv σ 4) (lv σ 0 14) (lv σ 0 8)) ∧
  (∀ s : Nat, (s : Int) < lv σ 0 14 → 0 ≤ lv σ 3 s ∧ 0 ≤ lv σ 4 s ∧ lv σ 3 s + lv σ 4 s ≤ lv σ 0 8) ∧
  (∀ j, lz_by (σ.1 2 j) = σ.1 2 j) ∧
  (∀ s t : Nat, (s : Int) < lv σ 0 14 → (t : Int) < lv σ 0 14 → mS σ s = mS σ t → s = t) ∧
  ∃ B : Nat → List Nat, (∀ b, b < 1024 → lk (lv σ 6) (lv σ 7 b) (B b)) ∧ (∀ b, b < 1024 → ∀ s ∈ B b, (s : Int) < lv σ 0 14 ∧ (bkM (mS σ s)).toNatClampNeg = b) ∧ (∀ b, b < 1024 → (B b).Pairwise (· > ·)) ∧
    ∀ s : Nat, (s : Int) < lv σ 0 14 → s ∈ B (bkM (mS σ s)).toNatClampNeg
theorem mOK.inn {σ : lj_S} (h : mOK σ) {s : Nat} (q : (s : Int) < lv σ 0 14) : mIn σ s := by
  obtain ⟨h1, h2, h3, _⟩ := h
  have := h3 s q
  exact ⟨by omega, by omega, by omega, by omega⟩
theorem m_copy (x1 x2 x3 : Int32) (x5 : Value) (U : Nat) {D : List Int32} (h42 : D.length ≤ 4200) (hu : U + D.length ≤ 40000) : ∀ (n i : Nat) (σ : lj_S), i + n = D.length → mDr σ D → lv σ 0 8 = (U : Nat) → ∃ σ1, lj_D lm_P lm_M3 196 [.ref 0, .int x1, .int x2, .int x3, .int (Int32.ofNat i), x5] [] σ = some (.inl (some (.int x3)), lj_put σ1 0 8 (σ1.1 0 8 + σ1.1 0 20)) ∧ (∀ j (h : j < D.length), i ≤ j → σ1.1 2 (U + j) = D[j]) ∧ (∀ j, j < U + i ∨ U + D.length ≤ j → σ1.1 2 j = σ.1 2 j) ∧ lf (fun k j => k == 2) σ σ1
  | 0, i, σ, hi, hD, h8 => by
    have hd : (σ.1 0 20).toInt = (D.length : Int) := hD.1
    refine ⟨σ, ?_, fun j h q => by omega, fun _ _ => rfl, lf_rf _ _⟩
    rw [km_3_196, if_pos (by rw [lz_le, hd, lz_lit (by omega)]; omega)]
  | n + 1, i, σ, hi, hD, h8 => by
    have hd : (σ.1 0 20).toInt = (D.length : Int) := hD.1
    have h8' : (σ.1 0 8).toInt = (U : Int) := h8
    have hfi : ((σ.1 0 8) + Int32.ofNat i).toInt = U + i := by rw [lz_add (by rw [lz_lit (by omega), h8']; omega), lz_lit (by omega), h8']
    have hfn : ((σ.1 0 8) + Int32.ofNat i).toNatClampNeg = U + i := by rw [lz_nat, hfi]; omega
    rw [km_3_196, if_neg (by rw [lz_le, hd, lz_lit (by omega)]; omega), if_pos (lz_in.2 (by rw [lz_lit (by omega)]; omega)), if_pos (lz_in.2 (by rw [hfi]; omega)), lz_osucc, lz_onat (show i < 2147483648 by omega), hfn, hD.2.1 i (by omega), lz_nar, hD.2.2 _ (List.getElem_mem _)]
    obtain ⟨σ1, a1, a3, a4, a5⟩ := m_copy x1 x2 x3 x5 U h42 hu n (i + 1) (lj_put σ 2 (U + i) D[i]) (by omega) ⟨by rw [lv_put, if_neg (by omega)]; exact hD.1, fun j h => by rw [lj_put_1, if_neg (by omega)]; exact hD.2.1 j h, hD.2.2⟩ (by rw [lv_put, if_neg (by omega)]; exact h8)
    refine ⟨σ1, a1, ?_, ?_, ?_⟩
    · intro j h q
      by_cases e : j = i
      · subst e
        rw [a4 _ (by omega), lj_put_1, if_pos ⟨rfl, rfl⟩]
      · exact a3 j h (by omega)
    · intro j q
      rw [a4 j (by omega), lj_put_1, if_neg (by omega)]
    · exact (lf_put (lf_rf _ _) _ _ _ rfl).tr a5
