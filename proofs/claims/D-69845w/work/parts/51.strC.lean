/-! TableTongue's strings -/
def cDr (σ : lj_S) (D : List Int32) : Prop := lv σ 3 6 = (D.length : Int) ∧ (∀ i (h : i < D.length), i < 2400 → σ.1 14 i = D[i]) ∧ ∀ b ∈ D, lz_by b = b
def cS (σ : lj_S) (s : Nat) : List Int32 := (List.range (lv σ 11 s).toNat).map fun i => σ.1 9 ((lv σ 10 s).toNat + i)
theorem cS_len (σ : lj_S) (s : Nat) : (cS σ s).length = (lv σ 11 s).toNat := by simp [cS]
theorem cS_get (σ : lj_S) (s i : Nat) (h : i < (cS σ s).length) : (cS σ s)[i] = σ.1 9 ((lv σ 10 s).toNat + i) := by simp [cS]
/-- the bucket of what is drafted -/
def bkC (D : List Int32) : Int32 :=
  let h := D.foldl (fun h b => 31 * h + b) (Int32.ofNat D.length)
  ((h ^^^ ((h : Int32).toUInt32 >>> ((10 : Int32).toUInt32 &&& Int32.toUInt32 31)).toInt32) ^^^ ((h : Int32).toUInt32 >>> ((20 : Int32).toUInt32 &&& Int32.toUInt32 31)).toInt32) &&& (1024 - 1)
theorem bkC_b (D : List Int32) : 0 ≤ (bkC D).toInt ∧ (bkC D).toInt < 1024 := by
  have h := lz_and (((D.foldl (fun h b => 31 * h + b) (Int32.ofNat D.length)) ^^^ (((D.foldl (fun h b => 31 * h + b) (Int32.ofNat D.length)) : Int32).toUInt32 >>> ((10 : Int32).toUInt32 &&& Int32.toUInt32 31)).toInt32) ^^^ (((D.foldl (fun h b => 31 * h + b) (Int32.ofNat D.length)) : Int32).toUInt32 >>> ((20 : Int32).toUInt32 &&& Int32.toUInt32 31)).toInt32) (1024 - 1) (by decide)
  have e : (1024 - 1 : Int32).toInt = 1023 := by decide
  rw [e] at h
  exact ⟨h.1, Int.lt_of_le_of_lt h.2 (by decide)⟩
theorem c_begin (σ : lj_S) : lj_R lc_P 22 [.ref 3] σ = some (.inl none, lj_put σ 3 6 0) := by rw [rc_22, kc_22_0]
theorem cDr_begin (σ : lj_S) : cDr (lj_put σ 3 6 0) [] := by
  refine ⟨?_, fun i h => absurd h (by simp), fun b h => absurd h (by simp)⟩
  rw [lv_put, if_pos ⟨rfl, rfl⟩]; rfl
/-- places that a draft changes -/
def cAd (k j : Nat) : Bool := k == 14 || (k == 3 && j == 6)
theorem c_add (σ : lj_S) (x : Int32) {D : List Int32} (hD : cDr σ D) (hl : D.length < 2147483647) : ∃ σ', lj_R lc_P 23 [.ref 3, .int x] σ = some (.inl none, σ') ∧ cDr σ' (D ++ [lz_by x]) ∧ lf cAd σ σ' := by
  have e2400 : (2400 : Int32).toInt = 2400 := by decide
  have hd : (σ.1 3 6).toInt = (D.length : Int) := hD.1
  have one : (1 : Int32).toInt = 1 := by decide
  have hadd : ((σ.1 3 6) + 1).toInt = (D.length : Int) + 1 := by rw [lz_add (by omega), hd, one]
  have hby : ∀ b ∈ D ++ [lz_by x], lz_by b = b := by
    intro b hb
    rcases List.mem_append.1 hb with h | h
    · exact hD.2.2 b h
    · rw [List.mem_singleton.1 h, lz_by2]
  rw [rc_23, kc_23_0]
  by_cases h : (2400 : Int32) ≤ σ.1 3 6
  · rw [if_pos h, kc_23_23]
    rw [lz_le, e2400, hd] at h
    refine ⟨_, rfl, ⟨?_, ?_, hby⟩, ?_⟩
    · rw [lv_put, if_pos ⟨rfl, rfl⟩, hadd]; simp
    · intro i hi h24
      rw [lj_put_1, if_neg (by omega)]
      rw [List.getElem_append_left (by omega)]
      exact hD.2.1 i (by omega) h24
    · exact lf_put (lf_rf _ _) _ _ _ rfl
  · rw [if_neg h]
    rw [lz_le, e2400, hd] at h
    rw [if_pos (lz_in.2 ⟨by omega, by omega⟩), kc_23_23]
    have hn : (σ.1 3 6).toNatClampNeg = D.length := by rw [lz_nat, hd]; omega
    refine ⟨_, rfl, ⟨?_, ?_, hby⟩, ?_⟩
    · rw [lv_put, if_pos ⟨rfl, rfl⟩, lj_put_1, if_neg (by omega), hadd]; simp
    · intro i hi h24
      rw [lj_put_1, if_neg (by omega), lj_put_1, hn]
      by_cases q : i = D.length
      · subst q
        rw [if_pos ⟨rfl, rfl⟩]
        simp [lz_nar, lz_by2]
        exact lz_by2 x
      · rw [if_neg (fun z => q z.2), List.getElem_append_left (by simp at hi; omega)]
        exact hD.2.1 i (by simp at hi; omega) h24
    · exact lf_put (lf_put (lf_rf _ _) _ _ _ rfl) _ _ _ rfl
theorem c_bucket_loop (σ : lj_S) {D : List Int32} (hD : cDr σ D) (h24 : D.length ≤ 2400) : ∀ (n i : Nat) (h : Int32), i + n = D.length → lj_D lc_P lc_M26 7 [.ref 3, .int h, .int (Int32.ofNat i)] [] σ = some (.inl (some (.int ((((D.drop i).foldl (fun h b => 31 * h + b) h ^^^ ((((D.drop i).foldl (fun h b => 31 * h + b) h : Int32)).toUInt32 >>> ((10 : Int32).toUInt32 &&& Int32.toUInt32 31)).toInt32) ^^^ ((((D.drop i).foldl (fun h b => 31 * h + b) h : Int32)).toUInt32 >>> ((20 : Int32).toUInt32 &&& Int32.toUInt32 31)).toInt32) &&& (1024 - 1)))), σ)
  | 0, i, h, hi => by
    have hd : (σ.1 3 6).toInt = (D.length : Int) := hD.1
    rw [kc_26_7, if_pos (by rw [lz_le, hd, lz_lit (by omega)]; omega)]
    rw [List.drop_of_length_le (by omega)]
    rfl
  | n + 1, i, h, hi => by
    have hd : (σ.1 3 6).toInt = (D.length : Int) := hD.1
    rw [kc_26_7, if_neg (by rw [lz_le, hd, lz_lit (by omega)]; omega), if_pos (lz_in.2 (by rw [lz_lit (by omega)]; omega)), lz_osucc, c_bucket_loop σ hD h24 n (i + 1) _ (by omega)]
    rw [lz_onat (by omega), hD.2.1 i (by omega) (by omega)]
    rw [List.drop_eq_getElem_cons (show i < D.length by omega)]
    rfl
theorem c_bucket (σ : lj_S) {D : List Int32} (hD : cDr σ D) (h24 : D.length ≤ 2400) : lj_R lc_P 26 [.ref 3] σ = some (.inl (some (.int (bkC D))), σ) := by
  rw [rc_26, kc_26_0]
  have := c_bucket_loop σ hD h24 D.length 0 (σ.1 3 6) (by omega)
  have e : (σ.1 3 6) = Int32.ofNat D.length := lz_ext (by rw [lz_lit (by omega)]; exact hD.1)
  rw [e] at this
  rw [e]
  exact this
/-- where a string lies -/
def cIn (σ : lj_S) (s : Nat) : Prop := s < 2600 ∧ 0 ≤ lv σ 10 s ∧ 0 ≤ lv σ 11 s ∧ lv σ 10 s + lv σ 11 s ≤ 40000
theorem c_isDraft_loop (σ : lj_S) {D : List Int32} (hD : cDr σ D) (h24 : D.length ≤ 2400) {s : Nat} (hs : cIn σ s) (hl : (cS σ s).length = D.length) : ∀ (n i : Nat), i + n = D.length → lj_D lc_P lc_M27 21 [.ref 3, .int (Int32.ofNat s), .int 1, .int (Int32.ofNat i)] [] σ = some (.inl (some (.int (if (cS σ s).drop i = D.drop i then 1 else 0))), σ)
  | 0, i, hi => by
    have hd : (σ.1 3 6).toInt = (D.length : Int) := hD.1
    rw [kc_27_21, if_pos (by rw [lz_le, hd, lz_lit (by omega)]; omega), kc_27_67]
    rw [List.drop_of_length_le (by omega), List.drop_of_length_le (by omega), if_pos rfl]
    rfl
  | n + 1, i, hi => by
    have hd : (σ.1 3 6).toInt = (D.length : Int) := hD.1
    have hs' := hs
    obtain ⟨s1, s2, s3, s4⟩ := hs'
    have ln := cS_len σ s
    have hsn : (Int32.ofNat s).toNatClampNeg = s := lz_onat (by omega)
    have hfi : ((σ.1 10 s) + Int32.ofNat i).toInt = lv σ 10 s + i := by rw [lz_add (by rw [lz_lit (by omega), lv_def]; omega), lz_lit (by omega), lv_def]
    have hfn : ((σ.1 10 s) + Int32.ofNat i).toNatClampNeg = (lv σ 10 s).toNat + i := by rw [lz_nat, hfi]; omega
    rw [kc_27_21, if_neg (by rw [lz_le, hd, lz_lit (by omega)]; omega), if_neg (by decide), if_pos (lz_in.2 (by rw [lz_lit (by omega)]; omega)), hsn, if_pos (lz_in.2 (by rw [hfi]; omega)), if_pos (lz_in.2 (by rw [lz_lit (by omega)]; omega)), hfn, lz_onat (by omega), hD.2.1 i (by omega) (by omega)]
    rw [← cS_get σ s i (by omega)]
    rw [List.drop_eq_getElem_cons (show i < (cS σ s).length by omega), List.drop_eq_getElem_cons (show i < D.length by omega)]
    by_cases q : (cS σ s)[i]'(by omega) = D[i]
    · rw [if_pos q, kc_27_60, lz_osucc, c_isDraft_loop σ hD h24 hs hl n (i + 1) (by omega)]
      simp only [List.cons.injEq, q, true_and]
    · rw [if_neg q, kc_27_60, kc_27_21]
      rw [if_neg (show ¬ _ = _ from fun z => q (List.cons.inj z).1)]
      by_cases h : (σ.1 3 6) ≤ Int32.ofNat i + 1
      · rw [if_pos h, kc_27_67]; rfl
      · rw [if_neg h, if_pos rfl, kc_27_67]; rfl
theorem c_isDraft (σ : lj_S) {D : List Int32} (hD : cDr σ D) (h24 : D.length ≤ 2400) {s : Nat} (hs : cIn σ s) : lj_R lc_P 27 [.ref 3, .int (Int32.ofNat s)] σ = some (.inl (some (.int (if cS σ s = D then 1 else 0))), σ) := by
  have hd : (σ.1 3 6).toInt = (D.length : Int) := hD.1
  have hs' := hs
  obtain ⟨s1, s2, s3, s4⟩ := hs'
  have ln := cS_len σ s
  rw [rc_27, kc_27_0, if_pos (lz_in.2 (by rw [lz_lit (by omega)]; omega)), lz_onat (by omega)]
  by_cases h : σ.1 11 s = σ.1 3 6
  · rw [if_pos h, kc_27_18]
    rw [lz_eq, hd, lv_def] at h
    have := c_isDraft_loop σ hD h24 hs (by omega) D.length 0 (by omega)
    simpa using this
  · rw [if_neg h, kc_27_18, kc_27_21]
    rw [lz_eq, hd, lv_def] at h
    rw [if_neg (show ¬ cS σ s = D from fun z => h (by rw [← z, ln]; omega))]
    split
    · rw [kc_27_67]; rfl
    · rw [if_pos rfl, kc_27_67]; rfl
/-- strings lie one behind the other -/
def nxtS (p l : Nat → Int) (m u : Int) : Prop := (if (0 : Int) < m then p 0 else u) = 0 ∧ ∀ s : Nat, (s : Int) < m → p s + l s = if ((s + 1 : Nat) : Int) < m then p (s + 1) else u
theorem nxtS_new {p l p' l' : Nat → Int} {m u m' u' : Int} {M : Nat} {d : Int} (h : nxtS p l m u) (hm : m = (M : Int)) (hm' : m' = m + 1) (hp : ∀ t, t < M → p' t = p t ∧ l' t = l t) (hM : p' M = u) (hl : l' M = d) (hu : u' = u + d) : nxtS p' l' m' u' := by
  obtain ⟨c1, c2⟩ := h
  refine ⟨?_, fun s hs => ?_⟩
  · rw [if_pos (by omega)]
    by_cases z : M = 0
    · rw [z] at hM
      rw [hM]
      rw [if_neg (by omega)] at c1
      exact c1
    · rw [(hp 0 (by omega)).1]
      rw [if_pos (by omega)] at c1
      exact c1
  · by_cases z : s = M
    · rw [z, hM, hl, if_neg (by omega), hu]
    · have q := c2 s (by omega)
      rw [(hp s (by omega)).1, (hp s (by omega)).2, q, if_pos (show ((s + 1 : Nat) : Int) < m' by omega)]
      by_cases y : s + 1 = M
      · rw [if_neg (show ¬ (((s + 1 : Nat) : Int) < m) by omega), y, hM]
      · rw [if_pos (show ((s + 1 : Nat) : Int) < m by omega), (hp (s + 1) (by omega)).1]
/-- TableTongue's strings are in order -/
def cOK (σ : lj_S) : Prop :=
  (0 ≤ lv σ 3 7 ∧ lv σ 3 7 ≤ 2600) ∧ (0 ≤ lv σ 3 8 ∧ lv σ 3 8 ≤ 40000 ∧ nxtS (lv σ 10) (lv σ 11) (lv σ 3 7) (lv σ 3 8)) ∧
  (∀ s : Nat, (s : Int) < lv σ 3 7 → 0 ≤ lv σ 10 s ∧ 0 ≤ lv σ 11 s ∧ lv σ 10 s + lv σ 11 s ≤ lv σ 3 8) ∧
  (∀ j, lz_by (σ.1 9 j) = σ.1 9 j) ∧
  (∀ s t : Nat, (s : Int) < lv σ 3 7 → (t : Int) < lv σ 3 7 → cS σ s = cS σ t → s = t) ∧
  ∃ B : Nat → List Nat, (∀ b, b < 1024 → lk (lv σ 12) (lv σ 13 b) (B b)) ∧ (∀ b, b < 1024 → ∀ s ∈ B b, (s : Int) < lv σ 3 7) ∧ (∀ b, b < 1024 → (B b).Pairwise (· > ·)) ∧
    ∀ s : Nat, (s : Int) < lv σ 3 7 → s ∈ B (bkC (cS σ s)).toNatClampNeg
theorem cOK.inn {σ : lj_S} (h : cOK σ) {s : Nat} (q : (s : Int) < lv σ 3 7) : cIn σ s := by
  obtain ⟨h1, h2, h3, _⟩ := h
  have := h3 s q
  exact ⟨by omega, by omega, by omega, by omega⟩
theorem c_make_loop (σ : lj_S) {D : List Int32} (hD : cDr σ D) (h24 : D.length ≤ 2400) (x1 : Int32) : ∀ (l : List Nat) (x : Int32), lk (lv σ 12) x.toInt l → (∀ s ∈ l, cIn σ s) → lj_D lc_P lc_M25 12 [.ref 3, .int x1, .int x, .retAddr 0] [] σ = match l.find? (fun s => decide (cS σ s = D)) with
    | some s => some (.inl (some (.int (Int32.ofNat s))), σ)
    | none => lj_D lc_P lc_M25 12 [.ref 3, .int x1, .int (-1), .retAddr 0] [] σ
  | [], x, hx, hl => by
    have e : x = -1 := lz_ext (by rw [lz_m1]; exact hx)
    rw [e]; rfl
  | p :: l, x, hx, hl => by
    have hp := hl p (List.mem_cons_self)
    have e : x = Int32.ofNat p := lz_ext (by rw [lz_lit (by have := hp.1; omega)]; exact hx.1)
    have hp1 := hp.1
    rw [kc_25_12, if_neg (by rw [lz_lt, hx.1, show (0 : Int32).toInt = 0 from rfl]; omega)]
    rw [e, c_isDraft σ hD h24 hp]
    unfold lj_bi
    by_cases q : cS σ p = D
    · simp only [q, if_true]
      rw [if_neg (by decide), List.find?_cons_of_pos (by simp [q])]
    · simp only [q, if_false]
      rw [if_pos trivial, if_pos (lz_in.2 (by rw [lz_lit (by omega)]; omega)), lz_onat (by omega), List.find?_cons_of_neg (by simp [q])]
      exact c_make_loop σ hD h24 x1 l _ hx.2 (fun s hs => hl s (List.mem_cons_of_mem _ hs))
/-- places that a new string changes -/
def cAs (k j : Nat) : Bool := k == 9 || k == 10 || k == 11 || k == 12 || k == 13 || k == 15 || (k == 3 && (j == 7 || j == 8))
/-- what was drafted is string s now -/
def cMade (σ σ' : lj_S) (D : List Int32) (s : Nat) : Prop :=
  (σ' = σ ∧ (s : Int) < lv σ 3 7 ∧ cS σ s = D) ∨
  ((s : Int) = lv σ 3 7 ∧ (∀ t : Nat, (t : Int) < lv σ 3 7 → cS σ t ≠ D) ∧ lv σ' 3 7 = lv σ 3 7 + 1 ∧ lv σ' 3 8 = lv σ 3 8 + D.length ∧ (∀ t : Nat, (t : Int) < lv σ 3 7 → cS σ' t = cS σ t) ∧ cS σ' s = D ∧ σ'.1 15 s = 0 ∧ ∀ t, t ≠ s → σ'.1 15 t = σ.1 15 t)
theorem c_copy (x1 : Int32) (s used : Nat) {D : List Int32} (h24 : D.length ≤ 2400) (hu : used + D.length ≤ 40000) (hs : s < 2600) (hx : 0 ≤ x1.toInt ∧ x1.toInt < 1024) : ∀ (n i : Nat) (σ : lj_S), i + n = D.length → cDr σ D → lv σ 3 8 = (used + i : Nat) → ∃ σ1, lj_D lc_P lc_M25 70 [.ref 3, .int x1, .int (Int32.ofNat s), .int (Int32.ofNat i)] [] σ = some (.inl (some (.int (Int32.ofNat s))), lj_put (lj_put (lj_put σ1 12 s (σ1.1 13 x1.toNatClampNeg)) 13 x1.toNatClampNeg (Int32.ofNat s)) 15 s 0) ∧ lv σ1 3 8 = (used + D.length : Nat) ∧ (∀ j (h : j < D.length), i ≤ j → σ1.1 9 (used + j) = D[j]) ∧ (∀ j, j < used + i ∨ used + D.length ≤ j → σ1.1 9 j = σ.1 9 j) ∧ lf (fun k j => k == 9 || (k == 3 && j == 8)) σ σ1
  | 0, i, σ, hi, hD, h8 => by
    have hd : (σ.1 3 6).toInt = (D.length : Int) := hD.1
    refine ⟨σ, ?_, by rw [h8]; omega, fun j h q => by omega, fun _ _ => rfl, lf_rf _ _⟩
    have i1 : lj_in x1 1024 := lz_in.2 hx
    have i2 : lj_in (Int32.ofNat s) 2600 := lz_in.2 (by rw [lz_lit (by omega)]; omega)
    rw [kc_25_70, if_pos (by rw [lz_le, hd, lz_lit (by omega)]; omega), if_pos i1, if_pos i2, if_pos i1, if_pos i2, lz_onat (by omega)]
    rfl
  | n + 1, i, σ, hi, hD, h8 => by
    have hd : (σ.1 3 6).toInt = (D.length : Int) := hD.1
    have h8' : (σ.1 3 8).toInt = ((used + i : Nat) : Int) := h8
    have one : (1 : Int32).toInt = 1 := by decide
    have hn : (σ.1 3 8).toNatClampNeg = used + i := by rw [lz_nat, h8']; omega
    have hadd : ((σ.1 3 8) + 1).toInt = ((used + (i + 1) : Nat) : Int) := by rw [lz_add (by omega), h8', one]; omega
    rw [kc_25_70, if_neg (by rw [lz_le, hd, lz_lit (by omega)]; omega), if_pos (lz_in.2 (by rw [lz_lit (by omega)]; omega)), if_pos (lz_in.2 (by rw [h8']; omega)), lz_osucc, lz_onat (show i < 2147483648 by omega), hn, hD.2.1 i (by omega) (by omega), lz_nar, hD.2.2 _ (List.getElem_mem _)]
    obtain ⟨σ1, a1, a2, a3, a4, a5⟩ := c_copy x1 s used h24 hu hs hx n (i + 1) (lj_put (lj_put σ 3 8 (σ.1 3 8 + 1)) 9 (used + i) D[i]) (by omega) ⟨by rw [lv_put, if_neg (by omega), lv_put, if_neg (by omega)]; exact hD.1, fun j h q => by rw [lj_put_1, if_neg (by omega), lj_put_1, if_neg (by omega)]; exact hD.2.1 j h q, hD.2.2⟩ (by rw [lv_put, if_neg (by omega), lv_put, if_pos ⟨rfl, rfl⟩, hadd])
    refine ⟨σ1, a1, a2, ?_, ?_, ?_⟩
    · intro j h q
      by_cases e : j = i
      · subst e
        rw [a4 _ (by omega), lj_put_1, if_pos ⟨rfl, rfl⟩]
      · exact a3 j h (by omega)
    · intro j q
      rw [a4 j (by omega), lj_put_1, if_neg (by omega), lj_put_1, if_neg (by omega)]
    · exact (lf_put (lf_put (lf_rf _ _) _ _ _ rfl) _ _ _ rfl).tr a5
