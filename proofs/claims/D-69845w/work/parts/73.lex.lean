/-! words of a row parted by blanks -/
def rowt : List (List Int32) → List Int32
  | [] => [32]
  | w :: ws => 32 :: (w ++ rowt ws)
theorem rowt_ne (ws : List (List Int32)) : rowt ws ≠ [] := by cases ws <;> simp [rowt]
theorem rowt_last : ∀ (ws : List (List Int32)), ∃ l, rowt ws = l ++ [32]
  | [] => ⟨[], rfl⟩
  | w :: ws => by obtain ⟨l, h⟩ := rowt_last ws; exact ⟨32 :: (w ++ l), by simp [rowt, h]⟩
theorem rowt_head (ws : List (List Int32)) : ∃ l, rowt ws = 32 :: l := by
  cases ws with
  | nil => exact ⟨[], rfl⟩
  | cons w ws => exact ⟨_, rfl⟩
/-- a piece is a word of the row just if it stands there with a blank behind it -/
theorem row_match {P w R : List Int32} (hP : (32 : Int32) ∉ P) (hw : (32 : Int32) ∉ w) : ((w ++ 32 :: R).take P.length = P ∧ (w ++ 32 :: R)[P.length]? = some 32) ↔ P = w := by
  constructor
  · rintro ⟨h1, h2⟩
    rcases Nat.lt_trichotomy P.length w.length with h | h | h
    · rw [List.getElem?_append_left h] at h2
      exact absurd (List.mem_of_getElem? h2) hw
    · rw [List.take_append_of_le_length (by omega), h, List.take_length] at h1
      exact h1.symm
    · have : (32 : Int32) ∈ (w ++ 32 :: R).take P.length := by
        rw [List.mem_take_iff_getElem]
        exact ⟨w.length, by simp; omega, by simp⟩
      rw [h1] at this
      exact absurd this hP
  · rintro rfl
    exact ⟨by simp, by simp⟩
/-- the text's bytes from a place on -/
def tP (b : Nat → Int32) (p n : Nat) : List Int32 := (List.range n).map fun i => b (p + i)
theorem tP_len (b : Nat → Int32) (p n : Nat) : (tP b p n).length = n := by simp [tP]
theorem tP_get (b : Nat → Int32) (p n i : Nat) (h : i < (tP b p n).length) : (tP b p n)[i] = b (p + i) := by simp [tP]
theorem c_seek_in {σ : lj_S} {b : Nat → Int32} {n : Nat} (hb : tB b n) (hC : tC σ b n) (r : Nat) {W : List Int32} (hW : lj_nth lc_str (r - 1000) = some W) (hr : 1000 ≤ r) (hWl : W.length < 100000) (p N i : Nat) (x4 : Int32) (hp : p + N < 100000) (h32 : ∀ j, j < N → b (p + j) ≠ 32) : ∀ (m j : Nat), j + m = N → ∃ j', j ≤ j' ∧ j' ≤ N ∧ (∀ t, j ≤ t → t < j' → i + 1 + t < W.length ∧ W.getD (i + 1 + t) 0 = b (p + t)) ∧ (j' < N → ¬ (i + 1 + j' < W.length ∧ W.getD (i + 1 + j') 0 = b (p + j'))) ∧ lj_D lc_P lc_M46 34 [.ref 4, .ref r, .int (Int32.ofNat p), .int (Int32.ofNat N), .int x4, .int (Int32.ofNat i), .int (Int32.ofNat j)] [] σ = lj_D lc_P lc_M46 95 [.ref 4, .ref r, .int (Int32.ofNat p), .int (Int32.ofNat N), .int x4, .int (Int32.ofNat i), .int (Int32.ofNat j')] [] σ ∨ W.length ≤ i
  | 0, j, hj => by
    by_cases hi : W.length ≤ i
    · exact ⟨j, Or.inr hi⟩
    refine ⟨j, Or.inl ⟨by omega, by omega, fun t a c => by omega, fun h => by omega, ?_⟩⟩
    rw [kc_46_34, if_pos (by rw [lz_le, lz_lit (by omega), lz_lit (by omega)]; omega)]
  | m + 1, j, hj => by
    by_cases hi : W.length ≤ i
    · exact ⟨j, Or.inr hi⟩
    have e1 : Int32.ofNat p + Int32.ofNat j = Int32.ofNat (p + j) := (Int32.ofNat_add p j).symm
    have e2 : Int32.ofNat i + 1 + Int32.ofNat j = Int32.ofNat (i + 1 + j) := by rw [lz_osucc]; exact (Int32.ofNat_add (i + 1) j).symm
    have hble : Nat.ble 1000 r = true := Nat.ble_eq_true_of_le hr
    have go : lj_D lc_P lc_M46 34 [.ref 4, .ref r, .int (Int32.ofNat p), .int (Int32.ofNat N), .int x4, .int (Int32.ofNat i), .int (Int32.ofNat j)] [] σ = if i + 1 + j < W.length ∧ W.getD (i + 1 + j) 0 = b (p + j) then lj_D lc_P lc_M46 34 [.ref 4, .ref r, .int (Int32.ofNat p), .int (Int32.ofNat N), .int x4, .int (Int32.ofNat i), .int (Int32.ofNat (j + 1))] [] σ else lj_D lc_P lc_M46 95 [.ref 4, .ref r, .int (Int32.ofNat p), .int (Int32.ofNat N), .int x4, .int (Int32.ofNat i), .int (Int32.ofNat j)] [] σ := by
      rw [kc_46_34, if_neg (by rw [lz_le, lz_lit (by omega), lz_lit (by omega)]; omega), e1, c_byteAt hb hC (p + j) (by omega)]
      unfold lj_bi
      simp only []
      rw [if_neg (h32 j (by omega)), hble, c_strlen σ r hW hr]
      simp only [Bool.and_true, cond_true]
      rw [e2]
      by_cases q : i + 1 + j < W.length
      · rw [if_neg (by rw [lz_le, lz_lit (by omega), lz_lit (by omega)]; omega), c_charAt σ r hW hr _ (lz_in.2 (by rw [lz_lit (by omega)]; omega)), lz_onat (by omega)]
        simp only []
        rw [c_byteAt hb hC (p + j) (by omega)]
        simp only []
        rw [lz_osucc]
        by_cases q2 : W.getD (i + 1 + j) 0 = b (p + j)
        · rw [if_pos q2, if_pos ⟨q, q2⟩]
        · rw [if_neg q2, if_neg (fun z => q2 z.2)]
      · rw [if_pos (by rw [lz_le, lz_lit (by omega), lz_lit (by omega)]; omega), if_neg (fun z => q z.1)]
    by_cases q : i + 1 + j < W.length ∧ W.getD (i + 1 + j) 0 = b (p + j)
    · obtain ⟨j', h⟩ := c_seek_in hb hC r hW hr hWl p N i x4 hp h32 m (j + 1) (by omega)
      rcases h with ⟨a1, a2, a3, a4, a5⟩ | h
      · refine ⟨j', Or.inl ⟨by omega, a2, fun t c1 c2 => ?_, a4, ?_⟩⟩
        · by_cases e : t = j
          · rw [e]; exact q
          · exact a3 t (by omega) c2
        · rw [go, if_pos q]; exact a5
      · exact absurd h hi
    · refine ⟨j, Or.inl ⟨by omega, by omega, fun t a c => by omega, fun _ => q, ?_⟩⟩
      rw [go, if_neg q]
