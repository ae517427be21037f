theorem c_settle (σ : lj_S) {D : List Int32} (hD : cDr σ D) (h24 : D.length ≤ 2400) (hok : cOK σ) (hm : lv σ 3 7 < 2600) (hu : lv σ 3 8 + D.length ≤ 40000) : ∃ σ' s, lj_R lc_P 24 [.ref 3] σ = some (.inl (some (.int (Int32.ofNat s))), lj_put σ' 15 s 1) ∧ cMade σ σ' D s ∧ cOK σ' ∧ cDr σ' D ∧ lf cAs σ σ' ∧ s < 2600 := by
  obtain ⟨σ', s, e, hmd, ok, dr, fr⟩ := c_make σ hD h24 hok hm hu
  have hs : s < 2600 := by rcases hmd with h | h <;> omega
  refine ⟨σ', s, ?_, hmd, ok, dr, fr, hs⟩
  rw [rc_24, kc_24_0, e]
  unfold lj_bi
  simp only []
  rw [if_pos (lz_in.2 (by rw [lz_lit (by omega)]; omega)), lz_onat (by omega)]
  rfl
set_option maxRecDepth 100000 in
theorem c_strlen (σ : lj_S) (r : Nat) {W : List Int32} (h : lj_nth lc_str (r - 1000) = some W) (hr : 1000 ≤ r) : lj_R lc_P 900 [.ref r] σ = some (.inl (some (.int (Int32.ofNat W.length))), σ) := by
  rw [lj_R_prim _ _ _ _ rfl]
  show lc_prim 900 [.ref r] σ = _
  unfold lc_prim
  simp only [h, if_pos hr]
set_option maxRecDepth 100000 in
theorem c_charAt (σ : lj_S) (r : Nat) {W : List Int32} (h : lj_nth lc_str (r - 1000) = some W) (hr : 1000 ≤ r) (x : Int32) (hx : lj_in x W.length) : lj_R lc_P 901 [.ref r, .int x] σ = some (.inl (some (.int (W.getD x.toNatClampNeg 0))), σ) := by
  rw [lj_R_prim _ _ _ _ rfl]
  show lc_prim 901 [.ref r, .int x] σ = _
  unfold lc_prim
  simp only [h, if_pos (And.intro hr hx)]
theorem c_addWord_loop (r : Nat) {W : List Int32} (h : lj_nth lc_str (r - 1000) = some W) (hr : 1000 ≤ r) (hW : W.length < 1000) : ∀ (n i : Nat) (σ : lj_S) (D : List Int32), i + n = W.length → cDr σ D → D.length + n < 1000000 → ∃ σ', lj_D lc_P lc_M29 2 [.ref 3, .ref r, .int (Int32.ofNat i)] [] σ = some (.inl none, σ') ∧ cDr σ' (D ++ (W.drop i).map lz_by) ∧ lf cAd σ σ'
  | 0, i, σ, D, hi, hD, _ => by
    refine ⟨σ, ?_, ?_, lf_rf _ _⟩
    · rw [kc_29_2, show Nat.ble 1000 r = true from Nat.ble_eq_true_of_le hr, c_strlen σ r h hr]
      simp only [Bool.and_true, cond_true]
      unfold lj_bi
      simp only []
      rw [if_pos (by rw [lz_le, lz_lit (by omega), lz_lit (by omega)]; omega)]
    · rw [List.drop_of_length_le (by omega)]; simpa using hD
  | n + 1, i, σ, D, hi, hD, hl => by
    obtain ⟨σ1, a1, a2, a3⟩ := c_add σ (W.getD i 0) hD (by omega)
    obtain ⟨σ2, b1, b2, b3⟩ := c_addWord_loop r h hr hW n (i + 1) σ1 _ (by omega) a2 (by simp; omega)
    refine ⟨σ2, ?_, ?_, a3.tr b3⟩
    · rw [kc_29_2, show Nat.ble 1000 r = true from Nat.ble_eq_true_of_le hr, c_strlen σ r h hr]
      simp only [Bool.and_true, cond_true]
      unfold lj_bi
      simp only []
      rw [if_neg (by rw [lz_le, lz_lit (by omega), lz_lit (by omega)]; omega), c_charAt σ r h hr _ (lz_in.2 (by rw [lz_lit (by omega)]; omega)), lz_onat (by omega)]
      simp only []
      rw [a1]
      unfold lj_bv
      simp only []
      rw [lz_osucc]
      exact b1
    · rw [List.drop_eq_getElem_cons (show i < W.length by omega)]
      have e : W.getD i 0 = W[i] := by simp [show i < W.length by omega]
      rw [e, List.append_assoc] at b2
      exact b2
/-- a word is added -/
theorem c_addWord (σ : lj_S) (r : Nat) {W : List Int32} (h : lj_nth lc_str (r - 1000) = some W) (hr : 1000 ≤ r) (hW : W.length < 1000) {D : List Int32} (hD : cDr σ D) (hl : D.length < 900000) : ∃ σ', lj_R lc_P 29 [.ref 3, .ref r] σ = some (.inl none, σ') ∧ cDr σ' (D ++ W.map lz_by) ∧ lf cAd σ σ' := by
  rw [rc_29, kc_29_0]
  exact c_addWord_loop r h hr hW W.length 0 σ D (by omega) hD (by omega)
theorem c_addString_loop (s : Nat) : ∀ (n i : Nat) (σ : lj_S) (D : List Int32), i + n = (cS σ s).length → cIn σ s → (∀ j, lz_by (σ.1 9 j) = σ.1 9 j) → cDr σ D → D.length + n < 1000000 → ∃ σ', lj_D lc_P lc_M36 2 [.ref 3, .int (Int32.ofNat s), .int (Int32.ofNat i)] [] σ = some (.inl none, σ') ∧ cDr σ' (D ++ (cS σ s).drop i) ∧ lf cAd σ σ'
  | 0, i, σ, D, hi, hin, hby, hD, _ => by
    obtain ⟨s1, s2, s3, s4⟩ := hin
    have ln := cS_len σ s
    refine ⟨σ, ?_, ?_, lf_rf _ _⟩
    · rw [kc_36_2, if_pos (lz_in.2 (by rw [lz_lit (by omega)]; omega))]
      simp only [lz_onat (show s < 2147483648 by omega)]
      rw [if_pos (by rw [lz_le, lz_lit (by omega), lv_def]; omega)]
    · rw [List.drop_of_length_le (by omega)]; simpa using hD
  | n + 1, i, σ, D, hi, hin, hby, hD, hl => by
    have hin' := hin
    obtain ⟨s1, s2, s3, s4⟩ := hin
    have ln := cS_len σ s
    have hfi : ((σ.1 10 s) + Int32.ofNat i).toInt = lv σ 10 s + i := by rw [lz_add (by rw [lz_lit (by omega), lv_def]; omega), lz_lit (by omega), lv_def]
    have hfn : ((σ.1 10 s) + Int32.ofNat i).toNatClampNeg = (lv σ 10 s).toNat + i := by rw [lz_nat, hfi]; omega
    obtain ⟨σ1, a1, a2, a3⟩ := c_add σ ((cS σ s)[i]'(by omega)) hD (by omega)
    have k9 : ∀ j, σ1.1 9 j = σ.1 9 j := fun j => (a3 9 j rfl).1
    have k10 : ∀ j, lv σ1 10 j = lv σ 10 j := fun j => a3.v rfl
    have k11 : ∀ j, lv σ1 11 j = lv σ 11 j := fun j => a3.v rfl
    have kS : cS σ1 s = cS σ s := by
      unfold cS; rw [k10, k11]
      exact List.map_congr_left fun j _ => k9 _
    obtain ⟨σ2, b1, b2, b3⟩ := c_addString_loop s n (i + 1) σ1 _ (by rw [kS]; omega) (by unfold cIn; rw [k10, k11]; exact hin') (fun j => by rw [k9]; exact hby j) a2 (by simp; omega)
    refine ⟨σ2, ?_, ?_, a3.tr b3⟩
    · rw [kc_36_2, if_pos (lz_in.2 (by rw [lz_lit (by omega)]; omega))]
      simp only [lz_onat (show s < 2147483648 by omega)]
      rw [if_neg (by rw [lz_le, lz_lit (by omega), lv_def]; omega), if_pos (lz_in.2 (by rw [lz_lit (by omega)]; omega)), if_pos (lz_in.2 (by rw [hfi]; omega)), hfn, ← cS_get σ s i (by omega), a1]
      unfold lj_bv
      simp only []
      rw [lz_osucc]
      exact b1
    · rw [List.drop_eq_getElem_cons (show i < (cS σ s).length by omega)]
      rw [kS] at b2
      have e : lz_by ((cS σ s)[i]'(by omega)) = (cS σ s)[i]'(by omega) := by rw [cS_get]; exact hby _
      rw [e, List.append_assoc] at b2
      exact b2
/-- a string is added -/
theorem c_addString (σ : lj_S) {s : Nat} (hok : cOK σ) (hs : (s : Int) < lv σ 3 7) {D : List Int32} (hD : cDr σ D) (hl : D.length < 900000) : ∃ σ', lj_R lc_P 36 [.ref 3, .int (Int32.ofNat s)] σ = some (.inl none, σ') ∧ cDr σ' (D ++ cS σ s) ∧ lf cAd σ σ' := by
  rw [rc_36, kc_36_0]
  have ln := cS_len σ s
  have hi := hok.inn hs
  have hi4 := hi.2.2.2; have hi2 := hi.2.1
  exact c_addString_loop s (cS σ s).length 0 σ D (by omega) (hok.inn hs) hok.2.2.2.1 hD (by omega)
/-- a draft's change keeps strings -/
theorem cS_cong {σ σ' : lj_S} (h9 : ∀ j, σ'.1 9 j = σ.1 9 j) (h10 : ∀ j, σ'.1 10 j = σ.1 10 j) (h11 : ∀ j, σ'.1 11 j = σ.1 11 j) (s : Nat) : cS σ' s = cS σ s := by
  unfold cS lv; rw [h10, h11]
  exact List.map_congr_left fun j _ => h9 _
theorem cOK_cong {σ σ' : lj_S} (h : cOK σ) (h9 : ∀ j, σ'.1 9 j = σ.1 9 j) (h10 : ∀ j, σ'.1 10 j = σ.1 10 j) (h11 : ∀ j, σ'.1 11 j = σ.1 11 j) (h12 : ∀ j, σ'.1 12 j = σ.1 12 j) (h13 : ∀ j, σ'.1 13 j = σ.1 13 j) (h7 : σ'.1 3 7 = σ.1 3 7) (h8 : σ'.1 3 8 = σ.1 3 8) : cOK σ' := by
  have e7 : lv σ' 3 7 = lv σ 3 7 := by unfold lv; rw [h7]
  have e8 : lv σ' 3 8 = lv σ 3 8 := by unfold lv; rw [h8]
  have e10 : ∀ j, lv σ' 10 j = lv σ 10 j := fun j => by unfold lv; rw [h10]
  have e11 : ∀ j, lv σ' 11 j = lv σ 11 j := fun j => by unfold lv; rw [h11]
  have e12 : lv σ' 12 = lv σ 12 := funext fun j => by unfold lv; rw [h12]
  have e13 : ∀ j, lv σ' 13 j = lv σ 13 j := fun j => by unfold lv; rw [h13]
  have eS := cS_cong h9 h10 h11
  have e10' : lv σ' 10 = lv σ 10 := funext e10
  have e11' : lv σ' 11 = lv σ 11 := funext e11
  unfold cOK
  simp only [e7, e8, e10', e11', e12, e13, eS, h9]
  exact h
theorem cOK_draft {σ σ' : lj_S} (h : cOK σ) (f : lf cAd σ σ') : cOK σ' :=
  cOK_cong h (fun j => (f 9 j rfl).1) (fun j => (f 10 j rfl).1) (fun j => (f 11 j rfl).1) (fun j => (f 12 j rfl).1) (fun j => (f 13 j rfl).1) (f 3 7 rfl).1 (f 3 8 rfl).1
theorem cS_draft {σ σ' : lj_S} (f : lf cAd σ σ') (s : Nat) : cS σ' s = cS σ s :=
  cS_cong (fun j => (f 9 j rfl).1) (fun j => (f 10 j rfl).1) (fun j => (f 11 j rfl).1) s
