theorem c_make (σ : lj_S) {D : List Int32} (hD : cDr σ D) (h24 : D.length ≤ 2400) (hok : cOK σ) (hm : lv σ 3 7 < 2600) (hu : lv σ 3 8 + D.length ≤ 40000) : ∃ σ' s, lj_R lc_P 25 [.ref 3] σ = some (.inl (some (.int (Int32.ofNat s))), σ') ∧ cMade σ σ' D s ∧ cOK σ' ∧ cDr σ' D ∧ lf cAs σ σ' := by
  have hok' := hok
  obtain ⟨⟨m1, m2⟩, ⟨u1, u2⟩, hin, hby, hinj, B, hB, hBm, hBp, hBa⟩ := hok'
  have bb := bkC_b D
  have hbn : (bkC D).toNatClampNeg < 1024 := by rw [lz_nat]; omega
  rw [rc_25, kc_25_0, c_bucket σ hD h24]
  unfold lj_bi
  simp only []
  rw [if_pos (lz_in.2 bb)]
  have hl : ∀ s ∈ B (bkC D).toNatClampNeg, cIn σ s := fun s hs => hok.inn (hBm _ hbn s hs)
  rw [c_make_loop σ hD h24 (bkC D) (B (bkC D).toNatClampNeg) _ (hB _ hbn) hl]
  cases hf : (B (bkC D).toNatClampNeg).find? (fun s => decide (cS σ s = D)) with
  | some s =>
    have h1 := List.mem_of_find?_eq_some hf
    have h2 := List.find?_some hf
    exact ⟨σ, s, rfl, Or.inl ⟨rfl, hBm _ hbn s h1, by simpa using h2⟩, hok, hD, lf_rf _ _⟩
  | none =>
    have hno : ∀ t : Nat, (t : Int) < lv σ 3 7 → cS σ t ≠ D := fun t ht e => by
      have h1 := hBa t ht
      rw [e] at h1
      have h2 := List.find?_eq_none.1 hf t h1
      simp [e] at h2
    simp only []
    have h7 : (σ.1 3 7).toInt = lv σ 3 7 := rfl
    have hmn : (σ.1 3 7).toNatClampNeg = (lv σ 3 7).toNat := rfl
    have one : (1 : Int32).toInt = 1 := by decide
    have i7 : lj_in (σ.1 3 7) 2600 := lz_in.2 (by rw [h7]; omega)
    rw [kc_25_12, if_pos (by decide), if_pos i7, if_pos i7]
    have e7 : (σ.1 3 7) = Int32.ofNat (lv σ 3 7).toNat := (lz_back _ (by rw [h7]; omega)).symm
    generalize hM : (lv σ 3 7).toNat = M at *
    generalize hU : (lv σ 3 8).toNat = U at *
    have hz : (0 : Int32) = Int32.ofNat 0 := rfl
    have gD : cDr (lj_put (lj_put (lj_put σ 3 7 (σ.1 3 7 + 1)) 10 (σ.1 3 7).toNatClampNeg (σ.1 3 8)) 11 (σ.1 3 7).toNatClampNeg (σ.1 3 6)) D := ⟨by rw [lv_put, if_neg (by omega), lv_put, if_neg (by omega), lv_put, if_neg (by omega)]; exact hD.1, fun j h q => by rw [lj_put_1, if_neg (by omega), lj_put_1, if_neg (by omega), lj_put_1, if_neg (by omega)]; exact hD.2.1 j h q, hD.2.2⟩
    obtain ⟨σ1, a1, a2, a3, a4, a5⟩ := c_copy (bkC D) M U h24 (by omega) (by omega) bb D.length 0 _ (by omega) gD (by rw [lv_put, if_neg (by omega), lv_put, if_neg (by omega), lv_put, if_neg (by omega)]; omega)
    rw [hz]
    have f1 : ∀ k j, k ≠ 9 → ¬ (k = 3 ∧ j = 8) → σ1.1 k j = (lj_put (lj_put (lj_put σ 3 7 (σ.1 3 7 + 1)) 10 (σ.1 3 7).toNatClampNeg (σ.1 3 8)) 11 (σ.1 3 7).toNatClampNeg (σ.1 3 6)).1 k j := fun k j p q => (a5 k j (by simp; exact ⟨p, fun e => fun z => q ⟨e, z⟩⟩)).1
    -- the places of the final store
    generalize hσ' : lj_put (lj_put (lj_put σ1 12 M (σ1.1 13 (bkC D).toNatClampNeg)) 13 (bkC D).toNatClampNeg (Int32.ofNat M)) 15 M 0 = σ'
    have g : ∀ k j, k ≠ 9 → ¬ (k = 3 ∧ j = 8) → k ≠ 12 → k ≠ 13 → k ≠ 15 → ¬ (k = 3 ∧ j = 7) → ¬ ((k = 10 ∨ k = 11) ∧ j = M) → σ'.1 k j = σ.1 k j := fun k j p1 p2 p3 p4 p5 p6 p7 => by
      rw [← hσ', lj_put_1, if_neg (by omega), lj_put_1, if_neg (by omega), lj_put_1, if_neg (by omega), f1 k j p1 p2, hmn, lj_put_1, if_neg (by omega), lj_put_1, if_neg (by omega), lj_put_1, if_neg (by omega)]
    have g7 : lv σ' 3 7 = lv σ 3 7 + 1 := by
      rw [← hσ', lv_put, if_neg (by omega), lv_put, if_neg (by omega), lv_put, if_neg (by omega)]
      unfold lv
      rw [f1 3 7 (by omega) (by omega), lj_put_1, if_neg (by omega), lj_put_1, if_neg (by omega), lj_put_1, if_pos ⟨rfl, rfl⟩, lz_add (by omega), one]
    have g8 : lv σ' 3 8 = lv σ 3 8 + D.length := by
      rw [← hσ', lv_put, if_neg (by omega), lv_put, if_neg (by omega), lv_put, if_neg (by omega), a2]; omega
    have g10 : lv σ' 10 M = lv σ 3 8 := by
      rw [← hσ', lv_put, if_neg (by omega), lv_put, if_neg (by omega), lv_put, if_neg (by omega)]
      unfold lv
      rw [f1 10 M (by omega) (by omega), lj_put_1, if_neg (by omega), lj_put_1, if_pos ⟨rfl, hmn.symm⟩]
    have g11 : lv σ' 11 M = D.length := by
      rw [← hσ', lv_put, if_neg (by omega), lv_put, if_neg (by omega), lv_put, if_neg (by omega)]
      unfold lv
      rw [f1 11 M (by omega) (by omega), lj_put_1, if_pos ⟨rfl, hmn.symm⟩]; exact hD.1
    have g9 : ∀ j, σ'.1 9 j = σ1.1 9 j := fun j => by
      rw [← hσ', lj_put_1, if_neg (by omega), lj_put_1, if_neg (by omega), lj_put_1, if_neg (by omega)]
    have g9o : ∀ j, j < U → σ'.1 9 j = σ.1 9 j := fun j h => by
      rw [g9, a4 j (by omega), lj_put_1, if_neg (by omega), lj_put_1, if_neg (by omega), lj_put_1, if_neg (by omega)]
    have g12 : ∀ j, j ≠ M → lv σ' 12 j = lv σ 12 j := fun j h => by
      unfold lv
      rw [← hσ', lj_put_1, if_neg (by omega), lj_put_1, if_neg (by omega), lj_put_1, if_neg (by omega), f1 12 j (by omega) (by omega), lj_put_1, if_neg (by omega), lj_put_1, if_neg (by omega), lj_put_1, if_neg (by omega)]
    have g13 : ∀ j, σ1.1 13 j = σ.1 13 j := fun j => by
      rw [f1 13 j (by omega) (by omega), lj_put_1, if_neg (by omega), lj_put_1, if_neg (by omega), lj_put_1, if_neg (by omega)]
    have g12M : lv σ' 12 M = lv σ 13 (bkC D).toNatClampNeg := by
      rw [← hσ', lv_put, if_neg (by omega), lv_put, if_neg (by omega), lv_put, if_pos ⟨rfl, rfl⟩, g13]; rfl
    have g13b : lv σ' 13 (bkC D).toNatClampNeg = M := by
      rw [← hσ', lv_put, if_neg (by omega), lv_put, if_pos ⟨rfl, rfl⟩, lz_lit (by omega)]
    have g13o : ∀ j, j ≠ (bkC D).toNatClampNeg → lv σ' 13 j = lv σ 13 j := fun j h => by
      rw [← hσ', lv_put, if_neg (by omega), lv_put, if_neg (by omega), lv_put, if_neg (by omega)]
      unfold lv; rw [g13]
    have cSo : ∀ t : Nat, (t : Int) < lv σ 3 7 → cS σ' t = cS σ t := fun t ht => by
      have e1 : lv σ' 10 t = lv σ 10 t := by unfold lv; rw [g 10 t (by omega) (by omega) (by omega) (by omega) (by omega) (by omega) (by omega)]
      have e2 : lv σ' 11 t = lv σ 11 t := by unfold lv; rw [g 11 t (by omega) (by omega) (by omega) (by omega) (by omega) (by omega) (by omega)]
      have ht3 := hin t ht
      unfold cS
      rw [e1, e2]
      apply List.map_congr_left
      intro i hi
      exact g9o _ (by have := List.mem_range.1 hi; omega)
    have cSM : cS σ' M = D := by
      unfold cS
      rw [g10, g11]
      apply List.ext_getElem (by simp)
      intro i h1 h2
      simp only [List.getElem_map, List.getElem_range]
      rw [g9, hU]
      exact a3 i h2 (by omega)
    have mem_lt : ∀ t : Nat, (t : Int) < lv σ' 3 7 → (t : Int) < lv σ 3 7 ∨ t = M := fun t h => by omega
    refine ⟨σ', M, by rw [← hσ']; rw [e7] at a1 ⊢; exact a1, Or.inr ⟨by omega, hno, g7, g8, cSo, cSM, ?_, ?_⟩, ⟨by omega, ⟨by omega, by omega, nxtS_new (M := M) u2.2 (by omega) g7 (fun t ht => ⟨by unfold lv; rw [g 10 t (by omega) (by omega) (by omega) (by omega) (by omega) (by omega) (by omega)], by unfold lv; rw [g 11 t (by omega) (by omega) (by omega) (by omega) (by omega) (by omega) (by omega)]⟩) g10 g11 g8⟩, ?_, ?_, ?_, fun b => if b = (bkC D).toNatClampNeg then M :: B b else B b, ?_, ?_, ?_, ?_⟩, ?_, ?_⟩
    · rw [← hσ', lj_put_1, if_pos ⟨rfl, rfl⟩]
    · intro t ht
      rw [← hσ', lj_put_1, if_neg (by omega), lj_put_1, if_neg (by omega), lj_put_1, if_neg (by omega), f1 15 t (by omega) (by omega), lj_put_1, if_neg (by omega), lj_put_1, if_neg (by omega), lj_put_1, if_neg (by omega)]
    · intro t ht
      rcases mem_lt t ht with h | rfl
      · have e1 : lv σ' 10 t = lv σ 10 t := by unfold lv; rw [g 10 t (by omega) (by omega) (by omega) (by omega) (by omega) (by omega) (by omega)]
        have e2 : lv σ' 11 t = lv σ 11 t := by unfold lv; rw [g 11 t (by omega) (by omega) (by omega) (by omega) (by omega) (by omega) (by omega)]
        have ht3 := hin t h
        omega
      · omega
    · intro j
      rw [g9]
      by_cases q : j < U ∨ U + D.length ≤ j
      · rw [a4 j (by omega), lj_put_1, if_neg (by omega), lj_put_1, if_neg (by omega), lj_put_1, if_neg (by omega)]
        exact hby j
      · have e := a3 (j - U) (by omega) (by omega)
        rw [show U + (j - U) = j by omega] at e
        rw [e]
        exact hD.2.2 _ (List.getElem_mem _)
    · intro s t hs ht e
      rcases mem_lt s hs with h | rfl <;> rcases mem_lt t ht with h' | rfl
      · rw [cSo s h, cSo t h'] at e; exact hinj s t h h' e
      · rw [cSo s h, cSM] at e; exact absurd e (hno s h)
      · rw [cSo t h', cSM] at e; exact absurd e.symm (hno t h')
      · rfl
    · intro b hb
      dsimp only
      by_cases q : b = (bkC D).toNatClampNeg
      · rw [if_pos q, q]
        refine ⟨g13b, ?_⟩
        rw [g12M]
        exact lk_cong (fun p hp => (g12 p (by have := hBm _ hbn p hp; omega)).symm) (hB _ hbn)
      · rw [if_neg q, g13o b q]
        exact lk_cong (fun p hp => (g12 p (by have := hBm _ hb p hp; omega)).symm) (hB _ hb)
    · intro b hb s hs
      dsimp only at hs
      by_cases q : b = (bkC D).toNatClampNeg
      · rw [if_pos q] at hs
        rcases List.mem_cons.1 hs with rfl | h
        · omega
        · have := hBm _ hb s h; omega
      · rw [if_neg q] at hs
        have := hBm _ hb s hs; omega
    · intro b hb
      dsimp only
      by_cases q : b = (bkC D).toNatClampNeg
      · rw [if_pos q]
        refine List.Pairwise.cons (fun p hp => ?_) (hBp b hb)
        have := hBm _ hb p hp; omega
      · rw [if_neg q]; exact hBp b hb
    · intro s hs
      dsimp only
      rcases mem_lt s hs with h | rfl
      · rw [cSo s h]
        split
        · exact List.mem_cons_of_mem _ (hBa s h)
        · exact hBa s h
      · rw [cSM, if_pos rfl]; exact List.mem_cons_self
    · refine ⟨?_, ?_, hD.2.2⟩
      · unfold lv; rw [g 3 6 (by omega) (by omega) (by omega) (by omega) (by omega) (by omega) (by omega)]; exact hD.1
      · intro i h1 h2
        rw [g 14 i (by omega) (by omega) (by omega) (by omega) (by omega) (by omega) (by omega)]; exact hD.2.1 i h1 h2
    · intro k j q
      simp [cAs] at q
      refine ⟨g k j (by omega) (by omega) (by omega) (by omega) (by omega) (by omega) (by omega), ?_⟩
      rw [← hσ', lj_put_2, lj_put_2, lj_put_2]
      rw [(a5 k j (by simp; omega)).2]
      rfl
