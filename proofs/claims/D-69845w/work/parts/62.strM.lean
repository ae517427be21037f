/-- places that a new string changes -/
def mAs (k j : Nat) : Bool := k == 2 || k == 3 || k == 4 || k == 5 || k == 6 || k == 7 || (k == 0 && (j == 8 || j == 14))
def mMade (σ σ' : lj_S) (D : List Int32) (s : Nat) (x1 : Int32) : Prop :=
  (σ' = lj_put σ 5 s (if x1 = 1 then 1 else σ.1 5 s) ∧ (s : Int) < lv σ 0 14 ∧ mS σ s = D) ∨
  ((s : Int) = lv σ 0 14 ∧ (∀ t : Nat, (t : Int) < lv σ 0 14 → mS σ t ≠ D) ∧ lv σ' 0 14 = lv σ 0 14 + 1 ∧ lv σ' 0 8 = lv σ 0 8 + D.length ∧ (∀ t : Nat, (t : Int) < lv σ 0 14 → mS σ' t = mS σ t) ∧ mS σ' s = D ∧ σ'.1 5 s = x1 ∧ ∀ t, t ≠ s → σ'.1 5 t = σ.1 5 t)
theorem mS_cong {σ σ' : lj_S} (h9 : ∀ j, σ'.1 2 j = σ.1 2 j) (h10 : ∀ j, σ'.1 3 j = σ.1 3 j) (h11 : ∀ j, σ'.1 4 j = σ.1 4 j) (s : Nat) : mS σ' s = mS σ s := by
  unfold mS lv; rw [h10, h11]
  exact List.map_congr_left fun j _ => h9 _
theorem mOK_cong {σ σ' : lj_S} (h : mOK σ) (h9 : ∀ j, σ'.1 2 j = σ.1 2 j) (h10 : ∀ j, σ'.1 3 j = σ.1 3 j) (h11 : ∀ j, σ'.1 4 j = σ.1 4 j) (h12 : ∀ j, σ'.1 6 j = σ.1 6 j) (h13 : ∀ j, σ'.1 7 j = σ.1 7 j) (h7 : σ'.1 0 14 = σ.1 0 14) (h8 : σ'.1 0 8 = σ.1 0 8) : mOK σ' := by
  have e7 : lv σ' 0 14 = lv σ 0 14 := by unfold lv; rw [h7]
  have e8 : lv σ' 0 8 = lv σ 0 8 := by unfold lv; rw [h8]
  have e10 : ∀ j, lv σ' 3 j = lv σ 3 j := fun j => by unfold lv; rw [h10]
  have e11 : ∀ j, lv σ' 4 j = lv σ 4 j := fun j => by unfold lv; rw [h11]
  have e12 : lv σ' 6 = lv σ 6 := funext fun j => by unfold lv; rw [h12]
  have e13 : ∀ j, lv σ' 7 j = lv σ 7 j := fun j => by unfold lv; rw [h13]
  have eS := mS_cong h9 h10 h11
  have e10' : lv σ' 3 = lv σ 3 := funext e10
  have e11' : lv σ' 4 = lv σ 4 := funext e11
  unfold mOK
  simp only [e7, e8, e10', e11', e12, e13, eS, h9]
  exact h
theorem mOK_draft {σ σ' : lj_S} (h : mOK σ) (f : lf mAd σ σ') : mOK σ' :=
  mOK_cong h (fun j => (f 2 j rfl).1) (fun j => (f 3 j rfl).1) (fun j => (f 4 j rfl).1) (fun j => (f 6 j rfl).1) (fun j => (f 7 j rfl).1) (f 0 14 rfl).1 (f 0 8 rfl).1
theorem mS_draft {σ σ' : lj_S} (f : lf mAd σ σ') (s : Nat) : mS σ' s = mS σ s :=
  mS_cong (fun j => (f 2 j rfl).1) (fun j => (f 3 j rfl).1) (fun j => (f 4 j rfl).1) s
theorem mOK_sort {σ : lj_S} (h : mOK σ) (s : Nat) (v : Int32) : mOK (lj_put σ 5 s v) :=
  mOK_cong h (fun j => by rw [lj_put_1, if_neg (by omega)]) (fun j => by rw [lj_put_1, if_neg (by omega)]) (fun j => by rw [lj_put_1, if_neg (by omega)]) (fun j => by rw [lj_put_1, if_neg (by omega)]) (fun j => by rw [lj_put_1, if_neg (by omega)]) (by rw [lj_put_1, if_neg (by omega)]) (by rw [lj_put_1, if_neg (by omega)])
theorem mS_sort (σ : lj_S) (s : Nat) (v : Int32) (t : Nat) : mS (lj_put σ 5 s v) t = mS σ t :=
  mS_cong (fun j => by rw [lj_put_1, if_neg (by omega)]) (fun j => by rw [lj_put_1, if_neg (by omega)]) (fun j => by rw [lj_put_1, if_neg (by omega)]) t
theorem m_intern (σ : lj_S) (x1 : Int32) {D : List Int32} (hD : mDr σ D) (h42 : D.length ≤ 4200) (hok : mOK σ) (hm : lv σ 0 14 < 3000) (hu : lv σ 0 8 + D.length ≤ 40000) : ∃ σ' s, lj_R lm_P 3 [.ref 0, .int x1] σ = some (.inl (some (.int (Int32.ofNat s))), σ') ∧ mMade σ σ' D s x1 ∧ mOK σ' ∧ mDr σ' D ∧ lf mAs σ σ' := by
  have hok' := hok
  obtain ⟨⟨m1, m2⟩, ⟨u1, u2⟩, hin, hby, hinj, B, hB, hBm, hBp, hBa⟩ := hok'
  have bb := bkM_b D
  have hbn : (bkM D).toNatClampNeg < 1024 := by rw [lz_nat]; omega
  rw [rm_3, km_3_0, m_hash σ hD h42]
  unfold lj_bi
  simp only []
  rw [if_pos (lz_in.2 bb)]
  have hl : ∀ s ∈ B (bkM D).toNatClampNeg, mIn σ s := fun s hs => hok.inn (hBm _ hbn s hs).1
  rcases m_find σ hD h42 x1 (bkM D) (B (bkM D).toNatClampNeg) _ (.retAddr 0) (.retAddr 0) (hB _ hbn) hl with ⟨s, hf, he⟩ | ⟨hf, v4, v5, he⟩
  · rw [he]
    have h1 := List.mem_of_find?_eq_some hf
    have h2 := List.find?_some hf
    refine ⟨_, s, rfl, Or.inl ⟨rfl, (hBm _ hbn s h1).1, by simpa using h2⟩, mOK_sort hok _ _, ?_, lf_put (lf_rf _ _) _ _ _ rfl⟩
    exact ⟨by rw [lv_put, if_neg (by omega)]; exact hD.1, fun j h => by rw [lj_put_1, if_neg (by omega)]; exact hD.2.1 j h, hD.2.2⟩
  · rw [he]
    have hno : ∀ t : Nat, (t : Int) < lv σ 0 14 → mS σ t ≠ D := fun t ht e => by
      have h1 := hBa t ht
      rw [e] at h1
      have h2 := List.find?_eq_none.1 hf t h1
      simp [e] at h2
    have h7 : (σ.1 0 14).toInt = lv σ 0 14 := rfl
    have hmn : (σ.1 0 14).toNatClampNeg = (lv σ 0 14).toNat := rfl
    have one : (1 : Int32).toInt = 1 := by decide
    have i7 : lj_in (σ.1 0 14) 3000 := lz_in.2 (by rw [h7]; omega)
    have ib : lj_in (bkM D) 1024 := lz_in.2 bb
    rw [km_3_16, if_pos (by decide), if_pos i7, if_pos i7, if_pos i7, if_pos ib, if_pos i7, if_pos ib]
    have e7 : (σ.1 0 14) = Int32.ofNat (lv σ 0 14).toNat := (lz_back _ (by rw [h7]; omega)).symm
    generalize hM : (lv σ 0 14).toNat = M at *
    generalize hU : (lv σ 0 8).toNat = U at *
    rw [hmn]
    generalize hσ0 : lj_put (lj_put (lj_put (lj_put (lj_put (lj_put σ 0 14 (σ.1 0 14 + 1)) 3 M (σ.1 0 8)) 4 M (σ.1 0 20)) 5 M x1) 6 M (σ.1 7 (bkM D).toNatClampNeg)) 7 (bkM D).toNatClampNeg (σ.1 0 14) = σ0
    have f0 : ∀ k j, ¬ (k = 0 ∧ j = 14) → ¬ (k = 3 ∧ j = M) → ¬ (k = 4 ∧ j = M) → ¬ (k = 5 ∧ j = M) → ¬ (k = 6 ∧ j = M) → ¬ (k = 7 ∧ j = (bkM D).toNatClampNeg) → σ0.1 k j = σ.1 k j := fun k j p1 p2 p3 p4 p5 p6 => by
      rw [← hσ0, lj_put_1, if_neg p6, lj_put_1, if_neg p5, lj_put_1, if_neg p4, lj_put_1, if_neg p3, lj_put_1, if_neg p2, lj_put_1, if_neg p1]
    have gD : mDr σ0 D := ⟨by unfold lv; rw [f0 0 20 (by omega) (by omega) (by omega) (by omega) (by omega) (by omega)]; exact hD.1, fun j h => by rw [f0 8 j (by omega) (by omega) (by omega) (by omega) (by omega) (by omega)]; exact hD.2.1 j h, hD.2.2⟩
    have g08 : lv σ0 0 8 = (U : Nat) := by unfold lv; rw [f0 0 8 (by omega) (by omega) (by omega) (by omega) (by omega) (by omega), lv_def]; omega
    obtain ⟨σ1, a1, a3, a4, a5⟩ := m_copy x1 (bkM D) (σ.1 0 14) v5 U h42 (by omega) D.length 0 σ0 (by omega) gD g08
    have f1 : ∀ k j, k ≠ 2 → σ1.1 k j = σ0.1 k j := fun k j p => (a5 k j (by simp; exact p)).1
    generalize hσ' : lj_put σ1 0 8 (σ1.1 0 8 + σ1.1 0 20) = σ'
    rw [hσ'] at a1
    have g : ∀ k j, k ≠ 2 → ¬ (k = 0 ∧ j = 8) → σ'.1 k j = σ0.1 k j := fun k j p1 p2 => by
      rw [← hσ', lj_put_1, if_neg p2, f1 k j p1]
    have g' : ∀ k j, k ≠ 2 → ¬ (k = 0 ∧ j = 8) → ¬ (k = 0 ∧ j = 14) → ¬ (k = 3 ∧ j = M) → ¬ (k = 4 ∧ j = M) → ¬ (k = 5 ∧ j = M) → ¬ (k = 6 ∧ j = M) → ¬ (k = 7 ∧ j = (bkM D).toNatClampNeg) → σ'.1 k j = σ.1 k j := fun k j p1 p2 p3 p4 p5 p6 p7 p8 => by
      rw [g k j p1 p2, f0 k j p3 p4 p5 p6 p7 p8]
    have g7 : lv σ' 0 14 = lv σ 0 14 + 1 := by
      unfold lv
      rw [g 0 14 (by omega) (by omega), ← hσ0, lj_put_1, if_neg (by omega), lj_put_1, if_neg (by omega), lj_put_1, if_neg (by omega), lj_put_1, if_neg (by omega), lj_put_1, if_neg (by omega), lj_put_1, if_pos ⟨rfl, rfl⟩, lz_add (by omega), one]
    have e18 : (σ1.1 0 8).toInt = U := by rw [f1 0 8 (by omega)]; exact g08
    have e120 : (σ1.1 0 20).toInt = D.length := by rw [f1 0 20 (by omega)]; exact gD.1
    have g8 : lv σ' 0 8 = lv σ 0 8 + D.length := by
      rw [← hσ', lv_put, if_pos ⟨rfl, rfl⟩, lz_add (by omega), e18, e120]; omega
    have g10 : lv σ' 3 M = lv σ 0 8 := by
      unfold lv
      rw [g 3 M (by omega) (by omega), ← hσ0, lj_put_1, if_neg (by omega), lj_put_1, if_neg (by omega), lj_put_1, if_neg (by omega), lj_put_1, if_neg (by omega), lj_put_1, if_pos ⟨rfl, rfl⟩]
    have g11 : lv σ' 4 M = D.length := by
      unfold lv
      rw [g 4 M (by omega) (by omega), ← hσ0, lj_put_1, if_neg (by omega), lj_put_1, if_neg (by omega), lj_put_1, if_neg (by omega), lj_put_1, if_pos ⟨rfl, rfl⟩]; exact hD.1
    have g2 : ∀ j, σ'.1 2 j = σ1.1 2 j := fun j => by rw [← hσ', lj_put_1, if_neg (by omega)]
    have f02 : ∀ j, σ0.1 2 j = σ.1 2 j := fun j => f0 2 j (by omega) (by omega) (by omega) (by omega) (by omega) (by omega)
    have g2o : ∀ j, j < U → σ'.1 2 j = σ.1 2 j := fun j h => by rw [g2, a4 j (by omega), f02]
    have g12 : ∀ j, j ≠ M → lv σ' 6 j = lv σ 6 j := fun j h => by
      unfold lv
      rw [g' 6 j (by omega) (by omega) (by omega) (by omega) (by omega) (by omega) (by omega) (by omega)]
    have g12M : lv σ' 6 M = lv σ 7 (bkM D).toNatClampNeg := by
      unfold lv
      rw [g 6 M (by omega) (by omega), ← hσ0, lj_put_1, if_neg (by omega), lj_put_1, if_pos ⟨rfl, rfl⟩]
    have g13b : lv σ' 7 (bkM D).toNatClampNeg = M := by
      unfold lv
      rw [g 7 _ (by omega) (by omega), ← hσ0, lj_put_1, if_pos ⟨rfl, rfl⟩, h7]; omega
    have g13o : ∀ j, j ≠ (bkM D).toNatClampNeg → lv σ' 7 j = lv σ 7 j := fun j h => by
      unfold lv
      rw [g' 7 j (by omega) (by omega) (by omega) (by omega) (by omega) (by omega) (by omega) (by omega)]
    have eo : ∀ t : Nat, (t : Int) < lv σ 0 14 → lv σ' 3 t = lv σ 3 t ∧ lv σ' 4 t = lv σ 4 t := fun t ht => by
      unfold lv
      exact ⟨by rw [g' 3 t (by omega) (by omega) (by omega) (by omega) (by omega) (by omega) (by omega) (by omega)], by rw [g' 4 t (by omega) (by omega) (by omega) (by omega) (by omega) (by omega) (by omega) (by omega)]⟩
    have cSo : ∀ t : Nat, (t : Int) < lv σ 0 14 → mS σ' t = mS σ t := fun t ht => by
      have ht3 := hin t ht
      unfold mS
      rw [(eo t ht).1, (eo t ht).2]
      apply List.map_congr_left
      intro i hi
      exact g2o _ (by have := List.mem_range.1 hi; omega)
    have cSM : mS σ' M = D := by
      unfold mS
      rw [g10, g11]
      apply List.ext_getElem (by simp)
      intro i h1 h2
      simp only [List.getElem_map, List.getElem_range]
      rw [g2, hU]
      exact a3 i h2 (by omega)
    have mem_lt : ∀ t : Nat, (t : Int) < lv σ' 0 14 → (t : Int) < lv σ 0 14 ∨ t = M := fun t h => by omega
    refine ⟨σ', M, by rw [e7] at a1 ⊢; exact a1, Or.inr ⟨by omega, hno, g7, g8, cSo, cSM, ?_, ?_⟩, ⟨by omega, ⟨by omega, by omega, nxtS_new (M := M) u2.2 (by omega) g7 (fun t ht => eo t (by omega)) g10 g11 g8⟩, ?_, ?_, ?_, fun b => if b = (bkM D).toNatClampNeg then M :: B b else B b, ?_, ?_, ?_, ?_⟩, ?_, ?_⟩
    · rw [g 5 M (by omega) (by omega), ← hσ0, lj_put_1, if_neg (by omega), lj_put_1, if_neg (by omega), lj_put_1, if_pos ⟨rfl, rfl⟩]
    · intro t ht
      rw [g' 5 t (by omega) (by omega) (by omega) (by omega) (by omega) (by omega) (by omega) (by omega)]
    · intro t ht
      rcases mem_lt t ht with h | rfl
      · have := eo t h
        have ht3 := hin t h
        omega
      · omega
    · intro j
      rw [g2]
      by_cases q : j < U ∨ U + D.length ≤ j
      · rw [a4 j (by omega), f02]
        exact hby j
      · have e := a3 (j - U) (by omega) (by omega)
        rw [show U + (j - U) = j by omega] at e
        rw [e]
        exact hD.2.2 _ (List.getElem_mem _)
    · intro s t hs ht e
      rcases mem_lt s hs with h | rfl <;> rcases mem_lt t ht with h' | rfl
      · rw [cSo s h, cSo t h'] at e; exact hinj s t h h' e
      · rw [cSo s h, cSM] at e; exact absurd e (hno s h)
      · rw [cSo t h', cSM] at e; exact absurd e.symm (hno t h')
      · rfl
    · intro b hb
      dsimp only
      by_cases q : b = (bkM D).toNatClampNeg
      · rw [if_pos q, q]
        refine ⟨g13b, ?_⟩
        rw [g12M]
        exact lk_cong (fun p hp => (g12 p (by have := hBm _ hbn p hp; omega)).symm) (hB _ hbn)
      · rw [if_neg q, g13o b q]
        exact lk_cong (fun p hp => (g12 p (by have := hBm _ hb p hp; omega)).symm) (hB _ hb)
    · intro b hb s hs
      dsimp only at hs
      by_cases q : b = (bkM D).toNatClampNeg
      · rw [if_pos q] at hs
        rcases List.mem_cons.1 hs with e | h
        · rw [e]; exact ⟨by omega, by rw [cSM, q]⟩
        · exact ⟨by have := hBm _ hb s h; omega, by rw [cSo s (hBm _ hb s h).1]; exact (hBm _ hb s h).2⟩
      · rw [if_neg q] at hs
        exact ⟨by have := hBm _ hb s hs; omega, by rw [cSo s (hBm _ hb s hs).1]; exact (hBm _ hb s hs).2⟩
    · intro b hb
      dsimp only
      by_cases q : b = (bkM D).toNatClampNeg
      · rw [if_pos q]
        refine List.Pairwise.cons (fun p hp => ?_) (hBp b hb)
        have := hBm _ hb p hp; omega
      · rw [if_neg q]; exact hBp b hb
    · intro s hs
      dsimp only
      rcases mem_lt s hs with h | rfl
      · rw [cSo s h]
        split
        · exact List.mem_cons_of_mem _ (hBa s h)
        · exact hBa s h
      · rw [cSM, if_pos rfl]; exact List.mem_cons_self
    · refine ⟨?_, ?_, hD.2.2⟩
      · unfold lv; rw [g' 0 20 (by omega) (by omega) (by omega) (by omega) (by omega) (by omega) (by omega) (by omega)]; exact hD.1
      · intro i h1
        rw [g' 8 i (by omega) (by omega) (by omega) (by omega) (by omega) (by omega) (by omega) (by omega)]; exact hD.2.1 i h1
    · intro k j q
      simp [mAs] at q
      refine ⟨g' k j (by omega) (by omega) (by omega) (by omega) (by omega) (by omega) (by omega) (by omega), ?_⟩
      rw [← hσ', lj_put_2, (a5 k j (by simp; omega)).2, ← hσ0]
      rfl
