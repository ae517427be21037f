theorem c_fix_loop {M : Nat} (hM : M ≤ 2600) : ∀ (d i : Nat) (σ : lj_S), i + d = M → lv σ 3 7 = (M : Int) → ∃ σ', lj_D lc_P lc_M31 18 [.ref 3, .int (Int32.ofNat i)] [] σ = some (.inl none, σ') ∧ (∀ s, i ≤ s → s < M → σ'.1 16 s = vp_nar .boolean (σ.1 15 s)) ∧ lf (fun k j => k == 16 && decide (i ≤ j)) σ σ'
  | 0, i, σ, h, h7 => by
    have e7 : σ.1 3 7 = Int32.ofNat M := lz_ext (by rw [lz_lit (by omega)]; exact h7)
    refine ⟨σ, ?_, fun s h1 h2 => (by omega), lf_rf _ _⟩
    rw [kc_31_18, e7, if_pos (by rw [ofN_le (by omega) (by omega)]; omega)]
  | d + 1, i, σ, h, h7 => by
    have e7 : σ.1 3 7 = Int32.ofNat M := lz_ext (by rw [lz_lit (by omega)]; exact h7)
    obtain ⟨σ', e1, e2, e3⟩ := c_fix_loop hM d (i + 1) (lj_put σ 16 i (vp_nar .boolean (σ.1 15 i))) (by omega) (by rw [lv_put, if_neg (by omega)]; exact h7)
    refine ⟨σ', ?_, fun s h1 h2 => ?_, ?_⟩
    · rw [kc_31_18, e7, if_neg (by rw [ofN_le (by omega) (by omega)]; omega), if_pos (ofN_in (by omega) (by omega)), if_pos (ofN_in (by omega) (by omega)), lz_onat (by omega), lz_osucc]
      exact e1
    · by_cases z : s = i
      · rw [z, (e3 16 i (by simp)).1, lj_put_1, if_pos ⟨rfl, rfl⟩]
      · rw [e2 s (by omega) (by omega), lj_put_1, if_neg (by omega)]
    · exact (lf_put (lf_rf _ _) _ _ _ (by simp)).tr (e3.mo (fun k j w => by
        simp at w ⊢
        omega))
def fxS (k j : Nat) : Bool := k == 16 || (k == 3 && (j == 9 || j == 10))
theorem c_fix {σ : lj_S} {M : Nat} (hM : M ≤ 2600) (h7 : lv σ 3 7 = (M : Int)) : ∃ σ', lj_R lc_P 31 [.ref 3] σ = some (.inl none, σ') ∧ σ'.1 3 9 = Int32.ofNat M ∧ σ'.1 3 10 = σ.1 3 8 ∧ (∀ s, s < M → σ'.1 16 s = vp_nar .boolean (σ.1 15 s)) ∧ lf fxS σ σ' := by
  have e7 : σ.1 3 7 = Int32.ofNat M := lz_ext (by rw [lz_lit (by omega)]; exact h7)
  obtain ⟨σ', e1, e2, e3⟩ := c_fix_loop hM M 0 (lj_put (lj_put σ 3 9 (σ.1 3 7)) 3 10 (σ.1 3 8)) (by omega) (by rw [lv_put, if_neg (by omega), lv_put, if_neg (by omega)]; exact h7)
  refine ⟨σ', by rw [rc_31, kc_31_0]; exact e1, ?_, ?_, fun s hs => ?_, ?_⟩
  · rw [(e3 3 9 rfl).1, lj_put_1, if_neg (by omega), lj_put_1, if_pos ⟨rfl, rfl⟩, e7]
  · rw [(e3 3 10 rfl).1, lj_put_1, if_pos ⟨rfl, rfl⟩]
  · rw [e2 s (Nat.zero_le _) hs, lj_put_1, if_neg (by omega), lj_put_1, if_neg (by omega)]
  · exact (lf_put (lf_put (lf_rf _ _) _ _ _ rfl) _ _ _ rfl).tr (e3.mo (fun k j w => by
      unfold fxS at w
      simp at w ⊢
      omega))
/-- a bucket: those that came behind the fixed ones are no more -/
theorem c_bk_in {fx b : Nat} (hb : b < 1024) (hf : fx ≤ 2600) : ∀ (l : List Nat) (σ : lj_S), lk (lv σ 12) (lv σ 13 b) l → (∀ s ∈ l, s < 2600) → σ.1 3 9 = Int32.ofNat fx → ∃ x : Int32, lj_D lc_P lc_M32 11 [.ref 3, .int (Int32.ofNat b)] [] σ = lj_D lc_P lc_M32 2 [.ref 3, .int (Int32.ofNat (b + 1))] [] (lj_put σ 13 b x) ∧ lk (lv σ 12) x.toInt (l.dropWhile (fun s => decide (fx ≤ s)))
  | [], σ, h, _, h9 => by
    have e : σ.1 13 b = -1 := lz_ext h
    refine ⟨-1, ?_, rfl⟩
    rw [kc_32_11, if_pos (ofN_in (by omega) (by omega)), lz_onat (by omega), e, h9, if_pos (by rw [lz_lt, lz_lit (by omega)]; show (-1 : Int) < (fx : Int); omega), lz_osucc, lj_put_self _ _ _ _ e]
  | p :: l, σ, h, hl, h9 => by
    have p2 : p < 2600 := hl p List.mem_cons_self
    have e : σ.1 13 b = Int32.ofNat p := lz_ext (by rw [lz_lit (by omega)]; exact h.1)
    by_cases z : fx ≤ p
    · have o12 : lv (lj_put σ 13 b (σ.1 12 p)) 12 = lv σ 12 := funext fun j => by rw [lv_put, if_neg (by omega)]
      obtain ⟨x, e1, e2⟩ := c_bk_in hb hf l (lj_put σ 13 b (σ.1 12 p)) (by rw [o12, lv_put, if_pos ⟨rfl, rfl⟩]; exact h.2) (fun s hs => hl s (List.mem_cons_of_mem _ hs)) (by rw [lj_put_1, if_neg (by omega)]; exact h9)
      refine ⟨x, ?_, ?_⟩
      · rw [kc_32_11, if_pos (ofN_in (by omega) (by omega)), lz_onat (by omega), e, h9, if_neg (by rw [lz_lt, lz_lit (by omega), lz_lit (by omega)]; omega), if_pos (ofN_in (by omega) (by omega)), if_pos (ofN_in (by omega) (by omega)), if_pos (ofN_in (by omega) (by omega)), lz_onat (by omega), e1, lj_put_put]
      · rw [List.dropWhile_cons_of_pos (by simpa using z)]
        rw [o12] at e2
        exact e2
    · refine ⟨σ.1 13 b, ?_, ?_⟩
      · rw [kc_32_11, if_pos (ofN_in (by omega) (by omega)), lz_onat (by omega), e, h9, if_pos (by rw [lz_lt, lz_lit (by omega), lz_lit (by omega)]; omega), lz_osucc, lj_put_self _ _ _ _ e]
      · rw [List.dropWhile_cons_of_neg (by simpa using z)]
        exact h
theorem c_bk_all {fx : Nat} (hf : fx ≤ 2600) {B : Nat → List Nat} : ∀ (d i : Nat) (σ : lj_S), i + d = 1024 → (∀ b, i ≤ b → b < 1024 → lk (lv σ 12) (lv σ 13 b) (B b) ∧ ∀ s ∈ B b, s < 2600) → σ.1 3 9 = Int32.ofNat fx → ∃ σ', lj_D lc_P lc_M32 2 [.ref 3, .int (Int32.ofNat i)] [] σ = lj_D lc_P lc_M32 68 [.ref 3, .int 0] [] (lj_put (lj_put σ' 3 7 (σ.1 3 9)) 3 8 (σ.1 3 10)) ∧ (∀ b, i ≤ b → b < 1024 → lk (lv σ 12) (lv σ' 13 b) ((B b).dropWhile (fun s => decide (fx ≤ s)))) ∧ lf (fun k j => k == 13 && decide (i ≤ j)) σ σ'
  | 0, i, σ, h, _, _ => by
    refine ⟨σ, ?_, fun b h1 h2 => (by omega), lf_rf _ _⟩
    rw [kc_32_2, if_pos (by rw [show (1024 : Int32) = Int32.ofNat 1024 from rfl, ofN_le (by omega) (by omega)]; omega)]
  | d + 1, i, σ, h, hB, h9 => by
    obtain ⟨x, e1, e2⟩ := c_bk_in (b := i) (by omega) hf (B i) σ (hB i (by omega) (by omega)).1 (hB i (by omega) (by omega)).2 h9
    have o12 : lv (lj_put σ 13 i x) 12 = lv σ 12 := funext fun j => by rw [lv_put, if_neg (by omega)]
    obtain ⟨σ', g1, g2, g3⟩ := c_bk_all hf (B := B) d (i + 1) (lj_put σ 13 i x) (by omega) (fun b h1 h2 => by rw [o12, lv_put, if_neg (by omega)]; exact hB b (by omega) (by omega)) (by rw [lj_put_1, if_neg (by omega)]; exact h9)
    refine ⟨σ', ?_, fun b h1 h2 => ?_, ?_⟩
    · rw [kc_32_2, if_neg (by rw [show (1024 : Int32) = Int32.ofNat 1024 from rfl, ofN_le (by omega) (by omega)]; omega), e1, g1, lj_put_1, if_neg (by omega), lj_put_1, if_neg (by omega)]
    · by_cases z : b = i
      · have : lv σ' 13 i = x.toInt := by unfold lv; rw [(g3 13 i (by simp)).1, lj_put_1, if_pos ⟨rfl, rfl⟩]
        rw [z, this]
        exact e2
      · have := g2 b (by omega) (by omega)
        rw [o12] at this
        exact this
    · exact (lf_put (lf_rf _ _) _ _ _ (by simp)).tr (g3.mo (fun k j w => by
        simp at w ⊢
        omega))
theorem c_bk_set {M : Nat} (hM : M ≤ 2600) : ∀ (d i : Nat) (σ : lj_S), i + d = M → lv σ 3 7 = (M : Int) → ∃ σ', lj_D lc_P lc_M32 68 [.ref 3, .int (Int32.ofNat i)] [] σ = some (.inl none, lj_put (lj_put σ' 3 13 0) 3 14 0) ∧ (∀ s, i ≤ s → s < M → σ'.1 15 s = vp_nar .boolean (σ.1 16 s)) ∧ lf (fun k j => k == 15 && decide (i ≤ j)) σ σ'
  | 0, i, σ, h, h7 => by
    have e7 : σ.1 3 7 = Int32.ofNat M := lz_ext (by rw [lz_lit (by omega)]; exact h7)
    refine ⟨σ, ?_, fun s h1 h2 => (by omega), lf_rf _ _⟩
    rw [kc_32_68, e7, if_pos (by rw [ofN_le (by omega) (by omega)]; omega)]
  | d + 1, i, σ, h, h7 => by
    have e7 : σ.1 3 7 = Int32.ofNat M := lz_ext (by rw [lz_lit (by omega)]; exact h7)
    obtain ⟨σ', e1, e2, e3⟩ := c_bk_set hM d (i + 1) (lj_put σ 15 i (vp_nar .boolean (σ.1 16 i))) (by omega) (by rw [lv_put, if_neg (by omega)]; exact h7)
    refine ⟨σ', ?_, fun s h1 h2 => ?_, ?_⟩
    · rw [kc_32_68, e7, if_neg (by rw [ofN_le (by omega) (by omega)]; omega), if_pos (ofN_in (by omega) (by omega)), if_pos (ofN_in (by omega) (by omega)), lz_onat (by omega), lz_osucc]
      exact e1
    · by_cases z : s = i
      · rw [z, (e3 15 i (by simp)).1, lj_put_1, if_pos ⟨rfl, rfl⟩]
      · rw [e2 s (by omega) (by omega), lj_put_1, if_neg (by omega)]
    · exact (lf_put (lf_rf _ _) _ _ _ (by simp)).tr (e3.mo (fun k j w => by
        simp at w ⊢
        omega))
theorem dw_mem {l : List Nat} {fx s : Nat} (hs : s ∈ l) (h : s < fx) : s ∈ l.dropWhile (fun s => decide (fx ≤ s)) := by
  induction l with
  | nil => cases hs
  | cons a r ih =>
    by_cases z : fx ≤ a
    · rw [List.dropWhile_cons_of_pos (by simpa using z)]
      rcases List.mem_cons.1 hs with e | e
      · omega
      · exact ih e
    · rw [List.dropWhile_cons_of_neg (by simpa using z)]
      exact hs
theorem dw_lt {fx : Nat} : ∀ {l : List Nat}, l.Pairwise (· > ·) → (∀ s ∈ l.dropWhile (fun s => decide (fx ≤ s)), s < fx ∧ s ∈ l) ∧ (l.dropWhile (fun s => decide (fx ≤ s))).Pairwise (· > ·)
  | [], _ => ⟨fun s hs => (by cases hs), List.Pairwise.nil⟩
  | a :: r, h => by
    rw [List.pairwise_cons] at h
    obtain ⟨h1, h2⟩ := dw_lt (fx := fx) h.2
    by_cases z : fx ≤ a
    · rw [List.dropWhile_cons_of_pos (by simpa using z)]
      exact ⟨fun s hs => ⟨(h1 s hs).1, List.mem_cons_of_mem _ (h1 s hs).2⟩, h2⟩
    · rw [List.dropWhile_cons_of_neg (by simpa using z)]
      refine ⟨fun s hs => ⟨?_, hs⟩, List.pairwise_cons.2 h⟩
      rcases List.mem_cons.1 hs with e | e
      · omega
      · have := h.1 s e; omega
def bkS (k j : Nat) : Bool := k == 13 || k == 15 || (k == 3 && (j == 7 || j == 8 || j == 13 || j == 14))
/-- those that came behind the fixed ones are no more -/
theorem c_back {σ : lj_S} (h : cOK σ) {fx : Nat} (h9 : σ.1 3 9 = Int32.ofNat fx) (hf : (fx : Int) ≤ lv σ 3 7) (h10 : (σ.1 3 10).toInt = if (fx : Int) < lv σ 3 7 then lv σ 10 fx else lv σ 3 8) : ∃ σ', lj_R lc_P 32 [.ref 3] σ = some (.inl none, σ') ∧ cOK σ' ∧ lv σ' 3 7 = (fx : Int) ∧ σ'.1 3 8 = σ.1 3 10 ∧ (∀ s, s < fx → σ'.1 15 s = vp_nar .boolean (σ.1 16 s)) ∧ (σ'.1 3 13 = 0 ∧ σ'.1 3 14 = 0) ∧ lf bkS σ σ' := by
  obtain ⟨⟨m1, m2⟩, ⟨u1, u2, u3⟩, hin, hby, hinj, B, hB, hBm, hBp, hBa⟩ := h
  have f26 : fx ≤ 2600 := by omega
  obtain ⟨σ1, e1, e2, e3⟩ := c_bk_all f26 (B := B) 1024 0 σ rfl (fun b _ hb => ⟨hB b hb, fun s hs => by have := hBm b hb s hs; omega⟩) h9
  obtain ⟨σ2, hσ2⟩ : ∃ s, s = lj_put (lj_put σ1 3 7 (σ.1 3 9)) 3 8 (σ.1 3 10) := ⟨_, rfl⟩
  have o2 : ∀ k j, k ≠ 13 → ¬ (k = 3 ∧ (j = 7 ∨ j = 8)) → σ2.1 k j = σ.1 k j := fun k j w1 w2 => by rw [hσ2, lj_put_1, if_neg (by omega), lj_put_1, if_neg (by omega), (e3 k j (by simp; intro w; exact absurd w w1)).1]
  have o13 : ∀ j, σ2.1 13 j = σ1.1 13 j := fun j => by rw [hσ2, lj_put_1, if_neg (by omega), lj_put_1, if_neg (by omega)]
  have o7 : lv σ2 3 7 = (fx : Int) := by unfold lv; rw [hσ2, lj_put_1, if_neg (by omega), lj_put_1, if_pos ⟨rfl, rfl⟩, h9, lz_lit (by omega)]
  obtain ⟨σ3, g1, g2, g3⟩ := c_bk_set f26 fx 0 σ2 (by omega) o7
  obtain ⟨σ', hσ'⟩ : ∃ s, s = lj_put (lj_put σ3 3 13 0) 3 14 0 := ⟨_, rfl⟩
  have q : ∀ k j, k ≠ 15 → ¬ (k = 3 ∧ (j = 13 ∨ j = 14)) → σ'.1 k j = σ2.1 k j := fun k j w1 w2 => by rw [hσ', lj_put_1, if_neg (by omega), lj_put_1, if_neg (by omega), (g3 k j (by simp; intro w; exact absurd w w1)).1]
  have r : ∀ k j, k ≠ 13 → k ≠ 15 → ¬ (k = 3 ∧ (j = 7 ∨ j = 8 ∨ j = 13 ∨ j = 14)) → σ'.1 k j = σ.1 k j := fun k j w1 w2 w3 => by rw [q k j w2 (by omega), o2 k j w1 (by omega)]
  have f7 : lv σ' 3 7 = (fx : Int) := by have := q 3 7 (by omega) (by omega); unfold lv at o7 ⊢; rw [this]; exact o7
  have f8' : σ'.1 3 8 = σ.1 3 10 := by rw [q 3 8 (by omega) (by omega), hσ2, lj_put_1, if_pos ⟨rfl, rfl⟩]
  have f8 : lv σ' 3 8 = if (fx : Int) < lv σ 3 7 then lv σ 10 fx else lv σ 3 8 := by rw [← h10]; unfold lv; rw [f8']
  have f10 : lv σ' 10 = lv σ 10 := funext fun j => by unfold lv; rw [r 10 j (by omega) (by omega) (by omega)]
  have f11 : lv σ' 11 = lv σ 11 := funext fun j => by unfold lv; rw [r 11 j (by omega) (by omega) (by omega)]
  have f12 : lv σ' 12 = lv σ 12 := funext fun j => by unfold lv; rw [r 12 j (by omega) (by omega) (by omega)]
  have f13 : ∀ b, lv σ' 13 b = lv σ1 13 b := fun b => by unfold lv; rw [q 13 b (by omega) (by omega), o13]
  have fS : ∀ t, cS σ' t = cS σ t := cS_cong (fun j => r 9 j (by omega) (by omega) (by omega)) (fun j => r 10 j (by omega) (by omega) (by omega)) (fun j => r 11 j (by omega) (by omega) (by omega))
  have ls : ∀ t : Nat, (t : Int) < lv σ 3 7 → 0 ≤ lv σ 11 t := fun t ht => (hin t ht).2.1
  have cut := nxtS_cut u3 hf
  have top : 0 ≤ (if (fx : Int) < lv σ 3 7 then lv σ 10 fx else lv σ 3 8) ∧ (if (fx : Int) < lv σ 3 7 then lv σ 10 fx else lv σ 3 8) ≤ 40000 := by
    by_cases z : (fx : Int) < lv σ 3 7
    · rw [if_pos z]
      have := hin fx z
      omega
    · rw [if_neg z]; omega
  refine ⟨σ', ?_, ?_, f7, f8', fun s hs => ?_, ⟨?_, ?_⟩, fun k j w => ?_⟩
  · rw [rc_32, kc_32_0, show (0 : Int32) = Int32.ofNat 0 from rfl, e1, ← hσ2, hσ']
    exact g1
  · unfold cOK
    rw [f7, f8, f10, f11, f12]
    simp only [fS, f13]
    refine ⟨(by omega), ⟨top.1, top.2, cut⟩, fun t ht => ⟨(hin t (by omega)).1, (hin t (by omega)).2.1, ?_⟩, fun j => by rw [r 9 j (by omega) (by omega) (by omega)]; exact hby j, fun a b h1 h2 => hinj a b (by omega) (by omega), fun b => (B b).dropWhile (fun s => decide (fx ≤ s)), fun b hb => e2 b (Nat.zero_le _) hb, fun b hb s hs => ?_, fun b hb => (dw_lt (hBp b hb)).2, fun t ht => ?_⟩
    · have w := nxtS_mono u3 ls (fx - t - 1) t (by omega)
      rw [show t + (fx - t - 1) + 1 = fx by omega] at w
      exact w
    · have := ((dw_lt (fx := fx) (hBp b hb)).1 s hs).1
      omega
    · exact dw_mem (hBa t (by omega)) (by omega)
  · rw [hσ', lj_put_1, if_neg (by omega), lj_put_1, if_neg (by omega), g2 s (Nat.zero_le _) hs, o2 16 s (by omega) (by omega)]
  · rw [hσ', lj_put_1, if_neg (by omega), lj_put_1, if_pos ⟨rfl, rfl⟩]
  · rw [hσ', lj_put_1, if_pos ⟨rfl, rfl⟩]
  · refine ⟨r k j ?_ ?_ ?_, ?_⟩
    · intro e; rw [e] at w; exact absurd w (by decide)
    · intro e; rw [e] at w; exact absurd w (by decide)
    · rintro ⟨e1, e2⟩; rw [e1] at w; rcases e2 with e | e | e | e <;> rw [e] at w <;> exact absurd w (by decide)
    · rw [hσ']
      show σ3.2 k j = σ.2 k j
      by_cases z : k = 15
      · rw [z] at w; exact absurd w (by decide)
      · by_cases y : k = 13
        · rw [y] at w; exact absurd w (by decide)
        · rw [(g3 k j (by simp; intro e; exact absurd e z)).2, hσ2]
          exact (e3 k j (by simp; intro e; exact absurd e y)).2
