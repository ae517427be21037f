theorem nat_of {x : Int32} {N : Nat} (h1 : 0 ≤ x.toInt) (h2 : x.toInt < (N : Int)) (hN : N ≤ 2147483648) : ∃ q, q < N ∧ x = Int32.ofNat q := ⟨x.toInt.toNat, by omega, lz_ext (by rw [lz_lit (by omega)]; omega)⟩
theorem q_function {σ τ : lj_S} (h : qsR σ τ ∨ ncR σ τ) (x y : Int32) : ag 1 (fun _ => 1) (qK σ τ) (lj_R lc_P 9 [.ref 0, .int x, .int y] σ) (lj_R lm_P 118 [.ref 0, .int x, .int y] τ) := by
  have cbad : lj_D lc_P lc_M9 35 [.ref 0, .int x, .int y] [] σ = some (.inr 2001, σ) := by rw [kc_9_35, kc_9_36, c_909, if_pos rfl, bv_up]; rfl
  have mbad : lj_D lm_P lm_M118 29 [.ref 0, .int x, .int y] [.ref 0] τ = some (.inl (some (.int 0)), lj_put τ 0 0 1) := by rw [km_118_29, km_118_34, if_neg (by decide)]
  rcases h with ⟨h1, h2, _, _, F, f1, f2, f3, f4⟩ | ⟨h1, h2, h3⟩
  · have e1 : ((σ.1 5 8 - 1 : Int32).toInt64).toInt = (F : Int) - 1 := by
      rw [lz_i64, f1, lz_sub (by rw [lz_lit (by omega)]; show _ ≤ (F : Int) - 1 ∧ (F : Int) - 1 < _; omega), lz_lit (by omega)]
      rfl
    have iff1 : ((0 : Int64).toInt ≤ x.toInt ∧ x.toInt ≤ ((σ.1 5 8 - 1 : Int32).toInt64).toInt) ↔ (0 ≤ x.toInt ∧ x.toInt < (F : Int)) := by
      rw [e1]
      show ((0 : Int) ≤ x.toInt ∧ _) ↔ _
      omega
    have iff2 : ((0 : Int64).toInt ≤ y.toInt ∧ y.toInt ≤ (3 : Int64).toInt) ↔ (0 ≤ y.toInt ∧ y.toInt ≤ 3) := Iff.rfl
    have m3 : ¬ (τ.1 0 3 = 0) := by rw [h2]; decide
    have l1 : (x < 0) ↔ x.toInt < 0 := lz_lt
    have l2 : (τ.1 0 34 ≤ x) ↔ (F : Int) ≤ x.toInt := by rw [lz_le, f2, lz_lit (by omega)]
    have l3 : (y < 0) ↔ y.toInt < 0 := lz_lt
    have l4 : (y ≤ 3) ↔ y.toInt ≤ 3 := lz_le
    by_cases hx : 0 ≤ x.toInt ∧ x.toInt < (F : Int)
    · by_cases hy : 0 ≤ y.toInt ∧ y.toInt ≤ 3
      · obtain ⟨q, q1, q2⟩ := nat_of hx.1 hx.2 (by omega)
        obtain ⟨g1, _, _, g2, g3, _, g4, _⟩ := f4 q q1
        have hin : lj_in x 51 := by rw [q2]; exact ofN_in (by omega) (by omega)
        have hn : x.toNatClampNeg = q := by rw [q2, lz_onat (by omega)]
        refine ag_v (v := some (.int (if y = 0 then σ.1 31 q else if y = 1 then σ.1 33 q else if y = 2 then (if σ.1 30 q = 0 then 0 else 1) else σ.1 36 q))) ⟨_, rfl⟩ ?_ ?_
        · rw [rc_9, kc_9_0, c_in σ x 0 _ _ iff1, if_pos hx, bi_ok, if_neg (by decide), c_in σ y 0 3 _ iff2, if_pos hy, bi_ok, if_neg (by decide), kc_9_36, c_909, if_neg (by decide), bv_ok]
          simp only [if_pos hin, kc_9_121, hn]
          by_cases a : y = 0
          · simp only [if_pos a]
          · simp only [if_neg a]
            by_cases b : y = 1
            · simp only [if_pos b]
            · simp only [if_neg b]
              by_cases c : y = 2
              · simp only [if_pos c]
                by_cases d : σ.1 30 q = 0
                · simp only [if_pos d]
                · simp only [if_neg d]
              · simp only [if_neg c]
        · rw [rm_118, km_118_0, if_neg m3, if_neg (fun w => by have := l1.1 w; omega), if_neg (fun w => by have := l2.1 w; omega), if_neg (fun w => by have := l3.1 w; omega), if_pos (l4.2 hy.2), km_118_34, if_pos (by decide)]
          simp only [if_pos hin, km_118_101, hn, ← g1, ← g2, ← g3, ← g4]
          by_cases a : y = 0
          · simp only [if_pos a]
          · simp only [if_neg a]
            by_cases b : y = 1
            · simp only [if_pos b]
            · simp only [if_neg b]
              by_cases c : y = 2
              · simp only [if_pos c]
                by_cases d : σ.1 30 q = 0
                · simp only [if_pos d]
                · simp only [if_neg d]
              · simp only [if_neg c]
      · refine ag_x (w := some (.int 0)) ⟨_, rfl⟩ ?_ ?_
        · rw [rc_9, kc_9_0, c_in σ x 0 _ _ iff1, if_pos hx, bi_ok, if_neg (by decide), c_in σ y 0 3 _ iff2, if_neg hy, bi_ok, if_pos rfl, cbad]
        · rw [rm_118, km_118_0, if_neg m3, if_neg (fun w => by have := l1.1 w; omega), if_neg (fun w => by have := l2.1 w; omega)]
          by_cases a : y < 0
          · rw [if_pos a, mbad]
          · rw [if_neg a, if_neg (fun w => hy (by have := l4.1 w; have : ¬ (y.toInt < 0) := fun z => a (l3.2 z); omega)), mbad]
    · refine ag_x (w := some (.int 0)) ⟨_, rfl⟩ ?_ ?_
      · rw [rc_9, kc_9_0, c_in σ x 0 _ _ iff1, if_neg hx, bi_ok, if_pos rfl, cbad]
      · rw [rm_118, km_118_0, if_neg m3]
        by_cases a : x < 0
        · rw [if_pos a, mbad]
        · rw [if_neg a, if_pos (l2.2 (by have : ¬ (x.toInt < 0) := fun z => a (l1.2 z); omega)), mbad]
  · have e1 : ((σ.1 5 8 - 1 : Int32).toInt64).toInt = -1 := by rw [h3]; decide
    have iff1 : ((0 : Int64).toInt ≤ x.toInt ∧ x.toInt ≤ ((σ.1 5 8 - 1 : Int32).toInt64).toInt) ↔ False := by
      rw [e1]
      show ((0 : Int) ≤ x.toInt ∧ _) ↔ _
      omega
    refine ag_x (w := some (.int 0)) ⟨_, rfl⟩ ?_ ?_
    · rw [rc_9, kc_9_0, c_in σ x 0 _ _ iff1, if_neg id, bi_ok, if_pos rfl, cbad]
    · rw [rm_118, km_118_0, if_pos h2, mbad]
/-- what is told of a value -/
theorem cm_told {σ τ : lj_S} {X : List Int32 → Prop} (hs : sR σ τ X) {a b : vT} (h : vR σ τ a b) : ∃ z : Int64, lj_R lc_P 13 [.ref 0, .int a.1, .long a.2] σ = some (.inl (some (.long z)), σ) ∧ ∀ s : lj_S, (∀ j, s.1 4 j = τ.1 4 j) → lj_R lm_P 244 [.ref 0, .int b.1, .long b.2] s = some (.inl (some (.long z)), s) := by
  rcases h with ⟨rfl, rfl⟩ | ⟨h, rfl⟩ | ⟨s, s', s1, s2, rfl, rfl, e1, e2, e3⟩ | ⟨o, k, hk, rfl, rfl, ho⟩ | ⟨n, hn, rfl, rfl⟩
  · exact ⟨0, by rw [rc_13, kc_13_0, if_pos rfl, kc_13_45], fun s _ => by rw [rm_244, km_244_0, if_pos rfl, km_244_37]⟩
  · have n0 : b.1 ≠ 0 ∧ b.1 ≠ 3 ∧ b.1 ≠ 5 ∧ b.1 ≠ 7 := by rcases h with ⟨e, _⟩ | e <;> rw [e] <;> decide
    exact ⟨b.2, by rw [rc_13, kc_13_0, if_neg n0.1, if_neg n0.2.1, if_neg n0.2.2.1, kc_13_44, kc_13_45], fun s _ => by rw [rm_244, km_244_0, if_neg n0.1, if_neg n0.2.1, if_neg n0.2.2.2, km_244_37]⟩
  · have q : σ.1 11 s = τ.1 4 s' := by
      apply lz_ext
      have w := congrArg List.length e3
      rw [cS_len, mS_len] at w
      have w1 := (hs.1.2.2.1 s e1).2.1
      have w2 := (hs.2.1.2.2.1 s' e2).2.1
      unfold lv at w w1 w2
      omega
    refine ⟨(σ.1 11 s).toInt64, ?_, fun t ht => ?_⟩
    · rw [rc_13, kc_13_0]
      dsimp only
      rw [if_neg (by decide), if_pos rfl, i64_32, if_pos (ofN_in (by omega) (by omega)), lz_onat (by omega), kc_13_45]
    · rw [rm_244, km_244_0]
      dsimp only
      rw [if_neg (by decide), if_pos rfl, i64_32, if_pos (ofN_in (by omega) (by omega)), lz_onat (by omega), km_244_37, ht, q]
  · have ho2 : o < 2147483648 := by
      rcases ho with ⟨_, e⟩ | e
      · omega
      · have := e.2.1; omega
    refine ⟨i64 o, ?_, fun t _ => ?_⟩
    · rw [rc_13, kc_13_0]
      dsimp only
      rcases hk with e | e | e
      · rw [e, if_neg (by decide), if_neg (by decide), if_neg (by decide), kc_13_44, kc_13_45]
      · rw [e, if_neg (by decide), if_neg (by decide), if_pos rfl, if_pos ((lg_ge _ _).2 (by rw [Int64.le_iff_toInt_le, i64_int ho2]; show (0 : Int) ≤ _; omega)), kc_13_44, kc_13_45]
      · rw [e, if_neg (by decide), if_neg (by decide), if_neg (by decide), kc_13_44, kc_13_45]
    · rw [rm_244, km_244_0]
      dsimp only
      rcases hk with e | e | e <;> rw [e, if_neg (by decide), if_neg (by decide), if_neg (by decide), km_244_37]
  · refine ⟨-1, ?_, fun t _ => ?_⟩
    · rw [rc_13, kc_13_0]
      dsimp only
      rw [if_neg (by decide), if_neg (by decide), if_pos rfl, if_neg (fun w => by
        have := (lg_ge _ _).1 w
        rw [Int64.le_iff_toInt_le, bn_int (by omega)] at this
        have : (0 : Int) ≤ -1 - (n : Int) := this
        omega), kc_13_45]
    · rw [rm_244, km_244_0]
      dsimp only
      rw [if_neg (by decide), if_neg (by decide), if_pos rfl, km_244_37]
theorem m_kind {σ τ : lj_S} {a b : vT} (h : vR σ τ a b) (s : lj_S) : lj_R lm_P 243 [.int b.1] s = some (.inl (some (.int a.1)), s) := by
  rw [rm_243, km_243_0]
  rcases h.k.1 with e | ⟨e1, e2⟩
  · rw [if_neg (fun w => by
      rw [e] at w
      rcases h.k.2 with q | q | q | q | q | q | q <;> rw [q] at w <;> exact absurd w (by decide)), km_243_11, e]
  · rw [if_pos e2, km_243_11, e1]
/-- how many results, and which -/
theorem rsNo_ok {σ τ : lj_S} (h : qsR σ τ ∨ ncR σ τ) : ∃ N : Nat, N ≤ 110 ∧ rsNo σ = Int32.ofNat N ∧ (0 < N → (∃ n, QR σ τ n) ∧ ∀ j, j < N → vR σ τ (σ.1 107 j, σ.2 108 j) (τ.1 92 j, τ.2 93 j)) := by
  unfold rsNo
  rcases h with ⟨h1, h2, hq, hr, _⟩ | ⟨h1, h2, _⟩
  · rw [if_neg (by rw [h1]; decide)]
    rcases hr with ⟨a1, a2⟩ | ⟨a1, a2, a3⟩ | ⟨a1, a2, G, G', g1, g2, g3, g4⟩
    · exact ⟨0, (by omega), by rw [if_pos a1]; rfl, fun w => absurd w (by decide)⟩
    · exact ⟨0, (by omega), by rw [if_neg (by rw [a1]; decide), if_pos a2]; rfl, fun w => absurd w (by decide)⟩
    · refine ⟨G.length, g4.2.1, ?_, fun _ => ⟨hq, fun j hj => ?_⟩⟩
      · rw [if_neg (by rw [a1]; decide), if_neg (by rcases a2 with w | w <;> rw [w.1] <;> decide)]
        apply lz_ext
        have q2 : (σ.1 8 41).toInt = (G.length : Int) := g1.1
        rw [q2, lz_lit (by have := g4.2.1; omega)]
      · rw [g1.2 j hj, g3 j (by rw [← g4.1]; exact hj)]
        exact g4.2.2 j
  · exact ⟨0, (by omega), by rw [if_pos h1]; rfl, fun w => absurd w (by decide)⟩
theorem q_result {σ τ : lj_S} (h : qsR σ τ ∨ ncR σ τ) (x y : Int32) : ag 2 (fun _ => 1) (qK σ τ) (lj_R lc_P 12 [.ref 0, .int x, .int y] σ) (lj_R lm_P 242 [.ref 0, .int x, .int y] τ) := by
  have cbad : lj_D lc_P lc_M12 30 [.ref 0, .int x, .int y] [] σ = some (.inr 2001, σ) := by rw [kc_12_30, kc_12_31, c_909, if_pos rfl, bv_up]; rfl
  have mbad : lj_D lm_P lm_M242 22 [.ref 0, .int x, .int y] [.ref 0] τ = some (.inl (some (.long 0)), lj_put τ 0 0 1) := by rw [km_242_22, km_242_27, if_neg (by decide)]
  obtain ⟨N, N1, N2, N3⟩ := rsNo_ok h
  have e1 : ((rsNo σ - 1 : Int32).toInt64).toInt = (N : Int) - 1 := by
    rw [lz_i64, N2, lz_sub (by rw [lz_lit (by omega)]; show _ ≤ (N : Int) - 1 ∧ (N : Int) - 1 < _; omega), lz_lit (by omega)]
    rfl
  have iff1 : ((0 : Int64).toInt ≤ x.toInt ∧ x.toInt ≤ ((rsNo σ - 1 : Int32).toInt64).toInt) ↔ (0 ≤ x.toInt ∧ x.toInt < (N : Int)) := by
    rw [e1]
    show ((0 : Int) ≤ x.toInt ∧ _) ↔ _
    omega
  have iff2 : ((0 : Int64).toInt ≤ y.toInt ∧ y.toInt ≤ (1 : Int64).toInt) ↔ (0 ≤ y.toInt ∧ y.toInt ≤ 1) := Iff.rfl
  have l1 : (x < 0) ↔ x.toInt < 0 := lz_lt
  have l2 : (rsNo σ ≤ x) ↔ (N : Int) ≤ x.toInt := by rw [lz_le, N2, lz_lit (by omega)]
  have l3 : (y < 0) ↔ y.toInt < 0 := lz_lt
  have l4 : (y ≤ 1) ↔ y.toInt ≤ 1 := lz_le
  have mr := (m_rs h 0).2
  by_cases hx : 0 ≤ x.toInt ∧ x.toInt < (N : Int)
  · by_cases hy : 0 ≤ y.toInt ∧ y.toInt ≤ 1
    · obtain ⟨q, q1, q2⟩ := nat_of hx.1 hx.2 (by omega)
      obtain ⟨⟨n, hq⟩, hv⟩ := N3 (by omega)
      have hv := hv q q1
      have hin : lj_in x 128 := by rw [q2]; exact ofN_in (by omega) (by omega)
      have hn : x.toNatClampNeg = q := by rw [q2, lz_onat (by omega)]
      obtain ⟨z, z1, z2⟩ := cm_told hq.1.1 hv
      have cc : lj_R lc_P 12 [.ref 0, .int x, .int y] σ = (if y = 0 then some (.inl (some (.long ((σ.1 107 q).toInt64))), σ) else some (.inl (some (.long z)), σ)) := by
        rw [rc_12, kc_12_0, c_rs, bi_ok, c_in σ x 0 _ _ iff1, if_pos hx, bi_ok, if_neg (by decide), c_in σ y 0 1 _ iff2, if_pos hy, bi_ok, if_neg (by decide), kc_12_31, c_909, if_neg (by decide), bv_ok]
        simp only [if_pos hin, hn, z1, bl_ok, kc_12_73]
      have mm : lj_R lm_P 242 [.ref 0, .int x, .int y] τ = (if y = 0 then some (.inl (some (.long ((σ.1 107 q).toInt64))), lj_put τ 0 0 0) else some (.inl (some (.long z)), lj_put τ 0 0 0)) := by
        rw [rm_242, km_242_0, if_neg (fun w => by have := l1.1 w; omega), mr, bi_ok, if_neg (fun w => by have := l2.1 w; omega), if_neg (fun w => by have := l3.1 w; omega), if_pos (l4.2 hy.2), km_242_27, if_pos (by decide)]
        simp only [if_pos hin, hn, m_kind hv (lj_put τ 0 0 0), z2 (lj_put τ 0 0 0) (fun j => by rw [lj_put_1, if_neg (by omega)]), bi_ok, bl_ok, km_242_72]
      by_cases a : y = 0
      · rw [if_pos a] at cc mm
        exact ag_v ⟨_, rfl⟩ cc mm
      · rw [if_neg a] at cc mm
        exact ag_v ⟨_, rfl⟩ cc mm
    · refine ag_x (w := some (.long 0)) ⟨_, rfl⟩ ?_ ?_
      · rw [rc_12, kc_12_0, c_rs, bi_ok, c_in σ x 0 _ _ iff1, if_pos hx, bi_ok, if_neg (by decide), c_in σ y 0 1 _ iff2, if_neg hy, bi_ok, if_pos rfl, cbad]
      · rw [rm_242, km_242_0, if_neg (fun w => by have := l1.1 w; omega), mr, bi_ok, if_neg (fun w => by have := l2.1 w; omega)]
        by_cases a : y < 0
        · rw [if_pos a, mbad]
        · rw [if_neg a, if_neg (fun w => hy (by have := l4.1 w; have : ¬ (y.toInt < 0) := fun z => a (l3.2 z); omega)), mbad]
  · refine ag_x (w := some (.long 0)) ⟨_, rfl⟩ ?_ ?_
    · rw [rc_12, kc_12_0, c_rs, bi_ok, c_in σ x 0 _ _ iff1, if_neg hx, bi_ok, if_pos rfl, cbad]
    · rw [rm_242, km_242_0]
      by_cases a : x < 0
      · rw [if_pos a, mbad]
      · rw [if_neg a, mr, bi_ok, if_pos (l2.2 (by have : ¬ (x.toInt < 0) := fun z => a (l1.2 z); omega)), mbad]
