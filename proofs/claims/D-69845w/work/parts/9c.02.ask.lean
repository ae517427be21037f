theorem q_resultByte {σ τ : lj_S} (h : qsR σ τ ∨ ncR σ τ) (x y : Int32) : ag 1 (fun _ => 1) (qK σ τ) (lj_R lc_P 14 [.ref 0, .int x, .int y] σ) (lj_R lm_P 245 [.ref 0, .int x, .int y] τ) := by
  have cbad : lj_D lc_P lc_M14 63 [.ref 0, .int x, .int y] [] σ = some (.inr 2001, σ) := by rw [kc_14_63, kc_14_64, c_909, if_pos rfl, bv_up]; rfl
  have mbad : lj_D lm_P lm_M245 43 [.ref 0, .int x, .int y] [.ref 0] τ = some (.inl (some (.int 0)), lj_put τ 0 0 1) := by rw [km_245_43, km_245_48, if_neg (by decide), km_245_85]
  obtain ⟨N, N1, N2, N3⟩ := rsNo_ok h
  have e1 : ((rsNo σ - 1 : Int32).toInt64).toInt = (N : Int) - 1 := by
    rw [lz_i64, N2, lz_sub (by rw [lz_lit (by omega)]; show _ ≤ (N : Int) - 1 ∧ (N : Int) - 1 < _; omega), lz_lit (by omega)]
    rfl
  have iff1 : ((0 : Int64).toInt ≤ x.toInt ∧ x.toInt ≤ ((rsNo σ - 1 : Int32).toInt64).toInt) ↔ (0 ≤ x.toInt ∧ x.toInt < (N : Int)) := by
    rw [e1]
    show ((0 : Int) ≤ x.toInt ∧ _) ↔ _
    omega
  have l1 : (x < 0) ↔ x.toInt < 0 := lz_lt
  have l2 : (rsNo σ ≤ x) ↔ (N : Int) ≤ x.toInt := by rw [lz_le, N2, lz_lit (by omega)]
  have l3 : (y < 0) ↔ y.toInt < 0 := lz_lt
  have mr := (m_rs h 0).2
  by_cases hx : 0 ≤ x.toInt ∧ x.toInt < (N : Int)
  · obtain ⟨q, q1, q2⟩ := nat_of hx.1 hx.2 (by omega)
    obtain ⟨⟨n, hq⟩, hv⟩ := N3 (by omega)
    have hv := hv q q1
    have hin : lj_in x 128 := by rw [q2]; exact ofN_in (by omega) (by omega)
    have hn : x.toNatClampNeg = q := by rw [q2, lz_onat (by omega)]
    have ch : lj_R lc_P 14 [.ref 0, .int x, .int y] σ = (if (σ.1 107 q) = 3 then (if lj_in ((σ.2 108 q).toInt32) 2600 then lj_bi (lj_R lc_P 3 [.long y.toInt64, .long 0, .long (((σ.1 11 ((σ.2 108 q).toInt32.toNatClampNeg)) - 1 : Int32).toInt64)] σ) (fun y6 σ5 => (if y6 = 0 then lj_D lc_P lc_M14 63 [.ref 0, .int x, .int y] [] σ5 else lj_D lc_P lc_M14 64 [.ref 0, .int x, .int y] [.int 1] σ5)) lj_up else none) else lj_D lc_P lc_M14 63 [.ref 0, .int x, .int y] [] σ) := by
      rw [rc_14, kc_14_0, c_rs, bi_ok, c_in σ x 0 _ _ iff1, if_pos hx, bi_ok, if_neg (by decide), if_pos hin, hn]
      simp only [if_pos hin]
    have mh : lj_R lm_P 245 [.ref 0, .int x, .int y] τ = (if (τ.1 92 q) = 3 then (if y < 0 then lj_D lm_P lm_M245 43 [.ref 0, .int x, .int y] [.ref 0] τ else (if lj_in ((τ.2 93 q).toInt32) 3000 then (if y < (τ.1 4 ((τ.2 93 q).toInt32.toNatClampNeg)) then lj_D lm_P lm_M245 48 [.ref 0, .int x, .int y] [.int 0, .ref 0] τ else lj_D lm_P lm_M245 43 [.ref 0, .int x, .int y] [.ref 0] τ) else none)) else lj_D lm_P lm_M245 43 [.ref 0, .int x, .int y] [.ref 0] τ) := by
      rw [rm_245, km_245_0, if_neg (fun w => by have := l1.1 w; omega), mr, bi_ok, if_neg (fun w => by have := l2.1 w; omega), if_pos hin, hn]
      simp only [if_pos hin]
    by_cases hk : σ.1 107 q = 3
    · obtain ⟨s, s', s1, s2, ea, eb, e3, e4, e5⟩ := hv.st hk
      have ea : σ.2 108 q = i64 s := congrArg Prod.snd ea
      have eb1 : τ.1 92 q = 3 := congrArg Prod.fst eb
      have eb : τ.2 93 q = i64 s' := congrArg Prod.snd eb
      rw [if_pos hk, ea, i64_32, if_pos (ofN_in (by omega) (by omega)), lz_onat (by omega)] at ch
      rw [if_pos eb1, eb, i64_32, lz_onat (by omega)] at mh
      have lc : (σ.1 11 s).toInt = ((cS σ s).length : Int) := by
        have := (hq.1.1.1.2.2.1 s e3).2.1
        rw [cS_len]
        unfold lv at this ⊢
        omega
      have lm : (τ.1 4 s').toInt = ((cS σ s).length : Int) := by
        have := (hq.1.1.2.1.2.2.1 s' e4).2.1
        rw [e5, mS_len]
        unfold lv at this ⊢
        omega
      have l10 : (cS σ s).length ≤ 1000 := hq.1.2.2.2.1 s e3
      have e2 : ((σ.1 11 s - 1 : Int32).toInt64).toInt = ((cS σ s).length : Int) - 1 := by
        rw [lz_i64, lz_sub (by rw [lc]; show _ ≤ ((cS σ s).length : Int) - 1 ∧ ((cS σ s).length : Int) - 1 < _; omega), lc]
        rfl
      have iff2 : ((0 : Int64).toInt ≤ y.toInt ∧ y.toInt ≤ ((σ.1 11 s - 1 : Int32).toInt64).toInt) ↔ (0 ≤ y.toInt ∧ y.toInt < ((cS σ s).length : Int)) := by
        rw [e2]
        show ((0 : Int) ≤ y.toInt ∧ _) ↔ _
        omega
      have l4 : (y < τ.1 4 s') ↔ y.toInt < ((cS σ s).length : Int) := by rw [lz_lt, lm]
      by_cases hy : 0 ≤ y.toInt ∧ y.toInt < ((cS σ s).length : Int)
      · obtain ⟨k, k1, k2⟩ := nat_of hy.1 hy.2 (by omega)
        have km : k < (mS τ s').length := by rw [← e5]; exact k1
        have ms := m_sbyte (hq.1.1.2.1.inn e4) km
        refine ag_v (v := some (.int ((cS σ s)[k] &&& 255))) ⟨_, rfl⟩ ?_ ?_
        · rw [ch, c_in σ y 0 _ _ iff2, if_pos hy, bi_ok, if_neg (by decide), kc_14_64, c_909, if_neg (by decide), bv_ok, if_pos hin, hn, ea, i64_32, k2, c_sbyte (hq.1.1.1.inn e3) k1, bi_ok]
        · rw [mh, if_neg (fun w => by have := l3.1 w; omega), if_pos (ofN_in (by omega) (by omega)), if_pos (l4.2 hy.2), km_245_48, if_pos (by decide), if_pos hin, hn, eb, i64_32, if_pos (ofN_in (by omega) (by omega)), lz_onat (by omega), k2, if_pos ms.1, ms.2, km_245_85]
          simp only [e5]
      · refine ag_x (w := some (.int 0)) ⟨_, rfl⟩ ?_ ?_
        · rw [ch, c_in σ y 0 _ _ iff2, if_neg hy, bi_ok, if_pos rfl, cbad]
        · rw [mh]
          by_cases a : y < 0
          · rw [if_pos a, mbad]
          · rw [if_neg a, if_pos (ofN_in (by omega) (by omega)), if_neg (fun w => hy (by have := l4.1 w; have : ¬ (y.toInt < 0) := fun z => a (l3.2 z); omega)), mbad]
    · refine ag_x (w := some (.int 0)) ⟨_, rfl⟩ ?_ ?_
      · rw [ch, if_neg hk, cbad]
      · rw [mh, if_neg (fun w => hk ((hv.kk (k := 3) (by decide) (by decide)).2 w)), mbad]
  · refine ag_x (w := some (.int 0)) ⟨_, rfl⟩ ?_ ?_
    · rw [rc_14, kc_14_0, c_rs, bi_ok, c_in σ x 0 _ _ iff1, if_neg hx, bi_ok, if_pos rfl, cbad]
    · rw [rm_245, km_245_0]
      by_cases a : x < 0
      · rw [if_pos a, mbad]
      · rw [if_neg a, mr, bi_ok, if_pos (l2.2 (by have : ¬ (x.toInt < 0) := fun z => a (l1.2 z); omega)), mbad]
theorem q_output {σ τ : lj_S} (h : qsR σ τ ∨ ncR σ τ) (x : Int32) : ag 1 (fun _ => 1) (qK σ τ) (lj_R lc_P 15 [.ref 0, .int x] σ) (lj_R lm_P 247 [.ref 0, .int x] τ) := by
  have mbad : lj_D lm_P lm_M247 27 [.ref 0, .int x] [.ref 0] τ = some (.inl (some (.int 0)), lj_put τ 0 0 1) := by rw [km_247_27, km_247_32, if_neg (by decide), km_247_56]
  have l1 : (x < 0) ↔ x.toInt < 0 := lz_lt
  have l2 : (x < 3000) ↔ x.toInt < 3000 := lz_lt
  rcases h with ⟨h1, h2, ⟨n, hq⟩, _⟩ | ⟨h1, h2, _⟩
  · obtain ⟨o1, o2, o3⟩ := hq.2.2.2.1
    have o2 : 0 ≤ (σ.1 8 50).toInt := o2
    have hO : lj_R lc_P 6 [.ref 0] σ = some (.inl (some (.int (σ.1 8 50))), σ) := by rw [rc_6, kc_6_0, if_neg (by rw [h1]; decide), kc_6_18]
    have lO : (3000 < σ.1 8 50) ↔ (3000 : Int) < (σ.1 8 50).toInt := lz_lt
    obtain ⟨m, hm, hmv⟩ : ∃ m : Int32, lj_R lc_P 222 [.int (σ.1 8 50), .int 3000] σ = some (.inl (some (.int m)), σ) ∧ m.toInt = min (σ.1 8 50).toInt 3000 := by
      rw [rc_222, kc_222_0]
      by_cases a : 3000 < σ.1 8 50
      · rw [if_pos a, kc_222_10]
        refine ⟨_, rfl, ?_⟩
        show (3000 : Int) = _
        have := lO.1 a
        omega
      · rw [if_neg a, kc_222_10]
        refine ⟨_, rfl, ?_⟩
        have : ¬ ((3000 : Int) < (σ.1 8 50).toInt) := fun w => a (lO.2 w)
        omega
    have e1 : ((m - 1 : Int32).toInt64).toInt = m.toInt - 1 := by
      rw [lz_i64, lz_sub (by show _ ≤ m.toInt - 1 ∧ m.toInt - 1 < _; omega)]
      rfl
    have iff1 : ((0 : Int64).toInt ≤ x.toInt ∧ x.toInt ≤ ((m - 1 : Int32).toInt64).toInt) ↔ (0 ≤ x.toInt ∧ x.toInt < (σ.1 8 50).toInt ∧ x.toInt < 3000) := by
      rw [e1, hmv]
      show ((0 : Int) ≤ x.toInt ∧ _) ↔ _
      omega
    have l3 : (τ.1 0 150 ≤ x) ↔ (σ.1 8 50).toInt ≤ x.toInt := by rw [lz_le, ← o1]
    by_cases hx : 0 ≤ x.toInt ∧ x.toInt < (σ.1 8 50).toInt ∧ x.toInt < 3000
    · obtain ⟨q, q1, q2⟩ := nat_of (N := 3000) hx.1 hx.2.2 (by omega)
      have hin : lj_in x 3000 := by rw [q2]; exact ofN_in (by omega) (by omega)
      have hn : x.toNatClampNeg = q := by rw [q2, lz_onat (by omega)]
      have hv := o3 q q1 (by have := hx.2.1; rw [q2, lz_lit (by omega)] at this; exact this)
      refine ag_v (v := some (.int (σ.1 109 q &&& 255))) ⟨_, rfl⟩ ?_ ?_
      · rw [rc_15, kc_15_0, hO, bi_ok, hm, bi_ok, c_in σ x 0 _ _ iff1, if_pos hx, bi_ok, c_909, if_neg (by decide), bv_ok, if_pos hin, hn]
      · rw [rm_247, km_247_0, if_neg (by rw [h2]; decide), if_neg (fun w => by have := l1.1 w; omega), if_neg (fun w => by have := l3.1 w; omega), if_pos (l2.2 hx.2.2), km_247_32, if_pos (by decide), if_pos hin, km_247_56, hn, hv]
    · refine ag_x (w := some (.int 0)) ⟨_, rfl⟩ ?_ ?_
      · rw [rc_15, kc_15_0, hO, bi_ok, hm, bi_ok, c_in σ x 0 _ _ iff1, if_neg hx, bi_ok, c_909, if_pos rfl, bv_up]
        rfl
      · rw [rm_247, km_247_0, if_neg (by rw [h2]; decide)]
        by_cases a : x < 0
        · rw [if_pos a, mbad]
        · have a' : ¬ (x.toInt < 0) := fun z => a (l1.2 z)
          rw [if_neg a]
          by_cases b : τ.1 0 150 ≤ x
          · rw [if_pos b, mbad]
          · have b' : ¬ ((σ.1 8 50).toInt ≤ x.toInt) := fun z => b (l3.2 z)
            rw [if_neg b, if_neg (fun w => hx (by have := l2.1 w; omega)), mbad]
  · have hO : lj_R lc_P 6 [.ref 0] σ = some (.inl (some (.int 0)), σ) := by rw [rc_6, kc_6_0, if_pos h1, kc_6_18]
    refine ag_x (w := some (.int 0)) ⟨_, rfl⟩ ?_ ?_
    · rw [rc_15, kc_15_0, hO, bi_ok, rc_222, kc_222_0, if_neg (by decide), kc_222_10, bi_ok, c_in σ x 0 _ False (by
        show ((0 : Int) ≤ x.toInt ∧ x.toInt ≤ -1) ↔ False
        omega), if_neg id, bi_ok, c_909, if_pos rfl, bv_up]
      rfl
    · rw [rm_247, km_247_0, if_pos h2, mbad]
/-- how many of d from o on are so -/
def ctN (f : Nat → Bool) : Nat → Nat → Nat
  | 0, _ => 0
  | d + 1, o => (if f o = true then 1 else 0) + ctN f d (o + 1)
theorem ctN_le (f : Nat → Bool) : ∀ d o, ctN f d o ≤ d
  | 0, _ => Nat.le_refl _
  | d + 1, o => by unfold ctN; have := ctN_le f d (o + 1); split <;> omega
theorem ctN_cg {f g : Nat → Bool} : ∀ d o, (∀ i, o ≤ i → i < o + d → f i = g i) → ctN f d o = ctN g d o
  | 0, _, _ => rfl
  | d + 1, o, h => by unfold ctN; rw [h o (by omega) (by omega), ctN_cg d (o + 1) (fun i a b => h i (by omega) (by omega))]
theorem ctN_fl (f : Nat → Bool) : ∀ d o, ctN f d o = ((List.range' o d).filter f).length
  | 0, _ => rfl
  | d + 1, o => by
    unfold ctN
    rw [List.range'_succ, List.filter_cons, ctN_fl f d (o + 1)]
    by_cases z : f o = true
    · rw [if_pos z, if_pos z, List.length_cons]; omega
    · rw [if_neg z, if_neg z]; omega
theorem c_cnt {σ : lj_S} {n : Nat} (hn : n ≤ 2000) (h7 : σ.1 7 0 = Int32.ofNat n) (x1 : Int32) : ∀ (d o c : Nat), o + d = n + 1 → c ≤ o → lj_D lc_P lc_M16 25 [.ref 0, .int x1, .int (Int32.ofNat c), .int (Int32.ofNat o)] [] σ = lj_D lc_P lc_M16 25 [.ref 0, .int x1, .int (Int32.ofNat (c + ctN (fun i => decide (σ.1 57 i ≠ 0)) d o)), .int (Int32.ofNat (n + 1))] [] σ
  | 0, o, c, h, _ => by rw [show o = n + 1 by omega]; rfl
  | d + 1, o, c, h, hc => by
    have lt : ¬ (σ.1 7 0 < Int32.ofNat o) := by rw [h7, lz_lt, lz_lit (by omega), lz_lit (by omega)]; omega
    rw [kc_16_25, if_neg lt, if_pos (ofN_in (by omega) (by omega)), lz_onat (by omega)]
    unfold ctN
    by_cases z : σ.1 57 o = 0
    · rw [if_pos z, kc_16_54, lz_osucc, show Int32.ofNat c + 0 = Int32.ofNat c by rw [Int32.add_zero], c_cnt hn h7 x1 d (o + 1) c (by omega) (by omega), if_neg (by simp [z]), Nat.zero_add]
    · rw [if_neg z, kc_16_54, lz_osucc, lz_osucc, c_cnt hn h7 x1 d (o + 1) (c + 1) (by omega) (by omega), if_pos (by simp [z]), Nat.add_assoc]
theorem m_cnt {τ : lj_S} {n : Nat} (hn : n ≤ 2000) (h7 : τ.1 0 77 = Int32.ofNat n) (x1 : Int32) : ∀ (d o c : Nat), o + d = n + 1 → c ≤ o → lj_D lm_P lm_M249 4 [.ref 0, .int x1, .int (Int32.ofNat c), .int (Int32.ofNat o)] [] τ = some (.inl (some (.int (Int32.ofNat (c + ctN (fun i => decide (¬ τ.1 38 i ≤ 0 ∧ (x1 = 0 ∨ ¬ lg_cmp (τ.2 42 i) 0 ≤ 0))) d o)))), τ)
  | 0, o, c, h, _ => by
    have lt : τ.1 0 77 < Int32.ofNat o := by rw [h7, lz_lt, lz_lit (by omega), lz_lit (by omega)]; omega
    rw [km_249_4, if_pos lt]
    rfl
  | d + 1, o, c, h, hc => by
    have lt : ¬ (τ.1 0 77 < Int32.ofNat o) := by rw [h7, lz_lt, lz_lit (by omega), lz_lit (by omega)]; omega
    rw [km_249_4, if_neg lt, if_pos (ofN_in (by omega) (by omega)), lz_onat (by omega)]
    unfold ctN
    by_cases z : τ.1 38 o ≤ 0
    · rw [if_pos z, km_249_42, km_249_43, lz_osucc, m_cnt hn h7 x1 d (o + 1) c (by omega) (by omega), if_neg (by simp [z]), Nat.zero_add]
    · rw [if_neg z]
      by_cases y : x1 = 0
      · rw [if_pos y, km_249_36, km_249_43, lz_osucc, lz_osucc, m_cnt hn h7 x1 d (o + 1) (c + 1) (by omega) (by omega), if_pos (by simp [z, y]), Nat.add_assoc]
      · rw [if_neg y, if_pos (ofN_in (by omega) (by omega))]
        by_cases w : lg_cmp (τ.2 42 o) 0 ≤ 0
        · rw [if_pos w, km_249_42, km_249_43, lz_osucc, m_cnt hn h7 x1 d (o + 1) c (by omega) (by omega), if_neg (by simp [y, w]), Nat.zero_add]
        · rw [if_neg w, km_249_36, km_249_43, lz_osucc, lz_osucc, m_cnt hn h7 x1 d (o + 1) (c + 1) (by omega) (by omega), if_pos (by simp [z, w]), Nat.add_assoc]
theorem q_count {σ τ : lj_S} (h : qsR σ τ ∨ ncR σ τ) (x : Int32) : ag 1 (fun _ => 1) (qK σ τ) (lj_R lc_P 16 [.ref 0, .int x] σ) (lj_R lm_P 248 [.ref 0, .int x] τ) := by
  have iff1 : ((0 : Int64).toInt ≤ x.toInt ∧ x.toInt ≤ (5 : Int64).toInt) ↔ (0 ≤ x.toInt ∧ x.toInt ≤ 5) := Iff.rfl
  have l1 : (x < 0) ↔ x.toInt < 0 := lz_lt
  have l2 : (x ≤ 5) ↔ x.toInt ≤ 5 := lz_le
  by_cases hx : 0 ≤ x.toInt ∧ x.toInt ≤ 5
  · have ch : lj_R lc_P 16 [.ref 0, .int x] σ = (if (σ.1 0 9) = 0 then some (.inl (some (.int 0)), σ) else lj_D lc_P lc_M16 25 [.ref 0, .int x, .int 0, .int 1] [] σ) := by
      rw [rc_16, kc_16_0, c_in σ x 0 5 _ iff1, if_pos hx, bi_ok, c_909, if_neg (by decide), bv_ok]
    have mh := rm_248 x τ
    rw [km_248_0, if_neg (fun w => by have := l1.1 w; omega), if_pos (l2.2 hx.2), km_248_15, if_neg (by decide)] at mh
    rcases h with ⟨h1, h2, ⟨n, hq⟩, _⟩ | ⟨h1, h2, _⟩
    · rw [if_neg (by rw [h1]; decide)] at ch
      rw [if_neg (by rw [h2]; decide)] at mh
      obtain ⟨q1, ⟨n2, n3, n4, P, B, Fr, P', B', Fr', k1, k2, k3, k4⟩, q3, q4, ⟨q5, MO, m1, m2, m3, m4⟩, q6, q7⟩ := hq
      have h7 : σ.1 7 0 = Int32.ofNat n := lz_ext (by rw [lz_lit (by omega)]; exact n3)
      have h77 : τ.1 0 77 = Int32.ofNat n := lz_ext (by rw [lz_lit (by omega)]; exact n4)
      have h77' : (lj_put τ 0 0 0).1 0 77 = Int32.ofNat n := by rw [lj_put_1, if_neg (by omega)]; exact h77
      have cc := c_cnt n2 h7 x n 1 0 (by omega) (by omega)
      rw [Nat.zero_add] at cc
      have lt : σ.1 7 0 < Int32.ofNat (n + 1) := by rw [h7, lz_lt, lz_lit (by omega), lz_lit (by omega)]; omega
      rw [show (0 : Int32) = Int32.ofNat 0 from rfl, show (1 : Int32) = Int32.ofNat 1 from rfl, cc, kc_16_25, if_pos lt] at ch
      simp only [kc_16_147] at ch
      have kk : ∀ i, 1 ≤ i → i ≤ n → ((σ.1 57 i ≠ 0) ↔ ¬ τ.1 38 i ≤ 0) := fun i a b => by
        obtain ⟨e, w⟩ := (q3.2 i a b).1
        rw [← e]
        rcases w with w | w | w | w <;> rw [w] <;> decide
      by_cases a0 : x = 0
      · rw [if_pos a0] at ch mh
        exact ag_v ⟨_, rfl⟩ ch (by rw [mh, h7, h77])
      rw [if_neg a0] at ch mh
      by_cases a1 : x = 1
      · rw [if_pos a1] at ch mh
        refine ag_v ⟨_, rfl⟩ ch ?_
        have mm := m_cnt n2 h77' 0 n 1 0 (by omega) (by omega)
        rw [mh, rm_249, km_249_0, show (0 : Int32) = Int32.ofNat 0 from rfl, show (1 : Int32) = Int32.ofNat 1 from rfl] 
        rw [show lj_D lm_P lm_M249 4 [.ref 0, .int (Int32.ofNat 0), .int (Int32.ofNat 0), .int (Int32.ofNat 1)] [] (lj_put τ 0 0 (Int32.ofNat 0)) = _ from mm, bi_ok, Nat.zero_add]
        congr 6
        refine ctN_cg n 1 (fun i a b => ?_)
        rw [decide_eq_decide, lj_put_1, if_neg (by omega)]
        exact ⟨fun w => (kk i a (by omega)).2 w.1, fun w => ⟨(kk i a (by omega)).1 w, Or.inl rfl⟩⟩
      rw [if_neg a1] at ch mh
      by_cases a2 : x = 2
      · rw [if_pos a2] at ch mh
        refine ag_v ⟨_, rfl⟩ ch ?_
        rw [mh]
        have : σ.1 7 11 = τ.1 0 89 := lz_ext (by
          have w1 : (σ.1 7 11).toInt + (Fr.length : Int) = 3000 := k1.2.1.2.1
          have w2 : (τ.1 0 89).toInt + (Fr'.length : Int) = 3000 := k2.2.2.2.1
          have w3 := k3.1
          omega)
        rw [this]
      rw [if_neg a2] at ch mh
      by_cases a3 : x = 3
      · rw [if_pos a3] at ch mh
        refine ag_v ⟨_, rfl⟩ ch ?_
        rw [mh]
        have : σ.1 3 13 = τ.1 0 17 := lz_ext q1.2.1.1
        rw [this]
      rw [if_neg a3] at ch mh
      by_cases a4 : x = 4
      · rw [if_pos a4] at ch mh
        exact ag_v ⟨_, rfl⟩ ch (by rw [mh, q5])
      rw [if_neg a4] at ch mh
      refine ag_v ⟨_, rfl⟩ ch ?_
      have mm := m_cnt n2 h77' 1 n 1 0 (by omega) (by omega)
      rw [mh, rm_249, km_249_0, show (0 : Int32) = Int32.ofNat 0 from rfl, show (1 : Int32) = Int32.ofNat 1 from rfl]
      rw [show lj_D lm_P lm_M249 4 [.ref 0, .int (Int32.ofNat 1), .int (Int32.ofNat 0), .int (Int32.ofNat 1)] [] (lj_put τ 0 0 (Int32.ofNat 0)) = _ from mm, bi_ok, Nat.zero_add, ctN_fl]
      have len : ((List.range' 1 n).filter (fun i => decide (¬ (lj_put τ 0 0 0).1 38 i ≤ 0 ∧ ((1 : Int32) = 0 ∨ ¬ lg_cmp ((lj_put τ 0 0 0).2 42 i) 0 ≤ 0)))).length = MO.length := by
        have mem : ∀ i, i ∈ (List.range' 1 n).filter (fun i => decide (¬ (lj_put τ 0 0 0).1 38 i ≤ 0 ∧ ((1 : Int32) = 0 ∨ ¬ lg_cmp ((lj_put τ 0 0 0).2 42 i) 0 ≤ 0))) ↔ i ∈ MO := by
          intro i
          rw [List.mem_filter, List.mem_range'_1, decide_eq_true_eq, lj_put_1, if_neg (by omega)]
          have e42 : (lj_put τ 0 0 0).2 42 i = τ.2 42 i := rfl
          rw [e42]
          constructor
          · rintro ⟨⟨i1, i2⟩, i3, i4⟩
            have i4 : ¬ lg_cmp (τ.2 42 i) 0 ≤ 0 := i4.resolve_left (by decide)
            have nz : τ.2 42 i ≠ 0 := fun w => i4 ((lg_le _ _).2 (by rw [w]; decide))
            by_cases k4 : σ.1 57 i = 4
            · exact ((m4 i i1 (by omega)).1 k4).2 nz
            · exact absurd ((m4 i i1 (by omega)).2 k4) nz
          · intro hi
            obtain ⟨w1, w2⟩ := m3 i hi
            have in2 : i ≤ n := by have := w1.2.2.1; rw [n3] at this; omega
            refine ⟨⟨w1.1, (by omega)⟩, by rw [w1.2.2.2.2]; decide, Or.inr (fun w => ?_)⟩
            have := (lg_le _ _).1 w
            rw [Int64.le_iff_toInt_le] at this
            rw [Int64.lt_iff_toInt_lt] at w2
            omega
        have d1 := sub_len _ _ (List.Nodup.filter _ (List.nodup_range' (step := 1))) (fun i hi => (mem i).1 hi)
        have d2 := sub_len _ _ m2 (fun i hi => (mem i).2 hi)
        omega
      have e53 : σ.1 8 53 = Int32.ofNat MO.length := lz_ext (by
        have : MO.length ≤ 2000 := by
          have := sub_len MO (List.range' 1 n) m2 (fun i hi => by
            rw [List.mem_range'_1]
            obtain ⟨w1, _⟩ := m3 i hi
            have := w1.2.2.1
            rw [n3] at this
            have := w1.1
            omega)
          rw [List.length_range'] at this
          omega
        rw [lz_lit (by omega)]
        exact m1)
      rw [e53]
      exact congrArg (fun k => some (Sum.inl (some (Value.int (Int32.ofNat k))), lj_put τ 0 0 0)) len
    · rw [if_pos h1] at ch
      rw [if_pos h2, km_248_32] at mh
      exact ag_v ⟨_, rfl⟩ ch mh
  · refine ag_x (w := some (.int 0)) ⟨_, rfl⟩ ?_ ?_
    · rw [rc_16, kc_16_0, c_in σ x 0 5 _ iff1, if_neg hx, bi_ok, c_909, if_pos rfl, bv_up]
      rfl
    · rw [rm_248, km_248_0]
      by_cases a : x < 0
      · rw [if_pos a, km_248_10, km_248_15, if_pos (by decide), km_248_32]
      · rw [if_neg a, if_neg (fun w => hx (by have := l2.1 w; have : ¬ (x.toInt < 0) := fun z => a (l1.2 z); omega)), km_248_10, km_248_15, if_pos (by decide), km_248_32]
