/-! the gathering: the model's new last acts -/
/-- what the model may choose -/
def cdN (n : Nat) (τ : lj_S) (C : List Nat) : Prop := (∀ t ∈ C, 1 ≤ t ∧ t ≤ n) ∧ ∀ t, 1 ≤ t → t ≤ n → ((τ.1 38 t = 4 ∧ 0 < τ.2 42 t ∧ τ.1 96 t = 0) ↔ t ∈ C)
/-- the greatest of what may be chosen below i -/
def mxN (τ : lj_S) (C : List Nat) (i b : Nat) : Prop := (b = 0 ∧ ∀ u ∈ C, ¬ u < i) ∨ (b ∈ C ∧ b < i ∧ ∀ u ∈ C, u < i → τ.2 42 u ≤ τ.2 42 b)
theorem m_max {n : Nat} (hn : n ≤ 2000) {τ : lj_S} (h77 : τ.1 0 77 = Int32.ofNat n) {C : List Nat} (hC : cdN n τ C) (x1 x2 : Int32) : ∀ (d i b : Nat), i + d = n + 1 → 1 ≤ i → mxN τ C i b → ∃ (b' : Nat) (y4 : Int32), lj_D lm_P lm_M218 16 [.ref 0, .int x1, .int x2, .int (Int32.ofNat b), .int (Int32.ofNat i), .retAddr 0] [] τ = lj_D lm_P lm_M218 97 [.ref 0, .int x1, .int x2, .int (Int32.ofNat b'), .int y4, .retAddr 0] [.int (if b' = 0 then 0 else 1)] τ ∧ mxN τ C (n + 1) b'
  | 0, i, b, hd, hi, hb => by
    have b20 : b ≤ 2000 := by
      rcases hb with w | w
      · omega
      · have := (hC.1 b w.1).2
        omega
    have ein : i = n + 1 := by omega
    subst ein
    refine ⟨b, Int32.ofNat (n + 1), ?_, hb⟩
    rw [km_218_16, h77, if_pos (by rw [lz_lt, lz_lit (by omega), lz_lit (by omega)]; omega)]
    by_cases z : b = 0
    · rw [if_pos z, if_pos (by rw [z]; decide)]
    · rw [if_neg z, if_neg (by rw [lz_le, lz_lit (by omega)]; show ¬ ((b : Int) ≤ 0); omega)]
  | d + 1, i, b, hd, hi, hb => by
    have b20 : b ≤ 2000 := by
      rcases hb with w | w
      · omega
      · have := (hC.1 b w.1).2
        omega
    have ii : lj_in (Int32.ofNat i) 2002 := ofN_in (by omega) (by omega)
    have ni : (Int32.ofNat i).toNatClampNeg = i := lz_onat (by omega)
    have ib : lj_in (Int32.ofNat b) 2002 := ofN_in (by omega) (by omega)
    have nb : (Int32.ofNat b).toNatClampNeg = b := lz_onat (by omega)
    have hm := hC.2 i hi (by omega)
    have key : ∃ b1 : Nat, mxN τ C (i + 1) b1 ∧ lj_D lm_P lm_M218 16 [.ref 0, .int x1, .int x2, .int (Int32.ofNat b), .int (Int32.ofNat i), .retAddr 0] [] τ = lj_D lm_P lm_M218 82 [.ref 0, .int x1, .int x2, .int (Int32.ofNat b1), .int (Int32.ofNat i), .retAddr 0] [] τ := by
      rw [km_218_16, h77, if_neg (by rw [lz_lt, lz_lit (by omega), lz_lit (by omega)]; omega)]
      (try simp only [if_pos ii, ni, if_pos ib, nb])
      by_cases mem : i ∈ C
      · obtain ⟨w1, w2, w3⟩ := hm.2 mem
        rw [if_pos w1, if_neg (fun q => Int64.not_le.2 w2 ((lg_le _ _).1 q)), if_pos w3]
        by_cases z : b = 0
        · refine ⟨i, Or.inr ⟨mem, by omega, fun u hu hu2 => ?_⟩, ?_⟩
          · rcases hb with y | y
            · have := y.2 u hu
              have : u = i := by omega
              rw [this]
              exact Int64.le_refl _
            · have := (hC.1 b y.1).1
              omega
          · rw [if_pos (by rw [z]; rfl), km_218_79]
        · rw [if_neg (show ¬ (Int32.ofNat b = 0) from fun q => z ((ofN_eq (c := 0) (by omega) (by omega)).1 q))]
          have y : b ∈ C ∧ b < i ∧ ∀ u ∈ C, u < i → τ.2 42 u ≤ τ.2 42 b := by
            rcases hb with y | y
            · exact absurd y.1 z
            · exact y
          by_cases c : τ.2 42 i ≤ τ.2 42 b
          · refine ⟨b, Or.inr ⟨y.1, by omega, fun u hu hu2 => ?_⟩, ?_⟩
            · by_cases e : u = i
              · rw [e]
                exact c
              · exact y.2.2 u hu (by omega)
            · rw [if_pos ((lg_le _ _).2 c)]
          · refine ⟨i, Or.inr ⟨mem, by omega, fun u hu hu2 => ?_⟩, ?_⟩
            · by_cases e : u = i
              · rw [e]
                exact Int64.le_refl _
              · exact Int64.le_trans (y.2.2 u hu (by omega)) (Int64.le_of_lt (Int64.not_le.1 c))
            · rw [if_neg (fun q => c ((lg_le _ _).1 q)), km_218_79]
      · refine ⟨b, ?_, ?_⟩
        · rcases hb with y | y
          · exact Or.inl ⟨y.1, fun u hu hu2 => by
              by_cases e : u = i
              · exact mem (by rw [← e]; exact hu)
              · exact y.2 u hu (by omega)⟩
          · exact Or.inr ⟨y.1, by omega, fun u hu hu2 => by
              by_cases e : u = i
              · exact absurd (by rw [← e]; exact hu) mem
              · exact y.2.2 u hu (by omega)⟩
        · by_cases w1 : τ.1 38 i = 4
          · rw [if_pos w1]
            by_cases w2 : τ.2 42 i ≤ 0
            · rw [if_pos ((lg_le _ _).2 w2)]
            · rw [if_neg (fun q => w2 ((lg_le _ _).1 q)), if_neg (fun q => mem (hm.1 ⟨w1, Int64.not_le.1 w2, q⟩))]
          · rw [if_neg w1]
    obtain ⟨b1, k1, k2⟩ := key
    obtain ⟨b', y4, r1, r2⟩ := m_max hn h77 hC x1 x2 d (i + 1) b1 (by omega) (by omega) k1
    exact ⟨b', y4, by rw [k2, km_218_82, lz_osucc]; exact r1, r2⟩
/-- one behind the other, the latest first -/
theorem m_pick {n : Nat} (hn : n ≤ 2000) (x1 : Int32) : ∀ (R : List Nat) (k : Nat) (τ : lj_S) (x3 x4 : Value), τ.1 0 77 = Int32.ofNat n → cdN n τ R → R.Nodup → R.Pairwise (fun a b => τ.2 42 b < τ.2 42 a) → τ.1 0 152 = Int32.ofNat k → k + R.length ≤ 4003 → ∃ τ' : lj_S, lj_D lm_P lm_M218 7 [.ref 0, .int x1, .int 1, x3, x4, .retAddr 0] [] τ = lj_D lm_P lm_M218 142 [.ref 0, .int x1, .int 0, .int x1, .int (Int32.ofNat (k + R.length) - 1), .retAddr 0] [] τ' ∧ τ'.1 0 152 = Int32.ofNat (k + R.length) ∧ (∀ i, i < R.length → τ'.1 95 (k + i) = Int32.ofNat (R.getD i 0)) ∧ (∀ u, τ'.2 42 u = if u ∈ R then 0 else τ.2 42 u) ∧ (∀ a j, a ≠ 95 → ¬ (a = 0 ∧ j = 152) → τ'.1 a j = τ.1 a j) ∧ (∀ j, j < k → τ'.1 95 j = τ.1 95 j) ∧ (∀ a j, a ≠ 42 → τ'.2 a j = τ.2 a j)
  | [], k, τ, x3, x4, h77, hC, nd, pw, h152, hk => by
    obtain ⟨b', y4, r1, r2⟩ := m_max hn h77 hC x1 1 n 1 0 (by omega) (by omega) (Or.inl ⟨rfl, fun u hu => by cases hu⟩)
    have b0 : b' = 0 := by
      rcases r2 with w | w
      · exact w.1
      · cases w.1
    refine ⟨τ, ?_, h152, fun i hi => absurd hi (Nat.not_lt_zero _), fun u => by rw [if_neg (fun q => by cases q)], fun _ _ _ _ => rfl, fun _ _ => rfl, fun _ _ _ => rfl⟩
    rw [km_218_7, if_neg (by decide)]
    refine Eq.trans r1 ?_
    rw [if_pos b0, km_218_97, if_pos rfl, km_218_129, km_218_7, if_pos rfl, h152]
    rfl
  | a :: R, k, τ, x3, x4, h77, hC, nd, pw, h152, hk => by
    have hk : k + (R.length + 1) ≤ 4003 := hk
    obtain ⟨b', y4, r1, r2⟩ := m_max hn h77 hC x1 1 n 1 0 (by omega) (by omega) (Or.inl ⟨rfl, fun u hu q => by
      have := (hC.1 u hu).1
      omega⟩)
    have pa := List.pairwise_cons.1 pw
    have na := List.nodup_cons.1 nd
    have ha := hC.1 a List.mem_cons_self
    have eb : b' = a := by
      rcases r2 with w | w
      · exact absurd (by omega) (w.2 a List.mem_cons_self)
      · rcases List.mem_cons.1 w.1 with e | e
        · exact e
        · exact absurd (pa.1 b' e) (Int64.not_lt.2 (w.2.2 a List.mem_cons_self (by omega)))
    rw [eb, if_neg (by omega)] at r1
    have ia : lj_in (Int32.ofNat a) 2002 := ofN_in (by omega) (by omega)
    have na' : (Int32.ofNat a).toNatClampNeg = a := lz_onat (by omega)
    have ik : lj_in (Int32.ofNat k) 4004 := ofN_in (by omega) (by omega)
    have nk : (Int32.ofNat k).toNatClampNeg = k := lz_onat (by omega)
    obtain ⟨τ1, hτ1⟩ : ∃ τ1, τ1 = lj_put (lj_put (lj_putL τ 42 a 0) 95 k (Int32.ofNat a)) 0 152 (Int32.ofNat k + 1) := ⟨_, rfl⟩
    have e42 : ∀ u, τ1.2 42 u = if u = a then 0 else τ.2 42 u := fun u => by
      rw [hτ1, lj_put_2, lj_put_2, lj_putL_2]
      by_cases e : u = a
      · rw [if_pos ⟨rfl, e⟩, if_pos e]
      · rw [if_neg (fun q => e q.2), if_neg e]
    have e1 : ∀ c j, c ≠ 95 → ¬ (c = 0 ∧ j = 152) → τ1.1 c j = τ.1 c j := fun c j z1 z2 => by
      rw [hτ1, lj_put_1, if_neg z2, lj_put_1, if_neg (fun q => z1 q.1), lj_putL_1]
    obtain ⟨τ', s1, s2, s3, s4, s5, s6, s7⟩ := m_pick hn x1 R (k + 1) τ1 (.int (Int32.ofNat a)) (.int y4) (by rw [e1 0 77 (by decide) (by decide)]; exact h77) ⟨fun t ht => hC.1 t (List.mem_cons_of_mem _ ht), fun t t1 t2 => by
      rw [e1 38 t (by decide) (by omega), e1 96 t (by decide) (by omega), e42]
      have w := hC.2 t t1 t2
      by_cases e : t = a
      · rw [if_pos e]
        exact ⟨fun q => absurd q.2.1 (by decide), fun q => absurd (by rw [← e]; exact q) na.1⟩
      · rw [if_neg e, w, List.mem_cons]
        exact ⟨fun q => q.resolve_left e, Or.inr⟩⟩ na.2 (List.Pairwise.imp_of_mem (fun {x y} hx hy q => by
      rw [e42, e42, if_neg (fun e => na.1 (by rw [← e]; exact hy)), if_neg (fun e => na.1 (by rw [← e]; exact hx))]
      exact q) pa.2) (by rw [hτ1, lj_put_1, if_pos ⟨rfl, rfl⟩, lz_osucc]) (by omega)
    have el : k + 1 + R.length = k + (a :: R).length := by rw [List.length_cons]; omega
    refine ⟨τ', ?_, by rw [s2, el], fun i hi => ?_, fun u => ?_, fun c j z1 z2 => by rw [s5 c j z1 z2, e1 c j z1 z2], fun j hj => ?_, fun c j z => by rw [s7 c j z, hτ1, lj_put_2, lj_put_2, lj_putL_2, if_neg (fun q => z q.1)]⟩
    · rw [km_218_7, if_neg (by decide)]
      refine Eq.trans r1 ?_
      rw [km_218_97, if_neg (by decide), if_pos ia, h152]
      (try simp only [if_pos ik, nk, na'])
      rw [km_218_129, ← hτ1, ← el]
      exact s1
    · cases i with
      | zero =>
        rw [Nat.add_zero, s6 k (by omega), hτ1, lj_put_1, if_neg (by omega), lj_put_1, if_pos ⟨rfl, rfl⟩]
        rfl
      | succ i =>
        have := s3 i (by have hi : i + 1 < R.length + 1 := hi; omega)
        rw [show k + (i + 1) = k + 1 + i by omega, this]
        rfl
    · rw [s4, e42]
      by_cases m : u ∈ R
      · rw [if_pos m, if_pos (List.mem_cons_of_mem _ m)]
      · rw [if_neg m]
        by_cases e : u = a
        · rw [if_pos e, if_pos (by rw [e]; exact List.mem_cons_self)]
        · rw [if_neg e, if_neg (fun q => by rcases List.mem_cons.1 q with q | q; exact e q; exact m q)]
    · rw [s6 j (by omega), hτ1, lj_put_1, if_neg (by omega), lj_put_1, if_neg (by omega), lj_putL_1]
theorem opred (s : Nat) : Int32.ofNat (s + 1) - 1 = Int32.ofNat s := by rw [← lz_osucc, Int32.add_sub_cancel]
/-- a row is turned round -/
theorem m_turn (x1 x2 : Int32) : ∀ (m a : Nat) (τ : lj_S) (X5 : Value), a + m ≤ 4003 → ∃ (τ' : lj_S) (y4 : Int32) (Y5 : Value), lj_D lm_P lm_M218 142 [.ref 0, .int x1, .int x2, .int (Int32.ofNat a), .int (Int32.ofNat (a + m) - 1), X5] [] τ = lj_D lm_P lm_M218 189 [.ref 0, .int x1, .int x2, .int x1, .int y4, Y5] [] τ' ∧ (∀ i, i < m → τ'.1 95 (a + i) = τ.1 95 (a + m - 1 - i)) ∧ (∀ k j, ¬ (k = 95 ∧ a ≤ j ∧ j < a + m) → τ'.1 k j = τ.1 k j) ∧ τ'.2 = τ.2
  | 0, a, τ, X5, h => by
    refine ⟨τ, Int32.ofNat (a + 0) - 1, X5, ?_, fun i hi => absurd hi (Nat.not_lt_zero _), fun _ _ _ => rfl, rfl⟩
    rw [km_218_142, if_pos]
    cases a with
    | zero => decide
    | succ a =>
      rw [Nat.add_zero, opred]
      exact (ofN_le (by omega) (by omega)).2 (by omega)
  | 1, a, τ, X5, h => by
    refine ⟨τ, Int32.ofNat (a + 1) - 1, X5, ?_, fun i hi => ?_, fun _ _ _ => rfl, rfl⟩
    · rw [km_218_142, if_pos]
      rw [opred]
      exact (ofN_le (by omega) (by omega)).2 (by omega)
    · have : i = 0 := by omega
      rw [this]
      rfl
  | m + 2, a, τ, X5, h => by
    have ia : lj_in (Int32.ofNat a) 4004 := ofN_in (by omega) (by omega)
    have na : (Int32.ofNat a).toNatClampNeg = a := lz_onat (by omega)
    have ib : lj_in (Int32.ofNat (a + m + 1)) 4004 := ofN_in (by omega) (by omega)
    have nb : (Int32.ofNat (a + m + 1)).toNatClampNeg = a + m + 1 := lz_onat (by omega)
    obtain ⟨τ1, hτ1⟩ : ∃ τ1, τ1 = lj_put (lj_put τ 95 a (τ.1 95 (a + m + 1))) 95 (a + m + 1) (τ.1 95 a) := ⟨_, rfl⟩
    obtain ⟨τ', y4, Y5, r1, r2, r3, r4⟩ := m_turn x1 x2 m (a + 1) τ1 (.int (τ.1 95 a)) (by omega)
    refine ⟨τ', y4, Y5, ?_, fun i hi => ?_, fun k j z => ?_, by rw [r4, hτ1]; rfl⟩
    · have e : Int32.ofNat (a + (m + 2)) - 1 = Int32.ofNat (a + m + 1) := opred _
      have e2 : Int32.ofNat (a + m + 1) + (-1) = Int32.ofNat (a + 1 + m) - 1 := by
        rw [show a + m + 1 = a + 1 + m by omega, Int32.sub_eq_add_neg]
      rw [e, km_218_142, if_neg (fun q => by have := (ofN_le (by omega) (by omega)).1 q; omega)]
      (try simp only [if_pos ia, if_pos ib, na, nb])
      rw [lz_osucc, e2, ← hτ1]
      exact r1
    · by_cases e0 : i = 0
      · rw [e0, Nat.add_zero, r3 95 a (by omega), hτ1, lj_put_1, if_neg (by omega), lj_put_1, if_pos ⟨rfl, rfl⟩]
        rfl
      · by_cases e1 : i = m + 1
        · rw [e1, r3 95 (a + (m + 1)) (by omega), hτ1, lj_put_1, if_pos ⟨rfl, by omega⟩]
          rw [show a + (m + 2) - 1 - (m + 1) = a by omega]
        · have := r2 (i - 1) (by omega)
          rw [show a + 1 + (i - 1) = a + i by omega] at this
          rw [this, show a + 1 + m - 1 - (i - 1) = a + (m + 2) - 1 - i by omega, hτ1, lj_put_1, if_neg (by omega), lj_put_1, if_neg (by omega)]
    · rw [r3 k j (by omega), hτ1, lj_put_1, if_neg (by omega), lj_put_1, if_neg (by omega)]
/-- the model's new last acts, in their order -/
theorem m_acts {n : Nat} (hn : n ≤ 2000) {τ : lj_S} (h77 : τ.1 0 77 = Int32.ofNat n) {N : List Nat} (hC : cdN n τ N) (nd : N.Nodup) (pw : N.Pairwise (fun a b => τ.2 42 a < τ.2 42 b)) {k : Nat} (h152 : τ.1 0 152 = Int32.ofNat k) (hk : k + N.length ≤ 4003) : ∃ (τ' : lj_S) (y4 : Int32) (Y5 : Value), lj_R lm_P 218 [.ref 0] τ = lj_D lm_P lm_M218 189 [.ref 0, .int (Int32.ofNat k), .int 0, .int (Int32.ofNat k), .int y4, Y5] [] τ' ∧ τ'.1 0 152 = Int32.ofNat (k + N.length) ∧ (∀ i, i < N.length → τ'.1 95 (k + i) = Int32.ofNat (N.getD i 0)) ∧ (∀ u, τ'.2 42 u = if u ∈ N then 0 else τ.2 42 u) ∧ (∀ a j, a ≠ 95 → ¬ (a = 0 ∧ j = 152) → τ'.1 a j = τ.1 a j) ∧ (∀ j, j < k → τ'.1 95 j = τ.1 95 j) ∧ (∀ a j, a ≠ 42 → τ'.2 a j = τ.2 a j) := by
  have lr : N.reverse.length = N.length := List.length_reverse
  obtain ⟨τ1, a1, a2, a3, a4, a5, a6, a7⟩ := m_pick hn (Int32.ofNat k) N.reverse k τ (.retAddr 0) (.retAddr 0) h77 ⟨fun t ht => hC.1 t (List.mem_reverse.1 ht), fun t t1 t2 => by rw [List.mem_reverse]; exact hC.2 t t1 t2⟩ (List.pairwise_reverse.2 (List.Pairwise.imp (fun {a b} e => Ne.symm e) nd)) (List.pairwise_reverse.2 pw) h152 (by rw [lr]; exact hk)
  rw [lr] at a1 a2 a3
  obtain ⟨τ', y4, Y5, b1, b2, b3, b4⟩ := m_turn (Int32.ofNat k) 0 N.length k τ1 (.retAddr 0) hk
  refine ⟨τ', y4, Y5, ?_, by rw [b3 0 152 (by omega)]; exact a2, fun i hi => ?_, fun u => ?_, fun a j z1 z2 => by rw [b3 a j (by omega), a5 a j z1 z2], fun j hj => by rw [b3 95 j (by omega), a6 j hj], fun a j z => by rw [b4, a7 a j z]⟩
  · rw [rm_218, km_218_0, h152, a1, b1]
  · rw [b2 i hi, show k + N.length - 1 - i = k + (N.length - 1 - i) by omega, a3 _ (by omega), List.getD_eq_getElem?_getD, List.getD_eq_getElem?_getD, List.getElem?_reverse (by omega), show N.length - 1 - (N.length - 1 - i) = i by omega]
  · rw [b4, a4]
    by_cases m : u ∈ N
    · rw [if_pos m, if_pos (List.mem_reverse.2 m)]
    · rw [if_neg m, if_neg (fun q => m (List.mem_reverse.1 q))]
