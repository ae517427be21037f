theorem fdM00 (τ : lj_S) (y : Int32) : (fdM (lj_put τ 0 0 y) (0, 0)).1 0 0 = y := by rw [fdM_1, if_neg (by omega), put00]
theorem q_object {σ τ : lj_S} (h : qsR σ τ ∨ ncR σ τ) (x y : Int32) : ag 1 (fun _ => 1) (qK σ τ) (lj_R lc_P 17 [.ref 0, .int x, .int y] σ) (lj_R lm_P 250 [.ref 0, .int x, .int y] τ) := by
  have cbad : lj_D lc_P lc_M17 38 [.ref 0, .int x, .int y, .retAddr 0] [] σ = some (.inr 2001, σ) := by rw [kc_17_38, kc_17_39, c_909, if_pos rfl, bv_up]; rfl
  have mbad : lj_D lm_P lm_M250 30 [.ref 0, .int x, .int y] [.ref 0] τ = some (.inl (some (.int 0)), lj_put τ 0 0 1) := by rw [km_250_30, km_250_35, if_pos (by decide), km_250_54]
  rcases h with ⟨h1, h2, ⟨n, hq⟩, _⟩ | ⟨h1, h2, _⟩
  · have m3 : ¬ (τ.1 0 3 = 0) := by rw [h2]; decide
    obtain ⟨n2, n3, n4, _⟩ := hq.2.1
    have n3 : (σ.1 7 0).toInt = (n : Int) := n3
    have n4 : (τ.1 0 77).toInt = (n : Int) := n4
    have iff1 : ((1 : Int64).toInt ≤ x.toInt ∧ x.toInt ≤ ((σ.1 7 0 : Int32).toInt64).toInt) ↔ (1 ≤ x.toInt ∧ x.toInt ≤ (n : Int)) := by
      rw [lz_i64, n3]
      exact Iff.rfl
    have iff2 : ((0 : Int64).toInt ≤ y.toInt ∧ y.toInt ≤ (1 : Int64).toInt) ↔ (0 ≤ y.toInt ∧ y.toInt ≤ 1) := Iff.rfl
    have l1 : (x < 1) ↔ x.toInt < 1 := lz_lt
    have l2 : (τ.1 0 77 < x) ↔ (n : Int) < x.toInt := by rw [lz_lt, n4]
    have l3 : (y < 0) ↔ y.toInt < 0 := lz_lt
    have l4 : (y ≤ 1) ↔ y.toInt ≤ 1 := lz_le
    by_cases hx : 1 ≤ x.toInt ∧ x.toInt ≤ (n : Int)
    · by_cases hy : 0 ≤ y.toInt ∧ y.toInt ≤ 1
      · obtain ⟨o, o1, o2⟩ := nat_of (N := n + 1) (x := x) (by omega) (by omega) (by omega)
        have o3 : 1 ≤ o := by have := hx.1; rw [o2, lz_lit (by omega)] at this; omega
        have hin : lj_in x 2001 := by rw [o2]; exact ofN_in (by omega) (by omega)
        have hin' : lj_in x 2002 := by rw [o2]; exact ofN_in (by omega) (by omega)
        have hn : x.toNatClampNeg = o := by rw [o2, lz_onat (by omega)]
        obtain ⟨⟨k1, k2⟩, k3, k4, k5⟩ := hq.2.2.1.2 o o3 (by omega)
        have ch : lj_R lc_P 17 [.ref 0, .int x, .int y] σ = (if y = 0 then some (.inl (some (.int (σ.1 57 o))), σ) else (if (σ.1 57 o) = 0 then some (.inl (some (.int (σ.1 57 o))), σ) else (if (σ.1 57 o) = 4 then lj_bl (lj_R lc_P 119 [.ref 7, .int x] σ) (fun y3 σ2 => some (.inl (some (.int ((y3 : Int64).toInt32))), σ2)) lj_up else (if (σ.1 57 o) = 5 then some (.inl (some (.int (σ.1 62 o))), σ) else (if lj_in (σ.1 64 o) 26 then some (.inl (some (.int ((σ.1 83 ((σ.1 64 o).toNatClampNeg))))), σ) else none))))) := by
          rw [rc_17, kc_17_0, if_neg (by rw [h1]; decide), c_in σ x 1 _ _ iff1, if_pos hx, bi_ok, if_neg (by decide), c_in σ y 0 1 _ iff2, if_pos hy, bi_ok, if_neg (by decide), kc_17_39, c_909, if_neg (by decide), bv_ok, if_pos hin, hn]
          simp only [kc_17_60, kc_17_129, if_pos hin]
        have mh : lj_R lm_P 250 [.ref 0, .int x, .int y] τ = (if (τ.1 38 o) = 0 then some (.inl (some (.int 0)), lj_put τ 0 0 0) else (if y = 0 then some (.inl (some (.int (τ.1 38 o))), lj_put τ 0 0 0) else (if (τ.1 38 o) = 4 then lj_bl (lj_R lm_P 166 [.ref 0, .int x] (lj_put τ 0 0 0)) (fun y2 σ1 => some (.inl (some (.int ((y2 : Int64).toInt32))), σ1)) lj_up else (if (τ.1 38 o) = 5 then some (.inl (some (.int (τ.1 43 o))), lj_put τ 0 0 0) else (if lj_in (τ.1 43 o) 26 then some (.inl (some (.int ((τ.1 58 ((τ.1 43 o).toNatClampNeg))))), lj_put τ 0 0 0) else none))))) := by
          rw [rm_250, km_250_0, if_neg m3, if_neg (fun w => by have := l1.1 w; omega), if_neg (fun w => by have := l2.1 w; omega), if_neg (fun w => by have := l3.1 w; omega), if_pos (l4.2 hy.2), km_250_35, if_neg (by decide), if_pos hin', hn]
          simp only [km_250_54, km_250_116, if_pos hin']
        rw [← k1] at mh
        by_cases a : σ.1 57 o = 0
        · rw [if_pos a] at mh
          refine ag_v ⟨_, rfl⟩ ?_ mh
          rw [ch, a]
          by_cases b : y = 0
          · rw [if_pos b]
          · rw [if_neg b, if_pos rfl]
        · rw [if_neg a] at mh
          by_cases b : y = 0
          · rw [if_pos b] at ch mh
            exact ag_v ⟨_, rfl⟩ ch mh
          · rw [if_neg b] at ch mh
            rw [if_neg a] at ch
            by_cases c4 : σ.1 57 o = 4
            · rw [if_pos c4] at ch mh
              have hs' : sR σ (lj_put τ 0 0 0) (fun _ => False) := hq.1.1.cg (fun _ _ _ => rfl) (fun k j w => by rw [lj_put_1, if_neg (by unfold sqM at w; simp at w; omega)])
              have hp' : hpR σ (lj_put τ 0 0 0) n := hq.2.1.cg (fun _ _ _ => ⟨rfl, rfl⟩) (fun k j w => ⟨by rw [lj_put_1, if_neg (by unfold hqM vqM at w; simp at w; omega)], rfl⟩)
              obtain ⟨m, m1, m2, m3⟩ := cm_len hs' hp' (t := o) (by omega)
              rw [show tm o = o from by unfold tm; rw [if_neg (by omega)], ← o2] at m3
              rw [← o2] at m2
              rw [m2, bl_ok] at ch
              rw [m3, bl_ok] at mh
              exact ⟨_, _, ⟨0, Or.inr ⟨rfl, rfl⟩⟩, Or.inl ⟨_, ⟨_, rfl⟩, ch, mh, fdM00 τ 0⟩⟩
            · rw [if_neg c4] at ch mh
              by_cases c5 : σ.1 57 o = 5
              · rw [if_pos c5] at ch mh
                obtain ⟨f, f1, f2, f3⟩ := k4 c5
                exact ag_v ⟨_, rfl⟩ ch (by rw [mh, f2, f3])
              · rw [if_neg c5] at ch mh
                have c6 : σ.1 57 o = 6 := by rcases k2 with e | e | e | e <;> first | exact e | exact absurd e a | exact absurd e c4 | exact absurd e c5
                obtain ⟨p, p1, p2, p3, p4⟩ := k5 c6
                obtain ⟨q, q1, q2, q3, q4⟩ := hq.2.2.2.2.2.1 o ⟨o3, (by omega), by show _ ≤ (σ.1 7 0).toInt; omega, c6, by rw [← k1]; exact c6⟩
                have e : p = q := (ofN_eq (by omega) (by omega)).1 (by rw [← p3, ← q3])
                rw [p3, if_pos (ofN_in (by omega) (by omega)), lz_onat (by omega)] at ch
                rw [p4, if_pos (ofN_in (by omega) (by omega)), lz_onat (by omega)] at mh
                exact ag_v ⟨_, rfl⟩ ch (by rw [mh, e, q4])
      · refine ag_x (w := some (.int 0)) ⟨_, rfl⟩ ?_ ?_
        · rw [rc_17, kc_17_0, if_neg (by rw [h1]; decide), c_in σ x 1 _ _ iff1, if_pos hx, bi_ok, if_neg (by decide), c_in σ y 0 1 _ iff2, if_neg hy, bi_ok, if_pos rfl, cbad]
        · rw [rm_250, km_250_0, if_neg m3, if_neg (fun w => by have := l1.1 w; omega), if_neg (fun w => by have := l2.1 w; omega)]
          by_cases a : y < 0
          · rw [if_pos a, mbad]
          · rw [if_neg a, if_neg (fun w => hy (by have := l4.1 w; have : ¬ (y.toInt < 0) := fun z => a (l3.2 z); omega)), mbad]
    · refine ag_x (w := some (.int 0)) ⟨_, rfl⟩ ?_ ?_
      · rw [rc_17, kc_17_0, if_neg (by rw [h1]; decide), c_in σ x 1 _ _ iff1, if_neg hx, bi_ok, if_pos rfl, cbad]
      · rw [rm_250, km_250_0, if_neg m3]
        by_cases a : x < 1
        · rw [if_pos a, mbad]
        · rw [if_neg a, if_pos (l2.2 (by have : ¬ (x.toInt < 1) := fun z => a (l1.2 z); omega)), mbad]
  · refine ag_x (w := some (.int 0)) ⟨_, rfl⟩ ?_ ?_
    · rw [rc_17, kc_17_0, if_pos h1, cbad]
    · rw [rm_250, km_250_0, if_pos h2, mbad]
theorem eR_get {R : vT → vT → Prop} {f g : Nat → enT} : ∀ {l l' : List Nat}, eR R f g l l' → ∀ k, k < l.length → pR R (f (l.getD k 0)) (g (l'.getD k 0))
  | [], _, _, k, hk => absurd hk (Nat.not_lt_zero _)
  | _ :: _, [], h, _, _ => h.elim
  | a :: l, b :: l', h, 0, _ => h.1
  | a :: l, b :: l', h, k + 1, hk => eR_get h.2 k (Nat.lt_of_succ_lt_succ hk)
theorem c_walk {σ : lj_S} {k : Nat} (hk : k < 2147483648) (x z : Int32) : ∀ (l : List Nat) (i : Nat) (h : Int32), lk (lv σ 70) h.toInt l → (∀ p ∈ l, p < 3000) → i ≤ k → k - i < l.length → lj_D lc_P lc_M18 92 [.ref 0, .int x, .int (Int32.ofNat k), .int z, .int h, .int (Int32.ofNat i)] [] σ = lj_D lc_P lc_M18 92 [.ref 0, .int x, .int (Int32.ofNat k), .int z, .int (Int32.ofNat (l.getD (k - i) 0)), .int (Int32.ofNat k)] [] σ
  | [], i, h, _, _, _, hl => absurd hl (Nat.not_lt_zero _)
  | p :: l, i, h, hh, hp, hi, hl => by
    have p3 : p < 3000 := hp p List.mem_cons_self
    have eh : h = Int32.ofNat p := lz_ext (by rw [lz_lit (by omega)]; exact hh.1)
    by_cases e : i = k
    · rw [e, Nat.sub_self, eh]; rfl
    · rw [kc_18_92, if_neg (by rw [ofN_le (by omega) (by omega)]; omega), eh, if_pos (ofN_in (by omega) (by omega)), lz_onat (by omega), lz_osucc, c_walk hk x z l (i + 1) _ hh.2 (fun q hq => hp q (List.mem_cons_of_mem _ hq)) (by omega) (by rw [List.length_cons] at hl; omega), show k - i = (k - (i + 1)) + 1 by omega]
      rfl
theorem m_walk {τ : lj_S} {k : Nat} (hk : k < 2147483648) (x z x4 : Int32) : ∀ (l : List Nat) (i : Nat) (h : Int32), lk (lv τ 50) h.toInt l → (∀ p ∈ l, p < 3001) → i ≤ k → ∃ x6 : Int32, lj_D lm_P lm_M251 70 [.ref 0, .int x, .int (Int32.ofNat k), .int z, .int x4, .int h, .int (Int32.ofNat i), .retAddr 0, .retAddr 0] [] τ = lj_D lm_P lm_M251 96 [.ref 0, .int x, .int (Int32.ofNat k), .int z, .int x4, .int (if k - i < l.length then Int32.ofNat (l.getD (k - i) 0) else -1), .int x6, .retAddr 0, .retAddr 0] [] τ
  | [], i, h, hh, _, hi => by
    have eh : h = -1 := lz_ext hh
    refine ⟨Int32.ofNat i, ?_⟩
    rw [km_251_70, if_neg (Nat.not_lt_zero _)]
    by_cases e : Int32.ofNat k ≤ Int32.ofNat i
    · rw [if_pos e, eh]
    · rw [if_neg e, eh, if_pos (by decide)]
  | p :: l, i, h, hh, hp, hi => by
    have p3 : p < 3001 := hp p List.mem_cons_self
    have eh : h = Int32.ofNat p := lz_ext (by rw [lz_lit (by omega)]; exact hh.1)
    by_cases e : i = k
    · refine ⟨Int32.ofNat i, ?_⟩
      rw [km_251_70, if_pos (by rw [ofN_le (by omega) (by omega)]; omega), if_pos (by rw [List.length_cons]; omega), eh, e, Nat.sub_self]
      rfl
    · obtain ⟨x6, w⟩ := m_walk hk x z x4 l (i + 1) _ hh.2 (fun q hq => hp q (List.mem_cons_of_mem _ hq)) (by omega)
      refine ⟨x6, ?_⟩
      rw [km_251_70, if_neg (by rw [ofN_le (by omega) (by omega)]; omega), eh, if_neg (by rw [lz_lt, lz_lit (by omega)]; show ¬ ((p : Int) < 0); omega), if_pos (ofN_in (by omega) (by omega)), lz_onat (by omega), lz_osucc, w, List.length_cons, show k - i = (k - (i + 1)) + 1 by omega]
      by_cases q : k - (i + 1) < l.length
      · rw [if_pos q, if_pos (by omega)]
        rfl
      · rw [if_neg q, if_neg (by omega)]
theorem q_place {σ τ : lj_S} (h : qsR σ τ ∨ ncR σ τ) (x y z : Int32) : ag 2 (fun _ => 1) (qK σ τ) (lj_R lc_P 18 [.ref 0, .int x, .int y, .int z] σ) (lj_R lm_P 251 [.ref 0, .int x, .int y, .int z] τ) := by
  have cbad : lj_D lc_P lc_M18 74 [.ref 0, .int x, .int y, .int z, .retAddr 0, .retAddr 0] [] σ = some (.inr 2001, σ) := by rw [kc_18_74, kc_18_75, c_909, if_pos rfl, bv_up]; rfl
  have mneg : ∀ x4 x6, lj_D lm_P lm_M251 96 [.ref 0, .int x, .int y, .int z, .int x4, .int (-1), .int x6, .retAddr 0, .retAddr 0] [] τ = some (.inl (some (.long 0)), lj_put τ 0 0 1) := fun x4 x6 => by rw [km_251_96, if_neg (by decide), km_251_107, if_neg (by decide)]
  have mbad : lj_D lm_P lm_M251 47 [.ref 0, .int x, .int y, .int z, .retAddr 0, .retAddr 0, .retAddr 0, .retAddr 0, .retAddr 0] [] τ = some (.inl (some (.long 0)), lj_put τ 0 0 1) := by
    rw [km_251_47, km_251_48, if_pos rfl, km_251_65, km_251_70]
    by_cases a : y ≤ 0
    · rw [if_pos a, mneg]
    · rw [if_neg a, if_pos (by decide), mneg]
  rcases h with ⟨h1, h2, ⟨n, hq⟩, _⟩ | ⟨h1, h2, _⟩
  · have m3 : ¬ (τ.1 0 3 = 0) := by rw [h2]; decide
    obtain ⟨n2, n3, n4, P, B, Fr, P', B', Fr', k1, k2, k3, k4⟩ := hq.2.1
    have n3 : (σ.1 7 0).toInt = (n : Int) := n3
    have n4 : (τ.1 0 77).toInt = (n : Int) := n4
    have iff1 : ((1 : Int64).toInt ≤ x.toInt ∧ x.toInt ≤ ((σ.1 7 0 : Int32).toInt64).toInt) ↔ (1 ≤ x.toInt ∧ x.toInt ≤ (n : Int)) := by
      rw [lz_i64, n3]
      exact Iff.rfl
    have iff3 : ((0 : Int64).toInt ≤ z.toInt ∧ z.toInt ≤ (3 : Int64).toInt) ↔ (0 ≤ z.toInt ∧ z.toInt ≤ 3) := Iff.rfl
    have l1 : (x < 1) ↔ x.toInt < 1 := lz_lt
    have l2 : (τ.1 0 77 < x) ↔ (n : Int) < x.toInt := by rw [lz_lt, n4]
    have l3 : (y < 0) ↔ y.toInt < 0 := lz_lt
    have l5 : (z < 0) ↔ z.toInt < 0 := lz_lt
    have l6 : (3 < z) ↔ (3 : Int) < z.toInt := lz_lt
    by_cases hx : 1 ≤ x.toInt ∧ x.toInt ≤ (n : Int)
    · obtain ⟨o, o1, o2⟩ := nat_of (N := n + 1) (x := x) (by omega) (by omega) (by omega)
      have o3 : 1 ≤ o := by have := hx.1; rw [o2, lz_lit (by omega)] at this; omega
      have hin : lj_in x 2001 := by rw [o2]; exact ofN_in (by omega) (by omega)
      have hin' : lj_in x 2002 := by rw [o2]; exact ofN_in (by omega) (by omega)
      have hn : x.toNatClampNeg = o := by rw [o2, lz_onat (by omega)]
      have ek : σ.1 57 o = τ.1 38 o := (hq.2.2.1.2 o o3 (by omega)).1.1
      have et : tm o = o := by unfold tm; rw [if_neg (by omega)]
      have pe := k4 o (by omega)
      rw [et] at pe
      have pl := eR_len pe
      have w61 : (σ.1 61 o).toInt = ((P o).length : Int) := k1.2.2 o (by show o ≤ n; omega)
      have pb : ∀ p ∈ P o, p < 3000 := fun p hp => (k1.1.2.2 o (by show o ≤ n; omega) p hp).1
      have pb' : ∀ p ∈ P' o, p < 3001 := fun p hp => (k2.1.2.2 o (Or.inr ⟨o3, (by omega)⟩) p hp).1
      have pl3 : (P o).length ≤ 3000 := by
        have := k1.2.1.2.1
        by_cases w : (P o).length ≤ 3000
        · exact w
        · exfalso
          have nd := lk_nd (k1.1.1 o (by show o ≤ n; omega)).1
          have := nd_le 3000 _ nd pb
          omega
      have e2 : ((σ.1 61 o - 1 : Int32).toInt64).toInt = ((P o).length : Int) - 1 := by
        rw [lz_i64, lz_sub (by rw [w61]; show _ ≤ ((P o).length : Int) - 1 ∧ ((P o).length : Int) - 1 < _; omega), w61]
        rfl
      have iff2 : ((0 : Int64).toInt ≤ y.toInt ∧ y.toInt ≤ ((σ.1 61 o - 1 : Int32).toInt64).toInt) ↔ (0 ≤ y.toInt ∧ y.toInt < ((P o).length : Int)) := by
        rw [e2]
        show ((0 : Int) ≤ y.toInt ∧ _) ↔ _
        omega
      have ch : lj_R lc_P 18 [.ref 0, .int x, .int y, .int z] σ = (if σ.1 57 o = 4 then lj_bi (lj_R lc_P 3 [.long y.toInt64, .long 0, .long ((σ.1 61 o - 1 : Int32).toInt64)] σ) (fun y4 σ3 => (if y4 = 0 then lj_D lc_P lc_M18 74 [.ref 0, .int x, .int y, .int z, .retAddr 0, .retAddr 0] [] σ3 else lj_bi (lj_R lc_P 3 [.long z.toInt64, .long 0, .long 3] σ3) (fun y6 σ5 => (if y6 = 0 then lj_D lc_P lc_M18 74 [.ref 0, .int x, .int y, .int z, .retAddr 0, .retAddr 0] [] σ5 else lj_D lc_P lc_M18 75 [.ref 0, .int x, .int y, .int z, .retAddr 0, .retAddr 0] [.int 1] σ5)) lj_up)) lj_up else lj_D lc_P lc_M18 74 [.ref 0, .int x, .int y, .int z, .retAddr 0, .retAddr 0] [] σ) := by
        rw [rc_18, kc_18_0, if_neg (by rw [h1]; decide), c_in σ x 1 _ _ iff1, if_pos hx, bi_ok, if_neg (by decide), if_pos hin, hn]
        simp only [if_pos hin]
      have mh : lj_R lm_P 251 [.ref 0, .int x, .int y, .int z] τ = (if τ.1 38 o = 4 then (if y < 0 then lj_D lm_P lm_M251 47 [.ref 0, .int x, .int y, .int z, .retAddr 0, .retAddr 0, .retAddr 0, .retAddr 0, .retAddr 0] [] τ else (if z < 0 then lj_D lm_P lm_M251 47 [.ref 0, .int x, .int y, .int z, .retAddr 0, .retAddr 0, .retAddr 0, .retAddr 0, .retAddr 0] [] τ else (if 3 < z then lj_D lm_P lm_M251 47 [.ref 0, .int x, .int y, .int z, .retAddr 0, .retAddr 0, .retAddr 0, .retAddr 0, .retAddr 0] [] τ else lj_D lm_P lm_M251 48 [.ref 0, .int x, .int y, .int z, .retAddr 0, .retAddr 0, .retAddr 0, .retAddr 0, .retAddr 0] [.int 1] τ))) else lj_D lm_P lm_M251 47 [.ref 0, .int x, .int y, .int z, .retAddr 0, .retAddr 0, .retAddr 0, .retAddr 0, .retAddr 0] [] τ) := by
        rw [rm_251, km_251_0, if_neg m3, if_neg (fun w => by have := l1.1 w; omega), if_neg (fun w => by have := l2.1 w; omega), if_pos hin', hn]
      rw [← ek] at mh
      by_cases c4 : σ.1 57 o = 4
      · rw [if_pos c4] at ch mh
        rw [c_in σ y 0 _ _ iff2] at ch
        by_cases hz : 0 ≤ z.toInt ∧ z.toInt ≤ 3
        · have z5 : ¬ (z < 0) := fun w => by have := l5.1 w; omega
          have z6 : ¬ (3 < z) := fun w => by have := l6.1 w; omega
          by_cases hy0 : 0 ≤ y.toInt
          · obtain ⟨k, kk1, kk2⟩ := nat_of (N := 2147483648) (x := y) hy0 (by have := y.toInt_lt; omega) (Nat.le_refl _)
            have y3 : ¬ (y < 0) := fun w => by have := l3.1 w; omega
            obtain ⟨x6, mw⟩ := m_walk (τ := τ) kk1 x z 1 (P' o) 0 (τ.1 40 o) (k2.1.1 o (Or.inr ⟨o3, (by omega)⟩)).1 pb' (Nat.zero_le _)
            rw [if_neg y3, if_neg z5, if_neg z6, km_251_48, if_neg (by decide), if_pos hin', hn, km_251_65, kk2, show (0 : Int32) = Int32.ofNat 0 from rfl, mw, Nat.sub_zero, ← kk2] at mh
            by_cases hy : y.toInt < ((P o).length : Int)
            · have kl : k < (P o).length := by rw [kk2, lz_lit kk1] at hy; omega
              rw [if_pos ⟨hy0, hy⟩, bi_ok, if_neg (by decide), c_in σ z 0 3 _ iff3, if_pos hz, bi_ok, if_neg (by decide), kc_18_75, c_909, if_neg (by decide), bv_ok, if_pos hin, hn, kk2] at ch
              have cw := c_walk (σ := σ) kk1 x z (P o) 0 (σ.1 59 o) (k1.1.1 o (by show o ≤ n; omega)).1 pb (Nat.zero_le _) (by rw [Nat.sub_zero]; exact kl)
              rw [show (Int32.ofNat 0) = 0 from rfl, Nat.sub_zero] at cw
              have p3 : (P o).getD k 0 < 3000 := by
                rw [List.getD_eq_getElem _ _ kl]
                exact pb _ (List.getElem_mem kl)
              have p3' : (P' o).getD k 0 < 3001 := by
                rw [List.getD_eq_getElem _ _ (by rw [← pl]; exact kl)]
                exact pb' _ (List.getElem_mem _)
              have pr := eR_get pe k kl
              generalize hp : (P o).getD k 0 = p at *
              generalize hp' : (P' o).getD k 0 = p' at *
              obtain ⟨r1, r2, r3⟩ := pr
              have r2 : σ.1 66 p ≠ 0 := r2
              rw [cw, kc_18_92, if_pos (by rw [lz_le]; exact Int.le_refl _)] at ch
              simp only [if_pos (ofN_in p3 (by decide)), lz_onat (show p < 2147483648 by omega), kc_18_257] at ch
              rw [if_pos (by rw [← pl]; exact kl), km_251_96, if_pos (by rw [lz_le, lz_lit (by omega)]; show (0 : Int) ≤ (p' : Int); omega), km_251_107, if_pos (by decide)] at mh
              simp only [if_pos (ofN_in p3' (by decide)), lz_onat (show p' < 2147483648 by omega)] at mh
              obtain ⟨t1, u1, u2⟩ := cm_told hq.1.1 r1
              have u1 : lj_R lc_P 13 [.ref 0, .int (σ.1 66 p), .long (σ.2 67 p)] σ = some (.inl (some (.long t1)), σ) := u1
              have u2 := u2 (lj_put τ 0 0 0) (fun j => by rw [lj_put_1, if_neg (by omega)])
              have u2 : lj_R lm_P 244 [.ref 0, .int (τ.1 45 p'), .long (τ.2 46 p')] (lj_put τ 0 0 0) = some (.inl (some (.long t1)), lj_put τ 0 0 0) := u2
              have u3 : lj_R lm_P 243 [.int (τ.1 45 p')] (lj_put τ 0 0 0) = some (.inl (some (.int (σ.1 66 p))), lj_put τ 0 0 0) := m_kind r1 _
              rcases r3 with ⟨v1, v2⟩ | ⟨v1, v2⟩
              · have v0 : σ.1 68 p = 0 := congrArg Prod.fst v1
                have v00 : σ.2 69 p = 0 := congrArg Prod.snd v1
                have v2 : τ.1 47 p' = 0 := v2
                rw [if_pos v2] at mh
                refine ag_v (v := some (.long 0)) ⟨_, rfl⟩ ?_ mh
                rw [ch]
                by_cases a0 : z = 0
                · rw [if_pos a0, if_pos v0]
                rw [if_neg a0]
                by_cases a1 : z = 1
                · rw [if_pos a1, v0]; rfl
                rw [if_neg a1]
                by_cases a2 : z = 2
                · rw [if_pos a2, if_pos v0]
                rw [if_neg a2, v0, v00, rc_13, kc_13_0, if_pos rfl, kc_13_45, bl_ok]
              · have v1 : σ.1 68 p ≠ 0 := v1
                obtain ⟨t2, u4, u5⟩ := cm_told hq.1.1 v2
                have u4 : lj_R lc_P 13 [.ref 0, .int (σ.1 68 p), .long (σ.2 69 p)] σ = some (.inl (some (.long t2)), σ) := u4
                have u5 := u5 (lj_put τ 0 0 0) (fun j => by rw [lj_put_1, if_neg (by omega)])
                have u5 : lj_R lm_P 244 [.ref 0, .int (τ.1 47 p'), .long (τ.2 48 p')] (lj_put τ 0 0 0) = some (.inl (some (.long t2)), lj_put τ 0 0 0) := u5
                have u6 : lj_R lm_P 243 [.int (τ.1 47 p')] (lj_put τ 0 0 0) = some (.inl (some (.int (σ.1 68 p))), lj_put τ 0 0 0) := m_kind v2 _
                have v3 : ¬ (τ.1 47 p' = 0) := fun w => v1 (v2.k0.2 w)
                have e46 : (lj_put τ 0 0 0).2 46 p' = τ.2 46 p' := rfl
                have e48 : (lj_put τ 0 0 0).2 48 p' = τ.2 48 p' := rfl
                rw [if_neg v3, if_neg (by decide)] at mh
                by_cases a0 : z = 0
                · rw [if_pos a0, if_neg v1] at ch
                  rw [a0, if_pos (by decide), km_251_154, if_neg (by decide), if_pos (by decide), if_pos (ofN_in p3' (by decide)), km_251_179, if_neg (by decide), u3, bi_ok, km_251_203] at mh
                  rw [a0] at ch
                  exact ag_v ⟨_, rfl⟩ (by rw [a0]; exact ch) (by rw [a0]; exact mh)
                rw [if_neg a0] at ch
                by_cases a1 : z = 1
                · rw [if_pos a1] at ch
                  rw [a1, if_neg (by decide), km_251_154, if_neg (by decide), if_neg (by decide), if_pos (ofN_in p3' (by decide)), km_251_179, if_neg (by decide), u6, bi_ok, km_251_203] at mh
                  rw [a1] at ch
                  exact ag_v ⟨_, rfl⟩ (by rw [a1]; exact ch) (by rw [a1]; exact mh)
                rw [if_neg a1] at ch
                by_cases a2 : z = 2
                · rw [if_pos a2, if_neg v1, u1, bl_ok] at ch
                  rw [a2, if_pos (by decide), km_251_154, if_neg (by decide), if_pos (by decide), if_pos (ofN_in p3' (by decide)), km_251_179, if_pos (by decide), lz_onat (show p' < 2147483648 by omega), e46, u2, bl_ok, km_251_203] at mh
                  rw [a2] at ch
                  exact ag_v ⟨_, rfl⟩ (by rw [a2]; exact ch) (by rw [a2]; exact mh)
                rw [if_neg a2, u4, bl_ok] at ch
                have a3 : z = 3 := lz_ext (by
                  rw [lz_eq] at a0 a1 a2
                  have a0 : ¬ (z.toInt = 0) := a0
                  have a1 : ¬ (z.toInt = 1) := a1
                  have a2 : ¬ (z.toInt = 2) := a2
                  show z.toInt = 3
                  omega)
                rw [a3, if_neg (by decide), km_251_154, if_neg (by decide), if_neg (by decide), if_pos (ofN_in p3' (by decide)), km_251_179, if_pos (by decide), lz_onat (show p' < 2147483648 by omega), e48, u5, bl_ok, km_251_203] at mh
                rw [a3] at ch
                exact ag_v ⟨_, rfl⟩ (by rw [a3]; exact ch) (by rw [a3]; exact mh)
            · rw [if_neg (fun w => hy w.2), bi_ok, if_pos rfl, cbad] at ch
              rw [if_neg (by rw [← pl]; rw [kk2, lz_lit kk1] at hy; omega), mneg] at mh
              exact ag_x ⟨_, rfl⟩ ch mh
          · rw [if_neg (fun w => hy0 w.1), bi_ok, if_pos rfl, cbad] at ch
            rw [if_pos (l3.2 (by omega)), mbad] at mh
            exact ag_x ⟨_, rfl⟩ ch mh
        · refine ag_x (w := some (.long 0)) ⟨_, rfl⟩ ?_ ?_
          · rw [ch]
            by_cases hy : 0 ≤ y.toInt ∧ y.toInt < ((P o).length : Int)
            · rw [if_pos hy, bi_ok, if_neg (by decide), c_in σ z 0 3 _ iff3, if_neg hz, bi_ok, if_pos rfl, cbad]
            · rw [if_neg hy, bi_ok, if_pos rfl, cbad]
          · rw [mh]
            by_cases a : y < 0
            · rw [if_pos a, mbad]
            rw [if_neg a]
            by_cases b : z < 0
            · rw [if_pos b, mbad]
            · rw [if_neg b, if_pos (l6.2 (by have : ¬ (z.toInt < 0) := fun w => b (l5.2 w); omega)), mbad]
      · rw [if_neg c4, cbad] at ch
        rw [if_neg c4, mbad] at mh
        exact ag_x ⟨_, rfl⟩ ch mh
    · refine ag_x (w := some (.long 0)) ⟨_, rfl⟩ ?_ ?_
      · rw [rc_18, kc_18_0, if_neg (by rw [h1]; decide), c_in σ x 1 _ _ iff1, if_neg hx, bi_ok, if_pos rfl, cbad]
      · rw [rm_251, km_251_0, if_neg m3]
        by_cases a : x < 1
        · rw [if_pos a, mbad]
        · rw [if_neg a, if_pos (l2.2 (by have : ¬ (x.toInt < 1) := fun w => a (l1.2 w); omega)), mbad]
  · refine ag_x (w := some (.long 0)) ⟨_, rfl⟩ ?_ ?_
    · rw [rc_18, kc_18_0, if_pos h1, cbad]
    · rw [rm_251, km_251_0, if_pos h2, mbad]
