/-! the model's cells -/
theorem sub_len : ∀ (l m : List Nat), l.Nodup → (∀ x ∈ l, x ∈ m) → l.length ≤ m.length
  | [], _, _, _ => Nat.zero_le _
  | x :: l, m, h, g => by
    obtain ⟨h1, h2⟩ := List.nodup_cons.1 h
    have hx := g x List.mem_cons_self
    have ih := sub_len l (m.erase x) h2 (fun y hy => (List.mem_erase_of_ne (fun e => h1 (by rw [← e]; exact hy))).2 (g y (List.mem_cons_of_mem _ hy)))
    rw [List.length_erase_of_mem hx] at ih
    have : 0 < m.length := List.length_pos_of_mem hx
    rw [List.length_cons]
    omega
/-- more cells are marked: at most so many, all of W -/
def mkd (τ τ' : lj_S) (N : Nat) (W : Nat → Prop) : Prop := lf (fun k _ => k == 56) τ τ' ∧ (∀ c, τ.1 56 c ≠ 0 → τ'.1 56 c ≠ 0) ∧ (∀ c, W c → τ'.1 56 c ≠ 0) ∧ ∃ M : List Nat, M.length ≤ N ∧ ∀ c, τ'.1 56 c ≠ 0 → τ.1 56 c ≠ 0 ∨ c ∈ M
theorem mkd_0 (τ : lj_S) : mkd τ τ 0 (fun _ => False) := ⟨lf_rf _ _, fun _ h => h, fun _ h => h.elim, [], Nat.le_refl _, fun _ h => Or.inl h⟩
theorem mkd.tr {τ τ1 τ2 : lj_S} {N N' : Nat} {W W' : Nat → Prop} (h : mkd τ τ1 N W) (g : mkd τ1 τ2 N' W') : mkd τ τ2 (N + N') (fun c => W c ∨ W' c) := by
  obtain ⟨h1, h2, h3, M, h4, h5⟩ := h
  obtain ⟨g1, g2, g3, M', g4, g5⟩ := g
  refine ⟨h1.tr g1, fun c w => g2 c (h2 c w), fun c w => w.elim (fun w => g2 c (h3 c w)) (g3 c), M ++ M', by rw [List.length_append]; omega, fun c w => ?_⟩
  rcases g5 c w with w | w
  · rcases h5 c w with w | w
    · exact Or.inl w
    · exact Or.inr (List.mem_append_left _ w)
  · exact Or.inr (List.mem_append_right _ w)
theorem mkd.mo {τ τ' : lj_S} {N N' : Nat} {W W' : Nat → Prop} (h : mkd τ τ' N W) (hN : N ≤ N') (hW : ∀ c, W' c → W c) : mkd τ τ' N' W' := by
  obtain ⟨h1, h2, h3, M, h4, h5⟩ := h
  exact ⟨h1, h2, fun c w => h3 c (hW c w), M, by omega, h5⟩
theorem mkd_1 (τ : lj_S) (c : Nat) : mkd τ (lj_put τ 56 c (vp_nar .boolean 1)) 1 (fun x => x = c) := by
  have e1 : vp_nar .boolean 1 = 1 := rfl
  refine ⟨lf_put (lf_rf _ _) 56 c _ rfl, fun x w => ?_, fun x w => ?_, [c], Nat.le_refl _, fun x w => ?_⟩
  · rw [lj_put_1]
    split
    · rw [e1]; decide
    · exact w
  · rw [lj_put_1, if_pos ⟨rfl, w⟩, e1]; decide
  · rw [lj_put_1] at w
    by_cases z : x = c
    · rw [z]; exact Or.inr List.mem_cons_self
    · rw [if_neg (fun y => z y.2)] at w; exact Or.inl w
theorem mkd.e {τ τ' : lj_S} {N : Nat} {W : Nat → Prop} (h : mkd τ τ' N W) {k j : Nat} (hk : k ≠ 56) : τ'.1 k j = τ.1 k j := (h.1 k j (beq_eq_false_iff_ne.2 hk)).1
/-- the locals of a frame -/
theorem m_mk_fr {j : Nat} (hj : j < 1248) (x1 x2 : Int32) : ∀ (d x : Nat) (τ : lj_S), x + d = 50 → (τ.1 74 j = 0 → ∀ y, y < 50 → gdc (τ.1 87 (50 * j + y))) → ∃ τ' x', lj_D lm_P lm_M115 53 [.ref 0, .int x1, .int x2, .int (Int32.ofNat j), .int (Int32.ofNat x)] [] τ = lj_D lm_P lm_M115 108 [.ref 0, .int x1, .int x2, .int (Int32.ofNat j), .int x'] [] τ' ∧ mkd τ τ' d (fun c => c < 95000 ∧ τ.1 74 j = 0 ∧ ∃ y, x ≤ y ∧ y < 50 ∧ τ.1 87 (50 * j + y) = Int32.ofNat c)
  | 0, x, τ, hd, _ => by
    have e : x = 50 := by omega
    refine ⟨τ, Int32.ofNat x, ?_, (mkd_0 τ).mo (Nat.le_refl _) (fun c w => by obtain ⟨_, _, y, y1, y2, _⟩ := w; omega)⟩
    rw [km_115_53, if_pos (by rw [e]; decide)]
  | d + 1, x, τ, hd, hg => by
    have ij : lj_in (Int32.ofNat j) 1248 := ofN_in hj (by omega)
    have ej : (Int32.ofNat j).toNatClampNeg = j := lz_onat (by omega)
    have ec : (50 : Int32) * Int32.ofNat j + Int32.ofNat x = Int32.ofNat (50 * j + x) := by rw [show (50 : Int32) = Int32.ofNat 50 from rfl, ← Int32.ofNat_mul, ← Int32.ofNat_add]
    have ic : lj_in (Int32.ofNat (50 * j + x)) 62400 := ofN_in (by omega) (by omega)
    have en : (Int32.ofNat (50 * j + x)).toNatClampNeg = 50 * j + x := lz_onat (by omega)
    have n50 : ¬ ((50 : Int32) ≤ Int32.ofNat x) := by
      rw [show (50 : Int32) = Int32.ofNat 50 from rfl, ofN_le (by omega) (by omega)]; omega
    by_cases t : τ.1 74 j = 0
    · rcases hg t x (by omega) with z | ⟨c, c1, c2⟩
      · obtain ⟨τ', x', e1, e2⟩ := m_mk_fr hj x1 x2 d (x + 1) τ (by omega) hg
        refine ⟨τ', x', ?_, e2.mo (by omega) (fun c w => ?_)⟩
        · rw [km_115_53, if_neg n50, if_pos ij, ej, if_pos t, ec, if_pos ic, if_pos (by rw [en, z]; decide), km_115_102, lz_osucc, e1]
        · obtain ⟨w1, w2, y, y1, y2, y3⟩ := w
          refine ⟨w1, w2, y, ?_, y2, y3⟩
          by_cases q : y = x
          · exfalso
            rw [q, z] at y3
            have : (Int32.ofNat c).toInt = -1 := by rw [← y3]; rfl
            rw [lz_lit (by omega)] at this
            omega
          · omega
      · obtain ⟨τ', x', e1, e2⟩ := m_mk_fr hj x1 x2 d (x + 1) (lj_put τ 56 c (vp_nar .boolean 1)) (by omega) (fun t y hy => by rw [lj_put_1, if_neg (by omega)] at t ⊢; exact hg t y hy)
        refine ⟨τ', x', ?_, ((mkd_1 τ c).tr e2).mo (by omega) (fun b w => ?_)⟩
        · have nl : ¬ (Int32.ofNat c < 0) := by
            rw [lz_lt, lz_lit (by omega)]
            show ¬ ((c : Int) < 0)
            omega
          rw [km_115_53, if_neg n50, if_pos ij, ej, if_pos t, ec, if_pos ic, if_neg (by rw [en, c2]; exact nl), if_pos ic, if_pos (by rw [en, c2]; exact ofN_in c1 (by omega)), en, c2, lz_onat (by omega), km_115_102, lz_osucc, e1]
        · obtain ⟨w1, w2, y, y1, y2, y3⟩ := w
          by_cases q : y = x
          · left
            rw [q, c2] at y3
            exact ((ofN_eq (by omega) (by omega)).1 y3).symm
          · right
            exact ⟨w1, by rw [lj_put_1, if_neg (by omega)]; exact w2, y, by omega, y2, by rw [lj_put_1, if_neg (by omega)]; exact y3⟩
    · refine ⟨τ, Int32.ofNat x, ?_, (mkd_0 τ).mo (by omega) (fun c w => absurd w.2.1 t)⟩
      rw [km_115_53, if_neg n50, if_pos ij, ej, if_neg t]
/-- the frames of a part -/
theorem m_mk_pt {q l : Nat} (hq : q < 26) (hl : l ≤ 20) : ∀ (d i : Nat) (τ : lj_S) (x3 x4 : Value), i + d = l → τ.1 62 q = Int32.ofNat l → (∀ i, i < l → τ.1 74 (48 * q + i) = 0 → ∀ y, y < 50 → gdc (τ.1 87 (50 * (48 * q + i) + y))) → ∃ τ' x2 x3' x4', lj_D lm_P lm_M115 33 [.ref 0, .int (Int32.ofNat q), .int (Int32.ofNat i), x3, x4] [] τ = lj_D lm_P lm_M115 23 [.ref 0, .int (Int32.ofNat (q + 1)), x2, x3', x4'] [] τ' ∧ mkd τ τ' (50 * d) (fun c => c < 95000 ∧ ∃ i', i ≤ i' ∧ i' < l ∧ τ.1 74 (48 * q + i') = 0 ∧ ∃ y, y < 50 ∧ τ.1 87 (50 * (48 * q + i') + y) = Int32.ofNat c)
  | 0, i, τ, x3, x4, hd, h62, _ => by
    refine ⟨τ, .int (Int32.ofNat i), x3, x4, ?_, (mkd_0 τ).mo (by omega) (fun c w => by obtain ⟨_, i', y1, y2, _⟩ := w; omega)⟩
    rw [km_115_33, if_pos (ofN_in (by omega) (by omega)), lz_onat (by omega), h62, if_pos ((ofN_le (by omega) (by omega)).2 (by omega)), lz_osucc]
  | d + 1, i, τ, x3, x4, hd, h62, hg => by
    have ec : (48 : Int32) * Int32.ofNat q + Int32.ofNat i = Int32.ofNat (48 * q + i) := by rw [show (48 : Int32) = Int32.ofNat 48 from rfl, ← Int32.ofNat_mul, ← Int32.ofNat_add]
    obtain ⟨τ1, x', e1, e2⟩ := m_mk_fr (j := 48 * q + i) (by omega) (Int32.ofNat q) (Int32.ofNat i) 50 0 τ rfl (hg i (by omega))
    obtain ⟨τ', y2, y3, y4, e3, e4⟩ := m_mk_pt hq hl d (i + 1) τ1 (.int (Int32.ofNat (48 * q + i))) (.int x') (by omega) (by rw [e2.e (by decide)]; exact h62) (fun i' hi' t y hy => by rw [e2.e (by decide)] at t ⊢; exact hg i' hi' t y hy)
    refine ⟨τ', y2, y3, y4, ?_, (e2.tr e4).mo (by omega) (fun c w => ?_)⟩
    · have e1 : lj_D lm_P lm_M115 53 [.ref 0, .int (Int32.ofNat q), .int (Int32.ofNat i), .int (Int32.ofNat (48 * q + i)), .int 0] [] τ = _ := e1
      rw [km_115_33, if_pos (ofN_in (by omega) (by omega)), lz_onat (by omega), h62, if_neg (by rw [ofN_le (by omega) (by omega)]; omega), ec, e1, km_115_108, lz_osucc, e3]
    · obtain ⟨w1, i', i1, i2, i3, y, y1, y2⟩ := w
      by_cases z : i' = i
      · rw [z] at i3 y2
        exact Or.inl ⟨w1, i3, y, Nat.zero_le _, y1, y2⟩
      · exact Or.inr ⟨w1, i', by omega, i2, by rw [e2.e (by decide)]; exact i3, y, y1, by rw [e2.e (by decide)]; exact y2⟩
/-- all parts -/
theorem m_mk_ps {np : Nat} (hnp : np ≤ 25) {len : Nat → Nat} : ∀ (d q : Nat) (τ : lj_S) (x2 x3 x4 : Value), q + d = np + 1 → τ.1 0 110 = Int32.ofNat np → (∀ q, q ≤ np → τ.1 62 q = Int32.ofNat (len q) ∧ len q ≤ 20) → (∀ q, q ≤ np → ∀ i, i < len q → τ.1 74 (48 * q + i) = 0 → ∀ y, y < 50 → gdc (τ.1 87 (50 * (48 * q + i) + y))) → ∃ τ' y2 y3 y4, lj_D lm_P lm_M115 23 [.ref 0, .int (Int32.ofNat q), x2, x3, x4] [] τ = lj_D lm_P lm_M115 122 [.ref 0, .int 1, y2, y3, y4] [] τ' ∧ mkd τ τ' (1000 * d) (fun c => c < 95000 ∧ ∃ q', q ≤ q' ∧ q' ≤ np ∧ ∃ i', i' < len q' ∧ τ.1 74 (48 * q' + i') = 0 ∧ ∃ y, y < 50 ∧ τ.1 87 (50 * (48 * q' + i') + y) = Int32.ofNat c)
  | 0, q, τ, x2, x3, x4, hd, h110, _, _ => by
    refine ⟨τ, x2, x3, x4, ?_, (mkd_0 τ).mo (by omega) (fun c w => by obtain ⟨_, i', y1, y2, _⟩ := w; omega)⟩
    rw [km_115_23, h110, if_pos (by rw [lz_lt, lz_lit (by omega), lz_lit (by omega)]; omega)]
  | d + 1, q, τ, x2, x3, x4, hd, h110, hl, hg => by
    obtain ⟨l1, l2⟩ := hl q (by omega)
    obtain ⟨τ1, z2, z3, z4, e1, e2⟩ := m_mk_pt (q := q) (by omega) l2 (len q) 0 τ x3 x4 (by omega) l1 (hg q (by omega))
    obtain ⟨τ', y2, y3, y4, e3, e4⟩ := m_mk_ps hnp (len := len) d (q + 1) τ1 z2 z3 z4 (by omega) (by rw [e2.e (by decide)]; exact h110) (fun q hq => by rw [e2.e (by decide)]; exact hl q hq) (fun q hq i hi t y hy => by rw [e2.e (by decide)] at t ⊢; exact hg q hq i hi t y hy)
    refine ⟨τ', y2, y3, y4, ?_, (e2.tr e4).mo (by omega) (fun c w => ?_)⟩
    · have e1 : lj_D lm_P lm_M115 33 [.ref 0, .int (Int32.ofNat q), .int 0, x3, x4] [] τ = _ := e1
      rw [km_115_23, h110, if_neg (by rw [lz_lt, lz_lit (by omega), lz_lit (by omega)]; omega), e1, e3]
    · obtain ⟨w1, q', q1, q2, i', i1, i2, y, y1, y2⟩ := w
      by_cases z : q' = q
      · rw [z] at i1 i2 y2
        exact Or.inl ⟨w1, i', Nat.zero_le _, i1, i2, y, y1, y2⟩
      · exact Or.inr ⟨w1, q', by omega, q2, i', i1, by rw [e2.e (by decide)]; exact i2, y, y1, by rw [e2.e (by decide)]; exact y2⟩
/-- the cells of a function -/
theorem m_mk_ob {o f cn : Nat} (ho : o ≤ 2000) (hf : f < 51) (hc : cn ≤ 30) : ∀ (d k : Nat) (τ : lj_S) (x3 x4 : Value), k + d = cn → τ.1 38 o = 5 → τ.1 43 o = Int32.ofNat f → τ.1 15 f = Int32.ofNat cn → (∀ k, k < cn → ∃ x : Nat, x < 95000 ∧ τ.1 44 (30 * o + k) = Int32.ofNat x) → ∃ τ' y2, lj_D lm_P lm_M115 132 [.ref 0, .int (Int32.ofNat o), .int (Int32.ofNat k), x3, x4] [] τ = lj_D lm_P lm_M115 122 [.ref 0, .int (Int32.ofNat (o + 1)), y2, x3, x4] [] τ' ∧ mkd τ τ' d (fun c => c < 95000 ∧ ∃ k', k ≤ k' ∧ k' < cn ∧ τ.1 44 (30 * o + k') = Int32.ofNat c)
  | 0, k, τ, x3, x4, hd, h38, h43, h15, _ => by
    refine ⟨τ, .int (Int32.ofNat k), ?_, (mkd_0 τ).mo (by omega) (fun c w => by obtain ⟨_, i', y1, y2, _⟩ := w; omega)⟩
    have eo : (Int32.ofNat o).toNatClampNeg = o := lz_onat (by omega)
    rw [km_115_132, if_pos (ofN_in (by omega) (by omega)), if_pos (by rw [eo]; exact h38), if_pos (ofN_in (by omega) (by omega)), if_pos (by rw [eo, h43]; exact ofN_in (by omega) (by omega)), if_pos (by rw [eo, h43, lz_onat (n := f) (by omega), h15]; exact (ofN_le (by omega) (by omega)).2 (by omega)), km_115_180, lz_osucc]
  | d + 1, k, τ, x3, x4, hd, h38, h43, h15, hg => by
    obtain ⟨c, c1, c2⟩ := hg k (by omega)
    have ec : (30 : Int32) * Int32.ofNat o + Int32.ofNat k = Int32.ofNat (30 * o + k) := by rw [show (30 : Int32) = Int32.ofNat 30 from rfl, ← Int32.ofNat_mul, ← Int32.ofNat_add]
    obtain ⟨τ', y2, e3, e4⟩ := m_mk_ob ho hf hc d (k + 1) (lj_put τ 56 c (vp_nar .boolean 1)) x3 x4 (by omega) (by rw [lj_put_1, if_neg (by omega)]; exact h38) (by rw [lj_put_1, if_neg (by omega)]; exact h43) (by rw [lj_put_1, if_neg (by omega)]; exact h15) (fun k hk => by rw [lj_put_1, if_neg (by omega)]; exact hg k hk)
    refine ⟨τ', y2, ?_, ((mkd_1 τ c).tr e4).mo (by omega) (fun b w => ?_)⟩
    · have eo : (Int32.ofNat o).toNatClampNeg = o := lz_onat (by omega)
      have e44 : τ.1 44 (Int32.ofNat (30 * o + k)).toNatClampNeg = Int32.ofNat c := by rw [lz_onat (by omega)]; exact c2
      rw [km_115_132, if_pos (ofN_in (by omega) (by omega)), if_pos (by rw [eo]; exact h38), if_pos (ofN_in (by omega) (by omega)), if_pos (by rw [eo, h43]; exact ofN_in (by omega) (by omega)), if_neg (by rw [eo, h43, lz_onat (n := f) (by omega), h15, ofN_le (by omega) (by omega)]; omega), ec, if_pos (ofN_in (by omega) (by omega)), if_pos (by rw [e44]; exact ofN_in c1 (by omega)), e44, lz_onat (by omega), lz_osucc, e3]
    · obtain ⟨w1, k', k1, k2, k3⟩ := w
      by_cases z : k' = k
      · left
        rw [z, c2] at k3
        exact ((ofN_eq (by omega) (by omega)).1 k3).symm
      · exact Or.inr ⟨w1, k', by omega, k2, by rw [lj_put_1, if_neg (by omega)]; exact k3⟩
/-- what the model keeps of the functions of all objects -/
def obF (τ : lj_S) (n : Nat) : Prop := ∀ o, 1 ≤ o → o ≤ n → τ.1 38 o = 5 → ∃ f cn : Nat, f < 51 ∧ τ.1 43 o = Int32.ofNat f ∧ cn ≤ 30 ∧ τ.1 15 f = Int32.ofNat cn ∧ ∀ k, k < cn → ∃ x : Nat, x < 95000 ∧ τ.1 44 (30 * o + k) = Int32.ofNat x
theorem m_mk_os {n : Nat} (hn : n ≤ 2000) : ∀ (d o : Nat) (τ : lj_S) (x2 x3 x4 : Value), o + d = n + 1 → 1 ≤ o → τ.1 0 77 = Int32.ofNat n → obF τ n → ∃ τ', lj_D lm_P lm_M115 122 [.ref 0, .int (Int32.ofNat o), x2, x3, x4] [] τ = some (.inl none, τ') ∧ mkd τ τ' (30 * d) (fun c => c < 95000 ∧ ∃ o', o ≤ o' ∧ o' ≤ n ∧ τ.1 38 o' = 5 ∧ ∃ f cn : Nat, f < 51 ∧ τ.1 43 o' = Int32.ofNat f ∧ cn ≤ 30 ∧ τ.1 15 f = Int32.ofNat cn ∧ ∃ k, k < cn ∧ τ.1 44 (30 * o' + k) = Int32.ofNat c)
  | 0, o, τ, x2, x3, x4, hd, h1, h77, _ => by
    refine ⟨τ, ?_, (mkd_0 τ).mo (by omega) (fun c w => by obtain ⟨_, i', y1, y2, _⟩ := w; omega)⟩
    rw [km_115_122, h77, if_pos (by rw [lz_lt, lz_lit (by omega), lz_lit (by omega)]; omega)]
  | d + 1, o, τ, x2, x3, x4, hd, h1, h77, hg => by
    have ng : ¬ (Int32.ofNat n < Int32.ofNat o) := by rw [lz_lt, lz_lit (by omega), lz_lit (by omega)]; omega
    by_cases t : τ.1 38 o = 5
    · obtain ⟨f, cn, f1, f2, f3, f4, f5⟩ := hg o h1 (by omega) t
      obtain ⟨τ1, y2, e1, e2⟩ := m_mk_ob (o := o) (by omega) f1 f3 cn 0 τ x3 x4 (by omega) t f2 f4 f5
      obtain ⟨τ', e3, e4⟩ := m_mk_os hn d (o + 1) τ1 y2 x3 x4 (by omega) (by omega) (by rw [e2.e (by decide)]; exact h77) (fun o' o1 o2 o3 => by
        rw [e2.e (by decide)] at o3
        obtain ⟨f', cn', g1, g2, g3, g4, g5⟩ := hg o' o1 o2 o3
        exact ⟨f', cn', g1, by rw [e2.e (by decide)]; exact g2, g3, by rw [e2.e (by decide)]; exact g4, fun k hk => by rw [e2.e (by decide)]; exact g5 k hk⟩)
      refine ⟨τ', ?_, (e2.tr e4).mo (by omega) (fun c w => ?_)⟩
      · have e1 : lj_D lm_P lm_M115 132 [.ref 0, .int (Int32.ofNat o), .int 0, x3, x4] [] τ = _ := e1
        rw [km_115_122, h77, if_neg ng, e1, e3]
      · obtain ⟨w1, o', o1, o2, o3, f', cn', g1, g2, g3, g4, k, k1, k2⟩ := w
        by_cases z : o' = o
        · rw [z] at g2 k2
          have ff : f' = f := (ofN_eq (by omega) (by omega)).1 (by rw [← g2, ← f2])
          rw [ff] at g4
          have cc : cn' = cn := (ofN_eq (by omega) (by omega)).1 (by rw [← g4, ← f4])
          exact Or.inl ⟨w1, k, Nat.zero_le _, by omega, k2⟩
        · exact Or.inr ⟨w1, o', by omega, o2, by rw [e2.e (by decide)]; exact o3, f', cn', g1, by rw [e2.e (by decide)]; exact g2, g3, by rw [e2.e (by decide)]; exact g4, k, k1, by rw [e2.e (by decide)]; exact k2⟩
    · obtain ⟨τ', e3, e4⟩ := m_mk_os hn d (o + 1) τ (.int 0) x3 x4 (by omega) (by omega) h77 hg
      refine ⟨τ', ?_, e4.mo (by omega) (fun c w => ?_)⟩
      · rw [km_115_122, h77, if_neg ng, km_115_132, if_pos (ofN_in (by omega) (by omega)), if_neg (by rw [lz_onat (by omega)]; exact t), km_115_180, lz_osucc, e3]
      · obtain ⟨w1, o', o1, o2, o3, w⟩ := w
        refine ⟨w1, o', ?_, o2, o3, w⟩
        by_cases z : o' = o
        · rw [z] at o3; exact absurd o3 t
        · omega
