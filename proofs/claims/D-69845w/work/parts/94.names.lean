/-! names of both -/
theorem m_scan_kn (a a' : Nat) (ha' : a' < 3000) (pl : Int32) (τ : lj_S) (l base : Nat) (hl : l < 52) (hb : τ.1 31 l = Int32.ofNat base) : ∀ (kn : List kT) (x4 x5 : Int32), knM τ base kn → (∀ e ∈ kn, (e.1 = a ↔ e.2.1 = a')) → x5.toInt = (base : Int) + kn.length - 1 → base + kn.length ≤ 1600 →
    (knF kn a = none ∧ ∃ y4 y5 : Int32, lj_D lm_P lm_M51 49 [.ref 0, .int (Int32.ofNat a'), .int pl, .int (Int32.ofNat l), .int x4, .int x5, .retAddr 0, .retAddr 0, .retAddr 0] [] τ = lj_D lm_P lm_M51 14 [.ref 0, .int (Int32.ofNat a'), .int pl, .int (Int32.ofNat l + (-1)), .int y4, .int y5, .retAddr 0, .retAddr 0, .retAddr 0] [] τ) ∨
    (∃ (s : Nat) (y5 : Int32), knF kn a = some s ∧ lj_D lm_P lm_M51 49 [.ref 0, .int (Int32.ofNat a'), .int pl, .int (Int32.ofNat l), .int x4, .int x5, .retAddr 0, .retAddr 0, .retAddr 0] [] τ = lj_D lm_P lm_M51 88 [.ref 0, .int (Int32.ofNat a'), .int pl, .int (Int32.ofNat l), .int x4, .int y5, .int (Int32.ofNat s), .int 1, .int (Int32.ofNat (l + 1))] [] τ)
  | [], x4, x5, _, _, hx, h16 => by
    have il : lj_in (Int32.ofNat l) 52 := ofN_in hl (by omega)
    refine Or.inl ⟨rfl, x4, x5, ?_⟩
    simp only [List.length_nil] at hx h16
    rw [km_51_49, if_pos il, lz_onat (by omega), hb, if_pos (by rw [lz_lt, lz_lit (by omega), hx]; omega)]
  | e :: r, x4, x5, h, hE, hx, h16 => by
    have il : lj_in (Int32.ofNat l) 52 := ofN_in hl (by omega)
    simp only [List.length_cons] at hx h16
    have ex : x5 = Int32.ofNat (base + r.length) := lz_ext (by rw [hx, lz_lit (by omega)]; omega)
    have ix : lj_in (Int32.ofNat (base + r.length)) 1600 := ofN_in (by omega) (by omega)
    have e3 := h.1.2.2.2.1
    have go : lj_D lm_P lm_M51 49 [.ref 0, .int (Int32.ofNat a'), .int pl, .int (Int32.ofNat l), .int x4, .int x5, .retAddr 0, .retAddr 0, .retAddr 0] [] τ = if e.2.1 = a' then lj_D lm_P lm_M51 88 [.ref 0, .int (Int32.ofNat a'), .int pl, .int (Int32.ofNat l), .int x4, .int x5, .int (Int32.ofNat e.2.2), .int 1, .int (Int32.ofNat (l + 1))] [] τ else lj_D lm_P lm_M51 49 [.ref 0, .int (Int32.ofNat a'), .int pl, .int (Int32.ofNat l), .int x4, .int (x5 + (-1)), .retAddr 0, .retAddr 0, .retAddr 0] [] τ := by
      rw [km_51_49, if_pos il, lz_onat (by omega), hb, if_neg (by rw [lz_lt, lz_lit (by omega), hx]; omega), ex]
      simp only [if_pos ix, lz_onat (show base + r.length < 2147483648 by omega), h.1.1, h.1.2.1, lz_osucc]
      by_cases c : e.2.1 = a'
      · rw [if_pos (by rw [c]), if_pos c]
      · rw [if_neg (fun z => c ((ofN_eq (by omega) (by omega)).1 z)), if_neg c]
    have hE1 := hE e (List.mem_cons_self)
    unfold knF
    by_cases c : e.1 = a
    · refine Or.inr ⟨e.2.2, x5, by rw [if_pos c], ?_⟩
      rw [go, if_pos (hE1.1 c)]
    · rw [go, if_neg (fun z => c (hE1.2 z)), if_neg c]
      refine m_scan_kn a a' ha' pl τ l base hl hb r x4 (x5 + (-1)) h.2 (fun e he => hE e (List.mem_cons_of_mem _ he)) ?_ (by omega)
      rw [lz_add (by rw [hx, lz_m1]; omega), hx, lz_m1]; omega
theorem m_scan (a a' : Nat) (ha' : a' < 3000) (pl : Int32) (τ : lj_S) (lev : Nat) (hlev : lev < 52) (h53 : τ.1 0 53 = Int32.ofNat lev) : ∀ (L : List lT) (x4 x5 : Value), nmM τ L → (∀ z ∈ L, ∀ e ∈ z.2.1, (e.1 = a ↔ e.2.1 = a')) → L.length ≤ lev + 1 → baseN L ≤ 1600 → (L ≠ [] → (if L.length = lev + 1 then τ.1 0 50 else τ.1 31 L.length) = Int32.ofNat (baseN L)) →
    ((∀ z ∈ L, knF z.2.1 a = none) ∧ lj_D lm_P lm_M51 14 [.ref 0, .int (Int32.ofNat a'), .int pl, .int (Int32.ofNat L.length + (-1)), x4, x5, .retAddr 0, .retAddr 0, .retAddr 0] [] τ = some (.inl none, lj_put (lj_put τ 0 61 2) 0 62 (Int32.ofNat a'))) ∨
    (∃ (P : List lT) (H : lT) (R : List lT) (s : Nat) (y4 y5 : Int32), L = P ++ H :: R ∧ (∀ z ∈ P, knF z.2.1 a = none) ∧ knF H.2.1 a = some s ∧ lj_D lm_P lm_M51 14 [.ref 0, .int (Int32.ofNat a'), .int pl, .int (Int32.ofNat L.length + (-1)), x4, x5, .retAddr 0, .retAddr 0, .retAddr 0] [] τ = lj_D lm_P lm_M51 88 [.ref 0, .int (Int32.ofNat a'), .int pl, .int (Int32.ofNat R.length), .int y4, .int y5, .int (Int32.ofNat s), .int 1, .int (Int32.ofNat (R.length + 1))] [] τ)
  | [], x4, x5, _, _, _, _, _ => by
    refine Or.inl ⟨fun z hz => by simp at hz, ?_⟩
    rw [km_51_14, if_pos (by decide)]
  | z :: L, x4, x5, h, hE, hl, hB, hend => by
    simp only [List.length_cons] at hl
    have hb16 : baseN L + z.2.1.length ≤ 1600 := by have : baseN (z :: L) = z.2.1.length + baseN L := rfl; omega
    have he := hend (by simp)
    simp only [List.length_cons] at he
    have k41 : ∀ x50 : Int32, lj_D lm_P lm_M51 41 [.ref 0, .int (Int32.ofNat a'), .int pl, .int (Int32.ofNat L.length), x4, x5, .retAddr 0, .retAddr 0, .retAddr 0] [.int x50] τ = lj_D lm_P lm_M51 49 [.ref 0, .int (Int32.ofNat a'), .int pl, .int (Int32.ofNat L.length), .int x50, .int (x50 - 1), .retAddr 0, .retAddr 0, .retAddr 0] [] τ := fun x50 => by rw [km_51_41]
    have start : lj_D lm_P lm_M51 14 [.ref 0, .int (Int32.ofNat a'), .int pl, .int (Int32.ofNat (z :: L).length + (-1)), x4, x5, .retAddr 0, .retAddr 0, .retAddr 0] [] τ = lj_D lm_P lm_M51 49 [.ref 0, .int (Int32.ofNat a'), .int pl, .int (Int32.ofNat L.length), .int (Int32.ofNat (baseN (z :: L))), .int (Int32.ofNat (baseN (z :: L)) - 1), .retAddr 0, .retAddr 0, .retAddr 0] [] τ := by
      rw [List.length_cons, lz_pred, km_51_14, if_neg (ofN_nneg (by omega)), h53]
      by_cases c : L.length = lev
      · rw [if_pos (by rw [c]), k41]
        rw [if_pos (by omega)] at he
        rw [he]
      · rw [if_neg (fun q => c ((ofN_eq (by omega) (by omega)).1 q)), lz_osucc, if_pos (ofN_in (by omega) (by omega)), lz_onat (by omega), k41]
        rw [if_neg (by omega)] at he
        rw [he]
    have one : (1 : Int32).toInt = 1 := by decide
    have hx5 : (Int32.ofNat (baseN (z :: L)) - 1).toInt = (baseN L : Int) + z.2.1.length - 1 := by
      have hb' : baseN (z :: L) = z.2.1.length + baseN L := rfl
      rw [hb', lz_sub (by rw [lz_lit (by omega), one]; omega), lz_lit (by omega), one]; omega
    rw [start]
    rcases m_scan_kn a a' ha' pl τ L.length (baseN L) (by omega) h.1.2.2.1 z.2.1 _ _ h.1.2.2.2.2.1 (hE z (List.mem_cons_self)) hx5 (by omega) with ⟨i1, y4, y5, i2⟩ | ⟨s, y5, i1, i2⟩
    · rw [i2]
      rcases m_scan a a' ha' pl τ lev hlev h53 L (.int y4) (.int y5) h.2 (fun w hw => hE w (List.mem_cons_of_mem _ hw)) (by omega) (by omega) (fun hne => by
        rw [if_neg (by omega)]
        exact h.1.2.2.1) with ⟨j1, j2⟩ | ⟨P, H, R, s, w4, w5, j1, j2, j3, j4⟩
      · exact Or.inl ⟨fun w hw => by
          rcases List.mem_cons.1 hw with q | q
          · rw [q]; exact i1
          · exact j1 w q, j2⟩
      · exact Or.inr ⟨z :: P, H, R, s, w4, w5, by rw [j1]; rfl, fun w hw => by
          rcases List.mem_cons.1 hw with q | q
          · rw [q]; exact i1
          · exact j2 w q, j3, j4⟩
    · exact Or.inr ⟨[], z, L, s, _, y5, rfl, fun w hw => by simp at hw, i1, i2⟩
/-- captured ones may have come -/
def lvX : List lT → List lT → Prop
  | [], [] => True
  | z :: R, z' :: R' => z'.1 = z.1 ∧ z'.2.1 = z.2.1 ∧ (∃ t, z'.2.2 = z.2.2 ++ t) ∧ lvX R R'
  | _, _ => False
theorem lvX_rf : ∀ (N : List lT), lvX N N
  | [] => trivial
  | _ :: R => ⟨rfl, rfl, ⟨[], by simp⟩, lvX_rf R⟩
theorem lvX.tr : ∀ {A B C : List lT}, lvX A B → lvX B C → lvX A C
  | [], [], [], _, _ => trivial
  | a :: A, b :: B, c :: C, h, g => ⟨g.1.trans h.1, g.2.1.trans h.2.1, by
      obtain ⟨t, e⟩ := h.2.2.1
      obtain ⟨u, e2⟩ := g.2.2.1
      exact ⟨t ++ u, by rw [e2, e, List.append_assoc]⟩, lvX.tr h.2.2.2 g.2.2.2⟩
  | [], [], _ :: _, _, g => g.elim
  | [], _ :: _, _, h, _ => h.elim
  | _ :: _, [], _, h, _ => h.elim
  | _ :: _, _ :: _, [], _, g => g.elim
theorem capS_X (a a' : Nat) : ∀ (N : List lT) (lo y : Nat) (N' : List lT), capS a a' N = some (some (lo, y, N')) → lvX N N'
  | [], _, _, _, h => by simp [capS] at h
  | z :: R, lo, y, N', h => by
    unfold capS at h
    cases hk : knF z.2.1 a with
    | some s =>
      rw [hk] at h
      have := Option.some.inj (Option.some.inj h)
      rw [← (Prod.mk.inj (Prod.mk.inj this).2).2]; exact lvX_rf _
    | none =>
      rw [hk] at h
      simp only [] at h
      cases hc : cpI z.2.2 a 0 with
      | some i =>
        rw [hc] at h
        have := Option.some.inj (Option.some.inj h)
        rw [← (Prod.mk.inj (Prod.mk.inj this).2).2]; exact lvX_rf _
      | none =>
        rw [hc] at h
        simp only [] at h
        cases hs : capS a a' R with
        | none => rw [hs] at h; cases h
        | some o =>
          rw [hs] at h
          cases o with
          | none => simp at h
          | some v =>
            obtain ⟨lo1, y1, R1⟩ := v
            simp only [] at h
            by_cases e : z.2.2.length = 30
            · rw [if_pos e] at h; simp at h
            · rw [if_neg e] at h
              have := Option.some.inj (Option.some.inj h)
              rw [← (Prod.mk.inj (Prod.mk.inj this).2).2]
              exact ⟨rfl, rfl, ⟨_, rfl⟩, capS_X a a' R lo1 y1 R1 hs⟩
