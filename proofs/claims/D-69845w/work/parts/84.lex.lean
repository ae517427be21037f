/-! signs -/
theorem c_seek_bin {σ : lj_S} {b : Nat → Int32} {n : Nat} (hb : tB b n) (hC : tC σ b n) (r : Nat) {W : List Int32} (hW : lj_nth lc_str (r - 1000) = some W) (hr : 1000 ≤ r) (hWl : W.length < 100000) (p N i : Nat) (x4 : Int32) (hp : p + N < 100000) (j0 : Nat) (h0 : j0 < N) (hj0 : b (p + j0) = 32) (hi : i < W.length) : ∀ (m j : Nat), j + m = j0 → ∃ j', j' < N ∧ lj_D lc_P lc_M46 34 [.ref 4, .ref r, .int (Int32.ofNat p), .int (Int32.ofNat N), .int x4, .int (Int32.ofNat i), .int (Int32.ofNat j)] [] σ = lj_D lc_P lc_M46 95 [.ref 4, .ref r, .int (Int32.ofNat p), .int (Int32.ofNat N), .int x4, .int (Int32.ofNat i), .int (Int32.ofNat j')] [] σ
  | 0, j, hj => by
    have e : j = j0 := by omega
    subst e
    have e1 : Int32.ofNat p + Int32.ofNat j = Int32.ofNat (p + j) := (Int32.ofNat_add p j).symm
    refine ⟨j, h0, ?_⟩
    rw [kc_46_34, if_neg (by rw [lz_le, lz_lit (by omega), lz_lit (by omega)]; omega), e1, c_byteAt hb hC (p + j) (by omega)]
    unfold lj_bi
    simp only []
    rw [if_pos hj0]
  | m + 1, j, hj => by
    have e1 : Int32.ofNat p + Int32.ofNat j = Int32.ofNat (p + j) := (Int32.ofNat_add p j).symm
    have e2 : Int32.ofNat i + 1 + Int32.ofNat j = Int32.ofNat (i + 1 + j) := by rw [lz_osucc]; exact (Int32.ofNat_add (i + 1) j).symm
    have hble : Nat.ble 1000 r = true := Nat.ble_eq_true_of_le hr
    obtain ⟨j', a1, a2⟩ := c_seek_bin hb hC r hW hr hWl p N i x4 hp j0 h0 hj0 hi m (j + 1) (by omega)
    rw [kc_46_34, if_neg (by rw [lz_le, lz_lit (by omega), lz_lit (by omega)]; omega), e1, c_byteAt hb hC (p + j) (by omega)]
    unfold lj_bi
    simp only []
    by_cases q0 : b (p + j) = 32
    · exact ⟨j, by omega, by rw [if_pos q0]⟩
    · rw [if_neg q0, hble, c_strlen σ r hW hr]
      simp only [Bool.and_true, cond_true]
      rw [e2]
      by_cases q : i + 1 + j < W.length
      · rw [if_neg (by rw [lz_le, lz_lit (by omega), lz_lit (by omega)]; omega), c_charAt σ r hW hr _ (lz_in.2 (by rw [lz_lit (by omega)]; omega)), lz_onat (by omega)]
        simp only []
        rw [c_byteAt hb hC (p + j) (by omega)]
        simp only []
        rw [lz_osucc]
        by_cases q2 : W.getD (i + 1 + j) 0 = b (p + j)
        · exact ⟨j', a1, by rw [if_pos q2, a2]⟩
        · exact ⟨j, by omega, by rw [if_neg q2]⟩
      · exact ⟨j, by omega, by rw [if_pos (by rw [lz_le, lz_lit (by omega), lz_lit (by omega)]; omega)]⟩
theorem c_seek_brow {σ : lj_S} {b : Nat → Int32} {n : Nat} (hb : tB b n) (hC : tC σ b n) (r : Nat) {W : List Int32} (hW : lj_nth lc_str (r - 1000) = some W) (hr : 1000 ≤ r) (hWl : W.length < 100000) (p N : Nat) (hp : p + N < 100000) (j0 : Nat) (h0 : j0 < N) (hj0 : b (p + j0) = 32) : ∀ (ws : List (List Int32)) (i : Nat) (x4 : Int32) (x6 : Value), W.drop i = rowt ws → (∀ w ∈ ws, (32 : Int32) ∉ w) → lj_D lc_P lc_M46 6 [.ref 4, .ref r, .int (Int32.ofNat p), .int (Int32.ofNat N), .int x4, .int (Int32.ofNat i), x6] [] σ = some (.inl (some (.int (-1))), σ)
  | [], i, x4, x6, h, _ => by
    have hlen : W.length - i = 1 := by rw [← List.length_drop, h]; rfl
    have hble : Nat.ble 1000 r = true := Nat.ble_eq_true_of_le hr
    have one : (1 : Int32).toInt = 1 := by decide
    rw [kc_46_6, hble, c_strlen σ r hW hr]
    simp only [Bool.and_true, cond_true]
    unfold lj_bi
    simp only []
    rw [if_pos (by rw [lz_le, lz_sub (by rw [lz_lit (by omega), one]; omega), lz_lit (by omega), lz_lit (by omega), one]; omega)]
  | w :: ws, i, x4, x6, h, hn => by
    have hw := hn w (List.mem_cons_self)
    obtain ⟨R, hR⟩ := rowt_head ws
    have hlen : W.length - i = 1 + (w.length + (R.length + 1)) := by rw [← List.length_drop, h]; simp [rowt, hR]; omega
    have hd : W.drop (i + 1) = w ++ rowt ws := by
      rw [← List.drop_drop, h]; rfl
    have hc : W.getD i 0 = 32 := by
      have := List.getElem?_drop (xs := W) (i := i) (j := 0)
      rw [h] at this
      simp [rowt] at this
      rw [List.getD_eq_getElem?_getD, ← this]; rfl
    have hble : Nat.ble 1000 r = true := Nat.ble_eq_true_of_le hr
    have one : (1 : Int32).toInt = 1 := by decide
    obtain ⟨j', a1, a2⟩ := c_seek_bin hb hC r hW hr hWl p N i x4 hp j0 h0 hj0 (by omega) j0 0 (by omega)
    rw [kc_46_6, hble, c_strlen σ r hW hr]
    simp only [Bool.and_true, cond_true]
    unfold lj_bi
    simp only []
    rw [if_neg (by rw [lz_le, lz_sub (by rw [lz_lit (by omega), one]; omega), lz_lit (by omega), lz_lit (by omega), one]; omega), c_charAt σ r hW hr _ (lz_in.2 (by rw [lz_lit (by omega)]; omega)), lz_onat (by omega), hc]
    simp only []
    rw [if_pos trivial]
    have z : (Value.int (0 : Int32)) = .int (Int32.ofNat 0) := rfl
    rw [z, a2, kc_46_95, if_neg (by rw [lz_eq, lz_lit (by omega), lz_lit (by omega)]; omega), kc_46_119, kc_46_122, lz_osucc, c_seek_skip r hW hr hWl _ _ _ ws _ w (i + 1) hd hw]
    refine c_seek_brow hb hC r hW hr hWl p N hp j0 h0 hj0 ws _ _ _ ?_ (fun w' h' => hn w' (List.mem_cons_of_mem _ h'))
    rw [← List.drop_drop, hd, List.drop_left]
theorem lidx_no (P : List Int32) : ∀ (ws : List (List Int32)) (k : Nat), P ∉ ws → lidx P ws k = -1
  | [], k, _ => rfl
  | w :: ws, k, h => by
    unfold lidx
    rw [if_neg (fun e => h (by rw [e]; exact List.mem_cons_self)), lidx_no P ws (k + 1) (fun z => h (List.mem_cons_of_mem _ z))]
/-- the search, whatever stands in the text -/
theorem c_seek' {σ : lj_S} {b : Nat → Int32} {n : Nat} (hb : tB b n) (hC : tC σ b n) (r : Nat) (ws : List (List Int32)) (hW : lj_nth lc_str (r - 1000) = some (rowt ws)) (hr : 1000 ≤ r) (hWl : (rowt ws).length < 100000) (hws : ∀ w ∈ ws, (32 : Int32) ∉ w) (p N : Nat) (hp : p + N < 100000) : lj_R lc_P 46 [.ref 4, .ref r, .int (Int32.ofNat p), .int (Int32.ofNat N)] σ = some (.inl (some (.int (lidx (tP b p N) ws 0))), σ) := by
  by_cases h : ∃ j, j < N ∧ b (p + j) = 32
  · obtain ⟨j0, h0, hj0⟩ := h
    rw [rc_46, kc_46_0, lidx_no _ _ _ (fun z => hws _ z (by
      simp only [tP, List.mem_map, List.mem_range]
      exact ⟨j0, h0, hj0⟩))]
    exact c_seek_brow hb hC r hW hr hWl p N hp j0 h0 hj0 ws 0 0 _ rfl hws
  · exact c_seek hb hC r ws hW hr hWl hws p N hp (fun j hj e => h ⟨j, hj, e⟩)
/-- the model's pairs of signs -/
def lpr (x y : Int32) : Int32 := if x = 61 ∧ y = 61 then 302 else if x = 126 ∧ y = 61 then 303 else if x = 60 ∧ y = 61 then 304 else if x = 62 ∧ y = 61 then 305 else if x = 60 ∧ y = 60 then 306 else if x = 62 ∧ y = 62 then 307 else if x = 47 ∧ y = 47 then 308 else if x = 46 ∧ y = 46 then 300 else 0
theorem lif2 {α : Type} {p q : Prop} [Decidable p] [Decidable q] (a c : α) : (if p then (if q then a else c) else c) = if p ∧ q then a else c := by
  by_cases h : p <;> by_cases g : q <;> simp [h, g]
theorem m_pair (τ : lj_S) (x y : Int32) : lj_R lm_P 25 [.int x, .int y] τ = some (.inl (some (.int (lpr x y))), τ) := by
  rw [rm_25, km_25_0, lif2, km_25_16, lif2, km_25_32, lif2, km_25_48, lif2, km_25_64, lif2, km_25_80, lif2, km_25_96, lif2, km_25_112, lif2, km_25_130, km_25_131, km_25_131]
  unfold lpr
  simp only [apply_ite (fun z : Int32 => (some (.inl (some (.int z)), τ) : Option lj_O))]
def lal (x : Int32) : Bool := if x = 35 then true else (if x = 36 then false else (if x = 37 then true else (if x = 38 then true else (if x = 39 then false else (if x = 40 then true else (if x = 41 then true else (if x = 42 then true else (if x = 43 then true else (if x = 44 then true else (if x = 45 then true else (if x = 46 then true else (if x = 47 then false else (if x = 48 then false else (if x = 49 then false else (if x = 50 then false else (if x = 51 then false else (if x = 52 then false else (if x = 53 then false else (if x = 54 then false else (if x = 55 then false else (if x = 56 then false else (if x = 57 then false else (if x = 58 then true else (if x = 59 then true else (if x = 60 then true else (if x = 61 then true else (if x = 62 then true else (if x = 63 then false else (if x = 64 then false else (if x = 65 then false else (if x = 66 then false else (if x = 67 then false else (if x = 68 then false else (if x = 69 then false else (if x = 70 then false else (if x = 71 then false else (if x = 72 then false else (if x = 73 then false else (if x = 74 then false else (if x = 75 then false else (if x = 76 then false else (if x = 77 then false else (if x = 78 then false else (if x = 79 then false else (if x = 80 then false else (if x = 81 then false else (if x = 82 then false else (if x = 83 then false else (if x = 84 then false else (if x = 85 then false else (if x = 86 then false else (if x = 87 then false else (if x = 88 then false else (if x = 89 then false else (if x = 90 then false else (if x = 91 then true else (if x = 92 then false else (if x = 93 then true else (if x = 94 then false else (if x = 95 then false else (if x = 96 then false else (if x = 97 then false else (if x = 98 then false else (if x = 99 then false else (if x = 100 then false else (if x = 101 then false else (if x = 102 then false else (if x = 103 then false else (if x = 104 then false else (if x = 105 then false else (if x = 106 then false else (if x = 107 then false else (if x = 108 then false else (if x = 109 then false else (if x = 110 then false else (if x = 111 then false else (if x = 112 then false else (if x = 113 then false else (if x = 114 then false else (if x = 115 then false else (if x = 116 then false else (if x = 117 then false else (if x = 118 then false else (if x = 119 then false else (if x = 120 then false else (if x = 121 then false else (if x = 122 then false else (if x = 123 then true else (if x = 124 then true else (if x = 125 then true else (if x = 126 then true else false)))))))))))))))))))))))))))))))))))))))))))))))))))))))))))))))))))))))))))))))))))))))))))
set_option maxRecDepth 4000 in
theorem m_alone (τ : lj_S) (x : Int32) : lj_R lm_P 26 [.int x] τ = some (.inl (some (.int (cond (lal x) 1 0))), τ) := by
  rw [rm_26, km_26_0]
  simp only [km_26_384, km_26_386]
  show _ = (fun z : Bool => (some (.inl (some (.int (cond z 1 0))), τ) : Option lj_O)) (lal x)
  unfold lal
  simp only [apply_ite (fun z : Bool => (some (.inl (some (.int (cond z 1 0))), τ) : Option lj_O)), cond_true, cond_false]
theorem lsg3 (x y z : Int32) : lidx [x, y, z] lsigns 0 = if lpr x y = 300 ∧ z = 46 then 11 else -1 := by
  have e : lidx [x, y, z] lsigns 0 = if x = 46 ∧ y = 46 ∧ z = 46 then 11 else -1 := by simp [lidx, lsigns]
  rw [e]
  have : lpr x y = 300 ↔ x = 46 ∧ y = 46 := by
    constructor
    · intro h
      unfold lpr at h
      repeat' split at h
      all_goals first | exact absurd h (by decide) | assumption
    · rintro ⟨rfl, rfl⟩; decide
  simp only [this, and_assoc]
theorem lsg2 (x y : Int32) : (lidx [x, y] lsigns 0 = -1 ∧ lpr x y = 0) ∨ (∃ w : Nat, w < 30 ∧ lidx [x, y] lsigns 0 = Int32.ofNat w ∧ lsgn[w]? = some (lpr x y).toInt64 ∧ 0 < lpr x y ∧ x ≠ 10 ∧ y ≠ 10 ∧ y ≠ -1) := by
  by_cases h1 : x = 61 ∧ y = 61; · obtain ⟨rfl, rfl⟩ := h1; exact Or.inr ⟨12, by decide⟩
  by_cases h2 : x = 126 ∧ y = 61; · obtain ⟨rfl, rfl⟩ := h2; exact Or.inr ⟨13, by decide⟩
  by_cases h3 : x = 60 ∧ y = 61; · obtain ⟨rfl, rfl⟩ := h3; exact Or.inr ⟨14, by decide⟩
  by_cases h4 : x = 62 ∧ y = 61; · obtain ⟨rfl, rfl⟩ := h4; exact Or.inr ⟨15, by decide⟩
  by_cases h5 : x = 60 ∧ y = 60; · obtain ⟨rfl, rfl⟩ := h5; exact Or.inr ⟨8, by decide⟩
  by_cases h6 : x = 62 ∧ y = 62; · obtain ⟨rfl, rfl⟩ := h6; exact Or.inr ⟨9, by decide⟩
  by_cases h7 : x = 47 ∧ y = 47; · obtain ⟨rfl, rfl⟩ := h7; exact Or.inr ⟨3, by decide⟩
  by_cases h8 : x = 46 ∧ y = 46; · obtain ⟨rfl, rfl⟩ := h8; exact Or.inr ⟨10, by decide⟩
  refine Or.inl ⟨lidx_no _ _ _ (fun z => ?_), by unfold lpr; simp only [h1, h2, h3, h4, h5, h6, h7, h8, if_false]⟩
  simp only [lsigns, List.mem_cons, List.cons.injEq, and_true, List.not_mem_nil, or_false, reduceCtorEq, and_false, false_or] at z
  rcases z with z | z | z | z | z | z | z | z
  · exact h7 z
  · exact h5 z
  · exact h6 z
  · exact h8 z
  · exact h1 z
  · exact h2 z
  · exact h3 z
  · exact h4 z
set_option maxRecDepth 20000 in
theorem lsg1' : ∀ j : Fin 256, (lidx [Int32.ofNat j.val] lsigns 0 = -1 ∧ lal (Int32.ofNat j.val) = false) ∨ (∃ w : Fin 30, lidx [Int32.ofNat j.val] lsigns 0 = Int32.ofNat w.val ∧ lsgn[w.val]? = some (Int32.ofNat j.val).toInt64 ∧ lal (Int32.ofNat j.val) = true ∧ Int32.ofNat j.val ≠ 10) := by decide +kernel
theorem lsg1 (x : Int32) (h : 0 ≤ x.toInt ∧ x.toInt ≤ 255) : (lidx [x] lsigns 0 = -1 ∧ lal x = false) ∨ (∃ w : Nat, w < 30 ∧ lidx [x] lsigns 0 = Int32.ofNat w ∧ lsgn[w]? = some x.toInt64 ∧ lal x = true ∧ x ≠ 10) := by
  have := lsg1' ⟨x.toInt.toNat, by omega⟩
  rw [lz_back x h.1] at this
  rcases this with a | ⟨w, a⟩
  · exact Or.inl a
  · exact Or.inr ⟨w.val, w.isLt, a⟩
theorem cTok_42 (σ : lj_S) (T : Nat) (kd : Int32) (v : Int64) (p : Nat) : (cTok σ T kd v p).1 4 2 = σ.1 4 2 := by
  unfold cTok
  rw [lj_put_1, if_neg (by omega), lj_put_1, if_neg (by omega), lj_put_1, if_neg (by omega), lj_putL_1, lj_put_1, if_neg (by omega)]
theorem l_w4 : ∀ w : Fin 30, (40 : Int32) + Int32.ofNat w.val = Int32.ofNat (40 + w.val) ∧ ¬ Int32.ofNat w.val < 0 := by decide
theorem cm_readSign {b : Nat → Int32} {n : Nat} (hb : tB b n) (σ τ : lj_S) (hC : tC σ b n) (hM : tM τ b n) (X : List Int32 → Prop) (h : sR σ τ X) (T : Nat) (hT : lv σ 4 4 = (T : Int)) (hT2 : T < 1502) (k : Nat) (hk : k < n) :
    rdR b n X σ τ T k (lj_R lc_P 51 [.ref 4] (cAt σ b k)) (lj_R lm_P 24 [.ref 0, .int (Int32.ofNat k)] τ) := by
  have hn := hb.1
  have hCk := tC_at hC k
  have three : (3 : Int32).toInt = 3 := by decide
  have oadd : ∀ N : Nat, Int32.ofNat k + Int32.ofNat N = Int32.ofNat (k + N) := fun N => (Int32.ofNat_add k N).symm
  have t1 : tP b k 1 = [b k] := rfl
  have t2 : tP b k 2 = [b k, b (k + 1)] := rfl
  have t3 : tP b k 3 = [b k, b (k + 1), b (k + 2)] := rfl
  have hT' : lv (cAt σ b k) 4 4 = (T : Int) := by unfold lv; rw [cAt_o _ _ _ (by omega)]; exact hT
  -- the component's loop
  have lp : ∀ (N : Nat) (x2 : Value), 0 < N → N ≤ 3 → lj_D lc_P lc_M51 14 [.ref 4, .int (Int32.ofNat N), x2] [] (cAt σ b k) = if lidx (tP b k N) lsigns 0 < 0 then lj_D lc_P lc_M51 14 [.ref 4, .int (Int32.ofNat (N - 1)), .int (lidx (tP b k N) lsigns 0)] [] (cAt σ b k) else some (.inl (some (.int 1)), lj_put (cTok (cAt σ b k) T (40 + lidx (tP b k N) lsigns 0) 0 k) 4 2 (Int32.ofNat (k + N))) := by
    intro N x2 h0 h3
    have e : Int32.ofNat N + (-1) = Int32.ofNat (N - 1) := by
      apply lz_ext; rw [lz_add (by rw [lz_lit (by omega), lz_m1]; omega), lz_lit (by omega), lz_lit (by omega), lz_m1]; omega
    rw [kc_51_14, if_neg (by rw [lz_le, lz_lit (by omega)]; show ¬ ((N : Int) ≤ 0); omega), cAt_2, c_seek' hb hCk 1001 lsigns lsigns_row (by omega) (by decide) lsigns_ok k N (by omega)]
    unfold lj_bi
    simp only []
    rw [e, cAt_2, c_put (cAt σ b k) T hT' hT2]
    unfold lj_bv
    simp only []
    rw [cTok_42, cAt_2, oadd]
  have l0 : ∀ x2 : Value, lj_D lc_P lc_M51 14 [.ref 4, .int (Int32.ofNat (1 - 1)), x2] [] (cAt σ b k) = some (.inl (some (.int 0)), cAt σ b k) := fun x2 => by
    rw [kc_51_14, if_pos (by decide)]
  have eC : lj_R lc_P 51 [.ref 4] (cAt σ b k) = if lidx [b k, b (k + 1), b (k + 2)] lsigns 0 < 0 then (if lidx [b k, b (k + 1)] lsigns 0 < 0 then (if lidx [b k] lsigns 0 < 0 then some (.inl (some (.int 0)), cAt σ b k) else some (.inl (some (.int 1)), lj_put (cTok (cAt σ b k) T (40 + lidx [b k] lsigns 0) 0 k) 4 2 (Int32.ofNat (k + 1)))) else some (.inl (some (.int 1)), lj_put (cTok (cAt σ b k) T (40 + lidx [b k, b (k + 1)] lsigns 0) 0 k) 4 2 (Int32.ofNat (k + 2)))) else some (.inl (some (.int 1)), lj_put (cTok (cAt σ b k) T (40 + lidx [b k, b (k + 1), b (k + 2)] lsigns 0) 0 k) 4 2 (Int32.ofNat (k + 3))) := by
    have e41 : (cAt σ b k).1 4 1 = Int32.ofNat n := lz_ext (by rw [lv_def, hCk.1, lz_lit (by omega)])
    rw [rc_51, kc_51_0, cAt_2, e41, lz_osub (by omega) (by omega), rc_222, kc_222_0]
    by_cases q : n - k < 3
    · rw [if_pos (by rw [lz_lt, lz_lit (by omega), three]; omega), kc_222_10]
      unfold lj_bi
      simp only []
      by_cases q1 : n - k = 1
      · have ey : b (k + 1) = -1 := hb.2.2 _ (by omega)
        have e2 : lidx [b k, b (k + 1)] lsigns 0 = -1 := by
          rcases lsg2 (b k) (b (k + 1)) with z | ⟨w, z⟩
          · exact z.1
          · exact absurd ey z.2.2.2.2.2.2
        have e3 : lidx [b k, b (k + 1), b (k + 2)] lsigns 0 = -1 := by
          rw [lsg3, if_neg (fun z => ?_)]
          rcases lsg2 (b k) (b (k + 1)) with z' | ⟨w, z'⟩
          · rw [z'.2] at z; exact absurd z.1 (by decide)
          · exact z'.2.2.2.2.2.2 ey
        rw [q1, lp 1 _ (by omega) (by omega), l0, e2, e3, if_pos (show (-1 : Int32) < 0 by decide), if_pos (show (-1 : Int32) < 0 by decide)]
        rfl
      · have ez : b (k + 2) = -1 := hb.2.2 _ (by omega)
        have e3 : lidx [b k, b (k + 1), b (k + 2)] lsigns 0 = -1 := by
          rw [lsg3, if_neg (fun z => by rw [ez] at z; exact absurd z.2 (by decide))]
        rw [show n - k = 2 by omega, lp 2 _ (by omega) (by omega), show 2 - 1 = 1 from rfl, lp 1 _ (by omega) (by omega), l0, e3, if_pos (show (-1 : Int32) < 0 by decide), t1, t2]
    · rw [if_neg (by rw [lz_lt, lz_lit (by omega), three]; omega), kc_222_10]
      unfold lj_bi
      simp only []
      rw [show (3 : Int32) = Int32.ofNat 3 from rfl, lp 3 _ (by omega) (by omega), show 3 - 1 = 2 from rfl, lp 2 _ (by omega) (by omega), show 2 - 1 = 1 from rfl, lp 1 _ (by omega) (by omega), l0, t1, t2, t3]
  -- the model
  have hM5 : tM (lj_put τ 0 67 5) b n := ⟨by rw [lv_put, if_neg (by omega)]; exact hM.1, fun i hi => by rw [lj_put_1, if_neg (by omega)]; exact hM.2 i hi⟩
  have k59 : lj_D lm_P lm_M24 59 [.ref 0, .int (Int32.ofNat k), .int (b k), .int (lpr (b k) (b (k + 1)))] [] (lj_put τ 0 67 5) = if lpr (b k) (b (k + 1)) ≤ 0 then some (.inl none, lj_put (lj_putL (lj_put τ 0 67 (cond (lal (b k)) 5 7)) 0 68 (b k).toInt64) 0 69 (Int32.ofNat (k + 1))) else some (.inl none, lj_put (lj_putL (lj_put τ 0 67 5) 0 68 (lpr (b k) (b (k + 1))).toInt64) 0 69 (Int32.ofNat (k + 2))) := by
    rw [km_24_59, m_alone]
    unfold lj_bi
    simp only [km_24_93, km_24_109, lj_put_put, lz_osucc]
    rw [show Int32.ofNat k + 2 = Int32.ofNat (k + 2) from oadd 2]
    cases lal (b k)
    · rfl
    · rfl
  have eM : lj_R lm_P 24 [.ref 0, .int (Int32.ofNat k)] τ = if lpr (b k) (b (k + 1)) = 300 ∧ b (k + 2) = 46 then some (.inl none, lj_put (lj_putL (lj_put τ 0 67 5) 0 68 301) 0 69 (Int32.ofNat (k + 3))) else if lpr (b k) (b (k + 1)) ≤ 0 then some (.inl none, lj_put (lj_putL (lj_put τ 0 67 (cond (lal (b k)) 5 7)) 0 68 (b k).toInt64) 0 69 (Int32.ofNat (k + 1))) else some (.inl none, lj_put (lj_putL (lj_put τ 0 67 5) 0 68 (lpr (b k) (b (k + 1))).toInt64) 0 69 (Int32.ofNat (k + 2))) := by
    rw [rm_24, km_24_0, m_at hb hM k (by omega)]
    unfold lj_bi
    simp only []
    rw [lz_osucc, m_at hb hM (k + 1) (by omega)]
    simp only []
    rw [m_pair]
    simp only []
    rw [show Int32.ofNat k + 2 = Int32.ofNat (k + 2) from oadd 2, show Int32.ofNat k + 3 = Int32.ofNat (k + 3) from oadd 3, m_at hb hM5 (k + 2) (by omega)]
    simp only [km_24_109]
    rw [lif2, k59]
  -- a sign of both
  have good : ∀ (w N : Nat) (vm : Int64), w < 30 → 0 < N → k + N ≤ n → (∀ i, k ≤ i → i < k + N → b i ≠ 10) → lsgn[w]? = some vm → rdR b n X σ τ T k (some (.inl (some (.int 1)), lj_put (cTok (cAt σ b k) T (40 + Int32.ofNat w) 0 k) 4 2 (Int32.ofNat (k + N)))) (some (.inl none, lj_put (lj_putL (lj_put τ 0 67 5) 0 68 vm) 0 69 (Int32.ofNat (k + N)))) := by
    intro w N vm h1 h2 h3 h4 h5
    have fM : lf mDx τ (lj_put (lj_putL (lj_put τ 0 67 5) 0 68 vm) 0 69 (Int32.ofNat (k + N))) := lf_put (lf_putL (lf_put (lf_rf _ _) _ _ _ rfl) _ _ _ rfl) _ _ _ rfl
    obtain ⟨hR, hG⟩ := sR_dx h (lf_rf cDx σ) fM
    have w14 := fM.v (k := 0) (j := 14) rfl
    have w8 := fM.v (k := 0) (j := 8) rfl
    refine ⟨σ, _, lf_rf _ _, lf_put (lf_putL (lf_put (lf_rf _ _) _ _ _ rfl) _ _ _ rfl) _ _ _ rfl, hR, hG, by omega, by omega, by omega, by omega, rfl, Or.inl ⟨k + N, Int32.ofNat (40 + w), 0, by omega, h3, tN_eq' (by omega) h4, by omega, by omega, ?_, ?_, Or.inr (Or.inl ⟨w, h1, rfl, ?_, ?_⟩)⟩⟩
    · rw [(l_w4 ⟨w, h1⟩).1]
    · rw [lj_put_1, if_pos ⟨rfl, rfl⟩]
    · rw [lj_put_1, if_neg (by omega), lj_putL_1, lj_put_1, if_pos ⟨rfl, rfl⟩]
    · rw [lj_put_2, lj_putL_2, if_pos ⟨rfl, rfl⟩]; exact h5
  rw [eC, eM, lsg3]
  have nn : ¬ ((11 : Int32) < 0) := by decide
  have mn : (-1 : Int32) < 0 := by decide
  by_cases c3 : lpr (b k) (b (k + 1)) = 300 ∧ b (k + 2) = 46
  · rw [if_pos c3, if_neg nn, if_pos c3]
    have hz : k + 2 < n := by
      rcases Nat.lt_or_ge (k + 2) n with z | z
      · exact z
      · have := hb.2.2 _ z; rw [c3.2] at this; exact absurd this (by decide)
    have hxy : b k ≠ 10 ∧ b (k + 1) ≠ 10 := by
      rcases lsg2 (b k) (b (k + 1)) with z | ⟨w, z⟩
      · rw [z.2] at c3; exact absurd c3.1 (by decide)
      · exact ⟨z.2.2.2.2.1, z.2.2.2.2.2.1⟩
    refine good 11 3 301 (by omega) (by omega) (by omega) (fun i x y => ?_) rfl
    rcases (by omega : i = k ∨ i = k + 1 ∨ i = k + 2) with e | e | e
    · rw [e]; exact hxy.1
    · rw [e]; exact hxy.2
    · rw [e, c3.2]; decide
  · rw [if_neg c3, if_pos mn, if_neg c3]
    rcases lsg2 (b k) (b (k + 1)) with z | ⟨w, z1, z2, z3, z4, z5, z6, z7⟩
    · rw [z.1, z.2, if_pos mn, if_pos (show (0 : Int32) ≤ 0 by decide)]
      rcases lsg1 (b k) (hb.2.1 k hk) with y | ⟨w, y1, y2, y3, y4, y5⟩
      · rw [y.1, y.2, if_pos mn]
        have fM : lf mDx τ (lj_put (lj_putL (lj_put τ 0 67 7) 0 68 (b k).toInt64) 0 69 (Int32.ofNat (k + 1))) := lf_put (lf_putL (lf_put (lf_rf _ _) _ _ _ rfl) _ _ _ rfl) _ _ _ rfl
        obtain ⟨hR, hG⟩ := sR_dx h (lf_rf cDx σ) fM
        have w14 := fM.v (k := 0) (j := 14) rfl
        have w8 := fM.v (k := 0) (j := 8) rfl
        exact ⟨σ, _, lf_rf _ _, lf_put (lf_putL (lf_put (lf_rf _ _) _ _ _ rfl) _ _ _ rfl) _ _ _ rfl, hR, hG, by omega, by omega, by omega, by omega, rfl, Or.inr ⟨rfl, by rw [lj_put_1, if_neg (by omega), lj_putL_1, lj_put_1, if_pos ⟨rfl, rfl⟩]⟩⟩
      · rw [y2, y4, if_neg (l_w4 ⟨w, y1⟩).2]
        exact good w 1 _ y1 (by omega) (by omega) (fun i x y => by rw [show i = k by omega]; exact y5) y3
    · rw [z2, if_neg (l_w4 ⟨w, z1⟩).2, if_neg (by rw [lz_le]; rw [lz_lt] at z4; omega)]
      have hy : k + 1 < n := by
        rcases Nat.lt_or_ge (k + 1) n with q | q
        · exact q
        · exact absurd (hb.2.2 _ q) z7
      refine good w 2 _ z1 (by omega) (by omega) (fun i x y => ?_) z3
      rcases (by omega : i = k ∨ i = k + 1) with e | e
      · rw [e]; exact z5
      · rw [e]; exact z6
