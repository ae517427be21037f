/-! texts of values; errors -/
/-- behind so many blanks; up to the next one -/
def skW : Nat → List Int32 → List Int32
  | 0, l => l
  | _ + 1, [] => []
  | k + 1, x :: l => if x = 32 then skW k l else skW (k + 1) l
def nB : List Int32 → Nat
  | [] => 0
  | x :: l => (if x = 32 then 1 else 0) + nB l
def tkW : List Int32 → List Int32
  | [] => []
  | x :: l => if x = 32 then [] else x :: tkW l
/-- the names of what is built in -/
def nW : List Int32 := (lj_nth lc_str 2).getD []
def nmW (b : Nat) : List Int32 := tkW (skW (b + 1) nW)
set_option maxRecDepth 100000 in
theorem nW_ok : lj_nth lc_str 2 = some nW ∧ nW.length < 1000 ∧ (∀ x ∈ nW, lz_by x = x) ∧ (∀ b, b < 32 → b + 1 ≤ nB nW ∧ 32 ∈ skW (b + 1) nW) := by decide +kernel
theorem c_wordOf_a (σ : lj_S) {r : Nat} {W : List Int32} (h : lj_nth lc_str (r - 1000) = some W) (hr : 1000 ≤ r) (hW : W.length < 1000) (b : Nat) (hb : b < 1000) : ∀ (l : List Int32) (i n : Nat), i + l.length = W.length → W.drop i = l → n ≤ b + 1 → b + 1 - n ≤ nB l →
    ∃ i' n', lj_D lc_P lc_M125 5 [.ref 8, .ref r, .int (Int32.ofNat b), .int (Int32.ofNat i), .int (Int32.ofNat n)] [] σ = lj_D lc_P lc_M125 37 [.ref 8, .ref r, .int (Int32.ofNat b), .int (Int32.ofNat i'), .int n'] [] σ ∧ W.drop i' = skW (b + 1 - n) l ∧ i' ≤ W.length
  | [], i, n, hi, hd, hn, hc => by
    have hc : b + 1 - n ≤ 0 := hc
    have e : n = b + 1 := by omega
    refine ⟨i, Int32.ofNat n, ?_, ?_, by rw [List.length_nil] at hi; omega⟩
    · rw [kc_125_5, if_pos (by rw [lz_lt, lz_lit (by omega), lz_lit (by omega)]; omega)]
    · rw [hd, e, show b + 1 - (b + 1) = 0 by omega]; rfl
  | x :: l, i, n, hi, hd, hn, hc => by
    rw [List.length_cons] at hi
    by_cases e : n = b + 1
    · refine ⟨i, Int32.ofNat n, ?_, ?_, by omega⟩
      · rw [kc_125_5, if_pos (by rw [lz_lt, lz_lit (by omega), lz_lit (by omega)]; omega)]
      · rw [hd, e, show b + 1 - (b + 1) = 0 by omega]; rfl
    · have hx : W.getD i 0 = x ∧ W.drop (i + 1) = l := by
        have h0 := List.drop_eq_getElem_cons (show i < W.length by omega)
        rw [hd] at h0
        injection h0 with h1 h2
        exact ⟨by rw [h1]; simp [show i < W.length by omega], h2.symm⟩
      have st : lj_D lc_P lc_M125 5 [.ref 8, .ref r, .int (Int32.ofNat b), .int (Int32.ofNat i), .int (Int32.ofNat n)] [] σ = lj_D lc_P lc_M125 5 [.ref 8, .ref r, .int (Int32.ofNat b), .int (Int32.ofNat (i + 1)), .int (Int32.ofNat (n + if x = 32 then 1 else 0))] [] σ := by
        rw [kc_125_5, if_neg (by rw [lz_lt, lz_lit (by omega), lz_lit (by omega)]; omega), show Nat.ble 1000 r = true from Nat.ble_eq_true_of_le hr, c_charAt σ r h hr _ (ofN_in (by omega) (by omega)), lz_onat (by omega), hx.1]
        simp only [Bool.and_true, cond_true, bi_ok]
        by_cases w : x = 32
        · rw [if_pos w, kc_125_28, lz_osucc, if_pos w, lz_osucc]
        · rw [if_neg w, kc_125_28, lz_osucc, if_neg w, Int32.add_zero]
          rfl
      have hc : b + 1 - n ≤ (if x = 32 then 1 else 0) + nB l := hc
      obtain ⟨i', n', a1, a2, a3⟩ := c_wordOf_a σ h hr hW b hb l (i + 1) (n + if x = 32 then 1 else 0) (by omega) hx.2 (by split <;> omega) (by split at hc <;> split <;> omega)
      refine ⟨i', n', st.trans a1, ?_, a3⟩
      rw [a2]
      obtain ⟨k, hk⟩ : ∃ k, b + 1 - n = k + 1 := ⟨b - n, by omega⟩
      rw [hk]
      show _ = if x = 32 then skW k l else skW (k + 1) l
      by_cases w : x = 32
      · rw [if_pos w, if_pos w, show b + 1 - (n + 1) = k by omega]
      · rw [if_neg w, if_neg w, show b + 1 - (n + 0) = k + 1 by omega]
theorem c_wordOf_b {r : Nat} {W : List Int32} (h : lj_nth lc_str (r - 1000) = some W) (hr : 1000 ≤ r) (hW : W.length < 1000) (hB : ∀ x ∈ W, lz_by x = x) (x2 x4 : Int32) : ∀ (l : List Int32) (i : Nat) (σ : lj_S) (D : List Int32), W.drop i = l → 32 ∈ l → cDr σ D → D.length + l.length < 900000 →
    ∃ σ', lj_D lc_P lc_M125 37 [.ref 8, .ref r, .int x2, .int (Int32.ofNat i), .int x4] [] σ = some (.inl none, σ') ∧ cDr σ' (D ++ tkW l) ∧ lf cAd σ σ'
  | [], i, σ, D, _, hm, _, _ => by cases hm
  | x :: l, i, σ, D, hd, hm, hD, hl => by
    have hi : i < W.length := by
      have := congrArg List.length hd
      rw [List.length_drop, List.length_cons] at this
      omega
    rw [List.length_cons] at hl
    have hx : W.getD i 0 = x ∧ W.drop (i + 1) = l := by
      have h0 := List.drop_eq_getElem_cons hi
      rw [hd] at h0
      injection h0 with h1 h2
      exact ⟨by rw [h1]; simp [hi], h2.symm⟩
    have bx : lz_by x = x := hB x (by rw [← hx.1]; simp [hi])
    have ch := c_charAt σ r h hr (Int32.ofNat i) (ofN_in hi (by omega))
    rw [lz_onat (by omega), hx.1] at ch
    by_cases w : x = 32
    · refine ⟨σ, ?_, ?_, lf_rf _ _⟩
      · rw [kc_125_37, show Nat.ble 1000 r = true from Nat.ble_eq_true_of_le hr, ch]
        simp only [Bool.and_true, cond_true, bi_ok]
        rw [if_pos w]
      · show cDr σ (D ++ if x = 32 then [] else x :: tkW l)
        rw [if_pos w, List.append_nil]; exact hD
    · obtain ⟨σ1, a1, a2, a3⟩ := c_add σ x hD (by omega)
      obtain ⟨σ2, b1, b2, b3⟩ := c_wordOf_b h hr hW hB x2 x4 l (i + 1) σ1 _ hx.2 ((List.mem_cons.1 hm).resolve_left (fun e => w e.symm)) a2 (by rw [List.length_append]; simp; omega)
      refine ⟨σ2, ?_, ?_, a3.tr b3⟩
      · rw [kc_125_37, show Nat.ble 1000 r = true from Nat.ble_eq_true_of_le hr, ch]
        simp only [Bool.and_true, cond_true, bi_ok]
        rw [if_neg w, ch]
        simp only [bi_ok]
        rw [a1, bv_ok, lz_osucc]
        exact b1
      · show cDr σ2 (D ++ if x = 32 then [] else x :: tkW l)
        rw [if_neg w]
        rw [bx, List.append_assoc] at b2
        exact b2
/-- the name of what is built in -/
theorem c_nameOf (σ : lj_S) {b : Nat} (hb : b < 32) {D : List Int32} (hD : cDr σ D) (hl : D.length < 800000) : ∃ σ', lj_R lc_P 125 [.ref 8, .ref 1002, .int (Int32.ofNat b)] σ = some (.inl none, σ') ∧ cDr σ' (D ++ nmW b) ∧ lf cAd σ σ' := by
  obtain ⟨n1, n2, n3, n4⟩ := nW_ok
  obtain ⟨q1, q2⟩ := n4 b hb
  obtain ⟨i', n', a1, a2, a3⟩ := c_wordOf_a σ (r := 1002) n1 (by decide) n2 b (by omega) nW 0 0 (Nat.zero_add _) rfl (by omega) (by omega)
  rw [Nat.sub_zero] at a2
  obtain ⟨σ', b1, b2, b3⟩ := c_wordOf_b (r := 1002) n1 (by decide) n2 n3 (Int32.ofNat b) n' _ i' σ D a2 q2 hD (by have := congrArg List.length a2; rw [List.length_drop] at this; omega)
  refine ⟨σ', ?_, b2, b3⟩
  rw [rc_125, kc_125_0]
  exact a1.trans b1
def mnW (b : Nat) : List Int32 := if b < 17 then mBw (37 + b) else if b < 22 then mBw 54 ++ ([46] ++ mBw (57 + b - 17)) else if b < 26 then mBw 55 ++ ([46] ++ mBw (62 + b - 22)) else if b < 31 then mBw 56 ++ ([46] ++ mBw (if b = 26 then 29 else if b = 30 then 31 else 66 + b - 27)) else mBw 43
set_option maxRecDepth 100000 in
theorem nm_eq : ∀ b, b < 32 → nmW b = mnW b ∧ (nmW b).length ≤ 20 := by decide +kernel
set_option maxRecDepth 100000 in
theorem mB_len : ∀ s, s < 69 → (mBw s).length ≤ 20 := by decide +kernel
theorem m_copyB {σ τ : lj_S} (h : sM σ τ) {s : Nat} (hs : s < 69) {D : List Int32} (hD : mDr τ D) (hl : D.length + 20 ≤ 4200) : ∃ τ', lj_R lm_P 137 [.ref 0, .int (Int32.ofNat s)] τ = some (.inl none, τ') ∧ mDr τ' (D ++ mBw s) ∧ lf mAd τ τ' := by
  have e := h.2.2.2.2.2.2 s hs
  have h6 := h.2.2.2.2.2.1
  have := m_copyString τ h.1.2.1 (s := s) (by omega) hD (by rw [e]; have := mB_len s hs; omega)
  rw [e] at this
  exact this
theorem m_dg (τ : lj_S) (x : Int32) (hx : lz_by x = x) {D : List Int32} (hD : mDr τ D) (hl : D.length + 1 ≤ 4200) : ∃ τ', lj_R lm_P 134 [.ref 0, .int x] τ = some (.inl none, τ') ∧ mDr τ' (D ++ [x]) ∧ lf mAd τ τ' := by
  have := mDr_dig hD (by omega) x
  rw [hx] at this
  exact ⟨_, m_digit τ x hD (by omega), this.1, this.2.1⟩
theorem ofN_le {a b : Nat} (ha : a < 2147483648) (hb : b < 2147483648) : Int32.ofNat a ≤ Int32.ofNat b ↔ a ≤ b := by
  rw [lz_le, lz_lit ha, lz_lit hb]; omega
/-- a name with a dot -/
theorem m_dotted {σ τ : lj_S} (h : sM σ τ) {s t : Nat} (hs : s < 69) (ht : t < 69) {D : List Int32} (hD : mDr τ D) (hl : D.length + 41 ≤ 4200) : ∃ τ1 τ2 τ3, lj_R lm_P 137 [.ref 0, .int (Int32.ofNat s)] τ = some (.inl none, τ1) ∧ lj_R lm_P 134 [.ref 0, .int 46] τ1 = some (.inl none, τ2) ∧ lj_R lm_P 137 [.ref 0, .int (Int32.ofNat t)] τ2 = some (.inl none, τ3) ∧ mDr τ3 (D ++ (mBw s ++ ([46] ++ mBw t))) ∧ lf mAd τ τ3 := by
  have l1 := mB_len s hs
  obtain ⟨τ1, a1, a2, a3⟩ := m_copyB h hs hD (by omega)
  obtain ⟨τ2, b1, b2, b3⟩ := m_dg τ1 46 (by decide) a2 (by rw [List.length_append]; omega)
  obtain ⟨τ3, c1, c2, c3⟩ := m_copyB (h.dr (lf_rf cAd σ) (a3.tr b3)) ht b2 (by rw [List.length_append, List.length_append]; simp; omega)
  refine ⟨τ1, τ2, τ3, a1, b1, c1, ?_, a3.tr (b3.tr c3)⟩
  rw [List.append_assoc, List.append_assoc] at c2
  exact c2
theorem m_nameOf {σ τ : lj_S} (h : sM σ τ) {b : Nat} (hb : b < 32) {D : List Int32} (hD : mDr τ D) (hl : D.length + 41 ≤ 4200) : ∃ τ', lj_R lm_P 164 [.ref 0, .int (Int32.ofNat b)] τ = some (.inl none, τ') ∧ mDr τ' (D ++ mnW b) ∧ lf mAd τ τ' := by
  have c17 : ((17 : Int32) ≤ Int32.ofNat b) ↔ 17 ≤ b := ofN_le (a := 17) (by omega) (by omega)
  have c22 : ((22 : Int32) ≤ Int32.ofNat b) ↔ 22 ≤ b := ofN_le (a := 22) (by omega) (by omega)
  have c26 : ((26 : Int32) ≤ Int32.ofNat b) ↔ 26 ≤ b := ofN_le (a := 26) (by omega) (by omega)
  have c31 : ((31 : Int32) ≤ Int32.ofNat b) ↔ 31 ≤ b := ofN_le (a := 31) (by omega) (by omega)
  have ad : ∀ n : Nat, n < 100 → Int32.ofNat n + Int32.ofNat b = Int32.ofNat (n + b) := fun n _ => (Int32.ofNat_add n b).symm
  have sb : ∀ n m : Nat, n ≤ m → m < 200 → Int32.ofNat m - Int32.ofNat n = Int32.ofNat (m - n) := fun n m h1 h2 => lz_ext (by rw [lz_sub (by rw [lz_lit (by omega), lz_lit (by omega)]; omega), lz_lit (by omega), lz_lit (by omega), lz_lit (by omega)]; omega)
  unfold mnW
  rw [rm_164, km_164_0]
  by_cases w17 : b < 17
  · rw [if_neg (by rw [c17]; omega), if_pos w17]
    obtain ⟨τ', a1, a2, a3⟩ := m_copyB h (s := 37 + b) (by omega) hD (by omega)
    refine ⟨τ', ?_, a2, a3⟩
    rw [show (37 : Int32) = Int32.ofNat 37 from rfl, ad 37 (by decide), a1, bv_ok, km_164_141]
  rw [if_pos (by rw [c17]; omega), if_neg w17]
  by_cases w22 : b < 22
  · rw [if_neg (by rw [c22]; omega), if_pos w22]
    obtain ⟨τ1, τ2, τ3, a1, a2, a3, a4, a5⟩ := m_dotted h (s := 54) (t := 57 + b - 17) (by decide) (by omega) hD hl
    refine ⟨τ3, ?_, a4, a5⟩
    rw [show (57 : Int32) = Int32.ofNat 57 from rfl, ad 57 (by decide), show (17 : Int32) = Int32.ofNat 17 from rfl, sb 17 (57 + b) (by omega) (by omega), show (54 : Int32) = Int32.ofNat 54 from rfl, a1, bv_ok, a2, bv_ok, a3, bv_ok, km_164_141]
  rw [if_pos (by rw [c22]; omega), if_neg w22]
  by_cases w26 : b < 26
  · rw [if_neg (by rw [c26]; omega), if_pos w26]
    obtain ⟨τ1, τ2, τ3, a1, a2, a3, a4, a5⟩ := m_dotted h (s := 55) (t := 62 + b - 22) (by decide) (by omega) hD hl
    refine ⟨τ3, ?_, a4, a5⟩
    rw [show (62 : Int32) = Int32.ofNat 62 from rfl, ad 62 (by decide), show (22 : Int32) = Int32.ofNat 22 from rfl, sb 22 (62 + b) (by omega) (by omega), show (55 : Int32) = Int32.ofNat 55 from rfl, a1, bv_ok, a2, bv_ok, a3, bv_ok, km_164_141]
  rw [if_pos (by rw [c26]; omega), if_neg w26]
  by_cases w31 : b < 31
  · rw [if_neg (by rw [c31]; omega), if_pos w31]
    have e26 : (Int32.ofNat b = 26) ↔ b = 26 := ofN_eq (c := 26) (by omega) (by omega)
    have e30 : (Int32.ofNat b = 30) ↔ b = 30 := ofN_eq (c := 30) (by omega) (by omega)
    obtain ⟨τ1, τ2, τ3, a1, a2, a3, a4, a5⟩ := m_dotted h (s := 56) (t := if b = 26 then 29 else if b = 30 then 31 else 66 + b - 27) (by decide) (by split <;> (try split) <;> omega) hD hl
    refine ⟨τ3, ?_, a4, a5⟩
    rw [show (56 : Int32) = Int32.ofNat 56 from rfl, a1, bv_ok, a2, bv_ok]
    by_cases x26 : b = 26
    · rw [if_pos (e26.2 x26), km_164_129]
      rw [if_pos x26] at a3
      rw [show (29 : Int32) = Int32.ofNat 29 from rfl, a3, bv_ok, km_164_141]
    · rw [if_neg (fun w => x26 (e26.1 w))]
      rw [if_neg x26] at a3
      by_cases x30 : b = 30
      · rw [if_pos (e30.2 x30), km_164_129]
        rw [if_pos x30] at a3
        rw [show (31 : Int32) = Int32.ofNat 31 from rfl, a3, bv_ok, km_164_141]
      · rw [if_neg (fun w => x30 (e30.1 w)), km_164_129]
        rw [if_neg x30] at a3
        rw [show (66 : Int32) = Int32.ofNat 66 from rfl, ad 66 (by decide), show (27 : Int32) = Int32.ofNat 27 from rfl, sb 27 (66 + b) (by omega) (by omega), a3, bv_ok, km_164_141]
  · rw [if_pos (by rw [c31]; omega), if_neg w31]
    obtain ⟨τ', a1, a2, a3⟩ := m_copyB h (s := 43) (by decide) hD (by omega)
    refine ⟨τ', ?_, a2, a3⟩
    rw [show (43 : Int32) = Int32.ofNat 43 from rfl, a1, bv_ok, km_164_141]
/-- the type of a value -/
theorem m_type {σ τ : lj_S} (h : sM σ τ) {a b : vT} (hab : vR σ τ a b) {D : List Int32} (hD : mDr τ D) (hl : D.length + 20 ≤ 4200) : ∃ k, k < 7 ∧ a.1 = Int32.ofNat k ∧ ∃ y τ', lj_R lm_P 136 [.int b.1] τ = some (.inl (some (.int y)), τ) ∧ lj_R lm_P 137 [.ref 0, .int y] τ = some (.inl none, τ') ∧ mDr τ' (D ++ cW (1014 + k)) ∧ lf mAd τ τ' := by
  obtain ⟨h1, h2⟩ := hab.k
  have hk : ∃ k : Nat, k < 7 ∧ a.1 = Int32.ofNat k := by
    rcases h2 with e | e | e | e | e | e | e
    · exact ⟨0, by decide, e⟩
    · exact ⟨1, by decide, e⟩
    · exact ⟨2, by decide, e⟩
    · exact ⟨3, by decide, e⟩
    · exact ⟨4, by decide, e⟩
    · exact ⟨5, by decide, e⟩
    · exact ⟨6, by decide, e⟩
  obtain ⟨k, hk7, hk⟩ := hk
  obtain ⟨τ', a1, a2, a3⟩ := m_copyB h (s := 22 + k) (by omega) hD hl
  rw [ty_eq k hk7] at a2
  refine ⟨k, hk7, hk, Int32.ofNat (22 + k), τ', ?_, a1, a2, a3⟩
  rw [rm_136, km_136_0]
  have e : ∀ x : Int32, x = Int32.ofNat k → lj_D lm_P lm_M136 13 [.int b.1] [.int x, .int 22] τ = some (.inl (some (.int (Int32.ofNat (22 + k)))), τ) := fun x hx => by
    rw [km_136_13, hx, show (22 : Int32) = Int32.ofNat 22 from rfl, ← Int32.ofNat_add]
  rcases h1 with w | ⟨w1, w2⟩
  · have n7 : ¬ (b.1 = 7) := fun z => by
      rw [w, hk] at z
      have := (ofN_eq (c := 7) (by omega) (by omega)).1 z
      omega
    rw [if_neg n7]
    exact e _ (by rw [w, hk])
  · rw [if_pos w2]
    exact e _ (by rw [← w1, hk])
theorem cm_text {σ τ : lj_S} {D : List Int32} (hs : sM σ τ) (hC : cDr σ D) (hM : mDr τ D) (hl : D.length ≤ 3000) {a b : vT} (hab : vR σ τ a b) :
    ∃ T σ' τ', T.length ≤ 1000 ∧ lj_R lc_P 162 [.ref 8, .int a.1, .long a.2] σ = some (.inl none, σ') ∧ lj_R lm_P 163 [.ref 0, .int b.1, .long b.2] τ = some (.inl none, τ') ∧ cDr σ' (D ++ T) ∧ mDr τ' (D ++ T) ∧ lf cAd σ σ' ∧ lf mAd τ τ' := by
  have ty : (a.1 = 4 ∨ a.1 = 5 ∨ a.1 = 6) → ∀ (T0 : List Int32), T0.length ≤ 50 → (∀ (s : lj_S) (E : List Int32), cDr s E → E.length < 10000 → ∃ s', (if a.1 = 5 then (if 0 ≤ (lg_cmp a.2 0) then lj_D lc_P lc_M162 149 [.ref 8, .int a.1, .long a.2, .retAddr 0] [] s else lj_bv (lj_R lc_P 125 [.ref 8, .ref 1002, .int ((((-1) - a.2) : Int64).toInt32)] s) (fun σ6 => lj_D lc_P lc_M162 160 [.ref 8, .int a.1, .long a.2, .retAddr 0] [] σ6) lj_up) else lj_D lc_P lc_M162 149 [.ref 8, .int a.1, .long a.2, .retAddr 0] [] s) = some (.inl none, s') ∧ cDr s' (E ++ T0) ∧ lf cAd s s') → (∀ (s : lj_S) (E : List Int32), sM σ s → mDr s E → E.length ≤ 3100 → ∃ s', (if b.1 = 7 then lj_bv (lj_R lm_P 164 [.ref 0, .int ((b.2 : Int64).toInt32)] s) (fun σ12 => lj_D lm_P lm_M163 124 [.ref 0, .int b.1, .long b.2, .retAddr 0] [] σ12) lj_up else lj_bv (lj_R lm_P 133 [.ref 0, .long b.2] s) (fun σ11 => lj_D lm_P lm_M163 124 [.ref 0, .int b.1, .long b.2, .retAddr 0] [] σ11) lj_up) = some (.inl none, s') ∧ mDr s' (E ++ T0) ∧ lf mAd s s') →
      ∃ T σ' τ', T.length ≤ 1000 ∧ lj_R lc_P 162 [.ref 8, .int a.1, .long a.2] σ = some (.inl none, σ') ∧ lj_R lm_P 163 [.ref 0, .int b.1, .long b.2] τ = some (.inl none, τ') ∧ cDr σ' (D ++ T) ∧ mDr τ' (D ++ T) ∧ lf cAd σ σ' ∧ lf mAd τ τ' := fun hk T0 hT pC pM => by
    obtain ⟨k, k7, hk', y, τ1, m1, m2, m3, m4⟩ := m_type hs hab hM (by omega)
    obtain ⟨σ1, c1, c2, c3⟩ := c_type σ hC (by omega) k k7
    have lk7 : (cW (1014 + k)).length ≤ 20 := by rw [← ty_eq k k7]; exact mB_len _ (by omega)
    obtain ⟨σ2, d1, d2, d3⟩ := c_w σ1 (r := 1012) (by decide) (by decide) c2 (by rw [List.length_append]; omega)
    have e12 : cW 1012 = [58, 32] := by decide +kernel
    rw [e12] at d2
    obtain ⟨τ2, n1, n2, n3⟩ := m_dg τ1 58 (by decide) m3 (by rw [List.length_append]; omega)
    obtain ⟨τ3, o1, o2, o3⟩ := m_dg τ2 32 (by decide) n2 (by rw [List.length_append, List.length_append]; simp; omega)
    have lE : ((D ++ cW (1014 + k)) ++ [58, 32]).length ≤ 3100 := by rw [List.length_append, List.length_append]; simp; omega
    obtain ⟨σ4, p1, p2, p3⟩ := pC σ2 _ d2 (by omega)
    have e2 : (D ++ cW (1014 + k) ++ [58] ++ [32]) = (D ++ cW (1014 + k)) ++ [58, 32] := by simp
    rw [e2] at o2
    obtain ⟨τ4, q1, q2, q3⟩ := pM τ3 _ (hs.dr (lf_rf cAd σ) (m4.tr (n3.tr o3))) o2 lE
    refine ⟨cW (1014 + k) ++ ([58, 32] ++ T0), σ4, τ4, ?_, ?_, ?_, ?_, ?_, c3.tr (d3.tr p3), m4.tr (n3.tr (o3.tr q3))⟩
    · rw [List.length_append, List.length_append]; simp; omega
    · have n0 : ¬ (a.1 = 0) ∧ ¬ (a.1 = 1) ∧ ¬ (a.1 = 2) ∧ ¬ (a.1 = 3) := by rcases hk with e | e | e <;> rw [e] <;> decide
      rw [rc_162, kc_162_0, if_neg n0.1, if_neg n0.2.1, if_neg n0.2.2.1, if_neg n0.2.2.2]
      rw [← hk'] at c1
      rw [c1, bv_ok, d1, bv_ok]
      exact p1
    · have n0 : ¬ (b.1 = 0) ∧ ¬ (b.1 = 1) ∧ ¬ (b.1 = 2) ∧ ¬ (b.1 = 3) := by
        rcases hab.k.1 with e | ⟨_, e⟩
        · rw [e]; rcases hk with e | e | e <;> rw [e] <;> decide
        · rw [e]; decide
      rw [rm_163, km_163_0, if_neg n0.1, if_neg n0.2.1, if_neg n0.2.2.1, if_neg n0.2.2.2, m1, bi_ok, m2, bv_ok, n1, bv_ok, o1, bv_ok]
      exact q1
    · rw [← List.append_assoc, ← List.append_assoc]; exact p2
    · rw [← List.append_assoc, ← List.append_assoc]; exact q2
  -- a number behind the type
  have tn : (a.1 = 4 ∨ a.1 = 6 ∨ a.1 = 5 ∧ ¬ (a.2 < 0)) → b = a → ∃ T σ' τ', T.length ≤ 1000 ∧ lj_R lc_P 162 [.ref 8, .int a.1, .long a.2] σ = some (.inl none, σ') ∧ lj_R lm_P 163 [.ref 0, .int b.1, .long b.2] τ = some (.inl none, τ') ∧ cDr σ' (D ++ T) ∧ mDr τ' (D ++ T) ∧ lf cAd σ σ' ∧ lf mAd τ τ' := fun hk e => by
    refine ty (by rcases hk with w | w | w <;> simp [w]) (lnum a.2) (by have := lnum_len a.2; omega) (fun s E hE hl => ?_) (fun s E _ hE hl => ?_)
    · obtain ⟨s', w1, w2, w3⟩ := c_addNumber s a.2 hE (by omega)
      have w4 : lj_D lc_P lc_M162 149 [.ref 8, .int a.1, .long a.2, .retAddr 0] [] s = some (.inl none, s') := by rw [kc_162_149, w1, bv_ok, kc_162_160]
      refine ⟨s', ?_, w2, w3⟩
      rcases hk with w | w | w
      · rw [if_neg (by rw [w]; decide), w4]
      · rw [if_neg (by rw [w]; decide), w4]
      · rw [if_pos w.1, if_pos (by rw [lg_cmp_ge]; exact Int64.not_lt.1 w.2), w4]
    · obtain ⟨s', w1, w2, w3⟩ := m_digits s a.2 hE (by omega)
      refine ⟨s', ?_, w2, w3⟩
      rw [e, if_neg (by rcases hk with w | w | w <;> simp [w] <;> decide), w1, bv_ok, km_163_124]
  rcases hab.k.2 with k | k | k | k | k | k | k
  · obtain ⟨e1, e2⟩ := hab.nil k
    obtain ⟨σ', a1, a2, a3⟩ := c_w σ (r := 1014) (by decide) (by decide) hC (by omega)
    obtain ⟨τ', b1, b2, b3⟩ := m_copyB hs (s := 22) (by decide) hM (by omega)
    rw [show mBw 22 = cW 1014 from ty_eq 0 (by decide)] at b2
    refine ⟨cW 1014, σ', τ', ?_, ?_, ?_, a2, b2, a3, b3⟩
    · have := mB_len 22 (by decide)
      rw [show mBw 22 = cW 1014 from ty_eq 0 (by decide)] at this
      omega
    · rw [e1, rc_162, kc_162_0, if_pos rfl, a1, bv_ok, kc_162_160]
    · rw [e2, rm_163, km_163_0, if_pos rfl, show (22 : Int32) = Int32.ofNat 22 from rfl, b1, bv_ok, km_163_124]
  · obtain ⟨e1, e2⟩ := hab.tr k
    have n0 : ¬ (a.1 = 0) := by rw [k]; decide
    rw [e1]
    rcases e2 with z | z
    · obtain ⟨σ', a1, a2, a3⟩ := c_w σ (r := 1023) (by decide) (by decide) hC (by omega)
      obtain ⟨τ', b1, b2, b3⟩ := m_word τ 439721161573 hM (by omega)
      rw [show wL 439721161573 = cW 1023 by decide +kernel] at b2
      refine ⟨cW 1023, σ', τ', by decide +kernel, ?_, ?_, a2, b2, a3, b3⟩
      · rw [rc_162, kc_162_0, if_neg n0, if_pos k, if_pos (by rw [lg0]; exact z), kc_162_70, a1, bv_ok, kc_162_160]
      · rw [rm_163, km_163_0, if_neg n0, if_pos k, if_neg (by rw [lg0, z]; decide), b1, bv_ok, km_163_124]
    · obtain ⟨σ', a1, a2, a3⟩ := c_w σ (r := 1022) (by decide) (by decide) hC (by omega)
      obtain ⟨τ', b1, b2, b3⟩ := m_word τ 1953658213 hM (by omega)
      rw [show wL 1953658213 = cW 1022 by decide +kernel] at b2
      refine ⟨cW 1022, σ', τ', by decide +kernel, ?_, ?_, a2, b2, a3, b3⟩
      · rw [rc_162, kc_162_0, if_neg n0, if_pos k, if_neg (by rw [lg0, z]; decide), kc_162_70, a1, bv_ok, kc_162_160]
      · rw [rm_163, km_163_0, if_neg n0, if_pos k, if_pos (by rw [lg0]; exact z), b1, bv_ok, km_163_124]
  · have e := hab.wh k
    have n0 : ¬ (a.1 = 0) ∧ ¬ (a.1 = 1) := by rw [k]; decide
    obtain ⟨σ', a1, a2, a3⟩ := c_addNumber σ a.2 hC (by omega)
    obtain ⟨τ', b1, b2, b3⟩ := m_digits τ a.2 hM (by omega)
    refine ⟨lnum a.2, σ', τ', by have := lnum_len a.2; omega, ?_, ?_, a2, b2, a3, b3⟩
    · rw [rc_162, kc_162_0, if_neg n0.1, if_neg n0.2, if_pos k, a1, bv_ok, kc_162_160]
    · rw [e, rm_163, km_163_0, if_neg n0.1, if_neg n0.2, if_pos k, b1, bv_ok, km_163_124]
  · obtain ⟨s, s', u1, u2, e1, e2, e3⟩ := hab.st k
    have l1 := hs.2.2.2.1 s e3.1
    obtain ⟨σ', a1, a2, a3⟩ := c_addString σ hs.1.1 e3.1 hC (by omega)
    obtain ⟨τ', b1, b2, b3⟩ := m_copyString τ hs.1.2.1 e3.2.1 hM (by rw [← e3.2.2]; omega)
    rw [← e3.2.2] at b2
    refine ⟨cS σ s, σ', τ', l1, ?_, ?_, a2, b2, a3, b3⟩
    · rw [e1, rc_162, kc_162_0, if_neg (show ¬ ((3 : Int32) = 0) by decide), if_neg (show ¬ ((3 : Int32) = 1) by decide), if_neg (show ¬ ((3 : Int32) = 2) by decide), if_pos rfl]
      show lj_bv (lj_R lc_P 36 [.ref 3, .int (i64 s).toInt32] σ) _ _ = _
      rw [i64_32, a1, bv_ok, kc_162_160]
    · rw [e2, rm_163, km_163_0, if_neg (show ¬ ((3 : Int32) = 0) by decide), if_neg (show ¬ ((3 : Int32) = 1) by decide), if_neg (show ¬ ((3 : Int32) = 2) by decide), if_pos rfl]
      show lj_bv (lj_R lm_P 137 [.ref 0, .int (i64 s').toInt32] τ) _ _ = _
      rw [i64_32, b1, bv_ok, km_163_124]
  · obtain ⟨o, e1, e2, _⟩ := hab.tb k
    exact tn (Or.inl k) (by rw [e1, e2])
  · rcases hab.fn k with ⟨o, e1, e2, e3⟩ | ⟨n, n32, e1, e2⟩
    · exact tn (Or.inr (Or.inr ⟨k, by rw [e1]; exact i64_nneg (by have := e3.2.1; omega)⟩)) (by rw [e1, e2])
    · refine ty (Or.inr (Or.inl k)) (nmW n) (by have := (nm_eq n n32).2; omega) (fun s E hE hl => ?_) (fun s E hs' hE hl => ?_)
      · obtain ⟨s', w1, w2, w3⟩ := c_nameOf s n32 hE (by omega)
        refine ⟨s', ?_, w2, w3⟩
        rw [if_pos k, if_neg (by rw [lg_cmp_ge, e1]; exact Int64.not_le.2 (bn_neg (by omega)))]
        rw [e1]
        show lj_bv (lj_R lc_P 125 [.ref 8, .ref 1002, .int (-1 - bn n).toInt32] s) _ _ = _
        rw [bn_32 (by omega), w1, bv_ok, kc_162_160]
      · obtain ⟨s', w1, w2, w3⟩ := m_nameOf hs' n32 hE (by omega)
        rw [← (nm_eq n n32).1] at w2
        refine ⟨s', ?_, w2, w3⟩
        rw [e2, if_pos rfl]
        show lj_bv (lj_R lm_P 164 [.ref 0, .int (i64 n).toInt32] s) _ _ = _
        rw [i64_32, w1, bv_ok, km_163_124]
  · obtain ⟨o, e1, e2, _⟩ := hab.pt k
    exact tn (Or.inr (Or.inl k)) (by rw [e1, e2])
