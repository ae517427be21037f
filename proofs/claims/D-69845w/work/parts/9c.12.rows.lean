/-! words of rows: names of what is built in, of events (printed by gen9c12.py) -/
def wsN : List (List Int32) := [[112, 114, 105, 110, 116], [116, 121, 112, 101], [116, 111, 115, 116, 114, 105, 110, 103], [116, 111, 110, 117, 109, 98, 101, 114], [110, 101, 120, 116], [112, 97, 105, 114, 115], [105, 112, 97, 105, 114, 115], [114, 97, 119, 103, 101, 116], [114, 97, 119, 115, 101, 116], [114, 97, 119, 101, 113, 117, 97, 108], [114, 97, 119, 108, 101, 110], [103, 101, 116, 109, 101, 116, 97, 116, 97, 98, 108, 101], [115, 101, 116, 109, 101, 116, 97, 116, 97, 98, 108, 101], [101, 114, 114, 111, 114], [112, 99, 97, 108, 108], [115, 101, 108, 101, 99, 116], [99, 111, 108, 108, 101, 99, 116], [108, 105, 115, 116, 46, 105, 110, 115, 101, 114, 116], [108, 105, 115, 116, 46, 114, 101, 109, 111, 118, 101], [108, 105, 115, 116, 46, 99, 111, 110, 99, 97, 116], [108, 105, 115, 116, 46, 112, 97, 99, 107], [108, 105, 115, 116, 46, 117, 110, 112, 97, 99, 107], [116, 101, 120, 116, 46, 115, 117, 98], [116, 101, 120, 116, 46, 98, 121, 116, 101], [116, 101, 120, 116, 46, 99, 104, 97, 114], [116, 101, 120, 116, 46, 114, 101, 112], [112, 97, 114, 116, 46, 110, 101, 119], [112, 97, 114, 116, 46, 103, 111], [112, 97, 114, 116, 46, 115, 116, 111, 112], [112, 97, 114, 116, 46, 115, 116, 97, 116, 101], [112, 97, 114, 116, 46, 114, 117, 110, 110, 105, 110, 103], [105, 112, 97, 105, 114, 115]]
def wsE : List (List Int32) := [[97, 100, 100], [115, 117, 98], [109, 117, 108], [105, 100, 105, 118], [109, 111, 100], [98, 97, 110, 100], [98, 111, 114], [98, 120, 111, 114], [115, 104, 108], [115, 104, 114], [117, 110, 109], [98, 110, 111, 116], [99, 111, 110, 99, 97, 116], [108, 101, 110], [101, 113], [108, 116], [108, 101], [105, 110, 100, 101, 120], [110, 101, 119, 105, 110, 100, 101, 120], [99, 97, 108, 108], [103, 99]]
set_option maxRecDepth 100000 in
theorem wsN_str : lj_nth lc_str (1002 - 1000) = some (rowt wsN) := by decide +kernel
set_option maxRecDepth 100000 in
theorem wsE_str : lj_nth lc_str (1003 - 1000) = some (rowt wsE) := by decide +kernel
set_option maxRecDepth 100000 in
theorem wsN_b : ∀ w ∈ wsN, ∀ c ∈ w, c ≠ 32 := by decide +kernel
set_option maxRecDepth 100000 in
theorem wsE_b : ∀ w ∈ wsE, ∀ c ∈ w, c ≠ 32 := by decide +kernel
set_option maxRecDepth 100000 in
theorem wsN_l : (rowt wsN).length < 1000 ∧ wsN.length = 32 ∧ ∀ w ∈ wsN, w.length ≤ 12 := by decide +kernel
set_option maxRecDepth 100000 in
theorem wsE_l : (rowt wsE).length < 1000 ∧ wsE.length = 21 ∧ ∀ w ∈ wsE, w.length ≤ 12 := by decide +kernel
theorem dr_hd {W t : List Int32} {i : Nat} {c : Int32} (h : W.drop i = c :: t) : i < W.length ∧ W.getD i 0 = c ∧ W.drop (i + 1) = t := by
  have hi : i < W.length := by
    by_cases z : i < W.length
    · exact z
    · rw [List.drop_of_length_le (by omega)] at h; cases h
  rw [List.drop_eq_getElem_cons hi] at h
  injection h with h1 h2
  exact ⟨hi, by rw [List.getD_eq_getElem _ _ hi]; exact h1, h2⟩
theorem dr_add {W u R : List Int32} {i : Nat} (h : W.drop i = u ++ R) : W.drop (i + u.length) = R := by
  rw [← List.drop_drop, h, List.drop_left]
/-- a word is passed by -/
theorem nf_skip {σ : lj_S} {W : List Int32} (hW : lj_nth lc_str (1002 - 1000) = some W) (hl : W.length < 1000) {k n : Nat} (hk : k < 1000) (hn : n ≤ k) (x2 : Int32) {R : List Int32} : ∀ (u : List Int32) (i : Nat), W.drop i = u ++ R → (∀ c ∈ u, c ≠ 32) → lj_D lc_P lc_M124 15 [.ref 8, .int (Int32.ofNat k), .int x2, .int (Int32.ofNat i), .int (Int32.ofNat n)] [] σ = lj_D lc_P lc_M124 15 [.ref 8, .int (Int32.ofNat k), .int x2, .int (Int32.ofNat (i + u.length)), .int (Int32.ofNat n)] [] σ
  | [], i, _, _ => rfl
  | c :: u, i, h, hb => by
    obtain ⟨h1, h2, h3⟩ := dr_hd h
    rw [kc_124_15, if_neg (by rw [lz_lt, lz_lit (by omega), lz_lit (by omega)]; omega), c_charAt σ 1002 hW (by omega) _ (ofN_in (by omega) (by omega)), lz_onat (by omega), h2, bi_ok, if_neg (hb c List.mem_cons_self), kc_124_39, lz_osucc, Int32.add_zero, nf_skip hW hl hk hn x2 u (i + 1) h3 (fun c hc => hb c (List.mem_cons_of_mem _ hc)), List.length_cons, show i + 1 + u.length = i + (u.length + 1) by omega]
theorem nf_bl {σ : lj_S} {W : List Int32} (hW : lj_nth lc_str (1002 - 1000) = some W) (hl : W.length < 1000) {k n : Nat} (hk : k < 1000) (hn : n ≤ k) (x2 : Int32) {R : List Int32} {i : Nat} (h : W.drop i = 32 :: R) : lj_D lc_P lc_M124 15 [.ref 8, .int (Int32.ofNat k), .int x2, .int (Int32.ofNat i), .int (Int32.ofNat n)] [] σ = lj_D lc_P lc_M124 15 [.ref 8, .int (Int32.ofNat k), .int x2, .int (Int32.ofNat (i + 1)), .int (Int32.ofNat (n + 1))] [] σ := by
  obtain ⟨h1, h2, h3⟩ := dr_hd h
  rw [kc_124_15, if_neg (by rw [lz_lt, lz_lit (by omega), lz_lit (by omega)]; omega), c_charAt σ 1002 hW (by omega) _ (ofN_in (by omega) (by omega)), lz_onat (by omega), h2, bi_ok, if_pos rfl, kc_124_39, lz_osucc, lz_osucc]
theorem nf_words {σ : lj_S} {W : List Int32} (hW : lj_nth lc_str (1002 - 1000) = some W) (hl : W.length < 1000) {k : Nat} (hk : k < 1000) (x2 : Int32) {w : List Int32} {post : List (List Int32)} : ∀ (pre : List (List Int32)) (i n : Nat), W.drop i = rowt (pre ++ w :: post) → n + pre.length = k → (∀ v ∈ pre, ∀ c ∈ v, c ≠ 32) → ∃ i', lj_D lc_P lc_M124 15 [.ref 8, .int (Int32.ofNat k), .int x2, .int (Int32.ofNat i), .int (Int32.ofNat n)] [] σ = lj_D lc_P lc_M124 15 [.ref 8, .int (Int32.ofNat k), .int x2, .int (Int32.ofNat i'), .int (Int32.ofNat (k + 1))] [] σ ∧ W.drop i' = w ++ rowt post
  | [], i, n, h, hn, _ => by
    have hn : n = k := by simpa using hn
    have h : W.drop i = 32 :: (w ++ rowt post) := h
    exact ⟨i + 1, by rw [nf_bl hW hl hk (by omega) x2 h, hn], (dr_hd h).2.2⟩
  | p :: pre, i, n, h, hn, hb => by
    have h : W.drop i = 32 :: (p ++ rowt (pre ++ w :: post)) := h
    rw [List.length_cons] at hn
    have h2 := (dr_hd h).2.2
    obtain ⟨i', e1, e2⟩ := nf_words hW hl hk x2 pre (i + 1 + p.length) (n + 1) (dr_add h2) (by omega) (fun v hv => hb v (List.mem_cons_of_mem _ hv))
    exact ⟨i', by rw [nf_bl hW hl hk (by omega) x2 h, nf_skip hW hl hk (by omega) x2 p (i + 1) h2 (hb p List.mem_cons_self), e1], e2⟩
theorem nf_copy {W : List Int32} (hW : lj_nth lc_str (1002 - 1000) = some W) (hl : W.length < 1000) (x1 x2 x4 : Int32) {R : List Int32} : ∀ (u : List Int32) (i : Nat) (σ : lj_S) (D : List Int32), W.drop i = u ++ 32 :: R → (∀ c ∈ u, c ≠ 32) → cDr σ D → D.length + u.length < 900000 → ∃ σ', lj_D lc_P lc_M124 52 [.ref 8, .int x1, .int x2, .int (Int32.ofNat i), .int x4] [] σ = lj_bi (lj_R lc_P 24 [.ref 3] σ') (fun y4 σ3 => some (.inl (some (.int y4)), σ3)) lj_up ∧ cDr σ' (D ++ u.map lz_by) ∧ lf cAd σ σ'
  | [], i, σ, D, h, _, hD, _ => by
    obtain ⟨h1, h2, h3⟩ := dr_hd (by exact h : W.drop i = 32 :: R)
    refine ⟨σ, ?_, by simpa using hD, lf_rf _ _⟩
    rw [kc_124_52, c_charAt σ 1002 hW (by omega) _ (ofN_in (by omega) (by omega)), lz_onat (by omega), h2, bi_ok, if_pos rfl]
  | c :: u, i, σ, D, h, hb, hD, hDl => by
    obtain ⟨h1, h2, h3⟩ := dr_hd h
    rw [List.length_cons] at hDl
    obtain ⟨σ1, a1, a2, a3⟩ := c_add σ c hD (by omega)
    obtain ⟨σ', e1, e2, e3⟩ := nf_copy hW hl x1 x2 x4 u (i + 1) σ1 (D ++ [lz_by c]) h3 (fun c hc => hb c (List.mem_cons_of_mem _ hc)) a2 (by rw [List.length_append, List.length_singleton]; omega)
    refine ⟨σ', ?_, by simpa using e2, a3.tr e3⟩
    rw [kc_124_52, c_charAt σ 1002 hW (by omega) _ (ofN_in (by omega) (by omega)), lz_onat (by omega), h2, bi_ok, if_neg (hb c List.mem_cons_self), c_charAt σ 1002 hW (by omega) _ (ofN_in (by omega) (by omega)), lz_onat (by omega), h2, bi_ok, a1, bv_ok, lz_osucc]
    exact e1
theorem ws_cut {ws : List (List Int32)} {k : Nat} (h : k < ws.length) : ws = ws.take k ++ ws.getD k [] :: ws.drop (k + 1) := by
  rw [List.getD_eq_getElem _ _ h, ← List.drop_eq_getElem_cons h, List.take_append_drop]
theorem ws_mem {ws : List (List Int32)} {k : Nat} (h : k < ws.length) : ws.getD k [] ∈ ws := by
  rw [List.getD_eq_getElem _ _ h]; exact List.getElem_mem h
/-- name k of what is built in -/
def nmX (k : Nat) : List Int32 := ((wsN.getD k []).drop (if k < 17 then 0 else 5)).map lz_by
set_option maxRecDepth 100000 in
theorem nmX_f : ∀ k : Fin 31, (if k.val < 17 then 0 else 5) ≤ (wsN.getD k.val []).length := by decide +kernel
/-- a name is drafted, and settled -/
theorem c_nmf (σ : lj_S) {k : Nat} (hk : k < 31) : ∃ σ', lj_R lc_P 124 [.ref 8, .int (Int32.ofNat k), .int (if k < 17 then 0 else 5)] σ = lj_bi (lj_R lc_P 24 [.ref 3] σ') (fun y4 σ3 => some (.inl (some (.int y4)), σ3)) lj_up ∧ cDr σ' (nmX k) ∧ lf cAd σ σ' := by
  have L := wsN_l
  obtain ⟨fr, hfr⟩ : ∃ fr : Nat, fr = if k < 17 then 0 else 5 := ⟨_, rfl⟩
  have f5 : fr ≤ 5 := by rw [hfr]; split <;> omega
  have ef : (if k < 17 then (0 : Int32) else 5) = Int32.ofNat fr := by rw [hfr]; split <;> rfl
  have fl := nmX_f ⟨k, hk⟩
  rw [show (if (⟨k, hk⟩ : Fin 31).val < 17 then 0 else 5) = fr from hfr.symm] at fl
  have fl : fr ≤ (wsN.getD k []).length := fl
  have wl : (wsN.getD k []).length ≤ 12 := L.2.2 _ (ws_mem (by omega))
  obtain ⟨i', e1, e2⟩ := nf_words (σ := lj_put σ 3 6 0) wsN_str L.1 (k := k) (by omega) (Int32.ofNat fr) (wsN.take k) 0 0 (by rw [List.drop_zero, ← ws_cut (by omega)]) (by rw [List.length_take]; omega) (fun v hv => wsN_b v (List.mem_of_mem_take hv))
  obtain ⟨l, hl⟩ := rowt_head (wsN.drop (k + 1))
  have e3 : (rowt wsN).drop (i' + fr) = (wsN.getD k []).drop fr ++ 32 :: l := by
    rw [← List.drop_drop, e2, List.drop_append_of_le_length fl, hl]
  have hi : i' + fr < 1000 := by
    have := congrArg List.length e3
    rw [List.length_drop, List.length_append, List.length_cons] at this
    have := L.1
    omega
  obtain ⟨σ', g1, g2, g3⟩ := nf_copy wsN_str L.1 (Int32.ofNat k) (Int32.ofNat fr) (Int32.ofNat (k + 1)) ((wsN.getD k []).drop fr) (i' + fr) (lj_put σ 3 6 0) [] e3 (fun c hc => wsN_b _ (ws_mem (by omega)) c (List.mem_of_mem_drop hc)) (cDr_begin σ) (by rw [List.length_drop, List.length_nil]; omega)
  refine ⟨σ', ?_, ?_, (lf_put (lf_rf _ _) _ _ _ rfl).tr g3⟩
  · rw [ef, rc_124, kc_124_0, c_begin, bv_ok, show (0 : Int32) = Int32.ofNat 0 from rfl, e1, kc_124_15, if_pos (by rw [lz_lt, lz_lit (by omega), lz_lit (by omega)]; omega), ← Int32.ofNat_add, g1]
  · unfold nmX
    rw [← hfr]
    simpa using g2
/-- a word is passed by -/
theorem ne_skip {σ : lj_S} {W : List Int32} (hW : lj_nth lc_str (1003 - 1000) = some W) (hl : W.length < 1000) {k n : Nat} (hk : k < 1000) (hn : n ≤ k) {R : List Int32} : ∀ (u : List Int32) (i : Nat), W.drop i = u ++ R → (∀ c ∈ u, c ≠ 32) → lj_D lc_P lc_M125 5 [.ref 8, .ref 1003, .int (Int32.ofNat k), .int (Int32.ofNat i), .int (Int32.ofNat n)] [] σ = lj_D lc_P lc_M125 5 [.ref 8, .ref 1003, .int (Int32.ofNat k), .int (Int32.ofNat (i + u.length)), .int (Int32.ofNat n)] [] σ
  | [], i, _, _ => rfl
  | c :: u, i, h, hb => by
    obtain ⟨h1, h2, h3⟩ := dr_hd h
    rw [kc_125_5, if_neg (by rw [lz_lt, lz_lit (by omega), lz_lit (by omega)]; omega), show (Nat.ble 1000 1003 && true) = true from rfl, cond_true, c_charAt σ 1003 hW (by omega) _ (ofN_in (by omega) (by omega)), lz_onat (by omega), h2, bi_ok, if_neg (hb c List.mem_cons_self), kc_125_28, lz_osucc, Int32.add_zero, ne_skip hW hl hk hn u (i + 1) h3 (fun c hc => hb c (List.mem_cons_of_mem _ hc)), List.length_cons, show i + 1 + u.length = i + (u.length + 1) by omega]
theorem ne_bl {σ : lj_S} {W : List Int32} (hW : lj_nth lc_str (1003 - 1000) = some W) (hl : W.length < 1000) {k n : Nat} (hk : k < 1000) (hn : n ≤ k) {R : List Int32} {i : Nat} (h : W.drop i = 32 :: R) : lj_D lc_P lc_M125 5 [.ref 8, .ref 1003, .int (Int32.ofNat k), .int (Int32.ofNat i), .int (Int32.ofNat n)] [] σ = lj_D lc_P lc_M125 5 [.ref 8, .ref 1003, .int (Int32.ofNat k), .int (Int32.ofNat (i + 1)), .int (Int32.ofNat (n + 1))] [] σ := by
  obtain ⟨h1, h2, h3⟩ := dr_hd h
  rw [kc_125_5, if_neg (by rw [lz_lt, lz_lit (by omega), lz_lit (by omega)]; omega), show (Nat.ble 1000 1003 && true) = true from rfl, cond_true, c_charAt σ 1003 hW (by omega) _ (ofN_in (by omega) (by omega)), lz_onat (by omega), h2, bi_ok, if_pos rfl, kc_125_28, lz_osucc, lz_osucc]
theorem ne_words {σ : lj_S} {W : List Int32} (hW : lj_nth lc_str (1003 - 1000) = some W) (hl : W.length < 1000) {k : Nat} (hk : k < 1000) {w : List Int32} {post : List (List Int32)} : ∀ (pre : List (List Int32)) (i n : Nat), W.drop i = rowt (pre ++ w :: post) → n + pre.length = k → (∀ v ∈ pre, ∀ c ∈ v, c ≠ 32) → ∃ i', lj_D lc_P lc_M125 5 [.ref 8, .ref 1003, .int (Int32.ofNat k), .int (Int32.ofNat i), .int (Int32.ofNat n)] [] σ = lj_D lc_P lc_M125 5 [.ref 8, .ref 1003, .int (Int32.ofNat k), .int (Int32.ofNat i'), .int (Int32.ofNat (k + 1))] [] σ ∧ W.drop i' = w ++ rowt post
  | [], i, n, h, hn, _ => by
    have hn : n = k := by simpa using hn
    have h : W.drop i = 32 :: (w ++ rowt post) := h
    exact ⟨i + 1, by rw [ne_bl hW hl hk (by omega) h, hn], (dr_hd h).2.2⟩
  | p :: pre, i, n, h, hn, hb => by
    have h : W.drop i = 32 :: (p ++ rowt (pre ++ w :: post)) := h
    rw [List.length_cons] at hn
    have h2 := (dr_hd h).2.2
    obtain ⟨i', e1, e2⟩ := ne_words hW hl hk pre (i + 1 + p.length) (n + 1) (dr_add h2) (by omega) (fun v hv => hb v (List.mem_cons_of_mem _ hv))
    exact ⟨i', by rw [ne_bl hW hl hk (by omega) h, ne_skip hW hl hk (by omega) p (i + 1) h2 (hb p List.mem_cons_self), e1], e2⟩
theorem ne_copy {W : List Int32} (hW : lj_nth lc_str (1003 - 1000) = some W) (hl : W.length < 1000) (x1 x4 : Int32) {R : List Int32} : ∀ (u : List Int32) (i : Nat) (σ : lj_S) (D : List Int32), W.drop i = u ++ 32 :: R → (∀ c ∈ u, c ≠ 32) → cDr σ D → D.length + u.length < 900000 → ∃ σ', lj_D lc_P lc_M125 37 [.ref 8, .ref 1003, .int x1, .int (Int32.ofNat i), .int x4] [] σ = some (.inl none, σ') ∧ cDr σ' (D ++ u.map lz_by) ∧ lf cAd σ σ'
  | [], i, σ, D, h, _, hD, _ => by
    obtain ⟨h1, h2, h3⟩ := dr_hd (by exact h : W.drop i = 32 :: R)
    refine ⟨σ, ?_, by simpa using hD, lf_rf _ _⟩
    rw [kc_125_37, show (Nat.ble 1000 1003 && true) = true from rfl, cond_true, c_charAt σ 1003 hW (by omega) _ (ofN_in (by omega) (by omega)), lz_onat (by omega), h2, bi_ok, if_pos rfl]
  | c :: u, i, σ, D, h, hb, hD, hDl => by
    obtain ⟨h1, h2, h3⟩ := dr_hd h
    rw [List.length_cons] at hDl
    obtain ⟨σ1, a1, a2, a3⟩ := c_add σ c hD (by omega)
    obtain ⟨σ', e1, e2, e3⟩ := ne_copy hW hl x1 x4 u (i + 1) σ1 (D ++ [lz_by c]) h3 (fun c hc => hb c (List.mem_cons_of_mem _ hc)) a2 (by rw [List.length_append, List.length_singleton]; omega)
    refine ⟨σ', ?_, by simpa using e2, a3.tr e3⟩
    rw [kc_125_37, show (Nat.ble 1000 1003 && true) = true from rfl, cond_true, c_charAt σ 1003 hW (by omega) _ (ofN_in (by omega) (by omega)), lz_onat (by omega), h2, bi_ok, if_neg (hb c List.mem_cons_self), cond_true, c_charAt σ 1003 hW (by omega) _ (ofN_in (by omega) (by omega)), lz_onat (by omega), h2, bi_ok, a1, bv_ok, lz_osucc]
    exact e1
/-- the word of an event is added -/
theorem c_evw (σ : lj_S) {k : Nat} (hk : k < 21) {D : List Int32} (hD : cDr σ D) (hDl : D.length < 1000) : ∃ σ', lj_R lc_P 125 [.ref 8, .ref 1003, .int (Int32.ofNat k)] σ = some (.inl none, σ') ∧ cDr σ' (D ++ (wsE.getD k []).map lz_by) ∧ lf cAd σ σ' := by
  have L := wsE_l
  have wl : (wsE.getD k []).length ≤ 12 := L.2.2 _ (ws_mem (by omega))
  obtain ⟨i', e1, e2⟩ := ne_words (σ := σ) wsE_str L.1 (k := k) (by omega) (wsE.take k) 0 0 (by rw [List.drop_zero, ← ws_cut (by omega)]) (by rw [List.length_take]; omega) (fun v hv => wsE_b v (List.mem_of_mem_take hv))
  obtain ⟨l, hl⟩ := rowt_head (wsE.drop (k + 1))
  rw [hl] at e2
  have hi : i' < 1000 := by
    have := congrArg List.length e2
    rw [List.length_drop, List.length_append, List.length_cons] at this
    have := L.1
    omega
  obtain ⟨σ', g1, g2, g3⟩ := ne_copy wsE_str L.1 (Int32.ofNat k) (Int32.ofNat (k + 1)) (wsE.getD k []) i' σ D e2 (fun c hc => wsE_b _ (ws_mem (by omega)) c hc) hD (by omega)
  refine ⟨σ', ?_, g2, g3⟩
  rw [rc_125, kc_125_0, show (0 : Int32) = Int32.ofNat 0 from rfl, e1, kc_125_5, if_pos (by rw [lz_lt, lz_lit (by omega), lz_lit (by omega)]; omega)]
  exact g1
/-- which word of the model a name is -/
def nmI (k : Nat) : Nat := if k < 17 then 37 + k else if k < 22 then 40 + k else if k < 26 then 40 + k else if k = 26 then 29 else if k = 30 then 31 else 39 + k
set_option maxRecDepth 100000 in
theorem nmI_ok : ∀ k : Fin 31, nmX k.val = mBw (nmI k.val) ∧ nmI k.val < 69 ∧ (nmX k.val).length ≤ 20 := by decide +kernel
set_option maxRecDepth 100000 in
theorem evI_ok : ∀ k : Fin 21, [95, 95] ++ (wsE.getD k.val []).map lz_by = mBw (evM k.val) ∧ ((wsE.getD k.val []).map lz_by).length ≤ 12 := by decide +kernel
