/-! rows that are moved -/
/-- all from i on lie one place higher -/
def shI (ka kb : Nat) (σ : lj_S) (i : Nat) (G : List vT) : Prop := (∀ j, j < i → (σ.1 ka j, σ.2 kb j) = G.getD j (0, 0)) ∧ ∀ j, i ≤ j → j < G.length → (σ.1 ka (j + 1), σ.2 kb (j + 1)) = G.getD j (0, 0)
def shS (ka kb : Nat) (σ : lj_S) (i : Nat) : lj_S := lj_putL (lj_put σ ka (i + 1) (σ.1 ka i)) kb (i + 1) (σ.2 kb i)
theorem shS_1 (ka kb : Nat) (σ : lj_S) (i k j : Nat) : (shS ka kb σ i).1 k j = if k = ka ∧ j = i + 1 then σ.1 ka i else σ.1 k j := by
  unfold shS
  rw [lj_putL_1, lj_put_1]
theorem shS_2 (ka kb : Nat) (σ : lj_S) (i k j : Nat) : (shS ka kb σ i).2 k j = if k = kb ∧ j = i + 1 then σ.2 kb i else σ.2 k j := by
  unfold shS
  rw [lj_putL_2]
  rfl
theorem shI_step {ka kb : Nat} {σ : lj_S} {i : Nat} {G : List vT} (h : shI ka kb σ (i + 1) G) (hi : i + 1 ≤ G.length) : shI ka kb (shS ka kb σ i) i G := by
  refine ⟨fun j hj => ?_, fun j h1 h2 => ?_⟩
  · rw [shS_1, shS_2, if_neg (by omega), if_neg (by omega)]
    exact h.1 j (by omega)
  · rw [shS_1, shS_2]
    by_cases e : j = i
    · rw [if_pos ⟨rfl, by omega⟩, if_pos ⟨rfl, by omega⟩, e]
      exact h.1 i (by omega)
    · rw [if_neg (by omega), if_neg (by omega)]
      exact h.2 j (by omega) (by omega)
theorem shI_fin {ka kb : Nat} {σ σ' : lj_S} {G : List vT} (h : shI ka kb σ 0 G) {u : vT} (h0 : (σ'.1 ka 0, σ'.2 kb 0) = u) (h1 : ∀ j, σ'.1 ka (j + 1) = σ.1 ka (j + 1) ∧ σ'.2 kb (j + 1) = σ.2 kb (j + 1)) : ∀ j, j < (u :: G).length → (σ'.1 ka j, σ'.2 kb j) = (u :: G).getD j (0, 0)
  | 0, _ => h0
  | j + 1, hj => by
    rw [(h1 j).1, (h1 j).2, List.getD_cons_succ]
    exact h.2 j (by omega) (by rw [List.length_cons] at hj; omega)
theorem ofN_le0 (i : Nat) (hi : i < 1000) : ¬ (Int32.ofNat (i + 1) ≤ 0) := by
  rw [lz_le, lz_lit (by omega)]
  show ¬ (_ ≤ (0 : Int))
  omega
theorem c_giveFirst_loop (u : vT) (G : List vT) (hl : G.length ≤ 126) : ∀ (i : Nat) (σ : lj_S), i ≤ G.length → lv σ 8 38 = (G.length : Int) → shI 105 106 σ i G → ∃ σ', lj_D lc_P lc_M158 6 [.ref 8, .int u.1, .long u.2, .retAddr 0, .int (Int32.ofNat i)] [] σ = some (.inl none, σ') ∧ gvC σ' (u :: G) ∧ lf gsC σ σ'
  | 0, σ, _, h38, h => by
    have z0 : (0 : Int32).toNatClampNeg = 0 := by decide
    refine ⟨lj_put (lj_putL (lj_put σ 105 0 u.1) 106 0 u.2) 8 38 (σ.1 8 38 + 1), ?_, ⟨?_, ?_⟩, lf_put (lf_putL (lf_put (lf_rf _ _) _ _ _ rfl) _ _ _ rfl) _ _ _ rfl⟩
    · rw [kc_158_6, if_pos (by decide), if_pos (by decide), if_pos (by decide), z0]
    · have e38 : σ.1 8 38 = Int32.ofNat G.length := lz_ext (by rw [lz_lit (by omega)]; exact h38)
      rw [lv_put, if_pos ⟨rfl, rfl⟩, e38, lz_osucc, lz_lit (by omega), List.length_cons]
    · refine shI_fin h ?_ (fun j => ⟨?_, ?_⟩)
      · rw [lj_put_1, if_neg (by omega), lj_putL_1, lj_put_1, if_pos ⟨rfl, rfl⟩]
        show (u.1, (lj_putL (lj_put σ 105 0 u.1) 106 0 u.2).2 106 0) = u
        rw [lj_putL_2, if_pos ⟨rfl, rfl⟩]
      · rw [lj_put_1, if_neg (by omega), lj_putL_1, lj_put_1, if_neg (by omega)]
      · show (lj_putL (lj_put σ 105 0 u.1) 106 0 u.2).2 106 (j + 1) = _
        rw [lj_putL_2, if_neg (by omega)]
        rfl
  | i + 1, σ, hi, h38, h => by
    have i1 : lj_in (Int32.ofNat i) 128 := ofN_in (by omega) (by omega)
    have i2 : lj_in (Int32.ofNat (i + 1)) 128 := ofN_in (by omega) (by omega)
    have e1 : (Int32.ofNat i).toNatClampNeg = i := lz_onat (by omega)
    have e2 : (Int32.ofNat (i + 1)).toNatClampNeg = i + 1 := lz_onat (by omega)
    obtain ⟨σ', a1, a2, a3⟩ := c_giveFirst_loop u G hl i (shS 105 106 σ i) (by omega) (by show lv (lj_putL (lj_put σ 105 (i + 1) (σ.1 105 i)) 106 (i + 1) (σ.2 106 i)) 8 38 = _; rw [lv_putL, lv_put, if_neg (by omega)]; exact h38) (shI_step h hi)
    refine ⟨σ', ?_, a2, (lf_putL (lf_put (lf_rf gsC σ) 105 (i + 1) (σ.1 105 i) rfl) 106 (i + 1) (σ.2 106 i) rfl).tr a3⟩
    rw [kc_158_6, if_neg (ofN_le0 i (by omega)), lz_pred', if_pos i1, if_pos i2, if_pos i1, if_pos i2, lz_pred, e1, e2]
    exact a1
theorem c_giveFirst {σ : lj_S} {G : List vT} (h : gvC σ G) (hl : G.length ≤ 126) (u : vT) : ∃ σ', lj_R lc_P 158 [.ref 8, .int u.1, .long u.2] σ = some (.inl none, σ') ∧ gvC σ' (u :: G) ∧ lf gsC σ σ' := by
  have e38 : σ.1 8 38 = Int32.ofNat G.length := lz_ext (by rw [lz_lit (by omega)]; exact h.1)
  obtain ⟨σ', a1, a2⟩ := c_giveFirst_loop u G hl G.length σ (Nat.le_refl _) h.1 ⟨h.2, fun j h1 h2 => by omega⟩
  exact ⟨σ', by rw [rc_158, kc_158_0, e38]; exact a1, a2⟩
theorem c_first_loop (g : Int32) (G : List vT) (hl : G.length ≤ 126) : ∀ (i : Nat) (σ : lj_S), i ≤ G.length → lv σ 8 41 = (G.length : Int) → shI 107 108 σ i G → ∃ σ', lj_D lc_P lc_M152 5 [.ref 8, .int g, .int (Int32.ofNat i)] [] σ = some (.inl none, σ') ∧ rsC σ' ((1, if g = 0 then 0 else 1) :: G) ∧ lf rtC σ σ'
  | 0, σ, _, h38, h => by
    have z0 : (0 : Int32).toNatClampNeg = 0 := by decide
    refine ⟨lj_put (lj_putL (lj_put σ 107 0 1) 108 0 (if g = 0 then 0 else 1)) 8 41 (σ.1 8 41 + 1), ?_, ⟨?_, ?_⟩, lf_put (lf_putL (lf_put (lf_rf _ _) _ _ _ rfl) _ _ _ rfl) _ _ _ rfl⟩
    · rw [kc_152_5, if_pos (by decide), if_pos (by decide)]
      by_cases w : g = 0
      · rw [if_pos w, kc_152_64, if_pos (by decide), z0, if_pos w, lj_put_1, if_neg (by omega)]
      · rw [if_neg w, kc_152_64, if_pos (by decide), z0, if_neg w, lj_put_1, if_neg (by omega)]
    · have e38 : σ.1 8 41 = Int32.ofNat G.length := lz_ext (by rw [lz_lit (by omega)]; exact h38)
      rw [lv_put, if_pos ⟨rfl, rfl⟩, e38, lz_osucc, lz_lit (by omega), List.length_cons]
    · refine shI_fin h ?_ (fun j => ⟨?_, ?_⟩)
      · rw [lj_put_1, if_neg (by omega), lj_putL_1, lj_put_1, if_pos ⟨rfl, rfl⟩]
        show ((1 : Int32), (lj_putL (lj_put σ 107 0 1) 108 0 (if g = 0 then 0 else 1)).2 108 0) = _
        rw [lj_putL_2, if_pos ⟨rfl, rfl⟩]
      · rw [lj_put_1, if_neg (by omega), lj_putL_1, lj_put_1, if_neg (by omega)]
      · show (lj_putL (lj_put σ 107 0 1) 108 0 (if g = 0 then 0 else 1)).2 108 (j + 1) = _
        rw [lj_putL_2, if_neg (by omega)]
        rfl
  | i + 1, σ, hi, h38, h => by
    have i1 : lj_in (Int32.ofNat i) 128 := ofN_in (by omega) (by omega)
    have i2 : lj_in (Int32.ofNat (i + 1)) 128 := ofN_in (by omega) (by omega)
    have e1 : (Int32.ofNat i).toNatClampNeg = i := lz_onat (by omega)
    have e2 : (Int32.ofNat (i + 1)).toNatClampNeg = i + 1 := lz_onat (by omega)
    obtain ⟨σ', a1, a2, a3⟩ := c_first_loop g G hl i (shS 107 108 σ i) (by omega) (by show lv (lj_putL (lj_put σ 107 (i + 1) (σ.1 107 i)) 108 (i + 1) (σ.2 108 i)) 8 41 = _; rw [lv_putL, lv_put, if_neg (by omega)]; exact h38) (shI_step h hi)
    refine ⟨σ', ?_, a2, (lf_putL (lf_put (lf_rf rtC σ) 107 (i + 1) (σ.1 107 i) rfl) 108 (i + 1) (σ.2 108 i) rfl).tr a3⟩
    rw [kc_152_5, if_neg (ofN_le0 i (by omega)), lz_pred', if_pos i1, if_pos i2, if_pos i1, if_pos i2, lz_pred, e1, e2]
    exact a1
theorem c_first {σ : lj_S} {G : List vT} (h : rsC σ G) (hl : G.length ≤ 126) (g : Int32) : ∃ σ', lj_R lc_P 152 [.ref 8, .int g] σ = some (.inl none, σ') ∧ rsC σ' ((1, if g = 0 then 0 else 1) :: G) ∧ lf rtC σ σ' := by
  have e38 : σ.1 8 41 = Int32.ofNat G.length := lz_ext (by rw [lz_lit (by omega)]; exact h.1)
  obtain ⟨σ', a1, a2⟩ := c_first_loop g G hl G.length σ (Nat.le_refl _) h.1 ⟨h.2, fun j h1 h2 => by omega⟩
  exact ⟨σ', by rw [rc_152, kc_152_0, e38]; exact a1, a2⟩
/-- the model's results -/
def rtM (k j : Nat) : Bool := k == 90 || k == 91 || (k == 0 && j == 140)
theorem m_first_loop (g : Int32) (G : List vT) (hl : G.length ≤ 126) : ∀ (i : Nat) (σ : lj_S), i ≤ G.length → lv σ 0 140 = (G.length : Int) → shI 90 91 σ i G → ∃ σ', lj_D lm_P lm_M181 5 [.ref 0, .int g, .int (Int32.ofNat i)] [] σ = some (.inl none, σ') ∧ rsM σ' ((1, if g = 0 then 0 else 1) :: G) ∧ lf rtM σ σ'
  | 0, σ, _, h38, h => by
    have z0 : (0 : Int32).toNatClampNeg = 0 := by decide
    refine ⟨lj_put (lj_putL (lj_put σ 90 0 1) 91 0 (if g = 0 then 0 else 1)) 0 140 (σ.1 0 140 + 1), ?_, ⟨?_, ?_⟩, lf_put (lf_putL (lf_put (lf_rf _ _) _ _ _ rfl) _ _ _ rfl) _ _ _ rfl⟩
    · rw [km_181_5, if_pos (by decide), if_pos (by decide)]
      by_cases w : g = 0
      · rw [if_pos w, km_181_64, if_pos (by decide), z0, if_pos w, lj_put_1, if_neg (by omega)]
      · rw [if_neg w, km_181_64, if_pos (by decide), z0, if_neg w, lj_put_1, if_neg (by omega)]
    · have e38 : σ.1 0 140 = Int32.ofNat G.length := lz_ext (by rw [lz_lit (by omega)]; exact h38)
      rw [lv_put, if_pos ⟨rfl, rfl⟩, e38, lz_osucc, lz_lit (by omega), List.length_cons]
    · refine shI_fin h ?_ (fun j => ⟨?_, ?_⟩)
      · rw [lj_put_1, if_neg (by omega), lj_putL_1, lj_put_1, if_pos ⟨rfl, rfl⟩]
        show ((1 : Int32), (lj_putL (lj_put σ 90 0 1) 91 0 (if g = 0 then 0 else 1)).2 91 0) = _
        rw [lj_putL_2, if_pos ⟨rfl, rfl⟩]
      · rw [lj_put_1, if_neg (by omega), lj_putL_1, lj_put_1, if_neg (by omega)]
      · show (lj_putL (lj_put σ 90 0 1) 91 0 (if g = 0 then 0 else 1)).2 91 (j + 1) = _
        rw [lj_putL_2, if_neg (by omega)]
        rfl
  | i + 1, σ, hi, h38, h => by
    have i1 : lj_in (Int32.ofNat i) 128 := ofN_in (by omega) (by omega)
    have i2 : lj_in (Int32.ofNat (i + 1)) 128 := ofN_in (by omega) (by omega)
    have e1 : (Int32.ofNat i).toNatClampNeg = i := lz_onat (by omega)
    have e2 : (Int32.ofNat (i + 1)).toNatClampNeg = i + 1 := lz_onat (by omega)
    obtain ⟨σ', a1, a2, a3⟩ := m_first_loop g G hl i (shS 90 91 σ i) (by omega) (by show lv (lj_putL (lj_put σ 90 (i + 1) (σ.1 90 i)) 91 (i + 1) (σ.2 91 i)) 0 140 = _; rw [lv_putL, lv_put, if_neg (by omega)]; exact h38) (shI_step h hi)
    refine ⟨σ', ?_, a2, (lf_putL (lf_put (lf_rf rtM σ) 90 (i + 1) (σ.1 90 i) rfl) 91 (i + 1) (σ.2 91 i) rfl).tr a3⟩
    rw [km_181_5, if_neg (ofN_le0 i (by omega)), lz_pred', if_pos i1, if_pos i2, if_pos i1, if_pos i2, lz_pred, e1, e2]
    exact a1
theorem m_first {σ : lj_S} {G : List vT} (h : rsM σ G) (hl : G.length ≤ 126) (g : Int32) : ∃ σ', lj_R lm_P 181 [.ref 0, .int g] σ = some (.inl none, σ') ∧ rsM σ' ((1, if g = 0 then 0 else 1) :: G) ∧ lf rtM σ σ' := by
  have e38 : σ.1 0 140 = Int32.ofNat G.length := lz_ext (by rw [lz_lit (by omega)]; exact h.1)
  obtain ⟨σ', a1, a2⟩ := m_first_loop g G hl G.length σ (Nat.le_refl _) h.1 ⟨h.2, fun j h1 h2 => by omega⟩
  exact ⟨σ', by rw [rm_181, km_181_0, e38]; exact a1, a2⟩
theorem m_also {σ : lj_S} {G : List vT} (h : rsM σ G) (hl : G.length < 128) (u : vT) : ∃ σ', lj_R lm_P 184 [.ref 0, .int u.1, .long u.2] σ = some (.inl none, σ') ∧ rsM σ' (G ++ [u]) ∧ lf rtM σ σ' := by
  have e38 : σ.1 0 140 = Int32.ofNat G.length := lz_ext (by rw [lz_lit (by omega)]; exact h.1)
  have i : lj_in (σ.1 0 140) 128 := by rw [e38]; exact ofN_in hl (by omega)
  have e : (σ.1 0 140).toNatClampNeg = G.length := by rw [e38]; exact lz_onat (by omega)
  refine ⟨_, by rw [rm_184, km_184_0, if_pos i, if_pos i], ⟨?_, fun j hj => ?_⟩, lf_put (lf_putL (lf_put (lf_rf _ _) _ _ _ rfl) _ _ _ rfl) _ _ _ rfl⟩
  · rw [lv_put, if_pos ⟨rfl, rfl⟩, e38, lz_osucc, lz_lit (by omega), List.length_append]; rfl
  · rw [lj_put_1, if_neg (by omega), lj_putL_1, lj_put_1]
    show (_, (lj_putL (lj_put σ 90 (σ.1 0 140).toNatClampNeg u.1) 91 (σ.1 0 140).toNatClampNeg u.2).2 91 j) = _
    rw [lj_putL_2, e]
    rw [List.length_append] at hj
    have hj : j < G.length + 1 := hj
    by_cases w : j = G.length
    · rw [if_pos ⟨rfl, w⟩, if_pos ⟨rfl, w⟩, w]
      simp
    · rw [if_neg (fun z => w z.2), if_neg (fun z => w z.2)]
      have := h.2 j (by omega)
      rw [List.getD_eq_getElem?_getD] at this ⊢
      rw [List.getElem?_append_left (by omega)]
      exact this
/-- the first one that was given goes -/
theorem c_dropGiven_loop (G : List vT) (hl : G.length ≤ 126) : ∀ (d i : Nat) (σ : lj_S), i + d + 1 = G.length → lv σ 8 38 = (G.length : Int) → (∀ j, j < i → (σ.1 105 j, σ.2 106 j) = G.getD (j + 1) (0, 0)) → (∀ j, i ≤ j → j < G.length → (σ.1 105 j, σ.2 106 j) = G.getD j (0, 0)) → ∃ σ', lj_D lc_P lc_M173 2 [.ref 8, .int (Int32.ofNat i)] [] σ = some (.inl none, σ') ∧ gvC σ' G.tail ∧ lf gsC σ σ'
  | 0, i, σ, hd, h38, ha, hb => by
    have e38 : σ.1 8 38 = Int32.ofNat (i + 1) := lz_ext (by rw [lz_lit (by omega)]; unfold lv at h38; rw [h38]; omega)
    refine ⟨lj_put σ 8 38 (Int32.ofNat i), ?_, ⟨?_, fun j hj => ?_⟩, lf_put (lf_rf _ _) _ _ _ rfl⟩
    · rw [kc_173_2, e38, lz_osucc, if_pos (by rw [lz_le]; omega), if_neg (ofN_le0 i (by omega)), kc_173_64, lz_pred']
    · rw [lv_put, if_pos ⟨rfl, rfl⟩, lz_lit (by omega), List.length_tail]; omega
    · rw [List.length_tail] at hj
      rw [lj_put_1, if_neg (by omega)]
      show (σ.1 105 j, σ.2 106 j) = _
      rw [ha j (by omega)]
      cases G with
      | nil => rfl
      | cons x G => rfl
  | d + 1, i, σ, hd, h38, ha, hb => by
    have e38 : σ.1 8 38 = Int32.ofNat G.length := lz_ext (by rw [lz_lit (by omega)]; exact h38)
    have i1 : lj_in (Int32.ofNat i) 128 := ofN_in (by omega) (by omega)
    have i2 : lj_in (Int32.ofNat (i + 1)) 128 := ofN_in (by omega) (by omega)
    have e1 : (Int32.ofNat i).toNatClampNeg = i := lz_onat (by omega)
    have e2 : (Int32.ofNat (i + 1)).toNatClampNeg = i + 1 := lz_onat (by omega)
    have o1 : ∀ j, (lj_putL (lj_put σ 105 i (σ.1 105 (i + 1))) 106 i (σ.2 106 (i + 1))).1 105 j = if j = i then σ.1 105 (i + 1) else σ.1 105 j := fun j => by
      rw [lj_putL_1, lj_put_1]; simp
    have o2 : ∀ j, (lj_putL (lj_put σ 105 i (σ.1 105 (i + 1))) 106 i (σ.2 106 (i + 1))).2 106 j = if j = i then σ.2 106 (i + 1) else σ.2 106 j := fun j => by
      rw [lj_putL_2]; simp; rfl
    obtain ⟨σ', a1, a2, a3⟩ := c_dropGiven_loop G hl d (i + 1) (lj_putL (lj_put σ 105 i (σ.1 105 (i + 1))) 106 i (σ.2 106 (i + 1))) (by omega) (by rw [lv_putL, lv_put, if_neg (by omega)]; exact h38) (fun j hj => by
      rw [o1, o2]
      by_cases w : j = i
      · rw [if_pos w, if_pos w, w]; exact hb (i + 1) (by omega) (by omega)
      · rw [if_neg w, if_neg w]; exact ha j (by omega)) (fun j h1 h2 => by
      rw [o1, o2, if_neg (by omega), if_neg (by omega)]; exact hb j (by omega) (by omega))
    refine ⟨σ', ?_, a2, (lf_putL (lf_put (lf_rf gsC σ) 105 i (σ.1 105 (i + 1)) rfl) 106 i (σ.2 106 (i + 1)) rfl).tr a3⟩
    rw [kc_173_2, e38, lz_osucc, if_neg (by rw [lz_le, lz_lit (by omega), lz_lit (by omega)]; omega), if_pos i2, if_pos i1, if_pos i2, if_pos i1, e1, e2]
    exact a1
theorem c_dropGiven {σ : lj_S} {G : List vT} (h : gvC σ G) (hl : G.length ≤ 126) : ∃ σ', lj_R lc_P 173 [.ref 8] σ = some (.inl none, σ') ∧ gvC σ' G.tail ∧ lf gsC σ σ' := by
  cases G with
  | nil =>
    have e38 : σ.1 8 38 = 0 := lz_ext (by have := h.1; unfold lv at this; rw [this]; rfl)
    refine ⟨lj_put σ 8 38 0, ?_, ⟨by rw [lv_put, if_pos ⟨rfl, rfl⟩]; rfl, fun j hj => absurd hj (Nat.not_lt_zero _)⟩, lf_put (lf_rf _ _) _ _ _ rfl⟩
    rw [rc_173, kc_173_0, kc_173_2, e38, if_pos (by decide), if_pos (by decide), kc_173_64]
  | cons x G =>
    obtain ⟨σ', a1, a2⟩ := c_dropGiven_loop (x :: G) hl G.length 0 σ (by rw [List.length_cons]; omega) h.1 (fun j hj => absurd hj (Nat.not_lt_zero _)) (fun j _ hj => h.2 j hj)
    exact ⟨σ', by rw [rc_173, kc_173_0]; exact a1, a2⟩
