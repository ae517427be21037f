/-! calls: what lies behind a mark is given -/
theorem c_cg (x1 x2 : Int32) {G : List vT} {c1 : Nat} (hc : c1 + G.length < 325000) (hl : G.length ≤ 110) : ∀ (d k : Nat) (σ : lj_S), k + d = G.length → gvC σ (G.take k) → (∀ j, j < G.length → cv σ (c1 + j) = G.getD j (0, 0)) → σ.1 8 8 = Int32.ofNat (c1 + G.length) → ∃ σ', lj_D lc_P lc_M203 32 [.ref 8, .int x1, .int x2, .int (Int32.ofNat (c1 + k))] [] σ = lj_D lc_P lc_M203 32 [.ref 8, .int x1, .int x2, .int (Int32.ofNat (c1 + G.length))] [] σ' ∧ gvC σ' G ∧ lf gsC σ σ'
  | 0, k, σ, hk, hr, hv, h8 => by
    have e : k = G.length := by omega
    rw [e, List.take_length] at hr
    exact ⟨σ, by rw [e], hr, lf_rf _ _⟩
  | d + 1, k, σ, hk, hr, hv, h8 => by
    have ii : lj_in (Int32.ofNat (c1 + k)) 325000 := ofN_in (by omega) (by omega)
    obtain ⟨σ1, e1, e2, e3⟩ := c_give hr (by rw [List.length_take]; omega) (cv σ (c1 + k))
    have e1 : lj_R lc_P 154 [.ref 8, .int (σ.1 79 (c1 + k)), .long (σ.2 80 (c1 + k))] σ = some (.inl none, σ1) := e1
    have et : G.take k ++ [cv σ (c1 + k)] = G.take (k + 1) := by
      rw [hv k (by omega), List.take_add_one, List.getD_eq_getElem?_getD, List.getElem?_eq_getElem (show k < G.length by omega)]
      rfl
    rw [et] at e2
    have o : ∀ k j, ¬ (k = 105 ∨ k = 106 ∨ k = 8 ∧ j = 38) → σ1.1 k j = σ.1 k j ∧ σ1.2 k j = σ.2 k j := fun k j z => e3 k j (by unfold gsC; simp; omega)
    obtain ⟨σ', w1, w2, w3⟩ := c_cg x1 x2 hc hl d (k + 1) σ1 (by omega) e2 (fun j hj => by rw [← hv j hj]; unfold cv; rw [(o 79 _ (by omega)).1, (o 80 _ (by omega)).2]) (by rw [(o 8 8 (by omega)).1]; exact h8)
    refine ⟨σ', ?_, w2, e3.tr w3⟩
    rw [kc_203_32, h8, if_neg (by rw [ofN_le (by omega) (by omega)]; omega), if_pos ii, if_pos ii, lz_onat (by omega), e1, bv_ok, lz_osucc, Nat.add_assoc, w1]
theorem m_cg (x1 x2 : Int32) {G : List vT} {p m0 : Nat} (hp : p < 26) (hm : m0 + G.length < 10000) (hl : G.length ≤ 110) : ∀ (d k : Nat) (τ : lj_S), k + d = G.length → τ.1 0 137 = Int32.ofNat G.length → (∀ j, j < k → (τ.1 88 j, τ.2 89 j) = G.getD j (0, 0)) → (∀ j, j < G.length → mv τ (10000 * p + (m0 + j)) = G.getD j (0, 0)) → τ.1 0 111 = Int32.ofNat p → ∃ τ', lj_D lm_P lm_M148 41 [.ref 0, .int x1, .int x2, .int (Int32.ofNat m0), .int (Int32.ofNat G.length), .int (Int32.ofNat k)] [] τ = lj_D lm_P lm_M148 41 [.ref 0, .int x1, .int x2, .int (Int32.ofNat m0), .int (Int32.ofNat G.length), .int (Int32.ofNat G.length)] [] τ' ∧ gvM τ' G ∧ ∀ k j, k ≠ 88 → k ≠ 89 → τ'.1 k j = τ.1 k j ∧ τ'.2 k j = τ.2 k j
  | 0, k, τ, hk, h137, hj, hv, h111 => by
    have e : k = G.length := by omega
    exact ⟨τ, by rw [e], ⟨by unfold lv; rw [h137, lz_lit (by omega)], fun j z => hj j (by omega)⟩, fun _ _ _ _ => ⟨rfl, rfl⟩⟩
  | d + 1, k, τ, hk, h137, hj, hv, h111 => by
    have em : (10000 : Int32) * τ.1 0 111 + Int32.ofNat m0 + Int32.ofNat k = Int32.ofNat (10000 * p + (m0 + k)) := by
      rw [h111, show (10000 : Int32) = Int32.ofNat 10000 from rfl, ← Int32.ofNat_mul, ← Int32.ofNat_add, ← Int32.ofNat_add, Nat.add_assoc]
    have i6 : lj_in (Int32.ofNat (10000 * p + (m0 + k))) 260000 := ofN_in (by omega) (by omega)
    have i7 : lj_in (Int32.ofNat k) 128 := ofN_in (by omega) (by omega)
    obtain ⟨τ1, hτ1⟩ : ∃ τ1, τ1 = lj_putL (lj_put τ 88 k (τ.1 71 (10000 * p + (m0 + k)))) 89 k (τ.2 72 (10000 * p + (m0 + k))) := ⟨_, rfl⟩
    have o1 : ∀ kk j, ¬ (kk = 88 ∧ j = k) → τ1.1 kk j = τ.1 kk j := fun kk j z => by rw [hτ1, lj_putL_1, lj_put_1, if_neg z]
    have o2 : ∀ kk j, ¬ (kk = 89 ∧ j = k) → τ1.2 kk j = τ.2 kk j := fun kk j z => by rw [hτ1, lj_putL_2, if_neg z]; rfl
    obtain ⟨τ', w1, w2, w3⟩ := m_cg x1 x2 hp hm hl d (k + 1) τ1 (by omega) (by rw [o1 0 137 (by omega)]; exact h137) (fun j z => by
      by_cases y : j = k
      · rw [y, hτ1, lj_putL_1, lj_put_1, if_pos ⟨rfl, rfl⟩, lj_putL_2, if_pos ⟨rfl, rfl⟩]
        exact hv k (by omega)
      · rw [o1 88 j (by omega), o2 89 j (by omega)]
        exact hj j (by omega)) (fun j hj => by rw [← hv j hj]; unfold mv; rw [o1 71 _ (by omega), o2 72 _ (by omega)]) (by rw [o1 0 111 (by omega)]; exact h111)
    refine ⟨τ', ?_, w2, fun kk j z1 z2 => ?_⟩
    · rw [km_148_41, if_neg (by rw [ofN_le (by omega) (by omega)]; omega), em, if_pos i6, if_pos i7, if_pos i6, if_pos i7, lz_onat (by omega), lz_onat (by omega), lz_osucc, ← hτ1, w1]
    · obtain ⟨v1, v2⟩ := w3 kk j z1 z2
      exact ⟨v1.trans (o1 kk j (by omega)), v2.trans (o2 kk j (by omega))⟩
/-- the component's call -/
theorem c_cl {σ : lj_S} {i c00 k : Nat} {cm : Int32} (line : Int32) (h34 : σ.1 8 34 = Int32.ofNat i) (hi : i < 520) (h97 : σ.1 97 i = Int32.ofNat (c00 + 1)) (h8 : σ.1 8 8 = Int32.ofNat (c00 + 2 + k)) (hc : c00 + 2 + k < 325000) (hk : k ≤ 30) (h80 : σ.2 80 (c00 + 1) = cm.toInt64) : ∃ σ2, lj_R lc_P 203 [.ref 8, .int line] σ = finC (lj_R lc_P 155 [.ref 8, .int (cv σ c00).1, .long (cv σ c00).2, .int 0, .int line] σ2) ∧ gvC σ2 (rsK σ (c00 + 2) k) ∧ σ2.1 97 i = cm ∧ σ2.1 8 8 = Int32.ofNat c00 ∧ ∀ kk j, ¬ (kk = 105 ∨ kk = 106 ∨ kk = 8 ∧ (j = 38 ∨ j = 8) ∨ kk = 97 ∧ j = i) → σ2.1 kk j = σ.1 kk j ∧ σ2.2 kk j = σ.2 kk j := by
  have kl := rsK_len σ (c00 + 2) k
  have bh := c_behind (σ := σ) (t := c00 + 2 + k) (i := i) (c := c00 + 1) h8 h34 hi h97 (by omega) (by omega)
  rw [show c00 + 2 + k - (c00 + 1) - 1 = k by omega] at bh
  have oa : ∀ kk j, ¬ (kk = 8 ∧ j = 38) → (lj_put σ 8 38 0).1 kk j = σ.1 kk j := fun kk j z => by rw [lj_put_1, if_neg z]
  obtain ⟨σ1, e1, e2, e3⟩ := c_cg line (Int32.ofNat k) (G := rsK σ (c00 + 2) k) (c1 := c00 + 2) (by rw [kl]; omega) (by rw [kl]; omega) k 0 (lj_put σ 8 38 0) (by rw [kl]; omega) ⟨by unfold lv; rw [lj_put_1, if_pos ⟨rfl, rfl⟩]; rfl, fun j hj => absurd hj (by simp)⟩ (fun j hj => by
    rw [kl] at hj
    rw [rsK_get _ _ _ _ hj]
    unfold cv
    rw [oa 79 _ (by omega)]
    rfl) (by rw [oa 8 8 (by omega), h8, kl])
  rw [kl] at e1
  have o1 : ∀ kk j, ¬ (kk = 105 ∨ kk = 106 ∨ kk = 8 ∧ j = 38) → σ1.1 kk j = σ.1 kk j ∧ σ1.2 kk j = σ.2 kk j := fun kk j z => by
    obtain ⟨v1, v2⟩ := e3 kk j (by unfold gsC; simp; omega)
    exact ⟨v1.trans (oa kk j (by omega)), v2⟩
  obtain ⟨σ2, hσ2⟩ : ∃ s, s = lj_put (lj_put σ1 97 i cm) 8 8 (Int32.ofNat c00) := ⟨_, rfl⟩
  have k30 : Int32.ofNat k ≤ (30 : Int32) := (ofN_le (b := 30) (by omega) (by omega)).2 hk
  have es : Int32.ofNat (c00 + 2 + k) - Int32.ofNat k = Int32.ofNat (c00 + 2 + 0) := ofN_sub' (c00 + 2) k
  have i34 : lj_in (σ1.1 8 34) 520 := by rw [(o1 8 34 (by omega)).1, h34]; exact ofN_in hi (by omega)
  have n34 : (σ1.1 8 34).toNatClampNeg = i := by rw [(o1 8 34 (by omega)).1, h34]; exact lz_onat (by omega)
  have g97 : σ1.1 97 i = Int32.ofNat (c00 + 1) := by rw [(o1 97 i (by omega)).1]; exact h97
  have i97 : lj_in (Int32.ofNat (c00 + 1)) 325000 := ofN_in (by omega) (by omega)
  have p97 : Int32.ofNat (c00 + 1) - 1 = Int32.ofNat c00 := ofN_sub' c00 1
  have i00 : lj_in (Int32.ofNat c00) 325000 := ofN_in (by omega) (by omega)
  refine ⟨σ2, ?_, ⟨?_, fun j hj => ?_⟩, ?_, ?_, fun kk j z => ?_⟩
  · rw [rc_203, kc_203_0, bh, bi_ok, if_pos k30, h8, es, e1, kc_203_32, (o1 8 8 (by omega)).1, h8, if_pos ((ofN_le (by omega) (by omega)).2 (Nat.le_refl _))]
    have n00 : (Int32.ofNat c00).toNatClampNeg = c00 := lz_onat (by omega)
    have n01 : (Int32.ofNat (c00 + 1)).toNatClampNeg = c00 + 1 := lz_onat (by omega)
    simp only [if_pos i34, n34, g97, if_pos i97, p97, if_pos i00, n00, n01]
    rw [(o1 79 _ (by omega)).1, (o1 80 _ (by omega)).2, (o1 80 (c00 + 1) (by omega)).2, h80, Int32.toInt32_toInt64, ← hσ2]
    rfl
  · unfold lv; rw [hσ2, lj_put_1, if_neg (by omega), lj_put_1, if_neg (by omega)]; exact e2.1
  · rw [hσ2, lj_put_1, if_neg (by omega), lj_put_1, if_neg (by omega)]; exact e2.2 j hj
  · rw [hσ2, lj_put_1, if_neg (by omega), lj_put_1, if_pos ⟨rfl, rfl⟩]
  · rw [hσ2, lj_put_1, if_pos ⟨rfl, rfl⟩]
  · rw [hσ2]
    exact ⟨by rw [lj_put_1, if_neg (by omega), lj_put_1, if_neg (by omega)]; exact (o1 kk j (by omega)).1, (o1 kk j (by omega)).2⟩
/-- the model's call -/
theorem m_cl {τ : lj_S} {p m00 k mq : Nat} (x line : Int32) (at1 : mAt τ p (m00 + 1 + k) (mq + 1)) (hb : m00 + 1 + k < 10000) (h73 : τ.1 73 (2000 * p + mq) = Int32.ofNat (m00 + 1)) (hk : k ≤ 30) : ∃ τ2, lj_R lm_P 148 [.ref 0, .int x, .int line] τ = some (.inl none, τ2) ∧ gvM τ2 (rsN τ p (m00 + 1) k) ∧ (τ2.1 0 129 = 3 ∧ τ2.1 0 130 = 0 ∧ τ2.1 0 131 = x ∧ τ2.1 0 132 = line ∧ (τ2.1 0 133, τ2.2 0 134) = mv τ (10000 * p + m00)) ∧ (τ2.1 63 p = Int32.ofNat m00 ∧ τ2.1 64 p = Int32.ofNat mq ∧ τ2.2 0 129 = τ.2 0 129) ∧ ∀ kk j, ¬ (kk = 88 ∨ kk = 89 ∨ kk = 0 ∧ (j = 129 ∨ j = 130 ∨ j = 131 ∨ j = 132 ∨ j = 133 ∨ j = 134 ∨ j = 137) ∨ (kk = 63 ∨ kk = 64) ∧ j = p) → τ2.1 kk j = τ.1 kk j ∧ τ2.2 kk j = τ.2 kk j := by
  have nl := rsN_len τ p (m00 + 1) k
  have mk := m_mark at1
  rw [h73] at mk
  have i1 := at1.i
  have sb : Int32.ofNat (m00 + 1 + k) - Int32.ofNat (m00 + 1) = Int32.ofNat k := ofN_sub'' (m00 + 1) k
  have k30 : Int32.ofNat k ≤ (30 : Int32) := (ofN_le (b := 30) (by omega) (by omega)).2 hk
  obtain ⟨τa, hτa⟩ : ∃ t, t = lj_put τ 0 137 (Int32.ofNat k) := ⟨_, rfl⟩
  have oa : ∀ kk j, ¬ (kk = 0 ∧ j = 137) → τa.1 kk j = τ.1 kk j := fun kk j z => by rw [hτa, lj_put_1, if_neg z]
  have oa2 : ∀ kk j, τa.2 kk j = τ.2 kk j := fun kk j => by rw [hτa]; rfl
  obtain ⟨τb, f1, f2, f3⟩ := m_cg x line (G := rsN τ p (m00 + 1) k) (p := p) (m0 := m00 + 1) at1.2.1 (by rw [nl]; omega) (by rw [nl]; omega) k 0 τa (by rw [nl]; omega) (by rw [hτa, lj_put_1, if_pos ⟨rfl, rfl⟩, nl]) (fun j hj => absurd hj (by omega)) (fun j hj => by
    rw [nl] at hj
    rw [rsN_get _ _ _ _ _ hj]
    unfold mv
    rw [oa 71 _ (by omega), oa2]) (by rw [oa 0 111 (by omega)]; exact at1.1)
  rw [nl] at f1
  have ob : ∀ kk j, ¬ (kk = 88 ∨ kk = 89 ∨ kk = 0 ∧ j = 137) → τb.1 kk j = τ.1 kk j ∧ τb.2 kk j = τ.2 kk j := fun kk j z => by
    obtain ⟨v1, v2⟩ := f3 kk j (by omega) (by omega)
    exact ⟨v1.trans (oa kk j (by omega)), v2.trans (oa2 kk j)⟩
  have b111 : τb.1 0 111 = Int32.ofNat p := by rw [(ob 0 111 (by omega)).1]; exact at1.1
  have ib : lj_in (τb.1 0 111) 26 := by rw [b111]; exact ofN_in at1.2.1 (by omega)
  have p26 := at1.2.1
  have nb : (τb.1 0 111).toNatClampNeg = p := by rw [b111]; exact lz_onat (by omega)
  have ix : (10000 : Int32) * τb.1 0 111 + Int32.ofNat (m00 + 1) - 1 = Int32.ofNat (10000 * p + m00) := by
    rw [b111, show (10000 : Int32) = Int32.ofNat 10000 from rfl, ← Int32.ofNat_mul, ← Int32.ofNat_add]
    exact ofN_sub' (10000 * p + m00) 1
  have ii : lj_in (Int32.ofNat (10000 * p + m00)) 260000 := ofN_in (by omega) (by omega)
  have n1 : (Int32.ofNat (10000 * p + m00)).toNatClampNeg = 10000 * p + m00 := lz_onat (by omega)
  have p1 : Int32.ofNat (m00 + 1) - 1 = Int32.ofNat m00 := ofN_sub' m00 1
  have p2 : Int32.ofNat (mq + 1) - 1 = Int32.ofNat mq := ofN_sub' mq 1
  obtain ⟨τ2, hτ2⟩ : ∃ t, t = lj_put (lj_put (lj_put (lj_put (lj_put (lj_put (lj_putL (lj_put τb 0 133 (mv τ (10000 * p + m00)).1) 0 134 (mv τ (10000 * p + m00)).2) 63 p (Int32.ofNat m00)) 64 p (Int32.ofNat mq)) 0 130 0) 0 131 x) 0 132 line) 0 129 3 := ⟨_, rfl⟩
  refine ⟨τ2, ?_, ⟨?_, fun j hj => ?_⟩, ⟨?_, ?_, ?_, ?_, ?_⟩, ⟨?_, ?_, ?_⟩, fun kk j z => ?_⟩
  · rw [rm_148, km_148_0, mk, bi_ok, if_pos i1.1, i1.2.1, at1.2.2.1, sb, if_pos k30, ← hτa, show (0 : Int32) = Int32.ofNat 0 from rfl, f1, km_148_41, if_pos ((ofN_le (by omega) (by omega)).2 (Nat.le_refl _)), ix, if_pos ii, if_pos ii, n1]
    simp only [if_pos ib, nb]
    rw [(ob 71 _ (by omega)).1, (ob 72 _ (by omega)).2, p1]
    have e64 : (lj_put (lj_putL (lj_put τb 0 133 (τ.1 71 (10000 * p + m00))) 0 134 (τ.2 72 (10000 * p + m00))) 63 p (Int32.ofNat m00)).1 64 p = Int32.ofNat (mq + 1) := by
      rw [lj_put_1, if_neg (by omega), lj_putL_1, lj_put_1, if_neg (by omega), (ob 64 p (by omega)).1]
      exact at1.2.2.2.2.1
    have e64' : τb.1 64 p = Int32.ofNat (mq + 1) := by rw [(ob 64 p (by omega)).1]; exact at1.2.2.2.2.1
    rw [e64', p2, rm_112, km_112_0, bv_ok, hτ2]
    rfl
  · unfold lv
    rw [show τ2.1 0 137 = τb.1 0 137 by rw [hτ2]; simp [lj_put_1, lj_putL_1]]
    exact f2.1
  · rw [show τ2.1 88 j = τb.1 88 j by rw [hτ2]; simp [lj_put_1, lj_putL_1], show τ2.2 89 j = τb.2 89 j by rw [hτ2]; simp [lj_put_2, lj_putL_2]]
    exact f2.2 j hj
  · rw [hτ2]; simp [lj_put_1, lj_putL_1]
  · rw [hτ2]; simp [lj_put_1, lj_putL_1]
  · rw [hτ2]; simp [lj_put_1, lj_putL_1]
  · rw [hτ2]; simp [lj_put_1, lj_putL_1]
  · rw [hτ2]; simp [lj_put_1, lj_putL_1, lj_put_2, lj_putL_2]
  · rw [hτ2]; simp [lj_put_1, lj_putL_1]
  · rw [hτ2]; simp [lj_put_1, lj_putL_1]
  · rw [hτ2, lj_put_2, lj_put_2, lj_put_2, lj_put_2, lj_put_2, lj_put_2, lj_putL_2, if_neg (by omega), lj_put_2]
    exact (ob 0 129 (by omega)).2
  · refine ⟨?_, ?_⟩
    · rw [hτ2, lj_put_1, if_neg (by omega), lj_put_1, if_neg (by omega), lj_put_1, if_neg (by omega), lj_put_1, if_neg (by omega), lj_put_1, if_neg (by omega), lj_put_1, if_neg (by omega), lj_putL_1, lj_put_1, if_neg (by omega)]
      exact (ob kk j (by omega)).1
    · rw [hτ2, lj_put_2, lj_put_2, lj_put_2, lj_put_2, lj_put_2, lj_put_2, lj_putL_2, if_neg (by omega), lj_put_2]
      exact (ob kk j (by omega)).2
