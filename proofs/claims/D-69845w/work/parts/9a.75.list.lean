/-! all that came goes into a table -/
theorem lf_pp {A : Nat → Nat → Bool} {σ σ' : lj_S} (f : lf A σ σ') (k i : Nat) (v : Int32) : lf A (lj_put σ k i v) (lj_put σ' k i v) := fun k' j' q => by
  refine ⟨?_, (f k' j' q).2⟩
  rw [lj_put_1, lj_put_1, (f k' j' q).1]
theorem lf_sy {A : Nat → Nat → Bool} {σ σ' : lj_S} (f : lf A σ σ') : lf A σ' σ := fun k j q => ⟨(f k j q).1.symm, (f k j q).2.symm⟩
theorem k64 : ∀ m : Nat, m < 200 → (Int32.ofNat (m + 1)).toInt64 - 1 = (Int32.ofNat m).toInt64 := by decide +kernel
theorem hw_vR {σ τ σ' τ' : lj_S} (f : lf hwC σ σ') (g : lf hwM τ τ') (a b : vT) (h : vR σ τ a b) : vR σ' τ' a b := h.cg (fun k j q => (f k j (by unfold vqC at q; unfold hwC; simp at q ⊢; omega)).1) (fun k j q => (g k j (by unfold vqM at q; unfold hwM; simp at q ⊢; omega)).1)
theorem hw_sM {σ τ σ' τ' : lj_S} (h : sM σ τ) (f : lf hwC σ σ') (g : lf hwM τ τ') : sM σ' τ' := h.cg (fun k j q => (f k j (by unfold sqC at q; unfold hwC; simp at q ⊢; omega)).1) (fun k j q => (g k j (by unfold sqM at q; unfold hwM; simp at q ⊢; omega)).1)
theorem set_loop {n i o c0 m0 p ci : Nat} {cm : Int32} {G G' : List vT} (hi : i < 60) (ho : o ≤ n) (htm : tm o = o) (hl : G.length = G'.length) (hl2 : G.length ≤ 110) (hci : ci < 520) (hc : c0 + 2 + G.length < 325000) (hp : p < 26) (hm : m0 + 1 + G.length < 10000) (x1 x3 : Int32) : ∀ (d k : Nat) (σ τ : lj_S), k + d = G.length → sM σ τ → hpR σ τ n → (∀ j, j < G.length → vR σ τ (G.getD j (0, 0)) (G'.getD j (0, 0))) → (∀ j, j < G.length → cv σ (c0 + 2 + j) = G.getD j (0, 0)) → (∀ j, j < G.length → mv τ (10000 * p + (m0 + 1 + j)) = G'.getD j (0, 0)) → σ.1 8 8 = Int32.ofNat (c0 + 2 + G.length) → σ.1 8 34 = Int32.ofNat ci → (σ.2 80 c0).toInt32 = Int32.ofNat o → (σ.2 80 (c0 + 1)).toInt32 = cm → τ.1 0 111 = Int32.ofNat p → σ.1 57 o = 4 →
    (∃ σ' τ', lj_D lc_P lc_M139 810 [.ref 8, .int x1, .int (Int32.ofNat i), .int x3, .int (Int32.ofNat (c0 + 1)), .int (Int32.ofNat (c0 + 2 + k))] [] σ = some (.inr 2, lj_put σ' 2 6 1) ∧ lj_D lm_P lm_M155 56 [.ref 0, .int (Int32.ofNat i), .int (Int32.ofNat (m0 + 1)), .int (Int32.ofNat o), .int (Int32.ofNat G.length), .int 1, .int (Int32.ofNat k)] [] τ = some (.inl none, lj_put (lj_put τ' 0 143 4) 63 p (Int32.ofNat (m0 + 1))) ∧ lf hwC σ σ' ∧ lf hwM τ τ' ∧ hpR σ' τ' n) ∨
    ∃ σ' τ', lj_D lc_P lc_M139 810 [.ref 8, .int x1, .int (Int32.ofNat i), .int x3, .int (Int32.ofNat (c0 + 1)), .int (Int32.ofNat (c0 + 2 + k))] [] σ = some (.inl (some (.int 1)), lj_put (lj_put σ' 8 8 (Int32.ofNat (c0 + 1))) 97 ci cm) ∧ lj_D lm_P lm_M155 56 [.ref 0, .int (Int32.ofNat i), .int (Int32.ofNat (m0 + 1)), .int (Int32.ofNat o), .int (Int32.ofNat G.length), .int 1, .int (Int32.ofNat k)] [] τ = some (.inl none, lj_put τ' 63 p (Int32.ofNat (m0 + 1))) ∧ lf hwC σ σ' ∧ lf hwM τ τ' ∧ hpR σ' τ' n
  | 0, k, σ, τ, hk, h1, h2, hv, hC, hM, h8, h34, ht, hcm, h111, _ => by
    right
    have i1 : lj_in (Int32.ofNat (c0 + 1)) 325000 := ofN_in (by omega) (by omega)
    have i2 : lj_in (σ.1 8 34) 520 := by rw [h34]; exact ofN_in (by omega) (by omega)
    have i3 : lj_in (τ.1 0 111) 26 := by rw [h111]; exact ofN_in (by omega) (by omega)
    have n2 : (σ.1 8 34).toNatClampNeg = ci := by rw [h34]; exact lz_onat (by omega)
    have n3 : (τ.1 0 111).toNatClampNeg = p := by rw [h111]; exact lz_onat (by omega)
    refine ⟨σ, τ, ?_, ?_, lf_rf _ _, lf_rf _ _, h2⟩
    · rw [kc_139_810, h8, if_pos ((ofN_le (by omega) (by omega)).2 (by omega)), if_pos i1, if_pos i2, kc_139_1051, n2, lz_onat (by omega), hcm]
    · rw [km_155_56, if_pos ((ofN_le (by omega) (by omega)).2 (by omega)), km_155_123, if_pos i3, n3]
  | d + 1, k, σ, τ, hk, h1, h2, hv, hC, hM, h8, h34, ht, hcm, h111, h57 => by
    have i1 : lj_in (Int32.ofNat c0) 325000 := ofN_in (by omega) (by omega)
    have i5 : lj_in (Int32.ofNat (c0 + 2 + k)) 325000 := ofN_in (by omega) (by omega)
    have i3 : lj_in (τ.1 0 111) 26 := by rw [h111]; exact ofN_in (by omega) (by omega)
    have n3 : (τ.1 0 111).toNatClampNeg = p := by rw [h111]; exact lz_onat (by omega)
    have ek : Int32.ofNat i + Int32.ofNat (c0 + 2 + k) - Int32.ofNat (c0 + 1) = Int32.ofNat (i + k + 1) := by
      rw [← Int32.ofNat_add]
      refine lz_ext ?_
      rw [lz_sub (by rw [lz_lit (by omega), lz_lit (by omega)]; omega), lz_lit (by omega), lz_lit (by omega), lz_lit (by omega)]
      omega
    have em : (10000 : Int32) * τ.1 0 111 + Int32.ofNat (m0 + 1) + Int32.ofNat k = Int32.ofNat (10000 * p + (m0 + 1 + k)) := by
      rw [h111, show (10000 : Int32) = Int32.ofNat 10000 from rfl, ← Int32.ofNat_mul, ← Int32.ofNat_add, ← Int32.ofNat_add, Nat.add_assoc]
    have i6 : lj_in (Int32.ofNat (10000 * p + (m0 + 1 + k))) 260000 := ofN_in (by omega) (by omega)
    have kw : vR σ τ (2, (Int32.ofNat (i + k)).toInt64) (2, (Int32.ofNat (i + k)).toInt64) := vR_whole _ _ _
    rw [kc_139_810, h8, if_neg (by rw [ofN_le (by omega) (by omega)]; omega), lz_pred', if_pos i1, if_pos i5, if_pos i5, lz_onat (by omega), lz_onat (by omega), ht, ek, k64 (i + k) (by omega), km_155_56, if_neg (by rw [ofN_le (by omega) (by omega)]; omega), if_neg (by decide), em, if_pos i6, if_pos i6, lz_onat (by omega), lz_osucc, lz_osucc, ← Int32.ofNat_add]
    have ec := hC k (by omega)
    have em' := hM k (by omega)
    rcases cm_set h1.1 h2 ho kw (show (2 : Int32) ≠ 0 by decide) (hv k (by omega)) (fun z => by rw [z] at htm; exact absurd htm (by decide)) h57 with ⟨x1', x2'⟩ | ⟨σ', τ', x1', x2', x3', x4', x5'⟩
    · left
      rw [← ec] at x1'
      rw [htm, ← em'] at x2'
      have x1' : lj_R lc_P 113 [.ref 7, .int (Int32.ofNat o), .int 2, .long (Int32.ofNat (i + k)).toInt64, .int (σ.1 79 (c0 + 2 + k)), .long (σ.2 80 (c0 + 2 + k))] σ = _ := x1'
      have x2' : lj_R lm_P 108 [.ref 0, .int (Int32.ofNat o), .int 2, .long (Int32.ofNat (i + k)).toInt64, .int (τ.1 71 (10000 * p + (m0 + 1 + k))), .long (τ.2 72 (10000 * p + (m0 + 1 + k)))] τ = _ := x2'
      refine ⟨σ, τ, ?_, ?_, lf_rf _ _, lf_rf _ _, h2⟩
      · rw [x1', bv_th]
      · rw [x2', bi_ok, km_155_56]
        have e : lj_D lm_P lm_M155 123 [.ref 0, .int (Int32.ofNat i), .int (Int32.ofNat (m0 + 1)), .int (Int32.ofNat o), .int (Int32.ofNat G.length), .int 0, .int (Int32.ofNat (k + 1))] [] (lj_put τ 0 143 4) = some (.inl none, lj_put (lj_put τ 0 143 4) 63 p (Int32.ofNat (m0 + 1))) := by
          have q : (lj_put τ 0 143 4).1 0 111 = τ.1 0 111 := by rw [lj_put_1, if_neg (by omega)]
          rw [km_155_123, if_pos (by rw [q]; exact i3), q, n3]
        rw [e, if_pos rfl]
        split <;> rfl
    · rw [← ec] at x1'
      rw [htm, ← em'] at x2'
      have x1' : lj_R lc_P 113 [.ref 7, .int (Int32.ofNat o), .int 2, .long (Int32.ofNat (i + k)).toInt64, .int (σ.1 79 (c0 + 2 + k)), .long (σ.2 80 (c0 + 2 + k))] σ = _ := x1'
      have x2' : lj_R lm_P 108 [.ref 0, .int (Int32.ofNat o), .int 2, .long (Int32.ofNat (i + k)).toInt64, .int (τ.1 71 (10000 * p + (m0 + 1 + k))), .long (τ.2 72 (10000 * p + (m0 + 1 + k)))] τ = _ := x2'
      have c : ∀ k j, ¬ (k = 7 ∧ (j = 11 ∨ j = 12) ∨ 59 ≤ k ∧ k ≤ 61 ∨ 66 ≤ k ∧ k ≤ 73) → σ'.1 k j = σ.1 k j ∧ σ'.2 k j = σ.2 k j := fun k j z => x4' k j (by unfold hwC; simp; omega)
      have m : ∀ k j, ¬ (k = 0 ∧ (j = 88 ∨ j = 89) ∨ 40 ≤ k ∧ k ≤ 41 ∨ 45 ≤ k ∧ k ≤ 52) → τ'.1 k j = τ.1 k j ∧ τ'.2 k j = τ.2 k j := fun k j z => x5' k j (by unfold hwM; simp; omega)
      rw [x1', bv_ok, x2', bi_ok]
      rcases set_loop (cm := cm) hi ho htm hl hl2 hci hc hp hm x1 x3 d (k + 1) σ' τ' (by omega) (hw_sM h1 x4' x5') x3' (fun j hj => hw_vR x4' x5' _ _ (hv j hj)) (fun j hj => by rw [← hC j hj]; unfold cv; rw [(c 79 _ (by omega)).1, (c 80 _ (by omega)).2]) (fun j hj => by rw [← hM j hj]; unfold mv; rw [(m 71 _ (by omega)).1, (m 72 _ (by omega)).2]) (by rw [(c 8 8 (by omega)).1]; exact h8) (by rw [(c 8 34 (by omega)).1]; exact h34) (by rw [(c 80 _ (by omega)).2]; exact ht) (by rw [(c 80 _ (by omega)).2]; exact hcm) (by rw [(m 0 111 (by omega)).1]; exact h111) (by rw [(c 57 o (by omega)).1]; exact h57) with ⟨s1, t1, y1, y2, y3, y4, y5⟩ | ⟨s1, t1, y1, y2, y3, y4, y5⟩
      · exact Or.inl ⟨s1, t1, y1, y2, x4'.tr y3, x5'.tr y4, y5⟩
      · exact Or.inr ⟨s1, t1, y1, y2, x4'.tr y3, x5'.tr y4, y5⟩
