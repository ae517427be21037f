/-! texts of both machines -/
def sqC (k j : Nat) : Bool := k == 9 || k == 10 || k == 11 || k == 12 || k == 13 || k == 15 || (k == 3 && (j == 7 || j == 8 || j == 13 || j == 14))
def sqM (k j : Nat) : Bool := k == 2 || k == 3 || k == 4 || k == 5 || k == 6 || k == 7 || (k == 0 && (j == 8 || j == 14 || j == 17 || j == 18))
theorem sR.cg {σ τ σ' τ' : lj_S} {X : List Int32 → Prop} (h : sR σ τ X) (hC : ∀ k j, sqC k j = true → σ'.1 k j = σ.1 k j) (hM : ∀ k j, sqM k j = true → τ'.1 k j = τ.1 k j) : sR σ' τ' X := by
  have e7 : lv σ' 3 7 = lv σ 3 7 := by unfold lv; rw [hC 3 7 rfl]
  have e14 : lv τ' 0 14 = lv τ 0 14 := by unfold lv; rw [hM 0 14 rfl]
  have eC : ∀ t, cS σ' t = cS σ t := cS_cong (fun j => hC 9 j rfl) (fun j => hC 10 j rfl) (fun j => hC 11 j rfl)
  have eM : ∀ t, mS τ' t = mS τ t := mS_cong (fun j => hM 2 j rfl) (fun j => hM 3 j rfl) (fun j => hM 4 j rfl)
  refine ⟨cOK_cong h.1 (fun j => hC 9 j rfl) (fun j => hC 10 j rfl) (fun j => hC 11 j rfl) (fun j => hC 12 j rfl) (fun j => hC 13 j rfl) (hC 3 7 rfl) (hC 3 8 rfl), mOK_cong h.2.1 (fun j => hM 2 j rfl) (fun j => hM 3 j rfl) (fun j => hM 4 j rfl) (fun j => hM 6 j rfl) (fun j => hM 7 j rfl) (hM 0 14 rfl) (hM 0 8 rfl), fun D => ?_⟩
  have a1 : cHas σ' D ↔ cHas σ D := by unfold cHas; simp only [e7, eC, fun j => hC 15 j rfl]
  have a2 : mHas τ' D ↔ mHas τ D := by unfold mHas lv; simp only [fun j => hM 5 j rfl, hM 0 14 rfl, eM]
  rw [a1, a2]
  exact h.2.2 D
/-- words that the model has from the start -/
def mB : List (List Int32) := [[95, 95, 105, 110, 100, 101, 120], [95, 95, 110, 101, 119, 105, 110, 100, 101, 120], [95, 95, 99, 97, 108, 108], [95, 95, 97, 100, 100], [95, 95, 115, 117, 98], [95, 95, 109, 117, 108], [95, 95, 105, 100, 105, 118], [95, 95, 109, 111, 100], [95, 95, 98, 97, 110, 100], [95, 95, 98, 111, 114], [95, 95, 98, 120, 111, 114], [95, 95, 115, 104, 108], [95, 95, 115, 104, 114], [95, 95, 117, 110, 109], [95, 95, 98, 110, 111, 116], [95, 95, 99, 111, 110, 99, 97, 116], [95, 95, 108, 101, 110], [95, 95, 101, 113], [95, 95, 108, 116], [95, 95, 108, 101], [95, 95, 103, 99], [95, 95, 109, 111, 100, 101], [110, 105, 108], [98, 111, 111, 108, 101, 97, 110], [110, 117, 109, 98, 101, 114], [115, 116, 114, 105, 110, 103], [116, 97, 98, 108, 101], [102, 117, 110, 99, 116, 105, 111, 110], [116, 104, 114, 101, 97, 100], [110, 101, 119], [115, 116, 111, 112, 112, 101, 100], [114, 117, 110, 110, 105, 110, 103], [110, 111, 114, 109, 97, 108], [100, 101, 97, 100], [98, 117, 115, 121, 32, 112, 97, 114, 116], [100, 101, 97, 100, 32, 112, 97, 114, 116], [110], [112, 114, 105, 110, 116], [116, 121, 112, 101], [116, 111, 115, 116, 114, 105, 110, 103], [116, 111, 110, 117, 109, 98, 101, 114], [110, 101, 120, 116], [112, 97, 105, 114, 115], [105, 112, 97, 105, 114, 115], [114, 97, 119, 103, 101, 116], [114, 97, 119, 115, 101, 116], [114, 97, 119, 101, 113, 117, 97, 108], [114, 97, 119, 108, 101, 110], [103, 101, 116, 109, 101, 116, 97, 116, 97, 98, 108, 101], [115, 101, 116, 109, 101, 116, 97, 116, 97, 98, 108, 101], [101, 114, 114, 111, 114], [112, 99, 97, 108, 108], [115, 101, 108, 101, 99, 116], [99, 111, 108, 108, 101, 99, 116], [108, 105, 115, 116], [116, 101, 120, 116], [112, 97, 114, 116], [105, 110, 115, 101, 114, 116], [114, 101, 109, 111, 118, 101], [99, 111, 110, 99, 97, 116], [112, 97, 99, 107], [117, 110, 112, 97, 99, 107], [115, 117, 98], [98, 121, 116, 101], [99, 104, 97, 114], [114, 101, 112], [103, 111], [115, 116, 111, 112], [115, 116, 97, 116, 101]]
def mBw (s : Nat) : List Int32 := mB.getD s []
/-- strings of both while a run goes on -/
def sM (σ τ : lj_S) : Prop :=
  sR σ τ (fun _ => False) ∧ (lv σ 3 13 = lv τ 0 17 ∧ lv σ 3 14 = lv τ 0 18 ∧ 0 ≤ lv σ 3 13 ∧ lv σ 3 13 ≤ 800 ∧ 0 ≤ lv σ 3 14 ∧ lv σ 3 14 ≤ 24000) ∧
  (lv σ 3 7 ≤ 1700 + lv σ 3 13 ∧ lv σ 3 8 ≤ 13000 + lv σ 3 14 ∧ lv τ 0 14 ≤ 2100 + lv τ 0 17 ∧ lv τ 0 8 ≤ 13000 + lv τ 0 18) ∧
  (∀ s : Nat, (s : Int) < lv σ 3 7 → (cS σ s).length ≤ 1000) ∧ (∀ s : Nat, (s : Int) < lv τ 0 14 → (mS τ s).length ≤ 1000) ∧
  69 ≤ lv τ 0 14 ∧ ∀ s : Nat, s < 69 → mS τ s = mBw s
theorem sM.cg {σ τ σ' τ' : lj_S} (h : sM σ τ) (hC : ∀ k j, sqC k j = true → σ'.1 k j = σ.1 k j) (hM : ∀ k j, sqM k j = true → τ'.1 k j = τ.1 k j) : sM σ' τ' := by
  have eC : ∀ t, cS σ' t = cS σ t := cS_cong (fun j => hC 9 j rfl) (fun j => hC 10 j rfl) (fun j => hC 11 j rfl)
  have eM : ∀ t, mS τ' t = mS τ t := mS_cong (fun j => hM 2 j rfl) (fun j => hM 3 j rfl) (fun j => hM 4 j rfl)
  have c7 : lv σ' 3 7 = lv σ 3 7 := by unfold lv; rw [hC 3 7 rfl]
  have c8 : lv σ' 3 8 = lv σ 3 8 := by unfold lv; rw [hC 3 8 rfl]
  have c13 : lv σ' 3 13 = lv σ 3 13 := by unfold lv; rw [hC 3 13 rfl]
  have c14 : lv σ' 3 14 = lv σ 3 14 := by unfold lv; rw [hC 3 14 rfl]
  have m8 : lv τ' 0 8 = lv τ 0 8 := by unfold lv; rw [hM 0 8 rfl]
  have m14 : lv τ' 0 14 = lv τ 0 14 := by unfold lv; rw [hM 0 14 rfl]
  have m17 : lv τ' 0 17 = lv τ 0 17 := by unfold lv; rw [hM 0 17 rfl]
  have m18 : lv τ' 0 18 = lv τ 0 18 := by unfold lv; rw [hM 0 18 rfl]
  obtain ⟨h1, h2, h3, h4, h5, h6, h7⟩ := h
  refine ⟨h1.cg hC hM, ?_, ?_, ?_, ?_, ?_, ?_⟩
  · rw [c13, c14, m17, m18]; exact h2
  · rw [c13, c14, m17, m18, c7, c8, m8, m14]; exact h3
  · intro s hs; rw [c7] at hs; rw [eC]; exact h4 s hs
  · intro s hs; rw [m14] at hs; rw [eM]; exact h5 s hs
  · rw [m14]; exact h6
  · intro s hs; rw [eM]; exact h7 s hs
theorem sM.dr {σ τ σ' τ' : lj_S} (h : sM σ τ) (f : lf cAd σ σ') (g : lf mAd τ τ') : sM σ' τ' := h.cg (fun k j q => (f k j (by unfold sqC at q; simp at q; unfold cAd; simp; omega)).1) (fun k j q => (g k j (by unfold sqM at q; simp at q; unfold mAd; simp; omega)).1)
theorem sG_dr {σ τ σ' τ' : lj_S} (f : lf cAd σ σ') (g : lf mAd τ τ') : sG σ τ σ' τ' := sG_eq (fun k j q => (f k j (by unfold vqC at q; simp at q; unfold cAd; simp; omega)).1) (fun k j q => (g k j (by unfold vqM at q; simp at q; unfold mAd; simp; omega)).1)
theorem oG_dr {σ τ σ' τ' : lj_S} (f : lf cAd σ σ') (g : lf mAd τ τ') : oG σ τ σ' τ' := oG_eq (fun k j q => (f k j (by unfold vqC at q; simp at q; unfold cAd; simp; omega)).1) (fun k j q => (g k j (by unfold vqM at q; simp at q; unfold mAd; simp; omega)).1)
theorem br_ok (σ : lj_S) (x : Nat) (k : Nat → lj_S → Option lj_O) (h : Nat → lj_S → Option lj_O) : lj_br (some (.inl (some (.ref x)), σ)) k h = k x σ := rfl
theorem br_er (σ : lj_S) (x : Nat) (k : Nat → lj_S → Option lj_O) (h : Nat → lj_S → Option lj_O) : lj_br (some (.inr x, σ)) k h = h x σ := rfl
theorem bi_er (σ : lj_S) (x : Nat) (k : Int32 → lj_S → Option lj_O) (h : Nat → lj_S → Option lj_O) : lj_bi (some (.inr x, σ)) k h = h x σ := rfl
theorem bv_er (σ : lj_S) (x : Nat) (k : lj_S → Option lj_O) (h : Nat → lj_S → Option lj_O) : lj_bv (some (.inr x, σ)) k h = h x σ := rfl
theorem bl_ok (σ : lj_S) (x : Int64) (k : Int64 → lj_S → Option lj_O) (h : Nat → lj_S → Option lj_O) : lj_bl (some (.inl (some (.long x)), σ)) k h = k x σ := rfl
theorem c_20 (σ : lj_S) {x : Int32} (h : x = 0 ∨ x = 1) : lj_R lc_P 20 [.ref 2, .int x] σ = some (.inl (some (.ref 2)), lj_put σ 2 6 x) := by rw [rc_20, kc_20_0, if_pos h]
/-- both make what is drafted a string, or have no room -/
theorem cm_make {σ τ : lj_S} {D : List Int32} (h : sM σ τ) (hC : cDr σ D) (hM : mDr τ D) (hl : D.length ≤ 1000) :
    (lj_R lc_P 136 [.ref 8] σ = some (.inr 2, lj_put σ 2 6 1) ∧ lj_R lm_P 139 [.ref 0] τ = some (.inl (some (.int (-1))), lj_put τ 0 143 4)) ∨
    ∃ σ' τ' s s', lj_R lc_P 136 [.ref 8] σ = some (.inl (some (.int (Int32.ofNat s))), σ') ∧ lj_R lm_P 139 [.ref 0] τ = some (.inl (some (.int (Int32.ofNat s'))), τ') ∧ s < 2600 ∧ s' < 3000 ∧ sE σ' τ' s s' ∧ cS σ' s = D ∧ sM σ' τ' ∧ sG σ τ σ' τ' ∧ lf cAc σ σ' ∧ lf mAc τ τ' := by
  obtain ⟨hR, hn, hr, hlC, hlM, h69, hB⟩ := h
  have hok := hR.1
  have eq : mHas τ D ↔ cHas σ D := by have := hR.2.2 D; simpa using this
  obtain ⟨r, e1, e2⟩ := c_hasRoom σ hC (by omega) hok (by omega) (by omega)
  have m := m_make τ hM (by omega) hR.2.1 (by omega) (by omega) (by omega) (by omega)
  rw [rc_136, kc_136_0, e1, bi_ok]
  rcases e2 with ⟨r1, w⟩ | ⟨r1, w⟩
  · rcases m with ⟨n, _⟩ | ⟨_, τ', s', m1, m2, m3, m4, m5, m6, m7, m8, m9, m10, m11⟩
    · exact absurd (w.imp eq.2 (fun u => by omega)) n
    · obtain ⟨σ', s, c1, c2, c3, c4, c5, c6, c7, c8, c9, c10, c11⟩ := c_count σ hC (by omega) hok (by omega) (by omega) (by omega) (by omega)
      have b1 := c5.1.2
      have b2 := m5.1.2
      refine Or.inr ⟨σ', τ', s, s', by rw [r1, if_neg (by decide), c1, bi_ok], m1, by omega, by omega, ⟨c2, m2, by rw [c3, m3]⟩, c3, ⟨⟨c5, m5, fun E => ?_⟩, ?_, ?_, fun t ht => ?_, fun t ht => ?_, by omega, fun t ht => ?_⟩, ⟨c10, m10, fun t ht => (c8 t ht).1, fun t ht => (m8 t ht).1⟩, c7, m7⟩
      · have u1 : cHas σ' E ↔ (cHas σ E ∨ E = D) := by
          constructor
          · rintro ⟨t, t1, t2, t3⟩
            rcases c11 t t1 with q | q
            · by_cases e : t = s
              · right; rw [← t2, e, c3]
              · left; exact ⟨t, q, by rw [← t2, (c8 t q).1], by rw [← (c8 t q).2 e]; exact t3⟩
            · right; rw [← t2, q, c3]
          · rintro (⟨t, t1, t2, t3⟩ | e)
            · by_cases e : t = s
              · exact ⟨s, c2, by rw [c3, ← t2, e, ← (c8 s (by rw [← e]; exact t1)).1, c3], c4⟩
              · exact ⟨t, Int.lt_of_lt_of_le t1 c10, by rw [(c8 t t1).1]; exact t2, by rw [(c8 t t1).2 e]; exact t3⟩
            · exact ⟨s, c2, by rw [c3, e], c4⟩
        have u2 : mHas τ' E ↔ (mHas τ E ∨ E = D) := by
          constructor
          · rintro ⟨t, t1, t2, t3⟩
            rcases m11 t t1 with q | q
            · by_cases e : t = s'
              · right; rw [← t2, e, m3]
              · left; exact ⟨t, q, by rw [← t2, (m8 t q).1], by unfold lv at t3 ⊢; rw [← (m8 t q).2 e]; exact t3⟩
            · right; rw [← t2, q, m3]
          · rintro (⟨t, t1, t2, t3⟩ | e)
            · by_cases e : t = s'
              · exact ⟨s', m2, by rw [m3, ← t2, e, ← (m8 s' (by rw [← e]; exact t1)).1, m3], m4⟩
              · exact ⟨t, Int.lt_of_lt_of_le t1 m10, by rw [(m8 t t1).1]; exact t2, by unfold lv at t3 ⊢; rw [(m8 t t1).2 e]; exact t3⟩
            · exact ⟨s', m2, by rw [m3, e], m4⟩
        have := hR.2.2 E
        rw [u1, u2]
        constructor
        · rintro (q | q)
          · exact Or.inl (Or.inl ((this.1 q).resolve_right id))
          · exact Or.inl (Or.inr q)
        · rintro ((q | q) | q)
          · exact Or.inl (this.2 (Or.inl q))
          · exact Or.inr q
          · exact q.elim
      · rcases c9 with ⟨q1, q2, q3, q4, q5⟩ | ⟨q1, q2, q3, q4, q5⟩
        · rcases m9 with ⟨v1, v2, v3, v4, v5⟩ | ⟨v1, v2, v3, v4, v5⟩
          · omega
          · exact absurd (eq.2 q1) v1
        · rcases m9 with ⟨v1, v2, v3, v4, v5⟩ | ⟨v1, v2, v3, v4, v5⟩
          · exact absurd (eq.1 v1) q1
          · have := w.resolve_left q1
            omega
      · rcases c9 with ⟨q1, q2, q3, q4, q5⟩ | ⟨q1, q2, q3, q4, q5⟩
        · rcases m9 with ⟨v1, v2, v3, v4, v5⟩ | ⟨v1, v2, v3, v4, v5⟩
          · omega
          · exact absurd (eq.2 q1) v1
        · rcases m9 with ⟨v1, v2, v3, v4, v5⟩ | ⟨v1, v2, v3, v4, v5⟩
          · exact absurd (eq.1 v1) q1
          · omega
      · rcases c11 t ht with q | q
        · rw [(c8 t q).1]; exact hlC t q
        · rw [q, c3]; exact hl
      · rcases m11 t ht with q | q
        · rw [(m8 t q).1]; exact hlM t q
        · rw [q, m3]; exact hl
      · rw [(m8 t (by omega)).1]; exact hB t ht
  · rcases m with ⟨_, m1⟩ | ⟨y, _⟩
    · exact Or.inl ⟨by rw [r1, if_pos rfl, c_20 _ (Or.inr rfl), br_ok]; rfl, m1⟩
    · exact absurd (y.imp eq.1 (fun u => by omega)) w
/-- a byte of a long -/
def wby (x : Int64) (k : Nat) : Int32 := ((((x : Int64).toUInt64 >>> ((Int32.ofNat k : Int32).toInt64.toUInt64 &&& Int64.toUInt64 63)).toInt64 : Int64).toInt32) &&& 255
def wBk (x : Int64) : Nat → List Int32
  | 0 => []
  | k + 1 => (if wby x (8 * k) ≤ 0 then [] else [lz_by (wby x (8 * k))]) ++ wBk x k
theorem wBk_len (x : Int64) : ∀ k, (wBk x k).length ≤ k
  | 0 => Nat.le_refl _
  | k + 1 => by
    have := wBk_len x k
    show ((if wby x (8 * k) ≤ 0 then [] else [lz_by (wby x (8 * k))]) ++ wBk x k).length ≤ _
    rw [List.length_append]
    split <;> simp <;> omega
theorem m_word_loop (x : Int64) : ∀ (k : Nat) (τ : lj_S) (D : List Int32) (v : Value), k ≤ 8 → mDr τ D → D.length + k ≤ 4200 → ∃ τ', lj_D lm_P lm_M2 3 [.ref 0, .long x, .retAddr 0, .int (Int32.ofNat (8 * k) - 8), v] [] τ = some (.inl none, τ') ∧ mDr τ' (D ++ wBk x k) ∧ lf mAd τ τ'
  | 0, τ, D, v, _, hD, _ => ⟨τ, by rw [km_2_3, if_pos (by decide)], by show mDr τ (D ++ []); rw [List.append_nil]; exact hD, lf_rf _ _⟩
  | k + 1, τ, D, v, hk, hD, hl => by
    have e8 : (8 : Int32).toInt = 8 := by decide
    have e : Int32.ofNat (8 * (k + 1)) - 8 = Int32.ofNat (8 * k) := lz_ext (by rw [lz_sub (by rw [lz_lit (by omega), e8]; omega), lz_lit (by omega), lz_lit (by omega), e8]; omega)
    have es : Int32.ofNat (8 * k) + (-8) = Int32.ofNat (8 * k) - 8 := by rw [Int32.sub_eq_add_neg]
    have nx : ∀ (s : lj_S) (w : Int32), lj_D lm_P lm_M2 44 [.ref 0, .long x, .retAddr 0, .int (Int32.ofNat (8 * k)), .int w] [] s = lj_D lm_P lm_M2 3 [.ref 0, .long x, .retAddr 0, .int (Int32.ofNat (8 * k) - 8), .int w] [] s := fun s w => by
      rw [km_2_44, es]
    rw [e, km_2_3, if_neg (ofN_nneg (by omega))]
    by_cases w : wby x (8 * k) ≤ 0
    · obtain ⟨τ', a1, a2, a3⟩ := m_word_loop x k τ D (.int (wby x (8 * k))) (by omega) hD (by omega)
      refine ⟨τ', ?_, ?_, a3⟩
      · have w' := w
        unfold wby at w'
        rw [if_pos w']
        exact (nx τ _).trans a1
      · show mDr τ' (D ++ ((if wby x (8 * k) ≤ 0 then [] else [lz_by (wby x (8 * k))]) ++ wBk x k))
        rw [if_pos w]
        exact a2
    · obtain ⟨d1, d2, d3⟩ := mDr_dig hD (by omega) (wby x (8 * k))
      obtain ⟨τ', a1, a2, a3⟩ := m_word_loop x k _ _ (.int (wby x (8 * k))) (by omega) d1 (by rw [List.length_append]; simp; omega)
      refine ⟨τ', ?_, ?_, d2.tr a3⟩
      · have w' := w
        unfold wby at w'
        rw [if_neg w', if_pos d3]
        unfold m_dig at a1
        rw [← lz_by2 (wby x (8 * k))] at a1
        exact (nx _ _).trans a1
      · show mDr τ' (D ++ ((if wby x (8 * k) ≤ 0 then [] else [lz_by (wby x (8 * k))]) ++ wBk x k))
        rw [if_neg w, ← List.append_assoc]
        exact a2
abbrev wL (x : Int64) : List Int32 := wBk x 8
theorem m_word (τ : lj_S) (x : Int64) {D : List Int32} (hD : mDr τ D) (hl : D.length + 8 ≤ 4200) : ∃ τ', lj_R lm_P 2 [.ref 0, .long x] τ = some (.inl none, τ') ∧ mDr τ' (D ++ wL x) ∧ lf mAd τ τ' := by
  obtain ⟨τ', a1, a2, a3⟩ := m_word_loop x 8 τ D (.retAddr 0) (by decide) hD hl
  refine ⟨τ', ?_, a2, a3⟩
  rw [rm_2, km_2_0]
  exact a1
/-- a word of the component -/
def cW (r : Nat) : List Int32 := ((lj_nth lc_str (r - 1000)).getD []).map lz_by
set_option maxRecDepth 100000 in
theorem cW_all : ∀ i, i < 46 → (lj_nth lc_str i).isSome = true ∧ ((lj_nth lc_str i).getD []).length < 1000 := by decide +kernel
theorem c_w (σ : lj_S) {r : Nat} (hr : 1000 ≤ r) (hn : r < 1046) {D : List Int32} (hD : cDr σ D) (hl : D.length < 900000) : ∃ σ', lj_R lc_P 29 [.ref 3, .ref r] σ = some (.inl none, σ') ∧ cDr σ' (D ++ cW r) ∧ lf cAd σ σ' := by
  obtain ⟨a, b⟩ := cW_all (r - 1000) (by omega)
  obtain ⟨W, hW⟩ := Option.isSome_iff_exists.1 a
  rw [hW] at b
  have e : cW r = W.map lz_by := by unfold cW; rw [hW]; rfl
  rw [e]
  exact c_addWord σ r hW hr b hD hl
/-- the words of an error -/
def eW (e : Nat) : Nat := [1036, 1021, 1037, 1013, 1027, 1041, 1042, 1026, 1040, 1043, 1038, 1044, 1045, 1011, 1024, 1030].getD e 1036
theorem m_words (τ : lj_S) {D : List Int32} (hD : mDr τ D) (hl : D.length + 24 ≤ 4200) : ∀ e, e < 16 → ∃ τ', lj_R lm_P 135 [.ref 0, .int (Int32.ofNat e)] τ = some (.inl none, τ') ∧ mDr τ' (D ++ cW (eW e)) ∧ lf mAd τ τ'
  | 0, _ => by
    obtain ⟨τ0, a0, b0, f0⟩ := m_word τ 7597120008390471526 hD (by omega)
    obtain ⟨τ1, a1, b1, f1⟩ := m_word τ0 32 b0 (by simp only [List.length_append]; have : (wL 7597120008390471526).length ≤ 8 := wBk_len 7597120008390471526 8; omega)
    refine ⟨τ1, ?_, ?_, f0.tr (f1)⟩
    · rw [rm_135, km_135_0]
      repeat rw [if_neg (by decide)]
      rw [if_pos (by decide), a0, bv_ok, a1, bv_ok, km_135_338]
    · have e : wL 7597120008390471526 ++ wL 32 = cW (eW 0) := by decide +kernel
      rw [← e]
      simp only [← List.append_assoc]
      exact b1
  | 1, _ => by
    obtain ⟨τ0, a0, b0, f0⟩ := m_word τ 1819242352 hD (by omega)
    refine ⟨τ0, ?_, ?_, f0⟩
    · rw [rm_135, km_135_0]
      repeat rw [if_neg (by decide)]
      rw [if_pos (by decide), a0, bv_ok, km_135_338]
    · have e : wL 1819242352 = cW (eW 1) := by decide +kernel
      rw [← e]
      exact b0
  | 2, _ => by
    obtain ⟨τ0, a0, b0, f0⟩ := m_word τ 7597120008390470003 hD (by omega)
    obtain ⟨τ1, a1, b1, f1⟩ := m_word τ0 544106860 b0 (by simp only [List.length_append]; have : (wL 7597120008390470003).length ≤ 8 := wBk_len 7597120008390470003 8; omega)
    refine ⟨τ1, ?_, ?_, f0.tr (f1)⟩
    · rw [rm_135, km_135_0]
      repeat rw [if_neg (by decide)]
      rw [if_pos (by decide), a0, bv_ok, a1, bv_ok, km_135_338]
    · have e : wL 7597120008390470003 ++ wL 544106860 = cW (eW 2) := by decide +kernel
      rw [← e]
      simp only [← List.append_assoc]
      exact b1
  | 3, _ => by
    obtain ⟨τ0, a0, b0, f0⟩ := m_word τ 7161124094152238624 hD (by omega)
    refine ⟨τ0, ?_, ?_, f0⟩
    · rw [rm_135, km_135_0]
      repeat rw [if_neg (by decide)]
      rw [if_pos (by decide), a0, bv_ok, km_135_338]
    · have e : wL 7161124094152238624 = cW (eW 3) := by decide +kernel
      rw [← e]
      exact b0
  | 4, _ => by
    obtain ⟨τ0, a0, b0, f0⟩ := m_word τ 8390046815879261817 hD (by omega)
    obtain ⟨τ1, a1, b1, f1⟩ := m_word τ0 9137360058279283 b0 (by simp only [List.length_append]; have : (wL 8390046815879261817).length ≤ 8 := wBk_len 8390046815879261817 8; omega)
    refine ⟨τ1, ?_, ?_, f0.tr (f1)⟩
    · rw [rm_135, km_135_0]
      repeat rw [if_neg (by decide)]
      rw [if_pos (by decide), a0, bv_ok, a1, bv_ok, km_135_338]
    · have e : wL 8390046815879261817 ++ wL 9137360058279283 = cW (eW 4) := by decide +kernel
      rw [← e]
      simp only [← List.append_assoc]
      exact b1
  | 5, _ => by
    obtain ⟨τ0, a0, b0, f0⟩ := m_word τ 7235444471627345774 hD (by omega)
    obtain ⟨τ1, a1, b1, f1⟩ := m_word τ0 2333560737330721391 b0 (by simp only [List.length_append]; have : (wL 7235444471627345774).length ≤ 8 := wBk_len 7235444471627345774 8; omega)
    refine ⟨τ1, ?_, ?_, f0.tr (f1)⟩
    · rw [rm_135, km_135_0]
      repeat rw [if_neg (by decide)]
      rw [if_pos (by decide), a0, bv_ok, a1, bv_ok, km_135_338]
    · have e : wL 7235444471627345774 ++ wL 2333560737330721391 = cW (eW 5) := by decide +kernel
      rw [← e]
      simp only [← List.append_assoc]
      exact b1
  | 6, _ => by
    obtain ⟨τ0, a0, b0, f0⟩ := m_word τ 7021790717713147252 hD (by omega)
    obtain ⟨τ1, a1, b1, f1⟩ := m_word τ0 115874466852384 b0 (by simp only [List.length_append]; have : (wL 7021790717713147252).length ≤ 8 := wBk_len 7021790717713147252 8; omega)
    refine ⟨τ1, ?_, ?_, f0.tr (f1)⟩
    · rw [rm_135, km_135_0]
      repeat rw [if_neg (by decide)]
      rw [if_pos (by decide), a0, bv_ok, a1, bv_ok, km_135_338]
    · have e : wL 7021790717713147252 ++ wL 115874466852384 = cW (eW 6) := by decide +kernel
      rw [← e]
      simp only [← List.append_assoc]
      exact b1
  | 7, _ => by
    obtain ⟨τ0, a0, b0, f0⟩ := m_word τ 8390046815863402087 hD (by omega)
    refine ⟨τ0, ?_, ?_, f0⟩
    · rw [rm_135, km_135_0]
      repeat rw [if_neg (by decide)]
      rw [if_pos (by decide), a0, bv_ok, km_135_338]
    · have e : wL 8390046815863402087 = cW (eW 7) := by decide +kernel
      rw [← e]
      exact b0
  | 8, _ => by
    obtain ⟨τ0, a0, b0, f0⟩ := m_word τ 7165066905285584238 hD (by omega)
    obtain ⟨τ1, a1, b1, f1⟩ := m_word τ0 7022353646287351654 b0 (by simp only [List.length_append]; have : (wL 7165066905285584238).length ≤ 8 := wBk_len 7165066905285584238 8; omega)
    obtain ⟨τ2, a2, b2, f2⟩ := m_word τ1 32 b1 (by simp only [List.length_append]; have : (wL 7165066905285584238).length ≤ 8 := wBk_len 7165066905285584238 8; have : (wL 7022353646287351654).length ≤ 8 := wBk_len 7022353646287351654 8; omega)
    refine ⟨τ2, ?_, ?_, f0.tr (f1.tr (f2))⟩
    · rw [rm_135, km_135_0]
      repeat rw [if_neg (by decide)]
      rw [if_pos (by decide), a0, bv_ok, a1, bv_ok, a2, bv_ok, km_135_338]
    · have e : wL 7165066905285584238 ++ wL 7022353646287351654 ++ wL 32 = cW (eW 8) := by decide +kernel
      rw [← e]
      simp only [← List.append_assoc]
      exact b2
  | 9, _ => by
    obtain ⟨τ0, a0, b0, f0⟩ := m_word τ 7810770519357661295 hD (by omega)
    obtain ⟨τ1, a1, b1, f1⟩ := m_word τ0 26144 b0 (by simp only [List.length_append]; have : (wL 7810770519357661295).length ≤ 8 := wBk_len 7810770519357661295 8; omega)
    refine ⟨τ1, ?_, ?_, f0.tr (f1)⟩
    · rw [rm_135, km_135_0]
      repeat rw [if_neg (by decide)]
      rw [if_pos (by decide), a0, bv_ok, a1, bv_ok, km_135_338]
    · have e : wL 7810770519357661295 ++ wL 26144 = cW (eW 9) := by decide +kernel
      rw [← e]
      simp only [← List.append_assoc]
      exact b1
  | 10, _ => by
    obtain ⟨τ0, a0, b0, f0⟩ := m_word τ 7165065861608401267 hD (by omega)
    obtain ⟨τ1, a1, b1, f1⟩ := m_word τ0 122518781257248 b0 (by simp only [List.length_append]; have : (wL 7165065861608401267).length ≤ 8 := wBk_len 7165065861608401267 8; omega)
    refine ⟨τ1, ?_, ?_, f0.tr (f1)⟩
    · rw [rm_135, km_135_0]
      repeat rw [if_neg (by decide)]
      rw [if_pos (by decide), a0, bv_ok, a1, bv_ok, km_135_338]
    · have e : wL 7165065861608401267 ++ wL 122518781257248 = cW (eW 10) := by decide +kernel
      rw [← e]
      simp only [← List.append_assoc]
      exact b1
  | 11, _ => by
    obtain ⟨τ0, a0, b0, f0⟩ := m_word τ 6713202 hD (by omega)
    refine ⟨τ0, ?_, ?_, f0⟩
    · rw [rm_135, km_135_0]
      repeat rw [if_neg (by decide)]
      rw [if_pos (by decide), a0, bv_ok, km_135_338]
    · have e : wL 6713202 = cW (eW 11) := by decide +kernel
      rw [← e]
      exact b0
  | 12, _ => by
    obtain ⟨τ0, a0, b0, f0⟩ := m_word τ 7381243797817204858 hD (by omega)
    obtain ⟨τ1, a1, b1, f1⟩ := m_word τ0 6648431 b0 (by simp only [List.length_append]; have : (wL 7381243797817204858).length ≤ 8 := wBk_len 7381243797817204858 8; omega)
    refine ⟨τ1, ?_, ?_, f0.tr (f1)⟩
    · rw [rm_135, km_135_0]
      repeat rw [if_neg (by decide)]
      rw [if_pos (by decide), a0, bv_ok, a1, bv_ok, km_135_338]
    · have e : wL 7381243797817204858 ++ wL 6648431 = cW (eW 12) := by decide +kernel
      rw [← e]
      simp only [← List.append_assoc]
      exact b1
  | 13, _ => by
    obtain ⟨τ0, a0, b0, f0⟩ := m_word τ 8319381491287093110 hD (by omega)
    obtain ⟨τ1, a1, b1, f1⟩ := m_word τ0 111542019059575 b0 (by simp only [List.length_append]; have : (wL 8319381491287093110).length ≤ 8 := wBk_len 8319381491287093110 8; omega)
    refine ⟨τ1, ?_, ?_, f0.tr (f1)⟩
    · rw [rm_135, km_135_0]
      repeat rw [if_neg (by decide)]
      rw [if_pos (by decide), a0, bv_ok, a1, bv_ok, km_135_338]
    · have e : wL 8319381491287093110 ++ wL 111542019059575 = cW (eW 13) := by decide +kernel
      rw [← e]
      simp only [← List.append_assoc]
      exact b1
  | 14, _ => by
    obtain ⟨τ0, a0, b0, f0⟩ := m_word τ 7021788523068223092 hD (by omega)
    obtain ⟨τ1, a1, b1, f1⟩ := m_word τ0 32 b0 (by simp only [List.length_append]; have : (wL 7021788523068223092).length ≤ 8 := wBk_len 7021788523068223092 8; omega)
    refine ⟨τ1, ?_, ?_, f0.tr (f1)⟩
    · rw [rm_135, km_135_0]
      repeat rw [if_neg (by decide)]
      rw [if_pos (by decide), a0, bv_ok, a1, bv_ok, km_135_338]
    · have e : wL 7021788523068223092 ++ wL 32 = cW (eW 14) := by decide +kernel
      rw [← e]
      simp only [← List.append_assoc]
      exact b1
  | 15, _ => by
    obtain ⟨τ0, a0, b0, f0⟩ := m_word τ 8319396939031344500 hD (by omega)
    obtain ⟨τ1, a1, b1, f1⟩ := m_word τ0 8316288572414042224 b0 (by simp only [List.length_append]; have : (wL 8319396939031344500).length ≤ 8 := wBk_len 8319396939031344500 8; omega)
    obtain ⟨τ2, a2, b2, f2⟩ := m_word τ1 6386292 b1 (by simp only [List.length_append]; have : (wL 8319396939031344500).length ≤ 8 := wBk_len 8319396939031344500 8; have : (wL 8316288572414042224).length ≤ 8 := wBk_len 8316288572414042224 8; omega)
    refine ⟨τ2, ?_, ?_, f0.tr (f1.tr (f2))⟩
    · rw [rm_135, km_135_0]
      repeat rw [if_neg (by decide)]
      rw [if_pos (by decide), a0, bv_ok, a1, bv_ok, a2, bv_ok, km_135_338]
    · have e : wL 8319396939031344500 ++ wL 8316288572414042224 ++ wL 6386292 = cW (eW 15) := by decide +kernel
      rw [← e]
      simp only [← List.append_assoc]
      exact b2
  | n + 16, h => absurd h (by omega)
/-- the type of a kind -/
theorem c_type (σ : lj_S) {D : List Int32} (hD : cDr σ D) (hl : D.length < 900000) : ∀ k, k < 7 → ∃ σ', lj_R lc_P 157 [.ref 8, .int (Int32.ofNat k)] σ = some (.inl none, σ') ∧ cDr σ' (D ++ cW (1014 + k)) ∧ lf cAd σ σ'
  | 0, _ => by
    obtain ⟨σ', a1, a2, a3⟩ := c_w σ (r := 1014) (by decide) (by decide) hD hl
    refine ⟨σ', ?_, a2, a3⟩
    rw [rc_157, kc_157_0]
    repeat rw [if_neg (by decide)]
    rw [if_pos (by decide)]
    rw [kc_157_75, a1, bv_ok]
  | 1, _ => by
    obtain ⟨σ', a1, a2, a3⟩ := c_w σ (r := 1015) (by decide) (by decide) hD hl
    refine ⟨σ', ?_, a2, a3⟩
    rw [rc_157, kc_157_0]
    repeat rw [if_neg (by decide)]
    rw [if_pos (by decide)]
    rw [kc_157_75, a1, bv_ok]
  | 2, _ => by
    obtain ⟨σ', a1, a2, a3⟩ := c_w σ (r := 1016) (by decide) (by decide) hD hl
    refine ⟨σ', ?_, a2, a3⟩
    rw [rc_157, kc_157_0]
    repeat rw [if_neg (by decide)]
    rw [if_pos (by decide)]
    rw [kc_157_75, a1, bv_ok]
  | 3, _ => by
    obtain ⟨σ', a1, a2, a3⟩ := c_w σ (r := 1017) (by decide) (by decide) hD hl
    refine ⟨σ', ?_, a2, a3⟩
    rw [rc_157, kc_157_0]
    repeat rw [if_neg (by decide)]
    rw [if_pos (by decide)]
    rw [kc_157_75, a1, bv_ok]
  | 4, _ => by
    obtain ⟨σ', a1, a2, a3⟩ := c_w σ (r := 1018) (by decide) (by decide) hD hl
    refine ⟨σ', ?_, a2, a3⟩
    rw [rc_157, kc_157_0]
    repeat rw [if_neg (by decide)]
    rw [if_pos (by decide)]
    rw [kc_157_75, a1, bv_ok]
  | 5, _ => by
    obtain ⟨σ', a1, a2, a3⟩ := c_w σ (r := 1019) (by decide) (by decide) hD hl
    refine ⟨σ', ?_, a2, a3⟩
    rw [rc_157, kc_157_0]
    repeat rw [if_neg (by decide)]
    rw [if_pos (by decide)]
    rw [kc_157_75, a1, bv_ok]
  | 6, _ => by
    obtain ⟨σ', a1, a2, a3⟩ := c_w σ (r := 1020) (by decide) (by decide) hD hl
    refine ⟨σ', ?_, a2, a3⟩
    rw [rc_157, kc_157_0]
    repeat rw [if_neg (by decide)]
    rw [kc_157_75, a1, bv_ok]
  | n + 7, h => absurd h (by omega)
set_option maxRecDepth 100000 in
theorem ty_eq : ∀ k, k < 7 → mBw (22 + k) = cW (1014 + k) := by decide +kernel
