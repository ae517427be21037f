/-! the whole text: both parsers -/
theorem bW_top {b : Nat → Int32} {n T : Nat} {Q : tkQ} {B : Nat} {W : List wT} {m0 : Nat} {τ0 : lj_S} (hW : W.length < 4000) (hB : B ≤ 13800) : bW b n T Q B ((42, 0, 0, 0) :: W) m0 τ0 :=
  bW_no hW hB (fun σ τ p m kn hTE hp h25 h41 hm0 hmB h4 h50 h21 hn => by
    have hk := tk_lt hTE hp
    obtain ⟨hin, hkk, _⟩ := m_kindv hTE hp h25
    have t6 : ∀ k : Fin 70, tkk k.val = 6 → k.val = 0 := by decide
    have n6 : ¬ tkk (Q p).1 = 6 := fun q => hn (Or.inl (t6 ⟨(Q p).1, hk⟩ q))
    refine ⟨τ, m, ?_, h41, (by omega)⟩
    show lj_R lm_P 30 [.ref 0, .int 42, .int 0, .int 0, .int 0] τ = _
    rw [rm_30, km_30_0, if_neg (by decide), if_neg (by decide), if_neg (by decide), if_neg (by decide), if_neg (by decide), if_neg (by decide), if_neg (by decide), if_neg (by decide), if_neg (by decide), if_neg (by decide), if_neg (by decide), if_neg (by decide), if_neg (by decide), if_neg (by decide), if_neg (by decide), if_neg (by decide), if_neg (by decide), if_neg (by decide), if_neg (by decide), if_neg (by decide), if_neg (by decide), rm_86, km_86_0, if_neg (by decide), if_neg (by decide), if_neg (by decide), if_neg (by decide), if_neg (by decide), if_neg (by decide), if_neg (by decide), if_neg (by decide), if_neg (by decide), if_neg (by decide), if_neg (by decide), if_neg (by decide), if_neg (by decide), if_neg (by decide), if_neg (by decide), if_neg (by decide), if_neg (by decide), if_neg (by decide), if_neg (by decide), if_neg (by decide), if_neg (by decide), km_86_269, if_pos hin, hkk, if_neg n6, m_wrong hTE hp h25 h4, bi_ok, if_pos rfl, km_86_295, bi_ok]
    rfl)
def jC0 (σ : lj_S) : lj_S := lj_put (lj_put (lj_put (lj_put (lj_put (lj_put (lj_put (lj_put (lj_put (lj_put σ 5 0 0) 5 6 0) 5 8 0) 5 18 0) 6 0 0) 6 1 0) 6 10 0) 6 13 0) 6 18 0) 6 2 (-1)
def jC (σ : lj_S) : lj_S := lj_put (lj_put (lj_put (lj_put (lj_put (lj_put (lj_put (lj_put (lj_put (lj_put (lj_put (lj_put (lj_put (jC0 σ) 5 8 1) 43 0 (-1)) 6 2 0) 44 0 0) 49 0 0) 29 0 0) 30 0 1) 31 0 0) 32 0 0) 33 0 0) 42 0 (-1)) 36 0 0) 28 0 0
def jM (τ : lj_S) : lj_S := lj_put (lj_put (lj_put (lj_put (lj_put (lj_put (lj_put (lj_put (lj_put (lj_put (lj_put (lj_put (lj_put (lj_put (lj_put (lj_put (lj_put (lj_put τ 0 25 0) 0 46 0) 0 47 0) 0 50 0) 0 53 0) 31 0 0) 32 0 0) 0 56 0) 0 60 0) 0 41 0) 0 40 0) 0 34 1) 14 0 0) 15 0 0) 13 0 0) 16 0 1) 17 0 0) 12 0 0
theorem jC_lf (σ : lj_S) : lf pC σ (jC σ) := by
  unfold jC jC0
  exact lf_put (lf_put (lf_put (lf_put (lf_put (lf_put (lf_put (lf_put (lf_put (lf_put (lf_put (lf_put (lf_put (lf_put (lf_put (lf_put (lf_put (lf_put (lf_put (lf_put (lf_put (lf_put (lf_put (lf_rf _ _) _ _ _ rfl) _ _ _ rfl) _ _ _ rfl) _ _ _ rfl) _ _ _ rfl) _ _ _ rfl) _ _ _ rfl) _ _ _ rfl) _ _ _ rfl) _ _ _ rfl) _ _ _ rfl) _ _ _ rfl) _ _ _ rfl) _ _ _ rfl) _ _ _ rfl) _ _ _ rfl) _ _ _ rfl) _ _ _ rfl) _ _ _ rfl) _ _ _ rfl) _ _ _ rfl) _ _ _ rfl) _ _ _ rfl
theorem jM_lf (τ : lj_S) : lf pM τ (jM τ) := by
  unfold jM
  exact lf_put (lf_put (lf_put (lf_put (lf_put (lf_put (lf_put (lf_put (lf_put (lf_put (lf_put (lf_put (lf_put (lf_put (lf_put (lf_put (lf_put (lf_put (lf_rf _ _) _ _ _ rfl) _ _ _ rfl) _ _ _ rfl) _ _ _ rfl) _ _ _ rfl) _ _ _ rfl) _ _ _ rfl) _ _ _ rfl) _ _ _ rfl) _ _ _ rfl) _ _ _ rfl) _ _ _ rfl) _ _ _ rfl) _ _ _ rfl) _ _ _ rfl) _ _ _ rfl) _ _ _ rfl) _ _ _ rfl
theorem jC_get (σ : lj_S) : (jC σ).1 5 0 = 0 ∧ (jC σ).1 5 6 = 0 ∧ (jC σ).1 5 8 = 1 ∧ (jC σ).1 5 18 = 0 ∧ (jC σ).1 6 0 = 0 ∧ (jC σ).1 6 1 = 0 ∧ (jC σ).1 6 10 = 0 ∧ (jC σ).1 6 13 = 0 ∧ (jC σ).1 6 18 = 0 ∧ (jC σ).1 6 2 = 0 ∧ (jC σ).1 43 0 = -1 ∧ (jC σ).1 44 0 = 0 ∧ (jC σ).1 49 0 = 0 ∧ (jC σ).1 29 0 = 0 ∧ (jC σ).1 30 0 = 1 ∧ (jC σ).1 31 0 = 0 ∧ (jC σ).1 32 0 = 0 ∧ (jC σ).1 33 0 = 0 ∧ (jC σ).1 42 0 = -1 ∧ (jC σ).1 36 0 = 0 ∧ (jC σ).1 28 0 = 0 := by
  unfold jC jC0
  simp [lj_put_1]
theorem jM_get (τ : lj_S) : (jM τ).1 0 25 = 0 ∧ (jM τ).1 0 46 = 0 ∧ (jM τ).1 0 47 = 0 ∧ (jM τ).1 0 50 = 0 ∧ (jM τ).1 0 53 = 0 ∧ (jM τ).1 31 0 = 0 ∧ (jM τ).1 32 0 = 0 ∧ (jM τ).1 0 56 = 0 ∧ (jM τ).1 0 60 = 0 ∧ (jM τ).1 0 41 = 0 ∧ (jM τ).1 0 40 = 0 ∧ (jM τ).1 0 34 = 1 ∧ (jM τ).1 14 0 = 0 ∧ (jM τ).1 15 0 = 0 ∧ (jM τ).1 13 0 = 0 ∧ (jM τ).1 16 0 = 1 ∧ (jM τ).1 17 0 = 0 ∧ (jM τ).1 12 0 = 0 := by
  unfold jM
  simp [lj_put_1]
theorem ps_start {b : Nat → Int32} {n T : Nat} {Q : tkQ} {X : List Int32 → Prop} {σ τ : lj_S} (hTE : TE b n T Q σ τ) (hR : sR σ τ X) (h4 : τ.1 0 4 = 0) : PS b n T Q X 1 [(0, [], [])] [((0, 0), [])] [] [] 0 0 0 0 0 0 0 [] (jC σ) (jM τ) := by
  obtain ⟨c50, c56, c58, c518, c60, c61, c610, c613, c618, c62, c43, c44, c49, c29, c30, c31, c32, c33, c42, c36, c28⟩ := jC_get σ
  obtain ⟨m25, m46, m47, m50, m53, m31, m32, m56, m60, m41, m40, m34, m14, m15, m13, m16, m17, m12⟩ := jM_get τ
  have fC := jC_lf σ
  have fM := jM_lf τ
  have e4 : (jM τ).1 0 4 = 0 := by rw [(fM 0 4 rfl).1]; exact h4
  generalize jC σ = σ' at *
  generalize jM τ = τ' at *
  have l518 : lv σ' 5 18 = 0 := by unfold lv; rw [c518]; rfl
  have l58 : lv σ' 5 8 = 1 := by unfold lv; rw [c58]; rfl
  have l0 : ∀ k, σ'.1 k 0 = 0 → lv σ' k 0 = 0 := fun k e => by unfold lv; rw [e]; rfl
  have hno : ∀ q x k, ¬ opA σ' q x k := fun q x k w => by have := w.1; omega
  refine ⟨⟨TE_pp hTE fC fM, (sR_pp hR fC fM).1, ?_, ⟨c58, m34, by omega, fun q hq => ?_⟩, fun y hy => ?_, ⟨⟨c49, ?_, by show 0 ≤ 20; omega, fun x hx => ⟨fun ⟨k, w⟩ => absurd w (hno _ _ _), fun w => by cases w⟩, ⟨fun d e he ⟨k, w⟩ => absurd w (hno _ _ _), fun d S e w _ => by simp at w⟩, trivial, ⟨c31, by show 0 ≤ 50; omega, List.Pairwise.nil, fun y hy => by cases hy⟩⟩, trivial⟩, ⟨⟨by omega, fun k k' a1 => by omega⟩, fun k hk => by omega⟩⟩, ⟨c60, m25, c61, m47, c50, m41, c56, m40, ?_, e4⟩, ⟨Nat.zero_le _, by omega, by omega, by omega, by omega, by simp⟩, ⟨c610, m56, by simp, c613, by simp [bks], c618, m60, by simp, trivial, trivial, fun x hx => by cases hx⟩, ⟨Nat.le_refl _, ⟨by show lv σ' 5 18 + ((0 + 0 : Nat) : Int) ≤ _; omega, by simp [bks], fun x hx => by cases hx⟩, by simp, by simp, by simp, fun fl hfl => ?_, fun x hx => by cases hx⟩, Nat.le_refl _⟩
  · refine ⟨⟨⟨by show 0 < 51; omega, c43, c44, by show 0 ≤ 50; omega, trivial, ⟨c33, by show 0 ≤ 30; omega, fun i hi => absurd hi (Nat.not_lt_zero i)⟩⟩, trivial⟩, ⟨⟨by show 0 < 51; omega, m32, m31, by show 0 ≤ 50; omega, trivial, ⟨m15, by show 0 ≤ 30; omega, fun i hi => absurd hi (Nat.not_lt_zero i)⟩⟩, trivial⟩, ⟨⟨fun i hi => absurd hi (Nat.not_lt_zero i), by simp, by simp⟩, trivial⟩, by simp, by simp, by simp, c62, m53, m50, fun y hy e he => ?_⟩
    rw [List.mem_singleton.1 hy] at he
    cases he
  · have e : q = 0 := by omega
    subst e
    have eS : scL σ' 0 = [] := by unfold scL; rw [l518]; rfl
    refine ⟨by rw [c31, m14], by rw [l0 31 c31]; exact Int.le_refl _, by rw [l0 31 c31]; decide, by rw [c33, m15], by rw [c30, m16], Or.inr c30, by rw [c36, m17], by rw [l0 29 c29, l0 31 c31]; exact Int.le_refl _, by rw [l0 29 c29]; exact Int.le_refl _, by rw [l0 32 c32]; exact Int.le_refl _, by rw [l0 32 c32]; decide, ?_⟩
    rw [eS]
    show lv σ' 42 0 = -1
    unfold lv; rw [c42]; rfl
  · rw [List.mem_singleton.1 hy]; exact Nat.lt_succ_self 0
  · show ((0 : Nat) : Int) ≤ lv σ' 32 0
    rw [l0 32 c32]; exact Int.le_refl _
  · exact ⟨m46, trivial⟩
  · rw [List.mem_singleton.1 hfl]; exact Nat.le_refl _
