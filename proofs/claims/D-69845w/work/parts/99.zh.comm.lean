/-! what does not ask for the token at hand -/
theorem put_cm (σ : lj_S) {k i k' i' : Nat} (a d : Int32) (h : ¬ (k = k' ∧ i = i')) : lj_put (lj_put σ k i a) k' i' d = lj_put (lj_put σ k' i' d) k i a := by
  refine Prod.ext ?_ rfl
  funext u w
  rw [lj_put_1, lj_put_1, lj_put_1, lj_put_1]
  by_cases q1 : u = k' ∧ w = i'
  · rw [if_pos q1, if_neg (fun q2 => h ⟨q2.1.symm.trans q1.1, q2.2.symm.trans q1.2⟩), if_pos q1]
  · rw [if_neg q1]
    by_cases q2 : u = k ∧ w = i
    · rw [if_pos q2, if_pos q2]
    · rw [if_neg q2, if_neg q2, if_neg q1]
theorem mP_25 (τ : lj_S) (m : Nat) (o a d l x : Int32) : mP (lj_put τ 0 25 x) m o a d l = lj_put (mP τ m o a d l) 0 25 x := by
  unfold mP
  rw [put_cm τ x o (by omega), put_cm _ x a (by omega), put_cm _ x d (by omega), put_cm _ x l (by omega), put_cm _ x _ (by omega)]
theorem cP_60 (σ : lj_S) (c : Nat) (o a d e l x : Int32) : cP (lj_put σ 6 0 x) c o a d e l = lj_put (cP σ c o a d e l) 6 0 x := by
  unfold cP
  rw [put_cm σ x o (by omega), put_cm _ x a (by omega), put_cm _ x d (by omega), put_cm _ x e (by omega), put_cm _ x l (by omega), put_cm _ x _ (by omega)]
theorem m58_25 {τ τ' : lj_S} {a : Int32} {m : Nat} (h41 : τ.1 0 41 = Int32.ofNat m) (hm : m < 14000) (h : lj_R lm_P 58 [.ref 0, .int a] τ = some (.inl none, τ')) (x : Int32) : lj_R lm_P 58 [.ref 0, .int a] (lj_put τ 0 25 x) = some (.inl none, lj_put τ' 0 25 x) := by
  have e50 : (lj_put τ 0 25 x).1 0 50 = τ.1 0 50 := by rw [lj_put_1, if_neg (by omega)]
  have e41 : (lj_put τ 0 25 x).1 0 41 = Int32.ofNat m := by rw [lj_put_1, if_neg (by omega)]; exact h41
  have e30 : ∀ j, (lj_put τ 0 25 x).1 30 j = τ.1 30 j := fun j => by rw [lj_put_1, if_neg (by omega)]
  rw [rm_58, km_58_0] at h ⊢
  rw [e50, e30]
  by_cases q : τ.1 0 50 ≤ a
  · rw [if_pos q, km_58_28] at h ⊢
    obtain ⟨-, rfl⟩ := Prod.mk.inj (Option.some.inj h)
    rfl
  · rw [if_neg q] at h ⊢
    by_cases q2 : lj_in a 1600
    · rw [if_pos q2] at h ⊢
      rw [m_emit h41 hm, bi_ok, km_58_28] at h
      rw [m_emit e41 hm, bi_ok, km_58_28, mP_25, put_cm _ x _ (by omega)]
      obtain ⟨-, rfl⟩ := Prod.mk.inj (Option.some.inj h)
      rfl
    · rw [if_neg q2] at h
      cases h
theorem m94_25 (s x : Int32) {m : Nat} (hm : m < 14000) : ∀ (r : List Nat) (h : Int32) (x3 x3' : Value) (τ τ' : lj_S), τ.1 0 41 = Int32.ofNat m → chM τ h r → lj_D lm_P lm_M94 20 [.ref 0, .int s, .int h, x3] [] τ = some (.inl none, τ') → lj_D lm_P lm_M94 20 [.ref 0, .int s, .int h, x3'] [] (lj_put τ 0 25 x) = some (.inl none, lj_put τ' 0 25 x)
  | [], h, x3, x3', τ, τ', h41, a, e => by
    have a : h = -1 := a
    have e41 : (lj_put τ 0 25 x).1 0 41 = Int32.ofNat m := by rw [lj_put_1, if_neg (by omega)]; exact h41
    rw [a, km_94_20, if_pos (by decide), m_emit h41 hm, bi_ok] at e
    rw [a, km_94_20, if_pos (by decide), m_emit e41 hm, bi_ok, mP_25]
    obtain ⟨-, rfl⟩ := Prod.mk.inj (Option.some.inj e)
    rfl
  | j :: r, h, x3, x3', τ, τ', h41, a, e => by
    have ij : lj_in (Int32.ofNat j) 14000 := ofN_in a.2.1 (by omega)
    have nd := chM_nd a
    have e21 : (lj_put τ 0 25 x).1 21 j = τ.1 21 j := by rw [lj_put_1, if_neg (by omega)]
    have e41 : (lj_put τ 0 25 x).1 0 41 = Int32.ofNat m := by rw [lj_put_1, if_neg (by omega)]; exact h41
    have j2 := a.2.1
    rw [a.1, km_94_20, if_neg (ofN_nneg (by omega))] at e ⊢
    simp only [if_pos ij, lz_onat (show j < 2147483648 by omega), h41] at e
    simp only [if_pos ij, lz_onat (show j < 2147483648 by omega), e41, e21]
    rw [put_cm _ x _ (by omega)]
    exact m94_25 s x hm r (τ.1 21 j) _ _ (lj_put τ 21 j (Int32.ofNat m)) τ' (by rw [lj_put_1, if_neg (by omega)]; exact h41) (chM_put r nd a.2.2) e
theorem mR94_25 {b : Nat → Int32} {n T : Nat} {Q : tkQ} {X : List Int32 → Prop} {FO : List fT} {PL : List qT} {cl ml : Nat} {F : Nat} {N : List lT} {p v c m wh : Nat} {W : List wT} {σ τ : lj_S} {z : zT} {Y : List zT} (h : PS b n T Q X F N FO (z :: Y) PL cl ml p v c m wh W σ τ) (hT : T ≤ 520) {s : Int32} {τ' : lj_S} (e : lj_R lm_P 94 [.ref 0, .int s] τ = some (.inl none, τ')) (x : Int32) : lj_R lm_P 94 [.ref 0, .int s] (lj_put τ 0 25 x) = some (.inl none, lj_put τ' 0 25 x) := by
  have c14 := h.c14 hT
  have l2 := h.2.2.2.1.2.1
  have l3 := h.2.2.2.1.2.2.1
  have l9 := h.2.2.2.1.2.2.2.2.2.2.2.2.1
  simp only [List.length_cons] at l2 l3
  have e56 : (lj_put τ 0 25 x).1 0 56 = Int32.ofNat (Y.length + 1) := by rw [lj_put_1, if_neg (by omega)]; exact l2
  have i1 : lj_in (Int32.ofNat Y.length) 64 := ofN_in (by omega) (by omega)
  have e33 : (lj_put τ 0 25 x).1 33 Y.length = τ.1 33 Y.length := by rw [lj_put_1, if_neg (by omega)]
  rw [rm_94, km_94_0, l2, lz_pred', if_pos i1, lz_onat (by omega)] at e
  rw [rm_94, km_94_0, e56, lz_pred', if_pos i1, lz_onat (by omega), e33, put_cm _ x _ (by omega)]
  refine m94_25 s x (m := m) (by omega) z.2.2.2.2 _ _ _ (lj_put τ 0 56 (Int32.ofNat Y.length)) τ' (by rw [lj_put_1, if_neg (by omega)]; exact h.2.1.2.2.2.2.2.1) ?_ e
  exact chM_cg' (fun j _ => by rw [lj_put_1, if_neg (by omega)]) l9.1.2.2.2.2
/-- an act of the component is amended -/
theorem PS.p23 {b : Nat → Int32} {n T : Nat} {Q : tkQ} {X : List Int32 → Prop} {FO : List fT} {Z : List zT} {PL : List qT} {cl ml : Nat} {F : Nat} {N : List lT} {p v c m wh : Nat} {W : List wT} {σ τ : lj_S} (h : PS b n T Q X F N FO Z PL cl ml p v c m wh W σ τ) (j : Nat) (k : Nat) (hk : k = 23 ∨ k = 25) (x : Int32) : PS b n T Q X F N FO Z PL cl ml p v c m wh W (lj_put σ k j x) τ ∧ TX N σ τ (lj_put σ k j x) τ ∧ fz 0 j 0 m σ τ (lj_put σ k j x) τ := by
  have fC : lf aC σ (lj_put σ k j x) := lf_put (lf_rf _ _) _ _ _ (by rcases hk with e | e <;> rw [e] <;> rfl)
  have o : ∀ k' i, ¬ (k' = k ∧ i = j) → (lj_put σ k j x).1 k' i = σ.1 k' i := fun k' i q => by rw [lj_put_1, if_neg q]
  obtain ⟨h1, h2, h3, h4, h5, h6, h7, h8, h9, h10⟩ := h.2.1
  refine ⟨h.up fC (lf_rf _ _) ⟨by rw [o _ _ (by omega)]; exact h1, h2, by rw [o _ _ (by omega)]; exact h3, h4, by rw [o _ _ (by omega)]; exact h5, h6, by rw [o _ _ (by omega)]; exact h7, h8, h9, h10⟩ h.2.2.1 (Nat.le_refl _) (Nat.le_refl _) (fun _ _ => rfl), TX_up N fC (lf_rf _ _) ?_ ?_ (fun i _ => ⟨rfl, rfl⟩), fun k' i a b _ q => o k' i (by omega), fun _ _ _ _ _ _ => rfl⟩
  · unfold lv; rw [o _ _ (by omega)]; exact Int.le_refl _
  · unfold lv; rw [o _ _ (by omega)]; exact Int.le_refl _
theorem PS.top {b : Nat → Int32} {n T : Nat} {Q : tkQ} {X : List Int32 → Prop} {FO : List fT} {Z : List zT} {PL : List qT} {cl ml : Nat} {F : Nat} {N : List lT} {p v c m wh : Nat} {W : List wT} {σ τ : lj_S} (h : PS b n T Q X F N FO Z PL cl ml p v c m wh W σ τ) : PS b n T Q X F N FO Z PL c m p v c m wh W σ τ :=
  ⟨h.1, h.2.1, h.2.2.1, LPr_eq h.2.2.2.1 (fun _ _ _ => rfl) (fun _ _ _ => rfl) h.2.2.2.2.1.1 h.2.2.2.2.2 (fun _ _ => rfl), ⟨(Nat.le_refl _), h.2.2.2.2.1.2⟩, (Nat.le_refl _)⟩
/-- acts that were laid first, in a state far behind -/
theorem LT_of {N N' : List lT} {F F' p p' c c' m m' a0 d0 a d c6 m6 : Nat} {σ τ σ' τ' σ6 τ6 σ2 τ2 : lj_S} (g : GR N N' F F' p p' c c' m m' σ τ σ' τ') (tx : TX N' σ' τ' σ6 τ6) (z : fz 0 a0 0 d0 σ' τ' σ6 τ6) (L : LT N' a c6 d m6 σ6 τ6 σ2 τ2) (h1 : a0 ≤ c) (h2 : d0 ≤ m) (h3 : a0 ≤ c6) (h4 : d0 ≤ m6) : LT N a a0 d d0 σ τ σ2 τ2 :=
  ⟨(g.1.tr tx (fun q _ hq => by rw [lvX_q g.2.1]; exact hq)).tr L.1 (fun q _ hq => by rw [lvX_q g.2.1]; exact hq), (((g.2.2.2.2.2.2.mo (Nat.le_refl _) h1 (Nat.le_refl _) h2).tr z).mo (Nat.zero_le _) (Nat.le_refl _) (Nat.zero_le _) (Nat.le_refl _)).tr (L.2.mo (Nat.le_refl _) h3 (Nat.le_refl _) h4)⟩
