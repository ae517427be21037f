theorem lidx_cases (P : List Int32) : ∀ (ws : List (List Int32)) (k : Nat), lidx P ws k = -1 ∨ ∃ w, k ≤ w ∧ w < k + ws.length ∧ lidx P ws k = Int32.ofNat w
  | [], k => Or.inl rfl
  | w :: ws, k => by
    unfold lidx
    by_cases h : P = w
    · exact Or.inr ⟨k, by omega, by simp, by rw [if_pos h]⟩
    · rw [if_neg h]
      rcases lidx_cases P ws (k + 1) with e | ⟨u, h1, h2, h3⟩
      · exact Or.inl e
      · exact Or.inr ⟨u, by omega, by simp; omega, h3⟩
/-- what the model's signs are -/
def lsgn : List Int64 := [43, 45, 42, 308, 37, 38, 124, 126, 306, 307, 300, 301, 302, 303, 304, 305, 60, 62, 61, 35, 40, 41, 123, 125, 91, 93, 59, 58, 44, 46]
/-- a token of the one is one of the other: kinds and values -/
def tkV (σ τ : lj_S) (kd : Int32) (v : Int64) (km : Int32) (vm : Int64) : Prop :=
  (∃ w : Nat, w < 21 ∧ kd = Int32.ofNat (10 + w) ∧ km = 4 ∧ vm = Int64.ofNat (w + 1)) ∨
  (∃ w : Nat, w < 30 ∧ kd = Int32.ofNat (40 + w) ∧ km = 5 ∧ lsgn[w]? = some vm) ∨
  ((kd = 1 ∧ km = 1 ∨ kd = 3 ∧ km = 3) ∧ ∃ s s' : Nat, s < 2600 ∧ s' < 3000 ∧ v = (Int32.ofNat s).toInt64 ∧ vm = (Int32.ofNat s').toInt64 ∧ sE σ τ s s') ∨
  (kd = 2 ∧ km = 2 ∧ v = vm)
theorem tkV.up {σ τ σ' τ' : lj_S} {kd : Int32} {v : Int64} {km : Int32} {vm : Int64} (h : tkV σ τ kd v km vm) (g : sG σ τ σ' τ') : tkV σ' τ' kd v km vm := by
  rcases h with h | h | ⟨h, s, s', h1, h2, h3, h4, h5⟩ | h
  · exact Or.inl h
  · exact Or.inr (Or.inl h)
  · exact Or.inr (Or.inr (Or.inl ⟨h, s, s', h1, h2, h3, h4, h5.up g⟩))
  · exact Or.inr (Or.inr (Or.inr h))
/-- places that reading a token changes (strings) -/
def cLx (k j : Nat) : Bool := cAd k j || cAs k j
def mLx (k j : Nat) : Bool := mAd k j || mAs k j || (k == 0 && (j == 67 || j == 68 || j == 69))
/-- reading a token at k: strings, and either a token that ends at k', or none -/
def rdR (b : Nat → Int32) (n : Nat) (X : List Int32 → Prop) (σ τ : lj_S) (T k : Nat) (oC oM : Option lj_O) : Prop :=
  ∃ σ1 τ1, lf cLx σ σ1 ∧ lf mLx τ τ1 ∧ sR σ1 τ1 X ∧ sG σ τ σ1 τ1 ∧ lv σ1 3 7 ≤ lv σ 3 7 + 1 ∧ lv σ1 3 8 ≤ lv σ 3 8 + 200 ∧ lv τ1 0 14 ≤ lv τ 0 14 + 1 ∧ lv τ1 0 8 ≤ lv τ 0 8 + 200 ∧ oM = some (.inl none, τ1) ∧
    ((∃ (k' : Nat) (kd : Int32) (v : Int64), k < k' ∧ k' ≤ n ∧ tN b k' = tN b k ∧ lv σ1 3 8 ≤ lv σ 3 8 + ((k' - k : Nat) : Int) ∧ lv τ1 0 8 ≤ lv τ 0 8 + ((k' - k : Nat) : Int) ∧ oC = some (.inl (some (.int 1)), lj_put (cTok (cAt σ1 b k) T kd v k) 4 2 (Int32.ofNat k')) ∧ τ1.1 0 69 = Int32.ofNat k' ∧ tkV σ1 τ1 kd v (τ1.1 0 67) (τ1.2 0 68)) ∨
     (oC = some (.inl (some (.int 0)), cAt σ1 b k) ∧ τ1.1 0 67 = 7))
theorem cAt_lf {A : Nat → Nat → Bool} {σ σ1 : lj_S} (h : lf A σ σ1) {b : Nat → Int32} {k : Nat} {σ2 : lj_S} (g : lf A (cAt σ b k) σ2) (h2 : A 4 2 = false) (h3 : A 4 3 = false) (e : ∀ k1 j1, ¬ (k1 = 4 ∧ (j1 = 2 ∨ j1 = 3)) → σ2.1 k1 j1 = σ1.1 k1 j1) (e2 : σ2.2 = σ1.2) : σ2 = cAt σ1 b k := by
  apply Prod.ext
  · funext k1 j1
    by_cases q : k1 = 4 ∧ (j1 = 2 ∨ j1 = 3)
    · obtain ⟨rfl, rfl | rfl⟩ := q
      · rw [(g 4 2 h2).1, cAt_2, cAt_2]
      · rw [(g 4 3 h3).1, cAt_3, cAt_3]
    · rw [e k1 j1 q, cAt_o _ _ _ q]
  · exact e2
/-- the reader's place can be set behind -/
def cUn (σ2 σ : lj_S) : lj_S := lj_put (lj_put σ2 4 3 (σ.1 4 3)) 4 2 (σ.1 4 2)
theorem cUn_at (σ2 σ : lj_S) (b : Nat → Int32) (k : Nat) (h2 : σ2.1 4 2 = Int32.ofNat k) (h3 : σ2.1 4 3 = Int32.ofNat (1 + tN b k)) : σ2 = cAt (cUn σ2 σ) b k := by
  unfold cAt cUn
  rw [lj_put_comm _ 4 2 4 3 _ _ (by omega), lj_put_put, lj_put_put, lj_put_self _ 4 3 _ (by rw [h3]), lj_put_self _ 4 2 _ h2]
theorem cUn_o (σ2 σ : lj_S) {k j : Nat} (h : ¬ (k = 4 ∧ (j = 2 ∨ j = 3))) : (cUn σ2 σ).1 k j = σ2.1 k j := by
  unfold cUn; rw [lj_put_1, if_neg (by omega), lj_put_1, if_neg (by omega)]
theorem cUn_lf {A : Nat → Nat → Bool} {σ σ2 : lj_S} {b : Nat → Int32} {k : Nat} (g : lf A (cAt σ b k) σ2) : lf A σ (cUn σ2 σ) := fun k1 j1 q => by
  refine ⟨?_, (g k1 j1 q).2⟩
  by_cases z : k1 = 4 ∧ (j1 = 2 ∨ j1 = 3)
  · obtain ⟨rfl, rfl | rfl⟩ := z
    · unfold cUn; rw [lj_put_1, if_pos ⟨rfl, rfl⟩]
    · unfold cUn; rw [lj_put_1, if_neg (by omega), lj_put_1, if_pos ⟨rfl, rfl⟩]
  · rw [cUn_o _ _ z, (g k1 j1 q).1, cAt_o _ _ _ z]
