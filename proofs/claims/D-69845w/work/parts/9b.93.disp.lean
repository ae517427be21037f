/-! any act of both -/
theorem c14 {σ0 τ0 : lj_S} (hs : stF σ0 τ0) {c : Nat} {K : Int32} (e : σ0.1 22 c = K) (hK : K ≠ -1) : c < 14000 := Nat.lt_of_not_le (fun q => hK (e.symm.trans (hs.1 _ q)))
theorem m14 {σ0 τ0 : lj_S} (hs : stF σ0 τ0) {m : Nat} {K : Int32} (e : τ0.1 20 m = K) (hK : K ≠ -1) : m < 14000 := Nat.lt_of_not_le (fun q => hK (e.symm.trans (hs.2 _ q)))
theorem wt_go {σ0 τ0 : lj_S} {f c m : Nat} {s l : List Nat} {dd : Nat} {z : pT} (hy : ¬ (σ0.1 22 c = 0 ∧ τ0.1 20 m = 0)) (hz : (σ0.1 22 z.2.1 = 0 ∧ τ0.1 20 z.2.2.1 = 0) ∨ (c ≤ z.2.1 ∧ m ≤ z.2.2.1 ∧ (c < z.2.1 ∧ c < 14000 ∨ m < z.2.2.1 ∧ m < 14000))) : wtp σ0 τ0 z + 6000 ≤ wtp σ0 τ0 (f, c, m, s, l, dd) := by
  have e : wtp σ0 τ0 (f, c, m, s, l, dd) = 6000 * (2 * (14000 - c) + 2 * (14000 - m) + (if s.head? = some 8 then 1 else 0) + 1) := by
    unfold wtp
    rw [if_neg hy]
  rw [e]
  by_cases q : σ0.1 22 z.2.1 = 0 ∧ τ0.1 20 z.2.2.1 = 0
  · unfold wtp
    rw [if_pos q]
    omega
  · have h := hz.resolve_left q
    unfold wtp
    rw [if_neg q]
    have b : (if z.2.2.2.1.head? = some 8 then 1 else 0) ≤ 1 := by
      by_cases y : z.2.2.2.1.head? = some 8
      · rw [if_pos y]; exact Nat.le_refl 1
      · rw [if_neg y]; decide
    omega
theorem wt_6 {σ0 τ0 : lj_S} {f c m : Nat} {s l : List Nat} {dd : Nat} (hy : ¬ (σ0.1 22 c = 0 ∧ τ0.1 20 m = 0)) : 6000 ≤ wtp σ0 τ0 (f, c, m, s, l, dd) := by
  unfold wtp
  rw [if_neg hy]
  omega
theorem wt_1 {σ0 τ0 : lj_S} {y z : pT} (h6 : 6000 ≤ wtp σ0 τ0 y) (h : wtp σ0 τ0 z + 6000 ≤ wtp σ0 τ0 y) : 6000 ≤ wtp σ0 τ0 y ∧ ∀ x ∈ [z], wtp σ0 τ0 x + 6000 ≤ wtp σ0 τ0 y := ⟨h6, fun x hx => by
  rcases List.mem_cons.1 hx with e | e
  · rw [e]; exact h
  · cases e⟩
theorem wt_2 {σ0 τ0 : lj_S} {y z z' : pT} (h6 : 6000 ≤ wtp σ0 τ0 y) (h : wtp σ0 τ0 z + 6000 ≤ wtp σ0 τ0 y) (h' : wtp σ0 τ0 z' + 6000 ≤ wtp σ0 τ0 y) : 6000 ≤ wtp σ0 τ0 y ∧ ∀ x ∈ [z, z'], wtp σ0 τ0 x + 6000 ≤ wtp σ0 τ0 y := ⟨h6, fun x hx => by
  rcases List.mem_cons.1 hx with e | e
  · rw [e]; exact h
  · rcases List.mem_cons.1 e with e | e
    · rw [e]; exact h'
    · cases e⟩
/-- the weight falls at every act that is no step -/
theorem wtp_lt {σ0 τ0 : lj_S} (hs : stF σ0 τ0) {f c m : Nat} {s l : List Nat} {dd : Nat} {L : List pT} : ∀ K : Nat, K ≠ 0 → K ≠ 54 → insK σ0 τ0 f c m s l dd L K → 6000 ≤ wtp σ0 τ0 (f, c, m, s, l, dd) ∧ ∀ z ∈ L, wtp σ0 τ0 z + 6000 ≤ wtp σ0 τ0 (f, c, m, s, l, dd)
  | 0, h, _, _ => absurd rfl h
  | 1, _, _, h => by
    obtain ⟨h0, h1, rfl⟩ := h
    have hy : ¬ (σ0.1 22 c = 0 ∧ τ0.1 20 m = 0) := fun z => by rw [h0] at z; exact absurd z.1 (by decide)
    have hc : c < 14000 := c14 hs h0 (by decide)
    exact wt_1 (wt_6 hy) (wt_go hy (Or.inr (by dsimp only; omega)))
  | 2, _, _, h => by
    obtain ⟨h0, h1, rfl⟩ := h
    have hy : ¬ (σ0.1 22 c = 0 ∧ τ0.1 20 m = 0) := fun z => by rw [h1] at z; exact absurd z.2 (by decide)
    have hm : m < 14000 := m14 hs h1 (by decide)
    exact wt_1 (wt_6 hy) (wt_go hy (Or.inr (by dsimp only; omega)))
  | 3, _, _, h => by
    obtain ⟨i, h0, h1, h2, h3, h4, h5, rfl⟩ := h
    have hy : ¬ (σ0.1 22 c = 0 ∧ τ0.1 20 m = 0) := fun z => by rw [h1] at z; exact absurd z.1 (by decide)
    have hc : c < 14000 := c14 hs h1 (by decide)
    exact wt_1 (wt_6 hy) (wt_go hy (Or.inr (by dsimp only; omega)))
  | 4, _, _, h => by
    obtain ⟨h0, h1, h2, rfl⟩ := h
    have hy : ¬ (σ0.1 22 c = 0 ∧ τ0.1 20 m = 0) := fun z => by rw [h0] at z; exact absurd z.1 (by decide)
    have hc : c < 14000 := c14 hs h0 (by decide)
    exact wt_1 (wt_6 hy) (wt_go hy (Or.inr (by dsimp only; omega)))
  | 5, _, _, h => by
    obtain ⟨x, h0, h1, h2, h3, h4, rfl⟩ := h
    have hy : ¬ (σ0.1 22 c = 0 ∧ τ0.1 20 m = 0) := fun z => by rw [h1] at z; exact absurd z.1 (by decide)
    have hc : c < 14000 := c14 hs h1 (by decide)
    exact wt_1 (wt_6 hy) (wt_go hy (Or.inr (by dsimp only; omega)))
  | 6, _, _, h => by
    obtain ⟨x, h0, h1, h2, h3, h4, rfl⟩ := h
    have hy : ¬ (σ0.1 22 c = 0 ∧ τ0.1 20 m = 0) := fun z => by rw [h1] at z; exact absurd z.1 (by decide)
    have hc : c < 14000 := c14 hs h1 (by decide)
    exact wt_1 (wt_6 hy) (wt_go hy (Or.inr (by dsimp only; omega)))
  | 7, _, _, h => by
    obtain ⟨h0, h1, h2, rfl⟩ := h
    have hy : ¬ (σ0.1 22 c = 0 ∧ τ0.1 20 m = 0) := fun z => by rw [h0] at z; exact absurd z.1 (by decide)
    have hc : c < 14000 := c14 hs h0 (by decide)
    exact wt_1 (wt_6 hy) (wt_go hy (Or.inr (by dsimp only; omega)))
  | 8, _, _, h => by
    obtain ⟨x, s', h0, h1, h2, h3, h4, h5, rfl⟩ := h
    have hy : ¬ (σ0.1 22 c = 0 ∧ τ0.1 20 m = 0) := fun z => by rw [h2] at z; exact absurd z.1 (by decide)
    have hc : c < 14000 := c14 hs h2 (by decide)
    exact wt_1 (wt_6 hy) (wt_go hy (Or.inr (by dsimp only; omega)))
  | 9, _, _, h => by
    obtain ⟨x, s', l', h0, h1, h2, h3, h4, h5, h6, rfl⟩ := h
    have hy : ¬ (σ0.1 22 c = 0 ∧ τ0.1 20 m = 0) := fun z => by rw [h3] at z; exact absurd z.1 (by decide)
    have hc : c < 14000 := c14 hs h3 (by decide)
    exact wt_1 (wt_6 hy) (wt_go hy (Or.inr (by dsimp only; omega)))
  | 10, _, _, h => by
    obtain ⟨x, s', h0, h1, h2, h3, h4, h5, rfl⟩ := h
    have hy : ¬ (σ0.1 22 c = 0 ∧ τ0.1 20 m = 0) := fun z => by rw [h2] at z; exact absurd z.1 (by decide)
    have hc : c < 14000 := c14 hs h2 (by decide)
    exact wt_1 (wt_6 hy) (wt_go hy (Or.inr (by dsimp only; omega)))
  | 11, _, _, h => by
    obtain ⟨s', h0, h1, h2, h3, rfl⟩ := h
    have hy : ¬ (σ0.1 22 c = 0 ∧ τ0.1 20 m = 0) := fun z => by rw [h1] at z; exact absurd z.1 (by decide)
    have hc : c < 14000 := c14 hs h1 (by decide)
    exact wt_1 (wt_6 hy) (wt_go hy (Or.inr (by dsimp only; omega)))
  | 12, _, _, h => by
    obtain ⟨s', h0, h1, h2, h3, h4, rfl⟩ := h
    have hy : ¬ (σ0.1 22 c = 0 ∧ τ0.1 20 m = 0) := fun z => by rw [h1] at z; exact absurd z.1 (by decide)
    have hc : c < 14000 := c14 hs h1 (by decide)
    exact wt_1 (wt_6 hy) (wt_go hy (Or.inr (by dsimp only; omega)))
  | 13, _, _, h => by
    obtain ⟨r, r', s', h0, h1, h2, h3, h4, h5, h6, h7, h8, rfl⟩ := h
    have hy : ¬ (σ0.1 22 c = 0 ∧ τ0.1 20 m = 0) := fun z => by rw [h3] at z; exact absurd z.1 (by decide)
    have hc : c < 14000 := c14 hs h3 (by decide)
    exact wt_1 (wt_6 hy) (wt_go hy (Or.inr (by dsimp only; omega)))
  | 14, _, _, h => by
    obtain ⟨r, s', h0, h1, h2, h3, h4, rfl⟩ := h
    have hy : ¬ (σ0.1 22 c = 0 ∧ τ0.1 20 m = 0) := fun z => by rw [h2] at z; exact absurd z.1 (by decide)
    have hc : c < 14000 := c14 hs h2 (by decide)
    exact wt_1 (wt_6 hy) (wt_go hy (Or.inr (by dsimp only; omega)))
  | 15, _, _, h => by
    obtain ⟨s', h0, h1, rfl⟩ := h
    have hy : ¬ (σ0.1 22 c = 0 ∧ τ0.1 20 m = 0) := fun z => by rw [h1] at z; exact absurd z.2 (by decide)
    have hm : m < 14000 := m14 hs h1 (by decide)
    exact wt_1 (wt_6 hy) (wt_go hy (Or.inr (by dsimp only; omega)))
  | 16, _, _, h => by
    obtain ⟨h0, h1, rfl⟩ := h
    have hy : ¬ (σ0.1 22 c = 0 ∧ τ0.1 20 m = 0) := fun z => by rw [h0] at z; exact absurd z.1 (by decide)
    have hc : c < 14000 := c14 hs h0 (by decide)
    exact wt_1 (wt_6 hy) (wt_go hy (Or.inr (by dsimp only; omega)))
  | 17, _, _, h => by
    obtain ⟨h0, rfl⟩ := h
    have hy : ¬ (σ0.1 22 c = 0 ∧ τ0.1 20 m = 0) := fun z => by rw [h0] at z; exact absurd z.2 (by decide)
    have hm : m < 14000 := m14 hs h0 (by decide)
    exact wt_1 (wt_6 hy) (wt_go hy (Or.inr (by dsimp only; omega)))
  | 18, _, _, h => by
    obtain ⟨r, s', h0, h1, h2, h3, h4, h5, h6, h7, rfl⟩ := h
    have hy : ¬ (σ0.1 22 c = 0 ∧ τ0.1 20 m = 0) := fun z => by rw [h2] at z; exact absurd z.1 (by decide)
    have hc : c < 14000 := c14 hs h2 (by decide)
    exact wt_1 (wt_6 hy) (wt_go hy (Or.inr (by dsimp only; omega)))
  | 19, _, _, h => by
    obtain ⟨r, s', h0, h1, h2, h3, h4, h5, h6, h7, rfl⟩ := h
    have hy : ¬ (σ0.1 22 c = 0 ∧ τ0.1 20 m = 0) := fun z => by rw [h2] at z; exact absurd z.1 (by decide)
    have hc : c < 14000 := c14 hs h2 (by decide)
    exact wt_1 (wt_6 hy) (wt_go hy (Or.inr (by dsimp only; omega)))
  | 20, _, _, h => by
    obtain ⟨r, s', h0, h1, h2, h3, h4, h5, h6, h7, rfl⟩ := h
    have hy : ¬ (σ0.1 22 c = 0 ∧ τ0.1 20 m = 0) := fun z => by rw [h2] at z; exact absurd z.1 (by decide)
    have hc : c < 14000 := c14 hs h2 (by decide)
    exact wt_1 (wt_6 hy) (wt_go hy (Or.inr (by dsimp only; omega)))
  | 21, _, _, h => by
    obtain ⟨r, s', h0, h1, h2, h3, h4, h5, h6, h7, h8, h9, rfl⟩ := h
    have hy : ¬ (σ0.1 22 c = 0 ∧ τ0.1 20 m = 0) := fun z => by rw [h2] at z; exact absurd z.1 (by decide)
    have hc : c < 14000 := c14 hs h2 (by decide)
    exact wt_1 (wt_6 hy) (wt_go hy (Or.inr (by dsimp only; omega)))
  | 22, _, _, h => by
    obtain ⟨h0, h1, h2, h3, rfl⟩ := h
    have hy : ¬ (σ0.1 22 c = 0 ∧ τ0.1 20 m = 0) := fun z => by rw [h0] at z; exact absurd z.1 (by decide)
    have hc : c < 14000 := c14 hs h0 (by decide)
    exact wt_1 (wt_6 hy) (wt_go hy (Or.inr (by dsimp only; omega)))
  | 23, _, _, h => by
    obtain ⟨h0, h1, h2, h3, rfl⟩ := h
    have hy : ¬ (σ0.1 22 c = 0 ∧ τ0.1 20 m = 0) := fun z => by rw [h0] at z; exact absurd z.1 (by decide)
    have hc : c < 14000 := c14 hs h0 (by decide)
    exact wt_1 (wt_6 hy) (wt_go hy (Or.inr (by dsimp only; omega)))
  | 24, _, _, h => by
    obtain ⟨s', h0, h1, h2, h3, h4, h5, h6, rfl⟩ := h
    have hy : ¬ (σ0.1 22 c = 0 ∧ τ0.1 20 m = 0) := fun z => by rw [h1] at z; exact absurd z.1 (by decide)
    have hc : c < 14000 := c14 hs h1 (by decide)
    exact wt_1 (wt_6 hy) (wt_go hy (Or.inr (by dsimp only; omega)))
  | 25, _, _, h => by
    obtain ⟨n, r, s', h0, h1, h2, h3, h4, h5, h6, h7, h8, h9, rfl⟩ := h
    have hy : ¬ (σ0.1 22 c = 0 ∧ τ0.1 20 m = 0) := fun z => by rw [h3] at z; exact absurd z.1 (by decide)
    have hc : c < 14000 := c14 hs h3 (by decide)
    exact wt_1 (wt_6 hy) (wt_go hy (Or.inr (by dsimp only; omega)))
  | 26, _, _, h => by
    obtain ⟨n, s', h0, h1, h2, h3, h4, h5, h6, rfl⟩ := h
    have hy : ¬ (σ0.1 22 c = 0 ∧ τ0.1 20 m = 0) := fun z => by rw [h2] at z; exact absurd z.1 (by decide)
    have hc : c < 14000 := c14 hs h2 (by decide)
    exact wt_1 (wt_6 hy) (wt_go hy (Or.inr (by dsimp only; omega)))
  | 27, _, _, h => by
    obtain ⟨r, s', h0, h1, h2, h3, h4, h5, rfl⟩ := h
    have hy : ¬ (σ0.1 22 c = 0 ∧ τ0.1 20 m = 0) := fun z => by rw [h2] at z; exact absurd z.1 (by decide)
    have hc : c < 14000 := c14 hs h2 (by decide)
    exact ⟨wt_6 hy, fun z hz => by cases hz⟩
  | 28, _, _, h => by
    obtain ⟨s', h0, h1, h2, rfl⟩ := h
    have hy : ¬ (σ0.1 22 c = 0 ∧ τ0.1 20 m = 0) := fun z => by rw [h1] at z; exact absurd z.1 (by decide)
    have hc : c < 14000 := c14 hs h1 (by decide)
    exact ⟨wt_6 hy, fun z hz => by cases hz⟩
  | 29, _, _, h => by
    obtain ⟨q, h0, h1, h2, h3, h4, h5, rfl⟩ := h
    have hy : ¬ (σ0.1 22 c = 0 ∧ τ0.1 20 m = 0) := fun z => by rw [h2] at z; exact absurd z.1 (by decide)
    have hc : c < 14000 := c14 hs h2 (by decide)
    exact wt_2 (wt_6 hy) (wt_go hy (Or.inr (by dsimp only; omega))) (wt_go hy (Or.inl ⟨h0.2.1, h0.2.2⟩))
  | 30, _, _, h => by
    obtain ⟨h0, h1, rfl⟩ := h
    have hy : ¬ (σ0.1 22 c = 0 ∧ τ0.1 20 m = 0) := fun z => by rw [h0] at z; exact absurd z.1 (by decide)
    have hc : c < 14000 := c14 hs h0 (by decide)
    exact wt_1 (wt_6 hy) (wt_go hy (Or.inr (by dsimp only; omega)))
  | 31, _, _, h => by
    obtain ⟨s', h0, h1, h2, h3, rfl⟩ := h
    have hy : ¬ (σ0.1 22 c = 0 ∧ τ0.1 20 m = 0) := fun z => by rw [h1] at z; exact absurd z.1 (by decide)
    have hc : c < 14000 := c14 hs h1 (by decide)
    exact wt_1 (wt_6 hy) (wt_go hy (Or.inr (by dsimp only; omega)))
  | 32, _, _, h => by
    obtain ⟨s', h0, h1, h2, h3, rfl⟩ := h
    have hy : ¬ (σ0.1 22 c = 0 ∧ τ0.1 20 m = 0) := fun z => by rw [h1] at z; exact absurd z.1 (by decide)
    have hc : c < 14000 := c14 hs h1 (by decide)
    exact wt_1 (wt_6 hy) (wt_go hy (Or.inr (by dsimp only; omega)))
  | 33, _, _, h => by
    obtain ⟨s', h0, h1, h2, h3, h4, h5, h6, h7, h8, h9, rfl⟩ := h
    have hy : ¬ (σ0.1 22 c = 0 ∧ τ0.1 20 m = 0) := fun z => by rw [h1] at z; exact absurd z.1 (by decide)
    have hc : c < 14000 := c14 hs h1 (by decide)
    exact wt_1 (wt_6 hy) (wt_go hy (Or.inr (by dsimp only; omega)))
  | 34, _, _, h => by
    obtain ⟨k, s', h0, h1, h2, h3, h4, h5, rfl⟩ := h
    have hy : ¬ (σ0.1 22 c = 0 ∧ τ0.1 20 m = 0) := fun z => by rw [h1] at z; exact absurd z.1 (by decide)
    have hc : c < 14000 := c14 hs h1 (by decide)
    exact wt_1 (wt_6 hy) (wt_go hy (Or.inr (by dsimp only; omega)))
  | 35, _, _, h => by
    obtain ⟨s', h0, h1, h2, h3, rfl⟩ := h
    have hy : ¬ (σ0.1 22 c = 0 ∧ τ0.1 20 m = 0) := fun z => by rw [h1] at z; exact absurd z.1 (by decide)
    have hc : c < 14000 := c14 hs h1 (by decide)
    exact wt_1 (wt_6 hy) (wt_go hy (Or.inr (by dsimp only; omega)))
  | 36, _, _, h => by
    obtain ⟨s', h0, h1, h2, h3, h4, rfl⟩ := h
    have hy : ¬ (σ0.1 22 c = 0 ∧ τ0.1 20 m = 0) := fun z => by rw [h1] at z; exact absurd z.1 (by decide)
    have hc : c < 14000 := c14 hs h1 (by decide)
    exact wt_1 (wt_6 hy) (wt_go hy (Or.inr (by dsimp only; omega)))
  | 37, _, _, h => by
    obtain ⟨a, a', h0, h1, h2, h3, h4, h5, rfl⟩ := h
    have hy : ¬ (σ0.1 22 c = 0 ∧ τ0.1 20 m = 0) := fun z => by rw [h2] at z; exact absurd z.1 (by decide)
    have hc : c < 14000 := c14 hs h2 (by decide)
    refine wt_1 (wt_6 hy) (wt_go hy ?_)
    rcases h1.2 with w | w
    · exact Or.inr (by dsimp only; omega)
    · exact Or.inl w
  | 38, _, _, h => by
    obtain ⟨a, h0, h1, h2, h3, rfl⟩ := h
    have hy : ¬ (σ0.1 22 c = 0 ∧ τ0.1 20 m = 0) := fun z => by rw [h1] at z; exact absurd z.1 (by decide)
    have hc : c < 14000 := c14 hs h1 (by decide)
    exact wt_1 (wt_6 hy) (wt_go hy (Or.inr (by dsimp only; omega)))
  | 39, _, _, h => by
    obtain ⟨a, a', s', h0, h1, h2, h3, h4, h5, h6, rfl⟩ := h
    have hy : ¬ (σ0.1 22 c = 0 ∧ τ0.1 20 m = 0) := fun z => by rw [h3] at z; exact absurd z.1 (by decide)
    have hc : c < 14000 := c14 hs h3 (by decide)
    exact wt_2 (wt_6 hy) (wt_go hy (Or.inr (by dsimp only; omega))) (wt_go hy (Or.inr (by dsimp only; omega)))
  | 40, _, _, h => by
    obtain ⟨a, a', s', h0, h1, h2, h3, h4, h5, rfl⟩ := h
    have hy : ¬ (σ0.1 22 c = 0 ∧ τ0.1 20 m = 0) := fun z => by
      rcases h3 with w | w
      · rw [w.1] at z; exact absurd z.1 (by decide)
      · rw [w.1] at z; exact absurd z.1 (by decide)
    have hc : c < 14000 := by
      rcases h3 with w | w
      · exact c14 hs w.1 (by decide)
      · exact c14 hs w.1 (by decide)
    exact wt_2 (wt_6 hy) (wt_go hy (Or.inr (by dsimp only; omega))) (wt_go hy (Or.inr (by dsimp only; omega)))
  | 41, _, _, h => by
    obtain ⟨a, t, t', o, s', h0, h1, h2, h3, h4, h5, h6, h7, h8, h9, h10, h11, h12, rfl⟩ := h
    have hy : ¬ (σ0.1 22 c = 0 ∧ τ0.1 20 m = 0) := fun z => by rw [h5] at z; exact absurd z.1 (by decide)
    have hc : c < 14000 := c14 hs h5 (by decide)
    exact wt_2 (wt_6 hy) (wt_go hy (Or.inr (by dsimp only; omega))) (wt_go hy (Or.inl h2.2))
  | 42, _, _, h => by
    obtain ⟨a, t, t', o, p, q, s', h0, h1, h2, h3, h4, h5, h6, h7, h8, h9, h10, h11, h12, h13, h14, h15, h16, h17, h18, h19, h20, h21, h22, h23, h24, rfl⟩ := h
    have hy : ¬ (σ0.1 22 c = 0 ∧ τ0.1 20 m = 0) := fun z => by rw [h8] at z; exact absurd z.1 (by decide)
    have hc : c < 14000 := c14 hs h8 (by decide)
    exact wt_2 (wt_6 hy) (wt_go hy (Or.inr (by dsimp only; omega))) (wt_go hy (Or.inl h2.2))
  | 43, _, _, h => by
    obtain ⟨p, q, h0, h1, h2, h3, h4, h5, h6, h7, h8, rfl⟩ := h
    have hy : ¬ (σ0.1 22 c = 0 ∧ τ0.1 20 m = 0) := fun z => by rw [h3] at z; exact absurd z.1 (by decide)
    have hc : c < 14000 := c14 hs h3 (by decide)
    exact wt_1 (wt_6 hy) (wt_go hy (Or.inr (by dsimp only; omega)))
  | 44, _, _, h => by
    obtain ⟨p, q, h0, h1, h2, h3, h4, h5, rfl⟩ := h
    have hy : ¬ (σ0.1 22 c = 0 ∧ τ0.1 20 m = 0) := fun z => by rw [h3] at z; exact absurd z.1 (by decide)
    have hc : c < 14000 := c14 hs h3 (by decide)
    exact wt_1 (wt_6 hy) (wt_go hy (Or.inr (by dsimp only; omega)))
  | 45, _, _, h => by
    obtain ⟨p, h0, h1, h2, h3, h4, rfl⟩ := h
    have hy : ¬ (σ0.1 22 c = 0 ∧ τ0.1 20 m = 0) := fun z => by rw [h1] at z; exact absurd z.2 (by decide)
    have hm : m < 14000 := m14 hs h1 (by decide)
    exact wt_1 (wt_6 hy) (wt_go hy (Or.inr (by dsimp only; omega)))
  | 46, _, _, h => by
    obtain ⟨d, s', h0, h1, h2, h3, h4, h5, h6, h7, rfl⟩ := h
    have hy : ¬ (σ0.1 22 c = 0 ∧ τ0.1 20 m = 0) := fun z => by rw [h3] at z; exact absurd z.1 (by decide)
    have hc : c < 14000 := c14 hs h3 (by decide)
    exact wt_1 (wt_6 hy) (wt_go hy (Or.inr (by dsimp only; omega)))
  | 47, _, _, h => by
    obtain ⟨d, x, a, a', s', h0, h1, h2, h3, h4, h5, h6, h7, h8, h9, h10, h11, h12, rfl⟩ := h
    have hy : ¬ (σ0.1 22 c = 0 ∧ τ0.1 20 m = 0) := fun z => by rw [h6] at z; exact absurd z.1 (by decide)
    have hc : c < 14000 := c14 hs h6 (by decide)
    exact wt_2 (wt_6 hy) (wt_go hy (Or.inr (by dsimp only; omega))) (wt_go hy (Or.inr (by dsimp only; omega)))
  | 48, _, _, h => by
    obtain ⟨d, t, t', a', s', h0, h1, h2, h3, h4, h5, h6, h7, h8, h9, h10, h11, rfl⟩ := h
    have hy : ¬ (σ0.1 22 c = 0 ∧ τ0.1 20 m = 0) := fun z => by rw [h6] at z; exact absurd z.1 (by decide)
    have hc : c < 14000 := c14 hs h6 (by decide)
    exact wt_2 (wt_6 hy) (wt_go hy (Or.inl h1.2)) (wt_go hy (Or.inr (by dsimp only; omega)))
  | 49, _, _, h => by
    obtain ⟨s', h0, h1, h2, rfl⟩ := h
    have hy : ¬ (σ0.1 22 c = 0 ∧ τ0.1 20 m = 0) := fun z => by rw [h1] at z; exact absurd z.2 (by decide)
    have hm : m < 14000 := m14 hs h1 (by decide)
    exact wt_1 (wt_6 hy) (wt_go hy (Or.inr (by dsimp only; omega)))
  | 50, _, _, h => by
    obtain ⟨d, s', h0, h1, h2, h3, h4, h5, rfl⟩ := h
    have hy : ¬ (σ0.1 22 c = 0 ∧ τ0.1 20 m = 0) := fun z => by rw [h3] at z; exact absurd z.1 (by decide)
    have hc : c < 14000 := c14 hs h3 (by decide)
    exact wt_1 (wt_6 hy) (wt_go hy (Or.inr (by dsimp only; omega)))
  | 51, _, _, h => by
    obtain ⟨d, n, x, a, a', s', h0, h1, h2, h3, h4, h5, h6, h7, h8, h9, h10, h11, h12, h13, h14, h15, h16, h17, h18, h19, h20, h21, h22, h23, rfl⟩ := h
    have hy : ¬ (σ0.1 22 c = 0 ∧ τ0.1 20 m = 0) := fun z => by rw [h7] at z; exact absurd z.1 (by decide)
    have hc : c < 14000 := c14 hs h7 (by decide)
    exact wt_2 (wt_6 hy) (wt_go hy (Or.inr (by dsimp only; omega))) (wt_go hy (Or.inr (by dsimp only; omega)))
  | 52, _, _, h => by
    obtain ⟨h0, h1, h2, rfl⟩ := h
    have hy : ¬ (σ0.1 22 c = 0 ∧ τ0.1 20 m = 0) := fun z => by rw [h0] at z; exact absurd z.1 (by decide)
    have hc : c < 14000 := c14 hs h0 (by decide)
    exact wt_1 (wt_6 hy) (wt_go hy (Or.inr (by dsimp only; omega)))
  | 53, _, _, h => by
    obtain ⟨s', h0, h1, h2, rfl⟩ := h
    have hy : ¬ (σ0.1 22 c = 0 ∧ τ0.1 20 m = 0) := fun z => by rw [h1] at z; exact absurd z.1 (by decide)
    have hc : c < 14000 := c14 hs h1 (by decide)
    exact wt_1 (wt_6 hy) (wt_go hy (Or.inr (by dsimp only; omega)))
  | 54, _, h, _ => absurd rfl h
  | _ + 55, _, _, h => h.elim
theorem MB.mid {σ0 τ0 σ τ : lj_S} {n np p : Nat} {r : List Nat} {FP : Nat → List kF} {ρ : Nat → Nat} {A MO LA : List Nat} {F : kF} {L : List kF} (h : MB σ0 τ0 n np p r (fpT FP p (F :: L)) ρ A MO LA σ τ) (h0 : kS F = 0) : MB σ0 τ0 n np p r (fpT FP p (kTo F (kY F).2.1 (kY F).2.2.1 (kY F).2.2.2.1 (kY F).2.2.2.2.1 (kY F).2.2.2.2.2 0 0 :: L)) ρ A MO LA σ τ := by
  have hF := fpT_o FP p (F :: L)
  obtain ⟨ms, ks, ce, me, mq, V⟩ := h.w hF h0
  have B := V.bd
  have nl := V.ff.1
  obtain ⟨b1, b2, b3, _⟩ := stk_bd V.st
  have f' := tq_tp b1 (lf_rf (tqC p (20 * p + L.length) ce) σ)
  have g' := tq_tpM b2 b3 (lf_rf (tqM p (48 * p + L.length) me mq) τ)
  have q : MB σ0 τ0 n np p r (fpT (fpT FP p (F :: L)) p (kTo F (kY F).2.1 (kY F).2.2.1 (kY F).2.2.2.1 (kY F).2.2.2.2.1 (kY F).2.2.2.2.2 0 0 :: L)) ρ A MO LA σ τ := h.top hF h0 V.1 V.2.1 V.2.2.1 V.2.2.2.1 f' g' V.2.2.2.2.1.1.2.2.2.1 V.2.2.2.2.1.2.1.2.2.2.1 V.tp V.at.2.2.1 V.at.2.2.2.2.1 (by omega) (by omega) (by omega) V.st V.fl (Nat.le_refl _) ⟨⟨nl.1, nl.2.1, nl.2.2.1, nl.2.2.2.1, nl.2.2.2.2⟩, V.ff.2.1, Or.inl ⟨rfl, rfl⟩, fun z => absurd rfl z⟩ (fun j => Or.inl rfl)
  rw [fpT_2] at q
  exact q
theorem eoR.mid {σ0 τ0 σ τ : lj_S} {n np p : Nat} {r : List Nat} {FP : Nat → List kF} {ρ : Nat → Nat} {A MO LA : List Nat} {F : kF} {L : List kF} (h : eoR σ0 τ0 n np p r (fpT FP p (F :: L)) ρ A MO LA σ τ) (h0 : kS F = 0) : eoR σ0 τ0 n np p r (fpT FP p (kTo F (kY F).2.1 (kY F).2.2.1 (kY F).2.2.2.1 (kY F).2.2.2.2.1 (kY F).2.2.2.2.2 0 0 :: L)) ρ A MO LA σ τ := by
  obtain ⟨e1, e2, e3, e4⟩ := h
  refine ⟨e1, e2, e3, e4.imp id (fun w => ?_)⟩
  obtain ⟨w1, w2, w3, w4, hx, w5, w6⟩ := w
  refine ⟨w1, w2, w3, w4, hx, w5.mid h0, fun F' L' q z => ?_⟩
  rw [fpT_o] at q
  cases q
  have z : (0 : Nat) = 2 := z
  omega
theorem ac_trm {σ0 τ0 σ τ : lj_S} {n np p : Nat} {r : List Nat} {FP : Nat → List kF} {ρ : Nat → Nat} {A MO LA : List Nat} (h : MB σ0 τ0 n np p r FP ρ A MO LA σ τ) {F : kF} {L : List kF} (hF : FP p = F :: L) (h0 : kS F = 0) (hA : A = []) (hwk : wkR FP (p :: r) A σ) (hN : 1 < kN F) {F' : kF} (h0' : kS F' = 0) {ρ' : Nat → Nat} (x : trR σ0 τ0 n np p r (fpT FP p (F' :: L)) ρ' A MO LA σ τ) : acR σ0 τ0 (fun t => t < thM FP (p :: r) MO LA) σ τ := by
  obtain ⟨σ1, σ', τ', x1, x2, x3, x4, x5⟩ := x
  exact ac_tr h hF h0 hA hwk (F' := kTo F' (kY F').2.1 (kY F').2.2.1 (kY F').2.2.2.1 (kY F').2.2.2.2.1 (kY F').2.2.2.2.2 0 0) rfl (by show 0 + 1 < kN F; omega) ⟨σ1, σ', τ', x1, x2, x3, x4, x5.mid h0'⟩
theorem ac_oa {σ0 τ0 σ τ : lj_S} {n np p : Nat} {r : List Nat} {FP : Nat → List kF} {ρ : Nat → Nat} {A MO LA : List Nat} (h : MB σ0 τ0 n np p r FP ρ A MO LA σ τ) {F : kF} {L : List kF} (hF : FP p = F :: L) (h0 : kS F = 0) (hA : A = []) (hwk : wkR FP (p :: r) A σ) {n' : Nat} {Z : List pT} (x : oaR σ0 τ0 n np p r FP ρ A MO LA σ τ F L n' Z) (hN : n' + 1 < kN F) : acR σ0 τ0 (fun t => t < thM FP (p :: r) MO LA) σ τ := by
  rcases x with x | ⟨F', z, x⟩
  · exact ac_nx h hF h0 hA hwk x hN
  · exact ac_trm h hF h0 hA hwk (by omega) z x
theorem ac_ng {σ0 τ0 σ τ : lj_S} {n np p : Nat} {r : List Nat} {FP : Nat → List kF} {ρ : Nat → Nat} {A MO LA : List Nat} (h : MB σ0 τ0 n np p r FP ρ A MO LA σ τ) {F : kF} {L : List kF} (hF : FP p = F :: L) (h0 : kS F = 0) (hA : A = []) (hwk : wkR FP (p :: r) A σ) {n' : Nat} {Z : List pT} (x : ngR σ0 τ0 np p r FP A MO LA σ τ F L n' Z) (hN : n' + 1 < kN F) : acR σ0 τ0 (fun t => t < thM FP (p :: r) MO LA) σ τ := by
  subst hA
  have hpr := h.npr
  obtain ⟨n2, ρ', σ', τ', z, _, x1, x2, x3, x4⟩ := x
  refine Or.inl ⟨σ', τ', n2, np, p, r, _, MO, LA, x1, x2, Or.inl ⟨ρ', _, L, fpT_o _ _ _, rfl, Nat.succ_ne_zero _, rfl, x3, x4⟩, ?_, wk_nil hpr hwk _⟩
  have e := thM_t hpr hF (kAt F z (n' + 1)) MO LA
  rw [thF_0 h0, thF_0 (F := kAt F z (n' + 1)) rfl] at e
  have e2 : kN (kAt F z (n' + 1)) = n' + 1 := rfl
  show thM _ _ _ _ < _
  omega
/-- any act that is no step -/
theorem act_all {σ0 τ0 σ τ : lj_S} {n np p : Nat} {r : List Nat} {FP : Nat → List kF} {ρ : Nat → Nat} {A MO LA : List Nat} (h : MB σ0 τ0 n np p r FP ρ A MO LA σ τ) {F : kF} {L : List kF} (hF : FP p = F :: L) (h0 : kS F = 0) (rg : rgR σ τ) (hs : stF σ0 τ0) (hA : A = []) (hwk : wkR FP (p :: r) A σ) (C : ∀ M k, CAL σ0 τ0 M k) (D : ∀ M, DLV σ0 τ0 M) (hT : thM FP (p :: r) MO LA ≤ TH) {Z : List pT} {n' : Nat} (hN : n' + 6001 ≤ kN F) (hn : ∀ z ∈ Z, gn σ0 τ0 n' z) : ∀ K : Nat, K ≠ 0 → K ≠ 54 → insK σ0 τ0 (kY F).1 (kY F).2.1 (kY F).2.2.1 (kY F).2.2.2.1 (kY F).2.2.2.2.1 (kY F).2.2.2.2.2 Z K → acR σ0 τ0 (fun t => t < thM FP (p :: r) MO LA) σ τ
  | 0, h, _, _ => absurd rfl h
  | 1, _, _, hk => by
    obtain ⟨k1, k2, rfl⟩ := hk
    obtain ⟨σ', τ', x⟩ := act_1 h hF h0 rg hs k1 k2 (hn _ List.mem_cons_self)
    exact ac_nx h hF h0 hA hwk (n' := n') (Z := [((kY F).1, (kY F).2.1 + 1, (kY F).2.2.1 + 1, 0 :: (kY F).2.2.2.1, (kY F).2.2.2.2.1, (kY F).2.2.2.2.2)]) ⟨σ', τ', ((kY F).1, (kY F).2.1 + 1, (kY F).2.2.1 + 1, 0 :: (kY F).2.2.2.1, (kY F).2.2.2.2.1, (kY F).2.2.2.2.2), List.mem_cons_self, x⟩ (by omega)
  | 2, _, _, hk => by
    obtain ⟨k1, k2, rfl⟩ := hk
    obtain ⟨σ', τ', x⟩ := act_2 h hF h0 rg hs k1 k2 (hn _ List.mem_cons_self)
    exact ac_nx h hF h0 hA hwk (n' := n') (Z := [((kY F).1, (kY F).2.1 + 1, (kY F).2.2.1 + 1, 0 :: (kY F).2.2.2.1, (kY F).2.2.2.2.1, (kY F).2.2.2.2.2)]) ⟨σ', τ', ((kY F).1, (kY F).2.1 + 1, (kY F).2.2.1 + 1, 0 :: (kY F).2.2.2.1, (kY F).2.2.2.2.1, (kY F).2.2.2.2.2), List.mem_cons_self, x⟩ (by omega)
  | 3, _, _, hk => by
    obtain ⟨i, hi, a1, a2, b1, b2, k3, rfl⟩ := hk
    obtain ⟨σ', τ', x⟩ := act_3 h hF h0 rg hs hi ⟨a1, a2⟩ ⟨b1, b2⟩ k3 (hn _ List.mem_cons_self)
    exact ac_nx h hF h0 hA hwk (n' := n') (Z := [((kY F).1, (kY F).2.1 + 1, (kY F).2.2.1 + 1, 0 :: (kY F).2.2.2.1, (kY F).2.2.2.2.1, (kY F).2.2.2.2.2)]) ⟨σ', τ', ((kY F).1, (kY F).2.1 + 1, (kY F).2.2.1 + 1, 0 :: (kY F).2.2.2.1, (kY F).2.2.2.2.1, (kY F).2.2.2.2.2), List.mem_cons_self, x⟩ (by omega)
  | 4, _, _, hk => by
    obtain ⟨k1, k2, k3, rfl⟩ := hk
    obtain ⟨σ', τ', x⟩ := act_4 h hF h0 rg hs h.2.2.2.2.2.2.2.2.2.2.2.2.2 k1 k2 k3 (hn _ List.mem_cons_self)
    exact ac_nx h hF h0 hA hwk (n' := n') (Z := [((kY F).1, (kY F).2.1 + 1, (kY F).2.2.1 + 1, 0 :: (kY F).2.2.2.1, (kY F).2.2.2.2.1, (kY F).2.2.2.2.2)]) ⟨σ', τ', ((kY F).1, (kY F).2.1 + 1, (kY F).2.2.1 + 1, 0 :: (kY F).2.2.2.1, (kY F).2.2.2.2.1, (kY F).2.2.2.2.2), List.mem_cons_self, x⟩ (by omega)
  | 5, _, _, hk => by
    obtain ⟨x, hx, a1, a2, b1, b2, rfl⟩ := hk
    obtain ⟨σ', τ', x⟩ := act_5 h hF h0 rg hs hx ⟨a1, a2⟩ ⟨b1, b2⟩ (hn _ List.mem_cons_self)
    exact ac_nx h hF h0 hA hwk (n' := n') (Z := [((kY F).1, (kY F).2.1 + 1, (kY F).2.2.1 + 1, 0 :: (kY F).2.2.2.1, (kY F).2.2.2.2.1, (kY F).2.2.2.2.2)]) ⟨σ', τ', ((kY F).1, (kY F).2.1 + 1, (kY F).2.2.1 + 1, 0 :: (kY F).2.2.2.1, (kY F).2.2.2.2.1, (kY F).2.2.2.2.2), List.mem_cons_self, x⟩ (by omega)
  | 6, _, _, hk => ac_nx h hF h0 hA hwk (act_6 h hF h0 rg hs hk hn) (by omega)
  | 7, _, _, hk => ac_nx h hF h0 hA hwk (act_7 h hF h0 rg hs hk hn) (by omega)
  | 8, _, _, hk => ac_nx h hF h0 hA hwk (act_8 h hF h0 rg hs hk hn) (by omega)
  | 9, _, _, hk => by
    obtain ⟨ρ', σ', τ', z, x⟩ := act_9 h hF h0 rg hs hk hn
    exact ac_ny h hF h0 hA hwk ⟨ρ', σ', τ', z, x⟩ (by omega)
  | 10, _, _, hk => ac_nx h hF h0 hA hwk (act_10 h hF h0 rg hs hk hn) (by omega)
  | 11, _, _, hk => ac_oa h hF h0 hA hwk (act_11 h hF h0 rg hs hk hn) (by omega)
  | 12, _, _, hk => act_12 h hF h0 rg hs hk hn hA hN hwk C hT
  | 13, _, _, hk => act_13 h hF h0 rg hs hk hn hA hN hwk C hT
  | 14, _, _, hk => ac_nx h hF h0 hA hwk (act_14 h hF h0 rg hs hk hn) (by omega)
  | 15, _, _, hk => ac_nx h hF h0 hA hwk (act_15 h hF h0 rg hs hk hn) (by omega)
  | 16, _, _, hk => by
    obtain ⟨k1, k2, rfl⟩ := hk
    obtain ⟨σ', τ', x⟩ := act_16 h hF h0 rg hs k1 k2 (hn _ List.mem_cons_self)
    exact ac_nx h hF h0 hA hwk (n' := n') (Z := [((kY F).1, (kY F).2.1 + 1, (kY F).2.2.1 + 1, 1 :: (kY F).2.2.2.1, (kY F).2.2.2.2.1, (kY F).2.2.2.2.2)]) ⟨σ', τ', ((kY F).1, (kY F).2.1 + 1, (kY F).2.2.1 + 1, 1 :: (kY F).2.2.2.1, (kY F).2.2.2.2.1, (kY F).2.2.2.2.2), List.mem_cons_self, x⟩ (by omega)
  | 17, _, _, hk => by
    obtain ⟨k2, rfl⟩ := hk
    obtain ⟨τ', x⟩ := act_17 h hF h0 rg hs k2 (hn _ List.mem_cons_self)
    exact ac_nx h hF h0 hA hwk (n' := n') (Z := [((kY F).1, (kY F).2.1, (kY F).2.2.1 + 1, 2 :: (kY F).2.2.2.1, (kY F).2.2.2.2.1, (kY F).2.2.2.2.2)]) ⟨σ, τ', ((kY F).1, (kY F).2.1, (kY F).2.2.1 + 1, 2 :: (kY F).2.2.2.1, (kY F).2.2.2.2.1, (kY F).2.2.2.2.2), List.mem_cons_self, fun _ => rfl, x⟩ (by omega)
  | 18, _, _, hk => act_call h hF h0 rg hs (by decide) hk hn hA hN hwk C hT
  | 19, _, _, hk => act_call h hF h0 rg hs (by decide) hk hn hA hN hwk C hT
  | 20, _, _, hk => act_call h hF h0 rg hs (by decide) hk hn hA hN hwk C hT
  | 21, _, _, hk => act_call h hF h0 rg hs (by decide) hk hn hA hN hwk C hT
  | 22, _, _, hk => ac_nx h hF h0 hA hwk (act_22 h hF h0 rg hs hk hn) (by omega)
  | 23, _, _, hk => ac_nx h hF h0 hA hwk (act_23 h hF h0 rg hs hk hn) (by omega)
  | 24, _, _, hk => ac_oa h hF h0 hA hwk (act_24 h hF h0 rg hs hk hn) (by omega)
  | 25, _, _, hk => ac_oa h hF h0 hA hwk (act_25 h hF h0 rg hs hk hn) (by omega)
  | 26, _, _, hk => ac_nx h hF h0 hA hwk (act_26 h hF h0 rg hs hk hn) (by omega)
  | 27, _, _, hk => act_27 h hF h0 rg hs hk hA (by omega) hwk (D _) (Nat.le_refl _) hT
  | 28, _, _, hk => act_28 h hF h0 rg hs hk hA (by omega) hwk (D _) (Nat.le_refl _) hT
  | 29, _, _, hk => act_29 h hF h0 rg hs hk hn hA (by omega) hwk
  | 30, _, _, hk => by
    rcases act_30 h hF h0 rg hs hk hn with x | ⟨F', z, x⟩
    · exact ac_ng h hF h0 hA hwk x (by omega)
    · exact ac_trm h hF h0 hA hwk (by omega) z x
  | 31, _, _, hk => ac_oa h hF h0 hA hwk (act_31 h hF h0 rg hs hk hn) (by omega)
  | 32, _, _, hk => ac_oa h hF h0 hA hwk (act_32 h hF h0 rg hs hk hn) (by omega)
  | 33, _, _, hk => act_33 h hF h0 rg hs hk hn hA hN hwk C hT
  | 34, _, _, hk => act_34 h hF h0 rg hs hk hn hA hN hwk C hT
  | 35, _, _, hk => ac_nx h hF h0 hA hwk (act_35 h hF h0 rg hs hk hn) (by omega)
  | 36, _, _, hk => act_36 h hF h0 rg hs hk hn hA hN hwk C hT
  | 37, _, _, hk => by
    obtain ⟨a, a', _, _, a1, a2, b1, b2, rfl⟩ := hk
    obtain ⟨σ', τ', x⟩ := act_37 h hF h0 rg hs ⟨a1, a2⟩ ⟨b1, b2⟩ (hn _ List.mem_cons_self)
    exact ac_nx h hF h0 hA hwk (n' := n') (Z := [((kY F).1, a, a', (kY F).2.2.2.1, (kY F).2.2.2.2.1, (kY F).2.2.2.2.2)]) ⟨σ', τ', ((kY F).1, a, a', (kY F).2.2.2.1, (kY F).2.2.2.2.1, (kY F).2.2.2.2.2), List.mem_cons_self, x⟩ (by omega)
  | 38, _, _, hk => by
    obtain ⟨a, _, a1, a2, _, rfl⟩ := hk
    obtain ⟨σ', x0, x⟩ := act_38 h hF h0 rg hs ⟨a1, a2⟩ (hn _ List.mem_cons_self)
    exact ac_nx h hF h0 hA hwk (n' := n') (Z := [((kY F).1, a, (kY F).2.2.1, (kY F).2.2.2.1, (kY F).2.2.2.2.1, (kY F).2.2.2.2.2)]) ⟨σ', τ, ((kY F).1, a, (kY F).2.2.1, (kY F).2.2.2.1, (kY F).2.2.2.2.1, (kY F).2.2.2.2.2), List.mem_cons_self, x0, fun _ => rfl, x⟩ (by omega)
  | 39, _, _, hk => ac_nx h hF h0 hA hwk (act_39 h hF h0 rg hs hk hn) (by omega)
  | 40, _, _, hk => ac_nx h hF h0 hA hwk (act_40 h hF h0 rg hs hk hn) (by omega)
  | 41, _, _, hk => ac_nx h hF h0 hA hwk (act_41 h hF h0 rg hs hk hn) (by omega)
  | 42, _, _, hk => ac_ny h hF h0 hA hwk (act_42 h hF h0 rg hs hk hn) (by omega)
  | 43, _, _, hk => ac_ny h hF h0 hA hwk (act_43 h hF h0 rg hs hk hn) (by omega)
  | 44, _, _, hk => ac_ny h hF h0 hA hwk (act_44 h hF h0 rg hs hk hn) (by omega)
  | 45, _, _, hk => ac_nx h hF h0 hA hwk (act_45 h hF h0 rg hs hk hn) (by omega)
  | 46, _, _, hk => ac_oa h hF h0 hA hwk (act_46 h hF h0 rg hs hk hn) (by omega)
  | 47, _, _, hk => ac_ny h hF h0 hA hwk (act_47 h hF h0 rg hs hk hn) (by omega)
  | 48, _, _, hk => ac_nx h hF h0 hA hwk (act_48 h hF h0 rg hs hk hn) (by omega)
  | 49, _, _, hk => ac_nx h hF h0 hA hwk (act_49 h hF h0 rg hs hk hn) (by omega)
  | 50, _, _, hk => ac_nx h hF h0 hA hwk (act_50 h hF h0 rg hs hk hn) (by omega)
  | 51, _, _, hk => act_51 h hF h0 rg hs hk hn hA hN hwk C hT
  | 52, _, _, hk => ac_nx h hF h0 hA hwk (act_52 h hF h0 rg hs hk hn) (by omega)
  | 53, _, _, hk => ac_oa h hF h0 hA hwk (act_53 h hF h0 rg hs hk hn) (by omega)
  | 54, _, h, _ => absurd rfl h
  | _ + 55, _, _, hk => hk.elim
