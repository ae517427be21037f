/-! values of both machines -/
/-- a number of an object or a string -/
abbrev i64 (n : Nat) : Int64 := (Int32.ofNat n).toInt64
theorem i64_int {n : Nat} (h : n < 2147483648) : (i64 n).toInt = (n : Int) := by
  unfold i64
  rw [Int32.toInt_toInt64, lz_lit h]
theorem lg_ext {x y : Int64} (h : x.toInt = y.toInt) : x = y := Int64.toInt_inj.1 h
theorem i64_inj {n m : Nat} (hn : n < 2147483648) (hm : m < 2147483648) (h : i64 n = i64 m) : n = m := by
  have := congrArg Int64.toInt h
  rw [i64_int hn, i64_int hm] at this
  omega
theorem i64_32 (n : Nat) : (i64 n).toInt32 = Int32.ofNat n := Int32.toInt32_toInt64 _
/-- what is built in, as the component keeps it -/
abbrev bn (n : Nat) : Int64 := -1 - i64 n
theorem bn_int {n : Nat} (h : n < 2147483648) : (bn n).toInt = -1 - (n : Int) := by
  unfold bn
  rw [Int64.toInt_sub, i64_int h, lz_m1L, Int.bmod_eq_of_le] <;> omega
theorem bn_inj {n m : Nat} (hn : n < 2147483648) (hm : m < 2147483648) (h : bn n = bn m) : n = m := by
  have := congrArg Int64.toInt h
  rw [bn_int hn, bn_int hm] at this
  omega
theorem bn_ne {n m : Nat} (hn : n < 2147483648) (hm : m < 2147483648) : bn n ≠ i64 m := fun h => by
  have := congrArg Int64.toInt h
  rw [bn_int hn, i64_int hm] at this
  omega
theorem bn_32 {n : Nat} (h : n < 2147483648) : (-1 - bn n).toInt32 = Int32.ofNat n := by
  have e : (-1 : Int64) - bn n = i64 n := lg_ext (by rw [Int64.toInt_sub, bn_int h, lz_m1L, i64_int h, Int.bmod_eq_of_le] <;> omega)
  rw [e, i64_32]
theorem bn_neg {n : Nat} (h : n < 2147483648) : bn n < 0 := by
  rw [Int64.lt_iff_toInt_lt, bn_int h]
  show _ < (0 : Int)
  omega
theorem i64_nneg {n : Nat} (h : n < 2147483648) : ¬ (i64 n < 0) := by
  rw [Int64.lt_iff_toInt_lt, i64_int h]
  show ¬ (_ < (0 : Int))
  omega
/-- kind and number -/
abbrev vT : Type := Int32 × Int64
/-- an object that is there, of a kind -/
def obA (σ τ : lj_S) (o : Nat) (k : Int32) : Prop := 1 ≤ o ∧ o ≤ 2000 ∧ (o : Int) ≤ lv σ 7 0 ∧ σ.1 57 o = k ∧ τ.1 38 o = k
/-- the same value -/
def vR (σ τ : lj_S) (a b : vT) : Prop :=
  (a = (0, 0) ∧ b = (0, 0)) ∨ ((a.1 = 1 ∧ (a.2 = 0 ∨ a.2 = 1) ∨ a.1 = 2) ∧ b = a) ∨
  (∃ s s' : Nat, s < 2600 ∧ s' < 3000 ∧ a = (3, i64 s) ∧ b = (3, i64 s') ∧ sE σ τ s s') ∨
  (∃ (o : Nat) (k : Int32), (k = 4 ∨ k = 5 ∨ k = 6) ∧ a = (k, i64 o) ∧ b = a ∧ (k = 6 ∧ o = 0 ∨ obA σ τ o k)) ∨
  ∃ n : Nat, n < 32 ∧ a = (5, bn n) ∧ b = (7, i64 n)
theorem vR_nil (σ τ : lj_S) : vR σ τ (0, 0) (0, 0) := Or.inl ⟨rfl, rfl⟩
theorem vR_whole (σ τ : lj_S) (x : Int64) : vR σ τ (2, x) (2, x) := Or.inr (Or.inl ⟨Or.inr rfl, rfl⟩)
theorem vR_truth (σ τ : lj_S) {x : Int64} (h : x = 0 ∨ x = 1) : vR σ τ (1, x) (1, x) := Or.inr (Or.inl ⟨Or.inl ⟨rfl, h⟩, rfl⟩)
theorem vR_str {σ τ : lj_S} {s s' : Nat} (h : sE σ τ s s') (h1 : s < 2600) (h2 : s' < 3000) : vR σ τ (3, i64 s) (3, i64 s') := Or.inr (Or.inr (Or.inl ⟨s, s', h1, h2, rfl, rfl, h⟩))
theorem vR_ob {σ τ : lj_S} {o : Nat} {k : Int32} (hk : k = 4 ∨ k = 5 ∨ k = 6) (h : obA σ τ o k) : vR σ τ (k, i64 o) (k, i64 o) := Or.inr (Or.inr (Or.inr (Or.inl ⟨o, k, hk, rfl, rfl, Or.inr h⟩)))
theorem vR_bn {σ τ : lj_S} {n : Nat} (h : n < 32) : vR σ τ (5, bn n) (7, i64 n) := Or.inr (Or.inr (Or.inr (Or.inr ⟨n, h, rfl, rfl⟩)))
/-- kinds of both -/
theorem vR.k {σ τ : lj_S} {a b : vT} (h : vR σ τ a b) : (b.1 = a.1 ∨ a.1 = 5 ∧ b.1 = 7) ∧ (a.1 = 0 ∨ a.1 = 1 ∨ a.1 = 2 ∨ a.1 = 3 ∨ a.1 = 4 ∨ a.1 = 5 ∨ a.1 = 6) := by
  rcases h with ⟨h, g⟩ | ⟨h, g⟩ | ⟨s, s', _, _, h, g, _⟩ | ⟨o, k, hk, h, g, _⟩ | ⟨n, _, h, g⟩
  · rw [h, g]; exact ⟨Or.inl rfl, Or.inl rfl⟩
  · rw [g]
    refine ⟨Or.inl rfl, ?_⟩
    rcases h with h | h
    · exact Or.inr (Or.inl h.1)
    · exact Or.inr (Or.inr (Or.inl h))
  · rw [h, g]; exact ⟨Or.inl rfl, Or.inr (Or.inr (Or.inr (Or.inl rfl)))⟩
  · rw [g, h]
    refine ⟨Or.inl rfl, ?_⟩
    rcases hk with e | e | e <;> rw [e] <;> dsimp only <;> decide
  · rw [h, g]; exact ⟨Or.inr ⟨rfl, rfl⟩, by dsimp only; decide⟩
theorem vR.k0 {σ τ : lj_S} {a b : vT} (h : vR σ τ a b) : a.1 = 0 ↔ b.1 = 0 := by
  rcases h.k.1 with e | ⟨e1, e2⟩
  · rw [e]
  · rw [e1, e2]; decide
/-- kinds but functions are the same -/
theorem vR.kk {σ τ : lj_S} {a b : vT} (h : vR σ τ a b) {k : Int32} (hk : k ≠ 5) (hk' : k ≠ 7) : a.1 = k ↔ b.1 = k := by
  rcases h.k.1 with e | ⟨e1, e2⟩
  · rw [e]
  · rw [e1, e2]
    exact ⟨fun w => absurd w.symm hk, fun w => absurd w.symm hk'⟩
theorem vR.kf {σ τ : lj_S} {a b : vT} (h : vR σ τ a b) : a.1 = 5 ↔ (b.1 = 5 ∨ b.1 = 7) := by
  rcases h.k with ⟨e | ⟨e1, e2⟩, g⟩
  · rw [e]
    refine ⟨Or.inl, fun w => ?_⟩
    rcases w with w | w
    · exact w
    · rw [w] at g; exact absurd g (by decide)
  · rw [e1, e2]; exact ⟨fun _ => Or.inr rfl, fun _ => rfl⟩
theorem vR.nil {σ τ : lj_S} {a b : vT} (h : vR σ τ a b) (h0 : a.1 = 0) : a = (0, 0) ∧ b = (0, 0) := by
  rcases h with h | ⟨h, g⟩ | ⟨s, s', _, _, h, g, _⟩ | ⟨o, k, hk, h, g, _⟩ | ⟨n, _, h, g⟩
  · exact h
  · rw [h0] at h; exact absurd h (by rintro (⟨w, _⟩ | w) <;> exact absurd w (by decide))
  · rw [h] at h0; dsimp only at h0; exact absurd h0 (by decide)
  · rw [h] at h0
    have h0 : k = 0 := h0
    rw [h0] at hk; exact absurd hk (by decide)
  · rw [h] at h0; dsimp only at h0; exact absurd h0 (by decide)
theorem vR.wh {σ τ : lj_S} {a b : vT} (h : vR σ τ a b) (h0 : a.1 = 2) : b = a := by
  rcases h with ⟨h, g⟩ | ⟨h, g⟩ | ⟨s, s', _, _, h, g, _⟩ | ⟨o, k, hk, h, g, _⟩ | ⟨n, _, h, g⟩
  · rw [h] at h0; dsimp only at h0; exact absurd h0 (by decide)
  · exact g
  · rw [h] at h0; dsimp only at h0; exact absurd h0 (by decide)
  · exact g
  · rw [h] at h0; dsimp only at h0; exact absurd h0 (by decide)
theorem vR.tr {σ τ : lj_S} {a b : vT} (h : vR σ τ a b) (h0 : a.1 = 1) : b = a ∧ (a.2 = 0 ∨ a.2 = 1) := by
  rcases h with ⟨h, g⟩ | ⟨h, g⟩ | ⟨s, s', _, _, h, g, _⟩ | ⟨o, k, hk, h, g, _⟩ | ⟨n, _, h, g⟩
  · rw [h] at h0; dsimp only at h0; exact absurd h0 (by decide)
  · refine ⟨g, ?_⟩
    rcases h with h | h
    · exact h.2
    · rw [h] at h0; exact absurd h0 (by decide)
  · rw [h] at h0; dsimp only at h0; exact absurd h0 (by decide)
  · rw [h] at h0
    have h0 : k = 1 := h0
    rw [h0] at hk; exact absurd hk (by decide)
  · rw [h] at h0; dsimp only at h0; exact absurd h0 (by decide)
theorem vR.st {σ τ : lj_S} {a b : vT} (h : vR σ τ a b) (h0 : a.1 = 3) : ∃ s s' : Nat, s < 2600 ∧ s' < 3000 ∧ a = (3, i64 s) ∧ b = (3, i64 s') ∧ sE σ τ s s' := by
  rcases h with ⟨h, g⟩ | ⟨h, g⟩ | h | ⟨o, k, hk, h, g, _⟩ | ⟨n, _, h, g⟩
  · rw [h] at h0; dsimp only at h0; exact absurd h0 (by decide)
  · rw [h0] at h; exact absurd h (by rintro (⟨w, _⟩ | w) <;> exact absurd w (by decide))
  · exact h
  · rw [h] at h0
    have h0 : k = 3 := h0
    rw [h0] at hk; exact absurd hk (by decide)
  · rw [h] at h0; dsimp only at h0; exact absurd h0 (by decide)
theorem vR.tb {σ τ : lj_S} {a b : vT} (h : vR σ τ a b) (h0 : a.1 = 4) : ∃ o : Nat, a = (4, i64 o) ∧ b = (4, i64 o) ∧ obA σ τ o 4 := by
  rcases h with ⟨h, g⟩ | ⟨h, g⟩ | ⟨s, s', _, _, h, g, _⟩ | ⟨o, k, hk, h, g, w⟩ | ⟨n, _, h, g⟩
  · rw [h] at h0; dsimp only at h0; exact absurd h0 (by decide)
  · rw [h0] at h; exact absurd h (by rintro (⟨w, _⟩ | w) <;> exact absurd w (by decide))
  · rw [h] at h0; dsimp only at h0; exact absurd h0 (by decide)
  · have e : k = 4 := by rw [h] at h0; exact h0
    subst e
    refine ⟨o, h, by rw [g, h], ?_⟩
    rcases w with w | w
    · exact absurd w.1 (by decide)
    · exact w
  · rw [h] at h0; dsimp only at h0; exact absurd h0 (by decide)
theorem vR.fn {σ τ : lj_S} {a b : vT} (h : vR σ τ a b) (h0 : a.1 = 5) : (∃ o : Nat, a = (5, i64 o) ∧ b = (5, i64 o) ∧ obA σ τ o 5) ∨ ∃ n : Nat, n < 32 ∧ a = (5, bn n) ∧ b = (7, i64 n) := by
  rcases h with ⟨h, g⟩ | ⟨h, g⟩ | ⟨s, s', _, _, h, g, _⟩ | ⟨o, k, hk, h, g, w⟩ | h
  · rw [h] at h0; dsimp only at h0; exact absurd h0 (by decide)
  · rw [h0] at h; exact absurd h (by rintro (⟨w, _⟩ | w) <;> exact absurd w (by decide))
  · rw [h] at h0; dsimp only at h0; exact absurd h0 (by decide)
  · have e : k = 5 := by rw [h] at h0; exact h0
    subst e
    refine Or.inl ⟨o, h, by rw [g, h], ?_⟩
    rcases w with w | w
    · exact absurd w.1 (by decide)
    · exact w
  · exact Or.inr h
theorem vR.pt {σ τ : lj_S} {a b : vT} (h : vR σ τ a b) (h0 : a.1 = 6) : ∃ o : Nat, a = (6, i64 o) ∧ b = (6, i64 o) ∧ (o = 0 ∨ obA σ τ o 6) := by
  rcases h with ⟨h, g⟩ | ⟨h, g⟩ | ⟨s, s', _, _, h, g, _⟩ | ⟨o, k, hk, h, g, w⟩ | ⟨n, _, h, g⟩
  · rw [h] at h0; dsimp only at h0; exact absurd h0 (by decide)
  · rw [h0] at h; exact absurd h (by rintro (⟨w, _⟩ | w) <;> exact absurd w (by decide))
  · rw [h] at h0; dsimp only at h0; exact absurd h0 (by decide)
  · have e : k = 6 := by rw [h] at h0; exact h0
    subst e
    refine ⟨o, h, by rw [g, h], ?_⟩
    rcases w with w | w
    · exact Or.inl w.2
    · exact Or.inr w
  · rw [h] at h0; dsimp only at h0; exact absurd h0 (by decide)
/-- strings of both are one to one -/
theorem sE_fn {σ τ : lj_S} {X : List Int32 → Prop} (h : sR σ τ X) {s a b : Nat} (h1 : sE σ τ s a) (h2 : sE σ τ s b) : a = b := h.2.1.2.2.2.2.1 a b h1.2.1 h2.2.1 (by rw [← h1.2.2, ← h2.2.2])
theorem sE_in {σ τ : lj_S} {X : List Int32 → Prop} (h : sR σ τ X) {s a b : Nat} (h1 : sE σ τ a s) (h2 : sE σ τ b s) : a = b := h.1.2.2.2.2.1 a b h1.1 h2.1 (by rw [h1.2.2, h2.2.2])
/-- values of both are one to one -/
theorem vR_fn {σ τ : lj_S} {X : List Int32 → Prop} (hs : sR σ τ X) {a b b' : vT} (h : vR σ τ a b) (h' : vR σ τ a b') : b = b' := by
  rcases h.k.2 with k | k | k | k | k | k | k
  · rw [(h.nil k).2, (h'.nil k).2]
  · rw [(h.tr k).1, (h'.tr k).1]
  · rw [h.wh k, h'.wh k]
  · obtain ⟨s, s1, u1, u2, e1, e2, e3⟩ := h.st k
    obtain ⟨t, t1, w1, w2, g1, g2, g3⟩ := h'.st k
    rw [e1] at g1
    have e : s = t := i64_inj (by omega) (by omega) (congrArg Prod.snd g1)
    subst e
    rw [e2, g2, sE_fn hs e3 g3]
  · obtain ⟨o, e1, e2, _⟩ := h.tb k
    obtain ⟨o', g1, g2, _⟩ := h'.tb k
    rw [e2, g2, ← e1, g1]
  · rcases h.fn k with ⟨o, e1, e2, e3⟩ | ⟨n, e3, e1, e2⟩
    · rcases h'.fn k with ⟨o', g1, g2, _⟩ | ⟨n', g3, g1, g2⟩
      · rw [e2, g2, ← e1, g1]
      · rw [e1] at g1
        exact absurd (congrArg Prod.snd g1).symm (bn_ne (by omega) (by have := e3.2.1; omega))
    · rcases h'.fn k with ⟨o', g1, g2, g3⟩ | ⟨n', g3, g1, g2⟩
      · rw [e1] at g1
        exact absurd (congrArg Prod.snd g1) (bn_ne (by omega) (by have := g3.2.1; omega))
      · rw [e1] at g1
        have e0 : bn n = bn n' := (Prod.mk.inj g1).2
        have e : n = n' := bn_inj (by omega) (by omega) e0
        rw [e2, g2, e]
  · obtain ⟨o, e1, e2, _⟩ := h.pt k
    obtain ⟨o', g1, g2, _⟩ := h'.pt k
    rw [e2, g2, ← e1, g1]
theorem vR_in {σ τ : lj_S} {X : List Int32 → Prop} (hs : sR σ τ X) {a a' b : vT} (h : vR σ τ a b) (h' : vR σ τ a' b) : a = a' := by
  rcases h.k.2 with k | k | k | k | k | k | k
  · rw [(h.nil k).1, (h'.nil (h'.k0.2 (h.k0.1 k))).1]
  · have k' : a'.1 = 1 := (h'.kk (by decide) (by decide)).2 ((h.kk (by decide) (by decide)).1 k)
    rw [← (h.tr k).1, ← (h'.tr k').1]
  · have k' : a'.1 = 2 := (h'.kk (by decide) (by decide)).2 ((h.kk (by decide) (by decide)).1 k)
    rw [← h.wh k, ← h'.wh k']
  · have k' : a'.1 = 3 := (h'.kk (by decide) (by decide)).2 ((h.kk (by decide) (by decide)).1 k)
    obtain ⟨s, s1, u1, u2, e1, e2, e3⟩ := h.st k
    obtain ⟨t, t1, w1, w2, g1, g2, g3⟩ := h'.st k'
    rw [e2] at g2
    have e : s1 = t1 := i64_inj (by omega) (by omega) (congrArg Prod.snd g2)
    subst e
    rw [e1, g1, sE_in hs e3 g3]
  · have k' : a'.1 = 4 := (h'.kk (by decide) (by decide)).2 ((h.kk (by decide) (by decide)).1 k)
    obtain ⟨o, e1, e2, _⟩ := h.tb k
    obtain ⟨o', g1, g2, _⟩ := h'.tb k'
    rw [e1, g1, ← e2, g2]
  · rcases h.fn k with ⟨o, e1, e2, e3⟩ | ⟨n, e3, e1, e2⟩
    · have k' : a'.1 = 5 := h'.kf.2 (Or.inl (by rw [e2]))
      rcases h'.fn k' with ⟨o', g1, g2, _⟩ | ⟨n', g3, g1, g2⟩
      · rw [e1, g1, ← e2, g2]
      · rw [e2] at g2
        exact absurd (congrArg Prod.fst g2) (show ¬ ((5 : Int32) = 7) by decide)
    · have k' : a'.1 = 5 := h'.kf.2 (Or.inr (by rw [e2]))
      rcases h'.fn k' with ⟨o', g1, g2, _⟩ | ⟨n', g3, g1, g2⟩
      · rw [e2] at g2
        exact absurd (congrArg Prod.fst g2) (show ¬ ((7 : Int32) = 5) by decide)
      · rw [e2] at g2
        have e : n = n' := i64_inj (by omega) (by omega) (congrArg Prod.snd g2)
        rw [e1, g1, e]
  · have k' : a'.1 = 6 := (h'.kk (by decide) (by decide)).2 ((h.kk (by decide) (by decide)).1 k)
    obtain ⟨o, e1, e2, _⟩ := h.pt k
    obtain ⟨o', g1, g2, _⟩ := h'.pt k'
    rw [e1, g1, ← e2, g2]
/-- objects that were there are there still -/
def oG (σ τ σ' τ' : lj_S) : Prop := lv σ 7 0 ≤ lv σ' 7 0 ∧ ∀ o : Nat, 1 ≤ o → o ≤ 2000 → (o : Int) ≤ lv σ 7 0 → σ'.1 57 o = σ.1 57 o ∧ τ'.1 38 o = τ.1 38 o
theorem oG_rf (σ τ : lj_S) : oG σ τ σ τ := ⟨Int.le_refl _, fun _ _ _ _ => ⟨rfl, rfl⟩⟩
theorem oG.tr {σ τ σ1 τ1 σ2 τ2 : lj_S} (h : oG σ τ σ1 τ1) (g : oG σ1 τ1 σ2 τ2) : oG σ τ σ2 τ2 := ⟨Int.le_trans h.1 g.1, fun o a b c => by
  have h2 := h.2 o a b c
  have g2 := g.2 o a b (Int.le_trans c h.1)
  exact ⟨g2.1.trans h2.1, g2.2.trans h2.2⟩⟩
theorem obA.up {σ τ σ' τ' : lj_S} {o : Nat} {k : Int32} (h : obA σ τ o k) (g : oG σ τ σ' τ') : obA σ' τ' o k := by
  obtain ⟨h1, h2, h3, h4, h5⟩ := h
  have := g.2 o h1 h2 h3
  exact ⟨h1, h2, Int.le_trans h3 g.1, by rw [this.1]; exact h4, by rw [this.2]; exact h5⟩
theorem vR.up {σ τ σ' τ' : lj_S} {a b : vT} (h : vR σ τ a b) (g : sG σ τ σ' τ') (o : oG σ τ σ' τ') : vR σ' τ' a b := by
  rcases h with h | h | ⟨s, s', u1, u2, h, e, w⟩ | ⟨x, k, hk, h, e, w⟩ | h
  · exact Or.inl h
  · exact Or.inr (Or.inl h)
  · exact Or.inr (Or.inr (Or.inl ⟨s, s', u1, u2, h, e, w.up g⟩))
  · refine Or.inr (Or.inr (Or.inr (Or.inl ⟨x, k, hk, h, e, ?_⟩)))
    rcases w with w | w
    · exact Or.inl w
    · exact Or.inr (w.up o)
  · exact Or.inr (Or.inr (Or.inr (Or.inr h)))
/-- places of the strings, of objects' kinds -/
def vqC (k j : Nat) : Bool := (k == 3 && (j == 7)) || k == 9 || k == 10 || k == 11 || k == 57 || (k == 7 && j == 0)
def vqM (k j : Nat) : Bool := (k == 0 && (j == 14)) || k == 2 || k == 3 || k == 4 || k == 38
theorem sG_eq {σ τ σ' τ' : lj_S} (hC : ∀ k j, vqC k j = true → σ'.1 k j = σ.1 k j) (hM : ∀ k j, vqM k j = true → τ'.1 k j = τ.1 k j) : sG σ τ σ' τ' := by
  have e1 : lv σ' 3 7 = lv σ 3 7 := by unfold lv; rw [hC 3 7 rfl]
  have e2 : lv τ' 0 14 = lv τ 0 14 := by unfold lv; rw [hM 0 14 rfl]
  exact ⟨by omega, by omega, fun t _ => cS_cong (fun j => hC 9 j rfl) (fun j => hC 10 j rfl) (fun j => hC 11 j rfl) t, fun t _ => mS_cong (fun j => hM 2 j rfl) (fun j => hM 3 j rfl) (fun j => hM 4 j rfl) t⟩
theorem oG_eq {σ τ σ' τ' : lj_S} (hC : ∀ k j, vqC k j = true → σ'.1 k j = σ.1 k j) (hM : ∀ k j, vqM k j = true → τ'.1 k j = τ.1 k j) : oG σ τ σ' τ' := by
  have e1 : lv σ' 7 0 = lv σ 7 0 := by unfold lv; rw [hC 7 0 rfl]
  exact ⟨by omega, fun o _ _ _ => ⟨hC 57 o rfl, hM 38 o rfl⟩⟩
theorem vR.cg {σ τ σ' τ' : lj_S} {a b : vT} (h : vR σ τ a b) (hC : ∀ k j, vqC k j = true → σ'.1 k j = σ.1 k j) (hM : ∀ k j, vqM k j = true → τ'.1 k j = τ.1 k j) : vR σ' τ' a b := h.up (sG_eq hC hM) (oG_eq hC hM)
