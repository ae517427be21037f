/-! the tokens as both parsers see them -/
/-- the model's kind and value of a token of a kind of the component -/
def tkk (k : Nat) : Int32 := if k = 0 then 6 else if k < 4 then Int32.ofNat k else if k = 4 then 7 else if k < 40 then 4 else 5
def tkw (k : Nat) : Int64 := if k < 40 then Int64.ofNat (k - 9) else lsgn.getD (k - 40) 0
def tkI (k : Nat) : Prop := k < 5 ∨ (10 ≤ k ∧ k < 31) ∨ (40 ≤ k ∧ k < 70)
/-- kind, place, name (of both) of token p -/
abbrev tkQ : Type := Nat → Nat × Nat × Nat × Nat
/-- token p of both is what Q says -/
def tkA (b : Nat → Int32) (n : Nat) (Q : tkQ) (σ τ : lj_S) (p : Nat) : Prop :=
  tkI (Q p).1 ∧ σ.1 18 p = Int32.ofNat (Q p).1 ∧ τ.1 9 p = tkk (Q p).1 ∧ (10 ≤ (Q p).1 → τ.2 11 p = tkw (Q p).1) ∧ (Q p).2.1 ≤ n ∧ σ.1 19 p = Int32.ofNat (Q p).2.1 ∧ τ.1 10 p = Int32.ofNat (Q p).2.1 ∧ σ.1 20 p = Int32.ofNat (1 + tN b (Q p).2.1) ∧
  ((Q p).1 = 1 ∨ (Q p).1 = 3 → (Q p).2.2.1 < 2600 ∧ (Q p).2.2.2 < 3000 ∧ σ.2 21 p = (Int32.ofNat (Q p).2.2.1).toInt64 ∧ τ.2 11 p = (Int32.ofNat (Q p).2.2.2).toInt64 ∧ sE σ τ (Q p).2.2.1 (Q p).2.2.2) ∧ ((Q p).1 = 2 → σ.2 21 p = τ.2 11 p)
/-- the name 'self' of the component, if it has one; room for it in the model -/
def slfD : List Int32 := [115, 101, 108, 102]
def slC (σ : lj_S) : Prop := (∃ s : Nat, σ.1 0 8 = Int32.ofNat s ∧ s < 2600 ∧ (s : Int) < lv σ 3 7 ∧ cS σ s = slfD) ∨ (σ.1 0 8 = Int32.ofNat 4294967294 ∧ ∀ s : Nat, (s : Int) < lv σ 3 7 → cS σ s ≠ slfD)
def slM (τ : lj_S) : Prop := (lv τ 0 14 + 2 < 3000 ∧ lv τ 0 8 + 8 ≤ 40000) ∨ ((∃ s : Nat, (s : Int) < lv τ 0 14 ∧ mS τ s = slfD) ∧ lv τ 0 14 < 3000 ∧ lv τ 0 8 + 4 ≤ 40000)
def slf (σ τ : lj_S) : Prop := slC σ ∧ slM τ
theorem slC_cg {σ σ' : lj_S} (h : slC σ) (e8 : σ'.1 0 8 = σ.1 0 8) (e7 : σ'.1 3 7 = σ.1 3 7) (h9 : ∀ j, σ'.1 9 j = σ.1 9 j) (h10 : ∀ j, σ'.1 10 j = σ.1 10 j) (h11 : ∀ j, σ'.1 11 j = σ.1 11 j) : slC σ' := by
  have cs : ∀ t, cS σ' t = cS σ t := cS_cong h9 h10 h11
  have l7 : lv σ' 3 7 = lv σ 3 7 := by unfold lv; rw [e7]
  rcases h with ⟨s, a1, a2, a3, a4⟩ | ⟨a1, a2⟩
  · exact Or.inl ⟨s, by rw [e8]; exact a1, a2, by rw [l7]; exact a3, by rw [cs]; exact a4⟩
  · exact Or.inr ⟨by rw [e8]; exact a1, fun s hs => by rw [l7] at hs; rw [cs]; exact a2 s hs⟩
theorem slM_cg {τ τ' : lj_S} (h : slM τ) (e14 : τ'.1 0 14 = τ.1 0 14) (e8 : τ'.1 0 8 = τ.1 0 8) (h2 : ∀ j, τ'.1 2 j = τ.1 2 j) (h3 : ∀ j, τ'.1 3 j = τ.1 3 j) (h4 : ∀ j, τ'.1 4 j = τ.1 4 j) : slM τ' := by
  have ms : ∀ t, mS τ' t = mS τ t := mS_cong h2 h3 h4
  have l14 : lv τ' 0 14 = lv τ 0 14 := by unfold lv; rw [e14]
  have l8 : lv τ' 0 8 = lv τ 0 8 := by unfold lv; rw [e8]
  rcases h with h | ⟨⟨s, a1, a2⟩, a3, a4⟩
  · exact Or.inl ⟨by rw [l14]; exact h.1, by rw [l8]; exact h.2⟩
  · exact Or.inr ⟨⟨s, by rw [l14]; exact a1, by rw [ms]; exact a2⟩, by rw [l14]; exact a3, by rw [l8]; exact a4⟩
/-- all tokens, T the last one -/
def TE (b : Nat → Int32) (n T : Nat) (Q : tkQ) (σ τ : lj_S) : Prop := tB b n ∧ n ≤ 520 ∧ T ≤ n ∧ tM τ b n ∧ (∀ p, p ≤ T → tkA b n Q σ τ p) ∧ (∀ p, p < T → (Q p).1 ≠ 0 ∧ (Q p).1 ≠ 4) ∧ ((Q T).1 = 0 ∨ (Q T).1 = 4) ∧ slf σ τ
theorem tkk_w : ∀ w : Fin 21, tkk (10 + w.val) = 4 ∧ tkw (10 + w.val) = Int64.ofNat (w.val + 1) := by decide
theorem tkk_s : ∀ w : Fin 30, tkk (40 + w.val) = 5 ∧ lsgn[w.val]? = some (tkw (40 + w.val)) := by decide
/-- what reading leaves is such a row of tokens -/
theorem TE_of {b : Nat → Int32} {n T : Nat} {σ τ : lj_S} (hb : tB b n) (h14 : n ≤ 520) (hT : T ≤ n) (hM : tM τ b n) (hJ : ∀ j, j < T → tkJ b n σ τ j) (hE : tkE b n σ τ T) (hsf : slf σ τ) : ∃ Q, TE b n T Q σ τ := by
  have hn := hb.1
  have one : ∀ p, p ≤ T → ∃ q : Nat × Nat × Nat × Nat, tkA b n (fun _ => q) σ τ p ∧ (p < T → q.1 ≠ 0 ∧ q.1 ≠ 4) ∧ (p = T → q.1 = 0 ∨ q.1 = 4) := by
    intro p hp
    by_cases e : p = T
    · subst e
      obtain ⟨pl, a1, a2, a3, a4, a5⟩ := hE
      rcases a5 with ⟨c, d⟩ | ⟨c, d⟩
      · exact ⟨(0, pl, 0, 0), ⟨Or.inl (by simp), c, d, fun z => absurd z (by simp), a1, a2, a3, a4, fun z => absurd z (by simp), fun z => absurd z (by simp)⟩, fun z => by omega, fun _ => Or.inl rfl⟩
      · exact ⟨(4, pl, 0, 0), ⟨Or.inl (by simp), c, d, fun z => absurd z (by simp), a1, a2, a3, a4, fun z => absurd z (by simp), fun z => absurd z (by simp)⟩, fun z => by omega, fun _ => Or.inr rfl⟩
    · obtain ⟨pl, a1, a2, a3, a4, a5⟩ := hJ p (by omega)
      rcases a5 with ⟨w, b1, b2, b3, b4⟩ | ⟨w, b1, b2, b3, b4⟩ | ⟨b1, s, s', b2, b3, b4, b5, b6⟩ | ⟨b1, b2, b3⟩
      · refine ⟨(10 + w, pl, 0, 0), ⟨Or.inr (Or.inl ⟨by simp, by simp; omega⟩), b2, ?_, fun _ => ?_, by simp; omega, a2, a3, a4, fun z => absurd z (by simp; omega), fun z => absurd z (by simp; omega)⟩, fun _ => ⟨by simp, by simp; omega⟩, fun z => absurd z e⟩
        · rw [b3]; exact ((tkk_w ⟨w, b1⟩).1).symm
        · rw [b4]; exact ((tkk_w ⟨w, b1⟩).2).symm
      · refine ⟨(40 + w, pl, 0, 0), ⟨Or.inr (Or.inr ⟨by simp, by simp; omega⟩), b2, ?_, fun _ => ?_, by simp; omega, a2, a3, a4, fun z => absurd z (by simp; omega), fun z => absurd z (by simp; omega)⟩, fun _ => ⟨by simp, by simp; omega⟩, fun z => absurd z e⟩
        · rw [b3]; exact ((tkk_s ⟨w, b1⟩).1).symm
        · have := (tkk_s ⟨w, b1⟩).2
          rw [b4] at this; exact Option.some.inj this
      · rcases b1 with ⟨c1, c2⟩ | ⟨c1, c2⟩
        · exact ⟨(1, pl, s, s'), ⟨Or.inl (by simp), c1, c2, fun z => absurd z (by simp), by simp; omega, a2, a3, a4, fun _ => ⟨b2, b3, b4, b5, b6⟩, fun z => absurd z (by simp)⟩, fun _ => ⟨by simp, by simp⟩, fun z => absurd z e⟩
        · exact ⟨(3, pl, s, s'), ⟨Or.inl (by simp), c1, c2, fun z => absurd z (by simp), by simp; omega, a2, a3, a4, fun _ => ⟨b2, b3, b4, b5, b6⟩, fun z => absurd z (by simp)⟩, fun _ => ⟨by simp, by simp⟩, fun z => absurd z e⟩
      · exact ⟨(2, pl, 0, 0), ⟨Or.inl (by simp), b1, b2, fun z => absurd z (by simp), by simp; omega, a2, a3, a4, fun z => absurd z (by simp), fun _ => b3⟩, fun _ => ⟨by simp, by simp⟩, fun z => absurd z e⟩
  have ch : ∀ p, ∃ q : Nat × Nat × Nat × Nat, p ≤ T → tkA b n (fun _ => q) σ τ p ∧ (p < T → q.1 ≠ 0 ∧ q.1 ≠ 4) ∧ (p = T → q.1 = 0 ∨ q.1 = 4) := fun p => by
    by_cases h : p ≤ T
    · obtain ⟨q, hq⟩ := one p h
      exact ⟨q, fun _ => hq⟩
    · exact ⟨(0, 0, 0, 0), fun z => absurd z h⟩
  refine ⟨fun p => Classical.choose (ch p), hb, h14, hT, hM, fun p hp => ?_, fun p hp => ?_, ?_, hsf⟩
  · exact (Classical.choose_spec (ch p) hp).1
  · exact (Classical.choose_spec (ch p) (by omega)).2.1 hp
  · exact (Classical.choose_spec (ch T) (Nat.le_refl _)).2.2 rfl
/-- a fault of both -/
def cFl (σ : lj_S) (q : Int32) (p : Nat) : lj_S := lj_put (lj_put σ 1 6 q) 1 7 (Int32.ofNat p)
def mFl (τ : lj_S) (q : Int32) (p : Nat) : lj_S := lj_put (lj_put τ 0 4 q) 0 5 (Int32.ofNat p)
/-- the kind of fault at token k -/
def fq (k : Nat) (q : Int32) : Int32 := if k = 4 then 1 else q
theorem ofN_eq {a c : Nat} (ha : a < 2147483648) (hc : c < 2147483648) : (Int32.ofNat a = Int32.ofNat c) ↔ a = c := by
  rw [lz_eq, lz_lit ha, lz_lit hc]; omega
theorem tk_lt {b : Nat → Int32} {n T : Nat} {Q : tkQ} {σ τ : lj_S} (h : TE b n T Q σ τ) {p : Nat} (hp : p ≤ T) : (Q p).1 < 70 := by
  rcases (h.2.2.2.2.1 p hp).1 with z | z | z <;> omega
theorem c_kind {b : Nat → Int32} {n T : Nat} {Q : tkQ} {σ τ : lj_S} (h : TE b n T Q σ τ) {p : Nat} (hp : p ≤ T) (h0 : σ.1 6 0 = Int32.ofNat p) : lj_R lc_P 63 [.ref 6] σ = some (.inl (some (.int (Int32.ofNat (Q p).1))), σ) := by
  have hT := h.2.2.1
  have hn := h.2.1
  rw [rc_63, kc_63_0, h0, if_pos (lz_in.2 (by rw [lz_lit (by omega)]; omega)), lz_onat (by omega), (h.2.2.2.2.1 p hp).2.1]
theorem c_line {b : Nat → Int32} {n T : Nat} {Q : tkQ} {σ τ : lj_S} (h : TE b n T Q σ τ) {p : Nat} (hp : p ≤ T) (h0 : σ.1 6 0 = Int32.ofNat p) : lj_R lc_P 77 [.ref 6] σ = some (.inl (some (.int (Int32.ofNat (1 + tN b (Q p).2.1)))), σ) := by
  have hT := h.2.2.1
  have hn := h.2.1
  rw [rc_77, kc_77_0, h0, if_pos (lz_in.2 (by rw [lz_lit (by omega)]; omega)), lz_onat (by omega), (h.2.2.2.2.1 p hp).2.2.2.2.2.2.2.1]
theorem c_name {b : Nat → Int32} {n T : Nat} {Q : tkQ} {σ τ : lj_S} (h : TE b n T Q σ τ) {p : Nat} (hp : p ≤ T) (h0 : σ.1 6 0 = Int32.ofNat p) (hk : (Q p).1 = 1 ∨ (Q p).1 = 3) : lj_R lc_P 80 [.ref 6] σ = some (.inl (some (.int (Int32.ofNat (Q p).2.2.1))), σ) := by
  have hT := h.2.2.1
  have hn := h.2.1
  rw [rc_80, kc_80_0, h0, if_pos (lz_in.2 (by rw [lz_lit (by omega)]; omega)), lz_onat (by omega), ((h.2.2.2.2.1 p hp).2.2.2.2.2.2.2.2.1 hk).2.2.1, Int32.toInt32_toInt64]
theorem c_wrong {b : Nat → Int32} {n T : Nat} {Q : tkQ} {σ τ : lj_S} (h : TE b n T Q σ τ) {p : Nat} (hp : p ≤ T) (h0 : σ.1 6 0 = Int32.ofNat p) (x : Int32) : lj_R lc_P 65 [.ref 6, .int x] σ = some (.inl (some (.ref 1)), cFl σ (fq (Q p).1 x) (Q p).2.1) := by
  have hT := h.2.2.1
  have hn := h.2.1
  have hk := tk_lt h hp
  have k20 : ∀ y : Int32, lj_D lc_P lc_M65 20 [.ref 6, .int x] [.int y, .ref 1] σ = some (.inl (some (.ref 1)), cFl σ y (Q p).2.1) := fun y => by
    rw [kc_65_20, h0, if_pos (lz_in.2 (by rw [lz_lit (by omega)]; omega)), lz_onat (by omega), rc_19, kc_19_0, (h.2.2.2.2.1 p hp).2.2.2.2.2.1]
    rfl
  rw [rc_65, kc_65_0, c_kind h hp h0]
  unfold lj_bi fq
  simp only [k20]
  by_cases e : (Q p).1 = 4
  · rw [if_pos e, if_pos (by rw [e]; rfl)]
  · rw [if_neg e, if_neg (show ¬ (Int32.ofNat (Q p).1 = 4) from fun z => e ((ofN_eq (c := 4) (by omega) (by omega)).1 z))]
/-- a throw -/
theorem c_throw {b : Nat → Int32} {n T : Nat} {Q : tkQ} {σ τ : lj_S} (h : TE b n T Q σ τ) {p : Nat} (hp : p ≤ T) (h0 : σ.1 6 0 = Int32.ofNat p) (x : Int32) : lj_br (lj_R lc_P 65 [.ref 6, .int x] σ) (fun y2 σ1 => (bif Nat.blt y2 2000 then lj_up y2 σ1 else none)) lj_up = some (.inr 1, cFl σ (fq (Q p).1 x) (Q p).2.1) := by
  rw [c_wrong h hp h0]
  rfl
theorem c_step {b : Nat → Int32} {n T : Nat} {Q : tkQ} {σ τ : lj_S} (h : TE b n T Q σ τ) {p : Nat} (hp : p ≤ T) (h0 : σ.1 6 0 = Int32.ofNat p) : lj_R lc_P 67 [.ref 6] σ = some (.inl none, lj_put σ 6 0 (Int32.ofNat (p + 1))) := by
  have hT := h.2.2.1
  have hn := h.2.1
  rw [rc_67, kc_67_0, h0, if_neg (fun z => by have := (ofN_eq (c := 1500) (by omega) (by omega)).1 z; omega), lz_osucc]
theorem c_take {b : Nat → Int32} {n T : Nat} {Q : tkQ} {σ τ : lj_S} (h : TE b n T Q σ τ) {p : Nat} (hp : p ≤ T) (h0 : σ.1 6 0 = Int32.ofNat p) (k : Nat) (hk : k < 70) : lj_R lc_P 84 [.ref 6, .int (Int32.ofNat k)] σ = if (Q p).1 = k then some (.inl (some (.int 1)), lj_put σ 6 0 (Int32.ofNat (p + 1))) else some (.inl (some (.int 0)), σ) := by
  have hq := tk_lt h hp
  rw [rc_84, kc_84_0, c_kind h hp h0]
  unfold lj_bi
  simp only []
  rw [c_step h hp h0]
  by_cases e : (Q p).1 = k
  · rw [if_pos e, if_pos (by rw [e])]; rfl
  · rw [if_neg e, if_neg (fun z => e ((ofN_eq (by omega) (by omega)).1 z))]
theorem c_pass {b : Nat → Int32} {n T : Nat} {Q : tkQ} {σ τ : lj_S} (h : TE b n T Q σ τ) {p : Nat} (hp : p ≤ T) (h0 : σ.1 6 0 = Int32.ofNat p) (k : Nat) (hk : k < 70) : lj_R lc_P 71 [.ref 6, .int (Int32.ofNat k)] σ = if (Q p).1 = k then some (.inl none, lj_put σ 6 0 (Int32.ofNat (p + 1))) else some (.inr 1, cFl σ (fq (Q p).1 2) (Q p).2.1) := by
  have hq := tk_lt h hp
  rw [rc_71, kc_71_0, c_kind h hp h0]
  unfold lj_bi
  simp only []
  rw [c_step h hp h0, c_throw h hp h0]
  by_cases e : (Q p).1 = k
  · rw [if_pos e, if_pos (by rw [e])]; rfl
  · rw [if_neg e, if_neg (fun z => e ((ofN_eq (by omega) (by omega)).1 z))]
theorem m_here {b : Nat → Int32} {n T : Nat} {Q : tkQ} {σ τ : lj_S} (h : TE b n T Q σ τ) {p : Nat} (hp : p ≤ T) (h0 : τ.1 0 25 = Int32.ofNat p) : lj_R lm_P 34 [.ref 0] τ = some (.inl (some (.int (Int32.ofNat (Q p).2.1))), τ) := by
  have hT := h.2.2.1
  have hn := h.2.1
  rw [rm_34, km_34_0, h0, if_pos (lz_in.2 (by rw [lz_lit (by omega)]; omega)), lz_onat (by omega), (h.2.2.2.2.1 p hp).2.2.2.2.2.2.1]
theorem m_lineHere {b : Nat → Int32} {n T : Nat} {Q : tkQ} {σ τ : lj_S} (h : TE b n T Q σ τ) {p : Nat} (hp : p ≤ T) (h0 : τ.1 0 25 = Int32.ofNat p) : lj_R lm_P 33 [.ref 0] τ = some (.inl (some (.int (Int32.ofNat (1 + tN b (Q p).2.1)))), τ) := by
  rw [rm_33, km_33_0, m_here h hp h0]
  unfold lj_bi
  simp only []
  rw [m_lineOf h.1 h.2.2.2.1 _ (h.2.2.2.2.1 p hp).2.2.2.2.1]
theorem m_fail (τ : lj_S) (h4 : τ.1 0 4 = 0) (q : Int32) (pl : Nat) : lj_R lm_P 37 [.ref 0, .int q, .int (Int32.ofNat pl)] τ = some (.inl (some (.int 0)), mFl τ q pl) := by
  rw [rm_37, km_37_0, if_pos h4, km_37_17]; rfl
theorem tkk_4 (k : Nat) (hk : k < 70) : (tkk k = 7) ↔ k = 4 := by
  have : ∀ k : Fin 70, (tkk k.val = 7) ↔ k.val = 4 := by decide
  exact this ⟨k, hk⟩
theorem m_wrong {b : Nat → Int32} {n T : Nat} {Q : tkQ} {σ τ : lj_S} (h : TE b n T Q σ τ) {p : Nat} (hp : p ≤ T) (h0 : τ.1 0 25 = Int32.ofNat p) (h4 : τ.1 0 4 = 0) : lj_R lm_P 47 [.ref 0] τ = some (.inl (some (.int 0)), mFl τ (fq (Q p).1 2) (Q p).2.1) := by
  have hT := h.2.2.1
  have hn := h.2.1
  have hk := tk_lt h hp
  have k20 : ∀ y : Int32, lj_D lm_P lm_M47 20 [.ref 0] [.int y, .ref 0] τ = some (.inl (some (.int 0)), mFl τ y (Q p).2.1) := fun y => by
    rw [km_47_20, m_here h hp h0]
    unfold lj_bi
    simp only []
    rw [m_fail τ h4]; rfl
  rw [rm_47, km_47_0, h0, if_pos (lz_in.2 (by rw [lz_lit (by omega)]; omega)), lz_onat (by omega), (h.2.2.2.2.1 p hp).2.2.1, k20, k20]
  unfold fq
  by_cases e : (Q p).1 = 4
  · rw [if_pos e, if_pos ((tkk_4 _ hk).2 e)]
  · rw [if_neg e, if_neg (fun z => e ((tkk_4 _ hk).1 z))]
theorem m_take {b : Nat → Int32} {n T : Nat} {Q : tkQ} {σ τ : lj_S} (h : TE b n T Q σ τ) {p : Nat} (hp : p ≤ T) (h0 : τ.1 0 25 = Int32.ofNat p) (hk4 : (Q p).1 ≠ 4) : lj_R lm_P 36 [.ref 0] τ = some (.inl (some (.int 1)), lj_put τ 0 25 (Int32.ofNat (p + 1))) := by
  have hT := h.2.2.1
  have hn := h.2.1
  have hk := tk_lt h hp
  rw [rm_36, km_36_0, h0, if_pos (lz_in.2 (by rw [lz_lit (by omega)]; omega)), lz_onat (by omega), (h.2.2.2.2.1 p hp).2.2.1, if_neg (fun z => hk4 ((tkk_4 _ hk).1 z)), if_neg (fun z => by have := (ofN_eq (c := 1500) (by omega) (by omega)).1 z; omega), lz_osucc]
theorem tkk_5 (k w : Nat) (hk : k < 70) (hw : w < 30) : (tkk k = 5 ∧ some (tkw k) = lsgn[w]?) ↔ k = 40 + w := by
  have : ∀ k : Fin 70, ∀ w : Fin 30, (tkk k.val = 5 ∧ some (tkw k.val) = lsgn[w.val]?) ↔ k.val = 40 + w.val := by decide +kernel
  exact this ⟨k, hk⟩ ⟨w, hw⟩
theorem tkk_w4 (k w : Nat) (hk : tkI k) (hw : w < 21) : (tkk k = 4 ∧ tkw k = Int64.ofNat (w + 1)) ↔ k = 10 + w := by
  have : ∀ k : Fin 70, ∀ w : Fin 21, (k.val < 5 ∨ (10 ≤ k.val ∧ k.val < 31) ∨ (40 ≤ k.val ∧ k.val < 70)) → ((tkk k.val = 4 ∧ tkw k.val = Int64.ofNat (w.val + 1)) ↔ k.val = 10 + w.val) := by decide +kernel
  exact this ⟨k, by rcases hk with z | z | z <;> omega⟩ ⟨w, hw⟩ hk
theorem m_isSign {b : Nat → Int32} {n T : Nat} {Q : tkQ} {σ τ : lj_S} (h : TE b n T Q σ τ) {p : Nat} (hp : p ≤ T) (h0 : τ.1 0 25 = Int32.ofNat p) (w : Nat) (hw : w < 30) (x : Int32) (hx : lsgn[w]? = some x.toInt64) : lj_R lm_P 39 [.ref 0, .int x] τ = some (.inl (some (.int (if (Q p).1 = 40 + w then 1 else 0))), τ) := by
  have hT := h.2.2.1
  have hn := h.2.1
  have hk := tk_lt h hp
  have hA := h.2.2.2.2.1 p hp
  have hin : lj_in (Int32.ofNat p) 1502 := lz_in.2 (by rw [lz_lit (by omega)]; omega)
  rw [rm_39, km_39_0, h0, if_pos hin, if_pos hin, lz_onat (by omega), hA.2.2.1, km_39_32, km_39_33, km_39_33, lif2]
  have e : (tkk (Q p).1 = 5 ∧ lg_cmp (τ.2 11 p) x.toInt64 = 0) ↔ (Q p).1 = 40 + w := by
    rw [← tkk_5 (Q p).1 w hk hw, lg_cmp_eq, hx, Option.some.injEq]
    constructor
    · rintro ⟨a, c⟩
      refine ⟨a, ?_⟩
      have : 10 ≤ (Q p).1 := by
        have : ∀ k : Fin 70, tkk k.val = 5 → 10 ≤ k.val := by decide
        exact this ⟨_, hk⟩ a
      rw [hA.2.2.2.1 this] at c; exact c
    · rintro ⟨a, c⟩
      refine ⟨a, ?_⟩
      have : 10 ≤ (Q p).1 := by
        have : ∀ k : Fin 70, tkk k.val = 5 → 10 ≤ k.val := by decide
        exact this ⟨_, hk⟩ a
      rw [hA.2.2.2.1 this]; exact c
  by_cases q : (Q p).1 = 40 + w
  · rw [if_pos (e.2 q), if_pos q]; rfl
  · rw [if_neg (fun z => q (e.1 z)), if_neg q]; rfl
theorem m_isWord {b : Nat → Int32} {n T : Nat} {Q : tkQ} {σ τ : lj_S} (h : TE b n T Q σ τ) {p : Nat} (hp : p ≤ T) (h0 : τ.1 0 25 = Int32.ofNat p) (w : Nat) (hw : w < 21) (x : Int32) (hx : Int64.ofNat (w + 1) = x.toInt64) : lj_R lm_P 32 [.ref 0, .int x] τ = some (.inl (some (.int (if (Q p).1 = 10 + w then 1 else 0))), τ) := by
  have hT := h.2.2.1
  have hn := h.2.1
  have hk := tk_lt h hp
  have hA := h.2.2.2.2.1 p hp
  have hin : lj_in (Int32.ofNat p) 1502 := lz_in.2 (by rw [lz_lit (by omega)]; omega)
  rw [rm_32, km_32_0, h0, if_pos hin, if_pos hin, lz_onat (by omega), hA.2.2.1, km_32_32, km_32_33, km_32_33, lif2]
  have e : (tkk (Q p).1 = 4 ∧ lg_cmp (τ.2 11 p) x.toInt64 = 0) ↔ (Q p).1 = 10 + w := by
    rw [← tkk_w4 (Q p).1 w hA.1 hw, lg_cmp_eq, hx]
    constructor
    · rintro ⟨a, c⟩
      refine ⟨a, ?_⟩
      have : 10 ≤ (Q p).1 := by
        have : ∀ k : Fin 70, (k.val < 5 ∨ (10 ≤ k.val ∧ k.val < 31) ∨ (40 ≤ k.val ∧ k.val < 70)) → tkk k.val = 4 → 10 ≤ k.val := by decide
        exact this ⟨_, hk⟩ hA.1 a
      rw [hA.2.2.2.1 this] at c; exact c
    · rintro ⟨a, c⟩
      refine ⟨a, ?_⟩
      have : 10 ≤ (Q p).1 := by
        have : ∀ k : Fin 70, (k.val < 5 ∨ (10 ≤ k.val ∧ k.val < 31) ∨ (40 ≤ k.val ∧ k.val < 70)) → tkk k.val = 4 → 10 ≤ k.val := by decide
        exact this ⟨_, hk⟩ hA.1 a
      rw [hA.2.2.2.1 this]; exact c
  by_cases q : (Q p).1 = 10 + w
  · rw [if_pos (e.2 q), if_pos q]; rfl
  · rw [if_neg (fun z => q (e.1 z)), if_neg q]; rfl
theorem m_needSign {b : Nat → Int32} {n T : Nat} {Q : tkQ} {σ τ : lj_S} (h : TE b n T Q σ τ) {p : Nat} (hp : p ≤ T) (h0 : τ.1 0 25 = Int32.ofNat p) (h4 : τ.1 0 4 = 0) (w : Nat) (hw : w < 30) (x : Int32) (hx : lsgn[w]? = some x.toInt64) : lj_R lm_P 74 [.ref 0, .int x] τ = if (Q p).1 = 40 + w then some (.inl (some (.int 1)), lj_put τ 0 25 (Int32.ofNat (p + 1))) else some (.inl (some (.int 0)), mFl τ (fq (Q p).1 2) (Q p).2.1) := by
  rw [rm_74, km_74_0, m_isSign h hp h0 w hw x hx]
  unfold lj_bi
  simp only []
  by_cases q : (Q p).1 = 40 + w
  · rw [if_pos q, if_neg (by decide), m_take h hp h0 (by omega), if_pos q]
    simp only []
    rw [km_74_19]; rfl
  · rw [if_neg q, if_pos rfl, m_wrong h hp h0 h4, if_neg q]
    simp only []
    rw [km_74_19]; rfl
theorem m_needWord {b : Nat → Int32} {n T : Nat} {Q : tkQ} {σ τ : lj_S} (h : TE b n T Q σ τ) {p : Nat} (hp : p ≤ T) (h0 : τ.1 0 25 = Int32.ofNat p) (h4 : τ.1 0 4 = 0) (w : Nat) (hw : w < 21) (x : Int32) (hx : Int64.ofNat (w + 1) = x.toInt64) : lj_R lm_P 49 [.ref 0, .int x] τ = if (Q p).1 = 10 + w then some (.inl (some (.int 1)), lj_put τ 0 25 (Int32.ofNat (p + 1))) else some (.inl (some (.int 0)), mFl τ (fq (Q p).1 2) (Q p).2.1) := by
  rw [rm_49, km_49_0, m_isWord h hp h0 w hw x hx]
  unfold lj_bi
  simp only []
  by_cases q : (Q p).1 = 10 + w
  · rw [if_pos q, if_neg (by decide), m_take h hp h0 (by omega), if_pos q]
    simp only []
    rw [km_49_19]; rfl
  · rw [if_neg q, if_pos rfl, m_wrong h hp h0 h4, if_neg q]
    simp only []
    rw [km_49_19]; rfl
