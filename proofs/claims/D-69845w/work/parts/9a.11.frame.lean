/-! frames of both machines -/
/-- a frame: sort (0 of the text, 1 pcall, 2 gathering), object, point, rank, what it waits for, where it starts, how many more were given -/
abbrev kF : Type := Nat × Nat × pT × Nat × Nat × Nat × Nat
abbrev kS (F : kF) : Nat := F.1
abbrev kO (F : kF) : Nat := F.2.1
abbrev kY (F : kF) : pT := F.2.2.1
abbrev kN (F : kF) : Nat := F.2.2.2.1
abbrev kW (F : kF) : Nat := F.2.2.2.2.1
abbrev kC (F : kF) : Nat := F.2.2.2.2.2.1
abbrev kD (F : kF) : Nat := F.2.2.2.2.2.2
abbrev kB (F : kF) : Nat := kC F + kD F
/-- locals of a function, fors that it hides -/
def nL (σ0 : lj_S) (f : Nat) : Nat := (lv σ0 31 f).toNat
def nH (σ0 : lj_S) (f : Nat) : Nat := (lv σ0 32 f).toNat
/-- what the acts of a point up to the next step weigh -/
def wtp (σ0 τ0 : lj_S) (y : pT) : Nat := if σ0.1 22 y.2.1 = 0 ∧ τ0.1 20 y.2.2.1 = 0 then 0 else 6000 * (2 * (14000 - y.2.1) + 2 * (14000 - y.2.2.1) + (if y.2.2.2.1.head? = some 8 then 1 else 0) + 1)
/-- all acts up to the next step, or to the end, are acts of both; they weigh at most n -/
def gn (σ0 τ0 : lj_S) (n : Nat) (y : pT) : Prop := (∃ k, gN σ0 τ0 (fun _ => False) (gS σ0 τ0 (fun _ => False)) k y) ∧ wtp σ0 τ0 y ≤ n
/-- what a frame comes to when that which it waits for has come -/
def wtR (σ0 τ0 : lj_S) (f c m : Nat) (s l : List Nat) (dd n : Nat) : Nat → Prop
  | 0 => gn σ0 τ0 n (f, c, m, s, l, dd)
  | 1 => gn σ0 τ0 n (f, c, m, 0 :: s, l, dd)
  | 2 => gn σ0 τ0 n (f, c, m, 0 :: s, l, dd)
  | 3 => gn σ0 τ0 n (f, c, m, 0 :: s, l, dd)
  | 4 => gn σ0 τ0 n (f, c, m, s, l, dd)
  | 5 => ∃ s', s = 0 :: s' ∧ τ0.1 20 m = 46 ∧ τ0.1 20 (m + 1) = 15 ∧ gn σ0 τ0 n (f, c, m + 2, 0 :: 1 :: 0 :: s', l, dd)
  | 6 => σ0.1 22 c = 17 ∧ gn σ0 τ0 n (f, c + 1, m, 0 :: s, l, dd)
  | 7 => σ0.1 22 c = 18 ∧ gn σ0 τ0 n (f, c + 1, m, 5 :: s, l, dd)
  | 8 => σ0.1 22 c = 19 ∧ gn σ0 τ0 n (f, c + 1, m, s, l, dd)
  | 9 => ∃ (s' : List Nat) (i : Nat), s = 2 :: 8 :: s' ∧ i < 60 ∧ σ0.1 22 c = 25 ∧ σ0.1 23 c = Int32.ofNat i ∧ τ0.1 20 m = 29 ∧ τ0.1 21 m = Int32.ofNat i ∧ gn σ0 τ0 n (f, c + 1, m + 1, 8 :: s', l, dd)
  | 10 => ∃ (d k x a a' : Nat) (s' : List Nat), a < 14000 ∧ a' < 14000 ∧ 0 < k ∧ (x + k ≤ 50 ∧ (∀ y ∈ l, y < x) ∧ ((x + k : Nat) : Int) ≤ lv σ0 31 f) ∧ s = 4 :: s' ∧ d = (flo s').length ∧ (d : Int) < lv σ0 32 f ∧ σ0.1 22 c = 20 ∧ σ0.1 23 c = Int32.ofNat k ∧ σ0.1 24 c = 1 ∧ σ0.1 22 (c + 1) = 39 ∧ σ0.1 23 (c + 1) = Int32.ofNat x ∧ σ0.1 24 (c + 1) = Int32.ofNat (k + 256 * d) ∧ σ0.1 25 (c + 1) = Int32.ofNat a ∧ τ0.1 20 m = 43 ∧ τ0.1 21 m = Int32.ofNat a' ∧ τ0.1 22 m = Int32.ofNat (100 * k + x) ∧ gn σ0 τ0 n (f, c + 2, m + 1, s, ((List.range k).map (x + ·)).reverse ++ l, dd) ∧ gn σ0 τ0 n (f, a, a', s, l, dd)
  | _ => False
/-- how the component and the model keep what is waited for -/
def waA (w : Nat) : Int32 := [0, 1, 2, 3, 4, 5, 0, 0, 0, 0, 0].getD w 0
def waM (w : Nat) : Int32 := [0, 0, 1, 2, 0, 0, 0, 0, 0, 0, 0].getD w 0
def waN (σ0 : lj_S) (c w : Nat) : Int32 := if w = 10 then σ0.1 23 c else [0, 1, 1, 1, 0, 1, 1, -1, 0, -1, 0].getD w 0
/-- what the uppermost frame waits for; none: the part is over -/
def awR (σ0 : lj_S) : List kF → Int32 → Int32 → Int32 → Prop
  | [], as, _, _ => as = 8
  | F :: _, as, md, wt => (kS F = 1 ∧ as = 6) ∨ (kS F = 2 ∧ as = 7) ∨ (kS F = 0 ∧ kW F ≠ 0 ∧ as = waA (kW F) ∧ md = waM (kW F) ∧ wt = waN σ0 (kY F).2.1 (kW F))
/-- what is known of a frame of the text -/
def ffa (σ0 τ0 σ τ : lj_S) (F : kF) : Prop :=
  ((kY F).1 < 51 ∧ nL σ0 (kY F).1 ≤ 50 ∧ nH σ0 (kY F).1 ≤ 20 ∧ sOK (kY F).2.2.2.1 ∧ kD F ≤ 49 ∧ 0 ≤ lv σ0 31 (kY F).1 ∧ ((kY F).1 : Int) < lv σ0 5 8) ∧ (kO F = 0 ∧ lv σ0 33 (kY F).1 = 0 ∨ obA σ τ (kO F) 5 ∧ σ.1 62 (kO F) = Int32.ofNat (kY F).1) ∧
  (kN F = 0 ∧ kW F = 0 ∨ kN F ≠ 0 ∧ wtR σ0 τ0 (kY F).1 (kY F).2.1 (kY F).2.2.1 (kY F).2.2.2.1 (kY F).2.2.2.2.1 (kY F).2.2.2.2.2 (kN F - 1) (kW F)) ∧
  (kW F ≠ 0 → ((1 ≤ (kY F).2.1 ∧ (kY F).2.1 ≤ 14000) ∧ scl σ0 (kY F).1 ((kY F).2.1 - 1) (kY F).2.2.2.1 (kY F).2.2.2.2.1 (kY F).2.2.2.2.2) ∧ ∀ x ∈ (kY F).2.2.2.1, x ≠ 5)
/-- no cell, or one -/
def gdc (x : Int32) : Prop := x = -1 ∨ ∃ c : Nat, c < 95000 ∧ x = Int32.ofNat c
/-- a frame of the text in both: d frames lie below, the model's values and marks begin with ms and ks -/
def tfr (σ0 τ0 σ τ : lj_S) (ρ : Nat → Nat) (p d : Nat) (F : kF) (ms ks ce me mq : Nat) : Prop :=
  (σ.1 91 (20 * p + d) = 0 ∧ σ.1 92 (20 * p + d) = Int32.ofNat (kY F).1 ∧ σ.1 93 (20 * p + d) = Int32.ofNat (kO F) ∧ σ.1 94 (20 * p + d) = Int32.ofNat (kY F).2.1 ∧ σ.1 96 (20 * p + d) = Int32.ofNat (kB F)) ∧
  (τ.1 74 (48 * p + d) = 0 ∧ τ.1 75 (48 * p + d) = Int32.ofNat (kY F).1 ∧ τ.1 76 (48 * p + d) = Int32.ofNat (kO F) ∧ τ.1 77 (48 * p + d) = Int32.ofNat (kY F).2.2.1 ∧ τ.1 82 (48 * p + d) = Int32.ofNat (kD F)) ∧
  (∀ i, i < kD F → vR σ τ (cv σ (kC F + i)) (mv τ (10000 * p + (ms + i))) ∧ σ.1 81 (kC F + i) = -1) ∧
  stk σ τ p (kB F + nL σ0 (kY F).1) (kB F + nL σ0 (kY F).1 + 3 * nH σ0 (kY F).1) (ms + kD F) ks (kY F).2.2.2.1 ce me mq (σ.1 97 (20 * p + d)) ∧
  ((∀ x ∈ (kY F).2.2.2.2.1, x < nL σ0 (kY F).1 ∧ τ.1 87 (50 * (48 * p + d) + x) = Int32.ofNat (ρ (kB F + x))) ∧ (∀ x, x < 50 → x ∉ (kY F).2.2.2.2.1 → (x < (kY F).2.2.2.2.2 → τ.1 87 (50 * (48 * p + d) + x) = -1) ∧ gdc (τ.1 87 (50 * (48 * p + d) + x))) ∧ (∀ x, x < nL σ0 (kY F).1 → x ∉ (kY F).2.2.2.2.1 → σ.1 81 (kB F + x) = -1) ∧ (∀ i, i < 3 * nH σ0 (kY F).1 → σ.1 81 (kB F + nL σ0 (kY F).1 + i) = -1) ∧ (flo (kY F).2.2.2.1).length ≤ nH σ0 (kY F).1) ∧
  ffa σ0 τ0 σ τ F
/-- a frame in both -/
def frm (σ0 τ0 σ τ : lj_S) (ρ : Nat → Nat) (p d : Nat) (F : kF) (ms ks ce me mq : Nat) : Prop :=
  (σ.1 95 (20 * p + d) = Int32.ofNat (kC F) ∧ τ.1 80 (48 * p + d) = Int32.ofNat ms ∧ τ.1 81 (48 * p + d) = Int32.ofNat ks) ∧
  (kS F = 0 ∧ tfr σ0 τ0 σ τ ρ p d F ms ks ce me mq ∨ (kS F = 1 ∨ kS F = 2) ∧ σ.1 91 (20 * p + d) = Int32.ofNat (kS F) ∧ τ.1 74 (48 * p + d) = Int32.ofNat (kS F) ∧ ce = kC F ∧ me = ms ∧ mq = ks)
/-- the frames of a part, the uppermost first: where its stacks end -/
def prt (σ0 τ0 σ τ : lj_S) (ρ : Nat → Nat) (p : Nat) : List kF → Nat → Nat → Nat → Prop
  | [], ce, me, mq => ce = 12500 * p ∧ me = 0 ∧ mq = 0
  | F :: L, ce, me, mq => ∃ ms ks, prt σ0 τ0 σ τ ρ p L (kC F) ms ks ∧ frm σ0 τ0 σ τ ρ p L.length F ms ks ce me mq ∧ awR σ0 L (σ.1 98 (20 * p + L.length)) (τ.1 78 (48 * p + L.length)) (τ.1 79 (48 * p + L.length))
/-- the slot of a local that lives -/
def lsF (F : kF) (a : Nat) : Prop := kS F = 0 ∧ ∃ x ∈ (kY F).2.2.2.2.1, a = kB F + x
def lsL (L : List kF) (a : Nat) : Prop := ∃ F ∈ L, lsF F a
theorem frm_rg {σ0 τ0 σ τ : lj_S} {ρ : Nat → Nat} {p d : Nat} {F : kF} {ms ks ce me mq : Nat} (h : frm σ0 τ0 σ τ ρ p d F ms ks ce me mq) : kC F ≤ ce ∧ ms ≤ me ∧ ks ≤ mq ∧ ∀ a, lsF F a → kC F ≤ a ∧ a < ce := by
  have hB : kB F = kC F + kD F := rfl
  rcases h.2 with ⟨e, t⟩ | ⟨e, _, _, h1, h2, h3⟩
  · obtain ⟨t1, t2, t3, t4, t5, t6⟩ := t
    obtain ⟨b1, b2, b3, _⟩ := stk_bd t4
    refine ⟨by omega, by omega, b3, fun a ha => ?_⟩
    obtain ⟨_, x, hx, e⟩ := ha
    have := (t5.1 x hx).1
    omega
  · refine ⟨by omega, by omega, by omega, fun a ha => ?_⟩
    have := ha.1
    omega
theorem prt_rg {σ0 τ0 σ τ : lj_S} {ρ : Nat → Nat} {p : Nat} : ∀ {L : List kF} {ce me mq : Nat}, prt σ0 τ0 σ τ ρ p L ce me mq → 12500 * p ≤ ce ∧ ∀ a, lsL L a → 12500 * p ≤ a ∧ a < ce
  | [], ce, me, mq, h => ⟨by have := h.1; omega, fun a ⟨F, hF, _⟩ => by cases hF⟩
  | F :: L, ce, me, mq, h => by
    obtain ⟨ms, ks, h1, h2, h3⟩ := h
    obtain ⟨a1, a2⟩ := prt_rg h1
    obtain ⟨b1, b2, b3, b4⟩ := frm_rg h2
    refine ⟨by omega, fun a ha => ?_⟩
    obtain ⟨G, hG, w⟩ := ha
    rcases List.mem_cons.1 hG with e | e
    · rw [e] at w
      have := b4 a w
      omega
    · have := a2 a ⟨G, e, w⟩
      omega
theorem ffa_cg {σ0 τ0 σ τ σ' τ' : lj_S} {F : kF} (h : ffa σ0 τ0 σ τ F) (ho : oG σ τ σ' τ') (h62 : ∀ o, obA σ τ o 5 → σ'.1 62 o = σ.1 62 o) : ffa σ0 τ0 σ' τ' F := ⟨h.1, h.2.1.imp id (fun w => ⟨w.1.up ho, by rw [h62 _ w.1]; exact w.2⟩), h.2.2⟩
/-- other states: a frame -/
theorem frm_cg {σ0 τ0 σ τ σ' τ' : lj_S} {ρ ρ' : Nat → Nat} {p d : Nat} {F : kF} {ms ks ce me mq : Nat} (h : frm σ0 τ0 σ τ ρ p d F ms ks ce me mq) (hv : ∀ a b, vR σ τ a b → vR σ' τ' a b) (ho : oG σ τ σ' τ') (h62 : ∀ o, obA σ τ o 5 → σ'.1 62 o = σ.1 62 o)
    (sl : ∀ j, kC F ≤ j → j < ce → ¬ lsF F j → σ'.1 79 j = σ.1 79 j ∧ σ'.2 80 j = σ.2 80 j ∧ σ'.1 81 j = σ.1 81 j) (fC : ∀ k, 91 ≤ k → k ≤ 98 → σ'.1 k (20 * p + d) = σ.1 k (20 * p + d)) (vl : ∀ j, ms ≤ j → j < me → τ'.1 71 (10000 * p + j) = τ.1 71 (10000 * p + j) ∧ τ'.2 72 (10000 * p + j) = τ.2 72 (10000 * p + j)) (kl : ∀ j, ks ≤ j → j < mq → τ'.1 73 (2000 * p + j) = τ.1 73 (2000 * p + j)) (fM : ∀ k, 74 ≤ k → k ≤ 82 → τ'.1 k (48 * p + d) = τ.1 k (48 * p + d)) (fl : ∀ x, x < 50 → τ'.1 87 (50 * (48 * p + d) + x) = τ.1 87 (50 * (48 * p + d) + x)) (hr : ∀ a, lsF F a → ρ' a = ρ a) : frm σ0 τ0 σ' τ' ρ' p d F ms ks ce me mq := by
  have hB : kB F = kC F + kD F := rfl
  have rg := frm_rg h
  obtain ⟨⟨h1, h2, h3⟩, h4⟩ := h
  refine ⟨⟨by rw [fC 95 (by omega) (by omega)]; exact h1, by rw [fM 80 (by omega) (by omega)]; exact h2, by rw [fM 81 (by omega) (by omega)]; exact h3⟩, ?_⟩
  rcases h4 with ⟨e, t⟩ | ⟨e, w1, w2, w3⟩
  · refine Or.inl ⟨e, ?_⟩
    obtain ⟨⟨a1, a2, a3, a4, a5⟩, ⟨b1, b2, b3, b4, b5⟩, t3, t4, ⟨t5, t6, t7, t8, t10⟩, t9⟩ := t
    obtain ⟨q1, q2, q3, _⟩ := stk_bd t4
    have l50 := t9.1.2.1
    have own : ∀ j, (j < kB F ∨ kB F + nL σ0 (kY F).1 ≤ j) → ¬ lsF F j := fun j w ⟨_, x, hx, ex⟩ => by
      have := (t5 x hx).1
      omega
    refine ⟨⟨by rw [fC 91 (by omega) (by omega)]; exact a1, by rw [fC 92 (by omega) (by omega)]; exact a2, by rw [fC 93 (by omega) (by omega)]; exact a3, by rw [fC 94 (by omega) (by omega)]; exact a4, by rw [fC 96 (by omega) (by omega)]; exact a5⟩, ⟨by rw [fM 74 (by omega) (by omega)]; exact b1, by rw [fM 75 (by omega) (by omega)]; exact b2, by rw [fM 76 (by omega) (by omega)]; exact b3, by rw [fM 77 (by omega) (by omega)]; exact b4, by rw [fM 82 (by omega) (by omega)]; exact b5⟩, fun i hi => ?_, ?_, ⟨fun x hx => ?_, fun x x1 x2 => ?_, fun x x1 x2 => ?_, fun i hi => ?_, t10⟩, ffa_cg t9 ho h62⟩
    · obtain ⟨c1, c2⟩ := t3 i hi
      obtain ⟨o1, o2, o3⟩ := sl (kC F + i) (by omega) (by omega) (own _ (Or.inl (by omega)))
      obtain ⟨o4, o5⟩ := vl (ms + i) (by omega) (by omega)
      unfold cv mv at c1 ⊢
      rw [o1, o2, o3, o4, o5]
      exact ⟨hv _ _ c1, c2⟩
    · rw [fC 97 (by omega) (by omega)]
      exact stk_cg hv t4 (fun j w => sl j (by omega) (by omega) (own _ (Or.inr (by omega)))) (fun j w => by
        have := sl j (by omega) (by omega) (own _ (Or.inr (by omega)))
        exact ⟨this.1, this.2.1⟩) (fun j w => vl j (by omega) (by omega)) (fun j w => kl j (by omega) (by omega))
    · obtain ⟨c1, c2⟩ := t5 x hx
      exact ⟨c1, by rw [fl x (by omega), hr _ ⟨e, x, hx, rfl⟩]; exact c2⟩
    · rw [fl x x1]; exact t6 x x1 x2
    · have := sl (kB F + x) (by omega) (by omega) (fun ⟨_, y, hy, ey⟩ => x2 (by rw [show x = y by omega]; exact hy))
      rw [this.2.2]; exact t7 x x1 x2
    · have := sl (kB F + nL σ0 (kY F).1 + i) (by omega) (by omega) (own _ (Or.inr (by omega)))
      rw [this.2.2]; exact t8 i hi
  · exact Or.inr ⟨e, by rw [fC 91 (by omega) (by omega)]; exact w1, by rw [fM 74 (by omega) (by omega)]; exact w2, w3⟩
/-- all frames of a part -/
theorem prt_cg {σ0 τ0 σ τ σ' τ' : lj_S} {ρ ρ' : Nat → Nat} {p : Nat} (hv : ∀ a b, vR σ τ a b → vR σ' τ' a b) (ho : oG σ τ σ' τ') (h62 : ∀ o, obA σ τ o 5 → σ'.1 62 o = σ.1 62 o) : ∀ {L : List kF} {ce me mq : Nat}, prt σ0 τ0 σ τ ρ p L ce me mq → (∀ j, 12500 * p ≤ j → j < ce → ¬ lsL L j → σ'.1 79 j = σ.1 79 j ∧ σ'.2 80 j = σ.2 80 j ∧ σ'.1 81 j = σ.1 81 j) → (∀ k i, 91 ≤ k → k ≤ 98 → i < L.length → σ'.1 k (20 * p + i) = σ.1 k (20 * p + i)) → (∀ j, j < me → τ'.1 71 (10000 * p + j) = τ.1 71 (10000 * p + j) ∧ τ'.2 72 (10000 * p + j) = τ.2 72 (10000 * p + j)) → (∀ j, j < mq → τ'.1 73 (2000 * p + j) = τ.1 73 (2000 * p + j)) → (∀ k i, 74 ≤ k → k ≤ 82 → i < L.length → τ'.1 k (48 * p + i) = τ.1 k (48 * p + i)) → (∀ i x, i < L.length → x < 50 → τ'.1 87 (50 * (48 * p + i) + x) = τ.1 87 (50 * (48 * p + i) + x)) → (∀ a, lsL L a → ρ' a = ρ a) → prt σ0 τ0 σ' τ' ρ' p L ce me mq
  | [], _, _, _, h, _, _, _, _, _, _, _ => h
  | F :: L, ce, me, mq, h, sl, fC, vl, kl, fM, fl, hr => by
    obtain ⟨ms, ks, h1, h2, h3⟩ := h
    obtain ⟨r1, r2⟩ := prt_rg h1
    obtain ⟨q1, q2, q3, q4⟩ := frm_rg h2
    have nF : ∀ j, kC F ≤ j → ¬ lsF F j → ¬ lsL (F :: L) j := fun j w1 w2 ⟨G, hG, wG⟩ => by
      rcases List.mem_cons.1 hG with e | e
      · rw [e] at wG; exact w2 wG
      · have := r2 j ⟨G, e, wG⟩; omega
    have nL' : ∀ j, j < kC F → ¬ lsL L j → ¬ lsL (F :: L) j := fun j w1 w2 ⟨G, hG, wG⟩ => by
      rcases List.mem_cons.1 hG with e | e
      · rw [e] at wG; have := q4 j wG; omega
      · exact w2 ⟨G, e, wG⟩
    have lc : ∀ i, i < L.length → i < (F :: L).length := fun i hi => by rw [List.length_cons]; omega
    have ll : L.length < (F :: L).length := by rw [List.length_cons]; omega
    refine ⟨ms, ks, prt_cg hv ho h62 h1 (fun j w1 w2 w3 => sl j w1 (by omega) (nL' j w2 w3)) (fun k i w1 w2 w3 => fC k i w1 w2 (lc i w3)) (fun j w => vl j (by omega)) (fun j w => kl j (by omega)) (fun k i w1 w2 w3 => fM k i w1 w2 (lc i w3)) (fun i x w1 w2 => fl i x (lc i w1) w2) (fun a ⟨G, hG, wG⟩ => hr a ⟨G, List.mem_cons_of_mem _ hG, wG⟩), frm_cg h2 hv ho h62 (fun j w1 w2 w3 => sl j (by omega) w2 (nF j w1 w3)) (fun k w1 w2 => fC k _ w1 w2 ll) (fun j _ w => vl j w) (fun j _ w => kl j w) (fun k w1 w2 => fM k _ w1 w2 ll) (fun x w => fl _ x ll w) (fun a w => hr a ⟨F, List.mem_cons_self, w⟩), ?_⟩
    rw [fC 98 _ (by decide) (by decide) ll, fM 78 _ (by decide) (by decide) ll, fM 79 _ (by decide) (by decide) ll]
    exact h3
