/-! laying acts; what waits to be read -/
theorem if_same {α : Type} (P : Prop) [Decidable P] (x : α) : (if P then (if P then x else x) else x) = x := by split <;> rfl
/-- the component lays an act -/
def cP (σ : lj_S) (c : Nat) (o a b d l : Int32) : lj_S := lj_put (lj_put (lj_put (lj_put (lj_put (lj_put σ 22 c o) 23 c a) 24 c b) 25 c d) 26 c l) 5 0 (Int32.ofNat (c + 1))
theorem c_put5 {σ : lj_S} {c : Nat} (h : σ.1 5 0 = Int32.ofNat c) (hc : c < 14000) (o a b d l : Int32) : lj_R lc_P 55 [.ref 5, .int o, .int a, .int b, .int d, .int l] σ = some (.inl (some (.int (Int32.ofNat c))), cP σ c o a b d l) := by
  have i : lj_in (Int32.ofNat c) 14000 := lz_in.2 (by rw [lz_lit (by omega)]; omega)
  rw [rc_55, kc_55_0, h, if_pos i, if_pos i, if_pos i, if_pos i, if_pos i, lz_onat (by omega), lz_osucc]
  rfl
theorem c_put3 {σ : lj_S} {c : Nat} (h : σ.1 5 0 = Int32.ofNat c) (hc : c < 14000) (o a l : Int32) : lj_R lc_P 54 [.ref 5, .int o, .int a, .int l] σ = some (.inl (some (.int (Int32.ofNat c))), cP σ c o a 0 0 l) := by
  rw [rc_54, kc_54_0, c_put5 h hc]
  rfl
/-- the model lays an act -/
def mP (τ : lj_S) (m : Nat) (o a b l : Int32) : lj_S := lj_put (lj_put (lj_put (lj_put (lj_put τ 20 m o) 21 m a) 22 m b) 23 m l) 0 41 (Int32.ofNat (m + 1))
theorem m_emit {τ : lj_S} {m : Nat} (h : τ.1 0 41 = Int32.ofNat m) (hm : m < 14000) (o a b l : Int32) : lj_R lm_P 28 [.ref 0, .int o, .int a, .int b, .int l] τ = some (.inl (some (.int (Int32.ofNat m))), mP τ m o a b l) := by
  have i : lj_in (Int32.ofNat m) 14000 := lz_in.2 (by rw [lz_lit (by omega)]; omega)
  have e : Int32.ofNat m + 1 - 1 = Int32.ofNat m := by
    apply lz_ext
    have one : (1 : Int32).toInt = 1 := by decide
    rw [lz_osucc, lz_sub (by rw [lz_lit (by omega), one]; omega), lz_lit (by omega), lz_lit (by omega), one]; omega
  rw [rm_28, km_28_0, h, if_pos i, if_pos i, if_pos i, if_pos i, lz_onat (by omega), e, lz_osucc]
  rfl
/-- the component's land: all but fors (23), fors (25) -/
theorem c_land {σ : lj_S} {c : Nat} (h : σ.1 5 0 = Int32.ofNat c) {j : Nat} (hj : j < 14000) (h6 : σ.1 22 j ≠ 36) (h9 : σ.1 22 j ≠ 39) : lj_R lc_P 57 [.ref 5, .int (Int32.ofNat j)] σ = some (.inl none, lj_put σ 23 j (Int32.ofNat c)) := by
  have i : lj_in (Int32.ofNat j) 14000 := lz_in.2 (by rw [lz_lit (by omega)]; omega)
  rw [rc_57, kc_57_0]
  simp only [if_pos i, lz_onat (show j < 2147483648 by omega)]
  rw [if_neg h6, if_neg h9, h, kc_57_45]
theorem c_landF {σ : lj_S} {c : Nat} (h : σ.1 5 0 = Int32.ofNat c) {j : Nat} (hj : j < 14000) (h6 : σ.1 22 j = 36 ∨ σ.1 22 j = 39) : lj_R lc_P 57 [.ref 5, .int (Int32.ofNat j)] σ = some (.inl none, lj_put σ 25 j (Int32.ofNat c)) := by
  have i : lj_in (Int32.ofNat j) 14000 := lz_in.2 (by rw [lz_lit (by omega)]; omega)
  have k22 : lj_D lc_P lc_M57 22 [.ref 5, .int (Int32.ofNat j)] [] σ = some (.inl none, lj_put σ 25 j (Int32.ofNat c)) := by
    rw [kc_57_22, if_pos i, lz_onat (by omega), h, kc_57_45]
  rw [rc_57, kc_57_0]
  simp only [if_pos i, lz_onat (show j < 2147483648 by omega)]
  by_cases e : σ.1 22 j = 36
  · rw [if_pos e, k22]
  · rw [if_neg e, if_pos (h6.resolve_left e), k22]
/-- what waits, the next one first: its state and three numbers -/
abbrev wT : Type := Int32 × Int32 × Int32 × Int32
def wA (τ : lj_S) : List wT → Prop
  | [] => True
  | x :: r => τ.1 25 r.length = x.1 ∧ τ.1 26 r.length = x.2.1 ∧ τ.1 27 r.length = x.2.2.1 ∧ τ.1 28 r.length = x.2.2.2 ∧ wA τ r
def mWt (τ : lj_S) (W : List wT) : Prop := τ.1 0 46 = Int32.ofNat W.length ∧ wA τ W
theorem wA_cg {τ τ' : lj_S} : ∀ (W : List wT), (∀ k j, (k = 25 ∨ k = 26 ∨ k = 27 ∨ k = 28) → j < W.length → τ'.1 k j = τ.1 k j) → wA τ W → wA τ' W
  | [], _, _ => trivial
  | x :: r, h, g => by
    have hl : r.length < (x :: r).length := by simp
    refine ⟨?_, ?_, ?_, ?_, wA_cg r (fun k j a c => h k j a (by simp; omega)) g.2.2.2.2⟩
    · rw [h 25 _ (by omega) hl]; exact g.1
    · rw [h 26 _ (by omega) hl]; exact g.2.1
    · rw [h 27 _ (by omega) hl]; exact g.2.2.1
    · rw [h 28 _ (by omega) hl]; exact g.2.2.2.1
/-- more waits -/
def mW (τ : lj_S) (w : Nat) (x : wT) : lj_S := lj_put (lj_put (lj_put (lj_put (lj_put τ 25 w x.1) 26 w x.2.1) 27 w x.2.2.1) 28 w x.2.2.2) 0 46 (Int32.ofNat (w + 1))
theorem m_later {τ : lj_S} {W : List wT} (h : mWt τ W) (hw : W.length < 4000) (s a b c : Int32) : lj_R lm_P 29 [.ref 0, .int s, .int a, .int b, .int c] τ = some (.inl none, mW τ W.length (s, a, b, c)) ∧ mWt (mW τ W.length (s, a, b, c)) ((s, a, b, c) :: W) := by
  have i : lj_in (Int32.ofNat W.length) 4000 := lz_in.2 (by rw [lz_lit (by omega)]; omega)
  refine ⟨?_, ?_, ?_, ?_, ?_, ?_, ?_⟩
  · rw [rm_29, km_29_0, h.1, if_pos i, if_pos i, if_pos i, if_pos i, lz_onat (by omega), lz_osucc]; rfl
  · unfold mW; rw [lj_put_1, if_pos ⟨rfl, rfl⟩]; rfl
  · unfold mW; simp [lj_put_1]
  · unfold mW; simp [lj_put_1]
  · unfold mW; simp [lj_put_1]
  · unfold mW; simp [lj_put_1]
  · refine wA_cg W (fun k j a c => ?_) h.2
    unfold mW
    rw [lj_put_1, if_neg (by omega), lj_put_1, if_neg (by omega), lj_put_1, if_neg (by omega), lj_put_1, if_neg (by omega), lj_put_1, if_neg (by omega)]
/-- the model's loop of reading -/
noncomputable def mLoop (τ : lj_S) : Option lj_O := lj_D lm_P lm_M27 134 [.ref 0, .int 0, .int 1] [] τ
/-- how the model ends when something is wrong -/
noncomputable def mBad (τ : lj_S) : Option lj_O := lj_D lm_P lm_M27 209 [.ref 0, .int 0, .int 1] [] τ
theorem m_iter {τ : lj_S} {x : wT} {W : List wT} (h : mWt τ (x :: W)) (hw : W.length < 4000) : mLoop τ = lj_bi (lj_R lm_P 30 [.ref 0, .int x.1, .int x.2.1, .int x.2.2.1, .int x.2.2.2] (lj_put τ 0 46 (Int32.ofNat W.length))) (fun y σ1 => if y = 0 then mBad σ1 else if σ1.1 0 4 = 0 then mLoop σ1 else mBad σ1) lj_up ∧ mWt (lj_put τ 0 46 (Int32.ofNat W.length)) W := by
  have one : (1 : Int32).toInt = 1 := by decide
  have i : lj_in (Int32.ofNat W.length) 4000 := lz_in.2 (by rw [lz_lit (by omega)]; omega)
  have e : τ.1 0 46 - 1 = Int32.ofNat W.length := by
    rw [h.1]; apply lz_ext
    rw [List.length_cons, lz_sub (by rw [lz_lit (by omega), one]; omega), lz_lit (by omega), lz_lit (by omega), one]; omega
  have hl := h.2
  constructor
  · unfold mLoop
    rw [km_27_134, if_neg (by rw [h.1, lz_le, lz_lit (by rw [List.length_cons]; omega)]; show ¬ (((x :: W).length : Int) ≤ 0); rw [List.length_cons]; omega), if_neg (by decide), e, if_pos i, if_pos i, if_pos i, if_pos i, lz_onat (by omega), hl.1, hl.2.1, hl.2.2.1, hl.2.2.2.1]
    simp only [km_27_210]
    rfl
  · refine ⟨by rw [lj_put_1, if_pos ⟨rfl, rfl⟩], wA_cg W (fun k j a c => by rw [lj_put_1, if_neg (by omega)]) hl.2.2.2.2⟩
theorem m_bad {τ : lj_S} {m : Nat} (h : τ.1 0 41 = Int32.ofNat m) (hm : m + 1 < 14000) : mBad τ = some (.inl (some (.int 0)), mP (mP τ m 14 0 0 0) (m + 1) 38 0 0 0) := by
  have k214 : lj_D lm_P lm_M27 214 [.ref 0, .int 0, .int 0] [] τ = some (.inl (some (.int 0)), mP (mP τ m 14 0 0 0) (m + 1) 38 0 0 0) := by
    rw [km_27_214, m_emit h (by omega)]
    unfold lj_bi
    simp only []
    rw [m_emit (m := m + 1) (by unfold mP; rw [lj_put_1, if_pos ⟨rfl, rfl⟩]) (by omega)]
    rfl
  unfold mBad
  rw [km_27_209, km_27_210, km_27_134, k214, if_pos rfl]
  split <;> rfl
/-- the same fault of both -/
def fltR (n : Nat) (oC oM : Option lj_O) : Prop := ∃ σ' τ' q pl, oC = some (.inr 1, σ') ∧ oM = some (.inl (some (.int 0)), τ') ∧ σ'.1 1 6 = q ∧ σ'.1 1 7 = Int32.ofNat pl ∧ τ'.1 0 4 = q ∧ τ'.1 0 5 = Int32.ofNat pl ∧ (q = 1 ∨ q = 2 ∨ q = 3 ∨ q = 4) ∧ pl ≤ n
theorem flt_mk {n : Nat} {σ τ : lj_S} {q : Int32} {pl m : Nat} (h : τ.1 0 41 = Int32.ofNat m) (hm : m + 1 < 14000) (hq : q = 1 ∨ q = 2 ∨ q = 3 ∨ q = 4) (hp : pl ≤ n) : fltR n (some (.inr 1, cFl σ q pl)) (mBad (mFl τ q pl)) := by
  refine ⟨_, _, q, pl, rfl, m_bad (m := m) (by unfold mFl; rw [lj_put_1, if_neg (by omega), lj_put_1, if_neg (by omega)]; exact h) hm, ?_, ?_, ?_, ?_, hq, hp⟩
  · unfold cFl; rw [lj_put_1, if_neg (by omega), lj_put_1, if_pos ⟨rfl, rfl⟩]
  · unfold cFl; rw [lj_put_1, if_pos ⟨rfl, rfl⟩]
  · unfold mP mFl; simp [lj_put_1]
  · unfold mP mFl; simp [lj_put_1]
theorem fq_ok (k : Nat) {q : Int32} (h : q = 2 ∨ q = 3 ∨ q = 4) : fq k q = 1 ∨ fq k q = 2 ∨ fq k q = 3 ∨ fq k q = 4 := by
  unfold fq; split
  · exact Or.inl rfl
  · exact Or.inr h
