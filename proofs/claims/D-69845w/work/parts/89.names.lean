/-! names: locals that are known, captured ones -/
/-- a local: its name in both, its slot -/
abbrev kT : Type := Nat × Nat × Nat
/-- a captured one: its name in both, whether a local of the function around (1), which one -/
abbrev cT : Type := Nat × Nat × Nat × Nat
/-- a function that is being read: its number, its locals (the latest first), its captured ones (the first first) -/
abbrev lT : Type := Nat × List kT × List cT
def knF : List kT → Nat → Option Nat
  | [], _ => none
  | e :: r, a => if e.1 = a then some e.2.2 else knF r a
def cpI : List cT → Nat → Nat → Option Nat
  | [], _, _ => none
  | e :: r, a, i => if e.1 = a then some i else cpI r a (i + 1)
def cpJ : List cT → Nat → Nat → Nat → Option Nat
  | [], _, _, _ => none
  | e :: r, lo, x, i => if e.2.2.1 = lo ∧ e.2.2.2 = x then some i else cpJ r lo x (i + 1)
def optI (o : Option Nat) : Int32 := match o with
  | some x => Int32.ofNat x
  | none => -1
def knC (σ : lj_S) (q : Nat) : List kT → Prop
  | [] => True
  | e :: r => (σ.1 45 (50 * q + r.length) = Int32.ofNat e.1 ∧ σ.1 46 (50 * q + r.length) = Int32.ofNat e.2.2 ∧ (e.1 < 2600 ∨ e.1 = 4294967294) ∧ e.2.1 < 3000 ∧ e.2.2 < 50) ∧ knC σ q r
def knM (τ : lj_S) (base : Nat) : List kT → Prop
  | [] => True
  | e :: r => (τ.1 29 (base + r.length) = Int32.ofNat e.2.1 ∧ τ.1 30 (base + r.length) = Int32.ofNat e.2.2 ∧ (e.1 < 2600 ∨ e.1 = 4294967294) ∧ e.2.1 < 3000 ∧ e.2.2 < 50) ∧ knM τ base r
def cpC (σ : lj_S) (q : Nat) (cp : List cT) : Prop := σ.1 33 q = Int32.ofNat cp.length ∧ cp.length ≤ 30 ∧ ∀ i (h : i < cp.length), σ.1 48 (30 * q + i) = Int32.ofNat cp[i].1 ∧ σ.1 34 (30 * q + i) = Int32.ofNat cp[i].2.2.1 ∧ σ.1 35 (30 * q + i) = Int32.ofNat cp[i].2.2.2 ∧ cp[i].1 < 2600 ∧ cp[i].2.1 < 3000 ∧ cp[i].2.2.1 < 2 ∧ cp[i].2.2.2 < 50
def cpM (τ : lj_S) (q : Nat) (cp : List cT) : Prop := τ.1 15 q = Int32.ofNat cp.length ∧ cp.length ≤ 30 ∧ ∀ i (h : i < cp.length), τ.1 18 (30 * q + i) = Int32.ofNat cp[i].2.2.1 ∧ τ.1 19 (30 * q + i) = Int32.ofNat cp[i].2.2.2 ∧ cp[i].1 < 2600 ∧ cp[i].2.1 < 3000 ∧ cp[i].2.2.1 < 2 ∧ cp[i].2.2.2 < 50
def baseN : List lT → Nat
  | [] => 0
  | x :: R => x.2.1.length + baseN R
def parN : List lT → Int32
  | [] => -1
  | y :: _ => Int32.ofNat y.1
def nmC (σ : lj_S) : List lT → Prop
  | [] => True
  | x :: R => (x.1 < 51 ∧ σ.1 43 x.1 = parN R ∧ σ.1 44 x.1 = Int32.ofNat x.2.1.length ∧ x.2.1.length ≤ 50 ∧ knC σ x.1 x.2.1 ∧ cpC σ x.1 x.2.2) ∧ nmC σ R
def nmM (τ : lj_S) : List lT → Prop
  | [] => True
  | x :: R => (x.1 < 51 ∧ τ.1 32 R.length = Int32.ofNat x.1 ∧ τ.1 31 R.length = Int32.ofNat (baseN R) ∧ x.2.1.length ≤ 50 ∧ knM τ (baseN R) x.2.1 ∧ cpM τ x.1 x.2.2) ∧ nmM τ R
theorem lz_m50 (q k : Nat) : Int32.ofNat q * 50 + Int32.ofNat k = Int32.ofNat (50 * q + k) := by
  rw [Nat.mul_comm 50 q, Int32.ofNat_add, Int32.ofNat_mul]; rfl
theorem lz_m30 (q k : Nat) : Int32.ofNat q * 30 + Int32.ofNat k = Int32.ofNat (30 * q + k) := by
  rw [Nat.mul_comm 30 q, Int32.ofNat_add, Int32.ofNat_mul]; rfl
theorem lz_30m (q k : Nat) : 30 * Int32.ofNat q + Int32.ofNat k = Int32.ofNat (30 * q + k) := by
  rw [Int32.ofNat_add, Int32.ofNat_mul]; rfl
theorem lz_pred (n : Nat) : Int32.ofNat (n + 1) + (-1) = Int32.ofNat n := by
  rw [← lz_osucc, Int32.add_assoc]
  rw [show (1 : Int32) + (-1) = 0 by decide, Int32.add_zero]
theorem lz_pred' (n : Nat) : Int32.ofNat (n + 1) - 1 = Int32.ofNat n := by
  rw [Int32.sub_eq_add_neg]; exact lz_pred n
theorem ofN_in {n N : Nat} (h : n < N) (hN : N < 2147483648) : lj_in (Int32.ofNat n) N := lz_in.2 (by rw [lz_lit (by omega)]; omega)
theorem ofN_nneg {n : Nat} (h : n < 2147483648) : ¬ (Int32.ofNat n < 0) := by
  rw [lz_lt, lz_lit h]; show ¬ ((n : Int) < 0); omega
theorem ofN_nm1 {n : Nat} (h : n < 2147483648) : ¬ (Int32.ofNat n = -1) := by
  rw [lz_eq, lz_lit h, lz_m1]; omega
theorem ofN_eqB {x a : Nat} (hx : x < 2600 ∨ x = 4294967294) (ha : a < 2600) : (Int32.ofNat x = Int32.ofNat a) ↔ x = a := by
  rcases hx with h | h
  · exact ofN_eq (by omega) (by omega)
  · subst h
    refine ⟨fun z => ?_, fun z => by omega⟩
    have w := congrArg Int32.toInt z
    rw [lz_lit (show a < 2147483648 by omega), show (Int32.ofNat 4294967294).toInt = -2 by decide] at w
    omega
theorem c_local_loop {σ : lj_S} {q : Nat} (hq : q < 51) (a : Nat) (ha : a < 2600) : ∀ (kn : List kT), kn.length ≤ 50 → knC σ q kn → lj_D lc_P lc_M89 9 [.ref 6, .int (Int32.ofNat q), .int (Int32.ofNat a), .int (Int32.ofNat kn.length + (-1))] [] σ = some (.inl (some (.int (optI (knF kn a)))), σ)
  | [], _, _ => by
    rw [kc_89_9, if_pos (by decide)]; rfl
  | e :: r, hl, h => by
    have hr : r.length < 50 := by simp at hl; omega
    have i : lj_in (Int32.ofNat (50 * q + r.length)) 2550 := ofN_in (by omega) (by omega)
    have e26 := h.1.2.2.1
    rw [kc_89_9, List.length_cons, lz_pred, if_neg (ofN_nneg (by omega)), lz_m50]
    simp only [if_pos i, lz_onat (show 50 * q + r.length < 2147483648 by omega), h.1.1, h.1.2.1]
    unfold knF
    by_cases c : e.1 = a
    · rw [if_pos (by rw [c]), if_pos c]; rfl
    · rw [if_neg (fun z => c ((ofN_eqB e26 ha).1 z)), if_neg c]
      exact c_local_loop hq a ha r (by omega) h.2
theorem c_localOf {σ : lj_S} {q : Nat} (hq : q < 51) (a : Nat) (ha : a < 2600) {kn : List kT} (hl : kn.length ≤ 50) (h44 : σ.1 44 q = Int32.ofNat kn.length) (h : knC σ q kn) : lj_R lc_P 89 [.ref 6, .int (Int32.ofNat q), .int (Int32.ofNat a)] σ = some (.inl (some (.int (optI (knF kn a)))), σ) := by
  have i : lj_in (Int32.ofNat q) 51 := ofN_in hq (by omega)
  rw [rc_89, kc_89_0, if_pos i, lz_onat (by omega), h44, Int32.sub_eq_add_neg]
  exact c_local_loop hq a ha kn hl h
theorem c_seekC_loop {σ : lj_S} {q : Nat} (hq : q < 51) (a : Nat) (ha : a < 2600) {cp : List cT} (h : cpC σ q cp) : ∀ (m i : Nat), i + m = cp.length → lj_D lc_P lc_M91 2 [.ref 6, .int (Int32.ofNat q), .int (Int32.ofNat a), .int (Int32.ofNat i)] [] σ = some (.inl (some (.int (optI (cpI (cp.drop i) a i)))), σ)
  | 0, i, hi => by
    have hl := h.2.1
    have iq : lj_in (Int32.ofNat q) 51 := ofN_in hq (by omega)
    rw [kc_91_2, if_pos iq, lz_onat (by omega), h.1, if_pos (by rw [lz_le, lz_lit (by omega), lz_lit (by omega)]; omega), List.drop_eq_nil_of_le (by omega)]
    rfl
  | m + 1, i, hi => by
    have hl := h.2.1
    have iq : lj_in (Int32.ofNat q) 51 := ofN_in hq (by omega)
    have hc := h.2.2 i (by omega)
    have ix : lj_in (Int32.ofNat (30 * q + i)) 1530 := ofN_in (by omega) (by omega)
    rw [kc_91_2, if_pos iq, lz_onat (by omega), h.1, if_neg (by rw [lz_le, lz_lit (by omega), lz_lit (by omega)]; omega), lz_m30, if_pos ix, lz_onat (by omega), hc.1, List.drop_eq_getElem_cons (show i < cp.length by omega), lz_osucc]
    unfold cpI
    by_cases c : cp[i].1 = a
    · rw [if_pos (by rw [c]), if_pos c]; rfl
    · rw [if_neg (fun z => c ((ofN_eq (by omega) (by omega)).1 z)), if_neg c]
      exact c_seekC_loop hq a ha h m (i + 1) (by omega)
theorem c_seekC {σ : lj_S} {q : Nat} (hq : q < 51) (a : Nat) (ha : a < 2600) {cp : List cT} (h : cpC σ q cp) : lj_R lc_P 91 [.ref 6, .int (Int32.ofNat q), .int (Int32.ofNat a)] σ = some (.inl (some (.int (optI (cpI cp a 0)))), σ) := by
  rw [rc_91, kc_91_0]
  exact c_seekC_loop hq a ha h cp.length 0 (by omega)
/-- a captured one more -/
def cCap (σ : lj_S) (q i a : Nat) (lo : Int32) (x : Nat) : lj_S := lj_put (lj_put (lj_put (lj_put σ 48 (30 * q + i) (Int32.ofNat a)) 34 (30 * q + i) lo) 35 (30 * q + i) (Int32.ofNat x)) 33 q (Int32.ofNat (i + 1))
def mCap (τ : lj_S) (q i : Nat) (lo : Int32) (x : Nat) : lj_S := lj_put (lj_put (lj_put τ 18 (30 * q + i) lo) 19 (30 * q + i) (Int32.ofNat x)) 15 q (Int32.ofNat (i + 1))
theorem c_addC {σ : lj_S} {q : Nat} (hq : q < 51) (a : Nat) {cp : List cT} (h : cpC σ q cp) (h30 : cp.length ≠ 30) (lo : Int32) (hlo : lo = 0 ∨ lo = 1) (x : Nat) : lj_R lc_P 92 [.ref 6, .int (Int32.ofNat q), .int (Int32.ofNat a), .int lo, .int (Int32.ofNat x)] σ = some (.inl (some (.int (Int32.ofNat cp.length))), cCap σ q cp.length a lo x) := by
  have hl := h.2.1
  have iq : lj_in (Int32.ofNat q) 51 := ofN_in hq (by omega)
  have ix : lj_in (Int32.ofNat (30 * q + cp.length)) 1530 := ofN_in (by omega) (by omega)
  rw [rc_92, kc_92_0]
  simp only [if_pos iq, lz_onat (show q < 2147483648 by omega), h.1, lz_m30, if_pos ix, lz_onat (show 30 * q + cp.length < 2147483648 by omega), lz_bool lo hlo, lz_osucc]
  rw [if_neg (show ¬ (Int32.ofNat cp.length = 30) from fun z => h30 ((ofN_eq (c := 30) (by omega) (by omega)).1 z))]
  rfl
theorem m_cap_loop {τ : lj_S} {q : Nat} (hq : q < 51) {cp : List cT} (h : cpM τ q cp) (lo x : Nat) (hlo : lo < 2) (hx : x < 50) (x1 x4 : Int32) : ∀ (m i : Nat), i + m = cp.length → lj_D lm_P lm_M52 11 [.ref 0, .int x1, .int (Int32.ofNat lo), .int (Int32.ofNat x), .int x4, .int (Int32.ofNat q), .int (Int32.ofNat i)] [] τ = match cpJ (cp.drop i) lo x i with
    | some k => some (.inl (some (.int (Int32.ofNat k))), τ)
    | none => if cp.length = 30 then lj_bi (lj_R lm_P 37 [.ref 0, .int 3, .int x4] τ) (fun y2 σ1 => some (.inl (some (.int 0)), σ1)) lj_up else some (.inl (some (.int (Int32.ofNat cp.length))), mCap τ q cp.length (Int32.ofNat lo) x)
  | 0, i, hi => by
    have hl := h.2.1
    have iq : lj_in (Int32.ofNat q) 51 := ofN_in hq (by omega)
    have hlo' : vp_nar .boolean (Int32.ofNat lo) = Int32.ofNat lo := lz_bool _ (by rcases (by omega : lo = 0 ∨ lo = 1) with e | e <;> rw [e] <;> decide)
    rw [km_52_11]
    simp only [if_pos iq, lz_onat (show q < 2147483648 by omega), h.1]
    rw [if_pos (by rw [lz_le, lz_lit (by omega), lz_lit (by omega)]; omega), List.drop_eq_nil_of_le (by omega)]
    unfold cpJ
    simp only []
    by_cases e : cp.length = 30
    · rw [if_pos (by rw [e]; rfl), if_pos e]
    · have ix : lj_in (Int32.ofNat (30 * q + cp.length)) 1530 := ofN_in (by omega) (by omega)
      rw [if_neg (show ¬ (Int32.ofNat cp.length = 30) from fun z => e ((ofN_eq (c := 30) (by omega) (by omega)).1 z)), if_neg e]
      simp only [lz_30m, if_pos ix, lz_onat (show 30 * q + cp.length < 2147483648 by omega), lz_osucc, hlo', lj_put_1, and_self, if_true, lz_pred']
      rfl
  | m + 1, i, hi => by
    have hl := h.2.1
    have iq : lj_in (Int32.ofNat q) 51 := ofN_in hq (by omega)
    have hc := h.2.2 i (by omega)
    have ix : lj_in (Int32.ofNat (30 * q + i)) 1530 := ofN_in (by omega) (by omega)
    have ih := m_cap_loop hq h lo x hlo hx x1 x4 m (i + 1) (by omega)
    rw [km_52_11]
    simp only [if_pos iq, lz_onat (show q < 2147483648 by omega), h.1]
    rw [if_neg (by rw [lz_le, lz_lit (by omega), lz_lit (by omega)]; omega)]
    simp only [lz_30m, if_pos ix, lz_onat (show 30 * q + i < 2147483648 by omega), hc.1, hc.2.1, km_52_60, lz_osucc]
    rw [lif2, ih, List.drop_eq_getElem_cons (show i < cp.length by omega)]
    have hd : ∀ o, (cpJ (cp[i] :: cp.drop (i + 1)) lo x i = o) ↔ ((if cp[i].2.2.1 = lo ∧ cp[i].2.2.2 = x then some i else cpJ (cp.drop (i + 1)) lo x (i + 1)) = o) := fun o => Iff.rfl
    by_cases c : cp[i].2.2.1 = lo ∧ cp[i].2.2.2 = x
    · rw [if_pos ⟨by rw [c.1], by rw [c.2]⟩, (hd (some i)).2 (by rw [if_pos c])]
    · rw [if_neg (fun z => c ⟨(ofN_eq (by omega) (by omega)).1 z.1, (ofN_eq (by omega) (by omega)).1 z.2⟩), (hd (cpJ (cp.drop (i + 1)) lo x (i + 1))).2 (by rw [if_neg c])]
