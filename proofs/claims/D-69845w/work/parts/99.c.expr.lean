/-! expressions: operators -/
def limR (a d : Nat) : Prop := (a = d ∧ a ≤ 7) ∨ (a = 7 ∧ d = 8) ∨ (a = 9 ∧ d = 10) ∨ (a = 10 ∧ d = 11) ∨ (a = 10 ∧ d = 12)
theorem limR_b {a d : Nat} (h : limR a d) : a ≤ 10 ∧ d ≤ 12 := by unfold limR at h; omega
theorem stM_le (k : Nat) : stM k ≤ 11 := by have := stC_le k; unfold stM; split <;> omega
theorem limR_st {a d : Nat} (h : limR a d) (k : Nat) : (stC k ≤ a) ↔ (stM k ≤ d) := by
  have := stC_le k
  unfold limR at h
  unfold stM
  split <;> omega
/-- function and locals at hand -/
def hdN (N : List lT) (f : Nat) (l : List Nat) : Prop := ∃ z R, N = z :: R ∧ z.1 = f ∧ z.2.1.map (·.2.2) = l
theorem hdN_X {N N' : List lT} {f : Nat} {l : List Nat} (h : hdN N f l) (g : lvX N N') : hdN N' f l := by
  obtain ⟨z, R, rfl, h1, h2⟩ := h
  cases N' with
  | nil => exact g.elim
  | cons z' R' => exact ⟨z', R', rfl, g.1.trans h1, by rw [g.2.1]; exact h2⟩
def hdF (a o : Nat) (FO : List fT) (s : List Nat) : Prop := (∃ fl FO', FO = fl :: FO' ∧ flo s = fmn fl.2) ∧ va s ≤ a ∧ cn 1 s ≤ o ∧ cn 2 s ≤ o ∧ ∀ x ∈ s, x ≠ 5
theorem hdF.up {a o a' o' : Nat} {FO : List fT} {s : List Nat} (h : hdF a o FO s) (ha : a ≤ a') (ho : o ≤ o') : hdF a' o' FO s := ⟨h.1, by have := h.2.1; omega, by have := h.2.2.1; omega, by have := h.2.2.2.1; omega, h.2.2.2.2⟩
theorem hdF.sb {a o : Nat} {FO : List fT} {s : List Nat} (h : hdF a o FO s) (ha : a ≤ 402) (ho : o ≤ 26) : sB s := ⟨by have := h.2.1; omega, by have := h.2.2.1; omega, by have := h.2.2.2.1; omega, h.2.2.2.2⟩
theorem flo_c {x : Nat} (hx : x ≠ 3 ∧ x ≠ 4) (s : List Nat) : flo (x :: s) = flo s := by
  unfold flo
  rw [List.filter_cons_of_neg (by simp; omega)]
/-- a value more (0, a string, a table, or a dead one); a mark more -/
theorem hdF.n {a o : Nat} {FO : List fT} {s : List Nat} (h : hdF a o FO s) (x : Nat) (hx : x = 0 ∨ x = 6 ∨ x = 7 ∨ x = 8) : hdF (a + 1) o FO (x :: s) := by
  obtain ⟨⟨fl, FO', h1, h2⟩, h3, h4, h5, h6⟩ := h
  refine ⟨⟨fl, FO', h1, by rw [← h2]; exact flo_c (by omega) s⟩, ?_, ?_, ?_, fun y hy => ?_⟩
  · show _ + va s ≤ _; rw [if_neg (by omega), if_neg (by omega)]; omega
  · show _ + cn 1 s ≤ _; rw [if_neg (by omega)]; omega
  · show _ + cn 2 s ≤ _; rw [if_neg (by omega)]; omega
  · rcases List.mem_cons.1 hy with e | e
    · omega
    · exact h6 y e
theorem hdF.z {a o : Nat} {FO : List fT} {s : List Nat} (h : hdF a o FO s) : hdF (a + 1) o FO (0 :: s) := h.n 0 (Or.inl rfl)
theorem hdF.m {a o : Nat} {FO : List fT} {s : List Nat} (h : hdF a o FO s) (x : Nat) (hx : x = 1 ∨ x = 2) : hdF a (o + 1) FO (x :: s) := by
  obtain ⟨⟨fl, FO', h1, h2⟩, h3, h4, h5, h6⟩ := h
  refine ⟨⟨fl, FO', h1, by rw [← h2]; exact flo_c (by omega) s⟩, ?_, ?_, ?_, fun y hy => ?_⟩
  · show _ + va s ≤ _; rw [if_neg (by omega), if_pos (by omega)]; omega
  · show _ + cn 1 s ≤ _; split <;> omega
  · show _ + cn 2 s ≤ _; split <;> omega
  · rcases List.mem_cons.1 hy with e | e
    · omega
    · exact h6 y e
theorem hdF.o {a o : Nat} {FO : List fT} {s : List Nat} (h : hdF a o FO s) : hdF a (o + 1) FO (1 :: s) := h.m 1 (Or.inl rfl)
theorem hdF.t {a o : Nat} {FO : List fT} {s : List Nat} (h : hdF a o FO s) : hdF a (o + 1) FO (2 :: s) := h.m 2 (Or.inr rfl)
/-- so many values more -/
theorem hdF.k {a o : Nat} {FO : List fT} {s : List Nat} (h : hdF a o FO s) : ∀ (j : Nat), hdF (a + j) o FO (List.replicate j 0 ++ s)
  | 0 => h
  | j + 1 => (h.k j).z
/-- a row of values more -/
theorem hdF_row {a o : Nat} {FO : List fT} {s : List Nat} (h : hdF a o FO s) : ∀ (r : List Nat), (∀ x ∈ r, x = 0) → hdF (a + r.length) o FO (r ++ s)
  | [], _ => h
  | x :: r, hr => by
    have := (hdF_row h r (fun y hy => hr y (List.mem_cons_of_mem _ hy))).z
    have e : x = 0 := hr x List.mem_cons_self
    rw [e]
    exact this
/-- what an expression comes to -/
def exR (b : Nat → Int32) (n T : Nat) (Q : tkQ) (X : List Int32 → Prop) (FO : List fT) (Z : List zT) (PL : List qT) (cl ml : Nat) (v : Nat) (W : List wT) (f : Nat) (s l : List Nat) (N : List lT) (F p c m : Nat) (σ τ : lj_S) (oC oM : Option lj_O) : Prop :=
  fltR n oC oM ∨ ∃ what σ' τ' p' c' m' wh' F' N', oC = some (.inl (some (.int what)), σ') ∧ oM = mLoop τ' ∧ PS b n T Q X F' N' FO Z PL cl ml p' v c' m' wh' W σ' τ' ∧ GR N N' F F' p p' c c' m m' σ τ σ' τ' ∧ p < p' ∧ c' + 10 ≤ c + 25 * (p' - p) ∧ m' + 10 ≤ m + 25 * (p' - p) ∧ exS f s l N' c m c' m' what σ' τ' ∧ (what = 0 → τ'.1 0 64 = -1)
/-- expressions with fewer than k tokens to come -/
def CE (b : Nat → Int32) (n T : Nat) (Q : tkQ) (X : List Int32 → Prop) (k : Nat) : Prop :=
  ∀ (F : Nat) (N : List lT) (FO : List fT) (Z : List zT) (PL : List qT) (cl ml : Nat) (p v c m wh : Nat) (W : List wT) (σ τ : lj_S) (f : Nat) (s l : List Nat) (lc ld : Nat), T - p < k → PS b n T Q X F N FO Z PL cl ml p v c m wh ((3, Int32.ofNat ld, 0, 0) :: W) σ τ → hdN N f l → hdF (16 * v + 78) (v + 4) FO s → limR lc ld → W.length + 10 ≤ 40 * v + 60 →
    exR b n T Q X FO Z PL cl ml v W f s l N F p c m σ τ (lj_R lc_P 75 [.ref 6, .int (Int32.ofNat lc)] σ) (mLoop τ)
theorem exS_cg {f : Nat} {s l : List Nat} {N : List lT} {c0 m0 c m : Nat} {what : Int32} {σ τ σ' τ' : lj_S} (h : exS f s l N c0 m0 c m what σ τ) (tx : TX N σ τ σ' τ') (hC : ∀ k j, 22 ≤ k → k ≤ 26 → σ'.1 k j = σ.1 k j) (hM : ∀ k j, 20 ≤ k → k ≤ 23 → τ'.1 k j = τ.1 k j) (h64 : τ'.1 0 64 = τ.1 0 64) : exS f s l N c0 m0 c m what σ' τ' := by
  have z : ∀ c1 c2 m1 m2 σ2 τ2, fz c1 c2 m1 m2 σ' τ' σ2 τ2 → fz c1 c2 m1 m2 σ τ σ2 τ2 := fun c1 c2 m1 m2 σ2 τ2 g => ⟨fun k j a b d e => (g.1 k j a b d e).trans (hC k j a b), fun k j a b d e => (g.2 k j a b d e).trans (hM k j a b)⟩
  rcases h with ⟨e0, h⟩ | ⟨e0, c1, m1, r, e1, e2, e3, e4, e5, e6, e7, e8, e9, e10, e11⟩ | ⟨e0, c1, m1, e1, e2, e3, e4, e5, e6, e7, e8, e9⟩
  · exact Or.inl ⟨e0, fun σ2 τ2 t2 z2 => h σ2 τ2 (tx.tr t2 (fun _ _ q => q)) (z _ _ _ _ _ _ z2)⟩
  · exact Or.inr (Or.inl ⟨e0, c1, m1, r, e1, e2, e3, e4, by rw [h64]; exact e5, by rw [hC _ _ (by omega) (by omega)]; exact e6, by rw [hM _ _ (by omega) (by omega)]; exact e7, by rw [hM _ _ (by omega) (by omega)]; exact e8, by rw [hC _ _ (by omega) (by omega), hM _ _ (by omega) (by omega)]; exact e9, e10, fun σ2 τ2 t2 z2 => e11 σ2 τ2 (tx.tr t2 (fun _ _ q => q)) (z _ _ _ _ _ _ z2)⟩)
  · exact Or.inr (Or.inr ⟨e0, c1, m1, e1, e2, e3, e4, by rw [h64]; exact e5, by rw [hC _ _ (by omega) (by omega)]; exact e6, by rw [hM _ _ (by omega) (by omega)]; exact e7, by rw [hM _ _ (by omega) (by omega)]; exact e8, fun σ2 τ2 t2 z2 => e9 σ2 τ2 (tx.tr t2 (fun _ _ q => q)) (z _ _ _ _ _ _ z2)⟩)
theorem flt_bi {n : Nat} {oC oM : Option lj_O} (h : fltR n oC oM) (k : Int32 → lj_S → Option lj_O) : fltR n (lj_bi oC k lj_up) oM := by
  obtain ⟨σ', τ', q, pl, h1, h2⟩ := h
  exact ⟨σ', τ', q, pl, by rw [h1]; rfl, h2⟩
theorem flt_bv {n : Nat} {oC oM : Option lj_O} (h : fltR n oC oM) (k : lj_S → Option lj_O) : fltR n (lj_bv oC k lj_up) oM := by
  obtain ⟨σ', τ', q, pl, h1, h2⟩ := h
  exact ⟨σ', τ', q, pl, by rw [h1]; rfl, h2⟩
/-- the model reads an operator -/
theorem m_readOps {b : Nat → Int32} {n T : Nat} {Q : tkQ} {σ τ : lj_S} (h : TE b n T Q σ τ) {p v c m wh : Nat} {W : List wT} (hh : hnd p v c m wh W σ τ) (hp : p ≤ T) (hW : W.length + 3 < 4000) (hm : m < 14000) (ld : Nat) (hd : ld ≤ 12) (hlt : ld < stM (Q p).1) :
    ∃ τ' m' cc j, lj_R lm_P 63 [.ref 0, .int (Int32.ofNat ld)] τ = some (.inl (some (.int 1)), τ') ∧ lf aM τ τ' ∧ (∀ σ', hnd p v c m wh W σ' τ → hnd (p + 1) v c m' wh ((3, Int32.ofNat (if stM (Q p).1 = 9 then 8 else stM (Q p).1), 0, 0) :: (6, cc, Int32.ofNat (1 + tN b (Q p).2.1), j) :: (4, Int32.ofNat ld, 0, 0) :: W) (lj_put σ' 6 0 (Int32.ofNat (p + 1))) τ') ∧ (∀ k i, i < m → 20 ≤ k → k ≤ 23 → τ'.1 k i = τ.1 k i) ∧
      ((3 ≤ stC (Q p).1 ∧ m' = m ∧ cc = (tkw (Q p).1).toInt32) ∨ (((Q p).1 = 10 ∧ cc = 2 ∧ τ'.1 20 m = 23 ∨ (Q p).1 = 24 ∧ cc = 1 ∧ τ'.1 20 m = 24) ∧ m' = m + 1 ∧ j = Int32.ofNat m)) ∧ τ'.2 = τ.2 := by
  obtain ⟨h1, h2, h3, h4, h5, h6, h7, h8, h9, h10⟩ := hh
  have hh : hnd p v c m wh W σ τ := ⟨h1, h2, h3, h4, h5, h6, h7, h8, h9, h10⟩
  have hk := tk_lt h hp
  have hsM := stM_le (Q p).1
  have hsC := stC_le (Q p).1
  obtain ⟨hin, hkk, hvv⟩ := m_kindv h hp h2
  have hk4 : (Q p).1 ≠ 4 := fun e => by rw [e] at hlt; revert hlt; decide +revert
  have three : (3 : Int32).toInt = 3 := by decide
  generalize hL : Int32.ofNat (1 + tN b (Q p).2.1) = L at *
  -- the last of it
  have fin : ∀ (τ1 : lj_S) (m1 : Nat) (x4 x5 : Int32), lf aM τ τ1 → mWt τ1 W → τ1.1 0 25 = Int32.ofNat p → (∀ σ', hnd p v c m wh W σ' τ → hnd p v c m1 wh W σ' τ1) → ∃ τ', lj_D lm_P lm_M63 76 [.ref 0, .int (Int32.ofNat ld), .int (Int32.ofNat (stM (Q p).1)), .int L, .int x4, .int x5] [] τ1 = some (.inl (some (.int 1)), τ') ∧ lf aM τ1 τ' ∧ (∀ σ', hnd p v c m wh W σ' τ → hnd (p + 1) v c m1 wh ((3, Int32.ofNat (if stM (Q p).1 = 9 then 8 else stM (Q p).1), 0, 0) :: (6, x4, L, x5) :: (4, Int32.ofNat ld, 0, 0) :: W) (lj_put σ' 6 0 (Int32.ofNat (p + 1))) τ') ∧ (∀ k i, 20 ≤ k → k ≤ 23 → τ'.1 k i = τ1.1 k i) ∧ τ'.2 = τ1.2 := by
    intro τ1 m1 x4 x5 f1 w1 e25 hf
    obtain ⟨a1, a2⟩ := m_later w1 (by omega) 4 (Int32.ofNat ld) 0 0
    obtain ⟨b1, b2⟩ := m_later a2 (by simp; omega) 6 x4 L x5
    have f2 := mW_lf τ1 W.length (4, Int32.ofNat ld, 0, 0)
    generalize hτ2 : mW τ1 W.length (4, Int32.ofNat ld, 0, 0) = τ2 at *
    have f3 := mW_lf τ2 ((4, Int32.ofNat ld, 0, 0) :: W : List wT).length (6, x4, L, x5)
    generalize hτ3 : mW τ2 ((4, Int32.ofNat ld, 0, 0) :: W : List wT).length (6, x4, L, x5) = τ3 at *
    have lim : lj_D lm_P lm_M63 76 [.ref 0, .int (Int32.ofNat ld), .int (Int32.ofNat (stM (Q p).1)), .int L, .int x4, .int x5] [] τ1 = lj_D lm_P lm_M63 109 [.ref 0, .int (Int32.ofNat ld), .int (Int32.ofNat (stM (Q p).1)), .int L, .int x4, .int x5] [.int (Int32.ofNat (if stM (Q p).1 = 9 then 8 else stM (Q p).1)), .int 3, .ref 0] τ3 := by
      rw [km_63_76, a1]
      unfold lj_bv
      simp only []
      rw [b1]
      simp only []
      by_cases e9 : stM (Q p).1 = 9
      · rw [if_pos (by rw [e9]; rfl), if_pos e9]; rfl
      · rw [if_neg (show ¬ (Int32.ofNat (stM (Q p).1) = 9) from fun q => e9 ((ofN_eq (c := 9) (by omega) (by omega)).1 q)), if_neg e9]
    generalize hlm : Int32.ofNat (if stM (Q p).1 = 9 then 8 else stM (Q p).1) = LM at *
    obtain ⟨c1, c2⟩ := m_later b2 (by simp; omega) 3 LM 0 0
    have f4 := mW_lf τ3 ((6, x4, L, x5) :: (4, Int32.ofNat ld, 0, 0) :: W : List wT).length (3, LM, 0, 0)
    generalize hτ4 : mW τ3 ((6, x4, L, x5) :: (4, Int32.ofNat ld, 0, 0) :: W : List wT).length (3, LM, 0, 0) = τ4 at *
    have oo : ∀ k j, ¬ (25 ≤ k ∧ k ≤ 28) → ¬ (k = 0 ∧ j = 46) → τ4.1 k j = τ1.1 k j := fun k j q1 q2 => by
      rw [← hτ4, ← hτ3, ← hτ2]
      unfold mW
      simp only [lj_put_1]
      rw [if_neg (by omega), if_neg (by omega), if_neg (by omega), if_neg (by omega), if_neg (by omega), if_neg (by omega), if_neg (by omega), if_neg (by omega), if_neg (by omega), if_neg (by omega), if_neg (by omega), if_neg (by omega), if_neg (by omega), if_neg (by omega), if_neg (by omega)]
    have e25' : τ4.1 0 25 = Int32.ofNat p := by rw [oo 0 25 (by omega) (by omega)]; exact e25
    have hTE4 : TE b n T Q σ τ4 := TE_up h (lf_rf _ _) (((f1.tr f2).tr f3).tr f4)
    refine ⟨lj_put τ4 0 25 (Int32.ofNat (p + 1)), ?_, lf_put ((f2.tr f3).tr f4) _ _ _ rfl, fun σ' hσ => ?_, fun k i q1 q2 => ?_, by show τ4.2 = τ1.2; rw [← hτ4, ← hτ3, ← hτ2]; rfl⟩
    · rw [lim, km_63_109, c1]
      unfold lj_bv
      simp only []
      rw [m_take hTE4 hp e25' hk4]
      rfl
    · have u1 := hnd_W (hf σ' hσ) (4, Int32.ofNat ld, 0, 0)
      rw [hτ2] at u1
      have u2 := hnd_W u1 (6, x4, L, x5)
      rw [hτ3] at u2
      have u3 := hnd_W u2 (3, LM, 0, 0)
      rw [hτ4] at u3
      exact hnd_p u3 (p + 1)
    · rw [lj_put_1, if_neg (by omega), oo k i (by omega) (by omega)]
  have start : lj_R lm_P 63 [.ref 0, .int (Int32.ofNat ld)] τ = (if Int32.ofNat (stM (Q p).1) = 1 then lj_D lm_P lm_M63 45 [.ref 0, .int (Int32.ofNat ld), .int (Int32.ofNat (stM (Q p).1)), .int L, .retAddr 0, .retAddr 0] [.int 1] τ else (if Int32.ofNat (stM (Q p).1) = 2 then lj_D lm_P lm_M63 45 [.ref 0, .int (Int32.ofNat ld), .int (Int32.ofNat (stM (Q p).1)), .int L, .retAddr 0, .retAddr 0] [.int 2] τ else lj_D lm_P lm_M63 45 [.ref 0, .int (Int32.ofNat ld), .int (Int32.ofNat (stM (Q p).1)), .int L, .retAddr 0, .retAddr 0] [.int ((τ.2 11 (τ.1 0 25).toNatClampNeg).toInt32)] τ)) := by
    rw [rm_63, km_63_0, m_strength h hp h2]
    unfold lj_bi
    simp only []
    rw [if_pos (by rw [lz_lt, lz_lit (by omega), lz_lit (by omega)]; omega), m_lineHere h hp h2, hL]
    simp only [if_pos hin]
  by_cases k3 : 3 ≤ stC (Q p).1
  · have hM3 : 3 ≤ stM (Q p).1 := by unfold stM; split <;> omega
    have k10 : 10 ≤ (Q p).1 := by
      have t : ∀ k : Fin 70, 3 ≤ stC k.val → 10 ≤ k.val := by decide
      exact t ⟨_, hk⟩ k3
    obtain ⟨τ', r1, r2, r3, r4, r6⟩ := fin τ m (tkw (Q p).1).toInt32 0 (lf_rf _ _) h9 h2 (fun _ q => q)
    refine ⟨τ', m, (tkw (Q p).1).toInt32, 0, ?_, r2, r3, fun k i q1 q2 q3 => r4 k i q2 q3, Or.inl ⟨k3, rfl, rfl⟩, r6⟩
    rw [start, if_neg (show ¬ (Int32.ofNat (stM (Q p).1) = 1) from fun q => by have := (ofN_eq (c := 1) (by omega) (by omega)).1 q; omega), if_neg (show ¬ (Int32.ofNat (stM (Q p).1) = 2) from fun q => by have := (ofN_eq (c := 2) (by omega) (by omega)).1 q; omega), hvv k10, km_63_45, if_pos (by rw [lz_le, three, lz_lit (by omega)]; omega)]
    exact r1
  · have hK : (Q p).1 = 10 ∨ (Q p).1 = 24 := by
      have t : ∀ k : Fin 70, ¬ 3 ≤ stC k.val → stM k.val ≠ 0 → (k.val = 10 ∨ k.val = 24) := by decide
      exact t ⟨_, hk⟩ k3 (show stM (Q p).1 ≠ 0 by omega)
    have em := fun o : Int32 => m_emit h6 hm o 0 0 0
    have step : ∀ (o cc : Int32), ∃ τ', lj_bi (lj_R lm_P 28 [.ref 0, .int o, .int 0, .int 0, .int 0] τ) (fun y2 σ1 => lj_D lm_P lm_M63 76 [.ref 0, .int (Int32.ofNat ld), .int (Int32.ofNat (stM (Q p).1)), .int L, .int cc, .int y2] [] σ1) lj_up = some (.inl (some (.int 1)), τ') ∧ lf aM τ τ' ∧ (∀ σ', hnd p v c m wh W σ' τ → hnd (p + 1) v c (m + 1) wh ((3, Int32.ofNat (if stM (Q p).1 = 9 then 8 else stM (Q p).1), 0, 0) :: (6, cc, L, Int32.ofNat m) :: (4, Int32.ofNat ld, 0, 0) :: W) (lj_put σ' 6 0 (Int32.ofNat (p + 1))) τ') ∧ (∀ k i, i < m → 20 ≤ k → k ≤ 23 → τ'.1 k i = τ.1 k i) ∧ τ'.1 20 m = o ∧ τ'.2 = τ.2 := by
      intro o cc
      have g := mP_get τ m o 0 0 0
      have fl := mP_lf τ m o 0 0 0
      have hM := hnd_M hh o 0 0 0
      obtain ⟨τ', r1, r2, r3, r4, r6⟩ := fin (mP τ m o 0 0 0) (m + 1) cc (Int32.ofNat m) fl hM.2.2.2.2.2.2.2.2.1 hM.2.1 (fun σ' q => hnd_M q o 0 0 0)
      refine ⟨τ', ?_, fl.tr r2, r3, fun k i q1 q2 q3 => ?_, ?_, r6⟩
      · rw [em o]
        unfold lj_bi
        simp only []
        exact r1
      · rw [r4 k i q2 q3, mP_o _ _ _ _ _ _ _ _ (by omega) (by omega)]
      · rw [r4 20 m (by omega) (by omega)]; exact g.1
    rcases hK with e | e
    · have es : stM (Q p).1 = 2 := by rw [e]; decide
      obtain ⟨τ', r1, r2, r3, r4, r5, r6⟩ := step 23 2
      refine ⟨τ', m + 1, 2, Int32.ofNat m, ?_, r2, r3, r4, Or.inr ⟨Or.inl ⟨e, rfl, r5⟩, rfl, rfl⟩, r6⟩
      rw [start, es, if_neg (by decide), if_pos (by decide), km_63_45, if_neg (by decide), if_neg (by decide), km_63_68]
      rw [es] at r1
      exact r1
    · have es : stM (Q p).1 = 1 := by rw [e]; decide
      obtain ⟨τ', r1, r2, r3, r4, r5, r6⟩ := step 24 1
      refine ⟨τ', m + 1, 1, Int32.ofNat m, ?_, r2, r3, r4, Or.inr ⟨Or.inr ⟨e, rfl, r5⟩, rfl, rfl⟩, r6⟩
      rw [start, es, if_pos (by decide), km_63_45, if_neg (by decide), if_pos (by decide), km_63_68]
      rw [es] at r1
      exact r1
