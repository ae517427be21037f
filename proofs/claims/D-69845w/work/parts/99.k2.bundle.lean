/-! small moves of both parsers -/
/-- a later state, acts of a region untouched -/
def LT (N : List lT) (a c d m : Nat) (σ τ σ2 τ2 : lj_S) : Prop := TX N σ τ σ2 τ2 ∧ fz a c d m σ τ σ2 τ2
theorem LT.mo {N : List lT} {a c d m a' c' d' m' : Nat} {σ τ σ2 τ2 : lj_S} (h : LT N a c d m σ τ σ2 τ2) (h1 : a ≤ a') (h2 : c' ≤ c) (h3 : d ≤ d') (h4 : m' ≤ m) : LT N a' c' d' m' σ τ σ2 τ2 := ⟨h.1, h.2.mo h1 h2 h3 h4⟩
theorem GR.bk {N N' : List lT} {F F' p p' c c' m m' a d : Nat} {σ τ σ' τ' σ2 τ2 : lj_S} (g : GR N N' F F' p p' c c' m m' σ τ σ' τ') (h : LT N' a c' d m' σ' τ' σ2 τ2) : LT N a c d m σ τ σ2 τ2 :=
  ⟨g.1.tr h.1 (fun q _ hq => by rw [lvX_q g.2.1]; exact hq), (g.2.2.2.2.2.2.mo (by omega) (Nat.le_refl _) (by omega) (Nat.le_refl _)).tr (h.2.mo (Nat.le_refl _) g.2.2.2.2.1 (Nat.le_refl _) g.2.2.2.2.2.1)⟩
theorem LT.gC {N : List lT} {a c d m : Nat} {σ τ σ2 τ2 : lj_S} {x1 x2 x3 x4 x5 : Int32} (h : LT N a (c + 1) d m (cP σ c x1 x2 x3 x4 x5) τ σ2 τ2) (ha : a ≤ c) : σ2.1 22 c = x1 ∧ σ2.1 23 c = x2 ∧ σ2.1 24 c = x3 ∧ σ2.1 25 c = x4 ∧ σ2.1 26 c = x5 := by
  have g := cP_get σ c x1 x2 x3 x4 x5
  rw [h.2.1 22 c (by omega) (by omega) (by omega) (by omega), h.2.1 23 c (by omega) (by omega) (by omega) (by omega), h.2.1 24 c (by omega) (by omega) (by omega) (by omega), h.2.1 25 c (by omega) (by omega) (by omega) (by omega), h.2.1 26 c (by omega) (by omega) (by omega) (by omega)]
  exact ⟨g.1, g.2.1, g.2.2.1, g.2.2.2.1, g.2.2.2.2.1⟩
theorem LT.gM {N : List lT} {a c d m : Nat} {σ τ σ2 τ2 : lj_S} {x1 x2 x3 x4 : Int32} (h : LT N a c d (m + 1) σ (mP τ m x1 x2 x3 x4) σ2 τ2) (ha : d ≤ m) : τ2.1 20 m = x1 ∧ τ2.1 21 m = x2 ∧ τ2.1 22 m = x3 ∧ τ2.1 23 m = x4 := by
  have g := mP_get τ m x1 x2 x3 x4
  rw [h.2.2 20 m (by omega) (by omega) (by omega) (by omega), h.2.2 21 m (by omega) (by omega) (by omega) (by omega), h.2.2 22 m (by omega) (by omega) (by omega) (by omega), h.2.2 23 m (by omega) (by omega) (by omega) (by omega)]
  exact ⟨g.1, g.2.1, g.2.2.1, g.2.2.2.1⟩
theorem mW_2 (τ : lj_S) (w : Nat) (x : wT) : (mW τ w x).2 = τ.2 := rfl
theorem PS.c14 {b : Nat → Int32} {n T : Nat} {Q : tkQ} {X : List Int32 → Prop} {FO : List fT} {Z : List zT} {PL : List qT} {cl ml : Nat} {F : Nat} {N : List lT} {p v c m wh : Nat} {W : List wT} {σ τ : lj_S} (h : PS b n T Q X F N FO Z PL cl ml p v c m wh W σ τ) (hT : T ≤ 520) : c < 13990 ∧ m < 13990 := by
  have := h.2.2.1.1
  have := h.2.2.1.2.2.1
  have := h.2.2.1.2.2.2.1
  omega
theorem PS.w4 {b : Nat → Int32} {n T : Nat} {Q : tkQ} {X : List Int32 → Prop} {FO : List fT} {Z : List zT} {PL : List qT} {cl ml : Nat} {F : Nat} {N : List lT} {p v c m wh : Nat} {W : List wT} {σ τ : lj_S} (h : PS b n T Q X F N FO Z PL cl ml p v c m wh W σ τ) : W.length < 3990 := by
  have := h.2.2.1.2.1
  have := h.2.2.1.2.2.2.2.2
  omega
theorem PS.lt {b : Nat → Int32} {n T : Nat} {Q : tkQ} {X : List Int32 → Prop} {FO : List fT} {Z : List zT} {PL : List qT} {cl ml : Nat} {F : Nat} {N : List lT} {p v c m wh : Nat} {W : List wT} {σ τ : lj_S} (h : PS b n T Q X F N FO Z PL cl ml p v c m wh W σ τ) (q0 : (Q p).1 ≠ 0) (q4 : (Q p).1 ≠ 4) : p < T := by
  have hT := h.1.1.2.2.2.2.2.2.1
  rcases Nat.lt_or_ge p T with q | q
  · exact q
  · have e : p = T := by have := h.2.2.1.1; omega
    rw [← e] at hT
    omega
theorem PS.C {b : Nat → Int32} {n T : Nat} {Q : tkQ} {X : List Int32 → Prop} {FO : List fT} {Z : List zT} {PL : List qT} {cl ml : Nat} {F : Nat} {N : List lT} {p v c m wh : Nat} {W : List wT} {σ τ : lj_S} (h : PS b n T Q X F N FO Z PL cl ml p v c m wh W σ τ) (hc : c + 1 ≤ 25 * p + 100) (hT : T ≤ 520) (x1 x2 x3 x4 x5 : Int32) : PS b n T Q X F N FO Z PL cl ml p v (c + 1) m wh W (cP σ c x1 x2 x3 x4 x5) τ ∧ GR N N F F p p c (c + 1) m m σ τ (cP σ c x1 x2 x3 x4 x5) τ := by
  have hb := h.2.2.1
  have c14 := h.c14 hT
  exact ⟨h.up (cP_lf _ _ _ _ _ _ _) (lf_rf _ _) (hnd_C h.2.1 _ _ _ _ _) ⟨hb.1, hb.2.1, hc, hb.2.2.2⟩ (by omega) (Nat.le_refl _) (fun _ _ => rfl), cP_TX N σ τ c h.2.1.2.2.2.2.1 (by omega) _ _ _ _ _, lvX_rf _, (Nat.le_refl _), (Nat.le_refl _), (by omega), (Nat.le_refl _), cP_fz _ _ _ _ _ _ _ _ _⟩
theorem PS.M {b : Nat → Int32} {n T : Nat} {Q : tkQ} {X : List Int32 → Prop} {FO : List fT} {Z : List zT} {PL : List qT} {cl ml : Nat} {F : Nat} {N : List lT} {p v c m wh : Nat} {W : List wT} {σ τ : lj_S} (h : PS b n T Q X F N FO Z PL cl ml p v c m wh W σ τ) (hm : m + 1 ≤ 25 * p + 100) (x1 x2 x3 x4 : Int32) : PS b n T Q X F N FO Z PL cl ml p v c (m + 1) wh W σ (mP τ m x1 x2 x3 x4) ∧ GR N N F F p p c c m (m + 1) σ τ σ (mP τ m x1 x2 x3 x4) := by
  have hb := h.2.2.1
  have hml := h.2.2.2.2.2
  exact ⟨h.up (lf_rf _ _) (mP_lf _ _ _ _ _ _) (hnd_M h.2.1 _ _ _ _) ⟨hb.1, hb.2.1, hb.2.2.1, hm, hb.2.2.2.2⟩ (Nat.le_refl _) (by omega) (fun j hj => mP_o _ _ _ _ _ _ _ _ (by omega) (by omega)), mP_TX N σ τ m _ _ _ _, lvX_rf _, (Nat.le_refl _), (Nat.le_refl _), (Nat.le_refl _), (by omega), mP_fz _ _ _ _ _ _ _ _⟩
/-- a change of the model's alone -/
theorem PS.mm {b : Nat → Int32} {n T : Nat} {Q : tkQ} {X : List Int32 → Prop} {FO : List fT} {Z : List zT} {PL : List qT} {cl ml : Nat} {F : Nat} {N : List lT} {p v c m wh : Nat} {W : List wT} {σ τ : lj_S} (h : PS b n T Q X F N FO Z PL cl ml p v c m wh W σ τ) {τ' : lj_S} {W' : List wT} (g : lf aM τ τ') (g2 : ∀ i, τ'.2 24 i = τ.2 24 i) (hM : ∀ k j, 20 ≤ k → k ≤ 23 → τ'.1 k j = τ.1 k j) (hh : hnd p v c m wh W' σ τ') (hw : W'.length ≤ 40 * v + 60) : PS b n T Q X F N FO Z PL cl ml p v c m wh W' σ τ' ∧ GR N N F F p p c c m m σ τ σ τ' := by
  have hb := h.2.2.1
  exact ⟨h.up (lf_rf _ _) g hh ⟨hb.1, hb.2.1, hb.2.2.1, hb.2.2.2.1, hb.2.2.2.2.1, hw⟩ (Nat.le_refl _) (Nat.le_refl _) (fun j hj => hM 21 j (by omega) (by omega)), putM_TX N σ τ _ g g2, lvX_rf _, (Nat.le_refl _), (Nat.le_refl _), (Nat.le_refl _), (Nat.le_refl _), fun _ _ _ _ _ _ => rfl, fun k j a b _ _ => hM k j a b⟩
theorem PS.la {b : Nat → Int32} {n T : Nat} {Q : tkQ} {X : List Int32 → Prop} {FO : List fT} {Z : List zT} {PL : List qT} {cl ml : Nat} {F : Nat} {N : List lT} {p v c m wh : Nat} {W : List wT} {σ τ : lj_S} (h : PS b n T Q X F N FO Z PL cl ml p v c m wh W σ τ) (hw : W.length + 1 ≤ 40 * v + 60) (x : wT) : PS b n T Q X F N FO Z PL cl ml p v c m wh (x :: W) σ (mW τ W.length x) ∧ GR N N F F p p c c m m σ τ σ (mW τ W.length x) :=
  h.mm (mW_lf _ _ _) (fun _ => rfl) (fun k j a b => mW_o _ _ _ _ _ (by omega) (by omega)) (hnd_W h.2.1 x) hw
theorem PS.ch {b : Nat → Int32} {n T : Nat} {Q : tkQ} {X : List Int32 → Prop} {FO : List fT} {Z : List zT} {PL : List qT} {cl ml : Nat} {F : Nat} {N : List lT} {p v c m wh : Nat} {W : List wT} {σ τ : lj_S} (h : PS b n T Q X F N FO Z PL cl ml p v c m wh W σ τ) (j : Nat) (hj : j = 61 ∨ j = 62 ∨ j = 63 ∨ j = 64) (x : Int32) : PS b n T Q X F N FO Z PL cl ml p v c m wh W σ (lj_put τ 0 j x) ∧ GR N N F F p p c c m m σ τ σ (lj_put τ 0 j x) :=
  h.mm (lf_put (lf_rf _ _) _ _ _ (by rcases hj with e | e | e | e <;> rw [e] <;> rfl)) (fun _ => rfl) (fun k i a b => by rw [lj_put_1, if_neg (by omega)]) (hnd_ch h.2.1 0 j x ⟨rfl, hj⟩) h.2.2.1.2.2.2.2.2
theorem PS.cc {b : Nat → Int32} {n T : Nat} {Q : tkQ} {X : List Int32 → Prop} {FO : List fT} {Z : List zT} {PL : List qT} {cl ml : Nat} {F : Nat} {N : List lT} {p v c m wh : Nat} {W : List wT} {σ τ : lj_S} (h : PS b n T Q X F N FO Z PL cl ml p v c m wh W σ τ) (j : Nat) (hj : j = 16 ∨ j = 17) (x : Int32) : PS b n T Q X F N FO Z PL cl ml p v c m wh W (lj_put σ 6 j x) τ ∧ GR N N F F p p c c m m σ τ (lj_put σ 6 j x) τ := by
  have ha : aC 6 j = true := by rcases hj with e | e <;> rw [e] <;> rfl
  exact ⟨h.up (lf_put (lf_rf _ _) _ _ _ ha) (lf_rf _ _) (hnd_cc h.2.1 j x hj) h.2.2.1 (Nat.le_refl _) (Nat.le_refl _) (fun _ _ => rfl), putC_TX N σ τ 6 j x ha (by omega) τ (lf_rf _ _) rfl, lvX_rf _, (Nat.le_refl _), (Nat.le_refl _), (Nat.le_refl _), (Nat.le_refl _), fun k i a b _ _ => by rw [lj_put_1, if_neg (by omega)], fun _ _ _ _ _ _ => rfl⟩
theorem PS.st {b : Nat → Int32} {n T : Nat} {Q : tkQ} {X : List Int32 → Prop} {FO : List fT} {Z : List zT} {PL : List qT} {cl ml : Nat} {F : Nat} {N : List lT} {p v c m wh : Nat} {W : List wT} {σ τ : lj_S} (h : PS b n T Q X F N FO Z PL cl ml p v c m wh W σ τ) (hlt : p < T) : PS b n T Q X F N FO Z PL cl ml (p + 1) v c m wh W (lj_put σ 6 0 (Int32.ofNat (p + 1))) (lj_put τ 0 25 (Int32.ofNat (p + 1))) ∧ GR N N F F p (p + 1) c c m m σ τ (lj_put σ 6 0 (Int32.ofNat (p + 1))) (lj_put τ 0 25 (Int32.ofNat (p + 1))) := by
  have hb := h.2.2.1
  have h3 := hb.2.2.1
  have h4 := hb.2.2.2.1
  have h5 := hb.2.2.2.2.1
  have fM : lf aM τ (lj_put τ 0 25 (Int32.ofNat (p + 1))) := lf_put (lf_rf _ _) _ _ _ rfl
  exact ⟨h.up (lf_put (lf_rf _ _) _ _ _ rfl) fM (hnd_p h.2.1 (p + 1)) ⟨(by omega), hb.2.1, (by omega), (by omega), (by omega), hb.2.2.2.2.2⟩ (Nat.le_refl _) (Nat.le_refl _) (fun j _ => by rw [lj_put_1, if_neg (by omega)]), putC_TX N σ τ 6 0 _ rfl (by omega) _ fM rfl, lvX_rf _, (Nat.le_refl _), (by omega), (Nat.le_refl _), (Nat.le_refl _), fun k i a b _ _ => by rw [lj_put_1, if_neg (by omega)], fun k i a b _ _ => by rw [lj_put_1, if_neg (by omega)]⟩
/-- what lives at an act that is laid now -/
theorem PS.scl {b : Nat → Int32} {n T : Nat} {Q : tkQ} {X : List Int32 → Prop} {FO : List fT} {Z : List zT} {PL : List qT} {cl ml : Nat} {F : Nat} {N : List lT} {p v c m wh : Nat} {W : List wT} {σ τ : lj_S} (h : PS b n T Q X F N FO Z PL cl ml p v c m wh W σ τ) {a d m2 : Nat} {f : Nat} {s l : List Nat} {ha ho : Nat} (hN : hdN N f l) (hF : hdF ha ho FO s) (hT : T ≤ 520) {x1 x2 x3 x4 x5 : Int32} {τ1 σ2 τ2 : lj_S} {N1 : List lT} (g : LT N1 a (c + 1) d m2 (cP σ c x1 x2 x3 x4 x5) τ1 σ2 τ2) : scl σ2 f c s l 50 := by
  have c14 := h.c14 hT
  obtain ⟨z, R, e1, e2, e3⟩ := hN
  obtain ⟨fl, FO', e4, e5⟩ := hF.1
  have hS := h.1.2.2.2.2.2
  rw [e1, e4] at hS
  rw [← e2, ← e3]
  exact scl_mk hS.2 hS.1 (cP_lf _ _ _ _ _ _ _) (by unfold lv; rw [(cP_get _ _ _ _ _ _ _).2.2.2.2.2, lz_lit (by omega)]) g.1 (by omega) e5
theorem PS.pop {b : Nat → Int32} {n T : Nat} {Q : tkQ} {X : List Int32 → Prop} {FO : List fT} {Z : List zT} {PL : List qT} {cl ml : Nat} {F : Nat} {N : List lT} {p v c m wh : Nat} {W : List wT} {σ τ : lj_S} {x : wT} (h : PS b n T Q X F N FO Z PL cl ml p v c m wh (x :: W) σ τ) : PS b n T Q X F N FO Z PL cl ml p v c m wh W σ (lj_put τ 0 46 (Int32.ofNat W.length)) ∧ GR N N F F p p c c m m σ τ σ (lj_put τ 0 46 (Int32.ofNat W.length)) := by
  have hw := h.2.2.1.2.2.2.2.2
  rw [List.length_cons] at hw
  exact h.mm (lf_put (lf_rf _ _) _ _ _ rfl) (fun _ => rfl) (fun k i a b => by rw [lj_put_1, if_neg (by omega)]) (hnd_pop h.2.1) (by omega)
theorem nx1 {p v c m wh : Nat} {W : List wT} {σ τ : lj_S} (h : hnd p v c m wh W σ τ) : mNx 1 τ = mLoop τ := by unfold mNx; rw [if_neg (by decide), if_pos h.2.2.2.2.2.2.2.2.2]
theorem nx0 (τ : lj_S) : mNx 0 τ = mBad τ := by unfold mNx; rw [if_pos rfl]
/-- the model's step, whatever comes of it -/
theorem PS.go {b : Nat → Int32} {n T : Nat} {Q : tkQ} {X : List Int32 → Prop} {FO : List fT} {Z : List zT} {PL : List qT} {cl ml : Nat} {F : Nat} {N : List lT} {p v c m wh : Nat} {W : List wT} {σ τ : lj_S} {x1 x2 x3 x4 : Int32} (h : PS b n T Q X F N FO Z PL cl ml p v c m wh ((x1, x2, x3, x4) :: W) σ τ) {y : Int32} {τ' : lj_S} (hy : y = 0 ∨ y = 1) (e : lj_R lm_P 30 [.ref 0, .int x1, .int x2, .int x3, .int x4] (lj_put τ 0 46 (Int32.ofNat W.length)) = some (.inl (some (.int y)), τ')) : mLoop τ = mNx y τ' := by
  have hw := h.w4
  rw [List.length_cons] at hw
  rw [(m_iter h.2.1.2.2.2.2.2.2.2.2.1 (by omega)).1]
  show lj_bi (lj_R lm_P 30 [.ref 0, .int x1, .int x2, .int x3, .int x4] _) _ _ = _
  rw [e, bi_ok]
  rfl
/-- the same fault of both, at the token at hand -/
theorem PS.flt {b : Nat → Int32} {n T : Nat} {Q : tkQ} {X : List Int32 → Prop} {FO : List fT} {Z : List zT} {PL : List qT} {cl ml : Nat} {F : Nat} {N : List lT} {p v c m wh : Nat} {W : List wT} {σ τ : lj_S} (h : PS b n T Q X F N FO Z PL cl ml p v c m wh W σ τ) (hT : T ≤ 520) (q : Int32) (hq : q = 2 ∨ q = 3 ∨ q = 4) (σ1 : lj_S) : fltR n (some (.inr 1, cFl σ1 (fq (Q p).1 q) (Q p).2.1)) (mBad (mFl τ (fq (Q p).1 q) (Q p).2.1)) :=
  flt_mk (m := m) h.2.1.2.2.2.2.2.1 (by have := h.c14 hT; omega) (fq_ok _ hq) (h.1.1.2.2.2.2.1 p h.2.2.1.1).2.2.2.2.1
