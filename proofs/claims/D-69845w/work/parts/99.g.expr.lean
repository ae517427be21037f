/-! expressions: operands -/
/-- what lays a value comes to -/
def vlR (b : Nat → Int32) (n T : Nat) (Q : tkQ) (X : List Int32 → Prop) (FO : List fT) (Z : List zT) (PL : List qT) (cl ml : Nat) (v : Nat) (W : List wT) (f : Nat) (s l : List Nat) (N : List lT) (F p c m : Nat) (σ τ : lj_S) (oC oM : Option lj_O) : Prop :=
  fltR n oC oM ∨ ∃ σ' τ' p' c' m' wh' F' N', oC = some (.inl none, σ') ∧ oM = mLoop τ' ∧ PS b n T Q X F' N' FO Z PL cl ml p' v c' m' wh' W σ' τ' ∧ GR N N' F F' p p' c c' m m' σ τ σ' τ' ∧ p < p' ∧ c' + 20 ≤ c + 25 * (p' - p) ∧ m' + 20 ≤ m + 25 * (p' - p) ∧ exS f s l N' c m c' m' 0 σ' τ' ∧ τ'.1 0 64 = -1
/-- bodies of functions -/
def CB (b : Nat → Int32) (n T : Nat) (Q : tkQ) (X : List Int32 → Prop) (k : Nat) : Prop :=
  ∀ (F : Nat) (N : List lT) (FO : List fT) (Z : List zT) (PL : List qT) (cl ml : Nat) (p v c m wh : Nat) (W : List wT) (σ τ : lj_S) (f : Nat) (s l : List Nat) (me : Nat), T - p < k → PS b n T Q X F N FO Z PL cl ml p v c m wh ((19, Int32.ofNat me, 0, 0) :: W) σ τ → hdN N f l → hdF (16 * v + 78) (v + 4) FO s → me ≤ 1 → W.length + 20 ≤ 40 * v + 60 → N.length ≤ v → c + 5 ≤ 25 * p + 100 → m + 5 ≤ 25 * p + 100 →
    vlR b n T Q X FO Z PL cl ml v W f s l N F p c m σ τ (lj_R lc_P 81 [.ref 6, .int (Int32.ofNat me)] σ) (mLoop τ)
/-- tables -/
def CT (b : Nat → Int32) (n T : Nat) (Q : tkQ) (X : List Int32 → Prop) (k : Nat) : Prop :=
  ∀ (F : Nat) (N : List lT) (FO : List fT) (Z : List zT) (PL : List qT) (cl ml : Nat) (p v c m wh : Nat) (W : List wT) (σ τ : lj_S) (f : Nat) (s l : List Nat), T - p < k → PS b n T Q X F N FO Z PL cl ml p v c m wh W σ τ → hdN N f l → hdF (16 * v + 64) (v + 4) FO s → W.length + 20 ≤ 40 * v + 60 → (Q p).1 = 62 →
    ∃ y τ1, lj_R lm_P 62 [.ref 0] τ = some (.inl (some (.int y)), τ1) ∧ (y = 0 ∨ y = 1) ∧ vlR b n T Q X FO Z PL cl ml v W f s l N F p c m σ τ (lj_R lc_P 85 [.ref 6] σ) (mNx y τ1)
/-- what a chain has laid, and what it is -/
def chS (f : Nat) (s l : List Nat) (N' : List lT) (c m c' m' : Nat) (what : Int32) (σ' τ' : lj_S) : Prop :=
  (what = 0 ∧ τ'.1 0 61 = 5 ∧ exS f s l N' c m c' m' 0 σ' τ') ∨
  (what = 1 ∧ τ'.1 0 61 = 4 ∧ ∃ m1, τ'.1 0 62 = Int32.ofNat m1 ∧ exS f s l N' c m c' m' 1 σ' (lj_put τ' 0 64 (Int32.ofNat m1))) ∨
  (∃ srt v v' a a', (what = 3 ∨ what = 4 ∨ what = 5) ∧ whS what srt ∧ τ'.1 0 61 = srt ∧ chN N' a a' what srt v v' ∧ v < 2600 ∧ v' < 3000 ∧ σ'.1 6 16 = Int32.ofNat v ∧ τ'.1 0 62 = Int32.ofNat v' ∧ σ'.1 6 17 = τ'.1 0 63 ∧ (what = 5 → sE σ' τ' v v') ∧ c' = c ∧ m' = m) ∨
  (what = 6 ∧ τ'.1 0 61 = 3 ∧ σ'.1 6 17 = τ'.1 0 63 ∧ ∀ σ2 τ2, TX N' σ' τ' σ2 τ2 → fz c c' m m' σ' τ' σ2 τ2 → seg σ2 τ2 (f, c, m, s, l, 50) (fun y => y = (f, c', m', 0 :: 0 :: s, l, 50)))
/-- chains -/
def CC (b : Nat → Int32) (n T : Nat) (Q : tkQ) (X : List Int32 → Prop) (k : Nat) : Prop :=
  ∀ (F : Nat) (N : List lT) (FO : List fT) (Z : List zT) (PL : List qT) (cl ml : Nat) (p v c m wh : Nat) (W : List wT) (σ τ : lj_S) (f : Nat) (s l : List Nat), T - p < k → PS b n T Q X F N FO Z PL cl ml p v c m wh ((7, 0, 0, 0) :: W) σ τ → hdN N f l → hdF (16 * v + 62) (v + 3) FO s → W.length + 25 ≤ 40 * v + 60 →
    fltR n (lj_R lc_P 87 [.ref 6] σ) (mLoop τ) ∨ ∃ what σ' τ' p' c' m' wh' F' N', lj_R lc_P 87 [.ref 6] σ = some (.inl (some (.int what)), σ') ∧ mLoop τ = mLoop τ' ∧ PS b n T Q X F' N' FO Z PL cl ml p' v c' m' wh' W σ' τ' ∧ GR N N' F F' p p' c c' m m' σ τ σ' τ' ∧ p < p' ∧ c' + 12 ≤ c + 25 * (p' - p) ∧ m' + 12 ≤ m + 25 * (p' - p) ∧ chS f s l N' c m c' m' what σ' τ'
/-- the name or item at hand comes uppermost in both -/
theorem ch_get {b : Nat → Int32} {n T : Nat} {Q : tkQ} {X : List Int32 → Prop} {F : Nat} {N : List lT} {FO : List fT} {Z : List zT} {PL : List qT} {cl ml p v c m wh : Nat} {W : List wT} {σ τ : lj_S} (h : PS b n T Q X F N FO Z PL cl ml p v c m wh W σ τ) {f : Nat} {s l : List Nat} {ha ho : Nat} (hN : hdN N f l) (hFO : hdF ha ho FO s) {c0 m0 : Nat} {what : Int32} (hS : chS f s l N c0 m0 c m what σ τ) (hw : what = 3 ∨ what = 4 ∨ what = 5 ∨ what = 6) (hc0 : c0 ≤ c) (hm0 : m0 ≤ m) (hc : c + 1 ≤ 25 * p + 100) (hm : m + 1 ≤ 25 * p + 100) (hT5 : T ≤ 520) (hB : sB s := by assumption) :
    ∃ σ' τ', lj_R lc_P 78 [.ref 6, .int what] σ = some (.inl none, σ') ∧ lj_R lm_P 53 [.ref 0] τ = some (.inl none, τ') ∧ PS b n T Q X F N FO Z PL cl ml p v (c + 1) (m + 1) wh W σ' τ' ∧ exS f s l N c0 m0 (c + 1) (m + 1) 0 σ' τ' ∧ TX N σ τ σ' τ' ∧ fz 0 c 0 m σ τ σ' τ' ∧ lf aC σ σ' ∧ lf aM τ τ' ∧ (∀ j, j = 61 ∨ j = 62 ∨ j = 63 ∨ j = 64 → τ'.1 0 j = τ.1 0 j) ∧ (∀ j, j = 16 ∨ j = 17 → σ'.1 6 j = σ.1 6 j) := by
  have hb := h.2.2.1
  have hb1 := hb.1
  have h1 := h.2.1
  have c14 : c < 14000 := by omega
  have m14 : m < 14000 := by omega
  have hml : ml ≤ m := h.2.2.2.2.2
  obtain ⟨srt, hws, h61⟩ : ∃ srt, whS what srt ∧ τ.1 0 61 = srt := by
    rcases hS with ⟨q, _⟩ | ⟨q, _⟩ | ⟨srt, v1, v1', a, a', q, q1, q2, _⟩ | ⟨q, q1, _⟩
    · rw [q] at hw; exact absurd hw (by decide)
    · rw [q] at hw; exact absurd hw (by decide)
    · exact ⟨srt, q1, q2⟩
    · exact ⟨3, Or.inr (Or.inr (Or.inr ⟨q, rfl⟩)), q1⟩
  have eC := c_get h1.2.2.2.2.1 c14 what srt hws
  have eM := m_discharge h1.2.2.2.2.2.1 m14 what (by rw [h61]; exact hws)
  generalize hxa : (if what = 6 then 0 else σ.1 6 16) = xa at eC
  generalize hxl : (if what = 5 ∨ what = 6 then σ.1 6 17 else 0) = xl at eC
  generalize hya : (if what = 6 then 0 else τ.1 0 62) = ya at eM
  have g := cP_get σ c (actG what) xa 0 0 xl
  have gm := mP_get τ m (actG what) ya 0 (τ.1 0 63)
  have fC := cP_lf σ c (actG what) xa 0 0 xl
  have fM := mP_lf τ m (actG what) ya 0 (τ.1 0 63)
  have hh := hnd_M (hnd_C h1 (actG what) xa 0 0 xl) (actG what) ya 0 (τ.1 0 63)
  have oC : ∀ k i, ¬ (22 ≤ k ∧ k ≤ 26 ∧ i = c) → ¬ (k = 5 ∧ i = 0) → (cP σ c (actG what) xa 0 0 xl).1 k i = σ.1 k i := fun k i a b => cP_o _ _ _ _ _ _ _ _ _ a b
  have oM : ∀ k i, ¬ (20 ≤ k ∧ k ≤ 23 ∧ i = m) → ¬ (k = 0 ∧ i = 41) → (mP τ m (actG what) ya 0 (τ.1 0 63)).1 k i = τ.1 k i := fun k i a b => mP_o _ _ _ _ _ _ _ _ a b
  have tx : TX N σ τ (cP σ c (actG what) xa 0 0 xl) (mP τ m (actG what) ya 0 (τ.1 0 63)) := (cP_TX N σ τ c h1.2.2.2.2.1 c14 _ _ _ _ _).tr (mP_TX N _ τ m _ _ _ _) (fun _ _ q => q)
  have z : fz 0 c 0 m σ τ (cP σ c (actG what) xa 0 0 xl) (mP τ m (actG what) ya 0 (τ.1 0 63)) := (cP_fz σ τ c m _ _ _ _ _).tr (mP_fz _ τ c m _ _ _ _)
  refine ⟨_, _, eC, eM, h.up fC fM hh ⟨hb.1, hb.2.1, hc, hm, hb.2.2.2.2⟩ (by omega) (by omega) (fun i hi => oM 21 i (by omega) (by omega)), ?_, tx, z, fC, fM, fun j hj => oM 0 j (by omega) (by omega), fun j hj => oC 6 j (by omega) (by omega)⟩
  refine Or.inl ⟨rfl, fun σ2 τ2 t2 z2 => ?_⟩
  have tt : TX N σ τ σ2 τ2 := tx.tr t2 (fun _ _ q => q)
  have x22 : σ2.1 22 c = actG what := by rw [z2.1 22 c (by omega) (by omega) (by omega) (by omega)]; exact g.1
  have x23 : σ2.1 23 c = xa := by rw [z2.1 23 c (by omega) (by omega) (by omega) (by omega)]; exact g.2.1
  have x26 : σ2.1 26 c = xl := by rw [z2.1 26 c (by omega) (by omega) (by omega) (by omega)]; exact g.2.2.2.2.1
  have y20 : τ2.1 20 m = actG what := by rw [z2.2 20 m (by omega) (by omega) (by omega) (by omega)]; exact gm.1
  have y21 : τ2.1 21 m = ya := by rw [z2.2 21 m (by omega) (by omega) (by omega) (by omega)]; exact gm.2.1
  have y23 : τ2.1 23 m = τ.1 0 63 := by rw [z2.2 23 m (by omega) (by omega) (by omega) (by omega)]; exact gm.2.2.2.1
  obtain ⟨zz, R, eN, ez, el⟩ := hN
  rcases hS with ⟨q, _⟩ | ⟨q, _⟩ | ⟨srt', v1, v1', a, a', q, q1, q2, q3, q4, q5, q6, q7, q8, q9, q10, q11⟩ | ⟨q, q1, q2, q3⟩
  · rw [q] at hw; exact absurd hw (by decide)
  · rw [q] at hw; exact absurd hw (by decide)
  · subst q10 q11
    have n6 : ¬ (what = 6) := by rcases q with e | e | e <;> rw [e] <;> decide
    rw [if_neg n6] at hxa hya
    rcases q3 with ⟨r1, r2, r3, z', R', r4, r5⟩ | ⟨r1, r2, r3, z', R', r4, r5⟩ | ⟨r1, r2, r3, r4⟩
    · subst r1
      rw [eN] at r4
      have e1 := (List.cons.inj r4).1
      refine seg_in [(f, c + 1, m + 1, 0 :: s, l, 50)] ⟨5, v1, ?_, ?_, ?_, ?_, ?_, rfl⟩ (fun y hy => by rw [List.mem_singleton.1 hy]; exact seg_ex rfl)
      · show v1 ∈ l
        obtain ⟨e, e2, e3, e4⟩ := knF_mem _ _ _ r5
        rw [← el, e1]
        exact List.mem_map.2 ⟨e, e2, e4⟩
      · show σ2.1 22 c = 6; rw [x22]; rfl
      · show σ2.1 23 c = _; rw [x23, ← hxa]; exact q6
      · show τ2.1 20 m = 6; rw [y20]; rfl
      · show τ2.1 21 m = _; rw [y21, ← hya, r3]; exact q7
    · subst r1
      rw [eN] at r4
      have e1 := (List.cons.inj r4).1
      refine seg_in [(f, c + 1, m + 1, 0 :: s, l, 50)] ⟨6, v1, ?_, ?_, ?_, ?_, ?_, rfl⟩ (fun y hy => by rw [List.mem_singleton.1 hy]; exact seg_ex rfl)
      · show (v1 : Int) < lv σ2 33 f
        have hnr := h.1.2.2.1.1
        rw [eN] at hnr
        have hcp := hnr.1.2.2.2.2.2
        have hzF : zz.1 < F := h.1.2.2.2.2.1 zz (by rw [eN]; exact List.mem_cons_self)
        have hF8 : lv σ 5 8 = (F : Int) := by unfold lv; rw [h.1.2.2.2.1.1, lz_lit (by have := h.1.2.2.2.1.2.2.1; omega)]
        have mono := (tt.2.2.2.2.2.2.1 zz.1 (by omega)).2.2.2.2
        have e33 : lv σ 33 zz.1 = (zz.2.2.length : Int) := by unfold lv; rw [hcp.1, lz_lit (by have := hcp.2.1; omega)]
        rw [← ez]
        rw [e1] at e33 mono ⊢
        omega
      · show σ2.1 22 c = 7; rw [x22]; rfl
      · show σ2.1 23 c = _; rw [x23, ← hxa]; exact q6
      · show τ2.1 20 m = 7; rw [y20]; rfl
      · show τ2.1 21 m = _; rw [y21, ← hya, r3]; exact q7
    · subst r1
      refine seg_in [(f, c + 1, m + 1, 0 :: s, l, 50)] ⟨7, ?_, ?_, ⟨v1, v1', q4, q5, ?_, ?_, (q9 rfl).up tt.1⟩, rfl⟩ (fun y hy => by rw [List.mem_singleton.1 hy]; exact seg_ex rfl)
      · show σ2.1 22 c = 8; rw [x22]; rfl
      · show τ2.1 20 m = 8; rw [y20]; rfl
      · show σ2.1 23 c = _; rw [x23, ← hxa]; exact q6
      · show τ2.1 21 m = _; rw [y21, ← hya]; exact q7
  · subst q
    have s1 := q3 σ2 τ2 tt ((z.mo (by omega) (by omega) (by omega) (by omega)).tr (z2.mo (by omega) (by omega) (by omega) (by omega)))
    refine s1.tr (fun y hy => ?_)
    rw [hy]
    obtain ⟨fl, FO', eF, ef⟩ := hFO.1
    have hS4 := h.1.2.2.2.2.2
    have hscl : scl σ2 f c s l 50 := by
      rw [← ez, ← el]
      rw [eN, eF] at hS4
      exact scl_mk hS4.2 hS4.1 fC (by unfold lv; rw [g.2.2.2.2.2, lz_lit (by omega)]) ((mP_TX N (cP σ c (actG 6) xa 0 0 xl) τ m _ _ _ _).tr t2 (fun _ _ q => q)) c14 ef
    refine seg_in [(f, c + 1, m + 1, 0 :: s, l, 50)] ⟨12, s, rfl, ?_, ?_, ?_, hscl, rfl⟩ (fun y hy => by rw [List.mem_singleton.1 hy]; exact seg_ex rfl)
    · show σ2.1 22 c = 12; rw [x22]; rfl
    · show τ2.1 20 m = 12; rw [y20]; rfl
    · show σ2.1 26 c = τ2.1 23 m; rw [x26, y23, ← hxl, if_pos (Or.inr rfl)]; exact q2
