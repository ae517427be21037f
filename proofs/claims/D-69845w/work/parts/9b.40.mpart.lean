/-! the gathering: a part of the model is gone through -/
/-- objects among values of the model, among slots of the component -/
def mX (τ : lj_S) (p mb me x : Nat) : Prop := ∃ j, mb ≤ j ∧ j < me ∧ x = ov (mv τ (10000 * p + j))
def cX (σ : lj_S) (ob ce x : Nat) : Prop := ∃ j, ob ≤ j ∧ j < ce ∧ x = ov (cv σ j)
def hX (σ : lj_S) (hb : Nat) (s : List Nat) (x : Nat) : Prop := ∃ d e, e < 3 ∧ (flo s)[d]? = some 4 ∧ x = ov (cv σ (hb + 3 * d + e))
theorem mX_add {τ : lj_S} {p mb me x : Nat} (h : mb ≤ me) (r : Nat) : mX τ p mb (me + r) x ↔ mX τ p mb me x ∨ ∃ i, i < r ∧ x = ov (mv τ (10000 * p + me + i)) := by
  constructor
  · rintro ⟨j, j1, j2, j3⟩
    by_cases z : j < me
    · exact Or.inl ⟨j, j1, z, j3⟩
    · refine Or.inr ⟨j - me, by omega, ?_⟩
      rw [show 10000 * p + me + (j - me) = 10000 * p + j by omega]
      exact j3
  · rintro (⟨j, j1, j2, j3⟩ | ⟨i, i1, i2⟩)
    · exact ⟨j, j1, by omega, j3⟩
    · exact ⟨me + i, by omega, by omega, by rw [i2, Nat.add_assoc]⟩
theorem cX_add {σ : lj_S} {ob ce x : Nat} (h : ob ≤ ce) (r : Nat) : cX σ ob (ce + r) x ↔ cX σ ob ce x ∨ ∃ i, i < r ∧ x = ov (cv σ (ce + i)) := by
  constructor
  · rintro ⟨j, j1, j2, j3⟩
    by_cases z : j < ce
    · exact Or.inl ⟨j, j1, z, j3⟩
    · refine Or.inr ⟨j - ce, by omega, ?_⟩
      rw [show ce + (j - ce) = j by omega]
      exact j3
  · rintro (⟨j, j1, j2, j3⟩ | ⟨i, i1, i2⟩)
    · exact ⟨j, j1, by omega, j3⟩
    · exact ⟨ce + i, by omega, by omega, i2⟩
theorem mX_1 {τ : lj_S} {p mb me x : Nat} (h : mb ≤ me) : mX τ p mb (me + 1) x ↔ mX τ p mb me x ∨ x = ov (mv τ (10000 * p + me)) := by
  rw [mX_add h 1]
  constructor
  · rintro (z | ⟨i, i1, i2⟩)
    · exact Or.inl z
    · rw [show i = 0 by omega] at i2; exact Or.inr i2
  · rintro (z | z)
    · exact Or.inl z
    · exact Or.inr ⟨0, by omega, z⟩
theorem cX_1 {σ : lj_S} {ob ce x : Nat} (h : ob ≤ ce) : cX σ ob (ce + 1) x ↔ cX σ ob ce x ∨ x = ov (cv σ ce) := by
  rw [cX_add h 1]
  constructor
  · rintro (z | ⟨i, i1, i2⟩)
    · exact Or.inl z
    · rw [show i = 0 by omega] at i2; exact Or.inr i2
  · rintro (z | z)
    · exact Or.inl z
    · exact Or.inr ⟨0, by omega, z⟩
theorem hX_n {σ : lj_S} {hb y : Nat} {s : List Nat} {x : Nat} (h : ¬ (y = 3 ∨ y = 4)) : hX σ hb (y :: s) x ↔ hX σ hb s x := by
  unfold hX
  rw [flo_k, if_neg h]
theorem hX_3 {σ : lj_S} {hb : Nat} {s : List Nat} {x : Nat} : hX σ hb (3 :: s) x ↔ hX σ hb s x := by
  unfold hX
  rw [flo_k, if_pos (Or.inl rfl)]
  constructor
  · rintro ⟨d, e, h1, h2, h3⟩
    by_cases z : d < (flo s).length
    · rw [List.getElem?_append_left z] at h2
      exact ⟨d, e, h1, h2, h3⟩
    · exfalso
      rw [List.getElem?_append_right (by omega)] at h2
      obtain ⟨w, w2⟩ := List.getElem?_eq_some_iff.1 h2
      simp at w2
  · rintro ⟨d, e, h1, h2, h3⟩
    exact ⟨d, e, h1, by rw [List.getElem?_append_left (List.getElem?_eq_some_iff.1 h2).1]; exact h2, h3⟩
theorem hX_4 {σ : lj_S} {hb : Nat} {s : List Nat} {x : Nat} : hX σ hb (4 :: s) x ↔ hX σ hb s x ∨ ∃ e, e < 3 ∧ x = ov (cv σ (hb + 3 * (flo s).length + e)) := by
  unfold hX
  rw [flo_k, if_pos (Or.inr rfl)]
  constructor
  · rintro ⟨d, e, h1, h2, h3⟩
    by_cases z : d < (flo s).length
    · rw [List.getElem?_append_left z] at h2
      exact Or.inl ⟨d, e, h1, h2, h3⟩
    · have z' : d = (flo s).length := by
        rw [List.getElem?_append_right (by omega)] at h2
        obtain ⟨w, _⟩ := List.getElem?_eq_some_iff.1 h2
        simp at w
        omega
      rw [z'] at h3
      exact Or.inr ⟨e, h1, h3⟩
  · rintro (⟨d, e, h1, h2, h3⟩ | ⟨e, h1, h2⟩)
    · exact ⟨d, e, h1, by rw [List.getElem?_append_left (List.getElem?_eq_some_iff.1 h2).1]; exact h2, h3⟩
    · exact ⟨(flo s).length, e, h1, by rw [List.getElem?_append_right (Nat.le_refl _), Nat.sub_self]; rfl, h2⟩
theorem stk_le {σ τ : lj_S} {p hb ob mb kb : Nat} {s : List Nat} {ce me mq : Nat} {cm : Int32} (h : stk σ τ p hb ob mb kb s ce me mq cm) : ob ≤ ce ∧ mb ≤ me := by
  have := stk_bd h
  exact ⟨this.1, this.2.1⟩
/-- what lies on the stacks of a frame: the same objects in both -/
theorem stk_mc {σ τ : lj_S} {p hb ob mb kb : Nat} {x : Nat} (x0 : x ≠ 0) : ∀ {s : List Nat} {ce me mq : Nat} {cm : Int32}, stk σ τ p hb ob mb kb s ce me mq cm → (mX τ p mb me x ↔ hX σ hb s x ∨ cX σ ob ce x)
  | [], ce, me, mq, cm, h => by
    obtain ⟨h1, h2, _⟩ := h
    constructor
    · rintro ⟨j, j1, j2, _⟩; omega
    · rintro (⟨d, e, _, z, _⟩ | ⟨j, j1, j2, _⟩)
      · have : flo [] = [] := rfl
        rw [this] at z
        simp at z
      · omega
  | y :: s, ce, me, mq, cm, h => by
    rcases h with ⟨y1, ce', mq', cm', e1, _, _, ⟨e2, _⟩, _, h⟩ | ⟨y1, mq', _, _, h⟩ | ⟨y1, me', e1, e2, h⟩ | ⟨y1, r, ce', me', e1, e3, _, e2, h⟩ | ⟨y1, ce', me', e1, e3, e2, _, _, _, h⟩ | ⟨y1, ce', me', e1, e3, e2, e4, _, h⟩
    · have ih := stk_mc x0 h
      have z0 : ov (cv σ ce') = 0 := ov_k (by show ¬ (σ.1 79 ce' = 4 ∨ σ.1 79 ce' = 5 ∨ σ.1 79 ce' = 6); rw [e2]; decide)
      rw [ih, e1, cX_1 (stk_le h).1, hX_n (by rw [y1]; decide), z0]
      exact ⟨fun w => w.imp id Or.inl, fun w => w.imp id (fun v => v.resolve_right x0)⟩
    · rw [stk_mc x0 h, hX_n (by rw [y1]; decide)]
    · have ih := stk_mc x0 h
      rw [e1, mX_add (stk_le h).2 3, ih]
      rcases y1 with y1 | y1
      · rw [y1, hX_3]
        constructor
        · rintro (w | ⟨i, i1, i2⟩)
          · exact w
          · exfalso
            have k2 := (e2 i i1).2 y1
            have ve := (e2 i i1).1.oj.1
            rw [← ve] at i2
            refine x0 (i2.trans (ov_k ?_))
            show ¬ (σ.1 79 _ = 4 ∨ σ.1 79 _ = 5 ∨ σ.1 79 _ = 6)
            rw [k2]
            decide
        · exact Or.inl
      · rw [y1, hX_4]
        constructor
        · rintro ((w | w) | ⟨i, i1, i2⟩)
          · exact Or.inl (Or.inl w)
          · exact Or.inr w
          · exact Or.inl (Or.inr ⟨i, i1, by rw [(e2 i i1).1.oj.1]; exact i2⟩)
        · rintro ((w | ⟨i, i1, i2⟩) | w)
          · exact Or.inl (Or.inl w)
          · exact Or.inr ⟨i, i1, by rw [← (e2 i i1).1.oj.1]; exact i2⟩
          · exact Or.inl (Or.inr w)
    · have ih := stk_mc x0 h
      rw [e1, e3, mX_add (stk_le h).2 r, cX_add (stk_le h).1 r, ih, hX_n (by rw [y1]; decide)]
      constructor
      · rintro ((w | w) | ⟨i, i1, i2⟩)
        · exact Or.inl w
        · exact Or.inr (Or.inl w)
        · exact Or.inr (Or.inr ⟨i, i1, by rw [(e2 i i1).1.oj.1]; exact i2⟩)
      · rintro (w | w | ⟨i, i1, i2⟩)
        · exact Or.inl (Or.inl w)
        · exact Or.inl (Or.inr w)
        · exact Or.inr ⟨i, i1, by rw [← (e2 i i1).1.oj.1]; exact i2⟩
    · have ih := stk_mc x0 h
      have n34 : ¬ (y = 3 ∨ y = 4) := by rcases y1 with y1 | y1 | y1 <;> rw [y1] <;> decide
      rw [e1, e3, mX_1 (stk_le h).2, cX_1 (stk_le h).1, ih, hX_n n34, e2.oj.1]
      constructor
      · rintro ((w | w) | w)
        · exact Or.inl w
        · exact Or.inr (Or.inl w)
        · exact Or.inr (Or.inr w)
      · rintro (w | w | w)
        · exact Or.inl (Or.inl w)
        · exact Or.inl (Or.inr w)
        · exact Or.inr w
    · have ih := stk_mc x0 h
      have z1 : ov (cv σ ce') = 0 := ov_k (by show ¬ (σ.1 79 ce' = 4 ∨ σ.1 79 ce' = 5 ∨ σ.1 79 ce' = 6); rw [e2]; decide)
      have z2 : ov (mv τ (10000 * p + me')) = 0 := ov_k (by show ¬ (τ.1 71 _ = 4 ∨ τ.1 71 _ = 5 ∨ τ.1 71 _ = 6); rw [e4]; decide)
      rw [e1, e3, mX_1 (stk_le h).2, cX_1 (stk_le h).1, ih, hX_n (by rw [y1]; decide), z1, z2]
      constructor
      · rintro (w | w)
        · exact w.imp id Or.inl
        · exact absurd w x0
      · rintro (w | w | w)
        · exact Or.inl (Or.inl w)
        · exact Or.inl (Or.inr w)
        · exact absurd w x0
/-- the value of a local of the model -/
def clM (τ : lj_S) (ρ : Nat → Nat) (a : Nat) : vT := (τ.1 54 (ρ a), τ.2 55 (ρ a))
/-- what a frame of the text holds besides its values: the model's side -/
def fgM (τ : lj_S) (ρ : Nat → Nat) (F : kF) (x : Nat) : Prop := kS F = 0 ∧ x ≠ 0 ∧ (x = kO F ∨ ∃ y ∈ (kY F).2.2.2.2.1, x = ov (clM τ ρ (kB F + y)))
theorem frm_mc {σ0 τ0 σ τ : lj_S} {ρ : Nat → Nat} {q d : Nat} {F : kF} {ms ks ce me mq : Nat} (h : frm σ0 τ0 σ τ ρ q d F ms ks ce me mq) (hlv : kS F = 0 → ∀ y ∈ (kY F).2.2.2.2.1, vR σ τ (cv σ (kB F + y)) (clM τ ρ (kB F + y))) {x : Nat} (x0 : x ≠ 0) : (∃ j, ms ≤ j ∧ j < me ∧ x = ov (mv τ (10000 * q + j))) ∨ fgM τ ρ F x ↔ fgC σ0 σ F ce x := by
  obtain ⟨_, hf⟩ := h
  rcases hf with ⟨s0, t⟩ | ⟨s12, _, _, c1, c2, c3⟩
  · obtain ⟨_, _, t3, t4, _⟩ := t
    have mc := stk_mc x0 t4
    have bd := stk_bd t4
    have hB : kB F = kC F + kD F := rfl
    constructor
    · rintro (⟨j, j1, j2, j3⟩ | ⟨_, _, w | ⟨y, y1, y2⟩⟩)
      · by_cases z : j < ms + kD F
        · have := (t3 (j - ms) (by omega)).1.oj.1
          rw [show ms + (j - ms) = j by omega] at this
          exact ⟨s0, x0, Or.inr (Or.inl ⟨kC F + (j - ms), by omega, by omega, by rw [this]; exact j3⟩)⟩
        · rcases mc.1 ⟨j, by omega, j2, j3⟩ with w | w
          · exact ⟨s0, x0, Or.inr (Or.inr (Or.inr (Or.inl w)))⟩
          · exact ⟨s0, x0, Or.inr (Or.inr (Or.inr (Or.inr w)))⟩
      · exact ⟨s0, x0, Or.inl w⟩
      · exact ⟨s0, x0, Or.inr (Or.inr (Or.inl ⟨y, y1, by rw [(hlv s0 y y1).oj.1]; exact y2⟩))⟩
    · rintro ⟨_, _, w | ⟨j, j1, j2, j3⟩ | ⟨y, y1, y2⟩ | w | w⟩
      · exact Or.inr ⟨s0, x0, Or.inl w⟩
      · have := (t3 (j - kC F) (by omega)).1.oj.1
        rw [show kC F + (j - kC F) = j by omega] at this
        exact Or.inl ⟨ms + (j - kC F), by omega, by omega, by rw [j3, this]⟩
      · exact Or.inr ⟨s0, x0, Or.inr ⟨y, y1, by rw [← (hlv s0 y y1).oj.1]; exact y2⟩⟩
      · obtain ⟨j, j1, j2, j3⟩ := mc.2 (Or.inl w)
        exact Or.inl ⟨j, by omega, j2, j3⟩
      · obtain ⟨j, j1, j2, j3⟩ := mc.2 (Or.inr w)
        exact Or.inl ⟨j, by omega, j2, j3⟩
  · constructor
    · rintro (⟨j, j1, j2, _⟩ | ⟨w, _⟩) <;> omega
    · rintro ⟨w, _⟩; omega
theorem prt_mc {σ0 τ0 σ τ : lj_S} {ρ : Nat → Nat} {q : Nat} : ∀ {L : List kF} {ce me mq : Nat}, prt σ0 τ0 σ τ ρ q L ce me mq → (∀ F ∈ L, kS F = 0 → ∀ y ∈ (kY F).2.2.2.2.1, vR σ τ (cv σ (kB F + y)) (clM τ ρ (kB F + y))) → ∀ {x : Nat}, x ≠ 0 → ((∃ j, j < me ∧ x = ov (mv τ (10000 * q + j))) ∨ (∃ F ∈ L, fgM τ ρ F x) ↔ pCt σ0 σ L ce x)
  | [], ce, me, mq, h, _, x, x0 => by
    obtain ⟨_, h2, _⟩ := h
    constructor
    · rintro (⟨j, j1, _⟩ | ⟨F, hF, _⟩)
      · omega
      · cases hF
    · exact fun z => z.elim
  | F :: L, ce, me, mq, h, hlv, x, x0 => by
    obtain ⟨ms, ks, h1, h2, _⟩ := h
    have rg := frm_rg h2
    have ih := prt_mc h1 (fun G hG => hlv G (List.mem_cons_of_mem _ hG)) x0
    have fm := frm_mc h2 (hlv F List.mem_cons_self) x0
    show _ ↔ fgC σ0 σ F ce x ∨ pCt σ0 σ L (kC F) x
    rw [← fm, ← ih]
    constructor
    · rintro (⟨j, j1, j2⟩ | ⟨G, hG, w⟩)
      · by_cases z : j < ms
        · exact Or.inr (Or.inl ⟨j, z, j2⟩)
        · exact Or.inl (Or.inl ⟨j, by omega, j1, j2⟩)
      · rcases List.mem_cons.1 hG with e | e
        · rw [e] at w; exact Or.inl (Or.inr w)
        · exact Or.inr (Or.inr ⟨G, e, w⟩)
    · rintro ((⟨j, j1, j2, j3⟩ | w) | (⟨j, j1, j2⟩ | ⟨G, hG, w⟩))
      · exact Or.inl ⟨j, j2, j3⟩
      · exact Or.inr ⟨F, List.mem_cons_self, w⟩
      · exact Or.inl ⟨j, by omega, j2⟩
      · exact Or.inr ⟨G, List.mem_cons_of_mem _ hG, w⟩
theorem visM.o {n : Nat} {W L : Nat → Prop} {σ σ1 : lj_S} {Q Q1 : List Nat} (h : visM n W L σ Q σ1 Q1) {k j : Nat} (z : k ≠ 96 ∧ k ≠ 98 ∧ (k ≠ 0 ∨ j ≠ 157)) : σ1.1 k j = σ.1 k j ∧ σ1.2 k j = σ.2 k j := h.2.1 k j (by unfold gRM; simp; omega)
/-- a value that the model may reach -/
def gdM (n : Nat) (W : Nat → Prop) (a : vT) : Prop := wfM a ∧ ov a ≤ n ∧ (ov a ≠ 0 → W (ov a))
theorem vR.gm {σ τ : lj_S} {a b : vT} (h : vR σ τ a b) {n : Nat} (hn : lv σ 7 0 = (n : Int)) {W : Nat → Prop} (hW : ov b ≠ 0 → W (ov b)) : gdM n W b := by
  have := h.oj
  exact ⟨this.2.2.2.2.2, by have h1 := this.1; have h2 := this.2.1; omega, hW⟩
theorem gm_k {n : Nat} {W : Nat → Prop} {a : vT} (h : ¬ (a.1 = 4 ∨ a.1 = 5 ∨ a.1 = 6)) : gdM n W a := ⟨fun z => absurd z h, by rw [ov_k h]; omega, fun z => absurd (ov_k h) z⟩
/-- values -/
theorem m_rval {n : Nat} (hn : n ≤ 2000) {W : Nat → Prop} {q me : Nat} (hq : q < 26) (hme : me ≤ 10000) : ∀ (d k : Nat) (τ : lj_S) (Q : List Nat), k + d = me → τ.1 63 q = Int32.ofNat me → (∀ j, k ≤ j → j < me → gdM n W (mv τ (10000 * q + j))) → wqM n τ Q → ∃ τ' Q', lj_D lm_P lm_M211 44 [.ref 0, .int (Int32.ofNat q), .int (Int32.ofNat k), .retAddr 0, .retAddr 0, .retAddr 0] [] τ = lj_D lm_P lm_M211 90 [.ref 0, .int (Int32.ofNat q), .int 0, .retAddr 0, .retAddr 0, .retAddr 0] [] τ' ∧ visM n W (fun x => x ≠ 0 ∧ ∃ j, k ≤ j ∧ j < me ∧ x = ov (mv τ (10000 * q + j))) τ Q τ' Q'
  | 0, k, τ, Q, hd, h63, hv, hm => by
    have iq : lj_in (Int32.ofNat q) 26 := ofN_in (by omega) (by omega)
    have nq : (Int32.ofNat q).toNatClampNeg = q := lz_onat (by omega)
    refine ⟨τ, Q, ?_, (vis.rf hm).mo (fun x ⟨_, j, j1, j2, _⟩ => by omega)⟩
    rw [km_211_44]; simp only [if_pos iq, nq]; rw [h63, if_pos ((ofN_le (by omega) (by omega)).2 (by omega))]
  | d + 1, k, τ, Q, hd, h63, hv, hm => by
    have iq : lj_in (Int32.ofNat q) 26 := ofN_in (by omega) (by omega)
    have nq : (Int32.ofNat q).toNatClampNeg = q := lz_onat (by omega)
    have ea : (10000 : Int32) * Int32.ofNat q + Int32.ofNat k = Int32.ofNat (10000 * q + k) := by rw [show (10000 : Int32) = Int32.ofNat 10000 from rfl, ← Int32.ofNat_mul, ← Int32.ofNat_add]
    have ia : lj_in (Int32.ofNat (10000 * q + k)) 260000 := ofN_in (by omega) (by omega)
    have na : (Int32.ofNat (10000 * q + k)).toNatClampNeg = 10000 * q + k := lz_onat (by omega)
    obtain ⟨g1, g2, g3⟩ := hv k (Nat.le_refl _) (by omega)
    obtain ⟨τ1, Q1, r1, r2⟩ := m_reach hn hm (a := mv τ (10000 * q + k)) g1 g2 (W := W) g3
    have r1 : lj_R lm_P 210 [.ref 0, .int (τ.1 71 (10000 * q + k)), .long (τ.2 72 (10000 * q + k))] τ = some (.inl none, τ1) := r1
    have em : ∀ j, mv τ1 j = mv τ j := fun j => by unfold mv; rw [(visM.o r2 (k := 71) (j := j) (by omega)).1, (visM.o r2 (k := 72) (j := j) (by omega)).2]
    obtain ⟨τ2, Q2, s1, s2⟩ := m_rval hn hq hme d (k + 1) τ1 Q1 (by omega) (by rw [(visM.o r2 (k := 63) (j := q) (by omega)).1]; exact h63) (fun j j1 j2 => by rw [em]; exact hv j (by omega) j2) r2.1
    refine ⟨τ2, Q2, ?_, (r2.tr s2).mo (fun x ⟨x0, j, j1, j2, j3⟩ => ?_)⟩
    · rw [km_211_44]; simp only [if_pos iq, nq]; rw [h63, if_neg (fun z => by have := (ofN_le (by omega) (by omega)).1 z; omega), ea]; simp only [if_pos ia, na]; rw [r1, bv_ok, lz_osucc]
      exact s1
    · by_cases z : j = k
      · left; rw [← z]; exact ⟨j3, x0⟩
      · right; exact ⟨x0, j, by omega, j2, by rw [em]; exact j3⟩
/-- cells of the locals of a frame -/
theorem m_rcel {n : Nat} (hn : n ≤ 2000) {W : Nat → Prop} {i : Nat} (hi : i < 1248) (x1 x2 : Int32) : ∀ (d k : Nat) (τ : lj_S) (Q : List Nat) (X5 : Value), k + d = 50 → (∀ y, k ≤ y → y < 50 → τ.1 87 (50 * i + y) = -1 ∨ ∃ c : Nat, c < 95000 ∧ τ.1 87 (50 * i + y) = Int32.ofNat c ∧ gdM n W (τ.1 54 c, τ.2 55 c)) → wqM n τ Q → ∃ τ' Q' X4 X5', lj_D lm_P lm_M211 144 [.ref 0, .int x1, .int x2, .int (Int32.ofNat i), .int (Int32.ofNat k), X5] [] τ = lj_D lm_P lm_M211 194 [.ref 0, .int x1, .int x2, .int (Int32.ofNat i), X4, X5'] [] τ' ∧ visM n W (fun x => x ≠ 0 ∧ ∃ y c : Nat, k ≤ y ∧ y < 50 ∧ c < 95000 ∧ τ.1 87 (50 * i + y) = Int32.ofNat c ∧ x = ov (τ.1 54 c, τ.2 55 c)) τ Q τ' Q'
  | 0, k, τ, Q, X5, hd, hv, hm => by
    refine ⟨τ, Q, .int (Int32.ofNat k), X5, ?_, (vis.rf hm).mo (fun x ⟨_, y, c, j1, j2, _⟩ => by omega)⟩
    rw [km_211_144, if_pos (by rw [show (50 : Int32) = Int32.ofNat 50 from rfl]; exact (ofN_le (by omega) (by omega)).2 (by omega))]
  | d + 1, k, τ, Q, X5, hd, hv, hm => by
    have ea : (50 : Int32) * Int32.ofNat i + Int32.ofNat k = Int32.ofNat (50 * i + k) := by rw [show (50 : Int32) = Int32.ofNat 50 from rfl, ← Int32.ofNat_mul, ← Int32.ofNat_add]
    have ia : lj_in (Int32.ofNat (50 * i + k)) 62400 := ofN_in (by omega) (by omega)
    have na : (Int32.ofNat (50 * i + k)).toNatClampNeg = 50 * i + k := lz_onat (by omega)
    have l50 : ¬ ((50 : Int32) ≤ Int32.ofNat k) := by
      rw [show (50 : Int32) = Int32.ofNat 50 from rfl]
      intro z
      have := (ofN_le (by omega) (by omega)).1 z
      omega
    have rest : ∀ (τ1 : lj_S) (Q1 : List Nat) (M : Nat → Prop) (y5 : Int32), visM n W M τ Q τ1 Q1 → (∀ c : Nat, c < 95000 → τ.1 87 (50 * i + k) = Int32.ofNat c → ∀ x, x ≠ 0 → x = ov (τ.1 54 c, τ.2 55 c) → M x) → ∃ τ' Q' X4 X5', lj_D lm_P lm_M211 188 [.ref 0, .int x1, .int x2, .int (Int32.ofNat i), .int (Int32.ofNat k), .int y5] [] τ1 = lj_D lm_P lm_M211 194 [.ref 0, .int x1, .int x2, .int (Int32.ofNat i), X4, X5'] [] τ' ∧ visM n W (fun x => x ≠ 0 ∧ ∃ y c : Nat, k ≤ y ∧ y < 50 ∧ c < 95000 ∧ τ.1 87 (50 * i + y) = Int32.ofNat c ∧ x = ov (τ.1 54 c, τ.2 55 c)) τ Q τ' Q' := fun τ1 Q1 M y5 hv1 hM => by
      have c : ∀ k j, k ≠ 96 → k ≠ 98 → (k ≠ 0 ∨ j ≠ 157) → τ1.1 k j = τ.1 k j ∧ τ1.2 k j = τ.2 k j := fun k j z1 z2 z3 => visM.o hv1 ⟨z1, z2, z3⟩
      obtain ⟨τ2, Q2, X4, X5', s1, s2⟩ := m_rcel hn hi x1 x2 d (k + 1) τ1 Q1 (.int y5) (by omega) (fun y y1 y2 => by
        rw [(c 87 _ (by omega) (by omega) (by omega)).1]
        refine (hv y (by omega) y2).imp id (fun ⟨x, w1, w2, w3⟩ => ⟨x, w1, w2, ?_⟩)
        rw [(c 54 x (by omega) (by omega) (by omega)).1, (c 55 x (by omega) (by omega) (by omega)).2]
        exact w3) hv1.1
      refine ⟨τ2, Q2, X4, X5', by rw [km_211_188, lz_osucc]; exact s1, (hv1.tr s2).mo (fun x ⟨x0, y, e, y1, y2, e1, e2, e3⟩ => ?_)⟩
      by_cases z : y = k
      · left
        rw [z] at e2
        exact hM e e1 e2 x x0 e3
      · right
        exact ⟨x0, y, e, by omega, y2, e1, by rw [(c 87 _ (by omega) (by omega) (by omega)).1]; exact e2, by rw [(c 54 e (by omega) (by omega) (by omega)).1, (c 55 e (by omega) (by omega) (by omega)).2]; exact e3⟩
    rw [km_211_144, if_neg l50, ea]; simp only [if_pos ia, na]
    rcases hv k (Nat.le_refl _) (by omega) with z | ⟨c, c1, c2, c3⟩
    · rw [z, if_pos (by decide)]
      refine rest τ Q _ _ (vis.rf hm) (fun c c1 c2 => ?_)
      rw [z] at c2
      have : (Int32.ofNat c).toInt = -1 := by rw [← c2]; rfl
      rw [lz_lit (by omega)] at this
      omega
    · have ic : lj_in (Int32.ofNat c) 95000 := ofN_in (by omega) (by omega)
      have nc : (Int32.ofNat c).toNatClampNeg = c := lz_onat (by omega)
      obtain ⟨τ1, Q1, r1, r2⟩ := m_reach hn hm (a := (τ.1 54 c, τ.2 55 c)) c3.1 c3.2.1 (W := W) c3.2.2
      have r1 : lj_R lm_P 210 [.ref 0, .int (τ.1 54 c), .long (τ.2 55 c)] τ = some (.inl none, τ1) := r1
      rw [c2, if_neg (ofN_nneg (by omega))]; simp only [if_pos ic, nc]; rw [r1, bv_ok]
      refine rest τ1 Q1 _ _ r2 (fun c' d1 d2 x x0 x1 => ?_)
      rw [c2] at d2
      have : c = c' := (ofN_eq (by omega) (by omega)).1 d2
      rw [← this] at x1
      exact ⟨x1, x0⟩
/-- last acts of a gathering frame -/
theorem m_ract {n : Nat} (hn : n ≤ 2000) {W : Nat → Prop} {i e : Nat} (hi : i < 1248) (he : e ≤ 4004) (x1 x2 : Int32) : ∀ (d a : Nat) (τ : lj_S) (Q : List Nat) (X5 : Value), a + d = e → τ.1 74 i = 2 → τ.1 85 i = Int32.ofNat e → (∀ b, a ≤ b → b < e → ∃ o : Nat, τ.1 95 b = Int32.ofNat o ∧ 1 ≤ o ∧ o ≤ n ∧ W o) → wqM n τ Q → ∃ τ' Q', lj_D lm_P lm_M211 202 [.ref 0, .int x1, .int x2, .int (Int32.ofNat i), .int (Int32.ofNat a), X5] [] τ = lj_D lm_P lm_M211 242 [.ref 0, .int x1, .int x2, .int (Int32.ofNat i), .int (Int32.ofNat e), X5] [] τ' ∧ visM n W (fun x => x ≠ 0 ∧ x ≤ n ∧ ∃ b, a ≤ b ∧ b < e ∧ τ.1 95 b = Int32.ofNat x) τ Q τ' Q'
  | 0, a, τ, Q, X5, hd, h74, h85, hv, hm => by
    have ii : lj_in (Int32.ofNat i) 1248 := ofN_in (by omega) (by omega)
    have ni : (Int32.ofNat i).toNatClampNeg = i := lz_onat (by omega)
    refine ⟨τ, Q, ?_, (vis.rf hm).mo (fun x ⟨_, _, b, j1, j2, _⟩ => by omega)⟩
    rw [km_211_202]; simp only [if_pos ii, ni]; rw [h74, if_pos rfl, h85, if_pos ((ofN_le (by omega) (by omega)).2 (by omega)), show a = e by omega]
  | d + 1, a, τ, Q, X5, hd, h74, h85, hv, hm => by
    have ii : lj_in (Int32.ofNat i) 1248 := ofN_in (by omega) (by omega)
    have ni : (Int32.ofNat i).toNatClampNeg = i := lz_onat (by omega)
    have ia : lj_in (Int32.ofNat a) 4004 := ofN_in (by omega) (by omega)
    have na : (Int32.ofNat a).toNatClampNeg = a := lz_onat (by omega)
    obtain ⟨o, o1, o2, o3, o4⟩ := hv a (Nat.le_refl _) (by omega)
    have om : ov (4, i64 o) = o := ov_ob (Or.inl rfl) (by omega)
    obtain ⟨τ1, Q1, r1, r2⟩ := m_reach hn hm (a := (4, i64 o)) (fun _ => by rw [om]) (by rw [om]; exact o3) (W := W) (by rw [om]; exact fun _ => o4)
    have r1 : lj_R lm_P 210 [.ref 0, .int 4, .long (Int32.ofNat o).toInt64] τ = some (.inl none, τ1) := r1
    have c : ∀ k j, k ≠ 96 → k ≠ 98 → (k ≠ 0 ∨ j ≠ 157) → τ1.1 k j = τ.1 k j := fun k j z1 z2 z3 => (visM.o r2 ⟨z1, z2, z3⟩).1
    obtain ⟨τ2, Q2, s1, s2⟩ := m_ract hn hi he x1 x2 d (a + 1) τ1 Q1 X5 (by omega) (by rw [c 74 i (by omega) (by omega) (by omega)]; exact h74) (by rw [c 85 i (by omega) (by omega) (by omega)]; exact h85) (fun b b1 b2 => by rw [c 95 b (by omega) (by omega) (by omega)]; exact hv b (by omega) b2) r2.1
    refine ⟨τ2, Q2, ?_, (r2.tr s2).mo (fun x ⟨x0, xn, b, b1, b2, b3⟩ => ?_)⟩
    · rw [km_211_202]; simp only [if_pos ii, ni]; rw [h74, if_pos rfl, h85, if_neg (fun z => by have := (ofN_le (by omega) (by omega)).1 z; omega)]; simp only [if_pos ia, na]; rw [o1, r1, bv_ok, lz_osucc]
      exact s1
    · by_cases z : b = a
      · left
        rw [z, o1] at b3
        have : o = x := (ofN_eq (by omega) (by omega)).1 b3
        exact ⟨by rw [om, this], x0⟩
      · right
        exact ⟨x0, xn, b, by omega, b2, by rw [c 95 b (by omega) (by omega) (by omega)]; exact b3⟩
