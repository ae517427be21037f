/-! bodies: the name 'self' of the model -/
abbrev wB (x3 : Int32) : Int32 := (((((1936026726 : Int64).toUInt64 >>> ((x3 : Int32).toInt64.toUInt64 &&& Int64.toUInt64 63)).toInt64) : Int64).toInt32) &&& 255
theorem m_w0 (x3 : Int32) (x4 : Value) (σ : lj_S) (h3 : ¬ x3 < 0) (hb : wB x3 ≤ 0) : lj_D lm_P lm_M2 3 [.ref 0, .long 1936026726, .retAddr 0, .int x3, x4] [] σ = lj_D lm_P lm_M2 3 [.ref 0, .long 1936026726, .retAddr 0, .int (x3 + (-8)), .int (wB x3)] [] σ := by
  rw [km_2_3, if_neg h3, if_pos hb, km_2_44]
theorem m_w1 (x3 : Int32) (x4 : Value) (σ : lj_S) {k : Nat} (hk : k < 4200) (h20 : σ.1 0 20 = Int32.ofNat k) (h3 : ¬ x3 < 0) (hb : ¬ (wB x3 ≤ 0)) : lj_D lm_P lm_M2 3 [.ref 0, .long 1936026726, .retAddr 0, .int x3, x4] [] σ = lj_D lm_P lm_M2 3 [.ref 0, .long 1936026726, .retAddr 0, .int (x3 + (-8)), .int (wB x3)] [] (lj_put (lj_put σ 8 k (vp_nar .byte ((wB x3).toInt8.toInt32))) 0 20 (Int32.ofNat (k + 1))) := by
  rw [km_2_3, if_neg h3, if_neg hb, h20, if_pos (ofN_in hk (by omega)), lz_onat (by omega), km_2_44, lz_osucc]
theorem m_wself {τ : lj_S} (h20 : τ.1 0 20 = Int32.ofNat 0) : ∃ τ', lj_R lm_P 2 [.ref 0, .long 1936026726] τ = some (.inl none, τ') ∧ mDr τ' slfD ∧ lf mAd τ τ' := by
  have p1 : ∀ (σ : lj_S) (k : Nat) (x : Int32), (lj_put (lj_put σ 8 k x) 0 20 (Int32.ofNat (k + 1))).1 0 20 = Int32.ofNat (k + 1) := fun σ k x => by rw [lj_put_1, if_pos ⟨rfl, rfl⟩]
  have v1 : vp_nar .byte ((wB 24).toInt8.toInt32) = 115 := by decide
  have v2 : vp_nar .byte ((wB 16).toInt8.toInt32) = 101 := by decide
  have v3 : vp_nar .byte ((wB 8).toInt8.toInt32) = 108 := by decide
  have v4 : vp_nar .byte ((wB 0).toInt8.toInt32) = 102 := by decide
  refine ⟨lj_put (lj_put (lj_put (lj_put (lj_put (lj_put (lj_put (lj_put τ 8 0 115) 0 20 (Int32.ofNat 1)) 8 1 101) 0 20 (Int32.ofNat 2)) 8 2 108) 0 20 (Int32.ofNat 3)) 8 3 102) 0 20 (Int32.ofNat 4), ?_, ?_, ?_⟩
  · rw [rm_2, km_2_0, m_w0 56 _ _ (by decide) (by decide), show (56 : Int32) + (-8) = 48 from by decide, m_w0 48 _ _ (by decide) (by decide), show (48 : Int32) + (-8) = 40 from by decide, m_w0 40 _ _ (by decide) (by decide), show (40 : Int32) + (-8) = 32 from by decide, m_w0 32 _ _ (by decide) (by decide), show (32 : Int32) + (-8) = 24 from by decide, m_w1 24 _ _ (k := 0) (by omega) h20 (by decide) (by decide), v1, show (24 : Int32) + (-8) = 16 from by decide, m_w1 16 _ _ (k := 1) (by omega) (p1 _ _ _) (by decide) (by decide), v2, show (16 : Int32) + (-8) = 8 from by decide, m_w1 8 _ _ (k := 2) (by omega) (p1 _ _ _) (by decide) (by decide), v3, show (8 : Int32) + (-8) = 0 from by decide, m_w1 0 _ _ (k := 3) (by omega) (p1 _ _ _) (by decide) (by decide), v4, km_2_3, if_pos (by decide)]
  · refine ⟨by unfold lv; rw [lj_put_1, if_pos ⟨rfl, rfl⟩]; rfl, fun i hi => ?_, by unfold slfD; decide⟩
    have hi : i < 4 := hi
    have : i = 0 ∨ i = 1 ∨ i = 2 ∨ i = 3 := by omega
    rcases this with e | e | e | e <;> subst e <;> simp [lj_put_1, slfD]
  · exact lf_put (lf_put (lf_put (lf_put (lf_put (lf_put (lf_put (lf_put (lf_rf _ _) _ _ _ rfl) _ _ _ rfl) _ _ _ rfl) _ _ _ rfl) _ _ _ rfl) _ _ _ rfl) _ _ _ rfl) _ _ _ rfl
/-- places that this may change -/
def mSf (k j : Nat) : Bool := (decide (2 ≤ k) && decide (k ≤ 8)) || (k == 0 && (j == 8 || j == 14 || j == 20))
theorem PS.slf {b : Nat → Int32} {n T : Nat} {Q : tkQ} {X : List Int32 → Prop} {FO : List fT} {Z : List zT} {PL : List qT} {cl ml : Nat} {F : Nat} {N : List lT} {p v c m wh : Nat} {W : List wT} {σ τ : lj_S} (h : PS b n T Q X F N FO Z PL cl ml p v c m wh W σ τ) :
    ∃ τ1 τ' a a', lj_R lm_P 2 [.ref 0, .long 1936026726] (lj_put τ 0 20 0) = some (.inl none, τ1) ∧ lj_R lm_P 3 [.ref 0, .int 0] τ1 = some (.inl (some (.int (Int32.ofNat a'))), τ') ∧ PS b n T Q X F N FO Z PL cl ml p v c m wh W σ τ' ∧ GR N N F F p p c c m m σ τ σ τ' ∧ σ.1 0 8 = Int32.ofNat a ∧ nmQ σ τ' a a' ∧ (a < 2600 ∨ a = 4294967294) ∧ a' < 3000 ∧ lf mSf τ τ' := by
  obtain ⟨τ1, w1, w2, w3⟩ := m_wself (τ := lj_put τ 0 20 0) (by rw [lj_put_1, if_pos ⟨rfl, rfl⟩]; rfl)
  have f1 : lf mAd τ τ1 := (lf_put (lf_rf _ _) _ _ _ rfl).tr w3
  have hTE := h.1.1
  have hR := h.1.2.1
  have hsl := hTE.2.2.2.2.2.2.2
  have ok1 : mOK τ1 := mOK_draft hR.2.1 f1
  have l14 : lv τ1 0 14 = lv τ 0 14 := f1.v rfl
  have l8 : lv τ1 0 8 = lv τ 0 8 := f1.v rfl
  have s1 : ∀ t, mS τ1 t = mS τ t := mS_cong (fun j => (f1 2 j rfl).1) (fun j => (f1 3 j rfl).1) (fun j => (f1 4 j rfl).1)
  have e5 : ∀ t, τ1.1 5 t = τ.1 5 t := fun t => (f1 5 t rfl).1
  have b14 : lv τ1 0 14 < 3000 := by rcases hsl.2 with q | q <;> omega
  have b8 : lv τ1 0 8 + slfD.length ≤ 40000 := by
    show lv τ1 0 8 + 4 ≤ 40000
    rcases hsl.2 with q | q <;> omega
  obtain ⟨τ', a', r1, r2, r3, r4, r5⟩ := m_intern τ1 0 w2 (by show 4 ≤ 4200; omega) ok1 b14 b8
  -- strings then
  have hs : (a' : Int) < lv τ' 0 14 ∧ mS τ' a' = slfD ∧ lv τ 0 14 ≤ lv τ' 0 14 ∧ (∀ t : Nat, (t : Int) < lv τ 0 14 → mS τ' t = mS τ t ∧ τ'.1 5 t = τ.1 5 t) ∧ (∀ t : Nat, (t : Int) < lv τ' 0 14 → ¬ ((t : Int) < lv τ 0 14) → τ'.1 5 t = 0) ∧ slM τ' := by
    rcases r2 with ⟨e, q1, q2⟩ | ⟨q1, q2, q3, q4, q5, q6, q7, q8⟩
    · rw [if_neg (by decide)] at e
      have e14 : lv τ' 0 14 = lv τ 0 14 := by rw [e, lv_put, if_neg (by omega)]; exact l14
      have e8 : lv τ' 0 8 = lv τ 0 8 := by rw [e, lv_put, if_neg (by omega)]; exact l8
      have es : ∀ t, mS τ' t = mS τ t := fun t => by rw [e, mS_sort]; exact s1 t
      refine ⟨by rw [e14, ← l14]; exact q1, by rw [es, ← s1]; exact q2, by omega, fun t _ => ⟨es t, ?_⟩, fun t a b => absurd (by rw [e14] at a; exact a) b, Or.inr ⟨⟨a', by rw [e14, ← l14]; exact q1, by rw [es, ← s1]; exact q2⟩, by omega, ?_⟩⟩
      · rw [e, lj_put_1]
        split
        · next w => rw [w.2]; exact e5 a'
        · exact e5 t
      · rcases hsl.2 with q | q <;> omega
    · have hn : ¬ ∃ s : Nat, (s : Int) < lv τ 0 14 ∧ mS τ s = slfD := fun ⟨s, u1, u2⟩ => q2 s (by omega) (by rw [s1]; exact u2)
      have hsm : lv τ 0 14 + 2 < 3000 ∧ lv τ 0 8 + 8 ≤ 40000 := by
        rcases hsl.2 with q | q
        · exact q
        · exact absurd q.1 hn
      have q4 : lv τ' 0 8 = lv τ1 0 8 + 4 := q4
      refine ⟨by omega, q6, by omega, fun t ht => ⟨by rw [q5 t (by omega), s1], by rw [q8 t (by omega), e5]⟩, fun t a b => ?_, Or.inr ⟨⟨a', by omega, q6⟩, by omega, by omega⟩⟩
      have : t = a' := by omega
      rw [this]; exact q7
  obtain ⟨k1, k2, k3, k4, k5, k6⟩ := hs
  have a3 : a' < 3000 := by have := r3.1.2; omega
  have fS : lf mSf τ τ' := (f1.mo (fun k j q => by simp [mSf] at q; simp [mAd]; omega)).tr (r5.mo (fun k j q => by simp [mSf] at q; simp [mAs]; omega))
  have sg : sG σ τ σ τ' := ⟨Int.le_refl _, k3, fun _ _ => rfl, fun t ht => (k4 t ht).1⟩
  have hmh : ∀ D, mHas τ' D ↔ mHas τ D := fun D => by
    constructor
    · rintro ⟨t, u1, u2, u3⟩
      by_cases w : (t : Int) < lv τ 0 14
      · refine ⟨t, w, by rw [← (k4 t w).1]; exact u2, ?_⟩
        unfold lv at u3 ⊢; rw [(k4 t w).2] at u3; exact u3
      · have := k5 t u1 w
        unfold lv at u3; rw [this] at u3
        exact absurd u3 (by decide)
    · rintro ⟨t, u1, u2, u3⟩
      refine ⟨t, by omega, by rw [(k4 t u1).1]; exact u2, ?_⟩
      unfold lv at u3 ⊢; rw [(k4 t u1).2]; exact u3
  have sR' : sR σ τ' X := ⟨hR.1, r3, fun D => (hmh D).trans (hR.2.2 D)⟩
  have oM : ∀ k j, ¬ (2 ≤ k ∧ k ≤ 8) → ¬ (k = 0 ∧ (j = 8 ∨ j = 14 ∨ j = 20)) → τ'.1 k j = τ.1 k j := fun k j q1 q2 => (fS k j (by simp [mSf]; omega)).1
  have oM2 : ∀ k j, ¬ (2 ≤ k ∧ k ≤ 8) → ¬ (k = 0 ∧ (j = 8 ∨ j = 14 ∨ j = 20)) → τ'.2 k j = τ.2 k j := fun k j q1 q2 => (fS k j (by simp [mSf]; omega)).2
  have te : TE b n T Q σ τ' := by
    refine ⟨hTE.1, hTE.2.1, hTE.2.2.1, ⟨by unfold lv; rw [oM 0 2 (by omega) (by omega)]; exact hTE.2.2.2.1.1, fun i hi => by rw [oM 1 i (by omega) (by omega)]; exact hTE.2.2.2.1.2 i hi⟩, fun t ht => ?_, hTE.2.2.2.2.2.1, hTE.2.2.2.2.2.2.1, hsl.1, k6⟩
    obtain ⟨t1, t2, t3, t4, t5, t6, t7, t8, t9, t10⟩ := hTE.2.2.2.2.1 t ht
    refine ⟨t1, t2, by rw [oM 9 t (by omega) (by omega)]; exact t3, fun q => by rw [oM2 11 t (by omega) (by omega)]; exact t4 q, t5, t6, by rw [oM 10 t (by omega) (by omega)]; exact t7, t8, fun q => ?_, fun q => by rw [oM2 11 t (by omega) (by omega)]; exact t10 q⟩
    obtain ⟨u1, u2, u3, u4, u5⟩ := t9 q
    exact ⟨u1, u2, u3, by rw [oM2 11 t (by omega) (by omega)]; exact u4, u5.up sg⟩
  have nq : ∀ e e', nmQ σ τ e e' → nmQ σ τ' e e' := fun e e' q => by
    rcases q with ⟨q1, q2⟩ | ⟨q1, q2, q3⟩
    · exact Or.inl ⟨q1, q2.up sg⟩
    · exact Or.inr ⟨q1, by omega, fun s hs => by rw [(k4 e' q2).1]; exact q3 s hs⟩
  have nr : NR σ τ' N := by
    obtain ⟨n1, n2, n3, n4, n5, n6, n7, n8, n9, n10⟩ := h.1.2.2.1
    exact ⟨n1, nmM_cg (fun j => oM 15 j (by omega) (by omega)) (fun j => oM 18 j (by omega) (by omega)) (fun j => oM 19 j (by omega) (by omega)) (fun j => oM 29 j (by omega) (by omega)) (fun j => oM 30 j (by omega) (by omega)) (fun j => oM 31 j (by omega) (by omega)) (fun j => oM 32 j (by omega) (by omega)) n2, n3, n4, n5, n6, n7, by rw [oM 0 53 (by omega) (by omega)]; exact n8, by rw [oM 0 50 (by omega) (by omega)]; exact n9, fun z hz e he => nq _ _ (n10 z hz e he)⟩
  have hM : ∀ (A : Nat → Nat → Bool), (∀ k j, mSf k j = true → A k j = false) → ∀ k j, A k j = true → τ'.1 k j = τ.1 k j := fun A a k j q => (fS k j (by
    cases e : mSf k j with
    | false => rfl
    | true => rw [a k j e] at q; cases q)).1
  have hfr : ∀ k j, frM k j = true → τ'.1 k j = τ.1 k j := hM frM (fun k j q => by simp [mSf] at q; simp [frM]; omega)
  have hps : PS b n T Q X F N FO Z PL cl ml p v c m wh W σ τ' := ⟨⟨te, sR', nr, FR_eq h.1.2.2.2.1 (fun _ _ _ => rfl) hfr, h.1.2.2.2.2⟩, hnd_eq h.2.1 (fun _ _ _ => rfl) (hM hdM (fun k j q => by simp [mSf] at q; simp [hdM]; omega)), h.2.2.1, LPr_eq h.2.2.2.1 (fun _ _ _ => rfl) (hM lpM (fun k j q => by simp [mSf] at q; simp [lpM]; omega)) (Nat.le_refl _) (Nat.le_refl _) (fun j _ => oM 21 j (by omega) (by omega)), h.2.2.2.2⟩
  have tx : TX N σ τ σ τ' := ⟨sg, Int.le_refl _, Int.le_refl _, Int.le_refl _, Int.le_refl _, fun i _ => ⟨rfl, oM2 24 i (by omega) (by omega)⟩, fun q _ => ⟨rfl, rfl, ⟨oM 12 q (by omega) (by omega), oM 13 q (by omega) (by omega)⟩, ⟨Int.le_refl _, Int.le_refl _⟩, Int.le_refl _⟩, fun q _ _ => ⟨rfl, oM 15 q (by omega) (by omega), fun i _ => ⟨rfl, rfl, oM 18 _ (by omega) (by omega), oM 19 _ (by omega) (by omega)⟩⟩, fun k _ => ⟨rfl, rfl, rfl, Or.inl rfl⟩, fun k a b => by omega, lf_rf _ _, fS.mo (fun k j q => by simp [gM] at q; simp [mSf]; omega)⟩
  have gr : GR N N F F p p c c m m σ τ σ τ' := ⟨tx, lvX_rf _, (Nat.le_refl _), (Nat.le_refl _), (Nat.le_refl _), (Nat.le_refl _), fz_eq (fun _ _ _ _ => rfl) (fun k j q1 q2 => oM k j (by omega) (by omega))⟩
  rcases hsl.1 with ⟨s, q1, q2, q3, q4⟩ | ⟨q1, q2⟩
  · exact ⟨τ1, τ', s, a', w1, r1, hps, gr, q1, Or.inl ⟨q2, q3, k1, by rw [q4, k2]⟩, Or.inl q2, a3, fS⟩
  · exact ⟨τ1, τ', 4294967294, a', w1, r1, hps, gr, q1, Or.inr ⟨rfl, k1, fun s hs => by rw [k2]; exact q2 s hs⟩, Or.inr rfl, a3, fS⟩
