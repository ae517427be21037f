/-! bodies: parameters -/
theorem put_put (σ : lj_S) (k j : Nat) (a d : Int32) : lj_put (lj_put σ k j a) k j d = lj_put σ k j d := by
  have e : (lj_put (lj_put σ k j a) k j d).1 = (lj_put σ k j d).1 := by
    funext k' j'
    by_cases w : k' = k ∧ j' = j
    · rw [lj_put_1, if_pos w, lj_put_1, if_pos w]
    · rw [lj_put_1, if_neg w, lj_put_1, if_neg w, lj_put_1, if_neg w]
  exact Prod.ext e rfl
theorem put_id (σ : lj_S) (k j : Nat) : lj_put σ k j (σ.1 k j) = σ := by
  have e : (lj_put σ k j (σ.1 k j)).1 = σ.1 := by
    funext k' j'
    rw [lj_put_1]
    split
    · next w => rw [w.1, w.2]
    · rfl
  exact Prod.ext e rfl
/-- a later state, but for how many parameters function q has -/
def TXq (q : Nat) (N : List lT) (σ τ σ' τ' : lj_S) : Prop := ∀ x y : Int32, TX N (lj_put σ 29 q x) (lj_put τ 13 q y) (lj_put σ' 29 q x) (lj_put τ' 13 q y)
theorem TX.q {N : List lT} {σ τ σ' τ' : lj_S} (h : TX N σ τ σ' τ') (q : Nat) : TXq q N σ τ σ' τ' := by
  intro x y
  obtain ⟨a1, a2, a3, a4, a5, a6, a7, a8, a9, a10, a11, a12⟩ := h
  have oC : ∀ (s : lj_S) k j, k ≠ 29 → (lj_put s 29 q x).1 k j = s.1 k j := fun s k j w => by rw [lj_put_1, if_neg (by omega)]
  have oM : ∀ (s : lj_S) k j, k ≠ 13 → (lj_put s 13 q y).1 k j = s.1 k j := fun s k j w => by rw [lj_put_1, if_neg (by omega)]
  have lC : ∀ (s : lj_S) k j, k ≠ 29 → lv (lj_put s 29 q x) k j = lv s k j := fun s k j w => by unfold lv; rw [oC s k j w]
  have lM : ∀ (s : lj_S) k j, k ≠ 13 → lv (lj_put s 13 q y) k j = lv s k j := fun s k j w => by unfold lv; rw [oM s k j w]
  have cs : ∀ (s : lj_S) t, cS (lj_put s 29 q x) t = cS s t := fun s => cS_cong (fun j => oC s 9 j (by omega)) (fun j => oC s 10 j (by omega)) (fun j => oC s 11 j (by omega))
  have ms : ∀ (s : lj_S) t, mS (lj_put s 13 q y) t = mS s t := fun s => mS_cong (fun j => oM s 2 j (by omega)) (fun j => oM s 3 j (by omega)) (fun j => oM s 4 j (by omega))
  refine ⟨⟨by rw [lC σ 3 7 (by omega), lC σ' 3 7 (by omega)]; exact a1.1, by rw [lM τ 0 14 (by omega), lM τ' 0 14 (by omega)]; exact a1.2.1, fun t ht => by rw [lC σ 3 7 (by omega)] at ht; rw [cs, cs]; exact a1.2.2.1 t ht, fun t ht => by rw [lM τ 0 14 (by omega)] at ht; rw [ms, ms]; exact a1.2.2.2 t ht⟩, by rw [lC σ 5 0 (by omega), lC σ' 5 0 (by omega)]; exact a2, by rw [lC σ 5 6 (by omega), lC σ' 5 6 (by omega)]; exact a3, by rw [lC σ 5 8 (by omega), lC σ' 5 8 (by omega)]; exact a4, by rw [lC σ 5 18 (by omega), lC σ' 5 18 (by omega)]; exact a5, fun i hi => by rw [lC σ 5 6 (by omega)] at hi; exact a6 i hi, fun r hr => ?_, fun r hr hn => ?_, fun k hk => ?_, fun k h1 h2 => ?_, fun k j w => ⟨?_, (a11 k j w).2⟩, fun k j w => ⟨?_, (a12 k j w).2⟩⟩
  · rw [lC σ 5 8 (by omega)] at hr
    obtain ⟨b1, b2, b3, b4, b5⟩ := a7 r hr
    refine ⟨by rw [oC σ 28 r (by omega), oC σ' 28 r (by omega)]; exact b1, ?_, ⟨by rw [oM τ 12 r (by omega), oM τ' 12 r (by omega)]; exact b3.1, ?_⟩, ⟨by rw [lC σ 32 r (by omega), lC σ' 32 r (by omega)]; exact b4.1, by rw [lC σ 31 r (by omega), lC σ' 31 r (by omega)]; exact b4.2⟩, by rw [lC σ 33 r (by omega), lC σ' 33 r (by omega)]; exact b5⟩
    · rw [lj_put_1, lj_put_1]
      split
      · rfl
      · exact b2
    · rw [lj_put_1, lj_put_1]
      split
      · rfl
      · exact b3.2
  · rw [lC σ 5 8 (by omega)] at hr
    obtain ⟨b1, b2, b3⟩ := a8 r hr hn
    refine ⟨by rw [oC σ 33 r (by omega), oC σ' 33 r (by omega)]; exact b1, by rw [oM τ 15 r (by omega), oM τ' 15 r (by omega)]; exact b2, fun i hi => ?_⟩
    obtain ⟨d1, d2, d3, d4⟩ := b3 i hi
    exact ⟨by rw [oC σ 34 _ (by omega), oC σ' 34 _ (by omega)]; exact d1, by rw [oC σ 35 _ (by omega), oC σ' 35 _ (by omega)]; exact d2, by rw [oM τ 18 _ (by omega), oM τ' 18 _ (by omega)]; exact d3, by rw [oM τ 19 _ (by omega), oM τ' 19 _ (by omega)]; exact d4⟩
  · rw [lC σ 5 18 (by omega)] at hk
    obtain ⟨b1, b2, b3, b4⟩ := a9 k hk
    refine ⟨by rw [oC σ 37 k (by omega), oC σ' 37 k (by omega)]; exact b1, by rw [oC σ 38 k (by omega), oC σ' 38 k (by omega)]; exact b2, by rw [oC σ 39 k (by omega), oC σ' 39 k (by omega)]; exact b3, ?_⟩
    rw [oC σ 40 k (by omega), oC σ' 40 k (by omega), lC σ 40 k (by omega), lC σ 5 0 (by omega), lC σ' 40 k (by omega)]
    exact b4
  · rw [lC σ 5 18 (by omega)] at h1
    rw [lC σ' 5 18 (by omega)] at h2
    rw [lC σ 5 0 (by omega), lC σ' 39 k (by omega)]
    exact a10 k h1 h2
  · rw [lj_put_1, lj_put_1]
    split
    · rfl
    · exact (a11 k j w).1
  · rw [lj_put_1, lj_put_1]
    split
    · rfl
    · exact (a12 k j w).1
theorem TXq.tr {q : Nat} {N N' : List lT} {σ τ σ1 τ1 σ2 τ2 : lj_S} (h : TXq q N σ τ σ1 τ1) (g : TXq q N' σ1 τ1 σ2 τ2) (hN : ∀ r, r ∉ N.map (·.1) → r ∉ N'.map (·.1)) : TXq q N σ τ σ2 τ2 := fun x y => (h x y).tr (g x y) (fun r _ => hN r)
/-- of a function: its parameters, whether it takes the rest -/
theorem PS.pfn {b : Nat → Int32} {n T : Nat} {Q : tkQ} {X : List Int32 → Prop} {FO : List fT} {Z : List zT} {PL : List qT} {cl ml : Nat} {F : Nat} {N : List lT} {p v c m wh : Nat} {W : List wT} {σ τ : lj_S} (h : PS b n T Q X F N FO Z PL cl ml p v c m wh W σ τ) {q : Nat} {σ' τ' : lj_S} (oC : ∀ k j, ¬ ((k = 29 ∨ k = 30) ∧ j = q) → σ'.1 k j = σ.1 k j) (oM : ∀ k j, ¬ ((k = 13 ∨ k = 16) ∧ j = q) → τ'.1 k j = τ.1 k j) (c2 : σ'.2 = σ.2) (m2 : τ'.2 = τ.2) (e30 : σ'.1 30 q = τ'.1 16 q) (f30 : σ'.1 30 q = 0 ∨ σ'.1 30 q = 1) (e29 : 0 ≤ lv σ' 29 q ∧ lv σ' 29 q ≤ lv σ' 31 q) :
    PS b n T Q X F N FO Z PL cl ml p v c m wh W σ' τ' ∧ TXq q N σ τ σ' τ' ∧ ∀ c0 m0, fz 0 c0 0 m0 σ τ σ' τ' := by
  have fC : lf pC σ σ' := fun k j w => ⟨by have := pC_k w; exact oC k j (by omega), by rw [c2]⟩
  have fM : lf pM τ τ' := fun k j w => ⟨by have := pM_k w; exact oM k j (by omega), by rw [m2]⟩
  have hC : ∀ (A : Nat → Nat → Bool), (∀ j, A 29 j = false) → (∀ j, A 30 j = false) → ∀ k j, A k j = true → σ'.1 k j = σ.1 k j := fun A a1 a2 k j w => oC k j (by
    rintro ⟨e | e, _⟩
    · rw [e, a1] at w; cases w
    · rw [e, a2] at w; cases w)
  have hM : ∀ (A : Nat → Nat → Bool), (∀ j, A 13 j = false) → (∀ j, A 16 j = false) → ∀ k j, A k j = true → τ'.1 k j = τ.1 k j := fun A a1 a2 k j w => oM k j (by
    rintro ⟨e | e, _⟩
    · rw [e, a1] at w; cases w
    · rw [e, a2] at w; cases w)
  have hFR := h.1.2.2.2.1
  refine ⟨h.mk' fC fM (NR_eq h.1.2.2.1 (hC nrC (fun _ => rfl) (fun _ => rfl)) (hM nrM (fun _ => rfl) (fun _ => rfl))) ⟨by rw [oC 5 8 (by omega)]; exact hFR.1, by rw [oM 0 34 (by omega)]; exact hFR.2.1, hFR.2.2.1, fun r hr => ?_⟩ h.1.2.2.2.2.1 (lvS_eq (hC lvC (fun _ => rfl) (fun _ => rfl)) h.1.2.2.2.2.2.1) (SCr_eq h.1.2.2.2.2.2.2 (Nat.le_refl _) (hC scC (fun _ => rfl) (fun _ => rfl))) (hnd_eq h.2.1 (hC hdC (fun _ => rfl) (fun _ => rfl)) (hM hdM (fun _ => rfl) (fun _ => rfl))) h.2.2.1 (LPr_eq h.2.2.2.1 (hC lpC (fun _ => rfl) (fun _ => rfl)) (hM lpM (fun _ => rfl) (fun _ => rfl)) (Nat.le_refl _) (Nat.le_refl _) (fun j _ => oM 21 j (by omega))) h.2.2.2.2.1.1 ?_ h.2.2.2.2.2, fun x y => ?_, fun c0 m0 => fz_eq (fun k j w1 w2 => oC k j (by
    rintro ⟨e | e, _⟩ <;> omega)) (fun k j w1 w2 => oM k j (by rintro ⟨e | e, _⟩ <;> omega))⟩
  · obtain ⟨b1, b2, b3, b4, b5, b6, b7, b8⟩ := hFR.2.2.2 r hr
    have l : ∀ k j, k ≠ 29 → k ≠ 30 → lv σ' k j = lv σ k j := fun k j w1 w2 => by unfold lv; rw [oC k j (by omega)]
    have e41 : lv σ' 41 = lv σ 41 := by funext k; exact l 41 k (by omega) (by omega)
    have eL : scL σ' r = scL σ r := by
      have h18 := oC 5 18 (by omega)
      have h37 : ∀ k, σ'.1 37 k = σ.1 37 k := fun k => oC 37 k (by omega)
      unfold scL lv; simp only [h18, h37]
    refine ⟨by rw [oC 31 r (by omega), oM 14 r (by omega)]; exact b1, by rw [l 31 r (by omega) (by omega)]; exact b2, by rw [l 31 r (by omega) (by omega)]; exact b3, by rw [oC 33 r (by omega), oM 15 r (by omega)]; exact b4, ?_, ?_, by rw [oC 36 r (by omega), oM 17 r (by omega)]; exact b7, ?_, ?_, by rw [l 32 r (by omega) (by omega)]; exact b8.2.2.1, by rw [l 32 r (by omega) (by omega)]; exact b8.2.2.2.1, by rw [e41, l 42 r (by omega) (by omega), eL]; exact b8.2.2.2.2⟩
    · by_cases e : r = q
      · rw [e]; exact e30
      · rw [oC 30 r (by omega), oM 16 r (by omega)]; exact b5
    · by_cases e : r = q
      · rw [e]; exact f30
      · rw [oC 30 r (by omega)]; exact b6
    · by_cases e : r = q
      · rw [e]; exact e29.2
      · have : lv σ' 29 r = lv σ 29 r := by unfold lv; rw [oC 29 r (by omega)]
        rw [this, l 31 r (by omega) (by omega)]; exact b8.1
    · by_cases e : r = q
      · rw [e]; exact e29.1
      · have : lv σ' 29 r = lv σ 29 r := by unfold lv; rw [oC 29 r (by omega)]
        rw [this]; exact b8.2.1
  · obtain ⟨⟨z1, z2, z3⟩, y1⟩ := h.2.2.2.2.1.2
    have e18' : lv σ' 5 18 = lv σ 5 18 := by unfold lv; rw [oC 5 18 (by omega)]
    have e8 : lv σ' 5 8 = lv σ 5 8 := by unfold lv; rw [oC 5 8 (by omega)]
    exact ⟨⟨by rw [e18']; exact z1, z2, fun y hy => by rw [e8]; exact z3 y hy⟩, y1⟩
  · have g1 : lf pC (lj_put σ 29 q x) (lj_put σ' 29 q x) := fun k j w => ⟨by have := pC_k w; rw [lj_put_1, lj_put_1, if_neg (by omega), if_neg (by omega)]; exact oC k j (by omega), by show σ'.2 k j = σ.2 k j; rw [c2]⟩
    have g2 : lf pM (lj_put τ 13 q y) (lj_put τ' 13 q y) := fun k j w => ⟨by have := pM_k w; rw [lj_put_1, lj_put_1, if_neg (by omega), if_neg (by omega)]; exact oM k j (by omega), by show τ'.2 k j = τ.2 k j; rw [m2]⟩
    have g3 : lf pC σ (lj_put σ 29 q x) := lf_put (lf_rf _ _) _ _ _ rfl
    have g4 : lf pM τ (lj_put τ 13 q y) := lf_put (lf_rf _ _) _ _ _ rfl
    refine TX_eq N g1 g2 (sR_pp h.1.2.1 g3 g4).1 (fun k j w => ?_) (fun k j w => ?_) (fun i => by show σ'.2 27 i = σ.2 27 i; rw [c2]) (fun i => by show τ'.2 24 i = τ.2 24 i; rw [m2]) ?_
    · rw [lj_put_1, lj_put_1]
      split
      · rfl
      · next u =>
        refine oC k j ?_
        rintro ⟨e | e, e'⟩
        · exact u ⟨e, e'⟩
        · rw [e] at w; cases w
    · rw [lj_put_1, lj_put_1]
      split
      · rfl
      · next u =>
        refine oM k j ?_
        rintro ⟨e | e, e'⟩
        · exact u ⟨e, e'⟩
        · rw [e] at w; cases w
    · unfold lv
      rw [lj_put_1, if_neg (by omega), lj_put_1, if_neg (by omega), oC 5 0 (by omega)]
      exact Int.le_refl _
noncomputable def bdC (x2 x3 x4 : Int32) (σ1 : lj_S) : Option lj_O := lj_bv (lj_R lc_P 60 [.ref 6] σ1) (fun σ2 => lj_bv (lj_R lc_P 71 [.ref 6, .int 15] σ2) (fun σ3 => lj_bv (lj_R lc_P 57 [.ref 5, .int x3] (lj_put σ3 6 2 x2)) (fun σ4 => lj_bi (lj_R lc_P 54 [.ref 5, .int 22, .int x4, .int 0] σ4) (fun y6 σ5 => some (.inl none, σ5)) lj_up) lj_up) lj_up) lj_up
theorem bd_C {F : Nat} (hF : F < 51) (x1 x2 x3 x5 : Int32) (x7 : Value) (σ : lj_S) : lj_D lc_P lc_M81 145 [.ref 6, .int x1, .int x2, .int x3, .int (Int32.ofNat F), .int x5, .int 0, x7] [] σ = lj_bv (lj_R lc_P 71 [.ref 6, .int 61] (lj_put σ 29 F (σ.1 31 F))) (fun σ1 => bdC x2 x3 (Int32.ofNat F) σ1) lj_up := by
  rw [kc_81_145, if_pos rfl, if_pos (ofN_in hF (by omega)), if_pos (ofN_in hF (by omega)), lz_onat (by omega)]
  rfl
/-- their end -/
theorem bp_end {b : Nat → Int32} {n T : Nat} {Q : tkQ} {X : List Int32 → Prop} (hT5 : T ≤ 520) {FO : List fT} {nl rv : Nat} {Z : List zT} {PL : List qT} {cl ml : Nat} {F : Nat} {N : List lT} {p v c m wh : Nat} {W : List wT} {σ τ : lj_S} {f : Nat} {l : List Nat} (h : PS b n T Q X F N (((nl, rv), []) :: FO) Z PL cl ml p v c m wh W σ τ) (hN : hdN N f l) (x1 x2 x3 x5 : Int32) (x7 : Value) :
    ((Q p).1 ≠ 61 ∧ lj_D lc_P lc_M81 145 [.ref 6, .int x1, .int x2, .int x3, .int (Int32.ofNat f), .int x5, .int 0, x7] [] σ = some (.inr 1, cFl (lj_put σ 29 f (σ.1 31 f)) (fq (Q p).1 2) (Q p).2.1) ∧ lj_R lm_P 74 [.ref 0, .int 41] τ = some (.inl (some (.int 0)), mFl τ (fq (Q p).1 2) (Q p).2.1)) ∨
    ∃ σ' τ', p < T ∧ τ' = lj_put τ 0 25 (Int32.ofNat (p + 1)) ∧ lj_D lc_P lc_M81 145 [.ref 6, .int x1, .int x2, .int x3, .int (Int32.ofNat f), .int x5, .int 0, x7] [] σ = bdC x2 x3 (Int32.ofNat f) σ' ∧ lj_R lm_P 74 [.ref 0, .int 41] τ = some (.inl (some (.int 1)), τ') ∧ PS b n T Q X F N (((nl, rv), []) :: FO) Z PL cl ml (p + 1) v c m wh W σ' (lj_put τ' 13 f (τ'.1 14 f)) ∧ TXq f N σ τ σ' (lj_put τ' 13 f (τ'.1 14 f)) ∧ (∀ c0 m0, fz 0 c0 0 m0 σ τ σ' (lj_put τ' 13 f (τ'.1 14 f))) ∧ σ'.1 29 f = Int32.ofNat nl ∧ (lj_put τ' 13 f (τ'.1 14 f)).1 13 f = Int32.ofNat nl := by
  have hpT := h.2.2.1.1
  have h1 := h.2.1
  obtain ⟨zz, R, eN, ez, el⟩ := hN
  have hf51 : f < 51 := by
    have := h.1.2.2.1.1
    rw [eN] at this
    rw [← ez]; exact this.1.1
  have hzF : f < F := by rw [← ez]; exact h.1.2.2.2.2.1 zz (by rw [eN]; exact List.mem_cons_self)
  have hLv := h.1.2.2.2.2.2.1
  rw [eN] at hLv
  have e31 : σ.1 31 f = Int32.ofNat nl := by rw [← ez]; exact hLv.1.2.2.2.2.2.2.1
  have nl50 : nl ≤ 50 := hLv.1.2.2.2.2.2.2.2.1
  obtain ⟨b1, b2, b3, b4, b5, b6, b7, b8⟩ := h.1.2.2.2.1.2.2.2 f hzF
  have e14 : τ.1 14 f = Int32.ofNat nl := by rw [← b1]; exact e31
  have l29 : lv (lj_put σ 29 f (σ.1 31 f)) 29 f = (nl : Int) := by unfold lv; rw [lj_put_1, if_pos ⟨rfl, rfl⟩, e31, lz_lit (by omega)]
  have l31 : lv (lj_put σ 29 f (σ.1 31 f)) 31 f = (nl : Int) := by unfold lv; rw [lj_put_1, if_neg (by omega), e31, lz_lit (by omega)]
  have P := h.pfn (q := f) (σ' := lj_put σ 29 f (σ.1 31 f)) (τ' := lj_put τ 13 f (τ.1 14 f)) (fun k j w => by rw [lj_put_1, if_neg (by omega)]) (fun k j w => by rw [lj_put_1, if_neg (by omega)]) rfl rfl (by rw [lj_put_1, if_neg (by omega), lj_put_1, if_neg (by omega)]; exact b5) (by rw [lj_put_1, if_neg (by omega)]; exact b6) (by rw [l29, l31]; omega)
  have ps := c_pass P.1.1.1 hpT P.1.2.1.1 61 (by omega)
  have ns := m_needSign h.1.1 hpT h1.2.1 h1.2.2.2.2.2.2.2.2.2 21 (by omega) 41 rfl
  rw [bd_C hf51]
  by_cases a61 : (Q p).1 = 61
  · have hlt : p < T := h.lt (by omega) (by omega)
    have S := P.1.st hlt
    rw [if_pos a61] at ps
    rw [if_pos (show (Q p).1 = 40 + 21 by omega)] at ns
    have ee : lj_put (lj_put τ 0 25 (Int32.ofNat (p + 1))) 13 f ((lj_put τ 0 25 (Int32.ofNat (p + 1))).1 14 f) = lj_put (lj_put τ 13 f (τ.1 14 f)) 0 25 (Int32.ofNat (p + 1)) := by
      rw [put_cm _ _ _ (by omega), lj_put_1, if_neg (by omega)]
    refine Or.inr ⟨_, _, hlt, rfl, by rw [show lj_R lc_P 71 [.ref 6, .int 61] (lj_put σ 29 f (σ.1 31 f)) = _ from ps, bv_ok], ns, ?_, ?_, fun c0 m0 => ?_, ?_, ?_⟩
    · rw [ee]; exact S.1
    · rw [ee]; exact P.2.1.tr (S.2.1.q f) (fun _ w => w)
    · rw [ee]
      exact (P.2.2 c0 m0).tr (fz_eq (fun k j w1 w2 => by rw [lj_put_1, if_neg (by omega)]) (fun k j w1 w2 => by rw [lj_put_1, if_neg (by omega)]))
    · rw [lj_put_1, if_neg (by omega), lj_put_1, if_pos ⟨rfl, rfl⟩]; exact e31
    · rw [lj_put_1, if_pos ⟨rfl, rfl⟩, lj_put_1, if_neg (by omega)]; exact e14
  · rw [if_neg a61] at ps
    rw [if_neg (show ¬ (Q p).1 = 40 + 21 by omega)] at ns
    exact Or.inl ⟨a61, by rw [show lj_R lc_P 71 [.ref 6, .int 61] (lj_put σ 29 f (σ.1 31 f)) = _ from ps]; rfl, ns⟩
