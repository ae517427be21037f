/-! bodies: a function is closed -/
theorem PS.low {b : Nat → Int32} {n T : Nat} {Q : tkQ} {X : List Int32 → Prop} {FO : List fT} {Z : List zT} {PL : List qT} {cl ml : Nat} {F : Nat} {N : List lT} {p v c m wh : Nat} {W : List wT} {σ τ : lj_S} {cl' ml' : Nat} (h : PS b n T Q X F N FO Z PL cl' ml' p v c m wh W σ τ) (hZ : ∀ x ∈ Z, (∀ j ∈ x.2.2.2.1, j < cl) ∧ ∀ j ∈ x.2.2.2.2, j < ml) (hc : cl ≤ c) (hm : ml ≤ m) : PS b n T Q X F N FO Z PL cl ml p v c m wh W σ τ := by
  obtain ⟨a1, a2, a3, ⟨l1, l2, l3, l4, l5, l6, l7, l8, l9, l10, l11⟩, ⟨a5, a6⟩, a7⟩ := h
  exact ⟨a1, a2, a3, ⟨l1, l2, l3, l4, l5, l6, l7, l8, l9, l10, hZ⟩, ⟨hc, a6⟩, hm⟩
theorem c_cls60 {f : Nat} (hf : f < 51) : (∀ σ, σ.1 6 2 = Int32.ofNat f → σ.1 44 f = Int32.ofNat 0 → lj_D lc_P lc_M60 48 [.ref 6] [] σ = some (.inl none, σ)) ∧ (∀ (σ : lj_S) (K k : Nat), σ.1 6 2 = Int32.ofNat f → σ.1 44 f = Int32.ofNat (K + 1) → 0 ≤ K → K < 50 → σ.1 47 (50 * f + K) = Int32.ofNat k → k < 4000 → lj_D lc_P lc_M60 48 [.ref 6] [] σ = lj_D lc_P lc_M60 48 [.ref 6] [] (lj_put (lj_put σ 44 f (Int32.ofNat K)) 40 k (σ.1 5 0))) := by
  have i1 : lj_in (Int32.ofNat f) 51 := ofN_in hf (by omega)
  constructor
  · intro σ h1 h2
    rw [kc_60_48, h1]
    simp only [if_pos i1, lz_onat (show f < 2147483648 by omega), h2]
    rw [if_pos (by decide)]
  · intro σ K k h1 h2 h3 h4 h5 h6
    have i2 : lj_in (Int32.ofNat (50 * f + K)) 2550 := ofN_in (by omega) (by omega)
    have i3 : lj_in (Int32.ofNat k) 4000 := ofN_in (by omega) (by omega)
    have e44 : ∀ y : Int32, (lj_put σ 44 f y).1 44 f = y := fun y => by rw [lj_put_1, if_pos ⟨rfl, rfl⟩]
    rw [kc_60_48, h1]
    simp only [if_pos i1, lz_onat (show f < 2147483648 by omega), h2, lz_pred', e44, lz_m50, if_pos i2, lz_onat (show 50 * f + K < 2147483648 by omega), h5, if_pos i3, lz_onat (show k < 2147483648 by omega)]
    rw [if_neg (by rw [lz_le, lz_lit (by omega)]; show ¬ (((K + 1 : Nat) : Int) ≤ 0); omega)]
/-- the function around is at hand again -/
theorem PS.rmf {b : Nat → Int32} {n T : Nat} {Q : tkQ} {X : List Int32 → Prop} {FO : List fT} {fl : fT} {Z : List zT} {PL : List qT} {cl ml F : Nat} {z1 z : lT} {R : List lT} {p v c m wh : Nat} {W : List wT} {σ τ : lj_S} (h : PS b n T Q X F (z1 :: z :: R) (fl :: FO) Z PL cl ml p v c m wh W σ τ) (hkn : z1.2.1 = []) (hZ : ∀ x ∈ Z, x.2.1 < (z :: R).length) :
    PS b n T Q X F (z :: R) FO Z PL cl ml p v c m wh W (lj_put σ 6 2 (Int32.ofNat z.1)) (lj_put τ 0 53 (Int32.ofNat R.length)) ∧ (∀ M, TX M σ τ (lj_put σ 6 2 (Int32.ofNat z.1)) (lj_put τ 0 53 (Int32.ofNat R.length))) ∧ ∀ c0 m0, fz 0 c0 0 m0 σ τ (lj_put σ 6 2 (Int32.ofNat z.1)) (lj_put τ 0 53 (Int32.ofNat R.length)) := by
  have oC : ∀ k j, ¬ (k = 6 ∧ j = 2) → (lj_put σ 6 2 (Int32.ofNat z.1)).1 k j = σ.1 k j := fun k j q => by rw [lj_put_1, if_neg q]
  have oM : ∀ k j, ¬ (k = 0 ∧ j = 53) → (lj_put τ 0 53 (Int32.ofNat R.length)).1 k j = τ.1 k j := fun k j q => by rw [lj_put_1, if_neg q]
  have e2 : (lj_put σ 6 2 (Int32.ofNat z.1)).1 6 2 = Int32.ofNat z.1 := by rw [lj_put_1, if_pos ⟨rfl, rfl⟩]
  have e53 : (lj_put τ 0 53 (Int32.ofNat R.length)).1 0 53 = Int32.ofNat R.length := by rw [lj_put_1, if_pos ⟨rfl, rfl⟩]
  have c2 : (lj_put σ 6 2 (Int32.ofNat z.1)).2 = σ.2 := rfl
  have m2 : (lj_put τ 0 53 (Int32.ofNat R.length)).2 = τ.2 := rfl
  generalize lj_put σ 6 2 (Int32.ofNat z.1) = σ' at *
  generalize lj_put τ 0 53 (Int32.ofNat R.length) = τ' at *
  have fC : lf pC σ σ' := fun k j q => ⟨by have := pC_k q; exact oC k j (by omega), by rw [c2]⟩
  have fM : lf pM τ τ' := fun k j q => ⟨by have := pM_k q; exact oM k j (by omega), by rw [m2]⟩
  have hC : ∀ (A : Nat → Nat → Bool), A 6 2 = false → ∀ k j, A k j = true → σ'.1 k j = σ.1 k j := fun A a4 k j q => oC k j (by rintro ⟨e, e'⟩; rw [e, e', a4] at q; cases q)
  have hM : ∀ (A : Nat → Nat → Bool), A 0 53 = false → ∀ k j, A k j = true → τ'.1 k j = τ.1 k j := fun A a4 k j q => oM k j (by rintro ⟨e, e'⟩; rw [e, e', a4] at q; cases q)
  have nr : NR σ' τ' (z :: R) := by
    obtain ⟨n1, n2, n3, n4, n5, n6, n7, n8, n9, n10⟩ := h.1.2.2.1
    rw [List.map_cons, List.nodup_cons] at n4
    simp only [List.length_cons] at n6
    refine ⟨nmC_cg (fun j => oC 33 j (by omega)) (fun j => oC 34 j (by omega)) (fun j => oC 35 j (by omega)) (fun j => oC 48 j (by omega)) (fun j => oC 43 j (by omega)) (fun j => oC 44 j (by omega)) (fun j => oC 45 j (by omega)) (fun j => oC 46 j (by omega)) n1.2, nmM_cg (fun j => oM 15 j (by omega)) (fun j => oM 18 j (by omega)) (fun j => oM 19 j (by omega)) (fun j => oM 29 j (by omega)) (fun j => oM 30 j (by omega)) (fun j => oM 31 j (by omega)) (fun j => oM 32 j (by omega)) n2.2, n3.2, n4.2, by simp, by simp only [List.length_cons]; omega, e2, by rw [e53]; simp, ?_, fun y hy e he => ?_⟩
    · rw [oM 0 50 (by omega)]
      have : baseN (z1 :: z :: R) = baseN (z :: R) := by
        show z1.2.1.length + baseN (z :: R) = _
        rw [hkn]; simp
      rw [this] at n9
      exact n9
    · exact nmQ_pp (n10 y (List.mem_cons_of_mem _ hy) e he) (fun j => oC 9 j (by omega)) (fun j => oC 10 j (by omega)) (fun j => oC 11 j (by omega)) (oC 3 7 (by omega)) (fun j => oM 2 j (by omega)) (fun j => oM 3 j (by omega)) (fun j => oM 4 j (by omega)) (oM 0 14 (by omega))
  refine ⟨h.mk' fC fM nr (FR_eq h.1.2.2.2.1 (hC frC rfl) (hM frM rfl)) (fun y hy => h.1.2.2.2.2.1 y (List.mem_cons_of_mem _ hy)) (lvS_eq (hC lvC rfl) h.1.2.2.2.2.2.1.2) (SCr_eq h.1.2.2.2.2.2.2 (Nat.le_refl _) (hC scC rfl)) (hnd_eq h.2.1 (hC hdC rfl) (hM hdM rfl)) h.2.2.1 (LPr_eq h.2.2.2.1 (hC lpC rfl) (hM lpM rfl) (Nat.le_refl _) (Nat.le_refl _) (fun j _ => oM 21 j (by omega))) h.2.2.2.2.1.1 ?_ h.2.2.2.2.2, fun M => TX_eq M fC fM h.1.2.1 (hC txC rfl) (hM txM rfl) (fun i => by rw [c2]) (fun i => by rw [m2]) (by unfold lv; rw [oC 5 0 (by omega)]; exact Int.le_refl _), fun c0 m0 => fz_eq (fun k j _ _ => oC k j (by omega)) (fun k j _ _ => oM k j (by omega))⟩
  obtain ⟨⟨w1, w2, w3⟩, y1, y2, y3, y4, y5⟩ := h.2.2.2.2.1.2
  simp only [rsv] at w1
  simp only [List.length_cons] at y3
  have e18' : lv σ' 5 18 = lv σ 5 18 := by unfold lv; rw [oC 5 18 (by omega)]
  have e8 : lv σ' 5 8 = lv σ 5 8 := by unfold lv; rw [oC 5 8 (by omega)]
  exact ⟨⟨by rw [e18']; omega, w2, fun y hy => by rw [e8]; exact w3 y hy⟩, y1, y2, by simp only [List.length_cons]; omega, fun fx hfx => y4 fx (List.mem_cons_of_mem _ hfx), hZ⟩
/-- what a function takes from the one around -/
theorem srch_ok {z : lT} {R : List lT} {a lo x : Nat} (h : srch (z :: R) a = some (lo, x)) : (lo = 1 ∧ x ∈ z.2.1.map (·.2.2)) ∨ (lo = 0 ∧ x < z.2.2.length) := by
  have h : (match knF z.2.1 a with | some s => some (1, s) | none => (cpI z.2.2 a 0).map (fun i => (0, i))) = some (lo, x) := h
  cases hk : knF z.2.1 a with
  | some s =>
    rw [hk] at h
    have h : some (1, s) = some (lo, x) := h
    have h := Option.some.inj h
    obtain ⟨e, e1, e2, e3⟩ := knF_mem _ _ _ hk
    refine Or.inl ⟨(Prod.mk.inj h).1.symm, ?_⟩
    rw [← (Prod.mk.inj h).2, ← e3]
    exact List.mem_map.2 ⟨e, e1, rfl⟩
  | none =>
    rw [hk] at h
    have h : (cpI z.2.2 a 0).map (fun i => (0, i)) = some (lo, x) := h
    cases hc : cpI z.2.2 a 0 with
    | none => rw [hc] at h; cases h
    | some i =>
      rw [hc] at h
      have h : some (0, i) = some (lo, x) := h
      have h := Option.some.inj h
      have := cpI_b _ _ _ _ hc
      exact Or.inr ⟨(Prod.mk.inj h).1.symm, by rw [← (Prod.mk.inj h).2]; omega⟩
/-- a function that is closed, in later states -/
theorem fnC_mk {N' : List lT} {σ0 τ0 σ τ σ2 τ2 : lj_S} {q nl : Nat} {kn : List kT} {cp : List cT} {z : lT} {R : List lT} {l : List Nat} (hC : cpC σ0 q cp) (hM : cpM τ0 q cp) (hk : ckN ((q, kn, cp) :: z :: R)) (hz : cpC σ0 z.1 z.2.2) (hl : z.2.1.map (·.2.2) = l) (e33 : ∀ k j, (k = 33 ∨ k = 34 ∨ k = 35) → σ.1 k j = σ0.1 k j) (e15 : ∀ k j, (k = 15 ∨ k = 18 ∨ k = 19) → τ.1 k j = τ0.1 k j) (tx : TX N' σ τ σ2 τ2) (hq : (q : Int) < lv σ 5 8) (hn : q ∉ N'.map (·.1)) (hzq : (z.1 : Int) < lv σ 5 8) (e29 : σ.1 29 q = Int32.ofNat nl) (e13 : τ.1 13 q = Int32.ofNat nl) (hnl : nl ≤ 50) (e28 : 0 ≤ lv σ 28 q) (e12 : 0 ≤ lv τ 12 q) : fnC σ2 τ2 q z.1 l := by
  obtain ⟨t1, t2, t3, t4, t5⟩ := tx.2.2.2.2.2.2.1 q hq
  obtain ⟨u1, u2, u3⟩ := tx.2.2.2.2.2.2.2.1 q hq hn
  have f29 : σ2.1 29 q = Int32.ofNat nl := by rw [t2]; exact e29
  have f13 : τ2.1 13 q = Int32.ofNat nl := by rw [t3.2]; exact e13
  have l29 : lv σ2 29 q = (nl : Int) := by unfold lv; rw [f29, lz_lit (by omega)]
  have f33 : σ2.1 33 q = Int32.ofNat cp.length := by rw [u1, e33 33 q (by omega)]; exact hC.1
  have f15 : τ2.1 15 q = Int32.ofNat cp.length := by rw [u2, e15 15 q (by omega)]; exact hM.1
  have c30 := hC.2.1
  have l33 : lv σ2 33 q = (cp.length : Int) := by unfold lv; rw [f33, lz_lit (by omega)]
  have l15 : lv τ2 15 q = (cp.length : Int) := by unfold lv; rw [f15, lz_lit (by omega)]
  have lz33 : (z.2.2.length : Int) ≤ lv σ2 33 z.1 := by
    have := (tx.2.2.2.2.2.2.1 z.1 hzq).2.2.2.2
    have e : lv σ 33 z.1 = (z.2.2.length : Int) := by unfold lv; rw [e33 33 z.1 (by omega), hz.1, lz_lit (by have := hz.2.1; omega)]
    omega
  have l8 := tx.2.2.2.1
  refine ⟨⟨⟨by rw [f29, f13], by rw [l29]; omega, by rw [l29]; omega⟩, by unfold lv; rw [t1]; exact e28, by unfold lv; rw [t3.1]; exact e12⟩, by omega, by rw [l33, l15], by rw [l33]; omega, by rw [l33]; omega, fun k hk' => ?_⟩
  rw [l33] at hk'
  have hkl : k < cp.length := by omega
  obtain ⟨v1, v2, v3, v4⟩ := u3 k (by omega)
  obtain ⟨a1, a2, a3, a4⟩ := hC.2.2 k hkl
  obtain ⟨b1, b2, b3⟩ := hM.2.2 k hkl
  have g34 : σ2.1 34 (30 * q + k) = Int32.ofNat cp[k].2.2.1 := by rw [v1, e33 34 _ (by omega)]; exact a2
  have g35 : σ2.1 35 (30 * q + k) = Int32.ofNat cp[k].2.2.2 := by rw [v2, e33 35 _ (by omega)]; exact a3
  have g18 : τ2.1 18 (30 * q + k) = Int32.ofNat cp[k].2.2.1 := by rw [v3, e15 18 _ (by omega)]; exact b1
  have g19 : τ2.1 19 (30 * q + k) = Int32.ofNat cp[k].2.2.2 := by rw [v4, e15 19 _ (by omega)]; exact b2
  refine ⟨by rw [g34, g18], by rw [g35, g19], cp[k].2.2.2, g35, ?_⟩
  rcases srch_ok (hk.1.1 k hkl) with ⟨w1, w2⟩ | ⟨w1, w2⟩
  · exact Or.inl ⟨by rw [g34]; have w1 : cp[k].2.2.1 = 1 := w1; rw [w1]; rfl, by rw [← hl]; exact w2⟩
  · have w2 : cp[k].2.2.2 < z.2.2.length := w2
    exact Or.inr ⟨by rw [g34]; have w1 : cp[k].2.2.1 = 0 := w1; rw [w1]; rfl, by omega⟩
