/-! called fors: their three scopes -/
theorem scP_N {σ : lj_S} {f S x c : Nat} (h18 : σ.1 5 18 = Int32.ofNat S) (hS : S < 4000) (hf : f < 51) (hx : x < 2000) (hc : c < 14000) (h5 : σ.1 5 0 = Int32.ofNat c) : scN σ (scP σ f S (Int32.ofNat x)) f S x c := by
  obtain ⟨g1, g2, g3, g4, g5, g6, g7⟩ := scP_get σ f S (Int32.ofNat x)
  have o := scP_o σ f S (Int32.ofNat x)
  exact ⟨⟨h18, g7, hS, hf, hx, hc⟩, fun k hk => ⟨o 37 k (by omega) (by omega) (by omega), o 38 k (by omega) (by omega) (by omega), o 39 k (by omega) (by omega) (by omega), o 40 k (by omega) (by omega) (by omega), o 41 k (by omega) (by omega) (by omega)⟩, ⟨g1, g2, by rw [g3]; exact h5, g4, g5⟩, g6, fun q hq => o 42 q (by omega) (by omega) (by omega)⟩
theorem fl_end {fl : List Nat} {a d x : Nat} (h : (fl ++ [a])[d]? = some x) : (d < fl.length ∧ fl[d]? = some x) ∨ (d = fl.length ∧ a = x) := by
  by_cases w : d < fl.length
  · rw [List.getElem?_append_left w] at h
    exact Or.inl ⟨w, h⟩
  · rw [List.getElem?_append_right (by omega)] at h
    by_cases u : d - fl.length = 0
    · rw [u] at h
      exact Or.inr ⟨(by omega), Option.some.inj h⟩
    · rw [List.getElem?_eq_none (by simp; omega)] at h; cases h
theorem fl_in {fl : List Nat} {a d x : Nat} (h : fl[d]? = some x) : (fl ++ [a])[d]? = some x := by
  by_cases w : d < fl.length
  · rw [List.getElem?_append_left w]; exact h
  · rw [List.getElem?_eq_none (by omega)] at h; cases h
theorem fl_last (fl : List Nat) (a : Nat) : (fl ++ [a])[fl.length]? = some a := by
  rw [List.getElem?_append_right (Nat.le_refl _), Nat.sub_self]; rfl
theorem PS.cal {b : Nat → Int32} {n T : Nat} {Q : tkQ} {X : List Int32 → Prop} (hT5 : T ≤ 520) {FO0 : List fT} {nl rv : Nat} {fl : List Nat} {Z : List zT} {PL : List qT} {cl ml F : Nat} {z : lT} {R : List lT} {p v c m wh : Nat} {W : List wT} {σ τ : lj_S} (h : PS b n T Q X F (z :: R) (((nl, rv + 3), fl ++ [3]) :: FO0) Z PL cl ml p v c m wh W σ τ) :
    ∃ S σ1 σ2 σ3, lj_R lc_P 56 [.ref 5, .int (Int32.ofNat z.1), .int (Int32.ofNat (1000 + 3 * fl.length))] σ = some (.inl (some (.int (Int32.ofNat S))), σ1) ∧ σ1.1 6 2 = Int32.ofNat z.1 ∧ lj_R lc_P 56 [.ref 5, .int (Int32.ofNat z.1), .int (Int32.ofNat (1000 + 3 * fl.length + 1))] σ1 = some (.inl (some (.int (Int32.ofNat (S + 1)))), σ2) ∧ σ2.1 6 2 = Int32.ofNat z.1 ∧ lj_R lc_P 56 [.ref 5, .int (Int32.ofNat z.1), .int (Int32.ofNat (1000 + 3 * fl.length + 2))] σ2 = some (.inl (some (.int (Int32.ofNat (S + 2)))), σ3) ∧ S + 2 < 4000 ∧ PS b n T Q X F (z :: R) (((nl, rv), fl ++ [4 + S]) :: FO0) Z PL cl ml p v c m wh W σ3 τ ∧ GR (z :: R) (z :: R) F F p p c c m m σ τ σ3 τ := by
  have hNR := h.1.2.2.1
  have hF := h.1.2.2.2.1
  have hLv := h.1.2.2.2.2.2.1
  have hSC := h.1.2.2.2.2.2.2
  have hz51 : z.1 < 51 := hNR.1.1.1
  have h62 : σ.1 6 2 = Int32.ofNat z.1 := hNR.2.2.2.2.2.2.1
  have hzF : z.1 < F := h.1.2.2.2.2.1 z (List.mem_cons_self)
  have hc14 := h.c14 hT5
  have hc5 : σ.1 5 0 = Int32.ofNat c := h.2.1.2.2.2.2.1
  have hib := h.2.2.2.2.1.2.1
  have hp := h.2.2.1.1
  have hS0 := hSC.1.1
  have hS1 := hib.1
  simp only [rsv] at hS1
  have hfl20 : (fl ++ [3]).length ≤ 20 := hLv.1.2.2.1
  rw [List.length_append] at hfl20
  simp only [List.length_cons, List.length_nil] at hfl20
  obtain ⟨S, hS⟩ : ∃ S : Nat, lv σ 5 18 = (S : Int) := ⟨(lv σ 5 18).toNat, by omega⟩
  have h18 : σ.1 5 18 = Int32.ofNat S := by apply lz_ext; rw [lz_lit (by omega)]; exact hS
  have hS4 : S + 3 < 4000 := by omega
  generalize hd : fl.length = d at *
  generalize hx : 1000 + 3 * d = x at *
  have n1 := scP_N (f := z.1) (x := x) h18 (by omega) hz51 (by omega) (show c < 14000 by omega) hc5
  have o1 := scP_o σ z.1 S (Int32.ofNat x)
  have e1 := c_scope (σ := σ) h18 (show S < 4000 by omega) hz51 (Int32.ofNat x)
  have f1 : lf pC σ (scP σ z.1 S (Int32.ofNat x)) := by
    unfold scP
    exact lf_put (lf_put (lf_put (lf_put (lf_put (lf_put (lf_put (lf_rf _ _) _ _ _ rfl) _ _ _ rfl) _ _ _ rfl) _ _ _ rfl) _ _ _ rfl) _ _ _ rfl) _ _ _ rfl
  have t1 : (scP σ z.1 S (Int32.ofNat x)).2 = σ.2 := rfl
  generalize scP σ z.1 S (Int32.ofNat x) = σ1 at *
  have n2 := scP_N (σ := σ1) (f := z.1) (S := S + 1) (x := x + 1) n1.1.2.1 (by omega) hz51 (by omega) (show c < 14000 by omega) (by rw [o1 5 0 (by omega) (by omega) (by omega)]; exact hc5)
  have o2 := scP_o σ1 z.1 (S + 1) (Int32.ofNat (x + 1))
  have e2 := c_scope (σ := σ1) n1.1.2.1 (show S + 1 < 4000 by omega) hz51 (Int32.ofNat (x + 1))
  have f2 : lf pC σ1 (scP σ1 z.1 (S + 1) (Int32.ofNat (x + 1))) := by
    unfold scP
    exact lf_put (lf_put (lf_put (lf_put (lf_put (lf_put (lf_put (lf_rf _ _) _ _ _ rfl) _ _ _ rfl) _ _ _ rfl) _ _ _ rfl) _ _ _ rfl) _ _ _ rfl) _ _ _ rfl
  have t2 : (scP σ1 z.1 (S + 1) (Int32.ofNat (x + 1))).2 = σ1.2 := rfl
  generalize scP σ1 z.1 (S + 1) (Int32.ofNat (x + 1)) = σ2 at *
  have n3 := scP_N (σ := σ2) (f := z.1) (S := S + 2) (x := x + 2) n2.1.2.1 (by omega) hz51 (by omega) (show c < 14000 by omega) (by rw [o2 5 0 (by omega) (by omega) (by omega), o1 5 0 (by omega) (by omega) (by omega)]; exact hc5)
  have o3 := scP_o σ2 z.1 (S + 2) (Int32.ofNat (x + 2))
  have e3 := c_scope (σ := σ2) n2.1.2.1 (show S + 2 < 4000 by omega) hz51 (Int32.ofNat (x + 2))
  have f3 : lf pC σ2 (scP σ2 z.1 (S + 2) (Int32.ofNat (x + 2))) := by
    unfold scP
    exact lf_put (lf_put (lf_put (lf_put (lf_put (lf_put (lf_put (lf_rf _ _) _ _ _ rfl) _ _ _ rfl) _ _ _ rfl) _ _ _ rfl) _ _ _ rfl) _ _ _ rfl) _ _ _ rfl
  have t3 : (scP σ2 z.1 (S + 2) (Int32.ofNat (x + 2))).2 = σ2.2 := rfl
  generalize scP σ2 z.1 (S + 2) (Int32.ofNat (x + 2)) = σ3 at *
  -- what is not a scope stays
  have oC : ∀ k j, (k < 37 ∨ 42 < k) → ¬ (k = 5 ∧ j = 18) → σ3.1 k j = σ.1 k j := fun k j a1 a2 => by rw [o3 k j (by omega) (by omega) (by omega), o2 k j (by omega) (by omega) (by omega), o1 k j (by omega) (by omega) (by omega)]
  have fC : lf pC σ σ3 := (f1.tr f2).tr f3
  have hC : ∀ (A : Nat → Nat → Bool), (∀ k j, A k j = true → (k < 37 ∨ 42 < k) ∧ ¬ (k = 5 ∧ j = 18)) → ∀ k j, A k j = true → σ3.1 k j = σ.1 k j := fun A a1 k j q => oC k j (a1 k j q).1 (a1 k j q).2
  have opA3 : ∀ q y k, opA σ3 q y k ↔ opA σ q y k ∨ (q = z.1 ∧ ((y = x ∧ k = S) ∨ (y = x + 1 ∧ k = S + 1) ∨ (y = x + 2 ∧ k = S + 2))) := fun q y k => by
    rw [scN_opA n3, scN_opA n2, scN_opA n1]
    constructor
    · rintro (((a | a) | a) | a)
      · exact Or.inl a
      · exact Or.inr ⟨a.1, Or.inl a.2⟩
      · exact Or.inr ⟨a.1, Or.inr (Or.inl a.2)⟩
      · exact Or.inr ⟨a.1, Or.inr (Or.inr a.2)⟩
    · rintro (a | ⟨a, b | b | b⟩)
      · exact Or.inl (Or.inl (Or.inl a))
      · exact Or.inl (Or.inl (Or.inr ⟨a, b⟩))
      · exact Or.inl (Or.inr ⟨a, b⟩)
      · exact Or.inr ⟨a, b⟩
  have hOp0 : hOp σ z.1 (fl ++ [3]) := hLv.1.2.2.2.2.1
  have hno : ∀ e, e < 3 → ¬ openK σ z.1 (x + e) := fun e he q => by
    obtain ⟨S', hS'⟩ := hOp0.1 d e he (by rw [hx]; exact q)
    rw [← hd, fl_last] at hS'
    have := Option.some.inj hS'
    omega
  have hno1 : ¬ openK σ z.1 x := hno 0 (by omega)
  have hno2 : ¬ openK σ1 z.1 (x + 1) := fun q => by
    rcases (scN_opn n1 _ _).1 q with q | q
    · exact hno 1 (by omega) q
    · omega
  have hno3 : ¬ openK σ2 z.1 (x + 2) := fun q => by
    rcases (scN_opn n2 _ _).1 q with q | q
    · rcases (scN_opn n1 _ _).1 q with q | q
      · exact hno 2 (by omega) q
      · omega
    · omega
  have hf8 : (z.1 : Int) < lv σ 5 8 := by unfold lv; rw [hF.1, lz_lit (by have := hF.2.2.1; omega)]; omega
  have g8a : σ1.1 5 8 = σ.1 5 8 := o1 5 8 (by omega) (by omega) (by omega)
  have g8b : σ2.1 5 8 = σ1.1 5 8 := o2 5 8 (by omega) (by omega) (by omega)
  have g8c : σ3.1 5 8 = σ2.1 5 8 := o3 5 8 (by omega) (by omega) (by omega)
  have l8a : lv σ1 5 8 = lv σ 5 8 := by unfold lv; rw [g8a]
  have l8b : lv σ2 5 8 = lv σ 5 8 := by unfold lv; rw [g8b, g8a]
  have l8c : lv σ3 5 8 = lv σ 5 8 := by unfold lv; rw [g8c, g8b, g8a]
  have sc := scN_SCr n3 (scN_SCr n2 (scN_SCr n1 hSC hno1 g8a hf8) hno2 g8b (by omega)) hno3 g8c (by omega)
  have kk : ∀ q r, ksc σ q r → ksc σ3 q r := fun q r g => scN_ksc n3 (fun i _ => o3 47 _ (by omega) (by omega) (by omega)) (scN_ksc n2 (fun i _ => o2 47 _ (by omega) (by omega) (by omega)) (scN_ksc n1 (fun i _ => o1 47 _ (by omega) (by omega) (by omega)) g))
  have s0 : sR σ τ X := h.1.2.1
  have s1 : sR σ1 τ X := (sR_pp s0 f1 (lf_rf pM τ)).1
  have s2 : sR σ2 τ X := (sR_pp s1 f2 (lf_rf pM τ)).1
  have le32 : ∀ {a b : lj_S}, (∀ q, b.1 32 q = a.1 32 q) → ∀ q, lv a 32 q ≤ lv b 32 q := fun e q => by unfold lv; rw [e q]; exact Int.le_refl _
  have tx1 : TX (z :: R) σ τ σ1 τ := scN_TX _ n1 f1 (lf_rf pM τ) s0 hc5 (fun k j q => o1 k j (by omega) (by omega) (by omega)) (le32 (fun q => o1 32 q (by omega) (by omega) (by omega))) (fun _ _ _ => rfl) (fun i => by rw [t1]) (fun _ => rfl)
  have tx2 : TX (z :: R) σ1 τ σ2 τ := scN_TX _ n2 f2 (lf_rf pM τ) s1 (by rw [o1 5 0 (by omega) (by omega) (by omega)]; exact hc5) (fun k j q => o2 k j (by omega) (by omega) (by omega)) (le32 (fun q => o2 32 q (by omega) (by omega) (by omega))) (fun _ _ _ => rfl) (fun i => by rw [t2]) (fun _ => rfl)
  have tx3 : TX (z :: R) σ2 τ σ3 τ := scN_TX _ n3 f3 (lf_rf pM τ) s2 (by rw [o2 5 0 (by omega) (by omega) (by omega), o1 5 0 (by omega) (by omega) (by omega)]; exact hc5) (fun k j q => o3 k j (by omega) (by omega) (by omega)) (le32 (fun q => o3 32 q (by omega) (by omega) (by omega))) (fun _ _ _ => rfl) (fun i => by rw [t3]) (fun _ => rfl)
  have tx : TX (z :: R) σ τ σ3 τ := (tx1.tr tx2 (fun _ _ q => q)).tr tx3 (fun _ _ q => q)
  have hnd' := hNR.2.2.2.1
  rw [List.map_cons, List.nodup_cons] at hnd'
  have hl50 := nmC_len hNR.1
  have ar1 := scN_ar n1
  have ar2 := scN_ar n2
  have ar3 := scN_ar n3
  refine ⟨S, σ1, σ2, σ3, e1, by rw [o1 6 2 (by omega) (by omega) (by omega)]; exact h62, e2, by rw [o2 6 2 (by omega) (by omega) (by omega), o1 6 2 (by omega) (by omega) (by omega)]; exact h62, e3, (by omega), ?_, ⟨tx, lvX_rf _, (Nat.le_refl _), (Nat.le_refl _), (Nat.le_refl _), (Nat.le_refl _), fz_eq (fun k j w1 w2 => oC k j (by omega) (by omega)) (fun _ _ _ _ => rfl)⟩⟩
  refine h.mk' fC (lf_rf _ _) (NR_eq hNR (hC nrC (fun k j q => by simp [nrC] at q; omega)) (fun _ _ _ => rfl)) ⟨by rw [oC 5 8 (by omega) (by omega)]; exact hF.1, hF.2.1, hF.2.2.1, fun q hq => ?_⟩ h.1.2.2.2.2.1 ⟨⟨?_, ?_, ?_, fun y hy => ?_, ⟨fun d' e' he' w => ?_, fun d' S' e' w he' => ?_⟩, kk _ _ hLv.1.2.2.2.2.2.1, ?_⟩, lvS_out (f := z.1) (fun q _ => oC 49 q (by omega) (by omega)) (fun q _ => by unfold lv; rw [oC 32 q (by omega) (by omega)]; exact Int.le_refl _) (fun q _ => oC 31 q (by omega) (by omega)) (fun q y k hq => (opA3 q y k).trans ⟨fun w => w.elim id (fun w => absurd w.1 hq), Or.inl⟩) (fun q r _ _ g => kk q r g) (fun y hy => hl50 y (List.mem_cons_of_mem _ hy)) hnd'.1 hLv.2⟩ sc (hnd_eq h.2.1 (hC hdC (fun k j q => by simp [hdC] at q; omega)) (fun _ _ _ => rfl)) h.2.2.1 (LPr_eq h.2.2.2.1 (hC lpC (fun k j q => by simp [lpC] at q; omega)) (fun _ _ _ => rfl) (Nat.le_refl _) (Nat.le_refl _) (fun _ _ => rfl)) h.2.2.2.2.1.1 ?_ h.2.2.2.2.2
  · obtain ⟨b1, b2, b3, b4, b5, b6, b7, b8⟩ := hF.2.2.2 q hq
    have y31 : lv σ3 31 q = lv σ 31 q := by unfold lv; rw [oC 31 q (by omega) (by omega)]
    exact ⟨by rw [oC 31 q (by omega) (by omega)]; exact b1, by rw [y31]; exact b2, by rw [y31]; exact b3, by rw [oC 33 q (by omega) (by omega)]; exact b4, by rw [oC 30 q (by omega) (by omega)]; exact b5, by rw [oC 30 q (by omega) (by omega)]; exact b6, by rw [oC 36 q (by omega) (by omega)]; exact b7, scN_FX n3 (scN_FX n2 (scN_FX n1 b8 (o1 29 q (by omega) (by omega) (by omega)) (o1 31 q (by omega) (by omega) (by omega)) (o1 32 q (by omega) (by omega) (by omega))) (o2 29 q (by omega) (by omega) (by omega)) (o2 31 q (by omega) (by omega) (by omega)) (o2 32 q (by omega) (by omega) (by omega))) (o3 29 q (by omega) (by omega) (by omega)) (o3 31 q (by omega) (by omega) (by omega)) (o3 32 q (by omega) (by omega) (by omega))⟩
  · have := hLv.1.1
    rw [oC 49 _ (by omega) (by omega)]
    show σ.1 49 z.1 = Int32.ofNat (fl ++ [4 + S]).length
    rw [show (fl ++ [4 + S]).length = (fl ++ [3]).length by simp]
    exact this
  · have := hLv.1.2.1
    have e : lv σ3 32 z.1 = lv σ 32 z.1 := by unfold lv; rw [oC 32 _ (by omega) (by omega)]
    rw [e]
    show ((fl ++ [4 + S]).length : Int) ≤ _
    rw [show (fl ++ [4 + S]).length = (fl ++ [3]).length by simp]
    exact this
  · show (fl ++ [4 + S]).length ≤ 20
    simp; omega
  · refine Iff.trans ?_ (hLv.1.2.2.2.1 y hy)
    constructor
    · rintro ⟨k, hk⟩
      rcases (opA3 _ _ k).1 hk with a | a
      · exact ⟨k, a⟩
      · omega
    · rintro ⟨k, hk⟩
      exact ⟨k, (opA3 _ _ k).2 (Or.inl hk)⟩
  · show ∃ S', (fl ++ [4 + S])[d']? = some (4 + S')
    obtain ⟨k, hk⟩ := w
    rcases (opA3 _ _ k).1 hk with a | a
    · obtain ⟨S', hS'⟩ := hOp0.1 d' e' he' ⟨k, a⟩
      rcases fl_end hS' with ⟨u1, u2⟩ | ⟨_, u2⟩
      · exact ⟨S', fl_in u2⟩
      · omega
    · have : d' = fl.length := by omega
      rw [this]
      exact ⟨S, fl_last fl (4 + S)⟩
  · have w : (fl ++ [4 + S])[d']? = some (4 + S') := w
    rcases fl_end w with ⟨u1, u2⟩ | ⟨u1, u2⟩
    · exact (opA3 _ _ _).2 (Or.inl (hOp0.2 d' S' e' (fl_in u2) he'))
    · have hSS : S' = S := by omega
      refine (opA3 _ _ _).2 (Or.inr ⟨rfl, ?_⟩)
      have : e' = 0 ∨ e' = 1 ∨ e' = 2 := by omega
      rcases this with e | e | e
      · exact Or.inl ⟨(by omega), (by omega)⟩
      · exact Or.inr (Or.inl ⟨(by omega), (by omega)⟩)
      · exact Or.inr (Or.inr ⟨(by omega), (by omega)⟩)
  · have := hLv.1.2.2.2.2.2.2
    exact ⟨by rw [oC 31 _ (by omega) (by omega)]; exact this.1, this.2⟩
  · obtain ⟨⟨z1, z2, z3⟩, y1, y2, y3, y4, y5⟩ := h.2.2.2.2.1.2
    refine ⟨⟨?_, z2, fun y hy => by rw [l8c]; exact z3 y hy⟩, y1, y2, y3, fun fx hfx => ?_, y5⟩
    · simp only [rsv]
      omega
    · rcases List.mem_cons.1 hfx with w | w
      · have := y4 _ (List.mem_cons_self)
        rw [w]
        show (fl ++ [4 + S]).length ≤ v
        rw [show (fl ++ [4 + S]).length = (fl ++ [3]).length by simp]
        exact this
      · exact y4 fx (List.mem_cons_of_mem _ w)
/-- they are closed -/
def clS (σ : lj_S) (S : Nat) : lj_S := lj_put (lj_put (lj_put σ 40 S (σ.1 5 0)) 40 (S + 1) (σ.1 5 0)) 40 (S + 2) (σ.1 5 0)
theorem PS.ucl {b : Nat → Int32} {n T : Nat} {Q : tkQ} {X : List Int32 → Prop} (hT5 : T ≤ 520) {FO0 : List fT} {nl rv S : Nat} {fl : List Nat} {Z : List zT} {PL : List qT} {cl ml F : Nat} {z : lT} {R : List lT} {p v c m wh : Nat} {W : List wT} {σ τ : lj_S} (h : PS b n T Q X F (z :: R) (((nl, rv), fl ++ [4 + S]) :: FO0) Z PL cl ml p v c m wh W σ τ) :
    S + 2 < 4000 ∧ PS b n T Q X F (z :: R) (((nl, rv), fl ++ [3]) :: FO0) Z PL cl ml p v c m wh W (clS σ S) τ ∧ GR (z :: R) (z :: R) F F p p c c m m σ τ (clS σ S) τ := by
  have hNR := h.1.2.2.1
  have hF := h.1.2.2.2.1
  have hLv := h.1.2.2.2.2.2.1
  have hSC := h.1.2.2.2.2.2.2
  have hc14 := h.c14 hT5
  have hc5 : σ.1 5 0 = Int32.ofNat c := h.2.1.2.2.2.2.1
  have hib := h.2.2.2.2.1.2.1
  have hp := h.2.2.1.1
  have hOp0 : hOp σ z.1 (fl ++ [4 + S]) := hLv.1.2.2.2.2.1
  have hA : ∀ e, e < 3 → opA σ z.1 (1000 + 3 * fl.length + e) (S + e) := fun e he => hOp0.2 fl.length S e (fl_last fl _) he
  have a0 := hA 0 (by omega)
  have a1 := hA 1 (by omega)
  have a2 := hA 2 (by omega)
  have hfl20 : (fl ++ [4 + S]).length ≤ 20 := hLv.1.2.2.1
  rw [List.length_append] at hfl20
  simp only [List.length_cons, List.length_nil] at hfl20
  have hS1 := hib.1
  have hr0 : (0 : Int) ≤ (rsv (((nl, rv), fl ++ [4 + S]) :: FO0) : Int) := Int.natCast_nonneg _
  have hSb : S + 2 < 4000 := by have := a2.1; omega
  have oC : ∀ k j, ¬ (k = 40 ∧ (j = S ∨ j = S + 1 ∨ j = S + 2)) → (clS σ S).1 k j = σ.1 k j := fun k j q => by
    unfold clS
    rw [lj_put_1, if_neg (by omega), lj_put_1, if_neg (by omega), lj_put_1, if_neg (by omega)]
  have o40 : ∀ j, (j = S ∨ j = S + 1 ∨ j = S + 2) → (clS σ S).1 40 j = Int32.ofNat c := fun j q => by
    unfold clS
    rw [lj_put_1]
    split
    · exact hc5
    · rw [lj_put_1]
      split
      · exact hc5
      · rw [lj_put_1, if_pos ⟨rfl, (by omega)⟩]
        exact hc5
  have c2 : (clS σ S).2 = σ.2 := rfl
  generalize clS σ S = σ' at *
  have lC : ∀ k j, k ≠ 40 → lv σ' k j = lv σ k j := fun k j q => by unfold lv; rw [oC k j (by omega)]
  have l40 : ∀ j, (j = S ∨ j = S + 1 ∨ j = S + 2) → lv σ' 40 j = (c : Int) := fun j q => by unfold lv; rw [o40 j q, lz_lit (by omega)]
  have l40' : ∀ j, ¬ (j = S ∨ j = S + 1 ∨ j = S + 2) → lv σ' 40 j = lv σ 40 j := fun j q => by unfold lv; rw [oC 40 j (by omega)]
  -- slots of those that are closed
  have hsl : ∀ j, (j = S ∨ j = S + 1 ∨ j = S + 2) → lv σ 37 j = (z.1 : Int) ∧ lv σ 40 j = 14000 ∧ ∃ e : Nat, e < 3 ∧ j = S + e ∧ lv σ 38 j = ((1000 + 3 * fl.length + e : Nat) : Int) := fun j q => by
    rcases q with q | q | q
    · rw [q]; exact ⟨a0.2.1, a0.2.2.1, 0, (by omega), rfl, a0.2.2.2⟩
    · rw [q]; exact ⟨a1.2.1, a1.2.2.1, 1, (by omega), rfl, a1.2.2.2⟩
    · rw [q]; exact ⟨a2.2.1, a2.2.2.1, 2, (by omega), rfl, a2.2.2.2⟩
  have opB : ∀ q y k, opA σ' q y k ↔ opA σ q y k ∧ ¬ (k = S ∨ k = S + 1 ∨ k = S + 2) := fun q y k => by
    unfold opA
    rw [lC 5 18 (by omega), lC 37 k (by omega), lC 38 k (by omega)]
    by_cases w : k = S ∨ k = S + 1 ∨ k = S + 2
    · rw [l40 k w]
      constructor
      · rintro ⟨_, _, q, _⟩; omega
      · rintro ⟨_, q⟩; exact absurd w q
    · rw [l40' k w]
      exact ⟨fun q => ⟨q, w⟩, fun q => q.1⟩
  have fC : lf pC σ σ' := fun k j q => ⟨by have := pC_k q; exact oC k j (by omega), by rw [c2]⟩
  have hC : ∀ (A : Nat → Nat → Bool), (∀ j, A 40 j = false) → ∀ k j, A k j = true → σ'.1 k j = σ.1 k j := fun A a k j q => oC k j (by rintro ⟨e, _⟩; rw [e, a] at q; cases q)
  have kk : ∀ (q : Nat) (r : List kT), (q ≠ z.1 ∨ ∀ y ∈ r.map (·.2.2), y < 1000) → ksc σ q r → ksc σ' q r := fun q r hr => ksc_keep (lC 5 18 (by omega)) (fun j => oC 47 j (by omega)) (fun k => lC 37 k (by omega)) (fun k => lC 38 k (by omega)) (fun k y hy w1 w2 w3 w4 => by
    by_cases w : k = S ∨ k = S + 1 ∨ k = S + 2
    · obtain ⟨u1, _, e, _, _, u⟩ := hsl k w
      rcases hr with hr | hr
      · exact absurd (show q = z.1 by omega) hr
      · have := hr y hy
        omega
    · rw [l40' k w]; exact w4)
  have hnd' := hNR.2.2.2.1
  rw [List.map_cons, List.nodup_cons] at hnd'
  have hl50 := nmC_len hNR.1
  have hslt := hLv.1.2.2.2.2.2.2
  have hkn : ∀ u ∈ z.2.1.map (·.2.2), u < 1000 := fun u hu => by
    have w1 : u < nl := hslt.2.2.2 u hu
    have w2 : nl ≤ 50 := hslt.2.1
    omega
  have tx : TX (z :: R) σ τ σ' τ := by
    refine ⟨(sR_pp h.1.2.1 fC (lf_rf pM τ)).2, by rw [lC 5 0 (by omega)]; exact Int.le_refl _, by rw [lC 5 6 (by omega)]; exact Int.le_refl _, by rw [lC 5 8 (by omega)]; exact Int.le_refl _, by rw [lC 5 18 (by omega)]; exact Int.le_refl _, fun i _ => ⟨by rw [c2], rfl⟩, fun q _ => ⟨oC 28 q (by omega), oC 29 q (by omega), ⟨rfl, rfl⟩, ⟨by rw [lC 32 q (by omega)]; exact Int.le_refl _, by rw [lC 31 q (by omega)]; exact Int.le_refl _⟩, by rw [lC 33 q (by omega)]; exact Int.le_refl _⟩, fun q _ _ => ⟨oC 33 q (by omega), rfl, fun i _ => ⟨oC 34 _ (by omega), oC 35 _ (by omega), rfl, rfl⟩⟩, fun k _ => ⟨oC 37 k (by omega), oC 38 k (by omega), oC 39 k (by omega), ?_⟩, fun k a b => ?_, fC, lf_rf _ _⟩
    · by_cases w : k = S ∨ k = S + 1 ∨ k = S + 2
      · refine Or.inr ⟨(hsl k w).2.1, ?_⟩
        rw [l40 k w]
        unfold lv
        rw [hc5, lz_lit (by omega)]
        exact Int.le_refl _
      · exact Or.inl (oC 40 k (by omega))
    · rw [lC 5 18 (by omega)] at b
      omega
  refine ⟨hSb, ?_, ⟨tx, lvX_rf _, (Nat.le_refl _), (Nat.le_refl _), (Nat.le_refl _), (Nat.le_refl _), fz_eq (fun k j w1 w2 => oC k j (by omega)) (fun _ _ _ _ => rfl)⟩⟩
  refine h.mk' fC (lf_rf _ _) (NR_eq hNR (hC nrC (fun _ => rfl)) (fun _ _ _ => rfl)) (FR_eq hF (hC frC (fun _ => rfl)) (fun _ _ _ => rfl)) h.1.2.2.2.2.1 ⟨⟨?_, ?_, ?_, fun y hy => ?_, ⟨fun d' e' he' w => ?_, fun d' S' e' w he' => ?_⟩, kk _ _ (Or.inr hkn) hLv.1.2.2.2.2.2.1, ?_⟩, lvS_out (f := z.1) (fun q _ => oC 49 q (by omega)) (fun q _ => by rw [lC 32 q (by omega)]; exact Int.le_refl _) (fun q _ => oC 31 q (by omega)) (fun q y k hq => (opB q y k).trans ⟨fun w => w.1, fun w => ⟨w, fun w' => hq (by have u1 := (hsl k w').1; have u2 := w.2.1; omega)⟩⟩) (fun q r hq _ g => kk q r (Or.inl hq) g) (fun y hy => hl50 y (List.mem_cons_of_mem _ hy)) hnd'.1 hLv.2⟩ ⟨⟨by rw [lC 5 18 (by omega)]; exact hSC.1.1, fun k k' q1 q2 q3 q4 q5 q6 => ?_⟩, fun k hk => ?_⟩ (hnd_eq h.2.1 (hC hdC (fun _ => rfl)) (fun _ _ _ => rfl)) h.2.2.1 (LPr_eq h.2.2.2.1 (hC lpC (fun _ => rfl)) (fun _ _ _ => rfl) (Nat.le_refl _) (Nat.le_refl _) (fun _ _ => rfl)) h.2.2.2.2.1.1 ?_ h.2.2.2.2.2
  · have := hLv.1.1
    rw [oC 49 _ (by omega)]
    show σ.1 49 z.1 = Int32.ofNat (fl ++ [3]).length
    rw [show (fl ++ [(3 : Nat)] : List Nat).length = (fl ++ [4 + S] : List Nat).length from by simp]
    exact this
  · have := hLv.1.2.1
    rw [lC 32 _ (by omega)]
    show ((fl ++ [3]).length : Int) ≤ _
    rw [show (fl ++ [(3 : Nat)] : List Nat).length = (fl ++ [4 + S] : List Nat).length from by simp]
    exact this
  · show (fl ++ [3]).length ≤ 20
    simp; omega
  · refine Iff.trans ?_ (hLv.1.2.2.2.1 y hy)
    constructor
    · rintro ⟨k, hk⟩
      exact ⟨k, ((opB _ _ k).1 hk).1⟩
    · rintro ⟨k, hk⟩
      refine ⟨k, (opB _ _ k).2 ⟨hk, fun w => ?_⟩⟩
      obtain ⟨_, _, e, _, _, u⟩ := hsl k w
      have := hk.2.2.2
      omega
  · show ∃ S', (fl ++ [3])[d']? = some (4 + S')
    obtain ⟨k, hk⟩ := w
    obtain ⟨hk1, hk2⟩ := (opB _ _ k).1 hk
    obtain ⟨S', hS'⟩ := hOp0.1 d' e' he' ⟨k, hk1⟩
    rcases fl_end hS' with ⟨u1, u2⟩ | ⟨u1, u2⟩
    · exact ⟨S', fl_in u2⟩
    · exfalso
      have hb := hA e' he'
      rw [u1] at hk1
      have : k = S + e' := hSC.1.2 k (S + e') hk1.1 hb.1 hk1.2.2.1 hb.2.2.1 (by rw [hk1.2.1, hb.2.1]) (by rw [hk1.2.2.2, hb.2.2.2])
      omega
  · have w : (fl ++ [3])[d']? = some (4 + S') := w
    rcases fl_end w with ⟨u1, u2⟩ | ⟨u1, u2⟩
    · have hb := hOp0.2 d' S' e' (fl_in u2) he'
      refine (opB _ _ _).2 ⟨hb, fun w' => ?_⟩
      obtain ⟨_, _, e, he, _, u⟩ := hsl _ w'
      have := hb.2.2.2
      omega
    · omega
  · have := hLv.1.2.2.2.2.2.2
    exact ⟨by rw [oC 31 _ (by omega)]; exact this.1, this.2⟩
  · have hh : ∀ k : Nat, (lv σ' 40 k = 14000) → lv σ 40 k = 14000 := fun k q => by
      by_cases w : k = S ∨ k = S + 1 ∨ k = S + 2
      · exact (hsl k w).2.1
      · rw [← l40' k w]; exact q
    rw [lC 5 18 (by omega)] at q1 q2
    rw [lC 37 k (by omega), lC 37 k' (by omega)] at q5
    rw [lC 38 k (by omega), lC 38 k' (by omega)] at q6
    exact hSC.1.2 k k' q1 q2 (hh k q3) (hh k' q4) q5 q6
  · rw [lC 5 18 (by omega)] at hk
    have := hSC.2 k hk
    rw [lC 39 k (by omega), lC 37 k (by omega), lC 38 k (by omega), lC 5 8 (by omega)]
    by_cases w : k = S ∨ k = S + 1 ∨ k = S + 2
    · rw [l40 k w]; omega
    · rw [l40' k w]; exact this
  · obtain ⟨⟨z1, z2, z3⟩, y1, y2, y3, y4, y5⟩ := h.2.2.2.2.1.2
    refine ⟨⟨by rw [lC 5 18 (by omega)]; exact z1, z2, fun y hy => by rw [lC 5 8 (by omega)]; exact z3 y hy⟩, y1, y2, y3, fun fx hfx => ?_, y5⟩
    rcases List.mem_cons.1 hfx with w | w
    · have := y4 _ (List.mem_cons_self)
      rw [w]
      show (fl ++ [3]).length ≤ v
      rw [show (fl ++ [(3 : Nat)] : List Nat).length = (fl ++ [4 + S] : List Nat).length from by simp]
      exact this
    · exact y4 fx (List.mem_cons_of_mem _ w)
