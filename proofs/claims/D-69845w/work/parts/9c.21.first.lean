/-! the first call of a run -/
/-- the component begins -/
def cBg (σ : lj_S) (x : Int32) : lj_S := lj_put (lj_put (lj_put (lj_put (lj_put (lj_put (lj_put (lj_put (lj_put (lj_put σ 8 45 x) 8 48 1) 8 7 0) 8 8 0) 82 0 0) 90 0 0) 83 0 2) 8 38 0) 8 34 (-1)) 8 35 0
theorem cBg_o (σ : lj_S) (x : Int32) (k j : Nat) (h1 : ¬ (k = 8 ∧ (j = 7 ∨ j = 8 ∨ j = 34 ∨ j = 35 ∨ j = 38 ∨ j = 45 ∨ j = 48))) (h2 : ¬ ((k = 82 ∨ k = 83 ∨ k = 90) ∧ j = 0)) : (cBg σ x).1 k j = σ.1 k j := by
  unfold cBg
  rw [lj_put_1, if_neg (by omega), lj_put_1, if_neg (by omega), lj_put_1, if_neg (by omega), lj_put_1, if_neg (by omega), lj_put_1, if_neg (by omega), lj_put_1, if_neg (by omega), lj_put_1, if_neg (by omega), lj_put_1, if_neg (by omega), lj_put_1, if_neg (by omega), lj_put_1, if_neg (by omega)]
theorem ld_MB {σ0 τ0 σ τ : lj_S} (h : ldQ σ0 τ0 σ τ) {x : Nat} (hx : x ≤ 3000) : MB σ0 τ0 3 0 0 [] (fun _ => []) (fun _ => 0) [] [] [536870912 * x] (cBg σ (Int32.ofNat x)) τ := by
  obtain ⟨⟨h1, h2, h3, h4, h5, h6, h7⟩, hob, ⟨c71, c721, c725, c570, c18, c33, c46, c48, c51, c53, c44, c102⟩, ⟨m110, m111, m58, m59, m62, m63, m64, m65, m130, m131, m137, m143, m145, m152, m153, m78, m96, m57⟩⟩ := h
  obtain ⟨σ', hσ'⟩ : ∃ s, s = cBg σ (Int32.ofNat x) := ⟨_, rfl⟩
  rw [← hσ']
  have o : ∀ k j, ¬ (k = 8 ∧ (j = 7 ∨ j = 8 ∨ j = 34 ∨ j = 35 ∨ j = 38 ∨ j = 45 ∨ j = 48)) → ¬ ((k = 82 ∨ k = 83 ∨ k = 90) ∧ j = 0) → σ'.1 k j = σ.1 k j := fun k j w1 w2 => by rw [hσ']; exact cBg_o σ _ k j w1 w2
  have o2 : ∀ k j, σ'.2 k j = σ.2 k j := fun k j => by rw [hσ']; rfl
  have z : ∀ {s : lj_S} {k j : Nat}, s.1 k j = 0 → lv s k j = 0 := fun e => by unfold lv; rw [e]; rfl
  have sqo : ∀ k j, sqC k j = true → σ'.1 k j = σ.1 k j := fun k j w => o k j (by unfold sqC at w; simp at w; omega) (by unfold sqC at w; simp at w; omega)
  have vC : ∀ k j, vqC k j = true → σ'.1 k j = σ.1 k j := fun k j w => o k j (by unfold vqC at w; simp at w; omega) (by unfold vqC at w; simp at w; omega)
  have l70 : lv σ' 7 0 = 3 := by have := h4.2.1; unfold lv at this ⊢; rw [o 7 0 (by omega) (by omega)]; exact this
  have k57 : ∀ q, 1 ≤ q → q ≤ 3 → σ'.1 57 q = 4 := fun q a b => by rw [o 57 q (by omega) (by omega)]; exact (hob q a b).1
  have no5 : ∀ q k, obA σ' τ q k → k = 4 := fun q k w => by
    have := w.2.2.1
    rw [l70] at this
    exact w.2.2.2.1.symm.trans (k57 q w.1 (by omega))
  have hG : sG σ τ σ' τ := sG_eq vC (fun _ _ _ => rfl)
  have sM' : sM σ' τ := h2.cg sqo (fun _ _ _ => rfl)
  have nl : ∀ a, ¬ lsL ([] : List kF) a := fun a ⟨F, hF, _⟩ => by cases hF
  have nu : ∀ a, ¬ usd σ0 σ' τ (fun _ => []) a := fun a w => by
    rcases w with ⟨p, w, _⟩ | ⟨q, k, c, w, _⟩
    · exact nl a w
    · exact absurd (no5 q 5 w.1) (by decide)
  have e45 : lv σ' 8 45 = (x : Int) := by unfold lv; rw [hσ']; unfold cBg; rw [lj_put_1, if_neg (by omega), lj_put_1, if_neg (by omega), lj_put_1, if_neg (by omega), lj_put_1, if_neg (by omega), lj_put_1, if_neg (by omega), lj_put_1, if_neg (by omega), lj_put_1, if_neg (by omega), lj_put_1, if_neg (by omega), lj_put_1, if_neg (by omega), lj_put_1, if_pos ⟨rfl, rfl⟩, lz_lit (by omega)]
  have e7 : σ'.1 8 7 = 0 := by rw [hσ']; unfold cBg; simp [lj_put_1]
  have e8 : σ'.1 8 8 = 0 := by rw [hσ']; unfold cBg; simp [lj_put_1]
  have e34 : σ'.1 8 34 = -1 := by rw [hσ']; unfold cBg; simp [lj_put_1]
  have e83 : σ'.1 83 0 = 2 := by rw [hσ']; unfold cBg; simp [lj_put_1]
  have e90 : σ'.1 90 0 = 0 := by rw [hσ']; unfold cBg; simp [lj_put_1]
  have ob4 : ∀ q, 1 ≤ q → q ≤ 3 → obA σ' τ q 4 := fun q a b => ⟨a, (by omega), by rw [l70]; omega, k57 q a b, (hob q a b).2.1⟩
  refine ⟨⟨fun k j q => ⟨(o k j (by unfold cdC at q; simp at q; omega) (by unfold cdC at q; simp at q; omega)).trans (h1.1 k j q).1, (o2 k j).trans (h1.1 k j q).2⟩, h1.2⟩, sM', h3.up hG (fun j => o 78 j (by omega) (by omega)) (o 8 1 (by omega) (by omega)) (o 8 3 (by omega) (by omega)), h4.cg (fun k j q => ⟨o k j (by unfold hqC vqC at q; simp at q; omega) (by unfold hqC vqC at q; simp at q; omega), o2 k j⟩) (fun _ _ _ => ⟨rfl, rfl⟩), h5.cg (fun k j q => o k j (by omega) (by omega)) (fun _ _ _ => rfl), fun q f w1 w2 w3 => absurd (no5 q 5 w1) (by decide), ⟨⟨by rw [o 7 1 (by omega) (by omega)]; exact c71, m110, (by omega)⟩, ⟨e7, m111⟩, ⟨e83, m58⟩, rfl, List.nodup_cons.2 ⟨List.not_mem_nil, List.nodup_nil⟩, fun q hq => by rw [List.mem_singleton.1 hq]; exact (Nat.le_refl _), by rw [o 8 18 (by omega) (by omega)]; exact c18, (by omega), fun _ _ => rfl, m59, ⟨fun q q1 q2 => (by omega), fun q w => absurd (no5 q 6 w) (by decide)⟩, fun q q1 q2 => absurd (by rw [Nat.le_zero.1 q1]; exact List.mem_singleton.2 rfl) q2⟩, fun q q1 _ => ?_, e34, ⟨fun a w => absurd w (nu a), fun a b w => absurd w (nu a), ⟨List.range' 0 95000, fc_rng 95000 0 rfl m57, by unfold lv; rw [m96, List.length_range', lz_lit (by omega)], List.nodup_range', fun c hc => ⟨by have := List.mem_range'_1.1 hc; omega, fun a w => absurd w (nu a)⟩⟩, fun q f w => absurd (no5 q 5 w) (by decide), fun c hc => ?_, fun p s w => absurd w (nl s), ?_⟩, ⟨⟨?_, fun i hi => absurd hi (Nat.not_lt_zero _), List.nodup_nil, fun t ht => (by cases ht), List.Pairwise.nil, ⟨by rw [m78]; decide, by rw [e45]; omega, ?_⟩, fun t t1 t2 => ?_⟩, ⟨?_, ?_, List.nodup_nil, fun i hi => absurd hi (Nat.not_lt_zero _)⟩, ⟨⟨ob4 1 (by omega) (by omega), ob4 2 (by omega) (by omega), ob4 3 (by omega) (by omega)⟩, by rw [o 57 0 (by omega) (by omega)]; exact c570⟩, ⟨0, rfl, rfl⟩, fun i _ => by rw [o 102 i (by omega) (by omega)]; exact c102 i, by rw [o 8 51 (by omega) (by omega), c51, m153]⟩, ⟨by rw [o 8 50 (by omega) (by omega)]; exact h6.1, by have := h6.2.1; unfold lv at this ⊢; rw [o 8 50 (by omega) (by omega)]; exact this, fun i i1 i2 => by rw [o 109 i (by omega) (by omega)]; exact h6.2.2 i i1 (by unfold lv at i2 ⊢; rw [o 8 50 (by omega) (by omega)] at i2; exact i2)⟩, fun _ _ => Or.inr trivial, h7.tr hG⟩
  · have e : q = 0 := Nat.le_zero.1 q1
    subst e
    refine ⟨0, 0, 0, ⟨rfl, rfl, rfl⟩, ⟨by decide, by decide, by decide, by decide⟩, ?_, e90, m63, m64, m62, m65⟩
    rw [if_pos rfl]; exact e8
  · have : lv σ' 7 21 = 0 := z (by rw [o 7 21 (by omega) (by omega)]; exact c721)
    omega
  · have a1 : lv σ' 7 21 = 0 := z (by rw [o 7 21 (by omega) (by omega)]; exact c721)
    have a2 : lv σ' 7 25 = 0 := z (by rw [o 7 25 (by omega) (by omega)]; exact c725)
    rw [a1, a2]
    exact ⟨by decide, by decide, by decide⟩
  · rw [z (show σ'.1 8 53 = 0 by rw [o 8 53 (by omega) (by omega)]; exact c53)]; rfl
  · rw [m78, e45]
    show (0 : Int) + 536870912 * (x : Int) = ((536870912 * x : Nat) : Int)
    omega
  · obtain ⟨y1, y2, y3, y4⟩ := hob t t1 t2
    rw [o 57 t (by omega) (by omega), o 65 t (by omega) (by omega)]
    exact ⟨fun _ => ⟨⟨fun w => (by cases w), fun w => absurd y3 w⟩, ⟨fun w => (by cases w), fun w => absurd y4 w⟩⟩, fun _ => y4⟩
  · rw [z (show σ'.1 8 33 = 0 by rw [o 8 33 (by omega) (by omega)]; exact c33)]; rfl
  · rw [z m152]; rfl
/-- both loaded: the model has opened the frame of the text -/
def LDs (σ0 τ0 σ τ : lj_S) : Prop := ∃ τ1 τ2, ldQ σ0 τ0 σ τ1 ∧ lj_R lm_P 113 [.ref 0, .int 0, .int 0] τ1 = some (.inl none, τ2) ∧ τ = lj_put τ2 0 129 0
theorem ld_gn {σ0 τ0 : lj_S} (h : gS σ0 τ0 (fun _ => False) (0, 0, 0, [], [], 50)) : gn σ0 τ0 0 (0, 0, 0, [], [], 50) := by
  refine ⟨⟨0, Or.inr h⟩, ?_⟩
  obtain ⟨S, h1, h2⟩ := h
  obtain ⟨L, i0, _⟩ := h2 _ h1
  have w : σ0.1 22 0 = 0 ∧ τ0.1 20 0 = 0 := ⟨i0.2.1, i0.2.2.1⟩
  unfold wtp
  rw [if_pos w]
  exact Nat.le_refl _
theorem ld_fe {σ0 τ0 : lj_S} {Fn fx bs : Nat} (st : stc σ0 τ0 Fn fx bs) : fnE σ0 τ0 0 = (0, 0, 0, [], [], 50) := by
  obtain ⟨e1, e2, e3, e4, e5⟩ := st.2.2.2.2.2.2.2.1
  unfold fnE lv
  rw [e1, e2, e3]
  rfl
/-- what the first frame is: in both -/
theorem ld_ent {σ0 τ0 : lj_S} {Fn fx bs : Nat} (st : stc σ0 τ0 Fn fx bs) {σ τ1 : lj_S} (h : ldQ σ0 τ0 σ τ1) {x : Nat} (hx : x ≤ 3000) : ∃ σ' τ2 ρ' ce d, lj_R lc_P 131 [.ref 8, .int 0, .int 0, .int 8, .int 0] (cBg σ (Int32.ofNat x)) = some (.inl none, σ') ∧ lj_R lm_P 113 [.ref 0, .int 0, .int 0] τ1 = some (.inl none, τ2) ∧ MB σ0 τ0 3 0 0 [] (fpT (fun _ => []) 0 [enF σ0 τ0 0 0 1 ce d]) ρ' [] [] [536870912 * x] σ' τ2 ∧ (∀ k j, ¬ (k = 8 ∧ (j = 8 ∨ j = 34 ∨ j = 35)) → ¬ (90 ≤ k ∧ k ≤ 99) → ¬ (79 ≤ k ∧ k ≤ 81) → σ'.1 k j = (cBg σ (Int32.ofNat x)).1 k j ∧ σ'.2 k j = (cBg σ (Int32.ofNat x)).2 k j) ∧ (∀ k j, ¬ (62 ≤ k ∧ k ≤ 65) → ¬ (71 ≤ k ∧ k ≤ 87) → ¬ (54 ≤ k ∧ k ≤ 57) → ¬ (k = 0 ∧ j = 96) → τ2.1 k j = τ1.1 k j ∧ τ2.2 k j = τ1.2 k j) := by
  have hB := ld_MB h hx
  obtain ⟨e1, e2, e3, e4, e5⟩ := st.2.2.2.2.2.2.2.1
  have z : ∀ {s : lj_S} {k j : Nat}, s.1 k j = 0 → lv s k j = 0 := fun e => by unfold lv; rw [e]; rfl
  have hg : gwR (cBg σ (Int32.ofNat x)) τ1 [] [] := by
    refine ⟨⟨z (by unfold cBg; simp [lj_put_1]), fun j hj => absurd hj (Nat.not_lt_zero _)⟩, ⟨z h.2.2.2.2.2.2.2.2.2.2.2.2.2.1, fun j hj => absurd hj (Nat.not_lt_zero _)⟩, rfl, fun j hj => absurd hj (Nat.not_lt_zero _)⟩
  obtain ⟨σ', τ2, ρ', ce, d, g1, g2, g3, g4, g5⟩ := hB.ent st.1.2.1 (L := []) rfl (by decide) (f := 0) (o := 0) (by decide) st.1.2.2.1 (Or.inl ⟨rfl, z e5⟩) (N := 0) (by rw [ld_fe st]; exact ld_gn st.2.2.2.2.2.2.2.2) ⟨by rw [e3, e4], by rw [z e3]; exact Int.le_refl _, by rw [z e3]; decide⟩ ⟨by rw [z e1]; exact Int.le_refl _, by rw [z e2]; exact Int.le_refl _⟩ (as := 8) 0 rfl hg (by decide)
  exact ⟨σ', τ2, ρ', ce, d, g1, g2, g3, g4, g5⟩
theorem th_first {σ0 τ0 : lj_S} {x ce d : Nat} : thM (fpT (fun _ => []) 0 [enF σ0 τ0 0 0 1 ce d]) [0] [] [536870912 * x] = 536870912 * x + 1 := by
  have e : thP (fpT (fun _ => []) 0 [enF σ0 τ0 0 0 1 ce d]) ((List.range 26).filter (fun q => decide (q ∉ [0]))) = 0 := by
    have : ∀ l : List Nat, (∀ q ∈ l, q ≠ 0) → thP (fpT (fun _ => []) 0 [enF σ0 τ0 0 0 1 ce d]) l = 0 := by
      intro l
      induction l with
      | nil => intro _; rfl
      | cons q r ih =>
        intro hq
        show thL (fpT (fun _ => []) 0 [enF σ0 τ0 0 0 1 ce d] q) + _ = 0
        rw [ih (fun a ha => hq a (List.mem_cons_of_mem _ ha))]
        unfold fpT
        rw [if_neg (hq q List.mem_cons_self)]
        rfl
    exact this _ (fun q hq => by
      have := (List.mem_filter.1 hq).2
      simpa using this)
  unfold thM thA
  rw [e]
  rfl
/-- the first call of a run -/
theorem cm_first {σ0 τ0 : lj_S} {Fn fx bs : Nat} (st : stc σ0 τ0 Fn fx bs) (C : ∀ M k, CAL σ0 τ0 M k) (D : ∀ M, DLV σ0 τ0 M) (N : ∀ M k, NLA σ0 τ0 M k) {σ τ : lj_S} (h : LDs σ0 τ0 σ τ) {x : Nat} (hx1 : 1 ≤ x) (hx : x ≤ 3000) {Y : Nat} (hY : 1073741824 * x + 1 ≤ Y) (hYT : Y ≤ TH) (h3 : τ.1 0 3 ≠ 0) : anR σ0 τ0 Y (lj_R lc_P 128 [.ref 8, .int (Int32.ofNat x)] σ) (lj_R lm_P 120 [.ref 0, .int (Int32.ofNat x)] τ) := by
  obtain ⟨τ1, τ2', hQ, e113, rfl⟩ := h
  obtain ⟨σ', τ2, ρ', ce, d, g1, g2, g3, g4, g5⟩ := ld_ent st hQ hx
  have et : τ2' = τ2 := by rw [e113] at g2; cases g2; rfl
  subst et
  obtain ⟨⟨h1, h2, h3', h4, h5, h6, h7⟩, hob, ⟨c71, c721, c725, c570, c18, c33, c46, c48, c51, c53, c44, c102⟩, ⟨m110, m111, m58, m59, m62, m63, m64, m65, m130, m131, m137, m143, m145, m152, m153, m78, m96, m57⟩⟩ := hQ
  have B1 : MB σ0 τ0 3 0 0 [] (fpT (fun _ => []) 0 [enF σ0 τ0 0 0 1 ce d]) ρ' [] [] [536870912 * x] σ' (lj_put τ2' 0 129 0) := g3.sc (lf_rf _ _) (lf_put (lf_rf _ _) _ _ _ rfl)
  obtain ⟨mk, k1, k2⟩ := B1.lfx hx 0
  have e45 : σ'.1 8 45 = Int32.ofNat x := by
    rw [(g4 8 45 (by omega) (by omega) (by omega)).1]; unfold cBg
    rw [lj_put_1, if_neg (by omega), lj_put_1, if_neg (by omega), lj_put_1, if_neg (by omega), lj_put_1, if_neg (by omega), lj_put_1, if_neg (by omega), lj_put_1, if_neg (by omega), lj_put_1, if_neg (by omega), lj_put_1, if_neg (by omega), lj_put_1, if_neg (by omega), lj_put_1, if_pos ⟨rfl, rfl⟩]
  rw [lj_put_self _ _ _ _ e45] at k2
  obtain ⟨FP, hFP⟩ : ∃ f, f = fpT (fun _ => []) 0 [enF σ0 τ0 0 0 1 ce d] := ⟨_, rfl⟩
  have eF : FP 0 = [enF σ0 τ0 0 0 1 ce d] := by rw [hFP]; exact fpT_o _ _ _
  rw [← hFP] at k2
  have r46 : σ'.1 8 46 = 0 := by rw [(g4 8 46 (by omega) (by omega) (by omega)).1, cBg_o _ _ _ _ (by omega) (by omega)]; exact c46
  have rg' : rgR σ' (lj_put (lj_put (lj_put τ2' 0 129 0) 0 0 0) 0 144 (Int32.ofNat x)) := by
    refine ⟨r46, ?_, ?_, ?_, ?_⟩
    · rw [lj_put_1, if_neg (by omega), lj_put_1, if_neg (by omega), lj_put_1, if_neg (by omega), (g5 0 143 (by omega) (by omega) (by omega) (by omega)).1]; exact m143
    · rw [lj_put_1, if_neg (by omega), lj_put_1, if_neg (by omega), lj_put_1, if_pos ⟨rfl, rfl⟩]
    · rw [lj_put_1, if_pos ⟨rfl, rfl⟩]; exact e45
    · rw [(g4 8 44 (by omega) (by omega) (by omega)).2]
      show σ.2 8 44 = τ2'.2 0 145
      rw [(g5 0 145 (by omega) (by omega) (by omega) (by omega)).2, c44, m145]
  have eT : thM FP [0] [] ((mk + 536870912 * x) :: ([536870912 * x] : List Nat).tail) ≤ 536870912 * x + 536870912 * x + 1 := by
    have e0 : thM FP [0] [] [536870912 * x] = 536870912 * x + 1 := by rw [hFP]; exact th_first
    have e1 : thM FP [0] [] ((mk + 536870912 * x) :: ([536870912 * x] : List Nat).tail) = (mk + 536870912 * x) + gaM [] [536870912 * x] + thA FP [0] := rfl
    have e2 : thM FP [0] [] [536870912 * x] = 536870912 * x + gaM [] [536870912 * x] + thA FP [0] := rfl
    have k1 : mk ≤ 536870912 * x := k1
    omega
  have en := (run_all st.1.1 C D N (thM FP [0] [] ((mk + 536870912 * x) :: ([536870912 * x] : List Nat).tail) + 1)).1 3 0 0 [] FP [] _ _ _ (Or.inl ⟨ρ', _, [], eF, rfl, (by decide : (1 : Nat) ≠ 0), rfl, k2, rg'⟩) ⟨fun i hi => (by cases hi), List.nil_sublist _, trivial⟩ (Nat.lt_succ_self _) (by omega) Y (by omega) (.retAddr 0) (Int32.ofNat x)
  have an := end_an en (Int32.ofNat x) (.retAddr 0)
  have i026 : lj_in 0 26 := by decide
  have b129 : lj_R lc_P 129 [.ref 8] (lj_put (lj_put (lj_put (lj_put (lj_put (lj_put (lj_put (lj_put σ 8 45 (Int32.ofNat x)) 8 48 1) 8 7 0) 8 8 0) 82 0 0) 90 0 0) 83 0 2) 8 38 0) = some (.inl none, cBg σ (Int32.ofNat x)) := by
    obtain ⟨s, hs⟩ : ∃ s, s = lj_put (lj_put (lj_put (lj_put (lj_put (lj_put (lj_put (lj_put σ 8 45 (Int32.ofNat x)) 8 48 1) 8 7 0) 8 8 0) 82 0 0) 90 0 0) 83 0 2) 8 38 0 := ⟨_, rfl⟩
    rw [← hs]
    have e1 : s.1 8 7 = 0 := by rw [hs]; simp [lj_put_1]
    have e2 : s.1 90 0 = 0 := by rw [hs]; simp [lj_put_1]
    rw [rc_129, kc_129_0, e1, if_pos i026, show (0 : Int32).toNatClampNeg = 0 from rfl, if_pos e2, kc_129_36, if_neg (by decide), kc_129_60, hs]
    rfl
  have c1 : lj_R lc_P 128 [.ref 8, .int (Int32.ofNat x)] σ = lj_bv (goC (.retAddr 0) σ') (fun σ1 => (if (σ1.1 8 46) = 0 then lj_D lc_P lc_M128 106 [.ref 8, .int (Int32.ofNat x), .retAddr 0] [.int 2] σ1 else lj_D lc_P lc_M128 106 [.ref 8, .int (Int32.ofNat x), .retAddr 0] [.int (σ1.1 8 47)] σ1)) (fun e2 σ3 => some (.inr e2, σ3)) := by
    rw [rc_128, kc_128_0, if_pos c46, if_pos c48, if_pos i026, if_pos i026, if_pos i026, show (0 : Int32).toNatClampNeg = 0 from rfl, b129, bv_ok, g1, bv_ok, kc_128_87, rc_138, kc_138_0]
    rfl
  have c2 : lj_R lm_P 120 [.ref 0, .int (Int32.ofNat x)] (lj_put τ2' 0 129 0) = mRun (Int32.ofNat x) (lj_put (lj_put (lj_put τ2' 0 129 0) 0 0 0) 0 144 (Int32.ofNat x)) := by
    have l1 : ¬ (Int32.ofNat x < 1) := by
      rw [lz_lt, lz_lit (by omega)]
      show ¬ ((x : Int) < 1)
      omega
    have l2 : Int32.ofNat x ≤ 3000 := (ofN_le (b := 3000) (by omega) (by omega)).2 hx
    rw [rm_120, km_120_0, if_neg h3, if_neg l1, if_pos l2, km_120_29, if_pos (by decide)]
    rfl
  rw [c1, c2]
  exact an
