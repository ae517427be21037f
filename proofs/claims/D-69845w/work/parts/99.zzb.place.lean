/-! a place is kept -/
theorem ofN_ex (x : Int32) : ∃ n : Nat, x = Int32.ofNat n := ⟨x.toBitVec.toNat, by
  apply Int32.toBitVec_inj.1
  simp⟩
/-- a place that may be written to -/
def plV (f : Nat) (l : List Nat) (x : qT) (σ τ : lj_S) : Prop :=
  (x.1 = 3 ∧ x.2.1 = 0 ∧ x.2.2.1 ∈ l ∧ x.2.2.2.1 = x.2.2.1) ∨ (x.1 = 4 ∧ x.2.1 = 1 ∧ (x.2.2.1 : Int) < lv σ 33 f ∧ x.2.2.2.1 = x.2.2.1) ∨ (x.1 = 5 ∧ x.2.1 = 2 ∧ sE σ τ x.2.2.1 x.2.2.2.1 ∧ x.2.2.1 < 2600 ∧ x.2.2.2.1 < 3000) ∨ (x.1 = 6 ∧ x.2.1 = 3)
theorem plV.up {N : List lT} {f : Nat} {l : List Nat} {x : qT} {σ τ σ' τ' : lj_S} (h : plV f l x σ τ) (tx : TX N σ τ σ' τ') (hf : (f : Int) < lv σ 5 8) : plV f l x σ' τ' := by
  rcases h with h | ⟨h1, h2, h3, h4⟩ | ⟨h1, h2, h3, h4, h5⟩ | h
  · exact Or.inl h
  · have mono := (tx.2.2.2.2.2.2.1 f hf).2.2.2.2
    exact Or.inr (Or.inl ⟨h1, h2, (by omega), h4⟩)
  · exact Or.inr (Or.inr (Or.inl ⟨h1, h2, h3.up tx.1, h4, h5⟩))
  · exact Or.inr (Or.inr (Or.inr h))
theorem plV.srt {f : Nat} {l : List Nat} {x : qT} {σ τ : lj_S} (h : plV f l x σ τ) : x.2.1 = 3 ↔ x.1 = 6 := by
  rcases h with ⟨h1, h2, _⟩ | ⟨h1, h2, _⟩ | ⟨h1, h2, _⟩ | ⟨h1, h2⟩ <;> rw [h1, h2] <;> decide
theorem hdN_8 {b : Nat → Int32} {n T : Nat} {Q : tkQ} {X : List Int32 → Prop} {FO : List fT} {Z : List zT} {PL : List qT} {cl ml : Nat} {F : Nat} {N : List lT} {p v c m wh : Nat} {W : List wT} {σ τ : lj_S} {f : Nat} {l : List Nat} (h : PS b n T Q X F N FO Z PL cl ml p v c m wh W σ τ) (hN : hdN N f l) : (f : Int) < lv σ 5 8 := by
  obtain ⟨zz, R, eN, ez, el⟩ := hN
  have hzF : zz.1 < F := h.1.2.2.2.2.1 zz (by rw [eN]; exact List.mem_cons_self)
  have hF8 : lv σ 5 8 = (F : Int) := by unfold lv; rw [h.1.2.2.2.1.1, lz_lit (by have := h.1.2.2.2.1.2.2.1; omega)]
  rw [← ez]
  omega
theorem plV_of {b : Nat → Int32} {n T : Nat} {Q : tkQ} {X : List Int32 → Prop} {FO : List fT} {Z : List zT} {PL : List qT} {cl ml : Nat} {F : Nat} {N : List lT} {p v c m wh : Nat} {W : List wT} {σ τ : lj_S} {f : Nat} {s l : List Nat} {c0 m0 : Nat} {what : Int32} (h : PS b n T Q X F N FO Z PL cl ml p v c m wh W σ τ) (hN : hdN N f l) (hS : chS f s l N c0 m0 c m what σ τ) (hw : what = 3 ∨ what = 4 ∨ what = 5 ∨ what = 6) : ∃ srt n16 n62, whS what srt ∧ τ.1 0 61 = srt ∧ σ.1 6 16 = Int32.ofNat n16 ∧ τ.1 0 62 = Int32.ofNat n62 ∧ σ.1 6 17 = τ.1 0 63 ∧ plV f l (what, srt, n16, n62, σ.1 6 17) σ τ := by
  rcases hS with ⟨q, _⟩ | ⟨q, _⟩ | ⟨srt, v1, v1', a, a', q, q1, q2, q3, q4, q5, q6, q7, q8, q9, q10, q11⟩ | ⟨q, q1, q2, _⟩
  · rw [q] at hw; exact absurd hw (by decide)
  · rw [q] at hw; exact absurd hw (by decide)
  · refine ⟨srt, v1, v1', q1, q2, q6, q7, q8, ?_⟩
    rcases q3 with ⟨r1, r2, r3, z', R', r4, r5⟩ | ⟨r1, r2, r3, z', R', r4, r5⟩ | ⟨r1, r2, r3, r4⟩
    · refine Or.inl ⟨r1, r2, ?_, r3.symm⟩
      obtain ⟨zz, R, eN, ez, el⟩ := hN
      rw [eN] at r4
      obtain ⟨e, e2, e3, e4⟩ := knF_mem _ _ _ r5
      rw [← el, (List.cons.inj r4).1]
      exact List.mem_map.2 ⟨e, e2, e4⟩
    · refine Or.inr (Or.inl ⟨r1, r2, ?_, r3.symm⟩)
      obtain ⟨zz, R, eN, ez, el⟩ := hN
      have hnr := h.1.2.2.1.1
      rw [eN] at hnr r4
      have hcp := hnr.1.2.2.2.2.2
      have e1 := (List.cons.inj r4).1
      have e33 : lv σ 33 zz.1 = (zz.2.2.length : Int) := by unfold lv; rw [hcp.1, lz_lit (by have := hcp.2.1; omega)]
      rw [← ez]
      rw [e1] at e33 ⊢
      show (v1 : Int) < _
      omega
    · exact Or.inr (Or.inr (Or.inl ⟨r1, r2, q9 r1, q4, q5⟩))
  · obtain ⟨n16, e16⟩ := ofN_ex (σ.1 6 16)
    obtain ⟨n62, e62⟩ := ofN_ex (τ.1 0 62)
    exact ⟨3, n16, n62, Or.inr (Or.inr (Or.inr ⟨q, rfl⟩)), q1, e16, e62, q2, Or.inr (Or.inr (Or.inr ⟨q, rfl⟩))⟩
theorem PS.rec {b : Nat → Int32} {n T : Nat} {Q : tkQ} {X : List Int32 → Prop} {FO : List fT} {Z : List zT} {PL : List qT} {cl ml : Nat} {F : Nat} {N : List lT} {p v c m wh : Nat} {W : List wT} {σ τ : lj_S} {f : Nat} {s l : List Nat} {c0 m0 : Nat} {what : Int32} (h : PS b n T Q X F N FO Z PL cl ml p v c m wh W σ τ) (hN : hdN N f l) (hS : chS f s l N c0 m0 c m what σ τ) (hw : what = 3 ∨ what = 4 ∨ what = 5 ∨ what = 6) (hlen : PL.length + 1 ≤ 20 * v) :
    ∃ x : qT, x.1 = what ∧ plV f l x σ τ ∧
    PS b n T Q X F N FO Z (x :: PL) cl ml p v c m wh W (lj_put (lj_put (lj_put (lj_put σ 54 PL.length what) 55 PL.length (σ.1 6 16)) 56 PL.length (σ.1 6 17)) 6 18 (Int32.ofNat (PL.length + 1))) (lj_put (lj_put (lj_put (lj_put τ 35 PL.length (τ.1 0 61)) 36 PL.length (τ.1 0 62)) 37 PL.length (τ.1 0 63)) 0 60 (Int32.ofNat (PL.length + 1))) ∧ GR N N F F p p c c m m σ τ (lj_put (lj_put (lj_put (lj_put σ 54 PL.length what) 55 PL.length (σ.1 6 16)) 56 PL.length (σ.1 6 17)) 6 18 (Int32.ofNat (PL.length + 1))) (lj_put (lj_put (lj_put (lj_put τ 35 PL.length (τ.1 0 61)) 36 PL.length (τ.1 0 62)) 37 PL.length (τ.1 0 63)) 0 60 (Int32.ofNat (PL.length + 1))) := by
  obtain ⟨srt, n16, n62, hws, h61, e16, e62, h17, hV⟩ := plV_of h hN hS hw
  refine ⟨(what, srt, n16, n62, σ.1 6 17), rfl, hV, ?_⟩
  refine h.plc (x := (what, srt, n16, n62, σ.1 6 17)) (fun k j q1 q2 => ?_) (fun k j q1 q2 => ?_) (by rfl) (by rfl) ?_ ?_ ?_ ?_ ?_ ?_ ?_ ?_ hlen
  · rw [lj_put_1, if_neg q2, lj_put_1, if_neg (by omega), lj_put_1, if_neg (by omega), lj_put_1, if_neg (by omega)]
  · rw [lj_put_1, if_neg q2, lj_put_1, if_neg (by omega), lj_put_1, if_neg (by omega), lj_put_1, if_neg (by omega)]
  · rw [lj_put_1, if_neg (by omega), lj_put_1, if_neg (by omega), lj_put_1, if_neg (by omega), lj_put_1, if_pos ⟨rfl, rfl⟩]
  · rw [lj_put_1, if_neg (by omega), lj_put_1, if_neg (by omega), lj_put_1, if_neg (by omega), lj_put_1, if_pos ⟨rfl, rfl⟩]; exact h61
  · rw [lj_put_1, if_neg (by omega), lj_put_1, if_neg (by omega), lj_put_1, if_pos ⟨rfl, rfl⟩]; exact e16
  · rw [lj_put_1, if_neg (by omega), lj_put_1, if_neg (by omega), lj_put_1, if_pos ⟨rfl, rfl⟩]; exact e62
  · rw [lj_put_1, if_neg (by omega), lj_put_1, if_pos ⟨rfl, rfl⟩]
  · rw [lj_put_1, if_neg (by omega), lj_put_1, if_pos ⟨rfl, rfl⟩]; exact h17.symm
  · rw [lj_put_1, if_pos ⟨rfl, rfl⟩]
  · rw [lj_put_1, if_pos ⟨rfl, rfl⟩]
