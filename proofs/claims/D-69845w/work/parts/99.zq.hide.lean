/-! fors: their hidden values -/
theorem FX_h {σ σ' : lj_S} {q : Nat} (hC : ∀ k j, k ≠ 32 → k ≠ 49 → σ'.1 k j = σ.1 k j) (h0 : 0 ≤ lv σ' 32 q) (h1 : lv σ' 32 q ≤ 20) (h : FX σ q) : FX σ' q := by
  have e : ∀ k j, k ≠ 32 → k ≠ 49 → lv σ' k j = lv σ k j := fun k j a b => by unfold lv; rw [hC k j a b]
  have e41 : lv σ' 41 = lv σ 41 := by funext k; exact e 41 k (by omega) (by omega)
  have h18 := hC 5 18 (by omega) (by omega)
  have h37 : ∀ k, σ'.1 37 k = σ.1 37 k := fun k => hC 37 k (by omega) (by omega)
  have eL : scL σ' q = scL σ q := by unfold scL lv; simp only [h18, h37]
  exact ⟨by rw [e 29 _ (by omega) (by omega), e 31 _ (by omega) (by omega)]; exact h.1, by rw [e 29 _ (by omega) (by omega)]; exact h.2.1, h0, h1, by rw [e41, e 42 _ (by omega) (by omega), eL]; exact h.2.2.2.2⟩
/-- fors that are open change, none of them a called one -/
theorem PS.hid {b : Nat → Int32} {n T : Nat} {Q : tkQ} {X : List Int32 → Prop} {FO0 : List fT} {nl rv : Nat} {fl : List Nat} {Z : List zT} {PL : List qT} {cl ml F : Nat} {z : lT} {R : List lT} {p v c m wh : Nat} {W : List wT} {σ τ : lj_S} (h : PS b n T Q X F (z :: R) (((nl, rv), fl) :: FO0) Z PL cl ml p v c m wh W σ τ) {fl' : List Nat} {σ' : lj_S} (oC : ∀ k j, ¬ ((k = 49 ∨ k = 32) ∧ j = z.1) → σ'.1 k j = σ.1 k j) (c2 : σ'.2 = σ.2) (h49 : σ'.1 49 z.1 = Int32.ofNat fl'.length) (h32 : lv σ 32 z.1 ≤ lv σ' 32 z.1) (h32' : lv σ' 32 z.1 ≤ 20) (hlen : (fl'.length : Int) ≤ lv σ' 32 z.1) (hv : fl'.length ≤ v) (hop : ∀ d S : Nat, fl'[d]? = some (4 + S) ↔ fl[d]? = some (4 + S)) :
    PS b n T Q X F (z :: R) (((nl, rv), fl') :: FO0) Z PL cl ml p v c m wh W σ' τ ∧ GR (z :: R) (z :: R) F F p p c c m m σ τ σ' τ := by
  have oC' : ∀ k j, k ≠ 32 → k ≠ 49 → σ'.1 k j = σ.1 k j := fun k j a b => oC k j (by omega)
  have e : ∀ k j, k ≠ 32 → k ≠ 49 → lv σ' k j = lv σ k j := fun k j a b => by unfold lv; rw [oC' k j a b]
  have fC : lf pC σ σ' := fun k j q => ⟨by have := pC_k q; exact oC' k j (by omega) (by omega), by rw [c2]⟩
  have hC : ∀ (A : Nat → Nat → Bool), (∀ j, A 32 j = false) → (∀ j, A 49 j = false) → ∀ k j, A k j = true → σ'.1 k j = σ.1 k j := fun A a1 a2 k j q => oC' k j (by intro e1; rw [e1, a1] at q; cases q) (by intro e1; rw [e1, a2] at q; cases q)
  have h18 := e 5 18 (by omega) (by omega)
  have e37 : ∀ k, lv σ' 37 k = lv σ 37 k := fun k => e 37 k (by omega) (by omega)
  have e38 : ∀ k, lv σ' 38 k = lv σ 38 k := fun k => e 38 k (by omega) (by omega)
  have e40 : ∀ k, lv σ' 40 k = lv σ 40 k := fun k => e 40 k (by omega) (by omega)
  have hoA : ∀ q x k, opA σ' q x k ↔ opA σ q x k := fun q x k => by unfold opA; rw [h18, e37, e38, e40]
  have ho : ∀ q x, openK σ' q x ↔ openK σ q x := fun q x => opA_K (hoA q x)
  have hks : ∀ q r, ksc σ q r → ksc σ' q r := fun q r g => ksc_cg (oC' 5 18 (by omega) (by omega)) (fun k => oC' 47 k (by omega) (by omega)) (fun k => oC' 37 k (by omega) (by omega)) (fun k => oC' 38 k (by omega) (by omega)) (fun k => oC' 40 k (by omega) (by omega)) g
  have hF := h.1.2.2.2.1
  have hLv := h.1.2.2.2.2.2.1
  obtain ⟨⟨a1, a2, a3, a4, a5, a6, a7⟩, a8⟩ := hLv
  have hnd := h.1.2.2.1.2.2.2.1
  rw [List.map_cons, List.nodup_cons] at hnd
  have l32 : ∀ q, lv σ 32 q ≤ lv σ' 32 q := fun q => by
    by_cases w : q = z.1
    · rw [w]; exact h32
    · have : lv σ' 32 q = lv σ 32 q := by unfold lv; rw [oC 32 q (fun u => w u.2)]
      omega
  have hl50 := nmC_len h.1.2.2.1.1
  refine ⟨h.mk' fC (lf_rf _ _) (NR_eq h.1.2.2.1 (hC nrC (fun _ => rfl) (fun _ => rfl)) (fun _ _ _ => rfl)) ⟨by rw [oC' 5 8 (by omega) (by omega)]; exact hF.1, hF.2.1, hF.2.2.1, fun q hq => ?_⟩ h.1.2.2.2.2.1 ⟨⟨h49, hlen, (by show fl'.length ≤ 20; omega), fun x hx => (ho _ _).trans (a4 x hx), ⟨fun d i hi w => (a5.1 d i hi ((ho _ _).1 w)).imp (fun S hS => (hop d S).2 hS), fun d S i w hi => (hoA _ _ _).2 (a5.2 d S i ((hop d S).1 w) hi)⟩, hks _ _ a6, by rw [oC' 31 _ (by omega) (by omega)]; exact a7.1, a7.2⟩, lvS_out (f := z.1) (fun q w => oC 49 q (fun u => w u.2)) (fun q _ => l32 q) (fun q _ => oC' 31 q (by omega) (by omega)) (fun q x k _ => hoA q x k) (fun q r _ _ g => hks q r g) (fun y hy => hl50 y (List.mem_cons_of_mem _ hy)) hnd.1 a8⟩ (SCr_eq h.1.2.2.2.2.2.2 (Nat.le_refl _) (hC scC (fun _ => rfl) (fun _ => rfl))) (hnd_eq h.2.1 (hC hdC (fun _ => rfl) (fun _ => rfl)) (fun _ _ _ => rfl)) h.2.2.1 (LPr_eq h.2.2.2.1 (hC lpC (fun _ => rfl) (fun _ => rfl)) (fun _ _ _ => rfl) (Nat.le_refl _) (Nat.le_refl _) (fun _ _ => rfl)) h.2.2.2.2.1.1 ?_ h.2.2.2.2.2, ⟨?_, lvX_rf _, (Nat.le_refl _), (Nat.le_refl _), (Nat.le_refl _), (Nat.le_refl _), fz_eq (fun k j w1 w2 => oC' k j (by omega) (by omega)) (fun _ _ _ _ => rfl)⟩⟩
  · obtain ⟨b1, b2, b3, b4, b5, b6, b7, b8⟩ := hF.2.2.2 q hq
    have f0 := b8.2.2.1
    have f1 := b8.2.2.2.1
    have f2 := l32 q
    refine ⟨by rw [oC' 31 q (by omega) (by omega)]; exact b1, by rw [e 31 q (by omega) (by omega)]; exact b2, by rw [e 31 q (by omega) (by omega)]; exact b3, by rw [oC' 33 q (by omega) (by omega)]; exact b4, by rw [oC' 30 q (by omega) (by omega)]; exact b5, by rw [oC' 30 q (by omega) (by omega)]; exact b6, by rw [oC' 36 q (by omega) (by omega)]; exact b7, FX_h oC' (by omega) ?_ b8⟩
    by_cases w : q = z.1
    · rw [w]; exact h32'
    · have : lv σ' 32 q = lv σ 32 q := by unfold lv; rw [oC 32 q (fun u => w u.2)]
      omega
  · obtain ⟨⟨z1, z2, z3⟩, y1, y2, y3, y4, y5⟩ := h.2.2.2.2.1.2
    refine ⟨⟨by rw [h18]; exact z1, z2, fun x hx => by rw [e 5 8 (by omega) (by omega)]; exact z3 x hx⟩, y1, y2, y3, fun fx hfx => ?_, y5⟩
    rcases List.mem_cons.1 hfx with w | w
    · rw [w]; exact hv
    · exact y4 fx (List.mem_cons_of_mem _ w)
  · refine ⟨(sR_pp h.1.2.1 fC (lf_rf pM τ)).2, by rw [e 5 0 (by omega) (by omega)]; exact Int.le_refl _, by rw [e 5 6 (by omega) (by omega)]; exact Int.le_refl _, by rw [e 5 8 (by omega) (by omega)]; exact Int.le_refl _, by rw [h18]; exact Int.le_refl _, fun i _ => ⟨by rw [c2], rfl⟩, fun q _ => ⟨oC' 28 q (by omega) (by omega), oC' 29 q (by omega) (by omega), ⟨rfl, rfl⟩, ⟨l32 q, by rw [e 31 q (by omega) (by omega)]; exact Int.le_refl _⟩, by rw [e 33 q (by omega) (by omega)]; exact Int.le_refl _⟩, fun q _ _ => ⟨oC' 33 q (by omega) (by omega), rfl, fun i _ => ⟨oC' 34 _ (by omega) (by omega), oC' 35 _ (by omega) (by omega), rfl, rfl⟩⟩, fun k _ => ⟨oC' 37 k (by omega) (by omega), oC' 38 k (by omega) (by omega), oC' 39 k (by omega) (by omega), Or.inl (oC' 40 k (by omega) (by omega))⟩, fun k a b => ?_, fC, lf_rf _ _⟩
    rw [h18] at b
    omega
theorem c_hide {σ : lj_S} {f d : Nat} (h62 : σ.1 6 2 = Int32.ofNat f) (hf : f < 51) (h49 : σ.1 49 f = Int32.ofNat d) : lj_R lc_P 104 [.ref 6] σ = some (.inl (some (.int (Int32.ofNat d))), lj_put (lj_put σ 49 f (Int32.ofNat (d + 1))) 32 f (if σ.1 32 f < Int32.ofNat (d + 1) then Int32.ofNat (d + 1) else σ.1 32 f)) := by
  have i51 : lj_in (Int32.ofNat f) 51 := ofN_in hf (by omega)
  have e49 : (lj_put σ 49 f (Int32.ofNat (d + 1))).1 49 f = Int32.ofNat (d + 1) := by rw [lj_put_1, if_pos ⟨rfl, rfl⟩]
  rw [rc_104, kc_104_0, h62]
  simp only [if_pos i51, lz_onat (show f < 2147483648 by omega), h49, lz_osucc, e49, rc_223, kc_223_0, kc_223_10]
  by_cases w : σ.1 32 f < Int32.ofNat (d + 1)
  · simp only [if_pos w, bi_ok]
  · simp only [if_neg w, bi_ok]
/-- a counted for opens, in the component -/
theorem cm_hide {b : Nat → Int32} {n T : Nat} {Q : tkQ} {X : List Int32 → Prop} {FO0 : List fT} {nl rv : Nat} {fl : List Nat} {Z : List zT} {PL : List qT} {cl ml F : Nat} {z : lT} {R : List lT} {p v c m wh : Nat} {W : List wT} {σ τ : lj_S} (h : PS b n T Q X F (z :: R) (((nl, rv), fl) :: FO0) Z PL cl ml p v c m wh W σ τ) (hfl : fl.length + 1 ≤ v) :
    ∃ σ', lj_R lc_P 104 [.ref 6] σ = some (.inl (some (.int (Int32.ofNat fl.length))), σ') ∧ PS b n T Q X F (z :: R) (((nl, rv), fl ++ [3]) :: FO0) Z PL cl ml p v c m wh W σ' τ ∧ GR (z :: R) (z :: R) F F p p c c m m σ τ σ' τ ∧ (fl.length : Int) < lv σ' 32 z.1 := by
  have hNR := h.1.2.2.1
  have hF := h.1.2.2.2.1
  have hz51 : z.1 < 51 := hNR.1.1.1
  have h62 : σ.1 6 2 = Int32.ofNat z.1 := hNR.2.2.2.2.2.2.1
  have h49 : σ.1 49 z.1 = Int32.ofNat fl.length := h.1.2.2.2.2.2.1.1.1
  have hv := h.2.2.1.2.1
  have hX := (hF.2.2.2 z.1 (h.1.2.2.2.2.1 z (List.mem_cons_self))).2.2.2.2.2.2.2
  have hX1 := hX.2.2.2.1
  have e32 : (lj_put (lj_put σ 49 z.1 (Int32.ofNat (fl.length + 1))) 32 z.1 (if σ.1 32 z.1 < Int32.ofNat (fl.length + 1) then Int32.ofNat (fl.length + 1) else σ.1 32 z.1)).1 32 z.1 = (if σ.1 32 z.1 < Int32.ofNat (fl.length + 1) then Int32.ofNat (fl.length + 1) else σ.1 32 z.1) := by rw [lj_put_1, if_pos ⟨rfl, rfl⟩]
  have l32 : lv (lj_put (lj_put σ 49 z.1 (Int32.ofNat (fl.length + 1))) 32 z.1 (if σ.1 32 z.1 < Int32.ofNat (fl.length + 1) then Int32.ofNat (fl.length + 1) else σ.1 32 z.1)) 32 z.1 = if lv σ 32 z.1 < (fl.length : Int) + 1 then (fl.length : Int) + 1 else lv σ 32 z.1 := by
    unfold lv
    rw [e32]
    by_cases w : σ.1 32 z.1 < Int32.ofNat (fl.length + 1)
    · have w' := w
      rw [lz_lt, lz_lit (by omega)] at w'
      rw [if_pos w, if_pos (by omega), lz_lit (by omega)]
      omega
    · have w' := w
      rw [lz_lt, lz_lit (by omega)] at w'
      rw [if_neg w, if_neg (by omega)]
  have P := h.hid (fl' := fl ++ [3]) (σ' := lj_put (lj_put σ 49 z.1 (Int32.ofNat (fl.length + 1))) 32 z.1 (if σ.1 32 z.1 < Int32.ofNat (fl.length + 1) then Int32.ofNat (fl.length + 1) else σ.1 32 z.1)) (fun k j q => by rw [lj_put_1, if_neg (by omega), lj_put_1, if_neg (by omega)]) rfl (by rw [lj_put_1, if_neg (by omega), lj_put_1, if_pos ⟨rfl, rfl⟩]; simp) (by rw [l32]; split <;> omega) (by rw [l32]; split <;> omega) (by rw [l32]; simp only [List.length_append, List.length_cons, List.length_nil]; split <;> omega) (by simp; omega) (fun d S => by
    by_cases w : d < fl.length
    · rw [List.getElem?_append_left w]
    · rw [List.getElem?_append_right (by omega)]
      constructor
      · intro q
        by_cases u : d - fl.length = 0
        · rw [u] at q; simp at q; omega
        · rw [List.getElem?_eq_none (by simp; omega)] at q; cases q
      · intro q
        rw [List.getElem?_eq_none (by omega)] at q; cases q)
  exact ⟨_, c_hide h62 hz51 h49, P.1, P.2, by rw [l32]; split <;> omega⟩
/-- it ends -/
theorem PS.unh {b : Nat → Int32} {n T : Nat} {Q : tkQ} {X : List Int32 → Prop} {FO0 : List fT} {nl rv : Nat} {fl : List Nat} {Z : List zT} {PL : List qT} {cl ml F : Nat} {z : lT} {R : List lT} {p v c m wh : Nat} {W : List wT} {σ τ : lj_S} (h : PS b n T Q X F (z :: R) (((nl, rv), fl ++ [3]) :: FO0) Z PL cl ml p v c m wh W σ τ) :
    σ.1 49 z.1 = Int32.ofNat (fl.length + 1) ∧ PS b n T Q X F (z :: R) (((nl, rv), fl) :: FO0) Z PL cl ml p v c m wh W (lj_put σ 49 z.1 (Int32.ofNat fl.length)) τ ∧ GR (z :: R) (z :: R) F F p p c c m m σ τ (lj_put σ 49 z.1 (Int32.ofNat fl.length)) τ := by
  have hF := h.1.2.2.2.1
  have hX := (hF.2.2.2 z.1 (h.1.2.2.2.2.1 z (List.mem_cons_self))).2.2.2.2.2.2.2
  have hX1 := hX.2.2.2.1
  have e32 : lv (lj_put σ 49 z.1 (Int32.ofNat fl.length)) 32 z.1 = lv σ 32 z.1 := by rw [lv_put, if_neg (by omega)]
  have hL := h.1.2.2.2.2.2.1.1
  have a1 : σ.1 49 z.1 = Int32.ofNat (fl ++ [3]).length := hL.1
  have a2 : ((fl ++ [3]).length : Int) ≤ lv σ 32 z.1 := hL.2.1
  have a3 : (fl ++ [3]).length ≤ v := h.2.2.2.2.1.2.2.2.2.2.1 _ (List.mem_cons_self)
  rw [List.length_append] at a1 a2 a3
  simp only [List.length_cons, List.length_nil] at a1 a2 a3
  have P := h.hid (fl' := fl) (σ' := lj_put σ 49 z.1 (Int32.ofNat fl.length)) (fun k j q => by rw [lj_put_1, if_neg (by omega)]) rfl (by rw [lj_put_1, if_pos ⟨rfl, rfl⟩]) (by rw [e32]; exact Int.le_refl _) (by rw [e32]; exact hX1) (by rw [e32]; omega) (by omega) (fun d S => by
    by_cases w : d < fl.length
    · rw [List.getElem?_append_left w]
    · rw [List.getElem?_append_right (by omega)]
      constructor
      · intro q
        rw [List.getElem?_eq_none (by omega)] at q; cases q
      · intro q
        by_cases u : d - fl.length = 0
        · rw [u] at q; simp at q; omega
        · rw [List.getElem?_eq_none (by simp; omega)] at q; cases q)
  exact ⟨a1, P.1, P.2⟩
