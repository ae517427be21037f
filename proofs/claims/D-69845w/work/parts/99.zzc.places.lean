/-! places of an assignment: items counted, places forgotten -/
def itN : List qT → Nat
  | [] => 0
  | x :: r => (if x.1 = 6 then 1 else 0) + itN r
theorem itN_app : ∀ (a r : List qT), itN (a ++ r) = itN a + itN r
  | [], r => by simp [itN]
  | x :: a, r => by simp only [List.cons_append, itN, itN_app a r]; omega
theorem itN_le : ∀ (r : List qT), itN r ≤ r.length
  | [] => Nat.le_refl _
  | x :: r => by
    have := itN_le r
    simp only [itN, List.length_cons]
    split <;> omega
theorem plA_get {σ τ : lj_S} : ∀ (a : List qT) {x : qT} {r : List qT}, plA σ τ (a ++ x :: r) → σ.1 54 r.length = x.1 ∧ τ.1 35 r.length = x.2.1 ∧ σ.1 55 r.length = Int32.ofNat x.2.2.1 ∧ τ.1 36 r.length = Int32.ofNat x.2.2.2.1 ∧ σ.1 56 r.length = x.2.2.2.2 ∧ τ.1 37 r.length = x.2.2.2.2
  | [], _, _, h => h.1
  | _ :: a, _, _, h => plA_get a h.2
theorem plA_dr {σ τ : lj_S} : ∀ (a : List qT) {r : List qT}, plA σ τ (a ++ r) → plA σ τ r
  | [], _, h => h
  | _ :: a, _, h => plA_dr a h.2
/-- places are forgotten -/
theorem PS.pld {b : Nat → Int32} {n T : Nat} {Q : tkQ} {X : List Int32 → Prop} {FO : List fT} {Z : List zT} {PL ps : List qT} {cl ml : Nat} {F : Nat} {N : List lT} {p v c m wh : Nat} {W : List wT} {σ τ : lj_S} (h : PS b n T Q X F N FO Z (ps ++ PL) cl ml p v c m wh W σ τ) :
    PS b n T Q X F N FO Z PL cl ml p v c m wh W (lj_put σ 6 18 (Int32.ofNat PL.length)) (lj_put τ 0 60 (Int32.ofNat PL.length)) ∧ GR N N F F p p c c m m σ τ (lj_put σ 6 18 (Int32.ofNat PL.length)) (lj_put τ 0 60 (Int32.ofNat PL.length)) := by
  have oC : ∀ k j, ¬ (k = 6 ∧ j = 18) → (lj_put σ 6 18 (Int32.ofNat PL.length)).1 k j = σ.1 k j := fun k j q => by rw [lj_put_1, if_neg q]
  have oM : ∀ k j, ¬ (k = 0 ∧ j = 60) → (lj_put τ 0 60 (Int32.ofNat PL.length)).1 k j = τ.1 k j := fun k j q => by rw [lj_put_1, if_neg q]
  have e18 : (lj_put σ 6 18 (Int32.ofNat PL.length)).1 6 18 = Int32.ofNat PL.length := by rw [lj_put_1, if_pos ⟨rfl, rfl⟩]
  have e60 : (lj_put τ 0 60 (Int32.ofNat PL.length)).1 0 60 = Int32.ofNat PL.length := by rw [lj_put_1, if_pos ⟨rfl, rfl⟩]
  have c2 : (lj_put σ 6 18 (Int32.ofNat PL.length)).2 = σ.2 := rfl
  have m2 : (lj_put τ 0 60 (Int32.ofNat PL.length)).2 = τ.2 := rfl
  generalize lj_put σ 6 18 (Int32.ofNat PL.length) = σ' at *
  generalize lj_put τ 0 60 (Int32.ofNat PL.length) = τ' at *
  have fC : lf pC σ σ' := fun k j q => ⟨by have := pC_k q; exact oC k j (by omega), by rw [c2]⟩
  have fM : lf pM τ τ' := fun k j q => ⟨by have := pM_k q; exact oM k j (by omega), by rw [m2]⟩
  have hC : ∀ (A : Nat → Nat → Bool), A 6 18 = false → ∀ k j, A k j = true → σ'.1 k j = σ.1 k j := fun A a4 k j q => oC k j (by rintro ⟨e, e'⟩; rw [e, e', a4] at q; cases q)
  have hM : ∀ (A : Nat → Nat → Bool), A 0 60 = false → ∀ k j, A k j = true → τ'.1 k j = τ.1 k j := fun A a4 k j q => oM k j (by rintro ⟨e, e'⟩; rw [e, e', a4] at q; cases q)
  obtain ⟨l1, l2, l3, l4, l5, l6, l7, l8, l9, l10, l11⟩ := h.2.2.2.1
  rw [List.length_append] at l8
  have loA' : ∀ (V : List zT), loA σ τ V → loA σ' τ' V := by
    intro V
    induction V with
    | nil => intro _; trivial
    | cons y V ih =>
      intro g
      exact ⟨⟨by rw [oC 50 _ (by omega)]; exact g.1.1, by rw [oM 34 _ (by omega)]; exact g.1.2.1, by rw [oC 51 _ (by omega)]; exact g.1.2.2.1, bkL_cg (fun j => oC 52 _ (by omega)) (fun j => oC 53 _ (by omega)) _ _ _ g.1.2.2.2.1, by rw [oM 33 _ (by omega)]; exact chM_cg' (fun j hj => oM 21 j (by omega)) g.1.2.2.2.2⟩, ih g.2⟩
  refine ⟨h.mk' fC fM (NR_eq h.1.2.2.1 (hC nrC rfl) (hM nrM rfl)) (FR_eq h.1.2.2.2.1 (hC frC rfl) (hM frM rfl)) h.1.2.2.2.2.1 (lvS_eq (hC lvC rfl) h.1.2.2.2.2.2.1) (SCr_eq h.1.2.2.2.2.2.2 (Nat.le_refl _) (hC scC rfl)) (hnd_eq h.2.1 (hC hdC rfl) (hM hdM rfl)) h.2.2.1 ⟨by rw [oC 6 10 (by omega)]; exact l1, by rw [oM 0 56 (by omega)]; exact l2, l3, by rw [oC 6 13 (by omega)]; exact l4, l5, e18, e60, (by omega), loA' Z l9, plA_lt (B := PL.length) (fun k j a b => oC k j (by omega)) (fun k j a b => oM k j (by omega)) (Nat.le_refl _) (plA_dr ps l10), l11⟩ h.2.2.2.2.1.1 ?_ h.2.2.2.2.2, ⟨TX_eq N fC fM h.1.2.1 (hC txC rfl) (hM txM rfl) (fun i => by rw [c2]) (fun i => by rw [m2]) (by unfold lv; rw [oC 5 0 (by omega)]; exact Int.le_refl _), lvX_rf _, (Nat.le_refl _), (Nat.le_refl _), (Nat.le_refl _), (Nat.le_refl _), fz_eq (fun k j _ _ => oC k j (by omega)) (fun k j _ _ => oM k j (by omega))⟩⟩
  obtain ⟨⟨z1, z2, z3⟩, y1, y2, y3⟩ := h.2.2.2.2.1.2
  rw [List.length_append] at y2
  have e18' : lv σ' 5 18 = lv σ 5 18 := by unfold lv; rw [oC 5 18 (by omega)]
  have e8 : lv σ' 5 8 = lv σ 5 8 := by unfold lv; rw [oC 5 8 (by omega)]
  exact ⟨⟨by rw [e18']; exact z1, z2, fun y hy => by rw [e8]; exact z3 y hy⟩, y1, (by omega), y3⟩
/-- what stands at hand of a chain is set -/
theorem PS.p67 {b : Nat → Int32} {n T : Nat} {Q : tkQ} {X : List Int32 → Prop} {FO : List fT} {Z : List zT} {PL : List qT} {cl ml : Nat} {F : Nat} {N : List lT} {p v c m wh : Nat} {W : List wT} {σ τ : lj_S} (h : PS b n T Q X F N FO Z PL cl ml p v c m wh W σ τ) (xa xb : Int32) :
    PS b n T Q X F N FO Z PL cl ml p v c m wh W (lj_put (lj_put σ 6 16 xa) 6 17 xb) τ ∧ GR N N F F p p c c m m σ τ (lj_put (lj_put σ 6 16 xa) 6 17 xb) τ := by
  obtain ⟨h1, h2, h3, h4, h5, h6, h7, h8, h9, h10⟩ := h.2.1
  have oC : ∀ k i, ¬ (k = 6 ∧ (i = 16 ∨ i = 17)) → (lj_put (lj_put σ 6 16 xa) 6 17 xb).1 k i = σ.1 k i := fun k i q => by rw [lj_put_1, if_neg (by omega), lj_put_1, if_neg (by omega)]
  have fC : lf aC σ (lj_put (lj_put σ 6 16 xa) 6 17 xb) := lf_put (lf_put (lf_rf _ _) _ _ _ rfl) _ _ _ rfl
  exact ⟨h.up fC (lf_rf _ _) ⟨by rw [oC _ _ (by omega)]; exact h1, h2, by rw [oC _ _ (by omega)]; exact h3, h4, by rw [oC _ _ (by omega)]; exact h5, h6, by rw [oC _ _ (by omega)]; exact h7, h8, h9, h10⟩ h.2.2.1 (Nat.le_refl _) (Nat.le_refl _) (fun _ _ => rfl), TX_up N fC (lf_rf _ _) (by unfold lv; rw [oC _ _ (by omega)]; exact Int.le_refl _) (by unfold lv; rw [oC _ _ (by omega)]; exact Int.le_refl _) (fun _ _ => ⟨rfl, rfl⟩), lvX_rf _, (Nat.le_refl _), (Nat.le_refl _), (Nat.le_refl _), (Nat.le_refl _), fz_eq (fun k j _ _ => oC _ _ (by omega)) (fun _ _ _ _ => rfl)⟩
/-- the component counts the items -/
theorem c_prs {σ τ : lj_S} {PL ps : List qT} (hps : ps.length ≤ 20) (hPL : PL.length ≤ 380) (hA : plA σ τ (ps ++ PL)) (y1 y4 y5 : Int32) : ∀ (k : Nat) (a r : List qT), a.length = k → a ++ r = ps →
    lj_D lc_P lc_M110 250 [.ref 6, .int y1, .int (Int32.ofNat PL.length), .int (Int32.ofNat ps.length), .int y4, .int y5, .int (Int32.ofNat (itN r)), .int (Int32.ofNat r.length), .retAddr 0] [] σ = lj_D lc_P lc_M110 294 [.ref 6, .int y1, .int (Int32.ofNat PL.length), .int (Int32.ofNat ps.length), .int y4, .int y5, .int (Int32.ofNat (itN ps)), .int 0, .int (Int32.ofNat ps.length - 1)] [] σ := by
  intro k
  induction k with
  | zero =>
    intro a r ha har
    have : a = [] := List.eq_nil_of_length_eq_zero ha
    subst this
    have : r = ps := har
    subst this
    rw [kc_110_250, if_pos (by rw [lz_le]; exact Int.le_refl _)]
  | succ k ih =>
    intro a r ha har
    rcases List.eq_nil_or_concat a with he | ⟨a', x, he⟩
    · rw [he] at ha; simp at ha
    · rw [List.concat_eq_append] at he
      subst he
      have hl : ps.length = k + 1 + r.length := by rw [← har, List.length_append, ha]
      have ha' : a'.length = k := by simp at ha; exact ha
      have har' : a' ++ (x :: r) = ps := by rw [← har]; simp
      have hg := plA_get (σ := σ) (τ := τ) a' (x := x) (r := r ++ PL) (by rw [← har'] at hA; simpa using hA)
      have hi : PL.length + r.length = (r ++ PL).length := by rw [List.length_append]; omega
      have ih' := ih a' (x :: r) ha' har'
      rw [kc_110_250, if_neg (by rw [lz_le, lz_lit (by omega), lz_lit (by omega)]; omega), ofN_add', if_pos (ofN_in (by omega) (by omega)), lz_onat (show PL.length + r.length < 2147483648 by omega), hi, hg.1]
      have e1 : (Int32.ofNat r.length) + 1 = Int32.ofNat (x :: r).length := by rw [lz_osucc, List.length_cons]
      by_cases h6 : x.1 = 6
      · have e2 : (Int32.ofNat (itN r)) + 1 = Int32.ofNat (itN (x :: r)) := by rw [lz_osucc]; simp only [itN, if_pos h6]; congr 1; omega
        rw [if_pos h6, kc_110_277, e1, e2, ih']
      · have e2 : (Int32.ofNat (itN r)) + 0 = Int32.ofNat (itN (x :: r)) := by rw [Int32.add_zero]; simp only [itN, if_neg h6]; congr 1; omega
        rw [if_neg h6, kc_110_277, e1, e2, ih']
/-- so does the model -/
theorem m_prs {σ τ : lj_S} {PL ps : List qT} (hps : ps.length ≤ 20) (hPL : PL.length ≤ 380) (hA : plA σ τ (ps ++ PL)) (hS : ∀ x ∈ ps, (x.2.1 = 3 ↔ x.1 = 6)) (e60 : τ.1 0 60 = Int32.ofNat (ps.length + PL.length)) (y1 y2 y3 y4 : Int32) : ∀ (k : Nat) (a r : List qT), a.length = k → a ++ r = ps →
    lj_D lm_P lm_M88 35 [.ref 0, .int y1, .int y2, .int y3, .int y4, .int (Int32.ofNat (2 * itN r)), .int (Int32.ofNat (r.length + PL.length))] [] τ = lj_D lm_P lm_M88 80 [.ref 0, .int y1, .int y2, .int y3, .int y4, .int (Int32.ofNat (2 * itN ps)), .int (Int32.ofNat (ps.length + PL.length) - 1)] [] τ := by
  intro k
  induction k with
  | zero =>
    intro a r ha har
    have : a = [] := List.eq_nil_of_length_eq_zero ha
    subst this
    have : r = ps := har
    subst this
    rw [km_88_35, e60, if_pos (by rw [lz_le]; exact Int.le_refl _)]
  | succ k ih =>
    intro a r ha har
    rcases List.eq_nil_or_concat a with he | ⟨a', x, he⟩
    · rw [he] at ha; simp at ha
    · rw [List.concat_eq_append] at he
      subst he
      have hl : ps.length = k + 1 + r.length := by rw [← har, List.length_append, ha]
      have ha' : a'.length = k := by simp at ha; exact ha
      have har' : a' ++ (x :: r) = ps := by rw [← har]; simp
      have hx : x ∈ ps := by rw [← har']; simp
      have hg := plA_get (σ := σ) (τ := τ) a' (x := x) (r := r ++ PL) (by rw [← har'] at hA; simpa using hA)
      have hi : r.length + PL.length = (r ++ PL).length := by rw [List.length_append]
      have ih' := ih a' (x :: r) ha' har'
      have e1 : Int32.ofNat (r ++ PL).length + 1 = Int32.ofNat ((x :: r).length + PL.length) := by rw [lz_osucc, List.length_cons, List.length_append]; congr 1; omega
      rw [km_88_35, e60, if_neg (by rw [lz_le, lz_lit (by omega), lz_lit (by omega)]; omega), if_pos (ofN_in (by omega) (by omega)), lz_onat (show r.length + PL.length < 2147483648 by omega), hi, hg.2.1]
      by_cases h6 : x.1 = 6
      · have e2 : (Int32.ofNat (2 * itN r)) + 2 = Int32.ofNat (2 * itN (x :: r)) := by rw [show (2 : Int32) = Int32.ofNat 2 from rfl, ofN_add']; simp only [itN, if_pos h6]; congr 1; omega
        rw [if_pos ((hS x hx).2 h6), km_88_64, e1, e2, ih']
      · have e2 : Int32.ofNat (2 * itN r) = Int32.ofNat (2 * itN (x :: r)) := by simp only [itN, if_neg h6]; congr 1; omega
        rw [if_neg (fun q => h6 ((hS x hx).1 q)), km_88_64, e1, e2, ih']
