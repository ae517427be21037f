/-! the gathering: all of the model's places are laid anew -/
def smV (D : Nat → Nat) : Nat → Nat → Nat
  | _, 0 => 0
  | u, d + 1 => D u + smV D (u + 1) d
def alM (τ : lj_S) (q : Nat) : Bool := decide (τ.1 47 q ≠ 0)
theorem alM_eq (τ : lj_S) : (fun q => decide (τ.1 47 q ≠ 0)) = alM τ := rfl
def ddV (n : Nat) (P' : Nat → List Nat) (τ : lj_S) (v : Nat) : Nat := if v = 2001 ∨ (1 ≤ v ∧ v ≤ n) then (P' v).length - ((P' v).filter (alM τ)).length else 0
theorem ddV_cg {n : Nat} {P' : Nat → List Nat} {τ τ' : lj_S} (h : alM τ' = alM τ) : ddV n P' τ' = ddV n P' τ := by
  funext v
  unfold ddV
  rw [h]
theorem m_rb_out {n : Nat} (hn : n ≤ 2000) {P' : Nat → List Nat} : ∀ (d u : Nat) (τ : lj_S) (P B : Nat → List Nat) (Fr : List Nat) (X2 X3 X4 X5 X6 : Value), 1 ≤ u → u + d = 2002 → τ.1 0 77 = Int32.ofNat n → hpM τ (fun v => VM n v ∧ v < u) P B → (∀ v, VM n v → v < u → P v = (P' v).filter (alM τ)) → (∀ v, VM n v → u ≤ v → lk (lv τ 50) (lv τ 40 v) (P' v) ∧ lv τ 41 v = lsI (P' v)) → (∀ v, VM n v → ∀ q ∈ P' v, q < 3001 ∧ τ.1 49 q = Int32.ofNat v ∧ ∀ q' ∈ P' v, τ.1 45 q = τ.1 45 q' → τ.2 46 q = τ.2 46 q' → q = q') → (∀ v, 1 ≤ v → v ≤ n → τ.1 38 v ≠ 4 → P' v = []) → frI τ Fr → (∀ v, VM n v → u ≤ v → ∀ q ∈ P' v, q ∉ Fr) → (∀ v, VM n v → v < u → ∀ q ∈ P v, q ∉ Fr) → ∃ (τ' : lj_S) (P2 B2 : Nat → List Nat) (Fr2 : List Nat), lj_D lm_P lm_M220 24 [.ref 0, .int (Int32.ofNat u), X2, X3, X4, X5, X6] [] τ = some (.inl none, τ') ∧ hsM τ' (VM n) P2 B2 Fr2 ∧ (∀ v, VM n v → P2 v = (P' v).filter (alM τ)) ∧ Fr2.length = Fr.length + smV (ddV n P' τ) u d ∧ lf rbM τ τ'
  | 0, u, τ, P, B, Fr, X2, X3, X4, X5, X6, u1, hd, h77, h, hP, hO, hs, h38, hF, hF1, hF2 => by
    have lt : ∀ v, VM n v → v < u := fun v hv => by rcases hv with w | w <;> omega
    have eV : (fun v => VM n v ∧ v < u) = VM n := funext (fun v => propext ⟨fun w => w.1, fun w => ⟨w, lt v w⟩⟩)
    rw [eV] at h
    refine ⟨τ, P, B, Fr, ?_, ⟨h, hF.1, hF.2.1, hF.2.2.1, hF.2.2.2.1, fun p hp => ⟨hF.2.2.2.2 p hp, fun v hv w => hF2 v hv (lt v hv) p w hp⟩⟩, fun v hv => hP v hv (lt v hv), rfl, lf_rf _ _⟩
    rw [km_220_24, if_pos (by rw [show (2001 : Int32) = Int32.ofNat 2001 from rfl, lz_lt, lz_lit (by omega), lz_lit (by omega)]; omega)]
  | d + 1, u, τ, P, B, Fr, X2, X3, X4, X5, X6, u1, hd, h77, h, hP, hO, hs, h38, hF, hF1, hF2 => by
    have iu : lj_in (Int32.ofNat u) 2002 := ofN_in (by omega) (by omega)
    have nu : (Int32.ofNat u).toNatClampNeg = u := lz_onat (by omega)
    have n01 : ¬ ((2001 : Int32) < Int32.ofNat u) := by rw [show (2001 : Int32) = Int32.ofNat 2001 from rfl, lz_lt, lz_lit (by omega), lz_lit (by omega)]; omega
    have eq1 : Int32.ofNat u = 2001 ↔ u = 2001 := ofN_eq (c := 2001) (by omega) (by omega)
    have gt : τ.1 0 77 < Int32.ofNat u ↔ n < u := by rw [h77, lz_lt, lz_lit (by omega), lz_lit (by omega)]; omega
    -- the next state
    have key : ∃ (τ1 : lj_S) (P1 B1 : Nat → List Nat) (Fr1 : List Nat) (Y2 Y3 Y4 Y5 Y6 : Value), lj_D lm_P lm_M220 24 [.ref 0, .int (Int32.ofNat u), X2, X3, X4, X5, X6] [] τ = lj_D lm_P lm_M220 24 [.ref 0, .int (Int32.ofNat (u + 1)), Y2, Y3, Y4, Y5, Y6] [] τ1 ∧ hpM τ1 (fun v => VM n v ∧ v < u + 1) P1 B1 ∧ (∀ v, VM n v → v < u + 1 → P1 v = (P' v).filter (alM τ)) ∧ frI τ1 Fr1 ∧ (∀ q, q ∈ Fr1 ↔ q ∈ Fr ∨ (VM n u ∧ q ∈ P' u ∧ τ.1 47 q = 0)) ∧ Fr1.length = Fr.length + ddV n P' τ u ∧ lf rbM τ τ1 ∧ (∀ v, v ≠ u → τ1.1 40 v = τ.1 40 v ∧ τ1.1 41 v = τ.1 41 v) ∧ ∀ v, VM n v → u + 1 ≤ v → ∀ q ∈ P' v, τ1.1 50 q = τ.1 50 q := by
      by_cases hv : VM n u
      · have hV : ∀ v, (VM n v ∧ v < u + 1) ↔ (VM n v ∧ v < u) ∨ v = u := fun v => by
          constructor
          · rintro ⟨w1, w2⟩
            by_cases e : v = u
            · exact Or.inr e
            · exact Or.inl ⟨w1, by omega⟩
          · rintro (w | w)
            · exact ⟨w.1, by omega⟩
            · rw [w]; exact ⟨hv, by omega⟩
        have du : ddV n P' τ u = (P' u).length - ((P' u).filter (alM τ)).length := by
          unfold ddV
          rw [if_pos (show u = 2001 ∨ (1 ≤ u ∧ u ≤ n) from hv)]
        by_cases on : u = 2001 ∨ τ.1 38 u = 4
        · have s1 : lj_D lm_P lm_M220 24 [.ref 0, .int (Int32.ofNat u), X2, X3, X4, X5, X6] [] τ = lj_D lm_P lm_M220 91 [.ref 0, .int (Int32.ofNat u), .int 1, .int (τ.1 40 u), .int (-1), X5, X6] [] (lj_put τ 40 u (-1)) := by
            have s0 : lj_D lm_P lm_M220 24 [.ref 0, .int (Int32.ofNat u), X2, X3, X4, X5, X6] [] τ = lj_D lm_P lm_M220 56 [.ref 0, .int (Int32.ofNat u), X2, X3, X4, X5, X6] [] τ := by
              rw [km_220_24, if_neg n01]
              by_cases e : u = 2001
              · rw [if_pos (eq1.2 e)]
              · rw [if_neg (fun w => e (eq1.1 w)), if_neg (fun w => by have := gt.1 w; rcases hv with y | y <;> omega)]
                simp only [if_pos iu, nu]
                rw [if_pos (on.resolve_left e)]
            rw [s0, km_220_56, km_220_61, if_neg (by decide), if_pos iu, nu, km_220_76, if_neg (by decide), if_pos iu, nu]
          have h0 : hpM (lj_put (lj_put τ 40 u (-1)) 41 u (-1)) (fun v => VM n v ∧ v < u + 1) (pUp P u []) B := hp_more h (fun w => by have := w.2; omega) hV (by rw [lv_put, if_neg (by omega), lv_put, if_pos ⟨rfl, rfl⟩]; exact lz_m1) (by rw [lv_put, if_pos ⟨rfl, rfl⟩]; exact lz_m1) (fun v e => ⟨by rw [lj_put_1, if_neg (by omega), lj_put_1, if_neg (by omega)], by rw [lj_put_1, if_neg (by omega), lj_put_1, if_neg (by omega)]⟩) (fun k j w => by rw [lj_put_1, if_neg (by omega), lj_put_1, if_neg (by omega)]) (fun _ => rfl)
          have c0 : ∀ k j, k ≠ 40 → (lj_put τ 40 u (-1)).1 k j = τ.1 k j := fun k j w => by rw [lj_put_1, if_neg (fun e => w e.1)]
          have e50 : lv (lj_put τ 40 u (-1)) 50 = lv τ 50 := funext (fun j => by unfold lv; rw [c0 50 j (by omega)])
          obtain ⟨f1, f2, f3, f4, f5⟩ := hF
          obtain ⟨o1, o2⟩ := hO u hv (Nat.le_refl _)
          obtain ⟨τ1, B1, Fr1, Y2, Y3, Y4, Y5, Y6, r1, r2, r3, r4, r5, r6, r7, r8⟩ := m_rb_loop (u := u) (by omega) (P' u) [] (lj_put τ 40 u (-1)) (fun v => VM n v ∧ v < u + 1) (pUp P u []) B Fr (-1) (-1) (τ.1 40 u) X5 X6 h0 ⟨hv, by omega⟩ (fun v w => by rcases w.1 with y | y <;> omega) (pUp_t _ _ _) lz_m1 lz_m1 (by rw [e50]; exact o1) (fun q hq => by
            obtain ⟨w1, w2, w3⟩ := hs u hv q hq
            refine ⟨w1, by rw [c0 49 q (by omega)]; exact w2, fun v hv' w => ?_, hF1 u hv (Nat.le_refl _) q hq⟩
            by_cases e : v = u
            · rw [e, pUp_t] at w; cases w
            · rw [pUp_o _ _ e, hP v hv'.1 (by have := hv'.2; omega)] at w
              have w := (List.mem_filter.1 w).1
              have e2 := (hs v hv'.1 q w).2.1
              rw [w2] at e2
              have a1 : v ≤ 2001 := by rcases hv'.1 with y | y <;> omega
              exact e ((ofN_eq (by omega) (by omega)).1 e2).symm) (lk_nd o1) (fun a ha b hb z1 z2 => by
            rw [c0 45 a (by omega), c0 45 b (by omega)] at z1
            exact (hs u hv a ha).2.2 b hb z1 z2) ⟨fsM_cg (fun j => c0 53 j (by omega)) f1, by unfold lv; rw [c0 0 88 (by omega)]; exact f2, by unfold lv; rw [c0 0 89 (by omega)]; exact f3, f4, f5⟩
          have ea : (fun q => decide ((lj_put τ 40 u (-1)).1 47 q ≠ 0)) = alM τ := by
            funext q
            rw [c0 47 q (by omega)]
            rfl
          rw [ea] at r2 r5
          rw [pUp_pUp, List.nil_append] at r2
          refine ⟨τ1, _, B1, Fr1, Y2, Y3, Y4, Y5, Y6, by rw [s1, r1], r2, fun v w1 w2 => ?_, r3, fun q => ?_, ?_, (lf_put (lf_rf _ _) _ _ _ rfl).tr r6, fun v e => ⟨by rw [(r7 v e).1, lj_put_1, if_neg (by omega)], by rw [(r7 v e).2, c0 41 v (by omega)]⟩, fun v w1 w2 q hq => ?_⟩
          · by_cases e : v = u
            · rw [e, pUp_t]
            · rw [pUp_o _ _ e]
              exact hP v w1 (by omega)
          · rw [r4, c0 47 q (by omega)]
            exact ⟨fun w => w.imp id (fun y => ⟨hv, y⟩), fun w => w.imp id (fun y => y.2)⟩
          · rw [du]
            have := List.length_filter_le (alM τ) (P' u)
            omega
          · rw [r8 q (fun w => by cases w) (fun w => ?_), c0 50 q (by omega)]
            have e1 := (hs u hv q w).2.1
            rw [(hs v w1 q hq).2.1] at e1
            have a1 : v ≤ 2001 := by rcases w1 with y | y <;> omega
            have := (ofN_eq (by omega) (by omega)).1 e1
            omega
        · have u4 : u ≠ 2001 := fun e => on (Or.inl e)
          have un : u ≤ n := by rcases hv with y | y <;> omega
          have pe := h38 u u1 un (fun e => on (Or.inr e))
          obtain ⟨o1, o2⟩ := hO u hv (Nat.le_refl _)
          rw [pe] at o1 o2
          have h0 : hpM τ (fun v => VM n v ∧ v < u + 1) (pUp P u []) B := hp_more h (fun w => by have := w.2; omega) hV o1 o2 (fun _ _ => ⟨rfl, rfl⟩) (fun _ _ _ => rfl) (fun _ => rfl)
          refine ⟨τ, _, B, Fr, .int 0, .int (-1), .int (-1), X5, X6, ?_, h0, fun v w1 w2 => ?_, hF, fun q => ?_, ?_, lf_rf _ _, fun _ _ => ⟨rfl, rfl⟩, fun _ _ _ _ _ => rfl⟩
          · rw [km_220_24, if_neg n01, if_neg (fun w => u4 (eq1.1 w)), if_neg (fun w => by have := gt.1 w; omega)]
            simp only [if_pos iu, nu]
            rw [if_neg (fun e => on (Or.inr e)), km_220_60, km_220_61, if_pos rfl, km_220_76, if_pos rfl, km_220_91, if_pos (by decide), if_pos rfl, km_220_235, lz_osucc]
          · by_cases e : v = u
            · rw [e, pUp_t, pe]
              rfl
            · rw [pUp_o _ _ e]
              exact hP v w1 (by omega)
          · rw [pe]
            exact ⟨Or.inl, fun w => w.elim id (fun y => by cases y.2.1)⟩
          · rw [du, pe]
            rfl
      · have u4 : u ≠ 2001 := fun e => hv (Or.inl e)
        have un : n < u := by
          by_cases w : n < u
          · exact w
          · exact absurd (Or.inr ⟨u1, by omega⟩) hv
        have eV : (fun v => VM n v ∧ v < u + 1) = (fun v => VM n v ∧ v < u) := funext (fun v => propext ⟨fun w => ⟨w.1, by
          have := w.2
          have : v ≠ u := fun e => hv (by rw [← e]; exact w.1)
          omega⟩, fun w => ⟨w.1, by have := w.2; omega⟩⟩)
        refine ⟨τ, P, B, Fr, .int 0, .int (-1), .int (-1), X5, X6, ?_, by rw [eV]; exact h, fun v w1 w2 => hP v w1 (by
          have : v ≠ u := fun e => hv (by rw [← e]; exact w1)
          omega), hF, fun q => ⟨Or.inl, fun w => w.elim id (fun y => absurd y.1 hv)⟩, ?_, lf_rf _ _, fun _ _ => ⟨rfl, rfl⟩, fun _ _ _ _ _ => rfl⟩
        · rw [km_220_24, if_neg n01, if_neg (fun w => u4 (eq1.1 w)), if_pos (gt.2 un), km_220_60, km_220_61, if_pos rfl, km_220_76, if_pos rfl, km_220_91, if_pos (by decide), if_pos rfl, km_220_235, lz_osucc]
        · unfold ddV
          rw [if_neg (show ¬ (u = 2001 ∨ (1 ≤ u ∧ u ≤ n)) from hv)]
          rfl
    obtain ⟨τ1, P1, B1, Fr1, Y2, Y3, Y4, Y5, Y6, k1, k2, k3, k4, k5, k6, k7, k8, k9⟩ := key
    have c1 : ∀ k j, k = 38 ∨ k = 45 ∨ k = 47 ∨ k = 49 ∨ k = 0 ∧ j = 77 → τ1.1 k j = τ.1 k j := fun k j w => (k7 k j (by unfold rbM; simp; omega)).1
    have c2 : ∀ j, τ1.2 46 j = τ.2 46 j := fun j => (k7 46 j rfl).2
    have ea : alM τ1 = alM τ := by
      funext q
      unfold alM
      rw [c1 47 q (by omega)]
    obtain ⟨τ', P2, B2, Fr2, r1, r2, r3, r4, r5⟩ := m_rb_out hn (P' := P') d (u + 1) τ1 P1 B1 Fr1 Y2 Y3 Y4 Y5 Y6 (by omega) (by omega) (by rw [c1 0 77 (by omega)]; exact h77) k2 (by rw [ea]; exact k3) (fun v w1 w2 => by
      obtain ⟨o1, o2⟩ := hO v w1 (by omega)
      refine ⟨?_, ?_⟩
      · have e40 : lv τ1 40 v = lv τ 40 v := by unfold lv; rw [(k8 v (by omega)).1]
        rw [e40]
        exact lk_cong (fun q hq => by unfold lv; rw [k9 v w1 w2 q hq]) o1
      · unfold lv at o2 ⊢
        rw [(k8 v (by omega)).2]
        exact o2) (fun v w q hq => by
      obtain ⟨y1, y2, y3⟩ := hs v w q hq
      refine ⟨y1, by rw [c1 49 q (by omega)]; exact y2, fun q' hq' z1 z2 => y3 q' hq' ?_ ?_⟩
      · rw [← c1 45 q (by omega), ← c1 45 q' (by omega)]; exact z1
      · rw [← c2, ← c2]; exact z2) (fun v w1 w2 z => h38 v w1 w2 (by rw [← c1 38 v (by omega)]; exact z)) k4 (fun v w1 w2 q hq z => by
      rcases (k5 q).1 z with y | ⟨y1, y2, _⟩
      · exact hF1 v w1 (by omega) q hq y
      · have e1 := (hs u y1 q y2).2.1
        rw [(hs v w1 q hq).2.1] at e1
        have a1 : v ≤ 2001 := by rcases w1 with y | y <;> omega
        have := (ofN_eq (by omega) (by omega)).1 e1
        omega) (fun v w1 w2 q hq z => by
      rw [k3 v w1 w2] at hq
      obtain ⟨q1, q2⟩ := List.mem_filter.1 hq
      have q2 : τ.1 47 q ≠ 0 := by unfold alM at q2; simpa using q2
      rcases (k5 q).1 z with y | ⟨y1, y2, y3⟩
      · by_cases e : v = u
        · exact hF1 v w1 (by omega) q q1 y
        · exact hF2 v w1 (by omega) q (by rw [hP v w1 (by omega)]; exact hq) y
      · exact q2 y3)
    refine ⟨τ', P2, B2, Fr2, by rw [k1]; exact r1, r2, by rw [ea] at r3; exact r3, ?_, k7.tr r5⟩
    rw [r4, ddV_cg ea, k6]
    show _ = Fr.length + (ddV n P' τ u + smV (ddV n P' τ) (u + 1) d)
    omega
theorem m_clr : ∀ (d b : Nat) (τ : lj_S), b + d = 4096 → ∃ τ', lj_D lm_P lm_M220 2 [.ref 0, .int (Int32.ofNat b), .retAddr 0, .retAddr 0, .retAddr 0, .retAddr 0, .retAddr 0] [] τ = lj_D lm_P lm_M220 24 [.ref 0, .int 1, .retAddr 0, .retAddr 0, .retAddr 0, .retAddr 0, .retAddr 0] [] τ' ∧ (∀ c, b ≤ c → c < 4096 → τ'.1 52 c = -1) ∧ (∀ k j, k ≠ 52 → τ'.1 k j = τ.1 k j) ∧ τ'.2 = τ.2 ∧ ∀ c, c < b → τ'.1 52 c = τ.1 52 c
  | 0, b, τ, hd => by
    refine ⟨τ, ?_, fun c c1 c2 => by omega, fun _ _ _ => rfl, rfl, fun _ _ => rfl⟩
    rw [km_220_2, if_pos (by rw [show (4096 : Int32) = Int32.ofNat 4096 from rfl]; exact (ofN_le (by omega) (by omega)).2 (by omega))]
  | d + 1, b, τ, hd => by
    have ib : lj_in (Int32.ofNat b) 4096 := ofN_in (by omega) (by omega)
    obtain ⟨τ', r1, r2, r3, r4, r5⟩ := m_clr d (b + 1) (lj_put τ 52 b (-1)) (by omega)
    refine ⟨τ', ?_, fun c c1 c2 => ?_, fun k j w => by rw [r3 k j w, lj_put_1, if_neg (fun e => w e.1)], by rw [r4]; rfl, fun c hc => by rw [r5 c (by omega), lj_put_1, if_neg (by omega)]⟩
    · rw [km_220_2, if_neg (by rw [show (4096 : Int32) = Int32.ofNat 4096 from rfl]; exact fun q => by have := (ofN_le (by omega) (by omega)).1 q; omega), if_pos ib, lz_onat (by omega), lz_osucc]
      exact r1
    · by_cases e : c = b
      · rw [e, r5 b (by omega), lj_put_1, if_pos ⟨rfl, rfl⟩]
      · exact r2 c (by omega) c2
/-- rebuild -/
theorem m_rb {n : Nat} (hn : n ≤ 2000) {τ : lj_S} {P' B' : Nat → List Nat} {Fr' : List Nat} (h77 : τ.1 0 77 = Int32.ofNat n) (h : hsM τ (VM n) P' B' Fr') (h38 : ∀ v, 1 ≤ v → v ≤ n → τ.1 38 v ≠ 4 → P' v = []) : ∃ (τ' : lj_S) (P2 B2 : Nat → List Nat) (Fr2 : List Nat), lj_R lm_P 220 [.ref 0] τ = some (.inl none, τ') ∧ hsM τ' (VM n) P2 B2 Fr2 ∧ (∀ v, VM n v → P2 v = (P' v).filter (alM τ)) ∧ Fr2.length = Fr'.length + smV (ddV n P' τ) 1 2001 ∧ lf rbM τ τ' := by
  obtain ⟨⟨p1, p2, p3⟩, f1, f2, f3, f4, f5⟩ := h
  obtain ⟨τa, a1, a2, a3, a4, _⟩ := m_clr 4096 0 τ (by omega)
  have l : ∀ k, k ≠ 52 → lv τa k = lv τ k := fun k w => funext (fun j => by unfold lv; rw [a3 k j w])
  have ea : alM τa = alM τ := by
    funext q
    unfold alM
    rw [a3 47 q (by omega)]
  obtain ⟨τ', P2, B2, Fr2, r1, r2, r3, r4, r5⟩ := m_rb_out hn (P' := P') 2001 1 τa (fun _ => []) (fun _ => []) Fr' (.retAddr 0) (.retAddr 0) (.retAddr 0) (.retAddr 0) (.retAddr 0) (by omega) (by omega) (by rw [a3 0 77 (by omega)]; exact h77) ⟨fun v w => by rcases w.1 with y | y <;> omega, fun b hb => ⟨by
      show lv τa 52 b = -1
      unfold lv
      rw [a2 b (Nat.zero_le _) hb]
      exact lz_m1, fun p hp => by cases hp⟩, fun v w p hp => by cases hp⟩ (fun v w1 w2 => by rcases w1 with y | y <;> omega) (fun v w1 _ => by rw [l 50 (by omega), l 40 (by omega), l 41 (by omega)]; exact p1 v w1) (fun v w q hq => by
      obtain ⟨y1, y2, _, y4⟩ := p3 v w q hq
      exact ⟨y1, by rw [a3 49 q (by omega)]; exact y2, fun q' hq' z1 z2 => y4 q' hq' (by rw [← a3 45 q (by omega), ← a3 45 q' (by omega)]; exact z1) (by rw [a4] at z2; exact z2)⟩) (fun v w1 w2 z => h38 v w1 w2 (by rw [← a3 38 v (by omega)]; exact z)) ⟨fsM_cg (fun j => a3 53 j (by omega)) f1, by rw [l 0 (by omega)]; exact f2, by rw [l 0 (by omega)]; exact f3, f4, fun p hp => (f5 p hp).1⟩ (fun v w1 _ q hq y => (f5 q y).2 v w1 hq) (fun v w1 w2 => by rcases w1 with y | y <;> omega)
  refine ⟨τ', P2, B2, Fr2, ?_, r2, by rw [ea] at r3; exact r3, by rw [r4, ddV_cg ea], lf.tr (fun k j w => ⟨a3 k j (fun e => by rw [e] at w; cases w), by rw [a4]⟩) r5⟩
  have a1 : lj_D lm_P lm_M220 2 [.ref 0, .int 0, .retAddr 0, .retAddr 0, .retAddr 0, .retAddr 0, .retAddr 0] [] τ = _ := a1
  have r1 : lj_D lm_P lm_M220 24 [.ref 0, .int 1, .retAddr 0, .retAddr 0, .retAddr 0, .retAddr 0, .retAddr 0] [] τa = _ := r1
  rw [rm_220, km_220_0, a1, r1]
