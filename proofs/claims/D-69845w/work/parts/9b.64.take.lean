/-! the gathering: what the model takes away -/
theorem m_tk_in (x1 x2 : Int32) : ∀ (L : List Nat) (y : Int32) (τ : lj_S), lk (lv τ 50) y.toInt L → (∀ q ∈ L, q < 3001) → ∃ (τ' : lj_S) (y' : Int32), lj_D lm_P lm_M219 50 [.ref 0, .int x1, .int x2, .int y] [] τ = lj_D lm_P lm_M219 121 [.ref 0, .int x1, .int x2, .int y'] [] τ' ∧ (∀ q ∈ L, τ'.1 47 q = 0) ∧ (∀ k j, ¬ (k = 47 ∧ j ∈ L) → τ'.1 k j = τ.1 k j) ∧ τ'.2 = τ.2
  | [], y, τ, hl, _ => by
    have hl : y.toInt = -1 := hl
    refine ⟨τ, y, ?_, fun q hq => (by cases hq), fun _ _ _ => rfl, rfl⟩
    rw [km_219_50, if_pos (by rw [lz_lt, hl]; decide)]
  | q :: L, y, τ, hl, hb => by
    have q3 := hb q List.mem_cons_self
    have ey : y = Int32.ofNat q := lz_ext (by rw [hl.1, lz_lit (by omega)])
    have iq : lj_in (Int32.ofNat q) 3001 := ofN_in (by omega) (by omega)
    have nq : (Int32.ofNat q).toNatClampNeg = q := lz_onat (by omega)
    have e50 : lv (lj_put τ 47 q 0) 50 = lv τ 50 := funext (fun j => by rw [lv_put, if_neg (by omega)])
    obtain ⟨τ', y', r1, r2, r3, r4⟩ := m_tk_in x1 x2 L (τ.1 50 q) (lj_put τ 47 q 0) (by rw [e50]; exact hl.2) (fun x hx => hb x (List.mem_cons_of_mem _ hx))
    refine ⟨τ', y', ?_, fun x hx => ?_, fun k j w => ?_, by rw [r4]; rfl⟩
    · rw [ey, km_219_50, if_neg (ofN_nneg (by omega))]
      simp only [if_pos iq, nq]
      exact r1
    · by_cases m : x ∈ L
      · exact r2 x m
      · have e : x = q := (List.mem_cons.1 hx).resolve_right m
        rw [r3 47 x (fun w => m w.2), lj_put_1, if_pos ⟨rfl, e⟩]
    · rw [r3 k j (fun y => w ⟨y.1, List.mem_cons_of_mem _ y.2⟩), lj_put_1, if_neg (fun y => w ⟨y.1, by rw [y.2]; exact List.mem_cons_self⟩)]
/-- lost tables' places, lost parts -/
def tkT (n : Nat) (T : Nat → Bool) (P' : Nat → List Nat) (τ : lj_S) (t q : Nat) : Prop := ∃ u, t ≤ u ∧ u ≤ n ∧ T u = false ∧ τ.1 38 u = 4 ∧ q ∈ P' u
def tkP (n : Nat) (T : Nat → Bool) (τ : lj_S) (t q : Nat) : Prop := ∃ u, t ≤ u ∧ u ≤ n ∧ T u = false ∧ τ.1 38 u = 6 ∧ τ.1 43 u = Int32.ofNat q
theorem m_tk {n : Nat} (hn : n ≤ 2000) {T : Nat → Bool} {P' : Nat → List Nat} : ∀ (d t g : Nat) (τ : lj_S) (X3 : Value), 1 ≤ t → t + d = n + 1 → τ.1 0 77 = Int32.ofNat n → (∀ u, 1 ≤ u → u ≤ n → (τ.1 96 u ≠ 0 ↔ T u = true)) → (∀ u, 1 ≤ u → u ≤ n → (τ.1 38 u = 0 ∨ τ.1 38 u = 4 ∨ τ.1 38 u = 5 ∨ τ.1 38 u = 6) ∧ lk (lv τ 50) (lv τ 40 u) (P' u) ∧ (∀ q ∈ P' u, q < 3001) ∧ (τ.1 38 u = 6 → ∃ q : Nat, q < 26 ∧ τ.1 43 u = Int32.ofNat q)) → ∃ (τ' : lj_S) (X3' : Value), lj_D lm_P lm_M219 4 [.ref 0, .int (Int32.ofNat g), .int (Int32.ofNat t), X3] [] τ = lj_bv (lj_R lm_P 220 [.ref 0] τ') (fun σ1 => lj_D lm_P lm_M219 133 [.ref 0, .int (Int32.ofNat (g + gnN (τ.1 38) T t d)), .int 1, X3'] [] σ1) lj_up ∧ (∀ q, (tkT n T P' τ t q → τ'.1 47 q = 0) ∧ (¬ tkT n T P' τ t q → τ'.1 47 q = τ.1 47 q)) ∧ (∀ q, q < 26 → (tkP n T τ t q → τ'.1 58 q = 4 ∧ τ'.1 62 q = 0 ∧ τ'.1 63 q = 0)) ∧ (∀ q, ¬ (q < 26 ∧ tkP n T τ t q) → τ'.1 58 q = τ.1 58 q ∧ τ'.1 62 q = τ.1 62 q ∧ τ'.1 63 q = τ.1 63 q) ∧ (∀ k j, k ≠ 47 → k ≠ 58 → k ≠ 62 → k ≠ 63 → τ'.1 k j = τ.1 k j) ∧ τ'.2 = τ.2
  | 0, t, g, τ, X3, t1, hd, h77, h96, hk => by
    refine ⟨τ, X3, ?_, fun q => ⟨fun ⟨u, u1, u2, _⟩ => by omega, fun _ => rfl⟩, fun q _ ⟨u, u1, u2, _⟩ => by omega, fun _ _ => ⟨rfl, rfl, rfl⟩, fun _ _ _ _ _ _ => rfl, rfl⟩
    rw [km_219_4, h77, if_pos (by rw [lz_lt, lz_lit (by omega), lz_lit (by omega)]; omega)]
    rfl
  | d + 1, t, g, τ, X3, t1, hd, h77, h96, hk => by
    have it : lj_in (Int32.ofNat t) 2002 := ofN_in (by omega) (by omega)
    have nt : (Int32.ofNat t).toNatClampNeg = t := lz_onat (by omega)
    have tn : t ≤ n := by omega
    obtain ⟨k1, k2, k3, k4⟩ := hk t t1 tn
    have n0 : ¬ (τ.1 0 77 < Int32.ofNat t) := by rw [h77, lz_lt, lz_lit (by omega), lz_lit (by omega)]; omega
    -- one object
    have key : ∃ (τ1 : lj_S) (X : Value), lj_D lm_P lm_M219 4 [.ref 0, .int (Int32.ofNat g), .int (Int32.ofNat t), X3] [] τ = lj_D lm_P lm_M219 121 [.ref 0, .int (Int32.ofNat (g + if τ.1 38 t ≠ 0 ∧ T t = false then 1 else 0)), .int (Int32.ofNat t), X] [] τ1 ∧ (∀ q, (T t = false ∧ τ.1 38 t = 4 ∧ q ∈ P' t → τ1.1 47 q = 0) ∧ (¬ (T t = false ∧ τ.1 38 t = 4 ∧ q ∈ P' t) → τ1.1 47 q = τ.1 47 q)) ∧ (∀ q, q < 26 → (T t = false ∧ τ.1 38 t = 6 ∧ τ.1 43 t = Int32.ofNat q → τ1.1 58 q = 4 ∧ τ1.1 62 q = 0 ∧ τ1.1 63 q = 0)) ∧ (∀ q, ¬ (q < 26 ∧ T t = false ∧ τ.1 38 t = 6 ∧ τ.1 43 t = Int32.ofNat q) → τ1.1 58 q = τ.1 58 q ∧ τ1.1 62 q = τ.1 62 q ∧ τ1.1 63 q = τ.1 63 q) ∧ (∀ k j, k ≠ 47 → k ≠ 58 → k ≠ 62 → k ≠ 63 → τ1.1 k j = τ.1 k j) ∧ τ1.2 = τ.2 := by
      by_cases hg : τ.1 38 t ≠ 0 ∧ T t = false
      · have np : ¬ (τ.1 38 t ≤ 0) := fun w => by
          rcases k1 with y | y | y | y
          · exact hg.1 y
          · rw [y] at w; exact absurd w (by decide)
          · rw [y] at w; exact absurd w (by decide)
          · rw [y] at w; exact absurd w (by decide)
        have e96 : τ.1 96 t = 0 := Classical.byContradiction (fun w => by rw [(h96 t t1 tn).1 w] at hg; cases hg.2)
        rw [if_pos hg]
        by_cases e4 : τ.1 38 t = 4
        · obtain ⟨τ1, y', r1, r2, r3, r4⟩ := m_tk_in (Int32.ofNat g + 1) (Int32.ofNat t) (P' t) (τ.1 40 t) τ k2 k3
          refine ⟨τ1, .int y', ?_, fun q => ⟨fun w => r2 q w.2.2, fun w => r3 47 q (fun y => w ⟨hg.2, e4, y.2⟩)⟩, fun q _ w => by rw [e4] at w; exact absurd w.2.1 (by decide), fun q _ => ⟨r3 58 q (by omega), r3 62 q (by omega), r3 63 q (by omega)⟩, fun k j z1 _ _ _ => r3 k j (fun y => z1 y.1), r4⟩
          rw [km_219_4, if_neg n0]
          simp only [if_pos it, nt]
          rw [if_neg np, if_pos e96, if_pos e4, r1, lz_osucc]
        · by_cases e6 : τ.1 38 t = 6
          · obtain ⟨q0, q1, q2⟩ := k4 e6
            have iq : lj_in (Int32.ofNat q0) 26 := ofN_in (by omega) (by omega)
            have nq : (Int32.ofNat q0).toNatClampNeg = q0 := lz_onat (by omega)
            refine ⟨lj_put (lj_put (lj_put τ 58 q0 4) 62 q0 0) 63 q0 0, X3, ?_, fun q => ⟨fun w => absurd w.2.1 e4, fun _ => by rw [lj_put_1, if_neg (by omega), lj_put_1, if_neg (by omega), lj_put_1, if_neg (by omega)]⟩, fun q hq w => ?_, fun q w => ?_, fun k j z1 z2 z3 z4 => by rw [lj_put_1, if_neg (by omega), lj_put_1, if_neg (by omega), lj_put_1, if_neg (by omega)], rfl⟩
            · rw [km_219_4, if_neg n0]
              simp only [if_pos it, nt]
              rw [if_neg np, if_pos e96, if_neg e4, if_pos e6, q2]
              simp only [if_pos iq, nq]
              rw [lz_osucc]
            · have e : q = q0 := by
                have := w.2.2
                rw [q2] at this
                exact ((ofN_eq (by omega) (by omega)).1 this).symm
              refine ⟨?_, ?_, ?_⟩
              · rw [lj_put_1, if_neg (by omega), lj_put_1, if_neg (by omega), lj_put_1, if_pos ⟨rfl, e⟩]
              · rw [lj_put_1, if_neg (by omega), lj_put_1, if_pos ⟨rfl, e⟩]
              · rw [lj_put_1, if_pos ⟨rfl, e⟩]
            · have e : q ≠ q0 := fun e => w ⟨by omega, hg.2, e6, by rw [e]; exact q2⟩
              refine ⟨?_, ?_, ?_⟩
              · rw [lj_put_1, if_neg (by omega), lj_put_1, if_neg (by omega), lj_put_1, if_neg (by omega)]
              · rw [lj_put_1, if_neg (by omega), lj_put_1, if_neg (by omega), lj_put_1, if_neg (by omega)]
              · rw [lj_put_1, if_neg (by omega), lj_put_1, if_neg (by omega), lj_put_1, if_neg (by omega)]
          · refine ⟨τ, X3, ?_, fun q => ⟨fun w => absurd w.2.1 e4, fun _ => rfl⟩, fun q _ w => absurd w.2.1 e6, fun _ _ => ⟨rfl, rfl, rfl⟩, fun _ _ _ _ _ _ => rfl, rfl⟩
            rw [km_219_4, if_neg n0]
            simp only [if_pos it, nt]
            rw [if_neg np, if_pos e96, if_neg e4, if_neg e6, lz_osucc]
      · rw [if_neg hg]
        have no : T t = false → τ.1 38 t = 0 := fun w => Classical.byContradiction (fun y => hg ⟨y, w⟩)
        refine ⟨τ, X3, ?_, fun q => ⟨fun w => by have := no w.1; rw [w.2.1] at this; exact absurd this (by decide), fun _ => rfl⟩, fun q _ w => by have := no w.1; rw [w.2.1] at this; exact absurd this (by decide), fun _ _ => ⟨rfl, rfl, rfl⟩, fun _ _ _ _ _ _ => rfl, rfl⟩
        rw [km_219_4, if_neg n0]
        simp only [if_pos it, nt]
        by_cases z : τ.1 38 t ≤ 0
        · rw [if_pos z]
          rfl
        · have tt : T t = true := by
            cases e : T t with
            | true => rfl
            | false => rw [no e] at z; exact absurd (by decide) z
          rw [if_neg z, if_neg ((h96 t t1 tn).2 tt)]
          rfl
    obtain ⟨τ1, X, a1, a2, a3, a4, a5, a6⟩ := key
    have e38 : ∀ u, τ1.1 38 u = τ.1 38 u := fun u => a5 38 u (by omega) (by omega) (by omega) (by omega)
    have e43 : ∀ u, τ1.1 43 u = τ.1 43 u := fun u => a5 43 u (by omega) (by omega) (by omega) (by omega)
    have e50 : lv τ1 50 = lv τ 50 := funext (fun j => by unfold lv; rw [a5 50 j (by omega) (by omega) (by omega) (by omega)])
    obtain ⟨τ', X', r1, r2, r3, r4, r5, r6⟩ := m_tk hn (T := T) (P' := P') d (t + 1) (g + if τ.1 38 t ≠ 0 ∧ T t = false then 1 else 0) τ1 X (by omega) (by omega) (by rw [a5 0 77 (by omega) (by omega) (by omega) (by omega)]; exact h77) (fun u u1 u2 => by rw [a5 96 u (by omega) (by omega) (by omega) (by omega)]; exact h96 u u1 u2) (fun u u1 u2 => by
      obtain ⟨w1, w2, w3, w4⟩ := hk u u1 u2
      have e40 : lv τ1 40 u = lv τ 40 u := by unfold lv; rw [a5 40 u (by omega) (by omega) (by omega) (by omega)]
      rw [e38, e43, e50, e40]
      exact ⟨w1, w2, w3, w4⟩)
    have sT : ∀ q, tkT n T P' τ t q ↔ (T t = false ∧ τ.1 38 t = 4 ∧ q ∈ P' t) ∨ tkT n T P' τ1 (t + 1) q := fun q => by
      unfold tkT
      constructor
      · rintro ⟨u, u1, u2, u3⟩
        by_cases e : u = t
        · rw [e] at u3; exact Or.inl u3
        · exact Or.inr ⟨u, by omega, u2, by rw [e38]; exact u3⟩
      · rintro (w | ⟨u, u1, u2, u3⟩)
        · exact ⟨t, Nat.le_refl _, tn, w⟩
        · rw [e38] at u3; exact ⟨u, by omega, u2, u3⟩
    have sP : ∀ q, tkP n T τ t q ↔ (T t = false ∧ τ.1 38 t = 6 ∧ τ.1 43 t = Int32.ofNat q) ∨ tkP n T τ1 (t + 1) q := fun q => by
      unfold tkP
      constructor
      · rintro ⟨u, u1, u2, u3⟩
        by_cases e : u = t
        · rw [e] at u3; exact Or.inl u3
        · exact Or.inr ⟨u, by omega, u2, by rw [e38, e43]; exact u3⟩
      · rintro (w | ⟨u, u1, u2, u3⟩)
        · exact ⟨t, Nat.le_refl _, tn, w⟩
        · rw [e38, e43] at u3; exact ⟨u, by omega, u2, u3⟩
    refine ⟨τ', X', ?_, fun q => ⟨fun w => ?_, fun w => ?_⟩, fun q hq w => ?_, fun q w => ?_, fun k j z1 z2 z3 z4 => by rw [r5 k j z1 z2 z3 z4, a5 k j z1 z2 z3 z4], by rw [r6, a6]⟩
    · rw [a1, km_219_121, lz_osucc, r1, show τ1.1 38 = τ.1 38 from funext e38, Nat.add_assoc]
      rfl
    · by_cases y : tkT n T P' τ1 (t + 1) q
      · exact (r2 q).1 y
      · rw [(r2 q).2 y]
        exact (a2 q).1 (((sT q).1 w).resolve_right y)
    · rw [(r2 q).2 (fun y => w ((sT q).2 (Or.inr y)))]
      exact (a2 q).2 (fun y => w ((sT q).2 (Or.inl y)))
    · by_cases y : tkP n T τ1 (t + 1) q
      · exact r3 q hq y
      · obtain ⟨y1, y2, y3⟩ := r4 q (fun z => y z.2)
        rw [y1, y2, y3]
        exact a3 q hq (((sP q).1 w).resolve_right y)
    · obtain ⟨y1, y2, y3⟩ := r4 q (fun z => w ⟨z.1, (sP q).2 (Or.inr z.2)⟩)
      rw [y1, y2, y3]
      exact a4 q (fun z => w ⟨z.1, (sP q).2 (Or.inl z.2)⟩)
theorem m_off {n : Nat} (hn : n ≤ 2000) {T : Nat → Bool} (x1 : Int32) (X3 : Value) : ∀ (d t : Nat) (τ : lj_S), 1 ≤ t → t + d = n + 1 → τ.1 0 77 = Int32.ofNat n → (∀ u, 1 ≤ u → u ≤ n → (τ.1 96 u ≠ 0 ↔ T u = true)) → (∀ u, 1 ≤ u → u ≤ n → τ.1 38 u = 0 ∨ τ.1 38 u = 4 ∨ τ.1 38 u = 5 ∨ τ.1 38 u = 6) → ∃ τ' : lj_S, lj_D lm_P lm_M219 133 [.ref 0, .int x1, .int (Int32.ofNat t), X3] [] τ = some (.inl (some (.int x1)), τ') ∧ (∀ u, τ'.1 38 u = if t ≤ u ∧ u ≤ n ∧ T u = false then 0 else τ.1 38 u) ∧ (∀ u, τ'.2 42 u = if t ≤ u ∧ u ≤ n ∧ T u = false ∧ τ.1 38 u ≠ 0 then 0 else τ.2 42 u) ∧ (∀ k j, k ≠ 38 → τ'.1 k j = τ.1 k j) ∧ ∀ k j, k ≠ 42 → τ'.2 k j = τ.2 k j
  | 0, t, τ, t1, hd, h77, h96, hk => by
    refine ⟨τ, ?_, fun u => by rw [if_neg (by omega)], fun u => by rw [if_neg (by omega)], fun _ _ _ => rfl, fun _ _ _ => rfl⟩
    rw [km_219_133, h77, if_pos (by rw [lz_lt, lz_lit (by omega), lz_lit (by omega)]; omega)]
  | d + 1, t, τ, t1, hd, h77, h96, hk => by
    have it : lj_in (Int32.ofNat t) 2002 := ofN_in (by omega) (by omega)
    have nt : (Int32.ofNat t).toNatClampNeg = t := lz_onat (by omega)
    have tn : t ≤ n := by omega
    have k1 := hk t t1 tn
    have n0 : ¬ (τ.1 0 77 < Int32.ofNat t) := by rw [h77, lz_lt, lz_lit (by omega), lz_lit (by omega)]; omega
    by_cases hg : τ.1 38 t ≠ 0 ∧ T t = false
    · have np : ¬ (τ.1 38 t ≤ 0) := fun w => by
        rcases k1 with y | y | y | y
        · exact hg.1 y
        · rw [y] at w; exact absurd w (by decide)
        · rw [y] at w; exact absurd w (by decide)
        · rw [y] at w; exact absurd w (by decide)
      have e96 : τ.1 96 t = 0 := Classical.byContradiction (fun w => by rw [(h96 t t1 tn).1 w] at hg; cases hg.2)
      obtain ⟨τ1, hτ1⟩ : ∃ τ1, τ1 = lj_putL (lj_put τ 38 t 0) 42 t 0 := ⟨_, rfl⟩
      have c : ∀ k j, k ≠ 38 → τ1.1 k j = τ.1 k j := fun k j w => by rw [hτ1, lj_putL_1, lj_put_1, if_neg (fun e => w e.1)]
      have e38 : ∀ u, τ1.1 38 u = if u = t then 0 else τ.1 38 u := fun u => by
        rw [hτ1, lj_putL_1, lj_put_1]
        by_cases e : u = t
        · rw [if_pos ⟨rfl, e⟩, if_pos e]
        · rw [if_neg (fun y => e y.2), if_neg e]
      have e42 : ∀ u, τ1.2 42 u = if u = t then 0 else τ.2 42 u := fun u => by
        rw [hτ1, lj_putL_2, lj_put_2]
        by_cases e : u = t
        · rw [if_pos ⟨rfl, e⟩, if_pos e]
        · rw [if_neg (fun y => e y.2), if_neg e]
      obtain ⟨τ', r1, r2, r3, r4, r5⟩ := m_off hn x1 X3 d (t + 1) τ1 (by omega) (by omega) (by rw [c 0 77 (by omega)]; exact h77) (fun u u1 u2 => by rw [c 96 u (by omega)]; exact h96 u u1 u2) (fun u u1 u2 => by
        rw [e38]
        by_cases e : u = t
        · rw [if_pos e]; exact Or.inl rfl
        · rw [if_neg e]; exact hk u u1 u2)
      refine ⟨τ', ?_, fun u => ?_, fun u => ?_, fun k j w => by rw [r4 k j w, c k j w], fun k j w => by rw [r5 k j w, hτ1, lj_putL_2, if_neg (fun e => w e.1), lj_put_2]⟩
      · rw [km_219_133, if_neg n0]
        simp only [if_pos it, nt]
        rw [if_neg np, if_pos e96, ← hτ1, km_219_173, lz_osucc]
        exact r1
      · rw [r2, e38]
        by_cases e : u = t
        · rw [if_pos e, if_neg (by omega), if_pos ⟨by omega, by omega, by rw [e]; exact hg.2⟩]
        · rw [if_neg e]
          by_cases w : t + 1 ≤ u ∧ u ≤ n ∧ T u = false
          · rw [if_pos w, if_pos ⟨by omega, w.2⟩]
          · rw [if_neg w, if_neg (fun y => w ⟨by omega, y.2⟩)]
      · rw [r3, e42]
        by_cases e : u = t
        · rw [if_pos e, if_neg (by omega), if_pos ⟨by omega, by omega, by rw [e]; exact hg.2, by rw [e]; exact hg.1⟩]
        · rw [if_neg e, e38, if_neg e]
          by_cases w : t + 1 ≤ u ∧ u ≤ n ∧ T u = false ∧ τ.1 38 u ≠ 0
          · rw [if_pos w, if_pos ⟨by omega, w.2⟩]
          · rw [if_neg w, if_neg (fun y => w ⟨by omega, y.2⟩)]
    · have no : T t = false → τ.1 38 t = 0 := fun w => Classical.byContradiction (fun y => hg ⟨y, w⟩)
      obtain ⟨τ', r1, r2, r3, r4, r5⟩ := m_off hn x1 X3 d (t + 1) τ (by omega) (by omega) h77 h96 hk
      refine ⟨τ', ?_, fun u => ?_, fun u => ?_, r4, r5⟩
      · rw [km_219_133, if_neg n0]
        simp only [if_pos it, nt]
        by_cases z : τ.1 38 t ≤ 0
        · rw [if_pos z, km_219_173, lz_osucc]
          exact r1
        · have tt : T t = true := by
            cases e : T t with
            | true => rfl
            | false => rw [no e] at z; exact absurd (by decide) z
          rw [if_neg z, if_neg ((h96 t t1 tn).2 tt), km_219_173, lz_osucc]
          exact r1
      · rw [r2]
        by_cases e : u = t
        · rw [e, if_neg (by omega)]
          by_cases w : T t = false
          · rw [if_pos ⟨Nat.le_refl _, tn, w⟩, no w]
          · rw [if_neg (fun y => w y.2.2)]
        · by_cases w : t + 1 ≤ u ∧ u ≤ n ∧ T u = false
          · rw [if_pos w, if_pos ⟨by omega, w.2⟩]
          · rw [if_neg w, if_neg (fun y => w ⟨by omega, y.2⟩)]
      · rw [r3]
        by_cases e : u = t
        · rw [e, if_neg (by omega), if_neg (fun y => y.2.2.2 (no y.2.2.1))]
        · by_cases w : t + 1 ≤ u ∧ u ≤ n ∧ T u = false ∧ τ.1 38 u ≠ 0
          · rw [if_pos w, if_pos ⟨by omega, w.2⟩]
          · rw [if_neg w, if_neg (fun y => w ⟨by omega, y.2⟩)]
