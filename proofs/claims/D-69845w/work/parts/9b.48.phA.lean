/-! the gathering: what is reached first, the component -/
/-- roots -/
def rtX (σ0 σ : lj_S) (p : Nat) (r : List Nat) (FP : Nat → List kF) (La : List Nat) (x : Nat) : Prop := x < 4 ∨ x ∈ La ∨ (∃ q ∈ p :: r, q ≠ 0 ∧ σ.1 85 q = Int32.ofNat x ∧ x ≠ 0 ∧ x ≤ 2000) ∨ ∃ q ∈ p :: r, ptC σ0 σ p FP q x
/-- which parts run, or let others go on -/
theorem gw.ch {σ0 τ0 σ τ : lj_S} {n np p : Nat} {r : List Nat} {FP : Nat → List kF} {ρ : Nat → Nat} {P B : Nat → List Nat} {Fr : List Nat} {P' B' : Nat → List Nat} {Fr' : List Nat} (h : gw σ0 τ0 n np p r FP ρ P B Fr P' B' Fr' σ τ) {q : Nat} (q1 : q ≤ np) : (q ∈ p :: r → (σ.1 83 q = 2 ∨ σ.1 83 q = 3) ∧ (τ.1 58 q = 2 ∨ τ.1 58 q = 3)) ∧ (q ∉ p :: r → ¬ (σ.1 83 q = 2 ∨ σ.1 83 q = 3) ∧ ¬ (τ.1 58 q = 2 ∨ τ.1 58 q = 3)) := by
  obtain ⟨_, _, ⟨c1, c2⟩, d1, d2, d3, d4, d5, d6, d7, d8, d9⟩ := h.2.2.2.1
  constructor
  · intro z
    rcases List.mem_cons.1 z with e | e
    · rw [e, c1, c2]; exact ⟨Or.inl rfl, Or.inl rfl⟩
    · have : ∀ (l : List Nat) (a : Nat), chn σ0 σ τ FP (a :: l) → q ∈ l → σ.1 83 q = 3 ∧ τ.1 58 q = 3 := by
        intro l
        induction l with
        | nil => intro a _ hq; cases hq
        | cons b l ih =>
          intro a hc hq
          rcases List.mem_cons.1 hq with e | e
          · rw [e]; exact hc.2.2.1
          · exact ih b hc.2.2.2 e
      have w := this r p d1 e
      exact ⟨Or.inr w.1, Or.inr w.2⟩
  · intro z
    rcases d9 q q1 z with ⟨w1, w2, _⟩ | ⟨w1, w2, _⟩ | ⟨w2, _, _, w⟩
    · rw [w1, w2]; decide
    · rw [w1, w2]; decide
    · rw [w2]
      refine ⟨?_, by decide⟩
      rcases w with w | ⟨_, _, _, _, w | w⟩ <;> rw [w] <;> decide
theorem gw.al {σ0 τ0 σ τ : lj_S} {n np p : Nat} {r : List Nat} {FP : Nat → List kF} {ρ : Nat → Nat} {P B : Nat → List Nat} {Fr : List Nat} {P' B' : Nat → List Nat} {Fr' : List Nat} (h : gw σ0 τ0 n np p r FP ρ P B Fr P' B' Fr' σ τ) {q : Nat} (q1 : q ∈ p :: r) : q ≤ np ∧ τ.1 58 q ≠ 4 := by
  have qn := h.2.2.2.1.2.2.2.2.2.1 q q1
  refine ⟨qn, ?_⟩
  rcases ((h.ch qn).1 q1).2 with w | w <;> rw [w] <;> decide
/-- what a frame holds are objects -/
theorem prt_ok {σ0 τ0 σ τ : lj_S} {ρ : Nat → Nat} {q n : Nat} (l70 : lv σ 7 0 = (n : Int)) {x : Nat} : ∀ {L : List kF} {ce me mq : Nat}, prt σ0 τ0 σ τ ρ q L ce me mq → (∀ F ∈ L, kS F = 0 → ∀ y ∈ (kY F).2.2.2.2.1, ∃ b, vR σ τ (cv σ (kB F + y)) b) → pCt σ0 σ L ce x → okO σ n x
  | [], _, _, _, _, _, z => z.elim
  | F :: L, ce, me, mq, h, hlv, z => by
    obtain ⟨ms, ks, h1, h2, _⟩ := h
    rcases z with ⟨s0, x0, z⟩ | z
    · rcases h2.2 with ⟨_, t⟩ | ⟨w, _⟩
      · obtain ⟨_, _, t3, t4, _, ⟨_, fO, _⟩⟩ := t
        have hB : kB F = kC F + kD F := rfl
        have gv : ∀ {a b : vT}, vR σ τ a b → x = ov a → okO σ n x := fun v e => by
          rw [e]
          exact v.oki l70 (by rw [← e]; exact x0)
        rcases z with e | ⟨j, j1, j2, e⟩ | ⟨y, y1, e⟩ | ⟨d, k, k1, k2, e⟩ | ⟨j, j1, j2, e⟩
        · rcases fO with w | w
          · exact absurd (e.trans w.1) x0
          · rw [e]
            have := w.1.2.2.1
            exact ⟨by omega, Or.inr ⟨by rw [← e]; exact x0, Or.inl w.1.2.2.2.1⟩⟩
        · have := (t3 (j - kC F) (by omega)).1
          rw [show kC F + (j - kC F) = j by omega] at this
          exact gv this e
        · obtain ⟨b, hb⟩ := hlv F List.mem_cons_self s0 y y1
          exact gv hb e
        · obtain ⟨b, hb⟩ := stk_hd t4 d k k1 k2
          exact gv hb e
        · rcases stk_gd t4 j j1 j2 with ⟨b, hb⟩ | w
          · exact gv hb e
          · exact absurd (e.trans w) x0
      · omega
    · exact prt_ok l70 h1 (fun G hG => hlv G (List.mem_cons_of_mem _ hG)) z
theorem pt_ok {σ0 τ0 σ τ : lj_S} {n np p : Nat} {r : List Nat} {FP : Nat → List kF} {ρ : Nat → Nat} {P B : Nat → List Nat} {Fr : List Nat} {P' B' : Nat → List Nat} {Fr' : List Nat} (h : gw σ0 τ0 n np p r FP ρ P B Fr P' B' Fr' σ τ) {q : Nat} (q1 : q ≤ np) (q2 : τ.1 58 q ≠ 4) {x : Nat} (hx : ptC σ0 σ p FP q x) : okO σ n x := by
  obtain ⟨ce, me, mq, pg⟩ := h.2.2.2.2.1 q q1 q2
  have np25 := h.2.2.2.1.1.2.2
  have l70 := h.2.1.2.2.1.1.2.1
  have tp := tpN_eq (show q < 26 by omega) pg
  rcases hx with ⟨z, x0, e⟩ | hx
  · obtain ⟨_, _, ⟨c1, c2⟩, d1, d2, d3, d4, d5, d6, d7, d8, d9⟩ := h.2.2.2.1
    by_cases w : q ∈ p :: r
    · rcases ((h.ch q1).1 w).1 with y | y <;> rw [z] at y <;> exact absurd y (by decide)
    · rcases d9 q q1 w with ⟨w1, w2, w3, w4, w5⟩ | w | w
      · rw [e]
        exact w5.oki l70 (by rw [← e]; exact x0)
      · rw [z] at w; exact absurd w.1 (by decide)
      · exact absurd w.1 q2
  · rw [tp] at hx
    exact prt_ok l70 pg.1 (fun F hF h0 y hy => ⟨_, (h.lc q2 hF h0 hy).2⟩) hx
/-- all that may be reached are objects -/
theorem gw.ok {σ0 τ0 σ τ : lj_S} {n np p : Nat} {r : List Nat} {FP : Nat → List kF} {ρ : Nat → Nat} {P B : Nat → List Nat} {Fr : List Nat} {P' B' : Nat → List Nat} {Fr' : List Nat} (h : gw σ0 τ0 n np p r FP ρ P B Fr P' B' Fr' σ τ) {root : Nat → Prop} (hr : ∀ x, root x → okO σ n x) : ∀ x, lstR root (edX σ0 σ τ p FP P) (epX σ P) x → okO σ n x := fun x hx => by
  have hX := h.2.1.2.2.1
  have l70 := hX.1.2.1
  refine hx (okO σ n) ⟨hr, fun o y ok e => ?_, fun t k v ok1 ok2 e => ?_⟩
  · rcases e with ⟨k4, e⟩ | ⟨k5, e⟩ | ⟨k6, q, q1, q2, q3, q4, e⟩
    · rcases e with ⟨y0, e⟩ | ⟨q, hq, z, e⟩
      · by_cases o0 : o = 0
        · exfalso
          rw [o0] at e
          unfold lv at e
          rw [h.2.1.2.2.2.1] at e
          have : (-1 : Int32).toInt = -1 := by decide
          omega
        · rcases (h.2.1.2.2.2.2 o (by omega) ok.1).2.1 k4 with ⟨m1, _⟩ | ⟨m, ma, m1, _⟩
          · exfalso
            unfold lv at e
            rw [m1] at e
            have : (-1 : Int32).toInt = -1 := by decide
            omega
          · have m2 := ma.2.1
            have em : m = y := by
              unfold lv at e
              rw [m1, lz_lit (by omega)] at e
              omega
            rw [← em]
            have := ma.2.2.1
            exact ⟨by omega, Or.inl ma.2.2.2.1⟩
      · obtain ⟨q', _, w⟩ := eR_l (hX.2.2.2.2 o ok.1) hq
        rcases e.2 with ⟨_, e2⟩ | ⟨_, e2⟩
        · have := w.1.oki l70 (by show ov (kyC σ q) ≠ 0; rw [← e2]; exact e.1)
          rw [e2]; exact this
        · rcases w.2.2 with ⟨y1, _⟩ | ⟨_, y1⟩
          · have y' : σ.1 68 q = 0 := congrArg Prod.fst y1
            exact absurd y' z
          · have := y1.oki l70 (by show ov (vlC σ q) ≠ 0; rw [← e2]; exact e.1)
            rw [e2]; exact this
    · obtain ⟨y0, k, c, cp, e⟩ := e
      obtain ⟨f, cap, rr, f1, f2, f3, ⟨f4, _⟩, ⟨f5, _, f5'⟩, f6, f7⟩ := h.fn cp.1
      obtain ⟨_, f', r', g1, g2, g3, g4, g5, g6, g7⟩ := cp
      have ef : f' = f := (ofN_eq (by omega) (by omega)).1 (by rw [← g2, ← f4])
      have er : r' = rr := (ofN_eq (by omega) (by omega)).1 (by rw [← g5, ← f6])
      rw [ef] at g3
      rw [er] at g6
      obtain ⟨c', x1, x2, _, _, x5, _⟩ := f7 k (by omega)
      have ec : c' = c := (ofN_eq (by omega) (by omega)).1 (by rw [← x2, ← g6])
      rw [ec] at x5
      rw [e]
      exact x5.oki l70 (by rw [← e]; exact y0)
    · have ob : obA σ τ o 6 := ⟨by
          rcases Nat.eq_zero_or_pos o with z | z
          · exfalso
            have := h.2.2.2.2.2.2.1.2
            rw [z, this] at k6
            exact absurd k6 (by decide)
          · exact z, by have := ok.1; have := hX.1.1; omega, by have := ok.1; omega, k6, by
          have o1 : 1 ≤ o := by
            rcases Nat.eq_zero_or_pos o with z | z
            · exfalso
              have := h.2.2.2.2.2.2.1.2
              rw [z, this] at k6
              exact absurd k6 (by decide)
            · exact z
          rw [← (h.2.1.2.2.2.2 o o1 ok.1).1.1]; exact k6⟩
      obtain ⟨q', p1, p2, p3, _⟩ := h.2.2.2.1.2.2.2.2.2.2.2.2.2.2.1.2 o ob
      have np25 := h.2.2.2.1.1.2.2
      have eq : q' = q := (ofN_eq (by omega) (by omega)).1 (by rw [← p3, ← q3])
      rw [eq] at p2
      exact pt_ok h p2 q4 e
  · obtain ⟨_, _, _, v0, q, hq, z, _, e2⟩ := e
    obtain ⟨q', _, w⟩ := eR_l (hX.2.2.2.2 t ok1.1) hq
    rcases w.2.2 with ⟨y1, _⟩ | ⟨_, y1⟩
    · have y' : σ.1 68 q = 0 := congrArg Prod.fst y1
      exact absurd y' z
    · have := y1.oki l70 (by show ov (vlC σ q) ≠ 0; rw [← e2]; exact v0)
      rw [e2]; exact this
/-- flags are set anew -/
theorem c_ini {n : Nat} (hn : n ≤ 2000) (x1 x2 : Int32) : ∀ (d o : Nat) (σ : lj_S), o + d = n + 1 → σ.1 7 0 = Int32.ofNat n → ∃ σ', lj_D lc_P lc_M175 32 [.ref 8, .int x1, .int x2, .int (Int32.ofNat o), .retAddr 0, .retAddr 0] [] σ = lj_D lc_P lc_M175 80 [.ref 8, .int x1, .int x2, .int 0, .retAddr 0, .retAddr 0] [] (lj_put (lj_put σ' 8 58 0) 8 60 0) ∧ (∀ k j, ¬ (k = 111 ∧ o ≤ j ∧ j ≤ n) → σ'.1 k j = σ.1 k j) ∧ σ'.2 = σ.2 ∧ ∀ j, o ≤ j → j ≤ n → σ'.1 111 j = if j < 4 then 1 else 0
  | 0, o, σ, ho, h70 => ⟨σ, by rw [kc_175_32, h70, if_pos (by rw [lz_lt, lz_lit (by omega), lz_lit (by omega)]; omega)], fun _ _ _ => rfl, rfl, fun j _ _ => by omega⟩
  | d + 1, o, σ, ho, h70 => by
    have io : lj_in (Int32.ofNat o) 2001 := ofN_in (by omega) (by omega)
    have no : (Int32.ofNat o).toNatClampNeg = o := lz_onat (by omega)
    obtain ⟨σ', r1, r2, r3, r4⟩ := c_ini hn x1 x2 d (o + 1) (lj_put σ 111 o (if o < 4 then 1 else 0)) (by omega) (by rw [lj_put_1, if_neg (by omega)]; exact h70)
    refine ⟨σ', ?_, fun k j z => ?_, r3, fun j j1 j2 => ?_⟩
    · rw [kc_175_32, h70, if_neg (by rw [lz_lt, lz_lit (by omega), lz_lit (by omega)]; omega)]
      have b0 : vp_nar .boolean 0 = 0 := rfl
      have b1 : vp_nar .boolean 1 = 1 := rfl
      by_cases z : o < 4
      · rw [if_neg (by rw [show (4 : Int32) = Int32.ofNat 4 from rfl]; intro w; have := (ofN_le (by omega) (by omega)).1 w; omega), kc_175_61]
        (try simp only [if_pos io, no])
        rw [lz_osucc, b1]
        rw [if_pos z] at r1
        exact r1
      · rw [if_pos (by rw [show (4 : Int32) = Int32.ofNat 4 from rfl]; exact (ofN_le (by omega) (by omega)).2 (by omega)), kc_175_61]
        (try simp only [if_pos io, no])
        rw [lz_osucc, b0]
        rw [if_neg z] at r1
        exact r1
    · rw [r2 k j (by omega), lj_put_1, if_neg (by omega)]
    · by_cases z : j = o
      · rw [r2 111 j (by omega), lj_put_1, if_pos ⟨rfl, z⟩, z]
      · exact r4 j (by omega) j2
/-- waiting last acts are reached -/
theorem c_lact {n : Nat} (hn : n ≤ 2000) {W : Nat → Prop} {N : Nat} (hN : N ≤ 2001) (x1 x2 : Int32) : ∀ (d a : Nat) (σ : lj_S) (Q : List Nat), a + d = N → σ.1 8 33 = Int32.ofNat N → (∀ i, a ≤ i → i < N → ∃ o : Nat, σ.1 104 i = Int32.ofNat o ∧ 1 ≤ o ∧ o ≤ n ∧ W o) → wqC n σ Q → ∃ σ' Q', lj_D lc_P lc_M175 110 [.ref 8, .int x1, .int x2, .int (Int32.ofNat a), .retAddr 0, .retAddr 0] [] σ = lj_D lc_P lc_M175 138 [.ref 8, .int x1, .int x2, .int 0, .retAddr 0, .retAddr 0] [] σ' ∧ visC n W (fun x => x ≠ 0 ∧ x ≤ n ∧ ∃ i, a ≤ i ∧ i < N ∧ σ.1 104 i = Int32.ofNat x) σ Q σ' Q'
  | 0, a, σ, Q, hd, h33, hv, hm => by
    refine ⟨σ, Q, ?_, (vis.rf hm).mo (fun x ⟨_, _, i, j1, j2, _⟩ => by omega)⟩
    rw [kc_175_110, h33, if_pos ((ofN_le (by omega) (by omega)).2 (by omega))]
  | d + 1, a, σ, Q, hd, h33, hv, hm => by
    have ia : lj_in (Int32.ofNat a) 2001 := ofN_in (by omega) (by omega)
    have na : (Int32.ofNat a).toNatClampNeg = a := lz_onat (by omega)
    obtain ⟨o, o1, o2, o3, o4⟩ := hv a (Nat.le_refl _) (by omega)
    have om : ov (4, i64 o) = o := ov_ob (Or.inl rfl) (by omega)
    obtain ⟨σ1, Q1, r1, r2⟩ := c_reach hn hm (a := (4, i64 o)) (fun _ => by rw [om]) (by rw [om]; exact o3) (W := W) (by rw [om]; exact fun _ => o4)
    have r1 : lj_R lc_P 176 [.ref 8, .int 4, .long (Int32.ofNat o).toInt64] σ = some (.inl none, σ1) := r1
    have c : ∀ k j, k ≠ 111 → k ≠ 112 → (k ≠ 8 ∨ j ≠ 58) → σ1.1 k j = σ.1 k j := fun k j z1 z2 z3 => (visC.o r2 ⟨z1, z2, z3⟩).1
    obtain ⟨σ2, Q2, s1, s2⟩ := c_lact hn hN x1 x2 d (a + 1) σ1 Q1 (by omega) (by rw [c 8 33 (by omega) (by omega) (by omega)]; exact h33) (fun i i1 i2 => by rw [c 104 i (by omega) (by omega) (by omega)]; exact hv i (by omega) i2) r2.1
    refine ⟨σ2, Q2, ?_, (r2.tr s2).mo (fun x ⟨x0, xn, i, i1, i2, i3⟩ => ?_)⟩
    · rw [kc_175_110, h33, if_neg (fun z => by have := (ofN_le (by omega) (by omega)).1 z; omega)]
      (try simp only [if_pos ia, na])
      rw [o1, r1, bv_ok, lz_osucc]
      exact s1
    · by_cases z : i = a
      · left
        rw [z, o1] at i3
        have : o = x := (ofN_eq (by omega) (by omega)).1 i3
        exact ⟨by rw [om, this], x0⟩
      · right
        exact ⟨x0, xn, i, by omega, i2, by rw [c 104 i (by omega) (by omega) (by omega)]; exact i3⟩
/-- parts that run or let others go on are reached -/
theorem c_prts {σ0 τ0 τ : lj_S} {n np p : Nat} {r : List Nat} {FP : Nat → List kF} {ρ : Nat → Nat} {P B : Nat → List Nat} {Fr : List Nat} {P' B' : Nat → List Nat} {Fr' : List Nat} {Fn : Nat} (fx : FR σ0 τ0 Fn) (h38 : sh38 σ0) {W : Nat → Prop} (x1 x2 : Int32) : ∀ (d q : Nat) (σ : lj_S) (Q : List Nat), q + d = np + 1 → gw σ0 τ0 n np p r FP ρ P B Fr P' B' Fr' σ τ → (∀ u ∈ p :: r, (u ≠ 0 → ∃ o : Nat, σ.1 85 u = Int32.ofNat o ∧ 1 ≤ o ∧ o ≤ n ∧ W o) ∧ ∀ x, ptC σ0 σ p FP u x → W x) → wqC n σ Q → ∃ σ' Q', lj_D lc_P lc_M175 138 [.ref 8, .int x1, .int x2, .int (Int32.ofNat q), .retAddr 0, .retAddr 0] [] σ = lj_bv (lj_R lc_P 181 [.ref 8] σ') (fun σ1 => lj_bv (lj_R lc_P 186 [.ref 8, .int 0] σ1) (fun σ2 => lj_D lc_P lc_M175 214 [.ref 8, .int x1, .int x2, .int 0, .int 0, .retAddr 0] [] σ2) lj_up) lj_up ∧ visC n W (fun x => ∃ u ∈ p :: r, q ≤ u ∧ ((u ≠ 0 ∧ σ.1 85 u = Int32.ofNat x ∧ x ≠ 0 ∧ x ≤ 2000) ∨ ptC σ0 σ p FP u x)) σ Q σ' Q'
  | 0, q, σ, Q, hd, h, hW, hm => by
    have np25 := h.2.2.2.1.1.2.2
    refine ⟨σ, Q, ?_, (vis.rf hm).mo (fun x ⟨u, hu, u1, _⟩ => by have := (h.al hu).1; omega)⟩
    rw [kc_175_138, h.2.2.2.1.1.1, if_pos (by rw [lz_lt, lz_lit (by omega), lz_lit (by omega)]; omega)]
  | d + 1, q, σ, Q, hd, h, hW, hm => by
    have np25 := h.2.2.2.1.1.2.2
    have hn := h.2.1.2.2.1.1.1
    have iq : lj_in (Int32.ofNat q) 26 := ofN_in (by omega) (by omega)
    have nq : (Int32.ofNat q).toNatClampNeg = q := lz_onat (by omega)
    -- the rest
    have rest : ∀ (σ1 : lj_S) (Q1 : List Nat) (M : Nat → Prop), visC n W M σ Q σ1 Q1 → (q ∈ p :: r → ∀ x, ((q ≠ 0 ∧ σ.1 85 q = Int32.ofNat x ∧ x ≠ 0 ∧ x ≤ 2000) ∨ ptC σ0 σ p FP q x) → M x) → ∃ σ' Q', lj_D lc_P lc_M175 194 [.ref 8, .int x1, .int x2, .int (Int32.ofNat q), .retAddr 0, .retAddr 0] [] σ1 = lj_bv (lj_R lc_P 181 [.ref 8] σ') (fun σ1 => lj_bv (lj_R lc_P 186 [.ref 8, .int 0] σ1) (fun σ2 => lj_D lc_P lc_M175 214 [.ref 8, .int x1, .int x2, .int 0, .int 0, .retAddr 0] [] σ2) lj_up) lj_up ∧ visC n W (fun x => ∃ u ∈ p :: r, q ≤ u ∧ ((u ≠ 0 ∧ σ.1 85 u = Int32.ofNat x ∧ x ≠ 0 ∧ x ≤ 2000) ∨ ptC σ0 σ p FP u x)) σ Q σ' Q' := fun σ1 Q1 M hv hM => by
      have f1 : lf gKC σ σ1 := hv.2.1.mo (fun _ _ q => gRC_K q)
      have e85 : ∀ u, σ1.1 85 u = σ.1 85 u := fun u => (gK_o f1 (by omega)).1
      have ept : ∀ u x, ptC σ0 σ1 p FP u x ↔ ptC σ0 σ p FP u x := fun u x => by
        have ec : ∀ j, cv σ1 j = cv σ j := fun j => by unfold cv; rw [(gK_o f1 (k := 79) (j := j) (by omega)).1, (gK_o f1 (k := 80) (j := j) (by omega)).2]
        have tp : tpN σ1 p u = tpN σ p u := by unfold tpN lv; rw [(gK_o f1 (k := 8) (j := 8) (by omega)).1, (gK_o f1 (k := 82) (j := u) (by omega)).1]
        unfold ptC
        rw [pCt_cg ec, tp, (gK_o f1 (k := 83) (j := u) (by omega)).1, (gK_o f1 (k := 88) (j := u) (by omega)).1, (gK_o f1 (k := 89) (j := u) (by omega)).2]
      obtain ⟨σ2, Q2, s1, s2⟩ := c_prts (ρ := ρ) (B := B) (Fr := Fr) (P' := P') (B' := B') (Fr' := Fr') (P := P) fx h38 x1 x2 d (q + 1) σ1 Q1 (by omega) (h.cg f1 (lf_rf _ τ)) (fun u hu => ⟨fun z => by rw [e85]; exact (hW u hu).1 z, fun x hx => (hW u hu).2 x ((ept u x).1 hx)⟩) hv.1
      refine ⟨σ2, Q2, by rw [kc_175_194, lz_osucc]; exact s1, (hv.tr s2).mo (fun x ⟨u, hu, u1, u2⟩ => ?_)⟩
      by_cases z : u = q
      · rw [z] at hu u2
        exact Or.inl (hM hu x u2)
      · refine Or.inr ⟨u, hu, by omega, ?_⟩
        rw [e85, ept]
        exact u2
    rw [kc_175_138, h.2.2.2.1.1.1, if_neg (by rw [lz_lt, lz_lit (by omega), lz_lit (by omega)]; omega)]
    (try simp only [if_pos iq, nq])
    by_cases z : q ∈ p :: r
    · have w := ((h.ch (by omega)).1 z).1
      have go : lj_D lc_P lc_M175 172 [.ref 8, .int x1, .int x2, .int (Int32.ofNat q), .retAddr 0, .retAddr 0] [] σ = (if σ.1 83 q = 2 then lj_D lc_P lc_M175 172 [.ref 8, .int x1, .int x2, .int (Int32.ofNat q), .retAddr 0, .retAddr 0] [] σ else if σ.1 83 q = 3 then lj_D lc_P lc_M175 172 [.ref 8, .int x1, .int x2, .int (Int32.ofNat q), .retAddr 0, .retAddr 0] [] σ else lj_D lc_P lc_M175 194 [.ref 8, .int x1, .int x2, .int (Int32.ofNat q), .retAddr 0, .retAddr 0] [] σ) := by
        rcases w with w | w
        · rw [if_pos w]
        · by_cases y : σ.1 83 q = 2
          · rw [if_pos y]
          · rw [if_neg y, if_pos w]
      rw [← go, kc_175_172]
      obtain ⟨a1, a2⟩ := h.al z
      -- behind the part's object
      have mid : ∀ (σ1 : lj_S) (Q1 : List Nat) (M : Nat → Prop), visC n W M σ Q σ1 Q1 → (∀ x, (q ≠ 0 ∧ σ.1 85 q = Int32.ofNat x ∧ x ≠ 0 ∧ x ≤ 2000) → M x) → ∃ σ' Q', lj_D lc_P lc_M175 189 [.ref 8, .int x1, .int x2, .int (Int32.ofNat q), .retAddr 0, .retAddr 0] [] σ1 = lj_bv (lj_R lc_P 181 [.ref 8] σ') (fun σ1 => lj_bv (lj_R lc_P 186 [.ref 8, .int 0] σ1) (fun σ2 => lj_D lc_P lc_M175 214 [.ref 8, .int x1, .int x2, .int 0, .int 0, .retAddr 0] [] σ2) lj_up) lj_up ∧ visC n W (fun x => ∃ u ∈ p :: r, q ≤ u ∧ ((u ≠ 0 ∧ σ.1 85 u = Int32.ofNat x ∧ x ≠ 0 ∧ x ≤ 2000) ∨ ptC σ0 σ p FP u x)) σ Q σ' Q' := fun σ1 Q1 M hv hM => by
        have f1 : lf gKC σ σ1 := hv.2.1.mo (fun _ _ q => gRC_K q)
        have ept : ∀ x, ptC σ0 σ1 p FP q x ↔ ptC σ0 σ p FP q x := fun x => by
          have ec : ∀ j, cv σ1 j = cv σ j := fun j => by unfold cv; rw [(gK_o f1 (k := 79) (j := j) (by omega)).1, (gK_o f1 (k := 80) (j := j) (by omega)).2]
          have tp : tpN σ1 p q = tpN σ p q := by unfold tpN lv; rw [(gK_o f1 (k := 8) (j := 8) (by omega)).1, (gK_o f1 (k := 82) (j := q) (by omega)).1]
          unfold ptC
          rw [pCt_cg ec, tp, (gK_o f1 (k := 83) (j := q) (by omega)).1, (gK_o f1 (k := 88) (j := q) (by omega)).1, (gK_o f1 (k := 89) (j := q) (by omega)).2]
        obtain ⟨σ2, Q2, s1, s2⟩ := c_rpart (h.cg f1 (lf_rf _ τ)) fx h38 a1 a2 (W := W) (fun x hx => (hW q z).2 x ((ept x).1 hx)) hv.1
        rw [kc_175_189, s1, bv_ok]
        refine rest σ2 Q2 _ (hv.tr s2) (fun _ x hx => ?_)
        rcases hx with hx | hx
        · exact Or.inl (hM x hx)
        · exact Or.inr ((ept x).2 hx)
      by_cases q0 : q = 0
      · rw [if_pos (by rw [q0]; decide)]
        exact mid σ Q _ (vis.rf hm) (fun x y => absurd q0 y.1)
      · obtain ⟨o, o1, o2, o3, o4⟩ := (hW q z).1 q0
        have om : ov (6, i64 o) = o := ov_ob (Or.inr (Or.inr rfl)) (by omega)
        obtain ⟨σ1, Q1, r1, r2⟩ := c_reach hn hm (a := (6, i64 o)) (fun _ => by rw [om]) (by rw [om]; exact o3) (W := W) (by rw [om]; exact fun _ => o4)
        have r1 : lj_R lc_P 176 [.ref 8, .int 6, .long (Int32.ofNat o).toInt64] σ = some (.inl none, σ1) := r1
        rw [if_neg (by rw [lz_le, lz_lit (by omega)]; show ¬ ((q : Int) ≤ 0); omega)]
        (try simp only [if_pos iq, nq])
        rw [o1, r1, bv_ok]
        refine mid σ1 Q1 _ r2 (fun x ⟨_, y1, y2, y3⟩ => ?_)
        rw [o1] at y1
        have : o = x := (ofN_eq (by omega) (by omega)).1 y1
        exact ⟨by rw [om, this], y2⟩
    · have w := ((h.ch (q := q) (by omega)).2 z).1
      rw [if_neg (fun y => w (Or.inl y)), if_neg (fun y => w (Or.inr y))]
      exact rest σ Q _ (vis.rf hm) (fun y => absurd y z)
