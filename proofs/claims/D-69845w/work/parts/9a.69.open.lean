/-! the model opens a frame: all -/
def opL (len : Nat → Nat) (p l q : Nat) : Nat := if q = p then l + 1 else len q
/-- the first writes -/
theorem m_op0 {τ : lj_S} {p l fn : Nat} (h : τ.1 0 111 = Int32.ofNat p) (hp : p < 26) (h62 : τ.1 62 p = Int32.ofNat l) (h65 : τ.1 65 p = Int32.ofNat l) (hl : l < 20) (hfn : fn < 51) (x2 : Int32) : ∃ τ1, lj_R lm_P 113 [.ref 0, .int (Int32.ofNat fn), .int x2] τ = lj_D lm_P lm_M113 137 [.ref 0, .int (Int32.ofNat fn), .int x2, .int (Int32.ofNat (48 * p + l)), .int 0] [] τ1 ∧ (τ1.1 62 p = Int32.ofNat (l + 1) ∧ τ1.1 65 p = Int32.ofNat (l + 1)) ∧ (τ1.1 74 (48 * p + l) = 0 ∧ τ1.1 75 (48 * p + l) = Int32.ofNat fn ∧ τ1.1 76 (48 * p + l) = x2 ∧ τ1.1 77 (48 * p + l) = τ.1 12 fn ∧ τ1.1 78 (48 * p + l) = τ.1 0 130 ∧ τ1.1 79 (48 * p + l) = τ.1 0 131 ∧ τ1.1 80 (48 * p + l) = τ.1 63 p ∧ τ1.1 81 (48 * p + l) = τ.1 64 p ∧ τ1.1 82 (48 * p + l) = 0) ∧ (∀ k j, ¬ ((k = 62 ∨ k = 65) ∧ j = p) → ¬ (74 ≤ k ∧ k ≤ 82 ∧ j = 48 * p + l) → τ1.1 k j = τ.1 k j) ∧ τ1.2 = τ.2 := by
  have i : lj_in (τ.1 0 111) 26 := by rw [h]; exact ofN_in (by omega) (by omega)
  have e : (τ.1 0 111).toNatClampNeg = p := by rw [h]; exact lz_onat (by omega)
  have ej : 48 * (τ.1 0 111) + τ.1 62 (τ.1 0 111).toNatClampNeg = Int32.ofNat (48 * p + l) := by rw [e, h62, h, show (48 : Int32) = Int32.ofNat 48 from rfl, ← Int32.ofNat_mul, ← Int32.ofNat_add]
  have j : lj_in (48 * (τ.1 0 111) + τ.1 62 (τ.1 0 111).toNatClampNeg) 1248 := by rw [ej]; exact ofN_in (by omega) (by omega)
  have q : lj_in (Int32.ofNat fn) 51 := ofN_in (by omega) (by omega)
  have n1 : (Int32.ofNat (48 * p + l)).toNatClampNeg = 48 * p + l := lz_onat (by omega)
  have n2 : (Int32.ofNat fn).toNatClampNeg = fn := lz_onat (by omega)
  have e0 : lj_R lm_P 113 [.ref 0, .int (Int32.ofNat fn), .int x2] τ = lj_D lm_P lm_M113 0 [.ref 0, .int (Int32.ofNat fn), .int x2, .retAddr 0, .retAddr 0] [] τ := by rw [rm_113]
  rw [km_113_0, if_pos i, if_pos i, if_pos i, if_pos i, if_pos i, if_pos j, if_pos j, if_pos j, if_pos q, if_pos j, if_pos j, if_pos j, if_pos i, if_pos j, if_pos i, if_pos j, if_pos j, ej, e, n1, n2, h62, h65, lz_osucc] at e0
  refine ⟨_, e0, ⟨?_, ?_⟩, ⟨?_, ?_, ?_, ?_, ?_, ?_, ?_, ?_, ?_⟩, fun k j z1 z2 => ?_, rfl⟩
  · simp [lj_put_1]
  · simp [lj_put_1]
  · simp [lj_put_1]
  · simp [lj_put_1]
  · simp [lj_put_1]
  · simp [lj_put_1]
  · simp [lj_put_1]
  · simp [lj_put_1]
  · simp [lj_put_1]
  · simp [lj_put_1]
  · simp [lj_put_1]
  · rw [lj_put_1, if_neg (by omega), lj_put_1, if_neg (by omega), lj_put_1, if_neg (by omega), lj_put_1, if_neg (by omega), lj_put_1, if_neg (by omega), lj_put_1, if_neg (by omega), lj_put_1, if_neg (by omega), lj_put_1, if_neg (by omega), lj_put_1, if_neg (by omega), lj_put_1, if_neg (by omega), lj_put_1, if_neg (by omega)]
/-- all that comes of it -/
def opR (τ τ' : lj_S) (p l fn pn me mq : Nat) (x2 : Int32) (G D : List vT) (Cs : List Nat) : Prop :=
  (τ'.1 62 p = Int32.ofNat (l + 1) ∧ τ'.1 65 p = Int32.ofNat (l + 1) ∧ τ'.1 63 p = Int32.ofNat (me + D.length) ∧ τ'.1 64 p = Int32.ofNat mq) ∧
  (τ'.1 74 (48 * p + l) = 0 ∧ τ'.1 75 (48 * p + l) = Int32.ofNat fn ∧ τ'.1 76 (48 * p + l) = x2 ∧ τ'.1 77 (48 * p + l) = τ.1 12 fn ∧ τ'.1 78 (48 * p + l) = τ.1 0 130 ∧ τ'.1 79 (48 * p + l) = τ.1 0 131 ∧ τ'.1 80 (48 * p + l) = Int32.ofNat me ∧ τ'.1 81 (48 * p + l) = Int32.ofNat mq ∧ τ'.1 82 (48 * p + l) = Int32.ofNat D.length) ∧
  (∀ j, j < pn → τ'.1 87 (50 * (48 * p + l) + j) = Int32.ofNat (Cs.getD j 0) ∧ (τ'.1 54 (Cs.getD j 0), τ'.2 55 (Cs.getD j 0)) = gvN G j) ∧ (∀ j, pn ≤ j → j < 50 → τ'.1 87 (50 * (48 * p + l) + j) = -1) ∧
  (∀ i, i < D.length → mv τ' (10000 * p + (me + i)) = D.getD i (0, 0)) ∧ (∀ c, c ∉ Cs → τ'.1 54 c = τ.1 54 c ∧ τ'.2 55 c = τ.2 55 c) ∧
  ∀ k j, ¬ ((62 ≤ k ∧ k ≤ 65) ∧ j = p) → ¬ (74 ≤ k ∧ k ≤ 82 ∧ j = 48 * p + l) → ¬ (54 ≤ k ∧ k ≤ 57) → ¬ (k = 0 ∧ j = 96) → ¬ (k = 87 ∧ 50 * (48 * p + l) ≤ j ∧ j < 50 * (48 * p + l) + 50) → ¬ ((k = 71 ∨ k = 72) ∧ 10000 * p + me ≤ j ∧ j < 10000 * p + me + D.length) → τ'.1 k j = τ.1 k j ∧ τ'.2 k j = τ.2 k j
theorem m_open {τ : lj_S} {p l fn pn me mq np n : Nat} {len : Nat → Nat} {G : List vT} {x2 : Int32} (h : rfA τ np n len) (a : mAt τ p me mq) (hpn : p ≤ np) (hlp : len p = l) (h65 : τ.1 65 p = Int32.ofNat l) (hl : l < 20) (hfn : fn < 51) (h13 : τ.1 13 fn = Int32.ofNat pn) (hp50 : pn ≤ 50) (hg : gvM τ G) (hG : G.length ≤ 128) (hm : me + G.length < 10000) {Fc : List Nat} (f1 : fcM τ Fc) (f2 : lv τ 0 96 = (Fc.length : Int)) (f3 : Fc.Nodup) {U : Nat → Prop} (f4 : ∀ c ∈ Fc, c < 95000 ∧ ¬ U c) (hU : ∀ c, U c → rfM τ np n len c) : ∃ (τ' : lj_S) (Cs Fc' : List Nat), lj_R lm_P 113 [.ref 0, .int (Int32.ofNat fn), .int x2] τ = some (.inl none, τ') ∧ Cs.length = pn ∧ (Cs ++ Fc').Nodup ∧ (∀ c ∈ Cs ++ Fc', c < 95000 ∧ ¬ U c) ∧ fcM τ' Fc' ∧ lv τ' 0 96 = (Fc'.length : Int) ∧ opR τ τ' p l fn pn me mq x2 G (if τ.1 16 fn = 0 then [] else G.drop pn) Cs := by
  have h' := h
  obtain ⟨r1, r2, r3, r4, r5, r6, r7⟩ := h
  have p26 := a.2.1
  have h62 : τ.1 62 p = Int32.ofNat l := by rw [(r5 p hpn).1, hlp]
  obtain ⟨τ1, a1, ⟨a2, a3⟩, ⟨b1, b2, b3, b4, b5, b6, b7, b8, b9⟩, c1, c2⟩ := m_op0 a.1 p26 h62 h65 hl hfn x2
  obtain ⟨τ2, d1, d2, d3⟩ := m_op1 (i := 48 * p + l) (by omega) (Int32.ofNat fn) x2 50 0 τ1 rfl
  have d1 : lj_D lm_P lm_M113 137 [.ref 0, .int (Int32.ofNat fn), .int x2, .int (Int32.ofNat (48 * p + l)), .int 0] [] τ1 = _ := d1
  have o2 : ∀ k j, ¬ ((k = 62 ∨ k = 65) ∧ j = p) → ¬ (74 ≤ k ∧ k ≤ 82 ∧ j = 48 * p + l) → ¬ (k = 87 ∧ 50 * (48 * p + l) ≤ j ∧ j < 50 * (48 * p + l) + 50) → τ2.1 k j = τ.1 k j ∧ τ2.2 k j = τ.2 k j := fun k j z1 z2 z3 => ⟨by rw [d2, if_neg (by omega)]; exact c1 k j z1 z2, by rw [d3, c2]⟩
  have o1 : ∀ k j, k ≠ 87 → τ2.1 k j = τ1.1 k j := fun k j z => by rw [d2, if_neg (by omega)]
  have n87 : ∀ y, y < 50 → τ2.1 87 (50 * (48 * p + l) + y) = -1 := fun y hy => by rw [d2, if_pos ⟨rfl, by omega, by omega⟩]
  have A2 : rfA τ2 np n (opL len p l) := by
    refine ⟨r1, r2, by rw [(o2 0 110 (by omega) (by omega) (by omega)).1]; exact r3, by rw [(o2 0 77 (by omega) (by omega) (by omega)).1]; exact r4, fun q hq => ?_, fun q hq i hi t y hy => ?_, fun o' x1 x2 x3 => ?_⟩
    · unfold opL
      by_cases z : q = p
      · rw [if_pos z, z, o1 62 p (by omega)]; exact ⟨a2, by omega⟩
      · rw [if_neg z, (o2 62 q (by omega) (by omega) (by omega)).1]; exact r5 q hq
    · unfold opL at hi
      by_cases z : q = p ∧ i = l
      · rw [z.1, z.2, n87 y hy]; exact Or.inl rfl
      · by_cases z1 : q = p
        · rw [if_pos z1] at hi
          rw [(o2 74 _ (by omega) (by omega) (by omega)).1] at t
          rw [(o2 87 _ (by omega) (by omega) (by omega)).1]
          exact r6 q hq i (by rw [z1, hlp]; omega) t y hy
        · rw [if_neg z1] at hi
          have := (r5 q hq).2
          rw [(o2 74 _ (by omega) (by omega) (by omega)).1] at t
          rw [(o2 87 _ (by omega) (by omega) (by omega)).1]
          exact r6 q hq i hi t y hy
    · rw [(o2 38 o' (by omega) (by omega) (by omega)).1] at x3
      obtain ⟨f, cn, g1, g2, g3, g4, g5⟩ := r7 o' x1 x2 x3
      exact ⟨f, cn, g1, by rw [(o2 43 o' (by omega) (by omega) (by omega)).1]; exact g2, g3, by rw [(o2 15 f (by omega) (by omega) (by omega)).1]; exact g4, fun k hk => by rw [(o2 44 _ (by omega) (by omega) (by omega)).1]; exact g5 k hk⟩
  have U2 : ∀ c, U c → rfM τ2 np n (opL len p l) c := fun c w => by
    obtain ⟨w1, w2⟩ := hU c w
    refine ⟨w1, ?_⟩
    rcases w2 with ⟨q', q1, i', i1, i2, y', y1, y2⟩ | ⟨o', x1, x2, x3, f, cn, g1, g2, g3, g4, k, k1, k2⟩
    · have i20 := (r5 q' q1).2
      have ne : 48 * q' + i' ≠ 48 * p + l := fun z => by
        have : q' = p := by omega
        rw [this, hlp] at i1
        omega
      refine Or.inl ⟨q', q1, i', ?_, by rw [(o2 74 _ (by omega) (by omega) (by omega)).1]; exact i2, y', y1, by rw [(o2 87 _ (by omega) (by omega) (by omega)).1]; exact y2⟩
      unfold opL
      by_cases z : q' = p
      · rw [if_pos z]; rw [z, hlp] at i1; omega
      · rw [if_neg z]; exact i1
    · exact Or.inr ⟨o', x1, x2, by rw [(o2 38 _ (by omega) (by omega) (by omega)).1]; exact x3, f, cn, g1, by rw [(o2 43 _ (by omega) (by omega) (by omega)).1]; exact g2, g3, by rw [(o2 15 _ (by omega) (by omega) (by omega)).1]; exact g4, k, k1, by rw [(o2 44 _ (by omega) (by omega) (by omega)).1]; exact k2⟩
  have g2 : gvM τ2 G := ⟨by unfold lv; rw [(o2 0 137 (by omega) (by omega) (by omega)).1]; exact hg.1, fun j hj => by rw [(o2 88 j (by omega) (by omega) (by omega)).1, (o2 89 j (by omega) (by omega) (by omega)).2]; exact hg.2 j hj⟩
  have lp : l < opL len p l p := by unfold opL; rw [if_pos rfl]; omega
  obtain ⟨τ3, Cs, Fc', e1, e2, e3, e4, e5, e6, e7, e8, e9⟩ := m_op2 (n := n) (G := G) hpn lp (by omega) hfn hp50 hG x2 pn 0 τ2 Fc U (Nat.zero_add _) A2 (by rw [o1 74 _ (by omega)]; exact b1) (fun y _ y2 => n87 y y2) g2 (by rw [(o2 13 fn (by omega) (by omega) (by omega)).1]; exact h13) (fcM_cg (fun j => (o2 57 j (by omega) (by omega) (by omega)).1) f1) (by unfold lv; rw [(o2 0 96 (by omega) (by omega) (by omega)).1]; exact f2) f3 f4 U2
  have e1 : lj_D lm_P lm_M113 166 [.ref 0, .int (Int32.ofNat fn), .int x2, .int (Int32.ofNat (48 * p + l)), .int 0] [] τ2 = _ := e1
  have o3 : ∀ k j, ¬ (54 ≤ k ∧ k ≤ 57) → ¬ (k = 0 ∧ j = 96) → k ≠ 87 → τ3.1 k j = τ2.1 k j ∧ τ3.2 k j = τ2.2 k j := fun k j z1 z2 z3 => e9 k j z1 z2 (fun z => z3 z.1)
  have at3 : mAt τ3 p me mq := by
    obtain ⟨x1, x2, x3, x4, x5, x6⟩ := a
    exact ⟨by rw [(o3 0 111 (by omega) (by omega) (by omega)).1, (o2 0 111 (by omega) (by omega) (by omega)).1]; exact x1, x2, by rw [(o3 63 p (by omega) (by omega) (by omega)).1, (o2 63 p (by omega) (by omega) (by omega)).1]; exact x3, x4, by rw [(o3 64 p (by omega) (by omega) (by omega)).1, (o2 64 p (by omega) (by omega) (by omega)).1]; exact x5, x6⟩
  have g3 : gvM τ3 G := ⟨by unfold lv; rw [(o3 0 137 (by omega) (by omega) (by omega)).1]; exact g2.1, fun j hj => by rw [(o3 88 j (by omega) (by omega) (by omega)).1, (o3 89 j (by omega) (by omega) (by omega)).2]; exact g2.2 j hj⟩
  have t82 : τ3.1 82 (48 * p + l) = Int32.ofNat 0 := by rw [(o3 82 _ (by omega) (by omega) (by omega)).1, o1 82 _ (by omega)]; exact b9
  have t16 : τ3.1 16 fn = τ.1 16 fn := by rw [(o3 16 fn (by omega) (by omega) (by omega)).1, (o2 16 fn (by omega) (by omega) (by omega)).1]
  -- the end
  have fin : ∀ (D : List vT) (τ' : lj_S), lj_D lm_P lm_M113 239 [.ref 0, .int (Int32.ofNat fn), .int x2, .int (Int32.ofNat (48 * p + l)), .int (Int32.ofNat pn)] [] τ3 = some (.inl none, τ') → τ' = lj_put (mPus p τ3 me D) 82 (48 * p + l) (Int32.ofNat D.length) → D.length ≤ G.length → ∃ (τ' : lj_S) (Cs Fc' : List Nat), lj_R lm_P 113 [.ref 0, .int (Int32.ofNat fn), .int x2] τ = some (.inl none, τ') ∧ Cs.length = pn ∧ (Cs ++ Fc').Nodup ∧ (∀ c ∈ Cs ++ Fc', c < 95000 ∧ ¬ U c) ∧ fcM τ' Fc' ∧ lv τ' 0 96 = (Fc'.length : Int) ∧ opR τ τ' p l fn pn me mq x2 G D Cs := fun D τ' y1 y2 y3 => by
    have oD := fun k j => mPus_o p D τ3 me k j
    have o4 : ∀ k j, ¬ (k = 82 ∧ j = 48 * p + l) → ¬ (k = 63 ∧ j = p) → ((k ≠ 71 ∧ k ≠ 72) ∨ j < 10000 * p + me ∨ 10000 * p + me + D.length ≤ j) → τ'.1 k j = τ3.1 k j ∧ τ'.2 k j = τ3.2 k j := fun k j z1 z2 z3 => by
      rw [y2, lj_put_1, if_neg z1, pt2]
      exact oD k j z2 z3
    refine ⟨τ', Cs, Fc', by rw [a1, d1, e1, y1], e2, e3, e4, fcM_cg (fun j => (o4 57 j (by omega) (by omega) (by omega)).1) e5, by unfold lv; rw [(o4 0 96 (by omega) (by omega) (by omega)).1]; exact e6, ⟨?_, ?_, ?_, ?_⟩, ⟨?_, ?_, ?_, ?_, ?_, ?_, ?_, ?_, ?_⟩, fun j hj => ?_, fun j j1 j2 => ?_, fun i hi => ?_, fun c hc => ?_, fun k j z1 z2 z3 z4 z5 z6 => ?_⟩
    · rw [(o4 62 p (by omega) (by omega) (by omega)).1, (o3 62 p (by omega) (by omega) (by omega)).1, o1 62 p (by omega)]; exact a2
    · rw [(o4 65 p (by omega) (by omega) (by omega)).1, (o3 65 p (by omega) (by omega) (by omega)).1, o1 65 p (by omega)]; exact a3
    · rw [y2, lj_put_1, if_neg (by omega)]; exact mPus_63 p D τ3 me at3.2.2.1
    · rw [(o4 64 p (by omega) (by omega) (by omega)).1]; exact at3.2.2.2.2.1
    · rw [(o4 74 _ (by omega) (by omega) (by omega)).1, (o3 74 _ (by omega) (by omega) (by omega)).1, o1 74 _ (by omega)]; exact b1
    · rw [(o4 75 _ (by omega) (by omega) (by omega)).1, (o3 75 _ (by omega) (by omega) (by omega)).1, o1 75 _ (by omega)]; exact b2
    · rw [(o4 76 _ (by omega) (by omega) (by omega)).1, (o3 76 _ (by omega) (by omega) (by omega)).1, o1 76 _ (by omega)]; exact b3
    · rw [(o4 77 _ (by omega) (by omega) (by omega)).1, (o3 77 _ (by omega) (by omega) (by omega)).1, o1 77 _ (by omega)]; exact b4
    · rw [(o4 78 _ (by omega) (by omega) (by omega)).1, (o3 78 _ (by omega) (by omega) (by omega)).1, o1 78 _ (by omega)]; exact b5
    · rw [(o4 79 _ (by omega) (by omega) (by omega)).1, (o3 79 _ (by omega) (by omega) (by omega)).1, o1 79 _ (by omega)]; exact b6
    · rw [(o4 80 _ (by omega) (by omega) (by omega)).1, (o3 80 _ (by omega) (by omega) (by omega)).1, o1 80 _ (by omega), b7]; exact a.2.2.1
    · rw [(o4 81 _ (by omega) (by omega) (by omega)).1, (o3 81 _ (by omega) (by omega) (by omega)).1, o1 81 _ (by omega), b8]; exact a.2.2.2.2.1
    · rw [y2, lj_put_1, if_pos ⟨rfl, rfl⟩]
    · have := e7 j hj
      rw [Nat.zero_add] at this
      rw [(o4 87 _ (by omega) (by omega) (by omega)).1, (o4 54 _ (by omega) (by omega) (by omega)).1, (o4 55 _ (by omega) (by omega) (by omega)).2]
      exact this
    · rw [(o4 87 _ (by omega) (by omega) (by omega)).1, (e9 87 _ (by omega) (by omega) (by omega)).1]; exact n87 j j2
    · rw [y2, mv_p _ (by decide)]; exact mPus_v p D τ3 me i hi
    · rw [(o4 54 c (by omega) (by omega) (by omega)).1, (o4 55 c (by omega) (by omega) (by omega)).2, (e8 c hc).1, (e8 c hc).2, (o2 54 c (by omega) (by omega) (by omega)).1, (o2 55 c (by omega) (by omega) (by omega)).2]
      exact ⟨rfl, rfl⟩
    · obtain ⟨u1, u2⟩ := o4 k j (by omega) (by omega) (by omega)
      obtain ⟨v1, v2⟩ := e9 k j z3 z4 (by omega)
      obtain ⟨w1, w2⟩ := o2 k j (by omega) (by omega) (by omega)
      exact ⟨u1.trans (v1.trans w1), u2.trans (v2.trans w2)⟩
  have iq : lj_in (Int32.ofNat fn) 51 := ofN_in (by omega) (by omega)
  by_cases z : τ.1 16 fn = 0
  · rw [if_pos z]
    refine fin [] τ3 ?_ ?_ (Nat.zero_le _)
    · rw [km_113_239]
      by_cases y : τ3.1 0 137 ≤ Int32.ofNat pn
      · rw [if_pos y, km_113_291]
      · rw [if_neg y, if_pos iq, if_pos (by rw [lz_onat (by omega), t16]; exact z), km_113_291]
    · show τ3 = lj_put τ3 82 (48 * p + l) (Int32.ofNat 0)
      rw [← t82, put_id]
  · rw [if_neg z]
    by_cases y : pn ≤ G.length
    · have m3 := m_op3 (mq := mq) (i := 48 * p + l) (fn := fn) (by omega) hfn hG x2 (G.drop pn) pn me 0 τ3 (G.take pn) (List.take_append_drop pn G).symm (by rw [List.length_take]; omega) g3 at3 (by rw [t16]; exact z) t82 (by rw [List.length_drop]; omega) (by rw [List.length_drop]; omega)
      rw [Nat.zero_add] at m3
      exact fin _ _ m3 rfl (by rw [List.length_drop]; omega)
    · have dz : G.drop pn = [] := List.drop_eq_nil_iff.2 (by omega)
      rw [dz]
      refine fin [] τ3 ?_ ?_ (Nat.zero_le _)
      · have e37 : τ3.1 0 137 = Int32.ofNat G.length := lz_ext (by rw [lz_lit (by omega)]; exact g3.1)
        rw [km_113_239, e37, if_pos ((ofN_le (by omega) (by omega)).2 (by omega)), km_113_291]
      · show τ3 = lj_put τ3 82 (48 * p + l) (Int32.ofNat 0)
        rw [← t82, put_id]
