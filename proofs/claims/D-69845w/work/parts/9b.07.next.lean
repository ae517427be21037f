/-! what is built in: the next pair of a table -/
theorem eR_sp {R : vT → vT → Prop} {f g : Nat → enT} {p : Nat} : ∀ {l l' : List Nat}, eR R f g l l' → p ∈ l → ∃ l1 l2 l1' l2' q, l = l1 ++ p :: l2 ∧ l' = l1' ++ q :: l2' ∧ pR R (f p) (g q) ∧ eR R f g l2 l2'
  | [], _, _, hp => by cases hp
  | _ :: _, [], h, _ => h.elim
  | x :: l, y :: l', h, hp => by
    by_cases z : x = p
    · subst z
      exact ⟨[], l, [], l', y, rfl, rfl, h.1, h.2⟩
    · have hp' : p ∈ l := by
        rcases List.mem_cons.1 hp with e | e
        · exact absurd e.symm z
        · exact e
      obtain ⟨l1, l2, l1', l2', q, e1, e2, e3, e4⟩ := eR_sp h.2 hp'
      exact ⟨x :: l1, l2, y :: l1', l2', q, by rw [e1]; rfl, by rw [e2]; rfl, e3, e4⟩
theorem lk_sp {f : Nat → Int} {p : Nat} {l2 : List Nat} : ∀ {l1 : List Nat} {h : Int}, lk f h (l1 ++ p :: l2) → lk f (f p) l2
  | [], _, w => w.2
  | _ :: _, _, w => lk_sp w.2
/-- both walk on to the next pair that has a value -/
theorem nx_both {σ τ : lj_S} (x1 x2 x3 z1 : Int32) : ∀ (L L' : List Nat) (y y' : Int32), eR (vR σ τ) (enC σ) (enM τ) L L' → lk (lv σ 70) y.toInt L → lk (lv τ 50) y'.toInt L' → (∀ p ∈ L, p < 3000) → (∀ p ∈ L', p < 3001) → ∃ v v', lj_D lc_P lc_M170 77 [.ref 8, .int x1, .int x2, .int x3, .int y] [] σ = lj_D lc_P lc_M170 116 [.ref 8, .int x1, .int x2, .int x3, .int v] [] σ ∧ lj_D lm_P lm_M197 67 [.ref 0, .int z1, .int y'] [] τ = lj_D lm_P lm_M197 90 [.ref 0, .int z1, .int v'] [] τ ∧ (v = -1 ∧ v' = -1 ∨ ∃ p q : Nat, p < 3000 ∧ q < 3001 ∧ v = Int32.ofNat p ∧ v' = Int32.ofNat q ∧ vR σ τ (σ.1 66 p, σ.2 67 p) (τ.1 45 q, τ.2 46 q) ∧ vR σ τ (σ.1 68 p, σ.2 69 p) (τ.1 47 q, τ.2 48 q))
  | [], _ :: _, _, _, h, _, _, _, _ => h.elim
  | _ :: _, [], _, _, h, _, _, _, _ => h.elim
  | [], [], y, y', _, hy, hy', _, _ => by
    have e1 : y = -1 := lz_ext (by rw [show y.toInt = -1 from hy]; rfl)
    have e2 : y' = -1 := lz_ext (by rw [show y'.toInt = -1 from hy']; rfl)
    refine ⟨-1, -1, ?_, ?_, Or.inl ⟨rfl, rfl⟩⟩
    · rw [e1, kc_170_77, if_pos (by decide)]
    · rw [e2, km_197_67, if_pos (by decide)]
  | p :: L, q :: L', y, y', h, hy, hy', hL, hL' => by
    have hp := hL p List.mem_cons_self
    have hq := hL' q List.mem_cons_self
    have e1 : y = Int32.ofNat p := lz_ext (by rw [hy.1, lz_lit (by omega)])
    have e2 : y' = Int32.ofNat q := lz_ext (by rw [hy'.1, lz_lit (by omega)])
    have i1 : lj_in (Int32.ofNat p) 3000 := ofN_in (by omega) (by omega)
    have i2 : lj_in (Int32.ofNat q) 3001 := ofN_in (by omega) (by omega)
    have n1 : (Int32.ofNat p).toNatClampNeg = p := lz_onat (by omega)
    have n2 : (Int32.ofNat q).toNatClampNeg = q := lz_onat (by omega)
    have g1 : ¬ (Int32.ofNat p < 0) := by rw [lz_lt, lz_lit (by omega)]; show ¬ (_ < (0 : Int)); omega
    have g2 : ¬ (Int32.ofNat q < 0) := by rw [lz_lt, lz_lit (by omega)]; show ¬ (_ < (0 : Int)); omega
    obtain ⟨⟨w1, w2, w3⟩, h2⟩ := h
    rcases w3 with ⟨v1, v2⟩ | ⟨v1, v2⟩
    · have s0 : σ.1 68 p = 0 := congrArg Prod.fst v1
      have t0 : τ.1 47 q = 0 := v2
      obtain ⟨v, v', r1, r2, r3⟩ := nx_both x1 x2 x3 z1 L L' (σ.1 70 p) (τ.1 50 q) h2 hy.2 hy'.2 (fun x hx => hL x (List.mem_cons_of_mem _ hx)) (fun x hx => hL' x (List.mem_cons_of_mem _ hx))
      refine ⟨v, v', ?_, ?_, r3⟩
      · rw [e1, kc_170_77, if_neg g1, if_pos i1, if_pos (by rw [n1]; exact s0), if_pos i1, n1, r1]
      · rw [e2, km_197_67, if_neg g2, if_pos i2, if_pos (by rw [n2]; exact t0), if_pos i2, n2, r2]
    · have s0 : ¬ (σ.1 68 p = 0) := v1
      have t0 : ¬ (τ.1 47 q = 0) := fun z => v1 (v2.k0.2 z)
      refine ⟨Int32.ofNat p, Int32.ofNat q, ?_, ?_, Or.inr ⟨p, q, hp, hq, rfl, rfl, w1, v2⟩⟩
      · rw [e1, kc_170_77, if_neg g1, if_pos i1, if_neg (by rw [n1]; exact s0)]
      · rw [e2, km_197_67, if_neg g2, if_pos i2, if_neg (by rw [n2]; exact t0)]
theorem bi_4 {σ0 τ0 σ τ : lj_S} {n np p : Nat} {r : List Nat} {FP : Nat → List kF} {ρ : Nat → Nat} {A MO LA : List Nat} {M : Nat} (D : DLV σ0 τ0 M) (h : MB σ0 τ0 n np p r FP ρ A MO LA σ τ) (ry : ryR σ τ) (hwk : wkR FP (p :: r) A σ) {as line : Int32} (ht : τ.1 0 129 = 1) (ha : awR σ0 (FP p) as (τ.1 0 130) (τ.1 0 131)) (hln : τ.1 0 132 = line) {G G' : List vT} (hG : gwR σ τ G G') (hGl : G.length ≤ 49) (hM : thM FP (p :: r) MO LA + 5001 ≤ M) {X : Nat} (hX : X ≤ TH) (hT : thM FP (p :: r) MO LA + 5001 ≤ X) : ∃ τ1, lj_R lm_P 187 [.ref 0, .int 4] τ = some (.inl none, τ1) ∧ ocR σ0 τ0 A (fun t => t ≤ X) σ τ1 (lj_R lc_P 159 [.ref 8, .int 4, .int as, .int line] σ) := by
  have c1 := hG.c1 hGl
  have m1 := hG.m1 hGl
  have m2 := hG.m2 hGl
  have hv := hG.v 1
  have px := h.px hwk
  have rM : ∀ {τx : lj_S}, lj_R lm_P 197 [.ref 0] τ = some (.inl none, τx) → lj_R lm_P 187 [.ref 0, .int 4] τ = some (.inl none, τx) := fun e => by
    rw [rm_187, km_187_0, if_neg (by decide), if_neg (by decide), if_neg (by decide), if_neg (by decide), if_pos rfl, e, bv_ok, km_187_308]
  rcases bi_tab h.2.1 h.2.2.2.1 hG (by omega) hln (w := 4) (by decide) with ⟨o, ob, on, e1, e2, e3, e4⟩ | ⟨σ', τ', q1, q2, q3⟩
  · have e3 : lj_R lc_P 167 [.ref 8, .int 0, .int 4, .int line] σ = some (.inl (some (.int (Int32.ofNat o))), σ) := e3
    have e4 : lj_R lm_P 198 [.ref 0, .int 1, .int 4, .int 4] τ = some (.inl (some (.int 1)), τ) := e4
    rw [e2] at m1
    have o1 := ob.1
    have o2 := ob.2.1
    have it : lj_in (Int32.ofNat o) 2001 := ofN_in (by omega) (by omega)
    have im : lj_in (Int32.ofNat o) 2002 := ofN_in (by omega) (by omega)
    have no : (Int32.ofNat o).toNatClampNeg = o := lz_onat (by omega)
    have rC : ∀ {x : Option lj_O}, lj_R lc_P 170 [.ref 8, .int (Int32.ofNat o), .int line, .int as] σ = x → lj_R lc_P 159 [.ref 8, .int 4, .int as, .int line] σ = finC x := fun e => by
      rw [rc_159, kc_159_0, if_neg (by decide), if_neg (by decide), if_neg (by decide), if_neg (by decide), if_pos rfl, e3, bi_ok, e]
      simp only [kc_159_901]
      rfl
    obtain ⟨h1, h2, h3, P, B, Fr, P', B', Fr', hc, hm, hl, he⟩ := h.2.2.2.1
    have heo := he o on
    have k1 := (hc.1.1 o on).1
    have k2 := (hm.1.1 (tm o) (tm_V on)).1
    have b1 : ∀ p ∈ P o, p < 3000 := fun p hp => (hc.1.2.2 o on p hp).1
    have b2 : ∀ p ∈ P' (tm o), p < 3001 := fun p hp => (hm.1.2.2 (tm o) (tm_V on) p hp).1
    -- from where both walk on
    have main : ∀ (L L' : List Nat) (y y' : Int32), eR (vR σ τ) (enC σ) (enM τ) L L' → lk (lv σ 70) y.toInt L → lk (lv τ 50) y'.toInt L' → (∀ p ∈ L, p < 3000) → (∀ p ∈ L', p < 3001) → ∃ τ1, lj_D lm_P lm_M197 67 [.ref 0, .int (Int32.ofNat o), .int y'] [] τ = some (.inl none, τ1) ∧ ocR σ0 τ0 A (fun t => t ≤ X) σ τ1 (lj_D lc_P lc_M170 77 [.ref 8, .int (Int32.ofNat o), .int line, .int as, .int y] [] σ) := fun L L' y y' w1 w2 w3 w4 w5 => by
      obtain ⟨v, v', r1, r2, r3⟩ := nx_both (Int32.ofNat o) line as (Int32.ofNat o) L L' y y' w1 w2 w3 w4 w5
      rw [r1, r2]
      rcases r3 with ⟨rfl, rfl⟩ | ⟨pp, q, p1, p2, rfl, rfl, vk, vv⟩
      · obtain ⟨σ1, g1, g2, g3⟩ := c_gives (x_rs0 σ) (by decide) (0, 0)
        have g1 : lj_R lc_P 143 [.ref 8, .int 0, .long 0] (lj_put σ 8 41 0) = some (.inl none, σ1) := g1
        have d1 := m_one τ (0, 0)
        have d1 : lj_R lm_P 195 [.ref 0, .int 0, .long 0] τ = _ := d1
        have l1 : lf szC σ σ1 := (lf_put (lf_rf _ σ) 8 41 0 rfl).tr (rtC_z g3)
        have l2 : lf bfC σ σ1 := (lf_put (lf_rf _ σ) 8 41 0 rfl).tr (rtC_b g3)
        have dl := bi_dl D ry hwk ha (h.sc l1 (oneM_z τ (0, 0))) l2 (oneM_b τ _) (by unfold oneM; exact (by simp [lj_put_1, lj_putL_1])) g2 (oneM_rs τ (0, 0)) ⟨rfl, by simp, fun j => by
          cases j with
          | zero => exact vR_nil _ _
          | succ j => exact vR_nil _ _⟩ (by simp; omega) (by omega) (by omega) hX
        refine ⟨oneM τ (0, 0), by rw [km_197_90, if_neg (by decide), d1, bv_ok, km_197_135], ?_⟩
        rw [kc_170_116, if_neg (by decide), g1, bv_ok, kc_170_195]
        exact dl.fin
      · have i1 : lj_in (Int32.ofNat pp) 3000 := ofN_in (by omega) (by omega)
        have i2 : lj_in (Int32.ofNat q) 3001 := ofN_in (by omega) (by omega)
        have n1 : (Int32.ofNat pp).toNatClampNeg = pp := lz_onat (by omega)
        have n2 : (Int32.ofNat q).toNatClampNeg = q := lz_onat (by omega)
        have g0 : (0 : Int32) ≤ Int32.ofNat pp := by rw [lz_le, lz_lit (by omega)]; show (0 : Int) ≤ _; omega
        have g0' : (0 : Int32) ≤ Int32.ofNat q := by rw [lz_le, lz_lit (by omega)]; show (0 : Int) ≤ _; omega
        obtain ⟨σ1, g1, g2, g3⟩ := c_gives (x_rs0 σ) (by decide) (σ.1 66 pp, σ.2 67 pp)
        have g2 : rsC σ1 [(σ.1 66 pp, σ.2 67 pp)] := g2
        have d1 := m_one τ (τ.1 45 q, τ.2 46 q)
        have l1 : lf szC σ σ1 := (lf_put (lf_rf _ σ) 8 41 0 rfl).tr (rtC_z g3)
        have l2 : lf bfC σ σ1 := (lf_put (lf_rf _ σ) 8 41 0 rfl).tr (rtC_b g3)
        have v1 : ∀ {a b : vT}, vR σ τ a b → vR σ1 (oneM τ (τ.1 45 q, τ.2 46 q)) a b := fun z => z.cg (fun k j q => (l1 k j (by unfold vqC at q; unfold szC; simp at q ⊢; omega)).1) (fun k j q => (oneM_o τ _ (by unfold vqM at q; simp at q; omega)).1)
        obtain ⟨σ2, τ2, f1, f2, f3, f4, f5, f6, f7⟩ := x_gv g2 (oneM_rs τ (τ.1 45 q, τ.2 46 q)) ⟨rfl, by simp, fun j => by
          cases j with
          | zero => exact v1 vk
          | succ j => exact vR_nil _ _⟩ (by simp) (v1 vv)
        have t1 : τ2.1 0 129 = 1 := by
          rw [(f7 0 129 rfl).1]
          unfold oneM
          exact (by simp [lj_put_1, lj_putL_1])
        have dl := bi_dl D ry hwk ha (h.sc (l1.tr (rtC_z f6)) ((oneM_z τ _).tr (rtM_z f7))) (l2.tr (rtC_b f6)) ((oneM_b τ _).tr (rtM_b f7)) t1 f3 f4 f5 (by simp; omega) (by omega) (by omega) hX
        have u1 : σ1.1 68 pp = σ.1 68 pp := (l1 68 pp (by unfold szC; simp)).1
        have u2 : σ1.2 69 pp = σ.2 69 pp := (l1 69 pp (by unfold szC; simp)).2
        have u3 := (oneM_o τ (τ.1 45 q, τ.2 46 q) (k := 47) (j := q) (by omega)).1
        have u4 := (oneM_o τ (τ.1 45 q, τ.2 46 q) (k := 48) (j := q) (by omega)).2
        have d1 : lj_R lm_P 195 [.ref 0, .int (τ.1 45 (Int32.ofNat q).toNatClampNeg), .long (τ.2 46 (Int32.ofNat q).toNatClampNeg)] τ = some (.inl none, oneM τ (τ.1 45 q, τ.2 46 q)) := by rw [n2]; exact d1
        have g1 : lj_R lc_P 143 [.ref 8, .int (σ.1 66 (Int32.ofNat pp).toNatClampNeg), .long (σ.2 67 (Int32.ofNat pp).toNatClampNeg)] (lj_put σ 8 41 0) = some (.inl none, σ1) := by rw [n1]; exact g1
        have f1 : lj_R lc_P 143 [.ref 8, .int (σ.1 68 pp), .long (σ.2 69 pp)] σ1 = some (.inl none, σ2) := f1
        have f2 : lj_R lm_P 184 [.ref 0, .int (τ.1 47 q), .long (τ.2 48 q)] (oneM τ (τ.1 45 q, τ.2 46 q)) = some (.inl none, τ2) := f2
        refine ⟨τ2, ?_, ?_⟩
        · rw [km_197_90, if_pos g0', if_pos i2, if_pos i2, d1, bv_ok, if_pos i2, if_pos i2, n2, u3, u4, f2, bv_ok, km_197_135]
        · rw [kc_170_116, if_pos g0, if_pos i1, if_pos i1, g1, bv_ok, if_pos i1, if_pos i1, n1, u1, u2, f1, bv_ok, kc_170_195]
          exact dl.fin
    by_cases z0 : (G.getD 1 (0, 0)).1 = 0
    · have z0' : (G'.getD 1 (0, 0)).1 = 0 := hv.k0.1 z0
      rw [tm_p o1] at k2 b2 heo
      obtain ⟨τ1, p1, p2⟩ := main (P o) (P' o) (σ.1 59 o) (τ.1 40 o) heo k1 k2 b1 b2
      refine ⟨τ1, rM ?_, ?_⟩
      · rw [rm_197, km_197_0, e4, bi_ok, if_neg (by decide), m1.2, bl_ok]
        simp only [i64_32, if_pos im, no]
        rw [m2.1, bi_ok, if_pos z0', p1]
      · rw [rC rfl, rc_170, kc_170_0, if_pos it, no, c1.1, bi_ok, if_pos z0]
        exact p2.fin
    · have z0' : ¬ ((G'.getD 1 (0, 0)).1 = 0) := fun q => z0 (hv.k0.2 q)
      obtain ⟨y1, y2⟩ := hp_key h.2.1.1 hc hm on heo hv
      have sM := m_hseek hm.1 (fun t ht => by rcases ht with ht | ht <;> omega) (tm_V on) (G'.getD 1 (0, 0)).1 (G'.getD 1 (0, 0)).2
      rcases c_hseek hc.1 (fun t ht => by have ht : t ≤ n := ht; omega) on (G.getD 1 (0, 0)).1 (G.getD 1 (0, 0)).2 with ⟨pp, hp, s1, s2, s3⟩ | ⟨s1, s2⟩
      · obtain ⟨l1, l2, l1', l2', q, a1, a2, a3, a4⟩ := eR_sp heo hp
        have kp : (enC σ pp).1 = G.getD 1 (0, 0) := Prod.ext s1 s2
        have hq : q ∈ P' (tm o) := by rw [a2]; simp
        have kq : (enM τ q).1 = G'.getD 1 (0, 0) := vR_fn h.2.1.1 a3.1 (by rw [kp]; exact hv)
        rcases sM with ⟨q', hq', t1, t2, t3⟩ | ⟨t1, t2⟩
        · have qq : q' = q := (hm.1.2.2 (tm o) (tm_V on) q' hq').2.2.2 q hq (by rw [t1]; exact (congrArg Prod.fst kq).symm) (by rw [t2]; exact (congrArg Prod.snd kq).symm)
          subst qq
          have bp := b1 pp hp
          have bq := b2 q' hq
          have i1 : lj_in (Int32.ofNat pp) 3000 := ofN_in (by omega) (by omega)
          have i2 : lj_in (Int32.ofNat q') 3001 := ofN_in (by omega) (by omega)
          have n1 : (Int32.ofNat pp).toNatClampNeg = pp := lz_onat (by omega)
          have n2 : (Int32.ofNat q').toNatClampNeg = q' := lz_onat (by omega)
          have g0 : ¬ (Int32.ofNat pp < 0) := by rw [lz_lt, lz_lit (by omega)]; show ¬ (_ < (0 : Int)); omega
          have g0' : (0 : Int32) ≤ Int32.ofNat q' := by rw [lz_le, lz_lit (by omega)]; show (0 : Int) ≤ _; omega
          rw [a1] at k1 b1
          rw [a2] at k2 b2
          obtain ⟨τ1, p1, p2⟩ := main l2 l2' (σ.1 70 pp) (τ.1 50 q') a4 (lk_sp k1) (lk_sp k2) (fun x hx => b1 x (by simp [hx])) (fun x hx => b2 x (by simp [hx]))
          rw [tm_p o1] at t3
          refine ⟨τ1, rM ?_, ?_⟩
          · rw [rm_197, km_197_0, e4, bi_ok, if_neg (by decide), m1.2, bl_ok]
            simp only [i64_32, if_pos im, no]
            rw [m2.1, bi_ok, if_neg z0', m2.1, bi_ok, m2.2, bl_ok, t3, bi_ok, if_pos g0', if_pos i2, n2, p1]
          · rw [rC rfl, rc_170, kc_170_0, if_pos it, no, c1.1, bi_ok, if_neg z0, c1.1, bi_ok, c1.2, bl_ok, s3, bi_ok, if_neg g0, kc_170_56, nd_ok _ (by decide), bv_ok, if_pos i1, n1]
            exact p2.fin
        · exact absurd ⟨congrArg Prod.fst kq, congrArg Prod.snd kq⟩ (t1 q hq)
      · have nC : ∀ p ∈ P o, (enC σ p).1 ≠ G.getD 1 (0, 0) := fun p hp e => s1 p hp ⟨congrArg Prod.fst e, congrArg Prod.snd e⟩
        have nM := y2.1 nC
        rcases sM with ⟨q', hq', t1, t2, t3⟩ | ⟨t1, t2⟩
        · exact absurd (Prod.ext t1 t2) (nM q' hq')
        · obtain ⟨σ', τ', q1, q2, q3⟩ := nd_bad h.2.1 hln 2 (w := 4) (by decide)
          have q1 : lj_R lc_P 168 [.ref 8, .int 0, .int 2, .int 4, .int line] σ = some (.inr 2, σ') := q1
          have q2 : lj_R lm_P 199 [.ref 0, .int 2, .int 4] τ = some (.inl none, τ') := q2
          rw [tm_p o1] at t2
          refine ⟨τ', rM ?_, ?_⟩
          · rw [rm_197, km_197_0, e4, bi_ok, if_neg (by decide), m1.2, bl_ok]
            simp only [i64_32, if_pos im, no]
            rw [m2.1, bi_ok, if_neg z0', m2.1, bi_ok, m2.2, bl_ok, t2, bi_ok, if_neg (by decide), q2, bv_ok]
          · rw [rC rfl, rc_170, kc_170_0, if_pos it, no, c1.1, bi_ok, if_neg z0, c1.1, bi_ok, c1.2, bl_ok, s2, bi_ok, if_pos (by decide), kc_170_56, q1, bv_th]
            exact (bt_er ry hwk h (lf_rf _ _) (lf_rf _ _) q3 (by omega)).fin
  · have q2 : lj_R lc_P 167 [.ref 8, .int 0, .int 4, .int line] σ = some (.inr 2, σ') := q2
    have q3 : lj_R lm_P 198 [.ref 0, .int 1, .int 4, .int 4] τ = some (.inl (some (.int 0)), τ') := q3
    refine ⟨τ', rM ?_, ?_⟩
    · rw [rm_197, km_197_0, q3, bi_ok, if_pos rfl]
    · rw [rc_159, kc_159_0, if_neg (by decide), if_neg (by decide), if_neg (by decide), if_neg (by decide), if_pos rfl, q2, bi_th]
      exact bt_er ry hwk h (lf_rf _ _) (lf_rf _ _) q1 (by omega)
