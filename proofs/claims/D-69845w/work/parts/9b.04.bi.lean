/-! what is built in: states of parts, the part at hand -/
theorem chn_3 {σ0 σ τ : lj_S} {FP : Nat → List kF} {q : Nat} : ∀ {l : List Nat} {a : Nat}, chn σ0 σ τ FP (a :: l) → q ∈ l → σ.1 83 q = 3 ∧ τ.1 58 q = 3
  | [], _, _, hq => by cases hq
  | b :: l, a, hc, hq => by
    rcases List.mem_cons.1 hq with e | e
    · rw [e]; exact hc.2.2.1
    · exact chn_3 hc.2.2.2 e
theorem chn_m0 {σ0 σ τ : lj_S} {FP : Nat → List kF} : ∀ {l : List Nat}, chn σ0 σ τ FP l → 0 ∈ l
  | [], h => h.elim
  | [q], h => by rw [show q = 0 from h]; exact List.mem_cons_self
  | _ :: q' :: r, h => List.mem_cons_of_mem _ (chn_m0 (l := q' :: r) h.2.2.2)
/-- the state of a part, of both -/
theorem MB.stt {σ0 τ0 σ τ : lj_S} {n np p : Nat} {r : List Nat} {FP : Nat → List kF} {ρ : Nat → Nat} {A MO LA : List Nat} (h : MB σ0 τ0 n np p r FP ρ A MO LA σ τ) {q : Nat} (hq : q = 0 ∨ 1 ≤ q ∧ q ≤ np ∧ ∃ o, obA σ τ o 6 ∧ σ.1 85 q = Int32.ofNat o) : ∃ k, k < 5 ∧ σ.1 83 q = Int32.ofNat k ∧ τ.1 58 q = Int32.ofNat k ∧ q ≤ np ∧ (q ∈ p :: r → k = 2 ∨ k = 3) ∧ (q ∉ p :: r → (k = 0 ∧ FP q = [] ∧ σ.1 88 q = 5 ∧ vR σ τ (σ.1 88 q, σ.2 89 q) (τ.1 60 q, τ.2 61 q)) ∨ (k = 1 ∧ awR σ0 (FP q) (σ.1 87 q) (τ.1 69 q) (τ.1 70 q) ∧ ∀ F ∈ FP q, kS F ≠ 2) ∨ k = 4) := by
  obtain ⟨e1, e2, e3, d1, d2, d3, d4, d5, d6, d7, d8, d9⟩ := h.2.2.2.2.2.2.1
  by_cases z : q ∈ p :: r
  · have qn := d3 q z
    rcases List.mem_cons.1 z with y | y
    · exact ⟨2, by decide, by rw [y]; exact e3.1, by rw [y]; exact e3.2, qn, fun _ => Or.inl rfl, fun w => absurd z w⟩
    · have := chn_3 d1 y
      exact ⟨3, by decide, this.1, this.2, qn, fun _ => Or.inr rfl, fun w => absurd z w⟩
  · rcases hq with rfl | ⟨q1, qn, o, ob, q85⟩
    · exact absurd (chn_m0 d1) z
    · rcases d9 q qn z with w | w | ⟨w1, w2, w3, w4⟩
      · exact ⟨0, by decide, w.1, w.2.1, qn, fun y => absurd y z, fun _ => Or.inl ⟨rfl, w.2.2⟩⟩
      · exact ⟨1, by decide, w.1, w.2.1, qn, fun y => absurd y z, fun _ => Or.inr (Or.inl ⟨rfl, w.2.2⟩)⟩
      · rcases w4 with w4 | ⟨o', f0, f1, f2, _⟩
        · exact ⟨4, by decide, w4, w1, qn, fun y => absurd y z, fun _ => Or.inr (Or.inr rfl)⟩
        · exfalso
          rw [f1] at q85
          have oo : o' = o := (ofN_eq (by omega) (by have := ob.2.1; omega)).1 q85
          rw [oo, ob.2.2.2.1] at f2
          exact absurd f2 (by decide)
/-- the part of a value -/
theorem MB.pov {σ0 τ0 σ τ : lj_S} {n np p : Nat} {r : List Nat} {FP : Nat → List kF} {ρ : Nat → Nat} {A MO LA : List Nat} (h : MB σ0 τ0 n np p r FP ρ A MO LA σ τ) {a b : vT} (hab : vR σ τ a b) (h6 : a.1 = 6) : ∃ o q : Nat, a = (6, i64 o) ∧ b = (6, i64 o) ∧ o ≤ 2000 ∧ q < 26 ∧ (q = 0 ∨ 1 ≤ q ∧ q ≤ np ∧ ∃ o, obA σ τ o 6 ∧ σ.1 85 q = Int32.ofNat o) ∧ (o = 0 ∧ q = 0 ∨ o ≠ 0 ∧ q ≠ 0 ∧ σ.1 64 o = Int32.ofNat q ∧ τ.1 43 o = Int32.ofNat q) ∧ lj_R lm_P 233 [.ref 0, .long (i64 o)] τ = some (.inl (some (.int (Int32.ofNat q))), τ) := by
  have h7 := h.2.2.2.2.2.2.1
  obtain ⟨o, e1, e2, e3⟩ := hab.pt h6
  rcases e3 with rfl | ob
  · refine ⟨0, 0, e1, e2, by omega, by omega, Or.inl rfl, Or.inl ⟨rfl, rfl⟩, ?_⟩
    rw [rm_233, km_233_0, if_pos (show lg_cmp (i64 0) 0 = 0 by decide), km_233_17]
    rfl
  · obtain ⟨q, q1, q2, q3, q4⟩ := h7.2.2.2.2.2.2.2.2.2.2.1.2 o ob
    have np25 := h7.1.2.2
    have on : o ≤ n := by have := ob.2.2.1; have := h.2.2.2.1.2.1; omega
    obtain ⟨q', r1, r2, r3, r4⟩ := (h.2.2.2.2.1.2 o ob.1 on).2.2.2 ob.2.2.2.1
    have qq : q' = q := (ofN_eq (by omega) (by omega)).1 (by rw [← r3, ← q3])
    subst qq
    have o1 := ob.1
    have o2 := ob.2.1
    have io : lj_in (Int32.ofNat o) 2002 := ofN_in (by omega) (by omega)
    have no : (Int32.ofNat o).toNatClampNeg = o := lz_onat (by omega)
    refine ⟨o, q', e1, e2, o2, by omega, Or.inr ⟨q1, q2, o, ob, q4⟩, Or.inr ⟨by omega, by omega, q3, r4⟩, ?_⟩
    have ne : ¬ (lg_cmp (i64 o) 0 = 0) := fun z => by
      have z := (lg_eq0 _ _).1 z
      have := i64_inj (n := o) (m := 0) (by omega) (by omega) z
      omega
    rw [rm_233, km_233_0, if_neg ne]
    simp only [i64_32, if_pos io, no]
    rw [km_233_17, r4]
theorem st_eq : ∀ k, k < 5 → mBw (29 + k) = cW (1031 + k) ∧ (cW (1031 + k)).length ≤ 1000 := by decide +kernel
theorem bi_29 {σ0 τ0 σ τ : lj_S} {n np p : Nat} {r : List Nat} {FP : Nat → List kF} {ρ : Nat → Nat} {A MO LA : List Nat} {M : Nat} (D : DLV σ0 τ0 M) (h : MB σ0 τ0 n np p r FP ρ A MO LA σ τ) (ry : ryR σ τ) (hwk : wkR FP (p :: r) A σ) {as line : Int32} (ht : τ.1 0 129 = 1) (ha : awR σ0 (FP p) as (τ.1 0 130) (τ.1 0 131)) (hln : τ.1 0 132 = line) {G G' : List vT} (hG : gwR σ τ G G') (hGl : G.length ≤ 49) (hM : thM FP (p :: r) MO LA + 5001 ≤ M) {X : Nat} (hX : X ≤ TH) (hT : thM FP (p :: r) MO LA + 5001 ≤ X) : ∃ τ1, lj_R lm_P 187 [.ref 0, .int 29] τ = some (.inl none, τ1) ∧ ocR σ0 τ0 A (fun t => t ≤ X) σ τ1 (lj_R lc_P 159 [.ref 8, .int 29, .int as, .int line] σ) := by
  have c0 := hG.c0 hGl
  have m1 := hG.m1 hGl
  have hv := hG.v 0
  by_cases z : (G.getD 0 (0, 0)).1 = 6
  · obtain ⟨o, q, e1, e2, o2, q26, hq, e3, e4⟩ := h.pov hv z
    obtain ⟨k, k5, s1, s2, qn, _⟩ := h.stt hq
    obtain ⟨b1, b2, b3⟩ := c_bgn σ
    obtain ⟨d2, d3⟩ := m_bgn τ
    have hA := h.sc (cAd_z b3) (mAd_z d3)
    obtain ⟨σ', t1, t2, t3⟩ := c_w (lj_put σ 3 6 0) (r := 1031 + k) (by omega) (by omega) b2 (by decide)
    obtain ⟨τ', u1, u2, u3⟩ := m_copyB hA.2.1 (s := 29 + k) (by omega) d2 (by decide)
    rw [List.nil_append] at t2 u2
    rw [(st_eq k k5).1] at u2
    obtain ⟨τ2, p1, p2⟩ := bi_mk D ry hwk ha (hA.sc (cAd_z t3) (mAd_z u3)) ((cAd_b b3).tr (cAd_b t3)) ((mAd_b d3).tr (mAd_b u3)) t2 u2 (st_eq k k5).2 (by omega) (by omega) hX 29
    have w4 := (m_wants hG (by omega) (i := 0) (by omega) 6 29).1 (by rw [e2])
    have w4 : lj_R lm_P 198 [.ref 0, .int 1, .int 6, .int 29] τ = some (.inl (some (.int 1)), τ) := w4
    rw [e1] at c0
    rw [e2] at m1
    have iq : lj_in (Int32.ofNat q) 26 := ofN_in (by omega) (by omega)
    have nq : (Int32.ofNat q).toNatClampNeg = q := lz_onat (by omega)
    have nx : (29 : Int32) + Int32.ofNat k = Int32.ofNat (29 + k) := by rw [show (29 : Int32) = Int32.ofNat 29 from rfl, ← Int32.ofNat_add]
    have r872 : ∀ (s : lj_S) (x4 : Int32), lj_D lc_P lc_M187 872 [.ref 8, .int 29, .int as, .int line, .int x4, .retAddr 0, .retAddr 0, .retAddr 0, .retAddr 0, .retAddr 0] [.ref (1031 + k), .ref 3] (lj_put σ 3 6 0) = lj_bi (lj_R lc_P 136 [.ref 8] σ') (fun y s => finC (lj_R lc_P 164 [.ref 8, .int 29, .int 3, .long y.toInt64, .int as] s)) lj_up := fun s x4 => by
      rw [kc_187_872, t1, bv_ok]
      simp only [kc_187_919]
      rfl
    have r803 : lj_D lc_P lc_M187 803 [.ref 8, .int 29, .int as, .int line, .retAddr 0, .retAddr 0, .retAddr 0, .retAddr 0, .retAddr 0, .retAddr 0] [.int (Int32.ofNat k)] σ = lj_bi (lj_R lc_P 136 [.ref 8] σ') (fun y s => finC (lj_R lc_P 164 [.ref 8, .int 29, .int 3, .long y.toInt64, .int as] s)) lj_up := by
      rw [kc_187_803, b1, bv_ok]
      have kk : k = 0 ∨ k = 1 ∨ k = 2 ∨ k = 3 ∨ k = 4 := by omega
      rcases kk with rfl | rfl | rfl | rfl | rfl
      · rw [if_pos (by decide)]; exact r872 σ _
      · rw [if_neg (by decide), if_pos (by decide)]; exact r872 σ _
      · rw [if_neg (by decide), if_neg (by decide), if_pos (by decide)]; exact r872 σ _
      · rw [if_neg (by decide), if_neg (by decide), if_neg (by decide), if_pos (by decide)]; exact r872 σ _
      · rw [if_neg (by decide), if_neg (by decide), if_neg (by decide), if_neg (by decide)]; exact r872 σ _
    refine ⟨τ2, mb_more (by decide) ?_, ?_⟩
    · rw [rm_221, km_221_0, if_neg (by decide), if_neg (by decide), if_neg (by decide), if_neg (by decide), if_neg (by decide), if_neg (by decide), if_neg (by decide), if_neg (by decide), if_neg (by decide), if_neg (by decide), if_neg (by decide), if_neg (by decide), if_pos rfl, w4, bi_ok, if_neg (by decide), m1.2, bl_ok, e4, bi_ok, if_pos iq, nq, s2, nx, rm_193, km_193_0, u1, bv_ok, p1, bv_ok, bv_ok, km_221_215]
    · rw [cb_more (by decide) (by decide), rc_187, kc_187_0, if_neg (by decide), if_neg (by decide), if_neg (by decide), if_neg (by decide), if_neg (by decide), if_neg (by decide), if_neg (by decide), if_neg (by decide), if_neg (by decide), if_neg (by decide), if_neg (by decide), if_neg (by decide), if_pos rfl, c0.1, bi_ok, if_pos rfl, kc_187_756, nd_ok _ (by decide), bv_ok, c0.2, bl_ok]
      rcases e3 with ⟨rfl, rfl⟩ | ⟨o0, q0, f1, f2⟩
      · have z0 : (0 : Int32).toNatClampNeg = 0 := by decide
        rw [if_pos (show lg_cmp ((6 : Int32), i64 0).2 0 = 0 by decide), if_pos (by decide), z0, s1, r803]
        exact p2.fin
      · have ne : ¬ (lg_cmp (i64 o) 0 = 0) := fun z => by
          have z := (lg_eq0 _ _).1 z
          exact o0 (i64_inj (n := o) (m := 0) (by omega) (by omega) z)
        have io : lj_in (Int32.ofNat o) 2001 := ofN_in (by omega) (by omega)
        have no : (Int32.ofNat o).toNatClampNeg = o := lz_onat (by omega)
        rw [if_neg ne, c0.2, bl_ok]
        simp only [i64_32, if_pos io, no, f1, if_pos iq, nq, s1]
        rw [r803]
        exact p2.fin
  · have z' : ¬ ((G'.getD 0 (0, 0)).1 = 6) := fun y => z ((hv.kk (by decide) (by decide)).2 y)
    obtain ⟨σ', τ', q1, q2, q3⟩ := nd_bad h.2.1 hln 1 (w := 29) (by decide)
    have q1 : lj_R lc_P 168 [.ref 8, .int 0, .int 1, .int 29, .int line] σ = some (.inr 2, σ') := q1
    have w4 := (m_wants hG (by omega) (i := 0) (by omega) 6 29).2 z' τ' q2
    have w4 : lj_R lm_P 198 [.ref 0, .int 1, .int 6, .int 29] τ = some (.inl (some (.int 0)), τ') := w4
    refine ⟨τ', mb_more (by decide) ?_, ?_⟩
    · rw [rm_221, km_221_0, if_neg (by decide), if_neg (by decide), if_neg (by decide), if_neg (by decide), if_neg (by decide), if_neg (by decide), if_neg (by decide), if_neg (by decide), if_neg (by decide), if_neg (by decide), if_neg (by decide), if_neg (by decide), if_pos rfl, w4, bi_ok, if_pos rfl, km_221_215]
    · rw [cb_more (by decide) (by decide), rc_187, kc_187_0, if_neg (by decide), if_neg (by decide), if_neg (by decide), if_neg (by decide), if_neg (by decide), if_neg (by decide), if_neg (by decide), if_neg (by decide), if_neg (by decide), if_neg (by decide), if_neg (by decide), if_neg (by decide), if_pos rfl, c0.1, bi_ok, if_neg z, kc_187_756, q1, bv_th]
      exact (bt_er ry hwk h (lf_rf _ _) (lf_rf _ _) q3 (by omega)).fin
theorem bi_30 {σ0 τ0 σ τ : lj_S} {n np p : Nat} {r : List Nat} {FP : Nat → List kF} {ρ : Nat → Nat} {A MO LA : List Nat} {M : Nat} (D : DLV σ0 τ0 M) (h : MB σ0 τ0 n np p r FP ρ A MO LA σ τ) (ry : ryR σ τ) (hwk : wkR FP (p :: r) A σ) {as line : Int32} (ht : τ.1 0 129 = 1) (ha : awR σ0 (FP p) as (τ.1 0 130) (τ.1 0 131)) (hln : τ.1 0 132 = line) {G G' : List vT} (hG : gwR σ τ G G') (hGl : G.length ≤ 49) (hM : thM FP (p :: r) MO LA + 5001 ≤ M) {X : Nat} (hX : X ≤ TH) (hT : thM FP (p :: r) MO LA + 5001 ≤ X) : ∃ τ1, lj_R lm_P 187 [.ref 0, .int 30] τ = some (.inl none, τ1) ∧ ocR σ0 τ0 A (fun t => t ≤ X) σ τ1 (lj_R lc_P 159 [.ref 8, .int 30, .int as, .int line] σ) := by
  obtain ⟨e1, e2, e3, d1, d2, d3, d4, d5, d6, d7, d8, d9⟩ := h.2.2.2.2.2.2.1
  have pn := d3 p List.mem_cons_self
  have np25 := e1.2.2
  have i7 : lj_in (σ.1 8 7) 26 := by rw [e2.1]; exact ofN_in (by omega) (by omega)
  have n7 : (σ.1 8 7).toNatClampNeg = p := by rw [e2.1]; exact lz_onat (by omega)
  have i111 : lj_in (τ.1 0 111) 26 := by rw [e2.2]; exact ofN_in (by omega) (by omega)
  have n111 : (τ.1 0 111).toNatClampNeg = p := by rw [e2.2]; exact lz_onat (by omega)
  by_cases z : p = 0
  · obtain ⟨τ2, q1, q2⟩ := bi_one D ry hwk ha h (lf_rf _ _) (lf_rf _ _) (u := (6, i64 0)) (w := (6, i64 0)) (Or.inr (Or.inr (Or.inr (Or.inl ⟨0, 6, Or.inr (Or.inr rfl), rfl, rfl, Or.inl ⟨rfl, rfl⟩⟩)))) (by omega) (by omega) hX 30
    have c7 : σ.1 8 7 = 0 := by rw [e2.1, z]; rfl
    have m59 : τ.1 59 (τ.1 0 111).toNatClampNeg = Int32.ofNat 0 := by rw [n111, z]; exact d7
    refine ⟨τ2, mb_more (by decide) ?_, ?_⟩
    · rw [rm_221, km_221_0, if_neg (by decide), if_neg (by decide), if_neg (by decide), if_neg (by decide), if_neg (by decide), if_neg (by decide), if_neg (by decide), if_neg (by decide), if_neg (by decide), if_neg (by decide), if_neg (by decide), if_neg (by decide), if_neg (by decide), if_pos rfl, if_pos i111, m59]
      exact (congrArg (fun o => lj_bv o (fun σ20 => lj_D lm_P lm_M221 215 [.ref 0, .int 30] [] σ20) lj_up) q1).trans (by rw [bv_ok, km_221_215])
    · rw [cb_more (by decide) (by decide), rc_187, kc_187_0, if_neg (by decide), if_neg (by decide), if_neg (by decide), if_neg (by decide), if_neg (by decide), if_neg (by decide), if_neg (by decide), if_neg (by decide), if_neg (by decide), if_neg (by decide), if_neg (by decide), if_neg (by decide), if_neg (by decide), if_pos c7, kc_187_915]
      simp only [kc_187_919]
      exact q2.fin.fin
  · obtain ⟨o, o1, o2, o3, o4, o5⟩ := d8.1 p (by omega) pn
    have ob := o5.1 (by rw [h.2.2.2.2.2.2.1.2.2.1.2]; decide)
    obtain ⟨τ2, q1, q2⟩ := bi_one D ry hwk ha h (lf_rf _ _) (lf_rf _ _) (vR_ob (Or.inr (Or.inr rfl)) ob) (by omega) (by omega) hX 30
    have c7 : ¬ (σ.1 8 7 = 0) := fun y => by
      rw [e2.1] at y
      exact z ((ofN_eq (c := 0) (by omega) (by omega)).1 y)
    have m59 : τ.1 59 (τ.1 0 111).toNatClampNeg = Int32.ofNat o := by rw [n111]; exact o4
    have c85 : σ.1 85 (σ.1 8 7).toNatClampNeg = Int32.ofNat o := by rw [n7]; exact o3
    refine ⟨τ2, mb_more (by decide) ?_, ?_⟩
    · rw [rm_221, km_221_0, if_neg (by decide), if_neg (by decide), if_neg (by decide), if_neg (by decide), if_neg (by decide), if_neg (by decide), if_neg (by decide), if_neg (by decide), if_neg (by decide), if_neg (by decide), if_neg (by decide), if_neg (by decide), if_neg (by decide), if_pos rfl, if_pos i111, m59]
      exact (congrArg (fun o => lj_bv o (fun σ20 => lj_D lm_P lm_M221 215 [.ref 0, .int 30] [] σ20) lj_up) q1).trans (by rw [bv_ok, km_221_215])
    · rw [cb_more (by decide) (by decide), rc_187, kc_187_0, if_neg (by decide), if_neg (by decide), if_neg (by decide), if_neg (by decide), if_neg (by decide), if_neg (by decide), if_neg (by decide), if_neg (by decide), if_neg (by decide), if_neg (by decide), if_neg (by decide), if_neg (by decide), if_neg (by decide), if_neg c7, if_pos i7, c85, kc_187_915]
      simp only [kc_187_919]
      exact q2.fin.fin
