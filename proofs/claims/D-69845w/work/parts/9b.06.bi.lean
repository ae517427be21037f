/-! what is built in: a metatable is set -/
theorem bi_12 {σ0 τ0 σ τ : lj_S} {n np p : Nat} {r : List Nat} {FP : Nat → List kF} {ρ : Nat → Nat} {A MO LA : List Nat} {M : Nat} (D : DLV σ0 τ0 M) (h : MB σ0 τ0 n np p r FP ρ A MO LA σ τ) (ry : ryR σ τ) (hwk : wkR FP (p :: r) A σ) {as line : Int32} (ht : τ.1 0 129 = 1) (ha : awR σ0 (FP p) as (τ.1 0 130) (τ.1 0 131)) (hln : τ.1 0 132 = line) {G G' : List vT} (hG : gwR σ τ G G') (hGl : G.length ≤ 49) (hM : thM FP (p :: r) MO LA + 5001 ≤ M) {X : Nat} (hX : X ≤ TH) (hT : thM FP (p :: r) MO LA + 5001 ≤ X) : ∃ τ1, lj_R lm_P 187 [.ref 0, .int 12] τ = some (.inl none, τ1) ∧ ocR σ0 τ0 A (fun t => t ≤ X) σ τ1 (lj_R lc_P 159 [.ref 8, .int 12, .int as, .int line] σ) := by
  have c1 := hG.c1 hGl
  have m1 := hG.m1 hGl
  have m2 := hG.m2 hGl
  have hv := hG.v 1
  have rC : ∀ {x : Option lj_O}, lj_R lc_P 172 [.ref 8, .int line, .int as] σ = x → lj_R lc_P 159 [.ref 8, .int 12, .int as, .int line] σ = finC x := fun e => by
    rw [rc_159, kc_159_0, if_neg (by decide), if_neg (by decide), if_neg (by decide), if_neg (by decide), if_neg (by decide), if_neg (by decide), if_neg (by decide), if_neg (by decide), if_neg (by decide), if_neg (by decide), if_neg (by decide), if_neg (by decide), if_pos rfl, e]
    simp only [kc_159_901]
    rfl
  have rM : ∀ {τx : lj_S}, lj_R lm_P 202 [.ref 0] τ = some (.inl none, τx) → lj_R lm_P 187 [.ref 0, .int 12] τ = some (.inl none, τx) := fun e => by
    rw [rm_187, km_187_0, if_neg (by decide), if_neg (by decide), if_neg (by decide), if_neg (by decide), if_neg (by decide), if_neg (by decide), if_neg (by decide), if_neg (by decide), if_neg (by decide), if_neg (by decide), if_neg (by decide), if_neg (by decide), if_pos rfl, e, bv_ok, km_187_308]
  rcases bi_tab h.2.1 h.2.2.2.1 hG (by omega) hln (w := 12) (by decide) with ⟨o, ob, on, e1, e2, e3, e4⟩ | ⟨σ', τ', q1, q2, q3⟩
  · have e3 : lj_R lc_P 167 [.ref 8, .int 0, .int 12, .int line] σ = some (.inl (some (.int (Int32.ofNat o))), σ) := e3
    have e4 : lj_R lm_P 198 [.ref 0, .int 1, .int 4, .int 12] τ = some (.inl (some (.int 1)), τ) := e4
    rw [e2] at m1
    have o1 := ob.1
    have o2 := ob.2.1
    have it : lj_in (Int32.ofNat o) 2001 := ofN_in (by omega) (by omega)
    have im : lj_in (Int32.ofNat o) 2002 := ofN_in (by omega) (by omega)
    have no : (Int32.ofNat o).toNatClampNeg = o := lz_onat (by omega)
    -- from the place where the metatable is written
    have main : ∀ (x y : Int32), (x = -1 ∧ y = 0 ∨ ∃ m : Nat, obA σ τ m 4 ∧ x = Int32.ofNat m ∧ y = Int32.ofNat m) → ∃ τ1, lj_D lm_P lm_M202 67 [.ref 0, .int (Int32.ofNat o)] [.int y, .int (Int32.ofNat o), .ref 39] τ = some (.inl none, τ1) ∧ ocR σ0 τ0 A (fun t => t ≤ X) σ τ1 (lj_D lc_P lc_M172 68 [.ref 8, .int line, .int as, .int (Int32.ofNat o)] [.int x, .int (Int32.ofNat o), .ref 58] σ) := fun x y hx => by
      have hA := h.meta ob hx
      have obA' : obA (lj_put σ 58 o x) (lj_put τ 39 o y) o 4 := ⟨ob.1, ob.2.1, by rw [lv_put, if_neg (by omega)]; exact ob.2.2.1, by rw [lj_put_1, if_neg (by omega)]; exact ob.2.2.2.1, by rw [lj_put_1, if_neg (by omega)]; exact ob.2.2.2.2⟩
      obtain ⟨u, w, a1, a2, a3⟩ := cm_event hA.2.1.1 hA.2.2.2.1 hA.2.2.2.2.1 (vR_ob (Or.inl rfl) obA') (hA.2.2.1.1 20 (by decide))
      have n20 : (20 : Int32).toNatClampNeg = 20 := by decide
      have s78 : (lj_put σ 58 o x).1 78 20 = σ.1 78 20 := by rw [lj_put_1, if_neg (by omega)]
      rw [s78] at a2
      have a2 : lj_R lc_P 118 [.ref 7, .int 4, .long (Int32.ofNat o).toInt64, .int (σ.1 78 20)] (lj_put σ 58 o x) = _ := a2
      have a3 : lj_R lm_P 130 [.ref 0, .int 4, .long (Int32.ofNat o).toInt64, .int 20] (lj_put τ 39 o y) = _ := a3
      have a2' : lj_R lc_P 118 [.ref 7, .int 4, .long (Int32.ofNat o).toInt64, .int (σ.1 78 (20 : Int32).toNatClampNeg)] (lj_put σ 58 (Int32.ofNat o).toNatClampNeg x) = some (.inl (some (.int (if u.1 = 0 then 0 else 1))), fdC (lj_put σ 58 o x) u) := by rw [no, n20]; exact a2
      have a3' : lj_R lm_P 130 [.ref 0, .int 4, .long (Int32.ofNat o).toInt64, .int 20] (lj_put τ 39 (Int32.ofNat o).toNatClampNeg y) = some (.inl none, fdM (lj_put τ 39 o y) w) := by rw [no]; exact a3
      have hB := hA.fd u w
      have f3 : (fdM (lj_put τ 39 o y) w).1 0 90 = w.1 := by rw [fdM_1, if_pos ⟨rfl, rfl⟩]
      have lb1 : lf bfC σ (fdC (lj_put σ 58 o x) u) := (lf_put (lf_rf bfC σ) 58 o x rfl).tr (lf_fdC _ u)
      have lb2 : lf bfM τ (fdM (lj_put τ 39 o y) w) := (lf_put (lf_rf bfM τ) 39 o y rfl).tr (lf_fdM _ w)
      have obB : obA (fdC (lj_put σ 58 o x) u) (fdM (lj_put τ 39 o y) w) o 4 := ⟨obA'.1, obA'.2.1, by unfold lv; rw [fdC_1, if_neg (by omega)]; exact obA'.2.2.1, by rw [fdC_1, if_neg (by omega)]; exact obA'.2.2.2.1, by rw [fdM_1, if_neg (by omega)]; exact obA'.2.2.2.2⟩
      have plain : ∀ (r1 : lj_D lm_P lm_M202 67 [.ref 0, .int (Int32.ofNat o)] [.int y, .int (Int32.ofNat o), .ref 39] τ = lj_D lm_P lm_M202 115 [.ref 0, .int (Int32.ofNat o)] [] (fdM (lj_put τ 39 o y) w)) (r2 : lj_D lc_P lc_M172 68 [.ref 8, .int line, .int as, .int (Int32.ofNat o)] [.int x, .int (Int32.ofNat o), .ref 58] σ = lj_D lc_P lc_M172 137 [.ref 8, .int line, .int as, .int (Int32.ofNat o)] [] (fdC (lj_put σ 58 o x) u)), ∃ τ1, lj_D lm_P lm_M202 67 [.ref 0, .int (Int32.ofNat o)] [.int y, .int (Int32.ofNat o), .ref 39] τ = some (.inl none, τ1) ∧ ocR σ0 τ0 A (fun t => t ≤ X) σ τ1 (lj_D lc_P lc_M172 68 [.ref 8, .int line, .int as, .int (Int32.ofNat o)] [.int x, .int (Int32.ofNat o), .ref 58] σ) := fun r1 r2 => by
        obtain ⟨τ2, p1, p2⟩ := bi_one D ry hwk ha hB lb1 lb2 (vR_ob (Or.inl rfl) obB) (by omega) (by omega) hX 12
        have p1 : lj_R lm_P 195 [.ref 0, .int 4, .long (Int32.ofNat o).toInt64] (fdM (lj_put τ 39 o y) w) = some (.inl none, τ2) := p1
        refine ⟨τ2, by rw [r1, km_202_115, p1, bv_ok], ?_⟩
        rw [r2, kc_172_137]
        exact p2.fin
      by_cases u0 : u.1 = 0
      · have w0 : w.1 = 0 := a1.k0.1 u0
        refine plain ?_ ?_
        · rw [km_202_67, if_pos im, a3', bv_ok, if_pos (by rw [f3]; exact w0)]
        · rw [kc_172_68, if_pos it, if_pos (by decide), a2', bi_ok, if_pos (by rw [if_pos u0])]
      · have w0 : ¬ (w.1 = 0) := fun q => u0 (a1.k0.2 q)
        by_cases q65 : (fdC (lj_put σ 58 o x) u).1 65 o = 0
        · have hTT : LA.headD 0 + 1 < 4611686018427387904 := by
            have t1 : thM FP (p :: r) MO LA = LA.headD 0 + gaM MO LA + thA FP (p :: r) := rfl
            unfold TH at hX
            omega
          obtain ⟨k1, k2, k3, k4⟩ := hB.mrk obB hTT q65
          have i53 : lj_in ((fdC (lj_put σ 58 o x) u).1 8 53) 2001 := by rw [k2]; exact ofN_in (by omega) (by omega)
          have n53 : ((fdC (lj_put σ 58 o x) u).1 8 53).toNatClampNeg = MO.length := by rw [k2]; exact lz_onat (by omega)
          have g1 : gaM (MO ++ [o]) ((LA.headD 0 + 1) :: LA.tail) = gaM MO LA + 5000 := by
            show 5000 * (LA.tail.length + (MO ++ [o]).length) + 2 * LA.tail.length = 5000 * (LA.tail.length + MO.length) + 2 * LA.tail.length + 5000
            rw [List.length_append]
            show 5000 * (LA.tail.length + (MO.length + 1)) + 2 * LA.tail.length = _
            omega
          have g2 : thM FP (p :: r) (MO ++ [o]) ((LA.headD 0 + 1) :: LA.tail) = thM FP (p :: r) MO LA + 5001 := by
            show (LA.headD 0 + 1) + gaM (MO ++ [o]) ((LA.headD 0 + 1) :: LA.tail) + thA FP (p :: r) = LA.headD 0 + gaM MO LA + thA FP (p :: r) + 5001
            rw [g1]
            omega
          obtain ⟨σ3, hσ3⟩ : ∃ σ3, σ3 = lj_put (lj_put (lj_put (fdC (lj_put σ 58 o x) u) 65 o 1) 8 53 (Int32.ofNat (MO.length + 1))) 110 MO.length (Int32.ofNat o) := ⟨_, rfl⟩
          obtain ⟨τ3, hτ3⟩ : ∃ τ3, τ3 = lj_putL (lj_putL (fdM (lj_put τ 39 o y) w) 0 78 ((fdM (lj_put τ 39 o y) w).2 0 78 + 1)) 42 o ((fdM (lj_put τ 39 o y) w).2 0 78 + 1) := ⟨_, rfl⟩
          rw [← hσ3, ← hτ3] at k4
          have l3 : lf bfC σ σ3 := lb1.tr (by rw [hσ3]; exact lf_put (lf_put (lf_put (lf_rf _ _) _ _ _ rfl) _ _ _ rfl) _ _ _ rfl)
          have l4 : lf bfM τ τ3 := lb2.tr (by rw [hτ3]; exact lf_putL (lf_putL (lf_rf _ _) _ _ _ rfl) _ _ _ rfl)
          have ob3 : obA σ3 τ3 o 4 := ⟨obB.1, obB.2.1, by rw [hσ3]; unfold lv; rw [lj_put_1, if_neg (by omega), lj_put_1, if_neg (by omega), lj_put_1, if_neg (by omega)]; exact obB.2.2.1, by rw [hσ3, lj_put_1, if_neg (by omega), lj_put_1, if_neg (by omega), lj_put_1, if_neg (by omega)]; exact obB.2.2.2.1, by rw [hτ3]; exact obB.2.2.2.2⟩
          obtain ⟨τ2, p1, p2⟩ := bi_one D ry hwk ha k4 l3 l4 (vR_ob (Or.inl rfl) ob3) (by rw [g2]; exact hM) (by rw [g2]; exact hT) hX 12
          have p1 : lj_R lm_P 195 [.ref 0, .int 4, .long (Int32.ofNat o).toInt64] τ3 = some (.inl none, τ2) := p1
          refine ⟨τ2, ?_, ?_⟩
          · rw [km_202_67, if_pos im, a3', bv_ok, if_neg (by rw [f3]; exact w0), if_pos im, if_pos ((lg_eq0 _ _).2 (by rw [no]; exact k1)), if_pos im, no, ← hτ3, km_202_115, p1, bv_ok]
          · rw [kc_172_68, if_pos it, if_pos (by decide), a2', bi_ok, if_neg (by rw [if_neg u0]; decide), if_pos it, if_pos (by rw [no]; exact q65), if_pos it, if_pos i53, n53, no, k2, lz_osucc]
            have b1 : (vp_nar .boolean 1 : Int32) = 1 := by decide
            rw [b1, ← hσ3, kc_172_137]
            exact p2.fin
        · obtain ⟨⟨_, _, _, _, _, _, a7'⟩, _⟩ := hB.2.2.2.2.2.2.2.2.2.2.1
          obtain ⟨s1, s2⟩ := (a7' o obB.1 on).1 obB.2.2.2.1
          have q42 : ¬ (lg_cmp ((fdM (lj_put τ 39 o y) w).2 42 o) 0 = 0) := fun e => s2.1 (s1.2 q65) ((lg_eq0 _ _).1 e)
          refine plain ?_ ?_
          · rw [km_202_67, if_pos im, a3', bv_ok, if_neg (by rw [f3]; exact w0), if_pos im, if_neg (by rw [no]; exact q42)]
          · rw [kc_172_68, if_pos it, if_pos (by decide), a2', bi_ok, if_neg (by rw [if_neg u0]; decide), if_pos it, if_neg (by rw [no]; exact q65)]
    by_cases z0 : (G.getD 1 (0, 0)).1 = 0
    · have z0' : (G'.getD 1 (0, 0)).1 = 0 := hv.k0.1 z0
      obtain ⟨τ1, p1, p2⟩ := main (-1) 0 (Or.inl ⟨rfl, rfl⟩)
      refine ⟨τ1, rM ?_, ?_⟩
      · rw [rm_202, km_202_0, e4, bi_ok, if_neg (by decide), m2.1, bi_ok, if_pos z0', km_202_37, m1.2, bl_ok, m2.1, bi_ok, if_pos z0']
        simp only [i64_32]
        exact p1
      · rw [rC rfl, rc_172, kc_172_0, e3, bi_ok, c1.1, bi_ok, if_pos z0, kc_172_27, kc_172_32, nd_ok _ (by decide), bv_ok, c1.1, bi_ok, if_pos z0]
        exact p2.fin
    · have z0' : ¬ ((G'.getD 1 (0, 0)).1 = 0) := fun q => z0 (hv.k0.2 q)
      by_cases z4 : (G.getD 1 (0, 0)).1 = 4
      · obtain ⟨m, f1, f2, ma⟩ := hv.tb z4
        obtain ⟨τ1, p1, p2⟩ := main (Int32.ofNat m) (Int32.ofNat m) (Or.inr ⟨m, ma, rfl, rfl⟩)
        rw [f1] at c1
        rw [f2] at m2
        refine ⟨τ1, rM ?_, ?_⟩
        · rw [rm_202, km_202_0, e4, bi_ok, if_neg (by decide), m2.1, bi_ok, if_neg (by dsimp only; decide), m2.1, bi_ok, if_pos rfl, km_202_37, m1.2, bl_ok, m2.1, bi_ok, if_neg (by dsimp only; decide), m2.2, bl_ok]
          simp only [i64_32]
          exact p1
        · rw [rC rfl, rc_172, kc_172_0, e3, bi_ok, c1.1, bi_ok, if_neg (by dsimp only; decide), c1.1, bi_ok, if_pos rfl, kc_172_27, kc_172_32, nd_ok _ (by decide), bv_ok, c1.1, bi_ok, if_neg (by dsimp only; decide), c1.2, bl_ok]
          simp only [i64_32]
          exact p2.fin
      · have z4' : ¬ ((G'.getD 1 (0, 0)).1 = 4) := fun q => z4 ((hv.kk (by decide) (by decide)).2 q)
        obtain ⟨σ', τ', q1, q2, q3⟩ := nd_bad h.2.1 hln 2 (w := 12) (by decide)
        have q1 : lj_R lc_P 168 [.ref 8, .int 0, .int 2, .int 12, .int line] σ = some (.inr 2, σ') := q1
        have q2 : lj_R lm_P 199 [.ref 0, .int 2, .int 12] τ = some (.inl none, τ') := q2
        refine ⟨τ', rM ?_, ?_⟩
        · rw [rm_202, km_202_0, e4, bi_ok, if_neg (by decide), m2.1, bi_ok, if_neg z0', m2.1, bi_ok, if_neg z4', q2, bv_ok]
        · rw [rC rfl, rc_172, kc_172_0, e3, bi_ok, c1.1, bi_ok, if_neg z0, c1.1, bi_ok, if_neg z4, kc_172_32, q1, bv_th]
          exact (bt_er ry hwk h (lf_rf _ _) (lf_rf _ _) q3 (by omega)).fin
  · have q2 : lj_R lc_P 167 [.ref 8, .int 0, .int 12, .int line] σ = some (.inr 2, σ') := q2
    have q3 : lj_R lm_P 198 [.ref 0, .int 1, .int 4, .int 12] τ = some (.inl (some (.int 0)), τ') := q3
    refine ⟨τ', rM ?_, ?_⟩
    · rw [rm_202, km_202_0, q3, bi_ok, if_pos rfl]
    · rw [rC rfl, rc_172, kc_172_0, q2, bi_th]
      exact (bt_er ry hwk h (lf_rf _ _) (lf_rf _ _) q1 (by omega)).fin
