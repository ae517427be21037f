/-! what is built in: the gathering, joined -/
theorem tk_no {σ τ : lj_S} {n np : Nat} (ob : obR σ τ n) (l70 : lv σ 7 0 = (n : Int)) (hn : n ≤ 2000) (np25 : np ≤ 25) (d82 : ∀ o, obA σ τ o 6 → ∃ q : Nat, 1 ≤ q ∧ q ≤ np ∧ σ.1 64 o = Int32.ofNat q ∧ σ.1 85 q = Int32.ofNat o) {T : Nat → Bool} {q : Nat} (hq : q < 26) (hR : ∀ o : Nat, 1 ≤ q → σ.1 85 q = Int32.ofNat o → 1 ≤ o → o ≤ n → T o = true) : ¬ tkP n T τ 1 q := fun ⟨u, u1, u2, u3, u4, u5⟩ => by
  have o6 : σ.1 57 u = 6 := by rw [(ob.2 u u1 u2).1.1]; exact u4
  obtain ⟨q', q1, q2, q3, q4⟩ := (ob.2 u u1 u2).2.2.2 o6
  have e : q' = q := (ofN_eq (by omega) (by omega)).1 (by rw [← q4, u5])
  obtain ⟨q'', y1, y2, y3, y4⟩ := d82 u ⟨u1, by omega, by rw [l70]; omega, o6, u4⟩
  have e' : q'' = q := by
    rw [q3] at y3
    have := (ofN_eq (by omega) (by omega)).1 y3
    omega
  rw [e'] at y1 y4
  rw [hR u y1 y4 u1 u2] at u3
  cases u3
theorem fnX_cg {σ0 σ τ σ' τ' : lj_S} (c : ∀ k j, k = 57 ∨ k = 62 ∨ k = 63 ∨ k = 74 ∨ k = 75 ∨ k = 76 ∨ k = 77 ∨ k = 79 ∨ k = 80 ∨ k = 7 ∧ j = 0 → σ'.1 k j = σ.1 k j ∧ σ'.2 k j = σ.2 k j) (m : ∀ j, τ'.1 38 j = τ.1 38 j) {o x : Nat} (h : fnX σ0 σ τ o x) : fnX σ0 σ' τ' o x := by
  have ec : ∀ j, cv σ' j = cv σ j := fun j => by unfold cv; rw [(c 79 j (by omega)).1, (c 80 j (by omega)).2]
  have va : ∀ x, vaC σ' x = vaC σ x := fun x => by unfold vaC; rw [ec, (c 75 _ (by omega)).1, (c 76 _ (by omega)).2]
  have lo : ∀ x, loC σ' x = loC σ x := fun x => by unfold loC lv; rw [(c 74 x (by omega)).1]
  have oa : ∀ o k, obA σ' τ' o k ↔ obA σ τ o k := fun o k => by unfold obA lv; rw [(c 7 0 (by omega)).1, (c 57 o (by omega)).1, m]
  have e62 : ∀ j, σ'.1 62 j = σ.1 62 j := fun j => (c 62 j (by omega)).1
  have e63 : ∀ j, σ'.1 63 j = σ.1 63 j := fun j => (c 63 j (by omega)).1
  have e77 : ∀ j, σ'.1 77 j = σ.1 77 j := fun j => (c 77 j (by omega)).1
  unfold fnX cpO at h ⊢
  simp only [va, lo, oa, e62, e63, e77]
  exact h
theorem bi_16 {σ0 τ0 σ τ : lj_S} {n np p : Nat} {r : List Nat} {FP : Nat → List kF} {ρ : Nat → Nat} {A MO LA : List Nat} {M Fn : Nat} (fx : FR σ0 τ0 Fn) (h38 : sh38 σ0) (NL : ∀ k, NLA σ0 τ0 (M + 5001) k) (h : MB σ0 τ0 n np p r FP ρ A MO LA σ τ) (ry : ryR σ τ) (hwk : wkR FP (p :: r) A σ) {as line : Int32} (ha : awR σ0 (FP p) as (τ.1 0 130) (τ.1 0 131)) (hln : τ.1 0 132 = line) (hM : thM FP (p :: r) MO LA ≤ M) (hT : thM FP (p :: r) MO LA + 5001 ≤ TH) : ∃ τ1, lj_R lm_P 187 [.ref 0, .int 16] τ = some (.inl none, τ1) ∧ ocR σ0 τ0 A (fun t => t ≤ thM FP (p :: r) MO LA + 5001) σ τ1 (lj_R lc_P 159 [.ref 8, .int 16, .int as, .int line] σ) := by
  have h7 := h.2.2.2.2.2.2.1
  have hp : p ≤ np := h7.2.2.2.2.2.1 p List.mem_cons_self
  have np25 := h7.1.2.2
  have hpr : p ∉ r := (List.nodup_cons.1 h7.2.2.2.2.1).1
  obtain ⟨ce, me, mq, hpa⟩ := h.2.2.2.2.2.2.2.1 p hp (by rw [h7.2.2.1.2]; decide)
  obtain ⟨p1, ⟨p2, p3, p4, p5⟩, p6, p7, p8, p9, p10, p11⟩ := hpa
  rw [if_pos rfl] at p6
  have s7 : σ.1 8 7 = Int32.ofNat p := h7.2.1.1
  have i111 : lj_in (τ.1 0 111) 26 := by rw [h7.2.1.2]; exact ofN_in (by omega) (by omega)
  have n111 : (τ.1 0 111).toNatClampNeg = p := by rw [h7.2.1.2]; exact lz_onat (by omega)
  have rM : ∀ {τx : lj_S}, lj_R lm_P 206 [.ref 0] τ = some (.inl none, τx) → lj_R lm_P 187 [.ref 0, .int 16] τ = some (.inl none, τx) := fun e => by
    rw [rm_187, km_187_0, if_neg (by decide), if_neg (by decide), if_neg (by decide), if_neg (by decide), if_neg (by decide), if_neg (by decide), if_neg (by decide), if_neg (by decide), if_neg (by decide), if_neg (by decide), if_neg (by decide), if_neg (by decide), if_neg (by decide), if_neg (by decide), if_neg (by decide), if_neg (by decide), if_pos rfl, e, bv_ok, km_187_308]
  by_cases full : (FP p).length = 20
  · obtain ⟨σ', τ', e1, e2, e3⟩ := x_full h.2.1 2 as line s7 (by omega) (by rw [p7, full]; rfl)
    refine ⟨τ', rM ?_, ?_⟩
    · rw [rm_206, km_206_0, if_pos i111, if_pos (by rw [n111, p11, full]; rfl), hln, e2, bv_ok]
    · rw [rc_159, kc_159_0, if_neg (by decide), if_neg (by decide), if_neg (by decide), if_neg (by decide), if_neg (by decide), if_neg (by decide), if_neg (by decide), if_neg (by decide), if_neg (by decide), if_neg (by decide), if_neg (by decide), if_neg (by decide), if_neg (by decide), if_neg (by decide), if_neg (by decide), if_neg (by decide), if_pos rfl, rc_175, kc_175_0, e1, bv_th, bv_th]
      exact bt_er ry hwk h (lf_rf _ _) (lf_rf _ _) e3 (Nat.add_le_add_left (by decide) _)
  · obtain ⟨L, hL⟩ : ∃ L, L = FP p := ⟨_, rfl⟩
    have hl : L.length < 20 := by rw [hL]; omega
    have s90 : σ.1 90 p = Int32.ofNat L.length := by rw [hL]; exact p7
    obtain ⟨σ1, e1, ⟨e34, e90, e91, e98, e99, e95⟩, e2⟩ := c_frm 2 as line s7 (by omega) s90 hl
    obtain ⟨σ2, hσ2⟩ : ∃ σ2, σ2 = lj_put (lj_put σ1 100 (20 * p + L.length) (σ1.1 8 33)) 102 (20 * p + L.length) 0 := ⟨_, rfl⟩
    obtain ⟨τv, hτv⟩ : ∃ τv, τv = lj_put (lj_put (lj_put (lj_put (lj_put (lj_put (lj_put (lj_put (lj_put (lj_put (lj_put τ 62 p (Int32.ofNat (L.length + 1))) 65 p (Int32.ofNat (L.length + 1))) 74 (48 * p + L.length) 2) 78 (48 * p + L.length) (τ.1 0 130)) 79 (48 * p + L.length) (τ.1 0 131)) 80 (48 * p + L.length) (τ.1 63 p)) 81 (48 * p + L.length) (τ.1 64 p)) 83 (48 * p + L.length) line) 84 (48 * p + L.length) (τ.1 0 152)) 85 (48 * p + L.length) (τ.1 0 152)) 86 (48 * p + L.length) (σ2.1 101 (20 * p + L.length)) := ⟨_, rfl⟩
    obtain ⟨mbv, wkv⟩ := gat0 h hwk ha hL hl e34 e90 e91 e98 e99 e95 e2 hσ2 hτv p6 (by omega)
    obtain ⟨F, hFd⟩ : ∃ F : kF, F = (2, 0, (0, 0, 0, [], [], 0), 0, 0, ce, 0) := ⟨_, rfl⟩
    rw [← hFd] at mbv wkv
    have kSF : kS F = 2 := by rw [hFd]
    have kCF : kC F = ce := by rw [hFd]
    have ii : lj_in (Int32.ofNat (20 * p + L.length)) 520 := ofN_in (by omega) (by omega)
    have ni : (Int32.ofNat (20 * p + L.length)).toNatClampNeg = (20 * p + L.length) := lz_onat (by omega)
    have c175 : lj_R lc_P 175 [.ref 8, .int line, .int as] σ = lj_D lc_P lc_M175 32 [.ref 8, .int line, .int as, .int 0, .retAddr 0, .retAddr 0] [] σ2 := by
      rw [rc_175, kc_175_0, e1, bv_ok, e34]
      simp only [if_pos ii, ni]
      rw [hσ2]
      rfl
    have c2 : ∀ k j, ¬ (k = 8 ∧ j = 34) → ¬ (k = 90 ∧ j = p) → ¬ (91 ≤ k ∧ k ≤ 102 ∧ j = (20 * p + L.length)) → σ2.1 k j = σ.1 k j ∧ σ2.2 k j = σ.2 k j := fun k j z1 z2 z3 => by
      obtain ⟨u1, u2⟩ := e2 k j z1 z2 (fun y => z3 ⟨by omega, by omega, y.2⟩)
      rw [hσ2]
      exact ⟨by rw [lj_put_1, if_neg (by omega), lj_put_1, if_neg (by omega)]; exact u1, u2⟩
    have t2 : ∀ k, k ≠ 100 → k ≠ 102 → ∀ j, σ2.1 k j = σ1.1 k j := fun k w1 w2 j => by rw [hσ2, lj_put_1, if_neg (by omega), lj_put_1, if_neg (by omega)]
    -- the world of the gathering
    obtain ⟨P, B, Fr, P', B', Fr', gwa⟩ := h.gw ha
    have gwb := gwa.psh (by rw [← hL]; exact hl) (σ2 := σ2) (by rw [← hL]; exact c2) (by rw [← hL, t2 90 (by omega) (by omega)]; exact e90) (by rw [← hL, t2 91 (by omega) (by omega)]; exact e91) (by rw [← hL, t2 95 (by omega) (by omega)]; exact e95)
    obtain ⟨⟨a1, a2, a3, a4, a5, a6, a7⟩, ⟨b1, b2, b3, b4⟩, lb, cc, c3, c4⟩ := h.2.2.2.2.2.2.2.2.2.2.1
    have l70 := h.2.2.2.1.2.1
    have n2000 := h.2.2.2.1.1
    have laM : ∀ x ∈ LA.tail, obA σ τ x 4 := fun x hx => by
      obtain ⟨i, i1, i2⟩ := List.getElem_of_mem hx
      have w := (b4 i i1).1
      have e : LA.tail.getD i 0 = x := by rw [List.getD_eq_getElem?_getD, List.getElem?_eq_getElem i1, i2]; rfl
      rw [e] at w
      exact w
    have obn : ∀ o k, obA σ τ o k → 1 ≤ o ∧ o ≤ n := fun o k w => ⟨w.1, by have := w.2.2.1; omega⟩
    have lLa : LA.tail.length ≤ n + 1 := nd_len b3 (fun x hx => (obn x 4 (laM x hx)).2)
    have lMO : MO.length ≤ n + 1 := nd_len a3 (fun x hx => (obn x 4 (a4 x hx).1).2)
    have ob2 : ∀ o k, obA σ τ o k → obA σ2 τ o k := fun o k w => ⟨w.1, w.2.1, by unfold lv; rw [(c2 7 0 (by omega) (by omega) (by omega)).1]; exact w.2.2.1, by rw [(c2 57 o (by omega) (by omega) (by omega)).1]; exact w.2.2.2.1, w.2.2.2.2⟩
    have e33 : σ.1 8 33 = Int32.ofNat LA.tail.length := lz_ext (by rw [lz_lit (by omega)]; exact b1)
    have e152 : τ.1 0 152 = Int32.ofNat LA.tail.length := lz_ext (by rw [lz_lit (by omega)]; exact b2)
    have s100 : σ2.1 100 (20 * p + L.length) = Int32.ofNat LA.tail.length := by rw [hσ2, lj_put_1, if_neg (by omega), lj_put_1, if_pos ⟨rfl, rfl⟩, (e2 8 33 (by omega) (by omega) (by omega)).1]; exact e33
    have gac2 : gaC σ2 τ FP (p :: r) LA.tail.length := gaC_cx (fun q e e' w => by
      by_cases y : q ≤ np
      · have ly : (FP q).length ≤ 20 := h.l20 y
        refine gaL_cx (fun k i y1 y2 => (c2 k _ (by omega) (by omega) (fun z => ?_)).1) (fun _ _ _ _ => rfl) w
        have e : q = p := by omega
        rw [e, ← hL] at y2
        omega
      · have e0 : FP q = [] := h7.2.2.2.2.2.2.2.2.1 q (by omega)
        rw [e0] at w ⊢
        exact w) cc
    obtain ⟨σF, τF, S, T, x3, k1, ⟨τ1, τ2, τ3, r1, r2, r3, r4⟩, ⟨gwF, fF, gF⟩, ⟨fl1, fl2, okT⟩, ⟨rt, ed, kpt⟩, ⟨q53, q110, q65, q42⟩, ⟨qlen, q33, q152, qact⟩, ST, NT, LS⟩ := gat1 gwb fx h38 (MO := MO) (La := LA.tail) (fi := (20 * p + L.length)) (by omega) (by rw [t2 8 (by omega) (by omega)]; exact e34) s100 (lz_ext (by rw [lz_lit (by omega), (c2 8 53 (by omega) (by omega) (by omega)).1]; exact a1)) (fun i hi => by rw [(c2 110 i (by omega) (by omega) (by omega)).1]; exact a2 i hi) a3 (fun t ht => ⟨ob2 _ _ (a4 t ht).1, (a4 t ht).2.1⟩) a5 (fun t t1 t2 z => by
      by_cases k4 : σ.1 57 t = 4
      · exact (((a7 t t1 t2).1 k4).2).2 z
      · exact absurd ((a7 t t1 t2).2 k4) z) (by rw [(c2 8 33 (by omega) (by omega) (by omega)).1]; exact e33) e152 b3 (fun o ho => ob2 _ _ (laM o ho)) (fun i hi => by rw [(c2 104 i (by omega) (by omega) (by omega)).1]; exact (b4 i hi).2.1) (fun i hi => (b4 i hi).2.2) gac2 line as
    have T0 : T 0 = true := rt 0 (Or.inl (by omega))
    obtain ⟨σG, τG, P2, B2, Fr2, P2', B2', Fr2', g, s1, s2, hX2, kd, k42, kp1, kp2, lC, lM⟩ := gat2 gwF.2.1 T0 fl1 fl2 (fun t w _ k4 => kpt t w k4) (fi := (20 * p + L.length)) (by omega) (by rw [(gD_o fF (k := 8) (j := 34) (by omega)).1, t2 8 (by omega) (by omega)]; exact e34) line as x3
    -- cells
    have cG : ∀ k j, gDC k j = false → swK k j = false → σG.1 k j = σ2.1 k j ∧ σG.2 k j = σ2.2 k j := fun k j w1 w2 => ⟨(lC k j w2).1.trans (fF k j w1).1, (lC k j w2).2.trans (fF k j w1).2⟩
    have mG : ∀ k j, gDM k j = false → tkM k j = false → τG.1 k j = τ.1 k j ∧ τG.2 k j = τ.2 k j := fun k j w1 w2 => ⟨(lM k j w2).1.trans (gF k j w1).1, (lM k j w2).2.trans (gF k j w1).2⟩
    have mv : ∀ k j, ¬ ((k = 62 ∨ k = 65) ∧ j = p) → ¬ (74 ≤ k ∧ k ≤ 86 ∧ j = (48 * p + L.length)) → τv.1 k j = τ.1 k j ∧ τv.2 k j = τ.2 k j := fun k j z1 z2 => by
      rw [hτv]
      exact ⟨by rw [lj_put_1, if_neg (by omega), lj_put_1, if_neg (by omega), lj_put_1, if_neg (by omega), lj_put_1, if_neg (by omega), lj_put_1, if_neg (by omega), lj_put_1, if_neg (by omega), lj_put_1, if_neg (by omega), lj_put_1, if_neg (by omega), lj_put_1, if_neg (by omega), lj_put_1, if_neg (by omega), lj_put_1, if_neg (by omega)], rfl⟩
    have tkE : ∀ q, tkP n T τv 1 q ↔ tkP n T τF 1 q := fun q => by
      have e38 : ∀ u, τv.1 38 u = τF.1 38 u := fun u => (mv 38 u (by omega) (by omega)).1.trans (gE_o gF (k := 38) (j := u) (by omega)).1.symm
      have e43 : ∀ u, τv.1 43 u = τF.1 43 u := fun u => (mv 43 u (by omega) (by omega)).1.trans (gE_o gF (k := 43) (j := u) (by omega)).1.symm
      unfold tkP
      simp only [e38, e43]
    have hRt : ∀ q ∈ p :: r, ∀ o : Nat, 1 ≤ q → σ2.1 85 q = Int32.ofNat o → 1 ≤ o → o ≤ n → T o = true := fun q hq o q1 w o1 o2 => rt o (Or.inr (Or.inr (Or.inl ⟨q, hq, by omega, w, by omega, by omega⟩)))
    have npP : ¬ (p < 26 ∧ tkP n T τF 1 p) := fun w => tk_no gwF.2.1.2.2.2 gwF.2.1.2.2.1.1.2.1 n2000 np25 gwF.2.2.2.1.2.2.2.2.2.2.2.2.2.2.1.2 w.1 (fun o q1 y o1 o2 => hRt p List.mem_cons_self o q1 (by rw [← (gD_o fF (k := 85) (j := p) (by omega)).1]; exact y) o1 o2) w.2
    obtain ⟨g58, g62, g63⟩ := kp2 p npP
    have G62 : τG.1 62 p = Int32.ofNat L.length := by rw [g62, (gE_o gF (k := 62) (j := p) (by omega)).1, hL]; exact p10
    have G63 : τG.1 63 p = τ.1 63 p := by rw [g63, (gE_o gF (k := 63) (j := p) (by omega)).1]
    have G65 : τG.1 65 p = Int32.ofNat L.length := by rw [(mG 65 p rfl rfl).1, hL]; exact p11
    have G111 : τG.1 0 111 = Int32.ofNat p := by rw [(mG 0 111 rfl rfl).1]; exact h7.2.1.2
    have iG : lj_in (Int32.ofNat p) 26 := ofN_in (by omega) (by omega)
    have nG : (Int32.ofNat p).toNatClampNeg = p := lz_onat (by omega)
    have ij : lj_in (Int32.ofNat (48 * p + L.length)) 1248 := ofN_in (by omega) (by omega)
    have nj : (Int32.ofNat (48 * p + L.length)).toNatClampNeg = (48 * p + L.length) := lz_onat (by omega)
    have ej : 48 * Int32.ofNat p + Int32.ofNat L.length = Int32.ofNat (48 * p + L.length) := by rw [show (48 : Int32) = Int32.ofNat 48 from rfl, ← Int32.ofNat_mul, ← Int32.ofNat_add]
    obtain ⟨τE, hτE⟩ : ∃ τE, τE = lj_put (lj_put (lj_put (lj_put (lj_put (lj_put (lj_put (lj_put (lj_put (lj_put (lj_put (lj_put τG 62 p (Int32.ofNat (L.length + 1))) 65 p (Int32.ofNat (L.length + 1))) 74 (48 * p + L.length) 2) 78 (48 * p + L.length) (τG.1 0 130)) 79 (48 * p + L.length) (τG.1 0 131)) 80 (48 * p + L.length) (τG.1 63 p)) 81 (48 * p + L.length) (τG.1 64 p)) 83 (48 * p + L.length) (τG.1 0 132)) 84 (48 * p + L.length) (τ.1 0 152)) 85 (48 * p + L.length) (τG.1 0 152)) 86 (48 * p + L.length) (Int32.ofNat g)) 0 129 4 := ⟨_, rfl⟩
    have m206 : lj_R lm_P 206 [.ref 0] τ = some (.inl none, τE) := by
      have n65 : ¬ (τ.1 65 (τ.1 0 111).toNatClampNeg = 20) := fun z => by
        rw [n111, p11] at z
        exact full ((ofN_eq (c := 20) (by omega) (by omega)).1 z)
      rw [rm_206, km_206_0, if_pos i111, if_neg n65, r1, bv_ok, r2, bv_ok, r3, bv_ok, r4, bv_ok, s2, bi_ok, G111]
      simp only [if_pos iG, nG]
      rw [G62, ej]
      simp only [if_pos ij, nj]
      rw [G65, lz_osucc, hτE]
    obtain ⟨σE, hσE⟩ : ∃ σE, σE = lj_put σG 101 (20 * p + L.length) (Int32.ofNat g) := ⟨_, rfl⟩
    have cE : ∀ k j, k ≠ 101 → σE.1 k j = σG.1 k j ∧ σE.2 k j = σG.2 k j := fun k j w => by rw [hσE]; exact ⟨by rw [lj_put_1, if_neg (fun e => w e.1)], rfl⟩
    have mE : ∀ k j, ¬ ((k = 62 ∨ k = 65) ∧ j = p) → ¬ (74 ≤ k ∧ k ≤ 86 ∧ j = (48 * p + L.length)) → ¬ (k = 0 ∧ j = 129) → τE.1 k j = τG.1 k j ∧ τE.2 k j = τG.2 k j := fun k j z1 z2 z3 => by
      rw [hτE]
      exact ⟨by rw [lj_put_1, if_neg z3, lj_put_1, if_neg (by omega), lj_put_1, if_neg (by omega), lj_put_1, if_neg (by omega), lj_put_1, if_neg (by omega), lj_put_1, if_neg (by omega), lj_put_1, if_neg (by omega), lj_put_1, if_neg (by omega), lj_put_1, if_neg (by omega), lj_put_1, if_neg (by omega), lj_put_1, if_neg (by omega), lj_put_1, if_neg (by omega)], rfl⟩
    have fE : ∀ k j, gyC k j = false → σE.1 k j = σ2.1 k j ∧ σE.2 k j = σ2.2 k j := fun k j w => by
      unfold gyC at w
      simp at w
      obtain ⟨y1, y2⟩ := cE k j (by omega)
      obtain ⟨y3, y4⟩ := cG k j (by unfold gDC; simp; omega) (by unfold swK; simp; omega)
      exact ⟨y1.trans y3, y2.trans y4⟩
    have gE : ∀ k j, gyM k j = false → τE.1 k j = τv.1 k j ∧ τE.2 k j = τv.2 k j := fun k j w => by
      unfold gyM at w
      simp at w
      have base := mG k j (by unfold gDM; simp; omega) (by unfold tkM; simp; omega)
      refine ⟨?_, ?_⟩
      · rw [hτE, hτv, lj_put_1, if_neg (by omega), lj_put_1, if_neg (by omega), lj_put_1, if_neg (by omega), lj_put_1, if_neg (by omega), lj_put_1, if_neg (by omega)]
        rw [lj_put_1 _ 86, if_neg (by omega), lj_put_1 _ 85, if_neg (by omega), lj_put_1 _ 84, if_neg (by omega), lj_put_1 _ 83, if_neg (by omega)]
        simp only [lj_put_1, G63, (mG 0 130 rfl rfl).1, (mG 0 131 rfl rfl).1, (mG 64 p rfl rfl).1, base.1]
      · rw [hτE, hτv]
        exact base.2
    -- afterwards
    have inN : ∀ t, t ∈ lsN S MO ↔ t ∈ MO ∧ S t = false := fun t => by unfold lsN; rw [List.mem_filter]; simp
    have inS : ∀ t, t ∈ lsS S MO ↔ t ∈ MO ∧ S t = true := fun t => by unfold lsS; rw [List.mem_filter]
    have lsl := ls_len S MO
    have e57 : ∀ u, σE.1 57 u = σG.1 57 u := fun u => (cE 57 u (by omega)).1
    have e38 : ∀ u, τE.1 38 u = τG.1 38 u := fun u => (mE 38 u (by omega) (by omega) (by omega)).1
    have F57 : ∀ u, σF.1 57 u = σ.1 57 u := fun u => (gD_v fF 57 u rfl).trans (c2 57 u (by omega) (by omega) (by omega)).1
    have F38 : ∀ u, τF.1 38 u = τ.1 38 u := fun u => gE_v gF 38 u rfl
    have kTE : ∀ o, T o = true → σE.1 57 o = σ.1 57 o ∧ τE.1 38 o = τ.1 38 o := fun o w => by
      obtain ⟨y1, y2⟩ := (kd o).2 (fun y => by have := y.2.2; rw [w] at this; cases this)
      rw [e57, e38, y1, y2]
      exact ⟨F57 o, F38 o⟩
    have l70E : lv σE 7 0 = lv σ 7 0 := by unfold lv; rw [(cE 7 0 (by omega)).1, (cG 7 0 rfl rfl).1, (c2 7 0 (by omega) (by omega) (by omega)).1]
    have obE : ∀ o k, obA σ τ o k → T o = true → obA σE τE o k := fun o k w y => ⟨w.1, w.2.1, by rw [l70E]; exact w.2.2.1, by rw [(kTE o y).1]; exact w.2.2.2.1, by rw [(kTE o y).2]; exact w.2.2.2.2⟩
    have e42E : ∀ u, τE.2 42 u = if 1 ≤ u ∧ u ≤ n ∧ T u = false ∧ τF.1 38 u ≠ 0 then 0 else if u ∈ lsN S MO then 0 else τ.2 42 u := fun u => by rw [(mE 42 u (by omega) (by omega) (by omega)).2, k42, q42]
    have e65E : ∀ t, σE.1 65 t = if t ∈ lsN S MO then 0 else σ.1 65 t := fun t => by rw [(cE 65 t (by omega)).1, (lC 65 t rfl).1, q65, (c2 65 t (by omega) (by omega) (by omega)).1]
    have e78E : τE.2 0 78 = τ.2 0 78 := by rw [(mE 0 78 (by omega) (by omega) (by omega)).2, (mG 0 78 rfl rfl).2]
    have T42 : ∀ t, T t = true → t ∉ lsN S MO → τE.2 42 t = τ.2 42 t := fun t w y => by rw [e42E, if_neg (fun z => by have := z.2.2.1; rw [w] at this; cases this), if_neg y]
    have cX : ∀ k j, 99 ≤ k ∧ k ≤ 101 → j ≠ (20 * p + L.length) → σE.1 k j = σ.1 k j := fun k j w1 w2 => by
      rw [hσE, lj_put_1, if_neg (fun e => w2 e.2), (cG k j (by unfold gDC; simp; omega) (by unfold swK; simp; omega)).1, (c2 k j (by omega) (by omega) (by omega)).1]
    have mX : ∀ k j, 83 ≤ k ∧ k ≤ 86 → j ≠ (48 * p + L.length) → τE.1 k j = τ.1 k j := fun k j w1 w2 => by
      rw [(mE k j (by omega) (by omega) (by omega)).1, (mG k j (by unfold gDM; simp; omega) (by unfold tkM; simp; omega)).1]
    have gga : gaR σE τE n (fpT FP p (F :: L)) (p :: r) A (lsS S MO) (LA.headD 0 :: (LA.tail ++ lsN S MO)) := by
      refine ⟨⟨?_, fun i hi => ?_, List.Pairwise.filter _ a3, fun t ht => ?_, ?_, by rw [e78E, lv_eq (((cE 8 45 (by omega)).1.trans (cG 8 45 rfl rfl).1).trans (c2 8 45 (by omega) (by omega) (by omega)).1)]; exact a6, fun t t1 t2 => ?_⟩, ⟨?_, ?_, ?_, fun i hi => ?_⟩, ⟨⟨obE _ _ lb.1.1 (rt 1 (Or.inl (by omega))), obE _ _ lb.1.2.1 (rt 2 (Or.inl (by omega))), obE _ _ lb.1.2.2 (rt 3 (Or.inl (by omega)))⟩, by rw [(kTE 0 T0).1]; exact lb.2⟩, ?_, fun i hi => ?_, ?_⟩
      · unfold lv
        rw [(cE 8 53 (by omega)).1, (lC 8 53 rfl).1, q53, lz_lit (by omega)]
      · rw [(cE 110 i (by omega)).1, (lC 110 i rfl).1]
        exact q110 i hi
      · obtain ⟨w1, w2⟩ := (inS t).1 ht
        have tN : t ∉ lsN S MO := fun y => by have := ((inN t).1 y).2; rw [w2] at this; cases this
        rw [T42 t (ST t w2) tN, e78E]
        obtain ⟨y1, y2, y3⟩ := a4 t w1
        exact ⟨obE _ _ y1 (ST t w2), y2, y3⟩
      · refine List.Pairwise.imp_of_mem (fun {a b} ha hb w => ?_) (List.Pairwise.filter _ a5)
        have x1 : S a = true := ((inS a).1 ha).2
        have x2 : S b = true := ((inS b).1 hb).2
        rw [T42 a (ST a x1) (fun y => by have := ((inN a).1 y).2; rw [x1] at this; cases this), T42 b (ST b x2) (fun y => by have := ((inN b).1 y).2; rw [x2] at this; cases this)]
        exact w
      · by_cases Tt : T t = true
        · have e42t : τE.2 42 t = if t ∈ lsN S MO then 0 else τ.2 42 t := by rw [e42E, if_neg (fun z => by have := z.2.2.1; rw [Tt] at this; cases this)]
          rw [(kTE t Tt).1, e65E, e42t]
          refine ⟨fun k4 => ?_, fun k4 => ?_⟩
          · obtain ⟨x1, x2⟩ := (a7 t t1 t2).1 k4
            by_cases y : t ∈ lsN S MO
            · have ns : t ∉ lsS S MO := fun z => by
                have w1 := ((inS t).1 z).2
                rw [((inN t).1 y).2] at w1
                cases w1
              rw [if_pos y, if_pos y]
              exact ⟨⟨fun z => absurd z ns, fun z => absurd rfl z⟩, ⟨fun z => absurd z ns, fun z => absurd rfl z⟩⟩
            · rw [if_neg y, if_neg y, ← x1, ← x2]
              have ss : t ∈ lsS S MO ↔ t ∈ MO := ⟨fun z => ((inS t).1 z).1, fun z => (inS t).2 ⟨z, by
                cases e : S t with
                | true => rfl
                | false => exact absurd ((inN t).2 ⟨z, e⟩) y⟩⟩
              exact ⟨ss, ss⟩
          · rw [(a7 t t1 t2).2 k4]
            split <;> rfl
        · have Tf : T t = false := by
            cases e : T t with
            | false => rfl
            | true => exact absurd e Tt
          have z57 : σE.1 57 t = 0 := by rw [e57]; exact ((kd t).1 ⟨t1, t2, Tf⟩).1
          rw [z57, e42E]
          refine ⟨fun k4 => absurd k4 (by decide), fun _ => ?_⟩
          by_cases y : 1 ≤ t ∧ t ≤ n ∧ T t = false ∧ τF.1 38 t ≠ 0
          · rw [if_pos y]
          · rw [if_neg y]
            have z38 : τF.1 38 t = 0 := Classical.byContradiction (fun w => y ⟨t1, t2, Tf, w⟩)
            have k0 : σ.1 57 t = 0 := by rw [(h.2.2.2.2.1.2 t t1 t2).1.1, ← F38]; exact z38
            rw [(a7 t t1 t2).2 (by rw [k0]; decide)]
            split <;> rfl
      · show lv σE 8 33 = ((LA.tail ++ lsN S MO).length : Int)
        unfold lv
        rw [(cE 8 33 (by omega)).1, (lC 8 33 rfl).1, q33, lz_lit (by omega), List.length_append]
      · show lv τE 0 152 = ((LA.tail ++ lsN S MO).length : Int)
        unfold lv
        rw [(mE 0 152 (by omega) (by omega) (by omega)).1, (lM 0 152 rfl).1, q152, lz_lit (by omega), List.length_append]
      · exact List.nodup_append.2 ⟨b3, List.Pairwise.filter _ a3, fun a ha b hb e => by
          have w1 := LS a ha
          rw [e, ((inN b).1 hb).2] at w1
          cases w1⟩
      · have hi : i < (LA.tail ++ lsN S MO).length := hi
        obtain ⟨y1, y2⟩ := qact i (by rw [List.length_append] at hi; exact hi)
        show obA σE τE ((LA.tail ++ lsN S MO).getD i 0) 4 ∧ σE.1 104 i = Int32.ofNat ((LA.tail ++ lsN S MO).getD i 0) ∧ τE.1 95 i = Int32.ofNat ((LA.tail ++ lsN S MO).getD i 0)
        refine ⟨?_, by rw [(cE 104 i (by omega)).1, (lC 104 i rfl).1]; exact y1, by rw [(mE 95 i (by omega) (by omega) (by omega)).1, (lM 95 i rfl).1]; exact y2⟩
        rcases List.mem_append.1 (getD_me (l := LA.tail ++ lsN S MO) hi) with w | w
        · exact obE _ _ (laM _ w) (ST _ (LS _ w))
        · exact obE _ _ (a4 _ ((inN _).1 w).1).1 (NT _ w)
      · obtain ⟨e', g1, g2⟩ := cc
        refine ⟨e', ?_, ?_⟩
        · rw [fpT_o]
          refine Or.inr ⟨kSF, LA.tail.length, ⟨by show _ ≤ (LA.tail ++ lsN S MO).length; rw [List.length_append]; omega, trivial⟩, ⟨?_, ?_, ?_⟩, ⟨?_, ?_⟩, ?_⟩
          · rw [(cE 100 _ (by omega)).1, (cG 100 _ rfl rfl).1]
            exact s100
          · have x : τE.1 84 (48 * p + L.length) = τ.1 0 152 := by rw [hτE]; simp [lj_put_1]
            rw [x]; exact e152
          · have x : τE.1 85 (48 * p + L.length) = τG.1 0 152 := by rw [hτE]; simp [lj_put_1]
            show τE.1 85 (48 * p + L.length) = Int32.ofNat (LA.tail ++ lsN S MO).length
            rw [x, (lM 0 152 rfl).1, q152, List.length_append]
          · rw [hσE, hτE]; simp [lj_put_1]
          · have x : τE.1 83 (48 * p + L.length) = τG.1 0 132 := by rw [hτE]; simp [lj_put_1]
            rw [x, (mG 0 132 rfl rfl).1, hln, (cE 99 _ (by omega)).1, (cG 99 _ rfl rfl).1, t2 99 (by omega) (by omega)]
            exact e99
          · rw [← hL] at g1
            exact gaL_cx (fun k i y1 y2 => cX k _ (by omega) (by omega)) (fun k i y1 y2 => mX k _ (by omega) (by omega)) g1
        · have : ∀ (l : List Nat) (e : Nat), (∀ q ∈ l, q ∈ r) → gaC σ τ FP l e → gaC σE τE (fpT FP p (F :: L)) l e := by
            intro l
            induction l with
            | nil => intro e _ w; exact w
            | cons q l ih =>
              intro e hl' w
              obtain ⟨e'', w1, w2⟩ := w
              have qr := hl' q List.mem_cons_self
              have qp : q ≠ p := fun z => hpr (by rw [← z]; exact qr)
              have ql := h.l20 (h7.2.2.2.2.2.1 q (List.mem_cons_of_mem _ qr))
              refine ⟨e'', ?_, ih e'' (fun x hx => hl' x (List.mem_cons_of_mem _ hx)) w2⟩
              rw [fpT_ne FP hpr _ q qr]
              exact gaL_cx (fun k i y1 y2 => cX k _ (by omega) (by omega)) (fun k i y1 y2 => mX k _ (by omega) (by omega)) w1
          exact this r e' (fun _ y => y) g2
      · rw [(cE 102 i (by omega)).1, (cG 102 i rfl rfl).1]
        exact mbv.2.2.2.2.2.2.2.2.2.2.1.2.2.2.2.1 i hi
      · rw [(cE 8 51 (by omega)).1, (cG 8 51 rfl rfl).1, (c2 8 51 (by omega) (by omega) (by omega)).1, (mE 0 153 (by omega) (by omega) (by omega)).1, (mG 0 153 rfl rfl).1]
        exact c4
    have tp : tpN σ2 p p = kC F := by
      unfold tpN lv
      rw [if_pos rfl, (c2 8 8 (by omega) (by omega) (by omega)).1, p6, lz_lit (by omega), kCF]
      omega
    have pf : ∀ q x, ptC σ0 σ2 p (fpT FP p (F :: L)) q x ↔ ptC σ0 σ2 p FP q x := ptC_fp hL.symm (by rw [kSF]; decide) tp
    have mbE : MB σ0 τ0 n np p r (fpT FP p (F :: L)) ρ A (lsS S MO) (LA.headD 0 :: (LA.tail ++ lsN S MO)) σE τE := by
      refine mbv.gat (T := T) fE gE (hX2.R.cg (fun k j q => cE k j (by unfold hqC vqC at q; simp at q; omega)) (fun k j q => mE k j (by unfold hqM vqM at q; simp at q; omega) (by unfold hqM vqM at q; simp at q; omega) (by unfold hqM vqM at q; simp at q; omega))) (fun u => ?_) (fun q hq w => ?_) (fun q w => ?_) hRt (fun q hq x hx => rt x (Or.inr (Or.inr (Or.inr ⟨q, hq, (pf q x).1 hx⟩)))) (fun t m w k4 lm m0 => ed t m w (Or.inl ⟨by rw [gD_v fF 57 t rfl]; exact k4, Or.inl ⟨m0, by unfold lv at lm ⊢; rw [(gD_o fF (k := 58) (j := t) (by omega)).1]; exact lm⟩⟩)) (fun o x w k5 y => ed o x w (Or.inr (Or.inl ⟨by rw [gD_v fF 57 o rfl]; exact k5, fnX_cg (fun k j z => gD_o fF (by omega)) (fun j => (F38 j).trans (mv 38 j (by omega) (by omega)).1.symm) y⟩))) (fun o q x w k6 q1 q2 q64 q58 hx => ed o x w (Or.inr (Or.inr ⟨by rw [gD_v fF 57 o rfl]; exact k6, q, q1, q2, by rw [(gD_o fF (k := 64) (j := o) (by omega)).1]; exact q64, by rw [(gE_o gF (k := 58) (j := q) (by omega)).1, ← (mv 58 q (by omega) (by omega)).1]; exact q58, (ptC_gD fF p FP q x).2 ((pf q x).1 hx)⟩))) gga
      · rw [e57, e38, (mv 38 u (by omega) (by omega)).1, ← F38, ← gD_v fF 57 u rfl]
        exact kd u
      · obtain ⟨y1, y2, y3⟩ := kp1 q hq ((tkE q).1 w)
        have qp : q ≠ p := fun e => npP (by rw [← e]; exact ⟨hq, (tkE q).1 w⟩)
        rw [(mE 58 q (by omega) (by omega) (by omega)).1, (mE 62 q (by omega) (by omega) (by omega)).1, (mE 63 q (by omega) (by omega) (by omega)).1]
        exact ⟨y1, y2, y3⟩
      · obtain ⟨y1, y2, y3⟩ := kp2 q (fun y => w ⟨y.1, (tkE q).2 y.2⟩)
        rw [(mE 58 q (by omega) (by omega) (by omega)).1, (mE 63 q (by omega) (by omega) (by omega)).1, (mv 58 q (by omega) (by omega)).1, (mv 63 q (by omega) (by omega)).1, y1, y3, (gE_o gF (k := 58) (j := q) (by omega)).1, (gE_o gF (k := 63) (j := q) (by omega)).1]
        refine ⟨rfl, ?_, rfl⟩
        by_cases e : q = p
        · rw [e, hτE, hτv]
          simp [lj_put_1]
        · rw [(mE 62 q (by omega) (by omega) (by omega)).1, (mv 62 q (by omega) (by omega)).1, y2, (gE_o gF (k := 62) (j := q) (by omega)).1]
    have th1 := thM_c FP hpr F MO LA
    rw [thF_n (by rw [kSF]; decide), ← hL] at th1
    have th2 : thM (fpT FP p (F :: L)) (p :: r) (lsS S MO) (LA.headD 0 :: (LA.tail ++ lsN S MO)) = thM FP (p :: r) MO LA + 2 * (lsN S MO).length := by
      rw [show thM FP (p :: r) MO LA = thM (fpT FP p (F :: L)) (p :: r) MO LA by omega]
      unfold thM gaM
      simp only [List.tail_cons, List.headD_cons, List.length_append]
      omega
    have ryE : ryR σE τE := ⟨by rw [(cE 8 46 (by omega)).1, (cG 8 46 rfl rfl).1, (c2 8 46 (by omega) (by omega) (by omega)).1]; exact ry.1, by rw [(mE 0 143 (by omega) (by omega) (by omega)).1, (mG 0 143 rfl rfl).1]; exact ry.2.1, by rw [(cE 8 45 (by omega)).1, (cG 8 45 rfl rfl).1, (c2 8 45 (by omega) (by omega) (by omega)).1, (mE 0 144 (by omega) (by omega) (by omega)).1, (mG 0 144 rfl rfl).1]; exact ry.2.2.1, by rw [(cE 8 44 (by omega)).2, (cG 8 44 rfl rfl).2, (c2 8 44 (by omega) (by omega) (by omega)).2, (mE 0 145 (by omega) (by omega) (by omega)).2, (mG 0 145 rfl rfl).2]; exact ry.2.2.2⟩
    have wkE : wkR (fpT FP p (F :: L)) (p :: r) A σE := ⟨fun i hi => by rw [(cE 102 i (by omega)).1, (cG 102 i rfl rfl).1]; exact wkv.1 i hi, wkv.2⟩
    have nl := NL (frT (fpT FP p (F :: L)) (p :: r)) n np p r (fpT FP p (F :: L)) ρ A (lsS S MO) (LA.headD 0 :: (LA.tail ++ lsN S MO)) σE τE F L mbE (fpT_o _ _ _) kSF wkE ryE (by rw [hτE, lj_put_1, if_pos ⟨rfl, rfl⟩]) (Nat.le_refl _) (by omega) (by omega)
    refine ⟨τE, rM m206, ?_⟩
    rw [rc_159, kc_159_0, if_neg (by decide), if_neg (by decide), if_neg (by decide), if_neg (by decide), if_neg (by decide), if_neg (by decide), if_neg (by decide), if_neg (by decide), if_neg (by decide), if_neg (by decide), if_neg (by decide), if_neg (by decide), if_neg (by decide), if_neg (by decide), if_neg (by decide), if_neg (by decide), if_pos rfl, c175, k1, s1, ← hσE]
    simp only [kc_159_901]
    exact nl.fin.fin.pre (fun _ => rfl) (fun i _ => by rw [(cE 103 i (by omega)).1, (cG 103 i rfl rfl).1, (c2 103 i (by omega) (by omega) (by omega)).1]) (fun _ w => by omega)
theorem blt_16 {σ0 τ0 : lj_S} {Fn : Nat} (fx : FR σ0 τ0 Fn) (h38 : sh38 σ0) {M k : Nat} (NL : ∀ k, NLA σ0 τ0 (M + 5001) k) : BLT σ0 τ0 M k 16 := fun _ _ _ _ _ _ _ _ _ _ _ _ _ _ _ h ry hwk _ ha hln _ _ hM hT => bi_16 fx h38 NL h ry hwk ha hln hM hT
