/-! operators: an event of one of two values -/
theorem evM_lt {e : Nat} (he : e < 21) : evM e < 21 := by
  have : ∀ e : Fin 21, evM e.val < 21 := by decide
  exact this ⟨e, he⟩
theorem fdC_lg (σ : lj_S) (u : vT) : lf fdS σ (fdC σ u) := fd_lf σ u
theorem cm_ev2 {σ τ : lj_S} {n : Nat} (h : rbR σ τ n) {a a' b b' : vT} (ha : vR σ τ a a') (hb : vR σ τ b b') {e : Nat} (he : e < 21) (as line : Int32) : ∃ u w σ1 τ1, vR σ τ u w ∧ lf fdS σ σ1 ∧ lf fdT τ τ1 ∧ lj_R lm_P 161 [.ref 0, .int a'.1, .long a'.2, .int b'.1, .long b'.2, .int (Int32.ofNat (evM e))] τ = some (.inl none, τ1) ∧ τ1.1 0 90 = w.1 ∧ τ1.2 0 91 = w.2 ∧ lj_R lc_P 210 [.ref 8, .int (Int32.ofNat e), .int a.1, .long a.2, .int b.1, .long b.2, .int as, .int line] σ = (if u.1 = 0 then some (.inl (some (.int 0)), σ1) else lj_bv (lj_R lc_P 154 [.ref 8, .int a.1, .long a.2] (lj_put σ1 8 38 0)) (fun s => lj_bv (lj_R lc_P 154 [.ref 8, .int b.1, .long b.2] s) (fun s => lj_bv (lj_R lc_P 155 [.ref 8, .int u.1, .long u.2, .int as, .int line] s) (fun s => some (.inl (some (.int 1)), s)) lj_up) lj_up) lj_up) := by
  obtain ⟨hs, hh, ho, hn⟩ := h
  have i24 : lj_in (Int32.ofNat e) 24 := ofN_in (by omega) (by omega)
  have n24 : (Int32.ofNat e).toNatClampNeg = e := lz_onat (by omega)
  obtain ⟨u, w, x1, x2, x3⟩ := cm_event hs.1 hh ho ha (hn.1 e he)
  by_cases z : u.1 = 0
  · obtain ⟨rfl, rfl⟩ := x1.nil z
    have hb2 : rbR (fdC σ (0, 0)) (fdM τ (0, 0)) n := (rbR.fd ⟨hs, hh, ho, hn⟩ (fd_lf σ (0, 0)) (fd_lfM τ (0, 0))).1
    have vb := (rbR.fd ⟨hs, hh, ho, hn⟩ (fd_lf σ (0, 0)) (fd_lfM τ (0, 0))).2 _ _ hb
    obtain ⟨u2, w2, y1, y2, y3⟩ := cm_event hb2.1.1 hb2.2.1 hb2.2.2.1 vb (hb2.2.2.2.1 e he)
    have q1 : lf fdS σ (fdC (fdC σ (0, 0)) u2) := (fd_lf σ (0, 0)).tr (fd_lf _ u2)
    have q2 : lf fdT τ (fdM (fdM τ (0, 0)) w2) := (fd_lfM τ (0, 0)).tr (fd_lfM _ w2)
    refine ⟨u2, w2, _, _, y1.fdr (fd_lf σ (0, 0)) (fd_lfM τ (0, 0)), q1, q2, ?_, (fdM_v _ w2).1, (fdM_v _ w2).2, ?_⟩
    · rw [rm_161, km_161_0, x3, bv_ok, if_pos (fdM_v τ (0, 0)).1, y3, bv_ok, km_161_25]
    · rw [rc_210, kc_210_0, if_pos i24]
      simp only [n24]
      rw [x2, bi_ok, if_pos (if_pos rfl), if_pos i24, y2, bi_ok]
      by_cases z2 : u2.1 = 0
      · rw [if_pos z2, if_pos z2, if_pos rfl]
      · rw [if_neg z2, if_neg z2, if_neg (by decide), kc_210_46, (fdC_v _ u2).1, (fdC_v _ u2).2]
  · refine ⟨u, w, _, _, x1, fd_lf σ u, fd_lfM τ w, ?_, (fdM_v _ w).1, (fdM_v _ w).2, ?_⟩
    · rw [rm_161, km_161_0, x3, bv_ok, if_neg (fun q => z (x1.k0.2 (by rw [← (fdM_v τ w).1]; exact q))), km_161_25]
    · rw [rc_210, kc_210_0, if_pos i24]
      simp only [n24]
      rw [x2, bi_ok, if_neg z, if_neg z, if_neg (by decide), kc_210_46, (fdC_v _ u).1, (fdC_v _ u).2]
/-- what has been called tells that it was -/
theorem oc_bi {σ0 τ0 : lj_S} {A : List Nat} {O : Nat → Prop} {σ τ : lj_S} {o : Option lj_O} (h : ocR σ0 τ0 A O σ τ o) (K : Int32 → lj_S → Option lj_O) (hK : ∀ s, K 1 s = some (.inl none, s)) : lj_bi (lj_bv o (fun s => some (.inl (some (.int 1)), s)) lj_up) K lj_up = finC o := by
  unfold finC
  rcases h with ⟨σ', τ', n, np, p, r, FP, MO, LA, x1, _⟩ | ⟨σ', τ', n, np, p, r, FP, ρ, MO, LA, x1, _⟩ | ⟨σ', τ', x1, _⟩ | ⟨σ', τ', n, np, p, r, FP, ρ, MO, LA, F, L, A', x1, _⟩
  · rw [x1, bv_ok, bi_ok, hK, bv_ok]
  · rw [x1, bv_th, bi_th, bv_th]
  · rw [x1, bv_ok, bi_ok, hK, bv_ok]
  · rw [x1, bv_ok, bi_ok, hK, bv_ok]
theorem c_212 (σ : lj_S) {k : Nat} (hk : 40 ≤ k ∧ k ≤ 49) : lj_R lc_P 212 [.ref 8, .int (Int32.ofNat k)] σ = some (.inl (some (.int (Int32.ofNat (k - 40)))), σ) := by
  rw [rc_212, kc_212_0]
  obtain rfl | rfl | rfl | rfl | rfl | rfl | rfl | rfl | rfl | rfl : k = 40 ∨ k = 41 ∨ k = 42 ∨ k = 43 ∨ k = 44 ∨ k = 45 ∨ k = 46 ∨ k = 47 ∨ k = 48 ∨ k = 49 := by omega
  · rw [if_pos (by decide), kc_212_149]; rfl
  · rw [if_neg (by decide), if_pos (by decide), kc_212_149]; rfl
  · rw [if_neg (by decide), if_neg (by decide), if_pos (by decide), kc_212_149]; rfl
  · rw [if_neg (by decide), if_neg (by decide), if_neg (by decide), if_pos (by decide), kc_212_149]; rfl
  · rw [if_neg (by decide), if_neg (by decide), if_neg (by decide), if_neg (by decide), if_pos (by decide), kc_212_149]; rfl
  · rw [if_neg (by decide), if_neg (by decide), if_neg (by decide), if_neg (by decide), if_neg (by decide), if_pos (by decide), kc_212_149]; rfl
  · rw [if_neg (by decide), if_neg (by decide), if_neg (by decide), if_neg (by decide), if_neg (by decide), if_neg (by decide), if_pos (by decide), kc_212_149]; rfl
  · rw [if_neg (by decide), if_neg (by decide), if_neg (by decide), if_neg (by decide), if_neg (by decide), if_neg (by decide), if_neg (by decide), if_pos (by decide), kc_212_149]; rfl
  · rw [if_neg (by decide), if_neg (by decide), if_neg (by decide), if_neg (by decide), if_neg (by decide), if_neg (by decide), if_neg (by decide), if_neg (by decide), if_pos (by decide), kc_212_149]; rfl
  · rw [if_neg (by decide), if_neg (by decide), if_neg (by decide), if_neg (by decide), if_neg (by decide), if_neg (by decide), if_neg (by decide), if_neg (by decide), if_neg (by decide), if_pos (by decide), kc_212_149]; rfl
theorem evM_ar {k : Nat} (hk : 40 ≤ k ∧ k ≤ 49) : Int32.ofNat (evM (k - 40)) = Int32.ofNat (k - 37) := by
  obtain rfl | rfl | rfl | rfl | rfl | rfl | rfl | rfl | rfl | rfl : k = 40 ∨ k = 41 ∨ k = 42 ∨ k = 43 ∨ k = 44 ∨ k = 45 ∨ k = 46 ∨ k = 47 ∨ k = 48 ∨ k = 49 := by omega
  all_goals rfl
theorem dq0 {x : Int64} : lg_cmp x 0 = 0 ↔ x = 0 := lg0 _ _
/-- numbers are reckoned with, or an event is called, or both err -/
theorem x_ari {σ0 τ0 σ τ : lj_S} {n np p : Nat} {r : List Nat} {FP : Nat → List kF} {ρ : Nat → Nat} {MO LA : List Nat} {F : kF} {L : List kF} {c m : Nat} {s l : List Nat} {dd n1 : Nat} (C : ∀ M k, CAL σ0 τ0 M k) (h : MB σ0 τ0 n np p r (fpT FP p (kTo F c m s l dd n1 0 :: L)) ρ [] MO LA σ τ) (rg : rgR σ τ) {σa : lj_S} (hwk : wkR FP (p :: r) [] σa) {n' : Nat} (hn1 : n1 ≤ n' + 1) (hn : gn σ0 τ0 n' ((kY F).1, c, m, 0 :: s, l, dd)) (hc : 1 ≤ c ∧ c ≤ 14000) (hsc : scl σ0 (kY F).1 (c - 1) s l dd) (h5 : ∀ x ∈ s, x ≠ 5) {X : Nat} (hX : lsX FP p r L MO LA n' X) (hT : X ≤ TH) {k : Nat} (hk : 40 ≤ k ∧ k ≤ 49) {a a' b b' : vT} (ha : vR σ τ a a') (hb : vR σ τ b b') (line : Int32) : ∃ τ1, lj_R lm_P 157 [.ref 0, .int (Int32.ofNat (k - 37)), .int a'.1, .long a'.2, .int b'.1, .long b'.2, .int line] τ = some (.inl none, τ1) ∧ ocR σ0 τ0 [] (fun t => t < X) σ τ1 (lj_D lc_P lc_M209 264 [.ref 8, .int (Int32.ofNat k), .int line, .int b.1, .long b.2, .retAddr 0, .int a.1, .long a.2, .retAddr 0, .retAddr 0, .retAddr 0] [] σ) := by
  have ka : a.1 = 2 ↔ a'.1 = 2 := ha.kk (by decide) (by decide)
  have kb : b.1 = 2 ↔ b'.1 = 2 := hb.kk (by decide) (by decide)
  by_cases z : a.1 = 2 ∧ b.1 = 2
  · obtain ⟨z1, z2⟩ := z
    have ea := ha.wh z1
    have eb := hb.wh z2
    subst ea eb
    by_cases hz : (k = 43 ∨ k = 44) ∧ b'.2 = 0
    · -- nothing to divide by
      obtain ⟨hz1, hz2⟩ := hz
      obtain ⟨σ', τ', e1, e2, e3⟩ := cm_wrong h.2.1 line (e := 5) (by decide)
      have e1 : lj_br (lj_R lc_P 133 [.ref 8, .int line, .ref 1041] σ) (fun y s => (bif Nat.blt y 2000 then lj_up y s else none)) lj_up = some (.inr 2, σ') := e1
      have e2 : lj_R lm_P 142 [.ref 0, .int 5, .int line] τ = some (.inl none, τ') := e2
      refine ⟨τ', ?_, ?_⟩
      · rw [rm_157, km_157_0, if_pos z1, if_pos z2]
        rcases hz1 with rfl | rfl
        · rw [if_pos (by decide), km_157_23, if_pos (dq0.2 hz2), e2, bv_ok, km_157_53]
        · rw [if_neg (by decide), if_pos (by decide), km_157_23, if_pos (dq0.2 hz2), e2, bv_ok, km_157_53]
      · have ec : lj_R lc_P 214 [.ref 8, .int (Int32.ofNat k), .long a'.2, .long b'.2, .int line] σ = some (.inr 2, σ') := by
          rw [rc_214, kc_214_0]
          rcases hz1 with rfl | rfl
          · rw [if_pos (by decide), kc_214_12, if_pos (dq0.2 hz2), e1]
          · rw [if_neg (by decide), if_pos (by decide), kc_214_12, if_pos (dq0.2 hz2), e1]
        rw [kc_209_264, if_pos z1, if_pos z2, ec, bl_th]
        exact oc_er h (rg_ry rg) hwk e3 rfl (n' := n') hn1 hX
    · have hz' : (k = 43 ∨ k = 44) → b'.2 ≠ 0 := fun q1 q2 => hz ⟨q1, q2⟩
      obtain ⟨ce, me, mq, t1, t2, t3, t4, t5⟩ := x_top h rg
      obtain ⟨g1, g2⟩ := t5 (2, rk64 k a'.2 b'.2) (2, rk64 k a'.2 b'.2) σ τ (n' + 1) (lf_rf _ _) (lf_rf _ _) (vR_whole _ _ _) (gn_ok hn) (Or.inr ⟨Nat.succ_ne_zero _, hn⟩)
      have mp : lj_R lm_P 116 [.ref 0, .int 2, .long (rk64 k a'.2 b'.2)] τ = _ := m_push t3 (by omega) (2, rk64 k a'.2 b'.2)
      have cp : lj_R lc_P 137 [.ref 8, .int 2, .long (rk64 k a'.2 b'.2)] σ = _ := c_push t1 (by omega) (2, rk64 k a'.2 b'.2)
      refine ⟨mPu τ p me (2, rk64 k a'.2 b'.2), ?_, ?_⟩
      · have e40 : lj_D lm_P lm_M157 40 [.ref 0, .int (Int32.ofNat (k - 37)), .int a'.1, .long a'.2, .retAddr 0, .int b'.1, .long b'.2, .retAddr 0, .int line] [] τ = some (.inl none, mPu τ p me (2, rk64 k a'.2 b'.2)) := by
          rw [km_157_40, m_reckon τ hk _ _ hz', bl_ok, mp, bv_ok, km_157_53]
        rw [rm_157, km_157_0, if_pos z1, if_pos z2]
        by_cases q1 : k = 43
        · subst q1
          rw [if_pos (by decide), km_157_23, if_neg (fun q => hz' (Or.inl rfl) (dq0.1 q))]
          exact e40
        · by_cases q2 : k = 44
          · subst q2
            rw [if_neg (by decide), if_pos (by decide), km_157_23, if_neg (fun q => hz' (Or.inr rfl) (dq0.1 q))]
            exact e40
          · rw [if_neg (fun q => q1 (by have := (ofN_eq (a := k - 37) (c := 6) (by omega) (by omega)).1 q; omega)), if_neg (fun q => q2 (by have := (ofN_eq (a := k - 37) (c := 7) (by omega) (by omega)).1 q; omega))]
            exact e40
      · rw [kc_209_264, if_pos z1, if_pos z2, c_reckon σ hk _ _ hz' line, bl_ok, cp, bv_ok, kc_209_335]
        exact oc_go g1 g2 hwk rfl (Nat.succ_ne_zero _) rfl (Nat.le_refl _) hX
  · -- an event
    have e264 : lj_D lc_P lc_M209 264 [.ref 8, .int (Int32.ofNat k), .int line, .int b.1, .long b.2, .retAddr 0, .int a.1, .long a.2, .retAddr 0, .retAddr 0, .retAddr 0] [] σ = lj_D lc_P lc_M209 293 [.ref 8, .int (Int32.ofNat k), .int line, .int b.1, .long b.2, .retAddr 0, .int a.1, .long a.2, .retAddr 0, .retAddr 0, .retAddr 0] [] σ := by
      rw [kc_209_264]
      by_cases z1 : a.1 = 2
      · rw [if_pos z1, if_neg (fun q => z ⟨z1, q⟩)]
      · rw [if_neg z1]
    have m54 : lj_R lm_P 157 [.ref 0, .int (Int32.ofNat (k - 37)), .int a'.1, .long a'.2, .int b'.1, .long b'.2, .int line] τ = lj_D lm_P lm_M157 54 [.ref 0, .int (Int32.ofNat (k - 37)), .int a'.1, .long a'.2, .retAddr 0, .int b'.1, .long b'.2, .retAddr 0, .int line] [] τ := by
      rw [rm_157, km_157_0]
      by_cases z1 : a.1 = 2
      · rw [if_pos (ka.1 z1), if_neg (fun q => z ⟨z1, kb.2 q⟩)]
      · rw [if_neg (fun q => z1 (ka.2 q))]
    obtain ⟨u, w, σ1, τ1, x1, x2, x3, x4, x5, x6, x7⟩ := cm_ev2 h.rb ha hb (e := k - 40) (by omega) 1 line
    rw [evM_ar hk] at x4
    by_cases zu : u.1 = 0
    · rw [if_pos zu] at x7
      obtain ⟨σ', τ', e1, e2, e3⟩ := cm_wrongOf (h.fdx x2 x3).2.1 line (e := 6) (by decide) (a := if a.1 = 2 then b else a) (b := if a'.1 = 2 then b' else a') (by
        by_cases z1 : a.1 = 2
        · rw [if_pos z1, if_pos (ka.1 z1)]; exact hb.fdl x2 x3
        · rw [if_neg z1, if_neg (fun q => z1 (ka.2 q))]; exact ha.fdl x2 x3)
      have e1 : lj_br (lj_R lc_P 156 [.ref 8, .int line, .ref 1042, .int (if a.1 = 2 then b else a).1] σ1) (fun y s => (bif Nat.blt y 2000 then lj_up y s else none)) lj_up = some (.inr 2, σ') := e1
      have e2 : lj_R lm_P 131 [.ref 0, .int 6, .int line, .int (if a'.1 = 2 then b' else a').1] τ1 = some (.inl none, τ') := e2
      refine ⟨τ', ?_, ?_⟩
      · rw [m54, km_157_54, x4, bv_ok, if_pos (by rw [x5]; exact x1.k0.1 zu)]
        by_cases z1 : a'.1 = 2
        · rw [if_pos z1] at e2 ⊢
          rw [km_157_88, e2, bv_ok]
        · rw [if_neg z1] at e2 ⊢
          rw [km_157_88, e2, bv_ok]
      · rw [e264, kc_209_293, c_212 σ hk, bi_ok, x7, bi_ok, if_pos rfl]
        have fin := oc_er (σ1 := σ) (h.fdx x2 x3) ((rg_ry rg).fdx x2 x3) hwk e3 rfl (n' := n') hn1 hX
        by_cases z1 : a.1 = 2
        · rw [if_pos z1] at e1 ⊢
          rw [kc_209_331, e1]
          exact fin
        · rw [if_neg z1] at e1 ⊢
          rw [kc_209_331, e1]
          exact fin
    · rw [if_neg zu] at x7
      obtain ⟨σ2, y1, y2⟩ := x_wev C (h.fdx x2 x3) (rg.fdx x2 x3) hwk (w := 1) (by decide) hn hc hsc h5 hX hT (x1.fdl x2 x3) (ha.fdl x2 x3) (hb.fdl x2 x3) line (as := 1) (md := 0) (wt := 1) ⟨rfl, rfl, rfl⟩
      refine ⟨gv2 τ1 0 1 line w a' b', ?_, ?_⟩
      · rw [m54, km_157_54, x4, bv_ok, if_neg (by rw [x5]; exact fun q => zu (x1.k0.2 q))]
        have e90 : (lj_put (lj_put (lj_put τ1 0 130 0) 0 131 1) 0 132 line).1 0 90 = w.1 := by rw [lj_put_1, if_neg (by omega), lj_put_1, if_neg (by omega), lj_put_1, if_neg (by omega)]; exact x5
        have g := m_gv2 τ1 0 1 line w a' b' (fun s => some (.inl none, s))
        rw [rm_112, km_112_0, bv_ok] at g ⊢
        rw [e90, show (lj_put (lj_put (lj_put τ1 0 130 0) 0 131 1) 0 132 line).2 0 91 = w.2 from x6]
        exact g
      · rw [e264, kc_209_293, c_212 σ hk, bi_ok, x7, y1]
        rw [oc_bi y2 _ (fun s => by rw [if_neg (by decide), kc_209_335])]
        exact y2.fin.pre (fun _ => rfl) (fun i hi => by cases hi) (fun _ q => q)
