/-! reading a key of a value -/
def fdS (k j : Nat) : Bool := k == 7 && (j == 27 || j == 28)
def fdT (k j : Nat) : Bool := k == 0 && (j == 90 || j == 91)
theorem fd_lf (σ : lj_S) (u : vT) : lf fdS σ (fdC σ u) := lf_putL (lf_put (lf_rf _ _) 7 27 _ rfl) 7 28 _ rfl
theorem fd_lfM (τ : lj_S) (w : vT) : lf fdT τ (fdM τ w) := lf_putL (lf_put (lf_rf _ _) 0 90 _ rfl) 0 91 _ rfl
theorem fdC_v (σ : lj_S) (u : vT) : (fdC σ u).1 7 27 = u.1 ∧ (fdC σ u).2 7 28 = u.2 := by
  unfold fdC
  rw [lj_putL_1, lj_put_1, if_pos ⟨rfl, rfl⟩, lj_putL_2, if_pos ⟨rfl, rfl⟩]
  exact ⟨rfl, rfl⟩
theorem fdM_v (τ : lj_S) (w : vT) : (fdM τ w).1 0 90 = w.1 ∧ (fdM τ w).2 0 91 = w.2 := by
  unfold fdM
  rw [lj_putL_1, lj_put_1, if_pos ⟨rfl, rfl⟩, lj_putL_2, if_pos ⟨rfl, rfl⟩]
  exact ⟨rfl, rfl⟩
/-- what reading rests on -/
def rbR (σ τ : lj_S) (n : Nat) : Prop := sM σ τ ∧ hpR σ τ n ∧ obR σ τ n ∧ nmR σ τ
theorem rbR.fd {σ τ σ' τ' : lj_S} {n : Nat} (h : rbR σ τ n) (f : lf fdS σ σ') (g : lf fdT τ τ') : rbR σ' τ' n ∧ ∀ a b, vR σ τ a b → vR σ' τ' a b := by
  have c : ∀ k j, ¬ (k = 7 ∧ (j = 27 ∨ j = 28)) → σ'.1 k j = σ.1 k j ∧ σ'.2 k j = σ.2 k j := fun k j z => f k j (by unfold fdS; simp; omega)
  have m : ∀ k j, ¬ (k = 0 ∧ (j = 90 ∨ j = 91)) → τ'.1 k j = τ.1 k j ∧ τ'.2 k j = τ.2 k j := fun k j z => g k j (by unfold fdT; simp; omega)
  obtain ⟨h1, h2, h3, h4⟩ := h
  have vC : ∀ k j, vqC k j = true → σ'.1 k j = σ.1 k j := fun k j q => (c k j (by unfold vqC at q; simp at q; omega)).1
  have vM : ∀ k j, vqM k j = true → τ'.1 k j = τ.1 k j := fun k j q => (m k j (by unfold vqM at q; simp at q; omega)).1
  exact ⟨⟨h1.cg (fun k j q => (c k j (by unfold sqC at q; simp at q; omega)).1) (fun k j q => (m k j (by unfold sqM at q; simp at q; omega)).1), h2.cg (fun k j q => c k j (by unfold hqC vqC at q; simp at q; omega)) (fun k j q => m k j (by unfold hqM vqM at q; simp at q; omega)), h3.cg (fun k j q => (c k j (by omega)).1) (fun k j q => (m k j (by omega)).1), h4.up (sG_eq vC vM) (fun j => (c 78 j (by omega)).1) (c 8 1 (by omega)).1 (c 8 3 (by omega)).1⟩, fun a b w => w.cg vC vM⟩
theorem m_isFn (τ : lj_S) (k : Int32) : lj_R lm_P 140 [.int k] τ = some (.inl (some (.int (if k = 5 ∨ k = 7 then 1 else 0))), τ) := by
  rw [rm_140, km_140_0]
  by_cases z : k = 5
  · rw [if_pos z, km_140_11, km_140_16, if_pos (Or.inl z)]; rfl
  · rw [if_neg z]
    by_cases y : k = 7
    · rw [if_pos y, km_140_11, km_140_16, if_pos (Or.inr y)]; rfl
    · rw [if_neg y, km_140_16, if_neg (fun w => w.elim z y)]; rfl
/-- what comes of reading the key c: a value, a call, an error -/
def rxR (σ τ : lj_S) (as line : Int32) (kc km : vT) (oC oM : Option lj_O) : Prop :=
  (∃ u w σ1 τ1, vR σ1 τ1 u w ∧ lf fdS σ σ1 ∧ lf fdT τ τ1 ∧ oC = lj_bv (lj_R lc_P 143 [.ref 8, .int u.1, .long u.2] (lj_put σ1 8 41 0)) (fun s => lj_bv (lj_R lc_P 144 [.ref 8, .int as] s) (fun s => some (.inl none, s)) lj_up) lj_up ∧ oM = lj_bv (lj_R lm_P 116 [.ref 0, .int w.1, .long w.2] τ1) (fun s => some (.inl none, s)) lj_up) ∨
  (∃ f f' c c' σ1 τ1, vR σ1 τ1 f f' ∧ f.1 = 5 ∧ vR σ1 τ1 c c' ∧ lf fdS σ σ1 ∧ lf fdT τ τ1 ∧ oC = lj_bv (lj_R lc_P 154 [.ref 8, .int c.1, .long c.2] (lj_put σ1 8 38 0)) (fun s => lj_bv (lj_R lc_P 154 [.ref 8, .int kc.1, .long kc.2] s) (fun s => lj_bv (lj_R lc_P 155 [.ref 8, .int f.1, .long f.2, .int as, .int line] s) (fun s => some (.inl none, s)) lj_up) lj_up) lj_up ∧ oM = lj_bv (lj_R lm_P 112 [.ref 0, .int 0, .int 1, .int line] τ1) (fun s => lj_bv (lj_R lm_P 141 [.ref 0, .int f'.1, .long f'.2, .int c'.1, .long c'.2, .int km.1, .long km.2] s) (fun s => some (.inl none, s)) lj_up) lj_up) ∨
  ∃ σ1 τ1 σ' τ', lf fdS σ σ1 ∧ lf fdT τ τ1 ∧ oC = some (.inr 2, σ') ∧ oM = some (.inl none, τ') ∧ raR σ1 τ1 σ' τ'
theorem rxR.pre {σ τ σ1 τ1 : lj_S} {as line : Int32} {kc km : vT} {oC oM : Option lj_O} (h : rxR σ1 τ1 as line kc km oC oM) (f : lf fdS σ σ1) (g : lf fdT τ τ1) : rxR σ τ as line kc km oC oM := by
  rcases h with ⟨u, w, s1, t1, h1, h2, h3, h4⟩ | ⟨p, p', c, c', s1, t1, h1, h0, h2, h3, h4, h5⟩ | ⟨s1, t1, s2, t2, h1, h2, h3⟩
  · exact Or.inl ⟨u, w, s1, t1, h1, f.tr h2, g.tr h3, h4⟩
  · exact Or.inr (Or.inl ⟨p, p', c, c', s1, t1, h1, h0, h2, f.tr h3, g.tr h4, h5⟩)
  · exact Or.inr (Or.inr ⟨s1, t1, s2, t2, f.tr h1, g.tr h2, h3⟩)
set_option maxHeartbeats 1000000 in
theorem cm_rd_loop {n : Nat} (x1 y1 : Int32) (x2 y2 : Int64) (as line : Int32) {kc km : vT} : ∀ (d i : Nat) (σ τ : lj_S) (a b : vT) (x13 x14 : Value), i + d = 20 → rbR σ τ n → vR σ τ kc km → vR σ τ a b → rxR σ τ as line kc km (lj_D lc_P lc_M142 9 [.ref 8, .int x1, .long x2, .retAddr 0, .int kc.1, .long kc.2, .retAddr 0, .int as, .int line, .int a.1, .long a.2, .retAddr 0, .int (Int32.ofNat i), x13, x14, .retAddr 0] [] σ) (lj_D lm_P lm_M129 9 [.ref 0, .int y1, .long y2, .retAddr 0, .int km.1, .long km.2, .retAddr 0, .int line, .int b.1, .long b.2, .retAddr 0, .int (Int32.ofNat (i + 1))] [] τ)
  | 0, i, σ, τ, a, b, x13, x14, hd, hb, hk, hab => by
    have e : i = 20 := by omega
    obtain ⟨σ', τ', e1, e2, e3⟩ := cm_wrong hb.1 line (e := 1) (by decide)
    have e1 : lj_br (lj_R lc_P 133 [.ref 8, .int line, .ref 1021] σ) (fun y s => (bif Nat.blt y 2000 then lj_up y s else none)) lj_up = some (.inr 2, σ') := e1
    have e2 : lj_R lm_P 142 [.ref 0, .int 1, .int line] τ = some (.inl none, τ') := e2
    refine Or.inr (Or.inr ⟨σ, τ, σ', τ', lf_rf _ _, lf_rf _ _, ?_, ?_, e3⟩)
    · rw [kc_142_9, e, if_pos (by decide), e1]
    · rw [km_129_9, e, if_pos (by decide), e2, bv_ok]
  | d + 1, i, σ, τ, a, b, x13, x14, hd, hb, hk, hab => by
    have n1 : ¬ ((20 : Int32) ≤ Int32.ofNat i) := by
      rw [show (20 : Int32) = Int32.ofNat 20 from rfl, ofN_le (by omega) (by omega)]; omega
    have n2 : ¬ ((20 : Int32) < Int32.ofNat (i + 1)) := by
      rw [lz_lt, lz_lit (by omega)]
      show ¬ ((20 : Int) < ((i + 1 : Nat) : Int))
      omega
    -- behind the table: its event
    have ev : ∀ (σ τ : lj_S), rbR σ τ n → vR σ τ kc km → vR σ τ a b → rxR σ τ as line kc km (lj_D lc_P lc_M142 78 [.ref 8, .int x1, .long x2, .retAddr 0, .int kc.1, .long kc.2, .retAddr 0, .int as, .int line, .int a.1, .long a.2, .retAddr 0, .int (Int32.ofNat i), x13, x14, .retAddr 0] [] σ) (lj_D lm_P lm_M129 53 [.ref 0, .int y1, .long y2, .retAddr 0, .int km.1, .long km.2, .retAddr 0, .int line, .int b.1, .long b.2, .retAddr 0, .int (Int32.ofNat (i + 1))] [] τ) := fun σ τ hb hk hab => by
      have h17 := hb.2.2.2.1 17 (by decide)
      obtain ⟨u, w, huw, e1, e2⟩ := cm_event hb.1.1 hb.2.1 hb.2.2.1 hab h17
      obtain ⟨hb', vr⟩ := hb.fd (fd_lf σ u) (fd_lfM τ w)
      have e2 : lj_R lm_P 130 [.ref 0, .int b.1, .long b.2, .int 0] τ = some (.inl none, fdM τ w) := e2
      have i17 : lj_in (17 : Int32) 24 := by decide
      have t17 : (17 : Int32).toNatClampNeg = 17 := by decide
      rw [kc_142_78, if_pos i17, t17, e1, bi_ok, km_129_53, e2, bv_ok, (fdM_v τ w).1]
      by_cases z : u.1 = 0
      · rw [if_pos z, if_pos rfl, if_pos (huw.k0.1 z)]
        by_cases y : a.1 = 4
        · rw [if_pos y, if_pos ((hab.kk (by decide) (by decide)).1 y)]
          refine Or.inl ⟨(0, 0), (0, 0), fdC σ u, fdM τ w, vR_nil _ _, fd_lf _ _, fd_lfM _ _, rfl, ?_⟩
          congr 1
          funext s
          rw [km_129_93]
        · rw [if_neg y, if_neg (fun q => y ((hab.kk (by decide) (by decide)).2 q))]
          obtain ⟨σ', τ', g1, g2, g3⟩ := cm_wrongOf hb'.1 line (e := 0) (by decide) (vr _ _ hab)
          have g1 : lj_br (lj_R lc_P 156 [.ref 8, .int line, .ref 1036, .int a.1] (fdC σ u)) (fun y s => (bif Nat.blt y 2000 then lj_up y s else none)) lj_up = some (.inr 2, σ') := g1
          have g2 : lj_R lm_P 131 [.ref 0, .int 0, .int line, .int b.1] (fdM τ w) = some (.inl none, τ') := g2
          exact Or.inr (Or.inr ⟨fdC σ u, fdM τ w, σ', τ', fd_lf _ _, fd_lfM _ _, g1, by rw [g2, bv_ok, km_129_93], g3⟩)
      · rw [if_neg z, if_neg (by decide), if_neg (fun q => z (huw.k0.2 q)), m_isFn, bi_ok, (fdC_v σ u).1, (fdC_v σ u).2]
        by_cases y : u.1 = 5
        · rw [if_pos y, if_pos (huw.kf.1 y), if_neg (by decide)]
          refine Or.inr (Or.inl ⟨u, w, a, b, fdC σ u, fdM τ w, vr _ _ huw, y, vr _ _ hab, fd_lf _ _, fd_lfM _ _, rfl, ?_⟩)
          rw [rm_112, km_112_0, bv_ok, bv_ok]
          show lj_bv (lj_R lm_P 141 [.ref 0, .int ((lj_put (lj_put (lj_put (fdM τ w) 0 130 0) 0 131 1) 0 132 line).1 0 90), .long ((fdM τ w).2 0 91), .int b.1, .long b.2, .int km.1, .long km.2] (lj_put (lj_put (lj_put (fdM τ w) 0 130 0) 0 131 1) 0 132 line)) _ _ = _
          rw [lj_put_1, if_neg (by omega), lj_put_1, if_neg (by omega), lj_put_1, if_neg (by omega), (fdM_v τ w).1, (fdM_v τ w).2]
        · rw [if_neg y, if_neg (fun q => y (huw.kf.2 q)), if_pos rfl, (fdM_v τ w).1, (fdM_v τ w).2, lz_osucc, lz_osucc]
          exact (cm_rd_loop x1 y1 x2 y2 as line d (i + 1) (fdC σ u) (fdM τ w) u w (.int u.1) (.long u.2) (by omega) hb' (vr _ _ hk) (vr _ _ huw)).pre (fd_lf _ _) (fd_lfM _ _)
    rw [kc_142_9, if_neg n1, km_129_9, if_neg n2]
    by_cases y : a.1 = 4
    · obtain ⟨o, rfl, rfl, ho⟩ := hab.tb y
      have on : o ≤ n := by have := ho.2.2.1; rw [hb.2.1.2.1] at this; omega
      have tmo : tm o = o := by unfold tm; rw [if_neg (by have := ho.1; omega)]
      obtain ⟨u, w, huw, e1, e2⟩ := cm_get hb.1.1 hb.2.1 on hk
      rw [tmo] at e2
      obtain ⟨hb', vr⟩ := hb.fd (fd_lf σ u) (fd_lfM τ w)
      rw [if_pos rfl, if_pos rfl, i64_32, e1, bi_ok, e2, bv_ok, (fdM_v τ w).1, (fdM_v τ w).2, (fdC_v σ u).1, (fdC_v σ u).2]
      by_cases z : u.1 = 0
      · rw [if_pos z, if_pos rfl, if_pos (huw.k0.1 z)]
        exact (ev (fdC σ u) (fdM τ w) hb' (vr _ _ hk) (vr _ _ hab)).pre (fd_lf _ _) (fd_lfM _ _)
      · rw [if_neg z, if_neg (by decide), if_neg (fun q => z (huw.k0.2 q))]
        exact Or.inl ⟨u, w, fdC σ u, fdM τ w, vr _ _ huw, fd_lf _ _, fd_lfM _ _, rfl, rfl⟩
    · rw [if_neg y, if_neg (fun q => y ((hab.kk (by decide) (by decide)).2 q))]
      exact ev σ τ hb hk hab
theorem cm_rd {σ τ : lj_S} {n : Nat} (h : rbR σ τ n) {kc km a b : vT} (hk : vR σ τ kc km) (hab : vR σ τ a b) (as line : Int32) : rxR σ τ as line kc km (lj_R lc_P 142 [.ref 8, .int a.1, .long a.2, .int kc.1, .long kc.2, .int as, .int line] σ) (lj_R lm_P 129 [.ref 0, .int b.1, .long b.2, .int km.1, .long km.2, .int line] τ) := by
  rw [rc_142, kc_142_0, rm_129, km_129_0]
  exact cm_rd_loop a.1 b.1 a.2 b.2 as line 20 0 σ τ a b (.retAddr 0) (.retAddr 0) rfl h hk hab
