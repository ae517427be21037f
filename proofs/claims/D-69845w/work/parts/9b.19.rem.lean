/-! what is built in: remove -/
/-- a table has a place with a key -/
def hasK (σ : lj_S) (t : Nat) (a : vT) : Prop := ∃ L, lk (lv σ 70) (lv σ 59 t) L ∧ ∃ p ∈ L, (σ.1 66 p, σ.2 67 p) = a
theorem lk_un {f : Nat → Int} : ∀ {l1 l2 : List Nat} {h : Int}, lk f h l1 → lk f h l2 → l1 = l2
  | [], [], _, _, _ => rfl
  | [], q :: l2, h, a, b => by
    have a : h = -1 := a
    have b := b.1
    omega
  | p :: l1, [], h, a, b => by
    have a := a.1
    have b : h = -1 := b
    omega
  | p :: l1, q :: l2, h, a, b => by
    have e : p = q := by
      have h1 := a.1
      have h2 := b.1
      omega
    subst e
    rw [lk_un a.2 b.2]
theorem hasK.cg {σ σ' : lj_S} {t : Nat} {a : vT} (h : hasK σ t a) (hC : ∀ k j, (k = 59 ∨ k = 66 ∨ k = 70) → σ'.1 k j = σ.1 k j) (hL : ∀ j, σ'.2 67 j = σ.2 67 j) : hasK σ' t a := by
  obtain ⟨L, l, p, hp, e⟩ := h
  refine ⟨L, ?_, p, hp, by rw [hC 66 p (by omega), hL]; exact e⟩
  have e1 : lv σ' 59 t = lv σ 59 t := by unfold lv; rw [hC 59 t (by omega)]
  have e2 : lv σ' 70 = lv σ 70 := by
    funext j
    unfold lv
    rw [hC 70 j (by omega)]
  rw [e1, e2]
  exact l
/-- a value is written where there is a place -/
theorem MB.setx {σ0 τ0 σ τ : lj_S} {n np p : Nat} {r : List Nat} {FP : Nat → List kF} {ρ : Nat → Nat} {A MO LA : List Nat} (h : MB σ0 τ0 n np p r FP ρ A MO LA σ τ) {t : Nat} (t1 : 1 ≤ t) (ht : t ≤ n) {a b : vT} (hab : vR σ τ a b) (ha : a.1 ≠ 0) {u w : vT} (huw : vR σ τ u w) (hk : hasK σ t a) : ∃ σ' τ', lj_R lc_P 113 [.ref 7, .int (Int32.ofNat t), .int a.1, .long a.2, .int u.1, .long u.2] σ = some (.inl none, σ') ∧ lj_R lm_P 108 [.ref 0, .int (Int32.ofNat t), .int b.1, .long b.2, .int w.1, .long w.2] τ = some (.inl (some (.int 1)), τ') ∧ MB σ0 τ0 n np p r FP ρ A MO LA σ' τ' ∧ lf hwC σ σ' ∧ lf hwM τ τ' ∧ (∀ k j, k ≠ 68 → σ'.1 k j = σ.1 k j) ∧ ∀ k j, k ≠ 69 → σ'.2 k j = σ.2 k j := by
  obtain ⟨h1, h2, h3, P, B, Fr, P', B', Fr', hc, hm, hl, he⟩ := h.2.2.2.1
  obtain ⟨L, l, pp, hp, e⟩ := hk
  have eL : L = P t := lk_un l (hc.1.1 t ht).1
  subst eL
  have cs := c_hset hc (fun t ht => by have ht : t ≤ n := ht; omega) ht a.1 a.2 u.1 u.2
  have ex : ∃ σ'', lj_R lc_P 113 [.ref 7, .int (Int32.ofNat t), .int a.1, .long a.2, .int u.1, .long u.2] σ = some (.inl none, σ'') ∧ (∀ k j, k ≠ 68 → σ''.1 k j = σ.1 k j) ∧ ∀ k j, k ≠ 69 → σ''.2 k j = σ.2 k j := by
    rcases cs with ⟨p, hp, e1, σ'', run, _, _, _, f1, f2⟩ | ⟨no, _⟩ | ⟨no, _⟩ | ⟨no, _⟩
    · exact ⟨σ'', run, fun k j z => f1 k j (fun y => z y.1), fun k j z => f2 k j (fun y => z y.1)⟩
    · exact absurd e (no pp hp)
    · exact absurd e (no pp hp)
    · exact absurd e (no pp hp)
  obtain ⟨σ'', run, x1, x2⟩ := ex
  have k4 : σ.1 57 t = 4 := by
    by_cases z : σ.1 57 t = 4
    · exact z
    · rw [hl.2.2 t ht z] at hp
      cases hp
  rcases h.set t1 ht hab ha huw k4 with ⟨s1, _⟩ | ⟨σ', τ', s1, s2, s3, s4, s5⟩
  · rw [run] at s1
    exact absurd (Prod.mk.inj (Option.some.inj s1)).1 (by intro y; cases y)
  · have e1 : σ'' = σ' := by
      rw [run] at s1
      exact (Prod.mk.inj (Option.some.inj s1)).2
    subst e1
    exact ⟨σ'', τ', s1, s2, s3, s4, s5, x1, x2⟩
/-- all keys up to the length have places -/
theorem lenk_loop {n t : Nat} (ht : t ≤ n) (hn : n ≤ 2000) {P B : Nat → List Nat} {Fr : List Nat} (σ : lj_S) : ∀ (d k : Nat) (L : List Nat) (σ1 : lj_S), d + k = 3001 → L.length = k → L.Nodup → (∀ p ∈ L, p ∈ P t ∧ ∃ i : Nat, i ≤ k ∧ (enC σ p).1 = (2, i64 i)) → hsC σ1 (· ≤ n) P B Fr → enC σ1 = enC σ → (∀ i, 1 ≤ i → i ≤ k → ∃ p ∈ P t, (enC σ p).1 = (2, i64 i)) → ∃ m s', lj_D lc_P lc_M119 2 [.ref 7, .int (Int32.ofNat t), .long (i64 k), .retAddr 0] [] σ1 = some (.inl (some (.long (i64 m))), s') ∧ m ≤ 3000 ∧ ∀ i, 1 ≤ i → i ≤ m → ∃ p ∈ P t, (enC σ p).1 = (2, i64 i)
  | 0, k, L, σ1, hd, hL, hnd, hp, hc, _, _ => by
    have := nd_le 3000 L hnd (fun q hq => (hc.1.2.2 t ht q (hp q hq).1).1)
    omega
  | d + 1, k, L, σ1, hd, hL, hnd, hp, hc, he, hI => by
    have ks : i64 k + 1 = i64 (k + 1) := i64_succ (by omega)
    rcases c_hget hc.1 (fun t ht => by have ht : t ≤ n := ht; omega) ht 2 (i64 k + 1) with ⟨q, hq, e1, run⟩ | ⟨no, run⟩
    · by_cases z : σ1.1 68 q = 0
      · rw [if_pos z] at run
        exact ⟨k, _, by rw [kc_119_2, run, bi_ok, if_pos rfl], by omega, hI⟩
      · rw [if_neg z] at run
        rw [he, ks] at e1
        have qL : q ∉ L := fun y => by
          obtain ⟨_, i, i1, i2⟩ := hp q y
          rw [e1] at i2
          have := i64_inj (by omega) (by omega) (congrArg Prod.snd i2)
          omega
        obtain ⟨m, s', m1, m2, m3⟩ := lenk_loop ht hn σ d (k + 1) (q :: L) (fdC σ1 (σ1.1 68 q, σ1.2 69 q)) (by omega) (by rw [List.length_cons, hL]) (List.nodup_cons.2 ⟨qL, hnd⟩) (fun x hx => by
          rcases List.mem_cons.1 hx with e | e
          · rw [e]; exact ⟨hq, k + 1, Nat.le_refl _, e1⟩
          · obtain ⟨b1, i, i1, i2⟩ := hp x e
            exact ⟨b1, i, by omega, i2⟩) (hc.g _) (by rw [enC_g, he]) (fun i i1 i2 => by
          by_cases y : i = k + 1
          · rw [y]; exact ⟨q, hq, e1⟩
          · exact hI i i1 (by omega))
        refine ⟨m, s', ?_, m2, m3⟩
        rw [kc_119_2, run, bi_ok, if_neg (by decide), ks]
        exact m1
    · exact ⟨k, _, by rw [kc_119_2, run, bi_ok, if_pos rfl], by omega, hI⟩
theorem MB.lenk {σ0 τ0 σ τ : lj_S} {n np p : Nat} {r : List Nat} {FP : Nat → List kF} {ρ : Nat → Nat} {A MO LA : List Nat} (h : MB σ0 τ0 n np p r FP ρ A MO LA σ τ) {t m : Nat} (ht : t ≤ n) (hm : m ≤ 3000) {s' : lj_S} (e : lj_R lc_P 119 [.ref 7, .int (Int32.ofNat t)] σ = some (.inl (some (.long (i64 m))), s')) : ∀ i, 1 ≤ i → i ≤ m → hasK σ t (2, i64 i) := by
  obtain ⟨h1, h2, h3, P, B, Fr, P', B', Fr', hc, hm', hl, he⟩ := h.2.2.2.1
  obtain ⟨m', s'', m1, m2, m3⟩ := lenk_loop ht h1 σ 3001 0 [] σ rfl rfl List.nodup_nil (fun p hp => by cases hp) hc rfl (fun i i1 i2 => by omega)
  rw [rc_119, kc_119_0] at e
  have m1 : lj_D lc_P lc_M119 2 [.ref 7, .int (Int32.ofNat t), .long 0, .retAddr 0] [] σ = _ := m1
  rw [m1] at e
  have e' := (Prod.mk.inj (Option.some.inj e)).1
  have mm : m' = m := by
    have : i64 m' = i64 m := by
      injection e' with e'
      injection e' with e'
      injection e' with e'
    exact i64_inj (by omega) (by omega) this
  subst mm
  intro i i1 i2
  obtain ⟨q, hq, eq⟩ := m3 i i1 i2
  exact ⟨P t, (hc.1.1 t ht).1, q, hq, eq⟩
def rvC (k j : Nat) : Bool := hwC k j || (k == 7 && (j == 27 || j == 28))
def rvM (k j : Nat) : Bool := hwM k j || (k == 0 && (j == 90 || j == 91))
/-- both move values down -/
theorem rv_loop {σ0 τ0 : lj_S} {n np p : Nat} {r : List Nat} {FP : Nat → List kF} {ρ : Nat → Nat} {A MO LA : List Nat} {o m : Nat} (o1 : 1 ≤ o) (on : o ≤ n) (hm : m ≤ 3000) (as line : Int32) (u : vT) (x6 y4 : Int64) : ∀ (d k : Nat) (σ τ : lj_S) (x8 y6 : Int32), k + d = m → 1 ≤ k → MB σ0 τ0 n np p r FP ρ A MO LA σ τ → (∀ i, 1 ≤ i → i ≤ m → hasK σ o (2, i64 i)) → ∃ σ' τ', lj_D lc_P lc_M189 146 [.ref 8, .int (Int32.ofNat o), .int line, .int as, .long (i64 m), .retAddr 0, .long x6, .retAddr 0, .int x8, .int u.1, .long u.2, .retAddr 0, .long (i64 k), .retAddr 0] [] σ = finC (lj_R lc_P 164 [.ref 8, .int 18, .int u.1, .long u.2, .int as] σ') ∧ lj_D lm_P lm_M223 117 [.ref 0, .int (Int32.ofNat o), .long (i64 m), .retAddr 0, .long y4, .retAddr 0, .int y6, .long (i64 k), .retAddr 0] [] τ = some (.inl none, τ') ∧ MB σ0 τ0 n np p r FP ρ A MO LA σ' τ' ∧ lf rvC σ σ' ∧ lf rvM τ τ'
  | 0, k, σ, τ, x8, y6, hd, hk, h, hI => by
    have km : k = m := by omega
    subst km
    obtain ⟨σ', τ', s1, s2, s3, s4, s5, _, _⟩ := h.setx o1 on (vR_whole σ τ (i64 k)) (show (2 : Int32) ≠ 0 by decide) (vR_nil σ τ) (hI k hk (Nat.le_refl _))
    have s1 : lj_R lc_P 113 [.ref 7, .int (Int32.ofNat o), .int 2, .long (i64 k), .int 0, .long 0] σ = _ := s1
    have s2 : lj_R lm_P 108 [.ref 0, .int (Int32.ofNat o), .int 2, .long (i64 k), .int 0, .long 0] τ = _ := s2
    have c : 0 ≤ lg_cmp (i64 k) (i64 k) := (lg_ge _ _).2 (Int64.le_refl _)
    refine ⟨σ', τ', ?_, ?_, s3, s4.mo (fun k j q => by unfold rvC at q; simp at q; exact q.1), s5.mo (fun k j q => by unfold rvM at q; simp at q; exact q.1)⟩
    · rw [kc_189_146, if_pos c, s1, bv_ok]
      rfl
    · rw [km_223_117, if_pos c, s2, bi_ok]
  | d + 1, k, σ, τ, x8, y6, hd, hk, h, hI => by
    have c : ¬ (0 ≤ lg_cmp (i64 k) (i64 m)) := fun y => by
      have := Int64.le_iff_toInt_le.1 ((lg_ge _ _).1 y)
      rw [i64_int (by omega), i64_int (by omega)] at this
      omega
    have ks : i64 k + 1 = i64 (k + 1) := i64_succ (by omega)
    obtain ⟨v, w, a1, a2, a3⟩ := cm_get h.2.1.1 h.2.2.2.1 on (vR_whole σ τ (i64 (k + 1)))
    rw [tm_p o1] at a3
    have f1 : (fdC σ v).1 7 27 = v.1 := by rw [fdC_1, if_pos ⟨rfl, rfl⟩]
    have f2 : (fdC σ v).2 7 28 = v.2 := by rw [fdC_2, if_pos ⟨rfl, rfl⟩]
    have f3 : (fdM τ w).1 0 90 = w.1 := by rw [fdM_1, if_pos ⟨rfl, rfl⟩]
    have f4 : (fdM τ w).2 0 91 = w.2 := by rw [fdM_2, if_pos ⟨rfl, rfl⟩]
    have hI1 : ∀ i, 1 ≤ i → i ≤ m → hasK (fdC σ v) o (2, i64 i) := fun i i1 i2 => (hI i i1 i2).cg (fun k j q => by rw [fdC_1, if_neg (by omega)]) (fun j => by rw [fdC_2, if_neg (by omega)])
    obtain ⟨σ1, τ1, s1, s2, s3, s4, s5, x1, x2⟩ := (h.fd v w).setx o1 on (vR_whole (fdC σ v) (fdM τ w) (i64 k)) (show (2 : Int32) ≠ 0 by decide) (a1.fd v w) (hI1 k hk (by omega))
    have s1 : lj_R lc_P 113 [.ref 7, .int (Int32.ofNat o), .int 2, .long (i64 k), .int v.1, .long v.2] (fdC σ v) = _ := s1
    have s2 : lj_R lm_P 108 [.ref 0, .int (Int32.ofNat o), .int 2, .long (i64 k), .int w.1, .long w.2] (fdM τ w) = _ := s2
    obtain ⟨σ', τ', r1, r2, r3, r4, r5⟩ := rv_loop o1 on hm as line u x6 y4 d (k + 1) σ1 τ1 (if v.1 = 0 then 0 else 1) 1 (by omega) (by omega) s3 (fun i i1 i2 => (hI1 i i1 i2).cg (fun k j q => x1 k j (by omega)) (fun j => x2 67 j (by omega)))
    refine ⟨σ', τ', ?_, ?_, r3, ?_, ?_⟩
    · rw [kc_189_146, if_neg c, ks, a2, bi_ok, f1, f2, s1, bv_ok]
      exact r1
    · rw [km_223_117, if_neg c, ks, a3, bv_ok, f3, f4, s2, bi_ok]
      exact r2
    · exact ((lf_putL (lf_put (lf_rf rvC σ) 7 27 v.1 rfl) 7 28 v.2 rfl).tr (s4.mo (fun k j q => by unfold rvC at q; simp at q; exact q.1))).tr r4
    · exact ((lf_putL (lf_put (lf_rf rvM τ) 0 90 w.1 rfl) 0 91 w.2 rfl).tr (s5.mo (fun k j q => by unfold rvM at q; simp at q; exact q.1))).tr r5
theorem bi_18 {σ0 τ0 σ τ : lj_S} {n np p : Nat} {r : List Nat} {FP : Nat → List kF} {ρ : Nat → Nat} {A MO LA : List Nat} {M : Nat} (D : DLV σ0 τ0 M) (h : MB σ0 τ0 n np p r FP ρ A MO LA σ τ) (ry : ryR σ τ) (hwk : wkR FP (p :: r) A σ) {as line : Int32} (ht : τ.1 0 129 = 1) (ha : awR σ0 (FP p) as (τ.1 0 130) (τ.1 0 131)) (hln : τ.1 0 132 = line) {G G' : List vT} (hG : gwR σ τ G G') (hGl : G.length ≤ 49) (hM : thM FP (p :: r) MO LA + 5001 ≤ M) {X : Nat} (hX : X ≤ TH) (hT : thM FP (p :: r) MO LA + 5001 ≤ X) : ∃ τ1, lj_R lm_P 187 [.ref 0, .int 18] τ = some (.inl none, τ1) ∧ ocR σ0 τ0 A (fun t => t ≤ X) σ τ1 (lj_R lc_P 159 [.ref 8, .int 18, .int as, .int line] σ) := by
  have m1 := hG.m1 hGl
  have px := h.px hwk
  have rM : ∀ {τx : lj_S}, lj_R lm_P 223 [.ref 0] τ = some (.inl none, τx) → lj_R lm_P 187 [.ref 0, .int 18] τ = some (.inl none, τx) := fun e => mb_more (by decide) (by rw [rm_221, km_221_0, if_neg (by decide), if_pos rfl, e, bv_ok, km_221_215])
  rcases bi_tab h.2.1 h.2.2.2.1 hG (by omega) hln (w := 18) (by decide) with ⟨o, ob, on, e1, e2, e3, e4⟩ | ⟨σ', τ', q1, q2, q3⟩
  · have e3 : lj_R lc_P 167 [.ref 8, .int 0, .int 18, .int line] σ = some (.inl (some (.int (Int32.ofNat o))), σ) := e3
    have e4 : lj_R lm_P 198 [.ref 0, .int 1, .int 4, .int 18] τ = some (.inl (some (.int 1)), τ) := e4
    rw [e2] at m1
    have rC : ∀ {x : Option lj_O}, lj_R lc_P 189 [.ref 8, .int (Int32.ofNat o), .int line, .int as] σ = x → lj_R lc_P 159 [.ref 8, .int 18, .int as, .int line] σ = finC (finC x) := fun e => by
      rw [cb_more (by decide) (by decide), rc_187, kc_187_0, if_neg (by decide), if_pos rfl, e3, bi_ok, e]
      simp only [kc_187_919]
      rfl
    obtain ⟨m, hm, a1, a2⟩ := cm_len h.2.1.1 h.2.2.2.1 on
    rw [tm_p ob.1] at a2
    have hI := h.lenk on hm a1
    have hB := h.fd (0, 0) (0, 0)
    have gB := hG.fd (0, 0) (0, 0)
    have c1 := gB.c1 hGl
    have m2 := gB.m2 hGl
    have hv := gB.v 1
    have f132 : (fdM τ (0, 0)).1 0 132 = line := by rw [fdM_1, if_neg (by omega)]; exact hln
    have hI1 : ∀ i, 1 ≤ i → i ≤ m → hasK (fdC σ (0, 0)) o (2, i64 i) := fun i i1 i2 => (hI i i1 i2).cg (fun k j q => by rw [fdC_1, if_neg (by omega)]) (fun j => by rw [fdC_2, if_neg (by omega)])
    have headC : lj_R lc_P 189 [.ref 8, .int (Int32.ofNat o), .int line, .int as] σ = lj_bi (lj_R lc_P 163 [.ref 8, .int 1] (fdC σ (0, 0))) (fun y4 σ3 => (if y4 = 0 then (if (lg_cmp (i64 m) 0) = 0 then lj_bv (lj_R lc_P 164 [.ref 8, .int 18, .int 0, .long 0, .int as] σ3) (fun σ5 => some (.inl none, σ5)) lj_up else lj_D lc_P lc_M189 38 [.ref 8, .int (Int32.ofNat o), .int line, .int as, .long (i64 m), .retAddr 0, .retAddr 0, .retAddr 0, .retAddr 0, .retAddr 0, .retAddr 0, .retAddr 0, .retAddr 0, .retAddr 0] [] σ3) else lj_D lc_P lc_M189 38 [.ref 8, .int (Int32.ofNat o), .int line, .int as, .long (i64 m), .retAddr 0, .retAddr 0, .retAddr 0, .retAddr 0, .retAddr 0, .retAddr 0, .retAddr 0, .retAddr 0, .retAddr 0] [] σ3)) lj_up := by
      rw [rc_189, kc_189_0, a1, bl_ok]
    have headM : lj_R lm_P 223 [.ref 0] τ = lj_bl (lj_R lm_P 191 [.ref 0, .int 2] (fdM τ (0, 0))) (fun y8 σ7 => lj_bi (lj_R lm_P 190 [.ref 0, .int 2] σ7) (fun y10 σ9 => (if y10 = 0 then lj_D lm_P lm_M223 77 [.ref 0, .int (Int32.ofNat o), .long (i64 m), .retAddr 0, .long (i64 m), .retAddr 0, .retAddr 0, .retAddr 0, .retAddr 0] [] σ9 else lj_bi (lj_R lm_P 190 [.ref 0, .int 2] σ9) (fun y12 σ11 => (if y12 = 2 then (if (lg_cmp y8 1) < 0 then lj_D lm_P lm_M223 69 [.ref 0, .int (Int32.ofNat o), .long (i64 m), .retAddr 0, .long y8, .retAddr 0, .retAddr 0, .retAddr 0, .retAddr 0] [] σ11 else (if (lg_cmp y8 (i64 m)) ≤ 0 then lj_D lm_P lm_M223 77 [.ref 0, .int (Int32.ofNat o), .long (i64 m), .retAddr 0, .long y8, .retAddr 0, .retAddr 0, .retAddr 0, .retAddr 0] [] σ11 else lj_D lm_P lm_M223 69 [.ref 0, .int (Int32.ofNat o), .long (i64 m), .retAddr 0, .long y8, .retAddr 0, .retAddr 0, .retAddr 0, .retAddr 0] [] σ11)) else lj_D lm_P lm_M223 69 [.ref 0, .int (Int32.ofNat o), .long (i64 m), .retAddr 0, .long y8, .retAddr 0, .retAddr 0, .retAddr 0, .retAddr 0] [] σ11)) lj_up)) lj_up) lj_up := by
      rw [rm_223, km_223_0, e4, bi_ok, if_neg (by decide), m1.2, bl_ok]
      simp only [i64_32]
      rw [a2, bl_ok]
    -- which one goes is known
    have main : ∀ (q : Nat), 1 ≤ q → q ≤ m → ∃ τ1, lj_D lm_P lm_M223 77 [.ref 0, .int (Int32.ofNat o), .long (i64 m), .retAddr 0, .long (i64 q), .retAddr 0, .retAddr 0, .retAddr 0, .retAddr 0] [] (fdM τ (0, 0)) = some (.inl none, τ1) ∧ ocR σ0 τ0 A (fun t => t ≤ X) σ τ1 (lj_D lc_P lc_M189 100 [.ref 8, .int (Int32.ofNat o), .int line, .int as, .long (i64 m), .retAddr 0, .retAddr 0, .retAddr 0, .retAddr 0, .retAddr 0, .retAddr 0, .retAddr 0, .retAddr 0, .retAddr 0] [.long (i64 q)] (fdC σ (0, 0))) := fun q q1 q2 => by
      obtain ⟨u, w, b1, b2, b3⟩ := cm_get hB.2.1.1 hB.2.2.2.1 on (vR_whole (fdC σ (0, 0)) (fdM τ (0, 0)) (i64 q))
      rw [tm_p ob.1] at b3
      have f1 : (fdC (fdC σ (0, 0)) u).1 7 27 = u.1 := by rw [fdC_1, if_pos ⟨rfl, rfl⟩]
      have f2 : (fdC (fdC σ (0, 0)) u).2 7 28 = u.2 := by rw [fdC_2, if_pos ⟨rfl, rfl⟩]
      have f3 : (fdM (fdM τ (0, 0)) w).1 0 90 = w.1 := by rw [fdM_1, if_pos ⟨rfl, rfl⟩]
      have f4 : (fdM (fdM τ (0, 0)) w).2 0 91 = w.2 := by rw [fdM_2, if_pos ⟨rfl, rfl⟩]
      have hC := (hB.fd u w).sc (lf_rf _ _) (oneM_z (fdM (fdM τ (0, 0)) w) w)
      have hI2 : ∀ i, 1 ≤ i → i ≤ m → hasK (fdC (fdC σ (0, 0)) u) o (2, i64 i) := fun i i1 i2 => (hI1 i i1 i2).cg (fun k j q => by rw [fdC_1, if_neg (by omega)]) (fun j => by rw [fdC_2, if_neg (by omega)])
      obtain ⟨σ', τ', r1, r2, r3, r4, r5⟩ := rv_loop ob.1 on hm as line u (i64 q) (i64 q) (m - q) q _ _ (if u.1 = 0 then 0 else 1) 1 (by omega) q1 hC hI2
      have vu : vR σ' τ' u w := ((b1.fd u w).cg (σ' := fdC (fdC σ (0, 0)) u) (τ' := oneM (fdM (fdM τ (0, 0)) w) w) (fun _ _ _ => rfl) (fun k j q => (oneM_o _ _ (by unfold vqM at q; simp at q; omega)).1)).cg (fun k j q => (r4 k j (by unfold vqC at q; unfold rvC hwC; simp at q ⊢; omega)).1) (fun k j q => (r5 k j (by unfold vqM at q; unfold rvM hwM; simp at q ⊢; omega)).1)
      obtain ⟨σ2, g1, g2, g3⟩ := c_gives (x_rs0 σ') (by decide) u
      have g2 : rsC σ2 [u] := g2
      have l41 : lf szC σ' σ2 := (lf_put (lf_rf _ σ') 8 41 0 rfl).tr (rtC_z g3)
      have l41b : lf bfC σ' σ2 := (lf_put (lf_rf _ σ') 8 41 0 rfl).tr (rtC_b g3)
      have rm : rsM τ' [w] := by
        have o1 := oneM_rs (fdM (fdM τ (0, 0)) w) w
        refine ⟨by rw [r5.v (by unfold rvM hwM; simp)]; exact o1.1, fun j hj => by rw [(r5 90 j (by unfold rvM hwM; simp)).1, (r5 91 j (by unfold rvM hwM; simp)).2]; exact o1.2 j hj⟩
      have bC : lf bfC σ σ2 := ((((lf_fdC σ (0, 0)).tr (lf_fdC _ u)).tr (r4.mo (fun k j q => by unfold bfC at q; unfold rvC hwC; simp at q ⊢; omega))).tr l41b)
      have bM : lf bfM τ τ' := (((lf_fdM τ (0, 0)).tr (lf_fdM _ w)).tr (oneM_b _ w)).tr (r5.mo (fun k j q => by unfold bfM at q; unfold rvM hwM; simp at q ⊢; omega))
      have dl := bi_dl D ry hwk ha (r3.sc l41 (lf_rf _ _)) bC bM (by rw [(r5 0 129 (by unfold rvM hwM; simp)).1]; unfold oneM; exact (by simp [lj_put_1, lj_putL_1])) g2 rm ⟨rfl, by simp, fun j => by
        cases j with
        | zero => exact vu.cg (fun k j q => (l41 k j (by unfold vqC at q; unfold szC; simp at q ⊢; omega)).1) (fun _ _ _ => rfl)
        | succ j => exact vR_nil _ _⟩ (by simp; omega) (by omega) (by omega) hX
      have n0 : ¬ (lg_cmp (i64 m) 0 = 0) := fun y => by
        have := i64_inj (n := m) (m := 0) (by omega) (by omega) ((lg_eq0 _ _).1 y)
        omega
      refine ⟨τ', ?_, ?_⟩
      · rw [km_223_77, if_neg n0, b3, bv_ok, f3, f4, m_one, bv_ok]
        exact r2
      · rw [kc_189_100, b2, bi_ok, f1, f2, r1, rc_164, kc_164_0, g1, bv_ok]
        exact dl.fin.fin
    have bad : lj_R lm_P 223 [.ref 0] τ = lj_D lm_P lm_M223 69 [.ref 0, .int (Int32.ofNat o), .long (i64 m), .retAddr 0, .long (G'.getD 1 (0, 0)).2, .retAddr 0, .retAddr 0, .retAddr 0, .retAddr 0] [] (fdM τ (0, 0)) → lj_R lc_P 189 [.ref 8, .int (Int32.ofNat o), .int line, .int as] σ = lj_D lc_P lc_M189 74 [.ref 8, .int (Int32.ofNat o), .int line, .int as, .long (i64 m), .retAddr 0, .retAddr 0, .retAddr 0, .retAddr 0, .retAddr 0, .retAddr 0, .retAddr 0, .retAddr 0, .retAddr 0] [.ref 8] (fdC σ (0, 0)) → ∃ τ1, lj_R lm_P 187 [.ref 0, .int 18] τ = some (.inl none, τ1) ∧ ocR σ0 τ0 A (fun t => t ≤ X) σ τ1 (lj_R lc_P 159 [.ref 8, .int 18, .int as, .int line] σ) := fun r1 r2 => by
      obtain ⟨σ', τ', q1, q2, q3⟩ := nd_bad hB.2.1 f132 2 (w := 18) (by decide)
      have q1 : lj_R lc_P 168 [.ref 8, .int 0, .int 2, .int 18, .int line] (fdC σ (0, 0)) = some (.inr 2, σ') := q1
      have q2 : lj_R lm_P 199 [.ref 0, .int 2, .int 18] (fdM τ (0, 0)) = some (.inl none, τ') := q2
      refine ⟨τ', rM (by rw [r1, km_223_69, q2, bv_ok]), ?_⟩
      rw [rC r2, kc_189_74, kc_189_75, q1, bv_th]
      exact (bt_er ry hwk hB (lf_fdC σ _) (lf_fdM τ _) q3 (by omega)).fin.fin
    by_cases z0 : (G.getD 1 (0, 0)).1 = 0
    · have z0' : (G'.getD 1 (0, 0)).1 = 0 := hv.k0.1 z0
      by_cases m0 : m = 0
      · have c0 : lg_cmp (i64 m) 0 = 0 := (lg_eq0 _ _).2 (by rw [m0]; rfl)
        obtain ⟨τ2, p1, p2⟩ := bi_one D ry hwk ha hB (lf_fdC σ _) (lf_fdM τ _) (vR_nil _ _) (by omega) (by omega) hX 18
        have p1 : lj_R lm_P 195 [.ref 0, .int 0, .long 0] (fdM τ (0, 0)) = some (.inl none, τ2) := p1
        refine ⟨τ2, rM ?_, ?_⟩
        · rw [headM, m2.2, bl_ok, m2.1, bi_ok, if_pos z0', km_223_77, if_pos c0, p1, bv_ok]
        · rw [rC rfl, headC, c1.1, bi_ok, if_pos z0, if_pos c0]
          exact p2.fin.fin.fin
      · have c0 : ¬ (lg_cmp (i64 m) 0 = 0) := fun y => m0 (i64_inj (n := m) (m := 0) (by omega) (by omega) ((lg_eq0 _ _).1 y))
        obtain ⟨τ1, r1, r2⟩ := main m (by omega) (Nat.le_refl _)
        refine ⟨τ1, rM ?_, ?_⟩
        · rw [headM, m2.2, bl_ok, m2.1, bi_ok, if_pos z0', r1]
        · rw [rC rfl, headC, c1.1, bi_ok, if_pos z0, if_neg c0, kc_189_38, c1.1, bi_ok, if_pos z0, kc_189_70, kc_189_75, nd_ok _ (by decide), bv_ok, c1.1, bi_ok, if_pos z0]
          exact r2.fin.fin
    · have z0' : ¬ ((G'.getD 1 (0, 0)).1 = 0) := fun q => z0 (hv.k0.2 q)
      by_cases k2 : (G.getD 1 (0, 0)).1 = 2
      · have e := hv.wh k2
        obtain ⟨v, hv2⟩ : ∃ v, v = (G.getD 1 (0, 0)).2 := ⟨_, rfl⟩
        have ea : G.getD 1 (0, 0) = (2, v) := Prod.ext k2 hv2.symm
        rw [ea] at e c1
        have eb := e
        rw [e] at m2
        have i1 : (1 : Int64).toInt = 1 := by decide
        have im : (i64 m).toInt = (m : Int) := i64_int (by omega)
        by_cases inn : 1 ≤ v.toInt ∧ v.toInt ≤ (m : Int)
        · obtain ⟨q, hq⟩ : ∃ q : Nat, (q : Int) = v.toInt := ⟨v.toInt.toNat, by omega⟩
          have vq : v = i64 q := lg_ext (by rw [i64_int (by omega)]; exact hq.symm)
          obtain ⟨τ1, r1, r2⟩ := main q (by omega) (by omega)
          rw [← vq] at r1 r2
          refine ⟨τ1, rM ?_, ?_⟩
          · rw [headM, m2.2, bl_ok, m2.1, bi_ok, if_neg (by dsimp only; decide), m2.1, bi_ok, if_pos rfl, if_neg (fun y => by
              have : v.toInt < (1 : Int64).toInt := Int64.lt_iff_toInt_lt.1 ((lg_lt _ _).1 y)
              rw [i1] at this
              omega), if_pos ((lg_le _ _).2 (Int64.le_iff_toInt_le.2 (by rw [im]; exact inn.2)))]
            exact r1
          · have q' : (if (1 : Int64).toInt ≤ v.toInt ∧ v.toInt ≤ (i64 m).toInt then (1 : Int32) else 0) = 1 := by rw [i1, im, if_pos inn]
            rw [rC rfl, headC, c1.1, bi_ok, if_neg (by dsimp only; decide), kc_189_38, c1.1, bi_ok, if_neg (by dsimp only; decide), c1.1, bi_ok, if_pos rfl, c1.2, bl_ok, c_isIn, bi_ok, q', if_neg (by decide), kc_189_70, kc_189_75, nd_ok _ (by decide), bv_ok, c1.1, bi_ok, if_neg (by dsimp only; decide), c1.2, bl_ok]
            exact r2.fin.fin
        · refine bad ?_ ?_
          · rw [headM, m2.2, bl_ok, m2.1, bi_ok, if_neg (by dsimp only; decide), m2.1, bi_ok, if_pos rfl, eb]
            by_cases y1 : lg_cmp v 1 < 0
            · rw [if_pos y1]
            · have a2 : ¬ (v.toInt < 1) := fun q => y1 ((lg_lt _ _).2 (Int64.lt_iff_toInt_lt.2 (by rw [i1]; exact q)))
              rw [if_neg y1, if_neg (fun y => by
                have : v.toInt ≤ (i64 m).toInt := Int64.le_iff_toInt_le.1 ((lg_le _ _).1 y)
                rw [im] at this
                omega)]
          · have q' : (if (1 : Int64).toInt ≤ v.toInt ∧ v.toInt ≤ (i64 m).toInt then (1 : Int32) else 0) = 0 := by rw [i1, im, if_neg inn]
            rw [headC, c1.1, bi_ok, if_neg (by dsimp only; decide), kc_189_38, c1.1, bi_ok, if_neg (by dsimp only; decide), c1.1, bi_ok, if_pos rfl, c1.2, bl_ok, c_isIn, bi_ok, q', if_pos rfl]
      · have k2' : ¬ ((G'.getD 1 (0, 0)).1 = 2) := fun q => k2 ((hv.kk (by decide) (by decide)).2 q)
        refine bad ?_ ?_
        · rw [headM, m2.2, bl_ok, m2.1, bi_ok, if_neg z0', m2.1, bi_ok, if_neg k2']
        · rw [headC, c1.1, bi_ok, if_neg z0, kc_189_38, c1.1, bi_ok, if_neg z0, c1.1, bi_ok, if_neg k2]
  · have q2 : lj_R lc_P 167 [.ref 8, .int 0, .int 18, .int line] σ = some (.inr 2, σ') := q2
    have q3 : lj_R lm_P 198 [.ref 0, .int 1, .int 4, .int 18] τ = some (.inl (some (.int 0)), τ') := q3
    refine ⟨τ', rM ?_, ?_⟩
    · rw [rm_223, km_223_0, q3, bi_ok, if_pos rfl]
    · rw [cb_more (by decide) (by decide), rc_187, kc_187_0, if_neg (by decide), if_pos rfl, q2, bi_th]
      exact (bt_er ry hwk h (lf_rf _ _) (lf_rf _ _) q1 (by omega)).fin
