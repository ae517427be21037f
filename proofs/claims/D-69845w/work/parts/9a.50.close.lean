/-! locals end: both machines -/
theorem stk_81 {σ τ : lj_S} {p hb ob mb kb : Nat} : ∀ {s : List Nat} {ce me mq : Nat} {cm : Int32}, stk σ τ p hb ob mb kb s ce me mq cm → ∀ j, ob ≤ j → j < ce → σ.1 81 j = -1
  | [], ce, me, mq, cm, h, j, h1, h2 => by
    have := h.1
    omega
  | x :: s, ce, me, mq, cm, h, j, h1, h2 => by
    rcases h with ⟨_, ce', mq', cm', e1, e2, e3, ⟨_, _, e4⟩, e5, e6⟩ | ⟨_, mq', e1, e2, e3⟩ | ⟨_, me', e1, e2, e3⟩ | ⟨_, r, ce', me', e1, e2, e3, e4, e5⟩ | ⟨_, ce', me', e1, e2, e3, e4, e5, e6, e7⟩ | ⟨_, ce', me', e1, e2, e3, e4, e5, e6⟩
    · by_cases z : j = ce'
      · rw [z]; exact e4
      · exact stk_81 e6 j h1 (by omega)
    · exact stk_81 e3 j h1 h2
    · exact stk_81 e3 j h1 h2
    · by_cases z : j < ce'
      · exact stk_81 e5 j h1 z
      · have := (e4 (j - ce') (by omega)).2
        rw [show ce' + (j - ce') = j by omega] at this
        exact this
    · by_cases z : j = ce'
      · rw [z]; exact e4
      · exact stk_81 e7 j h1 (by omega)
    · by_cases z : j = ce'
      · rw [z]; exact e5
      · exact stk_81 e6 j h1 (by omega)
/-- where no local lives in a frame there is no cell -/
theorem vw.n81 {σ0 τ0 σ τ : lj_S} {ρ : Nat → Nat} {FP : Nat → List kF} {p : Nat} {F : kF} {L : List kF} {ms ks ce me mq : Nat} (V : vw σ0 τ0 σ τ ρ FP p F L ms ks ce me mq) {t : Nat} (h1 : kC F ≤ t) (h2 : t < ce) (hl : ∀ x ∈ (kY F).2.2.2.2.1, t ≠ kB F + x) : σ.1 81 t = -1 := by
  have B7 : kB F = kC F + kD F := rfl
  obtain ⟨t1, t2, t3, t4, ⟨t5, t6, t7, t8, t9⟩, t10⟩ := V.2.2.2.2.1
  by_cases a : t < kB F
  · have := (t3 (t - kC F) (by omega)).2
    rw [show kC F + (t - kC F) = t by omega] at this
    exact this
  by_cases b : t < kB F + nL σ0 (kY F).1
  · have := t7 (t - kB F) (by omega) (fun w => hl _ w (by omega))
    rw [show kB F + (t - kB F) = t by omega] at this
    exact this
  by_cases c : t < kB F + nL σ0 (kY F).1 + 3 * nH σ0 (kY F).1
  · have := t8 (t - (kB F + nL σ0 (kY F).1)) (by omega)
    rw [show kB F + nL σ0 (kY F).1 + (t - (kB F + nL σ0 (kY F).1)) = t by omega] at this
    exact this
  · exact stk_81 t4 t (by omega) h2
/-- one local ends: its cell is closed -/
theorem MB.c1 {σ0 τ0 σ τ : lj_S} {n np p : Nat} {r : List Nat} {FP : Nat → List kF} {ρ : Nat → Nat} {A MO LA : List Nat} (h : MB σ0 τ0 n np p r FP ρ A MO LA σ τ) {F : kF} {L : List kF} (hF : FP p = F :: L) (h0 : kS F = 0) {ms ks ce me mq : Nat} (V : vw σ0 τ0 σ τ ρ FP p F L ms ks ce me mq) {x : Nat} (hx : x ∈ (kY F).2.2.2.2.1) (hdd : (kY F).2.2.2.2.2 ≤ x) : ∃ σ' ρ', lj_R lc_P 151 [.ref 8, .int (Int32.ofNat (kB F + x))] σ = some (.inl none, σ') ∧ (∀ k j, ¬ (74 ≤ k ∧ k ≤ 76) → ¬ (k = 81 ∧ j = kB F + x) → σ'.1 k j = σ.1 k j ∧ σ'.2 k j = σ.2 k j) ∧ MB σ0 τ0 n np p r (fpT FP p (kTo F (kY F).2.1 (kY F).2.2.1 (kY F).2.2.2.1 ((kY F).2.2.2.2.1.filter (· != x)) (kY F).2.2.2.2.2 0 0 :: L)) ρ' A MO LA σ' τ := by
  have B := V.bd
  have nl := V.ff.1
  have hls := h.ls
  obtain ⟨t5, t6, t7, t8, t10⟩ := V.2.2.2.2.1.2.2.2.2.1
  have xn := (t5 x hx).1
  have lx : lsL (FP p) (kB F + x) := by rw [hF]; exact ⟨F, List.mem_cons_self, h0, x, hx, rfl⟩
  have a3 : kB F + x < 325000 := by omega
  have hcl := h.2.2.2.2.2.2.2.2.2.1
  have mem : ∀ y, y ∈ (kY F).2.2.2.2.1.filter (· != x) ↔ y ∈ (kY F).2.2.2.2.1 ∧ y ≠ x := fun y => by rw [List.mem_filter]; simp
  have hf : ∀ q b, lsL (fpT FP p (kTo F (kY F).2.1 (kY F).2.2.1 (kY F).2.2.2.1 ((kY F).2.2.2.2.1.filter (· != x)) (kY F).2.2.2.2.2 0 0 :: L) q) b ↔ lsL (FP q) b ∧ b ≠ kB F + x := fun q b => by
    by_cases z : q = p
    · rw [z, fpT_o, hF]
      constructor
      · rintro ⟨G, hG, wG⟩
        rcases List.mem_cons.1 hG with e | e
        · rw [e] at wG
          obtain ⟨_, y, hy, ey⟩ := wG
          have ey : b = kB F + y := ey
          obtain ⟨y1, y2⟩ := (mem y).1 hy
          exact ⟨⟨F, List.mem_cons_self, h0, y, y1, ey⟩, by omega⟩
        · have := (prt_rg V.2.1).2 b ⟨G, e, wG⟩
          exact ⟨⟨G, List.mem_cons_of_mem _ e, wG⟩, by omega⟩
      · rintro ⟨⟨G, hG, wG⟩, w⟩
        rcases List.mem_cons.1 hG with e | e
        · rw [e] at wG
          obtain ⟨_, y, hy, ey⟩ := wG
          exact ⟨_, List.mem_cons_self, rfl, y, (mem y).2 ⟨hy, fun y' => w (by rw [ey, y'])⟩, ey⟩
        · exact ⟨G, List.mem_cons_of_mem _ e, wG⟩
    · unfold fpT
      rw [if_neg z]
      exact ⟨fun w => ⟨w, fun y => by rw [y] at w; have := hls q _ w; omega⟩, fun w => w.1⟩
  obtain ⟨cl0, cl1⟩ := hcl.cls h.2.2.2.1.1 hf ⟨p, lx, by rw [h.2.2.2.2.2.2.1.2.2.1.2]; decide⟩
  -- the frame in a state where 81 of the slot is -1
  have go : ∀ (σ' : lj_S) (ρ' : Nat → Nat), (∀ k j, ¬ (74 ≤ k ∧ k ≤ 76) → ¬ (k = 81 ∧ j = kB F + x) → σ'.1 k j = σ.1 k j ∧ σ'.2 k j = σ.2 k j) → σ'.1 81 (kB F + x) = -1 → (∀ b, b < 325000 → ρ' b = ρ b) → clR σ0 σ' τ (fpT FP p (kTo F (kY F).2.1 (kY F).2.2.1 (kY F).2.2.2.1 ((kY F).2.2.2.2.1.filter (· != x)) (kY F).2.2.2.2.2 0 0 :: L)) ρ' n → MB σ0 τ0 n np p r (fpT FP p (kTo F (kY F).2.1 (kY F).2.2.1 (kY F).2.2.2.1 ((kY F).2.2.2.2.1.filter (· != x)) (kY F).2.2.2.2.2 0 0 :: L)) ρ' A MO LA σ' τ := fun σ' ρ' o e81 hr gcl => by
    have f : lf (rzC p (20 * p + L.length) (kC F)) σ σ' := fun k j q => o k j (by
      unfold rzC at q
      simp at q
      omega) (by
      unfold rzC at q
      simp at q
      omega)
    have vC : ∀ k j, vqC k j = true → σ'.1 k j = σ.1 k j := fun k j q => (rz_eq f (by unfold vqC at q; simp at q; omega)).1
    have gfr := frm_re V h0 (ρ' := ρ') f (lf_rf _ _) (c' := (kY F).2.1) (m' := (kY F).2.2.1) (dd' := (kY F).2.2.2.2.2) (n' := 0) (w' := 0) (ce' := ce) (me' := me) (mq' := mq) (s' := (kY F).2.2.2.1) (l' := (kY F).2.2.2.2.1.filter (· != x)) (by rw [(o 94 _ (by omega) (by omega)).1]; exact V.2.2.2.2.1.1.2.2.2.1) V.2.2.2.2.1.2.1.2.2.2.1 (fun j w1 w2 => ⟨(o 79 j (by omega) (by omega)).1, (o 80 j (by omega) (by omega)).2, (o 81 j (by omega) (by omega)).1⟩) (fun j w => ⟨rfl, rfl⟩) (by
        rw [(o 97 _ (by omega) (by omega)).1]
        exact stk_cg (fun a b z => z.cg vC (fun _ _ _ => rfl)) V.st (fun j z => ⟨(o 79 j (by omega) (by omega)).1, (o 80 j (by omega) (by omega)).2, (o 81 j (by omega) (by omega)).1⟩) (fun j z => ⟨(o 79 j (by omega) (by omega)).1, (o 80 j (by omega) (by omega)).2⟩) (fun j z => ⟨rfl, rfl⟩) (fun j z => rfl)) ⟨fun y hy => ⟨(t5 y ((mem y).1 hy).1).1, by rw [hr _ (by have := (t5 y ((mem y).1 hy).1).1; omega)]; exact (t5 y ((mem y).1 hy).1).2⟩, fun y y1 y2 => ?_, fun y y1 y2 => ?_, fun i hi => by rw [(o 81 _ (by omega) (by omega)).1]; exact t8 i hi, t10⟩ nl.2.2.2.1 (Or.inl ⟨rfl, rfl⟩) (fun z => absurd rfl z)
    · refine h.rf hF h0 V (F' := kTo F (kY F).2.1 (kY F).2.2.1 (kY F).2.2.2.1 ((kY F).2.2.2.2.1.filter (· != x)) (kY F).2.2.2.2.2 0 0) rfl rfl rfl f (lf_rf _ _) (ρ' := ρ') (fun q a w => hr a ?_) gcl gfr (by rw [(o 8 8 (by omega) (by omega)).1]; exact V.tp) V.at.2.2.1 V.at.2.2.2.2.1 (by omega) (by omega) (by omega) (fun j z => ?_)
      · by_cases z : q = p
        · rw [z, fpT_o] at w
          have := (prt_rg V.2.1).2 _ w
          omega
        · unfold fpT at w
          rw [if_neg z] at w
          exact (hcl.2.2.2.2.2.1 q a w).1
      · by_cases y : j = kB F + x
        · rw [y]; exact Or.inl e81
        · rw [(o 81 j (by omega) (by omega)).1]
          exact h.2.2.2.2.2.2.2.2.2.2.2.2.1 j (fun q w => z q ((hf q j).2 ⟨w, y⟩))
    · by_cases z : y = x
      · refine ⟨fun w => ?_, ?_⟩
        · have w : y < (kY F).2.2.2.2.2 := w
          omega
        · rw [z, (t5 x hx).2]
          exact Or.inr ⟨_, (hcl.1 _ (Or.inl ⟨p, lx, Or.inl (by rw [h.2.2.2.2.2.2.1.2.2.1.2]; decide)⟩)).1, rfl⟩
      · exact t6 y y1 (fun w => y2 ((mem y).2 ⟨w, z⟩))
    · by_cases z : y = x
      · rw [z]; exact e81
      · rw [(o 81 _ (by omega) (by omega)).1]
        exact t7 y y1 (fun w => y2 ((mem y).2 ⟨w, z⟩))
  rcases (hcl.2.2.2.2.2.1 p _ lx).2 with z | ⟨c, c1, c2, c3⟩
  · exact ⟨σ, ρ, c_cl0 a3 z, fun _ _ _ _ => ⟨rfl, rfl⟩, go σ ρ (fun _ _ _ _ => ⟨rfl, rfl⟩) z (fun _ _ => rfl) (cl0 z)⟩
  · have c6 : c < 60000 := by have := hcl.2.2.2.2.2.2; have := h.2.2.2.1.1; omega
    have o : ∀ k j, ¬ (74 ≤ k ∧ k ≤ 76) → ¬ (k = 81 ∧ j = kB F + x) → (clz σ c (kB F + x)).1 k j = σ.1 k j ∧ (clz σ c (kB F + x)).2 k j = σ.2 k j := fun k j y1 y2 => ⟨by rw [clz_1, if_neg (by omega), if_neg (by omega), if_neg (by omega)], by rw [clz_2, if_neg (by omega)]⟩
    exact ⟨_, _, c_cl1 a3 c6 c2, o, go _ _ o (by rw [clz_1, if_pos ⟨rfl, rfl⟩]) (fun b hb => by show (if b = 325000 + c then ρ (kB F + x) else ρ b) = ρ b; rw [if_neg (by omega)]) (cl1 c c6 c2)⟩
/-- the same frame, its live ones the same -/
theorem kTo_2 (F : kF) (c m : Nat) (s l : List Nat) (dd n w c' m' : Nat) (s' l' : List Nat) (dd' n' w' : Nat) : kTo (kTo F c m s l dd n w) c' m' s' l' dd' n' w' = kTo F c' m' s' l' dd' n' w' := rfl
/-- the component closes cells of slots -/
theorem x_cl {σ0 τ0 τ : lj_S} {n np p : Nat} {r : List Nat} {FP : Nat → List kF} {A MO LA : List Nat} {F : kF} {L : List kF} {c m dd q : Nat} {s : List Nat} (hq : q ≤ 50 ∧ q ≤ nL σ0 (kY F).1) {P : Int32} (iP : lj_in P 14000) (x2 x3 : Int32) : ∀ (d y : Nat) (l : List Nat) (σ : lj_S) (ρ : Nat → Nat), y + d = q → dd ≤ y → MB σ0 τ0 n np p r (fpT FP p (kTo F c m s l dd 0 0 :: L)) ρ A MO LA σ τ → σ.1 24 P.toNatClampNeg = Int32.ofNat q → ∃ σ' ρ' x4, lj_D lc_P lc_M217 218 [.ref 8, .int P, .int x2, .int x3, .int (Int32.ofNat (kB F + y)), .retAddr 0, .retAddr 0, .retAddr 0] [] σ = lj_D lc_P lc_M217 917 [.ref 8, .int P, .int x2, .int x3, x4, .retAddr 0, .retAddr 0, .retAddr 0] [] σ' ∧ (∀ k j, ¬ (74 ≤ k ∧ k ≤ 76) → k ≠ 81 → σ'.1 k j = σ.1 k j ∧ σ'.2 k j = σ.2 k j) ∧ MB σ0 τ0 n np p r (fpT FP p (kTo F c m s (l.filter (fun z => decide (z < y ∨ q ≤ z))) dd 0 0 :: L)) ρ' A MO LA σ' τ
  | 0, y, l, σ, ρ, hy, hd, h, h24 => by
    have fo := fpT_o FP p (kTo F c m s l dd 0 0 :: L)
    obtain ⟨ms, ks, ce, me, mq, V⟩ := h.w fo rfl
    have B := V.bd
    have B7 : kB F = kC F + kD F := rfl
    have B6 : 12500 * p ≤ kC F := B.2.2.2.2.2.1
    have B8 : kB F + nL σ0 (kY F).1 + 3 * nH σ0 (kY F).1 ≤ ce := B.2.2.2.2.2.2.2.1
    have pb : kC F ≤ 12500 * p + 619 * L.length := (prt_bd V.2.1 V.2.2.2.1).1
    have dB : kD F ≤ 49 := V.ff.1.2.2.2.2.1
    have lB : L.length ≤ 19 := B.1
    have pB : p < 26 := B.2.1
    refine ⟨σ, ρ, .int (Int32.ofNat (kB F + y)), ?_, fun _ _ _ _ => ⟨rfl, rfl⟩, ?_⟩
    · have bs := h.bs fo rfl
      have bs : σ.1 8 35 = Int32.ofNat (kB F) := bs
      rw [kc_217_218, if_pos iP, bs, h24, ← Int32.ofNat_add, if_pos ((ofN_le (by omega) (by omega)).2 (by omega))]
    · rw [List.filter_eq_self.2 (fun z _ => by simp; omega)]
      exact h
  | d + 1, y, l, σ, ρ, hy, hd, h, h24 => by
    have fo := fpT_o FP p (kTo F c m s l dd 0 0 :: L)
    obtain ⟨ms, ks, ce, me, mq, V⟩ := h.w fo rfl
    have B := V.bd
    have B7 : kB F = kC F + kD F := rfl
    have B6 : 12500 * p ≤ kC F := B.2.2.2.2.2.1
    have B8 : kB F + nL σ0 (kY F).1 + 3 * nH σ0 (kY F).1 ≤ ce := B.2.2.2.2.2.2.2.1
    have pb : kC F ≤ 12500 * p + 619 * L.length := (prt_bd V.2.1 V.2.2.2.1).1
    have dB : kD F ≤ 49 := V.ff.1.2.2.2.2.1
    have lB : L.length ≤ 19 := B.1
    have pB : p < 26 := B.2.1
    have bs := h.bs fo rfl
    have bs : σ.1 8 35 = Int32.ofNat (kB F) := bs
    have cnd : ¬ (σ.1 8 35 + σ.1 24 P.toNatClampNeg ≤ Int32.ofNat (kB F + y)) := by rw [bs, h24, ← Int32.ofNat_add, ofN_le (by omega) (by omega)]; omega
    by_cases hl : y ∈ l
    · obtain ⟨σ1, ρ1, e1, e2, e3⟩ := MB.c1 h fo rfl V (x := y) hl hd
      rw [fpT_2, kTo_2] at e3
      have e3 : MB σ0 τ0 n np p r (fpT FP p (kTo F c m s (l.filter (· != y)) dd 0 0 :: L)) ρ1 A MO LA σ1 τ := e3
      have e1 : lj_R lc_P 151 [.ref 8, .int (Int32.ofNat (kB F + y))] σ = some (.inl none, σ1) := e1
      obtain ⟨σ', ρ', x4, g1, g2, g3⟩ := x_cl hq iP x2 x3 d (y + 1) (l.filter (· != y)) σ1 ρ1 (by omega) (by omega) e3 (by rw [(e2 24 _ (by omega) (by omega)).1]; exact h24)
      refine ⟨σ', ρ', x4, ?_, fun k j z1 z2 => ?_, ?_⟩
      · rw [kc_217_218, if_pos iP, if_neg cnd, e1, bv_ok, lz_osucc]
        exact g1
      · obtain ⟨a1, a2⟩ := g2 k j z1 z2
        obtain ⟨b1, b2⟩ := e2 k j z1 (fun z => z2 z.1)
        exact ⟨a1.trans b1, a2.trans b2⟩
      · have ef : (l.filter (· != y)).filter (fun z => decide (z < y + 1 ∨ q ≤ z)) = l.filter (fun z => decide (z < y ∨ q ≤ z)) := by
          rw [List.filter_filter]
          refine List.filter_congr (fun z _ => ?_)
          by_cases z1 : z = y
          · rw [z1]; simp; omega
          · by_cases z2 : z < y ∨ q ≤ z
            · simp [z1, z2]; omega
            · simp [z1, z2]; omega
        rw [ef] at g3
        exact g3
    · obtain ⟨σ', ρ', x4, g1, g2, g3⟩ := x_cl hq iP x2 x3 d (y + 1) l σ ρ (by omega) (by omega) h h24
      have n81 : σ.1 81 (kB F + y) = -1 := V.n81 (t := kB F + y) (show kC F ≤ kB F + y by omega) (by omega) (fun x hx e => by
        have e : kB F + y = kB F + x := e
        have hx : x ∈ l := hx
        exact hl (by rw [show y = x by omega]; exact hx))
      refine ⟨σ', ρ', x4, ?_, g2, ?_⟩
      · rw [kc_217_218, if_pos iP, if_neg cnd, c_cl0 (by omega) n81, bv_ok, lz_osucc]
        exact g1
      · have ef : l.filter (fun z => decide (z < y + 1 ∨ q ≤ z)) = l.filter (fun z => decide (z < y ∨ q ≤ z)) := by
          refine List.filter_congr (fun z hz => ?_)
          have : z ≠ y := fun w => hl (by rw [← w]; exact hz)
          by_cases z2 : z < y ∨ q ≤ z
          · simp [z2]; omega
          · simp [z2]; omega
        rw [ef] at g3
        exact g3
/-- the model's locals end -/
theorem m_endl {J P A k : Int32} {n : Int64} {i : Nat} (hJ : J = Int32.ofNat i) (hi : i < 1248) : ∀ (d x : Nat) (τ : lj_S), x + d = 50 → ∃ τ', lj_D lm_P lm_M127 268 [.ref 0, .int J, .int P, .int A, .int k, .long n, .retAddr 0, .retAddr 0, .retAddr 0, .retAddr 0, .int (Int32.ofNat x)] [] τ = some (.inl none, τ') ∧ (∀ k j, τ'.1 k j = if k = 87 ∧ 50 * i + x ≤ j ∧ j < 50 * i + 50 then -1 else τ.1 k j) ∧ τ'.2 = τ.2
  | 0, x, τ, hd => by
    have e : x = 50 := by omega
    refine ⟨τ, ?_, fun k j => by rw [if_neg (by omega)], rfl⟩
    rw [km_127_268, if_pos (by rw [e]; decide), km_127_420]
  | d + 1, x, τ, hd => by
    have ec : (50 : Int32) * J + Int32.ofNat x = Int32.ofNat (50 * i + x) := by rw [hJ, show (50 : Int32) = Int32.ofNat 50 from rfl, ← Int32.ofNat_mul, ← Int32.ofNat_add]
    obtain ⟨τ', e1, e2, e3⟩ := m_endl hJ hi d (x + 1) (lj_put τ 87 (50 * i + x) (-1)) (by omega) (P := P) (A := A) (k := k) (n := n)
    have n50 : ¬ ((50 : Int32) ≤ Int32.ofNat x) := by
      rw [show (50 : Int32) = Int32.ofNat 50 from rfl, ofN_le (by omega) (by omega)]; omega
    refine ⟨τ', ?_, fun k j => ?_, by rw [e3]; rfl⟩
    · rw [km_127_268, if_neg n50, ec, if_pos (ofN_in (by omega) (by omega)), lz_onat (by omega), lz_osucc, e1]
    · rw [e2, lj_put_1]
      by_cases z : k = 87 ∧ 50 * i + x ≤ j ∧ j < 50 * i + 50
      · rw [if_pos z]
        by_cases y : j = 50 * i + x
        · rw [if_neg (by omega), if_pos ⟨z.1, y⟩]
        · rw [if_pos (by omega)]
      · rw [if_neg z, if_neg (by omega), if_neg (by omega)]
/-- both keep fewer of the dead ones in mind -/
theorem MB.el {σ0 τ0 σ τ : lj_S} {n np p : Nat} {r : List Nat} {FP : Nat → List kF} {ρ : Nat → Nat} {A MO LA : List Nat} (h : MB σ0 τ0 n np p r FP ρ A MO LA σ τ) {F : kF} {L : List kF} (hF : FP p = F :: L) (h0 : kS F = 0) {ms ks ce me mq : Nat} (V : vw σ0 τ0 σ τ ρ FP p F L ms ks ce me mq) {τ' : lj_S} {x : Nat} (hx : x ≤ (kY F).2.2.2.2.2) (hl : ∀ y ∈ (kY F).2.2.2.2.1, y < x) (e1 : ∀ k j, τ'.1 k j = if k = 87 ∧ 50 * (48 * p + L.length) + x ≤ j ∧ j < 50 * (48 * p + L.length) + 50 then -1 else τ.1 k j) (e2 : τ'.2 = τ.2) : MB σ0 τ0 n np p r (fpT FP p (kTo F (kY F).2.1 (kY F).2.2.1 (kY F).2.2.2.1 (kY F).2.2.2.2.1 50 0 0 :: L)) ρ A MO LA σ τ' := by
  have B := V.bd
  have nl := V.ff.1
  obtain ⟨t5, t6, t7, t8, t10⟩ := V.2.2.2.2.1.2.2.2.2.1
  have o : ∀ k j, ¬ (k = 87 ∧ 50 * (48 * p + L.length) + x ≤ j ∧ j < 50 * (48 * p + L.length) + 50) → τ'.1 k j = τ.1 k j ∧ τ'.2 k j = τ.2 k j := fun k j z => ⟨by rw [e1, if_neg z], by rw [e2]⟩
  have g : lf (rzM p (48 * p + L.length) ms ks) τ τ' := fun k j q => o k j (by
    unfold rzM at q
    simp at q
    omega)
  have vM : ∀ k j, vqM k j = true → τ'.1 k j = τ.1 k j := fun k j q => (rz_eqM g (by unfold vqM at q; simp at q; omega)).1
  have hv : ∀ a b, vR σ τ a b → vR σ τ' a b := fun a b w => w.cg (fun _ _ _ => rfl) vM
  have ls : ∀ q a, lsL (fpT FP p (kTo F (kY F).2.1 (kY F).2.2.1 (kY F).2.2.2.1 (kY F).2.2.2.2.1 50 0 0 :: L) q) a ↔ lsL (FP q) a := fun q a => by
    by_cases z : q = p
    · rw [z, fpT_o, hF]
      constructor
      · rintro ⟨G, hG, wG⟩
        rcases List.mem_cons.1 hG with e | e
        · rw [e] at wG; exact ⟨F, List.mem_cons_self, h0, wG.2⟩
        · exact ⟨G, List.mem_cons_of_mem _ e, wG⟩
      · rintro ⟨G, hG, wG⟩
        rcases List.mem_cons.1 hG with e | e
        · rw [e] at wG; exact ⟨_, List.mem_cons_self, rfl, wG.2⟩
        · exact ⟨G, List.mem_cons_of_mem _ e, wG⟩
    · unfold fpT; rw [if_neg z]
  have gcl := (h.2.2.2.2.2.2.2.2.2.1.cg hv (fun _ _ _ => rfl) (fun _ => rfl) (fun _ _ _ => ⟨rfl, rfl⟩) (fun k j w => (o k j (by omega)).1) (fun j => (o 55 j (by omega)).2)).fp ls
  have gfr := frm_re V h0 (ρ' := ρ) (lf_rf _ _) g (c' := (kY F).2.1) (m' := (kY F).2.2.1) (dd' := 50) (n' := 0) (w' := 0) (ce' := ce) (me' := me) (mq' := mq) (s' := (kY F).2.2.2.1) (l' := (kY F).2.2.2.2.1) V.2.2.2.2.1.1.2.2.2.1 (by rw [(o 77 _ (by omega)).1]; exact V.2.2.2.2.1.2.1.2.2.2.1) (fun j w1 w2 => ⟨rfl, rfl, rfl⟩) (fun j w => ⟨(o 71 _ (by omega)).1, (o 72 _ (by omega)).2⟩) (stk_cg hv V.st (fun j z => ⟨rfl, rfl, rfl⟩) (fun j z => ⟨rfl, rfl⟩) (fun j z => ⟨(o 71 _ (by omega)).1, (o 72 _ (by omega)).2⟩) (fun j z => (o 73 _ (by omega)).1)) ⟨fun y hy => ⟨(t5 y hy).1, by rw [(o 87 _ (by have := hl y hy; omega)).1]; exact (t5 y hy).2⟩, fun y y1 y2 => ?_, t7, t8, t10⟩ nl.2.2.2.1 (Or.inl ⟨rfl, rfl⟩) (fun z => absurd rfl z)
  · exact h.rf hF h0 V (F' := kTo F (kY F).2.1 (kY F).2.2.1 (kY F).2.2.2.1 (kY F).2.2.2.2.1 50 0 0) rfl rfl rfl (lf_rf _ _) g (ρ' := ρ) (fun q a w => rfl) gcl gfr V.tp (by rw [(o 63 p (by omega)).1]; exact V.at.2.2.1) (by rw [(o 64 p (by omega)).1]; exact V.at.2.2.2.2.1) (by omega) (by omega) (by omega) (fun j z => h.2.2.2.2.2.2.2.2.2.2.2.2.1 j (fun q w => z q ((ls q j).2 w)))
  · by_cases z : x ≤ y
    · have e : τ'.1 87 (50 * (48 * p + L.length) + y) = -1 := by rw [e1, if_pos ⟨rfl, by omega, by omega⟩]
      exact ⟨fun _ => e, Or.inl e⟩
    · rw [(o 87 _ (by omega)).1]
      exact ⟨fun _ => (t6 y y1 y2).1 (by omega), (t6 y y1 y2).2⟩
