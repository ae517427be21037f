/-! operators: a value is laid, an event is called -/
theorem x_pv {σ0 τ0 σ τ : lj_S} {n np p : Nat} {r : List Nat} {FP : Nat → List kF} {ρ : Nat → Nat} {MO LA : List Nat} {F : kF} {L : List kF} {c m : Nat} {s l : List Nat} {dd n1 : Nat} (C : ∀ M k, CAL σ0 τ0 M k) (h : MB σ0 τ0 n np p r (fpT FP p (kTo F c m s l dd n1 0 :: L)) ρ [] MO LA σ τ) (rg : rgR σ τ) {σa : lj_S} (hwk : wkR FP (p :: r) [] σa) {n' : Nat} (hn1 : n1 ≤ n' + 1) (hn : gn σ0 τ0 n' ((kY F).1, c, m, 0 :: s, l, dd)) (hc : 1 ≤ c ∧ c ≤ 14000) (hsc : scl σ0 (kY F).1 (c - 1) s l dd) (h5 : ∀ x ∈ s, x ≠ 5) {X : Nat} (hX : lsX FP p r L MO LA n' X) (hT : X ≤ TH) {u w : vT} (hv : vR σ τ u w) {σ1 τ1 : lj_S} (f : lf sxC σ σ1) (g : lf sxM τ τ1) : ∃ ce me mq, σ1.1 8 8 = Int32.ofNat ce ∧ ce < 325000 ∧ mAt τ1 p me mq ∧ me < 10000 ∧ ∀ σb, ocR σ0 τ0 [] (fun t => t < X) σb (mPu τ1 p me w) (some (.inl none, cPu σ1 ce u)) := by
  obtain ⟨ce, me, mq, t1, t2, t3, t4, t5⟩ := x_top h rg
  obtain ⟨g1, g2⟩ := t5 u w σ1 τ1 (n' + 1) f g hv (gn_ok hn) (Or.inr ⟨Nat.succ_ne_zero _, hn⟩)
  have at1 : mAt τ1 p me mq := by
    obtain ⟨a1, a2, a3, a4, a5, a6⟩ := t3
    exact ⟨by rw [(g 0 111 rfl).1]; exact a1, a2, by rw [(g 63 _ (sxM_f (by omega))).1]; exact a3, a4, by rw [(g 64 _ (sxM_f (by omega))).1]; exact a5, a6⟩
  exact ⟨ce, me, mq, by rw [(f 8 8 rfl).1]; exact t1, (by omega), at1, (by omega), fun σb => oc_go g1 g2 hwk rfl (Nat.succ_ne_zero _) rfl (Nat.le_refl _) hX⟩
theorem x_evt {σ0 τ0 σ τ : lj_S} {n np p : Nat} {r : List Nat} {FP : Nat → List kF} {ρ : Nat → Nat} {MO LA : List Nat} {F : kF} {L : List kF} {c m : Nat} {s l : List Nat} {dd n1 : Nat} (C : ∀ M k, CAL σ0 τ0 M k) (h : MB σ0 τ0 n np p r (fpT FP p (kTo F c m s l dd n1 0 :: L)) ρ [] MO LA σ τ) (rg : rgR σ τ) {σa : lj_S} (hwk : wkR FP (p :: r) [] σa) {n' : Nat} (hn1 : n1 ≤ n' + 1) (hn : gn σ0 τ0 n' ((kY F).1, c, m, 0 :: s, l, dd)) (hc : 1 ≤ c ∧ c ≤ 14000) (hsc : scl σ0 (kY F).1 (c - 1) s l dd) (h5 : ∀ x ∈ s, x ≠ 5) {X : Nat} (hX : lsX FP p r L MO LA n' X) (hT : X ≤ TH) {e w : Nat} (he : e < 21) (hw : w = 1 ∨ w = 2 ∨ w = 3) {a a' b b' : vT} (ha : vR σ τ a a') (hb : vR σ τ b b') (line : Int32) :
    (∃ σ1 τ1, lf fdS σ σ1 ∧ lf fdT τ τ1 ∧ lj_R lm_P 161 [.ref 0, .int a'.1, .long a'.2, .int b'.1, .long b'.2, .int (Int32.ofNat (evM e))] τ = some (.inl none, τ1) ∧ τ1.1 0 90 = 0 ∧ lj_R lc_P 210 [.ref 8, .int (Int32.ofNat e), .int a.1, .long a.2, .int b.1, .long b.2, .int (waA w), .int line] σ = some (.inl (some (.int 0)), σ1)) ∨
    (∃ τ1 τ2, lj_R lm_P 161 [.ref 0, .int a'.1, .long a'.2, .int b'.1, .long b'.2, .int (Int32.ofNat (evM e))] τ = some (.inl none, τ1) ∧ τ1.1 0 90 ≠ 0 ∧ (∀ K, lj_bv (lj_R lm_P 112 [.ref 0, .int (waM w), .int 1, .int line] τ1) (fun s => lj_bv (lj_R lm_P 141 [.ref 0, .int (s.1 0 90), .long (s.2 0 91), .int a'.1, .long a'.2, .int b'.1, .long b'.2] s) K lj_up) lj_up = K τ2) ∧ ∀ (K : Int32 → lj_S → Option lj_O) (σb : lj_S), (∀ s, K 1 s = some (.inl none, s)) → ocR σ0 τ0 [] (fun t => t < X) σb τ2 (lj_bi (lj_R lc_P 210 [.ref 8, .int (Int32.ofNat e), .int a.1, .long a.2, .int b.1, .long b.2, .int (waA w), .int line] σ) K lj_up)) := by
  obtain ⟨u, w0, σ1, τ1, x1, x2, x3, x4, x5, x6, x7⟩ := cm_ev2 h.rb ha hb he (waA w) line
  by_cases zu : u.1 = 0
  · rw [if_pos zu] at x7
    exact Or.inl ⟨σ1, τ1, x2, x3, x4, by rw [x5]; exact x1.k0.1 zu, x7⟩
  · rw [if_neg zu] at x7
    have hwt : wtR σ0 τ0 (kY F).1 c m s l dd n' w := by rcases hw with q | q | q <;> subst q <;> exact hn
    have hwn : waN σ0 c w = 1 := by rcases hw with q | q | q <;> subst q <;> rfl
    obtain ⟨σ2, y1, y2⟩ := x_wev C (h.fdx x2 x3) (rg.fdx x2 x3) hwk (w := w) (by omega) hwt hc hsc h5 hX hT (x1.fdl x2 x3) (ha.fdl x2 x3) (hb.fdl x2 x3) line (as := waA w) (md := waM w) (wt := 1) ⟨rfl, rfl, hwn.symm⟩
    refine Or.inr ⟨τ1, gv2 τ1 (waM w) 1 line w0 a' b', x4, by rw [x5]; exact fun q => zu (x1.k0.2 q), fun K => ?_, fun K σb hK => ?_⟩
    · have e90 : (lj_put (lj_put (lj_put τ1 0 130 (waM w)) 0 131 1) 0 132 line).1 0 90 = w0.1 := by rw [lj_put_1, if_neg (by omega), lj_put_1, if_neg (by omega), lj_put_1, if_neg (by omega)]; exact x5
      have g := m_gv2 τ1 (waM w) 1 line w0 a' b' K
      rw [rm_112, km_112_0, bv_ok] at g ⊢
      rw [e90, show (lj_put (lj_put (lj_put τ1 0 130 (waM w)) 0 131 1) 0 132 line).2 0 91 = w0.2 from x6]
      exact g
    · rw [x7, y1, oc_bi y2 K hK]
      exact y2.fin.pre (fun _ => rfl) (fun i hi => by cases hi) (fun _ q => q)
/-- equal or not -/
theorem x_eq {σ0 τ0 σ τ : lj_S} {n np p : Nat} {r : List Nat} {FP : Nat → List kF} {ρ : Nat → Nat} {MO LA : List Nat} {F : kF} {L : List kF} {c m : Nat} {s l : List Nat} {dd n1 : Nat} (C : ∀ M k, CAL σ0 τ0 M k) (h : MB σ0 τ0 n np p r (fpT FP p (kTo F c m s l dd n1 0 :: L)) ρ [] MO LA σ τ) (rg : rgR σ τ) {σa : lj_S} (hwk : wkR FP (p :: r) [] σa) {n' : Nat} (hn1 : n1 ≤ n' + 1) (hn : gn σ0 τ0 n' ((kY F).1, c, m, 0 :: s, l, dd)) (hc : 1 ≤ c ∧ c ≤ 14000) (hsc : scl σ0 (kY F).1 (c - 1) s l dd) (h5 : ∀ x ∈ s, x ≠ 5) {X : Nat} (hX : lsX FP p r L MO LA n' X) (hT : X ≤ TH) {q : Nat} (hq : q = 0 ∨ q = 1) {a a' b b' : vT} (ha : vR σ τ a a') (hb : vR σ τ b b') (line : Int32) : ∃ τ1, (if a'.1 = b'.1 then (if (lg_cmp a'.2 b'.2) = 0 then lj_D lm_P lm_M167 51 [.ref 0, .int (Int32.ofNat q), .int line, .int b'.1, .long b'.2, .retAddr 0, .int a'.1, .long a'.2, .retAddr 0, .retAddr 0] [.int 1] τ else lj_D lm_P lm_M167 50 [.ref 0, .int (Int32.ofNat q), .int line, .int b'.1, .long b'.2, .retAddr 0, .int a'.1, .long a'.2, .retAddr 0, .retAddr 0] [] τ) else lj_D lm_P lm_M167 50 [.ref 0, .int (Int32.ofNat q), .int line, .int b'.1, .long b'.2, .retAddr 0, .int a'.1, .long a'.2, .retAddr 0, .retAddr 0] [] τ) = some (.inl none, τ1) ∧ ocR σ0 τ0 [] (fun t => t < X) σ τ1 (lj_D lc_P lc_M209 108 [.ref 8, .int (Int32.ofNat (52 + q)), .int line, .int b.1, .long b.2, .retAddr 0, .int a.1, .long a.2, .retAddr 0, .retAddr 0, .retAddr 0] [] σ) := by
  have sm := vR_same h.2.1.1 ha hb
  have em : (if a'.1 = b'.1 then (if (lg_cmp a'.2 b'.2) = 0 then lj_D lm_P lm_M167 51 [.ref 0, .int (Int32.ofNat q), .int line, .int b'.1, .long b'.2, .retAddr 0, .int a'.1, .long a'.2, .retAddr 0, .retAddr 0] [.int 1] τ else lj_D lm_P lm_M167 50 [.ref 0, .int (Int32.ofNat q), .int line, .int b'.1, .long b'.2, .retAddr 0, .int a'.1, .long a'.2, .retAddr 0, .retAddr 0] [] τ) else lj_D lm_P lm_M167 50 [.ref 0, .int (Int32.ofNat q), .int line, .int b'.1, .long b'.2, .retAddr 0, .int a'.1, .long a'.2, .retAddr 0, .retAddr 0] [] τ) = lj_D lm_P lm_M167 51 [.ref 0, .int (Int32.ofNat q), .int line, .int b'.1, .long b'.2, .retAddr 0, .int a'.1, .long a'.2, .retAddr 0, .retAddr 0] [.int (if a = b then 1 else 0)] τ := by
    by_cases z : a = b
    · have z' := sm.1 z
      rw [if_pos (by rw [z']), if_pos ((lg_eq0 _ _).2 (by rw [z'])), if_pos z]
    · have z' : ¬ a' = b' := fun y => z (sm.2 y)
      rw [if_neg z]
      by_cases y1 : a'.1 = b'.1
      · rw [if_pos y1, if_neg (fun y => z' (Prod.ext y1 ((lg_eq0 _ _).1 y))), km_167_50]
      · rw [if_neg y1, km_167_50]
  rw [em, kc_209_108, c_same, bi_ok]
  -- without an event
  have pl : ∀ (t : Int32) (σ1 τ1 : lj_S), (t = 0 ∨ t = 1) → lf sxC σ σ1 → lf sxM τ τ1 → ∃ τ2, lj_D lm_P lm_M167 124 [.ref 0, .int (Int32.ofNat q), .int line, .int b'.1, .long b'.2, .retAddr 0, .int a'.1, .long a'.2, .retAddr 0, .int t] [] τ1 = some (.inl none, τ2) ∧ ∀ σb, ocR σ0 τ0 [] (fun t => t < X) σb τ2 (lj_D lc_P lc_M209 169 [.ref 8, .int (Int32.ofNat (52 + q)), .int line, .int b.1, .long b.2, .retAddr 0, .int a.1, .long a.2, .retAddr 0, .int t, .retAddr 0] [] σ1) := fun t σ1 τ1 ht f g => by
    have hx : ∃ x : Int64, (x = 0 ∨ x = 1) ∧ x = (if t = Int32.ofNat q then 0 else 1) := by
      by_cases y : t = Int32.ofNat q
      · exact ⟨0, Or.inl rfl, by rw [if_pos y]⟩
      · exact ⟨1, Or.inr rfl, by rw [if_neg y]⟩
    obtain ⟨x, hx1, hx2⟩ := hx
    obtain ⟨ce, me, mq, t1, t2, t3, t4, t5⟩ := x_pv C h rg hwk hn1 hn hc hsc h5 hX hT (vR_truth σ τ hx1) f g
    have mp : lj_R lm_P 116 [.ref 0, .int 1, .long x] τ1 = some (.inl none, mPu τ1 p me (1, x)) := m_push t3 t4 (1, x)
    refine ⟨mPu τ1 p me (1, x), ?_, fun σb => ?_⟩
    · rw [km_167_124]
      by_cases y : t = Int32.ofNat q
      · rw [if_pos y] at hx2
        subst hx2
        rw [if_pos y, km_167_137, mp, bv_ok]
      · rw [if_neg y] at hx2
        subst hx2
        rw [if_neg y, km_167_137, mp, bv_ok]
    · have cc : lj_D lc_P lc_M209 169 [.ref 8, .int (Int32.ofNat (52 + q)), .int line, .int b.1, .long b.2, .retAddr 0, .int a.1, .long a.2, .retAddr 0, .int t, .retAddr 0] [] σ1 = some (.inl none, cPu σ1 ce (1, x)) := by
        have c1 := c_pushTruth t1 t2 1
        have c0 := c_pushTruth t1 t2 0
        rw [if_neg (by decide)] at c1
        rw [if_pos rfl] at c0
        rw [kc_209_169, kc_209_170, if_pos rfl]
        rcases hq with rfl | rfl <;> rcases ht with rfl | rfl
        · rw [if_pos (by decide)] at hx2
          subst hx2
          rw [if_pos (by decide), kc_209_191, if_neg (by decide), kc_209_199, c0, bv_ok, kc_209_202, kc_209_335]
        · rw [if_neg (by decide)] at hx2
          subst hx2
          rw [if_pos (by decide), kc_209_191, if_pos rfl, kc_209_199, c1, bv_ok, kc_209_202, kc_209_335]
        · rw [if_neg (by decide)] at hx2
          subst hx2
          rw [if_neg (by decide), kc_209_191, if_pos rfl, kc_209_199, c1, bv_ok, kc_209_202, kc_209_335]
        · rw [if_pos (by decide)] at hx2
          subst hx2
          rw [if_neg (by decide), kc_209_191, if_neg (by decide), kc_209_199, c0, bv_ok, kc_209_202, kc_209_335]
      rw [cc]
      exact t5 σb
  obtain ⟨t, ht⟩ : ∃ t : Int32, t = if a = b then 1 else 0 := ⟨_, rfl⟩
  have ht1 : t = 0 ∨ t = 1 := by
    rw [ht]
    by_cases z : a = b
    · rw [if_pos z]; exact Or.inr rfl
    · rw [if_neg z]; exact Or.inl rfl
  rw [← ht, km_167_51]
  have ka : a.1 = 4 ↔ a'.1 = 4 := ha.kk (by decide) (by decide)
  have kb : b.1 = 4 ↔ b'.1 = 4 := hb.kk (by decide) (by decide)
  by_cases z : t = 0 ∧ a.1 = 4 ∧ b.1 = 4
  · obtain ⟨z1, z2, z3⟩ := z
    rw [if_pos z1, if_pos (ka.1 z2), if_pos (kb.1 z3), if_pos z1, if_pos z2, if_pos z3]
    have ec : (if Int32.ofNat (52 + q) = 52 then lj_D lc_P lc_M209 158 [.ref 8, .int (Int32.ofNat (52 + q)), .int line, .int b.1, .long b.2, .retAddr 0, .int a.1, .long a.2, .retAddr 0, .int t, .retAddr 0] [.int 2, .long b.2, .int b.1, .long a.2, .int a.1, .int 14, .ref 8] σ else lj_D lc_P lc_M209 158 [.ref 8, .int (Int32.ofNat (52 + q)), .int line, .int b.1, .long b.2, .retAddr 0, .int a.1, .long a.2, .retAddr 0, .int t, .retAddr 0] [.int 3, .long b.2, .int b.1, .long a.2, .int a.1, .int 14, .ref 8] σ) = lj_bi (lj_R lc_P 210 [.ref 8, .int (Int32.ofNat 14), .int a.1, .long a.2, .int b.1, .long b.2, .int (waA (2 + q)), .int line] σ) (fun y2 σ1 => (if y2 = 0 then lj_D lc_P lc_M209 169 [.ref 8, .int (Int32.ofNat (52 + q)), .int line, .int b.1, .long b.2, .retAddr 0, .int a.1, .long a.2, .retAddr 0, .int t, .retAddr 0] [] σ1 else lj_D lc_P lc_M209 170 [.ref 8, .int (Int32.ofNat (52 + q)), .int line, .int b.1, .long b.2, .retAddr 0, .int a.1, .long a.2, .retAddr 0, .int t, .retAddr 0] [.int 1] σ1)) lj_up := by
      rcases hq with rfl | rfl
      · rw [if_pos (by decide), kc_209_158]; rfl
      · rw [if_neg (by decide), kc_209_158]; rfl
    rw [ec]
    rcases x_evt C h rg hwk hn1 hn hc hsc h5 hX hT (e := 14) (w := 2 + q) (by decide) (by omega) ha hb line with ⟨σ1, τ1, y1, y2, y3, y4, y5⟩ | ⟨τ1, τ2, y1, y2, y3, y4⟩
    · have y3 : lj_R lm_P 161 [.ref 0, .int a'.1, .long a'.2, .int b'.1, .long b'.2, .int 17] τ = some (.inl none, τ1) := y3
      obtain ⟨τ3, v1, v2⟩ := pl t σ1 τ1 ht1 (y1.mo (fun k j u => fdS_x u)) (y2.mo (fun k j u => fdT_x u))
      refine ⟨τ3, by rw [y3, bv_ok, if_pos y4, v1], ?_⟩
      rw [y5, bi_ok, if_pos rfl]
      exact v2 σ
    · have y1 : lj_R lm_P 161 [.ref 0, .int a'.1, .long a'.2, .int b'.1, .long b'.2, .int 17] τ = some (.inl none, τ1) := y1
      refine ⟨τ2, ?_, y4 _ σ (fun s => by rw [if_neg (by decide), kc_209_170, if_neg (by decide), kc_209_202, kc_209_335])⟩
      rw [y1, bv_ok, if_neg y2]
      rcases hq with rfl | rfl
      · rw [if_pos (by decide), km_167_99]
        exact y3 _
      · rw [if_neg (by decide), km_167_99]
        exact y3 _
  · obtain ⟨τ3, v1, v2⟩ := pl t σ τ ht1 (lf_rf _ _) (lf_rf _ _)
    have e1 : ∀ (A B : Option lj_O), (if t = 0 then (if a.1 = 4 then (if b.1 = 4 then A else B) else B) else B) = B := fun A B => by
      by_cases z1 : t = 0
      · rw [if_pos z1]
        by_cases z2 : a.1 = 4
        · rw [if_pos z2, if_neg (fun u => z ⟨z1, z2, u⟩)]
        · rw [if_neg z2]
      · rw [if_neg z1]
    have e2 : ∀ (A B : Option lj_O), (if t = 0 then (if a'.1 = 4 then (if b'.1 = 4 then A else B) else B) else B) = B := fun A B => by
      by_cases z1 : t = 0
      · rw [if_pos z1]
        by_cases z2 : a'.1 = 4
        · rw [if_pos z2, if_neg (fun u => z ⟨z1, ka.2 z2, kb.2 u⟩)]
        · rw [if_neg z2]
      · rw [if_neg z1]
    rw [e1, e2]
    exact ⟨τ3, v1, v2 σ⟩
