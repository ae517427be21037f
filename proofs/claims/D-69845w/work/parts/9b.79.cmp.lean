/-! operators: comparing -/
/-- the error of a comparison -/
theorem cm_cmpE {σ τ : lj_S} (h : sM σ τ) (line : Int32) {a a' b b' : vT} (ha : vR σ τ a a') (hb : vR σ τ b b') : ∃ σ' τ', lj_bv (lj_R lc_P 134 [.ref 8, .int line] σ) (fun σ5 => lj_bv (lj_R lc_P 29 [.ref 3, .ref 1038] σ5) (fun σ6 => lj_bv (lj_R lc_P 157 [.ref 8, .int a.1] σ6) (fun σ7 => lj_bv (lj_R lc_P 29 [.ref 3, .ref 1039] σ7) (fun σ8 => lj_bv (lj_R lc_P 157 [.ref 8, .int b.1] σ8) (fun σ9 => lj_br (lj_R lc_P 135 [.ref 8] σ9) (fun y11 σ10 => (bif Nat.blt y11 2000 then lj_up y11 σ10 else none)) lj_up) lj_up) lj_up) lj_up) lj_up) lj_up = some (.inr 2, σ') ∧ lj_bv (lj_R lm_P 132 [.ref 0, .int line, .int 10] τ) (fun σ4 => lj_bi (lj_R lm_P 136 [.int a'.1] σ4) (fun y6 σ5 => lj_bv (lj_R lm_P 137 [.ref 0, .int y6] σ5) (fun σ7 => lj_bv (lj_R lm_P 2 [.ref 0, .long 35697242433568] σ7) (fun σ8 => lj_bi (lj_R lm_P 136 [.int b'.1] σ8) (fun y10 σ9 => lj_bv (lj_R lm_P 137 [.ref 0, .int y10] σ9) (fun σ11 => lj_bv (lj_R lm_P 138 [.ref 0] σ11) (fun σ12 => some (.inl none, σ12)) lj_up) lj_up) lj_up) lj_up) lj_up) lj_up) lj_up = some (.inl none, τ') ∧ raR σ τ σ' τ' := by
  obtain ⟨σ1, σ2, τ1, D, a1, a2, a3, a4, a5, a6, a7, a8⟩ := cm_begin h line (e := 10) (by decide)
  have a2 : lj_R lc_P 29 [.ref 3, .ref 1038] σ1 = some (.inl none, σ2) := a2
  have a3 : lj_R lm_P 132 [.ref 0, .int line, .int 10] τ = some (.inl none, τ1) := a3
  have h2 := h.dr a7 a8
  obtain ⟨k, k7, hk, y, τ2, m1, m2, m3, m4⟩ := m_type h2 (ha.up (sG_dr a7 a8) (oG_dr a7 a8)) a6 (by omega)
  obtain ⟨σ3, c1, c2, c3⟩ := c_type σ2 a5 (by omega) k k7
  have lk7 : (cW (1014 + k)).length ≤ 20 := by rw [← ty_eq k k7]; exact mB_len _ (by omega)
  have h3 := h2.dr c3 m4
  obtain ⟨σ4, d1, d2, d3⟩ := c_w σ3 (r := 1039) (by decide) (by decide) c2 (by rw [List.length_append]; omega)
  obtain ⟨τ4, e1, e2, e3⟩ := m_word τ2 35697242433568 m3 (by rw [List.length_append]; omega)
  have ew : wL 35697242433568 = cW 1039 := by decide +kernel
  rw [ew] at e2
  have lw : (cW 1039).length ≤ 20 := by decide +kernel
  have h4 := h3.dr d3 e3
  have a7' := (a7.tr c3).tr d3
  have a8' := (a8.tr m4).tr e3
  obtain ⟨k', k7', hk', y', τ5, m1', m2', m3', m4'⟩ := m_type h4 (hb.up (sG_dr a7' a8') (oG_dr a7' a8')) e2 (by rw [List.length_append, List.length_append]; omega)
  obtain ⟨σ5, c1', c2', c3'⟩ := c_type σ4 d2 (by rw [List.length_append, List.length_append]; omega) k' k7'
  have lk7' : (cW (1014 + k')).length ≤ 20 := by rw [← ty_eq k' k7']; exact mB_len _ (by omega)
  obtain ⟨σ6, τ6, b1, b2, b3⟩ := cm_thrown (h4.dr c3' m4') c2' m3' (by rw [List.length_append, List.length_append, List.length_append]; omega)
  refine ⟨σ6, τ6, ?_, ?_, b3.pre (a7'.tr c3') (a8'.tr m4')⟩
  · rw [hk, hk', a1, bv_ok, a2, bv_ok, c1, bv_ok, d1, bv_ok, c1', bv_ok]
    exact b1.th
  · rw [a3, bv_ok, m1, bi_ok, m2, bv_ok, e1, bv_ok, m1', bi_ok, m2', bv_ok, b2, bv_ok]
theorem lt0_z {y : Int32} : (0 : Int32) ≤ y ↔ ¬ y < 0 := by
  constructor
  · intro h q; exact absurd (Int32.lt_of_le_of_lt h q) (Int32.lt_irrefl)
  · intro h; exact Int32.not_lt.1 h
/-- less, or less and equal: of numbers, of strings; else an event -/
theorem x_cmp {σ0 τ0 σ τ : lj_S} {n np p : Nat} {r : List Nat} {FP : Nat → List kF} {ρ : Nat → Nat} {MO LA : List Nat} {F : kF} {L : List kF} {c m : Nat} {s l : List Nat} {dd n1 : Nat} (C : ∀ M k, CAL σ0 τ0 M k) (h : MB σ0 τ0 n np p r (fpT FP p (kTo F c m s l dd n1 0 :: L)) ρ [] MO LA σ τ) (rg : rgR σ τ) {σa : lj_S} (hwk : wkR FP (p :: r) [] σa) {n' : Nat} (hn1 : n1 ≤ n' + 1) (hn : gn σ0 τ0 n' ((kY F).1, c, m, 0 :: s, l, dd)) (hc : 1 ≤ c ∧ c ≤ 14000) (hsc : scl σ0 (kY F).1 (c - 1) s l dd) (h5 : ∀ x ∈ s, x ≠ 5) {X : Nat} (hX : lsX FP p r L MO LA n' X) (hT : X ≤ TH) {q : Nat} (hq : q = 0 ∨ q = 1) {a a' b b' : vT} (ha : vR σ τ a a') (hb : vR σ τ b b') (line sw : Int32) : ∃ τ1, (if a'.1 = 2 then (if b'.1 = 2 then (if (lg_cmp a'.2 b'.2) < 0 then lj_D lm_P lm_M168 99 [.ref 0, .int (Int32.ofNat q), .int sw, .int line, .int a'.1, .long a'.2, .retAddr 0, .int b'.1, .long b'.2, .retAddr 0, .retAddr 0] [.int 1, .ref 0] τ else (if Int32.ofNat q = 0 then lj_D lm_P lm_M168 103 [.ref 0, .int (Int32.ofNat q), .int sw, .int line, .int a'.1, .long a'.2, .retAddr 0, .int b'.1, .long b'.2, .retAddr 0, .retAddr 0] [.int 1, .ref 0] τ else (if (lg_cmp a'.2 b'.2) = 0 then lj_D lm_P lm_M168 99 [.ref 0, .int (Int32.ofNat q), .int sw, .int line, .int a'.1, .long a'.2, .retAddr 0, .int b'.1, .long b'.2, .retAddr 0, .retAddr 0] [.int 1, .ref 0] τ else lj_D lm_P lm_M168 103 [.ref 0, .int (Int32.ofNat q), .int sw, .int line, .int a'.1, .long a'.2, .retAddr 0, .int b'.1, .long b'.2, .retAddr 0, .retAddr 0] [.int 1, .ref 0] τ))) else lj_D lm_P lm_M168 108 [.ref 0, .int (Int32.ofNat q), .int sw, .int line, .int a'.1, .long a'.2, .retAddr 0, .int b'.1, .long b'.2, .retAddr 0, .retAddr 0] [] τ) else lj_D lm_P lm_M168 108 [.ref 0, .int (Int32.ofNat q), .int sw, .int line, .int a'.1, .long a'.2, .retAddr 0, .int b'.1, .long b'.2, .retAddr 0, .retAddr 0] [] τ) = some (.inl none, τ1) ∧ ocR σ0 τ0 [] (fun t => t < X) σ τ1 (lj_R lc_P 211 [.ref 8, .int (Int32.ofNat (56 - 2 * q)), .int a.1, .long a.2, .int b.1, .long b.2, .int line] σ) := by
  have ka : a.1 = 2 ↔ a'.1 = 2 := ha.kk (by decide) (by decide)
  have kb : b.1 = 2 ↔ b'.1 = 2 := hb.kk (by decide) (by decide)
  have ka3 : a.1 = 3 ↔ a'.1 = 3 := ha.kk (by decide) (by decide)
  have kb3 : b.1 = 3 ↔ b'.1 = 3 := hb.kk (by decide) (by decide)
  have pt : ∀ x : Int32, (x = 0 ∨ x = 1) → ∃ ce me mq, (lj_R lc_P 147 [.ref 8, .int x] σ = some (.inl none, cPu σ ce (1, if x = 0 then 0 else 1))) ∧ (lj_R lm_P 116 [.ref 0, .int 1, .long (if x = 0 then 0 else 1)] τ = some (.inl none, mPu τ p me (1, if x = 0 then 0 else 1))) ∧ mAt τ p me mq ∧ ∀ σb, ocR σ0 τ0 [] (fun t => t < X) σb (mPu τ p me (1, if x = 0 then 0 else 1)) (some (.inl none, cPu σ ce (1, if x = 0 then 0 else 1))) := fun x hx => by
    obtain ⟨ce, me, mq, t1, t2, t3, t4, t5⟩ := x_pv C h rg hwk hn1 hn hc hsc h5 hX hT (u := (1, if x = 0 then 0 else 1)) (w := (1, if x = 0 then 0 else 1)) (vR_truth σ τ (by by_cases y : x = 0 <;> simp [y])) (lf_rf _ _) (lf_rf _ _)
    exact ⟨ce, me, mq, c_pushTruth t1 t2 x, m_push t3 t4 (1, if x = 0 then 0 else 1), t3, t5⟩
  obtain ⟨ce0, me0, mq0, p1, p2, _, p3⟩ := pt 0 (Or.inl rfl)
  obtain ⟨ce1, me1, mq1, q1, q2, _, q3⟩ := pt 1 (Or.inr rfl)
  rw [if_pos rfl] at p1 p2 p3
  rw [if_neg (by decide)] at q1 q2 q3
  by_cases z : a.1 = 2 ∧ b.1 = 2
  · obtain ⟨z1, z2⟩ := z
    have ea := ha.wh z1
    have eb := hb.wh z2
    subst ea eb
    rw [if_pos z1, if_pos z2, rc_211, kc_211_0, if_pos z1, if_pos z2]
    rcases hq with rfl | rfl
    · -- less
      rw [if_pos (show Int32.ofNat (56 - 2 * 0) = 56 by decide)]
      by_cases y : lg_cmp a'.2 b'.2 < 0
      · refine ⟨_, by rw [if_pos y, km_168_99, km_168_104, q2, bv_ok], ?_⟩
        rw [if_neg (fun u => (lt0_z.1 u) y), kc_211_45, q1, bv_ok, kc_211_184]
        exact q3 σ
      · refine ⟨_, by rw [if_neg y, if_pos (by decide), km_168_103, km_168_104, p2, bv_ok], ?_⟩
        rw [if_pos (lt0_z.2 y), kc_211_45, p1, bv_ok, kc_211_184]
        exact p3 σ
    · -- less or equal
      rw [if_neg (show ¬ (Int32.ofNat (56 - 2 * 1) = 56) by decide)]
      by_cases y : lg_cmp a'.2 b'.2 < 0
      · refine ⟨_, by rw [if_pos y, km_168_99, km_168_104, q2, bv_ok], ?_⟩
        rw [if_neg (fun u => Int32.lt_irrefl (Int32.lt_trans u y)), kc_211_45, q1, bv_ok, kc_211_184]
        exact q3 σ
      · by_cases y2 : lg_cmp a'.2 b'.2 = 0
        · refine ⟨_, by rw [if_neg y, if_neg (by decide), if_pos y2, km_168_99, km_168_104, q2, bv_ok], ?_⟩
          rw [if_neg (by rw [y2]; decide), kc_211_45, q1, bv_ok, kc_211_184]
          exact q3 σ
        · refine ⟨_, by rw [if_neg y, if_neg (by decide), if_neg y2, km_168_103, km_168_104, p2, bv_ok], ?_⟩
          rw [if_pos (Int32.lt_of_le_of_ne (lt0_z.2 y) (fun u => y2 u.symm)), kc_211_45, p1, bv_ok, kc_211_184]
          exact p3 σ
  · have e1 : ∀ (A B : Option lj_O), (if a.1 = 2 then (if b.1 = 2 then A else B) else B) = B := fun A B => by
      by_cases z2 : a.1 = 2
      · rw [if_pos z2, if_neg (fun u => z ⟨z2, u⟩)]
      · rw [if_neg z2]
    have e2 : ∀ (A B : Option lj_O), (if a'.1 = 2 then (if b'.1 = 2 then A else B) else B) = B := fun A B => by
      by_cases z2 : a'.1 = 2
      · rw [if_pos z2, if_neg (fun u => z ⟨ka.2 z2, kb.2 u⟩)]
      · rw [if_neg z2]
    rw [e2, rc_211, kc_211_0, e1, km_168_108, kc_211_51]
    by_cases w : a.1 = 3 ∧ b.1 = 3
    · obtain ⟨w1, w2⟩ := w
      rw [if_pos w1, if_pos w2, if_pos (ka3.1 w1), if_pos (kb3.1 w2)]
      obtain ⟨s1, s1', u1, u2, u3, u4, u5⟩ := ha.st w1
      obtain ⟨s2, s2', v1, v2, v3, v4, v5⟩ := hb.st w2
      obtain ⟨y, x1, x2⟩ := cm_compare h.2.1.1 u5 v5
      have x1' : lj_R lc_P 38 [.ref 3, .int (a.2.toInt32), .int (b.2.toInt32)] σ = some (.inl (some (.int y)), σ) := by
        rw [u3, v3, Int32.toInt32_toInt64, Int32.toInt32_toInt64]; exact x1
      have x2' : lj_R lm_P 169 [.ref 0, .int (a'.2.toInt32), .int (b'.2.toInt32)] τ = some (.inl (some (.int y)), τ) := by
        rw [u4, v4, Int32.toInt32_toInt64, Int32.toInt32_toInt64]; exact x2
      rw [x1', bi_ok, x2', bi_ok]
      rcases hq with rfl | rfl
      · rw [if_pos (show Int32.ofNat (56 - 2 * 0) = 56 by decide)]
        by_cases y0 : y < 0
        · refine ⟨_, by rw [if_pos y0, km_168_148, km_168_153, q2, bv_ok], ?_⟩
          rw [if_neg (fun u => (lt0_z.1 u) y0), kc_211_109, q1, bv_ok, kc_211_184]
          exact q3 σ
        · refine ⟨_, by rw [if_neg y0, if_pos (by decide), km_168_152, km_168_153, p2, bv_ok], ?_⟩
          rw [if_pos (lt0_z.2 y0), kc_211_109, p1, bv_ok, kc_211_184]
          exact p3 σ
      · rw [if_neg (show ¬ (Int32.ofNat (56 - 2 * 1) = 56) by decide)]
        by_cases y0 : y < 0
        · refine ⟨_, by rw [if_pos y0, km_168_148, km_168_153, q2, bv_ok], ?_⟩
          rw [if_neg (fun u => Int32.lt_irrefl (Int32.lt_trans u y0)), kc_211_109, q1, bv_ok, kc_211_184]
          exact q3 σ
        · by_cases y2 : y = 0
          · refine ⟨_, by rw [if_neg y0, if_neg (by decide), if_pos y2, km_168_148, km_168_153, q2, bv_ok], ?_⟩
            rw [if_neg (by rw [y2]; decide), kc_211_109, q1, bv_ok, kc_211_184]
            exact q3 σ
          · refine ⟨_, by rw [if_neg y0, if_neg (by decide), if_neg y2, km_168_152, km_168_153, p2, bv_ok], ?_⟩
            rw [if_pos (Int32.lt_of_le_of_ne (lt0_z.2 y0) (fun u => y2 u.symm)), kc_211_109, p1, bv_ok, kc_211_184]
            exact p3 σ
    · have e3 : ∀ (A B : Option lj_O), (if a.1 = 3 then (if b.1 = 3 then A else B) else B) = B := fun A B => by
        by_cases z2 : a.1 = 3
        · rw [if_pos z2, if_neg (fun u => w ⟨z2, u⟩)]
        · rw [if_neg z2]
      have e4 : ∀ (A B : Option lj_O), (if a'.1 = 3 then (if b'.1 = 3 then A else B) else B) = B := fun A B => by
        by_cases z2 : a'.1 = 3
        · rw [if_pos z2, if_neg (fun u => w ⟨ka3.2 z2, kb3.2 u⟩)]
        · rw [if_neg z2]
      have c212 : lj_R lc_P 212 [.ref 8, .int (Int32.ofNat (56 - 2 * q))] σ = some (.inl (some (.int (Int32.ofNat (15 + q)))), σ) := by
        rw [rc_212, kc_212_0]
        rcases hq with rfl | rfl
        · rw [if_neg (by decide), if_neg (by decide), if_neg (by decide), if_neg (by decide), if_neg (by decide), if_neg (by decide), if_neg (by decide), if_neg (by decide), if_neg (by decide), if_neg (by decide), if_neg (by decide), if_neg (by decide), if_neg (by decide), if_neg (by decide), if_neg (by decide), if_neg (by decide), if_pos (by decide), kc_212_142, kc_212_149]; rfl
        · rw [if_neg (by decide), if_neg (by decide), if_neg (by decide), if_neg (by decide), if_neg (by decide), if_neg (by decide), if_neg (by decide), if_neg (by decide), if_neg (by decide), if_neg (by decide), if_neg (by decide), if_neg (by decide), if_neg (by decide), if_neg (by decide), if_pos (by decide), kc_212_147, kc_212_149]; rfl
      have m177 : lj_D lm_P lm_M168 157 [.ref 0, .int (Int32.ofNat q), .int sw, .int line, .int a'.1, .long a'.2, .retAddr 0, .int b'.1, .long b'.2, .retAddr 0, .retAddr 0] [] τ = lj_D lm_P lm_M168 177 [.ref 0, .int (Int32.ofNat q), .int sw, .int line, .int a'.1, .long a'.2, .retAddr 0, .int b'.1, .long b'.2, .retAddr 0, .retAddr 0] [.int (Int32.ofNat (evM (15 + q))), .long b'.2, .int b'.1, .long a'.2, .int a'.1, .ref 0] τ := by
        rw [km_168_157]
        rcases hq with rfl | rfl
        · rw [if_pos (by decide)]; rfl
        · rw [if_neg (by decide)]; rfl
      rw [e3, e4, kc_211_115, c212, bi_ok, m177, km_168_177]
      rcases x_evt C h rg hwk hn1 hn hc hsc h5 hX hT (e := 15 + q) (w := 2) (by omega) (by omega) ha hb line with ⟨σ1, τ1, y1, y2, y3, y4, y5⟩ | ⟨τ1, τ2, y1, y2, y3, y4⟩
      · have y5 : lj_R lc_P 210 [.ref 8, .int (Int32.ofNat (15 + q)), .int a.1, .long a.2, .int b.1, .long b.2, .int 2, .int line] σ = some (.inl (some (.int 0)), σ1) := y5
        obtain ⟨σ', τ', g1, g2, g3⟩ := cm_cmpE (h.fdx y1 y2).2.1 line (ha.fdl y1 y2) (hb.fdl y1 y2)
        refine ⟨τ', by rw [y3, bv_ok, if_pos y4, g2], ?_⟩
        rw [y5, bi_ok, if_pos rfl, g1]
        exact oc_er (h.fdx y1 y2) ((rg_ry rg).fdx y1 y2) hwk g3 rfl (n' := n') hn1 hX
      · refine ⟨τ2, by rw [y1, bv_ok, if_neg y2]; exact y3 _, y4 _ σ (fun s => by rw [if_neg (by decide), kc_211_184])⟩
