/-! operators: joining -/
theorem oc_nr {σ0 τ0 σ τ σ' τ' σ1 σa : lj_S} {n np p : Nat} {r : List Nat} {FP : Nat → List kF} {ρ : Nat → Nat} {MO LA : List Nat} {F' : kF} {L : List kF} (h : MB σ0 τ0 n np p r (fpT FP p (F' :: L)) ρ [] MO LA σ τ) (rg : rgR σ τ) (hwk : wkR FP (p :: r) [] σa) {i lo i' ml kl : Nat} (f : lf (tqC p i lo) σ σ') (g : lf (tqN p i' ml kl) τ τ') (e1 : σ'.1 2 6 = 1) (e2 : τ'.1 0 143 = 4) (hS : kS F' = 0) {n' X : Nat} (hn : kN F' ≤ n' + 1) (hX : lsX FP p r L MO LA n' X) : ocR σ0 τ0 [] (fun t => t < X) σ1 τ' (some (.inr 2, σ')) := by
  have q := hX F' hS hn
  exact Or.inr (Or.inl ⟨σ', τ', n, np, p, r, fpT FP p (F' :: L), ρ, MO, LA, rfl, fun _ => rfl, h.nr rg f g e1 e2, Nat.lt_of_le_of_lt (Nat.add_le_add_left (by decide) _) q, wk_nil h.npr hwk _⟩)
theorem cAd_x {k j : Nat} (q : sxC k j = false) : cAd k j = false := by unfold sxC szC at q; unfold cAd; simp at q ⊢; omega
theorem mAd_x {k j : Nat} (q : sxM k j = false) : mAd k j = false := by unfold sxM szM at q; unfold mAd; simp at q ⊢; omega
theorem rgR.ad {σ τ σ' τ' : lj_S} (h : rgR σ τ) (f : lf cAd σ σ') (g : lf mAd τ τ') : rgR σ' τ' := ⟨by rw [(f 8 46 rfl).1]; exact h.1, by rw [(g 0 143 rfl).1]; exact h.2.1, by rw [(g 0 129 rfl).1]; exact h.2.2.1, by rw [(f 8 45 rfl).1, (g 0 144 rfl).1]; exact h.2.2.2.1, by rw [(f 8 44 rfl).2, (g 0 145 rfl).2]; exact h.2.2.2.2⟩
theorem rgR.ac {σ τ σ' τ' : lj_S} (h : rgR σ τ) (f : lf cAc σ σ') (g : lf mAc τ τ') : rgR σ' τ' := ⟨by rw [(f 8 46 rfl).1]; exact h.1, by rw [(g 0 143 rfl).1]; exact h.2.1, by rw [(g 0 129 rfl).1]; exact h.2.2.1, by rw [(f 8 45 rfl).1, (g 0 144 rfl).1]; exact h.2.2.2.1, by rw [(f 8 44 rfl).2, (g 0 145 rfl).2]; exact h.2.2.2.2⟩
theorem x_cat {σ0 τ0 σ τ : lj_S} {n np p : Nat} {r : List Nat} {FP : Nat → List kF} {ρ : Nat → Nat} {MO LA : List Nat} {F : kF} {L : List kF} {c m : Nat} {s l : List Nat} {dd n1 : Nat} (C : ∀ M k, CAL σ0 τ0 M k) (h : MB σ0 τ0 n np p r (fpT FP p (kTo F c m s l dd n1 0 :: L)) ρ [] MO LA σ τ) (rg : rgR σ τ) {σa : lj_S} (hwk : wkR FP (p :: r) [] σa) {n' : Nat} (hn1 : n1 ≤ n' + 1) (hn : gn σ0 τ0 n' ((kY F).1, c, m, 0 :: s, l, dd)) (hc : 1 ≤ c ∧ c ≤ 14000) (hsc : scl σ0 (kY F).1 (c - 1) s l dd) (h5 : ∀ x ∈ s, x ≠ 5) {X : Nat} (hX : lsX FP p r L MO LA n' X) (hT : X ≤ TH) {a a' b b' : vT} (ha : vR σ τ a a') (hb : vR σ τ b b') (line : Int32) : ∃ τ1, (if a'.1 = 3 then lj_D lm_P lm_M162 43 [.ref 0, .int line, .int b'.1, .long b'.2, .retAddr 0, .int a'.1, .long a'.2, .retAddr 0, .retAddr 0, .retAddr 0] [] τ else (if a'.1 = 2 then lj_D lm_P lm_M162 43 [.ref 0, .int line, .int b'.1, .long b'.2, .retAddr 0, .int a'.1, .long a'.2, .retAddr 0, .retAddr 0, .retAddr 0] [] τ else lj_D lm_P lm_M162 48 [.ref 0, .int line, .int b'.1, .long b'.2, .retAddr 0, .int a'.1, .long a'.2, .retAddr 0, .retAddr 0, .retAddr 0] [.int 0] τ)) = some (.inl none, τ1) ∧ ocR σ0 τ0 [] (fun t => t < X) σ τ1 (lj_R lc_P 213 [.ref 8, .int a.1, .long a.2, .int b.1, .long b.2, .int line] σ) := by
  have ka2 : a.1 = 2 ↔ a'.1 = 2 := ha.kk (by decide) (by decide)
  have kb2 : b.1 = 2 ↔ b'.1 = 2 := hb.kk (by decide) (by decide)
  have ka3 : a.1 = 3 ↔ a'.1 = 3 := ha.kk (by decide) (by decide)
  have kb3 : b.1 = 3 ↔ b'.1 = 3 := hb.kk (by decide) (by decide)
  have em : (if a'.1 = 3 then lj_D lm_P lm_M162 43 [.ref 0, .int line, .int b'.1, .long b'.2, .retAddr 0, .int a'.1, .long a'.2, .retAddr 0, .retAddr 0, .retAddr 0] [] τ else (if a'.1 = 2 then lj_D lm_P lm_M162 43 [.ref 0, .int line, .int b'.1, .long b'.2, .retAddr 0, .int a'.1, .long a'.2, .retAddr 0, .retAddr 0, .retAddr 0] [] τ else lj_D lm_P lm_M162 48 [.ref 0, .int line, .int b'.1, .long b'.2, .retAddr 0, .int a'.1, .long a'.2, .retAddr 0, .retAddr 0, .retAddr 0] [.int 0] τ)) = lj_D lm_P lm_M162 48 [.ref 0, .int line, .int b'.1, .long b'.2, .retAddr 0, .int a'.1, .long a'.2, .retAddr 0, .retAddr 0, .retAddr 0] [.int (if a.1 = 3 ∨ a.1 = 2 then 1 else 0)] τ := by
    by_cases z1 : a.1 = 3
    · rw [if_pos (ka3.1 z1), km_162_43, if_pos (Or.inl z1)]
    · rw [if_neg (fun q => z1 (ka3.2 q))]
      by_cases z2 : a.1 = 2
      · rw [if_pos (ka2.1 z2), km_162_43, if_pos (Or.inr z2)]
      · rw [if_neg (fun q => z2 (ka2.2 q)), if_neg (by rintro (q | q) <;> contradiction)]
  rw [em]
  by_cases zz : (a.1 = 3 ∨ a.1 = 2) ∧ (b.1 = 3 ∨ b.1 = 2)
  · -- both are texts or numbers
    obtain ⟨za, zb⟩ := zz
    obtain ⟨b1, b2, b3⟩ := c_bgn σ
    obtain ⟨d2, d3⟩ := m_bgn τ
    have h1 := h.sc (cAd_z b3) (mAd_z d3)
    obtain ⟨T1, σ1, τ1, l1, x1, x2, x3, x4, x5, x6⟩ := cm_text h1.2.1 b2 d2 (by decide) (ha.ad b3 d3)
    have h2 := h1.sc (cAd_z x5) (mAd_z x6)
    rw [List.nil_append] at x3 x4
    obtain ⟨T2, σ2, τ2, l2, y1, y2, y3, y4, y5, y6⟩ := cm_text h2.2.1 x3 x4 (by omega) ((hb.ad b3 d3).ad x5 x6)
    have h3 := h2.sc (cAd_z y5) (mAd_z y6)
    have fC := (b3.tr x5).tr y5
    have fM := (d3.tr x6).tr y6
    have rg3 := rg.ad fC fM
    have e36 : σ2.1 3 6 = Int32.ofNat (T1 ++ T2).length := lz_ext (by rw [lz_lit (by rw [List.length_append]; omega)]; exact y3.1)
    have e20 : τ2.1 0 20 = Int32.ofNat (T1 ++ T2).length := lz_ext (by rw [lz_lit (by rw [List.length_append]; omega)]; exact y4.1)
    have lt : (T1 ++ T2).length ≤ 2000 := by rw [List.length_append]; omega
    have le1 : (Int32.ofNat (T1 ++ T2).length ≤ (1000 : Int32)) ↔ (T1 ++ T2).length ≤ 1000 := ofN_le (b := 1000) (by omega) (by omega)
    have mh : ∀ x50 : Int32, x50 ≠ 0 → lj_D lm_P lm_M162 48 [.ref 0, .int line, .int b'.1, .long b'.2, .retAddr 0, .int a'.1, .long a'.2, .retAddr 0, .retAddr 0, .retAddr 0] [.int x50] τ = (if Int32.ofNat (T1 ++ T2).length ≤ 1000 then lj_bi (lj_R lm_P 139 [.ref 0] τ2) (fun y4 σ3 => lj_bv (lj_R lm_P 116 [.ref 0, .int 3, .long ((y4 : Int32).toInt64)] σ3) (fun σ5 => some (.inl none, σ5)) lj_up) lj_up else lj_bv (lj_R lm_P 142 [.ref 0, .int 7, .int line] τ2) (fun σ6 => some (.inl none, σ6)) lj_up) := fun x50 hx => by
      rw [km_162_48, if_neg hx]
      have e65 : lj_D lm_P lm_M162 65 [.ref 0, .int line, .int b'.1, .long b'.2, .retAddr 0, .int a'.1, .long a'.2, .retAddr 0, .int x50, .retAddr 0] [] τ = _ := km_162_65 _ _ _ _ _ _ τ
      rw [x2, bv_ok, y2, bv_ok, e20] at e65
      by_cases z1 : b.1 = 3
      · rw [if_pos (kb3.1 z1), e65]
      · rw [if_neg (fun q => z1 (kb3.2 q)), if_pos (kb2.1 (zb.resolve_left z1)), e65]
    have ch : lj_R lc_P 213 [.ref 8, .int a.1, .long a.2, .int b.1, .long b.2, .int line] σ = lj_bi (lj_R lc_P 192 [.ref 8, .int line] σ2) (fun y9 σ8 => lj_bv (lj_R lc_P 137 [.ref 8, .int 3, .long ((y9 : Int32).toInt64)] σ8) (fun σ10 => lj_D lc_P lc_M213 98 [.ref 8, .int a.1, .long a.2, .retAddr 0, .int b.1, .long b.2, .retAddr 0, .int line] [] σ10) lj_up) lj_up := by
      rw [rc_213, kc_213_0, c_joins, if_pos za, bi_ok, if_neg (by decide), c_joins, if_pos zb, bi_ok, if_neg (by decide), b1, bv_ok, x1, bv_ok, y1, bv_ok]
    rw [if_pos za, mh 1 (by decide), ch]
    by_cases zl : (T1 ++ T2).length ≤ 1000
    · rw [if_pos (le1.2 zl)]
      rcases cm_make h3.2.1 y3 y4 zl with ⟨e1, e2⟩ | ⟨σ4, τ4, s', s'', e1, e2, s1, s2, se, ec, eM, eG, k1, k2⟩
      · -- no room
        obtain ⟨ce, me, mq, t1, t2, t3, t4, _⟩ := x_top h3 rg3
        have at1 : mAt (lj_put τ2 0 143 4) p me mq := by
          obtain ⟨a1, a2, a3, a4, a5, a6⟩ := t3
          exact ⟨by rw [lj_put_1, if_neg (by omega)]; exact a1, a2, by rw [lj_put_1, if_neg (by omega)]; exact a3, a4, by rw [lj_put_1, if_neg (by omega)]; exact a5, a6⟩
        have mp : lj_R lm_P 116 [.ref 0, .int 3, .long (-1 : Int32).toInt64] (lj_put τ2 0 143 4) = _ := m_push at1 (by omega) (3, (-1 : Int32).toInt64)
        refine ⟨_, by rw [e2, bi_ok, mp, bv_ok], ?_⟩
        rw [rc_192, kc_192_0, e36, if_pos (le1.2 zl), e1, bi_th, bi_th]
        refine oc_nr h3 rg3 hwk (i := 0) (lo := ce) (i' := 0) (ml := me) (kl := mq) (tq_26 (lf_rf _ _) _) ?_ (by simp [lj_put_1, lj_putL_1]) (by rw [mPu_1, if_neg (by omega), if_neg (by omega)]; exact (by simp [lj_put_1, lj_putL_1])) rfl (n' := n') hn1 hX
        refine fun k j q => ?_
        have q1 : ¬ (k = 63 ∧ j = p) ∧ ¬ (k = 71 ∧ j = 10000 * p + me) ∧ ¬ (k = 72 ∧ j = 10000 * p + me) ∧ ¬ (k = 0 ∧ j = 143) := by
          unfold tqN tqM at q
          simp at q
          omega
        exact ⟨by rw [mPu_1, if_neg (by omega), if_neg (by omega), lj_put_1, if_neg (by omega)], by rw [mPu_2, if_neg (by omega)]; rfl⟩
      · have h4 : MB σ0 τ0 n np p r (fpT FP p (kTo F c m s l dd n1 0 :: L)) ρ [] MO LA σ4 τ4 := h3.st (k1.mo (fun k j q => by unfold erC at q; simp at q; exact q.1.1.1)) (k2.mo (fun k j q => by unfold erM at q; simp at q; exact q.1.1)) eG eM
        have rg4 := rg3.ac k1 k2
        obtain ⟨ce, me, mq, t1, t2, t3, t4, t5⟩ := x_pv C h4 rg4 hwk hn1 hn hc hsc h5 hX hT (vR_str se s1 s2) (lf_rf _ _) (lf_rf _ _)
        have mp : lj_R lm_P 116 [.ref 0, .int 3, .long (Int32.ofNat s'').toInt64] τ4 = _ := m_push t3 t4 (3, i64 s'')
        have cp : lj_R lc_P 137 [.ref 8, .int 3, .long (Int32.ofNat s').toInt64] σ4 = _ := c_push t1 t2 (3, i64 s')
        refine ⟨_, by rw [e2, bi_ok, mp, bv_ok], ?_⟩
        rw [rc_192, kc_192_0, e36, if_pos (le1.2 zl), e1, bi_ok, bi_ok, cp, bv_ok, kc_213_98]
        exact t5 σ
    · rw [if_neg (fun q => zl (le1.1 q))]
      obtain ⟨σ', τ', e1, e2, e3⟩ := cm_wrong h3.2.1 line (e := 7) (by decide)
      have e1 : lj_br (lj_R lc_P 133 [.ref 8, .int line, .ref 1026] σ2) (fun y s => (bif Nat.blt y 2000 then lj_up y s else none)) lj_up = some (.inr 2, σ') := e1
      have e2 : lj_R lm_P 142 [.ref 0, .int 7, .int line] τ2 = some (.inl none, τ') := e2
      refine ⟨τ', by rw [e2, bv_ok], ?_⟩
      rw [rc_192, kc_192_0, e36, if_neg (fun q => zl (le1.1 q)), e1, bi_th]
      exact oc_er h3 (rg_ry rg3) hwk e3 rfl (n' := n') hn1 hX
  · -- an event
    obtain ⟨x8, hx8⟩ : ∃ x : Int32, x = if a.1 = 3 ∨ a.1 = 2 then 1 else 0 := ⟨_, rfl⟩
    have m117 : lj_D lm_P lm_M162 48 [.ref 0, .int line, .int b'.1, .long b'.2, .retAddr 0, .int a'.1, .long a'.2, .retAddr 0, .retAddr 0, .retAddr 0] [.int x8] τ = lj_D lm_P lm_M162 117 [.ref 0, .int line, .int b'.1, .long b'.2, .retAddr 0, .int a'.1, .long a'.2, .retAddr 0, .int x8, .retAddr 0] [] τ := by
      rw [km_162_48]
      by_cases za : a.1 = 3 ∨ a.1 = 2
      · have zb : ¬ (b.1 = 3 ∨ b.1 = 2) := fun q => zz ⟨za, q⟩
        rw [hx8, if_pos za, if_neg (by decide), if_neg (fun q => zb (Or.inl (kb3.2 q))), if_neg (fun q => zb (Or.inr (kb2.2 q)))]
      · rw [hx8, if_neg za, if_pos rfl]
    have c56 : lj_R lc_P 213 [.ref 8, .int a.1, .long a.2, .int b.1, .long b.2, .int line] σ = lj_D lc_P lc_M213 56 [.ref 8, .int a.1, .long a.2, .retAddr 0, .int b.1, .long b.2, .retAddr 0, .int line] [] σ := by
      rw [rc_213, kc_213_0, c_joins, bi_ok]
      by_cases za : a.1 = 3 ∨ a.1 = 2
      · have zb : ¬ (b.1 = 3 ∨ b.1 = 2) := fun q => zz ⟨za, q⟩
        rw [if_neg (by rw [if_pos za]; decide), c_joins, bi_ok, if_pos (by rw [if_neg zb])]
      · rw [if_pos (by rw [if_neg za])]
    rw [← hx8, m117, c56, km_162_117, kc_213_56]
    rcases x_evt C h rg hwk hn1 hn hc hsc h5 hX hT (e := 12) (w := 1) (by omega) (by omega) ha hb line with ⟨σ1, τ1, y1, y2, y3, y4, y5⟩ | ⟨τ1, τ2, y1, y2, y3, y4⟩
    · have y3 : lj_R lm_P 161 [.ref 0, .int a'.1, .long a'.2, .int b'.1, .long b'.2, .int 15] τ = some (.inl none, τ1) := y3
      have y5 : lj_R lc_P 210 [.ref 8, .int 12, .int a.1, .long a.2, .int b.1, .long b.2, .int 1, .int line] σ = some (.inl (some (.int 0)), σ1) := y5
      by_cases za : a.1 = 3 ∨ a.1 = 2
      · obtain ⟨σ', τ', g1, g2, g3⟩ := cm_wrongOf (h.fdx y1 y2).2.1 line (e := 8) (by decide) (hb.fdl y1 y2)
        have g1 : lj_br (lj_R lc_P 156 [.ref 8, .int line, .ref 1040, .int b.1] σ1) (fun y s => (bif Nat.blt y 2000 then lj_up y s else none)) lj_up = some (.inr 2, σ') := g1
        have g2 : lj_R lm_P 131 [.ref 0, .int 8, .int line, .int b'.1] τ1 = some (.inl none, τ') := g2
        have x0 : ¬ x8 = 0 := by rw [hx8, if_pos za]; decide
        refine ⟨τ', by rw [y3, bv_ok, if_pos y4, if_neg x0, km_162_151, g2, bv_ok], ?_⟩
        rw [y5, bi_ok, if_pos rfl, c_joins, bi_ok, if_neg (by rw [if_pos za]; decide), kc_213_94, g1]
        exact oc_er (h.fdx y1 y2) ((rg_ry rg).fdx y1 y2) hwk g3 rfl (n' := n') hn1 hX
      · obtain ⟨σ', τ', g1, g2, g3⟩ := cm_wrongOf (h.fdx y1 y2).2.1 line (e := 8) (by decide) (ha.fdl y1 y2)
        have g1 : lj_br (lj_R lc_P 156 [.ref 8, .int line, .ref 1040, .int a.1] σ1) (fun y s => (bif Nat.blt y 2000 then lj_up y s else none)) lj_up = some (.inr 2, σ') := g1
        have g2 : lj_R lm_P 131 [.ref 0, .int 8, .int line, .int a'.1] τ1 = some (.inl none, τ') := g2
        have x0 : x8 = 0 := by rw [hx8, if_neg za]
        refine ⟨τ', by rw [y3, bv_ok, if_pos y4, if_pos x0, km_162_151, g2, bv_ok], ?_⟩
        rw [y5, bi_ok, if_pos rfl, c_joins, bi_ok, if_pos (by rw [if_neg za]), kc_213_94, g1]
        exact oc_er (h.fdx y1 y2) ((rg_ry rg).fdx y1 y2) hwk g3 rfl (n' := n') hn1 hX
    · have y1 : lj_R lm_P 161 [.ref 0, .int a'.1, .long a'.2, .int b'.1, .long b'.2, .int 15] τ = some (.inl none, τ1) := y1
      refine ⟨τ2, by rw [y1, bv_ok, if_neg y2]; exact y3 _, y4 _ σ (fun s => by rw [if_neg (by decide), kc_213_98])⟩
