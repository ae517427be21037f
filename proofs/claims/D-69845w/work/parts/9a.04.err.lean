/-! errors of both machines -/
/-- what was made, or no room: thrown -/
def thX (o : Option lj_O) (σ' : lj_S) : Prop := o = some (.inr 2, σ') ∨ o = some (.inl (some (.ref 2)), σ')
theorem thX.br {o : Option lj_O} {σ' : lj_S} (h : thX o σ') : thX (lj_br o (fun y s => some (.inl (some (.ref y)), s)) lj_up) σ' := by
  rcases h with h | h <;> rw [h]
  · exact Or.inl rfl
  · exact Or.inr rfl
theorem thX.th {o : Option lj_O} {σ' : lj_S} (h : thX o σ') : lj_br o (fun y s => (bif Nat.blt y 2000 then lj_up y s else none)) lj_up = some (.inr 2, σ') := by
  rcases h with h | h <;> rw [h] <;> rfl
/-- places that an error changes -/
def erC (k j : Nat) : Bool := cAc k j || cAd k j || (k == 8 && (j == 42 || j == 43)) || (k == 2 && j == 6)
def erM (k j : Nat) : Bool := mAc k j || mAd k j || (k == 0 && (j == 129 || j == 141 || j == 142 || j == 143))
/-- an error of both, or no room -/
def raR (σ τ σ' τ' : lj_S) : Prop := lf erC σ σ' ∧ lf erM τ τ' ∧ sM σ' τ' ∧ sG σ τ σ' τ' ∧ τ'.1 0 129 = 2 ∧ (σ'.1 2 6 = 1 ∧ τ'.1 0 143 = 4 ∨ σ'.1 2 6 = 0 ∧ τ'.1 0 143 = τ.1 0 143 ∧ vR σ' τ' (σ'.1 8 42, σ'.2 8 43) (τ'.1 0 141, τ'.2 0 142))
theorem raR.pre {σ τ σ1 τ1 σ' τ' : lj_S} (h : raR σ1 τ1 σ' τ') (f : lf cAd σ σ1) (g : lf mAd τ τ1) : raR σ τ σ' τ' := by
  obtain ⟨h1, h2, h3, h4, h5, h6⟩ := h
  refine ⟨(f.mo (fun k j q => ?_)).tr h1, (g.mo (fun k j q => ?_)).tr h2, h3, (sG_dr f g).tr h4, h5, ?_⟩
  · unfold erC at q; simp at q; exact q.1.1.2
  · unfold erM at q; simp at q; exact q.1.2
  · rcases h6 with w | ⟨w1, w2, w3⟩
    · exact Or.inl w
    · exact Or.inr ⟨w1, by rw [w2, (g 0 143 rfl).1], w3⟩
theorem cm_thrown {σ τ : lj_S} {D : List Int32} (h : sM σ τ) (hC : cDr σ D) (hM : mDr τ D) (hl : D.length ≤ 1000) : ∃ σ' τ', thX (lj_R lc_P 135 [.ref 8] σ) σ' ∧ lj_R lm_P 138 [.ref 0] τ = some (.inl none, τ') ∧ raR σ τ σ' τ' := by
  have h' : sM (lj_put σ 8 42 3) τ := h.cg (fun k j q => by rw [lj_put_1, if_neg (by rintro ⟨rfl, rfl⟩; exact absurd q (by decide))]) (fun _ _ _ => rfl)
  have hC' : cDr (lj_put σ 8 42 3) D := ⟨by rw [lv_put, if_neg (by omega)]; exact hC.1, fun i a b => by rw [lj_put_1, if_neg (by omega)]; exact hC.2.1 i a b, hC.2.2⟩
  have g0 : sG σ τ (lj_put σ 8 42 3) τ := sG_eq (fun k j q => by rw [lj_put_1, if_neg (by rintro ⟨rfl, rfl⟩; exact absurd q (by decide))]) (fun _ _ _ => rfl)
  rcases cm_make h' hC' hM hl with ⟨c1, m1⟩ | ⟨σ1, τ1, s, s', c1, m1, u1, u2, e, eD, hs, g, fC, fM⟩
  · refine ⟨lj_put (lj_put σ 8 42 3) 2 6 1, lj_put (lj_putL (lj_put (lj_put τ 0 143 4) 0 141 3) 0 142 ((-1 : Int32).toInt64)) 0 129 2, Or.inl ?_, ?_, ?_, ?_, ?_, ?_, ?_, ?_⟩
    · rw [rc_135, kc_135_0, c1]; rfl
    · rw [rm_138, km_138_0, m1, bi_ok]
    · exact lf_put (lf_put (lf_rf _ _) _ _ _ rfl) _ _ _ rfl
    · exact lf_put (lf_putL (lf_put (lf_put (lf_rf _ _) _ _ _ rfl) _ _ _ rfl) _ _ _ rfl) _ _ _ rfl
    · exact h'.cg (fun k j q => by rw [lj_put_1, if_neg (by rintro ⟨rfl, rfl⟩; exact absurd q (by decide))]) (fun k j q => by
        rw [lj_put_1, if_neg (by rintro ⟨rfl, rfl⟩; exact absurd q (by decide)), lj_putL_1, lj_put_1, if_neg (by rintro ⟨rfl, rfl⟩; exact absurd q (by decide)), lj_put_1, if_neg (by rintro ⟨rfl, rfl⟩; exact absurd q (by decide))])
    · exact sG_eq (fun k j q => by rw [lj_put_1, if_neg (by rintro ⟨rfl, rfl⟩; exact absurd q (by decide)), lj_put_1, if_neg (by rintro ⟨rfl, rfl⟩; exact absurd q (by decide))]) (fun k j q => by
        rw [lj_put_1, if_neg (by rintro ⟨rfl, rfl⟩; exact absurd q (by decide)), lj_putL_1, lj_put_1, if_neg (by rintro ⟨rfl, rfl⟩; exact absurd q (by decide)), lj_put_1, if_neg (by rintro ⟨rfl, rfl⟩; exact absurd q (by decide))])
    · rw [lj_put_1, if_pos ⟨rfl, rfl⟩]
    · refine Or.inl ⟨by rw [lj_put_1, if_pos ⟨rfl, rfl⟩], ?_⟩
      rw [lj_put_1, if_neg (by omega), lj_putL_1, lj_put_1, if_neg (by omega), lj_put_1, if_pos ⟨rfl, rfl⟩]
  · have oC : ∀ k j, ¬ (k = 2 ∧ j = 6) → (lj_put (lj_putL σ1 8 43 (i64 s)) 2 6 0).1 k j = σ1.1 k j := fun k j w => by rw [lj_put_1, if_neg w, lj_putL_1]
    have oM : ∀ k j, ¬ (k = 0 ∧ (j = 129 ∨ j = 141)) → (lj_put (lj_putL (lj_put τ1 0 141 3) 0 142 (i64 s')) 0 129 2).1 k j = τ1.1 k j := fun k j w => by rw [lj_put_1, if_neg (by omega), lj_putL_1, lj_put_1, if_neg (by omega)]
    have g1 : sG σ1 τ1 (lj_put (lj_putL σ1 8 43 (i64 s)) 2 6 0) (lj_put (lj_putL (lj_put τ1 0 141 3) 0 142 (i64 s')) 0 129 2) := sG_eq (fun k j q => oC k j (by rintro ⟨rfl, rfl⟩; exact absurd q (by decide))) (fun k j q => oM k j (by rintro ⟨rfl, rfl | rfl⟩ <;> exact absurd q (by decide)))
    refine ⟨lj_put (lj_putL σ1 8 43 (i64 s)) 2 6 0, lj_put (lj_putL (lj_put τ1 0 141 3) 0 142 (i64 s')) 0 129 2, Or.inr ?_, ?_, ?_, ?_, ?_, g0.tr (g.tr g1), ?_, Or.inr ⟨?_, ?_, ?_⟩⟩
    · rw [rc_135, kc_135_0, c1, bi_ok, c_20 _ (Or.inl rfl), br_ok]
    · rw [rm_138, km_138_0, m1, bi_ok]
    · exact lf_put (lf_putL ((lf_put (lf_rf erC σ) 8 42 3 rfl).tr (fC.mo (fun k j q => by unfold erC at q; simp at q; exact q.1.1.1))) _ _ _ rfl) _ _ _ rfl
    · exact lf_put (lf_putL (lf_put (fM.mo (fun k j q => by unfold erM at q; simp at q; exact q.1.1)) _ _ _ rfl) _ _ _ rfl) _ _ _ rfl
    · exact hs.cg (fun k j q => oC k j (by rintro ⟨rfl, rfl⟩; exact absurd q (by decide))) (fun k j q => oM k j (by rintro ⟨rfl, rfl | rfl⟩ <;> exact absurd q (by decide)))
    · rw [lj_put_1, if_pos ⟨rfl, rfl⟩]
    · rw [lj_put_1, if_pos ⟨rfl, rfl⟩]
    · rw [oM 0 143 (by omega), (fM 0 143 rfl).1]
    · have a1 : (lj_put (lj_putL σ1 8 43 (i64 s)) 2 6 0).1 8 42 = 3 := by rw [oC 8 42 (by omega), (fC 8 42 rfl).1, lj_put_1, if_pos ⟨rfl, rfl⟩]
      have a2 : (lj_put (lj_putL σ1 8 43 (i64 s)) 2 6 0).2 8 43 = i64 s := by show (lj_putL σ1 8 43 (i64 s)).2 8 43 = _; rw [lj_putL_2, if_pos ⟨rfl, rfl⟩]
      have a3 : (lj_put (lj_putL (lj_put τ1 0 141 3) 0 142 (i64 s')) 0 129 2).1 0 141 = 3 := by rw [lj_put_1, if_neg (by omega), lj_putL_1, lj_put_1, if_pos ⟨rfl, rfl⟩]
      have a4 : (lj_put (lj_putL (lj_put τ1 0 141 3) 0 142 (i64 s')) 0 129 2).2 0 142 = i64 s' := by show (lj_putL (lj_put τ1 0 141 3) 0 142 (i64 s')).2 0 142 = _; rw [lj_putL_2, if_pos ⟨rfl, rfl⟩]
      rw [a1, a2, a3, a4]
      exact vR_str (e.up g1) u1 u2
/-- both begin an error of a line, with words -/
theorem cm_begin {σ τ : lj_S} (h : sM σ τ) (line : Int32) {e : Nat} (he : e < 16) : ∃ σ1 σ2 τ' D, lj_R lc_P 134 [.ref 8, .int line] σ = some (.inl none, σ1) ∧ lj_R lc_P 29 [.ref 3, .ref (eW e)] σ1 = some (.inl none, σ2) ∧ lj_R lm_P 132 [.ref 0, .int line, .int (Int32.ofNat e)] τ = some (.inl none, τ') ∧ D.length ≤ 60 ∧ cDr σ2 D ∧ mDr τ' D ∧ lf cAd σ σ2 ∧ lf mAd τ τ' := by
  have e12 : cW 1012 = [58, 32] := by decide +kernel
  have eR : 1000 ≤ eW e ∧ eW e < 1046 ∧ (cW (eW e)).length ≤ 24 := by
    have : ∀ e, e < 16 → 1000 ≤ eW e ∧ eW e < 1046 ∧ (cW (eW e)).length ≤ 24 := by decide +kernel
    exact this e he
  have d0 : cDr (lj_put σ 3 6 0) [] := ⟨by rw [lv_put, if_pos ⟨rfl, rfl⟩]; rfl, fun i a _ => absurd a (Nat.not_lt_zero _), fun b hb => by cases hb⟩
  have m0 : mDr (lj_put τ 0 20 0) [] := ⟨by rw [lv_put, if_pos ⟨rfl, rfl⟩]; rfl, fun i a => absurd a (Nat.not_lt_zero _), fun b hb => by cases hb⟩
  have l0 := lnum_len line.toInt64
  obtain ⟨σ1, a1, a2, a3⟩ := c_addNumber (lj_put σ 3 6 0) line.toInt64 d0 (by decide)
  rw [List.nil_append] at a2
  obtain ⟨σ2, b1, b2, b3⟩ := c_w σ1 (r := 1012) (by decide) (by decide) a2 (by omega)
  rw [e12] at b2
  obtain ⟨σ3, c1, c2, c3⟩ := c_w σ2 eR.1 eR.2.1 b2 (by rw [List.length_append]; simp; omega)
  obtain ⟨τ1, p1, p2, p3⟩ := m_digits (lj_put τ 0 20 0) line.toInt64 m0 (by decide)
  rw [List.nil_append] at p2
  obtain ⟨τ2, q1, q2, q3⟩ := m_dg τ1 58 (by decide) p2 (by omega)
  obtain ⟨τ3, r1, r2, r3⟩ := m_dg τ2 32 (by decide) q2 (by rw [List.length_append]; simp; omega)
  have ee : lnum line.toInt64 ++ [58] ++ [32] = lnum line.toInt64 ++ [58, 32] := by simp
  rw [ee] at r2
  obtain ⟨τ4, s1, s2, s3⟩ := m_words τ3 r2 (by rw [List.length_append]; simp; omega) e he
  refine ⟨σ2, σ3, τ4, lnum line.toInt64 ++ [58, 32] ++ cW (eW e), ?_, c1, ?_, ?_, c2, s2, ?_, ?_⟩
  · rw [rc_134, kc_134_0, c_begin, bv_ok, a1, bv_ok, b1, bv_ok]
  · rw [rm_132, km_132_0, p1, bv_ok, q1, bv_ok, r1, bv_ok, s1, bv_ok]
  · rw [List.length_append, List.length_append]; simp; omega
  · exact (lf_put (lf_rf cAd σ) 3 6 0 rfl).tr (a3.tr (b3.tr c3))
  · exact (lf_put (lf_rf mAd τ) 0 20 0 rfl).tr (p3.tr (q3.tr (r3.tr s3)))
/-- words alone -/
theorem cm_wrong {σ τ : lj_S} (h : sM σ τ) (line : Int32) {e : Nat} (he : e < 16) : ∃ σ' τ', lj_br (lj_R lc_P 133 [.ref 8, .int line, .ref (eW e)] σ) (fun y s => (bif Nat.blt y 2000 then lj_up y s else none)) lj_up = some (.inr 2, σ') ∧ lj_R lm_P 142 [.ref 0, .int (Int32.ofNat e), .int line] τ = some (.inl none, τ') ∧ raR σ τ σ' τ' := by
  obtain ⟨σ1, σ2, τ1, D, a1, a2, a3, a4, a5, a6, a7, a8⟩ := cm_begin h line he
  obtain ⟨σ3, τ3, b1, b2, b3⟩ := cm_thrown (h.dr a7 a8) a5 a6 (by omega)
  refine ⟨σ3, τ3, ?_, ?_, b3.pre a7 a8⟩
  · rw [rc_133, kc_133_0, a1, bv_ok, a2, bv_ok]
    exact b1.br.th
  · rw [rm_142, km_142_0, a3, bv_ok, b2, bv_ok]
/-- words and the type of a value -/
theorem cm_wrongOf {σ τ : lj_S} (h : sM σ τ) (line : Int32) {e : Nat} (he : e < 16) {a b : vT} (hab : vR σ τ a b) : ∃ σ' τ', lj_br (lj_R lc_P 156 [.ref 8, .int line, .ref (eW e), .int a.1] σ) (fun y s => (bif Nat.blt y 2000 then lj_up y s else none)) lj_up = some (.inr 2, σ') ∧ lj_R lm_P 131 [.ref 0, .int (Int32.ofNat e), .int line, .int b.1] τ = some (.inl none, τ') ∧ raR σ τ σ' τ' := by
  obtain ⟨σ1, σ2, τ1, D, a1, a2, a3, a4, a5, a6, a7, a8⟩ := cm_begin h line he
  have h2 := h.dr a7 a8
  obtain ⟨k, k7, hk, y, τ2, m1, m2, m3, m4⟩ := m_type h2 (hab.up (sG_dr a7 a8) (oG_dr a7 a8)) a6 (by omega)
  obtain ⟨σ3, c1, c2, c3⟩ := c_type σ2 a5 (by omega) k k7
  have lk7 : (cW (1014 + k)).length ≤ 20 := by rw [← ty_eq k k7]; exact mB_len _ (by omega)
  obtain ⟨σ4, τ4, b1, b2, b3⟩ := cm_thrown (h2.dr c3 m4) c2 m3 (by rw [List.length_append]; omega)
  refine ⟨σ4, τ4, ?_, ?_, b3.pre (a7.tr c3) (a8.tr m4)⟩
  · rw [hk, rc_156, kc_156_0, a1, bv_ok, a2, bv_ok, c1, bv_ok]
    exact b1.br.th
  · rw [rm_131, km_131_0, a3, bv_ok, m1, bi_ok, m2, bv_ok, b2, bv_ok]
/-- an argument that is not what is wanted -/
theorem cm_bad {σ τ : lj_S} (h : sM σ τ) (n : Int32) {w : Nat} (hw : w < 32) : ∃ σ' τ', lj_br (lj_R lc_P 169 [.ref 8, .int (τ.1 0 132), .int n, .int (Int32.ofNat w)] σ) (fun y s => (bif Nat.blt y 2000 then lj_up y s else none)) lj_up = some (.inr 2, σ') ∧ lj_R lm_P 199 [.ref 0, .int n, .int (Int32.ofNat w)] τ = some (.inl none, τ') ∧ raR σ τ σ' τ' := by
  obtain ⟨σ1, σ2, τ1, D, a1, a2, a3, a4, a5, a6, a7, a8⟩ := cm_begin h (τ.1 0 132) (e := 14) (by decide)
  have h2 := h.dr a7 a8
  have l0 := lnum_len n.toInt64
  obtain ⟨σ3, c1, c2, c3⟩ := c_addNumber σ2 n.toInt64 a5 (by omega)
  obtain ⟨σ4, d1, d2, d3⟩ := c_w σ3 (r := 1025) (by decide) (by decide) c2 (by rw [List.length_append]; omega)
  have e25 : cW 1025 = [32, 111, 102, 32] := by decide +kernel
  rw [e25] at d2
  obtain ⟨σ5, e1, e2, e3⟩ := c_nameOf σ4 hw d2 (by rw [List.length_append, List.length_append]; simp; omega)
  obtain ⟨τ2, p1, p2, p3⟩ := m_digits τ1 n.toInt64 a6 (by omega)
  obtain ⟨τ3, q1, q2, q3⟩ := m_dg τ2 32 (by decide) p2 (by rw [List.length_append]; omega)
  obtain ⟨τ4, r1, r2, r3⟩ := m_dg τ3 111 (by decide) q2 (by rw [List.length_append, List.length_append]; simp; omega)
  obtain ⟨τ5, s1, s2, s3⟩ := m_dg τ4 102 (by decide) r2 (by rw [List.length_append, List.length_append, List.length_append]; simp; omega)
  obtain ⟨τ6, t1, t2, t3⟩ := m_dg τ5 32 (by decide) s2 (by rw [List.length_append, List.length_append, List.length_append, List.length_append]; simp; omega)
  have ee : D ++ lnum n.toInt64 ++ [32] ++ [111] ++ [102] ++ [32] = D ++ lnum n.toInt64 ++ [32, 111, 102, 32] := by simp
  rw [ee] at t2
  have hq := p3.tr (q3.tr (r3.tr (s3.tr t3)))
  obtain ⟨τ7, v1, v2, v3⟩ := m_nameOf (h2.dr (lf_rf cAd σ2) hq) hw t2 (by rw [List.length_append, List.length_append]; simp; omega)
  rw [← (nm_eq w hw).1] at v2
  have hc := c3.tr (d3.tr e3)
  have ln := (nm_eq w hw).2
  obtain ⟨σ8, τ8, b1, b2, b3⟩ := cm_thrown (h2.dr hc (hq.tr v3)) e2 v2 (by rw [List.length_append, List.length_append, List.length_append]; simp; omega)
  refine ⟨σ8, τ8, ?_, ?_, b3.pre (a7.tr hc) (a8.tr (hq.tr v3))⟩
  · rw [rc_169, kc_169_0, a1, bv_ok]
    rw [show (1024 : Nat) = eW 14 from rfl, a2, bv_ok, c1, bv_ok, d1, bv_ok, e1, bv_ok]
    exact b1.br.th
  · rw [rm_199, km_199_0]
    rw [show (14 : Int32) = Int32.ofNat 14 from rfl, a3, bv_ok, p1, bv_ok, q1, bv_ok, r1, bv_ok, s1, bv_ok, t1, bv_ok, v1, bv_ok, b2, bv_ok]
