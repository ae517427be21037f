/-! what waits behind a block -/
theorem bW_no {b : Nat → Int32} {n T : Nat} {Q : tkQ} {B : Nat} {x : wT} {W : List wT} {m0 : Nat} {τ0 : lj_S} (hW : W.length < 4000) (hB : B ≤ 13800) (h : ∀ (σ τ : lj_S) (p m kn : Nat), TE b n T Q σ τ → p ≤ T → τ.1 0 25 = Int32.ofNat p → τ.1 0 41 = Int32.ofNat m → m0 ≤ m → m ≤ B → τ.1 0 4 = 0 → τ.1 0 50 = Int32.ofNat kn → (∀ j, j < m0 → τ.1 21 j = τ0.1 21 j) → ¬ blE (Q p).1 → ∃ (τ' : lj_S) (m' : Nat), lj_R lm_P 30 [.ref 0, .int x.1, .int x.2.1, .int x.2.2.1, .int x.2.2.2] τ = some (.inl (some (.int 0)), mFl τ' (fq (Q p).1 2) (Q p).2.1) ∧ τ'.1 0 41 = Int32.ofNat m' ∧ m' ≤ 13900) : bW b n T Q B (x :: W) m0 τ0 := by
  intro σ τ p m kn σ1 hTE hp h25 h41 hm0 hmB h4 hw h50 hkn h21 hn
  have o : ∀ k j, ¬ (k = 0 ∧ j = 46) → (lj_put τ 0 46 (Int32.ofNat W.length)).1 k j = τ.1 k j := fun k j q => by rw [lj_put_1, if_neg q]
  obtain ⟨τ', m', r1, r2, r3⟩ := h σ (lj_put τ 0 46 (Int32.ofNat W.length)) p m kn (TE_up hTE (lf_rf _ _) (lf_put (lf_rf _ _) _ _ _ rfl)) hp (by rw [o _ _ (by omega)]; exact h25) (by rw [o _ _ (by omega)]; exact h41) hm0 hmB (by rw [o _ _ (by omega)]; exact h4) (by rw [o _ _ (by omega)]; exact h50) (fun j hj => by rw [o _ _ (by omega)]; exact h21 j hj) hn
  rw [m_no hw hW r1 (Or.inl rfl)]
  exact flt_mk r2 (by omega) (fq_ok _ (Or.inl rfl)) (hTE.2.2.2.2.1 p hp).2.2.2.2.1
/-- a scope that ends -/
theorem bW_sc {b : Nat → Int32} {n T : Nat} {Q : tkQ} {B : Nat} {W : List wT} {m0 : Nat} {τ0 : lj_S} (hW : W.length < 4000) (hB : B ≤ 13800) (h : bW b n T Q (B + 1) W m0 τ0) (a : Nat) (ha : a ≤ 1500) : bW b n T Q B ((2, Int32.ofNat a, 0, 0) :: W) m0 τ0 := by
  intro σ τ p m kn σ1 hTE hp h25 h41 hm0 hmB h4 hw h50 hkn h21 hn
  have it := m_iter hw hW
  have o : ∀ k j, ¬ (k = 0 ∧ j = 46) → (lj_put τ 0 46 (Int32.ofNat W.length)).1 k j = τ.1 k j := fun k j q => by rw [lj_put_1, if_neg q]
  have hTEa := TE_up hTE (lf_rf _ σ) (lf_put (lf_rf aM τ) 0 46 (Int32.ofNat W.length) rfl)
  generalize hτa : lj_put τ 0 46 (Int32.ofNat W.length) = τa at *
  have e1 : lj_R lm_P 30 [.ref 0, .int 2, .int (Int32.ofNat a), .int 0, .int 0] τa = lj_bv (lj_R lm_P 58 [.ref 0, .int (Int32.ofNat a)] τa) (fun σ1 => some (.inl (some (.int 1)), σ1)) lj_up := by
    rw [rm_30, km_30_0, if_neg (by decide), if_neg (by decide), if_pos rfl]
  have e50 : τa.1 0 50 = Int32.ofNat kn := by rw [o _ _ (by omega)]; exact h50
  have e41 : τa.1 0 41 = Int32.ofNat m := by rw [o _ _ (by omega)]; exact h41
  by_cases hle : kn ≤ a
  · have e2 : lj_R lm_P 58 [.ref 0, .int (Int32.ofNat a)] τa = some (.inl none, τa) := by
      rw [rm_58, km_58_0, e50, if_pos (by rw [lz_le, lz_lit (by omega), lz_lit (by omega)]; omega), km_58_28]
    rw [e2, bv_ok] at e1
    rw [m_go hw hW (by rw [hτa]; exact e1) (by decide) (by rw [o _ _ (by omega)]; exact h4)]
    exact h σ τa p m kn σ1 hTEa hp (by rw [o _ _ (by omega)]; exact h25) e41 hm0 (by omega) (by rw [o _ _ (by omega)]; exact h4) it.2 e50 hkn (fun j hj => by rw [o _ _ (by omega)]; exact h21 j hj) hn
  · have e2 : lj_R lm_P 58 [.ref 0, .int (Int32.ofNat a)] τa = some (.inl none, lj_put (mP τa m 20 (τa.1 30 a) 0 0) 0 50 (Int32.ofNat a)) := by
      rw [rm_58, km_58_0, e50, if_neg (by rw [lz_le, lz_lit (by omega), lz_lit (by omega)]; omega), if_pos (ofN_in (by omega) (by omega)), lz_onat (by omega), m_emit e41 (by omega), bi_ok, km_58_28]
    have o2 : ∀ k j, ¬ (20 ≤ k ∧ k ≤ 23 ∧ j = m) → ¬ (k = 0 ∧ (j = 41 ∨ j = 50)) → (lj_put (mP τa m 20 (τa.1 30 a) 0 0) 0 50 (Int32.ofNat a)).1 k j = τa.1 k j := fun k j q1 q2 => by
      rw [lj_put_1, if_neg (by omega), mP_o _ _ _ _ _ _ _ _ (by omega) (by omega)]
    have g2 := mP_get τa m 20 (τa.1 30 a) 0 0
    rw [e2, bv_ok] at e1
    rw [m_go hw hW (by rw [hτa]; exact e1) (by decide) (by rw [o2 _ _ (by omega) (by omega), o _ _ (by omega)]; exact h4)]
    refine h σ _ p (m + 1) a σ1 (TE_pp hTEa (lf_rf _ _) (lf_put (lf_put (lf_put (lf_put (lf_put (lf_put (lf_rf _ _) _ _ _ rfl) _ _ _ rfl) _ _ _ rfl) _ _ _ rfl) _ _ _ rfl) _ _ _ rfl)) hp (by rw [o2 _ _ (by omega) (by omega), o _ _ (by omega)]; exact h25) (by rw [lj_put_1, if_neg (by omega)]; exact g2.2.2.2.2) (by omega) (by omega) (by rw [o2 _ _ (by omega) (by omega), o _ _ (by omega)]; exact h4) (mWt_cg it.2 (o2 _ _ (by omega) (by omega)) (fun k j q => o2 _ _ (by omega) (by omega))) (by rw [lj_put_1, if_pos ⟨rfl, rfl⟩]) ha (fun j hj => by rw [o2 _ _ (by omega) (by omega), o _ _ (by omega)]; exact h21 j hj) hn
/-- states that begin with a word that must stand there -/
theorem bW_w {b : Nat → Int32} {n T : Nat} {Q : tkQ} {B : Nat} {x : wT} {W : List wT} {m0 : Nat} {τ0 : lj_S} (hW : W.length < 4000) (hB : B ≤ 13800) (w : Nat) (hw : w = 5 ∨ w = 19) (h : ∀ τ τ' : lj_S, lj_R lm_P 49 [.ref 0, .int (Int32.ofNat (w + 1))] τ = some (.inl (some (.int 0)), τ') → lj_R lm_P 30 [.ref 0, .int x.1, .int x.2.1, .int x.2.2.1, .int x.2.2.2] τ = some (.inl (some (.int 0)), τ')) : bW b n T Q B (x :: W) m0 τ0 :=
  bW_no hW hB (fun σ τ p m kn hTE hp h25 h41 hm0 hmB h4 h50 h21 hn => by
    have hne : ¬ (Q p).1 = 10 + w := fun q => hn (by rcases hw with e | e <;> (rw [e] at q; rw [q]; decide))
    have nw := m_needWord hTE hp h25 h4 w (by omega) (Int32.ofNat (w + 1)) (by rcases hw with e | e <;> rw [e] <;> rfl)
    rw [if_neg hne] at nw
    exact ⟨τ, m, h τ _ nw, h41, (by omega)⟩)
theorem bW_do {b : Nat → Int32} {n T : Nat} {Q : tkQ} {B : Nat} {W : List wT} {m0 : Nat} {τ0 : lj_S} (hW : W.length < 4000) (hB : B ≤ 13800) : bW b n T Q B ((30, 0, 0, 0) :: W) m0 τ0 :=
  bW_w hW hB 5 (Or.inl rfl) (fun τ τ' e => by
    show lj_R lm_P 30 [.ref 0, .int 30, .int 0, .int 0, .int 0] τ = some (.inl (some (.int 0)), τ')
    rw [rm_30, km_30_0, if_neg (by decide), if_neg (by decide), if_neg (by decide), if_neg (by decide), if_neg (by decide), if_neg (by decide), if_neg (by decide), if_neg (by decide), if_neg (by decide), if_neg (by decide), if_neg (by decide), if_neg (by decide), if_neg (by decide), if_neg (by decide), if_neg (by decide), if_neg (by decide), if_neg (by decide), if_neg (by decide), if_neg (by decide), if_neg (by decide), if_neg (by decide), rm_86, km_86_0, if_neg (by decide), if_neg (by decide), if_neg (by decide), if_neg (by decide), if_neg (by decide), if_neg (by decide), if_neg (by decide), if_neg (by decide), if_neg (by decide), if_pos rfl, show lj_R lm_P 49 [.ref 0, .int 6] τ = _ from e, bi_ok, bi_ok]
    rfl)
theorem bW_while {b : Nat → Int32} {n T : Nat} {Q : tkQ} {B : Nat} {W : List wT} {m0 : Nat} {τ0 : lj_S} (hW : W.length < 4000) (hB : B ≤ 13800) (a d : Int32) : bW b n T Q B ((27, a, d, 0) :: W) m0 τ0 :=
  bW_w hW hB 5 (Or.inl rfl) (fun τ τ' e => by
    show lj_R lm_P 30 [.ref 0, .int 27, .int a, .int d, .int 0] τ = some (.inl (some (.int 0)), τ')
    rw [rm_30, km_30_0, if_neg (by decide), if_neg (by decide), if_neg (by decide), if_neg (by decide), if_neg (by decide), if_neg (by decide), if_neg (by decide), if_neg (by decide), if_neg (by decide), if_neg (by decide), if_neg (by decide), if_neg (by decide), if_neg (by decide), if_neg (by decide), if_neg (by decide), if_neg (by decide), if_neg (by decide), if_neg (by decide), if_neg (by decide), if_neg (by decide), if_neg (by decide), rm_86, km_86_0, if_neg (by decide), if_neg (by decide), if_neg (by decide), if_neg (by decide), if_neg (by decide), if_neg (by decide), if_pos rfl, rm_93, km_93_0, show lj_R lm_P 49 [.ref 0, .int 6] τ = _ from e, bi_ok, if_pos rfl, bi_ok, bi_ok]
    rfl)
theorem bW_until {b : Nat → Int32} {n T : Nat} {Q : tkQ} {B : Nat} {W : List wT} {m0 : Nat} {τ0 : lj_S} (hW : W.length < 4000) (hB : B ≤ 13800) (a d g : Int32) : bW b n T Q B ((28, a, d, g) :: W) m0 τ0 :=
  bW_w hW hB 19 (Or.inr rfl) (fun τ τ' e => by
    show lj_R lm_P 30 [.ref 0, .int 28, .int a, .int d, .int g] τ = some (.inl (some (.int 0)), τ')
    rw [rm_30, km_30_0, if_neg (by decide), if_neg (by decide), if_neg (by decide), if_neg (by decide), if_neg (by decide), if_neg (by decide), if_neg (by decide), if_neg (by decide), if_neg (by decide), if_neg (by decide), if_neg (by decide), if_neg (by decide), if_neg (by decide), if_neg (by decide), if_neg (by decide), if_neg (by decide), if_neg (by decide), if_neg (by decide), if_neg (by decide), if_neg (by decide), if_neg (by decide), rm_86, km_86_0, if_neg (by decide), if_neg (by decide), if_neg (by decide), if_neg (by decide), if_neg (by decide), if_neg (by decide), if_neg (by decide), if_pos rfl, rm_95, km_95_0, show lj_R lm_P 49 [.ref 0, .int 20] τ = _ from e, bi_ok, if_pos rfl, bi_ok, bi_ok]
    rfl)
theorem bW_for {b : Nat → Int32} {n T : Nat} {Q : tkQ} {B : Nat} {W : List wT} {m0 : Nat} {τ0 : lj_S} (hW : W.length < 4000) (hB : B ≤ 13800) (a d g : Int32) : bW b n T Q B ((34, a, d, g) :: W) m0 τ0 :=
  bW_w hW hB 5 (Or.inl rfl) (fun τ τ' e => by
    show lj_R lm_P 30 [.ref 0, .int 34, .int a, .int d, .int g] τ = some (.inl (some (.int 0)), τ')
    rw [rm_30, km_30_0, if_neg (by decide), if_neg (by decide), if_neg (by decide), if_neg (by decide), if_neg (by decide), if_neg (by decide), if_neg (by decide), if_neg (by decide), if_neg (by decide), if_neg (by decide), if_neg (by decide), if_neg (by decide), if_neg (by decide), if_neg (by decide), if_neg (by decide), if_neg (by decide), if_neg (by decide), if_neg (by decide), if_neg (by decide), if_neg (by decide), if_neg (by decide), rm_86, km_86_0, if_neg (by decide), if_neg (by decide), if_neg (by decide), if_neg (by decide), if_neg (by decide), if_neg (by decide), if_neg (by decide), if_neg (by decide), if_neg (by decide), if_neg (by decide), if_neg (by decide), if_neg (by decide), if_neg (by decide), if_pos rfl, rm_100, km_100_0, show lj_R lm_P 49 [.ref 0, .int 6] τ = _ from e, bi_ok, if_pos rfl, bi_ok, bi_ok]
    rfl)
theorem bW_in {b : Nat → Int32} {n T : Nat} {Q : tkQ} {B : Nat} {W : List wT} {m0 : Nat} {τ0 : lj_S} (hW : W.length < 4000) (hB : B ≤ 13800) (a d g : Int32) : bW b n T Q B ((36, a, d, g) :: W) m0 τ0 :=
  bW_w hW hB 5 (Or.inl rfl) (fun τ τ' e => by
    show lj_R lm_P 30 [.ref 0, .int 36, .int a, .int d, .int g] τ = some (.inl (some (.int 0)), τ')
    rw [rm_30, km_30_0, if_neg (by decide), if_neg (by decide), if_neg (by decide), if_neg (by decide), if_neg (by decide), if_neg (by decide), if_neg (by decide), if_neg (by decide), if_neg (by decide), if_neg (by decide), if_neg (by decide), if_neg (by decide), if_neg (by decide), if_neg (by decide), if_neg (by decide), if_neg (by decide), if_neg (by decide), if_neg (by decide), if_neg (by decide), if_neg (by decide), if_neg (by decide), rm_86, km_86_0, if_neg (by decide), if_neg (by decide), if_neg (by decide), if_neg (by decide), if_neg (by decide), if_neg (by decide), if_neg (by decide), if_neg (by decide), if_neg (by decide), if_neg (by decide), if_neg (by decide), if_neg (by decide), if_neg (by decide), if_neg (by decide), if_neg (by decide), if_pos rfl, rm_102, km_102_0, show lj_R lm_P 49 [.ref 0, .int 6] τ = _ from e, bi_ok, if_pos rfl, bi_ok, bi_ok]
    rfl)
theorem bW_body {b : Nat → Int32} {n T : Nat} {Q : tkQ} {B : Nat} {W : List wT} {m0 : Nat} {τ0 : lj_S} (hW : W.length < 4000) (hB : B ≤ 13800) (a d : Int32) : bW b n T Q B ((20, a, d, 0) :: W) m0 τ0 :=
  bW_w hW hB 5 (Or.inl rfl) (fun τ τ' e => by
    show lj_R lm_P 30 [.ref 0, .int 20, .int a, .int d, .int 0] τ = some (.inl (some (.int 0)), τ')
    rw [rm_30, km_30_0, if_neg (by decide), if_neg (by decide), if_neg (by decide), if_neg (by decide), if_neg (by decide), if_neg (by decide), if_neg (by decide), if_neg (by decide), if_neg (by decide), if_neg (by decide), if_neg (by decide), if_neg (by decide), if_neg (by decide), if_neg (by decide), if_neg (by decide), if_neg (by decide), if_neg (by decide), if_neg (by decide), if_neg (by decide), if_neg (by decide), if_pos rfl, rm_85, km_85_0, show lj_R lm_P 49 [.ref 0, .int 6] τ = _ from e, bi_ok, if_pos rfl, bi_ok]
    rfl)
