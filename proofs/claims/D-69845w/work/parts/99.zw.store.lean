/-! a function is stored under its name -/
noncomputable def fsC (what x2 x3 x4 : Int32) (σ : lj_S) : Option lj_O := lj_bv (lj_R lc_P 107 [.ref 6, .int what, .int 0] σ) (fun σ2 => (if what = 6 then lj_bi (lj_R lc_P 54 [.ref 5, .int 14, .int 2, .int 0] σ2) (fun y4 σ3 => lj_D lc_P lc_M106 176 [.ref 6, .int what, .int x2, .int x3, .int x4] [] σ3) lj_up else lj_D lc_P lc_M106 176 [.ref 6, .int what, .int x2, .int x3, .int x4] [] σ2)) lj_up
theorem fn_store {b : Nat → Int32} {n T : Nat} {Q : tkQ} {X : List Int32 → Prop} (hT5 : T ≤ 520) {FO : List fT} {Z : List zT} {PL : List qT} {cl ml v : Nat} {W W3 : List wT} {f : Nat} {s l : List Nat} {ha ho : Nat} (hFO : hdF ha ho FO s) (hsB : sB s) {c0 m0 F3 F p3 p c3 c m3 m wh3 wh : Nat} {N3 N : List lT} {σ3 τ3 σ τ : lj_S} {what : Int32} (P3 : PS b n T Q X F3 N3 FO Z PL cl ml p3 v c3 m3 wh3 W3 σ3 τ3) (hN3 : hdN N3 f l) (hS : chS f (2 :: s) l N3 c0 m0 c3 m3 what σ3 τ3) (hw : what = 3 ∨ what = 4 ∨ what = 5 ∨ what = 6) (h : PS b n T Q X F N FO Z PL cl ml p v c m wh W σ τ) (hN : hdN N f l) (g : GR N3 N F3 F p3 p c3 c m3 m σ3 τ3 σ τ) (hc : c + 3 ≤ 25 * p + 100) (hm : m + 3 ≤ 25 * p + 100) (x2 x3 x4 : Int32) :
    ∃ σ' τ' c', fsC what x2 x3 x4 (lj_put (lj_put σ 6 16 (σ3.1 6 16)) 6 17 (σ3.1 6 17)) = some (.inl none, σ') ∧ lj_R lm_P 104 [.ref 0, .int (τ3.1 0 61), .int (τ3.1 0 62), .int (τ3.1 0 63)] τ = some (.inl (some (.int 1)), τ') ∧ PS b n T Q X F N FO Z PL cl ml p v c' (m + 2) wh W σ' τ' ∧ GR N N F F p p c c' m (m + 2) σ τ σ' τ' ∧ c' ≤ c + 2 ∧ ∀ σ2 τ2, LT N c c' m (m + 2) σ' τ' σ2 τ2 → seg σ2 τ2 (f, c, m, (if what = 6 then 0 :: 0 :: 0 :: 2 :: s else 0 :: 2 :: s), l, 50) (fun y => y = (f, c', m + 2, s, l, 50)) := by
  have c14 := h.c14 hT5
  have hpT := h.2.2.1.1
  obtain ⟨h1, h2, h3, h4, h5, h6, h7, h8, h9, h10⟩ := h.2.1
  have oC : ∀ k i, ¬ (k = 6 ∧ (i = 16 ∨ i = 17)) → (lj_put (lj_put σ 6 16 (σ3.1 6 16)) 6 17 (σ3.1 6 17)).1 k i = σ.1 k i := fun k i q => by rw [lj_put_1, if_neg (by omega), lj_put_1, if_neg (by omega)]
  have g16 : (lj_put (lj_put σ 6 16 (σ3.1 6 16)) 6 17 (σ3.1 6 17)).1 6 16 = σ3.1 6 16 := by rw [lj_put_1, if_neg (by omega), lj_put_1, if_pos ⟨rfl, rfl⟩]
  have g17 : (lj_put (lj_put σ 6 16 (σ3.1 6 16)) 6 17 (σ3.1 6 17)).1 6 17 = σ3.1 6 17 := by rw [lj_put_1, if_pos ⟨rfl, rfl⟩]
  have fC : lf aC σ (lj_put (lj_put σ 6 16 (σ3.1 6 16)) 6 17 (σ3.1 6 17)) := lf_put (lf_put (lf_rf _ _) _ _ _ rfl) _ _ _ rfl
  have X0 : PS b n T Q X F N FO Z PL cl ml p v c m wh W (lj_put (lj_put σ 6 16 (σ3.1 6 16)) 6 17 (σ3.1 6 17)) τ := h.up fC (lf_rf _ _) ⟨by rw [oC _ _ (by omega)]; exact h1, h2, by rw [oC _ _ (by omega)]; exact h3, h4, by rw [oC _ _ (by omega)]; exact h5, h6, by rw [oC _ _ (by omega)]; exact h7, h8, h9, h10⟩ h.2.2.1 (Nat.le_refl _) (Nat.le_refl _) (fun _ _ => rfl)
  have G0 : GR N N F F p p c c m m σ τ (lj_put (lj_put σ 6 16 (σ3.1 6 16)) 6 17 (σ3.1 6 17)) τ := ⟨TX_up N fC (lf_rf _ _) (by unfold lv; rw [oC _ _ (by omega)]; exact Int.le_refl _) (by unfold lv; rw [oC _ _ (by omega)]; exact Int.le_refl _) (fun _ _ => ⟨rfl, rfl⟩), lvX_rf _, (Nat.le_refl _), (Nat.le_refl _), (Nat.le_refl _), (Nat.le_refl _), fz_eq (fun k j _ _ => oC _ _ (by omega)) (fun _ _ _ _ => rfl)⟩
  generalize hσx : lj_put (lj_put σ 6 16 (σ3.1 6 16)) 6 17 (σ3.1 6 17) = σx at *
  -- one act of each for a name
  have one : ∀ (o xa xl ya : Int32), what ≠ 6 → fsC what x2 x3 x4 σx = some (.inl none, cP σx c o xa 0 0 xl) → lj_R lm_P 104 [.ref 0, .int (τ3.1 0 61), .int (τ3.1 0 62), .int (τ3.1 0 63)] τ = some (.inl (some (.int 1)), mP (mP τ m o ya 0 0) (m + 1) 47 0 0 0) → (∀ σ2 τ2, TX N3 σ3 τ3 σ2 τ2 → σ2.1 22 c = o → σ2.1 23 c = xa → τ2.1 20 m = o → τ2.1 21 m = ya → ∃ kk, insK σ2 τ2 f c m (0 :: 2 :: s) l 50 [(f, c + 1, m + 1, 2 :: s, l, 50)] kk) →
      ∃ σ' τ' c', fsC what x2 x3 x4 σx = some (.inl none, σ') ∧ lj_R lm_P 104 [.ref 0, .int (τ3.1 0 61), .int (τ3.1 0 62), .int (τ3.1 0 63)] τ = some (.inl (some (.int 1)), τ') ∧ PS b n T Q X F N FO Z PL cl ml p v c' (m + 2) wh W σ' τ' ∧ GR N N F F p p c c' m (m + 2) σ τ σ' τ' ∧ c' ≤ c + 2 ∧ ∀ σ2 τ2, LT N c c' m (m + 2) σ' τ' σ2 τ2 → seg σ2 τ2 (f, c, m, (if what = 6 then 0 :: 0 :: 0 :: 2 :: s else 0 :: 2 :: s), l, 50) (fun y => y = (f, c', m + 2, s, l, 50)) := fun o xa xl ya n6 e1 e2 e3 => by
    have Y1 := X0.C (by omega) hT5 o xa 0 0 xl
    have Y2 := Y1.1.M (by omega) o ya 0 0
    have Y3 := Y2.1.M (by omega) 47 0 0 0
    refine ⟨_, _, c + 1, e1, e2, Y3.1, G0.tr (Y1.2.tr (Y2.2.tr Y3.2)), (by omega), fun σ2 τ2 L => ?_⟩
    have k3 := L.gM (by omega)
    have L2 := Y3.2.bk L
    have k2 := L2.gM (by omega)
    have L1 := Y2.2.bk L2
    have k1 := L1.gC (by omega)
    have L0 := G0.bk (Y1.2.bk L1)
    rw [if_neg n6]
    obtain ⟨kk, e⟩ := e3 σ2 τ2 (g.1.tr L0.1 (fun q _ hq => by rw [lvX_q g.2.1]; exact hq)) k1.1 k1.2.1 k2.1 k2.2.1
    refine seg_in [(f, c + 1, m + 1, 2 :: s, l, 50)] ⟨kk, e⟩ (fun y hy => ?_)
    rw [List.mem_singleton.1 hy]
    exact seg_in [(f, c + 1, m + 2, s, l, 50)] ⟨15, s, rfl, k3.1, rfl⟩ (fun y hy => by rw [List.mem_singleton.1 hy]; exact seg_ex rfl)
  have p5 := X0.2.1.2.2.2.2.1
  rcases hS with ⟨q, _⟩ | ⟨q, _⟩ | ⟨srt', v1, v1', a, a', q, q1, q2, q3, q4, q5, q6, q7, q8, q9, q10, q11⟩ | ⟨q, q1, q2, q3⟩
  · rw [q] at hw; exact absurd hw (by decide)
  · rw [q] at hw; exact absurd hw (by decide)
  · rcases q3 with ⟨r1, r2, r3, z', R', r4, r5⟩ | ⟨r1, r2, r3, z', R', r4, r5⟩ | ⟨r1, r2, r3, r4⟩
    · subst r1
      refine one 9 (Int32.ofNat v1) 0 (Int32.ofNat v1') (by decide) ?_ ?_ (fun σ2 τ2 _ e1 e2 e3 e4 => ⟨8, v1, 2 :: s, ?_, rfl, e1, e2, e3, by rw [r3]; exact e4, rfl⟩)
      · unfold fsC
        rw [rc_107, kc_107_0, if_pos rfl, g16, q6, c_put3 p5 (by omega), bi_ok, kc_107_112, bv_ok, if_neg (by decide), kc_106_176]
      · rw [rm_104, km_104_0, q2, r2, if_neg (by decide), q7, show (9 : Int32) + 0 = 9 from rfl, m_emit h6 (by omega), bi_ok, km_104_35, m_emit (mP_get _ _ _ _ _ _).2.2.2.2 (by omega), bi_ok]
      · obtain ⟨zz, R, eN, ez, el⟩ := hN3
        rw [eN] at r4
        obtain ⟨e, e2, e3, e4⟩ := knF_mem _ _ _ r5
        rw [← el, (List.cons.inj r4).1]
        exact List.mem_map.2 ⟨e, e2, e4⟩
    · subst r1
      refine one 10 (Int32.ofNat v1) 0 (Int32.ofNat v1') (by decide) ?_ ?_ (fun σ2 τ2 tt e1 e2 e3 e4 => ⟨10, v1, 2 :: s, ?_, rfl, e1, e2, e3, by rw [r3]; exact e4, rfl⟩)
      · unfold fsC
        rw [rc_107, kc_107_0, if_neg (by decide), if_pos rfl, g16, q6, c_put3 p5 (by omega), bi_ok, kc_107_112, bv_ok, if_neg (by decide), kc_106_176]
      · rw [rm_104, km_104_0, q2, r2, if_neg (by decide), q7, show (9 : Int32) + 1 = 10 from rfl, m_emit h6 (by omega), bi_ok, km_104_35, m_emit (mP_get _ _ _ _ _ _).2.2.2.2 (by omega), bi_ok]
      · obtain ⟨zz, R, eN, ez, el⟩ := hN3
        have hnr := P3.1.2.2.1.1
        rw [eN] at hnr r4
        have hcp := hnr.1.2.2.2.2.2
        have e1 := (List.cons.inj r4).1
        have hzF : zz.1 < F3 := P3.1.2.2.2.2.1 zz (by rw [eN]; exact List.mem_cons_self)
        have hF8 : lv σ3 5 8 = (F3 : Int) := by unfold lv; rw [P3.1.2.2.2.1.1, lz_lit (by have := P3.1.2.2.2.1.2.2.1; omega)]
        have mono := (tt.2.2.2.2.2.2.1 zz.1 (by omega)).2.2.2.2
        have e33 : lv σ3 33 zz.1 = (zz.2.2.length : Int) := by unfold lv; rw [hcp.1, lz_lit (by have := hcp.2.1; omega)]
        rw [← ez]
        rw [e1] at e33 mono ⊢
        omega
    · subst r1
      refine one 11 (Int32.ofNat v1) (σ3.1 6 17) (Int32.ofNat v1') (by decide) ?_ ?_ (fun σ2 τ2 tt e1 e2 e3 e4 => ⟨11, 2 :: s, rfl, e1, e3, ⟨v1, v1', q4, q5, e2, e4, (q9 rfl).up tt.1⟩, rfl⟩)
      · unfold fsC
        rw [rc_107, kc_107_0, if_neg (by decide), if_neg (by decide), if_pos rfl, g16, g17, q6, c_put3 p5 (by omega), bi_ok, kc_107_112, bv_ok, if_neg (by decide), kc_106_176]
      · rw [rm_104, km_104_0, q2, r2, if_neg (by decide), q7, show (9 : Int32) + 2 = 11 from rfl, m_emit h6 (by omega), bi_ok, km_104_35, m_emit (mP_get _ _ _ _ _ _).2.2.2.2 (by omega), bi_ok]
  · subst q
    have Y1 := X0.C (by omega) hT5 13 0 0 0 (σ3.1 6 17)
    have Y2 := Y1.1.M (by omega) 13 0 0 (τ3.1 0 63)
    have Y3 := Y2.1.C (by omega) hT5 14 2 0 0 0
    have Y4 := Y3.1.M (by omega) 47 0 0 0
    refine ⟨cP (cP σx c 13 0 0 0 (σ3.1 6 17)) (c + 1) 14 2 0 0 0, mP (mP τ m 13 0 0 (τ3.1 0 63)) (m + 1) 47 0 0 0, c + 2, ?_, ?_, Y4.1, G0.tr (Y1.2.tr (Y2.2.tr (Y3.2.tr Y4.2))), (by omega), fun σ2 τ2 L => ?_⟩
    · unfold fsC
      rw [rc_107, kc_107_0, if_neg (by decide), if_neg (by decide), if_neg (by decide), g17, c_put3 p5 (by omega), bi_ok, kc_107_112, bv_ok, if_pos rfl, c_put3 (cP_get _ _ _ _ _ _ _).2.2.2.2.2 (by omega), bi_ok, kc_106_176]
    · rw [rm_104, km_104_0, q1, if_pos rfl, m_emit h6 (by omega), bi_ok, km_104_35, m_emit (mP_get _ _ _ _ _ _).2.2.2.2 (by omega), bi_ok]
    · have k4 := L.gM (by omega)
      have L3 := Y4.2.bk L
      have k3 := L3.gC (by omega)
      have L2 := Y3.2.bk L3
      have k2 := L2.gM (by omega)
      have L1 := Y2.2.bk L2
      have k1 := L1.gC (by omega)
      obtain ⟨zz, R, eN, ez, el⟩ := hN
      obtain ⟨fl, FO', eF, ef⟩ := hFO.1
      have hS4 := X0.1.2.2.2.2.2
      have hscl : scl σ2 f c s l 50 := by
        rw [← ez, ← el]
        rw [eN, eF] at hS4
        exact scl_mk hS4.2 hS4.1 (cP_lf σx c 13 0 0 0 (σ3.1 6 17)) (by unfold lv; rw [(cP_get _ _ _ _ _ _ _).2.2.2.2.2, lz_lit (by omega)]) L1.1 (by omega) ef
      rw [if_pos rfl]
      refine seg_in [(f, c + 1, m + 1, 6 :: 6 :: 2 :: s, l, 50)] ⟨13, [], [], s, rfl, (fun x hx => by cases hx), (fun x hx => by cases hx), k1.1, k1.2.1, k2.1, k2.2.1, ?_, hscl, rfl⟩ (fun y hy => ?_) (skq [0, 0, 0] (by decide) (by have := hsB.1; show va s + 3 ≤ 430; omega) hsB)
      · show σ2.1 26 c = τ2.1 23 m
        rw [k1.2.2.2.2, k2.2.2.2]; exact q2
      · rw [List.mem_singleton.1 hy]
        exact seg_in [(f, c + 2, m + 2, s, l, 50)] ⟨14, [6, 6], s, rfl, by decide, k3.1, k3.2.1, k4.1, rfl⟩ (fun y hy => by rw [List.mem_singleton.1 hy]; exact seg_ex rfl)
