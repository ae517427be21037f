/-! expressions: operands of one token -/
theorem ex_leaf {b : Nat → Int32} {n T : Nat} {Q : tkQ} {X : List Int32 → Prop} {F : Nat} {N : List lT} {FO : List fT} {Z : List zT} {PL : List qT} {cl ml p v c m wh : Nat} {W : List wT} {σ τ : lj_S} (h : PS b n T Q X F N FO Z PL cl ml p v c m wh W σ τ) (hpT : p < T) {f : Nat} {s l : List Nat} {σ' τ' : lj_S} {wh' : Nat} (fC : lf aC σ σ') (fM : lf aM τ τ') (hh : hnd (p + 1) v (c + 1) (m + 1) wh' W σ' τ') (hw : wh' ≤ p + 1) (tx : TX N σ τ σ' τ') (z : fz 0 c 0 m σ τ σ' τ') (h64 : τ'.1 0 64 = -1) (hins : ∀ σ2 τ2, TX N σ' τ' σ2 τ2 → (∀ k, 22 ≤ k → k ≤ 26 → σ2.1 k c = σ'.1 k c) → (∀ k, 20 ≤ k → k ≤ 23 → τ2.1 k m = τ'.1 k m) → ∃ kk, insK σ2 τ2 f c m s l 50 [(f, c + 1, m + 1, 0 :: s, l, 50)] kk) (hB : sB s := by assumption) :
    exR b n T Q X FO Z PL cl ml v W f s l N F p c m σ τ (some (.inl (some (.int 0)), σ')) (mNx 1 τ') := by
  have hb := h.2.2.1
  have hb1 := hb.2.2.1
  have hb2 := hb.2.2.2.1
  have hml : ml ≤ m := h.2.2.2.2.2
  refine Or.inr ⟨0, σ', τ', p + 1, c + 1, m + 1, wh', F, N, rfl, ?_, h.up fC fM hh ⟨by omega, hb.2.1, by omega, by omega, hw, hb.2.2.2.2.2⟩ (by omega) (by omega) (fun i hi => z.2 21 i (by omega) (by omega) (by omega) (by omega)), ⟨tx, lvX_rf _, Nat.le_refl _, by omega, by omega, by omega, z⟩, by omega, by omega, by omega, Or.inl ⟨rfl, fun σ2 τ2 t2 z2 => ?_⟩, fun _ => h64⟩
  · unfold mNx
    rw [if_neg (by decide), if_pos hh.2.2.2.2.2.2.2.2.2]
  · obtain ⟨kk, hkk⟩ := hins σ2 τ2 t2 (fun k a b => z2.1 k c a b (by omega) (by omega)) (fun k a b => z2.2 k m a b (by omega) (by omega))
    refine seg_in _ ⟨kk, hkk⟩ (fun y hy => ?_)
    rw [List.mem_singleton.1 hy]; exact seg_ex rfl
/-- a constant of the model -/
theorem m_constant {b : Nat → Int32} {n T : Nat} {Q : tkQ} {σ τ : lj_S} (h : TE b n T Q σ τ) {p : Nat} (hp : p ≤ T) (h0 : τ.1 0 25 = Int32.ofNat p) (hk : (Q p).1 ≠ 4) {m : Nat} (h41 : τ.1 0 41 = Int32.ofNat m) (hm : m < 14000) (o a : Int32) : lj_R lm_P 61 [.ref 0, .int o, .int a] τ = some (.inl (some (.int 1)), lj_put (lj_put (mP τ m o a 0 0) 0 64 (-1)) 0 25 (Int32.ofNat (p + 1))) := by
  have f : lf aM τ (lj_put (mP τ m o a 0 0) 0 64 (-1)) := lf_put (mP_lf _ _ _ _ _ _) _ _ _ rfl
  rw [rm_61, km_61_0, m_emit h41 hm, bi_ok, m_take (TE_up h (lf_rf _ _) f) hp (by rw [lj_put_1, if_neg (by omega), mP_o _ _ _ _ _ _ _ _ (by omega) (by omega)]; exact h0) hk, bi_ok]
  rfl
/-- an act and a token more, in both -/
theorem ex_leaf2 {b : Nat → Int32} {n T : Nat} {Q : tkQ} {X : List Int32 → Prop} {F : Nat} {N : List lT} {FO : List fT} {Z : List zT} {PL : List qT} {cl ml p v c m wh : Nat} {W : List wT} {σ τ : lj_S} (h : PS b n T Q X F N FO Z PL cl ml p v c m wh W σ τ) (hpT : p < T) (hT5 : T ≤ 520) {f : Nat} {s l : List Nat} (o a o' a' : Int32) (hins : ∀ σ2 τ2, sG σ τ σ2 τ2 → σ2.1 22 c = o → σ2.1 23 c = a → τ2.1 20 m = o' → τ2.1 21 m = a' → ∃ kk, insK σ2 τ2 f c m s l 50 [(f, c + 1, m + 1, 0 :: s, l, 50)] kk) (hB : sB s := by assumption) :
    lj_R lm_P 61 [.ref 0, .int o', .int a'] (lj_put τ 0 64 (-1)) = some (.inl (some (.int 1)), lj_put (lj_put (mP (lj_put τ 0 64 (-1)) m o' a' 0 0) 0 64 (-1)) 0 25 (Int32.ofNat (p + 1))) ∧
    exR b n T Q X FO Z PL cl ml v W f s l N F p c m σ τ (lj_bi (lj_R lc_P 54 [.ref 5, .int o, .int a, .int 0] σ) (fun y σ3 => lj_bv (lj_R lc_P 67 [.ref 6] σ3) (fun σ5 => some (.inl (some (.int 0)), σ5)) lj_up) lj_up) (mNx 1 (lj_put (lj_put (mP (lj_put τ 0 64 (-1)) m o' a' 0 0) 0 64 (-1)) 0 25 (Int32.ofNat (p + 1)))) := by
  have hTE := h.1.1
  have hb := h.2.2.1
  have hb1 := hb.2.2.1
  have hb2 := hb.2.2.2.1
  have h1 := h.2.1
  have hk : (Q p).1 ≠ 4 := (hTE.2.2.2.2.2.1 p hpT).2
  have f0 : lf aM τ (lj_put τ 0 64 (-1)) := lf_put (lf_rf _ _) _ _ _ rfl
  have hch := hnd_ch h1 0 64 (-1) (by omega)
  have hc14 : c < 14000 := by omega
  have hm14 : m < 14000 := by omega
  refine ⟨m_constant (TE_up hTE (lf_rf _ _) f0) (by omega) hch.2.1 hk hch.2.2.2.2.2.1 hm14 o' a', ?_⟩
  have fC1 := cP_lf σ c o a 0 0 0
  have g1 := cP_get σ c o a 0 0 0
  have gm := mP_get (lj_put τ 0 64 (-1)) m o' a' 0 0
  have hcp := hnd_p (hnd_ch (hnd_M (hnd_C hch o a 0 0 0) o' a' 0 0) 0 64 (-1) (by omega)) (p + 1)
  rw [c_put3 h1.2.2.2.2.1 hc14, bi_ok, c_step (TE_up hTE fC1 (lf_rf _ _)) (by omega) (hnd_C h1 o a 0 0 0).1, bv_ok]
  have fC : lf aC σ (lj_put (cP σ c o a 0 0 0) 6 0 (Int32.ofNat (p + 1))) := lf_put fC1 _ _ _ rfl
  have fM : lf aM τ (lj_put (lj_put (mP (lj_put τ 0 64 (-1)) m o' a' 0 0) 0 64 (-1)) 0 25 (Int32.ofNat (p + 1))) := lf_put (lf_put (f0.tr (mP_lf _ _ _ _ _ _)) _ _ _ rfl) _ _ _ rfl
  have oC : ∀ k i, k ≠ 6 → (lj_put (cP σ c o a 0 0 0) 6 0 (Int32.ofNat (p + 1))).1 k i = (cP σ c o a 0 0 0).1 k i := fun k i q => by rw [lj_put_1, if_neg (by omega)]
  have oM : ∀ k i, k ≠ 0 → (lj_put (lj_put (mP (lj_put τ 0 64 (-1)) m o' a' 0 0) 0 64 (-1)) 0 25 (Int32.ofNat (p + 1))).1 k i = (mP (lj_put τ 0 64 (-1)) m o' a' 0 0).1 k i := fun k i q => by rw [lj_put_1, if_neg (by omega), lj_put_1, if_neg (by omega)]
  have tx : TX N σ τ (lj_put (cP σ c o a 0 0 0) 6 0 (Int32.ofNat (p + 1))) (lj_put (lj_put (mP (lj_put τ 0 64 (-1)) m o' a' 0 0) 0 64 (-1)) 0 25 (Int32.ofNat (p + 1))) := by
    refine TX_up N fC fM ?_ ?_ (fun i _ => ⟨rfl, rfl⟩)
    · unfold lv; rw [oC 5 0 (by omega), g1.2.2.2.2.2, h1.2.2.2.2.1, lz_lit (by omega), lz_lit (by omega)]; omega
    · unfold lv; rw [oC 5 6 (by omega), cP_o _ _ _ _ _ _ _ _ _ (by omega) (by omega)]; exact Int.le_refl _
  refine ex_leaf h hpT fC fM hcp (by have := hb.2.2.2.2.1; omega) tx ⟨fun k i q1 q2 _ q4 => ?_, fun k i q1 q2 _ q4 => ?_⟩ ?_ (fun σ2 τ2 t2 c2 m2 => ?_)
  · rw [oC k i (by omega), cP_o _ _ _ _ _ _ _ _ _ (by omega) (by omega)]
  · rw [oM k i (by omega), mP_o _ _ _ _ _ _ _ _ (by omega) (by omega), lj_put_1, if_neg (by omega)]
  · rw [lj_put_1, if_neg (by omega), lj_put_1, if_pos ⟨rfl, rfl⟩]
  · exact hins σ2 τ2 (tx.1.tr t2.1) (by rw [c2 22 (by omega) (by omega), oC 22 c (by omega)]; exact g1.1) (by rw [c2 23 (by omega) (by omega), oC 23 c (by omega)]; exact g1.2.1) (by rw [m2 20 (by omega) (by omega), oM 20 m (by omega)]; exact gm.1) (by rw [m2 21 (by omega) (by omega), oM 21 m (by omega)]; exact gm.2.1)
/-- a whole number -/
theorem ex_whole {b : Nat → Int32} {n T : Nat} {Q : tkQ} {X : List Int32 → Prop} {F : Nat} {N : List lT} {FO : List fT} {Z : List zT} {PL : List qT} {cl ml p v c m wh : Nat} {W : List wT} {σ τ : lj_S} (h : PS b n T Q X F N FO Z PL cl ml p v c m wh W σ τ) (hpT : p < T) (hT5 : T ≤ 520) {f : Nat} {s l : List Nat} (hK : (Q p).1 = 2) (hB : sB s := by assumption) :
    ∃ τ', lj_R lm_P 61 [.ref 0, .int 4, .int (Int32.ofNat wh)] (lj_put (lj_putL (lj_put τ 0 64 (-1)) 24 wh (τ.2 11 p)) 0 40 (Int32.ofNat (wh + 1))) = some (.inl (some (.int 1)), τ') ∧
    exR b n T Q X FO Z PL cl ml v W f s l N F p c m σ τ (lj_bi (lj_R lc_P 54 [.ref 5, .int 4, .int (Int32.ofNat wh), .int 0] (lj_put (lj_putL σ 27 wh (σ.2 21 p)) 5 6 (Int32.ofNat (wh + 1)))) (fun y σ3 => lj_bv (lj_R lc_P 67 [.ref 6] σ3) (fun σ5 => some (.inl (some (.int 0)), σ5)) lj_up) lj_up) (mNx 1 τ') := by
  have hTE := h.1.1
  have hb := h.2.2.1
  have hb1 := hb.2.2.1
  have hb2 := hb.2.2.2.1
  have hb3 := hb.2.2.2.2.1
  have h1 := h.2.1
  have hk : (Q p).1 ≠ 4 := by omega
  have hc14 : c < 14000 := by omega
  have hm14 : m < 14000 := by omega
  have hv2 := (hTE.2.2.2.2.1 p (by omega)).2.2.2.2.2.2.2.2.2 hK
  obtain ⟨e1, e2, e3, e4, e5, e6, e7, e8, e9, e10⟩ := h1
  generalize hσw : lj_put (lj_putL σ 27 wh (σ.2 21 p)) 5 6 (Int32.ofNat (wh + 1)) = σw
  generalize hτw : lj_put (lj_putL (lj_put τ 0 64 (-1)) 24 wh (τ.2 11 p)) 0 40 (Int32.ofNat (wh + 1)) = τw
  have ow : ∀ k i, ¬ (k = 5 ∧ i = 6) → σw.1 k i = σ.1 k i := fun k i q => by rw [← hσw, lj_put_1, if_neg q]; rfl
  have om : ∀ k i, ¬ (k = 0 ∧ (i = 64 ∨ i = 40)) → τw.1 k i = τ.1 k i := fun k i q => by
    rw [← hτw, lj_put_1, if_neg (by omega)]
    show (lj_put τ 0 64 (-1)).1 k i = _
    rw [lj_put_1, if_neg (by omega)]
  have hw : hnd p v c m (wh + 1) W σw τw := by
    refine ⟨by rw [ow _ _ (by omega)]; exact e1, by rw [om _ _ (by omega)]; exact e2, by rw [ow _ _ (by omega)]; exact e3, by rw [om _ _ (by omega)]; exact e4, by rw [ow _ _ (by omega)]; exact e5, by rw [om _ _ (by omega)]; exact e6, by rw [← hσw, lj_put_1, if_pos ⟨rfl, rfl⟩], by rw [← hτw, lj_put_1, if_pos ⟨rfl, rfl⟩], mWt_cg e9 (om _ _ (by omega)) (fun k j q => om _ _ (by omega)), by rw [om _ _ (by omega)]; exact e10⟩
  have fw : lf aC σ σw := by rw [← hσw]; exact lf_put (lf_putL (lf_rf _ _) _ _ _ rfl) _ _ _ rfl
  have fm : lf aM τ τw := by rw [← hτw]; exact lf_put (lf_putL (lf_put (lf_rf _ _) _ _ _ rfl) _ _ _ rfl) _ _ _ rfl
  have hTEw := TE_up hTE fw fm
  have cst := m_constant hTEw (by omega) hw.2.1 hk hw.2.2.2.2.2.1 hm14 4 (Int32.ofNat wh)
  refine ⟨_, cst, ?_⟩
  have fC1 := cP_lf σw c 4 (Int32.ofNat wh) 0 0 0
  have g1 := cP_get σw c 4 (Int32.ofNat wh) 0 0 0
  have gm := mP_get τw m 4 (Int32.ofNat wh) 0 0
  have hcp := hnd_p (hnd_ch (hnd_M (hnd_C hw 4 (Int32.ofNat wh) 0 0 0) 4 (Int32.ofNat wh) 0 0) 0 64 (-1) (by omega)) (p + 1)
  rw [c_put3 hw.2.2.2.2.1 hc14, bi_ok, c_step (TE_up hTEw fC1 (lf_rf _ _)) (by omega) (hnd_C hw 4 (Int32.ofNat wh) 0 0 0).1, bv_ok]
  have fC : lf aC σ (lj_put (cP σw c 4 (Int32.ofNat wh) 0 0 0) 6 0 (Int32.ofNat (p + 1))) := lf_put (fw.tr fC1) _ _ _ rfl
  have fM : lf aM τ (lj_put (lj_put (mP τw m 4 (Int32.ofNat wh) 0 0) 0 64 (-1)) 0 25 (Int32.ofNat (p + 1))) := lf_put (lf_put (fm.tr (mP_lf _ _ _ _ _ _)) _ _ _ rfl) _ _ _ rfl
  have oC : ∀ k i, k ≠ 6 → (lj_put (cP σw c 4 (Int32.ofNat wh) 0 0 0) 6 0 (Int32.ofNat (p + 1))).1 k i = (cP σw c 4 (Int32.ofNat wh) 0 0 0).1 k i := fun k i q => by rw [lj_put_1, if_neg (by omega)]
  have oM : ∀ k i, k ≠ 0 → (lj_put (lj_put (mP τw m 4 (Int32.ofNat wh) 0 0) 0 64 (-1)) 0 25 (Int32.ofNat (p + 1))).1 k i = (mP τw m 4 (Int32.ofNat wh) 0 0).1 k i := fun k i q => by rw [lj_put_1, if_neg (by omega), lj_put_1, if_neg (by omega)]
  have l2C : ∀ i, (lj_put (cP σw c 4 (Int32.ofNat wh) 0 0 0) 6 0 (Int32.ofNat (p + 1))).2 27 i = if i = wh then σ.2 21 p else σ.2 27 i := fun i => by
    show σw.2 27 i = _
    rw [← hσw]
    show (lj_putL σ 27 wh (σ.2 21 p)).2 27 i = _
    rw [lj_putL_2]
    by_cases q : i = wh
    · rw [if_pos ⟨rfl, q⟩, if_pos q]
    · rw [if_neg (fun z => q z.2), if_neg q]
  have l2M : ∀ i, (lj_put (lj_put (mP τw m 4 (Int32.ofNat wh) 0 0) 0 64 (-1)) 0 25 (Int32.ofNat (p + 1))).2 24 i = if i = wh then τ.2 11 p else τ.2 24 i := fun i => by
    show τw.2 24 i = _
    rw [← hτw]
    show (lj_putL (lj_put τ 0 64 (-1)) 24 wh (τ.2 11 p)).2 24 i = _
    rw [lj_putL_2]
    by_cases q : i = wh
    · rw [if_pos ⟨rfl, q⟩, if_pos q]
    · rw [if_neg (fun z => q z.2), if_neg q]; rfl
  have w6 : lv σ 5 6 = (wh : Int) := by unfold lv; rw [e7, lz_lit (by omega)]
  have w6' : lv (lj_put (cP σw c 4 (Int32.ofNat wh) 0 0 0) 6 0 (Int32.ofNat (p + 1))) 5 6 = ((wh + 1 : Nat) : Int) := by unfold lv; rw [oC 5 6 (by omega), cP_o _ _ _ _ _ _ _ _ _ (by omega) (by omega), hw.2.2.2.2.2.2.1, lz_lit (by omega)]
  have tx : TX N σ τ (lj_put (cP σw c 4 (Int32.ofNat wh) 0 0 0) 6 0 (Int32.ofNat (p + 1))) (lj_put (lj_put (mP τw m 4 (Int32.ofNat wh) 0 0) 0 64 (-1)) 0 25 (Int32.ofNat (p + 1))) := by
    refine TX_up N fC fM ?_ (by omega) (fun i hi => ⟨by rw [l2C, if_neg (by omega)], by rw [l2M, if_neg (by omega)]⟩)
    unfold lv; rw [oC 5 0 (by omega), g1.2.2.2.2.2, e5, lz_lit (by omega), lz_lit (by omega)]; omega
  refine ex_leaf h hpT fC fM hcp (by omega) tx ⟨fun k i q1 q2 _ q4 => ?_, fun k i q1 q2 _ q4 => ?_⟩ ?_ (fun σ2 τ2 t2 c2 m2 => ?_)
  · rw [oC k i (by omega), cP_o _ _ _ _ _ _ _ _ _ (by omega) (by omega), ow _ _ (by omega)]
  · rw [oM k i (by omega), mP_o _ _ _ _ _ _ _ _ (by omega) (by omega), om _ _ (by omega)]
  · rw [lj_put_1, if_neg (by omega), lj_put_1, if_pos ⟨rfl, rfl⟩]
  · have t := t2.2.2.2.2.2.1 wh (by omega)
    refine ⟨3, wh, by omega, by rw [c2 22 (by omega) (by omega), oC 22 c (by omega)]; exact g1.1, by rw [c2 23 (by omega) (by omega), oC 23 c (by omega)]; exact g1.2.1, by rw [m2 20 (by omega) (by omega), oM 20 m (by omega)]; exact gm.1, by rw [m2 21 (by omega) (by omega), oM 21 m (by omega)]; exact gm.2.1, ?_, rfl⟩
    rw [t.1, t.2, l2C, l2M, if_pos rfl, if_pos rfl]; exact hv2
