/-! what is given to a call -/
/-- what a call that was given comes to: its place in both codes -/
def gvR (b : Nat → Int32) (n T : Nat) (Q : tkQ) (X : List Int32 → Prop) (FO : List fT) (Z : List zT) (PL : List qT) (cl ml : Nat) (v : Nat) (W : List wT) (f : Nat) (s l : List Nat) (N : List lT) (F p c m : Nat) (σ τ : lj_S) (oC oM : Option lj_O) : Prop :=
  fltR n oC oM ∨ ∃ σ' τ' p' c1 m1 wh' F' N' r, oC = some (.inl none, σ') ∧ oM = mLoop τ' ∧ PS b n T Q X F' N' FO Z PL cl ml p' v (c1 + 1) (m1 + 1) wh' ((8, 0, 0, 0) :: W) σ' τ' ∧ GR N N' F F' p p' c (c1 + 1) m (m1 + 1) σ τ σ' τ' ∧ p < p' ∧ c ≤ c1 ∧ m ≤ m1 ∧ c1 + 17 ≤ c + 25 * (p' - p) ∧ m1 + 17 ≤ m + 25 * (p' - p) ∧ τ'.1 0 61 = 4 ∧ τ'.1 0 62 = Int32.ofNat m1 ∧ σ'.1 22 c1 = 16 ∧ τ'.1 20 m1 = 16 ∧ τ'.1 21 m1 = 1 ∧ σ'.1 26 c1 = τ'.1 23 m1 ∧ (rowS r ∧ r.length ≤ 15) ∧ ∀ σ2 τ2, TX N' σ' τ' σ2 τ2 → fz c c1 m m1 σ' τ' σ2 τ2 → seg σ2 τ2 (f, c, m, s, l, 50) (fun y => y = (f, c1, m1, r ++ s, l, 50)) ∧ scl σ2 f c1 s l 50
def CG (b : Nat → Int32) (n T : Nat) (Q : tkQ) (X : List Int32 → Prop) (k : Nat) : Prop :=
  ∀ (F : Nat) (N : List lT) (FO : List fT) (Z : List zT) (PL : List qT) (cl ml : Nat) (p v c m wh : Nat) (W : List wT) (σ τ : lj_S) (f : Nat) (s l : List Nat), T - p < k → PS b n T Q X F N FO Z PL cl ml p v c m wh W σ τ → hdN N f l → hdF (16 * v + 64) (v + 4) FO s → W.length + 25 ≤ 40 * v + 60 → bgG (Q p).1 →
    ∃ y τ1, lj_R lm_P 72 [.ref 0] τ = some (.inl (some (.int y)), τ1) ∧ (y = 0 ∨ y = 1) ∧ gvR b n T Q X FO Z PL cl ml v W f s l N F p c m σ τ (lj_R lc_P 94 [.ref 6] σ) (mNx y τ1)
/-- the call itself -/
theorem gv_call {b : Nat → Int32} {n T : Nat} {Q : tkQ} {X : List Int32 → Prop} {FO : List fT} {Z : List zT} {PL : List qT} {cl ml v : Nat} {W : List wT} {f : Nat} {s l : List Nat} {N : List lT} {F p c m : Nat} {σ τ : lj_S} {ha ho : Nat} (hFO : hdF ha ho FO s) (hT5 : T ≤ 520) (hbv : v ≤ 20) (hWl : W.length + 10 ≤ 40 * v + 60) {σ1 τ1 : lj_S} {p1 c1 m1 wh1 F1 : Nat} {N1 : List lT} {r : List Nat} (Ln : Int32) (hN1 : hdN N1 f l) (h1 : PS b n T Q X F1 N1 FO Z PL cl ml p1 v c1 m1 wh1 ((13, Ln, 0, 0) :: (8, 0, 0, 0) :: W) σ1 τ1) (hG : GR N N1 F F1 p p1 c c1 m m1 σ τ σ1 τ1) (hp : p < p1) (hc : c1 + 17 ≤ c + 25 * (p1 - p)) (hm : m1 + 17 ≤ m + 25 * (p1 - p)) (hb0 : c ≤ 25 * p + 100) (hb0m : m ≤ 25 * p + 100) (hr : rowS r ∧ r.length ≤ 15) (hsg : ∀ σ2 τ2, TX N1 σ1 τ1 σ2 τ2 → fz c c1 m m1 σ1 τ1 σ2 τ2 → seg σ2 τ2 (f, c, m, s, l, 50) (fun y => y = (f, c1, m1, r ++ s, l, 50))) :
    gvR b n T Q X FO Z PL cl ml v W f s l N F p c m σ τ (lj_D lc_P lc_M94 77 [.ref 6, .int Ln] [] σ1) (mLoop τ1) := by
  have hb1 := h1.2.2.1
  have hb11 := hb1.1
  have hh := h1.2.1
  have c14 : c1 < 14000 := by omega
  have m14 : m1 < 14000 := by omega
  have w46 := hh.2.2.2.2.2.2.2.2.1
  have hpop := hnd_pop hh
  have hml : ml ≤ m1 := h1.2.2.2.2.2
  have fa : lf aM τ1 (lj_put τ1 0 46 (Int32.ofNat ((8, 0, 0, 0) :: W : List wT).length)) := lf_put (lf_rf _ _) _ _ _ rfl
  have oa : ∀ k i, ¬ (k = 0 ∧ i = 46) → (lj_put τ1 0 46 (Int32.ofNat ((8, 0, 0, 0) :: W : List wT).length)).1 k i = τ1.1 k i := fun k i q => by rw [lj_put_1, if_neg q]
  have a2 : (lj_put τ1 0 46 (Int32.ofNat ((8, 0, 0, 0) :: W : List wT).length)).2 = τ1.2 := rfl
  have goC : ∀ τ', lj_R lm_P 77 [.ref 0, .int Ln] (lj_put τ1 0 46 (Int32.ofNat ((8, 0, 0, 0) :: W : List wT).length)) = some (.inl (some (.int 1)), τ') → τ'.1 0 4 = 0 → mLoop τ1 = mLoop τ' := fun τ' e e4 => by
    refine m_go w46 (by simp; omega) (y := 1) ?_ (by decide) e4
    show lj_R lm_P 30 [.ref 0, .int 13, .int Ln, .int 0, .int 0] _ = _
    rw [rm_30, km_30_0, if_neg (by decide), if_neg (by decide), if_neg (by decide), if_neg (by decide), if_neg (by decide), if_neg (by decide), if_neg (by decide), if_neg (by decide), if_neg (by decide), if_neg (by decide), if_neg (by decide), if_neg (by decide), if_neg (by decide), if_pos rfl, e]
    rfl
  generalize hτa : lj_put τ1 0 46 (Int32.ofNat ((8, 0, 0, 0) :: W : List wT).length) = τa at *
  have hn := hnd_ch (hnd_ch (hnd_M (hnd_C hpop 16 0 0 0 Ln) 16 1 0 Ln) 0 62 (Int32.ofNat m1) (by omega)) 0 61 4 (by omega)
  have eM := goC (lj_put (lj_put (mP τa m1 16 1 0 Ln) 0 62 (Int32.ofNat m1)) 0 61 4) (by
    rw [rm_77, km_77_0, m_emit hpop.2.2.2.2.2.1 m14, bi_ok]) hn.2.2.2.2.2.2.2.2.2
  have fC := cP_lf σ1 c1 16 0 0 0 Ln
  have fM : lf aM τ1 (lj_put (lj_put (mP τa m1 16 1 0 Ln) 0 62 (Int32.ofNat m1)) 0 61 4) := lf_put (lf_put (fa.tr (mP_lf _ _ _ _ _ _)) _ _ _ rfl) _ _ _ rfl
  have g := cP_get σ1 c1 16 0 0 0 Ln
  have gm := mP_get τa m1 16 1 0 Ln
  have oM : ∀ k i, 20 ≤ k → (lj_put (lj_put (mP τa m1 16 1 0 Ln) 0 62 (Int32.ofNat m1)) 0 61 4).1 k i = (mP τa m1 16 1 0 Ln).1 k i := fun k i q => by rw [lj_put_1, if_neg (by omega), lj_put_1, if_neg (by omega)]
  have tx : TX N1 σ1 τ1 (cP σ1 c1 16 0 0 0 Ln) (lj_put (lj_put (mP τa m1 16 1 0 Ln) 0 62 (Int32.ofNat m1)) 0 61 4) := (cP_TX N1 σ1 τ1 c1 hh.2.2.2.2.1 c14 _ _ _ _ _).tr (putM_TX N1 _ τ1 _ fM (fun i => by show τa.2 24 i = _; rw [a2])) (fun _ _ q => q)
  have zz : fz 0 c1 0 m1 σ1 τ1 (cP σ1 c1 16 0 0 0 Ln) (lj_put (lj_put (mP τa m1 16 1 0 Ln) 0 62 (Int32.ofNat m1)) 0 61 4) := ⟨fun k i q1 q2 _ q4 => cP_o _ _ _ _ _ _ _ _ _ (by omega) (by omega), fun k i q1 q2 _ q4 => by rw [oM k i q1, mP_o _ _ _ _ _ _ _ _ (by omega) (by omega), oa k i (by omega)]⟩
  rw [kc_94_77, c_put3 hh.2.2.2.2.1 c14, bi_ok, eM]
  refine Or.inr ⟨cP σ1 c1 16 0 0 0 Ln, _, p1, c1, m1, wh1, F1, N1, r, rfl, rfl, h1.up fC fM hn ⟨hb11, hbv, by omega, by omega, hb1.2.2.2.2.1, by simp; omega⟩ (by omega) (by omega) (fun i hi => zz.2 21 i (by omega) (by omega) (by omega) (by omega)), hG.tr ⟨tx, lvX_rf _, Nat.le_refl _, Nat.le_refl _, by omega, by omega, zz⟩, hp, hG.2.2.2.2.1, hG.2.2.2.2.2.1, hc, hm, ?_, ?_, g.1, ?_, ?_, ?_, hr, fun σ2 τ2 t2 z2 => ⟨?_, ?_⟩⟩
  · rw [lj_put_1, if_pos ⟨rfl, rfl⟩]
  · rw [lj_put_1, if_neg (by omega), lj_put_1, if_pos ⟨rfl, rfl⟩]
  · rw [oM 20 m1 (by omega)]; exact gm.1
  · rw [oM 21 m1 (by omega)]; exact gm.2.1
  · rw [oM 23 m1 (by omega), gm.2.2.2.1, g.2.2.2.2.1]
  · exact hsg σ2 τ2 (tx.tr t2 (fun _ _ q => q)) ((zz.mo (by omega) (by omega) (by omega) (by omega)).tr z2)
  · obtain ⟨z, R, eN, ez, el⟩ := hN1
    obtain ⟨fl, FO', eF, ef⟩ := hFO.1
    have hS4 := h1.1.2.2.2.2.2
    rw [← ez, ← el]
    rw [eN, eF] at hS4
    exact scl_mk hS4.2 hS4.1 fC (by unfold lv; rw [g.2.2.2.2.2, lz_lit (by omega)]) ((putM_TX N1 _ τ1 _ fM (fun i => by show τa.2 24 i = _; rw [a2])).tr t2 (fun _ _ q => q)) c14 ef
theorem mW_o (τ : lj_S) (w : Nat) (x : wT) (k j : Nat) (h : ¬ (25 ≤ k ∧ k ≤ 28)) (h0 : ¬ (k = 0 ∧ j = 46)) : (mW τ w x).1 k j = τ.1 k j := by
  unfold mW
  rw [lj_put_1, if_neg (by omega), lj_put_1, if_neg (by omega), lj_put_1, if_neg (by omega), lj_put_1, if_neg (by omega), lj_put_1, if_neg (by omega)]
theorem cg_of {b : Nat → Int32} {n T : Nat} {Q : tkQ} {X : List Int32 → Prop} (hT5 : T ≤ 520) (k : Nat) (ihT : CT b n T Q X k) (ihR : CR b n T Q X k) : CG b n T Q X k := by
  intro F N FO Z PL cl ml p v c m wh W σ τ f s l hTp hPS hN hFO hWl hbG
  have hTE := hPS.1.1
  have hb := hPS.2.2.1
  have hpT := hb.1
  have hbv := hb.2.1
  have hB : sB s := hFO.sb (by omega) (by omega)
  have hbc := hb.2.2.1
  have hbm := hb.2.2.2.1
  have hbw := hb.2.2.2.2.1
  have h1 := hPS.2.1
  have hk := tk_lt hTE hpT
  have hK4 : (Q p).1 ≠ 0 ∧ (Q p).1 ≠ 4 := by
    constructor <;> (intro e; rw [e] at hbG; exact absurd hbG (by decide))
  have hpT' : p < T := by
    rcases Nat.lt_or_ge p T with q | q
    · exact q
    · have e : p = T := by omega
      have := hTE.2.2.2.2.2.2.1
      rw [← e] at this
      omega
  have c14 : c < 14000 := by omega
  have m14 : m < 14000 := by omega
  have hml : ml ≤ m := hPS.2.2.2.2.2
  have hn520 := hTE.2.1
  have hTn := hTE.2.2.1
  have hln := c_line hTE hpT h1.1
  have hkd := c_kind hTE hpT h1.1
  have hmln := m_lineHere hTE hpT h1.2.1
  generalize hLn : Int32.ofNat (1 + tN b (Q p).2.1) = Ln at *
  -- what waits
  obtain ⟨l1, l2⟩ := m_later h1.2.2.2.2.2.2.2.2.1 (by omega) 8 0 0 0
  have u1 := hnd_W h1 (8, 0, 0, 0)
  have f1 := mW_lf τ W.length (8, 0, 0, 0)
  have o1 := mW_o τ W.length (8, 0, 0, 0)
  have d1 : (mW τ W.length (8, 0, 0, 0)).2 = τ.2 := rfl
  generalize hτ8 : mW τ W.length (8, 0, 0, 0) = τ8 at *
  obtain ⟨l3, l4⟩ := m_later l2 (by simp; omega) 13 Ln 0 0
  have u2 := hnd_W u1 (13, Ln, 0, 0)
  have f2 := mW_lf τ8 ((8, 0, 0, 0) :: W : List wT).length (13, Ln, 0, 0)
  have o2 := mW_o τ8 ((8, 0, 0, 0) :: W : List wT).length (13, Ln, 0, 0)
  have d2 : (mW τ8 ((8, 0, 0, 0) :: W : List wT).length (13, Ln, 0, 0)).2 = τ8.2 := rfl
  generalize hτ9 : mW τ8 ((8, 0, 0, 0) :: W : List wT).length (13, Ln, 0, 0) = τ9 at *
  have f9 : lf aM τ τ9 := f1.tr f2
  have o9 : ∀ k j, ¬ (25 ≤ k ∧ k ≤ 28) → ¬ (k = 0 ∧ j = 46) → τ9.1 k j = τ.1 k j := fun k j a b => by rw [o2 k j a b, o1 k j a b]
  have d9 : τ9.2 = τ.2 := d2.trans d1
  have hPS9 : PS b n T Q X F N FO Z PL cl ml p v c m wh ((13, Ln, 0, 0) :: (8, 0, 0, 0) :: W) σ τ9 := hPS.up (lf_rf _ _) f9 u2 ⟨hpT, hbv, hbc, hbm, hbw, by simp; omega⟩ (Nat.le_refl _) (Nat.le_refl _) (fun i hi => o9 21 i (by omega) (by omega))
  have hTE9 := hPS9.1.1
  have tx9 : TX N σ τ σ τ9 := putM_TX N σ τ _ f9 (fun i => by rw [d9])
  have G9 : GR N N F F p p c c m m σ τ σ τ9 := ⟨tx9, lvX_rf _, Nat.le_refl _, Nat.le_refl _, Nat.le_refl _, Nat.le_refl _, ⟨fun _ _ _ _ _ _ => rfl, fun k i q1 q2 _ _ => o9 k i (by omega) (by omega)⟩⟩
  obtain ⟨hin, hkk, hvv⟩ := m_kindv hTE9 hpT u2.2.1
  have s62 := m_isSign hTE9 hpT u2.2.1 22 (by omega) 123 rfl
  have t3 : ∀ k : Fin 70, ((tkk k.val = 3) ↔ k.val = 3) := by decide
  have t3' := t3 ⟨(Q p).1, hk⟩
  have eM : lj_R lm_P 72 [.ref 0] τ = (if (Q p).1 = 62 then lj_bi (lj_R lm_P 62 [.ref 0] τ9) (fun y21 σ20 => some (.inl (some (.int (vp_nar .boolean y21))), σ20)) lj_up else if (Q p).1 = 3 then lj_bi (lj_R lm_P 61 [.ref 0, .int 5, .int ((τ9.2 11 (τ9.1 0 25).toNatClampNeg).toInt32)] τ9) (fun y19 σ18 => some (.inl (some (.int (vp_nar .boolean y19))), σ18)) lj_up else lj_bv (lj_R lm_P 29 [.ref 0, .int 12, .int 0, .int 0, .int 0] τ9) (fun σ7 => lj_bi (lj_R lm_P 36 [.ref 0] σ7) (fun y9 σ8 => (if y9 = 0 then some (.inl (some (.int 0)), σ8) else lj_bi (lj_R lm_P 39 [.ref 0, .int 41] σ8) (fun y11 σ10 => (if y11 = 0 then lj_bi (lj_R lm_P 38 [.ref 0] σ10) (fun y13 σ12 => (if y13 = 0 then lj_bi (lj_R lm_P 47 [.ref 0] σ12) (fun y17 σ16 => some (.inl (some (.int (vp_nar .boolean y17))), σ16)) lj_up else lj_bv (lj_R lm_P 29 [.ref 0, .int 14, .int 0, .int 0, .int 0] σ12) (fun σ14 => lj_bv (lj_R lm_P 29 [.ref 0, .int 3, .int 0, .int 0, .int 0] σ14) (fun σ15 => some (.inl (some (.int 1)), σ15)) lj_up) lj_up)) lj_up else some (.inl (some (.int 1)), σ10))) lj_up)) lj_up) lj_up) := by
    rw [rm_72, km_72_0, hmln, bi_ok, l1, bv_ok, l3, bv_ok, s62, bi_ok]
    by_cases a62 : (Q p).1 = 62
    · rw [if_pos (show (Q p).1 = 40 + 22 by omega), if_neg (by decide), if_pos a62]
    · rw [if_neg (show ¬ (Q p).1 = 40 + 22 by omega), if_pos rfl, if_neg a62, if_pos hin, hkk]
      by_cases a3 : (Q p).1 = 3
      · rw [if_pos (t3'.2 a3), if_pos a3, if_pos hin]
      · rw [if_neg (fun q => a3 (t3'.1 q)), if_neg a3]
  rcases hbG with a60 | a62 | a3
  · -- in brackets
    obtain ⟨l5, l6⟩ := m_later l4 (by simp; omega) 12 0 0 0
    have u3 := hnd_W u2 (12, 0, 0, 0)
    have f3 := mW_lf τ9 ((13, Ln, 0, 0) :: (8, 0, 0, 0) :: W : List wT).length (12, 0, 0, 0)
    have o3 := mW_o τ9 ((13, Ln, 0, 0) :: (8, 0, 0, 0) :: W : List wT).length (12, 0, 0, 0)
    have d3 : (mW τ9 ((13, Ln, 0, 0) :: (8, 0, 0, 0) :: W : List wT).length (12, 0, 0, 0)).2 = τ9.2 := rfl
    generalize hτc : mW τ9 ((13, Ln, 0, 0) :: (8, 0, 0, 0) :: W : List wT).length (12, 0, 0, 0) = τc at *
    have hTEc : TE b n T Q σ τc := TE_up hTE9 (lf_rf _ _) f3
    have htk := m_take hTEc hpT u3.2.1 hK4.2
    have hst := c_step hTE hpT h1.1
    have hp1 := hnd_p u3 (p + 1)
    have fC : lf aC σ (lj_put σ 6 0 (Int32.ofNat (p + 1))) := lf_put (lf_rf _ _) _ _ _ rfl
    have fM : lf aM τ9 (lj_put τc 0 25 (Int32.ofNat (p + 1))) := lf_put f3 _ _ _ rfl
    have oM : ∀ k j, 20 ≤ k → k ≤ 24 → (lj_put τc 0 25 (Int32.ofNat (p + 1))).1 k j = τ9.1 k j := fun k j a b => by rw [lj_put_1, if_neg (by omega), o3 k j (by omega) (by omega)]
    have txe : TX N σ τ9 (lj_put σ 6 0 (Int32.ofNat (p + 1))) (lj_put τc 0 25 (Int32.ofNat (p + 1))) := putC_TX N σ τ9 6 0 _ rfl (by omega) _ fM (by show τc.2 = _; rw [d3])
    have oC : ∀ k i, k ≠ 6 → (lj_put σ 6 0 (Int32.ofNat (p + 1))).1 k i = σ.1 k i := fun k i q => by rw [lj_put_1, if_neg (by omega)]
    generalize hσe : lj_put σ 6 0 (Int32.ofNat (p + 1)) = σe at *
    generalize hτe : lj_put τc 0 25 (Int32.ofNat (p + 1)) = τe at *
    have hPSe : PS b n T Q X F N FO Z PL cl ml (p + 1) v c m wh ((12, 0, 0, 0) :: (13, Ln, 0, 0) :: (8, 0, 0, 0) :: W) σe τe := hPS9.up fC fM hp1 ⟨by omega, hbv, by omega, by omega, by omega, by simp; omega⟩ (Nat.le_refl _) (Nat.le_refl _) (fun i hi => oM 21 i (by omega) (by omega))
    have Ge : GR N N F F p (p + 1) c c m m σ τ σe τe := G9.tr ⟨txe, lvX_rf _, Nat.le_refl _, by omega, Nat.le_refl _, Nat.le_refl _, ⟨fun k i q1 q2 _ _ => oC k i (by omega), fun k i q1 q2 _ _ => oM k i q1 (by omega)⟩⟩
    have hTEe := hPSe.1.1
    have hpe : p + 1 ≤ T := by omega
    have hke := tk_lt hTEe hpe
    have e41 : τe.1 0 41 = Int32.ofNat m := hp1.2.2.2.2.2.1
    have e4 := hp1.2.2.2.2.2.2.2.2.2
    have hple : (Q (p + 1)).2.1 ≤ n := (hTEe.2.2.2.2.1 (p + 1) hpe).2.2.2.2.1
    have ine : ∀ c : Nat, c < 70 → (Q p).1 ≠ c → ¬ (Int32.ofNat (Q p).1 = Int32.ofNat c) := fun c hc q z => q ((ofN_eq (by omega) (by omega)).1 z)
    have eC : lj_R lc_P 94 [.ref 6] σ = (if Int32.ofNat (Q (p + 1)).1 = 61 then lj_D lc_P lc_M94 71 [.ref 6, .int Ln] [] σe else lj_bv (lj_R lc_P 95 [.ref 6, .int Ln] σe) (fun σ10 => lj_D lc_P lc_M94 71 [.ref 6, .int Ln] [] σ10) lj_up) := by
      rw [rc_94, kc_94_0, hln, bi_ok, hkd, bi_ok, if_neg (show ¬ (Int32.ofNat (Q p).1 = 3) from ine 3 (by omega) (by omega)), hkd, bi_ok, if_neg (show ¬ (Int32.ofNat (Q p).1 = 62) from ine 62 (by omega) (by omega)), hst, bv_ok, c_kind hTEe hpe hp1.1, bi_ok]
    have s61 := m_isSign hTEe hpe hp1.2.1 21 (by omega) 41 rfl
    have eM2 : lj_R lm_P 72 [.ref 0] τ = (if (Q (p + 1)).1 = 61 then some (.inl (some (.int 1)), τe) else lj_bi (lj_R lm_P 38 [.ref 0] τe) (fun y13 σ12 => (if y13 = 0 then lj_bi (lj_R lm_P 47 [.ref 0] σ12) (fun y17 σ16 => some (.inl (some (.int (vp_nar .boolean y17))), σ16)) lj_up else lj_bv (lj_R lm_P 29 [.ref 0, .int 14, .int 0, .int 0, .int 0] σ12) (fun σ14 => lj_bv (lj_R lm_P 29 [.ref 0, .int 3, .int 0, .int 0, .int 0] σ14) (fun σ15 => some (.inl (some (.int 1)), σ15)) lj_up) lj_up)) lj_up) := by
      rw [eM, if_neg (by omega), if_neg (by omega), l5, bv_ok, htk, bi_ok, if_neg (by decide), s61, bi_ok]
      by_cases a61 : (Q (p + 1)).1 = 61
      · rw [if_pos (show (Q (p + 1)).1 = 40 + 21 by omega), if_neg (by decide), if_pos a61]
      · rw [if_neg (show ¬ (Q (p + 1)).1 = 40 + 21 by omega), if_pos rfl, if_neg a61]
    -- the bracket that closes
    have fin : ∀ (F5 : Nat) (N5 : List lT) (p5 c5 m5 wh5 : Nat) (σ5 τ5 : lj_S) (r : List Nat), PS b n T Q X F5 N5 FO Z PL cl ml p5 v c5 m5 wh5 ((12, 0, 0, 0) :: (13, Ln, 0, 0) :: (8, 0, 0, 0) :: W) σ5 τ5 → hdN N5 f l → GR N N5 F F5 p p5 c c5 m m5 σ τ σ5 τ5 → p < p5 → c5 ≤ c + 25 * (p5 - p) → m5 ≤ m + 25 * (p5 - p) → (rowS r ∧ r.length ≤ 15) → (∀ σ2 τ2, TX N5 σ5 τ5 σ2 τ2 → fz c c5 m m5 σ5 τ5 σ2 τ2 → seg σ2 τ2 (f, c, m, s, l, 50) (fun y => y = (f, c5, m5, r ++ s, l, 50))) → gvR b n T Q X FO Z PL cl ml v W f s l N F p c m σ τ (lj_D lc_P lc_M94 71 [.ref 6, .int Ln] [] σ5) (mLoop τ5) := by
      intro F5 N5 p5 c5 m5 wh5 σ5 τ5 r h5 hN5 hG5 hp5 hc5 hm5 hr5 hsg5
      have hTE5 := h5.1.1
      have hb5 := h5.2.2.1
      have hb51 := hb5.1
      have hh5 := h5.2.1
      have hk5 := tk_lt hTE5 hb51
      have w46 := hh5.2.2.2.2.2.2.2.2.1
      have hpop := hnd_pop hh5
      have hml5 : ml ≤ m5 := h5.2.2.2.2.2
      have fa : lf aM τ5 (lj_put τ5 0 46 (Int32.ofNat ((13, Ln, 0, 0) :: (8, 0, 0, 0) :: W : List wT).length)) := lf_put (lf_rf _ _) _ _ _ rfl
      have oa : ∀ k i, ¬ (k = 0 ∧ i = 46) → (lj_put τ5 0 46 (Int32.ofNat ((13, Ln, 0, 0) :: (8, 0, 0, 0) :: W : List wT).length)).1 k i = τ5.1 k i := fun k i q => by rw [lj_put_1, if_neg q]
      have goA : ∀ y τ', (y = 0 ∨ y = 1) → lj_R lm_P 74 [.ref 0, .int 41] (lj_put τ5 0 46 (Int32.ofNat ((13, Ln, 0, 0) :: (8, 0, 0, 0) :: W : List wT).length)) = some (.inl (some (.int y)), τ') → mLoop τ5 = mNx y τ' := fun y τ' hy e => by
        rw [(m_iter w46 (by simp; omega)).1]
        show lj_bi (lj_R lm_P 30 [.ref 0, .int 12, .int 0, .int 0, .int 0] _) _ _ = _
        rw [rm_30, km_30_0, if_neg (by decide), if_neg (by decide), if_neg (by decide), if_neg (by decide), if_neg (by decide), if_neg (by decide), if_neg (by decide), if_neg (by decide), if_neg (by decide), if_neg (by decide), if_neg (by decide), if_neg (by decide), if_pos rfl, e, bi_ok, bi_ok, vpb y hy]
        rfl
      generalize hτa : lj_put τ5 0 46 (Int32.ofNat ((13, Ln, 0, 0) :: (8, 0, 0, 0) :: W : List wT).length) = τa at *
      have hTEa : TE b n T Q σ5 τa := TE_up hTE5 (lf_rf _ _) fa
      have ns := m_needSign hTEa hb51 hpop.2.1 hpop.2.2.2.2.2.2.2.2.2 21 (by omega) 41 rfl
      have ps := c_pass hTE5 hb51 hh5.1 61 (by omega)
      rw [kc_94_71]
      by_cases a61 : (Q p5).1 = 61
      · rw [if_pos (show (Q p5).1 = 40 + 21 by omega)] at ns
        rw [if_pos a61] at ps
        have hp6 := hnd_p hpop (p5 + 1)
        have hp5T : p5 < T := by
          rcases Nat.lt_or_ge p5 T with q | q
          · exact q
          · have e : p5 = T := by omega
            have := hTE5.2.2.2.2.2.2.1
            rw [← e] at this
            omega
        have fC6 : lf aC σ5 (lj_put σ5 6 0 (Int32.ofNat (p5 + 1))) := lf_put (lf_rf _ _) _ _ _ rfl
        have fM6 : lf aM τ5 (lj_put τa 0 25 (Int32.ofNat (p5 + 1))) := lf_put fa _ _ _ rfl
        have tx6 : TX N5 σ5 τ5 (lj_put σ5 6 0 (Int32.ofNat (p5 + 1))) (lj_put τa 0 25 (Int32.ofNat (p5 + 1))) := putC_TX N5 σ5 τ5 6 0 _ rfl (by omega) _ fM6 (by rw [← hτa]; rfl)
        have z6 : fz 0 c5 0 m5 σ5 τ5 (lj_put σ5 6 0 (Int32.ofNat (p5 + 1))) (lj_put τa 0 25 (Int32.ofNat (p5 + 1))) := ⟨fun k i q1 q2 _ _ => by rw [lj_put_1, if_neg (by omega)], fun k i q1 q2 _ _ => by rw [lj_put_1, if_neg (by omega), oa k i (by omega)]⟩
        have hPS6 := h5.up fC6 fM6 hp6 ⟨by omega, hbv, by have := hb5.2.2.1; omega, by have := hb5.2.2.2.1; omega, by have := hb5.2.2.2.2.1; omega, by simp; omega⟩ (Nat.le_refl _) (Nat.le_refl _) (fun i hi => z6.2 21 i (by omega) (by omega) (by omega) (by omega))
        have eL : mNx 1 (lj_put τa 0 25 (Int32.ofNat (p5 + 1))) = mLoop (lj_put τa 0 25 (Int32.ofNat (p5 + 1))) := by unfold mNx; rw [if_neg (by decide), if_pos hp6.2.2.2.2.2.2.2.2.2]
        rw [show lj_R lc_P 71 [.ref 6, .int 61] σ5 = _ from ps, bv_ok, goA 1 _ (Or.inr rfl) ns, eL]
        exact gv_call hFO hT5 hbv (by omega) Ln hN5 hPS6 (hG5.tr ⟨tx6, lvX_rf _, Nat.le_refl _, by omega, Nat.le_refl _, Nat.le_refl _, z6⟩) (by omega) (by omega) (by omega) hbc hbm hr5 (fun σ2 τ2 t2 z2 => hsg5 σ2 τ2 (tx6.tr t2 (fun _ _ q => q)) ((z6.mo (by omega) (by omega) (by omega) (by omega)).tr z2))
      · rw [if_neg (show ¬ (Q p5).1 = 40 + 21 by omega)] at ns
        rw [if_neg a61] at ps
        rw [show lj_R lc_P 71 [.ref 6, .int 61] σ5 = _ from ps, goA 0 _ (Or.inl rfl) ns]
        refine Or.inl ?_
        unfold mNx
        rw [if_pos rfl]
        exact flt_bv (flt_mk (m := m5) hpop.2.2.2.2.2.1 (by have := hb5.2.2.2.1; omega) (fq_ok _ (Or.inl rfl)) (hTE5.2.2.2.2.1 p5 hb51).2.2.2.2.1) _
    by_cases a61 : (Q (p + 1)).1 = 61
    · rw [if_pos a61] at eM2
      refine ⟨1, τe, eM2, Or.inr rfl, ?_⟩
      have eL : mNx 1 τe = mLoop τe := by unfold mNx; rw [if_neg (by decide), if_pos e4]
      rw [eC, if_pos (by rw [a61]; rfl), eL]
      exact fin F N (p + 1) c m wh σe τe [] hPSe hN Ge (by omega) (by omega) (by omega) ⟨⟨fun x hx => by simp at hx, by decide, fun x hx => by simp at hx⟩, by decide⟩ (fun σ2 τ2 _ _ => seg_ex rfl)
    · rw [if_neg a61, m_beginsE hTEe hpe hp1.2.1, bi_ok] at eM2
      rw [eC, if_neg (show ¬ (Int32.ofNat (Q (p + 1)).1 = 61) from fun q => a61 ((ofN_eq (c := 61) (by omega) (by omega)).1 q))]
      by_cases hbE : bgE (Q (p + 1)).1
      · rw [if_pos hbE, if_neg (by decide)] at eM2
        obtain ⟨l7, l8⟩ := m_later hp1.2.2.2.2.2.2.2.2.1 (by simp; omega) 14 0 0 0
        have u4 := hnd_W hp1 (14, 0, 0, 0)
        have f4 := mW_lf τe ((12, 0, 0, 0) :: (13, Ln, 0, 0) :: (8, 0, 0, 0) :: W : List wT).length (14, 0, 0, 0)
        have o4 := mW_o τe ((12, 0, 0, 0) :: (13, Ln, 0, 0) :: (8, 0, 0, 0) :: W : List wT).length (14, 0, 0, 0)
        have d4 : (mW τe ((12, 0, 0, 0) :: (13, Ln, 0, 0) :: (8, 0, 0, 0) :: W : List wT).length (14, 0, 0, 0)).2 = τe.2 := rfl
        rw [l7, bv_ok] at eM2
        generalize hτg : mW τe ((12, 0, 0, 0) :: (13, Ln, 0, 0) :: (8, 0, 0, 0) :: W : List wT).length (14, 0, 0, 0) = τg at *
        obtain ⟨l9, l10⟩ := m_later l8 (by simp; omega) 3 0 0 0
        have u5 := hnd_W u4 (3, 0, 0, 0)
        have f5 := mW_lf τg ((14, 0, 0, 0) :: (12, 0, 0, 0) :: (13, Ln, 0, 0) :: (8, 0, 0, 0) :: W : List wT).length (3, 0, 0, 0)
        have o5 := mW_o τg ((14, 0, 0, 0) :: (12, 0, 0, 0) :: (13, Ln, 0, 0) :: (8, 0, 0, 0) :: W : List wT).length (3, 0, 0, 0)
        have d5 : (mW τg ((14, 0, 0, 0) :: (12, 0, 0, 0) :: (13, Ln, 0, 0) :: (8, 0, 0, 0) :: W : List wT).length (3, 0, 0, 0)).2 = τg.2 := rfl
        rw [l9, bv_ok] at eM2
        generalize hτh : mW τg ((14, 0, 0, 0) :: (12, 0, 0, 0) :: (13, Ln, 0, 0) :: (8, 0, 0, 0) :: W : List wT).length (3, 0, 0, 0) = τh at *
        have feh : lf aM τe τh := f4.tr f5
        have oeh : ∀ k i, 20 ≤ k → k ≤ 24 → τh.1 k i = τe.1 k i := fun k i a b => by rw [o5 k i (by omega) (by omega), o4 k i (by omega) (by omega)]
        have txh : TX N σe τe σe τh := putM_TX N σe τe _ feh (fun i => by rw [d5, d4])
        have hPSh : PS b n T Q X F N FO Z PL cl ml (p + 1) v c m wh ((3, 0, 0, 0) :: (14, 0, 0, 0) :: (12, 0, 0, 0) :: (13, Ln, 0, 0) :: (8, 0, 0, 0) :: W) σe τh := hPSe.up (lf_rf _ _) feh u5 ⟨by omega, hbv, by omega, by omega, by omega, by simp; omega⟩ (Nat.le_refl _) (Nat.le_refl _) (fun i hi => oeh 21 i (by omega) (by omega))
        have Gh : GR N N F F p (p + 1) c c m m σ τ σe τh := Ge.tr ⟨txh, lvX_rf _, Nat.le_refl _, Nat.le_refl _, Nat.le_refl _, Nat.le_refl _, ⟨fun _ _ _ _ _ _ => rfl, fun k i q1 q2 _ _ => oeh k i q1 (by omega)⟩⟩
        refine ⟨1, τh, eM2, Or.inr rfl, ?_⟩
        have eL : mNx 1 τh = mLoop τh := by unfold mNx; rw [if_neg (by decide), if_pos u5.2.2.2.2.2.2.2.2.2]
        rw [eL]
        rcases ihR F N FO Z PL cl ml (p + 1) v c m wh _ σe τh f s l Ln (by omega) hPSh hN hFO (by simp; omega) hbE with hf | ⟨σ6, τ6, p6, c6, m6, wh6, F6, N6, r6, i1, i2, i3, i4, i5, i6, i7, i8, i9⟩
        · exact Or.inl (flt_bv hf _)
        · rw [i1, bv_ok, i2]
          exact fin F6 N6 p6 c6 m6 wh6 σ6 τ6 r6 i3 (hdN_X hN i4.2.1) (Gh.tr i4) (by omega) (by omega) (by omega) i8 i9
      · rw [if_neg hbE, if_pos rfl, m_wrong hTEe hpe hp1.2.1 e4, bi_ok] at eM2
        refine ⟨0, _, eM2, Or.inl rfl, Or.inl ?_⟩
        unfold mNx
        rw [if_pos rfl, rc_95, kc_95_0, kc_95_4, if_neg (by decide), c_beginsE hTEe hpe hp1.1, if_neg hbE, bi_ok, if_pos rfl, c_throw hTEe hpe hp1.1]
        exact flt_bv (flt_mk (m := m) e41 (by omega) (fq_ok _ (Or.inl rfl)) hple) _
  · -- a table
    obtain ⟨y, τ1, r1, r2, r3⟩ := ihT F N FO Z PL cl ml p v c m wh _ σ τ9 f s l hTp hPS9 hN hFO (by simp; omega) a62
    refine ⟨y, τ1, ?_, r2, ?_⟩
    · rw [eM, if_pos a62, r1, bi_ok, vpb y r2]
    · have eC : lj_R lc_P 94 [.ref 6] σ = lj_bv (lj_R lc_P 85 [.ref 6] σ) (fun σ11 => lj_D lc_P lc_M94 77 [.ref 6, .int Ln] [] σ11) lj_up := by
        rw [rc_94, kc_94_0, hln, bi_ok, hkd, bi_ok, if_neg (show ¬ (Int32.ofNat (Q p).1 = 3) from fun q => by have := (ofN_eq (c := 3) (by omega) (by omega)).1 q; omega), hkd, bi_ok, if_pos (by rw [a62]; rfl)]
      rw [eC]
      rcases r3 with hf | ⟨σ2, τ2, p2, c2, m2, wh2, F2, N2, i1, i2, i3, i4, i5, i6, i7, i8, i9⟩
      · exact Or.inl (flt_bv hf _)
      · rw [i1, bv_ok, i2]
        refine gv_call (r := [0]) hFO hT5 hbv (by omega) Ln (hdN_X hN i4.2.1) i3 (G9.tr i4) i5 (by omega) (by omega) hbc hbm ⟨⟨fun x hx => by simp at hx; exact Or.inl hx, by decide, fun x hx => by simp at hx⟩, by decide⟩ (fun σ3 τ3 t3 z3 => ?_)
        rcases i8 with ⟨_, hE⟩ | ⟨q, _⟩ | ⟨q, _⟩
        · exact hE σ3 τ3 t3 z3
        · exact absurd q (by decide)
        · exact absurd q (by decide)
  · -- a string
    obtain ⟨v1, v2, v3, v4, v5⟩ := (hTE9.2.2.2.2.1 p hpT).2.2.2.2.2.2.2.2.1 (Or.inr a3)
    have cst := m_constant hTE9 hpT u2.2.1 hK4.2 u2.2.2.2.2.2.1 m14 5 (Int32.ofNat (Q p).2.2.2)
    refine ⟨1, lj_put (lj_put (mP τ9 m 5 (Int32.ofNat (Q p).2.2.2) 0 0) 0 64 (-1)) 0 25 (Int32.ofNat (p + 1)), ?_, Or.inr rfl, ?_⟩
    · rw [eM, if_neg (by omega), if_pos a3, u2.2.1, lz_onat (by omega), v4, Int32.toInt32_toInt64, cst, bi_ok]; rfl
    · have fC1 := cP_lf σ c 5 (Int32.ofNat (Q p).2.2.1) 0 0 0
      have g1 := cP_get σ c 5 (Int32.ofNat (Q p).2.2.1) 0 0 0
      have gm := mP_get τ9 m 5 (Int32.ofNat (Q p).2.2.2) 0 0
      have hcp := hnd_p (hnd_ch (hnd_M (hnd_C u2 5 (Int32.ofNat (Q p).2.2.1) 0 0 0) 5 (Int32.ofNat (Q p).2.2.2) 0 0) 0 64 (-1) (by omega)) (p + 1)
      have eC : lj_R lc_P 94 [.ref 6] σ = lj_D lc_P lc_M94 77 [.ref 6, .int Ln] [] (lj_put (cP σ c 5 (Int32.ofNat (Q p).2.2.1) 0 0 0) 6 0 (Int32.ofNat (p + 1))) := by
        rw [rc_94, kc_94_0, hln, bi_ok, hkd, bi_ok, a3, if_pos (by decide), c_name hTE hpT h1.1 (Or.inr a3), bi_ok, c_put3 h1.2.2.2.2.1 c14, bi_ok, c_step (TE_up hTE fC1 (lf_rf _ _)) hpT (hnd_C h1 5 (Int32.ofNat (Q p).2.2.1) 0 0 0).1, bv_ok]
      have eL : mNx 1 (lj_put (lj_put (mP τ9 m 5 (Int32.ofNat (Q p).2.2.2) 0 0) 0 64 (-1)) 0 25 (Int32.ofNat (p + 1))) = mLoop (lj_put (lj_put (mP τ9 m 5 (Int32.ofNat (Q p).2.2.2) 0 0) 0 64 (-1)) 0 25 (Int32.ofNat (p + 1))) := by unfold mNx; rw [if_neg (by decide), if_pos hcp.2.2.2.2.2.2.2.2.2]
      rw [eC, eL]
      have fC : lf aC σ (lj_put (cP σ c 5 (Int32.ofNat (Q p).2.2.1) 0 0 0) 6 0 (Int32.ofNat (p + 1))) := lf_put fC1 _ _ _ rfl
      have fM : lf aM τ9 (lj_put (lj_put (mP τ9 m 5 (Int32.ofNat (Q p).2.2.2) 0 0) 0 64 (-1)) 0 25 (Int32.ofNat (p + 1))) := lf_put (lf_put (mP_lf _ _ _ _ _ _) _ _ _ rfl) _ _ _ rfl
      have oC : ∀ k i, k ≠ 6 → (lj_put (cP σ c 5 (Int32.ofNat (Q p).2.2.1) 0 0 0) 6 0 (Int32.ofNat (p + 1))).1 k i = (cP σ c 5 (Int32.ofNat (Q p).2.2.1) 0 0 0).1 k i := fun k i q => by rw [lj_put_1, if_neg (by omega)]
      have oM : ∀ k i, k ≠ 0 → (lj_put (lj_put (mP τ9 m 5 (Int32.ofNat (Q p).2.2.2) 0 0) 0 64 (-1)) 0 25 (Int32.ofNat (p + 1))).1 k i = (mP τ9 m 5 (Int32.ofNat (Q p).2.2.2) 0 0).1 k i := fun k i q => by rw [lj_put_1, if_neg (by omega), lj_put_1, if_neg (by omega)]
      have tx : TX N σ τ9 (lj_put (cP σ c 5 (Int32.ofNat (Q p).2.2.1) 0 0 0) 6 0 (Int32.ofNat (p + 1))) (lj_put (lj_put (mP τ9 m 5 (Int32.ofNat (Q p).2.2.2) 0 0) 0 64 (-1)) 0 25 (Int32.ofNat (p + 1))) := by
        refine TX_up N fC fM ?_ ?_ (fun i _ => ⟨rfl, rfl⟩)
        · unfold lv; rw [oC 5 0 (by omega), g1.2.2.2.2.2, h1.2.2.2.2.1, lz_lit (by omega), lz_lit (by omega)]; omega
        · unfold lv; rw [oC 5 6 (by omega), cP_o _ _ _ _ _ _ _ _ _ (by omega) (by omega)]; exact Int.le_refl _
      have zz : fz 0 c 0 m σ τ9 (lj_put (cP σ c 5 (Int32.ofNat (Q p).2.2.1) 0 0 0) 6 0 (Int32.ofNat (p + 1))) (lj_put (lj_put (mP τ9 m 5 (Int32.ofNat (Q p).2.2.2) 0 0) 0 64 (-1)) 0 25 (Int32.ofNat (p + 1))) := ⟨fun k i q1 q2 _ q4 => by rw [oC k i (by omega), cP_o _ _ _ _ _ _ _ _ _ (by omega) (by omega)], fun k i q1 q2 _ q4 => by rw [oM k i (by omega), mP_o _ _ _ _ _ _ _ _ (by omega) (by omega)]⟩
      have hPS2 := hPS9.up fC fM hcp ⟨by omega, hbv, by omega, by omega, by omega, by simp; omega⟩ (by omega) (by omega) (fun i hi => zz.2 21 i (by omega) (by omega) (by omega) (by omega))
      have G2 : GR N N F F p (p + 1) c (c + 1) m (m + 1) σ τ9 _ _ := ⟨tx, lvX_rf _, Nat.le_refl _, by omega, by omega, by omega, zz⟩
      refine gv_call (r := [0]) hFO hT5 hbv (by omega) Ln hN hPS2 (G9.tr G2) (by omega) (by omega) (by omega) hbc hbm ⟨⟨fun x hx => by simp at hx; exact Or.inl hx, by decide, fun x hx => by simp at hx⟩, by decide⟩ (fun σ3 τ3 t3 z3 => ?_)
      have s3 : sE σ3 τ3 (Q p).2.2.1 (Q p).2.2.2 := (v5.up tx.1).up t3.1
      refine seg_in [(f, c + 1, m + 1, 0 :: s, l, 50)] ⟨4, ?_, ?_, ⟨_, _, v1, v2, ?_, ?_, s3⟩, rfl⟩ (fun y hy => by rw [List.mem_singleton.1 hy]; exact seg_ex rfl)
      · show σ3.1 22 c = 5; rw [z3.1 22 c (by omega) (by omega) (by omega) (by omega), oC 22 c (by omega)]; exact g1.1
      · show τ3.1 20 m = 5; rw [z3.2 20 m (by omega) (by omega) (by omega) (by omega), oM 20 m (by omega)]; exact gm.1
      · show σ3.1 23 c = _; rw [z3.1 23 c (by omega) (by omega) (by omega) (by omega), oC 23 c (by omega)]; exact g1.2.1
      · show τ3.1 21 m = _; rw [z3.2 21 m (by omega) (by omega) (by omega) (by omega), oM 21 m (by omega)]; exact gm.2.1
