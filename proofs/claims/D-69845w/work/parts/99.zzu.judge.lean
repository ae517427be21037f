/-! the whole text: what both come to -/
theorem jr {b : Nat → Int32} {n T : Nat} {Q : tkQ} {X : List Int32 → Prop} (hT5 : T ≤ 520) {σ τ : lj_S} (hTE : TE b n T Q σ τ) (hR : sR σ τ X) (h4 : τ.1 0 4 = 0) :
    fltR n (lj_R lc_P 58 [.ref 6] σ) (lj_R lm_P 27 [.ref 0] τ) ∨ ∃ σ' τ' F c m wh, lj_R lc_P 58 [.ref 6] σ = some (.inl none, σ') ∧ lj_R lm_P 27 [.ref 0] τ = some (.inl (some (.int 1)), τ') ∧ sR σ' τ' X ∧ sG σ τ σ' τ' ∧ FR σ' τ' F ∧ 0 < F ∧ (σ'.1 5 0 = Int32.ofNat c ∧ τ'.1 0 41 = Int32.ofNat m ∧ c < 13990 ∧ m < 13990 ∧ σ'.1 5 6 = Int32.ofNat wh ∧ τ'.1 0 40 = Int32.ofNat wh ∧ wh ≤ 520) ∧ lf gC σ σ' ∧ lf gM τ τ' ∧ (σ'.1 28 0 = 0 ∧ τ'.1 12 0 = 0 ∧ σ'.1 29 0 = 0 ∧ τ'.1 13 0 = 0 ∧ σ'.1 33 0 = 0 ∧ τ'.1 15 0 = 0) ∧ ((0 ≤ lv σ' 5 18 ∧ lv σ' 5 18 ≤ 4000) ∧ ∀ k : Nat, (k : Int) < lv σ' 5 18 → 0 ≤ lv σ' 38 k) ∧ gS σ' τ' (fun _ => False) (0, 0, 0, [], [], 50) := by
  have P0 := ps_start hTE hR h4
  have i0 : lj_in 0 51 := by decide
  have i0' : lj_in 0 52 := by decide
  have z0 : (0 : Int32).toNatClampNeg = 0 := by decide
  have x58 : (jC0 σ).1 5 8 = 0 := by unfold jC0; simp [lj_put_1]
  have e59 : lj_R lc_P 59 [.ref 6, .int 0, .int 1] (jC0 σ) = some (.inl none, lj_put (lj_put (lj_put (lj_put (lj_put (lj_put (lj_put (lj_put (lj_put (lj_put (lj_put (lj_put (jC0 σ) 5 8 1) 43 0 (-1)) 6 2 0) 44 0 0) 49 0 0) 29 0 0) 30 0 1) 31 0 0) 32 0 0) 33 0 0) 42 0 (-1)) 36 0 0) := by
    rw [rc_59, kc_59_0, x58, if_pos rfl, kc_59_35]
    simp only [if_pos i0, z0]
    rfl
  have C1 := P0.C (by omega) hT5 0 0 0 0 0
  have M1 := C1.1.M (by omega) 0 0 0 0
  have L1 := M1.1.la (by simp) (42, 0, 0, 0)
  have L2 := L1.1.la (by simp) (0, 0, 0, 0)
  have eM : lj_R lm_P 27 [.ref 0] τ = mLoop (mW (mW (mP (jM τ) 0 0 0 0 0) 0 (42, 0, 0, 0)) 1 (0, 0, 0, 0)) := by
    rw [rm_27, km_27_0]
    simp only [if_pos i0, if_pos i0', z0]
    rw [show lj_put (lj_put (lj_put (lj_put (lj_put (lj_put (lj_put (lj_put (lj_put (lj_put (lj_put (lj_put (lj_put (lj_put (lj_put (lj_put (lj_put (lj_put τ 0 25 0) 0 46 0) 0 47 0) 0 50 0) 0 53 0) 31 0 0) 32 0 0) 0 56 0) 0 60 0) 0 41 0) 0 40 0) 0 34 1) 14 0 0) 15 0 0) 13 0 0) 16 0 (vp_nar .boolean 1)) 17 0 0) 12 0 0 = jM τ from rfl, m_emit (m := 0) P0.2.1.2.2.2.2.2.1 (by omega), bi_ok, (m_later M1.1.2.1.2.2.2.2.2.2.2.2.1 (by simp) 42 0 0 0).1, bv_ok, (m_later L1.1.2.1.2.2.2.2.2.2.2.2.1 (by simp) 0 0 0 0).1, bv_ok]
    rfl
  have eC : lj_R lc_P 58 [.ref 6] σ = lj_bv (lj_R lc_P 60 [.ref 6] (jC σ)) (fun σ3 => lj_bi (lj_R lc_P 63 [.ref 6] σ3) (fun y5 σ4 => (if y5 = 0 then some (.inl none, σ4) else lj_br (lj_R lc_P 65 [.ref 6, .int 2] σ4) (fun y7 σ6 => (bif Nat.blt y7 2000 then lj_up y7 σ6 else none)) lj_up)) lj_up) lj_up := by
    rw [rc_58, kc_58_0, rc_53, kc_53_0, bv_ok, show lj_put (lj_put (lj_put (lj_put (lj_put (lj_put (lj_put (lj_put (lj_put (lj_put σ 5 0 0) 5 6 0) 5 8 0) 5 18 0) 6 0 0) 6 1 0) 6 10 0) 6 13 0) 6 18 0) 6 2 (-1) = jC0 σ from rfl, e59, bv_ok, if_pos i0, z0]
    rfl
  rw [eC, eM, rc_60, kc_60_0, c_put3 (c := 0) P0.2.1.2.2.2.2.1 (by omega), bi_ok]
  have hs0 : sB ([] : List Nat) := ⟨by decide, by decide, by decide, fun x hx => by cases hx⟩
  have hK := ck_all (b := b) (n := n) (Q := Q) (X := X) hT5 (T + 1)
  rcases hK 1 [(0, [], [])] [] 0 0 [] [] [] 0 0 0 0 1 1 0 [(42, 0, 0, 0)] _ _ 0 [] [] [] 0 (by omega) L2.1 ⟨_, _, rfl, rfl, rfl⟩ ⟨rfl, fun x hx => by cases hx⟩ (by simp) (by omega) (by omega) (bW_top (by simp) (by omega)) (fun x Y e => by cases e) with hf | ⟨σ5, τ5, p5, c5, m5, wh5, F5, N5, nl5, e5, nb, j1, j2, j3, j4, j5, j6, j7, j8, j9, j10, j11, j12⟩
  · exact Or.inl (flt_bv (flt_bv hf _) _)
  have hnb : nb = [] := by
    cases nb with
    | nil => rfl
    | cons a r =>
      obtain ⟨x, Y, ex, _⟩ := j11 (by simp)
      cases ex
  subst hnb
  have j3 : PS b n T Q X F5 N5 [((nl5, 0), [])] [] [] c5 m5 p5 0 c5 m5 wh5 [(42, 0, 0, 0)] σ5 τ5 := j3
  have hc5 := j4.2.2.2.2.1
  have hm5 := j4.2.2.2.2.2.1
  have hp5 := j3.2.2.1.1
  have hFF := j4.2.2.1
  have hwh5 := j3.2.2.1.2.2.2.2.1
  have c145 := j3.c14 hT5
  have hb5 := j3.2.2.1.2.2
  obtain ⟨y5, hN5, y51, y52⟩ : ∃ y, N5 = [y] ∧ y.1 = 0 ∧ y.2.1 = e5 := by
    obtain ⟨y, S, y', S', q1, q2, q3, q4, q5, q6⟩ := j4.2.1
    obtain ⟨rfl, rfl⟩ := List.cons.inj q1
    cases S' with
    | cons a r => exact q6.elim
    | nil => exact ⟨y', q2, q3, by rw [q4]; simp⟩
  subst hN5
  rw [j1, bv_ok, show mLoop (mW (mW (mP (jM τ) 0 0 0 0 0) 0 (42, 0, 0, 0)) 1 (0, 0, 0, 0)) = _ from j2]
  have B1 := j3.pop
  have hW0 : ([] : List wT).length = 0 := rfl
  have X1 := B1.1.C (by omega) hT5 15 0 0 0 0
  have X2 := X1.1.C (by omega) hT5 40 0 0 0 0
  have X3 := X2.1.M (by omega) 14 0 0 0
  have X4 := X3.1.M (by omega) 38 0 0 0
  have y551 : y5.1 < 51 := by omega
  have g62 : (cP (cP σ5 c5 15 0 0 0 0) (c5 + 1) 40 0 0 0 0).1 6 2 = Int32.ofNat y5.1 := X4.1.1.2.2.1.2.2.2.2.2.2.1
  have g44 : (cP (cP σ5 c5 15 0 0 0 0) (c5 + 1) 40 0 0 0 0).1 44 y5.1 = Int32.ofNat y5.2.1.length := X4.1.1.2.2.1.1.1.2.2.1
  have gl50 : y5.2.1.length ≤ 50 := X4.1.1.2.2.1.1.1.2.2.2.1
  have hks := X4.1.1.2.2.2.2.2.1.1.2.2.2.2.2.1
  obtain ⟨_, ks2, _⟩ := ksc_app (kn := []) y5.2.1 (by rw [List.append_nil]; exact hks)
  have hS40 : lv (cP (cP σ5 c5 15 0 0 0 0) (c5 + 1) 40 0 0 0 0) 5 18 < 4000 := by
    have u1 := X4.1.2.2.2.2.1.2.1.1
    have : (0 : Int) ≤ (rsv [((nl5, 0), ([] : List Nat))] : Int) := Int.natCast_nonneg _
    omega
  have cls := c_cls60 (f := y5.1) y551
  obtain ⟨σ6, q1, q2, q3, q4, q5, q6, q7⟩ := cls_loop y551 cls.1 cls.2 y5.2.1.length _ g62 (by rw [Nat.zero_add]; exact g44) (by omega) (fun i a b => by
    obtain ⟨k, x, v1, v2, v3, _⟩ := ks2 i (Nat.zero_le _) (by rw [List.append_nil]; omega)
    exact ⟨k, v2, by omega⟩)
  have cl6 := X4.1.cls (e := y5.2.1) (kn := []) (by rw [List.append_nil]) hT5 q2 q3 q4 q5 q6 q7 (τ' := lj_put (mP (mP (lj_put τ5 0 46 (Int32.ofNat ([] : List wT).length)) m5 14 0 0 0) (m5 + 1) 38 0 0 0) 0 50 0) (by rw [lj_put_1, if_pos ⟨rfl, rfl⟩]; rfl) (fun k j q => by rw [lj_put_1, if_neg q]) rfl
  have fC6 : lf pC (cP (cP σ5 c5 15 0 0 0 0) (c5 + 1) 40 0 0 0 0) σ6 := fun k j q => ⟨by have := pC_k q; exact q3 k j (by omega) (by omega), by rw [q5]⟩
  have hT6 : TE b n T Q σ6 (lj_put τ5 0 46 (Int32.ofNat ([] : List wT).length)) := TE_pp X2.1.1.1 fC6 (lf_rf _ _)
  have x60 : σ6.1 6 0 = Int32.ofNat p5 := by rw [q3 6 0 (by omega) (by omega)]; exact X2.1.2.1.1
  rw [c_put3 B1.1.2.1.2.2.2.2.1 (by omega), bi_ok, c_put3 X1.1.2.1.2.2.2.2.1 (by omega), bi_ok, q1, bv_ok, c_kind hT6 hp5 x60, bi_ok]
  have hk := tk_lt hT6 hp5
  obtain ⟨hin, hkk, _⟩ := m_kindv B1.1.1.1 hp5 B1.1.2.1.2.1
  have t6 : ∀ k : Fin 70, (tkk k.val = 6 ↔ k.val = 0) := by decide
  have t6' := t6 ⟨(Q p5).1, hk⟩
  by_cases a0 : (Q p5).1 = 0
  rotate_left
  · have e30 : lj_R lm_P 30 [.ref 0, .int 42, .int 0, .int 0, .int 0] (lj_put τ5 0 46 (Int32.ofNat ([] : List wT).length)) = some (.inl (some (.int 0)), mFl (lj_put τ5 0 46 (Int32.ofNat ([] : List wT).length)) (fq (Q p5).1 2) (Q p5).2.1) := by
      rw [rm_30, km_30_0, if_neg (by decide), if_neg (by decide), if_neg (by decide), if_neg (by decide), if_neg (by decide), if_neg (by decide), if_neg (by decide), if_neg (by decide), if_neg (by decide), if_neg (by decide), if_neg (by decide), if_neg (by decide), if_neg (by decide), if_neg (by decide), if_neg (by decide), if_neg (by decide), if_neg (by decide), if_neg (by decide), if_neg (by decide), if_neg (by decide), if_neg (by decide), rm_86, km_86_0, if_neg (by decide), if_neg (by decide), if_neg (by decide), if_neg (by decide), if_neg (by decide), if_neg (by decide), if_neg (by decide), if_neg (by decide), if_neg (by decide), if_neg (by decide), if_neg (by decide), if_neg (by decide), if_neg (by decide), if_neg (by decide), if_neg (by decide), if_neg (by decide), if_neg (by decide), if_neg (by decide), if_neg (by decide), if_neg (by decide), if_neg (by decide), km_86_269, if_pos hin, hkk, if_neg (fun q => a0 (t6'.1 q)), m_wrong B1.1.1.1 hp5 B1.1.2.1.2.1 B1.1.2.1.2.2.2.2.2.2.2.2.2, bi_ok, if_pos rfl, km_86_295, bi_ok]
      rfl
    rw [j3.go (Or.inl rfl) e30, nx0, if_neg (show ¬ Int32.ofNat (Q p5).1 = 0 from fun z => a0 ((ofN_eq (c := 0) (by omega) (by omega)).1 z)), c_throw hT6 hp5 x60]
    exact Or.inl (B1.1.flt hT5 2 (Or.inl rfl) _)
  have e30 : lj_R lm_P 30 [.ref 0, .int 42, .int 0, .int 0, .int 0] (lj_put τ5 0 46 (Int32.ofNat ([] : List wT).length)) = some (.inl (some (.int 1)), lj_put τ5 0 46 (Int32.ofNat ([] : List wT).length)) := by
    rw [rm_30, km_30_0, if_neg (by decide), if_neg (by decide), if_neg (by decide), if_neg (by decide), if_neg (by decide), if_neg (by decide), if_neg (by decide), if_neg (by decide), if_neg (by decide), if_neg (by decide), if_neg (by decide), if_neg (by decide), if_neg (by decide), if_neg (by decide), if_neg (by decide), if_neg (by decide), if_neg (by decide), if_neg (by decide), if_neg (by decide), if_neg (by decide), if_neg (by decide), rm_86, km_86_0, if_neg (by decide), if_neg (by decide), if_neg (by decide), if_neg (by decide), if_neg (by decide), if_neg (by decide), if_neg (by decide), if_neg (by decide), if_neg (by decide), if_neg (by decide), if_neg (by decide), if_neg (by decide), if_neg (by decide), if_neg (by decide), if_neg (by decide), if_neg (by decide), if_neg (by decide), if_neg (by decide), if_neg (by decide), if_neg (by decide), if_neg (by decide), km_86_269, if_pos hin, hkk, if_pos (t6'.2 a0), km_86_290, km_86_295, bi_ok]
    rfl
  have e46 : (lj_put τ5 0 46 (Int32.ofNat ([] : List wT).length)).1 0 46 = 0 := by rw [lj_put_1, if_pos ⟨rfl, rfl⟩]; rfl
  have eMf : mLoop τ5 = some (.inl (some (.int 1)), mP (mP (lj_put τ5 0 46 (Int32.ofNat ([] : List wT).length)) m5 14 0 0 0) (m5 + 1) 38 0 0 0) := by
    rw [j3.go (Or.inr rfl) e30, nx1 B1.1.2.1]
    unfold mLoop
    rw [km_27_134, e46, if_pos (by decide), km_27_214, m_emit B1.1.2.1.2.2.2.2.2.1 (by omega), bi_ok, m_emit X3.1.2.1.2.2.2.2.2.1 (by omega), bi_ok]
    rfl
  rw [if_pos (show Int32.ofNat (Q p5).1 = 0 by rw [a0]; rfl), eMf]
  generalize hτF : mP (mP (lj_put τ5 0 46 (Int32.ofNat ([] : List wT).length)) m5 14 0 0 0) (m5 + 1) 38 0 0 0 = τF at *
  -- later states
  have tb : TX [y5] σ6 (lj_put τF 0 50 0) σ6 τF := by
    have g : lf pM (lj_put τF 0 50 0) τF := fun k j q => ⟨by rw [lj_put_1, if_neg (by rintro ⟨a, a'⟩; rw [a, a'] at q; cases q)], rfl⟩
    exact TX_eq [y5] (lf_rf _ _) g cl6.1.1.2.1 (fun _ _ _ => rfl) (fun k j q => by rw [lj_put_1, if_neg (by rintro ⟨a, a'⟩; rw [a, a'] at q; cases q)]) (fun _ => rfl) (fun _ => rfl) (Int.le_refl _)
  have t5f : TX [y5] σ5 τ5 σ6 τF := ((B1.2.1.tr (X1.2.tr (X2.2.tr (X3.2.tr X4.2))).1 (fun _ _ q => q)).tr cl6.2.1 (fun _ _ q => q)).tr tb (fun _ _ q => q)
  have tsf := ((C1.2.tr (M1.2.tr (L1.2.tr L2.2))).1.tr j4.1 (fun _ _ q => q)).tr t5f (fun q _ w => by rw [lvY_q j4.2.1]; exact w)
  obtain ⟨_, _, c58, _, _, _, _, _, _, _, _, _, _, c29, _, _, _, c33, _, _, c28⟩ := jC_get σ
  obtain ⟨_, _, _, _, _, _, _, _, _, _, _, _, _, m15, m13, _, _, m12⟩ := jM_get τ
  obtain ⟨s28, s29, ⟨s12, s13⟩, _⟩ := tsf.2.2.2.2.2.2.1 0 (by unfold lv; rw [c58]; decide)
  have hsG : sG σ τ (jC σ) (jM τ) := (sR_pp hR (jC_lf σ) (jM_lf τ)).2
  have hNR := X4.1.1.2.2.1
  have hcp : y5.2.2.length = 0 := by
    rcases Nat.eq_zero_or_pos y5.2.2.length with q | q
    · exact q
    · have := hNR.2.2.1.1.1 0 q
      simp [srch] at this
  have f33 : (cP (cP σ5 c5 15 0 0 0 0) (c5 + 1) 40 0 0 0 0).1 33 0 = 0 := by
    have := hNR.1.1.2.2.2.2.2.1
    rw [y51, hcp] at this
    exact this
  have f15 : τF.1 15 0 = 0 := by
    have := hNR.2.1.1.2.2.2.2.2.1
    rw [y51, hcp] at this
    exact this
  have SC : ∀ k j, 22 ≤ k → k ≤ 26 → σ6.1 k j = (cP (cP σ5 c5 15 0 0 0 0) (c5 + 1) 40 0 0 0 0).1 k j := fun k j v1 v2 => q3 k j (by omega) (by omega)
  have zA : fz 0 1 0 1 (cP (jC σ) 0 0 0 0 0 0) (mP (jM τ) 0 0 0 0 0) σ5 τ5 := (L1.2.tr L2.2).2.2.2.2.2.2.tr j4.2.2.2.2.2.2
  refine Or.inr ⟨σ6, τF, F5, c5 + 2, m5 + 2, wh5, rfl, rfl, (sR_pp X4.1.1.2.1 fC6 (lf_rf _ _)).1, hsG.tr tsf.1, FR_eq X4.1.1.2.2.2.1 (fun k j q => q3 k j (by rintro rfl; cases q) (by rintro rfl; cases q)) (fun _ _ _ => rfl), by omega, ⟨by rw [q3 5 0 (by omega) (by omega)]; exact X4.1.2.1.2.2.2.2.1, X4.1.2.1.2.2.2.2.2.1, by omega, by omega, by rw [q3 5 6 (by omega) (by omega)]; exact X4.1.2.1.2.2.2.2.2.2.1, X4.1.2.1.2.2.2.2.2.2.2.1, by omega⟩, lf.tr (jC_lf σ : lf gC σ (jC σ)) tsf.2.2.2.2.2.2.2.2.2.2.1, (pM_g (jM_lf τ)).tr tsf.2.2.2.2.2.2.2.2.2.2.2, ⟨s28.trans c28, s12.trans m12, s29.trans c29, s13.trans m13, by rw [q3 33 0 (by omega) (by omega)]; exact f33, f15⟩, ⟨⟨cl6.1.1.2.2.2.2.2.2.1.1, by have u1 := cl6.1.2.2.2.2.1.2.1.1; have u2 : (0 : Int) ≤ (rsv [((nl5, 0), ([] : List Nat))] : Int) := Int.natCast_nonneg _; omega⟩, fun k hk => (cl6.1.1.2.2.2.2.2.2.2 k hk).1.2.2⟩, ?_⟩
  refine gS_in [(0, 1, 1, [], [], 50)] ⟨?_, ?_, rfl⟩ (fun y hy => ?_)
  · show σ6.1 22 0 = 0
    rw [SC 22 0 (by omega) (by omega), cP_o _ _ _ _ _ _ _ 22 0 (by omega) (by omega), cP_o _ _ _ _ _ _ _ 22 0 (by omega) (by omega), zA.1 22 0 (by omega) (by omega) (by omega) (by omega)]; exact (cP_get _ _ _ _ _ _ _).1
  · show τF.1 20 0 = 0
    rw [← hτF, mP_o _ _ _ _ _ _ 20 0 (by omega) (by omega), mP_o _ _ _ _ _ _ 20 0 (by omega) (by omega), lj_put_1, if_neg (by omega), zA.2 20 0 (by omega) (by omega) (by omega) (by omega)]; exact (mP_get _ _ _ _ _ _).1
  · rw [List.mem_singleton.1 hy]
    refine (j12 σ6 τF ⟨t5f, fun k j v1 v2 v3 v4 _ => ?_, fun k j v1 v2 v3 v4 _ => ?_⟩).tr (fun y hy => ?_)
    · rw [SC k j v1 v2, cP_o _ _ _ _ _ _ _ k j (by omega) (by omega), cP_o _ _ _ _ _ _ _ k j (by omega) (by omega)]
    · rw [← hτF, mP_o _ _ _ _ _ _ k j (by omega) (by omega), mP_o _ _ _ _ _ _ k j (by omega) (by omega), lj_put_1, if_neg (by omega)]
    · rcases hy with hy | ⟨x, hx, _⟩
      · rw [hy]
        refine seg_in [(0, c5 + 1, m5 + 1, [1], e5.map (·.2.2) ++ [], 50)] ⟨16, ?_, ?_, rfl⟩ (fun y hy => ?_)
        · show σ6.1 22 c5 = 15
          rw [SC 22 c5 (by omega) (by omega), cP_o _ _ _ _ _ _ _ 22 c5 (by omega) (by omega)]; exact (cP_get _ _ _ _ _ _ _).1
        · show τF.1 20 m5 = 14
          rw [← hτF, mP_o _ _ _ _ _ _ 20 m5 (by omega) (by omega)]; exact (mP_get _ _ _ _ _ _).1
        · rw [List.mem_singleton.1 hy]
          refine seg_in [] ⟨28, [], rfl, ?_, ?_, rfl⟩ (fun y hy => by cases hy)
          · show σ6.1 22 (c5 + 1) = 40
            rw [SC 22 (c5 + 1) (by omega) (by omega)]; exact (cP_get _ _ _ _ _ _ _).1
          · show τF.1 20 (m5 + 1) = 38
            rw [← hτF]; exact (mP_get _ _ _ _ _ _).1
      · cases hx
