/-! expressions: their beginning -/
/-- how the model's loop goes on when a reading has answered -/
noncomputable def mNx (y : Int32) (τ : lj_S) : Option lj_O := if y = 0 then mBad τ else if τ.1 0 4 = 0 then mLoop τ else mBad τ
/-- operands with fewer than k tokens to come -/
def CO (b : Nat → Int32) (n T : Nat) (Q : tkQ) (X : List Int32 → Prop) (k : Nat) : Prop :=
  ∀ (F : Nat) (N : List lT) (FO : List fT) (Z : List zT) (PL : List qT) (cl ml : Nat) (p v c m wh : Nat) (W : List wT) (σ τ : lj_S) (f : Nat) (s l : List Nat), T - p < k → PS b n T Q X F N FO Z PL cl ml p v c m wh W σ τ → hdN N f l → hdF (16 * v + 62) (v + 3) FO s → W.length + 30 ≤ 40 * v + 60 → N.length ≤ v → bgE (Q p).1 → ¬ ((Q p).1 = 23 ∨ (Q p).1 = 59 ∨ (Q p).1 = 41 ∨ (Q p).1 = 47) →
    ∃ y τ1, lj_R lm_P 60 [.ref 0] τ = some (.inl (some (.int y)), τ1) ∧ (y = 0 ∨ y = 1) ∧ exR b n T Q X FO Z PL cl ml v W f s l N F p c m σ τ (lj_R lc_P 79 [.ref 6] σ) (mNx y τ1)
theorem vpb (y : Int32) (h : y = 0 ∨ y = 1) : vp_nar .boolean y = y := lz_bool y h
theorem m_enter {b : Nat → Int32} {n T : Nat} {Q : tkQ} {σ τ : lj_S} (h : TE b n T Q σ τ) {p : Nat} (hp : p ≤ T) (h0 : τ.1 0 25 = Int32.ofNat p) (h4 : τ.1 0 4 = 0) {v : Nat} (hv : v ≤ 20) (h47 : τ.1 0 47 = Int32.ofNat v) : lj_R lm_P 41 [.ref 0] τ = if v = 20 then some (.inl (some (.int 0)), mFl τ 3 (Q p).2.1) else some (.inl (some (.int 1)), lj_put τ 0 47 (Int32.ofNat (v + 1))) := by
  rw [rm_41, km_41_0, h47]
  by_cases e : v = 20
  · rw [if_pos (by rw [e]; rfl), if_pos e, m_here h hp h0]
    unfold lj_bi
    simp only []
    rw [m_fail τ h4]
    rfl
  · rw [if_neg (show ¬ (Int32.ofNat v = 20) from fun q => e ((ofN_eq (c := 20) (by omega) (by omega)).1 q)), if_neg e, lz_osucc]
theorem c_deeper {b : Nat → Int32} {n T : Nat} {Q : tkQ} {σ τ : lj_S} (h : TE b n T Q σ τ) {p : Nat} (hp : p ≤ T) (h0 : σ.1 6 0 = Int32.ofNat p) {v : Nat} (hv : v ≤ 20) (h61 : σ.1 6 1 = Int32.ofNat v) : lj_R lc_P 66 [.ref 6] σ = if v = 20 then some (.inr 1, cFl σ (fq (Q p).1 3) (Q p).2.1) else some (.inl none, lj_put σ 6 1 (Int32.ofNat (v + 1))) := by
  rw [rc_66, kc_66_0, h61]
  by_cases e : v = 20
  · rw [if_pos (by rw [e]; rfl), if_pos e, c_throw h hp h0]
  · rw [if_neg (show ¬ (Int32.ofNat v = 20) from fun q => e ((ofN_eq (c := 20) (by omega) (by omega)).1 q)), if_neg e, lz_osucc]
theorem ce_step {b : Nat → Int32} {n T : Nat} {Q : tkQ} {X : List Int32 → Prop} (hT5 : T ≤ 520) (k : Nat) (ih : CE b n T Q X k) (ihO : CO b n T Q X (k + 1)) : CE b n T Q X (k + 1) := by
  intro F N FO Z PL cl ml p v c m wh W σ τ f s l lc ld hTp hPS hN hFO hlim hWl
  have hTE := hPS.1.1
  have hb := hPS.2.2.1
  have hpT := hb.1
  have hv := hb.2.1
  have hB : sB s := hFO.sb (by omega) (by omega)
  have hbc := hb.2.2.1
  have hbm := hb.2.2.2.1
  have h1 := hPS.2.1
  have hk := tk_lt hTE hpT
  have hlb := limR_b hlim
  have h46 := h1.2.2.2.2.2.2.2.2.1
  have hWn : W.length < 4000 := by omega
  have h41 : τ.1 0 41 = Int32.ofNat m := h1.2.2.2.2.2.1
  have f0 : lf aM τ (lj_put τ 0 46 (Int32.ofNat W.length)) := lf_put (lf_rf _ _) _ _ _ rfl
  have hpop := hnd_pop h1
  have goE : ∀ y τ', (y = 0 ∨ y = 1) → lj_R lm_P 59 [.ref 0, .int (Int32.ofNat ld)] (lj_put τ 0 46 (Int32.ofNat W.length)) = some (.inl (some (.int y)), τ') → mLoop τ = mNx y τ' := fun y τ' hy e => by
    rw [(m_iter h46 hWn).1]
    show lj_bi (lj_R lm_P 30 [.ref 0, .int 3, .int (Int32.ofNat ld), .int 0, .int 0] _) _ _ = _
    rw [rm_30, km_30_0, if_neg (by decide), if_neg (by decide), if_neg (by decide), if_pos rfl, e, bi_ok, bi_ok, vpb y hy]
    rfl
  generalize hτa : lj_put τ 0 46 (Int32.ofNat W.length) = τa at *
  have hTEa : TE b n T Q σ τa := TE_up hTE (lf_rf _ _) f0
  have ha41 : τa.1 0 41 = Int32.ofNat m := hpop.2.2.2.2.2.1
  have ha4 := hpop.2.2.2.2.2.2.2.2.2
  have a2 : τa.2 = τ.2 := by rw [← hτa]; rfl
  have oa : ∀ k i, 20 ≤ k → τa.1 k i = τ.1 k i := fun k i q => by rw [← hτa, lj_put_1, if_neg (by omega)]
  have hpl : (Q p).2.1 ≤ n := (hTE.2.2.2.2.1 p hpT).2.2.2.2.1
  by_cases hbE : bgE (Q p).1
  · have hK4 : (Q p).1 ≠ 0 ∧ (Q p).1 ≠ 4 := by
      constructor <;> (intro e; rw [e] at hbE; exact absurd hbE (by decide))
    have hpT' : p < T := by
      rcases Nat.lt_or_ge p T with q | q
      · exact q
      · have e : p = T := by omega
        have := hTE.2.2.2.2.2.2.1
        rw [← e] at this
        omega
    by_cases e20 : v = 20
    · -- too deep
      have em : lj_R lm_P 59 [.ref 0, .int (Int32.ofNat ld)] τa = some (.inl (some (.int 0)), mFl τa 3 (Q p).2.1) := by
        rw [rm_59, km_59_0, m_beginsE hTEa hpT hpop.2.1, if_pos hbE, bi_ok, if_neg (by decide), m_enter hTEa hpT hpop.2.1 ha4 hv hpop.2.2.2.1, if_pos e20, bi_ok, if_pos rfl]
      rw [goE 0 _ (Or.inl rfl) em, rc_75, kc_75_0, c_beginsE hTE hpT h1.1, if_pos hbE, bi_ok, if_neg (by decide), c_deeper hTE hpT h1.1 hv h1.2.2.1, if_pos e20]
      have hq : fq (Q p).1 3 = 3 := by unfold fq; rw [if_neg hK4.2]
      refine Or.inl ?_
      rw [hq]
      unfold mNx
      rw [if_pos rfl]
      exact flt_bv (flt_mk (m := m) ha41 (by omega) (by decide) hpl) _
    · -- deeper
      have hv19 : v + 1 ≤ 20 := by omega
      have hnv := hnd_v hpop (v + 1)
      have hcv : lf aC σ (lj_put σ 6 1 (Int32.ofNat (v + 1))) := lf_put (lf_rf _ _) _ _ _ rfl
      generalize hσd : lj_put σ 6 1 (Int32.ofNat (v + 1)) = σd at *
      have w1 := hnd_W hnv (1, 0, 0, 0)
      have l1 := (m_later hnv.2.2.2.2.2.2.2.2.1 (by omega) 1 0 0 0).1
      have fb : lf aM τa (lj_put τa 0 47 (Int32.ofNat (v + 1))) := lf_put (lf_rf _ _) _ _ _ rfl
      generalize hτb : lj_put τa 0 47 (Int32.ofNat (v + 1)) = τb at *
      have fc : lf aM τb (mW τb W.length (1, 0, 0, 0)) := mW_lf _ _ _
      have w2 := hnd_W w1 (4, Int32.ofNat ld, 0, 0)
      have l2 := (m_later w1.2.2.2.2.2.2.2.2.1 (by simp; omega) 4 (Int32.ofNat ld) 0 0).1
      have oc : ∀ k i, 20 ≤ k → k ≤ 24 → (mW τb W.length (1, 0, 0, 0)).1 k i = τb.1 k i := fun k i q1 q2 => by
        unfold mW
        rw [lj_put_1, if_neg (by omega), lj_put_1, if_neg (by omega), lj_put_1, if_neg (by omega), lj_put_1, if_neg (by omega), lj_put_1, if_neg (by omega)]
      have c2 : (mW τb W.length (1, 0, 0, 0)).2 = τb.2 := rfl
      generalize hτc : mW τb W.length (1, 0, 0, 0) = τc at *
      have fd : lf aM τc (mW τc ((1, 0, 0, 0) :: W : List wT).length (4, Int32.ofNat ld, 0, 0)) := mW_lf _ _ _
      have od : ∀ k i, 20 ≤ k → k ≤ 24 → (mW τc ((1, 0, 0, 0) :: W : List wT).length (4, Int32.ofNat ld, 0, 0)).1 k i = τc.1 k i := fun k i q1 q2 => by
        unfold mW
        rw [lj_put_1, if_neg (by omega), lj_put_1, if_neg (by omega), lj_put_1, if_neg (by omega), lj_put_1, if_neg (by omega), lj_put_1, if_neg (by omega)]
      have d2 : (mW τc ((1, 0, 0, 0) :: W : List wT).length (4, Int32.ofNat ld, 0, 0)).2 = τc.2 := rfl
      generalize hτd : mW τc ((1, 0, 0, 0) :: W : List wT).length (4, Int32.ofNat ld, 0, 0) = τd at *
      have fAll : lf aM τ τd := ((f0.tr fb).tr fc).tr fd
      have oAll : ∀ k i, 20 ≤ k → k ≤ 24 → τd.1 k i = τ.1 k i := fun k i q1 q2 => by rw [od k i q1 q2, oc k i q1 q2, ← hτb, lj_put_1, if_neg (by omega), oa k i q1]
      have dAll : τd.2 = τ.2 := by rw [d2, c2, ← hτb]; exact a2
      have hmlm : ml ≤ m := hPS.2.2.2.2.2
      have hPSd : PS b n T Q X F N FO Z PL cl ml p (v + 1) c m wh ((4, Int32.ofNat ld, 0, 0) :: (1, 0, 0, 0) :: W) σd τd := hPS.up hcv fAll w2 ⟨hpT, hv19, hbc, hbm, hb.2.2.2.2.1, by simp; omega⟩ (Nat.le_refl _) (Nat.le_refl _) (fun i hi => oAll 21 i (by omega) (by omega))
      have hTEd := hPSd.1.1
      have hd0 := hPSd.2.1
      have txd : TX N σ τ σd τd := by rw [← hσd]; exact putC_TX N σ τ 6 1 _ rfl (by omega) τd fAll dAll
      have Gd : GR N N F F p p c c m m σ τ σd τd := ⟨txd, lvX_rf _, Nat.le_refl _, Nat.le_refl _, Nat.le_refl _, Nat.le_refl _, ⟨fun k i q1 q2 _ _ => by rw [← hσd, lj_put_1, if_neg (by omega)], fun k i q1 q2 _ _ => oAll k i q1 (by omega)⟩⟩
      have s23 := m_isWord hTEd hpT hd0.2.1 13 (by omega) 14 rfl
      have s59 := m_isSign hTEd hpT hd0.2.1 19 (by omega) 35 rfl
      have s41 := m_isSign hTEd hpT hd0.2.1 1 (by omega) 45 rfl
      have s47 := m_isSign hTEd hpT hd0.2.1 7 (by omega) 126 rfl
      have eC : lj_R lc_P 75 [.ref 6, .int (Int32.ofNat lc)] σ = (if Int32.ofNat (Q p).1 = 23 then lj_D lc_P lc_M75 46 [.ref 6, .int (Int32.ofNat lc), .retAddr 0, .int (Int32.ofNat (Q p).1), .retAddr 0] [] σd else (if Int32.ofNat (Q p).1 = 59 then lj_D lc_P lc_M75 46 [.ref 6, .int (Int32.ofNat lc), .retAddr 0, .int (Int32.ofNat (Q p).1), .retAddr 0] [] σd else (if Int32.ofNat (Q p).1 = 41 then lj_D lc_P lc_M75 46 [.ref 6, .int (Int32.ofNat lc), .retAddr 0, .int (Int32.ofNat (Q p).1), .retAddr 0] [] σd else (if Int32.ofNat (Q p).1 = 47 then lj_D lc_P lc_M75 46 [.ref 6, .int (Int32.ofNat lc), .retAddr 0, .int (Int32.ofNat (Q p).1), .retAddr 0] [] σd else lj_bi (lj_R lc_P 79 [.ref 6] σd) (fun y7 σ6 => lj_D lc_P lc_M75 92 [.ref 6, .int (Int32.ofNat lc), .int y7, .int (Int32.ofNat (Q p).1), .retAddr 0] [] σ6) lj_up)))) := by
        rw [rc_75, kc_75_0, c_beginsE hTE hpT h1.1, if_pos hbE, bi_ok, if_neg (by decide), c_deeper hTE hpT h1.1 hv h1.2.2.1, if_neg e20, bv_ok, hσd, c_kind hTEd hpT hd0.1, bi_ok]
      have ne : ∀ c : Nat, c < 70 → (Q p).1 ≠ c → ¬ (Int32.ofNat (Q p).1 = Int32.ofNat c) := fun c hc q z => q ((ofN_eq (by omega) (by omega)).1 z)
      have eM : lj_R lm_P 59 [.ref 0, .int (Int32.ofNat ld)] τa = (if (Q p).1 = 23 ∨ (Q p).1 = 59 ∨ (Q p).1 = 41 ∨ (Q p).1 = 47 then lj_D lm_P lm_M59 73 [.ref 0, .int (Int32.ofNat ld), .retAddr 0, .retAddr 0] [] τd else lj_bi (lj_R lm_P 60 [.ref 0] τd) (fun y16 σ15 => some (.inl (some (.int (vp_nar .boolean y16))), σ15)) lj_up) := by
        rw [rm_59, km_59_0, m_beginsE hTEa hpT hpop.2.1, if_pos hbE, bi_ok, if_neg (by decide), m_enter hTEa hpT hpop.2.1 ha4 hv hpop.2.2.2.1, if_neg e20, bi_ok, if_neg (by decide), hτb, l1, bv_ok, l2, bv_ok, s23, bi_ok]
        by_cases a23 : (Q p).1 = 23
        · rw [if_pos (show (Q p).1 = 10 + 13 by omega), if_neg (by decide), if_pos (Or.inl a23)]
        · rw [if_neg (show ¬ (Q p).1 = 10 + 13 by omega), if_pos rfl, s59, bi_ok]
          by_cases a59 : (Q p).1 = 59
          · rw [if_pos (show (Q p).1 = 40 + 19 by omega), if_neg (by decide), if_pos (Or.inr (Or.inl a59))]
          · rw [if_neg (show ¬ (Q p).1 = 40 + 19 by omega), if_pos rfl, s41, bi_ok]
            by_cases a41 : (Q p).1 = 41
            · rw [if_pos (show (Q p).1 = 40 + 1 by omega), if_neg (by decide), if_pos (Or.inr (Or.inr (Or.inl a41)))]
            · rw [if_neg (show ¬ (Q p).1 = 40 + 1 by omega), if_pos rfl, s47, bi_ok]
              by_cases a47 : (Q p).1 = 47
              · rw [if_pos (show (Q p).1 = 40 + 7 by omega), if_neg (by decide), if_pos (Or.inr (Or.inr (Or.inr a47)))]
              · rw [if_neg (show ¬ (Q p).1 = 40 + 7 by omega), if_pos rfl, if_neg (by omega)]
      by_cases hu : (Q p).1 = 23 ∨ (Q p).1 = 59 ∨ (Q p).1 = 41 ∨ (Q p).1 = 47
      · -- one value
        rw [if_pos hu] at eM
        obtain ⟨hin, hkk, hvv⟩ := m_kindv hTEd hpT hd0.2.1
        have k10 : 10 ≤ (Q p).1 := by rcases hu with q | q | q | q <;> omega
        generalize hLn : Int32.ofNat (1 + tN b (Q p).2.1) = Ln at *
        generalize hcd : (if (Q p).1 = 23 then (0 : Int32) else (tkw (Q p).1).toInt32) = cd at *
        have u1 := hnd_W w2 (5, cd, Ln, 0)
        have k1 := (m_later w2.2.2.2.2.2.2.2.2.1 (by simp; omega) 5 cd Ln 0).1
        have fe : lf aM τd (mW τd ((4, Int32.ofNat ld, 0, 0) :: (1, 0, 0, 0) :: W : List wT).length (5, cd, Ln, 0)) := mW_lf _ _ _
        have oe : ∀ k i, 20 ≤ k → k ≤ 24 → (mW τd ((4, Int32.ofNat ld, 0, 0) :: (1, 0, 0, 0) :: W : List wT).length (5, cd, Ln, 0)).1 k i = τd.1 k i := fun k i q1 q2 => by
          unfold mW
          rw [lj_put_1, if_neg (by omega), lj_put_1, if_neg (by omega), lj_put_1, if_neg (by omega), lj_put_1, if_neg (by omega), lj_put_1, if_neg (by omega)]
        have e2' : (mW τd ((4, Int32.ofNat ld, 0, 0) :: (1, 0, 0, 0) :: W : List wT).length (5, cd, Ln, 0)).2 = τd.2 := rfl
        generalize hτe : mW τd ((4, Int32.ofNat ld, 0, 0) :: (1, 0, 0, 0) :: W : List wT).length (5, cd, Ln, 0) = τe at *
        have u2 := hnd_W u1 (3, 12, 0, 0)
        have k2 := (m_later u1.2.2.2.2.2.2.2.2.1 (by simp; omega) 3 12 0 0).1
        have ff : lf aM τe (mW τe ((5, cd, Ln, 0) :: (4, Int32.ofNat ld, 0, 0) :: (1, 0, 0, 0) :: W : List wT).length (3, 12, 0, 0)) := mW_lf _ _ _
        have of : ∀ k i, 20 ≤ k → k ≤ 24 → (mW τe ((5, cd, Ln, 0) :: (4, Int32.ofNat ld, 0, 0) :: (1, 0, 0, 0) :: W : List wT).length (3, 12, 0, 0)).1 k i = τe.1 k i := fun k i q1 q2 => by
          unfold mW
          rw [lj_put_1, if_neg (by omega), lj_put_1, if_neg (by omega), lj_put_1, if_neg (by omega), lj_put_1, if_neg (by omega), lj_put_1, if_neg (by omega)]
        have f2' : (mW τe ((5, cd, Ln, 0) :: (4, Int32.ofNat ld, 0, 0) :: (1, 0, 0, 0) :: W : List wT).length (3, 12, 0, 0)).2 = τe.2 := rfl
        generalize hτf : mW τe ((5, cd, Ln, 0) :: (4, Int32.ofNat ld, 0, 0) :: (1, 0, 0, 0) :: W : List wT).length (3, 12, 0, 0) = τf at *
        have hTEf : TE b n T Q σd τf := TE_up hTEd (lf_rf _ _) (fe.tr ff)
        have eM2 : lj_R lm_P 59 [.ref 0, .int (Int32.ofNat ld)] τa = some (.inl (some (.int 1)), lj_put τf 0 25 (Int32.ofNat (p + 1))) := by
          rw [eM, km_59_73, m_lineHere hTEd hpT hd0.2.1, hLn, bi_ok, s23, bi_ok]
          have k101 : lj_D lm_P lm_M59 101 [.ref 0, .int (Int32.ofNat ld), .int Ln, .retAddr 0] [.int cd] τd = some (.inl (some (.int 1)), lj_put τf 0 25 (Int32.ofNat (p + 1))) := by
            rw [km_59_101, k1, bv_ok, k2, bv_ok, m_take hTEf hpT u2.2.1 hK4.2, bi_ok]
            rfl
          by_cases a23 : (Q p).1 = 23
          · rw [if_pos (show (Q p).1 = 10 + 13 by omega), if_neg (by decide)]
            rw [if_pos a23] at hcd
            rw [hcd]; exact k101
          · rw [if_neg (show ¬ (Q p).1 = 10 + 13 by omega), if_pos rfl, if_pos hin, hvv k10]
            rw [if_neg a23] at hcd
            rw [hcd]; exact k101
        have hne := hnd_p u2 (p + 1)
        have fCe : lf aC σd (lj_put σd 6 0 (Int32.ofNat (p + 1))) := lf_put (lf_rf _ _) _ _ _ rfl
        have fMe : lf aM τd (lj_put τf 0 25 (Int32.ofNat (p + 1))) := lf_put (fe.tr ff) _ _ _ rfl
        have hst := c_step hTEd hpT hd0.1
        have hln := c_line hTEd hpT hd0.1
        rw [hLn] at hln
        have oσ : ∀ k i, k ≠ 6 → (lj_put σd 6 0 (Int32.ofNat (p + 1))).1 k i = σd.1 k i := fun k i q => by rw [lj_put_1, if_neg (by omega)]
        have oτ : ∀ k i, 20 ≤ k → k ≤ 24 → (lj_put τf 0 25 (Int32.ofNat (p + 1))).1 k i = τd.1 k i := fun k i q1 q2 => by rw [lj_put_1, if_neg (by omega), of k i q1 q2, oe k i q1 q2]
        have tx2 : TX N σd τd (lj_put σd 6 0 (Int32.ofNat (p + 1))) (lj_put τf 0 25 (Int32.ofNat (p + 1))) := putC_TX N σd τd 6 0 _ rfl (by omega) _ fMe (by show τf.2 = τd.2; rw [f2', e2'])
        have eL : mNx 1 (lj_put τf 0 25 (Int32.ofNat (p + 1))) = mLoop (lj_put τf 0 25 (Int32.ofNat (p + 1))) := by
          unfold mNx
          rw [if_neg (by decide), if_pos hne.2.2.2.2.2.2.2.2.2]
        generalize hσe : lj_put σd 6 0 (Int32.ofNat (p + 1)) = σe at *
        generalize hτg : lj_put τf 0 25 (Int32.ofNat (p + 1)) = τg at *
        have hPSe : PS b n T Q X F N FO Z PL cl ml (p + 1) (v + 1) c m wh ((3, Int32.ofNat 12, 0, 0) :: (5, cd, Ln, 0) :: (4, Int32.ofNat ld, 0, 0) :: (1, 0, 0, 0) :: W) σe τg := hPSd.up fCe fMe hne ⟨by omega, hv19, by omega, by omega, by have := hb.2.2.2.2.1; omega, by simp; omega⟩ (Nat.le_refl _) (Nat.le_refl _) (fun i hi => oτ 21 i (by omega) (by omega))
        have hIH := ih F N FO Z PL cl ml (p + 1) (v + 1) c m wh _ σe τg f s l 10 12 (by omega) hPSe hN (hFO.up (by omega) (by omega)) (Or.inr (Or.inr (Or.inr (Or.inr ⟨rfl, rfl⟩)))) (by simp; omega)
        have eC2 : lj_R lc_P 75 [.ref 6, .int (Int32.ofNat lc)] σ = lj_bi (lj_R lc_P 75 [.ref 6, .int (Int32.ofNat 10)] σe) (fun y5 σ4 => lj_bv (lj_R lc_P 78 [.ref 6, .int y5] σ4) (fun σ6 => lj_bi (lj_R lc_P 54 [.ref 5, .int 29, .int (Int32.ofNat (Q p).1), .int Ln] σ6) (fun y8 σ7 => lj_D lc_P lc_M75 92 [.ref 6, .int (Int32.ofNat lc), .int 0, .int (Int32.ofNat (Q p).1), .int Ln] [] σ7) lj_up) lj_up) lj_up := by
          have k46 : lj_D lc_P lc_M75 46 [.ref 6, .int (Int32.ofNat lc), .retAddr 0, .int (Int32.ofNat (Q p).1), .retAddr 0] [] σd = lj_bi (lj_R lc_P 75 [.ref 6, .int (Int32.ofNat 10)] σe) (fun y5 σ4 => lj_bv (lj_R lc_P 78 [.ref 6, .int y5] σ4) (fun σ6 => lj_bi (lj_R lc_P 54 [.ref 5, .int 29, .int (Int32.ofNat (Q p).1), .int Ln] σ6) (fun y8 σ7 => lj_D lc_P lc_M75 92 [.ref 6, .int (Int32.ofNat lc), .int 0, .int (Int32.ofNat (Q p).1), .int Ln] [] σ7) lj_up) lj_up) lj_up := by
            rw [kc_75_46, hln, bi_ok, hst, bv_ok]
            rfl
          rw [eC, k46]
          rcases hu with q | q | q | q
          · rw [if_pos (by rw [q]; rfl)]
          · rw [if_neg (show ¬ (Int32.ofNat (Q p).1 = 23) from ne 23 (by omega) (by omega)), if_pos (by rw [q]; rfl)]
          · rw [if_neg (show ¬ (Int32.ofNat (Q p).1 = 23) from ne 23 (by omega) (by omega)), if_neg (show ¬ (Int32.ofNat (Q p).1 = 59) from ne 59 (by omega) (by omega)), if_pos (by rw [q]; rfl)]
          · rw [if_neg (show ¬ (Int32.ofNat (Q p).1 = 23) from ne 23 (by omega) (by omega)), if_neg (show ¬ (Int32.ofNat (Q p).1 = 59) from ne 59 (by omega) (by omega)), if_neg (show ¬ (Int32.ofNat (Q p).1 = 41) from ne 41 (by omega) (by omega)), if_pos (by rw [q]; rfl)]
        rw [goE 1 _ (Or.inr rfl) eM2, eL, eC2]
        rcases hIH with hf | ⟨what3, σ3, τ3, p3, c3, m3, wh3, F3, N3, i1, i2, i3, i4, i5, i6, i7, i8, i9⟩
        · exact Or.inl (flt_bi hf _)
        · have i4' := i4
          obtain ⟨j1, j2, j3, j4, j5, j6, j7⟩ := i4'
          have hb3 := i3.2.2.1
          have hb31 := hb3.1
          have hb32 := hb3.2.2.1
          have hb33 := hb3.2.2.2.1
          obtain ⟨σ4, c4, g4, hPS4, hE4, hcc4, hcc4', tx4, fz4, fl4⟩ := ex_get i3 i8 (by omega) hT5 j5 j6
          have h4h := hPS4.2.1
          have c4b : c4 < 14000 := by omega
          have m3b : m3 < 14000 := by omega
          have hp4 := hnd_pop h4h
          have hW4 : ((4, Int32.ofNat ld, 0, 0) :: (1, 0, 0, 0) :: W : List wT).length < 4000 := by simp; omega
          have f3a : lf aM τ3 (lj_put τ3 0 46 (Int32.ofNat ((4, Int32.ofNat ld, 0, 0) :: (1, 0, 0, 0) :: W : List wT).length)) := lf_put (lf_rf _ _) _ _ _ rfl
          have w46 := h4h.2.2.2.2.2.2.2.2.1
          generalize hτ3a : lj_put τ3 0 46 (Int32.ofNat ((4, Int32.ofNat ld, 0, 0) :: (1, 0, 0, 0) :: W : List wT).length) = τ3a at *
          obtain ⟨o, aa, ll, q1, q2⟩ := m_unary τ3a hp4.2.2.2.2.2.1 m3b (Q p).1 hu Ln
          rw [hcd] at q2
          generalize hσ5 : cP σ4 c4 29 (Int32.ofNat (Q p).1) 0 0 Ln = σ5
          generalize hτ4 : mP (lj_put τ3a 0 64 (-1)) m3 o aa 0 ll = τ4 at q2
          have hn5 : hnd p3 (v + 1) (c4 + 1) (m3 + 1) wh3 ((4, Int32.ofNat ld, 0, 0) :: (1, 0, 0, 0) :: W) σ5 τ4 := by
            rw [← hσ5, ← hτ4]
            exact hnd_C (hnd_M (hnd_ch hp4 0 64 (-1) (by omega)) _ _ _ _) _ _ _ _ _
          have f5 : lf aC σ4 σ5 := by rw [← hσ5]; exact cP_lf _ _ _ _ _ _ _
          have f34 : lf aM τ3 τ4 := by rw [← hτ4]; exact (lf_put f3a _ _ _ rfl).tr (mP_lf _ _ _ _ _ _)
          have g5 := cP_get σ4 c4 29 (Int32.ofNat (Q p).1) 0 0 Ln
          have gm := mP_get (lj_put τ3a 0 64 (-1)) m3 o aa 0 ll
          rw [hσ5] at g5
          rw [hτ4] at gm
          have o5 : ∀ k i, i < c4 → 22 ≤ k → k ≤ 26 → σ5.1 k i = σ4.1 k i := fun k i q1 q2 q3 => by rw [← hσ5, cP_o _ _ _ _ _ _ _ _ _ (by omega) (by omega)]
          have o4 : ∀ k i, i < m3 → 20 ≤ k → k ≤ 23 → τ4.1 k i = τ3.1 k i := fun k i q1 q2 q3 => by rw [← hτ4, mP_o _ _ _ _ _ _ _ _ (by omega) (by omega), lj_put_1, if_neg (by omega), ← hτ3a, lj_put_1, if_neg (by omega)]
          have e64 : τ4.1 0 64 = -1 := by rw [← hτ4, mP_o _ _ _ _ _ _ _ _ (by omega) (by omega), lj_put_1, if_pos ⟨rfl, rfl⟩]
          have hml3 : ml ≤ m3 := hPS4.2.2.2.2.2
          have hPS5 : PS b n T Q X F3 N3 FO Z PL cl ml p3 (v + 1) (c4 + 1) (m3 + 1) wh3 ((4, Int32.ofNat ld, 0, 0) :: (1, 0, 0, 0) :: W) σ5 τ4 := hPS4.up f5 f34 hn5 ⟨hb3.1, hv19, by omega, by omega, hb3.2.2.2.2.1, by simp; omega⟩ (by omega) (by omega) (fun i hi => o4 21 i (by omega) (by omega) (by omega))
          have tx5 : TX N3 σ4 τ3 σ5 τ4 := by
            refine TX_up N3 f5 f34 ?_ ?_ (fun i _ => ⟨by rw [← hσ5]; rfl, by rw [← hτ4, ← hτ3a]; rfl⟩)
            · unfold lv; rw [g5.2.2.2.2.2, h4h.2.2.2.2.1, lz_lit (by omega), lz_lit (by omega)]; omega
            · unfold lv; rw [← hσ5, cP_o _ _ _ _ _ _ _ _ _ (by omega) (by omega)]; exact Int.le_refl _
          have z45 : fz 0 c4 0 m3 σ4 τ3 σ5 τ4 := ⟨fun k i q1 q2 _ q4 => o5 k i q4 q1 q2, fun k i q1 q2 _ q4 => o4 k i q4 q1 q2⟩
          have z12 : fz 0 c 0 m σd τd σe τg := ⟨fun k i q1 q2 _ q4 => oσ k i (by omega), fun k i q1 q2 _ q4 => oτ k i q1 (by omega)⟩
          have G12 : GR N N F F p (p + 1) c c m m σd τd σe τg := ⟨tx2, lvX_rf _, Nat.le_refl _, by omega, Nat.le_refl _, Nat.le_refl _, z12⟩
          have G34 : GR N3 N3 F3 F3 p3 p3 c3 c4 m3 m3 σ3 τ3 σ4 τ3 := ⟨tx4, lvX_rf _, Nat.le_refl _, Nat.le_refl _, hcc4, Nat.le_refl _, fz4⟩
          have G45 : GR N3 N3 F3 F3 p3 p3 c4 (c4 + 1) m3 (m3 + 1) σ4 τ3 σ5 τ4 := ⟨tx5, lvX_rf _, Nat.le_refl _, Nat.le_refl _, by omega, by omega, z45⟩
          have GA := (((Gd.tr G12).tr i4).tr G34).tr G45
          have hN3 := hdN_X hN j2
          have hE5 : exS f s l N3 c m (c4 + 1) (m3 + 1) 0 σ5 τ4 := by
            rcases hE4 with ⟨_, hE4⟩ | ⟨q, _⟩ | ⟨q, _⟩
            · refine Or.inl ⟨rfl, fun σ6 τ6 t6 z6 => ?_⟩
              have s2 := hE4 σ6 τ6 (tx5.tr t6 (fun _ _ q => q)) ((z45.mo (by omega) (by omega) (by omega) (by omega)).tr (z6.mo (by omega) (by omega) (by omega) (by omega)))
              refine s2.tr (fun y hy => ?_)
              rw [hy]
              obtain ⟨z, R, eN, ez, el⟩ := hN3
              obtain ⟨fl, FO', eF, ef⟩ := hFO.1
              have hS4 := hPS4.1.2.2.2.2.2
              have hscl : scl σ6 f c4 s l 50 := by
                rw [← ez, ← el]
                rw [eN, eF] at hS4
                exact scl_mk hS4.2 hS4.1 f5 (by unfold lv; rw [g5.2.2.2.2.2, lz_lit (by omega)]) t6 c4b ef
              have x22 : σ6.1 22 c4 = 29 := by rw [z6.1 22 c4 (by omega) (by omega) (by omega) (by omega)]; exact g5.1
              have x23 : σ6.1 23 c4 = Int32.ofNat (Q p).1 := by rw [z6.1 23 c4 (by omega) (by omega) (by omega) (by omega)]; exact g5.2.1
              have x26 : σ6.1 26 c4 = Ln := by rw [z6.1 26 c4 (by omega) (by omega) (by omega) (by omega)]; exact g5.2.2.2.2.1
              have y20 : τ6.1 20 m3 = o := by rw [z6.2 20 m3 (by omega) (by omega) (by omega) (by omega)]; exact gm.1
              have y21 : τ6.1 21 m3 = aa := by rw [z6.2 21 m3 (by omega) (by omega) (by omega) (by omega)]; exact gm.2.1
              have y23 : τ6.1 23 m3 = ll := by rw [z6.2 23 m3 (by omega) (by omega) (by omega) (by omega)]; exact gm.2.2.2.1
              rcases q1 with ⟨a1, a2⟩ | ⟨a1, a2⟩
              · refine seg_in [(f, c4 + 1, m3 + 1, 0 :: s, l, 50)] ⟨35, s, rfl, x22, ?_, ?_, rfl⟩ (fun y hy => ?_)
                · show σ6.1 23 c4 = 23; rw [x23, a1]; rfl
                · show τ6.1 20 m3 = 35; rw [y20, a2]
                · rw [List.mem_singleton.1 hy]; exact seg_ex rfl
              · refine seg_in [(f, c4 + 1, m3 + 1, 0 :: s, l, 50)] ⟨36, s, rfl, x22, ?_, ?_, hscl, rfl⟩ (fun y hy => ?_)
                · show σ6.1 23 c4 = 59 ∧ τ6.1 20 m3 = 34 ∨ σ6.1 23 c4 = 41 ∧ τ6.1 20 m3 = 32 ∧ τ6.1 21 m3 = 13 ∨ σ6.1 23 c4 = 47 ∧ τ6.1 20 m3 = 32 ∧ τ6.1 21 m3 = 14
                  rw [x23, y20, y21]
                  rcases a1 with ⟨b1, b2⟩ | ⟨b1, b2, b3⟩ | ⟨b1, b2, b3⟩
                  · exact Or.inl ⟨by rw [b1]; rfl, b2⟩
                  · exact Or.inr (Or.inl ⟨by rw [b1]; rfl, b2, b3⟩)
                  · exact Or.inr (Or.inr ⟨by rw [b1]; rfl, b2, b3⟩)
                · show σ6.1 26 c4 = τ6.1 23 m3; rw [x26, y23, a2]
                · rw [List.mem_singleton.1 hy]; exact seg_ex rfl
            · exact absurd q (by decide)
            · exact absurd q (by decide)
          have e2 : mLoop τ3 = mLoop τ4 := by
            refine m_go w46 hW4 (y := 1) ?_ (by decide) hn5.2.2.2.2.2.2.2.2.2
            show lj_R lm_P 30 [.ref 0, .int 5, .int cd, .int Ln, .int 0] _ = _
            rw [rm_30, km_30_0, if_neg (by decide), if_neg (by decide), if_neg (by decide), if_neg (by decide), if_neg (by decide), if_pos rfl, hτ3a, q2]
            rfl
          rw [i1, bi_ok, g4, bv_ok, c_put3 h4h.2.2.2.2.1 c4b, bi_ok, hσ5, i2, e2]
          exact cm_ops k ih hFO hB hWl hbc hbm hlim hT5 hPS.2.2.2.2.1.2.2 (k + 1) F3 N3 p3 (c4 + 1) (m3 + 1) wh3 σ5 τ4 0 _ _ (by omega) (by omega) hPS5 hN3 hE5 GA (by omega) (by omega) (by omega) (fun _ => e64)
      · -- an operand
        obtain ⟨y, τ1, o1, o2, o3⟩ := ihO F N FO Z PL cl ml p (v + 1) c m wh _ σd τd f s l hTp hPSd hN (hFO.up (by omega) (by omega)) (by simp; omega) hPS.2.2.2.2.1.2.2.2.2.1 hbE hu
        rw [if_neg hu, o1, bi_ok, vpb y o2] at eM
        rw [goE y τ1 o2 eM, eC, if_neg (show ¬ (Int32.ofNat (Q p).1 = 23) from ne 23 (by omega) (by omega)), if_neg (show ¬ (Int32.ofNat (Q p).1 = 59) from ne 59 (by omega) (by omega)), if_neg (show ¬ (Int32.ofNat (Q p).1 = 41) from ne 41 (by omega) (by omega)), if_neg (show ¬ (Int32.ofNat (Q p).1 = 47) from ne 47 (by omega) (by omega))]
        rcases o3 with hf | ⟨what, σ2, τ2, p2, c2', m2, wh2, F2, N2, i1, i2, i3, i4, i5, i6, i7, i8, i9⟩
        · exact Or.inl (flt_bi hf _)
        · rw [i1, bi_ok, i2]
          have GG := Gd.tr i4
          exact cm_ops k ih hFO hB hWl hbc hbm hlim hT5 hPS.2.2.2.2.1.2.2 (k + 1) F2 N2 p2 c2' m2 wh2 σ2 τ2 what _ _ (by omega) (by omega) i3 (hdN_X hN i4.2.1) i8 GG (by omega) (by omega) (by omega) i9
  · -- no expression
    have em : lj_R lm_P 59 [.ref 0, .int (Int32.ofNat ld)] τa = some (.inl (some (.int 0)), mFl τa (fq (Q p).1 2) (Q p).2.1) := by
      rw [rm_59, km_59_0, m_beginsE hTEa hpT hpop.2.1, if_neg hbE, bi_ok, if_pos rfl, m_wrong hTEa hpT hpop.2.1 ha4, bi_ok]
      rfl
    rw [goE 0 _ (Or.inl rfl) em, rc_75, kc_75_0, c_beginsE hTE hpT h1.1, if_neg hbE, bi_ok, if_pos rfl, c_throw hTE hpT h1.1]
    refine Or.inl ?_
    unfold mNx
    rw [if_pos rfl]
    exact flt_mk (m := m) ha41 (by omega) (fq_ok _ (Or.inl rfl)) hpl
