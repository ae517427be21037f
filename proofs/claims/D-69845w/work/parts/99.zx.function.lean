/-! statements: function -/
theorem cs_fn {b : Nat → Int32} {n T : Nat} {Q : tkQ} {X : List Int32 → Prop} (hT5 : T ≤ 520) (k : Nat) (hB : CB b n T Q X k) {F : Nat} {N : List lT} {FO0 : List fT} {nl rv : Nat} {fl : List Nat} {Z : List zT} {PL : List qT} {cl ml : Nat} {p v c m wh : Nat} {W : List wT} {σ τ : lj_S} {f : Nat} {s l lB : List Nat} {D : Nat} (hTp : T - p < k + 1) (h : PS b n T Q X F N (((nl, rv), fl) :: FO0) Z PL cl ml p v c m wh W σ τ) (hN : hdN N f l) (hNv : N.length ≤ v) (hs : fls s fl) (hW : W.length + 25 ≤ 40 * v + 60) (hc : c + 40 ≤ 25 * p + 100) (hm : m + 40 ≤ 25 * p + 100) (a18 : (Q p).1 = 18) :
    ∃ y τ', (y = 0 ∨ y = 1) ∧ lj_R lm_P 42 [.ref 0] τ = some (.inl (some (.int y)), τ') ∧ stR b n T Q X FO0 nl rv fl Z PL v W f s l lB D N F p c m σ τ (fun p' => p < p') 0 (lj_bi (lj_R lc_P 54 [.ref 5, .int 0, .int 0, .int 0] σ) (fun _ σ1 => lj_R lc_P 106 [.ref 6] σ1) lj_up) (mNx y τ') := by
  have hv20 := h.2.2.1.2.1
  have hfv := h.fv
  have hsB : sB s := hs.sb hfv hv20
  have hpT := h.2.2.1.1
  have hv20 := h.2.2.1.2.1
  have hlt : p < T := h.lt (by omega) (by omega)
  have hp1 : p + 1 ≤ T := hlt
  have c14 := h.c14 hT5
  have h1 := h.2.1
  have hNe := hdN_ne hN
  have P1 := h.C (by omega) hT5 0 0 0 0 0
  have P2 := P1.1.M (by omega) 0 0 0 0
  have P3 := P2.1.st hlt
  have P4 := P3.1.M (by omega) 14 0 0 0
  have h3 := P3.1.2.1
  have ha := P4.1.2.1
  have hTEa := P4.1.1.1
  have hk := tk_lt P3.1.1.1 hp1
  obtain ⟨hin, hkk, hvv⟩ := m_kindv P3.1.1.1 hp1 h3.2.1
  obtain ⟨hin4, hkk4, hvv4⟩ := m_kindv P4.1.1.1 hp1 ha.2.1
  have t1 : ∀ k : Fin 70, ((tkk k.val = 1) ↔ k.val = 1) := by decide
  have t1' := t1 ⟨(Q (p + 1)).1, hk⟩
  have eM : lj_R lm_P 42 [.ref 0] τ = _ := m_st42 h hT5 (by omega)
  rw [a18] at eM
  unfold mSt at eM
  rw [if_neg (by decide), if_neg (by decide), if_neg (by decide), if_neg (by decide), if_neg (by decide), if_neg (by decide), if_pos (by decide), rm_50, km_50_0, if_pos hin, hkk] at eM
  rw [c_put3 h1.2.2.2.2.1 (by omega), bi_ok, rc_106, kc_106_0, c_step P1.1.1.1 hpT P1.1.2.1.1, bv_ok, c_kind P3.1.1.1 hp1 h3.1, bi_ok]
  have G4 := P1.2.tr (P2.2.tr (P3.2.tr P4.2))
  by_cases a1 : (Q (p + 1)).1 = 1
  · have hlt1 : p + 1 < T := P3.1.lt (by omega) (by omega)
    have hp2 : p + 2 ≤ T := hlt1
    obtain ⟨n1, n2, n3, n4, n5⟩ := (hTEa.2.2.2.2.1 (p + 1) hp1).2.2.2.2.2.2.2.2.1 (Or.inl a1)
    have hn520 := hTEa.2.1
    have hTn := hTEa.2.2.1
    rw [if_pos (show tkk (Q (p + 1)).1 = 1 from t1'.2 a1), m_emit h3.2.2.2.2.2.1 (by omega), bi_ok, if_pos hin4, m_here hTEa hp1 ha.2.1, bi_ok, ha.2.1, lz_onat (by omega), n4, Int32.toInt32_toInt64] at eM
    rw [if_pos (show Int32.ofNat (Q (p + 1)).1 = 1 by rw [a1]; rfl)]
    rcases cm_name hTEa hp1 h3.1 a1 P4.1.1.2.1 P4.1.1.2.2.1 ha.2.2.2.2.2.2.2.2.2 with ⟨what, srt, v1, v2, N', σ', τ', r1, r2, r3, r4, r5, r6, r7, r8, r9, r10, r11, r12, r13, r14, r15, r16, r17⟩ | ⟨σ', τ', r1, r2, r3, r4, r5, r6⟩
    · have hw' : mWt τ' W := mWt_cg ha.2.2.2.2.2.2.2.2.1 (r15 0 46 rfl).1 (fun k j q => (r15 k j (by simp [nmcM, capM]; omega)).1)
      have e4 : τ'.1 0 4 = 0 := by rw [(r15 0 4 rfl).1]; exact ha.2.2.2.2.2.2.2.2.2
      have e25 : τ'.1 0 25 = Int32.ofNat (p + 1) := by rw [(r15 0 25 rfl).1]; exact ha.2.1
      have gp : lf pM (mP (lj_put (mP τ m 0 0 0 0) 0 25 (Int32.ofNat (p + 1))) (m + 1) 14 0 0 0) τ' := r15.mo (fun k j q => by have := pM_k q; simp [nmcM, capM]; omega)
      rw [r2, bv_ok, if_neg (by rw [e4]; decide), m_take (TE_pp hTEa (lf_rf _ _) gp) hp1 e25 (by omega), bi_ok, if_neg (by decide)] at eM
      have oT : ∀ k j, ¬ (k = 0 ∧ j = 25) → (lj_put τ' 0 25 (Int32.ofNat (p + 1 + 1))).1 k j = τ'.1 k j := fun k j q => by rw [lj_put_1, if_neg q]
      have hh : hnd (p + 2) v (c + 1) (m + 2) wh W σ' (lj_put τ' 0 25 (Int32.ofNat (p + 1 + 1))) := ⟨r6, by rw [lj_put_1, if_pos ⟨rfl, rfl⟩], by rw [(r14 6 1 rfl).1]; exact ha.2.2.1, by rw [oT _ _ (by omega), (r15 0 47 rfl).1]; exact ha.2.2.2.1, by rw [(r14 5 0 rfl).1]; exact ha.2.2.2.2.1, by rw [oT _ _ (by omega), (r15 0 41 rfl).1]; exact ha.2.2.2.2.2.1, by rw [(r14 5 6 rfl).1]; exact ha.2.2.2.2.2.2.1, by rw [oT _ _ (by omega), (r15 0 40 rfl).1]; exact ha.2.2.2.2.2.2.2.1, mWt_cg hw' (oT _ _ (by omega)) (fun k j q => oT _ _ (by omega)), by rw [oT _ _ (by omega)]; exact e4⟩
      have PN := P4.1.nm r14 r15 r12 r13 r16 r17 (lf_put (lf_rf _ _) _ _ _ rfl) (Nat.le_succ (p + 1)) hh ⟨(by omega), hv20, (by omega), (by omega), by have := P4.1.2.2.1.2.2.2.2.1; omega, by have := P4.1.2.2.1.2.2.2.2.2; exact this⟩ (fun _ => rfl) (fun k j _ _ => oT _ _ (by omega))
      have hN' := hdN_X hN r13
      have hF2 : hdF (3 * v) 1 (((nl, rv), fl) :: FO0) (2 :: s) := (hs.hd hfv).t
      have hsB2 : sB (2 :: s) := hF2.sb (by omega) (by omega)
      have chs : chS f (2 :: s) l N' (c + 1) (m + 2) (c + 1) (m + 2) what σ' (lj_put τ' 0 25 (Int32.ofNat (p + 1 + 1))) := by
        refine Or.inr (Or.inr (Or.inl ⟨srt, v1, v2, _, _, ?_, ?_, ?_, r3, r4, r5, r7, ?_, ?_, ?_, rfl, rfl⟩))
        · rcases r3 with ⟨e, _⟩ | ⟨e, _⟩ | ⟨e, _⟩
          · exact Or.inl e
          · exact Or.inr (Or.inl e)
          · exact Or.inr (Or.inr e)
        · rcases r3 with ⟨e, e', _⟩ | ⟨e, e', _⟩ | ⟨e, e', _⟩
          · exact Or.inl ⟨e, e'⟩
          · exact Or.inr (Or.inl ⟨e, e'⟩)
          · exact Or.inr (Or.inr (Or.inl ⟨e, e'⟩))
        · rw [oT 0 61 (by omega)]; exact r9
        · rw [oT 0 62 (by omega)]; exact r10
        · rw [oT 0 63 (by omega), r8, r11]
        · intro e
          rcases r3 with ⟨e', _⟩ | ⟨e', _⟩ | ⟨_, _, e1, e2⟩
          · rw [e] at e'; exact absurd e' (by decide)
          · rw [e] at e'; exact absurd e' (by decide)
          · rw [e1, e2]; exact n5.up PN.2.1.1
      have hwh : what = 3 ∨ what = 4 ∨ what = 5 ∨ what = 6 := by
        rcases r3 with ⟨e, _⟩ | ⟨e, _⟩ | ⟨e, _⟩
        · exact Or.inl e
        · exact Or.inr (Or.inl e)
        · exact Or.inr (Or.inr (Or.inl e))
      rw [r1, bi_ok]
      rcases fn_loop hT5 hF2 hsB2 hN' (T + 1) (p + 2) (c + 1) (m + 2) σ' _ what (Int32.ofNat (m + 1)) (.retAddr 0) (.retAddr 0) (by omega) PN.1 chs hwh (by omega) (by omega) (by omega) (by omega) with ⟨τx, q1, q2⟩ | ⟨p3, c3, m3, σ3, τ3, w3, me, xa, y3, y3', q1, q2, q3, q4, q5, q6, q7, q8, q9⟩
      · rw [q1, bi_ok] at eM
        refine ⟨0, τx, Or.inl rfl, eM, Or.inl ?_⟩
        rw [nx0]; exact q2
      · have W1 := q4.la (by omega) (41, τ3.1 0 61, τ3.1 0 62, τ3.1 0 63)
        have W2 := W1.1.la (by simp; omega) (19, Int32.ofNat me, 0, 0)
        have c143 := q4.c14 hT5
        have hcc3 := q5.2.2.2.2.1
        have hmm3 := q5.2.2.2.2.2.1
        have hpp3 := q5.2.2.2.1
        rw [q2, km_50_177, (m_later q4.2.1.2.2.2.2.2.2.2.2.1 (by omega) 41 (τ3.1 0 61) (τ3.1 0 62) (τ3.1 0 63)).1, bv_ok, (m_later W1.1.2.1.2.2.2.2.2.2.2.2.1 (by simp; omega) 19 (Int32.ofNat me) 0 0).1, bv_ok, bi_ok] at eM
        refine ⟨1, _, Or.inr rfl, eM, ?_⟩
        have e122 : lj_D lc_P lc_M106 122 [.ref 6, .int w3, .int (Int32.ofNat me), y3, .retAddr 0] [] σ3 = lj_bv (lj_R lc_P 81 [.ref 6, .int (Int32.ofNat me)] σ3) (fun σ1 => fsC w3 (Int32.ofNat me) (σ3.1 6 16) (σ3.1 6 17) (lj_put (lj_put σ1 6 16 (σ3.1 6 16)) 6 17 (σ3.1 6 17))) lj_up := by rw [kc_106_122]; rfl
        rw [nx1 W2.1.2.1, q1, e122]
        have hFS : hdF (16 * v + 78) (v + 4) (((nl, rv), fl) :: FO0) (if w3 = 6 then 0 :: 0 :: 2 :: s else 2 :: s) := by
          split
          · exact hF2.z.z.up (by omega) (by omega)
          · exact hF2.up (by omega) (by omega)
        rcases hB F N' _ Z PL cl ml p3 v c3 m3 wh ((41, τ3.1 0 61, τ3.1 0 62, τ3.1 0 63) :: W) σ3 _ f (if w3 = 6 then 0 :: 0 :: 2 :: s else 2 :: s) l me (by omega) W2.1 hN' hFS q3 (by simp; omega) (by rw [(lvX_map r13).2.1]; exact hNv) (by omega) (by omega) with hf | ⟨σ5, τ5, p5, c5, m5, wh5, F5, N5, j1, j2, j3, j4, j5, j6, j7, j8, j9⟩
        · exact Or.inl (flt_bv hf _)
        rcases j8 with ⟨_, hE⟩ | ⟨q, _⟩ | ⟨q, _⟩
        rotate_left
        · exact absurd q (by decide)
        · exact absurd q (by decide)
        have c145 := j3.c14 hT5
        have hp5 := j3.2.2.1.1
        have hcc5 := j4.2.2.2.2.1
        have hmm5 := j4.2.2.2.2.2.1
        have hpp5 := j4.2.2.2.1
        have B1 := j3.pop
        have H35 := W1.2.tr (W2.2.tr (j4.tr B1.2))
        obtain ⟨σ6, τ6, c6, f1, f2, f3, f4, f5, f6⟩ := fn_store hT5 (hs.hd hfv : hdF (3 * v) 0 (((nl, rv), fl) :: FO0) s) hsB q4 hN' q6 q7 B1.1 (hdN_X hN' j4.2.1) H35 (by omega) (by omega) (Int32.ofNat me) (σ3.1 6 16) (σ3.1 6 17)
        have go5 : mLoop τ5 = mNx 1 τ6 := j3.go (Or.inr rfl) (by
          rw [rm_30, km_30_0, if_neg (by decide), if_neg (by decide), if_neg (by decide), if_neg (by decide), if_neg (by decide), if_neg (by decide), if_neg (by decide), if_neg (by decide), if_neg (by decide), if_neg (by decide), if_neg (by decide), if_neg (by decide), if_neg (by decide), if_neg (by decide), if_neg (by decide), if_neg (by decide), if_neg (by decide), if_neg (by decide), if_neg (by decide), if_neg (by decide), if_neg (by decide), rm_86, km_86_0, if_neg (by decide), if_neg (by decide), if_neg (by decide), if_neg (by decide), if_neg (by decide), if_neg (by decide), if_neg (by decide), if_neg (by decide), if_neg (by decide), if_neg (by decide), if_neg (by decide), if_neg (by decide), if_neg (by decide), if_neg (by decide), if_neg (by decide), if_neg (by decide), if_neg (by decide), if_neg (by decide), if_neg (by decide), if_neg (by decide), if_pos rfl, f2, bi_ok, bi_ok]
          rfl)
        rw [j1, bv_ok, f1, j2, go5, nx1 f3.2.1]
        have hcc6 := f4.2.2.2.2.1
        have G3 := G4.tr (PN.2.tr q5)
        refine Or.inr ⟨σ6, τ6, p5, c6, m5 + 2, wh5, F5, N5, nl, [], [], rfl, rfl, by rw [adB_nil]; exact f3.top, (G3.tr (H35.tr f4)).gs hNe, (Nat.le_refl _), fun y hy => by simp at hy, (by omega), (by omega), (by omega), fun x hx => by simp at hx, fun q => absurd rfl q, fun σ2 τ2 L => ?_⟩
        have L6 := L.lt
        have L5' := f4.bk L6
        have L5 := B1.2.bk L5'
        have L3 := H35.bk L5'
        have LN := q5.bk L3
        have La := PN.2.bk LN
        have k4 := La.gM (by omega)
        have Lb := P3.2.bk (P4.2.bk La)
        have k2 := Lb.gM (by omega)
        have k1 := (P2.2.bk Lb).gC (by omega)
        refine seg0_in [(f, c + 1, m + 1, s, l, 50)] ⟨k1.1, k2.1, rfl⟩ (fun y hy => ?_)
        rw [List.mem_singleton.1 hy]
        refine seg_in [(f, c + 1, m + 2, 2 :: s, l, 50)] ⟨17, k4.1, rfl⟩ (fun y hy => ?_)
        rw [List.mem_singleton.1 hy]
        have sgC : seg σ2 τ2 (f, c + 1, m + 2, 2 :: s, l, 50) (fun y => y = (f, c3, m3, (if w3 = 6 then 0 :: 0 :: 2 :: s else 2 :: s), l, 50)) := by
          rcases q6 with ⟨q, _⟩ | ⟨q, _⟩ | ⟨srt', v1', v1'', a, a', q, u1, u2, u3, u4, u5, u6, u7, u8, u9, u10, u11⟩ | ⟨q, u1, u2, u3⟩
          · rw [q] at q7; exact absurd q7 (by decide)
          · rw [q] at q7; exact absurd q7 (by decide)
          · have n6 : ¬ (w3 = 6) := by rcases q with e | e | e <;> rw [e] <;> decide
            rw [if_neg n6, u10, u11]
            exact seg_ex rfl
          · rw [if_pos q]
            exact u3 σ2 τ2 L3.1 (L3.2.mo (by omega) (by omega) (by omega) (by omega))
        refine sgC.tr (fun y hy => ?_)
        rw [hy]
        refine (hE σ2 τ2 L5.1 (L5.2.mo (by omega) (by omega) (by omega) (by omega))).tr (fun y hy => ?_)
        rw [hy]
        have := f6 σ2 τ2 ⟨L6.1, L6.2.mo (by omega) (by omega) (by omega) (by omega)⟩
        rw [show (0 :: (if w3 = 6 then 0 :: 0 :: 2 :: s else 2 :: s)) = (if w3 = 6 then 0 :: 0 :: 0 :: 2 :: s else 0 :: 2 :: s) by split <;> rfl]
        exact this.tr (fun y hy => seg_ex (Or.inl hy))
    · have o4 : τ'.1 0 4 = 3 := r3
      rw [r2, bv_ok, if_pos (by rw [o4]; decide), km_50_60, bi_ok] at eM
      refine ⟨0, τ', Or.inl rfl, eM, ?_⟩
      rw [nx0, r1]
      refine Or.inl ⟨_, _, 3, (Q (p + 1)).2.1, rfl, m_bad (m := m + 2) (by rw [r5]; exact ha.2.2.2.2.2.1) (by omega), ?_, ?_, ?_, ?_, Or.inr (Or.inr (Or.inl rfl)), (hTEa.2.2.2.2.1 (p + 1) hp1).2.2.2.2.1⟩
      · unfold cFl; rw [lj_put_1, if_neg (by omega), lj_put_1, if_pos ⟨rfl, rfl⟩]
      · unfold cFl; rw [lj_put_1, if_pos ⟨rfl, rfl⟩]
      · rw [mP_o _ _ _ _ _ _ _ _ (by omega) (by omega), mP_o _ _ _ _ _ _ _ _ (by omega) (by omega)]; exact o4
      · rw [mP_o _ _ _ _ _ _ _ _ (by omega) (by omega), mP_o _ _ _ _ _ _ _ _ (by omega) (by omega)]; exact r4
  · rw [if_neg (show ¬ tkk (Q (p + 1)).1 = 1 from fun z => a1 (t1'.1 z)), m_wrong P3.1.1.1 hp1 h3.2.1 h3.2.2.2.2.2.2.2.2.2, bi_ok, bi_ok] at eM
    refine ⟨0, _, Or.inl rfl, eM, Or.inl ?_⟩
    rw [if_neg (show ¬ Int32.ofNat (Q (p + 1)).1 = 1 from fun z => a1 ((ofN_eq (c := 1) (by omega) (by omega)).1 z)), c_throw P3.1.1.1 hp1 h3.1, nx0]
    exact P3.1.flt hT5 2 (Or.inl rfl) _
