/-! what is built in: a part goes on -/
theorem m_opn {σ0 σ τ : lj_S} {FP : Nat → List kF} : ∀ (r : List Nat) (p c : Nat), chn σ0 σ τ FP (p :: r) → (∀ q ∈ p :: r, q ≤ 25) → lj_D lm_P lm_M234 7 [.ref 0, .int (Int32.ofNat c), .int (Int32.ofNat p)] [] τ = some (.inl (some (.int (Int32.ofNat (c + r.length)))), τ)
  | [], p, c, h, _ => by
    rw [show p = 0 from h, km_234_7, if_pos (by decide)]
    rfl
  | q' :: r, p, c, h, w => by
    obtain ⟨⟨h1, h2, h3⟩, h4, ⟨h5, h6⟩, h7⟩ := h
    have pl := w p List.mem_cons_self
    have ip : lj_in (Int32.ofNat p) 26 := ofN_in (by omega) (by omega)
    have np' : (Int32.ofNat p).toNatClampNeg = p := lz_onat (by omega)
    rw [km_234_7, if_neg (by rw [lz_le, lz_lit (by omega)]; show ¬ ((p : Int) ≤ 0); omega), if_pos ip, np', h3, lz_osucc, m_opn r q' (c + 1) h7 (fun q hq => w q (List.mem_cons_of_mem _ hq)), List.length_cons, show c + 1 + r.length = c + (r.length + 1) by omega]
theorem go_eq : mBw 35 = cW 1028 ∧ mBw 34 = cW 1029 ∧ (cW 1028).length ≤ 1000 ∧ (cW 1029).length ≤ 1000 := by decide +kernel
/-- not true, and why -/
theorem bi_ft {σ0 τ0 σ τ : lj_S} {n np p : Nat} {r : List Nat} {FP : Nat → List kF} {ρ : Nat → Nat} {A MO LA : List Nat} {M : Nat} (D : DLV σ0 τ0 M) (h : MB σ0 τ0 n np p r FP ρ A MO LA σ τ) (ry : ryR σ τ) (hwk : wkR FP (p :: r) A σ) {as line : Int32} (ht : τ.1 0 129 = 1) (ha : awR σ0 (FP p) as (τ.1 0 130) (τ.1 0 131)) (hln : τ.1 0 132 = line) {G G' : List vT} (hG : gwR σ τ G G') (hGl : G.length ≤ 49) (hM : thM FP (p :: r) MO LA + 5001 ≤ M) {X : Nat} (hX : X ≤ TH) (hT : thM FP (p :: r) MO LA + 5001 ≤ X) {rw0 wm : Nat} (hr : 1000 ≤ rw0) (hr2 : rw0 < 1046) (hw : wm < 69) (he : mBw wm = cW rw0) (hl : (cW rw0).length ≤ 1000) (x3 : Int32) : ∃ τ1, lj_D lm_P lm_M232 56 [.ref 0, .int x3, .retAddr 0, .retAddr 0] [.int (Int32.ofNat wm), .ref 0] (lj_put τ 0 20 0) = some (.inl none, τ1) ∧ ocR σ0 τ0 A (fun t => t ≤ X) σ τ1 (lj_bv (lj_R lc_P 143 [.ref 8, .int 1, .long 0] (lj_put σ 8 41 0)) (fun σ1 => lj_bv (lj_R lc_P 22 [.ref 3] σ1) (fun σ2 => lj_D lc_P lc_M196 121 [.ref 8, .int line, .int as, .int x3, .retAddr 0, .retAddr 0] [.ref rw0, .ref 3] σ2) lj_up) lj_up) := by
  obtain ⟨σ1, a1, a2, a3⟩ := c_gives (x_rs0 σ) (by decide) (1, 0)
  have a1 : lj_R lc_P 143 [.ref 8, .int 1, .long 0] (lj_put σ 8 41 0) = some (.inl none, σ1) := a1
  have a2 : rsC σ1 [(1, 0)] := a2
  have l0 : lf rtC σ σ1 := (lf_put (lf_rf rtC σ) 8 41 0 rfl).tr a3
  obtain ⟨b1, b2, b3⟩ := c_bgn σ1
  obtain ⟨d2, d3⟩ := m_bgn τ
  have hA := h.sc ((rtC_z l0).tr (cAd_z b3)) (mAd_z d3)
  obtain ⟨σ3, t1, t2, t3⟩ := c_w (lj_put σ1 3 6 0) (r := rw0) hr hr2 b2 (by decide)
  obtain ⟨τ3, u1, u2, u3⟩ := m_copyB hA.2.1 (s := wm) hw d2 (by decide)
  rw [List.nil_append] at t2 u2
  rw [he] at u2
  have h3 := hA.sc (cAd_z t3) (mAd_z u3)
  have f3 : lf bfC σ σ3 := (rtC_b l0).tr ((cAd_b b3).tr (cAd_b t3))
  have g3 : lf bfM τ τ3 := (mAd_b d3).tr (mAd_b u3)
  have r3 : rsC σ3 [(1, 0)] := ⟨by unfold lv; rw [(t3 8 41 rfl).1, (b3 8 41 rfl).1]; exact a2.1, fun j hj => by rw [(t3 107 j rfl).1, (t3 108 j rfl).2, (b3 107 j rfl).1, (b3 108 j rfl).2]; exact a2.2 j hj⟩
  have run : ∀ {x : Option lj_O}, lj_bi (lj_R lc_P 136 [.ref 8] σ3) (fun y s => lj_bv (lj_R lc_P 143 [.ref 8, .int 3, .long y.toInt64] s) (fun s4 => finC (lj_R lc_P 144 [.ref 8, .int as] s4)) lj_up) lj_up = x → lj_bv (lj_R lc_P 143 [.ref 8, .int 1, .long 0] (lj_put σ 8 41 0)) (fun σ1 => lj_bv (lj_R lc_P 22 [.ref 3] σ1) (fun σ2 => lj_D lc_P lc_M196 121 [.ref 8, .int line, .int as, .int x3, .retAddr 0, .retAddr 0] [.ref rw0, .ref 3] σ2) lj_up) lj_up = x := fun e => by
    rw [a1, bv_ok, b1, bv_ok, kc_196_121, t1, bv_ok, ← e]
    rfl
  rcases cm_make h3.2.1 t2 u2 hl with ⟨e1, e2⟩ | ⟨σ4, τ4, s, s', e1, e2, s1, s2, se, ec, eM, eG, l1, l2⟩
  · have mo := m_one (lj_put τ3 0 143 4) (1, 0)
    have mo : lj_R lm_P 195 [.ref 0, .int 1, .long 0] (lj_put τ3 0 143 4) = some (.inl none, oneM (lj_put τ3 0 143 4) (1, 0)) := mo
    obtain ⟨τ5, v1, v2, v3⟩ := m_also (oneM_rs (lj_put τ3 0 143 4) (1, 0)) (by decide) (3, (-1 : Int32).toInt64)
    have v1 : lj_R lm_P 184 [.ref 0, .int 3, .long (-1 : Int32).toInt64] (oneM (lj_put τ3 0 143 4) (1, 0)) = some (.inl none, τ5) := v1
    refine ⟨τ5, by rw [km_232_56, u1, bv_ok, e2, bi_ok, mo, bv_ok, v1, bv_ok], ?_⟩
    rw [run (by rw [e1, bi_th])]
    refine bi_nr ry hwk (h3.sc (lf_put (lf_rf _ _) _ _ _ rfl) ((lf_put (lf_rf szM τ3) 0 143 4 rfl).tr ((oneM_z _ _).tr (rtM_z v3)))) (f3.tr (lf_put (lf_rf _ _) _ _ _ rfl)) ⟨?_, ?_⟩ (by simp [lj_put_1, lj_putL_1]) ?_ (by omega)
    · rw [(v3 0 144 rfl).1, (oneM_o _ _ (by omega)).1, lj_put_1, if_neg (by omega), (g3 0 144 rfl).1]
    · rw [(v3 0 145 rfl).2, (oneM_o _ _ (by omega)).2]
      exact (g3 0 145 rfl).2
    · rw [(v3 0 143 rfl).1, (oneM_o _ _ (by omega)).1]; exact (by simp [lj_put_1, lj_putL_1])
  · have hb : MB σ0 τ0 n np p r FP ρ A MO LA σ4 τ4 := h3.st (l1.mo (fun k j q => by unfold erC at q; simp at q; exact q.1.1.1)) (l2.mo (fun k j q => by unfold erM at q; simp at q; exact q.1.1)) eG eM
    have f4 : lf bfC σ σ4 := f3.tr (l1.mo (fun k j q => by unfold bfC at q; unfold cAc cAs; simp at q ⊢; omega))
    have g4 : lf bfM τ τ4 := g3.tr (l2.mo (fun k j q => by unfold bfM at q; unfold mAc mAs; simp at q ⊢; omega))
    have r4 : rsC σ4 [(1, 0)] := ⟨by unfold lv; rw [(l1 8 41 rfl).1]; exact r3.1, fun j hj => by rw [(l1 107 j rfl).1, (l1 108 j rfl).2]; exact r3.2 j hj⟩
    have mo := m_one τ4 (1, 0)
    have mo : lj_R lm_P 195 [.ref 0, .int 1, .long 0] τ4 = some (.inl none, oneM τ4 (1, 0)) := mo
    have hb' := hb.sc (lf_rf szC σ4) (oneM_z τ4 (1, 0))
    have v0 : vR σ4 (oneM τ4 (1, 0)) (3, i64 s) (3, i64 s') := (vR_str se s1 s2).cg (fun _ _ _ => rfl) (fun k j q => (oneM_o _ _ (by unfold vqM at q; simp at q; omega)).1)
    obtain ⟨σ5, τ5, p1, p2, p3, p4, p5, p6, p7⟩ := x_gv r4 (oneM_rs τ4 (1, 0)) ⟨rfl, by decide, fun j => by
      cases j with
      | zero => exact vR_truth _ _ (Or.inl rfl)
      | succ j => exact vR_nil _ _⟩ (by decide) v0
    have p1 : lj_R lc_P 143 [.ref 8, .int 3, .long (Int32.ofNat s).toInt64] σ4 = some (.inl none, σ5) := p1
    have p2 : lj_R lm_P 184 [.ref 0, .int 3, .long (Int32.ofNat s').toInt64] (oneM τ4 (1, 0)) = some (.inl none, τ5) := p2
    have px := h.px hwk
    have dl := bi_dl D ry hwk ha (hb'.sc (rtC_z p6) (rtM_z p7)) (f4.tr (rtC_b p6)) (g4.tr ((oneM_b _ _).tr (rtM_b p7))) (by rw [(p7 0 129 rfl).1]; unfold oneM; exact (by simp [lj_put_1, lj_putL_1])) p3 p4 p5 (by simp; omega) (by omega) (by omega) hX
    refine ⟨τ5, by rw [km_232_56, u1, bv_ok, e2, bi_ok, mo, bv_ok, p2, bv_ok], ?_⟩
    rw [run (x := finC (lj_R lc_P 144 [.ref 8, .int as] σ5)) (by rw [e1, bi_ok, p1, bv_ok])]
    exact dl.fin
