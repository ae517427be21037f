/-! a part is over -/
theorem x_endR {σ0 τ0 σ τ : lj_S} {n np p q' : Nat} {r' : List Nat} {FP : Nat → List kF} {ρ : Nat → Nat} {A MO LA : List Nat} (h : MB σ0 τ0 n np p (q' :: r') FP ρ A MO LA σ τ) (hF : FP p = []) {G G' : List vT} (hr : rsC σ G) (hm : rsM τ G') (hrw : rwE σ τ G G') (hl : G.length < 110) (ry : ryR σ τ) (g : Int32) : ∃ σ2 τ2, lj_R lc_P 199 [.ref 8, .int g] σ = finC (lj_R lc_P 144 [.ref 8, .int (σ.1 86 p)] σ2) ∧ lj_R lm_P 179 [.ref 0, .int g] τ = some (.inl none, τ2) ∧ MB σ0 τ0 n np q' r' FP ρ A MO LA σ2 τ2 ∧ dlR σ2 τ2 ((1, if g = 0 then 0 else 1) :: G) ((1, if g = 0 then 0 else 1) :: G') ∧ awR σ0 (FP q') (σ.1 86 p) (τ2.1 0 130) (τ2.1 0 131) ∧ ∀ j, σ2.1 102 j = σ.1 102 j ∧ σ2.1 103 j = σ.1 103 j := by
  obtain ⟨⟨a1, a2, a3⟩, ⟨b1, b2⟩, ⟨x1, x2⟩, d1, d2, d3, d4, d5, d6, d7, d8, d9⟩ := h.2.2.2.2.2.2.1
  obtain ⟨⟨y1, y2, y3⟩, y4, ⟨y5, y6⟩, y7⟩ := d1
  have nd := List.nodup_cons.1 d2
  have pq : p ≠ q' := fun z => nd.1 (by rw [z]; exact List.mem_cons_self)
  have pnp : p ≤ np := d3 p List.mem_cons_self
  have qnp : q' ≤ np := d3 q' (List.mem_cons_of_mem _ List.mem_cons_self)
  obtain ⟨ce1, me1, mq1, pr, ⟨t1, t2, t3, t4⟩, t8, t90, t63, t64, t62, t65⟩ := h.2.2.2.2.2.2.2.1 q' qnp (by rw [y6]; decide)
  rw [if_neg (fun z => pq z.symm)] at t8
  have i7 : lj_in (σ.1 8 7) 26 := by rw [b1]; exact ofN_in (by omega) (by omega)
  have n7 : (σ.1 8 7).toNatClampNeg = p := by rw [b1]; exact lz_onat (by omega)
  have z7 : σ.1 8 7 ≠ 0 := by
    rw [b1]
    intro z
    exact y1 ((ofN_eq (a := p) (c := 0) (by omega) (by omega)).1 z)
  have q84 : lj_in (Int32.ofNat q') 26 := ofN_in (by omega) (by omega)
  have nq : (Int32.ofNat q').toNatClampNeg = q' := lz_onat (by omega)
  obtain ⟨σa, hσa⟩ : ∃ σa, σa = lj_put σ 83 p 4 := ⟨_, rfl⟩
  have oa : ∀ k j, ¬ (k = 83 ∧ j = p) → σa.1 k j = σ.1 k j ∧ σa.2 k j = σ.2 k j := fun k j z => by
    rw [hσa]
    exact ⟨by rw [lj_put_1, if_neg z], rfl⟩
  have e18 : σ.1 8 18 - 1 = Int32.ofNat r'.length := by rw [d4, List.length_cons]; exact lz_pred' _
  obtain ⟨σb, hσb⟩ : ∃ σb, σb = lj_put (lj_put (lj_put (lj_put (lj_put σa 82 p (σ.1 8 8)) 8 18 (Int32.ofNat r'.length)) 8 7 (Int32.ofNat q')) 83 q' 2) 8 8 (σ.1 82 q') := ⟨_, rfl⟩
  have ob : ∀ k j, ¬ (k = 82 ∧ j = p ∨ k = 8 ∧ (j = 18 ∨ j = 7 ∨ j = 8) ∨ k = 83 ∧ j = q') → σb.1 k j = σa.1 k j ∧ σb.2 k j = σa.2 k j := fun k j z => by
    rw [hσb]
    exact ⟨by rw [lj_put_1, if_neg (by omega), lj_put_1, if_neg (by omega), lj_put_1, if_neg (by omega), lj_put_1, if_neg (by omega), lj_put_1, if_neg (by omega)], rfl⟩
  have sf := c_setF (σ := σb) (p := q') (l := (FP q').length) (by rw [hσb]; exact (by simp [lj_put_1, lj_putL_1])) (by omega) (by rw [(ob 90 q' (by omega)).1, (oa 90 q' (by omega)).1]; exact t90) t1
  have c96 : σb.1 96 (20 * q' + ((FP q').length - 1)) = σ.1 96 (20 * q' + ((FP q').length - 1)) := by rw [(ob 96 _ (by omega)).1, (oa 96 _ (by omega)).1]
  rw [c96] at sf
  obtain ⟨σc, hσc⟩ : ∃ σc, σc = (if (FP q').length = 0 then lj_put (lj_put σb 8 34 (-1)) 8 35 0 else lj_put (lj_put σb 8 34 (Int32.ofNat (20 * q' + ((FP q').length - 1)))) 8 35 (σ.1 96 (20 * q' + ((FP q').length - 1)))) := ⟨_, rfl⟩
  rw [← hσc] at sf
  have oc : ∀ k j, ¬ (k = 8 ∧ (j = 34 ∨ j = 35)) → σc.1 k j = σb.1 k j ∧ σc.2 k j = σb.2 k j := fun k j z => by
    rw [hσc]
    by_cases y : (FP q').length = 0
    · rw [if_pos y, lj_put_1, if_neg (by omega), lj_put_1, if_neg (by omega)]
      exact ⟨rfl, rfl⟩
    · rw [if_neg y, lj_put_1, if_neg (by omega), lj_put_1, if_neg (by omega)]
      exact ⟨rfl, rfl⟩
  have all : ∀ k j, ¬ (k = 8 ∧ (j = 7 ∨ j = 8 ∨ j = 18 ∨ j = 34 ∨ j = 35)) → ¬ (k = 82 ∧ j = p) → ¬ (k = 83 ∧ (j = p ∨ j = q')) → σc.1 k j = σ.1 k j ∧ σc.2 k j = σ.2 k j := fun k j z1 z2 z3 => by
    obtain ⟨u1, u2⟩ := oc k j (by omega)
    obtain ⟨v1, v2⟩ := ob k j (by omega)
    obtain ⟨w1, w2⟩ := oa k j (by omega)
    exact ⟨u1.trans (v1.trans w1), u2.trans (v2.trans w2)⟩
  have hrc : rsC σc G := ⟨by unfold lv; rw [(all 8 41 (by omega) (by omega) (by omega)).1]; exact hr.1, fun j hj => by rw [(all 107 j (by omega) (by omega) (by omega)).1, (all 108 j (by omega) (by omega) (by omega)).2]; exact hr.2 j hj⟩
  obtain ⟨σ2, g1, g2, g3⟩ := c_first hrc (by omega) g
  have o2 : ∀ k j, ¬ (k = 107 ∨ k = 108 ∨ k = 8 ∧ j = 41) → σ2.1 k j = σc.1 k j ∧ σ2.2 k j = σc.2 k j := fun k j z => g3 k j (by unfold rtC; simp; omega)
  -- the model
  have i111 : lj_in (τ.1 0 111) 26 := by rw [b2]; exact ofN_in (by omega) (by omega)
  have n111 : (τ.1 0 111).toNatClampNeg = p := by rw [b2]; exact lz_onat (by omega)
  obtain ⟨τa, hτa⟩ : ∃ τa, τa = lj_put (lj_put (lj_put (lj_put τ 58 p 4) 63 p 0) 64 p 0) 65 p 0 := ⟨_, rfl⟩
  have ma : ∀ k j, ¬ ((k = 58 ∨ 63 ≤ k ∧ k ≤ 65) ∧ j = p) → τa.1 k j = τ.1 k j ∧ τa.2 k j = τ.2 k j := fun k j z => by
    rw [hτa]
    exact ⟨by rw [lj_put_1, if_neg (by omega), lj_put_1, if_neg (by omega), lj_put_1, if_neg (by omega), lj_put_1, if_neg (by omega)], rfl⟩
  have hma : rsM τa G' := ⟨by unfold lv; rw [(ma 0 140 (by omega)).1]; exact hm.1, fun j hj => by rw [(ma 90 j (by omega)).1, (ma 91 j (by omega)).2]; exact hm.2 j hj⟩
  obtain ⟨τb, p1, p2, p3⟩ := m_first hma (by rw [← hrw.1]; omega) g
  have mb : ∀ k j, ¬ (k = 90 ∨ k = 91 ∨ k = 0 ∧ j = 140) → τb.1 k j = τa.1 k j ∧ τb.2 k j = τa.2 k j := fun k j z => p3 k j (by unfold rtM; simp; omega)
  obtain ⟨τ2, hτ2⟩ : ∃ τ2, τ2 = lj_put (lj_put (lj_put (lj_put (lj_put τb 0 111 (Int32.ofNat q')) 58 q' 2) 0 130 (τ.1 67 p)) 0 131 (τ.1 68 p)) 0 129 1 := ⟨_, rfl⟩
  have m2 : ∀ k j, ¬ (k = 58 ∧ j = q' ∨ k = 0 ∧ (j = 111 ∨ j = 129 ∨ j = 130 ∨ j = 131)) → τ2.1 k j = τb.1 k j ∧ τ2.2 k j = τb.2 k j := fun k j z => by
    rw [hτ2]
    exact ⟨by rw [lj_put_1, if_neg (by omega), lj_put_1, if_neg (by omega), lj_put_1, if_neg (by omega), lj_put_1, if_neg (by omega), lj_put_1, if_neg (by omega)], rfl⟩
  have mall : ∀ k j, ¬ ((k = 58 ∨ 63 ≤ k ∧ k ≤ 65) ∧ j = p) → ¬ (k = 58 ∧ j = q') → ¬ (k = 90 ∨ k = 91) → ¬ (k = 0 ∧ (j = 111 ∨ 129 ≤ j ∧ j ≤ 131 ∨ j = 140)) → τ2.1 k j = τ.1 k j ∧ τ2.2 k j = τ.2 k j := fun k j z1 z2 z3 z4 => by
    obtain ⟨u1, u2⟩ := m2 k j (by omega)
    obtain ⟨v1, v2⟩ := mb k j (by omega)
    obtain ⟨w1, w2⟩ := ma k j (by omega)
    exact ⟨u1.trans (v1.trans w1), u2.trans (v2.trans w2)⟩
  have b66 : τb.1 66 p = Int32.ofNat q' := by rw [(mb 66 p (by omega)).1, (ma 66 p (by omega)).1]; exact y3
  have b67 : τb.1 67 p = τ.1 67 p := by rw [(mb 67 p (by omega)).1, (ma 67 p (by omega)).1]
  have b68 : τb.1 68 p = τ.1 68 p := by rw [(mb 68 p (by omega)).1, (ma 68 p (by omega)).1]
  have ma111 : τa.1 0 111 = τ.1 0 111 := (ma 0 111 (by omega)).1
  have mrun : lj_R lm_P 179 [.ref 0, .int g] τ = some (.inl none, τ2) := by
    rw [rm_179, km_179_0, if_pos i111, if_pos i111, if_pos i111, if_pos i111, n111, ← hτa, rm_180, km_180_0, p1, bv_ok, ma111, if_pos i111, if_pos (show lj_in (τb.1 66 (τ.1 0 111).toNatClampNeg) 26 by rw [n111, b66]; exact q84), if_pos i111, if_pos i111, n111, b66, b67, b68, nq, bv_ok, hτ2]
  have hfh : fhR σ2 q' (FP q') := by
    have e34 : σ2.1 8 34 = σc.1 8 34 := (o2 8 34 (by omega)).1
    have e35 : σ2.1 8 35 = σc.1 8 35 := (o2 8 35 (by omega)).1
    cases hq : FP q' with
    | nil =>
      show σ2.1 8 34 = -1
      rw [e34, hσc, hq, if_pos (show ([] : List kF).length = 0 from rfl)]; exact (by simp [lj_put_1, lj_putL_1])
    | cons F2 L2 =>
      rw [hq] at hσc pr
      rw [if_neg (by simp), List.length_cons, Nat.add_sub_cancel] at hσc
      refine ⟨by rw [e34, hσc]; exact (by simp [lj_put_1, lj_putL_1]), fun z => ?_⟩
      obtain ⟨ms3, ks3, v1, v2, v3⟩ := pr
      rcases v2.2 with ⟨_, t⟩ | ⟨y, _⟩
      · rw [e35, hσc, lj_put_1, if_pos ⟨rfl, rfl⟩]; exact t.1.2.2.2.2
      · omega
  have hv : ∀ a b, vR σ τ a b → vR σ2 τ2 a b := fun a b w => w.cg (fun k j q => by
    rw [(o2 k j (by unfold vqC at q; simp at q; omega)).1, (all k j (by unfold vqC at q; simp at q; omega) (by unfold vqC at q; simp at q; omega) (by unfold vqC at q; simp at q; omega)).1]) (fun k j q => (mall k j (by unfold vqM at q; simp at q; omega) (by unfold vqM at q; simp at q; omega) (by unfold vqM at q; simp at q; omega) (by unfold vqM at q; simp at q; omega)).1)
  have mbn := h.leav (σ' := σ2) (τ' := τ2) (fun k j z => by
      have zz : szC k j = false := by
        cases y : szC k j with
        | false => rfl
        | true => exact absurd (Or.inl y) z
      obtain ⟨u1, u2⟩ := o2 k j (by unfold szC at zz; simp at zz; omega)
      obtain ⟨v1, v2⟩ := all k j (fun y => z (by omega)) (fun y => z (by omega)) (fun y => z (by omega))
      exact ⟨u1.trans v1, u2.trans v2⟩) (fun k j z => by
      have zz : szM k j = false := by
        cases y : szM k j with
        | false => rfl
        | true => exact absurd (Or.inl y) z
      exact mall k j (fun y => z (by omega)) (fun y => z (by omega)) (by unfold szM at zz; simp at zz; omega) (by
        intro y
        rcases y with ⟨rfl, y | y | y⟩
        · exact z (by omega)
        · unfold szM at zz; simp at zz; omega
        · unfold szM at zz; simp at zz; omega)) (by rw [(o2 8 7 (by omega)).1, (oc 8 7 (by omega)).1, hσb]; exact (by simp [lj_put_1, lj_putL_1])) (by rw [hτ2]; exact (by simp [lj_put_1, lj_putL_1])) (by rw [(o2 8 18 (by omega)).1, (oc 8 18 (by omega)).1, hσb]; exact (by simp [lj_put_1, lj_putL_1])) (by rw [(o2 83 q' (by omega)).1, (oc 83 q' (by omega)).1, hσb]; exact (by simp [lj_put_1, lj_putL_1])) (by rw [hτ2]; exact (by simp [lj_put_1, lj_putL_1])) (by rw [(o2 8 8 (by omega)).1, (oc 8 8 (by omega)).1, hσb]; exact (by simp [lj_put_1, lj_putL_1])) hfh (by rw [hF]; intro F hm; cases hm) (Or.inr ⟨by rw [(m2 58 p (by omega)).1, (mb 58 p (by omega)).1, hτa]; exact (by simp [lj_put_1, lj_putL_1]), hF, by rw [(o2 83 p (by omega)).1, (oc 83 p (by omega)).1, (ob 83 p (by omega)).1, hσa]; exact (by simp [lj_put_1, lj_putL_1])⟩)
  obtain ⟨r1, r2, r3, r4⟩ := ry
  refine ⟨σ2, τ2, ?_, mrun, mbn, ⟨⟨?_, ?_, ?_, ?_, ?_⟩, g2, ⟨?_, fun j hj => ?_⟩, rwE.fr ⟨hrw.1, hrw.2.1, fun j => hv _ _ (hrw.2.2 j)⟩ hl (vR_truth _ _ (by split <;> simp))⟩, ?_, fun j => ⟨by rw [(o2 102 j (by omega)).1, (all 102 j (by omega) (by omega) (by omega)).1], by rw [(o2 103 j (by omega)).1, (all 103 j (by omega) (by omega) (by omega)).1]⟩⟩
  · have a7 : σa.1 8 7 = σ.1 8 7 := (oa 8 7 (by omega)).1
    have a84 : σa.1 84 p = Int32.ofNat q' := by rw [(oa 84 p (by omega)).1]; exact y2
    have a82 : (lj_put σa 82 p (σa.1 8 8)).1 82 q' = σ.1 82 q' := by rw [lj_put_1, if_neg (by omega), (oa 82 q' (by omega)).1]
    have lvp : lj_R lc_P 198 [.ref 8] σa = some (.inl none, σc) := by
      rw [rc_198, kc_198_0, a7, if_pos i7, if_pos i7, n7, a84, if_pos q84, if_pos q84, nq, a82, (oa 8 8 (by omega)).1, (oa 8 18 (by omega)).1, e18, ← hσb, sf, bv_ok]
    have c86 : σ2.1 86 p = σ.1 86 p := by rw [(o2 86 p (by omega)).1, (all 86 p (by omega) (by omega) (by omega)).1]
    rw [rc_199 _ _ h.g0, kc_199_0, if_neg z7]
    simp only [if_pos i7]
    rw [n7, ← hσa, lvp, bv_ok, g1, bv_ok, c86]
    rfl
  · rw [(o2 8 46 (by omega)).1, (all 8 46 (by omega) (by omega) (by omega)).1]; exact r1
  · rw [(mall 0 143 (by omega) (by omega) (by omega) (by omega)).1]; exact r2
  · rw [hτ2]; exact (by simp [lj_put_1, lj_putL_1])
  · rw [(o2 8 45 (by omega)).1, (all 8 45 (by omega) (by omega) (by omega)).1, (mall 0 144 (by omega) (by omega) (by omega) (by omega)).1]; exact r3
  · rw [(o2 8 44 (by omega)).2, (all 8 44 (by omega) (by omega) (by omega)).2, (mall 0 145 (by omega) (by omega) (by omega) (by omega)).2]; exact r4
  · unfold lv
    rw [(m2 0 140 (by omega)).1]
    exact p2.1
  · rw [(m2 90 j (by omega)).1, (m2 91 j (by omega)).2]
    exact p2.2 j hj
  · rw [hτ2]
    have e1 : (lj_put (lj_put (lj_put (lj_put (lj_put τb 0 111 (Int32.ofNat q')) 58 q' 2) 0 130 (τ.1 67 p)) 0 131 (τ.1 68 p)) 0 129 1).1 0 130 = τ.1 67 p := (by simp [lj_put_1, lj_putL_1])
    have e2 : (lj_put (lj_put (lj_put (lj_put (lj_put τb 0 111 (Int32.ofNat q')) 58 q' 2) 0 130 (τ.1 67 p)) 0 131 (τ.1 68 p)) 0 129 1).1 0 131 = τ.1 68 p := (by simp [lj_put_1, lj_putL_1])
    rw [e1, e2]
    exact y4
