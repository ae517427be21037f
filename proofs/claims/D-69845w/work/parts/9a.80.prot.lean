/-! a frame of pcall ends -/
/-- a frame that is none of the text is taken away from the component -/
theorem c_less {σ : lj_S} {p l kc : Nat} (h34 : σ.1 8 34 = Int32.ofNat (20 * p + l)) (h91 : σ.1 91 (20 * p + l) ≠ 0) (h95 : σ.1 95 (20 * p + l) = Int32.ofNat kc) (h7 : σ.1 8 7 = Int32.ofNat p) (hp : p < 26) (h90 : σ.1 90 p = Int32.ofNat (l + 1)) (hl : l < 20) : ∃ σ', lj_R lc_P 149 [.ref 8] σ = some (.inl none, σ') ∧ σ'.1 8 8 = Int32.ofNat kc ∧ σ'.1 90 p = Int32.ofNat l ∧ (l = 0 → σ'.1 8 34 = -1) ∧ (l ≠ 0 → σ'.1 8 34 = Int32.ofNat (20 * p + (l - 1)) ∧ σ'.1 8 35 = σ.1 96 (20 * p + (l - 1))) ∧ ∀ k j, ¬ (k = 8 ∧ (j = 8 ∨ j = 34 ∨ j = 35)) → ¬ (k = 90 ∧ j = p) → σ'.1 k j = σ.1 k j ∧ σ'.2 k j = σ.2 k j := by
  have i34 : lj_in (σ.1 8 34) 520 := by rw [h34]; exact ofN_in (by omega) (by omega)
  have n34 : (σ.1 8 34).toNatClampNeg = 20 * p + l := by rw [h34]; exact lz_onat (by omega)
  have i7 : lj_in (σ.1 8 7) 26 := by rw [h7]; exact ofN_in (by omega) (by omega)
  have n7 : (σ.1 8 7).toNatClampNeg = p := by rw [h7]; exact lz_onat (by omega)
  have sf := c_setF (σ := lj_put (lj_put σ 8 8 (Int32.ofNat kc)) 90 p (Int32.ofNat l)) (p := p) (l := l) (by simp [lj_put_1, h7]) hp (by simp [lj_put_1, lj_putL_1]) (by omega)
  have c91 : σ.1 91 (σ.1 8 34).toNatClampNeg ≠ 0 := by rw [n34]; exact h91
  have c95 : σ.1 95 (σ.1 8 34).toNatClampNeg = Int32.ofNat kc := by rw [n34]; exact h95
  have c90 : σ.1 90 (σ.1 8 7).toNatClampNeg - 1 = Int32.ofNat l := by rw [n7, h90]; exact lz_pred' _
  obtain ⟨σ', hs'⟩ : ∃ σ', σ' = (if l = 0 then lj_put (lj_put (lj_put (lj_put σ 8 8 (Int32.ofNat kc)) 90 p (Int32.ofNat l)) 8 34 (-1)) 8 35 0 else lj_put (lj_put (lj_put (lj_put σ 8 8 (Int32.ofNat kc)) 90 p (Int32.ofNat l)) 8 34 (Int32.ofNat (20 * p + (l - 1)))) 8 35 ((lj_put (lj_put σ 8 8 (Int32.ofNat kc)) 90 p (Int32.ofNat l)).1 96 (20 * p + (l - 1)))) := ⟨_, rfl⟩
  rw [← hs'] at sf
  refine ⟨σ', by rw [rc_149, kc_149_0, if_pos i34, if_neg c91, kc_149_25, if_pos i34, if_pos i7, if_pos i7, c95, c90, n7, sf, bv_ok], ?_, ?_, fun z => ?_, fun z => ⟨?_, ?_⟩, fun k j z1 z2 => ?_⟩ <;> rw [hs']
  · by_cases y : l = 0
    · rw [if_pos y]; exact (by simp [lj_put_1, lj_putL_1])
    · rw [if_neg y]; exact (by simp [lj_put_1, lj_putL_1])
  · by_cases y : l = 0
    · rw [if_pos y]; exact (by simp [lj_put_1, lj_putL_1])
    · rw [if_neg y]; exact (by simp [lj_put_1, lj_putL_1])
  · rw [if_pos z]; exact (by simp [lj_put_1, lj_putL_1])
  · rw [if_neg z]; exact (by simp [lj_put_1, lj_putL_1])
  · rw [if_neg z]; exact (by simp [lj_put_1, lj_putL_1])
  · by_cases y : l = 0
    · rw [if_pos y, lj_put_1, if_neg (by omega), lj_put_1, if_neg (by omega), lj_put_1, if_neg (by omega), lj_put_1, if_neg (by omega)]
      exact ⟨rfl, rfl⟩
    · rw [if_neg y, lj_put_1, if_neg (by omega), lj_put_1, if_neg (by omega), lj_put_1, if_neg (by omega), lj_put_1, if_neg (by omega)]
      exact ⟨rfl, rfl⟩
/-- what both keep of a run that is to deliver -/
def ryR (σ τ : lj_S) : Prop := σ.1 8 46 = 0 ∧ τ.1 0 143 = 0 ∧ σ.1 8 45 = τ.1 0 144 ∧ σ.2 8 44 = τ.2 0 145
/-- rows of results grow at their front -/
theorem rwE.fr {σ τ : lj_S} {G G' : List vT} (h : rwE σ τ G G') (hl : G.length < 110) {u w : vT} (huw : vR σ τ u w) : rwE σ τ (u :: G) (w :: G') := ⟨by rw [List.length_cons, List.length_cons, h.1], by rw [List.length_cons]; omega, fun j => by
  cases j with
  | zero => exact huw
  | succ j => exact h.2.2 j⟩
/-- the frame of pcall ends: both states -/
theorem x_endP {σ0 τ0 σ τ : lj_S} {n np p : Nat} {r : List Nat} {FP : Nat → List kF} {ρ : Nat → Nat} {A MO LA : List Nat} (h : MB σ0 τ0 n np p r FP ρ A MO LA σ τ) {F : kF} {L : List kF} (hF : FP p = F :: L) (hS : kS F = 1) {G : List vT} (hr : rsC σ G) (hl : G.length ≤ 110) (g : Int32) : ∃ σ2, lj_R lc_P 148 [.ref 8, .int g] σ = lj_bv (lj_R lc_P 144 [.ref 8, .int (σ.1 98 (20 * p + L.length))] σ2) (fun s => some (.inl none, s)) lj_up ∧ rsC σ2 ((1, if g = 0 then 0 else 1) :: G) ∧ (∀ k j, ¬ (k = 8 ∧ (j = 8 ∨ j = 34 ∨ j = 35 ∨ j = 41)) → ¬ (k = 90 ∧ j = p) → k ≠ 107 → k ≠ 108 → σ2.1 k j = σ.1 k j ∧ σ2.2 k j = σ.2 k j) ∧ awR σ0 L (σ.1 98 (20 * p + L.length)) (τ.1 78 (48 * p + L.length)) (τ.1 79 (48 * p + L.length)) ∧ (∃ ms ks, τ.1 80 (48 * p + L.length) = Int32.ofNat ms ∧ τ.1 81 (48 * p + L.length) = Int32.ofNat ks ∧ τ.1 62 p = Int32.ofNat (L.length + 1) ∧ τ.1 65 p = Int32.ofNat (L.length + 1) ∧ τ.1 74 (48 * p + L.length) = 1 ∧ L.length < 20 ∧ p < 26 ∧ τ.1 0 111 = Int32.ofNat p ∧ ∀ τ2 : lj_S, (∀ k j, ¬ (62 ≤ k ∧ k ≤ 65 ∧ j = p ∨ szM k j = true) → τ2.1 k j = τ.1 k j ∧ τ2.2 k j = τ.2 k j) → τ2.1 63 p = Int32.ofNat ms → τ2.1 64 p = Int32.ofNat ks → τ2.1 62 p = Int32.ofNat L.length → τ2.1 65 p = Int32.ofNat L.length → MB σ0 τ0 n np p r (fpT FP p L) ρ A MO LA σ2 τ2) := by
  have h7 := h.2.2.2.2.2.2.1
  have hp : p ≤ np := h7.2.2.2.2.2.1 p List.mem_cons_self
  have np25 := h7.1.2.2
  obtain ⟨ce, me, mq, pa⟩ := h.2.2.2.2.2.2.2.1 p hp (by rw [h7.2.2.1.2]; decide)
  have pa' := pa
  obtain ⟨p1, ⟨p2, p3, p4, p5⟩, p6, p7, p8, p9, p10, p11⟩ := pa'
  rw [hF] at p1
  rw [hF, List.length_cons] at p2 p7 p10 p11
  obtain ⟨ms, ks, q1, q2, q3⟩ := p1
  have fh := h.2.2.2.2.2.2.2.2.1
  rw [hF] at fh
  obtain ⟨⟨c95, m80, m81⟩, q2⟩ := q2
  obtain ⟨_, c91, m74, ec, em, ek⟩ : (kS F = 1 ∨ kS F = 2) ∧ σ.1 91 (20 * p + L.length) = Int32.ofNat (kS F) ∧ τ.1 74 (48 * p + L.length) = Int32.ofNat (kS F) ∧ ce = kC F ∧ me = ms ∧ mq = ks := by
    rcases q2 with ⟨z, _⟩ | z
    · omega
    · exact z
  rw [hS] at c91 m74
  obtain ⟨σ1, e1, e2, e3, e4, e5, e6⟩ := c_less (σ := σ) (p := p) (l := L.length) (kc := kC F) fh.1 (by rw [c91]; decide) c95 h7.2.1.1 (by omega) p7 (by omega)
  have hr1 : rsC σ1 G := ⟨by unfold lv; rw [(e6 8 41 (by omega) (by omega)).1]; exact hr.1, fun j hj => by rw [(e6 107 j (by omega) (by omega)).1, (e6 108 j (by omega) (by omega)).2]; exact hr.2 j hj⟩
  obtain ⟨σ2, g1, g2, g3⟩ := c_first hr1 (by omega) g
  have i34 : lj_in (σ.1 8 34) 520 := by rw [fh.1]; exact ofN_in (by omega) (by omega)
  have n34 : (σ.1 8 34).toNatClampNeg = (20 * p + L.length) := by rw [fh.1]; exact lz_onat (by omega)
  have o3 : ∀ k j, ¬ (k = 107 ∨ k = 108 ∨ k = 8 ∧ j = 41) → σ2.1 k j = σ1.1 k j ∧ σ2.2 k j = σ1.2 k j := fun k j z => g3 k j (by unfold rtC; simp; omega)
  refine ⟨σ2, ?_, g2, fun k j z1 z2 z3 z4 => ?_, q3, ms, ks, m80, m81, p10, p11, m74, (by omega), (by omega), h7.2.1.2, fun τ2 f w1 w2 w3 w4 => ?_⟩
  · rw [rc_148 _ _ h.g0, kc_148_0, if_pos i34, e1, bv_ok, g1, bv_ok, n34]
  · obtain ⟨x1, x2⟩ := o3 k j (by omega)
    obtain ⟨y1, y2⟩ := e6 k j (by omega) (by omega)
    exact ⟨x1.trans y1, x2.trans y2⟩
  · have hfh : fhR σ2 p L := by
      cases L with
      | nil => show σ2.1 8 34 = -1; rw [(o3 8 34 (by omega)).1]; exact e4 rfl
      | cons F2 L2 =>
        obtain ⟨e51, e52⟩ := e5 (by simp)
        rw [List.length_cons, Nat.add_sub_cancel] at e51 e52
        refine ⟨by rw [(o3 8 34 (by omega)).1]; exact e51, fun z => ?_⟩
        obtain ⟨ms3, ks3, t1, t2, t3⟩ := q1
        rcases t2.2 with ⟨_, t⟩ | ⟨y, _⟩
        · rw [(o3 8 35 (by omega)).1, e52]; exact t.1.2.2.2.2
        · omega
    exact h.pop hF (by omega) (fun a w => by have := w.1; omega) pa q1 (fun k j z => by
      have zz : szC k j = false := by cases y : szC k j with
        | false => rfl
        | true => exact absurd (Or.inr (Or.inr y)) z
      obtain ⟨x1, x2⟩ := o3 k j (by
        unfold szC at zz
        simp at zz
        omega)
      obtain ⟨y1, y2⟩ := e6 k j (fun y => z (Or.inl y)) (fun y => z (Or.inr (Or.inl y)))
      exact ⟨x1.trans y1, x2.trans y2⟩) f (by rw [(o3 8 8 (by omega)).1]; exact e2) (by rw [(o3 90 p (by omega)).1]; exact e3) hfh w1 w2 w3 w4 (by omega) (by omega) (by omega)
