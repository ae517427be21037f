/-! an error goes up: a frame of the text is taken away -/
theorem x_popg {σ0 τ0 σ τ : lj_S} {n np p : Nat} {r : List Nat} {FP : Nat → List kF} {ρ : Nat → Nat} {A MO LA : List Nat} (h : MB σ0 τ0 n np p r FP ρ A MO LA σ τ) {F : kF} {L : List kF} (hF : FP p = F :: L) (h0 : kS F = 0) : ∃ σ' ρ' ms ks, lj_R lc_P 149 [.ref 8] σ = some (.inl none, σ') ∧ (τ.1 80 (48 * p + L.length) = Int32.ofNat ms ∧ τ.1 81 (48 * p + L.length) = Int32.ofNat ks ∧ τ.1 62 p = Int32.ofNat (L.length + 1) ∧ τ.1 65 p = Int32.ofNat (L.length + 1) ∧ τ.1 74 (48 * p + L.length) = 0 ∧ L.length < 20 ∧ p < 26 ∧ τ.1 0 111 = Int32.ofNat p) ∧ (∀ τ2 : lj_S, (∀ k j, ¬ (62 ≤ k ∧ k ≤ 65 ∧ j = p ∨ szM k j = true) → τ2.1 k j = τ.1 k j ∧ τ2.2 k j = τ.2 k j) → τ2.1 63 p = Int32.ofNat ms → τ2.1 64 p = Int32.ofNat ks → τ2.1 62 p = Int32.ofNat L.length → τ2.1 65 p = Int32.ofNat L.length → MB σ0 τ0 n np p r (fpT FP p L) ρ' A MO LA σ' τ2) ∧ (∀ k j, ¬ (74 ≤ k ∧ k ≤ 76) → k ≠ 81 → ¬ (k = 8 ∧ (j = 8 ∨ j = 34 ∨ j = 35)) → k ≠ 90 → σ'.1 k j = σ.1 k j ∧ σ'.2 k j = σ.2 k j) := by
  obtain ⟨ms, ks, ce, me, mq, V⟩ := h.w hF h0
  have B := V.bd
  have nl := V.ff.1
  obtain ⟨t5, t6, t7, t8, t10⟩ := V.2.2.2.2.1.2.2.2.2.1
  have h1 := MB.wd h hF h0 V (dd' := 0) (Nat.zero_le _)
  obtain ⟨σ1, ρ1, e1, e2, e3⟩ := x_cls (F := F) (L := L) (c := (kY F).2.1) (m := (kY F).2.2.1) (s := (kY F).2.2.2.1) (Int32.ofNat (kC F)) (ce := ce) (by omega) (ce - kC F) (kC F) (kY F).2.2.2.2.1 σ ρ (by omega) (Nat.le_refl _) h1 V.tp
  have ef : (kY F).2.2.2.2.1.filter (fun z => decide (kB F + z < kC F ∨ ce ≤ kB F + z)) = [] := List.filter_eq_nil_iff.2 (fun z hz => by
    have := (t5 z hz).1
    simp
    omega)
  rw [ef] at e3
  have fo := fpT_o FP p (kTo F (kY F).2.1 (kY F).2.2.1 (kY F).2.2.2.1 [] 0 0 0 :: L)
  obtain ⟨ms2, ks2, ce2, me2, mq2, V2⟩ := e3.w fo rfl
  have B2 := V2.bd
  have pb := prt_bd V2.2.1 V2.2.2.2.1
  have pb1 : kC F ≤ 12500 * p + 619 * L.length := pb.1
  have pa := V2.1
  have pa' := pa
  obtain ⟨p1, ⟨p2, p3, p4, p5⟩, p6, p7, p8, p9, p10, p11⟩ := pa'
  rw [fo, List.length_cons] at p2 p7 p10 p11
  have h7 : σ1.1 8 7 = Int32.ofNat p := e3.2.2.2.2.2.2.1.2.1.1
  have fr := V2.2.2.1
  have c95 : σ1.1 95 (20 * p + L.length) = Int32.ofNat (kC F) := fr.1.1
  have m80 : τ.1 80 (48 * p + L.length) = Int32.ofNat ms2 := fr.1.2.1
  have m81 : τ.1 81 (48 * p + L.length) = Int32.ofNat ks2 := fr.1.2.2
  have c34 : σ1.1 8 34 = Int32.ofNat (20 * p + L.length) := V2.i34
  have i34 : lj_in (σ1.1 8 34) 520 := by rw [c34]; exact ofN_in (by omega) (by omega)
  have n34 : (σ1.1 8 34).toNatClampNeg = (20 * p + L.length) := by rw [c34]; exact lz_onat (by omega)
  have i34' : lj_in (σ.1 8 34) 520 := by rw [V.i34]; exact ofN_in (by omega) (by omega)
  have n34' : (σ.1 8 34).toNatClampNeg = (20 * p + L.length) := by rw [V.i34]; exact lz_onat (by omega)
  have i7 : lj_in (σ1.1 8 7) 26 := by rw [h7]; exact ofN_in (by omega) (by omega)
  have n7 : (σ1.1 8 7).toNatClampNeg = p := by rw [h7]; exact lz_onat (by omega)
  have sf := c_setF (σ := lj_put (lj_put σ1 8 8 (Int32.ofNat (kC F))) 90 p (Int32.ofNat L.length)) (p := p) (l := L.length) (by simp [lj_put_1, h7]) (by omega) (by simp [lj_put_1, lj_putL_1]) (by omega)
  -- the component's state
  obtain ⟨σ', hs'⟩ : ∃ σ', σ' = (if L.length = 0 then lj_put (lj_put (lj_put (lj_put σ1 8 8 (Int32.ofNat (kC F))) 90 p (Int32.ofNat L.length)) 8 34 (-1)) 8 35 0 else lj_put (lj_put (lj_put (lj_put σ1 8 8 (Int32.ofNat (kC F))) 90 p (Int32.ofNat L.length)) 8 34 (Int32.ofNat (20 * p + (L.length - 1)))) 8 35 ((lj_put (lj_put σ1 8 8 (Int32.ofNat (kC F))) 90 p (Int32.ofNat L.length)).1 96 (20 * p + (L.length - 1)))) := ⟨_, rfl⟩
  rw [← hs'] at sf
  have oC : ∀ k j, ¬ (k = 8 ∧ (j = 8 ∨ j = 34 ∨ j = 35)) → ¬ (k = 90 ∧ j = p) → σ'.1 k j = σ1.1 k j ∧ σ'.2 k j = σ1.2 k j := fun k j z1 z2 => by
    rw [hs']
    by_cases y : L.length = 0
    · rw [if_pos y, lj_put_1, if_neg (by omega), lj_put_1, if_neg (by omega), lj_put_1, if_neg (by omega), lj_put_1, if_neg (by omega)]
      exact ⟨rfl, rfl⟩
    · rw [if_neg y, lj_put_1, if_neg (by omega), lj_put_1, if_neg (by omega), lj_put_1, if_neg (by omega), lj_put_1, if_neg (by omega)]
      exact ⟨rfl, rfl⟩
  have e8 : σ'.1 8 8 = Int32.ofNat (kC F) := by
    rw [hs']
    by_cases y : L.length = 0
    · rw [if_pos y]; exact (by simp [lj_put_1, lj_putL_1])
    · rw [if_neg y]; exact (by simp [lj_put_1, lj_putL_1])
  have e90 : σ'.1 90 p = Int32.ofNat L.length := by
    rw [hs']
    by_cases y : L.length = 0
    · rw [if_pos y]; exact (by simp [lj_put_1, lj_putL_1])
    · rw [if_neg y]; exact (by simp [lj_put_1, lj_putL_1])
  have gfh : fhR σ' p L := by
    cases L with
    | nil =>
      show σ'.1 8 34 = -1
      rw [hs', if_pos (show ([] : List kF).length = 0 from rfl)]; exact (by simp [lj_put_1, lj_putL_1])
    | cons F2 L2 =>
      obtain ⟨ms3, ks3, q1, q2, q3⟩ := V2.2.1
      refine ⟨?_, fun z => ?_⟩
      · rw [hs', if_neg (by simp), List.length_cons, Nat.add_sub_cancel]; exact (by simp [lj_put_1, lj_putL_1])
      · rcases q2.2 with ⟨_, t⟩ | ⟨y, _⟩
        · have t := t.1.2.2.2.2
          rw [hs', if_neg (by simp), List.length_cons, Nat.add_sub_cancel, lj_put_1, if_pos ⟨rfl, rfl⟩, lj_put_1, if_neg (by omega), lj_put_1, if_neg (by omega)]
          exact t
        · omega
  refine ⟨σ', ρ1, ms2, ks2, ?_, ⟨m80, m81, p10, p11, V.2.2.2.2.1.2.1.1, by omega, by omega, V.at.1⟩, fun τ2 g w1 w2 w3 w4 => ?_, fun k j z1 z2 z3 z4 => ?_⟩
  · have c91 : σ.1 91 (σ.1 8 34).toNatClampNeg = 0 := by rw [n34']; exact V.2.2.2.2.1.1.1
    have c95' : σ.1 95 (σ.1 8 34).toNatClampNeg = Int32.ofNat (kC F) := by rw [n34']; exact V.2.2.1.1.1
    have c95'' : σ1.1 95 (σ1.1 8 34).toNatClampNeg = Int32.ofNat (kC F) := by rw [n34]; exact c95
    have c90 : σ1.1 90 (σ1.1 8 7).toNatClampNeg - 1 = Int32.ofNat L.length := by rw [n7, p7]; exact lz_pred' _
    rw [rc_149, kc_149_0, if_pos i34', if_pos c91, if_pos i34', c95', rc_150, kc_150_0, e1, bv_ok, kc_149_25, if_pos i34, if_pos i7, if_pos i7, c95'', c90, n7, sf, bv_ok]
  · have mb := e3.pop fo (show (0 : Nat) ≠ 2 by decide) (fun a w => by obtain ⟨_, x, hx, _⟩ := w; cases hx) pa V2.2.1 (σ' := σ') (τ' := τ2) (fun k j z => oC k j (fun y => z (Or.inl y)) (fun y => z (Or.inr (Or.inl y)))) g e8 e90 gfh w1 w2 w3 w4 (by show kC F ≤ _; omega) (by have := pb.2.1; omega) (by have := pb.2.2; omega)
    rw [fpT_2] at mb
    exact mb
  · obtain ⟨x1, x2⟩ := oC k j z3 (fun y => z4 y.1)
    obtain ⟨y1, y2⟩ := e2 k j z1 z2
    exact ⟨x1.trans y1, x2.trans y2⟩
