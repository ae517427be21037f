/-! a frame ends -/
/-- the component closes all cells of the uppermost frame -/
theorem x_cls {σ0 τ0 τ : lj_S} {n np p : Nat} {r : List Nat} {FP : Nat → List kF} {A MO LA : List Nat} {F : kF} {L : List kF} {c m ce : Nat} {s : List Nat} (x1 : Int32) (hce : ce ≤ 325000) : ∀ (d t : Nat) (l : List Nat) (σ : lj_S) (ρ : Nat → Nat), t + d = ce → kC F ≤ t → MB σ0 τ0 n np p r (fpT FP p (kTo F c m s l 0 0 0 :: L)) ρ A MO LA σ τ → σ.1 8 8 = Int32.ofNat ce → ∃ σ' ρ', lj_D lc_P lc_M150 2 [.ref 8, .int x1, .int (Int32.ofNat t)] [] σ = some (.inl none, σ') ∧ (∀ k j, ¬ (74 ≤ k ∧ k ≤ 76) → k ≠ 81 → σ'.1 k j = σ.1 k j ∧ σ'.2 k j = σ.2 k j) ∧ MB σ0 τ0 n np p r (fpT FP p (kTo F c m s (l.filter (fun z => decide (kB F + z < t ∨ ce ≤ kB F + z))) 0 0 0 :: L)) ρ' A MO LA σ' τ
  | 0, t, l, σ, ρ, hy, hd, h, h8 => by
    refine ⟨σ, ρ, ?_, fun _ _ _ _ => ⟨rfl, rfl⟩, ?_⟩
    · rw [kc_150_2, h8, if_pos ((ofN_le (by omega) (by omega)).2 (by omega))]
    · rw [List.filter_eq_self.2 (fun z _ => by simp; omega)]
      exact h
  | d + 1, t, l, σ, ρ, hy, hd, h, h8 => by
    have fo := fpT_o FP p (kTo F c m s l 0 0 0 :: L)
    obtain ⟨ms, ks, ce1, me, mq, V⟩ := h.w fo rfl
    have B := V.bd
    have B7 : kB F = kC F + kD F := rfl
    have cnd : ¬ (σ.1 8 8 ≤ Int32.ofNat t) := by rw [h8, ofN_le (by omega) (by omega)]; omega
    by_cases hl : ∃ y ∈ l, t = kB F + y
    · obtain ⟨y, hy1, hy2⟩ := hl
      obtain ⟨σ1, ρ1, e1, e2, e3⟩ := MB.c1 h fo rfl V (x := y) hy1 (Nat.zero_le _)
      rw [fpT_2, kTo_2] at e3
      have e3 : MB σ0 τ0 n np p r (fpT FP p (kTo F c m s (l.filter (· != y)) 0 0 0 :: L)) ρ1 A MO LA σ1 τ := e3
      have e1 : lj_R lc_P 151 [.ref 8, .int (Int32.ofNat (kB F + y))] σ = some (.inl none, σ1) := e1
      have e2 : ∀ k j, ¬ (74 ≤ k ∧ k ≤ 76) → ¬ (k = 81 ∧ j = kB F + y) → σ1.1 k j = σ.1 k j ∧ σ1.2 k j = σ.2 k j := e2
      rw [← hy2] at e1
      obtain ⟨σ', ρ', g1, g2, g3⟩ := x_cls x1 hce d (t + 1) (l.filter (· != y)) σ1 ρ1 (by omega) (by omega) e3 (by rw [(e2 8 8 (by omega) (by omega)).1]; exact h8)
      refine ⟨σ', ρ', ?_, fun k j z1 z2 => ?_, ?_⟩
      · rw [kc_150_2, if_neg cnd, e1, bv_ok, lz_osucc]
        exact g1
      · obtain ⟨a1, a2⟩ := g2 k j z1 z2
        obtain ⟨b1, b2⟩ := e2 k j z1 (fun z => z2 z.1)
        exact ⟨a1.trans b1, a2.trans b2⟩
      · have ef : (l.filter (· != y)).filter (fun z => decide (kB F + z < t + 1 ∨ ce ≤ kB F + z)) = l.filter (fun z => decide (kB F + z < t ∨ ce ≤ kB F + z)) := by
          rw [List.filter_filter]
          refine List.filter_congr (fun z _ => ?_)
          by_cases z1 : z = y
          · rw [z1]; simp; omega
          · by_cases z2 : kB F + z < t ∨ ce ≤ kB F + z
            · simp [z1, z2]; omega
            · simp [z1, z2]; omega
        rw [ef] at g3
        exact g3
    · obtain ⟨σ', ρ', g1, g2, g3⟩ := x_cls x1 hce d (t + 1) l σ ρ (by omega) (by omega) h h8
      have ec : ce1 = ce := (ofN_eq (by omega) (by omega)).1 (by rw [← V.tp, ← h8])
      have n81 : σ.1 81 t = -1 := V.n81 (t := t) hd (by omega) (fun x hx e => hl ⟨x, hx, e⟩)
      refine ⟨σ', ρ', ?_, g2, ?_⟩
      · rw [kc_150_2, if_neg cnd, c_cl0 (by omega) n81, bv_ok, lz_osucc]
        exact g1
      · have ef : l.filter (fun z => decide (kB F + z < t + 1 ∨ ce ≤ kB F + z)) = l.filter (fun z => decide (kB F + z < t ∨ ce ≤ kB F + z)) := by
          refine List.filter_congr (fun z hz => ?_)
          have : kB F + z ≠ t := fun w => hl ⟨z, hz, w.symm⟩
          by_cases z2 : kB F + z < t ∨ ce ≤ kB F + z
          · simp [z2]; omega
          · simp [z2]; omega
        rw [ef] at g3
        exact g3
/-- the frame below comes to hand -/
theorem c_setF {σ : lj_S} {p l : Nat} (h7 : σ.1 8 7 = Int32.ofNat p) (hp : p < 26) (h90 : σ.1 90 p = Int32.ofNat l) (hl : l ≤ 20) : lj_R lc_P 129 [.ref 8] σ = some (.inl none, if l = 0 then lj_put (lj_put σ 8 34 (-1)) 8 35 0 else lj_put (lj_put σ 8 34 (Int32.ofNat (20 * p + (l - 1)))) 8 35 (σ.1 96 (20 * p + (l - 1)))) := by
  have i : lj_in (σ.1 8 7) 26 := by rw [h7]; exact ofN_in (by omega) (by omega)
  have e : (σ.1 8 7).toNatClampNeg = p := by rw [h7]; exact lz_onat (by omega)
  have e90 : σ.1 90 (σ.1 8 7).toNatClampNeg = Int32.ofNat l := by rw [e]; exact h90
  rw [rc_129, kc_129_0, if_pos i]
  by_cases z : l = 0
  · rw [if_pos (by rw [e90, z]; rfl), kc_129_36, if_neg (by decide), kc_129_60, if_pos z]
  · have ne : Int32.ofNat l ≠ 0 := fun y => z ((ofN_eq (c := 0) (by omega) (by omega)).1 y)
    have e1 : Int32.ofNat l - 1 = Int32.ofNat (l - 1) := by
      have := lz_pred' (l - 1)
      rw [show l - 1 + 1 = l by omega] at this
      exact this
    have e2 : Int32.ofNat p * 20 + Int32.ofNat (l - 1) = Int32.ofNat (20 * p + (l - 1)) := by
      rw [show (20 : Int32) = Int32.ofNat 20 from rfl, ← Int32.ofNat_mul, ← Int32.ofNat_add, Nat.mul_comm]
    have ge : (0 : Int32) ≤ Int32.ofNat (20 * p + (l - 1)) := (ofN_le (a := 0) (by omega) (by omega)).2 (Nat.zero_le _)
    rw [if_neg (by rw [e90]; exact ne), if_pos i, e90, h7, e1, rc_130, kc_130_0, bi_ok, e2, kc_129_36, if_pos ge, if_pos (ofN_in (by omega) (by omega)), kc_129_60, if_neg z, lz_onat (by omega)]
/-- both without the uppermost frame -/
theorem MB.pop {σ0 τ0 σ τ : lj_S} {n np p : Nat} {r : List Nat} {FP : Nat → List kF} {ρ : Nat → Nat} {A MO LA : List Nat} (h : MB σ0 τ0 n np p r FP ρ A MO LA σ τ) {F : kF} {L : List kF} (hF : FP p = F :: L) (hS : kS F ≠ 2) (hnl : ∀ a, ¬ lsF F a) {ms ks ce me mq : Nat} (hpa : paR σ0 τ0 σ τ ρ FP p p ce me mq) (hp : prt σ0 τ0 σ τ ρ p L (kC F) ms ks) {σ' τ' : lj_S} (f : ∀ k j, ¬ (k = 8 ∧ (j = 8 ∨ j = 34 ∨ j = 35) ∨ k = 90 ∧ j = p ∨ szC k j = true) → σ'.1 k j = σ.1 k j ∧ σ'.2 k j = σ.2 k j) (g : ∀ k j, ¬ (62 ≤ k ∧ k ≤ 65 ∧ j = p ∨ szM k j = true) → τ'.1 k j = τ.1 k j ∧ τ'.2 k j = τ.2 k j) (e8 : σ'.1 8 8 = Int32.ofNat (kC F)) (e90 : σ'.1 90 p = Int32.ofNat L.length) (e34 : fhR σ' p L) (e63 : τ'.1 63 p = Int32.ofNat ms) (e64 : τ'.1 64 p = Int32.ofNat ks) (e62 : τ'.1 62 p = Int32.ofNat L.length) (e65 : τ'.1 65 p = Int32.ofNat L.length) (b1 : kC F ≤ 12500 * p + 12500) (b2 : ms ≤ 10000) (b3 : ks ≤ 2000) : MB σ0 τ0 n np p r (fpT FP p L) ρ A MO LA σ' τ' := by
  have fx : lf (rxC p) σ σ' := fun k j q => f k j (fun z => by
    unfold rxC at q
    simp at q
    rcases z with z | z | z
    · omega
    · omega
    · rw [z] at q; simp at q)
  have gx : lf (rxM p) τ τ' := fun k j q => g k j (fun z => by
    unfold rxM at q
    simp at q
    rcases z with z | z
    · omega
    · rw [z] at q; simp at q)
  have c : ∀ k j, (k < 2 ∨ 2 < k) ∧ k ≠ 3 ∧ k ≠ 7 ∧ k ≠ 8 ∧ k ≠ 14 ∧ (k < 105 ∨ 108 < k) ∧ k ≠ 90 → σ'.1 k j = σ.1 k j ∧ σ'.2 k j = σ.2 k j := fun k j z => f k j (fun y => by
    rcases y with y | y | y
    · omega
    · omega
    · rw [szC_f (by omega)] at y; cases y)
  have m : ∀ k j, k ≠ 0 ∧ k ≠ 8 ∧ (k < 88 ∨ 91 < k) ∧ (k < 62 ∨ 65 < k) → τ'.1 k j = τ.1 k j ∧ τ'.2 k j = τ.2 k j := fun k j z => g k j (fun y => by
    rcases y with y | y
    · omega
    · rw [szM_f (by omega)] at y; cases y)
  have c7 : ∀ j, ¬ (j = 27 ∨ j = 28) → σ'.1 7 j = σ.1 7 j := fun j z => (f 7 j (fun y => by
    rcases y with y | y | y
    · omega
    · omega
    · rw [szC_f (by omega)] at y; cases y)).1
  have c8 : ∀ j, ¬ (j = 8 ∨ j = 34 ∨ j = 35 ∨ j = 38 ∨ 41 ≤ j ∧ j ≤ 44) → σ'.1 8 j = σ.1 8 j := fun j z => (f 8 j (fun y => by
    rcases y with y | y | y
    · omega
    · omega
    · rw [szC_f (by omega)] at y; cases y)).1
  have m0 : ∀ j, ¬ (j = 20 ∨ j = 90 ∨ j = 91 ∨ 129 ≤ j ∧ j ≤ 145) → τ'.1 0 j = τ.1 0 j ∧ τ'.2 0 j = τ.2 0 j := fun j z => g 0 j (fun y => by
    rcases y with y | y
    · omega
    · rw [szM_f (by omega)] at y; cases y)
  have vC : ∀ k j, vqC k j = true → σ'.1 k j = σ.1 k j := fun k j q => (rx_eq fx (by unfold vqC at q; simp at q; omega)).1
  have vM : ∀ k j, vqM k j = true → τ'.1 k j = τ.1 k j := fun k j q => (rx_eqM gx (by unfold vqM at q; simp at q; omega)).1
  have hv : ∀ a b, vR σ τ a b → vR σ' τ' a b := fun a b w => w.cg vC vM
  have oa : ∀ o k, obA σ' τ' o k ↔ obA σ τ o k := fun o k => by unfold obA lv; rw [vC 7 0 rfl, vC 57 o rfl, vM 38 o rfl]
  have ls : ∀ q a, lsL (fpT FP p L q) a ↔ lsL (FP q) a := fun q a => by
    by_cases z : q = p
    · rw [z, fpT_o, hF]
      constructor
      · rintro ⟨G, hG, wG⟩; exact ⟨G, List.mem_cons_of_mem _ hG, wG⟩
      · rintro ⟨G, hG, wG⟩
        rcases List.mem_cons.1 hG with e | e
        · rw [e] at wG; exact absurd wG (hnl a)
        · exact ⟨G, e, wG⟩
    · unfold fpT; rw [if_neg z]
  obtain ⟨p1, ⟨p2, p3, p4, p5⟩, p6, p7, p8, p9, p10, p11⟩ := hpa
  rw [hF, List.length_cons] at p2
  refine h.rx fx gx (fun _ _ _ _ => rfl) ((h.2.2.2.2.2.2.2.2.2.1.cg hv (fun k j w => ?_) (fun j => (c 76 j (by omega)).2) (fun q s w => ⟨by unfold cv; rw [(c 79 s (by omega)).1, (c 80 s (by omega)).2], (c 81 s (by omega)).1⟩) (fun k j w => ?_) (fun j => (m 55 j (by omega)).2)).fp ls) ⟨kC F, ms, ks, ?_⟩ e34 (h.2.2.2.2.2.2.2.2.2.2.1.cg (fun o k w => (oa o k).2 w) (fun k j w => ?_) (fun k j w => ?_) (fun j => (m 42 j (by omega)).2) (m0 78 (by omega)).2 (fun q e e' w => ?_)) (fun j z => by rw [(c 81 j (by omega)).1]; exact h.2.2.2.2.2.2.2.2.2.2.2.2.1 j (fun q w => z q ((ls q j).2 w)))
  · rcases w with w | w | w | w | w | w | w
    · exact (c k j (by omega)).1
    · exact (c k j (by omega)).1
    · exact (c k j (by omega)).1
    · exact (c k j (by omega)).1
    · exact (c k j (by omega)).1
    · exact (c k j (by omega)).1
    · rw [w.1]; exact c7 j (by omega)
  · rcases w with w | w | w | w | w | w
    · exact (m k j (by omega)).1
    · exact (m k j (by omega)).1
    · exact (m k j (by omega)).1
    · exact (m k j (by omega)).1
    · exact (m k j (by omega)).1
    · rw [w.1]; exact (m0 j (by omega)).1
  · unfold paR
    rw [fpT_o, if_pos rfl]
    exact ⟨prt_cg hv (oG_eq vC vM) (fun o _ => (c 62 o (by omega)).1) hp (fun j _ _ _ => ⟨(c 79 j (by omega)).1, (c 80 j (by omega)).2, (c 81 j (by omega)).1⟩) (fun k i w1 w2 w3 => (c k _ (by omega)).1) (fun j w => ⟨(m 71 _ (by omega)).1, (m 72 _ (by omega)).2⟩) (fun j w => (m 73 _ (by omega)).1) (fun k i w1 w2 w3 => (m k _ (by omega)).1) (fun i x _ _ => (m 87 _ (by omega)).1) (fun a _ => rfl), ⟨by omega, b1, b2, b3⟩, e8, e90, e63, e64, e62, e65⟩
  · rcases w with w | w | w | w | w | w | w | w | w
    · exact (c k j (by omega)).1
    · exact (c k j (by omega)).1
    · exact (c k j (by omega)).1
    · exact (c k j (by omega)).1
    · exact (c k j (by omega)).1
    · exact (c k j (by omega)).1
    · exact (c k j (by omega)).1
    · exact (c k j (by omega)).1
    · rw [w.1]; exact c8 j (by omega)
  · rcases w with w | w | w | w | w | w
    · exact (m k j (by omega)).1
    · exact (m k j (by omega)).1
    · exact (m k j (by omega)).1
    · exact (m k j (by omega)).1
    · exact (m k j (by omega)).1
    · rw [w.1]; exact (m0 j (by omega)).1
  · by_cases z : q = p
    · rw [z, fpT_o]
      rw [z, hF] at w
      rcases w with ⟨_, w2⟩ | ⟨w1, _⟩
      · exact w2
      · exact absurd w1 hS
    · unfold fpT; rw [if_neg z]; exact w
