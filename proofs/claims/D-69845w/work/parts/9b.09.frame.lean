/-! a frame that is none of the text comes -/
theorem MB.pnf {σ0 τ0 σ τ : lj_S} {n np p : Nat} {r : List Nat} {FP : Nat → List kF} {ρ : Nat → Nat} {A MO LA : List Nat} (h : MB σ0 τ0 n np p r FP ρ A MO LA σ τ) {L : List kF} (hF : FP p = L) (hl : L.length < 20) {F : kF} (hS : kS F = 1 ∨ kS F = 2) (hC : σ.1 8 8 = Int32.ofNat (kC F)) (hCl : kC F < 2147483648) {σ' τ' : lj_S} (f : ∀ k j, ¬ (k = 8 ∧ j = 34 ∨ k = 90 ∧ j = p ∨ 91 ≤ k ∧ k ≤ 102 ∧ j = (20 * p + L.length) ∨ szC k j = true) → σ'.1 k j = σ.1 k j ∧ σ'.2 k j = σ.2 k j) (g : ∀ k j, ¬ ((k = 62 ∨ k = 65) ∧ j = p ∨ 74 ≤ k ∧ k ≤ 86 ∧ j = (48 * p + L.length) ∨ szM k j = true) → τ'.1 k j = τ.1 k j ∧ τ'.2 k j = τ.2 k j) (e34 : σ'.1 8 34 = Int32.ofNat (20 * p + L.length)) (e90 : σ'.1 90 p = Int32.ofNat (L.length + 1)) (e91 : σ'.1 91 (20 * p + L.length) = Int32.ofNat (kS F)) (e95 : σ'.1 95 (20 * p + L.length) = σ.1 8 8) (e62 : τ'.1 62 p = Int32.ofNat (L.length + 1)) (e65 : τ'.1 65 p = Int32.ofNat (L.length + 1)) (e74 : τ'.1 74 (48 * p + L.length) = Int32.ofNat (kS F)) (e80 : τ'.1 80 (48 * p + L.length) = τ.1 63 p) (e81 : τ'.1 81 (48 * p + L.length) = τ.1 64 p) (haw : awR σ0 L (σ'.1 98 (20 * p + L.length)) (τ'.1 78 (48 * p + L.length)) (τ'.1 79 (48 * p + L.length))) {A' MO' LA' : List Nat} (gga : gaR σ' τ' n (fpT FP p (F :: L)) (p :: r) A' MO' LA') : MB σ0 τ0 n np p r (fpT FP p (F :: L)) ρ A' MO' LA' σ' τ' := by
  have h7 := h.2.2.2.2.2.2.1
  have hp : p ≤ np := h7.2.2.2.2.2.1 p List.mem_cons_self
  have np25 := h7.1.2.2
  obtain ⟨ce, me, mq, hpa⟩ := h.2.2.2.2.2.2.2.1 p hp (by rw [h7.2.2.1.2]; decide)
  obtain ⟨p1, ⟨p2, p3, p4, p5⟩, p6, p7, p8, p9, p10, p11⟩ := hpa
  rw [hF] at p1
  rw [if_pos rfl] at p6
  have ek : kC F = ce := (ofN_eq (by omega) (by omega)).1 (by rw [← hC, ← p6])
  have fx : lf (rxC p) σ σ' := fun k j q => f k j (fun z => by
    unfold rxC at q
    simp at q
    rcases z with z | z | z | z
    · omega
    · omega
    · omega
    · rw [z] at q; simp at q)
  have gx : lf (rxM p) τ τ' := fun k j q => g k j (fun z => by
    unfold rxM at q
    simp at q
    rcases z with z | z | z
    · omega
    · omega
    · rw [z] at q; simp at q)
  have c : ∀ k j, (k < 2 ∨ 2 < k) ∧ k ≠ 3 ∧ k ≠ 7 ∧ k ≠ 8 ∧ k ≠ 14 ∧ (k < 105 ∨ 108 < k) ∧ (k < 90 ∨ 102 < k) → σ'.1 k j = σ.1 k j ∧ σ'.2 k j = σ.2 k j := fun k j z => f k j (fun y => by
    rcases y with y | y | y | y
    · omega
    · omega
    · omega
    · rw [szC_f (by omega)] at y; cases y)
  have cf : ∀ k i, 91 ≤ k → k ≤ 102 → i < L.length → σ'.1 k (20 * p + i) = σ.1 k (20 * p + i) := fun k i z1 z2 z3 => (f k _ (fun y => by
    rcases y with y | y | y | y
    · omega
    · omega
    · omega
    · rw [szC_f (by omega)] at y; cases y)).1
  have m : ∀ k j, k ≠ 0 ∧ k ≠ 8 ∧ (k < 88 ∨ 91 < k) ∧ k ≠ 62 ∧ k ≠ 65 ∧ (k < 74 ∨ 86 < k) → τ'.1 k j = τ.1 k j ∧ τ'.2 k j = τ.2 k j := fun k j z => g k j (fun y => by
    rcases y with y | y | y
    · omega
    · omega
    · rw [szM_f (by omega)] at y; cases y)
  have mf : ∀ k i, 74 ≤ k → k ≤ 86 → i < L.length → τ'.1 k (48 * p + i) = τ.1 k (48 * p + i) := fun k i z1 z2 z3 => (g k _ (fun y => by
    rcases y with y | y | y
    · omega
    · omega
    · rw [szM_f (by omega)] at y; cases y)).1
  have c7 : ∀ j, ¬ (j = 27 ∨ j = 28) → σ'.1 7 j = σ.1 7 j := fun j z => (f 7 j (fun y => by
    rcases y with y | y | y | y
    · omega
    · omega
    · omega
    · rw [szC_f (by omega)] at y; cases y)).1
  have c8 : ∀ j, ¬ (j = 34 ∨ j = 38 ∨ 41 ≤ j ∧ j ≤ 44) → σ'.1 8 j = σ.1 8 j := fun j z => (f 8 j (fun y => by
    rcases y with y | y | y | y
    · omega
    · omega
    · omega
    · rw [szC_f (by omega)] at y; cases y)).1
  have m0 : ∀ j, ¬ (j = 20 ∨ j = 90 ∨ j = 91 ∨ 129 ≤ j ∧ j ≤ 145) → τ'.1 0 j = τ.1 0 j ∧ τ'.2 0 j = τ.2 0 j := fun j z => g 0 j (fun y => by
    rcases y with y | y | y
    · omega
    · omega
    · rw [szM_f (by omega)] at y; cases y)
  have vC : ∀ k j, vqC k j = true → σ'.1 k j = σ.1 k j := fun k j q => (rx_eq fx (by unfold vqC at q; simp at q; omega)).1
  have vM : ∀ k j, vqM k j = true → τ'.1 k j = τ.1 k j := fun k j q => (rx_eqM gx (by unfold vqM at q; simp at q; omega)).1
  have hv : ∀ a b, vR σ τ a b → vR σ' τ' a b := fun a b w => w.cg vC vM
  have hO := oG_eq vC vM
  have ls : ∀ q a, lsL (fpT FP p (F :: L) q) a ↔ lsL (FP q) a := fun q a => by
    by_cases z : q = p
    · rw [z, fpT_o, hF]
      constructor
      · rintro ⟨G, hG, wG⟩
        rcases List.mem_cons.1 hG with e | e
        · rw [e] at wG
          have := wG.1
          omega
        · exact ⟨G, e, wG⟩
      · rintro ⟨G, hG, wG⟩; exact ⟨G, List.mem_cons_of_mem _ hG, wG⟩
    · unfold fpT; rw [if_neg z]
  refine h.rx fx gx (fun _ _ _ _ => rfl) ((h.2.2.2.2.2.2.2.2.2.1.cg hv (fun k j w => ?_) (fun j => (c 76 j (by omega)).2) (fun q s w => ⟨by unfold cv; rw [(c 79 s (by omega)).1, (c 80 s (by omega)).2], (c 81 s (by omega)).1⟩) (fun k j w => ?_) (fun j => (m 55 j (by omega)).2)).fp ls) ⟨ce, me, mq, ?_⟩ ⟨e34, fun z => by omega⟩ gga (fun j z => by rw [(c 81 j (by omega)).1]; exact h.2.2.2.2.2.2.2.2.2.2.2.2.1 j (fun q w => z q ((ls q j).2 w)))
  · rcases w with w | w | w | w | w | w | w
    · exact (c k j (by omega)).1
    · exact (c k j (by omega)).1
    · exact (c k j (by omega)).1
    · exact (c k j (by omega)).1
    · exact (c k j (by omega)).1
    · exact (c k j (by omega)).1
    · rw [w.1]; exact c7 j (by omega)
  · by_cases k0 : k = 0
    · rw [k0]; exact (m0 j (by omega)).1
    · exact (m k j (by omega)).1
  · refine ⟨?_, ⟨by rw [fpT_o, List.length_cons]; omega, p3, p4, p5⟩, ?_, by rw [fpT_o, List.length_cons]; exact e90, by rw [(m 63 p (by omega)).1]; exact p8, by rw [(m 64 p (by omega)).1]; exact p9, by rw [fpT_o, List.length_cons]; exact e62, by rw [fpT_o, List.length_cons]; exact e65⟩
    · rw [fpT_o]
      refine ⟨me, mq, ?_, ⟨⟨by rw [e95]; exact hC, by rw [e80]; exact p8, by rw [e81]; exact p9⟩, Or.inr ⟨hS, e91, e74, ek.symm, rfl, rfl⟩⟩, haw⟩
      rw [ek]
      exact prt_cg hv hO (fun o _ => (c 62 o (by omega)).1) p1 (fun j _ _ _ => ⟨(c 79 j (by omega)).1, (c 80 j (by omega)).2, (c 81 j (by omega)).1⟩) (fun k i w1 w2 w3 => cf k i w1 (by omega) w3) (fun j _ => ⟨(m 71 _ (by omega)).1, (m 72 _ (by omega)).2⟩) (fun j _ => (m 73 _ (by omega)).1) (fun k i w1 w2 w3 => mf k i w1 (by omega) w3) (fun i x _ _ => (m 87 _ (by omega)).1) (fun _ _ => rfl)
    · rw [if_pos rfl, c8 8 (by omega)]
      exact p6
/-- the model drops the first that is given: it is what is called -/
def shM (k j : Nat) : Bool := k == 88 || k == 89 || (k == 0 && (j == 129 || j == 133 || j == 134 || j == 137))
theorem m_sh_loop (G : List vT) (hl : G.length ≤ 126) : ∀ (d i : Nat) (τ : lj_S), i + d + 1 = G.length → lv τ 0 137 = (G.length : Int) → (∀ j, j < i → (τ.1 88 j, τ.2 89 j) = G.getD (j + 1) (0, 0)) → (∀ j, i ≤ j → j < G.length → (τ.1 88 j, τ.2 89 j) = G.getD j (0, 0)) → ∃ τ', lj_D lm_P lm_M204 20 [.ref 0, .int (Int32.ofNat (i + 1))] [] τ = some (.inl none, τ') ∧ gvM τ' G.tail ∧ lf shM τ τ' ∧ (τ'.1 0 133 = τ.1 0 133 ∧ τ'.2 0 134 = τ.2 0 134 ∧ τ'.1 0 129 = 3)
  | 0, i, τ, hd, h38, ha, hb => by
    have e38 : τ.1 0 137 = Int32.ofNat (i + 1) := lz_ext (by rw [lz_lit (by omega)]; unfold lv at h38; rw [h38]; omega)
    refine ⟨lj_put (lj_put τ 0 137 (Int32.ofNat i)) 0 129 3, ?_, ⟨?_, fun j hj => ?_⟩, lf_put (lf_put (lf_rf _ _) _ _ _ rfl) _ _ _ rfl, (by simp [lj_put_1, lj_putL_1]), rfl, (by simp [lj_put_1, lj_putL_1])⟩
    · rw [km_204_20, e38, if_pos (by rw [lz_le]; omega), if_neg (ofN_le0 i (by omega)), km_204_80, lz_pred']
    · unfold lv
      rw [lj_put_1, if_neg (by omega), lj_put_1, if_pos ⟨rfl, rfl⟩, lz_lit (by omega), List.length_tail]; omega
    · rw [List.length_tail] at hj
      rw [lj_put_1, if_neg (by omega), lj_put_1, if_neg (by omega)]
      show (τ.1 88 j, τ.2 89 j) = _
      rw [ha j (by omega)]
      cases G with
      | nil => rfl
      | cons x G => rfl
  | d + 1, i, τ, hd, h38, ha, hb => by
    have e38 : τ.1 0 137 = Int32.ofNat G.length := lz_ext (by rw [lz_lit (by omega)]; exact h38)
    have i1 : lj_in (Int32.ofNat i) 128 := ofN_in (by omega) (by omega)
    have i2 : lj_in (Int32.ofNat (i + 1)) 128 := ofN_in (by omega) (by omega)
    have e1 : (Int32.ofNat i).toNatClampNeg = i := lz_onat (by omega)
    have e2 : (Int32.ofNat (i + 1)).toNatClampNeg = i + 1 := lz_onat (by omega)
    have o1 : ∀ j, (lj_putL (lj_put τ 88 i (τ.1 88 (i + 1))) 89 i (τ.2 89 (i + 1))).1 88 j = if j = i then τ.1 88 (i + 1) else τ.1 88 j := fun j => by
      rw [lj_putL_1, lj_put_1]; simp
    have o2 : ∀ j, (lj_putL (lj_put τ 88 i (τ.1 88 (i + 1))) 89 i (τ.2 89 (i + 1))).2 89 j = if j = i then τ.2 89 (i + 1) else τ.2 89 j := fun j => by
      rw [lj_putL_2]; simp; rfl
    obtain ⟨τ', a1, a2, a3, a4, a5, a6⟩ := m_sh_loop G hl d (i + 1) (lj_putL (lj_put τ 88 i (τ.1 88 (i + 1))) 89 i (τ.2 89 (i + 1))) (by omega) (by rw [lv_putL, lv_put, if_neg (by omega)]; exact h38) (fun j hj => by
      rw [o1, o2]
      by_cases w : j = i
      · rw [if_pos w, if_pos w, w]; exact hb (i + 1) (by omega) (by omega)
      · rw [if_neg w, if_neg w]; exact ha j (by omega)) (fun j h1 h2 => by
      rw [o1, o2, if_neg (by omega), if_neg (by omega)]; exact hb j (by omega) (by omega))
    refine ⟨τ', ?_, a2, (lf_putL (lf_put (lf_rf shM τ) 88 i (τ.1 88 (i + 1)) rfl) 89 i (τ.2 89 (i + 1)) rfl).tr a3, by rw [a4, lj_putL_1, lj_put_1, if_neg (by omega)], by rw [a5, lj_putL_2, if_neg (by omega)]; rfl, a6⟩
    rw [km_204_20, e38, if_neg (by rw [lz_le, lz_lit (by omega), lz_lit (by omega)]; omega), if_pos i2, lz_pred', if_pos i1, if_pos i2, if_pos i1, e1, e2, lz_osucc]
    exact a1
theorem m_shift {τ : lj_S} {G : List vT} (h : gvM τ G) (hl : G.length ≤ 126) : ∃ τ', lj_R lm_P 204 [.ref 0] τ = some (.inl none, τ') ∧ gvM τ' G.tail ∧ lf shM τ τ' ∧ (τ'.1 0 133, τ'.2 0 134) = G.getD 0 (0, 0) ∧ τ'.1 0 129 = 3 := by
  have k1 := m_ak h (by omega) (i := 0) (by omega)
  obtain ⟨b, hb⟩ : ∃ b, b = G.getD 0 (0, 0) := ⟨_, rfl⟩
  rw [← hb] at k1 ⊢
  have k1 : lj_R lm_P 190 [.ref 0, .int 1] τ = some (.inl (some (.int b.1)), τ) := k1
  have h1 : gvM (lj_put τ 0 133 b.1) G := ⟨by unfold lv; rw [lj_put_1, if_neg (by omega)]; exact h.1, fun j hj => by rw [lj_put_1, if_neg (by omega)]; exact h.2 j hj⟩
  have k2 := m_an h1 (by omega) (i := 0) (by omega)
  rw [← hb] at k2
  have k2 : lj_R lm_P 191 [.ref 0, .int 1] (lj_put τ 0 133 b.1) = some (.inl (some (.long b.2)), lj_put τ 0 133 b.1) := k2
  obtain ⟨τa, hτa⟩ : ∃ τa, τa = lj_putL (lj_put τ 0 133 b.1) 0 134 b.2 := ⟨_, rfl⟩
  have h2 : gvM τa G := by
    rw [hτa]
    refine ⟨by unfold lv; rw [lj_putL_1]; exact h1.1, fun j hj => ?_⟩
    rw [lj_putL_1, lj_putL_2, if_neg (by omega)]
    exact h1.2 j hj
  have lfa : lf shM τ τa := by rw [hτa]; exact lf_putL (lf_put (lf_rf _ _) _ _ _ rfl) _ _ _ rfl
  have a133 : τa.1 0 133 = b.1 := by rw [hτa]; exact (by simp [lj_put_1, lj_putL_1])
  have a134 : τa.2 0 134 = b.2 := by rw [hτa, lj_putL_2, if_pos ⟨rfl, rfl⟩]
  cases G with
  | nil =>
    have e38 : τa.1 0 137 = 0 := lz_ext (by have := h2.1; unfold lv at this; rw [this]; rfl)
    refine ⟨lj_put (lj_put τa 0 137 0) 0 129 3, ?_, ⟨by unfold lv; rw [lj_put_1, if_neg (by omega), lj_put_1, if_pos ⟨rfl, rfl⟩]; rfl, fun j hj => absurd hj (Nat.not_lt_zero _)⟩, lf_put (lf_put lfa _ _ _ rfl) _ _ _ rfl, ?_, (by simp [lj_put_1, lj_putL_1])⟩
    · rw [rm_204, km_204_0, k1, bi_ok, k2, bl_ok, ← hτa, km_204_20, e38, if_pos (by decide), if_pos (by decide), km_204_80]
    · rw [lj_put_1, if_neg (by omega), lj_put_1, if_neg (by omega), a133]
      show (b.1, τa.2 0 134) = b
      rw [a134]
  | cons x G =>
    obtain ⟨τ', a1, a2, a3, a4, a5, a6⟩ := m_sh_loop (x :: G) hl G.length 0 τa (by rw [List.length_cons]; omega) h2.1 (fun j hj => absurd hj (Nat.not_lt_zero _)) (fun j _ hj => h2.2 j hj)
    refine ⟨τ', ?_, a2, lfa.tr a3, by rw [a4, a5, a133, a134], a6⟩
    rw [rm_204, km_204_0, k1, bi_ok, k2, bl_ok, ← hτa]
    exact a1
