/-! the act that makes a function -/
theorem cOb_o (σ : lj_S) (m : Nat) (k : Int32) {a j : Nat} (h1 : ¬ (a = 7 ∧ j = 0)) (h2 : ¬ ((57 ≤ a ∧ a ≤ 61 ∨ a = 65) ∧ j = m)) : (cOb σ m k).1 a j = σ.1 a j := by
  rw [cOb_1]; repeat rw [if_neg (by omega)]
theorem mOb_o (τ : lj_S) (m : Nat) (k : Int32) {a j : Nat} (h1 : ¬ (a = 0 ∧ j = 77)) (h2 : ¬ ((38 ≤ a ∧ a ≤ 41) ∧ j = m)) : (mOb τ m k).1 a j = τ.1 a j := by
  rw [mOb_1]; repeat rw [if_neg (by omega)]
theorem cOb_65 (σ : lj_S) (m : Nat) (k : Int32) : (cOb σ m k).1 65 m = 0 := by rw [cOb_1, if_neg (by omega), if_pos ⟨rfl, rfl⟩]
theorem mOb_38 (τ : lj_S) (m : Nat) (k : Int32) : (mOb τ m k).1 38 m = k := by rw [mOb_1, if_neg (by omega), if_neg (by omega), if_neg (by omega), if_pos ⟨rfl, rfl⟩]
theorem act_29 {σ0 τ0 σ τ : lj_S} {n np p : Nat} {r : List Nat} {FP : Nat → List kF} {ρ : Nat → Nat} {A MO LA : List Nat} (h : MB σ0 τ0 n np p r FP ρ A MO LA σ τ) {F : kF} {L : List kF} (hF : FP p = F :: L) (h0 : kS F = 0) (rg : rgR σ τ) (hs : stF σ0 τ0) {Z : List pT} (hk : insK σ0 τ0 (kY F).1 (kY F).2.1 (kY F).2.2.1 (kY F).2.2.2.1 (kY F).2.2.2.2.1 (kY F).2.2.2.2.2 Z 29) {n' : Nat} (hn : ∀ z ∈ Z, gn σ0 τ0 n' z) (hA : A = []) (hN : n' + 1 < kN F) (hwk : wkR FP (p :: r) A σ) : acR σ0 τ0 (fun t => t < thM FP (p :: r) MO LA) σ τ := by
  subst hA
  obtain ⟨g, ⟨g51, en1, en2⟩, ⟨⟨h29, h28⟩, g58, h3315, h330, h3330, hcap⟩, k1, k1', k2, k2', rfl⟩ := hk
  obtain ⟨ms, ks, ce, me, mq, V⟩ := h.w hF h0
  have B := V.bd
  have gz := hn _ List.mem_cons_self
  have gf := hn _ (List.mem_cons_of_mem _ List.mem_cons_self)
  have gf0 : gn σ0 τ0 0 (fnE σ0 τ0 g) := ⟨gf.1, by
    unfold wtp
    rw [if_pos ⟨en1, en2⟩]
    exact Nat.le_refl _⟩
  obtain ⟨f1, f2, f3, f4, fA, fL, fK, f5⟩ := c_ft h hF h0 hs k1 (by decide)
  obtain ⟨h1, rg1⟩ := h.ft hF h0 rg V true true
  obtain ⟨σa, hσa⟩ : ∃ s, s = lj_put σ 94 (20 * p + L.length) (Int32.ofNat ((kY F).2.1 + 1)) := ⟨_, rfl⟩
  obtain ⟨τa, hτa⟩ : ∃ s, s = lj_put τ 77 (48 * p + L.length) (Int32.ofNat ((kY F).2.2.1 + 1)) := ⟨_, rfl⟩
  have h1 : MB σ0 τ0 n np p r (fpT FP p (kTo F ((kY F).2.1 + 1) ((kY F).2.2.1 + 1) (kY F).2.2.2.1 (kY F).2.2.2.2.1 (kY F).2.2.2.2.2 0 0 :: L)) ρ [] MO LA (lj_put σ 94 (20 * p + L.length) (Int32.ofNat ((kY F).2.1 + 1))) (lj_put τ 77 (48 * p + L.length) (Int32.ofNat ((kY F).2.2.1 + 1))) := h1
  have rg1 : rgR (lj_put σ 94 (20 * p + L.length) (Int32.ofNat ((kY F).2.1 + 1))) (lj_put τ 77 (48 * p + L.length) (Int32.ofNat ((kY F).2.2.1 + 1))) := rg1
  rw [← hσa, ← hτa] at h1 rg1
  have cst : lj_R lc_P 139 [.ref 8] σ = _ := ca_22 σ f1 f3 f4 fA fL fK
  rw [f2, lz_osucc, k1', ← hσa] at cst
  have fo := fpT_o FP p (kTo F ((kY F).2.1 + 1) ((kY F).2.2.1 + 1) (kY F).2.2.2.1 (kY F).2.2.2.2.1 (kY F).2.2.2.2.2 0 0 :: L)
  have hpr := h.npr
  have mst : ∀ τ2, lj_R lm_P 152 [.ref 0, .int (Int32.ofNat g), .int (Int32.ofNat (48 * p + L.length))] τa = some (.inl none, τ2) → ∀ x, mRun x τ = mRun x τ2 := fun τ2 e => run_step rg.2.1 rg.2.2.1 (m_lo h hF h0 V hs k2 (by decide) (τ2 := τ2) (fun z1 z2 => by rw [my_25 _ z1 z2, k2', ← hτa, e, bv_ok, km_127_420]))
  rcases cm_object h1.2.2.2.1 5 with ⟨z, x1, x2⟩ | ⟨z, x1, x2, x3, x4, x5⟩
  · -- no room
    refine ac_tr h hF h0 rfl hwk (F' := kTo F ((kY F).2.1 + 1) ((kY F).2.2.1 + 1) (kY F).2.2.2.1 (kY F).2.2.2.2.1 (kY F).2.2.2.2.2 0 0) rfl (by show 0 + 1 < kN F; omega) (ρ' := ρ) ⟨σ, lj_put σa 2 6 1, lj_put τa 0 143 4, fun _ => rfl, rg.1, ?_, mst _ ?_, ?_⟩
    · rw [cst, rc_208, kc_208_0, x1, bi_th, bv_th]
    · rw [rm_152, km_152_0, x2, bi_ok, if_pos rfl]
    · exact h1.nr rg1 (i := 0) (lo := 0) (i' := 0) (ml := 0) (kl := 0) (tq_26 (lf_rf _ _) _) (tn_143 (tqN_m (lf_rf _ _)) _) (by simp [lj_put_1, lj_putL_1]) (by simp [lj_put_1, lj_putL_1])
  · -- its cells
    have hcl := h1.2.2.2.2.2.2.2.2.2.1
    obtain ⟨cl1, cl2, cl3, cl4, cl5, cl6, cl7⟩ := hcl
    obtain ⟨N0, hN0⟩ : ∃ N, N = (lv σa 7 21).toNat := ⟨_, rfl⟩
    obtain ⟨rr, hrr⟩ : ∃ N, N = (lv σa 7 25).toNat := ⟨_, rfl⟩
    obtain ⟨K, hKK⟩ : ∃ N, N = (lv σ0 33 g).toNat := ⟨_, rfl⟩
    obtain ⟨Kq, hKq⟩ : ∃ N, N = (lv σ0 33 (kY F).1).toNat := ⟨_, rfl⟩
    have e21 : σa.1 7 21 = Int32.ofNat N0 := lz_ext (by rw [lz_lit (by omega)]; show lv σa 7 21 = _; omega)
    have e25 : σa.1 7 25 = Int32.ofNat rr := lz_ext (by rw [lz_lit (by omega)]; show lv σa 7 25 = _; omega)
    have cdC' : ∀ k j, 22 ≤ k → k ≤ 42 → σa.1 k j = σ0.1 k j := fun k j z1 z2 => (h1.1.1 k j (by unfold cdC; simp; omega)).1
    have cdM' : ∀ k j, 12 ≤ k → k ≤ 24 → τa.1 k j = τ0.1 k j := fun k j z1 z2 => (h1.1.2 k j (by unfold cdM; simp; omega)).1
    have l70 := h1.2.2.2.1.2.1
    obtain ⟨ms1, ks1, ce1, me1, mq1, V1⟩ := h1.w fo rfl
    have tf := V1.2.2.2.2.1
    have ff := V1.ff
    have nL50 : nL σ0 (kY F).1 ≤ 50 := ff.1.2.1
    have fq : kO F ≤ n ∧ (kO F = 0 ∧ lv σ0 33 (kY F).1 = 0 ∨ obA σa τa (kO F) 5 ∧ σa.1 62 (kO F) = Int32.ofNat (kY F).1) := by
      have w : kO F = 0 ∧ lv σ0 33 (kY F).1 = 0 ∨ obA σa τa (kO F) 5 ∧ σa.1 62 (kO F) = Int32.ofNat (kY F).1 := ff.2.1
      refine ⟨?_, w⟩
      rcases w with w | w
      · omega
      · have := w.1.2.2.1; rw [l70] at this; omega
    obtain ⟨qn, fq⟩ := fq
    have n2k : n ≤ 2000 := h1.2.2.2.1.1
    have cq : ∃ rq, rq + Kq ≤ rr ∧ (Kq ≠ 0 → σa.1 63 (kO F) = Int32.ofNat rq ∧ obA σa τa (kO F) 5 ∧ σa.1 62 (kO F) = Int32.ofNat (kY F).1 ∧ ∀ x, x < Kq → ∃ c, c < N0 ∧ σa.1 77 (rq + x) = Int32.ofNat c ∧ τa.1 44 (30 * kO F + x) = Int32.ofNat (ρ (loC σa c))) := by
      rcases fq with ⟨w1, w2⟩ | ⟨w1, w2⟩
      · exact ⟨0, by omega, fun y => absurd hKq (by omega)⟩
      · obtain ⟨rq, y1, y2, y3⟩ := cl4 (kO F) (kY F).1 w1 ff.1.1 w2
        have k33 := (h1.2.2.2.2.2.1 (kO F) (kY F).1 w1 ff.1.1 w2).2.2.2.2.1
        refine ⟨rq, by omega, fun _ => ⟨y1, w1, w2, fun x hx => ?_⟩⟩
        obtain ⟨c, v1, v2, v3⟩ := y3 x (by omega)
        exact ⟨c, by omega, v2, v3⟩
    obtain ⟨rq, hrq, hcq⟩ := cq
    obtain ⟨Aj, hAj⟩ : ∃ A : Nat → Nat, A = fun j => (lv σ0 34 (30 * g + j)).toNat := ⟨_, rfl⟩
    obtain ⟨Xj, hXj⟩ : ∃ A : Nat → Nat, A = fun j => (lv σ0 35 (30 * g + j)).toNat := ⟨_, rfl⟩
    have cap : ∀ j, j < K → σ0.1 34 (30 * g + j) = Int32.ofNat (Aj j) ∧ σ0.1 35 (30 * g + j) = Int32.ofNat (Xj j) ∧ τ0.1 18 (30 * g + j) = Int32.ofNat (Aj j) ∧ τ0.1 19 (30 * g + j) = Int32.ofNat (Xj j) ∧ ((Aj j = 1 ∧ Xj j ∈ (kY F).2.2.2.2.1) ∨ (Aj j = 0 ∧ Xj j < Kq)) := fun j hj => by
      obtain ⟨y1, y2, x, y3, y4⟩ := hcap j (by omega)
      have l50 : ∀ x ∈ (kY F).2.2.2.2.1, x < nL σ0 (kY F).1 := fun x hx => (tf.2.2.2.2.1.1 x hx).1
      rcases y4 with ⟨w1, w2⟩ | ⟨w1, w2⟩
      · have ea : Aj j = 1 := by rw [hAj]; show (lv σ0 34 (30 * g + j)).toNat = 1; unfold lv; rw [w1]; rfl
        have ex : Xj j = x := by
          rw [hXj]; show (lv σ0 35 (30 * g + j)).toNat = x
          unfold lv; rw [y3, lz_lit (by have := l50 x w2; omega)]; rfl
        rw [ea, ex]
        exact ⟨w1, y3, by rw [← y1]; exact w1, by rw [← y2]; exact y3, Or.inl ⟨rfl, w2⟩⟩
      · have ea : Aj j = 0 := by rw [hAj]; show (lv σ0 34 (30 * g + j)).toNat = 0; unfold lv; rw [w1]; rfl
        have k30 : lv σ0 33 (kY F).1 ≤ 30 := by
          rcases fq with ⟨_, u⟩ | ⟨u1, u2⟩
          · omega
          · exact (h1.2.2.2.2.2.1 (kO F) (kY F).1 u1 ff.1.1 u2).2.2.2.2.2.1
        have ex : Xj j = x := by
          rw [hXj]; show (lv σ0 35 (30 * g + j)).toNat = x
          unfold lv; rw [y3, lz_lit (by omega)]; rfl
        rw [ea, ex]
        exact ⟨w1, y3, by rw [← y1]; exact w1, by rw [← y2]; exact y3, Or.inr ⟨rfl, by omega⟩⟩
    have k30 : Kq ≤ 30 := by
      rcases fq with ⟨_, u⟩ | ⟨u1, u2⟩
      · omega
      · have := (h1.2.2.2.2.2.1 (kO F) (kY F).1 u1 ff.1.1 u2).2.2.2.2.2.1
        omega
    -- the component
    obtain ⟨σb, hσb⟩ : ∃ s, s = lj_put (lj_put (cOb σa (n + 1) 5) 62 (n + 1) (Int32.ofNat g)) 63 (n + 1) (Int32.ofNat rr) := ⟨_, rfl⟩
    have ob : ∀ a j, ¬ (a = 7 ∧ j = 0) → ¬ ((57 ≤ a ∧ a ≤ 63 ∨ a = 65) ∧ j = n + 1) → σb.1 a j = σa.1 a j := fun a j z1 z2 => by
      rw [hσb, lj_put_1, if_neg (by omega), lj_put_1, if_neg (by omega), cOb_o _ _ _ (by omega) (by omega)]
    have lsU : ∀ q s, lsL (fpT FP p (kTo F ((kY F).2.1 + 1) ((kY F).2.2.1 + 1) (kY F).2.2.2.1 (kY F).2.2.2.2.1 (kY F).2.2.2.2.2 0 0 :: L) q) s → s < 325000 := fun q s w => (cl6 q s w).1
    have I0 : cqI (fun s => ∃ q, lsL (fpT FP p (kTo F ((kY F).2.1 + 1) ((kY F).2.2.1 + 1) (kY F).2.2.2.1 (kY F).2.2.2.2.1 (kY F).2.2.2.2.2 0 0 :: L) q) s) σb N0 := by
      refine ⟨by rw [ob 7 21 (by omega) (by omega)]; exact e21, fun c hc => ?_, fun s hs' => ?_⟩
      · rw [ob 74 c (by omega) (by omega)]
        rcases cl5 c (by omega) with w | ⟨s, w1, w2, w3, w4⟩
        · exact Or.inl w
        · exact Or.inr ⟨s, w1, w2, w3, by rw [ob 81 s (by omega) (by omega)]; exact w4⟩
      · obtain ⟨q, w⟩ := hs'
        obtain ⟨w0, w⟩ := cl6 q s w
        refine ⟨w0, ?_⟩
        rw [ob 81 s (by omega) (by omega)]
        rcases w with w | ⟨c, w1, w2, w3⟩
        · exact Or.inl w
        · exact Or.inr ⟨c, by omega, w2, by rw [ob 74 c (by omega) (by omega)]; exact w3⟩
    have liv : ∀ x ∈ (kY F).2.2.2.2.1, lsL (fpT FP p (kTo F ((kY F).2.1 + 1) ((kY F).2.2.1 + 1) (kY F).2.2.2.1 (kY F).2.2.2.2.1 (kY F).2.2.2.2.2 0 0 :: L) p) (kB F + x) := fun x hx => by
      rw [fo]
      exact ⟨_, List.mem_cons_self, rfl, x, hx, rfl⟩
    have fh : σa.1 8 35 = Int32.ofNat (kB F) := by
      have w := h1.2.2.2.2.2.2.2.2.1
      rw [fo] at w
      exact w.2 rfl
    obtain ⟨σ', N', cs, c1, c2, c3, c4, c5, c6, c7, c8, c9, c10, c11⟩ := c_cps (Lv := fun s => ∃ q, lsL (fpT FP p (kTo F ((kY F).2.1 + 1) ((kY F).2.2.1 + 1) (kY F).2.2.2.1 (kY F).2.2.2.2.1 (kY F).2.2.2.2.2 0 0 :: L) q) s) (f := g) (o := n + 1) (r := rr) (K := K) (bC := kB F) (q := kO F) (rq := rq) (i := (20 * p + L.length)) (Kq := Kq) g51 (by omega) (by omega) (by omega) (by omega) hrq Aj Xj (fun j hj => (cap j hj).2.2.2.2.imp (fun w => ⟨w.1, p, liv _ w.2⟩) id) K 0 N0 σb (.retAddr 0) (.retAddr 0) (.retAddr 0) (by omega) I0 (by rw [ob 7 25 (by omega) (by omega)]; exact e25) (by omega) (by rw [ob 33 g (by omega) (by omega), cdC' 33 g (by decide) (by decide)]; exact lz_ext (by rw [lz_lit (by omega)]; show lv σ0 33 g = _; omega)) (fun j hj => by rw [ob 34 _ (by omega) (by omega), ob 35 _ (by omega) (by omega), cdC' 34 _ (by decide) (by decide), cdC' 35 _ (by decide) (by decide)]; exact ⟨(cap j hj).1, (cap j hj).2.1⟩) (by rw [ob 8 35 (by omega) (by omega)]; exact fh) (by rw [ob 8 34 (by omega) (by omega)]; exact V1.i34) (by rw [ob 93 _ (by omega) (by omega)]; exact tf.1.2.2.1) (fun y => by
      obtain ⟨u1, _, _, u4⟩ := hcq y
      refine ⟨by rw [ob 63 _ (by omega) (by omega)]; exact u1, fun x hx => ?_⟩
      obtain ⟨c, v1, v2, _⟩ := u4 x hx
      exact ⟨c, v1, by rw [ob 77 _ (by omega) (by omega)]; exact v2⟩)
    -- the model
    obtain ⟨τb, hτb⟩ : ∃ s, s = lj_put (mOb τa (n + 1) 5) 43 (n + 1) (Int32.ofNat g) := ⟨_, rfl⟩
    have obm : ∀ a j, ¬ (a = 0 ∧ j = 77) → ¬ ((38 ≤ a ∧ a ≤ 43) ∧ j = n + 1) → τb.1 a j = τa.1 a j := fun a j z1 z2 => by
      rw [hτb, lj_put_1, if_neg (by omega), mOb_o _ _ _ (by omega) (by omega)]
    obtain ⟨τ', d1, d2, d3, d4⟩ := m_cps (f := g) (o := n + 1) (K := K) (J := (48 * p + L.length)) (q := kO F) g51 (by omega) ⟨(by omega), (by omega)⟩ (by omega) (by omega) (by omega) Aj Xj (fun j hj => (cap j hj).2.2.2.2.imp (fun w => ⟨w.1, Nat.lt_of_lt_of_le (tf.2.2.2.2.1.1 _ w.2).1 nL50⟩) (fun w => ⟨w.1, by omega⟩)) K 0 τb (.retAddr 0) (by omega) (by rw [obm 15 g (by omega) (by omega), cdM' 15 g (by decide) (by decide)]; exact lz_ext (by rw [lz_lit (by omega)]; show lv τ0 15 g = _; omega)) (fun j hj => by rw [obm 18 _ (by omega) (by omega), obm 19 _ (by omega) (by omega), cdM' 18 _ (by decide) (by decide), cdM' 19 _ (by decide) (by decide)]; exact ⟨(cap j hj).2.2.1, (cap j hj).2.2.2.1⟩) (by rw [obm 76 _ (by omega) (by omega)]; exact tf.2.1.2.2.1)
    -- both
    have sC : ∀ a j, ¬ (a = 7 ∧ (j = 0 ∨ j = 21 ∨ j = 25)) → ¬ ((57 ≤ a ∧ a ≤ 63 ∨ a = 65) ∧ j = n + 1) → a ≠ 74 → a ≠ 77 → a ≠ 81 → σ'.1 a j = σa.1 a j := fun a j z1 z2 z3 z4 z5 => by rw [c10 a j (by omega) (by omega) (by omega) (by omega), ob a j (by omega) (by omega)]
    have sC2 : ∀ a j, σ'.2 a j = σa.2 a j := fun a j => by rw [c11, hσb, lj_put_2, lj_put_2, cOb_2]
    have sM' : ∀ a j, ¬ (a = 0 ∧ j = 77) → ¬ ((38 ≤ a ∧ a ≤ 43) ∧ j = n + 1) → ¬ (a = 44 ∧ 30 * (n + 1) ≤ j) → τ'.1 a j = τa.1 a j := fun a j z1 z2 z3 => by rw [d3 a j (by omega), obm a j (by omega) (by omega)]
    have sM2 : ∀ a j, ¬ (a = 42 ∧ j = n + 1) → τ'.2 a j = τa.2 a j := fun a j z => by rw [d4, hτb, lj_put_2, mOb_2, if_neg z]
    have vqC' : ∀ k j, vqC k j = true → σ'.1 k j = (cOb σa (n + 1) 5).1 k j := fun k j q => by
      rw [c10 k j (by unfold vqC at q; simp at q; omega) (by unfold vqC at q; simp at q; omega) (by unfold vqC at q; simp at q; omega) (by unfold vqC at q; simp at q; omega), hσb, lj_put_1, if_neg (by unfold vqC at q; simp at q; omega), lj_put_1, if_neg (by unfold vqC at q; simp at q; omega)]
    have vqM' : ∀ k j, vqM k j = true → τ'.1 k j = (mOb τa (n + 1) 5).1 k j := fun k j q => by
      rw [d3 k j (by unfold vqM at q; simp at q; omega), hτb, lj_put_1, if_neg (by unfold vqM at q; simp at q; omega)]
    have hG : sG σa τa σ' τ' := x4.tr (sG_eq vqC' vqM')
    have hO : oG σa τa σ' τ' := by
      refine ⟨?_, fun o w1 w2 w3 => ?_⟩
      · have q := x5.1
        unfold lv at q ⊢
        rw [vqC' 7 0 (by decide)]
        exact q
      · obtain ⟨q1, q2⟩ := x5.2 o w1 w2 w3
        exact ⟨by rw [vqC' 57 o (by unfold vqC; simp)]; exact q1, by rw [vqM' 38 o (by unfold vqM; simp)]; exact q2⟩
    have hhp : hpR σ' τ' (n + 1) := x3.cg (fun k j q => ⟨by
      rw [c10 k j (by unfold hqC vqC at q; simp at q; omega) (by unfold hqC vqC at q; simp at q; omega) (by unfold hqC vqC at q; simp at q; omega) (by unfold hqC vqC at q; simp at q; omega), hσb, lj_put_1, if_neg (by unfold hqC vqC at q; simp at q; omega), lj_put_1, if_neg (by unfold hqC vqC at q; simp at q; omega)], by rw [c11, hσb, lj_put_2, lj_put_2]⟩) (fun k j q => ⟨by
      rw [d3 k j (by unfold hqM vqM at q; simp at q; omega), hτb, lj_put_1, if_neg (by unfold hqM vqM at q; simp at q; omega)], by rw [d4, hτb, lj_put_2]⟩)
    obtain ⟨h2, ob5⟩ := h1.fun z (f := g) (K := K) (N0 := N0) (N' := N') (rr := rr) sC sC2 sM' sM2 (by rw [c10 57 _ (by omega) (by omega) (by omega) (by omega), hσb, lj_put_1, if_neg (by omega), lj_put_1, if_neg (by omega), cOb_1, if_pos ⟨rfl, rfl⟩]) (by
        rw [c10 65 _ (by omega) (by omega) (by omega) (by omega), hσb, lj_put_1, if_neg (by omega), lj_put_1, if_neg (by omega)]
        exact cOb_65 σa (n + 1) 5) (by rw [c10 62 _ (by omega) (by omega) (by omega) (by omega), hσb, lj_put_1, if_neg (by omega), lj_put_1, if_pos ⟨rfl, rfl⟩]) (by rw [c10 63 _ (by omega) (by omega) (by omega) (by omega), hσb, lj_put_1, if_pos ⟨rfl, rfl⟩]) (by rw [d3 38 _ (by omega), hτb, lj_put_1, if_neg (by omega)]; exact mOb_38 τa (n + 1) 5) (by rw [d3 43 _ (by omega), hτb, lj_put_1, if_pos ⟨rfl, rfl⟩]) (by rw [d4, hτb, lj_put_2, mOb_2, if_pos ⟨rfl, rfl⟩]) hhp hG hO e21 e25 (by omega) (by omega) c2.1 c4 c3 c5 (by omega) (by omega) g51 ⟨⟨0, by omega, gf0⟩, h29, h28, h3315, h330, h3330, g58⟩ (fun c hc => by rw [c7 c hc, ob 74 c (by omega) (by omega)]) (fun j hj => by rw [c8 j (by omega), ob 77 j (by omega) (by omega)]) (fun j => by rw [← ob 81 j (by omega) (by omega)]; exact c9 j) c2 (fun k hk' => by
        obtain ⟨w1, w2, w3, w4⟩ := c6 k (by omega) hk'
        have dd2 := d2 k (by omega) hk'
        refine ⟨cs k, w2, w1, ?_⟩
        rcases (cap k hk').2.2.2.2 with ⟨ya, yx⟩ | ⟨ya, yx⟩
        · rw [if_pos ya, obm 87 _ (by omega) (by omega)] at dd2
          have e74 := w3 ya
          have sl : kB F + Xj k < 325000 := lsU p _ (liv _ yx)
          have lo : loC σ' (cs k) = kB F + Xj k := by
            unfold loC lv
            rw [e74, lz_lit (by omega), if_neg (by omega)]
            rfl
          refine ⟨?_, Or.inl ⟨p, _, liv _ yx, ?_, e74⟩⟩
          · rw [dd2, lo]
            exact (tf.2.2.2.2.1.1 _ yx).2
          · have q58 := h1.2.2.2.2.2.2.1.2.2.1.2
            rw [q58]; decide
        · rw [if_neg (by omega), obm 44 _ (by omega) (by omega)] at dd2
          have e77 := w4 ya
          rw [ob 77 _ (by omega) (by omega)] at e77
          obtain ⟨u1, u2, u3, u4⟩ := hcq (by omega)
          obtain ⟨c, v1, v2, v3⟩ := u4 _ yx
          have ec : cs k = c := (ofN_eq (by omega) (by omega)).1 (by rw [← e77, ← v2])
          have lo : loC σ' (cs k) = loC σa c := by
            rw [ec]
            unfold loC lv
            rw [c7 c v1, ob 74 c (by omega) (by omega)]
          refine ⟨by rw [dd2, lo]; exact v3, Or.inr ⟨by omega, kO F, Xj k, u2, (kY F).1, rq, ff.1.1, u3, by omega, (by omega), u1, by rw [ec]; exact v2, (by omega)⟩⟩)
    have rg2 : rgR σ' τ' := ⟨by rw [sC 8 46 (by omega) (by omega) (by omega) (by omega) (by omega)]; exact rg1.1, by rw [sM' 0 143 (by omega) (by omega) (by omega)]; exact rg1.2.1, by rw [sM' 0 129 (by omega) (by omega) (by omega)]; exact rg1.2.2.1, by rw [sC 8 45 (by omega) (by omega) (by omega) (by omega) (by omega), sM' 0 144 (by omega) (by omega) (by omega)]; exact rg1.2.2.2.1, by rw [sC2, sM2 0 145 (by omega)]; exact rg1.2.2.2.2⟩
    obtain ⟨cex, mex, mqx, t1, t2, t3, t4, t5⟩ := x_top h2 rg2
    obtain ⟨g1, g2⟩ := t5 (5, i64 (n + 1)) (5, i64 (n + 1)) σ' τ' (n' + 1) (lf_rf _ _) (lf_rf _ _) (vR_ob (Or.inr (Or.inl rfl)) ob5) (gn_ok gz) (Or.inr ⟨Nat.succ_ne_zero _, gz⟩)
    have mp : lj_R lm_P 116 [.ref 0, .int 5, .long (Int32.ofNat (n + 1)).toInt64] τ' = _ := m_push t3 (by omega) (5, i64 (n + 1))
    have cp : lj_R lc_P 137 [.ref 8, .int 5, .long (Int32.ofNat (n + 1)).toInt64] σ' = _ := c_push t1 (by omega) (5, i64 (n + 1))
    have i21 : lj_in (Int32.ofNat (n + 1)) 2001 := ofN_in (by omega) (by omega)
    have n21 : (Int32.ofNat (n + 1)).toNatClampNeg = n + 1 := lz_onat (by omega)
    have i22 : lj_in (Int32.ofNat (n + 1)) 2002 := ofN_in (by omega) (by omega)
    have e25b : (cOb σa (n + 1) 5).1 7 25 = Int32.ofNat rr := by rw [cOb_o _ _ _ (by omega) (by omega)]; exact e25
    refine Or.inl ⟨_, _, n + 1, np, p, r, _, MO, LA, go_step rg.1 ?_, mst _ ?_, Or.inl ⟨ρ, _, L, fpT_o _ _ _, rfl, Nat.succ_ne_zero _, rfl, g1, g2⟩, ?_, wk_nil hpr hwk _⟩
    · rw [cst, rc_208, kc_208_0, x1, bi_ok, if_pos i21, if_pos i21, n21, e25b, ← hσb, show (0 : Int32) = Int32.ofNat 0 from rfl, c1, cp, bv_ok, bv_ok, kc_139_1051]
    · rw [rm_152, km_152_0, x2, bi_ok, if_neg (by rw [show (0 : Int32) = Int32.ofNat 0 from rfl]; intro q; have := (ofN_eq (by omega) (by omega)).1 q; omega), if_pos i22, n21, ← hτb, show (0 : Int32) = Int32.ofNat 0 from rfl, d1, mp, bv_ok]
    · have e := thM_t hpr hF (kTo F ((kY F).2.1 + 1) ((kY F).2.2.1 + 1) (0 :: (kY F).2.2.2.1) (kY F).2.2.2.2.1 (kY F).2.2.2.2.2 (n' + 1) 0) MO LA
      rw [thF_0 h0, thF_0 (F := kTo F ((kY F).2.1 + 1) ((kY F).2.2.1 + 1) (0 :: (kY F).2.2.2.1) (kY F).2.2.2.2.1 (kY F).2.2.2.2.2 (n' + 1) 0) rfl] at e
      have e2 : kN (kTo F ((kY F).2.1 + 1) ((kY F).2.2.1 + 1) (0 :: (kY F).2.2.2.1) (kY F).2.2.2.2.1 (kY F).2.2.2.2.2 (n' + 1) 0) = n' + 1 := rfl
      show thM _ _ _ _ < _
      omega
