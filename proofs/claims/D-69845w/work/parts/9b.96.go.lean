/-! a run goes on: the steps left are set anew -/
theorem MB.lfx {σ0 τ0 σ τ : lj_S} {n np p : Nat} {r : List Nat} {FP : Nat → List kF} {ρ : Nat → Nat} {A MO LA : List Nat} (h : MB σ0 τ0 n np p r FP ρ A MO LA σ τ) {x : Nat} (hx : x ≤ 3000) (y : Int32) : ∃ mk : Nat, mk ≤ LA.headD 0 ∧ MB σ0 τ0 n np p r FP ρ A MO ((mk + 536870912 * x) :: LA.tail) (lj_put σ 8 45 (Int32.ofNat x)) (lj_put (lj_put τ 0 0 y) 0 144 (Int32.ofNat x)) := by
  obtain ⟨σ', hσ'⟩ : ∃ s, s = lj_put σ 8 45 (Int32.ofNat x) := ⟨_, rfl⟩
  obtain ⟨τ', hτ'⟩ : ∃ s, s = lj_put (lj_put τ 0 0 y) 0 144 (Int32.ofNat x) := ⟨_, rfl⟩
  rw [← hσ', ← hτ']
  have o : ∀ k j, ¬ (k = 8 ∧ j = 45) → σ'.1 k j = σ.1 k j := fun k j z => by rw [hσ', lj_put_1, if_neg z]
  have o2 : ∀ k j, σ'.2 k j = σ.2 k j := fun k j => by rw [hσ']; rfl
  have m : ∀ k j, ¬ (k = 0 ∧ (j = 0 ∨ j = 144)) → τ'.1 k j = τ.1 k j := fun k j z => by rw [hτ', lj_put_1, if_neg (by omega), lj_put_1, if_neg (by omega)]
  have m2 : ∀ k j, τ'.2 k j = τ.2 k j := fun k j => by rw [hτ']; rfl
  obtain ⟨hO, oA⟩ := oA_eq (σ := σ) (τ := τ) (σ' := σ') (τ' := τ') (o 7 0 (by omega)) (fun j => o 57 j (by omega)) (fun j => m 38 j (by omega))
  have vC : ∀ k j, vqC k j = true → σ'.1 k j = σ.1 k j := fun k j q => o k j (by unfold vqC at q; simp at q; omega)
  have vM : ∀ k j, vqM k j = true → τ'.1 k j = τ.1 k j := fun k j q => m k j (by unfold vqM at q; simp at q; omega)
  have hv : ∀ a b, vR σ τ a b → vR σ' τ' a b := fun a b w => w.cg vC vM
  obtain ⟨⟨a1, a2, a3, a4, a5, ⟨p1, p2, p3⟩, a7⟩, ⟨b1, b2, b3, b4⟩, c1, c2, c3, c4⟩ := h.2.2.2.2.2.2.2.2.2.2.1
  have lv1 : lv σ' 8 45 = (x : Int) := by
    unfold lv
    rw [hσ', lj_put_1, if_pos ⟨rfl, rfl⟩, lz_lit (by omega)]
  have g' : gaR σ' τ' n FP (p :: r) A MO (((τ.2 0 78).toInt.toNat + 536870912 * x) :: LA.tail) := by
    have ho : ∀ o' k, obA σ τ o' k → obA σ' τ' o' k := fun o' k w => (oA o' k).2 w
    refine ⟨⟨by unfold lv at a1 ⊢; rw [o 8 53 (by omega)]; exact a1, fun i hi => by rw [o 110 i (by omega)]; exact a2 i hi, a3, fun t ht => by rw [m2, m2]; exact ⟨ho _ _ (a4 t ht).1, (a4 t ht).2⟩, by simp only [m2]; exact a5, ?_, fun t t1 t2 => by rw [o 57 t (by omega), o 65 t (by omega), m2]; exact a7 t t1 t2⟩, ⟨by unfold lv at b1 ⊢; rw [o 8 33 (by omega)]; exact b1, by unfold lv at b2 ⊢; rw [m 0 152 (by omega)]; exact b2, b3, fun i hi => ⟨ho _ _ (b4 i hi).1, by rw [o 104 i (by omega)]; exact (b4 i hi).2.1, by rw [m 95 i (by omega)]; exact (b4 i hi).2.2⟩⟩, c1.up ho (o 57 0 (by omega)), gaC_cg (fun k i w => o k i (by omega)) (fun k i w => m k i (by omega)) (fun _ _ _ w => w) c2, fun i hi => by rw [o 102 i (by omega)]; exact c3 i hi, by rw [o 8 51 (by omega), m 0 153 (by omega)]; exact c4⟩
    rw [lv1, m2]
    show 0 ≤ (τ.2 0 78).toInt ∧ 0 ≤ (x : Int) ∧ (τ.2 0 78).toInt + 536870912 * (x : Int) = (((τ.2 0 78).toInt.toNat + 536870912 * x : Nat) : Int)
    omega
  refine ⟨(τ.2 0 78).toInt.toNat, by omega, h.up (fun k j q => ⟨o k j (by unfold kpC at q; simp at q; omega), o2 k j⟩) (fun k j q => ⟨m k j (by unfold kpM at q; simp at q; omega), m2 k j⟩) (fun j _ => ⟨o 79 j (by omega), o2 80 j, o 81 j (by omega)⟩) (fun _ _ _ => rfl) (sG_eq vC vM) hO (fun o' _ => o 62 o' (by omega)) (fun o' _ => o 64 o' (by omega)) (fun o' w => (oA o' 6).1 w) (Nat.le_refl _) (h.2.1.cg (fun k j q => o k j (by unfold sqC at q; simp at q; omega)) (fun k j q => m k j (by unfold sqM at q; simp at q; omega))) (h.2.2.2.1.cg (fun k j q => ⟨o k j (by unfold hqC vqC at q; simp at q; omega), o2 k j⟩) (fun k j q => ⟨m k j (by unfold hqM vqM at q; simp at q; omega), m2 k j⟩)) (h.2.2.2.2.1.cg (fun k j q => o k j (by omega)) (fun k j q => m k j (by omega))) (fun o' q w1 w2 w3 => h.2.2.2.2.2.1 o' q ((oA o' 5).1 w1) w2 (by rw [← o 62 o' (by omega)]; exact w3)) (h.2.2.2.2.2.2.2.2.2.1.cg hv (fun k j w => o k j (by omega)) (fun j => o2 76 j) (fun q s w => ⟨by unfold cv; rw [o 79 s (by omega), o2 80 s], o 81 s (by omega)⟩) (fun k j w => m k j (by omega)) (fun j => m2 55 j)) g'⟩
/-- what a call of the run answers in both -/
def anR (σ0 τ0 : lj_S) (Y : Nat) (oC oM : Option lj_O) : Prop := ∃ (a : Int32) (σ' τ' : lj_S), oC = some (.inl (some (.int a)), σ') ∧ oM = some (.inl (some (.int a)), τ') ∧
  ((a = 2 ∧ ∃ n np p r FP MO LA, rnR σ0 τ0 n np p r FP MO LA σ' τ' ∧ thM FP (p :: r) MO LA ≤ Y ∧ wkR FP (p :: r) [] σ') ∨
   ((a = 0 ∨ a = 1) ∧ finR σ0 τ0 σ' τ' ∧ σ'.1 8 47 = a) ∨
   (a = 3 ∧ ∃ σ1 n, σ' = lj_put (lj_put (lj_put σ1 8 46 1) 8 47 3) 8 41 0 ∧ τ'.1 0 143 = 4 ∧ σ1.1 8 46 = 0 ∧ σ1.1 8 45 = τ'.1 0 144 ∧ σ1.2 8 44 = τ'.2 0 145 ∧ σ1.1 2 6 = 1 ∧ QR σ1 τ' n ∧ lsR σ0 τ0 σ1 τ'))
theorem m_238 (τ : lj_S) : lj_R lm_P 238 [.ref 0] τ = some (.inl (some (.int (if τ.1 0 143 = 1 then 0 else if τ.1 0 143 = 2 then 1 else 3))), τ) := by
  rw [rm_238, km_238_0]
  by_cases z : τ.1 0 143 = 1
  · rw [if_pos z, if_pos z, km_238_25]
  · rw [if_neg z, if_neg z]
    by_cases y : τ.1 0 143 = 2
    · rw [if_pos y, if_pos y, km_238_25]
    · rw [if_neg y, if_neg y, km_238_25]
theorem end_an {σ0 τ0 : lj_S} {Y : Nat} {oC oM : Option lj_O} (e : endR σ0 τ0 Y oC oM) (x1 : Int32) (x2 : Value) : anR σ0 τ0 Y (lj_bv oC (fun σ1 => (if (σ1.1 8 46) = 0 then lj_D lc_P lc_M128 106 [.ref 8, .int x1, x2] [.int 2] σ1 else lj_D lc_P lc_M128 106 [.ref 8, .int x1, x2] [.int (σ1.1 8 47)] σ1)) (fun e2 σ3 => some (.inr e2, σ3))) oM := by
  rcases e with ⟨σ', τ', n, np, p, r, FP, MO, LA, rfl, rfl, y3, y4, y5⟩ | ⟨σ', τ', rfl, rfl, y3⟩ | ⟨σ1, τ', n, rfl, rfl, u1, u2, u3, u4, u5, u6, u7⟩
  · have rg : rgR σ' τ' := by
      obtain ⟨ρ, F, L, _, _, _, _, _, rg⟩ := y3
      exact rg
    exact ⟨2, σ', τ', by rw [bv_ok, if_pos rg.1, kc_128_106], rfl, Or.inl ⟨rfl, n, np, p, r, FP, MO, LA, y3, y4, y5⟩⟩
  · have h1 := y3.2.2.2.2.1
    rcases y3.2.2.2.2.2.1 with ⟨w1, w2⟩ | ⟨w1, w2⟩
    · exact ⟨0, σ', τ', by rw [bv_ok, if_neg (by rw [h1]; decide), kc_128_106, w1], by rw [m_238, bi_ok, if_pos w2], Or.inr (Or.inl ⟨Or.inl rfl, y3, w1⟩)⟩
    · exact ⟨1, σ', τ', by rw [bv_ok, if_neg (by rw [h1]; decide), kc_128_106, w1], by rw [m_238, bi_ok, if_neg (by rw [w2]; decide), if_pos w2], Or.inr (Or.inl ⟨Or.inr rfl, y3, w1⟩)⟩
  · refine ⟨3, _, τ', ?_, by rw [m_238, bi_ok, if_neg (by rw [u1]; decide), if_neg (by rw [u1]; decide)], Or.inr (Or.inr ⟨rfl, σ1, n, rfl, u1, u2, u3, u4, u5, u6, u7⟩)⟩
    have e46 : (lj_put (lj_put (lj_put σ1 8 46 1) 8 47 3) 8 41 0).1 8 46 = 1 := by rw [lj_put_1, if_neg (by omega), lj_put_1, if_neg (by omega), lj_put_1, if_pos ⟨rfl, rfl⟩]
    have e47 : (lj_put (lj_put (lj_put σ1 8 46 1) 8 47 3) 8 41 0).1 8 47 = 3 := by rw [lj_put_1, if_neg (by omega), lj_put_1, if_pos ⟨rfl, rfl⟩]
    rw [bv_ok, if_neg (by rw [e46]; decide), kc_128_106, e47]
/-- a run that was halted goes on -/
theorem cm_goon {σ0 τ0 σ τ : lj_S} (hs : stF σ0 τ0) (C : ∀ M k, CAL σ0 τ0 M k) (D : ∀ M, DLV σ0 τ0 M) (N : ∀ M k, NLA σ0 τ0 M k) {n np p : Nat} {r : List Nat} {FP : Nat → List kF} {MO LA : List Nat} (h : rnR σ0 τ0 n np p r FP MO LA σ τ) (hwk : wkR FP (p :: r) [] σ) {x : Nat} (hx1 : 1 ≤ x) (hx : x ≤ 3000) {Y : Nat} (hY : thM FP (p :: r) MO LA + 536870912 * x ≤ Y) (hYT : Y ≤ TH) (h48 : σ.1 8 48 = 1) (h3 : τ.1 0 3 ≠ 0) : anR σ0 τ0 Y (lj_R lc_P 128 [.ref 8, .int (Int32.ofNat x)] σ) (lj_R lm_P 120 [.ref 0, .int (Int32.ofNat x)] τ) := by
  obtain ⟨ρ, F, L, hF, h0, hN, hW, hB, rg⟩ := h
  obtain ⟨mk, k1, k2⟩ := hB.lfx hx 0
  have eT : thM FP (p :: r) MO ((mk + 536870912 * x) :: LA.tail) ≤ thM FP (p :: r) MO LA + 536870912 * x := by
    have e1 : thM FP (p :: r) MO ((mk + 536870912 * x) :: LA.tail) = (mk + 536870912 * x) + gaM MO LA + thA FP (p :: r) := rfl
    have e2 : thM FP (p :: r) MO LA = LA.headD 0 + gaM MO LA + thA FP (p :: r) := rfl
    omega
  obtain ⟨r1, r2, r3, r4, r5⟩ := rg
  have rg' : rgR (lj_put σ 8 45 (Int32.ofNat x)) (lj_put (lj_put τ 0 0 0) 0 144 (Int32.ofNat x)) := by
    refine ⟨by rw [lj_put_1, if_neg (by omega)]; exact r1, by rw [lj_put_1, if_neg (by omega), lj_put_1, if_neg (by omega)]; exact r2, by rw [lj_put_1, if_neg (by omega), lj_put_1, if_neg (by omega)]; exact r3, ?_, r5⟩
    rw [lj_put_1, if_pos ⟨rfl, rfl⟩, lj_put_1, if_pos ⟨rfl, rfl⟩]
  have en := (run_all hs C D N (thM FP (p :: r) MO ((mk + 536870912 * x) :: LA.tail) + 1)).1 n np p r FP MO _ _ _ (Or.inl ⟨ρ, F, L, hF, h0, hN, hW, k2, rg'⟩) (⟨fun i hi => (by cases hi), hwk.2⟩) (Nat.lt_succ_self _) (by omega) Y (by omega) (.retAddr 0) (Int32.ofNat x)
  have an := end_an en (Int32.ofNat x) (.retAddr 0)
  have c1 : lj_R lc_P 128 [.ref 8, .int (Int32.ofNat x)] σ = lj_bv (goC (.retAddr 0) (lj_put σ 8 45 (Int32.ofNat x))) (fun σ1 => (if (σ1.1 8 46) = 0 then lj_D lc_P lc_M128 106 [.ref 8, .int (Int32.ofNat x), .retAddr 0] [.int 2] σ1 else lj_D lc_P lc_M128 106 [.ref 8, .int (Int32.ofNat x), .retAddr 0] [.int (σ1.1 8 47)] σ1)) (fun e2 σ3 => some (.inr e2, σ3)) := by
    rw [rc_128, kc_128_0, if_pos r1, if_neg (by rw [h48]; decide), kc_128_87, rc_138, kc_138_0]
    rfl
  have c2 : lj_R lm_P 120 [.ref 0, .int (Int32.ofNat x)] τ = mRun (Int32.ofNat x) (lj_put (lj_put τ 0 0 0) 0 144 (Int32.ofNat x)) := by
    have l1 : ¬ (Int32.ofNat x < 1) := by
      rw [lz_lt, lz_lit (by omega)]
      show ¬ ((x : Int) < 1)
      omega
    have l2 : Int32.ofNat x ≤ 3000 := (ofN_le (b := 3000) (by omega) (by omega)).2 hx
    rw [rm_120, km_120_0, if_neg h3, if_neg l1, if_pos l2, km_120_29, if_pos (by decide)]
    rfl
  rw [c1, c2]
  exact an
