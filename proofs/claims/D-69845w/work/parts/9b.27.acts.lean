/-! last acts, one behind the other -/
/-- what is owed of the rest of the last acts -/
def LGo (σ0 τ0 : lj_S) (p : Nat) (r : List Nat) (FP : Nat → List kF) (A MO LA : List Nat) (σ τ : lj_S) (L : List kF) : Prop := ∀ (x2 x3 x4 x5 : Value), ∃ τ1, lj_D lm_P lm_M237 35 [.ref 0, .int (Int32.ofNat (48 * p + L.length)), x2] [] τ = some (.inl none, τ1) ∧ ocR σ0 τ0 A (fun t => t ≤ thM FP (p :: r) MO LA) σ τ1 (lj_D lc_P lc_M153 24 [.ref 8, .int (Int32.ofNat (20 * p + L.length)), .int 1, x3, x4, x5, .retAddr 0, .retAddr 0] [] σ)
theorem thM_la (FP : Nat → List kF) (ch MO LA : List Nat) : thM FP ch MO LA = LA.headD 0 + (5000 * (LA.tail.length + MO.length) + 2 * LA.tail.length) + thA FP ch := rfl
theorem max_32 {x : Int32} : (2147483647 ≤ x) ↔ x = 2147483647 := by
  constructor
  · intro h
    apply Int32.toInt_inj.1
    have h1 := Int32.le_iff_toInt_le.1 h
    have h2 := x.toInt_le
    have e1 : (2147483647 : Int32).toInt = 2147483647 := by decide
    have e2 : Int32.maxValue.toInt = 2147483647 := by decide
    omega
  · intro h
    rw [h]
    decide
theorem la_le {l : List Nat} (h : l.Nodup) (w : ∀ i, i < l.length → 1 ≤ l.getD i 0 ∧ l.getD i 0 ≤ 2000) : l.length ≤ 2000 := by
  have m : ∀ q ∈ l, 1 ≤ q ∧ q ≤ 2000 := fun q hq => by
    obtain ⟨i, hi, e1⟩ := List.mem_iff_getElem.1 hq
    have := w i hi
    rw [List.getD_eq_getElem?_getD, List.getElem?_eq_getElem hi, Option.getD_some, e1] at this
    exact this
  have := nd_le 2001 (0 :: l) (List.nodup_cons.2 ⟨fun z => by
    have := (m 0 z).1
    omega, h⟩) (fun q hq => by
    rcases List.mem_cons.1 hq with z | z
    · omega
    · have := (m q z).2
      omega)
  rw [List.length_cons] at this
  omega
theorem getD_dl (l : List Nat) (j : Nat) (h : j + 1 < l.length) : l.dropLast.getD j 0 = l.getD j 0 := by
  have h1 : j < l.dropLast.length := by rw [List.length_dropLast]; omega
  rw [List.getD_eq_getElem?_getD, List.getD_eq_getElem?_getD, List.getElem?_eq_getElem h1, List.getElem?_eq_getElem (by omega), List.getElem_dropLast]
theorem gaC_m {σ τ σ' τ' : lj_S} {FP FP' : Nat → List kF} : ∀ {r : List Nat} {e : Nat}, (∀ q ∈ r, ∀ e e', gaL σ τ q (FP q) e e' → gaL σ' τ' q (FP' q) e e') → gaC σ τ FP r e → gaC σ' τ' FP' r e
  | [], _, _, h => h
  | q :: r, e, hf, h => by
    obtain ⟨e', h1, h2⟩ := h
    exact ⟨e', hf q List.mem_cons_self e e' h1, gaC_m (fun q hq => hf q (List.mem_cons_of_mem _ hq)) h2⟩
theorem gaR.w {σ τ σ' τ' : lj_S} {n : Nat} {FP : Nat → List kF} {ch A A' MO LA : List Nat} (h : gaR σ τ n FP ch A MO LA) (f : ∀ k j, ¬ (k = 102 ∨ k = 103 ∨ k = 8 ∧ j = 51) → σ'.1 k j = σ.1 k j) (g : ∀ k j, ¬ (k = 0 ∧ j = 153) → τ'.1 k j = τ.1 k j) (g' : ∀ k j, τ'.2 k j = τ.2 k j) (w : ∀ i, i ∉ A' → σ'.1 102 i = 0) (e : σ'.1 8 51 = τ'.1 0 153) : gaR σ' τ' n FP ch A' MO LA := by
  obtain ⟨⟨a1, a2, a3, a4, a5, a6, a7⟩, ⟨g2, g3, g4, g5⟩, g6, g7, g8, g9⟩ := h
  have oA : ∀ o k, obA σ τ o k → obA σ' τ' o k := fun o k w => ⟨w.1, w.2.1, by unfold lv; rw [f 7 0 (by omega)]; exact w.2.2.1, by rw [f 57 o (by omega)]; exact w.2.2.2.1, by rw [g 38 o (by omega)]; exact w.2.2.2.2⟩
  exact ⟨⟨by unfold lv at a1 ⊢; rw [f 8 53 (by omega)]; exact a1, fun i hi => by rw [f 110 i (by omega)]; exact a2 i hi, a3, fun t ht => by rw [g', g']; exact ⟨oA _ _ (a4 t ht).1, (a4 t ht).2⟩, by simp only [g']; exact a5, by rw [g', lv_eq (f 8 45 (by omega))]; exact a6, fun t t1 t2 => by rw [f 57 t (by omega), f 65 t (by omega), g']; exact a7 t t1 t2⟩, ⟨by unfold lv at g2 ⊢; rw [f 8 33 (by omega)]; exact g2, by unfold lv at g3 ⊢; rw [g 0 152 (by omega)]; exact g3, g4, fun i hi => ⟨oA _ _ (g5 i hi).1, by rw [f 104 i (by omega)]; exact (g5 i hi).2.1, by rw [g 95 i (by omega)]; exact (g5 i hi).2.2⟩⟩, g6.up oA (f 57 0 (by omega)), gaC_cg (fun k i z => f k i (by omega)) (fun k i z => g k i (by omega)) (fun _ _ _ z => z) g7, w, e⟩
/-- the model comes to the last acts -/
theorem m_237 {σ0 τ0 σ τ : lj_S} {n np p : Nat} {r : List Nat} {FP : Nat → List kF} {ρ : Nat → Nat} {A MO LA : List Nat} (h : MB σ0 τ0 n np p r FP ρ A MO LA σ τ) {F : kF} {L : List kF} (hF : FP p = F :: L) (hS : kS F = 2) : lj_R lm_P 237 [.ref 0] τ = lj_D lm_P lm_M237 35 [.ref 0, .int (Int32.ofNat (48 * p + L.length)), .retAddr 0] [] τ := by
  have h7 := h.2.2.2.2.2.2.1
  have hp : p ≤ np := h7.2.2.2.2.2.1 p List.mem_cons_self
  have np25 := h7.1.2.2
  obtain ⟨ce, me, mq, pa⟩ := h.2.2.2.2.2.2.2.1 p hp (by rw [h7.2.2.1.2]; decide)
  obtain ⟨p1, ⟨p2, p3, p4, p5⟩, p6, p7, p8, p9, p10, p11⟩ := pa
  rw [hF] at p1
  rw [hF, List.length_cons] at p2 p7 p10 p11
  obtain ⟨ms, ks, q1, ⟨⟨c95, m80, m81⟩, q2⟩, q3⟩ := p1
  obtain ⟨_, _, _, ec, em, ek⟩ : (kS F = 1 ∨ kS F = 2) ∧ σ.1 91 (20 * p + L.length) = Int32.ofNat (kS F) ∧ τ.1 74 (48 * p + L.length) = Int32.ofNat (kS F) ∧ ce = kC F ∧ me = ms ∧ mq = ks := by
    rcases q2 with ⟨z, _⟩ | z
    · omega
    · exact z
  have m111 := h7.2.1.2
  have i111 : lj_in (τ.1 0 111) 26 := by rw [m111]; exact ofN_in (by omega) (by omega)
  have n111 : (τ.1 0 111).toNatClampNeg = p := by rw [m111]; exact lz_onat (by omega)
  have r122 : lj_R lm_P 122 [.ref 0] τ = some (.inl (some (.int (Int32.ofNat (48 * p + L.length)))), τ) := by
    rw [rm_122, km_122_0, if_pos i111, n111, p10, m111, show (48 : Int32) = Int32.ofNat 48 from rfl, ← Int32.ofNat_mul, ← Int32.ofNat_add, ← Nat.add_assoc, lz_pred']
  have imi : lj_in (Int32.ofNat (48 * p + L.length)) 1248 := ofN_in (by omega) (by omega)
  have nmi : (Int32.ofNat (48 * p + L.length)).toNatClampNeg = (48 * p + L.length) := lz_onat (by omega)
  have e1 : lj_put τ 63 p (τ.1 80 (48 * p + L.length)) = τ := by
    rw [m80, ← em, ← p8, put_id]
  have e2 : lj_put τ 64 p (τ.1 81 (48 * p + L.length)) = τ := by
    rw [m81, ← ek, ← p9, put_id]
  rw [rm_237, km_237_0, r122, bi_ok, if_pos imi, if_pos i111, if_pos imi, if_pos i111, nmi, n111, e1, e2]
theorem m_140v {σ τ : lj_S} {u w : vT} (h : vR σ τ u w) (s : lj_S) : lj_R lm_P 140 [.int w.1] s = some (.inl (some (.int (if u.1 = 5 then 1 else 0))), s) := by
  rw [rm_140, km_140_0]
  by_cases z : u.1 = 5
  · rw [if_pos z]
    rcases h.kf.1 z with y | y
    · rw [if_pos y, km_140_11, km_140_16]; rfl
    · rw [if_neg (by rw [y]; decide), if_pos y, km_140_11, km_140_16]; rfl
  · have z' : ¬ (w.1 = 5 ∨ w.1 = 7) := fun y => z (h.kf.2 y)
    rw [if_neg z, if_neg (fun y => z' (Or.inl y)), if_neg (fun y => z' (Or.inr y)), km_140_16]
    rfl
theorem nla_fn {σ0 τ0 σ τ σ1 τ1 : lj_S} {n np p : Nat} {r : List Nat} {FP : Nat → List kF} {ρ : Nat → Nat} {A MO LA LA' : List Nat} {F : kF} {L : List kF} (hF : FP p = F :: L) (hS : kS F = 2) (hwk : wkR FP (p :: r) A σ) (ry : ryR σ τ) (fA : (20 * p + L.length) ∉ A) (hp : p < 26) (hL : L.length < 20) (g8 : ∀ i, i ∉ A → σ.1 102 i = 0) (g9 : σ.1 8 51 = τ.1 0 153) (c99 : σ.1 99 (20 * p + L.length) = τ.1 83 (48 * p + L.length))
    (rec : ∀ (n np p' : Nat) (r' : List Nat) (FP' : Nat → List kF) (ρ : Nat → Nat) (MO' LA' : List Nat) (σ' τ' : lj_S) (F' : kF) (L' : List kF), MB σ0 τ0 n np p' r' FP' ρ A MO' LA' σ' τ' → FP' p' = F' :: L' → kS F' = 2 → wkR FP' (p' :: r') A σ' → ryR σ' τ' → σ'.1 102 (20 * p' + L'.length) = 0 → thM FP' (p' :: r') MO' LA' < thM FP (p :: r) MO LA → LGo σ0 τ0 p' r' FP' A MO' LA' σ' τ' L')
    {M' : Nat} (C : CAL σ0 τ0 M' 101) (hM' : thM FP (p :: r) MO LA' ≤ M') (hT' : thM FP (p :: r) MO LA' + 5001 ≤ TH) (th : thM FP (p :: r) MO LA' + 5001 < thM FP (p :: r) MO LA) (o1 : ∀ k j, ¬ (k = 8 ∧ j = 33) → σ1.1 k j = σ.1 k j ∧ σ1.2 k j = σ.2 k j) (n1 : ∀ k j, ¬ (k = 85 ∧ j = (48 * p + L.length)) → ¬ (k = 0 ∧ j = 152) → τ1.1 k j = τ.1 k j) (n1' : ∀ k j, τ1.2 k j = τ.2 k j) {t : Nat} (obt : obA σ1 τ1 t 4) {u w : vT} (h2 : MB σ0 τ0 n np p r FP ρ A MO LA' (fdC σ1 u) (fdM τ1 w)) (a1 : vR σ1 τ1 u w) (fn : u.1 = 5) (x2 x3 x4 x5 : Value)
    (eC : lj_D lc_P lc_M153 24 [.ref 8, .int (Int32.ofNat (20 * p + L.length)), .int 1, x3, x4, x5, .retAddr 0, .retAddr 0] [] σ = (if 2147483647 ≤ (fdC σ1 u).1 8 51 then lj_D lc_P lc_M153 156 [.ref 8, .int (Int32.ofNat (20 * p + L.length)), .int 1, .int (Int32.ofNat t), x4, x5, .retAddr 0, .retAddr 0] [.int 0, .int ((fdC σ1 u).1 8 51), .ref 8] (fdC σ1 u) else lj_D lc_P lc_M153 156 [.ref 8, .int (Int32.ofNat (20 * p + L.length)), .int 1, .int (Int32.ofNat t), x4, x5, .retAddr 0, .retAddr 0] [.int 1, .int ((fdC σ1 u).1 8 51), .ref 8] (fdC σ1 u)))
    (eM : lj_D lm_P lm_M237 35 [.ref 0, .int (Int32.ofNat (48 * p + L.length)), x2] [] τ = (if (fdM τ1 w).1 0 153 = 2147483647 then lj_D lm_P lm_M237 123 [.ref 0, .int (Int32.ofNat (48 * p + L.length)), .int (Int32.ofNat t)] [.int ((fdM τ1 w).1 0 153), .ref 0] (fdM τ1 w) else lj_D lm_P lm_M237 123 [.ref 0, .int (Int32.ofNat (48 * p + L.length)), .int (Int32.ofNat t)] [.int ((fdM τ1 w).1 0 153 + 1), .ref 0] (fdM τ1 w))) : ∃ τ1, lj_D lm_P lm_M237 35 [.ref 0, .int (Int32.ofNat (48 * p + L.length)), x2] [] τ = some (.inl none, τ1) ∧ ocR σ0 τ0 A (fun t => t ≤ thM FP (p :: r) MO LA) σ τ1 (lj_D lc_P lc_M153 24 [.ref 8, .int (Int32.ofNat (20 * p + L.length)), .int 1, x3, x4, x5, .retAddr 0, .retAddr 0] [] σ) := by
  have t2 : t ≤ 2000 := obt.2.1
  have if1 : lj_in (Int32.ofNat (20 * p + L.length)) 520 := ofN_in (by omega) (by omega)
  have nf : (Int32.ofNat (20 * p + L.length)).toNatClampNeg = (20 * p + L.length) := lz_onat (by omega)
  have imi : lj_in (Int32.ofNat (48 * p + L.length)) 1248 := ofN_in (by omega) (by omega)
  have nmi : (Int32.ofNat (48 * p + L.length)).toNatClampNeg = (48 * p + L.length) := lz_onat (by omega)
  obtain ⟨N51, hN⟩ : ∃ x : Int32, x = if σ.1 8 51 = 2147483647 then σ.1 8 51 else σ.1 8 51 + 1 := ⟨_, rfl⟩
  have c51 : (fdC σ1 u).1 8 51 = σ.1 8 51 := by rw [fdC_1, if_neg (by omega), (o1 8 51 (by omega)).1]
  have m153 : (fdM τ1 w).1 0 153 = σ.1 8 51 := by rw [fdM_1, if_neg (by omega), n1 0 153 (by omega) (by omega)]; exact g9.symm
  -- the component
  obtain ⟨σa, hσa⟩ : ∃ s, s = lj_put (fdC σ1 u) 8 51 N51 := ⟨_, rfl⟩
  have ga0 : gvC (lj_put σa 8 38 0) [] := ⟨by unfold lv; rw [lj_put_1, if_pos ⟨rfl, rfl⟩]; rfl, fun j hj => absurd hj (by simp)⟩
  obtain ⟨σ3, b1, b2, b3⟩ := c_give ga0 (by decide) (4, i64 t)
  have b1 : lj_R lc_P 154 [.ref 8, .int 4, .long (Int32.ofNat t).toInt64] (lj_put σa 8 38 0) = some (.inl none, σ3) := b1
  have b2 : gvC σ3 [(4, i64 t)] := b2
  have o3 : ∀ k j, ¬ (k = 105 ∨ k = 106 ∨ k = 8 ∧ j = 38) → σ3.1 k j = σa.1 k j ∧ σ3.2 k j = σa.2 k j := fun k j z => by
    obtain ⟨v1, v2⟩ := b3 k j (by unfold gsC; simp; omega)
    exact ⟨v1.trans (by rw [lj_put_1, if_neg (by omega)]), v2⟩
  have oa : ∀ k j, ¬ (k = 8 ∧ (j = 33 ∨ j = 51)) → ¬ (k = 7 ∧ (j = 27 ∨ j = 28)) → σa.1 k j = σ.1 k j ∧ σa.2 k j = σ.2 k j := fun k j z1 z2 => by
    rw [hσa]
    refine ⟨by rw [lj_put_1, if_neg (by omega), fdC_1, if_neg (by omega), (o1 k j (by omega)).1], ?_⟩
    show (fdC σ1 u).2 k j = _
    rw [fdC_2, if_neg (by omega), (o1 k j (by omega)).2]
  obtain ⟨σ4, hσ4⟩ : ∃ s, s = lj_put (lj_put σ3 102 (20 * p + L.length) 1) 103 (20 * p + L.length) 0 := ⟨_, rfl⟩
  have o4 : ∀ k j, ¬ ((k = 102 ∨ k = 103) ∧ j = (20 * p + L.length)) → σ4.1 k j = σ3.1 k j ∧ σ4.2 k j = σ3.2 k j := fun k j z => by
    rw [hσ4]
    exact ⟨by rw [lj_put_1, if_neg (by omega), lj_put_1, if_neg (by omega)], rfl⟩
  have f4 : ∀ k j, ¬ ((k = 102 ∨ k = 103) ∧ j = (20 * p + L.length)) → ¬ (k = 105 ∨ k = 106) → ¬ (k = 8 ∧ (j = 33 ∨ j = 38 ∨ j = 51)) → ¬ (k = 7 ∧ (j = 27 ∨ j = 28)) → σ4.1 k j = σ.1 k j ∧ σ4.2 k j = σ.2 k j := fun k j z1 z2 z3 z4 => by
    obtain ⟨v1, v2⟩ := o4 k j z1
    obtain ⟨v3, v4⟩ := o3 k j (by omega)
    obtain ⟨v5, v6⟩ := oa k j (by omega) (by omega)
    exact ⟨v1.trans (v3.trans v5), v2.trans (v4.trans v6)⟩
  -- the model
  obtain ⟨τb, hτb⟩ : ∃ s, s = lj_put (fdM τ1 w) 0 153 N51 := ⟨_, rfl⟩
  have ob : ∀ k j, ¬ (k = 0 ∧ j = 153) → τb.1 k j = (fdM τ1 w).1 k j := fun k j z => by rw [hτb, lj_put_1, if_neg z]
  have ob' : ∀ k j, τb.2 k j = (fdM τ1 w).2 k j := fun k j => by rw [hτb]; rfl
  obtain ⟨τc, hτc⟩ : ∃ s, s = lj_put (lj_put (lj_put τb 0 130 0) 0 131 0) 0 132 (τ.1 83 (48 * p + L.length)) := ⟨_, rfl⟩
  have oc : ∀ k j, ¬ (k = 0 ∧ (j = 130 ∨ j = 131 ∨ j = 132)) → τc.1 k j = τb.1 k j := fun k j z => by rw [hτc, lj_put_1, if_neg (by omega), lj_put_1, if_neg (by omega), lj_put_1, if_neg (by omega)]
  have oc' : ∀ k j, τc.2 k j = τb.2 k j := fun k j => by rw [hτc]; rfl
  obtain ⟨τd, hτd⟩ : ∃ s, s = lj_putL (lj_put τc 0 133 w.1) 0 134 w.2 := ⟨_, rfl⟩
  have od : ∀ k j, ¬ (k = 0 ∧ (j = 133 ∨ j = 134)) → τd.1 k j = τc.1 k j ∧ τd.2 k j = τc.2 k j := fun k j z => by
    rw [hτd]
    exact ⟨by rw [lj_putL_1, lj_put_1, if_neg (by omega)], by rw [lj_putL_2, if_neg (by omega)]; rfl⟩
  obtain ⟨τe, hτe⟩ : ∃ s, s = lj_putL (lj_put τd 88 0 4) 89 0 (Int32.ofNat t).toInt64 := ⟨_, rfl⟩
  have oe : ∀ k j, ¬ ((k = 88 ∨ k = 89) ∧ j = 0) → τe.1 k j = τd.1 k j ∧ τe.2 k j = τd.2 k j := fun k j z => by
    rw [hτe]
    exact ⟨by rw [lj_putL_1, lj_put_1, if_neg (by omega)], by rw [lj_putL_2, if_neg (by omega)]; rfl⟩
  obtain ⟨τf, hτf⟩ : ∃ s, s = lj_putL (lj_put τe 88 1 0) 89 1 0 := ⟨_, rfl⟩
  have of : ∀ k j, ¬ ((k = 88 ∨ k = 89) ∧ j = 1) → τf.1 k j = τe.1 k j ∧ τf.2 k j = τe.2 k j := fun k j z => by
    rw [hτf]
    exact ⟨by rw [lj_putL_1, lj_put_1, if_neg (by omega)], by rw [lj_putL_2, if_neg (by omega)]; rfl⟩
  obtain ⟨τ4, hτ4⟩ : ∃ s, s = lj_put (lj_put (lj_put τf 0 137 2) 0 129 3) 0 137 1 := ⟨_, rfl⟩
  have og : ∀ k j, ¬ (k = 0 ∧ (j = 129 ∨ j = 137)) → τ4.1 k j = τf.1 k j ∧ τ4.2 k j = τf.2 k j := fun k j z => by
    rw [hτ4]
    exact ⟨by rw [lj_put_1, if_neg (by omega), lj_put_1, if_neg (by omega), lj_put_1, if_neg (by omega)], rfl⟩
  have nb : ∀ k j, ¬ (k = 88 ∨ k = 89 ∨ k = 0 ∧ (129 ≤ j ∧ j ≤ 134 ∨ j = 137)) → τ4.1 k j = τb.1 k j ∧ τ4.2 k j = τb.2 k j := fun k j z => by
    obtain ⟨v1, v2⟩ := og k j (by omega)
    obtain ⟨v3, v4⟩ := of k j (by omega)
    obtain ⟨v5, v6⟩ := oe k j (by omega)
    obtain ⟨v7, v8⟩ := od k j (by omega)
    exact ⟨v1.trans (v3.trans (v5.trans (v7.trans (oc k j (by omega))))), v2.trans (v4.trans (v6.trans (v8.trans (oc' k j))))⟩
  have nt : ∀ k j, ¬ (k = 88 ∨ k = 89 ∨ k = 85 ∨ k = 0 ∧ (j = 90 ∨ j = 91 ∨ 129 ≤ j ∧ j ≤ 137 ∨ j = 152 ∨ j = 153)) → τ4.1 k j = τ.1 k j ∧ τ4.2 k j = τ.2 k j := fun k j z => by
    obtain ⟨v1, v2⟩ := nb k j (by omega)
    exact ⟨v1.trans (by rw [ob k j (by omega), fdM_1, if_neg (by omega), n1 k j (by omega) (by omega)]), v2.trans (by rw [ob', fdM_2, if_neg (by omega), n1'])⟩
  -- both are related
  obtain ⟨σm, hσm⟩ : ∃ s, s = lj_put (lj_put σa 102 (20 * p + L.length) 1) 103 (20 * p + L.length) 0 := ⟨_, rfl⟩
  have om : ∀ k j, ¬ ((k = 102 ∨ k = 103) ∧ j = (20 * p + L.length)) → σm.1 k j = σa.1 k j ∧ σm.2 k j = σa.2 k j := fun k j z => by
    rw [hσm]
    exact ⟨by rw [lj_put_1, if_neg (by omega), lj_put_1, if_neg (by omega)], rfl⟩
  have gg := h2.2.2.2.2.2.2.2.2.2.2.1
  have hw := h2.gA (A' := (20 * p + L.length) :: A) ⟨gg.1, gg.2.1, gg.2.2.1, gg.2.2.2.1, fun i hi => gg.2.2.2.2.1 i (fun y => hi (List.mem_cons_of_mem _ y)), gg.2.2.2.2.2⟩
  have hz : MB σ0 τ0 n np p r FP ρ ((20 * p + L.length) :: A) MO LA' σm τb := hw.gz (by rw [hσm, hσa]; exact lf_put (lf_put (lf_put (lf_rf _ _) _ _ _ rfl) _ _ _ rfl) _ _ _ rfl) (by rw [hτb]; exact lf_put (lf_rf _ _) _ _ _ rfl) (hw.2.2.2.2.2.2.2.2.2.2.1.w (fun k j z => by rw [(om k j (by omega)).1, hσa, lj_put_1, if_neg (by omega)]) ob ob' (fun i hi => by
    have z : i ≠ (20 * p + L.length) := fun y => hi (by rw [y]; exact List.mem_cons_self)
    rw [(om 102 i (by omega)).1, (oa 102 i (by omega) (by omega)).1]
    exact g8 i (fun y => hi (List.mem_cons_of_mem _ y))) (by rw [(om 8 51 (by omega)).1, hσa, hτb, lj_put_1, lj_put_1, if_pos ⟨rfl, rfl⟩, if_pos ⟨rfl, rfl⟩]))
  have h4 : MB σ0 τ0 n np p r FP ρ ((20 * p + L.length) :: A) MO LA' σ4 τ4 := hz.sc (fun k j q => by
    by_cases z : (k = 102 ∨ k = 103) ∧ j = (20 * p + L.length)
    · rw [hσ4, hσm]
      refine ⟨?_, ?_⟩
      · rw [lj_put_1, lj_put_1, lj_put_1, lj_put_1]
        rcases z with ⟨z | z, z'⟩
        · rw [if_neg (by omega), if_pos ⟨z, z'⟩, if_neg (by omega), if_pos ⟨z, z'⟩]
        · rw [if_pos ⟨z, z'⟩, if_pos ⟨z, z'⟩]
      · exact (o3 k j (by omega)).2
    · obtain ⟨v1, v2⟩ := o4 k j z
      obtain ⟨v3, v4⟩ := o3 k j (by unfold szC at q; simp at q; omega)
      obtain ⟨v5, v6⟩ := om k j z
      exact ⟨v1.trans (v3.trans v5.symm), v2.trans (v4.trans v6.symm)⟩) (fun k j q => nb k j (by unfold szM at q; simp at q; omega))
  have v4 : ∀ a b, vR σ1 τ1 a b → vR σ4 τ4 a b := fun a b y => y.cg (fun k j q => by
    rw [(f4 k j (by unfold vqC at q; simp at q; omega) (by unfold vqC at q; simp at q; omega) (by unfold vqC at q; simp at q; omega) (by unfold vqC at q; simp at q; omega)).1, (o1 k j (by unfold vqC at q; simp at q; omega)).1]) (fun k j q => by
    rw [(nt k j (by unfold vqM at q; simp at q; omega)).1, n1 k j (by unfold vqM at q; simp at q; omega) (by unfold vqM at q; simp at q; omega)])
  have gx : gX FP (p :: r) = (20 * p + L.length) :: (gL p L ++ gX FP r) := by
    show gL p (FP p) ++ _ = _
    rw [hF]
    show (if kS F = 2 then (20 * p + L.length) :: gL p L else gL p L) ++ _ = _
    rw [if_pos hS]
    rfl
  have wk4 : wkR FP (p :: r) ((20 * p + L.length) :: A) σ4 := ⟨fun i hi => by
    by_cases z : i = (20 * p + L.length)
    · rw [z, hσ4, lj_put_1, if_neg (by omega), lj_put_1, if_pos ⟨rfl, rfl⟩]
    · rw [(f4 102 i (by omega) (by omega) (by omega) (by omega)).1]
      rcases List.mem_cons.1 hi with y | y
      · exact absurd y z
      · exact hwk.1 i y, by
    have := hwk.2.1
    rw [gx] at this ⊢
    cases this with
    | cons _ y => exact List.Sublist.cons_cons _ y
    | cons_cons _ y => exact absurd List.mem_cons_self fA, hwk.2.2⟩
  have l99 : σ3.1 99 (20 * p + L.length) = τ.1 83 (48 * p + L.length) := by rw [(o3 99 _ (by omega)).1, (oa 99 _ (by omega) (by omega)).1]; exact c99
  have gw : gwR σ4 τ4 [(4, i64 t)] [(4, i64 t)] := ⟨⟨by unfold lv; rw [(o4 8 38 (by omega)).1]; exact b2.1, fun j hj => by rw [(o4 105 j (by omega)).1, (o4 106 j (by omega)).2]; exact b2.2 j hj⟩, ⟨by unfold lv; rw [hτ4, lj_put_1, if_pos ⟨rfl, rfl⟩]; rfl, fun j hj => by
    have j0 : j = 0 := by simp at hj; exact hj
    subst j0
    rw [(og 88 0 (by omega)).1, (og 89 0 (by omega)).2, (of 88 0 (by omega)).1, (of 89 0 (by omega)).2, hτe, lj_putL_1, lj_put_1, if_pos ⟨rfl, rfl⟩, lj_putL_2, if_pos ⟨rfl, rfl⟩]
    rfl⟩, rfl, fun j hj => by
    have j0 : j = 0 := by simp at hj; exact hj
    subst j0
    exact v4 _ _ (vR_ob (Or.inl rfl) (obt))⟩
  have px : pfx FP (p :: r) = 0 := by
    show pf1 (FP p) + (if pfA (FP p) = true then 1 + pfx FP r else 0) = 0
    rw [hF]
    show (if kS F = 1 then 1 + pf1 L else 0) + (if (if kS F = 1 then pfA L else false) = true then 1 + pfx FP r else 0) = 0
    rw [if_neg (by omega), if_neg (show ¬ (kS F = 1) by omega)]
    rfl
  have t134 : τ4.2 0 134 = w.2 := by rw [(og 0 134 (by omega)).2, (of 0 134 (by omega)).2, (oe 0 134 (by omega)).2, hτd, lj_putL_2, if_pos ⟨rfl, rfl⟩]
  have t133 : τ4.1 0 133 = w.1 := by rw [(og 0 133 (by omega)).1, (of 0 133 (by omega)).1, (oe 0 133 (by omega)).1, hτd, lj_putL_1, lj_put_1, if_pos ⟨rfl, rfl⟩]
  have cal := C n np p r FP ρ ((20 * p + L.length) :: A) MO LA' σ4 τ4 u w [(4, i64 t)] [(4, i64 t)] 7 (τ.1 83 (48 * p + L.length)) h4 ⟨by rw [(f4 8 46 (by omega) (by omega) (by omega) (by omega)).1]; exact ry.1, by rw [(nt 0 143 (by omega)).1]; exact ry.2.1, by rw [(f4 8 45 (by omega) (by omega) (by omega) (by omega)).1, (nt 0 144 (by omega)).1]; exact ry.2.2.1, by rw [(f4 8 44 (by omega) (by omega) (by omega) (by omega)).2, (nt 0 145 (by omega)).2]; exact ry.2.2.2⟩ wk4 (v4 _ _ a1) (by rw [t133, t134]) (by rw [hτ4, lj_put_1, if_neg (by omega), lj_put_1, if_pos ⟨rfl, rfl⟩]) (by rw [hF]; exact Or.inr (Or.inl ⟨hS, rfl⟩)) (by rw [(og 0 132 (by omega)).1, (of 0 132 (by omega)).1, (oe 0 132 (by omega)).1, (od 0 132 (by omega)).1, hτc]; exact (by simp [lj_put_1, lj_putL_1])) gw (Or.inl ⟨by rw [px]; show 1 + 0 ≤ 30; decide, by show 1 + 100 ≤ 101; decide⟩) (by omega) (by omega)
  -- the run
  have z0 : (0 : Int32).toNatClampNeg = 0 := by decide
  have z1 : (1 : Int32).toNatClampNeg = 1 := by decide
  have mrun : lj_D lm_P lm_M237 123 [.ref 0, .int (Int32.ofNat (48 * p + L.length)), .int (Int32.ofNat t)] [.int N51, .ref 0] (fdM τ1 w) = some (.inl none, τ4) := by
    have e83 : (fdM τ1 w).1 83 (Int32.ofNat (48 * p + L.length)).toNatClampNeg = τ.1 83 (48 * p + L.length) := by rw [nmi, fdM_1, if_neg (by omega), n1 83 _ (by omega) (by omega)]
    have c90 : τc.1 0 90 = w.1 := by rw [oc 0 90 (by omega), ob 0 90 (by omega), (fdM_v τ1 w).1]
    have c91 : τc.2 0 91 = w.2 := by rw [oc', ob', (fdM_v τ1 w).2]
    rw [km_237_123, if_pos imi, e83, ← hτb, rm_112, km_112_0, ← hτc, bv_ok, rm_141, km_141_0, c90, c91, if_pos (by decide), if_pos (by decide), if_pos (by decide), if_pos (by decide), z0, z1, ← hτd, ← hτe, ← hτf, bv_ok, hτ4]
  have crun : ∀ {x : Option lj_O}, lj_bv (lj_R lc_P 155 [.ref 8, .int u.1, .long u.2, .int 7, .int (τ.1 83 (48 * p + L.length))] σ4) (fun s2 => lj_D lc_P lc_M153 24 [.ref 8, .int (Int32.ofNat (20 * p + L.length)), .int (s2.1 103 (20 * p + L.length)), .int (Int32.ofNat t), .int u.1, .long u.2, .retAddr 0, .retAddr 0] [] (lj_put s2 102 (20 * p + L.length) 0)) (fun e3 s4 => (bif lc_ca 0 e3 then lj_D lc_P lc_M153 236 [.ref 8, .int (Int32.ofNat (20 * p + L.length)), .int 1, .int (Int32.ofNat t), .int u.1, .long u.2, .retAddr 0, .retAddr 0] [.ref e3] s4 else none)) = x → lj_D lc_P lc_M153 24 [.ref 8, .int (Int32.ofNat (20 * p + L.length)), .int 1, x3, x4, x5, .retAddr 0, .retAddr 0] [] σ = x := fun {x} ex => by
    have body : lj_D lc_P lc_M153 156 [.ref 8, .int (Int32.ofNat (20 * p + L.length)), .int 1, .int (Int32.ofNat t), x4, x5, .retAddr 0, .retAddr 0] [.int (if σ.1 8 51 = 2147483647 then 0 else 1), .int (σ.1 8 51), .ref 8] (fdC σ1 u) = x := by
      have eN : σ.1 8 51 + (if σ.1 8 51 = 2147483647 then (0 : Int32) else 1) = N51 := by
        rw [hN]
        by_cases y : σ.1 8 51 = 2147483647
        · rw [if_pos y, if_pos y, Int32.add_zero]
        · rw [if_neg y, if_neg y]
      have v1 : vp_nar .boolean 1 = 1 := by decide
      have v0 : vp_nar .boolean 0 = 0 := by decide
      rw [kc_153_156, eN, ← hσa, b1, bv_ok, if_pos if1, if_pos if1, if_pos if1, (fdC_v σ1 u).1, (fdC_v σ1 u).2]
      simp only [if_pos if1, nf, v1, v0]
      rw [l99, ← hσ4, ← ex]
      simp only [kc_153_255]
    rw [eC, c51]
    by_cases y : σ.1 8 51 = 2147483647
    · rw [if_pos (max_32.2 y)]
      rw [if_pos y] at body
      exact body
    · rw [if_neg (fun z => y (max_32.1 z))]
      rw [if_neg y] at body
      exact body
  refine ⟨τ4, ?_, ?_⟩
  · rw [eM, m153]
    by_cases y : σ.1 8 51 = 2147483647
    · rw [if_pos y]
      rw [hN, if_pos y] at mrun
      exact mrun
    · rw [if_neg y]
      rw [hN, if_neg y] at mrun
      exact mrun
  · have s103 : ∀ i ∈ A, σ4.1 103 i = σ.1 103 i := fun i hi => (f4 103 i (fun z => fA (by rw [← z.2]; exact hi)) (by omega) (by omega) (by omega)).1
    have f103 : σ4.1 103 (20 * p + L.length) = 0 := by rw [hσ4]; exact (by simp [lj_put_1, lj_putL_1])
    have p103 : ∀ (s : lj_S) i, (lj_put s 102 (20 * p + L.length) 0).1 103 i = s.1 103 i := fun s i => by rw [lj_put_1, if_neg (by omega)]
    have out : ∀ (s : lj_S) (x5 : Value), lj_D lc_P lc_M153 24 [.ref 8, .int (Int32.ofNat (20 * p + L.length)), .int 0, .int (Int32.ofNat t), .int u.1, x5, .retAddr 0, .retAddr 0] [] s = some (.inl none, s) := fun s x5 => by rw [kc_153_24, if_pos rfl]
    rcases cal with ⟨σ', τ', n', np', p', r', FP', MO', LA2, y1, y2, y3, y4, y5, y6⟩ | ⟨σ', τ', n', np', p', r', FP', ρ', MO', LA2, y1, y2, y3, y4, y5⟩ | ⟨σ', τ', y1, y2, y3, y4⟩ | ⟨σ', τ', n', np', p', r', FP', ρ', MO', LA2, F', L', A', y1, y2, y3, y4, y5, y6, y7, y8, y9, y10, y11⟩
    · have k103 : σ'.1 103 (20 * p + L.length) = 0 := by rw [y6 _ List.mem_cons_self]; exact f103
      refine Or.inl ⟨lj_put σ' 102 (20 * p + L.length) 0, τ', n', np', p', r', FP', MO', LA2, crun (by rw [y1, bv_ok, k103, out]), y2, y3.un, by show _ ≤ _; have y4 : thM FP' (p' :: r') MO' LA2 ≤ thM FP (p :: r) MO LA' + 5001 := y4; omega, y5.un fA, fun i hi => by rw [p103, y6 i (List.mem_cons_of_mem _ hi)]; exact s103 i hi⟩
    · refine Or.inr (Or.inl ⟨lj_put σ' 102 (20 * p + L.length) 0, τ', n', np', p', r', FP', ρ', MO', LA2, crun ?_, y2, y3.un, by show _ + 1 ≤ _; have y4 : thM FP' (p' :: r') MO' LA2 + 1 ≤ thM FP (p :: r) MO LA' + 5001 := y4; omega, y5.un fA⟩)
      rw [y1]
      show (bif lc_ca 0 2 then lj_D lc_P lc_M153 236 [.ref 8, .int (Int32.ofNat (20 * p + L.length)), .int 1, .int (Int32.ofNat t), .int u.1, .long u.2, .retAddr 0, .retAddr 0] [.ref 2] σ' else none) = _
      rw [show lc_ca 0 2 = true from by decide, cond_true, kc_153_236, if_pos if1, nf]
      rfl
    · have k103 : σ'.1 103 (20 * p + L.length) = 0 := by rw [y4 _ List.mem_cons_self]; exact f103
      exact Or.inr (Or.inr (Or.inl ⟨lj_put σ' 102 (20 * p + L.length) 0, τ', crun (by rw [y1, bv_ok, k103, out]), y2, y3.un _, fun i hi => by rw [p103, y4 i (List.mem_cons_of_mem _ hi)]; exact s103 i hi⟩))
    · obtain ⟨fe, ae⟩ := List.cons.inj y6
      subst ae
      rw [← fe] at y7
      have y10 : thM FP' (p' :: r') MO' LA2 ≤ thM FP (p :: r) MO LA' + 5001 := y10
      rw [fe] at y3 y11
      have ru : ryR (lj_put σ' 102 (20 * p' + L'.length) 0) τ' := ⟨by rw [lj_put_1, if_neg (by omega)]; exact y9.1, y9.2.1, by rw [lj_put_1, if_neg (by omega)]; exact y9.2.2.2.1, y9.2.2.2.2⟩
      obtain ⟨τx, r1, r2⟩ := rec n' np' p' r' FP' ρ' MO' LA2 (lj_put σ' 102 (20 * p' + L'.length) 0) τ' F' L' y3.un y4 y5 (y11.un (by rw [← fe]; exact fA)) ru (by simp [lj_put_1, lj_putL_1]) (by omega) (.retAddr 0) (.int (Int32.ofNat t)) (.int u.1) (.long u.2)
      rw [← fe] at r2
      have stp : ∀ x, mRun x τ' = mRun x τx := fun x => by
        have e37 := m_237 y3 y4 y5
        unfold mRun
        rw [km_120_46, if_pos y9.2.1, if_neg (by rw [y9.2.2.1]; decide), if_neg (by rw [y9.2.2.1]; decide), if_neg (by rw [y9.2.2.1]; decide), if_neg (by rw [y9.2.2.1]; decide), e37, r1, bv_ok]
      rw [crun (x := lj_D lc_P lc_M153 24 [.ref 8, .int (Int32.ofNat (20 * p + L.length)), .int 1, .int (Int32.ofNat t), .int u.1, .long u.2, .retAddr 0, .retAddr 0] [] (lj_put σ' 102 (20 * p + L.length) 0)) (by rw [y1, bv_ok, y7])]
      exact r2.pre (fun x => (y2 x).trans (stp x)) (fun i hi => by rw [p103, y8 i hi]; exact s103 i hi) (fun t y => by show t ≤ _; omega)
theorem rw_one {σ τ : lj_S} {a b : vT} (h : vR σ τ a b) : rwE σ τ [a] [b] := ⟨rfl, by simp, fun j => by
  cases j with
  | zero => exact h
  | succ j => exact vR_nil _ _⟩
theorem nla_end {σ0 τ0 σ τ : lj_S} {n np p : Nat} {r : List Nat} {FP : Nat → List kF} {ρ : Nat → Nat} {A MO LA : List Nat} (h : MB σ0 τ0 n np p r FP ρ A MO LA σ τ) {F : kF} {L : List kF} (hF : FP p = F :: L) (hS : kS F = 2) (hwk : wkR FP (p :: r) A σ) (ry : ryR σ τ) (fA : (20 * p + L.length) ∉ A)
    (D1 : ∀ (σ2 τ2 : lj_S) (G G' : List vT) (as : Int32), MB σ0 τ0 n np p r (fpT FP p L) ρ A MO LA σ2 τ2 → dlR σ2 τ2 G G' → awR σ0 L as (τ2.1 0 130) (τ2.1 0 131) → wkR (fpT FP p L) (p :: r) A σ2 → G.length + pfx (fpT FP p L) (p :: r) ≤ 110 → ocR σ0 τ0 A (fun t => t ≤ thM FP (p :: r) MO LA) σ2 τ2 (lj_R lc_P 144 [.ref 8, .int as] σ2))
    {b e e' : Nat} (he : e = LA.tail.length) (end0 : b = e) (e33 : σ.1 8 33 = Int32.ofNat e) (c100 : σ.1 100 (20 * p + L.length) = Int32.ofNat b) (m84 : τ.1 84 (48 * p + L.length) = Int32.ofNat b) (m85 : τ.1 85 (48 * p + L.length) = Int32.ofNat e) (c101 : σ.1 101 (20 * p + L.length) = τ.1 86 (48 * p + L.length)) (gl' : gaL σ τ p L b e') (gc : gaC σ τ FP r e') (x2 x3 x4 x5 : Value) : ∃ τ1, lj_D lm_P lm_M237 35 [.ref 0, .int (Int32.ofNat (48 * p + L.length)), x2] [] τ = some (.inl none, τ1) ∧ ocR σ0 τ0 A (fun t => t ≤ thM FP (p :: r) MO LA) σ τ1 (lj_D lc_P lc_M153 24 [.ref 8, .int (Int32.ofNat (20 * p + L.length)), .int 1, x3, x4, x5, .retAddr 0, .retAddr 0] [] σ) := by
  have h7 := h.2.2.2.2.2.2.1
  have hp : p ≤ np := h7.2.2.2.2.2.1 p List.mem_cons_self
  have np25 := h7.1.2.2
  have hpr : p ∉ r := (List.nodup_cons.1 h7.2.2.2.2.1).1
  obtain ⟨ce, me, mq, pa⟩ := h.2.2.2.2.2.2.2.1 p hp (by rw [h7.2.2.1.2]; decide)
  have pa' := pa
  obtain ⟨p1, ⟨p2, p3, p4, p5⟩, p6, p7, p8, p9, p10, p11⟩ := pa'
  rw [hF] at p1
  rw [hF, List.length_cons] at p2 p7 p10 p11
  obtain ⟨ms, ks, q1, q2, q3⟩ := p1
  have fh := h.2.2.2.2.2.2.2.2.1
  rw [hF] at fh
  obtain ⟨⟨c95, m80, m81⟩, q2⟩ := q2
  obtain ⟨_, c91, m74, ec, em, ek⟩ : (kS F = 1 ∨ kS F = 2) ∧ σ.1 91 (20 * p + L.length) = Int32.ofNat (kS F) ∧ τ.1 74 (48 * p + L.length) = Int32.ofNat (kS F) ∧ ce = kC F ∧ me = ms ∧ mq = ks := by
    rcases q2 with ⟨z, _⟩ | z
    · omega
    · exact z
  rw [hS] at c91 m74
  obtain ⟨g1, ⟨g2, g3, g4, g5⟩, g6, _, g8, g9⟩ := h.2.2.2.2.2.2.2.2.2.2.1
  rw [← he] at g2 g3 g5
  have if1 : lj_in (Int32.ofNat (20 * p + L.length)) 520 := ofN_in (by omega) (by omega)
  have nf : (Int32.ofNat (20 * p + L.length)).toNatClampNeg = (20 * p + L.length) := lz_onat (by omega)
  have imi : lj_in (Int32.ofNat (48 * p + L.length)) 1248 := ofN_in (by omega) (by omega)
  have nmi : (Int32.ofNat (48 * p + L.length)).toNatClampNeg = (48 * p + L.length) := lz_onat (by omega)
  obtain ⟨σ1, e1, e2, e3, e4, e5, e6⟩ := c_less (σ := lj_put σ 8 41 0) (p := p) (l := L.length) (kc := kC F) (by rw [lj_put_1, if_neg (by omega)]; exact fh.1) (by rw [lj_put_1, if_neg (by omega), c91]; decide) (by rw [lj_put_1, if_neg (by omega)]; exact c95) (by rw [lj_put_1, if_neg (by omega)]; exact h7.2.1.1) (by omega) (by rw [lj_put_1, if_neg (by omega)]; exact p7) (by omega)
  have r1 : rsC σ1 [] := ⟨by unfold lv; rw [(e6 8 41 (by omega) (by omega)).1, lj_put_1, if_pos ⟨rfl, rfl⟩]; rfl, fun j hj => absurd hj (by simp)⟩
  obtain ⟨σ2, f1, f2, f3⟩ := c_gives r1 (by decide) (2, (σ.1 101 (20 * p + L.length)).toInt64)
  have f1 : lj_R lc_P 143 [.ref 8, .int 2, .long (σ.1 101 (20 * p + L.length)).toInt64] σ1 = some (.inl none, σ2) := f1
  have f2 : rsC σ2 [(2, (σ.1 101 (20 * p + L.length)).toInt64)] := f2
  have o2 : ∀ k j, ¬ (k = 107 ∨ k = 108 ∨ k = 8 ∧ j = 41) → σ2.1 k j = σ1.1 k j ∧ σ2.2 k j = σ1.2 k j := fun k j z => f3 k j (by unfold rtC; simp; omega)
  have all : ∀ k j, ¬ (k = 107 ∨ k = 108 ∨ k = 8 ∧ (j = 8 ∨ j = 34 ∨ j = 35 ∨ j = 41)) → ¬ (k = 90 ∧ j = p) → σ2.1 k j = σ.1 k j ∧ σ2.2 k j = σ.2 k j := fun k j z1 z2 => by
    obtain ⟨u1, u2⟩ := o2 k j (by omega)
    obtain ⟨v1, v2⟩ := e6 k j (by omega) (by omega)
    exact ⟨u1.trans (v1.trans (by rw [lj_put_1, if_neg (by omega)])), u2.trans v2⟩
  -- the model
  obtain ⟨τa, hτa⟩ : ∃ s, s = lj_put (lj_put τ 0 130 (τ.1 78 (48 * p + L.length))) 0 131 (τ.1 79 (48 * p + L.length)) := ⟨_, rfl⟩
  have oa : ∀ k j, ¬ (k = 0 ∧ (j = 130 ∨ j = 131)) → τa.1 k j = τ.1 k j ∧ τa.2 k j = τ.2 k j := fun k j z => by
    rw [hτa]
    exact ⟨by rw [lj_put_1, if_neg (by omega), lj_put_1, if_neg (by omega)], rfl⟩
  have cl := m_closeF (τ := τa) (p := p) (l := L.length) (by rw [(oa 0 111 (by omega)).1]; exact h7.2.1.2) (by omega) (by rw [(oa 62 p (by omega)).1]; exact p10) (by rw [(oa 65 p (by omega)).1]; exact p11) (by omega)
  have a80 : τa.1 80 (48 * p + L.length) = Int32.ofNat ms := by rw [(oa 80 _ (by omega)).1]; exact m80
  have a81 : τa.1 81 (48 * p + L.length) = Int32.ofNat ks := by rw [(oa 81 _ (by omega)).1]; exact m81
  rw [a80, a81] at cl
  obtain ⟨τb, hτb⟩ : ∃ s, s = lj_put (lj_put (lj_put (lj_put τa 63 p (Int32.ofNat ms)) 64 p (Int32.ofNat ks)) 65 p (Int32.ofNat L.length)) 62 p (Int32.ofNat L.length) := ⟨_, rfl⟩
  rw [← hτb] at cl
  have ob : ∀ k j, ¬ (62 ≤ k ∧ k ≤ 65 ∧ j = p) → τb.1 k j = τa.1 k j ∧ τb.2 k j = τa.2 k j := fun k j z => by
    rw [hτb]
    exact ⟨by rw [lj_put_1, if_neg (by omega), lj_put_1, if_neg (by omega), lj_put_1, if_neg (by omega), lj_put_1, if_neg (by omega)], rfl⟩
  have mo := m_one τb (2, (τ.1 86 (48 * p + L.length)).toInt64)
  have mo : lj_R lm_P 195 [.ref 0, .int 2, .long (τ.1 86 (48 * p + L.length)).toInt64] τb = some (.inl none, oneM τb (2, (τ.1 86 (48 * p + L.length)).toInt64)) := mo
  obtain ⟨τ2, hτ2⟩ : ∃ s, s = oneM τb (2, (τ.1 86 (48 * p + L.length)).toInt64) := ⟨_, rfl⟩
  have rm := oneM_rs τb (2, (τ.1 86 (48 * p + L.length)).toInt64)
  rw [← hτ2] at mo rm
  have oo : ∀ k j, ¬ (k = 90 ∨ k = 91 ∨ k = 0 ∧ (j = 129 ∨ j = 140)) → τ2.1 k j = τb.1 k j ∧ τ2.2 k j = τb.2 k j := fun k j z => by
    rw [hτ2]
    exact oneM_o _ _ z
  have mall : ∀ k j, ¬ (62 ≤ k ∧ k ≤ 65 ∧ j = p) → ¬ (k = 90 ∨ k = 91 ∨ k = 0 ∧ (j = 129 ∨ j = 130 ∨ j = 131 ∨ j = 140)) → τ2.1 k j = τ.1 k j ∧ τ2.2 k j = τ.2 k j := fun k j z1 z2 => by
    obtain ⟨u1, u2⟩ := oo k j (by omega)
    obtain ⟨v1, v2⟩ := ob k j (by omega)
    obtain ⟨w1, w2⟩ := oa k j (by omega)
    exact ⟨u1.trans (v1.trans w1), u2.trans (v2.trans w2)⟩
  have hfh : fhR σ2 p L := by
    cases L with
    | nil => show σ2.1 8 34 = -1; rw [(o2 8 34 (by omega)).1]; exact e4 rfl
    | cons F2 L2 =>
      obtain ⟨e51, e52⟩ := e5 (by simp)
      rw [List.length_cons, Nat.add_sub_cancel] at e51 e52
      refine ⟨by rw [(o2 8 34 (by omega)).1]; exact e51, fun z => ?_⟩
      obtain ⟨ms3, ks3, t1, t2, t3⟩ := q1
      rcases t2.2 with ⟨_, t⟩ | ⟨y, _⟩
      · rw [(o2 8 35 (by omega)).1, e52, lj_put_1, if_neg (by omega)]; exact t.1.2.2.2.2
      · omega
  have oA : ∀ o k, obA σ τ o k → obA σ2 τ2 o k := fun o k w => ⟨w.1, w.2.1, by unfold lv; rw [(all 7 0 (by omega) (by omega)).1]; exact w.2.2.1, by rw [(all 57 o (by omega) (by omega)).1]; exact w.2.2.2.1, by rw [(mall 38 o (by omega) (by omega)).1]; exact w.2.2.2.2⟩
  have gga : gaR σ2 τ2 n (fpT FP p L) (p :: r) A MO LA := by
    obtain ⟨a1, a2, a3, a4, a5, a6, a7⟩ := g1
    have m42 : ∀ t, τ2.2 42 t = τ.2 42 t := fun t => (mall 42 t (by omega) (by omega)).2
    have m78 : τ2.2 0 78 = τ.2 0 78 := (mall 0 78 (by omega) (by omega)).2
    refine ⟨⟨by unfold lv at a1 ⊢; rw [(all 8 53 (by omega) (by omega)).1]; exact a1, fun i hi => by rw [(all 110 i (by omega) (by omega)).1]; exact a2 i hi, a3, fun t ht => by rw [m42, m78]; exact ⟨oA _ _ (a4 t ht).1, (a4 t ht).2⟩, by simp only [m42]; exact a5, by rw [m78, lv_eq (all 8 45 (by omega) (by omega)).1]; exact a6, fun t t1 t2 => by rw [(all 57 t (by omega) (by omega)).1, (all 65 t (by omega) (by omega)).1, m42]; exact a7 t t1 t2⟩, ⟨by unfold lv; rw [(all 8 33 (by omega) (by omega)).1, ← he]; exact g2, by unfold lv; rw [(mall 0 152 (by omega) (by omega)).1, ← he]; exact g3, g4, fun i hi => ?_⟩, g6.up oA (all 57 0 (by omega) (by omega)).1, ⟨e', ?_, ?_⟩, fun i hi => by rw [(all 102 i (by omega) (by omega)).1]; exact g8 i hi, by rw [(all 8 51 (by omega) (by omega)).1, (mall 0 153 (by omega) (by omega)).1]; exact g9⟩
    · obtain ⟨w1, w2, w3⟩ := g5 i (by omega)
      exact ⟨oA _ _ w1, by rw [(all 104 i (by omega) (by omega)).1]; exact w2, by rw [(mall 95 i (by omega) (by omega)).1]; exact w3⟩
    · rw [fpT_o, ← he]
      rw [end0] at gl'
      exact gaL_cg (fun k i w => (all k i (by omega) (by omega)).1) (fun k i w => (mall k i (by omega) (by omega)).1) gl'
    · exact gaC_m (fun q hq e e' w => by rw [fpT_ne FP hpr L q hq]; exact gaL_cg (fun k i w => (all k i (by omega) (by omega)).1) (fun k i w => (mall k i (by omega) (by omega)).1) w) gc
  have mbn : MB σ0 τ0 n np p r (fpT FP p L) ρ A MO LA σ2 τ2 := h.popG hF (fun a w => by have := w.1; omega) pa q1 (fun k j z => by
      have zz : szC k j = false := by
        cases y : szC k j with
        | false => rfl
        | true => exact absurd (Or.inr (Or.inr y)) z
      exact all k j (fun y => by
        by_cases y41 : k = 8 ∧ j = 41
        · rw [y41.1, y41.2] at zz; exact absurd zz (by decide)
        · unfold szC at zz
          simp at zz
          rcases y with y | y | ⟨y, y'⟩
          · omega
          · omega
          · exact z (by omega)) (fun y => z (by omega))) (fun k j z => by
      have zz : szM k j = false := by
        cases y : szM k j with
        | false => rfl
        | true => exact absurd (Or.inr y) z
      exact mall k j (fun y => z (by omega)) (fun y => by unfold szM at zz; simp at zz; omega)) (by rw [(o2 8 8 (by omega)).1]; exact e2) (by rw [(o2 90 p (by omega)).1]; exact e3) hfh (by rw [(oo 63 p (by omega)).1, hτb]; exact (by simp [lj_put_1, lj_putL_1])) (by rw [(oo 64 p (by omega)).1, hτb]; exact (by simp [lj_put_1, lj_putL_1])) (by rw [(oo 62 p (by omega)).1, hτb]; exact (by simp [lj_put_1, lj_putL_1])) (by rw [(oo 65 p (by omega)).1, hτb]; exact (by simp [lj_put_1, lj_putL_1])) (by omega) (by omega) (by omega) gga
  have ne := fpT_ne FP hpr L
  have gx : gX FP (p :: r) = (20 * p + L.length) :: gX (fpT FP p L) (p :: r) := by
    rw [gX_p FP hpr]
    show gL p (FP p) ++ _ = _
    rw [hF]
    show (if kS F = 2 then (20 * p + L.length) :: gL p L else gL p L) ++ _ = _
    rw [if_pos hS]
    rfl
  have wk2 : wkR (fpT FP p L) (p :: r) A σ2 := ⟨fun i hi => by rw [(all 102 i (by omega) (by omega)).1]; exact hwk.1 i hi, by
    have := hwk.2.1
    rw [gx] at this
    cases this with
    | cons _ w => exact w
    | cons_cons _ w => exact absurd List.mem_cons_self fA, pfI_o ne hwk.2.2⟩
  have px := pfx_le (FP := fpT FP p L) (p := p) (r := r) (by rw [fpT_o]; omega) (pfI_o ne hwk.2.2)
  have v101 : (σ.1 101 (20 * p + L.length)).toInt64 = (τ.1 86 (48 * p + L.length)).toInt64 := by rw [c101]
  have rwx : rwE σ2 τ2 [(2, (σ.1 101 (20 * p + L.length)).toInt64)] [(2, (τ.1 86 (48 * p + L.length)).toInt64)] := by
    rw [v101]
    exact rw_one (vR_whole _ _ _)
  have plx : ([(2, (σ.1 101 (20 * p + L.length)).toInt64)] : List vT).length + pfx (fpT FP p L) (p :: r) ≤ 110 := by
    rw [List.length_singleton]
    omega
  have dl := D1 σ2 τ2 [(2, (σ.1 101 (20 * p + L.length)).toInt64)] [(2, (τ.1 86 (48 * p + L.length)).toInt64)] (σ.1 98 (20 * p + L.length)) mbn ⟨⟨by rw [(all 8 46 (by omega) (by omega)).1]; exact ry.1, by rw [(mall 0 143 (by omega) (by omega)).1]; exact ry.2.1, by rw [hτ2]; unfold oneM; exact (by simp [lj_put_1, lj_putL_1]), by rw [(all 8 45 (by omega) (by omega)).1, (mall 0 144 (by omega) (by omega)).1]; exact ry.2.2.1, by rw [(all 8 44 (by omega) (by omega)).2, (mall 0 145 (by omega) (by omega)).2]; exact ry.2.2.2⟩, f2, rm, rwx⟩ (by
        have t1 : τ2.1 0 130 = τ.1 78 (48 * p + L.length) := by rw [(oo 0 130 (by omega)).1, (ob 0 130 (by omega)).1, hτa]; exact (by simp [lj_put_1, lj_putL_1])
        have t2 : τ2.1 0 131 = τ.1 79 (48 * p + L.length) := by rw [(oo 0 131 (by omega)).1, (ob 0 131 (by omega)).1, hτa]; exact (by simp [lj_put_1, lj_putL_1])
        rw [t1, t2]
        exact q3) wk2 plx
  have k84 : τ.1 84 (Int32.ofNat (48 * p + L.length)).toNatClampNeg = Int32.ofNat b := by rw [nmi]; exact m84
  have k85 : τ.1 85 (Int32.ofNat (48 * p + L.length)).toNatClampNeg = Int32.ofNat e := by rw [nmi]; exact m85
  refine ⟨τ2, ?_, ?_⟩
  · rw [km_237_35, if_pos imi, if_pos imi, if_pos (by rw [k84, k85, end0, lz_le]; exact Int.le_refl _), if_pos imi, if_pos imi, if_pos imi, nmi, ← hτa, cl, bv_ok, mo, bv_ok]
  · have run : lj_D lc_P lc_M153 24 [.ref 8, .int (Int32.ofNat (20 * p + L.length)), .int 1, x3, x4, x5, .retAddr 0, .retAddr 0] [] σ = finC (lj_R lc_P 144 [.ref 8, .int (σ.1 98 (20 * p + L.length))] σ2) := by
      rw [kc_153_24, if_neg (by decide), if_pos if1, if_pos (by rw [nf, e33, c100, end0]), if_pos if1, if_pos if1, e1, bv_ok, nf, f1, bv_ok]
      rfl
    rw [run]
    exact (dl.pre (fun _ => rfl) (fun i _ => (all 103 i (by omega) (by omega)).1) (fun _ w => w)).fin
theorem nla_step {σ0 τ0 σ τ : lj_S} {n np p : Nat} {r : List Nat} {FP : Nat → List kF} {ρ : Nat → Nat} {A MO LA : List Nat} (h : MB σ0 τ0 n np p r FP ρ A MO LA σ τ) {F : kF} {L : List kF} (hF : FP p = F :: L) (hS : kS F = 2) (hwk : wkR FP (p :: r) A σ) (ry : ryR σ τ) (w0 : σ.1 102 (20 * p + L.length) = 0) (hT : thM FP (p :: r) MO LA ≤ TH)
    (D1 : ∀ (σ2 τ2 : lj_S) (G G' : List vT) (as : Int32), MB σ0 τ0 n np p r (fpT FP p L) ρ A MO LA σ2 τ2 → dlR σ2 τ2 G G' → awR σ0 L as (τ2.1 0 130) (τ2.1 0 131) → wkR (fpT FP p L) (p :: r) A σ2 → G.length + pfx (fpT FP p L) (p :: r) ≤ 110 → ocR σ0 τ0 A (fun t => t ≤ thM FP (p :: r) MO LA) σ2 τ2 (lj_R lc_P 144 [.ref 8, .int as] σ2))
    (rec : ∀ (n np p' : Nat) (r' : List Nat) (FP' : Nat → List kF) (ρ : Nat → Nat) (MO' LA' : List Nat) (σ' τ' : lj_S) (F' : kF) (L' : List kF), MB σ0 τ0 n np p' r' FP' ρ A MO' LA' σ' τ' → FP' p' = F' :: L' → kS F' = 2 → wkR FP' (p' :: r') A σ' → ryR σ' τ' → σ'.1 102 (20 * p' + L'.length) = 0 → thM FP' (p' :: r') MO' LA' < thM FP (p :: r) MO LA → LGo σ0 τ0 p' r' FP' A MO' LA' σ' τ' L')
    (C0 : LA.tail.length ≠ 0 → ∃ M', CAL σ0 τ0 M' 101 ∧ thM FP (p :: r) MO LA ≤ M' + 5002) : LGo σ0 τ0 p r FP A MO LA σ τ L := fun x2 x3 x4 x5 => by
  have h7 := h.2.2.2.2.2.2.1
  have hp : p ≤ np := h7.2.2.2.2.2.1 p List.mem_cons_self
  have np25 := h7.1.2.2
  have hpr : p ∉ r := (List.nodup_cons.1 h7.2.2.2.2.1).1
  obtain ⟨ce, me, mq, pa⟩ := h.2.2.2.2.2.2.2.1 p hp (by rw [h7.2.2.1.2]; decide)
  have pa' := pa
  obtain ⟨p1, ⟨p2, p3, p4, p5⟩, p6, p7, p8, p9, p10, p11⟩ := pa'
  rw [hF] at p1
  rw [hF, List.length_cons] at p2 p7 p10 p11
  obtain ⟨ms, ks, q1, q2, q3⟩ := p1
  have fh := h.2.2.2.2.2.2.2.2.1
  rw [hF] at fh
  obtain ⟨⟨c95, m80, m81⟩, q2⟩ := q2
  obtain ⟨_, c91, m74, ec, em, ek⟩ : (kS F = 1 ∨ kS F = 2) ∧ σ.1 91 (20 * p + L.length) = Int32.ofNat (kS F) ∧ τ.1 74 (48 * p + L.length) = Int32.ofNat (kS F) ∧ ce = kC F ∧ me = ms ∧ mq = ks := by
    rcases q2 with ⟨z, _⟩ | z
    · omega
    · exact z
  rw [hS] at c91 m74
  have ga := h.2.2.2.2.2.2.2.2.2.2.1
  obtain ⟨g1, ⟨g2, g3, g4, g5⟩, g6, ⟨e', gl, gc⟩, g8, g9⟩ := ga
  rw [hF] at gl
  obtain ⟨e, he⟩ : ∃ e, e = LA.tail.length := ⟨_, rfl⟩
  rw [← he] at gl g2 g3 g5
  obtain ⟨b, ⟨be, _⟩, ⟨c100, m84, m85⟩, ⟨c101, c99⟩, gl'⟩ : ∃ b : Nat, (b ≤ e ∧ True) ∧ (σ.1 100 (20 * p + L.length) = Int32.ofNat b ∧ τ.1 84 (48 * p + L.length) = Int32.ofNat b ∧ τ.1 85 (48 * p + L.length) = Int32.ofNat e) ∧ (σ.1 101 (20 * p + L.length) = τ.1 86 (48 * p + L.length) ∧ σ.1 99 (20 * p + L.length) = τ.1 83 (48 * p + L.length)) ∧ gaL σ τ p L b e' := by
    rcases gl with ⟨z, _⟩ | ⟨_, z⟩
    · exact absurd hS z
    · exact z
  have el : e ≤ 2000 := by
    rw [he]
    exact la_le g4 (fun i hi => by
      have := (g5 i (by rw [he]; exact hi)).1
      exact ⟨this.1, this.2.1⟩)
  have e33 : σ.1 8 33 = Int32.ofNat e := lz_ext (by rw [lz_lit (by omega)]; exact g2)
  have if1 : lj_in (Int32.ofNat (20 * p + L.length)) 520 := ofN_in (by omega) (by omega)
  have nf : (Int32.ofNat (20 * p + L.length)).toNatClampNeg = (20 * p + L.length) := lz_onat (by omega)
  have imi : lj_in (Int32.ofNat (48 * p + L.length)) 1248 := ofN_in (by omega) (by omega)
  have nmi : (Int32.ofNat (48 * p + L.length)).toNatClampNeg = (48 * p + L.length) := lz_onat (by omega)
  have fA : (20 * p + L.length) ∉ A := fun y => by
    have := hwk.1 _ y
    rw [w0] at this
    exact absurd this (by decide)
  by_cases end0 : b = e
  · exact nla_end h hF hS hwk ry fA D1 he end0 e33 c100 m84 m85 c101 gl' gc x2 x3 x4 x5
  · -- one more
    obtain ⟨M', C, hM'⟩ := C0 (by omega)
    obtain ⟨e1, he1⟩ : ∃ e1, e = e1 + 1 := ⟨e - 1, by omega⟩
    subst he1
    obtain ⟨t, ht⟩ : ∃ t, t = LA.tail.getD e1 0 := ⟨_, rfl⟩
    obtain ⟨obt, c104, m95⟩ := g5 e1 (by omega)
    rw [← ht] at obt c104 m95
    have t2 : t ≤ 2000 := obt.2.1
    obtain ⟨LA', hLA'⟩ : ∃ l, l = LA.headD 0 :: LA.tail.dropLast := ⟨_, rfl⟩
    have lt : LA'.tail = LA.tail.dropLast := by rw [hLA']; rfl
    have lh : LA'.headD 0 = LA.headD 0 := by rw [hLA']; rfl
    have ll : LA'.tail.length = e1 := by rw [lt, List.length_dropLast]; omega
    have th : thM FP (p :: r) MO LA' + 5002 = thM FP (p :: r) MO LA := by
      have x1 := thM_la FP (p :: r) MO LA'
      have x2 := thM_la FP (p :: r) MO LA
      rw [lh, ll] at x1
      rw [← he] at x2
      omega
    obtain ⟨σ1, hσ1⟩ : ∃ s, s = lj_put σ 8 33 (Int32.ofNat e1) := ⟨_, rfl⟩
    obtain ⟨τ1, hτ1⟩ : ∃ s, s = lj_put (lj_put τ 85 (48 * p + L.length) (Int32.ofNat e1)) 0 152 (Int32.ofNat e1) := ⟨_, rfl⟩
    have o1 : ∀ k j, ¬ (k = 8 ∧ j = 33) → σ1.1 k j = σ.1 k j ∧ σ1.2 k j = σ.2 k j := fun k j z => by
      rw [hσ1]
      exact ⟨by rw [lj_put_1, if_neg z], rfl⟩
    have n1 : ∀ k j, ¬ (k = 85 ∧ j = (48 * p + L.length)) → ¬ (k = 0 ∧ j = 152) → τ1.1 k j = τ.1 k j := fun k j z1 z2 => by rw [hτ1, lj_put_1, if_neg (by omega), lj_put_1, if_neg (by omega)]
    have n1' : ∀ k j, τ1.2 k j = τ.2 k j := fun k j => by rw [hτ1]; rfl
    have oA1 : ∀ o k, obA σ τ o k → obA σ1 τ1 o k := fun o k w => ⟨w.1, w.2.1, by unfold lv; rw [(o1 7 0 (by omega)).1]; exact w.2.2.1, by rw [(o1 57 o (by omega)).1]; exact w.2.2.2.1, by rw [n1 38 o (by omega) (by omega)]; exact w.2.2.2.2⟩
    have gga1 : gaR σ1 τ1 n FP (p :: r) A MO LA' := by
      obtain ⟨a1, a2, a3, a4, a5, a6, a7⟩ := g1
      refine ⟨⟨by unfold lv at a1 ⊢; rw [(o1 8 53 (by omega)).1]; exact a1, fun i hi => by rw [(o1 110 i (by omega)).1]; exact a2 i hi, a3, fun t ht => by rw [n1', n1']; exact ⟨oA1 _ _ (a4 t ht).1, (a4 t ht).2⟩, by simp only [n1']; exact a5, by rw [n1', lh, lv_eq (o1 8 45 (by omega)).1]; exact a6, fun t t1 t2 => by rw [(o1 57 t (by omega)).1, (o1 65 t (by omega)).1, n1']; exact a7 t t1 t2⟩, ⟨by rw [ll]; unfold lv; rw [hσ1, lj_put_1, if_pos ⟨rfl, rfl⟩, lz_lit (by omega)], by rw [ll]; unfold lv; rw [hτ1, lj_put_1, if_pos ⟨rfl, rfl⟩, lz_lit (by omega)], by rw [lt]; exact g4.sublist (List.dropLast_sublist _), fun i hi => ?_⟩, g6.up oA1 (o1 57 0 (by omega)).1, ⟨e', ?_, ?_⟩, fun i hi => by rw [(o1 102 i (by omega)).1]; exact g8 i hi, by rw [(o1 8 51 (by omega)).1, n1 0 153 (by omega) (by omega)]; exact g9⟩
      · rw [ll] at hi
        obtain ⟨w1, w2, w3⟩ := g5 i (by omega)
        rw [lt, getD_dl _ _ (by omega), (o1 104 i (by omega)).1, n1 95 i (by omega) (by omega)]
        exact ⟨oA1 _ _ w1, w2, w3⟩
      · rw [hF, ll]
        refine Or.inr ⟨hS, b, ⟨by omega, trivial⟩, ⟨by rw [(o1 100 _ (by omega)).1]; exact c100, by rw [n1 84 _ (by omega) (by omega)]; exact m84, by rw [hτ1, lj_put_1, if_neg (by omega), lj_put_1, if_pos ⟨rfl, rfl⟩]⟩, ⟨by rw [(o1 101 _ (by omega)).1, n1 86 _ (by omega) (by omega)]; exact c101, by rw [(o1 99 _ (by omega)).1, n1 83 _ (by omega) (by omega)]; exact c99⟩, ?_⟩
        exact gaL_cx (fun k i w _ => (o1 k _ (by omega)).1) (fun k i w hi => n1 k _ (by omega) (by omega)) gl'
      · refine gaC_m (fun q hq e e' w => ?_) gc
        have qn := h7.2.2.2.2.2.1 q (List.mem_cons_of_mem _ hq)
        have qp : q ≠ p := fun z => hpr (by rw [← z]; exact hq)
        obtain ⟨ce2, me2, mq2, pa2⟩ := h.2.2.2.2.2.2.2.1 q qn (by rw [(chn_3 h7.2.2.2.1 hq).2]; decide)
        have l20 := pa2.2.1.1
        exact gaL_cx (fun k i w _ => (o1 k _ (by omega)).1) (fun k i w hi => n1 k _ (by omega) (by omega)) w
    have h1 : MB σ0 τ0 n np p r FP ρ A MO LA' σ1 τ1 := h.gz (by rw [hσ1]; exact lf_put (lf_rf _ _) _ _ _ rfl) (by rw [hτ1]; exact lf_put (lf_put (lf_rf _ _) _ _ _ rfl) _ _ _ rfl) gga1
    obtain ⟨u, w, a1, a2, a3⟩ := cm_event h1.2.1.1 h1.2.2.2.1 h1.2.2.2.2.1 (vR_ob (Or.inl rfl) (oA1 _ _ obt)) (h1.2.2.1.1 20 (by decide))
    have a2 : lj_R lc_P 118 [.ref 7, .int 4, .long (Int32.ofNat t).toInt64, .int (σ1.1 78 20)] σ1 = some (.inl (some (.int (if u.1 = 0 then 0 else 1))), fdC σ1 u) := a2
    have a3 : lj_R lm_P 130 [.ref 0, .int 4, .long (Int32.ofNat t).toInt64, .int 20] τ1 = some (.inl none, fdM τ1 w) := a3
    have h2 := h1.fd u w
    have e33' : σ.1 8 33 - 1 = Int32.ofNat e1 := by rw [e33]; exact lz_pred' _
    have i33 : lj_in (Int32.ofNat e1) 2001 := ofN_in (by omega) (by omega)
    have n33 : (Int32.ofNat e1).toNatClampNeg = e1 := lz_onat (by omega)
    have i44 : lj_in (Int32.ofNat e1) 4004 := ofN_in (by omega) (by omega)
    have n100 : ¬ (σ.1 8 33 = σ.1 100 (Int32.ofNat (20 * p + L.length)).toNatClampNeg) := by
      rw [nf, e33, c100]
      intro y
      exact end0 ((ofN_eq (by omega) (by omega)).1 y).symm
    have z20 : (20 : Int32).toNatClampNeg = 20 := by decide
    have c78 : σ.1 78 20 = σ1.1 78 20 := by rw [(o1 78 20 (by omega)).1]
    have hdC : ∀ {x : Option lj_O}, (if (if u.1 = 0 then (0 : Int32) else 1) = 0 then lj_D lc_P lc_M153 255 [.ref 8, .int (Int32.ofNat (20 * p + L.length)), .int 1, .int (Int32.ofNat t), x4, x5, .retAddr 0, .retAddr 0] [] (fdC σ1 u) else (if (fdC σ1 u).1 7 27 = 5 then (if 2147483647 ≤ (fdC σ1 u).1 8 51 then lj_D lc_P lc_M153 156 [.ref 8, .int (Int32.ofNat (20 * p + L.length)), .int 1, .int (Int32.ofNat t), x4, x5, .retAddr 0, .retAddr 0] [.int 0, .int ((fdC σ1 u).1 8 51), .ref 8] (fdC σ1 u) else lj_D lc_P lc_M153 156 [.ref 8, .int (Int32.ofNat (20 * p + L.length)), .int 1, .int (Int32.ofNat t), x4, x5, .retAddr 0, .retAddr 0] [.int 1, .int ((fdC σ1 u).1 8 51), .ref 8] (fdC σ1 u)) else lj_D lc_P lc_M153 255 [.ref 8, .int (Int32.ofNat (20 * p + L.length)), .int 1, .int (Int32.ofNat t), x4, x5, .retAddr 0, .retAddr 0] [] (fdC σ1 u))) = x → lj_D lc_P lc_M153 24 [.ref 8, .int (Int32.ofNat (20 * p + L.length)), .int 1, x3, x4, x5, .retAddr 0, .retAddr 0] [] σ = x := fun ex => by
      rw [kc_153_24, if_neg (by decide), if_pos if1, if_neg n100]
      simp only [e33', if_pos i33, n33, c104, z20]
      rw [if_pos (by decide), ← hσ1, c78, a2, bi_ok]
      exact ex
    have m85' : τ.1 85 (Int32.ofNat (48 * p + L.length)).toNatClampNeg = Int32.ofNat (e1 + 1) := by rw [nmi]; exact m85
    have m84' : τ.1 84 (Int32.ofNat (48 * p + L.length)).toNatClampNeg = Int32.ofNat b := by rw [nmi]; exact m84
    have l85 : (lj_put τ 85 (Int32.ofNat (48 * p + L.length)).toNatClampNeg (τ.1 85 (Int32.ofNat (48 * p + L.length)).toNatClampNeg - 1)).1 85 (Int32.ofNat (48 * p + L.length)).toNatClampNeg = Int32.ofNat e1 := by
      rw [lj_put_1, if_pos ⟨rfl, rfl⟩, m85']
      exact lz_pred' _
    have a3' : lj_R lm_P 130 [.ref 0, .int 4, .long (Int32.ofNat t).toInt64, .int 20] (lj_put (lj_put τ 85 (Int32.ofNat (48 * p + L.length)).toNatClampNeg (τ.1 85 (Int32.ofNat (48 * p + L.length)).toNatClampNeg - 1)) 0 152 (Int32.ofNat e1)) = some (.inl none, fdM τ1 w) := by
      rw [m85', lz_pred', nmi, ← hτ1]
      exact a3
    have m1v := m_140v a1 (fdM τ1 w)
    have hdM : ∀ {x : Option lj_O}, (if (if u.1 = 5 then (1 : Int32) else 0) = 0 then lj_D lm_P lm_M237 35 [.ref 0, .int (Int32.ofNat (48 * p + L.length)), .int (Int32.ofNat t)] [] (fdM τ1 w) else (if (fdM τ1 w).1 0 153 = 2147483647 then lj_D lm_P lm_M237 123 [.ref 0, .int (Int32.ofNat (48 * p + L.length)), .int (Int32.ofNat t)] [.int ((fdM τ1 w).1 0 153), .ref 0] (fdM τ1 w) else lj_D lm_P lm_M237 123 [.ref 0, .int (Int32.ofNat (48 * p + L.length)), .int (Int32.ofNat t)] [.int ((fdM τ1 w).1 0 153 + 1), .ref 0] (fdM τ1 w))) = x → lj_D lm_P lm_M237 35 [.ref 0, .int (Int32.ofNat (48 * p + L.length)), x2] [] τ = x := fun ex => by
      rw [km_237_35, if_pos imi, if_pos imi, if_neg (by rw [m85', m84', lz_le, lz_lit (by omega), lz_lit (by omega)]; omega), if_pos imi, if_pos imi, if_pos imi]
      simp only [l85, if_pos i44, n33, m95]
      rw [a3', bv_ok, (fdM_v τ1 w).1, m1v, bi_ok]
      exact ex
    by_cases fn : u.1 = 5
    · exact nla_fn hF hS hwk ry fA (by omega) (by omega) g8 g9 c99 rec C (by omega) (by omega) (by omega) o1 n1 n1' (oA1 _ _ obt) h2 a1 fn x2 x3 x4 x5 (hdC (by
        rw [if_neg (by rw [if_neg (show ¬ (u.1 = 0) by rw [fn]; decide)]; decide), if_pos (by rw [(fdC_v σ1 u).1]; exact fn)])) (hdM (by rw [if_neg (by rw [if_pos fn]; decide)]))
    · have fy : ryR (fdC σ1 u) (fdM τ1 w) := ⟨by rw [fdC_1, if_neg (by omega), (o1 8 46 (by omega)).1]; exact ry.1, by rw [fdM_1, if_neg (by omega), n1 0 143 (by omega) (by omega)]; exact ry.2.1, by rw [fdC_1, if_neg (by omega), (o1 8 45 (by omega)).1, fdM_1, if_neg (by omega), n1 0 144 (by omega) (by omega)]; exact ry.2.2.1, by rw [fdC_2, if_neg (by omega), (o1 8 44 (by omega)).2, fdM_2, if_neg (by omega), n1' 0 145]; exact ry.2.2.2⟩
      have e102 : ∀ i, (fdC σ1 u).1 102 i = σ.1 102 i := fun i => by rw [fdC_1, if_neg (by omega), (o1 102 i (by omega)).1]
      obtain ⟨τx, r1, r2⟩ := rec n np p r FP ρ MO LA' (fdC σ1 u) (fdM τ1 w) F L h2 hF hS ⟨fun i hi => by rw [e102]; exact hwk.1 i hi, hwk.2⟩ fy (by rw [e102]; exact w0) (by omega) (.int (Int32.ofNat t)) (.int (Int32.ofNat t)) x4 x5
      refine ⟨τx, hdM ?_, ?_⟩
      · rw [if_pos (by rw [if_neg fn]), r1]
      · rw [hdC (x := lj_D lc_P lc_M153 24 [.ref 8, .int (Int32.ofNat (20 * p + L.length)), .int 1, .int (Int32.ofNat t), x4, x5, .retAddr 0, .retAddr 0] [] (fdC σ1 u)) (by
          by_cases u0 : u.1 = 0
          · rw [if_pos (by rw [if_pos u0]), kc_153_255]
          · rw [if_neg (by rw [if_neg u0]; decide), if_neg (by rw [(fdC_v σ1 u).1]; exact fn), kc_153_255])]
        exact r2.pre (fun _ => rfl) (fun i _ => by rw [fdC_1, if_neg (by omega), (o1 103 i (by omega)).1]) (fun t y => by show t ≤ _; omega)
