/-! what is built in: metatables -/
def gmC (k j : Nat) : Bool := k == 58 || k == 65 || k == 110 || (k == 8 && j == 53)
def gmM (k j : Nat) : Bool := k == 39 || k == 42 || (k == 0 && j == 78)
theorem MB.gm {σ0 τ0 σ τ : lj_S} {n np p : Nat} {r : List Nat} {FP : Nat → List kF} {ρ : Nat → Nat} {A MO LA MO' LA' : List Nat} (h : MB σ0 τ0 n np p r FP ρ A MO LA σ τ) {σ' τ' : lj_S} (f : lf gmC σ σ') (g : lf gmM τ τ') (gob : obR σ' τ' n) (gga : gaR σ' τ' n FP (p :: r) A MO' LA') : MB σ0 τ0 n np p r FP ρ A MO' LA' σ' τ' := by
  have c : ∀ k j, ¬ (k = 58 ∨ k = 65 ∨ k = 110 ∨ k = 8 ∧ j = 53) → σ'.1 k j = σ.1 k j ∧ σ'.2 k j = σ.2 k j := fun k j z => f k j (by unfold gmC; simp; omega)
  have m : ∀ k j, ¬ (k = 39 ∨ k = 42 ∨ k = 0 ∧ j = 78) → τ'.1 k j = τ.1 k j ∧ τ'.2 k j = τ.2 k j := fun k j z => g k j (by unfold gmM; simp; omega)
  obtain ⟨hO, oA⟩ := oA_eq (σ := σ) (τ := τ) (σ' := σ') (τ' := τ') (c 7 0 (by omega)).1 (fun j => (c 57 j (by omega)).1) (fun j => (m 38 j (by omega)).1)
  have vC : ∀ k j, vqC k j = true → σ'.1 k j = σ.1 k j := fun k j q => (c k j (by unfold vqC at q; simp at q; omega)).1
  have vM : ∀ k j, vqM k j = true → τ'.1 k j = τ.1 k j := fun k j q => (m k j (by unfold vqM at q; simp at q; omega)).1
  have hv : ∀ a b, vR σ τ a b → vR σ' τ' a b := fun a b w => w.cg vC vM
  exact h.up (fun k j q => c k j (by unfold kpC at q; simp at q; omega)) (fun k j q => m k j (by unfold kpM at q; simp at q; omega)) (fun j _ => ⟨(c 79 j (by omega)).1, (c 80 j (by omega)).2, (c 81 j (by omega)).1⟩) (fun _ _ _ => rfl) (sG_eq vC vM) hO (fun o _ => (c 62 o (by omega)).1) (fun o _ => (c 64 o (by omega)).1) (fun o w => (oA o 6).1 w) (Nat.le_refl _) (h.2.1.cg (fun k j q => (c k j (by unfold sqC at q; simp at q; omega)).1) (fun k j q => (m k j (by unfold sqM at q; simp at q; omega)).1)) (h.2.2.2.1.cg (fun k j q => c k j (by unfold hqC vqC at q; simp at q; omega)) (fun k j q => m k j (by unfold hqM vqM at q; simp at q; omega))) gob (fun o q w1 w2 w3 => h.2.2.2.2.2.1 o q ((oA o 5).1 w1) w2 (by rw [← (c 62 o (by omega)).1]; exact w3)) (h.2.2.2.2.2.2.2.2.2.1.cg hv (fun k j w => (c k j (by omega)).1) (fun j => (c 76 j (by omega)).2) (fun q s w => ⟨by unfold cv; rw [(c 79 s (by omega)).1, (c 80 s (by omega)).2], (c 81 s (by omega)).1⟩) (fun k j w => (m k j (by omega)).1) (fun j => (m 55 j (by omega)).2)) gga
/-- a table gets a metatable -/
theorem MB.meta {σ0 τ0 σ τ : lj_S} {n np p : Nat} {r : List Nat} {FP : Nat → List kF} {ρ : Nat → Nat} {A MO LA : List Nat} (h : MB σ0 τ0 n np p r FP ρ A MO LA σ τ) {o : Nat} (ob : obA σ τ o 4) {x y : Int32} (hx : x = -1 ∧ y = 0 ∨ ∃ m : Nat, obA σ τ m 4 ∧ x = Int32.ofNat m ∧ y = Int32.ofNat m) : MB σ0 τ0 n np p r FP ρ A MO LA (lj_put σ 58 o x) (lj_put τ 39 o y) := by
  have oA : ∀ o' k, obA σ τ o' k → obA (lj_put σ 58 o x) (lj_put τ 39 o y) o' k := fun o' k w => ⟨w.1, w.2.1, by rw [lv_put, if_neg (by omega)]; exact w.2.2.1, by rw [lj_put_1, if_neg (by omega)]; exact w.2.2.2.1, by rw [lj_put_1, if_neg (by omega)]; exact w.2.2.2.2⟩
  refine h.gm (lf_put (lf_rf _ _) _ _ _ rfl) (lf_put (lf_rf _ _) _ _ _ rfl) ⟨by rw [lj_put_1, if_neg (by have := ob.1; omega)]; exact h.2.2.2.2.1.1, fun o' o1 o2 => ?_⟩ (h.2.2.2.2.2.2.2.2.2.2.1.cg oA (fun k j w => by rw [lj_put_1, if_neg (by omega)]) (fun k j w => by rw [lj_put_1, if_neg (by omega)]) (fun j => rfl) rfl (fun _ _ _ w => w))
  obtain ⟨w1, w2, w3, w4⟩ := h.2.2.2.2.1.2 o' o1 o2
  have e1 : ∀ k, k ≠ 58 → (lj_put σ 58 o x).1 k o' = σ.1 k o' := fun k z => by rw [lj_put_1, if_neg (by omega)]
  have e2 : ∀ k, k ≠ 39 → (lj_put τ 39 o y).1 k o' = τ.1 k o' := fun k z => by rw [lj_put_1, if_neg (by omega)]
  rw [e1 57 (by omega), e2 38 (by omega), e1 62 (by omega), e2 43 (by omega), e1 64 (by omega)]
  refine ⟨w1, fun z => ?_, w3, w4⟩
  by_cases q : o' = o
  · rw [lj_put_1, lj_put_1, if_pos ⟨rfl, q⟩, if_pos ⟨rfl, q⟩]
    exact hx.imp id (fun ⟨m, m1, m2, m3⟩ => ⟨m, oA m 4 m1, m2, m3⟩)
  · rw [lj_put_1, lj_put_1, if_neg (by omega), if_neg (by omega)]
    exact (w2 z).imp id (fun ⟨m, m1, m2, m3⟩ => ⟨m, oA m 4 m1, m2, m3⟩)
/-- a table is marked -/
theorem MB.mrk {σ0 τ0 σ τ : lj_S} {n np p : Nat} {r : List Nat} {FP : Nat → List kF} {ρ : Nat → Nat} {A MO LA : List Nat} (h : MB σ0 τ0 n np p r FP ρ A MO LA σ τ) {o : Nat} (ob : obA σ τ o 4) (hT : LA.headD 0 + 1 < 4611686018427387904) (h65 : σ.1 65 o = 0) : τ.2 42 o = 0 ∧ σ.1 8 53 = Int32.ofNat MO.length ∧ MO.length < 2000 ∧ MB σ0 τ0 n np p r FP ρ A (MO ++ [o]) ((LA.headD 0 + 1) :: LA.tail) (lj_put (lj_put (lj_put σ 65 o 1) 8 53 (Int32.ofNat (MO.length + 1))) 110 MO.length (Int32.ofNat o)) (lj_putL (lj_putL τ 0 78 (τ.2 0 78 + 1)) 42 o (τ.2 0 78 + 1)) := by
  obtain ⟨⟨a1, a2, a3, a4, a5, a6, a7⟩, ⟨b1, b2, b3, b4⟩, c1, c2, c3, c4⟩ := h.2.2.2.2.2.2.2.2.2.2.1
  have hn := h.2.2.2.1.2.1
  have n2 := h.2.2.2.1.1
  have on : o ≤ n := by have := ob.2.2.1; omega
  obtain ⟨q1, q2⟩ := (a7 o ob.1 on).1 ob.2.2.2.1
  have nin : o ∉ MO := fun z => q1.1 z h65
  have t0 : τ.2 42 o = 0 := Classical.byContradiction (fun z => nin (q2.2 z))
  have ml : MO.length < 2000 := by
    have := nd_le 2001 (0 :: o :: MO) (by
      refine List.nodup_cons.2 ⟨fun z => ?_, List.nodup_cons.2 ⟨nin, a3⟩⟩
      rcases List.mem_cons.1 z with z | z
      · have := ob.1; omega
      · have := (a4 0 z).1.1; omega) (fun q hq => by
      rcases List.mem_cons.1 hq with z | z
      · omega
      · rcases List.mem_cons.1 z with z | z
        · omega
        · have := (a4 q z).1.2.1; omega)
    rw [List.length_cons, List.length_cons] at this
    omega
  have e53 : σ.1 8 53 = Int32.ofNat MO.length := lz_ext (by rw [lz_lit (by omega)]; exact a1)
  obtain ⟨σ', hσ'⟩ : ∃ σ', σ' = lj_put (lj_put (lj_put σ 65 o 1) 8 53 (Int32.ofNat (MO.length + 1))) 110 MO.length (Int32.ofNat o) := ⟨_, rfl⟩
  obtain ⟨τ', hτ'⟩ : ∃ τ', τ' = lj_putL (lj_putL τ 0 78 (τ.2 0 78 + 1)) 42 o (τ.2 0 78 + 1) := ⟨_, rfl⟩
  have oC : ∀ k j, ¬ (k = 65 ∧ j = o ∨ k = 8 ∧ j = 53 ∨ k = 110 ∧ j = MO.length) → σ'.1 k j = σ.1 k j := fun k j z => by rw [hσ', lj_put_1, if_neg (by omega), lj_put_1, if_neg (by omega), lj_put_1, if_neg (by omega)]
  have oM : ∀ k j, τ'.1 k j = τ.1 k j := fun k j => by rw [hτ']; rfl
  have t78 : τ'.2 0 78 = τ.2 0 78 + 1 := by rw [hτ', lj_putL_2, if_neg (by omega), lj_putL_2, if_pos ⟨rfl, rfl⟩]
  have t42 : τ'.2 42 o = τ.2 0 78 + 1 := by rw [hτ', lj_putL_2, if_pos ⟨rfl, rfl⟩]
  have t42o : ∀ j, j ≠ o → τ'.2 42 j = τ.2 42 j := fun j z => by rw [hτ', lj_putL_2, if_neg (by omega), lj_putL_2, if_neg (by omega)]
  have i1 : (1 : Int64).toInt = 1 := by decide
  have tp : (τ.2 0 78 + 1).toInt = (τ.2 0 78).toInt + 1 := by
    rw [Int64.toInt_add, i1, Int.bmod_eq_of_le] <;> omega
  have lt : ∀ x y : Int64, x < y ↔ x.toInt < y.toInt := fun x y => Int64.lt_iff_toInt_lt
  have le : ∀ x y : Int64, x ≤ y ↔ x.toInt ≤ y.toInt := fun x y => Int64.le_iff_toInt_le
  have z64 : (0 : Int64).toInt = 0 := by decide
  have oA : ∀ o' k, obA σ τ o' k → obA σ' τ' o' k := fun o' k w => ⟨w.1, w.2.1, by unfold lv; rw [oC 7 0 (by omega)]; exact w.2.2.1, by rw [oC 57 o' (by omega)]; exact w.2.2.2.1, by rw [oM]; exact w.2.2.2.2⟩
  refine ⟨t0, e53, ml, ?_⟩
  rw [← hσ', ← hτ']
  refine h.gm (by rw [hσ']; exact lf_put (lf_put (lf_put (lf_rf _ _) _ _ _ rfl) _ _ _ rfl) _ _ _ rfl) (by rw [hτ']; exact lf_putL (lf_putL (lf_rf _ _) _ _ _ rfl) _ _ _ rfl) (h.2.2.2.2.1.cg (fun k j w => oC k j (by omega)) (fun k j w => oM k j)) ⟨⟨?_, fun i hi => ?_, ?_, fun t ht => ?_, ?_, ?_, fun t t1 t2 => ?_⟩, ⟨by unfold lv; rw [oC 8 33 (by omega)]; exact b1, by unfold lv; rw [oM]; exact b2, b3, fun i hi => ?_⟩, c1.up oA (oC 57 0 (by omega)), gaC_cg (fun k i w => oC k i (by omega)) (fun k i w => oM k i) (fun _ _ _ w => w) c2, fun i hi => by rw [oC 102 i (by omega)]; exact c3 i hi, by rw [oC 8 51 (by omega), oM]; exact c4⟩
  · unfold lv
    rw [hσ', lj_put_1, if_neg (by omega), lj_put_1, if_pos ⟨rfl, rfl⟩, lz_lit (by omega), List.length_append]
    rfl
  · rw [List.length_append] at hi
    have hi : i < MO.length + 1 := hi
    rw [hσ', lj_put_1]
    by_cases z : i = MO.length
    · rw [if_pos ⟨rfl, z⟩, z, List.getD_eq_getElem?_getD, List.getElem?_append_right (Nat.le_refl _), Nat.sub_self]
      rfl
    · rw [if_neg (by omega), lj_put_1, if_neg (by omega), lj_put_1, if_neg (by omega), a2 i (by omega), List.getD_eq_getElem?_getD, List.getD_eq_getElem?_getD, List.getElem?_append_left (by omega)]
  · refine List.nodup_append.2 ⟨a3, by simp, fun a ha b hb => ?_⟩
    rw [List.mem_singleton] at hb
    rw [hb]
    exact fun e => nin (e ▸ ha)
  · rcases List.mem_append.1 ht with z | z
    · have to : t ≠ o := fun e => nin (e ▸ z)
      obtain ⟨w1, w2, w3⟩ := a4 t z
      refine ⟨oA _ _ w1, by rw [t42o t to]; exact w2, ?_⟩
      rw [t42o t to, t78, le, tp]
      rw [le] at w3
      omega
    · rw [List.mem_singleton] at z
      rw [z, t42, t78]
      refine ⟨oA _ _ ob, ?_, Int64.le_refl _⟩
      rw [lt, tp, z64]
      omega
  · refine List.pairwise_append.2 ⟨?_, by simp, fun a ha b hb => ?_⟩
    · exact a5.imp_of_mem (fun {a b} ha hb w => by rw [t42o a (fun e => nin (e ▸ ha)), t42o b (fun e => nin (e ▸ hb))]; exact w)
    · rw [List.mem_singleton] at hb
      rw [hb, t42, t42o a (fun e => nin (e ▸ ha)), lt, tp]
      have w3 := (a4 a ha).2.2
      rw [le] at w3
      omega
  · rw [t78, tp, lv_eq (oC 8 45 (by omega))]
    show 0 ≤ (τ.2 0 78).toInt + 1 ∧ 0 ≤ lv σ 8 45 ∧ (τ.2 0 78).toInt + 1 + 536870912 * lv σ 8 45 = (((LA.headD 0 + 1 : Nat)) : Int)
    omega
  · by_cases z : t = o
    · rw [z, oC 57 o (by omega), t42]
      refine ⟨fun _ => ⟨⟨fun _ => ?_, fun _ => by simp⟩, ⟨fun _ => ?_, fun _ => by simp⟩⟩, fun y => absurd ob.2.2.2.1 y⟩
      · rw [hσ', lj_put_1, if_neg (by omega), lj_put_1, if_neg (by omega), lj_put_1, if_pos ⟨rfl, rfl⟩]
        decide
      · intro e
        have := congrArg Int64.toInt e
        rw [tp, z64] at this
        omega
    · rw [oC 57 t (by omega), oC 65 t (by omega), t42o t z]
      have y : t ∈ MO ++ [o] ↔ t ∈ MO := by simp [z]
      rw [y]
      exact a7 t t1 t2
  · obtain ⟨w1, w2, w3⟩ := b4 i hi
    exact ⟨oA _ _ w1, by rw [oC 104 i (by omega)]; exact w2, by rw [oM]; exact w3⟩
