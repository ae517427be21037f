/-! numbers of the small machine as integers -/
theorem lz_lt {x y : Int32} : x < y ↔ x.toInt < y.toInt := Int32.lt_iff_toInt_lt
theorem lz_le {x y : Int32} : x ≤ y ↔ x.toInt ≤ y.toInt := Int32.le_iff_toInt_le
theorem lz_eq {x y : Int32} : x = y ↔ x.toInt = y.toInt := Int32.toInt_inj.symm
theorem lz_b (x : Int32) : -2147483648 ≤ x.toInt ∧ x.toInt < 2147483648 := by
  have h1 := x.minValue_le_toInt; have h2 := x.toInt_le
  have e1 : Int32.minValue.toInt = -2147483648 := by decide
  have e2 : Int32.maxValue.toInt = 2147483647 := by decide
  omega
theorem lz_nat {x : Int32} : x.toNatClampNeg = x.toInt.toNat := rfl
theorem lz_in {x : Int32} {n : Nat} : lj_in x n ↔ 0 ≤ x.toInt ∧ x.toInt < (n : Int) := by
  unfold lj_in
  rw [lz_nat, lz_lt]
  have e : (0 : Int32).toInt = 0 := by decide
  rw [e]
  omega
theorem lz_add {x y : Int32} (h : -2147483648 ≤ x.toInt + y.toInt ∧ x.toInt + y.toInt < 2147483648) : (x + y).toInt = x.toInt + y.toInt := by
  rw [Int32.toInt_add, Int.bmod_eq_of_le] <;> omega
theorem lz_sub {x y : Int32} (h : -2147483648 ≤ x.toInt - y.toInt ∧ x.toInt - y.toInt < 2147483648) : (x - y).toInt = x.toInt - y.toInt := by
  rw [Int32.toInt_sub, Int.bmod_eq_of_le] <;> omega
theorem lz_mul {x y : Int32} (h : -2147483648 ≤ x.toInt * y.toInt ∧ x.toInt * y.toInt < 2147483648) : (x * y).toInt = x.toInt * y.toInt := by
  rw [Int32.toInt_mul, Int.bmod_eq_of_le] <;> omega
theorem lz_lit {n : Nat} (h : n < 2147483648) : (Int32.ofNat n).toInt = n := by
  have e : Int32.size = 4294967296 := rfl
  rw [Int32.toInt_ofNat', Int.bmod_eq_of_le] <;> omega
theorem lz_of {n : Int} (h : -2147483648 ≤ n ∧ n < 2147483648) : (Int32.ofInt n).toInt = n := by
  have e : Int32.size = 4294967296 := rfl
  rw [Int32.toInt_ofInt, Int.bmod_eq_of_le] <;> omega
theorem lz_m1 : (-1 : Int32).toInt = -1 := by decide
theorem lz_m2 : (-2 : Int32).toInt = -2 := by decide
theorem lz_m1L : (-1 : Int64).toInt = -1 := by decide
theorem lz_onat {n : Nat} (h : n < 2147483648) : (Int32.ofNat n).toNatClampNeg = n := by
  rw [lz_nat, lz_lit h]; omega
theorem lz_osucc (n : Nat) : Int32.ofNat n + 1 = Int32.ofNat (n + 1) := (Int32.ofNat_add n 1).symm
theorem lz_ext {x y : Int32} (h : x.toInt = y.toInt) : x = y := Int32.toInt_inj.1 h
theorem lz_back (x : Int32) (h : 0 ≤ x.toInt) : Int32.ofNat x.toInt.toNat = x := by
  have b := lz_b x
  apply lz_ext; rw [lz_lit (by omega)]; omega
theorem lz_and (x : Int32) (m : Int32) (h : 0 ≤ m.toInt) : 0 ≤ (x &&& m).toInt ∧ (x &&& m).toInt ≤ m.toInt := by
  have b := lz_b m
  have hm : m.toBitVec.toNat = m.toInt.toNat := by
    have q : m.toInt = m.toBitVec.toInt := rfl
    rw [BitVec.toInt_eq_toNat_cond] at q
    have := m.toBitVec.isLt
    split at q <;> omega
  have e : (x &&& m).toBitVec.toNat = x.toBitVec.toNat &&& m.toBitVec.toNat := by
    rw [Int32.toBitVec_and, BitVec.toNat_and]
  have l : (x &&& m).toBitVec.toNat ≤ m.toBitVec.toNat := by rw [e]; exact Nat.and_le_right
  have t : (x &&& m).toInt = (x &&& m).toBitVec.toInt := rfl
  rw [BitVec.toInt_eq_toNat_cond] at t
  split at t <;> omega
/-- what a place of the store holds, as an integer -/
def lv (σ : lj_S) (k i : Nat) : Int := (σ.1 k i).toInt
theorem lv_def (σ : lj_S) (k i : Nat) : (σ.1 k i).toInt = lv σ k i := rfl
theorem lv_b (σ : lj_S) (k i : Nat) : -2147483648 ≤ lv σ k i ∧ lv σ k i < 2147483648 := lz_b _
theorem lj_put_1 (σ : lj_S) (k i : Nat) (v : Int32) (k' i' : Nat) : (lj_put σ k i v).1 k' i' = if k' = k ∧ i' = i then v else σ.1 k' i' := by
  unfold lj_put
  show (if k' = k then upd (σ.1 k) i v else σ.1 k') i' = _
  by_cases h : k' = k
  · subst h; rw [if_pos rfl]; unfold upd; by_cases h2 : i' = i <;> simp [h2]
  · rw [if_neg h, if_neg (fun q => h q.1)]
theorem lj_put_2 (σ : lj_S) (k i : Nat) (v : Int32) : (lj_put σ k i v).2 = σ.2 := rfl
theorem lj_putL_1 (σ : lj_S) (k i : Nat) (v : Int64) : (lj_putL σ k i v).1 = σ.1 := rfl
theorem lj_putL_2 (σ : lj_S) (k i : Nat) (v : Int64) (k' i' : Nat) : (lj_putL σ k i v).2 k' i' = if k' = k ∧ i' = i then v else σ.2 k' i' := by
  unfold lj_putL
  show (if k' = k then vp_updL (σ.2 k) i v else σ.2 k') i' = _
  by_cases h : k' = k
  · subst h; rw [if_pos rfl]; unfold vp_updL; by_cases h2 : i' = i <;> simp [h2]
  · rw [if_neg h, if_neg (fun q => h q.1)]
theorem lv_put (σ : lj_S) (k i : Nat) (v : Int32) (k' i' : Nat) : lv (lj_put σ k i v) k' i' = if k' = k ∧ i' = i then v.toInt else lv σ k' i' := by
  unfold lv; rw [lj_put_1]; split <;> rfl
theorem lv_putL (σ : lj_S) (k i : Nat) (v : Int64) (k' i' : Nat) : lv (lj_putL σ k i v) k' i' = lv σ k' i' := rfl
/-- only places of A may have changed -/
def lf (A : Nat → Nat → Bool) (σ σ' : lj_S) : Prop := ∀ k j, A k j = false → σ'.1 k j = σ.1 k j ∧ σ'.2 k j = σ.2 k j
theorem lf_rf (A : Nat → Nat → Bool) (σ : lj_S) : lf A σ σ := fun _ _ _ => ⟨rfl, rfl⟩
theorem lf.tr {A : Nat → Nat → Bool} {σ σ1 σ2 : lj_S} (h : lf A σ σ1) (g : lf A σ1 σ2) : lf A σ σ2 := fun k j q => ⟨(g k j q).1.trans (h k j q).1, (g k j q).2.trans (h k j q).2⟩
theorem lf.mo {A B : Nat → Nat → Bool} {σ σ' : lj_S} (h : lf A σ σ') (m : ∀ k j, B k j = false → A k j = false) : lf B σ σ' := fun k j q => h k j (m k j q)
theorem lf_put {A : Nat → Nat → Bool} {σ σ' : lj_S} (h : lf A σ σ') (k i : Nat) (v : Int32) (q : A k i = true) : lf A σ (lj_put σ' k i v) := fun k' j' n => by
  refine ⟨?_, (h k' j' n).2⟩
  rw [lj_put_1, if_neg, (h k' j' n).1]
  rintro ⟨rfl, rfl⟩
  rw [q] at n; cases n
theorem lf_putL {A : Nat → Nat → Bool} {σ σ' : lj_S} (h : lf A σ σ') (k i : Nat) (v : Int64) (q : A k i = true) : lf A σ (lj_putL σ' k i v) := fun k' j' n => by
  refine ⟨(h k' j' n).1, ?_⟩
  rw [lj_putL_2, if_neg, (h k' j' n).2]
  rintro ⟨rfl, rfl⟩
  rw [q] at n; cases n
theorem lf.v {A : Nat → Nat → Bool} {σ σ' : lj_S} (h : lf A σ σ') {k j : Nat} (q : A k j = false) : lv σ' k j = lv σ k j := by
  unfold lv; rw [(h k j q).1]
/-- a byte, as it is kept -/
def lz_by (x : Int32) : Int32 := x.toInt8.toInt32
theorem lz_nar (x : Int32) : vp_nar .byte x = lz_by x := rfl
theorem lz_by2 (x : Int32) : lz_by (lz_by x) = lz_by x := by
  unfold lz_by; rw [Int8.toInt8_toInt32]
theorem lz_bool (x : Int32) (h : x = 0 ∨ x = 1) : vp_nar .boolean x = x := by
  rcases h with rfl | rfl <;> rfl
/-- a chain of numbers that are linked by f -/
def lk (f : Nat → Int) : Int → List Nat → Prop
  | h, [] => h = -1
  | h, p :: l => h = (p : Int) ∧ lk f (f p) l
theorem lk_cong {f g : Nat → Int} : ∀ {l : List Nat} {h : Int}, (∀ p ∈ l, f p = g p) → lk f h l → lk g h l
  | [], _, _, q => q
  | p :: l, h, e, q => ⟨q.1, by
      have := lk_cong (l := l) (fun x hx => e x (List.mem_cons_of_mem _ hx)) q.2
      rwa [← e p (List.mem_cons_self)]⟩
theorem lk_fun {f : Nat → Int} : ∀ {l l' : List Nat} {h : Int}, lk f h l → lk f h l' → l = l'
  | [], [], _, _, _ => rfl
  | [], p :: _, _, a, b => by have := b.1; have e : _ = -1 := a; omega
  | p :: _, [], _, a, b => by have := a.1; have e : _ = -1 := b; omega
  | p :: l, q :: l', h, a, b => by
      have e : p = q := by have := a.1; have := b.1; omega
      subst e
      rw [lk_fun a.2 b.2]
