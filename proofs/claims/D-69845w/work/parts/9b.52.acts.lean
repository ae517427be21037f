/-! the gathering: marked tables that are lost become last acts -/
/-- those that stay marked, those that do not -/
def lsS (S : Nat → Bool) (M : List Nat) : List Nat := M.filter (fun t => S t)
def lsN (S : Nat → Bool) (M : List Nat) : List Nat := M.filter (fun t => !S t)
theorem gD_app1 {l m : List Nat} {i : Nat} (h : i < l.length) : (l ++ m).getD i 0 = l.getD i 0 := by
  rw [List.getD_eq_getElem?_getD, List.getD_eq_getElem?_getD, List.getElem?_append_left h]
theorem gD_app2 {l m : List Nat} {i : Nat} (h : l.length ≤ i) : (l ++ m).getD i 0 = m.getD (i - l.length) 0 := by
  rw [List.getD_eq_getElem?_getD, List.getD_eq_getElem?_getD, List.getElem?_append_right h]
theorem take_succ {l : List Nat} {i : Nat} (h : i < l.length) : l.take (i + 1) = l.take i ++ [l.getD i 0] := by
  rw [List.take_add_one, List.getD_eq_getElem?_getD, List.getElem?_eq_getElem h]
  rfl
theorem lsN_le (S : Nat → Bool) (M : List Nat) (i : Nat) : (lsN S (M.take i)).length ≤ (lsN S M).length := List.Sublist.length_le (List.Sublist.filter _ (List.take_sublist i M))
/-- the component's lists: i of M were looked at -/
theorem c_part {n : Nat} (hn : n ≤ 2000) {M La : List Nat} (hM : M.length ≤ 2001) (hML : ∀ t ∈ M, 1 ≤ t ∧ t ≤ n) (S : Nat → Bool) (hT : La.length + (lsN S M).length ≤ 2001) {fi : Nat} (hfi : fi < 520) (x1 x2 : Int32) : ∀ (d i : Nat) (σ : lj_S) (X5 : Value), i + d = M.length → σ.1 8 53 = Int32.ofNat M.length → σ.1 8 34 = Int32.ofNat fi → (∀ j, i ≤ j → j < M.length → σ.1 110 j = Int32.ofNat (M.getD j 0)) → (∀ t ∈ M, (σ.1 111 t = 0 ↔ S t = false)) → (∀ j, j < (lsS S (M.take i)).length → σ.1 110 j = Int32.ofNat ((lsS S (M.take i)).getD j 0)) → σ.1 8 33 = Int32.ofNat (La.length + (lsN S (M.take i)).length) → (∀ j, j < La.length + (lsN S (M.take i)).length → σ.1 104 j = Int32.ofNat ((La ++ lsN S (M.take i)).getD j 0)) → ∃ σ' X5', lj_D lc_P lc_M175 214 [.ref 8, .int x1, .int x2, .int (Int32.ofNat (lsS S (M.take i)).length), .int (Int32.ofNat i), X5] [] σ = lj_D lc_P lc_M175 310 [.ref 8, .int x1, .int x2, .int (Int32.ofNat (lsS S M).length), .int (σ.1 100 fi), X5'] [] σ' ∧ σ'.1 8 53 = Int32.ofNat (lsS S M).length ∧ (∀ j, j < (lsS S M).length → σ'.1 110 j = Int32.ofNat ((lsS S M).getD j 0)) ∧ σ'.1 8 33 = Int32.ofNat (La.length + (lsN S M).length) ∧ (∀ j, j < La.length + (lsN S M).length → σ'.1 104 j = Int32.ofNat ((La ++ lsN S M).getD j 0)) ∧ (∀ t, σ'.1 65 t = if t ∈ lsN S (M.drop i) then 0 else σ.1 65 t) ∧ (∀ k j, k ≠ 110 → k ≠ 104 → k ≠ 65 → ¬ (k = 8 ∧ (j = 33 ∨ j = 53)) → σ'.1 k j = σ.1 k j) ∧ σ'.2 = σ.2
  | 0, i, σ, X5, hd, h53, h34, h110, hS, hA, h33, hB => by
    have ii : lj_in (Int32.ofNat fi) 520 := ofN_in (by omega) (by omega)
    have ni : (Int32.ofNat fi).toNatClampNeg = fi := lz_onat (by omega)
    have tk : M.take i = M := List.take_of_length_le (by omega)
    rw [tk] at hA h33 hB ⊢
    refine ⟨lj_put σ 8 53 (Int32.ofNat (lsS S M).length), X5, ?_, by rw [lj_put_1, if_pos ⟨rfl, rfl⟩], fun j hj => by rw [lj_put_1, if_neg (by omega)]; exact hA j hj, by rw [lj_put_1, if_neg (by omega)]; exact h33, fun j hj => by rw [lj_put_1, if_neg (by omega)]; exact hB j hj, fun t => ?_, fun k j z1 z2 z3 z4 => by rw [lj_put_1, if_neg (by omega)], rfl⟩
    · rw [kc_175_214, h53, if_pos ((ofN_le (by omega) (by omega)).2 (by omega)), h34]
      (try simp only [if_pos ii, ni])
    · rw [lj_put_1, if_neg (by omega), List.drop_of_length_le (by omega)]
      rfl
  | d + 1, i, σ, X5, hd, h53, h34, h110, hS, hA, h33, hB => by
    have iM : i < M.length := by omega
    have mem := getD_me (l := M) iM
    obtain ⟨t1, t2⟩ := hML _ mem
    obtain ⟨t, ht⟩ : ∃ t, t = M.getD i 0 := ⟨_, rfl⟩
    rw [← ht] at mem t1 t2
    have ii : lj_in (Int32.ofNat i) 2001 := ofN_in (by omega) (by omega)
    have ni : (Int32.ofNat i).toNatClampNeg = i := lz_onat (by omega)
    have it : lj_in (Int32.ofNat t) 2001 := ofN_in (by omega) (by omega)
    have nt : (Int32.ofNat t).toNatClampNeg = t := lz_onat (by omega)
    have e110 : σ.1 110 i = Int32.ofNat t := by rw [ht]; exact h110 i (Nat.le_refl _) iM
    have tk : M.take (i + 1) = M.take i ++ [t] := by rw [take_succ iM, ht]
    have dr : M.drop i = t :: M.drop (i + 1) := by
      rw [List.drop_eq_getElem_cons iM, ht, List.getD_eq_getElem?_getD, List.getElem?_eq_getElem iM]
      rfl
    have lS : (lsS S (M.take i)).length ≤ i := by
      have := List.length_filter_le (fun t => S t) (M.take i)
      rw [List.length_take] at this
      unfold lsS
      omega
    have lN : (lsN S (M.take i)).length ≤ i := by
      have := List.length_filter_le (fun t => !S t) (M.take i)
      rw [List.length_take] at this
      unfold lsN
      omega
    have hd' : lj_D lc_P lc_M175 214 [.ref 8, .int x1, .int x2, .int (Int32.ofNat (lsS S (M.take i)).length), .int (Int32.ofNat i), X5] [] σ = (if σ.1 111 t = 0 then (if lj_in (σ.1 8 33) 2001 then lj_D lc_P lc_M175 288 [.ref 8, .int x1, .int x2, .int (Int32.ofNat (lsS S (M.take i)).length), .int (Int32.ofNat i), .int (Int32.ofNat t)] [] (lj_put (lj_put (lj_put σ 8 33 (σ.1 8 33 + 1)) 104 (σ.1 8 33).toNatClampNeg (Int32.ofNat t)) 65 t (vp_nar .boolean 0)) else none) else (if lj_in (Int32.ofNat (lsS S (M.take i)).length) 2001 then lj_D lc_P lc_M175 288 [.ref 8, .int x1, .int x2, .int (Int32.ofNat (lsS S (M.take i)).length + 1), .int (Int32.ofNat i), .int (Int32.ofNat t)] [] (lj_put σ 110 (Int32.ofNat (lsS S (M.take i)).length).toNatClampNeg (Int32.ofNat t)) else none)) := by
      rw [kc_175_214, h53, if_neg (fun z => by have := (ofN_le (by omega) (by omega)).1 z; omega)]
      (try simp only [if_pos ii, ni])
      rw [e110]
      (try simp only [if_pos it, nt])
    rw [hd']
    by_cases z : σ.1 111 t = 0
    · have sf : S t = false := (hS t mem).1 z
      have eS : lsS S (M.take (i + 1)) = lsS S (M.take i) := by
        unfold lsS
        rw [tk, List.filter_append]
        simp [sf]
      have eN : lsN S (M.take (i + 1)) = lsN S (M.take i) ++ [t] := by
        unfold lsN
        rw [tk, List.filter_append]
        simp [sf]
      have lT := lsN_le S M (i + 1)
      rw [eN, List.length_append] at lT
      have lT : (lsN S (M.take i)).length + 1 ≤ (lsN S M).length := lT
      have i2 : lj_in (Int32.ofNat (La.length + (lsN S (M.take i)).length)) 2001 := ofN_in (by omega) (by omega)
      have n2 : (Int32.ofNat (La.length + (lsN S (M.take i)).length)).toNatClampNeg = La.length + (lsN S (M.take i)).length := lz_onat (by omega)
      rw [if_pos z, h33]
      (try simp only [if_pos i2, n2])
      obtain ⟨σ', X5', r1, r2, r3, r4, r5, r6, r7, r8⟩ := c_part hn hM hML S hT hfi x1 x2 d (i + 1) (lj_put (lj_put (lj_put σ 8 33 (Int32.ofNat (La.length + (lsN S (M.take i)).length) + 1)) 104 (La.length + (lsN S (M.take i)).length) (Int32.ofNat t)) 65 t (vp_nar .boolean 0)) (.int (Int32.ofNat t)) (by omega) (by rw [lj_put_1, if_neg (by omega), lj_put_1, if_neg (by omega), lj_put_1, if_neg (by omega)]; exact h53) (by rw [lj_put_1, if_neg (by omega), lj_put_1, if_neg (by omega), lj_put_1, if_neg (by omega)]; exact h34) (fun j j1 j2 => by rw [lj_put_1, if_neg (by omega), lj_put_1, if_neg (by omega), lj_put_1, if_neg (by omega)]; exact h110 j (by omega) j2) (fun u hu => by rw [lj_put_1, if_neg (by omega), lj_put_1, if_neg (by omega), lj_put_1, if_neg (by omega)]; exact hS u hu) (by rw [eS]; exact fun j hj => by rw [lj_put_1, if_neg (by omega), lj_put_1, if_neg (by omega), lj_put_1, if_neg (by omega)]; exact hA j hj) (by rw [lj_put_1, if_neg (by omega), lj_put_1, if_neg (by omega), lj_put_1, if_pos ⟨rfl, rfl⟩, lz_osucc, eN, List.length_append]; rfl) (fun j hj => by
        rw [eN, List.length_append] at hj
        have hj : j < La.length + ((lsN S (M.take i)).length + 1) := hj
        rw [eN, ← List.append_assoc, lj_put_1, if_neg (by omega), lj_put_1]
        by_cases w : j = La.length + (lsN S (M.take i)).length
        · rw [if_pos ⟨rfl, w⟩, gD_app2 (by rw [List.length_append]; omega), List.length_append, w, Nat.sub_self]
          rfl
        · rw [if_neg (fun y => w y.2), lj_put_1, if_neg (by omega), gD_app1 (by rw [List.length_append]; omega)]
          exact hB j (by omega))
      refine ⟨σ', X5', ?_, r2, r3, r4, r5, fun u => ?_, fun k j z1 z2 z3 z4 => by rw [r7 k j z1 z2 z3 z4, lj_put_1, if_neg (by omega), lj_put_1, if_neg (by omega), lj_put_1, if_neg (by omega)], r8⟩
      · rw [kc_175_288, lz_osucc (n := i)]
        rw [eS] at r1
        have e100 : (lj_put (lj_put (lj_put σ 8 33 (Int32.ofNat (La.length + (lsN S (M.take i)).length) + 1)) 104 (La.length + (lsN S (M.take i)).length) (Int32.ofNat t)) 65 t (vp_nar .boolean 0)).1 100 fi = σ.1 100 fi := by rw [lj_put_1, if_neg (by omega), lj_put_1, if_neg (by omega), lj_put_1, if_neg (by omega)]
        rw [e100] at r1
        exact r1
      · rw [r6]
        have eD : lsN S (M.drop i) = t :: lsN S (M.drop (i + 1)) := by
          unfold lsN
          rw [dr, List.filter_cons, if_pos (by simp [sf])]
        rw [eD]
        by_cases w : u ∈ lsN S (M.drop (i + 1))
        · rw [if_pos w, if_pos (List.mem_cons_of_mem _ w)]
        · rw [if_neg w]
          by_cases y : u = t
          · rw [if_pos (by rw [y]; exact List.mem_cons_self), lj_put_1, if_pos ⟨rfl, y⟩]
            rfl
          · rw [if_neg (fun q => by rcases List.mem_cons.1 q with q | q; exact y q; exact w q), lj_put_1, if_neg (fun q => y q.2), lj_put_1, if_neg (by omega), lj_put_1, if_neg (by omega)]
    · have st : S t = true := by
        cases y : S t with
        | true => rfl
        | false => exact absurd ((hS t mem).2 y) z
      have eS : lsS S (M.take (i + 1)) = lsS S (M.take i) ++ [t] := by
        unfold lsS
        rw [tk, List.filter_append]
        simp [st]
      have eN : lsN S (M.take (i + 1)) = lsN S (M.take i) := by
        unfold lsN
        rw [tk, List.filter_append]
        simp [st]
      have i2 : lj_in (Int32.ofNat (lsS S (M.take i)).length) 2001 := ofN_in (by omega) (by omega)
      have n2 : (Int32.ofNat (lsS S (M.take i)).length).toNatClampNeg = (lsS S (M.take i)).length := lz_onat (by omega)
      rw [if_neg z]
      (try simp only [if_pos i2, n2])
      obtain ⟨σ', X5', r1, r2, r3, r4, r5, r6, r7, r8⟩ := c_part hn hM hML S hT hfi x1 x2 d (i + 1) (lj_put σ 110 (lsS S (M.take i)).length (Int32.ofNat t)) (.int (Int32.ofNat t)) (by omega) (by rw [lj_put_1, if_neg (by omega)]; exact h53) (by rw [lj_put_1, if_neg (by omega)]; exact h34) (fun j j1 j2 => by rw [lj_put_1, if_neg (by omega)]; exact h110 j (by omega) j2) (fun u hu => by rw [lj_put_1, if_neg (by omega)]; exact hS u hu) (fun j hj => by
        rw [eS, List.length_append] at hj
        have hj : j < (lsS S (M.take i)).length + 1 := hj
        rw [eS, lj_put_1]
        by_cases w : j = (lsS S (M.take i)).length
        · rw [if_pos ⟨rfl, w⟩, gD_app2 (by omega), w, Nat.sub_self]
          rfl
        · rw [if_neg (fun y => w y.2), gD_app1 (by omega)]
          exact hA j (by omega)) (by rw [eN, lj_put_1, if_neg (by omega)]; exact h33) (by rw [eN]; exact fun j hj => by rw [lj_put_1, if_neg (by omega)]; exact hB j hj)
      refine ⟨σ', X5', ?_, r2, r3, r4, r5, fun u => ?_, fun k j z1 z2 z3 z4 => by rw [r7 k j z1 z2 z3 z4, lj_put_1, if_neg (by omega)], r8⟩
      · rw [kc_175_288, lz_osucc (n := i), lz_osucc]
        rw [eS, List.length_append] at r1
        have e100 : (lj_put σ 110 (lsS S (M.take i)).length (Int32.ofNat t)).1 100 fi = σ.1 100 fi := by rw [lj_put_1, if_neg (by omega)]
        rw [e100] at r1
        exact r1
      · rw [r6]
        have eD : lsN S (M.drop i) = lsN S (M.drop (i + 1)) := by
          unfold lsN
          rw [dr, List.filter_cons, if_neg (by simp [st])]
        have e65 : (lj_put σ 110 (lsS S (M.take i)).length (Int32.ofNat t)).1 65 u = σ.1 65 u := by rw [lj_put_1, if_neg (by omega)]
        rw [eD, e65]
