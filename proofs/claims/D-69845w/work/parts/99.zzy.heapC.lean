/-! the component's heap: pairs are read and written -/
/-- the whole of it: Fr the places that are free -/
def hsC (σ : lj_S) (V : Nat → Prop) (P B : Nat → List Nat) (Fr : List Nat) : Prop :=
  hpC σ V P B ∧ (lk (lv σ 70) (lv σ 7 12) Fr ∧ lv σ 7 11 + (Fr.length : Int) = 3000 ∧ ∀ p ∈ Fr, p < 3000 ∧ ∀ t, V t → p ∉ P t) ∧ ∀ t, V t → lv σ 61 t = ((P t).length : Int)
/-- a pair: kind and number of its key and its value -/
abbrev enT : Type := (Int32 × Int64) × Int32 × Int64
def enC (σ : lj_S) (p : Nat) : enT := ((σ.1 66 p, σ.2 67 p), σ.1 68 p, σ.2 69 p)
theorem hpC_cg {σ σ' : lj_S} {V : Nat → Prop} {P B : Nat → List Nat} (h : hpC σ V P B) (hC : ∀ k j, (k = 59 ∨ k = 60 ∨ k = 70 ∨ k = 72 ∨ k = 73 ∨ k = 71 ∨ k = 66) → σ'.1 k j = σ.1 k j) (hL : ∀ j, σ'.2 67 j = σ.2 67 j) : hpC σ' V P B := by
  have l : ∀ k, (k = 59 ∨ k = 60 ∨ k = 70 ∨ k = 72 ∨ k = 73 ∨ k = 71 ∨ k = 66) → lv σ' k = lv σ k := fun k q => by funext j; unfold lv; rw [hC k j q]
  refine ⟨fun t ht => ?_, fun b hb => ?_, fun t ht p hp => ?_⟩
  · rw [l 70 (by omega), l 59 (by omega), l 60 (by omega)]; exact h.1 t ht
  · rw [l 72 (by omega), l 73 (by omega)]
    refine ⟨(h.2.1 b hb).1, fun p hp => ?_⟩
    rw [hC 71 p (by omega), hC 66 p (by omega), hL p]
    exact (h.2.1 b hb).2 p hp
  · rw [hC 71 p (by omega), hC 66 p (by omega), hL p]
    obtain ⟨a1, a2, a3, a4⟩ := h.2.2 t ht p hp
    exact ⟨a1, a2, a3, fun p' hp' u1 u2 => a4 p' hp' (by rw [hC 66 p' (by omega)] at u1; exact u1) (by rw [hL p'] at u2; exact u2)⟩
/-- the value of a key -/
theorem c_hget {σ : lj_S} {V : Nat → Prop} {P B : Nat → List Nat} (h : hpC σ V P B) (hM : ∀ t, V t → t ≤ 2000) {t : Nat} (ht : V t) (k : Int32) (x : Int64) :
    (∃ p ∈ P t, (enC σ p).1 = (k, x) ∧ lj_R lc_P 117 [.ref 7, .int (Int32.ofNat t), .int k, .long x] σ = some (.inl (some (.int (if σ.1 68 p = 0 then 0 else 1))), lj_putL (lj_put σ 7 27 (σ.1 68 p)) 7 28 (σ.2 69 p))) ∨ ((∀ p ∈ P t, (enC σ p).1 ≠ (k, x)) ∧ lj_R lc_P 117 [.ref 7, .int (Int32.ofNat t), .int k, .long x] σ = some (.inl (some (.int 0)), lj_putL (lj_put σ 7 27 0) 7 28 0)) := by
  have g27 : ∀ (y : Int32), (lj_put σ 7 27 y).1 7 27 = y := fun y => by rw [lj_put_1, if_pos ⟨rfl, rfl⟩]
  rcases c_hseek h (fun t ht => by have := hM t ht; omega) ht k x with ⟨p, q1, q2, q3, q4⟩ | ⟨q1, q2⟩
  · have hp := (h.2.2 t ht p q1).1
    have i3 : lj_in (Int32.ofNat p) 3000 := ofN_in (by omega) (by omega)
    have ge : (0 : Int32) ≤ Int32.ofNat p := by rw [lz_le, lz_lit (by omega)]; show (0 : Int) ≤ _; omega
    refine Or.inl ⟨p, q1, by unfold enC; rw [q2, q3], ?_⟩
    rw [rc_117, kc_117_0, q4, bi_ok, if_pos ge, if_pos i3, kc_117_26, if_pos ge, if_pos i3, kc_117_46, lz_onat (by omega), g27]
    by_cases w : σ.1 68 p = 0
    · rw [if_pos w, if_pos w, kc_117_61]; rfl
    · rw [if_neg w, if_neg w, kc_117_61]; rfl
  · refine Or.inr ⟨fun p hp w => q1 p hp ⟨congrArg Prod.fst w, congrArg Prod.snd w⟩, ?_⟩
    rw [rc_117, kc_117_0, q2, bi_ok, if_neg (by decide), kc_117_26, if_neg (by decide), kc_117_46, g27, if_pos rfl, kc_117_61]
    rfl
theorem nd_le : ∀ (n : Nat) (l : List Nat), l.Nodup → (∀ q ∈ l, q < n) → l.length ≤ n
  | 0, [], _, _ => Nat.le_refl _
  | 0, x :: l, _, h => absurd (h x List.mem_cons_self) (Nat.not_lt_zero _)
  | n + 1, l, nd, h => by
    by_cases w : n ∈ l
    · have e := List.length_erase_of_mem w
      have := nd_le n (l.erase n) (nd.erase n) (fun q hq => by
        have h1 := (List.Nodup.mem_erase_iff nd).1 hq
        have := h q h1.2
        have := h1.1
        omega)
      have hp := List.length_pos_of_mem w
      omega
    · have := nd_le n l nd (fun q hq => by
        have := h q hq
        have : q ≠ n := fun e => w (by rw [← e]; exact hq)
        omega)
      omega
theorem ls_mem : ∀ (l : List Nat) (q : Nat), (q : Int) = lsI l → q ∈ l
  | [], q, w => by have w : (q : Int) = -1 := w; omega
  | [y], q, w => by have w : (q : Int) = (y : Int) := w; have : q = y := by omega
                    rw [this]; exact List.mem_cons_self
  | _ :: z :: m, q, w => List.mem_cons_of_mem _ (ls_mem (z :: m) q w)
theorem ls_ex : ∀ (l : List Nat), l ≠ [] → ∃ q : Nat, lsI l = (q : Int)
  | [], h => absurd rfl h
  | [y], _ => ⟨y, rfl⟩
  | _ :: z :: m, _ => ls_ex (z :: m) (by simp)
/-- a pair more: its key is laid; in a table without places (59 t), or behind the last one (70 q); its value -/
def cIn0 (σ : lj_S) (t p bb : Nat) (k : Int32) (x : Int64) : lj_S := lj_put (lj_put (lj_put (lj_putL (lj_put (lj_put (lj_put (lj_put σ 7 12 (σ.1 70 p)) 7 11 (σ.1 7 11 + 1)) 71 p (Int32.ofNat t)) 66 p k) 67 p x) 72 p (σ.1 73 bb)) 73 bb (Int32.ofNat p)) 70 p (-1)
def cIn1 (s : lj_S) (t p : Nat) (vk : Int32) (v : Int64) (n : Int32) : lj_S := lj_putL (lj_put (lj_put (lj_put s 60 t (Int32.ofNat p)) 61 t n) 68 p vk) 69 p v
def cIns (σ : lj_S) (t p bb : Nat) (k : Int32) (x : Int64) (vk : Int32) (v : Int64) (a0 j0 : Nat) : lj_S := cIn1 (lj_put (cIn0 σ t p bb k x) a0 j0 (Int32.ofNat p)) t p vk v (σ.1 61 t + 1)
theorem cIn0_1 (σ : lj_S) (t p bb : Nat) (k : Int32) (x : Int64) (a j : Nat) : (cIn0 σ t p bb k x).1 a j = if a = 70 ∧ j = p then -1 else if a = 73 ∧ j = bb then Int32.ofNat p else if a = 72 ∧ j = p then σ.1 73 bb else if a = 66 ∧ j = p then k else if a = 71 ∧ j = p then Int32.ofNat t else if a = 7 ∧ j = 11 then σ.1 7 11 + 1 else if a = 7 ∧ j = 12 then σ.1 70 p else σ.1 a j := by
  unfold cIn0
  simp only [lj_put_1, lj_putL_1]
theorem cIns_1 (σ : lj_S) (t p bb : Nat) (k : Int32) (x : Int64) (vk : Int32) (v : Int64) (a0 j0 a j : Nat) : (cIns σ t p bb k x vk v a0 j0).1 a j = if a = 68 ∧ j = p then vk else if a = 61 ∧ j = t then σ.1 61 t + 1 else if a = 60 ∧ j = t then Int32.ofNat p else if a = a0 ∧ j = j0 then Int32.ofNat p else if a = 70 ∧ j = p then -1 else if a = 73 ∧ j = bb then Int32.ofNat p else if a = 72 ∧ j = p then σ.1 73 bb else if a = 66 ∧ j = p then k else if a = 71 ∧ j = p then Int32.ofNat t else if a = 7 ∧ j = 11 then σ.1 7 11 + 1 else if a = 7 ∧ j = 12 then σ.1 70 p else σ.1 a j := by
  unfold cIns cIn1
  simp only [lj_put_1, lj_putL_1, cIn0_1]
theorem cIns_2 (σ : lj_S) (t p bb : Nat) (k : Int32) (x : Int64) (vk : Int32) (v : Int64) (a0 j0 a j : Nat) : (cIns σ t p bb k x vk v a0 j0).2 a j = if a = 69 ∧ j = p then v else if a = 67 ∧ j = p then x else σ.2 a j := by
  unfold cIns cIn1
  rw [lj_putL_2]
  split
  · rfl
  · show (cIn0 σ t p bb k x).2 a j = _
    unfold cIn0
    show (lj_putL _ 67 p x).2 a j = _
    rw [lj_putL_2]
    rfl
/-- the value at a place -/
theorem c_hfin (s : lj_S) {p : Nat} (hp : p < 3000) (t k : Int32) (x : Int64) (vk : Int32) (v : Int64) (x9 : Value) : lj_D lc_P lc_M113 181 [.ref 7, .int t, .int k, .long x, .retAddr 0, .int vk, .long v, .retAddr 0, .int (Int32.ofNat p), x9] [] s = some (.inl none, lj_putL (lj_put s 68 p vk) 69 p (if vk = 0 then 0 else v)) := by
  have i3 : lj_in (Int32.ofNat p) 3000 := ofN_in (by omega) (by omega)
  rw [kc_113_181, if_pos i3]
  by_cases w : vk = 0
  · rw [if_pos w, if_pos w, kc_113_207, if_pos i3, lz_onat (by omega)]
  · rw [if_neg w, if_neg w, kc_113_207, if_pos i3, lz_onat (by omega)]
/-- the counts of the table, then the value -/
theorem c_h163 (s : lj_S) {p t : Nat} (hp : p < 3000) (ht : t ≤ 2000) (k : Int32) (x : Int64) (vk : Int32) (v : Int64) (y : Int32) (w0 : vk ≠ 0) : lj_D lc_P lc_M113 163 [.ref 7, .int (Int32.ofNat t), .int k, .long x, .retAddr 0, .int vk, .long v, .retAddr 0, .int (Int32.ofNat p), .int y] [] s = some (.inl none, cIn1 s t p vk v (s.1 61 t + 1)) := by
  have it : lj_in (Int32.ofNat t) 2001 := ofN_in (by omega) (by omega)
  rw [kc_113_163]
  simp only [if_pos it, lz_onat (show t < 2147483648 by omega)]
  rw [c_hfin _ hp, if_neg w0]
  rfl
/-- up to there -/
theorem c_hrunA {σ : lj_S} {P T B3 : Int32} (ib : lj_in B3 4096) (i3 : lj_in P 3000) (it : lj_in T 2001) (ge : 0 ≤ P) (k : Int32) (x : Int64) (vk : Int32) (v : Int64) (hbb : lj_R lc_P 115 [.ref 7, .int T, .int k, .long x] (lj_put (lj_put σ 7 12 (σ.1 70 P.toNatClampNeg)) 7 11 (σ.1 7 11 + 1)) = some (.inl (some (.int B3)), lj_put (lj_put σ 7 12 (σ.1 70 P.toNatClampNeg)) 7 11 (σ.1 7 11 + 1))) (w0 : vk ≠ 0) (e12 : σ.1 7 12 = P) (q : lj_R lc_P 114 [.ref 7, .int T, .int k, .long x] σ = some (.inl (some (.int (-1))), σ)) :
    lj_R lc_P 113 [.ref 7, .int T, .int k, .long x, .int vk, .long v] σ = if (0 : Int32) ≤ (lj_put (lj_put σ 7 12 (σ.1 70 P.toNatClampNeg)) 7 11 (σ.1 7 11 + 1)).1 60 T.toNatClampNeg then (if lj_in ((lj_put (lj_put σ 7 12 (σ.1 70 P.toNatClampNeg)) 7 11 (σ.1 7 11 + 1)).1 60 T.toNatClampNeg) 3000 then lj_D lc_P lc_M113 163 [.ref 7, .int T, .int k, .long x, .retAddr 0, .int vk, .long v, .retAddr 0, .int P, .int B3] [] (lj_put (lj_put (lj_put (lj_put (lj_putL (lj_put (lj_put (lj_put (lj_put σ 7 12 (σ.1 70 P.toNatClampNeg)) 7 11 (σ.1 7 11 + 1)) 71 P.toNatClampNeg T) 66 P.toNatClampNeg k) 67 P.toNatClampNeg x) 72 P.toNatClampNeg ((lj_put (lj_put σ 7 12 (σ.1 70 P.toNatClampNeg)) 7 11 (σ.1 7 11 + 1)).1 73 B3.toNatClampNeg)) 73 B3.toNatClampNeg P) 70 P.toNatClampNeg (-1)) 70 ((lj_put (lj_put σ 7 12 (σ.1 70 P.toNatClampNeg)) 7 11 (σ.1 7 11 + 1)).1 60 T.toNatClampNeg).toNatClampNeg P) else none) else lj_D lc_P lc_M113 163 [.ref 7, .int T, .int k, .long x, .retAddr 0, .int vk, .long v, .retAddr 0, .int P, .int B3] [] (lj_put (lj_put (lj_put (lj_put (lj_putL (lj_put (lj_put (lj_put (lj_put σ 7 12 (σ.1 70 P.toNatClampNeg)) 7 11 (σ.1 7 11 + 1)) 71 P.toNatClampNeg T) 66 P.toNatClampNeg k) 67 P.toNatClampNeg x) 72 P.toNatClampNeg ((lj_put (lj_put σ 7 12 (σ.1 70 P.toNatClampNeg)) 7 11 (σ.1 7 11 + 1)).1 73 B3.toNatClampNeg)) 73 B3.toNatClampNeg P) 70 P.toNatClampNeg (-1)) 59 T.toNatClampNeg P) := by
  subst e12
  rw [rc_113, kc_113_0, q, bi_ok, if_neg (by decide), if_neg w0, if_pos ge, if_pos i3, hbb, bi_ok, if_pos i3, if_pos i3, if_pos i3, if_pos ib, if_pos i3, if_pos ib, if_pos i3, if_pos it]
  by_cases z : (0 : Int32) ≤ (lj_put (lj_put σ 7 12 (σ.1 70 (σ.1 7 12).toNatClampNeg)) 7 11 (σ.1 7 11 + 1)).1 60 T.toNatClampNeg
  · rw [if_pos z, if_pos z, if_pos it]
  · rw [if_neg z, if_neg z, if_pos it]
theorem c_hrun {σ : lj_S} {p t : Nat} (hp : p < 3000) (ht : t ≤ 2000) (k : Int32) (x : Int64) (vk : Int32) (v : Int64) (w0 : vk ≠ 0) (e12 : σ.1 7 12 = Int32.ofNat p) (q : lj_R lc_P 114 [.ref 7, .int (Int32.ofNat t), .int k, .long x] σ = some (.inl (some (.int (-1))), σ)) (hq : σ.1 60 t = -1 ∨ ∃ q : Nat, q < 3000 ∧ σ.1 60 t = Int32.ofNat q) :
    lj_R lc_P 113 [.ref 7, .int (Int32.ofNat t), .int k, .long x, .int vk, .long v] σ = some (.inl none, cIns σ t p (hbC (Int32.ofNat t) k x) k x vk v (if σ.1 60 t = -1 then 59 else 70) (if σ.1 60 t = -1 then t else (σ.1 60 t).toNatClampNeg)) := by
  have hb := hbC_lt (Int32.ofNat t) k x
  have hbb := c_hbkt (Int32.ofNat t) k x (lj_put (lj_put σ 7 12 (σ.1 70 p)) 7 11 (σ.1 7 11 + 1))
  generalize hbC (Int32.ofNat t) k x = bb at hb hbb ⊢
  have o60 : (lj_put (lj_put σ 7 12 (σ.1 70 p)) 7 11 (σ.1 7 11 + 1)).1 60 t = σ.1 60 t := by rw [lj_put_1, if_neg (by omega), lj_put_1, if_neg (by omega)]
  have o73 : (lj_put (lj_put σ 7 12 (σ.1 70 p)) 7 11 (σ.1 7 11 + 1)).1 73 bb = σ.1 73 bb := by rw [lj_put_1, if_neg (by omega), lj_put_1, if_neg (by omega)]
  have fin : ∀ (a0 j0 : Nat), a0 ≠ 61 → lj_D lc_P lc_M113 163 [.ref 7, .int (Int32.ofNat t), .int k, .long x, .retAddr 0, .int vk, .long v, .retAddr 0, .int (Int32.ofNat p), .int (Int32.ofNat bb)] [] (lj_put (cIn0 σ t p bb k x) a0 j0 (Int32.ofNat p)) = some (.inl none, cIns σ t p bb k x vk v a0 j0) := fun a0 j0 h0 => by
    have e : (lj_put (cIn0 σ t p bb k x) a0 j0 (Int32.ofNat p)).1 61 t = σ.1 61 t := by
      rw [lj_put_1, if_neg (by omega), cIn0_1]
      repeat rw [if_neg (by omega)]
    rw [c_h163 _ hp ht _ _ _ _ _ w0, e]
    rfl
  have e1 : (Int32.ofNat p).toNatClampNeg = p := lz_onat (by omega)
  have e2 : (Int32.ofNat t).toNatClampNeg = t := lz_onat (by omega)
  have e3 : (Int32.ofNat bb).toNatClampNeg = bb := lz_onat (by omega)
  have run := c_hrunA (σ := σ) (P := Int32.ofNat p) (T := Int32.ofNat t) (B3 := Int32.ofNat bb) (ofN_in (by omega) (by omega)) (ofN_in (by omega) (by omega)) (ofN_in (by omega) (by omega)) (by rw [lz_le, lz_lit (by omega)]; show (0 : Int) ≤ _; omega) k x vk v (by rw [e1]; exact hbb) w0 e12 q
  rw [e1, e2, e3, o60, o73] at run
  rw [run]
  rcases hq with hq | ⟨q, q3, hq⟩
  · rw [hq, if_neg (by decide), if_pos rfl, if_pos rfl]
    exact fin 59 t (by decide)
  · have iq : lj_in (Int32.ofNat q) 3000 := ofN_in (by omega) (by omega)
    have geq : (0 : Int32) ≤ Int32.ofNat q := by rw [lz_le, lz_lit (by omega)]; show (0 : Int) ≤ _; omega
    have nq : ¬ (Int32.ofNat q = -1) := fun w => by
      have := congrArg Int32.toInt w
      rw [lz_lit (by omega)] at this
      have e : (-1 : Int32).toInt = -1 := by decide
      omega
    rw [hq, if_pos geq, if_pos iq, if_neg nq, if_neg nq, lz_onat (by omega)]
    exact fin 70 q (by decide)
/-- what it comes to -/
theorem cIns_hs {σ : lj_S} {V : Nat → Prop} {P B : Nat → List Nat} {p : Nat} {Fr' : List Nat} (h : hsC σ V P B (p :: Fr')) (hM : ∀ t, V t → t ≤ 2000) {t : Nat} (ht : V t) {k : Int32} {x : Int64} (q1 : ∀ q ∈ P t, ¬ (σ.1 66 q = k ∧ σ.2 67 q = x)) {vk : Int32} {v : Int64} {a0 j0 : Nat} (hA : (P t = [] ∧ a0 = 59 ∧ j0 = t) ∨ (P t ≠ [] ∧ a0 = 70 ∧ (j0 : Int) = lsI (P t) ∧ j0 ∈ P t)) :
    hsC (cIns σ t p (hbC (Int32.ofNat t) k x) k x vk v a0 j0) V (fun j => if j = t then P t ++ [p] else P j) (fun j => if j = hbC (Int32.ofNat t) k x then p :: B j else B j) Fr' := by
  obtain ⟨hp, ⟨hf1, hf2, hf3⟩, hn⟩ := h
  have hp3 := (hf3 p (List.mem_cons_self)).1
  have hpn := (hf3 p (List.mem_cons_self)).2
  have ht20 := hM t ht
  have hb := hbC_lt (Int32.ofNat t) k x
  have hnd := lk_nd hf1
  rw [List.nodup_cons] at hnd
  have hlen := hf2
  rw [List.length_cons] at hlen
  have s11 : (σ.1 7 11 + 1).toInt = lv σ 7 11 + 1 := by
    have := Int32.le_toInt (σ.1 7 11)
    unfold lv at hlen ⊢
    rw [lz_add (by rw [show (1 : Int32).toInt = 1 from rfl]; omega)]
    rfl
  have h61 := hn t ht
  have hle : (P t).length ≤ 3000 := nd_le _ _ (lk_nd (hp.1 t ht).1) (fun q hq => (hp.2.2 t ht q hq).1)
  have s61 : (σ.1 61 t + 1).toInt = ((P t).length : Int) + 1 := by
    unfold lv at h61
    rw [lz_add (by rw [h61, show (1 : Int32).toInt = 1 from rfl]; omega), h61]
    rfl
  refine ⟨?_, ⟨?_, ?_, ?_⟩, fun t' ht' => ?_⟩
  · have hA' : (a0 = 59 ∧ j0 = t) ∨ (a0 = 70 ∧ (j0 : Int) = lsI (P t) ∧ j0 ≠ p) := by
      rcases hA with ⟨_, u1, u2⟩ | ⟨_, u1, u2, u3⟩
      · exact Or.inl ⟨u1, u2⟩
      · exact Or.inr ⟨u1, u2, fun e => hpn t ht (by rw [← e]; exact u3)⟩
    refine hp_ins hp (by omega) (fun t ht => by have := hM t ht; omega) ht hbC_lt hp3 hpn (fun q hq w => q1 q hq w) (fun j w => ?_) ?_ (fun j w => ?_) ?_ (fun j w1 w2 => ?_) ?_ (fun j w => ?_) (fun j w => ?_) ?_ (fun j w => ?_) ?_ (fun j w => ⟨?_, ?_, ?_⟩) ⟨?_, ?_, ?_⟩
    · rw [cIns_1]; repeat rw [if_neg (by omega)]
    · unfold lv
      rw [cIns_1]
      rcases hA with ⟨u0, u1, u2⟩ | ⟨u0, u1, u2, u3⟩
      · rw [if_pos u0, u1, u2]
        repeat rw [if_neg (by omega)]
        rw [if_pos ⟨rfl, rfl⟩, lz_lit (by omega)]
      · rw [if_neg u0, u1]
        repeat rw [if_neg (by omega)]
    · rw [cIns_1]; repeat rw [if_neg (by omega)]
    · rw [cIns_1]; repeat rw [if_neg (by omega)]
      rw [if_pos ⟨rfl, rfl⟩]
    · rw [cIns_1]; repeat rw [if_neg (by omega)]
    · rw [cIns_1]; repeat rw [if_neg (by omega)]
      rw [if_pos ⟨rfl, rfl⟩]
    · rcases hA with ⟨u0, u1, u2⟩ | ⟨u0, u1, u2, u3⟩
      · rw [u0] at w; have w : (j : Int) = -1 := w; omega
      · rw [cIns_1, u1]; repeat rw [if_neg (by omega)]
        rw [if_pos ⟨rfl, by omega⟩]
    · rw [cIns_1]; repeat rw [if_neg (by omega)]
    · rw [cIns_1]; repeat rw [if_neg (by omega)]
      rw [if_pos ⟨rfl, rfl⟩]
    · rw [cIns_1]; repeat rw [if_neg (by omega)]
    · rw [cIns_1]; repeat rw [if_neg (by omega)]
      rw [if_pos ⟨rfl, rfl⟩]
    · rw [cIns_1]; repeat rw [if_neg (by omega)]
    · rw [cIns_1]; repeat rw [if_neg (by omega)]
    · rw [cIns_2]; repeat rw [if_neg (by omega)]
    · rw [cIns_1]; repeat rw [if_neg (by omega)]
      rw [if_pos ⟨rfl, rfl⟩]
    · rw [cIns_1]; repeat rw [if_neg (by omega)]
      rw [if_pos ⟨rfl, rfl⟩]
    · rw [cIns_2, if_neg (by omega), if_pos ⟨rfl, rfl⟩]
  · have e : lv (cIns σ t p (hbC (Int32.ofNat t) k x) k x vk v a0 j0) 7 12 = lv σ 70 p := by
      unfold lv
      rw [cIns_1, if_neg (by omega), if_neg (by omega), if_neg (by omega), if_neg (by rcases hA with u | u <;> omega)]
      repeat rw [if_neg (by omega)]
      rw [if_pos ⟨rfl, rfl⟩]
    rw [e]
    refine lk_cong (fun q hq => ?_) hf1.2
    have hqp : q ≠ p := fun w => hnd.1 (by rw [← w]; exact hq)
    have hqt := (hf3 q (List.mem_cons_of_mem _ hq)).2 t ht
    have : ¬ (70 = a0 ∧ q = j0) := fun w => by
      rcases hA with ⟨_, u1, _⟩ | ⟨_, _, _, u3⟩
      · omega
      · exact hqt (by rw [w.2]; exact u3)
    unfold lv
    rw [cIns_1, if_neg (by omega), if_neg (by omega), if_neg (by omega), if_neg this]
    repeat rw [if_neg (by omega)]
  · unfold lv
    rw [cIns_1, if_neg (by omega), if_neg (by omega), if_neg (by omega), if_neg (by rcases hA with u | u <;> omega)]
    repeat rw [if_neg (by omega)]
    rw [if_pos ⟨rfl, rfl⟩, s11]
    omega
  · intro q hq
    refine ⟨(hf3 q (List.mem_cons_of_mem _ hq)).1, fun t' ht' => ?_⟩
    have h0 := (hf3 q (List.mem_cons_of_mem _ hq)).2 t' ht'
    show q ∉ (if t' = t then P t ++ [p] else P t')
    by_cases w : t' = t
    · rw [if_pos w]
      rw [w] at h0
      intro u
      rcases List.mem_append.1 u with u | u
      · exact h0 u
      · rw [List.mem_singleton.1 u] at hq
        exact hnd.1 hq
    · rw [if_neg w]; exact h0
  · show lv _ 61 t' = (((if t' = t then P t ++ [p] else P t').length : Nat) : Int)
    unfold lv
    rw [cIns_1, if_neg (by omega)]
    by_cases w : t' = t
    · rw [if_pos ⟨rfl, w⟩, if_pos w, s61, List.length_append]
      simp
    · rw [if_neg (by omega), if_neg (by omega), if_neg (by rcases hA with u | u <;> omega)]
      repeat rw [if_neg (by omega)]
      exact hn t' ht'
theorem cIns_en {σ : lj_S} {t p bb : Nat} {k : Int32} {x : Int64} {vk : Int32} {v : Int64} {a0 j0 : Nat} (hA : (a0 = 59 ∧ j0 = t) ∨ a0 = 70) : enC (cIns σ t p bb k x vk v a0 j0) p = ((k, x), vk, v) ∧ (∀ q, q ≠ p → enC (cIns σ t p bb k x vk v a0 j0) q = enC σ q) ∧ (∀ a j, ¬ (a = 7 ∧ (j = 11 ∨ j = 12)) → ¬ (59 ≤ a ∧ a ≤ 61) → ¬ (66 ≤ a ∧ a ≤ 73) → (cIns σ t p bb k x vk v a0 j0).1 a j = σ.1 a j) ∧ ∀ a j, ¬ ((a = 67 ∨ a = 69) ∧ j = p) → (cIns σ t p bb k x vk v a0 j0).2 a j = σ.2 a j := by
  refine ⟨?_, fun q hq => ?_, fun a j w1 w2 w3 => ?_, fun a j w => ?_⟩
  · unfold enC
    have a4 : ¬ (66 = a0 ∧ p = j0) := by rcases hA with u | u <;> omega
    rw [cIns_1, cIns_1, cIns_2, cIns_2, if_neg (by omega), if_neg (by omega), if_neg (by omega), if_neg a4]
    repeat rw [if_neg (by omega)]
    rw [if_pos ⟨rfl, rfl⟩, if_neg (by omega), if_pos ⟨rfl, rfl⟩, if_pos ⟨rfl, rfl⟩, if_pos ⟨rfl, rfl⟩]
  · unfold enC
    have a4 : ∀ a, (a = 66 ∨ a = 68) → ¬ (a = a0 ∧ q = j0) := fun a w => by rcases hA with u | u <;> omega
    rw [cIns_1, cIns_1, cIns_2, cIns_2]
    rw [if_neg (by omega), if_neg (by omega), if_neg (by omega), if_neg (a4 66 (by omega))]
    repeat (first | rw [if_neg (a4 68 (by omega))] | rw [if_neg (by omega)])
  · rw [cIns_1, if_neg (by omega), if_neg (by omega), if_neg (by omega), if_neg (by rcases hA with u | u <;> omega)]
    repeat rw [if_neg (by omega)]
  · rw [cIns_2]
    repeat rw [if_neg (by omega)]

/-- a pair is written: the new state has the pair behind the others, or in its place -/
theorem c_hset {σ : lj_S} {V : Nat → Prop} {P B : Nat → List Nat} {Fr : List Nat} (h : hsC σ V P B Fr) (hM : ∀ t, V t → t ≤ 2000) {t : Nat} (ht : V t) (k : Int32) (x : Int64) (vk : Int32) (v : Int64) :
    (∃ p ∈ P t, (enC σ p).1 = (k, x) ∧ ∃ σ', lj_R lc_P 113 [.ref 7, .int (Int32.ofNat t), .int k, .long x, .int vk, .long v] σ = some (.inl none, σ') ∧ hsC σ' V P B Fr ∧ enC σ' p = ((k, x), vk, if vk = 0 then 0 else v) ∧ (∀ q, q ≠ p → enC σ' q = enC σ q) ∧ (∀ a j, ¬ (a = 68 ∧ j = p) → σ'.1 a j = σ.1 a j) ∧ ∀ a j, ¬ (a = 69 ∧ j = p) → σ'.2 a j = σ.2 a j) ∨
    ((∀ p ∈ P t, (enC σ p).1 ≠ (k, x)) ∧ vk = 0 ∧ lj_R lc_P 113 [.ref 7, .int (Int32.ofNat t), .int k, .long x, .int vk, .long v] σ = some (.inl none, σ)) ∨
    ((∀ p ∈ P t, (enC σ p).1 ≠ (k, x)) ∧ vk ≠ 0 ∧ Fr = [] ∧ lj_R lc_P 113 [.ref 7, .int (Int32.ofNat t), .int k, .long x, .int vk, .long v] σ = some (.inr 2, lj_put σ 2 6 1)) ∨
    ((∀ p ∈ P t, (enC σ p).1 ≠ (k, x)) ∧ vk ≠ 0 ∧ ∃ p Fr' B' σ', Fr = p :: Fr' ∧ lj_R lc_P 113 [.ref 7, .int (Int32.ofNat t), .int k, .long x, .int vk, .long v] σ = some (.inl none, σ') ∧ hsC σ' V (fun j => if j = t then P t ++ [p] else P j) B' Fr' ∧ enC σ' p = ((k, x), vk, v) ∧ (∀ q, q ≠ p → enC σ' q = enC σ q) ∧ (∀ a j, ¬ (a = 7 ∧ (j = 11 ∨ j = 12)) → ¬ (59 ≤ a ∧ a ≤ 61) → ¬ (66 ≤ a ∧ a ≤ 73) → σ'.1 a j = σ.1 a j) ∧ ∀ a j, ¬ ((a = 67 ∨ a = 69) ∧ j = p) → σ'.2 a j = σ.2 a j) := by
  have h0 := h
  obtain ⟨hp, ⟨hf1, hf2, hf3⟩, hn⟩ := h
  rcases c_hseek hp (fun t ht => by have := hM t ht; omega) ht k x with ⟨p, q1, q2, q3, q4⟩ | ⟨q1, q2⟩
  · have hp3 := (hp.2.2 t ht p q1).1
    have ge : (0 : Int32) ≤ Int32.ofNat p := by rw [lz_le, lz_lit (by omega)]; show (0 : Int) ≤ _; omega
    have oC : ∀ a j, ¬ (a = 68 ∧ j = p) → (lj_putL (lj_put σ 68 p vk) 69 p (if vk = 0 then 0 else v)).1 a j = σ.1 a j := fun a j w => by rw [lj_putL_1, lj_put_1, if_neg w]
    have oL : ∀ a j, ¬ (a = 69 ∧ j = p) → (lj_putL (lj_put σ 68 p vk) 69 p (if vk = 0 then 0 else v)).2 a j = σ.2 a j := fun a j w => by rw [lj_putL_2, if_neg w]; rfl
    have l : ∀ a j, a ≠ 68 → lv (lj_putL (lj_put σ 68 p vk) 69 p (if vk = 0 then 0 else v)) a j = lv σ a j := fun a j w => by unfold lv; rw [oC a j (by omega)]
    refine Or.inl ⟨p, q1, by unfold enC; rw [q2, q3], _, by rw [rc_113, kc_113_0, q4, bi_ok, if_pos ge, c_hfin σ hp3], ⟨hpC_cg hp (fun a j w => oC a j (by omega)) (fun j => oL 67 j (by omega)), ⟨?_, by rw [l 7 11 (by omega)]; exact hf2, hf3⟩, fun t' ht' => by rw [l 61 t' (by omega)]; exact hn t' ht'⟩, ?_, fun q hq => ?_, oC, oL⟩
    · have : lv (lj_putL (lj_put σ 68 p vk) 69 p (if vk = 0 then 0 else v)) 70 = lv σ 70 := by funext j; exact l 70 j (by omega)
      rw [this, l 7 12 (by omega)]; exact hf1
    · unfold enC
      rw [oC 66 p (by omega), oL 67 p (by omega), q2, q3, lj_putL_1, lj_put_1, if_pos ⟨rfl, rfl⟩, lj_putL_2, if_pos ⟨rfl, rfl⟩]
    · unfold enC
      rw [oC 66 q (by omega), oL 67 q (by omega), oC 68 q (by omega), oL 69 q (by omega)]
  · have q1' : ∀ p ∈ P t, (enC σ p).1 ≠ (k, x) := fun p hp' w => q1 p hp' ⟨congrArg Prod.fst w, congrArg Prod.snd w⟩
    by_cases w0 : vk = 0
    · exact Or.inr (Or.inl ⟨q1', w0, by rw [rc_113, kc_113_0, q2, bi_ok, if_neg (by decide), if_pos w0]⟩)
    · cases Fr with
      | nil =>
        have e : σ.1 7 12 = -1 := lz_ext (by have hf1 : lv σ 7 12 = -1 := hf1; unfold lv at hf1; rw [hf1]; rfl)
        refine Or.inr (Or.inr (Or.inl ⟨q1', w0, rfl, ?_⟩))
        rw [rc_113, kc_113_0, q2, bi_ok, if_neg (by decide), if_neg w0, e, if_neg (by decide), rc_20, kc_20_0, if_pos (Or.inr rfl)]
        rfl
      | cons p Fr' =>
        have hp3 := (hf3 p (List.mem_cons_self)).1
        have e12 : σ.1 7 12 = Int32.ofNat p := lz_ext (by have := hf1.1; unfold lv at this; rw [this, lz_lit (by omega)])
        have l60 := (hp.1 t ht).2
        unfold lv at l60
        have hA : ∃ a0 j0 : Nat, ((P t = [] ∧ a0 = 59 ∧ j0 = t) ∨ (P t ≠ [] ∧ a0 = 70 ∧ (j0 : Int) = lsI (P t) ∧ j0 ∈ P t)) ∧ lj_R lc_P 113 [.ref 7, .int (Int32.ofNat t), .int k, .long x, .int vk, .long v] σ = some (.inl none, cIns σ t p (hbC (Int32.ofNat t) k x) k x vk v a0 j0) := by
          by_cases hP : P t = []
          · have e60 : σ.1 60 t = -1 := lz_ext (by rw [l60, hP]; rfl)
            have := c_hrun hp3 (hM t ht) k x vk v w0 e12 q2 (Or.inl e60)
            rw [if_pos e60, if_pos e60] at this
            exact ⟨59, t, Or.inl ⟨hP, rfl, rfl⟩, this⟩
          · obtain ⟨q, hq⟩ := ls_ex _ hP
            have hqm := ls_mem (P t) q hq.symm
            have hq3 := (hp.2.2 t ht q hqm).1
            have e60 : σ.1 60 t = Int32.ofNat q := lz_ext (by rw [l60, hq, lz_lit (by omega)])
            have nq : ¬ (σ.1 60 t = -1) := fun w => by
              rw [w] at l60
              have e : (-1 : Int32).toInt = -1 := by decide
              rw [hq] at l60
              omega
            have := c_hrun hp3 (hM t ht) k x vk v w0 e12 q2 (Or.inr ⟨q, hq3, e60⟩)
            rw [if_neg nq, if_neg nq, e60, lz_onat (by omega)] at this
            exact ⟨70, q, Or.inr ⟨hP, rfl, hq.symm, hqm⟩, this⟩
        obtain ⟨a0, j0, hA, run⟩ := hA
        obtain ⟨f1, f2, f3, f4⟩ := cIns_en (σ := σ) (t := t) (p := p) (bb := hbC (Int32.ofNat t) k x) (k := k) (x := x) (vk := vk) (v := v) (a0 := a0) (j0 := j0) (by rcases hA with u | u <;> omega)
        exact Or.inr (Or.inr (Or.inr ⟨q1', w0, p, Fr', _, _, rfl, run, cIns_hs h0 hM ht (fun q hq w => q1 q hq w) hA, f1, f2, f3, f4⟩))
