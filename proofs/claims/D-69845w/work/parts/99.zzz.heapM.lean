/-! the model's heap: pairs are read and written -/
/-- a pile of places, the uppermost first -/
def fsM (τ : lj_S) : List Nat → Prop
  | [] => True
  | p :: l => τ.1 53 l.length = Int32.ofNat p ∧ fsM τ l
theorem fsM_cg {τ τ' : lj_S} (h : ∀ j, τ'.1 53 j = τ.1 53 j) : ∀ {l : List Nat}, fsM τ l → fsM τ' l
  | [], _ => trivial
  | _ :: l, g => ⟨by rw [h]; exact g.1, fsM_cg h g.2⟩
/-- the whole of it: Fr the places that are free -/
def hsM (τ : lj_S) (V : Nat → Prop) (P B : Nat → List Nat) (Fr : List Nat) : Prop :=
  hpM τ V P B ∧ fsM τ Fr ∧ lv τ 0 88 = (Fr.length : Int) ∧ lv τ 0 89 + (Fr.length : Int) = 3000 ∧ Fr.Nodup ∧ ∀ p ∈ Fr, p < 3001 ∧ ∀ t, V t → p ∉ P t
def enM (τ : lj_S) (p : Nat) : enT := ((τ.1 45 p, τ.2 46 p), τ.1 47 p, τ.2 48 p)
theorem hpM_cg {τ τ' : lj_S} {V : Nat → Prop} {P B : Nat → List Nat} (h : hpM τ V P B) (hC : ∀ k j, (k = 40 ∨ k = 41 ∨ k = 50 ∨ k = 51 ∨ k = 52 ∨ k = 49 ∨ k = 45) → τ'.1 k j = τ.1 k j) (hL : ∀ j, τ'.2 46 j = τ.2 46 j) : hpM τ' V P B := by
  have l : ∀ k, (k = 40 ∨ k = 41 ∨ k = 50 ∨ k = 51 ∨ k = 52 ∨ k = 49 ∨ k = 45) → lv τ' k = lv τ k := fun k q => by funext j; unfold lv; rw [hC k j q]
  refine ⟨fun t ht => ?_, fun b hb => ?_, fun t ht p hp => ?_⟩
  · rw [l 50 (by omega), l 40 (by omega), l 41 (by omega)]; exact h.1 t ht
  · rw [l 51 (by omega), l 52 (by omega)]
    refine ⟨(h.2.1 b hb).1, fun p hp => ?_⟩
    rw [hC 49 p (by omega), hC 45 p (by omega), hL p]
    exact (h.2.1 b hb).2 p hp
  · rw [hC 49 p (by omega), hC 45 p (by omega), hL p]
    obtain ⟨a1, a2, a3, a4⟩ := h.2.2 t ht p hp
    exact ⟨a1, a2, a3, fun p' hp' u1 u2 => a4 p' hp' (by rw [hC 45 p' (by omega)] at u1; exact u1) (by rw [hL p'] at u2; exact u2)⟩
/-- the value of a key -/
theorem m_hget {τ : lj_S} {V : Nat → Prop} {P B : Nat → List Nat} (h : hpM τ V P B) (hM : ∀ t, V t → t ≤ 2001) {t : Nat} (ht : V t) (k : Int32) (x : Int64) :
    (∃ p ∈ P t, (enM τ p).1 = (k, x) ∧ lj_R lm_P 123 [.ref 0, .int (Int32.ofNat t), .int k, .long x] τ = some (.inl none, lj_putL (lj_put τ 0 90 (τ.1 47 p)) 0 91 (if τ.1 47 p = 0 then 0 else τ.2 48 p))) ∨ ((∀ p ∈ P t, (enM τ p).1 ≠ (k, x)) ∧ lj_R lm_P 123 [.ref 0, .int (Int32.ofNat t), .int k, .long x] τ = some (.inl none, lj_putL (lj_put τ 0 90 0) 0 91 0)) := by
  rcases m_hseek h (fun t ht => by have := hM t ht; omega) ht k x with ⟨p, q1, q2, q3, q4⟩ | ⟨q1, q2⟩
  · have hp := (h.2.2 t ht p q1).1
    have i3 : lj_in (Int32.ofNat p) 3001 := ofN_in (by omega) (by omega)
    have ge : (0 : Int32) ≤ Int32.ofNat p := by rw [lz_le, lz_lit (by omega)]; show (0 : Int) ≤ _; omega
    refine Or.inl ⟨p, q1, by unfold enM; rw [q2, q3], ?_⟩
    have e1 : (Int32.ofNat p).toNatClampNeg = p := lz_onat (by omega)
    rw [rm_123, km_123_0, q4, bi_ok, if_pos ge, if_pos i3, km_123_26, if_neg (ofN_nneg (by omega)), if_pos i3]
    by_cases w : τ.1 47 (Int32.ofNat p).toNatClampNeg = 0
    · rw [if_pos w, km_123_45, km_123_56]
      rw [e1] at w ⊢
      rw [if_pos w]
    · rw [if_neg w, if_pos i3, km_123_56]
      rw [e1] at w ⊢
      rw [if_neg w]
  · refine Or.inr ⟨fun p hp w => q1 p hp ⟨congrArg Prod.fst w, congrArg Prod.snd w⟩, ?_⟩
    rw [rm_123, km_123_0, q2, bi_ok, if_neg (by decide), km_123_26, if_pos (by decide), km_123_45, km_123_56]
/-- a pair more -/
def mIn0 (τ : lj_S) (t p bb : Nat) (k : Int32) (x : Int64) : lj_S := lj_put (lj_put (lj_put (lj_putL (lj_put (lj_put (lj_put (lj_put τ 0 88 (τ.1 0 88 - 1)) 0 89 (τ.1 0 89 + 1)) 49 p (Int32.ofNat t)) 45 p k) 46 p x) 51 p (τ.1 52 bb)) 52 bb (Int32.ofNat p)) 50 p (-1)
def mIns (τ : lj_S) (t p bb : Nat) (k : Int32) (x : Int64) (vk : Int32) (v : Int64) (a0 j0 : Nat) : lj_S := lj_putL (lj_put (lj_put (lj_put (mIn0 τ t p bb k x) a0 j0 (Int32.ofNat p)) 41 t (Int32.ofNat p)) 47 p vk) 48 p v
theorem mIns_1 (τ : lj_S) (t p bb : Nat) (k : Int32) (x : Int64) (vk : Int32) (v : Int64) (a0 j0 a j : Nat) : (mIns τ t p bb k x vk v a0 j0).1 a j = if a = 47 ∧ j = p then vk else if a = 41 ∧ j = t then Int32.ofNat p else if a = a0 ∧ j = j0 then Int32.ofNat p else if a = 50 ∧ j = p then -1 else if a = 52 ∧ j = bb then Int32.ofNat p else if a = 51 ∧ j = p then τ.1 52 bb else if a = 45 ∧ j = p then k else if a = 49 ∧ j = p then Int32.ofNat t else if a = 0 ∧ j = 89 then τ.1 0 89 + 1 else if a = 0 ∧ j = 88 then τ.1 0 88 - 1 else τ.1 a j := by
  unfold mIns mIn0
  simp only [lj_put_1, lj_putL_1]
theorem mIns_2 (τ : lj_S) (t p bb : Nat) (k : Int32) (x : Int64) (vk : Int32) (v : Int64) (a0 j0 a j : Nat) : (mIns τ t p bb k x vk v a0 j0).2 a j = if a = 48 ∧ j = p then v else if a = 46 ∧ j = p then x else τ.2 a j := by
  unfold mIns
  rw [lj_putL_2]
  split
  · rfl
  · show (mIn0 τ t p bb k x).2 a j = _
    unfold mIn0
    show (lj_putL _ 46 p x).2 a j = _
    rw [lj_putL_2]
    rfl
/-- the run, where a place is taken -/
theorem m_hrunA {τ : lj_S} {P T B3 N1 : Int32} (ib : lj_in B3 4096) (i3 : lj_in P 3001) (it : lj_in T 2002) (inn : lj_in N1 3001) (k : Int32) (x : Int64) (vk : Int32) (v : Int64) (w0 : vk ≠ 0) (e88 : τ.1 0 88 - 1 = N1) (e53 : τ.1 53 N1.toNatClampNeg = P) (e89 : τ.1 0 89 ≠ 3000) (hbb : lj_R lm_P 110 [.int T, .int k, .long x] (lj_put (lj_put τ 0 88 N1) 0 89 (τ.1 0 89 + 1)) = some (.inl (some (.int B3)), lj_put (lj_put τ 0 88 N1) 0 89 (τ.1 0 89 + 1))) (q : lj_R lm_P 109 [.ref 0, .int T, .int k, .long x] τ = some (.inl (some (.int (-1))), τ)) :
    lj_R lm_P 108 [.ref 0, .int T, .int k, .long x, .int vk, .long v] τ = if (0 : Int32) ≤ (lj_put (lj_put τ 0 88 N1) 0 89 (τ.1 0 89 + 1)).1 40 T.toNatClampNeg then (if lj_in ((lj_put (lj_put τ 0 88 N1) 0 89 (τ.1 0 89 + 1)).1 41 T.toNatClampNeg) 3001 then lj_D lm_P lm_M108 170 [.ref 0, .int T, .int k, .long x, .retAddr 0, .int vk, .long v, .retAddr 0, .int P, .int B3] [] (lj_put (lj_put (lj_put (lj_put (lj_putL (lj_put (lj_put (lj_put (lj_put τ 0 88 N1) 0 89 (τ.1 0 89 + 1)) 49 P.toNatClampNeg T) 45 P.toNatClampNeg k) 46 P.toNatClampNeg x) 51 P.toNatClampNeg ((lj_put (lj_put τ 0 88 N1) 0 89 (τ.1 0 89 + 1)).1 52 B3.toNatClampNeg)) 52 B3.toNatClampNeg P) 50 P.toNatClampNeg (-1)) 50 ((lj_put (lj_put τ 0 88 N1) 0 89 (τ.1 0 89 + 1)).1 41 T.toNatClampNeg).toNatClampNeg P) else none) else lj_D lm_P lm_M108 170 [.ref 0, .int T, .int k, .long x, .retAddr 0, .int vk, .long v, .retAddr 0, .int P, .int B3] [] (lj_put (lj_put (lj_put (lj_put (lj_putL (lj_put (lj_put (lj_put (lj_put τ 0 88 N1) 0 89 (τ.1 0 89 + 1)) 49 P.toNatClampNeg T) 45 P.toNatClampNeg k) 46 P.toNatClampNeg x) 51 P.toNatClampNeg ((lj_put (lj_put τ 0 88 N1) 0 89 (τ.1 0 89 + 1)).1 52 B3.toNatClampNeg)) 52 B3.toNatClampNeg P) 50 P.toNatClampNeg (-1)) 40 T.toNatClampNeg P) := by
  subst e88
  subst e53
  rw [rm_108, km_108_0, q, bi_ok, if_neg (by decide), if_neg w0, km_108_21, if_neg (by decide), if_neg e89, if_pos inn, hbb, bi_ok, if_pos i3, if_pos i3, if_pos i3, if_pos ib, if_pos i3, if_pos ib, if_pos i3, if_pos it]
  by_cases z : (0 : Int32) ≤ (lj_put (lj_put τ 0 88 (τ.1 0 88 - 1)) 0 89 (τ.1 0 89 + 1)).1 40 T.toNatClampNeg
  · rw [if_pos z, if_pos z, if_pos it]
  · rw [if_neg z, if_neg z, if_pos it]
theorem m_hrun {τ : lj_S} {p t n : Nat} (hp : p < 3001) (ht : t ≤ 2001) (k : Int32) (x : Int64) (vk : Int32) (v : Int64) (w0 : vk ≠ 0) (hn : n < 3001) (e88 : τ.1 0 88 - 1 = Int32.ofNat n) (e53 : τ.1 53 n = Int32.ofNat p) (e89 : τ.1 0 89 ≠ 3000) (q : lj_R lm_P 109 [.ref 0, .int (Int32.ofNat t), .int k, .long x] τ = some (.inl (some (.int (-1))), τ)) (hq : (τ.1 40 t = -1) ∨ ((0 : Int32) ≤ τ.1 40 t ∧ ∃ q : Nat, q < 3001 ∧ τ.1 41 t = Int32.ofNat q)) :
    lj_R lm_P 108 [.ref 0, .int (Int32.ofNat t), .int k, .long x, .int vk, .long v] τ = some (.inl (some (.int 1)), mIns τ t p (hbM (Int32.ofNat t) k x) k x vk v (if τ.1 40 t = -1 then 40 else 50) (if τ.1 40 t = -1 then t else (τ.1 41 t).toNatClampNeg)) := by
  have hb := hbM_lt (Int32.ofNat t) k x
  have hbb := m_hbkt (Int32.ofNat t) k x (lj_put (lj_put τ 0 88 (Int32.ofNat n)) 0 89 (τ.1 0 89 + 1))
  generalize hbM (Int32.ofNat t) k x = bb at hb hbb ⊢
  have e1 : (Int32.ofNat p).toNatClampNeg = p := lz_onat (by omega)
  have e2 : (Int32.ofNat t).toNatClampNeg = t := lz_onat (by omega)
  have e3 : (Int32.ofNat bb).toNatClampNeg = bb := lz_onat (by omega)
  have e4 : (Int32.ofNat n).toNatClampNeg = n := lz_onat (by omega)
  have o : ∀ a j, a ≠ 0 → (lj_put (lj_put τ 0 88 (Int32.ofNat n)) 0 89 (τ.1 0 89 + 1)).1 a j = τ.1 a j := fun a j w => by rw [lj_put_1, if_neg (by omega), lj_put_1, if_neg (by omega)]
  have it : lj_in (Int32.ofNat t) 2002 := ofN_in (by omega) (by omega)
  have i3 : lj_in (Int32.ofNat p) 3001 := ofN_in (by omega) (by omega)
  have fin : ∀ (s : lj_S) (y : Int32), lj_D lm_P lm_M108 170 [.ref 0, .int (Int32.ofNat t), .int k, .long x, .retAddr 0, .int vk, .long v, .retAddr 0, .int (Int32.ofNat p), .int y] [] s = some (.inl (some (.int 1)), lj_putL (lj_put (lj_put s 41 t (Int32.ofNat p)) 47 p vk) 48 p v) := fun s y => by
    rw [km_108_170, if_pos it, km_108_178, if_pos i3, if_pos i3, e1, e2]
  have run := m_hrunA (τ := τ) (P := Int32.ofNat p) (T := Int32.ofNat t) (B3 := Int32.ofNat bb) (N1 := Int32.ofNat n) (ofN_in (by omega) (by omega)) i3 it (ofN_in (by omega) (by omega)) k x vk v w0 e88 (by rw [e4]; exact e53) e89 hbb q
  rw [e1, e2, e3, o 40 t (by decide), o 41 t (by decide), o 52 bb (by decide)] at run
  rw [run]
  rcases hq with hq | ⟨hq, q, q3, hq'⟩
  · rw [hq, if_neg (by decide), if_pos rfl, if_pos rfl, fin]
    unfold mIns mIn0
    rw [e88]
  · have iq : lj_in (Int32.ofNat q) 3001 := ofN_in (by omega) (by omega)
    have nq : ¬ (τ.1 40 t = -1) := fun w => by rw [w] at hq; exact absurd hq (by decide)
    rw [if_pos hq, if_neg nq, if_neg nq, hq', if_pos iq, lz_onat (by omega), fin]
    unfold mIns mIn0
    rw [e88]
theorem mIns_hs {τ : lj_S} {V : Nat → Prop} {P B : Nat → List Nat} {p : Nat} {Fr' : List Nat} (h : hsM τ V P B (p :: Fr')) (hM : ∀ t, V t → t ≤ 2001) {t : Nat} (ht : V t) {k : Int32} {x : Int64} (q1 : ∀ q ∈ P t, ¬ (τ.1 45 q = k ∧ τ.2 46 q = x)) {vk : Int32} {v : Int64} {a0 j0 : Nat} (hA : (P t = [] ∧ a0 = 40 ∧ j0 = t) ∨ (P t ≠ [] ∧ a0 = 50 ∧ (j0 : Int) = lsI (P t) ∧ j0 ∈ P t)) :
    hsM (mIns τ t p (hbM (Int32.ofNat t) k x) k x vk v a0 j0) V (fun j => if j = t then P t ++ [p] else P j) (fun j => if j = hbM (Int32.ofNat t) k x then p :: B j else B j) Fr' := by
  obtain ⟨hp, hf1, hf2, hf4, hnd, hf3⟩ := h
  have hp3 := (hf3 p (List.mem_cons_self)).1
  have hpn := (hf3 p (List.mem_cons_self)).2
  have ht20 := hM t ht
  have hb := hbM_lt (Int32.ofNat t) k x
  rw [List.nodup_cons] at hnd
  rw [List.length_cons] at hf2 hf4
  have hA0 : a0 = 40 ∨ a0 = 50 := by rcases hA with u | u <;> omega
  have s88 : (τ.1 0 88 - 1).toInt = lv τ 0 88 - 1 := by
    unfold lv at hf2 ⊢
    have := Int32.toInt_lt (τ.1 0 88)
    rw [lz_sub (by rw [show (1 : Int32).toInt = 1 from rfl]; omega)]
    rfl
  have s89 : (τ.1 0 89 + 1).toInt = lv τ 0 89 + 1 := by
    have := Int32.le_toInt (τ.1 0 89)
    unfold lv at hf4 ⊢
    rw [lz_add (by rw [show (1 : Int32).toInt = 1 from rfl]; omega)]
    rfl
  refine ⟨?_, ?_, ?_, ?_, hnd.2, ?_⟩
  · have hA' : (a0 = 40 ∧ j0 = t) ∨ (a0 = 50 ∧ (j0 : Int) = lsI (P t) ∧ j0 ≠ p) := by
      rcases hA with ⟨_, u1, u2⟩ | ⟨_, u1, u2, u3⟩
      · exact Or.inl ⟨u1, u2⟩
      · exact Or.inr ⟨u1, u2, fun e => hpn t ht (by rw [← e]; exact u3)⟩
    refine hp_ins hp (by omega) (fun t ht => by have := hM t ht; omega) ht hbM_lt (show p < 3001 by omega) hpn (fun q hq w => q1 q hq w) (fun j w => ?_) ?_ (fun j w => ?_) ?_ (fun j w1 w2 => ?_) ?_ (fun j w => ?_) (fun j w => ?_) ?_ (fun j w => ?_) ?_ (fun j w => ⟨?_, ?_, ?_⟩) ⟨?_, ?_, ?_⟩
    · rw [mIns_1]; repeat rw [if_neg (by omega)]
    · unfold lv
      rw [mIns_1]
      rcases hA with ⟨u0, u1, u2⟩ | ⟨u0, u1, u2, u3⟩
      · rw [if_pos u0, u1, u2]
        repeat rw [if_neg (by omega)]
        rw [if_pos ⟨rfl, rfl⟩, lz_lit (by omega)]
      · rw [if_neg u0, u1]
        repeat rw [if_neg (by omega)]
    · rw [mIns_1]; repeat rw [if_neg (by omega)]
    · rw [mIns_1]; repeat rw [if_neg (by omega)]
      rw [if_pos ⟨rfl, rfl⟩]
    · rw [mIns_1]; repeat rw [if_neg (by omega)]
    · rw [mIns_1]; repeat rw [if_neg (by omega)]
      rw [if_pos ⟨rfl, rfl⟩]
    · rcases hA with ⟨u0, u1, u2⟩ | ⟨u0, u1, u2, u3⟩
      · rw [u0] at w; have w : (j : Int) = -1 := w; omega
      · rw [mIns_1, u1]; repeat rw [if_neg (by omega)]
        rw [if_pos ⟨rfl, by omega⟩]
    · rw [mIns_1]; repeat rw [if_neg (by omega)]
    · rw [mIns_1]; repeat rw [if_neg (by omega)]
      rw [if_pos ⟨rfl, rfl⟩]
    · rw [mIns_1]; repeat rw [if_neg (by omega)]
    · rw [mIns_1]; repeat rw [if_neg (by omega)]
      rw [if_pos ⟨rfl, rfl⟩]
    · rw [mIns_1]; repeat rw [if_neg (by omega)]
    · rw [mIns_1]; repeat rw [if_neg (by omega)]
    · rw [mIns_2]; repeat rw [if_neg (by omega)]
    · rw [mIns_1]; repeat rw [if_neg (by omega)]
      rw [if_pos ⟨rfl, rfl⟩]
    · rw [mIns_1]; repeat rw [if_neg (by omega)]
      rw [if_pos ⟨rfl, rfl⟩]
    · rw [mIns_2, if_neg (by omega), if_pos ⟨rfl, rfl⟩]
  · exact fsM_cg (fun j => by rw [mIns_1]; repeat rw [if_neg (by omega)]) hf1.2
  · unfold lv
    rw [mIns_1]
    repeat rw [if_neg (by omega)]
    rw [if_pos ⟨rfl, rfl⟩, s88]
    omega
  · unfold lv
    rw [mIns_1]
    repeat rw [if_neg (by omega)]
    rw [if_pos ⟨rfl, rfl⟩, s89]
    omega
  · intro q hq
    refine ⟨(hf3 q (List.mem_cons_of_mem _ hq)).1, fun t' ht' => ?_⟩
    have h0 := (hf3 q (List.mem_cons_of_mem _ hq)).2 t' ht'
    show q ∉ (if t' = t then P t ++ [p] else P t')
    by_cases w : t' = t
    · rw [if_pos w]
      rw [w] at h0
      intro u
      rcases List.mem_append.1 u with u | u
      · exact h0 u
      · rw [List.mem_singleton.1 u] at hq
        exact hnd.1 hq
    · rw [if_neg w]; exact h0
theorem mIns_en {τ : lj_S} {t p bb : Nat} {k : Int32} {x : Int64} {vk : Int32} {v : Int64} {a0 j0 : Nat} (hA : a0 = 40 ∨ a0 = 50) : enM (mIns τ t p bb k x vk v a0 j0) p = ((k, x), vk, v) ∧ (∀ q, q ≠ p → enM (mIns τ t p bb k x vk v a0 j0) q = enM τ q) ∧ (∀ a j, ¬ (a = 0 ∧ (j = 88 ∨ j = 89)) → ¬ (40 ≤ a ∧ a ≤ 41) → ¬ (45 ≤ a ∧ a ≤ 52) → (mIns τ t p bb k x vk v a0 j0).1 a j = τ.1 a j) ∧ ∀ a j, ¬ ((a = 46 ∨ a = 48) ∧ j = p) → (mIns τ t p bb k x vk v a0 j0).2 a j = τ.2 a j := by
  refine ⟨?_, fun q hq => ?_, fun a j w1 w2 w3 => ?_, fun a j w => ?_⟩
  · unfold enM
    have a4 : ¬ (45 = a0 ∧ p = j0) := by omega
    rw [mIns_1, mIns_1, mIns_2, mIns_2, if_neg (by omega), if_neg (by omega), if_neg a4]
    repeat rw [if_neg (by omega)]
    rw [if_pos ⟨rfl, rfl⟩, if_neg (by omega), if_pos ⟨rfl, rfl⟩, if_pos ⟨rfl, rfl⟩, if_pos ⟨rfl, rfl⟩]
  · unfold enM
    rw [mIns_1, mIns_1, mIns_2, mIns_2]
    repeat rw [if_neg (by omega)]
  · rw [mIns_1]
    repeat rw [if_neg (by omega)]
  · rw [mIns_2]
    repeat rw [if_neg (by omega)]
/-- a pair is written -/
theorem m_hset {τ : lj_S} {V : Nat → Prop} {P B : Nat → List Nat} {Fr : List Nat} (h : hsM τ V P B Fr) (hM : ∀ t, V t → t ≤ 2001) {t : Nat} (ht : V t) (k : Int32) (x : Int64) (vk : Int32) (v : Int64) :
    (∃ p ∈ P t, (enM τ p).1 = (k, x) ∧ ∃ τ', lj_R lm_P 108 [.ref 0, .int (Int32.ofNat t), .int k, .long x, .int vk, .long v] τ = some (.inl (some (.int 1)), τ') ∧ hsM τ' V P B Fr ∧ enM τ' p = ((k, x), vk, v) ∧ (∀ q, q ≠ p → enM τ' q = enM τ q) ∧ (∀ a j, ¬ (a = 47 ∧ j = p) → τ'.1 a j = τ.1 a j) ∧ ∀ a j, ¬ (a = 48 ∧ j = p) → τ'.2 a j = τ.2 a j) ∨
    ((∀ p ∈ P t, (enM τ p).1 ≠ (k, x)) ∧ vk = 0 ∧ lj_R lm_P 108 [.ref 0, .int (Int32.ofNat t), .int k, .long x, .int vk, .long v] τ = some (.inl (some (.int 1)), τ)) ∨
    ((∀ p ∈ P t, (enM τ p).1 ≠ (k, x)) ∧ vk ≠ 0 ∧ Fr = [] ∧ lj_R lm_P 108 [.ref 0, .int (Int32.ofNat t), .int k, .long x, .int vk, .long v] τ = some (.inl (some (.int 0)), lj_put τ 0 143 4)) ∨
    ((∀ p ∈ P t, (enM τ p).1 ≠ (k, x)) ∧ vk ≠ 0 ∧ ∃ p Fr' B' τ', Fr = p :: Fr' ∧ lj_R lm_P 108 [.ref 0, .int (Int32.ofNat t), .int k, .long x, .int vk, .long v] τ = some (.inl (some (.int 1)), τ') ∧ hsM τ' V (fun j => if j = t then P t ++ [p] else P j) B' Fr' ∧ enM τ' p = ((k, x), vk, v) ∧ (∀ q, q ≠ p → enM τ' q = enM τ q) ∧ (∀ a j, ¬ (a = 0 ∧ (j = 88 ∨ j = 89)) → ¬ (40 ≤ a ∧ a ≤ 41) → ¬ (45 ≤ a ∧ a ≤ 52) → τ'.1 a j = τ.1 a j) ∧ ∀ a j, ¬ ((a = 46 ∨ a = 48) ∧ j = p) → τ'.2 a j = τ.2 a j) := by
  have h0 := h
  obtain ⟨hp, hf1, hf2, hf4, hnd, hf3⟩ := h
  rcases m_hseek hp (fun t ht => by have := hM t ht; omega) ht k x with ⟨p, q1, q2, q3, q4⟩ | ⟨q1, q2⟩
  · have hp3 := (hp.2.2 t ht p q1).1
    have i3 : lj_in (Int32.ofNat p) 3001 := ofN_in (by omega) (by omega)
    have ge : (0 : Int32) ≤ Int32.ofNat p := by rw [lz_le, lz_lit (by omega)]; show (0 : Int) ≤ _; omega
    have oC : ∀ a j, ¬ (a = 47 ∧ j = p) → (lj_putL (lj_put τ 47 p vk) 48 p v).1 a j = τ.1 a j := fun a j w => by rw [lj_putL_1, lj_put_1, if_neg w]
    have oL : ∀ a j, ¬ (a = 48 ∧ j = p) → (lj_putL (lj_put τ 47 p vk) 48 p v).2 a j = τ.2 a j := fun a j w => by rw [lj_putL_2, if_neg w]; rfl
    have l : ∀ a j, a ≠ 47 → lv (lj_putL (lj_put τ 47 p vk) 48 p v) a j = lv τ a j := fun a j w => by unfold lv; rw [oC a j (by omega)]
    refine Or.inl ⟨p, q1, by unfold enM; rw [q2, q3], _, by rw [rm_108, km_108_0, q4, bi_ok, if_pos ge, km_108_21, if_pos ge, km_108_178, if_pos i3, if_pos i3, lz_onat (by omega)], ⟨hpM_cg hp (fun a j w => oC a j (by omega)) (fun j => oL 46 j (by omega)), fsM_cg (fun j => oC 53 j (by omega)) hf1, by rw [l 0 88 (by omega)]; exact hf2, by rw [l 0 89 (by omega)]; exact hf4, hnd, hf3⟩, ?_, fun q hq => ?_, oC, oL⟩
    · unfold enM
      rw [oC 45 p (by omega), oL 46 p (by omega), q2, q3, lj_putL_1, lj_put_1, if_pos ⟨rfl, rfl⟩, lj_putL_2, if_pos ⟨rfl, rfl⟩]
    · unfold enM
      rw [oC 45 q (by omega), oL 46 q (by omega), oC 47 q (by omega), oL 48 q (by omega)]
  · have q1' : ∀ p ∈ P t, (enM τ p).1 ≠ (k, x) := fun p hp' w => q1 p hp' ⟨congrArg Prod.fst w, congrArg Prod.snd w⟩
    by_cases w0 : vk = 0
    · exact Or.inr (Or.inl ⟨q1', w0, by rw [rm_108, km_108_0, q2, bi_ok, if_neg (by decide), if_pos w0]⟩)
    · cases Fr with
      | nil =>
        have e : τ.1 0 89 = 3000 := lz_ext (by have hf4 : lv τ 0 89 + 0 = 3000 := hf4; unfold lv at hf4; rw [show (3000 : Int32).toInt = 3000 from rfl]; omega)
        exact Or.inr (Or.inr (Or.inl ⟨q1', w0, rfl, by rw [rm_108, km_108_0, q2, bi_ok, if_neg (by decide), if_neg w0, km_108_21, if_neg (by decide), if_pos e]⟩))
      | cons p Fr' =>
        have hp3 := (hf3 p (List.mem_cons_self)).1
        have hl : (p :: Fr').length ≤ 3001 := nd_le _ _ hnd (fun q hq => (hf3 q hq).1)
        rw [List.length_cons] at hf2 hf4 hl
        have e88 : τ.1 0 88 - 1 = Int32.ofNat Fr'.length := lz_ext (by
          unfold lv at hf2
          rw [lz_sub (by rw [show (1 : Int32).toInt = 1 from rfl]; omega), show (1 : Int32).toInt = 1 from rfl, lz_lit (by omega)]
          omega)
        have e89 : τ.1 0 89 ≠ 3000 := fun w => by
          unfold lv at hf4
          rw [w, show (3000 : Int32).toInt = 3000 from rfl] at hf4
          omega
        have l40 := (hp.1 t ht).1
        have l41 := (hp.1 t ht).2
        unfold lv at l41
        have hA : ∃ a0 j0 : Nat, ((P t = [] ∧ a0 = 40 ∧ j0 = t) ∨ (P t ≠ [] ∧ a0 = 50 ∧ (j0 : Int) = lsI (P t) ∧ j0 ∈ P t)) ∧ lj_R lm_P 108 [.ref 0, .int (Int32.ofNat t), .int k, .long x, .int vk, .long v] τ = some (.inl (some (.int 1)), mIns τ t p (hbM (Int32.ofNat t) k x) k x vk v a0 j0) := by
          by_cases hP : P t = []
          · rw [hP] at l40
            have l40 : lv τ 40 t = -1 := l40
            have e40 : τ.1 40 t = -1 := lz_ext (by unfold lv at l40; rw [l40]; rfl)
            have := m_hrun hp3 (hM t ht) k x vk v w0 (by omega) e88 hf1.1 e89 q2 (Or.inl e40)
            rw [if_pos e40, if_pos e40] at this
            exact ⟨40, t, Or.inl ⟨hP, rfl, rfl⟩, this⟩
          · obtain ⟨q, hq⟩ := ls_ex _ hP
            have hqm := ls_mem (P t) q hq.symm
            have hq3 := (hp.2.2 t ht q hqm).1
            have e41 : τ.1 41 t = Int32.ofNat q := lz_ext (by rw [l41, hq, lz_lit (by omega)])
            have g40 : (0 : Int32) ≤ τ.1 40 t := by
              obtain ⟨y, r, hy⟩ := List.exists_cons_of_ne_nil hP
              rw [hy] at l40
              have := l40.1
              unfold lv at this
              rw [lz_le, this]
              show (0 : Int) ≤ _
              omega
            have nq : ¬ (τ.1 40 t = -1) := fun w => by rw [w] at g40; exact absurd g40 (by decide)
            have := m_hrun hp3 (hM t ht) k x vk v w0 (by omega) e88 hf1.1 e89 q2 (Or.inr ⟨g40, q, hq3, e41⟩)
            rw [if_neg nq, if_neg nq, e41, lz_onat (by omega)] at this
            exact ⟨50, q, Or.inr ⟨hP, rfl, hq.symm, hqm⟩, this⟩
        obtain ⟨a0, j0, hA, run⟩ := hA
        obtain ⟨f1, f2, f3, f4⟩ := mIns_en (τ := τ) (t := t) (p := p) (bb := hbM (Int32.ofNat t) k x) (k := k) (x := x) (vk := vk) (v := v) (a0 := a0) (j0 := j0) (by rcases hA with u | u <;> omega)
        exact Or.inr (Or.inr (Or.inr ⟨q1', w0, p, Fr', _, _, rfl, run, mIns_hs h0 hM ht (fun q hq w => q1 q hq w) hA, f1, f2, f3, f4⟩))
