/-! heaps: tables as rows of places, keys in buckets -/
theorem lg0 (x y : Int64) : lg_cmp x y = 0 ↔ x = y := by
  unfold lg_cmp
  by_cases h : x > y
  · rw [if_pos h]
    constructor
    · intro q; exact absurd q (by decide)
    · intro q
      rw [q] at h
      have := Int64.lt_iff_toInt_lt.1 h
      omega
  · rw [if_neg h]
    by_cases e : x = y
    · rw [if_pos e]; exact ⟨fun _ => e, fun _ => rfl⟩
    · rw [if_neg e]
      exact ⟨fun q => absurd q (by decide), fun q => absurd q e⟩
/-- the last one of a row -/
def lsI : List Nat → Int
  | [] => -1
  | [p] => (p : Int)
  | _ :: q :: r => lsI (q :: r)
theorem lsI_app (p : Nat) : ∀ (l : List Nat), lsI (l ++ [p]) = (p : Int)
  | [] => rfl
  | [_] => rfl
  | _ :: q :: r => lsI_app p (q :: r)
theorem lk_lt {f : Nat → Int} : ∀ {l : List Nat} {h : Int}, lk f h l → ∀ {l' : List Nat}, lk f h l' → l = l'
  | [], _, a, [], _ => rfl
  | [], _, a, _ :: _, b => by
    have a : _ = (-1 : Int) := a
    have := b.1
    omega
  | _ :: _, _, a, [], b => by
    have b : _ = (-1 : Int) := b
    have := a.1
    omega
  | p :: l, _, a, q :: l', b => by
    have e : p = q := by have := a.1; have := b.1; omega
    subst e
    rw [lk_lt a.2 b.2]
/-- from a member on -/
theorem lk_mem {f : Nat → Int} {p : Nat} : ∀ {l : List Nat} {h : Int}, lk f h l → p ∈ l → ∃ l1 l2, l = l1 ++ p :: l2 ∧ lk f (p : Int) (p :: l2)
  | q :: l, h, a, hp => by
    by_cases e : p = q
    · subst e
      exact ⟨[], l, rfl, rfl, a.2⟩
    · obtain ⟨l1, l2, e1, e2⟩ := lk_mem a.2 ((List.mem_cons.1 hp).resolve_left e)
      exact ⟨q :: l1, l2, by rw [e1]; rfl, e2⟩
theorem lk_nd {f : Nat → Int} : ∀ {l : List Nat} {h : Int}, lk f h l → l.Nodup
  | [], _, _ => List.nodup_nil
  | p :: l, h, a => by
    rw [List.nodup_cons]
    refine ⟨fun hp => ?_, lk_nd a.2⟩
    obtain ⟨l1, l2, e1, e2⟩ := lk_mem a.2 hp
    have e3 := lk_lt (show lk f (p : Int) (p :: l) from ⟨rfl, a.2⟩) e2
    have : (p :: l).length = (p :: l2).length := by rw [e3]
    rw [e1] at this
    simp at this
    omega
/-- one more at the end -/
theorem lk_snoc {f g : Nat → Int} {p : Nat} (hp : g p = -1) : ∀ {l : List Nat} {h : Int}, lk f h l → p ∉ l → (∀ q ∈ l, (q : Int) ≠ lsI l → g q = f q) → (∀ q ∈ l, (q : Int) = lsI l → g q = (p : Int)) → lk g (if l = [] then (p : Int) else h) (l ++ [p])
  | [], _, _, _, _, _ => ⟨rfl, hp⟩
  | [q], h, a, hn, _, e => ⟨a.1, e q (List.mem_cons_self) rfl, hp⟩
  | q :: r :: l, h, a, hn, o, e => by
    have nd := lk_nd a
    rw [List.nodup_cons] at nd
    have hq : (q : Int) ≠ lsI (q :: r :: l) := fun w => by
      have : ∀ (m : List Nat) (y : Nat), lsI (y :: m) = (q : Int) → q ∈ y :: m := by
        intro m
        induction m with
        | nil => intro y w; have : q = y := by have w : (y : Int) = q := w; omega
                 rw [this]; exact List.mem_cons_self
        | cons z m ih => intro y w; exact List.mem_cons_of_mem _ (ih z w)
      exact nd.1 (this l r w.symm)
    refine ⟨a.1, ?_⟩
    have := lk_snoc hp a.2 (fun w => hn (List.mem_cons_of_mem _ w)) (fun y hy w => o y (List.mem_cons_of_mem _ hy) w) (fun y hy w => e y (List.mem_cons_of_mem _ hy) w)
    rw [if_neg (by simp)] at this
    rw [o q (List.mem_cons_self) hq]
    exact this
/-- tables of V: their places P, the buckets' places B -/
def hpI (cf cl cn cc ch ct ck kk : Nat) (hb : Int32 → Int32 → Int64 → Nat) (U : Nat) (σ : lj_S) (V : Nat → Prop) (P B : Nat → List Nat) : Prop :=
  (∀ t, V t → lk (lv σ cn) (lv σ cf t) (P t) ∧ lv σ cl t = lsI (P t)) ∧
  (∀ b, b < 4096 → lk (lv σ cc) (lv σ ch b) (B b) ∧ ∀ p ∈ B b, (∃ t, V t ∧ p ∈ P t) ∧ hb (σ.1 ct p) (σ.1 ck p) (σ.2 kk p) = b) ∧
  (∀ t, V t → ∀ p ∈ P t, p < U ∧ σ.1 ct p = Int32.ofNat t ∧ p ∈ B (hb (σ.1 ct p) (σ.1 ck p) (σ.2 kk p)) ∧ ∀ p' ∈ P t, σ.1 ck p = σ.1 ck p' → σ.2 kk p = σ.2 kk p' → p = p')
/-- whoever has a key lies in its bucket -/
theorem hp_find {cf cl cn cc ch ct ck kk : Nat} {hb : Int32 → Int32 → Int64 → Nat} {U : Nat} {σ : lj_S} {V : Nat → Prop} {P B : Nat → List Nat} (h : hpI cf cl cn cc ch ct ck kk hb U σ V P B) {t : Nat} (ht : V t) (hM : ∀ t, V t → t < 2147483648) (hbl : ∀ a b c, hb a b c < 4096) (k : Int32) (x : Int64) (p : Nat) : (p ∈ B (hb (Int32.ofNat t) k x) ∧ σ.1 ct p = Int32.ofNat t ∧ σ.1 ck p = k ∧ σ.2 kk p = x) ↔ (p ∈ P t ∧ σ.1 ck p = k ∧ σ.2 kk p = x) := by
  constructor
  · rintro ⟨a1, a2, a3, a4⟩
    obtain ⟨⟨t', ht', hp⟩, _⟩ := (h.2.1 _ (hbl _ _ _)).2 p a1
    have e := (h.2.2 t' ht' p hp).2.1
    rw [a2] at e
    have : t = t' := (ofN_eq (hM _ ht) (hM _ ht')).1 e
    rw [this]
    exact ⟨hp, a3, a4⟩
  · rintro ⟨a1, a2, a3⟩
    obtain ⟨_, e1, e2, _⟩ := h.2.2 t ht p a1
    rw [e1, a2, a3] at e2
    exact ⟨e2, e1, a2, a3⟩
/-- a pair more -/
theorem hp_ins {cf cl cn cc ch ct ck kk : Nat} {hb : Int32 → Int32 → Int64 → Nat} {U : Nat} {σ σ' : lj_S} {V : Nat → Prop} {P B : Nat → List Nat} (h : hpI cf cl cn cc ch ct ck kk hb U σ V P B) (hU : U ≤ 4000) (hM : ∀ t, V t → t < 2147483648) {t : Nat} (ht : V t) (hbl : ∀ a b c, hb a b c < 4096) {p : Nat} (hp : p < U) (hfr : ∀ t', V t' → p ∉ P t') {k : Int32} {x : Int64} (hk : ∀ q ∈ P t, ¬ (σ.1 ck q = k ∧ σ.2 kk q = x))
    (oF : ∀ j, j ≠ t → σ'.1 cf j = σ.1 cf j) (eF : lv σ' cf t = if P t = [] then (p : Int) else lv σ cf t) (oL : ∀ j, j ≠ t → σ'.1 cl j = σ.1 cl j) (eL : σ'.1 cl t = Int32.ofNat p) (oN : ∀ j, j ≠ p → (j : Int) ≠ lsI (P t) → σ'.1 cn j = σ.1 cn j) (eN : σ'.1 cn p = -1) (eN' : ∀ j : Nat, (j : Int) = lsI (P t) → σ'.1 cn j = Int32.ofNat p) (oC : ∀ j, j ≠ p → σ'.1 cc j = σ.1 cc j) (eC : σ'.1 cc p = σ.1 ch (hb (Int32.ofNat t) k x)) (oH : ∀ j, j ≠ hb (Int32.ofNat t) k x → σ'.1 ch j = σ.1 ch j) (eH : σ'.1 ch (hb (Int32.ofNat t) k x) = Int32.ofNat p) (oT : ∀ j, j ≠ p → σ'.1 ct j = σ.1 ct j ∧ σ'.1 ck j = σ.1 ck j ∧ σ'.2 kk j = σ.2 kk j) (eT : σ'.1 ct p = Int32.ofNat t ∧ σ'.1 ck p = k ∧ σ'.2 kk p = x) :
    hpI cf cl cn cc ch ct ck kk hb U σ' V (fun j => if j = t then P t ++ [p] else P j) (fun j => if j = hb (Int32.ofNat t) k x then p :: B j else B j) := by
  have lp : ((Int32.ofNat p).toInt : Int) = (p : Int) := lz_lit (by omega)
  refine ⟨fun j hj => ?_, fun c hc => ?_, fun j hj q hq => ?_⟩
  · have hj1 := h.1 j hj
    show lk (lv σ' cn) (lv σ' cf j) (if j = t then P t ++ [p] else P j) ∧ lv σ' cl j = lsI (if j = t then P t ++ [p] else P j)
    by_cases e : j = t
    · subst e
      rw [if_pos rfl]
      refine ⟨?_, by rw [lsI_app]; unfold lv; rw [eL]; exact lp⟩
      rw [eF]
      exact lk_snoc (by unfold lv; rw [eN]; rfl) hj1.1 (hfr j hj) (fun q hq w => by unfold lv; rw [oN q (fun e => hfr j hj (by rw [← e]; exact hq)) w]) (fun q hq w => by unfold lv; rw [eN' q w]; exact lp)
    · rw [if_neg e]
      refine ⟨?_, by unfold lv; rw [oL j e]; exact hj1.2⟩
      have : lv σ' cf j = lv σ cf j := by unfold lv; rw [oF j e]
      rw [this]
      refine lk_cong (fun q hq => ?_) hj1.1
      unfold lv
      rw [oN q (fun e' => hfr j hj (by rw [← e']; exact hq)) (fun w => ?_)]
      -- the last one of another row
      have hm : q ∈ P t := by
        cases hP : P t with
        | nil => rw [hP] at w; have w : (q : Int) = -1 := w; omega
        | cons y r =>
          rw [hP] at w
          have : ∀ (m : List Nat) (y : Nat), (q : Int) = lsI (y :: m) → q ∈ y :: m := by
            intro m
            induction m with
            | nil => intro y w; have w : (q : Int) = (y : Int) := w; have : q = y := by omega
                     rw [this]; exact List.mem_cons_self
            | cons z m ih => intro y w; exact List.mem_cons_of_mem _ (ih z w)
          exact this r y w
      have e1 := (h.2.2 j hj q hq).2.1
      have e2 := (h.2.2 t ht q hm).2.1
      rw [e1] at e2
      exact e ((ofN_eq (hM _ hj) (hM _ ht)).1 e2)
  · have hc1 := h.2.1 c hc
    have np : ∀ q ∈ B c, q ≠ p := fun q hq e' => by
      obtain ⟨⟨t', ht', hq'⟩, _⟩ := hc1.2 q hq
      exact hfr t' ht' (by rw [← e']; exact hq')
    have old : ∀ q ∈ B c, (∃ t', V t' ∧ q ∈ (if t' = t then P t ++ [p] else P t')) ∧ hb (σ'.1 ct q) (σ'.1 ck q) (σ'.2 kk q) = c := fun q hq => by
      obtain ⟨⟨t', ht', hq'⟩, e'⟩ := hc1.2 q hq
      obtain ⟨o1, o2, o3⟩ := oT q (np q hq)
      refine ⟨⟨t', ht', ?_⟩, by rw [o1, o2, o3]; exact e'⟩
      by_cases w : t' = t
      · rw [if_pos w]; rw [w] at hq'; exact List.mem_append_left _ hq'
      · rw [if_neg w]; exact hq'
    have lkc : ∀ {h0 : Int}, lk (lv σ cc) h0 (B c) → lk (lv σ' cc) h0 (B c) := lk_cong (fun q hq => by unfold lv; rw [oC q (np q hq)])
    show lk (lv σ' cc) (lv σ' ch c) (if c = hb (Int32.ofNat t) k x then p :: B c else B c) ∧ ∀ q ∈ (if c = hb (Int32.ofNat t) k x then p :: B c else B c), (∃ t', V t' ∧ q ∈ (if t' = t then P t ++ [p] else P t')) ∧ hb (σ'.1 ct q) (σ'.1 ck q) (σ'.2 kk q) = c
    by_cases e : c = hb (Int32.ofNat t) k x
    · rw [if_pos e]
      refine ⟨⟨by unfold lv; rw [e, eH]; exact lp, ?_⟩, fun q hq => ?_⟩
      · have : lv σ' cc p = lv σ ch c := by unfold lv; rw [eC, e]
        rw [this]
        exact lkc hc1.1
      · rcases List.mem_cons.1 hq with w | w
        · rw [w]
          refine ⟨⟨t, ht, ?_⟩, by rw [eT.1, eT.2.1, eT.2.2]; exact e.symm⟩
          rw [if_pos rfl]
          exact List.mem_append_right _ (List.mem_singleton.2 rfl)
        · exact old q w
    · rw [if_neg e]
      refine ⟨?_, old⟩
      have : lv σ' ch c = lv σ ch c := by unfold lv; rw [oH c e]
      rw [this]
      exact lkc hc1.1
  · have hq : q ∈ (if j = t then P t ++ [p] else P j) := hq
    have keep : ∀ q' ∈ P j, q' < U ∧ σ'.1 ct q' = Int32.ofNat j ∧ (σ'.1 ct q' = σ.1 ct q' ∧ σ'.1 ck q' = σ.1 ck q' ∧ σ'.2 kk q' = σ.2 kk q') ∧ q' ∈ (if hb (σ'.1 ct q') (σ'.1 ck q') (σ'.2 kk q') = hb (Int32.ofNat t) k x then p :: B (hb (σ'.1 ct q') (σ'.1 ck q') (σ'.2 kk q')) else B (hb (σ'.1 ct q') (σ'.1 ck q') (σ'.2 kk q'))) := fun q' hq' => by
      obtain ⟨a1, a2, a3, _⟩ := h.2.2 j hj q' hq'
      have ne : q' ≠ p := fun e' => hfr j hj (by rw [← e']; exact hq')
      obtain ⟨o1, o2, o3⟩ := oT q' ne
      refine ⟨a1, by rw [o1]; exact a2, ⟨o1, o2, o3⟩, ?_⟩
      rw [o1, o2, o3]
      split
      · exact List.mem_cons_of_mem _ a3
      · exact a3
    show q < U ∧ σ'.1 ct q = Int32.ofNat j ∧ q ∈ (if hb (σ'.1 ct q) (σ'.1 ck q) (σ'.2 kk q) = hb (Int32.ofNat t) k x then p :: B (hb (σ'.1 ct q) (σ'.1 ck q) (σ'.2 kk q)) else B (hb (σ'.1 ct q) (σ'.1 ck q) (σ'.2 kk q))) ∧ ∀ p' ∈ (if j = t then P t ++ [p] else P j), σ'.1 ck q = σ'.1 ck p' → σ'.2 kk q = σ'.2 kk p' → q = p'
    by_cases e : j = t
    · subst e
      rw [if_pos rfl] at hq ⊢
      rcases List.mem_append.1 hq with w | w
      · obtain ⟨a1, a2, ⟨o1, o2, o3⟩, a3⟩ := keep q w
        refine ⟨a1, a2, a3, fun p' hp' u1 u2 => ?_⟩
        rcases List.mem_append.1 hp' with w' | w'
        · obtain ⟨_, _, ⟨_, o2', o3'⟩, _⟩ := keep p' w'
          exact (h.2.2 j hj q w).2.2.2 p' w' (by rw [← o2, ← o2']; exact u1) (by rw [← o3, ← o3']; exact u2)
        · rw [List.mem_singleton.1 w', eT.2.1] at u1
          rw [List.mem_singleton.1 w', eT.2.2] at u2
          exact absurd ⟨by rw [← o2]; exact u1, by rw [← o3]; exact u2⟩ (hk q w)
      · rw [List.mem_singleton.1 w]
        refine ⟨hp, eT.1, by rw [eT.1, eT.2.1, eT.2.2, if_pos rfl]; exact List.mem_cons_self, fun p' hp' u1 u2 => ?_⟩
        rcases List.mem_append.1 hp' with w' | w'
        · obtain ⟨_, _, ⟨_, o2', o3'⟩, _⟩ := keep p' w'
          rw [eT.2.1, o2'] at u1
          rw [eT.2.2, o3'] at u2
          exact absurd ⟨u1.symm, u2.symm⟩ (hk p' w')
        · exact (List.mem_singleton.1 w').symm
    · rw [if_neg e] at hq ⊢
      obtain ⟨a1, a2, ⟨o1, o2, o3⟩, a3⟩ := keep q hq
      refine ⟨a1, a2, a3, fun p' hp' u1 u2 => ?_⟩
      obtain ⟨_, _, ⟨_, o2', o3'⟩, _⟩ := keep p' hp'
      exact (h.2.2 j hj q hq).2.2.2 p' hp' (by rw [← o2, ← o2']; exact u1) (by rw [← o3, ← o3']; exact u2)
