/-! lengths, events and new objects of both machines -/
theorem i64_succ {k : Nat} (h : k < 2147483647) : i64 k + 1 = i64 (k + 1) := lg_ext (by
  have e : (1 : Int64).toInt = 1 := by decide
  rw [Int64.toInt_add, i64_int (by omega), i64_int (by omega), e, Int.bmod_eq_of_le] <;> omega)
theorem hsC.g {σ : lj_S} {V : Nat → Prop} {P B : Nat → List Nat} {Fr : List Nat} (h : hsC σ V P B Fr) (u : vT) : hsC (fdC σ u) V P B Fr := by
  have l : ∀ k j, ¬ (k = 7 ∧ j = 27) → lv (fdC σ u) k j = lv σ k j := fun k j w => by unfold lv; rw [fdC_1, if_neg w]
  refine ⟨hpC_cg h.1 (fun k j q => by rw [fdC_1, if_neg (by omega)]) (fun j => by rw [fdC_2, if_neg (by omega)]), ⟨?_, by rw [l 7 11 (by omega)]; exact h.2.1.2.1, h.2.1.2.2⟩, fun t ht => by rw [l 61 t (by omega)]; exact h.2.2 t ht⟩
  have : lv (fdC σ u) 70 = lv σ 70 := by funext j; exact l 70 j (by omega)
  rw [this, l 7 12 (by omega)]
  exact h.2.1.1
theorem enC_g (σ : lj_S) (u : vT) : enC (fdC σ u) = enC σ := by
  funext p
  unfold enC
  rw [fdC_1, if_neg (by omega), fdC_1, if_neg (by omega), fdC_2, if_neg (by omega), fdC_2, if_neg (by omega)]
theorem sR.g {σ τ : lj_S} {X : List Int32 → Prop} (h : sR σ τ X) (u w : vT) : sR (fdC σ u) (fdM τ w) X := h.cg
  (fun k j q => by rw [fdC_1, if_neg (by rintro ⟨rfl, rfl⟩; exact absurd q (by decide))])
  (fun k j q => by rw [fdM_1, if_neg (by rintro ⟨rfl, rfl⟩; exact absurd q (by decide))])
theorem sM.g {σ τ : lj_S} (h : sM σ τ) (u w : vT) : sM (fdC σ u) (fdM τ w) := h.cg
  (fun k j q => by rw [fdC_1, if_neg (by rintro ⟨rfl, rfl⟩; exact absurd q (by decide))])
  (fun k j q => by rw [fdM_1, if_neg (by rintro ⟨rfl, rfl⟩; exact absurd q (by decide))])
/-- the length: both count up; so many places as numbers found -/
theorem cm_len_loop {X : List Int32 → Prop} {n t : Nat} (ht : t ≤ n) (hn : n ≤ 2000) {P B : Nat → List Nat} {Fr : List Nat} (σ τ : lj_S) : ∀ (d k : Nat) (L : List Nat) (σ1 τ1 : lj_S), d + k = 3001 → L.length = k → L.Nodup → (∀ p ∈ L, p ∈ P t ∧ ∃ i : Nat, i ≤ k ∧ (enC σ p).1 = (2, i64 i)) → sR σ1 τ1 X → hpR σ1 τ1 n → hsC σ1 (· ≤ n) P B Fr → enC σ1 = enC σ → (∀ u, fdC σ1 u = fdC σ u) → (∀ u, fdM τ1 u = fdM τ u) →
    ∃ m, m ≤ 3000 ∧ lj_D lc_P lc_M119 2 [.ref 7, .int (Int32.ofNat t), .long (i64 k), .retAddr 0] [] σ1 = some (.inl (some (.long (i64 m))), fdC σ (0, 0)) ∧ lj_bv (lj_R lm_P 123 [.ref 0, .int (Int32.ofNat (tm t)), .int 2, .long (i64 k + 1)] τ1) (fun s => lj_D lm_P lm_M166 9 [.ref 0, .int (Int32.ofNat (tm t)), .long (i64 k), .retAddr 0] [] s) lj_up = some (.inl (some (.long (i64 m))), fdM τ (0, 0))
  | 0, k, L, σ1, τ1, hd, hL, hnd, hp, _, _, hc, _, _, _ => by
    have := nd_le 3000 L hnd (fun q hq => (hc.1.2.2 t ht q (hp q hq).1).1)
    omega
  | d + 1, k, L, σ1, τ1, hd, hL, hnd, hp, hs, hh, hc, he, gc, gm => by
    have k3 : k ≤ 3000 := by omega
    obtain ⟨u, w, a1, a2, a3⟩ := cm_get hs hh ht (vR_whole σ1 τ1 (i64 k + 1))
    have a2 : lj_R lc_P 117 [.ref 7, .int (Int32.ofNat t), .int 2, .long (i64 k + 1)] σ1 = _ := a2
    have a3 : lj_R lm_P 123 [.ref 0, .int (Int32.ofNat (tm t)), .int 2, .long (i64 k + 1)] τ1 = _ := a3
    by_cases u0 : u.1 = 0
    · obtain ⟨e1, e2⟩ := a1.nil u0
      refine ⟨k, k3, ?_, ?_⟩
      · rw [kc_119_2, a2, bi_ok, if_pos (by rw [if_pos u0]), gc, e1]
      · rw [a3, bv_ok, km_166_9, if_pos (by rw [fdM_1, if_pos ⟨rfl, rfl⟩, e2]), gm, e2]
    · have w0 : ¬ (w.1 = 0) := fun z => u0 (a1.k0.2 z)
      -- the place that was found
      have hpl : ∃ p ∈ P t, (enC σ p).1 = (2, i64 (k + 1)) := by
        rcases c_hget hc.1 (fun t ht => by have ht : t ≤ n := ht; omega) ht 2 (i64 k + 1) with ⟨p, p1, p2, _⟩ | ⟨_, r⟩
        · exact ⟨p, p1, by rw [← he, p2, i64_succ (by omega)]⟩
        · rw [a2] at r
          have r : some (Sum.inl (some (Value.int (if u.1 = 0 then 0 else 1))), fdC σ1 u) = _ := r
          injection r with r
          have := congrArg Prod.fst r
          injection this with this
          injection this with this
          injection this with this
          rw [if_neg u0] at this
          exact absurd this (by decide)
      obtain ⟨p, p1, p2⟩ := hpl
      have pL : p ∉ L := fun z => by
        obtain ⟨_, i, i1, i2⟩ := hp p z
        rw [p2] at i2
        have := i64_inj (by omega) (by omega) (congrArg Prod.snd i2)
        omega
      obtain ⟨m, m1, m2, m3⟩ := cm_len_loop ht hn σ τ d (k + 1) (p :: L) (fdC σ1 u) (fdM τ1 w) (by omega) (by rw [List.length_cons, hL]) (List.nodup_cons.2 ⟨pL, hnd⟩) (fun q hq => by
        rcases List.mem_cons.1 hq with e | e
        · rw [e]; exact ⟨p1, k + 1, Nat.le_refl _, p2⟩
        · obtain ⟨b1, i, i1, i2⟩ := hp q e
          exact ⟨b1, i, by omega, i2⟩) (hs.g u w) (hh.g u w) (hc.g u) (by rw [enC_g, he]) (fun v => by rw [fdC_fdC, gc]) (fun v => by rw [fdM_fdM, gm])
      refine ⟨m, m1, ?_, ?_⟩
      · rw [kc_119_2, a2, bi_ok, if_neg (by rw [if_neg u0]; decide), i64_succ (by omega)]
        exact m2
      · rw [a3, bv_ok, km_166_9, if_neg (by rw [fdM_1, if_pos ⟨rfl, rfl⟩]; exact w0), i64_succ (by omega)]
        exact m3
theorem cm_len {σ τ : lj_S} {X : List Int32 → Prop} (hs : sR σ τ X) {n : Nat} (h : hpR σ τ n) {t : Nat} (ht : t ≤ n) : ∃ m, m ≤ 3000 ∧ lj_R lc_P 119 [.ref 7, .int (Int32.ofNat t)] σ = some (.inl (some (.long (i64 m))), fdC σ (0, 0)) ∧ lj_R lm_P 166 [.ref 0, .int (Int32.ofNat (tm t))] τ = some (.inl (some (.long (i64 m))), fdM τ (0, 0)) := by
  have h0 := h
  obtain ⟨h1, h2, h3, P, B, Fr, P', B', Fr', hc, hm, hl, he⟩ := h
  obtain ⟨m, m1, m2, m3⟩ := cm_len_loop ht h1 (P := P) (B := B) (Fr := Fr) σ τ 3001 0 [] σ τ rfl rfl List.nodup_nil (fun p hp => by cases hp) hs h0 hc rfl (fun _ => rfl) (fun _ => rfl)
  refine ⟨m, m1, ?_, ?_⟩
  · rw [rc_119, kc_119_0]
    exact m2
  · rw [rm_166, km_166_0]
    exact m3
/-- objects of both: kinds, what they belong to -/
def obR (σ τ : lj_S) (n : Nat) : Prop := σ.1 58 0 = -1 ∧ ∀ o : Nat, 1 ≤ o → o ≤ n →
  (σ.1 57 o = τ.1 38 o ∧ (σ.1 57 o = 0 ∨ σ.1 57 o = 4 ∨ σ.1 57 o = 5 ∨ σ.1 57 o = 6)) ∧
  (σ.1 57 o = 4 → (σ.1 58 o = -1 ∧ τ.1 39 o = 0 ∨ ∃ m : Nat, obA σ τ m 4 ∧ σ.1 58 o = Int32.ofNat m ∧ τ.1 39 o = Int32.ofNat m)) ∧
  (σ.1 57 o = 5 → ∃ f : Nat, f < 51 ∧ σ.1 62 o = Int32.ofNat f ∧ τ.1 43 o = Int32.ofNat f) ∧
  (σ.1 57 o = 6 → ∃ p : Nat, 1 ≤ p ∧ p < 26 ∧ σ.1 64 o = Int32.ofNat p ∧ τ.1 43 o = Int32.ofNat p)
/-- the event of a value -/
theorem cm_event {σ τ : lj_S} {X : List Int32 → Prop} (hs : sR σ τ X) {n : Nat} (h : hpR σ τ n) (ho : obR σ τ n) {a b : vT} (hab : vR σ τ a b) {x y : Int32} (hxy : sEi σ τ x y) :
    ∃ u w : vT, vR σ τ u w ∧ lj_R lc_P 118 [.ref 7, .int a.1, .long a.2, .int x] σ = some (.inl (some (.int (if u.1 = 0 then 0 else 1))), fdC σ u) ∧ lj_R lm_P 130 [.ref 0, .int b.1, .long b.2, .int y] τ = some (.inl none, fdM τ w) := by
  by_cases k : a.1 = 4
  · obtain ⟨o, e1, e2, ob⟩ := hab.tb k
    obtain ⟨o1, o2, o3, o4, o5⟩ := ob
    have on : o ≤ n := by have := h.2.1; omega
    have it : lj_in (Int32.ofNat o) 2001 := ofN_in (by omega) (by omega)
    have im : lj_in (Int32.ofNat o) 2002 := ofN_in (by omega) (by omega)
    rw [e1, e2, rc_118, rm_130, kc_118_0, km_130_0, if_pos rfl, if_pos rfl]
    show ∃ u w : vT, vR σ τ u w ∧ (if lj_in (i64 o).toInt32 2001 then _ else _) = _ ∧ (if lj_in (i64 o).toInt32 2002 then _ else _) = _
    simp only [i64_32, if_pos it, if_pos im, lz_onat (show o < 2147483648 by omega)]
    rcases (ho.2 o o1 on).2.1 o4 with ⟨m1, m2⟩ | ⟨m, ma, m1, m2⟩
    · refine ⟨(0, 0), (0, 0), vR_nil _ _, ?_, ?_⟩
      · rw [m1, if_neg (by decide), kc_118_15]; rfl
      · rw [m2, if_pos (by decide), km_130_33, km_130_43]; rfl
    · obtain ⟨s, s', u1, u2, e3, e4, e5⟩ := hxy
      have mn : m ≤ n := by have := ma.2.2.1; have := h.2.1; omega
      obtain ⟨u, w, a1, a2, a3⟩ := cm_get hs h mn (vR_str e5 u1 u2)
      have m0 : m ≠ 0 := by have := ma.1; omega
      have a3 : lj_R lm_P 123 [.ref 0, .int (Int32.ofNat (if m = 0 then 2001 else m)), .int 3, .long (i64 s')] τ = _ := a3
      rw [if_neg m0] at a3
      have a2 : lj_R lc_P 117 [.ref 7, .int (Int32.ofNat m), .int 3, .long (i64 s)] σ = _ := a2
      refine ⟨u, w, a1, ?_, ?_⟩
      · rw [m1, if_pos (by rw [lz_le, lz_lit (by have := ma.2.1; omega)]; show (0 : Int) ≤ _; omega), e3, a2, bi_ok]
        by_cases z : u.1 = 0
        · rw [if_pos z]; rfl
        · rw [if_neg z]; rfl
      · rw [m2, if_neg (by rw [lz_le, lz_lit (by have := ma.2.1; omega)]; show ¬ (_ ≤ (0 : Int)); omega), e4, a3, bv_ok, km_130_43]
  · have k' : ¬ (b.1 = 4) := fun z => k ((hab.kk (by decide) (by decide)).2 z)
    refine ⟨(0, 0), (0, 0), vR_nil _ _, ?_, ?_⟩
    · rw [rc_118, kc_118_0, if_neg k, kc_118_15]; rfl
    · rw [rm_130, km_130_0, if_neg k', km_130_33, km_130_43]; rfl
/-- one more table without places -/
theorem hp_new {cf cl cn cc ch ct ck kk : Nat} {hb : Int32 → Int32 → Int64 → Nat} {U : Nat} {σ σ' : lj_S} {V V' : Nat → Prop} {P B : Nat → List Nat} (h : hpI cf cl cn cc ch ct ck kk hb U σ V P B) {m : Nat} (hV : ∀ t, V' t → V t ∨ t = m) (hV2 : ∀ t, V t → V' t) (hm : ¬ V m) (oF : ∀ j, j ≠ m → σ'.1 cf j = σ.1 cf j) (eF : σ'.1 cf m = -1) (oL : ∀ j, j ≠ m → σ'.1 cl j = σ.1 cl j) (eL : σ'.1 cl m = -1) (oN : ∀ j, σ'.1 cn j = σ.1 cn j) (oC : ∀ j, σ'.1 cc j = σ.1 cc j) (oH : ∀ j, σ'.1 ch j = σ.1 ch j) (oT : ∀ j, σ'.1 ct j = σ.1 ct j ∧ σ'.1 ck j = σ.1 ck j ∧ σ'.2 kk j = σ.2 kk j) :
    hpI cf cl cn cc ch ct ck kk hb U σ' V' (fun j => if j = m then [] else P j) B := by
  have l1 : lv σ' cn = lv σ cn := by funext j; unfold lv; rw [oN]
  have l2 : lv σ' cc = lv σ cc := by funext j; unfold lv; rw [oC]
  have l3 : lv σ' ch = lv σ ch := by funext j; unfold lv; rw [oH]
  refine ⟨fun t ht => ?_, fun b hb' => ?_, fun t ht p hp => ?_⟩
  · show lk _ _ (if t = m then [] else P t) ∧ _ = lsI (if t = m then [] else P t)
    by_cases e : t = m
    · rw [if_pos e, e]
      refine ⟨?_, ?_⟩
      · show lv σ' cf m = -1
        unfold lv; rw [eF]; rfl
      · show lv σ' cl m = -1
        unfold lv; rw [eL]; rfl
    · have hv := (hV t ht).resolve_right e
      rw [if_neg e, l1]
      have e1 : lv σ' cf t = lv σ cf t := by unfold lv; rw [oF t e]
      have e2 : lv σ' cl t = lv σ cl t := by unfold lv; rw [oL t e]
      rw [e1, e2]
      exact h.1 t hv
  · rw [l2, l3]
    refine ⟨(h.2.1 b hb').1, fun p hp => ?_⟩
    obtain ⟨⟨t, t1, t2⟩, e⟩ := (h.2.1 b hb').2 p hp
    obtain ⟨o1, o2, o3⟩ := oT p
    refine ⟨⟨t, hV2 t t1, ?_⟩, by rw [o1, o2, o3]; exact e⟩
    show p ∈ (if t = m then [] else P t)
    rw [if_neg (fun z => hm (by rw [← z]; exact t1))]
    exact t2
  · have hp : p ∈ (if t = m then [] else P t) := hp
    by_cases e : t = m
    · rw [if_pos e] at hp; cases hp
    · rw [if_neg e] at hp
      have hv := (hV t ht).resolve_right e
      obtain ⟨a1, a2, a3, a4⟩ := h.2.2 t hv p hp
      obtain ⟨o1, o2, o3⟩ := oT p
      refine ⟨a1, by rw [o1]; exact a2, by rw [o1, o2, o3]; exact a3, fun p' hp' u1 u2 => ?_⟩
      have hp' : p' ∈ (if t = m then [] else P t) := hp'
      rw [if_neg e] at hp'
      obtain ⟨_, o5, o6⟩ := oT p'
      exact a4 p' hp' (by rw [← o2, ← o5]; exact u1) (by rw [← o3, ← o6]; exact u2)
/-- the states of both with a new object of a kind -/
def cOb (σ : lj_S) (m : Nat) (k : Int32) : lj_S := lj_put (lj_put (lj_put (lj_put (lj_put (lj_put (lj_put (lj_put σ 7 0 (Int32.ofNat m)) 57 m 4) 58 m (-1)) 59 m (-1)) 60 m (-1)) 61 m 0) 65 m 0) 57 m k
def mOb (τ : lj_S) (m : Nat) (k : Int32) : lj_S := lj_putL (lj_put (lj_put (lj_put (lj_put (lj_put τ 0 77 (Int32.ofNat m)) 38 m k) 39 m 0) 40 m (-1)) 41 m (-1)) 42 m 0
theorem cOb_1 (σ : lj_S) (m : Nat) (k : Int32) (a j : Nat) : (cOb σ m k).1 a j = if a = 57 ∧ j = m then k else if a = 65 ∧ j = m then 0 else if a = 61 ∧ j = m then 0 else if a = 60 ∧ j = m then -1 else if a = 59 ∧ j = m then -1 else if a = 58 ∧ j = m then -1 else if a = 57 ∧ j = m then 4 else if a = 7 ∧ j = 0 then Int32.ofNat m else σ.1 a j := by
  unfold cOb
  simp only [lj_put_1]
theorem cOb_2 (σ : lj_S) (m : Nat) (k : Int32) : (cOb σ m k).2 = σ.2 := rfl
theorem mOb_1 (τ : lj_S) (m : Nat) (k : Int32) (a j : Nat) : (mOb τ m k).1 a j = if a = 41 ∧ j = m then -1 else if a = 40 ∧ j = m then -1 else if a = 39 ∧ j = m then 0 else if a = 38 ∧ j = m then k else if a = 0 ∧ j = 77 then Int32.ofNat m else τ.1 a j := by
  unfold mOb
  simp only [lj_put_1, lj_putL_1]
theorem mOb_2 (τ : lj_S) (m : Nat) (k : Int32) (a j : Nat) : (mOb τ m k).2 a j = if a = 42 ∧ j = m then 0 else τ.2 a j := by
  unfold mOb
  rw [lj_putL_2]
  rfl
theorem cm_object {σ τ : lj_S} {n : Nat} (h : hpR σ τ n) (k : Int32) :
    (n = 2000 ∧ lj_R lc_P 116 [.ref 7, .int k] σ = some (.inr 2, lj_put σ 2 6 1) ∧ lj_R lm_P 111 [.ref 0, .int k] τ = some (.inl (some (.int 0)), lj_put τ 0 143 4)) ∨
    (n < 2000 ∧ lj_R lc_P 116 [.ref 7, .int k] σ = some (.inl (some (.int (Int32.ofNat (n + 1)))), cOb σ (n + 1) k) ∧ lj_R lm_P 111 [.ref 0, .int k] τ = some (.inl (some (.int (Int32.ofNat (n + 1)))), mOb τ (n + 1) k) ∧ hpR (cOb σ (n + 1) k) (mOb τ (n + 1) k) (n + 1) ∧ sG σ τ (cOb σ (n + 1) k) (mOb τ (n + 1) k) ∧ oG σ τ (cOb σ (n + 1) k) (mOb τ (n + 1) k)) := by
  obtain ⟨h1, h2, h3, P, B, Fr, P', B', Fr', hc, hm, hl, he⟩ := h
  have e1 : σ.1 7 0 = Int32.ofNat n := lz_ext (by rw [lz_lit (by omega)]; exact h2)
  have e2 : τ.1 0 77 = Int32.ofNat n := lz_ext (by rw [lz_lit (by omega)]; exact h3)
  have n20 : (Int32.ofNat n = 2000) ↔ n = 2000 := ofN_eq (c := 2000) (by omega) (by omega)
  by_cases w : n = 2000
  · refine Or.inl ⟨w, ?_, ?_⟩
    · rw [rc_116, kc_116_0, e1, if_pos (n20.2 w), c_20 _ (Or.inr rfl), br_ok]; rfl
    · rw [rm_111, km_111_0, e2, if_pos (n20.2 w)]
  · have n2 : n < 2000 := by omega
    have it : lj_in (Int32.ofNat (n + 1)) 2001 := ofN_in (by omega) (by omega)
    have im : lj_in (Int32.ofNat (n + 1)) 2002 := ofN_in (by omega) (by omega)
    have oC : ∀ a j, ¬ (a = 7 ∧ j = 0) → ¬ ((57 ≤ a ∧ a ≤ 61 ∨ a = 65) ∧ j = n + 1) → (cOb σ (n + 1) k).1 a j = σ.1 a j := fun a j w1 w2 => by
      rw [cOb_1]; repeat rw [if_neg (by omega)]
    have oM : ∀ a j, ¬ (a = 0 ∧ j = 77) → ¬ ((38 ≤ a ∧ a ≤ 41) ∧ j = n + 1) → (mOb τ (n + 1) k).1 a j = τ.1 a j := fun a j w1 w2 => by
      rw [mOb_1]; repeat rw [if_neg (by omega)]
    have l70 : lv (cOb σ (n + 1) k) 7 0 = ((n + 1 : Nat) : Int) := by
      unfold lv; rw [cOb_1]; repeat rw [if_neg (by omega)]
      rw [if_pos ⟨rfl, rfl⟩, lz_lit (by omega)]
    have l77 : lv (mOb τ (n + 1) k) 0 77 = ((n + 1 : Nat) : Int) := by
      unfold lv; rw [mOb_1]; repeat rw [if_neg (by omega)]
      rw [if_pos ⟨rfl, rfl⟩, lz_lit (by omega)]
    have g : sG σ τ (cOb σ (n + 1) k) (mOb τ (n + 1) k) := by
      have c7 : lv (cOb σ (n + 1) k) 3 7 = lv σ 3 7 := by unfold lv; rw [oC 3 7 (by omega) (by omega)]
      have m7 : lv (mOb τ (n + 1) k) 0 14 = lv τ 0 14 := by unfold lv; rw [oM 0 14 (by omega) (by omega)]
      exact ⟨by omega, by omega, fun t _ => cS_cong (fun j => oC 9 j (by omega) (by omega)) (fun j => oC 10 j (by omega) (by omega)) (fun j => oC 11 j (by omega) (by omega)) t, fun t _ => mS_cong (fun j => oM 2 j (by omega) (by omega)) (fun j => oM 3 j (by omega) (by omega)) (fun j => oM 4 j (by omega) (by omega)) t⟩
    have o : oG σ τ (cOb σ (n + 1) k) (mOb τ (n + 1) k) := ⟨by rw [l70, h2]; omega, fun o a b c => ⟨oC 57 o (by omega) (by omega), oM 38 o (by omega) (by omega)⟩⟩
    refine Or.inr ⟨n2, ?_, ?_, ⟨by omega, l70, l77, _, B, Fr, _, B', Fr', ⟨hp_new hc.1 (m := n + 1) (fun t ht => ?_) (fun t ht => ?_) (fun z => ?_) (fun j w => oC 59 j (by omega) (by omega)) ?_ (fun j w => oC 60 j (by omega) (by omega)) ?_ (fun j => oC 70 j (by omega) (by omega)) (fun j => oC 72 j (by omega) (by omega)) (fun j => oC 73 j (by omega) (by omega)) (fun j => ⟨oC 71 j (by omega) (by omega), oC 66 j (by omega) (by omega), rfl⟩), ⟨?_, ?_, fun p hp => ⟨(hc.2.1.2.2 p hp).1, fun t ht => ?_⟩⟩, fun t ht => ?_⟩, ⟨hp_new hm.1 (m := n + 1) (fun t ht => ?_) (fun t ht => ?_) (fun z => ?_) (fun j w => oM 40 j (by omega) (by omega)) ?_ (fun j w => oM 41 j (by omega) (by omega)) ?_ (fun j => oM 50 j (by omega) (by omega)) (fun j => oM 51 j (by omega) (by omega)) (fun j => oM 52 j (by omega) (by omega)) (fun j => ⟨oM 49 j (by omega) (by omega), oM 45 j (by omega) (by omega), by rw [mOb_2, if_neg (by omega)]⟩), fsM_cg (fun j => oM 53 j (by omega) (by omega)) hm.2.1, ?_, ?_, hm.2.2.2.2.1, fun p hp => ⟨(hm.2.2.2.2.2 p hp).1, fun t ht => ?_⟩⟩, ⟨hl.1, fun i hi => ?_, fun t ht z => ?_⟩, fun t ht => ?_⟩, g, o⟩
    · rw [rc_116, kc_116_0, e1, if_neg (fun z => w (n20.1 z)), lz_osucc, rc_112, kc_112_0]
      simp only [if_pos it, lz_onat (show n + 1 < 2147483648 by omega), bv_ok]
      have : (lj_put (lj_put (lj_put (lj_put (lj_put (lj_put (lj_put σ 7 0 (Int32.ofNat (n + 1))) 57 (n + 1) 4) 58 (n + 1) (-1)) 59 (n + 1) (-1)) 60 (n + 1) (-1)) 61 (n + 1) 0) 65 (n + 1) (vp_nar .boolean 0)).1 7 0 = Int32.ofNat (n + 1) := by
        rw [lj_put_1, if_neg (by omega), lj_put_1, if_neg (by omega), lj_put_1, if_neg (by omega), lj_put_1, if_neg (by omega), lj_put_1, if_neg (by omega), lj_put_1, if_neg (by omega), lj_put_1, if_pos ⟨rfl, rfl⟩]
      rw [this, if_pos it, lz_onat (by omega)]
      rfl
    · rw [rm_111, km_111_0, e2, if_neg (fun z => w (n20.1 z)), lz_osucc]
      simp only [if_pos im, lz_onat (show n + 1 < 2147483648 by omega)]
      rfl
    · have ht : t ≤ n + 1 := ht
      by_cases z : t = n + 1
      · exact Or.inr z
      · exact Or.inl (show t ≤ n by omega)
    · have ht : t ≤ n := ht
      show t ≤ n + 1
      omega
    · have z : n + 1 ≤ n := z
      omega
    · rw [cOb_1]; repeat rw [if_neg (by omega)]
      rw [if_pos ⟨rfl, rfl⟩]
    · rw [cOb_1]; repeat rw [if_neg (by omega)]
      rw [if_pos ⟨rfl, rfl⟩]
    · have e3 : lv (cOb σ (n + 1) k) 70 = lv σ 70 := by funext j; unfold lv; rw [oC 70 j (by omega) (by omega)]
      have e4 : lv (cOb σ (n + 1) k) 7 12 = lv σ 7 12 := by unfold lv; rw [oC 7 12 (by omega) (by omega)]
      rw [e3, e4]
      exact hc.2.1.1
    · have e4 : lv (cOb σ (n + 1) k) 7 11 = lv σ 7 11 := by unfold lv; rw [oC 7 11 (by omega) (by omega)]
      rw [e4]
      exact hc.2.1.2.1
    · have ht : t ≤ n + 1 := ht
      show p ∉ (if t = n + 1 then [] else _)
      by_cases z : t = n + 1
      · rw [if_pos z]; exact List.not_mem_nil
      · rw [if_neg z]; exact (hc.2.1.2.2 p hp).2 t (show t ≤ n by omega)
    · have ht : t ≤ n + 1 := ht
      show lv _ 61 t = ((if t = n + 1 then [] else _ : List Nat).length : Int)
      by_cases z : t = n + 1
      · rw [if_pos z]
        unfold lv; rw [cOb_1]; repeat rw [if_neg (by omega)]
        rw [if_pos ⟨rfl, z⟩]; rfl
      · rw [if_neg z]
        have e4 : lv (cOb σ (n + 1) k) 61 t = lv σ 61 t := by unfold lv; rw [oC 61 t (by omega) (by omega)]
        rw [e4]
        exact hc.2.2 t (show t ≤ n by omega)
    · rcases ht with z | z
      · exact Or.inl (Or.inl z)
      · by_cases y : t = n + 1
        · exact Or.inr y
        · exact Or.inl (Or.inr ⟨z.1, by omega⟩)
    · rcases ht with z | z
      · exact Or.inl z
      · exact Or.inr ⟨z.1, by omega⟩
    · rcases z with z | z <;> omega
    · rw [mOb_1]; repeat rw [if_neg (by omega)]
      rw [if_pos ⟨rfl, rfl⟩]
    · rw [mOb_1, if_pos ⟨rfl, rfl⟩]
    · have e4 : lv (mOb τ (n + 1) k) 0 88 = lv τ 0 88 := by unfold lv; rw [oM 0 88 (by omega) (by omega)]
      rw [e4]
      exact hm.2.2.1
    · have e4 : lv (mOb τ (n + 1) k) 0 89 = lv τ 0 89 := by unfold lv; rw [oM 0 89 (by omega) (by omega)]
      rw [e4]
      exact hm.2.2.2.1
    · show p ∉ (if t = n + 1 then [] else _)
      by_cases z : t = n + 1
      · rw [if_pos z]; exact List.not_mem_nil
      · rw [if_neg z]
        exact (hm.2.2.2.2.2 p hp).2 t (by rcases ht with y | y
                                          · exact Or.inl y
                                          · exact Or.inr ⟨y.1, by omega⟩)
    · have hi : i ∈ (if 0 = n + 1 then [] else P 0) := hi
      rw [if_neg (by omega)] at hi
      rw [oC 66 i (by omega) (by omega)]
      exact hl.2.1 i hi
    · show (if t = n + 1 then [] else P t) = []
      by_cases y : t = n + 1
      · rw [if_pos y]
      · rw [if_neg y]
        rw [oC 57 t (by omega) (by omega)] at z
        exact hl.2.2 t (by omega) z
    · show eR _ _ _ (if t = n + 1 then [] else P t) (if tm t = n + 1 then [] else P' (tm t))
      by_cases z : t = n + 1
      · have : tm t = n + 1 := by unfold tm; rw [if_neg (by omega)]; exact z
        rw [if_pos z, if_pos this]
        trivial
      · have : ¬ (tm t = n + 1) := fun y => by
          unfold tm at y
          by_cases q : t = 0
          · rw [if_pos q] at y; omega
          · rw [if_neg q] at y; exact z y
        rw [if_neg z, if_neg this]
        have ec : enC (cOb σ (n + 1) k) = enC σ := by funext p; unfold enC; rw [oC 66 p (by omega) (by omega), oC 68 p (by omega) (by omega)]; rfl
        have em : enM (mOb τ (n + 1) k) = enM τ := by funext p; unfold enM; rw [oM 45 p (by omega) (by omega), oM 47 p (by omega) (by omega), mOb_2, if_neg (by omega), mOb_2, if_neg (by omega)]
        rw [ec, em]
        exact eR_up (he t (show t ≤ n by omega)) (fun p _ q _ r => r.mo (fun a b x => x.up g o))
