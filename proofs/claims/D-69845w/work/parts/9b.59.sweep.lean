/-! the gathering: the component's places are swept -/
theorem lk_del {f g : Nat → Int} {q : Nat} {R : List Nat} : ∀ {K : List Nat} {h : Int}, lk f h (K ++ q :: R) → (K ++ q :: R).Nodup → (∀ x, x ∈ K ++ R → (x : Int) ≠ lsI K → g x = f x) → (∀ x ∈ K, (x : Int) = lsI K → g x = f q) → lk g (if K = [] then f q else h) (K ++ R)
  | [], h, a, nd, h1, h2 => by
    rw [if_pos rfl]
    exact lk_cong (fun x hx => (h1 x hx (by show (x : Int) ≠ -1; omega)).symm) a.2
  | [k], h, a, nd, h1, h2 => by
    rw [if_neg (by simp)]
    refine ⟨a.1, ?_⟩
    have nk := (List.nodup_cons.1 nd).1
    show lk g (g k) R
    rw [h2 k List.mem_cons_self rfl]
    exact lk_cong (fun x hx => (h1 x (List.mem_cons_of_mem _ hx) (fun e => nk (by
      have e : (x : Int) = (k : Int) := e
      have : x = k := by omega
      rw [← this]
      exact List.mem_cons_of_mem _ hx))).symm) a.2.2
  | k :: k2 :: K, h, a, nd, h1, h2 => by
    rw [if_neg (by simp)]
    refine ⟨a.1, ?_⟩
    have nk := List.nodup_cons.1 nd
    show lk g (g k) (k2 :: K ++ R)
    rw [h1 k List.mem_cons_self (fun e => nk.1 (List.mem_append_left _ (ls_mem (k2 :: K) k e)))]
    have := lk_del (K := k2 :: K) a.2 nk.2 (fun x hx w => h1 x (List.mem_cons_of_mem _ hx) w) (fun x hx w => h2 x (List.mem_cons_of_mem _ hx) w)
    rw [if_neg (by simp)] at this
    exact this
/-- a place is taken out of its bucket -/
theorem c_unb_loop {σ : lj_S} {q : Nat} (hq : q < 3000) {Y : List Nat} (y2 : Int32) : ∀ (X : List Nat) (x : Nat), lk (lv σ 72) (x : Int) (x :: X ++ q :: Y) → (∀ z ∈ x :: X ++ q :: Y, z < 3000) → (x :: X ++ q :: Y).Nodup → ∃ w : Nat, lsI (x :: X) = (w : Int) ∧ w ∈ x :: X ∧ lj_D lc_P lc_M121 53 [.ref 7, .int (Int32.ofNat q), .int y2, .int (Int32.ofNat x)] [] σ = some (.inl none, lj_put σ 72 w (σ.1 72 q))
  | [], x, a, b, nd => by
    have x3 := b x List.mem_cons_self
    have ix : lj_in (Int32.ofNat x) 3000 := ofN_in (by omega) (by omega)
    have nx : (Int32.ofNat x).toNatClampNeg = x := lz_onat (by omega)
    have iq : lj_in (Int32.ofNat q) 3000 := ofN_in (by omega) (by omega)
    have nq : (Int32.ofNat q).toNatClampNeg = q := lz_onat (by omega)
    have ex : σ.1 72 x = Int32.ofNat q := lz_ext (by rw [lz_lit (by omega)]; exact a.2.1)
    refine ⟨x, rfl, List.mem_cons_self, ?_⟩
    rw [kc_121_53]
    simp only [if_pos ix, nx, if_pos iq, nq, if_pos ex]
  | x' :: X, x, a, b, nd => by
    have x3 := b x List.mem_cons_self
    have x3' := b x' (List.mem_cons_of_mem _ List.mem_cons_self)
    have ix : lj_in (Int32.ofNat x) 3000 := ofN_in (by omega) (by omega)
    have nx : (Int32.ofNat x).toNatClampNeg = x := lz_onat (by omega)
    have nd' := (List.nodup_cons.1 nd).2
    have ex : σ.1 72 x = Int32.ofNat x' := lz_ext (by rw [lz_lit (by omega)]; exact a.2.1)
    have ne : ¬ (σ.1 72 x = Int32.ofNat q) := fun e => by
      rw [ex] at e
      have e := (ofN_eq (by omega) (by omega)).1 e
      exact (List.nodup_cons.1 nd').1 (by rw [e]; exact List.mem_append_right _ List.mem_cons_self)
    have a2 : lk (lv σ 72) (lv σ 72 x) (x' :: X ++ q :: Y) := a.2
    have ex' : lv σ 72 x = (x' : Int) := a.2.1
    rw [ex'] at a2
    obtain ⟨w, w1, w2, w3⟩ := c_unb_loop hq y2 X x' a2 (fun z hz => b z (List.mem_cons_of_mem _ hz)) nd'
    refine ⟨w, w1, List.mem_cons_of_mem _ w2, ?_⟩
    rw [kc_121_53]
    simp only [if_pos ix, nx]
    rw [if_neg ne, ex]
    exact w3
theorem c_unb {σ : lj_S} {q : Nat} (hq : q < 3000) {X Y : List Nat} {b : Nat} (hb : b < 4096) (e : hbC (σ.1 71 q) (σ.1 66 q) (σ.2 67 q) = b) (a : lk (lv σ 72) (lv σ 73 b) (X ++ q :: Y)) (bd : ∀ z ∈ X ++ q :: Y, z < 3000) (nd : (X ++ q :: Y).Nodup) : ∃ k j : Nat, ((X = [] ∧ k = 73 ∧ j = b) ∨ (X ≠ [] ∧ k = 72 ∧ lsI X = (j : Int) ∧ j ∈ X)) ∧ lj_R lc_P 121 [.ref 7, .int (Int32.ofNat q)] σ = some (.inl none, lj_put σ k j (σ.1 72 q)) := by
  have iq : lj_in (Int32.ofNat q) 3000 := ofN_in (by omega) (by omega)
  have nq : (Int32.ofNat q).toNatClampNeg = q := lz_onat (by omega)
  have ib : lj_in (Int32.ofNat b) 4096 := ofN_in (by omega) (by omega)
  have nb : (Int32.ofNat b).toNatClampNeg = b := lz_onat (by omega)
  cases X with
  | nil =>
    have ex : σ.1 73 b = Int32.ofNat q := lz_ext (by rw [lz_lit (by omega)]; exact a.1)
    refine ⟨73, b, Or.inl ⟨rfl, rfl, rfl⟩, ?_⟩
    rw [rc_121, kc_121_0]
    simp only [if_pos iq, nq]
    rw [c_hbkt, bi_ok, e]
    simp only [if_pos ib, nb, if_pos ex]
  | cons x X =>
    have x3 := bd x List.mem_cons_self
    have ex : σ.1 73 b = Int32.ofNat x := lz_ext (by rw [lz_lit (by omega)]; exact a.1)
    have ne : ¬ (σ.1 73 b = Int32.ofNat q) := fun w => by
      rw [ex] at w
      have w := (ofN_eq (by omega) (by omega)).1 w
      exact (List.nodup_cons.1 nd).1 (by rw [w]; exact List.mem_append_right _ List.mem_cons_self)
    obtain ⟨w, w1, w2, w3⟩ := c_unb_loop hq (Int32.ofNat b) X x ⟨rfl, a.2⟩ bd nd
    refine ⟨72, w, Or.inr ⟨by simp, rfl, w1, w2⟩, ?_⟩
    rw [rc_121, kc_121_0]
    simp only [if_pos iq, nq]
    rw [c_hbkt, bi_ok, e]
    simp only [if_pos ib, nb]
    rw [if_neg ne, ex]
    exact w3
def pUp (P : Nat → List Nat) (t : Nat) (L : List Nat) : Nat → List Nat := fun u => if u = t then L else P u
theorem pUp_t (P : Nat → List Nat) (t : Nat) (L : List Nat) : pUp P t L t = L := if_pos rfl
theorem pUp_o (P : Nat → List Nat) {t u : Nat} (L : List Nat) (h : u ≠ t) : pUp P t L u = P u := if_neg h
/-- a pair goes -/
theorem hs_del {σ σ' : lj_S} {V : Nat → Prop} {P B : Nat → List Nat} {Fr : List Nat} (h : hsC σ V P B Fr) (hV : ∀ t, V t → t ≤ 2000) {t q b : Nat} (ht : V t) {K R X Y : List Nat} (hP : P t = K ++ q :: R) (hb : b < 4096) (hB : B b = X ++ q :: Y) (g70 : ∀ x : Nat, x ≠ q → (x : Int) ≠ lsI K → lv σ' 70 x = lv σ 70 x) (k70 : ∀ x ∈ K, (x : Int) = lsI K → lv σ' 70 x = lv σ 70 q) (q70 : lv σ' 70 q = lv σ 7 12) (g59 : ∀ u, lv σ' 59 u = if u = t ∧ K = [] then lv σ 70 q else lv σ 59 u) (g60 : ∀ u, lv σ' 60 u = if u = t then lsI (K ++ R) else lv σ 60 u) (g72 : ∀ x : Nat, (x : Int) ≠ lsI X → lv σ' 72 x = lv σ 72 x) (k72 : ∀ x ∈ X, (x : Int) = lsI X → lv σ' 72 x = lv σ 72 q) (g73 : ∀ c, lv σ' 73 c = if c = b ∧ X = [] then lv σ 72 q else lv σ 73 c) (g12 : lv σ' 7 12 = (q : Int)) (g11 : lv σ' 7 11 = lv σ 7 11 - 1) (g61 : ∀ u, lv σ' 61 u = if u = t then lv σ 61 t - 1 else lv σ 61 u) (c : ∀ k j, k = 66 ∨ k = 71 → σ'.1 k j = σ.1 k j) (c67 : ∀ j, σ'.2 67 j = σ.2 67 j) : hsC σ' V (pUp P t (K ++ R)) (pUp B b (X ++ Y)) (q :: Fr) := by
  obtain ⟨⟨p1, p2, p3⟩, ⟨f1, f2, f3⟩, c61⟩ := h
  have ndP := lk_nd (p1 t ht).1
  rw [hP] at ndP
  have ndB := lk_nd (p2 b hb).1
  rw [hB] at ndB
  have mq : q ∈ P t := by rw [hP]; exact List.mem_append_right _ List.mem_cons_self
  have dis : ∀ u, V u → u ≠ t → ∀ x ∈ P u, x ∉ P t := fun u hu ut x hx hx2 => by
    have e1 := (p3 u hu x hx).2.1
    rw [(p3 t ht x hx2).2.1] at e1
    have a1 := hV t ht
    have a2 := hV u hu
    exact ut ((ofN_eq (by omega) (by omega)).1 e1).symm
  have inK : ∀ x, x ∈ K → x ∈ P t := fun x hx => by rw [hP]; exact List.mem_append_left _ hx
  have lsK : ∀ x : Nat, (x : Int) = lsI K → x ∈ P t := fun x e => inK x (ls_mem K x e)
  have qKR : q ∉ K ++ R := fun w => by
    have := List.nodup_append.1 ndP
    rcases List.mem_append.1 w with w | w
    · exact this.2.2 q w q List.mem_cons_self rfl
    · exact (List.nodup_cons.1 this.2.1).1 w
  have qXY : q ∉ X ++ Y := fun w => by
    have := List.nodup_append.1 ndB
    rcases List.mem_append.1 w with w | w
    · exact this.2.2 q w q List.mem_cons_self rfl
    · exact (List.nodup_cons.1 this.2.1).1 w
  have toP : ∀ x, x ∈ K ++ R ↔ x ∈ P t ∧ x ≠ q := fun x => by
    rw [hP]
    constructor
    · intro w
      refine ⟨?_, fun e => qKR (by rw [← e]; exact w)⟩
      rcases List.mem_append.1 w with w | w
      · exact List.mem_append_left _ w
      · exact List.mem_append_right _ (List.mem_cons_of_mem _ w)
    · rintro ⟨w, ne⟩
      rcases List.mem_append.1 w with w | w
      · exact List.mem_append_left _ w
      · exact List.mem_append_right _ ((List.mem_cons.1 w).resolve_left ne)
  have toB : ∀ x, x ∈ X ++ Y ↔ x ∈ B b ∧ x ≠ q := fun x => by
    rw [hB]
    constructor
    · intro w
      refine ⟨?_, fun e => qXY (by rw [← e]; exact w)⟩
      rcases List.mem_append.1 w with w | w
      · exact List.mem_append_left _ w
      · exact List.mem_append_right _ (List.mem_cons_of_mem _ w)
    · rintro ⟨w, ne⟩
      rcases List.mem_append.1 w with w | w
      · exact List.mem_append_left _ w
      · exact List.mem_append_right _ ((List.mem_cons.1 w).resolve_left ne)
  have nw : ∀ u x, V u → (x ∈ pUp P t (K ++ R) u ↔ x ∈ P u ∧ x ≠ q) := fun u x hu => by
    by_cases e : u = t
    · rw [e, pUp_t]
      exact toP x
    · rw [pUp_o _ _ e]
      exact ⟨fun w => ⟨w, fun y => dis u hu e x w (by rw [y]; exact mq)⟩, fun w => w.1⟩
  have eh : ∀ x, hbC (σ'.1 71 x) (σ'.1 66 x) (σ'.2 67 x) = hbC (σ.1 71 x) (σ.1 66 x) (σ.2 67 x) := fun x => by rw [c 71 x (by omega), c 66 x (by omega), c67]
  refine ⟨⟨fun u hu => ?_, fun d hd => ?_, fun u hu x hx => ?_⟩, ⟨⟨g12, ?_⟩, ?_, fun x hx => ?_⟩, fun u hu => ?_⟩
  · by_cases e : u = t
    · rw [e, pUp_t, g60, if_pos rfl]
      refine ⟨?_, rfl⟩
      have w := (p1 t ht).1
      rw [hP] at w
      have := lk_del (g := lv σ' 70) w ndP (fun x hx y => g70 x ((toP x).1 hx).2 y) k70
      rw [g59]
      by_cases kn : K = []
      · rw [if_pos ⟨rfl, kn⟩]
        rw [if_pos kn] at this
        exact this
      · rw [if_neg (fun y => kn y.2)]
        rw [if_neg kn] at this
        exact this
    · rw [pUp_o _ _ e, g59, if_neg (fun y => e y.1), g60, if_neg e]
      exact ⟨lk_cong (fun x hx => (g70 x (fun y => dis u hu e x hx (by rw [y]; exact mq)) (fun y => dis u hu e x hx (lsK x y))).symm) (p1 u hu).1, (p1 u hu).2⟩
  · have pd := p2 d hd
    by_cases e : d = b
    · rw [e, pUp_t]
      rw [e] at pd
      refine ⟨?_, fun x hx => ?_⟩
      · have w := pd.1
        rw [hB] at w
        have := lk_del (g := lv σ' 72) w ndB (fun x hx y => g72 x y) k72
        rw [g73]
        by_cases kn : X = []
        · rw [if_pos ⟨rfl, kn⟩]
          rw [if_pos kn] at this
          exact this
        · rw [if_neg (fun y => kn y.2)]
          rw [if_neg kn] at this
          exact this
      · obtain ⟨w1, w2⟩ := (toB x).1 hx
        obtain ⟨⟨u, u1, u2⟩, y⟩ := pd.2 x w1
        exact ⟨⟨u, u1, (nw u x u1).2 ⟨u2, w2⟩⟩, by rw [eh]; exact y⟩
    · rw [pUp_o _ _ e, g73, if_neg (fun y => e y.1)]
      have nb : ∀ x ∈ B d, x ∉ B b := fun x hx hx2 => e (((pd.2 x hx).2).symm.trans ((p2 b hb).2 x hx2).2)
      refine ⟨lk_cong (fun x hx => (g72 x (fun y => nb x hx (by rw [hB]; exact List.mem_append_left _ (ls_mem X x y)))).symm) pd.1, fun x hx => ?_⟩
      obtain ⟨⟨u, u1, u2⟩, y⟩ := pd.2 x hx
      exact ⟨⟨u, u1, (nw u x u1).2 ⟨u2, fun z => nb x hx (by rw [z, hB]; exact List.mem_append_right _ List.mem_cons_self)⟩⟩, by rw [eh]; exact y⟩
  · obtain ⟨w1, w2⟩ := (nw u x hu).1 hx
    obtain ⟨a1, a2, a3, a4⟩ := p3 u hu x w1
    refine ⟨a1, by rw [c 71 x (by omega)]; exact a2, ?_, fun y hy z1 z2 => ?_⟩
    · rw [eh]
      by_cases e : hbC (σ.1 71 x) (σ.1 66 x) (σ.2 67 x) = b
      · rw [e, pUp_t]
        rw [e] at a3
        exact (toB x).2 ⟨a3, w2⟩
      · rw [pUp_o _ _ e]
        exact a3
    · rw [c 66 x (by omega), c 66 y (by omega)] at z1
      rw [c67, c67] at z2
      exact a4 y ((nw u y hu).1 hy).1 z1 z2
  · rw [q70]
    exact lk_cong (fun x hx => (g70 x (fun y => (f3 x hx).2 t ht (by rw [y]; exact mq)) (fun y => (f3 x hx).2 t ht (lsK x y))).symm) f1
  · rw [g11, List.length_cons]
    omega
  · rcases List.mem_cons.1 hx with e | e
    · rw [e]
      exact ⟨(p3 t ht q mq).1, fun u hu w => ((nw u q hu).1 w).2 rfl⟩
    · exact ⟨(f3 x e).1, fun u hu w => (f3 x e).2 u hu ((nw u x hu).1 w).1⟩
  · rw [g61]
    by_cases e : u = t
    · rw [if_pos e, e, pUp_t]
      have := c61 t ht
      rw [hP, List.length_append, List.length_cons] at this
      rw [List.length_append]
      omega
    · rw [if_neg e, pUp_o _ _ e]
      exact c61 u hu
