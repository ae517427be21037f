/-! the gathering: values, flags and what waits, of both machines -/
/-- the object that a value names; 0: none -/
def ov (a : vT) : Nat := if (a.1 = 4 ∨ a.1 = 5 ∨ a.1 = 6) ∧ 0 < a.2.toInt then a.2.toInt.toNat else 0
theorem ov_k {a : vT} (h : ¬ (a.1 = 4 ∨ a.1 = 5 ∨ a.1 = 6)) : ov a = 0 := by
  unfold ov
  rw [if_neg (fun z => h z.1)]
theorem ov_ob {k : Int32} (hk : k = 4 ∨ k = 5 ∨ k = 6) {o : Nat} (h : o < 2147483648) : ov (k, i64 o) = o := by
  unfold ov
  rw [i64_int h]
  by_cases z : o = 0
  · rw [if_neg (by rintro ⟨_, y⟩; omega)]; exact z.symm
  · rw [if_pos ⟨hk, by omega⟩]
    omega
theorem ov_bn {n : Nat} (h : n < 2147483648) : ov (5, bn n) = 0 := by
  unfold ov
  rw [bn_int h, if_neg (by rintro ⟨_, y⟩; omega)]
/-- its number is kept as both keep it -/
def wfC (a : vT) : Prop := ov a ≠ 0 → a.2 = i64 (ov a)
def wfM (a : vT) : Prop := (a.1 = 4 ∨ a.1 = 5 ∨ a.1 = 6) → a.2 = i64 (ov a)
theorem vR.oj {σ τ : lj_S} {a b : vT} (h : vR σ τ a b) : ov a = ov b ∧ ((ov a : Int) ≤ lv σ 7 0 ∨ ov a = 0) ∧ ov a ≤ 2000 ∧ (ov a ≠ 0 → obA σ τ (ov a) a.1) ∧ wfC a ∧ wfM b := by
  have z : ∀ (c d : vT), ov c = 0 → ov d = 0 → wfM d → ov c = ov d ∧ ((ov c : Int) ≤ lv σ 7 0 ∨ ov c = 0) ∧ ov c ≤ 2000 ∧ (ov c ≠ 0 → obA σ τ (ov c) c.1) ∧ wfC c ∧ wfM d := fun c d e1 e2 e3 => ⟨by rw [e1, e2], Or.inr e1, by omega, fun y => absurd e1 y, fun y => absurd e1 y, e3⟩
  have nk : ∀ (c : vT), ¬ (c.1 = 4 ∨ c.1 = 5 ∨ c.1 = 6) → ov c = 0 ∧ wfM c := fun c y => ⟨ov_k y, fun w => absurd w y⟩
  rcases h with ⟨h, g⟩ | ⟨h, g⟩ | ⟨s, s', _, _, h, g, _⟩ | ⟨o, k, hk, h, g, w⟩ | ⟨n, hn, h, g⟩
  · rw [h, g]
    have := nk (0, 0) (by dsimp only; decide)
    exact z _ _ this.1 this.1 this.2
  · rw [g]
    have := nk a (by
      rcases h with ⟨h, _⟩ | h <;> rw [h] <;> decide)
    exact z _ _ this.1 this.1 this.2
  · rw [h, g]
    have h1 := nk (3, i64 s) (by dsimp only; decide)
    have h2 := nk (3, i64 s') (by dsimp only; decide)
    exact z _ _ h1.1 h2.1 h2.2
  · rw [g, h]
    rcases w with ⟨w1, w2⟩ | w
    · rw [w1, w2]
      have e : ov (6, i64 0) = 0 := ov_ob (Or.inr (Or.inr rfl)) (by decide)
      exact z _ _ e e (fun _ => by rw [e])
    · have o2 := w.2.1
      have e : ov (k, i64 o) = o := ov_ob hk (by omega)
      rw [e]
      exact ⟨rfl, Or.inl w.2.2.1, o2, fun _ => w, fun _ => by rw [e], fun _ => by rw [e]⟩
  · rw [h, g]
    have h2 := nk (7, i64 n) (by dsimp only; decide)
    exact z _ _ (ov_bn (by omega)) h2.1 h2.2
/-- flags, a pile of what waits -/
def flg (n k : Nat) (σ : lj_S) (o : Nat) : Bool := decide (σ.1 k o ≠ 0) && decide (o ≤ n)
def pil (k : Nat) (σ : lj_S) : List Nat → Prop
  | [] => True
  | p :: l => σ.1 k l.length = Int32.ofNat p ∧ pil k σ l
theorem pil_cg {k : Nat} {σ σ' : lj_S} : ∀ {l : List Nat}, pil k σ l → (∀ j, j < l.length → σ'.1 k j = σ.1 k j) → pil k σ' l
  | [], _, _ => trivial
  | _ :: l, g, h => ⟨by rw [h _ (by simp)]; exact g.1, pil_cg g.2 (fun j hj => h j (by rw [List.length_cons]; omega))⟩
def mkG (kf kq ka kj n : Nat) (σ : lj_S) (Q : List Nat) : Prop := σ.1 ka kj = Int32.ofNat Q.length ∧ pil kq σ Q ∧ cnt0 (flg n kf σ) n + Q.length ≤ n + 1
def gRC (k j : Nat) : Bool := k == 111 || k == 112 || (k == 8 && j == 58)
def gRM (k j : Nat) : Bool := k == 96 || k == 98 || (k == 0 && j == 157)
def gKC (k j : Nat) : Bool := k == 111 || k == 112 || k == 113 || (k == 8 && (j == 58 || j == 60)) || (k == 7 && (j == 27 || j == 28))
def gKM (k j : Nat) : Bool := k == 96 || k == 97 || k == 98 || k == 99 || k == 100 || (k == 0 && (j == 157 || j == 90 || j == 91))
/-- visited: what is flagged newly belongs to W, all of L is flagged -/
def vis (A : Nat → Nat → Bool) (kf kq ka kj n : Nat) (W L : Nat → Prop) (σ : lj_S) (Q : List Nat) (σ' : lj_S) (Q' : List Nat) : Prop := mkG kf kq ka kj n σ' Q' ∧ lf A σ σ' ∧ rgN n (fun x => W x ∧ x ≠ 0) (flg n kf σ) Q (flg n kf σ') Q' ∧ ∀ x, L x → flg n kf σ' x = true
theorem vis.rf {A : Nat → Nat → Bool} {kf kq ka kj n : Nat} {W : Nat → Prop} {σ : lj_S} {Q : List Nat} (h : mkG kf kq ka kj n σ Q) : vis A kf kq ka kj n W (fun _ => False) σ Q σ Q := ⟨h, lf_rf _ _, rgN.rf _ _ _ _, fun _ z => z.elim⟩
theorem vis.tr {A : Nat → Nat → Bool} {kf kq ka kj n : Nat} {W L L' : Nat → Prop} {σ σ1 σ2 : lj_S} {Q Q1 Q2 : List Nat} (h : vis A kf kq ka kj n W L σ Q σ1 Q1) (g : vis A kf kq ka kj n W L' σ1 Q1 σ2 Q2) : vis A kf kq ka kj n W (fun x => L x ∨ L' x) σ Q σ2 Q2 := ⟨g.1, h.2.1.tr g.2.1, h.2.2.1.tr g.2.2.1, fun x z => z.elim (fun y => g.2.2.1.up (h.2.2.2 x y)) (g.2.2.2 x)⟩
theorem vis.mo {A : Nat → Nat → Bool} {kf kq ka kj n : Nat} {W L L' : Nat → Prop} {σ σ1 : lj_S} {Q Q1 : List Nat} (h : vis A kf kq ka kj n W L σ Q σ1 Q1) (w : ∀ x, L' x → L x) : vis A kf kq ka kj n W L' σ Q σ1 Q1 := ⟨h.1, h.2.1, h.2.2.1, fun x z => h.2.2.2 x (w x z)⟩
theorem vis.up {A : Nat → Nat → Bool} {kf kq ka kj n : Nat} {W L : Nat → Prop} {σ σ1 : lj_S} {Q Q1 : List Nat} (h : vis A kf kq ka kj n W L σ Q σ1 Q1) {x : Nat} (w : flg n kf σ x = true) : flg n kf σ1 x = true := h.2.2.1.up w
theorem vis.inw {A : Nat → Nat → Bool} {kf kq ka kj n : Nat} {W L : Nat → Prop} {σ σ1 : lj_S} {Q Q1 : List Nat} (h : vis A kf kq ka kj n W L σ Q σ1 Q1) (w : ∀ x, flg n kf σ x = true → W x) {x : Nat} (y : flg n kf σ1 x = true) : W x := by
  obtain ⟨N, _, h2, _, h4⟩ := h.2.2.1
  rcases (h2 x).1 y with z | z
  · exact w x z
  · exact (h4 x z).2.2.1
theorem vis.fr {A A' : Nat → Nat → Bool} {kf kq ka kj n : Nat} {W L : Nat → Prop} {σ σ1 : lj_S} {Q Q1 : List Nat} (h : vis A kf kq ka kj n W L σ Q σ1 Q1) (w : ∀ k j, A' k j = false → A k j = false) : vis A' kf kq ka kj n W L σ Q σ1 Q1 := ⟨h.1, h.2.1.mo w, h.2.2⟩
theorem vis.st {A : Nat → Nat → Bool} {kf kq ka kj n : Nat} {W L : Nat → Prop} {σ σ1 σ2 : lj_S} {Q Q1 : List Nat} (h : vis A kf kq ka kj n W L σ Q σ1 Q1) (f : lf A σ1 σ2) (e1 : ∀ x, σ2.1 kf x = σ1.1 kf x) (e2 : ∀ x, σ2.1 kq x = σ1.1 kq x) (e3 : σ2.1 ka kj = σ1.1 ka kj) : vis A kf kq ka kj n W L σ Q σ2 Q1 := by
  have fe : flg n kf σ2 = flg n kf σ1 := by funext x; unfold flg; rw [e1]
  exact ⟨⟨by rw [e3]; exact h.1.1, pil_cg h.1.2.1 (fun j _ => e2 j), by rw [fe]; exact h.1.2.2⟩, h.2.1.tr f, by rw [fe]; exact h.2.2.1, by rw [fe]; exact h.2.2.2⟩
theorem gRC_K {k j : Nat} (h : gKC k j = false) : gRC k j = false := by unfold gKC at h; unfold gRC; simp at h ⊢; omega
theorem gRM_K {k j : Nat} (h : gKM k j = false) : gRM k j = false := by unfold gKM at h; unfold gRM; simp at h ⊢; omega
theorem cnt0_pos {S : Nat → Bool} {n y : Nat} (h : S y = false) (hy : y ≤ n) : 1 ≤ cnt0 S n := by
  have := cnt0_one (S := S) (S' := fun x => S x || x == y) (y := y) h (by simp) (fun x hx => by simp [hx]) hy
  omega
theorem vis_push {A : Nat → Nat → Bool} {kf kq ka kj n : Nat} {σ σ' : lj_S} {Q : List Nat} {o : Nat} {W : Nat → Prop} (h : mkG kf kq ka kj n σ Q) (ho : o ≤ n) (o0 : o ≠ 0) (hf : flg n kf σ o = false) (hW : W o) (e1 : ∀ x, σ'.1 kf x = if x = o then 1 else σ.1 kf x) (e2 : σ'.1 kq Q.length = Int32.ofNat o) (e3 : ∀ j, j < Q.length → σ'.1 kq j = σ.1 kq j) (e4 : σ'.1 ka kj = Int32.ofNat (Q.length + 1)) (e5 : lf A σ σ') : vis A kf kq ka kj n W (fun x => x = o) σ Q σ' (o :: Q) := by
  have fe : flg n kf σ' = fun y => flg n kf σ y || y == o := by
    funext y
    unfold flg
    rw [e1 y]
    by_cases z : y = o
    · rw [if_pos z]
      simp [z, ho]
    · rw [if_neg z]
      simp [z]
  have r : rgN n (fun x => W x ∧ x ≠ 0) (flg n kf σ) Q (flg n kf σ') (o :: Q) := by
    rw [fe]
    exact rgN.one Q hf ho ⟨hW, o0⟩
  refine ⟨⟨by rw [e4, List.length_cons], ⟨e2, pil_cg h.2.1 e3⟩, ?_⟩, e5, r, fun x z => by rw [z, fe]; simp⟩
  have := r.ct
  have := h.2.2
  omega
abbrev wqC (n : Nat) (σ : lj_S) (Q : List Nat) : Prop := mkG 111 112 8 58 n σ Q
abbrev visC (n : Nat) (W L : Nat → Prop) (σ : lj_S) (Q : List Nat) (σ' : lj_S) (Q' : List Nat) : Prop := vis gRC 111 112 8 58 n W L σ Q σ' Q'
abbrev wqM (n : Nat) (σ : lj_S) (Q : List Nat) : Prop := mkG 96 98 0 157 n σ Q
abbrev visK (n : Nat) (W L : Nat → Prop) (σ : lj_S) (Q : List Nat) (σ' : lj_S) (Q' : List Nat) : Prop := vis gKC 111 112 8 58 n W L σ Q σ' Q'
abbrev visN (n : Nat) (W L : Nat → Prop) (σ : lj_S) (Q : List Nat) (σ' : lj_S) (Q' : List Nat) : Prop := vis gKM 96 98 0 157 n W L σ Q σ' Q'
abbrev visM (n : Nat) (W L : Nat → Prop) (σ : lj_S) (Q : List Nat) (σ' : lj_S) (Q' : List Nat) : Prop := vis gRM 96 98 0 157 n W L σ Q σ' Q'
theorem c_isObj (a : vT) (σ : lj_S) : lj_R lc_P 177 [.ref 8, .int a.1, .long a.2] σ = some (.inl (some (.int (if ov a = 0 then 0 else 1))), σ) := by
  have z0 : (0 : Int64).toInt = 0 := by decide
  have fin : (a.1 = 4 ∨ a.1 = 5 ∨ a.1 = 6) → lj_D lc_P lc_M177 16 [.ref 8, .int a.1, .long a.2, .retAddr 0] [] σ = some (.inl (some (.int (if ov a = 0 then 0 else 1))), σ) := fun k => by
    rw [kc_177_16]
    by_cases y : 0 < a.2.toInt
    · have e : ov a ≠ 0 := by
        unfold ov
        rw [if_pos ⟨k, y⟩]
        omega
      rw [if_neg (fun w => by
        have := Int64.le_iff_toInt_le.1 ((lg_le _ _).1 w)
        rw [z0] at this
        omega), kc_177_27, if_neg e]
      rfl
    · have e : ov a = 0 := by
        unfold ov
        rw [if_neg (fun w => y w.2)]
      rw [if_pos ((lg_le _ _).2 (Int64.le_iff_toInt_le.2 (by rw [z0]; omega))), kc_177_26, kc_177_27, if_pos e]
      rfl
  rw [rc_177, kc_177_0]
  by_cases k4 : a.1 = 4
  · rw [if_pos k4]; exact fin (Or.inl k4)
  · rw [if_neg k4]
    by_cases k5 : a.1 = 5
    · rw [if_pos k5]; exact fin (Or.inr (Or.inl k5))
    · rw [if_neg k5]
      by_cases k6 : a.1 = 6
      · rw [if_pos k6]; exact fin (Or.inr (Or.inr k6))
      · rw [if_neg k6, kc_177_26, kc_177_27, if_pos (ov_k (by rintro (w | w | w); exact k4 w; exact k5 w; exact k6 w))]
        rfl
/-- the component reaches a value -/
theorem c_reach {n : Nat} (hn : n ≤ 2000) {σ : lj_S} {Q : List Nat} (h : wqC n σ Q) {a : vT} (hw : wfC a) (ha : ov a ≤ n) {W : Nat → Prop} (hW : ov a ≠ 0 → W (ov a)) : ∃ σ' Q', lj_R lc_P 176 [.ref 8, .int a.1, .long a.2] σ = some (.inl none, σ') ∧ visC n W (fun x => x = ov a ∧ x ≠ 0) σ Q σ' Q' := by
  rw [rc_176, kc_176_0, c_isObj, bi_ok]
  by_cases z : ov a = 0
  · rw [if_pos z, if_pos rfl, kc_176_45]
    exact ⟨σ, Q, rfl, (vis.rf h).mo (fun x y => y.2 (y.1.trans z))⟩
  · have e := hw z
    have e32 : a.2.toInt32 = Int32.ofNat (ov a) := by rw [e, i64_32]
    have i : lj_in (Int32.ofNat (ov a)) 2001 := ofN_in (by omega) (by omega)
    have nn : (Int32.ofNat (ov a)).toNatClampNeg = ov a := lz_onat (by omega)
    rw [if_neg z, if_neg (by decide), e32]
    simp only [if_pos i, nn]
    by_cases f : σ.1 111 (ov a) = 0
    · have ff : flg n 111 σ (ov a) = false := by unfold flg; simp [f]
      have c1 := cnt0_pos ff ha
      have c2 := h.2.2
      have i2 : lj_in (Int32.ofNat Q.length) 2001 := ofN_in (by omega) (by omega)
      have nq : (Int32.ofNat Q.length).toNatClampNeg = Q.length := lz_onat (by omega)
      rw [if_pos f, h.1]
      simp only [if_pos i2, nq]
      rw [kc_176_45, lz_osucc]
      refine ⟨_, ov a :: Q, rfl, (vis_push h ha z ff (hW z) (fun x => ?_) ?_ (fun j hj => ?_) ?_ ?_).mo (fun x y => y.1)⟩
      · rw [lj_put_1, if_neg (by omega), lj_put_1, if_neg (by omega), lj_put_1]
        by_cases y : x = ov a
        · rw [if_pos ⟨rfl, y⟩, if_pos y]; rfl
        · rw [if_neg (fun w => y w.2), if_neg y]
      · rw [lj_put_1, if_pos ⟨rfl, rfl⟩]
      · rw [lj_put_1, if_neg (by omega), lj_put_1, if_neg (by omega), lj_put_1, if_neg (by omega)]
      · rw [lj_put_1, if_neg (by omega), lj_put_1, if_pos ⟨rfl, rfl⟩]
      · exact lf_put (lf_put (lf_put (lf_rf _ _) _ _ _ rfl) _ _ _ rfl) _ _ _ rfl
    · rw [if_neg f, kc_176_45]
      exact ⟨σ, Q, rfl, ⟨h, lf_rf _ _, rgN.rf _ _ _ _, fun x y => by rw [y.1]; unfold flg; simp [f, ha]⟩⟩
/-- the model reaches a value -/
theorem m_reach {n : Nat} (hn : n ≤ 2000) {τ : lj_S} {Q : List Nat} (h : wqM n τ Q) {a : vT} (hw : wfM a) (ha : ov a ≤ n) {W : Nat → Prop} (hW : ov a ≠ 0 → W (ov a)) : ∃ τ' Q', lj_R lm_P 210 [.ref 0, .int a.1, .long a.2] τ = some (.inl none, τ') ∧ visM n W (fun x => x = ov a ∧ x ≠ 0) τ Q τ' Q' := by
  rw [rm_210, km_210_0]
  by_cases k : a.1 = 4 ∨ a.1 = 5 ∨ a.1 = 6
  · have e := hw k
    have e32 : a.2.toInt32 = Int32.ofNat (ov a) := by rw [e, i64_32]
    have i : lj_in (Int32.ofNat (ov a)) 2002 := ofN_in (by omega) (by omega)
    have nn : (Int32.ofNat (ov a)).toNatClampNeg = ov a := lz_onat (by omega)
    rw [if_neg (by rcases k with k | k | k <;> rw [k] <;> decide), if_pos (by rcases k with k | k | k <;> rw [k] <;> decide), e32]
    by_cases z : ov a = 0
    · rw [if_pos (by rw [z]; rfl)]
      exact ⟨τ, Q, rfl, (vis.rf h).mo (fun x y => y.2 (y.1.trans z))⟩
    · rw [if_neg (show ¬ (Int32.ofNat (ov a) = 0) from fun w => z ((ofN_eq (c := 0) (by omega) (by omega)).1 w))]
      simp only [if_pos i, nn]
      by_cases f : τ.1 96 (ov a) = 0
      · have ff : flg n 96 τ (ov a) = false := by unfold flg; simp [f]
        have c1 := cnt0_pos ff ha
        have c2 := h.2.2
        have i2 : lj_in (Int32.ofNat Q.length) 2004 := ofN_in (by omega) (by omega)
        have nq : (Int32.ofNat Q.length).toNatClampNeg = Q.length := lz_onat (by omega)
        rw [if_pos f, h.1]
        simp only [if_pos i2, nq]
        rw [km_210_61, lz_osucc]
        refine ⟨_, ov a :: Q, rfl, (vis_push h ha z ff (hW z) (fun x => ?_) ?_ (fun j hj => ?_) ?_ ?_).mo (fun x y => y.1)⟩
        · rw [lj_put_1, if_neg (by omega), lj_put_1, if_neg (by omega), lj_put_1]
          by_cases y : x = ov a
          · rw [if_pos ⟨rfl, y⟩, if_pos y]; rfl
          · rw [if_neg (fun w => y w.2), if_neg y]
        · rw [lj_put_1, if_neg (by omega), lj_put_1, if_pos ⟨rfl, rfl⟩]
        · rw [lj_put_1, if_neg (by omega), lj_put_1, if_neg (by omega), lj_put_1, if_neg (by omega)]
        · rw [lj_put_1, if_pos ⟨rfl, rfl⟩]
        · exact lf_put (lf_put (lf_put (lf_rf _ _) _ _ _ rfl) _ _ _ rfl) _ _ _ rfl
      · rw [if_neg f, km_210_61]
        exact ⟨τ, Q, rfl, ⟨h, lf_rf _ _, rgN.rf _ _ _ _, fun x y => by rw [y.1]; unfold flg; simp [f, ha]⟩⟩
  · have z := ov_k k
    have fin : ∃ τ' Q', lj_D lm_P lm_M210 11 [.ref 0, .int a.1, .long a.2, .retAddr 0, .retAddr 0] [] τ = some (.inl none, τ') ∧ visM n W (fun x => x = ov a ∧ x ≠ 0) τ Q τ' Q' := ⟨τ, Q, km_210_11 _ _ _, (vis.rf h).mo (fun x y => y.2 (y.1.trans z))⟩
    by_cases k1 : a.1 < 4
    · rw [if_pos k1]; exact fin
    · rw [if_neg k1, if_neg (fun w => k (by
        rw [lz_lt] at k1
        rw [lz_le] at w
        have e4 : (4 : Int32).toInt = 4 := by decide
        have e6 : (6 : Int32).toInt = 6 := by decide
        rw [e4] at k1
        rw [e6] at w
        have : a.1.toInt = 4 ∨ a.1.toInt = 5 ∨ a.1.toInt = 6 := by omega
        rcases this with w | w | w
        · exact Or.inl (lz_ext w)
        · exact Or.inr (Or.inl (lz_ext w))
        · exact Or.inr (Or.inr (lz_ext w))))]
      exact fin
/-- is it lost -/
def los (k : Nat) (σ : lj_S) (a : vT) : Bool := decide (ov a ≠ 0) && decide (σ.1 k (ov a) = 0)
theorem los_f {n k : Nat} {σ : lj_S} {a : vT} (h : ov a ≤ n) : los k σ a = (decide (ov a ≠ 0) && !flg n k σ (ov a)) := by
  unfold los flg
  by_cases z : σ.1 k (ov a) = 0 <;> simp [z, h]
theorem c_lost {σ : lj_S} {a : vT} (hw : wfC a) (ha : ov a ≤ 2000) : lj_R lc_P 184 [.ref 8, .int a.1, .long a.2] σ = some (.inl (some (.int (if los 111 σ a = true then 1 else 0))), σ) := by
  rw [rc_184, kc_184_0, c_isObj, bi_ok]
  unfold los
  by_cases z : ov a = 0
  · rw [if_pos z, if_pos rfl, kc_184_23, kc_184_24, if_neg (by simp [z])]
    rfl
  · have e := hw z
    have e32 : a.2.toInt32 = Int32.ofNat (ov a) := by rw [e, i64_32]
    have i : lj_in (Int32.ofNat (ov a)) 2001 := ofN_in (by omega) (by omega)
    have nn : (Int32.ofNat (ov a)).toNatClampNeg = ov a := lz_onat (by omega)
    rw [if_neg z, if_neg (by decide), e32]
    simp only [if_pos i, nn]
    by_cases f : σ.1 111 (ov a) = 0
    · rw [if_pos f, kc_184_24, if_pos (by simp [z, f])]
      rfl
    · rw [if_neg f, kc_184_23, kc_184_24, if_neg (by simp [f])]
      rfl
theorem m_lost {τ : lj_S} {a : vT} (hw : wfM a) (ha : ov a ≤ 2000) : lj_R lm_P 216 [.ref 0, .int a.1, .long a.2] τ = some (.inl (some (.int (if los 96 τ a = true then 1 else 0))), τ) := by
  have no : ov a = 0 → lj_D lm_P lm_M216 31 [.ref 0, .int a.1, .long a.2, .retAddr 0] [] τ = some (.inl (some (.int (if los 96 τ a = true then 1 else 0))), τ) := fun z => by
    rw [km_216_31, km_216_32, if_neg (by unfold los; simp [z])]
    rfl
  have z0 : (0 : Int64).toInt = 0 := by decide
  rw [rm_216, km_216_0]
  by_cases k : a.1 = 4 ∨ a.1 = 5 ∨ a.1 = 6
  · have e := hw k
    have e32 : a.2.toInt32 = Int32.ofNat (ov a) := by rw [e, i64_32]
    have i : lj_in (Int32.ofNat (ov a)) 2002 := ofN_in (by omega) (by omega)
    have nn : (Int32.ofNat (ov a)).toNatClampNeg = ov a := lz_onat (by omega)
    rw [if_neg (by rcases k with k | k | k <;> rw [k] <;> decide), if_neg (by rcases k with k | k | k <;> rw [k] <;> decide), e32]
    have iv : a.2.toInt = (ov a : Int) := by rw [e, i64_int (by omega)]
    by_cases z : ov a = 0
    · rw [if_pos ((lg_le _ _).2 (Int64.le_iff_toInt_le.2 (by rw [iv, z0]; omega)))]
      exact no z
    · rw [if_neg (fun w => by
        have := Int64.le_iff_toInt_le.1 ((lg_le _ _).1 w)
        rw [iv, z0] at this
        omega)]
      simp only [if_pos i, nn]
      unfold los
      by_cases f : τ.1 96 (ov a) = 0
      · rw [if_pos f, km_216_32, if_pos (by simp [z, f])]
        rfl
      · rw [if_neg f, km_216_31, km_216_32, if_neg (by simp [f])]
        rfl
  · have z := ov_k k
    by_cases k1 : a.1 < 4
    · rw [if_pos k1]; exact no z
    · rw [if_neg k1, if_pos (by
        rw [lz_lt] at k1 ⊢
        have e4 : (4 : Int32).toInt = 4 := by decide
        have e6 : (6 : Int32).toInt = 6 := by decide
        rw [e4] at k1
        rw [e6]
        have n1 : a.1.toInt ≠ 4 := fun w => k (Or.inl (lz_ext w))
        have n2 : a.1.toInt ≠ 5 := fun w => k (Or.inr (Or.inl (lz_ext w)))
        have n3 : a.1.toInt ≠ 6 := fun w => k (Or.inr (Or.inr (lz_ext w)))
        omega)]
      exact no z
