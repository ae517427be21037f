/-! over a run: frames at work (102) come back; the model's strings that are no names keep their sorts but for 'counted' -/
def za_1 (k : Nat) : Bool := Nat.beq k 102
def zp_1 (k _i : Nat) : Bool := Nat.beq k 102
def Z_1 (id : Nat) : Bool := Nat.beq id 153
def A_1 (id : Nat) (as : List Value) : Prop := id = 153 → as = [.ref 8]
/-- whoever calls nextLastAct gives the machine alone -/
def ax_1 (M : lj_M) : Bool := M.2.2.2.1.all fun q => !(Nat.beq q.2.1 153) || (Nat.beq q.2.2.1 1 && Nat.beq q.2.2.2.2 9)
def ft_1 : Bool := ids_cr.all fun id => Nat.beq id 153 || (match lc_P.2.2.2 id with
  | some (_, M) => ftM lc_P.1 zp_1 za_1 (lj_mem ids_cr) M && ax_1 M
  | none => true)
set_option maxRecDepth 100000 in
theorem ft_1_ok : ft_1 = true := by decide +kernel
theorem lc_cell8 {k : Nat} {fs : List (Nat × Nat)} (h : lj_nth lc_ds k = some (.inl (8, fs))) : k = 8 := by
  match k, h with
  | 0, h => cases h
  | 1, h => cases h
  | 2, h => cases h
  | 3, h => cases h
  | 4, h => cases h
  | 5, h => cases h
  | 6, h => cases h
  | 7, h => cases h
  | 8, _ => rfl
  | k + 9, h =>
    exfalso
    have key : ∀ (l : List lj_C) (i : Nat), (l.all fun d => match d with
      | .inl _ => false
      | .inr _ => true) = true → lj_nth l i ≠ some (.inl (8, fs)) := fun l i hl e => by
      have := List.all_eq_true.1 hl _ (lj_nth_mem e)
      exact absurd this (by simp)
    exact key (lc_ds.drop 9) k (by decide +kernel) h
theorem ax_1_ok {M : lj_M} (h : ax_1 M = true) : ftX lc_ds (lj_mem ids_cr) A_1 M := by
  intro i id n t rc as hf hl hr hs e
  obtain ⟨a, ha⟩ := lj_find_all h hf
  dsimp only at ha
  rw [e] at ha
  have ha : (false || (Nat.beq n 1 && Nat.beq rc 9)) = true := ha
  rw [Bool.false_or, Bool.and_eq_true] at ha
  have h1 := Nat.eq_of_beq_eq_true ha.1
  have h2 := Nat.eq_of_beq_eq_true ha.2
  rw [h1] at hl
  rw [h2] at hr
  match as, hl with
  | [v], _ =>
    cases v with
    | ref k =>
      have hr : (match lj_nth lc_ds k with
        | some (.inl (ci, _)) => Nat.beq ci 8
        | _ => false) = true := hr
      cases hd : lj_nth lc_ds k with
      | none => rw [hd] at hr; cases hr
      | some d =>
        cases d with
        | inr z => rw [hd] at hr; cases hr
        | inl z =>
          obtain ⟨ci, fs⟩ := z
          rw [hd] at hr
          have := Nat.eq_of_beq_eq_true hr
          rw [this] at hd
          rw [lc_cell8 hd]
    | _ => cases hr
theorem bv_so {oc : Option lj_O} {k : lj_S → Option lj_O} {h : Nat → lj_S → Option lj_O} {o : lj_O} (e : lj_bv oc k h = some o) : (∃ σ', oc = some (.inl none, σ') ∧ k σ' = some o) ∨ ∃ x σ', oc = some (.inr x, σ') ∧ h x σ' = some o := by
  unfold lj_bv at e
  split at e
  · exact Or.inl ⟨_, rfl, e⟩
  · exact Or.inr ⟨_, _, rfl, e⟩
  · cases e
theorem bi_so {oc : Option lj_O} {k : Int32 → lj_S → Option lj_O} {h : Nat → lj_S → Option lj_O} {o : lj_O} (e : lj_bi oc k h = some o) : (∃ v σ', oc = some (.inl (some (.int v)), σ') ∧ k v σ' = some o) ∨ ∃ x σ', oc = some (.inr x, σ') ∧ h x σ' = some o := by
  unfold lj_bi at e
  split at e
  · exact Or.inl ⟨_, _, rfl, e⟩
  · exact Or.inr ⟨_, _, rfl, e⟩
  · cases e
theorem ite_so {p : Prop} [Decidable p] {a b : Option lj_O} {o : lj_O} (e : (if p then a else b) = some o) : (p ∧ a = some o) ∨ (¬ p ∧ b = some o) := by
  by_cases z : p
  · rw [if_pos z] at e; exact Or.inl ⟨z, e⟩
  · rw [if_neg z] at e; exact Or.inr ⟨z, e⟩
theorem z1_put {σ0 σ : lj_S} (h : zKp zp_1 σ0 σ) {k : Nat} (i : Nat) (v : Int32) (hk : k ≠ 102) : zKp zp_1 σ0 (lj_put σ k i v) := fun k' i' q => by
  have e : k' = 102 := Nat.eq_of_beq_eq_true q
  rw [(put_oth σ v (fun w => hk (by rw [← w.1, e]))).1, (put_oth σ v (fun w => hk (by rw [← w.1, e]))).2]
  exact h k' i' q
theorem itn {p : Prop} [Decidable p] {a : Option lj_O} {o : lj_O} (e : (if p then a else none) = some o) : p ∧ a = some o := by
  by_cases z : p
  · rw [if_pos z] at e; exact ⟨z, e⟩
  · rw [if_neg z] at e; cases e
theorem ftO_n {za : Nat → Bool} {J : lj_S → Prop} {s : lj_S} (h : J s) : ftO za J (.inl none, s) := ⟨h, fun v e => (by cases e), fun x e => (by cases e)⟩
theorem ftO_i {za : Nat → Bool} {J : lj_S → Prop} {s : lj_S} (x : Int32) (h : J s) : ftO za J (.inl (some (.int x)), s) := ⟨h, fun v e => (by cases e; rfl), fun x e => (by cases e)⟩
theorem ftO_up {za : Nat → Bool} {J : lj_S → Prop} {s : lj_S} {x : Nat} {o : lj_O} (c : ftO za J (.inr x, s)) (e : (some (.inr x, s) : Option lj_O) = some o) : ftO za J o := by cases e; exact c
/-- nextLastAct: the frame's mark is as it was -/
theorem k153 (D n : Nat) (C : ∀ σ0, ftC2 za_1 (lj_mem ids_cr) A_1 (zKp zp_1 σ0) (lj_run lc_P D n)) (σ0 : lj_S) (x1 : Int32) (h0 : σ0.1 102 x1.toNatClampNeg = 0) : ∀ (m : Nat) (x2 : Int32) (x3 x4 x5 : Value) (τ : lj_S) (o : lj_O), zKp zp_1 σ0 τ → lj_exec lc_P.1 lc_P.2.1 (lj_run lc_P D n) lc_M153 m 24 [.ref 8, .int x1, .int x2, x3, x4, x5, .retAddr 0, .retAddr 0] [] τ = some o → ftO za_1 (zKp zp_1 σ0) o := by
  have n153 : ∀ id, id ≠ 153 → ∀ as, A_1 id as := fun id h as e => absurd e h
  intro m
  induction m using Nat.strongRecOn with
  | ind m ih =>
    intro x2 x3 x4 x5 τ o hJ h
    cases m with
    | zero => cases h
    | succ m =>
      have j255 : ∀ (m' : Nat), m' ≤ m → ∀ (x2 x3 : Int32) (x4 x5 : Value) (s : lj_S), zKp zp_1 σ0 s → lj_exec lc_P.1 lc_P.2.1 (lj_run lc_P D n) lc_M153 m' 255 [.ref 8, .int x1, .int x2, .int x3, x4, x5, .retAddr 0, .retAddr 0] [] s = some o → ftO za_1 (zKp zp_1 σ0) o := fun m' hm x2 x3 x4 x5 s q e => by
        cases m' with
        | zero => cases e
        | succ m' =>
          rw [xq, kg_153_255] at e
          exact ih m' (by omega) _ _ _ _ _ _ q e
      rw [xq, kg_153_24] at h
      rcases ite_so h with ⟨_, h⟩ | ⟨_, h⟩
      · cases h; exact ftO_n hJ
      obtain ⟨_, h⟩ := itn h
      rcases ite_so h with ⟨_, h⟩ | ⟨_, h⟩
      · obtain ⟨_, h⟩ := itn h
        obtain ⟨_, h⟩ := itn h
        rcases (bv_so h).symm with ⟨x, s1, e1, h⟩ | ⟨s1, e1, h⟩
        · exact ftO_up (C σ0 149 _ _ _ rfl (n153 149 (by decide) _) rfl (z1_put hJ 41 0 (by decide)) e1) h
        have q1 := (C σ0 149 _ _ _ rfl (n153 149 (by decide) _) rfl (z1_put hJ 41 0 (by decide)) e1).1
        rcases (bv_so h).symm with ⟨x, s2, e2, h⟩ | ⟨s2, e2, h⟩
        · exact ftO_up (C σ0 143 _ _ _ rfl (n153 143 (by decide) _) rfl q1 e2) h
        have q2 := (C σ0 143 _ _ _ rfl (n153 143 (by decide) _) rfl q1 e2).1
        rcases (bv_so h).symm with ⟨x, s3, e3, h⟩ | ⟨s3, e3, h⟩
        · exact ftO_up (C σ0 144 _ _ _ rfl (n153 144 (by decide) _) rfl q2 e3) h
        have q3 := (C σ0 144 _ _ _ rfl (n153 144 (by decide) _) rfl q2 e3).1
        cases h
        exact ftO_n q3
      obtain ⟨_, h⟩ := itn h
      obtain ⟨_, h⟩ := itn h
      rcases (bi_so h).symm with ⟨x, s1, e1, h⟩ | ⟨v, s1, e1, h⟩
      · exact ftO_up (C σ0 118 _ _ _ rfl (n153 118 (by decide) _) rfl (z1_put hJ 33 _ (by decide)) e1) h
      have q1 := (C σ0 118 _ _ _ rfl (n153 118 (by decide) _) rfl (z1_put hJ 33 _ (by decide)) e1).1
      have j156 : ∀ (x50 x51 x3 : Int32), lj_exec lc_P.1 lc_P.2.1 (lj_run lc_P D n) lc_M153 m 156 [.ref 8, .int x1, .int x2, .int x3, x4, x5, .retAddr 0, .retAddr 0] [.int x50, .int x51, .ref 8] s1 = some o → ftO za_1 (zKp zp_1 σ0) o := fun x50 x51 x3 e => by
        cases m with
        | zero => cases e
        | succ m =>
          rw [xq, kg_153_156] at e
          have w1 := z1_put (z1_put q1 51 (x51 + x50) (by decide : (8 : Nat) ≠ 102)) 38 0 (by decide : (8 : Nat) ≠ 102)
          rcases (bv_so e).symm with ⟨x, s2, e2, e⟩ | ⟨s2, e2, e⟩
          · exact ftO_up (C σ0 154 _ _ _ rfl (n153 154 (by decide) _) rfl w1 e2) e
          have q2 := (C σ0 154 _ _ _ rfl (n153 154 (by decide) _) rfl w1 e2).1
          obtain ⟨_, e⟩ := itn e
          obtain ⟨_, e⟩ := itn e
          obtain ⟨_, e⟩ := itn e
          obtain ⟨s3, hs3⟩ : ∃ s, s = lj_put (lj_put s2 102 x1.toNatClampNeg (vp_nar .boolean 1)) 103 x1.toNatClampNeg (vp_nar .boolean 0) := ⟨_, rfl⟩
          rw [← hs3] at e
          have back : ∀ s4, zKp zp_1 s3 s4 → zKp zp_1 σ0 (lj_put s4 102 x1.toNatClampNeg (vp_nar .boolean 0)) := fun s4 q k' i' z => by
            have ek : k' = 102 := Nat.eq_of_beq_eq_true z
            rw [ek]
            by_cases y : i' = x1.toNatClampNeg
            · refine ⟨?_, ?_⟩
              · rw [y, lj_put_1, if_pos ⟨rfl, rfl⟩, h0]; rfl
              · show s4.2 102 i' = _
                rw [(q 102 i' rfl).2, hs3]
                exact (q2 102 i' rfl).2
            · have n1 : ¬ ((102 : Nat) = 102 ∧ i' = x1.toNatClampNeg) := fun w => y w.2
              have n2 : ¬ ((102 : Nat) = 103 ∧ i' = x1.toNatClampNeg) := fun w => absurd w.1 (by decide)
              rw [(put_oth s4 (vp_nar .boolean 0) n1).1, (put_oth s4 (vp_nar .boolean 0) n1).2, (q 102 i' rfl).1, (q 102 i' rfl).2, hs3, (put_oth _ (vp_nar .boolean 0) n2).1, (put_oth _ (vp_nar .boolean 0) n2).2, (put_oth s2 (vp_nar .boolean 1) n1).1, (put_oth s2 (vp_nar .boolean 1) n1).2]
              exact q2 102 i' rfl
          rcases bv_so e with ⟨s4, e4, e⟩ | ⟨x, s4, e4, e⟩
          · have q4 := (C s3 155 _ _ _ rfl (n153 155 (by decide) _) rfl (fun _ _ _ => ⟨rfl, rfl⟩) e4).1
            obtain ⟨_, e⟩ := itn e
            obtain ⟨_, e⟩ := itn e
            exact j255 m (by omega) _ _ _ _ _ (back s4 q4) e
          · have q4 := C s3 155 _ _ _ rfl (n153 155 (by decide) _) rfl (fun _ _ _ => ⟨rfl, rfl⟩) e4
            cases hb : lc_ca 0 x with
            | false => rw [hb] at e; cases e
            | true =>
              rw [hb] at e
              dsimp only [cond_true] at e
              cases m with
              | zero => cases e
              | succ m =>
                rw [xq, kg_153_236] at e
                obtain ⟨_, e⟩ := itn e
                cases hb2 : Nat.blt x 2000 with
                | false => rw [hb2] at e; cases e
                | true =>
                  rw [hb2] at e
                  cases e
                  exact ⟨back s4 q4.1, fun v e => (by cases e), fun y e => by cases e; exact q4.2.2 _ rfl⟩
      rcases ite_so h with ⟨_, h⟩ | ⟨_, h⟩
      · exact j255 m (Nat.le_refl _) _ _ _ _ _ q1 h
      rcases ite_so h with ⟨_, h⟩ | ⟨_, h⟩
      · rcases ite_so h with ⟨_, h⟩ | ⟨_, h⟩
        · exact j156 _ _ _ h
        · exact j156 _ _ _ h
      · exact j255 m (Nat.le_refl _) _ _ _ _ _ q1 h
theorem za_1_x (x : Nat) (h : 2000 ≤ x) : za_1 x = false := Bool.eq_false_iff.2 (fun e => by have := Nat.eq_of_beq_eq_true e; omega)
theorem zKp_1 (σ0 : lj_S) : ftJ2 lc_ds zp_1 za_1 (zKp zp_1 σ0) := by
  have := zKp_J (ds := lc_ds) (zp := zp_1) (za := za_1) (fun _ _ _ _ _ h => h) σ0
  exact ⟨this.1, fun σ k i t n h1 h2 h3 hJ => ⟨fun v _ _ => (this.2 σ k i t n h1 h2 h3 hJ).1 v, (this.2 σ k i t n h1 h2 h3 hJ).2⟩⟩
set_option maxRecDepth 100000 in
theorem k102_C : ∀ (D n : Nat) (σ0 : lj_S), ftC2 za_1 (lj_mem ids_cr) A_1 (zKp zp_1 σ0) (lj_run lc_P D n)
  | 0, n, σ0 => fun id as σ o _ _ _ _ h => by cases h
  | D + 1, n, σ0 => fun id as σ o h1 h1a h2 hJ h => by
    have hq := List.all_eq_true.1 ft_1_ok id (lj_mem_in h1)
    dsimp only at hq
    cases hz : Nat.beq id 153 with
    | false =>
      rw [hz, Bool.false_or] at hq
      unfold lj_run at h
      cases hm : lc_P.2.2.2 id with
      | none => rw [hm] at h; exact lc_ftP za_1_x _ _ _ _ h hJ
      | some q =>
        obtain ⟨nL, M⟩ := q
        rw [hm] at h hq
        dsimp only at h hq
        rw [Bool.and_eq_true] at hq
        cases hb : lj_may lc_P id as nL σ with
        | false => rw [hb] at h; cases h
        | true =>
          rw [hb] at h
          exact ft_exec2 (zKp_1 σ0) (k102_C D n σ0) (ax_1_ok hq.2) hq.1 n 0 _ _ _ _ (vbs_loc h2) rfl hJ h
    | true =>
      have e := Nat.eq_of_beq_eq_true hz
      have ea := h1a e
      subst e
      subst ea
      have hP : lc_P.2.2.2 153 = some (8, lc_M153) := rfl
      unfold lj_run at h
      rw [hP] at h
      dsimp only at h
      cases hw : lj_may lc_P 153 [.ref 8] 8 σ with
      | false => rw [hw] at h; cases h
      | true =>
        rw [hw] at h
        have h : lj_exec lc_P.1 lc_P.2.1 (lj_run lc_P D n) lc_M153 n 0 [.ref 8, .retAddr 0, .retAddr 0, .retAddr 0, .retAddr 0, .retAddr 0, .retAddr 0, .retAddr 0] [] σ = some o := h
        cases n with
        | zero => cases h
        | succ n =>
          rw [xq, kg_153_0] at h
          obtain ⟨_, h⟩ := itn h
          rcases ite_so h with ⟨z, h⟩ | ⟨_, h⟩
          · exact k153 D (n + 1) (k102_C D (n + 1)) σ0 _ (by rw [← (hJ 102 _ rfl).1]; exact z) n _ _ _ _ _ _ hJ h
          · obtain ⟨_, h⟩ := itn h
            cases h
            exact ftO_n (z1_put hJ _ _ (by decide))
/-- over a run: frames at work are as they were -/
theorem k102 {x : Int32} {σ : lj_S} {o : lj_O} (h : lj_R lc_P 128 [.ref 8, .int x] σ = some o) (i : Nat) : o.2.1 102 i = σ.1 102 i := by
  obtain ⟨n, hn⟩ := lj_R_spec.1 h
  exact ((k102_C n n σ 128 _ σ o rfl (fun e => absurd e (by decide)) rfl (fun _ _ _ => ⟨rfl, rfl⟩) hn).1 102 i rfl).1

