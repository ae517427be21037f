/-! the gathering: how tables hold -/
/-- the value of a key, by the places of a table -/
def fnd (σ : lj_S) (L : List Nat) (a : vT) : vT := match L.find? (fun p => decide ((enC σ p).1 = a)) with
  | some p => (enC σ p).2
  | none => (0, 0)
def mdL (l : List Int32) (a : Nat) : Nat := l.foldl (fun a b => if b = 107 then a ||| 1 else if b = 118 then a ||| 2 else a) a
def mdV (σ : lj_S) (v : vT) : Nat := if v.1 = 3 then mdL (cS σ v.2.toInt.toNat) 0 else 0
/-- 1: keys are held weakly, 2: values, 3: both -/
def mdX (σ : lj_S) (P : Nat → List Nat) (t : Nat) : Nat := if lv σ 58 t < 0 then 0 else mdV σ (fnd σ (P (lv σ 58 t).toNat) (3, (σ.1 8 1).toInt64))
theorem or4 : ∀ a : Nat, a < 4 → (a ||| 1 < 4 ∧ Int32.ofNat a ||| 1 = Int32.ofNat (a ||| 1)) ∧ (a ||| 2 < 4 ∧ Int32.ofNat a ||| 2 = Int32.ofNat (a ||| 2)) ∧ Int32.ofNat a ||| 0 = Int32.ofNat a := by decide
theorem mdL_c (b : Int32) (l : List Int32) (a : Nat) : mdL (b :: l) a = mdL l (if b = 107 then a ||| 1 else if b = 118 then a ||| 2 else a) := rfl
theorem mdL_le : ∀ (l : List Int32) {a : Nat}, a < 4 → mdL l a < 4
  | [], _, h => h
  | b :: l, a, h => by
    rw [mdL_c]
    refine mdL_le l ?_
    by_cases z : b = 107
    · rw [if_pos z]; exact (or4 a h).1.1
    · rw [if_neg z]
      by_cases y : b = 118
      · rw [if_pos y]; exact (or4 a h).2.1.1
      · rw [if_neg y]; exact h
theorem mdV_le (σ : lj_S) (v : vT) : mdV σ v < 4 := by
  unfold mdV
  by_cases z : v.1 = 3
  · rw [if_pos z]; exact mdL_le _ (by decide)
  · rw [if_neg z]; decide
theorem mdX_le (σ : lj_S) (P : Nat → List Nat) (t : Nat) : mdX σ P t < 4 := by
  unfold mdX
  by_cases z : lv σ 58 t < 0
  · rw [if_pos z]; decide
  · rw [if_neg z]; exact mdV_le _ _
theorem c_fnd {σ : lj_S} {V : Nat → Prop} {P B : Nat → List Nat} (h : hpC σ V P B) (hM : ∀ t, V t → t ≤ 2000) {t : Nat} (ht : V t) (k : Int32) (x : Int64) : lj_R lc_P 117 [.ref 7, .int (Int32.ofNat t), .int k, .long x] σ = some (.inl (some (.int (if (fnd σ (P t) (k, x)).1 = 0 then 0 else 1))), fdC σ (fnd σ (P t) (k, x))) := by
  rcases c_hget h hM ht k x with ⟨p, hp, e, run⟩ | ⟨no, run⟩
  · have : fnd σ (P t) (k, x) = (enC σ p).2 := by
      unfold fnd
      cases f : (P t).find? (fun p => decide ((enC σ p).1 = (k, x))) with
      | none => exact absurd e (by simpa using (List.find?_eq_none.1 f) p hp)
      | some q =>
        have q1 := List.mem_of_find?_eq_some f
        have q2 : (enC σ q).1 = (k, x) := by simpa using List.find?_some f
        have : q = p := (h.2.2 t ht q q1).2.2.2 p hp ((congrArg Prod.fst q2).trans (congrArg Prod.fst e).symm) ((congrArg Prod.snd q2).trans (congrArg Prod.snd e).symm)
        rw [this]
    rw [this]
    exact run
  · have : fnd σ (P t) (k, x) = (0, 0) := by
      unfold fnd
      rw [List.find?_eq_none.2 (fun p hp => by simpa using no p hp)]
    rw [this]
    exact run
/-- both read the letters of a mode -/
theorem md_loop {σ τ : lj_S} {X : List Int32 → Prop} (hs : sR σ τ X) {s s' : Nat} (e : sE σ τ s s') (s2 : s < 2600) (s3 : s' < 3000) (x1 y1 : Int32) : ∀ (d i a : Nat) (X5 Z5 : Value), i + d = (cS σ s).length → a < 4 → lj_D lc_P lc_M183 79 [.ref 8, .int x1, .int (Int32.ofNat s), .int (Int32.ofNat a), .int (Int32.ofNat i), X5] [] σ = some (.inl (some (.int (Int32.ofNat (mdL ((cS σ s).drop i) a)))), σ) ∧ lj_D lm_P lm_M209 30 [.ref 0, .int y1, .int (Int32.ofNat a), .int (Int32.ofNat s'), .int (Int32.ofNat i), Z5] [] τ = some (.inl (some (.int (Int32.ofNat (mdL ((cS σ s).drop i) a)))), τ)
  | 0, i, a, X5, Z5, hd, ha => by
    obtain ⟨z1, z2, sz⟩ := sE_sz hs e
    have is : lj_in (Int32.ofNat s) 2600 := ofN_in (by omega) (by omega)
    have ns : (Int32.ofNat s).toNatClampNeg = s := lz_onat (by omega)
    have is' : lj_in (Int32.ofNat s') 3000 := ofN_in (by omega) (by omega)
    have ns' : (Int32.ofNat s').toNatClampNeg = s' := lz_onat (by omega)
    have l : Int32.ofNat (cS σ s).length ≤ Int32.ofNat i := (ofN_le (by omega) (by omega)).2 (by omega)
    rw [List.drop_of_length_le (by omega)]
    constructor
    · rw [kc_183_79]; simp only [if_pos is, ns]; rw [z1, if_pos l]
      rfl
    · rw [km_209_30]; simp only [if_pos is', ns']; rw [z2, if_pos l]
      rfl
  | d + 1, i, a, X5, Z5, hd, ha => by
    obtain ⟨z1, z2, sz⟩ := sE_sz hs e
    have is : lj_in (Int32.ofNat s) 2600 := ofN_in (by omega) (by omega)
    have ns : (Int32.ofNat s).toNatClampNeg = s := lz_onat (by omega)
    have is' : lj_in (Int32.ofNat s') 3000 := ofN_in (by omega) (by omega)
    have ns' : (Int32.ofNat s').toNatClampNeg = s' := lz_onat (by omega)
    have l : ¬ (Int32.ofNat (cS σ s).length ≤ Int32.ofNat i) := fun z => by have := (ofN_le (by omega) (by omega)).1 z; omega
    obtain ⟨b, b0, b1, b2, b3, b4⟩ := x_byt hs e (i := i) (by omega)
    obtain ⟨r1, r2⟩ := by_255 b1
    have dr : (cS σ s).drop i = b :: (cS σ s).drop (i + 1) := by
      rw [List.drop_eq_getElem_cons (show i < (cS σ s).length by omega), b0, List.getD_eq_getElem?_getD, List.getElem?_eq_getElem (show i < (cS σ s).length by omega)]
      rfl
    have t107 : (107 : Int32).toInt = 107 := by decide
    have t118 : (118 : Int32).toInt = 118 := by decide
    have q107 : (b &&& 255 = 107) ↔ b = 107 := by
      constructor
      · intro z
        have := congrArg Int32.toInt z
        rw [t107] at this
        exact lz_ext (by rw [t107]; omega)
      · intro z
        have := congrArg Int32.toInt z
        rw [t107] at this
        exact lz_ext (by rw [t107]; omega)
    have q118 : (b &&& 255 = 118) ↔ b = 118 := by
      constructor
      · intro z
        have := congrArg Int32.toInt z
        rw [t118] at this
        exact lz_ext (by rw [t118]; omega)
      · intro z
        have := congrArg Int32.toInt z
        rw [t118] at this
        exact lz_ext (by rw [t118]; omega)
    obtain ⟨⟨o1, o2⟩, ⟨o3, o4⟩, o5⟩ := or4 a ha
    rw [dr, mdL_c, kc_183_79]; simp only [if_pos is, ns]; rw [z1, if_neg l, b2, bi_ok, km_209_30]; simp only [if_pos is', ns']; rw [z2, if_neg l]
    simp only [if_pos is', ns', if_pos b3, b4]
    by_cases y1' : b = 107
    · rw [if_pos (q107.2 y1'), if_pos y1', if_pos y1', kc_183_135, km_209_84, lz_osucc, o2]
      exact md_loop hs e s2 s3 x1 y1 d (i + 1) (a ||| 1) _ _ (by omega) o1
    · rw [if_neg (fun z => y1' (q107.1 z)), if_neg y1', if_neg y1']
      by_cases y2' : b = 118
      · rw [if_pos (q118.2 y2'), if_pos y2', if_pos y2', kc_183_135, km_209_84, lz_osucc, o4]
        exact md_loop hs e s2 s3 x1 y1 d (i + 1) (a ||| 2) _ _ (by omega) o3
      · rw [if_neg (fun z => y2' (q118.1 z)), if_neg y2', if_neg y2', kc_183_135, km_209_84, lz_osucc, o5]
        exact md_loop hs e s2 s3 x1 y1 d (i + 1) a _ _ (by omega) ha
/-- heaps of both, with their places -/
def hpX (σ τ : lj_S) (n : Nat) (P B : Nat → List Nat) (Fr : List Nat) (P' B' : Nat → List Nat) (Fr' : List Nat) : Prop := (n ≤ 2000 ∧ lv σ 7 0 = (n : Int) ∧ lv τ 0 77 = (n : Int)) ∧ hsC σ (· ≤ n) P B Fr ∧ hsM τ (VM n) P' B' Fr' ∧ (Fr.length = Fr'.length ∧ (∀ i ∈ P 0, σ.1 66 i = 3) ∧ ∀ t, t ≤ n → σ.1 57 t ≠ 4 → P t = []) ∧ ∀ t, t ≤ n → eR (vR σ τ) (enC σ) (enM τ) (P t) (P' (tm t))
theorem hpX.R {σ τ : lj_S} {n : Nat} {P B : Nat → List Nat} {Fr : List Nat} {P' B' : Nat → List Nat} {Fr' : List Nat} (h : hpX σ τ n P B Fr P' B' Fr') : hpR σ τ n := ⟨h.1.1, h.1.2.1, h.1.2.2, P, B, Fr, P', B', Fr', h.2.1, h.2.2.1, h.2.2.2.1, h.2.2.2.2⟩
theorem hpR.X {σ τ : lj_S} {n : Nat} (h : hpR σ τ n) : ∃ (P B : Nat → List Nat) (Fr : List Nat) (P' B' : Nat → List Nat) (Fr' : List Nat), hpX σ τ n P B Fr P' B' Fr' := by
  obtain ⟨h1, h2, h3, P, B, Fr, P', B', Fr', hc, hm, hl, he⟩ := h
  exact ⟨P, B, Fr, P', B', Fr', ⟨h1, h2, h3⟩, hc, hm, hl, he⟩
theorem hpX.V {σ τ : lj_S} {n : Nat} {P B : Nat → List Nat} {Fr : List Nat} {P' B' : Nat → List Nat} {Fr' : List Nat} (h : hpX σ τ n P B Fr P' B' Fr') : ∀ t, (fun x => x ≤ n) t → t ≤ 2000 := fun t ht => by
  have ht : t ≤ n := ht
  have := h.1.1
  omega
def fdK (k j : Nat) : Bool := k == 7 && (j == 27 || j == 28)
def fdN (k j : Nat) : Bool := k == 0 && (j == 90 || j == 91)
theorem fdC_lf (σ : lj_S) (u : vT) : lf fdK σ (fdC σ u) := lf_putL (lf_put (lf_rf _ _) _ _ _ rfl) _ _ _ rfl
theorem fdM_lf (τ : lj_S) (w : vT) : lf fdN τ (fdM τ w) := lf_putL (lf_put (lf_rf _ _) _ _ _ rfl) _ _ _ rfl
/-- the mode of a table in both -/
theorem cm_mode {σ τ : lj_S} {X : List Int32 → Prop} (hs : sR σ τ X) (nm : sEi σ τ (σ.1 8 1) 21) {n : Nat} {P B : Nat → List Nat} {Fr : List Nat} {P' B' : Nat → List Nat} {Fr' : List Nat} (h : hpX σ τ n P B Fr P' B' Fr') (ob : obR σ τ n) {t : Nat} (ht : t ≤ n) (k4 : t = 0 ∨ σ.1 57 t = 4) : ∃ σ1 τ1, lj_R lc_P 183 [.ref 8, .int (Int32.ofNat t)] σ = some (.inl (some (.int (Int32.ofNat (mdX σ P t)))), σ1) ∧ lf fdK σ σ1 ∧ (1 ≤ t → lj_R lm_P 209 [.ref 0, .int (Int32.ofNat t)] τ = some (.inl (some (.int (Int32.ofNat (mdX σ P t)))), τ1)) ∧ lf fdN τ τ1 := by
  have n2 := h.1.1
  have it : lj_in (Int32.ofNat t) 2001 := ofN_in (by omega) (by omega)
  have nt : (Int32.ofNat t).toNatClampNeg = t := lz_onat (by omega)
  -- no metatable
  have none_ : σ.1 58 t = -1 → (1 ≤ t → τ.1 39 t = 0) → ∃ σ1 τ1, lj_R lc_P 183 [.ref 8, .int (Int32.ofNat t)] σ = some (.inl (some (.int (Int32.ofNat (mdX σ P t)))), σ1) ∧ lf fdK σ σ1 ∧ (1 ≤ t → lj_R lm_P 209 [.ref 0, .int (Int32.ofNat t)] τ = some (.inl (some (.int (Int32.ofNat (mdX σ P t)))), τ1)) ∧ lf fdN τ τ1 := fun e1 e2 => by
    have m0 : mdX σ P t = 0 := by
      unfold mdX lv
      rw [e1, if_pos (by decide)]
    refine ⟨σ, fdM τ (0, 0), ?_, lf_rf _ _, fun t1 => ?_, fdM_lf _ _⟩
    · rw [rc_183, kc_183_0]; simp only [if_pos it, nt]; rw [e1, if_pos (by decide), kc_183_60, m0]
      rfl
    · have im : lj_in (Int32.ofNat t) 2002 := ofN_in (by omega) (by omega)
      have ev : lj_R lm_P 130 [.ref 0, .int 4, .long (i64 t), .int 21] τ = some (.inl none, fdM τ (0, 0)) := by
        rw [rm_130, km_130_0, if_pos rfl]
        simp only [i64_32, if_pos im, nt]
        rw [e2 t1, if_pos (by decide), km_130_33, km_130_43]
        rfl
      rw [rm_209, km_209_0, ev, bv_ok, if_neg (by rw [fdM_1, if_pos ⟨rfl, rfl⟩]; decide), m0]
      rfl
  by_cases t0 : t = 0
  · subst t0
    exact none_ ob.1 (fun z => by omega)
  · have k4 := k4.resolve_left t0
    rcases (ob.2 t (by omega) ht).2.1 k4 with ⟨m1, m2⟩ | ⟨m, ma, m1, m2⟩
    · exact none_ m1 (fun _ => m2)
    · have mn : m ≤ n := by have := ma.2.2.1; have := h.1.2.1; omega
      have m1' := ma.1
      obtain ⟨s, s', u1, u2, e3, e4, e5⟩ := nm
      have s21 : s' = 21 := ((ofN_eq (a := 21) (by omega) (by omega)).1 e4).symm
      subst s21
      have lm : lv σ 58 t = (m : Int) := by unfold lv; rw [m1, lz_lit (by omega)]
      obtain ⟨u, w, a1, a2, a3⟩ := cm_get hs h.R mn (vR_str e5 u1 u2)
      have a3 : lj_R lm_P 123 [.ref 0, .int (Int32.ofNat (if m = 0 then 2001 else m)), .int 3, .long (i64 21)] τ = _ := a3
      rw [if_neg (by omega)] at a3
      have a2 : lj_R lc_P 117 [.ref 7, .int (Int32.ofNat m), .int 3, .long (i64 s)] σ = _ := a2
      have f2 := c_fnd h.2.1.1 h.V mn 3 (i64 s)
      have uf : u = fnd σ (P m) (3, i64 s) := by
        rw [a2] at f2
        have q := (Prod.mk.inj (Option.some.inj f2)).2
        have q1 := congrFun (congrFun (congrArg Prod.fst q) 7) 27
        have q2 := congrFun (congrFun (congrArg Prod.snd q) 7) 28
        rw [fdC_1, fdC_1, if_pos ⟨rfl, rfl⟩, if_pos ⟨rfl, rfl⟩] at q1
        rw [fdC_2, fdC_2, if_pos ⟨rfl, rfl⟩, if_pos ⟨rfl, rfl⟩] at q2
        exact Prod.ext q1 q2
      have md : mdX σ P t = mdV σ u := by
        unfold mdX
        rw [lm, if_neg (by omega), uf, e3]
        rfl
      have g1 : (fdC σ u).1 7 27 = u.1 := by rw [fdC_1, if_pos ⟨rfl, rfl⟩]
      have g2 : (fdC σ u).2 7 28 = u.2 := by rw [fdC_2, if_pos ⟨rfl, rfl⟩]
      have g3 : (fdM τ w).1 0 90 = w.1 := by rw [fdM_1, if_pos ⟨rfl, rfl⟩]
      have g4 : (fdM τ w).2 0 91 = w.2 := by rw [fdM_2, if_pos ⟨rfl, rfl⟩]
      have im : lj_in (Int32.ofNat t) 2002 := ofN_in (by omega) (by omega)
      have ev : lj_R lm_P 130 [.ref 0, .int 4, .long (i64 t), .int 21] τ = some (.inl none, fdM τ w) := by
        have a3' : lj_R lm_P 123 [.ref 0, .int (Int32.ofNat m), .int 3, .long ((21 : Int32).toInt64)] τ = _ := a3
        rw [rm_130, km_130_0, if_pos rfl]
        simp only [i64_32, if_pos im, nt]
        rw [m2, if_neg (by rw [lz_le, lz_lit (by omega)]; show ¬ (_ ≤ (0 : Int)); omega), a3', bv_ok, km_130_43]
      have hd : lj_R lc_P 183 [.ref 8, .int (Int32.ofNat t)] σ = (if (if u.1 = 0 then (0 : Int32) else 1) = 0 then lj_D lc_P lc_M183 60 [.ref 8, .int (Int32.ofNat t), .retAddr 0, .retAddr 0, .retAddr 0, .retAddr 0] [] (fdC σ u) else (if u.1 = 3 then lj_D lc_P lc_M183 79 [.ref 8, .int (Int32.ofNat t), .int u.2.toInt32, .int 0, .int 0, .retAddr 0] [] (fdC σ u) else lj_D lc_P lc_M183 60 [.ref 8, .int (Int32.ofNat t), .retAddr 0, .retAddr 0, .retAddr 0, .retAddr 0] [] (fdC σ u))) := by
        rw [rc_183, kc_183_0]; simp only [if_pos it, nt]; rw [m1, if_neg (ofN_nneg (by omega)), e3, a2, bi_ok, g1, g2]
      have hm : lj_R lm_P 209 [.ref 0, .int (Int32.ofNat t)] τ = (if w.1 = 3 then lj_D lm_P lm_M209 30 [.ref 0, .int (Int32.ofNat t), .int 0, .int w.2.toInt32, .int 0, .retAddr 0] [] (fdM τ w) else some (.inl (some (.int 0)), fdM τ w)) := by
        rw [rm_209, km_209_0, ev, bv_ok, g3, g4]
      refine ⟨fdC σ u, fdM τ w, ?_, fdC_lf _ _, fun _ => ?_, fdM_lf _ _⟩
      · rw [hd, md]
        by_cases z : u.1 = 3
        · obtain ⟨v, v', b1, b2, b3, b4, b5⟩ := a1.st z
          have e1 : u.2 = i64 v := by rw [b3]
          have b5' : sE (fdC σ u) (fdM τ w) v v' := by
            obtain ⟨_, _, _, _, q3, q4, q5⟩ := (a1.g u w).st z
            rw [b3] at q3
            rw [b4] at q4
            have h1 := i64_inj (by omega) (by omega) (Prod.mk.inj q3).2
            have h2 := i64_inj (by omega) (by omega) (Prod.mk.inj q4).2
            rw [h1, h2]
            exact q5
          have lp := (md_loop (hs.g u w) b5' b1 b2 (Int32.ofNat t) 0 (cS (fdC σ u) v).length 0 0 (.retAddr 0) (.retAddr 0) (by omega) (by decide)).1
          rw [if_neg (by rw [if_neg (by rw [z]; decide)]; decide), if_pos z, e1, i64_32]
          unfold mdV
          rw [if_pos z, e1, i64_int (by omega)]
          exact lp
        · have m0 : mdV σ u = 0 := by unfold mdV; rw [if_neg z]
          rw [m0]
          by_cases y : u.1 = 0
          · rw [if_pos (by rw [if_pos y]), kc_183_60]
            rfl
          · rw [if_neg (by rw [if_neg y]; decide), if_neg z, kc_183_60]
            rfl
      · rw [hm, md]
        by_cases z : u.1 = 3
        · obtain ⟨v, v', b1, b2, b3, b4, b5⟩ := a1.st z
          have e1 : u.2 = i64 v := by rw [b3]
          have e2 : w.2 = i64 v' := by rw [b4]
          have z' : w.1 = 3 := by rw [b4]
          have b5' : sE (fdC σ u) (fdM τ w) v v' := by
            obtain ⟨_, _, _, _, q3, q4, q5⟩ := (a1.g u w).st z
            rw [b3] at q3
            rw [b4] at q4
            have h1 := i64_inj (by omega) (by omega) (Prod.mk.inj q3).2
            have h2 := i64_inj (by omega) (by omega) (Prod.mk.inj q4).2
            rw [h1, h2]
            exact q5
          have lp := (md_loop (hs.g u w) b5' b1 b2 0 (Int32.ofNat t) (cS (fdC σ u) v).length 0 0 (.retAddr 0) (.retAddr 0) (by omega) (by decide)).2
          rw [if_pos z', e2, i64_32]
          unfold mdV
          rw [if_pos z, e1, i64_int (by omega)]
          exact lp
        · have m0 : mdV σ u = 0 := by unfold mdV; rw [if_neg z]
          have z' : ¬ (w.1 = 3) := fun y => z ((a1.kk (by decide) (by decide)).2 y)
          rw [if_neg z', m0]
          rfl
theorem hpX.cg {σ τ σ' τ' : lj_S} {n : Nat} {P B : Nat → List Nat} {Fr : List Nat} {P' B' : Nat → List Nat} {Fr' : List Nat} (h : hpX σ τ n P B Fr P' B' Fr') (hC : ∀ k j, hqC k j = true → σ'.1 k j = σ.1 k j ∧ σ'.2 k j = σ.2 k j) (hM : ∀ k j, hqM k j = true → τ'.1 k j = τ.1 k j ∧ τ'.2 k j = τ.2 k j) : hpX σ' τ' n P B Fr P' B' Fr' := by
  obtain ⟨⟨h1, h2, h3⟩, hc, hm, hl, he⟩ := h
  have lC : ∀ k j, hqC k j = true → lv σ' k j = lv σ k j := fun k j q => by unfold lv; rw [(hC k j q).1]
  have lM : ∀ k j, hqM k j = true → lv τ' k j = lv τ k j := fun k j q => by unfold lv; rw [(hM k j q).1]
  refine ⟨⟨h1, by rw [lC 7 0 rfl]; exact h2, by rw [lM 0 77 rfl]; exact h3⟩, ⟨hpC_cg hc.1 (fun k j q => (hC k j (by rcases q with q | q | q | q | q | q | q <;> rw [q] <;> rfl)).1) (fun j => (hC 67 j rfl).2), ⟨?_, by rw [lC 7 11 rfl]; exact hc.2.1.2.1, hc.2.1.2.2⟩, fun t ht => by rw [lC 61 t rfl]; exact hc.2.2 t ht⟩, ⟨hpM_cg hm.1 (fun k j q => (hM k j (by rcases q with q | q | q | q | q | q | q <;> rw [q] <;> rfl)).1) (fun j => (hM 46 j rfl).2), fsM_cg (fun j => (hM 53 j rfl).1) hm.2.1, by rw [lM 0 88 rfl]; exact hm.2.2.1, by rw [lM 0 89 rfl]; exact hm.2.2.2.1, hm.2.2.2.2⟩, ⟨hl.1, fun i hi => by rw [(hC 66 i rfl).1]; exact hl.2.1 i hi, fun t ht z => hl.2.2 t ht (by rw [← (hC 57 t rfl).1]; exact z)⟩, fun t ht => ?_⟩
  · have : lv σ' 70 = lv σ 70 := by funext j; exact lC 70 j rfl
    rw [this, lC 7 12 rfl]
    exact hc.2.1.1
  · have e1 : enC σ' = enC σ := by funext p; unfold enC; rw [(hC 66 p rfl).1, (hC 67 p rfl).2, (hC 68 p rfl).1, (hC 69 p rfl).2]
    have e2 : enM τ' = enM τ := by funext p; unfold enM; rw [(hM 45 p rfl).1, (hM 46 p rfl).2, (hM 47 p rfl).1, (hM 48 p rfl).2]
    rw [e1, e2]
    exact eR_up (he t ht) (fun p _ q _ w => w.mo (fun a b r => r.cg (fun k j q => (hC k j (by unfold hqC; rw [q]; rfl)).1) (fun k j q => (hM k j (by unfold hqM; rw [q]; rfl)).1)))
theorem mdX_cg {σ σ' : lj_S} {P : Nat → List Nat} (h : ∀ k j, k = 58 ∨ k = 66 ∨ k = 67 ∨ k = 68 ∨ k = 69 ∨ k = 9 ∨ k = 10 ∨ k = 11 ∨ k = 8 ∧ j = 1 → σ'.1 k j = σ.1 k j ∧ σ'.2 k j = σ.2 k j) (t : Nat) : mdX σ' P t = mdX σ P t := by
  have e58 : lv σ' 58 t = lv σ 58 t := by unfold lv; rw [(h 58 t (by omega)).1]
  have eN : enC σ' = enC σ := by funext p; unfold enC; rw [(h 66 p (by omega)).1, (h 67 p (by omega)).2, (h 68 p (by omega)).1, (h 69 p (by omega)).2]
  have eS : cS σ' = cS σ := by
    funext s
    exact cS_cong (fun j => (h 9 j (by omega)).1) (fun j => (h 10 j (by omega)).1) (fun j => (h 11 j (by omega)).1) s
  unfold mdX
  rw [e58]
  unfold mdV fnd
  rw [eN, eS, (h 8 1 (by omega)).1]
/-- what tables rest on -/
def tw (σ τ : lj_S) (n : Nat) (P B : Nat → List Nat) (Fr : List Nat) (P' B' : Nat → List Nat) (Fr' : List Nat) : Prop := sR σ τ (fun _ => False) ∧ sEi σ τ (σ.1 8 1) 21 ∧ hpX σ τ n P B Fr P' B' Fr' ∧ obR σ τ n
theorem tw.cg {σ τ σ' τ' : lj_S} {n : Nat} {P B : Nat → List Nat} {Fr : List Nat} {P' B' : Nat → List Nat} {Fr' : List Nat} (h : tw σ τ n P B Fr P' B' Fr') (f : lf gKC σ σ') (g : lf gKM τ τ') : tw σ' τ' n P B Fr P' B' Fr' := by
  have vC : ∀ k j, vqC k j = true → σ'.1 k j = σ.1 k j := fun k j q => (f k j (by unfold vqC at q; unfold gKC; simp at q ⊢; omega)).1
  have vM : ∀ k j, vqM k j = true → τ'.1 k j = τ.1 k j := fun k j q => (g k j (by unfold vqM at q; unfold gKM; simp at q ⊢; omega)).1
  refine ⟨h.1.cg (fun k j q => (f k j (by unfold sqC at q; unfold gKC; simp at q ⊢; omega)).1) (fun k j q => (g k j (by unfold sqM at q; unfold gKM; simp at q ⊢; omega)).1), ?_, h.2.2.1.cg (fun k j q => f k j (by unfold hqC vqC at q; unfold gKC; simp at q ⊢; omega)) (fun k j q => g k j (by unfold hqM vqM at q; unfold gKM; simp at q ⊢; omega)), h.2.2.2.cg (fun k j q => (f k j (by unfold gKC; simp; omega)).1) (fun k j q => (g k j (by unfold gKM; simp; omega)).1)⟩
  rw [(f 8 1 rfl).1]
  exact h.2.1.up (sG_eq vC vM)
theorem tw.mode {σ τ : lj_S} {n : Nat} {P B : Nat → List Nat} {Fr : List Nat} {P' B' : Nat → List Nat} {Fr' : List Nat} (h : tw σ τ n P B Fr P' B' Fr') {t : Nat} (ht : t ≤ n) (k4 : t = 0 ∨ σ.1 57 t = 4) : ∃ σ1 τ1, lj_R lc_P 183 [.ref 8, .int (Int32.ofNat t)] σ = some (.inl (some (.int (Int32.ofNat (mdX σ P t)))), σ1) ∧ lf fdK σ σ1 ∧ (1 ≤ t → lj_R lm_P 209 [.ref 0, .int (Int32.ofNat t)] τ = some (.inl (some (.int (Int32.ofNat (mdX σ P t)))), τ1)) ∧ lf fdN τ τ1 := cm_mode h.1 h.2.1 h.2.2.1 h.2.2.2 ht k4
theorem md_gK {σ σ' : lj_S} (f : lf gKC σ σ') (P : Nat → List Nat) (t : Nat) : mdX σ' P t = mdX σ P t := mdX_cg (fun k j z => f k j (by unfold gKC; simp; omega)) t
