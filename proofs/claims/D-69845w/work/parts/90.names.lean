/-! captured names: what both look for -/
def addX (x : lT) (a a' lo y : Nat) : lT := (x.1, x.2.1, x.2.2 ++ [(a, a', lo, y)])
/-- each function captures it in turn, the outer one first (the component) -/
def foldC (a a' : Nat) : List lT → Nat → Nat → Option (Nat × Nat × List lT)
  | [], lo, y => some (lo, y, [])
  | p :: P, lo, y => match foldC a a' P lo y with
    | none => none
    | some (lo1, y1, P1) => if p.2.2.length = 30 then none else some (0, p.2.2.length, addX p a a' lo1 y1 :: P1)
theorem foldC_snoc (a a' : Nat) (p : lT) : ∀ (P : List lT) (lo y : Nat), foldC a a' (P ++ [p]) lo y = if p.2.2.length = 30 then none else match foldC a a' P 0 p.2.2.length with
    | none => none
    | some (l1, y1, P1) => some (l1, y1, P1 ++ [addX p a a' lo y])
  | [], lo, y => by
    simp only [List.nil_append, foldC]
  | q :: P, lo, y => by
    simp only [List.cons_append, foldC]
    rw [foldC_snoc a a' p P lo y]
    by_cases e : p.2.2.length = 30
    · simp [e]
    · rw [if_neg e, if_neg e]
      cases h : foldC a a' P 0 p.2.2.length with
      | none => rfl
      | some v =>
        obtain ⟨l1, y1, P1⟩ := v
        simp only []
        by_cases e2 : q.2.2.length = 30
        · simp [e2]
        · simp [e2]
/-- places of captured ones -/
def capC (k j : Nat) : Bool := k == 33 || k == 34 || k == 35 || k == 48
def capM (k j : Nat) : Bool := k == 15 || k == 18 || k == 19
theorem cCap_lf (σ : lj_S) (q i a : Nat) (lo : Int32) (x : Nat) : lf capC σ (cCap σ q i a lo x) := lf_put (lf_put (lf_put (lf_put (lf_rf _ _) _ _ _ rfl) _ _ _ rfl) _ _ _ rfl) _ _ _ rfl
theorem mCap_lf (τ : lj_S) (q i : Nat) (lo : Int32) (x : Nat) : lf capM τ (mCap τ q i lo x) := lf_put (lf_put (lf_put (lf_rf _ _) _ _ _ rfl) _ _ _ rfl) _ _ _ rfl
theorem knC_cg {σ σ' : lj_S} {q : Nat} : ∀ {kn : List kT}, (∀ j, σ'.1 45 j = σ.1 45 j) → (∀ j, σ'.1 46 j = σ.1 46 j) → knC σ q kn → knC σ' q kn
  | [], _, _, _ => trivial
  | e :: r, h5, h6, h => ⟨by rw [h5, h6]; exact h.1, knC_cg h5 h6 h.2⟩
theorem knM_cg {τ τ' : lj_S} {base : Nat} : ∀ {kn : List kT}, (∀ j, τ'.1 29 j = τ.1 29 j) → (∀ j, τ'.1 30 j = τ.1 30 j) → knM τ base kn → knM τ' base kn
  | [], _, _, _ => trivial
  | e :: r, h5, h6, h => ⟨by rw [h5, h6]; exact h.1, knM_cg h5 h6 h.2⟩
theorem cpC_other {σ : lj_S} {q q' i a x : Nat} {lo : Int32} {cp : List cT} (h : cpC σ q cp) (hi : i < 30) (hne : q ≠ q') : cpC (cCap σ q' i a lo x) q cp := by
  have hl := h.2.1
  have g : ∀ k j, j < 30 → k ≠ 33 → (cCap σ q' i a lo x).1 k (30 * q + j) = σ.1 k (30 * q + j) := fun k j hj hk => by
    unfold cCap
    rw [lj_put_1, if_neg (by omega), lj_put_1, if_neg (by omega), lj_put_1, if_neg (by omega), lj_put_1, if_neg (by omega)]
  refine ⟨?_, hl, fun j hj => ?_⟩
  · unfold cCap
    rw [lj_put_1, if_neg (by omega), lj_put_1, if_neg (by omega), lj_put_1, if_neg (by omega), lj_put_1, if_neg (by omega)]
    exact h.1
  · rw [g 48 j (by omega) (by omega), g 34 j (by omega) (by omega), g 35 j (by omega) (by omega)]; exact h.2.2 j hj
theorem cpM_other {τ : lj_S} {q q' i x : Nat} {lo : Int32} {cp : List cT} (h : cpM τ q cp) (hi : i < 30) (hne : q ≠ q') : cpM (mCap τ q' i lo x) q cp := by
  have hl := h.2.1
  have g : ∀ k j, j < 30 → k ≠ 15 → (mCap τ q' i lo x).1 k (30 * q + j) = τ.1 k (30 * q + j) := fun k j hj hk => by
    unfold mCap
    rw [lj_put_1, if_neg (by omega), lj_put_1, if_neg (by omega), lj_put_1, if_neg (by omega)]
  refine ⟨?_, hl, fun j hj => ?_⟩
  · unfold mCap
    rw [lj_put_1, if_neg (by omega), lj_put_1, if_neg (by omega), lj_put_1, if_neg (by omega)]
    exact h.1
  · rw [g 18 j (by omega) (by omega), g 19 j (by omega) (by omega)]; exact h.2.2 j hj
theorem cpC_add {σ : lj_S} {q a a' lo x : Nat} {cp : List cT} (h : cpC σ q cp) (h30 : cp.length < 30) (ha : a < 2600) (ha' : a' < 3000) (hlo : lo < 2) (hx : x < 50) : cpC (cCap σ q cp.length a (Int32.ofNat lo) x) q (cp ++ [(a, a', lo, x)]) := by
  refine ⟨?_, by simp; omega, fun j hj => ?_⟩
  · unfold cCap
    rw [lj_put_1, if_pos ⟨rfl, rfl⟩]; simp
  · simp at hj
    by_cases e : j = cp.length
    · subst e
      unfold cCap
      simp [lj_put_1]
      omega
    · have hj' : j < cp.length := by omega
      rw [List.getElem_append_left hj']
      have g : ∀ k, k ≠ 33 → (cCap σ q cp.length a (Int32.ofNat lo) x).1 k (30 * q + j) = σ.1 k (30 * q + j) := fun k hk => by
        unfold cCap
        rw [lj_put_1, if_neg (by omega), lj_put_1, if_neg (by omega), lj_put_1, if_neg (by omega), lj_put_1, if_neg (by omega)]
      rw [g 48 (by omega), g 34 (by omega), g 35 (by omega)]; exact h.2.2 j hj'
theorem cpM_add {τ : lj_S} {q a a' lo x : Nat} {cp : List cT} (h : cpM τ q cp) (h30 : cp.length < 30) (ha : a < 2600) (ha' : a' < 3000) (hlo : lo < 2) (hx : x < 50) : cpM (mCap τ q cp.length (Int32.ofNat lo) x) q (cp ++ [(a, a', lo, x)]) := by
  refine ⟨?_, by simp; omega, fun j hj => ?_⟩
  · unfold mCap
    rw [lj_put_1, if_pos ⟨rfl, rfl⟩]; simp
  · simp at hj
    by_cases e : j = cp.length
    · subst e
      unfold mCap
      simp [lj_put_1]
      omega
    · have hj' : j < cp.length := by omega
      rw [List.getElem_append_left hj']
      have g : ∀ k, k ≠ 15 → (mCap τ q cp.length (Int32.ofNat lo) x).1 k (30 * q + j) = τ.1 k (30 * q + j) := fun k hk => by
        unfold mCap
        rw [lj_put_1, if_neg (by omega), lj_put_1, if_neg (by omega), lj_put_1, if_neg (by omega)]
      rw [g 18 (by omega), g 19 (by omega)]; exact h.2.2 j hj'
theorem parN_add (P T : List lT) (y y' : lT) (e : y'.1 = y.1) : parN (P ++ y' :: T) = parN (P ++ y :: T) := by
  cases P with
  | nil => show Int32.ofNat y'.1 = Int32.ofNat y.1; rw [e]
  | cons p P => rfl
theorem nmC_out {σ : lj_S} {q' i a x : Nat} {lo : Int32} (hi : i < 30) : ∀ (T : List lT), nmC σ T → (∀ z ∈ T, z.1 ≠ q') → nmC (cCap σ q' i a lo x) T
  | [], _, _ => trivial
  | z :: T, h, hn => by
    have f := cCap_lf σ q' i a lo x
    refine ⟨⟨h.1.1, ?_, ?_, h.1.2.2.2.1, knC_cg (fun j => (f 45 j rfl).1) (fun j => (f 46 j rfl).1) h.1.2.2.2.2.1, cpC_other h.1.2.2.2.2.2 hi (hn z (List.mem_cons_self))⟩, nmC_out hi T h.2 (fun w hw => hn w (List.mem_cons_of_mem _ hw))⟩
    · rw [(f 43 z.1 rfl).1]; exact h.1.2.1
    · rw [(f 44 z.1 rfl).1]; exact h.1.2.2.1
theorem nmM_out {τ : lj_S} {q' i x : Nat} {lo : Int32} (hi : i < 30) : ∀ (T : List lT), nmM τ T → (∀ z ∈ T, z.1 ≠ q') → nmM (mCap τ q' i lo x) T
  | [], _, _ => trivial
  | z :: T, h, hn => by
    have f := mCap_lf τ q' i lo x
    refine ⟨⟨h.1.1, ?_, ?_, h.1.2.2.2.1, knM_cg (fun j => (f 29 j rfl).1) (fun j => (f 30 j rfl).1) h.1.2.2.2.2.1, cpM_other h.1.2.2.2.2.2 hi (hn z (List.mem_cons_self))⟩, nmM_out hi T h.2 (fun w hw => hn w (List.mem_cons_of_mem _ hw))⟩
    · rw [(f 32 _ rfl).1]; exact h.1.2.1
    · rw [(f 31 _ rfl).1]; exact h.1.2.2.1
theorem nmC_add {σ : lj_S} {a a' lo x : Nat} {y : lT} (h30 : y.2.2.length < 30) (ha : a < 2600) (ha' : a' < 3000) (hlo : lo < 2) (hx : x < 50) : ∀ (P T : List lT), nmC σ (P ++ y :: T) → ((P ++ y :: T).map (·.1)).Nodup → nmC (cCap σ y.1 y.2.2.length a (Int32.ofNat lo) x) (P ++ addX y a a' lo x :: T)
  | [], T, h, hn => by
    have f := cCap_lf σ y.1 y.2.2.length a (Int32.ofNat lo) x
    simp only [List.nil_append, List.map_cons, List.nodup_cons] at hn
    refine ⟨⟨h.1.1, ?_, ?_, h.1.2.2.2.1, knC_cg (fun j => (f 45 j rfl).1) (fun j => (f 46 j rfl).1) h.1.2.2.2.2.1, cpC_add h.1.2.2.2.2.2 h30 ha ha' hlo hx⟩, nmC_out h30 T h.2 (fun z hz e => hn.1 (List.mem_map.2 ⟨z, hz, e⟩))⟩
    · rw [show (addX y a a' lo x).1 = y.1 from rfl, (f 43 _ rfl).1]; exact h.1.2.1
    · rw [show (addX y a a' lo x).1 = y.1 from rfl, (f 44 _ rfl).1]; exact h.1.2.2.1
  | z :: P, T, h, hn => by
    have f := cCap_lf σ y.1 y.2.2.length a (Int32.ofNat lo) x
    simp only [List.cons_append, List.map_cons, List.nodup_cons] at hn
    have hz : z.1 ≠ y.1 := fun e => hn.1 (List.mem_map.2 ⟨y, by simp, e.symm⟩)
    have h : nmC σ (z :: (P ++ y :: T)) := h
    show nmC _ (z :: (P ++ addX y a a' lo x :: T))
    refine ⟨⟨h.1.1, ?_, ?_, h.1.2.2.2.1, knC_cg (fun j => (f 45 j rfl).1) (fun j => (f 46 j rfl).1) h.1.2.2.2.2.1, cpC_other h.1.2.2.2.2.2 h30 hz⟩, nmC_add h30 ha ha' hlo hx P T h.2 hn.2⟩
    · rw [(f 43 _ rfl).1]; exact h.1.2.1.trans (parN_add P T y (addX y a a' lo x) rfl).symm
    · rw [(f 44 _ rfl).1]; exact h.1.2.2.1
theorem baseN_add (y : lT) (a a' lo x : Nat) : ∀ (P T : List lT), baseN (P ++ addX y a a' lo x :: T) = baseN (P ++ y :: T)
  | [], T => rfl
  | z :: P, T => by show _ + baseN (P ++ _) = _ + baseN (P ++ _); rw [baseN_add y a a' lo x P T]
theorem nmM_add {τ : lj_S} {a a' lo x : Nat} {y : lT} (h30 : y.2.2.length < 30) (ha : a < 2600) (ha' : a' < 3000) (hlo : lo < 2) (hx : x < 50) : ∀ (P T : List lT), nmM τ (P ++ y :: T) → ((P ++ y :: T).map (·.1)).Nodup → nmM (mCap τ y.1 y.2.2.length (Int32.ofNat lo) x) (P ++ addX y a a' lo x :: T)
  | [], T, h, hn => by
    have f := mCap_lf τ y.1 y.2.2.length (Int32.ofNat lo) x
    simp only [List.nil_append, List.map_cons, List.nodup_cons] at hn
    refine ⟨⟨h.1.1, ?_, ?_, h.1.2.2.2.1, knM_cg (fun j => (f 29 j rfl).1) (fun j => (f 30 j rfl).1) h.1.2.2.2.2.1, cpM_add h.1.2.2.2.2.2 h30 ha ha' hlo hx⟩, nmM_out h30 T h.2 (fun z hz e => hn.1 (List.mem_map.2 ⟨z, hz, e⟩))⟩
    · rw [show (addX y a a' lo x).1 = y.1 from rfl, (f 32 _ rfl).1]; exact h.1.2.1
    · rw [(f 31 _ rfl).1]; exact h.1.2.2.1
  | z :: P, T, h, hn => by
    have f := mCap_lf τ y.1 y.2.2.length (Int32.ofNat lo) x
    simp only [List.cons_append, List.map_cons, List.nodup_cons] at hn
    have hz : z.1 ≠ y.1 := fun e => hn.1 (List.mem_map.2 ⟨y, by simp, e.symm⟩)
    have h : nmM τ (z :: (P ++ y :: T)) := h
    show nmM _ (z :: (P ++ addX y a a' lo x :: T))
    have hlen : (P ++ addX y a a' lo x :: T).length = (P ++ y :: T).length := by simp
    refine ⟨⟨h.1.1, ?_, ?_, h.1.2.2.2.1, ?_, cpM_other h.1.2.2.2.2.2 h30 hz⟩, nmM_add h30 ha ha' hlo hx P T h.2 hn.2⟩
    · rw [(f 32 _ rfl).1, hlen]; exact h.1.2.1
    · rw [(f 31 _ rfl).1, hlen, baseN_add]; exact h.1.2.2.1
    · rw [baseN_add]; exact knM_cg (fun j => (f 29 j rfl).1) (fun j => (f 30 j rfl).1) h.1.2.2.2.2.1
/-- captured ones of other functions stay -/
def ouC (N : List lT) (σ σ' : lj_S) : Prop := ∀ q, q ∉ N.map (·.1) → σ'.1 33 q = σ.1 33 q ∧ ∀ i, i < 30 → σ'.1 34 (30 * q + i) = σ.1 34 (30 * q + i) ∧ σ'.1 35 (30 * q + i) = σ.1 35 (30 * q + i)
def ouM (N : List lT) (τ τ' : lj_S) : Prop := ∀ q, q ∉ N.map (·.1) → τ'.1 15 q = τ.1 15 q ∧ ∀ i, i < 30 → τ'.1 18 (30 * q + i) = τ.1 18 (30 * q + i) ∧ τ'.1 19 (30 * q + i) = τ.1 19 (30 * q + i)
theorem ouC_rf (N : List lT) (σ : lj_S) : ouC N σ σ := fun _ _ => ⟨rfl, fun _ _ => ⟨rfl, rfl⟩⟩
theorem ouM_rf (N : List lT) (τ : lj_S) : ouM N τ τ := fun _ _ => ⟨rfl, fun _ _ => ⟨rfl, rfl⟩⟩
theorem ouC.tr {N : List lT} {σ σ1 σ2 : lj_S} (h : ouC N σ σ1) (g : ouC N σ1 σ2) : ouC N σ σ2 := fun q hq => ⟨(g q hq).1.trans (h q hq).1, fun i hi => ⟨((g q hq).2 i hi).1.trans ((h q hq).2 i hi).1, ((g q hq).2 i hi).2.trans ((h q hq).2 i hi).2⟩⟩
theorem ouM.tr {N : List lT} {σ σ1 σ2 : lj_S} (h : ouM N σ σ1) (g : ouM N σ1 σ2) : ouM N σ σ2 := fun q hq => ⟨(g q hq).1.trans (h q hq).1, fun i hi => ⟨((g q hq).2 i hi).1.trans ((h q hq).2 i hi).1, ((g q hq).2 i hi).2.trans ((h q hq).2 i hi).2⟩⟩
theorem ouC_cap {N : List lT} {y : lT} (hy : y ∈ N) (σ : lj_S) (i a : Nat) (lo : Int32) (x : Nat) (hi : i < 30) : ouC N σ (cCap σ y.1 i a lo x) := fun q hq => by
  have hne : q ≠ y.1 := fun e => hq (by rw [e]; exact List.mem_map.2 ⟨y, hy, rfl⟩)
  unfold cCap
  refine ⟨by rw [lj_put_1, if_neg (by omega), lj_put_1, if_neg (by omega), lj_put_1, if_neg (by omega), lj_put_1, if_neg (by omega)], fun j hj => ⟨?_, ?_⟩⟩
  · rw [lj_put_1, if_neg (by omega), lj_put_1, if_neg (by omega), lj_put_1, if_neg (by omega), lj_put_1, if_neg (by omega)]
  · rw [lj_put_1, if_neg (by omega), lj_put_1, if_neg (by omega), lj_put_1, if_neg (by omega), lj_put_1, if_neg (by omega)]
theorem ouM_cap {N : List lT} {y : lT} (hy : y ∈ N) (τ : lj_S) (i : Nat) (lo : Int32) (x : Nat) (hi : i < 30) : ouM N τ (mCap τ y.1 i lo x) := fun q hq => by
  have hne : q ≠ y.1 := fun e => hq (by rw [e]; exact List.mem_map.2 ⟨y, hy, rfl⟩)
  unfold mCap
  refine ⟨by rw [lj_put_1, if_neg (by omega), lj_put_1, if_neg (by omega), lj_put_1, if_neg (by omega)], fun j hj => ⟨?_, ?_⟩⟩
  · rw [lj_put_1, if_neg (by omega), lj_put_1, if_neg (by omega), lj_put_1, if_neg (by omega)]
  · rw [lj_put_1, if_neg (by omega), lj_put_1, if_neg (by omega), lj_put_1, if_neg (by omega)]
theorem ouC_q {N N' : List lT} (e : N'.map (·.1) = N.map (·.1)) {σ σ' : lj_S} (h : ouC N' σ σ') : ouC N σ σ' := fun q hq => h q (by rw [e]; exact hq)
theorem ouM_q {N N' : List lT} (e : N'.map (·.1) = N.map (·.1)) {σ σ' : lj_S} (h : ouM N' σ σ') : ouM N σ σ' := fun q hq => h q (by rw [e]; exact hq)
theorem ouC_lf {A : Nat → Nat → Bool} (N : List lT) {σ σ' : lj_S} (h : lf A σ σ') (h33 : ∀ j, A 33 j = false) (h34 : ∀ j, A 34 j = false) (h35 : ∀ j, A 35 j = false) : ouC N σ σ' := fun q _ => ⟨(h 33 q (h33 q)).1, fun i _ => ⟨(h 34 _ (h34 _)).1, (h 35 _ (h35 _)).1⟩⟩
theorem ouM_lf {A : Nat → Nat → Bool} (N : List lT) {σ σ' : lj_S} (h : lf A σ σ') (h33 : ∀ j, A 15 j = false) (h34 : ∀ j, A 18 j = false) (h35 : ∀ j, A 19 j = false) : ouM N σ σ' := fun q _ => ⟨(h 15 q (h33 q)).1, fun i _ => ⟨(h 18 _ (h34 _)).1, (h 19 _ (h35 _)).1⟩⟩
theorem ouC_o (N : List lT) {σ σ' : lj_S} (h : ∀ k j, k ≠ 6 → σ'.1 k j = σ.1 k j) : ouC N σ σ' := fun _ _ => ⟨h _ _ (by omega), fun _ _ => ⟨h _ _ (by omega), h _ _ (by omega)⟩⟩
theorem ouM_o (N : List lT) {τ τ' : lj_S} (h : ∀ k j, k ≠ 0 → τ'.1 k j = τ.1 k j) : ouM N τ τ' := fun _ _ => ⟨h _ _ (by omega), fun _ _ => ⟨h _ _ (by omega), h _ _ (by omega)⟩⟩
