/-! THE SMALL MACHINE's LIMIT: blocks without a bound -/
def lj_U (F : lj_K → Option lj_O) : Prop := (∀ go, F go = none) ∨ ∃ pc L st σ, ∀ go, F go = go pc L st σ
theorem lj_U_0 : lj_U (fun _ => none) := Or.inl fun _ => rfl
theorem lj_U_1 (pc : Nat) (L st : List Value) (σ : lj_S) : lj_U (fun go => go pc L st σ) := Or.inr ⟨pc, L, st, σ, fun _ => rfl⟩
theorem lj_U_if {c : Prop} [Decidable c] {F G : lj_K → Option lj_O} (hF : lj_U F) (hG : lj_U G) : lj_U (fun go => if c then F go else G go) := by
  by_cases h : c
  · simp only [h, if_true]; exact hF
  · simp only [h, if_false]; exact hG
theorem lj_U_b {c : Bool} {F G : lj_K → Option lj_O} (hF : lj_U F) (hG : lj_U G) : lj_U (fun go => bif c then F go else G go) := by
  cases c
  · exact hG
  · exact hF
theorem lj_U_cmp (c : Jvm.ClassFile.Cond) (x y : Int32) {F G : lj_K → Option lj_O} (hF : lj_U F) (hG : lj_U G) : lj_U (fun go => lj_cmp c x y (F go) (G go)) := by
  cases c <;> simp only [lj_cmp]
  · exact lj_U_if hF hG
  · exact lj_U_if hG hF
  · exact lj_U_if hF hG
  · exact lj_U_if hF hG
  · exact lj_U_if hF hG
  · exact lj_U_if hF hG
theorem lj_U_tab (F : Int → lj_K → Option lj_O) (hF : ∀ o, lj_U (F o)) (d : Int) (x : Int32) : ∀ (os : List Int) (lo : Int), lj_U (fun go => lj_tab lo os d x (fun o => F o go))
  | [], _ => hF d
  | o :: r, lo => lj_U_if (hF o) (lj_U_tab F hF d x r (lo + 1))
theorem lj_U_lkp (F : Int → lj_K → Option lj_O) (hF : ∀ o, lj_U (F o)) (d : Int) (x : Int32) : ∀ (ps : List (Int × Int)), lj_U (fun go => lj_lkp ps d x (fun o => F o go))
  | [] => hF d
  | (_, o) :: r => lj_U_if (hF o) (lj_U_lkp F hF d x r)
theorem lj_U_i1 {st : List Value} {F : Int32 → List Value → lj_K → Option lj_O} (h : ∀ x r, lj_U (F x r)) : lj_U (fun go => lj_i1 st (fun x r => F x r go)) := by
  unfold lj_i1; split
  · exact h _ _
  · exact lj_U_0
theorem lj_U_i2 {st : List Value} {F : Int32 → Int32 → List Value → lj_K → Option lj_O} (h : ∀ x y r, lj_U (F x y r)) : lj_U (fun go => lj_i2 st (fun x y r => F x y r go)) := by
  unfold lj_i2; split
  · exact h _ _ _
  · exact lj_U_0
theorem lj_U_l1 {st : List Value} {F : Int64 → List Value → lj_K → Option lj_O} (h : ∀ x r, lj_U (F x r)) : lj_U (fun go => lj_l1 st (fun x r => F x r go)) := by
  unfold lj_l1; split
  · exact h _ _
  · exact lj_U_0
theorem lj_U_l2 {st : List Value} {F : Int64 → Int64 → List Value → lj_K → Option lj_O} (h : ∀ x y r, lj_U (F x y r)) : lj_U (fun go => lj_l2 st (fun x y r => F x y r go)) := by
  unfold lj_l2; split
  · exact h _ _ _
  · exact lj_U_0
theorem lj_U_li {st : List Value} {F : Int64 → Int32 → List Value → lj_K → Option lj_O} (h : ∀ x y r, lj_U (F x y r)) : lj_U (fun go => lj_li st (fun x y r => F x y r go)) := by
  unfold lj_li; split
  · exact h _ _ _
  · exact lj_U_0
theorem lj_U_ild {L : List Value} {i : Nat} {F : Int32 → lj_K → Option lj_O} (h : ∀ x, lj_U (F x)) : lj_U (fun go => lj_ild L i (fun x => F x go)) := by
  unfold lj_ild; split
  · exact h _
  · exact lj_U_0
theorem lj_U_lld {L : List Value} {i : Nat} {F : Int64 → lj_K → Option lj_O} (h : ∀ x, lj_U (F x)) : lj_U (fun go => lj_lld L i (fun x => F x go)) := by
  unfold lj_lld; split
  · exact h _
  · exact lj_U_0
theorem lj_U_rld {L : List Value} {i : Nat} {F : Value → lj_K → Option lj_O} (h : ∀ x, lj_U (F x)) : lj_U (fun go => lj_rld L i (fun x => F x go)) := by
  unfold lj_rld; split
  · exact h _
  · exact h _
  · exact lj_U_0
theorem lj_U_st (ds : List lj_C) (fr : List (Nat × Nat × Nat)) (cr : List (Nat × Value)) (ins : Instr) (pc len : Nat) (L st : List Value) (σ : lj_S) : lj_U (fun go => lj_st ds fr cr ins pc len L st σ go) := by
  unfold lj_st lj_getf lj_putf lj_ald lj_lald lj_ast lj_last
  split
  all_goals first
    | exact lj_U_1 _ _ _ _
    | exact lj_U_0
    | exact lj_U_i1 fun _ _ => lj_U_1 _ _ _ _
    | exact lj_U_i2 fun _ _ _ => lj_U_1 _ _ _ _
    | exact lj_U_l1 fun _ _ => lj_U_1 _ _ _ _
    | exact lj_U_l2 fun _ _ _ => lj_U_1 _ _ _ _
    | exact lj_U_li fun _ _ _ => lj_U_1 _ _ _ _
    | exact lj_U_ild fun _ => lj_U_1 _ _ _ _
    | exact lj_U_lld fun _ => lj_U_1 _ _ _ _
    | exact lj_U_rld fun _ => lj_U_1 _ _ _ _
    | exact lj_U_i2 fun _ _ _ => lj_U_if lj_U_0 (lj_U_1 _ _ _ _)
    | exact lj_U_l2 fun _ _ _ => lj_U_if lj_U_0 (lj_U_1 _ _ _ _)
    | exact lj_U_i1 fun _ _ => lj_U_cmp _ _ _ (lj_U_1 _ _ _ _) (lj_U_1 _ _ _ _)
    | exact lj_U_i2 fun _ _ _ => lj_U_cmp _ _ _ (lj_U_1 _ _ _ _) (lj_U_1 _ _ _ _)
    | exact lj_U_i1 fun x r => lj_U_tab (fun o go => go (lj_tg pc o) L r σ) (fun o => lj_U_1 _ _ _ _) _ _ _ _
    | exact lj_U_i1 fun x r => lj_U_lkp (fun o go => go (lj_tg pc o) L r σ) (fun o => lj_U_1 _ _ _ _) _ _ _
    | skip
  all_goals (repeat' (first | exact lj_U_0 | exact lj_U_1 _ _ _ _ | exact lj_U_if (lj_U_1 _ _ _ _) lj_U_0 | exact lj_U_b lj_U_0 (lj_U_1 _ _ _ _) | exact lj_U_b (lj_U_1 _ _ _ _) lj_U_0 | refine lj_U_b ?_ ?_ | refine lj_U_if ?_ ?_ | split))

/-- a row of answers that come for good -/
def lj_le (a b : Option lj_O) : Prop := ∀ o, a = some o → b = some o
theorem lj_le.rf {a : Option lj_O} : lj_le a a := fun _ h => h
theorem lj_le.tr {a b c : Option lj_O} (h : lj_le a b) (h2 : lj_le b c) : lj_le a c := fun o q => h2 o (h o q)
theorem lj_le.b {c : Bool} {x y : Option lj_O} (h : lj_le x y) : lj_le (bif c then x else none) (bif c then y else none) := by
  cases c
  · exact lj_le.rf
  · exact h
theorem lj_U_mono {F : lj_K → Option lj_O} (hF : lj_U F) {go go' : lj_K} (h : ∀ pc L st σ, lj_le (go pc L st σ) (go' pc L st σ)) : lj_le (F go) (F go') := by
  rcases hF with hF | ⟨pc, L, st, σ, hF⟩
  · rw [hF go]; exact fun o q => by cases q
  · rw [hF go, hF go']; exact h _ _ _ _
theorem lj_thr_mono {ca : Nat → Nat → Bool} {pc : Nat} {L : List Value} {go go' : lj_K} (h : ∀ pc L st σ, lj_le (go pc L st σ) (go' pc L st σ)) (x : Nat) (σ : lj_S) : ∀ (hd : List (Nat × Nat × Nat × Nat)), lj_le (lj_thr ca hd pc L go x σ) (lj_thr ca hd pc L go' x σ)
  | [] => lj_le.rf
  | (a, b, q, t) :: r => by
    have ih := lj_thr_mono (ca := ca) (pc := pc) (L := L) h x σ r
    unfold lj_thr
    cases Nat.ble a pc && Nat.blt pc b
    · exact ih
    · cases ca t x
      · exact lj_le.rf
      · exact h _ _ _ _
theorem lj_hh_mono {ca : Nat → Nat → Bool} {hd : List (Nat × Nat × Nat × Nat)} {pc : Nat} {L : List Value} {go go' : lj_K} (h : ∀ pc L st σ, lj_le (go pc L st σ) (go' pc L st σ)) (x : Nat) (σ : lj_S) : lj_le (lj_hh ca hd pc L go x σ) (lj_hh ca hd pc L go' x σ) := by
  cases hd
  · exact lj_le.rf
  · exact lj_thr_mono h x σ _
theorem lj_back_mono {t pc : Nat} {L st : List Value} {go go' : lj_K} {g g' : Nat → lj_S → Option lj_O} {o o' : Option lj_O} (h : ∀ pc L st σ, lj_le (go pc L st σ) (go' pc L st σ)) (hg : ∀ x σ, lj_le (g x σ) (g' x σ)) (ho : lj_le o o') : lj_le (lj_back t pc L st go g o) (lj_back t pc L st go' g' o') := by
  cases o with
  | none => intro q e; unfold lj_back lj_bv lj_bi lj_bl lj_br at e; split at e <;> cases e
  | some r =>
    rw [ho r rfl]
    unfold lj_back
    split
    · unfold lj_bv; split
      · exact h _ _ _ _
      · exact hg _ _
      · exact lj_le.rf
    · unfold lj_bi; split
      · exact h _ _ _ _
      · exact hg _ _
      · exact lj_le.rf
    · unfold lj_bl; split
      · exact h _ _ _ _
      · exact hg _ _
      · exact lj_le.rf
    · unfold lj_br; split
      · exact h _ _ _ _
      · exact hg _ _
      · exact lj_le.rf
theorem lj_inv_mono {ds : List lj_C} {ca : Nat → Nat → Bool} {call call' : lj_Y} {M : lj_M} {ix pc : Nat} {L st : List Value} {σ : lj_S} {go go' : lj_K} (hc : ∀ i a σ, lj_le (call i a σ) (call' i a σ)) (h : ∀ pc L st σ, lj_le (go pc L st σ) (go' pc L st σ)) : lj_le (lj_inv ds ca call M ix pc L st σ go) (lj_inv ds ca call' M ix pc L st σ go') := by
  unfold lj_inv; split
  · split
    · exact lj_le.b (lj_back_mono h (lj_hh_mono h) (hc _ _ _))
    · exact lj_le.rf
  · exact lj_le.rf
theorem lj_one_mono {ds : List lj_C} {ca : Nat → Nat → Bool} {call call' : lj_Y} {M : lj_M} {ins : Instr} {pc len : Nat} {L st : List Value} {σ : lj_S} {go go' : lj_K} (hc : ∀ i a σ, lj_le (call i a σ) (call' i a σ)) (h : ∀ pc L st σ, lj_le (go pc L st σ) (go' pc L st σ)) : lj_le (lj_one ds ca call M ins pc len L st σ go) (lj_one ds ca call' M ins pc len L st σ go') := by
  unfold lj_one
  split
  · exact lj_le.rf
  · exact lj_le.rf
  · exact lj_le.rf
  · exact lj_le.rf
  · split
    · exact lj_le.b (lj_hh_mono h _ _)
    · exact lj_le.rf
  · exact lj_inv_mono hc h
  · exact lj_inv_mono hc h
  · exact lj_U_mono (lj_U_st ds M.2.2.1 M.2.2.2.2.1 _ pc len L st σ) h
theorem lj_ex_mono {ds : List lj_C} {ca : Nat → Nat → Bool} {call call' : lj_Y} {M : lj_M} {jump jump' : lj_K} (hc : ∀ i a σ, lj_le (call i a σ) (call' i a σ)) (h : ∀ pc L st σ, lj_le (jump pc L st σ) (jump' pc L st σ)) : ∀ (k : Nat) (pc : Nat) (L st : List Value) (σ : lj_S), lj_le (lj_ex ds ca call M jump k pc L st σ) (lj_ex ds ca call' M jump' k pc L st σ)
  | 0, _, _, _, _ => lj_le.rf
  | k + 1, pc, L, st, σ => by
    unfold lj_ex; split
    · exact lj_le.rf
    · refine lj_one_mono hc fun pc' L' st' σ' => ?_
      cases lj_mem M.2.1 pc'
      · exact lj_ex_mono hc h k _ _ _ _
      · exact h _ _ _ _
theorem lj_exec_mono {ds : List lj_C} {ca : Nat → Nat → Bool} {call call' : lj_Y} {M : lj_M} (hc : ∀ i a σ, lj_le (call i a σ) (call' i a σ)) : ∀ (n n' : Nat) (_ : n ≤ n') (pc : Nat) (L st : List Value) (σ : lj_S), lj_le (lj_exec ds ca call M n pc L st σ) (lj_exec ds ca call' M n' pc L st σ)
  | 0, _, _, _, _, _, _ => fun o q => by cases q
  | n + 1, 0, h, _, _, _, _ => absurd h (by omega)
  | n + 1, n' + 1, h, pc, L, st, σ => lj_ex_mono hc (lj_exec_mono hc n n' (by omega)) 4000 pc L st σ
theorem lj_run_mono {P : lj_P} : ∀ (d n n' : Nat) (_ : n ≤ n') (i : Nat) (a : List Value) (σ : lj_S), lj_le (lj_run P d n i a σ) (lj_run P d n' i a σ)
  | 0, _, _, _, _, _, _ => lj_le.rf
  | d + 1, n, n', h, i, a, σ => by
    unfold lj_run; split
    · exact lj_le.b (lj_exec_mono (lj_run_mono d n n' h) n n' h _ _ _ _)
    · exact lj_le.rf
theorem lj_run_deep {P : lj_P} : ∀ (d d' n n' : Nat) (_ : d ≤ d') (_ : n ≤ n') (i : Nat) (a : List Value) (σ : lj_S), lj_le (lj_run P d n i a σ) (lj_run P d' n' i a σ)
  | 0, _, _, _, _, _, _, _, _ => fun o q => by cases q
  | d + 1, 0, _, _, h, _, _, _, _ => absurd h (by omega)
  | d + 1, d' + 1, n, n', h, h', i, a, σ => by
    unfold lj_run; split
    · exact lj_le.b (lj_exec_mono (lj_run_deep d d' n n' (by omega) h') n n' h' _ _ _ _)
    · exact lj_le.rf
/-- what an ascending row comes to -/
noncomputable def lj_lim (F : Nat → Option lj_O) : Option lj_O := Classical.epsilon fun r => (∃ n, F n = r ∧ r ≠ none) ∨ (r = none ∧ ∀ n, F n = none)
theorem lj_lim_spec {F : Nat → Option lj_O} (hF : ∀ n n', n ≤ n' → lj_le (F n) (F n')) (o : lj_O) : lj_lim F = some o ↔ ∃ n, F n = some o := by
  have hex : ∃ r, (∃ n, F n = r ∧ r ≠ none) ∨ (r = none ∧ ∀ n, F n = none) := by
    by_cases h : ∃ n, F n ≠ none
    · obtain ⟨n, hn⟩ := h
      exact ⟨F n, Or.inl ⟨n, rfl, hn⟩⟩
    · exact ⟨none, Or.inr ⟨rfl, fun n => Classical.byContradiction fun q => h ⟨n, q⟩⟩⟩
  have hs := Classical.epsilon_spec hex
  constructor
  · intro h
    rw [show Classical.epsilon _ = lj_lim F from rfl, h] at hs
    rcases hs with ⟨n, hn, -⟩ | ⟨q, -⟩
    · exact ⟨n, hn⟩
    · cases q
  · rintro ⟨n, hn⟩
    rcases hs with ⟨n', hn', hne⟩ | ⟨-, q⟩
    · obtain ⟨o', ho'⟩ := Option.ne_none_iff_exists'.mp hne
      have h1 : F n' = some o' := hn'.trans ho'
      have h2 := hF n (max n n') (Nat.le_max_left _ _) _ hn
      have h3 := hF n' (max n n') (Nat.le_max_right _ _) _ h1
      rw [h2] at h3
      rw [show lj_lim F = some o' from ho']
      exact h3.symm
    · rw [q n] at hn; cases hn
/-- a call, however many blocks and calls within calls it takes -/
noncomputable def lj_R (P : lj_P) : lj_Y := fun i a σ => lj_lim fun n => lj_run P n n i a σ
noncomputable def lj_D (P : lj_P) (M : lj_M) : lj_K := fun pc L st σ => lj_lim fun n => lj_exec P.1 P.2.1 (lj_run P n n) M n pc L st σ
theorem lj_R_spec {P : lj_P} {i : Nat} {a : List Value} {σ : lj_S} {o : lj_O} : lj_R P i a σ = some o ↔ ∃ n, lj_run P n n i a σ = some o := lj_lim_spec (fun n n' h => lj_run_deep n n' n n' h h i a σ) o
theorem lj_D_spec {P : lj_P} {M : lj_M} {pc : Nat} {L st : List Value} {σ : lj_S} {o : lj_O} : lj_D P M pc L st σ = some o ↔ ∃ n, lj_exec P.1 P.2.1 (lj_run P n n) M n pc L st σ = some o := lj_lim_spec (fun n n' h => lj_exec_mono (lj_run_deep n n' n n' h h) n n' h pc L st σ) o
/-- what holds from some number on -/
def lj_ev (F : Nat → Option lj_O) (o : lj_O) : Prop := ∃ N, ∀ n, N ≤ n → F n = some o
theorem lj_ev.c {r : Option lj_O} {o : lj_O} (h : r = some o) : lj_ev (fun _ => r) o := ⟨0, fun _ _ => h⟩
theorem lj_ev.b {c : Bool} {x : Option lj_O} {F : Nat → Option lj_O} {o : lj_O} (h : (bif c then x else none) = some o) (k : x = some o → lj_ev F o) : lj_ev (fun n => bif c then F n else none) o := by
  cases c
  · cases h
  · exact k h
theorem lj_U_cont {F : lj_K → Option lj_O} (hF : lj_U F) {go : lj_K} {goN : Nat → lj_K} (hg : ∀ pc L st σ o, go pc L st σ = some o → lj_ev (fun n => goN n pc L st σ) o) {o : lj_O} (h : F go = some o) : lj_ev (fun n => F (goN n)) o := by
  rcases hF with hF | ⟨pc, L, st, σ, hF⟩
  · rw [hF go] at h; cases h
  · rw [hF go] at h
    obtain ⟨N, hN⟩ := hg _ _ _ _ _ h
    exact ⟨N, fun n hn => (hF _).trans (hN n hn)⟩
theorem lj_thr_cont {ca : Nat → Nat → Bool} {pc : Nat} {L : List Value} {go : lj_K} {goN : Nat → lj_K} (hg : ∀ pc L st σ o, go pc L st σ = some o → lj_ev (fun n => goN n pc L st σ) o) {x : Nat} {σ : lj_S} {o : lj_O} : ∀ (hd : List (Nat × Nat × Nat × Nat)), lj_thr ca hd pc L go x σ = some o → lj_ev (fun n => lj_thr ca hd pc L (goN n) x σ) o
  | [], h => lj_ev.c h
  | (a, b, q, t) :: r, h => by
    have ih := lj_thr_cont (ca := ca) (pc := pc) (L := L) hg (x := x) (σ := σ) (o := o) r
    unfold lj_thr at h ⊢
    cases hb : Nat.ble a pc && Nat.blt pc b with
    | false => rw [hb] at h; exact ih h
    | true =>
      rw [hb] at h
      cases hc : ca t x with
      | false => rw [hc] at h; cases h
      | true => rw [hc] at h; exact hg _ _ _ _ _ h
theorem lj_hh_cont {ca : Nat → Nat → Bool} {hd : List (Nat × Nat × Nat × Nat)} {pc : Nat} {L : List Value} {go : lj_K} {goN : Nat → lj_K} (hg : ∀ pc L st σ o, go pc L st σ = some o → lj_ev (fun n => goN n pc L st σ) o) {x : Nat} {σ : lj_S} {o : lj_O} (h : lj_hh ca hd pc L go x σ = some o) : lj_ev (fun n => lj_hh ca hd pc L (goN n) x σ) o := by
  cases hd with
  | nil => exact lj_ev.c h
  | cons a r =>
    exact lj_thr_cont hg (a :: r) h
theorem lj_back_cont {t pc : Nat} {L st : List Value} {go : lj_K} {goN : Nat → lj_K} {g : Nat → lj_S → Option lj_O} {gN : Nat → Nat → lj_S → Option lj_O} {r : Option lj_O} {rN : Nat → Option lj_O} (hg : ∀ pc L st σ o, go pc L st σ = some o → lj_ev (fun n => goN n pc L st σ) o) (hh : ∀ x σ o, g x σ = some o → lj_ev (fun n => gN n x σ) o) (hr : ∀ o, r = some o → lj_ev rN o) {o : lj_O} (h : lj_back t pc L st go g r = some o) : lj_ev (fun n => lj_back t pc L st (goN n) (gN n) (rN n)) o := by
  cases r with
  | none => unfold lj_back lj_bv lj_bi lj_bl lj_br at h; split at h <;> cases h
  | some q =>
    obtain ⟨N, hN⟩ := hr q rfl
    suffices hs : lj_ev (fun n => lj_back t pc L st (goN n) (gN n) (some q)) o by
      obtain ⟨N2, h2⟩ := hs
      exact ⟨max N N2, fun n hn => by
        show lj_back t pc L st (goN n) (gN n) (rN n) = some o
        rw [hN n (by omega)]; exact h2 n (by omega)⟩
    unfold lj_back at h ⊢
    split at h
    · unfold lj_bv at h ⊢; split at h
      · exact hg _ _ _ _ _ h
      · exact hh _ _ _ h
      · cases h
    · unfold lj_bi at h ⊢; split at h
      · exact hg _ _ _ _ _ h
      · exact hh _ _ _ h
      · cases h
    · unfold lj_bl at h ⊢; split at h
      · exact hg _ _ _ _ _ h
      · exact hh _ _ _ h
      · cases h
    · unfold lj_br at h ⊢; split at h
      · exact hg _ _ _ _ _ h
      · exact hh _ _ _ h
      · cases h
theorem lj_inv_cont {ds : List lj_C} {ca : Nat → Nat → Bool} {call : lj_Y} {callN : Nat → lj_Y} {M : lj_M} {ix pc : Nat} {L st : List Value} {σ : lj_S} {go : lj_K} {goN : Nat → lj_K} (hc : ∀ i a σ o, call i a σ = some o → lj_ev (fun n => callN n i a σ) o) (hg : ∀ pc L st σ o, go pc L st σ = some o → lj_ev (fun n => goN n pc L st σ) o) {o : lj_O} (h : lj_inv ds ca call M ix pc L st σ go = some o) : lj_ev (fun n => lj_inv ds ca (callN n) M ix pc L st σ (goN n)) o := by
  unfold lj_inv at h ⊢
  split at h
  · split at h
    · exact lj_ev.b h fun h => lj_back_cont hg (fun x σ o q => lj_hh_cont hg q) (fun o q => hc _ _ _ _ q) h
    · cases h
  · cases h
theorem lj_one_cont {ds : List lj_C} {ca : Nat → Nat → Bool} {call : lj_Y} {callN : Nat → lj_Y} {M : lj_M} {ins : Instr} {pc len : Nat} {L st : List Value} {σ : lj_S} {go : lj_K} {goN : Nat → lj_K} (hc : ∀ i a σ o, call i a σ = some o → lj_ev (fun n => callN n i a σ) o) (hg : ∀ pc L st σ o, go pc L st σ = some o → lj_ev (fun n => goN n pc L st σ) o) {o : lj_O} (h : lj_one ds ca call M ins pc len L st σ go = some o) : lj_ev (fun n => lj_one ds ca (callN n) M ins pc len L st σ (goN n)) o := by
  unfold lj_one at h ⊢
  split at h
  · exact lj_ev.c h
  · exact lj_ev.c h
  · exact lj_ev.c h
  · exact lj_ev.c h
  · split at h
    · exact lj_ev.b h fun h => lj_hh_cont hg h
    · cases h
  · exact lj_inv_cont hc hg h
  · exact lj_inv_cont hc hg h
  · exact lj_U_cont (lj_U_st ds M.2.2.1 M.2.2.2.2.1 _ pc len L st σ) hg h
theorem lj_ex_cont {ds : List lj_C} {ca : Nat → Nat → Bool} {call : lj_Y} {callN : Nat → lj_Y} {M : lj_M} {jump : lj_K} {jumpN : Nat → lj_K} (hc : ∀ i a σ o, call i a σ = some o → lj_ev (fun n => callN n i a σ) o) (hg : ∀ pc L st σ o, jump pc L st σ = some o → lj_ev (fun n => jumpN n pc L st σ) o) : ∀ (k pc : Nat) (L st : List Value) (σ : lj_S) (o : lj_O), lj_ex ds ca call M jump k pc L st σ = some o → lj_ev (fun n => lj_ex ds ca (callN n) M (jumpN n) k pc L st σ) o
  | 0, _, _, _, _, _, h => by cases h
  | k + 1, pc, L, st, σ, o, h => by
    unfold lj_ex at h ⊢
    split at h
    · cases h
    · refine lj_one_cont hc (fun pc' L' st' σ' o' q => ?_) h
      cases hm : lj_mem M.2.1 pc' with
      | true => rw [hm] at q; exact hg _ _ _ _ _ q
      | false => rw [hm] at q; exact lj_ex_cont hc hg k _ _ _ _ _ q
theorem lj_D_eq (P : lj_P) (M : lj_M) (pc : Nat) (L st : List Value) (σ : lj_S) : lj_D P M pc L st σ = lj_ex P.1 P.2.1 (lj_R P) M (lj_D P M) 4000 pc L st σ := by
  have h1 : lj_le (lj_D P M pc L st σ) (lj_ex P.1 P.2.1 (lj_R P) M (lj_D P M) 4000 pc L st σ) := by
    intro o h
    obtain ⟨n, hn⟩ := lj_D_spec.mp h
    cases n with
    | zero => cases hn
    | succ n =>
      refine lj_ex_mono (fun i a σ o q => lj_R_spec.mpr ⟨n + 1, q⟩) (fun pc L st σ o q => ?_) 4000 pc L st σ o hn
      exact lj_D_spec.mpr ⟨n + 1, lj_exec_mono (fun _ _ _ => lj_le.rf) n (n + 1) (by omega) _ _ _ _ o q⟩
  have h2 : lj_le (lj_ex P.1 P.2.1 (lj_R P) M (lj_D P M) 4000 pc L st σ) (lj_D P M pc L st σ) := by
    intro o h
    obtain ⟨N, hN⟩ := lj_ex_cont (callN := fun n => lj_run P n n) (jumpN := fun n => lj_exec P.1 P.2.1 (lj_run P n n) M n)
      (fun i a σ o q => by
        obtain ⟨n, hn⟩ := lj_R_spec.mp q
        exact ⟨n, fun n' h' => lj_run_deep n n' n n' h' h' i a σ o hn⟩)
      (fun pc L st σ o q => by
        obtain ⟨n, hn⟩ := lj_D_spec.mp q
        exact ⟨n, fun n' h' => lj_exec_mono (lj_run_deep n n' n n' h' h') n n' h' pc L st σ o hn⟩) 4000 pc L st σ o h
    refine lj_D_spec.mpr ⟨N + 1, ?_⟩
    exact lj_ex_mono (fun i a σ => lj_run_deep N (N + 1) N (N + 1) (by omega) (by omega) i a σ) (lj_exec_mono (lj_run_deep N (N + 1) N (N + 1) (by omega) (by omega)) N N (Nat.le_refl _)) 4000 pc L st σ o (hN N (Nat.le_refl _))
  cases hA : lj_D P M pc L st σ with
  | some o => exact (h1 o hA).symm
  | none =>
    cases hB : lj_ex P.1 P.2.1 (lj_R P) M (lj_D P M) 4000 pc L st σ with
    | none => rfl
    | some o => rw [h2 o hB] at hA; cases hA
theorem lj_le_eq {a b : Option lj_O} (h : lj_le a b) (g : lj_le b a) : a = b := by
  cases ha : a with
  | some o => exact (h o ha).symm
  | none =>
    cases hb : b with
    | none => rfl
    | some o => rw [g o hb] at ha; cases ha
theorem lj_R_eq (P : lj_P) (i : Nat) (a : List Value) (σ : lj_S) {nL : Nat} {M : lj_M} (h : P.2.2.2 i = some (nL, M)) (hw : lj_may P i a nL σ = true) : lj_R P i a σ = lj_D P M 0 (lj_loc nL a) [] σ := by
  have e : ∀ d n, lj_run P (d + 1) n i a σ = lj_exec P.1 P.2.1 (lj_run P d n) M n 0 (lj_loc nL a) [] σ := fun d n => by simp only [lj_run, h, hw, cond_true]
  apply lj_le_eq
  · intro o q
    obtain ⟨n, hn⟩ := lj_R_spec.mp q
    cases n with
    | zero => cases hn
    | succ n =>
      rw [e] at hn
      exact lj_D_spec.mpr ⟨n + 1, lj_exec_mono (lj_run_deep n (n + 1) (n + 1) (n + 1) (by omega) (by omega)) (n + 1) (n + 1) (Nat.le_refl _) _ _ _ _ o hn⟩
  · intro o q
    obtain ⟨n, hn⟩ := lj_D_spec.mp q
    refine lj_R_spec.mpr ⟨n + 1, ?_⟩
    rw [e]
    exact lj_exec_mono (lj_run_deep n n n (n + 1) (by omega) (by omega)) n (n + 1) (by omega) _ _ _ _ o hn
theorem lj_R_prim (P : lj_P) (i : Nat) (a : List Value) (σ : lj_S) (h : P.2.2.2 i = none) : lj_R P i a σ = P.2.2.1 i a σ := by
  have e : ∀ d n, lj_run P (d + 1) n i a σ = P.2.2.1 i a σ := fun d n => by simp only [lj_run, h]
  apply lj_le_eq
  · intro o q
    obtain ⟨n, hn⟩ := lj_R_spec.mp q
    cases n with
    | zero => cases hn
    | succ n => rw [e] at hn; exact hn
  · intro o q
    exact lj_R_spec.mpr ⟨1, by rw [e]; exact q⟩
