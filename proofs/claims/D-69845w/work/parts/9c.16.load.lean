/-! load of both: what is built in -/
theorem lk_rng {f : Nat → Int} : ∀ (d i N : Nat), i + d = N → (∀ k, i ≤ k → k < N → f k = if k + 1 < N then ((k + 1 : Nat) : Int) else -1) → lk f (if i < N then (i : Int) else -1) (List.range' i d)
  | 0, i, N, h, _ => by rw [if_neg (by omega)]; rfl
  | d + 1, i, N, h, hf => by
    rw [if_pos (by omega), List.range'_succ]
    refine ⟨rfl, ?_⟩
    rw [hf i (by omega) (by omega)]
    have := lk_rng d (i + 1) N (by omega) (fun k a b => hf k (by omega) (by omega))
    exact this
theorem fs_rng {τ : lj_S} : ∀ (d i : Nat), i + d = 3000 → (∀ j, j < 3000 → τ.1 53 j = Int32.ofNat (2999 - j)) → fsM τ (List.range' i d)
  | 0, i, _, _ => trivial
  | d + 1, i, h, hf => by
    rw [List.range'_succ]
    refine ⟨?_, fs_rng d (i + 1) (by omega) hf⟩
    rw [List.length_range', hf d (by omega), show 2999 - d = i by omega]
theorem fc_rng {τ : lj_S} : ∀ (d i : Nat), i + d = 95000 → (∀ j, j < 95000 → τ.1 57 j = Int32.ofNat (94999 - j)) → fcM τ (List.range' i d)
  | 0, i, _, _ => trivial
  | d + 1, i, h, hf => by
    rw [List.range'_succ]
    refine ⟨?_, fc_rng d (i + 1) (by omega) hf⟩
    rw [List.length_range', hf d (by omega), show 94999 - d = i by omega]
/-- both heaps at the start -/
theorem hpR_0 {σ τ : lj_S} (h : hc0 σ) (h77 : τ.1 0 77 = 0) (h88 : τ.1 0 88 = Int32.ofNat 3000) (h89 : τ.1 0 89 = 0) (h52 : ∀ i, i < 4096 → τ.1 52 i = -1) (h53 : ∀ i, i < 3000 → τ.1 53 i = Int32.ofNat (2999 - i)) (h40 : τ.1 40 2001 = -1) (h41 : τ.1 41 2001 = -1) : hpR σ τ 0 := by
  obtain ⟨⟨c0, _, c11, c12, _, _⟩, c70, c73, ⟨_, _, c59, c60, c61, _⟩⟩ := h
  have z : ∀ {x : lj_S} {k j : Nat}, x.1 k j = 0 → lv x k j = 0 := fun e => by unfold lv; rw [e]; rfl
  have n1 : ∀ {x : lj_S} {k j : Nat}, x.1 k j = -1 → lv x k j = -1 := fun e => by unfold lv; rw [e]; rfl
  have V1 : ∀ t, VM 0 t → t = 2001 := fun t ht => by rcases ht with e | e <;> omega
  refine ⟨Nat.zero_le _, z c0, z h77, fun _ => [], fun _ => [], List.range' 0 3000, fun _ => [], fun _ => [], List.range' 0 3000, ⟨⟨fun t ht => ?_, fun b hb => ⟨n1 (c73 b hb), fun p hp => by cases hp⟩, fun t ht p hp => by cases hp⟩, ⟨?_, ?_, fun p hp => ⟨?_, fun t ht w => by cases w⟩⟩, fun t ht => ?_⟩, ⟨⟨fun t ht => ?_, fun b hb => ⟨n1 (h52 b hb), fun p hp => by cases hp⟩, fun t ht p hp => by cases hp⟩, fs_rng 3000 0 rfl h53, ?_, ?_, List.nodup_range', fun p hp => ⟨?_, fun t ht w => by cases w⟩⟩, ⟨rfl, fun i hi => by cases hi, fun _ _ _ => rfl⟩, fun t ht => trivial⟩
  · have e : t = 0 := Nat.le_zero.1 ht
    rw [e]; exact ⟨n1 c59, n1 c60⟩
  · have := lk_rng (f := lv σ 70) 3000 0 3000 rfl (fun k a b => by
      unfold lv
      rw [c70 k b]
      by_cases w : k + 1 < 3000
      · rw [if_pos w, if_pos w, lz_lit (by omega)]
      · rw [if_neg w, if_neg w]; rfl)
    rw [if_pos (by omega)] at this
    rw [z c12]
    exact this
  · rw [z c11, List.length_range']; rfl
  · have := List.mem_range'_1.1 hp; omega
  · have e : t = 0 := Nat.le_zero.1 ht
    rw [e]; exact z c61
  · rw [V1 t ht]; exact ⟨n1 h40, n1 h41⟩
  · unfold lv; rw [h88, List.length_range', lz_lit (by omega)]
  · rw [z h89, List.length_range']; rfl
  · have := List.mem_range'_1.1 hp; omega
/-- a pair is set, and there is room -/
theorem cm_set2 {σ τ : lj_S} {X : List Int32 → Prop} (hs : sR σ τ X) {n : Nat} (h : hpR σ τ n) {t : Nat} (ht : t ≤ n) {a b : vT} (hab : vR σ τ a b) (ha : a.1 ≠ 0) {u w : vT} (huw : vR σ τ u w) (hk0 : t = 0 → a.1 = 3) (hk4 : σ.1 57 t = 4) (hroom : lv σ 7 11 < 3000) : ∃ σ' τ', lj_R lc_P 113 [.ref 7, .int (Int32.ofNat t), .int a.1, .long a.2, .int u.1, .long u.2] σ = some (.inl none, σ') ∧ lj_R lm_P 108 [.ref 0, .int (Int32.ofNat (tm t)), .int b.1, .long b.2, .int w.1, .long w.2] τ = some (.inl (some (.int 1)), τ') ∧ hpR σ' τ' n ∧ lf hwC σ σ' ∧ lf hwM τ τ' ∧ lv σ' 7 11 ≤ lv σ 7 11 + 1 := by
  have h00 := h
  obtain ⟨h1, h2, h3, P, B, Fr, P', B', Fr', hc, hm, hl, he⟩ := h
  have hV : ∀ t, (fun x => x ≤ n) t → t ≤ 2000 := fun t ht => by have ht : t ≤ n := ht; omega
  have key : ∀ o, lj_R lc_P 113 [.ref 7, .int (Int32.ofNat t), .int a.1, .long a.2, .int u.1, .long u.2] σ = some o → ∃ σ', o = (.inl none, σ') ∧ lv σ' 7 11 ≤ lv σ 7 11 + 1 := by
    intro o ho
    rcases c_hset hc hV ht a.1 a.2 u.1 u.2 with ⟨p, hp, e1, σ', run, hc', en1, en2, f1, f2⟩ | ⟨no, z, run⟩ | ⟨no, z, z0, run⟩ | ⟨no, z, p, Fr1, B1, σ', z0, run, hc', en1, en2, f1, f2⟩
    · rw [run] at ho
      cases ho
      refine ⟨σ', rfl, ?_⟩
      unfold lv
      rw [f1 7 11 (by omega)]
      omega
    · rw [run] at ho
      cases ho
      exact ⟨σ, rfl, (by omega)⟩
    · exfalso
      have := hc.2.1.2.1
      rw [z0] at this
      have : lv σ 7 11 + 0 = 3000 := this
      omega
    · rw [run] at ho
      cases ho
      refine ⟨σ', rfl, ?_⟩
      have q1 := hc.2.1.2.1
      have q2 := hc'.2.1.2.1
      rw [z0, List.length_cons] at q1
      push_cast at q1
      omega
  rcases cm_set hs h00 ht hab ha huw hk0 hk4 with ⟨e1, e2⟩ | ⟨σ', τ', e1, e2, e3, e4, e5⟩
  · obtain ⟨σ', q, _⟩ := key _ e1
    cases q
  · obtain ⟨σ1, q, q2⟩ := key _ e1
    cases q
    exact ⟨σ', τ', e1, e2, e3, e4, e5, q2⟩
/-- a word that is settled is settled again: nothing changes -/
theorem c_has_set {σ τ : lj_S} {X : List Int32 → Prop} (h : sR σ τ X) {D : List Int32} (hD : cDr σ D) (hl : D.length ≤ 20) (hh : cHas σ D) (h01 : ∀ s : Nat, (s : Int) < lv σ 3 7 → σ.1 15 s = 0 ∨ σ.1 15 s = 1) (g7 : lv σ 3 7 < 2600) (g8 : lv σ 3 8 + 20 ≤ 40000) : ∃ s, lj_R lc_P 24 [.ref 3] σ = some (.inl (some (.int (Int32.ofNat s))), σ) ∧ s < 2600 ∧ (s : Int) < lv σ 3 7 ∧ cS σ s = D := by
  obtain ⟨σ1, s, e1, e2, e3, e4, e5, e6⟩ := c_settle σ hD (by omega) h.1 g7 (by omega)
  obtain ⟨t, t1, t2, t3⟩ := hh
  rcases e2 with ⟨q1, q2, q3⟩ | ⟨q1, q2, _⟩
  · have est : s = t := h.1.2.2.2.2.1 s t q2 t1 (by rw [q3, t2])
    have e15 : σ.1 15 s = 1 := by
      rw [est]
      exact (h01 t t1).resolve_left t3
    rw [q1, lj_put_self _ _ _ _ e15] at e1
    exact ⟨s, e1, e6, q2, q3⟩
  · exact absurd t2 (q2 t t1)
theorem c_sk_loop (σ : lj_S) {D : List Int32} (hD : cDr σ D) (h24 : D.length ≤ 2400) (r : Nat) : ∀ (l : List Nat) (x : Int32), lk (lv σ 12) x.toInt l → (∀ s ∈ l, cIn σ s) → lj_D lc_P lc_M28 19 [.ref 3, .ref r, .int x] [] σ = some (.inl (some (.int (match l.find? (fun s => decide (cS σ s = D)) with
    | some s => Int32.ofNat s
    | none => -2))), σ)
  | [], x, hx, _ => by
    have e : x = -1 := lz_ext hx
    rw [e, kc_28_19, if_pos (by decide)]
    rfl
  | p :: l, x, hx, hl => by
    have hp := hl p List.mem_cons_self
    have e : x = Int32.ofNat p := lz_ext (by rw [lz_lit (by have := hp.1; omega)]; exact hx.1)
    rw [e, kc_28_19, if_neg (by rw [lz_lt, lz_lit (by have := hp.1; omega)]; show ¬ ((p : Int) < 0); omega), c_isDraft σ hD h24 hp, bi_ok]
    by_cases z : cS σ p = D
    · rw [if_pos z, if_neg (by decide), List.find?_cons_of_pos (by simpa using z)]
    · rw [if_neg z, if_pos rfl, if_pos (ofN_in hp.1 (by decide)), lz_onat (by have := hp.1; omega), List.find?_cons_of_neg (by simpa using z)]
      exact c_sk_loop σ hD h24 r l _ hx.2 (fun s hs => hl s (List.mem_cons_of_mem _ hs))
/-- a word is looked for -/
theorem c_sk (σ : lj_S) (hok : cOK σ) (r : Nat) {W : List Int32} (hr : 1000 ≤ r) (h : lj_nth lc_str (r - 1000) = some W) (hb : W.map lz_by = W) (hl : W.length < 100) : ∃ σ' x, lj_R lc_P 28 [.ref 3, .ref r] σ = some (.inl (some (.int x)), σ') ∧ lf cAd σ σ' ∧ ((∃ s : Nat, x = Int32.ofNat s ∧ s < 2600 ∧ (s : Int) < lv σ 3 7 ∧ cS σ s = W) ∨ (x = -2 ∧ ∀ s : Nat, (s : Int) < lv σ 3 7 → cS σ s ≠ W)) := by
  obtain ⟨σ1, a1, a2, a3, a4⟩ := c_wd σ r hr h hb (by omega)
  have ok1 := cOK_draft hok a4
  have e7 : lv σ1 3 7 = lv σ 3 7 := by unfold lv; rw [(a4 3 7 rfl).1]
  obtain ⟨⟨m1, m2⟩, ⟨u1, u2⟩, hin, hby, hinj, B, hB, hBm, hBp, hBa⟩ := id ok1
  have bb := bkC_b W
  have hbn : (bkC W).toNatClampNeg < 1024 := by rw [lz_nat]; omega
  have lp := c_sk_loop σ1 a3 (by omega) r (B (bkC W).toNatClampNeg) (σ1.1 13 (bkC W).toNatClampNeg) (hB _ hbn) (fun s hs => ok1.inn (hBm _ hbn s hs))
  refine ⟨σ1, _, ?_, a4, ?_⟩
  · rw [rc_28, kc_28_0, a1, bv_ok, a2, bv_ok, c_bucket σ1 a3 (by omega), bi_ok, if_pos (lz_in.2 bb), lp]
  · cases hf : (B (bkC W).toNatClampNeg).find? (fun s => decide (cS σ1 s = W)) with
    | some s =>
      left
      have h1 := hBm _ hbn s (List.mem_of_find?_eq_some hf)
      have h2 := List.find?_some hf
      refine ⟨s, rfl, by omega, by omega, ?_⟩
      rw [← cS_draft a4]
      simpa using h2
    | none =>
      right
      refine ⟨rfl, fun s hs e => ?_⟩
      have h1 := hBa s (by omega)
      rw [cS_draft a4, e] at h1
      have h2 := List.find?_eq_none.1 hf s h1
      rw [cS_draft a4] at h2
      simp [e] at h2
/-- on the way: n objects, at most m pairs -/
def ldI (n m : Nat) (σ τ : lj_S) : Prop := sR σ τ (fun _ => False) ∧ (∀ s : Nat, (s : Int) < lv σ 3 7 → σ.1 15 s = 0 ∨ σ.1 15 s = 1) ∧ (69 ≤ lv τ 0 14 ∧ ∀ s : Nat, s < 69 → mS τ s = mBw s) ∧ (∀ k, k < 31 → cHas σ (nmX k)) ∧ (cHas σ w5 ∧ cHas σ w6 ∧ cHas σ w7) ∧ hpR σ τ n ∧ (lv σ 7 11 ≤ (m : Int) ∧ lv σ 3 7 < 2600 ∧ lv σ 3 8 + 20 ≤ 40000) ∧ σ.1 57 0 = 4 ∧ ∀ o, 1 ≤ o → o ≤ n → σ.1 57 o = 4 ∧ τ.1 38 o = 4
def ldC (k j : Nat) : Bool := cAd k j || hwC k j
theorem ldI.cg {n m m' : Nat} {σ τ σ' τ' : lj_S} (h : ldI n m σ τ) (f : lf ldC σ σ') (g : lf hwM τ τ') (hp : hpR σ' τ' n) (h11 : lv σ' 7 11 ≤ (m' : Int)) : ldI n m' σ' τ' := by
  obtain ⟨h1, h2, ⟨h3, h3'⟩, h4, ⟨h5, h6, h7⟩, _, ⟨_, h8, h9⟩, h10, h12⟩ := h
  have o : ∀ k j, ldC k j = false → σ'.1 k j = σ.1 k j := fun k j w => (f k j w).1
  have sq : ∀ k j, sqC k j = true → σ'.1 k j = σ.1 k j := fun k j w => o k j (by unfold sqC at w; unfold ldC cAd hwC; simp at w ⊢; omega)
  have sm : ∀ k j, sqM k j = true → τ'.1 k j = τ.1 k j := fun k j w => (g k j (by unfold sqM at w; unfold hwM; simp at w ⊢; omega)).1
  have e7 : lv σ' 3 7 = lv σ 3 7 := by unfold lv; rw [sq 3 7 rfl]
  have e8 : lv σ' 3 8 = lv σ 3 8 := by unfold lv; rw [sq 3 8 rfl]
  have eS : ∀ t, cS σ' t = cS σ t := cS_cong (fun j => sq 9 j rfl) (fun j => sq 10 j rfl) (fun j => sq 11 j rfl)
  have mSe : ∀ t, mS τ' t = mS τ t := mS_cong (fun j => sm 2 j rfl) (fun j => sm 3 j rfl) (fun j => sm 4 j rfl)
  have has : ∀ E, cHas σ E → cHas σ' E := fun E ⟨t, t1, t2, t3⟩ => ⟨t, by rw [e7]; exact t1, by rw [eS]; exact t2, by rw [sq 15 t rfl]; exact t3⟩
  refine ⟨h1.cg sq sm, fun s hs => by rw [sq 15 s rfl]; exact h2 s (by rw [← e7]; exact hs), ⟨by unfold lv at h3 ⊢; rw [sm 0 14 rfl]; exact h3, fun s hs => by rw [mSe]; exact h3' s hs⟩, fun k hk => has _ (h4 k hk), ⟨has _ h5, has _ h6, has _ h7⟩, hp, ⟨h11, by rw [e7]; exact h8, by rw [e8]; exact h9⟩, by rw [o 57 0 rfl]; exact h10, fun o' a b => by rw [o 57 o' rfl, (g 38 o' rfl).1]; exact h12 o' a b⟩
/-- one of what is built in comes into a table of both -/
theorem ld_fill {n m : Nat} {σ τ : lj_S} (h : ldI n m σ τ) (hm : m < 3000) {k t : Nat} (hk : k < 31) (ht : t ≤ n) : ∃ σ1 σ' τ' s, lj_R lc_P 124 [.ref 8, .int (Int32.ofNat k), .int (if k < 17 then 0 else 5)] σ = some (.inl (some (.int (Int32.ofNat s))), σ1) ∧ lj_R lc_P 127 [.ref 8, .int (Int32.ofNat t), .int (Int32.ofNat s), .int (Int32.ofNat k)] σ1 = some (.inl none, σ') ∧ lj_R lm_P 107 [.ref 0, .int (Int32.ofNat (tm t)), .int (Int32.ofNat (nmI k)), .int 7, .long (i64 k)] τ = some (.inl none, τ') ∧ ldI n (m + 1) σ' τ' ∧ lf ldC σ σ' ∧ lf hwM τ τ' := by
  obtain ⟨σ1, a1, a2, a3⟩ := c_nmf σ hk
  have a3' : lf ldC σ σ1 := a3.mo (fun k j w => by unfold ldC at w; simp at w; exact w.1)
  have hp1 : hpR σ1 τ n := h.2.2.2.2.2.1.cg (fun k j w => a3 k j (by unfold hqC vqC at w; unfold cAd; simp at w ⊢; omega)) (fun _ _ _ => ⟨rfl, rfl⟩)
  have e11 : lv σ1 7 11 = lv σ 7 11 := by unfold lv; rw [(a3 7 11 rfl).1]
  have h1 : ldI n m σ1 τ := h.cg a3' (lf_rf _ _) hp1 (by rw [e11]; exact h.2.2.2.2.2.2.1.1)
  obtain ⟨q1, q2, q3, q4, _, q6, q7, q8, q9⟩ := h1
  have nk := nmI_ok ⟨k, hk⟩
  have nk1 : nmX k = mBw (nmI k) := nk.1
  have nk2 : nmI k < 69 := nk.2.1
  obtain ⟨s, s1, s2, s3, s4⟩ := c_has_set q1 a2 nk.2.2 (q4 k hk) q2 q7.2.1 q7.2.2
  have t4 : σ1.1 57 t = 4 := by
    by_cases z : t = 0
    · rw [z]; exact q8
    · exact (q9 t (by omega) ht).1
  have hE : sE σ1 τ s (nmI k) := ⟨s3, by have := q3.1; omega, by rw [s4, q3.2 _ nk2]; exact nk1⟩
  obtain ⟨σ', τ', e1, e2, e3, e4, e5, e6⟩ := cm_set2 q1 q6 ht (a := (3, i64 s)) (b := (3, i64 (nmI k))) (vR_str hE s2 (by omega)) (by decide) (u := (5, bn k)) (w := (7, i64 k)) (vR_bn (by omega)) (fun _ => rfl) t4 (by have := q7.1; omega)
  have ff : lf ldC σ1 σ' := e4.mo (fun k j w => by unfold ldC at w; simp at w; exact w.2)
  refine ⟨σ1, σ', τ', s, by rw [a1, s1, bi_ok], ?_, ?_, (⟨q1, q2, q3, q4, ‹_›, q6, q7, q8, q9⟩ : ldI n m σ1 τ).cg ff e5 e3 (by have := q7.1; push_cast; omega), a3'.tr ff, e5⟩
  · rw [rc_127, kc_127_0]
    have e1 : lj_R lc_P 113 [.ref 7, .int (Int32.ofNat t), .int 3, .long (Int32.ofNat s).toInt64, .int 5, .long (-1 - (Int32.ofNat k).toInt64)] σ1 = some (.inl none, σ') := e1
    rw [e1, bv_ok]
  · rw [rm_107, km_107_0]
    have e2 : lj_R lm_P 108 [.ref 0, .int (Int32.ofNat (tm t)), .int 3, .long (Int32.ofNat (nmI k)).toInt64, .int 7, .long (i64 k)] τ = some (.inl (some (.int 1)), τ') := e2
    rw [e2, bi_ok]
