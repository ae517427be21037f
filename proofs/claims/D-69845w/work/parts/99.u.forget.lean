/-! locals that are forgotten -/
/-- the component closes scopes: what its three loops do -/
theorem cls_loop {D E : lj_S → Option lj_O} {f K0 : Nat} (hf : f < 51) (hstop : ∀ σ, σ.1 6 2 = Int32.ofNat f → σ.1 44 f = Int32.ofNat K0 → D σ = E σ) (hstep : ∀ (σ : lj_S) (K k : Nat), σ.1 6 2 = Int32.ofNat f → σ.1 44 f = Int32.ofNat (K + 1) → K0 ≤ K → K < 50 → σ.1 47 (50 * f + K) = Int32.ofNat k → k < 4000 → D σ = D (lj_put (lj_put σ 44 f (Int32.ofNat K)) 40 k (σ.1 5 0))) :
    ∀ (n : Nat) (σ : lj_S), σ.1 6 2 = Int32.ofNat f → σ.1 44 f = Int32.ofNat (K0 + n) → K0 + n ≤ 50 → (∀ i, K0 ≤ i → i < K0 + n → ∃ k, σ.1 47 (50 * f + i) = Int32.ofNat k ∧ k < 4000) →
      ∃ σ', D σ = E σ' ∧ σ'.1 44 f = Int32.ofNat K0 ∧ (∀ k j, k ≠ 44 → k ≠ 40 → σ'.1 k j = σ.1 k j) ∧ (∀ j, j ≠ f → σ'.1 44 j = σ.1 44 j) ∧ σ'.2 = σ.2 ∧ (∀ i k : Nat, K0 ≤ i → i < K0 + n → σ.1 47 (50 * f + i) = Int32.ofNat k → k < 4000 → σ'.1 40 k = σ.1 5 0) ∧ ∀ k : Nat, σ'.1 40 k = σ.1 40 k ∨ (k < 4000 ∧ σ'.1 40 k = σ.1 5 0 ∧ ∃ i, K0 ≤ i ∧ i < K0 + n ∧ σ.1 47 (50 * f + i) = Int32.ofNat k)
  | 0, σ, h1, h2, _, _ => ⟨σ, hstop σ h1 h2, h2, fun _ _ _ _ => rfl, fun _ _ => rfl, rfl, fun i k a b => by omega, fun _ => Or.inl rfl⟩
  | n + 1, σ, h1, h2, h3, h4 => by
    obtain ⟨k, k1, k2⟩ := h4 (K0 + n) (by omega) (by omega)
    have o : ∀ k' j, ¬ (k' = 44 ∧ j = f) → ¬ (k' = 40 ∧ j = k) → (lj_put (lj_put σ 44 f (Int32.ofNat (K0 + n))) 40 k (σ.1 5 0)).1 k' j = σ.1 k' j := fun k' j q1 q2 => by
      rw [lj_put_1, if_neg q2, lj_put_1, if_neg q1]
    obtain ⟨σ', r1, r2, r3, r4, r5, r6, r7⟩ := cls_loop hf hstop hstep n (lj_put (lj_put σ 44 f (Int32.ofNat (K0 + n))) 40 k (σ.1 5 0)) (by rw [o _ _ (by omega) (by omega)]; exact h1) (by rw [lj_put_1, if_neg (by omega), lj_put_1, if_pos ⟨rfl, rfl⟩]) (by omega) (fun i a b => by rw [o _ _ (by omega) (by omega)]; exact h4 i (by omega) (by omega))
    have e40 : (lj_put (lj_put σ 44 f (Int32.ofNat (K0 + n))) 40 k (σ.1 5 0)).1 40 k = σ.1 5 0 := by rw [lj_put_1, if_pos ⟨rfl, rfl⟩]
    have e50 : (lj_put (lj_put σ 44 f (Int32.ofNat (K0 + n))) 40 k (σ.1 5 0)).1 5 0 = σ.1 5 0 := o _ _ (by omega) (by omega)
    refine ⟨σ', (hstep σ (K0 + n) k h1 h2 (by omega) (by omega) k1 k2).trans r1, r2, fun k' j q1 q2 => (r3 k' j q1 q2).trans (o _ _ (by omega) (by omega)), fun j hj => (r4 j hj).trans (o _ _ (by omega) (by omega)), r5, fun i k' a b c d => ?_, fun k' => ?_⟩
    · by_cases e : i = K0 + n
      · have : k' = k := by
          rw [e, k1] at c
          exact ((ofN_eq (by omega) (by omega)).1 c).symm
        rw [this]
        rcases r7 k with q | q
        · rw [q, e40]
        · rw [q.2.1, e50]
      · rw [r6 i k' a (by omega) (by rw [o _ _ (by omega) (by omega)]; exact c) d, e50]
    · rcases r7 k' with q | ⟨q0, q, i, a, b, c⟩
      · by_cases e : k' = k
        · exact Or.inr ⟨by rw [e]; exact k2, by rw [q, e, e40], K0 + n, (by omega), (by omega), by rw [e]; exact k1⟩
        · exact Or.inl (by rw [q, o _ _ (by omega) (by omega)])
      · exact Or.inr ⟨q0, by rw [q, e50], i, a, (by omega), by rw [← c, o _ _ (by omega) (by omega)]⟩
theorem c_cls69 {f K0 : Nat} (hf : f < 51) (hK : K0 ≤ 50) : (∀ σ, σ.1 6 2 = Int32.ofNat f → σ.1 44 f = Int32.ofNat K0 → lj_D lc_P lc_M69 5 [.ref 6, .int (Int32.ofNat K0)] [] σ = some (.inl none, σ)) ∧ (∀ (σ : lj_S) (K k : Nat), σ.1 6 2 = Int32.ofNat f → σ.1 44 f = Int32.ofNat (K + 1) → K0 ≤ K → K < 50 → σ.1 47 (50 * f + K) = Int32.ofNat k → k < 4000 → lj_D lc_P lc_M69 5 [.ref 6, .int (Int32.ofNat K0)] [] σ = lj_D lc_P lc_M69 5 [.ref 6, .int (Int32.ofNat K0)] [] (lj_put (lj_put σ 44 f (Int32.ofNat K)) 40 k (σ.1 5 0))) := by
  have i1 : lj_in (Int32.ofNat f) 51 := ofN_in hf (by omega)
  constructor
  · intro σ h1 h2
    rw [kc_69_5, h1]
    simp only [if_pos i1, lz_onat (show f < 2147483648 by omega), h2]
    rw [if_pos (by rw [lz_le]; exact Int.le_refl _)]
  · intro σ K k h1 h2 h3 h4 h5 h6
    have i2 : lj_in (Int32.ofNat (50 * f + K)) 2550 := ofN_in (by omega) (by omega)
    have i3 : lj_in (Int32.ofNat k) 4000 := ofN_in (by omega) (by omega)
    have e44 : ∀ y : Int32, (lj_put σ 44 f y).1 44 f = y := fun y => by rw [lj_put_1, if_pos ⟨rfl, rfl⟩]
    rw [kc_69_5, h1]
    simp only [if_pos i1, lz_onat (show f < 2147483648 by omega), h2, lz_pred', e44, lz_m50, if_pos i2, lz_onat (show 50 * f + K < 2147483648 by omega), h5, if_pos i3, lz_onat (show k < 2147483648 by omega)]
    rw [if_neg (by rw [lz_le, lz_lit (by omega), lz_lit (by omega)]; omega)]
theorem knC_dr {σ : lj_S} {q : Nat} {r : List kT} : ∀ (e : List kT), knC σ q (e ++ r) → knC σ q r
  | [], h => h
  | _ :: e, h => knC_dr e h.2
theorem knM_dr {τ : lj_S} {q : Nat} {r : List kT} : ∀ (e : List kT), knM τ q (e ++ r) → knM τ q r
  | [], h => h
  | _ :: e, h => knM_dr e h.2
theorem ksc_app {σ : lj_S} {q : Nat} {kn : List kT} : ∀ (e : List kT), ksc σ q (e ++ kn) → ksc σ q kn ∧ (∀ i, kn.length ≤ i → i < (e ++ kn).length → ∃ k x : Nat, x ∈ e.map (·.2.2) ∧ σ.1 47 (50 * q + i) = Int32.ofNat k ∧ (k : Int) < lv σ 5 18 ∧ lv σ 37 k = (q : Int) ∧ lv σ 38 k = (x : Int) ∧ lv σ 40 k = 14000) ∧ ∀ x : Nat, x ∈ e.map (·.2.2) → ∃ i k : Nat, kn.length ≤ i ∧ i < (e ++ kn).length ∧ σ.1 47 (50 * q + i) = Int32.ofNat k ∧ (k : Int) < lv σ 5 18 ∧ lv σ 37 k = (q : Int) ∧ lv σ 38 k = (x : Int) ∧ lv σ 40 k = 14000
  | [], h => ⟨h, fun i a b => by simp at b; omega, fun x hx => by simp at hx⟩
  | y :: e, h => by
    obtain ⟨h1, h2, h3⟩ := ksc_app e h.2
    obtain ⟨k, k1, k2, k3, k4, k5⟩ := h.1
    refine ⟨h1, fun i a b => ?_, fun x hx => ?_⟩
    · by_cases c : i < (e ++ kn).length
      · obtain ⟨k, x, q1, q2⟩ := h2 i a c
        exact ⟨k, x, List.mem_cons_of_mem _ q1, q2⟩
      · have b : i < (e ++ kn).length + 1 := b
        have : i = (e ++ kn).length := by omega
        exact ⟨k, y.2.2, List.mem_cons_self, by rw [this]; exact k1, k2, k3, k4, k5⟩
    · have hx : x ∈ y.2.2 :: e.map (·.2.2) := hx
      rcases List.mem_cons.1 hx with c | c
      · exact ⟨(e ++ kn).length, k, by simp, Nat.lt_succ_self _, k1, k2, k3, by rw [c]; exact k4, k5⟩
      · obtain ⟨i, k, q1, q2, q3⟩ := h3 x c
        exact ⟨i, k, q1, Nat.lt_succ_of_lt q2, q3⟩
theorem ksc_keep {σ σ' : lj_S} {q : Nat} (h18 : lv σ' 5 18 = lv σ 5 18) (h47 : ∀ j, σ'.1 47 j = σ.1 47 j) (h37 : ∀ k, lv σ' 37 k = lv σ 37 k) (h38 : ∀ k, lv σ' 38 k = lv σ 38 k) : ∀ {r : List kT}, (∀ k x : Nat, x ∈ r.map (·.2.2) → (k : Int) < lv σ 5 18 → lv σ 37 k = (q : Int) → lv σ 38 k = (x : Int) → lv σ 40 k = 14000 → lv σ' 40 k = 14000) → ksc σ q r → ksc σ' q r
  | [], _, _ => trivial
  | y :: r, g, h => by
    obtain ⟨k, k1, k2, k3, k4, k5⟩ := h.1
    exact ⟨⟨k, by rw [h47]; exact k1, by rw [h18]; exact k2, by rw [h37]; exact k3, by rw [h38]; exact k4, g k y.2.2 (List.mem_cons_self) k2 k3 k4 k5⟩, ksc_keep h18 h47 h37 h38 (fun k x hx => g k x (List.mem_cons_of_mem _ hx)) h.2⟩
theorem nmQ_pp {σ τ σ' τ' : lj_S} {a a' : Nat} (h : nmQ σ τ a a') (c9 : ∀ j, σ'.1 9 j = σ.1 9 j) (c10 : ∀ j, σ'.1 10 j = σ.1 10 j) (c11 : ∀ j, σ'.1 11 j = σ.1 11 j) (c37 : σ'.1 3 7 = σ.1 3 7) (m2 : ∀ j, τ'.1 2 j = τ.1 2 j) (m3 : ∀ j, τ'.1 3 j = τ.1 3 j) (m4 : ∀ j, τ'.1 4 j = τ.1 4 j) (m14 : τ'.1 0 14 = τ.1 0 14) : nmQ σ' τ' a a' := by
  have cs : ∀ t, cS σ' t = cS σ t := cS_cong c9 c10 c11
  have ms : ∀ t, mS τ' t = mS τ t := mS_cong m2 m3 m4
  have e1 : lv τ' 0 14 = lv τ 0 14 := by unfold lv; rw [m14]
  have e2 : lv σ' 3 7 = lv σ 3 7 := by unfold lv; rw [c37]
  rcases h with ⟨q1, q2⟩ | ⟨q1, q2, q3⟩
  · exact Or.inl ⟨q1, by rw [e2]; exact q2.1, by rw [e1]; exact q2.2.1, by rw [cs, ms]; exact q2.2.2⟩
  · exact Or.inr ⟨q1, by rw [e1]; exact q2, fun s hs => by rw [e2] at hs; rw [cs, ms]; exact q3 s hs⟩
/-- scopes that are closed: what both keep -/
theorem PS.cls {b : Nat → Int32} {n T : Nat} {Q : tkQ} {X : List Int32 → Prop} {FO : List fT} {Z : List zT} {PL : List qT} {cl ml : Nat} {F : Nat} {p v c m wh : Nat} {W : List wT} {σ τ : lj_S} {z : lT} {R : List lT} (h : PS b n T Q X F (z :: R) FO Z PL cl ml p v c m wh W σ τ) {e kn : List kT} (hk : z.2.1 = e ++ kn) (hT : T ≤ 520) {σ' τ' : lj_S} (r2 : σ'.1 44 z.1 = Int32.ofNat kn.length) (r3 : ∀ k j, k ≠ 44 → k ≠ 40 → σ'.1 k j = σ.1 k j) (r4 : ∀ j, j ≠ z.1 → σ'.1 44 j = σ.1 44 j) (r5 : σ'.2 = σ.2) (r6 : ∀ i k : Nat, kn.length ≤ i → i < kn.length + e.length → σ.1 47 (50 * z.1 + i) = Int32.ofNat k → k < 4000 → σ'.1 40 k = σ.1 5 0) (r7 : ∀ k : Nat, σ'.1 40 k = σ.1 40 k ∨ (k < 4000 ∧ σ'.1 40 k = σ.1 5 0 ∧ ∃ i, kn.length ≤ i ∧ i < kn.length + e.length ∧ σ.1 47 (50 * z.1 + i) = Int32.ofNat k)) (t1 : τ'.1 0 50 = Int32.ofNat (kn.length + baseN R)) (t2 : ∀ k j, ¬ (k = 0 ∧ j = 50) → τ'.1 k j = τ.1 k j) (t3 : τ'.2 = τ.2) :
    PS b n T Q X F ((z.1, kn, z.2.2) :: R) FO Z PL cl ml p v c m wh W σ' τ' ∧ TX (z :: R) σ τ σ' τ' ∧ (∀ c0 m0, fz 0 c0 0 m0 σ τ σ' τ') := by
  have hNR := h.1.2.2.1
  have hF := h.1.2.2.2.1
  have hLv := h.1.2.2.2.2.2.1
  have hSC := h.1.2.2.2.2.2.2
  obtain ⟨fl, FO0, rfl⟩ : ∃ fl FO0, FO = fl :: FO0 := by
    cases FO with
    | nil => exact hLv.elim
    | cons fl FO0 => exact ⟨fl, FO0, rfl⟩
  have hc5 : lv σ 5 0 = (c : Int) := by unfold lv; rw [h.2.1.2.2.2.2.1, lz_lit (by have := h.c14 hT; omega)]
  have hc14 := h.c14 hT
  obtain ⟨s1, s2, s3, s4⟩ := hLv.1.2.2.2.2.2.2
  have hnd : z.1 ∉ R.map (·.1) := by
    have := hNR.2.2.2.1
    rw [List.map_cons, List.nodup_cons] at this
    exact this.1
  have hS40 : lv σ 5 18 < 4000 := by
    have h1 := h.2.2.2.2.1.2.1.1
    have h2 := h.2.2.1.1
    have : (0 : Int) ≤ (rsv (fl :: FO0) : Int) := Int.natCast_nonneg _
    omega
  have hks := hLv.1.2.2.2.2.2.1
  rw [hk] at hks s3
  obtain ⟨u1, u2, u3⟩ := ksc_app e hks
  have hlen : (e ++ kn).length = kn.length + e.length := by simp; omega
  rw [List.map_append, List.pairwise_append] at s3
  have e18 : lv σ' 5 18 = lv σ 5 18 := by unfold lv; rw [r3 5 18 (by omega) (by omega)]
  have e37 : ∀ k, lv σ' 37 k = lv σ 37 k := fun k => by unfold lv; rw [r3 37 k (by omega) (by omega)]
  have e38 : ∀ k, lv σ' 38 k = lv σ 38 k := fun k => by unfold lv; rw [r3 38 k (by omega) (by omega)]
  have e39 : ∀ k, lv σ' 39 k = lv σ 39 k := fun k => by unfold lv; rw [r3 39 k (by omega) (by omega)]
  have e58 : lv σ' 5 8 = lv σ 5 8 := by unfold lv; rw [r3 5 8 (by omega) (by omega)]
  have y32 : ∀ q, lv σ' 32 q = lv σ 32 q := fun q => by unfold lv; rw [r3 32 q (by omega) (by omega)]
  have back : ∀ k : Nat, lv σ' 40 k = 14000 → lv σ' 40 k = lv σ 40 k := fun k q => by
    rcases r7 k with a | ⟨_, a, _⟩
    · unfold lv; rw [a]
    · unfold lv at q hc5; rw [a] at q; omega
  -- a scope that is closed is one of e
  have clo : ∀ k : Nat, σ'.1 40 k ≠ σ.1 40 k → lv σ' 40 k = (c : Int) ∧ lv σ 40 k = 14000 ∧ (k : Int) < lv σ 5 18 ∧ lv σ 37 k = (z.1 : Int) ∧ ∃ x : Nat, x ∈ e.map (·.2.2) ∧ lv σ 38 k = (x : Int) := fun k q => by
    rcases r7 k with a | ⟨a0, a, i, i1, i2, i3⟩
    · exact absurd a q
    · obtain ⟨k', x, v1, v2, v3, v4, v5, v6⟩ := u2 i i1 (by omega)
      have : k' = k := (ofN_eq (by omega) (by omega)).1 (by rw [← v2, i3])
      rw [this] at v3 v4 v5 v6
      exact ⟨by unfold lv at hc5 ⊢; rw [a]; exact hc5, v6, v3, v4, x, v1, v5⟩
  have opn : ∀ q y : Nat, openK σ' q y ↔ openK σ q y ∧ ¬ (q = z.1 ∧ y ∈ e.map (·.2.2)) := fun q y => by
    constructor
    · rintro ⟨k, k1, k2, k3, k4⟩
      have b := back k k3
      rw [e18] at k1
      rw [e37] at k2
      rw [e38] at k4
      refine ⟨⟨k, k1, k2, (by omega), k4⟩, fun ⟨e1, e2⟩ => ?_⟩
      obtain ⟨i, k0, i1, i2, v2, v3, v4, v5, v6⟩ := u3 y e2
      have : k = k0 := hSC.1.2 k k0 k1 v3 (by omega) (by omega) (by omega) (by omega)
      have := r6 i k0 i1 (by omega) v2 (by omega)
      subst k0
      unfold lv at k3 hc5
      rw [this] at k3
      omega
    · rintro ⟨⟨k, k1, k2, k3, k4⟩, hn⟩
      refine ⟨k, by rw [e18]; exact k1, by rw [e37]; exact k2, ?_, by rw [e38]; exact k4⟩
      by_cases q' : σ'.1 40 k = σ.1 40 k
      · unfold lv at k3 ⊢; rw [q']; exact k3
      · obtain ⟨_, _, _, w4, x, w5, w6⟩ := clo k q'
        have e1 : q = z.1 := by omega
        have e2 : y = x := by omega
        exact absurd ⟨e1, by rw [e2]; exact w5⟩ hn
  have opB : ∀ q y k : Nat, ¬ (q = z.1 ∧ y ∈ e.map (·.2.2)) → (opA σ' q y k ↔ opA σ q y k) := fun q y k hn => by
    constructor
    · rintro ⟨k1, k2, k3, k4⟩
      have b := back k k3
      rw [e18] at k1
      rw [e37] at k2
      rw [e38] at k4
      exact ⟨k1, k2, (by omega), k4⟩
    · rintro ⟨k1, k2, k3, k4⟩
      refine ⟨by rw [e18]; exact k1, by rw [e37]; exact k2, ?_, by rw [e38]; exact k4⟩
      by_cases q' : σ'.1 40 k = σ.1 40 k
      · unfold lv at k3 ⊢; rw [q']; exact k3
      · obtain ⟨_, _, _, w4, x, w5, w6⟩ := clo k q'
        have e1 : q = z.1 := by omega
        have e2 : y = x := by omega
        exact absurd ⟨e1, by rw [e2]; exact w5⟩ hn
  have fC : lf pC σ σ' := fun k j q => ⟨by have := pC_k q; exact r3 k j (by omega) (by omega), by rw [r5]⟩
  have fM : lf pM τ τ' := fun k j q => ⟨by have := pM_k q; exact t2 k j (by omega), by rw [t3]⟩
  have disj : ∀ y, y ∈ e.map (·.2.2) → y ∉ kn.map (·.2.2) := fun y h1 h2 => by
    have : y > y := s3.2.2 y h1 y h2
    omega
  have hs4 : ∀ y, y ∈ e.map (·.2.2) ∨ y ∈ kn.map (·.2.2) → y < fl.1.1 := fun y hy => s4 y (by rw [hk, List.map_append, List.mem_append]; exact hy)
  have s2 : fl.1.1 ≤ 50 := s2
  have kp : ∀ (q : Nat) (r : List kT), (q ≠ z.1 ∨ ∀ y ∈ r.map (·.2.2), y ∈ kn.map (·.2.2)) → ksc σ q r → ksc σ' q r := fun q r hq => ksc_keep e18 (fun j => r3 47 j (by omega) (by omega)) e37 e38 (fun k x hx w1 w2 w3 w4 => by
    by_cases q' : σ'.1 40 k = σ.1 40 k
    · unfold lv at w4 ⊢; rw [q']; exact w4
    · obtain ⟨_, _, _, y4, x', y5, y6⟩ := clo k q'
      rcases hq with hq | hq
      · exact absurd (show q = z.1 by omega) hq
      · have : x = x' := by omega
        rw [← this] at y5
        exact absurd (hq x hx) (disj x y5))
  have nr : NR σ' τ' ((z.1, kn, z.2.2) :: R) := by
    obtain ⟨n1, n2, n3, n4, n5, n6, n7, n8, n9, n10⟩ := hNR
    have n1' := n1.1
    rw [hk] at n1'
    have n2' := n2.1
    rw [hk] at n2'
    have hl50 : kn.length ≤ 50 := by have := n1'.2.2.2.1; omega
    refine ⟨⟨⟨n1'.1, by rw [r3 43 _ (by omega) (by omega)]; exact n1'.2.1, r2, hl50, knC_lt (K := 50) (fun k i q1 q2 => r3 k _ (by omega) (by omega)) hl50 (knC_dr e n1'.2.2.2.2.1), cpC_eq n1'.2.2.2.2.2 (fun k j q => r3 k j (by omega) (by omega))⟩, nmC_out' (f := z.1) (fun k j q => r3 k j (by omega) (by omega)) r4 (fun k q i q1 q2 q3 => r3 k _ (by omega) (by omega)) hnd n1.2⟩, nmM_lt (B := kn.length + baseN R) (fun k j q => t2 k j (by omega)) (fun k j q1 q2 => t2 k j (by omega)) (Nat.le_refl _) (R := (z.1, kn, z.2.2) :: R) ⟨⟨n2'.1, n2'.2.1, n2'.2.2.1, hl50, knM_dr e n2'.2.2.2.2.1, n2'.2.2.2.2.2⟩, n2.2⟩, ⟨⟨n3.1.1, n3.1.2.1, ?_⟩, n3.2⟩, n4, by simp, n6, by rw [r3 6 2 (by omega) (by omega)]; exact n7, by rw [t2 0 53 (by omega)]; exact n8, t1, fun y hy x hx => ?_⟩
    · have := n3.1.2.2
      rw [hk, List.map_append, List.nodup_append] at this
      exact this.2.1
    · have : ∃ y' ∈ z :: R, x ∈ y'.2.1 := by
        rcases List.mem_cons.1 hy with q | q
        · rw [q] at hx
          exact ⟨z, List.mem_cons_self, by rw [hk]; exact List.mem_append_right _ hx⟩
        · exact ⟨y, List.mem_cons_of_mem _ q, hx⟩
      obtain ⟨y', w1, w2⟩ := this
      exact nmQ_pp (n10 y' w1 x w2) (fun j => r3 9 j (by omega) (by omega)) (fun j => r3 10 j (by omega) (by omega)) (fun j => r3 11 j (by omega) (by omega)) (r3 3 7 (by omega) (by omega)) (fun j => t2 2 j (by omega)) (fun j => t2 3 j (by omega)) (fun j => t2 4 j (by omega)) (t2 0 14 (by omega))
  have tx : TX (z :: R) σ τ σ' τ' := by
    refine ⟨(sR_pp h.1.2.1 fC fM).2, by unfold lv; rw [r3 5 0 (by omega) (by omega)]; exact Int.le_refl _, by unfold lv; rw [r3 5 6 (by omega) (by omega)]; exact Int.le_refl _, by omega, by omega, fun i _ => ⟨by rw [r5], by rw [t3]⟩, fun q _ => ⟨r3 28 q (by omega) (by omega), r3 29 q (by omega) (by omega), ⟨t2 12 q (by omega), t2 13 q (by omega)⟩, ⟨by unfold lv; rw [r3 32 q (by omega) (by omega)]; exact Int.le_refl _, by unfold lv; rw [r3 31 q (by omega) (by omega)]; exact Int.le_refl _⟩, by unfold lv; rw [r3 33 q (by omega) (by omega)]; exact Int.le_refl _⟩, fun q _ _ => ⟨r3 33 q (by omega) (by omega), t2 15 q (by omega), fun i _ => ⟨r3 34 _ (by omega) (by omega), r3 35 _ (by omega) (by omega), t2 18 _ (by omega), t2 19 _ (by omega)⟩⟩, fun k _ => ⟨r3 37 k (by omega) (by omega), r3 38 k (by omega) (by omega), r3 39 k (by omega) (by omega), ?_⟩, fun k a b => by omega, fC, pM_g fM⟩
    by_cases q' : σ'.1 40 k = σ.1 40 k
    · exact Or.inl q'
    · obtain ⟨w1, w2, _⟩ := clo k q'
      exact Or.inr ⟨w2, by omega⟩
  refine ⟨h.mk' fC fM nr (FR_eq hF (fun k j q => r3 k j (fun a => by rw [a] at q; cases q) (fun a => by rw [a] at q; cases q)) (fun k j q => t2 k j (fun a => by rw [a.1, a.2] at q; cases q))) (fun y hy => ?_) ⟨⟨by rw [r3 49 _ (by omega) (by omega)]; exact hLv.1.1, by show _ ≤ lv σ' 32 z.1; rw [y32]; exact hLv.1.2.1, hLv.1.2.2.1, fun x hx => ?_, hOp_cg (fun y k hy => opB z.1 y k (fun w => by have := hs4 _ (Or.inl w.2); omega)) hLv.1.2.2.2.2.1, kp z.1 kn (Or.inr (fun y hy => hy)) u1, ⟨by show σ'.1 31 z.1 = _; rw [r3 31 _ (by omega) (by omega)]; exact s1, s2, s3.2.1, fun y hy => hs4 y (Or.inr hy)⟩⟩, lvS_out (f := z.1) (fun q _ => r3 49 q (by omega) (by omega)) (fun q _ => by unfold lv; rw [r3 32 q (by omega) (by omega)]; exact Int.le_refl _) (fun q _ => r3 31 q (by omega) (by omega)) (fun q y k hq => opB q y k (fun w' => hq w'.1)) (fun q r hq _ => kp q r (Or.inl hq)) (fun y hy => nmC_len hNR.1 y (List.mem_cons_of_mem _ hy)) hnd hLv.2⟩ ⟨⟨by rw [e18]; exact hSC.1.1, fun k k' a1 a2 a3 a4 a5 a6 => hSC.1.2 k k' (by omega) (by omega) (by have := back k a3; omega) (by have := back k' a4; omega) (by have := e37 k; have := e37 k'; omega) (by have := e38 k; have := e38 k'; omega)⟩, fun k hk' => ?_⟩ (hnd_eq h.2.1 (fun k j q => r3 k j (fun a => by rw [a] at q; cases q) (fun a => by rw [a] at q; cases q)) (fun k j q => t2 k j (fun a => by rw [a.1, a.2] at q; cases q))) h.2.2.1 (LPr_eq h.2.2.2.1 (fun k j q => r3 k j (fun a => by rw [a] at q; cases q) (fun a => by rw [a] at q; cases q)) (fun k j q => t2 k j (fun a => by rw [a.1, a.2] at q; cases q)) (Nat.le_refl _) (Nat.le_refl _) (fun j _ => t2 21 j (by omega))) h.2.2.2.2.1.1 ?_ h.2.2.2.2.2, tx, fun c0 m0 => fz_eq (fun k j q1 q2 => r3 k j (by omega) (by omega)) (fun k j q1 q2 => t2 k j (by omega))⟩
  · rcases List.mem_cons.1 hy with q | q
    · rw [q]; exact h.1.2.2.2.2.1 z (List.mem_cons_self)
    · exact h.1.2.2.2.2.1 y (List.mem_cons_of_mem _ q)
  · show openK σ' z.1 x ↔ x ∈ kn.map (·.2.2)
    rw [opn, hLv.1.2.2.2.1 x hx, hk, List.map_append, List.mem_append]
    constructor
    · rintro ⟨q | q, hn⟩
      · exact absurd ⟨rfl, q⟩ hn
      · exact q
    · intro q
      exact ⟨Or.inr q, fun w => disj x w.2 q⟩
  · rw [e18] at hk'
    have := hSC.2 k hk'
    rw [e37, e38, e39, e58]
    by_cases q' : σ'.1 40 k = σ.1 40 k
    · have : lv σ' 40 k = lv σ 40 k := by unfold lv; rw [q']
      omega
    · obtain ⟨w1, w2, _⟩ := clo k q'
      omega
  · obtain ⟨⟨q1, q2, q3⟩, q4⟩ := h.2.2.2.2.1.2
    exact ⟨⟨by rw [e18]; exact q1, q2, fun x hx => by rw [e58]; exact q3 x hx⟩, q4⟩
/-- locals e of both are forgotten -/
theorem cm_forget {b : Nat → Int32} {n T : Nat} {Q : tkQ} {X : List Int32 → Prop} {FO0 : List fT} {nl rv : Nat} {fl : List Nat} {Z : List zT} {PL : List qT} {cl ml : Nat} {F : Nat} {p v c m wh : Nat} {W : List wT} {σ τ : lj_S} {z : lT} {R : List lT} (h : PS b n T Q X F (z :: R) (((nl, rv), fl) :: FO0) Z PL cl ml p v c m wh W σ τ) {e kn : List kT} (hk : z.2.1 = e ++ kn) (hc : c + 1 ≤ 25 * p + 100) (hm : m + 1 ≤ 25 * p + 100) (hT : T ≤ 520) :
    ∃ σ' τ' c' m', lj_R lc_P 69 [.ref 6, .int (Int32.ofNat kn.length)] σ = some (.inl none, σ') ∧ lj_R lm_P 58 [.ref 0, .int (Int32.ofNat (kn.length + baseN R))] τ = some (.inl none, τ') ∧ PS b n T Q X F ((z.1, kn, z.2.2) :: R) (((nl, rv), fl) :: FO0) Z PL cl ml p v c' m' wh W σ' τ' ∧ TX (z :: R) σ τ σ' τ' ∧ fz 0 c 0 m σ τ σ' τ' ∧ c ≤ c' ∧ c' ≤ c + 1 ∧ m ≤ m' ∧ m' ≤ m + 1 ∧ ∀ s, sB s → ∀ σ2 τ2, LT ((z.1, kn, z.2.2) :: R) c c' m m' σ' τ' σ2 τ2 → seg σ2 τ2 (z.1, c, m, s, z.2.1.map (·.2.2), 50) (fun y => y = (z.1, c', m', s, kn.map (·.2.2), 50)) := by
  have hNR := h.1.2.2.1
  have hLv := h.1.2.2.2.2.2.1
  have hz51 : z.1 < 51 := hNR.1.1.1
  have h62 : σ.1 6 2 = Int32.ofNat z.1 := hNR.2.2.2.2.2.2.1
  have h44 : σ.1 44 z.1 = Int32.ofNat (e ++ kn).length := by rw [← hk]; exact hNR.1.1.2.2.1
  have hl50 : (e ++ kn).length ≤ 50 := by rw [← hk]; exact hNR.1.1.2.2.2.1
  have hlen : (e ++ kn).length = kn.length + e.length := by simp; omega
  have h50 : τ.1 0 50 = Int32.ofNat ((e ++ kn).length + baseN R) := by rw [← hk]; exact hNR.2.2.2.2.2.2.2.2.1
  have hB : baseN (z :: R) ≤ 50 * (z :: R).length := baseN_le hNR.1
  have hR22 := hNR.2.2.2.2.2.1
  have hB' : (e ++ kn).length + baseN R ≤ 1100 := by
    have : baseN (z :: R) = z.2.1.length + baseN R := rfl
    rw [hk] at this
    omega
  obtain ⟨s1, s2, s3, s4⟩ := hLv.1.2.2.2.2.2.2
  have s1 : σ.1 31 z.1 = Int32.ofNat nl := s1
  have s2 : nl ≤ 50 := s2
  have s4 : ∀ y ∈ z.2.1.map (·.2.2), y < nl := s4
  have c14 := h.c14 hT
  have i1 : lj_in (Int32.ofNat z.1) 51 := ofN_in hz51 (by omega)
  rcases List.eq_nil_or_concat e with he | ⟨e', t, he⟩
  · subst he
    simp only [List.nil_append] at hk h44 hl50 h50 hB' hlen
    have hz : (z.1, kn, z.2.2) = z := by rw [← hk]
    refine ⟨σ, τ, c, m, ?_, ?_, by rw [hz]; exact h, TX_rf _ _ _, fz_rf _ _ _ _ _ _, (Nat.le_refl _), (by omega), (Nat.le_refl _), (by omega), fun s _ σ2 τ2 _ => by rw [hk]; exact seg_ex rfl⟩
    · rw [rc_69, kc_69_0, rc_70, kc_70_0, h62]
      simp only [if_pos i1, lz_onat (show z.1 < 2147483648 by omega), h44]
      rw [if_pos (by rw [lz_le]; exact Int.le_refl _), kc_70_57, bv_ok]
      exact (c_cls69 hz51 hl50).1 σ h62 h44
    · rw [rm_58, km_58_0, h50, if_pos (by rw [lz_le]; exact Int.le_refl _), km_58_28]
  · rw [List.concat_eq_append] at he
    have hk2 : z.2.1 = e' ++ t :: kn := by rw [hk, he]; simp
    have hel : e.length = e'.length + 1 := by rw [he]; simp
    have kc := knC_dr e' (by rw [← hk2]; exact hNR.1.1.2.2.2.2.1)
    have km := knM_dr e' (by rw [← hk2]; exact hNR.2.1.1.2.2.2.2.1)
    have x50 : t.2.2 < 50 := kc.1.2.2.2.2
    have i2 : lj_in (Int32.ofNat (50 * z.1 + kn.length)) 2550 := ofN_in (by omega) (by omega)
    have i3 : lj_in (Int32.ofNat (kn.length + baseN R)) 1600 := ofN_in (by omega) (by omega)
    have kn46 : σ.1 46 (50 * z.1 + kn.length) = Int32.ofNat t.2.2 := kc.1.2.1
    have km30 : τ.1 30 (kn.length + baseN R) = Int32.ofNat t.2.2 := by rw [Nat.add_comm]; exact km.1.2.1
    have P1 := h.C hc hT 34 (Int32.ofNat t.2.2) (Int32.ofNat nl) 0 0
    have P2 := P1.1.M hm 20 (Int32.ofNat t.2.2) 0 0
    have g1 := cP_get σ c 34 (Int32.ofNat t.2.2) (Int32.ofNat nl) 0 0
    have oC1 := cP_o σ c 34 (Int32.ofNat t.2.2) (Int32.ofNat nl) 0 0
    have eC1 : lj_R lc_P 70 [.ref 6, .int (Int32.ofNat kn.length)] σ = some (.inl none, cP σ c 34 (Int32.ofNat t.2.2) (Int32.ofNat nl) 0 0) := by
      rw [rc_70, kc_70_0, h62]
      simp only [if_pos i1, lz_onat (show z.1 < 2147483648 by omega), h44, lz_m50, if_pos i2, lz_onat (show 50 * z.1 + kn.length < 2147483648 by omega), kn46, s1]
      rw [if_neg (by rw [lz_le, lz_lit (by omega), lz_lit (by omega)]; omega), c_put5 h.2.1.2.2.2.2.1 (by omega), bi_ok, kc_70_57]
    have eM1 : lj_R lm_P 58 [.ref 0, .int (Int32.ofNat (kn.length + baseN R))] τ = some (.inl none, lj_put (mP τ m 20 (Int32.ofNat t.2.2) 0 0) 0 50 (Int32.ofNat (kn.length + baseN R))) := by
      rw [rm_58, km_58_0, h50, if_neg (by rw [lz_le, lz_lit (by omega), lz_lit (by omega)]; omega), if_pos i3, lz_onat (by omega), km30, m_emit h.2.1.2.2.2.2.2.1 (by omega), bi_ok, km_58_28]
    have hks := hLv.1.2.2.2.2.2.1
    rw [hk] at hks
    obtain ⟨u1, u2, u3⟩ := ksc_app e hks
    have hS40 : lv σ 5 18 < 4000 := by
      have h1 := h.2.2.2.2.1.2.1.1
      have h2 := h.2.2.1.1
      have : (0 : Int) ≤ (rsv (((nl, rv), fl) :: FO0) : Int) := Int.natCast_nonneg _
      omega
    generalize hσ1 : cP σ c 34 (Int32.ofNat t.2.2) (Int32.ofNat nl) 0 0 = σ1 at *
    have cls := c_cls69 (f := z.1) (K0 := kn.length) hz51 (by omega)
    obtain ⟨σ', r1, r2, r3, r4, r5, r6, r7⟩ := cls_loop hz51 cls.1 cls.2 e.length σ1 (by rw [oC1 6 2 (by omega) (by omega)]; exact h62) (by rw [oC1 44 _ (by omega) (by omega), h44, hlen]) (by omega) (fun i a b => by
      obtain ⟨k, x, v1, v2, v3, _⟩ := u2 i a (by omega)
      exact ⟨k, by rw [oC1 47 _ (by omega) (by omega)]; exact v2, (by omega)⟩)
    generalize hτ1 : mP τ m 20 (Int32.ofNat t.2.2) 0 0 = τ1 at *
    have cl := P2.1.cls hk hT r2 r3 r4 r5 r6 r7 (τ' := lj_put τ1 0 50 (Int32.ofNat (kn.length + baseN R))) (by rw [lj_put_1, if_pos ⟨rfl, rfl⟩]) (fun k j q => by rw [lj_put_1, if_neg q]) rfl
    have G12 := P1.2.tr P2.2
    refine ⟨σ', _, c + 1, m + 1, ?_, eM1, cl.1, G12.1.tr cl.2.1 (fun _ _ q => q), (G12.2.2.2.2.2.2.mo (Nat.le_refl _) (Nat.le_refl _) (Nat.le_refl _) (Nat.le_refl _)).tr (cl.2.2 c m), (by omega), (Nat.le_refl _), (by omega), (Nat.le_refl _), fun s hsB σ2 τ2 L => ?_⟩
    · rw [rc_69, kc_69_0, eC1, bv_ok]; exact r1
    · have fz1 := cl.2.2 (c + 1) (m + 1)
      have C : ∀ k, 22 ≤ k → k ≤ 26 → σ2.1 k c = σ1.1 k c := fun k a b => (L.2.1 k c a b (by omega) (by omega)).trans (fz1.1 k c a b (by omega) (by omega))
      have M : ∀ k, 20 ≤ k → k ≤ 23 → τ2.1 k m = τ1.1 k m := fun k a b => (L.2.2 k m a b (by omega) (by omega)).trans (fz1.2 k m a b (by omega) (by omega))
      have g2 := mP_get τ m 20 (Int32.ofNat t.2.2) 0 0
      rw [hτ1] at g2
      have fe : (z.2.1.map (·.2.2)).filter (· < t.2.2) = kn.map (·.2.2) := by
        rw [hk2, List.map_append, List.map_cons] at s3 ⊢
        rw [List.pairwise_append, List.pairwise_cons] at s3
        rw [List.filter_append, List.filter_cons_of_neg (by simp), List.filter_eq_nil_iff.2 (fun y hy => ?_), List.nil_append, List.filter_eq_self.2 (fun y hy => ?_)]
        · have : t.2.2 > y := s3.2.1.1 y hy
          simpa using this
        · have : y > t.2.2 := s3.2.2 y hy t.2.2 (List.mem_cons_self)
          simp; omega
      refine seg_in [(z.1, c + 1, m + 1, s, kn.map (·.2.2), 50)] ⟨43, t.2.2, nl, x50, ⟨s2, (cl.1.l31 ⟨_, _, rfl, rfl, rfl⟩ L.1).1⟩, s4, ?_, ?_, ?_, ?_, ?_, by show t.2.2 ≤ 50; omega, ?_⟩ (fun y hy => by rw [List.mem_singleton.1 hy]; exact seg_ex rfl)
      · show σ2.1 22 c = 34; rw [C 22 (by omega) (by omega)]; exact g1.1
      · show σ2.1 23 c = _; rw [C 23 (by omega) (by omega)]; exact g1.2.1
      · show σ2.1 24 c = _; rw [C 24 (by omega) (by omega)]; exact g1.2.2.1
      · show τ2.1 20 m = 20; rw [M 20 (by omega) (by omega)]; exact g2.1
      · show τ2.1 21 m = _; rw [M 21 (by omega) (by omega)]; exact g2.2.1
      · show [(z.1, c + 1, m + 1, s, kn.map (·.2.2), 50)] = [(z.1, c + 1, m + 1, s, (z.2.1.map (·.2.2)).filter (· < t.2.2), 50)]
        rw [fe]
