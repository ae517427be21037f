/-! the gathering: the second round of the model -/
theorem m_ract2 {n : Nat} (hn : n ≤ 2000) {W : Nat → Prop} {N : Nat} (hN : N ≤ 4003) (x1 x2 x4 : Int32) (X5 : Value) : ∀ (d a : Nat) (τ : lj_S) (Q : List Nat), a + d = N → τ.1 0 152 = Int32.ofNat N → (∀ i, a ≤ i → i < N → ∃ o : Nat, τ.1 95 i = Int32.ofNat o ∧ 1 ≤ o ∧ o ≤ n ∧ W o) → wqM n τ Q → ∃ τ' Q', lj_D lm_P lm_M218 189 [.ref 0, .int x1, .int x2, .int (Int32.ofNat a), .int x4, X5] [] τ = lj_bv (lj_R lm_P 212 [.ref 0] τ') (fun σ1 => some (.inl none, σ1)) lj_up ∧ visM n W (fun x => x ≠ 0 ∧ x ≤ n ∧ ∃ i, a ≤ i ∧ i < N ∧ τ.1 95 i = Int32.ofNat x) τ Q τ' Q'
  | 0, a, τ, Q, hd, h33, hv, hm => by
    refine ⟨τ, Q, ?_, (vis.rf hm).mo (fun x ⟨_, _, i, j1, j2, _⟩ => by omega)⟩
    rw [km_218_189, h33, if_pos ((ofN_le (by omega) (by omega)).2 (by omega))]
  | d + 1, a, τ, Q, hd, h33, hv, hm => by
    have ia : lj_in (Int32.ofNat a) 4004 := ofN_in (by omega) (by omega)
    have na : (Int32.ofNat a).toNatClampNeg = a := lz_onat (by omega)
    obtain ⟨o, o1, o2, o3, o4⟩ := hv a (Nat.le_refl _) (by omega)
    obtain ⟨τ1, Q1, r1, r2⟩ := m_r4 hn hm (o := o) o2 o3 (W := W) o4
    have r1 : lj_R lm_P 210 [.ref 0, .int 4, .long (Int32.ofNat o).toInt64] τ = some (.inl none, τ1) := r1
    have c : ∀ k j, k ≠ 96 → k ≠ 98 → (k ≠ 0 ∨ j ≠ 157) → τ1.1 k j = τ.1 k j := fun k j z1 z2 z3 => (visM.o r2 ⟨z1, z2, z3⟩).1
    obtain ⟨τ2, Q2, s1, s2⟩ := m_ract2 hn hN x1 x2 x4 X5 d (a + 1) τ1 Q1 (by omega) (by rw [c 0 152 (by omega) (by omega) (by omega)]; exact h33) (fun i i1 i2 => by rw [c 95 i (by omega) (by omega) (by omega)]; exact hv i (by omega) i2) r2.1
    refine ⟨τ2, Q2, ?_, (r2.tr s2).mo (fun x ⟨x0, xn, i, i1, i2, i3⟩ => ?_)⟩
    · rw [km_218_189, h33, if_neg (fun z => by have := (ofN_le (by omega) (by omega)).1 z; omega)]
      (try simp only [if_pos ia, na])
      rw [o1, r1, bv_ok, lz_osucc]
      exact s1
    · by_cases z : i = a
      · left
        rw [z, o1] at i3
        exact ((ofN_eq (by omega) (by omega)).1 i3).symm
      · right
        exact ⟨x0, xn, i, by omega, i2, by rw [c 95 i (by omega) (by omega) (by omega)]; exact i3⟩
theorem m_two {σ0 τ0 σ τ : lj_S} {n np p : Nat} {r : List Nat} {FP : Nat → List kF} {ρ : Nat → Nat} {P B : Nat → List Nat} {Fr : List Nat} {P' B' : Nat → List Nat} {Fr' : List Nat} (h : gw σ0 τ0 n np p r FP ρ P B Fr P' B' Fr' σ τ) {Bk : Nat → List Nat} {La N : List Nat} (hL2 : La.length + N.length ≤ 4003) (h152 : τ.1 0 152 = Int32.ofNat (La.length + N.length)) (h95 : ∀ i, i < La.length + N.length → τ.1 95 i = Int32.ofNat ((La ++ N).getD i 0)) (hLa : ∀ x ∈ La, 1 ≤ x ∧ fl0 n τ x = true) (hN : ∀ x ∈ N, 1 ≤ x ∧ okO σ n x) (hS : ∀ x, fl0 n τ x = true → okO σ n x) (cl1 : ∀ o x, fl0 n τ o = true → edX σ0 σ τ p FP P o x → fl0 n τ x = true) (cl2 : ∀ t k v, fl0 n τ t = true → fl0 n τ k = true → epX σ P t k v → fl0 n τ v = true) (hm : wqM n τ []) (hb : bkI σ τ n P P' Bk) (hpg : pgI σ0 σ τ n np p FP) (gac : gaC σ τ FP (p :: r) La.length) (x2 x4 : Int32) (X5 : Value) : ∃ τ', lj_D lm_P lm_M218 189 [.ref 0, .int (Int32.ofNat La.length), .int x2, .int (Int32.ofNat La.length), .int x4, X5] [] τ = some (.inl none, τ') ∧ lf gKM τ τ' ∧ ∀ x, fl0 n τ' x = true ↔ lstR (rt2 (fun x => fl0 n τ x = true) N) (edX σ0 σ τ p FP P) (epX σ P) x := by
  obtain ⟨root, hroot⟩ : ∃ root, root = rt2 (fun x => fl0 n τ x = true) N := ⟨_, rfl⟩
  obtain ⟨edge, hedge⟩ : ∃ edge, edge = edX σ0 σ τ p FP P := ⟨_, rfl⟩
  obtain ⟨eph, heph⟩ : ∃ eph, eph = epX σ P := ⟨_, rfl⟩
  have okR : ∀ x, root x → okO σ n x := fun x hx => by
    rw [hroot] at hx
    rcases hx with w | w
    · exact hS x w
    · exact (hN x w).2
  have okW : ∀ x, lstR root edge eph x → okO σ n x := fun x hx => gw.ok h okR x (by rw [← hedge, ← heph]; exact hx)
  have cl := lstR_clo root edge eph
  rw [← hroot, ← hedge, ← heph]
  have hn := h.2.1.2.2.1.1.1
  have WS : ∀ x, fl0 n τ x = true → lstR root edge eph x := fun x hx => cl.1 x (by rw [hroot]; exact Or.inl hx)
  have WN : ∀ x ∈ N, lstR root edge eph x := fun x hx => cl.1 x (by rw [hroot]; exact Or.inr hx)
  have gN : ∀ i, La.length ≤ i → i < La.length + N.length → (La ++ N).getD i 0 ∈ N := fun i i1 i2 => by
    rw [gD_app2 i1]
    exact getD_me (by omega)
  obtain ⟨τd, Qd, d1, d2⟩ := m_ract2 hn (W := lstR root edge eph) (N := La.length + N.length) hL2 (Int32.ofNat La.length) x2 x4 X5 N.length La.length τ [] rfl h152 (fun i i1 i2 => by
    have m := gN i i1 i2
    exact ⟨_, h95 i i2, (hN _ m).1, (hN _ m).2.1, WN _ m⟩) hm
  have fd : lf gKM τ τd := d2.2.1.mo (fun _ _ q => gRM_K q)
  have rgd : rgN n (lstR root edge eph) (fl0 n τ) [] (fl0 n τd) Qd := d2.2.2.1.z
  have hwl : wlI root edge eph n (fl0 n τd) Qd := wlI.two (S0 := fl0 n τ) (fun x hx => ⟨WS x hx, (hS x hx).1⟩) (fun o x a b => cl1 o x a (by rw [← hedge]; exact b)) (fun t k v a b c => cl2 t k v a b (by rw [← heph]; exact c)) rgd
  have cd : ∀ k j, k ≠ 96 → k ≠ 98 → k ≠ 0 → τd.1 k j = τ.1 k j ∧ τd.2 k j = τ.2 k j := fun k j z1 z2 z3 => visM.o d2 (by omega)
  obtain ⟨gc1, _⟩ := gaC_gc (W := lstR root edge eph) (n := n) (La := La) (τ := τ) (by omega) (fun i hi => by
    have m := getD_me (l := La) hi
    have w := hLa _ m
    refine ⟨?_, w.1, (hS _ w.2).1, WS _ w.2⟩
    rw [h95 i (by omega), gD_app1 hi]) gac (Nat.le_refl _)
  have gno : ∀ q, q ≤ np → q ∉ p :: r → τ.1 58 q ≠ 4 → ∀ F ∈ FP q, kS F ≠ 2 := fun q q1 q2 q3 F hF => by
    rcases h.2.2.2.1.2.2.2.2.2.2.2.2.2.2.2 q q1 q2 with ⟨_, _, w, _⟩ | ⟨_, _, _, w⟩ | ⟨w, _⟩
    · rw [w] at hF; cases hF
    · exact w F hF
    · exact absurd w q3
  have qn : ∀ x ∈ Qd, x ≠ 0 := fun x hx => by
    obtain ⟨N', n1, n2, _, n4⟩ := d2.2.2.1
    rw [List.append_nil] at n1
    rw [n1] at hx
    exact (n4 x hx).2.2.2
  obtain ⟨τk, k1, k2, k3, k4, k5, k6⟩ := m_rall (τ0 := τ0) (σ := σ) (n := n) (np := np) (p := p) (r := r) (FP := FP) (ρ := ρ) (P := P) (B := B) (Fr := Fr) (P' := P') (B' := B') (Fr' := Fr') (Bk := Bk) (root := root) (edge := edge) (eph := eph) (fun t k v => by rw [heph]) okW (cnt0 (flg n 96 τd) n + Qd.length) τd Qd (.retAddr 0) (Nat.le_refl _) (h.cg (lf_rf _ σ) fd) (bkI_cg hb (fun _ => rfl) (fun _ => rfl) (fun k j z => cd k j (by omega) (by omega) (by omega)) (fun j z => by rw [← (cd 47 j (by omega) (by omega) (by omega)).1]; exact z)) (fun o x => by rw [hedge]; exact (edX_gK (lf_rf _ σ) fd p FP P o x).symm) (fun q q1 q2 => by
    by_cases z : q ∈ p :: r
    · exact gcF_cg (fun k j w => (cd k j (by omega) (by omega) (by omega)).1) (gc1 q z)
    · exact gcF_no (gno q q1 z (by rw [← (cd 58 q (by omega) (by omega) (by omega)).1]; exact q2))) (fun q q1 q2 x hx => d2.up (hpg q q1 (by rw [← (cd 97 q (by omega) (by omega) (by omega)).1]; exact q2) x hx)) d2.1 hwl qn
  have lk' : lf gKM τd τk := fun k j z => by
    unfold gKM at z
    simp at z
    exact k5 k j (by omega) (by omega) (by omega) (by omega)
  have upk : ∀ x, fl0 n τd x = true → fl0 n τk x = true := fun x y => by
    unfold fl0 at y ⊢
    simp only [Bool.or_eq_true] at y ⊢
    exact y.imp (k6 x) id
  refine ⟨τk, by rw [d1, rm_212, k1, bv_ok], fd.tr lk', fun x => wlI.fin k3 (fun y hy => upk y ?_) x⟩
  rw [hroot] at hy
  rcases hy with w | w
  · obtain ⟨N', n1, n2, _⟩ := rgd
    exact (n2 y).2 (Or.inl w)
  · obtain ⟨i, i1, i2⟩ := List.getElem_of_mem w
    have := d2.2.2.2 y ⟨by have := (hN y w).1; omega, (hN y w).2.1, La.length + i, by omega, by omega, by
      rw [h95 _ (by omega), gD_app2 (by omega), Nat.add_sub_cancel_left, List.getD_eq_getElem?_getD, List.getElem?_eq_getElem i1, i2]
      rfl⟩
    unfold fl0
    rw [this]
    rfl
