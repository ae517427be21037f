/-! the gathering: the second round of the component -/
theorem gDC_K {k j : Nat} (h : gDC k j = false) : gKC k j = false := by unfold gDC at h; unfold gKC; simp at h ⊢; omega
theorem gDM_K {k j : Nat} (h : gDM k j = false) : gKM k j = false := by unfold gDM at h; unfold gKM; simp at h ⊢; omega
theorem c_ract2 {n : Nat} (hn : n ≤ 2000) {W : Nat → Prop} {N : Nat} (hN : N ≤ 2001) (x1 x2 x3 : Int32) (X5 : Value) : ∀ (d a : Nat) (σ : lj_S) (Q : List Nat), a + d = N → σ.1 8 33 = Int32.ofNat N → (∀ i, a ≤ i → i < N → ∃ o : Nat, σ.1 104 i = Int32.ofNat o ∧ 1 ≤ o ∧ o ≤ n ∧ W o) → wqC n σ Q → ∃ σ' Q', lj_D lc_P lc_M175 310 [.ref 8, .int x1, .int x2, .int x3, .int (Int32.ofNat a), X5] [] σ = lj_bv (lj_R lc_P 181 [.ref 8] σ') (fun σ1 => lj_bv (lj_R lc_P 186 [.ref 8, .int 1] σ1) (fun σ2 => lj_D lc_P lc_M175 353 [.ref 8, .int x1, .int x2, .int x3, .int 0, .int 1] [] σ2) lj_up) lj_up ∧ visC n W (fun x => x ≠ 0 ∧ x ≤ n ∧ ∃ i, a ≤ i ∧ i < N ∧ σ.1 104 i = Int32.ofNat x) σ Q σ' Q'
  | 0, a, σ, Q, hd, h33, hv, hm => by
    refine ⟨σ, Q, ?_, (vis.rf hm).mo (fun x ⟨_, _, i, j1, j2, _⟩ => by omega)⟩
    rw [kc_175_310, h33, if_pos ((ofN_le (by omega) (by omega)).2 (by omega))]
  | d + 1, a, σ, Q, hd, h33, hv, hm => by
    have ia : lj_in (Int32.ofNat a) 2001 := ofN_in (by omega) (by omega)
    have na : (Int32.ofNat a).toNatClampNeg = a := lz_onat (by omega)
    obtain ⟨o, o1, o2, o3, o4⟩ := hv a (Nat.le_refl _) (by omega)
    have om : ov (4, i64 o) = o := ov_ob (Or.inl rfl) (by omega)
    obtain ⟨σ1, Q1, r1, r2⟩ := c_reach hn hm (a := (4, i64 o)) (fun _ => by rw [om]) (by rw [om]; exact o3) (W := W) (by rw [om]; exact fun _ => o4)
    have r1 : lj_R lc_P 176 [.ref 8, .int 4, .long (Int32.ofNat o).toInt64] σ = some (.inl none, σ1) := r1
    have c : ∀ k j, k ≠ 111 → k ≠ 112 → (k ≠ 8 ∨ j ≠ 58) → σ1.1 k j = σ.1 k j := fun k j z1 z2 z3 => (visC.o r2 ⟨z1, z2, z3⟩).1
    obtain ⟨σ2, Q2, s1, s2⟩ := c_ract2 hn hN x1 x2 x3 X5 d (a + 1) σ1 Q1 (by omega) (by rw [c 8 33 (by omega) (by omega) (by omega)]; exact h33) (fun i i1 i2 => by rw [c 104 i (by omega) (by omega) (by omega)]; exact hv i (by omega) i2) r2.1
    refine ⟨σ2, Q2, ?_, (r2.tr s2).mo (fun x ⟨x0, xn, i, i1, i2, i3⟩ => ?_)⟩
    · rw [kc_175_310, h33, if_neg (fun z => by have := (ofN_le (by omega) (by omega)).1 z; omega)]
      (try simp only [if_pos ia, na])
      rw [o1, r1, bv_ok, lz_osucc]
      exact s1
    · by_cases z : i = a
      · left
        rw [z, o1] at i3
        have : o = x := (ofN_eq (by omega) (by omega)).1 i3
        exact ⟨by rw [om, this], x0⟩
      · right
        exact ⟨x0, xn, i, by omega, i2, by rw [c 104 i (by omega) (by omega) (by omega)]; exact i3⟩
/-- what was flagged, and the new last acts -/
def rt2 (S : Nat → Prop) (N : List Nat) (x : Nat) : Prop := S x ∨ x ∈ N
theorem c_two {σ0 τ0 σ τ : lj_S} {n np p : Nat} {r : List Nat} {FP : Nat → List kF} {ρ : Nat → Nat} {P B : Nat → List Nat} {Fr : List Nat} {P' B' : Nat → List Nat} {Fr' : List Nat} (h : gw σ0 τ0 n np p r FP ρ P B Fr P' B' Fr' σ τ) {Fn : Nat} (fx : FR σ0 τ0 Fn) (h38 : sh38 σ0) {La N K : List Nat} (hL2 : La.length + N.length ≤ 2001) (h33 : σ.1 8 33 = Int32.ofNat (La.length + N.length)) (h104 : ∀ i, i < La.length + N.length → σ.1 104 i = Int32.ofNat ((La ++ N).getD i 0)) (hN : ∀ x ∈ N, 1 ≤ x ∧ okO σ n x) (hS : ∀ x, flg n 111 σ x = true → okO σ n x) (cl1 : ∀ o x, flg n 111 σ o = true → edX σ0 σ τ p FP P o x → flg n 111 σ x = true) (cl2 : ∀ t k v, flg n 111 σ t = true → flg n 111 σ k = true → epX σ P t k v → flg n 111 σ v = true) (hm : wqC n σ []) (hK : wkK σ K) (hk : kwI σ n P (fun t => flg n 111 σ t = true) [] K) (x1 x2 x3 : Int32) (X5 : Value) : ∃ σ', lj_D lc_P lc_M175 310 [.ref 8, .int x1, .int x2, .int x3, .int (Int32.ofNat La.length), X5] [] σ = lj_bv (lj_R lc_P 186 [.ref 8, .int 1] σ') (fun σ2 => lj_D lc_P lc_M175 353 [.ref 8, .int x1, .int x2, .int x3, .int 0, .int 1] [] σ2) lj_up ∧ lf gKC σ σ' ∧ ∀ x, flg n 111 σ' x = true ↔ lstR (rt2 (fun x => flg n 111 σ x = true) N) (edX σ0 σ τ p FP P) (epX σ P) x := by
  obtain ⟨root, hroot⟩ : ∃ root, root = rt2 (fun x => flg n 111 σ x = true) N := ⟨_, rfl⟩
  obtain ⟨edge, hedge⟩ : ∃ edge, edge = edX σ0 σ τ p FP P := ⟨_, rfl⟩
  obtain ⟨eph, heph⟩ : ∃ eph, eph = epX σ P := ⟨_, rfl⟩
  have okR : ∀ x, root x → okO σ n x := fun x hx => by
    rw [hroot] at hx
    rcases hx with w | w
    · exact hS x w
    · exact (hN x w).2
  have okW : ∀ x, lstR root edge eph x → okO σ n x := fun x hx => gw.ok h okR x (by rw [← hedge, ← heph]; exact hx)
  have cl := lstR_clo root edge eph
  rw [← hroot, ← hedge, ← heph]
  have hn := h.2.1.2.2.1.1.1
  have WS : ∀ x, flg n 111 σ x = true → lstR root edge eph x := fun x hx => cl.1 x (by rw [hroot]; exact Or.inl hx)
  have WN : ∀ x ∈ N, lstR root edge eph x := fun x hx => cl.1 x (by rw [hroot]; exact Or.inr hx)
  have gN : ∀ i, La.length ≤ i → i < La.length + N.length → (La ++ N).getD i 0 ∈ N := fun i i1 i2 => by
    rw [gD_app2 i1]
    exact getD_me (by omega)
  obtain ⟨σd, Qd, d1, d2⟩ := c_ract2 hn (W := lstR root edge eph) (N := La.length + N.length) hL2 x1 x2 x3 X5 N.length La.length σ [] rfl h33 (fun i i1 i2 => by
    have m := gN i i1 i2
    exact ⟨_, h104 i i2, (hN _ m).1, (hN _ m).2.1, WN _ m⟩) hm
  have fd : lf gKC σ σd := d2.2.1.mo (fun _ _ q => gRC_K q)
  have rgd : rgN n (lstR root edge eph) (flg n 111 σ) [] (flg n 111 σd) Qd := d2.2.2.1.mo (fun x y => y.1)
  have ctd := rgd.ct
  have hkd : kwI σd n P (lstR root edge eph) Qd K := by
    refine ⟨fun t y1 y2 y3 y4 => ?_, fun t ht => ?_, ?_⟩
    · obtain ⟨N', n1, n2, _⟩ := rgd
      rw [List.append_nil] at n1
      rcases (n2 t).1 y1 with z | z
      · exact hk.1 t z (by simp) (by rw [← gK_v fd 57 t rfl]; exact y3) (by rw [← md_gK fd]; exact y4)
      · rw [n1] at y2; exact absurd z y2
    · obtain ⟨w1, w2, w3, w4⟩ := hk.2.1 t ht
      exact ⟨w1, by rw [gK_v fd 57 t rfl]; exact w2, by rw [md_gK fd]; exact w3, WS t w4⟩
    · have := hk.2.2
      omega
  have he : ∀ o x, edge o x ↔ edX σ0 σd τ p FP P o x := fun o x => by rw [hedge]; exact (edX_gK fd (lf_rf _ τ) p FP P o x).symm
  have hp : ∀ t k v, eph t k v ↔ epX σd P t k v := fun t k v => by rw [heph]; exact (epX_gK fd P t k v).symm
  have hwl : wlI root edge eph n (flg n 111 σd) Qd := wlI.two (S0 := flg n 111 σ) (fun x hx => ⟨WS x hx, (hS x hx).1⟩) (fun o x a b => cl1 o x a (by rw [← hedge]; exact b)) (fun t k v a b c => cl2 t k v a b (by rw [← heph]; exact c)) rgd
  obtain ⟨σe, K', e1, e2, e3, e4, e5, e6, e7⟩ := c_rall (τ0 := τ0) (τ := τ) (n := n) (np := np) (p := p) (r := r) (FP := FP) (ρ := ρ) (P := P) (B := B) (Fr := Fr) (P' := P') (B' := B') (Fr' := Fr') fx h38 (root := root) (edge := edge) (eph := eph) _ σd Qd K (.retAddr 0) (.retAddr 0) (.retAddr 0) (Nat.le_refl _) (h.cg fd (lf_rf _ τ)) he hp (fun x hx => by
    have := okW x hx
    unfold okO at this ⊢
    rw [gK_v fd 57 x rfl]
    exact this) d2.1 (hK.cg d2.2.1) hwl hkd
  refine ⟨σe, by rw [d1, rc_181, e1, bv_ok], fd.tr e2, fun x => wlI.fin e5 (fun y hy => e7 y ?_) x⟩
  rw [hroot] at hy
  rcases hy with w | w
  · exact d2.up w
  · obtain ⟨i, i1, i2⟩ := List.getElem_of_mem w
    refine d2.2.2.2 y ⟨by have := (hN y w).1; omega, (hN y w).2.1, La.length + i, by omega, by omega, ?_⟩
    rw [h104 _ (by omega), gD_app2 (by omega), Nat.add_sub_cancel_left, List.getD_eq_getElem?_getD, List.getElem?_eq_getElem i1, i2]
    rfl
