/-! DEPTH OF CALLS: the last acts, one behind the other, while a gathering lies below at work; all methods together -/
theorem bvh {x x' : Option lj_O} {k k' : lj_S → Option lj_O} {H H' : Nat → lj_S → Option lj_O} {o : lj_O} {Q : lj_O → Prop} (h : lj_bv x k H = some o) (hx : ∀ q, x = some q → x' = some q) (hi : ∀ e σ, H e σ = some o → H' e σ = some o ∧ Q o) (hk : ∀ σ1, x = some (.inl none, σ1) → k σ1 = some o → k' σ1 = some o ∧ Q o) : lj_bv x' k' H' = some o ∧ Q o := by
  cases x with
  | none => cases h
  | some q =>
    rw [hx q rfl]
    obtain ⟨q1, q2⟩ := q
    cases q1 with
    | inr e => exact hi e q2 h
    | inl v =>
      cases v with
      | none => exact hk q2 rfl h
      | some v => cases h
theorem upQ {p e : Nat} {σ : lj_S} {o : lj_O} (x : Nat) (τ : lj_S) (h : (some (.inr x, τ) : Option lj_O) = some o) : (some (.inr x, τ) : Option lj_O) = some o ∧ qW p e σ o := by
  cases h
  exact ⟨rfl, inrQ x τ⟩
theorem bih {x x' : Option lj_O} {k k' : Int32 → lj_S → Option lj_O} {H H' : Nat → lj_S → Option lj_O} {o : lj_O} {Q : lj_O → Prop} (h : lj_bi x k H = some o) (hx : ∀ q, x = some q → x' = some q) (hi : ∀ e σ, H e σ = some o → H' e σ = some o ∧ Q o) (hk : ∀ v σ1, x = some (.inl (some (.int v)), σ1) → k v σ1 = some o → k' v σ1 = some o ∧ Q o) : lj_bi x' k' H' = some o ∧ Q o := by
  cases x with
  | none => cases h
  | some q =>
    rw [hx q rfl]
    obtain ⟨q1, q2⟩ := q
    cases q1 with
    | inr e => exact hi e q2 h
    | inl v =>
      cases v with
      | none => cases h
      | some v => cases v <;> first | exact hk _ q2 rfl h | cases h
/-- one round of the last acts: what is left, by what the rest of the rounds does -/
theorem nla_loop {D n B' : Nat} {o : lj_O} {p d : Nat} {Q : lj_O → Prop} {J : Int32 → lj_S → Prop} {x1 : Int32} (hx1 : x1 = Int32.ofNat (20 * p + d)) (hp : p < 26) (hd : d < 20) (hB : 8 ≤ B') (hQ : ∀ e τ, Q (.inr e, τ))
    (hcall : ∀ (k : Int32) (v : Int64) (l : Int32) (τ : lj_S) (q : lj_O), wI τ p d (d + 1) → τ.1 105 0 = 4 → lj_run lc_P D n 155 [.ref 8, .int k, .long v, .int 7, .int l] τ = some q → lj_run lc_P B' n 155 [.ref 8, .int k, .long v, .int 7, .int l] τ = some q ∧ ∀ v, q.1 = .inl v → pW p d τ q.2)
    (hJz : ∀ x2 τ τ', J x2 τ → zS τ τ' → J x2 τ') (hJ2 : ∀ x2 τ, J x2 τ → x2 ≠ 0 → τ.1 8 7 = Int32.ofNat p ∧ τ.1 90 p = Int32.ofNat (d + 1) ∧ τ.1 8 34 = x1 ∧ τ.1 91 (20 * p + d) = 2)
    (hJc : ∀ x2 τ τb τ2, J x2 τ → x2 ≠ 0 → (∀ k i, zpC k i = true → ¬ ((k = 102 ∨ k = 103) ∧ i = 20 * p + d) → τb.1 k i = τ.1 k i) → τb.1 103 (20 * p + d) = 0 → pW p d τb τ2 → J (τ2.1 103 (20 * p + d)) (lj_put τ2 102 (20 * p + d) 0))
    (h0 : ∀ τ, J 0 τ → Q (.inl none, τ))
    (hend : ∀ x2 τ, J x2 τ → x2 ≠ 0 → ∀ r, lj_bv (lj_run lc_P D n 149 [.ref 8] (lj_put τ 8 41 0)) (fun σ5 => lj_bv (lj_run lc_P D n 143 [.ref 8, .int 2, .long (((τ.1 101 x1.toNatClampNeg) : Int32).toInt64)] σ5) (fun σ6 => lj_bv (lj_run lc_P D n 144 [.ref 8, .int (τ.1 98 x1.toNatClampNeg)] σ6) (fun σ7 => some (.inl none, σ7)) (fun e8 σ9 => some (.inr e8, σ9))) (fun e10 σ11 => some (.inr e10, σ11))) (fun e12 σ13 => some (.inr e12, σ13)) = some r → lj_bv (lj_run lc_P B' n 149 [.ref 8] (lj_put τ 8 41 0)) (fun σ5 => lj_bv (lj_run lc_P B' n 143 [.ref 8, .int 2, .long (((τ.1 101 x1.toNatClampNeg) : Int32).toInt64)] σ5) (fun σ6 => lj_bv (lj_run lc_P B' n 144 [.ref 8, .int (τ.1 98 x1.toNatClampNeg)] σ6) (fun σ7 => some (.inl none, σ7)) (fun e8 σ9 => some (.inr e8, σ9))) (fun e10 σ11 => some (.inr e10, σ11))) (fun e12 σ13 => some (.inr e12, σ13)) = some r ∧ Q r) :
    ∀ (m : Nat) (x2 : Int32) (x3 x4 x5 : Value) (τ : lj_S), J x2 τ → lj_exec lc_P.1 lc_P.2.1 (lj_run lc_P D n) lc_M153 m 24 [.ref 8, .int x1, .int x2, x3, x4, x5, .retAddr 0, .retAddr 0] [] τ = some o → lj_exec lc_P.1 lc_P.2.1 (lj_run lc_P B' n) lc_M153 m 24 [.ref 8, .int x1, .int x2, x3, x4, x5, .retAddr 0, .retAddr 0] [] τ = some o ∧ Q o := by
  have up : ∀ (x : Nat) (τ : lj_S), (some (.inr x, τ) : Option lj_O) = some o → (some (.inr x, τ) : Option lj_O) = some o ∧ Q o := by
    intro x τ h
    cases h
    exact ⟨rfl, hQ x τ⟩
  have n1 : x1.toNatClampNeg = 20 * p + d := by rw [hx1]; exact lz_onat (by omega)
  intro m
  induction m using Nat.strongRecOn with
  | ind m ih =>
    intro x2 x3 x4 x5 τ hJ h
    cases m with
    | zero => cases h
    | succ m =>
      have j255 : ∀ (x2 x3 : Int32) (x4 x5 : Value) (τ : lj_S), J x2 τ → ∀ m', m' ≤ m → lj_exec lc_P.1 lc_P.2.1 (lj_run lc_P D n) lc_M153 m' 255 [.ref 8, .int x1, .int x2, .int x3, x4, x5, .retAddr 0, .retAddr 0] [] τ = some o → lj_exec lc_P.1 lc_P.2.1 (lj_run lc_P B' n) lc_M153 m' 255 [.ref 8, .int x1, .int x2, .int x3, x4, x5, .retAddr 0, .retAddr 0] [] τ = some o ∧ Q o := by
        intro x2 x3 x4 x5 τ hJ m' hm h
        cases m' with
        | zero => cases h
        | succ m' =>
          rw [xq, kg_153_255] at h ⊢
          exact ih m' (by omega) _ _ _ _ _ hJ h
      rw [xq, kg_153_24] at h ⊢
      refine ifs h (fun z h => ?_) fun nz h => ?_
      · cases h
        subst z
        exact ⟨rfl, h0 _ hJ⟩
      · refine ifn h fun _ h => ?_
        refine ifs h (fun _ h => ?_) fun _ h => ?_
        · refine ifn h fun _ h => ?_
          refine ifn h fun _ h => ?_
          exact hend x2 τ hJ nz o h
        · refine ifn h fun _ h => ?_
          refine ifn h fun _ h => ?_
          refine bih h (fun q hq => wf_deep wM_rk (id := 118) rfl hB hq) up fun y2 σ1 e1 h => ?_
          have z1 : zS τ σ1 := (zS.rf.put (by rfl)).tr (wz (id := 118) (r := 8) rfl ⟨_, rfl⟩ e1 rfl).1
          have hJ1 := hJz _ _ _ hJ z1
          refine ifs h (fun _ h => j255 _ _ _ _ _ hJ1 m (Nat.le_refl _) h) fun _ h => ?_
          refine ifs h (fun e27 h => ?_) fun _ h => j255 _ _ _ _ _ hJ1 m (Nat.le_refl _) h
          have j156 : ∀ x50, lj_exec lc_P.1 lc_P.2.1 (lj_run lc_P D n) lc_M153 m 156 [.ref 8, .int x1, .int x2, .int ((τ.1 104 (((τ.1 8 33) - 1).toNatClampNeg))), x4, x5, .retAddr 0, .retAddr 0] [.int x50, .int (σ1.1 8 51), .ref 8] σ1 = some o → lj_exec lc_P.1 lc_P.2.1 (lj_run lc_P B' n) lc_M153 m 156 [.ref 8, .int x1, .int x2, .int ((τ.1 104 (((τ.1 8 33) - 1).toNatClampNeg))), x4, x5, .retAddr 0, .retAddr 0] [.int x50, .int (σ1.1 8 51), .ref 8] σ1 = some o ∧ Q o := by
            intro x50 h
            cases m with
            | zero => cases h
            | succ m =>
              rw [xq, kg_153_156] at h ⊢
              refine bvh h (fun q hq => rk8_run (r := 1) rfl (by decide) hB q hq) up fun σ3 e3 h => ?_
              obtain ⟨z3, k3⟩ := p154 e3 rfl (by rw [lj_put_1, if_pos ⟨rfl, rfl⟩])
              have z3 : zS σ1 σ3 := ((zS.rf.put (by rfl)).put (by rfl)).tr z3
              have hJ3 := hJz _ _ _ hJ1 z3
              obtain ⟨b1, b2, b3, b4⟩ := hJ2 _ _ hJ3 nz
              refine ifn h fun _ h => ?_
              refine ifn h fun _ h => ?_
              refine ifn h fun _ h => ?_
              have v1 : vp_nar .boolean 1 = 1 := by decide
              have v0 : vp_nar .boolean 0 = 0 := by decide
              simp only [n1, v1, v0] at h ⊢
              have hb : ∀ k i, zpC k i = true → ¬ ((k = 102 ∨ k = 103) ∧ i = 20 * p + d) → (lj_put (lj_put σ3 102 (20 * p + d) 1) 103 (20 * p + d) 0).1 k i = σ3.1 k i := by
                intro k i q nq
                rw [lj_put_1, if_neg (by omega), lj_put_1, if_neg (by omega)]
              have hI : wI (lj_put (lj_put σ3 102 (20 * p + d) 1) 103 (20 * p + d) 0) p d (d + 1) := by
                refine ⟨⟨(hb 8 7 rfl (by omega)).trans b1, hp, by omega, by omega, (hb 91 _ rfl (by omega)).trans b4, ?_, fun i h1 h2 => by omega⟩, (hb 90 p rfl (by omega)).trans b2, ?_⟩
                · rw [lj_put_1, if_neg (by omega), lj_put_1, if_pos ⟨rfl, rfl⟩]; decide
                · rw [hb 8 34 rfl (by omega), b3, hx1, show d + 1 - 1 = d by omega]
              have h105 : (lj_put (lj_put σ3 102 (20 * p + d) 1) 103 (20 * p + d) 0).1 105 0 = 4 := by
                rw [lj_put_1, if_neg (by omega), lj_put_1, if_neg (by omega)]; exact k3
              refine bvh h (fun q hq => (hcall _ _ _ _ q hI h105 hq).1) ?_ fun σ2 e2 h => ?_
              · intro x τ4 h
                cases hc : lc_ca 0 x with
                | false => rw [hc] at h; cases h
                | true =>
                  rw [hc] at h
                  simp only [cond_true] at h ⊢
                  cases m with
                  | zero => cases h
                  | succ m =>
                    rw [xq, kg_153_236] at h ⊢
                    refine ifn h fun _ h => ?_
                    cases hb : Nat.blt x 2000 with
                    | false => rw [hb] at h; cases h
                    | true =>
                      rw [hb] at h
                      exact up _ _ h
              · refine ifn h fun _ h => ?_
                refine ifn h fun _ h => ?_
                have hp2 := (hcall _ _ _ _ _ hI h105 e2).2 none rfl
                have hJ4 := hJc x2 σ3 _ σ2 hJ3 nz hb (by rw [lj_put_1, if_pos ⟨rfl, rfl⟩]) hp2
                exact j255 _ _ _ _ _ hJ4 m (by omega) h
          exact ifs h (fun _ h => j156 _ h) fun _ h => j156 _ h
theorem s2_step {D : Nat} (hW : sW D) : s2 (D + 1) := by
  intro n σ o p e d B hN h0 hB h
  have hB : 4 * (20 - d) + 2 * (d - 1 - e) + 40 + 17 ≤ B := hB
  obtain ⟨B', rfl⟩ : ∃ B', B = B' + 1 := ⟨B - 1, by omega⟩
  have hP : lc_P.2.2.2 153 = some (8, lc_M153) := rfl
  rw [lc_run_eq hP] at h ⊢
  cases hw : lj_may lc_P 153 [.ref 8] 8 σ with
  | false => rw [hw] at h; cases h
  | true =>
    rw [hw] at h
    have h : lj_exec lc_P.1 lc_P.2.1 (lj_run lc_P D n) lc_M153 n 0 [.ref 8, .retAddr 0, .retAddr 0, .retAddr 0, .retAddr 0, .retAddr 0, .retAddr 0, .retAddr 0] [] σ = some o := h
    show lj_exec lc_P.1 lc_P.2.1 (lj_run lc_P B' n) lc_M153 n 0 [.ref 8, .retAddr 0, .retAddr 0, .retAddr 0, .retAddr 0, .retAddr 0, .retAddr 0, .retAddr 0] [] σ = some o ∧ qW p e σ o
    cases n with
    | zero => cases h
    | succ n =>
      have hN0 := hN
      obtain ⟨hK, c1, c2, c3, c4, c5⟩ := hN
      have hK0 := hK
      obtain ⟨a1, a2, a3, a4, a5, a6, a7⟩ := hK
      have i34 : lj_in (σ.1 8 34) 520 := by rw [c3]; exact nq_in (by omega) (by decide)
      have n34 : (σ.1 8 34).toNatClampNeg = 20 * p + d := by rw [c3]; exact lz_onat (by omega)
      rw [xq, kg_153_0, if_pos i34, if_pos (by rw [n34]; exact h0)] at h ⊢
      refine nla_loop (p := p) (d := d) (Q := qW p e σ) (J := fun x2 τ => ((∀ k i, zpC k i = true → ¬ aW p e k i → τ.1 k i = σ.1 k i) ∧ τ.1 103 (20 * p + e) = σ.1 103 (20 * p + e)) ∧ (x2 ≠ 0 → wN τ p e d)) c3 a2 c1 (by omega) inrQ ?_ ?_ ?_ ?_ ?_ ?_ n 1 _ _ _ σ ⟨⟨fun _ _ _ _ => rfl, rfl⟩, fun _ => hN0⟩ h
      · intro k v l τ q hI h105 hq
        exact hW (n + 1) 155 _ 1 20 _ τ q p d (d + 1) B' rfl rfl (dL.c (fun q e => by cases e; rfl) (dL.c (fun q e => by cases e; exact ⟨_, rfl⟩) (dL.c (fun q e => by cases e; exact ⟨_, rfl⟩) (dL.c (fun q e => by cases e; show Value.int 7 = .int (wa τ (20 * p + (d + 1 - 1))); unfold wa; rw [show d + 1 - 1 = d by omega, hI.1.2.2.2.2.1]; rfl) (dL.c (fun q e => by cases e; exact ⟨_, rfl⟩) dL_nil))))) hI ⟨fun q => by omega, fun _ _ _ _ => h105⟩ (by show 4 * (20 - (d + 1)) + 2 * (d + 1 - 1 - d) + 40 + 20 ≤ B'; omega) hq
      · intro x2 τ τ' hJ z
        exact ⟨⟨fun k i q b => (z k i q).trans (hJ.1.1 k i q b), (z 103 _ rfl).trans hJ.1.2⟩, fun nz => (hJ.2 nz).cg z⟩
      · intro x2 τ hJ nz
        obtain ⟨k, -, l2, l3, l4, -⟩ := hJ.2 nz
        exact ⟨k.1, l2, l3.trans c3.symm, l4⟩
      · intro x2 τ τb τ2 hJ nz hb hb0 hp2
        obtain ⟨k0, m1, m2, m3, m4, m5⟩ := hJ.2 nz
        have u := hp2.up (e := e) a3 c1
        have low : ∀ k i, zpC k i = true → ¬ aW p d k i → ¬ ((k = 102 ∨ k = 103) ∧ i = 20 * p + d) → (lj_put τ2 102 (20 * p + d) 0).1 k i = τ.1 k i := by
          intro k i q b nq
          rw [lj_put_1, if_neg (by omega), hp2.1 k i q b, hb k i q nq]
        refine ⟨⟨fun k i q b => ?_, ?_⟩, fun nz' => ?_⟩
        · rw [lj_put_1, if_neg (fun z => b (by unfold aW; omega)), u.1 k i q b, hb k i q (fun z => b (by unfold aW; omega))]
          exact hJ.1.1 k i q b
        · rw [lj_put_1, if_neg (by omega), u.2, hb 103 _ rfl (by omega)]
          exact hJ.1.2
        · rcases hp2.2 nz' with z | ⟨z1, z2⟩
          · exact absurd hb0 z
          · refine ⟨k0.cg (fun k i q => low k i ((zpC_iff k i).2 (by omega)) (by unfold aW; omega) (by omega)), m1, ?_, ?_, ?_, ?_⟩
            · rw [lj_put_1, if_neg (by omega)]; exact z1
            · rw [lj_put_1, if_neg (by omega)]; exact z2
            · rw [low 91 _ rfl (by unfold aW; omega) (by omega)]; exact m4
            · rw [low 98 _ rfl (by unfold aW; omega) (by omega), wa_cg (low 91 _ rfl (by unfold aW; omega) (by omega))]; exact m5
      · intro τ hJ v _
        exact ⟨hJ.1.1, fun z => Or.inl (by rw [← hJ.1.2]; exact z)⟩
      · intro x2 τ hJ nz r h
        obtain ⟨k0, m1, m2, m3, m4, m5⟩ := hJ.2 nz
        refine bvs h (fun q hq => rk8_run (r := 3) rfl (by decide) (by omega) q hq) inrQ fun σ5 e5 h => ?_
        obtain ⟨g1, g2, g3⟩ := p149 (p := p) (d := d) e5 rfl (by rw [lj_put_1, if_neg (by omega)]; exact k0.1) a2 (by rw [lj_put_1, if_neg (by omega)]; exact m2) c1
        have g3 : ∀ k i, zpC k i = true → ¬ (k = 8 ∧ i = 34) → ¬ (k = 90 ∧ i = p) → σ5.1 k i = τ.1 k i := by
          intro k i q n1 n2
          rw [g3 k i q n1 n2, lj_put_1, if_neg (fun z => by rw [z.1, z.2] at q; cases q)]
        have hI5 : wI σ5 p e d := by
          refine ⟨k0.cg (fun k i q => g3 k i ((zpC_iff k i).2 (by omega)) (by omega) (by omega)), g1, ?_⟩
          rw [g2]; unfold nf; rw [if_neg (by omega)]
        refine bvs h (fun q hq => wf_deep wM_rk (id := 143) rfl (by omega) hq) inrQ fun σ6 e6 h => ?_
        have z6 := (wz (id := 143) (r := 9) rfl ⟨_, rfl⟩ e6 rfl).1
        have ha : τ.1 98 (σ.1 8 34).toNatClampNeg = wa σ6 (20 * p + (d - 1)) := by
          rw [n34, m5, wa_cg (z6 91 _ rfl), wa_cg (g3 91 _ rfl (by omega) (by omega))]
        rw [ha] at h ⊢
        have run := fun q (hq : lj_run lc_P D (n + 1) 144 [.ref 8, .int (wa σ6 (20 * p + (d - 1)))] σ6 = some q) => hW (n + 1) 144 _ 0 0 _ σ6 q p e d B' rfl rfl (dL.c (fun q e => by cases e; rfl) (dL.c (fun q e => by cases e; rfl) dL_nil)) (hI5.cg z6) ⟨fun q => by omega, fun q => by omega⟩ (by show 2 * (d - 1 - e) + 10 + 0 ≤ B'; omega) hq
        refine bvs h (fun q hq => (run q hq).1) inrQ fun σ7 e7 h => ?_
        refine ⟨h, fun v hv => ?_⟩
        cases h
        refine ((run _ e7).2 none rfl).pre (fun k i q b => ?_) ?_
        · rw [z6 k i q, g3 k i q (fun z => b (Or.inl z)) (fun z => b (Or.inr (Or.inl z)))]
          exact hJ.1.1 k i q b
        · rw [z6 103 _ rfl, g3 103 _ rfl (by omega) (by omega)]
          exact hJ.1.2
theorem sW_step {D : Nat} (hW : sW D) (hE : sEp D) (h1 : s1 D) (h2 : s2 D) : sW (D + 1) := by
  intro n id pat c off as σ o p e d B hm hl hA hI hx hB h
  have hmem := lj_find_in mWp id _ hm
  have two : ∀ {a b : dv}, pat = [a, b] → ∃ u v, as = [u, v] := by
    intro a b e; rw [e] at hl
    match as, hl with
    | [u, v], _ => exact ⟨u, v, rfl⟩
  have three : ∀ {a b c : dv}, pat = [a, b, c] → ∃ u v w, as = [u, v, w] := by
    intro a b c e; rw [e] at hl
    match as, hl with
    | [u, v, w], _ => exact ⟨u, v, w, rfl⟩
  have four : ∀ {a b c d : dv}, pat = [a, b, c, d] → ∃ u v w x, as = [u, v, w, x] := by
    intro a b c d e; rw [e] at hl
    match as, hl with
    | [u, v, w, x], _ => exact ⟨u, v, w, x, rfl⟩
  have simple : (∃ L0 tb, lj_find wTp id = some (L0, tb) ∧ L0 = dl2 pat) → pat.all (fun a => a.isSome) = true → lj_run lc_P B n id as σ = some o ∧ qW p e σ o := by
    rintro ⟨L0, tb, hT, rfl⟩ hs
    exact w_an hW wT_ok hm hT hI (fun q => by cases q) hB (fun nL hw => dl2_ok pat as nL hs hl hA hw) h
  unfold mWp at hmem
  simp only [List.mem_cons, List.not_mem_nil, or_false, Prod.mk.injEq] at hmem
  rcases hmem with ⟨rfl, rfl, rfl, rfl⟩ | ⟨rfl, rfl, rfl, rfl⟩ | ⟨rfl, rfl, rfl, rfl⟩ | ⟨rfl, rfl, rfl, rfl⟩ | ⟨rfl, rfl, rfl, rfl⟩ | ⟨rfl, rfl, rfl, rfl⟩ | ⟨rfl, rfl, rfl, rfl⟩ | ⟨rfl, rfl, rfl, rfl⟩ | ⟨rfl, rfl, rfl, rfl⟩ | ⟨rfl, rfl, rfl, rfl⟩ | ⟨rfl, rfl, rfl, rfl⟩ | ⟨rfl, rfl, rfl, rfl⟩ | ⟨rfl, rfl, rfl, rfl⟩ | ⟨rfl, rfl, rfl, rfl⟩ | ⟨rfl, rfl, rfl, rfl⟩ | ⟨rfl, rfl, rfl, rfl⟩ | ⟨rfl, rfl, rfl, rfl⟩ | ⟨rfl, rfl, rfl, rfl⟩
  · obtain ⟨u, v, rfl⟩ := two rfl
    have g1 : u = .ref 8 := dL.h hA (0, 8) rfl
    have g2 : v = .int (wa σ (20 * p + (d - 1))) := dL.h (dL.t hA) (1, 0) rfl
    subst g1 g2
    exact w144 hE h1 hI rfl hB h
  · exact simple ⟨_, _, rfl, rfl⟩ rfl
  · exact simple ⟨_, _, rfl, rfl⟩ rfl
  · exact simple ⟨_, _, rfl, rfl⟩ rfl
  · exact simple ⟨_, _, rfl, rfl⟩ rfl
  · exact simple ⟨_, _, rfl, rfl⟩ rfl
  · exact simple ⟨_, _, rfl, rfl⟩ rfl
  · exact simple ⟨_, _, rfl, rfl⟩ rfl
  · exact simple ⟨_, _, rfl, rfl⟩ rfl
  · exact simple ⟨_, _, rfl, rfl⟩ rfl
  · exact simple ⟨_, _, rfl, rfl⟩ rfl
  · exact simple ⟨_, _, rfl, rfl⟩ rfl
  · obtain ⟨u, v, w, rfl⟩ := three rfl
    have g1 : u = .ref 8 := dL.h hA (0, 8) rfl
    obtain ⟨x, g2⟩ : ∃ x, v = .int x := dL.h (dL.t hA) (4, 0) rfl
    have g3 : w = .int (wa σ (20 * p + (d - 1))) := dL.h (dL.t (dL.t hA)) (1, 0) rfl
    subst g1 g2 g3
    exact w196 (hx.1 (by omega)) (by unfold wBd at hB; simp only [Nat.beq, cond_true] at hB; omega) h
  · obtain ⟨u, v, w, rfl⟩ := three rfl
    have g1 : u = .ref 8 := dL.h hA (0, 8) rfl
    obtain ⟨x, g2⟩ : ∃ x, v = .int x := dL.h (dL.t hA) (4, 0) rfl
    have g3 : w = .int (wa σ (20 * p + (d - 1))) := dL.h (dL.t (dL.t hA)) (1, 0) rfl
    subst g1 g2 g3
    exact w197 hI (by unfold wBd at hB; simp only [Nat.beq, cond_true] at hB; omega) h
  · obtain ⟨u, v, w, y, rfl⟩ := four rfl
    have g1 : u = .ref 8 := dL.h hA (0, 8) rfl
    obtain ⟨x, g2⟩ : ∃ x, v = .int x := dL.h (dL.t hA) (4, 0) rfl
    have g3 : w = .int (wa σ (20 * p + (d - 1))) := dL.h (dL.t (dL.t hA)) (1, 0) rfl
    obtain ⟨z, g4⟩ : ∃ x, y = .int x := dL.h (dL.t (dL.t (dL.t hA))) (4, 0) rfl
    subst g1 g2 g3 g4
    by_cases h26 : x = 26
    · subst h26
      exact w187 (hx.1 (by omega)) (by unfold wBd at hB; simp only [Nat.beq, cond_true] at hB; omega) h
    · refine w_an hW wT4_ok hm (id := 187) rfl hI (fun _ => hx.1 (by omega)) hB (fun nL hw => dl2_ok [some (0, 8), some (6, 26), some (1, 0), some (4, 0)] _ nL rfl rfl (dL.c (fun q e => by cases e; rfl) (dL.c (fun q e => by cases e; exact ⟨x, rfl, h26⟩) (dL.c (fun q e => by cases e; rfl) (dL.c (fun q e => by cases e; exact ⟨_, rfl⟩) dL_nil)))) hw) h
  · obtain ⟨u, v, w, rfl⟩ := three rfl
    have g1 : u = .ref 8 := dL.h hA (0, 8) rfl
    obtain ⟨x, g2⟩ : ∃ x, v = .int x := dL.h (dL.t hA) (4, 0) rfl
    have g3 : w = .int (wa σ (20 * p + (d - 1))) := dL.h (dL.t (dL.t hA)) (1, 0) rfl
    subst g1 g2 g3
    exact w_gather h2 hI rfl hB h
  · obtain ⟨u, v, w, y, rfl⟩ := four rfl
    have g1 : u = .ref 8 := dL.h hA (0, 8) rfl
    obtain ⟨x, g2⟩ : ∃ x, v = .int x := dL.h (dL.t hA) (4, 0) rfl
    have g3 : w = .int (wa σ (20 * p + (d - 1))) := dL.h (dL.t (dL.t hA)) (1, 0) rfl
    obtain ⟨z, g4⟩ : ∃ x, y = .int x := dL.h (dL.t (dL.t (dL.t hA))) (4, 0) rfl
    subst g1 g2 g3 g4
    by_cases h14 : x = 14
    · subst h14
      exact w159 hW hI rfl (hx.1 (by omega)) hB h
    · refine w_an hW wT4_ok hm (id := 159) rfl hI (fun _ => hx.1 (by omega)) hB (fun nL hw => dl2_ok [some (0, 8), some (6, 14), some (1, 0), some (4, 0)] _ nL rfl rfl (dL.c (fun q e => by cases e; rfl) (dL.c (fun q e => by cases e; exact ⟨x, rfl, h14⟩) (dL.c (fun q e => by cases e; rfl) (dL.c (fun q e => by cases e; exact ⟨_, rfl⟩) dL_nil)))) hw) h
  · obtain ⟨u, v, w, y, z, rfl⟩ : ∃ u v w y z, as = [u, v, w, y, z] := by
      match as, hl with
      | [u, v, w, y, z], _ => exact ⟨u, v, w, y, z, rfl⟩
    have g1 : u = .ref 8 := dL.h hA (0, 8) rfl
    obtain ⟨x, g2⟩ : ∃ x, v = .int x := dL.h (dL.t hA) (4, 0) rfl
    obtain ⟨x', g3⟩ : ∃ x, w = .long x := dL.h (dL.t (dL.t hA)) (5, 0) rfl
    have g4 : y = .int (wa σ (20 * p + (d - 1))) := dL.h (dL.t (dL.t (dL.t hA))) (1, 0) rfl
    obtain ⟨x'', g5⟩ : ∃ x, z = .int x := dL.h (dL.t (dL.t (dL.t (dL.t hA)))) (4, 0) rfl
    subst g1 g2 g3 g4 g5
    exact w155 hW hI rfl (fun k5 => hx.2 rfl _ rfl k5) hB h
theorem sAll : ∀ D, sW D ∧ sEp D ∧ s1 D ∧ s2 D
  | 0 => by
    refine ⟨?_, ?_, ?_, ?_⟩
    · intro n id pat c off as σ o p e d B hm hl hA hI hx hB h; cases h
    · intro n x σ o p e d B hI h1 hB h; cases h
    · intro n σ o p e d B hI h1 hB h; cases h
    · intro n σ o p e d B hI h1 hB h; cases h
  | D + 1 => by
    obtain ⟨a, b, c, d⟩ := sAll D
    exact ⟨sW_step a b c d, sEp_step a, s1_step D, s2_step a⟩
