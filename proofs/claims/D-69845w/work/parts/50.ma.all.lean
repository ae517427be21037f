/-! DEPTH OF CALLS: calls, wherever they begin: all together -/
def sT : List (Nat × List dv × List (Nat × Nat × List dv × List dv)) := [(175, [some (0, 8), some (4, 0), some (4, 0)], [(32, 0, [some (0, 8), some (4, 0), some (4, 0)], []), (61, 0, [some (0, 8), some (4, 0), some (4, 0)], [some (4, 0), some (4, 0), some (0, 111)]), (80, 0, [some (0, 8), some (4, 0), some (4, 0)], []), (110, 0, [some (0, 8), some (4, 0), some (4, 0)], []), (138, 0, [some (0, 8), some (4, 0), some (4, 0)], []), (172, 0, [some (0, 8), some (4, 0), some (4, 0)], []), (189, 0, [some (0, 8), some (4, 0), some (4, 0)], []), (194, 0, [some (0, 8), some (4, 0), some (4, 0)], []), (214, 0, [some (0, 8), some (4, 0), some (4, 0)], []), (288, 0, [some (0, 8), some (4, 0), some (4, 0)], []), (310, 0, [some (0, 8), some (4, 0), some (4, 0)], []), (353, 0, [some (0, 8), some (4, 0), some (4, 0)], []), (424, 0, [some (0, 8), some (4, 0), some (4, 0)], []), (441, 0, [some (0, 8), some (4, 0), some (4, 0)], []), (450, 0, [some (0, 8), some (4, 0), some (4, 0)], []), (495, 0, [some (0, 8), some (4, 0), some (4, 0)], [])]),
  (197, [some (0, 8), some (4, 0), some (4, 0)], [(12, 0, [some (0, 8), some (4, 0), some (4, 0)], [some (4, 0)]), (16, 0, [some (0, 8), some (4, 0), some (4, 0)], []), (57, 0, [some (0, 8), some (4, 0), some (4, 0)], []), (58, 0, [some (0, 8), some (4, 0), some (4, 0)], [some (4, 0)]), (100, 0, [some (0, 8), some (4, 0), some (4, 0)], [])])]
def nxS (f id : Nat) (A : List dv) : Option Nat := bif Nat.beq id 164 then none else bif Nat.beq id 144 then (bif Nat.beq A.length 2 && dle [some (0, 8), some (4, 0)] A then some f else none) else bif Nat.beq id 153 then (bif Nat.beq A.length 1 && dle [some (0, 8)] A then some f else none) else (match lj_find lc_rk id with
  | some r => bif Nat.ble r 8 then some f else none
  | none => none)
def xS (M : lj_M) (tb : List (Nat × Nat × List dv × List dv)) (pc f : Nat) (L st : List dv) : Bool := bnx lc_P.1 M (fun _ _ _ => none) (fun f _ _ _ => some f) (fun _ _ _ => none) (fun f _ _ _ => some f) nxS (fun _ => true) tb 4000 pc f L st
def sOKp : Bool := sT.all fun q => match lc_P.2.2.2 q.1 with
  | some (_, M) => M.2.2.2.2.2.1.isEmpty && (xS M q.2.2 0 0 q.2.1 [] && q.2.2.all fun z => xS M q.2.2 z.1 z.2.1 z.2.2.1 z.2.2.2)
  | _ => false
set_option maxRecDepth 100000 in
theorem sOK_ok : sOKp = true := by decide +kernel
theorem st_an {D id : Nat} {tb : List (Nat × Nat × List dv × List dv)} (hi : lj_find sT id = some ([some (0, 8), some (4, 0), some (4, 0)], tb)) {n : Nat} {x y : Int32} {σ : lj_S} {o : lj_O} {B : Nat} (hB : 690 ≤ B) (h : lj_run lc_P (D + 1) n id [.ref 8, .int x, .int y] σ = some o) : lj_run lc_P B n id [.ref 8, .int x, .int y] σ = some o := by
  have hq := List.all_eq_true.mp sOK_ok _ (lj_find_in sT id _ hi)
  dsimp only at hq
  obtain ⟨B', rfl⟩ : ∃ B', B = B' + 1 := ⟨B - 1, by omega⟩
  cases hP : lc_P.2.2.2 id with
  | none => rw [hP] at hq; cases hq
  | some z =>
    obtain ⟨nL, M⟩ := z
    rw [hP] at hq
    dsimp only at hq
    rw [Bool.and_eq_true, Bool.and_eq_true] at hq
    rw [lc_run_eq hP] at h ⊢
    cases hw : lj_may lc_P id [.ref 8, .int x, .int y] nL σ with
    | false => rw [hw] at h; cases h
    | true =>
      rw [hw] at h
      simp only [cond_true] at h ⊢
      have hp := pvH_P (fun _ => 0)
      have hX : eX (pvH (fun _ => 0)) (fun _ _ => True) (fun _ _ _ => none) (fun f _ _ _ => some f) (fun _ _ _ => none) (fun f _ _ _ => some f) := ⟨fun f k j q σ h => (by cases h), fun _ _ _ _ _ _ _ _ => ⟨fun _ _ => trivial, fun _ _ => trivial⟩, fun f k a q σ i h => (by cases h), fun _ _ _ _ _ _ _ _ _ _ => ⟨fun _ _ => ⟨trivial, trivial, trivial⟩, fun _ _ => trivial⟩⟩
      have hY : dY (pvH (fun _ => 0)) (fun _ _ => True) nxS (lj_run lc_P D n) (lj_run lc_P B' n) := by
        intro f id' A f' as' σ' o' hn hl hA _ hc
        refine ⟨?_, fun _ _ => trivial⟩
        unfold nxS at hn
        cases h164 : Nat.beq id' 164 with
        | true => rw [h164] at hn; cases hn
        | false =>
          rw [h164] at hn
          simp only [cond_false] at hn
          cases h144 : Nat.beq id' 144 with
          | true =>
            rw [h144] at hn
            simp only [cond_true] at hn
            cases hb : (Nat.beq A.length 2 && dle [some (0, 8), some (4, 0)] A) with
            | false => rw [hb] at hn; cases hn
            | true =>
              rw [Bool.and_eq_true] at hb
              have e := Nat.eq_of_beq_eq_true h144
              subst e
              have hA := dle_ok hp.h4 _ _ _ hb.2 hA
              have hl : as'.length = 2 := hl.trans (Nat.eq_of_beq_eq_true hb.1)
              obtain ⟨u, v, rfl⟩ : ∃ u v, as' = [u, v] := by
                match as', hl with
                | [u, v], _ => exact ⟨u, v, rfl⟩
              have g1 : u = .ref 8 := dL.h hA (0, 8) rfl
              obtain ⟨x, g2⟩ : ∃ x, v = .int x := dL.h (dL.t hA) (4, 0) rfl
              subst g1 g2
              exact (tAll D).1 n x σ' o' B' (by omega) (dB_all _ (by omega)) hc
          | false =>
            rw [h144] at hn
            simp only [cond_false] at hn
            cases h153 : Nat.beq id' 153 with
            | true =>
              rw [h153] at hn
              simp only [cond_true] at hn
              cases hb : (Nat.beq A.length 1 && dle [some (0, 8)] A) with
              | false => rw [hb] at hn; cases hn
              | true =>
                rw [Bool.and_eq_true] at hb
                have e := Nat.eq_of_beq_eq_true h153
                subst e
                have hA := dle_ok hp.h4 _ _ _ hb.2 hA
                have hl : as'.length = 1 := hl.trans (Nat.eq_of_beq_eq_true hb.1)
                obtain ⟨u, rfl⟩ : ∃ u, as' = [u] := by
                  match as', hl with
                  | [u], _ => exact ⟨u, rfl⟩
                have g1 : u = .ref 8 := dL.h hA (0, 8) rfl
                subst g1
                exact (tAll D).2.2.2 n σ' o' B' (by omega) (dB_all _ (by omega)) hc
            | false =>
              rw [h153] at hn
              simp only [cond_false] at hn
              split at hn
              · rename_i r e
                cases hb : Nat.ble r 8 with
                | false => rw [hb] at hn; cases hn
                | true =>
                  have := Nat.le_of_ble_eq_true hb
                  exact rk8_run e this (by omega) _ hc
              · cases hn
      have hL : dL (pvl (pvH (fun _ => 0))) [some (0, 8), some (4, 0), some (4, 0)] (lj_loc nL [.ref 8, .int x, .int y]) := dl2_ok [some (0, 8), some (4, 0), some (4, 0)] _ nL rfl rfl (dL.c (fun q e => by cases e; rfl) (dL.c (fun q e => by cases e; exact ⟨_, rfl⟩) (dL.c (fun q e => by cases e; exact ⟨_, rfl⟩) dL_nil))) (Nat.le_of_ble_eq_true (lj_may_w hw))
      exact (bn_exec (rt := fun _ => true) (tb := tb) hp (pvH_6 _) hX hY (List.isEmpty_iff.mp hq.1) hq.2.2 n 0 0 _ [] _ [] σ o hq.2.1 hL dL_nil trivial h).1
set_option maxRecDepth 100000 in
theorem kh_164 (x1 : Int32) (x2 : Int32) (x3 : Int64) (x5 : Int32) (call : lj_Y) (jump : lj_K) (σ : lj_S) : lj_ex lc_ds lc_ca call lc_M164 jump 4000 0 [.ref 8, .int x1, .int x2, .long x3, .retAddr 0, .int x5] [] σ = lj_bv (call 143 [.ref 8, .int x2, .long x3] (lj_put σ 8 41 0)) (fun σ1 => lj_bv (call 144 [.ref 8, .int x5] σ1) (fun σ2 => some (.inl none, σ2)) lj_up) lj_up := rfl
set_option maxRecDepth 100000 in
theorem s164 {D n : Nat} {x1 x2 : Int32} {x3 : Int64} {x4 : Int32} {σ : lj_S} {o : lj_O} {B : Nat} (hB : 681 ≤ B) (h : lj_run lc_P (D + 1) n 164 [.ref 8, .int x1, .int x2, .long x3, .int x4] σ = some o) : lj_run lc_P B n 164 [.ref 8, .int x1, .int x2, .long x3, .int x4] σ = some o := by
  obtain ⟨B', rfl⟩ : ∃ B', B = B' + 1 := ⟨B - 1, by omega⟩
  have hP : lc_P.2.2.2 164 = some (6, lc_M164) := rfl
  rw [lc_run_eq hP] at h ⊢
  have h : lj_exec lc_P.1 lc_P.2.1 (lj_run lc_P D n) lc_M164 n 0 [.ref 8, .int x1, .int x2, .long x3, .retAddr 0, .int x4] [] σ = some o := h
  show lj_exec lc_P.1 lc_P.2.1 (lj_run lc_P B' n) lc_M164 n 0 [.ref 8, .int x1, .int x2, .long x3, .retAddr 0, .int x4] [] σ = some o
  cases n with
  | zero => cases h
  | succ n =>
    rw [xq, kh_164] at h ⊢
    exact (bvs (Q := tt) h (fun q hq => wf_deep wM_rk (id := 143) rfl (by omega) hq) ttQ fun _ _ h => bvs h (fun q hq => (tAll D).1 _ _ _ q B' (by omega) (dB_all _ (by omega)) hq) ttQ fun _ _ h => ⟨h, trivial⟩).1
def v155 (D : Nat) : Prop := ∀ (n : Nat) (k : Int32) (v : Int64) (a l : Int32) (σ : lj_S) (o : lj_O) (B : Nat), (∀ p d m, sane σ p d m → uX d m + 900 ≤ B) → 20 ≤ B → lj_run lc_P D n 155 [.ref 8, .int k, .long v, .int a, .int l] σ = some o → lj_run lc_P B n 155 [.ref 8, .int k, .long v, .int a, .int l] σ = some o
set_option maxRecDepth 100000 in
theorem u196 {D : Nat} (h5 : v155 D) {n : Nat} {a l : Int32} {σ : lj_S} {o : lj_O} {p d m B : Nat} (hs : sane σ p d m) (hB : uX d m + 897 ≤ B) (h : lj_run lc_P (D + 1) n 196 [.ref 8, .int l, .int a] σ = some o) : lj_run lc_P B n 196 [.ref 8, .int l, .int a] σ = some o := by
  obtain ⟨B', rfl⟩ : ∃ B', B = B' + 1 := ⟨B - 1, by omega⟩
  have hP : lc_P.2.2.2 196 = some (6, lc_M196) := rfl
  rw [lc_run_eq hP] at h ⊢
  have h : lj_exec lc_P.1 lc_P.2.1 (lj_run lc_P D n) lc_M196 n 0 [.ref 8, .int l, .int a, .retAddr 0, .retAddr 0, .retAddr 0] [] σ = some o := h
  show lj_exec lc_P.1 lc_P.2.1 (lj_run lc_P B' n) lc_M196 n 0 [.ref 8, .int l, .int a, .retAddr 0, .retAddr 0, .retAddr 0] [] σ = some o
  have dv : ∀ (x : Int32) (τ : lj_S) (q : lj_O), lj_run lc_P D n 144 [.ref 8, .int x] τ = some q → lj_run lc_P B' n 144 [.ref 8, .int x] τ = some q := fun x τ q hq => (tAll D).1 n x τ q B' (by omega) (dB_all _ (by omega)) hq
  have b121 : ∀ (j : Nat) (x3 : Int32) (x50 : Nat) (τ : lj_S), lj_exec lc_P.1 lc_P.2.1 (lj_run lc_P D n) lc_M196 j 121 [.ref 8, .int l, .int a, .int x3, .retAddr 0, .retAddr 0] [.ref x50, .ref 3] τ = some o → lj_exec lc_P.1 lc_P.2.1 (lj_run lc_P B' n) lc_M196 j 121 [.ref 8, .int l, .int a, .int x3, .retAddr 0, .retAddr 0] [.ref x50, .ref 3] τ = some o ∧ tt o := by
    intro j x3 x50 τ h
    cases j with
    | zero => cases h
    | succ j =>
      rw [xq, kg_196_121] at h ⊢
      exact bvs h (fun q hq => wf_deep wM_rk (id := 29) rfl (by omega) hq) ttQ fun _ _ h => bis h (fun q hq => wf_deep wM_rk (id := 136) rfl (by omega) hq) ttQ fun _ _ _ h => bvs h (fun q hq => wf_deep wM_rk (id := 143) rfl (by omega) hq) ttQ fun _ _ h => bvs h (fun q hq => dv _ _ q hq) ttQ fun _ _ h => ⟨h, trivial⟩
  have b287 : ∀ (j : Nat) (x3 x4 x5 : Int32) (τ : lj_S), lj_exec lc_P.1 lc_P.2.1 (lj_run lc_P D n) lc_M196 j 287 [.ref 8, .int l, .int a, .int x3, .int x4, .int x5] [] τ = some o → lj_exec lc_P.1 lc_P.2.1 (lj_run lc_P B' n) lc_M196 j 287 [.ref 8, .int l, .int a, .int x3, .int x4, .int x5] [] τ = some o ∧ tt o := by
    intro j
    induction j with
    | zero => intro x3 x4 x5 τ h; cases h
    | succ j ih =>
      intro x3 x4 x5 τ h
      rw [xq, kg_196_287] at h ⊢
      exact ifs h (fun _ h => ifn h fun _ h => bvs h (fun q hq => dv _ _ q hq) ttQ fun _ _ h => ⟨h, trivial⟩) fun _ h => ifn h fun _ h => ifn h fun _ h => bvs h (fun q hq => wf_deep wM_rk (id := 143) rfl (by omega) hq) ttQ fun _ _ h => ih _ _ _ _ h
  have b226 : ∀ (j : Nat) (x3 x50 : Int32) (τ : lj_S), τ.1 8 18 = Int32.ofNat (m + 1) → lj_exec lc_P.1 lc_P.2.1 (lj_run lc_P D n) lc_M196 j 226 [.ref 8, .int l, .int a, .int x3, .retAddr 0, .retAddr 0] [.int x50] τ = some o → lj_exec lc_P.1 lc_P.2.1 (lj_run lc_P B' n) lc_M196 j 226 [.ref 8, .int l, .int a, .int x3, .retAddr 0, .retAddr 0] [.int x50] τ = some o ∧ tt o := by
    intro j x3 x50 τ hm h
    cases j with
    | zero => cases h
    | succ j =>
      rw [xq, kg_196_226] at h ⊢
      refine ifn h fun _ h => ?_
      refine ifn h fun _ h => ?_
      refine bvs h (fun q hq => rk8_run (r := 2) rfl (by decide) (by omega) q hq) ttQ fun σ1 e1 h => ?_
      have g : σ1.1 8 18 = Int32.ofNat (m + 1) := by
        have := p129' e1 8 18 (by omega)
        rw [lj_put_1, if_neg (by omega), lj_put_1, if_neg (by omega), lj_put_1, if_neg (by omega)] at this
        exact this.trans hm
      refine ifs h (fun _ h => b287 _ _ _ _ _ h) fun _ h => ?_
      refine ifn h fun _ h => ?_
      refine ifn h fun _ h => ?_
      refine bvs h (fun q hq => h5 _ _ _ _ _ _ q B' (fun p' d' m' s => ?_) (by omega) hq) ttQ fun _ _ h => ⟨h, trivial⟩
      obtain ⟨y1, y2, y3, y4, y5, y6, -⟩ := s
      have := hs.2.2.1
      have e3 : m' = m + 1 := (nq_eq (by omega) (by omega)).1 (y6.symm.trans g)
      subst e3
      have := hs.2.1
      unfold uX at hB ⊢
      omega
  have b140 : ∀ (j : Nat) (x3 : Int32) (τ : lj_S), zS σ τ → lj_exec lc_P.1 lc_P.2.1 (lj_run lc_P D n) lc_M196 j 140 [.ref 8, .int l, .int a, .int x3, .retAddr 0, .retAddr 0] [] τ = some o → lj_exec lc_P.1 lc_P.2.1 (lj_run lc_P B' n) lc_M196 j 140 [.ref 8, .int l, .int a, .int x3, .retAddr 0, .retAddr 0] [] τ = some o ∧ tt o := by
    intro j x3 τ hz h
    cases j with
    | zero => cases h
    | succ j =>
      rw [xq, kg_196_140] at h ⊢
      refine ifs h (fun _ h => brs h (fun q hq => wf_deep wM_rk (id := 133) rfl (by omega) hq) ttQ) fun _ h => ?_
      refine bvs h (fun q hq => rk8_run (r := 1) rfl (by decide) (by omega) q hq) ttQ fun σ1 e1 h => ?_
      have g : σ1.1 8 18 = Int32.ofNat (m + 1) := by
        have := wzC (id := 173) (r := 9) rfl ⟨_, rfl⟩ e1 (v := none) rfl 8 18 rfl
        rw [lj_put_1, if_pos ⟨rfl, rfl⟩, hz 8 18 rfl, hs.2.2.2.2.2.1, lz_osucc] at this
        exact this
      refine ifn h fun _ h => ?_
      refine ifn h fun _ h => ?_
      refine ifn h fun _ h => ?_
      refine ifn h fun _ h => ?_
      refine ifn h fun _ h => ?_
      have g2 : (lj_put (lj_put (lj_put (lj_put σ1 86 x3.toNatClampNeg a) 84 x3.toNatClampNeg (σ1.1 8 7)) 82 ((σ1.1 8 7).toNatClampNeg) (σ1.1 8 8)) 83 ((σ1.1 8 7).toNatClampNeg) 3).1 8 18 = Int32.ofNat (m + 1) := by
        rw [lj_put_1, if_neg (by omega), lj_put_1, if_neg (by omega), lj_put_1, if_neg (by omega), lj_put_1, if_neg (by omega)]; exact g
      exact ifs h (fun _ h => b226 _ _ _ _ g2 h) fun _ h => b226 _ _ _ _ g2 h
  have b54 : ∀ (j : Nat) (x50 : Int32) (τ : lj_S), zS σ τ → lj_exec lc_P.1 lc_P.2.1 (lj_run lc_P D n) lc_M196 j 54 [.ref 8, .int l, .int a, .retAddr 0, .retAddr 0, .retAddr 0] [.int x50] τ = some o → lj_exec lc_P.1 lc_P.2.1 (lj_run lc_P B' n) lc_M196 j 54 [.ref 8, .int l, .int a, .retAddr 0, .retAddr 0, .retAddr 0] [.int x50] τ = some o ∧ tt o := by
    intro j x50 τ hz h
    cases j with
    | zero => cases h
    | succ j =>
      rw [xq, kg_196_54] at h ⊢
      refine ifn h fun _ h => ?_
      refine ifs h (fun _ h => b140 _ _ _ hz h) fun _ h => ?_
      refine ifn h fun _ h => ?_
      refine ifs h (fun _ h => b140 _ _ _ hz h) fun _ h => ?_
      exact bvs h (fun q hq => wf_deep wM_rk (id := 143) rfl (by omega) hq) ttQ fun _ _ h => bvs h (fun q hq => wf_deep wM_rk (id := 22) rfl (by omega) hq) ttQ fun _ _ h => ifn h fun _ h => ifs h (fun _ h => b121 _ _ _ _ h) fun _ h => b121 _ _ _ _ h
  have b16 : ∀ (j : Nat) (x50 : Int32) (τ : lj_S), zS σ τ → lj_exec lc_P.1 lc_P.2.1 (lj_run lc_P D n) lc_M196 j 16 [.ref 8, .int l, .int a, .retAddr 0, .retAddr 0, .retAddr 0] [.int x50, .ref 8] τ = some o → lj_exec lc_P.1 lc_P.2.1 (lj_run lc_P B' n) lc_M196 j 16 [.ref 8, .int l, .int a, .retAddr 0, .retAddr 0, .retAddr 0] [.int x50, .ref 8] τ = some o ∧ tt o := by
    intro j x50 τ hz h
    cases j with
    | zero => cases h
    | succ j =>
      rw [xq, kg_196_16] at h ⊢
      refine bvs h (fun q hq => wf_deep wM_rk (id := 168) rfl (by omega) hq) ttQ fun σ1 e1 h => ?_
      have z1 := hz.tr (wz (id := 168) (r := 9) rfl ⟨_, rfl⟩ e1 rfl).1
      refine bls h (fun q hq => wf_deep wM_rk (id := 165) rfl (by omega) hq) ttQ fun y3 σ2 e2 h => ?_
      have z2 := z1.tr (wz (id := 165) (r := 9) rfl ⟨_, rfl⟩ e2 rfl).1
      refine ifs h (fun _ h => b54 _ _ _ z2 h) fun _ h => ?_
      refine bls h (fun q hq => wf_deep wM_rk (id := 165) rfl (by omega) hq) ttQ fun y5 σ4 e4 h => ?_
      have z4 := z2.tr (wz (id := 165) (r := 9) rfl ⟨_, rfl⟩ e4 rfl).1
      exact ifn h fun _ h => b54 _ _ _ z4 h
  cases n with
  | zero => cases h
  | succ n =>
    rw [xq, kg_196_0] at h ⊢
    refine (bis (Q := tt) h (fun q hq => wf_deep wM_rk (id := 163) rfl (by omega) hq) ttQ fun y σ1 e1 h => ?_).1
    have z1 := (wz (id := 163) (r := 9) rfl ⟨_, rfl⟩ e1 rfl).1
    exact ifs h (fun _ h => b16 _ _ _ z1 h) fun _ h => b16 _ _ _ z1 h
theorem uW_step {D : Nat} (hU : uW D) (h5 : v155 D) : uW (D + 1) := by
  intro n id pat c off ρ as σ o p d m B hm hl hA hs hB h
  have hmem := lj_find_in mWp id _ hm
  have two : ∀ {a b : dv}, pat = [a, b] → ∃ u v, as = [u, v] := by
    intro a b e; rw [e] at hl
    match as, hl with
    | [u, v], _ => exact ⟨u, v, rfl⟩
  have three : ∀ {a b c : dv}, pat = [a, b, c] → ∃ u v w, as = [u, v, w] := by
    intro a b c e; rw [e] at hl
    match as, hl with
    | [u, v, w], _ => exact ⟨u, v, w, rfl⟩
  have four : ∀ {a b c d : dv}, pat = [a, b, c, d] → ∃ u v w x, as = [u, v, w, x] := by
    intro a b c d e; rw [e] at hl
    match as, hl with
    | [u, v, w, x], _ => exact ⟨u, v, w, x, rfl⟩
  have simple : (∃ L0 tb, lj_find wTp id = some (L0, tb) ∧ L0 = dl2 pat) → pat.all (fun a => a.isSome) = true → (id ≠ 155 ∧ id ≠ 196 ∧ id ≠ 144 ∧ id ≠ 175) → 600 ≤ B → lj_run lc_P B n id as σ = some o := by
    rintro ⟨L0, tb, hT, rfl⟩ hs' hj h6
    exact t_an hU wT_ok hm hT (fun q => by cases q) (Or.inr (Or.inr hj)) hs hB h6 (fun nL hw => dl2_ok pat as nL hs' hl hA hw) h
  unfold mWp at hmem
  simp only [List.mem_cons, List.not_mem_nil, or_false, Prod.mk.injEq] at hmem
  rcases hmem with ⟨rfl, rfl, rfl, rfl⟩ | ⟨rfl, rfl, rfl, rfl⟩ | ⟨rfl, rfl, rfl, rfl⟩ | ⟨rfl, rfl, rfl, rfl⟩ | ⟨rfl, rfl, rfl, rfl⟩ | ⟨rfl, rfl, rfl, rfl⟩ | ⟨rfl, rfl, rfl, rfl⟩ | ⟨rfl, rfl, rfl, rfl⟩ | ⟨rfl, rfl, rfl, rfl⟩ | ⟨rfl, rfl, rfl, rfl⟩ | ⟨rfl, rfl, rfl, rfl⟩ | ⟨rfl, rfl, rfl, rfl⟩ | ⟨rfl, rfl, rfl, rfl⟩ | ⟨rfl, rfl, rfl, rfl⟩ | ⟨rfl, rfl, rfl, rfl⟩ | ⟨rfl, rfl, rfl, rfl⟩ | ⟨rfl, rfl, rfl, rfl⟩ | ⟨rfl, rfl, rfl, rfl⟩
  · have hB : 680 ≤ B := hB
    obtain ⟨u, v, rfl⟩ := two rfl
    have g1 : u = .ref 8 := dL.h hA (0, 8) rfl
    have g2 : v = .int (ρ 0) := dL.h (dL.t hA) (1, 0) rfl
    subst g1 g2
    exact (tAll (D + 1)).1 n _ σ o B (by omega) (dB_all _ (by omega)) h
  · exact simple ⟨_, _, rfl, rfl⟩ rfl (by decide) (by have hB : 681 ≤ B := hB; omega)
  · exact simple ⟨_, _, rfl, rfl⟩ rfl (by decide) (by have hB : 690 ≤ B := hB; omega)
  · exact simple ⟨_, _, rfl, rfl⟩ rfl (by decide) (by have hB : 690 ≤ B := hB; omega)
  · exact simple ⟨_, _, rfl, rfl⟩ rfl (by decide) (by have hB : 690 ≤ B := hB; omega)
  · exact simple ⟨_, _, rfl, rfl⟩ rfl (by decide) (by have hB : 690 ≤ B := hB; omega)
  · exact simple ⟨_, _, rfl, rfl⟩ rfl (by decide) (by have hB : 690 ≤ B := hB; omega)
  · exact simple ⟨_, _, rfl, rfl⟩ rfl (by decide) (by have hB : 690 ≤ B := hB; omega)
  · exact simple ⟨_, _, rfl, rfl⟩ rfl (by decide) (by have hB : 690 ≤ B := hB; omega)
  · exact simple ⟨_, _, rfl, rfl⟩ rfl (by decide) (by have hB : 690 ≤ B := hB; omega)
  · exact simple ⟨_, _, rfl, rfl⟩ rfl (by decide) (by have hB : 690 ≤ B := hB; omega)
  · exact simple ⟨_, _, rfl, rfl⟩ rfl (by decide) (by have hB : 690 ≤ B := hB; omega)
  · have hB : uX d m + 897 ≤ B := hB
    obtain ⟨u, v, w, rfl⟩ := three rfl
    have g1 : u = .ref 8 := dL.h hA (0, 8) rfl
    obtain ⟨x, g2⟩ : ∃ x, v = .int x := dL.h (dL.t hA) (4, 0) rfl
    have g3 : w = .int (ρ 0) := dL.h (dL.t (dL.t hA)) (1, 0) rfl
    subst g1 g2 g3
    exact u196 h5 hs hB h
  · have hB : 690 ≤ B := hB
    obtain ⟨u, v, w, rfl⟩ := three rfl
    have g1 : u = .ref 8 := dL.h hA (0, 8) rfl
    obtain ⟨x, g2⟩ : ∃ x, v = .int x := dL.h (dL.t hA) (4, 0) rfl
    have g3 : w = .int (ρ 0) := dL.h (dL.t (dL.t hA)) (1, 0) rfl
    subst g1 g2 g3
    exact st_an (id := 197) rfl hB h
  · have hB' : uX d m + 898 ≤ B := hB
    obtain ⟨u, v, w, y, rfl⟩ := four rfl
    have g1 : u = .ref 8 := dL.h hA (0, 8) rfl
    obtain ⟨x, g2⟩ : ∃ x, v = .int x := dL.h (dL.t hA) (4, 0) rfl
    have g3 : w = .int (ρ 0) := dL.h (dL.t (dL.t hA)) (1, 0) rfl
    obtain ⟨z, g4⟩ : ∃ x, y = .int x := dL.h (dL.t (dL.t (dL.t hA))) (4, 0) rfl
    subst g1 g2 g3 g4
    by_cases h26 : x = 26
    · subst h26
      refine u26 (fun n as σ o ρ' hl hA B hB hq => ?_) (by omega) h
      cases D with
      | zero => cases hq
      | succ D =>
        obtain ⟨u, v, w, y, z, rfl⟩ : ∃ u v w y z, as = [u, v, w, y, z] := by
          match as, hl with
          | [u, v, w, y, z], _ => exact ⟨u, v, w, y, z, rfl⟩
        have g1 : u = .ref 8 := dL.h hA (0, 8) rfl
        obtain ⟨x2, g2⟩ : ∃ x, v = .int x := dL.h (dL.t hA) (4, 0) rfl
        obtain ⟨x3, g3⟩ : ∃ x, w = .int x := dL.h (dL.t (dL.t hA)) (4, 0) rfl
        obtain ⟨x4, g4⟩ : ∃ x, y = .long x := dL.h (dL.t (dL.t (dL.t hA))) (5, 0) rfl
        have g5 : z = .int (ρ' 0) := dL.h (dL.t (dL.t (dL.t (dL.t hA)))) (1, 0) rfl
        subst g1 g2 g3 g4 g5
        exact s164 hB hq
    · exact t_an hU wT4_ok hm (id := 187) rfl (fun _ => Or.inr rfl) (Or.inr (Or.inl rfl)) hs hB (by omega) (fun nL hw => dl2_ok [some (0, 8), some (6, 26), some (1, 0), some (4, 0)] _ nL rfl rfl (dL.c (fun q e => by cases e; rfl) (dL.c (fun q e => by cases e; exact ⟨x, rfl, h26⟩) (dL.c (fun q e => by cases e; rfl) (dL.c (fun q e => by cases e; exact ⟨_, rfl⟩) dL_nil)))) hw) h
  · have hB : 690 ≤ B := hB
    obtain ⟨u, v, w, rfl⟩ := three rfl
    have g1 : u = .ref 8 := dL.h hA (0, 8) rfl
    obtain ⟨x, g2⟩ : ∃ x, v = .int x := dL.h (dL.t hA) (4, 0) rfl
    have g3 : w = .int (ρ 0) := dL.h (dL.t (dL.t hA)) (1, 0) rfl
    subst g1 g2 g3
    exact st_an (id := 175) rfl hB h
  · have hB' : uX d m + 899 ≤ B := hB
    obtain ⟨u, v, w, y, rfl⟩ := four rfl
    have g1 : u = .ref 8 := dL.h hA (0, 8) rfl
    obtain ⟨x, g2⟩ : ∃ x, v = .int x := dL.h (dL.t hA) (4, 0) rfl
    have g3 : w = .int (ρ 0) := dL.h (dL.t (dL.t hA)) (1, 0) rfl
    obtain ⟨z, g4⟩ : ∃ x, y = .int x := dL.h (dL.t (dL.t (dL.t hA))) (4, 0) rfl
    subst g1 g2 g3 g4
    by_cases h14 : x = 14
    · subst h14
      exact u159 h5 hs hB' h
    · exact t_an hU wT4_ok hm (id := 159) rfl (fun _ => Or.inl rfl) (Or.inl rfl) hs hB (by omega) (fun nL hw => dl2_ok [some (0, 8), some (6, 14), some (1, 0), some (4, 0)] _ nL rfl rfl (dL.c (fun q e => by cases e; rfl) (dL.c (fun q e => by cases e; exact ⟨x, rfl, h14⟩) (dL.c (fun q e => by cases e; rfl) (dL.c (fun q e => by cases e; exact ⟨_, rfl⟩) dL_nil)))) hw) h
  · have hB : uX d m + 900 ≤ B := hB
    obtain ⟨u, v, w, y, z, rfl⟩ : ∃ u v w y z, as = [u, v, w, y, z] := by
      match as, hl with
      | [u, v, w, y, z], _ => exact ⟨u, v, w, y, z, rfl⟩
    have g1 : u = .ref 8 := dL.h hA (0, 8) rfl
    obtain ⟨x, g2⟩ : ∃ x, v = .int x := dL.h (dL.t hA) (4, 0) rfl
    obtain ⟨x', g3⟩ : ∃ x, w = .long x := dL.h (dL.t (dL.t hA)) (5, 0) rfl
    have g4 : y = .int (ρ 0) := dL.h (dL.t (dL.t (dL.t hA))) (1, 0) rfl
    obtain ⟨x'', g5⟩ : ∃ x, z = .int x := dL.h (dL.t (dL.t (dL.t (dL.t hA)))) (4, 0) rfl
    subst g1 g2 g3 g4 g5
    refine u155 hU (fun p' d' m' s => ?_) (by omega) h
    obtain ⟨-, y2, y3⟩ := hs.un s
    subst y2 y3
    exact hB
theorem uAll : ∀ D, uW D ∧ v155 D
  | 0 => by
    refine ⟨?_, ?_⟩
    · intro n id pat c off ρ as σ o p d m B hm hl hA hs hB h; cases h
    · intro n k v a l σ o B hB hB9 h; cases h
  | D + 1 => by
    obtain ⟨a, b⟩ := uAll D
    exact ⟨uW_step a b, fun n k v x l σ o B hB hB9 h => u155 a hB hB9 h⟩
