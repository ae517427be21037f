/-! DEPTH OF CALLS: calls, wherever they begin -/
def tb26 : List (Nat × Nat × List dv × List dv) := [(560, 0, [some (0, 8), some (3, 26), some (1, 0), some (4, 0)], [some (4, 0), some (0, 8)]), (919, 0, [some (0, 8), some (3, 26), some (1, 0), some (4, 0)], [])]
def nx26 (f id : Nat) (A : List dv) : Option Nat := bif Nat.beq id 164 then (bif Nat.beq A.length 5 && dle [some (0, 8), some (4, 0), some (4, 0), some (5, 0), some (1, 0)] A then some f else none) else (match lj_find lc_rk id with
  | some r => bif Nat.ble r 8 then some f else none
  | none => none)
def x26 (pc f : Nat) (L st : List dv) : Bool := bnx lc_P.1 lc_M187 (fun _ _ _ => none) (fun f _ _ _ => some f) (fun _ _ _ => none) (fun f _ _ _ => some f) nx26 (fun _ => true) tb26 4000 pc f L st
set_option maxRecDepth 100000 in
theorem x26_ok : (x26 0 0 [some (0, 8), some (3, 26), some (1, 0), some (4, 0)] [] && tb26.all fun z => x26 z.1 z.2.1 z.2.2.1 z.2.2.2) = true := by decide +kernel
/-- bounds: by the height of the chain -/
def uX (d m : Nat) : Nat := 4 * (240 - (22 * m + d))
def uBd (id d m : Nat) : Nat := match id with
  | 155 => uX d m + 900
  | 159 => uX d m + 899
  | 187 => uX d m + 898
  | 196 => uX d m + 897
  | 144 => 680
  | 164 => 681
  | _ => 690
def uW (D : Nat) : Prop := ∀ (n id : Nat) (pat : List dv) (c off : Nat) (ρ : Int → Int32) (as : List Value) (σ : lj_S) (o : lj_O) (p d m B : Nat), lj_find mWp id = some (pat, c, off) → as.length = pat.length → dL (pvH ρ) pat as → sane σ p d m → uBd id d m ≤ B → lj_run lc_P D n id as σ = some o → lj_run lc_P B n id as σ = some o
def tR (σ0 : lj_S) (f : Nat) (σ : lj_S) : Prop := (f = 0 ∧ zRl zpM σ0 σ) ∨ f = 1
theorem tR_X {pv : Nat × Int → Value → Prop} (σ0 : lj_S) : eX pv (tR σ0) (fun _ _ _ => none) wpx (fun _ _ _ => none) wax := by
  refine ⟨fun f k j q σ h => (by cases h), fun f k j a f' σ h hR => ?_, fun f k a q σ i h => (by cases h), fun f k ia va f' σ i h hR _ => ?_⟩
  · unfold wpx at h
    cases hb : zpM k j with
    | true => rw [hb] at h; cases h
    | false =>
      rw [hb] at h; cases h
      rcases hR with ⟨h0, h1⟩ | h0
      · exact ⟨fun v _ => Or.inl ⟨h0, zRl_put h1 hb v⟩, fun v _ => Or.inl ⟨h0, zRl_putL h1 hb v⟩⟩
      · exact ⟨fun v _ => Or.inr h0, fun v _ => Or.inr h0⟩
  · unfold wax at h
    cases hb : zaM k with
    | true => rw [hb] at h; cases h
    | false =>
      rw [hb] at h; cases h
      have hb := fun i => zaM_n hb i
      rcases hR with ⟨h0, h1⟩ | h0
      · exact ⟨fun v _ => ⟨Or.inl ⟨h0, zRl_put h1 (hb _) v⟩, Or.inl ⟨h0, zRl_put h1 (hb _) _⟩, Or.inl ⟨h0, zRl_put h1 (hb _) _⟩⟩, fun v _ => Or.inl ⟨h0, zRl_putL h1 (hb _) v⟩⟩
      · exact ⟨fun v _ => ⟨Or.inr h0, Or.inr h0, Or.inr h0⟩, fun v _ => Or.inr h0⟩
/-- who may call whom, by the bounds -/
theorem uBd_ok {id id' c off c' off' d m B : Nat} {pat pat' : List dv} {t4 : Bool} {A : List dv} (hm : lj_find mWp id = some (pat, c, off)) (hg : lj_find mWp id' = some (pat', c', off')) (hb : wbk c off c' off' = true) (h4 : ((Nat.blt id' 155 || (Nat.blt 159 id' && (!(Nat.beq id' 187) && !(Nat.beq id' 196)))) || (t4 && (Nat.beq id' 187 || Nat.beq id' 196))) = true) (ht : t4 = true → id = 159 ∨ id = 187) (hB : uBd id d m ≤ B + 1) (hI : id = 159 ∨ id = 187 ∨ (id ≠ 155 ∧ id ≠ 196 ∧ id ≠ 144 ∧ id ≠ 175)) : uBd id' d m ≤ B := by
  have key : mWp.all (fun q => mWp.all fun q' => (!(wbk q.2.2.1 q.2.2.2 q'.2.2.1 q'.2.2.2)) || ((Nat.beq q.1 155 || (Nat.beq q.1 196 || (Nat.beq q.1 144 || Nat.beq q.1 175))) || ((Nat.beq q'.1 155 || Nat.beq q'.1 159) || ((Nat.beq q.1 159 || (Nat.beq q.1 187 && !(Nat.beq q'.1 187))) || ((Nat.beq q'.1 187 || Nat.beq q'.1 196) || (Nat.beq q'.1 144 || (Nat.beq q'.1 164 && !(Nat.beq q.1 164)))))))) = true := by decide +kernel
  have k2 := List.all_eq_true.mp (List.all_eq_true.mp key _ (lj_find_in mWp id _ hm)) _ (lj_find_in mWp id' _ hg)
  dsimp only at k2
  rw [hb] at k2
  simp only [Bool.not_true, Bool.false_or, Bool.or_eq_true, Bool.and_eq_true, Bool.not_eq_true', Nat.beq_eq] at k2
  simp only [Bool.or_eq_true, Bool.and_eq_true, Bool.not_eq_true', Nat.beq_eq] at h4
  have n5 : id' ≠ 155 ∧ id' ≠ 159 := by
    rcases h4 with (y | y) | ⟨-, y | y⟩
    · have y : id' < 155 := Nat.le_of_ble_eq_true y
      omega
    · have y : 159 < id' := Nat.le_of_ble_eq_true y.1
      omega
    · omega
    · omega
  have n87 : id' = 187 ∨ id' = 196 → id = 159 ∨ id = 187 := by
    intro z
    rcases h4 with (y | ⟨-, y1, y2⟩) | ⟨y, -⟩
    · have y : id' < 155 := Nat.le_of_ble_eq_true y
      omega
    · rcases z with z | z
      · subst z; cases y1
      · subst z; cases y2
    · exact ht y
  have lo : ∀ x, x ≠ 155 → x ≠ 159 → x ≠ 187 → x ≠ 196 → uBd x d m ≤ 690 := by
    intro x a1 a2 a3 a4
    unfold uBd
    split <;> first | omega | contradiction
  have e9 : uBd 159 d m = uX d m + 899 := rfl
  have e7 : uBd 187 d m = uX d m + 898 := rfl
  have e6 : uBd 196 d m = uX d m + 897 := rfl
  have e4 : uBd 144 d m = 680 := rfl
  have e64 : uBd 164 d m = 681 := rfl
  by_cases c1 : id = 159
  · subst c1
    rw [e9] at hB
    by_cases c2 : id' = 187
    · subst c2; rw [e7]; omega
    · by_cases c3 : id' = 196
      · subst c3; rw [e6]; omega
      · have := lo id' n5.1 n5.2 c2 c3
        omega
  · by_cases c4 : id = 187
    · subst c4
      rw [e7] at hB
      by_cases c2 : id' = 187
      · exfalso
        subst c2
        have : wbk c off c off = true := by rw [hm] at hg; cases hg; exact hb
        unfold wbk at this
        rw [Bool.or_eq_true, Bool.and_eq_true, Bool.and_eq_true, Bool.and_eq_true] at this
        rcases this with ⟨-, y⟩ | ⟨y1, y2, -⟩
        · have y : off < off := Nat.le_of_ble_eq_true y
          omega
        · have := Nat.eq_of_beq_eq_true y1
          have := Nat.eq_of_beq_eq_true y2
          omega
      · by_cases c3 : id' = 196
        · subst c3; rw [e6]; omega
        · have := lo id' n5.1 n5.2 c2 c3
          omega
    · have c2 : id' ≠ 187 ∧ id' ≠ 196 := ⟨fun z => by have := n87 (Or.inl z); omega, fun z => by have := n87 (Or.inr z); omega⟩
      by_cases d4 : id' = 144
      · subst d4
        rw [e4]
        by_cases d5 : id = 164
        · subst d5; rw [e64] at hB; omega
        · have : uBd id d m = 690 := by
            unfold uBd
            split <;> first | omega | rfl
          omega
      · have d6 : id' = 164 ∧ id ≠ 164 := by
          rcases k2 with (z | z | z | z) | (z | z) | (z | ⟨z, -⟩) | (z | z) | z | ⟨z1, z2⟩
          · omega
          · omega
          · omega
          · omega
          · omega
          · omega
          · omega
          · omega
          · omega
          · omega
          · omega
          · exact ⟨z1, fun e => by subst e; cases z2⟩
        obtain ⟨rfl, d7⟩ := d6
        rw [e64]
        have : uBd id d m = 690 := by
          unfold uBd
          split <;> first | omega | rfl
        omega
theorem t_an {D : Nat} (hW : uW D) {t4 : Bool} {T : List (Nat × List dv × List (Nat × Nat × List dv × List dv))} (hT : wOK t4 T = true) {id : Nat} {pat L0 : List dv} {c off : Nat} {tb : List (Nat × Nat × List dv × List dv)} (hm : lj_find mWp id = some (pat, c, off)) (hi : lj_find T id = some (L0, tb)) (ht : t4 = true → id = 159 ∨ id = 187) (hJ : id = 159 ∨ id = 187 ∨ (id ≠ 155 ∧ id ≠ 196 ∧ id ≠ 144 ∧ id ≠ 175)) {n : Nat} {ρ : Int → Int32} {as : List Value} {σ : lj_S} {o : lj_O} {p d m B : Nat}
    (hs : sane σ p d m) (hB : uBd id d m ≤ B) (hB9 : 600 ≤ B) (hL : ∀ nL, lj_w as ≤ nL → dL (pvl (pvH ρ)) L0 (lj_loc nL as)) (h : lj_run lc_P (D + 1) n id as σ = some o) : lj_run lc_P B n id as σ = some o := by
  have hq := List.all_eq_true.mp hT _ (lj_find_in T id _ hi)
  dsimp only at hq
  rw [hm] at hq
  obtain ⟨B', rfl⟩ : ∃ B', B = B' + 1 := ⟨B - 1, by omega⟩
  cases hP : lc_P.2.2.2 id with
  | none => rw [hP] at hq; cases hq
  | some z =>
    obtain ⟨nL, M⟩ := z
    rw [hP] at hq
    dsimp only at hq
    rw [Bool.and_eq_true, Bool.and_eq_true] at hq
    rw [lc_run_eq hP] at h ⊢
    cases hw : lj_may lc_P id as nL σ with
    | false => rw [hw] at h; cases h
    | true =>
      rw [hw] at h
      simp only [cond_true] at h ⊢
      have hp := pvH_P ρ
      have hd : M.2.2.2.2.2.1 = [] := List.isEmpty_iff.mp hq.1
      have hY : dY (pvH ρ) (tR σ) (wnx t4 c off) (lj_run lc_P D n) (lj_run lc_P B' n) := by
        intro f id' A f' as' σ' o' hn hl hA hR hc
        unfold wnx at hn
        cases hf : Nat.beq f 0 with
        | false => rw [hf] at hn; cases hn
        | true =>
          rw [hf] at hn
          have hf := Nat.eq_of_beq_eq_true hf
          subst hf
          have hR : zRl zpM σ σ' := by
            rcases hR with ⟨-, h⟩ | h
            · exact h
            · cases h
          simp only [cond_true] at hn
          cases hg : lj_find mWp id' with
          | some z =>
            obtain ⟨pat', c', off'⟩ := z
            rw [hg] at hn
            dsimp only at hn
            cases hb : (Nat.beq A.length pat'.length && (dle pat' A && (wbk c off c' off' && ((Nat.blt id' 155 || (Nat.blt 159 id' && (!(Nat.beq id' 187) && !(Nat.beq id' 196)))) || (t4 && (Nat.beq id' 187 || Nat.beq id' 196)))))) with
            | false => rw [hb] at hn; cases hn
            | true =>
              rw [hb] at hn; cases hn
              rw [Bool.and_eq_true, Bool.and_eq_true, Bool.and_eq_true] at hb
              obtain ⟨b1, b2, b3, b4⟩ := hb
              exact ⟨hW n id' pat' c' off' ρ as' σ' o' p d m B' hg (by rw [hl]; exact Nat.eq_of_beq_eq_true b1) (dle_ok hp.h4 _ _ _ b2 hA) (hs.cg hR.z) (uBd_ok (A := A) hm hg b3 b4 ht hB hJ) hc, fun v hv => Or.inr rfl⟩
          | none =>
            rw [hg] at hn
            obtain ⟨q1, q2, q3⟩ := wf_go (B := B') hn hA (by omega) hR hc
            exact ⟨q2, fun v hv => Or.inl ⟨q1, q3 v hv⟩⟩
      exact (bn_exec (rt := fun _ => true) (tb := tb) hp (pvH_6 _) (tR_X σ) hY hd hq.2.2 n 0 0 L0 [] (lj_loc nL as) [] σ o hq.2.1 (hL nL (Nat.le_of_ble_eq_true (lj_may_w hw))) dL_nil (Or.inl ⟨rfl, fun _ _ _ => ⟨rfl, rfl⟩⟩) h).1
set_option maxRecDepth 100000 in
theorem u155 {D : Nat} (hW : uW D) {n : Nat} {k : Int32} {v : Int64} {a l : Int32} {σ : lj_S} {o : lj_O} {B : Nat} (hB : ∀ p d m, sane σ p d m → uX d m + 900 ≤ B) (hB9 : 20 ≤ B) (h : lj_run lc_P (D + 1) n 155 [.ref 8, .int k, .long v, .int a, .int l] σ = some o) : lj_run lc_P B n 155 [.ref 8, .int k, .long v, .int a, .int l] σ = some o := by
  obtain ⟨B', rfl⟩ : ∃ B', B = B' + 1 := ⟨B - 1, by omega⟩
  have hP : lc_P.2.2.2 155 = some (13, lc_M155) := rfl
  rw [lc_run_eq hP] at h ⊢
  cases hw : lj_may lc_P 155 [.ref 8, .int k, .long v, .int a, .int l] 13 σ with
  | false => rw [hw] at h; cases h
  | true =>
    rw [hw] at h
    have h : lj_exec lc_P.1 lc_P.2.1 (lj_run lc_P D n) lc_M155 n 0 [.ref 8, .int k, .long v, .retAddr 0, .int a, .int l, .retAddr 0, .retAddr 0, .retAddr 0, .retAddr 0, .retAddr 0, .retAddr 0, .retAddr 0] [] σ = some o := h
    show lj_exec lc_P.1 lc_P.2.1 (lj_run lc_P B' n) lc_M155 n 0 [.ref 8, .int k, .long v, .retAddr 0, .int a, .int l, .retAddr 0, .retAddr 0, .retAddr 0, .retAddr 0, .retAddr 0, .retAddr 0, .retAddr 0] [] σ = some o
    obtain ⟨p, d, m, hs⟩ := g0_of (may_g hw)
    have hB := hB p d m hs
    have ret : ∀ (j : Nat) (x6 : Int32) (x7 : Int64) (x9 : Int32) (x10 x11 : Value) (τ : lj_S), lj_exec lc_P.1 lc_P.2.1 (lj_run lc_P D n) lc_M155 j 164 [.ref 8, .int k, .long v, .retAddr 0, .int a, .int l, .int x6, .long x7, .retAddr 0, .int x9, x10, x11, .retAddr 0] [] τ = some o → lj_exec lc_P.1 lc_P.2.1 (lj_run lc_P B' n) lc_M155 j 164 [.ref 8, .int k, .long v, .retAddr 0, .int a, .int l, .int x6, .long x7, .retAddr 0, .int x9, x10, x11, .retAddr 0] [] τ = some o ∧ tt o := by
      intro j x6 x7 x9 x10 x11 τ h
      cases j with
      | zero => cases h
      | succ j =>
        rw [xq, kg_155_164] at h ⊢
        exact ⟨h, trivial⟩
    have key : ∀ (j : Nat) (x6 : Int32) (x7 : Int64) (x9 : Int32) (x10 x11 : Value) (τ : lj_S), zS σ τ → lj_exec lc_P.1 lc_P.2.1 (lj_run lc_P D n) lc_M155 j 9 [.ref 8, .int k, .long v, .retAddr 0, .int a, .int l, .int x6, .long x7, .retAddr 0, .int x9, x10, x11, .retAddr 0] [] τ = some o →
        lj_exec lc_P.1 lc_P.2.1 (lj_run lc_P B' n) lc_M155 j 9 [.ref 8, .int k, .long v, .retAddr 0, .int a, .int l, .int x6, .long x7, .retAddr 0, .int x9, x10, x11, .retAddr 0] [] τ = some o ∧ tt o := by
      intro j
      induction j with
      | zero => intro x6 x7 x9 x10 x11 τ hz h; cases h
      | succ j ih =>
        intro x6 x7 x9 x10 x11 τ hz h
        rw [xq, kg_155_9] at h ⊢
        refine ifs h (fun e5 h => ?_) fun n5 h => ?_
        · refine ifs h (fun _ h => ?_) fun _ h => ?_
          · refine ifn h fun _ h => ?_
            exact bvs h (fun q hq => rk8_run (r := 8) rfl (by decide) (by omega) q hq) ttQ fun σ1 e1 h => ret _ _ _ _ _ _ _ h
          · refine bvs h (fun q hq => hW n 159 _ 1 19 (fun _ => a) _ τ q p d m B' rfl rfl (dL.c (fun q e => by cases e; rfl) (dL.c (fun q e => by cases e; exact ⟨_, rfl⟩) (dL.c (fun q e => by cases e; rfl) (dL.c (fun q e => by cases e; exact ⟨_, rfl⟩) dL_nil)))) (hs.cg hz) (by show uX d m + 899 ≤ B'; omega) hq) ttQ fun σ1 e1 h => ret _ _ _ _ _ _ _ h
        · refine ifn h fun _ h => ?_
          refine bis h (fun q hq => wf_deep wM_rk (id := 118) rfl (by omega) hq) ttQ fun y4 σ3 e3 h => ?_
          have z3 := (wz (id := 118) (r := 8) rfl ⟨_, rfl⟩ e3 rfl).1
          refine ifs h (fun _ h => ?_) fun ny h => ?_
          · exact brs h (fun q hq => wf_deep wM_rk (id := 156) rfl (by omega) hq) ttQ
          · refine ifs h (fun _ h => ?_) fun _ h => ?_
            · exact brs h (fun q hq => wf_deep wM_rk (id := 133) rfl (by omega) hq) ttQ
            · refine bvs h (fun q hq => rk8_run (r := 1) rfl (by decide) (by omega) q hq) ttQ fun σ5 e5 h => ?_
              exact ih _ _ _ _ _ _ ((hz.tr z3).tr (p158 e5 rfl).1) h
    cases n with
    | zero => cases h
    | succ n =>
      rw [xq, kg_155_0] at h ⊢
      exact (key _ _ _ _ _ _ _ zS.rf h).1
set_option maxRecDepth 100000 in
theorem u159 {D : Nat} (h5 : ∀ (n : Nat) (k : Int32) (v : Int64) (a l : Int32) (σ : lj_S) (o : lj_O) (B : Nat), (∀ p d m, sane σ p d m → uX d m + 900 ≤ B) → 20 ≤ B → lj_run lc_P D n 155 [.ref 8, .int k, .long v, .int a, .int l] σ = some o → lj_run lc_P B n 155 [.ref 8, .int k, .long v, .int a, .int l] σ = some o) {n : Nat} {a l : Int32} {σ : lj_S} {o : lj_O} {p d m B : Nat} (hs : sane σ p d m) (hB : uX d m + 899 ≤ B) (h : lj_run lc_P (D + 1) n 159 [.ref 8, .int 14, .int a, .int l] σ = some o) : lj_run lc_P B n 159 [.ref 8, .int 14, .int a, .int l] σ = some o := by
  obtain ⟨B', rfl⟩ : ∃ B', B = B' + 1 := ⟨B - 1, by omega⟩
  have hP : lc_P.2.2.2 159 = some (7, lc_M159) := rfl
  rw [lc_run_eq hP] at h ⊢
  have h : lj_exec lc_P.1 lc_P.2.1 (lj_run lc_P D n) lc_M159 n 0 [.ref 8, .int 14, .int a, .int l, .retAddr 0, .retAddr 0, .retAddr 0] [] σ = some o := h
  show lj_exec lc_P.1 lc_P.2.1 (lj_run lc_P B' n) lc_M159 n 0 [.ref 8, .int 14, .int a, .int l, .retAddr 0, .retAddr 0, .retAddr 0] [] σ = some o
  cases n with
  | zero => cases h
  | succ n =>
    rw [xq, kg_159_14x] at h ⊢
    refine (bis (Q := tt) h (fun q hq => wf_deep wM_rk (id := 163) rfl (by omega) hq) ttQ fun y σ1 e1 h => ?_).1
    have z1 := (wz (id := 163) (r := 9) rfl ⟨_, rfl⟩ e1 rfl).1
    refine bls h (fun q hq => wf_deep wM_rk (id := 165) rfl (by omega) hq) ttQ fun u σ2 e2 h => ?_
    have z2 := z1.tr (wz (id := 165) (r := 9) rfl ⟨_, rfl⟩ e2 rfl).1
    refine bvs h (fun q hq => rk8_run (r := 1) rfl (by decide) (by omega) q hq) ttQ fun σ3 e3 h => ?_
    have z3 := z2.tr (wzC (id := 173) (r := 9) rfl ⟨_, rfl⟩ e3 rfl)
    refine bvs h (fun q hq => rk8_run (r := 7) rfl (by decide) (by omega) q hq) ttQ fun σ4 e4 h => ?_
    have hs3 := hs.cg z3
    obtain ⟨q1, q2, q3, q4, q5, q6, -⟩ := p132 e4 rfl hs3.2.2.2.1 hs3.1 hs3.2.2.2.2.1 hs3.2.1
    refine bvs h (fun q hq => h5 _ _ _ _ _ _ q B' (fun p' d' m' s => ?_) (by omega) hq) ttQ fun σ5 e5 h => ?_
    · obtain ⟨y1, y2, y3, y4, y5, y6, -⟩ := s
      have e1 : p' = p := (nq_eq (by omega) (by have := hs.1; omega)).1 (y4.symm.trans ((q6 8 7 rfl (by omega) (by omega) (by omega)).trans hs3.2.2.2.1))
      subst e1
      have e2 : d' = d + 1 := (nq_eq (by omega) (by omega)).1 (y5.symm.trans q2)
      have e3 : m' = m := (nq_eq (by omega) (by have := hs.2.2.1; omega)).1 (y6.symm.trans ((q6 8 18 rfl (by omega) (by omega) (by omega)).trans hs3.2.2.2.2.2.1))
      subst e2 e3
      have := hs.2.2.1
      unfold uX at hB ⊢
      omega
    · cases n with
      | zero => cases h
      | succ n =>
        rw [xq, kg_159_901] at h ⊢
        exact ⟨h, trivial⟩
set_option maxRecDepth 100000 in
theorem u26 {D : Nat} (h6 : ∀ (n : Nat) (as : List Value) (σ : lj_S) (o : lj_O) (ρ : Int → Int32), as.length = 5 → dL (pvH ρ) [some (0, 8), some (4, 0), some (4, 0), some (5, 0), some (1, 0)] as → ∀ B, 681 ≤ B → lj_run lc_P D n 164 as σ = some o → lj_run lc_P B n 164 as σ = some o) {n : Nat} {a l : Int32} {σ : lj_S} {o : lj_O} {B : Nat} (hB : 682 ≤ B) (h : lj_run lc_P (D + 1) n 187 [.ref 8, .int 26, .int a, .int l] σ = some o) : lj_run lc_P B n 187 [.ref 8, .int 26, .int a, .int l] σ = some o := by
  obtain ⟨B', rfl⟩ : ∃ B', B = B' + 1 := ⟨B - 1, by omega⟩
  have hP : lc_P.2.2.2 187 = some (10, lc_M187) := rfl
  rw [lc_run_eq hP] at h ⊢
  cases hw : lj_may lc_P 187 [.ref 8, .int 26, .int a, .int l] 10 σ with
  | false => rw [hw] at h; cases h
  | true =>
    rw [hw] at h
    simp only [cond_true] at h ⊢
    have hp := pvH_P (fun _ => a)
    have hc := x26_ok
    rw [Bool.and_eq_true] at hc
    have hX : eX (pvH (fun _ => a)) (fun _ _ => True) (fun _ _ _ => none) (fun f _ _ _ => some f) (fun _ _ _ => none) (fun f _ _ _ => some f) := ⟨fun f k j q σ h => (by cases h), fun _ _ _ _ _ _ _ _ => ⟨fun _ _ => trivial, fun _ _ => trivial⟩, fun f k a q σ i h => (by cases h), fun _ _ _ _ _ _ _ _ _ _ => ⟨fun _ _ => ⟨trivial, trivial, trivial⟩, fun _ _ => trivial⟩⟩
    have hY : dY (pvH (fun _ => a)) (fun _ _ => True) nx26 (lj_run lc_P D n) (lj_run lc_P B' n) := by
      intro f id' A f' as' σ' o' hn hl hA _ hc
      refine ⟨?_, fun _ _ => trivial⟩
      unfold nx26 at hn
      cases h164 : Nat.beq id' 164 with
      | true =>
        rw [h164] at hn
        simp only [cond_true] at hn
        cases hb : (Nat.beq A.length 5 && dle [some (0, 8), some (4, 0), some (4, 0), some (5, 0), some (1, 0)] A) with
        | false => rw [hb] at hn; cases hn
        | true =>
          rw [Bool.and_eq_true] at hb
          have e := Nat.eq_of_beq_eq_true h164
          subst e
          exact h6 n as' σ' o' (fun _ => a) (hl.trans (Nat.eq_of_beq_eq_true hb.1)) (dle_ok hp.h4 _ _ _ hb.2 hA) B' (by omega) hc
      | false =>
        rw [h164] at hn
        simp only [cond_false] at hn
        split at hn
        · rename_i r e
          cases hb : Nat.ble r 8 with
          | false => rw [hb] at hn; cases hn
          | true =>
            have := Nat.le_of_ble_eq_true hb
            exact rk8_run e this (by omega) _ hc
        · cases hn
    have hL : dL (pvl (pvH (fun _ => a))) [some (0, 8), some (3, 26), some (1, 0), some (4, 0)] (lj_loc 10 [.ref 8, .int 26, .int a, .int l]) := dl2_ok [some (0, 8), some (3, 26), some (1, 0), some (4, 0)] _ 10 rfl rfl (dL.c (fun q e => by cases e; rfl) (dL.c (fun q e => by cases e; rfl) (dL.c (fun q e => by cases e; rfl) (dL.c (fun q e => by cases e; exact ⟨_, rfl⟩) dL_nil)))) (by show (4 : Nat) ≤ 10; decide)
    exact (bn_exec (rt := fun _ => true) (tb := tb26) hp (pvH_6 _) hX hY rfl hc.2 n 0 0 _ [] _ [] σ o hc.1 hL dL_nil trivial h).1
