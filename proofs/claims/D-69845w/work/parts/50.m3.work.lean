/-! DEPTH OF CALLS: the machine while a gathering is at work (frame 20 p + e); above it lie calls of pcall and gatherings at work -/
def pvH (ρ : Int → Int32) (q : Nat × Int) (v : Value) : Prop := match q.1 with
  | 0 => v = .ref q.2.toNat
  | 1 => v = .int (ρ q.2)
  | 3 => v = .int (Int32.ofInt q.2)
  | 4 => ∃ x, v = .int x
  | 5 => ∃ x, v = .long x
  | 6 => ∃ x, v = .int x ∧ x ≠ Int32.ofInt q.2
  | _ => False
theorem pvH_P (ρ : Int → Int32) : dP (pvH ρ) := by
  refine ⟨fun z v => Iff.rfl, ?_, fun z x => ⟨x, rfl⟩, fun z v => Iff.rfl, ?_, fun z v => Iff.rfl⟩
  · rintro ⟨a, z⟩ v h0 h5 h
    unfold pvH at h
    split at h
    · rename_i e; exact absurd e h0
    · exact ⟨_, h⟩
    · exact ⟨_, h⟩
    · exact h
    · rename_i e; exact absurd e h5
    · obtain ⟨x, h, -⟩ := h; exact ⟨x, h⟩
    · exact h.elim
  · intro a b x h
    exact h.elim
theorem pvH_6 (ρ : Int → Int32) : p6 (pvH ρ) := by
  intro z x h
  obtain ⟨y, h1, h2⟩ : ∃ y, Value.int x = .int y ∧ y ≠ Int32.ofInt z := h
  cases h1
  exact h2
def wa (σ : lj_S) (g : Nat) : Int32 := if σ.1 91 g = 1 then 6 else 7
def wK (σ : lj_S) (p e d : Nat) : Prop := σ.1 8 7 = Int32.ofNat p ∧ p < 26 ∧ e < d ∧ d ≤ 20 ∧ σ.1 91 (20 * p + e) = 2 ∧ σ.1 102 (20 * p + e) ≠ 0 ∧
  ∀ i, e < i → i < d → (σ.1 91 (20 * p + i) = 1 ∨ (σ.1 91 (20 * p + i) = 2 ∧ σ.1 102 (20 * p + i) ≠ 0)) ∧ σ.1 98 (20 * p + i) = wa σ (20 * p + (i - 1))
def wI (σ : lj_S) (p e d : Nat) : Prop := wK σ p e d ∧ σ.1 90 p = Int32.ofNat d ∧ σ.1 8 34 = Int32.ofNat (20 * p + (d - 1))
/-- a gathering that is not at work has come -/
def wN (σ : lj_S) (p e d : Nat) : Prop := wK σ p e d ∧ d < 20 ∧ σ.1 90 p = Int32.ofNat (d + 1) ∧ σ.1 8 34 = Int32.ofNat (20 * p + d) ∧ σ.1 91 (20 * p + d) = 2 ∧ σ.1 98 (20 * p + d) = wa σ (20 * p + (d - 1))
theorem wa_cg {σ σ' : lj_S} {g : Nat} (h : σ'.1 91 g = σ.1 91 g) : wa σ' g = wa σ g := by unfold wa; rw [h]
theorem wK.cg {σ σ' : lj_S} {p e d : Nat} (h : wK σ p e d) (f : ∀ k i, (k = 8 ∧ i = 7) ∨ ((k = 91 ∨ k = 98 ∨ k = 102) ∧ 20 * p + e ≤ i ∧ i < 20 * p + d) → σ'.1 k i = σ.1 k i) : wK σ' p e d := by
  obtain ⟨h1, h2, h3, h4, h5, h6, h7⟩ := h
  refine ⟨by rw [f 8 7 (Or.inl ⟨rfl, rfl⟩)]; exact h1, h2, h3, h4, by rw [f 91 _ (by omega)]; exact h5, by rw [f 102 _ (by omega)]; exact h6, fun i hi hd => ?_⟩
  obtain ⟨a, b⟩ := h7 i hi hd
  rw [f 91 _ (by omega), f 102 _ (by omega), f 98 _ (by omega), wa_cg (f 91 _ (by omega))]
  exact ⟨a, b⟩
theorem wI.cg {σ σ' : lj_S} {p e d : Nat} (h : wI σ p e d) (f : zS σ σ') : wI σ' p e d :=
  ⟨h.1.cg (fun k i q => f k i ((zpC_iff k i).2 (by omega))), by rw [f 90 p rfl]; exact h.2.1, by rw [f 8 34 rfl]; exact h.2.2⟩
theorem wN.cg {σ σ' : lj_S} {p e d : Nat} (h : wN σ p e d) (f : zS σ σ') : wN σ' p e d := by
  obtain ⟨h1, h2, h3, h4, h5, h6⟩ := h
  exact ⟨h1.cg (fun k i q => f k i ((zpC_iff k i).2 (by omega))), h2, by rw [f 90 p rfl]; exact h3, by rw [f 8 34 rfl]; exact h4, by rw [f 91 _ rfl]; exact h5, by rw [f 98 _ rfl, wa_cg (f 91 _ rfl)]; exact h6⟩
def aW (p e k i : Nat) : Prop := (k = 8 ∧ i = 34) ∨ (k = 90 ∧ i = p) ∨ ((k = 91 ∨ k = 98 ∨ k = 102 ∨ k = 103) ∧ 20 * p + e < i ∧ i < 20 * p + 20) ∨ (k = 103 ∧ i = 20 * p + e)
/-- what a call leaves behind: nothing below the frame at work; where something came to it, it is uppermost again -/
def pW (p e : Nat) (σ σ' : lj_S) : Prop := (∀ k i, zpC k i = true → ¬ aW p e k i → σ'.1 k i = σ.1 k i) ∧ (σ'.1 103 (20 * p + e) ≠ 0 → σ.1 103 (20 * p + e) ≠ 0 ∨ (σ'.1 90 p = Int32.ofNat (e + 1) ∧ σ'.1 8 34 = Int32.ofNat (20 * p + e)))
theorem pW.of {p e : Nat} {σ σ' : lj_S} (h : zS σ σ') : pW p e σ σ' := ⟨fun k i q _ => h k i q, fun q => Or.inl (by rw [← h 103 _ rfl]; exact q)⟩
theorem pW.pre {p e : Nat} {σ σ1 σ2 : lj_S} (h : ∀ k i, zpC k i = true → ¬ aW p e k i → σ1.1 k i = σ.1 k i) (hc : σ1.1 103 (20 * p + e) = σ.1 103 (20 * p + e)) (g : pW p e σ1 σ2) : pW p e σ σ2 :=
  ⟨fun k i q a => (g.1 k i q a).trans (h k i q a), fun q => by
    rcases g.2 q with z | z
    · exact Or.inl (by rw [← hc]; exact z)
    · exact Or.inr z⟩
theorem pW.pz {p e : Nat} {σ σ1 σ2 : lj_S} (h : zS σ σ1) (g : pW p e σ1 σ2) : pW p e σ σ2 := g.pre (fun k i q _ => h k i q) (h 103 _ rfl)
theorem pW.up {p e d : Nat} {σ σ' : lj_S} (h : pW p d σ σ') (he : e < d) (hd : d < 20) : (∀ k i, zpC k i = true → ¬ aW p e k i → σ'.1 k i = σ.1 k i) ∧ σ'.1 103 (20 * p + e) = σ.1 103 (20 * p + e) :=
  ⟨fun k i q a => h.1 k i q (fun z => a (by unfold aW at z ⊢; omega)), h.1 103 _ rfl (by unfold aW; omega)⟩
/-- if it returns -/
def qW (p e : Nat) (σ : lj_S) (o : lj_O) : Prop := ∀ v, o.1 = .inl v → pW p e σ o.2
theorem inrQ {p e : Nat} {σ : lj_S} (x : Nat) (τ : lj_S) : qW p e σ (.inr x, τ) := fun _ h => by cases h
/-- patterns of what is given to the methods: who is called, its class and its place among the bounds -/
def mWp : List (Nat × List dv × Nat × Nat) := [(144, [some (0, 8), some (1, 0)], 0, 0), (164, [some (0, 8), some (4, 0), some (4, 0), some (5, 0), some (1, 0)], 0, 1), (166, [some (0, 8), some (1, 0)], 0, 2), (170, [some (0, 8), some (4, 0), some (4, 0), some (1, 0)], 0, 2), (172, [some (0, 8), some (4, 0), some (1, 0)], 0, 2), (174, [some (0, 8), some (4, 0), some (1, 0)], 0, 2), (188, [some (0, 8), some (4, 0), some (4, 0), some (1, 0)], 0, 2), (189, [some (0, 8), some (4, 0), some (4, 0), some (1, 0)], 0, 2), (190, [some (0, 8), some (4, 0), some (4, 0), some (1, 0)], 0, 2), (193, [some (0, 8), some (1, 0)], 0, 2), (194, [some (0, 8), some (4, 0), some (1, 0)], 0, 2), (195, [some (0, 8), some (4, 0), some (1, 0)], 0, 2), (196, [some (0, 8), some (4, 0), some (1, 0)], 0, 2), (197, [some (0, 8), some (4, 0), some (1, 0)], 0, 2), (187, [some (0, 8), some (4, 0), some (1, 0), some (4, 0)], 0, 3), (175, [some (0, 8), some (4, 0), some (1, 0)], 1, 18), (159, [some (0, 8), some (4, 0), some (1, 0), some (4, 0)], 1, 19), (155, [some (0, 8), some (4, 0), some (5, 0), some (1, 0), some (4, 0)], 1, 20)]
def wBd (c off d e : Nat) : Nat := bif Nat.beq c 0 then 2 * (d - 1 - e) + 10 + off else 4 * (20 - d) + 2 * (d - 1 - e) + 40 + off
/-- what else is asked of the first value given -/
def wX (id : Nat) (as : List Value) (σ : lj_S) : Prop := (id = 159 ∨ id = 187 ∨ id = 196 → σ.1 105 0 = 4) ∧ (id = 155 → ∀ k, lj_nth as 1 = some (.int k) → k = 5 → σ.1 105 0 = 4)
def sW (D : Nat) : Prop := ∀ (n id : Nat) (pat : List dv) (c off : Nat) (as : List Value) (σ : lj_S) (o : lj_O) (p e d B : Nat), lj_find mWp id = some (pat, c, off) → as.length = pat.length → dL (pvH (fun _ => wa σ (20 * p + (d - 1)))) pat as → wI σ p e d → wX id as σ → wBd c off d e ≤ B → lj_run lc_P D n id as σ = some o →
  lj_run lc_P B n id as σ = some o ∧ qW p e σ o
def sEp (D : Nat) : Prop := ∀ (n : Nat) (x : Int32) (σ : lj_S) (o : lj_O) (p e d B : Nat), wI σ p e d → σ.1 91 (20 * p + (d - 1)) = 1 → 2 * (d - 1 - e) + 9 ≤ B → lj_run lc_P D n 148 [.ref 8, .int x] σ = some o →
  lj_run lc_P B n 148 [.ref 8, .int x] σ = some o ∧ qW p e σ o
def s1 (D : Nat) : Prop := ∀ (n : Nat) (σ : lj_S) (o : lj_O) (p e d B : Nat), wI σ p e d → σ.1 91 (20 * p + (d - 1)) ≠ 1 → 9 ≤ B → lj_run lc_P D n 153 [.ref 8] σ = some o →
  lj_run lc_P B n 153 [.ref 8] σ = some o ∧ qW p e σ o
def s2 (D : Nat) : Prop := ∀ (n : Nat) (σ : lj_S) (o : lj_O) (p e d B : Nat), wN σ p e d → σ.1 102 (20 * p + d) = 0 → wBd 1 17 d e ≤ B → lj_run lc_P D n 153 [.ref 8] σ = some o →
  lj_run lc_P B n 153 [.ref 8] σ = some o ∧ qW p e σ o
theorem wtop {σ : lj_S} {p e d : Nat} (h : wI σ p e d) (h1 : σ.1 91 (20 * p + (d - 1)) ≠ 1) : σ.1 91 (20 * p + (d - 1)) = 2 ∧ σ.1 102 (20 * p + (d - 1)) ≠ 0 := by
  obtain ⟨⟨a1, a2, a3, a4, a5, a6, a7⟩, -, -⟩ := h
  by_cases z : d - 1 = e
  · rw [z]; exact ⟨a5, a6⟩
  · rcases (a7 (d - 1) (by omega) (by omega)).1 with y | y
    · exact absurd y h1
    · exact y
theorem rk8_run {D n id r : Nat} {as : List Value} {σ : lj_S} (hr : lj_find lc_rk id = some r) (h8 : r ≤ 8) {B : Nat} (hB : 8 ≤ B) (q : lj_O) (h : lj_run lc_P D n id as σ = some q) : lj_run lc_P B n id as σ = some q := rk_run lc_rk_ok D n r id as σ q B hr (by omega) h
set_option maxRecDepth 100000 in
theorem s1_step (D : Nat) : s1 (D + 1) := by
  intro n σ o p e d B hI h1 hB h
  obtain ⟨B', rfl⟩ : ∃ B', B = B' + 1 := ⟨B - 1, by omega⟩
  have hP : lc_P.2.2.2 153 = some (8, lc_M153) := rfl
  rw [lc_run_eq hP] at h ⊢
  cases hw : lj_may lc_P 153 [.ref 8] 8 σ with
  | false => rw [hw] at h; cases h
  | true =>
    rw [hw] at h
    have h : lj_exec lc_P.1 lc_P.2.1 (lj_run lc_P D n) lc_M153 n 0 [.ref 8, .retAddr 0, .retAddr 0, .retAddr 0, .retAddr 0, .retAddr 0, .retAddr 0, .retAddr 0] [] σ = some o := h
    show lj_exec lc_P.1 lc_P.2.1 (lj_run lc_P B' n) lc_M153 n 0 [.ref 8, .retAddr 0, .retAddr 0, .retAddr 0, .retAddr 0, .retAddr 0, .retAddr 0, .retAddr 0] [] σ = some o ∧ qW p e σ o
    cases n with
    | zero => cases h
    | succ n =>
      obtain ⟨t1, t2⟩ := wtop hI h1
      obtain ⟨⟨a1, a2, a3, a4, a5, a6, a7⟩, a8, a9⟩ := hI
      have i34 : lj_in (σ.1 8 34) 520 := by rw [a9]; exact nq_in (by omega) (by decide)
      have n34 : (σ.1 8 34).toNatClampNeg = 20 * p + (d - 1) := by rw [a9]; exact lz_onat (by omega)
      rw [xq, kg_153_0, if_pos i34, if_neg (by rw [n34]; exact t2), if_pos i34, n34] at h
      rw [xq, kg_153_0, if_pos i34, if_neg (by rw [n34]; exact t2), if_pos i34, n34]
      refine ⟨h, fun v hv => ?_⟩
      cases h
      refine ⟨fun k i q a => ?_, fun q => ?_⟩
      · show (lj_put σ 103 _ _).1 k i = _
        rw [lj_put_1, if_neg (fun z => a (by unfold aW; omega))]
      · by_cases z : d - 1 = e
        · refine Or.inr ⟨?_, ?_⟩
          · show (lj_put σ 103 _ _).1 90 p = _
            rw [lj_put_1, if_neg (by omega), a8, show d = e + 1 by omega]
          · show (lj_put σ 103 _ _).1 8 34 = _
            rw [lj_put_1, if_neg (by omega), a9, z]
        · left
          have q : (lj_put σ 103 (20 * p + (d - 1)) (vp_nar .boolean 1)).1 103 (20 * p + e) ≠ 0 := q
          rw [lj_put_1, if_neg (by omega)] at q
          exact q
theorem sEp_step {D : Nat} (hW : sW D) : sEp (D + 1) := by
  intro n x σ o p e d B hI h1 hB h
  obtain ⟨B', rfl⟩ : ∃ B', B = B' + 1 := ⟨B - 1, by omega⟩
  have hP : lc_P.2.2.2 148 = some (3, lc_M148) := rfl
  rw [lc_run_eq hP] at h ⊢
  cases hw : lj_may lc_P 148 [.ref 8, .int x] 3 σ with
  | false => rw [hw] at h; cases h
  | true =>
    rw [hw] at h
    have h : lj_exec lc_P.1 lc_P.2.1 (lj_run lc_P D n) lc_M148 n 0 [.ref 8, .int x, .retAddr 0] [] σ = some o := h
    show lj_exec lc_P.1 lc_P.2.1 (lj_run lc_P B' n) lc_M148 n 0 [.ref 8, .int x, .retAddr 0] [] σ = some o ∧ qW p e σ o
    cases n with
    | zero => cases h
    | succ n =>
      have hI0 := hI
      obtain ⟨⟨a1, a2, a3, a4, a5, a6, a7⟩, a8, a9⟩ := hI
      have de : e < d - 1 := by
        have : d - 1 ≠ e := fun z => by rw [z, a5] at h1; exact absurd h1 (by decide)
        omega
      have n34 : (σ.1 8 34).toNatClampNeg = 20 * p + (d - 1) := by rw [a9]; exact lz_onat (by omega)
      rw [xq, kg_148_0] at h ⊢
      refine ifn h fun _ h => ?_
      refine bvs h (fun q hq => rk8_run (r := 3) rfl (by decide) (by omega) q hq) inrQ fun σ1 e1 h => ?_
      obtain ⟨d', rfl⟩ : ∃ d', d = d' + 2 := ⟨d - 2, by omega⟩
      obtain ⟨g1, g2, g3⟩ := p149 (d := d' + 1) e1 rfl a1 a2 a8 (by omega)
      have hI1 : wI σ1 p e (d' + 1) := by
        refine ⟨⟨by rw [g3 8 7 rfl (by omega) (by omega)]; exact a1, a2, by omega, by omega, by rw [g3 91 _ rfl (by omega) (by omega)]; exact a5, by rw [g3 102 _ rfl (by omega) (by omega)]; exact a6, fun i hi hd => ?_⟩, g1, ?_⟩
        · have := a7 i hi (by omega)
          rw [g3 91 _ rfl (by omega) (by omega), g3 102 _ rfl (by omega) (by omega), g3 98 _ rfl (by omega) (by omega), wa_cg (g3 91 _ rfl (by omega) (by omega))]
          exact this
        · rw [g2]; unfold nf; rw [if_neg (by omega)]
      refine bvs h (fun q hq => wf_deep wM_rk (id := 152) rfl (by omega) hq) inrQ fun σ2 e2 h => ?_
      have z2 := (wz (id := 152) (r := 9) rfl ⟨_, rfl⟩ e2 rfl).1
      have ha : σ.1 98 (σ.1 8 34).toNatClampNeg = wa σ2 (20 * p + (d' + 1 - 1)) := by
        rw [n34, (a7 (d' + 2 - 1) (by omega) (by omega)).2, wa_cg (z2 91 _ rfl), wa_cg (g3 91 _ rfl (by omega) (by omega))]
        rfl
      rw [ha] at h ⊢
      have key := fun q (hq : lj_run lc_P D (n + 1) 144 [.ref 8, .int (wa σ2 (20 * p + (d' + 1 - 1)))] σ2 = some q) => hW (n + 1) 144 _ 0 0 _ σ2 q p e (d' + 1) B' rfl rfl (dL.c (fun q e => by cases e; rfl) (dL.c (fun q e => by cases e; rfl) dL_nil)) (hI1.cg z2) ⟨fun q => by omega, fun q => by omega⟩ (by show 2 * (d' + 1 - 1 - e) + 10 + 0 ≤ B'; omega) hq
      refine bvs h (fun q hq => (key q hq).1) inrQ fun σ3 e3 h => ?_
      refine ⟨h, fun v hv => ?_⟩
      cases h
      refine ((key _ e3).2 none rfl).pre (fun k i q a => ?_) ?_
      · rw [z2 k i q]
        exact g3 k i q (fun z => a (Or.inl z)) (fun z => a (Or.inr (Or.inl z)))
      · rw [z2 103 _ rfl]
        exact g3 103 _ rfl (by omega) (by omega)
