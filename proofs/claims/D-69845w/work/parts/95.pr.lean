/-! what the two parsers have in common -/
/-- a name of both, or one that no text has -/
def nmQ (σ τ : lj_S) (a a' : Nat) : Prop := (a < 2600 ∧ sE σ τ a a') ∨ (a = 4294967294 ∧ (a' : Int) < lv τ 0 14 ∧ ∀ s : Nat, (s : Int) < lv σ 3 7 → cS σ s ≠ mS τ a')
theorem sE_iff {σ τ : lj_S} {X : List Int32 → Prop} (h : sR σ τ X) {a a' e e' : Nat} (h1 : sE σ τ a a') (ha : a < 2600) (h2 : nmQ σ τ e e') : e = a ↔ e' = a' := by
  rcases h2 with ⟨_, h2⟩ | ⟨q1, q2, q3⟩
  · constructor
    · intro z
      subst z
      exact h.2.1.2.2.2.2.1 e' a' h2.2.1 h1.2.1 (h2.2.2.symm.trans h1.2.2)
    · intro z
      subst z
      exact h.1.2.2.2.2.1 e a h2.1 h1.1 (h2.2.2.trans h1.2.2.symm)
  · constructor
    · intro z; omega
    · intro z
      subst z
      exact absurd h1.2.2 (q3 a h1.1)
/-- the functions that are being read, in both -/
def NR (σ τ : lj_S) (N : List lT) : Prop := nmC σ N ∧ nmM τ N ∧ ckN N ∧ (N.map (·.1)).Nodup ∧ N ≠ [] ∧ N.length ≤ 22 ∧ σ.1 6 2 = parN N ∧ τ.1 0 53 = Int32.ofNat (N.length - 1) ∧ τ.1 0 50 = Int32.ofNat (baseN N) ∧ ∀ z ∈ N, ∀ e ∈ z.2.1, nmQ σ τ e.1 e.2.1
theorem baseN_le {σ : lj_S} : ∀ {N : List lT}, nmC σ N → baseN N ≤ 50 * N.length
  | [], _ => by simp [baseN]
  | z :: R, h => by
    have := baseN_le h.2
    have := h.1.2.2.2.1
    show z.2.1.length + baseN R ≤ 50 * (R.length + 1)
    omega
/-- places that a name changes -/
def nmcC (k j : Nat) : Bool := capC k j || (k == 6 && (j == 0 || j == 16 || j == 17))
def nmcM (k j : Nat) : Bool := capM k j || (k == 0 && (j == 61 || j == 62 || j == 63))
def nmcM5 (k j : Nat) : Bool := nmcM k j || (k == 0 && (j == 4 || j == 5))
/-- what a name is: sort, number in both -/
def chN (N : List lT) (a a' : Nat) (what srt : Int32) (v v' : Nat) : Prop :=
  (what = 3 ∧ srt = 0 ∧ v = v' ∧ ∃ z R, N = z :: R ∧ knF z.2.1 a = some v) ∨ (what = 4 ∧ srt = 1 ∧ v = v' ∧ ∃ z R, N = z :: R ∧ v < z.2.2.length) ∨ (what = 5 ∧ srt = 2 ∧ v = a ∧ v' = a')
theorem capS_len (a a' : Nat) (z : lT) (R : List lT) (hk : knF z.2.1 a = none) (lo y : Nat) (N' : List lT) (h : capS a a' (z :: R) = some (some (lo, y, N'))) : ∃ z' R', N' = z' :: R' ∧ y < z'.2.2.length := by
  simp only [capS, hk] at h
  cases hc : cpI z.2.2 a 0 with
  | some i =>
    rw [hc] at h
    have := Option.some.inj (Option.some.inj h)
    have hi := (cpI_b _ _ _ _ hc).2.1
    exact ⟨z, R, (Prod.mk.inj (Prod.mk.inj this).2).2.symm, by rw [← (Prod.mk.inj (Prod.mk.inj this).2).1]; omega⟩
  | none =>
    rw [hc] at h
    simp only [] at h
    cases hs : capS a a' R with
    | none => rw [hs] at h; cases h
    | some o =>
      rw [hs] at h
      cases o with
      | none => simp at h
      | some w =>
        obtain ⟨lo1, y1, R1⟩ := w
        simp only [] at h
        by_cases e : z.2.2.length = 30
        · rw [if_pos e] at h; simp at h
        · rw [if_neg e] at h
          have := Option.some.inj (Option.some.inj h)
          exact ⟨_, _, (Prod.mk.inj (Prod.mk.inj this).2).2.symm, by rw [← (Prod.mk.inj (Prod.mk.inj this).2).1]; simp [addX]⟩
theorem lvX_map : ∀ {A B : List lT}, lvX A B → B.map (fun z => (z.1, z.2.1)) = A.map (fun z => (z.1, z.2.1)) ∧ B.length = A.length ∧ baseN B = baseN A ∧ parN B = parN A
  | [], [], _ => ⟨rfl, rfl, rfl, rfl⟩
  | a :: A, b :: B, h => by
    obtain ⟨i1, i2, i3, i4⟩ := lvX_map h.2.2.2
    refine ⟨by simp [i1, h.1, h.2.1], by simp [i2], ?_, ?_⟩
    · show b.2.1.length + baseN B = a.2.1.length + baseN A; rw [i3, h.2.1]
    · show Int32.ofNat b.1 = Int32.ofNat a.1; rw [h.1]
  | [], _ :: _, h => h.elim
  | _ :: _, [], h => h.elim
theorem lvX_q {A B : List lT} (h : lvX A B) : B.map (·.1) = A.map (·.1) := by
  have := congrArg (List.map Prod.fst) (lvX_map h).1
  rw [List.map_map, List.map_map] at this
  exact this
theorem lvX_kn {A B : List lT} (h : lvX A B) : ∀ z ∈ B, ∃ w ∈ A, w.2.1 = z.2.1 := fun z hz => by
  have : (z.1, z.2.1) ∈ A.map (fun z => (z.1, z.2.1)) := by rw [← (lvX_map h).1]; exact List.mem_map.2 ⟨z, hz, rfl⟩
  obtain ⟨w, hw, e⟩ := List.mem_map.1 this
  exact ⟨w, hw, (Prod.mk.inj e).2⟩
/-- a name: both mean the same, or both fail -/
theorem cm_name {b : Nat → Int32} {n T : Nat} {Q : tkQ} {X : List Int32 → Prop} {σ τ : lj_S} (h : TE b n T Q σ τ) {p : Nat} (hp : p ≤ T) (h0 : σ.1 6 0 = Int32.ofNat p) (hk1 : (Q p).1 = 1) (hS : sR σ τ X) {N : List lT} (hN : NR σ τ N) (h4 : τ.1 0 4 = 0) :
    (∃ what srt v v' N' σ' τ', lj_R lc_P 88 [.ref 6] σ = some (.inl (some (.int what)), σ') ∧ lj_R lm_P 51 [.ref 0, .int (Int32.ofNat (Q p).2.2.2), .int (Int32.ofNat (Q p).2.1)] τ = some (.inl none, τ') ∧ chN N' (Q p).2.2.1 (Q p).2.2.2 what srt v v' ∧ v < 2600 ∧ v' < 3000 ∧ σ'.1 6 0 = Int32.ofNat (p + 1) ∧ σ'.1 6 16 = Int32.ofNat v ∧ σ'.1 6 17 = Int32.ofNat (1 + tN b (Q p).2.1) ∧ τ'.1 0 61 = srt ∧ τ'.1 0 62 = Int32.ofNat v' ∧ τ'.1 0 63 = Int32.ofNat (1 + tN b (Q p).2.1) ∧ NR σ' τ' N' ∧ lvX N N' ∧ lf nmcC σ σ' ∧ lf nmcM τ τ' ∧ ouC N σ σ' ∧ ouM N τ τ') ∨
    (∃ σ' τ', lj_R lc_P 88 [.ref 6] σ = some (.inr 1, cFl σ' 3 (Q p).2.1) ∧ lj_R lm_P 51 [.ref 0, .int (Int32.ofNat (Q p).2.2.2), .int (Int32.ofNat (Q p).2.1)] τ = some (.inl none, τ') ∧ τ'.1 0 4 = 3 ∧ τ'.1 0 5 = Int32.ofNat (Q p).2.1 ∧ τ'.1 0 41 = τ.1 0 41 ∧ lf nmcM5 τ τ') := by
  obtain ⟨n1, n2, n3, n4, n5, n6, n7, n8, n9, n10⟩ := hN
  obtain ⟨a1, a2, a3, a4, a5⟩ := (h.2.2.2.2.1 p hp).2.2.2.2.2.2.2.2.1 (Or.inl hk1)
  generalize ha : (Q p).2.2.1 = a at *
  generalize ha' : (Q p).2.2.2 = a' at *
  generalize hpl : (Q p).2.1 = pl at *
  have hpln : pl ≤ n := by rw [← hpl]; exact (h.2.2.2.2.1 p hp).2.2.2.2.1
  obtain ⟨z, R, rfl⟩ : ∃ z R, N = z :: R := by
    cases N with
    | nil => exact absurd rfl n5
    | cons z R => exact ⟨z, R, rfl⟩
  have hb16 := baseN_le n1
  have hE : ∀ w ∈ z :: R, ∀ e ∈ w.2.1, (e.1 = a ↔ e.2.1 = a') := fun w hw e he => sE_iff hS a5 a1 (n10 w hw e he)
  have hz51 := n1.1.1
  -- the component
  have eC : lj_R lc_P 88 [.ref 6] σ = lj_bi (lj_R lc_P 89 [.ref 6, .int (Int32.ofNat z.1), .int (Int32.ofNat a)] (lj_put σ 6 17 (Int32.ofNat (1 + tN b pl)))) (fun y6 σ5 => (if y6 < 0 then lj_bi (lj_R lc_P 90 [.ref 6, .int (σ5.1 6 2), .int (Int32.ofNat a)] σ5) (fun y8 σ7 => lj_D lc_P lc_M88 41 [.ref 6, .int (Int32.ofNat a), .int y6, .retAddr 0] [.int y8, .ref 6] σ7) lj_up else lj_D lc_P lc_M88 41 [.ref 6, .int (Int32.ofNat a), .int y6, .retAddr 0] [.int y6, .ref 6] σ5)) lj_up := by
    rw [rc_88, kc_88_0, c_name h hp h0 (Or.inl hk1), ha]
    unfold lj_bi
    simp only []
    rw [c_line h hp h0, hpl]
    simp only []
    rw [n7]
    rfl
  generalize hσ1 : lj_put σ 6 17 (Int32.ofNat (1 + tN b pl)) = σ1 at eC
  have f1 : lf nmcC σ σ1 := by rw [← hσ1]; exact lf_put (lf_rf _ _) _ _ _ rfl
  have g1 : ∀ k j, k ≠ 6 → σ1.1 k j = σ.1 k j := fun k j q => by rw [← hσ1, lj_put_1, if_neg (by omega)]
  have c1 : nmC σ1 (z :: R) := nmC_cg (fun j => g1 _ j (by omega)) (fun j => g1 _ j (by omega)) (fun j => g1 _ j (by omega)) (fun j => g1 _ j (by omega)) (fun j => g1 _ j (by omega)) (fun j => g1 _ j (by omega)) (fun j => g1 _ j (by omega)) (fun j => g1 _ j (by omega)) n1
  have hloc := c_localOf hz51 a a1 c1.1.2.2.2.1 c1.1.2.2.1 c1.1.2.2.2.2.1
  have s17 : σ1.1 6 17 = Int32.ofNat (1 + tN b pl) := by rw [← hσ1, lj_put_1, if_pos ⟨rfl, rfl⟩]
  have s60 : σ1.1 6 0 = Int32.ofNat p := by rw [← hσ1, lj_put_1, if_neg (by omega)]; exact h0
  have s62 : σ1.1 6 2 = Int32.ofNat z.1 := by rw [← hσ1, lj_put_1, if_neg (by omega)]; exact n7
  -- tokens stay
  have hTE : ∀ σ', lf nmcC σ1 σ' → TE b n T Q σ' τ := fun σ' g => by
    have gg := f1.tr g
    refine ⟨h.1, h.2.1, h.2.2.1, h.2.2.2.1, fun t ht => ?_, h.2.2.2.2.2.1, h.2.2.2.2.2.2.1, slC_cg h.2.2.2.2.2.2.2.1 (gg 0 8 rfl).1 (gg 3 7 rfl).1 (fun j => (gg 9 j rfl).1) (fun j => (gg 10 j rfl).1) (fun j => (gg 11 j rfl).1), h.2.2.2.2.2.2.2.2⟩
    obtain ⟨t1, t2, t3, t4, t5, t6, t7, t8, t9, t10⟩ := h.2.2.2.2.1 t ht
    refine ⟨t1, by rw [(gg 18 t rfl).1]; exact t2, t3, t4, t5, by rw [(gg 19 t rfl).1]; exact t6, t7, by rw [(gg 20 t rfl).1]; exact t8, fun q => ?_, fun q => by rw [(gg 21 t rfl).2]; exact t10 q⟩
    obtain ⟨u1, u2, u3, u4, u5⟩ := t9 q
    refine ⟨u1, u2, by rw [(gg 21 t rfl).2]; exact u3, u4, ?_, u5.2.1, ?_⟩
    · rw [gg.v (by rfl)]; exact u5.1
    · rw [cS_cong (fun j => (gg 9 j rfl).1) (fun j => (gg 10 j rfl).1) (fun j => (gg 11 j rfl).1)]; exact u5.2.2
  have cend : ∀ (σ' : lj_S) (what : Int32) (y : Int32), lf nmcC σ1 σ' → σ'.1 6 0 = Int32.ofNat p → lj_D lc_P lc_M88 79 [.ref 6, .int (Int32.ofNat a), .int y, .int what] [.int (σ'.1 6 16), .ref 6] σ' = some (.inl (some (.int what)), lj_put σ' 6 0 (Int32.ofNat (p + 1))) := fun σ' what y g e0 => by
    rw [kc_88_79, lj_put_self σ' 6 16 _ rfl, c_step (hTE σ' g) hp e0]
    rfl
  -- the model
  have hlev : τ.1 0 53 = Int32.ofNat R.length := by rw [n8]; rfl
  have eM : lj_R lm_P 51 [.ref 0, .int (Int32.ofNat a'), .int (Int32.ofNat pl)] τ = lj_D lm_P lm_M51 14 [.ref 0, .int (Int32.ofNat a'), .int (Int32.ofNat pl), .int (Int32.ofNat (z :: R).length + (-1)), .retAddr 0, .retAddr 0, .retAddr 0, .retAddr 0, .retAddr 0] [] (lj_put τ 0 63 (Int32.ofNat (1 + tN b pl))) := by
    rw [rm_51, km_51_0, m_lineOf h.1 h.2.2.2.1 pl hpln]
    unfold lj_bi
    simp only []
    rw [hlev, List.length_cons, lz_pred]
  generalize hτ1 : lj_put τ 0 63 (Int32.ofNat (1 + tN b pl)) = τ1 at eM
  have f2 : lf nmcM τ τ1 := by rw [← hτ1]; exact lf_put (lf_rf _ _) _ _ _ rfl
  have g2 : ∀ k j, (k ≠ 0 ∨ j ≠ 63) → τ1.1 k j = τ.1 k j := fun k j q => by rw [← hτ1, lj_put_1, if_neg (by omega)]
  have m1 : nmM τ1 (z :: R) := nmM_cg (fun j => g2 _ j (by omega)) (fun j => g2 _ j (by omega)) (fun j => g2 _ j (by omega)) (fun j => g2 _ j (by omega)) (fun j => g2 _ j (by omega)) (fun j => g2 _ j (by omega)) (fun j => g2 _ j (by omega)) n2
  have hl22 : R.length < 22 := by simp at n6; omega
  have hscan := m_scan a a' a2 (Int32.ofNat pl) τ1 R.length (by omega) (by rw [g2 0 53 (by omega)]; exact hlev) (z :: R) (.retAddr 0) (.retAddr 0) m1 hE (by simp) (by simp at n6 hb16; omega) (fun _ => by rw [if_pos (by simp), g2 0 50 (by omega)]; exact n9)
  -- names stay
  have nrEnd : ∀ (N' : List lT) (σ' τ' : lj_S), lvX (z :: R) N' → nmC σ' N' → nmM τ' N' → ckN N' → lf nmcC σ σ' → lf nmcM τ τ' → NR σ' τ' N' := fun N' σ' τ' e1 e2 e3 e4 e5 e6 => by
    obtain ⟨w1, w2, w3, w4⟩ := lvX_map e1
    refine ⟨e2, e3, e4, by rw [lvX_q e1]; exact n4, fun q => by rw [q] at w2; simp at w2, by rw [w2]; exact n6, by rw [(e5 6 2 rfl).1, w4]; exact n7, by rw [(e6 0 53 rfl).1, w2]; exact n8, by rw [(e6 0 50 rfl).1, w3]; exact n9, fun w hw e he => ?_⟩
    obtain ⟨w', hw', ew⟩ := lvX_kn e1 w hw
    rw [← ew] at he
    have cs : ∀ t, cS σ' t = cS σ t := cS_cong (fun j => (e5 9 j rfl).1) (fun j => (e5 10 j rfl).1) (fun j => (e5 11 j rfl).1)
    have ms : ∀ t, mS τ' t = mS τ t := mS_cong (fun j => (e6 2 j rfl).1) (fun j => (e6 3 j rfl).1) (fun j => (e6 4 j rfl).1)
    rcases n10 w' hw' e he with ⟨q1, q2⟩ | ⟨q1, q2, q3⟩
    · exact Or.inl ⟨q1, by rw [e5.v (by rfl)]; exact q2.1, by rw [e6.v (by rfl)]; exact q2.2.1, by rw [cs, ms]; exact q2.2.2⟩
    · exact Or.inr ⟨q1, by rw [e6.v (by rfl)]; exact q2, fun s hs => by rw [e5.v (by rfl)] at hs; rw [cs, ms]; exact q3 s hs⟩
  cases hkn : knF z.2.1 a with
  | some s =>
    have hs50 := knF_b n1.1.2.2.2.2.1 hkn
    rw [eC, hloc, hkn]
    unfold lj_bi
    simp only []
    have hnn : ¬ (optI (some s) < 0) := ofN_nneg (by omega)
    rw [if_neg hnn, kc_88_41, if_neg hnn, kc_88_64, if_neg (by decide)]
    have f3 : lf nmcC σ1 (lj_put σ1 6 16 (optI (some s))) := lf_put (lf_rf _ _) _ _ _ rfl
    rw [cend _ _ _ f3 (by rw [lj_put_1, if_neg (by omega)]; exact s60)]
    rcases hscan with ⟨j1, _⟩ | ⟨P, H, R', s', y4, y5, j1, j2, j3, j4⟩
    · have := j1 z (List.mem_cons_self); rw [hkn] at this; cases this
    · have hP : P = [] := by
        cases P with
        | nil => rfl
        | cons q P =>
          have e : q = z := by have := congrArg List.head? j1; simp at this; exact this.symm
          have := j2 q (List.mem_cons_self)
          rw [e, hkn] at this; cases this
      subst hP
      have e1 : H = z ∧ R' = R := by have := List.cons.inj j1; exact ⟨this.1.symm, this.2.symm⟩
      obtain ⟨rfl, rfl⟩ := e1
      rw [hkn] at j3
      have := Option.some.inj j3
      subst this
      rw [eM, j4, km_51_88, g2 0 53 (by omega), hlev, if_pos (by rw [lz_lt, lz_lit (by omega), lz_lit (by omega)]; omega), if_pos rfl, km_51_133]
      have f4 : lf nmcC σ (lj_put (lj_put σ1 6 16 (optI (some s))) 6 0 (Int32.ofNat (p + 1))) := lf_put (f1.tr f3) _ _ _ rfl
      have f5 : lf nmcM τ (lj_put (lj_put τ1 0 61 0) 0 62 (Int32.ofNat s)) := lf_put (lf_put f2 _ _ _ rfl) _ _ _ rfl
      refine Or.inl ⟨3, 0, s, s, _, _, _, rfl, rfl, Or.inl ⟨rfl, rfl, rfl, _, _, rfl, hkn⟩, by omega, by omega, ?_, ?_, ?_, ?_, ?_, ?_, nrEnd _ _ _ (lvX_rf _) ?_ ?_ n3 f4 f5, lvX_rf _, f4, f5, ?_, ?_⟩
      · rw [lj_put_1, if_pos ⟨rfl, rfl⟩]
      · rw [lj_put_1, if_neg (by omega), lj_put_1, if_pos ⟨rfl, rfl⟩]; rfl
      · rw [lj_put_1, if_neg (by omega), lj_put_1, if_neg (by omega)]; exact s17
      · rw [lj_put_1, if_neg (by omega), lj_put_1, if_pos ⟨rfl, rfl⟩]
      · rw [lj_put_1, if_pos ⟨rfl, rfl⟩]
      · rw [lj_put_1, if_neg (by omega), lj_put_1, if_neg (by omega), ← hτ1, lj_put_1, if_pos ⟨rfl, rfl⟩]
      · refine nmC_cg (fun j => ?_) (fun j => ?_) (fun j => ?_) (fun j => ?_) (fun j => ?_) (fun j => ?_) (fun j => ?_) (fun j => ?_) c1 <;> rw [lj_put_1, if_neg (by omega), lj_put_1, if_neg (by omega)]
      · refine nmM_cg (fun j => ?_) (fun j => ?_) (fun j => ?_) (fun j => ?_) (fun j => ?_) (fun j => ?_) (fun j => ?_) m1 <;> rw [lj_put_1, if_neg (by omega), lj_put_1, if_neg (by omega)]
      · exact ouC_o _ (fun k j q => by rw [lj_put_1, if_neg (by omega), lj_put_1, if_neg (by omega), g1 k j q])
      · exact ouM_o _ (fun k j q => by rw [lj_put_1, if_neg (by omega), lj_put_1, if_neg (by omega), g2 k j (by omega)])
  | none =>
    have hneg : optI none < 0 := by decide
    have hfq : fq (Q p).1 3 = 3 := by rw [hk1]; decide
    have hW : ∀ σ', lf capC σ1 σ' → lj_br (lj_R lc_P 65 [.ref 6, .int 3] σ') (fun y2 σ1 => (bif Nat.blt y2 2000 then lj_up y2 σ1 else none)) lj_up = some (.inr 1, cFl σ' 3 pl) := fun σ' g => by
      have := c_throw (hTE σ' (g.mo (fun k j q => by simp [nmcC] at q; exact q.1))) hp (by rw [(g 6 0 rfl).1]; exact s60) 3
      rw [hfq, hpl] at this
      exact this
    have eC2 : lj_R lc_P 88 [.ref 6] σ = lj_bi (lj_R lc_P 90 [.ref 6, .int (Int32.ofNat z.1), .int (Int32.ofNat a)] σ1) (fun y8 σ7 => lj_D lc_P lc_M88 41 [.ref 6, .int (Int32.ofNat a), .int (optI none), .retAddr 0] [.int y8, .ref 6] σ7) lj_up := by
      rw [eC, hloc, hkn]
      unfold lj_bi
      simp only []
      rw [if_pos hneg, s62]
    have hcap := c_capturedOf a a' a1 a2 3 pl σ1 z R c1 n4 hkn hW
    have hsame := cap_same a a' (z :: R) n3
    rcases hscan with ⟨j1, j2⟩ | ⟨P, H, R', s', y4, y5, j1, j2, j3, j4⟩
    · -- a global
      have hres := resM_none a a' (z :: R) j1
      have hcS : capS a a' (z :: R) = none := by
        rcases hsame with x | ⟨lo, y, N', _, x2, _⟩ | ⟨_, lo, y, N', x2⟩
        · exact x.1
        · rw [hres] at x2; cases x2
        · rw [hres] at x2; cases x2
      rcases hcap with ⟨_, k2⟩ | ⟨lo, y, N', σ', k1, _⟩ | ⟨k1, _⟩
      · rw [eC2, k2]
        unfold lj_bi
        simp only []
        rw [kc_88_41, if_pos hneg, if_pos (by decide), kc_88_64, if_pos rfl, kc_88_79, lj_put_put]
        have f3 : lf nmcC σ1 (lj_put σ1 6 16 (Int32.ofNat a)) := lf_put (lf_rf _ _) _ _ _ rfl
        rw [c_step (hTE _ f3) hp (by rw [lj_put_1, if_neg (by omega)]; exact s60), eM, j2]
        have f4 : lf nmcC σ (lj_put (lj_put σ1 6 16 (Int32.ofNat a)) 6 0 (Int32.ofNat (p + 1))) := lf_put (f1.tr f3) _ _ _ rfl
        have f5 : lf nmcM τ (lj_put (lj_put τ1 0 61 2) 0 62 (Int32.ofNat a')) := lf_put (lf_put f2 _ _ _ rfl) _ _ _ rfl
        refine Or.inl ⟨5, 2, a, a', _, _, _, rfl, rfl, Or.inr (Or.inr ⟨rfl, rfl, rfl, rfl⟩), a1, a2, ?_, ?_, ?_, ?_, ?_, ?_, nrEnd (z :: R) _ _ (lvX_rf _) ?_ ?_ n3 f4 f5, lvX_rf _, f4, f5, ?_, ?_⟩
        · rw [lj_put_1, if_pos ⟨rfl, rfl⟩]
        · rw [lj_put_1, if_neg (by omega), lj_put_1, if_pos ⟨rfl, rfl⟩]
        · rw [lj_put_1, if_neg (by omega), lj_put_1, if_neg (by omega)]; exact s17
        · rw [lj_put_1, if_neg (by omega), lj_put_1, if_pos ⟨rfl, rfl⟩]
        · rw [lj_put_1, if_pos ⟨rfl, rfl⟩]
        · rw [lj_put_1, if_neg (by omega), lj_put_1, if_neg (by omega), ← hτ1, lj_put_1, if_pos ⟨rfl, rfl⟩]
        · refine nmC_cg (fun j => ?_) (fun j => ?_) (fun j => ?_) (fun j => ?_) (fun j => ?_) (fun j => ?_) (fun j => ?_) (fun j => ?_) c1 <;> rw [lj_put_1, if_neg (by omega), lj_put_1, if_neg (by omega)]
        · refine nmM_cg (fun j => ?_) (fun j => ?_) (fun j => ?_) (fun j => ?_) (fun j => ?_) (fun j => ?_) (fun j => ?_) m1 <;> rw [lj_put_1, if_neg (by omega), lj_put_1, if_neg (by omega)]
        · exact ouC_o _ (fun k j q => by rw [lj_put_1, if_neg (by omega), lj_put_1, if_neg (by omega), g1 k j q])
        · exact ouM_o _ (fun k j q => by rw [lj_put_1, if_neg (by omega), lj_put_1, if_neg (by omega), g2 k j (by omega)])
      · rw [hcS] at k1; cases k1
      · rw [hcS] at k1; cases k1
    · -- captured
      have hres := resM_fold a a' s' H R' j3 P j2
      have hPne : P ≠ [] := fun e => by
        subst e
        have := List.cons.inj j1
        rw [this.1, j3] at hkn; cases hkn
      have hs50 : s' < 50 := by
        have : H ∈ z :: R := by rw [j1]; simp
        have hm := nmC_mid P (show nmC σ (P ++ H :: R') by rw [← j1]; exact n1)
        exact knF_b hm.1.2.2.2.2.1 j3
      have hlen : (P ++ H :: R').length = R.length + 1 := by rw [← j1]; simp
      obtain ⟨τ2, r1, r2, r3, r4, r5, r6, r7, r8, r9⟩ := m_dn a a' a1 a2 pl (Int32.ofNat a') (Int32.ofNat R'.length) y4 y5 P.length P H R' τ1 1 s' rfl (by rw [← j1]; exact m1) (by rw [← j1]; exact n4) (by omega) hs50 (by rw [g2 0 53 (by omega), hlen, hlev]; rfl) (by rw [hlen]; omega)
      have hsrt : ¬ (Int32.ofNat R'.length = τ1.1 0 53) := by
        rw [g2 0 53 (by omega), hlev]
        intro e
        have e1 := (ofN_eq (show R'.length < 2147483648 by simp at hlen; omega) (by omega)).1 e
        have : P.length ≠ 0 := fun q => hPne (List.length_eq_zero_iff.1 q)
        simp at hlen; omega
      rw [if_neg hsrt] at r1
      have h41 : τ1.1 0 4 = 0 := by rw [g2 0 4 (by omega)]; exact h4
      have eM2 : lj_R lm_P 51 [.ref 0, .int (Int32.ofNat a'), .int (Int32.ofNat pl)] τ = some (.inl none, lj_put (lj_put τ2 0 61 1) 0 62 (Int32.ofNat (foldM a a' P 1 s').2.1)) := by
        rw [eM, j4]; exact r1
      rw [← j1] at hres
      rcases hsame with ⟨_, x, _⟩ | ⟨lo, y, N', x1, x2, x3, x4, x5, x6, x7⟩ | ⟨x1, lo, y, N', x2⟩
      · rw [hres] at x; cases x
      · -- found
        rw [hres] at x2
        have e2 := Option.some.inj x2
        have ey : (foldM a a' P 1 s').2.1 = y := (Prod.mk.inj (Prod.mk.inj e2).2).1
        have eN : (foldM a a' P 1 s').2.2.1 ++ H :: R' = N' := (Prod.mk.inj (Prod.mk.inj (Prod.mk.inj e2).2).2).1
        have eb : (foldM a a' P 1 s').2.2.2 = false := (Prod.mk.inj (Prod.mk.inj (Prod.mk.inj e2).2).2).2
        rw [eN] at r2
        rw [eb] at r4 r5
        rw [ey] at r6
        have hX := capS_X a a' (z :: R) lo y N' x1
        rcases hcap with ⟨k1, _⟩ | ⟨lo', y', N'', σ', k1, k2, k3, k4, k5, k6⟩ | ⟨k1, _⟩
        · rw [x1] at k1; cases k1
        · rw [x1] at k1
          have e3 := Option.some.inj (Option.some.inj k1)
          have ey' : y = y' := (Prod.mk.inj (Prod.mk.inj e3).2).1
          have eN' : N' = N'' := (Prod.mk.inj (Prod.mk.inj e3).2).2
          subst ey' eN'
          have hnn : ¬ (Int32.ofNat y < 0) := ofN_nneg (by omega)
          have k4' : lf nmcC σ1 σ' := k4.mo (fun k j q => by simp [nmcC] at q; exact q.1)
          have f3 : lf nmcC σ1 (lj_put σ' 6 16 (Int32.ofNat y)) := lf_put k4' _ _ _ rfl
          have f4 : lf nmcC σ (lj_put (lj_put σ' 6 16 (Int32.ofNat y)) 6 0 (Int32.ofNat (p + 1))) := lf_put (f1.tr f3) _ _ _ rfl
          have r3' : lf nmcM τ1 τ2 := fun k j q => by
            by_cases w : k = 0 ∧ (j = 4 ∨ j = 5)
            · obtain ⟨rfl, w⟩ := w
              rcases w with rfl | rfl
              · refine ⟨by rw [r4]; simp, ?_⟩
                rw [r8]
              · refine ⟨by rw [r5]; simp, ?_⟩
                rw [r8]
            · exact r3 k j (by simp [nmcM] at q; simp [capM5]; exact ⟨q.1, fun e => by omega⟩)
          have f5 : lf nmcM τ (lj_put (lj_put τ2 0 61 1) 0 62 (Int32.ofNat y)) := lf_put (lf_put (f2.tr r3') _ _ _ rfl) _ _ _ rfl
          rw [eC2, k2, eM2, ey]
          unfold lj_bi
          simp only []
          rw [kc_88_41, if_pos hneg, if_neg hnn, kc_88_64, if_neg (by decide), cend _ _ _ f3 (by rw [lj_put_1, if_neg (by omega), (k4 6 0 rfl).1]; exact s60)]
          obtain ⟨z', R1, ez, hy⟩ := capS_len a a' z R hkn lo y N' x1
          refine Or.inl ⟨4, 1, y, y, N', _, _, rfl, rfl, Or.inr (Or.inl ⟨rfl, rfl, rfl, z', R1, ez, hy⟩), by omega, by omega, ?_, ?_, ?_, ?_, ?_, ?_, nrEnd N' _ _ hX ?_ ?_ x3 f4 f5, hX, f4, f5, ?_, ?_⟩
          · rw [lj_put_1, if_pos ⟨rfl, rfl⟩]
          · rw [lj_put_1, if_neg (by omega), lj_put_1, if_pos ⟨rfl, rfl⟩]
          · rw [lj_put_1, if_neg (by omega), lj_put_1, if_neg (by omega), (k4 6 17 rfl).1]; exact s17
          · rw [lj_put_1, if_neg (by omega), lj_put_1, if_pos ⟨rfl, rfl⟩]
          · rw [lj_put_1, if_pos ⟨rfl, rfl⟩]
          · rw [lj_put_1, if_neg (by omega), lj_put_1, if_neg (by omega), (r3 0 63 rfl).1, ← hτ1, lj_put_1, if_pos ⟨rfl, rfl⟩]
          · refine nmC_cg (fun j => ?_) (fun j => ?_) (fun j => ?_) (fun j => ?_) (fun j => ?_) (fun j => ?_) (fun j => ?_) (fun j => ?_) k3 <;> rw [lj_put_1, if_neg (by omega), lj_put_1, if_neg (by omega)]
          · refine nmM_cg (fun j => ?_) (fun j => ?_) (fun j => ?_) (fun j => ?_) (fun j => ?_) (fun j => ?_) (fun j => ?_) r2 <;> rw [lj_put_1, if_neg (by omega), lj_put_1, if_neg (by omega)]
          · exact ((ouC_o _ g1).tr k6).tr (ouC_o _ (fun k j q => by rw [lj_put_1, if_neg (by omega), lj_put_1, if_neg (by omega)]))
          · exact ((ouM_o _ (fun k j q => g2 k j (by omega))).tr (show ouM (z :: R) τ1 τ2 by rw [j1]; exact r9)).tr (ouM_o _ (fun k j q => by rw [lj_put_1, if_neg (by omega), lj_put_1, if_neg (by omega)]))
        · rw [x1] at k1; cases k1
      · -- too many
        rw [hres] at x2
        have e2 := Option.some.inj x2
        have eb : (foldM a a' P 1 s').2.2.2 = true := (Prod.mk.inj (Prod.mk.inj (Prod.mk.inj e2).2).2).2
        rcases hcap with ⟨k1, _⟩ | ⟨lo', y', N'', σ', k1, _⟩ | ⟨k1, σ', k2, k3⟩
        · rw [x1] at k1; cases k1
        · rw [x1] at k1; cases k1
        · refine Or.inr ⟨σ', _, ?_, eM2, ?_, ?_, ?_, lf_put (lf_put ((f2.mo (fun k j q => by simp only [nmcM5, Bool.or_eq_false_iff] at q; exact q.1)).tr (r3.mo (fun k j q => by simp only [nmcM5, nmcM, Bool.or_eq_false_iff] at q; simp only [capM5, Bool.or_eq_false_iff]; exact ⟨q.1.1, q.2⟩))) _ _ _ rfl) _ _ _ rfl⟩
          · rw [eC2, k2]; rfl
          · rw [lj_put_1, if_neg (by omega), lj_put_1, if_neg (by omega), r4, if_pos ⟨eb, h41⟩]
          · rw [lj_put_1, if_neg (by omega), lj_put_1, if_neg (by omega), r5, if_pos ⟨eb, h41⟩]
          · rw [lj_put_1, if_neg (by omega), lj_put_1, if_neg (by omega), (r3 0 41 rfl).1, g2 0 41 (by omega)]
