/-! functions are made: what they take along -/
/-- cells and the slots of locals that live -/
def cqI (Lv : Nat → Prop) (σ : lj_S) (N : Nat) : Prop :=
  σ.1 7 21 = Int32.ofNat N ∧ (∀ c, c < N → σ.1 74 c = -1 ∨ ∃ s, Lv s ∧ s < 325000 ∧ σ.1 74 c = Int32.ofNat s ∧ σ.1 81 s = Int32.ofNat c) ∧ (∀ s, Lv s → s < 325000 ∧ (σ.1 81 s = -1 ∨ ∃ c, c < N ∧ σ.1 81 s = Int32.ofNat c ∧ σ.1 74 c = Int32.ofNat s))
theorem lz_m1_ne {n : Nat} (h : n < 2147483648) : ¬ ((-1 : Int32) = Int32.ofNat n) := fun q => by
  have := congrArg Int32.toInt q
  rw [lz_m1, lz_lit h] at this
  omega
theorem c_cps {Lv : Nat → Prop} {f o r K bC q rq i Kq : Nat} (hf : f < 51) (hrK : r + K ≤ 60000) (hK : K ≤ 30) (hi : i < 520) (hq : q ≤ 2000) (hrq : rq + Kq ≤ r) (A X : Nat → Nat) (hA : ∀ j, j < K → (A j = 1 ∧ Lv (bC + X j)) ∨ (A j = 0 ∧ X j < Kq)) :
    ∀ (d k N : Nat) (σ : lj_S) (x4 x5 x6 : Value), k + d = K → cqI Lv σ N → σ.1 7 25 = Int32.ofNat (r + k) → N ≤ r + k → σ.1 33 f = Int32.ofNat K → (∀ j, j < K → σ.1 34 (30 * f + j) = Int32.ofNat (A j) ∧ σ.1 35 (30 * f + j) = Int32.ofNat (X j)) → σ.1 8 35 = Int32.ofNat bC → σ.1 8 34 = Int32.ofNat i → σ.1 93 i = Int32.ofNat q → (Kq ≠ 0 → σ.1 63 q = Int32.ofNat rq ∧ ∀ x, x < Kq → ∃ c, c < N ∧ σ.1 77 (rq + x) = Int32.ofNat c) →
      ∃ (σ' : lj_S) (N' : Nat) (cs : Nat → Nat), lj_D lc_P lc_M208 49 [.ref 8, .int (Int32.ofNat f), .int (Int32.ofNat o), .int (Int32.ofNat k), x4, x5, x6] [] σ = lj_bv (lj_R lc_P 137 [.ref 8, .int 5, .long (Int32.ofNat o).toInt64] σ') (fun s => some (.inl none, s)) lj_up ∧ cqI Lv σ' N' ∧ N ≤ N' ∧ σ'.1 7 25 = Int32.ofNat (r + K) ∧ N' ≤ r + K ∧ (∀ j, k ≤ j → j < K → σ'.1 77 (r + j) = Int32.ofNat (cs j) ∧ cs j < N' ∧ (A j = 1 → σ'.1 74 (cs j) = Int32.ofNat (bC + X j)) ∧ (A j = 0 → σ.1 77 (rq + X j) = Int32.ofNat (cs j))) ∧ (∀ c, c < N → σ'.1 74 c = σ.1 74 c) ∧ (∀ j, j < r + k → σ'.1 77 j = σ.1 77 j) ∧ (∀ j, σ'.1 81 j = σ.1 81 j ∨ Lv j) ∧ (∀ a j, ¬ (a = 7 ∧ (j = 21 ∨ j = 25)) → a ≠ 77 → a ≠ 74 → a ≠ 81 → σ'.1 a j = σ.1 a j) ∧ (∀ a j, σ'.2 a j = σ.2 a j)
  | 0, k, N, σ, x4, x5, x6, hd, hI, h25, hN, h33, h34, h35, h8, h93, hcap => by
    have e : k = K := by omega
    subst e
    refine ⟨σ, N, fun _ => 0, ?_, hI, Nat.le_refl _, h25, hN, fun j a b => by omega, fun _ _ => rfl, fun _ _ => rfl, fun _ => Or.inl rfl, fun _ _ _ _ _ _ => rfl, fun _ _ => rfl⟩
    rw [kc_208_49, if_pos (ofN_in hf (by omega)), lz_onat (by omega), h33, if_pos ((ofN_le (by omega) (by omega)).2 (Nat.le_refl _))]
  | d + 1, k, N, σ, x4, x5, x6, hd, hI, h25, hN, h33, h34, h35, h8, h93, hcap => by
    obtain ⟨i21, i5, i6⟩ := hI
    have hk : k < K := by omega
    obtain ⟨a34, a35⟩ := h34 k hk
    have fk : Int32.ofNat f * 30 + Int32.ofNat k = Int32.ofNat (30 * f + k) := by
      rw [show (30 : Int32) = Int32.ofNat 30 from rfl, ← Int32.ofNat_mul, ← Int32.ofNat_add, Nat.mul_comm]
    have ik : lj_in (Int32.ofNat (30 * f + k)) 1530 := ofN_in (by omega) (by omega)
    have nk : (Int32.ofNat (30 * f + k)).toNatClampNeg = 30 * f + k := lz_onat (by omega)
    have nf : (Int32.ofNat f).toNatClampNeg = f := lz_onat (by omega)
    have i25 : lj_in (Int32.ofNat (r + k)) 60000 := ofN_in (by omega) (by omega)
    have n25 : (Int32.ofNat (r + k)).toNatClampNeg = r + k := lz_onat (by omega)
    have hd49 := kc_208_49 (Int32.ofNat f) (Int32.ofNat o) (Int32.ofNat k) x4 x5 x6 σ
    rw [if_pos (ofN_in hf (by omega)), nf, h33, if_neg (by rw [ofN_le (by omega) (by omega)]; omega), fk, if_pos ik, if_pos ik, nk, a34, a35] at hd49
    -- a cell is laid down, and on
    have on : ∀ (σ1 : lj_S) (N1 c : Nat) (y4 y6 : Value) (z4 : Int32), y4 = .int z4 → N ≤ N1 → N1 ≤ r + k + 1 → cqI Lv σ1 N1 → c < N1 → (A k = 1 → σ1.1 74 c = Int32.ofNat (bC + X k)) → (A k = 0 → σ.1 77 (rq + X k) = Int32.ofNat c) → (∀ c, c < N → σ1.1 74 c = σ.1 74 c) → (∀ j, σ1.1 81 j = σ.1 81 j ∨ Lv j) → (∀ a j, ¬ (a = 7 ∧ j = 21) → a ≠ 74 → a ≠ 81 → σ1.1 a j = σ.1 a j) → (∀ a j, σ1.2 a j = σ.2 a j) → lj_D lc_P lc_M208 49 [.ref 8, .int (Int32.ofNat f), .int (Int32.ofNat o), .int (Int32.ofNat k), x4, x5, x6] [] σ = lj_D lc_P lc_M208 162 [.ref 8, .int (Int32.ofNat f), .int (Int32.ofNat o), .int (Int32.ofNat k), y4, .int (Int32.ofNat c), y6] [] σ1 →
      ∃ (σ' : lj_S) (N' : Nat) (cs : Nat → Nat), lj_D lc_P lc_M208 49 [.ref 8, .int (Int32.ofNat f), .int (Int32.ofNat o), .int (Int32.ofNat k), x4, x5, x6] [] σ = lj_bv (lj_R lc_P 137 [.ref 8, .int 5, .long (Int32.ofNat o).toInt64] σ') (fun s => some (.inl none, s)) lj_up ∧ cqI Lv σ' N' ∧ N ≤ N' ∧ σ'.1 7 25 = Int32.ofNat (r + K) ∧ N' ≤ r + K ∧ (∀ j, k ≤ j → j < K → σ'.1 77 (r + j) = Int32.ofNat (cs j) ∧ cs j < N' ∧ (A j = 1 → σ'.1 74 (cs j) = Int32.ofNat (bC + X j)) ∧ (A j = 0 → σ.1 77 (rq + X j) = Int32.ofNat (cs j))) ∧ (∀ c, c < N → σ'.1 74 c = σ.1 74 c) ∧ (∀ j, j < r + k → σ'.1 77 j = σ.1 77 j) ∧ (∀ j, σ'.1 81 j = σ.1 81 j ∨ Lv j) ∧ (∀ a j, ¬ (a = 7 ∧ (j = 21 ∨ j = 25)) → a ≠ 77 → a ≠ 74 → a ≠ 81 → σ'.1 a j = σ.1 a j) ∧ (∀ a j, σ'.2 a j = σ.2 a j) := fun σ1 N1 c y4 y6 z4 ey l1 l2 I1 lc c1 c0 s74 s81 so so2 run => by
      subst ey
      obtain ⟨σ2, hσ2⟩ : ∃ s, s = lj_put (lj_put σ1 7 25 (Int32.ofNat (r + k + 1))) 77 (r + k) (Int32.ofNat c) := ⟨_, rfl⟩
      have o2 : ∀ a j, ¬ (a = 7 ∧ j = 25) → ¬ (a = 77 ∧ j = r + k) → σ2.1 a j = σ1.1 a j := fun a j z1 z2 => by rw [hσ2, lj_put_1, if_neg z2, lj_put_1, if_neg z1]
      have e25 : σ2.1 7 25 = Int32.ofNat (r + (k + 1)) := by rw [hσ2, lj_put_1, if_neg (by omega), lj_put_1, if_pos ⟨rfl, rfl⟩]; rfl
      have I2 : cqI Lv σ2 N1 := by
        obtain ⟨j1, j2, j3⟩ := I1
        refine ⟨by rw [o2 7 21 (by omega) (by omega)]; exact j1, fun c hc => ?_, fun s hs => ?_⟩
        · rw [o2 74 c (by omega) (by omega)]
          rcases j2 c hc with w | ⟨s, w1, w2, w3, w4⟩
          · exact Or.inl w
          · exact Or.inr ⟨s, w1, w2, w3, by rw [o2 81 s (by omega) (by omega)]; exact w4⟩
        · rw [o2 81 s (by omega) (by omega)]
          obtain ⟨w0, w⟩ := j3 s hs
          refine ⟨w0, ?_⟩
          rcases w with w | ⟨c, w1, w2, w3⟩
          · exact Or.inl w
          · exact Or.inr ⟨c, w1, w2, by rw [o2 74 c (by omega) (by omega)]; exact w3⟩
      obtain ⟨σ', N', cs, x1, x2, x3, x4', x5', x6', x7, x8, x9, x10, x11⟩ := c_cps hf hrK hK hi hq hrq A X hA d (k + 1) N1 σ2 (.int z4) (.int (Int32.ofNat c)) y6 (by omega) I2 e25 (by omega) (by rw [o2 33 f (by omega) (by omega), so 33 f (by omega) (by omega) (by omega)]; exact h33) (fun j hj => by rw [o2 34 _ (by omega) (by omega), o2 35 _ (by omega) (by omega), so 34 _ (by omega) (by omega) (by omega), so 35 _ (by omega) (by omega) (by omega)]; exact h34 j hj) (by rw [o2 8 35 (by omega) (by omega), so 8 35 (by omega) (by omega) (by omega)]; exact h35) (by rw [o2 8 34 (by omega) (by omega), so 8 34 (by omega) (by omega) (by omega)]; exact h8) (by rw [o2 93 i (by omega) (by omega), so 93 i (by omega) (by omega) (by omega)]; exact h93) (fun z => by
        obtain ⟨u1, u2⟩ := hcap z
        refine ⟨by rw [o2 63 q (by omega) (by omega), so 63 q (by omega) (by omega) (by omega)]; exact u1, fun x hx => ?_⟩
        obtain ⟨c', v1, v2⟩ := u2 x hx
        exact ⟨c', by omega, by rw [o2 77 _ (by omega) (by omega), so 77 _ (by omega) (by omega) (by omega)]; exact v2⟩)
      refine ⟨σ', N', fun j => if j = k then c else cs j, ?_, x2, by omega, x4', x5', fun j z1 z2 => ?_, fun c' hc' => ?_, fun j hj => ?_, fun j => ?_, fun a j z1 z2 z3 z4 => ?_, fun a j => ?_⟩
      · have e1 : σ1.1 7 25 = Int32.ofNat (r + k) := by rw [so 7 25 (by omega) (by omega) (by omega)]; exact h25
        rw [run, kc_208_162, e1, if_pos i25, n25, lz_osucc, lz_osucc, ← hσ2, x1]
      · dsimp only
        by_cases y : j = k
        · subst y
          rw [if_pos rfl]
          have e77 : σ2.1 77 (r + j) = Int32.ofNat c := by rw [hσ2, lj_put_1, if_pos ⟨rfl, rfl⟩]
          refine ⟨by rw [x8 (r + j) (by omega)]; exact e77, by omega, fun q => ?_, c0⟩
          rw [x7 c lc, o2 74 c (by omega) (by omega)]
          exact c1 q
        · rw [if_neg y]
          obtain ⟨w1, w2, w3, w4⟩ := x6' j (by omega) z2
          refine ⟨w1, w2, w3, fun q => ?_⟩
          have u := w4 q
          have hx : X j < Kq := by
            rcases hA j z2 with ⟨y1, _⟩ | ⟨_, y2⟩
            · omega
            · exact y2
          rw [o2 77 _ (by omega) (by omega), so 77 _ (by omega) (by omega) (by omega)] at u
          exact u
      · rw [x7 c' (by omega), o2 74 c' (by omega) (by omega)]; exact s74 c' hc'
      · rw [x8 j (by omega), o2 77 j (by omega) (by omega), so 77 j (by omega) (by omega) (by omega)]
      · rcases x9 j with w | w
        · rw [w, o2 81 j (by omega) (by omega)]; exact s81 j
        · exact Or.inr w
      · rw [x10 a j z1 z2 z3 z4, o2 a j (by omega) (by omega), so a j (by omega) (by omega) (by omega)]
      · rw [x11, hσ2]; exact so2 a j
    rcases hA k hk with ⟨ha, hl⟩ | ⟨ha, hx⟩
    · -- a local
      rw [ha, if_neg (by decide), h35] at hd49
      have es : Int32.ofNat bC + Int32.ofNat (X k) = Int32.ofNat (bC + X k) := (Int32.ofNat_add _ _).symm
      obtain ⟨l325, l81⟩ := i6 _ hl
      have is : lj_in (Int32.ofNat (bC + X k)) 325000 := ofN_in l325 (by omega)
      have ns : (Int32.ofNat (bC + X k)).toNatClampNeg = bC + X k := lz_onat (by omega)
      rw [es, if_pos is] at hd49
      simp only [ns] at hd49
      rcases l81 with w | ⟨c, w1, w2, w3⟩
      · -- a new cell
        rw [w, if_neg (by decide), rc_122, kc_122_0, i21, if_pos (ofN_in (by omega) (by omega)), lz_onat (by omega), bi_ok, if_pos is, kc_208_142, if_pos is, ns, lz_osucc] at hd49
        obtain ⟨σ1, hσ1⟩ : ∃ s, s = lj_put (lj_put (lj_put σ 74 N (Int32.ofNat (bC + X k))) 7 21 (Int32.ofNat (N + 1))) 81 (bC + X k) (Int32.ofNat N) := ⟨_, rfl⟩
        rw [← hσ1] at hd49
        have g81 : σ1.1 81 (bC + X k) = Int32.ofNat N := by rw [hσ1, lj_put_1, if_pos ⟨rfl, rfl⟩]
        have g74 : σ1.1 74 N = Int32.ofNat (bC + X k) := by rw [hσ1, lj_put_1, if_neg (by omega), lj_put_1, if_neg (by omega), lj_put_1, if_pos ⟨rfl, rfl⟩]
        have o1 : ∀ a j, ¬ (a = 74 ∧ j = N) → ¬ (a = 7 ∧ j = 21) → ¬ (a = 81 ∧ j = bC + X k) → σ1.1 a j = σ.1 a j := fun a j z1 z2 z3 => by rw [hσ1, lj_put_1, if_neg z3, lj_put_1, if_neg z2, lj_put_1, if_neg z1]
        rw [g81] at hd49
        refine on σ1 (N + 1) N _ _ _ rfl (by omega) (by omega) ⟨by rw [hσ1, lj_put_1, if_neg (by omega), lj_put_1, if_pos ⟨rfl, rfl⟩], fun c hc => ?_, fun s hs => ?_⟩ (Nat.lt_succ_self _) (fun _ => g74) (fun z => by omega) (fun c hc => o1 74 c (by omega) (by omega) (by omega)) (fun j => ?_) (fun a j z1 z2 z3 => o1 a j (by omega) (by omega) (by omega)) (fun a j => by rw [hσ1]; rfl) hd49
        · by_cases y : c = N
          · rw [y]
            exact Or.inr ⟨_, hl, l325, g74, g81⟩
          · rw [o1 74 c (by omega) (by omega) (by omega)]
            rcases i5 c (by omega) with u | ⟨s, u1, u2, u3, u4⟩
            · exact Or.inl u
            · have ne : s ≠ bC + X k := fun q => by
                rw [q, w] at u4
                exact absurd u4 (lz_m1_ne (by omega))
              exact Or.inr ⟨s, u1, u2, u3, by rw [o1 81 s (by omega) (by omega) (by omega)]; exact u4⟩
        · obtain ⟨v0, v⟩ := i6 s hs
          refine ⟨v0, ?_⟩
          by_cases y : s = bC + X k
          · rw [y]
            exact Or.inr ⟨N, Nat.lt_succ_self _, g81, g74⟩
          · rw [o1 81 s (by omega) (by omega) (by omega)]
            rcases v with v | ⟨c, v1, v2, v3⟩
            · exact Or.inl v
            · exact Or.inr ⟨c, (by omega), v2, by rw [o1 74 c (by omega) (by omega) (by omega)]; exact v3⟩
        · by_cases y : j = bC + X k
          · rw [y]; exact Or.inr hl
          · exact Or.inl (o1 81 j (by omega) (by omega) (by omega))
      · -- one that is there
        rw [w2, if_pos (by rw [lz_le, lz_lit (by omega)]; show (0 : Int) ≤ _; omega), kc_208_142, if_pos is, ns, w2] at hd49
        exact on σ N c _ _ _ rfl (Nat.le_refl _) (by omega) ⟨i21, i5, i6⟩ w1 (fun _ => w3) (fun z => by omega) (fun _ _ => rfl) (fun _ => Or.inl rfl) (fun _ _ _ _ _ => rfl) (fun _ _ => rfl) hd49
    · -- one that was taken along
      obtain ⟨u1, u2⟩ := hcap (by omega)
      obtain ⟨c, v1, v2⟩ := u2 (X k) hx
      have e140 : lj_R lc_P 140 [.ref 8, .int (Int32.ofNat (X k))] σ = some (.inl (some (.int (Int32.ofNat c))), σ) := by
        rw [rc_140, kc_140_0, h8, if_pos (ofN_in hi (by omega)), lz_onat (by omega), h93, if_pos (ofN_in (by omega) (by omega)), lz_onat (by omega), u1, ← Int32.ofNat_add, if_pos (ofN_in (by omega) (by omega)), lz_onat (by omega), v2]
      rw [ha, if_pos (by decide), e140, bi_ok] at hd49
      exact on σ N c _ _ _ rfl (Nat.le_refl _) (by omega) ⟨i21, i5, i6⟩ v1 (fun z => by omega) (fun _ => v2) (fun _ _ => rfl) (fun _ => Or.inl rfl) (fun _ _ _ _ _ => rfl) (fun _ _ => rfl) hd49
/-- the model's -/
theorem m_cps {f o K J q : Nat} (hf : f < 51) (hK : K ≤ 30) (ho : 1 ≤ o ∧ o ≤ 2001) (hq : q ≤ 2000) (hqo : q ≠ o) (hJ : J < 1248) (A X : Nat → Nat) (hA : ∀ j, j < K → (A j = 1 ∧ X j < 50) ∨ (A j = 0 ∧ X j < 30)) :
    ∀ (d k : Nat) (τ : lj_S) (x5 : Value), k + d = K → τ.1 15 f = Int32.ofNat K → (∀ j, j < K → τ.1 18 (30 * f + j) = Int32.ofNat (A j) ∧ τ.1 19 (30 * f + j) = Int32.ofNat (X j)) → τ.1 76 J = Int32.ofNat q →
      ∃ τ', lj_D lm_P lm_M152 21 [.ref 0, .int (Int32.ofNat f), .int (Int32.ofNat J), .int (Int32.ofNat o), .int (Int32.ofNat k), x5] [] τ = lj_bv (lj_R lm_P 116 [.ref 0, .int 5, .long (Int32.ofNat o).toInt64] τ') (fun s => some (.inl none, s)) lj_up ∧ (∀ j, k ≤ j → j < K → τ'.1 44 (30 * o + j) = if A j = 1 then τ.1 87 (50 * J + X j) else τ.1 44 (30 * q + X j)) ∧ (∀ a j, ¬ (a = 44 ∧ 30 * o + k ≤ j ∧ j < 30 * o + 30) → τ'.1 a j = τ.1 a j) ∧ (∀ a j, τ'.2 a j = τ.2 a j)
  | 0, k, τ, x5, hd, h15, h18, h76 => by
    have e : k = K := by omega
    subst e
    refine ⟨τ, ?_, fun j a b => by omega, fun _ _ _ => rfl, fun _ _ => rfl⟩
    rw [km_152_21, if_pos (ofN_in hf (by omega)), lz_onat (by omega), h15, if_pos ((ofN_le (by omega) (by omega)).2 (Nat.le_refl _))]
  | d + 1, k, τ, x5, hd, h15, h18, h76 => by
    have hk : k < K := by omega
    obtain ⟨a18, a19⟩ := h18 k hk
    have fk : (30 : Int32) * Int32.ofNat f + Int32.ofNat k = Int32.ofNat (30 * f + k) := by
      rw [show (30 : Int32) = Int32.ofNat 30 from rfl, ← Int32.ofNat_mul, ← Int32.ofNat_add]
    have ok' : (30 : Int32) * Int32.ofNat o + Int32.ofNat k = Int32.ofNat (30 * o + k) := by
      rw [show (30 : Int32) = Int32.ofNat 30 from rfl, ← Int32.ofNat_mul, ← Int32.ofNat_add]
    have ik : lj_in (Int32.ofNat (30 * f + k)) 1530 := ofN_in (by omega) (by omega)
    have nk : (Int32.ofNat (30 * f + k)).toNatClampNeg = 30 * f + k := lz_onat (by omega)
    have nf : (Int32.ofNat f).toNatClampNeg = f := lz_onat (by omega)
    have io : lj_in (Int32.ofNat (30 * o + k)) 60060 := ofN_in (by omega) (by omega)
    have no : (Int32.ofNat (30 * o + k)).toNatClampNeg = 30 * o + k := lz_onat (by omega)
    have hd21 := km_152_21 (Int32.ofNat f) (Int32.ofNat J) (Int32.ofNat o) (Int32.ofNat k) x5 τ
    rw [if_pos (ofN_in hf (by omega)), nf, h15, if_neg (by rw [ofN_le (by omega) (by omega)]; omega), fk, if_pos ik, if_pos ik, nk, a18, a19, ok'] at hd21
    obtain ⟨v, hv⟩ : ∃ v, v = if A k = 1 then τ.1 87 (50 * J + X k) else τ.1 44 (30 * q + X k) := ⟨_, rfl⟩
    obtain ⟨τ1, hτ1⟩ : ∃ t, t = lj_put τ 44 (30 * o + k) v := ⟨_, rfl⟩
    have o1 : ∀ a j, ¬ (a = 44 ∧ j = 30 * o + k) → τ1.1 a j = τ.1 a j := fun a j z => by rw [hτ1, lj_put_1, if_neg z]
    have st : ∃ z5 : Int32, lj_D lm_P lm_M152 21 [.ref 0, .int (Int32.ofNat f), .int (Int32.ofNat J), .int (Int32.ofNat o), .int (Int32.ofNat k), x5] [] τ = lj_D lm_P lm_M152 21 [.ref 0, .int (Int32.ofNat f), .int (Int32.ofNat J), .int (Int32.ofNat o), .int (Int32.ofNat (k + 1)), .int z5] [] τ1 := by
      rcases hA k hk with ⟨ha, hx⟩ | ⟨ha, hx⟩
      · rw [if_pos ha] at hv
        have e87 : (50 : Int32) * Int32.ofNat J + Int32.ofNat (X k) = Int32.ofNat (50 * J + X k) := by
          rw [show (50 : Int32) = Int32.ofNat 50 from rfl, ← Int32.ofNat_mul, ← Int32.ofNat_add]
        rw [ha, if_neg (by decide), e87, if_pos (ofN_in (by omega) (by omega)), lz_onat (by omega), km_152_104, if_pos io, no, lz_osucc, ← hv, ← hτ1] at hd21
        exact ⟨_, hd21⟩
      · rw [if_neg (by omega)] at hv
        have e44 : (30 : Int32) * Int32.ofNat q + Int32.ofNat (X k) = Int32.ofNat (30 * q + X k) := by
          rw [show (30 : Int32) = Int32.ofNat 30 from rfl, ← Int32.ofNat_mul, ← Int32.ofNat_add]
        rw [ha, if_pos (by decide), if_pos (ofN_in hJ (by omega)), show (Int32.ofNat J).toNatClampNeg = J from lz_onat (by omega), h76, e44, if_pos (ofN_in (by omega) (by omega)), lz_onat (by omega), km_152_104, if_pos io, no, lz_osucc, ← hv, ← hτ1] at hd21
        exact ⟨_, hd21⟩
    obtain ⟨z5, st⟩ := st
    obtain ⟨τ', x1, x2, x3, x4⟩ := m_cps hf hK ho hq hqo hJ A X hA d (k + 1) τ1 (.int z5) (by omega) (by rw [o1 15 f (by omega)]; exact h15) (fun j hj => by rw [o1 18 _ (by omega), o1 19 _ (by omega)]; exact h18 j hj) (by rw [o1 76 J (by omega)]; exact h76)
    refine ⟨τ', st.trans x1, fun j z1 z2 => ?_, fun a j z => ?_, fun a j => ?_⟩
    · by_cases y : j = k
      · subst y
        rw [x3 44 _ (by omega), hτ1, lj_put_1, if_pos ⟨rfl, rfl⟩, hv]
      · have w := x2 j (by omega) z2
        rw [o1 87 _ (by omega)] at w
        rw [w]
        by_cases ha : A j = 1
        · rw [if_pos ha, if_pos ha]
        · rw [if_neg ha, if_neg ha]
          have hx : X j < 30 := by
            rcases hA j z2 with ⟨y1, _⟩ | ⟨_, y2⟩
            · exact absurd y1 ha
            · exact y2
          exact o1 44 _ (by omega)
    · rw [x3 a j (by omega), o1 a j (by omega)]
    · rw [x4, hτ1]; rfl
