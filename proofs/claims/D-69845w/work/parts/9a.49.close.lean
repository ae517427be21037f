/-! locals end -/
def clz (σ : lj_S) (c s : Nat) : lj_S := lj_put (lj_put (lj_putL (lj_put σ 75 c (σ.1 79 s)) 76 c (σ.2 80 s)) 74 c (-1)) 81 s (-1)
theorem clz_1 (σ : lj_S) (c s k j : Nat) : (clz σ c s).1 k j = if k = 81 ∧ j = s then -1 else if k = 74 ∧ j = c then -1 else if k = 75 ∧ j = c then σ.1 79 s else σ.1 k j := by
  unfold clz
  rw [lj_put_1, lj_put_1, lj_putL_1, lj_put_1]
theorem clz_2 (σ : lj_S) (c s k j : Nat) : (clz σ c s).2 k j = if k = 76 ∧ j = c then σ.2 80 s else σ.2 k j := by
  unfold clz
  show (lj_putL (lj_put σ 75 c (σ.1 79 s)) 76 c (σ.2 80 s)).2 k j = _
  rw [lj_putL_2]
  rfl
/-- the component closes a slot's cell -/
theorem c_cl0 {σ : lj_S} {s : Nat} (hs : s < 325000) (h : σ.1 81 s = -1) : lj_R lc_P 151 [.ref 8, .int (Int32.ofNat s)] σ = some (.inl none, σ) := by
  rw [rc_151, kc_151_0, if_pos (ofN_in hs (by omega)), if_pos (by rw [lz_onat (by omega), h]; decide), kc_151_67]
theorem c_cl1 {σ : lj_S} {s c : Nat} (hs : s < 325000) (hc : c < 60000) (h : σ.1 81 s = Int32.ofNat c) : lj_R lc_P 151 [.ref 8, .int (Int32.ofNat s)] σ = some (.inl none, clz σ c s) := by
  have i1 : lj_in (Int32.ofNat s) 325000 := ofN_in hs (by omega)
  have i2 : lj_in (Int32.ofNat c) 60000 := ofN_in hc (by omega)
  have nl : ¬ (Int32.ofNat c < 0) := by
    rw [lz_lt, lz_lit (by omega)]
    show ¬ ((c : Int) < 0)
    omega
  have e81 : σ.1 81 (Int32.ofNat s).toNatClampNeg = Int32.ofNat c := by rw [lz_onat (by omega)]; exact h
  have i2' : lj_in (σ.1 81 (Int32.ofNat s).toNatClampNeg) 60000 := by rw [e81]; exact i2
  rw [rc_151, kc_151_0, if_pos i1, if_neg (by rw [e81]; exact nl), if_pos i1, if_pos i2', if_pos i1, if_pos i2', if_pos i2', if_pos i1, kc_151_67, e81, lz_onat (n := s) (by omega), lz_onat (n := c) (by omega)]
  rfl
/-- variables: one that lived lives no more -/
theorem clR.cls {σ0 σ τ : lj_S} {FP FP' : Nat → List kF} {ρ : Nat → Nat} {n a : Nat} (h : clR σ0 σ τ FP ρ n) (hn : n ≤ 2000) (hf : ∀ q b, lsL (FP' q) b ↔ lsL (FP q) b ∧ b ≠ a) (ha : ∃ q, lsL (FP q) a ∧ τ.1 58 q ≠ 4) : (σ.1 81 a = -1 → clR σ0 σ τ FP' ρ n) ∧ ∀ c, c < 60000 → σ.1 81 a = Int32.ofNat c → clR σ0 (clz σ c a) τ FP' (fun b => if b = 325000 + c then ρ a else ρ b) n := by
  have hcap := fun o f k w1 w2 w3 w4 r x y1 y2 y3 y4 => h.cap' (o := o) (f := f) (k := k) w1 w2 w3 w4 r x y1 y2 y3 y4 hn
  obtain ⟨h1, h2, ⟨Fc, f1, f2, f3, f4⟩, h4, h5, h6, h7⟩ := h
  obtain ⟨qa, hqa, hq4⟩ := ha
  have a3 := (h6 qa a hqa).1
  have ua : usd σ0 σ τ FP a := Or.inl ⟨qa, hqa, Or.inl hq4⟩
  refine ⟨fun e => ?_, fun c hc e => ?_⟩
  · have us : ∀ b, usd σ0 σ τ FP' b → usd σ0 σ τ FP b := fun b w => by
      rcases w with ⟨q, w, y⟩ | w
      · exact Or.inl ⟨q, ((hf q b).1 w).1, y⟩
      · exact Or.inr w
    refine ⟨fun b w => h1 b (us b w), fun b b' w1 w2 => h2 b b' (us b w1) (us b' w2), ⟨Fc, f1, f2, f3, fun x hx => ⟨(f4 x hx).1, fun b w => (f4 x hx).2 b (us b w)⟩⟩, h4, fun x hx => ?_, fun q s w => h6 q s ((hf q s).1 w).1, h7⟩
    rcases h5 x hx with w | ⟨s, ⟨q, s1⟩, s2, s3, s4⟩
    · exact Or.inl w
    · refine Or.inr ⟨s, ⟨q, (hf q s).2 ⟨s1, fun z => ?_⟩⟩, s2, s3, s4⟩
      rw [z, e] at s4
      have : (Int32.ofNat x).toInt = -1 := by rw [← s4]; rfl
      rw [lz_lit (by omega)] at this
      omega
  · obtain ⟨c21, c74⟩ : (c : Int) < lv σ 7 21 ∧ σ.1 74 c = Int32.ofNat a := by
      rcases (h6 qa a hqa).2 with z | ⟨x, x1, x2, x3⟩
      · exfalso
        rw [e] at z
        have : (Int32.ofNat c).toInt = -1 := by rw [z]; rfl
        rw [lz_lit (by omega)] at this
        omega
      · rw [e] at x2
        have : c = x := (ofN_eq (by omega) (by omega)).1 x2
        rw [this]
        exact ⟨x1, x3⟩
    have o : ∀ k j, k ≠ 81 → k ≠ 74 → k ≠ 75 → (clz σ c a).1 k j = σ.1 k j := fun k j z1 z2 z3 => by rw [clz_1, if_neg (by omega), if_neg (by omega), if_neg (by omega)]
    have oa : ∀ o' k, obA (clz σ c a) τ o' k ↔ obA σ τ o' k := fun o' k => by unfold obA lv; rw [o 7 0 (by omega) (by omega) (by omega), o 57 o' (by omega) (by omega) (by omega)]
    have cp : ∀ o' k x, cpO σ0 (clz σ c a) τ o' k x ↔ cpO σ0 σ τ o' k x := fun o' k x => by
      unfold cpO
      simp only [oa, show ∀ j, (clz σ c a).1 62 j = σ.1 62 j from fun j => o 62 j (by omega) (by omega) (by omega), show ∀ j, (clz σ c a).1 63 j = σ.1 63 j from fun j => o 63 j (by omega) (by omega) (by omega), show ∀ j, (clz σ c a).1 77 j = σ.1 77 j from fun j => o 77 j (by omega) (by omega) (by omega)]
    have l74 : ∀ x, x ≠ c → lv (clz σ c a) 74 x = lv σ 74 x := fun x z => by unfold lv; rw [clz_1, if_neg (by omega), if_neg (by omega), if_neg (by omega)]
    have l74c : lv (clz σ c a) 74 c = -1 := by unfold lv; rw [clz_1, if_neg (by omega), if_pos ⟨rfl, rfl⟩]; rfl
    have l21 : lv (clz σ c a) 7 21 = lv σ 7 21 := by unfold lv; rw [o 7 21 (by omega) (by omega) (by omega)]
    have l25 : lv (clz σ c a) 7 25 = lv σ 7 25 := by unfold lv; rw [o 7 25 (by omega) (by omega) (by omega)]
    have l74a : lv σ 74 c = (a : Int) := by unfold lv; rw [c74, lz_lit (by omega)]
    -- used before: not the closed place
    have nc : ¬ usd σ0 σ τ FP (325000 + c) := fun w => by
      rcases w with ⟨q, w, _⟩ | ⟨o', k, x, _, w2, w3⟩
      · have := (h6 q _ w).1; omega
      · have : x = c := by omega
        rw [this, l74a] at w2
        omega
    have us : ∀ b, usd σ0 (clz σ c a) τ FP' b → b = 325000 + c ∨ b ≠ 325000 + c ∧ b ≠ a ∧ usd σ0 σ τ FP b := fun b w => by
      by_cases z : b = 325000 + c
      · exact Or.inl z
      · refine Or.inr ⟨z, ?_⟩
        rcases w with ⟨q, w, y⟩ | ⟨o', k, x, w1, w2, w3⟩
        · refine ⟨((hf q b).1 w).2, Or.inl ⟨q, ((hf q b).1 w).1, y.imp id (fun ⟨o', k, x, y1, y2⟩ => ⟨o', k, x, (cp o' k x).1 y1, ?_⟩)⟩⟩
          have b3 := (h6 q b ((hf q b).1 w).1).1
          by_cases xc : x = c
          · rw [xc] at y2
            have : lv (clz σ c a) 74 c = (b : Int) := by unfold lv; rw [y2, lz_lit (by omega)]
            omega
          · rw [← y2, clz_1, if_neg (by omega), if_neg (by omega), if_neg (by omega)]
        · have : x ≠ c := fun y => z (by omega)
          rw [l74 x this] at w2
          exact ⟨by omega, Or.inr ⟨o', k, x, (cp o' k x).1 w1, w2, w3⟩⟩
    have vR' : ∀ x y, vR σ τ x y → vR (clz σ c a) τ x y := fun x y w => w.cg (fun k j q => o k j (by rintro rfl; simp [vqC] at q) (by rintro rfl; simp [vqC] at q) (by rintro rfl; simp [vqC] at q)) (fun _ _ _ => rfl)
    have va : ∀ b, b ≠ 325000 + c → vaC (clz σ c a) b = vaC σ b := fun b z => by
      unfold vaC cv
      by_cases y : b < 325000
      · rw [if_pos y, if_pos y, o 79 b (by omega) (by omega) (by omega), clz_2, if_neg (by omega)]
      · rw [if_neg y, if_neg y, clz_1, if_neg (by omega), if_neg (by omega), if_neg (by omega), clz_2, if_neg (by omega)]
    have vc : vaC (clz σ c a) (325000 + c) = cv σ a := by
      unfold vaC cv
      rw [if_neg (by omega), Nat.add_sub_cancel_left, clz_1, if_neg (by omega), if_neg (by omega), if_pos ⟨rfl, rfl⟩, clz_2, if_pos ⟨rfl, rfl⟩]
    have va' : vaC σ a = cv σ a := by unfold vaC; rw [if_pos a3]
    refine ⟨fun b w => ?_, fun b b' w1 w2 e' => ?_, ⟨Fc, f1, f2, f3, fun x hx => ⟨(f4 x hx).1, fun b w => ?_⟩⟩, fun o' f w1 w2 w3 => ?_, fun x hx => ?_, fun q s w => ?_, by rw [l21, l25]; exact h7⟩
    · dsimp only
      rcases us b w with z | ⟨z1, z2, z3⟩
      · rw [if_pos z, z, vc, ← va']
        exact ⟨(h1 a ua).1, vR' _ _ (h1 a ua).2⟩
      · rw [if_neg z1, va b z1]
        exact ⟨(h1 b z3).1, vR' _ _ (h1 b z3).2⟩
    · dsimp only at e'
      rcases us b w1 with z | ⟨z1, z2, z3⟩
      · rcases us b' w2 with y | ⟨y1, y2, y3⟩
        · rw [z, y]
        · rw [if_pos z, if_neg y1] at e'
          exact absurd (h2 a b' ua y3 e').symm y2
      · rcases us b' w2 with y | ⟨y1, y2, y3⟩
        · rw [if_neg z1, if_pos y] at e'
          exact absurd (h2 b a z3 ua e') z2
        · rw [if_neg z1, if_neg y1] at e'
          exact h2 b b' z3 y3 e'
    · dsimp only
      rcases us b w with z | ⟨z1, z2, z3⟩
      · rw [if_pos z]; exact (f4 x hx).2 a ua
      · rw [if_neg z1]; exact (f4 x hx).2 b z3
    · rw [o 62 o' (by omega) (by omega) (by omega)] at w3
      have w1' := (oa o' 5).1 w1
      obtain ⟨r, r1, r2, r3⟩ := h4 o' f w1' w2 w3
      refine ⟨r, by rw [o 63 o' (by omega) (by omega) (by omega)]; exact r1, by rw [l25]; exact r2, fun k hk => ?_⟩
      obtain ⟨x, c1, c2, c3⟩ := r3 k hk
      have ux := hcap o' f k w1' w2 w3 hk r x r1 c1 c2 r2
      refine ⟨x, by rw [l21]; exact c1, by rw [o 77 _ (by omega) (by omega) (by omega)]; exact c2, ?_⟩
      rw [c3]
      dsimp only
      by_cases z : x = c
      · have lo : loC σ x = a := by unfold loC; rw [z, l74a, if_neg (by omega)]; rfl
        have lo' : loC (clz σ c a) x = 325000 + c := by unfold loC; rw [z, l74c, if_pos (by decide)]
        rw [lo', if_pos rfl, lo]
      · have lo : loC (clz σ c a) x = loC σ x := by unfold loC; rw [l74 x z]
        rw [lo, if_neg (fun y => nc (by rw [← y]; exact ux))]
    · rw [l21] at hx
      by_cases z : x = c
      · left
        rw [clz_1, if_neg (by omega), if_pos ⟨rfl, z⟩]
      · rw [show (clz σ c a).1 74 x = σ.1 74 x by rw [clz_1, if_neg (by omega), if_neg (by omega), if_neg (by omega)]]
        rcases h5 x hx with w | ⟨s, ⟨q, s1⟩, s2, s3, s4⟩
        · exact Or.inl w
        · have sa : s ≠ a := fun y => by
            rw [y, e] at s4
            exact z ((ofN_eq (by omega) (by omega)).1 s4).symm
          exact Or.inr ⟨s, ⟨q, (hf q s).2 ⟨s1, sa⟩⟩, s2, s3, by rw [clz_1, if_neg (by omega), if_neg (by omega), if_neg (by omega)]; exact s4⟩
    · obtain ⟨w1, w2⟩ := (hf q s).1 w
      obtain ⟨a1, a2⟩ := h6 q s w1
      refine ⟨a1, ?_⟩
      rw [show (clz σ c a).1 81 s = σ.1 81 s by rw [clz_1, if_neg (by omega), if_neg (by omega), if_neg (by omega)], l21]
      rcases a2 with z | ⟨x, c1, c2, c3⟩
      · exact Or.inl z
      · have xc : x ≠ c := fun y => by
          rw [y, c74] at c3
          exact w2 ((ofN_eq (by omega) (by omega)).1 c3).symm
        exact Or.inr ⟨x, c1, c2, by rw [clz_1, if_neg (by omega), if_neg (by omega), if_neg (by omega)]; exact c3⟩
