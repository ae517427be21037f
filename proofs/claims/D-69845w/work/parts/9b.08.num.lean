/-! what is built in: texts read as numbers -/
theorem by_255 {x : Int32} (h : lz_by x = x) : (-128 ≤ x.toInt ∧ x.toInt ≤ 127) ∧ ((x &&& 255).toInt = x.toInt ∧ 0 ≤ x.toInt ∨ (x &&& 255).toInt = x.toInt + 256 ∧ x.toInt < 0) := by
  have h1 : x.toInt8.toInt = x.toInt := by
    have := congrArg Int32.toInt h
    unfold lz_by at this
    rw [Int8.toInt_toInt32] at this
    exact this
  have h2 : ((x &&& 255).toInt8).toInt = x.toInt := by rw [lz_255]; exact h1
  have h3 : ((x &&& 255).toInt8).toInt = Int.bmod (x &&& 255).toInt (2 ^ 8) := Int32.toInt_toInt8 _
  have h4 := lz_and x 255 (by decide)
  have h5 : (255 : Int32).toInt = 255 := by decide
  have h6 : x.toInt8.toInt = Int.bmod x.toInt (2 ^ 8) := Int32.toInt_toInt8 _
  rw [h3] at h2
  rw [h6] at h1
  rw [h5] at h4
  have b1 := Int.le_bmod (x := x.toInt) (m := 2 ^ 8) (by decide)
  have b2 := Int.bmod_lt (x := x.toInt) (m := 2 ^ 8) (by decide)
  generalize (x &&& 255).toInt = v at *
  generalize x.toInt = w at *
  have r : -128 ≤ w ∧ w ≤ 127 := by omega
  refine ⟨r, ?_⟩
  by_cases z : v < 128
  · rw [Int.bmod_eq_of_le (by omega) (by omega)] at h2
    exact Or.inl (by omega)
  · right
    have e : Int.bmod v (2 ^ 8) = v - 256 := by
      rw [Int.bmod_def]
      have e2 : ((2 ^ 8 : Nat) : Int) = 256 := by decide
      rw [e2, if_neg (by omega)]
      omega
    omega
/-- a byte of a string of both -/
theorem x_byt {σ τ : lj_S} {X : List Int32 → Prop} (hs : sR σ τ X) {s s' : Nat} (e : sE σ τ s s') {i : Nat} (hi : i < (cS σ s).length) : ∃ b : Int32, b = (cS σ s).getD i 0 ∧ lz_by b = b ∧ lj_R lc_P 37 [.ref 3, .int (Int32.ofNat s), .int (Int32.ofNat i)] σ = some (.inl (some (.int (b &&& 255))), σ) ∧ lj_in (τ.1 3 s' + Int32.ofNat i) 40000 ∧ τ.1 2 (τ.1 3 s' + Int32.ofNat i).toNatClampNeg = b := by
  have i1 := hs.1.inn e.1
  have i2 := hs.2.1.inn e.2.1
  have hi' : i < (mS τ s').length := by rw [← e.2.2]; exact hi
  obtain ⟨m1, m2⟩ := m_sbyte i2 hi'
  have eq : (mS τ s')[i] = (cS σ s)[i] := by simp only [e.2.2]
  refine ⟨(cS σ s)[i], by rw [List.getD_eq_getElem?_getD, List.getElem?_eq_getElem hi]; rfl, ?_, c_sbyte i1 hi, m1, by rw [m2, eq]⟩
  rw [cS_get]
  exact hs.1.2.2.2.1 _
/-- both read digits -/
theorem tn_loop {σ τ : lj_S} {X : List Int32 → Prop} (hs : sR σ τ X) {s s' : Nat} (e : sE σ τ s s') (s2 : s < 2600) (s3 : s' < 3000) {fr m : Nat} (hl : fr + m = (cS σ s).length) (hf : fr ≤ 1) (as x4 : Int32) : ∀ (d k : Nat) (v : Int64) (X1 Z1 : Value), k + d = m → ∃ (g : Int32) (v1 v2 : Int64) (x9 y9 : Int32) (X' Z' : Value), (g = 0 ∨ g = 1 ∧ v1 = v2) ∧ lj_D lc_P lc_M166 124 [.ref 8, .int as, .int (Int32.ofNat s), .int (Int32.ofNat (cS σ s).length), .int x4, .int (Int32.ofNat fr), .int 1, .long v, .retAddr 0, .int (Int32.ofNat (fr + k)), X1] [] σ = lj_D lc_P lc_M166 186 [.ref 8, .int as, .int (Int32.ofNat s), .int (Int32.ofNat (cS σ s).length), .int x4, .int (Int32.ofNat fr), .int g, .long v1, .retAddr 0, .int x9, X'] [] σ ∧ ∀ τ1 : lj_S, (∀ j, τ1.1 3 j = τ.1 3 j ∧ τ1.1 2 j = τ.1 2 j) → lj_D lm_P lm_M196 106 [.ref 0, .int (Int32.ofNat s'), .int (Int32.ofNat fr), .int (Int32.ofNat m), .int 1, .long v, .retAddr 0, .int (Int32.ofNat k), Z1] [] τ1 = lj_D lm_P lm_M196 164 [.ref 0, .int (Int32.ofNat s'), .int (Int32.ofNat fr), .int (Int32.ofNat m), .int g, .long v2, .retAddr 0, .int y9, Z'] [] τ1
  | 0, k, v, X1, Z1, hd => by
    have sz := (sE_sz hs e).2.2
    refine ⟨1, v, v, Int32.ofNat (fr + k), Int32.ofNat k, X1, Z1, Or.inr ⟨rfl, rfl⟩, ?_, fun τ1 _ => ?_⟩
    · rw [kc_166_124, if_pos ((ofN_le (by omega) (by omega)).2 (by omega))]
    · rw [km_196_106, if_pos ((ofN_le (by omega) (by omega)).2 (by omega))]
  | d + 1, k, v, X1, Z1, hd => by
    have sz := (sE_sz hs e).2.2
    obtain ⟨b, _, b1, b2, b3, b4⟩ := x_byt hs e (i := fr + k) (by omega)
    obtain ⟨r1, r2⟩ := by_255 b1
    have is' : lj_in (Int32.ofNat s') 3000 := ofN_in (by omega) (by omega)
    have ns' : (Int32.ofNat s').toNatClampNeg = s' := lz_onat (by omega)
    have ix : τ.1 3 s' + Int32.ofNat fr + Int32.ofNat k = τ.1 3 s' + Int32.ofNat (fr + k) := by rw [Int32.add_assoc, ← Int32.ofNat_add]
    have c1 : ¬ (Int32.ofNat (cS σ s).length ≤ Int32.ofNat (fr + k)) := fun z => by have := (ofN_le (by omega) (by omega)).1 z; omega
    have c2 : ¬ (Int32.ofNat m ≤ Int32.ofNat k) := fun z => by have := (ofN_le (by omega) (by omega)).1 z; omega
    have t48 : (48 : Int64).toInt = 48 := by decide
    have t57 : (57 : Int64).toInt = 57 := by decide
    have n1 : ¬ ((1 : Int32) = 0) := by decide
    have stepC : lj_D lc_P lc_M166 124 [.ref 8, .int as, .int (Int32.ofNat s), .int (Int32.ofNat (cS σ s).length), .int x4, .int (Int32.ofNat fr), .int 1, .long v, .retAddr 0, .int (Int32.ofNat (fr + k)), X1] [] σ = lj_D lc_P lc_M166 124 [.ref 8, .int as, .int (Int32.ofNat s), .int (Int32.ofNat (cS σ s).length), .int x4, .int (Int32.ofNat fr), .int (if 48 ≤ b.toInt ∧ b.toInt ≤ 57 then 1 else 0), .long (10 * v + (b &&& 255).toInt64 - 48), .retAddr 0, .int (Int32.ofNat (fr + (k + 1))), .int (b &&& 255)] [] σ := by
      have q : (if (48 : Int64).toInt ≤ ((b &&& 255).toInt64).toInt ∧ ((b &&& 255).toInt64).toInt ≤ (57 : Int64).toInt then (1 : Int32) else 0) = if 48 ≤ b.toInt ∧ b.toInt ≤ 57 then 1 else 0 := by
        rw [t48, t57, Int32.toInt_toInt64]
        by_cases z : 48 ≤ b.toInt ∧ b.toInt ≤ 57
        · rw [if_pos z, if_pos (by omega)]
        · rw [if_neg z, if_neg (by omega)]
      rw [kc_166_124, if_neg c1, if_neg n1, b2, bi_ok, c_isIn, bi_ok, q, lz_osucc]
      rfl
    have stepM : ∀ τ1 : lj_S, (∀ j, τ1.1 3 j = τ.1 3 j ∧ τ1.1 2 j = τ.1 2 j) → lj_D lm_P lm_M196 106 [.ref 0, .int (Int32.ofNat s'), .int (Int32.ofNat fr), .int (Int32.ofNat m), .int 1, .long v, .retAddr 0, .int (Int32.ofNat k), Z1] [] τ1 = lj_D lm_P lm_M196 106 [.ref 0, .int (Int32.ofNat s'), .int (Int32.ofNat fr), .int (Int32.ofNat m), .int (if 48 ≤ b.toInt ∧ b.toInt ≤ 57 then 1 else 0), .long (10 * v + b.toInt64 - 48), .retAddr 0, .int (Int32.ofNat (k + 1)), .int b] [] τ1 := fun τ1 hτ => by
      have bb : τ1.1 2 (τ1.1 3 s' + Int32.ofNat fr + Int32.ofNat k).toNatClampNeg = b := by rw [(hτ s').1, ix, (hτ _).2]; exact b4
      have bi : lj_in (τ1.1 3 s' + Int32.ofNat fr + Int32.ofNat k) 40000 := by rw [(hτ s').1, ix]; exact b3
      rw [km_196_106, if_neg c2, if_neg n1, if_pos is', ns', if_pos bi, bb, m_isDigit, bi_ok, lz_osucc]
    by_cases z : 48 ≤ b.toInt ∧ b.toInt ≤ 57
    · have eb : b &&& 255 = b := lz_ext (by omega)
      rw [if_pos z, eb] at stepC
      rw [if_pos z] at stepM
      obtain ⟨g, v1, v2, x9, y9, X', Z', w1, w2, w3⟩ := tn_loop hs e s2 s3 hl hf as x4 d (k + 1) (10 * v + b.toInt64 - 48) (.int b) (.int b) (by omega)
      exact ⟨g, v1, v2, x9, y9, X', Z', w1, stepC.trans w2, fun τ1 hτ => (stepM τ1 hτ).trans (w3 τ1 hτ)⟩
    · rw [if_neg z] at stepC
      rw [if_neg z] at stepM
      refine ⟨0, 10 * v + (b &&& 255).toInt64 - 48, 10 * v + b.toInt64 - 48, Int32.ofNat (fr + (k + 1)), Int32.ofNat (k + 1), .int (b &&& 255), .int b, Or.inl rfl, stepC.trans ?_, fun τ1 hτ => (stepM τ1 hτ).trans ?_⟩
      · rw [kc_166_124]
        by_cases y : Int32.ofNat (cS σ s).length ≤ Int32.ofNat (fr + (k + 1))
        · rw [if_pos y]
        · rw [if_neg y, if_pos rfl]
      · rw [km_196_106]
        by_cases y : Int32.ofNat m ≤ Int32.ofNat (k + 1)
        · rw [if_pos y]
        · rw [if_neg y, if_pos rfl]
theorem bi_3 {σ0 τ0 σ τ : lj_S} {n np p : Nat} {r : List Nat} {FP : Nat → List kF} {ρ : Nat → Nat} {A MO LA : List Nat} {M : Nat} (D : DLV σ0 τ0 M) (h : MB σ0 τ0 n np p r FP ρ A MO LA σ τ) (ry : ryR σ τ) (hwk : wkR FP (p :: r) A σ) {as line : Int32} (ht : τ.1 0 129 = 1) (ha : awR σ0 (FP p) as (τ.1 0 130) (τ.1 0 131)) (hln : τ.1 0 132 = line) {G G' : List vT} (hG : gwR σ τ G G') (hGl : G.length ≤ 49) (hM : thM FP (p :: r) MO LA + 5001 ≤ M) {X : Nat} (hX : X ≤ TH) (hT : thM FP (p :: r) MO LA + 5001 ≤ X) : ∃ τ1, lj_R lm_P 187 [.ref 0, .int 3] τ = some (.inl none, τ1) ∧ ocR σ0 τ0 A (fun t => t ≤ X) σ τ1 (lj_R lc_P 159 [.ref 8, .int 3, .int as, .int line] σ) := by
  have c0 := hG.c0 hGl
  have m1 := hG.m1 hGl
  have hv := hG.v 0
  have rC : ∀ {x : Option lj_O}, lj_R lc_P 166 [.ref 8, .int as] σ = x → lj_R lc_P 159 [.ref 8, .int 3, .int as, .int line] σ = finC x := fun e => by
    rw [rc_159, kc_159_0, if_neg (by decide), if_neg (by decide), if_neg (by decide), if_pos rfl, e]
    simp only [kc_159_901]
    rfl
  have rM : ∀ {τx : lj_S}, lj_R lm_P 196 [.ref 0] τ = some (.inl none, τx) → lj_R lm_P 187 [.ref 0, .int 3] τ = some (.inl none, τx) := fun e => by
    rw [rm_187, km_187_0, if_neg (by decide), if_neg (by decide), if_neg (by decide), if_pos rfl, e, bv_ok, km_187_308]
  by_cases z2 : (G.getD 0 (0, 0)).1 = 2
  · have e := hv.wh z2
    obtain ⟨y, hy⟩ : ∃ y, y = (G.getD 0 (0, 0)).2 := ⟨_, rfl⟩
    have ea : G.getD 0 (0, 0) = (2, y) := Prod.ext z2 hy.symm
    rw [ea] at e c0
    rw [e] at m1
    obtain ⟨τ2, p1, p2⟩ := bi_one D ry hwk ha h (lf_rf _ _) (lf_rf _ _) (vR_whole σ τ y) (by omega) (by omega) hX 0
    refine ⟨τ2, rM ?_, ?_⟩
    · rw [rm_196, km_196_0, m1.1, bi_ok, if_pos rfl, m1.2, bl_ok, p1, bv_ok]
    · rw [rC rfl, rc_166, kc_166_0, c0.1, bi_ok, if_pos rfl, c0.2, bl_ok]
      exact p2.fin.fin
  · have z2' : ¬ ((G'.getD 0 (0, 0)).1 = 2) := fun q => z2 ((hv.kk (by decide) (by decide)).2 q)
    have d1 := m_one τ (0, 0)
    have d1 : lj_R lm_P 195 [.ref 0, .int 0, .long 0] τ = _ := d1
    have g1 : gwR σ (oneM τ (0, 0)) G G' := hG.cg (fun k j q => ⟨rfl, rfl⟩) (fun k j q => oneM_o τ _ (by omega)) (fun _ _ w => w.cg (fun _ _ _ => rfl) (fun k j q => (oneM_o τ _ (by unfold vqM at q; simp at q; omega)).1))
    have m1' := g1.m1 hGl
    obtain ⟨τn, n1, n2⟩ := bi_one D ry hwk ha h (lf_rf _ _) (lf_rf _ _) (vR_nil σ τ) (by omega) (by omega) hX 0
    have n1 : lj_R lm_P 195 [.ref 0, .int 0, .long 0] τ = some (.inl none, τn) := n1
    have en : oneM τ (0, 0) = τn := by
      rw [d1] at n1
      exact (Prod.mk.inj (Option.some.inj n1)).2
    have nilC : ∀ (x2 x3 x4 x5 : Int32) (x7 : Int64) (x9 : Int32) (X : Value), lj_D lc_P lc_M166 186 [.ref 8, .int as, .int x2, .int x3, .int x4, .int x5, .int 0, .long x7, .retAddr 0, .int x9, X] [] σ = finC (lj_R lc_P 164 [.ref 8, .int 0, .int 0, .long 0, .int as] σ) := fun x2 x3 x4 x5 x7 x9 X => by
      rw [kc_166_186, if_pos rfl, kc_166_198, if_pos rfl, kc_166_220]
      rfl
    by_cases z3 : (G.getD 0 (0, 0)).1 = 3
    · obtain ⟨s, s', s1, s2, e1, e2, se⟩ := hv.st z3
      rw [e1] at c0
      rw [e2] at m1 m1'
      obtain ⟨b1, b2, b3⟩ := sE_sz h.2.1.1 se
      have is : lj_in (Int32.ofNat s) 2600 := ofN_in (by omega) (by omega)
      have is' : lj_in (Int32.ofNat s') 3000 := ofN_in (by omega) (by omega)
      have ns : (Int32.ofNat s).toNatClampNeg = s := lz_onat (by omega)
      have ns' : (Int32.ofNat s').toNatClampNeg = s' := lz_onat (by omega)
      have o4 : (oneM τ (0, 0)).1 4 s' = Int32.ofNat (cS σ s).length := by rw [(oneM_o τ _ (by omega)).1]; exact b2
      have o3 : ∀ j, (oneM τ (0, 0)).1 3 j = τ.1 3 j ∧ (oneM τ (0, 0)).1 2 j = τ.1 2 j := fun j => ⟨(oneM_o τ _ (by omega)).1, (oneM_o τ _ (by omega)).1⟩
      -- from the place where the sign is known
      have main : ∀ (fr : Nat), fr ≤ 1 → fr ≤ (cS σ s).length → ∃ τ1, lj_D lm_P lm_M196 72 [.ref 0, .int (Int32.ofNat s'), .retAddr 0, .retAddr 0, .retAddr 0, .retAddr 0, .retAddr 0, .retAddr 0, .retAddr 0] [.int (Int32.ofNat fr)] (oneM τ (0, 0)) = some (.inl none, τ1) ∧ ocR σ0 τ0 A (fun t => t ≤ X) σ τ1 (lj_D lc_P lc_M166 89 [.ref 8, .int as, .int (Int32.ofNat s), .int (Int32.ofNat (cS σ s).length), .retAddr 0, .retAddr 0, .retAddr 0, .retAddr 0, .retAddr 0, .retAddr 0, .retAddr 0] [.int (Int32.ofNat fr)] σ) := fun fr f1 f2 => by
        obtain ⟨m, hm⟩ : ∃ m, fr + m = (cS σ s).length := ⟨(cS σ s).length - fr, by omega⟩
        have sub : Int32.ofNat (cS σ s).length - Int32.ofNat fr = Int32.ofNat m := lz_ext (by rw [lz_sub (by rw [lz_lit (by omega), lz_lit (by omega)]; omega), lz_lit (by omega), lz_lit (by omega), lz_lit (by omega)]; omega)
        have rC1 : lj_D lc_P lc_M166 89 [.ref 8, .int as, .int (Int32.ofNat s), .int (Int32.ofNat (cS σ s).length), .retAddr 0, .retAddr 0, .retAddr 0, .retAddr 0, .retAddr 0, .retAddr 0, .retAddr 0] [.int (Int32.ofNat fr)] σ = lj_D lc_P lc_M166 124 [.ref 8, .int as, .int (Int32.ofNat s), .int (Int32.ofNat (cS σ s).length), .int (Int32.ofNat fr), .int (Int32.ofNat fr), .int (if 1 ≤ m ∧ m ≤ 18 then 1 else 0), .long 0, .retAddr 0, .int (Int32.ofNat fr), .retAddr 0] [] σ := by
          have q : (if (1 : Int64).toInt ≤ ((Int32.ofNat m).toInt64).toInt ∧ ((Int32.ofNat m).toInt64).toInt ≤ (18 : Int64).toInt then (1 : Int32) else 0) = if 1 ≤ m ∧ m ≤ 18 then 1 else 0 := by
            have t1 : (1 : Int64).toInt = 1 := by decide
            have t18 : (18 : Int64).toInt = 18 := by decide
            rw [t1, t18, Int32.toInt_toInt64, lz_lit (by omega)]
            by_cases z : 1 ≤ m ∧ m ≤ 18
            · rw [if_pos z, if_pos (by omega)]
            · rw [if_neg z, if_neg (by omega)]
          have fin : ∀ y : Int32, y = Int32.ofNat fr → lj_D lc_P lc_M166 101 [.ref 8, .int as, .int (Int32.ofNat s), .int (Int32.ofNat (cS σ s).length), .int (Int32.ofNat fr), .retAddr 0, .retAddr 0, .retAddr 0, .retAddr 0, .retAddr 0, .retAddr 0] [.int y] σ = lj_D lc_P lc_M166 124 [.ref 8, .int as, .int (Int32.ofNat s), .int (Int32.ofNat (cS σ s).length), .int (Int32.ofNat fr), .int (Int32.ofNat fr), .int (if 1 ≤ m ∧ m ≤ 18 then 1 else 0), .long 0, .retAddr 0, .int (Int32.ofNat fr), .retAddr 0] [] σ := fun y hy => by
            rw [hy, kc_166_101, sub, c_isIn, bi_ok, q]
          rw [kc_166_89]
          have ff : fr = 0 ∨ fr = 1 := by omega
          rcases ff with rfl | rfl
          · rw [if_pos (by decide)]; exact fin 0 rfl
          · rw [if_neg (by decide)]; exact fin 1 rfl
        have rM1 : lj_D lm_P lm_M196 72 [.ref 0, .int (Int32.ofNat s'), .retAddr 0, .retAddr 0, .retAddr 0, .retAddr 0, .retAddr 0, .retAddr 0, .retAddr 0] [.int (Int32.ofNat fr)] (oneM τ (0, 0)) = lj_D lm_P lm_M196 106 [.ref 0, .int (Int32.ofNat s'), .int (Int32.ofNat fr), .int (Int32.ofNat m), .int (if 1 ≤ m ∧ m ≤ 18 then 1 else 0), .long 0, .retAddr 0, .int 0, .retAddr 0] [] (oneM τ (0, 0)) := by
          rw [km_196_72, if_pos is', ns', o4, sub]
          by_cases y1 : Int32.ofNat m < 1
          · have : m < 1 := by rw [lz_lt, lz_lit (by omega)] at y1; have y1 : (m : Int) < 1 := y1; omega
            rw [if_pos y1, km_196_97, km_196_98, if_neg (by omega)]
          · have : ¬ m < 1 := fun w => y1 (by rw [lz_lt, lz_lit (by omega)]; show (m : Int) < 1; omega)
            rw [if_neg y1]
            by_cases y2 : (18 : Int32) < Int32.ofNat m
            · have : 18 < m := by rw [lz_lt, lz_lit (by omega)] at y2; have y2 : (18 : Int) < m := y2; omega
              rw [if_pos y2, km_196_97, km_196_98, if_neg (by omega)]
            · have : ¬ 18 < m := fun w => y2 (by rw [lz_lt, lz_lit (by omega)]; show (18 : Int) < m; omega)
              rw [if_neg y2, km_196_98, if_pos (by omega)]
        by_cases gd : 1 ≤ m ∧ m ≤ 18
        · rw [if_pos gd] at rC1 rM1
          obtain ⟨g, v1, v2, x9, y9, X', Z', w1, w2, w3⟩ := tn_loop h.2.1.1 se s1 s2 hm f1 as (Int32.ofNat fr) m 0 0 (.retAddr 0) (.retAddr 0) (by omega)
          have w3 := w3 (oneM τ (0, 0)) o3
          have w3 : lj_D lm_P lm_M196 106 [.ref 0, .int (Int32.ofNat s'), .int (Int32.ofNat fr), .int (Int32.ofNat m), .int 1, .long 0, .retAddr 0, .int 0, .retAddr 0] [] (oneM τ (0, 0)) = _ := w3
          rw [Nat.add_zero] at w2
          rw [rC1, rM1, w2, w3]
          rcases w1 with rfl | ⟨rfl, rfl⟩
          · refine ⟨oneM τ (0, 0), by rw [km_196_164, if_pos rfl, km_196_186], ?_⟩
            rw [nilC, en]
            exact n2.fin
          · have hb : MB σ0 τ0 n np p r FP ρ A MO LA σ (oneM τ (0, 0)) := h.sc (lf_rf _ _) (oneM_z τ _)
            have ff : fr = 0 ∨ fr = 1 := by omega
            rcases ff with rfl | rfl
            · obtain ⟨τ2, p1, p2⟩ := bi_one D ry hwk ha hb (lf_rf _ _) (oneM_b τ _) (vR_whole _ _ v1) (by omega) (by omega) hX 0
              refine ⟨τ2, ?_, ?_⟩
              · rw [km_196_164, if_neg (by decide), if_pos (by decide), km_196_183, p1, bv_ok, km_196_186]
              · rw [kc_166_186, if_neg (by decide), kc_166_198, if_neg (by decide), if_pos (by decide), kc_166_220]
                exact p2.fin
            · obtain ⟨τ2, p1, p2⟩ := bi_one D ry hwk ha hb (lf_rf _ _) (oneM_b τ _) (vR_whole _ _ (-v1)) (by omega) (by omega) hX 0
              refine ⟨τ2, ?_, ?_⟩
              · rw [km_196_164, if_neg (by decide), if_neg (by decide), km_196_183, p1, bv_ok, km_196_186]
              · rw [kc_166_186, if_neg (by decide), kc_166_198, if_neg (by decide), if_neg (by decide), kc_166_220]
                exact p2.fin
        · rw [if_neg gd] at rC1 rM1
          refine ⟨oneM τ (0, 0), ?_, ?_⟩
          · rw [rM1, km_196_106]
            by_cases y : Int32.ofNat m ≤ 0
            · rw [if_pos y, km_196_164, if_pos rfl, km_196_186]
            · rw [if_neg y, if_pos rfl, km_196_164, if_pos rfl, km_196_186]
          · have : lj_D lc_P lc_M166 124 [.ref 8, .int as, .int (Int32.ofNat s), .int (Int32.ofNat (cS σ s).length), .int (Int32.ofNat fr), .int (Int32.ofNat fr), .int 0, .long 0, .retAddr 0, .int (Int32.ofNat fr), .retAddr 0] [] σ = finC (lj_R lc_P 164 [.ref 8, .int 0, .int 0, .long 0, .int as] σ) := by
              rw [kc_166_124]
              by_cases y : Int32.ofNat (cS σ s).length ≤ Int32.ofNat fr
              · rw [if_pos y, nilC]
              · rw [if_neg y, if_pos rfl, nilC]
            rw [rC1, this, en]
            exact n2.fin
      have n3 : ¬ ((3 : Int32) = 2) := by decide
      have headM : lj_R lm_P 196 [.ref 0] τ = (if Int32.ofNat (cS σ s).length ≤ 0 then lj_D lm_P lm_M196 71 [.ref 0, .int (Int32.ofNat s'), .retAddr 0, .retAddr 0, .retAddr 0, .retAddr 0, .retAddr 0, .retAddr 0, .retAddr 0] [] (oneM τ (0, 0)) else (if lj_in ((oneM τ (0, 0)).1 3 s') 40000 then (if (oneM τ (0, 0)).1 2 ((oneM τ (0, 0)).1 3 s').toNatClampNeg = 45 then lj_D lm_P lm_M196 72 [.ref 0, .int (Int32.ofNat s'), .retAddr 0, .retAddr 0, .retAddr 0, .retAddr 0, .retAddr 0, .retAddr 0, .retAddr 0] [.int 1] (oneM τ (0, 0)) else lj_D lm_P lm_M196 71 [.ref 0, .int (Int32.ofNat s'), .retAddr 0, .retAddr 0, .retAddr 0, .retAddr 0, .retAddr 0, .retAddr 0, .retAddr 0] [] (oneM τ (0, 0))) else none)) := by
        rw [rm_196, km_196_0, m1.1, bi_ok, if_neg n3, d1, bv_ok, m1'.1, bi_ok, if_pos rfl, m1'.2, bl_ok]
        simp only [i64_32, if_pos is', ns', o4]
      have headC : lj_R lc_P 166 [.ref 8, .int as] σ = lj_D lc_P lc_M166 62 [.ref 8, .int as, .int (Int32.ofNat s), .retAddr 0, .retAddr 0, .retAddr 0, .retAddr 0, .retAddr 0, .retAddr 0, .retAddr 0, .retAddr 0] [.int (Int32.ofNat (cS σ s).length)] σ := by
        rw [rc_166, kc_166_0, c0.1, bi_ok, if_neg n3, c0.1, bi_ok, if_pos rfl, c0.2, bl_ok]
        simp only [i64_32]
        rw [kc_166_41, if_pos (by rw [lz_le, lz_lit (by omega)]; show (0 : Int) ≤ _; omega), if_pos is, ns, b1]
      by_cases n0 : (cS σ s).length = 0
      · obtain ⟨τ1, p1, p2⟩ := main 0 (by omega) (by omega)
        refine ⟨τ1, rM ?_, ?_⟩
        · rw [headM, if_pos (by rw [n0]; decide), km_196_71]
          exact p1
        · rw [rC rfl, headC, kc_166_62, if_pos (by rw [n0]; decide), kc_166_88]
          exact p2.fin
      · obtain ⟨b, _, y1, y2, y3, y4⟩ := x_byt h.2.1.1 se (i := 0) (by omega)
        obtain ⟨r1, r2⟩ := by_255 y1
        have y2 : lj_R lc_P 37 [.ref 3, .int (Int32.ofNat s), .int 0] σ = _ := y2
        have ad : τ.1 3 s' + Int32.ofNat 0 = τ.1 3 s' := Int32.add_zero _
        rw [ad] at y3 y4
        have l0 : ¬ (Int32.ofNat (cS σ s).length ≤ 0) := by rw [lz_le, lz_lit (by omega)]; show ¬ (_ ≤ (0 : Int)); omega
        have t45 : (45 : Int32).toInt = 45 := by decide
        by_cases e45 : b = 45
        · have e45' : b &&& 255 = 45 := lz_ext (by rw [e45] at r2; rw [e45, t45]; rw [t45] at r2; omega)
          obtain ⟨τ1, p1, p2⟩ := main 1 (by omega) (by omega)
          refine ⟨τ1, rM ?_, ?_⟩
          · rw [headM, if_neg l0, (o3 s').1, if_pos y3, (o3 _).2, if_pos (by rw [y4]; exact e45)]
            exact p1
          · rw [rC rfl, headC, kc_166_62, if_neg l0, y2, bi_ok, if_pos e45']
            exact p2.fin
        · have e45' : ¬ (b &&& 255 = 45) := fun w => by
            have := congrArg Int32.toInt w
            rw [t45] at this
            exact e45 (lz_ext (by rw [t45]; omega))
          obtain ⟨τ1, p1, p2⟩ := main 0 (by omega) (by omega)
          refine ⟨τ1, rM ?_, ?_⟩
          · rw [headM, if_neg l0, (o3 s').1, if_pos y3, (o3 _).2, if_neg (by rw [y4]; exact e45), km_196_71]
            exact p1
          · rw [rC rfl, headC, kc_166_62, if_neg l0, y2, bi_ok, if_neg e45', kc_166_88]
            exact p2.fin
    · have z3' : ¬ ((G'.getD 0 (0, 0)).1 = 3) := fun q => z3 ((hv.kk (by decide) (by decide)).2 q)
      refine ⟨oneM τ (0, 0), rM ?_, ?_⟩
      · rw [rm_196, km_196_0, m1.1, bi_ok, if_neg z2', d1, bv_ok, m1'.1, bi_ok, if_neg z3', km_196_186]
      · rw [rC rfl, rc_166, kc_166_0, c0.1, bi_ok, if_neg z2, c0.1, bi_ok, if_neg z3, kc_166_41, if_neg (by decide), kc_166_62, if_pos (by decide), kc_166_88, kc_166_89, if_pos rfl, kc_166_101, c_isIn, bi_ok, kc_166_124, if_pos (by decide)]
        have q : (if (1 : Int64).toInt ≤ (((0 : Int32) - 0).toInt64).toInt ∧ (((0 : Int32) - 0).toInt64).toInt ≤ (18 : Int64).toInt then (1 : Int32) else 0) = 0 := by decide
        rw [q, nilC, en]
        exact n2.fin.fin
