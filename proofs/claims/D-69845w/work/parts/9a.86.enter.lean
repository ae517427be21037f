/-! a function object is entered, or the stack is full -/
theorem MB.ery {σ0 τ0 σ τ : lj_S} {n np p : Nat} {r : List Nat} {FP : Nat → List kF} {ρ : Nat → Nat} {A MO LA : List Nat} (h : MB σ0 τ0 n np p r FP ρ A MO LA σ τ) (ry : ryR σ τ) {σ' τ' : lj_S} (e : raR σ τ σ' τ') : eoR σ0 τ0 n np p r FP ρ A MO LA σ' τ' := by
  obtain ⟨f, g, e1, e2, e3, e4⟩ := e
  have h' := h.st f g e2 e1
  have h'' := h'
  obtain ⟨g1, g2, g4, g5⟩ := ry
  have s44 : σ'.2 8 44 = τ'.2 0 145 := by rw [(f 8 44 rfl).2, (g 0 145 rfl).2]; exact g5
  refine ⟨by rw [(f 8 46 rfl).1]; exact g1, by rw [(f 8 45 rfl).1, (g 0 144 rfl).1]; exact g4, s44, ?_⟩
  rcases e4 with ⟨w1, w2⟩ | ⟨w1, w2, w3⟩
  · exact Or.inl ⟨w1, w2, h'.q s44, h'.1, h'.2.2.1, h'.2.2.2.2.2.2.2.2.2.2.2.2.2⟩
  · obtain ⟨_, _, _, _, _, _, h7, h8, _⟩ := h'
    obtain ⟨ce, me, mq, pa⟩ := h8 p (h7.2.2.2.2.2.1 p List.mem_cons_self) (by rw [h7.2.2.1.2]; decide)
    refine Or.inr ⟨w1, by rw [w2]; exact g2, e3, w3, me, ?_, fun _ _ _ _ => pa.2.2.2.2.1⟩
    rw [← pa.2.2.2.2.1, put_id]
    exact h''
theorem raR.wk {σ τ σ' τ' : lj_S} (e : raR σ τ σ' τ') {FP : Nat → List kF} {ch A : List Nat} (hw : wkR FP ch A σ) : wkR FP ch A σ' := ⟨fun i hi => by rw [(e.1 102 i rfl).1]; exact hw.1 i hi, hw.2⟩
/-- the component throws, the model keeps the error: an outcome -/
theorem MB.eoc {σ0 τ0 σ τ : lj_S} {n np p : Nat} {r : List Nat} {FP : Nat → List kF} {ρ : Nat → Nat} {A MO LA : List Nat} (h : MB σ0 τ0 n np p r FP ρ A MO LA σ τ) (ry : ryR σ τ) {σ' τ' : lj_S} (e : raR σ τ σ' τ') (hw : wkR FP (p :: r) A σ) {O : Nat → Prop} (hO : O (thM FP (p :: r) MO LA + 1)) {σ1 : lj_S} : ocR σ0 τ0 A O σ1 τ' (some (.inr 2, σ')) := Or.inr (Or.inl ⟨σ', τ', n, np, p, r, FP, ρ, MO, LA, rfl, fun _ => rfl, h.ery ry e, hO, e.wk hw⟩)
theorem x_enter {σ0 τ0 σ τ : lj_S} {n np p : Nat} {r : List Nat} {FP : Nat → List kF} {ρ : Nat → Nat} {A MO LA : List Nat} (h : MB σ0 τ0 n np p r FP ρ A MO LA σ τ) {Fn : Nat} (fx : FR σ0 τ0 Fn) (ry : ryR σ τ) (hwk : wkR FP (p :: r) A σ) {o f : Nat} (ho : obA σ τ o 5) (hf : f < 51) (h62 : σ.1 62 o = Int32.ofNat f) {as line : Int32} (ha : awR σ0 (FP p) as (τ.1 0 130) (τ.1 0 131)) (hln : τ.1 0 132 = line) {G G' : List vT} (hG : gwR σ τ G G') (hGl : G.length ≤ 49) : ∃ τ1, lj_R lm_P 186 [.ref 0, .int (Int32.ofNat o)] τ = some (.inl none, τ1) ∧ ocR σ0 τ0 A (fun t => t ≤ thM FP (p :: r) MO LA + 5001) σ τ1 (lj_R lc_P 131 [.ref 8, .int (Int32.ofNat f), .int (Int32.ofNat o), .int as, .int line] σ) := by
  have h7 := h.2.2.2.2.2.2.1
  have hp : p ≤ np := h7.2.2.2.2.2.1 p List.mem_cons_self
  have np25 := h7.1.2.2
  have hpr : p ∉ r := (List.nodup_cons.1 h7.2.2.2.2.1).1
  obtain ⟨ce, me, mq, pa⟩ := h.2.2.2.2.2.2.2.1 p hp (by rw [h7.2.2.1.2]; decide)
  obtain ⟨p1, ⟨p2, p3, p4, p5⟩, p6, p7, p8, p9, p10, p11⟩ := pa
  have i111 : lj_in (τ.1 0 111) 26 := by rw [h7.2.1.2]; exact ofN_in (by omega) (by omega)
  have n111 : (τ.1 0 111).toNatClampNeg = p := by rw [h7.2.1.2]; exact lz_onat (by omega)
  have i7 : lj_in (σ.1 8 7) 26 := by rw [h7.2.1.1]; exact ofN_in (by omega) (by omega)
  have n7 : (σ.1 8 7).toNatClampNeg = p := by rw [h7.2.1.1]; exact lz_onat (by omega)
  by_cases hd : (FP p).length = 20
  · obtain ⟨σ', τ', e1, e2, e3⟩ := cm_wrong h.2.1 line (e := 13) (by decide)
    have e1 : lj_br (lj_R lc_P 133 [.ref 8, .int line, .ref 1011] σ) (fun y s => (bif Nat.blt y 2000 then lj_up y s else none)) lj_up = some (.inr 2, σ') := e1
    have e2 : lj_R lm_P 142 [.ref 0, .int 13, .int line] τ = some (.inl none, τ') := e2
    have c65 : τ.1 65 (τ.1 0 111).toNatClampNeg = 20 := by rw [n111, p11, hd]; rfl
    have c90 : σ.1 90 (σ.1 8 7).toNatClampNeg = 20 := by rw [n7, p7, hd]; rfl
    have run : lj_R lc_P 131 [.ref 8, .int (Int32.ofNat f), .int (Int32.ofNat o), .int as, .int line] σ = some (.inr 2, σ') := by
      rw [rc_131, kc_131_0, rc_132, kc_132_0, if_pos i7, if_pos c90, e1, bv_th]
    refine ⟨τ', by rw [rm_186, km_186_0, if_pos i111, if_pos c65, hln, e2, bv_ok], ?_⟩
    rw [run]
    exact h.eoc (O := fun t => t ≤ thM FP (p :: r) MO LA + 5001) ry e3 hwk (Nat.add_le_add_left (by decide) _)
  · have hl : (FP p).length < 20 := by omega
    obtain ⟨x1, x2, x3, x4⟩ := fx
    obtain ⟨⟨N, N2, gN⟩, y29, y28, _, _, _, y58⟩ := h.2.2.2.2.2.1 o f ho hf h62
    have hfn : f < Fn := by
      unfold lv at y58
      rw [x1, lz_lit (by omega)] at y58
      omega
    obtain ⟨σ', τ', ρ', ce', d', e1, e2, e3, e4, e5⟩ := h.ent ⟨x1, x2, x3, x4⟩ rfl hl hf hfn (Or.inr ⟨ho, h62⟩) gN y29 y28 line ha hG hGl
    have on : o ≤ 2000 := by
      have := ho.2.2.1
      have h2 := h.2.2.2.1.2.1
      have h3 := h.2.2.2.1.1
      omega
    have io : lj_in (Int32.ofNat o) 2002 := ofN_in (by omega) (by omega)
    have no : (Int32.ofNat o).toNatClampNeg = o := lz_onat (by omega)
    have c65 : ¬ (τ.1 65 (τ.1 0 111).toNatClampNeg = 20) := by
      rw [n111, p11]
      intro z
      exact hd ((ofN_eq (c := 20) (by omega) (by omega)).1 z)
    have m43 : τ.1 43 o = Int32.ofNat f := by
      obtain ⟨o1, o2, o3, o4, o5⟩ := ho
      obtain ⟨f', q1, q2, q3⟩ := (h.2.2.2.2.1.2 o o1 (by rw [h.2.2.2.1.2.1] at o3; omega)).2.2.1 o4
      have : f' = f := (ofN_eq (by omega) (by omega)).1 (by rw [← q2, ← h62])
      rw [q3, this]
    refine ⟨lj_put τ' 0 129 0, by rw [rm_186, km_186_0, if_pos i111, if_neg c65, if_pos io, no, m43, e2, bv_ok], Or.inl ⟨σ', lj_put τ' 0 129 0, n, np, p, r, _, MO, LA, e1, fun _ => rfl, Or.inl ⟨ρ', _, FP p, fpT_o _ _ _, rfl, Nat.succ_ne_zero N, rfl, e3.t129 0, ?_⟩, ?_, ⟨fun i hi => by rw [(e4 102 i (by omega) (by omega) (by omega)).1]; exact hwk.1 i hi, ?_⟩, fun i _ => (e4 103 i (by omega) (by omega) (by omega)).1⟩⟩
    · obtain ⟨g1, g2, g4, g5⟩ := ry
      have m0 : ∀ j, j ≠ 96 → j ≠ 129 → (lj_put τ' 0 129 0).1 0 j = τ.1 0 j := fun j z1 z2 => by rw [lj_put_1, if_neg (by omega), (e5 0 j (by omega) (by omega) (by omega) (by omega)).1]
      exact ⟨by rw [(e4 8 46 (by omega) (by omega) (by omega)).1]; exact g1, by rw [m0 143 (by omega) (by omega)]; exact g2, (by simp [lj_put_1, lj_putL_1]), by rw [(e4 8 45 (by omega) (by omega) (by omega)).1, m0 144 (by omega) (by omega)]; exact g4, by rw [(e4 8 44 (by omega) (by omega) (by omega)).2]; show σ.2 8 44 = τ'.2 0 145; rw [(e5 0 145 (by omega) (by omega) (by omega) (by omega)).2]; exact g5⟩
    · have x1 := thM_c FP hpr (enF σ0 τ0 f o (N + 1) ce' d') MO LA
      rw [thF_0 (F := enF σ0 τ0 f o (N + 1) ce' d') rfl] at x1
      have x2 : kN (enF σ0 τ0 f o (N + 1) ce' d') = N + 1 := rfl
      show thM _ _ _ _ ≤ _
      omega
    · refine ⟨?_, pfI_o (fpT_ne FP hpr _) hwk.2.2⟩
      rw [gX_p FP hpr]
      have : gL p (enF σ0 τ0 f o (N + 1) ce' d' :: FP p) = gL p (FP p) := by
        show (if (0 : Nat) = 2 then _ else gL p (FP p)) = _
        rw [if_neg (by decide)]
      rw [this]
      exact hwk.2.1
