/-! what is built in: a protected call -/
theorem c_frm {σ : lj_S} {p l : Nat} (x as line : Int32) (h7 : σ.1 8 7 = Int32.ofNat p) (hp : p < 26) (h90 : σ.1 90 p = Int32.ofNat l) (hl : l < 20) : ∃ σ', lj_R lc_P 132 [.ref 8, .int x, .int as, .int line] σ = some (.inl none, σ') ∧ (σ'.1 8 34 = Int32.ofNat (20 * p + l) ∧ σ'.1 90 p = Int32.ofNat (l + 1) ∧ σ'.1 91 (20 * p + l) = x ∧ σ'.1 98 (20 * p + l) = as ∧ σ'.1 99 (20 * p + l) = line ∧ σ'.1 95 (20 * p + l) = σ.1 8 8) ∧ ∀ k j, ¬ (k = 8 ∧ j = 34) → ¬ (k = 90 ∧ j = p) → ¬ ((k = 91 ∨ k = 98 ∨ k = 99 ∨ k = 95) ∧ j = 20 * p + l) → σ'.1 k j = σ.1 k j ∧ σ'.2 k j = σ.2 k j := by
  have i7 : lj_in (σ.1 8 7) 26 := by rw [h7]; exact ofN_in (by omega) (by omega)
  have n7 : (σ.1 8 7).toNatClampNeg = p := by rw [h7]; exact lz_onat (by omega)
  have ne : σ.1 90 (σ.1 8 7).toNatClampNeg ≠ 20 := by
    rw [n7, h90]
    intro z
    have := (ofN_eq (c := 20) (by omega) (by omega)).1 z
    omega
  have e2 : Int32.ofNat p * 20 + Int32.ofNat l = Int32.ofNat (20 * p + l) := by
    rw [show (20 : Int32) = Int32.ofNat 20 from rfl, ← Int32.ofNat_mul, ← Int32.ofNat_add, Nat.mul_comm]
  have ii : lj_in (Int32.ofNat (20 * p + l)) 520 := ofN_in (by omega) (by omega)
  have ni : (Int32.ofNat (20 * p + l)).toNatClampNeg = 20 * p + l := lz_onat (by omega)
  have e90 : σ.1 90 (σ.1 8 7).toNatClampNeg = Int32.ofNat l := by rw [n7]; exact h90
  refine ⟨lj_put (lj_put (lj_put (lj_put (lj_put (lj_put σ 8 34 (Int32.ofNat (20 * p + l))) 90 p (Int32.ofNat (l + 1))) 91 (20 * p + l) x) 98 (20 * p + l) as) 99 (20 * p + l) line) 95 (20 * p + l) (σ.1 8 8), ?_, ⟨(by simp [lj_put_1, lj_putL_1]), (by simp [lj_put_1, lj_putL_1]), (by simp [lj_put_1, lj_putL_1]), (by simp [lj_put_1, lj_putL_1]), (by simp [lj_put_1, lj_putL_1]), (by simp [lj_put_1, lj_putL_1])⟩, fun k j z1 z2 z3 => ⟨by rw [lj_put_1, if_neg (by omega), lj_put_1, if_neg (by omega), lj_put_1, if_neg (by omega), lj_put_1, if_neg (by omega), lj_put_1, if_neg (by omega), lj_put_1, if_neg (by omega)], rfl⟩⟩
  rw [rc_132, kc_132_0, if_pos i7, if_neg ne, if_pos i7, e90, rc_130, kc_130_0, bi_ok, if_pos i7, if_pos i7]
  rw [show σ.1 8 7 * 20 + Int32.ofNat l = Int32.ofNat (20 * p + l) by rw [h7]; exact e2]
  rw [if_pos ii, if_pos ii, if_pos ii, if_pos ii, ni, n7, h90, lz_osucc]
/-- the stack is full: both err -/
theorem x_full {σ τ : lj_S} (hs : sM σ τ) {p : Nat} (x as line : Int32) (h7 : σ.1 8 7 = Int32.ofNat p) (hp : p < 26) (h90 : σ.1 90 p = 20) : ∃ σ' τ', lj_R lc_P 132 [.ref 8, .int x, .int as, .int line] σ = some (.inr 2, σ') ∧ lj_R lm_P 142 [.ref 0, .int 13, .int line] τ = some (.inl none, τ') ∧ raR σ τ σ' τ' := by
  obtain ⟨σ', τ', e1, e2, e3⟩ := cm_wrong hs line (e := 13) (by decide)
  have e1 : lj_br (lj_R lc_P 133 [.ref 8, .int line, .ref 1011] σ) (fun y s => (bif Nat.blt y 2000 then lj_up y s else none)) lj_up = some (.inr 2, σ') := e1
  have i7 : lj_in (σ.1 8 7) 26 := by rw [h7]; exact ofN_in (by omega) (by omega)
  have n7 : (σ.1 8 7).toNatClampNeg = p := by rw [h7]; exact lz_onat (by omega)
  exact ⟨σ', τ', by rw [rc_132, kc_132_0, if_pos i7, if_pos (by rw [n7]; exact h90), e1], e2, e3⟩
theorem bi_14 {σ0 τ0 σ τ : lj_S} {n np p : Nat} {r : List Nat} {FP : Nat → List kF} {ρ : Nat → Nat} {A MO LA : List Nat} {M k : Nat} (C : k ≠ 0 → CAL σ0 τ0 M (k - 1)) (h : MB σ0 τ0 n np p r FP ρ A MO LA σ τ) (ry : ryR σ τ) (hwk : wkR FP (p :: r) A σ) {as line : Int32} (ha : awR σ0 (FP p) as (τ.1 0 130) (τ.1 0 131)) (hln : τ.1 0 132 = line) {G G' : List vT} (hG : gwR σ τ G G') (hGl : G.length ≤ 49) (hB : gvB k p r FP σ 14 G) (hM : thM FP (p :: r) MO LA ≤ M) (hT : thM FP (p :: r) MO LA + 5001 ≤ TH) : ∃ τ1, lj_R lm_P 187 [.ref 0, .int 14] τ = some (.inl none, τ1) ∧ ocR σ0 τ0 A (fun t => t ≤ thM FP (p :: r) MO LA + 5001) σ τ1 (lj_R lc_P 159 [.ref 8, .int 14, .int as, .int line] σ) := by
  have h7 := h.2.2.2.2.2.2.1
  have hp : p ≤ np := h7.2.2.2.2.2.1 p List.mem_cons_self
  have np25 := h7.1.2.2
  have hpr : p ∉ r := (List.nodup_cons.1 h7.2.2.2.2.1).1
  obtain ⟨ce, me, mq, hpa⟩ := h.2.2.2.2.2.2.2.1 p hp (by rw [h7.2.2.1.2]; decide)
  obtain ⟨p1, ⟨p2, p3, p4, p5⟩, p6, p7, p8, p9, p10, p11⟩ := hpa
  rw [if_pos rfl] at p6
  have c0 := hG.c0 hGl
  obtain ⟨σ1, d1, d2, d3⟩ := c_dropGiven hG.1 (by omega)
  have l1 : lf szC σ σ1 := d3.mo (fun k j q => by unfold szC at q; unfold gsC; simp at q ⊢; omega)
  have b1 : lf bfC σ σ1 := d3.mo (fun k j q => by unfold bfC at q; unfold gsC; simp at q ⊢; omega)
  have h1 := h.sc l1 (lf_rf szM τ)
  have s7 : σ1.1 8 7 = Int32.ofNat p := by rw [(d3 8 7 rfl).1]; exact h7.2.1.1
  have s90 : σ1.1 90 p = Int32.ofNat (FP p).length := by rw [(d3 90 p rfl).1]; exact p7
  have i111 : lj_in (τ.1 0 111) 26 := by rw [h7.2.1.2]; exact ofN_in (by omega) (by omega)
  have n111 : (τ.1 0 111).toNatClampNeg = p := by rw [h7.2.1.2]; exact lz_onat (by omega)
  have rM : ∀ {τx : lj_S}, lj_R lm_P 203 [.ref 0] τ = some (.inl none, τx) → lj_R lm_P 187 [.ref 0, .int 14] τ = some (.inl none, τx) := fun e => by
    rw [rm_187, km_187_0, if_neg (by decide), if_neg (by decide), if_neg (by decide), if_neg (by decide), if_neg (by decide), if_neg (by decide), if_neg (by decide), if_neg (by decide), if_neg (by decide), if_neg (by decide), if_neg (by decide), if_neg (by decide), if_neg (by decide), if_neg (by decide), if_pos rfl, e, bv_ok, km_187_308]
  by_cases full : (FP p).length = 20
  · obtain ⟨σ', τ', e1, e2, e3⟩ := x_full h1.2.1 1 as line s7 (by omega) (by rw [s90, full]; rfl)
    refine ⟨τ', rM ?_, ?_⟩
    · rw [rm_203, km_203_0, if_pos i111, if_pos (by rw [n111, p11, full]; rfl), hln, e2, bv_ok]
    · rw [rc_159, kc_159_0, if_neg (by decide), if_neg (by decide), if_neg (by decide), if_neg (by decide), if_neg (by decide), if_neg (by decide), if_neg (by decide), if_neg (by decide), if_neg (by decide), if_neg (by decide), if_neg (by decide), if_neg (by decide), if_neg (by decide), if_neg (by decide), if_pos rfl, c0.1, bi_ok, c0.2, bl_ok, d1, bv_ok, e1, bv_th]
      exact bt_er ry hwk h1 b1 (lf_rf _ _) e3 (Nat.add_le_add_left (by decide) _)
  · have hl : (FP p).length < 20 := by omega
    obtain ⟨L, hL⟩ : ∃ L, L = FP p := ⟨_, rfl⟩
    rw [← hL] at s90 hl p7 p10 p11 full
    obtain ⟨σ2, e1, ⟨e34, e90, e91, e98, e99, e95⟩, e2⟩ := c_frm 1 as line s7 (by omega) s90 hl
    have e62 : τ.1 62 (τ.1 0 111).toNatClampNeg = Int32.ofNat L.length := by rw [n111]; exact p10
    have e65 : τ.1 65 (τ.1 0 111).toNatClampNeg = Int32.ofNat L.length := by rw [n111]; exact p11
    have n65 : ¬ (τ.1 65 (τ.1 0 111).toNatClampNeg = 20) := fun z => by
      rw [e65] at z
      exact full ((ofN_eq (c := 20) (by omega) (by omega)).1 z)
    have ej : 48 * (τ.1 0 111) + τ.1 62 (τ.1 0 111).toNatClampNeg = Int32.ofNat (48 * p + L.length) := by rw [e62, h7.2.1.2, show (48 : Int32) = Int32.ofNat 48 from rfl, ← Int32.ofNat_mul, ← Int32.ofNat_add]
    have ij : lj_in (Int32.ofNat (48 * p + L.length)) 1248 := ofN_in (by omega) (by omega)
    have nj : (Int32.ofNat (48 * p + L.length)).toNatClampNeg = (48 * p + L.length) := lz_onat (by omega)
    obtain ⟨τa, hτa⟩ : ∃ τa, τa = lj_put (lj_put (lj_put (lj_put (lj_put (lj_put (lj_put τ 62 p (Int32.ofNat (L.length + 1))) 65 p (Int32.ofNat (L.length + 1))) 74 (48 * p + L.length) 1) 78 (48 * p + L.length) (τ.1 0 130)) 79 (48 * p + L.length) (τ.1 0 131)) 80 (48 * p + L.length) (τ.1 63 p)) 81 (48 * p + L.length) (τ.1 64 p) := ⟨_, rfl⟩
    have oa : ∀ k j, ¬ ((k = 62 ∨ k = 65) ∧ j = p) → ¬ ((k = 74 ∨ 78 ≤ k ∧ k ≤ 81) ∧ j = (48 * p + L.length)) → τa.1 k j = τ.1 k j ∧ τa.2 k j = τ.2 k j := fun k j z1 z2 => by
      rw [hτa]
      exact ⟨by rw [lj_put_1, if_neg (by omega), lj_put_1, if_neg (by omega), lj_put_1, if_neg (by omega), lj_put_1, if_neg (by omega), lj_put_1, if_neg (by omega), lj_put_1, if_neg (by omega), lj_put_1, if_neg (by omega)], rfl⟩
    have gva : gvM τa G' := ⟨by unfold lv; rw [(oa 0 137 (by omega) (by omega)).1]; exact hG.2.1.1, fun j hj => by rw [(oa 88 j (by omega) (by omega)).1, (oa 89 j (by omega) (by omega)).2]; exact hG.2.1.2 j hj⟩
    obtain ⟨τb, f1, f2, f3, f4, f5⟩ := m_shift gva (by rw [← hG.2.2.1]; omega)
    obtain ⟨τ2, hτ2⟩ : ∃ τ2, τ2 = lj_put (lj_put τb 0 130 0) 0 131 (-1) := ⟨_, rfl⟩
    have o2 : ∀ k j, ¬ (k = 0 ∧ (j = 130 ∨ j = 131)) → τ2.1 k j = τb.1 k j ∧ τ2.2 k j = τb.2 k j := fun k j z => by
      rw [hτ2]
      exact ⟨by rw [lj_put_1, if_neg (by omega), lj_put_1, if_neg (by omega)], rfl⟩
    have ob : ∀ k j, ¬ (k = 88 ∨ k = 89 ∨ k = 0 ∧ (j = 129 ∨ j = 130 ∨ j = 131 ∨ j = 133 ∨ j = 134 ∨ j = 137)) → τ2.1 k j = τa.1 k j ∧ τ2.2 k j = τa.2 k j := fun k j z => by
      obtain ⟨u1, u2⟩ := o2 k j (by omega)
      obtain ⟨v1, v2⟩ := f3 k j (by unfold shM; simp; omega)
      exact ⟨u1.trans v1, u2.trans v2⟩
    have mr : lj_R lm_P 203 [.ref 0] τ = some (.inl none, τ2) := by
      rw [rm_203, km_203_0, if_pos i111, if_neg n65, if_pos i111, if_pos i111, if_pos i111, if_pos i111, if_pos i111, ej, if_pos ij, if_pos ij, if_pos ij, if_pos i111, if_pos ij, if_pos i111, if_pos ij, n111, nj, p10, p11, lz_osucc, ← hτa, f1, bv_ok, hτ2]
    obtain ⟨F, hFd⟩ : ∃ F : kF, F = (1, 0, (0, 0, 0, [], [], 0), 0, 0, ce, 0) := ⟨_, rfl⟩
    have kSF : kS F = 1 := by rw [hFd]
    have kCF : kC F = ce := by rw [hFd]
    have fc : ∀ k j, ¬ (k = 8 ∧ j = 34 ∨ k = 90 ∧ j = p ∨ 91 ≤ k ∧ k ≤ 102 ∧ j = (20 * p + L.length) ∨ szC k j = true) → σ2.1 k j = σ.1 k j ∧ σ2.2 k j = σ.2 k j := fun k j z => by
      obtain ⟨u1, u2⟩ := e2 k j (fun y => z (Or.inl y)) (fun y => z (Or.inr (Or.inl y))) (fun y => z (Or.inr (Or.inr (Or.inl ⟨by omega, by omega, y.2⟩))))
      have sz : szC k j = false := by
        cases w : szC k j with
        | false => rfl
        | true => exact absurd (Or.inr (Or.inr (Or.inr w))) z
      obtain ⟨v1, v2⟩ := l1 k j sz
      exact ⟨u1.trans v1, u2.trans v2⟩
    have gm : ∀ k j, ¬ ((k = 62 ∨ k = 65) ∧ j = p ∨ 74 ≤ k ∧ k ≤ 86 ∧ j = (48 * p + L.length) ∨ szM k j = true) → τ2.1 k j = τ.1 k j ∧ τ2.2 k j = τ.2 k j := fun k j z => by
      have sz : szM k j = false := by
        cases w : szM k j with
        | false => rfl
        | true => exact absurd (Or.inr (Or.inr w)) z
      obtain ⟨u1, u2⟩ := ob k j (by unfold szM at sz; simp at sz; omega)
      obtain ⟨v1, v2⟩ := oa k j (fun y => z (Or.inl y)) (fun y => z (Or.inr (Or.inl ⟨by omega, by omega, y.2⟩)))
      exact ⟨u1.trans v1, u2.trans v2⟩
    have vC : ∀ k j, vqC k j = true → σ2.1 k j = σ.1 k j := fun k j q => (fc k j (fun z => by
      rcases z with z | z | z | z
      · unfold vqC at q; simp at q; omega
      · unfold vqC at q; simp at q; omega
      · unfold vqC at q; simp at q; omega
      · unfold vqC at q; unfold szC at z; simp at q z; omega)).1
    have vM : ∀ k j, vqM k j = true → τ2.1 k j = τ.1 k j := fun k j q => (gm k j (fun z => by
      rcases z with z | z | z
      · unfold vqM at q; simp at q; omega
      · unfold vqM at q; simp at q; omega
      · unfold vqM at q; unfold szM at z; simp at q z; omega)).1
    have hv : ∀ a b, vR σ τ a b → vR σ2 τ2 a b := fun a b w => w.cg vC vM
    have cz : ∀ k j, (k = 102 ∨ k = 104 ∨ k = 110 ∨ k = 57 ∨ k = 65 ∨ k = 58 ∨ k = 78 ∨ k = 103 ∨ k = 8 ∧ (j = 33 ∨ j = 44 ∨ j = 45 ∨ j = 46 ∨ j = 51 ∨ j = 53)) → σ2.1 k j = σ.1 k j ∧ σ2.2 k j = σ.2 k j := fun k j z => by
      obtain ⟨u1, u2⟩ := e2 k j (by omega) (by omega) (by omega)
      obtain ⟨v1, v2⟩ := d3 k j (by unfold gsC; simp; omega)
      exact ⟨u1.trans v1, u2.trans v2⟩
    have mz : ∀ k j, (k = 95 ∨ k = 42 ∨ k = 0 ∧ (j = 78 ∨ j = 132 ∨ j = 143 ∨ j = 144 ∨ j = 145 ∨ j = 152 ∨ j = 153)) → τ2.1 k j = τ.1 k j ∧ τ2.2 k j = τ.2 k j := fun k j z => by
      obtain ⟨u1, u2⟩ := ob k j (by omega)
      obtain ⟨v1, v2⟩ := oa k j (by omega) (by omega)
      exact ⟨u1.trans v1, u2.trans v2⟩
    have oA : ∀ o k, obA σ τ o k → obA σ2 τ2 o k := fun o k w => by
      refine ⟨w.1, w.2.1, ?_, ?_, ?_⟩
      · unfold lv; rw [vC 7 0 rfl]; exact w.2.2.1
      · rw [vC 57 o rfl]; exact w.2.2.2.1
      · rw [vM 38 o rfl]; exact w.2.2.2.2
    have t78 : τ2.1 78 (48 * p + L.length) = τ.1 0 130 := by rw [(ob 78 _ (by omega)).1, hτa]; exact (by simp [lj_put_1, lj_putL_1])
    have t79 : τ2.1 79 (48 * p + L.length) = τ.1 0 131 := by rw [(ob 79 _ (by omega)).1, hτa]; exact (by simp [lj_put_1, lj_putL_1])
    have gga : gaR σ2 τ2 n (fpT FP p (F :: L)) (p :: r) A MO LA := h.2.2.2.2.2.2.2.2.2.2.1.cx oA (fun k j w => (cz k j (by omega)).1) (fun k j w => (mz k j (by omega)).1) (fun j => (mz 42 j (by omega)).2) (mz 0 78 (by omega)).2 (fun q e e' w => by
      by_cases z : q = p
      · rw [z, fpT_o]
        rw [z, ← hL] at w
        refine Or.inl ⟨by omega, gaL_cx (fun k i y1 y2 => ?_) (fun k i y1 y2 => ?_) w⟩
        · obtain ⟨u1, _⟩ := e2 k (20 * p + i) (by omega) (by omega) (by omega)
          obtain ⟨v1, _⟩ := d3 k (20 * p + i) (by unfold gsC; simp; omega)
          exact u1.trans v1
        · obtain ⟨u1, _⟩ := ob k (48 * p + i) (by omega)
          obtain ⟨v1, _⟩ := oa k (48 * p + i) (by omega) (by omega)
          exact u1.trans v1
      · have : fpT FP p (F :: L) q = FP q := by unfold fpT; rw [if_neg z]
        rw [this]
        by_cases y : q ≤ np
        · have ly : (FP q).length ≤ 20 := h.l20 y
          refine gaL_cx (fun k i y1 y2 => ?_) (fun k i y1 y2 => ?_) w
          · obtain ⟨u1, _⟩ := e2 k (20 * q + i) (by omega) (by omega) (by omega)
            obtain ⟨v1, _⟩ := d3 k (20 * q + i) (by unfold gsC; simp; omega)
            exact u1.trans v1
          · obtain ⟨u1, _⟩ := ob k (48 * q + i) (by omega)
            obtain ⟨v1, _⟩ := oa k (48 * q + i) (by omega) (by omega)
            exact u1.trans v1
        · have e0 : FP q = [] := h7.2.2.2.2.2.2.2.2.1 q (by omega)
          rw [e0] at w ⊢
          exact w)
    have mb : MB σ0 τ0 n np p r (fpT FP p (F :: L)) ρ A MO LA σ2 τ2 := by
      refine h.pnf hL.symm hl (Or.inl kSF) (by rw [kCF]; exact p6) (by omega) fc gm e34 e90 (by rw [e91, kSF]; rfl) (by rw [e95, (l1 8 8 (by unfold szC; simp)).1]) ?_ ?_ ?_ ?_ ?_ ?_ gga
      · rw [(ob 62 p (by omega)).1, hτa]; exact (by simp [lj_put_1, lj_putL_1])
      · rw [(ob 65 p (by omega)).1, hτa]; exact (by simp [lj_put_1, lj_putL_1])
      · rw [(ob 74 _ (by omega)).1, hτa, kSF]; exact (by simp [lj_put_1, lj_putL_1])
      · rw [(ob 80 _ (by omega)).1, hτa]; exact (by simp [lj_put_1, lj_putL_1])
      · rw [(ob 81 _ (by omega)).1, hτa]; exact (by simp [lj_put_1, lj_putL_1])
      · rw [e98, t78, t79, hL]
        exact ha
    have gw : gwR σ2 τ2 G.tail G'.tail := by
      refine ⟨⟨by unfold lv; rw [(e2 8 38 (by omega) (by omega) (by omega)).1]; exact d2.1, fun j hj => by rw [(e2 105 j (by omega) (by omega) (by omega)).1, (e2 106 j (by omega) (by omega) (by omega)).2]; exact d2.2 j hj⟩, ⟨by unfold lv; rw [(o2 0 137 (by omega)).1]; exact f2.1, fun j hj => by rw [(o2 88 j (by omega)).1, (o2 89 j (by omega)).2]; exact f2.2 j hj⟩, by rw [List.length_tail, List.length_tail, hG.2.2.1], fun j hj => ?_⟩
      have t1 : gvN G.tail j = G.getD (j + 1) (0, 0) := by
        unfold gvN
        cases G with
        | nil => rfl
        | cons x G => rfl
      have t2 : gvN G'.tail j = G'.getD (j + 1) (0, 0) := by
        unfold gvN
        cases G' with
        | nil => rfl
        | cons x G => rfl
      rw [t1, t2]
      exact hv _ _ (hG.v (j + 1))
    have ry2 : ryR σ2 τ2 := ⟨by rw [(cz 8 46 (by omega)).1]; exact ry.1, by rw [(mz 0 143 (by omega)).1]; exact ry.2.1, by rw [(cz 8 45 (by omega)).1, (mz 0 144 (by omega)).1]; exact ry.2.2.1, by rw [(cz 8 44 (by omega)).2, (mz 0 145 (by omega)).2]; exact ry.2.2.2⟩
    have gx : gX (fpT FP p (F :: L)) (p :: r) = gX FP (p :: r) := by
      rw [gX_p FP hpr]
      show (if kS F = 2 then _ else gL p L) ++ gX FP r = gL p (FP p) ++ gX FP r
      rw [if_neg (by omega), hL]
    have wk2 : wkR (fpT FP p (F :: L)) (p :: r) A σ2 := ⟨fun i hi => by rw [(cz 102 i (by omega)).1]; exact hwk.1 i hi, by rw [gx]; exact hwk.2.1, pfI_o (fpT_ne FP hpr _) hwk.2.2⟩
    have px : pfx (fpT FP p (F :: L)) (p :: r) = 1 + pfx FP (p :: r) := by
      show pf1 (fpT FP p (F :: L) p) + (if pfA (fpT FP p (F :: L) p) = true then 1 + pfx (fpT FP p (F :: L)) r else 0) = 1 + (pf1 (FP p) + (if pfA (FP p) = true then 1 + pfx FP r else 0))
      rw [fpT_o, pfx_o (fpT_ne FP hpr _), ← hL]
      show (if kS F = 1 then 1 + pf1 L else 0) + (if (if kS F = 1 then pfA L else false) = true then 1 + pfx FP r else 0) = _
      rw [if_pos kSF, if_pos kSF]
      omega
    have th : thM (fpT FP p (F :: L)) (p :: r) MO LA = thM FP (p :: r) MO LA := by
      have := thM_c FP hpr F MO LA
      rw [thF_n (by omega), ← hL] at this
      omega
    have k0 : k ≠ 0 := by
      intro z
      rcases hB with y | ⟨_, _, y⟩
      · omega
      · rw [← hL] at y; omega
    have hK : gvK (k - 1) p r (fpT FP p (F :: L)) σ2 (G.getD 0 (0, 0)) G.tail := by
      rcases hB with ⟨y1, y2⟩ | ⟨y1, ⟨c, G2, y2, y3, y4⟩, y5⟩
      · cases G with
        | nil => exact Or.inr (Or.inr ⟨by simp, rfl⟩)
        | cons x G =>
          rw [List.length_cons] at y1 y2
          refine Or.inl ⟨?_, ?_⟩
          · rw [px, List.tail_cons]; omega
          · rw [List.tail_cons]; omega
      · subst y2
        rw [List.length_cons] at y1
        refine Or.inr (Or.inl ⟨by rw [List.tail_cons]; omega, y3, ⟨(5, bn 14), ?_, rfl⟩, by rw [fpT_o, List.length_cons]; rw [← hL] at y5; omega⟩)
        have := evC.cg h.2.2.2.1 h.2.2.2.2.1 (hG.v 0) y4 (σ' := σ2) (fun k j q => fc k j (fun z => by
          rcases z with z | z | z | z
          · unfold hqC vqC at q; simp at q; omega
          · unfold hqC vqC at q; simp at q; omega
          · unfold hqC vqC at q; simp at q; omega
          · unfold hqC vqC at q; unfold szC at z; simp at q z; omega)) (fun j => (cz 58 j (by omega)).1) (cz 78 19 (by omega)).1
        exact this
    have cal := C k0 n np p r (fpT FP p (F :: L)) ρ A MO LA σ2 τ2 (G.getD 0 (0, 0)) (G'.getD 0 (0, 0)) G.tail G'.tail 6 line mb ry2 wk2 (hv _ _ (hG.v 0)) (by rw [(o2 0 133 (by omega)).1, (o2 0 134 (by omega)).2]; exact f4) (by rw [(o2 0 129 (by omega)).1]; exact f5) (by rw [fpT_o]; exact Or.inl ⟨kSF, rfl⟩) (by rw [(mz 0 132 (by omega)).1]; exact hln) gw hK (by rw [th]; exact hM) (by rw [th]; exact hT)
    rw [th] at cal
    refine ⟨τ2, rM mr, ?_⟩
    rw [rc_159, kc_159_0, if_neg (by decide), if_neg (by decide), if_neg (by decide), if_neg (by decide), if_neg (by decide), if_neg (by decide), if_neg (by decide), if_neg (by decide), if_neg (by decide), if_neg (by decide), if_neg (by decide), if_neg (by decide), if_neg (by decide), if_neg (by decide), if_pos rfl, c0.1, bi_ok, c0.2, bl_ok, d1, bv_ok, e1, bv_ok]
    simp only [kc_159_901]
    exact cal.fin.pre (fun _ => rfl) (fun i _ => (cz 103 i (by omega)).1) (fun _ w => w)
