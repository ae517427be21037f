/-! what is built in: how it ends -/
/-- what is built in leaves these as they are -/
def bfC (k j : Nat) : Bool := !(k == 102 || k == 103 || (k == 8 && (j == 44 || j == 45 || j == 46)))
def bfM (k j : Nat) : Bool := !(k == 0 && (j == 130 || j == 131 || j == 132 || j == 143 || j == 144 || j == 145))
theorem lf_b {B : Nat → Nat → Bool} {σ σ' : lj_S} (h : lf B σ σ') {A : Nat → Nat → Bool} (m : ∀ k j, A k j = false → B k j = false) : lf A σ σ' := h.mo m
theorem ryR.bf {σ τ σ' τ' : lj_S} (ry : ryR σ τ) (f : lf bfC σ σ') (g : lf bfM τ τ') : ryR σ' τ' := ⟨by rw [(f 8 46 rfl).1]; exact ry.1, by rw [(g 0 143 rfl).1]; exact ry.2.1, by rw [(f 8 45 rfl).1, (g 0 144 rfl).1]; exact ry.2.2.1, by rw [(f 8 44 rfl).2, (g 0 145 rfl).2]; exact ry.2.2.2⟩
theorem wkR.bf {FP : Nat → List kF} {ch A : List Nat} {σ σ' : lj_S} (h : wkR FP ch A σ) (f : lf bfC σ σ') : wkR FP ch A σ' := ⟨fun i hi => by rw [(f 102 i rfl).1]; exact h.1 i hi, h.2⟩
theorem MB.px {σ0 τ0 σ τ : lj_S} {n np p : Nat} {r : List Nat} {FP : Nat → List kF} {ρ : Nat → Nat} {A MO LA : List Nat} (h : MB σ0 τ0 n np p r FP ρ A MO LA σ τ) {σ1 : lj_S} (hwk : wkR FP (p :: r) A σ1) : pfx FP (p :: r) ≤ 71 := by
  have h7 := h.2.2.2.2.2.2.1
  obtain ⟨ce, me, mq, pa⟩ := h.2.2.2.2.2.2.2.1 p (h7.2.2.2.2.2.1 p List.mem_cons_self) (by rw [h7.2.2.1.2]; decide)
  exact pfx_le (by have := pa.2.1.1; omega) hwk.2.2
/-- it delivers -/
theorem bi_dl {σ0 τ0 σ τ σ' τ' : lj_S} {n np p : Nat} {r : List Nat} {FP : Nat → List kF} {ρ : Nat → Nat} {A MO LA : List Nat} {M X : Nat} (D : DLV σ0 τ0 M) (ry : ryR σ τ) (hwk : wkR FP (p :: r) A σ) {as : Int32} (ha : awR σ0 (FP p) as (τ.1 0 130) (τ.1 0 131)) (h : MB σ0 τ0 n np p r FP ρ A MO LA σ' τ') (f : lf bfC σ σ') (g : lf bfM τ τ') (ht : τ'.1 0 129 = 1) {R R' : List vT} (rs : rsC σ' R) (rm : rsM τ' R') (rw : rwE σ' τ' R R') (hl : R.length + pfx FP (p :: r) ≤ 110) (hM : thM FP (p :: r) MO LA ≤ M) (hT : thM FP (p :: r) MO LA ≤ X) (hX : X ≤ TH) : ocR σ0 τ0 A (fun t => t ≤ X) σ τ' (lj_R lc_P 144 [.ref 8, .int as] σ') := by
  have rt := ry.bf f g
  exact (D n np p r FP ρ A MO LA σ' τ' R R' as h ⟨⟨rt.1, rt.2.1, ht, rt.2.2.1, rt.2.2.2⟩, rs, rm, rw⟩ (by rw [(g 0 130 rfl).1, (g 0 131 rfl).1]; exact ha) (hwk.bf f) hl hM (Nat.le_trans hT hX)).pre (fun _ => rfl) (fun i _ => (f 103 i rfl).1) (fun _ w => Nat.le_trans w hT)
/-- it gives one value -/
theorem bi_one {σ0 τ0 σ τ σ' τ' : lj_S} {n np p : Nat} {r : List Nat} {FP : Nat → List kF} {ρ : Nat → Nat} {A MO LA : List Nat} {M X : Nat} (D : DLV σ0 τ0 M) (ry : ryR σ τ) (hwk : wkR FP (p :: r) A σ) {as : Int32} (ha : awR σ0 (FP p) as (τ.1 0 130) (τ.1 0 131)) (h : MB σ0 τ0 n np p r FP ρ A MO LA σ' τ') (f : lf bfC σ σ') (g : lf bfM τ τ') {u w : vT} (huw : vR σ' τ' u w) (hM : thM FP (p :: r) MO LA ≤ M) (hT : thM FP (p :: r) MO LA ≤ X) (hX : X ≤ TH) (x : Int32) : ∃ τ2, lj_R lm_P 195 [.ref 0, .int w.1, .long w.2] τ' = some (.inl none, τ2) ∧ ocR σ0 τ0 A (fun t => t ≤ X) σ τ2 (lj_R lc_P 164 [.ref 8, .int x, .int u.1, .long u.2, .int as] σ') := by
  have r0 : rsC (lj_put σ' 8 41 0) [] := ⟨by unfold lv; rw [lj_put_1, if_pos ⟨rfl, rfl⟩]; rfl, fun j hj => absurd hj (by simp)⟩
  obtain ⟨σ1, c1, c2, c3⟩ := c_gives r0 (by decide) u
  have c2 : rsC σ1 [u] := c2
  have o1 : ∀ k j, ¬ (k = 107 ∨ k = 108 ∨ k = 8 ∧ j = 41) → σ1.1 k j = σ'.1 k j ∧ σ1.2 k j = σ'.2 k j := fun k j z => by
    obtain ⟨u1, u2⟩ := c3 k j (by unfold rtC; simp; omega)
    exact ⟨u1.trans (by rw [lj_put_1, if_neg (by omega)]), u2⟩
  have z0 : (0 : Int32).toNatClampNeg = 0 := by decide
  obtain ⟨τ2, hτ2⟩ : ∃ τ2, τ2 = lj_put (lj_put (lj_putL (lj_put τ' 90 0 w.1) 91 0 w.2) 0 140 1) 0 129 1 := ⟨_, rfl⟩
  have o2 : ∀ k j, ¬ (k = 90 ∨ k = 91 ∨ k = 0 ∧ (j = 129 ∨ j = 140)) → τ2.1 k j = τ'.1 k j ∧ τ2.2 k j = τ'.2 k j := fun k j z => by
    rw [hτ2]
    refine ⟨by rw [lj_put_1, if_neg (by omega), lj_put_1, if_neg (by omega), lj_putL_1, lj_put_1, if_neg (by omega)], ?_⟩
    show (lj_putL (lj_put τ' 90 0 w.1) 91 0 w.2).2 k j = _
    rw [lj_putL_2, if_neg (by omega)]
    rfl
  have m1 : lj_R lm_P 195 [.ref 0, .int w.1, .long w.2] τ' = some (.inl none, τ2) := by rw [rm_195, km_195_0, if_pos (by decide), if_pos (by decide), z0, hτ2]
  have hv : vR σ1 τ2 u w := huw.cg (fun k j q => (o1 k j (by unfold vqC at q; simp at q; omega)).1) (fun k j q => (o2 k j (by unfold vqM at q; simp at q; omega)).1)
  have rm : rsM τ2 [w] := by
    refine ⟨by unfold lv; rw [hτ2, lj_put_1, if_neg (by omega), lj_put_1, if_pos ⟨rfl, rfl⟩]; rfl, fun j hj => ?_⟩
    have j0 : j = 0 := by simp at hj; exact hj
    subst j0
    rw [hτ2, lj_put_1, if_neg (by omega), lj_put_1, if_neg (by omega), lj_putL_1, lj_put_1, if_pos ⟨rfl, rfl⟩]
    show (w.1, (lj_putL (lj_put τ' 90 0 w.1) 91 0 w.2).2 91 0) = w
    rw [lj_putL_2, if_pos ⟨rfl, rfl⟩]
  have mb : MB σ0 τ0 n np p r FP ρ A MO LA σ1 τ2 := h.sc (fun k j q => o1 k j (by unfold szC at q; simp at q; omega)) (fun k j q => o2 k j (by unfold szM at q; simp at q; omega))
  have f1 : lf bfC σ σ1 := f.tr (fun k j q => o1 k j (by unfold bfC at q; simp at q; omega))
  have g1 : lf bfM τ τ2 := g.tr (fun k j q => o2 k j (by unfold bfM at q; simp at q; omega))
  have px := h.px hwk
  have dl := bi_dl D ry hwk ha mb f1 g1 (by rw [hτ2]; exact (by simp [lj_put_1, lj_putL_1])) c2 rm ⟨rfl, by simp, fun j => by
    cases j with
    | zero => exact hv
    | succ j => exact vR_nil _ _⟩ (by show 0 + 1 + _ ≤ 110; omega) hM hT hX
  refine ⟨τ2, m1, ?_⟩
  rw [rc_164, kc_164_0, c1, bv_ok]
  exact dl.fin
/-- it errs -/
theorem bt_er {σ0 τ0 σ τ σ' τ' σ2 τ2 : lj_S} {X n np p : Nat} {r : List Nat} {FP : Nat → List kF} {ρ : Nat → Nat} {A MO LA : List Nat} (ry : ryR σ τ) (hwk : wkR FP (p :: r) A σ) (h : MB σ0 τ0 n np p r FP ρ A MO LA σ' τ') (f : lf bfC σ σ') (g : lf bfM τ τ') (e : raR σ' τ' σ2 τ2) (hT : thM FP (p :: r) MO LA + 1 ≤ X) : ocR σ0 τ0 A (fun t => t ≤ X) σ τ2 (some (.inr 2, σ2)) := h.eoc (O := fun t => t ≤ X) (ry.bf f g) e (hwk.bf f) hT
/-- there is no room -/
theorem bi_nr {σ0 τ0 σ τ σ' τ' : lj_S} {X n np p : Nat} {r : List Nat} {FP : Nat → List kF} {ρ : Nat → Nat} {A MO LA : List Nat} (ry : ryR σ τ) (hwk : wkR FP (p :: r) A σ) (h : MB σ0 τ0 n np p r FP ρ A MO LA σ' τ') (f : lf bfC σ σ') (g : τ'.1 0 144 = τ.1 0 144 ∧ τ'.2 0 145 = τ.2 0 145) (e1 : σ'.1 2 6 = 1) (e2 : τ'.1 0 143 = 4) (hT : thM FP (p :: r) MO LA + 1 ≤ X) : ocR σ0 τ0 A (fun t => t ≤ X) σ τ' (some (.inr 2, σ')) := by
  have s44 : σ'.2 8 44 = τ'.2 0 145 := by rw [(f 8 44 rfl).2, g.2]; exact ry.2.2.2
  exact Or.inr (Or.inl ⟨σ', τ', n, np, p, r, FP, ρ, MO, LA, rfl, fun _ => rfl, ⟨by rw [(f 8 46 rfl).1]; exact ry.1, by rw [(f 8 45 rfl).1, g.1]; exact ry.2.2.1, s44, Or.inl ⟨e1, e2, h.q s44, h.1, h.2.2.1, h.2.2.2.2.2.2.2.2.2.2.2.2.2⟩⟩, hT, hwk.bf f⟩)
/-! what is built in: what is given -/
theorem nd_ok (σ : lj_S) {x : Int32} (hx : x ≠ 0) (a b c : Int32) : lj_R lc_P 168 [.ref 8, .int x, .int a, .int b, .int c] σ = some (.inl none, σ) := by rw [rc_168, kc_168_0, if_neg hx]
theorem nd_bad {σ τ : lj_S} (h : sM σ τ) {line : Int32} (hln : τ.1 0 132 = line) (a : Int32) {w : Nat} (hw : w < 32) : ∃ σ' τ', lj_R lc_P 168 [.ref 8, .int 0, .int a, .int (Int32.ofNat w), .int line] σ = some (.inr 2, σ') ∧ lj_R lm_P 199 [.ref 0, .int a, .int (Int32.ofNat w)] τ = some (.inl none, τ') ∧ raR σ τ σ' τ' := by
  obtain ⟨σ', τ', e1, e2, e3⟩ := cm_bad h a hw
  rw [hln] at e1
  exact ⟨σ', τ', by rw [rc_168, kc_168_0, if_pos rfl, e1], e2, e3⟩
/-- values given, of both -/
theorem gwR.v {σ τ : lj_S} {G G' : List vT} (h : gwR σ τ G G') (i : Nat) : vR σ τ (G.getD i (0, 0)) (G'.getD i (0, 0)) := by
  by_cases z : i < G.length
  · exact h.2.2.2 i z
  · have e1 : G.getD i (0, 0) = (0, 0) := by rw [List.getD_eq_getElem?_getD, List.getElem?_eq_none (by omega)]; rfl
    have e2 : G'.getD i (0, 0) = (0, 0) := by rw [List.getD_eq_getElem?_getD, List.getElem?_eq_none (by have := h.2.2.1; omega)]; rfl
    rw [e1, e2]
    exact vR_nil _ _
theorem gwR.c {σ τ : lj_S} {G G' : List vT} (h : gwR σ τ G G') (hl : G.length ≤ 128) {i : Nat} (hi : i < 1000) : lj_R lc_P 163 [.ref 8, .int (Int32.ofNat i)] σ = some (.inl (some (.int (G.getD i (0, 0)).1)), σ) ∧ lj_R lc_P 165 [.ref 8, .int (Int32.ofNat i)] σ = some (.inl (some (.long (G.getD i (0, 0)).2)), σ) := ⟨c_kindOf h.1 hl hi, c_valueOf h.1 hl hi⟩
theorem gwR.m {σ τ : lj_S} {G G' : List vT} (h : gwR σ τ G G') (hl : G.length ≤ 128) {i : Nat} (hi : i < 1000) : lj_R lm_P 190 [.ref 0, .int (Int32.ofNat (i + 1))] τ = some (.inl (some (.int (G'.getD i (0, 0)).1)), τ) ∧ lj_R lm_P 191 [.ref 0, .int (Int32.ofNat (i + 1))] τ = some (.inl (some (.long (G'.getD i (0, 0)).2)), τ) := ⟨m_ak h.2.1 (by rw [← h.2.2.1]; exact hl) hi, m_an h.2.1 (by rw [← h.2.2.1]; exact hl) hi⟩
theorem gwR.cg {σ τ σ' τ' : lj_S} {G G' : List vT} (h : gwR σ τ G G') (hC : ∀ k j, (k = 105 ∨ k = 106 ∨ k = 8 ∧ j = 38) → σ'.1 k j = σ.1 k j ∧ σ'.2 k j = σ.2 k j) (hM : ∀ k j, (k = 88 ∨ k = 89 ∨ k = 0 ∧ j = 137) → τ'.1 k j = τ.1 k j ∧ τ'.2 k j = τ.2 k j) (hv : ∀ a b, vR σ τ a b → vR σ' τ' a b) : gwR σ' τ' G G' := by
  refine ⟨⟨by unfold lv; rw [(hC 8 38 (by omega)).1]; exact h.1.1, fun j hj => by rw [(hC 105 j (by omega)).1, (hC 106 j (by omega)).2]; exact h.1.2 j hj⟩, ⟨by unfold lv; rw [(hM 0 137 (by omega)).1]; exact h.2.1.1, fun j hj => by rw [(hM 88 j (by omega)).1, (hM 89 j (by omega)).2]; exact h.2.1.2 j hj⟩, h.2.2.1, fun j hj => hv _ _ (h.2.2.2 j hj)⟩
/-- the model asks for a kind -/
theorem m_wants {σ τ : lj_S} {G G' : List vT} (h : gwR σ τ G G') (hl : G.length ≤ 128) {i : Nat} (hi : i < 1000) (k w : Int32) : ((G'.getD i (0, 0)).1 = k → lj_R lm_P 198 [.ref 0, .int (Int32.ofNat (i + 1)), .int k, .int w] τ = some (.inl (some (.int 1)), τ)) ∧ ((G'.getD i (0, 0)).1 ≠ k → ∀ τ', lj_R lm_P 199 [.ref 0, .int (Int32.ofNat (i + 1)), .int w] τ = some (.inl none, τ') → lj_R lm_P 198 [.ref 0, .int (Int32.ofNat (i + 1)), .int k, .int w] τ = some (.inl (some (.int 0)), τ')) := by
  refine ⟨fun z => by rw [rm_198, km_198_0, (h.m hl hi).1, bi_ok, if_pos z], fun z τ' e => by rw [rm_198, km_198_0, (h.m hl hi).1, bi_ok, if_neg z, e, bv_ok]⟩
/-- a table is given -/
theorem bi_tab {σ τ : lj_S} (hs : sM σ τ) {n : Nat} (hn : hpR σ τ n) {G G' : List vT} (h : gwR σ τ G G') (hl : G.length ≤ 128) {line : Int32} (hln : τ.1 0 132 = line) {w : Nat} (hw : w < 32) : (∃ o, obA σ τ o 4 ∧ o ≤ n ∧ G.getD 0 (0, 0) = (4, i64 o) ∧ G'.getD 0 (0, 0) = (4, i64 o) ∧ lj_R lc_P 167 [.ref 8, .int 0, .int (Int32.ofNat w), .int line] σ = some (.inl (some (.int (Int32.ofNat o))), σ) ∧ lj_R lm_P 198 [.ref 0, .int 1, .int 4, .int (Int32.ofNat w)] τ = some (.inl (some (.int 1)), τ)) ∨ ∃ σ' τ', raR σ τ σ' τ' ∧ lj_R lc_P 167 [.ref 8, .int 0, .int (Int32.ofNat w), .int line] σ = some (.inr 2, σ') ∧ lj_R lm_P 198 [.ref 0, .int 1, .int 4, .int (Int32.ofNat w)] τ = some (.inl (some (.int 0)), τ') := by
  obtain ⟨c1, c2⟩ := h.c hl (i := 0) (by omega)
  have c1 : lj_R lc_P 163 [.ref 8, .int 0] σ = _ := c1
  have c2 : lj_R lc_P 165 [.ref 8, .int 0] σ = _ := c2
  obtain ⟨m1, m2⟩ := m_wants h hl (i := 0) (by omega) 4 (Int32.ofNat w)
  have hv := h.v 0
  by_cases z : (G.getD 0 (0, 0)).1 = 4
  · obtain ⟨o, e1, e2, ob⟩ := hv.tb z
    refine Or.inl ⟨o, ob, by have := ob.2.2.1; have := hn.2.1; omega, e1, e2, ?_, m1 (by rw [e2])⟩
    rw [rc_167, kc_167_0, c1, bi_ok, if_pos z, kc_167_15, nd_ok _ (by decide), bv_ok, c2, bl_ok, e1]
    show (some (.inl (some (.int (i64 o).toInt32)), σ) : Option lj_O) = _
    rw [i64_32]
  · obtain ⟨σ', τ', q1, q2, q3⟩ := nd_bad hs hln 1 hw
    refine Or.inr ⟨σ', τ', q3, ?_, m2 (fun y => z ((hv.kk (by decide) (by decide)).2 y)) τ' q2⟩
    rw [rc_167, kc_167_0, c1, bi_ok, if_neg z, kc_167_15, show (0 : Int32) + 1 = 1 from rfl, q1, bv_th]
/-- the model gives one value -/
def oneM (τ : lj_S) (w : vT) : lj_S := lj_put (lj_put (lj_putL (lj_put τ 90 0 w.1) 91 0 w.2) 0 140 1) 0 129 1
theorem m_one (τ : lj_S) (w : vT) : lj_R lm_P 195 [.ref 0, .int w.1, .long w.2] τ = some (.inl none, oneM τ w) := by
  have z0 : (0 : Int32).toNatClampNeg = 0 := by decide
  rw [rm_195, km_195_0, if_pos (by decide), if_pos (by decide), z0]
  rfl
theorem oneM_o (τ : lj_S) (w : vT) {k j : Nat} (z : ¬ (k = 90 ∨ k = 91 ∨ k = 0 ∧ (j = 129 ∨ j = 140))) : (oneM τ w).1 k j = τ.1 k j ∧ (oneM τ w).2 k j = τ.2 k j := by
  refine ⟨by unfold oneM; rw [lj_put_1, if_neg (by omega), lj_put_1, if_neg (by omega), lj_putL_1, lj_put_1, if_neg (by omega)], ?_⟩
  show (lj_putL (lj_put τ 90 0 w.1) 91 0 w.2).2 k j = _
  rw [lj_putL_2, if_neg (by omega)]
  rfl
theorem oneM_rs (τ : lj_S) (w : vT) : rsM (oneM τ w) [w] := by
  refine ⟨by unfold lv oneM; rw [lj_put_1, if_neg (by omega), lj_put_1, if_pos ⟨rfl, rfl⟩]; rfl, fun j hj => ?_⟩
  have j0 : j = 0 := by simp at hj; exact hj
  subst j0
  unfold oneM
  rw [lj_put_1, if_neg (by omega), lj_put_1, if_neg (by omega), lj_putL_1, lj_put_1, if_pos ⟨rfl, rfl⟩]
  show (w.1, (lj_putL (lj_put τ 90 0 w.1) 91 0 w.2).2 91 0) = w
  rw [lj_putL_2, if_pos ⟨rfl, rfl⟩]
theorem MB.fd {σ0 τ0 σ τ : lj_S} {n np p : Nat} {r : List Nat} {FP : Nat → List kF} {ρ : Nat → Nat} {A MO LA : List Nat} (h : MB σ0 τ0 n np p r FP ρ A MO LA σ τ) (u w : vT) : MB σ0 τ0 n np p r FP ρ A MO LA (fdC σ u) (fdM τ w) := h.sc (lf_putL (lf_put (lf_rf _ _) _ _ _ rfl) _ _ _ rfl) (lf_putL (lf_put (lf_rf _ _) _ _ _ rfl) _ _ _ rfl)
theorem lf_fdC (σ : lj_S) (u : vT) : lf bfC σ (fdC σ u) := lf_putL (lf_put (lf_rf _ _) _ _ _ rfl) _ _ _ rfl
theorem lf_fdM (σ : lj_S) (u : vT) : lf bfM σ (fdM σ u) := lf_putL (lf_put (lf_rf _ _) _ _ _ rfl) _ _ _ rfl
theorem vR.fd {σ τ : lj_S} {a b : vT} (h : vR σ τ a b) (u w : vT) : vR (fdC σ u) (fdM τ w) a b := h.cg (fun k j q => by rw [fdC_1, if_neg (by unfold vqC at q; simp at q; omega)]) (fun k j q => by rw [fdM_1, if_neg (by unfold vqM at q; simp at q; omega)])
theorem gwR.fd {σ τ : lj_S} {G G' : List vT} (h : gwR σ τ G G') (u w : vT) : gwR (fdC σ u) (fdM τ w) G G' := h.cg (fun k j q => ⟨by rw [fdC_1, if_neg (by omega)], by rw [fdC_2, if_neg (by omega)]⟩) (fun k j q => ⟨by rw [fdM_1, if_neg (by omega)], by rw [fdM_2, if_neg (by omega)]⟩) (fun _ _ z => z.fd u w)
/-- both begin to give anew, and give more -/
theorem x_rs0 (σ : lj_S) : rsC (lj_put σ 8 41 0) [] := ⟨by unfold lv; rw [lj_put_1, if_pos ⟨rfl, rfl⟩]; rfl, fun j hj => absurd hj (by simp)⟩
theorem x_rm0 (τ : lj_S) : rsM (lj_put τ 0 140 0) [] := ⟨by unfold lv; rw [lj_put_1, if_pos ⟨rfl, rfl⟩]; rfl, fun j hj => absurd hj (by simp)⟩
