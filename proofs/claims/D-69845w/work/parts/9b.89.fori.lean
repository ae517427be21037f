/-! called fors: so many values are taken -/
theorem hf_adj {σ0 τ0 σ τ : lj_S} {n np p : Nat} {r : List Nat} {FP : Nat → List kF} {ρ : Nat → Nat} {A MO LA : List Nat} (h : MB σ0 τ0 n np p r FP ρ A MO LA σ τ) {F : kF} {L : List kF} (hF : FP p = F :: L) (h0 : kS F = 0) {ms ks ce me mq : Nat} (V : vw σ0 τ0 σ τ ρ FP p F L ms ks ce me mq) (hs : stF σ0 τ0) {G : List vT} {σ1 : lj_S} (hf : hfw σ σ1 p (20 * p + L.length) ce G) {k : Nat} (hk : k ≤ 50) (hG : G.length ≤ 128) (hcb : ce + k < 12500 * p + 12500) (hcb2 : ce + 1 + G.length < 12500 * p + 12500) (r1 : σ1.1 8 46 = 0) (k1 : σ0.1 22 (kY F).2.1 = 20) (k1' : σ0.1 23 (kY F).2.1 = Int32.ofNat k) (k1'' : σ0.1 24 (kY F).2.1 = 1) : ∃ σ2, (∀ v, goC v σ1 = goC v σ2) ∧ lf (tqC p (20 * p + L.length) ce) σ σ2 ∧ σ2.1 8 8 = Int32.ofNat (ce + k) ∧ σ2.1 97 (20 * p + L.length) = σ.1 97 (20 * p + L.length) ∧ σ2.1 94 (20 * p + L.length) = Int32.ofNat ((kY F).2.1 + 1) ∧ (∀ i, i < k → cv σ2 (ce + i) = G.getD i (0, 0)) ∧ ∀ j, σ2.1 81 j = σ.1 81 j ∨ σ2.1 81 j = -1 := by
  have B := V.bd
  obtain ⟨e2, e3, e4, e5, e6, e7⟩ := hf
  have e5' : σ1.1 94 (20 * p + L.length) = Int32.ofNat (kY F).2.1 := by rw [e5]; exact V.2.2.2.2.1.1.2.2.2.1
  obtain ⟨f1, f2, f3, f4, fA, fL, fK, f5⟩ := c_fq h hF h0 V hs k1 (by decide) e2 e5'
  have mk : mkC (lj_put σ1 94 (20 * p + L.length) (Int32.ofNat ((kY F).2.1 + 1))) (20 * p + L.length) ce G.length (σ.1 97 (20 * p + L.length)) := by
    obtain ⟨a1, a2, a3, a4, a5, a6⟩ := e3
    exact ⟨by rw [lj_put_1, if_neg (by omega)]; exact a1, by rw [lj_put_1, if_neg (by omega)]; exact a2, by rw [lj_put_1, if_neg (by omega)]; exact a3, a4, a5, a6⟩
  obtain ⟨σ', e1, sd⟩ := c_adjust mk (n := k) (by omega) (by omega) (by omega) (x2 := 1) (Or.inr (by decide)) (σ0.1 26 (kY F).2.1)
  have mn := Nat.min_le_left G.length k
  have mn2 := Nat.min_le_right G.length k
  have oo := fun kk j => cPus_o (List.replicate (k - min G.length k) (0, 0)) (lj_put σ' 8 8 (Int32.ofNat (ce + min G.length k))) (ce + min G.length k) kk j
  have c24 : σ1.1 24 (kY F).2.1 = 1 := by
    rw [(e2 24 _ (tqC_f (sxC_f (by omega)) (by omega))).1, (h.1.1 24 _ (by unfold cdC; simp)).1]
    exact k1''
  have f : lf (tqC p (20 * p + L.length) ce) σ (cPus (lj_put σ' 8 8 (Int32.ofNat (ce + min G.length k))) (ce + min G.length k) (List.replicate (k - min G.length k) (0, 0))) := tq_pus _ (tq_88 (tq_sh (tq_97 (tq_94 e2 _) _) sd (by omega) (by omega)) _) (by omega) (by rw [List.length_replicate]; omega)
  refine ⟨_, go_step r1 ?_, f, ?_, ?_, ?_, fun i hi => ?_, fun j => ?_⟩
  · rw [ca_20 σ1 f1 f3 f4 (fA.trans k1') fL fK, if_pos f4, f5, if_pos c24, f2, lz_osucc, kc_139_651, e1, bv_ok, kc_139_1051]
  · rw [cPus_8 _ _ _ (by simp [lj_put_1, lj_putL_1]), List.length_replicate]; congr 1; omega
  · rw [(oo 97 _ (by omega) (by omega)).1, lj_put_1, if_neg (by omega), (sd.2 97 _ (by unfold sdC; simp)).1, lj_put_1, if_pos ⟨rfl, rfl⟩]
  · rw [(oo 94 _ (by omega) (by omega)).1, lj_put_1, if_neg (by omega), (sd.2 94 _ (by unfold sdC; simp)).1, lj_put_1, if_neg (by omega), lj_put_1, if_pos ⟨rfl, rfl⟩]
  · by_cases z : i < G.length
    · have zo : ce + i < ce + min G.length k := by omega
      have a1 := sd.1 (ce + i) (by omega) (by omega)
      unfold cv
      rw [(oo 79 (ce + i) (by omega) (by omega)).1, (oo 80 (ce + i) (by omega) (by omega)).2, lj_put_1, if_neg (by omega)]
      have : cv σ' (ce + i) = G.getD i (0, 0) := by
        rw [a1, cv_p _ (by decide), cv_p _ (by decide), show ce + i + 1 = ce + 1 + i by omega]
        exact (e4 i z).1
      exact this
    · have v := cPus_v (List.replicate (k - min G.length k) (0, 0)) (lj_put σ' 8 8 (Int32.ofNat (ce + min G.length k))) (ce + min G.length k) (i - min G.length k) (by rw [List.length_replicate]; omega)
      rw [show ce + min G.length k + (i - min G.length k) = ce + i by omega] at v
      rw [v.1, gdr, List.getD_eq_getElem?_getD, List.getElem?_eq_none (by omega)]; rfl
  · by_cases z : ce + min G.length k ≤ j ∧ j < ce + min G.length k + (k - min G.length k)
    · have v := (cPus_v (List.replicate (k - min G.length k) (0, 0)) (lj_put σ' 8 8 (Int32.ofNat (ce + min G.length k))) (ce + min G.length k) (j - (ce + min G.length k)) (by rw [List.length_replicate]; omega)).2
      rw [show ce + min G.length k + (j - (ce + min G.length k)) = j by omega] at v
      exact Or.inr v
    · rw [(oo 81 j (by omega) (by rw [List.length_replicate]; omega)).1, lj_put_1, if_neg (by omega), (sd.2 81 j (by unfold sdC; simp)).1, lj_put_1, if_neg (by omega), lj_put_1, if_neg (by omega)]
      exact e7 j
/-- the slots b, b + 1, .. get values -/
def sL (b : Nat) (u : Nat → vT) (σ : lj_S) : Nat → lj_S
  | 0 => σ
  | j + 1 => setC (sL b u σ j) (b + j) (u j)
theorem sL_o (b : Nat) (u : Nat → vT) (σ : lj_S) (k i : Nat) : ∀ j, b + j ≤ 325000 → (¬ ((k = 79 ∨ k = 80) ∧ b ≤ i ∧ i < b + j)) → (sL b u σ j).1 k i = σ.1 k i ∧ (sL b u σ j).2 k i = σ.2 k i
  | 0, _, _ => ⟨rfl, rfl⟩
  | j + 1, hb, hi => by
    obtain ⟨e1, e2⟩ := sL_o b u σ k i j (by omega) (fun z => hi ⟨z.1, z.2.1, by omega⟩)
    show (setC (sL b u σ j) (b + j) (u j)).1 k i = _ ∧ (setC (sL b u σ j) (b + j) (u j)).2 k i = _
    rw [setC_lt _ (by omega : b + j < 325000)]
    refine ⟨?_, ?_⟩
    · rw [lj_putL_1, lj_put_1, if_neg (fun z => hi ⟨Or.inl z.1, by omega, by omega⟩)]; exact e1
    · rw [lj_putL_2, if_neg (fun z => hi ⟨Or.inr z.1, by omega, by omega⟩)]; exact e2
theorem setC_cm (σ : lj_S) {a b : Nat} (u w : vT) (ha : a < 325000) (hb : b < 325000) (h : a ≠ b) : setC (setC σ a u) b w = setC (setC σ b w) a u := by
  rw [setC_lt _ ha, setC_lt _ hb, setC_lt _ hb, setC_lt _ ha]
  refine Prod.ext ?_ ?_
  · funext k j
    show (lj_put (lj_putL (lj_put σ 79 a u.1) 80 a u.2) 79 b w.1).1 k j = (lj_put (lj_putL (lj_put σ 79 b w.1) 80 b w.2) 79 a u.1).1 k j
    rw [lj_put_1, lj_put_1, lj_putL_1, lj_putL_1, lj_put_1, lj_put_1]
    by_cases z : k = 79 ∧ j = b
    · rw [if_pos z, if_neg (fun y => h (by omega)), if_pos z]
    · rw [if_neg z, if_neg z]
  · funext k j
    show (lj_putL (lj_put (lj_putL (lj_put σ 79 a u.1) 80 a u.2) 79 b w.1) 80 b w.2).2 k j = (lj_putL (lj_put (lj_putL (lj_put σ 79 b w.1) 80 b w.2) 79 a u.1) 80 a u.2).2 k j
    rw [lj_putL_2, lj_putL_2]
    show (if k = 80 ∧ j = b then w.2 else (lj_putL (lj_put σ 79 a u.1) 80 a u.2).2 k j) = (if k = 80 ∧ j = a then u.2 else (lj_putL (lj_put σ 79 b w.1) 80 b w.2).2 k j)
    rw [lj_putL_2, lj_putL_2]
    by_cases z : k = 80 ∧ j = b
    · rw [if_pos z, if_neg (fun y => h (by omega)), if_pos z]
    · rw [if_neg z, if_neg z]
      rfl
theorem sL_s (b : Nat) (u : Nat → vT) (σ : lj_S) {a : Nat} (w : vT) (ha : a < 325000) : ∀ j, b + j ≤ a → setC (sL b u σ j) a w = sL b u (setC σ a w) j
  | 0, _ => rfl
  | j + 1, hb => by
    show setC (setC (sL b u σ j) (b + j) (u j)) a w = setC (sL b u (setC σ a w) j) (b + j) (u j)
    rw [setC_cm _ _ _ (by omega) ha (by omega), sL_s b u σ w ha j (by omega)]
/-- the component's loop -/
theorem c_fst {t b x hh k : Nat} {σ : lj_S} (P Ln : Int32) (ht : t + k < 325000) (hb : b + x + k ≤ t) (hh2 : hh + 3 ≤ t) (hk : k ≤ 50) (hbh : b + x + k ≤ hh) (h8 : σ.1 8 8 = Int32.ofNat t) (h35 : σ.1 8 35 = Int32.ofNat b) : ∀ (d j : Nat), j + d = k → lj_D lc_P lc_M217 720 [.ref 8, .int P, .int (Int32.ofNat x), .int Ln, .int (Int32.ofNat k), .int (Int32.ofNat hh), .int (Int32.ofNat j), .retAddr 0] [] (sL (b + x) (fun i => cv σ (t + i)) σ j) = some (.inl none, setC (sL (b + x) (fun i => cv σ (t + i)) σ k) (hh + 2) (cv σ t))
  | 0, j, hj => by
    have ej : j = k := by omega
    subst ej
    have q8 : (sL (b + x) (fun i => cv σ (t + i)) σ j).1 8 8 = Int32.ofNat t := by rw [(sL_o _ _ _ 8 8 j (by omega) (by omega)).1]; exact h8
    have i1 : lj_in (Int32.ofNat t) 325000 := ofN_in (by omega) (by omega)
    have i2 : lj_in (Int32.ofNat (hh + 2)) 325000 := ofN_in (by omega) (by omega)
    have a2 : Int32.ofNat hh + 2 = Int32.ofNat (hh + 2) := by rw [show (2 : Int32) = Int32.ofNat 2 from rfl, ← Int32.ofNat_add]
    rw [kc_217_720, if_pos ((ofN_le (by omega) (by omega)).2 (Nat.le_refl _)), q8, a2, if_pos i1, if_pos i2, if_pos i1, if_pos i2, kc_217_821, kc_217_917, lz_onat (by omega), lz_onat (by omega), setC_lt _ (by omega : hh + 2 < 325000), (sL_o _ _ _ 79 t j (by omega) (by omega)).1, (sL_o _ _ _ 80 t j (by omega) (by omega)).2]
    rfl
  | d + 1, j, hj => by
    have q8 : (sL (b + x) (fun i => cv σ (t + i)) σ j).1 8 8 = Int32.ofNat t := by rw [(sL_o _ _ _ 8 8 j (by omega) (by omega)).1]; exact h8
    have q35 : (sL (b + x) (fun i => cv σ (t + i)) σ j).1 8 35 = Int32.ofNat b := by rw [(sL_o _ _ _ 8 35 j (by omega) (by omega)).1]; exact h35
    have i1 : lj_in (Int32.ofNat (t + j)) 325000 := ofN_in (by omega) (by omega)
    have i2 : lj_in (Int32.ofNat (b + x + j)) 325000 := ofN_in (by omega) (by omega)
    have a1 : Int32.ofNat t + Int32.ofNat j = Int32.ofNat (t + j) := (Int32.ofNat_add _ _).symm
    have a2 : Int32.ofNat b + Int32.ofNat x + Int32.ofNat j = Int32.ofNat (b + x + j) := by rw [← Int32.ofNat_add, ← Int32.ofNat_add]
    rw [kc_217_720, if_neg (by rw [ofN_le (by omega) (by omega)]; omega), q8, q35, a1, a2, if_pos i1, if_pos i2, if_pos i1, if_pos i2, lz_osucc, lz_onat (by omega), lz_onat (by omega), (sL_o _ _ _ 79 (t + j) j (by omega) (by omega)).1, (sL_o _ _ _ 80 (t + j) j (by omega) (by omega)).2, ← c_fst P Ln ht hb hh2 hk hbh h8 h35 d (j + 1) (by omega)]
    congr 1
    show _ = setC (sL (b + x) (fun i => cv σ (t + i)) σ j) (b + x + j) (cv σ (t + j))
    rw [setC_lt _ (by omega : b + x + j < 325000)]
    rfl
