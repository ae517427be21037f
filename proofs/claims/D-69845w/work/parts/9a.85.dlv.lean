/-! what came is delivered: all cases -/
def frT (FP : Nat → List kF) : List Nat → Nat
  | [] => 0
  | q :: r => (FP q).length + 1 + frT FP r
theorem frT_o {FP FP' : Nat → List kF} : ∀ {r : List Nat}, (∀ q ∈ r, FP' q = FP q) → frT FP' r = frT FP r
  | [], _ => rfl
  | q :: r, h => by
    unfold frT
    rw [frT_o (fun q hq => h q (List.mem_cons_of_mem _ hq)), h q List.mem_cons_self]
/-- the last acts of the uppermost gathering go on: what is owed of it -/
def NLA (σ0 τ0 : lj_S) (M k : Nat) : Prop := ∀ (n np p : Nat) (r : List Nat) (FP : Nat → List kF) (ρ : Nat → Nat) (A MO LA : List Nat) (σ τ : lj_S) (F : kF) (L : List kF), MB σ0 τ0 n np p r FP ρ A MO LA σ τ → FP p = F :: L → kS F = 2 → wkR FP (p :: r) A σ → ryR σ τ → τ.1 0 129 = 4 → frT FP (p :: r) ≤ k → thM FP (p :: r) MO LA ≤ M → thM FP (p :: r) MO LA ≤ TH → ocR σ0 τ0 A (fun t => t ≤ thM FP (p :: r) MO LA) σ τ (lj_R lc_P 153 [.ref 8] σ)
theorem NLA.le {σ0 τ0 : lj_S} {M k k' : Nat} (h : NLA σ0 τ0 M k') (hk : k ≤ k') : NLA σ0 τ0 M k := fun n np p r FP ρ A MO LA σ τ F L x1 x2 x3 x4 x5 x6 x7 x8 x9 => h n np p r FP ρ A MO LA σ τ F L x1 x2 x3 x4 x5 x6 (Nat.le_trans x7 hk) x8 x9
/-- delivering: what is owed of it -/
def DLV (σ0 τ0 : lj_S) (M : Nat) : Prop := ∀ (n np p : Nat) (r : List Nat) (FP : Nat → List kF) (ρ : Nat → Nat) (A MO LA : List Nat) (σ τ : lj_S) (G G' : List vT) (as : Int32), MB σ0 τ0 n np p r FP ρ A MO LA σ τ → dlR σ τ G G' → awR σ0 (FP p) as (τ.1 0 130) (τ.1 0 131) → wkR FP (p :: r) A σ → G.length + pfx FP (p :: r) ≤ 110 → thM FP (p :: r) MO LA ≤ M → thM FP (p :: r) MO LA ≤ TH → ocR σ0 τ0 A (fun t => t ≤ thM FP (p :: r) MO LA) σ τ (lj_R lc_P 144 [.ref 8, .int as] σ)
theorem MB.ks {σ0 τ0 σ τ : lj_S} {n np p : Nat} {r : List Nat} {FP : Nat → List kF} {ρ : Nat → Nat} {A MO LA : List Nat} (h : MB σ0 τ0 n np p r FP ρ A MO LA σ τ) {F : kF} {L : List kF} (hF : FP p = F :: L) : kS F = 0 ∨ kS F = 1 ∨ kS F = 2 := by
  have h7 := h.2.2.2.2.2.2.1
  obtain ⟨_, _, _, p1, _⟩ := h.2.2.2.2.2.2.2.1 p (h7.2.2.2.2.2.1 p List.mem_cons_self) (by rw [h7.2.2.1.2]; decide)
  rw [hF] at p1
  obtain ⟨_, _, _, q2, _⟩ := p1
  rcases q2.2 with ⟨z, _⟩ | ⟨z, _⟩
  · exact Or.inl z
  · exact Or.inr z
/-- the model's deliver at a gathering -/
theorem m_dlg {σ0 τ0 σ τ : lj_S} {n np p : Nat} {r : List Nat} {FP : Nat → List kF} {ρ : Nat → Nat} {A MO LA : List Nat} (h : MB σ0 τ0 n np p r FP ρ A MO LA σ τ) {F : kF} {L : List kF} (hF : FP p = F :: L) (hS : kS F = 2) : lj_R lm_P 178 [.ref 0] τ = some (.inl none, lj_put τ 0 129 4) := by
  have h7 := h.2.2.2.2.2.2.1
  have hp : p ≤ np := h7.2.2.2.2.2.1 p List.mem_cons_self
  have np25 := h7.1.2.2
  obtain ⟨ce, me, mq, pa⟩ := h.2.2.2.2.2.2.2.1 p hp (by rw [h7.2.2.1.2]; decide)
  obtain ⟨p1, ⟨p2, p3, p4, p5⟩, p6, p7, p8, p9, p10, p11⟩ := pa
  rw [hF] at p1
  rw [hF, List.length_cons] at p2 p10
  obtain ⟨ms, ks, q1, q2, q3⟩ := p1
  have m74 : τ.1 74 (48 * p + L.length) = 2 := by
    rcases q2.2 with ⟨z, _⟩ | ⟨_, _, w, _⟩
    · omega
    · rw [w, hS]; rfl
  have m111 := h7.2.1.2
  have i111 : lj_in (τ.1 0 111) 26 := by rw [m111]; exact ofN_in (by omega) (by omega)
  have n111 : (τ.1 0 111).toNatClampNeg = p := by rw [m111]; exact lz_onat (by omega)
  have r122 : lj_R lm_P 122 [.ref 0] τ = some (.inl (some (.int (Int32.ofNat (48 * p + L.length)))), τ) := by
    rw [rm_122, km_122_0, if_pos i111, n111, p10, m111, show (48 : Int32) = Int32.ofNat 48 from rfl, ← Int32.ofNat_mul, ← Int32.ofNat_add, ← Nat.add_assoc, lz_pred']
  have imi : lj_in (Int32.ofNat (48 * p + L.length)) 1248 := ofN_in (by omega) (by omega)
  have nmi : (Int32.ofNat (48 * p + L.length)).toNatClampNeg = (48 * p + L.length) := lz_onat (by omega)
  have c62 : τ.1 62 (τ.1 0 111).toNatClampNeg ≠ 0 := by
    rw [n111, p10]
    intro z
    have := (ofN_eq (a := L.length + 1) (c := 0) (by omega) (by omega)).1 z
    omega
  have c74 : τ.1 74 (Int32.ofNat (48 * p + L.length)).toNatClampNeg = 2 := by rw [nmi]; exact m74
  rw [rm_178, km_178_0, if_pos i111, if_neg c62, r122, bi_ok, if_pos imi, if_neg (by rw [c74]; decide), if_pos imi, if_pos c74]
theorem dlv {σ0 τ0 : lj_S} (hs : stF σ0 τ0) {M : Nat} : ∀ (k : Nat), NLA σ0 τ0 M k → ∀ (n np p : Nat) (r : List Nat) (FP : Nat → List kF) (ρ : Nat → Nat) (A MO LA : List Nat) (σ τ : lj_S) (G G' : List vT) (as : Int32), frT FP (p :: r) ≤ k → MB σ0 τ0 n np p r FP ρ A MO LA σ τ → dlR σ τ G G' → awR σ0 (FP p) as (τ.1 0 130) (τ.1 0 131) → wkR FP (p :: r) A σ → G.length + pfx FP (p :: r) ≤ 110 → thM FP (p :: r) MO LA ≤ M → thM FP (p :: r) MO LA ≤ TH → ocR σ0 τ0 A (fun t => t ≤ thM FP (p :: r) MO LA) σ τ (lj_R lc_P 144 [.ref 8, .int as] σ)
  | 0, N, n, np, p, r, FP, ρ, A, MO, LA, σ, τ, G, G', as, hk, h, d, ha, hw, hg, hM, hT => by
    unfold frT at hk
    omega
  | k + 1, N, n, np, p, r, FP, ρ, A, MO, LA, σ, τ, G, G', as, hk, h, d, ha, hw, hg, hM, hT => by
    have hch := h.2.2.2.2.2.2.1.2.2.2.1
    have hpr : p ∉ r := (List.nodup_cons.1 h.2.2.2.2.2.2.1.2.2.2.2.1).1
    cases hF : FP p with
    | nil =>
      rw [hF] at ha
      have ha : as = 8 := ha
      subst ha
      cases r with
      | nil =>
        have p0 : p = 0 := (chn_0 hch).2 rfl
        subst p0
        exact dl_over h hF d
      | cons q' r' =>
        have e1 : pfx FP (p :: q' :: r') = 1 + pfx FP (q' :: r') := by
          show pf1 (FP p) + (if pfA (FP p) = true then 1 + pfx FP (q' :: r') else 0) = _
          rw [hF]
          show 0 + (if true = true then 1 + pfx FP (q' :: r') else 0) = _
          rw [if_pos rfl]
          omega
        have e2 := thM_e (q' :: r') hF MO LA
        have e3 : gX FP (p :: q' :: r') = gX FP (q' :: r') := by
          show gL p (FP p) ++ _ = _
          rw [hF]
          rfl
        have e4 : frT FP (p :: q' :: r') = 1 + frT FP (q' :: r') := by
          show (FP p).length + 1 + _ = _
          rw [hF]
          rfl
        obtain ⟨σ2, τ2, x1, x2, x3, x4, x5, x6⟩ := dl_part h hF d (by omega)
        have ih := dlv hs k (N.le (Nat.le_succ k)) n np q' r' FP ρ A MO LA σ2 τ2 _ _ _ (by omega) x3 x4 x5 ⟨fun i hi => by rw [(x6 i).1]; exact hw.1 i hi, by rw [← e3]; exact hw.2.1, hw.2.2.2⟩ (by rw [List.length_cons]; omega) (by omega) (by omega)
        rw [x1, e2]
        exact (ih.fin.fin).pre x2 (fun i _ => (x6 i).2) (fun _ w => w)
    | cons F L =>
      rw [hF] at ha
      have fs := fpT_s hF
      have ne := fpT_ne FP hpr L
      rcases h.ks hF with z | z | z
      · exact (dl_text h hF z hs d ha hw).pre (fun _ => rfl) (fun _ _ => rfl) (fun C w => Nat.le_of_eq w)
      · have a6 : as = 6 := by
          rcases ha with ⟨_, w⟩ | ⟨w, _⟩ | ⟨w, _⟩
          · exact w
          · omega
          · omega
        subst a6
        have e1 : pfx FP (p :: r) = 1 + pfx (fpT FP p L) (p :: r) := by
          show pf1 (FP p) + (if pfA (FP p) = true then 1 + pfx FP r else 0) = 1 + (pf1 (fpT FP p L p) + (if pfA (fpT FP p L p) = true then 1 + pfx (fpT FP p L) r else 0))
          rw [hF, fpT_o, pfx_o ne]
          show (if kS F = 1 then 1 + pf1 L else 0) + (if (if kS F = 1 then pfA L else false) = true then 1 + pfx FP r else 0) = _
          rw [if_pos z, if_pos z]
          omega
        have e2 := thM_d hpr hF MO LA
        have e3 : gX FP (p :: r) = gX (fpT FP p L) (p :: r) := by
          rw [gX_p FP hpr]
          show gL p (FP p) ++ _ = _
          rw [hF]
          show (if kS F = 2 then _ else gL p L) ++ _ = _
          rw [if_neg (by omega)]
        have e4 : frT FP (p :: r) = 1 + frT (fpT FP p L) (p :: r) := by
          show (FP p).length + 1 + frT FP r = 1 + ((fpT FP p L p).length + 1 + frT (fpT FP p L) r)
          rw [hF, fpT_o, frT_o ne, List.length_cons]
          omega
        obtain ⟨σ2, τ2, x1, x2, x3, x4, x5, x6⟩ := dl_prot h hF z d (by omega)
        have ih := dlv hs k (N.le (Nat.le_succ k)) n np p r (fpT FP p L) ρ A MO LA σ2 τ2 _ _ _ (by omega) x3 x4 (by rw [fpT_o]; exact x5) ⟨fun i hi => by rw [(x6 i).1]; exact hw.1 i hi, by rw [← e3]; exact hw.2.1, pfI_o ne hw.2.2⟩ (by rw [List.length_cons]; omega) (by omega) (by omega)
        rw [x1]
        exact (ih.fin.fin).pre x2 (fun i _ => (x6 i).2) (fun C w => Nat.le_trans w (by omega))
      · have a7 : as = 7 := by
          rcases ha with ⟨w, _⟩ | ⟨_, w⟩ | ⟨w, _⟩
          · omega
          · exact w
          · omega
        subst a7
        obtain ⟨⟨d1, d2, d3, d4, d5⟩, _⟩ := d
        have nl := N n np p r FP ρ A MO LA σ (lj_put τ 0 129 4) F L (h.t129 4) hF z hw ⟨d1, by rw [lj_put_1, if_neg (by omega)]; exact d2, by rw [lj_put_1, if_neg (by omega)]; exact d4, d5⟩ (by simp [lj_put_1, lj_putL_1]) hk hM hT
        have run : lj_R lc_P 144 [.ref 8, .int 7] σ = finC (lj_R lc_P 153 [.ref 8] σ) := by
          rw [rc_144, kc_144_0, if_neg (by decide), if_neg (by decide), if_neg (by decide), if_neg (by decide), if_neg (by decide), if_neg (by decide), if_neg (by decide), if_pos rfl]
          show lj_bv _ _ _ = lj_bv _ _ _
          congr 1
          funext s
          rw [kc_144_316]
        rw [run]
        exact nl.fin.pre (dl_step d2 d3 (m_dlg h hF z)) (fun _ _ => rfl) (fun _ w => w)
theorem dlv_of {σ0 τ0 : lj_S} (hs : stF σ0 τ0) {M : Nat} (N : ∀ k, NLA σ0 τ0 M k) : DLV σ0 τ0 M := fun n np p r FP ρ A MO LA σ τ G G' as h d ha hw hg hM hT => dlv hs _ (N _) n np p r FP ρ A MO LA σ τ G G' as (Nat.le_refl _) h d ha hw hg hM hT
