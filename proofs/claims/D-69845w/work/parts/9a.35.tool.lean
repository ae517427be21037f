/-! tools for acts of the uppermost frame -/
/-- the uppermost frame, seen alone -/
def vw (σ0 τ0 σ τ : lj_S) (ρ : Nat → Nat) (FP : Nat → List kF) (p : Nat) (F : kF) (L : List kF) (ms ks ce me mq : Nat) : Prop :=
  paR σ0 τ0 σ τ ρ FP p p ce me mq ∧ prt σ0 τ0 σ τ ρ p L (kC F) ms ks ∧ frm σ0 τ0 σ τ ρ p L.length F ms ks ce me mq ∧ awR σ0 L (σ.1 98 (20 * p + L.length)) (τ.1 78 (48 * p + L.length)) (τ.1 79 (48 * p + L.length)) ∧ tfr σ0 τ0 σ τ ρ p L.length F ms ks ce me mq ∧ L.length ≤ 19 ∧ p < 26 ∧ σ.1 8 34 = Int32.ofNat (20 * p + L.length) ∧ σ.1 8 8 = Int32.ofNat ce ∧ mAt τ p me mq ∧ (ce + 10 ≤ 12500 * p + 12500 ∧ me + 10 ≤ 10000 ∧ mq + 10 ≤ 2000)
theorem MB.w {σ0 τ0 σ τ : lj_S} {n np p : Nat} {r : List Nat} {FP : Nat → List kF} {ρ : Nat → Nat} {A MO LA : List Nat} (h : MB σ0 τ0 n np p r FP ρ A MO LA σ τ) {F : kF} {L : List kF} (hF : FP p = F :: L) (h0 : kS F = 0) : ∃ ms ks ce me mq, vw σ0 τ0 σ τ ρ FP p F L ms ks ce me mq := h.v hF h0
theorem vw.st {σ0 τ0 σ τ : lj_S} {ρ : Nat → Nat} {FP : Nat → List kF} {p : Nat} {F : kF} {L : List kF} {ms ks ce me mq : Nat} (V : vw σ0 τ0 σ τ ρ FP p F L ms ks ce me mq) : stk σ τ p (kB F + nL σ0 (kY F).1) (kB F + nL σ0 (kY F).1 + 3 * nH σ0 (kY F).1) (ms + kD F) ks (kY F).2.2.2.1 ce me mq (σ.1 97 (20 * p + L.length)) := V.2.2.2.2.1.2.2.2.1
theorem vw.bd {σ0 τ0 σ τ : lj_S} {ρ : Nat → Nat} {FP : Nat → List kF} {p : Nat} {F : kF} {L : List kF} {ms ks ce me mq : Nat} (V : vw σ0 τ0 σ τ ρ FP p F L ms ks ce me mq) : L.length ≤ 19 ∧ p < 26 ∧ ce + 10 ≤ 12500 * p + 12500 ∧ me + 10 ≤ 10000 ∧ mq + 10 ≤ 2000 ∧ 12500 * p ≤ kC F ∧ kB F = kC F + kD F ∧ (kB F + nL σ0 (kY F).1 + 3 * nH σ0 (kY F).1) ≤ ce ∧ (ms + kD F) ≤ me ∧ ks ≤ mq := ⟨V.2.2.2.2.2.1, V.2.2.2.2.2.2.1, V.2.2.2.2.2.2.2.2.2.2.1, V.2.2.2.2.2.2.2.2.2.2.2.1, V.2.2.2.2.2.2.2.2.2.2.2.2, (prt_rg V.2.1).1, rfl, (stk_bd V.st).1, (stk_bd V.st).2.1, (stk_bd V.st).2.2.1⟩
theorem vw.i34 {σ0 τ0 σ τ : lj_S} {ρ : Nat → Nat} {FP : Nat → List kF} {p : Nat} {F : kF} {L : List kF} {ms ks ce me mq : Nat} (V : vw σ0 τ0 σ τ ρ FP p F L ms ks ce me mq) : σ.1 8 34 = Int32.ofNat (20 * p + L.length) := V.2.2.2.2.2.2.2.1
theorem vw.tp {σ0 τ0 σ τ : lj_S} {ρ : Nat → Nat} {FP : Nat → List kF} {p : Nat} {F : kF} {L : List kF} {ms ks ce me mq : Nat} (V : vw σ0 τ0 σ τ ρ FP p F L ms ks ce me mq) : σ.1 8 8 = Int32.ofNat ce := V.2.2.2.2.2.2.2.2.1
theorem vw.at {σ0 τ0 σ τ : lj_S} {ρ : Nat → Nat} {FP : Nat → List kF} {p : Nat} {F : kF} {L : List kF} {ms ks ce me mq : Nat} (V : vw σ0 τ0 σ τ ρ FP p F L ms ks ce me mq) : mAt τ p me mq := V.2.2.2.2.2.2.2.2.2.1
theorem vw.ff {σ0 τ0 σ τ : lj_S} {ρ : Nat → Nat} {FP : Nat → List kF} {p : Nat} {F : kF} {L : List kF} {ms ks ce me mq : Nat} (V : vw σ0 τ0 σ τ ρ FP p F L ms ks ce me mq) : ffa σ0 τ0 σ τ F := V.2.2.2.2.1.2.2.2.2.2
/-- scratch that a run does not look at, and the stacks from a place on -/
def sxC (k j : Nat) : Bool := szC k j && !(k == 8 && (j == 44 || j == 45))
def sxM (k j : Nat) : Bool := szM k j && !(k == 0 && (j == 129 || j == 143 || j == 144 || j == 145))
def tqC (p i lo k j : Nat) : Bool := sxC k j || (k == 94 && j == i) || (k == 97 && j == i) || (k == 8 && j == 8) || ((k == 79 || k == 80 || k == 81) && (decide (lo ≤ j) && decide (j < 12500 * p + 12500)))
def tqM (p i ml kl k j : Nat) : Bool := sxM k j || (k == 77 && j == i) || ((k == 63 || k == 64) && j == p) || ((k == 71 || k == 72) && (decide (10000 * p + ml ≤ j) && decide (j < 10000 * p + 10000))) || (k == 73 && (decide (2000 * p + kl ≤ j) && decide (j < 2000 * p + 2000)))
theorem tqC_t {p i lo k j : Nat} (h : k = 94 ∧ j = i ∨ k = 97 ∧ j = i ∨ k = 8 ∧ j = 8 ∨ (79 ≤ k ∧ k ≤ 81) ∧ lo ≤ j ∧ j < 12500 * p + 12500) : tqC p i lo k j = true := by
  unfold tqC; simp; omega
theorem tqM_t {p i ml kl k j : Nat} (h : k = 77 ∧ j = i ∨ (k = 63 ∨ k = 64) ∧ j = p ∨ (k = 71 ∨ k = 72) ∧ 10000 * p + ml ≤ j ∧ j < 10000 * p + 10000 ∨ k = 73 ∧ 2000 * p + kl ≤ j ∧ j < 2000 * p + 2000) : tqM p i ml kl k j = true := by
  unfold tqM; simp; omega
theorem sxC_f {k j : Nat} (h : ¬ (k = 14 ∨ k = 3 ∧ j = 6 ∨ k = 7 ∧ (j = 27 ∨ j = 28) ∨ (105 ≤ k ∧ k ≤ 108) ∨ k = 8 ∧ (j = 38 ∨ 41 ≤ j ∧ j ≤ 43) ∨ k = 2)) : sxC k j = false := by
  unfold sxC szC; simp; omega
theorem sxM_f {k j : Nat} (h : ¬ (k = 8 ∨ k = 0 ∧ (j = 20 ∨ j = 90 ∨ j = 91 ∨ 130 ≤ j ∧ j ≤ 142) ∨ (88 ≤ k ∧ k ≤ 91))) : sxM k j = false := by
  unfold sxM szM; simp; omega
theorem tqC_f {p i lo k j : Nat} (h1 : sxC k j = false) (h : ¬ (k = 94 ∧ j = i ∨ k = 97 ∧ j = i ∨ k = 8 ∧ j = 8 ∨ (79 ≤ k ∧ k ≤ 81) ∧ lo ≤ j ∧ j < 12500 * p + 12500)) : tqC p i lo k j = false := by
  unfold tqC; rw [h1]; simp; omega
theorem tqM_f {p i ml kl k j : Nat} (h1 : sxM k j = false) (h : ¬ (k = 77 ∧ j = i ∨ (k = 63 ∨ k = 64) ∧ j = p ∨ (k = 71 ∨ k = 72) ∧ 10000 * p + ml ≤ j ∧ j < 10000 * p + 10000 ∨ k = 73 ∧ 2000 * p + kl ≤ j ∧ j < 2000 * p + 2000)) : tqM p i ml kl k j = false := by
  unfold tqM; rw [h1]; simp; omega
theorem tq_tp {p i lo ob : Nat} (hlo : ob ≤ lo) {σ σ' : lj_S} (f : lf (tqC p i lo) σ σ') : lf (tpC p i ob) σ σ' := f.mo (fun k j q => by
  unfold tpC at q
  unfold tqC sxC
  simp at q ⊢
  obtain ⟨⟨⟨⟨q1, q2⟩, q3⟩, q4⟩, q5⟩ := q
  refine ⟨⟨⟨⟨(fun y => by rw [q1] at y; cases y), q2⟩, q3⟩, q4⟩, fun z1 z2 => q5 z1 (by omega)⟩)
theorem tq_tpM {p i ml kl mb kb : Nat} (hml : mb ≤ ml) (hkl : kb ≤ kl) {τ τ' : lj_S} (g : lf (tqM p i ml kl) τ τ') : lf (tpM p i mb kb) τ τ' := g.mo (fun k j q => by
  unfold tpM at q
  unfold tqM sxM
  simp at q ⊢
  obtain ⟨⟨⟨⟨q1, q2⟩, q3⟩, q4⟩, q5⟩ := q
  refine ⟨⟨⟨⟨(fun y => by rw [q1] at y; cases y), q2⟩, q3⟩, fun z1 z2 => q4 z1 (by omega)⟩, fun z1 z2 => q5 z1 (by omega)⟩)
theorem tq_pu {p i lo : Nat} {σ σ1 : lj_S} (f : lf (tqC p i lo) σ σ1) {t : Nat} (u : vT) (h1 : lo ≤ t) (h2 : t < 12500 * p + 12500) : lf (tqC p i lo) σ (cPu σ1 t u) := by
  unfold cPu
  exact lf_put (lf_put (lf_putL (lf_put f 79 t _ (tqC_t (by omega))) 80 t _ (tqC_t (by omega))) 81 t _ (tqC_t (by omega))) 8 8 _ (tqC_t (by omega))
theorem tq_94 {p i lo : Nat} {σ σ1 : lj_S} (f : lf (tqC p i lo) σ σ1) (v : Int32) : lf (tqC p i lo) σ (lj_put σ1 94 i v) := lf_put f 94 i _ (tqC_t (by omega))
theorem tq_97 {p i lo : Nat} {σ σ1 : lj_S} (f : lf (tqC p i lo) σ σ1) (v : Int32) : lf (tqC p i lo) σ (lj_put σ1 97 i v) := lf_put f 97 i _ (tqC_t (by omega))
theorem tq_88 {p i lo : Nat} {σ σ1 : lj_S} (f : lf (tqC p i lo) σ σ1) (v : Int32) : lf (tqC p i lo) σ (lj_put σ1 8 8 v) := lf_put f 8 8 _ (tqC_t (by omega))
theorem tm_pu {p i ml kl : Nat} {τ τ1 : lj_S} (g : lf (tqM p i ml kl) τ τ1) {t : Nat} (w : vT) (h1 : ml ≤ t) (h2 : t < 10000) : lf (tqM p i ml kl) τ (mPu τ1 p t w) := by
  unfold mPu
  exact lf_put (lf_putL (lf_put g 71 _ _ (tqM_t (by omega))) 72 _ _ (tqM_t (by omega))) 63 p _ (tqM_t (by omega))
theorem tm_77 {p i ml kl : Nat} {τ τ1 : lj_S} (g : lf (tqM p i ml kl) τ τ1) (v : Int32) : lf (tqM p i ml kl) τ (lj_put τ1 77 i v) := lf_put g 77 i _ (tqM_t (by omega))
theorem tm_63 {p i ml kl : Nat} {τ τ1 : lj_S} (g : lf (tqM p i ml kl) τ τ1) (v : Int32) : lf (tqM p i ml kl) τ (lj_put τ1 63 p v) := lf_put g 63 p _ (tqM_t (by omega))
theorem tm_64 {p i ml kl : Nat} {τ τ1 : lj_S} (g : lf (tqM p i ml kl) τ τ1) (v : Int32) : lf (tqM p i ml kl) τ (lj_put τ1 64 p v) := lf_put g 64 p _ (tqM_t (by omega))
theorem tm_73 {p i ml kl : Nat} {τ τ1 : lj_S} (g : lf (tqM p i ml kl) τ τ1) {j : Nat} (v : Int32) (h1 : kl ≤ j) (h2 : j < 2000) : lf (tqM p i ml kl) τ (lj_put τ1 73 (2000 * p + j) v) := lf_put g 73 _ _ (tqM_t (by omega))
/-- what runs goes on -/
theorem tq_rg {p i lo p' i' ml kl : Nat} {σ σ' τ τ' : lj_S} (f : lf (tqC p i lo) σ σ') (g : lf (tqM p' i' ml kl) τ τ') (rg : rgR σ τ) : rgR σ' τ' := by
  obtain ⟨g1, g2, g3, g4, g5⟩ := rg
  refine ⟨?_, ?_, ?_, ?_, ?_⟩
  · rw [(f 8 46 (tqC_f (sxC_f (by omega)) (by omega))).1]; exact g1
  · rw [(g 0 143 (tqM_f (by decide) (by omega))).1]; exact g2
  · rw [(g 0 129 (tqM_f (by decide) (by omega))).1]; exact g3
  · rw [(f 8 45 (tqC_f (by decide) (by omega))).1, (g 0 144 (tqM_f (by decide) (by omega))).1]; exact g4
  · rw [(f 8 44 (tqC_f (by decide) (by omega))).2, (g 0 145 (tqM_f (by decide) (by omega))).2]; exact g5
/-- an act that changes the stacks of the uppermost frame from a place on -/
theorem MB.tpw {σ0 τ0 σ τ : lj_S} {n np p : Nat} {r : List Nat} {FP : Nat → List kF} {ρ : Nat → Nat} {A MO LA : List Nat} (h : MB σ0 τ0 n np p r FP ρ A MO LA σ τ) {F : kF} {L : List kF} (hF : FP p = F :: L) (h0 : kS F = 0) (rg : rgR σ τ) {ms ks ce me mq : Nat} (V : vw σ0 τ0 σ τ ρ FP p F L ms ks ce me mq) {σ' τ' : lj_S} {lo ml kl : Nat} (hlo : (kB F + nL σ0 (kY F).1 + 3 * nH σ0 (kY F).1) ≤ lo) (hml : (ms + kD F) ≤ ml) (hkl : ks ≤ kl) (f : lf (tqC p (20 * p + L.length) lo) σ σ') (g : lf (tqM p (48 * p + L.length) ml kl) τ τ') {s1 : List Nat} {ce1 me1 mq1 : Nat} {cm1 : Int32} (b : stk σ τ p (kB F + nL σ0 (kY F).1) (kB F + nL σ0 (kY F).1 + 3 * nH σ0 (kY F).1) (ms + kD F) ks s1 ce1 me1 mq1 cm1) (hce : ce1 ≤ lo) (hme : me1 ≤ ml) (hmq : mq1 ≤ kl) (hf1 : (flo s1).length ≤ nH σ0 (kY F).1) {s' : List Nat} {c' m' n' w' ce' me' mq' : Nat} (hs : stk σ' τ' p (kB F + nL σ0 (kY F).1) (kB F + nL σ0 (kY F).1 + 3 * nH σ0 (kY F).1) (ms + kD F) ks s1 ce1 me1 mq1 cm1 → stk σ' τ' p (kB F + nL σ0 (kY F).1) (kB F + nL σ0 (kY F).1 + 3 * nH σ0 (kY F).1) (ms + kD F) ks s' ce' me' mq' (σ'.1 97 (20 * p + L.length))) (e94 : σ'.1 94 (20 * p + L.length) = Int32.ofNat c') (e77 : τ'.1 77 (48 * p + L.length) = Int32.ofNat m') (e8 : σ'.1 8 8 = Int32.ofNat ce') (e63 : τ'.1 63 p = Int32.ofNat me') (e64 : τ'.1 64 p = Int32.ofNat mq') (hO : sOK s') (hfl : (flo s').length ≤ nH σ0 (kY F).1) (hn : n' = 0 ∧ w' = 0 ∨ n' ≠ 0 ∧ wtR σ0 τ0 (kY F).1 c' m' s' (kY F).2.2.2.2.1 (kY F).2.2.2.2.2 (n' - 1) w') (hw : w' ≠ 0 → ((1 ≤ c' ∧ c' ≤ 14000) ∧ scl σ0 (kY F).1 (c' - 1) s' (kY F).2.2.2.2.1 (kY F).2.2.2.2.2) ∧ ∀ x ∈ s', x ≠ 5) (g81 : ∀ j, σ'.1 81 j = σ.1 81 j ∨ σ'.1 81 j = -1 := by intro j; left; simp [lj_put_1, lj_putL_1]) :
    MB σ0 τ0 n np p r (fpT FP p (kTo F c' m' s' (kY F).2.2.2.2.1 (kY F).2.2.2.2.2 n' w' :: L)) ρ A MO LA σ' τ' ∧ rgR σ' τ' := by
  have f' := tq_tp hlo f
  have g' := tq_tpM hml hkl g
  have vr := tp_vR f' g'
  have B := V.bd
  have nl := V.ff.1
  have fs : ∀ k j, ¬ ((79 ≤ k ∧ k ≤ 81) ∧ lo ≤ j) → 79 ≤ k → k ≤ 81 → σ'.1 k j = σ.1 k j ∧ σ'.2 k j = σ.2 k j := fun k j z z1 z2 => f k j (tqC_f (sxC_f (by omega)) (by omega))
  have st := hs (stk_cg (fun a b z => z.cg vr.1 vr.2) b (fun j z => ⟨(fs 79 j (by omega) (by omega) (by omega)).1, (fs 80 j (by omega) (by omega) (by omega)).2, (fs 81 j (by omega) (by omega) (by omega)).1⟩) (fun j z => ⟨(fs 79 j (by omega) (by omega) (by omega)).1, (fs 80 j (by omega) (by omega) (by omega)).2⟩) (fun j z => ⟨(g 71 _ (tqM_f (sxM_f (by omega)) (by omega))).1, (g 72 _ (tqM_f (sxM_f (by omega)) (by omega))).2⟩) (fun j z => (g 73 _ (tqM_f (sxM_f (by omega)) (by omega))).1))
  have bd := top_bd V.2.1 V.2.2.2.1 V.2.2.2.2.2.1 nl.2.2.2.2.1 nl.2.1 nl.2.2.1 st hO
  refine ⟨h.top hF h0 V.1 V.2.1 V.2.2.1 V.2.2.2.1 f' g' e94 e77 e8 e63 e64 (by omega) (by omega) (by omega) st hfl (Nat.le_refl _) ⟨⟨nl.1, nl.2.1, nl.2.2.1, hO, nl.2.2.2.2⟩, V.ff.2.1.imp id (fun z => ⟨(tp_oa f' g' _ _).2 z.1, by show σ'.1 62 (kO F) = _; rw [(tp_eq f' (k := 62) (j := kO F) (by omega)).1]; exact z.2⟩), hn, hw⟩ g81, tq_rg f g rg⟩
/-- the same, of a frame that waits for nothing: an act that changes the stacks of the uppermost frame from a place on -/
theorem MB.tp {σ0 τ0 σ τ : lj_S} {n np p : Nat} {r : List Nat} {FP : Nat → List kF} {ρ : Nat → Nat} {A MO LA : List Nat} (h : MB σ0 τ0 n np p r FP ρ A MO LA σ τ) {F : kF} {L : List kF} (hF : FP p = F :: L) (h0 : kS F = 0) (rg : rgR σ τ) {ms ks ce me mq : Nat} (V : vw σ0 τ0 σ τ ρ FP p F L ms ks ce me mq) {σ' τ' : lj_S} {lo ml kl : Nat} (hlo : (kB F + nL σ0 (kY F).1 + 3 * nH σ0 (kY F).1) ≤ lo) (hml : (ms + kD F) ≤ ml) (hkl : ks ≤ kl) (f : lf (tqC p (20 * p + L.length) lo) σ σ') (g : lf (tqM p (48 * p + L.length) ml kl) τ τ') {s1 : List Nat} {ce1 me1 mq1 : Nat} {cm1 : Int32} (b : stk σ τ p (kB F + nL σ0 (kY F).1) (kB F + nL σ0 (kY F).1 + 3 * nH σ0 (kY F).1) (ms + kD F) ks s1 ce1 me1 mq1 cm1) (hce : ce1 ≤ lo) (hme : me1 ≤ ml) (hmq : mq1 ≤ kl) (hf1 : (flo s1).length ≤ nH σ0 (kY F).1) {s' : List Nat} {c' m' n' ce' me' mq' : Nat} (hs : stk σ' τ' p (kB F + nL σ0 (kY F).1) (kB F + nL σ0 (kY F).1 + 3 * nH σ0 (kY F).1) (ms + kD F) ks s1 ce1 me1 mq1 cm1 → stk σ' τ' p (kB F + nL σ0 (kY F).1) (kB F + nL σ0 (kY F).1 + 3 * nH σ0 (kY F).1) (ms + kD F) ks s' ce' me' mq' (σ'.1 97 (20 * p + L.length))) (e94 : σ'.1 94 (20 * p + L.length) = Int32.ofNat c') (e77 : τ'.1 77 (48 * p + L.length) = Int32.ofNat m') (e8 : σ'.1 8 8 = Int32.ofNat ce') (e63 : τ'.1 63 p = Int32.ofNat me') (e64 : τ'.1 64 p = Int32.ofNat mq') (hO : sOK s') (hfl : (flo s').length ≤ nH σ0 (kY F).1) (hn : n' = 0 ∨ n' ≠ 0 ∧ gn σ0 τ0 (n' - 1) ((kY F).1, c', m', s', (kY F).2.2.2.2.1, (kY F).2.2.2.2.2)) (g81 : ∀ j, σ'.1 81 j = σ.1 81 j ∨ σ'.1 81 j = -1 := by intro j; left; simp [lj_put_1, lj_putL_1]) :
    MB σ0 τ0 n np p r (fpT FP p (kTo F c' m' s' (kY F).2.2.2.2.1 (kY F).2.2.2.2.2 n' 0 :: L)) ρ A MO LA σ' τ' ∧ rgR σ' τ' :=
  h.tpw hF h0 rg V hlo hml hkl f g b hce hme hmq hf1 hs e94 e77 e8 e63 e64 hO hfl (hn.imp (fun z => ⟨z, rfl⟩) id) (fun z => absurd rfl z) g81
/-- the component's fetch -/
theorem c_ft {σ0 τ0 σ τ : lj_S} {n np p : Nat} {r : List Nat} {FP : Nat → List kF} {ρ : Nat → Nat} {A MO LA : List Nat} (h : MB σ0 τ0 n np p r FP ρ A MO LA σ τ) {F : kF} {L : List kF} (hF : FP p = F :: L) (h0 : kS F = 0) (hs : stF σ0 τ0) {K : Int32} (k1 : σ0.1 22 (kY F).2.1 = K) (hK : K ≠ -1) : lj_in (σ.1 8 34) 520 ∧ (σ.1 8 34).toNatClampNeg = (20 * p + L.length) ∧ σ.1 94 (σ.1 8 34).toNatClampNeg = Int32.ofNat (kY F).2.1 ∧ lj_in (Int32.ofNat (kY F).2.1) 14000 ∧ σ.1 23 (Int32.ofNat (kY F).2.1).toNatClampNeg = σ0.1 23 (kY F).2.1 ∧ σ.1 26 (Int32.ofNat (kY F).2.1).toNatClampNeg = σ0.1 26 (kY F).2.1 ∧ σ.1 22 (Int32.ofNat (kY F).2.1).toNatClampNeg = K ∧ (Int32.ofNat (kY F).2.1).toNatClampNeg = (kY F).2.1 := by
  obtain ⟨⟨c1, c2, c3, c4, c5⟩, c6⟩ := (h.cx hF h0 hs).1 (by rw [k1]; exact hK)
  exact ⟨c1, c2, c3, c4, by rw [c5]; exact c6 23 (by decide) (by decide), by rw [c5]; exact c6 26 (by decide) (by decide), by rw [c5, c6 22 (by decide) (by decide)]; exact k1, c5⟩
/-- the uppermost value of the model, or none -/
def tk (τ : lj_S) (p me : Nat) : vT := (if me = 0 then -1 else (mv τ (10000 * p + (me - 1))).1, if me = 0 then 0 else (mv τ (10000 * p + (me - 1))).2)
theorem tk_1 (τ : lj_S) (p me : Nat) : tk τ p (me + 1) = mv τ (10000 * p + me) := by
  unfold tk
  rw [if_neg (by omega), if_neg (by omega)]
  rfl
/-- the model's fetch: a word from 12 on, a word from 27 on -/
theorem m_lo {σ0 τ0 σ τ : lj_S} {n np p : Nat} {r : List Nat} {FP : Nat → List kF} {ρ : Nat → Nat} {A MO LA : List Nat} (h : MB σ0 τ0 n np p r FP ρ A MO LA σ τ) {F : kF} {L : List kF} (hF : FP p = F :: L) (h0 : kS F = 0) {ms ks ce me mq : Nat} (V : vw σ0 τ0 σ τ ρ FP p F L ms ks ce me mq) (hs : stF σ0 τ0) {K : Int32} (k2 : τ0.1 20 (kY F).2.2.1 = K) (hK : 11 < K) {τ2 : lj_S} (e : lj_in (Int32.ofNat (kY F).2.2.1) 14000 → (lj_put τ 77 (48 * p + L.length) (Int32.ofNat ((kY F).2.2.1 + 1))).1 20 (Int32.ofNat (kY F).2.2.1).toNatClampNeg = K → lj_D lm_P lm_M127 21 [.ref 0, .int (Int32.ofNat (48 * p + L.length)), .int (Int32.ofNat (kY F).2.2.1), .int (τ0.1 21 (kY F).2.2.1), .int (tk τ p me).1, .retAddr 0, .retAddr 0, .retAddr 0, .retAddr 0, .retAddr 0, .retAddr 0] [.long (tk τ p me).2] (lj_put τ 77 (48 * p + L.length) (Int32.ofNat ((kY F).2.2.1 + 1))) = some (.inl none, τ2)) : lj_R lm_P 121 [.ref 0] τ = some (.inl (some (.int 1)), τ2) := by
  obtain ⟨⟨m1, m2, m3, m4, m5, m6, m7⟩, m8⟩ := (h.cx hF h0 hs).2 (by rw [k2]; intro z; rw [z] at hK; exact absurd hK (by decide))
  have k20 : τ.1 20 (kY F).2.2.1 = K := by rw [m8 20 (by decide) (by decide)]; exact k2
  have at0 := V.at
  have at1 : mAt (lj_put τ 77 (48 * p + L.length) (Int32.ofNat ((kY F).2.2.1 + 1))) p me mq := by
    obtain ⟨a1, a2, a3, a4, a5, a6⟩ := at0
    exact ⟨by rw [lj_put_1, if_neg (by omega)]; exact a1, a2, by rw [lj_put_1, if_neg (by omega)]; exact a3, a4, by rw [lj_put_1, if_neg (by omega)]; exact a5, a6⟩
  have prtF : prt σ0 τ0 σ τ ρ p (F :: L) ce me mq := ⟨ms, ks, V.2.1, V.2.2.1, V.2.2.2.1⟩
  have em : ∀ j, mv (lj_put τ 77 (48 * p + L.length) (Int32.ofNat ((kY F).2.2.1 + 1))) j = mv τ j := fun j => by
    unfold mv
    rw [lj_put_1, if_neg (by omega)]
    rfl
  rw [mw_x τ m1 m2 m3 m5 m6 (A := τ0.1 21 (kY F).2.2.1) (by rw [m7]; exact m8 21 (by decide) (by decide)) (K := K) (by rw [m7]; exact k20) hK, m4, lz_osucc, m_w127 at1 _ _ _ (fun z => by rw [em]; exact prt_nn prtF (me - 1) (by omega)), em]
  have q := e m6 (by rw [m7, lj_put_1, if_neg (by omega)]; exact k20)
  unfold tk at q
  rw [q, bv_ok, km_121_398]
theorem m_hi {σ0 τ0 σ τ : lj_S} {n np p : Nat} {r : List Nat} {FP : Nat → List kF} {ρ : Nat → Nat} {A MO LA : List Nat} (h : MB σ0 τ0 n np p r FP ρ A MO LA σ τ) {F : kF} {L : List kF} (hF : FP p = F :: L) (h0 : kS F = 0) {ms ks ce me mq : Nat} (V : vw σ0 τ0 σ τ ρ FP p F L ms ks ce me mq) (hs : stF σ0 τ0) {K : Int32} (k2 : τ0.1 20 (kY F).2.2.1 = K) (hK : 26 < K) {τ2 : lj_S} (e : lj_in (Int32.ofNat (kY F).2.2.1) 14000 → (lj_put τ 77 (48 * p + L.length) (Int32.ofNat ((kY F).2.2.1 + 1))).1 20 (Int32.ofNat (kY F).2.2.1).toNatClampNeg = K → lj_R lm_P 153 [.ref 0, .int (Int32.ofNat (48 * p + L.length)), .int (Int32.ofNat (kY F).2.2.1), .int (τ0.1 21 (kY F).2.2.1), .int (tk τ p me).1, .long (tk τ p me).2] (lj_put τ 77 (48 * p + L.length) (Int32.ofNat ((kY F).2.2.1 + 1))) = some (.inl none, τ2)) : lj_R lm_P 121 [.ref 0] τ = some (.inl (some (.int 1)), τ2) :=
  m_lo h hF h0 V hs k2 (by have : (11 : Int32) < 26 := by decide
                           exact Int32.lt_trans this hK) (fun z1 z2 => by rw [my_x _ z1 z2 hK, e z1 z2, bv_ok, km_127_420])
