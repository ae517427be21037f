/-! operators with one side -/
theorem x_un {σ0 τ0 σ τ : lj_S} {n np p : Nat} {r : List Nat} {FP : Nat → List kF} {ρ : Nat → Nat} {MO LA : List Nat} {F : kF} {L : List kF} {c m : Nat} {s l : List Nat} {dd n1 : Nat} (C : ∀ M k, CAL σ0 τ0 M k) (h : MB σ0 τ0 n np p r (fpT FP p (kTo F c m s l dd n1 0 :: L)) ρ [] MO LA σ τ) (rg : rgR σ τ) {σa : lj_S} (hwk : wkR FP (p :: r) [] σa) {n' : Nat} (hn1 : n1 ≤ n' + 1) (hn : gn σ0 τ0 n' ((kY F).1, c, m, 0 :: s, l, dd)) (hc : 1 ≤ c ∧ c ≤ 14000) (hsc : scl σ0 (kY F).1 (c - 1) s l dd) (h5 : ∀ x ∈ s, x ≠ 5) {X : Nat} (hX : lsX FP p r L MO LA n' X) (hT : X ≤ TH) {q : Nat} (hq : q = 0 ∨ q = 1) {a a' : vT} (ha : vR σ τ a a') (line : Int32) (k : Int32) : ∃ τ1, lj_R lm_P 157 [.ref 0, .int (Int32.ofNat (13 + q)), .int a'.1, .long a'.2, .int a'.1, .long a'.2, .int line] τ = some (.inl none, τ1) ∧ ocR σ0 τ0 [] (fun t => t < X) σ τ1 (if a.1 = 2 then lj_D lc_P lc_M216 230 [.ref 8, .int k, .int line, .int a.1, .long a.2, .retAddr 0, .retAddr 0, .retAddr 0, .retAddr 0] [.long (if q = 0 then -a.2 else a.2 ^^^ (-1)), .int 2, .ref 8] σ else lj_D lc_P lc_M216 250 [.ref 8, .int k, .int line, .int a.1, .long a.2, .retAddr 0, .retAddr 0, .retAddr 0, .retAddr 0] [.int (Int32.ofNat (10 + q)), .ref 8] σ) := by
  have ka : a.1 = 2 ↔ a'.1 = 2 := ha.kk (by decide) (by decide)
  by_cases z : a.1 = 2
  · have ea := ha.wh z
    subst ea
    obtain ⟨ce, me, mq, t1, t2, t3, t4, t5⟩ := x_pv C h rg hwk hn1 hn hc hsc h5 hX hT (vR_whole σ τ (if q = 0 then -a'.2 else a'.2 ^^^ (-1))) (lf_rf _ _) (lf_rf _ _)
    have mp : lj_R lm_P 116 [.ref 0, .int 2, .long (if q = 0 then -a'.2 else a'.2 ^^^ (-1))] τ = some (.inl none, mPu τ p me (2, if q = 0 then -a'.2 else a'.2 ^^^ (-1))) := m_push t3 t4 (2, if q = 0 then -a'.2 else a'.2 ^^^ (-1))
    have cp : lj_R lc_P 137 [.ref 8, .int 2, .long (if q = 0 then -a'.2 else a'.2 ^^^ (-1))] σ = _ := c_push t1 t2 (2, if q = 0 then -a'.2 else a'.2 ^^^ (-1))
    refine ⟨mPu τ p me (2, if q = 0 then -a'.2 else a'.2 ^^^ (-1)), ?_, ?_⟩
    · have e158 : lj_R lm_P 158 [.ref 0, .int (Int32.ofNat (13 + q)), .long a'.2, .long a'.2] τ = some (.inl (some (.long (if q = 0 then -a'.2 else a'.2 ^^^ (-1)))), τ) := by
        rw [rm_158, km_158_0]
        rcases hq with rfl | rfl
        · rw [if_neg (by decide), if_neg (by decide), if_neg (by decide), if_neg (by decide), if_neg (by decide), if_neg (by decide), if_neg (by decide), if_neg (by decide), if_neg (by decide), if_neg (by decide), if_pos (by decide), if_pos rfl]
        · rw [if_neg (by decide), if_neg (by decide), if_neg (by decide), if_neg (by decide), if_neg (by decide), if_neg (by decide), if_neg (by decide), if_neg (by decide), if_neg (by decide), if_neg (by decide), if_neg (by decide), if_neg (by decide)]
      rw [rm_157, km_157_0, if_pos z, if_pos z, if_neg (by rcases hq with rfl | rfl <;> decide), if_neg (by rcases hq with rfl | rfl <;> decide), km_157_40, e158, bl_ok, mp, bv_ok, km_157_53]
    · rw [if_pos z, kc_216_230, cp, bv_ok, kc_216_274]
      exact t5 σ
  · rw [if_neg z, kc_216_250, rm_157, km_157_0, if_neg (fun u => z (ka.2 u)), km_157_54]
    have ee : Int32.ofNat (evM (10 + q)) = Int32.ofNat (13 + q) := by rcases hq with rfl | rfl <;> rfl
    rcases x_evt C h rg hwk hn1 hn hc hsc h5 hX hT (e := 10 + q) (w := 1) (by omega) (by omega) ha ha line with ⟨σ1, τ1, y1, y2, y3, y4, y5⟩ | ⟨τ1, τ2, y1, y2, y3, y4⟩
    · rw [ee] at y3
      have y5 : lj_R lc_P 210 [.ref 8, .int (Int32.ofNat (10 + q)), .int a.1, .long a.2, .int a.1, .long a.2, .int 1, .int line] σ = some (.inl (some (.int 0)), σ1) := y5
      obtain ⟨σ', τ', g1, g2, g3⟩ := cm_wrongOf (h.fdx y1 y2).2.1 line (e := 6) (by decide) (ha.fdl y1 y2)
      have g1 : lj_br (lj_R lc_P 156 [.ref 8, .int line, .ref 1042, .int a.1] σ1) (fun y s => (bif Nat.blt y 2000 then lj_up y s else none)) lj_up = some (.inr 2, σ') := g1
      have g2 : lj_R lm_P 131 [.ref 0, .int 6, .int line, .int a'.1] τ1 = some (.inl none, τ') := g2
      refine ⟨τ', by rw [y3, bv_ok, if_pos y4, if_neg (fun u => z (ka.2 u)), km_157_88, g2, bv_ok], ?_⟩
      rw [y5, bi_ok, if_pos rfl, g1]
      exact oc_er (h.fdx y1 y2) ((rg_ry rg).fdx y1 y2) hwk g3 rfl (n' := n') hn1 hX
    · rw [ee] at y1
      refine ⟨τ2, by rw [y1, bv_ok, if_neg y2]; exact y3 _, y4 _ σ (fun s => by rw [if_neg (by decide), kc_216_274])⟩
/-- an event is called with one value -/
theorem x_ev1 {σ0 τ0 σ τ : lj_S} {n np p : Nat} {r : List Nat} {FP : Nat → List kF} {ρ : Nat → Nat} {A MO LA : List Nat} (C : ∀ M k, CAL σ0 τ0 M k) (h : MB σ0 τ0 n np p r FP ρ A MO LA σ τ) (ry : ryR σ τ) (hwk : wkR FP (p :: r) A σ) {F : kF} {L : List kF} (hF : FP p = F :: L) (h0 : kS F = 0) (hW : kW F ≠ 0) {f f' c c' : vT} (hf : vR σ τ f f') (hc : vR σ τ c c') (line : Int32) {as md wt : Int32} (e : as = waA (kW F) ∧ md = waM (kW F) ∧ wt = waN σ0 (kY F).2.1 (kW F)) (d' : vT) (hT : thM FP (p :: r) MO LA + 5001 ≤ TH) : ∃ σ2, (∀ K, lj_bv (lj_R lc_P 154 [.ref 8, .int c.1, .long c.2] (lj_put σ 8 38 0)) K lj_up = K σ2) ∧ ocR σ0 τ0 A (fun t => t ≤ thM FP (p :: r) MO LA + 5001) σ (lj_put (gv2 τ md wt line f' c' d') 0 137 1) (lj_R lc_P 155 [.ref 8, .int f.1, .long f.2, .int as, .int line] σ2) := by
  have g0 : gvC (lj_put σ 8 38 0) [] := ⟨by unfold lv; rw [lj_put_1, if_pos ⟨rfl, rfl⟩]; rfl, fun j hj => absurd hj (by simp)⟩
  obtain ⟨σ2, b1, b2, b3⟩ := c_give g0 (by decide) c
  have f2 : lf gsC σ σ2 := (lf_put (lf_rf _ _) 8 38 _ rfl).tr b3
  have g2 : lf gv2s τ (lj_put (gv2 τ md wt line f' c' d') 0 137 1) := lf_put (gv2_lf τ md wt line f' c' d') 0 137 1 rfl
  have v2 := gv2_v τ md wt line f' c' d'
  have sC : lf szC σ σ2 := f2.mo (fun k j q => by unfold szC at q; unfold gsC; simp at q ⊢; omega)
  have sM' : lf szM τ (lj_put (gv2 τ md wt line f' c' d') 0 137 1) := g2.mo (fun k j q => by unfold szM at q; unfold gv2s; simp at q ⊢; omega)
  have h2 := h.sc sC sM'
  have vv : ∀ {a b : vT}, vR σ τ a b → vR σ2 (lj_put (gv2 τ md wt line f' c' d') 0 137 1) a b := fun w => w.cg (fun k j q => (f2 k j (by unfold vqC at q; unfold gsC; simp at q ⊢; omega)).1) (fun k j q => (g2 k j (by unfold vqM at q; unfold gv2s; simp at q ⊢; omega)).1)
  refine ⟨σ2, fun K => by rw [b1, bv_ok], ?_⟩
  have px := pfx_0 (r := r) hF h0
  have nn : ∀ j, j ≠ 137 → (lj_put (gv2 τ md wt line f' c' d') 0 137 1).1 0 j = (gv2 τ md wt line f' c' d').1 0 j := fun j z => by rw [lj_put_1, if_neg (by omega)]
  have := C (thM FP (p :: r) MO LA) 200 n np p r FP ρ A MO LA σ2 _ f f' [c] [c'] as line h2 ⟨by rw [(f2 8 46 rfl).1]; exact ry.1, by rw [(g2 0 143 rfl).1]; exact ry.2.1, by rw [(f2 8 45 rfl).1, (g2 0 144 rfl).1]; exact ry.2.2.1, by rw [(f2 8 44 rfl).2, (g2 0 145 rfl).2]; exact ry.2.2.2⟩ ⟨fun i hi => by rw [(f2 102 i rfl).1]; exact hwk.1 i hi, hwk.2⟩ (vv hf) (by rw [nn 133 (by decide)]; exact v2.2.2.2.2.1) (by rw [nn 129 (by decide)]; exact v2.1) (by rw [hF, nn 130 (by decide), nn 131 (by decide), v2.2.1, v2.2.2.1]; exact wa_aw h0 hW e) (by rw [nn 132 (by decide)]; exact v2.2.2.2.1) ⟨b2, ⟨by unfold lv; rw [lj_put_1, if_pos ⟨rfl, rfl⟩]; rfl, fun j hj => by
      have hj : j < 1 := hj
      have : j = 0 := by omega
      subst this
      have q := v2.2.2.2.2.2.2 0 (by show 0 < 2; omega)
      rw [lj_put_1, if_neg (by omega)]
      exact q⟩, rfl, fun j hj => by
    have hj : j < 1 := hj
    have : j = 0 := by omega
    subst this
    exact vv hc⟩ (Or.inl ⟨by rw [px]; simp, by simp⟩) (Nat.le_refl _) hT
  exact this.pre (fun _ => rfl) (fun i _ => (f2 103 i rfl).1) (fun _ q => q)
/-- in the middle of an act with one value -/
theorem MB.one {σ0 τ0 σ τ : lj_S} {n np p : Nat} {r : List Nat} {FP : Nat → List kF} {ρ : Nat → Nat} {A MO LA : List Nat} (h : MB σ0 τ0 n np p r FP ρ A MO LA σ τ) {F : kF} {L : List kF} (hF : FP p = F :: L) (h0 : kS F = 0) (rg : rgR σ τ) (hs : stF σ0 τ0) {ms ks ce me mq : Nat} (V : vw σ0 τ0 σ τ ρ FP p F L ms ks ce me mq) {s' : List Nat} (hsh : (kY F).2.2.2.1 = 0 :: s') (h5 : ∀ x ∈ s', x ≠ 5) : ∃ ce' me', ce = ce' + 1 ∧ me = me' + 1 ∧ vR σ τ (cv σ ce') (mv τ (10000 * p + me')) ∧ MB σ0 τ0 n np p r (fpT FP p (kTo F ((kY F).2.1 + 1) ((kY F).2.2.1 + 1) s' (kY F).2.2.2.2.1 (kY F).2.2.2.2.2 0 0 :: L)) ρ A MO LA (lj_put (lj_put σ 94 (20 * p + L.length) (Int32.ofNat ((kY F).2.1 + 1))) 8 8 (Int32.ofNat ce')) (lj_put (lj_put τ 77 (48 * p + L.length) (Int32.ofNat ((kY F).2.2.1 + 1))) 63 p (Int32.ofNat me')) ∧ rgR (lj_put (lj_put σ 94 (20 * p + L.length) (Int32.ofNat ((kY F).2.1 + 1))) 8 8 (Int32.ofNat ce')) (lj_put (lj_put τ 77 (48 * p + L.length) (Int32.ofNat ((kY F).2.2.1 + 1))) 63 p (Int32.ofNat me')) ∧ (∀ a b, vR σ τ a b → vR (lj_put (lj_put σ 94 (20 * p + L.length) (Int32.ofNat ((kY F).2.1 + 1))) 8 8 (Int32.ofNat ce')) (lj_put (lj_put τ 77 (48 * p + L.length) (Int32.ofNat ((kY F).2.2.1 + 1))) 63 p (Int32.ofNat me')) a b) := by
  have st := V.st
  have hO := V.ff.1.2.2.2.1
  have hfl := V.fl
  have m64 : τ.1 64 p = Int32.ofNat mq := V.at.2.2.2.2.1
  rw [hsh] at st hO hfl
  obtain ⟨ce', me', e3, e4, hv, _, _, _, st⟩ := st.u0 (Or.inl rfl)
  have hfl' : (flo s').length ≤ nH σ0 (kY F).1 := Nat.le_trans (flo_t 0 s') hfl
  have fC : lf (tqC p (20 * p + L.length) ce') σ (lj_put (lj_put σ 94 (20 * p + L.length) (Int32.ofNat ((kY F).2.1 + 1))) 8 8 (Int32.ofNat ce')) := tq_88 (tq_94 (lf_rf _ _) _) _
  have fM := tm_63 (tm_77 (lf_rf (tqM p (48 * p + L.length) me' mq) τ) (Int32.ofNat ((kY F).2.2.1 + 1))) (Int32.ofNat me')
  obtain ⟨g1, g2⟩ := h.dn hF h0 rg V st fC fM (n' := 0) (c' := (kY F).2.1 + 1) (m' := (kY F).2.2.1 + 1) (by simp [lj_put_1, lj_putL_1]) (by simp [lj_put_1, lj_putL_1]) (by simp [lj_put_1, lj_putL_1]) (by simp [lj_put_1, lj_putL_1]) (by simp [lj_put_1, lj_putL_1]) (by simp [lj_put_1, m64]) hO.tl hfl' (Or.inl rfl)
  exact ⟨ce', me', e3, e4, hv, g1, g2, fun a b q => vR_tq fC fM q⟩
theorem act_36 {σ0 τ0 σ τ : lj_S} {n np p : Nat} {r : List Nat} {FP : Nat → List kF} {ρ : Nat → Nat} {A MO LA : List Nat} (h : MB σ0 τ0 n np p r FP ρ A MO LA σ τ) {F : kF} {L : List kF} (hF : FP p = F :: L) (h0 : kS F = 0) (rg : rgR σ τ) (hs : stF σ0 τ0) {Z : List pT} (hk : insK σ0 τ0 (kY F).1 (kY F).2.1 (kY F).2.2.1 (kY F).2.2.2.1 (kY F).2.2.2.2.1 (kY F).2.2.2.2.2 Z 36) {n' : Nat} (hn : ∀ z ∈ Z, gn σ0 τ0 n' z) (hA : A = []) (hN : n' + 6001 ≤ kN F) (hwk : wkR FP (p :: r) A σ) (C : ∀ M k, CAL σ0 τ0 M k) (hT : thM FP (p :: r) MO LA ≤ TH) : acR σ0 τ0 (fun t => t < thM FP (p :: r) MO LA) σ τ := by
  subst hA
  obtain ⟨s', hsh, k1, kop, kl, ksc, rfl⟩ := hk
  obtain ⟨ms, ks, ce, me, mq, V⟩ := h.w hF h0
  have B := V.bd
  have gz := hn _ List.mem_cons_self
  have n5 : ∀ x ∈ s', x ≠ 5 := fun x hx => by
    have hO := V.ff.1.2.2.2.1
    rw [hsh] at hO
    exact hO.2.2.2 x hx
  obtain ⟨ce', me', ec, em, hv, g1, g2, vr⟩ := h.one hF h0 rg hs V hsh n5
  obtain ⟨f1, f2, f3, f4, fA, fL, fK, f5⟩ := c_ft h hF h0 hs k1 (by decide)
  have hX := lsX_of h.npr hF h0 MO LA hN
  have pc14 : (kY F).2.1 < 14000 := Nat.lt_of_not_le (fun q => by rw [hs.1 _ q] at k1; exact absurd k1 (by decide))
  have hc : 1 ≤ (kY F).2.1 + 1 ∧ (kY F).2.1 + 1 ≤ 14000 := ⟨by omega, by omega⟩
  have ksc' : scl σ0 (kY F).1 ((kY F).2.1 + 1 - 1) s' (kY F).2.2.2.2.1 (kY F).2.2.2.2.2 := by rw [Nat.add_sub_cancel]; exact ksc
  have hv' := vr _ _ hv
  have cst : lj_R lc_P 139 [.ref 8] σ = _ := ca_29 σ f1 f3 f4 fA fL fK
  rw [f2, lz_osucc] at cst
  have c8a : (lj_put σ 94 (20 * p + L.length) (Int32.ofNat ((kY F).2.1 + 1))).1 8 8 - 1 = Int32.ofNat ce' := by rw [lj_put_1, if_neg (by omega), V.tp, ec]; exact ofN_sub' ce' 1
  have i1 : lj_in (Int32.ofNat ce') 325000 := ofN_in (by omega) (by omega)
  have n1 : (Int32.ofNat ce').toNatClampNeg = ce' := lz_onat (by omega)
  have cc := kc_216_0 (σ0.1 23 (kY F).2.1) (σ0.1 26 (kY F).2.1) (lj_put σ 94 (20 * p + L.length) (Int32.ofNat ((kY F).2.1 + 1)))
  rw [c8a, if_pos i1, if_pos i1, n1] at cc
  have v79 : ∀ j, (lj_put σ 94 (20 * p + L.length) (Int32.ofNat ((kY F).2.1 + 1))).1 79 j = (cv σ j).1 := fun j => by rw [lj_put_1, if_neg (by omega)]; rfl
  have v80 : ∀ j, (lj_put σ 94 (20 * p + L.length) (Int32.ofNat ((kY F).2.1 + 1))).2 80 j = (cv σ j).2 := fun j => rfl
  rw [v79, v80] at cc
  have at1 := mAt_p (i := (48 * p + L.length)) (v := Int32.ofNat ((kY F).2.2.1 + 1)) V.at
  rw [em] at at1
  have tk0 := m_topK at1 (d := 0) (by omega)
  have tn0 := m_topN at1 (d := 0) (by omega)
  have dr := m_drop at1 (d := 1) (by omega)
  rw [show me' + 1 - 1 - 0 = me' by omega, mv_p _ (by decide)] at tk0 tn0
  rw [show me' + 1 - 1 = me' by omega] at dr
  have tk0 : lj_R lm_P 124 [.ref 0, .int 0] _ = _ := tk0
  have tn0 : lj_R lm_P 125 [.ref 0, .int 0] _ = _ := tn0
  have dr : lj_R lm_P 126 [.ref 0, .int 1] _ = _ := dr
  have tke : tk τ p me = mv τ (10000 * p + me') := by rw [em]; exact tk_1 τ p me'
  have ln : ∀ K : Int32, τ0.1 20 (kY F).2.2.1 = K → K ≠ -1 → (lj_put τ 77 (48 * p + L.length) (Int32.ofNat ((kY F).2.2.1 + 1))).1 23 (Int32.ofNat (kY F).2.2.1).toNatClampNeg = σ0.1 26 (kY F).2.1 := fun K q1 q2 => by
    obtain ⟨⟨_, _, _, _, _, _, m7⟩, m8⟩ := (h.cx hF h0 hs).2 (by rw [q1]; exact q2)
    rw [lj_put_1, if_neg (by omega), m7, m8 23 (by decide) (by decide)]
    exact kl.symm
  have fin : ∀ (oC : Option lj_O) (τ1 : lj_S) (K : Int32), τ0.1 20 (kY F).2.2.1 = K → 26 < K → ocR σ0 τ0 [] (fun t => t < thM FP (p :: r) MO LA) (lj_put (lj_put σ 94 (20 * p + L.length) (Int32.ofNat ((kY F).2.1 + 1))) 8 8 (Int32.ofNat ce')) τ1 oC → (lj_R lc_P 216 [.ref 8, .int (σ0.1 23 (kY F).2.1), .int (σ0.1 26 (kY F).2.1)] (lj_put σ 94 (20 * p + L.length) (Int32.ofNat ((kY F).2.1 + 1))) = oC) → (lj_in (Int32.ofNat (kY F).2.2.1) 14000 → (lj_put τ 77 (48 * p + L.length) (Int32.ofNat ((kY F).2.2.1 + 1))).1 20 (Int32.ofNat (kY F).2.2.1).toNatClampNeg = K → lj_R lm_P 153 [.ref 0, .int (Int32.ofNat (48 * p + L.length)), .int (Int32.ofNat (kY F).2.2.1), .int (τ0.1 21 (kY F).2.2.1), .int (mv τ (10000 * p + me')).1, .long (mv τ (10000 * p + me')).2] (lj_put τ 77 (48 * p + L.length) (Int32.ofNat ((kY F).2.2.1 + 1))) = some (.inl none, τ1)) → acR σ0 τ0 (fun t => t < thM FP (p :: r) MO LA) σ τ := fun oC τ1 K q1 q2 q3 q4 q5 => by
    refine ac_of q3 rg.1 ?_ (run_step rg.2.1 rg.2.2.1 (m_hi h hF h0 V hs q1 q2 (τ2 := τ1) (fun x1 x2 => by rw [tke]; exact q5 x1 x2))) (fun _ q => q)
    rw [cst, q4]
    congr 1
    funext s
    rw [kc_139_1051]
  rcases kop with ⟨q1, q2⟩ | ⟨q1, q2, q3⟩ | ⟨q1, q2, q3⟩
  · -- how long
    rw [q1] at cc
    rw [if_neg (by decide), if_pos rfl] at cc
    obtain ⟨a, ha⟩ : ∃ a, a = cv σ ce' := ⟨_, rfl⟩
    obtain ⟨a', ha'⟩ : ∃ a, a = mv τ (10000 * p + me') := ⟨_, rfl⟩
    rw [← ha] at cc
    rw [← ha, ← ha'] at hv hv'
    rw [← ha'] at fin tk0 tn0
    obtain ⟨σm, hσm⟩ : ∃ s, s = lj_put (lj_put σ 94 (20 * p + L.length) (Int32.ofNat ((kY F).2.1 + 1))) 8 8 (Int32.ofNat ce') := ⟨_, rfl⟩
    obtain ⟨τm, hτm⟩ : ∃ s, s = lj_put (lj_put τ 77 (48 * p + L.length) (Int32.ofNat ((kY F).2.2.1 + 1))) 63 p (Int32.ofNat me') := ⟨_, rfl⟩
    rw [← hσm] at cc fin
    rw [← hσm, ← hτm] at g1 g2 hv'
    rw [← hτm] at dr
    have ka4 : a.1 = 4 ↔ a'.1 = 4 := hv.kk (by decide) (by decide)
    have ka3 : a.1 = 3 ↔ a'.1 = 3 := hv.kk (by decide) (by decide)
    have go : ∀ (oC : Option lj_O) (τ1 : lj_S), ocR σ0 τ0 [] (fun t => t < thM FP (p :: r) MO LA) σm τ1 oC → (lj_R lc_P 216 [.ref 8, .int (σ0.1 23 (kY F).2.1), .int (σ0.1 26 (kY F).2.1)] (lj_put σ 94 (20 * p + L.length) (Int32.ofNat ((kY F).2.1 + 1))) = oC) → lj_R lm_P 165 [.ref 0, .int (σ0.1 26 (kY F).2.1)] (lj_put τ 77 (48 * p + L.length) (Int32.ofNat ((kY F).2.2.1 + 1))) = some (.inl none, τ1) → acR σ0 τ0 (fun t => t < thM FP (p :: r) MO LA) σ τ := fun oC τ1 w1 w2 w3 => fin oC τ1 34 q2 (by decide) w1 w2 (fun x1 x2 => by rw [mz_34 _ x1 x2, ln 34 q2 (by decide), w3, bv_ok, km_153_483])
    have mst : lj_R lm_P 165 [.ref 0, .int (σ0.1 26 (kY F).2.1)] (lj_put τ 77 (48 * p + L.length) (Int32.ofNat ((kY F).2.2.1 + 1))) = _ := rm_165 _ _
    rw [km_165_0, tk0, bi_ok, tn0, bl_ok, dr, bv_ok] at mst
    have cs0 : lj_R lc_P 216 [.ref 8, .int (σ0.1 23 (kY F).2.1), .int (σ0.1 26 (kY F).2.1)] (lj_put σ 94 (20 * p + L.length) (Int32.ofNat ((kY F).2.1 + 1))) = _ := rc_216 _ _ _
    rw [q1, cc] at cs0
    by_cases z3 : a.1 = 3
    · obtain ⟨s1, s2, u1, u2, u3, u4, u5⟩ := hv'.st z3
      obtain ⟨b1, b2, b3⟩ := sE_sz g1.2.1.1 u5
      obtain ⟨ce2, me2, mq2, t1, t2, t3, t4, t5⟩ := x_pv C g1 g2 (σa := σ) hwk (Nat.zero_le _) gz hc ksc' n5 hX hT (vR_whole σm τm (Int32.ofNat (cS σm s1).length).toInt64) (lf_rf _ _) (lf_rf _ _)
      have i26 : lj_in (a.2.toInt32) 2600 := by rw [u3, Int32.toInt32_toInt64]; exact ofN_in (by omega) (by omega)
      have n26 : (a.2.toInt32).toNatClampNeg = s1 := by rw [u3, Int32.toInt32_toInt64]; exact lz_onat (by omega)
      have i30 : lj_in (a'.2.toInt32) 3000 := by rw [u4, Int32.toInt32_toInt64]; exact ofN_in (by omega) (by omega)
      have n30 : (a'.2.toInt32).toNatClampNeg = s2 := by rw [u4, Int32.toInt32_toInt64]; exact lz_onat (by omega)
      have mp : lj_R lm_P 116 [.ref 0, .int 2, .long (Int32.ofNat (cS σm s1).length).toInt64] τm = _ := m_push t3 t4 (2, (Int32.ofNat (cS σm s1).length).toInt64)
      have cp : lj_R lc_P 137 [.ref 8, .int 2, .long (Int32.ofNat (cS σm s1).length).toInt64] σm = _ := c_push t1 t2 (2, (Int32.ofNat (cS σm s1).length).toInt64)
      have e11 : (lj_put σ 94 (20 * p + L.length) (Int32.ofNat ((kY F).2.1 + 1))).1 11 s1 = Int32.ofNat (cS σm s1).length := by
        rw [← b1, hσm, lj_put_1 (lj_put σ 94 (20 * p + L.length) (Int32.ofNat ((kY F).2.1 + 1))), if_neg (by omega)]
      rw [if_pos z3, if_pos i26, n26, e11, cp, bv_ok, kc_216_274] at cs0
      rw [if_pos (ka3.1 z3), if_pos i30, n30, b2, mp, bv_ok] at mst
      exact go _ _ (t5 σm) (by rw [q1]; exact cs0) mst
    · rw [if_neg z3, if_pos (by decide)] at cs0
      rw [if_neg (fun u => z3 (ka3.2 u))] at mst
      have n78 : (lj_put σ 94 (20 * p + L.length) (Int32.ofNat ((kY F).2.1 + 1))).1 78 (13 : Int32).toNatClampNeg = σm.1 78 13 := by
        rw [hσm, lj_put_1 (lj_put σ 94 (20 * p + L.length) (Int32.ofNat ((kY F).2.1 + 1))), if_neg (by omega)]; rfl
      obtain ⟨u, w, x1, x2, x3⟩ := cm_event g1.2.1.1 g1.2.2.2.1 g1.2.2.2.2.1 hv' (g1.2.2.1.1 13 (by decide))
      have x3 : lj_R lm_P 130 [.ref 0, .int a'.1, .long a'.2, .int 16] τm = some (.inl none, fdM τm w) := x3
      rw [n78, x2, bi_ok] at cs0
      rw [x3, bv_ok, (fdM_v τm w).1] at mst
      have fd1 := fd_lf σm u
      have fd2 := fd_lfM τm w
      by_cases zu : u.1 = 0
      · obtain ⟨rfl, rfl⟩ := x1.nil zu
        rw [if_pos (by rw [if_pos zu])] at cs0
        rw [if_pos rfl] at mst
        by_cases z4 : a.1 = 4
        · obtain ⟨o, o1, o2, o3⟩ := hv'.tb z4
          have g3 := g1.fdx fd1 fd2
          have ho : o ≤ n := by
            have := o3.2.2.1
            have l70 := g1.2.2.2.1.2.1
            omega
          obtain ⟨m, m3, y1, y2⟩ := cm_len g3.2.1.1 g3.2.2.2.1 ho
          rw [tm_p o3.1] at y2
          have a32 : a.2.toInt32 = Int32.ofNat o := by rw [o1]; exact Int32.toInt32_toInt64 _
          have a32' : a'.2.toInt32 = Int32.ofNat o := by rw [o2]; exact Int32.toInt32_toInt64 _
          have g4 := g3.fdx (fd_lf (fdC σm (0, 0)) (0, 0)) (fd_lfM (fdM τm (0, 0)) (0, 0))
          have rg4 := (g2.fdx fd1 fd2).fdx (fd_lf (fdC σm (0, 0)) (0, 0)) (fd_lfM (fdM τm (0, 0)) (0, 0))
          obtain ⟨ce2, me2, mq2, t1, t2, t3, t4, t5⟩ := x_pv C g4 rg4 (σa := σ) hwk (Nat.zero_le _) gz hc ksc' n5 hX hT (vR_whole _ _ (i64 m)) (lf_rf _ _) (lf_rf _ _)
          have mp : lj_R lm_P 116 [.ref 0, .int 2, .long (i64 m)] (fdM (fdM τm (0, 0)) (0, 0)) = _ := m_push t3 t4 (2, i64 m)
          have cp : lj_R lc_P 137 [.ref 8, .int 2, .long (i64 m)] (fdC (fdC σm (0, 0)) (0, 0)) = _ := c_push t1 t2 (2, i64 m)
          rw [if_pos z4, a32, y1, bl_ok, cp, bv_ok, kc_216_274] at cs0
          rw [if_pos (ka4.1 z4), a32', y2, bl_ok, mp, bv_ok, km_165_109] at mst
          exact go _ _ (t5 σm) (by rw [q1]; exact cs0) mst
        · obtain ⟨σ', τ', y1, y2, y3⟩ := cm_wrongOf (g1.fdx fd1 fd2).2.1 (σ0.1 26 (kY F).2.1) (e := 9) (by decide) (hv'.fdl fd1 fd2)
          have y1 : lj_br (lj_R lc_P 156 [.ref 8, .int (σ0.1 26 (kY F).2.1), .ref 1043, .int a.1] (fdC σm (0, 0))) (fun y s => (bif Nat.blt y 2000 then lj_up y s else none)) lj_up = some (.inr 2, σ') := y1
          have y2 : lj_R lm_P 131 [.ref 0, .int 9, .int (σ0.1 26 (kY F).2.1), .int a'.1] (fdM τm (0, 0)) = some (.inl none, τ') := y2
          rw [if_neg z4, y1] at cs0
          rw [if_neg (fun u => z4 (ka4.2 u)), y2, bv_ok, km_165_109] at mst
          exact go _ _ (oc_er (g1.fdx fd1 fd2) ((rg_ry g2).fdx fd1 fd2) hwk y3 rfl (n' := n') (Nat.zero_le _) hX) (by rw [q1]; exact cs0) mst
      · rw [if_neg (by rw [if_neg zu]; decide), (fdC_v σm u).1, (fdC_v σm u).2] at cs0
        rw [if_neg (fun q => zu (x1.k0.2 q))] at mst
        have h3 := (g1.fdx fd1 fd2).wt (g2.fdx fd1 fd2) (n' := n') (w := 1) gz hc ksc' n5
        have q' := hX (kTo F ((kY F).2.1 + 1) ((kY F).2.2.1 + 1) s' (kY F).2.2.2.2.1 (kY F).2.2.2.2.2 (n' + 1) 1) rfl (Nat.le_refl _)
        obtain ⟨σ2, y1, y2⟩ := x_ev1 C h3 (rg_ry (g2.fdx fd1 fd2)) (wk_nil h.npr hwk _) (fpT_o _ _ _) rfl (by show (1 : Nat) ≠ 0; decide) (x1.fdl fd1 fd2) (hv'.fdl fd1 fd2) (σ0.1 26 (kY F).2.1) (as := 1) (md := 0) (wt := 1) ⟨rfl, rfl, rfl⟩ (0, 0) (by omega)
        have e90 : (lj_put (lj_put (lj_put (fdM τm w) 0 130 0) 0 131 1) 0 132 (σ0.1 26 (kY F).2.1)).1 0 90 = w.1 := by rw [lj_put_1, if_neg (by omega), lj_put_1, if_neg (by omega), lj_put_1, if_neg (by omega)]; exact (fdM_v τm w).1
        have e91 : (lj_put (lj_put (lj_put (fdM τm w) 0 130 0) 0 131 1) 0 132 (σ0.1 26 (kY F).2.1)).2 0 91 = w.2 := (fdM_v τm w).2
        have gg := m_gv2 (fdM τm w) 0 1 (σ0.1 26 (kY F).2.1) w a' (0, 0) (fun σ12 => lj_D lm_P lm_M165 109 [.ref 0, .int (σ0.1 26 (kY F).2.1), .int a'.1, .long a'.2, .retAddr 0] [] (lj_put σ12 0 137 1))
        rw [rm_112, km_112_0, bv_ok] at gg mst
        rw [e90, e91] at mst
        rw [show lj_bv (lj_R lm_P 141 [.ref 0, .int w.1, .long w.2, .int a'.1, .long a'.2, .int 0, .long 0] (lj_put (lj_put (lj_put (fdM τm w) 0 130 0) 0 131 1) 0 132 (σ0.1 26 (kY F).2.1))) _ lj_up = _ from gg, km_165_109] at mst
        rw [y1] at cs0
        refine go _ _ (y2.fin.pre (fun _ => rfl) (fun i hi => by cases hi) (fun t ht => by have ht : t ≤ _ := ht; show t < _; omega)) ?_ mst
        rw [q1, cs0]
        unfold finC
        congr 1
        funext s
        rw [kc_216_274]
  · -- minus
    rw [q1] at cc
    rw [if_neg (by decide), if_neg (by decide)] at cc
    obtain ⟨τ1, r1, r2⟩ := x_un C g1 g2 (σa := σ) hwk (Nat.zero_le _) gz hc ksc' n5 hX hT (q := 0) (Or.inl rfl) hv' (σ0.1 26 (kY F).2.1) 41
    refine fin _ τ1 32 q2 (by decide) r2 ?_ (fun x1 x2 => ?_)
    · rw [q1, rc_216, cc, if_pos rfl, if_pos rfl, if_pos rfl]
      rfl
    · rw [mz_32 _ x1 x2, dr, bv_ok, ln 32 q2 (by decide), q3]
      have r1 : lj_R lm_P 157 [.ref 0, .int 13, .int (mv τ (10000 * p + me')).1, .long (mv τ (10000 * p + me')).2, .int (mv τ (10000 * p + me')).1, .long (mv τ (10000 * p + me')).2, .int (σ0.1 26 (kY F).2.1)] _ = _ := r1
      rw [r1, bv_ok, km_153_483]
  · -- the bits turned round
    rw [q1] at cc
    rw [if_neg (by decide), if_neg (by decide)] at cc
    obtain ⟨τ1, r1, r2⟩ := x_un C g1 g2 (σa := σ) hwk (Nat.zero_le _) gz hc ksc' n5 hX hT (q := 1) (Or.inr rfl) hv' (σ0.1 26 (kY F).2.1) 47
    refine fin _ τ1 32 q2 (by decide) r2 ?_ (fun x1 x2 => ?_)
    · rw [q1, rc_216, cc, if_neg (show ¬ ((47 : Int32) = 41) by decide), if_neg (show ¬ ((47 : Int32) = 41) by decide), if_neg (show ¬ (1 = 0) by decide)]
      rfl
    · rw [mz_32 _ x1 x2, dr, bv_ok, ln 32 q2 (by decide), q3]
      have r1 : lj_R lm_P 157 [.ref 0, .int 14, .int (mv τ (10000 * p + me')).1, .long (mv τ (10000 * p + me')).2, .int (mv τ (10000 * p + me')).1, .long (mv τ (10000 * p + me')).2, .int (σ0.1 26 (kY F).2.1)] _ = _ := r1
      rw [r1, bv_ok, km_153_483]
