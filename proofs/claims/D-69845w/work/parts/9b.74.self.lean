/-! a method of a value -/
/-- the model's fetch at a place, whatever lies on its stacks -/
theorem m_fx {σ0 τ0 σ τ : lj_S} {n np p : Nat} {r : List Nat} {FP : Nat → List kF} {ρ : Nat → Nat} {A MO LA : List Nat} (h : MB σ0 τ0 n np p r FP ρ A MO LA σ τ) {F : kF} {L : List kF} (hF : FP p = F :: L) (h0 : kS F = 0) (hs : stF σ0 τ0) {τ' : lj_S} (e111 : τ'.1 0 111 = τ.1 0 111) (e62 : τ'.1 62 p = τ.1 62 p) (e20 : ∀ k j, 20 ≤ k → k ≤ 23 → τ'.1 k j = τ.1 k j) {m : Nat} (e77 : τ'.1 77 (48 * p + L.length) = Int32.ofNat m) (hm : τ0.1 20 m ≠ -1) : (lj_in (τ'.1 0 111) 26 ∧ ((48 * (τ'.1 0 111)) + ((τ'.1 62 ((τ'.1 0 111).toNatClampNeg)))) - 1 = Int32.ofNat (48 * p + L.length) ∧ lj_in (Int32.ofNat (48 * p + L.length)) 1248 ∧ (Int32.ofNat (48 * p + L.length)).toNatClampNeg = (48 * p + L.length) ∧ τ'.1 77 (Int32.ofNat (48 * p + L.length)).toNatClampNeg = Int32.ofNat m ∧ lj_in (Int32.ofNat m) 14000 ∧ (Int32.ofNat m).toNatClampNeg = m) ∧ ∀ k, 20 ≤ k → k ≤ 23 → τ'.1 k m = τ0.1 k m := by
  obtain ⟨ms, ks, ce, me, mq, V⟩ := h.w hF h0
  have B := V.bd
  have m14 : m < 14000 := Nat.lt_of_not_le (fun q => hm (hs.2 _ q))
  have i111 := V.at.i
  have e62' : τ.1 62 p = Int32.ofNat (L.length + 1) := by
    have := V.1.2.2.2.2.2.2.1
    rw [hF, List.length_cons] at this
    exact this
  have n1 : (τ.1 0 111).toNatClampNeg = p := i111.2.1
  refine ⟨⟨by rw [e111]; exact i111.1, ?_, ofN_in (by omega) (by omega), lz_onat (by omega), by rw [lz_onat (by omega)]; exact e77, ofN_in m14 (by omega), lz_onat (by omega)⟩, fun k k1 k2 => ?_⟩
  · rw [e111, n1, e62, e62', V.at.1, show (48 : Int32) = Int32.ofNat 48 from rfl, ← Int32.ofNat_mul, ← Int32.ofNat_add, ← Nat.add_assoc]
    exact lz_pred' _
  · rw [e20 k m k1 k2]
    exact (h.1.2 k m (by unfold cdM; simp; omega)).1
/-- a word from 12 on -/
theorem m_lx {σ0 τ0 σ τ : lj_S} {n np p : Nat} {r : List Nat} {FP : Nat → List kF} {ρ : Nat → Nat} {A MO LA : List Nat} (h : MB σ0 τ0 n np p r FP ρ A MO LA σ τ) {F : kF} {L : List kF} (hF : FP p = F :: L) (h0 : kS F = 0) (hs : stF σ0 τ0) {τ' : lj_S} (e111 : τ'.1 0 111 = τ.1 0 111) (e62 : τ'.1 62 p = τ.1 62 p) (e20 : ∀ k j, 20 ≤ k → k ≤ 23 → τ'.1 k j = τ.1 k j) {m : Nat} (e77 : τ'.1 77 (48 * p + L.length) = Int32.ofNat m) {me mq : Nat} (at1 : mAt τ' p me mq) (nn : me ≠ 0 → 0 ≤ (mv τ' (10000 * p + (me - 1))).1) {K : Int32} (k2 : τ0.1 20 m = K) (hK : 11 < K) {τ2 : lj_S} (e : lj_in (Int32.ofNat m) 14000 → (Int32.ofNat m).toNatClampNeg = m → (lj_put τ' 77 (48 * p + L.length) (Int32.ofNat (m + 1))).1 20 (Int32.ofNat m).toNatClampNeg = K → lj_D lm_P lm_M127 21 [.ref 0, .int (Int32.ofNat (48 * p + L.length)), .int (Int32.ofNat m), .int (τ0.1 21 m), .int (tk τ' p me).1, .retAddr 0, .retAddr 0, .retAddr 0, .retAddr 0, .retAddr 0, .retAddr 0] [.long (tk τ' p me).2] (lj_put τ' 77 (48 * p + L.length) (Int32.ofNat (m + 1))) = some (.inl none, τ2)) : lj_R lm_P 121 [.ref 0] τ' = some (.inl (some (.int 1)), τ2) := by
  obtain ⟨⟨m1, m2, m3, m4, m5, m6, m7⟩, m8⟩ := m_fx h hF h0 hs e111 e62 e20 e77 (by rw [k2]; intro z; rw [z] at hK; exact absurd hK (by decide))
  have k20 : τ'.1 20 m = K := by rw [m8 20 (by decide) (by decide)]; exact k2
  have at2 := mAt_p (i := (48 * p + L.length)) (v := Int32.ofNat (m + 1)) at1
  have em : ∀ j, mv (lj_put τ' 77 (48 * p + L.length) (Int32.ofNat (m + 1))) j = mv τ' j := fun j => mv_p _ (by decide)
  rw [mw_x τ' m1 m2 m3 m5 m6 (A := τ0.1 21 m) (by rw [m7]; exact m8 21 (by decide) (by decide)) (K := K) (by rw [m7]; exact k20) hK, m4, lz_osucc, m_w127 at2 _ _ _ (fun z => by rw [em]; exact nn z), em]
  have q := e m6 m7 (by rw [m7, lj_put_1, if_neg (by omega)]; exact k20)
  unfold tk at q
  rw [q, bv_ok, km_121_398]
theorem m_hx {σ0 τ0 σ τ : lj_S} {n np p : Nat} {r : List Nat} {FP : Nat → List kF} {ρ : Nat → Nat} {A MO LA : List Nat} (h : MB σ0 τ0 n np p r FP ρ A MO LA σ τ) {F : kF} {L : List kF} (hF : FP p = F :: L) (h0 : kS F = 0) (hs : stF σ0 τ0) {τ' : lj_S} (e111 : τ'.1 0 111 = τ.1 0 111) (e62 : τ'.1 62 p = τ.1 62 p) (e20 : ∀ k j, 20 ≤ k → k ≤ 23 → τ'.1 k j = τ.1 k j) {m : Nat} (e77 : τ'.1 77 (48 * p + L.length) = Int32.ofNat m) {me mq : Nat} (at1 : mAt τ' p me mq) (nn : me ≠ 0 → 0 ≤ (mv τ' (10000 * p + (me - 1))).1) {K : Int32} (k2 : τ0.1 20 m = K) (hK : 26 < K) {τ2 : lj_S} (e : lj_in (Int32.ofNat m) 14000 → (Int32.ofNat m).toNatClampNeg = m → (lj_put τ' 77 (48 * p + L.length) (Int32.ofNat (m + 1))).1 20 (Int32.ofNat m).toNatClampNeg = K → lj_R lm_P 153 [.ref 0, .int (Int32.ofNat (48 * p + L.length)), .int (Int32.ofNat m), .int (τ0.1 21 m), .int (tk τ' p me).1, .long (tk τ' p me).2] (lj_put τ' 77 (48 * p + L.length) (Int32.ofNat (m + 1))) = some (.inl none, τ2)) : lj_R lm_P 121 [.ref 0] τ' = some (.inl (some (.int 1)), τ2) :=
  m_lx h hF h0 hs e111 e62 e20 e77 at1 nn k2 (by have : (11 : Int32) < 26 := by decide
                                                 exact Int32.lt_trans this hK) (fun z1 z2 z3 => by rw [my_x _ z1 z3 hK, e z1 z2 z3, bv_ok, km_127_420])
/-- reading with what came going below the value -/
theorem x_rd5 {σ0 τ0 σ τ : lj_S} {n np p : Nat} {r : List Nat} {FP : Nat → List kF} {ρ : Nat → Nat} {MO LA : List Nat} {F : kF} {L : List kF} {c m : Nat} {s l : List Nat} {dd n1 : Nat} (hs : stF σ0 τ0) (C : ∀ M k, CAL σ0 τ0 M k) (h : MB σ0 τ0 n np p r (fpT FP p (kTo F c m (0 :: s) l dd n1 0 :: L)) ρ [] MO LA σ τ) (rg : rgR σ τ) {σa : lj_S} (hwk : wkR FP (p :: r) [] σa) {n' : Nat} (hn1 : n1 ≤ n' + 1) (k2 : τ0.1 20 m = 46) (k3 : τ0.1 20 (m + 1) = 15) (hn : gn σ0 τ0 n' ((kY F).1, c, m + 2, 0 :: 1 :: 0 :: s, l, dd)) (hc : 1 ≤ c ∧ c ≤ 14000) (hsc : scl σ0 (kY F).1 (c - 1) s l dd) (h5 : ∀ x ∈ s, x ≠ 5) {X : Nat} (hX : lsX FP p r L MO LA n' X) (hT : X ≤ TH) {a b kc km : vT} (hab : vR σ τ a b) (hk : vR σ τ kc km) (line : Int32) : ∃ τ1, lj_R lm_P 129 [.ref 0, .int b.1, .long b.2, .int km.1, .long km.2, .int line] τ = some (.inl none, τ1) ∧ ocR σ0 τ0 [] (fun t => t < X) σ τ1 (lj_R lc_P 142 [.ref 8, .int a.1, .long a.2, .int kc.1, .long kc.2, .int 5, .int line] σ) := by
  rcases cm_rd h.rb hk hab 5 line with ⟨u, w, σ1, τ1, x1, x2, x3, x4, x5⟩ | ⟨f, f', d, d', σ1, τ1, x1, x2, x3, x4, x5, x6, x7⟩ | ⟨σ1, τ1, σ', τ', x1, x2, x3, x4, x5⟩
  · obtain ⟨ce, me, mq, t1, t2, t3, t4, t5⟩ := x_top h rg
    have r0 : rsC (lj_put σ1 8 41 0) [] := x_rs0 σ1
    obtain ⟨σ2, y1, y2, y3⟩ := c_gives r0 (by decide) u
    have at1 : mAt τ1 p me mq := by
      obtain ⟨a1, a2, a3, a4, a5, a6⟩ := t3
      exact ⟨by rw [(x3 0 111 rfl).1]; exact a1, a2, by rw [(x3 63 _ rfl).1]; exact a3, a4, by rw [(x3 64 _ rfl).1]; exact a5, a6⟩
    have mp := m_push at1 (by omega) w
    have fC : lf sxC σ σ2 := ((x2.mo (fun k j q => fdS_x q)).tr (lf_put (lf_rf _ _) 8 41 _ rfl)).tr (y3.mo (fun k j q => by unfold sxC szC at q; unfold rtC; simp at q ⊢; omega))
    have hOf := gn_ok hn
    have hOO : sOK (0 :: 0 :: s) := by
      obtain ⟨a1, a2, a3, a4⟩ := hOf
      have a1 : 1 + (0 + (1 + va s)) ≤ 430 := a1
      have a2 : 0 + (1 + (0 + cn 1 s)) ≤ 30 := a2
      have a3 : 0 + (0 + (0 + cn 2 s)) ≤ 30 := a3
      refine ⟨?_, ?_, ?_, fun y hy => ?_⟩
      · show 1 + (1 + va s) ≤ 430; omega
      · show 0 + (0 + cn 1 s) ≤ 30; omega
      · show 0 + (0 + cn 2 s) ≤ 30; omega
      · rcases List.mem_cons.1 (show y ∈ 0 :: s from hy) with q | q
        · rw [q]; decide
        · exact h5 y q
    obtain ⟨g1, g2⟩ := t5 u w σ2 τ1 0 fC (x3.mo (fun k j q => fdT_x q)) (x1.fdr x2 x3) hOO (Or.inl rfl)
    have hF := fpT_o FP p (kTo F c m (0 :: s) l dd n1 0 :: L)
    obtain ⟨ms', ks', ce', me', mq', V⟩ := h.w hF rfl
    have st : stk σ τ p _ _ _ ks' (0 :: s) ce' me' mq' _ := V.st
    obtain ⟨c0, m0, e1, e2, _⟩ := st.u0 (Or.inl rfl)
    have B := V.bd
    have ec : ce = c0 + 1 := by
      have : ce = ce' := (ofN_eq (by omega) (by omega)).1 (by rw [← t1, ← V.tp])
      omega
    have rm := V.rm (fun x hx => by
      rcases List.mem_cons.1 (show x ∈ 0 :: s from hx) with q | q
      · rw [q]; decide
      · exact h5 x q)
    subst ec
    obtain ⟨σ', τ', z1, z2, z3, z4⟩ := x_self (G := [u]) g1 g2 hs y2 (by rw [(fC 8 8 rfl).1]; exact t1) (by omega) k2 k3 hOf
    have z5 := MB.fin (F := F) z3 z4 hn
    refine ⟨mPu τ1 p me w, by rw [x5, mp, bv_ok], ?_⟩
    rw [x4, y1, bv_ok, z1, bv_ok]
    exact (oc_go (σ := σ) z5 z4 hwk rfl (Nat.succ_ne_zero _) rfl (Nat.le_refl _) hX).pre z2 (fun i hi => by cases hi) (fun _ q => q)
  · obtain ⟨σ2, y1, y2⟩ := x_wev C (h.fdx x4 x5) (rg.fdx x4 x5) hwk (w := 5) (by decide) ⟨s, rfl, k2, k3, hn⟩ hc (by
      obtain ⟨a1, a2, a3⟩ := hsc
      exact ⟨a1, a2, fun d e he => by rw [flo_c (by decide)]; exact a3 d e he⟩) (fun x hx => by
      rcases List.mem_cons.1 hx with q | q
      · rw [q]; decide
      · exact h5 x q) hX hT x1 x3 (hk.fdl x4 x5) line (as := 5) (md := 0) (wt := 1) ⟨rfl, rfl, rfl⟩
    refine ⟨gv2 τ1 0 1 line f' d' km, by rw [x7, m_gv2], ?_⟩
    rw [x6, y1]
    exact y2.fin.pre (fun _ => rfl) (fun i hi => by cases hi) (fun _ q => q)
  · refine ⟨τ', x4, ?_⟩
    rw [x3]
    exact oc_er (h.fdx x1 x2) ((rg_ry rg).fdx x1 x2) hwk x5 rfl (n' := n') hn1 hX
theorem act_33 {σ0 τ0 σ τ : lj_S} {n np p : Nat} {r : List Nat} {FP : Nat → List kF} {ρ : Nat → Nat} {A MO LA : List Nat} (h : MB σ0 τ0 n np p r FP ρ A MO LA σ τ) {F : kF} {L : List kF} (hF : FP p = F :: L) (h0 : kS F = 0) (rg : rgR σ τ) (hs : stF σ0 τ0) {Z : List pT} (hk : insK σ0 τ0 (kY F).1 (kY F).2.1 (kY F).2.2.1 (kY F).2.2.2.1 (kY F).2.2.2.2.1 (kY F).2.2.2.2.2 Z 33) {n' : Nat} (hn : ∀ z ∈ Z, gn σ0 τ0 n' z) (hA : A = []) (hN : n' + 6001 ≤ kN F) (hwk : wkR FP (p :: r) A σ) (C : ∀ M k, CAL σ0 τ0 M k) (hT : thM FP (p :: r) MO LA ≤ TH) : acR σ0 τ0 (fun t => t < thM FP (p :: r) MO LA) σ τ := by
  subst hA
  obtain ⟨s', hsh, k1, kE, q45, q5, q12, kl, q46, q15, ksc, rfl⟩ := hk
  obtain ⟨ms, ks, ce, me, mq, V⟩ := h.w hF h0
  have B := V.bd
  have st := V.st
  have hO := V.ff.1.2.2.2.1
  have hfl := V.fl
  rw [hsh] at hO hfl
  have st1 := st
  rw [hsh] at st1
  obtain ⟨ce', me', e1, e2, hv, _⟩ := st1.u0 (Or.inl rfl)
  obtain ⟨f1, f2, f3, f4, fA, fL, fK, f5⟩ := c_ft h hF h0 hs k1 (by decide)
  have gz := hn _ List.mem_cons_self
  have hX := lsX_of h.npr hF h0 MO LA hN
  have pc14 : (kY F).2.1 < 14000 := Nat.lt_of_not_le (fun q => by rw [hs.1 _ q] at k1; exact absurd k1 (by decide))
  -- the model's words
  obtain ⟨w, hw⟩ : ∃ w, w = mv τ (10000 * p + me') := ⟨_, rfl⟩
  obtain ⟨τ1, hτ1⟩ : ∃ t, t = mPu (lj_put τ 77 (48 * p + L.length) (Int32.ofNat ((kY F).2.2.1 + 1))) p me w := ⟨_, rfl⟩
  obtain ⟨τ2, hτ2⟩ : ∃ t, t = mPu (lj_put τ1 77 (48 * p + L.length) (Int32.ofNat ((kY F).2.2.1 + 2))) p (me + 1) (3, (τ0.1 21 ((kY F).2.2.1 + 1)).toInt64) := ⟨_, rfl⟩
  obtain ⟨τ3, hτ3⟩ : ∃ t, t = lj_put (lj_put τ2 77 (48 * p + L.length) (Int32.ofNat ((kY F).2.2.1 + 3))) 63 p (Int32.ofNat me) := ⟨_, rfl⟩
  have at1 : mAt τ1 p (me + 1) mq := by rw [hτ1]; exact mAt_pu (mAt_p V.at) (by omega) w
  have at2 : mAt τ2 p (me + 1 + 1) mq := by rw [hτ2]; exact mAt_pu (mAt_p at1) (by omega) _
  have o1 : ∀ k j, ¬ (k = 63 ∨ k = 71 ∨ k = 77) → τ1.1 k j = τ.1 k j := fun k j z => by rw [hτ1, mPu_1, if_neg (by omega), if_neg (by omega), lj_put_1, if_neg (by omega)]
  have o2 : ∀ k j, ¬ (k = 63 ∨ k = 71 ∨ k = 77) → τ2.1 k j = τ.1 k j := fun k j z => by rw [hτ2, mPu_1, if_neg (by omega), if_neg (by omega), lj_put_1, if_neg (by omega), o1 k j z]
  have e771 : τ1.1 77 (48 * p + L.length) = Int32.ofNat ((kY F).2.2.1 + 1) := by rw [hτ1, mPu_1, if_neg (by omega), if_neg (by omega), lj_put_1, if_pos ⟨rfl, rfl⟩]
  have e772 : τ2.1 77 (48 * p + L.length) = Int32.ofNat ((kY F).2.2.1 + 2) := by rw [hτ2, mPu_1, if_neg (by omega), if_neg (by omega), lj_put_1, if_pos ⟨rfl, rfl⟩]
  have prtF : prt σ0 τ0 σ τ ρ p (F :: L) ce me mq := ⟨ms, ks, V.2.1, V.2.2.1, V.2.2.2.1⟩
  have s1 : lj_R lm_P 121 [.ref 0] τ = some (.inl (some (.int 1)), τ1) := m_hx h hF h0 hs rfl rfl (fun _ _ _ _ => rfl) V.2.2.2.2.1.2.1.2.2.2.1 V.at (fun _ => prt_nn prtF (me - 1) (by omega)) q45 (by decide) (fun x1 _ x3 => by
    rw [mz_45 _ x1 x3, show tk τ p me = w by rw [e2, tk_1, hw], m_push (mAt_p V.at) (by omega) w, bv_ok, km_153_483, hτ1])
  have s2 : lj_R lm_P 121 [.ref 0] τ1 = some (.inl (some (.int 1)), τ2) := by
    obtain ⟨⟨m1, m2, m3, m4, m5, m6, m7⟩, m8⟩ := m_fx h hF h0 hs (τ' := τ1) (o1 0 111 (by omega)) (o1 62 p (by omega)) (fun k j z1 z2 => o1 k j (by omega)) e771 (by rw [q5]; decide)
    have mp := m_push (τ := lj_put τ1 77 (48 * p + L.length) (Int32.ofNat ((kY F).2.2.1 + 2))) (mAt_p at1) (by omega) (3, (τ0.1 21 ((kY F).2.2.1 + 1)).toInt64)
    have mp : lj_R lm_P 116 [.ref 0, .int 3, .long (τ0.1 21 ((kY F).2.2.1 + 1)).toInt64] (lj_put τ1 77 (48 * p + L.length) (Int32.ofNat ((kY F).2.2.1 + 2))) = _ := mp
    rw [mw_5 τ1 m1 m2 m3 m5 m6 (A := τ0.1 21 ((kY F).2.2.1 + 1)) (by rw [m7]; exact m8 21 (by decide) (by decide)) (by rw [m7, m8 20 (by decide) (by decide)]; exact q5), m4, lz_osucc, mp, bv_ok, km_121_398, hτ2]
  have tk2 : tk τ2 p (me + 1 + 1) = (3, (τ0.1 21 ((kY F).2.2.1 + 1)).toInt64) := by
    rw [tk_1, hτ2]
    unfold mv
    rw [mPu_1, if_neg (by omega), if_pos ⟨rfl, rfl⟩, mPu_2, if_pos ⟨rfl, rfl⟩]
  have tp2 : mv τ2 (10000 * p + me) = w := by
    rw [hτ2]
    unfold mv
    rw [mPu_1, if_neg (by omega), if_neg (by omega), mPu_2, if_neg (by omega), lj_put_1, if_neg (by omega), hτ1, lj_put_2, mPu_1, if_neg (by omega), if_pos ⟨rfl, rfl⟩, mPu_2, if_pos ⟨rfl, rfl⟩]
  -- both stand at the reading
  have fC : lf (tqC p (20 * p + L.length) ce) σ (lj_put σ 94 (20 * p + L.length) (Int32.ofNat ((kY F).2.1 + 1))) := tq_94 (lf_rf _ _) _
  have fM : lf (tqM p (48 * p + L.length) me mq) τ τ3 := by
    rw [hτ3, hτ2, hτ1]
    exact tm_63 (tm_77 (tm_pu (tm_77 (tm_pu (tm_77 (lf_rf _ _) _) _ (Nat.le_refl _) (by omega)) _) _ (by omega) (by omega)) _) _
  obtain ⟨g1, g2⟩ := h.dn hF h0 rg V st fC fM (n' := 0) (by rw [lj_put_1, if_neg (by omega)]) (by rw [lj_put_1, if_pos ⟨rfl, rfl⟩]) (by rw [hτ3, lj_put_1, if_neg (by omega), lj_put_1, if_pos ⟨rfl, rfl⟩]) (by rw [lj_put_1, if_neg (by omega)]; exact V.tp) (by rw [hτ3, lj_put_1, if_pos ⟨rfl, rfl⟩]) (by rw [hτ3, lj_put_1, if_neg (by omega), lj_put_1, if_neg (by omega)]; exact at2.2.2.2.2.1) (by rw [hsh]; exact hO) V.fl (Or.inl rfl)
  rw [hsh] at g1
  have kE' := (kE.up h.2.2.2.2.2.2.2.2.2.2.2.2.2).v
  obtain ⟨τ4, r1, r2⟩ := x_rd5 hs C g1 g2 (σa := σ) hwk (Nat.zero_le _) q46 q15 gz ⟨(by omega), (by omega)⟩ (by show scl σ0 (kY F).1 ((kY F).2.1 + 1 - 1) s' (kY F).2.2.2.2.1 (kY F).2.2.2.2.2; rw [Nat.add_sub_cancel]; exact ksc) (fun x hx => hO.2.2.2 x hx) hX hT (a := cv σ ce') (b := w) (by rw [hw]; exact vR_tq fC fM hv) (kc := (3, (σ0.1 23 (kY F).2.1).toInt64)) (km := (3, (τ0.1 21 ((kY F).2.2.1 + 1)).toInt64)) (vR_tq fC fM kE') (σ0.1 26 (kY F).2.1)
  have s3 : lj_R lm_P 121 [.ref 0] τ2 = some (.inl (some (.int 1)), τ4) := m_lx h hF h0 hs (o2 0 111 (by omega)) (o2 62 p (by omega)) (fun k j z1 z2 => o2 k j (by omega)) e772 at2 (fun _ => by
    have : mv τ2 (10000 * p + (me + 1 + 1 - 1)) = tk τ2 p (me + 1 + 1) := (tk_1 τ2 p (me + 1)).symm
    rw [this, tk2]; show (0 : Int32) ≤ 3; decide) q12 (by decide) (fun x1 x2 x3 => by
    rw [my_12 _ x1 x3]
    have at3 := mAt_p (i := (48 * p + L.length)) (v := Int32.ofNat ((kY F).2.2.1 + 2 + 1)) at2
    have tk1 := m_topK at3 (d := 1) (by omega)
    have tn1 := m_topN at3 (d := 1) (by omega)
    have dr := m_drop at3 (d := 2) (by omega)
    rw [show me + 1 + 1 - 1 - 1 = me by omega, mv_p _ (by decide), tp2] at tk1 tn1
    rw [show me + 1 + 1 - 2 = me by omega] at dr
    have ln : (lj_put (lj_put τ2 77 (48 * p + L.length) (Int32.ofNat ((kY F).2.2.1 + 2 + 1))) 63 p (Int32.ofNat me)).1 23 (Int32.ofNat ((kY F).2.2.1 + 2)).toNatClampNeg = σ0.1 26 (kY F).2.1 := by
      obtain ⟨⟨_, _, _, _, _, _, m7⟩, m8⟩ := m_fx h hF h0 hs (τ' := τ2) (o2 0 111 (by omega)) (o2 62 p (by omega)) (fun k j z1 z2 => o2 k j (by omega)) e772 (by rw [q12]; decide)
      rw [lj_put_1, if_neg (by omega), lj_put_1, if_neg (by omega), m7, m8 23 (by decide) (by decide)]
      exact kl.symm
    have r1 : lj_R lm_P 129 [.ref 0, .int w.1, .long w.2, .int 3, .long (τ0.1 21 ((kY F).2.2.1 + 1)).toInt64, .int (σ0.1 26 (kY F).2.1)] τ3 = some (.inl none, τ4) := r1
    rw [show (1 : Int32) = Int32.ofNat 1 from rfl, tk1, bi_ok, tn1, bl_ok, show (2 : Int32) = Int32.ofNat 2 from rfl, dr, bv_ok, if_pos x1, ln, tk2, ← hτ3, r1, bv_ok, km_127_420])
  have ng := fun x => (run_step rg.2.1 rg.2.2.1 s1 x).trans ((run_step (by rw [o1 0 143 (by omega)]; exact rg.2.1) (by rw [o1 0 129 (by omega)]; exact rg.2.2.1) s2 x).trans (run_step (by rw [o2 0 143 (by omega)]; exact rg.2.1) (by rw [o2 0 129 (by omega)]; exact rg.2.2.1) s3 x))
  have cst : lj_R lc_P 139 [.ref 8] σ = _ := ca_27 σ f1 f3 f4 fA fL fK
  have c8 : σ.1 8 8 - 1 = Int32.ofNat ce' := by rw [V.tp, e1]; exact ofN_sub' ce' 1
  rw [c8, if_pos (ofN_in (by omega) (by omega)), if_pos (ofN_in (by omega) (by omega)), lz_onat (by omega), f2, lz_osucc] at cst
  refine ac_of r2 rg.1 ?_ ng (fun _ q => q)
  rw [cst]
  congr 1
  all_goals first | rfl | (funext s; rw [kc_139_1051])
