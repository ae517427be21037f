/-! a function is entered in both -/
theorem nd_getD : ∀ {l : List Nat}, l.Nodup → ∀ {i j : Nat}, i < l.length → j < l.length → l.getD i 0 = l.getD j 0 → i = j
  | [], _, i, _, hi, _, _ => absurd hi (by simp)
  | a :: l, h, 0, 0, _, _, _ => rfl
  | a :: l, h, 0, j + 1, _, hj, e => by
    have : a = l.getD j 0 := e
    rw [List.length_cons] at hj
    have hm : l.getD j 0 ∈ l := by rw [List.getD_eq_getElem?_getD, List.getElem?_eq_getElem (by omega)]; exact List.getElem_mem _
    exact absurd (by rw [this]; exact hm) (List.nodup_cons.1 h).1
  | a :: l, h, i + 1, 0, hi, _, e => by
    have : l.getD i 0 = a := e
    rw [List.length_cons] at hi
    have hm : l.getD i 0 ∈ l := by rw [List.getD_eq_getElem?_getD, List.getElem?_eq_getElem (by omega)]; exact List.getElem_mem _
    exact absurd (by rw [← this]; exact hm) (List.nodup_cons.1 h).1
  | a :: l, h, i + 1, j + 1, hi, hj, e => by
    rw [List.length_cons] at hi hj
    rw [nd_getD (List.nodup_cons.1 h).2 (i := i) (j := j) (by omega) (by omega) e]
theorem getD_me {l : List Nat} {i : Nat} (h : i < l.length) : l.getD i 0 ∈ l := by rw [List.getD_eq_getElem?_getD, List.getElem?_eq_getElem h]; exact List.getElem_mem _
/-- many variables come at once -/
theorem clR.news {σ0 σ τ σ' τ' : lj_S} {FP FP' : Nat → List kF} {ρ : Nat → Nat} {n p t : Nat} {Cs : List Nat} (h : clR σ0 σ τ FP ρ n) (hn : n ≤ 2000) (hv : ∀ x y, vR σ τ x y → vR σ' τ' x y) (hC : ∀ k j, (k = 57 ∨ k = 62 ∨ k = 63 ∨ k = 74 ∨ k = 75 ∨ k = 77 ∨ k = 7 ∧ (j = 0 ∨ j = 21 ∨ j = 25)) → σ'.1 k j = σ.1 k j) (h76 : ∀ j, σ'.2 76 j = σ.2 76 j) (hl : ∀ q s, lsL (FP q) s → cv σ' s = cv σ s ∧ σ'.1 81 s = σ.1 81 s) (hM : ∀ k j, (k = 38 ∨ k = 44 ∨ k = 58) → τ'.1 k j = τ.1 k j) (hp4 : τ.1 58 p ≠ 4) (h54 : ∀ x, x ∉ Cs → τ'.1 54 x = τ.1 54 x ∧ τ'.2 55 x = τ.2 55 x) (hf : ∀ q b, lsL (FP' q) b ↔ lsL (FP q) b ∨ q = p ∧ t ≤ b ∧ b < t + Cs.length) (ha : t + Cs.length ≤ 325000) (hna : ∀ q b, t ≤ b → b < t + Cs.length → ¬ lsL (FP q) b) {Fc : List Nat} (f1 : fcM τ' Fc) (f2 : lv τ' 0 96 = (Fc.length : Int)) (f3 : (Cs ++ Fc).Nodup) (f4 : ∀ x ∈ Cs ++ Fc, x < 95000 ∧ ∀ b, usd σ0 σ τ FP b → ρ b ≠ x) (h81 : ∀ b, t ≤ b → b < t + Cs.length → σ'.1 81 b = -1) (hva : ∀ j, j < Cs.length → vR σ' τ' (cv σ' (t + j)) (τ'.1 54 (Cs.getD j 0), τ'.2 55 (Cs.getD j 0))) : clR σ0 σ' τ' FP' (fun b => if t ≤ b ∧ b < t + Cs.length then Cs.getD (b - t) 0 else ρ b) n := by
  have e57 : ∀ j, σ'.1 57 j = σ.1 57 j := fun j => hC 57 j (by omega)
  have e62 : ∀ j, σ'.1 62 j = σ.1 62 j := fun j => hC 62 j (by omega)
  have e63 : ∀ j, σ'.1 63 j = σ.1 63 j := fun j => hC 63 j (by omega)
  have e74 : ∀ j, σ'.1 74 j = σ.1 74 j := fun j => hC 74 j (by omega)
  have e75 : ∀ j, σ'.1 75 j = σ.1 75 j := fun j => hC 75 j (by omega)
  have e77 : ∀ j, σ'.1 77 j = σ.1 77 j := fun j => hC 77 j (by omega)
  have e70 : σ'.1 7 0 = σ.1 7 0 := hC 7 0 (by omega)
  have m38 : ∀ j, τ'.1 38 j = τ.1 38 j := fun j => hM 38 j (by omega)
  have m44 : ∀ j, τ'.1 44 j = τ.1 44 j := fun j => hM 44 j (by omega)
  have oa : ∀ o k, obA σ' τ' o k ↔ obA σ τ o k := fun o k => by unfold obA lv; simp only [e57, e70, m38]
  have m58 : ∀ j, τ'.1 58 j = τ.1 58 j := fun j => hM 58 j (by omega)
  have us : ∀ b, usd σ0 σ' τ' FP' b ↔ usd σ0 σ τ FP b ∨ t ≤ b ∧ b < t + Cs.length := fun b => by
    unfold usd cpO lv
    simp only [oa, e62, e63, e74, e77, m58]
    constructor
    · rintro (⟨q, w, y⟩ | w)
      · rcases (hf q b).1 w with w | w
        · exact Or.inl (Or.inl ⟨q, w, y⟩)
        · exact Or.inr w.2
      · exact Or.inl (Or.inr w)
    · rintro ((⟨q, w, y⟩ | w) | w)
      · exact Or.inl ⟨q, (hf q b).2 (Or.inl w), y⟩
      · exact Or.inr w
      · exact Or.inl ⟨p, (hf p b).2 (Or.inr ⟨rfl, w⟩), Or.inl hp4⟩
  have nu : ∀ b, t ≤ b ∧ b < t + Cs.length → ¬ usd σ0 σ τ FP b := fun b y w => by
    rcases w with ⟨q, w, _⟩ | ⟨_, _, _, _, _, w⟩
    · exact hna q b y.1 y.2 w
    · omega
  have lo : ∀ x, loC σ' x = loC σ x := fun x => by unfold loC lv; rw [e74]
  have l21 : lv σ' 7 21 = lv σ 7 21 := by unfold lv; rw [hC 7 21 (by omega)]
  have l25 : lv σ' 7 25 = lv σ 7 25 := by unfold lv; rw [hC 7 25 (by omega)]
  have hcap := fun o f k w1 w2 w3 w4 r x y1 y2 y3 y4 => h.cap' (o := o) (f := f) (k := k) w1 w2 w3 w4 r x y1 y2 y3 y4 hn
  obtain ⟨h1, h2, _, h4, h5, h6, h7⟩ := h
  have va : ∀ b, usd σ0 σ τ FP b → vaC σ' b = vaC σ b := fun b w => by
    unfold vaC
    rcases w with ⟨q, w, _⟩ | ⟨o, k, x, _, _, w⟩
    · have := (h6 q b w).1
      rw [if_pos this, if_pos this, (hl q b w).1]
    · rw [if_neg (by omega), if_neg (by omega), e75, h76]
  have inC : ∀ b, t ≤ b ∧ b < t + Cs.length → Cs.getD (b - t) 0 ∈ Cs := fun b y => getD_me (by omega)
  have inA : ∀ b, t ≤ b ∧ b < t + Cs.length → Cs.getD (b - t) 0 ∈ Cs ++ Fc := fun b y => List.mem_append.2 (Or.inl (inC b y))
  have ndA := List.nodup_append.1 f3
  refine ⟨fun b w => ?_, fun b b' w1 w2 e => ?_, ⟨Fc, f1, f2, ndA.2.1, fun x hx => ⟨(f4 x (List.mem_append.2 (Or.inr hx))).1, fun b w => ?_⟩⟩, fun o f w1 w2 w3 => ?_, fun x hx => ?_, fun q s w => ?_, by rw [l21, l25]; exact h7⟩
  · by_cases z : t ≤ b ∧ b < t + Cs.length
    · dsimp only
      rw [if_pos z]
      refine ⟨(f4 _ (inA b z)).1, ?_⟩
      unfold vaC
      rw [if_pos (by omega)]
      have := hva (b - t) (by omega)
      rw [show t + (b - t) = b by omega] at this
      exact this
    · have w' := ((us b).1 w).resolve_right z
      obtain ⟨a1, a2⟩ := h1 b w'
      have nc : ρ b ∉ Cs := fun y => (f4 _ (List.mem_append.2 (Or.inl y))).2 b w' rfl
      dsimp only
      rw [if_neg z, va b w', (h54 (ρ b) nc).1, (h54 (ρ b) nc).2]
      exact ⟨a1, hv _ _ a2⟩
  · dsimp only at e
    by_cases z : t ≤ b ∧ b < t + Cs.length
    · by_cases z' : t ≤ b' ∧ b' < t + Cs.length
      · rw [if_pos z, if_pos z'] at e
        have := nd_getD ndA.1 (i := b - t) (j := b' - t) (by omega) (by omega) e
        omega
      · rw [if_pos z, if_neg z'] at e
        exact absurd e.symm ((f4 _ (inA b z)).2 b' (((us b').1 w2).resolve_right z'))
    · by_cases z' : t ≤ b' ∧ b' < t + Cs.length
      · rw [if_neg z, if_pos z'] at e
        exact absurd e ((f4 _ (inA b' z')).2 b (((us b).1 w1).resolve_right z))
      · rw [if_neg z, if_neg z'] at e
        exact h2 b b' (((us b).1 w1).resolve_right z) (((us b').1 w2).resolve_right z') e
  · dsimp only
    by_cases z : t ≤ b ∧ b < t + Cs.length
    · rw [if_pos z]
      exact ndA.2.2 _ (inC b z) x hx
    · rw [if_neg z]
      exact (f4 x (List.mem_append.2 (Or.inr hx))).2 b (((us b).1 w).resolve_right z)
  · rw [e62] at w3
    obtain ⟨r, r1, r2, r3⟩ := h4 o f ((oa o 5).1 w1) w2 w3
    refine ⟨r, by rw [e63]; exact r1, by rw [l25]; exact r2, fun k hk => ?_⟩
    obtain ⟨x, c1, c2, c3⟩ := r3 k hk
    have ux := hcap o f k ((oa o 5).1 w1) w2 w3 hk r x r1 c1 c2 r2
    refine ⟨x, by rw [l21]; exact c1, by rw [e77]; exact c2, ?_⟩
    rw [m44, lo]
    dsimp only
    rw [if_neg (fun z => nu _ z ux)]
    exact c3
  · rw [l21] at hx
    rw [e74]
    rcases h5 x hx with w | ⟨s, ⟨q, s1⟩, s2, s3, s4⟩
    · exact Or.inl w
    · exact Or.inr ⟨s, ⟨q, (hf q s).2 (Or.inl s1)⟩, s2, s3, by rw [(hl q s s1).2]; exact s4⟩
  · rcases (hf q s).1 w with w | ⟨_, w⟩
    · obtain ⟨a1, a2⟩ := h6 q s w
      refine ⟨a1, ?_⟩
      rw [(hl q s w).2, l21]
      rcases a2 with z | ⟨x, c1, c2, c3⟩
      · exact Or.inl z
      · exact Or.inr ⟨x, c1, c2, by rw [e74]; exact c3⟩
    · exact ⟨by omega, Or.inl (h81 s w.1 w.2)⟩
theorem gaL_cx {σ τ σ' τ' : lj_S} {p : Nat} : ∀ {L : List kF} {e e' : Nat}, (∀ k i, (k = 99 ∨ k = 100 ∨ k = 101) → i < L.length → σ'.1 k (20 * p + i) = σ.1 k (20 * p + i)) → (∀ k i, (k = 83 ∨ k = 84 ∨ k = 85 ∨ k = 86) → i < L.length → τ'.1 k (48 * p + i) = τ.1 k (48 * p + i)) → gaL σ τ p L e e' → gaL σ' τ' p L e e'
  | [], _, _, _, _, h => h
  | F :: L, e, e', hC, hM, h => by
    have ll : L.length < (F :: L).length := by simp
    have hC' : ∀ k i, (k = 99 ∨ k = 100 ∨ k = 101) → i < L.length → σ'.1 k (20 * p + i) = σ.1 k (20 * p + i) := fun k i w1 w2 => hC k i w1 (by omega)
    have hM' : ∀ k i, (k = 83 ∨ k = 84 ∨ k = 85 ∨ k = 86) → i < L.length → τ'.1 k (48 * p + i) = τ.1 k (48 * p + i) := fun k i w1 w2 => hM k i w1 (by omega)
    rcases h with ⟨h1, h2⟩ | ⟨h1, b, h2, ⟨h3, h4, h5⟩, ⟨h6, h7⟩, h8⟩
    · exact Or.inl ⟨h1, gaL_cx hC' hM' h2⟩
    · exact Or.inr ⟨h1, b, h2, ⟨by rw [hC 100 _ (by omega) ll]; exact h3, by rw [hM 84 _ (by omega) ll]; exact h4, by rw [hM 85 _ (by omega) ll]; exact h5⟩, ⟨by rw [hC 101 _ (by omega) ll, hM 86 _ (by omega) ll]; exact h6, by rw [hC 99 _ (by omega) ll, hM 83 _ (by omega) ll]; exact h7⟩, gaL_cx hC' hM' h8⟩
theorem gaC_cx {σ τ σ' τ' : lj_S} {FP FP' : Nat → List kF} (hf : ∀ q e e', gaL σ τ q (FP q) e e' → gaL σ' τ' q (FP' q) e e') : ∀ {r : List Nat} {e : Nat}, gaC σ τ FP r e → gaC σ' τ' FP' r e
  | [], _, h => h
  | q :: r, e, h => by
    obtain ⟨e', h1, h2⟩ := h
    exact ⟨e', hf q e e' h1, gaC_cx hf h2⟩
theorem gaR.cx {σ τ σ' τ' : lj_S} {n : Nat} {FP FP' : Nat → List kF} {ch A MO LA : List Nat} (h : gaR σ τ n FP ch A MO LA) (ho : ∀ o k, obA σ τ o k → obA σ' τ' o k) (hC : ∀ k j, (k = 102 ∨ k = 104 ∨ k = 110 ∨ k = 57 ∨ k = 65 ∨ k = 8 ∧ (j = 33 ∨ j = 45 ∨ j = 51 ∨ j = 53)) → σ'.1 k j = σ.1 k j) (hM : ∀ k j, (k = 95 ∨ k = 0 ∧ (j = 152 ∨ j = 153)) → τ'.1 k j = τ.1 k j) (h42 : ∀ j, τ'.2 42 j = τ.2 42 j) (h78 : τ'.2 0 78 = τ.2 0 78) (hf : ∀ q e e', gaL σ τ q (FP q) e e' → gaL σ' τ' q (FP' q) e e') : gaR σ' τ' n FP' ch A MO LA := by
  obtain ⟨⟨a1, a2, a3, a4, a5, a6, a7⟩, ⟨b1, b2, b3, b4⟩, c1, c2, c3, c4⟩ := h
  refine ⟨⟨by unfold lv at a1 ⊢; rw [hC 8 53 (by omega)]; exact a1, fun i hi => by rw [hC 110 i (by omega)]; exact a2 i hi, a3, fun t ht => ?_, ?_, by rw [h78, lv_eq (hC 8 45 (by omega))]; exact a6, fun t t1 t2 => ?_⟩, ⟨by unfold lv at b1 ⊢; rw [hC 8 33 (by omega)]; exact b1, by unfold lv at b2 ⊢; rw [hM 0 152 (by omega)]; exact b2, b3, fun i hi => ?_⟩, c1.up ho (hC 57 0 (by omega)), gaC_cx hf c2, fun i hi => by rw [hC 102 i (by omega)]; exact c3 i hi, by rw [hC 8 51 (by omega), hM 0 153 (by omega)]; exact c4⟩
  · obtain ⟨w1, w2, w3⟩ := a4 t ht
    exact ⟨ho _ _ w1, by rw [h42]; exact w2, by rw [h42, h78]; exact w3⟩
  · simp only [h42]
    exact a5
  · rw [hC 57 t (by omega), hC 65 t (by omega), h42]
    exact a7 t t1 t2
  · obtain ⟨w1, w2, w3⟩ := b4 i hi
    exact ⟨ho _ _ w1, by rw [hC 104 i (by omega)]; exact w2, by rw [hM 95 i (by omega)]; exact w3⟩
/-- rows of given values of both -/
def gwR (σ τ : lj_S) (G G' : List vT) : Prop := gvC σ G ∧ gvM τ G' ∧ G.length = G'.length ∧ ∀ j, j < G.length → vR σ τ (gvN G j) (gvN G' j)
/-- the frame that comes -/
def enF (σ0 τ0 : lj_S) (f o N ce d : Nat) : kF := (0, o, fnE σ0 τ0 f, N, 0, ce, d)
theorem MB.ent {σ0 τ0 σ τ : lj_S} {n np p : Nat} {r : List Nat} {FP : Nat → List kF} {ρ : Nat → Nat} {A MO LA : List Nat} (h : MB σ0 τ0 n np p r FP ρ A MO LA σ τ) {Fn : Nat} (fx : FR σ0 τ0 Fn) {L : List kF} (hF : FP p = L) (hl : L.length < 20) {f o : Nat} (hf : f < 51) (hfn : f < Fn) (ho : o = 0 ∧ lv σ0 33 f = 0 ∨ obA σ τ o 5 ∧ σ.1 62 o = Int32.ofNat f) {N : Nat} (hgn : gn σ0 τ0 N (fnE σ0 τ0 f)) (h29 : σ0.1 29 f = τ0.1 13 f ∧ 0 ≤ lv σ0 29 f ∧ lv σ0 29 f ≤ 50) (h28 : 0 ≤ lv σ0 28 f ∧ 0 ≤ lv τ0 12 f) {as : Int32} (line : Int32) (haw : awR σ0 L as (τ.1 0 130) (τ.1 0 131)) {G G' : List vT} (hG : gwR σ τ G G') (hGl : G.length ≤ 49) : ∃ σ' τ' ρ' ce d, lj_R lc_P 131 [.ref 8, .int (Int32.ofNat f), .int (Int32.ofNat o), .int as, .int line] σ = some (.inl none, σ') ∧ lj_R lm_P 113 [.ref 0, .int (Int32.ofNat f), .int (Int32.ofNat o)] τ = some (.inl none, τ') ∧ MB σ0 τ0 n np p r (fpT FP p (enF σ0 τ0 f o (N + 1) ce d :: L)) ρ' A MO LA σ' τ' ∧ (∀ k j, ¬ (k = 8 ∧ (j = 8 ∨ j = 34 ∨ j = 35)) → ¬ (90 ≤ k ∧ k ≤ 99) → ¬ (79 ≤ k ∧ k ≤ 81) → σ'.1 k j = σ.1 k j ∧ σ'.2 k j = σ.2 k j) ∧ (∀ k j, ¬ (62 ≤ k ∧ k ≤ 65) → ¬ (71 ≤ k ∧ k ≤ 87) → ¬ (54 ≤ k ∧ k ≤ 57) → ¬ (k = 0 ∧ j = 96) → τ'.1 k j = τ.1 k j ∧ τ'.2 k j = τ.2 k j) := by
  have hls := h.ls
  obtain ⟨ra, ru⟩ := h.rfa
  have hcl := h.2.2.2.2.2.2.2.2.2.1
  have cdC' := fun k j (q : cdC k j = true) => (h.1.1 k j q).1
  have cdM' := fun k j (q : cdM k j = true) => (h.1.2 k j q).1
  have h7 := h.2.2.2.2.2.2.1
  have hp : p ≤ np := h7.2.2.2.2.2.1 p List.mem_cons_self
  have np25 := h7.1.2.2
  obtain ⟨ce, me, mq, pa⟩ := h.2.2.2.2.2.2.2.1 p hp (by rw [h7.2.2.1.2]; decide)
  have pa' := pa
  obtain ⟨p1, ⟨p2, p3, p4, p5⟩, p6, p7, p8, p9, p10, p11⟩ := pa'
  rw [if_pos rfl] at p6
  rw [hF] at p1 p2 p7 p10 p11
  obtain ⟨pb1, pb2, pb3⟩ := prt_bd p1 haw
  have pr := prt_rg p1
  obtain ⟨gC, gM, gl, gv⟩ := hG
  obtain ⟨x1, x2, x3, x4⟩ := fx
  obtain ⟨y31, y31a, y31b, _, y30, y30b, _, yX⟩ := x4 f hfn
  obtain ⟨z29, _, z32a, z32b, _⟩ := yX
  have hal : nL σ0 f ≤ 50 := by unfold nL; omega
  have hbl : nH σ0 f ≤ 20 := by unfold nH; omega
  obtain ⟨pn, hpn⟩ : ∃ pn : Nat, pn = (lv σ0 29 f).toNat := ⟨_, rfl⟩
  have pn50 : pn ≤ 50 := by omega
  have pnL : pn ≤ nL σ0 f := by unfold nL; omega
  have c29 : σ.1 29 f = Int32.ofNat pn := by rw [cdC' 29 f (by unfold cdC; rfl)]; exact lz_ext (by rw [lz_lit (by omega), hpn]; show lv σ0 29 f = _; omega)
  have c31 : σ.1 31 f = Int32.ofNat (nL σ0 f) := by rw [cdC' 31 f (by unfold cdC; rfl)]; exact lz_ext (by rw [lz_lit (by omega)]; unfold nL; show lv σ0 31 f = _; omega)
  have c32 : σ.1 32 f = Int32.ofNat (nH σ0 f) := by rw [cdC' 32 f (by unfold cdC; rfl)]; exact lz_ext (by rw [lz_lit (by omega)]; unfold nH; show lv σ0 32 f = _; omega)
  have m13 : τ.1 13 f = Int32.ofNat pn := by
    rw [cdM' 13 f (by unfold cdM; rfl), ← h29.1, ← cdC' 29 f (by unfold cdC; rfl)]; exact c29
  obtain ⟨σ', ec, q1, q2, q3, q4, q5, q6⟩ := c_enter (o := Int32.ofNat o) h7.2.1.1 (by omega) p7 hl p6 hf c29 pn50 c31 c32 hal hbl gC (by omega) (by omega) as line
  obtain ⟨Fc, f1, f2, f3, f4⟩ := hcl.2.2.1
  obtain ⟨τ', Cs, Fc', em, s1, s2, s3, s4, s5, r1, r2, r3, r4, r5, r6, r7⟩ := m_open (x2 := Int32.ofNat o) (U := fun c => ∃ a, usd σ0 σ τ FP a ∧ ρ a = c) ra ⟨h7.2.1.2, by omega, p8, p4, p9, p5⟩ hp (show (if τ.1 58 p = 4 then 0 else (FP p).length) = L.length by rw [if_neg (by rw [h7.2.2.1.2]; decide), hF]) p11 hl hf m13 pn50 gM (by omega) (by omega) f1 f2 f3 (fun c hc => ⟨(f4 c hc).1, fun ⟨a, w1, w2⟩ => (f4 c hc).2 a w1 w2⟩) (fun c ⟨a, w1, w2⟩ => by rw [← w2]; exact ru a w1)
  have e30 : (σ.1 30 f = 0) ↔ (τ.1 16 f = 0) := by rw [cdC' 30 f (by unfold cdC; rfl), cdM' 16 f (by unfold cdM; rfl), y30]
  obtain ⟨D, hD⟩ : ∃ D, D = (if σ.1 30 f = 0 then [] else G.drop pn) := ⟨_, rfl⟩
  obtain ⟨D', hD'⟩ : ∃ D', D' = (if τ.1 16 f = 0 then [] else G'.drop pn) := ⟨_, rfl⟩
  rw [← hD] at q1 q2 q3 q4 q5 q6
  rw [← hD'] at r1 r2 r5 r7
  have dl : D.length = D'.length := by
    rw [hD, hD']
    by_cases z : σ.1 30 f = 0
    · rw [if_pos z, if_pos (e30.1 z)]
    · rw [if_neg z, if_neg (fun y => z (e30.2 y)), List.length_drop, List.length_drop, gl]
  have dl2 : D.length ≤ G.length := by
    rw [hD]
    by_cases z : σ.1 30 f = 0
    · rw [if_pos z]; exact Nat.zero_le _
    · rw [if_neg z, List.length_drop]; omega
  have dv : ∀ i, i < D.length → vR σ τ (D.getD i (0, 0)) (D'.getD i (0, 0)) := fun i hi => by
    rw [hD] at hi
    rw [hD, hD']
    by_cases z : σ.1 30 f = 0
    · rw [if_pos z] at hi
      exact absurd hi (by simp)
    · rw [if_neg z, List.length_drop] at hi
      rw [if_neg z, if_neg (fun y => z (e30.2 y))]
      have := gv (pn + i) (by omega)
      unfold gvN at this
      rw [List.getD_eq_getElem?_getD, List.getD_eq_getElem?_getD, List.getElem?_drop, List.getElem?_drop, ← List.getD_eq_getElem?_getD, ← List.getD_eq_getElem?_getD]
      exact this
  have fx : lf (rxC p) σ σ' := fun k j q => by
    unfold rxC at q
    simp at q
    exact q6 k j (by omega) (by omega) (by omega) (by omega)
  have gx : lf (rxM p) τ τ' := fun k j q => by
    unfold rxM at q
    simp at q
    exact r7 k j (by omega) (by omega) (by omega) (by omega) (by omega) (by omega)
  have vC : ∀ k j, vqC k j = true → σ'.1 k j = σ.1 k j := fun k j q => (rx_eq fx (by unfold vqC at q; simp at q; omega)).1
  have vM : ∀ k j, vqM k j = true → τ'.1 k j = τ.1 k j := fun k j q => (rx_eqM gx (by unfold vqM at q; simp at q; omega)).1
  have hv : ∀ a b, vR σ τ a b → vR σ' τ' a b := fun a b w => w.cg vC vM
  have hO := oG_eq vC vM
  have oa : ∀ o k, obA σ' τ' o k ↔ obA σ τ o k := fun o k => by unfold obA lv; rw [vC 7 0 rfl, vC 57 o rfl, vM 38 o rfl]
  have hno : ∀ q b, ce ≤ b → b < 12500 * p + 12500 → ¬ lsL (FP q) b := fun q b b1 b2 w => by
    have w1 := hls q b w
    have e : q = p := by omega
    rw [e, hF] at w
    have := (pr.2 b w).2
    omega
  have hfl : ∀ q b, lsL (fpT FP p (enF σ0 τ0 f o (N + 1) ce D.length :: L) q) b ↔ lsL (FP q) b ∨ q = p ∧ ce + D.length ≤ b ∧ b < ce + D.length + Cs.length := fun q b => by
    by_cases z : q = p
    · rw [z, fpT_o, hF]
      constructor
      · rintro ⟨G, hG, wG⟩
        rcases List.mem_cons.1 hG with e | e
        · rw [e] at wG
          obtain ⟨_, y, hy, ey⟩ := wG
          have hy : y ∈ (List.range (lv σ0 29 f).toNat).reverse := hy
          have ey : b = ce + D.length + y := ey
          rw [List.mem_reverse, List.mem_range] at hy
          right
          exact ⟨rfl, by omega, by omega⟩
        · left; exact ⟨G, e, wG⟩
      · rintro (⟨G, hG, wG⟩ | ⟨_, w1, w2⟩)
        · exact ⟨G, List.mem_cons_of_mem _ hG, wG⟩
        · refine ⟨_, List.mem_cons_self, rfl, b - (ce + D.length), ?_, ?_⟩
          · show _ ∈ (List.range (lv σ0 29 f).toNat).reverse
            rw [List.mem_reverse, List.mem_range]
            omega
          · show b = ce + D.length + _
            omega
    · unfold fpT
      rw [if_neg z]
      exact ⟨Or.inl, fun w => w.resolve_right (fun y => z y.1)⟩
  have cvl : ∀ q s, lsL (FP q) s → cv σ' s = cv σ s ∧ σ'.1 81 s = σ.1 81 s := fun q s w => by
    have w1 := hls q s w
    have ns : s < ce ∨ 12500 * p + 12500 ≤ s := by
      by_cases y : ce ≤ s ∧ s < 12500 * p + 12500
      · exact absurd w (hno q s y.1 y.2)
      · omega
    unfold cv
    rw [(q6 79 s (by omega) (by omega) (by omega) (by omega)).1, (q6 80 s (by omega) (by omega) (by omega) (by omega)).2, (q6 81 s (by omega) (by omega) (by omega) (by omega)).1]
    exact ⟨rfl, rfl⟩
  have gcl := hcl.news (σ' := σ') (τ' := τ') (p := p) (t := ce + D.length) (Cs := Cs) (Fc := Fc') h.2.2.2.1.1 hv (fun k j w => (q6 k j (by omega) (by omega) (by omega) (by omega)).1) (fun j => (q6 76 j (by omega) (by omega) (by omega) (by omega)).2) cvl (fun k j w => (r7 k j (by omega) (by omega) (by omega) (by omega) (by omega) (by omega)).1) (by rw [h7.2.2.1.2]; decide) r6 hfl (by omega) (fun q b b1 b2 => hno q b (by omega) (by omega)) s4 s5 s2 (fun x hx => ⟨(s3 x hx).1, fun b w e => (s3 x hx).2 ⟨b, w, e⟩⟩) (fun b b1 b2 => q5 b (by omega) (by omega)) (fun j hj => by
    rw [s1] at hj
    rw [q4 j (by omega), if_pos hj, (r3 j hj).2]
    by_cases y : j < G.length
    · exact hv _ _ (gv j y)
    · unfold gvN
      rw [List.getD_eq_getElem?_getD, List.getD_eq_getElem?_getD, List.getElem?_eq_none (by omega), List.getElem?_eq_none (by omega)]
      exact vR_nil _ _)
  have own := fpT_o FP p (enF σ0 τ0 f o (N + 1) ce D.length :: L)
  have pr' := prt_cg (σ' := σ') (τ' := τ') (ρ' := fun b => if ce + D.length ≤ b ∧ b < ce + D.length + Cs.length then Cs.getD (b - (ce + D.length)) 0 else ρ b) hv hO (fun o _ => (q6 62 o (by omega) (by omega) (by omega) (by omega)).1) p1 (fun j w1 w2 _ => ⟨(q6 79 j (by omega) (by omega) (by omega) (by omega)).1, (q6 80 j (by omega) (by omega) (by omega) (by omega)).2, (q6 81 j (by omega) (by omega) (by omega) (by omega)).1⟩) (fun k i w1 w2 w3 => (q6 k _ (by omega) (by omega) (by omega) (by omega)).1) (fun j w => ⟨(r7 71 _ (by omega) (by omega) (by omega) (by omega) (by omega) (by omega)).1, (r7 72 _ (by omega) (by omega) (by omega) (by omega) (by omega) (by omega)).2⟩) (fun j w => (r7 73 _ (by omega) (by omega) (by omega) (by omega) (by omega) (by omega)).1) (fun k i w1 w2 w3 => (r7 k _ (by omega) (by omega) (by omega) (by omega) (by omega) (by omega)).1) (fun i x w2 w3 => (r7 87 _ (by omega) (by omega) (by omega) (by omega) (by omega) (by omega)).1) (fun a w => by
    have := (pr.2 a w).2
    rw [if_neg (by omega)])
  refine ⟨σ', τ', fun b => if ce + D.length ≤ b ∧ b < ce + D.length + Cs.length then Cs.getD (b - (ce + D.length)) 0 else ρ b, ce, D.length, ec, em, h.rx fx gx (fun q a z w => ?_) gcl ⟨ce + D.length + (nL σ0 f + 3 * nH σ0 f), me + D'.length, mq, ?_⟩ ⟨q1.1, fun _ => q1.2.1⟩ (h.2.2.2.2.2.2.2.2.2.2.1.cx (fun o k w => (oa o k).2 w) (fun k j w => ?_) (fun k j w => (r7 k j (by omega) (by omega) (by omega) (by omega) (by omega) (by omega)).1) (fun j => (r7 42 j (by omega) (by omega) (by omega) (by omega) (by omega) (by omega)).2) (r7 0 78 (by omega) (by omega) (by omega) (by omega) (by omega) (by omega)).2 (fun q e e' w => ?_)) (fun j z => ?_), fun k j z1 z2 z3 => q6 k j (by omega) (by omega) (by omega) (by omega), fun k j z1 z2 z3 z4 => r7 k j (by omega) (by omega) (by omega) (by omega) (by omega) (by omega)⟩
  · have := hls q a w
    rw [if_neg (by omega)]
  · unfold paR
    rw [own, if_pos rfl, List.length_cons]
    refine ⟨⟨me, mq, pr', ⟨⟨q2.2.2.2.2.1, r2.2.2.2.2.2.2.1, r2.2.2.2.2.2.2.2.1⟩, Or.inl ⟨rfl, ?_⟩⟩, ?_⟩, ⟨by omega, by omega, by omega, by omega⟩, by rw [q1.2.2.1], q1.2.2.2, r1.2.2.1, r1.2.2.2, r1.1, r1.2.1⟩
    · refine ⟨⟨q2.1, q2.2.1, q2.2.2.1, ?_, q2.2.2.2.2.2.1⟩, ⟨r2.1, r2.2.1, r2.2.2.1, ?_, by rw [r2.2.2.2.2.2.2.2.2, ← dl]; rfl⟩, fun i hi => ⟨?_, q5 _ (Nat.le_add_right _ _) ?_⟩, ?_, ⟨fun x hx => ?_, fun x hx hn => ?_, fun x hx hn => ?_, fun i hi => ?_, Nat.zero_le _⟩, ⟨⟨hf, hal, hbl, ?_, by show D.length ≤ 49; omega, y31a, by show (f : Int) < lv σ0 5 8; unfold lv; rw [x1, lz_lit (by omega)]; omega⟩, ?_, Or.inr ⟨by show N + 1 ≠ 0; omega, hgn⟩, fun z => absurd rfl z⟩⟩
      · rw [q2.2.2.2.1, cdC' 28 f (by unfold cdC; rfl)]
        show _ = Int32.ofNat (lv σ0 28 f).toNat
        have := lz_b (σ0.1 28 f)
        exact lz_ext (by rw [lz_lit (by unfold lv at *; omega)]; unfold lv at *; omega)
      · rw [r2.2.2.2.1, cdM' 12 f (by unfold cdM; rfl)]
        show _ = Int32.ofNat (lv τ0 12 f).toNat
        have := lz_b (τ0.1 12 f)
        exact lz_ext (by rw [lz_lit (by unfold lv at *; omega)]; unfold lv at *; omega)
      · have hi : i < D.length := hi
        show vR σ' τ' (cv σ' (ce + i)) _
        rw [q3 i hi, r5 i (by omega)]
        exact hv _ _ (dv i hi)
      · have hi : i < D.length := hi
        show ce + i < _
        omega
      · show stk σ' τ' p _ (ce + D.length + nL σ0 f + 3 * nH σ0 f) (me + D.length) mq [] _ _ _ _
        rw [q2.2.2.2.2.2.2.1, Nat.add_assoc (ce + D.length), dl]
        exact ⟨rfl, rfl, rfl, rfl⟩
      · have hx : x ∈ (List.range (lv σ0 29 f).toNat).reverse := hx
        rw [List.mem_reverse, List.mem_range, ← hpn] at hx
        refine ⟨by show x < nL σ0 f; omega, ?_⟩
        show _ = Int32.ofNat (if ce + D.length ≤ ce + D.length + x ∧ ce + D.length + x < ce + D.length + Cs.length then Cs.getD (ce + D.length + x - (ce + D.length)) 0 else ρ (ce + D.length + x))
        rw [if_pos (by omega), Nat.add_sub_cancel_left]
        exact (r3 x hx).1
      · have hn : x ∉ (List.range (lv σ0 29 f).toNat).reverse := hn
        rw [List.mem_reverse, List.mem_range, ← hpn] at hn
        have := r4 x (by omega) (by omega)
        exact ⟨fun _ => this, Or.inl this⟩
      · have hx : x < nL σ0 f := hx
        show σ'.1 81 (ce + D.length + x) = -1
        exact q5 _ (by omega) (by omega)
      · have hi : i < 3 * nH σ0 f := hi
        show σ'.1 81 (ce + D.length + nL σ0 f + i) = -1
        exact q5 _ (by omega) (by omega)
      · exact gn_ok hgn
      · rcases ho with w | w
        · exact Or.inl w
        · exact Or.inr ⟨(oa o 5).2 w.1, by rw [(q6 62 _ (by omega) (by omega) (by omega) (by omega)).1]; exact w.2⟩
    · rw [q2.2.2.2.2.2.2.2, r2.2.2.2.2.1, r2.2.2.2.2.2.1]
      exact haw
  · exact (q6 k j (by omega) (by omega) (by omega) (by omega)).1
  · by_cases z : q = p
    · rw [z] at w ⊢
      rw [own]
      rw [hF] at w
      exact Or.inl ⟨by show (0 : Nat) ≠ 2; decide, gaL_cx (fun k i w1 w2 => (q6 k _ (by omega) (by omega) (by omega) (by omega)).1) (fun k i w1 w2 => (r7 k _ (by omega) (by omega) (by omega) (by omega) (by omega) (by omega)).1) w⟩
    · unfold fpT
      rw [if_neg z]
      by_cases y : q ≤ np
      · have ly : (FP q).length ≤ 20 := h.l20 y
        exact gaL_cx (fun k i w1 w2 => (q6 k _ (by omega) (by omega) (by omega) (by omega)).1) (fun k i w1 w2 => (r7 k _ (by omega) (by omega) (by omega) (by omega) (by omega) (by omega)).1) w
      · have e0 : FP q = [] := h7.2.2.2.2.2.2.2.2.1 q (by omega)
        rw [e0] at w ⊢
        exact w
  · have nz : ∀ q, ¬ lsL (FP q) j := fun q w => z q ((hfl q j).2 (Or.inl w))
    by_cases y : ce ≤ j ∧ j < ce + D.length + (nL σ0 f + 3 * nH σ0 f)
    · exact Or.inl (q5 j y.1 y.2)
    · rw [(q6 81 j (by omega) (by omega) (by omega) (by omega)).1]
      exact h.2.2.2.2.2.2.2.2.2.2.2.2.1 j nz
