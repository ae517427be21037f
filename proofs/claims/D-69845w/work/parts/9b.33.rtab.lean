/-! the gathering: tables are gone through -/
theorem and4 : ∀ m : Nat, m < 4 → ((Int32.ofNat m &&& 1 = 0 ↔ m % 2 = 0) ∧ (Int32.ofNat m = 0 ↔ m = 0) ∧ (Int32.ofNat m = 1 ↔ m = 1)) ∧ ((Int32.ofNat m &&& 2 = 0 ↔ m < 2) ∧ (Int32.ofNat m &&& 1 ≤ 0 ↔ m % 2 = 0) ∧ (Int32.ofNat m &&& 2 ≤ 0 ↔ m < 2) ∧ (0 < Int32.ofNat m ↔ m ≠ 0) ∧ (Int32.ofNat m ≤ 0 ↔ m = 0)) := by decide
/-- what a pair leads to: k its key's object, v its value's; by the mode of the table -/
def prE (md : Nat) (S : Nat → Bool) (k v x : Nat) : Prop := x ≠ 0 ∧ ((md % 2 = 0 ∧ x = k) ∨ ((md = 0 ∨ md = 1 ∧ (k = 0 ∨ S k = true)) ∧ x = v))
theorem prE.up {md k v x : Nat} {S S' : Nat → Bool} (h : prE md S k v x) (w : ∀ y, S y = true → S' y = true) : prE md S' k v x := ⟨h.1, h.2.imp id (fun z => ⟨z.1.imp id (fun y => ⟨y.1, y.2.imp id (w k)⟩), z.2⟩)⟩
/-- what W has to hold of a pair -/
def prW (md : Nat) (W : Nat → Prop) (k v : Nat) : Prop := (md % 2 = 0 → k ≠ 0 → W k) ∧ (md = 0 → v ≠ 0 → W v) ∧ (md = 1 → (k = 0 ∨ W k) → v ≠ 0 → W v)
def kyC (σ : lj_S) (p : Nat) : vT := (enC σ p).1
def vlC (σ : lj_S) (p : Nat) : vT := (enC σ p).2
theorem c_rtab_loop {n : Nat} (hn : n ≤ 2000) {W : Nat → Prop} {md : Nat} (hmd : md < 4) (x1 : Int32) : ∀ (L : List Nat) (y : Int32) (σ : lj_S) (Q : List Nat), lk (lv σ 70) y.toInt L → (∀ p ∈ L, p < 3000 ∧ (σ.1 68 p ≠ 0 → (wfC (kyC σ p) ∧ ov (kyC σ p) ≤ n) ∧ (wfC (vlC σ p) ∧ ov (vlC σ p) ≤ n) ∧ prW md W (ov (kyC σ p)) (ov (vlC σ p)))) → (∀ x, flg n 111 σ x = true → W x) → wqC n σ Q → ∃ σ' Q', lj_D lc_P lc_M182 74 [.ref 8, .int x1, .int (Int32.ofNat md), .int y] [] σ = some (.inl none, σ') ∧ visC n W (fun x => ∃ p ∈ L, σ.1 68 p ≠ 0 ∧ prE md (flg n 111 σ) (ov (kyC σ p)) (ov (vlC σ p)) x) σ Q σ' Q'
  | [], y, σ, Q, hl, _, _, hm => by
    have hl : y.toInt = -1 := hl
    rw [kc_182_74, if_pos (by rw [lz_lt, hl]; decide)]
    exact ⟨σ, Q, rfl, (vis.rf hm).mo (fun x ⟨p, hp, _⟩ => by cases hp)⟩
  | p :: L, y, σ, Q, hl, hp, hf, hm => by
    obtain ⟨hl1, hl2⟩ := hl
    obtain ⟨p1, p2⟩ := hp p List.mem_cons_self
    have ey : y = Int32.ofNat p := lz_ext (by rw [lz_lit (by omega)]; exact hl1)
    subst ey
    have i : lj_in (Int32.ofNat p) 3000 := ofN_in (by omega) (by omega)
    have nn : (Int32.ofNat p).toNatClampNeg = p := lz_onat (by omega)
    obtain ⟨⟨a1, a2, a3⟩, _⟩ := and4 md hmd
    -- the rest
    have rest : ∀ (σ1 : lj_S) (Q1 : List Nat) (M : Nat → Prop), visC n W M σ Q σ1 Q1 → ∃ σ' Q', lj_D lc_P lc_M182 198 [.ref 8, .int x1, .int (Int32.ofNat md), .int (Int32.ofNat p)] [] σ1 = some (.inl none, σ') ∧ visC n W (fun x => M x ∨ ∃ p ∈ L, σ.1 68 p ≠ 0 ∧ prE md (flg n 111 σ) (ov (kyC σ p)) (ov (vlC σ p)) x) σ Q σ' Q' := fun σ1 Q1 M hv => by
      have c : ∀ k j, k = 66 ∨ k = 67 ∨ k = 68 ∨ k = 69 ∨ k = 70 → σ1.1 k j = σ.1 k j ∧ σ1.2 k j = σ.2 k j := fun k j z => hv.2.1 k j (by unfold gRC; simp; omega)
      have e70 : lv σ1 70 = lv σ 70 := by funext j; unfold lv; rw [(c 70 j (by omega)).1]
      have ek : ∀ q, kyC σ1 q = kyC σ q := fun q => by unfold kyC enC; rw [(c 66 q (by omega)).1, (c 67 q (by omega)).2]
      have ew : ∀ q, vlC σ1 q = vlC σ q := fun q => by unfold vlC enC; rw [(c 68 q (by omega)).1, (c 69 q (by omega)).2]
      obtain ⟨σ2, Q2, r1, r2⟩ := c_rtab_loop hn hmd x1 L (σ1.1 70 p) σ1 Q1 (by rw [e70, (c 70 p (by omega)).1]; exact hl2) (fun q hq => by rw [(c 68 q (by omega)).1, ek, ew]; exact hp q (List.mem_cons_of_mem _ hq)) (fun x hx => hv.inw hf hx) hv.1
      refine ⟨σ2, Q2, by rw [kc_182_198]; simp only [if_pos i, nn]; exact r1, (hv.tr r2).mo (fun x z => z.imp id (fun ⟨q, q1, q2, q3⟩ => ⟨q, q1, by rw [(c 68 q (by omega)).1]; exact q2, ?_⟩))⟩
      rw [ek, ew]
      exact q3.up (fun y hy => hv.up hy)
    rw [kc_182_74, if_neg (ofN_nneg (by omega))]; simp only [if_pos i, nn]
    by_cases z : σ.1 68 p = 0
    · rw [if_pos z]
      obtain ⟨σ', Q', r1, r2⟩ := rest σ Q _ (vis.rf hm)
      exact ⟨σ', Q', r1, r2.mo (fun x ⟨q, q1, q2, q3⟩ => by
        rcases List.mem_cons.1 q1 with e | e
        · rw [e] at q2; exact absurd z q2
        · exact Or.inr ⟨q, e, q2, q3⟩)⟩
    · obtain ⟨⟨k1, k2⟩, ⟨v1, v2⟩, w1, w2, w3⟩ := p2 z
      rw [if_neg z]
      -- behind the key
      have mid : ∀ (σ1 : lj_S) (Q1 : List Nat) (M : Nat → Prop), visC n W M σ Q σ1 Q1 → (∀ x, x ≠ 0 → md % 2 = 0 → x = ov (kyC σ p) → M x) → ∃ σ' Q', lj_D lc_P lc_M182 130 [.ref 8, .int x1, .int (Int32.ofNat md), .int (Int32.ofNat p)] [] σ1 = some (.inl none, σ') ∧ visC n W (fun x => ∃ q ∈ p :: L, σ.1 68 q ≠ 0 ∧ prE md (flg n 111 σ) (ov (kyC σ q)) (ov (vlC σ q)) x) σ Q σ' Q' := fun σ1 Q1 M hv hM => by
        have c : ∀ k j, k = 66 ∨ k = 67 ∨ k = 68 ∨ k = 69 → σ1.1 k j = σ.1 k j ∧ σ1.2 k j = σ.2 k j := fun k j z => hv.2.1 k j (by unfold gRC; simp; omega)
        have ek : kyC σ1 p = kyC σ p := by unfold kyC enC; rw [(c 66 p (by omega)).1, (c 67 p (by omega)).2]
        have ew : vlC σ1 p = vlC σ p := by unfold vlC enC; rw [(c 68 p (by omega)).1, (c 69 p (by omega)).2]
        -- the value is reached
        have val : (ov (vlC σ p) ≠ 0 → W (ov (vlC σ p))) → ∃ σ' Q', lj_D lc_P lc_M182 170 [.ref 8, .int x1, .int (Int32.ofNat md), .int (Int32.ofNat p)] [] σ1 = some (.inl none, σ') ∧ visC n W (fun x => ∃ q ∈ p :: L, σ.1 68 q ≠ 0 ∧ prE md (flg n 111 σ) (ov (kyC σ q)) (ov (vlC σ q)) x) σ Q σ' Q' := fun hW => by
          obtain ⟨σ2, Q2, r1, r2⟩ := c_reach hn hv.1 (a := vlC σ1 p) (by rw [ew]; exact v1) (by rw [ew]; exact v2) (W := W) (by rw [ew]; exact hW)
          have r1 : lj_R lc_P 176 [.ref 8, .int (σ1.1 68 p), .long (σ1.2 69 p)] σ1 = some (.inl none, σ2) := r1
          obtain ⟨σ3, Q3, s1, s2⟩ := rest σ2 Q2 _ (hv.tr r2)
          refine ⟨σ3, Q3, by rw [kc_182_170]; simp only [if_pos i, nn]; rw [r1, bv_ok]; exact s1, s2.mo (fun x ⟨q, q1, q2, q3⟩ => ?_)⟩
          rcases List.mem_cons.1 q1 with e | e
          · rw [e] at q3
            rcases q3.2 with ⟨y1, y2⟩ | ⟨_, y2⟩
            · exact Or.inl (Or.inl (hM x q3.1 y1 y2))
            · exact Or.inl (Or.inr ⟨by rw [ew]; exact y2, q3.1⟩)
          · exact Or.inr ⟨q, e, q2, q3⟩
        have noval : (∀ x, prE md (flg n 111 σ) (ov (kyC σ p)) (ov (vlC σ p)) x → M x) → ∃ σ' Q', lj_D lc_P lc_M182 198 [.ref 8, .int x1, .int (Int32.ofNat md), .int (Int32.ofNat p)] [] σ1 = some (.inl none, σ') ∧ visC n W (fun x => ∃ q ∈ p :: L, σ.1 68 q ≠ 0 ∧ prE md (flg n 111 σ) (ov (kyC σ q)) (ov (vlC σ q)) x) σ Q σ' Q' := fun hN => by
          obtain ⟨σ3, Q3, s1, s2⟩ := rest σ1 Q1 _ hv
          refine ⟨σ3, Q3, s1, s2.mo (fun x ⟨q, q1, q2, q3⟩ => ?_)⟩
          rcases List.mem_cons.1 q1 with e | e
          · rw [e] at q3
            exact Or.inl (hN x q3)
          · exact Or.inr ⟨q, e, q2, q3⟩
        rw [kc_182_130]
        by_cases m0 : md = 0
        · rw [if_pos (a2.2 m0)]
          exact val (w2 m0)
        · rw [if_neg (fun y => m0 (a2.1 y))]
          by_cases m1 : md = 1
          · have cl := c_lost (σ := σ1) (a := kyC σ1 p) (by rw [ek]; exact k1) (by rw [ek]; omega)
            have cl : lj_R lc_P 184 [.ref 8, .int (σ1.1 66 p), .long (σ1.2 67 p)] σ1 = _ := cl
            rw [if_pos (a3.2 m1)]; simp only [if_pos i, nn]; rw [cl, bi_ok]
            by_cases y : los 111 σ1 (kyC σ1 p) = true
            · rw [if_pos y, if_neg (by decide)]
              refine noval (fun x hx => ?_)
              rcases hx.2 with ⟨y1, _⟩ | ⟨y1, _⟩
              · omega
              · exfalso
                rw [ek] at y
                rw [los_f (n := n) k2] at y
                simp at y
                rcases y1 with y1 | ⟨_, y1 | y1⟩
                · exact m0 y1
                · exact y.1 y1
                · have := hv.up y1
                  rw [y.2] at this
                  cases this
            · rw [if_neg y, if_pos rfl]
              refine val (w3 m1 ?_)
              rw [ek] at y
              rw [los_f (n := n) k2] at y
              simp at y
              by_cases k0 : ov (kyC σ p) = 0
              · exact Or.inl k0
              · exact Or.inr (hv.inw hf (y k0))
          · rw [if_neg (fun y => m1 (a3.1 y))]
            refine noval (fun x hx => ?_)
            rcases hx.2 with ⟨y1, y2⟩ | ⟨y1 | ⟨y1, _⟩, _⟩
            · exact hM x hx.1 y1 y2
            · exact absurd y1 m0
            · exact absurd y1 m1
      by_cases m2 : md % 2 = 0
      · obtain ⟨σ2, Q2, r1, r2⟩ := c_reach hn hm (a := kyC σ p) k1 k2 (W := W) (w1 m2)
        have r1 : lj_R lc_P 176 [.ref 8, .int (σ.1 66 p), .long (σ.2 67 p)] σ = some (.inl none, σ2) := r1
        rw [if_pos (a1.2 m2)]; (try simp only [if_pos i]); rw [r1, bv_ok]
        exact mid σ2 Q2 _ r2 (fun x x0 _ e => ⟨e, x0⟩)
      · rw [if_neg (fun y => m2 (a1.1 y))]
        exact mid σ Q _ (vis.rf hm) (fun x _ e _ => absurd e m2)
/-- tables that hold their keys weakly, as the component keeps them -/
def wkK (σ : lj_S) (K : List Nat) : Prop := σ.1 8 60 = Int32.ofNat K.length ∧ ∀ i, i < K.length → σ.1 113 i = Int32.ofNat (K.getD i 0)
/-- where a table leads to -/
def tEd (σ : lj_S) (P : Nat → List Nat) (t : Nat) (S : Nat → Bool) (x : Nat) : Prop := (x ≠ 0 ∧ lv σ 58 t = (x : Int)) ∨ ∃ p ∈ P t, σ.1 68 p ≠ 0 ∧ prE (mdX σ P t) S (ov (kyC σ p)) (ov (vlC σ p)) x
theorem wkK.cg {σ σ' : lj_S} {K : List Nat} (h : wkK σ K) (f : lf gRC σ σ') : wkK σ' K := ⟨by rw [(f 8 60 rfl).1]; exact h.1, fun i hi => by rw [(f 113 i rfl).1]; exact h.2 i hi⟩
/-- a place of a table: its key and its value -/
theorem hpX.kv {σ τ : lj_S} {n : Nat} {P B : Nat → List Nat} {Fr : List Nat} {P' B' : Nat → List Nat} {Fr' : List Nat} (h : hpX σ τ n P B Fr P' B' Fr') {t : Nat} (ht : t ≤ n) {q : Nat} (hq : q ∈ P t) : q < 3000 ∧ (wfC (kyC σ q) ∧ ov (kyC σ q) ≤ n) ∧ (σ.1 68 q ≠ 0 → wfC (vlC σ q) ∧ ov (vlC σ q) ≤ n) := by
  obtain ⟨q', _, w⟩ := eR_l (h.2.2.2.2 t ht) hq
  have kk := w.1.oj
  have l70 := h.1.2.1
  refine ⟨(h.2.1.1.2.2 t ht q hq).1, ⟨kk.2.2.2.2.1, by have := kk.2.1; unfold kyC; omega⟩, fun z => ?_⟩
  rcases w.2.2 with ⟨y, _⟩ | ⟨_, y⟩
  · have y' : σ.1 68 q = 0 := congrArg Prod.fst y
    exact absurd y' z
  · have vv := y.oj
    exact ⟨vv.2.2.2.2.1, by have := vv.2.1; unfold vlC; omega⟩
theorem c_rtab {σ τ : lj_S} {n : Nat} {P B : Nat → List Nat} {Fr : List Nat} {P' B' : Nat → List Nat} {Fr' : List Nat} (h : tw σ τ n P B Fr P' B' Fr') {t : Nat} (ht : t ≤ n) (k4 : t = 0 ∨ σ.1 57 t = 4) {W : Nat → Prop} {Q K : List Nat} (hm : wqC n σ Q) (hK : wkK σ K) (hKl : K.length ≤ 2000) (hf : ∀ x, flg n 111 σ x = true → W x) (hW1 : ∀ x : Nat, x ≠ 0 → lv σ 58 t = (x : Int) → W x) (hW2 : ∀ p ∈ P t, σ.1 68 p ≠ 0 → prW (mdX σ P t) W (ov (kyC σ p)) (ov (vlC σ p))) : ∃ σ' Q' K', lj_R lc_P 182 [.ref 8, .int (Int32.ofNat t)] σ = some (.inl none, σ') ∧ visK n W (tEd σ P t (flg n 111 σ)) σ Q σ' Q' ∧ wkK σ' K' ∧ K' = if mdX σ P t = 1 then K ++ [t] else K := by
  have n2 := h.2.2.1.1.1
  have md4 := mdX_le σ P t
  have it : lj_in (Int32.ofNat t) 2001 := ofN_in (by omega) (by omega)
  have nt : (Int32.ofNat t).toNatClampNeg = t := lz_onat (by omega)
  -- behind the metatable
  have mid : ∀ (σ1 : lj_S) (Q1 : List Nat) (M : Nat → Prop), visC n W M σ Q σ1 Q1 → (∀ x : Nat, x ≠ 0 → lv σ 58 t = (x : Int) → M x) → ∃ σ' Q' K', lj_D lc_P lc_M182 33 [.ref 8, .int (Int32.ofNat t), .retAddr 0, .retAddr 0] [] σ1 = some (.inl none, σ') ∧ visK n W (tEd σ P t (flg n 111 σ)) σ Q σ' Q' ∧ wkK σ' K' ∧ K' = if mdX σ P t = 1 then K ++ [t] else K := fun σ1 Q1 M hv hM => by
    have f1 : lf gKC σ σ1 := hv.2.1.mo (fun _ _ q => gRC_K q)
    obtain ⟨σ2, τ2, r1, r2, _⟩ := (h.cg f1 (lf_rf _ τ)).mode ht (k4.imp id (fun z => by rw [(f1 57 t rfl).1]; exact z))
    rw [md_gK f1] at r1
    have r2' : lf gKC σ1 σ2 := r2.mo (fun k j q => by unfold gKC at q; unfold fdK; simp at q ⊢; omega)
    have hK2 : wkK σ2 K := ⟨by rw [(r2 8 60 rfl).1]; exact (hK.cg hv.2.1).1, fun i hi => by rw [(r2 113 i rfl).1]; exact (hK.cg hv.2.1).2 i hi⟩
    have hv2 : visK n W M σ Q σ2 Q1 := (hv.fr (fun _ _ q => gRC_K q)).st r2' (fun x => (r2 111 x rfl).1) (fun x => (r2 112 x rfl).1) (r2 8 58 rfl).1
    -- the rest, when the table's place among those that hold weakly is known
    have fin : ∀ (σ3 : lj_S) (K' : List Nat), visK n W M σ Q σ3 Q1 → wkK σ3 K' → (K' = if mdX σ P t = 1 then K ++ [t] else K) → ∃ σ' Q' K', lj_D lc_P lc_M182 61 [.ref 8, .int (Int32.ofNat t), .int (Int32.ofNat (mdX σ P t)), .retAddr 0] [] σ3 = some (.inl none, σ') ∧ visK n W (tEd σ P t (flg n 111 σ)) σ Q σ' Q' ∧ wkK σ' K' ∧ K' = if mdX σ P t = 1 then K ++ [t] else K := fun σ3 K' hv3 hK' eK' => by
      have e : ∀ k j, k = 59 ∨ k = 66 ∨ k = 67 ∨ k = 68 ∨ k = 69 ∨ k = 70 → σ3.1 k j = σ.1 k j ∧ σ3.2 k j = σ.2 k j := fun k j z => hv3.2.1 k j (by unfold gKC; simp; omega)
      have ek : ∀ q, kyC σ3 q = kyC σ q := fun q => by unfold kyC enC; rw [(e 66 q (by omega)).1, (e 67 q (by omega)).2]
      have ew : ∀ q, vlC σ3 q = vlC σ q := fun q => by unfold vlC enC; rw [(e 68 q (by omega)).1, (e 69 q (by omega)).2]
      have e70 : lv σ3 70 = lv σ 70 := by funext j; unfold lv; rw [(e 70 j (by omega)).1]
      obtain ⟨σ4, Q4, s1, s2⟩ := c_rtab_loop n2 (W := W) md4 (Int32.ofNat t) (P t) (σ3.1 59 t) σ3 Q1 (by rw [e70, (e 59 t (by omega)).1]; exact (h.2.2.1.2.1.1.1 t ht).1) (fun q hq => by
        obtain ⟨a1, a2, a3⟩ := h.2.2.1.kv ht hq
        refine ⟨a1, fun z => ?_⟩
        rw [(e 68 q (by omega)).1] at z
        rw [ek, ew]
        exact ⟨a2, a3 z, hW2 q hq z⟩) (fun x hx => hv3.inw hf hx) hv3.1
      refine ⟨σ4, Q4, K', ?_, (hv3.tr (s2.fr (fun _ _ q => gRC_K q))).mo (fun x hx => ?_), hK'.cg s2.2.1, eK'⟩
      · rw [kc_182_61]; simp only [if_pos it, nt]
        exact s1
      · rcases hx with ⟨y1, y2⟩ | ⟨q, q1, q2, q3⟩
        · exact Or.inl (hM x y1 y2)
        · refine Or.inr ⟨q, q1, by rw [(e 68 q (by omega)).1]; exact q2, ?_⟩
          rw [ek, ew]
          exact q3.up (fun y hy => hv3.up hy)
    rw [kc_182_33, r1, bi_ok]
    obtain ⟨⟨_, _, a3⟩, _⟩ := and4 _ md4
    by_cases m1 : mdX σ P t = 1
    · have i2 : lj_in (Int32.ofNat K.length) 2001 := ofN_in (by omega) (by omega)
      rw [if_pos (a3.2 m1), hK2.1]
      simp only [if_pos i2, lz_onat (show K.length < 2147483648 by omega)]
      refine fin _ (K ++ [t]) ?_ ⟨?_, fun i hi => ?_⟩ (by rw [if_pos m1])
      · refine hv2.st (lf_put (lf_put (lf_rf _ _) _ _ _ rfl) _ _ _ rfl) (fun x => ?_) (fun x => ?_) ?_
        · rw [lj_put_1, if_neg (by omega), lj_put_1, if_neg (by omega)]
        · rw [lj_put_1, if_neg (by omega), lj_put_1, if_neg (by omega)]
        · rw [lj_put_1, if_neg (by omega), lj_put_1, if_neg (by omega)]
      · rw [lj_put_1, if_neg (by omega), lj_put_1, if_pos ⟨rfl, rfl⟩, lz_osucc, List.length_append]
        rfl
      · rw [List.length_append] at hi
        have hi : i < K.length + 1 := hi
        rw [lj_put_1]
        by_cases z : i = K.length
        · rw [if_pos ⟨rfl, z⟩, z, List.getD_eq_getElem?_getD, List.getElem?_append_right (Nat.le_refl _), Nat.sub_self]
          rfl
        · rw [if_neg (fun y => z y.2), lj_put_1, if_neg (by omega), hK2.2 i (by omega), List.getD_eq_getElem?_getD, List.getD_eq_getElem?_getD, List.getElem?_append_left (by omega)]
    · rw [if_neg (fun y => m1 (a3.1 y))]
      exact fin σ2 K hv2 hK2 (by rw [if_neg m1])
  rw [rc_182, kc_182_0]; simp only [if_pos it, nt]
  by_cases z : lv σ 58 t < 0
  · rw [if_pos (by rw [lz_lt]; exact z)]
    exact mid σ Q _ (vis.rf hm) (fun x _ y => by omega)
  · have z' : ¬ (σ.1 58 t < 0) := fun y => z (by rw [lz_lt] at y; exact y)
    -- a metatable: an object that is there
    have mt : ∃ m : Nat, 1 ≤ m ∧ m ≤ n ∧ σ.1 58 t = Int32.ofNat m := by
      rcases k4 with t0 | k4
      · exfalso
        rw [t0] at z
        unfold lv at z
        rw [h.2.2.2.1] at z
        exact z (by decide)
      · by_cases t0 : t = 0
        · exfalso
          rw [t0] at z
          unfold lv at z
          rw [h.2.2.2.1] at z
          exact z (by decide)
        · rcases (h.2.2.2.2 t (by omega) ht).2.1 k4 with ⟨m1, _⟩ | ⟨m, ma, m1, _⟩
          · exfalso
            unfold lv at z
            rw [m1] at z
            exact z (by decide)
          · exact ⟨m, ma.1, by have := ma.2.2.1; have := h.2.2.1.1.2.1; omega, m1⟩
    obtain ⟨m, m1, m2, m3⟩ := mt
    have om : ov (4, i64 m) = m := ov_ob (Or.inl rfl) (by omega)
    have lm : lv σ 58 t = (m : Int) := by unfold lv; rw [m3, lz_lit (by omega)]
    obtain ⟨σ1, Q1, r1, r2⟩ := c_reach n2 hm (a := (4, i64 m)) (fun _ => by rw [om]) (by rw [om]; exact m2) (W := W) (by rw [om]; exact fun y => hW1 m y lm)
    have r1 : lj_R lc_P 176 [.ref 8, .int 4, .long (Int32.ofNat m).toInt64] σ = some (.inl none, σ1) := r1
    rw [if_neg z']; (try simp only [if_pos it]); rw [m3, r1, bv_ok]
    exact mid σ1 Q1 _ r2 (fun x x0 y => ⟨by rw [om]; omega, x0⟩)
