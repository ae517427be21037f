/-! what the two parsers have in common: all of it -/
def openK (σ : lj_S) (f x : Nat) : Prop := ∃ k : Nat, (k : Int) < lv σ 5 18 ∧ lv σ 37 k = (f : Int) ∧ lv σ 40 k = 14000 ∧ lv σ 38 k = (x : Int)
/-- such a scope -/
def opA (σ : lj_S) (f x k : Nat) : Prop := (k : Int) < lv σ 5 18 ∧ lv σ 37 k = (f : Int) ∧ lv σ 40 k = 14000 ∧ lv σ 38 k = (x : Int)
/-- fors that are open: 3 a counted one, 4 + S a called one whose three scopes begin with S -/
def hOp (σ : lj_S) (q : Nat) (fl : List Nat) : Prop := (∀ d e, e < 3 → openK σ q (1000 + 3 * d + e) → ∃ S, fl[d]? = some (4 + S)) ∧ ∀ d S e, fl[d]? = some (4 + S) → e < 3 → opA σ q (1000 + 3 * d + e) (S + e)
theorem hOp_cg {σ σ' : lj_S} {q : Nat} {fl : List Nat} (ho : ∀ x k, 1000 ≤ x → (opA σ' q x k ↔ opA σ q x k)) (h : hOp σ q fl) : hOp σ' q fl :=
  ⟨fun d e he ⟨k, hk⟩ => h.1 d e he ⟨k, (ho _ k (by omega)).1 hk⟩, fun d S e g he => (ho _ _ (by omega)).2 (h.2 d S e g he)⟩
/-- their shapes -/
def fmn (fl : List Nat) : List Nat := fl.map (fun x => min x 4)
theorem fmn_len (fl : List Nat) : (fmn fl).length = fl.length := by unfold fmn; rw [List.length_map]
theorem fmn_app (fl g : List Nat) : fmn (fl ++ g) = fmn fl ++ fmn g := by unfold fmn; rw [List.map_append]
theorem hOp.iff {σ : lj_S} {q : Nat} {fl : List Nat} (h : hOp σ q fl) (d e : Nat) (he : e < 3) : openK σ q (1000 + 3 * d + e) ↔ (fmn fl)[d]? = some 4 := by
  unfold fmn
  rw [List.getElem?_map]
  constructor
  · intro g
    obtain ⟨S, hS⟩ := h.1 d e he g
    rw [hS]
    show some (min (4 + S) 4) = some 4
    rw [Nat.min_eq_right (by omega)]
  · intro g
    cases hd : fl[d]? with
    | none => rw [hd] at g; cases g
    | some x =>
      rw [hd] at g
      have g' : min x 4 = 4 := Option.some.inj g
      have hx : 4 ≤ x := by omega
      have e1 : fl[d]? = some (4 + (x - 4)) := by rw [hd]; congr 1; omega
      exact ⟨_, h.2 d (x - 4) e e1 he⟩
theorem opA_cg {σ σ' : lj_S} (h18 : σ'.1 5 18 = σ.1 5 18) (h37 : ∀ k, σ'.1 37 k = σ.1 37 k) (h38 : ∀ k, σ'.1 38 k = σ.1 38 k) (h40 : ∀ k, σ'.1 40 k = σ.1 40 k) (f x k : Nat) : opA σ' f x k ↔ opA σ f x k := by
  unfold opA lv
  rw [h18, h37, h38, h40]
theorem opA_K {σ σ' : lj_S} {f x : Nat} (h : ∀ k, opA σ' f x k ↔ opA σ f x k) : openK σ' f x ↔ openK σ f x :=
  ⟨fun ⟨k, g⟩ => ⟨k, (h k).1 g⟩, fun ⟨k, g⟩ => ⟨k, (h k).2 g⟩⟩
/-- scopes are open, or closed up to here -/
def opU (σ : lj_S) : Prop := ∀ k k' : Nat, (k : Int) < lv σ 5 18 → (k' : Int) < lv σ 5 18 → lv σ 40 k = 14000 → lv σ 40 k' = 14000 → lv σ 37 k = lv σ 37 k' → lv σ 38 k = lv σ 38 k' → k = k'
def SCr (σ : lj_S) (c : Nat) : Prop := (0 ≤ lv σ 5 18 ∧ opU σ) ∧ ∀ k : Nat, (k : Int) < lv σ 5 18 → (lv σ 39 k ≤ (c : Int) ∧ (lv σ 40 k = 14000 ∨ lv σ 40 k ≤ (c : Int)) ∧ 0 ≤ lv σ 38 k) ∧ 0 ≤ lv σ 37 k ∧ lv σ 37 k < lv σ 5 8
/-- scopes of the locals that are known -/
def ksc (σ : lj_S) (q : Nat) : List kT → Prop
  | [] => True
  | e :: r => (∃ k : Nat, σ.1 47 (50 * q + r.length) = Int32.ofNat k ∧ (k : Int) < lv σ 5 18 ∧ lv σ 37 k = (q : Int) ∧ lv σ 38 k = (e.2.2 : Int) ∧ lv σ 40 k = 14000) ∧ ksc σ q r
/-- scopes of a function, the latest first -/
def scL (σ : lj_S) (q : Nat) : List Nat := ((List.range (lv σ 5 18).toNat).filter (fun k => decide (lv σ 37 k = (q : Int)))).reverse
/-- of a function: parameters, hidden ones, scopes -/
def FX (σ : lj_S) (q : Nat) : Prop := lv σ 29 q ≤ lv σ 31 q ∧ 0 ≤ lv σ 29 q ∧ 0 ≤ lv σ 32 q ∧ lv σ 32 q ≤ 20 ∧ lk (lv σ 41) (lv σ 42 q) (scL σ q)
theorem FX_cg {σ σ' : lj_S} (h18 : σ'.1 5 18 = σ.1 5 18) (h29 : ∀ k, σ'.1 29 k = σ.1 29 k) (h31 : ∀ k, σ'.1 31 k = σ.1 31 k) (h32 : ∀ k, σ'.1 32 k = σ.1 32 k) (h37 : ∀ k, σ'.1 37 k = σ.1 37 k) (h41 : ∀ k, σ'.1 41 k = σ.1 41 k) (h42 : ∀ k, σ'.1 42 k = σ.1 42 k) {q : Nat} (h : FX σ q) : FX σ' q := by
  have e41 : lv σ' 41 = lv σ 41 := by funext k; unfold lv; rw [h41]
  have eL : scL σ' q = scL σ q := by unfold scL lv; simp only [h18, h37]
  unfold FX
  rw [e41, eL]
  unfold FX at h
  unfold lv at h ⊢
  rw [h29, h31, h32, h42]
  exact h
theorem ksc_cg {σ σ' : lj_S} (h18 : σ'.1 5 18 = σ.1 5 18) (h47 : ∀ k, σ'.1 47 k = σ.1 47 k) (h37 : ∀ k, σ'.1 37 k = σ.1 37 k) (h38 : ∀ k, σ'.1 38 k = σ.1 38 k) (h40 : ∀ k, σ'.1 40 k = σ.1 40 k) {q : Nat} : ∀ {r : List kT}, ksc σ q r → ksc σ' q r
  | [], _ => trivial
  | _ :: _, h => ⟨by
      obtain ⟨k, a1, a2, a3, a4, a5⟩ := h.1
      exact ⟨k, by rw [h47]; exact a1, by unfold lv at a2 ⊢; rw [h18]; exact a2, by unfold lv at a3 ⊢; rw [h37]; exact a3, by unfold lv at a4 ⊢; rw [h38]; exact a4, by unfold lv at a5 ⊢; rw [h40]; exact a5⟩, ksc_cg h18 h47 h37 h38 h40 h.2⟩
/-- of a function that is being read: how many locals it has, how many scopes are owed, its fors that are open -/
abbrev fT : Type := (Nat × Nat) × List Nat
/-- slots: the latest is the greatest -/
def slt (σ : lj_S) (q : Nat) (kn : List kT) (fl : fT) : Prop := σ.1 31 q = Int32.ofNat fl.1.1 ∧ fl.1.1 ≤ 50 ∧ (kn.map (·.2.2)).Pairwise (· > ·) ∧ ∀ y ∈ kn.map (·.2.2), y < fl.1.1
/-- locals that live, fors that are open -/
def lvS (σ : lj_S) : List lT → List fT → Prop
  | [], [] => True
  | z :: R, fl :: FO => (σ.1 49 z.1 = Int32.ofNat fl.2.length ∧ (fl.2.length : Int) ≤ lv σ 32 z.1 ∧ fl.2.length ≤ 20 ∧ (∀ x, x < 1000 → (openK σ z.1 x ↔ x ∈ z.2.1.map (·.2.2))) ∧ hOp σ z.1 fl.2 ∧ ksc σ z.1 z.2.1 ∧ slt σ z.1 z.2.1 fl) ∧ lvS σ R FO
  | _, _ => False
/-- functions of both -/
def FR (σ τ : lj_S) (F : Nat) : Prop := σ.1 5 8 = Int32.ofNat F ∧ τ.1 0 34 = Int32.ofNat F ∧ F ≤ 50 ∧ ∀ q, q < F → σ.1 31 q = τ.1 14 q ∧ 0 ≤ lv σ 31 q ∧ lv σ 31 q ≤ 50 ∧ σ.1 33 q = τ.1 15 q ∧ σ.1 30 q = τ.1 16 q ∧ (σ.1 30 q = 0 ∨ σ.1 30 q = 1) ∧ σ.1 36 q = τ.1 17 q ∧ FX σ q
/-- all but what stands at hand -/
def rst (b : Nat → Int32) (n T : Nat) (Q : tkQ) (X : List Int32 → Prop) (F : Nat) (N : List lT) (FO : List fT) (c : Nat) (σ τ : lj_S) : Prop :=
  TE b n T Q σ τ ∧ sR σ τ X ∧ NR σ τ N ∧ FR σ τ F ∧ (∀ z ∈ N, z.1 < F) ∧ lvS σ N FO ∧ SCr σ c
/-- what stands at hand: token, how deep, sizes of both codes, whole numbers, what waits -/
def hnd (p v c m wh : Nat) (W : List wT) (σ τ : lj_S) : Prop :=
  σ.1 6 0 = Int32.ofNat p ∧ τ.1 0 25 = Int32.ofNat p ∧ σ.1 6 1 = Int32.ofNat v ∧ τ.1 0 47 = Int32.ofNat v ∧ σ.1 5 0 = Int32.ofNat c ∧ τ.1 0 41 = Int32.ofNat m ∧ σ.1 5 6 = Int32.ofNat wh ∧ τ.1 0 40 = Int32.ofNat wh ∧ mWt τ W ∧ τ.1 0 4 = 0
/-- within bounds -/
def bnd (T p v c m wh w : Nat) : Prop := p ≤ T ∧ v ≤ 20 ∧ c ≤ 25 * p + 100 ∧ m ≤ 25 * p + 100 ∧ wh ≤ p ∧ w ≤ 40 * v + 60
/-- places that are at hand -/
def aC (k j : Nat) : Bool := k == 22 || k == 23 || k == 24 || k == 25 || k == 26 || k == 27 || (k == 6 && (j == 0 || j == 1 || j == 16 || j == 17)) || (k == 5 && (j == 0 || j == 6))
def aM (k j : Nat) : Bool := k == 20 || k == 21 || k == 22 || k == 23 || k == 24 || k == 25 || k == 26 || k == 27 || k == 28 || (k == 0 && (j == 25 || j == 47 || j == 41 || j == 40 || j == 46 || j == 61 || j == 62 || j == 63 || j == 64))
theorem sE_cg {σ τ σ' τ' : lj_S} {s s' : Nat} (h : sE σ τ s s') (f : lf aC σ σ') (g : lf aM τ τ') : sE σ' τ' s s' :=
  ⟨by rw [f.v (by rfl)]; exact h.1, by rw [g.v (by rfl)]; exact h.2.1, by rw [cS_cong (fun j => (f 9 j rfl).1) (fun j => (f 10 j rfl).1) (fun j => (f 11 j rfl).1), mS_cong (fun j => (g 2 j rfl).1) (fun j => (g 3 j rfl).1) (fun j => (g 4 j rfl).1)]; exact h.2.2⟩
theorem TE_up {b : Nat → Int32} {n T : Nat} {Q : tkQ} {σ τ σ' τ' : lj_S} (h : TE b n T Q σ τ) (f : lf aC σ σ') (g : lf aM τ τ') : TE b n T Q σ' τ' := by
  refine ⟨h.1, h.2.1, h.2.2.1, ⟨by rw [g.v (by rfl)]; exact h.2.2.2.1.1, fun i hi => by rw [(g 1 i rfl).1]; exact h.2.2.2.1.2 i hi⟩, fun t ht => ?_, h.2.2.2.2.2.1, h.2.2.2.2.2.2.1, slC_cg h.2.2.2.2.2.2.2.1 (f 0 8 rfl).1 (f 3 7 rfl).1 (fun j => (f 9 j rfl).1) (fun j => (f 10 j rfl).1) (fun j => (f 11 j rfl).1), slM_cg h.2.2.2.2.2.2.2.2 (g 0 14 rfl).1 (g 0 8 rfl).1 (fun j => (g 2 j rfl).1) (fun j => (g 3 j rfl).1) (fun j => (g 4 j rfl).1)⟩
  obtain ⟨t1, t2, t3, t4, t5, t6, t7, t8, t9, t10⟩ := h.2.2.2.2.1 t ht
  refine ⟨t1, by rw [(f 18 t rfl).1]; exact t2, by rw [(g 9 t rfl).1]; exact t3, fun q => by rw [(g 11 t rfl).2]; exact t4 q, t5, by rw [(f 19 t rfl).1]; exact t6, by rw [(g 10 t rfl).1]; exact t7, by rw [(f 20 t rfl).1]; exact t8, fun q => ?_, fun q => by rw [(f 21 t rfl).2, (g 11 t rfl).2]; exact t10 q⟩
  obtain ⟨u1, u2, u3, u4, u5⟩ := t9 q
  exact ⟨u1, u2, by rw [(f 21 t rfl).2]; exact u3, by rw [(g 11 t rfl).2]; exact u4, sE_cg u5 f g⟩
theorem NR_up {σ τ σ' τ' : lj_S} {N : List lT} (h : NR σ τ N) (f : lf aC σ σ') (g : lf aM τ τ') : NR σ' τ' N := by
  obtain ⟨n1, n2, n3, n4, n5, n6, n7, n8, n9, n10⟩ := h
  refine ⟨nmC_cg (fun j => (f _ j rfl).1) (fun j => (f _ j rfl).1) (fun j => (f _ j rfl).1) (fun j => (f _ j rfl).1) (fun j => (f _ j rfl).1) (fun j => (f _ j rfl).1) (fun j => (f _ j rfl).1) (fun j => (f _ j rfl).1) n1, nmM_cg (fun j => (g _ j rfl).1) (fun j => (g _ j rfl).1) (fun j => (g _ j rfl).1) (fun j => (g _ j rfl).1) (fun j => (g _ j rfl).1) (fun j => (g _ j rfl).1) (fun j => (g _ j rfl).1) n2, n3, n4, n5, n6, by rw [(f 6 2 rfl).1]; exact n7, by rw [(g 0 53 rfl).1]; exact n8, by rw [(g 0 50 rfl).1]; exact n9, fun z hz e he => ?_⟩
  have cs : ∀ t, cS σ' t = cS σ t := cS_cong (fun j => (f 9 j rfl).1) (fun j => (f 10 j rfl).1) (fun j => (f 11 j rfl).1)
  have ms : ∀ t, mS τ' t = mS τ t := mS_cong (fun j => (g 2 j rfl).1) (fun j => (g 3 j rfl).1) (fun j => (g 4 j rfl).1)
  rcases n10 z hz e he with ⟨q1, q2⟩ | ⟨q1, q2, q3⟩
  · exact Or.inl ⟨q1, sE_cg q2 f g⟩
  · exact Or.inr ⟨q1, by rw [g.v (by rfl)]; exact q2, fun s hs => by rw [f.v (by rfl)] at hs; rw [cs, ms]; exact q3 s hs⟩
theorem openK_cg {σ σ' : lj_S} (h18 : σ'.1 5 18 = σ.1 5 18) (h37 : ∀ k, σ'.1 37 k = σ.1 37 k) (h38 : ∀ k, σ'.1 38 k = σ.1 38 k) (h40 : ∀ k, σ'.1 40 k = σ.1 40 k) (f x : Nat) : openK σ' f x ↔ openK σ f x := by
  unfold openK lv
  simp only [h18, h37, h38, h40]
theorem opU_cg {σ σ' : lj_S} (h18 : σ'.1 5 18 = σ.1 5 18) (h37 : ∀ k, σ'.1 37 k = σ.1 37 k) (h38 : ∀ k, σ'.1 38 k = σ.1 38 k) (h40 : ∀ k, σ'.1 40 k = σ.1 40 k) (h : opU σ) : opU σ' := by
  unfold opU lv at h ⊢
  simp only [h18, h37, h38, h40]
  exact h
theorem lvS_cg {σ σ' : lj_S} (h49 : ∀ k, σ'.1 49 k = σ.1 49 k) (h32 : ∀ k, σ'.1 32 k = σ.1 32 k) (h31 : ∀ k, σ'.1 31 k = σ.1 31 k) (ho : ∀ f x k, opA σ' f x k ↔ opA σ f x k) (hk : ∀ q r, ksc σ q r → ksc σ' q r) : ∀ {N : List lT} {FO : List fT}, lvS σ N FO → lvS σ' N FO
  | [], [], _ => trivial
  | z :: R, fl :: FO, h => ⟨⟨by rw [h49]; exact h.1.1, by unfold lv; rw [h32]; exact h.1.2.1, h.1.2.2.1, fun x hx => (opA_K (fun k => ho _ _ k)).trans (h.1.2.2.2.1 x hx), hOp_cg (fun x k _ => ho _ _ k) h.1.2.2.2.2.1, hk _ _ h.1.2.2.2.2.2.1, by unfold slt; rw [h31]; exact h.1.2.2.2.2.2.2⟩, lvS_cg h49 h32 h31 ho hk h.2⟩
  | [], _ :: _, h => h.elim
  | _ :: _, [], h => h.elim
theorem rst.up {b : Nat → Int32} {n T : Nat} {Q : tkQ} {X : List Int32 → Prop} {F : Nat} {N : List lT} {FO : List fT} {c c' : Nat} {σ τ σ' τ' : lj_S} (h : rst b n T Q X F N FO c σ τ) (f : lf aC σ σ') (g : lf aM τ τ') (hc : c ≤ c') : rst b n T Q X F N FO c' σ' τ' := by
  obtain ⟨h1, h2, h3, h4, h5, h6, h7⟩ := h
  have hR := sR_dy h2 (f.mo (fun k j q => by simp [cDy] at q; simp [aC]; omega)) (g.mo (fun k j q => by simp [mDy] at q; simp [aM]; omega))
  refine ⟨TE_up h1 f g, hR.1, NR_up h3 f g, ⟨by rw [(f 5 8 rfl).1]; exact h4.1, by rw [(g 0 34 rfl).1]; exact h4.2.1, h4.2.2.1, fun q hq => ?_⟩, h5, lvS_cg (fun k => (f 49 k rfl).1) (fun k => (f 32 k rfl).1) (fun k => (f 31 k rfl).1) (opA_cg (f 5 18 rfl).1 (fun k => (f 37 k rfl).1) (fun k => (f 38 k rfl).1) (fun k => (f 40 k rfl).1)) (fun q r => ksc_cg (f 5 18 rfl).1 (fun k => (f 47 k rfl).1) (fun k => (f 37 k rfl).1) (fun k => (f 38 k rfl).1) (fun k => (f 40 k rfl).1)) h6, ⟨⟨by rw [f.v (by rfl)]; exact h7.1.1, opU_cg (f 5 18 rfl).1 (fun k => (f 37 k rfl).1) (fun k => (f 38 k rfl).1) (fun k => (f 40 k rfl).1) h7.1.2⟩, fun k hk => ?_⟩⟩
  · have := h4.2.2.2 q hq
    have fx : FX σ' q := FX_cg (f 5 18 rfl).1 (fun k => (f 29 k rfl).1) (fun k => (f 31 k rfl).1) (fun k => (f 32 k rfl).1) (fun k => (f 37 k rfl).1) (fun k => (f 41 k rfl).1) (fun k => (f 42 k rfl).1) this.2.2.2.2.2.2.2
    refine ⟨?_, ?_, ?_, ?_, ?_, ?_, ?_, fx⟩
    · rw [(f 31 q rfl).1, (g 14 q rfl).1]; exact this.1
    · rw [f.v rfl]; exact this.2.1
    · rw [f.v rfl]; exact this.2.2.1
    · rw [(f 33 q rfl).1, (g 15 q rfl).1]; exact this.2.2.2.1
    · rw [(f 30 q rfl).1, (g 16 q rfl).1]; exact this.2.2.2.2.1
    · rw [(f 30 q rfl).1]; exact this.2.2.2.2.2.1
    · rw [(f 36 q rfl).1, (g 17 q rfl).1]; exact this.2.2.2.2.2.2.1
  · rw [f.v (by rfl)] at hk
    have := h7.2 k hk
    have e1 : lv σ' 39 k = lv σ 39 k := f.v rfl
    have e2 : lv σ' 40 k = lv σ 40 k := f.v rfl
    have e3 : lv σ' 37 k = lv σ 37 k := f.v rfl
    have e5 : lv σ' 38 k = lv σ 38 k := f.v rfl
    have e4 : lv σ' 5 8 = lv σ 5 8 := f.v rfl
    omega
/-- places that parsers may change -/
def gC (k _j : Nat) : Bool := k == 5 || k == 6 || (decide (22 ≤ k) && decide (k ≤ 56))
def gM (k j : Nat) : Bool := (decide (12 ≤ k) && decide (k ≤ 37)) || (k == 0 && decide (25 ≤ j)) || (decide (2 ≤ k) && decide (k ≤ 8)) || (k == 0 && (j == 8 || j == 14 || j == 20))
/-- a later state of both, as far as acts that were laid are concerned -/
def TX (N : List lT) (σ τ σ' τ' : lj_S) : Prop :=
  sG σ τ σ' τ' ∧ lv σ 5 0 ≤ lv σ' 5 0 ∧ lv σ 5 6 ≤ lv σ' 5 6 ∧ lv σ 5 8 ≤ lv σ' 5 8 ∧ lv σ 5 18 ≤ lv σ' 5 18 ∧
  (∀ i : Nat, (i : Int) < lv σ 5 6 → σ'.2 27 i = σ.2 27 i ∧ τ'.2 24 i = τ.2 24 i) ∧
  (∀ q : Nat, (q : Int) < lv σ 5 8 → σ'.1 28 q = σ.1 28 q ∧ σ'.1 29 q = σ.1 29 q ∧ (τ'.1 12 q = τ.1 12 q ∧ τ'.1 13 q = τ.1 13 q) ∧ (lv σ 32 q ≤ lv σ' 32 q ∧ lv σ 31 q ≤ lv σ' 31 q) ∧ lv σ 33 q ≤ lv σ' 33 q) ∧
  (∀ q : Nat, (q : Int) < lv σ 5 8 → q ∉ N.map (·.1) → σ'.1 33 q = σ.1 33 q ∧ τ'.1 15 q = τ.1 15 q ∧ ∀ i, i < 30 → σ'.1 34 (30 * q + i) = σ.1 34 (30 * q + i) ∧ σ'.1 35 (30 * q + i) = σ.1 35 (30 * q + i) ∧ τ'.1 18 (30 * q + i) = τ.1 18 (30 * q + i) ∧ τ'.1 19 (30 * q + i) = τ.1 19 (30 * q + i)) ∧
  (∀ k : Nat, (k : Int) < lv σ 5 18 → σ'.1 37 k = σ.1 37 k ∧ σ'.1 38 k = σ.1 38 k ∧ σ'.1 39 k = σ.1 39 k ∧ (σ'.1 40 k = σ.1 40 k ∨ (lv σ 40 k = 14000 ∧ lv σ 5 0 ≤ lv σ' 40 k))) ∧
  (∀ k : Nat, lv σ 5 18 ≤ (k : Int) → (k : Int) < lv σ' 5 18 → lv σ 5 0 ≤ lv σ' 39 k) ∧ lf gC σ σ' ∧ lf gM τ τ'
theorem TX_rf (N : List lT) (σ τ : lj_S) : TX N σ τ σ τ :=
  ⟨sG_rf _ _, Int.le_refl _, Int.le_refl _, Int.le_refl _, Int.le_refl _, fun _ _ => ⟨rfl, rfl⟩, fun _ _ => ⟨rfl, rfl, ⟨rfl, rfl⟩, ⟨Int.le_refl _, Int.le_refl _⟩, Int.le_refl _⟩, fun _ _ _ => ⟨rfl, rfl, fun _ _ => ⟨rfl, rfl, rfl, rfl⟩⟩, fun _ _ => ⟨rfl, rfl, rfl, Or.inl rfl⟩, fun k a b => by omega, lf_rf _ _, lf_rf _ _⟩
theorem TX.tr {N N' : List lT} {σ τ σ1 τ1 σ2 τ2 : lj_S} (h : TX N σ τ σ1 τ1) (g : TX N' σ1 τ1 σ2 τ2) (hN : ∀ q : Nat, (q : Int) < lv σ 5 8 → q ∉ N.map (·.1) → q ∉ N'.map (·.1)) : TX N σ τ σ2 τ2 := by
  obtain ⟨a1, a2, a3, a4, a5, a6, a7, a8, a9, a10, a11, a12⟩ := h
  obtain ⟨b1, b2, b3, b4, b5, b6, b7, b8, b9, b10, b11, b12⟩ := g
  refine ⟨a1.tr b1, by omega, by omega, by omega, by omega, fun i hi => ?_, fun q hq => ?_, fun q hq hn => ?_, fun k hk => ?_, fun k h1 h2 => ?_, a11.tr b11, a12.tr b12⟩
  · have x := a6 i hi
    have y := b6 i (by omega)
    exact ⟨y.1.trans x.1, y.2.trans x.2⟩
  · have x := a7 q hq
    have y := b7 q (by omega)
    exact ⟨y.1.trans x.1, y.2.1.trans x.2.1, ⟨y.2.2.1.1.trans x.2.2.1.1, y.2.2.1.2.trans x.2.2.1.2⟩, ⟨Int.le_trans x.2.2.2.1.1 y.2.2.2.1.1, Int.le_trans x.2.2.2.1.2 y.2.2.2.1.2⟩, Int.le_trans x.2.2.2.2 y.2.2.2.2⟩
  · have x := a8 q hq hn
    have y := b8 q (by omega) (hN q hq hn)
    refine ⟨y.1.trans x.1, y.2.1.trans x.2.1, fun i hi => ?_⟩
    have x' := x.2.2 i hi
    have y' := y.2.2 i hi
    exact ⟨y'.1.trans x'.1, y'.2.1.trans x'.2.1, y'.2.2.1.trans x'.2.2.1, y'.2.2.2.trans x'.2.2.2⟩
  · have x := a9 k hk
    have y := b9 k (by omega)
    refine ⟨y.1.trans x.1, y.2.1.trans x.2.1, y.2.2.1.trans x.2.2.1, ?_⟩
    rcases x.2.2.2 with p | ⟨p, q⟩
    · rcases y.2.2.2 with r | ⟨r, s⟩
      · exact Or.inl (r.trans p)
      · refine Or.inr ⟨?_, by omega⟩
        unfold lv at r ⊢; rw [← p]; exact r
    · rcases y.2.2.2 with r | ⟨r, s⟩
      · refine Or.inr ⟨p, ?_⟩
        unfold lv at q ⊢; rw [r]; exact q
      · exact Or.inr ⟨p, by omega⟩
  · by_cases q : (k : Int) < lv σ1 5 18
    · have x := a10 k h1 q
      have y := b9 k q
      unfold lv at x ⊢; rw [y.2.2.1]; exact x
    · have y := b10 k (by omega) h2
      omega
/-- what was at hand is in order for a later state -/
theorem TX_up (N : List lT) {σ τ σ' τ' : lj_S} (f : lf aC σ σ') (g : lf aM τ τ') (h0 : lv σ 5 0 ≤ lv σ' 5 0) (h6 : lv σ 5 6 ≤ lv σ' 5 6) (hw : ∀ i : Nat, (i : Int) < lv σ 5 6 → σ'.2 27 i = σ.2 27 i ∧ τ'.2 24 i = τ.2 24 i) : TX N σ τ σ' τ' := by
  have l8 : lv σ' 5 8 = lv σ 5 8 := f.v rfl
  have l18 : lv σ' 5 18 = lv σ 5 18 := f.v rfl
  have kS : ∀ t, cS σ' t = cS σ t := cS_cong (fun j => (f 9 j rfl).1) (fun j => (f 10 j rfl).1) (fun j => (f 11 j rfl).1)
  have kM : ∀ t, mS τ' t = mS τ t := mS_cong (fun j => (g 2 j rfl).1) (fun j => (g 3 j rfl).1) (fun j => (g 4 j rfl).1)
  have l7 : lv σ' 3 7 = lv σ 3 7 := f.v rfl
  have l14 : lv τ' 0 14 = lv τ 0 14 := g.v rfl
  refine ⟨⟨by omega, by omega, fun t _ => kS t, fun t _ => kM t⟩, h0, h6, by omega, by omega, hw, fun q _ => ⟨(f 28 q rfl).1, (f 29 q rfl).1, ⟨(g 12 q rfl).1, (g 13 q rfl).1⟩, ?_, ?_⟩, fun q _ _ => ⟨(f 33 q rfl).1, (g 15 q rfl).1, fun i _ => ⟨(f 34 _ rfl).1, (f 35 _ rfl).1, (g 18 _ rfl).1, (g 19 _ rfl).1⟩⟩, fun k _ => ⟨(f 37 k rfl).1, (f 38 k rfl).1, (f 39 k rfl).1, Or.inl (f 40 k rfl).1⟩, fun k a b => by omega, f.mo (fun k j q => by simp [gC] at q; simp [aC]; omega), g.mo (fun k j q => by simp [gM] at q; simp [aM]; omega)⟩
  · exact ⟨by rw [f.v (k := 32) (j := q) rfl]; omega, by rw [f.v (k := 31) (j := q) rfl]; omega⟩
  · rw [f.v (k := 33) (j := q) rfl]; omega
/-- locals that are open when an act is laid are known there for good -/
theorem scK_open {N : List lT} {σ σ1 τ1 σ' τ' : lj_S} {c : Nat} (h : SCr σ c) (f : lf aC σ σ1) (h1 : lv σ1 5 0 = ((c + 1 : Nat) : Int)) (g : TX N σ1 τ1 σ' τ') (hc : c < 14000) (q x : Nat) : scK σ' q c x ↔ openK σ q x := by
  obtain ⟨_, _, _, _, a5, _, _, _, a9, a10, _⟩ := g
  have l18 : lv σ1 5 18 = lv σ 5 18 := f.v rfl
  constructor
  · rintro ⟨k, k1, k2, k3, k4, k5⟩
    by_cases z : (k : Int) < lv σ 5 18
    · have y := a9 k (by omega)
      have s := h.2 k z
      have e37 : lv σ' 37 k = lv σ 37 k := by unfold lv; rw [y.1, (f 37 k rfl).1]
      have e38 : lv σ' 38 k = lv σ 38 k := by unfold lv; rw [y.2.1, (f 38 k rfl).1]
      have e40 : lv σ1 40 k = lv σ 40 k := f.v rfl
      refine ⟨k, z, by omega, ?_, by omega⟩
      rcases y.2.2.2 with r | ⟨r, _⟩
      · have : lv σ' 40 k = lv σ1 40 k := by unfold lv; rw [r]
        omega
      · omega
    · have := a10 k (by omega) k1
      omega
  · rintro ⟨k, k1, k2, k3, k4⟩
    have y := a9 k (by omega)
    have s := h.2 k k1
    have e37 : lv σ' 37 k = lv σ 37 k := by unfold lv; rw [y.1, (f 37 k rfl).1]
    have e38 : lv σ' 38 k = lv σ 38 k := by unfold lv; rw [y.2.1, (f 38 k rfl).1]
    have e39 : lv σ' 39 k = lv σ 39 k := by unfold lv; rw [y.2.2.1, (f 39 k rfl).1]
    have e40 : lv σ1 40 k = lv σ 40 k := f.v rfl
    refine ⟨k, by omega, by omega, by omega, ?_, by omega⟩
    rcases y.2.2.2 with r | ⟨r, r2⟩
    · have : lv σ' 40 k = lv σ1 40 k := by unfold lv; rw [r]
      omega
    · omega
theorem scl_mk {N : List lT} {z : lT} {R : List lT} {fl : fT} {FO : List fT} {σ σ1 τ1 σ' τ' : lj_S} {c : Nat} (h : SCr σ c) (hl : lvS σ (z :: R) (fl :: FO)) (f : lf aC σ σ1) (h1 : lv σ1 5 0 = ((c + 1 : Nat) : Int)) (g : TX N σ1 τ1 σ' τ') (hc : c < 14000) {s : List Nat} (hs : flo s = fmn fl.2) : scl σ' z.1 c s (z.2.1.map (·.2.2)) 50 := by
  refine ⟨rfl, fun x hx => (scK_open h f h1 g hc _ _).trans (hl.1.2.2.2.1 x hx), fun d e he => (scK_open h f h1 g hc _ _).trans ?_⟩
  rw [hs]; exact hl.1.2.2.2.2.1.iff d e he
