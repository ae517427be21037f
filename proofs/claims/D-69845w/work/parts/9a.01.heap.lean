/-! tables of both machines -/
/-- pairs of both: keys, and values or none -/
def pR (R : vT → vT → Prop) (e e' : enT) : Prop := R e.1 e'.1 ∧ e.1.1 ≠ 0 ∧ (e.2 = (0, 0) ∧ e'.2.1 = 0 ∨ e.2.1 ≠ 0 ∧ R e.2 e'.2)
def eR (R : vT → vT → Prop) (f g : Nat → enT) : List Nat → List Nat → Prop
  | [], [] => True
  | p :: l, q :: l' => pR R (f p) (g q) ∧ eR R f g l l'
  | [], _ :: _ => False
  | _ :: _, [] => False
theorem eR_l {R : vT → vT → Prop} {f g : Nat → enT} {p : Nat} : ∀ {l l' : List Nat}, eR R f g l l' → p ∈ l → ∃ q ∈ l', pR R (f p) (g q)
  | [], _, _, hp => by cases hp
  | _ :: _, [], h, _ => h.elim
  | x :: l, y :: l', h, hp => by
    rcases List.mem_cons.1 hp with e | e
    · rw [e]; exact ⟨y, List.mem_cons_self, h.1⟩
    · obtain ⟨q, hq, w⟩ := eR_l h.2 e
      exact ⟨q, List.mem_cons_of_mem _ hq, w⟩
theorem eR_r {R : vT → vT → Prop} {f g : Nat → enT} {q : Nat} : ∀ {l l' : List Nat}, eR R f g l l' → q ∈ l' → ∃ p ∈ l, pR R (f p) (g q)
  | _, [], _, hp => by cases hp
  | [], _ :: _, h, _ => h.elim
  | x :: l, y :: l', h, hp => by
    rcases List.mem_cons.1 hp with e | e
    · rw [e]; exact ⟨x, List.mem_cons_self, h.1⟩
    · obtain ⟨q, hq, w⟩ := eR_r h.2 e
      exact ⟨q, List.mem_cons_of_mem _ hq, w⟩
theorem eR_len {R : vT → vT → Prop} {f g : Nat → enT} : ∀ {l l' : List Nat}, eR R f g l l' → l.length = l'.length
  | [], [], _ => rfl
  | [], _ :: _, h => h.elim
  | _ :: _, [], h => h.elim
  | _ :: l, _ :: l', h => by rw [List.length_cons, List.length_cons, eR_len h.2]
theorem eR_snoc {R : vT → vT → Prop} {f g : Nat → enT} {p q : Nat} (hp : pR R (f p) (g q)) : ∀ {l l' : List Nat}, eR R f g l l' → eR R f g (l ++ [p]) (l' ++ [q])
  | [], [], _ => ⟨hp, trivial⟩
  | [], _ :: _, h => h.elim
  | _ :: _, [], h => h.elim
  | _ :: l, _ :: l', h => ⟨h.1, eR_snoc hp h.2⟩
theorem eR_up {R R' : vT → vT → Prop} {f g f' g' : Nat → enT} : ∀ {l l' : List Nat}, eR R f g l l' → (∀ p ∈ l, ∀ q ∈ l', pR R (f p) (g q) → pR R' (f' p) (g' q)) → eR R' f' g' l l'
  | [], [], _, _ => trivial
  | [], _ :: _, h, _ => h.elim
  | _ :: _, [], h, _ => h.elim
  | x :: l, y :: l', h, w => ⟨w x List.mem_cons_self y List.mem_cons_self h.1, eR_up h.2 (fun p hp q hq => w p (List.mem_cons_of_mem _ hp) q (List.mem_cons_of_mem _ hq))⟩
theorem pR.mo {R R' : vT → vT → Prop} {e e' : enT} (h : pR R e e') (w : ∀ a b, R a b → R' a b) : pR R' e e' := ⟨w _ _ h.1, h.2.1, h.2.2.imp id (fun q => ⟨q.1, w _ _ q.2⟩)⟩
/-- tables of the model; the component's table 0 -/
def VM (n t : Nat) : Prop := t = 2001 ∨ (1 ≤ t ∧ t ≤ n)
def tm (t : Nat) : Nat := if t = 0 then 2001 else t
theorem tm_V {n t : Nat} (h : t ≤ n) : VM n (tm t) := by
  unfold VM tm
  by_cases e : t = 0
  · rw [if_pos e]; exact Or.inl rfl
  · rw [if_neg e]; exact Or.inr ⟨by omega, h⟩
theorem tm_in {n t u : Nat} (hn : n ≤ 2000) (h : t ≤ n) (g : u ≤ n) (e : tm t = tm u) : t = u := by
  unfold tm at e
  by_cases a : t = 0
  · by_cases b : u = 0
    · omega
    · rw [if_pos a, if_neg b] at e; omega
  · by_cases b : u = 0
    · rw [if_neg a, if_pos b] at e; omega
    · rw [if_neg a, if_neg b] at e; exact e
theorem VM_le {n : Nat} (hn : n ≤ 2000) : ∀ t, VM n t → t ≤ 2001 := fun t h => by rcases h with h | h <;> omega
/-- both heaps: n objects were made -/
def hpR (σ τ : lj_S) (n : Nat) : Prop := n ≤ 2000 ∧ lv σ 7 0 = (n : Int) ∧ lv τ 0 77 = (n : Int) ∧ ∃ (P B : Nat → List Nat) (Fr : List Nat) (P' B' : Nat → List Nat) (Fr' : List Nat), hsC σ (· ≤ n) P B Fr ∧ hsM τ (VM n) P' B' Fr' ∧ (Fr.length = Fr'.length ∧ (∀ i ∈ P 0, σ.1 66 i = 3) ∧ ∀ t, t ≤ n → σ.1 57 t ≠ 4 → P t = []) ∧ ∀ t, t ≤ n → eR (vR σ τ) (enC σ) (enM τ) (P t) (P' (tm t))
def hqC (k j : Nat) : Bool := vqC k j || (k == 7 && (j == 11 || j == 12)) || k == 59 || k == 60 || k == 61 || k == 66 || k == 67 || k == 68 || k == 69 || k == 70 || k == 71 || k == 72 || k == 73
def hqM (k j : Nat) : Bool := vqM k j || (k == 0 && (j == 77 || j == 88 || j == 89)) || k == 40 || k == 41 || k == 45 || k == 46 || k == 47 || k == 48 || k == 49 || k == 50 || k == 51 || k == 52 || k == 53
theorem hpR.cg {σ τ σ' τ' : lj_S} {n : Nat} (h : hpR σ τ n) (hC : ∀ k j, hqC k j = true → σ'.1 k j = σ.1 k j ∧ σ'.2 k j = σ.2 k j) (hM : ∀ k j, hqM k j = true → τ'.1 k j = τ.1 k j ∧ τ'.2 k j = τ.2 k j) : hpR σ' τ' n := by
  obtain ⟨h1, h2, h3, P, B, Fr, P', B', Fr', hc, hm, hl, he⟩ := h
  have lC : ∀ k j, hqC k j = true → lv σ' k j = lv σ k j := fun k j q => by unfold lv; rw [(hC k j q).1]
  have lM : ∀ k j, hqM k j = true → lv τ' k j = lv τ k j := fun k j q => by unfold lv; rw [(hM k j q).1]
  refine ⟨h1, by rw [lC 7 0 rfl]; exact h2, by rw [lM 0 77 rfl]; exact h3, P, B, Fr, P', B', Fr', ⟨hpC_cg hc.1 (fun k j q => (hC k j (by rcases q with q | q | q | q | q | q | q <;> rw [q] <;> rfl)).1) (fun j => (hC 67 j rfl).2), ⟨?_, by rw [lC 7 11 rfl]; exact hc.2.1.2.1, hc.2.1.2.2⟩, fun t ht => by rw [lC 61 t rfl]; exact hc.2.2 t ht⟩, ⟨hpM_cg hm.1 (fun k j q => (hM k j (by rcases q with q | q | q | q | q | q | q <;> rw [q] <;> rfl)).1) (fun j => (hM 46 j rfl).2), fsM_cg (fun j => (hM 53 j rfl).1) hm.2.1, by rw [lM 0 88 rfl]; exact hm.2.2.1, by rw [lM 0 89 rfl]; exact hm.2.2.2.1, hm.2.2.2.2⟩, ⟨hl.1, fun i hi => by rw [(hC 66 i rfl).1]; exact hl.2.1 i hi, fun t ht z => hl.2.2 t ht (by rw [← (hC 57 t rfl).1]; exact z)⟩, fun t ht => ?_⟩
  · have : lv σ' 70 = lv σ 70 := by funext j; exact lC 70 j rfl
    rw [this, lC 7 12 rfl]
    exact hc.2.1.1
  · have e1 : enC σ' = enC σ := by funext p; unfold enC; rw [(hC 66 p rfl).1, (hC 67 p rfl).2, (hC 68 p rfl).1, (hC 69 p rfl).2]
    have e2 : enM τ' = enM τ := by funext p; unfold enM; rw [(hM 45 p rfl).1, (hM 46 p rfl).2, (hM 47 p rfl).1, (hM 48 p rfl).2]
    rw [e1, e2]
    exact eR_up (he t ht) (fun p _ q _ w => w.mo (fun a b r => r.cg (fun k j q => (hC k j (by unfold hqC; rw [q]; rfl)).1) (fun k j q => (hM k j (by unfold hqM; rw [q]; rfl)).1)))
/-- what was found -/
def fdC (σ : lj_S) (u : vT) : lj_S := lj_putL (lj_put σ 7 27 u.1) 7 28 u.2
def fdM (τ : lj_S) (w : vT) : lj_S := lj_putL (lj_put τ 0 90 w.1) 0 91 w.2
theorem fdC_1 (σ : lj_S) (u : vT) (k j : Nat) : (fdC σ u).1 k j = if k = 7 ∧ j = 27 then u.1 else σ.1 k j := by unfold fdC; rw [lj_putL_1, lj_put_1]
theorem fdC_2 (σ : lj_S) (u : vT) (k j : Nat) : (fdC σ u).2 k j = if k = 7 ∧ j = 28 then u.2 else σ.2 k j := by unfold fdC; rw [lj_putL_2]; rfl
theorem fdM_1 (τ : lj_S) (u : vT) (k j : Nat) : (fdM τ u).1 k j = if k = 0 ∧ j = 90 then u.1 else τ.1 k j := by unfold fdM; rw [lj_putL_1, lj_put_1]
theorem fdM_2 (τ : lj_S) (u : vT) (k j : Nat) : (fdM τ u).2 k j = if k = 0 ∧ j = 91 then u.2 else τ.2 k j := by unfold fdM; rw [lj_putL_2]; rfl
theorem st_ext {σ σ' : lj_S} (h1 : ∀ k j, σ.1 k j = σ'.1 k j) (h2 : ∀ k j, σ.2 k j = σ'.2 k j) : σ = σ' := Prod.ext (funext fun k => funext fun j => h1 k j) (funext fun k => funext fun j => h2 k j)
theorem fdC_fdC (σ : lj_S) (u w : vT) : fdC (fdC σ u) w = fdC σ w := st_ext (fun k j => by rw [fdC_1, fdC_1, fdC_1]; split <;> rfl) (fun k j => by rw [fdC_2, fdC_2, fdC_2]; split <;> rfl)
theorem fdM_fdM (σ : lj_S) (u w : vT) : fdM (fdM σ u) w = fdM σ w := st_ext (fun k j => by rw [fdM_1, fdM_1, fdM_1]; split <;> rfl) (fun k j => by rw [fdM_2, fdM_2, fdM_2]; split <;> rfl)
theorem hpR.g {σ τ : lj_S} {n : Nat} (h : hpR σ τ n) (u w : vT) : hpR (fdC σ u) (fdM τ w) n := h.cg
  (fun k j q => ⟨by rw [fdC_1, if_neg (by rintro ⟨rfl, rfl⟩; exact absurd q (by decide))], by rw [fdC_2, if_neg (by rintro ⟨rfl, rfl⟩; exact absurd q (by decide))]⟩)
  (fun k j q => ⟨by rw [fdM_1, if_neg (by rintro ⟨rfl, rfl⟩; exact absurd q (by decide))], by rw [fdM_2, if_neg (by rintro ⟨rfl, rfl⟩; exact absurd q (by decide))]⟩)
theorem vR.g {σ τ : lj_S} {a b : vT} (h : vR σ τ a b) (u w : vT) : vR (fdC σ u) (fdM τ w) a b := h.cg
  (fun k j q => by rw [fdC_1, if_neg (by rintro ⟨rfl, rfl⟩; exact absurd q (by decide))])
  (fun k j q => by rw [fdM_1, if_neg (by rintro ⟨rfl, rfl⟩; exact absurd q (by decide))])
/-- a key of both lies at places that stand for each other -/
theorem hp_key {σ τ : lj_S} {X : List Int32 → Prop} (hs : sR σ τ X) {n : Nat} {P B P' B' : Nat → List Nat} {Fr Fr' : List Nat} (hc : hsC σ (· ≤ n) P B Fr) (hm : hsM τ (VM n) P' B' Fr') {t : Nat} (ht : t ≤ n) (he : eR (vR σ τ) (enC σ) (enM τ) (P t) (P' (tm t))) {a b : vT} (hab : vR σ τ a b) :
    (∀ p ∈ P t, (enC σ p).1 = a → ∃ q ∈ P' (tm t), (enM τ q).1 = b ∧ pR (vR σ τ) (enC σ p) (enM τ q) ∧ (∀ q' ∈ P' (tm t), (enM τ q').1 = b → q' = q) ∧ (∀ p' ∈ P t, (enC σ p').1 = a → p' = p) ∧ ∀ p1 ∈ P t, ∀ q1 ∈ P' (tm t), vR σ τ (enC σ p1).1 (enM τ q1).1 → (p1 = p ↔ q1 = q)) ∧
    ((∀ p ∈ P t, (enC σ p).1 ≠ a) ↔ ∀ q ∈ P' (tm t), (enM τ q).1 ≠ b) := by
  have uM : ∀ q ∈ P' (tm t), ∀ q' ∈ P' (tm t), (enM τ q).1 = (enM τ q').1 → q = q' := fun q hq q' hq' e => (hm.1.2.2 (tm t) (tm_V ht) q hq).2.2.2 q' hq' (congrArg Prod.fst e) (congrArg Prod.snd e)
  have uC : ∀ q ∈ P t, ∀ q' ∈ P t, (enC σ q).1 = (enC σ q').1 → q = q' := fun q hq q' hq' e => (hc.1.2.2 t ht q hq).2.2.2 q' hq' (congrArg Prod.fst e) (congrArg Prod.snd e)
  refine ⟨fun p hp e => ?_, fun w q hq e => ?_, fun w p hp e => ?_⟩
  · obtain ⟨q, hq, w⟩ := eR_l he hp
    have eq : (enM τ q).1 = b := vR_fn hs w.1 (by rw [e]; exact hab)
    refine ⟨q, hq, eq, w, fun q' hq' e' => uM q' hq' q hq (by rw [e', eq]), fun p' hp' e' => uC p' hp' p hp (by rw [e', e]), fun p1 hp1 q1 hq1 r => ⟨fun u => ?_, fun u => ?_⟩⟩
    · rw [u] at r
      exact uM q1 hq1 q hq (vR_fn hs r w.1)
    · rw [u] at r
      exact uC p1 hp1 p hp (vR_in hs r w.1)
  · obtain ⟨p, hp, r⟩ := eR_r he hq
    exact w p hp (vR_in hs r.1 (by rw [e]; exact hab))
  · obtain ⟨q, hq, r⟩ := eR_l he hp
    exact w q hq (vR_fn hs r.1 (by rw [e]; exact hab))
theorem cm_get {σ τ : lj_S} {X : List Int32 → Prop} (hs : sR σ τ X) {n : Nat} (h : hpR σ τ n) {t : Nat} (ht : t ≤ n) {a b : vT} (hab : vR σ τ a b) :
    ∃ u w : vT, vR σ τ u w ∧ lj_R lc_P 117 [.ref 7, .int (Int32.ofNat t), .int a.1, .long a.2] σ = some (.inl (some (.int (if u.1 = 0 then 0 else 1))), fdC σ u) ∧ lj_R lm_P 123 [.ref 0, .int (Int32.ofNat (tm t)), .int b.1, .long b.2] τ = some (.inl none, fdM τ w) := by
  obtain ⟨h1, h2, h3, P, B, Fr, P', B', Fr', hc, hm, hl, he⟩ := h
  obtain ⟨k1, k2⟩ := hp_key hs hc hm ht (he t ht) hab
  rcases c_hget hc.1 (fun t ht => by have ht : t ≤ n := ht; omega) ht a.1 a.2 with ⟨p, hp, e1, run⟩ | ⟨no, run⟩
  · obtain ⟨q, hq, eq, w, u1, _, _⟩ := k1 p hp e1
    rcases m_hget hm.1 (VM_le h1) (tm_V ht) b.1 b.2 with ⟨q', hq', e2, run'⟩ | ⟨no', _⟩
    · have := u1 q' hq' e2
      subst this
      rcases w.2.2 with ⟨v1, v2⟩ | ⟨v1, v2⟩
      · refine ⟨(0, 0), (0, 0), vR_nil _ _, ?_, ?_⟩
        · have e3 : σ.1 68 p = 0 := congrArg Prod.fst v1
          have e4 : σ.2 69 p = 0 := congrArg Prod.snd v1
          rw [run, e3, e4]; rfl
        · have e3 : τ.1 47 q' = 0 := v2
          rw [run', e3]; rfl
      · have n0 : ¬ (τ.1 47 q' = 0) := fun z => v1 (v2.k0.2 z)
        refine ⟨(σ.1 68 p, σ.2 69 p), (τ.1 47 q', τ.2 48 q'), v2, run, ?_⟩
        rw [run', if_neg n0]; rfl
    · exact absurd eq (no' q hq)
  · have no2 := k2.1 no
    rcases m_hget hm.1 (VM_le h1) (tm_V ht) b.1 b.2 with ⟨q', hq', e2, run'⟩ | ⟨no', run'⟩
    · exact absurd e2 (no2 q' hq')
    · exact ⟨(0, 0), (0, 0), vR_nil _ _, run, run'⟩
/-- places that a pair changes -/
def hwC (k j : Nat) : Bool := (k == 7 && (j == 11 || j == 12)) || k == 59 || k == 60 || k == 61 || k == 66 || k == 67 || k == 68 || k == 69 || k == 70 || k == 71 || k == 72 || k == 73
def hwM (k j : Nat) : Bool := (k == 0 && (j == 88 || j == 89)) || k == 40 || k == 41 || k == 45 || k == 46 || k == 47 || k == 48 || k == 49 || k == 50 || k == 51 || k == 52
theorem hwC_f {k j : Nat} (h : hwC k j = false) : ¬ (k = 7 ∧ (j = 11 ∨ j = 12)) ∧ ¬ (59 ≤ k ∧ k ≤ 61) ∧ ¬ (66 ≤ k ∧ k ≤ 73) := by
  simp [hwC] at h
  omega
theorem hwM_f {k j : Nat} (h : hwM k j = false) : ¬ (k = 0 ∧ (j = 88 ∨ j = 89)) ∧ ¬ (40 ≤ k ∧ k ≤ 41) ∧ ¬ (45 ≤ k ∧ k ≤ 52) := by
  simp [hwM] at h
  omega
theorem cm_set {σ τ : lj_S} {X : List Int32 → Prop} (hs : sR σ τ X) {n : Nat} (h : hpR σ τ n) {t : Nat} (ht : t ≤ n) {a b : vT} (hab : vR σ τ a b) (ha : a.1 ≠ 0) {u w : vT} (huw : vR σ τ u w) (hk0 : t = 0 → a.1 = 3) (hk4 : σ.1 57 t = 4) :
    (lj_R lc_P 113 [.ref 7, .int (Int32.ofNat t), .int a.1, .long a.2, .int u.1, .long u.2] σ = some (.inr 2, lj_put σ 2 6 1) ∧ lj_R lm_P 108 [.ref 0, .int (Int32.ofNat (tm t)), .int b.1, .long b.2, .int w.1, .long w.2] τ = some (.inl (some (.int 0)), lj_put τ 0 143 4)) ∨
    ∃ σ' τ', lj_R lc_P 113 [.ref 7, .int (Int32.ofNat t), .int a.1, .long a.2, .int u.1, .long u.2] σ = some (.inl none, σ') ∧ lj_R lm_P 108 [.ref 0, .int (Int32.ofNat (tm t)), .int b.1, .long b.2, .int w.1, .long w.2] τ = some (.inl (some (.int 1)), τ') ∧ hpR σ' τ' n ∧ lf hwC σ σ' ∧ lf hwM τ τ' := by
  have h00 := h
  obtain ⟨h1, h2, h3, P, B, Fr, P', B', Fr', hc, hm, hl, he⟩ := h
  obtain ⟨k1, k2⟩ := hp_key hs hc hm ht (he t ht) hab
  have hV : ∀ t, (fun x => x ≤ n) t → t ≤ 2000 := fun t ht => by have ht : t ≤ n := ht; omega
  -- other values stay
  have hfr : ∀ {σ' τ' : lj_S}, lf hwC σ σ' → lf hwM τ τ' → ∀ a b, vR σ τ a b → vR σ' τ' a b := fun f g a b r => r.cg (fun k j q => (f k j (by
      unfold vqC at q
      simp at q
      unfold hwC
      simp
      omega)).1) (fun k j q => (g k j (by
      unfold vqM at q
      simp at q
      unfold hwM
      simp
      omega)).1)
  have l70 : ∀ {σ' : lj_S}, lf hwC σ σ' → lv σ' 7 0 = lv σ 7 0 := fun f => f.v rfl
  have l77 : ∀ {τ' : lj_S}, lf hwM τ τ' → lv τ' 0 77 = lv τ 0 77 := fun f => f.v rfl
  rcases c_hset hc hV ht a.1 a.2 u.1 u.2 with ⟨p, hp, e1, σ', run, hc', en1, en2, f1, f2⟩ | ⟨no, z, run⟩ | ⟨no, z, z0, run⟩ | ⟨no, z, p, Fr1, B1, σ', z0, run, hc', en1, en2, f1, f2⟩
  · obtain ⟨q, hq, eq, r, v1, v2, v3⟩ := k1 p hp e1
    rcases m_hset hm (VM_le h1) (tm_V ht) b.1 b.2 w.1 w.2 with ⟨q', hq', e2, τ', run', hm', em1, em2, g1, g2⟩ | ⟨no', _⟩ | ⟨no', _⟩ | ⟨no', _⟩
    · have := v1 q' hq' e2
      subst this
      have fC : lf hwC σ σ' := fun k j q => ⟨f1 k j (by have := hwC_f q; omega), f2 k j (by have := hwC_f q; omega)⟩
      have fM : lf hwM τ τ' := fun k j q => ⟨g1 k j (by have := hwM_f q; omega), g2 k j (by have := hwM_f q; omega)⟩
      refine Or.inr ⟨σ', τ', run, run', ⟨h1, by rw [l70 fC]; exact h2, by rw [l77 fM]; exact h3, P, B, Fr, P', B', Fr', hc', hm', ⟨hl.1, fun i hi => by
        by_cases z : i = p
        · have y : (enC σ' p).1.1 = a.1 := by rw [en1]
          have t0 : t = 0 := by
            have a1 := (hc.1.2.2 0 (Nat.zero_le _) i hi).2.1
            have a2 := (hc.1.2.2 t ht p hp).2.1
            rw [z, a2] at a1
            exact (ofN_eq (c := 0) (by have := hV t ht; omega) (by omega)).1 a1
          rw [z]
          exact Eq.trans y (hk0 t0)
        · have y : (enC σ' i).1.1 = (enC σ i).1.1 := by rw [en2 i z]
          exact Eq.trans y (hl.2.1 i hi), fun t' ht' z => hl.2.2 t' ht' (by rw [← (fC 57 t' rfl).1]; exact z)⟩, fun t' ht' => ?_⟩, fC, fM⟩
      have val : pR (vR σ' τ') (enC σ' p) (enM τ' q') := by
        rw [en1, em1]
        refine ⟨hfr fC fM _ _ hab, ha, ?_⟩
        by_cases u0 : u.1 = 0
        · refine Or.inl ⟨?_, (huw.k0).1 u0⟩
          show (u.1, (if u.1 = 0 then (0 : Int64) else u.2)) = (0, 0)
          rw [if_pos u0, u0]
        · refine Or.inr ⟨u0, ?_⟩
          show vR σ' τ' (u.1, (if u.1 = 0 then (0 : Int64) else u.2)) (w.1, w.2)
          rw [if_neg u0]
          exact hfr fC fM _ _ huw
      by_cases e : t' = t
      · subst e
        refine eR_up (he t' ht') (fun p1 hp1 q1 hq1 r1 => ?_)
        by_cases ep : p1 = p
        · have eq1 := (v3 p1 hp1 q1 hq1 r1.1).1 ep
          rw [ep, eq1]
          exact val
        · have eq1 : q1 ≠ q' := fun z => ep ((v3 p1 hp1 q1 hq1 r1.1).2 z)
          rw [en2 p1 ep, em2 q1 eq1]
          exact r1.mo (hfr fC fM)
      · refine eR_up (he t' ht') (fun p1 hp1 q1 hq1 r1 => ?_)
        have ep : p1 ≠ p := fun z => by
          have a1 := (hc.1.2.2 t' ht' p1 hp1).2.1
          have a2 := (hc.1.2.2 t ht p hp).2.1
          rw [z, a2] at a1
          exact e ((ofN_eq (by have := hV t ht; omega) (by have := hV t' ht'; omega)).1 a1).symm
        have eq1 : q1 ≠ q' := fun z => by
          have a1 := (hm.1.2.2 (tm t') (tm_V ht') q1 hq1).2.1
          have a2 := (hm.1.2.2 (tm t) (tm_V ht) q' hq).2.1
          rw [z, a2] at a1
          have a3 := VM_le h1 _ (tm_V ht)
          have a4 := VM_le h1 _ (tm_V ht')
          exact e (tm_in h1 ht' ht ((ofN_eq (by omega) (by omega)).1 a1).symm)
        rw [en2 p1 ep, em2 q1 eq1]
        exact r1.mo (hfr fC fM)
    · exact absurd eq (no' q hq)
    · exact absurd eq (no' q hq)
    · exact absurd eq (no' q hq)
  · rcases m_hset hm (VM_le h1) (tm_V ht) b.1 b.2 w.1 w.2 with ⟨q', hq', e2, _⟩ | ⟨no', _, run'⟩ | ⟨_, z', _⟩ | ⟨_, z', _⟩
    · exact absurd e2 (k2.1 no q' hq')
    · exact Or.inr ⟨σ, τ, run, run', h00, lf_rf _ _, lf_rf _ _⟩
    · exact absurd (huw.k0.1 z) z'
    · exact absurd (huw.k0.1 z) z'
  · rcases m_hset hm (VM_le h1) (tm_V ht) b.1 b.2 w.1 w.2 with ⟨q', hq', e2, _⟩ | ⟨_, z', _⟩ | ⟨_, _, _, run'⟩ | ⟨_, _, q, Fr2, _, _, z', _⟩
    · exact absurd e2 (k2.1 no q' hq')
    · exact absurd (huw.k0.2 z') z
    · exact Or.inl ⟨run, run'⟩
    · have hl := hl.1
      rw [z0, z'] at hl
      exact absurd hl (by simp)
  · rcases m_hset hm (VM_le h1) (tm_V ht) b.1 b.2 w.1 w.2 with ⟨q', hq', e2, _⟩ | ⟨_, z', _⟩ | ⟨_, _, z', _⟩ | ⟨_, _, q, Fr2, B2, τ', z0', run', hm', em1, em2, g1, g2⟩
    · exact absurd e2 (k2.1 no q' hq')
    · exact absurd (huw.k0.2 z') z
    · have hl := hl.1
      rw [z0, z'] at hl
      exact absurd hl (by simp)
    · have fC : lf hwC σ σ' := fun k j q => ⟨f1 k j (by have := hwC_f q; omega) (by have := hwC_f q; omega) (by have := hwC_f q; omega), f2 k j (by have := hwC_f q; omega)⟩
      have fM : lf hwM τ τ' := fun k j q => ⟨g1 k j (by have := hwM_f q; omega) (by have := hwM_f q; omega) (by have := hwM_f q; omega), g2 k j (by have := hwM_f q; omega)⟩
      have pf := hc.2.1.2.2 p (by rw [z0]; exact List.mem_cons_self)
      have qf := hm.2.2.2.2.2 q (by rw [z0']; exact List.mem_cons_self)
      have old : ∀ t', t' ≤ n → eR (vR σ' τ') (enC σ') (enM τ') (P t') (P' (tm t')) := fun t' ht' => eR_up (he t' ht') (fun p1 hp1 q1 hq1 r1 => by
        rw [en2 p1 (fun z => pf.2 t' ht' (by rw [← z]; exact hp1)), em2 q1 (fun z => qf.2 (tm t') (tm_V ht') (by rw [← z]; exact hq1))]
        exact r1.mo (hfr fC fM))
      refine Or.inr ⟨σ', τ', run, run', ⟨h1, by rw [l70 fC]; exact h2, by rw [l77 fM]; exact h3, _, B1, Fr1, _, B2, Fr2, hc', hm', ⟨by have hl := hl.1; rw [z0, z0'] at hl; simpa using hl, fun i hi => ?_, fun t' ht' z => ?_⟩, fun t' ht' => ?_⟩, fC, fM⟩
      · have hi : i ∈ (if 0 = t then P t ++ [p] else P 0) := hi
        by_cases z : i = p
        · have y : (enC σ' p).1.1 = a.1 := by rw [en1]
          rw [z]
          refine Eq.trans y (hk0 ?_)
          by_cases w0 : 0 = t
          · exact w0.symm
          · rw [if_neg w0, z] at hi
            exact absurd hi (pf.2 0 (Nat.zero_le _))
        · have y : (enC σ' i).1.1 = (enC σ i).1.1 := by rw [en2 i z]
          refine Eq.trans y (hl.2.1 i ?_)
          by_cases w0 : 0 = t
          · rw [if_pos w0] at hi
            rcases List.mem_append.1 hi with q1 | q1
            · rw [← w0] at q1; exact q1
            · exact absurd (by simpa using q1) z
          · rw [if_neg w0] at hi; exact hi
      · have z : σ.1 57 t' ≠ 4 := by rw [← (fC 57 t' rfl).1]; exact z
        show (if t' = t then P t ++ [p] else P t') = []
        rw [if_neg (fun y => z (by rw [y]; exact hk4))]
        exact hl.2.2 t' ht' z
      show eR _ _ _ (if t' = t then P t ++ [p] else P t') (if tm t' = tm t then P' (tm t) ++ [q] else P' (tm t'))
      by_cases e : t' = t
      · rw [if_pos e, if_pos (by rw [e])]
        refine eR_snoc ?_ (old t ht)
        rw [en1, em1]
        exact ⟨hfr fC fM _ _ hab, ha, Or.inr ⟨z, hfr fC fM _ _ huw⟩⟩
      · rw [if_neg e, if_neg (fun z => e (tm_in h1 ht' ht z))]
        exact old t' ht'
