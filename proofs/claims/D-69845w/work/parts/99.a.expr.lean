/-! expressions: what is promised -/
/-- a loop that is being read: function, level, locals known before it, its breaks in both -/
abbrev zT : Type := Nat × Nat × Nat × List Nat × List Nat
/-- a place before an =: what, sort, number in both, line -/
abbrev qT : Type := Int32 × Int32 × Nat × Nat × Int32
def bkL (σ : lj_S) (base L : Nat) : List Nat → Prop
  | [] => True
  | j :: r => σ.1 52 (base + r.length) = Int32.ofNat j ∧ σ.1 53 (base + r.length) = Int32.ofNat L ∧ bkL σ base L r
def chM (τ : lj_S) : Int32 → List Nat → Prop
  | h, [] => h = -1
  | h, j :: r => h = Int32.ofNat j ∧ j < 14000 ∧ chM τ (τ.1 21 j) r
def bks : List zT → Nat
  | [] => 0
  | x :: Y => x.2.2.2.1.length + bks Y
def loA (σ τ : lj_S) : List zT → Prop
  | [] => True
  | x :: Y => (σ.1 50 Y.length = Int32.ofNat x.1 ∧ τ.1 34 Y.length = Int32.ofNat x.2.1 ∧ σ.1 51 Y.length = Int32.ofNat x.2.2.1 ∧ bkL σ (bks Y) (Y.length + 1) x.2.2.2.1 ∧ chM τ (τ.1 33 Y.length) x.2.2.2.2) ∧ loA σ τ Y
def plA (σ τ : lj_S) : List qT → Prop
  | [] => True
  | x :: Y => (σ.1 54 Y.length = x.1 ∧ τ.1 35 Y.length = x.2.1 ∧ σ.1 55 Y.length = Int32.ofNat x.2.2.1 ∧ τ.1 36 Y.length = Int32.ofNat x.2.2.2.1 ∧ σ.1 56 Y.length = x.2.2.2.2 ∧ τ.1 37 Y.length = x.2.2.2.2) ∧ plA σ τ Y
/-- loops and places of both -/
def LPr (σ τ : lj_S) (Z : List zT) (PL : List qT) (c m : Nat) : Prop :=
  σ.1 6 10 = Int32.ofNat Z.length ∧ τ.1 0 56 = Int32.ofNat Z.length ∧ Z.length ≤ 20 ∧ σ.1 6 13 = Int32.ofNat (bks Z) ∧ bks Z ≤ 1400 ∧ σ.1 6 18 = Int32.ofNat PL.length ∧ τ.1 0 60 = Int32.ofNat PL.length ∧ PL.length ≤ 400 ∧ loA σ τ Z ∧ plA σ τ PL ∧ ∀ x ∈ Z, (∀ j ∈ x.2.2.2.1, j < c) ∧ ∀ j ∈ x.2.2.2.2, j < m
theorem bkL_cg {σ σ' : lj_S} (h52 : ∀ j, σ'.1 52 j = σ.1 52 j) (h53 : ∀ j, σ'.1 53 j = σ.1 53 j) (base L : Nat) : ∀ (r : List Nat), bkL σ base L r → bkL σ' base L r
  | [], _ => trivial
  | j :: r, h => ⟨by rw [h52]; exact h.1, by rw [h53]; exact h.2.1, bkL_cg h52 h53 base L r h.2.2⟩
theorem chM_cg {τ τ' : lj_S} {m : Nat} (h21 : ∀ j, j < m → τ'.1 21 j = τ.1 21 j) : ∀ (r : List Nat) (h : Int32), (∀ j ∈ r, j < m) → chM τ h r → chM τ' h r
  | [], _, _, g => g
  | j :: r, h, hr, g => ⟨g.1, g.2.1, by rw [h21 j (hr j (List.mem_cons_self))]; exact chM_cg h21 r _ (fun i hi => hr i (List.mem_cons_of_mem _ hi)) g.2.2⟩
theorem loA_cg {σ τ σ' τ' : lj_S} {m : Nat} (h50 : ∀ j, σ'.1 50 j = σ.1 50 j) (h51 : ∀ j, σ'.1 51 j = σ.1 51 j) (h52 : ∀ j, σ'.1 52 j = σ.1 52 j) (h53 : ∀ j, σ'.1 53 j = σ.1 53 j) (h33 : ∀ j, τ'.1 33 j = τ.1 33 j) (h34 : ∀ j, τ'.1 34 j = τ.1 34 j) (h21 : ∀ j, j < m → τ'.1 21 j = τ.1 21 j) : ∀ (Z : List zT), (∀ x ∈ Z, ∀ j ∈ x.2.2.2.2, j < m) → loA σ τ Z → loA σ' τ' Z
  | [], _, _ => trivial
  | x :: Y, hm, h => ⟨⟨by rw [h50]; exact h.1.1, by rw [h34]; exact h.1.2.1, by rw [h51]; exact h.1.2.2.1, bkL_cg h52 h53 _ _ _ h.1.2.2.2.1, by rw [h33]; exact chM_cg h21 _ _ (hm x (List.mem_cons_self)) h.1.2.2.2.2⟩, loA_cg h50 h51 h52 h53 h33 h34 h21 Y (fun y hy => hm y (List.mem_cons_of_mem _ hy)) h.2⟩
theorem plA_cg {σ τ σ' τ' : lj_S} (h54 : ∀ j, σ'.1 54 j = σ.1 54 j) (h55 : ∀ j, σ'.1 55 j = σ.1 55 j) (h56 : ∀ j, σ'.1 56 j = σ.1 56 j) (h35 : ∀ j, τ'.1 35 j = τ.1 35 j) (h36 : ∀ j, τ'.1 36 j = τ.1 36 j) (h37 : ∀ j, τ'.1 37 j = τ.1 37 j) : ∀ (P : List qT), plA σ τ P → plA σ' τ' P
  | [], _ => trivial
  | x :: Y, h => ⟨by rw [h54, h55, h56, h35, h36, h37]; exact h.1, plA_cg h54 h55 h56 h35 h36 h37 Y h.2⟩
theorem LPr.up {σ τ σ' τ' : lj_S} {Z : List zT} {PL : List qT} {c m c' m' : Nat} (h : LPr σ τ Z PL c m) (f : lf aC σ σ') (g : lf aM τ τ') (hc : c ≤ c') (hm : m ≤ m') (h21 : ∀ j, j < m → τ'.1 21 j = τ.1 21 j) : LPr σ' τ' Z PL c' m' := by
  obtain ⟨h1, h2, h3, h4, h5, h6, h7, h8, h9, h10, h11⟩ := h
  refine ⟨by rw [(f 6 10 rfl).1]; exact h1, by rw [(g 0 56 rfl).1]; exact h2, h3, by rw [(f 6 13 rfl).1]; exact h4, h5, by rw [(f 6 18 rfl).1]; exact h6, by rw [(g 0 60 rfl).1]; exact h7, h8, loA_cg (fun j => (f 50 j rfl).1) (fun j => (f 51 j rfl).1) (fun j => (f 52 j rfl).1) (fun j => (f 53 j rfl).1) (fun j => (g 33 j rfl).1) (fun j => (g 34 j rfl).1) h21 Z (fun x hx => (h11 x hx).2) h9, plA_cg (fun j => (f 54 j rfl).1) (fun j => (f 55 j rfl).1) (fun j => (f 56 j rfl).1) (fun j => (g 35 j rfl).1) (fun j => (g 36 j rfl).1) (fun j => (g 37 j rfl).1) PL h10, fun x hx => ⟨fun j hj => ?_, fun j hj => ?_⟩⟩
  · have := (h11 x hx).1 j hj; omega
  · have := (h11 x hx).2 j hj; omega
/-- bounds by how deep it is -/
def vbd (nl : Nat) (FO : List fT) (Z : List zT) (PL : List qT) (v : Nat) : Prop := Z.length ≤ v ∧ PL.length ≤ 20 * v ∧ nl ≤ v + 1 ∧ (∀ fl ∈ FO, fl.2.length ≤ v) ∧ ∀ x ∈ Z, x.2.1 < nl
theorem vbd.mo {nl : Nat} {FO : List fT} {Z : List zT} {PL : List qT} {v v' : Nat} (h : vbd nl FO Z PL v) (hv : v ≤ v') : vbd nl FO Z PL v' :=
  ⟨Nat.le_trans h.1 hv, by have := h.2.1; omega, by have := h.2.2.1; omega, fun fl hf => Nat.le_trans (h.2.2.2.1 fl hf) hv, h.2.2.2.2⟩
/-- scopes that are owed -/
def rsv : List fT → Nat
  | [] => 0
  | fl :: FO => fl.1.2 + rsv FO
/-- also by the token at hand: scopes, breaks -/
def ib (σ : lj_S) (nl : Nat) (FO : List fT) (Z : List zT) (PL : List qT) (p v : Nat) : Prop := (lv σ 5 18 + (rsv FO : Int) ≤ 2 * (p : Int) + 2 ∧ bks Z ≤ p ∧ ∀ x ∈ Z, (x.1 : Int) < lv σ 5 8) ∧ vbd nl FO Z PL v
/-- the state of both parsers -/
def PS (b : Nat → Int32) (n T : Nat) (Q : tkQ) (X : List Int32 → Prop) (F : Nat) (N : List lT) (FO : List fT) (Z : List zT) (PL : List qT) (cl ml : Nat) (p v c m wh : Nat) (W : List wT) (σ τ : lj_S) : Prop :=
  rst b n T Q X F N FO c σ τ ∧ hnd p v c m wh W σ τ ∧ bnd T p v c m wh W.length ∧ LPr σ τ Z PL cl ml ∧ (cl ≤ c ∧ ib σ N.length FO Z PL p v) ∧ ml ≤ m
theorem PS.upv {b : Nat → Int32} {n T : Nat} {Q : tkQ} {X : List Int32 → Prop} {F : Nat} {N : List lT} {FO : List fT} {Z : List zT} {PL : List qT} {cl ml : Nat} {p v c m wh p' v' c' m' wh' : Nat} {W W' : List wT} {σ τ σ' τ' : lj_S} (h : PS b n T Q X F N FO Z PL cl ml p v c m wh W σ τ) (f : lf aC σ σ') (g : lf aM τ τ') (hh : hnd p' v' c' m' wh' W' σ' τ') (hb : bnd T p' v' c' m' wh' W'.length) (hc : c ≤ c') (hm : m ≤ m') (h21 : ∀ j, j < ml → τ'.1 21 j = τ.1 21 j) (hpp : p ≤ p') (hvb : vbd N.length FO Z PL v') : PS b n T Q X F N FO Z PL cl ml p' v' c' m' wh' W' σ' τ' :=
  ⟨h.1.up f g hc, hh, hb, h.2.2.2.1.up f g (Nat.le_refl _) (Nat.le_refl _) h21, ⟨Nat.le_trans h.2.2.2.2.1.1 hc, ⟨by have e : lv σ' 5 18 = lv σ 5 18 := f.v rfl; have := h.2.2.2.2.1.2.1.1; omega, Nat.le_trans h.2.2.2.2.1.2.1.2.1 hpp, fun x hx => by have e : lv σ' 5 8 = lv σ 5 8 := f.v rfl; rw [e]; exact h.2.2.2.2.1.2.1.2.2 x hx⟩, hvb⟩, Nat.le_trans h.2.2.2.2.2 hm⟩
theorem PS.up {b : Nat → Int32} {n T : Nat} {Q : tkQ} {X : List Int32 → Prop} {F : Nat} {N : List lT} {FO : List fT} {Z : List zT} {PL : List qT} {cl ml : Nat} {p v c m wh p' v' c' m' wh' : Nat} {W W' : List wT} {σ τ σ' τ' : lj_S} (h : PS b n T Q X F N FO Z PL cl ml p v c m wh W σ τ) (f : lf aC σ σ') (g : lf aM τ τ') (hh : hnd p' v' c' m' wh' W' σ' τ') (hb : bnd T p' v' c' m' wh' W'.length) (hc : c ≤ c') (hm : m ≤ m') (h21 : ∀ j, j < ml → τ'.1 21 j = τ.1 21 j) (hpp : p ≤ p' := by omega) (hvv : v ≤ v' := by omega) : PS b n T Q X F N FO Z PL cl ml p' v' c' m' wh' W' σ' τ' :=
  h.upv f g hh hb hc hm h21 hpp (h.2.2.2.2.1.2.2.mo hvv)
/-- how both have grown -/
def GR (N N' : List lT) (F F' p p' c c' m m' : Nat) (σ τ σ' τ' : lj_S) : Prop := TX N σ τ σ' τ' ∧ lvX N N' ∧ F ≤ F' ∧ p ≤ p' ∧ c ≤ c' ∧ m ≤ m' ∧ fz 0 c 0 m σ τ σ' τ'
theorem GR_rf (N : List lT) (F p c m : Nat) (σ τ : lj_S) : GR N N F F p p c c m m σ τ σ τ := ⟨TX_rf _ _ _, lvX_rf _, Nat.le_refl _, Nat.le_refl _, Nat.le_refl _, Nat.le_refl _, fz_rf _ _ _ _ _ _⟩
theorem GR.tr {N N1 N2 : List lT} {F F1 F2 p p1 p2 c c1 c2 m m1 m2 : Nat} {σ τ σ1 τ1 σ2 τ2 : lj_S} (h : GR N N1 F F1 p p1 c c1 m m1 σ τ σ1 τ1) (g : GR N1 N2 F1 F2 p1 p2 c1 c2 m1 m2 σ1 τ1 σ2 τ2) : GR N N2 F F2 p p2 c c2 m m2 σ τ σ2 τ2 := by
  obtain ⟨a1, a2, a3, a4, a5, a6, a7⟩ := h
  obtain ⟨b1, b2, b3, b4, b5, b6, b7⟩ := g
  refine ⟨a1.tr b1 (fun q _ hq => by rw [lvX_q a2]; exact hq), a2.tr b2, by omega, by omega, by omega, by omega, a7.tr (b7.mo (by omega) (by omega) (by omega) (by omega))⟩
theorem vbd.X {N N' : List lT} {FO : List fT} {Z : List zT} {PL : List qT} {v : Nat} (h : vbd N.length FO Z PL v) (g : lvX N N') : vbd N'.length FO Z PL v := by
  rw [(lvX_map g).2.1]; exact h
/-- what an expression has laid: a value, a call that is open, the rest that is open -/
def exS (f : Nat) (s l : List Nat) (N' : List lT) (c m c' m' : Nat) (what : Int32) (σ' τ' : lj_S) : Prop :=
  (what = 0 ∧ ∀ σ2 τ2, TX N' σ' τ' σ2 τ2 → fz c c' m m' σ' τ' σ2 τ2 → seg σ2 τ2 (f, c, m, s, l, 50) (fun y => y = (f, c', m', 0 :: s, l, 50))) ∨
  (what = 1 ∧ ∃ c1 m1 r, c' = c1 + 1 ∧ m' = m1 + 1 ∧ c ≤ c1 ∧ m ≤ m1 ∧ τ'.1 0 64 = Int32.ofNat m1 ∧ σ'.1 22 c1 = 16 ∧ τ'.1 20 m1 = 16 ∧ τ'.1 21 m1 = 1 ∧ σ'.1 26 c1 = τ'.1 23 m1 ∧ rowS r ∧ ∀ σ2 τ2, TX N' σ' τ' σ2 τ2 → fz c c1 m m1 σ' τ' σ2 τ2 → seg σ2 τ2 (f, c, m, s, l, 50) (fun y => y = (f, c1, m1, r ++ 1 :: 0 :: s, l, 50)) ∧ scl σ2 f c1 s l 50) ∨
  (what = 2 ∧ ∃ c1 m1, c' = c1 + 1 ∧ m' = m1 + 1 ∧ c ≤ c1 ∧ m ≤ m1 ∧ τ'.1 0 64 = Int32.ofNat m1 ∧ σ'.1 22 c1 = 21 ∧ τ'.1 20 m1 = 30 ∧ τ'.1 21 m1 = 1 ∧ ∀ σ2 τ2, TX N' σ' τ' σ2 τ2 → fz c c1 m m1 σ' τ' σ2 τ2 → seg σ2 τ2 (f, c, m, s, l, 50) (fun y => y = (f, c1, m1, s, l, 50)))
theorem cP_TX (N : List lT) (σ τ : lj_S) (c : Nat) (h : σ.1 5 0 = Int32.ofNat c) (hc : c < 14000) (o a b d l : Int32) : TX N σ τ (cP σ c o a b d l) τ := by
  refine TX_up N (cP_lf _ _ _ _ _ _ _) (lf_rf _ _) ?_ ?_ (fun i hi => ⟨rfl, rfl⟩)
  · unfold lv; rw [(cP_get _ _ _ _ _ _ _).2.2.2.2.2, h, lz_lit (by omega), lz_lit (by omega)]; omega
  · unfold lv; rw [cP_o _ _ _ _ _ _ _ _ _ (by omega) (by omega)]; exact Int.le_refl _
theorem mP_TX (N : List lT) (σ τ : lj_S) (m : Nat) (o a b l : Int32) : TX N σ τ σ (mP τ m o a b l) :=
  TX_up N (lf_rf _ _) (mP_lf _ _ _ _ _ _) (Int.le_refl _) (Int.le_refl _) (fun i hi => ⟨rfl, rfl⟩)
/-- the value comes uppermost -/
theorem ex_get {b : Nat → Int32} {n T : Nat} {Q : tkQ} {X : List Int32 → Prop} {F : Nat} {N : List lT} {FO : List fT} {Z : List zT} {PL : List qT} {cl ml : Nat} {p v c m wh : Nat} {W : List wT} {σ τ : lj_S} (h : PS b n T Q X F N FO Z PL cl ml p v c m wh W σ τ) {f : Nat} {s l : List Nat} {c0 m0 : Nat} {what : Int32} (hE : exS f s l N c0 m0 c m what σ τ) (hc : c + 1 ≤ 25 * p + 100) (hn : T ≤ 520) (h0 : c0 ≤ c) (h0m : m0 ≤ m) (hB : sB s := by assumption) :
    ∃ σ' c', lj_R lc_P 78 [.ref 6, .int what] σ = some (.inl none, σ') ∧ PS b n T Q X F N FO Z PL cl ml p v c' m wh W σ' τ ∧ exS f s l N c0 m0 c' m 0 σ' τ ∧ c ≤ c' ∧ c' ≤ c + 1 ∧ TX N σ τ σ' τ ∧ fz 0 c 0 m σ τ σ' τ ∧ lf aC σ σ' := by
  have hb := h.2.2.1
  have h5 := h.2.1.2.2.2.2.1
  have hc14 : c < 14000 := by have := hb.1; omega
  rcases hE with ⟨rfl, hE⟩ | ⟨rfl, c1, m1, r, e1, e2, e3, e4, e5, e6, e7, e8, e9, e10, e11⟩ | ⟨rfl, c1, m1, e1, e2, e3, e4, e5, e6, e7, e8, e9⟩
  · exact ⟨σ, c, c_get0 σ, h, Or.inl ⟨rfl, hE⟩, Nat.le_refl _, by omega, TX_rf _ _ _, fz_rf _ _ _ _ _ _, lf_rf _ _⟩
  · have fl := cP_lf σ c 17 0 0 0 0
    have tx := cP_TX N σ τ c h5 hc14 17 0 0 0 0
    have g := cP_get σ c 17 0 0 0 0
    refine ⟨cP σ c 17 0 0 0 0, c + 1, c_get1 h5 hc14 1 (Or.inl rfl), h.up fl (lf_rf _ _) (hnd_C h.2.1 _ _ _ _ _) ⟨hb.1, hb.2.1, hc, hb.2.2.2.1, hb.2.2.2.2⟩ (by omega) (Nat.le_refl _) (fun _ _ => rfl), Or.inl ⟨rfl, fun σ2 τ2 t2 z2 => ?_⟩, by omega, by omega, tx, cP_fz _ _ _ _ _ _ _ _ _, fl⟩
    subst e1 e2
    have zz : fz c0 c1 m0 m1 σ τ σ2 τ2 := (cP_fz σ τ (c1 + 1) (m1 + 1) 17 0 0 0 0).mo (by omega) (by omega) (by omega) (by omega) |>.tr (z2.mo (by omega) (by omega) (by omega) (by omega))
    obtain ⟨w1, w2⟩ := e11 σ2 τ2 (tx.tr t2 (fun _ _ q => q)) zz
    refine w1.tr (fun y hy => ?_)
    rw [hy]
    have C := fun k (hk1 : 22 ≤ k) (hk2 : k ≤ 26) => z2.1 k c1 hk1 hk2 (by omega) (by omega)
    have C' := fun k (hk1 : 22 ≤ k) (hk2 : k ≤ 26) => z2.1 k (c1 + 1) hk1 hk2 (by omega) (by omega)
    have M := fun k (hk1 : 20 ≤ k) (hk2 : k ≤ 23) => z2.2 k m1 hk1 hk2 (by omega) (by omega)
    have O := fun k (_ : 22 ≤ k ∧ k ≤ 26) => cP_o σ (c1 + 1) 17 0 0 0 0 k c1 (by omega) (by omega)
    refine seg_in [(f, c1 + 2, m1 + 1, 0 :: s, l, 50)] ⟨18, r, s, e10, rfl, ?_, ?_, ?_, w2, ?_, ?_, rfl⟩ (fun y hy => ?_)
    · show σ2.1 22 c1 = 16; rw [C 22 (by omega) (by omega), O 22 (by omega)]; exact e6
    · show τ2.1 20 m1 = 16; rw [M 20 (by omega) (by omega)]; exact e7
    · show σ2.1 26 c1 = τ2.1 23 m1; rw [C 26 (by omega) (by omega), O 26 (by omega), M 23 (by omega) (by omega)]; exact e9
    · show σ2.1 22 (c1 + 1) = 17; rw [C' 22 (by omega) (by omega)]; exact g.1
    · show τ2.1 21 m1 = 1; rw [M 21 (by omega) (by omega)]; exact e8
    · rw [List.mem_singleton.1 hy]; exact seg_ex rfl
  · have fl := cP_lf σ c 17 0 0 0 0
    have tx := cP_TX N σ τ c h5 hc14 17 0 0 0 0
    have g := cP_get σ c 17 0 0 0 0
    refine ⟨cP σ c 17 0 0 0 0, c + 1, c_get1 h5 hc14 2 (Or.inr rfl), h.up fl (lf_rf _ _) (hnd_C h.2.1 _ _ _ _ _) ⟨hb.1, hb.2.1, hc, hb.2.2.2.1, hb.2.2.2.2⟩ (by omega) (Nat.le_refl _) (fun _ _ => rfl), Or.inl ⟨rfl, fun σ2 τ2 t2 z2 => ?_⟩, by omega, by omega, tx, cP_fz _ _ _ _ _ _ _ _ _, fl⟩
    subst e1 e2
    have zz : fz c0 c1 m0 m1 σ τ σ2 τ2 := (cP_fz σ τ (c1 + 1) (m1 + 1) 17 0 0 0 0).mo (by omega) (by omega) (by omega) (by omega) |>.tr (z2.mo (by omega) (by omega) (by omega) (by omega))
    have w1 := e9 σ2 τ2 (tx.tr t2 (fun _ _ q => q)) zz
    refine w1.tr (fun y hy => ?_)
    rw [hy]
    have C := fun k (hk1 : 22 ≤ k) (hk2 : k ≤ 26) => z2.1 k c1 hk1 hk2 (by omega) (by omega)
    have C' := fun k (hk1 : 22 ≤ k) (hk2 : k ≤ 26) => z2.1 k (c1 + 1) hk1 hk2 (by omega) (by omega)
    have M := fun k (hk1 : 20 ≤ k) (hk2 : k ≤ 23) => z2.2 k m1 hk1 hk2 (by omega) (by omega)
    have O := fun k (_ : 22 ≤ k ∧ k ≤ 26) => cP_o σ (c1 + 1) 17 0 0 0 0 k c1 (by omega) (by omega)
    refine seg_in [(f, c1 + 2, m1 + 1, 0 :: s, l, 50)] ⟨22, ?_, ?_, ?_, ?_, rfl⟩ (fun y hy => ?_)
    · show σ2.1 22 c1 = 21; rw [C 22 (by omega) (by omega), O 22 (by omega)]; exact e6
    · show τ2.1 20 m1 = 30; rw [M 20 (by omega) (by omega)]; exact e7
    · show σ2.1 22 (c1 + 1) = 17; rw [C' 22 (by omega) (by omega)]; exact g.1
    · show τ2.1 21 m1 = 1; rw [M 21 (by omega) (by omega)]; exact e8
    · rw [List.mem_singleton.1 hy]; exact seg_ex rfl
