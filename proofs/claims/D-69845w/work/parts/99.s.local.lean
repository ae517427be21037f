/-! locals: what stays when little changes -/
def nrC (k j : Nat) : Bool := k == 33 || k == 34 || k == 35 || k == 48 || k == 43 || k == 44 || k == 45 || k == 46 || k == 9 || k == 10 || k == 11 || (k == 6 && j == 2) || (k == 3 && j == 7)
def nrM (k j : Nat) : Bool := k == 15 || k == 18 || k == 19 || k == 29 || k == 30 || k == 31 || k == 32 || k == 2 || k == 3 || k == 4 || (k == 0 && (j == 53 || j == 50 || j == 14))
theorem sE_eq {σ τ σ' τ' : lj_S} {s s' : Nat} (h : sE σ τ s s') (hC : ∀ k j, nrC k j = true → σ'.1 k j = σ.1 k j) (hM : ∀ k j, nrM k j = true → τ'.1 k j = τ.1 k j) : sE σ' τ' s s' := by
  refine ⟨?_, ?_, ?_⟩
  · unfold lv; rw [hC 3 7 rfl]; exact h.1
  · unfold lv; rw [hM 0 14 rfl]; exact h.2.1
  · rw [cS_cong (fun j => hC 9 j rfl) (fun j => hC 10 j rfl) (fun j => hC 11 j rfl), mS_cong (fun j => hM 2 j rfl) (fun j => hM 3 j rfl) (fun j => hM 4 j rfl)]; exact h.2.2
theorem nmQ_eq {σ τ σ' τ' : lj_S} {a a' : Nat} (h : nmQ σ τ a a') (hC : ∀ k j, nrC k j = true → σ'.1 k j = σ.1 k j) (hM : ∀ k j, nrM k j = true → τ'.1 k j = τ.1 k j) : nmQ σ' τ' a a' := by
  have cs : ∀ t, cS σ' t = cS σ t := cS_cong (fun j => hC 9 j rfl) (fun j => hC 10 j rfl) (fun j => hC 11 j rfl)
  have ms : ∀ t, mS τ' t = mS τ t := mS_cong (fun j => hM 2 j rfl) (fun j => hM 3 j rfl) (fun j => hM 4 j rfl)
  have e1 : lv τ' 0 14 = lv τ 0 14 := by unfold lv; rw [hM 0 14 rfl]
  have e2 : lv σ' 3 7 = lv σ 3 7 := by unfold lv; rw [hC 3 7 rfl]
  rcases h with ⟨q1, q2⟩ | ⟨q1, q2, q3⟩
  · exact Or.inl ⟨q1, sE_eq q2 hC hM⟩
  · exact Or.inr ⟨q1, by rw [e1]; exact q2, fun s hs => by rw [e2] at hs; rw [cs, ms]; exact q3 s hs⟩
theorem NR_eq {σ τ σ' τ' : lj_S} {N : List lT} (h : NR σ τ N) (hC : ∀ k j, nrC k j = true → σ'.1 k j = σ.1 k j) (hM : ∀ k j, nrM k j = true → τ'.1 k j = τ.1 k j) : NR σ' τ' N := by
  obtain ⟨n1, n2, n3, n4, n5, n6, n7, n8, n9, n10⟩ := h
  exact ⟨nmC_cg (fun j => hC _ j rfl) (fun j => hC _ j rfl) (fun j => hC _ j rfl) (fun j => hC _ j rfl) (fun j => hC _ j rfl) (fun j => hC _ j rfl) (fun j => hC _ j rfl) (fun j => hC _ j rfl) n1, nmM_cg (fun j => hM _ j rfl) (fun j => hM _ j rfl) (fun j => hM _ j rfl) (fun j => hM _ j rfl) (fun j => hM _ j rfl) (fun j => hM _ j rfl) (fun j => hM _ j rfl) n2, n3, n4, n5, n6, by rw [hC 6 2 rfl]; exact n7, by rw [hM 0 53 rfl]; exact n8, by rw [hM 0 50 rfl]; exact n9, fun z hz e he => nmQ_eq (n10 z hz e he) hC hM⟩
/-- the same, by places of parsers -/
def ppC (σ σ' : lj_S) : Prop := lf pC σ σ'
theorem PS.mk' {b : Nat → Int32} {n T : Nat} {Q : tkQ} {X : List Int32 → Prop} {FO : List fT} {Z : List zT} {PL : List qT} {cl ml : Nat} {F : Nat} {N : List lT} {p v c m wh : Nat} {W : List wT} {σ τ : lj_S} (h : PS b n T Q X F N FO Z PL cl ml p v c m wh W σ τ) {σ' τ' : lj_S} (f : lf pC σ σ') (g : lf pM τ τ') {F' : Nat} {N' : List lT} {FO' : List fT} {Z' : List zT} {PL' : List qT} {cl' ml' p' v' c' m' wh' : Nat} {W' : List wT} (h1 : NR σ' τ' N') (h2 : FR σ' τ' F') (h3 : ∀ z ∈ N', z.1 < F') (h4 : lvS σ' N' FO') (h5 : SCr σ' c') (h6 : hnd p' v' c' m' wh' W' σ' τ') (h7 : bnd T p' v' c' m' wh' W'.length) (h8 : LPr σ' τ' Z' PL' cl' ml') (h9 : cl' ≤ c') (h10 : ib σ' N'.length FO' Z' PL' p' v') (h11 : ml' ≤ m') : PS b n T Q X F' N' FO' Z' PL' cl' ml' p' v' c' m' wh' W' σ' τ' :=
  ⟨⟨TE_pp h.1.1 f g, (sR_pp h.1.2.1 f g).1, h1, h2, h3, h4, h5⟩, h6, h7, h8, ⟨h9, h10⟩, h11⟩
def frC (k j : Nat) : Bool := k == 31 || k == 33 || k == 30 || k == 36 || k == 29 || k == 32 || k == 37 || k == 41 || k == 42 || (k == 5 && (j == 8 || j == 18))
def frM (k j : Nat) : Bool := k == 14 || k == 15 || k == 16 || k == 17 || (k == 0 && j == 34)
theorem FR_eq {σ τ σ' τ' : lj_S} {F : Nat} (h : FR σ τ F) (hC : ∀ k j, frC k j = true → σ'.1 k j = σ.1 k j) (hM : ∀ k j, frM k j = true → τ'.1 k j = τ.1 k j) : FR σ' τ' F := by
  refine ⟨by rw [hC 5 8 rfl]; exact h.1, by rw [hM 0 34 rfl]; exact h.2.1, h.2.2.1, fun q hq => ?_⟩
  obtain ⟨a1, a2, a3, a4, a5, a6, a7, a8⟩ := h.2.2.2 q hq
  refine ⟨by rw [hC 31 q rfl, hM 14 q rfl]; exact a1, ?_, ?_, by rw [hC 33 q rfl, hM 15 q rfl]; exact a4, by rw [hC 30 q rfl, hM 16 q rfl]; exact a5, by rw [hC 30 q rfl]; exact a6, by rw [hC 36 q rfl, hM 17 q rfl]; exact a7, FX_cg (hC 5 18 rfl) (fun k => hC 29 k rfl) (fun k => hC 31 k rfl) (fun k => hC 32 k rfl) (fun k => hC 37 k rfl) (fun k => hC 41 k rfl) (fun k => hC 42 k rfl) a8⟩
  · unfold lv at a2 ⊢; rw [hC 31 q rfl]; exact a2
  · unfold lv at a3 ⊢; rw [hC 31 q rfl]; exact a3
def scC (k j : Nat) : Bool := k == 37 || k == 38 || k == 39 || k == 40 || (k == 5 && (j == 8 || j == 18))
theorem SCr_eq {σ σ' : lj_S} {c c' : Nat} (h : SCr σ c) (hc : c ≤ c') (hC : ∀ k j, scC k j = true → σ'.1 k j = σ.1 k j) : SCr σ' c' := by
  have e : ∀ k j, scC k j = true → lv σ' k j = lv σ k j := fun k j q => by unfold lv; rw [hC k j q]
  refine ⟨⟨by rw [e 5 18 rfl]; exact h.1.1, opU_cg (hC 5 18 rfl) (fun k => hC 37 k rfl) (fun k => hC 38 k rfl) (fun k => hC 40 k rfl) h.1.2⟩, fun k hk => ?_⟩
  rw [e 5 18 rfl] at hk
  have := h.2 k hk
  rw [e 39 k rfl, e 40 k rfl, e 37 k rfl, e 38 k rfl, e 5 8 rfl]
  omega
def lvC (k j : Nat) : Bool := k == 49 || k == 32 || k == 31 || k == 37 || k == 38 || k == 40 || k == 47 || (k == 5 && j == 18)
theorem lvS_eq {σ σ' : lj_S} (hC : ∀ k j, lvC k j = true → σ'.1 k j = σ.1 k j) {N : List lT} {FO : List fT} (h : lvS σ N FO) : lvS σ' N FO :=
  lvS_cg (fun k => hC 49 k rfl) (fun k => hC 32 k rfl) (fun k => hC 31 k rfl) (opA_cg (hC 5 18 rfl) (fun k => hC 37 k rfl) (fun k => hC 38 k rfl) (fun k => hC 40 k rfl)) (fun _ _ => ksc_cg (hC 5 18 rfl) (fun k => hC 47 k rfl) (fun k => hC 37 k rfl) (fun k => hC 38 k rfl) (fun k => hC 40 k rfl)) h
def lpC (k j : Nat) : Bool := k == 50 || k == 51 || k == 52 || k == 53 || k == 54 || k == 55 || k == 56 || (k == 6 && (j == 10 || j == 13 || j == 18))
def lpM (k j : Nat) : Bool := k == 33 || k == 34 || k == 35 || k == 36 || k == 37 || (k == 0 && (j == 56 || j == 60))
theorem LPr_eq {σ τ σ' τ' : lj_S} {Z : List zT} {PL : List qT} {c m c' m' : Nat} (h : LPr σ τ Z PL c m) (hC : ∀ k j, lpC k j = true → σ'.1 k j = σ.1 k j) (hM : ∀ k j, lpM k j = true → τ'.1 k j = τ.1 k j) (hc : c ≤ c') (hm : m ≤ m') (h21 : ∀ j, j < m → τ'.1 21 j = τ.1 21 j) : LPr σ' τ' Z PL c' m' := by
  obtain ⟨h1, h2, h3, h4, h5, h6, h7, h8, h9, h10, h11⟩ := h
  refine ⟨by rw [hC 6 10 rfl]; exact h1, by rw [hM 0 56 rfl]; exact h2, h3, by rw [hC 6 13 rfl]; exact h4, h5, by rw [hC 6 18 rfl]; exact h6, by rw [hM 0 60 rfl]; exact h7, h8, loA_cg (fun j => hC 50 j rfl) (fun j => hC 51 j rfl) (fun j => hC 52 j rfl) (fun j => hC 53 j rfl) (fun j => hM 33 j rfl) (fun j => hM 34 j rfl) h21 Z (fun x hx => (h11 x hx).2) h9, plA_cg (fun j => hC 54 j rfl) (fun j => hC 55 j rfl) (fun j => hC 56 j rfl) (fun j => hM 35 j rfl) (fun j => hM 36 j rfl) (fun j => hM 37 j rfl) PL h10, fun x hx => ⟨fun j hj => ?_, fun j hj => ?_⟩⟩
  · have := (h11 x hx).1 j hj; omega
  · have := (h11 x hx).2 j hj; omega
def hdC (k j : Nat) : Bool := (k == 6 && (j == 0 || j == 1)) || (k == 5 && (j == 0 || j == 6))
def hdM (k j : Nat) : Bool := k == 25 || k == 26 || k == 27 || k == 28 || (k == 0 && (j == 25 || j == 47 || j == 41 || j == 40 || j == 46 || j == 4))
theorem hnd_eq {p v c m wh : Nat} {W : List wT} {σ τ σ' τ' : lj_S} (h : hnd p v c m wh W σ τ) (hC : ∀ k j, hdC k j = true → σ'.1 k j = σ.1 k j) (hM : ∀ k j, hdM k j = true → τ'.1 k j = τ.1 k j) : hnd p v c m wh W σ' τ' := by
  obtain ⟨h1, h2, h3, h4, h5, h6, h7, h8, h9, h10⟩ := h
  exact ⟨by rw [hC 6 0 rfl]; exact h1, by rw [hM 0 25 rfl]; exact h2, by rw [hC 6 1 rfl]; exact h3, by rw [hM 0 47 rfl]; exact h4, by rw [hC 5 0 rfl]; exact h5, by rw [hM 0 41 rfl]; exact h6, by rw [hC 5 6 rfl]; exact h7, by rw [hM 0 40 rfl]; exact h8, mWt_cg h9 (hM 0 46 rfl) (fun k j q => hM k j (by rcases q with e | e | e | e <;> rw [e] <;> rfl)), by rw [hM 0 4 rfl]; exact h10⟩
def txD (k j : Nat) : Bool := k == 28 || k == 29 || k == 32 || k == 33 || k == 34 || k == 35 || k == 37 || k == 38 || k == 39 || k == 40 || (k == 5 && (j == 6 || j == 8 || j == 18))
def txC (k j : Nat) : Bool := k == 31 || k == 28 || k == 29 || k == 32 || k == 33 || k == 34 || k == 35 || k == 37 || k == 38 || k == 39 || k == 40 || (k == 5 && (j == 6 || j == 8 || j == 18))
def txM (k j : Nat) : Bool := k == 12 || k == 13 || k == 15 || k == 18 || k == 19
theorem TX_eqd (N : List lT) {σ τ σ' τ' : lj_S} (f : lf pC σ σ') (g : lf pM τ τ') {X : List Int32 → Prop} (hs : sR σ τ X) (hC : ∀ k j, txD k j = true → σ'.1 k j = σ.1 k j) (hM : ∀ k j, txM k j = true → τ'.1 k j = τ.1 k j) (h27 : ∀ i, σ'.2 27 i = σ.2 27 i) (h24 : ∀ i, τ'.2 24 i = τ.2 24 i) (h50 : lv σ 5 0 ≤ lv σ' 5 0) (h31 : ∀ q, lv σ 31 q ≤ lv σ' 31 q) : TX N σ τ σ' τ' := by
  have e : ∀ k j, txD k j = true → lv σ' k j = lv σ k j := fun k j q => by unfold lv; rw [hC k j q]
  refine ⟨(sR_pp hs f g).2, h50, by rw [e 5 6 rfl]; exact Int.le_refl _, by rw [e 5 8 rfl]; exact Int.le_refl _, by rw [e 5 18 rfl]; exact Int.le_refl _, fun i _ => ⟨h27 i, h24 i⟩, fun q _ => ⟨hC 28 q rfl, hC 29 q rfl, ⟨hM 12 q rfl, hM 13 q rfl⟩, ⟨by rw [e 32 q rfl]; exact Int.le_refl _, h31 q⟩, by rw [e 33 q rfl]; exact Int.le_refl _⟩, fun q _ _ => ⟨hC 33 q rfl, hM 15 q rfl, fun i _ => ⟨hC 34 _ rfl, hC 35 _ rfl, hM 18 _ rfl, hM 19 _ rfl⟩⟩, fun k _ => ⟨hC 37 k rfl, hC 38 k rfl, hC 39 k rfl, Or.inl (hC 40 k rfl)⟩, fun k a b => ?_, f, pM_g g⟩
  rw [e 5 18 rfl] at b
  omega
theorem TX_eq (N : List lT) {σ τ σ' τ' : lj_S} (f : lf pC σ σ') (g : lf pM τ τ') {X : List Int32 → Prop} (hs : sR σ τ X) (hC : ∀ k j, txC k j = true → σ'.1 k j = σ.1 k j) (hM : ∀ k j, txM k j = true → τ'.1 k j = τ.1 k j) (h27 : ∀ i, σ'.2 27 i = σ.2 27 i) (h24 : ∀ i, τ'.2 24 i = τ.2 24 i) (h50 : lv σ 5 0 ≤ lv σ' 5 0) : TX N σ τ σ' τ' := by
  refine TX_eqd N f g hs (fun k j q => hC k j ?_) hM h27 h24 h50 (fun q => by unfold lv; rw [hC 31 q rfl]; exact Int.le_refl _)
  have : txC k j = (k == 31 || txD k j) := by unfold txC txD; simp only [Bool.or_assoc]
  rw [this, q, Bool.or_true]
theorem fz_eq {c m : Nat} {σ τ σ' τ' : lj_S} (hC : ∀ k j, 22 ≤ k → k ≤ 26 → σ'.1 k j = σ.1 k j) (hM : ∀ k j, 20 ≤ k → k ≤ 23 → τ'.1 k j = τ.1 k j) : fz 0 c 0 m σ τ σ' τ' := ⟨fun k j a b _ _ => hC k j a b, fun k j a b _ _ => hM k j a b⟩
/-- a step, with two scopes more that may be owed -/
theorem PS.stR {b : Nat → Int32} {n T : Nat} {Q : tkQ} {X : List Int32 → Prop} {FO0 : List fT} {nl rv : Nat} {fl : List Nat} {Z : List zT} {PL : List qT} {cl ml : Nat} {F : Nat} {N : List lT} {p v c m wh : Nat} {W : List wT} {σ τ : lj_S} (h : PS b n T Q X F N (((nl, rv), fl) :: FO0) Z PL cl ml p v c m wh W σ τ) (hlt : p < T) : PS b n T Q X F N (((nl, rv + 2), fl) :: FO0) Z PL cl ml (p + 1) v c m wh W (lj_put σ 6 0 (Int32.ofNat (p + 1))) (lj_put τ 0 25 (Int32.ofNat (p + 1))) ∧ GR N N F F p (p + 1) c c m m σ τ (lj_put σ 6 0 (Int32.ofNat (p + 1))) (lj_put τ 0 25 (Int32.ofNat (p + 1))) := by
  obtain ⟨P, G⟩ := h.st hlt
  refine ⟨⟨⟨P.1.1, P.1.2.1, P.1.2.2.1, P.1.2.2.2.1, P.1.2.2.2.2.1, ?_, P.1.2.2.2.2.2.2⟩, P.2.1, P.2.2.1, P.2.2.2.1, ⟨P.2.2.2.2.1.1, ⟨?_, P.2.2.2.2.1.2.1.2⟩, ?_⟩, P.2.2.2.2.2⟩, G⟩
  · have := P.1.2.2.2.2.2.1
    cases N with
    | nil => exact this
    | cons z R => exact this
  · have e : lv (lj_put σ 6 0 (Int32.ofNat (p + 1))) 5 18 = lv σ 5 18 := by rw [lv_put, if_neg (by omega)]
    have := h.2.2.2.2.1.2.1.1
    rw [e]
    simp only [rsv] at this ⊢
    omega
  · obtain ⟨a1, a2, a3, a4, a5⟩ := P.2.2.2.2.1.2.2
    refine ⟨a1, a2, a3, fun x hx => ?_, a5⟩
    rcases List.mem_cons.1 hx with e | e
    · rw [e]; exact a4 ((nl, rv), fl) (List.mem_cons_self)
    · exact a4 x (List.mem_cons_of_mem _ e)
/-- fewer scopes are owed -/
theorem PS.rvd {b : Nat → Int32} {n T : Nat} {Q : tkQ} {X : List Int32 → Prop} {FO0 : List fT} {nl rv : Nat} {fl : List Nat} {Z : List zT} {PL : List qT} {cl ml : Nat} {F : Nat} {N : List lT} {p v c m wh : Nat} {W : List wT} {σ τ : lj_S} (h : PS b n T Q X F N (((nl, rv), fl) :: FO0) Z PL cl ml p v c m wh W σ τ) {rv' : Nat} (hr : rv' ≤ rv) : PS b n T Q X F N (((nl, rv'), fl) :: FO0) Z PL cl ml p v c m wh W σ τ := by
  refine ⟨⟨h.1.1, h.1.2.1, h.1.2.2.1, h.1.2.2.2.1, h.1.2.2.2.2.1, ?_, h.1.2.2.2.2.2.2⟩, h.2.1, h.2.2.1, h.2.2.2.1, ⟨h.2.2.2.2.1.1, ⟨?_, h.2.2.2.2.1.2.1.2⟩, ?_⟩, h.2.2.2.2.2⟩
  · have := h.1.2.2.2.2.2.1
    cases N with
    | nil => exact this
    | cons z R => exact this
  · have := h.2.2.2.2.1.2.1.1
    simp only [rsv] at this ⊢
    omega
  · obtain ⟨a1, a2, a3, a4, a5⟩ := h.2.2.2.2.1.2.2
    refine ⟨a1, a2, a3, fun x hx => ?_, a5⟩
    rcases List.mem_cons.1 hx with e | e
    · rw [e]; exact a4 ((nl, rv), fl) (List.mem_cons_self)
    · exact a4 x (List.mem_cons_of_mem _ e)
theorem m_prt {σ τ : lj_S} {z : lT} {R : List lT} (h : NR σ τ (z :: R)) : lj_R lm_P 45 [.ref 0] τ = some (.inl (some (.int (Int32.ofNat z.1))), τ) := by
  have h22 := h.2.2.2.2.2.1
  rw [List.length_cons] at h22
  rw [rm_45, km_45_0, h.2.2.2.2.2.2.2.1, show (z :: R).length - 1 = R.length by simp, if_pos (ofN_in (by omega) (by omega)), lz_onat (by omega), h.2.1.1.2.1]
/-- a local more of both, or the same fault -/
theorem cm_decl {b : Nat → Int32} {n T : Nat} {Q : tkQ} {X : List Int32 → Prop} {FO0 : List fT} {nl rv : Nat} {fl : List Nat} {Z : List zT} {PL : List qT} {cl ml : Nat} {F : Nat} {N : List lT} {p v c m wh : Nat} {W : List wT} {σ τ : lj_S} (h : PS b n T Q X F N (((nl, rv), fl) :: FO0) Z PL cl ml p v c m wh W σ τ) {f : Nat} {l : List Nat} (hN : hdN N f l) {t : Nat} (ht : t ≤ T) (hT : T ≤ 520) :
    (nl = 50 ∧ lj_R lc_P 82 [.ref 6, .int (Int32.ofNat t)] σ = some (.inr 1, cFl σ 3 (Q t).2.1) ∧ lj_R lm_P 48 [.ref 0, .int (Int32.ofNat (Q t).2.1)] τ = some (.inl (some (.int (-1))), mFl τ 3 (Q t).2.1)) ∨
    (nl < 50 ∧ lj_R lc_P 82 [.ref 6, .int (Int32.ofNat t)] σ = some (.inl (some (.int (Int32.ofNat nl))), lj_put σ 31 f (Int32.ofNat (nl + 1))) ∧ (∀ x, lj_R lm_P 48 [.ref 0, .int x] τ = some (.inl (some (.int (Int32.ofNat nl))), lj_put τ 14 f (Int32.ofNat (nl + 1)))) ∧ PS b n T Q X F N (((nl + 1, rv), fl) :: FO0) Z PL cl ml p v c m wh W (lj_put σ 31 f (Int32.ofNat (nl + 1))) (lj_put τ 14 f (Int32.ofNat (nl + 1))) ∧ GR N N F F p p c c m m σ τ (lj_put σ 31 f (Int32.ofNat (nl + 1))) (lj_put τ 14 f (Int32.ofNat (nl + 1)))) := by
  obtain ⟨z, R, rfl, rfl, hl⟩ := hN
  have hNR := h.1.2.2.1
  have hF := h.1.2.2.2.1
  have hLv := h.1.2.2.2.2.2.1
  have hz51 : z.1 < 51 := hNR.1.1.1
  have h62 : σ.1 6 2 = Int32.ofNat z.1 := hNR.2.2.2.2.2.2.1
  have hzF : z.1 < F := h.1.2.2.2.2.1 z (List.mem_cons_self)
  obtain ⟨s1, s2, s3, s4⟩ := hLv.1.2.2.2.2.2.2
  have s1 : σ.1 31 z.1 = Int32.ofNat nl := s1
  have s2 : nl ≤ 50 := s2
  have h14 : τ.1 14 z.1 = Int32.ofNat nl := by rw [← (hF.2.2.2 z.1 hzF).1]; exact s1
  have i51 : lj_in (Int32.ofNat z.1) 51 := ofN_in hz51 (by omega)
  have hpr := m_prt hNR
  by_cases e : nl = 50
  · refine Or.inl ⟨e, ?_, ?_⟩
    · rw [rc_82, kc_82_0, h62]
      simp only [if_pos i51, lz_onat (show z.1 < 2147483648 by omega), s1]
      rw [if_pos (by rw [e]; rfl), if_pos (ofN_in (by omega) (by omega)), lz_onat (by omega), (h.1.1.2.2.2.2.1 t ht).2.2.2.2.2.1, rc_19, kc_19_0]
      rfl
    · rw [rm_48, km_48_0, hpr, bi_ok]
      simp only [if_pos i51, lz_onat (show z.1 < 2147483648 by omega), h14]
      rw [if_pos (by rw [e]; rfl), m_fail τ h.2.1.2.2.2.2.2.2.2.2.2, bi_ok]
  · have e50 : ¬ (Int32.ofNat nl = 50) := fun q => e ((ofN_eq (c := 50) (by omega) (by omega)).1 q)
    have fC : lf pC σ (lj_put σ 31 z.1 (Int32.ofNat (nl + 1))) := lf_put (lf_rf _ _) _ _ _ rfl
    have fM : lf pM τ (lj_put τ 14 z.1 (Int32.ofNat (nl + 1))) := lf_put (lf_rf _ _) _ _ _ rfl
    have oC : ∀ k j, k ≠ 31 → (lj_put σ 31 z.1 (Int32.ofNat (nl + 1))).1 k j = σ.1 k j := fun k j q => by rw [lj_put_1, if_neg (fun a => q a.1)]
    have oM : ∀ k j, k ≠ 14 → (lj_put τ 14 z.1 (Int32.ofNat (nl + 1))).1 k j = τ.1 k j := fun k j q => by rw [lj_put_1, if_neg (fun a => q a.1)]
    have eC : (lj_put σ 31 z.1 (Int32.ofNat (nl + 1))).1 31 z.1 = Int32.ofNat (nl + 1) := by rw [lj_put_1, if_pos ⟨rfl, rfl⟩]
    have eM : (lj_put τ 14 z.1 (Int32.ofNat (nl + 1))).1 14 z.1 = Int32.ofNat (nl + 1) := by rw [lj_put_1, if_pos ⟨rfl, rfl⟩]
    refine Or.inr ⟨(by omega), ?_, fun x => ?_, ?_, ?_⟩
    · rw [rc_82, kc_82_0, h62]
      simp only [if_pos i51, lz_onat (show z.1 < 2147483648 by omega), s1]
      rw [if_neg e50, lz_osucc]
    · rw [rm_48, km_48_0, hpr, bi_ok]
      simp only [if_pos i51, lz_onat (show z.1 < 2147483648 by omega), h14, lz_osucc, eM]
      rw [if_neg e50, lz_pred']
    · generalize hσ' : lj_put σ 31 z.1 (Int32.ofNat (nl + 1)) = σ' at *
      generalize hτ' : lj_put τ 14 z.1 (Int32.ofNat (nl + 1)) = τ' at *
      have y32 : ∀ q, lv σ' 32 q = lv σ 32 q := fun q => by unfold lv; rw [oC 32 q (by omega)]
      refine h.mk' fC fM (NR_eq hNR (fun k j q => oC k j (fun a => by rw [a] at q; cases q)) (fun k j q => oM k j (fun a => by rw [a] at q; cases q))) ⟨by rw [oC 5 8 (by omega)]; exact hF.1, by rw [oM 0 34 (by omega)]; exact hF.2.1, hF.2.2.1, fun q hq => ?_⟩ h.1.2.2.2.2.1 ?_ (SCr_eq h.1.2.2.2.2.2.2 (Nat.le_refl _) (fun k j q => oC k j (fun a => by rw [a] at q; cases q))) (hnd_eq h.2.1 (fun k j q => oC k j (fun a => by rw [a] at q; cases q)) (fun k j q => oM k j (fun a => by rw [a] at q; cases q))) h.2.2.1 (LPr_eq h.2.2.2.1 (fun k j q => oC k j (fun a => by rw [a] at q; cases q)) (fun k j q => oM k j (fun a => by rw [a] at q; cases q)) (Nat.le_refl _) (Nat.le_refl _) (fun j _ => oM 21 j (by omega))) h.2.2.2.2.1.1 ?_ h.2.2.2.2.2
      · obtain ⟨a1, a2, a3, a4, a5, a6, a7, a8⟩ := hF.2.2.2 q hq
        have x33 := oC 33 q (by omega)
        have x30 := oC 30 q (by omega)
        have x36 := oC 36 q (by omega)
        have y15 := oM 15 q (by omega)
        have y16 := oM 16 q (by omega)
        have y17 := oM 17 q (by omega)
        have L31 : σ'.1 31 q = τ'.1 14 q ∧ lv σ 31 q ≤ lv σ' 31 q ∧ lv σ' 31 q ≤ 50 := by
          by_cases eq : q = z.1
          · rw [eq]
            unfold lv
            rw [eC, eM, s1, lz_lit (by omega), lz_lit (by omega)]
            exact ⟨rfl, (by omega), (by omega)⟩
          · have c1 : σ'.1 31 q = σ.1 31 q := by rw [← hσ', lj_put_1, if_neg (fun a => eq a.2)]
            have c2 : τ'.1 14 q = τ.1 14 q := by rw [← hτ', lj_put_1, if_neg (fun a => eq a.2)]
            unfold lv at a3 ⊢
            rw [c1, c2]
            exact ⟨a1, Int.le_refl _, a3⟩
        refine ⟨L31.1, (by omega), L31.2.2, by rw [x33, y15]; exact a4, by rw [x30, y16]; exact a5, by rw [x30]; exact a6, by rw [x36, y17]; exact a7, ?_⟩
        obtain ⟨b1, b2, b3, b4, b5⟩ := a8
        have e29 : lv σ' 29 q = lv σ 29 q := by unfold lv; rw [oC 29 q (by omega)]
        have e32 : lv σ' 32 q = lv σ 32 q := by unfold lv; rw [oC 32 q (by omega)]
        have e42 : lv σ' 42 q = lv σ 42 q := by unfold lv; rw [oC 42 q (by omega)]
        have e41 : lv σ' 41 = lv σ 41 := by funext k; unfold lv; rw [oC 41 k (by omega)]
        have eL : scL σ' q = scL σ q := by
          unfold scL lv
          rw [oC 5 18 (by omega)]
          simp only [oC 37 _ (show 37 ≠ 31 by omega)]
        refine ⟨(by omega), (by omega), (by omega), (by omega), ?_⟩
        rw [e42, e41, eL]
        exact b5
      · refine ⟨⟨by rw [oC 49 _ (by omega)]; exact hLv.1.1, by rw [y32]; exact hLv.1.2.1, hLv.1.2.2.1, fun x hx => (openK_cg (oC 5 18 (by omega)) (fun k => oC 37 k (by omega)) (fun k => oC 38 k (by omega)) (fun k => oC 40 k (by omega)) _ _).trans (hLv.1.2.2.2.1 x hx), hOp_cg (fun _ _ _ => opA_cg (oC 5 18 (by omega)) (fun k => oC 37 k (by omega)) (fun k => oC 38 k (by omega)) (fun k => oC 40 k (by omega)) _ _ _) hLv.1.2.2.2.2.1, ksc_cg (oC 5 18 (by omega)) (fun k => oC 47 k (by omega)) (fun k => oC 37 k (by omega)) (fun k => oC 38 k (by omega)) (fun k => oC 40 k (by omega)) hLv.1.2.2.2.2.2.1, ⟨eC, by show nl + 1 ≤ 50; omega, s3, fun y hy => by have : y < nl := s4 y hy; show y < nl + 1; omega⟩⟩, ?_⟩
        -- the functions around: other numbers
        have hnd : z.1 ∉ R.map (·.1) := by
          have := hNR.2.2.2.1
          rw [List.map_cons, List.nodup_cons] at this
          exact this.1
        have aux : ∀ (R : List lT) (FO : List fT), z.1 ∉ R.map (·.1) → lvS σ R FO → lvS σ' R FO := by
          intro R
          induction R with
          | nil => intro FO _ g; cases FO with
            | nil => trivial
            | cons _ _ => exact g.elim
          | cons y R ih =>
            intro FO hn g
            cases FO with
            | nil => exact g.elim
            | cons fl FO =>
              rw [List.map_cons, List.mem_cons, not_or] at hn
              have c1 : σ'.1 31 y.1 = σ.1 31 y.1 := by rw [← hσ', lj_put_1, if_neg (fun a => hn.1 a.2.symm)]
              exact ⟨⟨by rw [oC 49 _ (by omega)]; exact g.1.1, by rw [y32]; exact g.1.2.1, g.1.2.2.1, fun x hx => (openK_cg (oC 5 18 (by omega)) (fun k => oC 37 k (by omega)) (fun k => oC 38 k (by omega)) (fun k => oC 40 k (by omega)) _ _).trans (g.1.2.2.2.1 x hx), hOp_cg (fun _ _ _ => opA_cg (oC 5 18 (by omega)) (fun k => oC 37 k (by omega)) (fun k => oC 38 k (by omega)) (fun k => oC 40 k (by omega)) _ _ _) g.1.2.2.2.2.1, ksc_cg (oC 5 18 (by omega)) (fun k => oC 47 k (by omega)) (fun k => oC 37 k (by omega)) (fun k => oC 38 k (by omega)) (fun k => oC 40 k (by omega)) g.1.2.2.2.2.2.1, by unfold slt; rw [c1]; exact g.1.2.2.2.2.2.2⟩, ih FO hn.2 g.2⟩
        exact aux R FO0 hnd hLv.2
      · obtain ⟨⟨q1, q2, q3⟩, q4⟩ := h.2.2.2.2.1.2
        refine ⟨⟨?_, q2, fun x hx => ?_⟩, ?_⟩
        · have e18 : lv σ' 5 18 = lv σ 5 18 := by unfold lv; rw [oC 5 18 (by omega)]
          rw [e18]
          exact q1
        · have e8 : lv σ' 5 8 = lv σ 5 8 := by unfold lv; rw [oC 5 8 (by omega)]
          rw [e8]; exact q3 x hx
        · obtain ⟨a1, a2, a3, a4, a5⟩ := q4
          refine ⟨a1, a2, a3, fun x hx => ?_, a5⟩
          rcases List.mem_cons.1 hx with e | e
          · rw [e]; exact a4 ((nl, rv), fl) (List.mem_cons_self)
          · exact a4 x (List.mem_cons_of_mem _ e)
    · exact ⟨TX_eqd _ fC fM h.1.2.1 (fun k j q => oC k j (fun a => by rw [a] at q; cases q)) (fun k j q => oM k j (fun a => by rw [a] at q; cases q)) (fun _ => rfl) (fun _ => rfl) (by unfold lv; rw [oC 5 0 (by omega)]; exact Int.le_refl _) (fun q => by
        by_cases w : q = z.1
        · rw [w]; unfold lv; rw [eC, s1, lz_lit (by omega), lz_lit (by omega)]; omega
        · unfold lv; rw [lj_put_1, if_neg (fun a => w a.2)]; exact Int.le_refl _), lvX_rf _, (Nat.le_refl _), (Nat.le_refl _), (Nat.le_refl _), (Nat.le_refl _), fz_eq (fun k j a b => oC k j (by omega)) (fun k j a b => oM k j (by omega))⟩
