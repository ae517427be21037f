/-! a block with locals of its own -/
def scR (b : Nat → Int32) (n T : Nat) (Q : tkQ) (X : List Int32 → Prop) (FO0 : List fT) (nl rv : Nat) (fl : List Nat) (Z : List zT) (PL : List qT) (v : Nat) (W : List wT) (f : Nat) (s l lB : List Nat) (D : Nat) (N : List lT) (F p c m : Nat) (σ τ : lj_S) (E : Nat → Prop) (K : Nat) (oC oM : Option lj_O) : Prop :=
  fltR n oC oM ∨ ∃ σ' τ' p' c' m' wh' F' N' nl' nb, oC = some (.inl none, σ') ∧ oM = mLoop τ' ∧ PS b n T Q X F' N' (((nl', rv), fl) :: FO0) (adB nb Z) PL c' m' p' v c' m' wh' W σ' τ' ∧ GR N N' F F' p p' c c' m m' σ τ σ' τ' ∧ nl ≤ nl' ∧ E p' ∧ c' ≤ c + 25 * (p' - p) + K ∧ m' ≤ m + 25 * (p' - p) + K ∧ nbK nb c c' m m' σ' τ' ∧ (nb ≠ [] → inL f Z) ∧ ∀ σ2 τ2, LB N' nb c c' m m' σ' τ' σ2 τ2 → seg σ2 τ2 (f, c, m, s, l, 50) (fun y => y = (f, c', m', s, l, 50) ∨ bkE nb f s lB D y)
theorem GS_fg {e kn : List kT} {N0 : List lT} {z : lT} {R : List lT} {z0 : lT} {R0 : List lT} {F F' p p' c c1 c' m m1 m' : Nat} {σ τ σ1 τ1 σ' τ' : lj_S} (hN0 : N0 = z0 :: R0) (h0 : z0.2.1 = kn) (g : GS e N0 (z :: R) F F' p p' c c1 m m1 σ τ σ1 τ1) (tx : TX (z :: R) σ1 τ1 σ' τ') (zz : fz 0 c1 0 m1 σ1 τ1 σ' τ') (hc : c1 ≤ c') (hm : m1 ≤ m') : z.2.1 = e ++ kn ∧ GR N0 ((z.1, kn, z.2.2) :: R) F F' p p' c c' m m' σ τ σ' τ' := by
  obtain ⟨a1, a2, a3, a4, a5, a6, a7⟩ := g
  have q := lvY_q a2
  obtain ⟨y, S, y', S', e1, e2, b1, b2, b3, b4⟩ := a2
  subst hN0
  obtain ⟨rfl, rfl⟩ := List.cons.inj e1
  obtain ⟨rfl, rfl⟩ := List.cons.inj e2
  refine ⟨by rw [b2, h0], a1.tr tx (fun q' _ hq => by rw [q]; exact hq), ⟨b1, h0.symm, b3, b4⟩, a3, a4, (by omega), (by omega), a7.tr (zz.mo (Nat.le_refl _) a5 (Nat.le_refl _) a6)⟩
/-- a scope that ends, in both -/
theorem sc_end {b : Nat → Int32} {n T : Nat} {Q : tkQ} {X : List Int32 → Prop} {FO0 : List fT} {nl rv : Nat} {fl : List Nat} {Z : List zT} {PL : List qT} {v : Nat} {W : List wT} {f : Nat} {s l lB : List Nat} {D : Nat} {F p c m : Nat} {σ τ : lj_S} {E : Nat → Prop} {oC oM : Option lj_O} (hT5 : T ≤ 520) {z0 : lT} {R0 : List lT} (hf0 : z0.1 = f) (hl0 : z0.2.1.map (·.2.2) = l) (hc0 : c + 40 ≤ 25 * p + 100) (hm0 : m + 40 ≤ 25 * p + 100) (hW : W.length < 3900) (hsB : sB s) (h : stR b n T Q X FO0 nl rv fl Z PL v ((2, Int32.ofNat (z0.2.1.length + baseN R0), 0, 0) :: W) f s l lB D (z0 :: R0) F p c m σ τ E 0 oC oM) : scR b n T Q X FO0 nl rv fl Z PL v W f s l lB D (z0 :: R0) F p c m σ τ E 1 (lj_bv oC (fun σ1 => lj_R lc_P 69 [.ref 6, .int (Int32.ofNat z0.2.1.length)] σ1) lj_up) oM := by
  rcases h with hf | ⟨σ', τ', p', c', m', wh', F', N', nl', e, nb, i1, i2, i3, i4, i5, i6, i7, i8, i9, i10, i11, i12⟩
  · exact Or.inl (flt_bv hf _)
  · have hbR : ∃ z R, N' = z :: R ∧ z.2.1 = e ++ z0.2.1 ∧ baseN R = baseN R0 ∧ z.1 = z0.1 := by
      obtain ⟨y, S, y', S', e1, e2, b1, b2, b3, b4⟩ := i4.2.1
      obtain ⟨rfl, rfl⟩ := List.cons.inj e1
      exact ⟨y', S', e2, b2, (lvX_map b4).2.2.1, b1⟩
    obtain ⟨z, R, rfl, hk, hbR, hz⟩ := hbR
    have Pa := i3.pop
    have c14 := Pa.1.c14 hT5
    have hpp := i4.2.2.2.1
    obtain ⟨σ3, τ3, c3, m3, j1, j2, j3, j4, j5, j6, j7, j8, j9, j10⟩ := cm_forget Pa.1 hk (by omega) (by omega) hT5
    have eL : mLoop τ' = mNx 1 τ3 := i3.go (Or.inr rfl) (by rw [rm_30, km_30_0, if_neg (by decide), if_neg (by decide), if_pos rfl, ← hbR, j2, bv_ok])
    rw [i1, bv_ok, j1, i2, eL, nx1 j3.2.1]
    have gr := GS_fg (kn := z0.2.1) rfl rfl (i4.r Pa.2) j4 j5 j6 j8
    have hl : z.2.1.map (·.2.2) = e.map (·.2.2) ++ l := by rw [hk, List.map_append, hl0]
    refine Or.inr ⟨σ3, τ3, p', c3, m3, wh', F', _, nl', nb, rfl, rfl, ⟨j3.1, j3.2.1, j3.2.2.1, LPr_eq j3.2.2.2.1 (fun _ _ _ => rfl) (fun _ _ _ => rfl) j6 j8 (fun _ _ => rfl), ⟨(Nat.le_refl _), j3.2.2.2.2.1.2⟩, (Nat.le_refl _)⟩, gr.2, i5, i7, (by omega), (by omega), fun x hx => ?_, i11, fun σ2 τ2 L => ?_⟩
    · obtain ⟨q1, q2, q3, q4, q5, q6⟩ := i10 x hx
      exact ⟨q1, (by omega), q3, (by omega), by rw [j5.1 22 x.1 (by omega) (by omega) (by omega) (by omega)]; exact q5, by rw [j5.2 20 x.2 (by omega) (by omega) (by omega) (by omega), lj_put_1, if_neg (by omega)]; exact q6⟩
    · have La : LB (z :: R) nb c c' m m' σ' (lj_put τ' 0 46 (Int32.ofNat W.length)) σ2 τ2 := ⟨j4.tr L.1 (fun q' _ hq => hq), fun k j q1 q2 q3 q4 q5 => (L.2.1 k j q1 q2 q3 (by omega) q5).trans (j5.1 k j q1 q2 (by omega) (by omega)), fun k j q1 q2 q3 q4 q5 => (L.2.2 k j q1 q2 q3 (by omega) q5).trans (j5.2 k j q1 q2 (by omega) (by omega))⟩
      have A1 := i12 σ2 τ2 (Pa.2.bkB La)
      refine A1.tr (fun y hy => ?_)
      rcases hy with hy | hy
      · rw [hy, ← hl, ← hf0, ← hz]
        refine (j10 s hsB σ2 τ2 (L.no i4.2.2.2.2.1 (Nat.le_refl _) i4.2.2.2.2.2.1 (Nat.le_refl _) (fun x hx => by have := i10 x hx; constructor <;> omega))).tr (fun y hy => ?_)
        rw [hy, hl0]
        exact seg_ex (Or.inl rfl)
      · exact seg_ex (Or.inr hy)
theorem bv_bv (o : Option lj_O) (k k2 : lj_S → Option lj_O) : lj_bv (lj_bv o k lj_up) k2 lj_up = lj_bv o (fun σ => lj_bv (k σ) k2 lj_up) lj_up := by
  match o with
  | none => rfl
  | some (.inl none, σ) => rfl
  | some (.inl (some _), σ) => rfl
  | some (.inr x, σ) => rfl
theorem scR.id {b : Nat → Int32} {n T : Nat} {Q : tkQ} {X : List Int32 → Prop} {FO0 : List fT} {nl rv : Nat} {fl : List Nat} {Z : List zT} {PL : List qT} {v : Nat} {W : List wT} {f : Nat} {s l lB : List Nat} {D : Nat} {N : List lT} {F p c m : Nat} {σ τ : lj_S} {E : Nat → Prop} {K : Nat} {oC oM : Option lj_O} (h : scR b n T Q X FO0 nl rv fl Z PL v W f s l lB D N F p c m σ τ E K oC oM) : scR b n T Q X FO0 nl rv fl Z PL v W f s l lB D N F p c m σ τ E K (lj_bv oC (fun σ2 => some (.inl none, σ2)) lj_up) oM := by
  rcases h with hf | ⟨σ', τ', p', c', m', wh', F', N', nl', nb, i1, i2⟩
  · exact Or.inl (flt_bv hf _)
  · exact Or.inr ⟨σ', τ', p', c', m', wh', F', N', nl', nb, by rw [i1, bv_ok], i2⟩
/-- scoped blocks with fewer than k tokens to come -/
def CD (b : Nat → Int32) (n T : Nat) (Q : tkQ) (X : List Int32 → Prop) (k : Nat) : Prop :=
  ∀ (F : Nat) (z0 : lT) (R0 : List lT) (FO0 : List fT) (nl rv : Nat) (fl : List Nat) (Z : List zT) (PL : List qT) (cl ml : Nat) (p v c m wh : Nat) (W : List wT) (σ τ : lj_S) (f : Nat) (s l lB : List Nat) (D : Nat), T - p < k → PS b n T Q X F (z0 :: R0) (((nl, rv), fl) :: FO0) Z PL cl ml p v c m wh ((0, 0, 0, 0) :: (2, Int32.ofNat (z0.2.1.length + baseN R0), 0, 0) :: W) σ τ → z0.1 = f → z0.2.1.map (·.2.2) = l → fls s fl → W.length + 19 ≤ 40 * v + 60 → c + 40 ≤ 25 * p + 100 → m + 40 ≤ 25 * p + 100 → bW b n T Q 13301 W m τ → lpH f ((z0 :: R0).length - 1) l lB D nl Z →
    scR b n T Q X FO0 nl rv fl Z PL v W f s l lB D (z0 :: R0) F p c m σ τ (fun p' => blE (Q p').1) 1 (lj_R lc_P 68 [.ref 6] σ) (mLoop τ)
theorem cd_of {b : Nat → Int32} {n T : Nat} {Q : tkQ} {X : List Int32 → Prop} (hT5 : T ≤ 520) (k : Nat) (hK : CK b n T Q X k) : CD b n T Q X k := by
  intro F z0 R0 FO0 nl rv fl Z PL cl ml p v c m wh W σ τ f s l lB D hTp hPS hf hl hs hW hc hm hbW hlp
  have hsB : sB s := hs.sb hPS.fv hPS.2.2.1.2.1
  have hNR := hPS.1.2.2.1
  have hz51 : z0.1 < 51 := hNR.1.1.1
  have h62 : σ.1 6 2 = Int32.ofNat z0.1 := hNR.2.2.2.2.2.2.1
  have h44 : σ.1 44 z0.1 = Int32.ofNat z0.2.1.length := hNR.1.1.2.2.1
  have hB : baseN (z0 :: R0) ≤ 50 * (z0 :: R0).length := baseN_le hNR.1
  have hR22 := hNR.2.2.2.2.2.1
  have hB' : z0.2.1.length + baseN R0 ≤ 1100 := by
    have : baseN (z0 :: R0) = z0.2.1.length + baseN R0 := rfl
    omega
  have hv := hPS.2.2.1.2.1
  have i1 : lj_in (Int32.ofNat z0.1) 51 := ofN_in hz51 (by omega)
  have e68 : lj_R lc_P 68 [.ref 6] σ = lj_bv (lj_bv (lj_R lc_P 61 [.ref 6] σ) (fun σ1 => lj_R lc_P 69 [.ref 6, .int (Int32.ofNat z0.2.1.length)] σ1) lj_up) (fun σ2 => some (.inl none, σ2)) lj_up := by
    rw [rc_68, kc_68_0, h62]
    simp only [if_pos i1, lz_onat (show z0.1 < 2147483648 by omega), h44]
    exact (bv_bv _ _ _).symm
  rw [e68]
  refine scR.id ?_
  exact sc_end hT5 hf hl hc hm (by omega) hsB (hK F (z0 :: R0) FO0 nl rv fl Z PL cl ml p v c m wh ((2, Int32.ofNat (z0.2.1.length + baseN R0), 0, 0) :: W) σ τ f s l lB D hTp hPS ⟨z0, R0, rfl, hf, hl⟩ hs (by simp; omega) hc hm (bW_sc (by omega) (by omega) hbW _ (by omega)) hlp)
