/-! statements: repeat -/
theorem c_cls100 {f K0 : Nat} (hf : f < 51) (hK : K0 ≤ 50) (x1 x3 x4 : Int32) : (∀ σ, σ.1 6 2 = Int32.ofNat f → σ.1 44 f = Int32.ofNat K0 → lj_D lc_P lc_M100 136 [.ref 6, .int x1, .int (Int32.ofNat K0), .int x3, .int x4] [] σ = lj_bv (lj_R lc_P 99 [.ref 6] σ) (fun σ1 => some (.inl none, σ1)) lj_up) ∧ (∀ (σ : lj_S) (K k : Nat), σ.1 6 2 = Int32.ofNat f → σ.1 44 f = Int32.ofNat (K + 1) → K0 ≤ K → K < 50 → σ.1 47 (50 * f + K) = Int32.ofNat k → k < 4000 → lj_D lc_P lc_M100 136 [.ref 6, .int x1, .int (Int32.ofNat K0), .int x3, .int x4] [] σ = lj_D lc_P lc_M100 136 [.ref 6, .int x1, .int (Int32.ofNat K0), .int x3, .int x4] [] (lj_put (lj_put σ 44 f (Int32.ofNat K)) 40 k (σ.1 5 0))) := by
  have i1 : lj_in (Int32.ofNat f) 51 := ofN_in hf (by omega)
  constructor
  · intro σ h1 h2
    rw [kc_100_136, h1]
    simp only [if_pos i1, lz_onat (show f < 2147483648 by omega), h2]
    rw [if_pos (by rw [lz_le]; exact Int.le_refl _)]
  · intro σ K k h1 h2 h3 h4 h5 h6
    have i2 : lj_in (Int32.ofNat (50 * f + K)) 2550 := ofN_in (by omega) (by omega)
    have i3 : lj_in (Int32.ofNat k) 4000 := ofN_in (by omega) (by omega)
    have e44 : ∀ y : Int32, (lj_put σ 44 f y).1 44 f = y := fun y => by rw [lj_put_1, if_pos ⟨rfl, rfl⟩]
    rw [kc_100_136, h1]
    simp only [if_pos i1, lz_onat (show f < 2147483648 by omega), h2, lz_pred', e44, lz_m50, if_pos i2, lz_onat (show 50 * f + K < 2147483648 by omega), h5, if_pos i3, lz_onat (show k < 2147483648 by omega)]
    rw [if_neg (by rw [lz_le, lz_lit (by omega), lz_lit (by omega)]; omega)]
theorem mP_50 (τ : lj_S) (m : Nat) (o a d l x : Int32) : mP (lj_put τ 0 50 x) m o a d l = lj_put (mP τ m o a d l) 0 50 x := by
  unfold mP
  rw [put_cm τ x o (by omega), put_cm _ x a (by omega), put_cm _ x d (by omega), put_cm _ x l (by omega), put_cm _ x _ (by omega)]
/-- scopes of e are closed in the component, known no more in the model -/
theorem cm_cls {b : Nat → Int32} {n T : Nat} {Q : tkQ} {X : List Int32 → Prop} {FO : List fT} {Z : List zT} {PL : List qT} {cl ml : Nat} {F : Nat} {p v c m wh : Nat} {W : List wT} {σ τ : lj_S} {z : lT} {R : List lT} (h : PS b n T Q X F (z :: R) FO Z PL cl ml p v c m wh W σ τ) {e kn : List kT} (hk : z.2.1 = e ++ kn) (hT : T ≤ 520) {D E : lj_S → Option lj_O} (hstop : ∀ σ, σ.1 6 2 = Int32.ofNat z.1 → σ.1 44 z.1 = Int32.ofNat kn.length → D σ = E σ) (hstep : ∀ (σ : lj_S) (K k : Nat), σ.1 6 2 = Int32.ofNat z.1 → σ.1 44 z.1 = Int32.ofNat (K + 1) → kn.length ≤ K → K < 50 → σ.1 47 (50 * z.1 + K) = Int32.ofNat k → k < 4000 → D σ = D (lj_put (lj_put σ 44 z.1 (Int32.ofNat K)) 40 k (σ.1 5 0))) :
    ∃ σ', D σ = E σ' ∧ PS b n T Q X F ((z.1, kn, z.2.2) :: R) FO Z PL cl ml p v c m wh W σ' (lj_put τ 0 50 (Int32.ofNat (kn.length + baseN R))) ∧ TX (z :: R) σ τ σ' (lj_put τ 0 50 (Int32.ofNat (kn.length + baseN R))) ∧ (∀ c0 m0, fz 0 c0 0 m0 σ τ σ' (lj_put τ 0 50 (Int32.ofNat (kn.length + baseN R)))) ∧ σ'.2 = σ.2 ∧ ∀ k j, k ≠ 44 → k ≠ 40 → σ'.1 k j = σ.1 k j := by
  have hNR := h.1.2.2.1
  have hLv := h.1.2.2.2.2.2.1
  have hz51 : z.1 < 51 := hNR.1.1.1
  have h62 : σ.1 6 2 = Int32.ofNat z.1 := hNR.2.2.2.2.2.2.1
  have h44 : σ.1 44 z.1 = Int32.ofNat (e ++ kn).length := by rw [← hk]; exact hNR.1.1.2.2.1
  have hl50 : (e ++ kn).length ≤ 50 := by rw [← hk]; exact hNR.1.1.2.2.2.1
  have hlen : (e ++ kn).length = kn.length + e.length := by simp; omega
  obtain ⟨fl, FO0, rfl⟩ : ∃ fl FO0, FO = fl :: FO0 := by
    cases FO with
    | nil => exact hLv.elim
    | cons fl FO0 => exact ⟨fl, FO0, rfl⟩
  have hks := hLv.1.2.2.2.2.2.1
  rw [hk] at hks
  obtain ⟨u1, u2, u3⟩ := ksc_app e hks
  have hS40 : lv σ 5 18 < 4000 := by
    have h1 := h.2.2.2.2.1.2.1.1
    have h2 := h.2.2.1.1
    have : (0 : Int) ≤ (rsv (fl :: FO0) : Int) := Int.natCast_nonneg _
    omega
  obtain ⟨σ', r1, r2, r3, r4, r5, r6, r7⟩ := cls_loop hz51 hstop hstep e.length σ h62 (by rw [h44, hlen]) (by omega) (fun i a b => by
    obtain ⟨k, x, v1, v2, v3, _⟩ := u2 i a (by omega)
    exact ⟨k, v2, (by omega)⟩)
  have cl := h.cls hk hT r2 r3 r4 r5 r6 r7 (τ' := lj_put τ 0 50 (Int32.ofNat (kn.length + baseN R))) (by rw [lj_put_1, if_pos ⟨rfl, rfl⟩]) (fun k j q => by rw [lj_put_1, if_neg q]) rfl
  exact ⟨σ', r1, cl.1, cl.2.1, cl.2.2, r5, r3⟩
theorem put_same (τ : lj_S) (k i : Nat) : lj_put τ k i (τ.1 k i) = τ := by
  refine Prod.ext ?_ rfl
  funext u w
  rw [lj_put_1]
  split
  · rename_i q; rw [q.1, q.2]
  · rfl
