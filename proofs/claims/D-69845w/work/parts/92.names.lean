/-! captured names: the two searches -/
theorem capS_fold (a a' lo x : Nat) (H : lT) (R : List lT) (hH : hasX H a lo x) : ∀ (P : List lT), (∀ z ∈ P, nfX z a) → capS a a' (P ++ H :: R) = match foldC a a' P lo x with
    | none => some none
    | some (l, y, P1) => some (some (l, y, P1 ++ H :: R))
  | [], _ => by
    rcases hH with ⟨rfl, h⟩ | ⟨rfl, h1, h2⟩
    · simp only [List.nil_append, capS, h, foldC]
    · simp only [List.nil_append, capS, h1, h2, foldC]
  | p :: P, h => by
    have hp := h p (List.mem_cons_self)
    simp only [List.cons_append, capS, hp.1, hp.2, foldC]
    rw [capS_fold a a' lo x H R hH P (fun z hz => h z (List.mem_cons_of_mem _ hz))]
    cases foldC a a' P lo x with
    | none => rfl
    | some v =>
      obtain ⟨l, y, P1⟩ := v
      simp only []
      by_cases e : p.2.2.length = 30
      · simp only [e, if_true]
      · simp only [if_neg e, List.cons_append]
theorem capS_none (a a' : Nat) : ∀ (P : List lT), (∀ z ∈ P, nfX z a) → capS a a' P = none
  | [], _ => rfl
  | p :: P, h => by
    have hp := h p (List.mem_cons_self)
    simp only [capS, hp.1, hp.2, capS_none a a' P (fun z hz => h z (List.mem_cons_of_mem _ hz))]
theorem parN_mem : ∀ (L : List lT) (y : lT) (T : List lT), ∃ w, (w ∈ L ∨ w = y) ∧ parN (L ++ y :: T) = Int32.ofNat w.1
  | [], y, T => ⟨y, Or.inr rfl, rfl⟩
  | p :: L, y, T => ⟨p, Or.inl (List.mem_cons_self), rfl⟩
theorem nmC_lt {σ : lj_S} : ∀ {N : List lT}, nmC σ N → ∀ z ∈ N, z.1 < 51
  | [], _, _, hz => by simp at hz
  | x :: R, h, z, hz => by
    rcases List.mem_cons.1 hz with e | e
    · rw [e]; exact h.1.1
    · exact nmC_lt h.2 z e
theorem nmC_mid {σ : lj_S} {y : lT} {T : List lT} : ∀ (P : List lT), nmC σ (P ++ y :: T) → nmC σ (y :: T)
  | [], h => h
  | _ :: P, h => nmC_mid P h.2
theorem nmM_mid {τ : lj_S} {y : lT} {T : List lT} : ∀ (P : List lT), nmM τ (P ++ y :: T) → nmM τ (y :: T)
  | [], h => h
  | _ :: P, h => nmM_mid P h.2
theorem c_cap_walk {σ : lj_S} (f a x3 x4 x6 : Int32) : ∀ (P : List lT) (y H : lT) (R : List lT), nmC σ (P ++ y :: H :: R) → ((P ++ y :: H :: R).map (·.1)).Nodup → lj_D lc_P lc_M90 110 [.ref 6, .int f, .int a, .int x3, .int x4, .int (Int32.ofNat H.1), .int x6, .int (parN (P ++ y :: H :: R))] [] σ = lj_D lc_P lc_M90 110 [.ref 6, .int f, .int a, .int x3, .int x4, .int (Int32.ofNat H.1), .int x6, .int (Int32.ofNat y.1)] [] σ
  | [], y, H, R, _, _ => rfl
  | p :: P, y, H, R, h, hn => by
    have h : nmC σ (p :: (P ++ y :: H :: R)) := h
    have hn : ((p :: (P ++ y :: H :: R)).map (·.1)).Nodup := hn
    simp only [List.map_cons, List.nodup_cons] at hn
    have ih := c_cap_walk f a x3 x4 x6 P y H R h.2 hn.2
    have ip : lj_in (Int32.ofNat p.1) 51 := ofN_in h.1.1 (by omega)
    have h51 := h.1.1
    obtain ⟨w, hw, ew⟩ := parN_mem P y (H :: R)
    have hH : H.1 < 51 := nmC_lt h H (by simp)
    have hww : w ∈ P ++ y :: H :: R := by
      rcases hw with z | z
      · exact List.mem_append_left _ z
      · rw [z]; simp
    have hw51 : w.1 < 51 := nmC_lt h.2 w hww
    have hne : w.1 ≠ H.1 := by
      intro e
      have nd := hn.2
      rw [List.map_append, List.nodup_append] at nd
      rcases hw with z | z
      · exact nd.2.2 w.1 (List.mem_map.2 ⟨w, z, rfl⟩) H.1 (List.mem_map.2 ⟨H, by simp, rfl⟩) e
      · rw [z] at e
        have := nd.2.1
        simp only [List.map_cons, List.nodup_cons] at this
        exact this.1 (by rw [e]; exact List.mem_cons_self)
    show lj_D lc_P lc_M90 110 [.ref 6, .int f, .int a, .int x3, .int x4, .int (Int32.ofNat H.1), .int x6, .int (Int32.ofNat p.1)] [] σ = _
    rw [kc_90_110]
    simp only [if_pos ip, lz_onat (show p.1 < 2147483648 by omega), h.1.2.1]
    rw [if_neg (by rw [ew]; exact fun z => hne ((ofN_eq (by omega) (by omega)).1 z))]
    exact ih
theorem c_cap_dn (a a' : Nat) (ha : a < 2600) (ha' : a' < 3000) (q3 : Int32) (pl : Nat) : ∀ (n : Nat) (P : List lT) (H : lT) (R : List lT) (σ : lj_S) (lo x : Nat) (x3 : Int32) (x7 : Value) (q0 : Nat), P.length = n → nmC σ (P ++ H :: R) → ((P ++ H :: R).map (·.1)).Nodup → lo < 2 → x < 50 → q0 < 51 → parN (P ++ H :: R) = Int32.ofNat q0 → (∀ σ', lf capC σ σ' → lj_br (lj_R lc_P 65 [.ref 6, .int 3] σ') (fun y2 σ1 => (bif Nat.blt y2 2000 then lj_up y2 σ1 else none)) lj_up = some (.inr 1, cFl σ' q3 pl)) →
    (∃ lo1 y P1 σ', foldC a a' P lo x = some (lo1, y, P1) ∧ lj_D lc_P lc_M90 101 [.ref 6, .int (Int32.ofNat q0), .int (Int32.ofNat a), .int x3, .int (Int32.ofNat x), .int (Int32.ofNat H.1), .int (Int32.ofNat lo), x7] [] σ = some (.inl (some (.int (Int32.ofNat y))), σ') ∧ nmC σ' (P1 ++ H :: R) ∧ lf capC σ σ' ∧ y < 50 ∧ lo1 < 2 ∧ ouC (P ++ H :: R) σ σ') ∨
    (foldC a a' P lo x = none ∧ ∃ σ', lj_D lc_P lc_M90 101 [.ref 6, .int (Int32.ofNat q0), .int (Int32.ofNat a), .int x3, .int (Int32.ofNat x), .int (Int32.ofNat H.1), .int (Int32.ofNat lo), x7] [] σ = some (.inr 1, cFl σ' q3 pl) ∧ lf capC σ σ')
  | 0, P, H, R, σ, lo, x, x3, x7, q0, hl, h, hn, hlo, hx, hq, hp, hW => by
    have : P = [] := List.length_eq_zero_iff.1 hl
    subst this
    have hH : H.1 < 51 := nmC_lt h H (by simp)
    have e : Int32.ofNat H.1 = Int32.ofNat q0 := hp
    refine Or.inl ⟨lo, x, [], σ, rfl, ?_, h, lf_rf _ _, hx, hlo, ouC_rf _ _⟩
    rw [kc_90_101, if_pos e]
  | n + 1, P, H, R, σ, lo, x, x3, x7, q0, hl, h, hn, hlo, hx, hq, hp, hW => by
    have hne : P ≠ [] := fun e => by rw [e] at hl; simp at hl
    obtain ⟨P', y, rfl⟩ : ∃ P' y, P = P' ++ [y] := ⟨P.dropLast, P.getLast hne, (List.dropLast_concat_getLast hne).symm⟩
    have e0 : P' ++ [y] ++ H :: R = P' ++ y :: H :: R := by simp
    rw [e0] at h hn hp
    have hl' : P'.length = n := by simpa using hl
    have hy51 : y.1 < 51 := nmC_lt h y (by simp)
    have hH51 : H.1 < 51 := nmC_lt h H (by simp)
    have hy := (nmC_mid P' h).1
    have iy : lj_in (Int32.ofNat y.1) 51 := ofN_in hy51 (by omega)
    have hHq : ¬ (Int32.ofNat H.1 = Int32.ofNat q0) := by
      intro e
      have e1 : H.1 = q0 := (ofN_eq (by omega) (by omega)).1 e
      obtain ⟨w, hw, ew⟩ := parN_mem P' y (H :: R)
      rw [ew] at hp
      have hww : w ∈ P' ++ y :: H :: R := by
        rcases hw with z | z
        · exact List.mem_append_left _ z
        · rw [z]; simp
      have hw51 : w.1 < 51 := nmC_lt h w hww
      have e2 : w.1 = q0 := (ofN_eq (by omega) (by omega)).1 hp
      have nd := hn
      rw [List.map_append, List.nodup_append] at nd
      rcases hw with z | z
      · exact nd.2.2 w.1 (List.mem_map.2 ⟨w, z, rfl⟩) H.1 (List.mem_map.2 ⟨H, by simp, rfl⟩) (by rw [e2, e1])
      · have := nd.2.1
        simp only [List.map_cons, List.nodup_cons] at this
        exact this.1 (by rw [← z, e2, ← e1]; exact List.mem_cons_self)
    have lo01 : Int32.ofNat lo = 0 ∨ Int32.ofNat lo = 1 := by
      rcases (by omega : lo = 0 ∨ lo = 1) with e | e
      · left; rw [e]; rfl
      · right; rw [e]; rfl
    have start : lj_D lc_P lc_M90 101 [.ref 6, .int (Int32.ofNat q0), .int (Int32.ofNat a), .int x3, .int (Int32.ofNat x), .int (Int32.ofNat H.1), .int (Int32.ofNat lo), x7] [] σ = lj_bi (lj_R lc_P 92 [.ref 6, .int (Int32.ofNat y.1), .int (Int32.ofNat a), .int (Int32.ofNat lo), .int (Int32.ofNat x)] σ) (fun y2 σ1 => lj_D lc_P lc_M90 101 [.ref 6, .int (Int32.ofNat q0), .int (Int32.ofNat a), .int x3, .int y2, .int (Int32.ofNat y.1), .int 0, .int (Int32.ofNat y.1)] [] σ1) lj_up := by
      rw [kc_90_101, if_neg hHq, ← hp, c_cap_walk _ _ _ _ _ P' y H R h hn, kc_90_110]
      simp only [if_pos iy, lz_onat (show y.1 < 2147483648 by omega), hy.2.1]
      rw [if_pos (show parN (H :: R) = Int32.ofNat H.1 from rfl)]
    rw [foldC_snoc]
    by_cases e30 : y.2.2.length = 30
    · refine Or.inr ⟨by rw [if_pos e30], σ, ?_, lf_rf _ _⟩
      rw [start, rc_92, kc_92_0]
      simp only [if_pos iy, lz_onat (show y.1 < 2147483648 by omega), hy.2.2.2.2.2.1]
      rw [if_pos (by rw [e30]; rfl), hW σ (lf_rf _ _)]
      rfl
    · have h30 : y.2.2.length < 30 := by have := hy.2.2.2.2.2.2.1; omega
      have hadd := nmC_add (a := a) (a' := a') (lo := lo) (x := x) h30 ha ha' hlo hx P' (H :: R) h hn
      have f1 := cCap_lf σ y.1 y.2.2.length a (Int32.ofNat lo) x
      have hn' : ((P' ++ addX y a a' lo x :: H :: R).map (·.1)).Nodup := by
        have : (P' ++ addX y a a' lo x :: H :: R).map (·.1) = (P' ++ y :: H :: R).map (·.1) := by simp [addX]
        rw [this]; exact hn
      have ih := c_cap_dn a a' ha ha' q3 pl n P' (addX y a a' lo x) (H :: R) _ 0 y.2.2.length x3 (.int (Int32.ofNat y.1)) q0 hl' hadd hn' (by omega) (by omega) hq ((parN_add P' (H :: R) y (addX y a a' lo x) rfl).trans hp) (fun σ' g => hW σ' (f1.tr g))
      rw [start, c_addC hy51 a hy.2.2.2.2.2 e30 _ lo01 x, if_neg e30]
      unfold lj_bi
      simp only []
      rcases ih with ⟨lo1, y1, P1, σ', i1, i2, i3, i4, i5, i6, i7⟩ | ⟨i1, σ', i2, i3⟩
      · refine Or.inl ⟨lo1, y1, P1 ++ [addX y a a' lo x], σ', by rw [i1], i2, ?_, f1.tr i4, i5, i6, by rw [e0]; exact (ouC_cap (by simp) σ _ a _ x h30).tr (ouC_q (by simp [addX]) i7)⟩
        rw [List.append_assoc]
        exact i3
      · exact Or.inr ⟨by rw [i1], σ', i2, f1.tr i3⟩
theorem knF_b {σ : lj_S} {q a x : Nat} : ∀ {kn : List kT}, knC σ q kn → knF kn a = some x → x < 50
  | [], _, h => by simp [knF] at h
  | e :: r, g, h => by
    unfold knF at h
    by_cases c : e.1 = a
    · rw [if_pos c] at h; rw [← Option.some.inj h]; exact g.1.2.2.2.2
    · rw [if_neg c] at h; exact knF_b g.2 h
theorem c_cap_up (f a : Nat) (hf : f < 51) (ha : a < 2600) (σ : lj_S) : ∀ (L : List lT) (x7 : Value), nmC σ L → (∀ z ∈ L, z.1 ≠ f) →
    ((∀ z ∈ L, nfX z a) ∧ lj_D lc_P lc_M90 11 [.ref 6, .int (Int32.ofNat f), .int (Int32.ofNat a), .int (parN L), .int (-1), .int (-1), .int 0, x7] [] σ = some (.inl (some (.int (-1))), σ)) ∨
    (∃ P H R lo x y3 y7, L = P ++ H :: R ∧ (∀ z ∈ P, nfX z a) ∧ hasX H a lo x ∧ lo < 2 ∧ x < 50 ∧ lj_D lc_P lc_M90 11 [.ref 6, .int (Int32.ofNat f), .int (Int32.ofNat a), .int (parN L), .int (-1), .int (-1), .int 0, x7] [] σ = lj_D lc_P lc_M90 101 [.ref 6, .int (Int32.ofNat f), .int (Int32.ofNat a), .int y3, .int (Int32.ofNat x), .int (Int32.ofNat H.1), .int (Int32.ofNat lo), y7] [] σ)
  | [], x7, _, _ => by
    refine Or.inl ⟨fun z hz => by simp at hz, ?_⟩
    rw [show parN [] = -1 from rfl, kc_90_11, if_pos rfl, kc_90_86, if_pos rfl, kc_90_98]
  | z :: L, x7, h, hne => by
    have hz51 := h.1.1
    have hzf : z.1 ≠ f := hne z (List.mem_cons_self)
    have izz : lj_in (Int32.ofNat z.1) 51 := ofN_in hz51 (by omega)
    have nef : ¬ (Int32.ofNat z.1 = Int32.ofNat f) := fun e => hzf ((ofN_eq (by omega) (by omega)).1 e)
    have ih := fun y7 => c_cap_up f a hf ha σ L y7 h.2 (fun w hw => hne w (List.mem_cons_of_mem _ hw))
    -- what has it
    have fin : ∀ (x lo : Int32) (y7 : Int32), lj_D lc_P lc_M90 83 [.ref 6, .int (Int32.ofNat f), .int (Int32.ofNat a), .int (Int32.ofNat z.1), .int x, .int (Int32.ofNat z.1), .int lo, .int y7] [] σ = lj_D lc_P lc_M90 101 [.ref 6, .int (Int32.ofNat f), .int (Int32.ofNat a), .int (Int32.ofNat z.1), .int x, .int (Int32.ofNat z.1), .int lo, .int y7] [] σ := fun x lo y7 => by
      rw [kc_90_83, kc_90_11, if_neg (ofN_nm1 (by omega)), if_neg (ofN_nm1 (by omega)), kc_90_86, if_neg (ofN_nm1 (by omega)), if_neg nef]
    have go : lj_D lc_P lc_M90 11 [.ref 6, .int (Int32.ofNat f), .int (Int32.ofNat a), .int (parN (z :: L)), .int (-1), .int (-1), .int 0, x7] [] σ = (if optI (knF z.2.1 a) < 0 then lj_D lc_P lc_M90 61 [.ref 6, .int (Int32.ofNat f), .int (Int32.ofNat a), .int (Int32.ofNat z.1), .int (-1), .int (-1), .int 0, .int (optI (cpI z.2.2 a 0))] [] σ else lj_D lc_P lc_M90 83 [.ref 6, .int (Int32.ofNat f), .int (Int32.ofNat a), .int (Int32.ofNat z.1), .int (optI (knF z.2.1 a)), .int (Int32.ofNat z.1), .int 1, .int (optI (cpI z.2.2 a 0))] [] σ) := by
      rw [show parN (z :: L) = Int32.ofNat z.1 from rfl, kc_90_11, if_neg (ofN_nm1 (by omega)), if_pos rfl, c_seekC hz51 a ha h.1.2.2.2.2.2]
      unfold lj_bi
      simp only []
      rw [if_neg nef, c_localOf hz51 a ha h.1.2.2.2.1 h.1.2.2.1 h.1.2.2.2.2.1]
      simp only []
      rw [c_localOf hz51 a ha h.1.2.2.2.1 h.1.2.2.1 h.1.2.2.2.2.1]
    cases hk : knF z.2.1 a with
    | some s =>
      have hs := knF_b h.1.2.2.2.2.1 hk
      refine Or.inr ⟨[], z, L, 1, s, Int32.ofNat z.1, .int (optI (cpI z.2.2 a 0)), rfl, fun w hw => by simp at hw, Or.inl ⟨rfl, hk⟩, by omega, hs, ?_⟩
      rw [go, hk, if_neg (show ¬ (optI (some s) < 0) from ofN_nneg (by omega)), fin]
      rfl
    | none =>
      cases hc : cpI z.2.2 a 0 with
      | some i =>
        have hi := (cpI_b _ _ _ _ hc).2.1
        have h30 := h.1.2.2.2.2.2.2.1
        refine Or.inr ⟨[], z, L, 0, i, Int32.ofNat z.1, .int (optI (some i)), rfl, fun w hw => by simp at hw, Or.inr ⟨rfl, hk, hc⟩, by omega, by omega, ?_⟩
        rw [go, hk, if_pos (show optI none < 0 by decide), hc, kc_90_61, if_neg (show ¬ (optI (some i) < 0) from ofN_nneg (by omega)), fin]
        rfl
      | none =>
        have e : lj_D lc_P lc_M90 11 [.ref 6, .int (Int32.ofNat f), .int (Int32.ofNat a), .int (parN (z :: L)), .int (-1), .int (-1), .int 0, x7] [] σ = lj_D lc_P lc_M90 11 [.ref 6, .int (Int32.ofNat f), .int (Int32.ofNat a), .int (parN L), .int (-1), .int (-1), .int 0, .int (optI none)] [] σ := by
          rw [go, hk, if_pos (show optI none < 0 by decide), hc, kc_90_61, if_pos (show optI none < 0 by decide), if_pos izz, lz_onat (by omega), h.1.2.1, kc_90_83]
        rw [e]
        rcases ih (.int (optI none)) with ⟨i1, i2⟩ | ⟨P, H, R, lo, x, y3, y7, i1, i2, i3, i4, i5, i6⟩
        · exact Or.inl ⟨fun w hw => by
            rcases List.mem_cons.1 hw with q | q
            · rw [q]; exact ⟨hk, hc⟩
            · exact i1 w q, i2⟩
        · exact Or.inr ⟨z :: P, H, R, lo, x, y3, y7, by rw [i1]; rfl, fun w hw => by
            rcases List.mem_cons.1 hw with q | q
            · rw [q]; exact ⟨hk, hc⟩
            · exact i2 w q, i3, i4, i5, i6⟩
/-- the component's captured name -/
theorem c_capturedOf (a a' : Nat) (ha : a < 2600) (ha' : a' < 3000) (q3 : Int32) (pl : Nat) (σ : lj_S) (z : lT) (R : List lT) (h : nmC σ (z :: R)) (hn : ((z :: R).map (·.1)).Nodup) (hk : knF z.2.1 a = none) (hW : ∀ σ', lf capC σ σ' → lj_br (lj_R lc_P 65 [.ref 6, .int 3] σ') (fun y2 σ1 => (bif Nat.blt y2 2000 then lj_up y2 σ1 else none)) lj_up = some (.inr 1, cFl σ' q3 pl)) :
    (capS a a' (z :: R) = none ∧ lj_R lc_P 90 [.ref 6, .int (Int32.ofNat z.1), .int (Int32.ofNat a)] σ = some (.inl (some (.int (-1))), σ)) ∨
    (∃ lo y N' σ', capS a a' (z :: R) = some (some (lo, y, N')) ∧ lj_R lc_P 90 [.ref 6, .int (Int32.ofNat z.1), .int (Int32.ofNat a)] σ = some (.inl (some (.int (Int32.ofNat y))), σ') ∧ nmC σ' N' ∧ lf capC σ σ' ∧ y < 50 ∧ ouC (z :: R) σ σ') ∨
    (capS a a' (z :: R) = some none ∧ ∃ σ', lj_R lc_P 90 [.ref 6, .int (Int32.ofNat z.1), .int (Int32.ofNat a)] σ = some (.inr 1, cFl σ' q3 pl) ∧ lf capC σ σ') := by
  have hz51 := h.1.1
  have izz : lj_in (Int32.ofNat z.1) 51 := ofN_in hz51 (by omega)
  have hnd := hn
  simp only [List.map_cons, List.nodup_cons] at hnd
  have start : lj_R lc_P 90 [.ref 6, .int (Int32.ofNat z.1), .int (Int32.ofNat a)] σ = lj_D lc_P lc_M90 61 [.ref 6, .int (Int32.ofNat z.1), .int (Int32.ofNat a), .int (Int32.ofNat z.1), .int (-1), .int (-1), .int 0, .int (optI (cpI z.2.2 a 0))] [] σ := by
    rw [rc_90, kc_90_0, kc_90_11, if_neg (ofN_nm1 (by omega)), if_pos rfl, c_seekC hz51 a ha h.1.2.2.2.2.2]
    unfold lj_bi
    simp only []
    rw [if_pos trivial]
  cases hc : cpI z.2.2 a 0 with
  | some i =>
    have hi := (cpI_b _ _ _ _ hc).2.1
    have h30 := h.1.2.2.2.2.2.2.1
    refine Or.inr (Or.inl ⟨0, i, z :: R, σ, by simp only [capS, hk, hc], ?_, h, lf_rf _ _, by omega, ouC_rf _ _⟩)
    rw [start, hc, kc_90_61, if_neg (show ¬ (optI (some i) < 0) from ofN_nneg (by omega)), kc_90_83, kc_90_11, if_neg (ofN_nm1 (by omega)), if_neg (ofN_nm1 (by omega)), kc_90_86, if_neg (ofN_nm1 (by omega)), if_pos rfl, kc_90_98]
    rfl
  | none =>
    have e1 : lj_R lc_P 90 [.ref 6, .int (Int32.ofNat z.1), .int (Int32.ofNat a)] σ = lj_D lc_P lc_M90 11 [.ref 6, .int (Int32.ofNat z.1), .int (Int32.ofNat a), .int (parN R), .int (-1), .int (-1), .int 0, .int (optI none)] [] σ := by
      rw [start, hc, kc_90_61, if_pos (show optI none < 0 by decide), if_pos izz, lz_onat (by omega), h.1.2.1, kc_90_83]
    rw [e1]
    rcases c_cap_up z.1 a hz51 ha σ R (.int (optI none)) h.2 (fun w hw e => hnd.1 (List.mem_map.2 ⟨w, hw, e⟩)) with ⟨i1, i2⟩ | ⟨P, H, R', lo, x, y3, y7, i1, i2, i3, i4, i5, i6⟩
    · refine Or.inl ⟨capS_none a a' (z :: R) (fun w hw => ?_), i2⟩
      rcases List.mem_cons.1 hw with q | q
      · rw [q]; exact ⟨hk, hc⟩
      · exact i1 w q
    · subst i1
      have hP : ∀ w ∈ z :: P, nfX w a := fun w hw => by
        rcases List.mem_cons.1 hw with q | q
        · rw [q]; exact ⟨hk, hc⟩
        · exact i2 w q
      have hS := capS_fold a a' lo x H R' i3 (z :: P) hP
      rw [i6]
      rcases c_cap_dn a a' ha ha' q3 pl (z :: P).length (z :: P) H R' σ lo x y3 y7 z.1 rfl h hn i4 i5 hz51 rfl hW with ⟨lo1, y, P1, σ', j1, j2, j3, j4, j5, j6, j7⟩ | ⟨j1, σ', j2, j3⟩
      · rw [j1] at hS
        exact Or.inr (Or.inl ⟨lo1, y, P1 ++ H :: R', σ', hS, j2, j3, j4, j5, j7⟩)
      · rw [j1] at hS
        exact Or.inr (Or.inr ⟨hS, σ', j2, j3⟩)
