/-! captured names: the model's search -/
def foldM (a a' : Nat) : List lT → Nat → Nat → Nat × Nat × List lT × Bool
  | [], lo, y => (lo, y, [], false)
  | p :: P, lo, y => ((stepM a a' p (foldM a a' P lo y).1 (foldM a a' P lo y).2.1).1, (stepM a a' p (foldM a a' P lo y).1 (foldM a a' P lo y).2.1).2.1, (stepM a a' p (foldM a a' P lo y).1 (foldM a a' P lo y).2.1).2.2.1 :: (foldM a a' P lo y).2.2.1, (stepM a a' p (foldM a a' P lo y).1 (foldM a a' P lo y).2.1).2.2.2 || (foldM a a' P lo y).2.2.2)
theorem foldM_snoc (a a' : Nat) (p : lT) (lo y : Nat) : ∀ (P : List lT), foldM a a' (P ++ [p]) lo y = ((foldM a a' P (stepM a a' p lo y).1 (stepM a a' p lo y).2.1).1, (foldM a a' P (stepM a a' p lo y).1 (stepM a a' p lo y).2.1).2.1, (foldM a a' P (stepM a a' p lo y).1 (stepM a a' p lo y).2.1).2.2.1 ++ [(stepM a a' p lo y).2.2.1], (foldM a a' P (stepM a a' p lo y).1 (stepM a a' p lo y).2.1).2.2.2 || (stepM a a' p lo y).2.2.2)
  | [] => by simp [foldM]
  | q :: P => by
    have ih := foldM_snoc a a' p lo y P
    simp only [List.cons_append, foldM, ih, List.cons_append, Bool.or_assoc]
theorem resM_fold (a a' s : Nat) (H : lT) (R : List lT) (hH : knF H.2.1 a = some s) : ∀ (P : List lT), (∀ z ∈ P, knF z.2.1 a = none) → resM a a' (P ++ H :: R) = some ((foldM a a' P 1 s).1, (foldM a a' P 1 s).2.1, (foldM a a' P 1 s).2.2.1 ++ H :: R, (foldM a a' P 1 s).2.2.2)
  | [], _ => by simp only [List.nil_append, resM, hH, foldM]
  | p :: P, h => by
    simp only [List.cons_append, resM, h p (List.mem_cons_self), foldM]
    rw [resM_fold a a' s H R hH P (fun z hz => h z (List.mem_cons_of_mem _ hz))]
theorem resM_none (a a' : Nat) : ∀ (P : List lT), (∀ z ∈ P, knF z.2.1 a = none) → resM a a' P = none
  | [], _ => rfl
  | p :: P, h => by
    simp only [resM, h p (List.mem_cons_self), resM_none a a' P (fun z hz => h z (List.mem_cons_of_mem _ hz))]
def capM5 (k j : Nat) : Bool := capM k j || (k == 0 && (j == 4 || j == 5))
theorem cpM_cg {τ τ' : lj_S} {q : Nat} {cp : List cT} (h : cpM τ q cp) (h15 : ∀ j, τ'.1 15 j = τ.1 15 j) (h18 : ∀ j, τ'.1 18 j = τ.1 18 j) (h19 : ∀ j, τ'.1 19 j = τ.1 19 j) : cpM τ' q cp :=
  ⟨by rw [h15]; exact h.1, h.2.1, fun i hi => by rw [h18, h19]; exact h.2.2 i hi⟩
theorem nmM_cg {τ τ' : lj_S} (h15 : ∀ j, τ'.1 15 j = τ.1 15 j) (h18 : ∀ j, τ'.1 18 j = τ.1 18 j) (h19 : ∀ j, τ'.1 19 j = τ.1 19 j) (h29 : ∀ j, τ'.1 29 j = τ.1 29 j) (h30 : ∀ j, τ'.1 30 j = τ.1 30 j) (h31 : ∀ j, τ'.1 31 j = τ.1 31 j) (h32 : ∀ j, τ'.1 32 j = τ.1 32 j) : ∀ {N : List lT}, nmM τ N → nmM τ' N
  | [], _ => trivial
  | x :: R, h => ⟨⟨h.1.1, by rw [h32]; exact h.1.2.1, by rw [h31]; exact h.1.2.2.1, h.1.2.2.2.1, knM_cg h29 h30 h.1.2.2.2.2.1, cpM_cg h.1.2.2.2.2.2 h15 h18 h19⟩, nmM_cg h15 h18 h19 h29 h30 h31 h32 h.2⟩
theorem cpC_cg {σ σ' : lj_S} {q : Nat} {cp : List cT} (h : cpC σ q cp) (h33 : ∀ j, σ'.1 33 j = σ.1 33 j) (h34 : ∀ j, σ'.1 34 j = σ.1 34 j) (h35 : ∀ j, σ'.1 35 j = σ.1 35 j) (h48 : ∀ j, σ'.1 48 j = σ.1 48 j) : cpC σ' q cp :=
  ⟨by rw [h33]; exact h.1, h.2.1, fun i hi => by rw [h34, h35, h48]; exact h.2.2 i hi⟩
theorem nmC_cg {σ σ' : lj_S} (h33 : ∀ j, σ'.1 33 j = σ.1 33 j) (h34 : ∀ j, σ'.1 34 j = σ.1 34 j) (h35 : ∀ j, σ'.1 35 j = σ.1 35 j) (h48 : ∀ j, σ'.1 48 j = σ.1 48 j) (h43 : ∀ j, σ'.1 43 j = σ.1 43 j) (h44 : ∀ j, σ'.1 44 j = σ.1 44 j) (h45 : ∀ j, σ'.1 45 j = σ.1 45 j) (h46 : ∀ j, σ'.1 46 j = σ.1 46 j) : ∀ {N : List lT}, nmC σ N → nmC σ' N
  | [], _ => trivial
  | x :: R, h => ⟨⟨h.1.1, by rw [h43]; exact h.1.2.1, by rw [h44]; exact h.1.2.2.1, h.1.2.2.2.1, knC_cg h45 h46 h.1.2.2.2.2.1, cpC_cg h.1.2.2.2.2.2 h33 h34 h35 h48⟩, nmC_cg h33 h34 h35 h48 h43 h44 h45 h46 h.2⟩
theorem m_dn (a a' : Nat) (ha : a < 2600) (ha' : a' < 3000) (pl : Nat) (x1 x3 x4 x5 : Int32) : ∀ (n : Nat) (P : List lT) (H : lT) (R : List lT) (τ : lj_S) (lo x : Nat), P.length = n → nmM τ (P ++ H :: R) → ((P ++ H :: R).map (·.1)).Nodup → lo < 2 → x < 50 → τ.1 0 53 = Int32.ofNat ((P ++ H :: R).length - 1) → (P ++ H :: R).length ≤ 52 →
    ∃ τ', lj_D lm_P lm_M51 88 [.ref 0, .int x1, .int (Int32.ofNat pl), .int x3, .int x4, .int x5, .int (Int32.ofNat x), .int (Int32.ofNat lo), .int (Int32.ofNat (R.length + 1))] [] τ = some (.inl none, lj_put (lj_put τ' 0 61 (if x3 = τ.1 0 53 then 0 else 1)) 0 62 (Int32.ofNat (foldM a a' P lo x).2.1)) ∧ nmM τ' ((foldM a a' P lo x).2.2.1 ++ H :: R) ∧ lf capM5 τ τ' ∧ τ'.1 0 4 = (if (foldM a a' P lo x).2.2.2 = true ∧ τ.1 0 4 = 0 then 3 else τ.1 0 4) ∧ τ'.1 0 5 = (if (foldM a a' P lo x).2.2.2 = true ∧ τ.1 0 4 = 0 then Int32.ofNat pl else τ.1 0 5) ∧ (foldM a a' P lo x).2.1 < 50 ∧ (foldM a a' P lo x).1 < 2 ∧ τ'.2 = τ.2 ∧ ouM (P ++ H :: R) τ τ'
  | 0, P, H, R, τ, lo, x, hl, h, hn, hlo, hx, h53, h52 => by
    have : P = [] := List.length_eq_zero_iff.1 hl
    subst this
    simp only [List.nil_append, List.length_cons, Nat.add_sub_cancel] at h53 h52
    refine ⟨τ, ?_, h, lf_rf _ _, by simp [foldM], by simp [foldM], hx, hlo, rfl, ouM_rf _ _⟩
    rw [km_51_88, if_pos (by rw [h53, lz_lt, lz_lit (by omega), lz_lit (by omega)]; omega), km_51_133, km_51_133]
    by_cases e : x3 = τ.1 0 53
    · rw [if_pos e, if_pos e]; rfl
    · rw [if_neg e, if_neg e]; rfl
  | n + 1, P, H, R, τ, lo, x, hl, h, hn, hlo, hx, h53, h52 => by
    have hne : P ≠ [] := fun e => by rw [e] at hl; simp at hl
    obtain ⟨P', y, rfl⟩ : ∃ P' y, P = P' ++ [y] := ⟨P.dropLast, P.getLast hne, (List.dropLast_concat_getLast hne).symm⟩
    have e0 : P' ++ [y] ++ H :: R = P' ++ y :: H :: R := by simp
    rw [e0] at h hn h53 h52
    have hl' : P'.length = n := by simpa using hl
    have hy := (nmM_mid P' h).1
    have hy51 := hy.1
    have h30 := hy.2.2.2.2.2.2.1
    have hlen : (P' ++ y :: H :: R).length = P'.length + (R.length + 1) + 1 := by simp; omega
    have im : lj_in (Int32.ofNat (R.length + 1)) 52 := ofN_in (by omega) (by omega)
    -- one function captures it
    have one : lj_R lm_P 52 [.ref 0, .int (Int32.ofNat (R.length + 1)), .int (Int32.ofNat lo), .int (Int32.ofNat x), .int (Int32.ofNat pl)] τ = match cpJ y.2.2 lo x 0 with
        | some k => some (.inl (some (.int (Int32.ofNat k))), τ)
        | none => if y.2.2.length = 30 then lj_bi (lj_R lm_P 37 [.ref 0, .int 3, .int (Int32.ofNat pl)] τ) (fun y2 σ1 => some (.inl (some (.int 0)), σ1)) lj_up else some (.inl (some (.int (Int32.ofNat y.2.2.length))), mCap τ y.1 y.2.2.length (Int32.ofNat lo) x) := by
      rw [rm_52, km_52_0, if_pos im, lz_onat (by omega), show τ.1 32 (R.length + 1) = Int32.ofNat y.1 from hy.2.1]
      exact m_cap_loop hy51 hy.2.2.2.2.2 lo x hlo hx _ _ y.2.2.length 0 (by omega)
    have start : lj_D lm_P lm_M51 88 [.ref 0, .int x1, .int (Int32.ofNat pl), .int x3, .int x4, .int x5, .int (Int32.ofNat x), .int (Int32.ofNat lo), .int (Int32.ofNat (R.length + 1))] [] τ = lj_bi (lj_R lm_P 52 [.ref 0, .int (Int32.ofNat (R.length + 1)), .int (Int32.ofNat lo), .int (Int32.ofNat x), .int (Int32.ofNat pl)] τ) (fun y2 σ1 => lj_D lm_P lm_M51 88 [.ref 0, .int x1, .int (Int32.ofNat pl), .int x3, .int x4, .int x5, .int y2, .int 0, .int (Int32.ofNat ((H :: R).length + 1))] [] σ1) lj_up := by
      rw [km_51_88, if_neg (by rw [h53, lz_lt, lz_lit (by omega), lz_lit (by omega)]; omega), lz_osucc]; rfl
    -- how it goes on
    have more : ∀ (τ1 : lj_S) (y1 : lT) (k : Nat) (fl : Bool), nmM τ1 (P' ++ y1 :: H :: R) → y1.1 = y.1 → k < 50 → lf capM5 τ τ1 → τ1.1 0 4 = (if fl = true ∧ τ.1 0 4 = 0 then 3 else τ.1 0 4) → τ1.1 0 5 = (if fl = true ∧ τ.1 0 4 = 0 then Int32.ofNat pl else τ.1 0 5) → stepM a a' y lo x = (0, k, y1, fl) → τ1.2 = τ.2 → ouM (P' ++ y :: H :: R) τ τ1 →
        ∃ τ', lj_D lm_P lm_M51 88 [.ref 0, .int x1, .int (Int32.ofNat pl), .int x3, .int x4, .int x5, .int (Int32.ofNat k), .int 0, .int (Int32.ofNat ((H :: R).length + 1))] [] τ1 = some (.inl none, lj_put (lj_put τ' 0 61 (if x3 = τ.1 0 53 then 0 else 1)) 0 62 (Int32.ofNat (foldM a a' (P' ++ [y]) lo x).2.1)) ∧ nmM τ' ((foldM a a' (P' ++ [y]) lo x).2.2.1 ++ H :: R) ∧ lf capM5 τ τ' ∧ τ'.1 0 4 = (if (foldM a a' (P' ++ [y]) lo x).2.2.2 = true ∧ τ.1 0 4 = 0 then 3 else τ.1 0 4) ∧ τ'.1 0 5 = (if (foldM a a' (P' ++ [y]) lo x).2.2.2 = true ∧ τ.1 0 4 = 0 then Int32.ofNat pl else τ.1 0 5) ∧ (foldM a a' (P' ++ [y]) lo x).2.1 < 50 ∧ (foldM a a' (P' ++ [y]) lo x).1 < 2 ∧ τ'.2 = τ.2 ∧ ouM (P' ++ [y] ++ H :: R) τ τ' := by
      intro τ1 y1 k fl g1 g2 g3 g4 g5 g6 g7 g8 g9
      have hm : (P' ++ y1 :: H :: R).map (·.1) = (P' ++ y :: H :: R).map (·.1) := by simp [g2]
      have hlen1 : (P' ++ y1 :: H :: R).length = (P' ++ y :: H :: R).length := by simp
      have e53 : τ1.1 0 53 = τ.1 0 53 := (g4 0 53 rfl).1
      obtain ⟨τ', r1, r2, r3, r4, r5, r6, r7, r8, r9⟩ := m_dn a a' ha ha' pl x1 x3 x4 x5 n P' y1 (H :: R) τ1 0 k hl' g1 (by rw [hm]; exact hn) (by omega) g3 (by rw [e53, hlen1]; exact h53) (by rw [hlen1]; exact h52)
      have hf : foldM a a' (P' ++ [y]) lo x = ((foldM a a' P' 0 k).1, (foldM a a' P' 0 k).2.1, (foldM a a' P' 0 k).2.2.1 ++ [y1], (foldM a a' P' 0 k).2.2.2 || fl) := by
        rw [foldM_snoc, g7]
      rw [hf]
      refine ⟨τ', ?_, ?_, g4.tr r3, ?_, ?_, r6, r7, r8.trans g8, by rw [e0]; exact g9.tr (ouM_q hm r9)⟩
      · rw [e53] at r1; exact r1
      · simp only [List.append_assoc]; exact r2
      · rw [r4, g5]
        by_cases z : τ.1 0 4 = 0
        · cases hfl : fl <;> cases hb : (foldM a a' P' 0 k).2.2.2 <;> simp [z]
        · simp [z]
      · rw [r5, g5, g6]
        by_cases z : τ.1 0 4 = 0
        · cases hfl : fl <;> cases hb : (foldM a a' P' 0 k).2.2.2 <;> simp [z]
        · simp [z]
    rw [start, one]
    cases hj : cpJ y.2.2 lo x 0 with
    | some k =>
      have hk := (cpJ_b _ _ _ _ _ hj).2.1
      simp only []
      unfold lj_bi
      simp only []
      exact more τ y k false h rfl (by omega) (lf_rf _ _) (by simp) (by simp) (by simp only [stepM, hj]) rfl (ouM_rf _ _)
    | none =>
      simp only []
      by_cases e30 : y.2.2.length = 30
      · rw [if_pos e30, rm_37, km_37_0, km_37_17, km_37_17]
        have hst : stepM a a' y lo x = (0, 0, y, true) := by simp only [stepM, hj, e30, if_true]
        by_cases z : τ.1 0 4 = 0
        · rw [if_pos z]
          unfold lj_bi
          simp only []
          refine more _ y 0 true (nmM_cg (fun j => ?_) (fun j => ?_) (fun j => ?_) (fun j => ?_) (fun j => ?_) (fun j => ?_) (fun j => ?_) h) rfl (by omega) (lf_put (lf_put (lf_rf _ _) _ _ _ rfl) _ _ _ rfl) ?_ ?_ hst rfl (ouM_lf (A := fun k j => k == 0) _ (lf_put (lf_put (lf_rf _ _) _ _ _ rfl) _ _ _ rfl) (fun _ => rfl) (fun _ => rfl) (fun _ => rfl))
          all_goals first | (rw [lj_put_1, if_neg (by omega), lj_put_1, if_neg (by omega)]; done) | skip
          · rw [lj_put_1, if_neg (by omega), lj_put_1, if_pos ⟨rfl, rfl⟩, if_pos ⟨rfl, z⟩]
          · rw [lj_put_1, if_pos ⟨rfl, rfl⟩, if_pos ⟨rfl, z⟩]
        · rw [if_neg z]
          unfold lj_bi
          simp only []
          exact more τ y 0 true h rfl (by omega) (lf_rf _ _) (by rw [if_neg (fun q => z q.2)]) (by rw [if_neg (fun q => z q.2)]) hst rfl (ouM_rf _ _)
      · rw [if_neg e30]
        unfold lj_bi
        simp only []
        have f1 := mCap_lf τ y.1 y.2.2.length (Int32.ofNat lo) x
        exact more _ (addX y a a' lo x) y.2.2.length false (nmM_add (by omega) ha ha' hlo hx P' (H :: R) h hn) rfl (by omega) (f1.mo (fun k j q => by simp [capM5] at q; exact q.1)) (by rw [(f1 0 4 rfl).1]; simp) (by rw [(f1 0 5 rfl).1]; simp) (by simp only [stepM, hj, if_neg e30]) rfl (ouM_cap (by simp) τ _ _ x (by omega))
