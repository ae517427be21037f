/-! operators of the model -/
theorem m_binary (τ : lj_S) {m : Nat} (h : τ.1 0 41 = Int32.ofNat m) (hm : m < 14000) (K : Nat) (hK : 3 ≤ stC K) (line x3 : Int32) : ∃ o a b, opB2 K = some (o, a, b) ∧ lj_R lm_P 67 [.ref 0, .int (tkw K).toInt32, .int line, .int x3] τ = some (.inl (some (.int 1)), mP (lj_put τ 0 64 (-1)) m o a b line) := by
  have h' : (lj_put τ 0 64 (-1)).1 0 41 = Int32.ofNat m := by rw [lj_put_1, if_neg (by omega)]; exact h
  have E : ∀ o a b, lj_R lm_P 28 [.ref 0, .int o, .int a, .int b, .int line] (lj_put τ 0 64 (-1)) = some (.inl (some (.int (Int32.ofNat m))), mP (lj_put τ 0 64 (-1)) m o a b line) := fun o a b => m_emit h' hm o a b line
  have L := fun k hk => m_leftOf (lj_put τ 0 64 (-1)) k hk
  have cases : K = 40 ∨ K = 41 ∨ K = 42 ∨ K = 43 ∨ K = 44 ∨ K = 45 ∨ K = 46 ∨ K = 47 ∨ K = 48 ∨ K = 49 ∨ K = 50 ∨ K = 52 ∨ K = 53 ∨ K = 54 ∨ K = 55 ∨ K = 56 ∨ K = 57 := by
    by_cases h70 : K < 70
    · have t : ∀ j : Fin 70, 3 ≤ stC j.val → (j.val = 40 ∨ j.val = 41 ∨ j.val = 42 ∨ j.val = 43 ∨ j.val = 44 ∨ j.val = 45 ∨ j.val = 46 ∨ j.val = 47 ∨ j.val = 48 ∨ j.val = 49 ∨ j.val = 50 ∨ j.val = 52 ∨ j.val = 53 ∨ j.val = 54 ∨ j.val = 55 ∨ j.val = 56 ∨ j.val = 57) := by decide
      exact t ⟨K, h70⟩ hK
    · unfold stC at hK
      rw [if_neg (by omega), if_neg (by omega), if_neg (by omega), if_neg (by omega), if_neg (by omega), if_neg (by omega), if_neg (by omega), if_neg (by omega), if_neg (by omega), if_neg (by omega), if_neg (by omega), if_neg (by omega), if_neg (by omega), if_neg (by omega), if_neg (by omega), if_neg (by omega), if_neg (by omega), if_neg (by omega), if_neg (by omega)] at hK
      omega
  rcases cases with e | e | e | e | e | e | e | e | e | e | e | e | e | e | e | e | e
  · subst e
    refine ⟨31, 3, 0, rfl, ?_⟩
    rw [rm_67, km_67_0, if_pos (by decide), if_neg (by decide), if_neg (by decide), if_neg (by decide), L 40 (by omega)]
    unfold lj_bi
    simp only []
    rw [if_neg (by decide), rm_68, km_68_0, if_neg (by decide), if_neg (by decide), if_neg (by decide), if_pos (by decide)]
    simp only []
    rw [E]
    simp only []
    rw [km_67_157]
  · subst e
    refine ⟨31, 4, 0, rfl, ?_⟩
    rw [rm_67, km_67_0, if_pos (by decide), if_neg (by decide), if_neg (by decide), if_neg (by decide), L 41 (by omega)]
    unfold lj_bi
    simp only []
    rw [if_neg (by decide), rm_68, km_68_0, if_neg (by decide), if_neg (by decide), if_neg (by decide), if_neg (by decide), if_pos (by decide)]
    simp only []
    rw [E]
    simp only []
    rw [km_67_157]
  · subst e
    refine ⟨31, 5, 0, rfl, ?_⟩
    rw [rm_67, km_67_0, if_pos (by decide), if_neg (by decide), if_neg (by decide), if_neg (by decide), L 42 (by omega)]
    unfold lj_bi
    simp only []
    rw [if_neg (by decide), rm_68, km_68_0, if_neg (by decide), if_neg (by decide), if_pos (by decide)]
    simp only []
    rw [E]
    simp only []
    rw [km_67_157]
  · subst e
    refine ⟨31, 6, 0, rfl, ?_⟩
    rw [rm_67, km_67_0, if_pos (by decide), if_neg (by decide), if_neg (by decide), if_neg (by decide), L 43 (by omega)]
    unfold lj_bi
    simp only []
    rw [if_neg (by decide), rm_68, km_68_0, if_neg (by decide), if_neg (by decide), if_neg (by decide), if_neg (by decide), if_neg (by decide), if_neg (by decide), if_neg (by decide), if_neg (by decide), if_pos (by decide)]
    simp only []
    rw [E]
    simp only []
    rw [km_67_157]
  · subst e
    refine ⟨31, 7, 0, rfl, ?_⟩
    rw [rm_67, km_67_0, if_pos (by decide), if_neg (by decide), if_neg (by decide), if_neg (by decide), L 44 (by omega)]
    unfold lj_bi
    simp only []
    rw [if_neg (by decide), rm_68, km_68_0, if_pos (by decide)]
    simp only []
    rw [E]
    simp only []
    rw [km_67_157]
  · subst e
    refine ⟨31, 8, 0, rfl, ?_⟩
    rw [rm_67, km_67_0, if_pos (by decide), if_neg (by decide), if_neg (by decide), if_neg (by decide), L 45 (by omega)]
    unfold lj_bi
    simp only []
    rw [if_neg (by decide), rm_68, km_68_0, if_neg (by decide), if_pos (by decide)]
    simp only []
    rw [E]
    simp only []
    rw [km_67_157]
  · subst e
    refine ⟨31, 9, 0, rfl, ?_⟩
    rw [rm_67, km_67_0, if_pos (by decide), if_neg (by decide), if_neg (by decide), if_neg (by decide), L 46 (by omega)]
    unfold lj_bi
    simp only []
    rw [if_neg (by decide), rm_68, km_68_0, if_neg (by decide), if_neg (by decide), if_neg (by decide), if_neg (by decide), if_neg (by decide), if_pos (by decide)]
    simp only []
    rw [E]
    simp only []
    rw [km_67_157]
  · subst e
    refine ⟨31, 10, 0, rfl, ?_⟩
    rw [rm_67, km_67_0, if_pos (by decide), if_neg (by decide), if_neg (by decide), if_neg (by decide), L 47 (by omega)]
    unfold lj_bi
    simp only []
    rw [if_neg (by decide), rm_68, km_68_0, if_neg (by decide), if_neg (by decide), if_neg (by decide), if_neg (by decide), if_neg (by decide), if_neg (by decide), if_pos (by decide)]
    simp only []
    rw [E]
    simp only []
    rw [km_67_157]
  · subst e
    refine ⟨31, 11, 0, rfl, ?_⟩
    rw [rm_67, km_67_0, if_pos (by decide), if_neg (by decide), if_neg (by decide), if_neg (by decide), L 48 (by omega)]
    unfold lj_bi
    simp only []
    rw [if_neg (by decide), rm_68, km_68_0, if_neg (by decide), if_neg (by decide), if_neg (by decide), if_neg (by decide), if_neg (by decide), if_neg (by decide), if_neg (by decide), if_pos (by decide)]
    simp only []
    rw [E]
    simp only []
    rw [km_67_157]
  · subst e
    refine ⟨31, 12, 0, rfl, ?_⟩
    rw [rm_67, km_67_0, if_pos (by decide), if_neg (by decide), if_neg (by decide), if_neg (by decide), L 49 (by omega)]
    unfold lj_bi
    simp only []
    rw [if_neg (by decide), rm_68, km_68_0, if_neg (by decide), if_neg (by decide), if_neg (by decide), if_neg (by decide), if_neg (by decide), if_neg (by decide), if_neg (by decide), if_neg (by decide), if_neg (by decide)]
    simp only []
    rw [E]
    simp only []
    rw [km_67_157]
  · subst e
    refine ⟨33, 0, 0, rfl, ?_⟩
    rw [rm_67, km_67_0, if_pos (by decide), if_pos (by decide), E]
    unfold lj_bi
    simp only []
    rw [km_67_157]
  · subst e
    refine ⟨36, 0, 0, rfl, ?_⟩
    rw [rm_67, km_67_0, if_pos (by decide), if_neg (by decide), if_pos (by decide), km_67_61, if_neg (by decide), km_67_76, E]
    unfold lj_bi
    simp only []
    rw [km_67_157]
  · subst e
    refine ⟨36, 1, 0, rfl, ?_⟩
    rw [rm_67, km_67_0, if_pos (by decide), if_neg (by decide), if_neg (by decide), if_pos (by decide), km_67_61, if_pos (by decide), km_67_76, E]
    unfold lj_bi
    simp only []
    rw [km_67_157]
  · subst e
    refine ⟨37, 1, 0, rfl, ?_⟩
    rw [rm_67, km_67_0, if_pos (by decide), if_neg (by decide), if_neg (by decide), if_neg (by decide), L 54 (by omega)]
    unfold lj_bi
    simp only []
    rw [if_pos (by decide), if_pos (by decide), km_67_111, km_67_116, if_neg (by decide), if_neg (by decide), km_67_134, E]
    unfold lj_bi
    simp only []
    rw [km_67_157]
  · subst e
    refine ⟨37, 1, 1, rfl, ?_⟩
    rw [rm_67, km_67_0, if_pos (by decide), if_neg (by decide), if_neg (by decide), if_neg (by decide), L 55 (by omega)]
    unfold lj_bi
    simp only []
    rw [if_pos (by decide), if_neg (by decide), if_pos (by decide), km_67_111, km_67_116, if_neg (by decide), if_pos (by decide), km_67_129, km_67_134, E]
    unfold lj_bi
    simp only []
    rw [km_67_157]
  · subst e
    refine ⟨37, 0, 0, rfl, ?_⟩
    rw [rm_67, km_67_0, if_pos (by decide), if_neg (by decide), if_neg (by decide), if_neg (by decide), L 56 (by omega)]
    unfold lj_bi
    simp only []
    rw [if_pos (by decide), if_neg (by decide), if_neg (by decide), km_67_116, if_neg (by decide), if_neg (by decide), km_67_134, E]
    unfold lj_bi
    simp only []
    rw [km_67_157]
  · subst e
    refine ⟨37, 0, 1, rfl, ?_⟩
    rw [rm_67, km_67_0, if_pos (by decide), if_neg (by decide), if_neg (by decide), if_neg (by decide), L 57 (by omega)]
    unfold lj_bi
    simp only []
    rw [if_pos (by decide), if_neg (by decide), if_neg (by decide), km_67_116, if_pos (by decide), km_67_129, km_67_134, E]
    unfold lj_bi
    simp only []
    rw [km_67_157]
theorem m_unary (τ : lj_S) {m : Nat} (h : τ.1 0 41 = Int32.ofNat m) (hm : m < 14000) (K : Nat) (hK : K = 23 ∨ K = 59 ∨ K = 41 ∨ K = 47) (line : Int32) : ∃ o a l, (K = 23 ∧ o = 35 ∨ (K = 59 ∧ o = 34 ∨ K = 41 ∧ o = 32 ∧ a = 13 ∨ K = 47 ∧ o = 32 ∧ a = 14) ∧ l = line) ∧ lj_R lm_P 66 [.ref 0, .int (if K = 23 then 0 else (tkw K).toInt32), .int line] τ = some (.inl (some (.int 1)), mP (lj_put τ 0 64 (-1)) m o a 0 l) := by
  have h' : (lj_put τ 0 64 (-1)).1 0 41 = Int32.ofNat m := by rw [lj_put_1, if_neg (by omega)]; exact h
  have E : ∀ o a b l, lj_R lm_P 28 [.ref 0, .int o, .int a, .int b, .int l] (lj_put τ 0 64 (-1)) = some (.inl (some (.int (Int32.ofNat m))), mP (lj_put τ 0 64 (-1)) m o a b l) := fun o a b l => m_emit h' hm o a b l
  rcases hK with e | e | e | e
  · subst e
    refine ⟨35, 0, 0, Or.inl ⟨rfl, rfl⟩, ?_⟩
    rw [if_pos rfl, rm_66, km_66_0, if_pos rfl, E]
    unfold lj_bi
    simp only []
    rw [km_66_65]
  · subst e
    refine ⟨34, 0, line, Or.inr ⟨Or.inl ⟨rfl, rfl⟩, rfl⟩, ?_⟩
    rw [if_neg (by decide), rm_66, km_66_0, if_neg (by decide), if_pos (by decide), E]
    unfold lj_bi
    simp only []
    rw [km_66_65]
  · subst e
    refine ⟨32, 13, line, Or.inr ⟨Or.inr (Or.inl ⟨rfl, rfl, rfl⟩), rfl⟩, ?_⟩
    rw [if_neg (by decide), rm_66, km_66_0, if_neg (by decide), if_neg (by decide), if_pos (by decide), km_66_59, E]
    unfold lj_bi
    simp only []
    rw [km_66_65]
  · subst e
    refine ⟨32, 14, line, Or.inr ⟨Or.inr (Or.inr ⟨rfl, rfl, rfl⟩), rfl⟩, ?_⟩
    rw [if_neg (by decide), rm_66, km_66_0, if_neg (by decide), if_neg (by decide), if_neg (by decide), km_66_59, E]
    unfold lj_bi
    simp only []
    rw [km_66_65]
