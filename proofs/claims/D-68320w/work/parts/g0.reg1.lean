/-! regions: what a region covers, on both sides -/
set_option maxRecDepth 100000
/-- the lowest j bits are ones, and no more -/
def onesP (N j : Nat) : Prop := j ≤ 54 ∧ (∀ i, i < j → N.testBit i = true) ∧ (j = 54 ∨ N.testBit j = false)
def kdR (c : Int32) : Int32 := (c >>> (Int32.ofInt 3 &&& 31)) &&& Int32.ofInt 3
def covP (c : Int32) (N b f t : Nat) : Prop := (kdR c = 0 ∧ f = 0 ∧ t = 0) ∨ (kdR c = Int32.ofInt 1 ∧ f = 4 * b ∧ t = 4 * N) ∨ (kdR c = Int32.ofInt 2 ∧ f = 4 * N ∧ t = 4 * N + 4) ∨
  (kdR c = Int32.ofInt 3 ∧ ∃ j, onesP N j ∧ f = 4 * (N - (2 ^ j - 1)) ∧ t = f + 8 * 2 ^ j)
theorem ones_u {N j k : Nat} (h1 : onesP N j) (h2 : onesP N k) : j = k := by
  obtain ⟨a1, a2, a3⟩ := h1
  obtain ⟨b1, b2, b3⟩ := h2
  rcases Nat.lt_trichotomy j k with h | h | h
  · rcases a3 with e | e
    · omega
    · rw [b2 j h] at e
      cases e
  · exact h
  · rcases b3 with e | e
    · omega
    · rw [a2 k h] at e
      cases e
theorem cov_u {c : Int32} {N b f t f' t' : Nat} (h1 : covP c N b f t) (h2 : covP c N b f' t') : f = f' ∧ t = t' := by
  have n1 : ¬ (0 : Int32) = Int32.ofInt 1 := by decide
  have n2 : ¬ (0 : Int32) = Int32.ofInt 2 := by decide
  have n3 : ¬ (0 : Int32) = Int32.ofInt 3 := by decide
  have n4 : ¬ Int32.ofInt 1 = Int32.ofInt 2 := by decide
  have n5 : ¬ Int32.ofInt 1 = Int32.ofInt 3 := by decide
  have n6 : ¬ Int32.ofInt 2 = Int32.ofInt 3 := by decide
  rcases h1 with ⟨a, b1, c1⟩ | ⟨a, b1, c1⟩ | ⟨a, b1, c1⟩ | ⟨a, j, b1, c1, d1⟩ <;> rcases h2 with ⟨a', b1', c1'⟩ | ⟨a', b1', c1'⟩ | ⟨a', b1', c1'⟩ | ⟨a', j', b1', c1', d1'⟩
  all_goals first
    | exact ⟨b1.trans b1'.symm, c1.trans c1'.symm⟩
    | exact absurd (a.symm.trans a') n1
    | exact absurd (a.symm.trans a') n2
    | exact absurd (a.symm.trans a') n3
    | exact absurd (a'.symm.trans a) n1
    | exact absurd (a'.symm.trans a) n2
    | exact absurd (a'.symm.trans a) n3
    | exact absurd (a.symm.trans a') n4
    | exact absurd (a.symm.trans a') n5
    | exact absurd (a'.symm.trans a) n4
    | exact absurd (a'.symm.trans a) n5
    | exact absurd (a.symm.trans a') n6
    | exact absurd (a'.symm.trans a) n6
    | skip
  have := ones_u b1 b1'
  subst this
  exact ⟨c1.trans c1'.symm, by rw [d1, d1', c1, c1']⟩
theorem ones_m {N j : Nat} (h : ∀ i, i < j → N.testBit i = true) : N % 2 ^ j = 2 ^ j - 1 := by
  apply Nat.eq_of_testBit_eq
  intro i
  rw [Nat.testBit_mod_two_pow, Nat.testBit_two_pow_sub_one]
  by_cases q : i < j
  · rw [decide_eq_true q, h i q]
    rfl
  · rw [decide_eq_false q]
    rfl
/-- the ones at the end -/
theorem ones_and {N j : Nat} (hN : N < 2 ^ 54) (h : onesP N j) (i : Nat) : (N.testBit i && !(N + 1).testBit i) = decide (i < j) := by
  obtain ⟨h1, h2, h3⟩ := h
  have m := ones_m h2
  have p : 0 < 2 ^ j := Nat.two_pow_pos j
  have e : N + 1 = 2 ^ j * (N / 2 ^ j + 1) := by
    have := Nat.div_add_mod N (2 ^ j)
    rw [m] at this
    rw [Nat.mul_add]
    omega
  have q0 : N / 2 ^ j % 2 = 0 := by
    rcases h3 with e | e
    · rw [e, Nat.div_eq_of_lt hN]
    · rw [Nat.testBit_eq_decide_div_mod_eq] at e
      have := of_decide_eq_false e
      omega
  rw [e, Nat.testBit_two_pow_mul]
  by_cases q : i < j
  · rw [h2 i q, decide_eq_true q, decide_eq_false (show ¬ i ≥ j by omega)]
    rfl
  · rw [decide_eq_false q, decide_eq_true (show i ≥ j by omega)]
    have t : N.testBit i = (N / 2 ^ j).testBit (i - j) := by
      rw [Nat.testBit_div_two_pow, show i - j + j = i by omega]
    rw [t]
    generalize N / 2 ^ j = u at *
    cases hk : i - j with
    | zero =>
      rw [Nat.testBit_zero, q0]
      rfl
    | succ k =>
      rw [Nat.testBit_succ, Nat.testBit_succ, show (u + 1) / 2 = u / 2 by omega]
      cases (u / 2).testBit k <;> rfl
theorem ones_x {N j : Nat} (hN : N < 2 ^ 54) (h : onesP N j) : lN N &&& ((lN N + Int64.ofInt 1) ^^^ Int64.ofInt (-1)) = lN (2 ^ j - 1) := by
  have u1 : ul (lN N) = N := by rw [ul_lN]; exact Nat.mod_eq_of_lt (Nat.lt_of_lt_of_le hN (by decide))
  have u2 : ul (lN N + Int64.ofInt 1) = N + 1 := by
    rw [ul_add, u1, show ul (Int64.ofInt 1) = 1 from rfl]
    have : (2 : Nat) ^ 54 = 18014398509481984 := rfl
    omega
  have pj : 2 ^ j ≤ 2 ^ 54 := Nat.pow_le_pow_right (by decide) h.1
  have u3 : ul (lN (2 ^ j - 1)) = 2 ^ j - 1 := by
    rw [ul_lN]
    have : (2 : Nat) ^ 54 = 18014398509481984 := rfl
    omega
  apply lb_ext
  intro i hi
  rw [lb_and, lb_xor, lb_m1 i hi]
  unfold lb
  rw [u1, u2, u3, Nat.testBit_two_pow_sub_one, ← ones_and hN h i]
  cases (N + 1).testBit i <;> cases N.testBit i <;> rfl
section Cv
variable {m : Nat} {M : FM}
theorem X101_cover_L (T : Ty M) (n : fm_is M 101 101 m = true) {N : Nat} (hN : N < 2 ^ 54) : ∀ (d i J : Nat), i + d = 54 → d < J → (∀ k, k < i → N.testBit k = true) →
    ∃ j, onesP N j ∧ FX101_cover_L91 fN J m (lN (8 * 2 ^ i)) (lN (N - (2 ^ i - 1))) (lN (2 ^ i)) M = some (fm_sL (fm_sL M 429 m 0 (lN (4 * (N - (2 ^ j - 1))))) 430 m 0 (lN (4 * (N - (2 ^ j - 1)) + 8 * 2 ^ j))) := by
  have p54 : (2 : Nat) ^ 54 = 18014398509481984 := rfl
  have end134 : ∀ j, j ≤ 54 → kX101_cover (FX101_cover_L91 fN 0) (GX101_cover_134 m (lN (8 * 2 ^ j)) (lN (N - (2 ^ j - 1))) M) = some (fm_sL (fm_sL M 429 m 0 (lN (4 * (N - (2 ^ j - 1))))) 430 m 0 (lN (4 * (N - (2 ^ j - 1)) + 8 * 2 ^ j))) := fun j hj => by
    have pj : 2 ^ j ≤ 2 ^ 54 := Nat.pow_le_pow_right (by decide) hj
    unfold GX101_cover_134 GX101_cover_154
    dsimp only
    rw [show Int64.ofInt 4 = lN 4 from rfl, l_m (by omega) (by omega) (by omega), rL, if_pos ⟨rfl, rfl, rfl⟩, l_a (by omega)]
    rfl
  intro d
  induction d with
  | zero =>
    intro i J hi hJ h
    obtain ⟨J, rfl⟩ : ∃ x, J = x + 1 := ⟨J - 1, by omega⟩
    have e : i = 54 := by omega
    subst e
    have g : 0 ≤ lg_cmp (lN (2 ^ 54)) (Int64.ofInt 18014398509481984) := by decide
    refine ⟨54, ⟨Nat.le_refl _, h, Or.inl rfl⟩, ?_⟩
    show FX101_cover_91 fN (FX101_cover_L91 fN J) m (lN (8 * 2 ^ 54)) (lN (N - (2 ^ 54 - 1))) (lN (2 ^ 54)) M = _
    rw [(gX101_cover_91 _ _ _ _ _ M T n).1]
    unfold GX101_cover_91
    rw [fi_pos g]
    exact end134 54 (Nat.le_refl _)
  | succ d ih =>
    intro i J hi hJ h
    obtain ⟨J, rfl⟩ : ∃ x, J = x + 1 := ⟨J - 1, by omega⟩
    have pi : 2 ^ (i + 1) ≤ 2 ^ 54 := Nat.pow_le_pow_right (by decide) (by omega)
    have p2 : 2 ^ (i + 1) = 2 * 2 ^ i := by rw [Nat.pow_succ, Nat.mul_comm]
    have pp : 0 < 2 ^ i := Nat.two_pow_pos i
    have mi := ones_m h
    have le : 2 ^ i - 1 ≤ N := by
      have := Nat.mod_le N (2 ^ i)
      omega
    have ng : ¬ 0 ≤ lg_cmp (lN (2 ^ i)) (Int64.ofInt 18014398509481984) := fun q => by
      have e : (lN (2 ^ i)).toInt = (2 ^ i : Nat) := by rw [tl, l_big (by omega), if_pos (by omega)]
      have e2 : (Int64.ofInt 18014398509481984).toInt = 18014398509481984 := rfl
      rw [cl_ge, e, e2] at q
      omega
    -- the bit
    have bt : lg_cmp (lN (N - (2 ^ i - 1)) &&& lN (2 ^ i)) (Int64.ofInt 0) = 0 ↔ N.testBit i = false := by
      have dv : (N - (2 ^ i - 1)) = 2 ^ i * (N / 2 ^ i) := by
        have := Nat.div_add_mod N (2 ^ i)
        omega
      have tb : (N - (2 ^ i - 1)).testBit i = N.testBit i := by
        rw [dv, Nat.testBit_two_pow_mul, decide_eq_true (show i ≥ i from Nat.le_refl i), Nat.testBit_div_two_pow, show i - i + i = i by omega]
        rfl
      rw [cl_eq, ul_and, l_big (by omega), l_big (by omega), show ul (Int64.ofInt 0) = 0 from rfl, ← tb]
      generalize N - (2 ^ i - 1) = u
      constructor
      · intro z
        have y : (u &&& 2 ^ i).testBit i = (0 : Nat).testBit i := by rw [z]
        rw [Nat.testBit_and, Nat.testBit_two_pow, decide_eq_true rfl, Bool.and_true, Nat.zero_testBit] at y
        exact y
      · intro z
        apply Nat.eq_of_testBit_eq
        intro k
        rw [Nat.testBit_and, Nat.testBit_two_pow, Nat.zero_testBit]
        by_cases e : i = k
        · rw [← e, z]
          rfl
        · rw [decide_eq_false e, Bool.and_false]
    have eG := (gX101_cover_91 (FX101_cover_L91 fN J) m (lN (8 * 2 ^ i)) (lN (N - (2 ^ i - 1))) (lN (2 ^ i)) M T n).1
    unfold GX101_cover_91 at eG
    rw [fi_neg ng] at eG
    cases hb : N.testBit i with
    | false =>
      rw [fi_pos (bt.mpr hb)] at eG
      exact ⟨i, ⟨by omega, h, Or.inr hb⟩, eG.trans (end134 i (by omega))⟩
    | true =>
      rw [fi_neg (fun q => by rw [bt.mp q] at hb; cases hb)] at eG
      dsimp only at eG
      have h' : ∀ k, k < i + 1 → N.testBit k = true := fun k hk => by
        by_cases e : k = i
        · rw [e]; exact hb
        · exact h k (by omega)
      have le' : 2 ^ (i + 1) - 1 ≤ N := by
        have := ones_m h'
        have := Nat.mod_le N (2 ^ (i + 1))
        omega
      rw [show Int64.ofInt 2 = lN 2 from rfl, l_s (by omega) (by omega), l_m (by omega) (by omega) (by omega), l_m (by omega) (by omega) (by omega), show N - (2 ^ i - 1) - 2 ^ i = N - (2 ^ (i + 1) - 1) by omega, show 2 * 2 ^ i = 2 ^ (i + 1) from p2.symm, show 2 * (8 * 2 ^ i) = 8 * 2 ^ (i + 1) by omega] at eG
      obtain ⟨j, j1, j2⟩ := ih (i + 1) J (by omega) (by omega) h'
      exact ⟨j, j1, eG.trans j2⟩
end Cv
