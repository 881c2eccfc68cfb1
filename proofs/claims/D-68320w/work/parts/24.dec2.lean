/-! the component's decoder: immediates and registers -/
noncomputable def gI (o w : Int32) : Int32 := fi (o = 0) (nI (fd w 31 26) <<< (Int32.ofInt 1 &&& 31)) (nI (fd w 31 25))
noncomputable def sI (f o w : Int32) : Nat := fi (f = Int32.ofInt 1 ∨ f = Int32.ofInt 5) (fi (gI o w = 0 ∨ (gI o w = Int32.ofInt 32 ∧ f = Int32.ofInt 5)) (bf f (gI o w)) 0) (fi (o = 0 ∨ f ≤ 0) (pl f) 0)
noncomputable def vI (f o w : Int32) : Int64 := fi (f = Int32.ofInt 1 ∨ f = Int32.ofInt 5) (fi (o = 0) (nI (fd w 25 20)).toInt64 (nI (fd w 24 20)).toInt64) (iI w)
noncomputable def sR (f o g : Int32) : Nat := fi (¬ o = 0 ∧ ((g = 0 ∧ ¬ (f = 0 ∨ f = Int32.ofInt 1 ∨ f = Int32.ofInt 5)) ∨ (g = Int32.ofInt 1 ∧ ¬ f ≤ 0 ∧ ¬ Int32.ofInt 4 ≤ f))) 0 (bf f g)
theorem eta2 {A B : Type} (p : A × B) : (p.1, p.2) = p := rfl
section
variable (w : Int32) (M : FM)
theorem b3126 : GX105_bits w (Int32.ofInt 31) (Int32.ofInt 26) M = (nI (fd w 31 26), M) := X105_bits w _ _ M (by decide) (by decide) rfl rfl
theorem b3125 : GX105_bits w (Int32.ofInt 31) (Int32.ofInt 25) M = (nI (fd w 31 25), M) := X105_bits w _ _ M (by decide) (by decide) rfl rfl
theorem b2520 : GX105_bits w (Int32.ofInt 25) (Int32.ofInt 20) M = (nI (fd w 25 20), M) := X105_bits w _ _ M (by decide) (by decide) rfl rfl
theorem b2420 : GX105_bits w (Int32.ofInt 24) (Int32.ofInt 20) M = (nI (fd w 24 20), M) := X105_bits w _ _ M (by decide) (by decide) rfl rfl
theorem b3127 : GX105_bits w (Int32.ofInt 31) (Int32.ofInt 27) M = (nI (fd w 31 27), M) := X105_bits w _ _ M (by decide) (by decide) rfl rfl
theorem b3120 : GX105_bits w (Int32.ofInt 31) (Int32.ofInt 20) M = (nI (fd w 31 20), M) := X105_bits w _ _ M (by decide) (by decide) rfl rfl
theorem b1107 : GX105_bits w (Int32.ofInt 11) (Int32.ofInt 7) M = (nI (fd w 11 7), M) := X105_bits w _ _ M (by decide) (by decide) rfl rfl
theorem b1915 : GX105_bits w (Int32.ofInt 19) (Int32.ofInt 15) M = (nI (fd w 19 15), M) := X105_bits w _ _ M (by decide) (by decide) rfl rfl
theorem b0600 : GX105_bits w (Int32.ofInt 6) (Int32.ofInt 0) M = (nI (fd w 6 0), M) := X105_bits w _ _ M (by decide) (by decide) rfl rfl
theorem b1412 : GX105_bits w (Int32.ofInt 14) (Int32.ofInt 12) M = (nI (fd w 14 12), M) := X105_bits w _ _ M (by decide) (by decide) rfl rfl
end
theorem X49_immediate (c i : Nat) (f o : Int32) (M : FM) : GX49_immediate c i f o M = GX49_compute c i (sI f o (M.1 150 i 0)) (Int32.ofInt 0) o (vI f o (M.1 150 i 0)) M := by
  generalize hw : M.1 150 i 0 = w
  have e : GX49_immediate c i f o M = GX49_immediate_0 c i f o M := rfl
  rw [e]
  unfold GX49_immediate_0
  rw [hw]
  dsimp only
  rcases Classical.propComplete (o = 0) with o0 | o0 <;> rcases Classical.propComplete (f = Int32.ofInt 1) with f1 | f1 <;> rcases Classical.propComplete (f = Int32.ofInt 5) with f5 | f5 <;> rcases Classical.propComplete (f ≤ 0) with fl | fl <;>
    simp only [GX49_immediate_16, GX49_immediate_21, GX49_immediate_42, GX49_immediate_46, GX49_immediate_84, GX49_immediate_103, GX49_immediate_107, GX49_immediate_108, GX49_immediate_127, GX49_immediate_156, X49_plain, X49_byField, b3126, b3125, b2520, b2420, X105_immediateI, sI, vI, gI, fi_if, z00, z10, o0, f1, f5, fl, eta2, true_and, and_true, and_false, false_and, or_false, false_or, not_true, not_false_iff, if_true, if_false, true_or, or_true, and_self, imp_true_iff, true_imp_iff, false_imp_iff] <;>
    (repeat' split) <;> first | rfl | simp_all
theorem X49_immediate_H {c i : Nat} {M : FM} (T : Ty M) (f o : Int32) : HX49_immediate c i f o M := by
  have h1 := fun f => (tS T f).1
  have h2 := tBf T
  have h3 : ∀ n : Nat, (n ≠ 0 → fm_is M 4 4 n = true) → (n ≠ 0 → fm_is M 4 4 n = true) := fun _ h => h
  simp only [HX49_immediate_156, HX49_immediate_127, HX49_immediate_108, HX49_immediate_107, HX49_immediate_103, HX49_immediate_84, HX49_immediate_46, HX49_immediate_42, HX49_immediate_21, HX49_immediate_16, HX49_immediate_0, HX49_immediate, X49_plain, X49_byField, b3126, b3125, b2520, b2420, X105_immediateI, h1, ne_eq, true_and, and_true, and_false, false_and, or_false, false_or, not_true, not_false_iff, if_true, if_false, true_or, or_true, and_self, imp_true_iff, true_imp_iff, false_imp_iff]
  have h4 : ∀ f g, (¬ bf f g = 0 → fm_is M 4 4 (bf f g) = true) = True := fun f g => eq_true (h2 f g)
  simp only [h4, true_and, and_true, and_false, false_and, or_false, false_or, not_true, not_false_iff, if_true, if_false, true_or, or_true, and_self, imp_true_iff, true_imp_iff, false_imp_iff]
theorem X49_registers (c i : Nat) (f o : Int32) (M : FM) : GX49_registers c i f o M = GX49_compute c i (sR f o (nI (fd (M.1 150 i 0) 31 25))) (Int32.ofInt 1) o (Int64.ofInt 0) M := by
  rcases Classical.propComplete (o = 0) with o0 | o0 <;> rcases Classical.propComplete (f = 0) with f0 | f0 <;> rcases Classical.propComplete (f = Int32.ofInt 1) with f1 | f1 <;> rcases Classical.propComplete (f = Int32.ofInt 5) with f5 | f5 <;> rcases Classical.propComplete (f ≤ 0) with fl | fl <;> rcases Classical.propComplete (Int32.ofInt 4 ≤ f) with f4 | f4 <;> rcases Classical.propComplete (nI (fd (M.1 150 i 0) 31 25) = 0) with g0 | g0 <;> rcases Classical.propComplete (nI (fd (M.1 150 i 0) 31 25) = Int32.ofInt 1) with g1 | g1 <;>
    simp only [GX49_registers_75, GX49_registers_56, GX49_registers_55, GX49_registers_51, GX49_registers_36, GX49_registers_0, GX49_registers, X49_byField, b3125, sR, fi_if, z00, z10, o0, f0, f1, f5, fl, f4, g0, g1, eta2, true_and, and_true, and_false, false_and, or_false, false_or, not_true, not_false_iff, if_true, if_false, true_or, or_true, and_self, imp_true_iff, true_imp_iff, false_imp_iff]
theorem X49_registers_H {c i : Nat} {M : FM} (T : Ty M) (f o : Int32) : HX49_registers c i f o M := by
  have h2 := tBf T
  have h4 : ∀ f g, (¬ bf f g = 0 → fm_is M 4 4 (bf f g) = true) = True := fun f g => eq_true (h2 f g)
  simp only [HX49_registers_75, HX49_registers_56, HX49_registers_55, HX49_registers_51, HX49_registers_36, HX49_registers_0, HX49_registers, X49_byField, b3125, ne_eq, h4, true_and, and_true, and_false, false_and, or_false, false_or, not_true, not_false_iff, if_true, if_false, true_or, or_true, and_self, imp_true_iff, true_imp_iff, false_imp_iff]
theorem X49_find_H {c i : Nat} {M : FM} (T : Ty M) (k f : Int32) : HX49_find c i k f M := by
  simp only [HX49_find_15, HX49_find_10, HX49_find_0, HX49_find, X49_immediate_H T, X49_registers_H T, true_and, and_true, and_false, false_and, or_false, false_or, not_true, not_false_iff, if_true, if_false, true_or, or_true, and_self, imp_true_iff, true_imp_iff, false_imp_iff]
