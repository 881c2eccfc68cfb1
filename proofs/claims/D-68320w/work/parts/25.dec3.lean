/-! the component's decoder: what stands in an instruction that was taken apart -/
def act (c i n : Nat) (M : FM) : Prop := M.2.2 149 i 0 = M.2.2 n c 0
def dAcc (c i : Nat) (P : Prop) (k : Int32) (v : Int64) (z s d : Int32) (M : FM) : Prop := (P → act c i 169 M ∧ M.1 158 i 0 = k ∧ M.2.1 154 i 0 = v ∧ M.1 159 i 0 = z ∧ M.1 160 i 0 = s ∧ M.1 151 i 0 = d) ∧ (¬ P → act c i 161 M)
def dFor (c i : Nat) (P : Prop) (k n r s d : Int32) (M : FM) : Prop := (P → act c i 170 M ∧ M.1 158 i 0 = k ∧ M.2.1 154 i 0 = n.toInt64 ∧ M.1 156 i 0 = r ∧ M.1 160 i 0 = s ∧ M.1 151 i 0 = d) ∧ (¬ P → act c i 161 M)
def dCmp (c i s : Nat) (r o : Int32) (v : Int64) (d : Int32) (M : FM) : Prop := (¬ s = 0 → act c i 168 M ∧ M.2.2 155 i 0 = s ∧ M.1 156 i 0 = r ∧ M.1 157 i 0 = o ∧ M.2.1 154 i 0 = v ∧ M.1 151 i 0 = d) ∧ (s = 0 → act c i 161 M)
def dJmp (c i n : Nat) (v : Int64) (d : Int32) (M : FM) : Prop := act c i n M ∧ M.2.1 154 i 0 = v ∧ M.1 151 i 0 = d
def wAt (f s b : Int32) : Prop := (f = Int32.ofInt 2 ∨ f = Int32.ofInt 3) ∧ (s < Int32.ofInt 4 ∨ s &&& Int32.ofInt 3 = 0) ∧ (s = Int32.ofInt 2 → b = 0)
noncomputable def mF (i : Nat) (k n r s : Int32) (M : FM) : FM := fm_sI (fm_sI (fm_sL (fm_sI M 158 i 0 k) 154 i 0 n.toInt64) 156 i 0 r) 160 i 0 s
theorem X49_foreign (c i : Nat) (is k n r s : Int32) (M : FM) : GX49_foreign c i is k n r s M = (fi (is = 0) (M.2.2 161 c 0) (M.2.2 170 c 0), mF i k n r s M) := by
  unfold GX49_foreign GX49_foreign_0
  exact nfi rfl rfl
theorem X49_store (c i : Nat) (is k z s : Int32) (M : FM) : GX49_store c i is k z s M = (fi (is = 0) (M.2.2 161 c 0) (M.2.2 169 c 0), mA i k (iS (M.1 150 i 0)) z s (fm_sI M 151 i 0 (Int32.ofInt 0))) := by
  unfold GX49_store GX49_store_0
  have e : (fm_sI M 151 i 0 (Int32.ofInt 0)).1 150 i 0 = M.1 150 i 0 := by simp [rI]
  simp only [X105_immediateS, X49_access, e]
  rfl
theorem X49_atomic (c i : Nat) (f : Int32) (M : FM) : GX49_atomic c i f M = (fi (wAt f (nI (fd (M.1 150 i 0) 31 27)) (M.1 153 i 0)) (M.2.2 169 c 0) (M.2.2 161 c 0), mA i (Int32.ofInt 4) (Int64.ofInt 0) (Int32.ofInt 1 <<< (f &&& 31)) (nI (fd (M.1 150 i 0) 31 27)) M) := by
  generalize hs : nI (fd (M.1 150 i 0) 31 27) = s
  rcases Classical.propComplete (f = Int32.ofInt 2) with f2 | f2 <;> rcases Classical.propComplete (f = Int32.ofInt 3) with f3 | f3 <;> rcases Classical.propComplete (s < Int32.ofInt 4) with s4 | s4 <;> rcases Classical.propComplete (s &&& Int32.ofInt 3 = 0) with s0 | s0 <;> rcases Classical.propComplete (s = Int32.ofInt 2) with s2 | s2 <;> rcases Classical.propComplete (M.1 153 i 0 = 0) with b0 | b0 <;>
    simp only [GX49_atomic_50, GX49_atomic_49, GX49_atomic_45, GX49_atomic_33, GX49_atomic_22, GX49_atomic_0, GX49_atomic, b3127, hs, X49_access, wAt, fi_if, z00, z10, f2, f3, s4, s0, s2, b0, true_and, and_true, and_false, false_and, or_false, false_or, not_true, not_false_iff, if_true, if_false, true_or, or_true, and_self, imp_true_iff, true_imp_iff, false_imp_iff]
theorem X49_branch (c i : Nat) (f : Int32) (M : FM) : GX49_branch c i f M = (fi (f = Int32.ofInt 2 ∨ f = Int32.ofInt 3) (M.2.2 161 c 0) (M.2.2 167 c 0), fm_sI (fm_sL M 154 i 0 (iB (M.1 150 i 0))) 160 i 0 f) := by
  rcases Classical.propComplete (f = Int32.ofInt 2) with f2 | f2 <;> rcases Classical.propComplete (f = Int32.ofInt 3) with f3 | f3 <;>
    simp only [GX49_branch_37, GX49_branch_26, GX49_branch_0, GX49_branch, X105_immediateB, fi_if, f2, f3, true_and, and_true, and_false, false_and, or_false, false_or, not_true, not_false_iff, if_true, if_false, true_or, or_true, and_self, imp_true_iff, true_imp_iff, false_imp_iff] <;> rfl
theorem X49_jump (c i n : Nat) (v : Int64) (M : FM) : GX49_jump c i n v M = (n, fm_sL M 154 i 0 v) := rfl
/-! what find gives, by the code -/
section
variable {c i : Nat} {w f : Int32} {M : FM}
theorem find_w (k : Int32) : GX49_find c i k f M = GX49_find_15 c i k f (fi (f = Int32.ofInt 2 ∨ f = Int32.ofInt 3) (Int32.ofInt 1) (Int32.ofInt 0)) M := by
  rcases Classical.propComplete (f = Int32.ofInt 2) with f2 | f2 <;> rcases Classical.propComplete (f = Int32.ofInt 3) with f3 | f3 <;>
    simp only [GX49_find, GX49_find_0, GX49_find_10, fi_if, f2, f3, true_and, and_true, and_false, false_and, or_false, false_or, not_true, not_false_iff, if_true, if_false, true_or, or_true, and_self, imp_true_iff, true_imp_iff, false_imp_iff]
theorem fi01 (P : Prop) : (fi P (Int32.ofInt 1) (Int32.ofInt 0) = 0) = ¬ P := by
  by_cases h : P
  · rw [fi_pos h, z10]
    exact propext ⟨fun q => q.elim, fun q => q h⟩
  · rw [fi_neg h, z00]
    exact propext ⟨fun _ => h, fun _ => trivial⟩
end
