/-! the component's decoder: find, by the code -/
def DA (c i : Nat) (k f w : Int32) (M : FM) : Prop :=
  (k = Int32.ofInt 3 → dAcc c i (¬ Int32.ofInt 7 ≤ f) (Int32.ofInt 2) (iI w) (Int32.ofInt 1 <<< ((f &&& Int32.ofInt 3) &&& 31)) (f >>> (Int32.ofInt 2 &&& 31)) (nI (fd w 11 7)) M) ∧
  (k = Int32.ofInt 7 → dAcc c i (f = Int32.ofInt 2 ∨ f = Int32.ofInt 3) (Int32.ofInt 5) (iI w) (Int32.ofInt 1 <<< (f &&& 31)) (Int32.ofInt 7) (nI (fd w 11 7)) M) ∧
  (k = Int32.ofInt 15 → (Int32.ofInt 2 ≤ f → act c i 161 M) ∧ (¬ Int32.ofInt 2 ≤ f → act c i 162 M)) ∧
  (k = Int32.ofInt 19 → dCmp c i (sI f (Int32.ofInt 0) w) (Int32.ofInt 0) (Int32.ofInt 0) (vI f (Int32.ofInt 0) w) (nI (fd w 11 7)) M) ∧
  (k = Int32.ofInt 23 → dJmp c i 164 (iU w) (nI (fd w 11 7)) M) ∧
  (k = Int32.ofInt 27 → dCmp c i (sI f (Int32.ofInt 1) w) (Int32.ofInt 0) (Int32.ofInt 1) (vI f (Int32.ofInt 1) w) (nI (fd w 11 7)) M) ∧
  (k = Int32.ofInt 35 → dAcc c i (¬ Int32.ofInt 4 ≤ f) (Int32.ofInt 3) (iS w) (Int32.ofInt 1 <<< (f &&& 31)) (Int32.ofInt 0) (Int32.ofInt 0) M) ∧
  (k = Int32.ofInt 39 → dAcc c i (f = Int32.ofInt 2 ∨ f = Int32.ofInt 3) (Int32.ofInt 5) (iS w) (Int32.ofInt 1 <<< (f &&& 31)) (Int32.ofInt 39) (Int32.ofInt 0) M) ∧
  (k = Int32.ofInt 47 → dAcc c i (wAt f (nI (fd w 31 27)) (nI (fd w 24 20))) (Int32.ofInt 4) (Int64.ofInt 0) (Int32.ofInt 1 <<< (f &&& 31)) (nI (fd w 31 27)) (nI (fd w 11 7)) M) ∧
  (k = Int32.ofInt 51 → dCmp c i (sR f (Int32.ofInt 0) (nI (fd w 31 25))) (Int32.ofInt 1) (Int32.ofInt 0) (Int64.ofInt 0) (nI (fd w 11 7)) M) ∧
  (k = Int32.ofInt 55 → dJmp c i 163 (iU w) (nI (fd w 11 7)) M) ∧
  (k = Int32.ofInt 59 → dCmp c i (sR f (Int32.ofInt 1) (nI (fd w 31 25))) (Int32.ofInt 1) (Int32.ofInt 1) (Int64.ofInt 0) (nI (fd w 11 7)) M) ∧
  (k = Int32.ofInt 67 ∨ k = Int32.ofInt 71 ∨ k = Int32.ofInt 75 ∨ k = Int32.ofInt 79 ∨ k = Int32.ofInt 83 → dFor c i True (Int32.ofInt 5) (Int32.ofInt 0) (Int32.ofInt 1) k (nI (fd w 11 7)) M) ∧
  (k = Int32.ofInt 99 → (f = Int32.ofInt 2 ∨ f = Int32.ofInt 3 → act c i 161 M) ∧ (¬ (f = Int32.ofInt 2 ∨ f = Int32.ofInt 3) → act c i 167 M ∧ M.2.1 154 i 0 = iB w ∧ M.1 160 i 0 = f)) ∧
  (k = Int32.ofInt 103 → (f = 0 → dJmp c i 166 (iI w) (nI (fd w 11 7)) M) ∧ (¬ f = 0 → act c i 161 M)) ∧
  (k = Int32.ofInt 111 → dJmp c i 165 (iJ w) (nI (fd w 11 7)) M) ∧
  (k = Int32.ofInt 115 → dFor c i (¬ f = Int32.ofInt 4) (Int32.ofInt 6) (nI (fd w 31 20)) (fi (Int32.ofInt 4 ≤ f) (Int32.ofInt 0) (Int32.ofInt 1)) f (nI (fd w 11 7)) M) ∧
  (¬ (k = Int32.ofInt 3 ∨ k = Int32.ofInt 7 ∨ k = Int32.ofInt 15 ∨ k = Int32.ofInt 19 ∨ k = Int32.ofInt 23 ∨ k = Int32.ofInt 27 ∨ k = Int32.ofInt 35 ∨ k = Int32.ofInt 39 ∨ k = Int32.ofInt 47 ∨ k = Int32.ofInt 51 ∨ k = Int32.ofInt 55 ∨ k = Int32.ofInt 59 ∨
    k = Int32.ofInt 67 ∨ k = Int32.ofInt 71 ∨ k = Int32.ofInt 75 ∨ k = Int32.ofInt 79 ∨ k = Int32.ofInt 83 ∨ k = Int32.ofInt 99 ∨ k = Int32.ofInt 103 ∨ k = Int32.ofInt 111 ∨ k = Int32.ofInt 115) → act c i 161 M)
theorem X49_find {c i : Nat} {k f w : Int32} {M : FM} (hw : M.1 150 i 0 = w) (hd : M.1 151 i 0 = nI (fd w 11 7)) (hb : M.1 153 i 0 = nI (fd w 24 20)) :
    DA c i k f w (fm_sR (GX49_find c i k f M).2 149 i 0 (GX49_find c i k f M).1) := by
  rw [find_w]
  generalize hs : fi (f = Int32.ofInt 2 ∨ f = Int32.ofInt 3) (Int32.ofInt 1) (Int32.ofInt 0) = s
  have s0 : (s = 0) = ¬ (f = Int32.ofInt 2 ∨ f = Int32.ofInt 3) := by rw [← hs]; exact fi01 _
  refine ⟨?_, ?_, ?_, ?_, ?_, ?_, ?_, ?_, ?_, ?_, ?_, ?_, ?_, ?_, ?_, ?_, ?_, ?_⟩
  · rintro rfl
    rcases Classical.propComplete (Int32.ofInt 7 ≤ f) with q | q <;>
      simp (decide := true) only [GX49_find_15, GX49_find_344, GX49_find_330, GX49_find_374, GX49_find_421, GX49_find_444, GX49_find_465, GX49_find_266, X49_access, X49_foreign, X49_store, X49_atomic, X49_branch, X49_jump, X49_immediate, X49_registers, X49_compute, X105_immediateI, X105_immediateU, X105_immediateJ, b3120, hw, hb, fi_if, z00, z10, s0, dAcc, dFor, dCmp, dJmp, act, true_and, and_true, and_false, false_and, or_false, false_or, not_true, not_false_iff, if_true, if_false, true_or, or_true, and_self, imp_true_iff, true_imp_iff, false_imp_iff, q] <;>
      simp [rR, rR0, rR1, mA, mC, mF, rL, rL0, rL2, rI, rI1, rI2, hd, hw, hb]
  · rintro rfl
    rcases Classical.propComplete (f = Int32.ofInt 2 ∨ f = Int32.ofInt 3) with q | q <;>
      simp (decide := true) only [GX49_find_15, GX49_find_344, GX49_find_330, GX49_find_374, GX49_find_421, GX49_find_444, GX49_find_465, GX49_find_266, X49_access, X49_foreign, X49_store, X49_atomic, X49_branch, X49_jump, X49_immediate, X49_registers, X49_compute, X105_immediateI, X105_immediateU, X105_immediateJ, b3120, hw, hb, fi_if, z00, z10, s0, dAcc, dFor, dCmp, dJmp, act, true_and, and_true, and_false, false_and, or_false, false_or, not_true, not_false_iff, if_true, if_false, true_or, or_true, and_self, imp_true_iff, true_imp_iff, false_imp_iff, q] <;>
      simp [rR, rR0, rR1, mA, mC, mF, rL, rL0, rL2, rI, rI1, rI2, hd, hw, hb]
  · rintro rfl
    rcases Classical.propComplete (Int32.ofInt 2 ≤ f) with q | q <;>
      simp (decide := true) only [GX49_find_15, GX49_find_344, GX49_find_330, GX49_find_374, GX49_find_421, GX49_find_444, GX49_find_465, GX49_find_266, X49_access, X49_foreign, X49_store, X49_atomic, X49_branch, X49_jump, X49_immediate, X49_registers, X49_compute, X105_immediateI, X105_immediateU, X105_immediateJ, b3120, hw, hb, fi_if, z00, z10, s0, dAcc, dFor, dCmp, dJmp, act, true_and, and_true, and_false, false_and, or_false, false_or, not_true, not_false_iff, if_true, if_false, true_or, or_true, and_self, imp_true_iff, true_imp_iff, false_imp_iff, q] <;>
      simp [rR, rR0, rR1, mA, mC, mF, rL, rL0, rL2, rI, rI1, rI2, hd, hw, hb]
  · rintro rfl
    rcases Classical.propComplete (sI f (Int32.ofInt 0) w = 0) with q | q <;>
      simp (decide := true) only [GX49_find_15, GX49_find_344, GX49_find_330, GX49_find_374, GX49_find_421, GX49_find_444, GX49_find_465, GX49_find_266, X49_access, X49_foreign, X49_store, X49_atomic, X49_branch, X49_jump, X49_immediate, X49_registers, X49_compute, X105_immediateI, X105_immediateU, X105_immediateJ, b3120, hw, hb, fi_if, z00, z10, s0, dAcc, dFor, dCmp, dJmp, act, true_and, and_true, and_false, false_and, or_false, false_or, not_true, not_false_iff, if_true, if_false, true_or, or_true, and_self, imp_true_iff, true_imp_iff, false_imp_iff, q] <;>
      simp [rR, rR0, rR1, mA, mC, mF, rL, rL0, rL2, rI, rI1, rI2, hd, hw, hb]
  · rintro rfl
    simp (decide := true) only [GX49_find_15, GX49_find_344, GX49_find_330, GX49_find_374, GX49_find_421, GX49_find_444, GX49_find_465, GX49_find_266, X49_access, X49_foreign, X49_store, X49_atomic, X49_branch, X49_jump, X49_immediate, X49_registers, X49_compute, X105_immediateI, X105_immediateU, X105_immediateJ, b3120, hw, hb, fi_if, z00, z10, s0, dAcc, dFor, dCmp, dJmp, act, true_and, and_true, and_false, false_and, or_false, false_or, not_true, not_false_iff, if_true, if_false, true_or, or_true, and_self, imp_true_iff, true_imp_iff, false_imp_iff]
    simp [rR, rR0, rR1, mA, mC, mF, rL, rL0, rL2, rI, rI1, rI2, hd, hw, hb]
  · rintro rfl
    rcases Classical.propComplete (sI f (Int32.ofInt 1) w = 0) with q | q <;>
      simp (decide := true) only [GX49_find_15, GX49_find_344, GX49_find_330, GX49_find_374, GX49_find_421, GX49_find_444, GX49_find_465, GX49_find_266, X49_access, X49_foreign, X49_store, X49_atomic, X49_branch, X49_jump, X49_immediate, X49_registers, X49_compute, X105_immediateI, X105_immediateU, X105_immediateJ, b3120, hw, hb, fi_if, z00, z10, s0, dAcc, dFor, dCmp, dJmp, act, true_and, and_true, and_false, false_and, or_false, false_or, not_true, not_false_iff, if_true, if_false, true_or, or_true, and_self, imp_true_iff, true_imp_iff, false_imp_iff, q] <;>
      simp [rR, rR0, rR1, mA, mC, mF, rL, rL0, rL2, rI, rI1, rI2, hd, hw, hb]
  · rintro rfl
    rcases Classical.propComplete (Int32.ofInt 4 ≤ f) with q | q <;>
      simp (decide := true) only [GX49_find_15, GX49_find_344, GX49_find_330, GX49_find_374, GX49_find_421, GX49_find_444, GX49_find_465, GX49_find_266, X49_access, X49_foreign, X49_store, X49_atomic, X49_branch, X49_jump, X49_immediate, X49_registers, X49_compute, X105_immediateI, X105_immediateU, X105_immediateJ, b3120, hw, hb, fi_if, z00, z10, s0, dAcc, dFor, dCmp, dJmp, act, true_and, and_true, and_false, false_and, or_false, false_or, not_true, not_false_iff, if_true, if_false, true_or, or_true, and_self, imp_true_iff, true_imp_iff, false_imp_iff, q] <;>
      simp [rR, rR0, rR1, mA, mC, mF, rL, rL0, rL2, rI, rI1, rI2, hd, hw, hb]
  · rintro rfl
    rcases Classical.propComplete (f = Int32.ofInt 2 ∨ f = Int32.ofInt 3) with q | q <;>
      simp (decide := true) only [GX49_find_15, GX49_find_344, GX49_find_330, GX49_find_374, GX49_find_421, GX49_find_444, GX49_find_465, GX49_find_266, X49_access, X49_foreign, X49_store, X49_atomic, X49_branch, X49_jump, X49_immediate, X49_registers, X49_compute, X105_immediateI, X105_immediateU, X105_immediateJ, b3120, hw, hb, fi_if, z00, z10, s0, dAcc, dFor, dCmp, dJmp, act, true_and, and_true, and_false, false_and, or_false, false_or, not_true, not_false_iff, if_true, if_false, true_or, or_true, and_self, imp_true_iff, true_imp_iff, false_imp_iff, q] <;>
      simp [rR, rR0, rR1, mA, mC, mF, rL, rL0, rL2, rI, rI1, rI2, hd, hw, hb]
  · rintro rfl
    rcases Classical.propComplete (wAt f (nI (fd w 31 27)) (nI (fd w 24 20))) with q | q <;>
      simp (decide := true) only [GX49_find_15, GX49_find_344, GX49_find_330, GX49_find_374, GX49_find_421, GX49_find_444, GX49_find_465, GX49_find_266, X49_access, X49_foreign, X49_store, X49_atomic, X49_branch, X49_jump, X49_immediate, X49_registers, X49_compute, X105_immediateI, X105_immediateU, X105_immediateJ, b3120, hw, hb, fi_if, z00, z10, s0, dAcc, dFor, dCmp, dJmp, act, true_and, and_true, and_false, false_and, or_false, false_or, not_true, not_false_iff, if_true, if_false, true_or, or_true, and_self, imp_true_iff, true_imp_iff, false_imp_iff, q] <;>
      simp [rR, rR0, rR1, mA, mC, mF, rL, rL0, rL2, rI, rI1, rI2, hd, hw, hb]
  · rintro rfl
    rcases Classical.propComplete (sR f (Int32.ofInt 0) (nI (fd w 31 25)) = 0) with q | q <;>
      simp (decide := true) only [GX49_find_15, GX49_find_344, GX49_find_330, GX49_find_374, GX49_find_421, GX49_find_444, GX49_find_465, GX49_find_266, X49_access, X49_foreign, X49_store, X49_atomic, X49_branch, X49_jump, X49_immediate, X49_registers, X49_compute, X105_immediateI, X105_immediateU, X105_immediateJ, b3120, hw, hb, fi_if, z00, z10, s0, dAcc, dFor, dCmp, dJmp, act, true_and, and_true, and_false, false_and, or_false, false_or, not_true, not_false_iff, if_true, if_false, true_or, or_true, and_self, imp_true_iff, true_imp_iff, false_imp_iff, q] <;>
      simp [rR, rR0, rR1, mA, mC, mF, rL, rL0, rL2, rI, rI1, rI2, hd, hw, hb]
  · rintro rfl
    simp (decide := true) only [GX49_find_15, GX49_find_344, GX49_find_330, GX49_find_374, GX49_find_421, GX49_find_444, GX49_find_465, GX49_find_266, X49_access, X49_foreign, X49_store, X49_atomic, X49_branch, X49_jump, X49_immediate, X49_registers, X49_compute, X105_immediateI, X105_immediateU, X105_immediateJ, b3120, hw, hb, fi_if, z00, z10, s0, dAcc, dFor, dCmp, dJmp, act, true_and, and_true, and_false, false_and, or_false, false_or, not_true, not_false_iff, if_true, if_false, true_or, or_true, and_self, imp_true_iff, true_imp_iff, false_imp_iff]
    simp [rR, rR0, rR1, mA, mC, mF, rL, rL0, rL2, rI, rI1, rI2, hd, hw, hb]
  · rintro rfl
    rcases Classical.propComplete (sR f (Int32.ofInt 1) (nI (fd w 31 25)) = 0) with q | q <;>
      simp (decide := true) only [GX49_find_15, GX49_find_344, GX49_find_330, GX49_find_374, GX49_find_421, GX49_find_444, GX49_find_465, GX49_find_266, X49_access, X49_foreign, X49_store, X49_atomic, X49_branch, X49_jump, X49_immediate, X49_registers, X49_compute, X105_immediateI, X105_immediateU, X105_immediateJ, b3120, hw, hb, fi_if, z00, z10, s0, dAcc, dFor, dCmp, dJmp, act, true_and, and_true, and_false, false_and, or_false, false_or, not_true, not_false_iff, if_true, if_false, true_or, or_true, and_self, imp_true_iff, true_imp_iff, false_imp_iff, q] <;>
      simp [rR, rR0, rR1, mA, mC, mF, rL, rL0, rL2, rI, rI1, rI2, hd, hw, hb]
  · rintro (rfl | rfl | rfl | rfl | rfl) <;>
      simp (decide := true) only [GX49_find_15, GX49_find_344, GX49_find_330, GX49_find_374, GX49_find_421, GX49_find_444, GX49_find_465, GX49_find_266, X49_access, X49_foreign, X49_store, X49_atomic, X49_branch, X49_jump, X49_immediate, X49_registers, X49_compute, X105_immediateI, X105_immediateU, X105_immediateJ, b3120, hw, hb, fi_if, z00, z10, s0, dAcc, dFor, dCmp, dJmp, act, true_and, and_true, and_false, false_and, or_false, false_or, not_true, not_false_iff, if_true, if_false, true_or, or_true, and_self, imp_true_iff, true_imp_iff, false_imp_iff] <;>
      simp [rR, rR0, rR1, mA, mC, mF, rL, rL0, rL2, rI, rI1, rI2, hd, hw, hb]
  · rintro rfl
    rcases Classical.propComplete (f = Int32.ofInt 2 ∨ f = Int32.ofInt 3) with q | q <;>
      simp (decide := true) only [GX49_find_15, GX49_find_344, GX49_find_330, GX49_find_374, GX49_find_421, GX49_find_444, GX49_find_465, GX49_find_266, X49_access, X49_foreign, X49_store, X49_atomic, X49_branch, X49_jump, X49_immediate, X49_registers, X49_compute, X105_immediateI, X105_immediateU, X105_immediateJ, b3120, hw, hb, fi_if, z00, z10, s0, dAcc, dFor, dCmp, dJmp, act, true_and, and_true, and_false, false_and, or_false, false_or, not_true, not_false_iff, if_true, if_false, true_or, or_true, and_self, imp_true_iff, true_imp_iff, false_imp_iff, q] <;>
      simp [rR, rR0, rR1, mA, mC, mF, rL, rL0, rL2, rI, rI1, rI2, hd, hw, hb]
  · rintro rfl
    rcases Classical.propComplete (f = 0) with q | q <;>
      simp (decide := true) only [GX49_find_15, GX49_find_344, GX49_find_330, GX49_find_374, GX49_find_421, GX49_find_444, GX49_find_465, GX49_find_266, X49_access, X49_foreign, X49_store, X49_atomic, X49_branch, X49_jump, X49_immediate, X49_registers, X49_compute, X105_immediateI, X105_immediateU, X105_immediateJ, b3120, hw, hb, fi_if, z00, z10, s0, dAcc, dFor, dCmp, dJmp, act, true_and, and_true, and_false, false_and, or_false, false_or, not_true, not_false_iff, if_true, if_false, true_or, or_true, and_self, imp_true_iff, true_imp_iff, false_imp_iff, q] <;>
      simp [rR, rR0, rR1, mA, mC, mF, rL, rL0, rL2, rI, rI1, rI2, hd, hw, hb]
  · rintro rfl
    simp (decide := true) only [GX49_find_15, GX49_find_344, GX49_find_330, GX49_find_374, GX49_find_421, GX49_find_444, GX49_find_465, GX49_find_266, X49_access, X49_foreign, X49_store, X49_atomic, X49_branch, X49_jump, X49_immediate, X49_registers, X49_compute, X105_immediateI, X105_immediateU, X105_immediateJ, b3120, hw, hb, fi_if, z00, z10, s0, dAcc, dFor, dCmp, dJmp, act, true_and, and_true, and_false, false_and, or_false, false_or, not_true, not_false_iff, if_true, if_false, true_or, or_true, and_self, imp_true_iff, true_imp_iff, false_imp_iff]
    simp [rR, rR0, rR1, mA, mC, mF, rL, rL0, rL2, rI, rI1, rI2, hd, hw, hb]
  · rintro rfl
    rcases Classical.propComplete (f = Int32.ofInt 4) with q | q <;> rcases Classical.propComplete (Int32.ofInt 4 ≤ f) with q2 | q2 <;>
      simp (decide := true) only [GX49_find_15, GX49_find_344, GX49_find_330, GX49_find_374, GX49_find_421, GX49_find_444, GX49_find_465, GX49_find_266, X49_access, X49_foreign, X49_store, X49_atomic, X49_branch, X49_jump, X49_immediate, X49_registers, X49_compute, X105_immediateI, X105_immediateU, X105_immediateJ, b3120, hw, hb, fi_if, z00, z10, s0, dAcc, dFor, dCmp, dJmp, act, true_and, and_true, and_false, false_and, or_false, false_or, not_true, not_false_iff, if_true, if_false, true_or, or_true, and_self, imp_true_iff, true_imp_iff, false_imp_iff, q, q2] <;>
      simp [rR, rR0, rR1, mA, mC, mF, rL, rL0, rL2, rI, rI1, rI2, hd, hw, hb]
  · intro h
    simp only [not_or] at h
    simp only [GX49_find_15, fi_if, h, if_false, act]
    simp [rR]
