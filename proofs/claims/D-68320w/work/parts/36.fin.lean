/-! the component: the end of an instruction that wanted something -/
noncomputable def fin (k z s : Int32) (v : Int64) : Int64 :=
  fi (k = Int32.ofInt 5) v (fi (k = Int32.ofInt 2 ∧ s = Int32.ofInt 1) ((v <<< ((Int32.ofInt 64 - Int32.ofInt 8 * z).toInt64 &&& 63)).toUInt64 >>> ((Int32.ofInt 64 - Int32.ofInt 8 * z).toInt64.toUInt64 &&& Int64.toUInt64 63)).toInt64
    ((v <<< ((Int32.ofInt 64 - Int32.ofInt 8 * z).toInt64 &&& 63)) >>> ((Int32.ofInt 64 - Int32.ofInt 8 * z).toInt64 &&& 63)))
theorem X57_finish {r : Nat} {M : FM} (T : Ty M) (n : fm_is M 64 64 r = true) (x i : Nat) (v : Int64) {k : Nat} (hk : k < 32) (hd : M.1 151 i 0 = nI k) :
    HX57_finish x r i v M ∧ GX57_finish x r i v M = GX48_set r (nI k) (fin (M.1 158 i 0) (M.1 159 i 0) (M.1 160 i 0) v) M := by
  refine ⟨?_, ?_⟩
  · simp only [HX57_finish_74, HX57_finish_33, HX57_finish_32, HX57_finish_0, HX57_finish, hd, X48_set_H T n hk, true_and, and_true, and_false, false_and, or_false, false_or, not_true, not_false_iff, if_true, if_false, true_or, or_true, and_self, imp_true_iff, true_imp_iff, false_imp_iff]
  · rcases Classical.propComplete (M.1 158 i 0 = Int32.ofInt 5) with k5 | k5 <;> rcases Classical.propComplete (M.1 158 i 0 = Int32.ofInt 2) with k2 | k2 <;> rcases Classical.propComplete (M.1 160 i 0 = Int32.ofInt 1) with s1 | s1 <;>
      simp only [GX57_finish_74, GX57_finish_33, GX57_finish_32, GX57_finish_0, GX57_finish, hd, fin, fi_if, k5, k2, s1, z00, z10, true_and, and_true, and_false, false_and, or_false, false_or, not_true, not_false_iff, if_true, if_false, true_or, or_true, and_self, imp_true_iff, true_imp_iff, false_imp_iff]
theorem X50_finish {r : Nat} {M : FM} (T : Ty M) (n : fm_is M 64 64 r = true) (x i : Nat) (v : Int64) {k : Nat} (hk : k < 32) (hd : M.1 151 i 0 = nI k) :
    HX50_finish x r i v M ∧ GX50_finish x r i v M = GX48_set r (nI k) v M := by
  refine ⟨?_, ?_⟩
  · simp only [HX50_finish_0, HX50_finish, hd, X48_set_H T n hk, true_and, and_true, and_false, false_and, or_false, false_or, not_true, not_false_iff, if_true, if_false, true_or, or_true, and_self, imp_true_iff, true_imp_iff, false_imp_iff]
  · simp only [GX50_finish_0, GX50_finish, hd]
