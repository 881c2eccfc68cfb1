/-! the component's actions: branches, what is wanted -/
section
variable {r : Nat} {M : FM}
theorem X55_run (T : Ty M) (n : fm_is M 64 64 r = true) (x i : Nat) (len : Int32) {a b : Nat} (ha : a < 32) (hi : M.1 152 i 0 = nI a) (hb : b < 32) (hj : M.1 153 i 0 = nI b) {f : Int32} (hf : M.1 160 i 0 = f) (h8 : n8 f) (h23 : ¬ (f = Int32.ofInt 2 ∨ f = Int32.ofInt 3)) :
    HX55_run x r i len M ∧ GX55_run x r i len M = (Int32.ofInt 0, fm_sL M 179 r 0 (M.2.1 179 r 0 + fi (brc f (M.2.1 3 (M.2.2 178 r 0) a) (M.2.1 3 (M.2.2 178 r 0) b)) (M.2.1 154 i 0) len.toInt64)) := by
  have a1 : fm_in M (M.2.2 178 r 0) (nI a) = true := in32 (tL_178 T.1 n) ⟨a, ha, rfl⟩
  have a2 : (nI a).toNatClampNeg = a := nI_clamp (by omega)
  have b1 : fm_in M (M.2.2 178 r 0) (nI b) = true := in32 (tL_178 T.1 n) ⟨b, hb, rfl⟩
  have b2 : (nI b).toNatClampNeg = b := nI_clamp (by omega)
  refine ⟨?_, ?_⟩
  · simp only [HX55_run_0, HX55_run, hi, hj, a1, b1, true_and, and_true, and_false, false_and, or_false, false_or, not_true, not_false_iff, if_true, if_false, true_or, or_true, and_self, imp_true_iff, true_imp_iff, false_imp_iff]
  · have e : GX55_run x r i len M = GX55_run_0 x r i len M := rfl
    rw [e]
    unfold GX55_run_0
    simp only [hi, hj, hf, a2, b2, X106_isBelow, GX55_run_78, GX55_run_102, GX55_run_114]
    generalize M.2.1 3 (M.2.2 178 r 0) a = x1
    generalize M.2.1 3 (M.2.2 178 r 0) b = y1
    have k1 : (lg_cmp x1 y1 = 0) ↔ x1 = y1 := lg_cmp_eq _ _
    have k2 : (0 ≤ lg_cmp x1 y1) ↔ ¬ x1 < y1 := by rw [lg_cmp_ge, le_tl, lt_tl]; omega
    simp only [k1, k2, hf]
    rcases Classical.propComplete (x1 = y1) with c1 | c1 <;> rcases Classical.propComplete (x1 < y1) with c2 | c2 <;> rcases Classical.propComplete (ul x1 < ul y1) with c3 | c3 <;>
      rcases h8 with rfl | rfl | rfl | rfl | rfl | rfl | rfl | rfl <;>
      first
      | exact absurd (Or.inl rfl) h23
      | exact absurd (Or.inr rfl) h23
      | simp (decide := true) only [brc, bz, fi_if, c1, c2, c3, true_and, and_true, and_false, false_and, or_false, false_or, not_true, not_false_iff, if_true, if_false, true_or, or_true, and_self, imp_true_iff, true_imp_iff, false_imp_iff, iff_true, iff_false, true_iff, false_iff]
theorem X57_wanted (T : Ty M) (n : fm_is M 64 64 r = true) (x i : Nat) {a b : Nat} (ha : a < 32) (hi : M.1 152 i 0 = nI a) (hb : b < 32) (hj : M.1 153 i 0 = nI b) (q : Int32) :
    HX57_wanted x r i q M ∧ GX57_wanted x r i q M = (fi (q = Int32.ofInt 0) (M.2.1 3 (M.2.2 178 r 0) a + M.2.1 154 i 0) (fi (q = Int32.ofInt 1) (M.1 159 i 0).toInt64 (fi (q = Int32.ofInt 2) (fi (M.1 158 i 0 = Int32.ofInt 3 ∨ M.1 158 i 0 = Int32.ofInt 4) (M.2.1 3 (M.2.2 178 r 0) b) (Int64.ofInt 0))
      (fi (q = Int32.ofInt 3) (M.1 160 i 0).toInt64 (M.1 151 i 0).toInt64))), M) := by
  have a1 : fm_in M (M.2.2 178 r 0) (nI a) = true := in32 (tL_178 T.1 n) ⟨a, ha, rfl⟩
  have a2 : (nI a).toNatClampNeg = a := nI_clamp (by omega)
  have b1 : fm_in M (M.2.2 178 r 0) (nI b) = true := in32 (tL_178 T.1 n) ⟨b, hb, rfl⟩
  have b2 : (nI b).toNatClampNeg = b := nI_clamp (by omega)
  refine ⟨?_, ?_⟩
  · simp only [HX57_wanted_69, HX57_wanted_0, HX57_wanted, hi, hj, a1, b1, true_and, and_true, and_false, false_and, or_false, false_or, not_true, not_false_iff, if_true, if_false, true_or, or_true, and_self, imp_true_iff, true_imp_iff, false_imp_iff]
  · rcases Classical.propComplete (q = Int32.ofInt 0) with q0 | q0 <;> rcases Classical.propComplete (q = Int32.ofInt 1) with q1 | q1 <;> rcases Classical.propComplete (q = Int32.ofInt 2) with q2 | q2 <;> rcases Classical.propComplete (q = Int32.ofInt 3) with q3 | q3 <;> rcases Classical.propComplete (M.1 158 i 0 = Int32.ofInt 3) with k3 | k3 <;> rcases Classical.propComplete (M.1 158 i 0 = Int32.ofInt 4) with k4 | k4 <;>
      simp only [GX57_wanted_82, GX57_wanted_69, GX57_wanted_0, GX57_wanted, hi, hj, a2, b2, fi_if, q0, q1, q2, q3, k3, k4, true_and, and_true, and_false, false_and, or_false, false_or, not_true, not_false_iff, if_true, if_false, true_or, or_true, and_self, imp_true_iff, true_imp_iff, false_imp_iff]
theorem X58_wanted (T : Ty M) (n : fm_is M 64 64 r = true) (x i : Nat) {a : Nat} (ha : a < 32) (hi : M.1 152 i 0 = nI a) (q : Int32) :
    HX58_wanted x r i q M ∧ GX58_wanted x r i q M = (fi (q = Int32.ofInt 0) (M.2.1 154 i 0) (fi (q = Int32.ofInt 1) (Int64.ofInt 0) (fi (q = Int32.ofInt 2) (fi (M.1 156 i 0 = 0) (nI a).toInt64 (M.2.1 3 (M.2.2 178 r 0) a))
      (fi (q = Int32.ofInt 3) (M.1 160 i 0).toInt64 (M.1 151 i 0).toInt64))), M) := by
  have a1 : fm_in M (M.2.2 178 r 0) (nI a) = true := in32 (tL_178 T.1 n) ⟨a, ha, rfl⟩
  have a2 : (nI a).toNatClampNeg = a := nI_clamp (by omega)
  refine ⟨?_, ?_⟩
  · simp only [HX58_wanted_0, HX58_wanted, hi, a1, true_and, and_true, and_false, false_and, or_false, false_or, not_true, not_false_iff, if_true, if_false, true_or, or_true, and_self, imp_true_iff, true_imp_iff, false_imp_iff]
  · rcases Classical.propComplete (q = Int32.ofInt 0) with q0 | q0 <;> rcases Classical.propComplete (q = Int32.ofInt 1) with q1 | q1 <;> rcases Classical.propComplete (q = Int32.ofInt 2) with q2 | q2 <;> rcases Classical.propComplete (q = Int32.ofInt 3) with q3 | q3 <;> rcases Classical.propComplete (M.1 156 i 0 = 0) with k3 | k3 <;>
      simp only [GX58_wanted_63, GX58_wanted_0, GX58_wanted, hi, a2, fi_if, q0, q1, q2, q3, k3, true_and, and_true, and_false, false_and, or_false, false_or, not_true, not_false_iff, if_true, if_false, true_or, or_true, and_self, imp_true_iff, true_imp_iff, false_imp_iff]
end
