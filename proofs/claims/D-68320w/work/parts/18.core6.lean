/-! the twin's core: a step as a whole -/
abbrev CR : Type := Int32 × Nat × Int64 × Int64 × Option Wt
noncomputable def cill (pc : Int64) : CR := (Int32.ofInt (-1), 0, Int64.ofInt 0, pc, none)
noncomputable def cval (o : Option Int64) (d : Nat) (nx pc : Int64) : CR := match o with
  | none => cill pc
  | some v => (Int32.ofInt 0, d, v, nx, none)
noncomputable def cwt (o : Option Wt) (pc : Int64) : CR := match o with
  | none => cill pc
  | some q => (q.1, 0, Int64.ofInt 0, pc, some q)
noncomputable def wt (cd f w : Int32) (x y : Int64) (d : Int32) : Option Wt :=
  fi (cd = Int32.ofInt 3) (fi (Int32.ofInt 7 ≤ f) none (some (Int32.ofInt 2, x + iI w, pw (f - f / Int32.ofInt 4 * Int32.ofInt 4), Int64.ofInt 0, fi (f ≤ Int32.ofInt 3) (Int64.ofInt 0) (Int64.ofInt 1), d)))
  (fi (cd = Int32.ofInt 7) (fi (f = Int32.ofInt 2 ∨ f = Int32.ofInt 3) (some (Int32.ofInt 5, x + iI w, pw f, Int64.ofInt 0, Int64.ofInt 7, d)) none)
  (fi (cd = Int32.ofInt 35) (fi (Int32.ofInt 4 ≤ f) none (some (Int32.ofInt 3, x + iS w, pw f, y, Int64.ofInt 0, Int32.ofInt 0)))
  (fi (cd = Int32.ofInt 39) (fi (f = Int32.ofInt 2 ∨ f = Int32.ofInt 3) (some (Int32.ofInt 5, x + iS w, pw f, Int64.ofInt 0, Int64.ofInt 39, Int32.ofInt 0)) none)
  (fi (cd = Int32.ofInt 47) (wtA f w x y d)
  (fi (cd = Int32.ofInt 67 ∨ cd = Int32.ofInt 71 ∨ cd = Int32.ofInt 75 ∨ cd = Int32.ofInt 79 ∨ cd = Int32.ofInt 83) (some (Int32.ofInt 5, Int64.ofInt 0, Int64.ofInt 0, x, cd.toInt64, d))
  (fi (cd = Int32.ofInt 115) (wtC f w x d) none))))))
theorem X98_others_H {c : Nat} {M : FM} (T : Ty M) (n : fm_is M 94 94 c = true) (cd d f : Int32) : HX98_others c cd d f M := by
  have hD : HX98_done c (Int32.ofInt 0) (Int64.ofInt 0) M := X98_done_H T n ⟨0, by decide, rfl⟩ _
  simp only [HX98_others_258, HX98_others_220, HX98_others_0, HX98_others, X98_immediateI T n, X98_immediateS T n, X98_power, X98_atomic T n, X98_control T n, hD, true_and, and_true, and_false, false_and, or_false, false_or, not_true, not_false_iff, if_true, if_false, true_or, or_true, and_self, imp_true_iff, true_imp_iff, false_imp_iff]
theorem X98_others_f {c : Nat} {M : FM} (d f : Int32) : GX98_others c (Int32.ofInt 15) d f M = fi (Int32.ofInt 2 ≤ f) (Int32.ofInt (-1), M) ((GX98_done c (Int32.ofInt 0) (Int64.ofInt 0) M).1 + Int32.ofInt 1, (GX98_done c (Int32.ofInt 0) (Int64.ofInt 0) M).2) := by
  have a : (Int32.ofInt 15 = Int32.ofInt 3) = False := eq_false (by decide)
  have b : (Int32.ofInt 15 = Int32.ofInt 7) = False := eq_false (by decide)
  simp only [GX98_others, GX98_others_0, fi_if, a, b, if_false, if_true]
  rfl
theorem X98_others {c : Nat} {M : FM} (T : Ty M) (n : fm_is M 94 94 c = true) (cd d f : Int32) (h15 : ¬ cd = Int32.ofInt 15) : Rw c M (wt cd f (M.1 349 c 0) (M.2.1 351 c 0) (M.2.1 352 c 0) d) (GX98_others c cd d f M) := by
  have i1 := X98_immediateI T n
  have i2 := X98_immediateS T n
  have a1 := (X98_atomic T n d f).2
  have a2 := (X98_control T n d f).2
  by_cases h3 : cd = Int32.ofInt 3
  · rw [h3, wt, fi_pos rfl]
    simp only [GX98_others, GX98_others_0, GX98_others_168, GX98_others_160, i1, X98_power, fi_if, if_true]
    split
    · exact Rw_0
    · split <;> exact Rw_1
  by_cases h7 : cd = Int32.ofInt 7
  · rw [wt, fi_neg h3, fi_pos h7]
    simp only [GX98_others, GX98_others_0, GX98_others_247, GX98_others_220, i1, X98_power, fi_if, h3, if_pos h7, if_false]
    rcases Classical.propComplete (f = Int32.ofInt 2) with f2 | f2 <;> rcases Classical.propComplete (f = Int32.ofInt 3) with f3 | f3 <;> simp only [f2, f3, true_and, and_true, and_false, false_and, or_false, false_or, not_true, not_false_iff, if_true, if_false, true_or, or_true, and_self, imp_true_iff, true_imp_iff, false_imp_iff] <;> first | exact Rw_0 | exact Rw_1
  by_cases h35 : cd = Int32.ofInt 35
  · rw [wt, fi_neg h3, fi_neg h7, fi_pos h35]
    simp only [GX98_others, GX98_others_0, GX98_others_202, i2, X98_power, fi_if, h3, h7, h15, if_pos h35, if_false]
    split
    · exact Rw_0
    · exact Rw_1
  by_cases h39 : cd = Int32.ofInt 39
  · rw [wt, fi_neg h3, fi_neg h7, fi_neg h35, fi_pos h39]
    simp only [GX98_others, GX98_others_0, GX98_others_285, GX98_others_258, i2, X98_power, fi_if, h3, h7, h15, h35, if_pos h39, if_false]
    rcases Classical.propComplete (f = Int32.ofInt 2) with f2 | f2 <;> rcases Classical.propComplete (f = Int32.ofInt 3) with f3 | f3 <;> simp only [f2, f3, true_and, and_true, and_false, false_and, or_false, false_or, not_true, not_false_iff, if_true, if_false, true_or, or_true, and_self, imp_true_iff, true_imp_iff, false_imp_iff] <;> first | exact Rw_0 | exact Rw_1
  by_cases h47 : cd = Int32.ofInt 47
  · rw [wt, fi_neg h3, fi_neg h7, fi_neg h35, fi_neg h39, fi_pos h47]
    simp only [GX98_others, GX98_others_0, fi_if, h3, h7, h15, h35, h39, if_pos h47, if_false]
    exact a1
  rw [wt, fi_neg h3, fi_neg h7, fi_neg h35, fi_neg h39, fi_neg h47]
  by_cases h67 : cd = Int32.ofInt 67
  · rw [fi_pos (Or.inl h67)]
    simp only [GX98_others, GX98_others_0, GX98_others_286, fi_if, h3, h7, h15, h35, h39, h47, if_pos h67, if_false]
    exact Rw_1
  by_cases h71 : cd = Int32.ofInt 71
  · rw [fi_pos (Or.inr (Or.inl h71))]
    simp only [GX98_others, GX98_others_0, GX98_others_286, fi_if, h3, h7, h15, h35, h39, h47, h67, if_pos h71, if_false]
    exact Rw_1
  by_cases h75 : cd = Int32.ofInt 75
  · rw [fi_pos (Or.inr (Or.inr (Or.inl h75)))]
    simp only [GX98_others, GX98_others_0, GX98_others_286, fi_if, h3, h7, h15, h35, h39, h47, h67, h71, if_pos h75, if_false]
    exact Rw_1
  by_cases h79 : cd = Int32.ofInt 79
  · rw [fi_pos (Or.inr (Or.inr (Or.inr (Or.inl h79))))]
    simp only [GX98_others, GX98_others_0, GX98_others_286, fi_if, h3, h7, h15, h35, h39, h47, h67, h71, h75, if_pos h79, if_false]
    exact Rw_1
  by_cases h83 : cd = Int32.ofInt 83
  · rw [fi_pos (Or.inr (Or.inr (Or.inr (Or.inr h83))))]
    simp only [GX98_others, GX98_others_0, GX98_others_286, fi_if, h3, h7, h15, h35, h39, h47, h67, h71, h75, h79, if_pos h83, if_false]
    exact Rw_1
  rw [fi_neg (by rintro (h | h | h | h | h) <;> contradiction)]
  by_cases h115 : cd = Int32.ofInt 115
  · rw [fi_pos h115]
    simp only [GX98_others, GX98_others_0, fi_if, h3, h7, h15, h35, h39, h47, h67, h71, h75, h79, h83, if_pos h115, if_false]
    exact a2
  · rw [fi_neg h115]
    simp only [GX98_others, GX98_others_0, fi_if, h3, h7, h15, h35, h39, h47, h67, h71, h75, h79, h83, h115, if_false]
    exact Rw_0
