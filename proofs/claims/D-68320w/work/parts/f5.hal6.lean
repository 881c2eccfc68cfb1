/-! halves: the twin's words, all quarters -/
set_option maxRecDepth 100000
noncomputable def hJ3 (h : Int32) : Int32 :=
  fi (nI (fd h 6 2) = 0) (fi (nI (fd h 11 7) = 0) (wI 115 0 0 0 (nI 1)) (wI 103 1 0 (fd h 11 7) (nI 0)))
    (fi (nI (fd h 12 12) = 0) (wI 51 (fd h 11 7) 0 0 (nI (fd h 6 2 + 32 * 0))) (wI 51 (fd h 11 7) 0 (fd h 11 7) (nI (fd h 6 2 + 32 * 0))))
noncomputable def hJm (h : Int32) : Int32 := fi (nI (fd h 6 2) = 0) (fi (nI (fd h 12 12) = 0) (fi (nI (fd h 11 7) = 0) (nI 0) (wI 103 0 0 (fd h 11 7) (nI 0))) (hJ3 h)) (hJ3 h)
noncomputable def hQ1 (h : Int32) : Int32 :=
  fi (nI (fd h 15 13) = nI 0) (wI 19 (fd h 11 7) 0 (fd h 11 7) (nI (vl_n h) - nI (64 * fd h 12 12)))
  (fi (nI (fd h 15 13) = nI 1) (fi (nI (fd h 11 7) = 0) (nI 0) (wI 27 (fd h 11 7) 0 (fd h 11 7) (nI (vl_n h) - nI (64 * fd h 12 12))))
  (fi (nI (fd h 15 13) = nI 2) (wI 19 (fd h 11 7) 0 0 (nI (vl_n h) - nI (64 * fd h 12 12)))
  (fi (nI (fd h 15 13) = nI 3) (hUp h)
  (fi (nI (fd h 15 13) = nI 4) (hAr h)
  (fi (nI (fd h 15 13) = nI 5) (wJ (nI (1024 * fd h 8 8 + 256 * fd h 10 9 + 128 * fd h 6 6 + 64 * fd h 7 7 + 32 * fd h 2 2 + 16 * fd h 11 11 + 2 * fd h 5 3) - nI (2048 * fd h 12 12)))
  (fi (nI (fd h 15 13) = nI 6) (wB 0 (8 + fd h 9 7) (nI (64 * fd h 6 5 + 32 * fd h 2 2 + 8 * fd h 11 10 + 2 * fd h 4 3) - nI (256 * fd h 12 12)))
    (wB 1 (8 + fd h 9 7) (nI (64 * fd h 6 5 + 32 * fd h 2 2 + 8 * fd h 11 10 + 2 * fd h 4 3) - nI (256 * fd h 12 12)))))))))
noncomputable def hQ2 (h : Int32) : Int32 :=
  fi (nI (fd h 15 13) = nI 0) (wI 19 (fd h 11 7) 1 (fd h 11 7) (nI (vl_z h)))
  (fi (nI (fd h 15 13) = nI 1) (wI 7 (fd h 11 7) 3 2 (nI (64 * fd h 4 2 + 32 * fd h 12 12 + 8 * fd h 6 5)))
  (fi (nI (fd h 15 13) = nI 2) (fi (nI (fd h 11 7) = 0) (nI 0) (wI 3 (fd h 11 7) 2 2 (nI (64 * fd h 3 2 + 32 * fd h 12 12 + 4 * fd h 6 4))))
  (fi (nI (fd h 15 13) = nI 3) (fi (nI (fd h 11 7) = 0) (nI 0) (wI 3 (fd h 11 7) 3 2 (nI (64 * fd h 4 2 + 32 * fd h 12 12 + 8 * fd h 6 5))))
  (fi (nI (fd h 15 13) = nI 4) (hJm h)
  (fi (nI (fd h 15 13) = nI 5) (wS 39 3 2 (fd h 6 2) (nI (64 * fd h 9 7 + 8 * fd h 12 10)))
  (fi (nI (fd h 15 13) = nI 6) (wS 35 2 2 (fd h 6 2) (nI (64 * fd h 8 7 + 4 * fd h 12 9)))
    (wS 35 3 2 (fd h 6 2) (nI (64 * fd h 9 7 + 8 * fd h 12 10)))))))))
noncomputable def hW (h : Int32) : Int32 := fi (h &&& Int32.ofInt 3 = Int32.ofInt 0) (hQ0 h) (fi (h &&& Int32.ofInt 3 = Int32.ofInt 1) (hQ1 h) (fi (h &&& Int32.ofInt 3 = Int32.ofInt 2) (hQ2 h) (Int32.ofInt 0)))
section Tq
variable {c : Nat} {M : FM}
theorem X94_jumps (T : Ty M) (n : fm_is M 97 97 c = true) : HX94_jumps c (nI (fd (M.1 387 c 0) 11 7)) (nI (fd (M.1 387 c 0) 6 2)) M ∧ GX94_jumps c (nI (fd (M.1 387 c 0) 11 7)) (nI (fd (M.1 387 c 0) 6 2)) M = (hJm (M.1 387 c 0), M) := by
  have b12_12 := X94_bits c (Int32.ofInt 12) (Int32.ofInt 12) M T n (hi := 12) (lo := 12) (by decide) (by decide) rfl rfl
  unfold hJm hJ3
  simp only [HX94_jumps_33, HX94_jumps_0, HX94_jumps, GX94_jumps_83, GX94_jumps_62, GX94_jumps_33, GX94_jumps_32, GX94_jumps_0, GX94_jumps, b12_12, true_and, and_true, and_false, false_and, or_false, false_or, not_true, not_false_iff, if_true, if_false, true_or, or_true, and_self, imp_true_iff, true_imp_iff, false_imp_iff]
  try simp only [lit_0, lit_1, lit_2, lit_3, lit_4, lit_5, lit_6, lit_7, lit_8, lit_16, lit_19, lit_27, lit_32, lit_35, lit_39, lit_51, lit_55, lit_59, lit_64, lit_103, lit_115, lit_128, lit_256, lit_512, lit_1024, lit_2048, lit_4096, X94_wordI, GX94_wordR, GX94_wordR_0, fi_P, and_self, implies_true, nI_m, nI_a, true_and, and_true, and_false, false_and, or_false, false_or, not_true, not_false_iff, if_true, if_false, true_or, or_true, and_self, imp_true_iff, true_imp_iff, false_imp_iff]
theorem X94_quadrant1 (T : Ty M) (n : fm_is M 97 97 c = true) : HX94_quadrant1 c M ∧ GX94_quadrant1 c M = (hQ1 (M.1 387 c 0), M) := by
  have b11_7 := X94_bits c (Int32.ofInt 11) (Int32.ofInt 7) M T n (hi := 11) (lo := 7) (by decide) (by decide) rfl rfl
  have b6_5 := X94_bits c (Int32.ofInt 6) (Int32.ofInt 5) M T n (hi := 6) (lo := 5) (by decide) (by decide) rfl rfl
  have b2_2 := X94_bits c (Int32.ofInt 2) (Int32.ofInt 2) M T n (hi := 2) (lo := 2) (by decide) (by decide) rfl rfl
  have b11_10 := X94_bits c (Int32.ofInt 11) (Int32.ofInt 10) M T n (hi := 11) (lo := 10) (by decide) (by decide) rfl rfl
  have b4_3 := X94_bits c (Int32.ofInt 4) (Int32.ofInt 3) M T n (hi := 4) (lo := 3) (by decide) (by decide) rfl rfl
  have b12_12 := X94_bits c (Int32.ofInt 12) (Int32.ofInt 12) M T n (hi := 12) (lo := 12) (by decide) (by decide) rfl rfl
  have b15_13 := X94_bits c (Int32.ofInt 15) (Int32.ofInt 13) M T n (hi := 15) (lo := 13) (by decide) (by decide) rfl rfl
  have b8_8 := X94_bits c (Int32.ofInt 8) (Int32.ofInt 8) M T n (hi := 8) (lo := 8) (by decide) (by decide) rfl rfl
  have b10_9 := X94_bits c (Int32.ofInt 10) (Int32.ofInt 9) M T n (hi := 10) (lo := 9) (by decide) (by decide) rfl rfl
  have b6_6 := X94_bits c (Int32.ofInt 6) (Int32.ofInt 6) M T n (hi := 6) (lo := 6) (by decide) (by decide) rfl rfl
  have b7_7 := X94_bits c (Int32.ofInt 7) (Int32.ofInt 7) M T n (hi := 7) (lo := 7) (by decide) (by decide) rfl rfl
  have b11_11 := X94_bits c (Int32.ofInt 11) (Int32.ofInt 11) M T n (hi := 11) (lo := 11) (by decide) (by decide) rfl rfl
  have b5_3 := X94_bits c (Int32.ofInt 5) (Int32.ofInt 3) M T n (hi := 5) (lo := 3) (by decide) (by decide) rfl rfl
  have b9_7 := X94_bits c (Int32.ofInt 9) (Int32.ofInt 7) M T n (hi := 9) (lo := 7) (by decide) (by decide) rfl rfl
  have ps := X94_signed T n
  have pa := X94_arithmetic T n
  have pu := X94_upper T n
  have pj := fun i => X94_wordJ (i := i) T
  have pb := fun f a i => X94_wordB (f := f) (a := a) (i := i) T
  unfold hQ1
  simp only [HX94_quadrant1_0, HX94_quadrant1, GX94_quadrant1_149, GX94_quadrant1_0, GX94_quadrant1, b11_7, b6_5, b2_2, b11_10, b4_3, b12_12, b15_13, b8_8, b10_9, b6_6, b7_7, b11_11, b5_3, b9_7, true_and, and_true, and_false, false_and, or_false, false_or, not_true, not_false_iff, if_true, if_false, true_or, or_true, and_self, imp_true_iff, true_imp_iff, false_imp_iff, ps, pa, pu, pj]
  try simp only [lit_0, lit_1, lit_2, lit_3, lit_4, lit_5, lit_6, lit_7, lit_8, lit_16, lit_19, lit_27, lit_32, lit_35, lit_39, lit_51, lit_55, lit_59, lit_64, lit_103, lit_115, lit_128, lit_256, lit_512, lit_1024, lit_2048, lit_4096, X94_wordI, pb, fi_P, and_self, implies_true, nI_m, nI_a, true_and, and_true, and_false, false_and, or_false, false_or, not_true, not_false_iff, if_true, if_false, true_or, or_true, and_self, imp_true_iff, true_imp_iff, false_imp_iff]
theorem X94_quadrant2 (T : Ty M) (n : fm_is M 97 97 c = true) : HX94_quadrant2 c M ∧ GX94_quadrant2 c M = (hQ2 (M.1 387 c 0), M) := by
  have b11_7 := X94_bits c (Int32.ofInt 11) (Int32.ofInt 7) M T n (hi := 11) (lo := 7) (by decide) (by decide) rfl rfl
  have b6_2 := X94_bits c (Int32.ofInt 6) (Int32.ofInt 2) M T n (hi := 6) (lo := 2) (by decide) (by decide) rfl rfl
  have b4_2 := X94_bits c (Int32.ofInt 4) (Int32.ofInt 2) M T n (hi := 4) (lo := 2) (by decide) (by decide) rfl rfl
  have b12_12 := X94_bits c (Int32.ofInt 12) (Int32.ofInt 12) M T n (hi := 12) (lo := 12) (by decide) (by decide) rfl rfl
  have b6_5 := X94_bits c (Int32.ofInt 6) (Int32.ofInt 5) M T n (hi := 6) (lo := 5) (by decide) (by decide) rfl rfl
  have b9_7 := X94_bits c (Int32.ofInt 9) (Int32.ofInt 7) M T n (hi := 9) (lo := 7) (by decide) (by decide) rfl rfl
  have b12_10 := X94_bits c (Int32.ofInt 12) (Int32.ofInt 10) M T n (hi := 12) (lo := 10) (by decide) (by decide) rfl rfl
  have b15_13 := X94_bits c (Int32.ofInt 15) (Int32.ofInt 13) M T n (hi := 15) (lo := 13) (by decide) (by decide) rfl rfl
  have b3_2 := X94_bits c (Int32.ofInt 3) (Int32.ofInt 2) M T n (hi := 3) (lo := 2) (by decide) (by decide) rfl rfl
  have b6_4 := X94_bits c (Int32.ofInt 6) (Int32.ofInt 4) M T n (hi := 6) (lo := 4) (by decide) (by decide) rfl rfl
  have b8_7 := X94_bits c (Int32.ofInt 8) (Int32.ofInt 7) M T n (hi := 8) (lo := 7) (by decide) (by decide) rfl rfl
  have b12_9 := X94_bits c (Int32.ofInt 12) (Int32.ofInt 9) M T n (hi := 12) (lo := 9) (by decide) (by decide) rfl rfl
  have pp := X94_plain T n
  have pj := X94_jumps T n
  unfold hQ2
  simp only [HX94_quadrant2_0, HX94_quadrant2, GX94_quadrant2_210, GX94_quadrant2_193, GX94_quadrant2_0, GX94_quadrant2, b11_7, b6_2, b4_2, b12_12, b6_5, b9_7, b12_10, b15_13, b3_2, b6_4, b8_7, b12_9, true_and, and_true, and_false, false_and, or_false, false_or, not_true, not_false_iff, if_true, if_false, true_or, or_true, and_self, imp_true_iff, true_imp_iff, false_imp_iff, pp, pj]
  try simp only [lit_0, lit_1, lit_2, lit_3, lit_4, lit_5, lit_6, lit_7, lit_8, lit_16, lit_19, lit_27, lit_32, lit_35, lit_39, lit_51, lit_55, lit_59, lit_64, lit_103, lit_115, lit_128, lit_256, lit_512, lit_1024, lit_2048, lit_4096, X94_wordI, X94_wordS, fi_P, and_self, implies_true, nI_m, nI_a, true_and, and_true, and_false, false_and, or_false, false_or, not_true, not_false_iff, if_true, if_false, true_or, or_true, and_self, imp_true_iff, true_imp_iff, false_imp_iff]
end Tq
