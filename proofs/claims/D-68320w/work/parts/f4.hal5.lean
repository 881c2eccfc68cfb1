/-! halves: the twin's words -/
set_option maxRecDepth 100000
theorem lit_0 : Int32.ofInt 0 = nI 0 := rfl
theorem lit_1 : Int32.ofInt 1 = nI 1 := rfl
theorem lit_2 : Int32.ofInt 2 = nI 2 := rfl
theorem lit_3 : Int32.ofInt 3 = nI 3 := rfl
theorem lit_4 : Int32.ofInt 4 = nI 4 := rfl
theorem lit_5 : Int32.ofInt 5 = nI 5 := rfl
theorem lit_6 : Int32.ofInt 6 = nI 6 := rfl
theorem lit_7 : Int32.ofInt 7 = nI 7 := rfl
theorem lit_8 : Int32.ofInt 8 = nI 8 := rfl
theorem lit_16 : Int32.ofInt 16 = nI 16 := rfl
theorem lit_19 : Int32.ofInt 19 = nI 19 := rfl
theorem lit_27 : Int32.ofInt 27 = nI 27 := rfl
theorem lit_32 : Int32.ofInt 32 = nI 32 := rfl
theorem lit_35 : Int32.ofInt 35 = nI 35 := rfl
theorem lit_39 : Int32.ofInt 39 = nI 39 := rfl
theorem lit_51 : Int32.ofInt 51 = nI 51 := rfl
theorem lit_55 : Int32.ofInt 55 = nI 55 := rfl
theorem lit_59 : Int32.ofInt 59 = nI 59 := rfl
theorem lit_64 : Int32.ofInt 64 = nI 64 := rfl
theorem lit_103 : Int32.ofInt 103 = nI 103 := rfl
theorem lit_115 : Int32.ofInt 115 = nI 115 := rfl
theorem lit_128 : Int32.ofInt 128 = nI 128 := rfl
theorem lit_256 : Int32.ofInt 256 = nI 256 := rfl
theorem lit_512 : Int32.ofInt 512 = nI 512 := rfl
theorem lit_1024 : Int32.ofInt 1024 = nI 1024 := rfl
theorem lit_2048 : Int32.ofInt 2048 = nI 2048 := rfl
theorem lit_4096 : Int32.ofInt 4096 = nI 4096 := rfl
section Tq
variable {c : Nat} {M : FM}
theorem X94_plain (T : Ty M) (n : fm_is M 97 97 c = true) : HX94_plain c M ∧ GX94_plain c M = (nI (vl_z (M.1 387 c 0)), M) := by
  have b12_12 := X94_bits c (Int32.ofInt 12) (Int32.ofInt 12) M T n (hi := 12) (lo := 12) (by decide) (by decide) rfl rfl
  have b6_2 := X94_bits c (Int32.ofInt 6) (Int32.ofInt 2) M T n (hi := 6) (lo := 2) (by decide) (by decide) rfl rfl
  unfold vl_z
  simp only [HX94_plain_0, HX94_plain, GX94_plain_0, GX94_plain, b12_12, b6_2, true_and, and_true, and_false, false_and, or_false, false_or, not_true, not_false_iff, if_true, if_false, true_or, or_true, and_self, imp_true_iff, true_imp_iff, false_imp_iff]
  try simp only [lit_0, lit_1, lit_2, lit_3, lit_4, lit_5, lit_6, lit_7, lit_8, lit_16, lit_19, lit_27, lit_32, lit_35, lit_39, lit_51, lit_55, lit_59, lit_64, lit_103, lit_115, lit_128, lit_256, lit_512, lit_1024, lit_2048, lit_4096, eq_self, nI_m, nI_a, true_and, and_true, and_false, false_and, or_false, false_or, not_true, not_false_iff, if_true, if_false, true_or, or_true, and_self, imp_true_iff, true_imp_iff, false_imp_iff]
theorem X94_signed (T : Ty M) (n : fm_is M 97 97 c = true) : HX94_signed c M ∧ GX94_signed c M = (nI (vl_n (M.1 387 c 0)) - nI (64 * fd (M.1 387 c 0) 12 12), M) := by
  have b12_12 := X94_bits c (Int32.ofInt 12) (Int32.ofInt 12) M T n (hi := 12) (lo := 12) (by decide) (by decide) rfl rfl
  have pp := X94_plain T n
  rw [show vl_n (M.1 387 c 0) = vl_z (M.1 387 c 0) from rfl]
  simp only [HX94_signed_0, HX94_signed, GX94_signed_0, GX94_signed, b12_12, true_and, and_true, and_false, false_and, or_false, false_or, not_true, not_false_iff, if_true, if_false, true_or, or_true, and_self, imp_true_iff, true_imp_iff, false_imp_iff, pp]
  try simp only [lit_0, lit_1, lit_2, lit_3, lit_4, lit_5, lit_6, lit_7, lit_8, lit_16, lit_19, lit_27, lit_32, lit_35, lit_39, lit_51, lit_55, lit_59, lit_64, lit_103, lit_115, lit_128, lit_256, lit_512, lit_1024, lit_2048, lit_4096, pp, eq_self, nI_m, nI_a, true_and, and_true, and_false, false_and, or_false, false_or, not_true, not_false_iff, if_true, if_false, true_or, or_true, and_self, imp_true_iff, true_imp_iff, false_imp_iff]
theorem X94_eights (T : Ty M) (n : fm_is M 97 97 c = true) : HX94_eights c M ∧ GX94_eights c M = (nI (vl_wide (M.1 387 c 0)), M) := by
  have b6_5 := X94_bits c (Int32.ofInt 6) (Int32.ofInt 5) M T n (hi := 6) (lo := 5) (by decide) (by decide) rfl rfl
  have b12_10 := X94_bits c (Int32.ofInt 12) (Int32.ofInt 10) M T n (hi := 12) (lo := 10) (by decide) (by decide) rfl rfl
  unfold vl_wide
  simp only [HX94_eights_0, HX94_eights, GX94_eights_0, GX94_eights, b6_5, b12_10, true_and, and_true, and_false, false_and, or_false, false_or, not_true, not_false_iff, if_true, if_false, true_or, or_true, and_self, imp_true_iff, true_imp_iff, false_imp_iff]
  try simp only [lit_0, lit_1, lit_2, lit_3, lit_4, lit_5, lit_6, lit_7, lit_8, lit_16, lit_19, lit_27, lit_32, lit_35, lit_39, lit_51, lit_55, lit_59, lit_64, lit_103, lit_115, lit_128, lit_256, lit_512, lit_1024, lit_2048, lit_4096, eq_self, nI_m, nI_a, true_and, and_true, and_false, false_and, or_false, false_or, not_true, not_false_iff, if_true, if_false, true_or, or_true, and_self, imp_true_iff, true_imp_iff, false_imp_iff]
theorem X94_fours (T : Ty M) (n : fm_is M 97 97 c = true) : HX94_fours c M ∧ GX94_fours c M = (nI (vl_narrow (M.1 387 c 0)), M) := by
  have b5_5 := X94_bits c (Int32.ofInt 5) (Int32.ofInt 5) M T n (hi := 5) (lo := 5) (by decide) (by decide) rfl rfl
  have b12_10 := X94_bits c (Int32.ofInt 12) (Int32.ofInt 10) M T n (hi := 12) (lo := 10) (by decide) (by decide) rfl rfl
  have b6_6 := X94_bits c (Int32.ofInt 6) (Int32.ofInt 6) M T n (hi := 6) (lo := 6) (by decide) (by decide) rfl rfl
  unfold vl_narrow
  simp only [HX94_fours_0, HX94_fours, GX94_fours_0, GX94_fours, b5_5, b12_10, b6_6, true_and, and_true, and_false, false_and, or_false, false_or, not_true, not_false_iff, if_true, if_false, true_or, or_true, and_self, imp_true_iff, true_imp_iff, false_imp_iff]
  try simp only [lit_0, lit_1, lit_2, lit_3, lit_4, lit_5, lit_6, lit_7, lit_8, lit_16, lit_19, lit_27, lit_32, lit_35, lit_39, lit_51, lit_55, lit_59, lit_64, lit_103, lit_115, lit_128, lit_256, lit_512, lit_1024, lit_2048, lit_4096, eq_self, nI_m, nI_a, true_and, and_true, and_false, false_and, or_false, false_or, not_true, not_false_iff, if_true, if_false, true_or, or_true, and_self, imp_true_iff, true_imp_iff, false_imp_iff]
/-- the first quarter -/
noncomputable def hQ0 (h : Int32) : Int32 :=
  fi (nI (fd h 15 13) = nI 0) (fi (nI (vl_stack h) = 0) (nI 0) (wI 19 (8 + fd h 4 2) 0 2 (nI (vl_stack h))))
  (fi (nI (fd h 15 13) = nI 1) (wI 7 (8 + fd h 4 2) 3 (8 + fd h 9 7) (nI (vl_wide h)))
  (fi (nI (fd h 15 13) = nI 2) (wI 3 (8 + fd h 4 2) 2 (8 + fd h 9 7) (nI (vl_narrow h)))
  (fi (nI (fd h 15 13) = nI 3) (wI 3 (8 + fd h 4 2) 3 (8 + fd h 9 7) (nI (vl_wide h)))
  (fi (nI (fd h 15 13) = nI 4) (nI 0)
  (fi (nI (fd h 15 13) = nI 5) (wS 39 3 (8 + fd h 9 7) (8 + fd h 4 2) (nI (vl_wide h)))
  (fi (nI (fd h 15 13) = nI 6) (wS 35 2 (8 + fd h 9 7) (8 + fd h 4 2) (nI (vl_narrow h)))
  (fi (nI (fd h 15 13) = nI 7) (wS 35 3 (8 + fd h 9 7) (8 + fd h 4 2) (nI (vl_wide h))) (nI 0))))))))
theorem fi_P {p : Prop} {a b : Int32} {M : FM} : fi p (a, M) (b, M) = (fi p a b, M) := by
  by_cases h : p
  · rw [fi_pos h, fi_pos h]
  · rw [fi_neg h, fi_neg h]
theorem X94_quadrant0 (T : Ty M) (n : fm_is M 97 97 c = true) : HX94_quadrant0 c M ∧ GX94_quadrant0 c M = (hQ0 (M.1 387 c 0), M) := by
  have b9_7 := X94_bits c (Int32.ofInt 9) (Int32.ofInt 7) M T n (hi := 9) (lo := 7) (by decide) (by decide) rfl rfl
  have b4_2 := X94_bits c (Int32.ofInt 4) (Int32.ofInt 2) M T n (hi := 4) (lo := 2) (by decide) (by decide) rfl rfl
  have b15_13 := X94_bits c (Int32.ofInt 15) (Int32.ofInt 13) M T n (hi := 15) (lo := 13) (by decide) (by decide) rfl rfl
  have b10_7 := X94_bits c (Int32.ofInt 10) (Int32.ofInt 7) M T n (hi := 10) (lo := 7) (by decide) (by decide) rfl rfl
  have b12_11 := X94_bits c (Int32.ofInt 12) (Int32.ofInt 11) M T n (hi := 12) (lo := 11) (by decide) (by decide) rfl rfl
  have b5_5 := X94_bits c (Int32.ofInt 5) (Int32.ofInt 5) M T n (hi := 5) (lo := 5) (by decide) (by decide) rfl rfl
  have b6_6 := X94_bits c (Int32.ofInt 6) (Int32.ofInt 6) M T n (hi := 6) (lo := 6) (by decide) (by decide) rfl rfl
  have p8 := X94_eights T n
  have p4 := X94_fours T n
  unfold hQ0 vl_stack
  simp only [HX94_quadrant0_0, HX94_quadrant0, GX94_quadrant0_215, GX94_quadrant0_138, GX94_quadrant0_0, GX94_quadrant0, b9_7, b4_2, b15_13, b10_7, b12_11, b5_5, b6_6, true_and, and_true, and_false, false_and, or_false, false_or, not_true, not_false_iff, if_true, if_false, true_or, or_true, and_self, imp_true_iff, true_imp_iff, false_imp_iff, p8, p4]
  try simp only [lit_0, lit_1, lit_2, lit_3, lit_4, lit_5, lit_6, lit_7, lit_8, lit_16, lit_19, lit_27, lit_32, lit_35, lit_39, lit_51, lit_55, lit_59, lit_64, lit_103, lit_115, lit_128, lit_256, lit_512, lit_1024, lit_2048, lit_4096, p8, p4, X94_wordI, X94_wordS, fi_P, and_self, implies_true, nI_m, nI_a, true_and, and_true, and_false, false_and, or_false, false_or, not_true, not_false_iff, if_true, if_false, true_or, or_true, and_self, imp_true_iff, true_imp_iff, false_imp_iff]
noncomputable def hAr (h : Int32) : Int32 :=
  fi (nI 2 ≤ nI (fd h 11 10)) (fi (nI (fd h 11 10) = nI 2) (wI 19 (8 + fd h 9 7) 7 (8 + fd h 9 7) (nI (vl_n h) - nI (64 * fd h 12 12)))
    (fi (nI (4 * fd h 12 12 + fd h 6 5) = nI 0) (wI 51 (8 + fd h 9 7) 0 (8 + fd h 9 7) (nI (8 + fd h 4 2 + 32 * 32)))
    (fi (nI (4 * fd h 12 12 + fd h 6 5) = nI 1) (wI 51 (8 + fd h 9 7) 4 (8 + fd h 9 7) (nI (8 + fd h 4 2 + 32 * 0)))
    (fi (nI (4 * fd h 12 12 + fd h 6 5) = nI 2) (wI 51 (8 + fd h 9 7) 6 (8 + fd h 9 7) (nI (8 + fd h 4 2 + 32 * 0)))
    (fi (nI (4 * fd h 12 12 + fd h 6 5) = nI 3) (wI 51 (8 + fd h 9 7) 7 (8 + fd h 9 7) (nI (8 + fd h 4 2 + 32 * 0)))
    (fi (nI (4 * fd h 12 12 + fd h 6 5) = nI 4) (wI 59 (8 + fd h 9 7) 0 (8 + fd h 9 7) (nI (8 + fd h 4 2 + 32 * 32)))
    (fi (nI (4 * fd h 12 12 + fd h 6 5) = nI 5) (wI 59 (8 + fd h 9 7) 0 (8 + fd h 9 7) (nI (8 + fd h 4 2 + 32 * 0))) (nI 0))))))))
  (wI 19 (8 + fd h 9 7) 5 (8 + fd h 9 7) (nI (vl_z h + 1024 * fd h 11 10)))
theorem X94_arithmetic (T : Ty M) (n : fm_is M 97 97 c = true) : HX94_arithmetic c M ∧ GX94_arithmetic c M = (hAr (M.1 387 c 0), M) := by
  have b9_7 := X94_bits c (Int32.ofInt 9) (Int32.ofInt 7) M T n (hi := 9) (lo := 7) (by decide) (by decide) rfl rfl
  have b4_2 := X94_bits c (Int32.ofInt 4) (Int32.ofInt 2) M T n (hi := 4) (lo := 2) (by decide) (by decide) rfl rfl
  have b11_10 := X94_bits c (Int32.ofInt 11) (Int32.ofInt 10) M T n (hi := 11) (lo := 10) (by decide) (by decide) rfl rfl
  have b12_12 := X94_bits c (Int32.ofInt 12) (Int32.ofInt 12) M T n (hi := 12) (lo := 12) (by decide) (by decide) rfl rfl
  have b6_5 := X94_bits c (Int32.ofInt 6) (Int32.ofInt 5) M T n (hi := 6) (lo := 5) (by decide) (by decide) rfl rfl
  have ps := X94_signed T n
  have pp := X94_plain T n
  unfold hAr
  simp only [HX94_arithmetic_0, HX94_arithmetic, GX94_arithmetic_0, GX94_arithmetic, b9_7, b4_2, b11_10, b12_12, b6_5, true_and, and_true, and_false, false_and, or_false, false_or, not_true, not_false_iff, if_true, if_false, true_or, or_true, and_self, imp_true_iff, true_imp_iff, false_imp_iff, ps, pp]
  try simp only [lit_0, lit_1, lit_2, lit_3, lit_4, lit_5, lit_6, lit_7, lit_8, lit_16, lit_19, lit_27, lit_32, lit_35, lit_39, lit_51, lit_55, lit_59, lit_64, lit_103, lit_115, lit_128, lit_256, lit_512, lit_1024, lit_2048, lit_4096, ps, pp, X94_wordI, GX94_wordR, GX94_wordR_0, fi_P, and_self, implies_true, nI_m, nI_a, true_and, and_true, and_false, false_and, or_false, false_or, not_true, not_false_iff, if_true, if_false, true_or, or_true, and_self, imp_true_iff, true_imp_iff, false_imp_iff]
noncomputable def hUp (h : Int32) : Int32 :=
  fi (nI (fd h 11 7) = nI 2) (fi (nI (128 * fd h 4 3 + 64 * fd h 5 5 + 32 * fd h 2 2 + 16 * fd h 6 6) - nI (512 * fd h 12 12) = 0) (nI 0) (wI 19 2 0 2 (nI (128 * fd h 4 3 + 64 * fd h 5 5 + 32 * fd h 2 2 + 16 * fd h 6 6) - nI (512 * fd h 12 12))))
  (fi (nI (vl_n h) - nI (64 * fd h 12 12) = 0) (nI 0) (nI (55 + 128 * fd h 11 7) + nI 4096 * (nI (vl_n h) - nI (64 * fd h 12 12))))
theorem X94_upper (T : Ty M) (n : fm_is M 97 97 c = true) : HX94_upper c (nI (fd (M.1 387 c 0) 11 7)) M ∧ GX94_upper c (nI (fd (M.1 387 c 0) 11 7)) M = (hUp (M.1 387 c 0), M) := by
  have b4_3 := X94_bits c (Int32.ofInt 4) (Int32.ofInt 3) M T n (hi := 4) (lo := 3) (by decide) (by decide) rfl rfl
  have b5_5 := X94_bits c (Int32.ofInt 5) (Int32.ofInt 5) M T n (hi := 5) (lo := 5) (by decide) (by decide) rfl rfl
  have b2_2 := X94_bits c (Int32.ofInt 2) (Int32.ofInt 2) M T n (hi := 2) (lo := 2) (by decide) (by decide) rfl rfl
  have b6_6 := X94_bits c (Int32.ofInt 6) (Int32.ofInt 6) M T n (hi := 6) (lo := 6) (by decide) (by decide) rfl rfl
  have b12_12 := X94_bits c (Int32.ofInt 12) (Int32.ofInt 12) M T n (hi := 12) (lo := 12) (by decide) (by decide) rfl rfl
  have ps := X94_signed T n
  unfold hUp
  simp only [HX94_upper_0, HX94_upper, GX94_upper_107, GX94_upper_78, GX94_upper_0, GX94_upper, b4_3, b5_5, b2_2, b6_6, b12_12, true_and, and_true, and_false, false_and, or_false, false_or, not_true, not_false_iff, if_true, if_false, true_or, or_true, and_self, imp_true_iff, true_imp_iff, false_imp_iff, ps]
  try simp only [lit_0, lit_1, lit_2, lit_3, lit_4, lit_5, lit_6, lit_7, lit_8, lit_16, lit_19, lit_27, lit_32, lit_35, lit_39, lit_51, lit_55, lit_59, lit_64, lit_103, lit_115, lit_128, lit_256, lit_512, lit_1024, lit_2048, lit_4096, ps, X94_wordI, fi_P, and_self, implies_true, nI_m, nI_a, true_and, and_true, and_false, false_and, or_false, false_or, not_true, not_false_iff, if_true, if_false, true_or, or_true, and_self, imp_true_iff, true_imp_iff, false_imp_iff]
end Tq
