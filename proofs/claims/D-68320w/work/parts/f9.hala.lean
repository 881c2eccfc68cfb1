/-! halves: every short instruction makes the same word on both sides, line by line -/
set_option maxRecDepth 100000
section Lq
variable {s : Nat} {M : FM} {h : Int32}
theorem lz_jump : nI (vl_jump h) - nI (4096 * fd h 12 12) = nI (1024 * fd h 8 8 + 256 * fd h 10 9 + 128 * fd h 6 6 + 64 * fd h 7 7 + 32 * fd h 2 2 + 16 * fd h 11 11 + 2 * fd h 5 3) - nI (2048 * fd h 12 12) := by
  have h12_12 := fd_lt h (hi := 12) (lo := 12) (by decide)
  have h8_8 := fd_lt h (hi := 8) (lo := 8) (by decide)
  have h10_9 := fd_lt h (hi := 10) (lo := 9) (by decide)
  have h6_6 := fd_lt h (hi := 6) (lo := 6) (by decide)
  have h7_7 := fd_lt h (hi := 7) (lo := 7) (by decide)
  have h2_2 := fd_lt h (hi := 2) (lo := 2) (by decide)
  have h11_11 := fd_lt h (hi := 11) (lo := 11) (by decide)
  have h5_3 := fd_lt h (hi := 5) (lo := 3) (by decide)
  apply ui_inj
  unfold vl_jump
  rw [ui_sub, ui_sub, ui_nI, ui_nI, ui_nI, ui_nI]
  generalize fd h 12 12 = u12_12 at *
  generalize fd h 8 8 = u8_8 at *
  generalize fd h 10 9 = u10_9 at *
  generalize fd h 6 6 = u6_6 at *
  generalize fd h 7 7 = u7_7 at *
  generalize fd h 2 2 = u2_2 at *
  generalize fd h 11 11 = u11_11 at *
  generalize fd h 5 3 = u5_3 at *
  omega
theorem lz_branch : nI (vl_branch h) - nI (512 * fd h 12 12) = nI (64 * fd h 6 5 + 32 * fd h 2 2 + 8 * fd h 11 10 + 2 * fd h 4 3) - nI (256 * fd h 12 12) := by
  have h12_12 := fd_lt h (hi := 12) (lo := 12) (by decide)
  have h6_5 := fd_lt h (hi := 6) (lo := 5) (by decide)
  have h2_2 := fd_lt h (hi := 2) (lo := 2) (by decide)
  have h11_10 := fd_lt h (hi := 11) (lo := 10) (by decide)
  have h4_3 := fd_lt h (hi := 4) (lo := 3) (by decide)
  apply ui_inj
  unfold vl_branch
  rw [ui_sub, ui_sub, ui_nI, ui_nI, ui_nI, ui_nI]
  generalize fd h 12 12 = u12_12 at *
  generalize fd h 6 5 = u6_5 at *
  generalize fd h 2 2 = u2_2 at *
  generalize fd h 11 10 = u11_10 at *
  generalize fd h 4 3 = u4_3 at *
  omega
theorem lz_stackSum : nI (vl_stackSum h) - nI (1024 * fd h 12 12) = nI (128 * fd h 4 3 + 64 * fd h 5 5 + 32 * fd h 2 2 + 16 * fd h 6 6) - nI (512 * fd h 12 12) := by
  have h12_12 := fd_lt h (hi := 12) (lo := 12) (by decide)
  have h4_3 := fd_lt h (hi := 4) (lo := 3) (by decide)
  have h5_5 := fd_lt h (hi := 5) (lo := 5) (by decide)
  have h2_2 := fd_lt h (hi := 2) (lo := 2) (by decide)
  have h6_6 := fd_lt h (hi := 6) (lo := 6) (by decide)
  apply ui_inj
  unfold vl_stackSum
  rw [ui_sub, ui_sub, ui_nI, ui_nI, ui_nI, ui_nI]
  generalize fd h 12 12 = u12_12 at *
  generalize fd h 4 3 = u4_3 at *
  generalize fd h 5 5 = u5_5 at *
  generalize fd h 2 2 = u2_2 at *
  generalize fd h 6 6 = u6_6 at *
  omega
theorem lq_0 (T : Ty M) (z0 : M.2.2 0 0 0 = 0) (L : LnS_0 s M) (ht : fd h 15 13 = 0) : HX34_expand_27 h (lnH s 0 M) M ∧ GX34_expand_27 h (lnH s 0 M) M = (hQ0 h, M) := by
  obtain ⟨n, y0⟩ := L
  have m : HX37_make (lnH s 0 M) h M ∧ GX37_make (lnH s 0 M) h M = (fi (sgO 0 (rdO h pl_stack (Int32.ofInt 0)) = 0) (nI 0) (wI 19 (8 + fd h 4 2) 0 2 (sgO 0 (rdO h pl_stack (Int32.ofInt 0)))), M) := X37_make (h := h) T y0 (by decide)
  have e : fi (sgO 0 (rdO h pl_stack (Int32.ofInt 0)) = 0) (nI 0) (wI 19 (8 + fd h 4 2) 0 2 (sgO 0 (rdO h pl_stack (Int32.ofInt 0)))) = hQ0 h := by
    unfold hQ0
    rw [ht, fi_pos (show nI 0 = nI 0 from rfl), ly_stack]
  rw [← e]
  exact e27_50 n z0 m
theorem lq_1 (T : Ty M) (z0 : M.2.2 0 0 0 = 0) (L : LnS_1 s M) (ht : fd h 15 13 = 1) : HX34_expand_27 h (lnH s 1 M) M ∧ GX34_expand_27 h (lnH s 1 M) M = (hQ0 h, M) := by
  obtain ⟨n, f0, f1, f2, y0⟩ := L
  have m : HX38_make (lnH s 1 M) h M ∧ GX38_make (lnH s 1 M) h M = (wI 7 (8 + fd h 4 2) 3 (8 + fd h 9 7) (sgO 0 (rdO h pl_wide (Int32.ofInt 0))), M) := X38_make (h := h) T f0 f1 f2 y0 (by decide) (by decide) (by decide) (by decide)
  have e : wI 7 (8 + fd h 4 2) 3 (8 + fd h 9 7) (sgO 0 (rdO h pl_wide (Int32.ofInt 0))) = hQ0 h := by
    unfold hQ0
    rw [ht, fi_neg (show ¬ nI 1 = nI 0 by decide), fi_pos (show nI 1 = nI 1 from rfl), ly_wide]
  rw [← e]
  exact e27_43 n z0 m
theorem lq_2 (T : Ty M) (z0 : M.2.2 0 0 0 = 0) (L : LnS_2 s M) (ht : fd h 15 13 = 2) : HX34_expand_27 h (lnH s 2 M) M ∧ GX34_expand_27 h (lnH s 2 M) M = (hQ0 h, M) := by
  obtain ⟨n, f0, f1, f2, y0⟩ := L
  have m : HX38_make (lnH s 2 M) h M ∧ GX38_make (lnH s 2 M) h M = (wI 3 (8 + fd h 4 2) 2 (8 + fd h 9 7) (sgO 0 (rdO h pl_narrow (Int32.ofInt 0))), M) := X38_make (h := h) T f0 f1 f2 y0 (by decide) (by decide) (by decide) (by decide)
  have e : wI 3 (8 + fd h 4 2) 2 (8 + fd h 9 7) (sgO 0 (rdO h pl_narrow (Int32.ofInt 0))) = hQ0 h := by
    unfold hQ0
    rw [ht, fi_neg (show ¬ nI 2 = nI 0 by decide), fi_neg (show ¬ nI 2 = nI 1 by decide), fi_pos (show nI 2 = nI 2 from rfl), ly_narrow]
  rw [← e]
  exact e27_43 n z0 m
theorem lq_3 (T : Ty M) (z0 : M.2.2 0 0 0 = 0) (L : LnS_3 s M) (ht : fd h 15 13 = 3) : HX34_expand_27 h (lnH s 3 M) M ∧ GX34_expand_27 h (lnH s 3 M) M = (hQ0 h, M) := by
  obtain ⟨n, f0, f1, f2, y0⟩ := L
  have m : HX38_make (lnH s 3 M) h M ∧ GX38_make (lnH s 3 M) h M = (wI 3 (8 + fd h 4 2) 3 (8 + fd h 9 7) (sgO 0 (rdO h pl_wide (Int32.ofInt 0))), M) := X38_make (h := h) T f0 f1 f2 y0 (by decide) (by decide) (by decide) (by decide)
  have e : wI 3 (8 + fd h 4 2) 3 (8 + fd h 9 7) (sgO 0 (rdO h pl_wide (Int32.ofInt 0))) = hQ0 h := by
    unfold hQ0
    rw [ht, fi_neg (show ¬ nI 3 = nI 0 by decide), fi_neg (show ¬ nI 3 = nI 1 by decide), fi_neg (show ¬ nI 3 = nI 2 by decide), fi_pos (show nI 3 = nI 3 from rfl), ly_wide]
  rw [← e]
  exact e27_43 n z0 m
theorem lq_5 (T : Ty M) (z0 : M.2.2 0 0 0 = 0) (L : LnS_5 s M) (ht : fd h 15 13 = 5) : HX34_expand_27 h (lnH s 5 M) M ∧ GX34_expand_27 h (lnH s 5 M) M = (hQ0 h, M) := by
  obtain ⟨n, f0, f1, f2, y0⟩ := L
  have m : HX38_make (lnH s 5 M) h M ∧ GX38_make (lnH s 5 M) h M = (wS 39 3 (8 + fd h 9 7) (8 + fd h 4 2) (sgO 0 (rdO h pl_wide (Int32.ofInt 0))), M) := X38_make (h := h) T f0 f1 f2 y0 (by decide) (by decide) (by decide) (by decide)
  have e : wS 39 3 (8 + fd h 9 7) (8 + fd h 4 2) (sgO 0 (rdO h pl_wide (Int32.ofInt 0))) = hQ0 h := by
    unfold hQ0
    rw [ht, fi_neg (show ¬ nI 5 = nI 0 by decide), fi_neg (show ¬ nI 5 = nI 1 by decide), fi_neg (show ¬ nI 5 = nI 2 by decide), fi_neg (show ¬ nI 5 = nI 3 by decide), fi_neg (show ¬ nI 5 = nI 4 by decide), fi_pos (show nI 5 = nI 5 from rfl), ly_wide]
  rw [← e]
  exact e27_43 n z0 m
theorem lq_6 (T : Ty M) (z0 : M.2.2 0 0 0 = 0) (L : LnS_6 s M) (ht : fd h 15 13 = 6) : HX34_expand_27 h (lnH s 6 M) M ∧ GX34_expand_27 h (lnH s 6 M) M = (hQ0 h, M) := by
  obtain ⟨n, f0, f1, f2, y0⟩ := L
  have m : HX38_make (lnH s 6 M) h M ∧ GX38_make (lnH s 6 M) h M = (wS 35 2 (8 + fd h 9 7) (8 + fd h 4 2) (sgO 0 (rdO h pl_narrow (Int32.ofInt 0))), M) := X38_make (h := h) T f0 f1 f2 y0 (by decide) (by decide) (by decide) (by decide)
  have e : wS 35 2 (8 + fd h 9 7) (8 + fd h 4 2) (sgO 0 (rdO h pl_narrow (Int32.ofInt 0))) = hQ0 h := by
    unfold hQ0
    rw [ht, fi_neg (show ¬ nI 6 = nI 0 by decide), fi_neg (show ¬ nI 6 = nI 1 by decide), fi_neg (show ¬ nI 6 = nI 2 by decide), fi_neg (show ¬ nI 6 = nI 3 by decide), fi_neg (show ¬ nI 6 = nI 4 by decide), fi_neg (show ¬ nI 6 = nI 5 by decide), fi_pos (show nI 6 = nI 6 from rfl), ly_narrow]
  rw [← e]
  exact e27_43 n z0 m
theorem lq_7 (T : Ty M) (z0 : M.2.2 0 0 0 = 0) (L : LnS_7 s M) (ht : fd h 15 13 = 7) : HX34_expand_27 h (lnH s 7 M) M ∧ GX34_expand_27 h (lnH s 7 M) M = (hQ0 h, M) := by
  obtain ⟨n, f0, f1, f2, y0⟩ := L
  have m : HX38_make (lnH s 7 M) h M ∧ GX38_make (lnH s 7 M) h M = (wS 35 3 (8 + fd h 9 7) (8 + fd h 4 2) (sgO 0 (rdO h pl_wide (Int32.ofInt 0))), M) := X38_make (h := h) T f0 f1 f2 y0 (by decide) (by decide) (by decide) (by decide)
  have e : wS 35 3 (8 + fd h 9 7) (8 + fd h 4 2) (sgO 0 (rdO h pl_wide (Int32.ofInt 0))) = hQ0 h := by
    unfold hQ0
    rw [ht, fi_neg (show ¬ nI 7 = nI 0 by decide), fi_neg (show ¬ nI 7 = nI 1 by decide), fi_neg (show ¬ nI 7 = nI 2 by decide), fi_neg (show ¬ nI 7 = nI 3 by decide), fi_neg (show ¬ nI 7 = nI 4 by decide), fi_neg (show ¬ nI 7 = nI 5 by decide), fi_neg (show ¬ nI 7 = nI 6 by decide), fi_pos (show nI 7 = nI 7 from rfl), ly_wide]
  rw [← e]
  exact e27_43 n z0 m
theorem lq_8 (T : Ty M) (z0 : M.2.2 0 0 0 = 0) (L : LnS_8 s M) (ht : fd h 15 13 = 0) : HX34_expand_27 h (lnH s 8 M) M ∧ GX34_expand_27 h (lnH s 8 M) M = (hQ1 h, M) := by
  obtain ⟨n, f0, f1, f2, y0⟩ := L
  have m : HX39_make (lnH s 8 M) h M ∧ GX39_make (lnH s 8 M) h M = (wI 19 (fd h 11 7) 0 (fd h 11 7) (sgO 5 (rdO h pl_n (Int32.ofInt 0))), M) := X39_make (h := h) T f0 f1 f2 y0 (by decide) (by decide) (by decide) (by decide)
  have e : wI 19 (fd h 11 7) 0 (fd h 11 7) (sgO 5 (rdO h pl_n (Int32.ofInt 0))) = hQ1 h := by
    unfold hQ1
    rw [ht, fi_pos (show nI 0 = nI 0 from rfl), ly_n]
  rw [← e]
  exact e27_45 n z0 m
theorem lq_9 (T : Ty M) (z0 : M.2.2 0 0 0 = 0) (L : LnS_9 s M) (ht : fd h 15 13 = 1) : HX34_expand_27 h (lnH s 9 M) M ∧ GX34_expand_27 h (lnH s 9 M) M = (hQ1 h, M) := by
  obtain ⟨n, f0, f1, f2, y0⟩ := L
  have m : HX39_make (lnH s 9 M) h M ∧ GX39_make (lnH s 9 M) h M = (fi (nI (fd h 11 7) = 0) (nI 0) (wI 27 (fd h 11 7) 0 (fd h 11 7) (sgO 5 (rdO h pl_n (Int32.ofInt 0)))), M) := X39_make (h := h) T f0 f1 f2 y0 (by decide) (by decide) (by decide) (by decide)
  have e : fi (nI (fd h 11 7) = 0) (nI 0) (wI 27 (fd h 11 7) 0 (fd h 11 7) (sgO 5 (rdO h pl_n (Int32.ofInt 0)))) = hQ1 h := by
    unfold hQ1
    rw [ht, fi_neg (show ¬ nI 1 = nI 0 by decide), fi_pos (show nI 1 = nI 1 from rfl), ly_n]
  rw [← e]
  exact e27_45 n z0 m
theorem lq_10 (T : Ty M) (z0 : M.2.2 0 0 0 = 0) (L : LnS_10 s M) (ht : fd h 15 13 = 2) : HX34_expand_27 h (lnH s 10 M) M ∧ GX34_expand_27 h (lnH s 10 M) M = (hQ1 h, M) := by
  obtain ⟨n, f0, f1, f2, y0⟩ := L
  have m : HX39_make (lnH s 10 M) h M ∧ GX39_make (lnH s 10 M) h M = (wI 19 (fd h 11 7) 0 (0) (sgO 5 (rdO h pl_n (Int32.ofInt 0))), M) := X39_make (h := h) T f0 f1 f2 y0 (by decide) (by decide) (by decide) (by decide)
  have e : wI 19 (fd h 11 7) 0 (0) (sgO 5 (rdO h pl_n (Int32.ofInt 0))) = hQ1 h := by
    unfold hQ1
    rw [ht, fi_neg (show ¬ nI 2 = nI 0 by decide), fi_neg (show ¬ nI 2 = nI 1 by decide), fi_pos (show nI 2 = nI 2 from rfl), ly_n]
  rw [← e]
  exact e27_45 n z0 m
theorem lq_11 (T : Ty M) (z0 : M.2.2 0 0 0 = 0) (L : LnS_11 s M) (ht : fd h 15 13 = 3) : HX34_expand_27 h (lnH s 11 M) M ∧ GX34_expand_27 h (lnH s 11 M) M = (hQ1 h, M) := by
  obtain ⟨n, y0, y1⟩ := L
  have m : HX40_make (lnH s 11 M) h M ∧ GX40_make (lnH s 11 M) h M = (fi (nI (fd h 11 7) = nI 2) (fi (sgO 9 (rdO h pl_stackSum (Int32.ofInt 0)) = 0) (nI 0) (wI 19 2 0 2 (sgO 9 (rdO h pl_stackSum (Int32.ofInt 0))))) (fi (sgO 5 (rdO h pl_n (Int32.ofInt 0)) = 0) (nI 0) (Int32.ofInt 55 + Int32.ofInt 128 * nI (fd h 11 7) + Int32.ofInt 4096 * sgO 5 (rdO h pl_n (Int32.ofInt 0)))), M) := X40_make (h := h) T y0 (by decide) y1 (by decide)
  have e : fi (nI (fd h 11 7) = nI 2) (fi (sgO 9 (rdO h pl_stackSum (Int32.ofInt 0)) = 0) (nI 0) (wI 19 2 0 2 (sgO 9 (rdO h pl_stackSum (Int32.ofInt 0))))) (fi (sgO 5 (rdO h pl_n (Int32.ofInt 0)) = 0) (nI 0) (Int32.ofInt 55 + Int32.ofInt 128 * nI (fd h 11 7) + Int32.ofInt 4096 * sgO 5 (rdO h pl_n (Int32.ofInt 0)))) = hQ1 h := by
    unfold hQ1
    rw [ht, fi_neg (show ¬ nI 3 = nI 0 by decide), fi_neg (show ¬ nI 3 = nI 1 by decide), fi_neg (show ¬ nI 3 = nI 2 by decide), fi_pos (show nI 3 = nI 3 from rfl), ly_stackSum, lz_stackSum, ly_n]
    unfold hUp
    rw [lit_55, lit_128, lit_4096, nI_m, nI_a]
  rw [← e]
  exact e27_49 n z0 m
theorem lq_12 (T : Ty M) (z0 : M.2.2 0 0 0 = 0) (L : LnS_12 s M) (ht : fd h 15 13 = 4) : HX34_expand_27 h (lnH s 12 M) M ∧ GX34_expand_27 h (lnH s 12 M) M = (hQ1 h, M) := by
  obtain ⟨n, y0, y1, sm⟩ := L
  have m : HX41_make (lnH s 12 M) h M ∧ GX41_make (lnH s 12 M) h M = (hAr h, M) := X41_make (h := h) T n y0 y1 sm
  have e : hAr h = hQ1 h := by
    unfold hQ1
    rw [ht, fi_neg (show ¬ nI 4 = nI 0 by decide), fi_neg (show ¬ nI 4 = nI 1 by decide), fi_neg (show ¬ nI 4 = nI 2 by decide), fi_neg (show ¬ nI 4 = nI 3 by decide), fi_pos (show nI 4 = nI 4 from rfl)]
  rw [← e]
  exact e27_47 n z0 m
theorem lq_13 (T : Ty M) (z0 : M.2.2 0 0 0 = 0) (L : LnS_13 s M) (ht : fd h 15 13 = 5) : HX34_expand_27 h (lnH s 13 M) M ∧ GX34_expand_27 h (lnH s 13 M) M = (hQ1 h, M) := by
  obtain ⟨n, y0⟩ := L
  have m : HX42_make (lnH s 13 M) h M ∧ GX42_make (lnH s 13 M) h M = (wJ (sgO 11 (rdO h pl_jump (Int32.ofInt 0))), M) := X42_make (h := h) T y0 (by decide)
  have e : wJ (sgO 11 (rdO h pl_jump (Int32.ofInt 0))) = hQ1 h := by
    unfold hQ1
    rw [ht, fi_neg (show ¬ nI 5 = nI 0 by decide), fi_neg (show ¬ nI 5 = nI 1 by decide), fi_neg (show ¬ nI 5 = nI 2 by decide), fi_neg (show ¬ nI 5 = nI 3 by decide), fi_neg (show ¬ nI 5 = nI 4 by decide), fi_pos (show nI 5 = nI 5 from rfl), ly_jump, lz_jump]
  rw [← e]
  exact e27_46 n z0 m
theorem lq_14 (T : Ty M) (z0 : M.2.2 0 0 0 = 0) (L : LnS_14 s M) (ht : fd h 15 13 = 6) : HX34_expand_27 h (lnH s 14 M) M ∧ GX34_expand_27 h (lnH s 14 M) M = (hQ1 h, M) := by
  obtain ⟨n, f0, y0⟩ := L
  have m : HX43_make (lnH s 14 M) h M ∧ GX43_make (lnH s 14 M) h M = (wB 0 (8 + fd h 9 7) (sgO 8 (rdO h pl_branch (Int32.ofInt 0))), M) := X43_make (h := h) (t := 0) T f0 (by decide) y0 (by decide)
  have e : wB 0 (8 + fd h 9 7) (sgO 8 (rdO h pl_branch (Int32.ofInt 0))) = hQ1 h := by
    unfold hQ1
    rw [ht, fi_neg (show ¬ nI 6 = nI 0 by decide), fi_neg (show ¬ nI 6 = nI 1 by decide), fi_neg (show ¬ nI 6 = nI 2 by decide), fi_neg (show ¬ nI 6 = nI 3 by decide), fi_neg (show ¬ nI 6 = nI 4 by decide), fi_neg (show ¬ nI 6 = nI 5 by decide), fi_pos (show nI 6 = nI 6 from rfl), ly_branch, lz_branch]
  rw [← e]
  exact e27_44 n z0 m
theorem lq_15 (T : Ty M) (z0 : M.2.2 0 0 0 = 0) (L : LnS_15 s M) (ht : fd h 15 13 = 7) : HX34_expand_27 h (lnH s 15 M) M ∧ GX34_expand_27 h (lnH s 15 M) M = (hQ1 h, M) := by
  obtain ⟨n, f0, y0⟩ := L
  have m : HX43_make (lnH s 15 M) h M ∧ GX43_make (lnH s 15 M) h M = (wB 1 (8 + fd h 9 7) (sgO 8 (rdO h pl_branch (Int32.ofInt 0))), M) := X43_make (h := h) (t := 1) T f0 (by decide) y0 (by decide)
  have e : wB 1 (8 + fd h 9 7) (sgO 8 (rdO h pl_branch (Int32.ofInt 0))) = hQ1 h := by
    unfold hQ1
    rw [ht, fi_neg (show ¬ nI 7 = nI 0 by decide), fi_neg (show ¬ nI 7 = nI 1 by decide), fi_neg (show ¬ nI 7 = nI 2 by decide), fi_neg (show ¬ nI 7 = nI 3 by decide), fi_neg (show ¬ nI 7 = nI 4 by decide), fi_neg (show ¬ nI 7 = nI 5 by decide), fi_neg (show ¬ nI 7 = nI 6 by decide), ly_branch, lz_branch]
  rw [← e]
  exact e27_44 n z0 m
theorem lq_16 (T : Ty M) (z0 : M.2.2 0 0 0 = 0) (L : LnS_16 s M) (ht : fd h 15 13 = 0) : HX34_expand_27 h (lnH s 16 M) M ∧ GX34_expand_27 h (lnH s 16 M) M = (hQ2 h, M) := by
  obtain ⟨n, f0, f1, f2, y0⟩ := L
  have m : HX39_make (lnH s 16 M) h M ∧ GX39_make (lnH s 16 M) h M = (wI 19 (fd h 11 7) 1 (fd h 11 7) (sgO 0 (rdO h pl_z (Int32.ofInt 0))), M) := X39_make (h := h) T f0 f1 f2 y0 (by decide) (by decide) (by decide) (by decide)
  have e : wI 19 (fd h 11 7) 1 (fd h 11 7) (sgO 0 (rdO h pl_z (Int32.ofInt 0))) = hQ2 h := by
    unfold hQ2
    rw [ht, fi_pos (show nI 0 = nI 0 from rfl), ly_z]
  rw [← e]
  exact e27_45 n z0 m
theorem lq_17 (T : Ty M) (z0 : M.2.2 0 0 0 = 0) (L : LnS_17 s M) (ht : fd h 15 13 = 1) : HX34_expand_27 h (lnH s 17 M) M ∧ GX34_expand_27 h (lnH s 17 M) M = (hQ2 h, M) := by
  obtain ⟨n, f0, f1, f2, y0⟩ := L
  have m : HX44_make (lnH s 17 M) h M ∧ GX44_make (lnH s 17 M) h M = (wI 7 (fd h 11 7) 3 2 (sgO 0 (rdO h pl_wideStack (Int32.ofInt 0))), M) := X44_make (h := h) T f0 f1 f2 y0 (by decide) (by decide) (by decide) (by decide)
  have e : wI 7 (fd h 11 7) 3 2 (sgO 0 (rdO h pl_wideStack (Int32.ofInt 0))) = hQ2 h := by
    unfold hQ2
    rw [ht, fi_neg (show ¬ nI 1 = nI 0 by decide), fi_pos (show nI 1 = nI 1 from rfl), ly_wideStack]
    rfl
  rw [← e]
  exact e27_48 n z0 m
theorem lq_18 (T : Ty M) (z0 : M.2.2 0 0 0 = 0) (L : LnS_18 s M) (ht : fd h 15 13 = 2) : HX34_expand_27 h (lnH s 18 M) M ∧ GX34_expand_27 h (lnH s 18 M) M = (hQ2 h, M) := by
  obtain ⟨n, f0, f1, f2, y0⟩ := L
  have m : HX44_make (lnH s 18 M) h M ∧ GX44_make (lnH s 18 M) h M = (fi (nI (fd h 11 7) = 0) (nI 0) (wI 3 (fd h 11 7) 2 2 (sgO 0 (rdO h pl_narrowStack (Int32.ofInt 0)))), M) := X44_make (h := h) T f0 f1 f2 y0 (by decide) (by decide) (by decide) (by decide)
  have e : fi (nI (fd h 11 7) = 0) (nI 0) (wI 3 (fd h 11 7) 2 2 (sgO 0 (rdO h pl_narrowStack (Int32.ofInt 0)))) = hQ2 h := by
    unfold hQ2
    rw [ht, fi_neg (show ¬ nI 2 = nI 0 by decide), fi_neg (show ¬ nI 2 = nI 1 by decide), fi_pos (show nI 2 = nI 2 from rfl), ly_narrowStack]
    rfl
  rw [← e]
  exact e27_48 n z0 m
theorem lq_19 (T : Ty M) (z0 : M.2.2 0 0 0 = 0) (L : LnS_19 s M) (ht : fd h 15 13 = 3) : HX34_expand_27 h (lnH s 19 M) M ∧ GX34_expand_27 h (lnH s 19 M) M = (hQ2 h, M) := by
  obtain ⟨n, f0, f1, f2, y0⟩ := L
  have m : HX44_make (lnH s 19 M) h M ∧ GX44_make (lnH s 19 M) h M = (fi (nI (fd h 11 7) = 0) (nI 0) (wI 3 (fd h 11 7) 3 2 (sgO 0 (rdO h pl_wideStack (Int32.ofInt 0)))), M) := X44_make (h := h) T f0 f1 f2 y0 (by decide) (by decide) (by decide) (by decide)
  have e : fi (nI (fd h 11 7) = 0) (nI 0) (wI 3 (fd h 11 7) 3 2 (sgO 0 (rdO h pl_wideStack (Int32.ofInt 0)))) = hQ2 h := by
    unfold hQ2
    rw [ht, fi_neg (show ¬ nI 3 = nI 0 by decide), fi_neg (show ¬ nI 3 = nI 1 by decide), fi_neg (show ¬ nI 3 = nI 2 by decide), fi_pos (show nI 3 = nI 3 from rfl), ly_wideStack]
    rfl
  rw [← e]
  exact e27_48 n z0 m
theorem lq_20 (T : Ty M) (z0 : M.2.2 0 0 0 = 0) (L : LnS_20 s M) (ht : fd h 15 13 = 4) : HX34_expand_27 h (lnH s 20 M) M ∧ GX34_expand_27 h (lnH s 20 M) M = (hQ2 h, M) := by
  have n := L
  have m : GX45_make (lnH s 20 M) h M = (hJm h, M) := X45_make
  have e : hJm h = hQ2 h := by
    unfold hQ2
    rw [ht, fi_neg (show ¬ nI 4 = nI 0 by decide), fi_neg (show ¬ nI 4 = nI 1 by decide), fi_neg (show ¬ nI 4 = nI 2 by decide), fi_neg (show ¬ nI 4 = nI 3 by decide), fi_pos (show nI 4 = nI 4 from rfl)]
  rw [← e]
  exact e27_51 n z0 m
theorem lq_21 (T : Ty M) (z0 : M.2.2 0 0 0 = 0) (L : LnS_21 s M) (ht : fd h 15 13 = 5) : HX34_expand_27 h (lnH s 21 M) M ∧ GX34_expand_27 h (lnH s 21 M) M = (hQ2 h, M) := by
  obtain ⟨n, f0, f1, f2, y0⟩ := L
  have m : HX44_make (lnH s 21 M) h M ∧ GX44_make (lnH s 21 M) h M = (wS 39 3 2 (fd h 6 2) (sgO 0 (rdO h pl_wideStore (Int32.ofInt 0))), M) := X44_make (h := h) T f0 f1 f2 y0 (by decide) (by decide) (by decide) (by decide)
  have e : wS 39 3 2 (fd h 6 2) (sgO 0 (rdO h pl_wideStore (Int32.ofInt 0))) = hQ2 h := by
    unfold hQ2
    rw [ht, fi_neg (show ¬ nI 5 = nI 0 by decide), fi_neg (show ¬ nI 5 = nI 1 by decide), fi_neg (show ¬ nI 5 = nI 2 by decide), fi_neg (show ¬ nI 5 = nI 3 by decide), fi_neg (show ¬ nI 5 = nI 4 by decide), fi_pos (show nI 5 = nI 5 from rfl), ly_wideStore]
    rfl
  rw [← e]
  exact e27_48 n z0 m
theorem lq_22 (T : Ty M) (z0 : M.2.2 0 0 0 = 0) (L : LnS_22 s M) (ht : fd h 15 13 = 6) : HX34_expand_27 h (lnH s 22 M) M ∧ GX34_expand_27 h (lnH s 22 M) M = (hQ2 h, M) := by
  obtain ⟨n, f0, f1, f2, y0⟩ := L
  have m : HX44_make (lnH s 22 M) h M ∧ GX44_make (lnH s 22 M) h M = (wS 35 2 2 (fd h 6 2) (sgO 0 (rdO h pl_narrowStore (Int32.ofInt 0))), M) := X44_make (h := h) T f0 f1 f2 y0 (by decide) (by decide) (by decide) (by decide)
  have e : wS 35 2 2 (fd h 6 2) (sgO 0 (rdO h pl_narrowStore (Int32.ofInt 0))) = hQ2 h := by
    unfold hQ2
    rw [ht, fi_neg (show ¬ nI 6 = nI 0 by decide), fi_neg (show ¬ nI 6 = nI 1 by decide), fi_neg (show ¬ nI 6 = nI 2 by decide), fi_neg (show ¬ nI 6 = nI 3 by decide), fi_neg (show ¬ nI 6 = nI 4 by decide), fi_neg (show ¬ nI 6 = nI 5 by decide), fi_pos (show nI 6 = nI 6 from rfl), ly_narrowStore]
    rfl
  rw [← e]
  exact e27_48 n z0 m
theorem lq_23 (T : Ty M) (z0 : M.2.2 0 0 0 = 0) (L : LnS_23 s M) (ht : fd h 15 13 = 7) : HX34_expand_27 h (lnH s 23 M) M ∧ GX34_expand_27 h (lnH s 23 M) M = (hQ2 h, M) := by
  obtain ⟨n, f0, f1, f2, y0⟩ := L
  have m : HX44_make (lnH s 23 M) h M ∧ GX44_make (lnH s 23 M) h M = (wS 35 3 2 (fd h 6 2) (sgO 0 (rdO h pl_wideStore (Int32.ofInt 0))), M) := X44_make (h := h) T f0 f1 f2 y0 (by decide) (by decide) (by decide) (by decide)
  have e : wS 35 3 2 (fd h 6 2) (sgO 0 (rdO h pl_wideStore (Int32.ofInt 0))) = hQ2 h := by
    unfold hQ2
    rw [ht, fi_neg (show ¬ nI 7 = nI 0 by decide), fi_neg (show ¬ nI 7 = nI 1 by decide), fi_neg (show ¬ nI 7 = nI 2 by decide), fi_neg (show ¬ nI 7 = nI 3 by decide), fi_neg (show ¬ nI 7 = nI 4 by decide), fi_neg (show ¬ nI 7 = nI 5 by decide), fi_neg (show ¬ nI 7 = nI 6 by decide), ly_wideStore]
    rfl
  rw [← e]
  exact e27_48 n z0 m
end Lq
