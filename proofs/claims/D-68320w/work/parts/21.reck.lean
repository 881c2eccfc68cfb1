/-! the component's arithmetic: what is reckoned, by the ordinal of a sum -/
noncomputable def rk (o : Int32) (x y : Int64) : Int64 :=
  fi (o = Int32.ofInt 0) (x + y) (fi (o = Int32.ofInt 1) (x - y) (fi (o = Int32.ofInt 2) (x <<< (y.toInt32.toInt64 &&& 63)) (fi (o = Int32.ofInt 3) (b2l (x < y)) (fi (o = Int32.ofInt 4) (b2l (ul x < ul y))
  (fi (o = Int32.ofInt 5) (x ^^^ y) (fi (o = Int32.ofInt 6) (x.toUInt64 >>> (y.toInt32.toInt64.toUInt64 &&& Int64.toUInt64 63)).toInt64 (fi (o = Int32.ofInt 7) (x >>> (y.toInt32.toInt64 &&& 63)) (fi (o = Int32.ofInt 8) (x ||| y) (fi (o = Int32.ofInt 9) (x &&& y)
  (fi (o = Int32.ofInt 10) (x * y) (fi (o = Int32.ofInt 11) (mh x y - n0 x y - n0 y x) (fi (o = Int32.ofInt 12) (mh x y - n0 x y) (fi (o = Int32.ofInt 13) (mh x y) (fi (o = Int32.ofInt 14) (dq True x y) (fi (o = Int32.ofInt 15) (dq False x y)
  (fi (o = Int32.ofInt 16) (dr True x y) (dr False x y)))))))))))))))))
theorem dq_F {x y : Int64} (h : ¬ y = 0) : dq False x y = lN (ul x / ul y) := by
  unfold dq dm
  rw [fi_neg h, fi_pos (Iff.intro (fun q => q.1.elim) (fun q => q.1.elim)), fi_neg (fun q => q.1), fi_neg (fun q => q.1)]
theorem dr_F {x y : Int64} (h : ¬ y = 0) : dr False x y = lN (ul x % ul y) := by
  unfold dr dm
  rw [fi_neg h, fi_neg (fun q => q.1), fi_neg (fun q => q.1), fi_neg (fun q => q.1)]
theorem rem_u {x y : Int64} (h : ¬ y = 0) : x - lN (ul x / ul y) * y = lN (ul x % ul y) := by
  have hx := ul_lt x
  have h0 := ul_pos h
  have hy := ul_lt y
  apply ul_inj
  rw [ul_sub, ul_mul]
  have d1 := Nat.div_add_mod (ul x) (ul y)
  have d2 := Nat.mod_lt (ul x) h0
  have d3 : ul x / ul y ≤ ul x := Nat.div_le_self _ _
  generalize ul x / ul y = Q at *
  generalize ul x % ul y = R at *
  rw [lN_m R (by omega), lN_m Q (by omega), Nat.mul_comm Q]
  generalize ul y * Q = W at *
  omega
theorem pfi {M : FM} {c : Prop} {t e : Int64 × FM} {a b : Int64} (h : t = (a, M)) (k : e = (b, M)) : fi c t e = (fi c a b, M) := by
  rw [h, k]
  exact (fi_ap (fun z => (z, M))).symm
theorem X106_reckon {s : Nat} {x y : Int64} {M : FM} : HX106_reckon s x y M ∧ GX106_reckon s x y M = (rk (M.1 10 s 0) x y, M) := by
  have k0 : (lg_cmp y (Int64.ofInt 0) = 0) ↔ y = 0 := lg_cmp_eq _ _
  have k : (0 ≤ lg_cmp x y) ↔ ¬ x < y := by rw [lg_cmp_ge, le_tl, lt_tl]; omega
  have d := X106_divided x y M
  have r := X106_rest x y M
  have eo : GJ0_ordinal s M = (M.1 10 s 0, M) := rfl
  generalize ho : M.1 10 s 0 = o at eo
  refine ⟨?_, ?_⟩
  · unfold HX106_reckon HX106_reckon_0
    rw [eo]
    simp only [true_and, and_true, and_false, false_and, or_false, false_or, not_true, not_false_iff, if_true, if_false, true_or, or_true, and_self, imp_true_iff, true_imp_iff, false_imp_iff, d, r, X106_upper, X106_isBelow, k0]
    by_cases hy : y = 0
    · simp only [hy, not_true, false_imp_iff, true_and, and_true, and_false, false_and, or_false, false_or, not_true, not_false_iff, if_true, if_false, true_or, or_true, and_self, imp_true_iff, true_imp_iff, false_imp_iff]
    · have q := X106_quotient x y M hy
      simp only [hy, q, true_and, and_true, and_false, false_and, or_false, false_or, not_true, not_false_iff, if_true, if_false, true_or, or_true, and_self, imp_true_iff, true_imp_iff, false_imp_iff]
  · unfold GX106_reckon GX106_reckon_0 rk
    rw [eo]
    have l1 : ∀ c : Prop, fi (¬ c) (Int64.ofInt 0, M) (Int64.ofInt 1, M) = (b2l c, M) := by
      intro c
      unfold b2l
      by_cases q : c
      · rw [fi_neg (fun z => z q), fi_pos q]
      · rw [fi_pos q, fi_neg q]
    simp only [GX106_reckon_112, GX106_reckon_126, GX106_reckon_169, GX106_reckon_181, GX106_reckon_199, GX106_reckon_230, GX106_reckon_256, X106_upper, X106_isBelow, d, r, k0, k, bz_0, l1]
    have l2 : fi (y = 0) (Int64.ofInt (-1), M) ((GX106_quotient x y M).1, (GX106_quotient x y M).2) = (dq False x y, M) := by
      by_cases hy : y = 0
      · rw [fi_pos hy, dq, fi_pos hy]
      · rw [fi_neg hy, dq_F hy, (X106_quotient x y M hy).2]
    have l3 : fi (y = 0) (x, M) (x - (GX106_quotient x y M).1 * y, (GX106_quotient x y M).2) = (dr False x y, M) := by
      by_cases hy : y = 0
      · rw [fi_pos hy, dr, fi_pos hy]
      · rw [fi_neg hy, dr_F hy, (X106_quotient x y M hy).2, ← rem_u hy]
    have l4 : ∀ a b : Int64, fi (0 ≤ lg_cmp a (Int64.ofInt 0)) (b - Int64.ofInt 0, M) (b - a, M) = (b - fi (0 ≤ lg_cmp a (Int64.ofInt 0)) (Int64.ofInt 0) a, M) := fun a b => (fi_ap (fun z => (b - z, M))).symm
    rw [l2, l3]
    refine pfi rfl (pfi rfl (pfi rfl (pfi rfl (pfi rfl (pfi rfl (pfi rfl (pfi rfl (pfi rfl (pfi rfl (pfi rfl (pfi ?_ (pfi ?_ (pfi rfl (pfi rfl (pfi rfl (pfi rfl rfl))))))))))))))))
    · unfold n0 mh
      by_cases q : 0 ≤ lg_cmp x (Int64.ofInt 0) <;> by_cases z : 0 ≤ lg_cmp y (Int64.ofInt 0) <;> simp only [fi_if, q, z, if_true, if_false]
    · unfold n0 mh
      by_cases q : 0 ≤ lg_cmp x (Int64.ofInt 0) <;> simp only [fi_if, q, if_true, if_false]
