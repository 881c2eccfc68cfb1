/-! the twin's core: immediates, sums, divisions -/
noncomputable def sgn (w : Int32) (a : Int64) : Int64 := fi (0 ≤ w) (Int64.ofInt 0) (-a)
noncomputable def iI (w : Int32) : Int64 := sgn w (Int64.ofInt 2048) + (nI (fd w 30 20)).toInt64
noncomputable def iS (w : Int32) : Int64 := sgn w (Int64.ofInt 2048) + ((Int32.ofInt 32) * nI (fd w 30 25)).toInt64 + (nI (fd w 11 7)).toInt64
noncomputable def iB (w : Int32) : Int64 := sgn w (Int64.ofInt 4096) + ((Int32.ofInt 2048) * nI (fd w 7 7)).toInt64 + ((Int32.ofInt 32) * nI (fd w 30 25)).toInt64 + ((Int32.ofInt 2) * nI (fd w 11 8)).toInt64
noncomputable def iU (w : Int32) : Int64 := sgn w (Int64.ofInt 2147483648) + (Int64.ofInt 4096) * (nI (fd w 30 12)).toInt64
noncomputable def iJ (w : Int32) : Int64 := sgn w (Int64.ofInt 1048576) + ((Int32.ofInt 4096) * nI (fd w 19 12)).toInt64 + ((Int32.ofInt 2048) * nI (fd w 20 20)).toInt64 + ((Int32.ofInt 2) * nI (fd w 30 21)).toInt64
theorem X98_sign {c : Nat} (a : Int64) (M : FM) : GX98_sign c a M = (sgn (M.1 349 c 0) a, M) := by
  unfold GX98_sign GX98_sign_0 GX98_sign_13 sgn
  exact (fi_ap (fun z => (z, M))).symm
theorem X98_immediateI {c : Nat} {M : FM} (T : Ty M) (n : fm_is M 94 94 c = true) : HX98_immediateI c M ∧ GX98_immediateI c M = (iI (M.1 349 c 0), M) := by
  simp only [HX98_immediateI_0, HX98_immediateI, GX98_immediateI_0, GX98_immediateI, X98_sign, (X98_bits _ _ _ _ T n (hi := 30) (lo := 20) (by decide) (by decide) (show ui (Int32.ofInt 30) = 30 from rfl) (show ui (Int32.ofInt 20) = 20 from rfl)).1, (X98_bits _ _ _ _ T n (hi := 30) (lo := 20) (by decide) (by decide) (show ui (Int32.ofInt 30) = 30 from rfl) (show ui (Int32.ofInt 20) = 20 from rfl)).2, iI, and_self]
theorem X98_immediateS {c : Nat} {M : FM} (T : Ty M) (n : fm_is M 94 94 c = true) : HX98_immediateS c M ∧ GX98_immediateS c M = (iS (M.1 349 c 0), M) := by
  simp only [HX98_immediateS_0, HX98_immediateS, GX98_immediateS_0, GX98_immediateS, X98_sign, (X98_bits _ _ _ _ T n (hi := 30) (lo := 25) (by decide) (by decide) (show ui (Int32.ofInt 30) = 30 from rfl) (show ui (Int32.ofInt 25) = 25 from rfl)).1, (X98_bits _ _ _ _ T n (hi := 30) (lo := 25) (by decide) (by decide) (show ui (Int32.ofInt 30) = 30 from rfl) (show ui (Int32.ofInt 25) = 25 from rfl)).2, (X98_bits _ _ _ _ T n (hi := 11) (lo := 7) (by decide) (by decide) (show ui (Int32.ofInt 11) = 11 from rfl) (show ui (Int32.ofInt 7) = 7 from rfl)).1, (X98_bits _ _ _ _ T n (hi := 11) (lo := 7) (by decide) (by decide) (show ui (Int32.ofInt 11) = 11 from rfl) (show ui (Int32.ofInt 7) = 7 from rfl)).2, iS, and_self]
theorem X98_immediateB {c : Nat} {M : FM} (T : Ty M) (n : fm_is M 94 94 c = true) : HX98_immediateB c M ∧ GX98_immediateB c M = (iB (M.1 349 c 0), M) := by
  simp only [HX98_immediateB_0, HX98_immediateB, GX98_immediateB_0, GX98_immediateB, X98_sign, (X98_bits _ _ _ _ T n (hi := 7) (lo := 7) (by decide) (by decide) (show ui (Int32.ofInt 7) = 7 from rfl) (show ui (Int32.ofInt 7) = 7 from rfl)).1, (X98_bits _ _ _ _ T n (hi := 7) (lo := 7) (by decide) (by decide) (show ui (Int32.ofInt 7) = 7 from rfl) (show ui (Int32.ofInt 7) = 7 from rfl)).2, (X98_bits _ _ _ _ T n (hi := 30) (lo := 25) (by decide) (by decide) (show ui (Int32.ofInt 30) = 30 from rfl) (show ui (Int32.ofInt 25) = 25 from rfl)).1, (X98_bits _ _ _ _ T n (hi := 30) (lo := 25) (by decide) (by decide) (show ui (Int32.ofInt 30) = 30 from rfl) (show ui (Int32.ofInt 25) = 25 from rfl)).2, (X98_bits _ _ _ _ T n (hi := 11) (lo := 8) (by decide) (by decide) (show ui (Int32.ofInt 11) = 11 from rfl) (show ui (Int32.ofInt 8) = 8 from rfl)).1, (X98_bits _ _ _ _ T n (hi := 11) (lo := 8) (by decide) (by decide) (show ui (Int32.ofInt 11) = 11 from rfl) (show ui (Int32.ofInt 8) = 8 from rfl)).2, iB, and_self]
theorem X98_immediateU {c : Nat} {M : FM} (T : Ty M) (n : fm_is M 94 94 c = true) : HX98_immediateU c M ∧ GX98_immediateU c M = (iU (M.1 349 c 0), M) := by
  simp only [HX98_immediateU_0, HX98_immediateU, GX98_immediateU_0, GX98_immediateU, X98_sign, (X98_bits _ _ _ _ T n (hi := 30) (lo := 12) (by decide) (by decide) (show ui (Int32.ofInt 30) = 30 from rfl) (show ui (Int32.ofInt 12) = 12 from rfl)).1, (X98_bits _ _ _ _ T n (hi := 30) (lo := 12) (by decide) (by decide) (show ui (Int32.ofInt 30) = 30 from rfl) (show ui (Int32.ofInt 12) = 12 from rfl)).2, iU, and_self]
theorem X98_immediateJ {c : Nat} {M : FM} (T : Ty M) (n : fm_is M 94 94 c = true) : HX98_immediateJ c M ∧ GX98_immediateJ c M = (iJ (M.1 349 c 0), M) := by
  simp only [HX98_immediateJ_0, HX98_immediateJ, GX98_immediateJ_0, GX98_immediateJ, X98_sign, (X98_bits _ _ _ _ T n (hi := 19) (lo := 12) (by decide) (by decide) (show ui (Int32.ofInt 19) = 19 from rfl) (show ui (Int32.ofInt 12) = 12 from rfl)).1, (X98_bits _ _ _ _ T n (hi := 19) (lo := 12) (by decide) (by decide) (show ui (Int32.ofInt 19) = 19 from rfl) (show ui (Int32.ofInt 12) = 12 from rfl)).2, (X98_bits _ _ _ _ T n (hi := 20) (lo := 20) (by decide) (by decide) (show ui (Int32.ofInt 20) = 20 from rfl) (show ui (Int32.ofInt 20) = 20 from rfl)).1, (X98_bits _ _ _ _ T n (hi := 20) (lo := 20) (by decide) (by decide) (show ui (Int32.ofInt 20) = 20 from rfl) (show ui (Int32.ofInt 20) = 20 from rfl)).2, (X98_bits _ _ _ _ T n (hi := 30) (lo := 21) (by decide) (by decide) (show ui (Int32.ofInt 30) = 30 from rfl) (show ui (Int32.ofInt 21) = 21 from rfl)).1, (X98_bits _ _ _ _ T n (hi := 30) (lo := 21) (by decide) (by decide) (show ui (Int32.ofInt 30) = 30 from rfl) (show ui (Int32.ofInt 21) = 21 from rfl)).2, iJ, and_self]
noncomputable def pw (a : Int32) : Int64 := fi (a = 0) (Int64.ofInt 1) (fi (a = Int32.ofInt 1) (Int64.ofInt 2) (fi (a = Int32.ofInt 2) (Int64.ofInt 4) (Int64.ofInt 8)))
theorem X98_power (a : Int32) (M : FM) : GX98_power a M = (pw a, M) := by
  simp only [GX98_power_33, GX98_power_0, GX98_power, pw, fi_if]
  split
  · rfl
  · split
    · rfl
    · split <;> rfl
noncomputable def b2l (c : Prop) : Int64 := fi c (Int64.ofInt 1) (Int64.ofInt 0)
theorem X98_truth (b : Int32) (M : FM) : GX98_truth b M = (b2l (¬ b = 0), M) := by
  simp only [GX98_truth_9, GX98_truth_0, GX98_truth, b2l, fi_if]
  split <;> rfl
/-- one of the eight by f -/
noncomputable def al (f : Int32) (x y : Int64) (p : Int32) : Int64 :=
  fi (f = Int32.ofInt 0) (x + y) (fi (f = Int32.ofInt 1) (x <<< (p.toInt64 &&& 63)) (fi (f = Int32.ofInt 2) (b2l (x < y)) (fi (f = Int32.ofInt 3) (b2l (ul x < ul y)) (fi (f = Int32.ofInt 4) (x ^^^ y)
    (fi (f = Int32.ofInt 5) (x.toUInt64 >>> (p.toInt64.toUInt64 &&& Int64.toUInt64 63)).toInt64 (fi (f = Int32.ofInt 6) (x ||| y) (x &&& y)))))))
theorem b2l_c {c d : Prop} (h : c ↔ d) : b2l c = b2l d := by rw [propext h]
theorem X98_plain (f : Int32) (x y : Int64) (p : Int32) (M : FM) : GX98_plain f x y p M = (al f x y p, M) := by
  have k : (0 ≤ lg_cmp x y) ↔ ¬ x < y := by rw [lg_cmp_ge, le_tl, lt_tl]; omega
  have e0 : b2l (¬ Int32.ofInt 0 = 0) = Int64.ofInt 0 := by unfold b2l; rw [fi_neg (fun h => h rfl)]
  have e1 : b2l (¬ Int32.ofInt 1 = 0) = Int64.ofInt 1 := by unfold b2l; rw [fi_pos (by decide)]
  have e2 : b2l (¬ bz (ul x < ul y) = 0) = b2l (ul x < ul y) := b2l_c (by rw [bz_0]; exact Decidable.not_not)
  simp only [GX98_plain_64, GX98_plain_0, GX98_plain, X98_truth, X98_isLess, al, e0, e1, e2, k]
  simp only [fi_if, b2l]
  repeat' split
  all_goals first | rfl | contradiction | omega
theorem z00 : (Int32.ofInt 0 = 0) = True := eq_true rfl
theorem z10 : (Int32.ofInt 1 = 0) = False := eq_false (by decide)
theorem z01 : (Int32.ofInt 0 = Int32.ofInt 1) = False := eq_false (by decide)
theorem z11 : (Int32.ofInt 1 = Int32.ofInt 0) = False := eq_false (by decide)
/-- quotients and rests with signs or without -/
noncomputable def dm (s : Prop) (x : Int64) : Int64 := fi (s ∧ 9223372036854775808 ≤ ul x) (-x) x
noncomputable def dq (s : Prop) (x y : Int64) : Int64 := fi (y = 0) (Int64.ofInt (-1)) (fi ((s ∧ 9223372036854775808 ≤ ul x) ↔ (s ∧ 9223372036854775808 ≤ ul y)) (lN (ul (dm s x) / ul (dm s y))) (-(lN (ul (dm s x) / ul (dm s y)))))
noncomputable def dr (s : Prop) (x y : Int64) : Int64 := fi (y = 0) x (fi (s ∧ 9223372036854775808 ≤ ul x) (-(lN (ul (dm s x) % ul (dm s y)))) (lN (ul (dm s x) % ul (dm s y))))
theorem ul_pos {y : Int64} (h : ¬ y = 0) : 0 < ul y := by
  have : ul y ≠ 0 := fun e => h (ul_inj (by rw [e]; rfl))
  omega
theorem ul_posn {y : Int64} (h : ¬ y = 0) : 0 < ul (-y) := by
  have := ul_pos h
  have h2 := ul_lt y
  rw [ul_neg]
  omega
theorem X98_divideAll {c : Nat} {M : FM} (T : Ty M) (n : fm_is M 94 94 c = true) (x y : Int64) (s : Int32) : HX98_divideAll c x y s M ∧ GX98_divideAll c x y s M = dQ c (dq (¬ s = 0) x y) (dr (¬ s = 0) x y) M := by
  have k : (lg_cmp y (Int64.ofInt 0) = 0) ↔ y = 0 := lg_cmp_eq _ _
  by_cases hy : y = 0
  · have k0 : (lg_cmp y (Int64.ofInt 0) = 0) = True := eq_true (k.mpr hy)
    unfold dq dr
    rw [fi_pos hy, fi_pos hy]
    simp only [HX98_divideAll_78, HX98_divideAll_67, HX98_divideAll_53, HX98_divideAll_52, HX98_divideAll_35, HX98_divideAll_34, HX98_divideAll_0, HX98_divideAll, GX98_divideAll_122, GX98_divideAll_101, GX98_divideAll_78, GX98_divideAll_67, GX98_divideAll_53, GX98_divideAll_52, GX98_divideAll_35, GX98_divideAll_34, GX98_divideAll_0, GX98_divideAll, k0, fi_if, if_true, true_imp_iff, not_true, false_imp_iff, and_self, true_and]
    rfl
  · have d1 := X98_divide c x y M T n (ul_pos hy)
    have d2 := X98_divide c (-x) y M T n (ul_pos hy)
    have d3 := X98_divide c x (-y) M T n (ul_posn hy)
    have d4 := X98_divide c (-x) (-y) M T n (ul_posn hy)
    by_cases hs : s = 0 <;> by_cases hx : ul x < 9223372036854775808 <;> by_cases hz : ul y < 9223372036854775808 <;>
      (have hx2 : (9223372036854775808 ≤ ul x) = ¬ (ul x < 9223372036854775808) := propext (by omega)
       have hz2 : (9223372036854775808 ≤ ul y) = ¬ (ul y < 9223372036854775808) := propext (by omega)
       simp only [HX98_divideAll_78, HX98_divideAll_67, HX98_divideAll_53, HX98_divideAll_52, HX98_divideAll_35, HX98_divideAll_34, HX98_divideAll_0, HX98_divideAll, GX98_divideAll_122, GX98_divideAll_101, GX98_divideAll_78, GX98_divideAll_67, GX98_divideAll_53, GX98_divideAll_52, GX98_divideAll_35, GX98_divideAll_34, GX98_divideAll_0, GX98_divideAll, k, hy, hs, nneg_l, hx, hz, hx2, hz2, dq, dr, dm, fi_if, d1, d2, d3, d4, dQ_q, dQ_r, dQ_sq, dQ_sr, z00, z10, z01, z11, if_true, if_false, true_imp_iff, not_true, not_false_iff, false_imp_iff, and_self, true_and, and_true, and_false, false_and, iff_true, iff_false, true_iff, false_iff])
