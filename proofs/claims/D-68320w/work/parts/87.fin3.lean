/-! the end of an instruction that wanted something: both sides put the same -/
set_option maxRecDepth 100000
theorem fin5 (z s : Int32) (v : Int64) : fin (Int32.ofInt 5) z s v = v := by
  unfold fin
  rw [fi_pos rfl]
theorem fin48 (s : Int32) (v : Int64) : fin (Int32.ofInt 4) (Int32.ofInt 8) s v = v := by
  unfold fin
  rw [fi_neg (by decide), fi_neg (show ¬ (Int32.ofInt 4 = Int32.ofInt 2 ∧ s = Int32.ofInt 1) from fun z => absurd z.1 (by decide))]
  exact sx0 v _ rfl
theorem fin44 (s : Int32) (v : Int64) : fin (Int32.ofInt 4) (Int32.ofInt 4) s v = v.toInt32.toInt64 := by
  unfold fin
  rw [fi_neg (by decide), fi_neg (show ¬ (Int32.ofInt 4 = Int32.ofInt 2 ∧ s = Int32.ofInt 1) from fun z => absurd z.1 (by decide))]
  refine lb_ext fun i hi => ?_
  rw [lb_sar (k := 32) _ _ rfl i hi, lb_shl (k := 32) _ _ rfl, lb_sext _ _ hi, ib_low]
  by_cases h : i < 32
  · rw [if_pos (by omega), if_pos h, decide_eq_true (show i + 32 < 64 by omega), decide_eq_true (show 32 ≤ i + 32 by omega), decide_eq_true h, show i + 32 - 32 = i by omega]
    rfl
  · rw [if_neg (by omega), if_neg h]
    rfl
/-- a size, and whether it is with a sign, as a load has them -/
def z4 (z : Int32) : Prop := z = Int32.ofInt 1 ∨ z = Int32.ofInt 2 ∨ z = Int32.ofInt 4 ∨ z = Int32.ofInt 8
theorem t_lv {c : Nat} {N : FM} {z s : Int32} (v : Int64) (hz : z4 z) (hs : s = Int32.ofInt 0 ∨ s = Int32.ofInt 1) (h1 : N.2.1 3 (N.2.2 355 c 0) 1 = z.toInt64) (h3 : N.2.1 3 (N.2.2 355 c 0) 3 = s.toInt64) : GX98_loaded c v N = (fin (Int32.ofInt 2) z s v, N) := by
  rcases hz with rfl | rfl | rfl | rfl
  · exact X98_loaded1 v hs h1 h3
  · exact X98_loaded2 v hs h1 h3
  · exact X98_loaded4 v hs h1 h3
  · exact X98_loaded8 v s h1
/-- what the kinds give: 2 loads, 4 atomics, 5 floats -/
theorem fval_eq {q : Wt} {z s : Int32} (v : Int64) (hk : q.1 = Int32.ofInt 2 ∨ (q.1 = Int32.ofInt 4 ∧ (z = Int32.ofInt 4 ∨ z = Int32.ofInt 8)) ∨ q.1 = Int32.ofInt 5) (hz : q.2.2.1 = z.toInt64) : fval q (fin (Int32.ofInt 2) z s v) v = fin q.1 z s v := by
  unfold fval
  rcases hk with e | ⟨e, e2⟩ | e
  · rw [fi_pos e, e]
  · rw [e, fi_neg (by decide), hz]
    rcases e2 with rfl | rfl
    · rw [fi_pos ⟨rfl, cl_eq.mpr rfl⟩, fin44]
    · rw [fi_neg (show ¬ (Int32.ofInt 4 = Int32.ofInt 4 ∧ lg_cmp (Int32.ofInt 8).toInt64 (Int64.ofInt 4) = 0) from fun w => absurd (cl_eq.mp w.2) (by decide)), fin48]
  · rw [e, fi_neg (by decide), fi_neg (show ¬ (Int32.ofInt 5 = Int32.ofInt 4 ∧ lg_cmp q.2.2.1 (Int64.ofInt 4) = 0) from fun w => absurd w.1 (by decide)), fin5]
theorem fval_6 {q : Wt} {lv : Int64} (v : Int64) (hk : q.1 = Int32.ofInt 6) : fval q lv v = v := by
  unfold fval
  rw [hk, fi_neg (by decide), fi_neg (show ¬ (Int32.ofInt 6 = Int32.ofInt 4 ∧ lg_cmp q.2.2.1 (Int64.ofInt 4) = 0) from fun w => absurd w.1 (by decide))]
