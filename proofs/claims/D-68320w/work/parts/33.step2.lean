/-! the component's step is the twin's -/
theorem f5w (w : Int32) : fd w 11 7 < 32 ∧ fd w 19 15 < 32 ∧ fd w 24 20 < 32 := ⟨fd_lt w (hi := 11) (lo := 7) (by decide), fd_lt w (hi := 19) (lo := 15) (by decide), fd_lt w (hi := 24) (lo := 20) (by decide)⟩
theorem and_m2 (z : Int64) : z &&& Int64.ofInt (-2) = z - (z &&& Int64.ofInt 1) := by
  apply Int64.toBitVec_inj.mp
  rw [Int64.toBitVec_and, Int64.toBitVec_sub, Int64.toBitVec_and]
  generalize z.toBitVec = b
  have h1 : (b &&& (Int64.ofInt (-2)).toBitVec) + (b &&& (Int64.ofInt 1).toBitVec) = b := by
    rw [BitVec.add_eq_or_of_and_eq_zero]
    · rw [← BitVec.and_or_distrib_left]
      show b &&& (BitVec.allOnes 64) = b
      exact BitVec.and_allOnes
    · have z : (Int64.ofInt (-2)).toBitVec &&& (Int64.ofInt 1).toBitVec = 0#64 := by decide
      rw [BitVec.and_assoc, BitVec.and_comm b (Int64.ofInt 1).toBitVec, ← BitVec.and_assoc (Int64.ofInt (-2)).toBitVec, z]
      simp
  exact BitVec.eq_sub_iff_add_eq.mpr h1
/-- those that want nothing -/
theorem st_run {c r i : Nat} {w : Int32} {M : FM} (len : Int32) (T : Ty M) (n : fm_is M 64 64 r = true) (DT : DecT c M) (O : Od M) (D : Dec c i w M) :
    nI (fd w 6 0) = Int32.ofInt 19 ∨ nI (fd w 6 0) = Int32.ofInt 23 ∨ nI (fd w 6 0) = Int32.ofInt 27 ∨ nI (fd w 6 0) = Int32.ofInt 51 ∨ nI (fd w 6 0) = Int32.ofInt 55 ∨ nI (fd w 6 0) = Int32.ofInt 59 ∨ nI (fd w 6 0) = Int32.ofInt 99 ∨ nI (fd w 6 0) = Int32.ofInt 103 ∨ nI (fd w 6 0) = Int32.ofInt 111 ∨ nI (fd w 6 0) = Int32.ofInt 15 →
    St r M (drun (M.2.2 149 i 0) r i len M) (cx (M.2.1 3 (M.2.2 178 r 0)) (M.2.1 179 r 0) w len) := by
  obtain ⟨hw, ha, hb, a3, a7, a15, a19, a23, a27, a35, a39, a47, a51, a55, a59, a67, a99, a103, a111, a115, a0⟩ := D
  obtain ⟨k5, i5, j5⟩ := f5w w
  have h8 := n8_f w
  intro h
  unfold cx
  by_cases h19 : nI (fd w 6 0) = Int32.ofInt 19
  · rw [fi_pos h19]
    have v := V19 h8 w (M.2.1 3 (M.2.2 178 r 0) (fd w 19 15))
    exact st_cmp T n DT O k5 i5 ha j5 hb (sI_r T h8 _ _) (a19 h19) (fi_pos rfl).symm (by rw [fi_pos (c := Int32.ofInt 0 = 0) rfl]; exact v)
  rw [fi_neg h19]
  by_cases h23 : nI (fd w 6 0) = Int32.ofInt 23
  · rw [fi_pos h23]
    obtain ⟨q1, q2, q3⟩ := a23 h23
    obtain ⟨t1, t2⟩ := DT.2.2.2.1
    rw [drun_60 (by rw [q1]; exact t1), (X53_run T n (M.2.2 149 i 0) i len k5 q3).2, q1, fi_neg t2, q2, Int64.add_comm (iU w)]
    exact ⟨rfl, Uv_set k5 _ _ _ _⟩
  rw [fi_neg h23]
  by_cases h27 : nI (fd w 6 0) = Int32.ofInt 27
  · rw [fi_pos h27]
    have v := V27 h8 w (M.2.1 3 (M.2.2 178 r 0) (fd w 19 15))
    exact st_cmp T n DT O k5 i5 ha j5 hb (sI_r T h8 _ _) (a27 h27) (fi_pos rfl).symm (by rw [fi_neg (c := Int32.ofInt 1 = 0) (by decide)]; exact v)
  rw [fi_neg h27]
  by_cases h51 : nI (fd w 6 0) = Int32.ofInt 51
  · rw [fi_pos h51]
    have v := V51 h8 (nI (fd w 31 25)) (M.2.1 3 (M.2.2 178 r 0) (fd w 19 15)) (M.2.1 3 (M.2.2 178 r 0) (fd w 24 20))
    exact st_cmp T n DT O k5 i5 ha j5 hb (sR_r T h8 _ _) (a51 h51) (fi_neg (by decide)).symm (by rw [fi_pos (c := Int32.ofInt 0 = 0) rfl]; exact v)
  rw [fi_neg h51]
  by_cases h55 : nI (fd w 6 0) = Int32.ofInt 55
  · rw [fi_pos h55]
    obtain ⟨q1, q2, q3⟩ := a55 h55
    obtain ⟨t1, t2⟩ := DT.2.2.1
    rw [drun_60 (by rw [q1]; exact t1), (X53_run T n (M.2.2 149 i 0) i len k5 q3).2, q1, fi_pos t2, q2, show iU w + Int64.ofInt 0 = iU w from Int64.add_zero _]
    exact ⟨rfl, Uv_set k5 _ _ _ _⟩
  rw [fi_neg h55]
  by_cases h59 : nI (fd w 6 0) = Int32.ofInt 59
  · rw [fi_pos h59]
    have v := V59 h8 (nI (fd w 31 25)) (M.2.1 3 (M.2.2 178 r 0) (fd w 19 15)) (M.2.1 3 (M.2.2 178 r 0) (fd w 24 20))
    exact st_cmp T n DT O k5 i5 ha j5 hb (sR_r T h8 _ _) (a59 h59) (fi_neg (by decide)).symm (by rw [fi_neg (c := Int32.ofInt 1 = 0) (by decide)]; exact v)
  rw [fi_neg h59]
  by_cases h99 : nI (fd w 6 0) = Int32.ofInt 99
  · rw [fi_pos h99]
    obtain ⟨q1, q2⟩ := a99 h99
    by_cases z : nI (fd w 14 12) = Int32.ofInt 2 ∨ nI (fd w 14 12) = Int32.ofInt 3
    · rw [fi_pos z]
      exact st_ill DT (q1 z)
    · rw [fi_neg z]
      obtain ⟨p1, p2, p3⟩ := q2 z
      rw [drun_54 (by rw [p1]; exact DT.2.2.2.2.2.2.1), (X55_run T n (M.2.2 149 i 0) i len i5 ha j5 hb p3 h8 z).2, p2]
      exact ⟨rfl, Uv_go _ _ _⟩
  rw [fi_neg h99]
  by_cases h103 : nI (fd w 6 0) = Int32.ofInt 103
  · rw [fi_pos h103]
    obtain ⟨q1, q2⟩ := a103 h103
    by_cases z : nI (fd w 14 12) = 0
    · rw [fi_pos z]
      obtain ⟨p1, p2, p3⟩ := q1 z
      obtain ⟨t1, t2⟩ := DT.2.2.2.2.2.1
      rw [drun_59 (by rw [p1]; exact t1), (X54_run T n (M.2.2 149 i 0) i len k5 p3 i5 ha).2, p1, fi_neg t2, p2, and_m2]
      exact ⟨rfl, Uv_set k5 _ _ _ _⟩
    · rw [fi_neg z]
      exact st_ill DT (q2 z)
  rw [fi_neg h103]
  by_cases h111 : nI (fd w 6 0) = Int32.ofInt 111
  · rw [fi_pos h111]
    obtain ⟨q1, q2, q3⟩ := a111 h111
    obtain ⟨t1, t2⟩ := DT.2.2.2.2.1
    rw [drun_59 (by rw [q1]; exact t1), (X54_run T n (M.2.2 149 i 0) i len k5 q3 i5 ha).2, q1, fi_pos t2, q2]
    exact ⟨rfl, Uv_set k5 _ _ _ _⟩
  rw [fi_neg h111]
  have h15 : nI (fd w 6 0) = Int32.ofInt 15 := by simpa only [h19, h23, h27, h51, h55, h59, h99, h103, h111, false_or] using h
  rw [fi_pos h15]
  obtain ⟨q1, q2⟩ := a15 h15
  by_cases z : Int32.ofInt 2 ≤ nI (fd w 14 12)
  · rw [fi_pos z]
    exact st_ill DT (q1 z)
  · rw [fi_neg z, drun_56 (by rw [q2 z]; exact DT.2.1)]
    exact ⟨rfl, Uv_go _ _ _⟩
