/-! the component's step is the twin's: all codes -/
def ten (k : Int32) : Prop := k = Int32.ofInt 19 ∨ k = Int32.ofInt 23 ∨ k = Int32.ofInt 27 ∨ k = Int32.ofInt 51 ∨ k = Int32.ofInt 55 ∨ k = Int32.ofInt 59 ∨ k = Int32.ofInt 99 ∨ k = Int32.ofInt 103 ∨ k = Int32.ofInt 111 ∨ k = Int32.ofInt 15
theorem cval_n (o : Option Int64) (d : Nat) (nx pc : Int64) : (cval o d nx pc).2.2.2.2 = none := by cases o <;> rfl
theorem cill_n (pc : Int64) : (cill pc).2.2.2.2 = none := rfl
theorem cx_ten (R : Nat → Int64) (pc : Int64) (w len : Int32) (h : ten (nI (fd w 6 0))) : (cx R pc w len).2.2.2.2 = none := by
  have F : ∀ {c : Prop} {t e : CR}, t.2.2.2.2 = none → e.2.2.2.2 = none → (fi c t e).2.2.2.2 = none := by
    intro c t e h k
    by_cases q : c
    · rw [fi_pos q]
      exact h
    · rw [fi_neg q]
      exact k
  unfold cx
  generalize nI (fd w 6 0) = k at *
  by_cases h15 : k = Int32.ofInt 15
  · rw [fi_pos h15]
    exact F (cval_n _ _ _ _) (F (cval_n _ _ _ _) (F (cval_n _ _ _ _) (F (cval_n _ _ _ _) (F (cval_n _ _ _ _) (F (cval_n _ _ _ _) (F (F rfl rfl) (F (F rfl rfl) (F rfl (F rfl rfl)))))))))
  · rcases h with rfl | rfl | rfl | rfl | rfl | rfl | rfl | rfl | rfl | rfl
    · rw [fi_pos rfl]; exact cval_n _ _ _ _
    · exact F (cval_n _ _ _ _) (by rw [fi_pos rfl]; exact cval_n _ _ _ _)
    · exact F (cval_n _ _ _ _) (F (cval_n _ _ _ _) (by rw [fi_pos rfl]; exact cval_n _ _ _ _))
    · exact F (cval_n _ _ _ _) (F (cval_n _ _ _ _) (F (cval_n _ _ _ _) (by rw [fi_pos rfl]; exact cval_n _ _ _ _)))
    · exact F (cval_n _ _ _ _) (F (cval_n _ _ _ _) (F (cval_n _ _ _ _) (F (cval_n _ _ _ _) (by rw [fi_pos rfl]; exact cval_n _ _ _ _))))
    · exact F (cval_n _ _ _ _) (F (cval_n _ _ _ _) (F (cval_n _ _ _ _) (F (cval_n _ _ _ _) (F (cval_n _ _ _ _) (by rw [fi_pos rfl]; exact cval_n _ _ _ _)))))
    · exact F (cval_n _ _ _ _) (F (cval_n _ _ _ _) (F (cval_n _ _ _ _) (F (cval_n _ _ _ _) (F (cval_n _ _ _ _) (F (cval_n _ _ _ _) (by rw [fi_pos rfl]; exact F rfl rfl))))))
    · exact F (cval_n _ _ _ _) (F (cval_n _ _ _ _) (F (cval_n _ _ _ _) (F (cval_n _ _ _ _) (F (cval_n _ _ _ _) (F (cval_n _ _ _ _) (F (F rfl rfl) (by rw [fi_pos rfl]; exact F rfl rfl)))))))
    · exact F (cval_n _ _ _ _) (F (cval_n _ _ _ _) (F (cval_n _ _ _ _) (F (cval_n _ _ _ _) (F (cval_n _ _ _ _) (F (cval_n _ _ _ _) (F (F rfl rfl) (F (F rfl rfl) (by rw [fi_pos rfl]))))))))
    · exact absurd rfl h15
theorem cx_oth (R : Nat → Int64) (pc : Int64) (w len : Int32) (h : ¬ ten (nI (fd w 6 0))) : cx R pc w len = cwt (wt (nI (fd w 6 0)) (nI (fd w 14 12)) w (R (fd w 19 15)) (R (fd w 24 20)) (nI (fd w 11 7))) pc := by
  simp only [ten, not_or] at h
  simp only [cx, fi_if, h, if_false]
theorem st_step {c r i : Nat} {w : Int32} {M : FM} (len : Int32) (T : Ty M) (n : fm_is M 64 64 r = true) (DT : DecT c M) (O : Od M) (D : Dec c i w M) :
    Sw r i M len (cx (M.2.1 3 (M.2.2 178 r 0)) (M.2.1 179 r 0) w len) := by
  by_cases h : ten (nI (fd w 6 0))
  · refine ⟨st_run len T n DT O D h, fun q e => ?_⟩
    rw [cx_ten _ _ _ _ h] at e
    cases e
  rw [cx_oth _ _ _ _ h]
  obtain ⟨hw, ha, hb, a3, a7, a15, a19, a23, a27, a35, a39, a47, a51, a55, a59, a67, a99, a103, a111, a115, a0⟩ := D
  obtain ⟨k5, i5, j5⟩ := f5w w
  have h8 := n8_f w
  have w23 : nI (fd w 14 12) = Int32.ofInt 2 ∨ nI (fd w 14 12) = Int32.ofInt 3 → ¬ Int32.ofInt 4 ≤ nI (fd w 14 12) := by
    rintro (q | q) <;> rw [q] <;> decide
  unfold wt
  by_cases h3 : nI (fd w 6 0) = Int32.ofInt 3
  · rw [fi_pos h3]
    refine sw_acc T n DT i5 ha j5 hb (a3 h3) (fun p => fi_pos (Classical.not_not.mp p)) (fun p => ?_)
    rw [fi_neg p, (pw_l h8).1, (pw_l h8).2, fi_neg (c := Int32.ofInt 2 = Int32.ofInt 3 ∨ Int32.ofInt 2 = Int32.ofInt 4) (by decide)]
  rw [fi_neg h3]
  by_cases h7 : nI (fd w 6 0) = Int32.ofInt 7
  · rw [fi_pos h7]
    refine sw_acc T n DT i5 ha j5 hb (a7 h7) (fun p => fi_neg p) (fun p => ?_)
    rw [fi_pos p, pw_z h8 (w23 p), fi_neg (c := Int32.ofInt 5 = Int32.ofInt 3 ∨ Int32.ofInt 5 = Int32.ofInt 4) (by decide)]
    rfl
  rw [fi_neg h7]
  by_cases h35 : nI (fd w 6 0) = Int32.ofInt 35
  · rw [fi_pos h35]
    refine sw_acc T n DT i5 ha j5 hb (a35 h35) (fun p => fi_pos (Classical.not_not.mp p)) (fun p => ?_)
    rw [fi_neg p, pw_z h8 p, fi_pos (c := Int32.ofInt 3 = Int32.ofInt 3 ∨ Int32.ofInt 3 = Int32.ofInt 4) (Or.inl rfl)]
    rfl
  rw [fi_neg h35]
  by_cases h39 : nI (fd w 6 0) = Int32.ofInt 39
  · rw [fi_pos h39]
    refine sw_acc T n DT i5 ha j5 hb (a39 h39) (fun p => fi_neg p) (fun p => ?_)
    rw [fi_pos p, pw_z h8 (w23 p), fi_neg (c := Int32.ofInt 5 = Int32.ofInt 3 ∨ Int32.ofInt 5 = Int32.ofInt 4) (by decide)]
    rfl
  rw [fi_neg h39]
  by_cases h47 : nI (fd w 6 0) = Int32.ofInt 47
  · rw [fi_pos h47]
    have s5 : fd w 31 27 < 32 := fd_lt w (hi := 31) (lo := 27) (by decide)
    obtain ⟨n1, n2⟩ := at_n True (fd w 31 27) s5
    have key : (fi (Int32.ofInt 5 ≤ nI (fd w 31 27)) (nI (fd w 31 27) - nI (fd w 31 27) / Int32.ofInt 4 * Int32.ofInt 4 = 0 ∧ ¬ Int32.ofInt 29 ≤ nI (fd w 31 27)) (nI (fd w 31 27) = Int32.ofInt 2 → nI (fd w 24 20) = 0)) ∧ (nI (fd w 14 12) = Int32.ofInt 2 ∨ nI (fd w 14 12) = Int32.ofInt 3) ↔ wAt (nI (fd w 14 12)) (nI (fd w 31 27)) (nI (fd w 24 20)) := by
      unfold wAt
      rw [n1]
      by_cases q : Int32.ofInt 5 ≤ nI (fd w 31 27)
      · rw [fi_pos q]
        exact ⟨fun z => ⟨z.2, fun _ => z.1, fun e => absurd e (n2 q)⟩, fun z => ⟨z.2.1 q, z.1⟩⟩
      · rw [fi_neg q]
        exact ⟨fun z => ⟨z.2, fun e => absurd e q, z.1⟩, fun z => ⟨z.2.2, z.1⟩⟩
    refine sw_acc T n DT i5 ha j5 hb (a47 h47) (fun p => ?_) (fun p => ?_)
    · unfold wtA
      rw [fi_neg (fun q => p (key.mp q))]
    · unfold wtA
      rw [fi_pos (key.mpr p), pw_z h8 (w23 p.1), fi_pos (c := Int32.ofInt 4 = Int32.ofInt 3 ∨ Int32.ofInt 4 = Int32.ofInt 4) (Or.inr rfl), show ∀ z : Int64, z + Int64.ofInt 0 = z from fun z => Int64.add_zero z]
  rw [fi_neg h47]
  by_cases h67 : nI (fd w 6 0) = Int32.ofInt 67 ∨ nI (fd w 6 0) = Int32.ofInt 71 ∨ nI (fd w 6 0) = Int32.ofInt 75 ∨ nI (fd w 6 0) = Int32.ofInt 79 ∨ nI (fd w 6 0) = Int32.ofInt 83
  · rw [fi_pos h67]
    refine sw_for T n DT i5 ha (a67 h67) (fun p => absurd trivial p) (fun p => ?_)
    rw [fi_neg (c := Int32.ofInt 1 = 0) (by decide)]
    rfl
  rw [fi_neg h67]
  by_cases h115 : nI (fd w 6 0) = Int32.ofInt 115
  · rw [fi_pos h115]
    refine sw_for T n DT i5 ha (a115 h115) (fun p => ?_) (fun p => ?_)
    · unfold wtC
      rw [fi_pos (Classical.not_not.mp p)]
    · unfold wtC
      rw [fi_neg p]
      rcases h8 with q | q | q | q | q | q | q | q <;> rw [q] at p ⊢ <;> first | exact absurd rfl p | simp (decide := true) only [fi_if, if_true, if_false]
  rw [fi_neg h115]
  simp only [ten, not_or] at h
  simp only [not_or] at h67
  exact sw_ill DT (a0 (by simp only [h, h3, h7, h35, h39, h47, h67, h115, or_false, not_false_iff]))
