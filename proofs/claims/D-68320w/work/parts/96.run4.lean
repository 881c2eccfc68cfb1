/-! the component: what is asked of a step holds for every instruction that was taken apart -/
set_option maxRecDepth 100000
section Dh
variable {c r i : Nat} {w : Int32} {M : FM}
theorem st_H (len : Int32) (T : Ty M) (n : fm_is M 64 64 r = true) (DT : DecT c M) (D : Dec c i w M) : drunH (M.2.2 149 i 0) r i len M := by
  obtain ⟨hw, ha, hb, a3, a7, a15, a19, a23, a27, a35, a39, a47, a51, a55, a59, a67, a99, a103, a111, a115, a0⟩ := D
  obtain ⟨k5, i5, j5⟩ := f5w w
  have h8 := n8_f w
  have hI : act c i 161 M → drunH (M.2.2 149 i 0) r i len M := fun h => drunH_o (Or.inr (Or.inr (by rw [h]; exact DT.1)))
  have hA : ∀ {P : Prop} {k z s d : Int32} {v : Int64}, dAcc c i P k v z s d M → drunH (M.2.2 149 i 0) r i len M := fun {P k z s d v} h => by
    by_cases p : P
    · exact drunH_53 (by rw [(h.1 p).1]; exact DT.2.2.2.2.2.2.2.2.1)
    · exact hI (h.2 p)
  have hF : ∀ {P : Prop} {k nn rr s d : Int32}, dFor c i P k nn rr s d M → drunH (M.2.2 149 i 0) r i len M := fun {P k nn rr s d} h => by
    by_cases p : P
    · exact drunH_o (Or.inr (Or.inl (by rw [(h.1 p).1]; exact DT.2.2.2.2.2.2.2.2.2)))
    · exact hI (h.2 p)
  have hC : ∀ {s : Nat} {rr o : Int32} {v : Int64}, (¬ s = 0 → fm_is M 4 4 s = true ∧ 15 ≤ s ∧ s ≤ 32) → dCmp c i s rr o v (nI (fd w 11 7)) M → drunH (M.2.2 149 i 0) r i len M := fun {s rr o v} hs h => by
    by_cases z : s = 0
    · exact hI (h.2 z)
    · obtain ⟨h1, h2, h3, h4, h5, h6⟩ := h.1 z
      exact drunH_55 (by rw [h1]; exact DT.2.2.2.2.2.2.2.1) (X56_run T n (M.2.2 149 i 0) i len k5 h6 i5 ha j5 hb (by rw [h2]; exact (hs z).1) rfl).1
  have hJ : ∀ {m : Nat} {v : Int64}, M.2.2 0 (M.2.2 m c 0) 0 = 59 → dJmp c i m v (nI (fd w 11 7)) M → drunH (M.2.2 149 i 0) r i len M := fun {m v} hm h =>
    drunH_59 (by rw [h.1]; exact hm) (X54_run T n (M.2.2 149 i 0) i len k5 h.2.2 i5 ha).1
  have hU : ∀ {m : Nat} {v : Int64}, M.2.2 0 (M.2.2 m c 0) 0 = 60 → dJmp c i m v (nI (fd w 11 7)) M → drunH (M.2.2 149 i 0) r i len M := fun {m v} hm h =>
    drunH_60 (by rw [h.1]; exact hm) (X53_run T n (M.2.2 149 i 0) i len k5 h.2.2).1
  by_cases h3 : nI (fd w 6 0) = Int32.ofInt 3
  · exact hA (a3 h3)
  by_cases h7 : nI (fd w 6 0) = Int32.ofInt 7
  · exact hA (a7 h7)
  by_cases h15 : nI (fd w 6 0) = Int32.ofInt 15
  · by_cases q : Int32.ofInt 2 ≤ nI (fd w 14 12)
    · exact hI ((a15 h15).1 q)
    · exact drunH_o (Or.inl (by rw [(a15 h15).2 q]; exact DT.2.1))
  by_cases h19 : nI (fd w 6 0) = Int32.ofInt 19
  · exact hC (sI_r T h8 _ _) (a19 h19)
  by_cases h23 : nI (fd w 6 0) = Int32.ofInt 23
  · exact hU DT.2.2.2.1.1 (a23 h23)
  by_cases h27 : nI (fd w 6 0) = Int32.ofInt 27
  · exact hC (sI_r T h8 _ _) (a27 h27)
  by_cases h35 : nI (fd w 6 0) = Int32.ofInt 35
  · exact hA (a35 h35)
  by_cases h39 : nI (fd w 6 0) = Int32.ofInt 39
  · exact hA (a39 h39)
  by_cases h47 : nI (fd w 6 0) = Int32.ofInt 47
  · exact hA (a47 h47)
  by_cases h51 : nI (fd w 6 0) = Int32.ofInt 51
  · exact hC (sR_r T h8 _ _) (a51 h51)
  by_cases h55 : nI (fd w 6 0) = Int32.ofInt 55
  · exact hU DT.2.2.1.1 (a55 h55)
  by_cases h59 : nI (fd w 6 0) = Int32.ofInt 59
  · exact hC (sR_r T h8 _ _) (a59 h59)
  by_cases h67 : nI (fd w 6 0) = Int32.ofInt 67 ∨ nI (fd w 6 0) = Int32.ofInt 71 ∨ nI (fd w 6 0) = Int32.ofInt 75 ∨ nI (fd w 6 0) = Int32.ofInt 79 ∨ nI (fd w 6 0) = Int32.ofInt 83
  · exact hF (a67 h67)
  by_cases h99 : nI (fd w 6 0) = Int32.ofInt 99
  · by_cases q : nI (fd w 14 12) = Int32.ofInt 2 ∨ nI (fd w 14 12) = Int32.ofInt 3
    · exact hI ((a99 h99).1 q)
    · obtain ⟨q1, q2, q3⟩ := (a99 h99).2 q
      exact drunH_54 (by rw [q1]; exact DT.2.2.2.2.2.2.1) (X55_run T n (M.2.2 149 i 0) i len i5 ha j5 hb q3 h8 q).1
  by_cases h103 : nI (fd w 6 0) = Int32.ofInt 103
  · by_cases q : nI (fd w 14 12) = 0
    · exact hJ DT.2.2.2.2.2.1.1 ((a103 h103).1 q)
    · exact hI ((a103 h103).2 q)
  by_cases h111 : nI (fd w 6 0) = Int32.ofInt 111
  · exact hJ DT.2.2.2.2.1.1 (a111 h111)
  by_cases h115 : nI (fd w 6 0) = Int32.ofInt 115
  · exact hF (a115 h115)
  refine hI (a0 ?_)
  rintro (h | h | h | h | h | h | h | h | h | h | h | h | h | h | h | h | h | h | h | h | h)
  · exact h3 h
  · exact h7 h
  · exact h15 h
  · exact h19 h
  · exact h23 h
  · exact h27 h
  · exact h35 h
  · exact h39 h
  · exact h47 h
  · exact h51 h
  · exact h55 h
  · exact h59 h
  · exact h67 (Or.inl h)
  · exact h67 (Or.inr (Or.inl h))
  · exact h67 (Or.inr (Or.inr (Or.inl h)))
  · exact h67 (Or.inr (Or.inr (Or.inr (Or.inl h))))
  · exact h67 (Or.inr (Or.inr (Or.inr (Or.inr h))))
  · exact h99 h
  · exact h103 h
  · exact h111 h
  · exact h115 h
end Dh
