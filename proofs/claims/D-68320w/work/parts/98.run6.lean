/-! the component: what stands in the instruction under way, when something is wanted -/
set_option maxRecDepth 100000
/-- the instruction under way and what it wants -/
def Uk (i : Nat) (q : Wt) (N : FM) : Prop :=
  ((N.2.2 0 (N.2.2 149 i 0) 0 = 53 ∧ q.2.2.1 = (N.1 159 i 0).toInt64 ∧ q.2.2.2.2.1 = (N.1 160 i 0).toInt64 ∧
    ((q.1 = Int32.ofInt 2 ∧ z4 (N.1 159 i 0) ∧ (N.1 160 i 0 = Int32.ofInt 0 ∨ N.1 160 i 0 = Int32.ofInt 1)) ∨ (q.1 = Int32.ofInt 3 ∧ q.2.2.2.2.2 = Int32.ofInt 0) ∨
      (q.1 = Int32.ofInt 4 ∧ (N.1 159 i 0 = Int32.ofInt 4 ∨ N.1 159 i 0 = Int32.ofInt 8)) ∨ q.1 = Int32.ofInt 5)) ∨
   (N.2.2 0 (N.2.2 149 i 0) 0 = 57 ∧ (q.1 = Int32.ofInt 5 ∨ q.1 = Int32.ofInt 6))) ∧
  N.1 158 i 0 = q.1 ∧ N.1 151 i 0 = q.2.2.2.2.2 ∧ ∃ dk, dk < 32 ∧ q.2.2.2.2.2 = nI dk
theorem z4_l {f : Int32} (h : n8 f) : z4 (Int32.ofInt 1 <<< ((f &&& Int32.ofInt 3) &&& 31)) ∧ (f >>> (Int32.ofInt 2 &&& 31) = Int32.ofInt 0 ∨ f >>> (Int32.ofInt 2 &&& 31) = Int32.ofInt 1) := by
  unfold z4
  rcases h with rfl | rfl | rfl | rfl | rfl | rfl | rfl | rfl <;> decide
theorem z4_a {f : Int32} (h : f = Int32.ofInt 2 ∨ f = Int32.ofInt 3) : Int32.ofInt 1 <<< (f &&& 31) = Int32.ofInt 4 ∨ Int32.ofInt 1 <<< (f &&& 31) = Int32.ofInt 8 := by
  rcases h with rfl | rfl <;> decide
theorem cwt_o (o : Option Wt) (pc : Int64) : (cwt o pc).2.2.2.2 = o := by cases o <;> rfl
theorem fval_n {q : Wt} (h : ¬ q.1 = Int32.ofInt 2) (l1 l2 v : Int64) : fval q l1 v = fval q l2 v := by
  unfold fval
  rw [fi_neg h, fi_neg h]
section Uk
variable {c i : Nat} {w len : Int32} {N : FM} {R : Nat → Int64} {pc : Int64} {q : Wt}
theorem st_U (DT : DecT c N) (D : Dec c i w N) (h : (cx R pc w len).2.2.2.2 = some q) : Uk i q N := by
  by_cases ht : ten (nI (fd w 6 0))
  · rw [cx_ten _ _ _ _ ht] at h
    cases h
  rw [cx_oth _ _ _ _ ht, cwt_o] at h
  obtain ⟨hw, ha, hb, a3, a7, a15, a19, a23, a27, a35, a39, a47, a51, a55, a59, a67, a99, a103, a111, a115, a0⟩ := D
  obtain ⟨k5, i5, j5⟩ := f5w w
  have h8 := n8_f w
  have w23 : nI (fd w 14 12) = Int32.ofInt 2 ∨ nI (fd w 14 12) = Int32.ofInt 3 → ¬ Int32.ofInt 4 ≤ nI (fd w 14 12) := by
    rintro (q | q) <;> rw [q] <;> decide
  have t53 : ∀ {i : Nat}, act c i 169 N → N.2.2 0 (N.2.2 149 i 0) 0 = 53 := fun h => by rw [h]; exact DT.2.2.2.2.2.2.2.2.1
  have t57 : ∀ {i : Nat}, act c i 170 N → N.2.2 0 (N.2.2 149 i 0) 0 = 57 := fun h => by rw [h]; exact DT.2.2.2.2.2.2.2.2.2
  have d0 : ∃ dk, dk < 32 ∧ Int32.ofInt 0 = nI dk := ⟨0, by decide, rfl⟩
  unfold wt at h
  by_cases h3 : nI (fd w 6 0) = Int32.ofInt 3
  · rw [fi_pos h3] at h
    by_cases p : Int32.ofInt 7 ≤ nI (fd w 14 12)
    · rw [fi_pos p] at h
      cases h
    · rw [fi_neg p] at h
      obtain ⟨h1, h2, _, h4, h5, h6⟩ := (a3 h3).1 p
      obtain rfl := Option.some.inj h
      refine ⟨Or.inl ⟨t53 h1, by rw [h4]; exact (pw_l h8).1.symm, by rw [h5]; exact (pw_l h8).2.symm, Or.inl ⟨rfl, by rw [h4]; exact (z4_l h8).1, by rw [h5]; exact (z4_l h8).2⟩⟩, h2, h6, _, k5, rfl⟩
  rw [fi_neg h3] at h
  by_cases h7 : nI (fd w 6 0) = Int32.ofInt 7
  · rw [fi_pos h7] at h
    by_cases p : nI (fd w 14 12) = Int32.ofInt 2 ∨ nI (fd w 14 12) = Int32.ofInt 3
    · rw [fi_pos p] at h
      obtain ⟨h1, h2, _, h4, h5, h6⟩ := (a7 h7).1 p
      obtain rfl := Option.some.inj h
      refine ⟨Or.inl ⟨t53 h1, by rw [h4]; exact (pw_z h8 (w23 p)).symm, by rw [h5]; rfl, Or.inr (Or.inr (Or.inr rfl))⟩, h2, h6, _, k5, rfl⟩
    · rw [fi_neg p] at h
      cases h
  rw [fi_neg h7] at h
  by_cases h35 : nI (fd w 6 0) = Int32.ofInt 35
  · rw [fi_pos h35] at h
    by_cases p : Int32.ofInt 4 ≤ nI (fd w 14 12)
    · rw [fi_pos p] at h
      cases h
    · rw [fi_neg p] at h
      obtain ⟨h1, h2, _, h4, h5, h6⟩ := (a35 h35).1 p
      obtain rfl := Option.some.inj h
      refine ⟨Or.inl ⟨t53 h1, by rw [h4]; exact (pw_z h8 p).symm, by rw [h5]; rfl, Or.inr (Or.inl ⟨rfl, rfl⟩)⟩, h2, h6, d0⟩
  rw [fi_neg h35] at h
  by_cases h39 : nI (fd w 6 0) = Int32.ofInt 39
  · rw [fi_pos h39] at h
    by_cases p : nI (fd w 14 12) = Int32.ofInt 2 ∨ nI (fd w 14 12) = Int32.ofInt 3
    · rw [fi_pos p] at h
      obtain ⟨h1, h2, _, h4, h5, h6⟩ := (a39 h39).1 p
      obtain rfl := Option.some.inj h
      refine ⟨Or.inl ⟨t53 h1, by rw [h4]; exact (pw_z h8 (w23 p)).symm, by rw [h5]; rfl, Or.inr (Or.inr (Or.inr rfl))⟩, h2, h6, d0⟩
    · rw [fi_neg p] at h
      cases h
  rw [fi_neg h39] at h
  by_cases h47 : nI (fd w 6 0) = Int32.ofInt 47
  · rw [fi_pos h47] at h
    have s5 : fd w 31 27 < 32 := fd_lt w (hi := 31) (lo := 27) (by decide)
    obtain ⟨n1, n2⟩ := at_n True (fd w 31 27) s5
    have key : (fi (Int32.ofInt 5 ≤ nI (fd w 31 27)) (nI (fd w 31 27) - nI (fd w 31 27) / Int32.ofInt 4 * Int32.ofInt 4 = 0 ∧ ¬ Int32.ofInt 29 ≤ nI (fd w 31 27)) (nI (fd w 31 27) = Int32.ofInt 2 → nI (fd w 24 20) = 0)) ∧ (nI (fd w 14 12) = Int32.ofInt 2 ∨ nI (fd w 14 12) = Int32.ofInt 3) → wAt (nI (fd w 14 12)) (nI (fd w 31 27)) (nI (fd w 24 20)) := by
      unfold wAt
      rw [n1]
      by_cases q : Int32.ofInt 5 ≤ nI (fd w 31 27)
      · rw [fi_pos q]
        exact fun z => ⟨z.2, fun _ => z.1, fun e => absurd e (n2 q)⟩
      · rw [fi_neg q]
        exact fun z => ⟨z.2, fun e => absurd e q, z.1⟩
    unfold wtA at h
    by_cases p : (fi (Int32.ofInt 5 ≤ nI (fd w 31 27)) (nI (fd w 31 27) - nI (fd w 31 27) / Int32.ofInt 4 * Int32.ofInt 4 = 0 ∧ ¬ Int32.ofInt 29 ≤ nI (fd w 31 27)) (nI (fd w 31 27) = Int32.ofInt 2 → nI (fd w 24 20) = 0)) ∧ (nI (fd w 14 12) = Int32.ofInt 2 ∨ nI (fd w 14 12) = Int32.ofInt 3)
    · rw [fi_pos p] at h
      obtain ⟨h1, h2, _, h4, h5, h6⟩ := (a47 h47).1 (key p)
      obtain rfl := Option.some.inj h
      refine ⟨Or.inl ⟨t53 h1, by rw [h4]; exact (pw_z h8 (w23 p.2)).symm, by rw [h5], Or.inr (Or.inr (Or.inl ⟨rfl, by rw [h4]; exact z4_a p.2⟩))⟩, h2, h6, _, k5, rfl⟩
    · rw [fi_neg p] at h
      cases h
  rw [fi_neg h47] at h
  by_cases h67 : nI (fd w 6 0) = Int32.ofInt 67 ∨ nI (fd w 6 0) = Int32.ofInt 71 ∨ nI (fd w 6 0) = Int32.ofInt 75 ∨ nI (fd w 6 0) = Int32.ofInt 79 ∨ nI (fd w 6 0) = Int32.ofInt 83
  · rw [fi_pos h67] at h
    obtain ⟨h1, h2, _, h4, h5, h6⟩ := (a67 h67).1 trivial
    obtain rfl := Option.some.inj h
    exact ⟨Or.inr ⟨t57 h1, Or.inl rfl⟩, h2, h6, _, k5, rfl⟩
  rw [fi_neg h67] at h
  by_cases h115 : nI (fd w 6 0) = Int32.ofInt 115
  · rw [fi_pos h115] at h
    unfold wtC at h
    by_cases p : nI (fd w 14 12) = Int32.ofInt 4
    · rw [fi_pos p] at h
      cases h
    · rw [fi_neg p] at h
      obtain ⟨h1, h2, _, h4, h5, h6⟩ := (a115 h115).1 p
      obtain rfl := Option.some.inj h
      exact ⟨Or.inr ⟨t57 h1, Or.inr rfl⟩, h2, h6, _, k5, rfl⟩
  rw [fi_neg h115] at h
  cases h
theorem Uk_k (h : Uk i q N) : q.1 = Int32.ofInt 2 ∨ q.1 = Int32.ofInt 3 ∨ q.1 = Int32.ofInt 4 ∨ q.1 = Int32.ofInt 5 ∨ q.1 = Int32.ofInt 6 := by
  rcases h.1 with ⟨_, _, _, h | h | h | h⟩ | ⟨_, h | h⟩
  · exact Or.inl h.1
  · exact Or.inr (Or.inl h.1)
  · exact Or.inr (Or.inr (Or.inl h.1))
  · exact Or.inr (Or.inr (Or.inr (Or.inl h)))
  · exact Or.inr (Or.inr (Or.inr (Or.inl h)))
  · exact Or.inr (Or.inr (Or.inr (Or.inr h)))
/-- what comes into the register is the same -/
theorem Uk_v (h : Uk i q N) (v : Int64) : q.1 = Int32.ofInt 3 ∨ ∀ lv, (q.1 = Int32.ofInt 2 → lv = fin (Int32.ofInt 2) (N.1 159 i 0) (N.1 160 i 0) v) → cval2 i v N = fval q lv v := by
  obtain ⟨h1, h2, h3⟩ := h
  unfold cval2
  rcases h1 with ⟨t, hz, hs, h | h | h | h⟩ | ⟨t, h⟩
  · right
    intro lv hl
    rw [fi_pos (isT t (by decide) (by decide)), h2, hl h.1]
    exact (fval_eq v (Or.inl h.1) hz).symm
  · exact Or.inl h.1
  · right
    intro lv hl
    rw [fi_pos (isT t (by decide) (by decide)), h2, ← fval_eq (q := q) (z := N.1 159 i 0) v (Or.inr (Or.inl h)) hz]
    exact fval_n (by rw [h.1]; decide) _ _ _
  · right
    intro lv hl
    rw [fi_pos (isT t (by decide) (by decide)), h2, ← fval_eq (q := q) (z := N.1 159 i 0) v (Or.inr (Or.inr h)) hz]
    exact fval_n (by rw [h]; decide) _ _ _
  · right
    intro lv hl
    rw [fi_neg (isN t (by decide))]
    rcases h with h | h
    · unfold fval
      rw [h, fi_neg (by decide), fi_neg (show ¬ (Int32.ofInt 5 = Int32.ofInt 4 ∧ lg_cmp q.2.2.1 (Int64.ofInt 4) = 0) from fun w => absurd w.1 (by decide))]
    · exact (fval_6 v h).symm
end Uk
