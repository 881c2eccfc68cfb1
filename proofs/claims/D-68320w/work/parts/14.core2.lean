/-! the twin's core: what instructions do -/
/-- memory is the same but for quotient and rest -/
def sq (c : Nat) (M M' : FM) : Prop := M' = M ∨ ∃ q r, M' = dQ c q r M
theorem sq_r {c : Nat} {M : FM} : sq c M M := Or.inl rfl
theorem sq_d {c : Nat} {M : FM} {q r : Int64} : sq c M (dQ c q r M) := Or.inr ⟨q, r, rfl⟩
theorem sq_ty {c : Nat} {M M' : FM} (h : sq c M M') (T : Ty M) : Ty M' := by
  rcases h with rfl | ⟨q, r, rfl⟩
  · exact T
  · exact dQ_ty T
theorem sq_is {c : Nat} {M M' : FM} (h : sq c M M') {lo hi a : Nat} (k : fm_is M lo hi a = true) : fm_is M' lo hi a = true := by
  rcases h with rfl | ⟨q, r, rfl⟩
  · exact k
  · exact k
noncomputable def mh (x y : Int64) : Int64 := lN (ul x * ul y / 18446744073709551616)
noncomputable def n0 (x y : Int64) : Int64 := fi (0 ≤ lg_cmp x (Int64.ofInt 0)) (Int64.ofInt 0) y
noncomputable def pr (f : Int32) (x y : Int64) : Int64 :=
  fi (f = Int32.ofInt 0) (x * y) (fi (f = Int32.ofInt 1) (mh x y - n0 x y - n0 y x) (fi (f = Int32.ofInt 2) (mh x y - n0 x y) (fi (f = Int32.ofInt 3) (mh x y)
    (fi (Int32.ofInt 6 ≤ f) (dr (f = Int32.ofInt 4 ∨ f = Int32.ofInt 6) x y) (dq (f = Int32.ofInt 4 ∨ f = Int32.ofInt 6) x y)))))
theorem dq_c {s t : Prop} (h : s ↔ t) (x y : Int64) : dq s x y = dq t x y := by rw [propext h]
theorem dr_c {s t : Prop} (h : s ↔ t) (x y : Int64) : dr s x y = dr t x y := by rw [propext h]
theorem X98_product {c : Nat} {M : FM} (T : Ty M) (n : fm_is M 94 94 c = true) (f : Int32) : HX98_product c f M ∧ ∃ M', sq c M M' ∧ GX98_product c f M = (pr f (M.2.1 351 c 0) (M.2.1 352 c 0), M') := by
  have u := X98_upper (M.2.1 351 c 0) (M.2.1 352 c 0) M T
  have d0 := X98_divideAll T n (M.2.1 351 c 0) (M.2.1 352 c 0) (Int32.ofInt 0)
  have d1 := X98_divideAll T n (M.2.1 351 c 0) (M.2.1 352 c 0) (Int32.ofInt 1)
  refine ⟨?_, ?_⟩
  · simp only [HX98_product_157, HX98_product_152, HX98_product_0, HX98_product, u, d0, d1, and_self, imp_true_iff]
  · by_cases h0 : f = Int32.ofInt 0
    · exact ⟨M, sq_r, by simp only [GX98_product_177, GX98_product_157, GX98_product_152, GX98_product_118, GX98_product_88, GX98_product_70, GX98_product_0, GX98_product, pr, h0, fi_if, if_true]⟩
    by_cases h1 : f = Int32.ofInt 1
    · refine ⟨M, sq_r, ?_⟩
      subst h1
      simp only [GX98_product_177, GX98_product_157, GX98_product_152, GX98_product_118, GX98_product_88, GX98_product_70, GX98_product_0, GX98_product, pr, u, n0, mh, fi_if, h0, if_true, if_false]
      split <;> split <;> rfl
    by_cases h2 : f = Int32.ofInt 2
    · refine ⟨M, sq_r, ?_⟩
      subst h2
      simp only [GX98_product_177, GX98_product_157, GX98_product_152, GX98_product_118, GX98_product_88, GX98_product_70, GX98_product_0, GX98_product, pr, u, n0, mh, fi_if, h0, h1, if_true, if_false]
      split <;> rfl
    by_cases h3 : f = Int32.ofInt 3
    · refine ⟨M, sq_r, ?_⟩
      subst h3
      simp only [GX98_product_177, GX98_product_157, GX98_product_152, GX98_product_118, GX98_product_88, GX98_product_70, GX98_product_0, GX98_product, pr, u, n0, mh, fi_if, h0, h1, h2, if_true, if_false]
    by_cases h4 : f = Int32.ofInt 4
    · refine ⟨dQ c (dq (¬ Int32.ofInt 1 = 0) (M.2.1 351 c 0) (M.2.1 352 c 0)) (dr (¬ Int32.ofInt 1 = 0) (M.2.1 351 c 0) (M.2.1 352 c 0)) M, sq_d, ?_⟩
      have e : (f = Int32.ofInt 4 ∨ f = Int32.ofInt 6) ↔ ¬ Int32.ofInt 1 = 0 := ⟨fun _ => by decide, fun _ => Or.inl h4⟩
      rw [pr, fi_neg h0, fi_neg h1, fi_neg h2, fi_neg h3, dq_c e, dr_c e]
      simp only [GX98_product_177, GX98_product_157, GX98_product_152, GX98_product_118, GX98_product_88, GX98_product_70, GX98_product_0, GX98_product, d1, fi_if, h0, h1, h2, h3, if_pos h4, if_true, if_false, dQ_q, dQ_r]
      split <;> rfl
    by_cases h6 : f = Int32.ofInt 6
    · refine ⟨dQ c (dq (¬ Int32.ofInt 1 = 0) (M.2.1 351 c 0) (M.2.1 352 c 0)) (dr (¬ Int32.ofInt 1 = 0) (M.2.1 351 c 0) (M.2.1 352 c 0)) M, sq_d, ?_⟩
      have e : (f = Int32.ofInt 4 ∨ f = Int32.ofInt 6) ↔ ¬ Int32.ofInt 1 = 0 := ⟨fun _ => by decide, fun _ => Or.inr h6⟩
      rw [pr, fi_neg h0, fi_neg h1, fi_neg h2, fi_neg h3, dq_c e, dr_c e]
      simp only [GX98_product_177, GX98_product_157, GX98_product_152, GX98_product_118, GX98_product_88, GX98_product_70, GX98_product_0, GX98_product, d1, fi_if, h0, h1, h2, h3, h4, if_pos h6, if_true, if_false, dQ_q, dQ_r]
      split <;> rfl
    · refine ⟨dQ c (dq (¬ Int32.ofInt 0 = 0) (M.2.1 351 c 0) (M.2.1 352 c 0)) (dr (¬ Int32.ofInt 0 = 0) (M.2.1 351 c 0) (M.2.1 352 c 0)) M, sq_d, ?_⟩
      have e : (f = Int32.ofInt 4 ∨ f = Int32.ofInt 6) ↔ ¬ Int32.ofInt 0 = 0 := ⟨fun q => absurd q (by rintro (q | q); exact h4 q; exact h6 q), fun q => absurd rfl q⟩
      rw [pr, fi_neg h0, fi_neg h1, fi_neg h2, fi_neg h3, dq_c e, dr_c e]
      simp only [GX98_product_177, GX98_product_157, GX98_product_152, GX98_product_118, GX98_product_88, GX98_product_70, GX98_product_0, GX98_product, d0, fi_if, h0, h1, h2, h3, h4, h6, if_true, if_false, dQ_q, dQ_r]
      split <;> rfl
