/-! halves: every short instruction makes the same word on both sides -/
set_option maxRecDepth 100000
def lnH (s k : Nat) (M : FM) : Nat := M.2.2 3 (M.2.2 142 s 0) k
def LnS_0 (s : Nat) (M : FM) : Prop := fm_is M 50 50 (lnH s 0 M) = true ∧ LyS (M.2.2 129 (lnH s 0 M) 0) M pl_stack 0
def LnS_1 (s : Nat) (M : FM) : Prop := fm_is M 43 43 (lnH s 1 M) = true ∧ M.1 130 (lnH s 1 M) 0 = nI 7 ∧ M.1 131 (lnH s 1 M) 0 = nI 3 ∧ M.1 132 (lnH s 1 M) 0 = nI 0 ∧ LyS (M.2.2 129 (lnH s 1 M) 0) M pl_wide 0
def LnS_2 (s : Nat) (M : FM) : Prop := fm_is M 43 43 (lnH s 2 M) = true ∧ M.1 130 (lnH s 2 M) 0 = nI 3 ∧ M.1 131 (lnH s 2 M) 0 = nI 2 ∧ M.1 132 (lnH s 2 M) 0 = nI 0 ∧ LyS (M.2.2 129 (lnH s 2 M) 0) M pl_narrow 0
def LnS_3 (s : Nat) (M : FM) : Prop := fm_is M 43 43 (lnH s 3 M) = true ∧ M.1 130 (lnH s 3 M) 0 = nI 3 ∧ M.1 131 (lnH s 3 M) 0 = nI 3 ∧ M.1 132 (lnH s 3 M) 0 = nI 0 ∧ LyS (M.2.2 129 (lnH s 3 M) 0) M pl_wide 0
def LnS_5 (s : Nat) (M : FM) : Prop := fm_is M 43 43 (lnH s 5 M) = true ∧ M.1 130 (lnH s 5 M) 0 = nI 39 ∧ M.1 131 (lnH s 5 M) 0 = nI 3 ∧ M.1 132 (lnH s 5 M) 0 = nI 1 ∧ LyS (M.2.2 129 (lnH s 5 M) 0) M pl_wide 0
def LnS_6 (s : Nat) (M : FM) : Prop := fm_is M 43 43 (lnH s 6 M) = true ∧ M.1 130 (lnH s 6 M) 0 = nI 35 ∧ M.1 131 (lnH s 6 M) 0 = nI 2 ∧ M.1 132 (lnH s 6 M) 0 = nI 1 ∧ LyS (M.2.2 129 (lnH s 6 M) 0) M pl_narrow 0
def LnS_7 (s : Nat) (M : FM) : Prop := fm_is M 43 43 (lnH s 7 M) = true ∧ M.1 130 (lnH s 7 M) 0 = nI 35 ∧ M.1 131 (lnH s 7 M) 0 = nI 3 ∧ M.1 132 (lnH s 7 M) 0 = nI 1 ∧ LyS (M.2.2 129 (lnH s 7 M) 0) M pl_wide 0
def LnS_8 (s : Nat) (M : FM) : Prop := fm_is M 45 45 (lnH s 8 M) = true ∧ M.1 133 (lnH s 8 M) 0 = nI 19 ∧ M.1 134 (lnH s 8 M) 0 = nI 0 ∧ M.1 135 (lnH s 8 M) 0 = nI 0 ∧ LyS (M.2.2 129 (lnH s 8 M) 0) M pl_n 5
def LnS_9 (s : Nat) (M : FM) : Prop := fm_is M 45 45 (lnH s 9 M) = true ∧ M.1 133 (lnH s 9 M) 0 = nI 27 ∧ M.1 134 (lnH s 9 M) 0 = nI 0 ∧ M.1 135 (lnH s 9 M) 0 = nI 0 ∧ LyS (M.2.2 129 (lnH s 9 M) 0) M pl_n 5
def LnS_10 (s : Nat) (M : FM) : Prop := fm_is M 45 45 (lnH s 10 M) = true ∧ M.1 133 (lnH s 10 M) 0 = nI 19 ∧ M.1 134 (lnH s 10 M) 0 = nI 0 ∧ M.1 135 (lnH s 10 M) 0 = nI 1 ∧ LyS (M.2.2 129 (lnH s 10 M) 0) M pl_n 5
def LnS_11 (s : Nat) (M : FM) : Prop := fm_is M 49 49 (lnH s 11 M) = true ∧ LyS (M.2.2 129 (lnH s 11 M) 0) M pl_stackSum 9 ∧ LyS (M.2.2 141 (lnH s 11 M) 0) M pl_n 5
def LnS_12 (s : Nat) (M : FM) : Prop := fm_is M 47 47 (lnH s 12 M) = true ∧ LyS (M.2.2 129 (lnH s 12 M) 0) M pl_z 0 ∧ LyS (M.2.2 137 (lnH s 12 M) 0) M pl_n 5 ∧ (∀ k, k < 18 → M.1 3 (M.2.2 136 (lnH s 12 M) 0) k = nI (SM.getD k 0))
def LnS_13 (s : Nat) (M : FM) : Prop := fm_is M 46 46 (lnH s 13 M) = true ∧ LyS (M.2.2 129 (lnH s 13 M) 0) M pl_jump 11
def LnS_14 (s : Nat) (M : FM) : Prop := fm_is M 44 44 (lnH s 14 M) = true ∧ M.1 128 (lnH s 14 M) 0 = nI 6 ∧ LyS (M.2.2 129 (lnH s 14 M) 0) M pl_branch 8
def LnS_15 (s : Nat) (M : FM) : Prop := fm_is M 44 44 (lnH s 15 M) = true ∧ M.1 128 (lnH s 15 M) 0 = nI 7 ∧ LyS (M.2.2 129 (lnH s 15 M) 0) M pl_branch 8
def LnS_16 (s : Nat) (M : FM) : Prop := fm_is M 45 45 (lnH s 16 M) = true ∧ M.1 133 (lnH s 16 M) 0 = nI 19 ∧ M.1 134 (lnH s 16 M) 0 = nI 1 ∧ M.1 135 (lnH s 16 M) 0 = nI 0 ∧ LyS (M.2.2 129 (lnH s 16 M) 0) M pl_z 0
def LnS_17 (s : Nat) (M : FM) : Prop := fm_is M 48 48 (lnH s 17 M) = true ∧ M.1 138 (lnH s 17 M) 0 = nI 7 ∧ M.1 139 (lnH s 17 M) 0 = nI 3 ∧ M.1 140 (lnH s 17 M) 0 = nI 0 ∧ LyS (M.2.2 129 (lnH s 17 M) 0) M pl_wideStack 0
def LnS_18 (s : Nat) (M : FM) : Prop := fm_is M 48 48 (lnH s 18 M) = true ∧ M.1 138 (lnH s 18 M) 0 = nI 3 ∧ M.1 139 (lnH s 18 M) 0 = nI 2 ∧ M.1 140 (lnH s 18 M) 0 = nI 0 ∧ LyS (M.2.2 129 (lnH s 18 M) 0) M pl_narrowStack 0
def LnS_19 (s : Nat) (M : FM) : Prop := fm_is M 48 48 (lnH s 19 M) = true ∧ M.1 138 (lnH s 19 M) 0 = nI 3 ∧ M.1 139 (lnH s 19 M) 0 = nI 3 ∧ M.1 140 (lnH s 19 M) 0 = nI 0 ∧ LyS (M.2.2 129 (lnH s 19 M) 0) M pl_wideStack 0
def LnS_20 (s : Nat) (M : FM) : Prop := fm_is M 51 51 (lnH s 20 M) = true
def LnS_21 (s : Nat) (M : FM) : Prop := fm_is M 48 48 (lnH s 21 M) = true ∧ M.1 138 (lnH s 21 M) 0 = nI 39 ∧ M.1 139 (lnH s 21 M) 0 = nI 3 ∧ M.1 140 (lnH s 21 M) 0 = nI 1 ∧ LyS (M.2.2 129 (lnH s 21 M) 0) M pl_wideStore 0
def LnS_22 (s : Nat) (M : FM) : Prop := fm_is M 48 48 (lnH s 22 M) = true ∧ M.1 138 (lnH s 22 M) 0 = nI 35 ∧ M.1 139 (lnH s 22 M) 0 = nI 2 ∧ M.1 140 (lnH s 22 M) 0 = nI 1 ∧ LyS (M.2.2 129 (lnH s 22 M) 0) M pl_narrowStore 0
def LnS_23 (s : Nat) (M : FM) : Prop := fm_is M 48 48 (lnH s 23 M) = true ∧ M.1 138 (lnH s 23 M) 0 = nI 35 ∧ M.1 139 (lnH s 23 M) 0 = nI 3 ∧ M.1 140 (lnH s 23 M) 0 = nI 1 ∧ LyS (M.2.2 129 (lnH s 23 M) 0) M pl_wideStore 0
/-- how the lines stand -/
def StH (s : Nat) (M : FM) : Prop := fm_is M 52 52 s = true ∧ lnH s 4 M = 0 ∧ LnS_0 s M ∧ LnS_1 s M ∧ LnS_2 s M ∧ LnS_3 s M ∧ LnS_5 s M ∧ LnS_6 s M ∧ LnS_7 s M ∧ LnS_8 s M ∧ LnS_9 s M ∧ LnS_10 s M ∧ LnS_11 s M ∧ LnS_12 s M ∧ LnS_13 s M ∧ LnS_14 s M ∧ LnS_15 s M ∧ LnS_16 s M ∧ LnS_17 s M ∧ LnS_18 s M ∧ LnS_19 s M ∧ LnS_20 s M ∧ LnS_21 s M ∧ LnS_22 s M ∧ LnS_23 s M
section Ex
variable {s x c : Nat} {M : FM} {h r : Int32}
theorem e27_43 (ht : fm_is M 43 43 x = true) (z0 : M.2.2 0 0 0 = 0) (m : HX38_make x h M ∧ GX38_make x h M = (r, M)) : HX34_expand_27 h x M ∧ GX34_expand_27 h x M = (r, M) := by
  have h0 : M.2.2 0 x 0 = 43 := by have := fm_isd ht; omega
  have x0 : ¬ x = 0 := fun e => by rw [e, z0] at h0; cases h0
  have ix := isx h0
  unfold GX34_expand_27 GX34_expand_41 HX34_expand_27
  rw [fi_neg x0]
  refine ⟨⟨fun y => absurd y x0, fun _ => ?_⟩, ?_⟩
  · simp (decide := true) only [ix, true_imp_iff, false_imp_iff, not_true, not_false_iff, true_and, and_true, if_true, if_false, m.1]
  · simp (decide := true) only [ix, fi_if, if_true, if_false]
    rw [m.2]
theorem e27_44 (ht : fm_is M 44 44 x = true) (z0 : M.2.2 0 0 0 = 0) (m : HX43_make x h M ∧ GX43_make x h M = (r, M)) : HX34_expand_27 h x M ∧ GX34_expand_27 h x M = (r, M) := by
  have h0 : M.2.2 0 x 0 = 44 := by have := fm_isd ht; omega
  have x0 : ¬ x = 0 := fun e => by rw [e, z0] at h0; cases h0
  have ix := isx h0
  unfold GX34_expand_27 GX34_expand_41 HX34_expand_27
  rw [fi_neg x0]
  refine ⟨⟨fun y => absurd y x0, fun _ => ?_⟩, ?_⟩
  · simp (decide := true) only [ix, true_imp_iff, false_imp_iff, not_true, not_false_iff, true_and, and_true, if_true, if_false, m.1]
  · simp (decide := true) only [ix, fi_if, if_true, if_false]
    rw [m.2]
theorem e27_45 (ht : fm_is M 45 45 x = true) (z0 : M.2.2 0 0 0 = 0) (m : HX39_make x h M ∧ GX39_make x h M = (r, M)) : HX34_expand_27 h x M ∧ GX34_expand_27 h x M = (r, M) := by
  have h0 : M.2.2 0 x 0 = 45 := by have := fm_isd ht; omega
  have x0 : ¬ x = 0 := fun e => by rw [e, z0] at h0; cases h0
  have ix := isx h0
  unfold GX34_expand_27 GX34_expand_41 HX34_expand_27
  rw [fi_neg x0]
  refine ⟨⟨fun y => absurd y x0, fun _ => ?_⟩, ?_⟩
  · simp (decide := true) only [ix, true_imp_iff, false_imp_iff, not_true, not_false_iff, true_and, and_true, if_true, if_false, m.1]
  · simp (decide := true) only [ix, fi_if, if_true, if_false]
    rw [m.2]
theorem e27_46 (ht : fm_is M 46 46 x = true) (z0 : M.2.2 0 0 0 = 0) (m : HX42_make x h M ∧ GX42_make x h M = (r, M)) : HX34_expand_27 h x M ∧ GX34_expand_27 h x M = (r, M) := by
  have h0 : M.2.2 0 x 0 = 46 := by have := fm_isd ht; omega
  have x0 : ¬ x = 0 := fun e => by rw [e, z0] at h0; cases h0
  have ix := isx h0
  unfold GX34_expand_27 GX34_expand_41 HX34_expand_27
  rw [fi_neg x0]
  refine ⟨⟨fun y => absurd y x0, fun _ => ?_⟩, ?_⟩
  · simp (decide := true) only [ix, true_imp_iff, false_imp_iff, not_true, not_false_iff, true_and, and_true, if_true, if_false, m.1]
  · simp (decide := true) only [ix, fi_if, if_true, if_false]
    rw [m.2]
theorem e27_47 (ht : fm_is M 47 47 x = true) (z0 : M.2.2 0 0 0 = 0) (m : HX41_make x h M ∧ GX41_make x h M = (r, M)) : HX34_expand_27 h x M ∧ GX34_expand_27 h x M = (r, M) := by
  have h0 : M.2.2 0 x 0 = 47 := by have := fm_isd ht; omega
  have x0 : ¬ x = 0 := fun e => by rw [e, z0] at h0; cases h0
  have ix := isx h0
  unfold GX34_expand_27 GX34_expand_41 HX34_expand_27
  rw [fi_neg x0]
  refine ⟨⟨fun y => absurd y x0, fun _ => ?_⟩, ?_⟩
  · simp (decide := true) only [ix, true_imp_iff, false_imp_iff, not_true, not_false_iff, true_and, and_true, if_true, if_false, m.1]
  · simp (decide := true) only [ix, fi_if, if_true, if_false]
    rw [m.2]
theorem e27_48 (ht : fm_is M 48 48 x = true) (z0 : M.2.2 0 0 0 = 0) (m : HX44_make x h M ∧ GX44_make x h M = (r, M)) : HX34_expand_27 h x M ∧ GX34_expand_27 h x M = (r, M) := by
  have h0 : M.2.2 0 x 0 = 48 := by have := fm_isd ht; omega
  have x0 : ¬ x = 0 := fun e => by rw [e, z0] at h0; cases h0
  have ix := isx h0
  unfold GX34_expand_27 GX34_expand_41 HX34_expand_27
  rw [fi_neg x0]
  refine ⟨⟨fun y => absurd y x0, fun _ => ?_⟩, ?_⟩
  · simp (decide := true) only [ix, true_imp_iff, false_imp_iff, not_true, not_false_iff, true_and, and_true, if_true, if_false, m.1]
  · simp (decide := true) only [ix, fi_if, if_true, if_false]
    rw [m.2]
theorem e27_49 (ht : fm_is M 49 49 x = true) (z0 : M.2.2 0 0 0 = 0) (m : HX40_make x h M ∧ GX40_make x h M = (r, M)) : HX34_expand_27 h x M ∧ GX34_expand_27 h x M = (r, M) := by
  have h0 : M.2.2 0 x 0 = 49 := by have := fm_isd ht; omega
  have x0 : ¬ x = 0 := fun e => by rw [e, z0] at h0; cases h0
  have ix := isx h0
  unfold GX34_expand_27 GX34_expand_41 HX34_expand_27
  rw [fi_neg x0]
  refine ⟨⟨fun y => absurd y x0, fun _ => ?_⟩, ?_⟩
  · simp (decide := true) only [ix, true_imp_iff, false_imp_iff, not_true, not_false_iff, true_and, and_true, if_true, if_false, m.1]
  · simp (decide := true) only [ix, fi_if, if_true, if_false]
    rw [m.2]
theorem e27_50 (ht : fm_is M 50 50 x = true) (z0 : M.2.2 0 0 0 = 0) (m : HX37_make x h M ∧ GX37_make x h M = (r, M)) : HX34_expand_27 h x M ∧ GX34_expand_27 h x M = (r, M) := by
  have h0 : M.2.2 0 x 0 = 50 := by have := fm_isd ht; omega
  have x0 : ¬ x = 0 := fun e => by rw [e, z0] at h0; cases h0
  have ix := isx h0
  unfold GX34_expand_27 GX34_expand_41 HX34_expand_27
  rw [fi_neg x0]
  refine ⟨⟨fun y => absurd y x0, fun _ => ?_⟩, ?_⟩
  · simp (decide := true) only [ix, true_imp_iff, false_imp_iff, not_true, not_false_iff, true_and, and_true, if_true, if_false, m.1]
  · simp (decide := true) only [ix, fi_if, if_true, if_false]
    rw [m.2]
theorem e27_51 (ht : fm_is M 51 51 x = true) (z0 : M.2.2 0 0 0 = 0) (m : GX45_make x h M = (r, M)) : HX34_expand_27 h x M ∧ GX34_expand_27 h x M = (r, M) := by
  have h0 : M.2.2 0 x 0 = 51 := by have := fm_isd ht; omega
  have x0 : ¬ x = 0 := fun e => by rw [e, z0] at h0; cases h0
  have ix := isx h0
  unfold GX34_expand_27 GX34_expand_41 HX34_expand_27
  rw [fi_neg x0]
  refine ⟨⟨fun y => absurd y x0, fun _ => ?_⟩, ?_⟩
  · simp (decide := true) only [ix, true_imp_iff, false_imp_iff, not_true, not_false_iff, true_and, and_true, if_true, if_false]
  · simp (decide := true) only [ix, fi_if, if_true, if_false]
    rw [m]
end Ex
