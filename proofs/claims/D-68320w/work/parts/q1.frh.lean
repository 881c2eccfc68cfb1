/-! what others write leaves a relation as it is: the halves' lines, the atomics' changes -/
set_option maxRecDepth 100000
def uH : List Nat := [125, 126, 128, 129, 130, 131, 132, 133, 134, 135, 136, 137, 138, 139, 140, 141, 142, 1125, 1136, 1142]
def uA : List Nat := [198, 199, 200, 206, 1206]
section Fh
variable {s y r sg : Nat} {S : List Nat} {M N : FM} {pl : List (Nat × Nat × Nat)}
theorem lyS_k (k : WK S M N) (hd : dj uH S = true) (T : Ty M) (W : Wf M) (h : LyS y M pl sg) : LyS y N pl sg := by
  obtain ⟨n, l, h1, h2, h3⟩ := h
  have ly := wf_lt W (fm_ist rfl n)
  have n125 := tN_125 T.1 n
  have l125 := wf_lt W (fm_ist rfl n125)
  have r125 := (ka k (sS_125 W n) (wf_n0 W (fm_ist rfl n125)) (dj_n hd 1125 rfl) l125).1
  unfold LyS
  rw [(kf (f := 125) k rfl (dj_n hd 125 rfl) ly).2.2, (kf (f := 126) k rfl (dj_n hd 126 rfl) ly).1, r125, (kt k l125).2]
  exact ⟨kis k W rfl n, l, h1, h2, h3⟩
theorem stH_k (k : WK S M N) (hd : dj uH S = true) (T : Ty M) (W : Wf M) (h : StH s M) : StH s N := by
  obtain ⟨n, n4, L0, L1, L2, L3, L5, L6, L7, L8, L9, L10, L11, L12, L13, L14, L15, L16, L17, L18, L19, L20, L21, L22, L23⟩ := h
  have ls := wf_lt W (fm_ist rfl n)
  have n142 := tN_142 T.1 n
  have r142 := (ka k (sS_142 W n) (wf_n0 W (fm_ist rfl n142)) (dj_n hd 1142 rfl) (wf_lt W (fm_ist rfl n142))).2.2
  have eL : ∀ i, lnH s i N = lnH s i M := fun i => by
    unfold lnH
    rw [(kf (f := 142) k rfl (dj_n hd 142 rfl) ls).2.2, r142]
  have ll : ∀ i, lnH s i M < fm_nx M := fun i => rf_lt T.1 W (by decide)
  have fx := fun (i f : Nat) (hf : Nat.ble 4 f = true) (hl : fe_mem uH f = true) => kf (f := f) k hf (dj_n hd f hl) (ll i)
  refine ⟨kis k W rfl n, by rw [eL]; exact n4, ?_, ?_, ?_, ?_, ?_, ?_, ?_, ?_, ?_, ?_, ?_, ?_, ?_, ?_, ?_, ?_, ?_, ?_, ?_, ?_, ?_, ?_, ?_⟩
  · unfold LnS_0 at L0 ⊢
    obtain ⟨m0, m1⟩ := L0
    rw [eL, (fx 0 129 rfl rfl).2.2]
    exact ⟨kis k W rfl m0, lyS_k k hd T W m1⟩
  · unfold LnS_1 at L1 ⊢
    obtain ⟨m0, m1, m2, m3, m4⟩ := L1
    rw [eL, (fx 1 130 rfl rfl).1, (fx 1 131 rfl rfl).1, (fx 1 132 rfl rfl).1, (fx 1 129 rfl rfl).2.2]
    exact ⟨kis k W rfl m0, m1, m2, m3, lyS_k k hd T W m4⟩
  · unfold LnS_2 at L2 ⊢
    obtain ⟨m0, m1, m2, m3, m4⟩ := L2
    rw [eL, (fx 2 130 rfl rfl).1, (fx 2 131 rfl rfl).1, (fx 2 132 rfl rfl).1, (fx 2 129 rfl rfl).2.2]
    exact ⟨kis k W rfl m0, m1, m2, m3, lyS_k k hd T W m4⟩
  · unfold LnS_3 at L3 ⊢
    obtain ⟨m0, m1, m2, m3, m4⟩ := L3
    rw [eL, (fx 3 130 rfl rfl).1, (fx 3 131 rfl rfl).1, (fx 3 132 rfl rfl).1, (fx 3 129 rfl rfl).2.2]
    exact ⟨kis k W rfl m0, m1, m2, m3, lyS_k k hd T W m4⟩
  · unfold LnS_5 at L5 ⊢
    obtain ⟨m0, m1, m2, m3, m4⟩ := L5
    rw [eL, (fx 5 130 rfl rfl).1, (fx 5 131 rfl rfl).1, (fx 5 132 rfl rfl).1, (fx 5 129 rfl rfl).2.2]
    exact ⟨kis k W rfl m0, m1, m2, m3, lyS_k k hd T W m4⟩
  · unfold LnS_6 at L6 ⊢
    obtain ⟨m0, m1, m2, m3, m4⟩ := L6
    rw [eL, (fx 6 130 rfl rfl).1, (fx 6 131 rfl rfl).1, (fx 6 132 rfl rfl).1, (fx 6 129 rfl rfl).2.2]
    exact ⟨kis k W rfl m0, m1, m2, m3, lyS_k k hd T W m4⟩
  · unfold LnS_7 at L7 ⊢
    obtain ⟨m0, m1, m2, m3, m4⟩ := L7
    rw [eL, (fx 7 130 rfl rfl).1, (fx 7 131 rfl rfl).1, (fx 7 132 rfl rfl).1, (fx 7 129 rfl rfl).2.2]
    exact ⟨kis k W rfl m0, m1, m2, m3, lyS_k k hd T W m4⟩
  · unfold LnS_8 at L8 ⊢
    obtain ⟨m0, m1, m2, m3, m4⟩ := L8
    rw [eL, (fx 8 133 rfl rfl).1, (fx 8 134 rfl rfl).1, (fx 8 135 rfl rfl).1, (fx 8 129 rfl rfl).2.2]
    exact ⟨kis k W rfl m0, m1, m2, m3, lyS_k k hd T W m4⟩
  · unfold LnS_9 at L9 ⊢
    obtain ⟨m0, m1, m2, m3, m4⟩ := L9
    rw [eL, (fx 9 133 rfl rfl).1, (fx 9 134 rfl rfl).1, (fx 9 135 rfl rfl).1, (fx 9 129 rfl rfl).2.2]
    exact ⟨kis k W rfl m0, m1, m2, m3, lyS_k k hd T W m4⟩
  · unfold LnS_10 at L10 ⊢
    obtain ⟨m0, m1, m2, m3, m4⟩ := L10
    rw [eL, (fx 10 133 rfl rfl).1, (fx 10 134 rfl rfl).1, (fx 10 135 rfl rfl).1, (fx 10 129 rfl rfl).2.2]
    exact ⟨kis k W rfl m0, m1, m2, m3, lyS_k k hd T W m4⟩
  · unfold LnS_11 at L11 ⊢
    obtain ⟨m0, m1, m2⟩ := L11
    rw [eL, (fx 11 129 rfl rfl).2.2, (fx 11 141 rfl rfl).2.2]
    exact ⟨kis k W rfl m0, lyS_k k hd T W m1, lyS_k k hd T W m2⟩
  · unfold LnS_12 at L12 ⊢
    obtain ⟨m0, m1, m2, m3⟩ := L12
    have n136 := tN_136 T.1 m0
    have r136 := (ka k (sS_136 W m0) (wf_n0 W (fm_ist rfl n136)) (dj_n hd 1136 rfl) (wf_lt W (fm_ist rfl n136))).1
    rw [eL, (fx 12 129 rfl rfl).2.2, (fx 12 137 rfl rfl).2.2, (fx 12 136 rfl rfl).2.2, r136]
    exact ⟨kis k W rfl m0, lyS_k k hd T W m1, lyS_k k hd T W m2, m3⟩
  · unfold LnS_13 at L13 ⊢
    obtain ⟨m0, m1⟩ := L13
    rw [eL, (fx 13 129 rfl rfl).2.2]
    exact ⟨kis k W rfl m0, lyS_k k hd T W m1⟩
  · unfold LnS_14 at L14 ⊢
    obtain ⟨m0, m1, m2⟩ := L14
    rw [eL, (fx 14 128 rfl rfl).1, (fx 14 129 rfl rfl).2.2]
    exact ⟨kis k W rfl m0, m1, lyS_k k hd T W m2⟩
  · unfold LnS_15 at L15 ⊢
    obtain ⟨m0, m1, m2⟩ := L15
    rw [eL, (fx 15 128 rfl rfl).1, (fx 15 129 rfl rfl).2.2]
    exact ⟨kis k W rfl m0, m1, lyS_k k hd T W m2⟩
  · unfold LnS_16 at L16 ⊢
    obtain ⟨m0, m1, m2, m3, m4⟩ := L16
    rw [eL, (fx 16 133 rfl rfl).1, (fx 16 134 rfl rfl).1, (fx 16 135 rfl rfl).1, (fx 16 129 rfl rfl).2.2]
    exact ⟨kis k W rfl m0, m1, m2, m3, lyS_k k hd T W m4⟩
  · unfold LnS_17 at L17 ⊢
    obtain ⟨m0, m1, m2, m3, m4⟩ := L17
    rw [eL, (fx 17 138 rfl rfl).1, (fx 17 139 rfl rfl).1, (fx 17 140 rfl rfl).1, (fx 17 129 rfl rfl).2.2]
    exact ⟨kis k W rfl m0, m1, m2, m3, lyS_k k hd T W m4⟩
  · unfold LnS_18 at L18 ⊢
    obtain ⟨m0, m1, m2, m3, m4⟩ := L18
    rw [eL, (fx 18 138 rfl rfl).1, (fx 18 139 rfl rfl).1, (fx 18 140 rfl rfl).1, (fx 18 129 rfl rfl).2.2]
    exact ⟨kis k W rfl m0, m1, m2, m3, lyS_k k hd T W m4⟩
  · unfold LnS_19 at L19 ⊢
    obtain ⟨m0, m1, m2, m3, m4⟩ := L19
    rw [eL, (fx 19 138 rfl rfl).1, (fx 19 139 rfl rfl).1, (fx 19 140 rfl rfl).1, (fx 19 129 rfl rfl).2.2]
    exact ⟨kis k W rfl m0, m1, m2, m3, lyS_k k hd T W m4⟩
  · unfold LnS_20 at L20 ⊢
    rw [eL]
    exact kis k W rfl L20
  · unfold LnS_21 at L21 ⊢
    obtain ⟨m0, m1, m2, m3, m4⟩ := L21
    rw [eL, (fx 21 138 rfl rfl).1, (fx 21 139 rfl rfl).1, (fx 21 140 rfl rfl).1, (fx 21 129 rfl rfl).2.2]
    exact ⟨kis k W rfl m0, m1, m2, m3, lyS_k k hd T W m4⟩
  · unfold LnS_22 at L22 ⊢
    obtain ⟨m0, m1, m2, m3, m4⟩ := L22
    rw [eL, (fx 22 138 rfl rfl).1, (fx 22 139 rfl rfl).1, (fx 22 140 rfl rfl).1, (fx 22 129 rfl rfl).2.2]
    exact ⟨kis k W rfl m0, m1, m2, m3, lyS_k k hd T W m4⟩
  · unfold LnS_23 at L23 ⊢
    obtain ⟨m0, m1, m2, m3, m4⟩ := L23
    rw [eL, (fx 23 138 rfl rfl).1, (fx 23 139 rfl rfl).1, (fx 23 140 rfl rfl).1, (fx 23 129 rfl rfl).2.2]
    exact ⟨kis k W rfl m0, m1, m2, m3, lyS_k k hd T W m4⟩
theorem chI_k (k : WK S M N) (hd : dj uA S = true) (T : Ty M) (W : Wf M) (n : fm_is M 73 73 r = true) (h : ChI r M) : ChI r N := by
  have lr := wf_lt W (fm_ist rfl n)
  have n206 := tN_206 T.1 n
  have r206 := (ka k (sS_206 W n) (wf_n0 W (fm_ist rfl n206)) (dj_n hd 1206 rfl) (wf_lt W (fm_ist rfl n206))).2.2
  have ec : ∀ i, chO N r i = chO M r i := fun i => by
    unfold chO
    rw [(kf (f := 206) k rfl (dj_n hd 206 rfl) lr).2.2, r206]
  have lc : ∀ i, chO M r i < fm_nx M := fun i => rf_lt T.1 W (by decide)
  have e0 : ∀ i, N.2.2 0 (chO M r i) 0 = M.2.2 0 (chO M r i) 0 := fun i => congrFun (kt k (lc i)).1 0
  have e1 : ∀ i, N.1 198 (chO M r i) 0 = M.1 198 (chO M r i) 0 := fun i => congrFun (kf (f := 198) k rfl (dj_n hd 198 rfl) (lc i)).1 0
  have e2 : ∀ i, N.1 199 (chO M r i) 0 = M.1 199 (chO M r i) 0 := fun i => congrFun (kf (f := 199) k rfl (dj_n hd 199 rfl) (lc i)).1 0
  have e3 : ∀ i, N.2.1 200 (chO M r i) 0 = M.2.1 200 (chO M r i) 0 := fun i => congrFun (kf (f := 200) k rfl (dj_n hd 200 rfl) (lc i)).2.1 0
  unfold ChI at h ⊢
  simp only [ec, e0, e1, e2, e3]
  exact h
end Fh
