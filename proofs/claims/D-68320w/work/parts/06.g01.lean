/-! functions without guards, printed by gen/gg.py -/
set_option maxRecDepth 100000
noncomputable def GX0_cell_13 (s0 : Int32) (M : FM) : Int32 × FM :=
  (s0, M)
theorem gX0_cell_13 (s0 : Int32) (M : FM) (T : Ty M) : gd (FX0_cell_13 s0 M) (GX0_cell_13 s0 M) (OkR M) := by
  delta FX0_cell_13 BX0_cell_13
  exact ⟨rfl, ⟨T.1, T.2⟩, (ext_r _)⟩
noncomputable def GX0_cell_0 (a0 : Nat) (a1 : Int32) (M : FM) : Int32 × FM :=
  fi ((Int32.ofNat (M.2.2 1 a0 0)) ≤ a1) (
    GX0_cell_13 (Int32.ofInt 0) M) (
    GX0_cell_13 (M.1 3 a0 a1.toNatClampNeg) M)
def HX0_cell_0 (a0 : Nat) (a1 : Int32) (M : FM) : Prop := (((Int32.ofNat (M.2.2 1 a0 0)) ≤ a1 → True) ∧ (¬ ((Int32.ofNat (M.2.2 1 a0 0)) ≤ a1) → (fm_in M a0 a1 = true ∧ True)))
theorem gX0_cell_0 (a0 : Nat) (a1 : Int32) (M : FM) (T : Ty M) (n_a0 : fm_is M 906 906 a0 = true) (h : HX0_cell_0 a0 a1 M) : gd (FX0_cell_0 a0 a1 M) (GX0_cell_0 a0 a1 M) (OkR M) := by
  delta FX0_cell_0 BX0_cell_0
  have f0 := (fm_w (lo' := 901) (hi' := 990) rfl rfl n_a0)
  refine gd_c f0 ?_
  refine gd_fi (fun c1_0 => ?_) (fun c1_0 => ?_)
  · exact gd_tR (ext_r _) (gX0_cell_13 _ _ ⟨T.1, T.2⟩  )
  · refine gd_c ⟨n_a0, (h.2 c1_0).1⟩ ?_
    exact gd_tR (ext_r _) (gX0_cell_13 _ _ ⟨T.1, T.2⟩  )
noncomputable def GX0_cell (a0 : Nat) (a1 : Int32) (M : FM) : Int32 × FM := GX0_cell_0 a0 a1 M
def HX0_cell (a0 : Nat) (a1 : Int32) (M : FM) : Prop := HX0_cell_0 a0 a1 M
theorem gX0_cell (a0 : Nat) (a1 : Int32) (M : FM) (T : Ty M) (n_a0 : fm_is M 906 906 a0 = true) (h : HX0_cell a0 a1 M) : gd (FX0_cell a0 a1 M) (GX0_cell a0 a1 M) (OkR M) := gX0_cell_0 a0 a1 M T n_a0 h
noncomputable def GX5_begin_0 (a0 : Nat) (a1 : Int32) (a2 : Int32) (M : FM) : FM :=
  let x1 : Int32 := (M.1 266 a0 0)
  let x2 : Nat := (M.2.2 264 a0 0)
  let x3 : Nat := (M.2.2 3 x2 x1.toNatClampNeg)
  let M4 : FM := fm_sI M 249 x3 0 a1
  let M5 : FM := fm_sI M4 250 x3 0 a2
  let M6 : FM := fm_sI M5 251 x3 0 (M5.1 267 a0 0)
  let M7 : FM := fm_sI M6 252 x3 0 (Int32.ofInt 0)
  let M8 : FM := fm_sI M7 253 x3 0 (Int32.ofInt 0)
  let x9 : Nat := (M8.2.2 248 x3 0)
  let M10 : FM := fm_sI M8 255 x9 0 (Int32.ofInt 0)
  let x11 : Int32 := (M10.1 266 a0 0)
  let M12 : FM := fm_sI M10 266 a0 0 (x11 + (Int32.ofInt 1))
  let M13 : FM := fm_sI M12 268 a0 0 x11
  M13
def HX5_begin_0 (a0 : Nat) (a1 : Int32) (a2 : Int32) (M : FM) : Prop := let x1 : Int32 := (M.1 266 a0 0); let x2 : Nat := (M.2.2 264 a0 0); (fm_in M x2 x1 = true ∧ True)
theorem gX5_begin_0 (a0 : Nat) (a1 : Int32) (a2 : Int32) (M : FM) (T : Ty M) (n_a0 : fm_is M 87 87 a0 = true) (h : HX5_begin_0 a0 a1 a2 M) : gd (FX5_begin_0 a0 a1 a2 M) (GX5_begin_0 a0 a1 a2 M) (OkV M) := by
  delta FX5_begin_0 BX5_begin_0
  refine gd_c n_a0 ?_
  refine gd_c n_a0 ?_
  have f7 := (fm_w (lo' := 910) (hi' := 990) rfl rfl (tN_264 T.1 n_a0))
  refine gd_c ⟨f7, h.1⟩ ?_
  have f0 := (tE_924 T.1 (tN_264 T.1 n_a0) h.1)
  refine gd_c f0 ?_
  have f1 := (tE_924 T.1 (tN_264 T.1 n_a0) h.1)
  refine gd_c f1 ?_
  refine gd_c n_a0 ?_
  have f2 := (tE_924 T.1 (tN_264 T.1 n_a0) h.1)
  refine gd_c f2 ?_
  have f3 := (tE_924 T.1 (tN_264 T.1 n_a0) h.1)
  refine gd_c f3 ?_
  have f4 := (tE_924 T.1 (tN_264 T.1 n_a0) h.1)
  refine gd_c f4 ?_
  refine gd_c fz_0 ?_
  have f5 := (tE_924 T.1 (tN_264 T.1 n_a0) h.1)
  refine gd_c f5 ?_
  have f6 := (tN_248 T.1 (tE_924 T.1 (tN_264 T.1 n_a0) h.1))
  refine gd_c f6 ?_
  refine gd_c n_a0 ?_
  refine gd_c n_a0 ?_
  refine gd_c n_a0 ?_
  exact ⟨rfl, ⟨T.1, (tyb_sI (f := 268) rfl (tyb_sI (f := 266) rfl (tyb_sI (f := 255) rfl (tyb_sIb (f := 253) rfl (tyb_sI (f := 252) rfl (tyb_sI (f := 251) rfl (tyb_sI (f := 250) rfl (tyb_sI (f := 249) rfl T.2)))) fz_0))))⟩, (ext_dI (ext_dI (ext_dI (ext_dI (ext_dI (ext_dI (ext_dI (ext_dI (ext_r _)))))))))⟩
noncomputable def GX5_begin (a0 : Nat) (a1 : Int32) (a2 : Int32) (M : FM) : FM := GX5_begin_0 a0 a1 a2 M
def HX5_begin (a0 : Nat) (a1 : Int32) (a2 : Int32) (M : FM) : Prop := HX5_begin_0 a0 a1 a2 M
theorem gX5_begin (a0 : Nat) (a1 : Int32) (a2 : Int32) (M : FM) (T : Ty M) (n_a0 : fm_is M 87 87 a0 = true) (h : HX5_begin a0 a1 a2 M) : gd (FX5_begin a0 a1 a2 M) (GX5_begin a0 a1 a2 M) (OkV M) := gX5_begin_0 a0 a1 a2 M T n_a0 h
noncomputable def GX5_clear_0 (a0 : Nat) (M : FM) : FM :=
  let x1 : Nat := (M.2.2 263 a0 0)
  let M2 : FM := fm_sI M 262 x1 0 (Int32.ofInt 0)
  let M3 : FM := fm_sI M2 266 a0 0 (Int32.ofInt 0)
  let M4 : FM := fm_sI M3 267 a0 0 (Int32.ofInt 0)
  let M5 : FM := GX5_begin a0 (Int32.ofInt (-1)) (Int32.ofInt 1) M4
  M5
def HX5_clear_0 (a0 : Nat) (M : FM) : Prop := let x1 : Nat := (M.2.2 263 a0 0); let M2 : FM := fm_sI M 262 x1 0 (Int32.ofInt 0); let M3 : FM := fm_sI M2 266 a0 0 (Int32.ofInt 0); let M4 : FM := fm_sI M3 267 a0 0 (Int32.ofInt 0); (HX5_begin a0 (Int32.ofInt (-1)) (Int32.ofInt 1) M4 ∧ True)
theorem gX5_clear_0 (a0 : Nat) (M : FM) (T : Ty M) (n_a0 : fm_is M 87 87 a0 = true) (h : HX5_clear_0 a0 M) : gd (FX5_clear_0 a0 M) (GX5_clear_0 a0 M) (OkV M) := by
  delta FX5_clear_0 BX5_clear_0
  refine gd_c n_a0 ?_
  have f0 := (tN_263 T.1 n_a0)
  refine gd_c f0 ?_
  refine gd_c n_a0 ?_
  refine gd_c n_a0 ?_
  refine gd_c n_a0 ?_
  refine gd_b (gX5_begin _ _ _ _ ⟨T.1, (tyb_sI (f := 267) rfl (tyb_sI (f := 266) rfl (tyb_sI (f := 262) rfl T.2)))⟩ n_a0 h.1) (fun K1 => ?_)
  exact ⟨rfl, ⟨K1.1.1, K1.1.2⟩, (ext_dI (ext_dI (ext_dI K1.2)))⟩
noncomputable def GX5_clear (a0 : Nat) (M : FM) : FM := GX5_clear_0 a0 M
def HX5_clear (a0 : Nat) (M : FM) : Prop := HX5_clear_0 a0 M
theorem gX5_clear (a0 : Nat) (M : FM) (T : Ty M) (n_a0 : fm_is M 87 87 a0 = true) (h : HX5_clear a0 M) : gd (FX5_clear a0 M) (GX5_clear a0 M) (OkV M) := gX5_clear_0 a0 M T n_a0 h
noncomputable def Gh_values_6 (M : FM) : Nat × FM := (Fh_values_6 M).getD (0, M)
def Hh_values_6 (M : FM) : Prop := ∃ r, Fh_values_6 M = some r ∧ OkN 928 928 M r
theorem gh_values_6 (M : FM) (h : Hh_values_6 M) : gd (Fh_values_6 M) (Gh_values_6 M) (OkN 928 928 M) := gd_op h
noncomputable def GX34_lay (a0 : Nat) (a1 : Nat) (M : FM) : FM := (FX34_lay a0 a1 M).getD M
def HX34_lay (a0 : Nat) (a1 : Nat) (M : FM) : Prop := ∃ r, FX34_lay a0 a1 M = some r ∧ OkV M r
theorem gX34_lay (a0 : Nat) (a1 : Nat) (M : FM) (h : HX34_lay a0 a1 M) : gd (FX34_lay a0 a1 M) (GX34_lay a0 a1 M) (OkV M) := gd_op h
noncomputable def Gh_values_1 (M : FM) : Nat × FM := (Fh_values_1 M).getD (0, M)
def Hh_values_1 (M : FM) : Prop := ∃ r, Fh_values_1 M = some r ∧ OkN 913 913 M r
theorem gh_values_1 (M : FM) (h : Hh_values_1 M) : gd (Fh_values_1 M) (Gh_values_1 M) (OkN 913 913 M) := gd_op h
noncomputable def Gh_values_3 (M : FM) : Nat × FM := (Fh_values_3 M).getD (0, M)
def Hh_values_3 (M : FM) : Prop := ∃ r, Fh_values_3 M = some r ∧ OkN 915 915 M r
theorem gh_values_3 (M : FM) (h : Hh_values_3 M) : gd (Fh_values_3 M) (Gh_values_3 M) (OkN 915 915 M) := gd_op h
noncomputable def GX74_lay (a0 : Nat) (a1 : Nat) (a2 : Int32) (M : FM) : FM := (FX74_lay a0 a1 a2 M).getD M
def HX74_lay (a0 : Nat) (a1 : Nat) (a2 : Int32) (M : FM) : Prop := ∃ r, FX74_lay a0 a1 a2 M = some r ∧ OkV M r
theorem gX74_lay (a0 : Nat) (a1 : Nat) (a2 : Int32) (M : FM) (h : HX74_lay a0 a1 a2 M) : gd (FX74_lay a0 a1 a2 M) (GX74_lay a0 a1 a2 M) (OkV M) := gd_op h
noncomputable def GX74_fill (a0 : Nat) (a1 : Int32) (a2 : Int32) (a3 : Nat) (M : FM) : FM := (FX74_fill fN a0 a1 a2 a3 M).getD M
def HX74_fill (a0 : Nat) (a1 : Int32) (a2 : Int32) (a3 : Nat) (M : FM) : Prop := ∃ r, FX74_fill fN a0 a1 a2 a3 M = some r ∧ OkV M r
theorem gX74_fill (a0 : Nat) (a1 : Int32) (a2 : Int32) (a3 : Nat) (M : FM) (h : HX74_fill a0 a1 a2 a3 M) : gd (FX74_fill fN a0 a1 a2 a3 M) (GX74_fill a0 a1 a2 a3 M) (OkV M) := gd_op h
noncomputable def GJ1_coder_14 (s0 : Int32) (M : FM) : Int32 × FM :=
  (s0, M)
theorem gJ1_coder_14 (s0 : Int32) (M : FM) (T : Ty M) : gd (FJ1_coder_14 s0 M) (GJ1_coder_14 s0 M) (OkR M) := by
  delta FJ1_coder_14 BJ1_coder_14
  exact ⟨rfl, ⟨T.1, T.2⟩, (ext_r _)⟩
noncomputable def GJ1_coder_0 (a0 : Nat) (M : FM) : Int32 × FM :=
  fi ((Int32.ofInt 1) = 0) (
    GJ1_coder_14 (Int32.ofInt 1) M) (
    GJ1_coder_14 (M.1 16 a0 0) M)
theorem gJ1_coder_0 (a0 : Nat) (M : FM) (T : Ty M) (n_a0 : fm_is M 7 7 a0 = true) : gd (FJ1_coder_0 a0 M) (GJ1_coder_0 a0 M) (OkR M) := by
  delta FJ1_coder_0 BJ1_coder_0
  refine gd_fi (fun c0_0 => ?_) (fun c0_0 => ?_)
  · exact gd_tR (ext_r _) (gJ1_coder_14 _ _ ⟨T.1, T.2⟩  )
  · refine gd_c n_a0 ?_
    exact gd_tR (ext_r _) (gJ1_coder_14 _ _ ⟨T.1, T.2⟩  )
noncomputable def GJ1_coder (a0 : Nat) (M : FM) : Int32 × FM := GJ1_coder_0 a0 M
theorem gJ1_coder (a0 : Nat) (M : FM) (T : Ty M) (n_a0 : fm_is M 7 7 a0 = true) : gd (FJ1_coder a0 M) (GJ1_coder a0 M) (OkR M) := gJ1_coder_0 a0 M T n_a0 
noncomputable def GJ1_length_0 (a0 : Nat) (M : FM) : Int32 × FM :=
  let x1 : Nat := (M.2.2 15 a0 0)
  let r2 : Int32 × FM := GJ1_coder a0 M
  (((Int32.ofNat (M.2.2 1 x1 0)) >>> (r2.1 &&& 31)), r2.2)
theorem gJ1_length_0 (a0 : Nat) (M : FM) (T : Ty M) (n_a0 : fm_is M 7 7 a0 = true) : gd (FJ1_length_0 a0 M) (GJ1_length_0 a0 M) (OkR M) := by
  delta FJ1_length_0 BJ1_length_0
  refine gd_c n_a0 ?_
  have f0 := (fm_w (lo' := 901) (hi' := 990) rfl rfl (tN_15 T.1 n_a0))
  refine gd_c f0 ?_
  refine gd_c n_a0 ?_
  refine gd_b (gJ1_coder _ _ ⟨T.1, T.2⟩ n_a0 ) (fun K1 => ?_)
  exact ⟨rfl, ⟨K1.1.1, K1.1.2⟩, K1.2⟩
noncomputable def GJ1_length (a0 : Nat) (M : FM) : Int32 × FM := GJ1_length_0 a0 M
theorem gJ1_length (a0 : Nat) (M : FM) (T : Ty M) (n_a0 : fm_is M 7 7 a0 = true) : gd (FJ1_length a0 M) (GJ1_length a0 M) (OkR M) := gJ1_length_0 a0 M T n_a0 
noncomputable def GJ1_isLatin1_18 (s0 : Int32) (M : FM) : Int32 × FM :=
  (s0, M)
theorem gJ1_isLatin1_18 (s0 : Int32) (M : FM) (T : Ty M) (z_s0 : s0 = 0 ∨ s0 = 1) : gd (FJ1_isLatin1_18 s0 M) (GJ1_isLatin1_18 s0 M) (OkZ M) := by
  delta FJ1_isLatin1_18 BJ1_isLatin1_18
  exact gd_z z_s0 ⟨T.1, T.2⟩ (ext_r _) rfl
noncomputable def GJ1_isLatin1_17 (M : FM) : Int32 × FM :=
  GJ1_isLatin1_18 (Int32.ofInt 0) M
theorem gJ1_isLatin1_17 (M : FM) (T : Ty M) : gd (FJ1_isLatin1_17 M) (GJ1_isLatin1_17 M) (OkZ M) := by
  delta FJ1_isLatin1_17 BJ1_isLatin1_17
  exact gd_tZ (ext_r _) (gJ1_isLatin1_18 _ _ ⟨T.1, T.2⟩ fz_0 )
noncomputable def GJ1_isLatin1_0 (a0 : Nat) (M : FM) : Int32 × FM :=
  fi ((Int32.ofInt 1) = 0) (
    GJ1_isLatin1_17 M) (
    fi ((M.1 16 a0 0) = 0) (
      GJ1_isLatin1_18 (Int32.ofInt 1) M) (
      GJ1_isLatin1_17 M))
theorem gJ1_isLatin1_0 (a0 : Nat) (M : FM) (T : Ty M) (n_a0 : fm_is M 7 7 a0 = true) : gd (FJ1_isLatin1_0 a0 M) (GJ1_isLatin1_0 a0 M) (OkZ M) := by
  delta FJ1_isLatin1_0 BJ1_isLatin1_0
  refine gd_fi (fun c0_0 => ?_) (fun c0_0 => ?_)
  · exact gd_tZ (ext_r _) (gJ1_isLatin1_17  _ ⟨T.1, T.2⟩  )
  · refine gd_c n_a0 ?_
    refine gd_fi (fun c1_0 => ?_) (fun c1_0 => ?_)
    · exact gd_tZ (ext_r _) (gJ1_isLatin1_18 _ _ ⟨T.1, T.2⟩ fz_1 )
    · exact gd_tZ (ext_r _) (gJ1_isLatin1_17  _ ⟨T.1, T.2⟩  )
noncomputable def GJ1_isLatin1 (a0 : Nat) (M : FM) : Int32 × FM := GJ1_isLatin1_0 a0 M
theorem gJ1_isLatin1 (a0 : Nat) (M : FM) (T : Ty M) (n_a0 : fm_is M 7 7 a0 = true) : gd (FJ1_isLatin1 a0 M) (GJ1_isLatin1 a0 M) (OkZ M) := gJ1_isLatin1_0 a0 M T n_a0 
noncomputable def GJ3_checkIndex_9 (a0 : Int32) (a1 : Int32) (a2 : Nat) (M : FM) : Int32 × FM :=
  (0, M)
def HJ3_checkIndex_9 (a0 : Int32) (a1 : Int32) (a2 : Nat) (M : FM) : Prop := False
theorem gJ3_checkIndex_9 (a0 : Int32) (a1 : Int32) (a2 : Nat) (M : FM) (T : Ty M) (h : HJ3_checkIndex_9 a0 a1 a2 M) : gd (FJ3_checkIndex_9 a0 a1 a2 M) (GJ3_checkIndex_9 a0 a1 a2 M) (OkR M) := by
  delta FJ3_checkIndex_9 BJ3_checkIndex_9
  exact h_false h
noncomputable def GJ3_checkIndex_0 (a0 : Int32) (a1 : Int32) (a2 : Nat) (M : FM) : Int32 × FM :=
  fi (a0 < 0) (
    GJ3_checkIndex_9 a0 a1 a2 M) (
    fi (a0 < a1) (
      (a0, M)) (
      GJ3_checkIndex_9 a0 a1 a2 M))
def HJ3_checkIndex_0 (a0 : Int32) (a1 : Int32) (a2 : Nat) (M : FM) : Prop := ((a0 < 0 → HJ3_checkIndex_9 a0 a1 a2 M) ∧ (¬ (a0 < 0) → ((a0 < a1 → True) ∧ (¬ (a0 < a1) → HJ3_checkIndex_9 a0 a1 a2 M))))
theorem gJ3_checkIndex_0 (a0 : Int32) (a1 : Int32) (a2 : Nat) (M : FM) (T : Ty M) (h : HJ3_checkIndex_0 a0 a1 a2 M) : gd (FJ3_checkIndex_0 a0 a1 a2 M) (GJ3_checkIndex_0 a0 a1 a2 M) (OkR M) := by
  delta FJ3_checkIndex_0 BJ3_checkIndex_0
  refine gd_fi (fun c0_0 => ?_) (fun c0_0 => ?_)
  · exact gd_tR (ext_r _) (gJ3_checkIndex_9 _ _ _ _ ⟨T.1, T.2⟩  (h.1 c0_0))
  · refine gd_fi (fun c1_0 => ?_) (fun c1_0 => ?_)
    · exact ⟨rfl, ⟨T.1, T.2⟩, (ext_r _)⟩
    · exact gd_tR (ext_r _) (gJ3_checkIndex_9 _ _ _ _ ⟨T.1, T.2⟩  ((h.2 c0_0).2 c1_0))
noncomputable def GJ3_checkIndex (a0 : Int32) (a1 : Int32) (a2 : Nat) (M : FM) : Int32 × FM := GJ3_checkIndex_0 a0 a1 a2 M
def HJ3_checkIndex (a0 : Int32) (a1 : Int32) (a2 : Nat) (M : FM) : Prop := HJ3_checkIndex_0 a0 a1 a2 M
theorem gJ3_checkIndex (a0 : Int32) (a1 : Int32) (a2 : Nat) (M : FM) (T : Ty M) (h : HJ3_checkIndex a0 a1 a2 M) : gd (FJ3_checkIndex a0 a1 a2 M) (GJ3_checkIndex a0 a1 a2 M) (OkR M) := gJ3_checkIndex_0 a0 a1 a2 M T h
noncomputable def GJ1_checkIndex_0 (a0 : Int32) (a1 : Int32) (M : FM) : FM :=
  let r1 : Int32 × FM := GJ3_checkIndex a0 a1 60 M
  r1.2
def HJ1_checkIndex_0 (a0 : Int32) (a1 : Int32) (M : FM) : Prop := (HJ3_checkIndex a0 a1 60 M ∧ True)
theorem gJ1_checkIndex_0 (a0 : Int32) (a1 : Int32) (M : FM) (T : Ty M) (h : HJ1_checkIndex_0 a0 a1 M) : gd (FJ1_checkIndex_0 a0 a1 M) (GJ1_checkIndex_0 a0 a1 M) (OkV M) := by
  delta FJ1_checkIndex_0 BJ1_checkIndex_0
  refine gd_b (gJ3_checkIndex _ _ _ _ ⟨T.1, T.2⟩  h.1) (fun K0 => ?_)
  exact ⟨rfl, ⟨K0.1.1, K0.1.2⟩, K0.2⟩
noncomputable def GJ1_checkIndex (a0 : Int32) (a1 : Int32) (M : FM) : FM := GJ1_checkIndex_0 a0 a1 M
def HJ1_checkIndex (a0 : Int32) (a1 : Int32) (M : FM) : Prop := HJ1_checkIndex_0 a0 a1 M
theorem gJ1_checkIndex (a0 : Int32) (a1 : Int32) (M : FM) (T : Ty M) (h : HJ1_checkIndex a0 a1 M) : gd (FJ1_checkIndex a0 a1 M) (GJ1_checkIndex a0 a1 M) (OkV M) := gJ1_checkIndex_0 a0 a1 M T h
noncomputable def GJ2_charAt_0 (a0 : Nat) (a1 : Int32) (M : FM) : Int32 × FM :=
  let M1 : FM := GJ1_checkIndex a1 (Int32.ofNat (M.2.2 1 a0 0)) M
  ((((M1.1 3 a0 a1.toNatClampNeg) &&& (Int32.ofInt 255)).toUInt32 % 65536).toInt32, M1)
def HJ2_charAt_0 (a0 : Nat) (a1 : Int32) (M : FM) : Prop := (HJ1_checkIndex a1 (Int32.ofNat (M.2.2 1 a0 0)) M ∧ let M1 : FM := GJ1_checkIndex a1 (Int32.ofNat (M.2.2 1 a0 0)) M; (fm_in M1 a0 a1 = true ∧ True))
theorem gJ2_charAt_0 (a0 : Nat) (a1 : Int32) (M : FM) (T : Ty M) (n_a0 : fm_is M 905 905 a0 = true) (h : HJ2_charAt_0 a0 a1 M) : gd (FJ2_charAt_0 a0 a1 M) (GJ2_charAt_0 a0 a1 M) (OkR M) := by
  delta FJ2_charAt_0 BJ2_charAt_0
  have f0 := (fm_w (lo' := 901) (hi' := 990) rfl rfl n_a0)
  refine gd_c f0 ?_
  refine gd_b (gJ1_checkIndex _ _ _ ⟨T.1, T.2⟩  h.1) (fun K1 => ?_)
  have f2 := (ext_is K1.2 (Nat.zero_lt_succ _) n_a0)
  refine gd_c ⟨f2, h.2.1⟩ ?_
  exact ⟨rfl, ⟨K1.1.1, K1.1.2⟩, K1.2⟩
noncomputable def GJ2_charAt (a0 : Nat) (a1 : Int32) (M : FM) : Int32 × FM := GJ2_charAt_0 a0 a1 M
def HJ2_charAt (a0 : Nat) (a1 : Int32) (M : FM) : Prop := HJ2_charAt_0 a0 a1 M
theorem gJ2_charAt (a0 : Nat) (a1 : Int32) (M : FM) (T : Ty M) (n_a0 : fm_is M 905 905 a0 = true) (h : HJ2_charAt a0 a1 M) : gd (FJ2_charAt a0 a1 M) (GJ2_charAt a0 a1 M) (OkR M) := gJ2_charAt_0 a0 a1 M T n_a0 h
noncomputable def GJ1_charAt_0 (a0 : Nat) (a1 : Int32) (M : FM) : Int32 × FM :=
  let r1 : Int32 × FM := GJ1_isLatin1 a0 M
  fi (r1.1 = 0) (
    (0, r1.2)) (
    let r2 : Int32 × FM := GJ2_charAt (r1.2.2.2 15 a0 0) a1 r1.2
    (r2.1, r2.2))
def HJ1_charAt_0 (a0 : Nat) (a1 : Int32) (M : FM) : Prop := let r1 : Int32 × FM := GJ1_isLatin1 a0 M; ((r1.1 = 0 → False) ∧ (¬ (r1.1 = 0) → (HJ2_charAt (r1.2.2.2 15 a0 0) a1 r1.2 ∧ True)))
theorem gJ1_charAt_0 (a0 : Nat) (a1 : Int32) (M : FM) (T : Ty M) (n_a0 : fm_is M 7 7 a0 = true) (h : HJ1_charAt_0 a0 a1 M) : gd (FJ1_charAt_0 a0 a1 M) (GJ1_charAt_0 a0 a1 M) (OkR M) := by
  delta FJ1_charAt_0 BJ1_charAt_0
  refine gd_c n_a0 ?_
  refine gd_b (gJ1_isLatin1 _ _ ⟨T.1, T.2⟩ n_a0 ) (fun K0 => ?_)
  refine gd_fi (fun c1_0 => ?_) (fun c1_0 => ?_)
  · have f2 := (ext_is K0.2.1 (Nat.zero_lt_succ _) n_a0)
    refine gd_c f2 ?_
    exact h_false (h.1 c1_0)
  · have f3 := (ext_is K0.2.1 (Nat.zero_lt_succ _) n_a0)
    refine gd_c f3 ?_
    have f5 := (tN_15 K0.1.1 (ext_is K0.2.1 (Nat.zero_lt_succ _) n_a0))
    refine gd_b (gJ2_charAt _ _ _ ⟨K0.1.1, K0.1.2⟩ f5 (h.2 c1_0).1) (fun K4 => ?_)
    exact ⟨rfl, ⟨K4.1.1, K4.1.2⟩, (ext_tr K0.2.1 K4.2)⟩
noncomputable def GJ1_charAt (a0 : Nat) (a1 : Int32) (M : FM) : Int32 × FM := GJ1_charAt_0 a0 a1 M
def HJ1_charAt (a0 : Nat) (a1 : Int32) (M : FM) : Prop := HJ1_charAt_0 a0 a1 M
theorem gJ1_charAt (a0 : Nat) (a1 : Int32) (M : FM) (T : Ty M) (n_a0 : fm_is M 7 7 a0 = true) (h : HJ1_charAt a0 a1 M) : gd (FJ1_charAt a0 a1 M) (GJ1_charAt a0 a1 M) (OkR M) := gJ1_charAt_0 a0 a1 M T n_a0 h
noncomputable def GX3_add_0 (a0 : Nat) (a1 : Int32) (M : FM) : FM :=
  let x1 : Int32 := (M.1 262 a0 0)
  let M2 : FM := fm_sI M 262 a0 0 (x1 + (Int32.ofInt 1))
  let x3 : Nat := (M.2.2 261 a0 0)
  let M4 : FM := fm_sI M2 3 x3 x1.toNatClampNeg a1.toInt8.toInt32.toInt8.toInt32
  M4
def HX3_add_0 (a0 : Nat) (a1 : Int32) (M : FM) : Prop := let x1 : Int32 := (M.1 262 a0 0); let M2 : FM := fm_sI M 262 a0 0 (x1 + (Int32.ofInt 1)); let x3 : Nat := (M.2.2 261 a0 0); (fm_in M2 x3 x1 = true ∧ True)
theorem gX3_add_0 (a0 : Nat) (a1 : Int32) (M : FM) (T : Ty M) (n_a0 : fm_is M 86 86 a0 = true) (h : HX3_add_0 a0 a1 M) : gd (FX3_add_0 a0 a1 M) (GX3_add_0 a0 a1 M) (OkV M) := by
  delta FX3_add_0 BX3_add_0
  refine gd_c n_a0 ?_
  refine gd_c n_a0 ?_
  refine gd_c n_a0 ?_
  have f0 := (tN_261 T.1 n_a0)
  refine gd_c ⟨f0, h.1⟩ ?_
  exact ⟨rfl, ⟨T.1, (tyb_s3 (t := 903) rfl (tyb_sI (f := 262) rfl T.2) f0)⟩, (ext_dI (ext_dI (ext_r _)))⟩
noncomputable def GX3_add (a0 : Nat) (a1 : Int32) (M : FM) : FM := GX3_add_0 a0 a1 M
def HX3_add (a0 : Nat) (a1 : Int32) (M : FM) : Prop := HX3_add_0 a0 a1 M
theorem gX3_add (a0 : Nat) (a1 : Int32) (M : FM) (T : Ty M) (n_a0 : fm_is M 86 86 a0 = true) (h : HX3_add a0 a1 M) : gd (FX3_add a0 a1 M) (GX3_add a0 a1 M) (OkV M) := gX3_add_0 a0 a1 M T n_a0 h
def kX4_text (k2 : Nat → Nat → Int32 → FM → Option (FM)) : (Nat × Nat × Int32 × FM) ⊕ (FM) → Option (FM)
  | .inl (v0, v1, v2, M') => k2 v0 v1 v2 M'
  | .inr (r) => some r
def pX4_text (M : FM) : (Nat × Nat × Int32 × FM) ⊕ (FM) → Prop
  | .inl (_, _, _, M') => OkV M M'
  | .inr (r) => OkV M r
theorem pX4_text_t {M M1 : FM} (e : Ext M M1) : ∀ y, pX4_text M1 y → pX4_text M y
  | .inl (_, _, _, _), h => ⟨h.1, ext_tr e h.2⟩
  | .inr (r), h => ⟨h.1, ext_tr e h.2⟩
noncomputable def GX4_text_0 (a0 : Nat) (a1 : Nat) (M : FM) : (Nat × Nat × Int32 × FM) ⊕ (FM) :=
  (.inl (a0, a1, (Int32.ofInt 0), M))
theorem gX4_text_0 (k2 : Nat → Nat → Int32 → FM → Option (FM)) (a0 : Nat) (a1 : Nat) (M : FM) (T : Ty M) : gs (FX4_text_0 fN k2 a0 a1 M) (GX4_text_0 a0 a1 M) (kX4_text k2) (pX4_text M) := by
  delta FX4_text_0 BX4_text_0
  exact And.intro rfl (And.intro (And.intro T.1 T.2) ((ext_r _)))
noncomputable def GX4_text_2 (a0 : Nat) (a1 : Nat) (a2 : Int32) (M : FM) : (Nat × Nat × Int32 × FM) ⊕ (FM) :=
  let r1 : Int32 × FM := GJ1_length a1 M
  fi (r1.1 ≤ a2) (
    (.inr r1.2)) (
    let r2 : Int32 × FM := GJ1_charAt a1 a2 r1.2
    let x3 : Nat := (r1.2.2.2 55 a0 0)
    let M4 : FM := GX3_add x3 r2.1 r2.2
    let x5 : Int32 := a2 + (Int32.ofInt 1)
    (.inl (a0, a1, x5, M4)))
def HX4_text_2 (a0 : Nat) (a1 : Nat) (a2 : Int32) (M : FM) : Prop := let r1 : Int32 × FM := GJ1_length a1 M; ((r1.1 ≤ a2 → True) ∧ (¬ (r1.1 ≤ a2) → (HJ1_charAt a1 a2 r1.2 ∧ let r2 : Int32 × FM := GJ1_charAt a1 a2 r1.2; let x3 : Nat := (r1.2.2.2 55 a0 0); (HX3_add x3 r2.1 r2.2 ∧ True))))
theorem gX4_text_2 (k2 : Nat → Nat → Int32 → FM → Option (FM)) (a0 : Nat) (a1 : Nat) (a2 : Int32) (M : FM) (T : Ty M) (n_a1 : fm_is M 7 7 a1 = true) (n_a0 : fm_is M 21 21 a0 = true) (h : HX4_text_2 a0 a1 a2 M) : gs (FX4_text_2 fN k2 a0 a1 a2 M) (GX4_text_2 a0 a1 a2 M) (kX4_text k2) (pX4_text M) := by
  delta FX4_text_2 BX4_text_2
  refine gs_c n_a1 ?_
  refine gs_b (gJ1_length _ _ ⟨T.1, T.2⟩ n_a1 ) (fun K0 => ?_)
  refine gs_fi (fun c1_0 => ?_) (fun c1_0 => ?_)
  · exact And.intro rfl (And.intro (And.intro K0.1.1 K0.1.2) K0.2)
  · have f2 := (ext_is K0.2 (Nat.zero_lt_succ _) n_a0)
    refine gs_c f2 ?_
    have f3 := (ext_is K0.2 (Nat.zero_lt_succ _) n_a1)
    refine gs_c f3 ?_
    have f8 := (ext_is K0.2 (Nat.zero_lt_succ _) n_a1)
    refine gs_b (gJ1_charAt _ _ _ ⟨K0.1.1, K0.1.2⟩ f8 (h.2 c1_0).1) (fun K4 => ?_)
    have f5 := (ext_is K4.2 (Nat.zero_lt_succ _) (tN_55 K0.1.1 (ext_is K0.2 (Nat.zero_lt_succ _) n_a0)))
    refine gs_c f5 ?_
    have f7 := (ext_is K4.2 (Nat.zero_lt_succ _) (tN_55 K0.1.1 (ext_is K0.2 (Nat.zero_lt_succ _) n_a0)))
    refine gs_b (gX3_add _ _ _ ⟨K4.1.1, K4.1.2⟩ f7 (h.2 c1_0).2.1) (fun K6 => ?_)
    exact And.intro rfl (And.intro (And.intro K6.1.1 K6.1.2) ((ext_tr K0.2 (ext_tr K4.2 K6.2))))
noncomputable def GX4_text (a0 : Nat) (a1 : Nat) (M : FM) : FM := (FX4_text fN a0 a1 M).getD M
def HX4_text (a0 : Nat) (a1 : Nat) (M : FM) : Prop := ∃ r, FX4_text fN a0 a1 M = some r ∧ OkV M r
theorem gX4_text (a0 : Nat) (a1 : Nat) (M : FM) (h : HX4_text a0 a1 M) : gd (FX4_text fN a0 a1 M) (GX4_text a0 a1 M) (OkV M) := gd_op h
noncomputable def GX4_begin_0 (a0 : Nat) (a1 : Nat) (M : FM) : FM :=
  let x1 : Nat := (M.2.2 55 a0 0)
  let M2 : FM := fm_sI M 262 x1 0 (Int32.ofInt 0)
  let M3 : FM := GX4_text a0 a1 M2
  M3
def HX4_begin_0 (a0 : Nat) (a1 : Nat) (M : FM) : Prop := let x1 : Nat := (M.2.2 55 a0 0); let M2 : FM := fm_sI M 262 x1 0 (Int32.ofInt 0); (HX4_text a0 a1 M2 ∧ True)
theorem gX4_begin_0 (a0 : Nat) (a1 : Nat) (M : FM) (T : Ty M) (n_a0 : fm_is M 21 21 a0 = true) (h : HX4_begin_0 a0 a1 M) : gd (FX4_begin_0 fN a0 a1 M) (GX4_begin_0 a0 a1 M) (OkV M) := by
  delta FX4_begin_0 BX4_begin_0
  refine gd_c n_a0 ?_
  have f0 := (tN_55 T.1 n_a0)
  refine gd_c f0 ?_
  refine gd_c n_a0 ?_
  refine gd_b (gX4_text _ _ _ h.1) (fun K1 => ?_)
  exact ⟨rfl, ⟨K1.1.1, K1.1.2⟩, (ext_dI K1.2)⟩
noncomputable def GX4_begin (a0 : Nat) (a1 : Nat) (M : FM) : FM := GX4_begin_0 a0 a1 M
def HX4_begin (a0 : Nat) (a1 : Nat) (M : FM) : Prop := HX4_begin_0 a0 a1 M
theorem gX4_begin (a0 : Nat) (a1 : Nat) (M : FM) (T : Ty M) (n_a0 : fm_is M 21 21 a0 = true) (h : HX4_begin a0 a1 M) : gd (FX4_begin fN a0 a1 M) (GX4_begin a0 a1 M) (OkV M) := gX4_begin_0 a0 a1 M T n_a0 h
def kX3_addNumber (k3 : Nat → Int32 → Int32 → FM → Option (FM)) : (Nat × Int32 × Int32 × FM) ⊕ (FM) → Option (FM)
  | .inl (v0, v1, v2, M') => k3 v0 v1 v2 M'
  | .inr (r) => some r
def pX3_addNumber (M : FM) : (Nat × Int32 × Int32 × FM) ⊕ (FM) → Prop
  | .inl (_, _, _, M') => OkV M M'
  | .inr (r) => OkV M r
theorem pX3_addNumber_t {M M1 : FM} (e : Ext M M1) : ∀ y, pX3_addNumber M1 y → pX3_addNumber M y
  | .inl (_, _, _, _), h => ⟨h.1, ext_tr e h.2⟩
  | .inr (r), h => ⟨h.1, ext_tr e h.2⟩
noncomputable def GX3_addNumber_0 (a0 : Nat) (a1 : Int32) (M : FM) : (Nat × Int32 × Int32 × FM) ⊕ (FM) :=
  (.inl (a0, a1, (Int32.ofInt 24), M))
theorem gX3_addNumber_0 (k3 : Nat → Int32 → Int32 → FM → Option (FM)) (a0 : Nat) (a1 : Int32) (M : FM) (T : Ty M) : gs (FX3_addNumber_0 fN k3 a0 a1 M) (GX3_addNumber_0 a0 a1 M) (kX3_addNumber k3) (pX3_addNumber M) := by
  delta FX3_addNumber_0 BX3_addNumber_0
  exact And.intro rfl (And.intro (And.intro T.1 T.2) ((ext_r _)))
noncomputable def GX3_addNumber_3 (a0 : Nat) (a1 : Int32) (a2 : Int32) (M : FM) : (Nat × Int32 × Int32 × FM) ⊕ (FM) :=
  fi (a2 < 0) (
    (.inr M)) (
    let M1 : FM := GX3_add a0 (a1 >>> (a2 &&& 31)) M
    let x2 : Int32 := a2 + (Int32.ofInt (-8))
    (.inl (a0, a1, x2, M1)))
def HX3_addNumber_3 (a0 : Nat) (a1 : Int32) (a2 : Int32) (M : FM) : Prop := ((a2 < 0 → True) ∧ (¬ (a2 < 0) → (HX3_add a0 (a1 >>> (a2 &&& 31)) M ∧ True)))
theorem gX3_addNumber_3 (k3 : Nat → Int32 → Int32 → FM → Option (FM)) (a0 : Nat) (a1 : Int32) (a2 : Int32) (M : FM) (T : Ty M) (n_a0 : fm_is M 86 86 a0 = true) (h : HX3_addNumber_3 a0 a1 a2 M) : gs (FX3_addNumber_3 fN k3 a0 a1 a2 M) (GX3_addNumber_3 a0 a1 a2 M) (kX3_addNumber k3) (pX3_addNumber M) := by
  delta FX3_addNumber_3 BX3_addNumber_3
  refine gs_fi (fun c0_0 => ?_) (fun c0_0 => ?_)
  · exact And.intro rfl (And.intro (And.intro T.1 T.2) ((ext_r _)))
  · refine gs_c n_a0 ?_
    refine gs_b (gX3_add _ _ _ ⟨T.1, T.2⟩ n_a0 (h.2 c0_0).1) (fun K1 => ?_)
    exact And.intro rfl (And.intro (And.intro K1.1.1 K1.1.2) K1.2)
noncomputable def GX3_addNumber (a0 : Nat) (a1 : Int32) (M : FM) : FM := (FX3_addNumber fN a0 a1 M).getD M
def HX3_addNumber (a0 : Nat) (a1 : Int32) (M : FM) : Prop := ∃ r, FX3_addNumber fN a0 a1 M = some r ∧ OkV M r
theorem gX3_addNumber (a0 : Nat) (a1 : Int32) (M : FM) (h : HX3_addNumber a0 a1 M) : gd (FX3_addNumber fN a0 a1 M) (GX3_addNumber a0 a1 M) (OkV M) := gd_op h
noncomputable def Gh_copy (a0 : Nat) (a1 : Int32) (a2 : Nat) (a3 : Int32) (a4 : Int32) (M : FM) : FM := (Fh_copy a0 a1 a2 a3 a4 M).getD M
def Hh_copy (a0 : Nat) (a1 : Int32) (a2 : Nat) (a3 : Int32) (a4 : Int32) (M : FM) : Prop := ∃ r, Fh_copy a0 a1 a2 a3 a4 M = some r ∧ OkV M r
theorem gh_copy (a0 : Nat) (a1 : Int32) (a2 : Nat) (a3 : Int32) (a4 : Int32) (M : FM) (h : Hh_copy a0 a1 a2 a3 a4 M) : gd (Fh_copy a0 a1 a2 a3 a4 M) (Gh_copy a0 a1 a2 a3 a4 M) (OkV M) := gd_op h
noncomputable def GX3_addAll_0 (a0 : Nat) (a1 : Nat) (a2 : Int32) (a3 : Int32) (M : FM) : FM :=
  let M1 : FM := Gh_copy (M.2.2 261 a1 0) a2 (M.2.2 261 a0 0) (M.1 262 a0 0) a3 M
  let M2 : FM := fm_sI M1 262 a0 0 ((M1.1 262 a0 0) + a3)
  M2
def HX3_addAll_0 (a0 : Nat) (a1 : Nat) (a2 : Int32) (a3 : Int32) (M : FM) : Prop := (Hh_copy (M.2.2 261 a1 0) a2 (M.2.2 261 a0 0) (M.1 262 a0 0) a3 M ∧ True)
theorem gX3_addAll_0 (a0 : Nat) (a1 : Nat) (a2 : Int32) (a3 : Int32) (M : FM) (T : Ty M) (n_a1 : fm_is M 86 86 a1 = true) (n_a0 : fm_is M 86 86 a0 = true) (h : HX3_addAll_0 a0 a1 a2 a3 M) : gd (FX3_addAll_0 a0 a1 a2 a3 M) (GX3_addAll_0 a0 a1 a2 a3 M) (OkV M) := by
  delta FX3_addAll_0 BX3_addAll_0
  refine gd_c n_a1 ?_
  refine gd_c n_a0 ?_
  refine gd_c n_a0 ?_
  refine gd_b (gh_copy _ _ _ _ _ _ h.1) (fun K0 => ?_)
  have f1 := (ext_is K0.2 (Nat.zero_lt_succ _) n_a0)
  refine gd_c f1 ?_
  have f2 := (ext_is K0.2 (Nat.zero_lt_succ _) n_a0)
  refine gd_c f2 ?_
  exact ⟨rfl, ⟨K0.1.1, (tyb_sI (f := 262) rfl K0.1.2)⟩, (ext_tr K0.2 (ext_dI (ext_r _)))⟩
noncomputable def GX3_addAll (a0 : Nat) (a1 : Nat) (a2 : Int32) (a3 : Int32) (M : FM) : FM := GX3_addAll_0 a0 a1 a2 a3 M
def HX3_addAll (a0 : Nat) (a1 : Nat) (a2 : Int32) (a3 : Int32) (M : FM) : Prop := HX3_addAll_0 a0 a1 a2 a3 M
theorem gX3_addAll (a0 : Nat) (a1 : Nat) (a2 : Int32) (a3 : Int32) (M : FM) (T : Ty M) (n_a1 : fm_is M 86 86 a1 = true) (n_a0 : fm_is M 86 86 a0 = true) (h : HX3_addAll a0 a1 a2 a3 M) : gd (FX3_addAll a0 a1 a2 a3 M) (GX3_addAll a0 a1 a2 a3 M) (OkV M) := gX3_addAll_0 a0 a1 a2 a3 M T n_a1 n_a0 h
noncomputable def GX7_set_0 (a0 : Nat) (a1 : Nat) (a2 : Nat) (a3 : Int32) (a4 : Int32) (M : FM) : FM :=
  let M1 : FM := fm_sI M 254 a0 0 (M.1 262 a1 0)
  let M2 : FM := fm_sI M1 255 a0 0 a4
  let M3 : FM := GX3_addAll a1 a2 a3 a4 M2
  M3
def HX7_set_0 (a0 : Nat) (a1 : Nat) (a2 : Nat) (a3 : Int32) (a4 : Int32) (M : FM) : Prop := let M1 : FM := fm_sI M 254 a0 0 (M.1 262 a1 0); let M2 : FM := fm_sI M1 255 a0 0 a4; (HX3_addAll a1 a2 a3 a4 M2 ∧ True)
theorem gX7_set_0 (a0 : Nat) (a1 : Nat) (a2 : Nat) (a3 : Int32) (a4 : Int32) (M : FM) (T : Ty M) (n_a1 : fm_is M 86 86 a1 = true) (n_a0 : fm_is M 83 83 a0 = true) (n_a2 : fm_is M 86 86 a2 = true) (h : HX7_set_0 a0 a1 a2 a3 a4 M) : gd (FX7_set_0 a0 a1 a2 a3 a4 M) (GX7_set_0 a0 a1 a2 a3 a4 M) (OkV M) := by
  delta FX7_set_0 BX7_set_0
  refine gd_c n_a1 ?_
  refine gd_c n_a0 ?_
  refine gd_c n_a0 ?_
  refine gd_c n_a1 ?_
  refine gd_b (gX3_addAll _ _ _ _ _ ⟨T.1, (tyb_sI (f := 255) rfl (tyb_sI (f := 254) rfl T.2))⟩ n_a2 n_a1 h.1) (fun K0 => ?_)
  exact ⟨rfl, ⟨K0.1.1, K0.1.2⟩, (ext_dI (ext_dI K0.2))⟩
noncomputable def GX7_set (a0 : Nat) (a1 : Nat) (a2 : Nat) (a3 : Int32) (a4 : Int32) (M : FM) : FM := GX7_set_0 a0 a1 a2 a3 a4 M
def HX7_set (a0 : Nat) (a1 : Nat) (a2 : Nat) (a3 : Int32) (a4 : Int32) (M : FM) : Prop := HX7_set_0 a0 a1 a2 a3 a4 M
theorem gX7_set (a0 : Nat) (a1 : Nat) (a2 : Nat) (a3 : Int32) (a4 : Int32) (M : FM) (T : Ty M) (n_a1 : fm_is M 86 86 a1 = true) (n_a0 : fm_is M 83 83 a0 = true) (n_a2 : fm_is M 86 86 a2 = true) (h : HX7_set a0 a1 a2 a3 a4 M) : gd (FX7_set a0 a1 a2 a3 a4 M) (GX7_set a0 a1 a2 a3 a4 M) (OkV M) := gX7_set_0 a0 a1 a2 a3 a4 M T n_a1 n_a0 n_a2 h
noncomputable def GX5_property_0 (a0 : Nat) (a1 : Nat) (a2 : Int32) (a3 : Int32) (M : FM) : Nat × FM :=
  let x1 : Int32 := (M.1 267 a0 0)
  let M2 : FM := fm_sI M 267 a0 0 (x1 + (Int32.ofInt 1))
  let x3 : Nat := (M.2.2 265 a0 0)
  let x4 : Nat := (M2.2.2 3 x3 x1.toNatClampNeg)
  let M5 : FM := fm_sI M2 260 x4 0 (M2.1 268 a0 0)
  let x6 : Nat := (M5.2.2 258 x4 0)
  let M7 : FM := GX7_set x6 (M5.2.2 263 a0 0) a1 a2 a3 M5
  let x8 : Int32 := (M7.1 268 a0 0)
  let x9 : Nat := (M7.2.2 264 a0 0)
  let x10 : Nat := (M7.2.2 3 x9 x8.toNatClampNeg)
  let M11 : FM := fm_sI M7 252 x10 0 ((M7.1 252 x10 0) + (Int32.ofInt 1))
  (x4, M11)
def HX5_property_0 (a0 : Nat) (a1 : Nat) (a2 : Int32) (a3 : Int32) (M : FM) : Prop := let x1 : Int32 := (M.1 267 a0 0); let M2 : FM := fm_sI M 267 a0 0 (x1 + (Int32.ofInt 1)); let x3 : Nat := (M.2.2 265 a0 0); (fm_in M2 x3 x1 = true ∧ let x4 : Nat := (M2.2.2 3 x3 x1.toNatClampNeg); let M5 : FM := fm_sI M2 260 x4 0 (M2.1 268 a0 0); let x6 : Nat := (M5.2.2 258 x4 0); (HX7_set x6 (M5.2.2 263 a0 0) a1 a2 a3 M5 ∧ let M7 : FM := GX7_set x6 (M5.2.2 263 a0 0) a1 a2 a3 M5; let x8 : Int32 := (M7.1 268 a0 0); let x9 : Nat := (M7.2.2 264 a0 0); (fm_in M7 x9 x8 = true ∧ True)))
theorem gX5_property_0 (a0 : Nat) (a1 : Nat) (a2 : Int32) (a3 : Int32) (M : FM) (T : Ty M) (n_a0 : fm_is M 87 87 a0 = true) (n_a1 : fm_is M 86 86 a1 = true) (h : HX5_property_0 a0 a1 a2 a3 M) : gd (FX5_property_0 a0 a1 a2 a3 M) (GX5_property_0 a0 a1 a2 a3 M) (OkN 85 85 M) := by
  delta FX5_property_0 BX5_property_0
  refine gd_c n_a0 ?_
  refine gd_c n_a0 ?_
  refine gd_c n_a0 ?_
  have f12 := (fm_w (lo' := 910) (hi' := 990) rfl rfl (tN_265 T.1 n_a0))
  refine gd_c ⟨f12, h.1⟩ ?_
  refine gd_c n_a0 ?_
  have f0 := (tE_925 T.1 (tN_265 T.1 n_a0) h.1)
  refine gd_c f0 ?_
  have f1 := (tE_925 T.1 (tN_265 T.1 n_a0) h.1)
  refine gd_c f1 ?_
  refine gd_c n_a0 ?_
  have f2 := (tN_258 T.1 (tE_925 T.1 (tN_265 T.1 n_a0) h.1))
  refine gd_c f2 ?_
  have f10 := (tN_263 T.1 n_a0)
  have f11 := (tN_258 T.1 (tE_925 T.1 (tN_265 T.1 n_a0) h.1))
  refine gd_b (gX7_set _ _ _ _ _ _ ⟨T.1, (tyb_sI (f := 260) rfl (tyb_sI (f := 267) rfl T.2))⟩ f10 f11 n_a1 h.2.1) (fun K3 => ?_)
  have f4 := (ext_is K3.2 (Nat.zero_lt_succ _) n_a0)
  refine gd_c f4 ?_
  have f5 := (ext_is K3.2 (Nat.zero_lt_succ _) n_a0)
  refine gd_c f5 ?_
  have f9 := (fm_w (lo' := 910) (hi' := 990) rfl rfl (tN_264 K3.1.1 (ext_is K3.2 (Nat.zero_lt_succ _) n_a0)))
  refine gd_c ⟨f9, h.2.2.1⟩ ?_
  have f6 := (tE_924 K3.1.1 (tN_264 K3.1.1 (ext_is K3.2 (Nat.zero_lt_succ _) n_a0)) h.2.2.1)
  refine gd_c f6 ?_
  have f7 := (tE_924 K3.1.1 (tN_264 K3.1.1 (ext_is K3.2 (Nat.zero_lt_succ _) n_a0)) h.2.2.1)
  refine gd_c f7 ?_
  have f8 := (ext_is K3.2 (Nat.zero_lt_succ _) (tE_925 T.1 (tN_265 T.1 n_a0) h.1))
  exact ⟨rfl, ⟨K3.1.1, (tyb_sI (f := 252) rfl K3.1.2)⟩, (ext_dI (ext_dI (ext_tr K3.2 (ext_dI (ext_r _))))), f8⟩
noncomputable def GX5_property (a0 : Nat) (a1 : Nat) (a2 : Int32) (a3 : Int32) (M : FM) : Nat × FM := GX5_property_0 a0 a1 a2 a3 M
def HX5_property (a0 : Nat) (a1 : Nat) (a2 : Int32) (a3 : Int32) (M : FM) : Prop := HX5_property_0 a0 a1 a2 a3 M
theorem gX5_property (a0 : Nat) (a1 : Nat) (a2 : Int32) (a3 : Int32) (M : FM) (T : Ty M) (n_a0 : fm_is M 87 87 a0 = true) (n_a1 : fm_is M 86 86 a1 = true) (h : HX5_property a0 a1 a2 a3 M) : gd (FX5_property a0 a1 a2 a3 M) (GX5_property a0 a1 a2 a3 M) (OkN 85 85 M) := gX5_property_0 a0 a1 a2 a3 M T n_a0 n_a1 h
noncomputable def GX4_finish_0 (a0 : Nat) (a1 : Nat) (M : FM) : FM :=
  let r1 : Int32 × FM := GJ1_length a1 M
  let x2 : Nat := (r1.2.2.2 56 a0 0)
  let r3 : Nat × FM := GX5_property x2 (r1.2.2.2 55 a0 0) (Int32.ofInt 0) r1.1 r1.2
  let x4 : Nat := (r3.2.2.2 56 a0 0)
  let x5 : Nat := (r3.2.2.2 55 a0 0)
  let x6 : Nat := (r3.2.2.2 259 r3.1 0)
  let M7 : FM := GX7_set x6 (r3.2.2.2 263 x4 0) (r3.2.2.2 55 a0 0) r1.1 ((r3.2.1 262 x5 0) - r1.1) r3.2
  M7
def HX4_finish_0 (a0 : Nat) (a1 : Nat) (M : FM) : Prop := let r1 : Int32 × FM := GJ1_length a1 M; let x2 : Nat := (r1.2.2.2 56 a0 0); (HX5_property x2 (r1.2.2.2 55 a0 0) (Int32.ofInt 0) r1.1 r1.2 ∧ let r3 : Nat × FM := GX5_property x2 (r1.2.2.2 55 a0 0) (Int32.ofInt 0) r1.1 r1.2; let x4 : Nat := (r3.2.2.2 56 a0 0); let x5 : Nat := (r3.2.2.2 55 a0 0); let x6 : Nat := (r3.2.2.2 259 r3.1 0); (HX7_set x6 (r3.2.2.2 263 x4 0) (r3.2.2.2 55 a0 0) r1.1 ((r3.2.1 262 x5 0) - r1.1) r3.2 ∧ True))
theorem gX4_finish_0 (a0 : Nat) (a1 : Nat) (M : FM) (T : Ty M) (n_a1 : fm_is M 7 7 a1 = true) (n_a0 : fm_is M 21 21 a0 = true) (h : HX4_finish_0 a0 a1 M) : gd (FX4_finish_0 a0 a1 M) (GX4_finish_0 a0 a1 M) (OkV M) := by
  delta FX4_finish_0 BX4_finish_0
  refine gd_c n_a1 ?_
  refine gd_b (gJ1_length _ _ ⟨T.1, T.2⟩ n_a1 ) (fun K0 => ?_)
  have f1 := (ext_is K0.2 (Nat.zero_lt_succ _) n_a0)
  refine gd_c f1 ?_
  have f2 := (ext_is K0.2 (Nat.zero_lt_succ _) n_a0)
  refine gd_c f2 ?_
  have f3 := (tN_56 K0.1.1 (ext_is K0.2 (Nat.zero_lt_succ _) n_a0))
  refine gd_c f3 ?_
  have f15 := (tN_56 K0.1.1 (ext_is K0.2 (Nat.zero_lt_succ _) n_a0))
  have f16 := (tN_55 K0.1.1 (ext_is K0.2 (Nat.zero_lt_succ _) n_a0))
  refine gd_b (gX5_property _ _ _ _ _ ⟨K0.1.1, K0.1.2⟩ f15 f16 h.1) (fun K4 => ?_)
  refine gd_c K4.2.2 ?_
  have f5 := (ext_is K4.2.1 (Nat.zero_lt_succ _) (ext_is K0.2 (Nat.zero_lt_succ _) n_a0))
  refine gd_c f5 ?_
  have f6 := (tN_56 K4.1.1 (ext_is K4.2.1 (Nat.zero_lt_succ _) (ext_is K0.2 (Nat.zero_lt_succ _) n_a0)))
  refine gd_c f6 ?_
  have f7 := (ext_is K4.2.1 (Nat.zero_lt_succ _) (ext_is K0.2 (Nat.zero_lt_succ _) n_a0))
  refine gd_c f7 ?_
  have f8 := (ext_is K4.2.1 (Nat.zero_lt_succ _) (ext_is K0.2 (Nat.zero_lt_succ _) n_a0))
  refine gd_c f8 ?_
  have f9 := (tN_55 K4.1.1 (ext_is K4.2.1 (Nat.zero_lt_succ _) (ext_is K0.2 (Nat.zero_lt_succ _) n_a0)))
  refine gd_c f9 ?_
  have f10 := (tN_259 K4.1.1 K4.2.2)
  refine gd_c f10 ?_
  have f12 := (tN_263 K4.1.1 (tN_56 K4.1.1 (ext_is K4.2.1 (Nat.zero_lt_succ _) (ext_is K0.2 (Nat.zero_lt_succ _) n_a0))))
  have f13 := (tN_259 K4.1.1 K4.2.2)
  have f14 := (tN_55 K4.1.1 (ext_is K4.2.1 (Nat.zero_lt_succ _) (ext_is K0.2 (Nat.zero_lt_succ _) n_a0)))
  refine gd_b (gX7_set _ _ _ _ _ _ ⟨K4.1.1, K4.1.2⟩ f12 f13 f14 h.2.1) (fun K11 => ?_)
  exact ⟨rfl, ⟨K11.1.1, K11.1.2⟩, (ext_tr K0.2 (ext_tr K4.2.1 K11.2))⟩
noncomputable def GX4_finish (a0 : Nat) (a1 : Nat) (M : FM) : FM := GX4_finish_0 a0 a1 M
def HX4_finish (a0 : Nat) (a1 : Nat) (M : FM) : Prop := HX4_finish_0 a0 a1 M
theorem gX4_finish (a0 : Nat) (a1 : Nat) (M : FM) (T : Ty M) (n_a1 : fm_is M 7 7 a1 = true) (n_a0 : fm_is M 21 21 a0 = true) (h : HX4_finish a0 a1 M) : gd (FX4_finish a0 a1 M) (GX4_finish a0 a1 M) (OkV M) := gX4_finish_0 a0 a1 M T n_a1 n_a0 h
noncomputable def GX4_number_0 (a0 : Nat) (a1 : Nat) (a2 : Int32) (M : FM) : FM :=
  let M1 : FM := GX4_begin a0 a1 M
  let x2 : Nat := (M1.2.2 55 a0 0)
  let M3 : FM := GX3_addNumber x2 a2 M1
  let M4 : FM := GX4_finish a0 a1 M3
  M4
def HX4_number_0 (a0 : Nat) (a1 : Nat) (a2 : Int32) (M : FM) : Prop := (HX4_begin a0 a1 M ∧ let M1 : FM := GX4_begin a0 a1 M; let x2 : Nat := (M1.2.2 55 a0 0); (HX3_addNumber x2 a2 M1 ∧ let M3 : FM := GX3_addNumber x2 a2 M1; (HX4_finish a0 a1 M3 ∧ True)))
theorem gX4_number_0 (a0 : Nat) (a1 : Nat) (a2 : Int32) (M : FM) (T : Ty M) (n_a0 : fm_is M 21 21 a0 = true) (n_a1 : fm_is M 7 7 a1 = true) (h : HX4_number_0 a0 a1 a2 M) : gd (FX4_number_0 fN a0 a1 a2 M) (GX4_number_0 a0 a1 a2 M) (OkV M) := by
  delta FX4_number_0 BX4_number_0
  refine gd_c n_a0 ?_
  refine gd_b (gX4_begin _ _ _ ⟨T.1, T.2⟩ n_a0 h.1) (fun K0 => ?_)
  have f1 := (ext_is K0.2 (Nat.zero_lt_succ _) n_a0)
  refine gd_c f1 ?_
  have f2 := (tN_55 K0.1.1 (ext_is K0.2 (Nat.zero_lt_succ _) n_a0))
  refine gd_c f2 ?_
  refine gd_b (gX3_addNumber _ _ _ h.2.1) (fun K3 => ?_)
  have f4 := (ext_is K3.2 (Nat.zero_lt_succ _) (ext_is K0.2 (Nat.zero_lt_succ _) n_a0))
  refine gd_c f4 ?_
  have f6 := (ext_is K3.2 (Nat.zero_lt_succ _) (ext_is K0.2 (Nat.zero_lt_succ _) n_a1))
  have f7 := (ext_is K3.2 (Nat.zero_lt_succ _) (ext_is K0.2 (Nat.zero_lt_succ _) n_a0))
  refine gd_b (gX4_finish _ _ _ ⟨K3.1.1, K3.1.2⟩ f6 f7 h.2.2.1) (fun K5 => ?_)
  exact ⟨rfl, ⟨K5.1.1, K5.1.2⟩, (ext_tr K0.2 (ext_tr K3.2 K5.2))⟩
noncomputable def GX4_number (a0 : Nat) (a1 : Nat) (a2 : Int32) (M : FM) : FM := GX4_number_0 a0 a1 a2 M
def HX4_number (a0 : Nat) (a1 : Nat) (a2 : Int32) (M : FM) : Prop := HX4_number_0 a0 a1 a2 M
theorem gX4_number (a0 : Nat) (a1 : Nat) (a2 : Int32) (M : FM) (T : Ty M) (n_a0 : fm_is M 21 21 a0 = true) (n_a1 : fm_is M 7 7 a1 = true) (h : HX4_number a0 a1 a2 M) : gd (FX4_number fN a0 a1 a2 M) (GX4_number a0 a1 a2 M) (OkV M) := gX4_number_0 a0 a1 a2 M T n_a0 n_a1 h
noncomputable def GX4_cells_0 (a0 : Nat) (a1 : Int32) (a2 : Int32) (M : FM) : FM :=
  let M1 : FM := GX4_number a0 101 a1 M
  let M2 : FM := GX4_number a0 103 a2 M1
  M2
def HX4_cells_0 (a0 : Nat) (a1 : Int32) (a2 : Int32) (M : FM) : Prop := (fm_is M 7 7 101 = true ∧ HX4_number a0 101 a1 M ∧ let M1 : FM := GX4_number a0 101 a1 M; (fm_is M1 7 7 103 = true ∧ HX4_number a0 103 a2 M1 ∧ True))
theorem gX4_cells_0 (a0 : Nat) (a1 : Int32) (a2 : Int32) (M : FM) (T : Ty M) (n_a0 : fm_is M 21 21 a0 = true) (h : HX4_cells_0 a0 a1 a2 M) : gd (FX4_cells_0 fN a0 a1 a2 M) (GX4_cells_0 a0 a1 a2 M) (OkV M) := by
  delta FX4_cells_0 BX4_cells_0
  refine gd_c n_a0 ?_
  refine gd_b (gX4_number _ _ _ _ ⟨T.1, T.2⟩ n_a0 h.1 h.2.1) (fun K0 => ?_)
  have f1 := (ext_is K0.2 (Nat.zero_lt_succ _) n_a0)
  refine gd_c f1 ?_
  have f3 := (ext_is K0.2 (Nat.zero_lt_succ _) n_a0)
  refine gd_b (gX4_number _ _ _ _ ⟨K0.1.1, K0.1.2⟩ f3 h.2.2.1 h.2.2.2.1) (fun K2 => ?_)
  exact ⟨rfl, ⟨K2.1.1, K2.1.2⟩, (ext_tr K0.2 K2.2)⟩
noncomputable def GX4_cells (a0 : Nat) (a1 : Int32) (a2 : Int32) (M : FM) : FM := GX4_cells_0 a0 a1 a2 M
def HX4_cells (a0 : Nat) (a1 : Int32) (a2 : Int32) (M : FM) : Prop := HX4_cells_0 a0 a1 a2 M
theorem gX4_cells (a0 : Nat) (a1 : Int32) (a2 : Int32) (M : FM) (T : Ty M) (n_a0 : fm_is M 21 21 a0 = true) (h : HX4_cells a0 a1 a2 M) : gd (FX4_cells fN a0 a1 a2 M) (GX4_cells a0 a1 a2 M) (OkV M) := gX4_cells_0 a0 a1 a2 M T n_a0 h
noncomputable def GX4_string_0 (a0 : Nat) (a1 : Nat) (a2 : Nat) (M : FM) : FM :=
  let M1 : FM := GX4_begin a0 a1 M
  let M2 : FM := GX4_text a0 a2 M1
  let x3 : Nat := (M2.2.2 55 a0 0)
  let M4 : FM := GX3_add x3 (Int32.ofInt 0) M2
  let M5 : FM := GX4_finish a0 a1 M4
  M5
def HX4_string_0 (a0 : Nat) (a1 : Nat) (a2 : Nat) (M : FM) : Prop := (HX4_begin a0 a1 M ∧ let M1 : FM := GX4_begin a0 a1 M; (HX4_text a0 a2 M1 ∧ let M2 : FM := GX4_text a0 a2 M1; let x3 : Nat := (M2.2.2 55 a0 0); (HX3_add x3 (Int32.ofInt 0) M2 ∧ let M4 : FM := GX3_add x3 (Int32.ofInt 0) M2; (HX4_finish a0 a1 M4 ∧ True))))
theorem gX4_string_0 (a0 : Nat) (a1 : Nat) (a2 : Nat) (M : FM) (T : Ty M) (n_a0 : fm_is M 21 21 a0 = true) (n_a1 : fm_is M 7 7 a1 = true) (h : HX4_string_0 a0 a1 a2 M) : gd (FX4_string_0 fN a0 a1 a2 M) (GX4_string_0 a0 a1 a2 M) (OkV M) := by
  delta FX4_string_0 BX4_string_0
  refine gd_c n_a0 ?_
  refine gd_b (gX4_begin _ _ _ ⟨T.1, T.2⟩ n_a0 h.1) (fun K0 => ?_)
  have f1 := (ext_is K0.2 (Nat.zero_lt_succ _) n_a0)
  refine gd_c f1 ?_
  refine gd_b (gX4_text _ _ _ h.2.1) (fun K2 => ?_)
  have f3 := (ext_is K2.2 (Nat.zero_lt_succ _) (ext_is K0.2 (Nat.zero_lt_succ _) n_a0))
  refine gd_c f3 ?_
  have f4 := (tN_55 K2.1.1 (ext_is K2.2 (Nat.zero_lt_succ _) (ext_is K0.2 (Nat.zero_lt_succ _) n_a0)))
  refine gd_c f4 ?_
  have f10 := (tN_55 K2.1.1 (ext_is K2.2 (Nat.zero_lt_succ _) (ext_is K0.2 (Nat.zero_lt_succ _) n_a0)))
  refine gd_b (gX3_add _ _ _ ⟨K2.1.1, K2.1.2⟩ f10 h.2.2.1) (fun K5 => ?_)
  have f6 := (ext_is K5.2 (Nat.zero_lt_succ _) (ext_is K2.2 (Nat.zero_lt_succ _) (ext_is K0.2 (Nat.zero_lt_succ _) n_a0)))
  refine gd_c f6 ?_
  have f8 := (ext_is K5.2 (Nat.zero_lt_succ _) (ext_is K2.2 (Nat.zero_lt_succ _) (ext_is K0.2 (Nat.zero_lt_succ _) n_a1)))
  have f9 := (ext_is K5.2 (Nat.zero_lt_succ _) (ext_is K2.2 (Nat.zero_lt_succ _) (ext_is K0.2 (Nat.zero_lt_succ _) n_a0)))
  refine gd_b (gX4_finish _ _ _ ⟨K5.1.1, K5.1.2⟩ f8 f9 h.2.2.2.1) (fun K7 => ?_)
  exact ⟨rfl, ⟨K7.1.1, K7.1.2⟩, (ext_tr K0.2 (ext_tr K2.2 (ext_tr K5.2 K7.2)))⟩
noncomputable def GX4_string (a0 : Nat) (a1 : Nat) (a2 : Nat) (M : FM) : FM := GX4_string_0 a0 a1 a2 M
def HX4_string (a0 : Nat) (a1 : Nat) (a2 : Nat) (M : FM) : Prop := HX4_string_0 a0 a1 a2 M
theorem gX4_string (a0 : Nat) (a1 : Nat) (a2 : Nat) (M : FM) (T : Ty M) (n_a0 : fm_is M 21 21 a0 = true) (n_a1 : fm_is M 7 7 a1 = true) (h : HX4_string a0 a1 a2 M) : gd (FX4_string fN a0 a1 a2 M) (GX4_string a0 a1 a2 M) (OkV M) := gX4_string_0 a0 a1 a2 M T n_a0 n_a1 h
noncomputable def GX5_open_0 (a0 : Nat) (a1 : Nat) (a2 : Int32) (a3 : Int32) (M : FM) : Int32 × FM :=
  let x1 : Int32 := (M.1 268 a0 0)
  let x2 : Nat := (M.2.2 264 a0 0)
  let x3 : Nat := (M.2.2 3 x2 x1.toNatClampNeg)
  let M4 : FM := fm_sI M 253 x3 0 (Int32.ofInt 1)
  let x5 : Nat := (M4.2.2 264 a0 0)
  let x6 : Nat := (M4.2.2 3 x5 x1.toNatClampNeg)
  let M7 : FM := GX5_begin a0 x1 ((M4.1 250 x6 0) + (Int32.ofInt 1)) M4
  let x8 : Int32 := (M7.1 268 a0 0)
  let x9 : Nat := (M7.2.2 264 a0 0)
  let x10 : Nat := (M7.2.2 3 x9 x8.toNatClampNeg)
  let x11 : Nat := (M7.2.2 248 x10 0)
  let M12 : FM := GX7_set x11 (M7.2.2 263 a0 0) a1 a2 a3 M7
  ((M12.1 268 a0 0), M12)
def HX5_open_0 (a0 : Nat) (a1 : Nat) (a2 : Int32) (a3 : Int32) (M : FM) : Prop := let x1 : Int32 := (M.1 268 a0 0); let x2 : Nat := (M.2.2 264 a0 0); (fm_in M x2 x1 = true ∧ let x3 : Nat := (M.2.2 3 x2 x1.toNatClampNeg); let M4 : FM := fm_sI M 253 x3 0 (Int32.ofInt 1); let x5 : Nat := (M4.2.2 264 a0 0); (fm_in M4 x5 x1 = true ∧ let x6 : Nat := (M4.2.2 3 x5 x1.toNatClampNeg); (HX5_begin a0 x1 ((M4.1 250 x6 0) + (Int32.ofInt 1)) M4 ∧ let M7 : FM := GX5_begin a0 x1 ((M4.1 250 x6 0) + (Int32.ofInt 1)) M4; let x8 : Int32 := (M7.1 268 a0 0); let x9 : Nat := (M7.2.2 264 a0 0); (fm_in M7 x9 x8 = true ∧ let x10 : Nat := (M7.2.2 3 x9 x8.toNatClampNeg); let x11 : Nat := (M7.2.2 248 x10 0); (HX7_set x11 (M7.2.2 263 a0 0) a1 a2 a3 M7 ∧ True)))))
theorem gX5_open_0 (a0 : Nat) (a1 : Nat) (a2 : Int32) (a3 : Int32) (M : FM) (T : Ty M) (n_a0 : fm_is M 87 87 a0 = true) (n_a1 : fm_is M 86 86 a1 = true) (h : HX5_open_0 a0 a1 a2 a3 M) : gd (FX5_open_0 a0 a1 a2 a3 M) (GX5_open_0 a0 a1 a2 a3 M) (OkR M) := by
  delta FX5_open_0 BX5_open_0
  refine gd_c n_a0 ?_
  refine gd_c n_a0 ?_
  have f15 := (fm_w (lo' := 910) (hi' := 990) rfl rfl (tN_264 T.1 n_a0))
  refine gd_c ⟨f15, h.1⟩ ?_
  have f0 := (tE_924 T.1 (tN_264 T.1 n_a0) h.1)
  refine gd_c f0 ?_
  refine gd_c fz_1 ?_
  refine gd_c n_a0 ?_
  have f14 := (fm_w (lo' := 910) (hi' := 990) rfl rfl (tN_264 T.1 n_a0))
  refine gd_c ⟨f14, h.2.1⟩ ?_
  have f1 := (tE_924 T.1 (tN_264 T.1 n_a0) h.2.1)
  refine gd_c f1 ?_
  refine gd_c n_a0 ?_
  refine gd_b (gX5_begin _ _ _ _ ⟨T.1, (tyb_sIb (f := 253) rfl T.2 fz_1)⟩ n_a0 h.2.2.1) (fun K2 => ?_)
  have f3 := (ext_is K2.2 (Nat.zero_lt_succ _) n_a0)
  refine gd_c f3 ?_
  have f4 := (ext_is K2.2 (Nat.zero_lt_succ _) n_a0)
  refine gd_c f4 ?_
  have f13 := (fm_w (lo' := 910) (hi' := 990) rfl rfl (tN_264 K2.1.1 (ext_is K2.2 (Nat.zero_lt_succ _) n_a0)))
  refine gd_c ⟨f13, h.2.2.2.1⟩ ?_
  have f5 := (tE_924 K2.1.1 (tN_264 K2.1.1 (ext_is K2.2 (Nat.zero_lt_succ _) n_a0)) h.2.2.2.1)
  refine gd_c f5 ?_
  have f6 := (ext_is K2.2 (Nat.zero_lt_succ _) n_a0)
  refine gd_c f6 ?_
  have f7 := (tN_248 K2.1.1 (tE_924 K2.1.1 (tN_264 K2.1.1 (ext_is K2.2 (Nat.zero_lt_succ _) n_a0)) h.2.2.2.1))
  refine gd_c f7 ?_
  have f10 := (tN_263 K2.1.1 (ext_is K2.2 (Nat.zero_lt_succ _) n_a0))
  have f11 := (tN_248 K2.1.1 (tE_924 K2.1.1 (tN_264 K2.1.1 (ext_is K2.2 (Nat.zero_lt_succ _) n_a0)) h.2.2.2.1))
  have f12 := (ext_is K2.2 (Nat.zero_lt_succ _) n_a1)
  refine gd_b (gX7_set _ _ _ _ _ _ ⟨K2.1.1, K2.1.2⟩ f10 f11 f12 h.2.2.2.2.1) (fun K8 => ?_)
  have f9 := (ext_is K8.2 (Nat.zero_lt_succ _) (ext_is K2.2 (Nat.zero_lt_succ _) n_a0))
  refine gd_c f9 ?_
  exact ⟨rfl, ⟨K8.1.1, K8.1.2⟩, (ext_dI (ext_tr K2.2 K8.2))⟩
noncomputable def GX5_open (a0 : Nat) (a1 : Nat) (a2 : Int32) (a3 : Int32) (M : FM) : Int32 × FM := GX5_open_0 a0 a1 a2 a3 M
def HX5_open (a0 : Nat) (a1 : Nat) (a2 : Int32) (a3 : Int32) (M : FM) : Prop := HX5_open_0 a0 a1 a2 a3 M
theorem gX5_open (a0 : Nat) (a1 : Nat) (a2 : Int32) (a3 : Int32) (M : FM) (T : Ty M) (n_a0 : fm_is M 87 87 a0 = true) (n_a1 : fm_is M 86 86 a1 = true) (h : HX5_open a0 a1 a2 a3 M) : gd (FX5_open a0 a1 a2 a3 M) (GX5_open a0 a1 a2 a3 M) (OkR M) := gX5_open_0 a0 a1 a2 a3 M T n_a0 n_a1 h
noncomputable def GX4_open_0 (a0 : Nat) (a1 : Nat) (M : FM) : FM :=
  let x1 : Nat := (M.2.2 55 a0 0)
  let M2 : FM := fm_sI M 262 x1 0 (Int32.ofInt 0)
  let M3 : FM := GX4_text a0 a1 M2
  let x4 : Nat := (M3.2.2 55 a0 0)
  let x5 : Nat := (M3.2.2 56 a0 0)
  let r6 : Int32 × FM := GX5_open x5 (M3.2.2 55 a0 0) (Int32.ofInt 0) (M3.1 262 x4 0) M3
  r6.2
def HX4_open_0 (a0 : Nat) (a1 : Nat) (M : FM) : Prop := let x1 : Nat := (M.2.2 55 a0 0); let M2 : FM := fm_sI M 262 x1 0 (Int32.ofInt 0); (HX4_text a0 a1 M2 ∧ let M3 : FM := GX4_text a0 a1 M2; let x4 : Nat := (M3.2.2 55 a0 0); let x5 : Nat := (M3.2.2 56 a0 0); (HX5_open x5 (M3.2.2 55 a0 0) (Int32.ofInt 0) (M3.1 262 x4 0) M3 ∧ True))
theorem gX4_open_0 (a0 : Nat) (a1 : Nat) (M : FM) (T : Ty M) (n_a0 : fm_is M 21 21 a0 = true) (h : HX4_open_0 a0 a1 M) : gd (FX4_open_0 fN a0 a1 M) (GX4_open_0 a0 a1 M) (OkV M) := by
  delta FX4_open_0 BX4_open_0
  refine gd_c n_a0 ?_
  have f0 := (tN_55 T.1 n_a0)
  refine gd_c f0 ?_
  refine gd_c n_a0 ?_
  refine gd_b (gX4_text _ _ _ h.1) (fun K1 => ?_)
  have f2 := (ext_is K1.2 (Nat.zero_lt_succ _) n_a0)
  refine gd_c f2 ?_
  have f3 := (ext_is K1.2 (Nat.zero_lt_succ _) n_a0)
  refine gd_c f3 ?_
  have f4 := (ext_is K1.2 (Nat.zero_lt_succ _) n_a0)
  refine gd_c f4 ?_
  have f5 := (tN_55 K1.1.1 (ext_is K1.2 (Nat.zero_lt_succ _) n_a0))
  refine gd_c f5 ?_
  have f6 := (tN_56 K1.1.1 (ext_is K1.2 (Nat.zero_lt_succ _) n_a0))
  refine gd_c f6 ?_
  have f8 := (tN_56 K1.1.1 (ext_is K1.2 (Nat.zero_lt_succ _) n_a0))
  have f9 := (tN_55 K1.1.1 (ext_is K1.2 (Nat.zero_lt_succ _) n_a0))
  refine gd_b (gX5_open _ _ _ _ _ ⟨K1.1.1, K1.1.2⟩ f8 f9 h.2.1) (fun K7 => ?_)
  exact ⟨rfl, ⟨K7.1.1, K7.1.2⟩, (ext_dI (ext_tr K1.2 K7.2))⟩
noncomputable def GX4_open (a0 : Nat) (a1 : Nat) (M : FM) : FM := GX4_open_0 a0 a1 M
def HX4_open (a0 : Nat) (a1 : Nat) (M : FM) : Prop := HX4_open_0 a0 a1 M
theorem gX4_open (a0 : Nat) (a1 : Nat) (M : FM) (T : Ty M) (n_a0 : fm_is M 21 21 a0 = true) (h : HX4_open a0 a1 M) : gd (FX4_open fN a0 a1 M) (GX4_open a0 a1 M) (OkV M) := gX4_open_0 a0 a1 M T n_a0 h
noncomputable def GX5_close_0 (a0 : Nat) (M : FM) : Int32 × FM :=
  let x1 : Int32 := (M.1 268 a0 0)
  let x2 : Nat := (M.2.2 264 a0 0)
  let x3 : Nat := (M.2.2 3 x2 x1.toNatClampNeg)
  let M4 : FM := fm_sI M 268 a0 0 (M.1 249 x3 0)
  ((M4.1 268 a0 0), M4)
def HX5_close_0 (a0 : Nat) (M : FM) : Prop := let x1 : Int32 := (M.1 268 a0 0); let x2 : Nat := (M.2.2 264 a0 0); (fm_in M x2 x1 = true ∧ True)
theorem gX5_close_0 (a0 : Nat) (M : FM) (T : Ty M) (n_a0 : fm_is M 87 87 a0 = true) (h : HX5_close_0 a0 M) : gd (FX5_close_0 a0 M) (GX5_close_0 a0 M) (OkR M) := by
  delta FX5_close_0 BX5_close_0
  refine gd_c n_a0 ?_
  refine gd_c n_a0 ?_
  have f1 := (fm_w (lo' := 910) (hi' := 990) rfl rfl (tN_264 T.1 n_a0))
  refine gd_c ⟨f1, h.1⟩ ?_
  have f0 := (tE_924 T.1 (tN_264 T.1 n_a0) h.1)
  refine gd_c f0 ?_
  refine gd_c n_a0 ?_
  refine gd_c n_a0 ?_
  exact ⟨rfl, ⟨T.1, (tyb_sI (f := 268) rfl T.2)⟩, (ext_dI (ext_r _))⟩
noncomputable def GX5_close (a0 : Nat) (M : FM) : Int32 × FM := GX5_close_0 a0 M
def HX5_close (a0 : Nat) (M : FM) : Prop := HX5_close_0 a0 M
theorem gX5_close (a0 : Nat) (M : FM) (T : Ty M) (n_a0 : fm_is M 87 87 a0 = true) (h : HX5_close a0 M) : gd (FX5_close a0 M) (GX5_close a0 M) (OkR M) := gX5_close_0 a0 M T n_a0 h
noncomputable def GX4_openNumbered_0 (a0 : Nat) (a1 : Nat) (a2 : Int32) (M : FM) : FM :=
  let x1 : Nat := (M.2.2 55 a0 0)
  let M2 : FM := fm_sI M 262 x1 0 (Int32.ofInt 0)
  let M3 : FM := GX4_text a0 a1 M2
  let x4 : Nat := (M3.2.2 55 a0 0)
  let M5 : FM := GX3_add x4 ((Int32.ofInt 48) + a2) M3
  let x6 : Nat := (M5.2.2 55 a0 0)
  let x7 : Nat := (M5.2.2 56 a0 0)
  let r8 : Int32 × FM := GX5_open x7 (M5.2.2 55 a0 0) (Int32.ofInt 0) (M5.1 262 x6 0) M5
  r8.2
def HX4_openNumbered_0 (a0 : Nat) (a1 : Nat) (a2 : Int32) (M : FM) : Prop := let x1 : Nat := (M.2.2 55 a0 0); let M2 : FM := fm_sI M 262 x1 0 (Int32.ofInt 0); (HX4_text a0 a1 M2 ∧ let M3 : FM := GX4_text a0 a1 M2; let x4 : Nat := (M3.2.2 55 a0 0); (HX3_add x4 ((Int32.ofInt 48) + a2) M3 ∧ let M5 : FM := GX3_add x4 ((Int32.ofInt 48) + a2) M3; let x6 : Nat := (M5.2.2 55 a0 0); let x7 : Nat := (M5.2.2 56 a0 0); (HX5_open x7 (M5.2.2 55 a0 0) (Int32.ofInt 0) (M5.1 262 x6 0) M5 ∧ True)))
theorem gX4_openNumbered_0 (a0 : Nat) (a1 : Nat) (a2 : Int32) (M : FM) (T : Ty M) (n_a0 : fm_is M 21 21 a0 = true) (h : HX4_openNumbered_0 a0 a1 a2 M) : gd (FX4_openNumbered_0 fN a0 a1 a2 M) (GX4_openNumbered_0 a0 a1 a2 M) (OkV M) := by
  delta FX4_openNumbered_0 BX4_openNumbered_0
  refine gd_c n_a0 ?_
  have f0 := (tN_55 T.1 n_a0)
  refine gd_c f0 ?_
  refine gd_c n_a0 ?_
  refine gd_b (gX4_text _ _ _ h.1) (fun K1 => ?_)
  have f2 := (ext_is K1.2 (Nat.zero_lt_succ _) n_a0)
  refine gd_c f2 ?_
  have f3 := (tN_55 K1.1.1 (ext_is K1.2 (Nat.zero_lt_succ _) n_a0))
  refine gd_c f3 ?_
  have f13 := (tN_55 K1.1.1 (ext_is K1.2 (Nat.zero_lt_succ _) n_a0))
  refine gd_b (gX3_add _ _ _ ⟨K1.1.1, K1.1.2⟩ f13 h.2.1) (fun K4 => ?_)
  have f5 := (ext_is K4.2 (Nat.zero_lt_succ _) (ext_is K1.2 (Nat.zero_lt_succ _) n_a0))
  refine gd_c f5 ?_
  have f6 := (ext_is K4.2 (Nat.zero_lt_succ _) (ext_is K1.2 (Nat.zero_lt_succ _) n_a0))
  refine gd_c f6 ?_
  have f7 := (ext_is K4.2 (Nat.zero_lt_succ _) (ext_is K1.2 (Nat.zero_lt_succ _) n_a0))
  refine gd_c f7 ?_
  have f8 := (tN_55 K4.1.1 (ext_is K4.2 (Nat.zero_lt_succ _) (ext_is K1.2 (Nat.zero_lt_succ _) n_a0)))
  refine gd_c f8 ?_
  have f9 := (tN_56 K4.1.1 (ext_is K4.2 (Nat.zero_lt_succ _) (ext_is K1.2 (Nat.zero_lt_succ _) n_a0)))
  refine gd_c f9 ?_
  have f11 := (tN_56 K4.1.1 (ext_is K4.2 (Nat.zero_lt_succ _) (ext_is K1.2 (Nat.zero_lt_succ _) n_a0)))
  have f12 := (tN_55 K4.1.1 (ext_is K4.2 (Nat.zero_lt_succ _) (ext_is K1.2 (Nat.zero_lt_succ _) n_a0)))
  refine gd_b (gX5_open _ _ _ _ _ ⟨K4.1.1, K4.1.2⟩ f11 f12 h.2.2.1) (fun K10 => ?_)
  exact ⟨rfl, ⟨K10.1.1, K10.1.2⟩, (ext_dI (ext_tr K1.2 (ext_tr K4.2 K10.2)))⟩
noncomputable def GX4_openNumbered (a0 : Nat) (a1 : Nat) (a2 : Int32) (M : FM) : FM := GX4_openNumbered_0 a0 a1 a2 M
def HX4_openNumbered (a0 : Nat) (a1 : Nat) (a2 : Int32) (M : FM) : Prop := HX4_openNumbered_0 a0 a1 a2 M
theorem gX4_openNumbered (a0 : Nat) (a1 : Nat) (a2 : Int32) (M : FM) (T : Ty M) (n_a0 : fm_is M 21 21 a0 = true) (h : HX4_openNumbered a0 a1 a2 M) : gd (FX4_openNumbered fN a0 a1 a2 M) (GX4_openNumbered a0 a1 a2 M) (OkV M) := gX4_openNumbered_0 a0 a1 a2 M T n_a0 h
noncomputable def GX4_nothing_0 (a0 : Nat) (a1 : Nat) (M : FM) : FM :=
  let M1 : FM := GX4_begin a0 a1 M
  let M2 : FM := GX4_finish a0 a1 M1
  M2
def HX4_nothing_0 (a0 : Nat) (a1 : Nat) (M : FM) : Prop := (HX4_begin a0 a1 M ∧ let M1 : FM := GX4_begin a0 a1 M; (HX4_finish a0 a1 M1 ∧ True))
theorem gX4_nothing_0 (a0 : Nat) (a1 : Nat) (M : FM) (T : Ty M) (n_a0 : fm_is M 21 21 a0 = true) (n_a1 : fm_is M 7 7 a1 = true) (h : HX4_nothing_0 a0 a1 M) : gd (FX4_nothing_0 fN a0 a1 M) (GX4_nothing_0 a0 a1 M) (OkV M) := by
  delta FX4_nothing_0 BX4_nothing_0
  refine gd_c n_a0 ?_
  refine gd_b (gX4_begin _ _ _ ⟨T.1, T.2⟩ n_a0 h.1) (fun K0 => ?_)
  have f1 := (ext_is K0.2 (Nat.zero_lt_succ _) n_a0)
  refine gd_c f1 ?_
  have f3 := (ext_is K0.2 (Nat.zero_lt_succ _) n_a1)
  have f4 := (ext_is K0.2 (Nat.zero_lt_succ _) n_a0)
  refine gd_b (gX4_finish _ _ _ ⟨K0.1.1, K0.1.2⟩ f3 f4 h.2.1) (fun K2 => ?_)
  exact ⟨rfl, ⟨K2.1.1, K2.1.2⟩, (ext_tr K0.2 K2.2)⟩
noncomputable def GX4_nothing (a0 : Nat) (a1 : Nat) (M : FM) : FM := GX4_nothing_0 a0 a1 M
def HX4_nothing (a0 : Nat) (a1 : Nat) (M : FM) : Prop := HX4_nothing_0 a0 a1 M
theorem gX4_nothing (a0 : Nat) (a1 : Nat) (M : FM) (T : Ty M) (n_a0 : fm_is M 21 21 a0 = true) (n_a1 : fm_is M 7 7 a1 = true) (h : HX4_nothing a0 a1 M) : gd (FX4_nothing fN a0 a1 M) (GX4_nothing a0 a1 M) (OkV M) := gX4_nothing_0 a0 a1 M T n_a0 n_a1 h
noncomputable def GX4_processor_0 (a0 : Nat) (a1 : Int32) (M : FM) : FM :=
  let M1 : FM := GX4_openNumbered a0 111 a1 M
  let M2 : FM := GX4_string a0 117 110 M1
  let M3 : FM := GX4_number a0 132 a1 M2
  let M4 : FM := GX4_string a0 137 129 M3
  let M5 : FM := GX4_string a0 109 146 M4
  let M6 : FM := GX4_string a0 124 142 M5
  let M7 : FM := GX4_string a0 127 139 M6
  let M8 : FM := GX4_open a0 119 M7
  let M9 : FM := GX4_number a0 102 (Int32.ofInt 1) M8
  let M10 : FM := GX4_nothing a0 119 M9
  let M11 : FM := GX4_string a0 109 148 M10
  let M12 : FM := GX4_number a0 130 (a1 + (Int32.ofInt 1)) M11
  let x13 : Nat := (M12.2.2 56 a0 0)
  let r14 : Int32 × FM := GX5_close x13 M12
  let x15 : Nat := (r14.2.2.2 56 a0 0)
  let r16 : Int32 × FM := GX5_close x15 r14.2
  r16.2
def HX4_processor_0 (a0 : Nat) (a1 : Int32) (M : FM) : Prop := (HX4_openNumbered a0 111 a1 M ∧ let M1 : FM := GX4_openNumbered a0 111 a1 M; (fm_is M1 7 7 117 = true ∧ HX4_string a0 117 110 M1 ∧ let M2 : FM := GX4_string a0 117 110 M1; (fm_is M2 7 7 132 = true ∧ HX4_number a0 132 a1 M2 ∧ let M3 : FM := GX4_number a0 132 a1 M2; (fm_is M3 7 7 137 = true ∧ HX4_string a0 137 129 M3 ∧ let M4 : FM := GX4_string a0 137 129 M3; (fm_is M4 7 7 109 = true ∧ HX4_string a0 109 146 M4 ∧ let M5 : FM := GX4_string a0 109 146 M4; (fm_is M5 7 7 124 = true ∧ HX4_string a0 124 142 M5 ∧ let M6 : FM := GX4_string a0 124 142 M5; (fm_is M6 7 7 127 = true ∧ HX4_string a0 127 139 M6 ∧ let M7 : FM := GX4_string a0 127 139 M6; (HX4_open a0 119 M7 ∧ let M8 : FM := GX4_open a0 119 M7; (fm_is M8 7 7 102 = true ∧ HX4_number a0 102 (Int32.ofInt 1) M8 ∧ let M9 : FM := GX4_number a0 102 (Int32.ofInt 1) M8; (fm_is M9 7 7 119 = true ∧ HX4_nothing a0 119 M9 ∧ let M10 : FM := GX4_nothing a0 119 M9; (fm_is M10 7 7 109 = true ∧ HX4_string a0 109 148 M10 ∧ let M11 : FM := GX4_string a0 109 148 M10; (fm_is M11 7 7 130 = true ∧ HX4_number a0 130 (a1 + (Int32.ofInt 1)) M11 ∧ let M12 : FM := GX4_number a0 130 (a1 + (Int32.ofInt 1)) M11; let x13 : Nat := (M12.2.2 56 a0 0); (HX5_close x13 M12 ∧ let r14 : Int32 × FM := GX5_close x13 M12; let x15 : Nat := (r14.2.2.2 56 a0 0); (HX5_close x15 r14.2 ∧ True))))))))))))))
theorem gX4_processor_0 (a0 : Nat) (a1 : Int32) (M : FM) (T : Ty M) (n_a0 : fm_is M 21 21 a0 = true) (h : HX4_processor_0 a0 a1 M) : gd (FX4_processor_0 fN a0 a1 M) (GX4_processor_0 a0 a1 M) (OkV M) := by
  delta FX4_processor_0 BX4_processor_0
  refine gd_c n_a0 ?_
  refine gd_b (gX4_openNumbered _ _ _ _ ⟨T.1, T.2⟩ n_a0 h.1) (fun K0 => ?_)
  have f1 := (ext_is K0.2 (Nat.zero_lt_succ _) n_a0)
  refine gd_c f1 ?_
  have f41 := (ext_is K0.2 (Nat.zero_lt_succ _) n_a0)
  refine gd_b (gX4_string _ _ _ _ ⟨K0.1.1, K0.1.2⟩ f41 h.2.1 h.2.2.1) (fun K2 => ?_)
  have f3 := (ext_is K2.2 (Nat.zero_lt_succ _) (ext_is K0.2 (Nat.zero_lt_succ _) n_a0))
  refine gd_c f3 ?_
  have f40 := (ext_is K2.2 (Nat.zero_lt_succ _) (ext_is K0.2 (Nat.zero_lt_succ _) n_a0))
  refine gd_b (gX4_number _ _ _ _ ⟨K2.1.1, K2.1.2⟩ f40 h.2.2.2.1 h.2.2.2.2.1) (fun K4 => ?_)
  have f5 := (ext_is K4.2 (Nat.zero_lt_succ _) (ext_is K2.2 (Nat.zero_lt_succ _) (ext_is K0.2 (Nat.zero_lt_succ _) n_a0)))
  refine gd_c f5 ?_
  have f39 := (ext_is K4.2 (Nat.zero_lt_succ _) (ext_is K2.2 (Nat.zero_lt_succ _) (ext_is K0.2 (Nat.zero_lt_succ _) n_a0)))
  refine gd_b (gX4_string _ _ _ _ ⟨K4.1.1, K4.1.2⟩ f39 h.2.2.2.2.2.1 h.2.2.2.2.2.2.1) (fun K6 => ?_)
  have f7 := (ext_is K6.2 (Nat.zero_lt_succ _) (ext_is K4.2 (Nat.zero_lt_succ _) (ext_is K2.2 (Nat.zero_lt_succ _) (ext_is K0.2 (Nat.zero_lt_succ _) n_a0))))
  refine gd_c f7 ?_
  have f38 := (ext_is K6.2 (Nat.zero_lt_succ _) (ext_is K4.2 (Nat.zero_lt_succ _) (ext_is K2.2 (Nat.zero_lt_succ _) (ext_is K0.2 (Nat.zero_lt_succ _) n_a0))))
  refine gd_b (gX4_string _ _ _ _ ⟨K6.1.1, K6.1.2⟩ f38 h.2.2.2.2.2.2.2.1 h.2.2.2.2.2.2.2.2.1) (fun K8 => ?_)
  have f9 := (ext_is K8.2 (Nat.zero_lt_succ _) (ext_is K6.2 (Nat.zero_lt_succ _) (ext_is K4.2 (Nat.zero_lt_succ _) (ext_is K2.2 (Nat.zero_lt_succ _) (ext_is K0.2 (Nat.zero_lt_succ _) n_a0)))))
  refine gd_c f9 ?_
  have f37 := (ext_is K8.2 (Nat.zero_lt_succ _) (ext_is K6.2 (Nat.zero_lt_succ _) (ext_is K4.2 (Nat.zero_lt_succ _) (ext_is K2.2 (Nat.zero_lt_succ _) (ext_is K0.2 (Nat.zero_lt_succ _) n_a0)))))
  refine gd_b (gX4_string _ _ _ _ ⟨K8.1.1, K8.1.2⟩ f37 h.2.2.2.2.2.2.2.2.2.1 h.2.2.2.2.2.2.2.2.2.2.1) (fun K10 => ?_)
  have f11 := (ext_is K10.2 (Nat.zero_lt_succ _) (ext_is K8.2 (Nat.zero_lt_succ _) (ext_is K6.2 (Nat.zero_lt_succ _) (ext_is K4.2 (Nat.zero_lt_succ _) (ext_is K2.2 (Nat.zero_lt_succ _) (ext_is K0.2 (Nat.zero_lt_succ _) n_a0))))))
  refine gd_c f11 ?_
  have f36 := (ext_is K10.2 (Nat.zero_lt_succ _) (ext_is K8.2 (Nat.zero_lt_succ _) (ext_is K6.2 (Nat.zero_lt_succ _) (ext_is K4.2 (Nat.zero_lt_succ _) (ext_is K2.2 (Nat.zero_lt_succ _) (ext_is K0.2 (Nat.zero_lt_succ _) n_a0))))))
  refine gd_b (gX4_string _ _ _ _ ⟨K10.1.1, K10.1.2⟩ f36 h.2.2.2.2.2.2.2.2.2.2.2.1 h.2.2.2.2.2.2.2.2.2.2.2.2.1) (fun K12 => ?_)
  have f13 := (ext_is K12.2 (Nat.zero_lt_succ _) (ext_is K10.2 (Nat.zero_lt_succ _) (ext_is K8.2 (Nat.zero_lt_succ _) (ext_is K6.2 (Nat.zero_lt_succ _) (ext_is K4.2 (Nat.zero_lt_succ _) (ext_is K2.2 (Nat.zero_lt_succ _) (ext_is K0.2 (Nat.zero_lt_succ _) n_a0)))))))
  refine gd_c f13 ?_
  have f35 := (ext_is K12.2 (Nat.zero_lt_succ _) (ext_is K10.2 (Nat.zero_lt_succ _) (ext_is K8.2 (Nat.zero_lt_succ _) (ext_is K6.2 (Nat.zero_lt_succ _) (ext_is K4.2 (Nat.zero_lt_succ _) (ext_is K2.2 (Nat.zero_lt_succ _) (ext_is K0.2 (Nat.zero_lt_succ _) n_a0)))))))
  refine gd_b (gX4_open _ _ _ ⟨K12.1.1, K12.1.2⟩ f35 h.2.2.2.2.2.2.2.2.2.2.2.2.2.1) (fun K14 => ?_)
  have f15 := (ext_is K14.2 (Nat.zero_lt_succ _) (ext_is K12.2 (Nat.zero_lt_succ _) (ext_is K10.2 (Nat.zero_lt_succ _) (ext_is K8.2 (Nat.zero_lt_succ _) (ext_is K6.2 (Nat.zero_lt_succ _) (ext_is K4.2 (Nat.zero_lt_succ _) (ext_is K2.2 (Nat.zero_lt_succ _) (ext_is K0.2 (Nat.zero_lt_succ _) n_a0))))))))
  refine gd_c f15 ?_
  have f34 := (ext_is K14.2 (Nat.zero_lt_succ _) (ext_is K12.2 (Nat.zero_lt_succ _) (ext_is K10.2 (Nat.zero_lt_succ _) (ext_is K8.2 (Nat.zero_lt_succ _) (ext_is K6.2 (Nat.zero_lt_succ _) (ext_is K4.2 (Nat.zero_lt_succ _) (ext_is K2.2 (Nat.zero_lt_succ _) (ext_is K0.2 (Nat.zero_lt_succ _) n_a0))))))))
  refine gd_b (gX4_number _ _ _ _ ⟨K14.1.1, K14.1.2⟩ f34 h.2.2.2.2.2.2.2.2.2.2.2.2.2.2.1 h.2.2.2.2.2.2.2.2.2.2.2.2.2.2.2.1) (fun K16 => ?_)
  have f17 := (ext_is K16.2 (Nat.zero_lt_succ _) (ext_is K14.2 (Nat.zero_lt_succ _) (ext_is K12.2 (Nat.zero_lt_succ _) (ext_is K10.2 (Nat.zero_lt_succ _) (ext_is K8.2 (Nat.zero_lt_succ _) (ext_is K6.2 (Nat.zero_lt_succ _) (ext_is K4.2 (Nat.zero_lt_succ _) (ext_is K2.2 (Nat.zero_lt_succ _) (ext_is K0.2 (Nat.zero_lt_succ _) n_a0)))))))))
  refine gd_c f17 ?_
  have f33 := (ext_is K16.2 (Nat.zero_lt_succ _) (ext_is K14.2 (Nat.zero_lt_succ _) (ext_is K12.2 (Nat.zero_lt_succ _) (ext_is K10.2 (Nat.zero_lt_succ _) (ext_is K8.2 (Nat.zero_lt_succ _) (ext_is K6.2 (Nat.zero_lt_succ _) (ext_is K4.2 (Nat.zero_lt_succ _) (ext_is K2.2 (Nat.zero_lt_succ _) (ext_is K0.2 (Nat.zero_lt_succ _) n_a0)))))))))
  refine gd_b (gX4_nothing _ _ _ ⟨K16.1.1, K16.1.2⟩ f33 h.2.2.2.2.2.2.2.2.2.2.2.2.2.2.2.2.1 h.2.2.2.2.2.2.2.2.2.2.2.2.2.2.2.2.2.1) (fun K18 => ?_)
  have f19 := (ext_is K18.2 (Nat.zero_lt_succ _) (ext_is K16.2 (Nat.zero_lt_succ _) (ext_is K14.2 (Nat.zero_lt_succ _) (ext_is K12.2 (Nat.zero_lt_succ _) (ext_is K10.2 (Nat.zero_lt_succ _) (ext_is K8.2 (Nat.zero_lt_succ _) (ext_is K6.2 (Nat.zero_lt_succ _) (ext_is K4.2 (Nat.zero_lt_succ _) (ext_is K2.2 (Nat.zero_lt_succ _) (ext_is K0.2 (Nat.zero_lt_succ _) n_a0))))))))))
  refine gd_c f19 ?_
  have f32 := (ext_is K18.2 (Nat.zero_lt_succ _) (ext_is K16.2 (Nat.zero_lt_succ _) (ext_is K14.2 (Nat.zero_lt_succ _) (ext_is K12.2 (Nat.zero_lt_succ _) (ext_is K10.2 (Nat.zero_lt_succ _) (ext_is K8.2 (Nat.zero_lt_succ _) (ext_is K6.2 (Nat.zero_lt_succ _) (ext_is K4.2 (Nat.zero_lt_succ _) (ext_is K2.2 (Nat.zero_lt_succ _) (ext_is K0.2 (Nat.zero_lt_succ _) n_a0))))))))))
  refine gd_b (gX4_string _ _ _ _ ⟨K18.1.1, K18.1.2⟩ f32 h.2.2.2.2.2.2.2.2.2.2.2.2.2.2.2.2.2.2.1 h.2.2.2.2.2.2.2.2.2.2.2.2.2.2.2.2.2.2.2.1) (fun K20 => ?_)
  have f21 := (ext_is K20.2 (Nat.zero_lt_succ _) (ext_is K18.2 (Nat.zero_lt_succ _) (ext_is K16.2 (Nat.zero_lt_succ _) (ext_is K14.2 (Nat.zero_lt_succ _) (ext_is K12.2 (Nat.zero_lt_succ _) (ext_is K10.2 (Nat.zero_lt_succ _) (ext_is K8.2 (Nat.zero_lt_succ _) (ext_is K6.2 (Nat.zero_lt_succ _) (ext_is K4.2 (Nat.zero_lt_succ _) (ext_is K2.2 (Nat.zero_lt_succ _) (ext_is K0.2 (Nat.zero_lt_succ _) n_a0)))))))))))
  refine gd_c f21 ?_
  have f31 := (ext_is K20.2 (Nat.zero_lt_succ _) (ext_is K18.2 (Nat.zero_lt_succ _) (ext_is K16.2 (Nat.zero_lt_succ _) (ext_is K14.2 (Nat.zero_lt_succ _) (ext_is K12.2 (Nat.zero_lt_succ _) (ext_is K10.2 (Nat.zero_lt_succ _) (ext_is K8.2 (Nat.zero_lt_succ _) (ext_is K6.2 (Nat.zero_lt_succ _) (ext_is K4.2 (Nat.zero_lt_succ _) (ext_is K2.2 (Nat.zero_lt_succ _) (ext_is K0.2 (Nat.zero_lt_succ _) n_a0)))))))))))
  refine gd_b (gX4_number _ _ _ _ ⟨K20.1.1, K20.1.2⟩ f31 h.2.2.2.2.2.2.2.2.2.2.2.2.2.2.2.2.2.2.2.2.1 h.2.2.2.2.2.2.2.2.2.2.2.2.2.2.2.2.2.2.2.2.2.1) (fun K22 => ?_)
  have f23 := (ext_is K22.2 (Nat.zero_lt_succ _) (ext_is K20.2 (Nat.zero_lt_succ _) (ext_is K18.2 (Nat.zero_lt_succ _) (ext_is K16.2 (Nat.zero_lt_succ _) (ext_is K14.2 (Nat.zero_lt_succ _) (ext_is K12.2 (Nat.zero_lt_succ _) (ext_is K10.2 (Nat.zero_lt_succ _) (ext_is K8.2 (Nat.zero_lt_succ _) (ext_is K6.2 (Nat.zero_lt_succ _) (ext_is K4.2 (Nat.zero_lt_succ _) (ext_is K2.2 (Nat.zero_lt_succ _) (ext_is K0.2 (Nat.zero_lt_succ _) n_a0))))))))))))
  refine gd_c f23 ?_
  have f24 := (tN_56 K22.1.1 (ext_is K22.2 (Nat.zero_lt_succ _) (ext_is K20.2 (Nat.zero_lt_succ _) (ext_is K18.2 (Nat.zero_lt_succ _) (ext_is K16.2 (Nat.zero_lt_succ _) (ext_is K14.2 (Nat.zero_lt_succ _) (ext_is K12.2 (Nat.zero_lt_succ _) (ext_is K10.2 (Nat.zero_lt_succ _) (ext_is K8.2 (Nat.zero_lt_succ _) (ext_is K6.2 (Nat.zero_lt_succ _) (ext_is K4.2 (Nat.zero_lt_succ _) (ext_is K2.2 (Nat.zero_lt_succ _) (ext_is K0.2 (Nat.zero_lt_succ _) n_a0)))))))))))))
  refine gd_c f24 ?_
  have f30 := (tN_56 K22.1.1 (ext_is K22.2 (Nat.zero_lt_succ _) (ext_is K20.2 (Nat.zero_lt_succ _) (ext_is K18.2 (Nat.zero_lt_succ _) (ext_is K16.2 (Nat.zero_lt_succ _) (ext_is K14.2 (Nat.zero_lt_succ _) (ext_is K12.2 (Nat.zero_lt_succ _) (ext_is K10.2 (Nat.zero_lt_succ _) (ext_is K8.2 (Nat.zero_lt_succ _) (ext_is K6.2 (Nat.zero_lt_succ _) (ext_is K4.2 (Nat.zero_lt_succ _) (ext_is K2.2 (Nat.zero_lt_succ _) (ext_is K0.2 (Nat.zero_lt_succ _) n_a0)))))))))))))
  refine gd_b (gX5_close _ _ ⟨K22.1.1, K22.1.2⟩ f30 h.2.2.2.2.2.2.2.2.2.2.2.2.2.2.2.2.2.2.2.2.2.2.1) (fun K25 => ?_)
  have f26 := (ext_is K25.2 (Nat.zero_lt_succ _) (ext_is K22.2 (Nat.zero_lt_succ _) (ext_is K20.2 (Nat.zero_lt_succ _) (ext_is K18.2 (Nat.zero_lt_succ _) (ext_is K16.2 (Nat.zero_lt_succ _) (ext_is K14.2 (Nat.zero_lt_succ _) (ext_is K12.2 (Nat.zero_lt_succ _) (ext_is K10.2 (Nat.zero_lt_succ _) (ext_is K8.2 (Nat.zero_lt_succ _) (ext_is K6.2 (Nat.zero_lt_succ _) (ext_is K4.2 (Nat.zero_lt_succ _) (ext_is K2.2 (Nat.zero_lt_succ _) (ext_is K0.2 (Nat.zero_lt_succ _) n_a0)))))))))))))
  refine gd_c f26 ?_
  have f27 := (tN_56 K25.1.1 (ext_is K25.2 (Nat.zero_lt_succ _) (ext_is K22.2 (Nat.zero_lt_succ _) (ext_is K20.2 (Nat.zero_lt_succ _) (ext_is K18.2 (Nat.zero_lt_succ _) (ext_is K16.2 (Nat.zero_lt_succ _) (ext_is K14.2 (Nat.zero_lt_succ _) (ext_is K12.2 (Nat.zero_lt_succ _) (ext_is K10.2 (Nat.zero_lt_succ _) (ext_is K8.2 (Nat.zero_lt_succ _) (ext_is K6.2 (Nat.zero_lt_succ _) (ext_is K4.2 (Nat.zero_lt_succ _) (ext_is K2.2 (Nat.zero_lt_succ _) (ext_is K0.2 (Nat.zero_lt_succ _) n_a0))))))))))))))
  refine gd_c f27 ?_
  have f29 := (tN_56 K25.1.1 (ext_is K25.2 (Nat.zero_lt_succ _) (ext_is K22.2 (Nat.zero_lt_succ _) (ext_is K20.2 (Nat.zero_lt_succ _) (ext_is K18.2 (Nat.zero_lt_succ _) (ext_is K16.2 (Nat.zero_lt_succ _) (ext_is K14.2 (Nat.zero_lt_succ _) (ext_is K12.2 (Nat.zero_lt_succ _) (ext_is K10.2 (Nat.zero_lt_succ _) (ext_is K8.2 (Nat.zero_lt_succ _) (ext_is K6.2 (Nat.zero_lt_succ _) (ext_is K4.2 (Nat.zero_lt_succ _) (ext_is K2.2 (Nat.zero_lt_succ _) (ext_is K0.2 (Nat.zero_lt_succ _) n_a0))))))))))))))
  refine gd_b (gX5_close _ _ ⟨K25.1.1, K25.1.2⟩ f29 h.2.2.2.2.2.2.2.2.2.2.2.2.2.2.2.2.2.2.2.2.2.2.2.1) (fun K28 => ?_)
  exact ⟨rfl, ⟨K28.1.1, K28.1.2⟩, (ext_tr K0.2 (ext_tr K2.2 (ext_tr K4.2 (ext_tr K6.2 (ext_tr K8.2 (ext_tr K10.2 (ext_tr K12.2 (ext_tr K14.2 (ext_tr K16.2 (ext_tr K18.2 (ext_tr K20.2 (ext_tr K22.2 (ext_tr K25.2 K28.2)))))))))))))⟩
noncomputable def GX4_processor (a0 : Nat) (a1 : Int32) (M : FM) : FM := GX4_processor_0 a0 a1 M
def HX4_processor (a0 : Nat) (a1 : Int32) (M : FM) : Prop := HX4_processor_0 a0 a1 M
theorem gX4_processor (a0 : Nat) (a1 : Int32) (M : FM) (T : Ty M) (n_a0 : fm_is M 21 21 a0 = true) (h : HX4_processor a0 a1 M) : gd (FX4_processor fN a0 a1 M) (GX4_processor a0 a1 M) (OkV M) := gX4_processor_0 a0 a1 M T n_a0 h
noncomputable def GX4_wide_0 (a0 : Nat) (a1 : Int64) (M : FM) : FM :=
  let x1 : Nat := (M.2.2 55 a0 0)
  let M2 : FM := GX3_addNumber x1 ((a1 >>> ((Int32.ofInt 32).toInt64 &&& 63)).toInt32) M
  let x3 : Nat := (M2.2.2 55 a0 0)
  let M4 : FM := GX3_addNumber x3 a1.toInt32 M2
  M4
def HX4_wide_0 (a0 : Nat) (a1 : Int64) (M : FM) : Prop := let x1 : Nat := (M.2.2 55 a0 0); (HX3_addNumber x1 ((a1 >>> ((Int32.ofInt 32).toInt64 &&& 63)).toInt32) M ∧ let M2 : FM := GX3_addNumber x1 ((a1 >>> ((Int32.ofInt 32).toInt64 &&& 63)).toInt32) M; let x3 : Nat := (M2.2.2 55 a0 0); (HX3_addNumber x3 a1.toInt32 M2 ∧ True))
theorem gX4_wide_0 (a0 : Nat) (a1 : Int64) (M : FM) (T : Ty M) (n_a0 : fm_is M 21 21 a0 = true) (h : HX4_wide_0 a0 a1 M) : gd (FX4_wide_0 fN a0 a1 M) (GX4_wide_0 a0 a1 M) (OkV M) := by
  delta FX4_wide_0 BX4_wide_0
  refine gd_c n_a0 ?_
  have f0 := (tN_55 T.1 n_a0)
  refine gd_c f0 ?_
  refine gd_b (gX3_addNumber _ _ _ h.1) (fun K1 => ?_)
  have f2 := (ext_is K1.2 (Nat.zero_lt_succ _) n_a0)
  refine gd_c f2 ?_
  have f3 := (tN_55 K1.1.1 (ext_is K1.2 (Nat.zero_lt_succ _) n_a0))
  refine gd_c f3 ?_
  refine gd_b (gX3_addNumber _ _ _ h.2.1) (fun K4 => ?_)
  exact ⟨rfl, ⟨K4.1.1, K4.1.2⟩, (ext_tr K1.2 K4.2)⟩
noncomputable def GX4_wide (a0 : Nat) (a1 : Int64) (M : FM) : FM := GX4_wide_0 a0 a1 M
def HX4_wide (a0 : Nat) (a1 : Int64) (M : FM) : Prop := HX4_wide_0 a0 a1 M
theorem gX4_wide (a0 : Nat) (a1 : Int64) (M : FM) (T : Ty M) (n_a0 : fm_is M 21 21 a0 = true) (h : HX4_wide a0 a1 M) : gd (FX4_wide fN a0 a1 M) (GX4_wide a0 a1 M) (OkV M) := gX4_wide_0 a0 a1 M T n_a0 h
noncomputable def GX4_window_0 (a0 : Nat) (a1 : Int64) (a3 : Int64) (M : FM) : FM :=
  let M1 : FM := GX4_begin a0 132 M
  let M2 : FM := GX4_wide a0 a1 M1
  let M3 : FM := GX4_wide a0 a3 M2
  let M4 : FM := GX4_finish a0 132 M3
  M4
def HX4_window_0 (a0 : Nat) (a1 : Int64) (a3 : Int64) (M : FM) : Prop := (HX4_begin a0 132 M ∧ let M1 : FM := GX4_begin a0 132 M; (HX4_wide a0 a1 M1 ∧ let M2 : FM := GX4_wide a0 a1 M1; (HX4_wide a0 a3 M2 ∧ let M3 : FM := GX4_wide a0 a3 M2; (fm_is M3 7 7 132 = true ∧ HX4_finish a0 132 M3 ∧ True))))
theorem gX4_window_0 (a0 : Nat) (a1 : Int64) (a3 : Int64) (M : FM) (T : Ty M) (n_a0 : fm_is M 21 21 a0 = true) (h : HX4_window_0 a0 a1 a3 M) : gd (FX4_window_0 fN a0 a1 a3 M) (GX4_window_0 a0 a1 a3 M) (OkV M) := by
  delta FX4_window_0 BX4_window_0
  refine gd_c n_a0 ?_
  refine gd_b (gX4_begin _ _ _ ⟨T.1, T.2⟩ n_a0 h.1) (fun K0 => ?_)
  have f1 := (ext_is K0.2 (Nat.zero_lt_succ _) n_a0)
  refine gd_c f1 ?_
  have f9 := (ext_is K0.2 (Nat.zero_lt_succ _) n_a0)
  refine gd_b (gX4_wide _ _ _ ⟨K0.1.1, K0.1.2⟩ f9 h.2.1) (fun K2 => ?_)
  have f3 := (ext_is K2.2 (Nat.zero_lt_succ _) (ext_is K0.2 (Nat.zero_lt_succ _) n_a0))
  refine gd_c f3 ?_
  have f8 := (ext_is K2.2 (Nat.zero_lt_succ _) (ext_is K0.2 (Nat.zero_lt_succ _) n_a0))
  refine gd_b (gX4_wide _ _ _ ⟨K2.1.1, K2.1.2⟩ f8 h.2.2.1) (fun K4 => ?_)
  have f5 := (ext_is K4.2 (Nat.zero_lt_succ _) (ext_is K2.2 (Nat.zero_lt_succ _) (ext_is K0.2 (Nat.zero_lt_succ _) n_a0)))
  refine gd_c f5 ?_
  have f7 := (ext_is K4.2 (Nat.zero_lt_succ _) (ext_is K2.2 (Nat.zero_lt_succ _) (ext_is K0.2 (Nat.zero_lt_succ _) n_a0)))
  refine gd_b (gX4_finish _ _ _ ⟨K4.1.1, K4.1.2⟩ h.2.2.2.1 f7 h.2.2.2.2.1) (fun K6 => ?_)
  exact ⟨rfl, ⟨K6.1.1, K6.1.2⟩, (ext_tr K0.2 (ext_tr K2.2 (ext_tr K4.2 K6.2)))⟩
noncomputable def GX4_window (a0 : Nat) (a1 : Int64) (a3 : Int64) (M : FM) : FM := GX4_window_0 a0 a1 a3 M
def HX4_window (a0 : Nat) (a1 : Int64) (a3 : Int64) (M : FM) : Prop := HX4_window_0 a0 a1 a3 M
theorem gX4_window (a0 : Nat) (a1 : Int64) (a3 : Int64) (M : FM) (T : Ty M) (n_a0 : fm_is M 21 21 a0 = true) (h : HX4_window a0 a1 a3 M) : gd (FX4_window fN a0 a1 a3 M) (GX4_window a0 a1 a3 M) (OkV M) := gX4_window_0 a0 a1 a3 M T n_a0 h
noncomputable def GX4_device_47 (a0 : Nat) (M : FM) : FM :=
  let x1 : Nat := (M.2.2 56 a0 0)
  let r2 : Int32 × FM := GX5_close x1 M
  r2.2
def HX4_device_47 (a0 : Nat) (M : FM) : Prop := let x1 : Nat := (M.2.2 56 a0 0); (HX5_close x1 M ∧ True)
theorem gX4_device_47 (a0 : Nat) (M : FM) (T : Ty M) (n_a0 : fm_is M 21 21 a0 = true) (h : HX4_device_47 a0 M) : gd (FX4_device_47 fN a0 M) (GX4_device_47 a0 M) (OkV M) := by
  delta FX4_device_47 BX4_device_47
  refine gd_c n_a0 ?_
  have f0 := (tN_56 T.1 n_a0)
  refine gd_c f0 ?_
  have f2 := (tN_56 T.1 n_a0)
  refine gd_b (gX5_close _ _ ⟨T.1, T.2⟩ f2 h.1) (fun K1 => ?_)
  exact ⟨rfl, ⟨K1.1.1, K1.1.2⟩, K1.2⟩
noncomputable def GX4_device_0 (a0 : Nat) (a1 : Nat) (a2 : Nat) (a3 : Nat) (a4 : Int32) (a5 : Int32) (M : FM) : FM :=
  let M1 : FM := GX4_open a0 a1 M
  let M2 : FM := GX4_string a0 109 a2 M1
  let M3 : FM := GX4_window a0 (M2.2.1 13 a3 0) (M2.2.1 14 a3 0) M2
  fi (a4 ≤ 0) (
    GX4_device_47 a0 M3) (
    let M4 : FM := GX4_number a0 122 a4 M3
    let M5 : FM := GX4_number a0 121 (a5 + (Int32.ofInt 1)) M4
    GX4_device_47 a0 M5)
def HX4_device_0 (a0 : Nat) (a1 : Nat) (a2 : Nat) (a3 : Nat) (a4 : Int32) (a5 : Int32) (M : FM) : Prop := (HX4_open a0 a1 M ∧ let M1 : FM := GX4_open a0 a1 M; (fm_is M1 7 7 109 = true ∧ HX4_string a0 109 a2 M1 ∧ let M2 : FM := GX4_string a0 109 a2 M1; (HX4_window a0 (M2.2.1 13 a3 0) (M2.2.1 14 a3 0) M2 ∧ let M3 : FM := GX4_window a0 (M2.2.1 13 a3 0) (M2.2.1 14 a3 0) M2; ((a4 ≤ 0 → HX4_device_47 a0 M3) ∧ (¬ (a4 ≤ 0) → (fm_is M3 7 7 122 = true ∧ HX4_number a0 122 a4 M3 ∧ let M4 : FM := GX4_number a0 122 a4 M3; (fm_is M4 7 7 121 = true ∧ HX4_number a0 121 (a5 + (Int32.ofInt 1)) M4 ∧ let M5 : FM := GX4_number a0 121 (a5 + (Int32.ofInt 1)) M4; HX4_device_47 a0 M5)))))))
theorem gX4_device_0 (a0 : Nat) (a1 : Nat) (a2 : Nat) (a3 : Nat) (a4 : Int32) (a5 : Int32) (M : FM) (T : Ty M) (n_a0 : fm_is M 21 21 a0 = true) (n_a3 : fm_is M 6 6 a3 = true) (h : HX4_device_0 a0 a1 a2 a3 a4 a5 M) : gd (FX4_device_0 fN a0 a1 a2 a3 a4 a5 M) (GX4_device_0 a0 a1 a2 a3 a4 a5 M) (OkV M) := by
  delta FX4_device_0 BX4_device_0
  refine gd_c n_a0 ?_
  refine gd_b (gX4_open _ _ _ ⟨T.1, T.2⟩ n_a0 h.1) (fun K0 => ?_)
  have f1 := (ext_is K0.2 (Nat.zero_lt_succ _) n_a0)
  refine gd_c f1 ?_
  have f17 := (ext_is K0.2 (Nat.zero_lt_succ _) n_a0)
  refine gd_b (gX4_string _ _ _ _ ⟨K0.1.1, K0.1.2⟩ f17 h.2.1 h.2.2.1) (fun K2 => ?_)
  have f3 := (ext_is K2.2 (Nat.zero_lt_succ _) (ext_is K0.2 (Nat.zero_lt_succ _) n_a3))
  refine gd_c f3 ?_
  have f4 := (ext_is K2.2 (Nat.zero_lt_succ _) (ext_is K0.2 (Nat.zero_lt_succ _) n_a3))
  refine gd_c f4 ?_
  have f5 := (ext_is K2.2 (Nat.zero_lt_succ _) (ext_is K0.2 (Nat.zero_lt_succ _) n_a0))
  refine gd_c f5 ?_
  have f16 := (ext_is K2.2 (Nat.zero_lt_succ _) (ext_is K0.2 (Nat.zero_lt_succ _) n_a0))
  refine gd_b (gX4_window _ _ _ _ ⟨K2.1.1, K2.1.2⟩ f16 h.2.2.2.1) (fun K6 => ?_)
  refine gd_fi (fun c7_0 => ?_) (fun c7_0 => ?_)
  · have f8 := (ext_is K6.2 (Nat.zero_lt_succ _) (ext_is K2.2 (Nat.zero_lt_succ _) (ext_is K0.2 (Nat.zero_lt_succ _) n_a0)))
    exact gd_tV (ext_tr K0.2 (ext_tr K2.2 K6.2)) (gX4_device_47 _ _ ⟨K6.1.1, K6.1.2⟩ f8 (h.2.2.2.2.1 c7_0))
  · have f9 := (ext_is K6.2 (Nat.zero_lt_succ _) (ext_is K2.2 (Nat.zero_lt_succ _) (ext_is K0.2 (Nat.zero_lt_succ _) n_a0)))
    refine gd_c f9 ?_
    have f15 := (ext_is K6.2 (Nat.zero_lt_succ _) (ext_is K2.2 (Nat.zero_lt_succ _) (ext_is K0.2 (Nat.zero_lt_succ _) n_a0)))
    refine gd_b (gX4_number _ _ _ _ ⟨K6.1.1, K6.1.2⟩ f15 (h.2.2.2.2.2 c7_0).1 (h.2.2.2.2.2 c7_0).2.1) (fun K10 => ?_)
    have f11 := (ext_is K10.2 (Nat.zero_lt_succ _) (ext_is K6.2 (Nat.zero_lt_succ _) (ext_is K2.2 (Nat.zero_lt_succ _) (ext_is K0.2 (Nat.zero_lt_succ _) n_a0))))
    refine gd_c f11 ?_
    have f14 := (ext_is K10.2 (Nat.zero_lt_succ _) (ext_is K6.2 (Nat.zero_lt_succ _) (ext_is K2.2 (Nat.zero_lt_succ _) (ext_is K0.2 (Nat.zero_lt_succ _) n_a0))))
    refine gd_b (gX4_number _ _ _ _ ⟨K10.1.1, K10.1.2⟩ f14 (h.2.2.2.2.2 c7_0).2.2.1 (h.2.2.2.2.2 c7_0).2.2.2.1) (fun K12 => ?_)
    have f13 := (ext_is K12.2 (Nat.zero_lt_succ _) (ext_is K10.2 (Nat.zero_lt_succ _) (ext_is K6.2 (Nat.zero_lt_succ _) (ext_is K2.2 (Nat.zero_lt_succ _) (ext_is K0.2 (Nat.zero_lt_succ _) n_a0)))))
    exact gd_tV (ext_tr K0.2 (ext_tr K2.2 (ext_tr K6.2 (ext_tr K10.2 K12.2)))) (gX4_device_47 _ _ ⟨K12.1.1, K12.1.2⟩ f13 (h.2.2.2.2.2 c7_0).2.2.2.2)
noncomputable def GX4_device (a0 : Nat) (a1 : Nat) (a2 : Nat) (a3 : Nat) (a4 : Int32) (a5 : Int32) (M : FM) : FM := GX4_device_0 a0 a1 a2 a3 a4 a5 M
def HX4_device (a0 : Nat) (a1 : Nat) (a2 : Nat) (a3 : Nat) (a4 : Int32) (a5 : Int32) (M : FM) : Prop := HX4_device_0 a0 a1 a2 a3 a4 a5 M
theorem gX4_device (a0 : Nat) (a1 : Nat) (a2 : Nat) (a3 : Nat) (a4 : Int32) (a5 : Int32) (M : FM) (T : Ty M) (n_a0 : fm_is M 21 21 a0 = true) (n_a3 : fm_is M 6 6 a3 = true) (h : HX4_device a0 a1 a2 a3 a4 a5 M) : gd (FX4_device fN a0 a1 a2 a3 a4 a5 M) (GX4_device a0 a1 a2 a3 a4 a5 M) (OkV M) := gX4_device_0 a0 a1 a2 a3 a4 a5 M T n_a0 n_a3 h
def kX4_lines (k9 : Nat → Int32 → Int32 → Int32 → Int32 → FM → Option (FM)) : (Nat × Int32 × Int32 × Int32 × Int32 × FM) ⊕ (FM) → Option (FM)
  | .inl (v0, v1, v2, v3, v4, M') => k9 v0 v1 v2 v3 v4 M'
  | .inr (r) => some r
def pX4_lines (M : FM) : (Nat × Int32 × Int32 × Int32 × Int32 × FM) ⊕ (FM) → Prop
  | .inl (_, _, _, _, _, M') => OkV M M'
  | .inr (r) => OkV M r
theorem pX4_lines_t {M M1 : FM} (e : Ext M M1) : ∀ y, pX4_lines M1 y → pX4_lines M y
  | .inl (_, _, _, _, _, _), h => ⟨h.1, ext_tr e h.2⟩
  | .inr (r), h => ⟨h.1, ext_tr e h.2⟩
noncomputable def GX4_lines_0 (a0 : Nat) (a1 : Int32) (a2 : Int32) (a3 : Int32) (M : FM) : (Nat × Int32 × Int32 × Int32 × Int32 × FM) ⊕ (FM) :=
  let M1 : FM := GX4_begin a0 123 M
  (.inl (a0, a1, a2, a3, (Int32.ofInt 0), M1))
def HX4_lines_0 (a0 : Nat) (a1 : Int32) (a2 : Int32) (a3 : Int32) (M : FM) : Prop := (HX4_begin a0 123 M ∧ True)
theorem gX4_lines_0 (k9 : Nat → Int32 → Int32 → Int32 → Int32 → FM → Option (FM)) (a0 : Nat) (a1 : Int32) (a2 : Int32) (a3 : Int32) (M : FM) (T : Ty M) (n_a0 : fm_is M 21 21 a0 = true) (h : HX4_lines_0 a0 a1 a2 a3 M) : gs (FX4_lines_0 fN k9 a0 a1 a2 a3 M) (GX4_lines_0 a0 a1 a2 a3 M) (kX4_lines k9) (pX4_lines M) := by
  delta FX4_lines_0 BX4_lines_0
  refine gs_c n_a0 ?_
  refine gs_b (gX4_begin _ _ _ ⟨T.1, T.2⟩ n_a0 h.1) (fun K0 => ?_)
  exact And.intro rfl (And.intro (And.intro K0.1.1 K0.1.2) K0.2)
noncomputable def GX4_lines_9 (a0 : Nat) (a1 : Int32) (a2 : Int32) (a3 : Int32) (a4 : Int32) (M : FM) : (Nat × Int32 × Int32 × Int32 × Int32 × FM) ⊕ (FM) :=
  fi (a1 ≤ a4) (
    let M1 : FM := GX4_finish a0 123 M
    (.inr M1)) (
    let x2 : Nat := (M.2.2 55 a0 0)
    let M3 : FM := GX3_addNumber x2 (a4 + (Int32.ofInt 1)) M
    let x4 : Nat := (M3.2.2 55 a0 0)
    let M5 : FM := GX3_addNumber x4 a2 M3
    let x6 : Nat := (M5.2.2 55 a0 0)
    let M7 : FM := GX3_addNumber x6 (a4 + (Int32.ofInt 1)) M5
    let x8 : Nat := (M7.2.2 55 a0 0)
    let M9 : FM := GX3_addNumber x8 a3 M7
    let x10 : Int32 := a4 + (Int32.ofInt 1)
    (.inl (a0, a1, a2, a3, x10, M9)))
def HX4_lines_9 (a0 : Nat) (a1 : Int32) (a2 : Int32) (a3 : Int32) (a4 : Int32) (M : FM) : Prop := ((a1 ≤ a4 → (fm_is M 7 7 123 = true ∧ HX4_finish a0 123 M ∧ True)) ∧ (¬ (a1 ≤ a4) → let x2 : Nat := (M.2.2 55 a0 0); (HX3_addNumber x2 (a4 + (Int32.ofInt 1)) M ∧ let M3 : FM := GX3_addNumber x2 (a4 + (Int32.ofInt 1)) M; let x4 : Nat := (M3.2.2 55 a0 0); (HX3_addNumber x4 a2 M3 ∧ let M5 : FM := GX3_addNumber x4 a2 M3; let x6 : Nat := (M5.2.2 55 a0 0); (HX3_addNumber x6 (a4 + (Int32.ofInt 1)) M5 ∧ let M7 : FM := GX3_addNumber x6 (a4 + (Int32.ofInt 1)) M5; let x8 : Nat := (M7.2.2 55 a0 0); (HX3_addNumber x8 a3 M7 ∧ True))))))
theorem gX4_lines_9 (k9 : Nat → Int32 → Int32 → Int32 → Int32 → FM → Option (FM)) (a0 : Nat) (a1 : Int32) (a2 : Int32) (a3 : Int32) (a4 : Int32) (M : FM) (T : Ty M) (n_a0 : fm_is M 21 21 a0 = true) (h : HX4_lines_9 a0 a1 a2 a3 a4 M) : gs (FX4_lines_9 fN k9 a0 a1 a2 a3 a4 M) (GX4_lines_9 a0 a1 a2 a3 a4 M) (kX4_lines k9) (pX4_lines M) := by
  delta FX4_lines_9 BX4_lines_9
  refine gs_fi (fun c0_0 => ?_) (fun c0_0 => ?_)
  · refine gs_c n_a0 ?_
    refine gs_b (gX4_finish _ _ _ ⟨T.1, T.2⟩ (h.1 c0_0).1 n_a0 (h.1 c0_0).2.1) (fun K1 => ?_)
    exact And.intro rfl (And.intro (And.intro K1.1.1 K1.1.2) K1.2)
  · refine gs_c n_a0 ?_
    have f2 := (tN_55 T.1 n_a0)
    refine gs_c f2 ?_
    refine gs_b (gX3_addNumber _ _ _ (h.2 c0_0).1) (fun K3 => ?_)
    have f4 := (ext_is K3.2 (Nat.zero_lt_succ _) n_a0)
    refine gs_c f4 ?_
    have f5 := (tN_55 K3.1.1 (ext_is K3.2 (Nat.zero_lt_succ _) n_a0))
    refine gs_c f5 ?_
    refine gs_b (gX3_addNumber _ _ _ (h.2 c0_0).2.1) (fun K6 => ?_)
    have f7 := (ext_is K6.2 (Nat.zero_lt_succ _) (ext_is K3.2 (Nat.zero_lt_succ _) n_a0))
    refine gs_c f7 ?_
    have f8 := (tN_55 K6.1.1 (ext_is K6.2 (Nat.zero_lt_succ _) (ext_is K3.2 (Nat.zero_lt_succ _) n_a0)))
    refine gs_c f8 ?_
    refine gs_b (gX3_addNumber _ _ _ (h.2 c0_0).2.2.1) (fun K9 => ?_)
    have f10 := (ext_is K9.2 (Nat.zero_lt_succ _) (ext_is K6.2 (Nat.zero_lt_succ _) (ext_is K3.2 (Nat.zero_lt_succ _) n_a0)))
    refine gs_c f10 ?_
    have f11 := (tN_55 K9.1.1 (ext_is K9.2 (Nat.zero_lt_succ _) (ext_is K6.2 (Nat.zero_lt_succ _) (ext_is K3.2 (Nat.zero_lt_succ _) n_a0))))
    refine gs_c f11 ?_
    refine gs_b (gX3_addNumber _ _ _ (h.2 c0_0).2.2.2.1) (fun K12 => ?_)
    exact And.intro rfl (And.intro (And.intro K12.1.1 K12.1.2) ((ext_tr K3.2 (ext_tr K6.2 (ext_tr K9.2 K12.2)))))
noncomputable def GX4_lines (a0 : Nat) (a1 : Int32) (a2 : Int32) (a3 : Int32) (M : FM) : FM := (FX4_lines fN a0 a1 a2 a3 M).getD M
def HX4_lines (a0 : Nat) (a1 : Int32) (a2 : Int32) (a3 : Int32) (M : FM) : Prop := ∃ r, FX4_lines fN a0 a1 a2 a3 M = some r ∧ OkV M r
theorem gX4_lines (a0 : Nat) (a1 : Int32) (a2 : Int32) (a3 : Int32) (M : FM) (h : HX4_lines a0 a1 a2 a3 M) : gd (FX4_lines fN a0 a1 a2 a3 M) (GX4_lines a0 a1 a2 a3 M) (OkV M) := gd_op h
noncomputable def GX4_devices_0 (a0 : Nat) (a1 : Int32) (M : FM) : FM :=
  let M1 : FM := GX4_open a0 135 M
  let M2 : FM := GX4_cells a0 (Int32.ofInt 2) (Int32.ofInt 2) M1
  let M3 : FM := GX4_string a0 109 134 M2
  let M4 : FM := GX4_nothing a0 131 M3
  let M5 : FM := GX4_device a0 118 147 37 (Int32.ofInt 0) a1 M4
  let M6 : FM := GX4_open a0 141 M5
  let M7 : FM := GX4_string a0 109 150 M6
  let M8 : FM := GX4_lines a0 a1 (Int32.ofInt 3) (Int32.ofInt 7) M7
  let M9 : FM := GX4_window a0 (M8.2.1 13 38 0) (M8.2.1 14 38 0) M8
  let x10 : Nat := (M9.2.2 56 a0 0)
  let r11 : Int32 × FM := GX5_close x10 M9
  let M12 : FM := GX4_open a0 120 r11.2
  let M13 : FM := GX4_number a0 102 (Int32.ofInt 1) M12
  let M14 : FM := GX4_nothing a0 119 M13
  let M15 : FM := GX4_string a0 109 145 M14
  let M16 : FM := GX4_lines a0 a1 (Int32.ofInt 11) (Int32.ofInt 9) M15
  let M17 : FM := GX4_window a0 (M16.2.1 13 39 0) (M16.2.1 14 39 0) M16
  let M18 : FM := GX4_number a0 136 (Int32.ofInt 31) M17
  let M19 : FM := GX4_number a0 130 (a1 + (Int32.ofInt 1)) M18
  let x20 : Nat := (M19.2.2 56 a0 0)
  let r21 : Int32 × FM := GX5_close x20 M19
  let M22 : FM := GX4_device a0 133 149 40 (Int32.ofInt 10) a1 r21.2
  let M23 : FM := GX4_device a0 106 143 41 (Int32.ofInt 1) a1 M22
  let x24 : Nat := (M23.2.2 56 a0 0)
  let r25 : Int32 × FM := GX5_close x24 M23
  r25.2
def HX4_devices_0 (a0 : Nat) (a1 : Int32) (M : FM) : Prop := (HX4_open a0 135 M ∧ let M1 : FM := GX4_open a0 135 M; (HX4_cells a0 (Int32.ofInt 2) (Int32.ofInt 2) M1 ∧ let M2 : FM := GX4_cells a0 (Int32.ofInt 2) (Int32.ofInt 2) M1; (fm_is M2 7 7 109 = true ∧ HX4_string a0 109 134 M2 ∧ let M3 : FM := GX4_string a0 109 134 M2; (fm_is M3 7 7 131 = true ∧ HX4_nothing a0 131 M3 ∧ let M4 : FM := GX4_nothing a0 131 M3; (HX4_device a0 118 147 37 (Int32.ofInt 0) a1 M4 ∧ let M5 : FM := GX4_device a0 118 147 37 (Int32.ofInt 0) a1 M4; (HX4_open a0 141 M5 ∧ let M6 : FM := GX4_open a0 141 M5; (fm_is M6 7 7 109 = true ∧ HX4_string a0 109 150 M6 ∧ let M7 : FM := GX4_string a0 109 150 M6; (HX4_lines a0 a1 (Int32.ofInt 3) (Int32.ofInt 7) M7 ∧ let M8 : FM := GX4_lines a0 a1 (Int32.ofInt 3) (Int32.ofInt 7) M7; (HX4_window a0 (M8.2.1 13 38 0) (M8.2.1 14 38 0) M8 ∧ let M9 : FM := GX4_window a0 (M8.2.1 13 38 0) (M8.2.1 14 38 0) M8; let x10 : Nat := (M9.2.2 56 a0 0); (HX5_close x10 M9 ∧ let r11 : Int32 × FM := GX5_close x10 M9; (HX4_open a0 120 r11.2 ∧ let M12 : FM := GX4_open a0 120 r11.2; (fm_is M12 7 7 102 = true ∧ HX4_number a0 102 (Int32.ofInt 1) M12 ∧ let M13 : FM := GX4_number a0 102 (Int32.ofInt 1) M12; (fm_is M13 7 7 119 = true ∧ HX4_nothing a0 119 M13 ∧ let M14 : FM := GX4_nothing a0 119 M13; (fm_is M14 7 7 109 = true ∧ HX4_string a0 109 145 M14 ∧ let M15 : FM := GX4_string a0 109 145 M14; (HX4_lines a0 a1 (Int32.ofInt 11) (Int32.ofInt 9) M15 ∧ let M16 : FM := GX4_lines a0 a1 (Int32.ofInt 11) (Int32.ofInt 9) M15; (HX4_window a0 (M16.2.1 13 39 0) (M16.2.1 14 39 0) M16 ∧ let M17 : FM := GX4_window a0 (M16.2.1 13 39 0) (M16.2.1 14 39 0) M16; (fm_is M17 7 7 136 = true ∧ HX4_number a0 136 (Int32.ofInt 31) M17 ∧ let M18 : FM := GX4_number a0 136 (Int32.ofInt 31) M17; (fm_is M18 7 7 130 = true ∧ HX4_number a0 130 (a1 + (Int32.ofInt 1)) M18 ∧ let M19 : FM := GX4_number a0 130 (a1 + (Int32.ofInt 1)) M18; let x20 : Nat := (M19.2.2 56 a0 0); (HX5_close x20 M19 ∧ let r21 : Int32 × FM := GX5_close x20 M19; (HX4_device a0 133 149 40 (Int32.ofInt 10) a1 r21.2 ∧ let M22 : FM := GX4_device a0 133 149 40 (Int32.ofInt 10) a1 r21.2; (HX4_device a0 106 143 41 (Int32.ofInt 1) a1 M22 ∧ let M23 : FM := GX4_device a0 106 143 41 (Int32.ofInt 1) a1 M22; let x24 : Nat := (M23.2.2 56 a0 0); (HX5_close x24 M23 ∧ True))))))))))))))))))))))
theorem gX4_devices_0 (a0 : Nat) (a1 : Int32) (M : FM) (T : Ty M) (n_a0 : fm_is M 21 21 a0 = true) (h : HX4_devices_0 a0 a1 M) : gd (FX4_devices_0 fN a0 a1 M) (GX4_devices_0 a0 a1 M) (OkV M) := by
  delta FX4_devices_0 BX4_devices_0
  refine gd_c n_a0 ?_
  refine gd_b (gX4_open _ _ _ ⟨T.1, T.2⟩ n_a0 h.1) (fun K0 => ?_)
  have f1 := (ext_is K0.2 (Nat.zero_lt_succ _) n_a0)
  refine gd_c f1 ?_
  have f71 := (ext_is K0.2 (Nat.zero_lt_succ _) n_a0)
  refine gd_b (gX4_cells _ _ _ _ ⟨K0.1.1, K0.1.2⟩ f71 h.2.1) (fun K2 => ?_)
  have f3 := (ext_is K2.2 (Nat.zero_lt_succ _) (ext_is K0.2 (Nat.zero_lt_succ _) n_a0))
  refine gd_c f3 ?_
  have f70 := (ext_is K2.2 (Nat.zero_lt_succ _) (ext_is K0.2 (Nat.zero_lt_succ _) n_a0))
  refine gd_b (gX4_string _ _ _ _ ⟨K2.1.1, K2.1.2⟩ f70 h.2.2.1 h.2.2.2.1) (fun K4 => ?_)
  have f5 := (ext_is K4.2 (Nat.zero_lt_succ _) (ext_is K2.2 (Nat.zero_lt_succ _) (ext_is K0.2 (Nat.zero_lt_succ _) n_a0)))
  refine gd_c f5 ?_
  have f69 := (ext_is K4.2 (Nat.zero_lt_succ _) (ext_is K2.2 (Nat.zero_lt_succ _) (ext_is K0.2 (Nat.zero_lt_succ _) n_a0)))
  refine gd_b (gX4_nothing _ _ _ ⟨K4.1.1, K4.1.2⟩ f69 h.2.2.2.2.1 h.2.2.2.2.2.1) (fun K6 => ?_)
  have f7 := (ext_is K6.2 (Nat.zero_lt_succ _) (ext_is K4.2 (Nat.zero_lt_succ _) (ext_is K2.2 (Nat.zero_lt_succ _) (ext_is K0.2 (Nat.zero_lt_succ _) n_a0))))
  refine gd_c f7 ?_
  have f67 := (ext_is K6.2 (Nat.zero_lt_succ _) (ext_is K4.2 (Nat.zero_lt_succ _) (ext_is K2.2 (Nat.zero_lt_succ _) (ext_is K0.2 (Nat.zero_lt_succ _) n_a0))))
  have f68 := (tC_37 K6.1.1)
  refine gd_b (gX4_device _ _ _ _ _ _ _ ⟨K6.1.1, K6.1.2⟩ f67 f68 h.2.2.2.2.2.2.1) (fun K8 => ?_)
  have f9 := (ext_is K8.2 (Nat.zero_lt_succ _) (ext_is K6.2 (Nat.zero_lt_succ _) (ext_is K4.2 (Nat.zero_lt_succ _) (ext_is K2.2 (Nat.zero_lt_succ _) (ext_is K0.2 (Nat.zero_lt_succ _) n_a0)))))
  refine gd_c f9 ?_
  have f66 := (ext_is K8.2 (Nat.zero_lt_succ _) (ext_is K6.2 (Nat.zero_lt_succ _) (ext_is K4.2 (Nat.zero_lt_succ _) (ext_is K2.2 (Nat.zero_lt_succ _) (ext_is K0.2 (Nat.zero_lt_succ _) n_a0)))))
  refine gd_b (gX4_open _ _ _ ⟨K8.1.1, K8.1.2⟩ f66 h.2.2.2.2.2.2.2.1) (fun K10 => ?_)
  have f11 := (ext_is K10.2 (Nat.zero_lt_succ _) (ext_is K8.2 (Nat.zero_lt_succ _) (ext_is K6.2 (Nat.zero_lt_succ _) (ext_is K4.2 (Nat.zero_lt_succ _) (ext_is K2.2 (Nat.zero_lt_succ _) (ext_is K0.2 (Nat.zero_lt_succ _) n_a0))))))
  refine gd_c f11 ?_
  have f65 := (ext_is K10.2 (Nat.zero_lt_succ _) (ext_is K8.2 (Nat.zero_lt_succ _) (ext_is K6.2 (Nat.zero_lt_succ _) (ext_is K4.2 (Nat.zero_lt_succ _) (ext_is K2.2 (Nat.zero_lt_succ _) (ext_is K0.2 (Nat.zero_lt_succ _) n_a0))))))
  refine gd_b (gX4_string _ _ _ _ ⟨K10.1.1, K10.1.2⟩ f65 h.2.2.2.2.2.2.2.2.1 h.2.2.2.2.2.2.2.2.2.1) (fun K12 => ?_)
  have f13 := (ext_is K12.2 (Nat.zero_lt_succ _) (ext_is K10.2 (Nat.zero_lt_succ _) (ext_is K8.2 (Nat.zero_lt_succ _) (ext_is K6.2 (Nat.zero_lt_succ _) (ext_is K4.2 (Nat.zero_lt_succ _) (ext_is K2.2 (Nat.zero_lt_succ _) (ext_is K0.2 (Nat.zero_lt_succ _) n_a0)))))))
  refine gd_c f13 ?_
  refine gd_b (gX4_lines _ _ _ _ _ h.2.2.2.2.2.2.2.2.2.2.1) (fun K14 => ?_)
  have f15 := (tC_38 K14.1.1)
  refine gd_c f15 ?_
  have f16 := (tC_38 K14.1.1)
  refine gd_c f16 ?_
  have f17 := (ext_is K14.2 (Nat.zero_lt_succ _) (ext_is K12.2 (Nat.zero_lt_succ _) (ext_is K10.2 (Nat.zero_lt_succ _) (ext_is K8.2 (Nat.zero_lt_succ _) (ext_is K6.2 (Nat.zero_lt_succ _) (ext_is K4.2 (Nat.zero_lt_succ _) (ext_is K2.2 (Nat.zero_lt_succ _) (ext_is K0.2 (Nat.zero_lt_succ _) n_a0))))))))
  refine gd_c f17 ?_
  have f64 := (ext_is K14.2 (Nat.zero_lt_succ _) (ext_is K12.2 (Nat.zero_lt_succ _) (ext_is K10.2 (Nat.zero_lt_succ _) (ext_is K8.2 (Nat.zero_lt_succ _) (ext_is K6.2 (Nat.zero_lt_succ _) (ext_is K4.2 (Nat.zero_lt_succ _) (ext_is K2.2 (Nat.zero_lt_succ _) (ext_is K0.2 (Nat.zero_lt_succ _) n_a0))))))))
  refine gd_b (gX4_window _ _ _ _ ⟨K14.1.1, K14.1.2⟩ f64 h.2.2.2.2.2.2.2.2.2.2.2.1) (fun K18 => ?_)
  have f19 := (ext_is K18.2 (Nat.zero_lt_succ _) (ext_is K14.2 (Nat.zero_lt_succ _) (ext_is K12.2 (Nat.zero_lt_succ _) (ext_is K10.2 (Nat.zero_lt_succ _) (ext_is K8.2 (Nat.zero_lt_succ _) (ext_is K6.2 (Nat.zero_lt_succ _) (ext_is K4.2 (Nat.zero_lt_succ _) (ext_is K2.2 (Nat.zero_lt_succ _) (ext_is K0.2 (Nat.zero_lt_succ _) n_a0)))))))))
  refine gd_c f19 ?_
  have f20 := (tN_56 K18.1.1 (ext_is K18.2 (Nat.zero_lt_succ _) (ext_is K14.2 (Nat.zero_lt_succ _) (ext_is K12.2 (Nat.zero_lt_succ _) (ext_is K10.2 (Nat.zero_lt_succ _) (ext_is K8.2 (Nat.zero_lt_succ _) (ext_is K6.2 (Nat.zero_lt_succ _) (ext_is K4.2 (Nat.zero_lt_succ _) (ext_is K2.2 (Nat.zero_lt_succ _) (ext_is K0.2 (Nat.zero_lt_succ _) n_a0))))))))))
  refine gd_c f20 ?_
  have f63 := (tN_56 K18.1.1 (ext_is K18.2 (Nat.zero_lt_succ _) (ext_is K14.2 (Nat.zero_lt_succ _) (ext_is K12.2 (Nat.zero_lt_succ _) (ext_is K10.2 (Nat.zero_lt_succ _) (ext_is K8.2 (Nat.zero_lt_succ _) (ext_is K6.2 (Nat.zero_lt_succ _) (ext_is K4.2 (Nat.zero_lt_succ _) (ext_is K2.2 (Nat.zero_lt_succ _) (ext_is K0.2 (Nat.zero_lt_succ _) n_a0))))))))))
  refine gd_b (gX5_close _ _ ⟨K18.1.1, K18.1.2⟩ f63 h.2.2.2.2.2.2.2.2.2.2.2.2.1) (fun K21 => ?_)
  have f22 := (ext_is K21.2 (Nat.zero_lt_succ _) (ext_is K18.2 (Nat.zero_lt_succ _) (ext_is K14.2 (Nat.zero_lt_succ _) (ext_is K12.2 (Nat.zero_lt_succ _) (ext_is K10.2 (Nat.zero_lt_succ _) (ext_is K8.2 (Nat.zero_lt_succ _) (ext_is K6.2 (Nat.zero_lt_succ _) (ext_is K4.2 (Nat.zero_lt_succ _) (ext_is K2.2 (Nat.zero_lt_succ _) (ext_is K0.2 (Nat.zero_lt_succ _) n_a0))))))))))
  refine gd_c f22 ?_
  have f62 := (ext_is K21.2 (Nat.zero_lt_succ _) (ext_is K18.2 (Nat.zero_lt_succ _) (ext_is K14.2 (Nat.zero_lt_succ _) (ext_is K12.2 (Nat.zero_lt_succ _) (ext_is K10.2 (Nat.zero_lt_succ _) (ext_is K8.2 (Nat.zero_lt_succ _) (ext_is K6.2 (Nat.zero_lt_succ _) (ext_is K4.2 (Nat.zero_lt_succ _) (ext_is K2.2 (Nat.zero_lt_succ _) (ext_is K0.2 (Nat.zero_lt_succ _) n_a0))))))))))
  refine gd_b (gX4_open _ _ _ ⟨K21.1.1, K21.1.2⟩ f62 h.2.2.2.2.2.2.2.2.2.2.2.2.2.1) (fun K23 => ?_)
  have f24 := (ext_is K23.2 (Nat.zero_lt_succ _) (ext_is K21.2 (Nat.zero_lt_succ _) (ext_is K18.2 (Nat.zero_lt_succ _) (ext_is K14.2 (Nat.zero_lt_succ _) (ext_is K12.2 (Nat.zero_lt_succ _) (ext_is K10.2 (Nat.zero_lt_succ _) (ext_is K8.2 (Nat.zero_lt_succ _) (ext_is K6.2 (Nat.zero_lt_succ _) (ext_is K4.2 (Nat.zero_lt_succ _) (ext_is K2.2 (Nat.zero_lt_succ _) (ext_is K0.2 (Nat.zero_lt_succ _) n_a0)))))))))))
  refine gd_c f24 ?_
  have f61 := (ext_is K23.2 (Nat.zero_lt_succ _) (ext_is K21.2 (Nat.zero_lt_succ _) (ext_is K18.2 (Nat.zero_lt_succ _) (ext_is K14.2 (Nat.zero_lt_succ _) (ext_is K12.2 (Nat.zero_lt_succ _) (ext_is K10.2 (Nat.zero_lt_succ _) (ext_is K8.2 (Nat.zero_lt_succ _) (ext_is K6.2 (Nat.zero_lt_succ _) (ext_is K4.2 (Nat.zero_lt_succ _) (ext_is K2.2 (Nat.zero_lt_succ _) (ext_is K0.2 (Nat.zero_lt_succ _) n_a0)))))))))))
  refine gd_b (gX4_number _ _ _ _ ⟨K23.1.1, K23.1.2⟩ f61 h.2.2.2.2.2.2.2.2.2.2.2.2.2.2.1 h.2.2.2.2.2.2.2.2.2.2.2.2.2.2.2.1) (fun K25 => ?_)
  have f26 := (ext_is K25.2 (Nat.zero_lt_succ _) (ext_is K23.2 (Nat.zero_lt_succ _) (ext_is K21.2 (Nat.zero_lt_succ _) (ext_is K18.2 (Nat.zero_lt_succ _) (ext_is K14.2 (Nat.zero_lt_succ _) (ext_is K12.2 (Nat.zero_lt_succ _) (ext_is K10.2 (Nat.zero_lt_succ _) (ext_is K8.2 (Nat.zero_lt_succ _) (ext_is K6.2 (Nat.zero_lt_succ _) (ext_is K4.2 (Nat.zero_lt_succ _) (ext_is K2.2 (Nat.zero_lt_succ _) (ext_is K0.2 (Nat.zero_lt_succ _) n_a0))))))))))))
  refine gd_c f26 ?_
  have f60 := (ext_is K25.2 (Nat.zero_lt_succ _) (ext_is K23.2 (Nat.zero_lt_succ _) (ext_is K21.2 (Nat.zero_lt_succ _) (ext_is K18.2 (Nat.zero_lt_succ _) (ext_is K14.2 (Nat.zero_lt_succ _) (ext_is K12.2 (Nat.zero_lt_succ _) (ext_is K10.2 (Nat.zero_lt_succ _) (ext_is K8.2 (Nat.zero_lt_succ _) (ext_is K6.2 (Nat.zero_lt_succ _) (ext_is K4.2 (Nat.zero_lt_succ _) (ext_is K2.2 (Nat.zero_lt_succ _) (ext_is K0.2 (Nat.zero_lt_succ _) n_a0))))))))))))
  refine gd_b (gX4_nothing _ _ _ ⟨K25.1.1, K25.1.2⟩ f60 h.2.2.2.2.2.2.2.2.2.2.2.2.2.2.2.2.1 h.2.2.2.2.2.2.2.2.2.2.2.2.2.2.2.2.2.1) (fun K27 => ?_)
  have f28 := (ext_is K27.2 (Nat.zero_lt_succ _) (ext_is K25.2 (Nat.zero_lt_succ _) (ext_is K23.2 (Nat.zero_lt_succ _) (ext_is K21.2 (Nat.zero_lt_succ _) (ext_is K18.2 (Nat.zero_lt_succ _) (ext_is K14.2 (Nat.zero_lt_succ _) (ext_is K12.2 (Nat.zero_lt_succ _) (ext_is K10.2 (Nat.zero_lt_succ _) (ext_is K8.2 (Nat.zero_lt_succ _) (ext_is K6.2 (Nat.zero_lt_succ _) (ext_is K4.2 (Nat.zero_lt_succ _) (ext_is K2.2 (Nat.zero_lt_succ _) (ext_is K0.2 (Nat.zero_lt_succ _) n_a0)))))))))))))
  refine gd_c f28 ?_
  have f59 := (ext_is K27.2 (Nat.zero_lt_succ _) (ext_is K25.2 (Nat.zero_lt_succ _) (ext_is K23.2 (Nat.zero_lt_succ _) (ext_is K21.2 (Nat.zero_lt_succ _) (ext_is K18.2 (Nat.zero_lt_succ _) (ext_is K14.2 (Nat.zero_lt_succ _) (ext_is K12.2 (Nat.zero_lt_succ _) (ext_is K10.2 (Nat.zero_lt_succ _) (ext_is K8.2 (Nat.zero_lt_succ _) (ext_is K6.2 (Nat.zero_lt_succ _) (ext_is K4.2 (Nat.zero_lt_succ _) (ext_is K2.2 (Nat.zero_lt_succ _) (ext_is K0.2 (Nat.zero_lt_succ _) n_a0)))))))))))))
  refine gd_b (gX4_string _ _ _ _ ⟨K27.1.1, K27.1.2⟩ f59 h.2.2.2.2.2.2.2.2.2.2.2.2.2.2.2.2.2.2.1 h.2.2.2.2.2.2.2.2.2.2.2.2.2.2.2.2.2.2.2.1) (fun K29 => ?_)
  have f30 := (ext_is K29.2 (Nat.zero_lt_succ _) (ext_is K27.2 (Nat.zero_lt_succ _) (ext_is K25.2 (Nat.zero_lt_succ _) (ext_is K23.2 (Nat.zero_lt_succ _) (ext_is K21.2 (Nat.zero_lt_succ _) (ext_is K18.2 (Nat.zero_lt_succ _) (ext_is K14.2 (Nat.zero_lt_succ _) (ext_is K12.2 (Nat.zero_lt_succ _) (ext_is K10.2 (Nat.zero_lt_succ _) (ext_is K8.2 (Nat.zero_lt_succ _) (ext_is K6.2 (Nat.zero_lt_succ _) (ext_is K4.2 (Nat.zero_lt_succ _) (ext_is K2.2 (Nat.zero_lt_succ _) (ext_is K0.2 (Nat.zero_lt_succ _) n_a0))))))))))))))
  refine gd_c f30 ?_
  refine gd_b (gX4_lines _ _ _ _ _ h.2.2.2.2.2.2.2.2.2.2.2.2.2.2.2.2.2.2.2.2.1) (fun K31 => ?_)
  have f32 := (tC_39 K31.1.1)
  refine gd_c f32 ?_
  have f33 := (tC_39 K31.1.1)
  refine gd_c f33 ?_
  have f34 := (ext_is K31.2 (Nat.zero_lt_succ _) (ext_is K29.2 (Nat.zero_lt_succ _) (ext_is K27.2 (Nat.zero_lt_succ _) (ext_is K25.2 (Nat.zero_lt_succ _) (ext_is K23.2 (Nat.zero_lt_succ _) (ext_is K21.2 (Nat.zero_lt_succ _) (ext_is K18.2 (Nat.zero_lt_succ _) (ext_is K14.2 (Nat.zero_lt_succ _) (ext_is K12.2 (Nat.zero_lt_succ _) (ext_is K10.2 (Nat.zero_lt_succ _) (ext_is K8.2 (Nat.zero_lt_succ _) (ext_is K6.2 (Nat.zero_lt_succ _) (ext_is K4.2 (Nat.zero_lt_succ _) (ext_is K2.2 (Nat.zero_lt_succ _) (ext_is K0.2 (Nat.zero_lt_succ _) n_a0)))))))))))))))
  refine gd_c f34 ?_
  have f58 := (ext_is K31.2 (Nat.zero_lt_succ _) (ext_is K29.2 (Nat.zero_lt_succ _) (ext_is K27.2 (Nat.zero_lt_succ _) (ext_is K25.2 (Nat.zero_lt_succ _) (ext_is K23.2 (Nat.zero_lt_succ _) (ext_is K21.2 (Nat.zero_lt_succ _) (ext_is K18.2 (Nat.zero_lt_succ _) (ext_is K14.2 (Nat.zero_lt_succ _) (ext_is K12.2 (Nat.zero_lt_succ _) (ext_is K10.2 (Nat.zero_lt_succ _) (ext_is K8.2 (Nat.zero_lt_succ _) (ext_is K6.2 (Nat.zero_lt_succ _) (ext_is K4.2 (Nat.zero_lt_succ _) (ext_is K2.2 (Nat.zero_lt_succ _) (ext_is K0.2 (Nat.zero_lt_succ _) n_a0)))))))))))))))
  refine gd_b (gX4_window _ _ _ _ ⟨K31.1.1, K31.1.2⟩ f58 h.2.2.2.2.2.2.2.2.2.2.2.2.2.2.2.2.2.2.2.2.2.1) (fun K35 => ?_)
  have f36 := (ext_is K35.2 (Nat.zero_lt_succ _) (ext_is K31.2 (Nat.zero_lt_succ _) (ext_is K29.2 (Nat.zero_lt_succ _) (ext_is K27.2 (Nat.zero_lt_succ _) (ext_is K25.2 (Nat.zero_lt_succ _) (ext_is K23.2 (Nat.zero_lt_succ _) (ext_is K21.2 (Nat.zero_lt_succ _) (ext_is K18.2 (Nat.zero_lt_succ _) (ext_is K14.2 (Nat.zero_lt_succ _) (ext_is K12.2 (Nat.zero_lt_succ _) (ext_is K10.2 (Nat.zero_lt_succ _) (ext_is K8.2 (Nat.zero_lt_succ _) (ext_is K6.2 (Nat.zero_lt_succ _) (ext_is K4.2 (Nat.zero_lt_succ _) (ext_is K2.2 (Nat.zero_lt_succ _) (ext_is K0.2 (Nat.zero_lt_succ _) n_a0))))))))))))))))
  refine gd_c f36 ?_
  have f57 := (ext_is K35.2 (Nat.zero_lt_succ _) (ext_is K31.2 (Nat.zero_lt_succ _) (ext_is K29.2 (Nat.zero_lt_succ _) (ext_is K27.2 (Nat.zero_lt_succ _) (ext_is K25.2 (Nat.zero_lt_succ _) (ext_is K23.2 (Nat.zero_lt_succ _) (ext_is K21.2 (Nat.zero_lt_succ _) (ext_is K18.2 (Nat.zero_lt_succ _) (ext_is K14.2 (Nat.zero_lt_succ _) (ext_is K12.2 (Nat.zero_lt_succ _) (ext_is K10.2 (Nat.zero_lt_succ _) (ext_is K8.2 (Nat.zero_lt_succ _) (ext_is K6.2 (Nat.zero_lt_succ _) (ext_is K4.2 (Nat.zero_lt_succ _) (ext_is K2.2 (Nat.zero_lt_succ _) (ext_is K0.2 (Nat.zero_lt_succ _) n_a0))))))))))))))))
  refine gd_b (gX4_number _ _ _ _ ⟨K35.1.1, K35.1.2⟩ f57 h.2.2.2.2.2.2.2.2.2.2.2.2.2.2.2.2.2.2.2.2.2.2.1 h.2.2.2.2.2.2.2.2.2.2.2.2.2.2.2.2.2.2.2.2.2.2.2.1) (fun K37 => ?_)
  have f38 := (ext_is K37.2 (Nat.zero_lt_succ _) (ext_is K35.2 (Nat.zero_lt_succ _) (ext_is K31.2 (Nat.zero_lt_succ _) (ext_is K29.2 (Nat.zero_lt_succ _) (ext_is K27.2 (Nat.zero_lt_succ _) (ext_is K25.2 (Nat.zero_lt_succ _) (ext_is K23.2 (Nat.zero_lt_succ _) (ext_is K21.2 (Nat.zero_lt_succ _) (ext_is K18.2 (Nat.zero_lt_succ _) (ext_is K14.2 (Nat.zero_lt_succ _) (ext_is K12.2 (Nat.zero_lt_succ _) (ext_is K10.2 (Nat.zero_lt_succ _) (ext_is K8.2 (Nat.zero_lt_succ _) (ext_is K6.2 (Nat.zero_lt_succ _) (ext_is K4.2 (Nat.zero_lt_succ _) (ext_is K2.2 (Nat.zero_lt_succ _) (ext_is K0.2 (Nat.zero_lt_succ _) n_a0)))))))))))))))))
  refine gd_c f38 ?_
  have f56 := (ext_is K37.2 (Nat.zero_lt_succ _) (ext_is K35.2 (Nat.zero_lt_succ _) (ext_is K31.2 (Nat.zero_lt_succ _) (ext_is K29.2 (Nat.zero_lt_succ _) (ext_is K27.2 (Nat.zero_lt_succ _) (ext_is K25.2 (Nat.zero_lt_succ _) (ext_is K23.2 (Nat.zero_lt_succ _) (ext_is K21.2 (Nat.zero_lt_succ _) (ext_is K18.2 (Nat.zero_lt_succ _) (ext_is K14.2 (Nat.zero_lt_succ _) (ext_is K12.2 (Nat.zero_lt_succ _) (ext_is K10.2 (Nat.zero_lt_succ _) (ext_is K8.2 (Nat.zero_lt_succ _) (ext_is K6.2 (Nat.zero_lt_succ _) (ext_is K4.2 (Nat.zero_lt_succ _) (ext_is K2.2 (Nat.zero_lt_succ _) (ext_is K0.2 (Nat.zero_lt_succ _) n_a0)))))))))))))))))
  refine gd_b (gX4_number _ _ _ _ ⟨K37.1.1, K37.1.2⟩ f56 h.2.2.2.2.2.2.2.2.2.2.2.2.2.2.2.2.2.2.2.2.2.2.2.2.1 h.2.2.2.2.2.2.2.2.2.2.2.2.2.2.2.2.2.2.2.2.2.2.2.2.2.1) (fun K39 => ?_)
  have f40 := (ext_is K39.2 (Nat.zero_lt_succ _) (ext_is K37.2 (Nat.zero_lt_succ _) (ext_is K35.2 (Nat.zero_lt_succ _) (ext_is K31.2 (Nat.zero_lt_succ _) (ext_is K29.2 (Nat.zero_lt_succ _) (ext_is K27.2 (Nat.zero_lt_succ _) (ext_is K25.2 (Nat.zero_lt_succ _) (ext_is K23.2 (Nat.zero_lt_succ _) (ext_is K21.2 (Nat.zero_lt_succ _) (ext_is K18.2 (Nat.zero_lt_succ _) (ext_is K14.2 (Nat.zero_lt_succ _) (ext_is K12.2 (Nat.zero_lt_succ _) (ext_is K10.2 (Nat.zero_lt_succ _) (ext_is K8.2 (Nat.zero_lt_succ _) (ext_is K6.2 (Nat.zero_lt_succ _) (ext_is K4.2 (Nat.zero_lt_succ _) (ext_is K2.2 (Nat.zero_lt_succ _) (ext_is K0.2 (Nat.zero_lt_succ _) n_a0))))))))))))))))))
  refine gd_c f40 ?_
  have f41 := (tN_56 K39.1.1 (ext_is K39.2 (Nat.zero_lt_succ _) (ext_is K37.2 (Nat.zero_lt_succ _) (ext_is K35.2 (Nat.zero_lt_succ _) (ext_is K31.2 (Nat.zero_lt_succ _) (ext_is K29.2 (Nat.zero_lt_succ _) (ext_is K27.2 (Nat.zero_lt_succ _) (ext_is K25.2 (Nat.zero_lt_succ _) (ext_is K23.2 (Nat.zero_lt_succ _) (ext_is K21.2 (Nat.zero_lt_succ _) (ext_is K18.2 (Nat.zero_lt_succ _) (ext_is K14.2 (Nat.zero_lt_succ _) (ext_is K12.2 (Nat.zero_lt_succ _) (ext_is K10.2 (Nat.zero_lt_succ _) (ext_is K8.2 (Nat.zero_lt_succ _) (ext_is K6.2 (Nat.zero_lt_succ _) (ext_is K4.2 (Nat.zero_lt_succ _) (ext_is K2.2 (Nat.zero_lt_succ _) (ext_is K0.2 (Nat.zero_lt_succ _) n_a0)))))))))))))))))))
  refine gd_c f41 ?_
  have f55 := (tN_56 K39.1.1 (ext_is K39.2 (Nat.zero_lt_succ _) (ext_is K37.2 (Nat.zero_lt_succ _) (ext_is K35.2 (Nat.zero_lt_succ _) (ext_is K31.2 (Nat.zero_lt_succ _) (ext_is K29.2 (Nat.zero_lt_succ _) (ext_is K27.2 (Nat.zero_lt_succ _) (ext_is K25.2 (Nat.zero_lt_succ _) (ext_is K23.2 (Nat.zero_lt_succ _) (ext_is K21.2 (Nat.zero_lt_succ _) (ext_is K18.2 (Nat.zero_lt_succ _) (ext_is K14.2 (Nat.zero_lt_succ _) (ext_is K12.2 (Nat.zero_lt_succ _) (ext_is K10.2 (Nat.zero_lt_succ _) (ext_is K8.2 (Nat.zero_lt_succ _) (ext_is K6.2 (Nat.zero_lt_succ _) (ext_is K4.2 (Nat.zero_lt_succ _) (ext_is K2.2 (Nat.zero_lt_succ _) (ext_is K0.2 (Nat.zero_lt_succ _) n_a0)))))))))))))))))))
  refine gd_b (gX5_close _ _ ⟨K39.1.1, K39.1.2⟩ f55 h.2.2.2.2.2.2.2.2.2.2.2.2.2.2.2.2.2.2.2.2.2.2.2.2.2.2.1) (fun K42 => ?_)
  have f43 := (ext_is K42.2 (Nat.zero_lt_succ _) (ext_is K39.2 (Nat.zero_lt_succ _) (ext_is K37.2 (Nat.zero_lt_succ _) (ext_is K35.2 (Nat.zero_lt_succ _) (ext_is K31.2 (Nat.zero_lt_succ _) (ext_is K29.2 (Nat.zero_lt_succ _) (ext_is K27.2 (Nat.zero_lt_succ _) (ext_is K25.2 (Nat.zero_lt_succ _) (ext_is K23.2 (Nat.zero_lt_succ _) (ext_is K21.2 (Nat.zero_lt_succ _) (ext_is K18.2 (Nat.zero_lt_succ _) (ext_is K14.2 (Nat.zero_lt_succ _) (ext_is K12.2 (Nat.zero_lt_succ _) (ext_is K10.2 (Nat.zero_lt_succ _) (ext_is K8.2 (Nat.zero_lt_succ _) (ext_is K6.2 (Nat.zero_lt_succ _) (ext_is K4.2 (Nat.zero_lt_succ _) (ext_is K2.2 (Nat.zero_lt_succ _) (ext_is K0.2 (Nat.zero_lt_succ _) n_a0)))))))))))))))))))
  refine gd_c f43 ?_
  have f53 := (ext_is K42.2 (Nat.zero_lt_succ _) (ext_is K39.2 (Nat.zero_lt_succ _) (ext_is K37.2 (Nat.zero_lt_succ _) (ext_is K35.2 (Nat.zero_lt_succ _) (ext_is K31.2 (Nat.zero_lt_succ _) (ext_is K29.2 (Nat.zero_lt_succ _) (ext_is K27.2 (Nat.zero_lt_succ _) (ext_is K25.2 (Nat.zero_lt_succ _) (ext_is K23.2 (Nat.zero_lt_succ _) (ext_is K21.2 (Nat.zero_lt_succ _) (ext_is K18.2 (Nat.zero_lt_succ _) (ext_is K14.2 (Nat.zero_lt_succ _) (ext_is K12.2 (Nat.zero_lt_succ _) (ext_is K10.2 (Nat.zero_lt_succ _) (ext_is K8.2 (Nat.zero_lt_succ _) (ext_is K6.2 (Nat.zero_lt_succ _) (ext_is K4.2 (Nat.zero_lt_succ _) (ext_is K2.2 (Nat.zero_lt_succ _) (ext_is K0.2 (Nat.zero_lt_succ _) n_a0)))))))))))))))))))
  have f54 := (tC_40 K42.1.1)
  refine gd_b (gX4_device _ _ _ _ _ _ _ ⟨K42.1.1, K42.1.2⟩ f53 f54 h.2.2.2.2.2.2.2.2.2.2.2.2.2.2.2.2.2.2.2.2.2.2.2.2.2.2.2.1) (fun K44 => ?_)
  have f45 := (ext_is K44.2 (Nat.zero_lt_succ _) (ext_is K42.2 (Nat.zero_lt_succ _) (ext_is K39.2 (Nat.zero_lt_succ _) (ext_is K37.2 (Nat.zero_lt_succ _) (ext_is K35.2 (Nat.zero_lt_succ _) (ext_is K31.2 (Nat.zero_lt_succ _) (ext_is K29.2 (Nat.zero_lt_succ _) (ext_is K27.2 (Nat.zero_lt_succ _) (ext_is K25.2 (Nat.zero_lt_succ _) (ext_is K23.2 (Nat.zero_lt_succ _) (ext_is K21.2 (Nat.zero_lt_succ _) (ext_is K18.2 (Nat.zero_lt_succ _) (ext_is K14.2 (Nat.zero_lt_succ _) (ext_is K12.2 (Nat.zero_lt_succ _) (ext_is K10.2 (Nat.zero_lt_succ _) (ext_is K8.2 (Nat.zero_lt_succ _) (ext_is K6.2 (Nat.zero_lt_succ _) (ext_is K4.2 (Nat.zero_lt_succ _) (ext_is K2.2 (Nat.zero_lt_succ _) (ext_is K0.2 (Nat.zero_lt_succ _) n_a0))))))))))))))))))))
  refine gd_c f45 ?_
  have f51 := (ext_is K44.2 (Nat.zero_lt_succ _) (ext_is K42.2 (Nat.zero_lt_succ _) (ext_is K39.2 (Nat.zero_lt_succ _) (ext_is K37.2 (Nat.zero_lt_succ _) (ext_is K35.2 (Nat.zero_lt_succ _) (ext_is K31.2 (Nat.zero_lt_succ _) (ext_is K29.2 (Nat.zero_lt_succ _) (ext_is K27.2 (Nat.zero_lt_succ _) (ext_is K25.2 (Nat.zero_lt_succ _) (ext_is K23.2 (Nat.zero_lt_succ _) (ext_is K21.2 (Nat.zero_lt_succ _) (ext_is K18.2 (Nat.zero_lt_succ _) (ext_is K14.2 (Nat.zero_lt_succ _) (ext_is K12.2 (Nat.zero_lt_succ _) (ext_is K10.2 (Nat.zero_lt_succ _) (ext_is K8.2 (Nat.zero_lt_succ _) (ext_is K6.2 (Nat.zero_lt_succ _) (ext_is K4.2 (Nat.zero_lt_succ _) (ext_is K2.2 (Nat.zero_lt_succ _) (ext_is K0.2 (Nat.zero_lt_succ _) n_a0))))))))))))))))))))
  have f52 := (tC_41 K44.1.1)
  refine gd_b (gX4_device _ _ _ _ _ _ _ ⟨K44.1.1, K44.1.2⟩ f51 f52 h.2.2.2.2.2.2.2.2.2.2.2.2.2.2.2.2.2.2.2.2.2.2.2.2.2.2.2.2.1) (fun K46 => ?_)
  have f47 := (ext_is K46.2 (Nat.zero_lt_succ _) (ext_is K44.2 (Nat.zero_lt_succ _) (ext_is K42.2 (Nat.zero_lt_succ _) (ext_is K39.2 (Nat.zero_lt_succ _) (ext_is K37.2 (Nat.zero_lt_succ _) (ext_is K35.2 (Nat.zero_lt_succ _) (ext_is K31.2 (Nat.zero_lt_succ _) (ext_is K29.2 (Nat.zero_lt_succ _) (ext_is K27.2 (Nat.zero_lt_succ _) (ext_is K25.2 (Nat.zero_lt_succ _) (ext_is K23.2 (Nat.zero_lt_succ _) (ext_is K21.2 (Nat.zero_lt_succ _) (ext_is K18.2 (Nat.zero_lt_succ _) (ext_is K14.2 (Nat.zero_lt_succ _) (ext_is K12.2 (Nat.zero_lt_succ _) (ext_is K10.2 (Nat.zero_lt_succ _) (ext_is K8.2 (Nat.zero_lt_succ _) (ext_is K6.2 (Nat.zero_lt_succ _) (ext_is K4.2 (Nat.zero_lt_succ _) (ext_is K2.2 (Nat.zero_lt_succ _) (ext_is K0.2 (Nat.zero_lt_succ _) n_a0)))))))))))))))))))))
  refine gd_c f47 ?_
  have f48 := (tN_56 K46.1.1 (ext_is K46.2 (Nat.zero_lt_succ _) (ext_is K44.2 (Nat.zero_lt_succ _) (ext_is K42.2 (Nat.zero_lt_succ _) (ext_is K39.2 (Nat.zero_lt_succ _) (ext_is K37.2 (Nat.zero_lt_succ _) (ext_is K35.2 (Nat.zero_lt_succ _) (ext_is K31.2 (Nat.zero_lt_succ _) (ext_is K29.2 (Nat.zero_lt_succ _) (ext_is K27.2 (Nat.zero_lt_succ _) (ext_is K25.2 (Nat.zero_lt_succ _) (ext_is K23.2 (Nat.zero_lt_succ _) (ext_is K21.2 (Nat.zero_lt_succ _) (ext_is K18.2 (Nat.zero_lt_succ _) (ext_is K14.2 (Nat.zero_lt_succ _) (ext_is K12.2 (Nat.zero_lt_succ _) (ext_is K10.2 (Nat.zero_lt_succ _) (ext_is K8.2 (Nat.zero_lt_succ _) (ext_is K6.2 (Nat.zero_lt_succ _) (ext_is K4.2 (Nat.zero_lt_succ _) (ext_is K2.2 (Nat.zero_lt_succ _) (ext_is K0.2 (Nat.zero_lt_succ _) n_a0))))))))))))))))))))))
  refine gd_c f48 ?_
  have f50 := (tN_56 K46.1.1 (ext_is K46.2 (Nat.zero_lt_succ _) (ext_is K44.2 (Nat.zero_lt_succ _) (ext_is K42.2 (Nat.zero_lt_succ _) (ext_is K39.2 (Nat.zero_lt_succ _) (ext_is K37.2 (Nat.zero_lt_succ _) (ext_is K35.2 (Nat.zero_lt_succ _) (ext_is K31.2 (Nat.zero_lt_succ _) (ext_is K29.2 (Nat.zero_lt_succ _) (ext_is K27.2 (Nat.zero_lt_succ _) (ext_is K25.2 (Nat.zero_lt_succ _) (ext_is K23.2 (Nat.zero_lt_succ _) (ext_is K21.2 (Nat.zero_lt_succ _) (ext_is K18.2 (Nat.zero_lt_succ _) (ext_is K14.2 (Nat.zero_lt_succ _) (ext_is K12.2 (Nat.zero_lt_succ _) (ext_is K10.2 (Nat.zero_lt_succ _) (ext_is K8.2 (Nat.zero_lt_succ _) (ext_is K6.2 (Nat.zero_lt_succ _) (ext_is K4.2 (Nat.zero_lt_succ _) (ext_is K2.2 (Nat.zero_lt_succ _) (ext_is K0.2 (Nat.zero_lt_succ _) n_a0))))))))))))))))))))))
  refine gd_b (gX5_close _ _ ⟨K46.1.1, K46.1.2⟩ f50 h.2.2.2.2.2.2.2.2.2.2.2.2.2.2.2.2.2.2.2.2.2.2.2.2.2.2.2.2.2.1) (fun K49 => ?_)
  exact ⟨rfl, ⟨K49.1.1, K49.1.2⟩, (ext_tr K0.2 (ext_tr K2.2 (ext_tr K4.2 (ext_tr K6.2 (ext_tr K8.2 (ext_tr K10.2 (ext_tr K12.2 (ext_tr K14.2 (ext_tr K18.2 (ext_tr K21.2 (ext_tr K23.2 (ext_tr K25.2 (ext_tr K27.2 (ext_tr K29.2 (ext_tr K31.2 (ext_tr K35.2 (ext_tr K37.2 (ext_tr K39.2 (ext_tr K42.2 (ext_tr K44.2 (ext_tr K46.2 K49.2)))))))))))))))))))))⟩
noncomputable def GX4_devices (a0 : Nat) (a1 : Int32) (M : FM) : FM := GX4_devices_0 a0 a1 M
def HX4_devices (a0 : Nat) (a1 : Int32) (M : FM) : Prop := HX4_devices_0 a0 a1 M
theorem gX4_devices (a0 : Nat) (a1 : Int32) (M : FM) (T : Ty M) (n_a0 : fm_is M 21 21 a0 = true) (h : HX4_devices a0 a1 M) : gd (FX4_devices fN a0 a1 M) (GX4_devices a0 a1 M) (OkV M) := gX4_devices_0 a0 a1 M T n_a0 h
def kX3_fillUp (k0 : Nat → FM → Option (FM)) : (Nat × FM) ⊕ (FM) → Option (FM)
  | .inl (v0, M') => k0 v0 M'
  | .inr (r) => some r
def pX3_fillUp (M : FM) : (Nat × FM) ⊕ (FM) → Prop
  | .inl (_, M') => OkV M M'
  | .inr (r) => OkV M r
theorem pX3_fillUp_t {M M1 : FM} (e : Ext M M1) : ∀ y, pX3_fillUp M1 y → pX3_fillUp M y
  | .inl (_, _), h => ⟨h.1, ext_tr e h.2⟩
  | .inr (r), h => ⟨h.1, ext_tr e h.2⟩
noncomputable def GX3_fillUp_0 (a0 : Nat) (M : FM) : (Nat × FM) ⊕ (FM) :=
  fi (((M.1 262 a0 0) &&& (Int32.ofInt 3)) = 0) (
    (.inr M)) (
    let M1 : FM := GX3_add a0 (Int32.ofInt 0) M
    (.inl (a0, M1)))
def HX3_fillUp_0 (a0 : Nat) (M : FM) : Prop := ((((M.1 262 a0 0) &&& (Int32.ofInt 3)) = 0 → True) ∧ (¬ (((M.1 262 a0 0) &&& (Int32.ofInt 3)) = 0) → (HX3_add a0 (Int32.ofInt 0) M ∧ True)))
theorem gX3_fillUp_0 (k0 : Nat → FM → Option (FM)) (a0 : Nat) (M : FM) (T : Ty M) (n_a0 : fm_is M 86 86 a0 = true) (h : HX3_fillUp_0 a0 M) : gs (FX3_fillUp_0 fN k0 a0 M) (GX3_fillUp_0 a0 M) (kX3_fillUp k0) (pX3_fillUp M) := by
  delta FX3_fillUp_0 BX3_fillUp_0
  refine gs_c n_a0 ?_
  refine gs_fi (fun c0_0 => ?_) (fun c0_0 => ?_)
  · exact And.intro rfl (And.intro (And.intro T.1 T.2) ((ext_r _)))
  · refine gs_c n_a0 ?_
    refine gs_b (gX3_add _ _ _ ⟨T.1, T.2⟩ n_a0 (h.2 c0_0).1) (fun K1 => ?_)
    exact And.intro rfl (And.intro (And.intro K1.1.1 K1.1.2) K1.2)
noncomputable def GX3_fillUp (a0 : Nat) (M : FM) : FM := (FX3_fillUp fN a0 M).getD M
def HX3_fillUp (a0 : Nat) (M : FM) : Prop := ∃ r, FX3_fillUp fN a0 M = some r ∧ OkV M r
theorem gX3_fillUp (a0 : Nat) (M : FM) (h : HX3_fillUp a0 M) : gd (FX3_fillUp fN a0 M) (GX3_fillUp a0 M) (OkV M) := gd_op h
noncomputable def GX3_get_0 (a0 : Nat) (a1 : Int32) (M : FM) : Int32 × FM :=
  let x1 : Nat := (M.2.2 261 a0 0)
  (((M.1 3 x1 a1.toNatClampNeg) &&& (Int32.ofInt 255)), M)
def HX3_get_0 (a0 : Nat) (a1 : Int32) (M : FM) : Prop := let x1 : Nat := (M.2.2 261 a0 0); (fm_in M x1 a1 = true ∧ True)
theorem gX3_get_0 (a0 : Nat) (a1 : Int32) (M : FM) (T : Ty M) (n_a0 : fm_is M 86 86 a0 = true) (h : HX3_get_0 a0 a1 M) : gd (FX3_get_0 a0 a1 M) (GX3_get_0 a0 a1 M) (OkR M) := by
  delta FX3_get_0 BX3_get_0
  refine gd_c n_a0 ?_
  have f0 := (tN_261 T.1 n_a0)
  refine gd_c ⟨f0, h.1⟩ ?_
  exact ⟨rfl, ⟨T.1, T.2⟩, (ext_r _)⟩
noncomputable def GX3_get (a0 : Nat) (a1 : Int32) (M : FM) : Int32 × FM := GX3_get_0 a0 a1 M
def HX3_get (a0 : Nat) (a1 : Int32) (M : FM) : Prop := HX3_get_0 a0 a1 M
theorem gX3_get (a0 : Nat) (a1 : Int32) (M : FM) (T : Ty M) (n_a0 : fm_is M 86 86 a0 = true) (h : HX3_get a0 a1 M) : gd (FX3_get a0 a1 M) (GX3_get a0 a1 M) (OkR M) := gX3_get_0 a0 a1 M T n_a0 h
def kX3_isSame (k3 : Nat → Int32 → Nat → Int32 → Int32 → Int32 → FM → Option (Int32 × FM)) : (Nat × Int32 × Nat × Int32 × Int32 × Int32 × FM) ⊕ (Int32 × FM) → Option (Int32 × FM)
  | .inl (v0, v1, v2, v3, v4, v5, M') => k3 v0 v1 v2 v3 v4 v5 M'
  | .inr (r) => some r
def pX3_isSame (M : FM) : (Nat × Int32 × Nat × Int32 × Int32 × Int32 × FM) ⊕ (Int32 × FM) → Prop
  | .inl (_, _, _, _, _, _, M') => OkV M M'
  | .inr (r) => OkZ M r
theorem pX3_isSame_t {M M1 : FM} (e : Ext M M1) : ∀ y, pX3_isSame M1 y → pX3_isSame M y
  | .inl (_, _, _, _, _, _, _), h => ⟨h.1, ext_tr e h.2⟩
  | .inr (r), h => ⟨h.1, ext_tr e h.2.1, h.2.2⟩
noncomputable def GX3_isSame_0 (a0 : Nat) (a1 : Int32) (a2 : Nat) (a3 : Int32) (a4 : Int32) (M : FM) : (Nat × Int32 × Nat × Int32 × Int32 × Int32 × FM) ⊕ (Int32 × FM) :=
  (.inl (a0, a1, a2, a3, a4, (Int32.ofInt 0), M))
theorem gX3_isSame_0 (k3 : Nat → Int32 → Nat → Int32 → Int32 → Int32 → FM → Option (Int32 × FM)) (a0 : Nat) (a1 : Int32) (a2 : Nat) (a3 : Int32) (a4 : Int32) (M : FM) (T : Ty M) : gs (FX3_isSame_0 fN k3 a0 a1 a2 a3 a4 M) (GX3_isSame_0 a0 a1 a2 a3 a4 M) (kX3_isSame k3) (pX3_isSame M) := by
  delta FX3_isSame_0 BX3_isSame_0
  exact And.intro rfl (And.intro (And.intro T.1 T.2) ((ext_r _)))
noncomputable def GX3_isSame_3 (a0 : Nat) (a1 : Int32) (a2 : Nat) (a3 : Int32) (a4 : Int32) (a5 : Int32) (M : FM) : (Nat × Int32 × Nat × Int32 × Int32 × Int32 × FM) ⊕ (Int32 × FM) :=
  fi (a4 ≤ a5) (
    (.inr ((Int32.ofInt 1), M))) (
    let x1 : Int32 := (a1 + a5)
    let x2 : Nat := (M.2.2 261 a0 0)
    let x3 : Int32 := (a3 + a5)
    let x4 : Nat := (M.2.2 261 a2 0)
    fi ((M.1 3 x2 x1.toNatClampNeg) = (M.1 3 x4 x3.toNatClampNeg)) (
      let x5 : Int32 := a5 + (Int32.ofInt 1)
      (.inl (a0, a1, a2, a3, a4, x5, M))) (
      (.inr ((Int32.ofInt 0), M))))
def HX3_isSame_3 (a0 : Nat) (a1 : Int32) (a2 : Nat) (a3 : Int32) (a4 : Int32) (a5 : Int32) (M : FM) : Prop := ((a4 ≤ a5 → True) ∧ (¬ (a4 ≤ a5) → let x1 : Int32 := (a1 + a5); let x2 : Nat := (M.2.2 261 a0 0); (fm_in M x2 x1 = true ∧ let x3 : Int32 := (a3 + a5); let x4 : Nat := (M.2.2 261 a2 0); (fm_in M x4 x3 = true ∧ True))))
theorem gX3_isSame_3 (k3 : Nat → Int32 → Nat → Int32 → Int32 → Int32 → FM → Option (Int32 × FM)) (a0 : Nat) (a1 : Int32) (a2 : Nat) (a3 : Int32) (a4 : Int32) (a5 : Int32) (M : FM) (T : Ty M) (n_a0 : fm_is M 86 86 a0 = true) (n_a2 : fm_is M 86 86 a2 = true) (h : HX3_isSame_3 a0 a1 a2 a3 a4 a5 M) : gs (FX3_isSame_3 fN k3 a0 a1 a2 a3 a4 a5 M) (GX3_isSame_3 a0 a1 a2 a3 a4 a5 M) (kX3_isSame k3) (pX3_isSame M) := by
  delta FX3_isSame_3 BX3_isSame_3
  refine gs_fi (fun c0_0 => ?_) (fun c0_0 => ?_)
  · exact gs_z fz_1 ⟨T.1, T.2⟩ (ext_r _) rfl (fun h => h)
  · refine gs_c n_a0 ?_
    have f3 := (tN_261 T.1 n_a0)
    refine gs_c ⟨f3, (h.2 c0_0).1⟩ ?_
    refine gs_c n_a2 ?_
    have f2 := (tN_261 T.1 n_a2)
    refine gs_c ⟨f2, (h.2 c0_0).2.1⟩ ?_
    refine gs_fi (fun c1_0 => ?_) (fun c1_0 => ?_)
    · exact And.intro rfl (And.intro (And.intro T.1 T.2) ((ext_r _)))
    · exact gs_z fz_0 ⟨T.1, T.2⟩ (ext_r _) rfl (fun h => h)
noncomputable def GX3_isSame (a0 : Nat) (a1 : Int32) (a2 : Nat) (a3 : Int32) (a4 : Int32) (M : FM) : Int32 × FM := (FX3_isSame fN a0 a1 a2 a3 a4 M).getD (0, M)
def HX3_isSame (a0 : Nat) (a1 : Int32) (a2 : Nat) (a3 : Int32) (a4 : Int32) (M : FM) : Prop := ∃ r, FX3_isSame fN a0 a1 a2 a3 a4 M = some r ∧ OkZ M r
theorem gX3_isSame (a0 : Nat) (a1 : Int32) (a2 : Nat) (a3 : Int32) (a4 : Int32) (M : FM) (h : HX3_isSame a0 a1 a2 a3 a4 M) : gd (FX3_isSame fN a0 a1 a2 a3 a4 M) (GX3_isSame a0 a1 a2 a3 a4 M) (OkZ M) := gd_op h
def kX9_nameAt (k2 : Nat → Nat → Nat → Int32 → FM → Option (Int32 × FM)) (k16 : Nat → Nat → Nat → Int32 → Int32 → FM → Option (Int32 × FM)) : (Nat × Nat × Nat × Int32 × FM) ⊕ (Nat × Nat × Nat × Int32 × Int32 × FM) ⊕ (Int32 × FM) → Option (Int32 × FM)
  | .inl (v0, v1, v2, v3, M') => k2 v0 v1 v2 v3 M'
  | .inr (.inl (v0, v1, v2, v3, v4, M')) => k16 v0 v1 v2 v3 v4 M'
  | .inr (.inr (r)) => some r
def pX9_nameAt (M : FM) : (Nat × Nat × Nat × Int32 × FM) ⊕ (Nat × Nat × Nat × Int32 × Int32 × FM) ⊕ (Int32 × FM) → Prop
  | .inl (_, _, _, _, M') => OkV M M'
  | .inr (.inl (_, _, _, _, _, M')) => OkV M M'
  | .inr (.inr (r)) => OkR M r
theorem pX9_nameAt_t {M M1 : FM} (e : Ext M M1) : ∀ y, pX9_nameAt M1 y → pX9_nameAt M y
  | .inl (_, _, _, _, _), h => ⟨h.1, ext_tr e h.2⟩
  | .inr (.inl (_, _, _, _, _, _)), h => ⟨h.1, ext_tr e h.2⟩
  | .inr (.inr (r)), h => ⟨h.1, ext_tr e h.2⟩
noncomputable def GX9_nameAt_68 (a0 : Nat) (a1 : Nat) (a2 : Nat) (a3 : Int32) (a4 : Int32) (M : FM) : (Nat × Nat × Nat × Int32 × FM) ⊕ (Nat × Nat × Nat × Int32 × Int32 × FM) ⊕ (Int32 × FM) :=
  let x1 : Int32 := (a3 + (a4 + (Int32.ofInt 1)))
  (.inl (a0, a1, a2, x1, M))
theorem gX9_nameAt_68 (k2 : Nat → Nat → Nat → Int32 → FM → Option (Int32 × FM)) (k16 : Nat → Nat → Nat → Int32 → Int32 → FM → Option (Int32 × FM)) (a0 : Nat) (a1 : Nat) (a2 : Nat) (a3 : Int32) (a4 : Int32) (M : FM) (T : Ty M) : gs (FX9_nameAt_68 fN k2 k16 a0 a1 a2 a3 a4 M) (GX9_nameAt_68 a0 a1 a2 a3 a4 M) (kX9_nameAt k2 k16) (pX9_nameAt M) := by
  delta FX9_nameAt_68 BX9_nameAt_68
  exact And.intro rfl (And.intro (And.intro T.1 T.2) ((ext_r _)))
noncomputable def GX9_nameAt_0 (a0 : Nat) (a1 : Nat) (a2 : Nat) (M : FM) : (Nat × Nat × Nat × Int32 × FM) ⊕ (Nat × Nat × Nat × Int32 × Int32 × FM) ⊕ (Int32 × FM) :=
  (.inl (a0, a1, a2, (Int32.ofInt 0), M))
theorem gX9_nameAt_0 (k2 : Nat → Nat → Nat → Int32 → FM → Option (Int32 × FM)) (k16 : Nat → Nat → Nat → Int32 → Int32 → FM → Option (Int32 × FM)) (a0 : Nat) (a1 : Nat) (a2 : Nat) (M : FM) (T : Ty M) : gs (FX9_nameAt_0 fN k2 k16 a0 a1 a2 M) (GX9_nameAt_0 a0 a1 a2 M) (kX9_nameAt k2 k16) (pX9_nameAt M) := by
  delta FX9_nameAt_0 BX9_nameAt_0
  exact And.intro rfl (And.intro (And.intro T.1 T.2) ((ext_r _)))
noncomputable def GX9_nameAt_16 (a0 : Nat) (a1 : Nat) (a2 : Nat) (a3 : Int32) (a4 : Int32) (M : FM) : (Nat × Nat × Nat × Int32 × FM) ⊕ (Nat × Nat × Nat × Int32 × Int32 × FM) ⊕ (Int32 × FM) :=
  let x1 : Nat := (M.2.2 257 a0 0)
  let r2 : Int32 × FM := GX3_get x1 (a3 + a4) M
  fi (r2.1 = 0) (
    fi (a4 = (r2.2.1 255 a2 0)) (
      let x3 : Nat := (r2.2.2.2 257 a0 0)
      let r4 : Int32 × FM := GX3_isSame x3 a3 (r2.2.2.2 263 a1 0) (r2.2.1 254 a2 0) a4 r2.2
      fi (r4.1 = 0) (
        GX9_nameAt_68 a0 a1 a2 a3 a4 r4.2) (
        (.inr (.inr (a3, r4.2))))) (
      GX9_nameAt_68 a0 a1 a2 a3 a4 r2.2)) (
    let x5 : Int32 := a4 + (Int32.ofInt 1)
    (.inr (.inl (a0, a1, a2, a3, x5, r2.2))))
def HX9_nameAt_16 (a0 : Nat) (a1 : Nat) (a2 : Nat) (a3 : Int32) (a4 : Int32) (M : FM) : Prop := let x1 : Nat := (M.2.2 257 a0 0); (HX3_get x1 (a3 + a4) M ∧ let r2 : Int32 × FM := GX3_get x1 (a3 + a4) M; ((r2.1 = 0 → ((a4 = (r2.2.1 255 a2 0) → let x3 : Nat := (r2.2.2.2 257 a0 0); (HX3_isSame x3 a3 (r2.2.2.2 263 a1 0) (r2.2.1 254 a2 0) a4 r2.2 ∧ True)) ∧ (¬ (a4 = (r2.2.1 255 a2 0)) → True))) ∧ (¬ (r2.1 = 0) → True)))
theorem gX9_nameAt_16 (k2 : Nat → Nat → Nat → Int32 → FM → Option (Int32 × FM)) (k16 : Nat → Nat → Nat → Int32 → Int32 → FM → Option (Int32 × FM)) (a0 : Nat) (a1 : Nat) (a2 : Nat) (a3 : Int32) (a4 : Int32) (M : FM) (T : Ty M) (n_a0 : fm_is M 84 84 a0 = true) (n_a2 : fm_is M 83 83 a2 = true) (n_a1 : fm_is M 87 87 a1 = true) (h : HX9_nameAt_16 a0 a1 a2 a3 a4 M) : gs (FX9_nameAt_16 fN k2 k16 a0 a1 a2 a3 a4 M) (GX9_nameAt_16 a0 a1 a2 a3 a4 M) (kX9_nameAt k2 k16) (pX9_nameAt M) := by
  delta FX9_nameAt_16 BX9_nameAt_16
  refine gs_c n_a0 ?_
  have f0 := (tN_257 T.1 n_a0)
  refine gs_c f0 ?_
  have f11 := (tN_257 T.1 n_a0)
  refine gs_b (gX3_get _ _ _ ⟨T.1, T.2⟩ f11 h.1) (fun K1 => ?_)
  refine gs_fi (fun c2_0 => ?_) (fun c2_0 => ?_)
  · have f3 := (ext_is K1.2 (Nat.zero_lt_succ _) n_a2)
    refine gs_c f3 ?_
    refine gs_fi (fun c4_0 => ?_) (fun c4_0 => ?_)
    · have f5 := (ext_is K1.2 (Nat.zero_lt_succ _) n_a0)
      refine gs_c f5 ?_
      have f6 := (ext_is K1.2 (Nat.zero_lt_succ _) n_a1)
      refine gs_c f6 ?_
      have f7 := (ext_is K1.2 (Nat.zero_lt_succ _) n_a2)
      refine gs_c f7 ?_
      have f8 := (tN_257 K1.1.1 (ext_is K1.2 (Nat.zero_lt_succ _) n_a0))
      refine gs_c f8 ?_
      refine gs_b (gX3_isSame _ _ _ _ _ _ ((h.2.1 c2_0).1 c4_0).1) (fun K9 => ?_)
      refine gs_fi (fun c10_0 => ?_) (fun c10_0 => ?_)
      · exact gs_t (pX9_nameAt_t (ext_tr K1.2 K9.2.1)) (gX9_nameAt_68 k2 k16 _ _ _ _ _ _ ⟨K9.1.1, K9.1.2⟩  )
      · exact And.intro rfl (And.intro (And.intro K9.1.1 K9.1.2) ((ext_tr K1.2 K9.2.1)))
    · exact gs_t (pX9_nameAt_t K1.2) (gX9_nameAt_68 k2 k16 _ _ _ _ _ _ ⟨K1.1.1, K1.1.2⟩  )
  · exact And.intro rfl (And.intro (And.intro K1.1.1 K1.1.2) K1.2)
noncomputable def GX9_nameAt_2 (a0 : Nat) (a1 : Nat) (a2 : Nat) (a3 : Int32) (M : FM) : (Nat × Nat × Nat × Int32 × FM) ⊕ (Nat × Nat × Nat × Int32 × Int32 × FM) ⊕ (Int32 × FM) :=
  let x1 : Nat := (M.2.2 257 a0 0)
  fi ((M.1 262 x1 0) ≤ a3) (
    let x2 : Nat := (M.2.2 257 a0 0)
    let M3 : FM := GX3_addAll x2 (M.2.2 263 a1 0) (M.1 254 a2 0) (M.1 255 a2 0) M
    let x4 : Nat := (M3.2.2 257 a0 0)
    let M5 : FM := GX3_add x4 (Int32.ofInt 0) M3
    (.inr (.inr (a3, M5)))) (
    (.inr (.inl (a0, a1, a2, a3, (Int32.ofInt 0), M))))
def HX9_nameAt_2 (a0 : Nat) (a1 : Nat) (a2 : Nat) (a3 : Int32) (M : FM) : Prop := let x1 : Nat := (M.2.2 257 a0 0); (((M.1 262 x1 0) ≤ a3 → let x2 : Nat := (M.2.2 257 a0 0); (HX3_addAll x2 (M.2.2 263 a1 0) (M.1 254 a2 0) (M.1 255 a2 0) M ∧ let M3 : FM := GX3_addAll x2 (M.2.2 263 a1 0) (M.1 254 a2 0) (M.1 255 a2 0) M; let x4 : Nat := (M3.2.2 257 a0 0); (HX3_add x4 (Int32.ofInt 0) M3 ∧ True))) ∧ (¬ ((M.1 262 x1 0) ≤ a3) → True))
theorem gX9_nameAt_2 (k2 : Nat → Nat → Nat → Int32 → FM → Option (Int32 × FM)) (k16 : Nat → Nat → Nat → Int32 → Int32 → FM → Option (Int32 × FM)) (a0 : Nat) (a1 : Nat) (a2 : Nat) (a3 : Int32) (M : FM) (T : Ty M) (n_a0 : fm_is M 84 84 a0 = true) (n_a1 : fm_is M 87 87 a1 = true) (n_a2 : fm_is M 83 83 a2 = true) (h : HX9_nameAt_2 a0 a1 a2 a3 M) : gs (FX9_nameAt_2 fN k2 k16 a0 a1 a2 a3 M) (GX9_nameAt_2 a0 a1 a2 a3 M) (kX9_nameAt k2 k16) (pX9_nameAt M) := by
  delta FX9_nameAt_2 BX9_nameAt_2
  refine gs_c n_a0 ?_
  have f0 := (tN_257 T.1 n_a0)
  refine gs_c f0 ?_
  refine gs_fi (fun c1_0 => ?_) (fun c1_0 => ?_)
  · refine gs_c n_a0 ?_
    refine gs_c n_a1 ?_
    refine gs_c n_a2 ?_
    refine gs_c n_a2 ?_
    have f2 := (tN_257 T.1 n_a0)
    refine gs_c f2 ?_
    have f8 := (tN_263 T.1 n_a1)
    have f9 := (tN_257 T.1 n_a0)
    refine gs_b (gX3_addAll _ _ _ _ _ ⟨T.1, T.2⟩ f8 f9 (h.1 c1_0).1) (fun K3 => ?_)
    have f4 := (ext_is K3.2 (Nat.zero_lt_succ _) n_a0)
    refine gs_c f4 ?_
    have f5 := (tN_257 K3.1.1 (ext_is K3.2 (Nat.zero_lt_succ _) n_a0))
    refine gs_c f5 ?_
    have f7 := (tN_257 K3.1.1 (ext_is K3.2 (Nat.zero_lt_succ _) n_a0))
    refine gs_b (gX3_add _ _ _ ⟨K3.1.1, K3.1.2⟩ f7 (h.1 c1_0).2.1) (fun K6 => ?_)
    exact And.intro rfl (And.intro (And.intro K6.1.1 K6.1.2) ((ext_tr K3.2 K6.2)))
  · exact And.intro rfl (And.intro (And.intro T.1 T.2) ((ext_r _)))
noncomputable def GX9_nameAt (a0 : Nat) (a1 : Nat) (a2 : Nat) (M : FM) : Int32 × FM := (FX9_nameAt fN a0 a1 a2 M).getD (0, M)
def HX9_nameAt (a0 : Nat) (a1 : Nat) (a2 : Nat) (M : FM) : Prop := ∃ r, FX9_nameAt fN a0 a1 a2 M = some r ∧ OkR M r
theorem gX9_nameAt (a0 : Nat) (a1 : Nat) (a2 : Nat) (M : FM) (h : HX9_nameAt a0 a1 a2 M) : gd (FX9_nameAt fN a0 a1 a2 M) (GX9_nameAt a0 a1 a2 M) (OkR M) := gd_op h
def kX9_node (k53 : Nat → Nat → Nat → Int32 → FM → Option (FM)) : (Nat × Nat × Nat × Int32 × FM) ⊕ (FM) → Option (FM)
  | .inl (v0, v1, v2, v3, M') => k53 v0 v1 v2 v3 M'
  | .inr (r) => some r
def pX9_node (M : FM) : (Nat × Nat × Nat × Int32 × FM) ⊕ (FM) → Prop
  | .inl (_, _, _, _, M') => OkV M M'
  | .inr (r) => OkV M r
theorem pX9_node_t {M M1 : FM} (e : Ext M M1) : ∀ y, pX9_node M1 y → pX9_node M y
  | .inl (_, _, _, _, _), h => ⟨h.1, ext_tr e h.2⟩
  | .inr (r), h => ⟨h.1, ext_tr e h.2⟩
noncomputable def GX9_node_0 (a0 : Nat) (a1 : Nat) (a2 : Nat) (M : FM) : (Nat × Nat × Nat × Int32 × FM) ⊕ (FM) :=
  let x1 : Nat := (M.2.2 256 a0 0)
  let M2 : FM := GX3_addNumber x1 (Int32.ofInt 1) M
  let x3 : Nat := (M2.2.2 248 a2 0)
  let x4 : Nat := (M2.2.2 248 a2 0)
  let x5 : Nat := (M2.2.2 256 a0 0)
  let M6 : FM := GX3_addAll x5 (M2.2.2 263 a1 0) (M2.1 254 x3 0) (M2.1 255 x4 0) M2
  let x7 : Nat := (M6.2.2 256 a0 0)
  let M8 : FM := GX3_add x7 (Int32.ofInt 0) M6
  let x9 : Nat := (M8.2.2 256 a0 0)
  let M10 : FM := GX3_fillUp x9 M8
  let x11 : Int32 := (M10.1 251 a2 0)
  (.inl (a0, a1, a2, x11, M10))
def HX9_node_0 (a0 : Nat) (a1 : Nat) (a2 : Nat) (M : FM) : Prop := let x1 : Nat := (M.2.2 256 a0 0); (HX3_addNumber x1 (Int32.ofInt 1) M ∧ let M2 : FM := GX3_addNumber x1 (Int32.ofInt 1) M; let x3 : Nat := (M2.2.2 248 a2 0); let x4 : Nat := (M2.2.2 248 a2 0); let x5 : Nat := (M2.2.2 256 a0 0); (HX3_addAll x5 (M2.2.2 263 a1 0) (M2.1 254 x3 0) (M2.1 255 x4 0) M2 ∧ let M6 : FM := GX3_addAll x5 (M2.2.2 263 a1 0) (M2.1 254 x3 0) (M2.1 255 x4 0) M2; let x7 : Nat := (M6.2.2 256 a0 0); (HX3_add x7 (Int32.ofInt 0) M6 ∧ let M8 : FM := GX3_add x7 (Int32.ofInt 0) M6; let x9 : Nat := (M8.2.2 256 a0 0); (HX3_fillUp x9 M8 ∧ True))))
theorem gX9_node_0 (k53 : Nat → Nat → Nat → Int32 → FM → Option (FM)) (a0 : Nat) (a1 : Nat) (a2 : Nat) (M : FM) (T : Ty M) (n_a0 : fm_is M 84 84 a0 = true) (n_a1 : fm_is M 87 87 a1 = true) (n_a2 : fm_is M 82 82 a2 = true) (h : HX9_node_0 a0 a1 a2 M) : gs (FX9_node_0 fN k53 a0 a1 a2 M) (GX9_node_0 a0 a1 a2 M) (kX9_node k53) (pX9_node M) := by
  delta FX9_node_0 BX9_node_0
  refine gs_c n_a0 ?_
  have f0 := (tN_256 T.1 n_a0)
  refine gs_c f0 ?_
  refine gs_b (gX3_addNumber _ _ _ h.1) (fun K1 => ?_)
  have f2 := (ext_is K1.2 (Nat.zero_lt_succ _) n_a0)
  refine gs_c f2 ?_
  have f3 := (ext_is K1.2 (Nat.zero_lt_succ _) n_a1)
  refine gs_c f3 ?_
  have f4 := (ext_is K1.2 (Nat.zero_lt_succ _) n_a2)
  refine gs_c f4 ?_
  have f5 := (tN_248 K1.1.1 (ext_is K1.2 (Nat.zero_lt_succ _) n_a2))
  refine gs_c f5 ?_
  have f6 := (ext_is K1.2 (Nat.zero_lt_succ _) n_a2)
  refine gs_c f6 ?_
  have f7 := (tN_248 K1.1.1 (ext_is K1.2 (Nat.zero_lt_succ _) n_a2))
  refine gs_c f7 ?_
  have f8 := (tN_256 K1.1.1 (ext_is K1.2 (Nat.zero_lt_succ _) n_a0))
  refine gs_c f8 ?_
  have f18 := (tN_263 K1.1.1 (ext_is K1.2 (Nat.zero_lt_succ _) n_a1))
  have f19 := (tN_256 K1.1.1 (ext_is K1.2 (Nat.zero_lt_succ _) n_a0))
  refine gs_b (gX3_addAll _ _ _ _ _ ⟨K1.1.1, K1.1.2⟩ f18 f19 h.2.1) (fun K9 => ?_)
  have f10 := (ext_is K9.2 (Nat.zero_lt_succ _) (ext_is K1.2 (Nat.zero_lt_succ _) n_a0))
  refine gs_c f10 ?_
  have f11 := (tN_256 K9.1.1 (ext_is K9.2 (Nat.zero_lt_succ _) (ext_is K1.2 (Nat.zero_lt_succ _) n_a0)))
  refine gs_c f11 ?_
  have f17 := (tN_256 K9.1.1 (ext_is K9.2 (Nat.zero_lt_succ _) (ext_is K1.2 (Nat.zero_lt_succ _) n_a0)))
  refine gs_b (gX3_add _ _ _ ⟨K9.1.1, K9.1.2⟩ f17 h.2.2.1) (fun K12 => ?_)
  have f13 := (ext_is K12.2 (Nat.zero_lt_succ _) (ext_is K9.2 (Nat.zero_lt_succ _) (ext_is K1.2 (Nat.zero_lt_succ _) n_a0)))
  refine gs_c f13 ?_
  have f14 := (tN_256 K12.1.1 (ext_is K12.2 (Nat.zero_lt_succ _) (ext_is K9.2 (Nat.zero_lt_succ _) (ext_is K1.2 (Nat.zero_lt_succ _) n_a0))))
  refine gs_c f14 ?_
  refine gs_b (gX3_fillUp _ _ h.2.2.2.1) (fun K15 => ?_)
  have f16 := (ext_is K15.2 (Nat.zero_lt_succ _) (ext_is K12.2 (Nat.zero_lt_succ _) (ext_is K9.2 (Nat.zero_lt_succ _) (ext_is K1.2 (Nat.zero_lt_succ _) n_a2))))
  refine gs_c f16 ?_
  exact And.intro rfl (And.intro (And.intro K15.1.1 K15.1.2) ((ext_tr K1.2 (ext_tr K9.2 (ext_tr K12.2 K15.2)))))
noncomputable def GX9_node_53 (a0 : Nat) (a1 : Nat) (a2 : Nat) (a3 : Int32) (M : FM) : (Nat × Nat × Nat × Int32 × FM) ⊕ (FM) :=
  fi (((M.1 251 a2 0) + (M.1 252 a2 0)) ≤ a3) (
    (.inr M)) (
    let x1 : Nat := (M.2.2 265 a1 0)
    let x2 : Nat := (M.2.2 3 x1 a3.toNatClampNeg)
    let x3 : Nat := (M.2.2 256 a0 0)
    let M4 : FM := GX3_addNumber x3 (Int32.ofInt 3) M
    let x5 : Nat := (M4.2.2 259 x2 0)
    let x6 : Nat := (M4.2.2 256 a0 0)
    let M7 : FM := GX3_addNumber x6 (M4.1 255 x5 0) M4
    let r8 : Int32 × FM := GX9_nameAt a0 a1 (M7.2.2 258 x2 0) M7
    let x9 : Nat := (M7.2.2 256 a0 0)
    let M10 : FM := GX3_addNumber x9 r8.1 r8.2
    let x11 : Nat := (M10.2.2 259 x2 0)
    let x12 : Nat := (M10.2.2 259 x2 0)
    let x13 : Nat := (M10.2.2 256 a0 0)
    let M14 : FM := GX3_addAll x13 (M10.2.2 263 a1 0) (M10.1 254 x11 0) (M10.1 255 x12 0) M10
    let x15 : Nat := (M14.2.2 256 a0 0)
    let M16 : FM := GX3_fillUp x15 M14
    let x17 : Int32 := a3 + (Int32.ofInt 1)
    (.inl (a0, a1, a2, x17, M16)))
def HX9_node_53 (a0 : Nat) (a1 : Nat) (a2 : Nat) (a3 : Int32) (M : FM) : Prop := ((((M.1 251 a2 0) + (M.1 252 a2 0)) ≤ a3 → True) ∧ (¬ (((M.1 251 a2 0) + (M.1 252 a2 0)) ≤ a3) → let x1 : Nat := (M.2.2 265 a1 0); (fm_in M x1 a3 = true ∧ let x2 : Nat := (M.2.2 3 x1 a3.toNatClampNeg); let x3 : Nat := (M.2.2 256 a0 0); (HX3_addNumber x3 (Int32.ofInt 3) M ∧ let M4 : FM := GX3_addNumber x3 (Int32.ofInt 3) M; let x5 : Nat := (M4.2.2 259 x2 0); let x6 : Nat := (M4.2.2 256 a0 0); (HX3_addNumber x6 (M4.1 255 x5 0) M4 ∧ let M7 : FM := GX3_addNumber x6 (M4.1 255 x5 0) M4; (HX9_nameAt a0 a1 (M7.2.2 258 x2 0) M7 ∧ let r8 : Int32 × FM := GX9_nameAt a0 a1 (M7.2.2 258 x2 0) M7; let x9 : Nat := (M7.2.2 256 a0 0); (HX3_addNumber x9 r8.1 r8.2 ∧ let M10 : FM := GX3_addNumber x9 r8.1 r8.2; let x11 : Nat := (M10.2.2 259 x2 0); let x12 : Nat := (M10.2.2 259 x2 0); let x13 : Nat := (M10.2.2 256 a0 0); (HX3_addAll x13 (M10.2.2 263 a1 0) (M10.1 254 x11 0) (M10.1 255 x12 0) M10 ∧ let M14 : FM := GX3_addAll x13 (M10.2.2 263 a1 0) (M10.1 254 x11 0) (M10.1 255 x12 0) M10; let x15 : Nat := (M14.2.2 256 a0 0); (HX3_fillUp x15 M14 ∧ True)))))))))
theorem gX9_node_53 (k53 : Nat → Nat → Nat → Int32 → FM → Option (FM)) (a0 : Nat) (a1 : Nat) (a2 : Nat) (a3 : Int32) (M : FM) (T : Ty M) (n_a2 : fm_is M 82 82 a2 = true) (n_a1 : fm_is M 87 87 a1 = true) (n_a0 : fm_is M 84 84 a0 = true) (h : HX9_node_53 a0 a1 a2 a3 M) : gs (FX9_node_53 fN k53 a0 a1 a2 a3 M) (GX9_node_53 a0 a1 a2 a3 M) (kX9_node k53) (pX9_node M) := by
  delta FX9_node_53 BX9_node_53
  refine gs_c n_a2 ?_
  refine gs_c n_a2 ?_
  refine gs_fi (fun c0_0 => ?_) (fun c0_0 => ?_)
  · exact And.intro rfl (And.intro (And.intro T.1 T.2) ((ext_r _)))
  · refine gs_c n_a1 ?_
    have f27 := (fm_w (lo' := 910) (hi' := 990) rfl rfl (tN_265 T.1 n_a1))
    refine gs_c ⟨f27, (h.2 c0_0).1⟩ ?_
    refine gs_c n_a0 ?_
    have f1 := (tN_256 T.1 n_a0)
    refine gs_c f1 ?_
    refine gs_b (gX3_addNumber _ _ _ (h.2 c0_0).2.1) (fun K2 => ?_)
    have f3 := (ext_is K2.2 (Nat.zero_lt_succ _) n_a0)
    refine gs_c f3 ?_
    have f4 := (ext_is K2.2 (Nat.zero_lt_succ _) (tE_925 T.1 (tN_265 T.1 n_a1) (h.2 c0_0).1))
    refine gs_c f4 ?_
    have f5 := (tN_259 K2.1.1 (ext_is K2.2 (Nat.zero_lt_succ _) (tE_925 T.1 (tN_265 T.1 n_a1) (h.2 c0_0).1)))
    refine gs_c f5 ?_
    have f6 := (tN_256 K2.1.1 (ext_is K2.2 (Nat.zero_lt_succ _) n_a0))
    refine gs_c f6 ?_
    refine gs_b (gX3_addNumber _ _ _ (h.2 c0_0).2.2.1) (fun K7 => ?_)
    have f8 := (ext_is K7.2 (Nat.zero_lt_succ _) (ext_is K2.2 (Nat.zero_lt_succ _) n_a0))
    refine gs_c f8 ?_
    have f9 := (ext_is K7.2 (Nat.zero_lt_succ _) (ext_is K2.2 (Nat.zero_lt_succ _) (tE_925 T.1 (tN_265 T.1 n_a1) (h.2 c0_0).1)))
    refine gs_c f9 ?_
    have f10 := (ext_is K7.2 (Nat.zero_lt_succ _) (ext_is K2.2 (Nat.zero_lt_succ _) n_a0))
    refine gs_c f10 ?_
    refine gs_b (gX9_nameAt _ _ _ _ (h.2 c0_0).2.2.2.1) (fun K11 => ?_)
    have f12 := (ext_is K11.2 (Nat.zero_lt_succ _) (tN_256 K7.1.1 (ext_is K7.2 (Nat.zero_lt_succ _) (ext_is K2.2 (Nat.zero_lt_succ _) n_a0))))
    refine gs_c f12 ?_
    refine gs_b (gX3_addNumber _ _ _ (h.2 c0_0).2.2.2.2.1) (fun K13 => ?_)
    have f14 := (ext_is K13.2 (Nat.zero_lt_succ _) (ext_is K11.2 (Nat.zero_lt_succ _) (ext_is K7.2 (Nat.zero_lt_succ _) (ext_is K2.2 (Nat.zero_lt_succ _) n_a0))))
    refine gs_c f14 ?_
    have f15 := (ext_is K13.2 (Nat.zero_lt_succ _) (ext_is K11.2 (Nat.zero_lt_succ _) (ext_is K7.2 (Nat.zero_lt_succ _) (ext_is K2.2 (Nat.zero_lt_succ _) n_a1))))
    refine gs_c f15 ?_
    have f16 := (ext_is K13.2 (Nat.zero_lt_succ _) (ext_is K11.2 (Nat.zero_lt_succ _) (ext_is K7.2 (Nat.zero_lt_succ _) (ext_is K2.2 (Nat.zero_lt_succ _) (tE_925 T.1 (tN_265 T.1 n_a1) (h.2 c0_0).1)))))
    refine gs_c f16 ?_
    have f17 := (tN_259 K13.1.1 (ext_is K13.2 (Nat.zero_lt_succ _) (ext_is K11.2 (Nat.zero_lt_succ _) (ext_is K7.2 (Nat.zero_lt_succ _) (ext_is K2.2 (Nat.zero_lt_succ _) (tE_925 T.1 (tN_265 T.1 n_a1) (h.2 c0_0).1))))))
    refine gs_c f17 ?_
    have f18 := (ext_is K13.2 (Nat.zero_lt_succ _) (ext_is K11.2 (Nat.zero_lt_succ _) (ext_is K7.2 (Nat.zero_lt_succ _) (ext_is K2.2 (Nat.zero_lt_succ _) (tE_925 T.1 (tN_265 T.1 n_a1) (h.2 c0_0).1)))))
    refine gs_c f18 ?_
    have f19 := (tN_259 K13.1.1 (ext_is K13.2 (Nat.zero_lt_succ _) (ext_is K11.2 (Nat.zero_lt_succ _) (ext_is K7.2 (Nat.zero_lt_succ _) (ext_is K2.2 (Nat.zero_lt_succ _) (tE_925 T.1 (tN_265 T.1 n_a1) (h.2 c0_0).1))))))
    refine gs_c f19 ?_
    have f20 := (tN_256 K13.1.1 (ext_is K13.2 (Nat.zero_lt_succ _) (ext_is K11.2 (Nat.zero_lt_succ _) (ext_is K7.2 (Nat.zero_lt_succ _) (ext_is K2.2 (Nat.zero_lt_succ _) n_a0)))))
    refine gs_c f20 ?_
    have f25 := (tN_263 K13.1.1 (ext_is K13.2 (Nat.zero_lt_succ _) (ext_is K11.2 (Nat.zero_lt_succ _) (ext_is K7.2 (Nat.zero_lt_succ _) (ext_is K2.2 (Nat.zero_lt_succ _) n_a1)))))
    have f26 := (tN_256 K13.1.1 (ext_is K13.2 (Nat.zero_lt_succ _) (ext_is K11.2 (Nat.zero_lt_succ _) (ext_is K7.2 (Nat.zero_lt_succ _) (ext_is K2.2 (Nat.zero_lt_succ _) n_a0)))))
    refine gs_b (gX3_addAll _ _ _ _ _ ⟨K13.1.1, K13.1.2⟩ f25 f26 (h.2 c0_0).2.2.2.2.2.1) (fun K21 => ?_)
    have f22 := (ext_is K21.2 (Nat.zero_lt_succ _) (ext_is K13.2 (Nat.zero_lt_succ _) (ext_is K11.2 (Nat.zero_lt_succ _) (ext_is K7.2 (Nat.zero_lt_succ _) (ext_is K2.2 (Nat.zero_lt_succ _) n_a0)))))
    refine gs_c f22 ?_
    have f23 := (tN_256 K21.1.1 (ext_is K21.2 (Nat.zero_lt_succ _) (ext_is K13.2 (Nat.zero_lt_succ _) (ext_is K11.2 (Nat.zero_lt_succ _) (ext_is K7.2 (Nat.zero_lt_succ _) (ext_is K2.2 (Nat.zero_lt_succ _) n_a0))))))
    refine gs_c f23 ?_
    refine gs_b (gX3_fillUp _ _ (h.2 c0_0).2.2.2.2.2.2.1) (fun K24 => ?_)
    exact And.intro rfl (And.intro (And.intro K24.1.1 K24.1.2) ((ext_tr K2.2 (ext_tr K7.2 (ext_tr K11.2 (ext_tr K13.2 (ext_tr K21.2 K24.2)))))))
noncomputable def GX9_node (a0 : Nat) (a1 : Nat) (a2 : Nat) (M : FM) : FM := (FX9_node fN a0 a1 a2 M).getD M
def HX9_node (a0 : Nat) (a1 : Nat) (a2 : Nat) (M : FM) : Prop := ∃ r, FX9_node fN a0 a1 a2 M = some r ∧ OkV M r
theorem gX9_node (a0 : Nat) (a1 : Nat) (a2 : Nat) (M : FM) (h : HX9_node a0 a1 a2 M) : gd (FX9_node fN a0 a1 a2 M) (GX9_node a0 a1 a2 M) (OkV M) := gd_op h
def kX3_putNumber (k2 : Nat → Int32 → Int32 → Int32 → FM → Option (FM)) : (Nat × Int32 × Int32 × Int32 × FM) ⊕ (FM) → Option (FM)
  | .inl (v0, v1, v2, v3, M') => k2 v0 v1 v2 v3 M'
  | .inr (r) => some r
def pX3_putNumber (M : FM) : (Nat × Int32 × Int32 × Int32 × FM) ⊕ (FM) → Prop
  | .inl (_, _, _, _, M') => OkV M M'
  | .inr (r) => OkV M r
theorem pX3_putNumber_t {M M1 : FM} (e : Ext M M1) : ∀ y, pX3_putNumber M1 y → pX3_putNumber M y
  | .inl (_, _, _, _, _), h => ⟨h.1, ext_tr e h.2⟩
  | .inr (r), h => ⟨h.1, ext_tr e h.2⟩
noncomputable def GX3_putNumber_0 (a0 : Nat) (a1 : Int32) (a2 : Int32) (M : FM) : (Nat × Int32 × Int32 × Int32 × FM) ⊕ (FM) :=
  (.inl (a0, a1, a2, (Int32.ofInt 0), M))
theorem gX3_putNumber_0 (k2 : Nat → Int32 → Int32 → Int32 → FM → Option (FM)) (a0 : Nat) (a1 : Int32) (a2 : Int32) (M : FM) (T : Ty M) : gs (FX3_putNumber_0 fN k2 a0 a1 a2 M) (GX3_putNumber_0 a0 a1 a2 M) (kX3_putNumber k2) (pX3_putNumber M) := by
  delta FX3_putNumber_0 BX3_putNumber_0
  exact And.intro rfl (And.intro (And.intro T.1 T.2) ((ext_r _)))
noncomputable def GX3_putNumber_2 (a0 : Nat) (a1 : Int32) (a2 : Int32) (a3 : Int32) (M : FM) : (Nat × Int32 × Int32 × Int32 × FM) ⊕ (FM) :=
  fi ((Int32.ofInt 4) ≤ a3) (
    (.inr M)) (
    let x1 : Int32 := (a1 + a3)
    let x2 : Nat := (M.2.2 261 a0 0)
    let M3 : FM := fm_sI M 3 x2 x1.toNatClampNeg (((a2 >>> (((Int32.ofInt 24) - ((Int32.ofInt 8) * a3)) &&& 31)).toInt8.toInt32).toInt8.toInt32)
    let x4 : Int32 := a3 + (Int32.ofInt 1)
    (.inl (a0, a1, a2, x4, M3)))
def HX3_putNumber_2 (a0 : Nat) (a1 : Int32) (a2 : Int32) (a3 : Int32) (M : FM) : Prop := (((Int32.ofInt 4) ≤ a3 → True) ∧ (¬ ((Int32.ofInt 4) ≤ a3) → let x1 : Int32 := (a1 + a3); let x2 : Nat := (M.2.2 261 a0 0); (fm_in M x2 x1 = true ∧ True)))
theorem gX3_putNumber_2 (k2 : Nat → Int32 → Int32 → Int32 → FM → Option (FM)) (a0 : Nat) (a1 : Int32) (a2 : Int32) (a3 : Int32) (M : FM) (T : Ty M) (n_a0 : fm_is M 86 86 a0 = true) (h : HX3_putNumber_2 a0 a1 a2 a3 M) : gs (FX3_putNumber_2 fN k2 a0 a1 a2 a3 M) (GX3_putNumber_2 a0 a1 a2 a3 M) (kX3_putNumber k2) (pX3_putNumber M) := by
  delta FX3_putNumber_2 BX3_putNumber_2
  refine gs_fi (fun c0_0 => ?_) (fun c0_0 => ?_)
  · exact And.intro rfl (And.intro (And.intro T.1 T.2) ((ext_r _)))
  · refine gs_c n_a0 ?_
    have f1 := (tN_261 T.1 n_a0)
    refine gs_c ⟨f1, (h.2 c0_0).1⟩ ?_
    exact And.intro rfl (And.intro (And.intro T.1 (tyb_s3 (t := 903) rfl T.2 f1)) ((ext_dI (ext_r _))))
noncomputable def GX3_putNumber (a0 : Nat) (a1 : Int32) (a2 : Int32) (M : FM) : FM := (FX3_putNumber fN a0 a1 a2 M).getD M
def HX3_putNumber (a0 : Nat) (a1 : Int32) (a2 : Int32) (M : FM) : Prop := ∃ r, FX3_putNumber fN a0 a1 a2 M = some r ∧ OkV M r
theorem gX3_putNumber (a0 : Nat) (a1 : Int32) (a2 : Int32) (M : FM) (h : HX3_putNumber a0 a1 a2 M) : gd (FX3_putNumber fN a0 a1 a2 M) (GX3_putNumber a0 a1 a2 M) (OkV M) := gd_op h
noncomputable def GX9_head_0 (a0 : Nat) (a1 : Int32) (a2 : Int32) (M : FM) : FM :=
  let x1 : Nat := (M.2.2 256 a0 0)
  let M2 : FM := GX3_putNumber x1 (Int32.ofInt 0) (Int32.ofInt (-804389139)) M
  let x3 : Nat := (M2.2.2 256 a0 0)
  let x4 : Nat := (M2.2.2 256 a0 0)
  let M5 : FM := GX3_putNumber x4 (Int32.ofInt 4) (M2.1 262 x3 0) M2
  let x6 : Nat := (M5.2.2 256 a0 0)
  let M7 : FM := GX3_putNumber x6 (Int32.ofInt 8) (Int32.ofInt 56) M5
  let x8 : Nat := (M7.2.2 256 a0 0)
  let M9 : FM := GX3_putNumber x8 (Int32.ofInt 12) a1 M7
  let x10 : Nat := (M9.2.2 256 a0 0)
  let M11 : FM := GX3_putNumber x10 (Int32.ofInt 16) (Int32.ofInt 40) M9
  let x12 : Nat := (M11.2.2 256 a0 0)
  let M13 : FM := GX3_putNumber x12 (Int32.ofInt 20) (Int32.ofInt 17) M11
  let x14 : Nat := (M13.2.2 256 a0 0)
  let M15 : FM := GX3_putNumber x14 (Int32.ofInt 24) (Int32.ofInt 16) M13
  let x16 : Nat := (M15.2.2 257 a0 0)
  let x17 : Nat := (M15.2.2 256 a0 0)
  let M18 : FM := GX3_putNumber x17 (Int32.ofInt 32) (M15.1 262 x16 0) M15
  let x19 : Nat := (M18.2.2 256 a0 0)
  let M20 : FM := GX3_putNumber x19 (Int32.ofInt 36) a2 M18
  M20
def HX9_head_0 (a0 : Nat) (a1 : Int32) (a2 : Int32) (M : FM) : Prop := let x1 : Nat := (M.2.2 256 a0 0); (HX3_putNumber x1 (Int32.ofInt 0) (Int32.ofInt (-804389139)) M ∧ let M2 : FM := GX3_putNumber x1 (Int32.ofInt 0) (Int32.ofInt (-804389139)) M; let x3 : Nat := (M2.2.2 256 a0 0); let x4 : Nat := (M2.2.2 256 a0 0); (HX3_putNumber x4 (Int32.ofInt 4) (M2.1 262 x3 0) M2 ∧ let M5 : FM := GX3_putNumber x4 (Int32.ofInt 4) (M2.1 262 x3 0) M2; let x6 : Nat := (M5.2.2 256 a0 0); (HX3_putNumber x6 (Int32.ofInt 8) (Int32.ofInt 56) M5 ∧ let M7 : FM := GX3_putNumber x6 (Int32.ofInt 8) (Int32.ofInt 56) M5; let x8 : Nat := (M7.2.2 256 a0 0); (HX3_putNumber x8 (Int32.ofInt 12) a1 M7 ∧ let M9 : FM := GX3_putNumber x8 (Int32.ofInt 12) a1 M7; let x10 : Nat := (M9.2.2 256 a0 0); (HX3_putNumber x10 (Int32.ofInt 16) (Int32.ofInt 40) M9 ∧ let M11 : FM := GX3_putNumber x10 (Int32.ofInt 16) (Int32.ofInt 40) M9; let x12 : Nat := (M11.2.2 256 a0 0); (HX3_putNumber x12 (Int32.ofInt 20) (Int32.ofInt 17) M11 ∧ let M13 : FM := GX3_putNumber x12 (Int32.ofInt 20) (Int32.ofInt 17) M11; let x14 : Nat := (M13.2.2 256 a0 0); (HX3_putNumber x14 (Int32.ofInt 24) (Int32.ofInt 16) M13 ∧ let M15 : FM := GX3_putNumber x14 (Int32.ofInt 24) (Int32.ofInt 16) M13; let x16 : Nat := (M15.2.2 257 a0 0); let x17 : Nat := (M15.2.2 256 a0 0); (HX3_putNumber x17 (Int32.ofInt 32) (M15.1 262 x16 0) M15 ∧ let M18 : FM := GX3_putNumber x17 (Int32.ofInt 32) (M15.1 262 x16 0) M15; let x19 : Nat := (M18.2.2 256 a0 0); (HX3_putNumber x19 (Int32.ofInt 36) a2 M18 ∧ True)))))))))
theorem gX9_head_0 (a0 : Nat) (a1 : Int32) (a2 : Int32) (M : FM) (T : Ty M) (n_a0 : fm_is M 84 84 a0 = true) (h : HX9_head_0 a0 a1 a2 M) : gd (FX9_head_0 fN a0 a1 a2 M) (GX9_head_0 a0 a1 a2 M) (OkV M) := by
  delta FX9_head_0 BX9_head_0
  refine gd_c n_a0 ?_
  have f0 := (tN_256 T.1 n_a0)
  refine gd_c f0 ?_
  refine gd_b (gX3_putNumber _ _ _ _ h.1) (fun K1 => ?_)
  have f2 := (ext_is K1.2 (Nat.zero_lt_succ _) n_a0)
  refine gd_c f2 ?_
  have f3 := (ext_is K1.2 (Nat.zero_lt_succ _) n_a0)
  refine gd_c f3 ?_
  have f4 := (tN_256 K1.1.1 (ext_is K1.2 (Nat.zero_lt_succ _) n_a0))
  refine gd_c f4 ?_
  have f5 := (tN_256 K1.1.1 (ext_is K1.2 (Nat.zero_lt_succ _) n_a0))
  refine gd_c f5 ?_
  refine gd_b (gX3_putNumber _ _ _ _ h.2.1) (fun K6 => ?_)
  have f7 := (ext_is K6.2 (Nat.zero_lt_succ _) (ext_is K1.2 (Nat.zero_lt_succ _) n_a0))
  refine gd_c f7 ?_
  have f8 := (tN_256 K6.1.1 (ext_is K6.2 (Nat.zero_lt_succ _) (ext_is K1.2 (Nat.zero_lt_succ _) n_a0)))
  refine gd_c f8 ?_
  refine gd_b (gX3_putNumber _ _ _ _ h.2.2.1) (fun K9 => ?_)
  have f10 := (ext_is K9.2 (Nat.zero_lt_succ _) (ext_is K6.2 (Nat.zero_lt_succ _) (ext_is K1.2 (Nat.zero_lt_succ _) n_a0)))
  refine gd_c f10 ?_
  have f11 := (tN_256 K9.1.1 (ext_is K9.2 (Nat.zero_lt_succ _) (ext_is K6.2 (Nat.zero_lt_succ _) (ext_is K1.2 (Nat.zero_lt_succ _) n_a0))))
  refine gd_c f11 ?_
  refine gd_b (gX3_putNumber _ _ _ _ h.2.2.2.1) (fun K12 => ?_)
  have f13 := (ext_is K12.2 (Nat.zero_lt_succ _) (ext_is K9.2 (Nat.zero_lt_succ _) (ext_is K6.2 (Nat.zero_lt_succ _) (ext_is K1.2 (Nat.zero_lt_succ _) n_a0))))
  refine gd_c f13 ?_
  have f14 := (tN_256 K12.1.1 (ext_is K12.2 (Nat.zero_lt_succ _) (ext_is K9.2 (Nat.zero_lt_succ _) (ext_is K6.2 (Nat.zero_lt_succ _) (ext_is K1.2 (Nat.zero_lt_succ _) n_a0)))))
  refine gd_c f14 ?_
  refine gd_b (gX3_putNumber _ _ _ _ h.2.2.2.2.1) (fun K15 => ?_)
  have f16 := (ext_is K15.2 (Nat.zero_lt_succ _) (ext_is K12.2 (Nat.zero_lt_succ _) (ext_is K9.2 (Nat.zero_lt_succ _) (ext_is K6.2 (Nat.zero_lt_succ _) (ext_is K1.2 (Nat.zero_lt_succ _) n_a0)))))
  refine gd_c f16 ?_
  have f17 := (tN_256 K15.1.1 (ext_is K15.2 (Nat.zero_lt_succ _) (ext_is K12.2 (Nat.zero_lt_succ _) (ext_is K9.2 (Nat.zero_lt_succ _) (ext_is K6.2 (Nat.zero_lt_succ _) (ext_is K1.2 (Nat.zero_lt_succ _) n_a0))))))
  refine gd_c f17 ?_
  refine gd_b (gX3_putNumber _ _ _ _ h.2.2.2.2.2.1) (fun K18 => ?_)
  have f19 := (ext_is K18.2 (Nat.zero_lt_succ _) (ext_is K15.2 (Nat.zero_lt_succ _) (ext_is K12.2 (Nat.zero_lt_succ _) (ext_is K9.2 (Nat.zero_lt_succ _) (ext_is K6.2 (Nat.zero_lt_succ _) (ext_is K1.2 (Nat.zero_lt_succ _) n_a0))))))
  refine gd_c f19 ?_
  have f20 := (tN_256 K18.1.1 (ext_is K18.2 (Nat.zero_lt_succ _) (ext_is K15.2 (Nat.zero_lt_succ _) (ext_is K12.2 (Nat.zero_lt_succ _) (ext_is K9.2 (Nat.zero_lt_succ _) (ext_is K6.2 (Nat.zero_lt_succ _) (ext_is K1.2 (Nat.zero_lt_succ _) n_a0)))))))
  refine gd_c f20 ?_
  refine gd_b (gX3_putNumber _ _ _ _ h.2.2.2.2.2.2.1) (fun K21 => ?_)
  have f22 := (ext_is K21.2 (Nat.zero_lt_succ _) (ext_is K18.2 (Nat.zero_lt_succ _) (ext_is K15.2 (Nat.zero_lt_succ _) (ext_is K12.2 (Nat.zero_lt_succ _) (ext_is K9.2 (Nat.zero_lt_succ _) (ext_is K6.2 (Nat.zero_lt_succ _) (ext_is K1.2 (Nat.zero_lt_succ _) n_a0)))))))
  refine gd_c f22 ?_
  have f23 := (ext_is K21.2 (Nat.zero_lt_succ _) (ext_is K18.2 (Nat.zero_lt_succ _) (ext_is K15.2 (Nat.zero_lt_succ _) (ext_is K12.2 (Nat.zero_lt_succ _) (ext_is K9.2 (Nat.zero_lt_succ _) (ext_is K6.2 (Nat.zero_lt_succ _) (ext_is K1.2 (Nat.zero_lt_succ _) n_a0)))))))
  refine gd_c f23 ?_
  have f24 := (tN_257 K21.1.1 (ext_is K21.2 (Nat.zero_lt_succ _) (ext_is K18.2 (Nat.zero_lt_succ _) (ext_is K15.2 (Nat.zero_lt_succ _) (ext_is K12.2 (Nat.zero_lt_succ _) (ext_is K9.2 (Nat.zero_lt_succ _) (ext_is K6.2 (Nat.zero_lt_succ _) (ext_is K1.2 (Nat.zero_lt_succ _) n_a0))))))))
  refine gd_c f24 ?_
  have f25 := (tN_256 K21.1.1 (ext_is K21.2 (Nat.zero_lt_succ _) (ext_is K18.2 (Nat.zero_lt_succ _) (ext_is K15.2 (Nat.zero_lt_succ _) (ext_is K12.2 (Nat.zero_lt_succ _) (ext_is K9.2 (Nat.zero_lt_succ _) (ext_is K6.2 (Nat.zero_lt_succ _) (ext_is K1.2 (Nat.zero_lt_succ _) n_a0))))))))
  refine gd_c f25 ?_
  refine gd_b (gX3_putNumber _ _ _ _ h.2.2.2.2.2.2.2.1) (fun K26 => ?_)
  have f27 := (ext_is K26.2 (Nat.zero_lt_succ _) (ext_is K21.2 (Nat.zero_lt_succ _) (ext_is K18.2 (Nat.zero_lt_succ _) (ext_is K15.2 (Nat.zero_lt_succ _) (ext_is K12.2 (Nat.zero_lt_succ _) (ext_is K9.2 (Nat.zero_lt_succ _) (ext_is K6.2 (Nat.zero_lt_succ _) (ext_is K1.2 (Nat.zero_lt_succ _) n_a0))))))))
  refine gd_c f27 ?_
  have f28 := (tN_256 K26.1.1 (ext_is K26.2 (Nat.zero_lt_succ _) (ext_is K21.2 (Nat.zero_lt_succ _) (ext_is K18.2 (Nat.zero_lt_succ _) (ext_is K15.2 (Nat.zero_lt_succ _) (ext_is K12.2 (Nat.zero_lt_succ _) (ext_is K9.2 (Nat.zero_lt_succ _) (ext_is K6.2 (Nat.zero_lt_succ _) (ext_is K1.2 (Nat.zero_lt_succ _) n_a0)))))))))
  refine gd_c f28 ?_
  refine gd_b (gX3_putNumber _ _ _ _ h.2.2.2.2.2.2.2.2.1) (fun K29 => ?_)
  exact ⟨rfl, ⟨K29.1.1, K29.1.2⟩, (ext_tr K1.2 (ext_tr K6.2 (ext_tr K9.2 (ext_tr K12.2 (ext_tr K15.2 (ext_tr K18.2 (ext_tr K21.2 (ext_tr K26.2 K29.2))))))))⟩
noncomputable def GX9_head (a0 : Nat) (a1 : Int32) (a2 : Int32) (M : FM) : FM := GX9_head_0 a0 a1 a2 M
def HX9_head (a0 : Nat) (a1 : Int32) (a2 : Int32) (M : FM) : Prop := HX9_head_0 a0 a1 a2 M
theorem gX9_head (a0 : Nat) (a1 : Int32) (a2 : Int32) (M : FM) (T : Ty M) (n_a0 : fm_is M 84 84 a0 = true) (h : HX9_head a0 a1 a2 M) : gd (FX9_head fN a0 a1 a2 M) (GX9_head a0 a1 a2 M) (OkV M) := gX9_head_0 a0 a1 a2 M T n_a0 h
def kX9_lay (k16 : Nat → Nat → FM → Option (Int32 × FM)) (k43 : Nat → Nat → Int32 → Int32 → FM → Option (Int32 × FM)) (k51 : Nat → Nat → Int32 → Int32 → FM → Option (Int32 × FM)) (k98 : Nat → Int32 → FM → Option (Int32 × FM)) : (Nat × Nat × FM) ⊕ (Nat × Nat × Int32 × Int32 × FM) ⊕ (Nat × Nat × Int32 × Int32 × FM) ⊕ (Nat × Int32 × FM) ⊕ (Int32 × FM) → Option (Int32 × FM)
  | .inl (v0, v1, M') => k16 v0 v1 M'
  | .inr (.inl (v0, v1, v2, v3, M')) => k43 v0 v1 v2 v3 M'
  | .inr (.inr (.inl (v0, v1, v2, v3, M'))) => k51 v0 v1 v2 v3 M'
  | .inr (.inr (.inr (.inl (v0, v1, M')))) => k98 v0 v1 M'
  | .inr (.inr (.inr (.inr (r)))) => some r
def pX9_lay (M : FM) : (Nat × Nat × FM) ⊕ (Nat × Nat × Int32 × Int32 × FM) ⊕ (Nat × Nat × Int32 × Int32 × FM) ⊕ (Nat × Int32 × FM) ⊕ (Int32 × FM) → Prop
  | .inl (_, _, M') => OkV M M'
  | .inr (.inl (_, _, _, _, M')) => OkV M M'
  | .inr (.inr (.inl (_, _, _, _, M'))) => OkV M M'
  | .inr (.inr (.inr (.inl (_, _, M')))) => OkV M M'
  | .inr (.inr (.inr (.inr (r)))) => OkR M r
theorem pX9_lay_t {M M1 : FM} (e : Ext M M1) : ∀ y, pX9_lay M1 y → pX9_lay M y
  | .inl (_, _, _), h => ⟨h.1, ext_tr e h.2⟩
  | .inr (.inl (_, _, _, _, _)), h => ⟨h.1, ext_tr e h.2⟩
  | .inr (.inr (.inl (_, _, _, _, _))), h => ⟨h.1, ext_tr e h.2⟩
  | .inr (.inr (.inr (.inl (_, _, _)))), h => ⟨h.1, ext_tr e h.2⟩
  | .inr (.inr (.inr (.inr (r)))), h => ⟨h.1, ext_tr e h.2⟩
noncomputable def GX9_lay_0 (a0 : Nat) (a1 : Nat) (M : FM) : (Nat × Nat × FM) ⊕ (Nat × Nat × Int32 × Int32 × FM) ⊕ (Nat × Nat × Int32 × Int32 × FM) ⊕ (Nat × Int32 × FM) ⊕ (Int32 × FM) :=
  let x1 : Nat := (M.2.2 257 a0 0)
  let M2 : FM := fm_sI M 262 x1 0 (Int32.ofInt 0)
  let x3 : Nat := (M2.2.2 256 a0 0)
  let M4 : FM := fm_sI M2 262 x3 0 (Int32.ofInt 0)
  (.inl (a0, a1, M4))
theorem gX9_lay_0 (k16 : Nat → Nat → FM → Option (Int32 × FM)) (k43 : Nat → Nat → Int32 → Int32 → FM → Option (Int32 × FM)) (k51 : Nat → Nat → Int32 → Int32 → FM → Option (Int32 × FM)) (k98 : Nat → Int32 → FM → Option (Int32 × FM)) (a0 : Nat) (a1 : Nat) (M : FM) (T : Ty M) (n_a0 : fm_is M 84 84 a0 = true) : gs (FX9_lay_0 fN k16 k43 k51 k98 a0 a1 M) (GX9_lay_0 a0 a1 M) (kX9_lay k16 k43 k51 k98) (pX9_lay M) := by
  delta FX9_lay_0 BX9_lay_0
  refine gs_c n_a0 ?_
  have f0 := (tN_257 T.1 n_a0)
  refine gs_c f0 ?_
  refine gs_c n_a0 ?_
  have f1 := (tN_256 T.1 n_a0)
  refine gs_c f1 ?_
  exact And.intro rfl (And.intro (And.intro T.1 (tyb_sI (f := 262) rfl (tyb_sI (f := 262) rfl T.2))) ((ext_dI (ext_dI (ext_r _)))))
noncomputable def GX9_lay_98 (a0 : Nat) (a2 : Int32) (M : FM) : (Nat × Nat × FM) ⊕ (Nat × Nat × Int32 × Int32 × FM) ⊕ (Nat × Nat × Int32 × Int32 × FM) ⊕ (Nat × Int32 × FM) ⊕ (Int32 × FM) :=
  fi (a2 ≤ 0) (
    let x1 : Nat := (M.2.2 256 a0 0)
    let M2 : FM := GX3_addNumber x1 (Int32.ofInt 9) M
    let x3 : Nat := (M2.2.2 256 a0 0)
    let x4 : Int32 := ((M2.1 262 x3 0) - (Int32.ofInt 56))
    let x5 : Nat := (M2.2.2 256 a0 0)
    let x6 : Int32 := (M2.1 262 x5 0)
    let x7 : Nat := (M2.2.2 257 a0 0)
    let x8 : Nat := (M2.2.2 256 a0 0)
    let M9 : FM := GX3_addAll x8 (M2.2.2 257 a0 0) (Int32.ofInt 0) (M2.1 262 x7 0) M2
    let M10 : FM := GX9_head a0 x6 x4 M9
    let x11 : Nat := (M10.2.2 256 a0 0)
    (.inr (.inr (.inr (.inr ((M10.1 262 x11 0), M10)))))) (
    let x12 : Nat := (M.2.2 256 a0 0)
    let M13 : FM := GX3_addNumber x12 (Int32.ofInt 2) M
    let x14 : Int32 := a2 + (Int32.ofInt (-1))
    (.inr (.inr (.inr (.inl (a0, x14, M13))))))
def HX9_lay_98 (a0 : Nat) (a2 : Int32) (M : FM) : Prop := ((a2 ≤ 0 → let x1 : Nat := (M.2.2 256 a0 0); (HX3_addNumber x1 (Int32.ofInt 9) M ∧ let M2 : FM := GX3_addNumber x1 (Int32.ofInt 9) M; let x3 : Nat := (M2.2.2 256 a0 0); let x4 : Int32 := ((M2.1 262 x3 0) - (Int32.ofInt 56)); let x5 : Nat := (M2.2.2 256 a0 0); let x6 : Int32 := (M2.1 262 x5 0); let x7 : Nat := (M2.2.2 257 a0 0); let x8 : Nat := (M2.2.2 256 a0 0); (HX3_addAll x8 (M2.2.2 257 a0 0) (Int32.ofInt 0) (M2.1 262 x7 0) M2 ∧ let M9 : FM := GX3_addAll x8 (M2.2.2 257 a0 0) (Int32.ofInt 0) (M2.1 262 x7 0) M2; (HX9_head a0 x6 x4 M9 ∧ True)))) ∧ (¬ (a2 ≤ 0) → let x12 : Nat := (M.2.2 256 a0 0); (HX3_addNumber x12 (Int32.ofInt 2) M ∧ True)))
theorem gX9_lay_98 (k16 : Nat → Nat → FM → Option (Int32 × FM)) (k43 : Nat → Nat → Int32 → Int32 → FM → Option (Int32 × FM)) (k51 : Nat → Nat → Int32 → Int32 → FM → Option (Int32 × FM)) (k98 : Nat → Int32 → FM → Option (Int32 × FM)) (a0 : Nat) (a2 : Int32) (M : FM) (T : Ty M) (n_a0 : fm_is M 84 84 a0 = true) (h : HX9_lay_98 a0 a2 M) : gs (FX9_lay_98 fN k16 k43 k51 k98 a0 a2 M) (GX9_lay_98 a0 a2 M) (kX9_lay k16 k43 k51 k98) (pX9_lay M) := by
  delta FX9_lay_98 BX9_lay_98
  refine gs_fi (fun c0_0 => ?_) (fun c0_0 => ?_)
  · refine gs_c n_a0 ?_
    have f1 := (tN_256 T.1 n_a0)
    refine gs_c f1 ?_
    refine gs_b (gX3_addNumber _ _ _ (h.1 c0_0).1) (fun K2 => ?_)
    have f3 := (ext_is K2.2 (Nat.zero_lt_succ _) n_a0)
    refine gs_c f3 ?_
    have f4 := (tN_256 K2.1.1 (ext_is K2.2 (Nat.zero_lt_succ _) n_a0))
    refine gs_c f4 ?_
    have f5 := (ext_is K2.2 (Nat.zero_lt_succ _) n_a0)
    refine gs_c f5 ?_
    have f6 := (tN_256 K2.1.1 (ext_is K2.2 (Nat.zero_lt_succ _) n_a0))
    refine gs_c f6 ?_
    have f7 := (ext_is K2.2 (Nat.zero_lt_succ _) n_a0)
    refine gs_c f7 ?_
    have f8 := (ext_is K2.2 (Nat.zero_lt_succ _) n_a0)
    refine gs_c f8 ?_
    have f9 := (ext_is K2.2 (Nat.zero_lt_succ _) n_a0)
    refine gs_c f9 ?_
    have f10 := (tN_257 K2.1.1 (ext_is K2.2 (Nat.zero_lt_succ _) n_a0))
    refine gs_c f10 ?_
    have f11 := (tN_256 K2.1.1 (ext_is K2.2 (Nat.zero_lt_succ _) n_a0))
    refine gs_c f11 ?_
    have f18 := (tN_257 K2.1.1 (ext_is K2.2 (Nat.zero_lt_succ _) n_a0))
    have f19 := (tN_256 K2.1.1 (ext_is K2.2 (Nat.zero_lt_succ _) n_a0))
    refine gs_b (gX3_addAll _ _ _ _ _ ⟨K2.1.1, K2.1.2⟩ f18 f19 (h.1 c0_0).2.1) (fun K12 => ?_)
    have f13 := (ext_is K12.2 (Nat.zero_lt_succ _) (ext_is K2.2 (Nat.zero_lt_succ _) n_a0))
    refine gs_c f13 ?_
    have f17 := (ext_is K12.2 (Nat.zero_lt_succ _) (ext_is K2.2 (Nat.zero_lt_succ _) n_a0))
    refine gs_b (gX9_head _ _ _ _ ⟨K12.1.1, K12.1.2⟩ f17 (h.1 c0_0).2.2.1) (fun K14 => ?_)
    have f15 := (ext_is K14.2 (Nat.zero_lt_succ _) (ext_is K12.2 (Nat.zero_lt_succ _) (ext_is K2.2 (Nat.zero_lt_succ _) n_a0)))
    refine gs_c f15 ?_
    have f16 := (tN_256 K14.1.1 (ext_is K14.2 (Nat.zero_lt_succ _) (ext_is K12.2 (Nat.zero_lt_succ _) (ext_is K2.2 (Nat.zero_lt_succ _) n_a0))))
    refine gs_c f16 ?_
    exact And.intro rfl (And.intro (And.intro K14.1.1 K14.1.2) ((ext_tr K2.2 (ext_tr K12.2 K14.2))))
  · refine gs_c n_a0 ?_
    have f20 := (tN_256 T.1 n_a0)
    refine gs_c f20 ?_
    refine gs_b (gX3_addNumber _ _ _ (h.2 c0_0).1) (fun K21 => ?_)
    exact And.intro rfl (And.intro (And.intro K21.1.1 K21.1.2) K21.2)
noncomputable def GX9_lay_51 (a0 : Nat) (a1 : Nat) (a2 : Int32) (a3 : Int32) (M : FM) : (Nat × Nat × FM) ⊕ (Nat × Nat × Int32 × Int32 × FM) ⊕ (Nat × Nat × Int32 × Int32 × FM) ⊕ (Nat × Int32 × FM) ⊕ (Int32 × FM) :=
  let x1 : Nat := (M.2.2 264 a1 0)
  let x2 : Nat := (M.2.2 3 x1 a3.toNatClampNeg)
  fi (a2 < (M.1 250 x2 0)) (
    let x3 : Nat := (M.2.2 264 a1 0)
    let M4 : FM := GX9_node a0 a1 (M.2.2 3 x3 a3.toNatClampNeg) M
    let x5 : Int32 := a2 + (Int32.ofInt 1)
    let x6 : Int32 := a3 + (Int32.ofInt 1)
    (.inr (.inl (a0, a1, x5, x6, M4)))) (
    let x7 : Nat := (M.2.2 256 a0 0)
    let M8 : FM := GX3_addNumber x7 (Int32.ofInt 2) M
    let x9 : Int32 := a2 + (Int32.ofInt (-1))
    (.inr (.inr (.inl (a0, a1, x9, a3, M8)))))
def HX9_lay_51 (a0 : Nat) (a1 : Nat) (a2 : Int32) (a3 : Int32) (M : FM) : Prop := let x1 : Nat := (M.2.2 264 a1 0); (fm_in M x1 a3 = true ∧ let x2 : Nat := (M.2.2 3 x1 a3.toNatClampNeg); ((a2 < (M.1 250 x2 0) → let x3 : Nat := (M.2.2 264 a1 0); (fm_in M x3 a3 = true ∧ (HX9_node a0 a1 (M.2.2 3 x3 a3.toNatClampNeg) M ∧ True))) ∧ (¬ (a2 < (M.1 250 x2 0)) → let x7 : Nat := (M.2.2 256 a0 0); (HX3_addNumber x7 (Int32.ofInt 2) M ∧ True))))
theorem gX9_lay_51 (k16 : Nat → Nat → FM → Option (Int32 × FM)) (k43 : Nat → Nat → Int32 → Int32 → FM → Option (Int32 × FM)) (k51 : Nat → Nat → Int32 → Int32 → FM → Option (Int32 × FM)) (k98 : Nat → Int32 → FM → Option (Int32 × FM)) (a0 : Nat) (a1 : Nat) (a2 : Int32) (a3 : Int32) (M : FM) (T : Ty M) (n_a1 : fm_is M 87 87 a1 = true) (n_a0 : fm_is M 84 84 a0 = true) (h : HX9_lay_51 a0 a1 a2 a3 M) : gs (FX9_lay_51 fN k16 k43 k51 k98 a0 a1 a2 a3 M) (GX9_lay_51 a0 a1 a2 a3 M) (kX9_lay k16 k43 k51 k98) (pX9_lay M) := by
  delta FX9_lay_51 BX9_lay_51
  refine gs_c n_a1 ?_
  have f6 := (fm_w (lo' := 910) (hi' := 990) rfl rfl (tN_264 T.1 n_a1))
  refine gs_c ⟨f6, h.1⟩ ?_
  have f0 := (tE_924 T.1 (tN_264 T.1 n_a1) h.1)
  refine gs_c f0 ?_
  refine gs_fi (fun c1_0 => ?_) (fun c1_0 => ?_)
  · refine gs_c n_a1 ?_
    have f3 := (fm_w (lo' := 910) (hi' := 990) rfl rfl (tN_264 T.1 n_a1))
    refine gs_c ⟨f3, (h.2.1 c1_0).1⟩ ?_
    refine gs_c n_a0 ?_
    refine gs_b (gX9_node _ _ _ _ (h.2.1 c1_0).2.1) (fun K2 => ?_)
    exact And.intro rfl (And.intro (And.intro K2.1.1 K2.1.2) K2.2)
  · refine gs_c n_a0 ?_
    have f4 := (tN_256 T.1 n_a0)
    refine gs_c f4 ?_
    refine gs_b (gX3_addNumber _ _ _ (h.2.2 c1_0).1) (fun K5 => ?_)
    exact And.intro rfl (And.intro (And.intro K5.1.1 K5.1.2) K5.2)
noncomputable def GX9_lay_43 (a0 : Nat) (a1 : Nat) (a2 : Int32) (a3 : Int32) (M : FM) : (Nat × Nat × FM) ⊕ (Nat × Nat × Int32 × Int32 × FM) ⊕ (Nat × Nat × Int32 × Int32 × FM) ⊕ (Nat × Int32 × FM) ⊕ (Int32 × FM) :=
  fi ((M.1 266 a1 0) ≤ a3) (
    (.inr (.inr (.inr (.inl (a0, a2, M)))))) (
    (.inr (.inr (.inl (a0, a1, a2, a3, M)))))
theorem gX9_lay_43 (k16 : Nat → Nat → FM → Option (Int32 × FM)) (k43 : Nat → Nat → Int32 → Int32 → FM → Option (Int32 × FM)) (k51 : Nat → Nat → Int32 → Int32 → FM → Option (Int32 × FM)) (k98 : Nat → Int32 → FM → Option (Int32 × FM)) (a0 : Nat) (a1 : Nat) (a2 : Int32) (a3 : Int32) (M : FM) (T : Ty M) (n_a1 : fm_is M 87 87 a1 = true) : gs (FX9_lay_43 fN k16 k43 k51 k98 a0 a1 a2 a3 M) (GX9_lay_43 a0 a1 a2 a3 M) (kX9_lay k16 k43 k51 k98) (pX9_lay M) := by
  delta FX9_lay_43 BX9_lay_43
  refine gs_c n_a1 ?_
  refine gs_fi (fun c0_0 => ?_) (fun c0_0 => ?_)
  · exact And.intro rfl (And.intro (And.intro T.1 T.2) ((ext_r _)))
  · exact And.intro rfl (And.intro (And.intro T.1 T.2) ((ext_r _)))
noncomputable def GX9_lay_16 (a0 : Nat) (a1 : Nat) (M : FM) : (Nat × Nat × FM) ⊕ (Nat × Nat × Int32 × Int32 × FM) ⊕ (Nat × Nat × Int32 × Int32 × FM) ⊕ (Nat × Int32 × FM) ⊕ (Int32 × FM) :=
  let x1 : Nat := (M.2.2 256 a0 0)
  fi ((Int32.ofInt 56) ≤ (M.1 262 x1 0)) (
    (.inr (.inl (a0, a1, (Int32.ofInt 0), (Int32.ofInt 0), M)))) (
    let x2 : Nat := (M.2.2 256 a0 0)
    let M3 : FM := GX3_addNumber x2 (Int32.ofInt 0) M
    (.inl (a0, a1, M3)))
def HX9_lay_16 (a0 : Nat) (a1 : Nat) (M : FM) : Prop := let x1 : Nat := (M.2.2 256 a0 0); (((Int32.ofInt 56) ≤ (M.1 262 x1 0) → True) ∧ (¬ ((Int32.ofInt 56) ≤ (M.1 262 x1 0)) → let x2 : Nat := (M.2.2 256 a0 0); (HX3_addNumber x2 (Int32.ofInt 0) M ∧ True)))
theorem gX9_lay_16 (k16 : Nat → Nat → FM → Option (Int32 × FM)) (k43 : Nat → Nat → Int32 → Int32 → FM → Option (Int32 × FM)) (k51 : Nat → Nat → Int32 → Int32 → FM → Option (Int32 × FM)) (k98 : Nat → Int32 → FM → Option (Int32 × FM)) (a0 : Nat) (a1 : Nat) (M : FM) (T : Ty M) (n_a0 : fm_is M 84 84 a0 = true) (h : HX9_lay_16 a0 a1 M) : gs (FX9_lay_16 fN k16 k43 k51 k98 a0 a1 M) (GX9_lay_16 a0 a1 M) (kX9_lay k16 k43 k51 k98) (pX9_lay M) := by
  delta FX9_lay_16 BX9_lay_16
  refine gs_c n_a0 ?_
  have f0 := (tN_256 T.1 n_a0)
  refine gs_c f0 ?_
  refine gs_fi (fun c1_0 => ?_) (fun c1_0 => ?_)
  · exact And.intro rfl (And.intro (And.intro T.1 T.2) ((ext_r _)))
  · refine gs_c n_a0 ?_
    have f2 := (tN_256 T.1 n_a0)
    refine gs_c f2 ?_
    refine gs_b (gX3_addNumber _ _ _ (h.2 c1_0).1) (fun K3 => ?_)
    exact And.intro rfl (And.intro (And.intro K3.1.1 K3.1.2) K3.2)
noncomputable def GX9_lay (a0 : Nat) (a1 : Nat) (M : FM) : Int32 × FM := (FX9_lay fN a0 a1 M).getD (0, M)
def HX9_lay (a0 : Nat) (a1 : Nat) (M : FM) : Prop := ∃ r, FX9_lay fN a0 a1 M = some r ∧ OkR M r
theorem gX9_lay (a0 : Nat) (a1 : Nat) (M : FM) (h : HX9_lay a0 a1 M) : gd (FX9_lay fN a0 a1 M) (GX9_lay a0 a1 M) (OkR M) := gd_op h
def kX4_describe (k73 : Nat → Int32 → Int32 → FM → Option (Int32 × FM)) : (Nat × Int32 × Int32 × FM) ⊕ (Int32 × FM) → Option (Int32 × FM)
  | .inl (v0, v1, v2, M') => k73 v0 v1 v2 M'
  | .inr (r) => some r
def pX4_describe (M : FM) : (Nat × Int32 × Int32 × FM) ⊕ (Int32 × FM) → Prop
  | .inl (_, _, _, M') => OkV M M'
  | .inr (r) => OkR M r
theorem pX4_describe_t {M M1 : FM} (e : Ext M M1) : ∀ y, pX4_describe M1 y → pX4_describe M y
  | .inl (_, _, _, _), h => ⟨h.1, ext_tr e h.2⟩
  | .inr (r), h => ⟨h.1, ext_tr e h.2⟩
noncomputable def GX4_describe_0 (a0 : Nat) (a1 : Int32) (M : FM) : (Nat × Int32 × Int32 × FM) ⊕ (Int32 × FM) :=
  let x1 : Nat := (M.2.2 56 a0 0)
  let M2 : FM := GX5_clear x1 M
  let M3 : FM := GX4_cells a0 (Int32.ofInt 2) (Int32.ofInt 2) M2
  let M4 : FM := GX4_string a0 109 144 M3
  let M5 : FM := GX4_string a0 128 107 M4
  let M6 : FM := GX4_open a0 108 M5
  let M7 : FM := GX4_string a0 138 104 M6
  let x8 : Nat := (M7.2.2 56 a0 0)
  let r9 : Int32 × FM := GX5_close x8 M7
  let M10 : FM := GX4_open a0 116 r9.2
  let M11 : FM := GX4_cells a0 (Int32.ofInt 1) (Int32.ofInt 0) M10
  let M12 : FM := GX4_number a0 140 (Int32.ofInt 10000000) M11
  (.inl (a0, a1, (Int32.ofInt 0), M12))
def HX4_describe_0 (a0 : Nat) (a1 : Int32) (M : FM) : Prop := let x1 : Nat := (M.2.2 56 a0 0); (HX5_clear x1 M ∧ let M2 : FM := GX5_clear x1 M; (HX4_cells a0 (Int32.ofInt 2) (Int32.ofInt 2) M2 ∧ let M3 : FM := GX4_cells a0 (Int32.ofInt 2) (Int32.ofInt 2) M2; (fm_is M3 7 7 109 = true ∧ HX4_string a0 109 144 M3 ∧ let M4 : FM := GX4_string a0 109 144 M3; (fm_is M4 7 7 128 = true ∧ HX4_string a0 128 107 M4 ∧ let M5 : FM := GX4_string a0 128 107 M4; (HX4_open a0 108 M5 ∧ let M6 : FM := GX4_open a0 108 M5; (fm_is M6 7 7 138 = true ∧ HX4_string a0 138 104 M6 ∧ let M7 : FM := GX4_string a0 138 104 M6; let x8 : Nat := (M7.2.2 56 a0 0); (HX5_close x8 M7 ∧ let r9 : Int32 × FM := GX5_close x8 M7; (HX4_open a0 116 r9.2 ∧ let M10 : FM := GX4_open a0 116 r9.2; (HX4_cells a0 (Int32.ofInt 1) (Int32.ofInt 0) M10 ∧ let M11 : FM := GX4_cells a0 (Int32.ofInt 1) (Int32.ofInt 0) M10; (fm_is M11 7 7 140 = true ∧ HX4_number a0 140 (Int32.ofInt 10000000) M11 ∧ True))))))))))
theorem gX4_describe_0 (k73 : Nat → Int32 → Int32 → FM → Option (Int32 × FM)) (a0 : Nat) (a1 : Int32) (M : FM) (T : Ty M) (n_a0 : fm_is M 21 21 a0 = true) (h : HX4_describe_0 a0 a1 M) : gs (FX4_describe_0 fN k73 a0 a1 M) (GX4_describe_0 a0 a1 M) (kX4_describe k73) (pX4_describe M) := by
  delta FX4_describe_0 BX4_describe_0
  refine gs_c n_a0 ?_
  have f0 := (tN_56 T.1 n_a0)
  refine gs_c f0 ?_
  have f30 := (tN_56 T.1 n_a0)
  refine gs_b (gX5_clear _ _ ⟨T.1, T.2⟩ f30 h.1) (fun K1 => ?_)
  have f2 := (ext_is K1.2 (Nat.zero_lt_succ _) n_a0)
  refine gs_c f2 ?_
  have f29 := (ext_is K1.2 (Nat.zero_lt_succ _) n_a0)
  refine gs_b (gX4_cells _ _ _ _ ⟨K1.1.1, K1.1.2⟩ f29 h.2.1) (fun K3 => ?_)
  have f4 := (ext_is K3.2 (Nat.zero_lt_succ _) (ext_is K1.2 (Nat.zero_lt_succ _) n_a0))
  refine gs_c f4 ?_
  have f28 := (ext_is K3.2 (Nat.zero_lt_succ _) (ext_is K1.2 (Nat.zero_lt_succ _) n_a0))
  refine gs_b (gX4_string _ _ _ _ ⟨K3.1.1, K3.1.2⟩ f28 h.2.2.1 h.2.2.2.1) (fun K5 => ?_)
  have f6 := (ext_is K5.2 (Nat.zero_lt_succ _) (ext_is K3.2 (Nat.zero_lt_succ _) (ext_is K1.2 (Nat.zero_lt_succ _) n_a0)))
  refine gs_c f6 ?_
  have f27 := (ext_is K5.2 (Nat.zero_lt_succ _) (ext_is K3.2 (Nat.zero_lt_succ _) (ext_is K1.2 (Nat.zero_lt_succ _) n_a0)))
  refine gs_b (gX4_string _ _ _ _ ⟨K5.1.1, K5.1.2⟩ f27 h.2.2.2.2.1 h.2.2.2.2.2.1) (fun K7 => ?_)
  have f8 := (ext_is K7.2 (Nat.zero_lt_succ _) (ext_is K5.2 (Nat.zero_lt_succ _) (ext_is K3.2 (Nat.zero_lt_succ _) (ext_is K1.2 (Nat.zero_lt_succ _) n_a0))))
  refine gs_c f8 ?_
  have f26 := (ext_is K7.2 (Nat.zero_lt_succ _) (ext_is K5.2 (Nat.zero_lt_succ _) (ext_is K3.2 (Nat.zero_lt_succ _) (ext_is K1.2 (Nat.zero_lt_succ _) n_a0))))
  refine gs_b (gX4_open _ _ _ ⟨K7.1.1, K7.1.2⟩ f26 h.2.2.2.2.2.2.1) (fun K9 => ?_)
  have f10 := (ext_is K9.2 (Nat.zero_lt_succ _) (ext_is K7.2 (Nat.zero_lt_succ _) (ext_is K5.2 (Nat.zero_lt_succ _) (ext_is K3.2 (Nat.zero_lt_succ _) (ext_is K1.2 (Nat.zero_lt_succ _) n_a0)))))
  refine gs_c f10 ?_
  have f25 := (ext_is K9.2 (Nat.zero_lt_succ _) (ext_is K7.2 (Nat.zero_lt_succ _) (ext_is K5.2 (Nat.zero_lt_succ _) (ext_is K3.2 (Nat.zero_lt_succ _) (ext_is K1.2 (Nat.zero_lt_succ _) n_a0)))))
  refine gs_b (gX4_string _ _ _ _ ⟨K9.1.1, K9.1.2⟩ f25 h.2.2.2.2.2.2.2.1 h.2.2.2.2.2.2.2.2.1) (fun K11 => ?_)
  have f12 := (ext_is K11.2 (Nat.zero_lt_succ _) (ext_is K9.2 (Nat.zero_lt_succ _) (ext_is K7.2 (Nat.zero_lt_succ _) (ext_is K5.2 (Nat.zero_lt_succ _) (ext_is K3.2 (Nat.zero_lt_succ _) (ext_is K1.2 (Nat.zero_lt_succ _) n_a0))))))
  refine gs_c f12 ?_
  have f13 := (tN_56 K11.1.1 (ext_is K11.2 (Nat.zero_lt_succ _) (ext_is K9.2 (Nat.zero_lt_succ _) (ext_is K7.2 (Nat.zero_lt_succ _) (ext_is K5.2 (Nat.zero_lt_succ _) (ext_is K3.2 (Nat.zero_lt_succ _) (ext_is K1.2 (Nat.zero_lt_succ _) n_a0)))))))
  refine gs_c f13 ?_
  have f24 := (tN_56 K11.1.1 (ext_is K11.2 (Nat.zero_lt_succ _) (ext_is K9.2 (Nat.zero_lt_succ _) (ext_is K7.2 (Nat.zero_lt_succ _) (ext_is K5.2 (Nat.zero_lt_succ _) (ext_is K3.2 (Nat.zero_lt_succ _) (ext_is K1.2 (Nat.zero_lt_succ _) n_a0)))))))
  refine gs_b (gX5_close _ _ ⟨K11.1.1, K11.1.2⟩ f24 h.2.2.2.2.2.2.2.2.2.1) (fun K14 => ?_)
  have f15 := (ext_is K14.2 (Nat.zero_lt_succ _) (ext_is K11.2 (Nat.zero_lt_succ _) (ext_is K9.2 (Nat.zero_lt_succ _) (ext_is K7.2 (Nat.zero_lt_succ _) (ext_is K5.2 (Nat.zero_lt_succ _) (ext_is K3.2 (Nat.zero_lt_succ _) (ext_is K1.2 (Nat.zero_lt_succ _) n_a0)))))))
  refine gs_c f15 ?_
  have f23 := (ext_is K14.2 (Nat.zero_lt_succ _) (ext_is K11.2 (Nat.zero_lt_succ _) (ext_is K9.2 (Nat.zero_lt_succ _) (ext_is K7.2 (Nat.zero_lt_succ _) (ext_is K5.2 (Nat.zero_lt_succ _) (ext_is K3.2 (Nat.zero_lt_succ _) (ext_is K1.2 (Nat.zero_lt_succ _) n_a0)))))))
  refine gs_b (gX4_open _ _ _ ⟨K14.1.1, K14.1.2⟩ f23 h.2.2.2.2.2.2.2.2.2.2.1) (fun K16 => ?_)
  have f17 := (ext_is K16.2 (Nat.zero_lt_succ _) (ext_is K14.2 (Nat.zero_lt_succ _) (ext_is K11.2 (Nat.zero_lt_succ _) (ext_is K9.2 (Nat.zero_lt_succ _) (ext_is K7.2 (Nat.zero_lt_succ _) (ext_is K5.2 (Nat.zero_lt_succ _) (ext_is K3.2 (Nat.zero_lt_succ _) (ext_is K1.2 (Nat.zero_lt_succ _) n_a0))))))))
  refine gs_c f17 ?_
  have f22 := (ext_is K16.2 (Nat.zero_lt_succ _) (ext_is K14.2 (Nat.zero_lt_succ _) (ext_is K11.2 (Nat.zero_lt_succ _) (ext_is K9.2 (Nat.zero_lt_succ _) (ext_is K7.2 (Nat.zero_lt_succ _) (ext_is K5.2 (Nat.zero_lt_succ _) (ext_is K3.2 (Nat.zero_lt_succ _) (ext_is K1.2 (Nat.zero_lt_succ _) n_a0))))))))
  refine gs_b (gX4_cells _ _ _ _ ⟨K16.1.1, K16.1.2⟩ f22 h.2.2.2.2.2.2.2.2.2.2.2.1) (fun K18 => ?_)
  have f19 := (ext_is K18.2 (Nat.zero_lt_succ _) (ext_is K16.2 (Nat.zero_lt_succ _) (ext_is K14.2 (Nat.zero_lt_succ _) (ext_is K11.2 (Nat.zero_lt_succ _) (ext_is K9.2 (Nat.zero_lt_succ _) (ext_is K7.2 (Nat.zero_lt_succ _) (ext_is K5.2 (Nat.zero_lt_succ _) (ext_is K3.2 (Nat.zero_lt_succ _) (ext_is K1.2 (Nat.zero_lt_succ _) n_a0)))))))))
  refine gs_c f19 ?_
  have f21 := (ext_is K18.2 (Nat.zero_lt_succ _) (ext_is K16.2 (Nat.zero_lt_succ _) (ext_is K14.2 (Nat.zero_lt_succ _) (ext_is K11.2 (Nat.zero_lt_succ _) (ext_is K9.2 (Nat.zero_lt_succ _) (ext_is K7.2 (Nat.zero_lt_succ _) (ext_is K5.2 (Nat.zero_lt_succ _) (ext_is K3.2 (Nat.zero_lt_succ _) (ext_is K1.2 (Nat.zero_lt_succ _) n_a0)))))))))
  refine gs_b (gX4_number _ _ _ _ ⟨K18.1.1, K18.1.2⟩ f21 h.2.2.2.2.2.2.2.2.2.2.2.2.1 h.2.2.2.2.2.2.2.2.2.2.2.2.2.1) (fun K20 => ?_)
  exact And.intro rfl (And.intro (And.intro K20.1.1 K20.1.2) ((ext_tr K1.2 (ext_tr K3.2 (ext_tr K5.2 (ext_tr K7.2 (ext_tr K9.2 (ext_tr K11.2 (ext_tr K14.2 (ext_tr K16.2 (ext_tr K18.2 K20.2)))))))))))
noncomputable def GX4_describe_73 (a0 : Nat) (a1 : Int32) (a2 : Int32) (M : FM) : (Nat × Int32 × Int32 × FM) ⊕ (Int32 × FM) :=
  fi (a1 ≤ a2) (
    let x1 : Nat := (M.2.2 56 a0 0)
    let r2 : Int32 × FM := GX5_close x1 M
    let M3 : FM := GX4_open a0 126 r2.2
    let M4 : FM := GX4_string a0 117 125 M3
    let M5 : FM := GX4_window a0 (Int64.ofInt 2147483648) (Int64.ofInt 4194304) M4
    let x6 : Nat := (M5.2.2 56 a0 0)
    let r7 : Int32 × FM := GX5_close x6 M5
    let M8 : FM := GX4_devices a0 a1 r7.2
    let x9 : Nat := (M8.2.2 57 a0 0)
    let r10 : Int32 × FM := GX9_lay x9 (M8.2.2 56 a0 0) M8
    (.inr (r10.1, r10.2))) (
    let M11 : FM := GX4_processor a0 a2 M
    let x12 : Int32 := a2 + (Int32.ofInt 1)
    (.inl (a0, a1, x12, M11)))
def HX4_describe_73 (a0 : Nat) (a1 : Int32) (a2 : Int32) (M : FM) : Prop := ((a1 ≤ a2 → let x1 : Nat := (M.2.2 56 a0 0); (HX5_close x1 M ∧ let r2 : Int32 × FM := GX5_close x1 M; (HX4_open a0 126 r2.2 ∧ let M3 : FM := GX4_open a0 126 r2.2; (fm_is M3 7 7 117 = true ∧ HX4_string a0 117 125 M3 ∧ let M4 : FM := GX4_string a0 117 125 M3; (HX4_window a0 (Int64.ofInt 2147483648) (Int64.ofInt 4194304) M4 ∧ let M5 : FM := GX4_window a0 (Int64.ofInt 2147483648) (Int64.ofInt 4194304) M4; let x6 : Nat := (M5.2.2 56 a0 0); (HX5_close x6 M5 ∧ let r7 : Int32 × FM := GX5_close x6 M5; (HX4_devices a0 a1 r7.2 ∧ let M8 : FM := GX4_devices a0 a1 r7.2; let x9 : Nat := (M8.2.2 57 a0 0); (HX9_lay x9 (M8.2.2 56 a0 0) M8 ∧ True)))))))) ∧ (¬ (a1 ≤ a2) → (HX4_processor a0 a2 M ∧ True)))
theorem gX4_describe_73 (k73 : Nat → Int32 → Int32 → FM → Option (Int32 × FM)) (a0 : Nat) (a1 : Int32) (a2 : Int32) (M : FM) (T : Ty M) (n_a0 : fm_is M 21 21 a0 = true) (h : HX4_describe_73 a0 a1 a2 M) : gs (FX4_describe_73 fN k73 a0 a1 a2 M) (GX4_describe_73 a0 a1 a2 M) (kX4_describe k73) (pX4_describe M) := by
  delta FX4_describe_73 BX4_describe_73
  refine gs_fi (fun c0_0 => ?_) (fun c0_0 => ?_)
  · refine gs_c n_a0 ?_
    have f1 := (tN_56 T.1 n_a0)
    refine gs_c f1 ?_
    have f23 := (tN_56 T.1 n_a0)
    refine gs_b (gX5_close _ _ ⟨T.1, T.2⟩ f23 (h.1 c0_0).1) (fun K2 => ?_)
    have f3 := (ext_is K2.2 (Nat.zero_lt_succ _) n_a0)
    refine gs_c f3 ?_
    have f22 := (ext_is K2.2 (Nat.zero_lt_succ _) n_a0)
    refine gs_b (gX4_open _ _ _ ⟨K2.1.1, K2.1.2⟩ f22 (h.1 c0_0).2.1) (fun K4 => ?_)
    have f5 := (ext_is K4.2 (Nat.zero_lt_succ _) (ext_is K2.2 (Nat.zero_lt_succ _) n_a0))
    refine gs_c f5 ?_
    have f21 := (ext_is K4.2 (Nat.zero_lt_succ _) (ext_is K2.2 (Nat.zero_lt_succ _) n_a0))
    refine gs_b (gX4_string _ _ _ _ ⟨K4.1.1, K4.1.2⟩ f21 (h.1 c0_0).2.2.1 (h.1 c0_0).2.2.2.1) (fun K6 => ?_)
    have f7 := (ext_is K6.2 (Nat.zero_lt_succ _) (ext_is K4.2 (Nat.zero_lt_succ _) (ext_is K2.2 (Nat.zero_lt_succ _) n_a0)))
    refine gs_c f7 ?_
    have f20 := (ext_is K6.2 (Nat.zero_lt_succ _) (ext_is K4.2 (Nat.zero_lt_succ _) (ext_is K2.2 (Nat.zero_lt_succ _) n_a0)))
    refine gs_b (gX4_window _ _ _ _ ⟨K6.1.1, K6.1.2⟩ f20 (h.1 c0_0).2.2.2.2.1) (fun K8 => ?_)
    have f9 := (ext_is K8.2 (Nat.zero_lt_succ _) (ext_is K6.2 (Nat.zero_lt_succ _) (ext_is K4.2 (Nat.zero_lt_succ _) (ext_is K2.2 (Nat.zero_lt_succ _) n_a0))))
    refine gs_c f9 ?_
    have f10 := (tN_56 K8.1.1 (ext_is K8.2 (Nat.zero_lt_succ _) (ext_is K6.2 (Nat.zero_lt_succ _) (ext_is K4.2 (Nat.zero_lt_succ _) (ext_is K2.2 (Nat.zero_lt_succ _) n_a0)))))
    refine gs_c f10 ?_
    have f19 := (tN_56 K8.1.1 (ext_is K8.2 (Nat.zero_lt_succ _) (ext_is K6.2 (Nat.zero_lt_succ _) (ext_is K4.2 (Nat.zero_lt_succ _) (ext_is K2.2 (Nat.zero_lt_succ _) n_a0)))))
    refine gs_b (gX5_close _ _ ⟨K8.1.1, K8.1.2⟩ f19 (h.1 c0_0).2.2.2.2.2.1) (fun K11 => ?_)
    have f12 := (ext_is K11.2 (Nat.zero_lt_succ _) (ext_is K8.2 (Nat.zero_lt_succ _) (ext_is K6.2 (Nat.zero_lt_succ _) (ext_is K4.2 (Nat.zero_lt_succ _) (ext_is K2.2 (Nat.zero_lt_succ _) n_a0)))))
    refine gs_c f12 ?_
    have f18 := (ext_is K11.2 (Nat.zero_lt_succ _) (ext_is K8.2 (Nat.zero_lt_succ _) (ext_is K6.2 (Nat.zero_lt_succ _) (ext_is K4.2 (Nat.zero_lt_succ _) (ext_is K2.2 (Nat.zero_lt_succ _) n_a0)))))
    refine gs_b (gX4_devices _ _ _ ⟨K11.1.1, K11.1.2⟩ f18 (h.1 c0_0).2.2.2.2.2.2.1) (fun K13 => ?_)
    have f14 := (ext_is K13.2 (Nat.zero_lt_succ _) (ext_is K11.2 (Nat.zero_lt_succ _) (ext_is K8.2 (Nat.zero_lt_succ _) (ext_is K6.2 (Nat.zero_lt_succ _) (ext_is K4.2 (Nat.zero_lt_succ _) (ext_is K2.2 (Nat.zero_lt_succ _) n_a0))))))
    refine gs_c f14 ?_
    have f15 := (ext_is K13.2 (Nat.zero_lt_succ _) (ext_is K11.2 (Nat.zero_lt_succ _) (ext_is K8.2 (Nat.zero_lt_succ _) (ext_is K6.2 (Nat.zero_lt_succ _) (ext_is K4.2 (Nat.zero_lt_succ _) (ext_is K2.2 (Nat.zero_lt_succ _) n_a0))))))
    refine gs_c f15 ?_
    have f16 := (tN_57 K13.1.1 (ext_is K13.2 (Nat.zero_lt_succ _) (ext_is K11.2 (Nat.zero_lt_succ _) (ext_is K8.2 (Nat.zero_lt_succ _) (ext_is K6.2 (Nat.zero_lt_succ _) (ext_is K4.2 (Nat.zero_lt_succ _) (ext_is K2.2 (Nat.zero_lt_succ _) n_a0)))))))
    refine gs_c f16 ?_
    refine gs_b (gX9_lay _ _ _ (h.1 c0_0).2.2.2.2.2.2.2.1) (fun K17 => ?_)
    exact And.intro rfl (And.intro (And.intro K17.1.1 K17.1.2) ((ext_tr K2.2 (ext_tr K4.2 (ext_tr K6.2 (ext_tr K8.2 (ext_tr K11.2 (ext_tr K13.2 K17.2))))))))
  · refine gs_c n_a0 ?_
    refine gs_b (gX4_processor _ _ _ ⟨T.1, T.2⟩ n_a0 (h.2 c0_0).1) (fun K24 => ?_)
    exact And.intro rfl (And.intro (And.intro K24.1.1 K24.1.2) K24.2)
noncomputable def GX4_describe (a0 : Nat) (a1 : Int32) (M : FM) : Int32 × FM := (FX4_describe fN a0 a1 M).getD (0, M)
def HX4_describe (a0 : Nat) (a1 : Int32) (M : FM) : Prop := ∃ r, FX4_describe fN a0 a1 M = some r ∧ OkR M r
theorem gX4_describe (a0 : Nat) (a1 : Int32) (M : FM) (h : HX4_describe a0 a1 M) : gd (FX4_describe fN a0 a1 M) (GX4_describe a0 a1 M) (OkR M) := gd_op h
noncomputable def GX11_pageOf_0 (a0 : Int64) (M : FM) : Int32 × FM :=
  (((a0 - (Int64.ofInt 2147483648)) >>> ((Int32.ofInt 12).toInt64 &&& 63)).toInt32, M)
theorem gX11_pageOf_0 (a0 : Int64) (M : FM) (T : Ty M) : gd (FX11_pageOf_0 a0 M) (GX11_pageOf_0 a0 M) (OkR M) := by
  delta FX11_pageOf_0 BX11_pageOf_0
  exact ⟨rfl, ⟨T.1, T.2⟩, (ext_r _)⟩
noncomputable def GX11_pageOf (a0 : Int64) (M : FM) : Int32 × FM := GX11_pageOf_0 a0 M
theorem gX11_pageOf (a0 : Int64) (M : FM) (T : Ty M) : gd (FX11_pageOf a0 M) (GX11_pageOf a0 M) (OkR M) := gX11_pageOf_0 a0 M T 
noncomputable def GX11_placeOf_0 (a0 : Int64) (M : FM) : Int32 × FM :=
  ((a0 &&& (Int64.ofInt 4095)).toInt32, M)
theorem gX11_placeOf_0 (a0 : Int64) (M : FM) (T : Ty M) : gd (FX11_placeOf_0 a0 M) (GX11_placeOf_0 a0 M) (OkR M) := by
  delta FX11_placeOf_0 BX11_placeOf_0
  exact ⟨rfl, ⟨T.1, T.2⟩, (ext_r _)⟩
noncomputable def GX11_placeOf (a0 : Int64) (M : FM) : Int32 × FM := GX11_placeOf_0 a0 M
theorem gX11_placeOf (a0 : Int64) (M : FM) (T : Ty M) : gd (FX11_placeOf a0 M) (GX11_placeOf a0 M) (OkR M) := gX11_placeOf_0 a0 M T 
noncomputable def GJ5_min_10 (s0 : Int32) (M : FM) : Int32 × FM :=
  (s0, M)
theorem gJ5_min_10 (s0 : Int32) (M : FM) (T : Ty M) : gd (FJ5_min_10 s0 M) (GJ5_min_10 s0 M) (OkR M) := by
  delta FJ5_min_10 BJ5_min_10
  exact ⟨rfl, ⟨T.1, T.2⟩, (ext_r _)⟩
noncomputable def GJ5_min_0 (a0 : Int32) (a1 : Int32) (M : FM) : Int32 × FM :=
  fi (a1 < a0) (
    GJ5_min_10 a1 M) (
    GJ5_min_10 a0 M)
theorem gJ5_min_0 (a0 : Int32) (a1 : Int32) (M : FM) (T : Ty M) : gd (FJ5_min_0 a0 a1 M) (GJ5_min_0 a0 a1 M) (OkR M) := by
  delta FJ5_min_0 BJ5_min_0
  refine gd_fi (fun c0_0 => ?_) (fun c0_0 => ?_)
  · exact gd_tR (ext_r _) (gJ5_min_10 _ _ ⟨T.1, T.2⟩  )
  · exact gd_tR (ext_r _) (gJ5_min_10 _ _ ⟨T.1, T.2⟩  )
noncomputable def GJ5_min (a0 : Int32) (a1 : Int32) (M : FM) : Int32 × FM := GJ5_min_0 a0 a1 M
theorem gJ5_min (a0 : Int32) (a1 : Int32) (M : FM) (T : Ty M) : gd (FJ5_min a0 a1 M) (GJ5_min a0 a1 M) (OkR M) := gJ5_min_0 a0 a1 M T 
noncomputable def GX11_made (a0 : Nat) (a1 : Int32) (M : FM) : Nat × FM := (FX11_made a0 a1 M).getD (0, M)
def HX11_made (a0 : Nat) (a1 : Int32) (M : FM) : Prop := ∃ r, FX11_made a0 a1 M = some r ∧ OkN 72 72 M r
theorem gX11_made (a0 : Nat) (a1 : Int32) (M : FM) (h : HX11_made a0 a1 M) : gd (FX11_made a0 a1 M) (GX11_made a0 a1 M) (OkN 72 72 M) := gd_op h
noncomputable def GX91_mask_20 (s0 : Int64) (M : FM) : Int64 × FM :=
  (s0, M)
theorem gX91_mask_20 (s0 : Int64) (M : FM) (T : Ty M) : gd (FX91_mask_20 s0 M) (GX91_mask_20 s0 M) (OkR M) := by
  delta FX91_mask_20 BX91_mask_20
  exact ⟨rfl, ⟨T.1, T.2⟩, (ext_r _)⟩
noncomputable def GX91_mask_0 (a0 : Int32) (M : FM) : Int64 × FM :=
  fi (a0 = (Int32.ofInt 8)) (
    GX91_mask_20 (Int64.ofInt (-1)) M) (
    GX91_mask_20 (((Int64.ofInt 1) <<< (((Int32.ofInt 8) * a0).toInt64 &&& 63)) - (Int64.ofInt 1)) M)
theorem gX91_mask_0 (a0 : Int32) (M : FM) (T : Ty M) : gd (FX91_mask_0 a0 M) (GX91_mask_0 a0 M) (OkR M) := by
  delta FX91_mask_0 BX91_mask_0
  refine gd_fi (fun c0_0 => ?_) (fun c0_0 => ?_)
  · exact gd_tR (ext_r _) (gX91_mask_20 _ _ ⟨T.1, T.2⟩  )
  · exact gd_tR (ext_r _) (gX91_mask_20 _ _ ⟨T.1, T.2⟩  )
noncomputable def GX91_mask (a0 : Int32) (M : FM) : Int64 × FM := GX91_mask_0 a0 M
theorem gX91_mask (a0 : Int32) (M : FM) (T : Ty M) : gd (FX91_mask a0 M) (GX91_mask a0 M) (OkR M) := gX91_mask_0 a0 M T 
noncomputable def GX91_put_106 (M : FM) : FM :=
  M
theorem gX91_put_106 (M : FM) (T : Ty M) : gd (FX91_put_106 M) (GX91_put_106 M) (OkV M) := by
  delta FX91_put_106 BX91_put_106
  exact ⟨rfl, ⟨T.1, T.2⟩, (ext_r _)⟩
noncomputable def GX91_put_0 (a0 : Nat) (a1 : Int32) (a2 : Int32) (a3 : Int64) (M : FM) : FM :=
  let x1 : Int32 := (a1 >>> ((Int32.ofInt 3) &&& 31))
  let x2 : Int32 := ((Int32.ofInt 8) * (a1 &&& (Int32.ofInt 7)))
  let r3 : Int64 × FM := GX91_mask a2 M
  let x4 : Nat := (r3.2.2.2 201 a0 0)
  let x5 : Nat := (r3.2.2.2 201 a0 0)
  let M6 : FM := fm_sL r3.2 3 x5 x1.toNatClampNeg (((r3.2.2.1 3 x4 x1.toNatClampNeg) &&& ((r3.1 <<< (x2.toInt64 &&& 63)) ^^^ (Int64.ofInt (-1)))) ||| ((a3 &&& r3.1) <<< (x2.toInt64 &&& 63)))
  fi ((x2 + ((Int32.ofInt 8) * a2)) ≤ (Int32.ofInt 64)) (
    GX91_put_106 M6) (
    let x7 : Int32 := (x1 + (Int32.ofInt 1))
    let x8 : Nat := (M6.2.2 201 a0 0)
    let x9 : Int32 := (x1 + (Int32.ofInt 1))
    let x10 : Nat := (M6.2.2 201 a0 0)
    let M11 : FM := fm_sL M6 3 x10 x9.toNatClampNeg (((M6.2.1 3 x8 x7.toNatClampNeg) &&& ((r3.1.toUInt64 >>> (((Int32.ofInt 64) - x2).toInt64.toUInt64 &&& Int64.toUInt64 63)).toInt64 ^^^ (Int64.ofInt (-1)))) ||| ((a3 &&& r3.1).toUInt64 >>> (((Int32.ofInt 64) - x2).toInt64.toUInt64 &&& Int64.toUInt64 63)).toInt64)
    GX91_put_106 M11)
def HX91_put_0 (a0 : Nat) (a1 : Int32) (a2 : Int32) (a3 : Int64) (M : FM) : Prop := let x1 : Int32 := (a1 >>> ((Int32.ofInt 3) &&& 31)); let x2 : Int32 := ((Int32.ofInt 8) * (a1 &&& (Int32.ofInt 7))); let r3 : Int64 × FM := GX91_mask a2 M; let x4 : Nat := (r3.2.2.2 201 a0 0); (fm_in r3.2 x4 x1 = true ∧ let x5 : Nat := (r3.2.2.2 201 a0 0); (fm_in r3.2 x5 x1 = true ∧ let M6 : FM := fm_sL r3.2 3 x5 x1.toNatClampNeg (((r3.2.2.1 3 x4 x1.toNatClampNeg) &&& ((r3.1 <<< (x2.toInt64 &&& 63)) ^^^ (Int64.ofInt (-1)))) ||| ((a3 &&& r3.1) <<< (x2.toInt64 &&& 63))); (((x2 + ((Int32.ofInt 8) * a2)) ≤ (Int32.ofInt 64) → True) ∧ (¬ ((x2 + ((Int32.ofInt 8) * a2)) ≤ (Int32.ofInt 64)) → let x7 : Int32 := (x1 + (Int32.ofInt 1)); let x8 : Nat := (M6.2.2 201 a0 0); (fm_in M6 x8 x7 = true ∧ let x9 : Int32 := (x1 + (Int32.ofInt 1)); let x10 : Nat := (M6.2.2 201 a0 0); (fm_in M6 x10 x9 = true ∧ True))))))
theorem gX91_put_0 (a0 : Nat) (a1 : Int32) (a2 : Int32) (a3 : Int64) (M : FM) (T : Ty M) (n_a0 : fm_is M 72 72 a0 = true) (h : HX91_put_0 a0 a1 a2 a3 M) : gd (FX91_put_0 a0 a1 a2 a3 M) (GX91_put_0 a0 a1 a2 a3 M) (OkV M) := by
  delta FX91_put_0 BX91_put_0
  refine gd_b (gX91_mask _ _ ⟨T.1, T.2⟩  ) (fun K0 => ?_)
  have f1 := (ext_is K0.2 (Nat.zero_lt_succ _) n_a0)
  refine gd_c f1 ?_
  have f2 := (ext_is K0.2 (Nat.zero_lt_succ _) n_a0)
  refine gd_c f2 ?_
  have f9 := (tN_201 K0.1.1 (ext_is K0.2 (Nat.zero_lt_succ _) n_a0))
  refine gd_c ⟨f9, h.1⟩ ?_
  have f3 := (tN_201 K0.1.1 (ext_is K0.2 (Nat.zero_lt_succ _) n_a0))
  refine gd_c ⟨f3, h.2.1⟩ ?_
  refine gd_fi (fun c4_0 => ?_) (fun c4_0 => ?_)
  · exact gd_tV (ext_tr K0.2 (ext_dL (ext_r _))) (gX91_put_106  _ ⟨K0.1.1, K0.1.2⟩  )
  · have f5 := (ext_is K0.2 (Nat.zero_lt_succ _) n_a0)
    refine gd_c f5 ?_
    have f6 := (ext_is K0.2 (Nat.zero_lt_succ _) n_a0)
    refine gd_c f6 ?_
    have f8 := (tN_201 K0.1.1 (ext_is K0.2 (Nat.zero_lt_succ _) n_a0))
    refine gd_c ⟨f8, (h.2.2.2 c4_0).1⟩ ?_
    have f7 := (tN_201 K0.1.1 (ext_is K0.2 (Nat.zero_lt_succ _) n_a0))
    refine gd_c ⟨f7, (h.2.2.2 c4_0).2.1⟩ ?_
    exact gd_tV (ext_tr K0.2 (ext_dL (ext_dL (ext_r _)))) (gX91_put_106  _ ⟨K0.1.1, K0.1.2⟩  )
noncomputable def GX91_put (a0 : Nat) (a1 : Int32) (a2 : Int32) (a3 : Int64) (M : FM) : FM := GX91_put_0 a0 a1 a2 a3 M
def HX91_put (a0 : Nat) (a1 : Int32) (a2 : Int32) (a3 : Int64) (M : FM) : Prop := HX91_put_0 a0 a1 a2 a3 M
theorem gX91_put (a0 : Nat) (a1 : Int32) (a2 : Int32) (a3 : Int64) (M : FM) (T : Ty M) (n_a0 : fm_is M 72 72 a0 = true) (h : HX91_put a0 a1 a2 a3 M) : gd (FX91_put a0 a1 a2 a3 M) (GX91_put a0 a1 a2 a3 M) (OkV M) := gX91_put_0 a0 a1 a2 a3 M T n_a0 h
noncomputable def GX12_touch_33 (M : FM) : FM :=
  M
theorem gX12_touch_33 (M : FM) (T : Ty M) : gd (FX12_touch_33 M) (GX12_touch_33 M) (OkV M) := by
  delta FX12_touch_33 BX12_touch_33
  exact ⟨rfl, ⟨T.1, T.2⟩, (ext_r _)⟩
noncomputable def GX12_touch_0 (a0 : Nat) (a1 : Int64) (a3 : Int64) (M : FM) : FM :=
  let x1 : Int64 := ((M.2.1 207 a0 0) &&& (Int64.ofInt (-8)))
  fi (0 ≤ (lg_cmp a1 (x1 + (Int64.ofInt 8)))) (
    GX12_touch_33 M) (
    fi ((lg_cmp a3 x1) ≤ 0) (
      GX12_touch_33 M) (
      let M2 : FM := fm_sI M 208 a0 0 (Int32.ofInt 0)
      GX12_touch_33 M2))
theorem gX12_touch_0 (a0 : Nat) (a1 : Int64) (a3 : Int64) (M : FM) (T : Ty M) (n_a0 : fm_is M 74 74 a0 = true) : gd (FX12_touch_0 a0 a1 a3 M) (GX12_touch_0 a0 a1 a3 M) (OkV M) := by
  delta FX12_touch_0 BX12_touch_0
  refine gd_c n_a0 ?_
  refine gd_fi (fun c0_0 => ?_) (fun c0_0 => ?_)
  · exact gd_tV (ext_r _) (gX12_touch_33  _ ⟨T.1, T.2⟩  )
  · refine gd_fi (fun c1_0 => ?_) (fun c1_0 => ?_)
    · exact gd_tV (ext_r _) (gX12_touch_33  _ ⟨T.1, T.2⟩  )
    · refine gd_c n_a0 ?_
      exact gd_tV (ext_dI (ext_r _)) (gX12_touch_33  _ ⟨T.1, (tyb_sI (f := 208) rfl T.2)⟩  )
noncomputable def GX12_touch (a0 : Nat) (a1 : Int64) (a3 : Int64) (M : FM) : FM := GX12_touch_0 a0 a1 a3 M
theorem gX12_touch (a0 : Nat) (a1 : Int64) (a3 : Int64) (M : FM) (T : Ty M) (n_a0 : fm_is M 74 74 a0 = true) : gd (FX12_touch a0 a1 a3 M) (GX12_touch a0 a1 a3 M) (OkV M) := gX12_touch_0 a0 a1 a3 M T n_a0 
def kX11_touch (k14 : Int64 → Int64 → Nat → Int32 → Int32 → FM → Option (FM)) : (Int64 × Int64 × Nat × Int32 × Int32 × FM) ⊕ (FM) → Option (FM)
  | .inl (v0, v1, v2, v3, v4, M') => k14 v0 v1 v2 v3 v4 M'
  | .inr (r) => some r
def pX11_touch (M : FM) : (Int64 × Int64 × Nat × Int32 × Int32 × FM) ⊕ (FM) → Prop
  | .inl (_, _, _, _, _, M') => OkV M M'
  | .inr (r) => OkV M r
theorem pX11_touch_t {M M1 : FM} (e : Ext M M1) : ∀ y, pX11_touch M1 y → pX11_touch M y
  | .inl (_, _, _, _, _, _), h => ⟨h.1, ext_tr e h.2⟩
  | .inr (r), h => ⟨h.1, ext_tr e h.2⟩
noncomputable def GX11_touch_0 (a0 : Nat) (a1 : Int64) (a3 : Int64) (M : FM) : (Int64 × Int64 × Nat × Int32 × Int32 × FM) ⊕ (FM) :=
  let x1 : Nat := (M.2.2 205 a0 0)
  let x2 : Int32 := (Int32.ofNat (M.2.2 1 x1 0))
  (.inl (a1, a3, x1, x2, (Int32.ofInt 0), M))
theorem gX11_touch_0 (k14 : Int64 → Int64 → Nat → Int32 → Int32 → FM → Option (FM)) (a0 : Nat) (a1 : Int64) (a3 : Int64) (M : FM) (T : Ty M) (n_a0 : fm_is M 73 73 a0 = true) : gs (FX11_touch_0 fN k14 a0 a1 a3 M) (GX11_touch_0 a0 a1 a3 M) (kX11_touch k14) (pX11_touch M) := by
  delta FX11_touch_0 BX11_touch_0
  refine gs_c n_a0 ?_
  have f0 := (fm_w (lo' := 901) (hi' := 990) rfl rfl (tN_205 T.1 n_a0))
  refine gs_c f0 ?_
  exact And.intro rfl (And.intro (And.intro T.1 T.2) ((ext_r _)))
noncomputable def GX11_touch_14 (a1 : Int64) (a3 : Int64) (a5 : Nat) (a6 : Int32) (a7 : Int32) (M : FM) : (Int64 × Int64 × Nat × Int32 × Int32 × FM) ⊕ (FM) :=
  fi (a6 ≤ a7) (
    (.inr M)) (
    let x1 : Nat := (M.2.2 3 a5 a7.toNatClampNeg)
    let M2 : FM := GX12_touch x1 a1 a3 M
    let x3 : Int32 := a7 + (Int32.ofInt 1)
    (.inl (a1, a3, a5, a6, x3, M2)))
def HX11_touch_14 (a1 : Int64) (a3 : Int64) (a5 : Nat) (a6 : Int32) (a7 : Int32) (M : FM) : Prop := ((a6 ≤ a7 → True) ∧ (¬ (a6 ≤ a7) → (fm_in M a5 a7 = true ∧ True)))
theorem gX11_touch_14 (k14 : Int64 → Int64 → Nat → Int32 → Int32 → FM → Option (FM)) (a1 : Int64) (a3 : Int64) (a5 : Nat) (a6 : Int32) (a7 : Int32) (M : FM) (T : Ty M) (n_a5 : fm_is M 921 921 a5 = true) (h : HX11_touch_14 a1 a3 a5 a6 a7 M) : gs (FX11_touch_14 fN k14 a1 a3 a5 a6 a7 M) (GX11_touch_14 a1 a3 a5 a6 a7 M) (kX11_touch k14) (pX11_touch M) := by
  delta FX11_touch_14 BX11_touch_14
  refine gs_fi (fun c0_0 => ?_) (fun c0_0 => ?_)
  · exact And.intro rfl (And.intro (And.intro T.1 T.2) ((ext_r _)))
  · have f4 := (fm_w (lo' := 910) (hi' := 990) rfl rfl n_a5)
    refine gs_c ⟨f4, (h.2 c0_0).1⟩ ?_
    have f1 := (tE_921 T.1 n_a5 (h.2 c0_0).1)
    refine gs_c f1 ?_
    have f3 := (tE_921 T.1 n_a5 (h.2 c0_0).1)
    refine gs_b (gX12_touch _ _ _ _ ⟨T.1, T.2⟩ f3 ) (fun K2 => ?_)
    exact And.intro rfl (And.intro (And.intro K2.1.1 K2.1.2) K2.2)
noncomputable def GX11_touch (a0 : Nat) (a1 : Int64) (a2 : Int64) (M : FM) : FM := (FX11_touch fN a0 a1 a2 M).getD M
def HX11_touch (a0 : Nat) (a1 : Int64) (a2 : Int64) (M : FM) : Prop := ∃ r, FX11_touch fN a0 a1 a2 M = some r ∧ OkV M r
theorem gX11_touch (a0 : Nat) (a1 : Int64) (a2 : Int64) (M : FM) (h : HX11_touch a0 a1 a2 M) : gd (FX11_touch fN a0 a1 a2 M) (GX11_touch a0 a1 a2 M) (OkV M) := gd_op h
noncomputable def GX11_store_93 (a0 : Nat) (a1 : Int64) (a3 : Int32) (M : FM) : FM :=
  let M1 : FM := GX11_touch a0 a1 (a1 + a3.toInt64) M
  M1
def HX11_store_93 (a0 : Nat) (a1 : Int64) (a3 : Int32) (M : FM) : Prop := (HX11_touch a0 a1 (a1 + a3.toInt64) M ∧ True)
theorem gX11_store_93 (a0 : Nat) (a1 : Int64) (a3 : Int32) (M : FM) (T : Ty M) (n_a0 : fm_is M 73 73 a0 = true) (h : HX11_store_93 a0 a1 a3 M) : gd (FX11_store_93 fN a0 a1 a3 M) (GX11_store_93 a0 a1 a3 M) (OkV M) := by
  delta FX11_store_93 BX11_store_93
  refine gd_c n_a0 ?_
  refine gd_b (gX11_touch _ _ _ _ h.1) (fun K0 => ?_)
  exact ⟨rfl, ⟨K0.1.1, K0.1.2⟩, K0.2⟩
noncomputable def GX11_store_0 (a0 : Nat) (a1 : Int64) (a3 : Int32) (a4 : Int64) (M : FM) : FM :=
  let r1 : Int32 × FM := GX11_pageOf a1 M
  let r2 : Int32 × FM := GX11_placeOf a1 r1.2
  let r3 : Int32 × FM := GJ5_min a3 ((Int32.ofInt 4096) - r2.1) r2.2
  let r4 : Nat × FM := GX11_made a0 r1.1 r3.2
  let M5 : FM := GX91_put r4.1 r2.1 r3.1 a4 r4.2
  let x6 : Nat := (M5.2.2 204 a0 0)
  let M7 : FM := fm_sL M5 3 x6 r1.1.toNatClampNeg ((M5.2.1 3 x6 r1.1.toNatClampNeg) + (Int64.ofInt 1))
  fi (a3 ≤ r3.1) (
    GX11_store_93 a0 a1 a3 M7) (
    let r8 : Nat × FM := GX11_made a0 (r1.1 + (Int32.ofInt 1)) M7
    let M9 : FM := GX91_put r8.1 (Int32.ofInt 0) (a3 - r3.1) ((a4.toUInt64 >>> (((Int32.ofInt 8) * r3.1).toInt64.toUInt64 &&& Int64.toUInt64 63)).toInt64) r8.2
    let x10 : Int32 := (r1.1 + (Int32.ofInt 1))
    let x11 : Nat := (M9.2.2 204 a0 0)
    let M12 : FM := fm_sL M9 3 x11 x10.toNatClampNeg ((M9.2.1 3 x11 x10.toNatClampNeg) + (Int64.ofInt 1))
    GX11_store_93 a0 a1 a3 M12)
def HX11_store_0 (a0 : Nat) (a1 : Int64) (a3 : Int32) (a4 : Int64) (M : FM) : Prop := let r1 : Int32 × FM := GX11_pageOf a1 M; let r2 : Int32 × FM := GX11_placeOf a1 r1.2; let r3 : Int32 × FM := GJ5_min a3 ((Int32.ofInt 4096) - r2.1) r2.2; (HX11_made a0 r1.1 r3.2 ∧ let r4 : Nat × FM := GX11_made a0 r1.1 r3.2; (HX91_put r4.1 r2.1 r3.1 a4 r4.2 ∧ let M5 : FM := GX91_put r4.1 r2.1 r3.1 a4 r4.2; let x6 : Nat := (M5.2.2 204 a0 0); (fm_in M5 x6 r1.1 = true ∧ (fm_in M5 x6 r1.1 = true ∧ let M7 : FM := fm_sL M5 3 x6 r1.1.toNatClampNeg ((M5.2.1 3 x6 r1.1.toNatClampNeg) + (Int64.ofInt 1)); ((a3 ≤ r3.1 → HX11_store_93 a0 a1 a3 M7) ∧ (¬ (a3 ≤ r3.1) → (HX11_made a0 (r1.1 + (Int32.ofInt 1)) M7 ∧ let r8 : Nat × FM := GX11_made a0 (r1.1 + (Int32.ofInt 1)) M7; (HX91_put r8.1 (Int32.ofInt 0) (a3 - r3.1) ((a4.toUInt64 >>> (((Int32.ofInt 8) * r3.1).toInt64.toUInt64 &&& Int64.toUInt64 63)).toInt64) r8.2 ∧ let M9 : FM := GX91_put r8.1 (Int32.ofInt 0) (a3 - r3.1) ((a4.toUInt64 >>> (((Int32.ofInt 8) * r3.1).toInt64.toUInt64 &&& Int64.toUInt64 63)).toInt64) r8.2; let x10 : Int32 := (r1.1 + (Int32.ofInt 1)); let x11 : Nat := (M9.2.2 204 a0 0); (fm_in M9 x11 x10 = true ∧ (fm_in M9 x11 x10 = true ∧ let M12 : FM := fm_sL M9 3 x11 x10.toNatClampNeg ((M9.2.1 3 x11 x10.toNatClampNeg) + (Int64.ofInt 1)); HX11_store_93 a0 a1 a3 M12))))))))))
theorem gX11_store_0 (a0 : Nat) (a1 : Int64) (a3 : Int32) (a4 : Int64) (M : FM) (T : Ty M) (n_a0 : fm_is M 73 73 a0 = true) (h : HX11_store_0 a0 a1 a3 a4 M) : gd (FX11_store_0 fN a0 a1 a3 a4 M) (GX11_store_0 a0 a1 a3 a4 M) (OkV M) := by
  delta FX11_store_0 BX11_store_0
  refine gd_b (gX11_pageOf _ _ ⟨T.1, T.2⟩  ) (fun K0 => ?_)
  refine gd_b (gX11_placeOf _ _ ⟨K0.1.1, K0.1.2⟩  ) (fun K1 => ?_)
  refine gd_b (gJ5_min _ _ _ ⟨K1.1.1, K1.1.2⟩  ) (fun K2 => ?_)
  have f3 := (ext_is K2.2 (Nat.zero_lt_succ _) (ext_is K1.2 (Nat.zero_lt_succ _) (ext_is K0.2 (Nat.zero_lt_succ _) n_a0)))
  refine gd_c f3 ?_
  refine gd_b (gX11_made _ _ _ h.1) (fun K4 => ?_)
  refine gd_c K4.2.2 ?_
  refine gd_b (gX91_put _ _ _ _ _ ⟨K4.1.1, K4.1.2⟩ K4.2.2 h.2.1) (fun K5 => ?_)
  have f6 := (ext_is K5.2 (Nat.zero_lt_succ _) (ext_is K4.2.1 (Nat.zero_lt_succ _) (ext_is K2.2 (Nat.zero_lt_succ _) (ext_is K1.2 (Nat.zero_lt_succ _) (ext_is K0.2 (Nat.zero_lt_succ _) n_a0)))))
  refine gd_c f6 ?_
  have f17 := (tN_204 K5.1.1 (ext_is K5.2 (Nat.zero_lt_succ _) (ext_is K4.2.1 (Nat.zero_lt_succ _) (ext_is K2.2 (Nat.zero_lt_succ _) (ext_is K1.2 (Nat.zero_lt_succ _) (ext_is K0.2 (Nat.zero_lt_succ _) n_a0))))))
  refine gd_c ⟨f17, h.2.2.1⟩ ?_
  have f7 := (tN_204 K5.1.1 (ext_is K5.2 (Nat.zero_lt_succ _) (ext_is K4.2.1 (Nat.zero_lt_succ _) (ext_is K2.2 (Nat.zero_lt_succ _) (ext_is K1.2 (Nat.zero_lt_succ _) (ext_is K0.2 (Nat.zero_lt_succ _) n_a0))))))
  refine gd_c ⟨f7, h.2.2.2.1⟩ ?_
  refine gd_fi (fun c8_0 => ?_) (fun c8_0 => ?_)
  · have f9 := (ext_is K5.2 (Nat.zero_lt_succ _) (ext_is K4.2.1 (Nat.zero_lt_succ _) (ext_is K2.2 (Nat.zero_lt_succ _) (ext_is K1.2 (Nat.zero_lt_succ _) (ext_is K0.2 (Nat.zero_lt_succ _) n_a0)))))
    exact gd_tV (ext_tr K0.2 (ext_tr K1.2 (ext_tr K2.2 (ext_tr K4.2.1 (ext_tr K5.2 (ext_dL (ext_r _))))))) (gX11_store_93 _ _ _ _ ⟨K5.1.1, K5.1.2⟩ f9 (h.2.2.2.2.1 c8_0))
  · have f10 := (ext_is K5.2 (Nat.zero_lt_succ _) (ext_is K4.2.1 (Nat.zero_lt_succ _) (ext_is K2.2 (Nat.zero_lt_succ _) (ext_is K1.2 (Nat.zero_lt_succ _) (ext_is K0.2 (Nat.zero_lt_succ _) n_a0)))))
    refine gd_c f10 ?_
    refine gd_b (gX11_made _ _ _ (h.2.2.2.2.2 c8_0).1) (fun K11 => ?_)
    refine gd_c K11.2.2 ?_
    refine gd_b (gX91_put _ _ _ _ _ ⟨K11.1.1, K11.1.2⟩ K11.2.2 (h.2.2.2.2.2 c8_0).2.1) (fun K12 => ?_)
    have f13 := (ext_is K12.2 (Nat.zero_lt_succ _) (ext_is K11.2.1 (Nat.zero_lt_succ _) (ext_is K5.2 (Nat.zero_lt_succ _) (ext_is K4.2.1 (Nat.zero_lt_succ _) (ext_is K2.2 (Nat.zero_lt_succ _) (ext_is K1.2 (Nat.zero_lt_succ _) (ext_is K0.2 (Nat.zero_lt_succ _) n_a0)))))))
    refine gd_c f13 ?_
    have f16 := (tN_204 K12.1.1 (ext_is K12.2 (Nat.zero_lt_succ _) (ext_is K11.2.1 (Nat.zero_lt_succ _) (ext_is K5.2 (Nat.zero_lt_succ _) (ext_is K4.2.1 (Nat.zero_lt_succ _) (ext_is K2.2 (Nat.zero_lt_succ _) (ext_is K1.2 (Nat.zero_lt_succ _) (ext_is K0.2 (Nat.zero_lt_succ _) n_a0))))))))
    refine gd_c ⟨f16, (h.2.2.2.2.2 c8_0).2.2.1⟩ ?_
    have f14 := (tN_204 K12.1.1 (ext_is K12.2 (Nat.zero_lt_succ _) (ext_is K11.2.1 (Nat.zero_lt_succ _) (ext_is K5.2 (Nat.zero_lt_succ _) (ext_is K4.2.1 (Nat.zero_lt_succ _) (ext_is K2.2 (Nat.zero_lt_succ _) (ext_is K1.2 (Nat.zero_lt_succ _) (ext_is K0.2 (Nat.zero_lt_succ _) n_a0))))))))
    refine gd_c ⟨f14, (h.2.2.2.2.2 c8_0).2.2.2.1⟩ ?_
    have f15 := (ext_is K12.2 (Nat.zero_lt_succ _) (ext_is K11.2.1 (Nat.zero_lt_succ _) (ext_is K5.2 (Nat.zero_lt_succ _) (ext_is K4.2.1 (Nat.zero_lt_succ _) (ext_is K2.2 (Nat.zero_lt_succ _) (ext_is K1.2 (Nat.zero_lt_succ _) (ext_is K0.2 (Nat.zero_lt_succ _) n_a0)))))))
    exact gd_tV (ext_tr K0.2 (ext_tr K1.2 (ext_tr K2.2 (ext_tr K4.2.1 (ext_tr K5.2 (ext_dL (ext_tr K11.2.1 (ext_tr K12.2 (ext_dL (ext_r _)))))))))) (gX11_store_93 _ _ _ _ ⟨K12.1.1, K12.1.2⟩ f15 (h.2.2.2.2.2 c8_0).2.2.2.2)
noncomputable def GX11_store (a0 : Nat) (a1 : Int64) (a3 : Int32) (a4 : Int64) (M : FM) : FM := GX11_store_0 a0 a1 a3 a4 M
def HX11_store (a0 : Nat) (a1 : Int64) (a3 : Int32) (a4 : Int64) (M : FM) : Prop := HX11_store_0 a0 a1 a3 a4 M
theorem gX11_store (a0 : Nat) (a1 : Int64) (a3 : Int32) (a4 : Int64) (M : FM) (T : Ty M) (n_a0 : fm_is M 73 73 a0 = true) (h : HX11_store a0 a1 a3 a4 M) : gd (FX11_store fN a0 a1 a3 a4 M) (GX11_store a0 a1 a3 a4 M) (OkV M) := gX11_store_0 a0 a1 a3 a4 M T n_a0 h
noncomputable def GX47_jump_0 (a0 : Nat) (a1 : Int64) (M : FM) : FM :=
  let x1 : Nat := (M.2.2 171 a0 0)
  let M2 : FM := fm_sL M 179 x1 0 (a1 &&& (Int64.ofInt (-2)))
  let M3 : FM := fm_sR M2 174 a0 0 0
  M3
theorem gX47_jump_0 (a0 : Nat) (a1 : Int64) (M : FM) (T : Ty M) (n_a0 : fm_is M 63 63 a0 = true) : gd (FX47_jump_0 a0 a1 M) (GX47_jump_0 a0 a1 M) (OkV M) := by
  delta FX47_jump_0 BX47_jump_0
  refine gd_c n_a0 ?_
  have f0 := (tN_171 T.1 n_a0)
  refine gd_c f0 ?_
  refine gd_c n_a0 ?_
  have TR1 : TyR (fm_sR (fm_sL M 179 ((M.2.2 171 a0 0)) 0 (a1 &&& (Int64.ofInt (-2)))) 174 a0 0 0).2.2 := (tS_174 T.1 (fun h => absurd rfl h))
  have BR1 : TyB (fm_sR (fm_sL M 179 ((M.2.2 171 a0 0)) 0 (a1 &&& (Int64.ofInt (-2)))) 174 a0 0 0) := (tyb_sR (f := 174) (by decide) T.2)
  exact ⟨rfl, ⟨TR1, BR1⟩, (ext_dL (ext_dR (by decide) (ext_r _)))⟩
noncomputable def GX47_jump (a0 : Nat) (a1 : Int64) (M : FM) : FM := GX47_jump_0 a0 a1 M
theorem gX47_jump (a0 : Nat) (a1 : Int64) (M : FM) (T : Ty M) (n_a0 : fm_is M 63 63 a0 = true) : gd (FX47_jump a0 a1 M) (GX47_jump a0 a1 M) (OkV M) := gX47_jump_0 a0 a1 M T n_a0 
noncomputable def GX59_putFlags_0 (a0 : Nat) (a1 : Int32) (M : FM) : FM :=
  let x1 : Nat := (M.2.2 94 a0 0)
  let M2 : FM := fm_sI M 91 x1 0 (a1 &&& (Int32.ofInt 31))
  let M3 : FM := fm_sI M2 96 a0 0 (Int32.ofInt 1)
  M3
theorem gX59_putFlags_0 (a0 : Nat) (a1 : Int32) (M : FM) (T : Ty M) (n_a0 : fm_is M 32 32 a0 = true) : gd (FX59_putFlags_0 a0 a1 M) (GX59_putFlags_0 a0 a1 M) (OkV M) := by
  delta FX59_putFlags_0 BX59_putFlags_0
  refine gd_c n_a0 ?_
  have f0 := (tN_94 T.1 n_a0)
  refine gd_c f0 ?_
  refine gd_c n_a0 ?_
  refine gd_c fz_1 ?_
  exact ⟨rfl, ⟨T.1, (tyb_sIb (f := 96) rfl (tyb_sI (f := 91) rfl T.2) fz_1)⟩, (ext_dI (ext_dI (ext_r _)))⟩
noncomputable def GX59_putFlags (a0 : Nat) (a1 : Int32) (M : FM) : FM := GX59_putFlags_0 a0 a1 M
theorem gX59_putFlags (a0 : Nat) (a1 : Int32) (M : FM) (T : Ty M) (n_a0 : fm_is M 32 32 a0 = true) : gd (FX59_putFlags a0 a1 M) (GX59_putFlags a0 a1 M) (OkV M) := gX59_putFlags_0 a0 a1 M T n_a0 
noncomputable def GX59_putMode_0 (a0 : Nat) (a1 : Int32) (M : FM) : FM :=
  let M1 : FM := fm_sI M 95 a0 0 (a1 &&& (Int32.ofInt 7))
  let M2 : FM := fm_sI M1 96 a0 0 (Int32.ofInt 1)
  M2
theorem gX59_putMode_0 (a0 : Nat) (a1 : Int32) (M : FM) (T : Ty M) (n_a0 : fm_is M 32 32 a0 = true) : gd (FX59_putMode_0 a0 a1 M) (GX59_putMode_0 a0 a1 M) (OkV M) := by
  delta FX59_putMode_0 BX59_putMode_0
  refine gd_c n_a0 ?_
  refine gd_c n_a0 ?_
  refine gd_c fz_1 ?_
  exact ⟨rfl, ⟨T.1, (tyb_sIb (f := 96) rfl (tyb_sI (f := 95) rfl T.2) fz_1)⟩, (ext_dI (ext_dI (ext_r _)))⟩
noncomputable def GX59_putMode (a0 : Nat) (a1 : Int32) (M : FM) : FM := GX59_putMode_0 a0 a1 M
theorem gX59_putMode (a0 : Nat) (a1 : Int32) (M : FM) (T : Ty M) (n_a0 : fm_is M 32 32 a0 = true) : gd (FX59_putMode a0 a1 M) (GX59_putMode a0 a1 M) (OkV M) := gX59_putMode_0 a0 a1 M T n_a0 
noncomputable def GX59_calm_0 (a0 : Nat) (M : FM) : FM :=
  let M1 : FM := fm_sI M 96 a0 0 (Int32.ofInt 0)
  let x2 : Nat := (M1.2.2 94 a0 0)
  let M3 : FM := fm_sI M1 92 x2 0 (Int32.ofInt 0)
  M3
theorem gX59_calm_0 (a0 : Nat) (M : FM) (T : Ty M) (n_a0 : fm_is M 32 32 a0 = true) : gd (FX59_calm_0 a0 M) (GX59_calm_0 a0 M) (OkV M) := by
  delta FX59_calm_0 BX59_calm_0
  refine gd_c n_a0 ?_
  refine gd_c fz_0 ?_
  refine gd_c n_a0 ?_
  have f0 := (tN_94 T.1 n_a0)
  refine gd_c f0 ?_
  refine gd_c fz_0 ?_
  exact ⟨rfl, ⟨T.1, (tyb_sIb (f := 92) rfl (tyb_sIb (f := 96) rfl T.2 fz_0) fz_0)⟩, (ext_dI (ext_dI (ext_r _)))⟩
noncomputable def GX59_calm (a0 : Nat) (M : FM) : FM := GX59_calm_0 a0 M
theorem gX59_calm (a0 : Nat) (M : FM) (T : Ty M) (n_a0 : fm_is M 32 32 a0 = true) : gd (FX59_calm a0 M) (GX59_calm a0 M) (OkV M) := gX59_calm_0 a0 M T n_a0 
noncomputable def GX46_table_0 (a0 : Nat) (M : FM) : Nat × FM :=
  let x1 : Nat := (M.2.2 213 a0 0)
  let x2 : Nat := (M.2.2 25 x1 0)
  let x3 : Nat := (M.2.2 3 x2 (Int32.ofInt 384).toNatClampNeg)
  (x3, M)
def HX46_table_0 (a0 : Nat) (M : FM) : Prop := let x1 : Nat := (M.2.2 213 a0 0); let x2 : Nat := (M.2.2 25 x1 0); let x3 : Nat := (M.2.2 3 x2 (Int32.ofInt 384).toNatClampNeg); (fm_is M 14 17 x3 = true ∧ True)
theorem gX46_table_0 (a0 : Nat) (M : FM) (T : Ty M) (n_a0 : fm_is M 75 75 a0 = true) (h : HX46_table_0 a0 M) : gd (FX46_table_0 a0 M) (GX46_table_0 a0 M) (OkN 14 17 M) := by
  delta FX46_table_0 BX46_table_0
  refine gd_c n_a0 ?_
  have f0 := (tN_213 T.1 n_a0)
  refine gd_c f0 ?_
  have f1 := (fm_w (lo' := 910) (hi' := 990) rfl rfl (tN_25 T.1 (tN_213 T.1 n_a0)))
  have f2 := (fm_inl (i := (Int32.ofInt 384)) (tL_25 T.1 (tN_213 T.1 n_a0)) (by decide))
  refine gd_c ⟨f1, f2⟩ ?_
  refine gd_c h.1 ?_
  exact ⟨rfl, ⟨T.1, T.2⟩, (ext_r _), h.1⟩
noncomputable def GX46_table (a0 : Nat) (M : FM) : Nat × FM := GX46_table_0 a0 M
def HX46_table (a0 : Nat) (M : FM) : Prop := HX46_table_0 a0 M
theorem gX46_table (a0 : Nat) (M : FM) (T : Ty M) (n_a0 : fm_is M 75 75 a0 = true) (h : HX46_table a0 M) : gd (FX46_table a0 M) (GX46_table a0 M) (OkN 14 17 M) := gX46_table_0 a0 M T n_a0 h
noncomputable def GX46_resetBank_0 (a0 : Nat) (M : FM) : FM :=
  let x1 : Nat := (M.2.2 49 a0 0)
  let M2 : FM := fm_sL M 41 x1 0 (Int64.ofInt 0)
  let x3 : Nat := (M2.2.2 50 a0 0)
  let M4 : FM := fm_sL M2 41 x3 0 (Int64.ofInt 0)
  let x5 : Nat := (M4.2.2 51 a0 0)
  let M6 : FM := fm_sL M4 41 x5 0 (Int64.ofInt 0)
  let x7 : Nat := (M6.2.2 52 a0 0)
  let M8 : FM := fm_sL M6 41 x7 0 (Int64.ofInt 0)
  let x9 : Nat := (M8.2.2 53 a0 0)
  let M10 : FM := fm_sL M8 41 x9 0 (Int64.ofInt 0)
  let x11 : Nat := (M10.2.2 54 a0 0)
  let M12 : FM := fm_sL M10 41 x11 0 (Int64.ofInt 0)
  M12
theorem gX46_resetBank_0 (a0 : Nat) (M : FM) (T : Ty M) (n_a0 : fm_is M 20 20 a0 = true) : gd (FX46_resetBank_0 a0 M) (GX46_resetBank_0 a0 M) (OkV M) := by
  delta FX46_resetBank_0 BX46_resetBank_0
  refine gd_c n_a0 ?_
  have f0 := (tN_49 T.1 n_a0)
  refine gd_c f0 ?_
  refine gd_c n_a0 ?_
  have f1 := (tN_50 T.1 n_a0)
  refine gd_c f1 ?_
  refine gd_c n_a0 ?_
  have f2 := (tN_51 T.1 n_a0)
  refine gd_c f2 ?_
  refine gd_c n_a0 ?_
  have f3 := (tN_52 T.1 n_a0)
  refine gd_c f3 ?_
  refine gd_c n_a0 ?_
  have f4 := (tN_53 T.1 n_a0)
  refine gd_c f4 ?_
  refine gd_c n_a0 ?_
  have f5 := (tN_54 T.1 n_a0)
  refine gd_c f5 ?_
  exact ⟨rfl, ⟨T.1, T.2⟩, (ext_dL (ext_dL (ext_dL (ext_dL (ext_dL (ext_dL (ext_r _)))))))⟩
noncomputable def GX46_resetBank (a0 : Nat) (M : FM) : FM := GX46_resetBank_0 a0 M
theorem gX46_resetBank (a0 : Nat) (M : FM) (T : Ty M) (n_a0 : fm_is M 20 20 a0 = true) : gd (FX46_resetBank a0 M) (GX46_resetBank a0 M) (OkV M) := gX46_resetBank_0 a0 M T n_a0 
noncomputable def GX46_resetControls_0 (a0 : Nat) (M : FM) : FM :=
  let x1 : Nat := (M.2.2 213 a0 0)
  let x2 : Nat := (M.2.2 27 x1 0)
  let M3 : FM := fm_sL M 41 x2 0 (Int64.ofInt 0)
  let x4 : Nat := (M3.2.2 213 a0 0)
  let x5 : Nat := (M3.2.2 28 x4 0)
  let M6 : FM := fm_sL M3 41 x5 0 (Int64.ofInt 0)
  let x7 : Nat := (M6.2.2 213 a0 0)
  let x8 : Nat := (M6.2.2 29 x7 0)
  let M9 : FM := fm_sL M6 41 x8 0 (Int64.ofInt 0)
  let x10 : Nat := (M9.2.2 213 a0 0)
  let x11 : Nat := (M9.2.2 30 x10 0)
  let M12 : FM := fm_sL M9 41 x11 0 (Int64.ofInt 0)
  let x13 : Nat := (M12.2.2 213 a0 0)
  let x14 : Nat := (M12.2.2 31 x13 0)
  let M15 : FM := fm_sL M12 41 x14 0 (Int64.ofInt 0)
  let x16 : Nat := (M15.2.2 213 a0 0)
  let x17 : Nat := (M15.2.2 34 x16 0)
  let M18 : FM := fm_sL M15 41 x17 0 (Int64.ofInt 0)
  let x19 : Nat := (M18.2.2 213 a0 0)
  let x20 : Nat := (M18.2.2 35 x19 0)
  let M21 : FM := fm_sL M18 41 x20 0 (Int64.ofInt 0)
  let r22 : Nat × FM := GX46_table a0 M21
  let M23 : FM := fm_sL r22.2 41 r22.1 0 (Int64.ofInt 0)
  let x24 : Nat := (M23.2.2 213 a0 0)
  let M25 : FM := GX46_resetBank (M23.2.2 32 x24 0) M23
  let x26 : Nat := (M25.2.2 213 a0 0)
  let M27 : FM := GX46_resetBank (M25.2.2 33 x26 0) M25
  let x28 : Nat := (M27.2.2 213 a0 0)
  let M29 : FM := fm_sI M27 37 x28 0 (Int32.ofInt 3)
  M29
def HX46_resetControls_0 (a0 : Nat) (M : FM) : Prop := let x1 : Nat := (M.2.2 213 a0 0); let x2 : Nat := (M.2.2 27 x1 0); let M3 : FM := fm_sL M 41 x2 0 (Int64.ofInt 0); let x4 : Nat := (M3.2.2 213 a0 0); let x5 : Nat := (M3.2.2 28 x4 0); let M6 : FM := fm_sL M3 41 x5 0 (Int64.ofInt 0); let x7 : Nat := (M6.2.2 213 a0 0); let x8 : Nat := (M6.2.2 29 x7 0); let M9 : FM := fm_sL M6 41 x8 0 (Int64.ofInt 0); let x10 : Nat := (M9.2.2 213 a0 0); let x11 : Nat := (M9.2.2 30 x10 0); let M12 : FM := fm_sL M9 41 x11 0 (Int64.ofInt 0); let x13 : Nat := (M12.2.2 213 a0 0); let x14 : Nat := (M12.2.2 31 x13 0); let M15 : FM := fm_sL M12 41 x14 0 (Int64.ofInt 0); let x16 : Nat := (M15.2.2 213 a0 0); let x17 : Nat := (M15.2.2 34 x16 0); let M18 : FM := fm_sL M15 41 x17 0 (Int64.ofInt 0); let x19 : Nat := (M18.2.2 213 a0 0); let x20 : Nat := (M18.2.2 35 x19 0); let M21 : FM := fm_sL M18 41 x20 0 (Int64.ofInt 0); (HX46_table a0 M21 ∧ True)
theorem gX46_resetControls_0 (a0 : Nat) (M : FM) (T : Ty M) (n_a0 : fm_is M 75 75 a0 = true) (h : HX46_resetControls_0 a0 M) : gd (FX46_resetControls_0 a0 M) (GX46_resetControls_0 a0 M) (OkV M) := by
  delta FX46_resetControls_0 BX46_resetControls_0
  refine gd_c n_a0 ?_
  have f0 := (tN_213 T.1 n_a0)
  refine gd_c f0 ?_
  have f1 := (tN_27 T.1 (tN_213 T.1 n_a0))
  refine gd_c f1 ?_
  refine gd_c n_a0 ?_
  have f2 := (tN_213 T.1 n_a0)
  refine gd_c f2 ?_
  have f3 := (tN_28 T.1 (tN_213 T.1 n_a0))
  refine gd_c f3 ?_
  refine gd_c n_a0 ?_
  have f4 := (tN_213 T.1 n_a0)
  refine gd_c f4 ?_
  have f5 := (tN_29 T.1 (tN_213 T.1 n_a0))
  refine gd_c f5 ?_
  refine gd_c n_a0 ?_
  have f6 := (tN_213 T.1 n_a0)
  refine gd_c f6 ?_
  have f7 := (tN_30 T.1 (tN_213 T.1 n_a0))
  refine gd_c f7 ?_
  refine gd_c n_a0 ?_
  have f8 := (tN_213 T.1 n_a0)
  refine gd_c f8 ?_
  have f9 := (tN_31 T.1 (tN_213 T.1 n_a0))
  refine gd_c f9 ?_
  refine gd_c n_a0 ?_
  have f10 := (tN_213 T.1 n_a0)
  refine gd_c f10 ?_
  have f11 := (tN_34 T.1 (tN_213 T.1 n_a0))
  refine gd_c f11 ?_
  refine gd_c n_a0 ?_
  have f12 := (tN_213 T.1 n_a0)
  refine gd_c f12 ?_
  have f13 := (tN_35 T.1 (tN_213 T.1 n_a0))
  refine gd_c f13 ?_
  refine gd_c n_a0 ?_
  refine gd_b (gX46_table _ _ ⟨T.1, T.2⟩ n_a0 h.1) (fun K14 => ?_)
  refine gd_c K14.2.2 ?_
  have f15 := (ext_is K14.2.1 (Nat.zero_lt_succ _) n_a0)
  refine gd_c f15 ?_
  have f16 := (tN_213 K14.1.1 (ext_is K14.2.1 (Nat.zero_lt_succ _) n_a0))
  refine gd_c f16 ?_
  have f24 := (tN_32 K14.1.1 (tN_213 K14.1.1 (ext_is K14.2.1 (Nat.zero_lt_succ _) n_a0)))
  refine gd_b (gX46_resetBank _ _ ⟨K14.1.1, K14.1.2⟩ f24 ) (fun K17 => ?_)
  have f18 := (ext_is K17.2 (Nat.zero_lt_succ _) (ext_is K14.2.1 (Nat.zero_lt_succ _) n_a0))
  refine gd_c f18 ?_
  have f19 := (tN_213 K17.1.1 (ext_is K17.2 (Nat.zero_lt_succ _) (ext_is K14.2.1 (Nat.zero_lt_succ _) n_a0)))
  refine gd_c f19 ?_
  have f23 := (tN_33 K17.1.1 (tN_213 K17.1.1 (ext_is K17.2 (Nat.zero_lt_succ _) (ext_is K14.2.1 (Nat.zero_lt_succ _) n_a0))))
  refine gd_b (gX46_resetBank _ _ ⟨K17.1.1, K17.1.2⟩ f23 ) (fun K20 => ?_)
  have f21 := (ext_is K20.2 (Nat.zero_lt_succ _) (ext_is K17.2 (Nat.zero_lt_succ _) (ext_is K14.2.1 (Nat.zero_lt_succ _) n_a0)))
  refine gd_c f21 ?_
  have f22 := (tN_213 K20.1.1 (ext_is K20.2 (Nat.zero_lt_succ _) (ext_is K17.2 (Nat.zero_lt_succ _) (ext_is K14.2.1 (Nat.zero_lt_succ _) n_a0))))
  refine gd_c f22 ?_
  exact ⟨rfl, ⟨K20.1.1, (tyb_sI (f := 37) rfl K20.1.2)⟩, (ext_dL (ext_dL (ext_dL (ext_dL (ext_dL (ext_dL (ext_dL (ext_tr K14.2.1 (ext_dL (ext_tr K17.2 (ext_tr K20.2 (ext_dI (ext_r _)))))))))))))⟩
noncomputable def GX46_resetControls (a0 : Nat) (M : FM) : FM := GX46_resetControls_0 a0 M
def HX46_resetControls (a0 : Nat) (M : FM) : Prop := HX46_resetControls_0 a0 M
theorem gX46_resetControls (a0 : Nat) (M : FM) (T : Ty M) (n_a0 : fm_is M 75 75 a0 = true) (h : HX46_resetControls a0 M) : gd (FX46_resetControls a0 M) (GX46_resetControls a0 M) (OkV M) := gX46_resetControls_0 a0 M T n_a0 h
noncomputable def GX87_span_44 (s0 : Nat) (M : FM) : Nat × FM :=
  (s0, M)
theorem gX87_span_44 (s0 : Nat) (M : FM) (T : Ty M) (n_s0 : fm_is M 5 5 s0 = true) : gd (FX87_span_44 s0 M) (GX87_span_44 s0 M) (OkN 5 5 M) := by
  delta FX87_span_44 BX87_span_44
  exact ⟨rfl, ⟨T.1, T.2⟩, (ext_r _), n_s0⟩
noncomputable def GX87_span_0 (a0 : Nat) (M : FM) : Nat × FM :=
  let x1 : Int32 := (((M.1 280 a0 0) >>> ((Int32.ofInt 3) &&& 31)) &&& (Int32.ofInt 3))
  fi (x1 = 0) (
    GX87_span_44 33 M) (
    fi (x1 = (Int32.ofInt 1)) (
      GX87_span_44 34 M) (
      fi (x1 = (Int32.ofInt 2)) (
        GX87_span_44 35 M) (
        GX87_span_44 36 M)))
theorem gX87_span_0 (a0 : Nat) (M : FM) (T : Ty M) (n_a0 : fm_is M 89 89 a0 = true) : gd (FX87_span_0 a0 M) (GX87_span_0 a0 M) (OkN 5 5 M) := by
  delta FX87_span_0 BX87_span_0
  refine gd_c n_a0 ?_
  refine gd_fi (fun c0_0 => ?_) (fun c0_0 => ?_)
  · have f1 := (tC_33 T.1)
    exact gd_tN (ext_r _) (gX87_span_44 _ _ ⟨T.1, T.2⟩ f1 )
  · refine gd_fi (fun c2_0 => ?_) (fun c2_0 => ?_)
    · have f3 := (tC_34 T.1)
      exact gd_tN (ext_r _) (gX87_span_44 _ _ ⟨T.1, T.2⟩ f3 )
    · refine gd_fi (fun c4_0 => ?_) (fun c4_0 => ?_)
      · have f5 := (tC_35 T.1)
        exact gd_tN (ext_r _) (gX87_span_44 _ _ ⟨T.1, T.2⟩ f5 )
      · have f6 := (tC_36 T.1)
        exact gd_tN (ext_r _) (gX87_span_44 _ _ ⟨T.1, T.2⟩ f6 )
noncomputable def GX87_span (a0 : Nat) (M : FM) : Nat × FM := GX87_span_0 a0 M
theorem gX87_span (a0 : Nat) (M : FM) (T : Ty M) (n_a0 : fm_is M 89 89 a0 = true) : gd (FX87_span a0 M) (GX87_span a0 M) (OkN 5 5 M) := gX87_span_0 a0 M T n_a0 
noncomputable def GJ0_ordinal_0 (a0 : Nat) (M : FM) : Int32 × FM :=
  ((M.1 10 a0 0), M)
theorem gJ0_ordinal_0 (a0 : Nat) (M : FM) (T : Ty M) (n_a0 : fm_is M 1 6 a0 = true) : gd (FJ0_ordinal_0 a0 M) (GJ0_ordinal_0 a0 M) (OkR M) := by
  delta FJ0_ordinal_0 BJ0_ordinal_0
  refine gd_c n_a0 ?_
  exact ⟨rfl, ⟨T.1, T.2⟩, (ext_r _)⟩
noncomputable def GJ0_ordinal (a0 : Nat) (M : FM) : Int32 × FM := GJ0_ordinal_0 a0 M
theorem gJ0_ordinal (a0 : Nat) (M : FM) (T : Ty M) (n_a0 : fm_is M 1 6 a0 = true) : gd (FJ0_ordinal a0 M) (GJ0_ordinal a0 M) (OkR M) := gJ0_ordinal_0 a0 M T n_a0 
noncomputable def GX87_lay_142 (M : FM) : FM :=
  M
theorem gX87_lay_142 (M : FM) (T : Ty M) : gd (FX87_lay_142 M) (GX87_lay_142 M) (OkV M) := by
  delta FX87_lay_142 BX87_lay_142
  exact ⟨rfl, ⟨T.1, T.2⟩, (ext_r _)⟩
noncomputable def GX87_lay_0 (a0 : Nat) (a1 : Int64) (M : FM) : FM :=
  let r1 : Nat × FM := GX87_span a0 M
  let r2 : Int32 × FM := GJ0_ordinal r1.1 r1.2
  fi (r2.1 = (Int32.ofInt 1)) (
    let M3 : FM := fm_sL r2.2 282 a0 0 ((Int64.ofInt 4) * a1)
    let M4 : FM := fm_sL M3 283 a0 0 ((Int64.ofInt 4) * (M3.2.1 281 a0 0))
    GX87_lay_142 M4) (
    fi (r2.1 = (Int32.ofInt 2)) (
      let M5 : FM := fm_sL r2.2 282 a0 0 ((Int64.ofInt 4) * (r2.2.2.1 281 a0 0))
      let M6 : FM := fm_sL M5 283 a0 0 ((M5.2.1 282 a0 0) + (Int64.ofInt 4))
      GX87_lay_142 M6) (
      fi (r2.1 = (Int32.ofInt 3)) (
        let x7 : Int64 := ((r2.2.2.1 281 a0 0) &&& (((r2.2.2.1 281 a0 0) + (Int64.ofInt 1)) ^^^ (Int64.ofInt (-1))))
        let M8 : FM := fm_sL r2.2 282 a0 0 ((Int64.ofInt 4) * ((r2.2.2.1 281 a0 0) - x7))
        let M9 : FM := fm_sL M8 283 a0 0 ((M8.2.1 282 a0 0) + ((Int64.ofInt 8) * (x7 + (Int64.ofInt 1))))
        GX87_lay_142 M9) (
        let M10 : FM := fm_sL r2.2 282 a0 0 (Int64.ofInt 0)
        let M11 : FM := fm_sL M10 283 a0 0 (Int64.ofInt 0)
        GX87_lay_142 M11)))
theorem gX87_lay_0 (a0 : Nat) (a1 : Int64) (M : FM) (T : Ty M) (n_a0 : fm_is M 89 89 a0 = true) : gd (FX87_lay_0 a0 a1 M) (GX87_lay_0 a0 a1 M) (OkV M) := by
  delta FX87_lay_0 BX87_lay_0
  refine gd_c n_a0 ?_
  refine gd_b (gX87_span _ _ ⟨T.1, T.2⟩ n_a0 ) (fun K0 => ?_)
  refine gd_c K0.2.2 ?_
  have f20 := (fm_w (lo' := 1) (hi' := 6) rfl rfl K0.2.2)
  refine gd_b (gJ0_ordinal _ _ ⟨K0.1.1, K0.1.2⟩ f20 ) (fun K1 => ?_)
  refine gd_fi (fun c2_0 => ?_) (fun c2_0 => ?_)
  · have f3 := (ext_is K1.2 (Nat.zero_lt_succ _) (ext_is K0.2.1 (Nat.zero_lt_succ _) n_a0))
    refine gd_c f3 ?_
    have f4 := (ext_is K1.2 (Nat.zero_lt_succ _) (ext_is K0.2.1 (Nat.zero_lt_succ _) n_a0))
    refine gd_c f4 ?_
    have f5 := (ext_is K1.2 (Nat.zero_lt_succ _) (ext_is K0.2.1 (Nat.zero_lt_succ _) n_a0))
    refine gd_c f5 ?_
    exact gd_tV (ext_tr K0.2.1 (ext_tr K1.2 (ext_dL (ext_dL (ext_r _))))) (gX87_lay_142  _ ⟨K1.1.1, K1.1.2⟩  )
  · refine gd_fi (fun c6_1 => ?_) (fun c6_1 => ?_)
    · have f7 := (ext_is K1.2 (Nat.zero_lt_succ _) (ext_is K0.2.1 (Nat.zero_lt_succ _) n_a0))
      refine gd_c f7 ?_
      have f8 := (ext_is K1.2 (Nat.zero_lt_succ _) (ext_is K0.2.1 (Nat.zero_lt_succ _) n_a0))
      refine gd_c f8 ?_
      have f9 := (ext_is K1.2 (Nat.zero_lt_succ _) (ext_is K0.2.1 (Nat.zero_lt_succ _) n_a0))
      refine gd_c f9 ?_
      have f10 := (ext_is K1.2 (Nat.zero_lt_succ _) (ext_is K0.2.1 (Nat.zero_lt_succ _) n_a0))
      refine gd_c f10 ?_
      exact gd_tV (ext_tr K0.2.1 (ext_tr K1.2 (ext_dL (ext_dL (ext_r _))))) (gX87_lay_142  _ ⟨K1.1.1, K1.1.2⟩  )
    · refine gd_fi (fun c11_2 => ?_) (fun c11_2 => ?_)
      · have f12 := (ext_is K1.2 (Nat.zero_lt_succ _) (ext_is K0.2.1 (Nat.zero_lt_succ _) n_a0))
        refine gd_c f12 ?_
        have f13 := (ext_is K1.2 (Nat.zero_lt_succ _) (ext_is K0.2.1 (Nat.zero_lt_succ _) n_a0))
        refine gd_c f13 ?_
        have f14 := (ext_is K1.2 (Nat.zero_lt_succ _) (ext_is K0.2.1 (Nat.zero_lt_succ _) n_a0))
        refine gd_c f14 ?_
        have f15 := (ext_is K1.2 (Nat.zero_lt_succ _) (ext_is K0.2.1 (Nat.zero_lt_succ _) n_a0))
        refine gd_c f15 ?_
        have f16 := (ext_is K1.2 (Nat.zero_lt_succ _) (ext_is K0.2.1 (Nat.zero_lt_succ _) n_a0))
        refine gd_c f16 ?_
        have f17 := (ext_is K1.2 (Nat.zero_lt_succ _) (ext_is K0.2.1 (Nat.zero_lt_succ _) n_a0))
        refine gd_c f17 ?_
        exact gd_tV (ext_tr K0.2.1 (ext_tr K1.2 (ext_dL (ext_dL (ext_r _))))) (gX87_lay_142  _ ⟨K1.1.1, K1.1.2⟩  )
      · have f18 := (ext_is K1.2 (Nat.zero_lt_succ _) (ext_is K0.2.1 (Nat.zero_lt_succ _) n_a0))
        refine gd_c f18 ?_
        have f19 := (ext_is K1.2 (Nat.zero_lt_succ _) (ext_is K0.2.1 (Nat.zero_lt_succ _) n_a0))
        refine gd_c f19 ?_
        exact gd_tV (ext_tr K0.2.1 (ext_tr K1.2 (ext_dL (ext_dL (ext_r _))))) (gX87_lay_142  _ ⟨K1.1.1, K1.1.2⟩  )
noncomputable def GX87_lay (a0 : Nat) (a1 : Int64) (M : FM) : FM := GX87_lay_0 a0 a1 M
theorem gX87_lay (a0 : Nat) (a1 : Int64) (M : FM) (T : Ty M) (n_a0 : fm_is M 89 89 a0 = true) : gd (FX87_lay a0 a1 M) (GX87_lay a0 a1 M) (OkV M) := gX87_lay_0 a0 a1 M T n_a0 
def kX86_lay (k2 : Nat → Int32 → FM → Option (FM)) : (Nat × Int32 × FM) ⊕ (FM) → Option (FM)
  | .inl (v0, v1, M') => k2 v0 v1 M'
  | .inr (r) => some r
def pX86_lay (M : FM) : (Nat × Int32 × FM) ⊕ (FM) → Prop
  | .inl (_, _, M') => OkV M M'
  | .inr (r) => OkV M r
theorem pX86_lay_t {M M1 : FM} (e : Ext M M1) : ∀ y, pX86_lay M1 y → pX86_lay M y
  | .inl (_, _, _), h => ⟨h.1, ext_tr e h.2⟩
  | .inr (r), h => ⟨h.1, ext_tr e h.2⟩
noncomputable def GX86_lay_33 (a0 : Nat) (a1 : Int32) (s0 : Nat) (s1 : Int64) (M : FM) : (Nat × Int32 × FM) ⊕ (FM) :=
  let M1 : FM := GX87_lay s0 s1 M
  let x2 : Int32 := a1 + (Int32.ofInt 1)
  (.inl (a0, x2, M1))
theorem gX86_lay_33 (k2 : Nat → Int32 → FM → Option (FM)) (a0 : Nat) (a1 : Int32) (s0 : Nat) (s1 : Int64) (M : FM) (T : Ty M) (n_s0 : fm_is M 89 89 s0 = true) : gs (FX86_lay_33 fN k2 a0 a1 s0 s1 M) (GX86_lay_33 a0 a1 s0 s1 M) (kX86_lay k2) (pX86_lay M) := by
  delta FX86_lay_33 BX86_lay_33
  refine gs_c n_s0 ?_
  refine gs_b (gX87_lay _ _ _ ⟨T.1, T.2⟩ n_s0 ) (fun K0 => ?_)
  exact And.intro rfl (And.intro (And.intro K0.1.1 K0.1.2) K0.2)
noncomputable def GX86_lay_0 (a0 : Nat) (M : FM) : (Nat × Int32 × FM) ⊕ (FM) :=
  (.inl (a0, (Int32.ofInt 0), M))
theorem gX86_lay_0 (k2 : Nat → Int32 → FM → Option (FM)) (a0 : Nat) (M : FM) (T : Ty M) : gs (FX86_lay_0 fN k2 a0 M) (GX86_lay_0 a0 M) (kX86_lay k2) (pX86_lay M) := by
  delta FX86_lay_0 BX86_lay_0
  exact And.intro rfl (And.intro (And.intro T.1 T.2) ((ext_r _)))
noncomputable def GX86_lay_2 (a0 : Nat) (a1 : Int32) (M : FM) : (Nat × Int32 × FM) ⊕ (FM) :=
  fi ((Int32.ofInt 8) ≤ a1) (
    let M1 : FM := fm_sI M 285 a0 0 ((M.1 285 a0 0) + (Int32.ofInt 1))
    (.inr M1)) (
    let x2 : Nat := (M.2.2 284 a0 0)
    fi (a1 = 0) (
      GX86_lay_33 a0 a1 (M.2.2 3 x2 a1.toNatClampNeg) (Int64.ofInt 0) M) (
      let x3 : Int32 := (a1 - (Int32.ofInt 1))
      let x4 : Nat := (M.2.2 284 a0 0)
      let x5 : Nat := (M.2.2 3 x4 x3.toNatClampNeg)
      GX86_lay_33 a0 a1 (M.2.2 3 x2 a1.toNatClampNeg) (M.2.1 281 x5 0) M))
def HX86_lay_2 (a0 : Nat) (a1 : Int32) (M : FM) : Prop := (((Int32.ofInt 8) ≤ a1 → True) ∧ (¬ ((Int32.ofInt 8) ≤ a1) → let x2 : Nat := (M.2.2 284 a0 0); (fm_in M x2 a1 = true ∧ ((a1 = 0 → True) ∧ (¬ (a1 = 0) → let x3 : Int32 := (a1 - (Int32.ofInt 1)); let x4 : Nat := (M.2.2 284 a0 0); (fm_in M x4 x3 = true ∧ True))))))
theorem gX86_lay_2 (k2 : Nat → Int32 → FM → Option (FM)) (a0 : Nat) (a1 : Int32) (M : FM) (T : Ty M) (n_a0 : fm_is M 90 90 a0 = true) (h : HX86_lay_2 a0 a1 M) : gs (FX86_lay_2 fN k2 a0 a1 M) (GX86_lay_2 a0 a1 M) (kX86_lay k2) (pX86_lay M) := by
  delta FX86_lay_2 BX86_lay_2
  refine gs_fi (fun c0_0 => ?_) (fun c0_0 => ?_)
  · refine gs_c n_a0 ?_
    refine gs_c n_a0 ?_
    exact And.intro rfl (And.intro (And.intro T.1 (tyb_sI (f := 285) rfl T.2)) ((ext_dI (ext_r _))))
  · refine gs_c n_a0 ?_
    have f7 := (fm_w (lo' := 910) (hi' := 990) rfl rfl (tN_284 T.1 n_a0))
    refine gs_c ⟨f7, (h.2 c0_0).1⟩ ?_
    refine gs_fi (fun c1_0 => ?_) (fun c1_0 => ?_)
    · have f2 := (tE_927 T.1 (tN_284 T.1 n_a0) (h.2 c0_0).1)
      exact gs_t (pX86_lay_t (ext_r _)) (gX86_lay_33 k2 _ _ _ _ _ ⟨T.1, T.2⟩ f2 )
    · refine gs_c n_a0 ?_
      have f5 := (fm_w (lo' := 910) (hi' := 990) rfl rfl (tN_284 T.1 n_a0))
      have f6 := ((h.2 c0_0).2.2 c1_0).1
      refine gs_c ⟨f5, f6⟩ ?_
      have f3 := (tE_927 T.1 (tN_284 T.1 n_a0) ((h.2 c0_0).2.2 c1_0).1)
      refine gs_c f3 ?_
      have f4 := (tE_927 T.1 (tN_284 T.1 n_a0) (h.2 c0_0).1)
      exact gs_t (pX86_lay_t (ext_r _)) (gX86_lay_33 k2 _ _ _ _ _ ⟨T.1, T.2⟩ f4 )
noncomputable def GX86_lay (a0 : Nat) (M : FM) : FM := (FX86_lay fN a0 M).getD M
def HX86_lay (a0 : Nat) (M : FM) : Prop := ∃ r, FX86_lay fN a0 M = some r ∧ OkV M r
theorem gX86_lay (a0 : Nat) (M : FM) (h : HX86_lay a0 M) : gd (FX86_lay fN a0 M) (GX86_lay a0 M) (OkV M) := gd_op h
noncomputable def GX12_drop_12 (a0 : Nat) (s0 : Int32) (M : FM) : Int32 × FM :=
  let M1 : FM := fm_sI M 208 a0 0 (Int32.ofInt 0)
  (s0, M1)
theorem gX12_drop_12 (a0 : Nat) (s0 : Int32) (M : FM) (T : Ty M) (n_a0 : fm_is M 74 74 a0 = true) (z_s0 : s0 = 0 ∨ s0 = 1) : gd (FX12_drop_12 a0 s0 M) (GX12_drop_12 a0 s0 M) (OkZ M) := by
  delta FX12_drop_12 BX12_drop_12
  refine gd_c n_a0 ?_
  exact gd_z z_s0 ⟨T.1, (tyb_sI (f := 208) rfl T.2)⟩ (ext_dI (ext_r _)) rfl
noncomputable def GX12_drop_0 (a0 : Nat) (M : FM) : Int32 × FM :=
  fi ((M.1 208 a0 0) ≤ 0) (
    GX12_drop_12 a0 (Int32.ofInt 0) M) (
    GX12_drop_12 a0 (Int32.ofInt 1) M)
theorem gX12_drop_0 (a0 : Nat) (M : FM) (T : Ty M) (n_a0 : fm_is M 74 74 a0 = true) : gd (FX12_drop_0 a0 M) (GX12_drop_0 a0 M) (OkZ M) := by
  delta FX12_drop_0 BX12_drop_0
  refine gd_c n_a0 ?_
  refine gd_fi (fun c0_0 => ?_) (fun c0_0 => ?_)
  · exact gd_tZ (ext_r _) (gX12_drop_12 _ _ _ ⟨T.1, T.2⟩ n_a0 fz_0 )
  · exact gd_tZ (ext_r _) (gX12_drop_12 _ _ _ ⟨T.1, T.2⟩ n_a0 fz_1 )
noncomputable def GX12_drop (a0 : Nat) (M : FM) : Int32 × FM := GX12_drop_0 a0 M
theorem gX12_drop (a0 : Nat) (M : FM) (T : Ty M) (n_a0 : fm_is M 74 74 a0 = true) : gd (FX12_drop a0 M) (GX12_drop a0 M) (OkZ M) := gX12_drop_0 a0 M T n_a0 
noncomputable def GX48_set_11 (M : FM) : FM :=
  M
theorem gX48_set_11 (M : FM) (T : Ty M) : gd (FX48_set_11 M) (GX48_set_11 M) (OkV M) := by
  delta FX48_set_11 BX48_set_11
  exact ⟨rfl, ⟨T.1, T.2⟩, (ext_r _)⟩
noncomputable def GX48_set_0 (a0 : Nat) (a1 : Int32) (a2 : Int64) (M : FM) : FM :=
  fi (a1 ≤ 0) (
    GX48_set_11 M) (
    let x1 : Nat := (M.2.2 178 a0 0)
    let M2 : FM := fm_sL M 3 x1 a1.toNatClampNeg a2
    GX48_set_11 M2)
def HX48_set_0 (a0 : Nat) (a1 : Int32) (a2 : Int64) (M : FM) : Prop := ((a1 ≤ 0 → True) ∧ (¬ (a1 ≤ 0) → let x1 : Nat := (M.2.2 178 a0 0); (fm_in M x1 a1 = true ∧ True)))
theorem gX48_set_0 (a0 : Nat) (a1 : Int32) (a2 : Int64) (M : FM) (T : Ty M) (n_a0 : fm_is M 64 64 a0 = true) (h : HX48_set_0 a0 a1 a2 M) : gd (FX48_set_0 a0 a1 a2 M) (GX48_set_0 a0 a1 a2 M) (OkV M) := by
  delta FX48_set_0 BX48_set_0
  refine gd_fi (fun c0_0 => ?_) (fun c0_0 => ?_)
  · exact gd_tV (ext_r _) (gX48_set_11  _ ⟨T.1, T.2⟩  )
  · refine gd_c n_a0 ?_
    have f1 := (tN_178 T.1 n_a0)
    refine gd_c ⟨f1, (h.2 c0_0).1⟩ ?_
    exact gd_tV (ext_dL (ext_r _)) (gX48_set_11  _ ⟨T.1, T.2⟩  )
noncomputable def GX48_set (a0 : Nat) (a1 : Int32) (a2 : Int64) (M : FM) : FM := GX48_set_0 a0 a1 a2 M
def HX48_set (a0 : Nat) (a1 : Int32) (a2 : Int64) (M : FM) : Prop := HX48_set_0 a0 a1 a2 M
theorem gX48_set (a0 : Nat) (a1 : Int32) (a2 : Int64) (M : FM) (T : Ty M) (n_a0 : fm_is M 64 64 a0 = true) (h : HX48_set a0 a1 a2 M) : gd (FX48_set a0 a1 a2 M) (GX48_set a0 a1 a2 M) (OkV M) := gX48_set_0 a0 a1 a2 M T n_a0 h
def kX46_reset (k2 : Nat → Int64 → Int32 → FM → Option (FM)) (k90 : Nat → Nat → Int32 → Int32 → FM → Option (FM)) : (Nat × Int64 × Int32 × FM) ⊕ (Nat × Nat × Int32 × Int32 × FM) ⊕ (FM) → Option (FM)
  | .inl (v0, v1, v2, M') => k2 v0 v1 v2 M'
  | .inr (.inl (v0, v1, v2, v3, M')) => k90 v0 v1 v2 v3 M'
  | .inr (.inr (r)) => some r
def pX46_reset (M : FM) : (Nat × Int64 × Int32 × FM) ⊕ (Nat × Nat × Int32 × Int32 × FM) ⊕ (FM) → Prop
  | .inl (_, _, _, M') => OkV M M'
  | .inr (.inl (_, _, _, _, M')) => OkV M M'
  | .inr (.inr (r)) => OkV M r
theorem pX46_reset_t {M M1 : FM} (e : Ext M M1) : ∀ y, pX46_reset M1 y → pX46_reset M y
  | .inl (_, _, _, _), h => ⟨h.1, ext_tr e h.2⟩
  | .inr (.inl (_, _, _, _, _)), h => ⟨h.1, ext_tr e h.2⟩
  | .inr (.inr (r)), h => ⟨h.1, ext_tr e h.2⟩
noncomputable def GX46_reset_0 (a0 : Nat) (a1 : Int64) (M : FM) : (Nat × Int64 × Int32 × FM) ⊕ (Nat × Nat × Int32 × Int32 × FM) ⊕ (FM) :=
  (.inl (a0, a1, (Int32.ofInt 0), M))
theorem gX46_reset_0 (k2 : Nat → Int64 → Int32 → FM → Option (FM)) (k90 : Nat → Nat → Int32 → Int32 → FM → Option (FM)) (a0 : Nat) (a1 : Int64) (M : FM) (T : Ty M) : gs (FX46_reset_0 fN k2 k90 a0 a1 M) (GX46_reset_0 a0 a1 M) (kX46_reset k2 k90) (pX46_reset M) := by
  delta FX46_reset_0 BX46_reset_0
  exact And.intro rfl (And.intro (And.intro T.1 T.2) ((ext_r _)))
noncomputable def GX46_reset_90 (a0 : Nat) (a3 : Nat) (a4 : Int32) (a5 : Int32) (M : FM) : (Nat × Int64 × Int32 × FM) ⊕ (Nat × Nat × Int32 × Int32 × FM) ⊕ (FM) :=
  fi (a4 ≤ a5) (
    let x1 : Nat := (M.2.2 214 a0 0)
    let x2 : Nat := (M.2.2 288 x1 0)
    let M3 : FM := GX86_lay x2 M
    let M4 : FM := fm_sI M3 218 a0 0 (Int32.ofInt 0)
    let x5 : Nat := (M4.2.2 210 a0 0)
    let x6 : Nat := (M4.2.2 18 x5 0)
    let x7 : Int32 := (M4.1 209 a0 0)
    let x8 : Nat := (M4.2.2 205 x6 0)
    let x9 : Nat := (M4.2.2 3 x8 x7.toNatClampNeg)
    let r10 : Int32 × FM := GX12_drop x9 M4
    let x11 : Nat := (r10.2.2.2 211 a0 0)
    let x12 : Nat := (r10.2.2.2 171 x11 0)
    let M13 : FM := GX48_set x12 (Int32.ofInt 10) ((r10.2.1 209 a0 0).toInt64) r10.2
    let x14 : Nat := (M13.2.2 211 a0 0)
    let x15 : Nat := (M13.2.2 171 x14 0)
    let M16 : FM := GX48_set x15 (Int32.ofInt 11) (Int64.ofInt 2151669760) M13
    (.inr (.inr M16))) (
    let x17 : Nat := (M.2.2 3 a3 a5.toNatClampNeg)
    let M18 : FM := fm_sI M 280 x17 0 (Int32.ofInt 0)
    let M19 : FM := fm_sL M18 281 x17 0 (Int64.ofInt 0)
    let x20 : Int32 := a5 + (Int32.ofInt 1)
    (.inr (.inl (a0, a3, a4, x20, M19))))
def HX46_reset_90 (a0 : Nat) (a3 : Nat) (a4 : Int32) (a5 : Int32) (M : FM) : Prop := ((a4 ≤ a5 → let x1 : Nat := (M.2.2 214 a0 0); let x2 : Nat := (M.2.2 288 x1 0); (HX86_lay x2 M ∧ let M3 : FM := GX86_lay x2 M; let M4 : FM := fm_sI M3 218 a0 0 (Int32.ofInt 0); let x5 : Nat := (M4.2.2 210 a0 0); let x6 : Nat := (M4.2.2 18 x5 0); let x7 : Int32 := (M4.1 209 a0 0); let x8 : Nat := (M4.2.2 205 x6 0); (fm_in M4 x8 x7 = true ∧ let x9 : Nat := (M4.2.2 3 x8 x7.toNatClampNeg); let r10 : Int32 × FM := GX12_drop x9 M4; let x11 : Nat := (r10.2.2.2 211 a0 0); let x12 : Nat := (r10.2.2.2 171 x11 0); (HX48_set x12 (Int32.ofInt 10) ((r10.2.1 209 a0 0).toInt64) r10.2 ∧ let M13 : FM := GX48_set x12 (Int32.ofInt 10) ((r10.2.1 209 a0 0).toInt64) r10.2; let x14 : Nat := (M13.2.2 211 a0 0); let x15 : Nat := (M13.2.2 171 x14 0); (HX48_set x15 (Int32.ofInt 11) (Int64.ofInt 2151669760) M13 ∧ True))))) ∧ (¬ (a4 ≤ a5) → (fm_in M a3 a5 = true ∧ True)))
theorem gX46_reset_90 (k2 : Nat → Int64 → Int32 → FM → Option (FM)) (k90 : Nat → Nat → Int32 → Int32 → FM → Option (FM)) (a0 : Nat) (a3 : Nat) (a4 : Int32) (a5 : Int32) (M : FM) (T : Ty M) (n_a0 : fm_is M 75 75 a0 = true) (n_a3 : fm_is M 927 927 a3 = true) (h : HX46_reset_90 a0 a3 a4 a5 M) : gs (FX46_reset_90 fN k2 k90 a0 a3 a4 a5 M) (GX46_reset_90 a0 a3 a4 a5 M) (kX46_reset k2 k90) (pX46_reset M) := by
  delta FX46_reset_90 BX46_reset_90
  refine gs_fi (fun c0_0 => ?_) (fun c0_0 => ?_)
  · refine gs_c n_a0 ?_
    have f1 := (tN_214 T.1 n_a0)
    refine gs_c f1 ?_
    have f2 := (tN_288 T.1 (tN_214 T.1 n_a0))
    refine gs_c f2 ?_
    refine gs_b (gX86_lay _ _ (h.1 c0_0).1) (fun K3 => ?_)
    have f4 := (ext_is K3.2 (Nat.zero_lt_succ _) n_a0)
    refine gs_c f4 ?_
    refine gs_c fz_0 ?_
    have f5 := (ext_is K3.2 (Nat.zero_lt_succ _) n_a0)
    refine gs_c f5 ?_
    have f6 := (tN_210 K3.1.1 (ext_is K3.2 (Nat.zero_lt_succ _) n_a0))
    refine gs_c f6 ?_
    have f7 := (tN_18 K3.1.1 (tN_210 K3.1.1 (ext_is K3.2 (Nat.zero_lt_succ _) n_a0)))
    refine gs_c f7 ?_
    have f8 := (ext_is K3.2 (Nat.zero_lt_succ _) n_a0)
    refine gs_c f8 ?_
    have f23 := (fm_w (lo' := 910) (hi' := 990) rfl rfl (tN_205 K3.1.1 (tN_18 K3.1.1 (tN_210 K3.1.1 (ext_is K3.2 (Nat.zero_lt_succ _) n_a0)))))
    refine gs_c ⟨f23, (h.1 c0_0).2.1⟩ ?_
    have f9 := (tE_921 K3.1.1 (tN_205 K3.1.1 (tN_18 K3.1.1 (tN_210 K3.1.1 (ext_is K3.2 (Nat.zero_lt_succ _) n_a0)))) (h.1 c0_0).2.1)
    refine gs_c f9 ?_
    have f22 := (tE_921 K3.1.1 (tN_205 K3.1.1 (tN_18 K3.1.1 (tN_210 K3.1.1 (ext_is K3.2 (Nat.zero_lt_succ _) n_a0)))) (h.1 c0_0).2.1)
    refine gs_b (gX12_drop _ _ ⟨K3.1.1, (tyb_sIb (f := 218) rfl K3.1.2 fz_0)⟩ f22 ) (fun K10 => ?_)
    have f11 := (ext_is K10.2.1 (Nat.zero_lt_succ _) (ext_is K3.2 (Nat.zero_lt_succ _) n_a0))
    refine gs_c f11 ?_
    have f12 := (tN_211 K10.1.1 (ext_is K10.2.1 (Nat.zero_lt_succ _) (ext_is K3.2 (Nat.zero_lt_succ _) n_a0)))
    refine gs_c f12 ?_
    have f13 := (ext_is K10.2.1 (Nat.zero_lt_succ _) (ext_is K3.2 (Nat.zero_lt_succ _) n_a0))
    refine gs_c f13 ?_
    have f14 := (tN_171 K10.1.1 (tN_211 K10.1.1 (ext_is K10.2.1 (Nat.zero_lt_succ _) (ext_is K3.2 (Nat.zero_lt_succ _) n_a0))))
    refine gs_c f14 ?_
    have f21 := (tN_171 K10.1.1 (tN_211 K10.1.1 (ext_is K10.2.1 (Nat.zero_lt_succ _) (ext_is K3.2 (Nat.zero_lt_succ _) n_a0))))
    refine gs_b (gX48_set _ _ _ _ ⟨K10.1.1, K10.1.2⟩ f21 (h.1 c0_0).2.2.1) (fun K15 => ?_)
    have f16 := (ext_is K15.2 (Nat.zero_lt_succ _) (ext_is K10.2.1 (Nat.zero_lt_succ _) (ext_is K3.2 (Nat.zero_lt_succ _) n_a0)))
    refine gs_c f16 ?_
    have f17 := (tN_211 K15.1.1 (ext_is K15.2 (Nat.zero_lt_succ _) (ext_is K10.2.1 (Nat.zero_lt_succ _) (ext_is K3.2 (Nat.zero_lt_succ _) n_a0))))
    refine gs_c f17 ?_
    have f18 := (tN_171 K15.1.1 (tN_211 K15.1.1 (ext_is K15.2 (Nat.zero_lt_succ _) (ext_is K10.2.1 (Nat.zero_lt_succ _) (ext_is K3.2 (Nat.zero_lt_succ _) n_a0)))))
    refine gs_c f18 ?_
    have f20 := (tN_171 K15.1.1 (tN_211 K15.1.1 (ext_is K15.2 (Nat.zero_lt_succ _) (ext_is K10.2.1 (Nat.zero_lt_succ _) (ext_is K3.2 (Nat.zero_lt_succ _) n_a0)))))
    refine gs_b (gX48_set _ _ _ _ ⟨K15.1.1, K15.1.2⟩ f20 (h.1 c0_0).2.2.2.1) (fun K19 => ?_)
    exact And.intro rfl (And.intro (And.intro K19.1.1 K19.1.2) ((ext_tr K3.2 (ext_dI (ext_tr K10.2.1 (ext_tr K15.2 K19.2))))))
  · have f26 := (fm_w (lo' := 910) (hi' := 990) rfl rfl n_a3)
    refine gs_c ⟨f26, (h.2 c0_0).1⟩ ?_
    have f24 := (tE_927 T.1 n_a3 (h.2 c0_0).1)
    refine gs_c f24 ?_
    have f25 := (tE_927 T.1 n_a3 (h.2 c0_0).1)
    refine gs_c f25 ?_
    exact And.intro rfl (And.intro (And.intro T.1 (tyb_sI (f := 280) rfl T.2)) ((ext_dI (ext_dL (ext_r _)))))
noncomputable def GX46_reset_2 (a0 : Nat) (a1 : Int64) (a3 : Int32) (M : FM) : (Nat × Int64 × Int32 × FM) ⊕ (Nat × Nat × Int32 × Int32 × FM) ⊕ (FM) :=
  fi ((Int32.ofInt 32) ≤ a3) (
    let x1 : Nat := (M.2.2 211 a0 0)
    let M2 : FM := GX47_jump x1 a1 M
    let x3 : Nat := (M2.2.2 212 a0 0)
    let M4 : FM := GX59_putFlags x3 (Int32.ofInt 0) M2
    let x5 : Nat := (M4.2.2 212 a0 0)
    let M6 : FM := GX59_putMode x5 (Int32.ofInt 0) M4
    let x7 : Nat := (M6.2.2 212 a0 0)
    let M8 : FM := GX59_calm x7 M6
    let M9 : FM := GX46_resetControls a0 M8
    let x10 : Nat := (M9.2.2 214 a0 0)
    let x11 : Nat := (M9.2.2 288 x10 0)
    let x12 : Nat := (M9.2.2 284 x11 0)
    let x13 : Int32 := (Int32.ofNat (M9.2.2 1 x12 0))
    (.inr (.inl (a0, x12, x13, (Int32.ofInt 0), M9)))) (
    let x14 : Nat := (M.2.2 211 a0 0)
    let x15 : Nat := (M.2.2 171 x14 0)
    let x16 : Nat := (M.2.2 178 x15 0)
    let M17 : FM := fm_sL M 3 x16 a3.toNatClampNeg (Int64.ofInt 0)
    let x18 : Nat := (M17.2.2 212 a0 0)
    let x19 : Nat := (M17.2.2 93 x18 0)
    let M20 : FM := fm_sL M17 3 x19 a3.toNatClampNeg (Int64.ofInt 0)
    let x21 : Int32 := a3 + (Int32.ofInt 1)
    (.inl (a0, a1, x21, M20)))
def HX46_reset_2 (a0 : Nat) (a1 : Int64) (a3 : Int32) (M : FM) : Prop := (((Int32.ofInt 32) ≤ a3 → let x1 : Nat := (M.2.2 211 a0 0); let M2 : FM := GX47_jump x1 a1 M; let x3 : Nat := (M2.2.2 212 a0 0); let M4 : FM := GX59_putFlags x3 (Int32.ofInt 0) M2; let x5 : Nat := (M4.2.2 212 a0 0); let M6 : FM := GX59_putMode x5 (Int32.ofInt 0) M4; let x7 : Nat := (M6.2.2 212 a0 0); let M8 : FM := GX59_calm x7 M6; (HX46_resetControls a0 M8 ∧ True)) ∧ (¬ ((Int32.ofInt 32) ≤ a3) → let x14 : Nat := (M.2.2 211 a0 0); let x15 : Nat := (M.2.2 171 x14 0); let x16 : Nat := (M.2.2 178 x15 0); (fm_in M x16 a3 = true ∧ let M17 : FM := fm_sL M 3 x16 a3.toNatClampNeg (Int64.ofInt 0); let x18 : Nat := (M17.2.2 212 a0 0); let x19 : Nat := (M17.2.2 93 x18 0); (fm_in M17 x19 a3 = true ∧ True))))
theorem gX46_reset_2 (k2 : Nat → Int64 → Int32 → FM → Option (FM)) (k90 : Nat → Nat → Int32 → Int32 → FM → Option (FM)) (a0 : Nat) (a1 : Int64) (a3 : Int32) (M : FM) (T : Ty M) (n_a0 : fm_is M 75 75 a0 = true) (h : HX46_reset_2 a0 a1 a3 M) : gs (FX46_reset_2 fN k2 k90 a0 a1 a3 M) (GX46_reset_2 a0 a1 a3 M) (kX46_reset k2 k90) (pX46_reset M) := by
  delta FX46_reset_2 BX46_reset_2
  refine gs_fi (fun c0_0 => ?_) (fun c0_0 => ?_)
  · refine gs_c n_a0 ?_
    have f1 := (tN_211 T.1 n_a0)
    refine gs_c f1 ?_
    have f22 := (tN_211 T.1 n_a0)
    refine gs_b (gX47_jump _ _ _ ⟨T.1, T.2⟩ f22 ) (fun K2 => ?_)
    have f3 := (ext_is K2.2 (Nat.zero_lt_succ _) n_a0)
    refine gs_c f3 ?_
    have f4 := (tN_212 K2.1.1 (ext_is K2.2 (Nat.zero_lt_succ _) n_a0))
    refine gs_c f4 ?_
    have f21 := (tN_212 K2.1.1 (ext_is K2.2 (Nat.zero_lt_succ _) n_a0))
    refine gs_b (gX59_putFlags _ _ _ ⟨K2.1.1, K2.1.2⟩ f21 ) (fun K5 => ?_)
    have f6 := (ext_is K5.2 (Nat.zero_lt_succ _) (ext_is K2.2 (Nat.zero_lt_succ _) n_a0))
    refine gs_c f6 ?_
    have f7 := (tN_212 K5.1.1 (ext_is K5.2 (Nat.zero_lt_succ _) (ext_is K2.2 (Nat.zero_lt_succ _) n_a0)))
    refine gs_c f7 ?_
    have f20 := (tN_212 K5.1.1 (ext_is K5.2 (Nat.zero_lt_succ _) (ext_is K2.2 (Nat.zero_lt_succ _) n_a0)))
    refine gs_b (gX59_putMode _ _ _ ⟨K5.1.1, K5.1.2⟩ f20 ) (fun K8 => ?_)
    have f9 := (ext_is K8.2 (Nat.zero_lt_succ _) (ext_is K5.2 (Nat.zero_lt_succ _) (ext_is K2.2 (Nat.zero_lt_succ _) n_a0)))
    refine gs_c f9 ?_
    have f10 := (tN_212 K8.1.1 (ext_is K8.2 (Nat.zero_lt_succ _) (ext_is K5.2 (Nat.zero_lt_succ _) (ext_is K2.2 (Nat.zero_lt_succ _) n_a0))))
    refine gs_c f10 ?_
    have f19 := (tN_212 K8.1.1 (ext_is K8.2 (Nat.zero_lt_succ _) (ext_is K5.2 (Nat.zero_lt_succ _) (ext_is K2.2 (Nat.zero_lt_succ _) n_a0))))
    refine gs_b (gX59_calm _ _ ⟨K8.1.1, K8.1.2⟩ f19 ) (fun K11 => ?_)
    have f12 := (ext_is K11.2 (Nat.zero_lt_succ _) (ext_is K8.2 (Nat.zero_lt_succ _) (ext_is K5.2 (Nat.zero_lt_succ _) (ext_is K2.2 (Nat.zero_lt_succ _) n_a0))))
    refine gs_c f12 ?_
    have f18 := (ext_is K11.2 (Nat.zero_lt_succ _) (ext_is K8.2 (Nat.zero_lt_succ _) (ext_is K5.2 (Nat.zero_lt_succ _) (ext_is K2.2 (Nat.zero_lt_succ _) n_a0))))
    refine gs_b (gX46_resetControls _ _ ⟨K11.1.1, K11.1.2⟩ f18 (h.1 c0_0).1) (fun K13 => ?_)
    have f14 := (ext_is K13.2 (Nat.zero_lt_succ _) (ext_is K11.2 (Nat.zero_lt_succ _) (ext_is K8.2 (Nat.zero_lt_succ _) (ext_is K5.2 (Nat.zero_lt_succ _) (ext_is K2.2 (Nat.zero_lt_succ _) n_a0)))))
    refine gs_c f14 ?_
    have f15 := (tN_214 K13.1.1 (ext_is K13.2 (Nat.zero_lt_succ _) (ext_is K11.2 (Nat.zero_lt_succ _) (ext_is K8.2 (Nat.zero_lt_succ _) (ext_is K5.2 (Nat.zero_lt_succ _) (ext_is K2.2 (Nat.zero_lt_succ _) n_a0))))))
    refine gs_c f15 ?_
    have f16 := (tN_288 K13.1.1 (tN_214 K13.1.1 (ext_is K13.2 (Nat.zero_lt_succ _) (ext_is K11.2 (Nat.zero_lt_succ _) (ext_is K8.2 (Nat.zero_lt_succ _) (ext_is K5.2 (Nat.zero_lt_succ _) (ext_is K2.2 (Nat.zero_lt_succ _) n_a0)))))))
    refine gs_c f16 ?_
    have f17 := (fm_w (lo' := 901) (hi' := 990) rfl rfl (tN_284 K13.1.1 (tN_288 K13.1.1 (tN_214 K13.1.1 (ext_is K13.2 (Nat.zero_lt_succ _) (ext_is K11.2 (Nat.zero_lt_succ _) (ext_is K8.2 (Nat.zero_lt_succ _) (ext_is K5.2 (Nat.zero_lt_succ _) (ext_is K2.2 (Nat.zero_lt_succ _) n_a0)))))))))
    refine gs_c f17 ?_
    exact And.intro rfl (And.intro (And.intro K13.1.1 K13.1.2) ((ext_tr K2.2 (ext_tr K5.2 (ext_tr K8.2 (ext_tr K11.2 K13.2))))))
  · refine gs_c n_a0 ?_
    have f23 := (tN_211 T.1 n_a0)
    refine gs_c f23 ?_
    have f24 := (tN_171 T.1 (tN_211 T.1 n_a0))
    refine gs_c f24 ?_
    have f25 := (tN_178 T.1 (tN_171 T.1 (tN_211 T.1 n_a0)))
    refine gs_c ⟨f25, (h.2 c0_0).1⟩ ?_
    refine gs_c n_a0 ?_
    have f26 := (tN_212 T.1 n_a0)
    refine gs_c f26 ?_
    have f27 := (tN_93 T.1 (tN_212 T.1 n_a0))
    refine gs_c ⟨f27, (h.2 c0_0).2.1⟩ ?_
    exact And.intro rfl (And.intro (And.intro T.1 T.2) ((ext_dL (ext_dL (ext_r _)))))
noncomputable def GX46_reset (a0 : Nat) (a1 : Int64) (M : FM) : FM := (FX46_reset fN a0 a1 M).getD M
def HX46_reset (a0 : Nat) (a1 : Int64) (M : FM) : Prop := ∃ r, FX46_reset fN a0 a1 M = some r ∧ OkV M r
theorem gX46_reset (a0 : Nat) (a1 : Int64) (M : FM) (h : HX46_reset a0 a1 M) : gd (FX46_reset fN a0 a1 M) (GX46_reset a0 a1 M) (OkV M) := gd_op h
