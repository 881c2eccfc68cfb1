/-! functions without guards, printed by gen/gg.py -/
set_option maxRecDepth 100000
noncomputable def GX1_control_68 (s0 : Int64) (M : FM) : Int64 × FM :=
  (s0, M)
theorem gX1_control_68 (s0 : Int64) (M : FM) (T : Ty M) : gd (FX1_control_68 fN s0 M) (GX1_control_68 s0 M) (OkR M) := by
  delta FX1_control_68 BX1_control_68
  exact ⟨rfl, ⟨T.1, T.2⟩, (ext_r _)⟩
noncomputable def GX1_control_45 (a2 : Int32) (a3 : Nat) (s0 : Int32) (M : FM) : Int64 × FM :=
  fi (s0 = 0) (
    let x1 : Nat := (M.2.2 213 a3 0)
    let r2 : Int64 × FM := GX74_peek x1 a2 M
    GX1_control_68 r2.1 r2.2) (
    let r3 : Int64 × FM := GX46_elsewhere a3 a2 M
    GX1_control_68 r3.1 r3.2)
def HX1_control_45 (a2 : Int32) (a3 : Nat) (s0 : Int32) (M : FM) : Prop := ((s0 = 0 → let x1 : Nat := (M.2.2 213 a3 0); (HX74_peek x1 a2 M ∧ True)) ∧ (¬ (s0 = 0) → (HX46_elsewhere a3 a2 M ∧ True)))
theorem gX1_control_45 (a2 : Int32) (a3 : Nat) (s0 : Int32) (M : FM) (T : Ty M) (n_a3 : fm_is M 75 75 a3 = true) (h : HX1_control_45 a2 a3 s0 M) : gd (FX1_control_45 fN a2 a3 s0 M) (GX1_control_45 a2 a3 s0 M) (OkR M) := by
  delta FX1_control_45 BX1_control_45
  refine gd_fi (fun c0_0 => ?_) (fun c0_0 => ?_)
  · refine gd_c n_a3 ?_
    have f1 := (tN_213 T.1 n_a3)
    refine gd_c f1 ?_
    have f3 := (tN_213 T.1 n_a3)
    refine gd_b (gX74_peek _ _ _ ⟨T.1, T.2⟩ f3 (h.1 c0_0).1) (fun K2 => ?_)
    exact gd_tR K2.2 (gX1_control_68 _ _ ⟨K2.1.1, K2.1.2⟩  )
  · refine gd_c n_a3 ?_
    refine gd_b (gX46_elsewhere _ _ _ ⟨T.1, T.2⟩ n_a3 (h.2 c0_0).1) (fun K4 => ?_)
    exact gd_tR K4.2 (gX1_control_68 _ _ ⟨K4.1.1, K4.1.2⟩  )
noncomputable def GX1_control_44 (a2 : Int32) (a3 : Nat) (M : FM) : Int64 × FM :=
  GX1_control_45 a2 a3 (Int32.ofInt 0) M
def HX1_control_44 (a2 : Int32) (a3 : Nat) (M : FM) : Prop := HX1_control_45 a2 a3 (Int32.ofInt 0) M
theorem gX1_control_44 (a2 : Int32) (a3 : Nat) (M : FM) (T : Ty M) (n_a3 : fm_is M 75 75 a3 = true) (h : HX1_control_44 a2 a3 M) : gd (FX1_control_44 fN a2 a3 M) (GX1_control_44 a2 a3 M) (OkR M) := by
  delta FX1_control_44 BX1_control_44
  exact gd_tR (ext_r _) (gX1_control_45 _ _ _ _ ⟨T.1, T.2⟩ n_a3 h)
noncomputable def GX1_control_0 (a0 : Nat) (a1 : Int32) (a2 : Int32) (M : FM) : Int64 × FM :=
  let r1 : Nat × FM := GX1_at a0 a1 M
  let M2 : FM := GX46_look r1.1 r1.2
  fi (a2 ≤ 0) (
    GX1_control_44 a2 r1.1 M2) (
    fi ((Int32.ofInt 4096) ≤ a2) (
      GX1_control_44 a2 r1.1 M2) (
      let x3 : Nat := (M2.2.2 213 r1.1 0)
      let x4 : Nat := (M2.2.2 25 x3 0)
      let x5 : Nat := (M2.2.2 213 r1.1 0)
      let x6 : Nat := (M2.2.2 3 x4 a2.toNatClampNeg)
      let x7 : Nat := (M2.2.2 26 x5 0)
      fi (x6 = x7) (
        GX1_control_45 a2 r1.1 (Int32.ofInt 1) M2) (
        GX1_control_44 a2 r1.1 M2)))
def HX1_control_0 (a0 : Nat) (a1 : Int32) (a2 : Int32) (M : FM) : Prop := (HX1_at a0 a1 M ∧ let r1 : Nat × FM := GX1_at a0 a1 M; (HX46_look r1.1 r1.2 ∧ let M2 : FM := GX46_look r1.1 r1.2; ((a2 ≤ 0 → HX1_control_44 a2 r1.1 M2) ∧ (¬ (a2 ≤ 0) → (((Int32.ofInt 4096) ≤ a2 → HX1_control_44 a2 r1.1 M2) ∧ (¬ ((Int32.ofInt 4096) ≤ a2) → let x3 : Nat := (M2.2.2 213 r1.1 0); let x4 : Nat := (M2.2.2 25 x3 0); (fm_in M2 x4 a2 = true ∧ let x5 : Nat := (M2.2.2 213 r1.1 0); let x6 : Nat := (M2.2.2 3 x4 a2.toNatClampNeg); let x7 : Nat := (M2.2.2 26 x5 0); ((x6 = x7 → HX1_control_45 a2 r1.1 (Int32.ofInt 1) M2) ∧ (¬ (x6 = x7) → HX1_control_44 a2 r1.1 M2)))))))))
theorem gX1_control_0 (a0 : Nat) (a1 : Int32) (a2 : Int32) (M : FM) (T : Ty M) (n_a0 : fm_is M 10 10 a0 = true) (h : HX1_control_0 a0 a1 a2 M) : gd (FX1_control_0 fN a0 a1 a2 M) (GX1_control_0 a0 a1 a2 M) (OkR M) := by
  delta FX1_control_0 BX1_control_0
  refine gd_c n_a0 ?_
  refine gd_b (gX1_at _ _ _ ⟨T.1, T.2⟩ n_a0 h.1) (fun K0 => ?_)
  refine gd_c K0.2.2 ?_
  refine gd_b (gX46_look _ _ ⟨K0.1.1, K0.1.2⟩ K0.2.2 h.2.1) (fun K1 => ?_)
  refine gd_fi (fun c2_0 => ?_) (fun c2_0 => ?_)
  · have f3 := (ext_is K1.2 (Nat.zero_lt_succ _) K0.2.2)
    exact gd_tR (ext_tr K0.2.1 K1.2) (gX1_control_44 _ _ _ ⟨K1.1.1, K1.1.2⟩ f3 (h.2.2.1 c2_0))
  · refine gd_fi (fun c4_0 => ?_) (fun c4_0 => ?_)
    · have f5 := (ext_is K1.2 (Nat.zero_lt_succ _) K0.2.2)
      exact gd_tR (ext_tr K0.2.1 K1.2) (gX1_control_44 _ _ _ ⟨K1.1.1, K1.1.2⟩ f5 ((h.2.2.2 c2_0).1 c4_0))
    · have f6 := (ext_is K1.2 (Nat.zero_lt_succ _) K0.2.2)
      refine gd_c f6 ?_
      have f7 := (tN_213 K1.1.1 (ext_is K1.2 (Nat.zero_lt_succ _) K0.2.2))
      refine gd_c f7 ?_
      have f13 := (fm_w (lo' := 910) (hi' := 990) rfl rfl (tN_25 K1.1.1 (tN_213 K1.1.1 (ext_is K1.2 (Nat.zero_lt_succ _) K0.2.2))))
      have f14 := ((h.2.2.2 c2_0).2 c4_0).1
      refine gd_c ⟨f13, f14⟩ ?_
      have f8 := (ext_is K1.2 (Nat.zero_lt_succ _) K0.2.2)
      refine gd_c f8 ?_
      have f9 := (tN_213 K1.1.1 (ext_is K1.2 (Nat.zero_lt_succ _) K0.2.2))
      refine gd_c f9 ?_
      refine gd_c (Or.inr (Or.inr (ty_obj K1.1.1 (fm_w (lo' := 10) (hi' := 899) rfl rfl (tN_26 K1.1.1 (tN_213 K1.1.1 (ext_is K1.2 (Nat.zero_lt_succ _) K0.2.2))))))) ?_
      refine gd_fi (fun c10_0 => ?_) (fun c10_0 => ?_)
      · have f11 := (ext_is K1.2 (Nat.zero_lt_succ _) K0.2.2)
        exact gd_tR (ext_tr K0.2.1 K1.2) (gX1_control_45 _ _ _ _ ⟨K1.1.1, K1.1.2⟩ f11 (((h.2.2.2 c2_0).2 c4_0).2.1 c10_0))
      · have f12 := (ext_is K1.2 (Nat.zero_lt_succ _) K0.2.2)
        exact gd_tR (ext_tr K0.2.1 K1.2) (gX1_control_44 _ _ _ ⟨K1.1.1, K1.1.2⟩ f12 (((h.2.2.2 c2_0).2 c4_0).2.2 c10_0))
noncomputable def GX1_control (a0 : Nat) (a1 : Int32) (a2 : Int32) (M : FM) : Int64 × FM := GX1_control_0 a0 a1 a2 M
def HX1_control (a0 : Nat) (a1 : Int32) (a2 : Int32) (M : FM) : Prop := HX1_control_0 a0 a1 a2 M
theorem gX1_control (a0 : Nat) (a1 : Int32) (a2 : Int32) (M : FM) (T : Ty M) (n_a0 : fm_is M 10 10 a0 = true) (h : HX1_control a0 a1 a2 M) : gd (FX1_control fN a0 a1 a2 M) (GX1_control a0 a1 a2 M) (OkR M) := gX1_control_0 a0 a1 a2 M T n_a0 h
noncomputable def GX0_control (a0 : Nat) (a1 : Int32) (a2 : Int32) (a3 : Nat) (M : FM) : Int32 × FM := (Fh_law_control fN a0 a1 a2 a3 M).getD (0, M)
def HX0_control (a0 : Nat) (a1 : Int32) (a2 : Int32) (a3 : Nat) (M : FM) : Prop := ∃ r, Fh_law_control fN a0 a1 a2 a3 M = some r ∧ OkR M r
theorem gX0_control (a0 : Nat) (a1 : Int32) (a2 : Int32) (a3 : Nat) (M : FM) (h : HX0_control a0 a1 a2 a3 M) : gd (Fh_law_control fN a0 a1 a2 a3 M) (GX0_control a0 a1 a2 a3 M) (OkR M) := gd_op h
noncomputable def GX92_end_37 (s0 : Nat) (s1 : Int32) (M : FM) : FM :=
  let M1 : FM := fm_sI M 309 s0 0 s1
  M1
theorem gX92_end_37 (s0 : Nat) (s1 : Int32) (M : FM) (T : Ty M) (n_s0 : fm_is M 92 92 s0 = true) : gd (FX92_end_37 s0 s1 M) (GX92_end_37 s0 s1 M) (OkV M) := by
  delta FX92_end_37 BX92_end_37
  refine gd_c n_s0 ?_
  exact ⟨rfl, ⟨T.1, (tyb_sI (f := 309) rfl T.2)⟩, (ext_dI (ext_r _))⟩
noncomputable def GX92_end_18 (a0 : Nat) (a1 : Int32) (s0 : Nat) (s1 : Int32) (M : FM) : FM :=
  let M1 : FM := fm_sI M 296 s0 0 s1
  fi ((M1.1 296 a0 0) ≤ 0) (
    GX92_end_37 a0 a1 M1) (
    GX92_end_37 a0 (M1.1 309 a0 0) M1)
theorem gX92_end_18 (a0 : Nat) (a1 : Int32) (s0 : Nat) (s1 : Int32) (M : FM) (T : Ty M) (n_s0 : fm_is M 92 92 s0 = true) (n_a0 : fm_is M 92 92 a0 = true) : gd (FX92_end_18 a0 a1 s0 s1 M) (GX92_end_18 a0 a1 s0 s1 M) (OkV M) := by
  delta FX92_end_18 BX92_end_18
  refine gd_c n_s0 ?_
  refine gd_c n_a0 ?_
  refine gd_fi (fun c0_0 => ?_) (fun c0_0 => ?_)
  · exact gd_tV (ext_dI (ext_r _)) (gX92_end_37 _ _ _ ⟨T.1, (tyb_sI (f := 296) rfl T.2)⟩ n_a0 )
  · refine gd_c n_a0 ?_
    exact gd_tV (ext_dI (ext_r _)) (gX92_end_37 _ _ _ ⟨T.1, (tyb_sI (f := 296) rfl T.2)⟩ n_a0 )
noncomputable def GX92_end_13 (a0 : Nat) (a1 : Int32) (s0 : Nat) (M : FM) : FM :=
  GX92_end_18 a0 a1 s0 (Int32.ofInt 1) M
theorem gX92_end_13 (a0 : Nat) (a1 : Int32) (s0 : Nat) (M : FM) (T : Ty M) (n_s0 : fm_is M 92 92 s0 = true) (n_a0 : fm_is M 92 92 a0 = true) : gd (FX92_end_13 a0 a1 s0 M) (GX92_end_13 a0 a1 s0 M) (OkV M) := by
  delta FX92_end_13 BX92_end_13
  exact gd_tV (ext_r _) (gX92_end_18 _ _ _ _ _ ⟨T.1, T.2⟩ n_s0 n_a0 )
noncomputable def GX92_end_0 (a0 : Nat) (a1 : Int32) (M : FM) : FM :=
  fi (a1 < 0) (
    GX92_end_13 a0 a1 a0 M) (
    fi (a1 ≤ (M.1 309 a0 0)) (
      GX92_end_18 a0 a1 a0 (Int32.ofInt 0) M) (
      GX92_end_13 a0 a1 a0 M))
theorem gX92_end_0 (a0 : Nat) (a1 : Int32) (M : FM) (T : Ty M) (n_a0 : fm_is M 92 92 a0 = true) : gd (FX92_end_0 a0 a1 M) (GX92_end_0 a0 a1 M) (OkV M) := by
  delta FX92_end_0 BX92_end_0
  refine gd_fi (fun c0_0 => ?_) (fun c0_0 => ?_)
  · exact gd_tV (ext_r _) (gX92_end_13 _ _ _ _ ⟨T.1, T.2⟩ n_a0 n_a0 )
  · refine gd_c n_a0 ?_
    refine gd_fi (fun c1_0 => ?_) (fun c1_0 => ?_)
    · exact gd_tV (ext_r _) (gX92_end_18 _ _ _ _ _ ⟨T.1, T.2⟩ n_a0 n_a0 )
    · exact gd_tV (ext_r _) (gX92_end_13 _ _ _ _ ⟨T.1, T.2⟩ n_a0 n_a0 )
noncomputable def GX92_end (a0 : Nat) (a1 : Int32) (M : FM) : FM := GX92_end_0 a0 a1 M
theorem gX92_end (a0 : Nat) (a1 : Int32) (M : FM) (T : Ty M) (n_a0 : fm_is M 92 92 a0 = true) : gd (FX92_end a0 a1 M) (GX92_end a0 a1 M) (OkV M) := gX92_end_0 a0 a1 M T n_a0 
noncomputable def GX100_time_0 (a0 : Nat) (a1 : Int64) (M : FM) : FM :=
  let M1 : FM := fm_sI M 358 a0 0 (Int32.ofInt 0)
  let M2 : FM := fm_sL M1 363 a0 0 a1
  M2
theorem gX100_time_0 (a0 : Nat) (a1 : Int64) (M : FM) (T : Ty M) (n_a0 : fm_is M 95 95 a0 = true) : gd (FX100_time_0 a0 a1 M) (GX100_time_0 a0 a1 M) (OkV M) := by
  delta FX100_time_0 BX100_time_0
  refine gd_c n_a0 ?_
  refine gd_c n_a0 ?_
  exact ⟨rfl, ⟨T.1, (tyb_sI (f := 358) rfl T.2)⟩, (ext_dI (ext_dL (ext_r _)))⟩
noncomputable def GX100_time (a0 : Nat) (a1 : Int64) (M : FM) : FM := GX100_time_0 a0 a1 M
theorem gX100_time (a0 : Nat) (a1 : Int64) (M : FM) (T : Ty M) (n_a0 : fm_is M 95 95 a0 = true) : gd (FX100_time a0 a1 M) (GX100_time a0 a1 M) (OkV M) := gX100_time_0 a0 a1 M T n_a0 
noncomputable def GX96_isLess_50 (s0 : Int32) (M : FM) : Int32 × FM :=
  (s0, M)
theorem gX96_isLess_50 (s0 : Int32) (M : FM) (T : Ty M) (z_s0 : s0 = 0 ∨ s0 = 1) : gd (FX96_isLess_50 s0 M) (GX96_isLess_50 s0 M) (OkZ M) := by
  delta FX96_isLess_50 BX96_isLess_50
  exact gd_z z_s0 ⟨T.1, T.2⟩ (ext_r _) rfl
noncomputable def GX96_isLess_22 (a0 : Int64) (a2 : Int64) (s0 : Int32) (s1 : Int32) (M : FM) : Int32 × FM :=
  fi (s0 = s1) (
    fi (0 ≤ (lg_cmp a0 a2)) (
      GX96_isLess_50 (Int32.ofInt 0) M) (
      GX96_isLess_50 (Int32.ofInt 1) M)) (
    fi (0 ≤ (lg_cmp a2 (Int64.ofInt 0))) (
      GX96_isLess_50 (Int32.ofInt 0) M) (
      GX96_isLess_50 (Int32.ofInt 1) M))
theorem gX96_isLess_22 (a0 : Int64) (a2 : Int64) (s0 : Int32) (s1 : Int32) (M : FM) (T : Ty M) : gd (FX96_isLess_22 a0 a2 s0 s1 M) (GX96_isLess_22 a0 a2 s0 s1 M) (OkZ M) := by
  delta FX96_isLess_22 BX96_isLess_22
  refine gd_fi (fun c0_0 => ?_) (fun c0_0 => ?_)
  · refine gd_fi (fun c1_0 => ?_) (fun c1_0 => ?_)
    · exact gd_tZ (ext_r _) (gX96_isLess_50 _ _ ⟨T.1, T.2⟩ fz_0 )
    · exact gd_tZ (ext_r _) (gX96_isLess_50 _ _ ⟨T.1, T.2⟩ fz_1 )
  · refine gd_fi (fun c2_0 => ?_) (fun c2_0 => ?_)
    · exact gd_tZ (ext_r _) (gX96_isLess_50 _ _ ⟨T.1, T.2⟩ fz_0 )
    · exact gd_tZ (ext_r _) (gX96_isLess_50 _ _ ⟨T.1, T.2⟩ fz_1 )
noncomputable def GX96_isLess_11 (a0 : Int64) (a2 : Int64) (s0 : Int32) (M : FM) : Int32 × FM :=
  fi (0 ≤ (lg_cmp a2 (Int64.ofInt 0))) (
    GX96_isLess_22 a0 a2 s0 (Int32.ofInt 0) M) (
    GX96_isLess_22 a0 a2 s0 (Int32.ofInt 1) M)
theorem gX96_isLess_11 (a0 : Int64) (a2 : Int64) (s0 : Int32) (M : FM) (T : Ty M) : gd (FX96_isLess_11 a0 a2 s0 M) (GX96_isLess_11 a0 a2 s0 M) (OkZ M) := by
  delta FX96_isLess_11 BX96_isLess_11
  refine gd_fi (fun c0_0 => ?_) (fun c0_0 => ?_)
  · exact gd_tZ (ext_r _) (gX96_isLess_22 _ _ _ _ _ ⟨T.1, T.2⟩  )
  · exact gd_tZ (ext_r _) (gX96_isLess_22 _ _ _ _ _ ⟨T.1, T.2⟩  )
noncomputable def GX96_isLess_0 (a0 : Int64) (a2 : Int64) (M : FM) : Int32 × FM :=
  fi (0 ≤ (lg_cmp a0 (Int64.ofInt 0))) (
    GX96_isLess_11 a0 a2 (Int32.ofInt 0) M) (
    GX96_isLess_11 a0 a2 (Int32.ofInt 1) M)
theorem gX96_isLess_0 (a0 : Int64) (a2 : Int64) (M : FM) (T : Ty M) : gd (FX96_isLess_0 a0 a2 M) (GX96_isLess_0 a0 a2 M) (OkZ M) := by
  delta FX96_isLess_0 BX96_isLess_0
  refine gd_fi (fun c0_0 => ?_) (fun c0_0 => ?_)
  · exact gd_tZ (ext_r _) (gX96_isLess_11 _ _ _ _ ⟨T.1, T.2⟩  )
  · exact gd_tZ (ext_r _) (gX96_isLess_11 _ _ _ _ ⟨T.1, T.2⟩  )
noncomputable def GX96_isLess (a0 : Int64) (a2 : Int64) (M : FM) : Int32 × FM := GX96_isLess_0 a0 a2 M
theorem gX96_isLess (a0 : Int64) (a2 : Int64) (M : FM) (T : Ty M) : gd (FX96_isLess a0 a2 M) (GX96_isLess a0 a2 M) (OkZ M) := gX96_isLess_0 a0 a2 M T 
noncomputable def GX96_enables_19 (s0 : Int32) (M : FM) : Int32 × FM :=
  (s0, M)
theorem gX96_enables_19 (s0 : Int32) (M : FM) (T : Ty M) (z_s0 : s0 = 0 ∨ s0 = 1) : gd (FX96_enables_19 s0 M) (GX96_enables_19 s0 M) (OkZ M) := by
  delta FX96_enables_19 BX96_enables_19
  exact gd_z z_s0 ⟨T.1, T.2⟩ (ext_r _) rfl
noncomputable def GX96_enables_0 (a0 : Nat) (a1 : Int32) (a2 : Int32) (M : FM) : Int32 × FM :=
  let x1 : Nat := (M.2.2 403 a0 0)
  fi ((((M.1 3 x1 a1.toNatClampNeg) >>> (a2 &&& 31)) &&& (Int32.ofInt 1)) = (Int32.ofInt 1)) (
    GX96_enables_19 (Int32.ofInt 1) M) (
    GX96_enables_19 (Int32.ofInt 0) M)
def HX96_enables_0 (a0 : Nat) (a1 : Int32) (a2 : Int32) (M : FM) : Prop := let x1 : Nat := (M.2.2 403 a0 0); (fm_in M x1 a1 = true ∧ True)
theorem gX96_enables_0 (a0 : Nat) (a1 : Int32) (a2 : Int32) (M : FM) (T : Ty M) (n_a0 : fm_is M 99 99 a0 = true) (h : HX96_enables_0 a0 a1 a2 M) : gd (FX96_enables_0 a0 a1 a2 M) (GX96_enables_0 a0 a1 a2 M) (OkZ M) := by
  delta FX96_enables_0 BX96_enables_0
  refine gd_c n_a0 ?_
  have f1 := (tN_403 T.1 n_a0)
  refine gd_c ⟨f1, h.1⟩ ?_
  refine gd_fi (fun c0_0 => ?_) (fun c0_0 => ?_)
  · exact gd_tZ (ext_r _) (gX96_enables_19 _ _ ⟨T.1, T.2⟩ fz_1 )
  · exact gd_tZ (ext_r _) (gX96_enables_19 _ _ ⟨T.1, T.2⟩ fz_0 )
noncomputable def GX96_enables (a0 : Nat) (a1 : Int32) (a2 : Int32) (M : FM) : Int32 × FM := GX96_enables_0 a0 a1 a2 M
def HX96_enables (a0 : Nat) (a1 : Int32) (a2 : Int32) (M : FM) : Prop := HX96_enables_0 a0 a1 a2 M
theorem gX96_enables (a0 : Nat) (a1 : Int32) (a2 : Int32) (M : FM) (T : Ty M) (n_a0 : fm_is M 99 99 a0 = true) (h : HX96_enables a0 a1 a2 M) : gd (FX96_enables a0 a1 a2 M) (GX96_enables a0 a1 a2 M) (OkZ M) := gX96_enables_0 a0 a1 a2 M T n_a0 h
def kX96_above (k4 : Nat → Int32 → Int32 → Int32 → FM → Option (Int32 × FM)) : (Nat × Int32 × Int32 × Int32 × FM) ⊕ (Int32 × FM) → Option (Int32 × FM)
  | .inl (v0, v1, v2, v3, M') => k4 v0 v1 v2 v3 M'
  | .inr (r) => some r
def pX96_above (M : FM) : (Nat × Int32 × Int32 × Int32 × FM) ⊕ (Int32 × FM) → Prop
  | .inl (_, _, _, _, M') => OkV M M'
  | .inr (r) => OkZ M r
theorem pX96_above_t {M M1 : FM} (e : Ext M M1) : ∀ y, pX96_above M1 y → pX96_above M y
  | .inl (_, _, _, _, _), h => ⟨h.1, ext_tr e h.2⟩
  | .inr (r), h => ⟨h.1, ext_tr e h.2.1, h.2.2⟩
noncomputable def GX96_above_52 (a0 : Nat) (a1 : Int32) (a3 : Int32) (s0 : Int32) (M : FM) : (Nat × Int32 × Int32 × Int32 × FM) ⊕ (Int32 × FM) :=
  let x1 : Int32 := a3 + (Int32.ofInt 1)
  (.inl (a0, a1, s0, x1, M))
theorem gX96_above_52 (k4 : Nat → Int32 → Int32 → Int32 → FM → Option (Int32 × FM)) (a0 : Nat) (a1 : Int32) (a3 : Int32) (s0 : Int32) (M : FM) (T : Ty M) : gs (FX96_above_52 fN k4 a0 a1 a3 s0 M) (GX96_above_52 a0 a1 a3 s0 M) (kX96_above k4) (pX96_above M) := by
  delta FX96_above_52 BX96_above_52
  exact And.intro rfl (And.intro (And.intro T.1 T.2) ((ext_r _)))
noncomputable def GX96_above_51 (a0 : Nat) (a1 : Int32) (a3 : Int32) (M : FM) : (Nat × Int32 × Int32 × Int32 × FM) ⊕ (Int32 × FM) :=
  GX96_above_52 a0 a1 a3 (Int32.ofInt 0) M
theorem gX96_above_51 (k4 : Nat → Int32 → Int32 → Int32 → FM → Option (Int32 × FM)) (a0 : Nat) (a1 : Int32) (a3 : Int32) (M : FM) (T : Ty M) : gs (FX96_above_51 fN k4 a0 a1 a3 M) (GX96_above_51 a0 a1 a3 M) (kX96_above k4) (pX96_above M) := by
  delta FX96_above_51 BX96_above_51
  exact gs_t (pX96_above_t (ext_r _)) (gX96_above_52 k4 _ _ _ _ _ ⟨T.1, T.2⟩  )
noncomputable def GX96_above_47 (a0 : Nat) (a1 : Int32) (a3 : Int32) (M : FM) : (Nat × Int32 × Int32 × Int32 × FM) ⊕ (Int32 × FM) :=
  GX96_above_52 a0 a1 a3 (Int32.ofInt 1) M
theorem gX96_above_47 (k4 : Nat → Int32 → Int32 → Int32 → FM → Option (Int32 × FM)) (a0 : Nat) (a1 : Int32) (a3 : Int32) (M : FM) (T : Ty M) : gs (FX96_above_47 fN k4 a0 a1 a3 M) (GX96_above_47 a0 a1 a3 M) (kX96_above k4) (pX96_above M) := by
  delta FX96_above_47 BX96_above_47
  exact gs_t (pX96_above_t (ext_r _)) (gX96_above_52 k4 _ _ _ _ _ ⟨T.1, T.2⟩  )
noncomputable def GX96_above_0 (a0 : Nat) (a1 : Int32) (M : FM) : (Nat × Int32 × Int32 × Int32 × FM) ⊕ (Int32 × FM) :=
  (.inl (a0, a1, (Int32.ofInt 0), (Int32.ofInt 1), M))
theorem gX96_above_0 (k4 : Nat → Int32 → Int32 → Int32 → FM → Option (Int32 × FM)) (a0 : Nat) (a1 : Int32) (M : FM) (T : Ty M) : gs (FX96_above_0 fN k4 a0 a1 M) (GX96_above_0 a0 a1 M) (kX96_above k4) (pX96_above M) := by
  delta FX96_above_0 BX96_above_0
  exact And.intro rfl (And.intro (And.intro T.1 T.2) ((ext_r _)))
noncomputable def GX96_above_4 (a0 : Nat) (a1 : Int32) (a2 : Int32) (a3 : Int32) (M : FM) : (Nat × Int32 × Int32 × Int32 × FM) ⊕ (Int32 × FM) :=
  fi ((Int32.ofInt 32) ≤ a3) (
    (.inr (a2, M))) (
    fi (a2 = 0) (
      let x1 : Nat := (M.2.2 400 a0 0)
      fi ((M.1 3 x1 a3.toNatClampNeg) = 0) (
        GX96_above_51 a0 a1 a3 M) (
        let r2 : Int32 × FM := GX96_enables a0 a1 a3 M
        fi (r2.1 = 0) (
          GX96_above_51 a0 a1 a3 r2.2) (
          let x3 : Nat := (r2.2.2.2 402 a0 0)
          let x4 : Nat := (r2.2.2.2 404 a0 0)
          fi ((r2.2.1 3 x3 a3.toNatClampNeg) ≤ (r2.2.1 3 x4 a1.toNatClampNeg)) (
            GX96_above_51 a0 a1 a3 r2.2) (
            GX96_above_47 a0 a1 a3 r2.2)))) (
      GX96_above_47 a0 a1 a3 M))
def HX96_above_4 (a0 : Nat) (a1 : Int32) (a2 : Int32) (a3 : Int32) (M : FM) : Prop := (((Int32.ofInt 32) ≤ a3 → True) ∧ (¬ ((Int32.ofInt 32) ≤ a3) → ((a2 = 0 → let x1 : Nat := (M.2.2 400 a0 0); (fm_in M x1 a3 = true ∧ (((M.1 3 x1 a3.toNatClampNeg) = 0 → True) ∧ (¬ ((M.1 3 x1 a3.toNatClampNeg) = 0) → (HX96_enables a0 a1 a3 M ∧ let r2 : Int32 × FM := GX96_enables a0 a1 a3 M; ((r2.1 = 0 → True) ∧ (¬ (r2.1 = 0) → let x3 : Nat := (r2.2.2.2 402 a0 0); (fm_in r2.2 x3 a3 = true ∧ let x4 : Nat := (r2.2.2.2 404 a0 0); (fm_in r2.2 x4 a1 = true ∧ True))))))))) ∧ (¬ (a2 = 0) → True))))
theorem gX96_above_4 (k4 : Nat → Int32 → Int32 → Int32 → FM → Option (Int32 × FM)) (a0 : Nat) (a1 : Int32) (a2 : Int32) (a3 : Int32) (M : FM) (T : Ty M) (z_a2 : a2 = 0 ∨ a2 = 1) (n_a0 : fm_is M 99 99 a0 = true) (h : HX96_above_4 a0 a1 a2 a3 M) : gs (FX96_above_4 fN k4 a0 a1 a2 a3 M) (GX96_above_4 a0 a1 a2 a3 M) (kX96_above k4) (pX96_above M) := by
  delta FX96_above_4 BX96_above_4
  refine gs_fi (fun c0_0 => ?_) (fun c0_0 => ?_)
  · exact gs_z z_a2 ⟨T.1, T.2⟩ (ext_r _) rfl (fun h => h)
  · refine gs_fi (fun c1_0 => ?_) (fun c1_0 => ?_)
    · refine gs_c n_a0 ?_
      have f12 := (tN_400 T.1 n_a0)
      have f13 := ((h.2 c0_0).1 c1_0).1
      refine gs_c ⟨f12, f13⟩ ?_
      refine gs_fi (fun c2_0 => ?_) (fun c2_0 => ?_)
      · exact gs_t (pX96_above_t (ext_r _)) (gX96_above_51 k4 _ _ _ _ ⟨T.1, T.2⟩  )
      · refine gs_c n_a0 ?_
        refine gs_b (gX96_enables _ _ _ _ ⟨T.1, T.2⟩ n_a0 (((h.2 c0_0).1 c1_0).2.2 c2_0).1) (fun K3 => ?_)
        refine gs_fi (fun c4_0 => ?_) (fun c4_0 => ?_)
        · exact gs_t (pX96_above_t K3.2.1) (gX96_above_51 k4 _ _ _ _ ⟨K3.1.1, K3.1.2⟩  )
        · have f5 := (ext_is K3.2.1 (Nat.zero_lt_succ _) n_a0)
          refine gs_c f5 ?_
          have f10 := (tN_402 K3.1.1 (ext_is K3.2.1 (Nat.zero_lt_succ _) n_a0))
          have f11 := ((((h.2 c0_0).1 c1_0).2.2 c2_0).2.2 c4_0).1
          refine gs_c ⟨f10, f11⟩ ?_
          have f6 := (ext_is K3.2.1 (Nat.zero_lt_succ _) n_a0)
          refine gs_c f6 ?_
          have f8 := (tN_404 K3.1.1 (ext_is K3.2.1 (Nat.zero_lt_succ _) n_a0))
          have f9 := ((((h.2 c0_0).1 c1_0).2.2 c2_0).2.2 c4_0).2.1
          refine gs_c ⟨f8, f9⟩ ?_
          refine gs_fi (fun c7_0 => ?_) (fun c7_0 => ?_)
          · exact gs_t (pX96_above_t K3.2.1) (gX96_above_51 k4 _ _ _ _ ⟨K3.1.1, K3.1.2⟩  )
          · exact gs_t (pX96_above_t K3.2.1) (gX96_above_47 k4 _ _ _ _ ⟨K3.1.1, K3.1.2⟩  )
    · exact gs_t (pX96_above_t (ext_r _)) (gX96_above_47 k4 _ _ _ _ ⟨T.1, T.2⟩  )
noncomputable def GX96_above (a0 : Nat) (a1 : Int32) (M : FM) : Int32 × FM := (FX96_above fN a0 a1 M).getD (0, M)
def HX96_above (a0 : Nat) (a1 : Int32) (M : FM) : Prop := ∃ r, FX96_above fN a0 a1 M = some r ∧ OkZ M r
theorem gX96_above (a0 : Nat) (a1 : Int32) (M : FM) (h : HX96_above a0 a1 M) : gd (FX96_above fN a0 a1 M) (GX96_above a0 a1 M) (OkZ M) := gd_op h
noncomputable def GX96_line_116 (s0 : Int32) (M : FM) : Int32 × FM :=
  (s0, M)
theorem gX96_line_116 (s0 : Int32) (M : FM) (T : Ty M) (z_s0 : s0 = 0 ∨ s0 = 1) : gd (FX96_line_116 fN s0 M) (GX96_line_116 s0 M) (OkZ M) := by
  delta FX96_line_116 BX96_line_116
  exact gd_z z_s0 ⟨T.1, T.2⟩ (ext_r _) rfl
noncomputable def GX96_line_112 (s0 : Nat) (s1 : Int32) (s2 : Int32) (M : FM) : Int32 × FM :=
  let r1 : Int32 × FM := GX96_above s0 (s1 + s2) M
  GX96_line_116 r1.1 r1.2
def HX96_line_112 (s0 : Nat) (s1 : Int32) (s2 : Int32) (M : FM) : Prop := (HX96_above s0 (s1 + s2) M ∧ True)
theorem gX96_line_112 (s0 : Nat) (s1 : Int32) (s2 : Int32) (M : FM) (T : Ty M) (n_s0 : fm_is M 99 99 s0 = true) (h : HX96_line_112 s0 s1 s2 M) : gd (FX96_line_112 fN s0 s1 s2 M) (GX96_line_112 s0 s1 s2 M) (OkZ M) := by
  delta FX96_line_112 BX96_line_112
  refine gd_c n_s0 ?_
  refine gd_b (gX96_above _ _ _ h.1) (fun K0 => ?_)
  exact gd_tZ K0.2.1 (gX96_line_116 _ _ ⟨K0.1.1, K0.1.2⟩ K0.2.2 )
noncomputable def GX96_line_41 (a0 : Nat) (a1 : Int32) (a2 : Int32) (s0 : Nat) (s1 : Int32) (M : FM) : Int32 × FM :=
  let M1 : FM := fm_sI M 394 s0 0 s1
  fi ((M1.1 394 a0 0) ≤ 0) (
    fi (a2 = (Int32.ofInt 3)) (
      let x2 : Nat := (M1.2.2 396 a0 0)
      GX96_line_116 (M1.1 3 x2 a1.toNatClampNeg) M1) (
      fi (a2 = (Int32.ofInt 7)) (
        let x3 : Nat := (M1.2.2 397 a0 0)
        let r4 : Int32 × FM := GX96_isLess (M1.2.1 398 a0 0) (M1.2.1 3 x3 a1.toNatClampNeg) M1
        fi (r4.1 = 0) (
          GX96_line_116 (Int32.ofInt 1) r4.2) (
          GX96_line_116 (Int32.ofInt 0) r4.2)) (
        fi (a2 = (Int32.ofInt 9)) (
          GX96_line_112 a0 ((Int32.ofInt 2) * a1) (Int32.ofInt 1) M1) (
          GX96_line_112 a0 ((Int32.ofInt 2) * a1) (Int32.ofInt 0) M1)))) (
    ((Int32.ofInt 0), M1))
def HX96_line_41 (a0 : Nat) (a1 : Int32) (a2 : Int32) (s0 : Nat) (s1 : Int32) (M : FM) : Prop := let M1 : FM := fm_sI M 394 s0 0 s1; (((M1.1 394 a0 0) ≤ 0 → ((a2 = (Int32.ofInt 3) → let x2 : Nat := (M1.2.2 396 a0 0); (fm_in M1 x2 a1 = true ∧ True)) ∧ (¬ (a2 = (Int32.ofInt 3)) → ((a2 = (Int32.ofInt 7) → let x3 : Nat := (M1.2.2 397 a0 0); (fm_in M1 x3 a1 = true ∧ True)) ∧ (¬ (a2 = (Int32.ofInt 7)) → ((a2 = (Int32.ofInt 9) → HX96_line_112 a0 ((Int32.ofInt 2) * a1) (Int32.ofInt 1) M1) ∧ (¬ (a2 = (Int32.ofInt 9)) → HX96_line_112 a0 ((Int32.ofInt 2) * a1) (Int32.ofInt 0) M1))))))) ∧ (¬ ((M1.1 394 a0 0) ≤ 0) → True))
theorem gX96_line_41 (a0 : Nat) (a1 : Int32) (a2 : Int32) (s0 : Nat) (s1 : Int32) (M : FM) (T : Ty M) (n_s0 : fm_is M 99 99 s0 = true) (n_a0 : fm_is M 99 99 a0 = true) (h : HX96_line_41 a0 a1 a2 s0 s1 M) : gd (FX96_line_41 fN a0 a1 a2 s0 s1 M) (GX96_line_41 a0 a1 a2 s0 s1 M) (OkZ M) := by
  delta FX96_line_41 BX96_line_41
  refine gd_c n_s0 ?_
  refine gd_c n_a0 ?_
  refine gd_fi (fun c0_0 => ?_) (fun c0_0 => ?_)
  · refine gd_fi (fun c1_0 => ?_) (fun c1_0 => ?_)
    · refine gd_c n_a0 ?_
      have f2 := (tN_396 T.1 n_a0)
      have f3 := ((h.1 c0_0).1 c1_0).1
      refine gd_c ⟨f2, f3⟩ ?_
      exact gd_tZ (ext_dI (ext_r _)) (gX96_line_116 _ _ ⟨T.1, (tyb_sI (f := 394) rfl T.2)⟩ (tA (tyb_sI (f := 394) rfl T.2) (tN_396 T.1 n_a0) _) )
    · refine gd_fi (fun c4_0 => ?_) (fun c4_0 => ?_)
      · refine gd_c n_a0 ?_
        refine gd_c n_a0 ?_
        have f7 := (tN_397 T.1 n_a0)
        have f8 := (((h.1 c0_0).2 c1_0).1 c4_0).1
        refine gd_c ⟨f7, f8⟩ ?_
        refine gd_b (gX96_isLess _ _ _ ⟨T.1, (tyb_sI (f := 394) rfl T.2)⟩  ) (fun K5 => ?_)
        refine gd_fi (fun c6_0 => ?_) (fun c6_0 => ?_)
        · exact gd_tZ (ext_dI K5.2.1) (gX96_line_116 _ _ ⟨K5.1.1, K5.1.2⟩ fz_1 )
        · exact gd_tZ (ext_dI K5.2.1) (gX96_line_116 _ _ ⟨K5.1.1, K5.1.2⟩ fz_0 )
      · refine gd_fi (fun c9_0 => ?_) (fun c9_0 => ?_)
        · exact gd_tZ (ext_dI (ext_r _)) (gX96_line_112 _ _ _ _ ⟨T.1, (tyb_sI (f := 394) rfl T.2)⟩ n_a0 ((((h.1 c0_0).2 c1_0).2 c4_0).1 c9_0))
        · exact gd_tZ (ext_dI (ext_r _)) (gX96_line_112 _ _ _ _ ⟨T.1, (tyb_sI (f := 394) rfl T.2)⟩ n_a0 ((((h.1 c0_0).2 c1_0).2 c4_0).2 c9_0))
  · exact gd_z fz_0 ⟨T.1, (tyb_sI (f := 394) rfl T.2)⟩ (ext_dI (ext_r _)) rfl
noncomputable def GX96_line_40 (a0 : Nat) (a1 : Int32) (a2 : Int32) (s0 : Nat) (M : FM) : Int32 × FM :=
  GX96_line_41 a0 a1 a2 s0 (Int32.ofInt 0) M
def HX96_line_40 (a0 : Nat) (a1 : Int32) (a2 : Int32) (s0 : Nat) (M : FM) : Prop := HX96_line_41 a0 a1 a2 s0 (Int32.ofInt 0) M
theorem gX96_line_40 (a0 : Nat) (a1 : Int32) (a2 : Int32) (s0 : Nat) (M : FM) (T : Ty M) (n_s0 : fm_is M 99 99 s0 = true) (n_a0 : fm_is M 99 99 a0 = true) (h : HX96_line_40 a0 a1 a2 s0 M) : gd (FX96_line_40 fN a0 a1 a2 s0 M) (GX96_line_40 a0 a1 a2 s0 M) (OkZ M) := by
  delta FX96_line_40 BX96_line_40
  exact gd_tZ (ext_r _) (gX96_line_41 _ _ _ _ _ _ ⟨T.1, T.2⟩ n_s0 n_a0 h)
noncomputable def GX96_line_36 (a0 : Nat) (a1 : Int32) (a2 : Int32) (s0 : Nat) (M : FM) : Int32 × FM :=
  GX96_line_41 a0 a1 a2 s0 (Int32.ofInt 1) M
def HX96_line_36 (a0 : Nat) (a1 : Int32) (a2 : Int32) (s0 : Nat) (M : FM) : Prop := HX96_line_41 a0 a1 a2 s0 (Int32.ofInt 1) M
theorem gX96_line_36 (a0 : Nat) (a1 : Int32) (a2 : Int32) (s0 : Nat) (M : FM) (T : Ty M) (n_s0 : fm_is M 99 99 s0 = true) (n_a0 : fm_is M 99 99 a0 = true) (h : HX96_line_36 a0 a1 a2 s0 M) : gd (FX96_line_36 fN a0 a1 a2 s0 M) (GX96_line_36 a0 a1 a2 s0 M) (OkZ M) := by
  delta FX96_line_36 BX96_line_36
  exact gd_tZ (ext_r _) (gX96_line_41 _ _ _ _ _ _ ⟨T.1, T.2⟩ n_s0 n_a0 h)
noncomputable def GX96_line_0 (a0 : Nat) (a1 : Int32) (a2 : Int32) (M : FM) : Int32 × FM :=
  fi (a1 < 0) (
    GX96_line_36 a0 a1 a2 a0 M) (
    fi ((M.1 395 a0 0) ≤ a1) (
      GX96_line_36 a0 a1 a2 a0 M) (
      fi (a2 = (Int32.ofInt 3)) (
        GX96_line_40 a0 a1 a2 a0 M) (
        fi (a2 = (Int32.ofInt 7)) (
          GX96_line_40 a0 a1 a2 a0 M) (
          fi (a2 = (Int32.ofInt 9)) (
            GX96_line_40 a0 a1 a2 a0 M) (
            fi (a2 = (Int32.ofInt 11)) (
              GX96_line_40 a0 a1 a2 a0 M) (
              GX96_line_36 a0 a1 a2 a0 M))))))
def HX96_line_0 (a0 : Nat) (a1 : Int32) (a2 : Int32) (M : FM) : Prop := ((a1 < 0 → HX96_line_36 a0 a1 a2 a0 M) ∧ (¬ (a1 < 0) → (((M.1 395 a0 0) ≤ a1 → HX96_line_36 a0 a1 a2 a0 M) ∧ (¬ ((M.1 395 a0 0) ≤ a1) → ((a2 = (Int32.ofInt 3) → HX96_line_40 a0 a1 a2 a0 M) ∧ (¬ (a2 = (Int32.ofInt 3)) → ((a2 = (Int32.ofInt 7) → HX96_line_40 a0 a1 a2 a0 M) ∧ (¬ (a2 = (Int32.ofInt 7)) → ((a2 = (Int32.ofInt 9) → HX96_line_40 a0 a1 a2 a0 M) ∧ (¬ (a2 = (Int32.ofInt 9)) → ((a2 = (Int32.ofInt 11) → HX96_line_40 a0 a1 a2 a0 M) ∧ (¬ (a2 = (Int32.ofInt 11)) → HX96_line_36 a0 a1 a2 a0 M))))))))))))
theorem gX96_line_0 (a0 : Nat) (a1 : Int32) (a2 : Int32) (M : FM) (T : Ty M) (n_a0 : fm_is M 99 99 a0 = true) (h : HX96_line_0 a0 a1 a2 M) : gd (FX96_line_0 fN a0 a1 a2 M) (GX96_line_0 a0 a1 a2 M) (OkZ M) := by
  delta FX96_line_0 BX96_line_0
  refine gd_fi (fun c0_0 => ?_) (fun c0_0 => ?_)
  · exact gd_tZ (ext_r _) (gX96_line_36 _ _ _ _ _ ⟨T.1, T.2⟩ n_a0 n_a0 (h.1 c0_0))
  · refine gd_c n_a0 ?_
    refine gd_fi (fun c1_0 => ?_) (fun c1_0 => ?_)
    · exact gd_tZ (ext_r _) (gX96_line_36 _ _ _ _ _ ⟨T.1, T.2⟩ n_a0 n_a0 ((h.2 c0_0).1 c1_0))
    · refine gd_fi (fun c2_0 => ?_) (fun c2_0 => ?_)
      · exact gd_tZ (ext_r _) (gX96_line_40 _ _ _ _ _ ⟨T.1, T.2⟩ n_a0 n_a0 (((h.2 c0_0).2 c1_0).1 c2_0))
      · refine gd_fi (fun c3_0 => ?_) (fun c3_0 => ?_)
        · exact gd_tZ (ext_r _) (gX96_line_40 _ _ _ _ _ ⟨T.1, T.2⟩ n_a0 n_a0 ((((h.2 c0_0).2 c1_0).2 c2_0).1 c3_0))
        · refine gd_fi (fun c4_0 => ?_) (fun c4_0 => ?_)
          · exact gd_tZ (ext_r _) (gX96_line_40 _ _ _ _ _ ⟨T.1, T.2⟩ n_a0 n_a0 (((((h.2 c0_0).2 c1_0).2 c2_0).2 c3_0).1 c4_0))
          · refine gd_fi (fun c5_0 => ?_) (fun c5_0 => ?_)
            · exact gd_tZ (ext_r _) (gX96_line_40 _ _ _ _ _ ⟨T.1, T.2⟩ n_a0 n_a0 ((((((h.2 c0_0).2 c1_0).2 c2_0).2 c3_0).2 c4_0).1 c5_0))
            · exact gd_tZ (ext_r _) (gX96_line_36 _ _ _ _ _ ⟨T.1, T.2⟩ n_a0 n_a0 ((((((h.2 c0_0).2 c1_0).2 c2_0).2 c3_0).2 c4_0).2 c5_0))
noncomputable def GX96_line (a0 : Nat) (a1 : Int32) (a2 : Int32) (M : FM) : Int32 × FM := GX96_line_0 a0 a1 a2 M
def HX96_line (a0 : Nat) (a1 : Int32) (a2 : Int32) (M : FM) : Prop := HX96_line_0 a0 a1 a2 M
theorem gX96_line (a0 : Nat) (a1 : Int32) (a2 : Int32) (M : FM) (T : Ty M) (n_a0 : fm_is M 99 99 a0 = true) (h : HX96_line a0 a1 a2 M) : gd (FX96_line fN a0 a1 a2 M) (GX96_line a0 a1 a2 M) (OkZ M) := gX96_line_0 a0 a1 a2 M T n_a0 h
noncomputable def GX100_line_46 (M : FM) : FM :=
  M
theorem gX100_line_46 (M : FM) (T : Ty M) : gd (FX100_line_46 M) (GX100_line_46 M) (OkV M) := by
  delta FX100_line_46 BX100_line_46
  exact ⟨rfl, ⟨T.1, T.2⟩, (ext_r _)⟩
noncomputable def GX100_line_29 (a0 : Nat) (a1 : Int32) (a2 : Int32) (s0 : Nat) (s1 : Int32) (M : FM) : FM :=
  let M1 : FM := fm_sI M 358 s0 0 s1
  fi ((M1.1 358 a0 0) = 0) (
    let x2 : Nat := (M1.2.2 362 a0 0)
    let M3 : FM := fm_sI M1 3 x2 a1.toNatClampNeg (a2 &&& 1)
    GX100_line_46 M3) (
    GX100_line_46 M1)
def HX100_line_29 (a0 : Nat) (a1 : Int32) (a2 : Int32) (s0 : Nat) (s1 : Int32) (M : FM) : Prop := let M1 : FM := fm_sI M 358 s0 0 s1; (((M1.1 358 a0 0) = 0 → let x2 : Nat := (M1.2.2 362 a0 0); (fm_in M1 x2 a1 = true ∧ True)) ∧ (¬ ((M1.1 358 a0 0) = 0) → True))
theorem gX100_line_29 (a0 : Nat) (a1 : Int32) (a2 : Int32) (s0 : Nat) (s1 : Int32) (M : FM) (T : Ty M) (n_s0 : fm_is M 95 95 s0 = true) (n_a0 : fm_is M 95 95 a0 = true) (h : HX100_line_29 a0 a1 a2 s0 s1 M) : gd (FX100_line_29 a0 a1 a2 s0 s1 M) (GX100_line_29 a0 a1 a2 s0 s1 M) (OkV M) := by
  delta FX100_line_29 BX100_line_29
  refine gd_c n_s0 ?_
  refine gd_c n_a0 ?_
  refine gd_fi (fun c0_0 => ?_) (fun c0_0 => ?_)
  · refine gd_c n_a0 ?_
    have f1 := (tN_362 T.1 n_a0)
    refine gd_c ⟨f1, (h.1 c0_0).1⟩ ?_
    exact gd_tV (ext_dI (ext_dI (ext_r _))) (gX100_line_46  _ ⟨T.1, (tyb_s4 (tyb_sI (f := 358) rfl T.2))⟩  )
  · exact gd_tV (ext_dI (ext_r _)) (gX100_line_46  _ ⟨T.1, (tyb_sI (f := 358) rfl T.2)⟩  )
noncomputable def GX100_line_24 (a0 : Nat) (a1 : Int32) (a2 : Int32) (s0 : Nat) (M : FM) : FM :=
  GX100_line_29 a0 a1 a2 s0 (Int32.ofInt 0) M
def HX100_line_24 (a0 : Nat) (a1 : Int32) (a2 : Int32) (s0 : Nat) (M : FM) : Prop := HX100_line_29 a0 a1 a2 s0 (Int32.ofInt 0) M
theorem gX100_line_24 (a0 : Nat) (a1 : Int32) (a2 : Int32) (s0 : Nat) (M : FM) (T : Ty M) (n_s0 : fm_is M 95 95 s0 = true) (n_a0 : fm_is M 95 95 a0 = true) (h : HX100_line_24 a0 a1 a2 s0 M) : gd (FX100_line_24 a0 a1 a2 s0 M) (GX100_line_24 a0 a1 a2 s0 M) (OkV M) := by
  delta FX100_line_24 BX100_line_24
  exact gd_tV (ext_r _) (gX100_line_29 _ _ _ _ _ _ ⟨T.1, T.2⟩ n_s0 n_a0 h)
noncomputable def GX100_line_0 (a0 : Nat) (a1 : Int32) (a2 : Int32) (M : FM) : FM :=
  fi (a1 = (Int32.ofInt 3)) (
    GX100_line_24 a0 a1 a2 a0 M) (
    fi (a1 = (Int32.ofInt 7)) (
      GX100_line_24 a0 a1 a2 a0 M) (
      fi (a1 = (Int32.ofInt 9)) (
        GX100_line_24 a0 a1 a2 a0 M) (
        fi (a1 = (Int32.ofInt 11)) (
          GX100_line_24 a0 a1 a2 a0 M) (
          GX100_line_29 a0 a1 a2 a0 (Int32.ofInt 1) M))))
def HX100_line_0 (a0 : Nat) (a1 : Int32) (a2 : Int32) (M : FM) : Prop := ((a1 = (Int32.ofInt 3) → HX100_line_24 a0 a1 a2 a0 M) ∧ (¬ (a1 = (Int32.ofInt 3)) → ((a1 = (Int32.ofInt 7) → HX100_line_24 a0 a1 a2 a0 M) ∧ (¬ (a1 = (Int32.ofInt 7)) → ((a1 = (Int32.ofInt 9) → HX100_line_24 a0 a1 a2 a0 M) ∧ (¬ (a1 = (Int32.ofInt 9)) → ((a1 = (Int32.ofInt 11) → HX100_line_24 a0 a1 a2 a0 M) ∧ (¬ (a1 = (Int32.ofInt 11)) → HX100_line_29 a0 a1 a2 a0 (Int32.ofInt 1) M))))))))
theorem gX100_line_0 (a0 : Nat) (a1 : Int32) (a2 : Int32) (M : FM) (T : Ty M) (n_a0 : fm_is M 95 95 a0 = true) (h : HX100_line_0 a0 a1 a2 M) : gd (FX100_line_0 a0 a1 a2 M) (GX100_line_0 a0 a1 a2 M) (OkV M) := by
  delta FX100_line_0 BX100_line_0
  refine gd_fi (fun c0_0 => ?_) (fun c0_0 => ?_)
  · exact gd_tV (ext_r _) (gX100_line_24 _ _ _ _ _ ⟨T.1, T.2⟩ n_a0 n_a0 (h.1 c0_0))
  · refine gd_fi (fun c1_0 => ?_) (fun c1_0 => ?_)
    · exact gd_tV (ext_r _) (gX100_line_24 _ _ _ _ _ ⟨T.1, T.2⟩ n_a0 n_a0 ((h.2 c0_0).1 c1_0))
    · refine gd_fi (fun c2_0 => ?_) (fun c2_0 => ?_)
      · exact gd_tV (ext_r _) (gX100_line_24 _ _ _ _ _ ⟨T.1, T.2⟩ n_a0 n_a0 (((h.2 c0_0).2 c1_0).1 c2_0))
      · refine gd_fi (fun c3_0 => ?_) (fun c3_0 => ?_)
        · exact gd_tV (ext_r _) (gX100_line_24 _ _ _ _ _ ⟨T.1, T.2⟩ n_a0 n_a0 ((((h.2 c0_0).2 c1_0).2 c2_0).1 c3_0))
        · exact gd_tV (ext_r _) (gX100_line_29 _ _ _ _ _ _ ⟨T.1, T.2⟩ n_a0 n_a0 ((((h.2 c0_0).2 c1_0).2 c2_0).2 c3_0))
noncomputable def GX100_line (a0 : Nat) (a1 : Int32) (a2 : Int32) (M : FM) : FM := GX100_line_0 a0 a1 a2 M
def HX100_line (a0 : Nat) (a1 : Int32) (a2 : Int32) (M : FM) : Prop := HX100_line_0 a0 a1 a2 M
theorem gX100_line (a0 : Nat) (a1 : Int32) (a2 : Int32) (M : FM) (T : Ty M) (n_a0 : fm_is M 95 95 a0 = true) (h : HX100_line a0 a1 a2 M) : gd (FX100_line a0 a1 a2 M) (GX100_line a0 a1 a2 M) (OkV M) := gX100_line_0 a0 a1 a2 M T n_a0 h
noncomputable def GX100_status_0 (a0 : Nat) (a1 : Int32) (M : FM) : Int32 × FM :=
  let x1 : Nat := (M.2.2 361 a0 0)
  ((((M.2.1 3 x1 (Int32.ofInt 768).toNatClampNeg) >>> (a1.toInt64 &&& 63)) &&& (Int64.ofInt 1)).toInt32, M)
theorem gX100_status_0 (a0 : Nat) (a1 : Int32) (M : FM) (T : Ty M) (n_a0 : fm_is M 95 95 a0 = true) : gd (FX100_status_0 a0 a1 M) (GX100_status_0 a0 a1 M) (OkR M) := by
  delta FX100_status_0 BX100_status_0
  refine gd_c n_a0 ?_
  have f0 := (tN_361 T.1 n_a0)
  have f1 := (fm_inl (i := (Int32.ofInt 768)) (tL_361 T.1 n_a0) (by decide))
  refine gd_c ⟨f0, f1⟩ ?_
  exact ⟨rfl, ⟨T.1, T.2⟩, (ext_r _)⟩
noncomputable def GX100_status (a0 : Nat) (a1 : Int32) (M : FM) : Int32 × FM := GX100_status_0 a0 a1 M
theorem gX100_status (a0 : Nat) (a1 : Int32) (M : FM) (T : Ty M) (n_a0 : fm_is M 95 95 a0 = true) : gd (FX100_status a0 a1 M) (GX100_status a0 a1 M) (OkR M) := gX100_status_0 a0 a1 M T n_a0 
noncomputable def GX100_floating_0 (a0 : Nat) (M : FM) : Int32 × FM :=
  let r1 : Int32 × FM := GX100_status a0 (Int32.ofInt 13) M
  let r2 : Int32 × FM := GX100_status a0 (Int32.ofInt 14) r1.2
  ((r1.1 + ((Int32.ofInt 2) * r2.1)), r2.2)
theorem gX100_floating_0 (a0 : Nat) (M : FM) (T : Ty M) (n_a0 : fm_is M 95 95 a0 = true) : gd (FX100_floating_0 a0 M) (GX100_floating_0 a0 M) (OkR M) := by
  delta FX100_floating_0 BX100_floating_0
  refine gd_c n_a0 ?_
  refine gd_b (gX100_status _ _ _ ⟨T.1, T.2⟩ n_a0 ) (fun K0 => ?_)
  have f1 := (ext_is K0.2 (Nat.zero_lt_succ _) n_a0)
  refine gd_c f1 ?_
  have f3 := (ext_is K0.2 (Nat.zero_lt_succ _) n_a0)
  refine gd_b (gX100_status _ _ _ ⟨K0.1.1, K0.1.2⟩ f3 ) (fun K2 => ?_)
  exact ⟨rfl, ⟨K2.1.1, K2.1.2⟩, (ext_tr K0.2 K2.2)⟩
noncomputable def GX100_floating (a0 : Nat) (M : FM) : Int32 × FM := GX100_floating_0 a0 M
theorem gX100_floating (a0 : Nat) (M : FM) (T : Ty M) (n_a0 : fm_is M 95 95 a0 = true) : gd (FX100_floating a0 M) (GX100_floating a0 M) (OkR M) := gX100_floating_0 a0 M T n_a0 
noncomputable def GX100_isCount_19 (s0 : Int32) (M : FM) : Int32 × FM :=
  (s0, M)
theorem gX100_isCount_19 (s0 : Int32) (M : FM) (T : Ty M) (z_s0 : s0 = 0 ∨ s0 = 1) : gd (FX100_isCount_19 s0 M) (GX100_isCount_19 s0 M) (OkZ M) := by
  delta FX100_isCount_19 BX100_isCount_19
  exact gd_z z_s0 ⟨T.1, T.2⟩ (ext_r _) rfl
noncomputable def GX100_isCount_18 (M : FM) : Int32 × FM :=
  GX100_isCount_19 (Int32.ofInt 0) M
theorem gX100_isCount_18 (M : FM) (T : Ty M) : gd (FX100_isCount_18 M) (GX100_isCount_18 M) (OkZ M) := by
  delta FX100_isCount_18 BX100_isCount_18
  exact gd_tZ (ext_r _) (gX100_isCount_19 _ _ ⟨T.1, T.2⟩ fz_0 )
noncomputable def GX100_isCount_0 (a0 : Int32) (M : FM) : Int32 × FM :=
  fi (a0 < (Int32.ofInt 3072)) (
    GX100_isCount_18 M) (
    fi ((Int32.ofInt 3075) ≤ a0) (
      GX100_isCount_18 M) (
      GX100_isCount_19 (Int32.ofInt 1) M))
theorem gX100_isCount_0 (a0 : Int32) (M : FM) (T : Ty M) : gd (FX100_isCount_0 a0 M) (GX100_isCount_0 a0 M) (OkZ M) := by
  delta FX100_isCount_0 BX100_isCount_0
  refine gd_fi (fun c0_0 => ?_) (fun c0_0 => ?_)
  · exact gd_tZ (ext_r _) (gX100_isCount_18  _ ⟨T.1, T.2⟩  )
  · refine gd_fi (fun c1_0 => ?_) (fun c1_0 => ?_)
    · exact gd_tZ (ext_r _) (gX100_isCount_18  _ ⟨T.1, T.2⟩  )
    · exact gd_tZ (ext_r _) (gX100_isCount_19 _ _ ⟨T.1, T.2⟩ fz_1 )
noncomputable def GX100_isCount (a0 : Int32) (M : FM) : Int32 × FM := GX100_isCount_0 a0 M
theorem gX100_isCount (a0 : Int32) (M : FM) (T : Ty M) : gd (FX100_isCount a0 M) (GX100_isCount a0 M) (OkZ M) := gX100_isCount_0 a0 M T 
noncomputable def GX100_isElsewhere_42 (s0 : Int32) (M : FM) : Int32 × FM :=
  (s0, M)
theorem gX100_isElsewhere_42 (s0 : Int32) (M : FM) (T : Ty M) (z_s0 : s0 = 0 ∨ s0 = 1) : gd (FX100_isElsewhere_42 s0 M) (GX100_isElsewhere_42 s0 M) (OkZ M) := by
  delta FX100_isElsewhere_42 BX100_isElsewhere_42
  exact gd_z z_s0 ⟨T.1, T.2⟩ (ext_r _) rfl
noncomputable def GX100_isElsewhere_41 (M : FM) : Int32 × FM :=
  GX100_isElsewhere_42 (Int32.ofInt 0) M
theorem gX100_isElsewhere_41 (M : FM) (T : Ty M) : gd (FX100_isElsewhere_41 M) (GX100_isElsewhere_41 M) (OkZ M) := by
  delta FX100_isElsewhere_41 BX100_isElsewhere_41
  exact gd_tZ (ext_r _) (gX100_isElsewhere_42 _ _ ⟨T.1, T.2⟩ fz_0 )
noncomputable def GX100_isElsewhere_37 (M : FM) : Int32 × FM :=
  GX100_isElsewhere_42 (Int32.ofInt 1) M
theorem gX100_isElsewhere_37 (M : FM) (T : Ty M) : gd (FX100_isElsewhere_37 M) (GX100_isElsewhere_37 M) (OkZ M) := by
  delta FX100_isElsewhere_37 BX100_isElsewhere_37
  exact gd_tZ (ext_r _) (gX100_isElsewhere_42 _ _ ⟨T.1, T.2⟩ fz_1 )
noncomputable def GX100_isElsewhere_9 (a0 : Int32) (M : FM) : Int32 × FM :=
  fi (a0 = (Int32.ofInt 928)) (
    GX100_isElsewhere_37 M) (
    fi (a0 = (Int32.ofInt 930)) (
      GX100_isElsewhere_37 M) (
      fi (a0 < (Int32.ofInt 944)) (
        GX100_isElsewhere_41 M) (
        fi ((Int32.ofInt 960) ≤ a0) (
          GX100_isElsewhere_41 M) (
          GX100_isElsewhere_37 M))))
theorem gX100_isElsewhere_9 (a0 : Int32) (M : FM) (T : Ty M) : gd (FX100_isElsewhere_9 a0 M) (GX100_isElsewhere_9 a0 M) (OkZ M) := by
  delta FX100_isElsewhere_9 BX100_isElsewhere_9
  refine gd_fi (fun c0_0 => ?_) (fun c0_0 => ?_)
  · exact gd_tZ (ext_r _) (gX100_isElsewhere_37  _ ⟨T.1, T.2⟩  )
  · refine gd_fi (fun c1_0 => ?_) (fun c1_0 => ?_)
    · exact gd_tZ (ext_r _) (gX100_isElsewhere_37  _ ⟨T.1, T.2⟩  )
    · refine gd_fi (fun c2_0 => ?_) (fun c2_0 => ?_)
      · exact gd_tZ (ext_r _) (gX100_isElsewhere_41  _ ⟨T.1, T.2⟩  )
      · refine gd_fi (fun c3_0 => ?_) (fun c3_0 => ?_)
        · exact gd_tZ (ext_r _) (gX100_isElsewhere_41  _ ⟨T.1, T.2⟩  )
        · exact gd_tZ (ext_r _) (gX100_isElsewhere_37  _ ⟨T.1, T.2⟩  )
noncomputable def GX100_isElsewhere_0 (a0 : Int32) (M : FM) : Int32 × FM :=
  fi (a0 ≤ 0) (
    GX100_isElsewhere_9 a0 M) (
    fi (a0 < (Int32.ofInt 4)) (
      GX100_isElsewhere_37 M) (
      GX100_isElsewhere_9 a0 M))
theorem gX100_isElsewhere_0 (a0 : Int32) (M : FM) (T : Ty M) : gd (FX100_isElsewhere_0 a0 M) (GX100_isElsewhere_0 a0 M) (OkZ M) := by
  delta FX100_isElsewhere_0 BX100_isElsewhere_0
  refine gd_fi (fun c0_0 => ?_) (fun c0_0 => ?_)
  · exact gd_tZ (ext_r _) (gX100_isElsewhere_9 _ _ ⟨T.1, T.2⟩  )
  · refine gd_fi (fun c1_0 => ?_) (fun c1_0 => ?_)
    · exact gd_tZ (ext_r _) (gX100_isElsewhere_37  _ ⟨T.1, T.2⟩  )
    · exact gd_tZ (ext_r _) (gX100_isElsewhere_9 _ _ ⟨T.1, T.2⟩  )
noncomputable def GX100_isElsewhere (a0 : Int32) (M : FM) : Int32 × FM := GX100_isElsewhere_0 a0 M
theorem gX100_isElsewhere (a0 : Int32) (M : FM) (T : Ty M) : gd (FX100_isElsewhere a0 M) (GX100_isElsewhere a0 M) (OkZ M) := gX100_isElsewhere_0 a0 M T 
noncomputable def GX100_isThere_137 (s0 : Int32) (M : FM) : Int32 × FM :=
  (s0, M)
theorem gX100_isThere_137 (s0 : Int32) (M : FM) (T : Ty M) (z_s0 : s0 = 0 ∨ s0 = 1) : gd (FX100_isThere_137 s0 M) (GX100_isThere_137 s0 M) (OkZ M) := by
  delta FX100_isThere_137 BX100_isThere_137
  exact gd_z z_s0 ⟨T.1, T.2⟩ (ext_r _) rfl
noncomputable def GX100_isThere_132 (M : FM) : Int32 × FM :=
  GX100_isThere_137 (Int32.ofInt 1) M
theorem gX100_isThere_132 (M : FM) (T : Ty M) : gd (FX100_isThere_132 M) (GX100_isThere_132 M) (OkZ M) := by
  delta FX100_isThere_132 BX100_isThere_132
  exact gd_tZ (ext_r _) (gX100_isThere_137 _ _ ⟨T.1, T.2⟩ fz_1 )
noncomputable def GX100_isThere_109 (a0 : Int32) (a1 : Int32) (s0 : Int32) (M : FM) : Int32 × FM :=
  fi (a1 = 0) (
    fi (s0 = 0) (
      let r1 : Int32 × FM := GX100_isCount a0 M
      fi (r1.1 = 0) (
        let r2 : Int32 × FM := GX100_isElsewhere a0 r1.2
        fi (r2.1 = 0) (
          GX100_isThere_137 (Int32.ofInt 0) r2.2) (
          GX100_isThere_132 r2.2)) (
        GX100_isThere_132 r1.2)) (
      GX100_isThere_132 M)) (
    GX100_isThere_132 M)
theorem gX100_isThere_109 (a0 : Int32) (a1 : Int32) (s0 : Int32) (M : FM) (T : Ty M) : gd (FX100_isThere_109 a0 a1 s0 M) (GX100_isThere_109 a0 a1 s0 M) (OkZ M) := by
  delta FX100_isThere_109 BX100_isThere_109
  refine gd_fi (fun c0_0 => ?_) (fun c0_0 => ?_)
  · refine gd_fi (fun c1_0 => ?_) (fun c1_0 => ?_)
    · refine gd_b (gX100_isCount _ _ ⟨T.1, T.2⟩  ) (fun K2 => ?_)
      refine gd_fi (fun c3_0 => ?_) (fun c3_0 => ?_)
      · refine gd_b (gX100_isElsewhere _ _ ⟨K2.1.1, K2.1.2⟩  ) (fun K4 => ?_)
        refine gd_fi (fun c5_0 => ?_) (fun c5_0 => ?_)
        · exact gd_tZ (ext_tr K2.2.1 K4.2.1) (gX100_isThere_137 _ _ ⟨K4.1.1, K4.1.2⟩ fz_0 )
        · exact gd_tZ (ext_tr K2.2.1 K4.2.1) (gX100_isThere_132  _ ⟨K4.1.1, K4.1.2⟩  )
      · exact gd_tZ K2.2.1 (gX100_isThere_132  _ ⟨K2.1.1, K2.1.2⟩  )
    · exact gd_tZ (ext_r _) (gX100_isThere_132  _ ⟨T.1, T.2⟩  )
  · exact gd_tZ (ext_r _) (gX100_isThere_132  _ ⟨T.1, T.2⟩  )
noncomputable def GX100_isThere_104 (a0 : Int32) (a1 : Int32) (M : FM) : Int32 × FM :=
  GX100_isThere_109 a0 a1 (Int32.ofInt 1) M
theorem gX100_isThere_104 (a0 : Int32) (a1 : Int32) (M : FM) (T : Ty M) : gd (FX100_isThere_104 a0 a1 M) (GX100_isThere_104 a0 a1 M) (OkZ M) := by
  delta FX100_isThere_104 BX100_isThere_104
  exact gd_tZ (ext_r _) (gX100_isThere_109 _ _ _ _ ⟨T.1, T.2⟩  )
noncomputable def GX100_isThere_97 (a0 : Int32) (a1 : Int32) (M : FM) : Int32 × FM :=
  fi (a0 = (Int32.ofInt 384)) (
    GX100_isThere_104 a0 a1 M) (
    GX100_isThere_109 a0 a1 (Int32.ofInt 0) M)
theorem gX100_isThere_97 (a0 : Int32) (a1 : Int32) (M : FM) (T : Ty M) : gd (FX100_isThere_97 a0 a1 M) (GX100_isThere_97 a0 a1 M) (OkZ M) := by
  delta FX100_isThere_97 BX100_isThere_97
  refine gd_fi (fun c0_0 => ?_) (fun c0_0 => ?_)
  · exact gd_tZ (ext_r _) (gX100_isThere_104 _ _ _ ⟨T.1, T.2⟩  )
  · exact gd_tZ (ext_r _) (gX100_isThere_109 _ _ _ _ ⟨T.1, T.2⟩  )
noncomputable def GX100_isThere_83 (a0 : Int32) (a1 : Int32) (M : FM) : Int32 × FM :=
  fi (a0 < (Int32.ofInt 320)) (
    GX100_isThere_97 a0 a1 M) (
    fi (a0 < (Int32.ofInt 325)) (
      GX100_isThere_104 a0 a1 M) (
      GX100_isThere_97 a0 a1 M))
theorem gX100_isThere_83 (a0 : Int32) (a1 : Int32) (M : FM) (T : Ty M) : gd (FX100_isThere_83 a0 a1 M) (GX100_isThere_83 a0 a1 M) (OkZ M) := by
  delta FX100_isThere_83 BX100_isThere_83
  refine gd_fi (fun c0_0 => ?_) (fun c0_0 => ?_)
  · exact gd_tZ (ext_r _) (gX100_isThere_97 _ _ _ ⟨T.1, T.2⟩  )
  · refine gd_fi (fun c1_0 => ?_) (fun c1_0 => ?_)
    · exact gd_tZ (ext_r _) (gX100_isThere_104 _ _ _ ⟨T.1, T.2⟩  )
    · exact gd_tZ (ext_r _) (gX100_isThere_97 _ _ _ ⟨T.1, T.2⟩  )
noncomputable def GX100_isThere_61 (a0 : Int32) (s0 : Int32) (M : FM) : Int32 × FM :=
  fi (a0 = (Int32.ofInt 256)) (
    GX100_isThere_104 a0 s0 M) (
    fi (a0 < (Int32.ofInt 260)) (
      GX100_isThere_83 a0 s0 M) (
      fi (a0 < (Int32.ofInt 263)) (
        GX100_isThere_104 a0 s0 M) (
        GX100_isThere_83 a0 s0 M)))
theorem gX100_isThere_61 (a0 : Int32) (s0 : Int32) (M : FM) (T : Ty M) : gd (FX100_isThere_61 a0 s0 M) (GX100_isThere_61 a0 s0 M) (OkZ M) := by
  delta FX100_isThere_61 BX100_isThere_61
  refine gd_fi (fun c0_0 => ?_) (fun c0_0 => ?_)
  · exact gd_tZ (ext_r _) (gX100_isThere_104 _ _ _ ⟨T.1, T.2⟩  )
  · refine gd_fi (fun c1_0 => ?_) (fun c1_0 => ?_)
    · exact gd_tZ (ext_r _) (gX100_isThere_83 _ _ _ ⟨T.1, T.2⟩  )
    · refine gd_fi (fun c2_0 => ?_) (fun c2_0 => ?_)
      · exact gd_tZ (ext_r _) (gX100_isThere_104 _ _ _ ⟨T.1, T.2⟩  )
      · exact gd_tZ (ext_r _) (gX100_isThere_83 _ _ _ ⟨T.1, T.2⟩  )
noncomputable def GX100_isThere_60 (a0 : Int32) (M : FM) : Int32 × FM :=
  GX100_isThere_61 a0 (Int32.ofInt 0) M
theorem gX100_isThere_60 (a0 : Int32) (M : FM) (T : Ty M) : gd (FX100_isThere_60 a0 M) (GX100_isThere_60 a0 M) (OkZ M) := by
  delta FX100_isThere_60 BX100_isThere_60
  exact gd_tZ (ext_r _) (gX100_isThere_61 _ _ _ ⟨T.1, T.2⟩  )
noncomputable def GX100_isThere_56 (a0 : Int32) (M : FM) : Int32 × FM :=
  GX100_isThere_61 a0 (Int32.ofInt 1) M
theorem gX100_isThere_56 (a0 : Int32) (M : FM) (T : Ty M) : gd (FX100_isThere_56 a0 M) (GX100_isThere_56 a0 M) (OkZ M) := by
  delta FX100_isThere_56 BX100_isThere_56
  exact gd_tZ (ext_r _) (gX100_isThere_61 _ _ _ ⟨T.1, T.2⟩  )
noncomputable def GX100_isThere_28 (a0 : Int32) (M : FM) : Int32 × FM :=
  fi (a0 = (Int32.ofInt 2816)) (
    GX100_isThere_56 a0 M) (
    fi (a0 = (Int32.ofInt 2818)) (
      GX100_isThere_56 a0 M) (
      fi (a0 < (Int32.ofInt 3857)) (
        GX100_isThere_60 a0 M) (
        fi ((Int32.ofInt 3862) ≤ a0) (
          GX100_isThere_60 a0 M) (
          GX100_isThere_56 a0 M))))
theorem gX100_isThere_28 (a0 : Int32) (M : FM) (T : Ty M) : gd (FX100_isThere_28 a0 M) (GX100_isThere_28 a0 M) (OkZ M) := by
  delta FX100_isThere_28 BX100_isThere_28
  refine gd_fi (fun c0_0 => ?_) (fun c0_0 => ?_)
  · exact gd_tZ (ext_r _) (gX100_isThere_56 _ _ ⟨T.1, T.2⟩  )
  · refine gd_fi (fun c1_0 => ?_) (fun c1_0 => ?_)
    · exact gd_tZ (ext_r _) (gX100_isThere_56 _ _ ⟨T.1, T.2⟩  )
    · refine gd_fi (fun c2_0 => ?_) (fun c2_0 => ?_)
      · exact gd_tZ (ext_r _) (gX100_isThere_60 _ _ ⟨T.1, T.2⟩  )
      · refine gd_fi (fun c3_0 => ?_) (fun c3_0 => ?_)
        · exact gd_tZ (ext_r _) (gX100_isThere_60 _ _ ⟨T.1, T.2⟩  )
        · exact gd_tZ (ext_r _) (gX100_isThere_56 _ _ ⟨T.1, T.2⟩  )
noncomputable def GX100_isThere_14 (a0 : Int32) (M : FM) : Int32 × FM :=
  fi (a0 < (Int32.ofInt 832)) (
    GX100_isThere_28 a0 M) (
    fi (a0 < (Int32.ofInt 837)) (
      GX100_isThere_56 a0 M) (
      GX100_isThere_28 a0 M))
theorem gX100_isThere_14 (a0 : Int32) (M : FM) (T : Ty M) : gd (FX100_isThere_14 a0 M) (GX100_isThere_14 a0 M) (OkZ M) := by
  delta FX100_isThere_14 BX100_isThere_14
  refine gd_fi (fun c0_0 => ?_) (fun c0_0 => ?_)
  · exact gd_tZ (ext_r _) (gX100_isThere_28 _ _ ⟨T.1, T.2⟩  )
  · refine gd_fi (fun c1_0 => ?_) (fun c1_0 => ?_)
    · exact gd_tZ (ext_r _) (gX100_isThere_56 _ _ ⟨T.1, T.2⟩  )
    · exact gd_tZ (ext_r _) (gX100_isThere_28 _ _ ⟨T.1, T.2⟩  )
noncomputable def GX100_isThere_0 (a0 : Int32) (M : FM) : Int32 × FM :=
  fi (a0 < (Int32.ofInt 768)) (
    GX100_isThere_14 a0 M) (
    fi (a0 < (Int32.ofInt 775)) (
      GX100_isThere_56 a0 M) (
      GX100_isThere_14 a0 M))
theorem gX100_isThere_0 (a0 : Int32) (M : FM) (T : Ty M) : gd (FX100_isThere_0 a0 M) (GX100_isThere_0 a0 M) (OkZ M) := by
  delta FX100_isThere_0 BX100_isThere_0
  refine gd_fi (fun c0_0 => ?_) (fun c0_0 => ?_)
  · exact gd_tZ (ext_r _) (gX100_isThere_14 _ _ ⟨T.1, T.2⟩  )
  · refine gd_fi (fun c1_0 => ?_) (fun c1_0 => ?_)
    · exact gd_tZ (ext_r _) (gX100_isThere_56 _ _ ⟨T.1, T.2⟩  )
    · exact gd_tZ (ext_r _) (gX100_isThere_14 _ _ ⟨T.1, T.2⟩  )
noncomputable def GX100_isThere (a0 : Int32) (M : FM) : Int32 × FM := GX100_isThere_0 a0 M
theorem gX100_isThere (a0 : Int32) (M : FM) (T : Ty M) : gd (FX100_isThere a0 M) (GX100_isThere a0 M) (OkZ M) := gX100_isThere_0 a0 M T 
def kX100_statusSeen (k4 : Int32 → Int64 → Int32 → FM → Option (Int64 × FM)) : (Int32 × Int64 × Int32 × FM) ⊕ (Int64 × FM) → Option (Int64 × FM)
  | .inl (v0, v1, v2, M') => k4 v0 v1 v2 M'
  | .inr (r) => some r
def pX100_statusSeen (M : FM) : (Int32 × Int64 × Int32 × FM) ⊕ (Int64 × FM) → Prop
  | .inl (_, _, _, M') => OkV M M'
  | .inr (r) => OkR M r
theorem pX100_statusSeen_t {M M1 : FM} (e : Ext M M1) : ∀ y, pX100_statusSeen M1 y → pX100_statusSeen M y
  | .inl (_, _, _, _), h => ⟨h.1, ext_tr e h.2⟩
  | .inr (r), h => ⟨h.1, ext_tr e h.2⟩
noncomputable def GX100_statusSeen_134 (a0 : Int32) (a3 : Int32) (s0 : Int64) (M : FM) : (Int32 × Int64 × Int32 × FM) ⊕ (Int64 × FM) :=
  let x1 : Int32 := a3 + (Int32.ofInt 1)
  (.inl (a0, s0, x1, M))
theorem gX100_statusSeen_134 (k4 : Int32 → Int64 → Int32 → FM → Option (Int64 × FM)) (a0 : Int32) (a3 : Int32) (s0 : Int64) (M : FM) (T : Ty M) : gs (FX100_statusSeen_134 fN k4 a0 a3 s0 M) (GX100_statusSeen_134 a0 a3 s0 M) (kX100_statusSeen k4) (pX100_statusSeen M) := by
  delta FX100_statusSeen_134 BX100_statusSeen_134
  exact And.intro rfl (And.intro (And.intro T.1 T.2) ((ext_r _)))
noncomputable def GX100_statusSeen_133 (a0 : Int32) (a1 : Int64) (a3 : Int32) (M : FM) : (Int32 × Int64 × Int32 × FM) ⊕ (Int64 × FM) :=
  GX100_statusSeen_134 a0 a3 a1 M
theorem gX100_statusSeen_133 (k4 : Int32 → Int64 → Int32 → FM → Option (Int64 × FM)) (a0 : Int32) (a1 : Int64) (a3 : Int32) (M : FM) (T : Ty M) : gs (FX100_statusSeen_133 fN k4 a0 a1 a3 M) (GX100_statusSeen_133 a0 a1 a3 M) (kX100_statusSeen k4) (pX100_statusSeen M) := by
  delta FX100_statusSeen_133 BX100_statusSeen_133
  exact gs_t (pX100_statusSeen_t (ext_r _)) (gX100_statusSeen_134 k4 _ _ _ _ ⟨T.1, T.2⟩  )
noncomputable def GX100_statusSeen_125 (a0 : Int32) (a1 : Int64) (a3 : Int32) (M : FM) : (Int32 × Int64 × Int32 × FM) ⊕ (Int64 × FM) :=
  GX100_statusSeen_134 a0 a3 (a1 ||| ((Int64.ofInt 1) <<< (a3.toInt64 &&& 63))) M
theorem gX100_statusSeen_125 (k4 : Int32 → Int64 → Int32 → FM → Option (Int64 × FM)) (a0 : Int32) (a1 : Int64) (a3 : Int32) (M : FM) (T : Ty M) : gs (FX100_statusSeen_125 fN k4 a0 a1 a3 M) (GX100_statusSeen_125 a0 a1 a3 M) (kX100_statusSeen k4) (pX100_statusSeen M) := by
  delta FX100_statusSeen_125 BX100_statusSeen_125
  exact gs_t (pX100_statusSeen_t (ext_r _)) (gX100_statusSeen_134 k4 _ _ _ _ ⟨T.1, T.2⟩  )
noncomputable def GX100_statusSeen_109 (a0 : Int32) (a1 : Int64) (a3 : Int32) (a4 : Int32) (s0 : Int32) (M : FM) : (Int32 × Int64 × Int32 × FM) ⊕ (Int64 × FM) :=
  fi (a4 = 0) (
    fi (a0 = 0) (
      GX100_statusSeen_133 a0 a1 a3 M) (
      fi (s0 = 0) (
        GX100_statusSeen_133 a0 a1 a3 M) (
        GX100_statusSeen_125 a0 a1 a3 M))) (
    GX100_statusSeen_125 a0 a1 a3 M)
theorem gX100_statusSeen_109 (k4 : Int32 → Int64 → Int32 → FM → Option (Int64 × FM)) (a0 : Int32) (a1 : Int64) (a3 : Int32) (a4 : Int32) (s0 : Int32) (M : FM) (T : Ty M) : gs (FX100_statusSeen_109 fN k4 a0 a1 a3 a4 s0 M) (GX100_statusSeen_109 a0 a1 a3 a4 s0 M) (kX100_statusSeen k4) (pX100_statusSeen M) := by
  delta FX100_statusSeen_109 BX100_statusSeen_109
  refine gs_fi (fun c0_0 => ?_) (fun c0_0 => ?_)
  · refine gs_fi (fun c1_0 => ?_) (fun c1_0 => ?_)
    · exact gs_t (pX100_statusSeen_t (ext_r _)) (gX100_statusSeen_133 k4 _ _ _ _ ⟨T.1, T.2⟩  )
    · refine gs_fi (fun c2_0 => ?_) (fun c2_0 => ?_)
      · exact gs_t (pX100_statusSeen_t (ext_r _)) (gX100_statusSeen_133 k4 _ _ _ _ ⟨T.1, T.2⟩  )
      · exact gs_t (pX100_statusSeen_t (ext_r _)) (gX100_statusSeen_125 k4 _ _ _ _ ⟨T.1, T.2⟩  )
  · exact gs_t (pX100_statusSeen_t (ext_r _)) (gX100_statusSeen_125 k4 _ _ _ _ ⟨T.1, T.2⟩  )
noncomputable def GX100_statusSeen_104 (a0 : Int32) (a1 : Int64) (a3 : Int32) (a4 : Int32) (M : FM) : (Int32 × Int64 × Int32 × FM) ⊕ (Int64 × FM) :=
  GX100_statusSeen_109 a0 a1 a3 a4 (Int32.ofInt 1) M
theorem gX100_statusSeen_104 (k4 : Int32 → Int64 → Int32 → FM → Option (Int64 × FM)) (a0 : Int32) (a1 : Int64) (a3 : Int32) (a4 : Int32) (M : FM) (T : Ty M) : gs (FX100_statusSeen_104 fN k4 a0 a1 a3 a4 M) (GX100_statusSeen_104 a0 a1 a3 a4 M) (kX100_statusSeen k4) (pX100_statusSeen M) := by
  delta FX100_statusSeen_104 BX100_statusSeen_104
  exact gs_t (pX100_statusSeen_t (ext_r _)) (gX100_statusSeen_109 k4 _ _ _ _ _ _ ⟨T.1, T.2⟩  )
noncomputable def GX100_statusSeen_55 (a0 : Int32) (a1 : Int64) (a3 : Int32) (s0 : Int32) (M : FM) : (Int32 × Int64 × Int32 × FM) ⊕ (Int64 × FM) :=
  fi (a3 = (Int32.ofInt 3)) (
    GX100_statusSeen_104 a0 a1 a3 s0 M) (
    fi (a3 = (Int32.ofInt 7)) (
      GX100_statusSeen_104 a0 a1 a3 s0 M) (
      fi (a3 = (Int32.ofInt 11)) (
        GX100_statusSeen_104 a0 a1 a3 s0 M) (
        fi (a3 = (Int32.ofInt 12)) (
          GX100_statusSeen_104 a0 a1 a3 s0 M) (
          fi (a3 = (Int32.ofInt 17)) (
            GX100_statusSeen_104 a0 a1 a3 s0 M) (
            fi (a3 = (Int32.ofInt 20)) (
              GX100_statusSeen_104 a0 a1 a3 s0 M) (
              fi (a3 = (Int32.ofInt 21)) (
                GX100_statusSeen_104 a0 a1 a3 s0 M) (
                fi (a3 = (Int32.ofInt 22)) (
                  GX100_statusSeen_104 a0 a1 a3 s0 M) (
                  GX100_statusSeen_109 a0 a1 a3 s0 (Int32.ofInt 0) M))))))))
theorem gX100_statusSeen_55 (k4 : Int32 → Int64 → Int32 → FM → Option (Int64 × FM)) (a0 : Int32) (a1 : Int64) (a3 : Int32) (s0 : Int32) (M : FM) (T : Ty M) : gs (FX100_statusSeen_55 fN k4 a0 a1 a3 s0 M) (GX100_statusSeen_55 a0 a1 a3 s0 M) (kX100_statusSeen k4) (pX100_statusSeen M) := by
  delta FX100_statusSeen_55 BX100_statusSeen_55
  refine gs_fi (fun c0_0 => ?_) (fun c0_0 => ?_)
  · exact gs_t (pX100_statusSeen_t (ext_r _)) (gX100_statusSeen_104 k4 _ _ _ _ _ ⟨T.1, T.2⟩  )
  · refine gs_fi (fun c1_0 => ?_) (fun c1_0 => ?_)
    · exact gs_t (pX100_statusSeen_t (ext_r _)) (gX100_statusSeen_104 k4 _ _ _ _ _ ⟨T.1, T.2⟩  )
    · refine gs_fi (fun c2_0 => ?_) (fun c2_0 => ?_)
      · exact gs_t (pX100_statusSeen_t (ext_r _)) (gX100_statusSeen_104 k4 _ _ _ _ _ ⟨T.1, T.2⟩  )
      · refine gs_fi (fun c3_0 => ?_) (fun c3_0 => ?_)
        · exact gs_t (pX100_statusSeen_t (ext_r _)) (gX100_statusSeen_104 k4 _ _ _ _ _ ⟨T.1, T.2⟩  )
        · refine gs_fi (fun c4_0 => ?_) (fun c4_0 => ?_)
          · exact gs_t (pX100_statusSeen_t (ext_r _)) (gX100_statusSeen_104 k4 _ _ _ _ _ ⟨T.1, T.2⟩  )
          · refine gs_fi (fun c5_0 => ?_) (fun c5_0 => ?_)
            · exact gs_t (pX100_statusSeen_t (ext_r _)) (gX100_statusSeen_104 k4 _ _ _ _ _ ⟨T.1, T.2⟩  )
            · refine gs_fi (fun c6_0 => ?_) (fun c6_0 => ?_)
              · exact gs_t (pX100_statusSeen_t (ext_r _)) (gX100_statusSeen_104 k4 _ _ _ _ _ ⟨T.1, T.2⟩  )
              · refine gs_fi (fun c7_0 => ?_) (fun c7_0 => ?_)
                · exact gs_t (pX100_statusSeen_t (ext_r _)) (gX100_statusSeen_104 k4 _ _ _ _ _ ⟨T.1, T.2⟩  )
                · exact gs_t (pX100_statusSeen_t (ext_r _)) (gX100_statusSeen_109 k4 _ _ _ _ _ _ ⟨T.1, T.2⟩  )
noncomputable def GX100_statusSeen_50 (a0 : Int32) (a1 : Int64) (a3 : Int32) (M : FM) : (Int32 × Int64 × Int32 × FM) ⊕ (Int64 × FM) :=
  GX100_statusSeen_55 a0 a1 a3 (Int32.ofInt 1) M
theorem gX100_statusSeen_50 (k4 : Int32 → Int64 → Int32 → FM → Option (Int64 × FM)) (a0 : Int32) (a1 : Int64) (a3 : Int32) (M : FM) (T : Ty M) : gs (FX100_statusSeen_50 fN k4 a0 a1 a3 M) (GX100_statusSeen_50 a0 a1 a3 M) (kX100_statusSeen k4) (pX100_statusSeen M) := by
  delta FX100_statusSeen_50 BX100_statusSeen_50
  exact gs_t (pX100_statusSeen_t (ext_r _)) (gX100_statusSeen_55 k4 _ _ _ _ _ ⟨T.1, T.2⟩  )
noncomputable def GX100_statusSeen_0 (a0 : Int32) (M : FM) : (Int32 × Int64 × Int32 × FM) ⊕ (Int64 × FM) :=
  (.inl (a0, (Int64.ofInt 0), (Int32.ofInt 0), M))
theorem gX100_statusSeen_0 (k4 : Int32 → Int64 → Int32 → FM → Option (Int64 × FM)) (a0 : Int32) (M : FM) (T : Ty M) : gs (FX100_statusSeen_0 fN k4 a0 M) (GX100_statusSeen_0 a0 M) (kX100_statusSeen k4) (pX100_statusSeen M) := by
  delta FX100_statusSeen_0 BX100_statusSeen_0
  exact And.intro rfl (And.intro (And.intro T.1 T.2) ((ext_r _)))
noncomputable def GX100_statusSeen_4 (a0 : Int32) (a1 : Int64) (a3 : Int32) (M : FM) : (Int32 × Int64 × Int32 × FM) ⊕ (Int64 × FM) :=
  fi ((Int32.ofInt 23) ≤ a3) (
    (.inr (a1, M))) (
    fi (a3 = (Int32.ofInt 1)) (
      GX100_statusSeen_50 a0 a1 a3 M) (
      fi (a3 = (Int32.ofInt 5)) (
        GX100_statusSeen_50 a0 a1 a3 M) (
        fi (a3 = (Int32.ofInt 8)) (
          GX100_statusSeen_50 a0 a1 a3 M) (
          fi (a3 = (Int32.ofInt 13)) (
            GX100_statusSeen_50 a0 a1 a3 M) (
            fi (a3 = (Int32.ofInt 14)) (
              GX100_statusSeen_50 a0 a1 a3 M) (
              fi (a3 = (Int32.ofInt 18)) (
                GX100_statusSeen_50 a0 a1 a3 M) (
                fi (a3 = (Int32.ofInt 19)) (
                  GX100_statusSeen_50 a0 a1 a3 M) (
                  GX100_statusSeen_55 a0 a1 a3 (Int32.ofInt 0) M))))))))
theorem gX100_statusSeen_4 (k4 : Int32 → Int64 → Int32 → FM → Option (Int64 × FM)) (a0 : Int32) (a1 : Int64) (a3 : Int32) (M : FM) (T : Ty M) : gs (FX100_statusSeen_4 fN k4 a0 a1 a3 M) (GX100_statusSeen_4 a0 a1 a3 M) (kX100_statusSeen k4) (pX100_statusSeen M) := by
  delta FX100_statusSeen_4 BX100_statusSeen_4
  refine gs_fi (fun c0_0 => ?_) (fun c0_0 => ?_)
  · exact And.intro rfl (And.intro (And.intro T.1 T.2) ((ext_r _)))
  · refine gs_fi (fun c1_0 => ?_) (fun c1_0 => ?_)
    · exact gs_t (pX100_statusSeen_t (ext_r _)) (gX100_statusSeen_50 k4 _ _ _ _ ⟨T.1, T.2⟩  )
    · refine gs_fi (fun c2_0 => ?_) (fun c2_0 => ?_)
      · exact gs_t (pX100_statusSeen_t (ext_r _)) (gX100_statusSeen_50 k4 _ _ _ _ ⟨T.1, T.2⟩  )
      · refine gs_fi (fun c3_0 => ?_) (fun c3_0 => ?_)
        · exact gs_t (pX100_statusSeen_t (ext_r _)) (gX100_statusSeen_50 k4 _ _ _ _ ⟨T.1, T.2⟩  )
        · refine gs_fi (fun c4_0 => ?_) (fun c4_0 => ?_)
          · exact gs_t (pX100_statusSeen_t (ext_r _)) (gX100_statusSeen_50 k4 _ _ _ _ ⟨T.1, T.2⟩  )
          · refine gs_fi (fun c5_0 => ?_) (fun c5_0 => ?_)
            · exact gs_t (pX100_statusSeen_t (ext_r _)) (gX100_statusSeen_50 k4 _ _ _ _ ⟨T.1, T.2⟩  )
            · refine gs_fi (fun c6_0 => ?_) (fun c6_0 => ?_)
              · exact gs_t (pX100_statusSeen_t (ext_r _)) (gX100_statusSeen_50 k4 _ _ _ _ ⟨T.1, T.2⟩  )
              · refine gs_fi (fun c7_0 => ?_) (fun c7_0 => ?_)
                · exact gs_t (pX100_statusSeen_t (ext_r _)) (gX100_statusSeen_50 k4 _ _ _ _ ⟨T.1, T.2⟩  )
                · exact gs_t (pX100_statusSeen_t (ext_r _)) (gX100_statusSeen_55 k4 _ _ _ _ _ ⟨T.1, T.2⟩  )
noncomputable def GX100_statusSeen (a0 : Int32) (M : FM) : Int64 × FM := (FX100_statusSeen fN a0 M).getD (0, M)
def HX100_statusSeen (a0 : Int32) (M : FM) : Prop := ∃ r, FX100_statusSeen fN a0 M = some r ∧ OkR M r
theorem gX100_statusSeen (a0 : Int32) (M : FM) (h : HX100_statusSeen a0 M) : gd (FX100_statusSeen fN a0 M) (GX100_statusSeen a0 M) (OkR M) := gd_op h
def kX100_lineBits (k4 : Nat → Int64 → Int32 → FM → Option (Int64 × FM)) : (Nat × Int64 × Int32 × FM) ⊕ (Int64 × FM) → Option (Int64 × FM)
  | .inl (v0, v1, v2, M') => k4 v0 v1 v2 M'
  | .inr (r) => some r
def pX100_lineBits (M : FM) : (Nat × Int64 × Int32 × FM) ⊕ (Int64 × FM) → Prop
  | .inl (_, _, _, M') => OkV M M'
  | .inr (r) => OkR M r
theorem pX100_lineBits_t {M M1 : FM} (e : Ext M M1) : ∀ y, pX100_lineBits M1 y → pX100_lineBits M y
  | .inl (_, _, _, _), h => ⟨h.1, ext_tr e h.2⟩
  | .inr (r), h => ⟨h.1, ext_tr e h.2⟩
noncomputable def GX100_lineBits_28 (a0 : Nat) (a3 : Int32) (s0 : Int64) (M : FM) : (Nat × Int64 × Int32 × FM) ⊕ (Int64 × FM) :=
  let x1 : Int32 := a3 + (Int32.ofInt 1)
  (.inl (a0, s0, x1, M))
theorem gX100_lineBits_28 (k4 : Nat → Int64 → Int32 → FM → Option (Int64 × FM)) (a0 : Nat) (a3 : Int32) (s0 : Int64) (M : FM) (T : Ty M) : gs (FX100_lineBits_28 fN k4 a0 a3 s0 M) (GX100_lineBits_28 a0 a3 s0 M) (kX100_lineBits k4) (pX100_lineBits M) := by
  delta FX100_lineBits_28 BX100_lineBits_28
  exact And.intro rfl (And.intro (And.intro T.1 T.2) ((ext_r _)))
noncomputable def GX100_lineBits_0 (a0 : Nat) (M : FM) : (Nat × Int64 × Int32 × FM) ⊕ (Int64 × FM) :=
  (.inl (a0, (Int64.ofInt 0), (Int32.ofInt 3), M))
theorem gX100_lineBits_0 (k4 : Nat → Int64 → Int32 → FM → Option (Int64 × FM)) (a0 : Nat) (M : FM) (T : Ty M) : gs (FX100_lineBits_0 fN k4 a0 M) (GX100_lineBits_0 a0 M) (kX100_lineBits k4) (pX100_lineBits M) := by
  delta FX100_lineBits_0 BX100_lineBits_0
  exact And.intro rfl (And.intro (And.intro T.1 T.2) ((ext_r _)))
noncomputable def GX100_lineBits_4 (a0 : Nat) (a1 : Int64) (a3 : Int32) (M : FM) : (Nat × Int64 × Int32 × FM) ⊕ (Int64 × FM) :=
  fi ((Int32.ofInt 12) ≤ a3) (
    (.inr (a1, M))) (
    let x1 : Nat := (M.2.2 362 a0 0)
    fi ((M.1 3 x1 a3.toNatClampNeg) = 0) (
      GX100_lineBits_28 a0 a3 a1 M) (
      GX100_lineBits_28 a0 a3 (a1 ||| ((Int64.ofInt 1) <<< (a3.toInt64 &&& 63))) M))
def HX100_lineBits_4 (a0 : Nat) (a1 : Int64) (a3 : Int32) (M : FM) : Prop := (((Int32.ofInt 12) ≤ a3 → True) ∧ (¬ ((Int32.ofInt 12) ≤ a3) → let x1 : Nat := (M.2.2 362 a0 0); (fm_in M x1 a3 = true ∧ True)))
theorem gX100_lineBits_4 (k4 : Nat → Int64 → Int32 → FM → Option (Int64 × FM)) (a0 : Nat) (a1 : Int64) (a3 : Int32) (M : FM) (T : Ty M) (n_a0 : fm_is M 95 95 a0 = true) (h : HX100_lineBits_4 a0 a1 a3 M) : gs (FX100_lineBits_4 fN k4 a0 a1 a3 M) (GX100_lineBits_4 a0 a1 a3 M) (kX100_lineBits k4) (pX100_lineBits M) := by
  delta FX100_lineBits_4 BX100_lineBits_4
  refine gs_fi (fun c0_0 => ?_) (fun c0_0 => ?_)
  · exact And.intro rfl (And.intro (And.intro T.1 T.2) ((ext_r _)))
  · refine gs_c n_a0 ?_
    have f2 := (tN_362 T.1 n_a0)
    refine gs_c ⟨f2, (h.2 c0_0).1⟩ ?_
    refine gs_fi (fun c1_0 => ?_) (fun c1_0 => ?_)
    · exact gs_t (pX100_lineBits_t (ext_r _)) (gX100_lineBits_28 k4 _ _ _ _ ⟨T.1, T.2⟩  )
    · exact gs_t (pX100_lineBits_t (ext_r _)) (gX100_lineBits_28 k4 _ _ _ _ ⟨T.1, T.2⟩  )
noncomputable def GX100_lineBits (a0 : Nat) (M : FM) : Int64 × FM := (FX100_lineBits fN a0 M).getD (0, M)
def HX100_lineBits (a0 : Nat) (M : FM) : Prop := ∃ r, FX100_lineBits fN a0 M = some r ∧ OkR M r
theorem gX100_lineBits (a0 : Nat) (M : FM) (h : HX100_lineBits a0 M) : gd (FX100_lineBits fN a0 M) (GX100_lineBits a0 M) (OkR M) := gd_op h
noncomputable def GX100_shown_255 (s0 : Int64) (M : FM) : Int64 × FM :=
  (s0, M)
theorem gX100_shown_255 (s0 : Int64) (M : FM) (T : Ty M) : gd (FX100_shown_255 fN s0 M) (GX100_shown_255 s0 M) (OkR M) := by
  delta FX100_shown_255 BX100_shown_255
  exact ⟨rfl, ⟨T.1, T.2⟩, (ext_r _)⟩
noncomputable def GX100_shown_254 (M : FM) : Int64 × FM :=
  GX100_shown_255 (Int64.ofInt 0) M
theorem gX100_shown_254 (M : FM) (T : Ty M) : gd (FX100_shown_254 fN M) (GX100_shown_254 M) (OkR M) := by
  delta FX100_shown_254 BX100_shown_254
  exact gd_tR (ext_r _) (gX100_shown_255 _ _ ⟨T.1, T.2⟩  )
noncomputable def GX100_shown_15 (a0 : Nat) (a1 : Int32) (s0 : Int64) (M : FM) : Int64 × FM :=
  fi (a1 = (Int32.ofInt 256)) (
    let x1 : Nat := (M.2.2 361 a0 0)
    let r2 : Int64 × FM := GX100_statusSeen (Int32.ofInt 0) M
    (((((M.2.1 3 x1 (Int32.ofInt 768).toNatClampNeg) &&& r2.1) ||| (Int64.ofInt 8589934592)) ||| s0), r2.2)) (
    fi (a1 = (Int32.ofInt 260)) (
      let x3 : Nat := (M.2.2 361 a0 0)
      let x4 : Nat := (M.2.2 361 a0 0)
      (((M.2.1 3 x3 (Int32.ofInt 772).toNatClampNeg) &&& (M.2.1 3 x4 (Int32.ofInt 771).toNatClampNeg)), M)) (
      fi (a1 = (Int32.ofInt 324)) (
        let x5 : Nat := (M.2.2 361 a0 0)
        let r6 : Int64 × FM := GX100_lineBits a0 M
        let x7 : Nat := (r6.2.2.2 361 a0 0)
        ((((M.2.1 3 x5 (Int32.ofInt 836).toNatClampNeg) ||| r6.1) &&& (r6.2.2.1 3 x7 (Int32.ofInt 771).toNatClampNeg)), r6.2)) (
        fi (a1 = (Int32.ofInt 768)) (
          let x8 : Nat := (M.2.2 361 a0 0)
          ((((M.2.1 3 x8 (Int32.ofInt 768).toNatClampNeg) ||| (Int64.ofInt 42949672960)) ||| s0), M)) (
          fi (a1 = (Int32.ofInt 769)) (
            ((Int64.ofInt (-9223372036853460691)), M)) (
            fi (a1 = (Int32.ofInt 836)) (
              let x9 : Nat := (M.2.2 361 a0 0)
              let r10 : Int64 × FM := GX100_lineBits a0 M
              (((M.2.1 3 x9 (Int32.ofInt 836).toNatClampNeg) ||| r10.1), r10.2)) (
              fi (a1 = (Int32.ofInt 3072)) (
                let x11 : Nat := (M.2.2 361 a0 0)
                ((M.2.1 3 x11 (Int32.ofInt 2816).toNatClampNeg), M)) (
                fi (a1 = (Int32.ofInt 3073)) (
                  ((M.2.1 363 a0 0), M)) (
                  fi (a1 = (Int32.ofInt 3074)) (
                    let x12 : Nat := (M.2.2 361 a0 0)
                    ((M.2.1 3 x12 (Int32.ofInt 2818).toNatClampNeg), M)) (
                    fi (a1 = (Int32.ofInt 3860)) (
                      ((M.1 359 a0 0).toInt64, M)) (
                      let r13 : Int32 × FM := GX100_isThere a1 M
                      fi (r13.1 = 0) (
                        GX100_shown_254 r13.2) (
                        let r14 : Int32 × FM := GX100_isElsewhere a1 r13.2
                        fi (r14.1 = 0) (
                          let x15 : Nat := (r14.2.2.2 361 a0 0)
                          GX100_shown_255 (r14.2.2.1 3 x15 a1.toNatClampNeg) r14.2) (
                          GX100_shown_254 r14.2))))))))))))
def HX100_shown_15 (a0 : Nat) (a1 : Int32) (s0 : Int64) (M : FM) : Prop := ((a1 = (Int32.ofInt 256) → let x1 : Nat := (M.2.2 361 a0 0); (HX100_statusSeen (Int32.ofInt 0) M ∧ True)) ∧ (¬ (a1 = (Int32.ofInt 256)) → ((a1 = (Int32.ofInt 260) → True) ∧ (¬ (a1 = (Int32.ofInt 260)) → ((a1 = (Int32.ofInt 324) → let x5 : Nat := (M.2.2 361 a0 0); (HX100_lineBits a0 M ∧ True)) ∧ (¬ (a1 = (Int32.ofInt 324)) → ((a1 = (Int32.ofInt 768) → True) ∧ (¬ (a1 = (Int32.ofInt 768)) → ((a1 = (Int32.ofInt 769) → True) ∧ (¬ (a1 = (Int32.ofInt 769)) → ((a1 = (Int32.ofInt 836) → let x9 : Nat := (M.2.2 361 a0 0); (HX100_lineBits a0 M ∧ True)) ∧ (¬ (a1 = (Int32.ofInt 836)) → ((a1 = (Int32.ofInt 3072) → True) ∧ (¬ (a1 = (Int32.ofInt 3072)) → ((a1 = (Int32.ofInt 3073) → True) ∧ (¬ (a1 = (Int32.ofInt 3073)) → ((a1 = (Int32.ofInt 3074) → True) ∧ (¬ (a1 = (Int32.ofInt 3074)) → ((a1 = (Int32.ofInt 3860) → True) ∧ (¬ (a1 = (Int32.ofInt 3860)) → let r13 : Int32 × FM := GX100_isThere a1 M; ((r13.1 = 0 → True) ∧ (¬ (r13.1 = 0) → let r14 : Int32 × FM := GX100_isElsewhere a1 r13.2; ((r14.1 = 0 → let x15 : Nat := (r14.2.2.2 361 a0 0); (fm_in r14.2 x15 a1 = true ∧ True)) ∧ (¬ (r14.1 = 0) → True))))))))))))))))))))))))
theorem gX100_shown_15 (a0 : Nat) (a1 : Int32) (s0 : Int64) (M : FM) (T : Ty M) (n_a0 : fm_is M 95 95 a0 = true) (h : HX100_shown_15 a0 a1 s0 M) : gd (FX100_shown_15 fN a0 a1 s0 M) (GX100_shown_15 a0 a1 s0 M) (OkR M) := by
  delta FX100_shown_15 BX100_shown_15
  refine gd_fi (fun c0_0 => ?_) (fun c0_0 => ?_)
  · refine gd_c n_a0 ?_
    have f2 := (tN_361 T.1 n_a0)
    have f3 := (fm_inl (i := (Int32.ofInt 768)) (tL_361 T.1 n_a0) (by decide))
    refine gd_c ⟨f2, f3⟩ ?_
    refine gd_b (gX100_statusSeen _ _ (h.1 c0_0).1) (fun K1 => ?_)
    exact ⟨rfl, ⟨K1.1.1, K1.1.2⟩, K1.2⟩
  · refine gd_fi (fun c4_1 => ?_) (fun c4_1 => ?_)
    · refine gd_c n_a0 ?_
      have f7 := (tN_361 T.1 n_a0)
      have f8 := (fm_inl (i := (Int32.ofInt 772)) (tL_361 T.1 n_a0) (by decide))
      refine gd_c ⟨f7, f8⟩ ?_
      refine gd_c n_a0 ?_
      have f5 := (tN_361 T.1 n_a0)
      have f6 := (fm_inl (i := (Int32.ofInt 771)) (tL_361 T.1 n_a0) (by decide))
      refine gd_c ⟨f5, f6⟩ ?_
      exact ⟨rfl, ⟨T.1, T.2⟩, (ext_r _)⟩
    · refine gd_fi (fun c9_2 => ?_) (fun c9_2 => ?_)
      · refine gd_c n_a0 ?_
        have f14 := (tN_361 T.1 n_a0)
        have f15 := (fm_inl (i := (Int32.ofInt 836)) (tL_361 T.1 n_a0) (by decide))
        refine gd_c ⟨f14, f15⟩ ?_
        refine gd_c n_a0 ?_
        refine gd_b (gX100_lineBits _ _ (((h.2 c0_0).2 c4_1).1 c9_2).1) (fun K10 => ?_)
        have f11 := (ext_is K10.2 (Nat.zero_lt_succ _) n_a0)
        refine gd_c f11 ?_
        have f12 := (tN_361 K10.1.1 (ext_is K10.2 (Nat.zero_lt_succ _) n_a0))
        have f13 := (fm_inl (i := (Int32.ofInt 771)) (tL_361 K10.1.1 (ext_is K10.2 (Nat.zero_lt_succ _) n_a0)) (by decide))
        refine gd_c ⟨f12, f13⟩ ?_
        exact ⟨rfl, ⟨K10.1.1, K10.1.2⟩, K10.2⟩
      · refine gd_fi (fun c16_3 => ?_) (fun c16_3 => ?_)
        · refine gd_c n_a0 ?_
          have f17 := (tN_361 T.1 n_a0)
          have f18 := (fm_inl (i := (Int32.ofInt 768)) (tL_361 T.1 n_a0) (by decide))
          refine gd_c ⟨f17, f18⟩ ?_
          exact ⟨rfl, ⟨T.1, T.2⟩, (ext_r _)⟩
        · refine gd_fi (fun c19_4 => ?_) (fun c19_4 => ?_)
          · exact ⟨rfl, ⟨T.1, T.2⟩, (ext_r _)⟩
          · refine gd_fi (fun c20_5 => ?_) (fun c20_5 => ?_)
            · refine gd_c n_a0 ?_
              have f22 := (tN_361 T.1 n_a0)
              have f23 := (fm_inl (i := (Int32.ofInt 836)) (tL_361 T.1 n_a0) (by decide))
              refine gd_c ⟨f22, f23⟩ ?_
              refine gd_c n_a0 ?_
              refine gd_b (gX100_lineBits _ _ ((((((h.2 c0_0).2 c4_1).2 c9_2).2 c16_3).2 c19_4).1 c20_5).1) (fun K21 => ?_)
              exact ⟨rfl, ⟨K21.1.1, K21.1.2⟩, K21.2⟩
            · refine gd_fi (fun c24_6 => ?_) (fun c24_6 => ?_)
              · refine gd_c n_a0 ?_
                have f25 := (tN_361 T.1 n_a0)
                have f26 := (fm_inl (i := (Int32.ofInt 2816)) (tL_361 T.1 n_a0) (by decide))
                refine gd_c ⟨f25, f26⟩ ?_
                exact ⟨rfl, ⟨T.1, T.2⟩, (ext_r _)⟩
              · refine gd_fi (fun c27_7 => ?_) (fun c27_7 => ?_)
                · refine gd_c n_a0 ?_
                  exact ⟨rfl, ⟨T.1, T.2⟩, (ext_r _)⟩
                · refine gd_fi (fun c28_8 => ?_) (fun c28_8 => ?_)
                  · refine gd_c n_a0 ?_
                    have f29 := (tN_361 T.1 n_a0)
                    have f30 := (fm_inl (i := (Int32.ofInt 2818)) (tL_361 T.1 n_a0) (by decide))
                    refine gd_c ⟨f29, f30⟩ ?_
                    exact ⟨rfl, ⟨T.1, T.2⟩, (ext_r _)⟩
                  · refine gd_fi (fun c31_9 => ?_) (fun c31_9 => ?_)
                    · refine gd_c n_a0 ?_
                      exact ⟨rfl, ⟨T.1, T.2⟩, (ext_r _)⟩
                    · refine gd_b (gX100_isThere _ _ ⟨T.1, T.2⟩  ) (fun K32 => ?_)
                      refine gd_fi (fun c33_0 => ?_) (fun c33_0 => ?_)
                      · exact gd_tR K32.2.1 (gX100_shown_254  _ ⟨K32.1.1, K32.1.2⟩  )
                      · refine gd_b (gX100_isElsewhere _ _ ⟨K32.1.1, K32.1.2⟩  ) (fun K34 => ?_)
                        refine gd_fi (fun c35_0 => ?_) (fun c35_0 => ?_)
                        · have f36 := (ext_is K34.2.1 (Nat.zero_lt_succ _) (ext_is K32.2.1 (Nat.zero_lt_succ _) n_a0))
                          refine gd_c f36 ?_
                          have f37 := (tN_361 K34.1.1 (ext_is K34.2.1 (Nat.zero_lt_succ _) (ext_is K32.2.1 (Nat.zero_lt_succ _) n_a0)))
                          have f38 := ((((((((((((h.2 c0_0).2 c4_1).2 c9_2).2 c16_3).2 c19_4).2 c20_5).2 c24_6).2 c27_7).2 c28_8).2 c31_9).2 c33_0).1 c35_0).1
                          refine gd_c ⟨f37, f38⟩ ?_
                          exact gd_tR (ext_tr K32.2.1 K34.2.1) (gX100_shown_255 _ _ ⟨K34.1.1, K34.1.2⟩  )
                        · exact gd_tR (ext_tr K32.2.1 K34.2.1) (gX100_shown_254  _ ⟨K34.1.1, K34.1.2⟩  )
noncomputable def GX100_shown_0 (a0 : Nat) (a1 : Int32) (M : FM) : Int64 × FM :=
  let r1 : Int32 × FM := GX100_floating a0 M
  fi (r1.1 = (Int32.ofInt 3)) (
    GX100_shown_15 a0 a1 (Int64.ofInt (-9223372036854775808)) r1.2) (
    GX100_shown_15 a0 a1 (Int64.ofInt 0) r1.2)
def HX100_shown_0 (a0 : Nat) (a1 : Int32) (M : FM) : Prop := let r1 : Int32 × FM := GX100_floating a0 M; ((r1.1 = (Int32.ofInt 3) → HX100_shown_15 a0 a1 (Int64.ofInt (-9223372036854775808)) r1.2) ∧ (¬ (r1.1 = (Int32.ofInt 3)) → HX100_shown_15 a0 a1 (Int64.ofInt 0) r1.2))
theorem gX100_shown_0 (a0 : Nat) (a1 : Int32) (M : FM) (T : Ty M) (n_a0 : fm_is M 95 95 a0 = true) (h : HX100_shown_0 a0 a1 M) : gd (FX100_shown_0 fN a0 a1 M) (GX100_shown_0 a0 a1 M) (OkR M) := by
  delta FX100_shown_0 BX100_shown_0
  refine gd_c n_a0 ?_
  refine gd_b (gX100_floating _ _ ⟨T.1, T.2⟩ n_a0 ) (fun K0 => ?_)
  refine gd_fi (fun c1_0 => ?_) (fun c1_0 => ?_)
  · have f2 := (ext_is K0.2 (Nat.zero_lt_succ _) n_a0)
    exact gd_tR K0.2 (gX100_shown_15 _ _ _ _ ⟨K0.1.1, K0.1.2⟩ f2 (h.1 c1_0))
  · have f3 := (ext_is K0.2 (Nat.zero_lt_succ _) n_a0)
    exact gd_tR K0.2 (gX100_shown_15 _ _ _ _ ⟨K0.1.1, K0.1.2⟩ f3 (h.2 c1_0))
noncomputable def GX100_shown (a0 : Nat) (a1 : Int32) (M : FM) : Int64 × FM := GX100_shown_0 a0 a1 M
def HX100_shown (a0 : Nat) (a1 : Int32) (M : FM) : Prop := HX100_shown_0 a0 a1 M
theorem gX100_shown (a0 : Nat) (a1 : Int32) (M : FM) (T : Ty M) (n_a0 : fm_is M 95 95 a0 = true) (h : HX100_shown a0 a1 M) : gd (FX100_shown fN a0 a1 M) (GX100_shown a0 a1 M) (OkR M) := gX100_shown_0 a0 a1 M T n_a0 h
noncomputable def GX100_peek_25 (s0 : Int64) (M : FM) : Int64 × FM :=
  (s0, M)
theorem gX100_peek_25 (s0 : Int64) (M : FM) (T : Ty M) : gd (FX100_peek_25 fN s0 M) (GX100_peek_25 s0 M) (OkR M) := by
  delta FX100_peek_25 BX100_peek_25
  exact ⟨rfl, ⟨T.1, T.2⟩, (ext_r _)⟩
noncomputable def GX100_peek_16 (M : FM) : Int64 × FM :=
  GX100_peek_25 (Int64.ofInt 0) M
theorem gX100_peek_16 (M : FM) (T : Ty M) : gd (FX100_peek_16 fN M) (GX100_peek_16 M) (OkR M) := by
  delta FX100_peek_16 BX100_peek_16
  exact gd_tR (ext_r _) (gX100_peek_25 _ _ ⟨T.1, T.2⟩  )
noncomputable def GX100_peek_0 (a0 : Nat) (a1 : Int32) (M : FM) : Int64 × FM :=
  let M1 : FM := fm_sI M 358 a0 0 (Int32.ofInt 0)
  fi (a1 < 0) (
    GX100_peek_16 M1) (
    fi (a1 ≤ (Int32.ofInt 4095)) (
      let r2 : Int64 × FM := GX100_shown a0 a1 M1
      GX100_peek_25 r2.1 r2.2) (
      GX100_peek_16 M1))
def HX100_peek_0 (a0 : Nat) (a1 : Int32) (M : FM) : Prop := let M1 : FM := fm_sI M 358 a0 0 (Int32.ofInt 0); ((a1 < 0 → True) ∧ (¬ (a1 < 0) → ((a1 ≤ (Int32.ofInt 4095) → (HX100_shown a0 a1 M1 ∧ True)) ∧ (¬ (a1 ≤ (Int32.ofInt 4095)) → True))))
theorem gX100_peek_0 (a0 : Nat) (a1 : Int32) (M : FM) (T : Ty M) (n_a0 : fm_is M 95 95 a0 = true) (h : HX100_peek_0 a0 a1 M) : gd (FX100_peek_0 fN a0 a1 M) (GX100_peek_0 a0 a1 M) (OkR M) := by
  delta FX100_peek_0 BX100_peek_0
  refine gd_c n_a0 ?_
  refine gd_fi (fun c0_0 => ?_) (fun c0_0 => ?_)
  · exact gd_tR (ext_dI (ext_r _)) (gX100_peek_16  _ ⟨T.1, (tyb_sI (f := 358) rfl T.2)⟩  )
  · refine gd_fi (fun c1_0 => ?_) (fun c1_0 => ?_)
    · refine gd_c n_a0 ?_
      refine gd_b (gX100_shown _ _ _ ⟨T.1, (tyb_sI (f := 358) rfl T.2)⟩ n_a0 ((h.2 c0_0).1 c1_0).1) (fun K2 => ?_)
      exact gd_tR (ext_dI K2.2) (gX100_peek_25 _ _ ⟨K2.1.1, K2.1.2⟩  )
    · exact gd_tR (ext_dI (ext_r _)) (gX100_peek_16  _ ⟨T.1, (tyb_sI (f := 358) rfl T.2)⟩  )
noncomputable def GX100_peek (a0 : Nat) (a1 : Int32) (M : FM) : Int64 × FM := GX100_peek_0 a0 a1 M
def HX100_peek (a0 : Nat) (a1 : Int32) (M : FM) : Prop := HX100_peek_0 a0 a1 M
theorem gX100_peek (a0 : Nat) (a1 : Int32) (M : FM) (T : Ty M) (n_a0 : fm_is M 95 95 a0 = true) (h : HX100_peek a0 a1 M) : gd (FX100_peek fN a0 a1 M) (GX100_peek a0 a1 M) (OkR M) := gX100_peek_0 a0 a1 M T n_a0 h
noncomputable def GX101_sortOf_0 (a0 : Int64) (M : FM) : Int64 × FM :=
  ((a0.toUInt64 >>> ((Int32.ofInt 60).toInt64.toUInt64 &&& Int64.toUInt64 63)).toInt64, M)
theorem gX101_sortOf_0 (a0 : Int64) (M : FM) (T : Ty M) : gd (FX101_sortOf_0 a0 M) (GX101_sortOf_0 a0 M) (OkR M) := by
  delta FX101_sortOf_0 BX101_sortOf_0
  exact ⟨rfl, ⟨T.1, T.2⟩, (ext_r _)⟩
noncomputable def GX101_sortOf (a0 : Int64) (M : FM) : Int64 × FM := GX101_sortOf_0 a0 M
theorem gX101_sortOf (a0 : Int64) (M : FM) (T : Ty M) : gd (FX101_sortOf a0 M) (GX101_sortOf a0 M) (OkR M) := gX101_sortOf_0 a0 M T 
noncomputable def GX101_setTable_48 (M : FM) : FM :=
  M
theorem gX101_setTable_48 (M : FM) (T : Ty M) : gd (FX101_setTable_48 M) (GX101_setTable_48 M) (OkV M) := by
  delta FX101_setTable_48 BX101_setTable_48
  exact ⟨rfl, ⟨T.1, T.2⟩, (ext_r _)⟩
noncomputable def GX101_setTable_33 (a0 : Nat) (a1 : Int64) (s0 : Nat) (s1 : Int32) (M : FM) : FM :=
  let M1 : FM := fm_sI M 422 s0 0 s1
  fi ((M1.1 422 a0 0) = 0) (
    let M2 : FM := fm_sL M1 424 a0 0 a1
    GX101_setTable_48 M2) (
    GX101_setTable_48 M1)
theorem gX101_setTable_33 (a0 : Nat) (a1 : Int64) (s0 : Nat) (s1 : Int32) (M : FM) (T : Ty M) (n_s0 : fm_is M 101 101 s0 = true) (n_a0 : fm_is M 101 101 a0 = true) : gd (FX101_setTable_33 a0 a1 s0 s1 M) (GX101_setTable_33 a0 a1 s0 s1 M) (OkV M) := by
  delta FX101_setTable_33 BX101_setTable_33
  refine gd_c n_s0 ?_
  refine gd_c n_a0 ?_
  refine gd_fi (fun c0_0 => ?_) (fun c0_0 => ?_)
  · refine gd_c n_a0 ?_
    exact gd_tV (ext_dI (ext_dL (ext_r _))) (gX101_setTable_48  _ ⟨T.1, (tyb_sI (f := 422) rfl T.2)⟩  )
  · exact gd_tV (ext_dI (ext_r _)) (gX101_setTable_48  _ ⟨T.1, (tyb_sI (f := 422) rfl T.2)⟩  )
noncomputable def GX101_setTable_28 (a0 : Nat) (a1 : Int64) (s0 : Nat) (M : FM) : FM :=
  GX101_setTable_33 a0 a1 s0 (Int32.ofInt 0) M
theorem gX101_setTable_28 (a0 : Nat) (a1 : Int64) (s0 : Nat) (M : FM) (T : Ty M) (n_s0 : fm_is M 101 101 s0 = true) (n_a0 : fm_is M 101 101 a0 = true) : gd (FX101_setTable_28 a0 a1 s0 M) (GX101_setTable_28 a0 a1 s0 M) (OkV M) := by
  delta FX101_setTable_28 BX101_setTable_28
  exact gd_tV (ext_r _) (gX101_setTable_33 _ _ _ _ _ ⟨T.1, T.2⟩ n_s0 n_a0 )
noncomputable def GX101_setTable_0 (a0 : Nat) (a1 : Int64) (M : FM) : FM :=
  let r1 : Int64 × FM := GX101_sortOf a1 M
  fi ((lg_cmp r1.1 (Int64.ofInt 0)) = 0) (
    GX101_setTable_28 a0 a1 a0 r1.2) (
    fi ((lg_cmp r1.1 (Int64.ofInt 8)) = 0) (
      GX101_setTable_28 a0 a1 a0 r1.2) (
      fi ((lg_cmp r1.1 (Int64.ofInt 9)) = 0) (
        GX101_setTable_28 a0 a1 a0 r1.2) (
        GX101_setTable_33 a0 a1 a0 (Int32.ofInt 1) r1.2)))
theorem gX101_setTable_0 (a0 : Nat) (a1 : Int64) (M : FM) (T : Ty M) (n_a0 : fm_is M 101 101 a0 = true) : gd (FX101_setTable_0 a0 a1 M) (GX101_setTable_0 a0 a1 M) (OkV M) := by
  delta FX101_setTable_0 BX101_setTable_0
  refine gd_b (gX101_sortOf _ _ ⟨T.1, T.2⟩  ) (fun K0 => ?_)
  refine gd_fi (fun c1_0 => ?_) (fun c1_0 => ?_)
  · have f2 := (ext_is K0.2 (Nat.zero_lt_succ _) n_a0)
    have f3 := (ext_is K0.2 (Nat.zero_lt_succ _) n_a0)
    exact gd_tV K0.2 (gX101_setTable_28 _ _ _ _ ⟨K0.1.1, K0.1.2⟩ f2 f3 )
  · refine gd_fi (fun c4_0 => ?_) (fun c4_0 => ?_)
    · have f5 := (ext_is K0.2 (Nat.zero_lt_succ _) n_a0)
      have f6 := (ext_is K0.2 (Nat.zero_lt_succ _) n_a0)
      exact gd_tV K0.2 (gX101_setTable_28 _ _ _ _ ⟨K0.1.1, K0.1.2⟩ f5 f6 )
    · refine gd_fi (fun c7_0 => ?_) (fun c7_0 => ?_)
      · have f8 := (ext_is K0.2 (Nat.zero_lt_succ _) n_a0)
        have f9 := (ext_is K0.2 (Nat.zero_lt_succ _) n_a0)
        exact gd_tV K0.2 (gX101_setTable_28 _ _ _ _ ⟨K0.1.1, K0.1.2⟩ f8 f9 )
      · have f10 := (ext_is K0.2 (Nat.zero_lt_succ _) n_a0)
        have f11 := (ext_is K0.2 (Nat.zero_lt_succ _) n_a0)
        exact gd_tV K0.2 (gX101_setTable_33 _ _ _ _ _ ⟨K0.1.1, K0.1.2⟩ f10 f11 )
noncomputable def GX101_setTable (a0 : Nat) (a1 : Int64) (M : FM) : FM := GX101_setTable_0 a0 a1 M
theorem gX101_setTable (a0 : Nat) (a1 : Int64) (M : FM) (T : Ty M) (n_a0 : fm_is M 101 101 a0 = true) : gd (FX101_setTable a0 a1 M) (GX101_setTable a0 a1 M) (OkV M) := gX101_setTable_0 a0 a1 M T n_a0 
noncomputable def GX101_rights_0 (a0 : Nat) (a1 : Int32) (a2 : Int32) (M : FM) : FM :=
  let M1 : FM := fm_sI M 422 a0 0 (Int32.ofInt 0)
  let M2 : FM := fm_sI M1 425 a0 0 a1
  let M3 : FM := fm_sI M2 426 a0 0 a2
  M3
theorem gX101_rights_0 (a0 : Nat) (a1 : Int32) (a2 : Int32) (M : FM) (T : Ty M) (n_a0 : fm_is M 101 101 a0 = true) (z_a1 : a1 = 0 ∨ a1 = 1) (z_a2 : a2 = 0 ∨ a2 = 1) : gd (FX101_rights_0 a0 a1 a2 M) (GX101_rights_0 a0 a1 a2 M) (OkV M) := by
  delta FX101_rights_0 BX101_rights_0
  refine gd_c n_a0 ?_
  refine gd_c n_a0 ?_
  refine gd_c z_a1 ?_
  refine gd_c n_a0 ?_
  refine gd_c z_a2 ?_
  exact ⟨rfl, ⟨T.1, (tyb_sIb (f := 426) rfl (tyb_sIb (f := 425) rfl (tyb_sI (f := 422) rfl T.2) z_a1) z_a2)⟩, (ext_dI (ext_dI (ext_dI (ext_r _))))⟩
noncomputable def GX101_rights (a0 : Nat) (a1 : Int32) (a2 : Int32) (M : FM) : FM := GX101_rights_0 a0 a1 a2 M
theorem gX101_rights (a0 : Nat) (a1 : Int32) (a2 : Int32) (M : FM) (T : Ty M) (n_a0 : fm_is M 101 101 a0 = true) (z_a1 : a1 = 0 ∨ a1 = 1) (z_a2 : a2 = 0 ∨ a2 = 1) : gd (FX101_rights a0 a1 a2 M) (GX101_rights a0 a1 a2 M) (OkV M) := gX101_rights_0 a0 a1 a2 M T n_a0 z_a1 z_a2 
def kX92_tell (k9 : Nat → Int32 → Nat → Int32 → FM → Option (FM)) : (Nat × Int32 × Nat × Int32 × FM) ⊕ (FM) → Option (FM)
  | .inl (v0, v1, v2, v3, M') => k9 v0 v1 v2 v3 M'
  | .inr (r) => some r
def pX92_tell (M : FM) : (Nat × Int32 × Nat × Int32 × FM) ⊕ (FM) → Prop
  | .inl (_, _, _, _, M') => OkV M M'
  | .inr (r) => OkV M r
theorem pX92_tell_t {M M1 : FM} (e : Ext M M1) : ∀ y, pX92_tell M1 y → pX92_tell M y
  | .inl (_, _, _, _, _), h => ⟨h.1, ext_tr e h.2⟩
  | .inr (r), h => ⟨h.1, ext_tr e h.2⟩
noncomputable def GX92_tell_119 (s0 : Nat) (s1 : Int32) (s2 : Int32) (M : FM) : (Nat × Int32 × Nat × Int32 × FM) ⊕ (FM) :=
  let M1 : FM := GX101_rights s0 s1 s2 M
  (.inr M1)
theorem gX92_tell_119 (k9 : Nat → Int32 → Nat → Int32 → FM → Option (FM)) (s0 : Nat) (s1 : Int32) (s2 : Int32) (M : FM) (T : Ty M) (n_s0 : fm_is M 101 101 s0 = true) (z_s1 : s1 = 0 ∨ s1 = 1) (z_s2 : s2 = 0 ∨ s2 = 1) : gs (FX92_tell_119 fN k9 s0 s1 s2 M) (GX92_tell_119 s0 s1 s2 M) (kX92_tell k9) (pX92_tell M) := by
  delta FX92_tell_119 BX92_tell_119
  refine gs_c n_s0 ?_
  refine gs_b (gX101_rights _ _ _ _ ⟨T.1, T.2⟩ n_s0 z_s1 z_s2 ) (fun K0 => ?_)
  exact And.intro rfl (And.intro (And.intro K0.1.1 K0.1.2) K0.2)
noncomputable def GX92_tell_103 (a3 : Int64) (s0 : Nat) (s1 : Int32) (M : FM) : (Nat × Int32 × Nat × Int32 × FM) ⊕ (FM) :=
  fi ((lg_cmp ((a3 >>> ((Int32.ofInt 19).toInt64 &&& 63)) &&& (Int64.ofInt 1)) (Int64.ofInt 1)) = 0) (
    GX92_tell_119 s0 s1 (Int32.ofInt 1) M) (
    GX92_tell_119 s0 s1 (Int32.ofInt 0) M)
theorem gX92_tell_103 (k9 : Nat → Int32 → Nat → Int32 → FM → Option (FM)) (a3 : Int64) (s0 : Nat) (s1 : Int32) (M : FM) (T : Ty M) (n_s0 : fm_is M 101 101 s0 = true) (z_s1 : s1 = 0 ∨ s1 = 1) : gs (FX92_tell_103 fN k9 a3 s0 s1 M) (GX92_tell_103 a3 s0 s1 M) (kX92_tell k9) (pX92_tell M) := by
  delta FX92_tell_103 BX92_tell_103
  refine gs_fi (fun c0_0 => ?_) (fun c0_0 => ?_)
  · exact gs_t (pX92_tell_t (ext_r _)) (gX92_tell_119 k9 _ _ _ _ ⟨T.1, T.2⟩ n_s0 z_s1 fz_1 )
  · exact gs_t (pX92_tell_t (ext_r _)) (gX92_tell_119 k9 _ _ _ _ ⟨T.1, T.2⟩ n_s0 z_s1 fz_0 )
noncomputable def GX92_tell_42 (a0 : Nat) (a1 : Int32) (a2 : Nat) (s0 : Int32) (M : FM) : (Nat × Int32 × Nat × Int32 × FM) ⊕ (FM) :=
  (.inl (a0, a1, a2, s0, M))
theorem gX92_tell_42 (k9 : Nat → Int32 → Nat → Int32 → FM → Option (FM)) (a0 : Nat) (a1 : Int32) (a2 : Nat) (s0 : Int32) (M : FM) (T : Ty M) : gs (FX92_tell_42 fN k9 a0 a1 a2 s0 M) (GX92_tell_42 a0 a1 a2 s0 M) (kX92_tell k9) (pX92_tell M) := by
  delta FX92_tell_42 BX92_tell_42
  exact And.intro rfl (And.intro (And.intro T.1 T.2) ((ext_r _)))
noncomputable def GX92_tell_0 (a0 : Nat) (a1 : Int32) (M : FM) : (Nat × Int32 × Nat × Int32 × FM) ⊕ (FM) :=
  let x1 : Nat := (M.2.2 305 a0 0)
  let x2 : Nat := (M.2.2 3 x1 a1.toNatClampNeg)
  (.inl (a0, a1, x2, (Int32.ofInt 3), M))
def HX92_tell_0 (a0 : Nat) (a1 : Int32) (M : FM) : Prop := let x1 : Nat := (M.2.2 305 a0 0); (fm_in M x1 a1 = true ∧ True)
theorem gX92_tell_0 (k9 : Nat → Int32 → Nat → Int32 → FM → Option (FM)) (a0 : Nat) (a1 : Int32) (M : FM) (T : Ty M) (n_a0 : fm_is M 92 92 a0 = true) (h : HX92_tell_0 a0 a1 M) : gs (FX92_tell_0 fN k9 a0 a1 M) (GX92_tell_0 a0 a1 M) (kX92_tell k9) (pX92_tell M) := by
  delta FX92_tell_0 BX92_tell_0
  refine gs_c n_a0 ?_
  have f0 := (fm_w (lo' := 910) (hi' := 990) rfl rfl (tN_305 T.1 n_a0))
  refine gs_c ⟨f0, h.1⟩ ?_
  exact And.intro rfl (And.intro (And.intro T.1 T.2) ((ext_r _)))
noncomputable def GX92_tell_9 (a0 : Nat) (a1 : Int32) (a2 : Nat) (a3 : Int32) (M : FM) : (Nat × Int32 × Nat × Int32 × FM) ⊕ (FM) :=
  fi ((Int32.ofInt 12) ≤ a3) (
    let x1 : Nat := (M.2.2 301 a0 0)
    let M2 : FM := GX100_time a2 (M.2.1 398 x1 0) M
    let x3 : Nat := (M2.2.2 306 a0 0)
    let r4 : Int64 × FM := GX100_peek a2 (Int32.ofInt 384) M2
    let x5 : Nat := (M2.2.2 3 x3 a1.toNatClampNeg)
    let M6 : FM := GX101_setTable x5 r4.1 r4.2
    let r7 : Int64 × FM := GX100_peek a2 (Int32.ofInt 768) M6
    let x8 : Nat := (r7.2.2.2 306 a0 0)
    fi ((lg_cmp ((r7.1 >>> ((Int32.ofInt 18).toInt64 &&& 63)) &&& (Int64.ofInt 1)) (Int64.ofInt 1)) = 0) (
      GX92_tell_103 r7.1 (r7.2.2.2 3 x8 a1.toNatClampNeg) (Int32.ofInt 1) r7.2) (
      GX92_tell_103 r7.1 (r7.2.2.2 3 x8 a1.toNatClampNeg) (Int32.ofInt 0) r7.2)) (
    let x9 : Nat := (M.2.2 301 a0 0)
    let r10 : Int32 × FM := GX96_line x9 a1 a3 M
    let M11 : FM := GX100_line a2 a3 r10.1 r10.2
    fi (a3 = (Int32.ofInt 3)) (
      GX92_tell_42 a0 a1 a2 (Int32.ofInt 7) M11) (
      GX92_tell_42 a0 a1 a2 (a3 + (Int32.ofInt 2)) M11))
def HX92_tell_9 (a0 : Nat) (a1 : Int32) (a2 : Nat) (a3 : Int32) (M : FM) : Prop := (((Int32.ofInt 12) ≤ a3 → let x1 : Nat := (M.2.2 301 a0 0); let M2 : FM := GX100_time a2 (M.2.1 398 x1 0) M; let x3 : Nat := (M2.2.2 306 a0 0); (fm_in M2 x3 a1 = true ∧ (HX100_peek a2 (Int32.ofInt 384) M2 ∧ let r4 : Int64 × FM := GX100_peek a2 (Int32.ofInt 384) M2; let x5 : Nat := (M2.2.2 3 x3 a1.toNatClampNeg); (fm_is r4.2 101 101 x5 = true ∧ let M6 : FM := GX101_setTable x5 r4.1 r4.2; (HX100_peek a2 (Int32.ofInt 768) M6 ∧ let r7 : Int64 × FM := GX100_peek a2 (Int32.ofInt 768) M6; let x8 : Nat := (r7.2.2.2 306 a0 0); (fm_in r7.2 x8 a1 = true ∧ (((lg_cmp ((r7.1 >>> ((Int32.ofInt 18).toInt64 &&& 63)) &&& (Int64.ofInt 1)) (Int64.ofInt 1)) = 0 → (fm_is r7.2 101 101 (r7.2.2.2 3 x8 a1.toNatClampNeg) = true ∧ True)) ∧ (¬ ((lg_cmp ((r7.1 >>> ((Int32.ofInt 18).toInt64 &&& 63)) &&& (Int64.ofInt 1)) (Int64.ofInt 1)) = 0) → (fm_is r7.2 101 101 (r7.2.2.2 3 x8 a1.toNatClampNeg) = true ∧ True))))))))) ∧ (¬ ((Int32.ofInt 12) ≤ a3) → let x9 : Nat := (M.2.2 301 a0 0); (HX96_line x9 a1 a3 M ∧ let r10 : Int32 × FM := GX96_line x9 a1 a3 M; (HX100_line a2 a3 r10.1 r10.2 ∧ True))))
theorem gX92_tell_9 (k9 : Nat → Int32 → Nat → Int32 → FM → Option (FM)) (a0 : Nat) (a1 : Int32) (a2 : Nat) (a3 : Int32) (M : FM) (T : Ty M) (n_a0 : fm_is M 92 92 a0 = true) (n_a2 : fm_is M 95 95 a2 = true) (h : HX92_tell_9 a0 a1 a2 a3 M) : gs (FX92_tell_9 fN k9 a0 a1 a2 a3 M) (GX92_tell_9 a0 a1 a2 a3 M) (kX92_tell k9) (pX92_tell M) := by
  delta FX92_tell_9 BX92_tell_9
  refine gs_fi (fun c0_0 => ?_) (fun c0_0 => ?_)
  · refine gs_c n_a0 ?_
    have f1 := (tN_301 T.1 n_a0)
    refine gs_c f1 ?_
    refine gs_c n_a2 ?_
    refine gs_b (gX100_time _ _ _ ⟨T.1, T.2⟩ n_a2 ) (fun K2 => ?_)
    have f3 := (ext_is K2.2 (Nat.zero_lt_succ _) n_a0)
    refine gs_c f3 ?_
    have f16 := (fm_w (lo' := 910) (hi' := 990) rfl rfl (tN_306 K2.1.1 (ext_is K2.2 (Nat.zero_lt_succ _) n_a0)))
    refine gs_c ⟨f16, (h.1 c0_0).1⟩ ?_
    have f4 := (ext_is K2.2 (Nat.zero_lt_succ _) n_a2)
    refine gs_c f4 ?_
    have f15 := (ext_is K2.2 (Nat.zero_lt_succ _) n_a2)
    refine gs_b (gX100_peek _ _ _ ⟨K2.1.1, K2.1.2⟩ f15 (h.1 c0_0).2.1) (fun K5 => ?_)
    refine gs_c (h.1 c0_0).2.2.1 ?_
    refine gs_b (gX101_setTable _ _ _ ⟨K5.1.1, K5.1.2⟩ (h.1 c0_0).2.2.1 ) (fun K6 => ?_)
    have f7 := (ext_is K6.2 (Nat.zero_lt_succ _) (ext_is K5.2 (Nat.zero_lt_succ _) (ext_is K2.2 (Nat.zero_lt_succ _) n_a2)))
    refine gs_c f7 ?_
    have f14 := (ext_is K6.2 (Nat.zero_lt_succ _) (ext_is K5.2 (Nat.zero_lt_succ _) (ext_is K2.2 (Nat.zero_lt_succ _) n_a2)))
    refine gs_b (gX100_peek _ _ _ ⟨K6.1.1, K6.1.2⟩ f14 (h.1 c0_0).2.2.2.1) (fun K8 => ?_)
    have f9 := (ext_is K8.2 (Nat.zero_lt_succ _) (ext_is K6.2 (Nat.zero_lt_succ _) (ext_is K5.2 (Nat.zero_lt_succ _) (ext_is K2.2 (Nat.zero_lt_succ _) n_a0))))
    refine gs_c f9 ?_
    have f13 := (fm_w (lo' := 910) (hi' := 990) rfl rfl (tN_306 K8.1.1 (ext_is K8.2 (Nat.zero_lt_succ _) (ext_is K6.2 (Nat.zero_lt_succ _) (ext_is K5.2 (Nat.zero_lt_succ _) (ext_is K2.2 (Nat.zero_lt_succ _) n_a0))))))
    refine gs_c ⟨f13, (h.1 c0_0).2.2.2.2.1⟩ ?_
    refine gs_fi (fun c10_0 => ?_) (fun c10_0 => ?_)
    · have f11 := ((h.1 c0_0).2.2.2.2.2.1 c10_0).1
      exact gs_t (pX92_tell_t (ext_tr K2.2 (ext_tr K5.2 (ext_tr K6.2 K8.2)))) (gX92_tell_103 k9 _ _ _ _ ⟨K8.1.1, K8.1.2⟩ f11 fz_1 )
    · have f12 := ((h.1 c0_0).2.2.2.2.2.2 c10_0).1
      exact gs_t (pX92_tell_t (ext_tr K2.2 (ext_tr K5.2 (ext_tr K6.2 K8.2)))) (gX92_tell_103 k9 _ _ _ _ ⟨K8.1.1, K8.1.2⟩ f12 fz_0 )
  · refine gs_c n_a0 ?_
    have f17 := (tN_301 T.1 n_a0)
    refine gs_c f17 ?_
    have f23 := (tN_301 T.1 n_a0)
    refine gs_b (gX96_line _ _ _ _ ⟨T.1, T.2⟩ f23 (h.2 c0_0).1) (fun K18 => ?_)
    have f19 := (ext_is K18.2.1 (Nat.zero_lt_succ _) n_a2)
    refine gs_c f19 ?_
    have f22 := (ext_is K18.2.1 (Nat.zero_lt_succ _) n_a2)
    refine gs_b (gX100_line _ _ _ _ ⟨K18.1.1, K18.1.2⟩ f22 (h.2 c0_0).2.1) (fun K20 => ?_)
    refine gs_fi (fun c21_0 => ?_) (fun c21_0 => ?_)
    · exact gs_t (pX92_tell_t (ext_tr K18.2.1 K20.2)) (gX92_tell_42 k9 _ _ _ _ _ ⟨K20.1.1, K20.1.2⟩  )
    · exact gs_t (pX92_tell_t (ext_tr K18.2.1 K20.2)) (gX92_tell_42 k9 _ _ _ _ _ ⟨K20.1.1, K20.1.2⟩  )
noncomputable def GX92_tell (a0 : Nat) (a1 : Int32) (M : FM) : FM := (FX92_tell fN a0 a1 M).getD M
def HX92_tell (a0 : Nat) (a1 : Int32) (M : FM) : Prop := ∃ r, FX92_tell fN a0 a1 M = some r ∧ OkV M r
theorem gX92_tell (a0 : Nat) (a1 : Int32) (M : FM) (h : HX92_tell a0 a1 M) : gd (FX92_tell fN a0 a1 M) (GX92_tell a0 a1 M) (OkV M) := gd_op h
noncomputable def GX100_wakes_31 (s0 : Int32) (M : FM) : Int32 × FM :=
  (s0, M)
theorem gX100_wakes_31 (s0 : Int32) (M : FM) (T : Ty M) (z_s0 : s0 = 0 ∨ s0 = 1) : gd (FX100_wakes_31 fN s0 M) (GX100_wakes_31 s0 M) (OkZ M) := by
  delta FX100_wakes_31 BX100_wakes_31
  exact gd_z z_s0 ⟨T.1, T.2⟩ (ext_r _) rfl
noncomputable def GX100_wakes_0 (a0 : Nat) (M : FM) : Int32 × FM :=
  let M1 : FM := fm_sI M 358 a0 0 (Int32.ofInt 0)
  let r2 : Int64 × FM := GX100_shown a0 (Int32.ofInt 836) M1
  let x3 : Nat := (r2.2.2.2 361 a0 0)
  fi ((lg_cmp (r2.1 &&& (r2.2.2.1 3 x3 (Int32.ofInt 772).toNatClampNeg)) (Int64.ofInt 0)) = 0) (
    GX100_wakes_31 (Int32.ofInt 0) r2.2) (
    GX100_wakes_31 (Int32.ofInt 1) r2.2)
def HX100_wakes_0 (a0 : Nat) (M : FM) : Prop := let M1 : FM := fm_sI M 358 a0 0 (Int32.ofInt 0); (HX100_shown a0 (Int32.ofInt 836) M1 ∧ True)
theorem gX100_wakes_0 (a0 : Nat) (M : FM) (T : Ty M) (n_a0 : fm_is M 95 95 a0 = true) (h : HX100_wakes_0 a0 M) : gd (FX100_wakes_0 fN a0 M) (GX100_wakes_0 a0 M) (OkZ M) := by
  delta FX100_wakes_0 BX100_wakes_0
  refine gd_c n_a0 ?_
  refine gd_c n_a0 ?_
  refine gd_b (gX100_shown _ _ _ ⟨T.1, (tyb_sI (f := 358) rfl T.2)⟩ n_a0 h.1) (fun K0 => ?_)
  have f1 := (ext_is K0.2 (Nat.zero_lt_succ _) n_a0)
  refine gd_c f1 ?_
  have f3 := (tN_361 K0.1.1 (ext_is K0.2 (Nat.zero_lt_succ _) n_a0))
  have f4 := (fm_inl (i := (Int32.ofInt 772)) (tL_361 K0.1.1 (ext_is K0.2 (Nat.zero_lt_succ _) n_a0)) (by decide))
  refine gd_c ⟨f3, f4⟩ ?_
  refine gd_fi (fun c2_0 => ?_) (fun c2_0 => ?_)
  · exact gd_tZ (ext_dI K0.2) (gX100_wakes_31 _ _ ⟨K0.1.1, K0.1.2⟩ fz_0 )
  · exact gd_tZ (ext_dI K0.2) (gX100_wakes_31 _ _ ⟨K0.1.1, K0.1.2⟩ fz_1 )
noncomputable def GX100_wakes (a0 : Nat) (M : FM) : Int32 × FM := GX100_wakes_0 a0 M
def HX100_wakes (a0 : Nat) (M : FM) : Prop := HX100_wakes_0 a0 M
theorem gX100_wakes (a0 : Nat) (M : FM) (T : Ty M) (n_a0 : fm_is M 95 95 a0 = true) (h : HX100_wakes a0 M) : gd (FX100_wakes fN a0 M) (GX100_wakes a0 M) (OkZ M) := gX100_wakes_0 a0 M T n_a0 h
noncomputable def GX100_isPending_30 (s0 : Int32) (M : FM) : Int32 × FM :=
  (s0, M)
theorem gX100_isPending_30 (s0 : Int32) (M : FM) (T : Ty M) (z_s0 : s0 = 0 ∨ s0 = 1) : gd (FX100_isPending_30 fN s0 M) (GX100_isPending_30 s0 M) (OkZ M) := by
  delta FX100_isPending_30 BX100_isPending_30
  exact gd_z z_s0 ⟨T.1, T.2⟩ (ext_r _) rfl
noncomputable def GX100_isPending_0 (a0 : Nat) (a1 : Int32) (M : FM) : Int32 × FM :=
  let r1 : Int64 × FM := GX100_shown a0 (Int32.ofInt 836) M
  let x2 : Nat := (r1.2.2.2 361 a0 0)
  fi ((lg_cmp ((r1.1 &&& (r1.2.2.1 3 x2 (Int32.ofInt 772).toNatClampNeg)) &&& ((Int64.ofInt 1) <<< (a1.toInt64 &&& 63))) (Int64.ofInt 0)) = 0) (
    GX100_isPending_30 (Int32.ofInt 0) r1.2) (
    GX100_isPending_30 (Int32.ofInt 1) r1.2)
def HX100_isPending_0 (a0 : Nat) (a1 : Int32) (M : FM) : Prop := (HX100_shown a0 (Int32.ofInt 836) M ∧ True)
theorem gX100_isPending_0 (a0 : Nat) (a1 : Int32) (M : FM) (T : Ty M) (n_a0 : fm_is M 95 95 a0 = true) (h : HX100_isPending_0 a0 a1 M) : gd (FX100_isPending_0 fN a0 a1 M) (GX100_isPending_0 a0 a1 M) (OkZ M) := by
  delta FX100_isPending_0 BX100_isPending_0
  refine gd_c n_a0 ?_
  refine gd_b (gX100_shown _ _ _ ⟨T.1, T.2⟩ n_a0 h.1) (fun K0 => ?_)
  have f1 := (ext_is K0.2 (Nat.zero_lt_succ _) n_a0)
  refine gd_c f1 ?_
  have f3 := (tN_361 K0.1.1 (ext_is K0.2 (Nat.zero_lt_succ _) n_a0))
  have f4 := (fm_inl (i := (Int32.ofInt 772)) (tL_361 K0.1.1 (ext_is K0.2 (Nat.zero_lt_succ _) n_a0)) (by decide))
  refine gd_c ⟨f3, f4⟩ ?_
  refine gd_fi (fun c2_0 => ?_) (fun c2_0 => ?_)
  · exact gd_tZ K0.2 (gX100_isPending_30 _ _ ⟨K0.1.1, K0.1.2⟩ fz_0 )
  · exact gd_tZ K0.2 (gX100_isPending_30 _ _ ⟨K0.1.1, K0.1.2⟩ fz_1 )
noncomputable def GX100_isPending (a0 : Nat) (a1 : Int32) (M : FM) : Int32 × FM := GX100_isPending_0 a0 a1 M
def HX100_isPending (a0 : Nat) (a1 : Int32) (M : FM) : Prop := HX100_isPending_0 a0 a1 M
theorem gX100_isPending (a0 : Nat) (a1 : Int32) (M : FM) (T : Ty M) (n_a0 : fm_is M 95 95 a0 = true) (h : HX100_isPending a0 a1 M) : gd (FX100_isPending fN a0 a1 M) (GX100_isPending a0 a1 M) (OkZ M) := gX100_isPending_0 a0 a1 M T n_a0 h
noncomputable def GX100_mayBe_106 (s0 : Int32) (M : FM) : Int32 × FM :=
  (s0, M)
theorem gX100_mayBe_106 (s0 : Int32) (M : FM) (T : Ty M) (z_s0 : s0 = 0 ∨ s0 = 1) : gd (FX100_mayBe_106 fN s0 M) (GX100_mayBe_106 s0 M) (OkZ M) := by
  delta FX100_mayBe_106 BX100_mayBe_106
  exact gd_z z_s0 ⟨T.1, T.2⟩ (ext_r _) rfl
noncomputable def GX100_mayBe_105 (M : FM) : Int32 × FM :=
  GX100_mayBe_106 (Int32.ofInt 0) M
theorem gX100_mayBe_105 (M : FM) (T : Ty M) : gd (FX100_mayBe_105 fN M) (GX100_mayBe_105 M) (OkZ M) := by
  delta FX100_mayBe_105 BX100_mayBe_105
  exact gd_tZ (ext_r _) (gX100_mayBe_106 _ _ ⟨T.1, T.2⟩ fz_0 )
noncomputable def GX100_mayBe_81 (a0 : Nat) (a1 : Int32) (a2 : Int32) (a3 : Int32) (s0 : Int32) (M : FM) : Int32 × FM :=
  let r1 : Int32 × FM := GX100_isPending a0 a1 M
  fi (r1.1 = 0) (
    GX100_mayBe_105 r1.2) (
    fi (a3 = a2) (
      fi (s0 = 0) (
        GX100_mayBe_105 r1.2) (
        GX100_mayBe_106 (Int32.ofInt 1) r1.2)) (
      GX100_mayBe_105 r1.2))
def HX100_mayBe_81 (a0 : Nat) (a1 : Int32) (a2 : Int32) (a3 : Int32) (s0 : Int32) (M : FM) : Prop := (HX100_isPending a0 a1 M ∧ True)
theorem gX100_mayBe_81 (a0 : Nat) (a1 : Int32) (a2 : Int32) (a3 : Int32) (s0 : Int32) (M : FM) (T : Ty M) (n_a0 : fm_is M 95 95 a0 = true) (h : HX100_mayBe_81 a0 a1 a2 a3 s0 M) : gd (FX100_mayBe_81 fN a0 a1 a2 a3 s0 M) (GX100_mayBe_81 a0 a1 a2 a3 s0 M) (OkZ M) := by
  delta FX100_mayBe_81 BX100_mayBe_81
  refine gd_c n_a0 ?_
  refine gd_b (gX100_isPending _ _ _ ⟨T.1, T.2⟩ n_a0 h.1) (fun K0 => ?_)
  refine gd_fi (fun c1_0 => ?_) (fun c1_0 => ?_)
  · exact gd_tZ K0.2.1 (gX100_mayBe_105  _ ⟨K0.1.1, K0.1.2⟩  )
  · refine gd_fi (fun c2_0 => ?_) (fun c2_0 => ?_)
    · refine gd_fi (fun c3_0 => ?_) (fun c3_0 => ?_)
      · exact gd_tZ K0.2.1 (gX100_mayBe_105  _ ⟨K0.1.1, K0.1.2⟩  )
      · exact gd_tZ K0.2.1 (gX100_mayBe_106 _ _ ⟨K0.1.1, K0.1.2⟩ fz_1 )
    · exact gd_tZ K0.2.1 (gX100_mayBe_105  _ ⟨K0.1.1, K0.1.2⟩  )
noncomputable def GX100_mayBe_76 (a0 : Nat) (a1 : Int32) (a2 : Int32) (a3 : Int32) (M : FM) : Int32 × FM :=
  GX100_mayBe_81 a0 a1 a2 a3 (Int32.ofInt 1) M
def HX100_mayBe_76 (a0 : Nat) (a1 : Int32) (a2 : Int32) (a3 : Int32) (M : FM) : Prop := HX100_mayBe_81 a0 a1 a2 a3 (Int32.ofInt 1) M
theorem gX100_mayBe_76 (a0 : Nat) (a1 : Int32) (a2 : Int32) (a3 : Int32) (M : FM) (T : Ty M) (n_a0 : fm_is M 95 95 a0 = true) (h : HX100_mayBe_76 a0 a1 a2 a3 M) : gd (FX100_mayBe_76 fN a0 a1 a2 a3 M) (GX100_mayBe_76 a0 a1 a2 a3 M) (OkZ M) := by
  delta FX100_mayBe_76 BX100_mayBe_76
  exact gd_tZ (ext_r _) (gX100_mayBe_81 _ _ _ _ _ _ ⟨T.1, T.2⟩ n_a0 h)
noncomputable def GX100_mayBe_55 (a0 : Nat) (a1 : Int32) (a2 : Int32) (a3 : Int32) (M : FM) : Int32 × FM :=
  GX100_mayBe_81 a0 a1 a2 a3 (Int32.ofInt 0) M
def HX100_mayBe_55 (a0 : Nat) (a1 : Int32) (a2 : Int32) (a3 : Int32) (M : FM) : Prop := HX100_mayBe_81 a0 a1 a2 a3 (Int32.ofInt 0) M
theorem gX100_mayBe_55 (a0 : Nat) (a1 : Int32) (a2 : Int32) (a3 : Int32) (M : FM) (T : Ty M) (n_a0 : fm_is M 95 95 a0 = true) (h : HX100_mayBe_55 a0 a1 a2 a3 M) : gd (FX100_mayBe_55 fN a0 a1 a2 a3 M) (GX100_mayBe_55 a0 a1 a2 a3 M) (OkZ M) := by
  delta FX100_mayBe_55 BX100_mayBe_55
  exact gd_tZ (ext_r _) (gX100_mayBe_81 _ _ _ _ _ _ ⟨T.1, T.2⟩ n_a0 h)
noncomputable def GX100_mayBe_51 (a0 : Nat) (a1 : Int32) (a2 : Int32) (a3 : Int32) (M : FM) : Int32 × FM :=
  GX100_mayBe_81 a0 a1 a2 a3 (Int32.ofInt 1) M
def HX100_mayBe_51 (a0 : Nat) (a1 : Int32) (a2 : Int32) (a3 : Int32) (M : FM) : Prop := HX100_mayBe_81 a0 a1 a2 a3 (Int32.ofInt 1) M
theorem gX100_mayBe_51 (a0 : Nat) (a1 : Int32) (a2 : Int32) (a3 : Int32) (M : FM) (T : Ty M) (n_a0 : fm_is M 95 95 a0 = true) (h : HX100_mayBe_51 a0 a1 a2 a3 M) : gd (FX100_mayBe_51 fN a0 a1 a2 a3 M) (GX100_mayBe_51 a0 a1 a2 a3 M) (OkZ M) := by
  delta FX100_mayBe_51 BX100_mayBe_51
  exact gd_tZ (ext_r _) (gX100_mayBe_81 _ _ _ _ _ _ ⟨T.1, T.2⟩ n_a0 h)
noncomputable def GX100_mayBe_22 (a0 : Nat) (a1 : Int32) (a2 : Int32) (s0 : Int32) (M : FM) : Int32 × FM :=
  fi (a2 = 0) (
    fi ((M.1 360 a0 0) < (Int32.ofInt 3)) (
      GX100_mayBe_76 a0 a1 a2 s0 M) (
      let r1 : Int32 × FM := GX100_status a0 (Int32.ofInt 3) M
      fi (r1.1 = (Int32.ofInt 1)) (
        GX100_mayBe_76 a0 a1 a2 s0 r1.2) (
        GX100_mayBe_81 a0 a1 a2 s0 (Int32.ofInt 0) r1.2))) (
    fi ((M.1 360 a0 0) = 0) (
      GX100_mayBe_51 a0 a1 a2 s0 M) (
      fi ((M.1 360 a0 0) = (Int32.ofInt 1)) (
        let r2 : Int32 × FM := GX100_status a0 (Int32.ofInt 1) M
        fi (r2.1 = (Int32.ofInt 1)) (
          GX100_mayBe_51 a0 a1 a2 s0 r2.2) (
          GX100_mayBe_55 a0 a1 a2 s0 r2.2)) (
        GX100_mayBe_55 a0 a1 a2 s0 M)))
def HX100_mayBe_22 (a0 : Nat) (a1 : Int32) (a2 : Int32) (s0 : Int32) (M : FM) : Prop := ((a2 = 0 → (((M.1 360 a0 0) < (Int32.ofInt 3) → HX100_mayBe_76 a0 a1 a2 s0 M) ∧ (¬ ((M.1 360 a0 0) < (Int32.ofInt 3)) → let r1 : Int32 × FM := GX100_status a0 (Int32.ofInt 3) M; ((r1.1 = (Int32.ofInt 1) → HX100_mayBe_76 a0 a1 a2 s0 r1.2) ∧ (¬ (r1.1 = (Int32.ofInt 1)) → HX100_mayBe_81 a0 a1 a2 s0 (Int32.ofInt 0) r1.2))))) ∧ (¬ (a2 = 0) → (((M.1 360 a0 0) = 0 → HX100_mayBe_51 a0 a1 a2 s0 M) ∧ (¬ ((M.1 360 a0 0) = 0) → (((M.1 360 a0 0) = (Int32.ofInt 1) → let r2 : Int32 × FM := GX100_status a0 (Int32.ofInt 1) M; ((r2.1 = (Int32.ofInt 1) → HX100_mayBe_51 a0 a1 a2 s0 r2.2) ∧ (¬ (r2.1 = (Int32.ofInt 1)) → HX100_mayBe_55 a0 a1 a2 s0 r2.2))) ∧ (¬ ((M.1 360 a0 0) = (Int32.ofInt 1)) → HX100_mayBe_55 a0 a1 a2 s0 M))))))
theorem gX100_mayBe_22 (a0 : Nat) (a1 : Int32) (a2 : Int32) (s0 : Int32) (M : FM) (T : Ty M) (n_a0 : fm_is M 95 95 a0 = true) (h : HX100_mayBe_22 a0 a1 a2 s0 M) : gd (FX100_mayBe_22 fN a0 a1 a2 s0 M) (GX100_mayBe_22 a0 a1 a2 s0 M) (OkZ M) := by
  delta FX100_mayBe_22 BX100_mayBe_22
  refine gd_fi (fun c0_0 => ?_) (fun c0_0 => ?_)
  · refine gd_c n_a0 ?_
    refine gd_fi (fun c1_0 => ?_) (fun c1_0 => ?_)
    · exact gd_tZ (ext_r _) (gX100_mayBe_76 _ _ _ _ _ ⟨T.1, T.2⟩ n_a0 ((h.1 c0_0).1 c1_0))
    · refine gd_c n_a0 ?_
      refine gd_b (gX100_status _ _ _ ⟨T.1, T.2⟩ n_a0 ) (fun K2 => ?_)
      refine gd_fi (fun c3_0 => ?_) (fun c3_0 => ?_)
      · have f4 := (ext_is K2.2 (Nat.zero_lt_succ _) n_a0)
        exact gd_tZ K2.2 (gX100_mayBe_76 _ _ _ _ _ ⟨K2.1.1, K2.1.2⟩ f4 (((h.1 c0_0).2 c1_0).1 c3_0))
      · have f5 := (ext_is K2.2 (Nat.zero_lt_succ _) n_a0)
        exact gd_tZ K2.2 (gX100_mayBe_81 _ _ _ _ _ _ ⟨K2.1.1, K2.1.2⟩ f5 (((h.1 c0_0).2 c1_0).2 c3_0))
  · refine gd_c n_a0 ?_
    refine gd_fi (fun c6_0 => ?_) (fun c6_0 => ?_)
    · exact gd_tZ (ext_r _) (gX100_mayBe_51 _ _ _ _ _ ⟨T.1, T.2⟩ n_a0 ((h.2 c0_0).1 c6_0))
    · refine gd_c n_a0 ?_
      refine gd_fi (fun c7_0 => ?_) (fun c7_0 => ?_)
      · refine gd_c n_a0 ?_
        refine gd_b (gX100_status _ _ _ ⟨T.1, T.2⟩ n_a0 ) (fun K8 => ?_)
        refine gd_fi (fun c9_0 => ?_) (fun c9_0 => ?_)
        · have f10 := (ext_is K8.2 (Nat.zero_lt_succ _) n_a0)
          exact gd_tZ K8.2 (gX100_mayBe_51 _ _ _ _ _ ⟨K8.1.1, K8.1.2⟩ f10 ((((h.2 c0_0).2 c6_0).1 c7_0).1 c9_0))
        · have f11 := (ext_is K8.2 (Nat.zero_lt_succ _) n_a0)
          exact gd_tZ K8.2 (gX100_mayBe_55 _ _ _ _ _ ⟨K8.1.1, K8.1.2⟩ f11 ((((h.2 c0_0).2 c6_0).1 c7_0).2 c9_0))
      · exact gd_tZ (ext_r _) (gX100_mayBe_55 _ _ _ _ _ ⟨T.1, T.2⟩ n_a0 (((h.2 c0_0).2 c6_0).2 c7_0))
noncomputable def GX100_mayBe_0 (a0 : Nat) (a1 : Int32) (a2 : Int32) (M : FM) : Int32 × FM :=
  let x1 : Nat := (M.2.2 361 a0 0)
  fi ((lg_cmp (((M.2.1 3 x1 (Int32.ofInt 771).toNatClampNeg) >>> (a1.toInt64 &&& 63)) &&& (Int64.ofInt 1)) (Int64.ofInt 1)) = 0) (
    GX100_mayBe_22 a0 a1 a2 (Int32.ofInt 1) M) (
    GX100_mayBe_22 a0 a1 a2 (Int32.ofInt 0) M)
def HX100_mayBe_0 (a0 : Nat) (a1 : Int32) (a2 : Int32) (M : FM) : Prop := let x1 : Nat := (M.2.2 361 a0 0); (((lg_cmp (((M.2.1 3 x1 (Int32.ofInt 771).toNatClampNeg) >>> (a1.toInt64 &&& 63)) &&& (Int64.ofInt 1)) (Int64.ofInt 1)) = 0 → HX100_mayBe_22 a0 a1 a2 (Int32.ofInt 1) M) ∧ (¬ ((lg_cmp (((M.2.1 3 x1 (Int32.ofInt 771).toNatClampNeg) >>> (a1.toInt64 &&& 63)) &&& (Int64.ofInt 1)) (Int64.ofInt 1)) = 0) → HX100_mayBe_22 a0 a1 a2 (Int32.ofInt 0) M))
theorem gX100_mayBe_0 (a0 : Nat) (a1 : Int32) (a2 : Int32) (M : FM) (T : Ty M) (n_a0 : fm_is M 95 95 a0 = true) (h : HX100_mayBe_0 a0 a1 a2 M) : gd (FX100_mayBe_0 fN a0 a1 a2 M) (GX100_mayBe_0 a0 a1 a2 M) (OkZ M) := by
  delta FX100_mayBe_0 BX100_mayBe_0
  refine gd_c n_a0 ?_
  have f1 := (tN_361 T.1 n_a0)
  have f2 := (fm_inl (i := (Int32.ofInt 771)) (tL_361 T.1 n_a0) (by decide))
  refine gd_c ⟨f1, f2⟩ ?_
  refine gd_fi (fun c0_0 => ?_) (fun c0_0 => ?_)
  · exact gd_tZ (ext_r _) (gX100_mayBe_22 _ _ _ _ _ ⟨T.1, T.2⟩ n_a0 (h.1 c0_0))
  · exact gd_tZ (ext_r _) (gX100_mayBe_22 _ _ _ _ _ ⟨T.1, T.2⟩ n_a0 (h.2 c0_0))
noncomputable def GX100_mayBe (a0 : Nat) (a1 : Int32) (a2 : Int32) (M : FM) : Int32 × FM := GX100_mayBe_0 a0 a1 a2 M
def HX100_mayBe (a0 : Nat) (a1 : Int32) (a2 : Int32) (M : FM) : Prop := HX100_mayBe_0 a0 a1 a2 M
theorem gX100_mayBe (a0 : Nat) (a1 : Int32) (a2 : Int32) (M : FM) (T : Ty M) (n_a0 : fm_is M 95 95 a0 = true) (h : HX100_mayBe a0 a1 a2 M) : gd (FX100_mayBe fN a0 a1 a2 M) (GX100_mayBe a0 a1 a2 M) (OkZ M) := gX100_mayBe_0 a0 a1 a2 M T n_a0 h
def kX100_first (k2 : Nat → Int32 → Int32 → FM → Option (Int32 × FM)) : (Nat × Int32 × Int32 × FM) ⊕ (Int32 × FM) → Option (Int32 × FM)
  | .inl (v0, v1, v2, M') => k2 v0 v1 v2 M'
  | .inr (r) => some r
def pX100_first (M : FM) : (Nat × Int32 × Int32 × FM) ⊕ (Int32 × FM) → Prop
  | .inl (_, _, _, M') => OkV M M'
  | .inr (r) => OkR M r
theorem pX100_first_t {M M1 : FM} (e : Ext M M1) : ∀ y, pX100_first M1 y → pX100_first M y
  | .inl (_, _, _, _), h => ⟨h.1, ext_tr e h.2⟩
  | .inr (r), h => ⟨h.1, ext_tr e h.2⟩
noncomputable def GX100_first_56 (a0 : Nat) (a1 : Int32) (a2 : Int32) (s0 : Int32) (M : FM) : (Nat × Int32 × Int32 × FM) ⊕ (Int32 × FM) :=
  let r1 : Int32 × FM := GX100_mayBe a0 s0 a1 M
  fi (r1.1 = 0) (
    let x2 : Int32 := a2 + (Int32.ofInt 1)
    (.inl (a0, a1, x2, r1.2))) (
    (.inr (s0, r1.2)))
def HX100_first_56 (a0 : Nat) (a1 : Int32) (a2 : Int32) (s0 : Int32) (M : FM) : Prop := (HX100_mayBe a0 s0 a1 M ∧ True)
theorem gX100_first_56 (k2 : Nat → Int32 → Int32 → FM → Option (Int32 × FM)) (a0 : Nat) (a1 : Int32) (a2 : Int32) (s0 : Int32) (M : FM) (T : Ty M) (n_a0 : fm_is M 95 95 a0 = true) (h : HX100_first_56 a0 a1 a2 s0 M) : gs (FX100_first_56 fN k2 a0 a1 a2 s0 M) (GX100_first_56 a0 a1 a2 s0 M) (kX100_first k2) (pX100_first M) := by
  delta FX100_first_56 BX100_first_56
  refine gs_c n_a0 ?_
  refine gs_b (gX100_mayBe _ _ _ _ ⟨T.1, T.2⟩ n_a0 h.1) (fun K0 => ?_)
  refine gs_fi (fun c1_0 => ?_) (fun c1_0 => ?_)
  · exact And.intro rfl (And.intro (And.intro K0.1.1 K0.1.2) K0.2.1)
  · exact And.intro rfl (And.intro (And.intro K0.1.1 K0.1.2) K0.2.1)
noncomputable def GX100_first_0 (a0 : Nat) (a1 : Int32) (M : FM) : (Nat × Int32 × Int32 × FM) ⊕ (Int32 × FM) :=
  (.inl (a0, a1, (Int32.ofInt 0), M))
theorem gX100_first_0 (k2 : Nat → Int32 → Int32 → FM → Option (Int32 × FM)) (a0 : Nat) (a1 : Int32) (M : FM) (T : Ty M) : gs (FX100_first_0 fN k2 a0 a1 M) (GX100_first_0 a0 a1 M) (kX100_first k2) (pX100_first M) := by
  delta FX100_first_0 BX100_first_0
  exact And.intro rfl (And.intro (And.intro T.1 T.2) ((ext_r _)))
noncomputable def GX100_first_2 (a0 : Nat) (a1 : Int32) (a2 : Int32) (M : FM) : (Nat × Int32 × Int32 × FM) ⊕ (Int32 × FM) :=
  fi ((Int32.ofInt 6) ≤ a2) (
    (.inr ((Int32.ofInt (-1)), M))) (
    fi (a2 = 0) (
      GX100_first_56 a0 a1 a2 (Int32.ofInt 11) M) (
      fi (a2 = (Int32.ofInt 1)) (
        GX100_first_56 a0 a1 a2 (Int32.ofInt 3) M) (
        fi (a2 = (Int32.ofInt 2)) (
          GX100_first_56 a0 a1 a2 (Int32.ofInt 7) M) (
          fi (a2 = (Int32.ofInt 3)) (
            GX100_first_56 a0 a1 a2 (Int32.ofInt 9) M) (
            fi (a2 = (Int32.ofInt 4)) (
              GX100_first_56 a0 a1 a2 (Int32.ofInt 1) M) (
              GX100_first_56 a0 a1 a2 (Int32.ofInt 5) M))))))
def HX100_first_2 (a0 : Nat) (a1 : Int32) (a2 : Int32) (M : FM) : Prop := (((Int32.ofInt 6) ≤ a2 → True) ∧ (¬ ((Int32.ofInt 6) ≤ a2) → ((a2 = 0 → HX100_first_56 a0 a1 a2 (Int32.ofInt 11) M) ∧ (¬ (a2 = 0) → ((a2 = (Int32.ofInt 1) → HX100_first_56 a0 a1 a2 (Int32.ofInt 3) M) ∧ (¬ (a2 = (Int32.ofInt 1)) → ((a2 = (Int32.ofInt 2) → HX100_first_56 a0 a1 a2 (Int32.ofInt 7) M) ∧ (¬ (a2 = (Int32.ofInt 2)) → ((a2 = (Int32.ofInt 3) → HX100_first_56 a0 a1 a2 (Int32.ofInt 9) M) ∧ (¬ (a2 = (Int32.ofInt 3)) → ((a2 = (Int32.ofInt 4) → HX100_first_56 a0 a1 a2 (Int32.ofInt 1) M) ∧ (¬ (a2 = (Int32.ofInt 4)) → HX100_first_56 a0 a1 a2 (Int32.ofInt 5) M))))))))))))
theorem gX100_first_2 (k2 : Nat → Int32 → Int32 → FM → Option (Int32 × FM)) (a0 : Nat) (a1 : Int32) (a2 : Int32) (M : FM) (T : Ty M) (n_a0 : fm_is M 95 95 a0 = true) (h : HX100_first_2 a0 a1 a2 M) : gs (FX100_first_2 fN k2 a0 a1 a2 M) (GX100_first_2 a0 a1 a2 M) (kX100_first k2) (pX100_first M) := by
  delta FX100_first_2 BX100_first_2
  refine gs_fi (fun c0_0 => ?_) (fun c0_0 => ?_)
  · exact And.intro rfl (And.intro (And.intro T.1 T.2) ((ext_r _)))
  · refine gs_fi (fun c1_0 => ?_) (fun c1_0 => ?_)
    · exact gs_t (pX100_first_t (ext_r _)) (gX100_first_56 k2 _ _ _ _ _ ⟨T.1, T.2⟩ n_a0 ((h.2 c0_0).1 c1_0))
    · refine gs_fi (fun c2_0 => ?_) (fun c2_0 => ?_)
      · exact gs_t (pX100_first_t (ext_r _)) (gX100_first_56 k2 _ _ _ _ _ ⟨T.1, T.2⟩ n_a0 (((h.2 c0_0).2 c1_0).1 c2_0))
      · refine gs_fi (fun c3_0 => ?_) (fun c3_0 => ?_)
        · exact gs_t (pX100_first_t (ext_r _)) (gX100_first_56 k2 _ _ _ _ _ ⟨T.1, T.2⟩ n_a0 ((((h.2 c0_0).2 c1_0).2 c2_0).1 c3_0))
        · refine gs_fi (fun c4_0 => ?_) (fun c4_0 => ?_)
          · exact gs_t (pX100_first_t (ext_r _)) (gX100_first_56 k2 _ _ _ _ _ ⟨T.1, T.2⟩ n_a0 (((((h.2 c0_0).2 c1_0).2 c2_0).2 c3_0).1 c4_0))
          · refine gs_fi (fun c5_0 => ?_) (fun c5_0 => ?_)
            · exact gs_t (pX100_first_t (ext_r _)) (gX100_first_56 k2 _ _ _ _ _ ⟨T.1, T.2⟩ n_a0 ((((((h.2 c0_0).2 c1_0).2 c2_0).2 c3_0).2 c4_0).1 c5_0))
            · exact gs_t (pX100_first_t (ext_r _)) (gX100_first_56 k2 _ _ _ _ _ ⟨T.1, T.2⟩ n_a0 ((((((h.2 c0_0).2 c1_0).2 c2_0).2 c3_0).2 c4_0).2 c5_0))
noncomputable def GX100_first (a0 : Nat) (a1 : Int32) (M : FM) : Int32 × FM := (FX100_first fN a0 a1 M).getD (0, M)
def HX100_first (a0 : Nat) (a1 : Int32) (M : FM) : Prop := ∃ r, FX100_first fN a0 a1 M = some r ∧ OkR M r
theorem gX100_first (a0 : Nat) (a1 : Int32) (M : FM) (h : HX100_first a0 a1 M) : gd (FX100_first fN a0 a1 M) (GX100_first a0 a1 M) (OkR M) := gd_op h
noncomputable def GX100_taken_24 (s0 : Int32) (M : FM) : Int32 × FM :=
  (s0, M)
theorem gX100_taken_24 (s0 : Int32) (M : FM) (T : Ty M) : gd (FX100_taken_24 fN s0 M) (GX100_taken_24 s0 M) (OkR M) := by
  delta FX100_taken_24 BX100_taken_24
  exact ⟨rfl, ⟨T.1, T.2⟩, (ext_r _)⟩
noncomputable def GX100_taken_0 (a0 : Nat) (M : FM) : Int32 × FM :=
  let M1 : FM := fm_sI M 358 a0 0 (Int32.ofInt 0)
  let r2 : Int32 × FM := GX100_first a0 (Int32.ofInt 0) M1
  fi (r2.1 < 0) (
    let r3 : Int32 × FM := GX100_first a0 (Int32.ofInt 1) r2.2
    GX100_taken_24 r3.1 r3.2) (
    GX100_taken_24 r2.1 r2.2)
def HX100_taken_0 (a0 : Nat) (M : FM) : Prop := let M1 : FM := fm_sI M 358 a0 0 (Int32.ofInt 0); (HX100_first a0 (Int32.ofInt 0) M1 ∧ let r2 : Int32 × FM := GX100_first a0 (Int32.ofInt 0) M1; ((r2.1 < 0 → (HX100_first a0 (Int32.ofInt 1) r2.2 ∧ True)) ∧ (¬ (r2.1 < 0) → True)))
theorem gX100_taken_0 (a0 : Nat) (M : FM) (T : Ty M) (n_a0 : fm_is M 95 95 a0 = true) (h : HX100_taken_0 a0 M) : gd (FX100_taken_0 fN a0 M) (GX100_taken_0 a0 M) (OkR M) := by
  delta FX100_taken_0 BX100_taken_0
  refine gd_c n_a0 ?_
  refine gd_c n_a0 ?_
  refine gd_b (gX100_first _ _ _ h.1) (fun K0 => ?_)
  refine gd_fi (fun c1_0 => ?_) (fun c1_0 => ?_)
  · have f2 := (ext_is K0.2 (Nat.zero_lt_succ _) n_a0)
    refine gd_c f2 ?_
    refine gd_b (gX100_first _ _ _ (h.2.1 c1_0).1) (fun K3 => ?_)
    exact gd_tR (ext_dI (ext_tr K0.2 K3.2)) (gX100_taken_24 _ _ ⟨K3.1.1, K3.1.2⟩  )
  · exact gd_tR (ext_dI K0.2) (gX100_taken_24 _ _ ⟨K0.1.1, K0.1.2⟩  )
noncomputable def GX100_taken (a0 : Nat) (M : FM) : Int32 × FM := GX100_taken_0 a0 M
def HX100_taken (a0 : Nat) (M : FM) : Prop := HX100_taken_0 a0 M
theorem gX100_taken (a0 : Nat) (M : FM) (T : Ty M) (n_a0 : fm_is M 95 95 a0 = true) (h : HX100_taken a0 M) : gd (FX100_taken fN a0 M) (GX100_taken a0 M) (OkR M) := gX100_taken_0 a0 M T n_a0 h
noncomputable def GX98_counter_0 (a0 : Nat) (M : FM) : Int64 × FM :=
  let M1 : FM := fm_sI M 345 a0 0 (Int32.ofInt 0)
  ((M1.2.1 347 a0 0), M1)
theorem gX98_counter_0 (a0 : Nat) (M : FM) (T : Ty M) (n_a0 : fm_is M 94 94 a0 = true) : gd (FX98_counter_0 a0 M) (GX98_counter_0 a0 M) (OkR M) := by
  delta FX98_counter_0 BX98_counter_0
  refine gd_c n_a0 ?_
  refine gd_c n_a0 ?_
  exact ⟨rfl, ⟨T.1, (tyb_sI (f := 345) rfl T.2)⟩, (ext_dI (ext_r _))⟩
noncomputable def GX98_counter (a0 : Nat) (M : FM) : Int64 × FM := GX98_counter_0 a0 M
theorem gX98_counter (a0 : Nat) (M : FM) (T : Ty M) (n_a0 : fm_is M 94 94 a0 = true) : gd (FX98_counter a0 M) (GX98_counter a0 M) (OkR M) := gX98_counter_0 a0 M T n_a0 
noncomputable def GX100_mode_0 (a0 : Nat) (M : FM) : Int32 × FM :=
  let M1 : FM := fm_sI M 358 a0 0 (Int32.ofInt 0)
  ((M1.1 360 a0 0), M1)
theorem gX100_mode_0 (a0 : Nat) (M : FM) (T : Ty M) (n_a0 : fm_is M 95 95 a0 = true) : gd (FX100_mode_0 a0 M) (GX100_mode_0 a0 M) (OkR M) := by
  delta FX100_mode_0 BX100_mode_0
  refine gd_c n_a0 ?_
  refine gd_c n_a0 ?_
  exact ⟨rfl, ⟨T.1, (tyb_sI (f := 358) rfl T.2)⟩, (ext_dI (ext_r _))⟩
noncomputable def GX100_mode (a0 : Nat) (M : FM) : Int32 × FM := GX100_mode_0 a0 M
theorem gX100_mode (a0 : Nat) (M : FM) (T : Ty M) (n_a0 : fm_is M 95 95 a0 = true) : gd (FX100_mode a0 M) (GX100_mode a0 M) (OkR M) := gX100_mode_0 a0 M T n_a0 
noncomputable def GX101_isAccess_59 (s0 : Int32) (M : FM) : Int32 × FM :=
  (s0, M)
theorem gX101_isAccess_59 (s0 : Int32) (M : FM) (T : Ty M) (z_s0 : s0 = 0 ∨ s0 = 1) : gd (FX101_isAccess_59 s0 M) (GX101_isAccess_59 s0 M) (OkZ M) := by
  delta FX101_isAccess_59 BX101_isAccess_59
  exact gd_z z_s0 ⟨T.1, T.2⟩ (ext_r _) rfl
noncomputable def GX101_isAccess_58 (M : FM) : Int32 × FM :=
  GX101_isAccess_59 (Int32.ofInt 0) M
theorem gX101_isAccess_58 (M : FM) (T : Ty M) : gd (FX101_isAccess_58 M) (GX101_isAccess_58 M) (OkZ M) := by
  delta FX101_isAccess_58 BX101_isAccess_58
  exact gd_tZ (ext_r _) (gX101_isAccess_59 _ _ ⟨T.1, T.2⟩ fz_0 )
noncomputable def GX101_isAccess_50 (a3 : Int32) (M : FM) : Int32 × FM :=
  fi (a3 = 0) (
    GX101_isAccess_58 M) (
    GX101_isAccess_59 (Int32.ofInt 1) M)
theorem gX101_isAccess_50 (a3 : Int32) (M : FM) (T : Ty M) : gd (FX101_isAccess_50 a3 M) (GX101_isAccess_50 a3 M) (OkZ M) := by
  delta FX101_isAccess_50 BX101_isAccess_50
  refine gd_fi (fun c0_0 => ?_) (fun c0_0 => ?_)
  · exact gd_tZ (ext_r _) (gX101_isAccess_58  _ ⟨T.1, T.2⟩  )
  · exact gd_tZ (ext_r _) (gX101_isAccess_59 _ _ ⟨T.1, T.2⟩ fz_1 )
noncomputable def GX101_isAccess_26 (a0 : Int32) (a1 : Int32) (s0 : Int32) (M : FM) : Int32 × FM :=
  fi (a0 < 0) (
    GX101_isAccess_58 M) (
    fi ((Int32.ofInt 3) ≤ a0) (
      GX101_isAccess_58 M) (
      fi (a1 = 0) (
        GX101_isAccess_50 s0 M) (
        fi (a1 = (Int32.ofInt 1)) (
          GX101_isAccess_50 s0 M) (
          fi (a1 = (Int32.ofInt 3)) (
            GX101_isAccess_50 s0 M) (
            GX101_isAccess_58 M)))))
theorem gX101_isAccess_26 (a0 : Int32) (a1 : Int32) (s0 : Int32) (M : FM) (T : Ty M) : gd (FX101_isAccess_26 a0 a1 s0 M) (GX101_isAccess_26 a0 a1 s0 M) (OkZ M) := by
  delta FX101_isAccess_26 BX101_isAccess_26
  refine gd_fi (fun c0_0 => ?_) (fun c0_0 => ?_)
  · exact gd_tZ (ext_r _) (gX101_isAccess_58  _ ⟨T.1, T.2⟩  )
  · refine gd_fi (fun c1_0 => ?_) (fun c1_0 => ?_)
    · exact gd_tZ (ext_r _) (gX101_isAccess_58  _ ⟨T.1, T.2⟩  )
    · refine gd_fi (fun c2_0 => ?_) (fun c2_0 => ?_)
      · exact gd_tZ (ext_r _) (gX101_isAccess_50 _ _ ⟨T.1, T.2⟩  )
      · refine gd_fi (fun c3_0 => ?_) (fun c3_0 => ?_)
        · exact gd_tZ (ext_r _) (gX101_isAccess_50 _ _ ⟨T.1, T.2⟩  )
        · refine gd_fi (fun c4_0 => ?_) (fun c4_0 => ?_)
          · exact gd_tZ (ext_r _) (gX101_isAccess_50 _ _ ⟨T.1, T.2⟩  )
          · exact gd_tZ (ext_r _) (gX101_isAccess_58  _ ⟨T.1, T.2⟩  )
noncomputable def GX101_isAccess_21 (a0 : Int32) (a1 : Int32) (M : FM) : Int32 × FM :=
  GX101_isAccess_26 a0 a1 (Int32.ofInt 1) M
theorem gX101_isAccess_21 (a0 : Int32) (a1 : Int32) (M : FM) (T : Ty M) : gd (FX101_isAccess_21 a0 a1 M) (GX101_isAccess_21 a0 a1 M) (OkZ M) := by
  delta FX101_isAccess_21 BX101_isAccess_21
  exact gd_tZ (ext_r _) (gX101_isAccess_26 _ _ _ _ ⟨T.1, T.2⟩  )
noncomputable def GX101_isAccess_0 (a0 : Int32) (a1 : Int32) (a2 : Int32) (M : FM) : Int32 × FM :=
  fi (a2 = (Int32.ofInt 1)) (
    GX101_isAccess_21 a0 a1 M) (
    fi (a2 = (Int32.ofInt 2)) (
      GX101_isAccess_21 a0 a1 M) (
      fi (a2 = (Int32.ofInt 4)) (
        GX101_isAccess_21 a0 a1 M) (
        fi (a2 = (Int32.ofInt 8)) (
          GX101_isAccess_21 a0 a1 M) (
          GX101_isAccess_26 a0 a1 (Int32.ofInt 0) M))))
theorem gX101_isAccess_0 (a0 : Int32) (a1 : Int32) (a2 : Int32) (M : FM) (T : Ty M) : gd (FX101_isAccess_0 a0 a1 a2 M) (GX101_isAccess_0 a0 a1 a2 M) (OkZ M) := by
  delta FX101_isAccess_0 BX101_isAccess_0
  refine gd_fi (fun c0_0 => ?_) (fun c0_0 => ?_)
  · exact gd_tZ (ext_r _) (gX101_isAccess_21 _ _ _ ⟨T.1, T.2⟩  )
  · refine gd_fi (fun c1_0 => ?_) (fun c1_0 => ?_)
    · exact gd_tZ (ext_r _) (gX101_isAccess_21 _ _ _ ⟨T.1, T.2⟩  )
    · refine gd_fi (fun c2_0 => ?_) (fun c2_0 => ?_)
      · exact gd_tZ (ext_r _) (gX101_isAccess_21 _ _ _ ⟨T.1, T.2⟩  )
      · refine gd_fi (fun c3_0 => ?_) (fun c3_0 => ?_)
        · exact gd_tZ (ext_r _) (gX101_isAccess_21 _ _ _ ⟨T.1, T.2⟩  )
        · exact gd_tZ (ext_r _) (gX101_isAccess_26 _ _ _ _ ⟨T.1, T.2⟩  )
noncomputable def GX101_isAccess (a0 : Int32) (a1 : Int32) (a2 : Int32) (M : FM) : Int32 × FM := GX101_isAccess_0 a0 a1 a2 M
theorem gX101_isAccess (a0 : Int32) (a1 : Int32) (a2 : Int32) (M : FM) (T : Ty M) : gd (FX101_isAccess a0 a1 a2 M) (GX101_isAccess a0 a1 a2 M) (OkZ M) := gX101_isAccess_0 a0 a1 a2 M T 
noncomputable def GX101_isWithin_20 (s0 : Int32) (M : FM) : Int32 × FM :=
  (s0, M)
theorem gX101_isWithin_20 (s0 : Int32) (M : FM) (T : Ty M) (z_s0 : s0 = 0 ∨ s0 = 1) : gd (FX101_isWithin_20 s0 M) (GX101_isWithin_20 s0 M) (OkZ M) := by
  delta FX101_isWithin_20 BX101_isWithin_20
  exact gd_z z_s0 ⟨T.1, T.2⟩ (ext_r _) rfl
noncomputable def GX101_isWithin_0 (a0 : Int64) (a2 : Int32) (M : FM) : Int32 × FM :=
  fi (0 < (lg_cmp ((a0 &&& (Int64.ofInt 4095)) + a2.toInt64) (Int64.ofInt 4096))) (
    GX101_isWithin_20 (Int32.ofInt 0) M) (
    GX101_isWithin_20 (Int32.ofInt 1) M)
theorem gX101_isWithin_0 (a0 : Int64) (a2 : Int32) (M : FM) (T : Ty M) : gd (FX101_isWithin_0 a0 a2 M) (GX101_isWithin_0 a0 a2 M) (OkZ M) := by
  delta FX101_isWithin_0 BX101_isWithin_0
  refine gd_fi (fun c0_0 => ?_) (fun c0_0 => ?_)
  · exact gd_tZ (ext_r _) (gX101_isWithin_20 _ _ ⟨T.1, T.2⟩ fz_0 )
  · exact gd_tZ (ext_r _) (gX101_isWithin_20 _ _ ⟨T.1, T.2⟩ fz_1 )
noncomputable def GX101_isWithin (a0 : Int64) (a2 : Int32) (M : FM) : Int32 × FM := GX101_isWithin_0 a0 a2 M
theorem gX101_isWithin (a0 : Int64) (a2 : Int32) (M : FM) (T : Ty M) : gd (FX101_isWithin a0 a2 M) (GX101_isWithin a0 a2 M) (OkZ M) := gX101_isWithin_0 a0 a2 M T 
noncomputable def GX101_pageFault_24 (s0 : Int64) (M : FM) : Int64 × FM :=
  (s0, M)
theorem gX101_pageFault_24 (s0 : Int64) (M : FM) (T : Ty M) : gd (FX101_pageFault_24 s0 M) (GX101_pageFault_24 s0 M) (OkR M) := by
  delta FX101_pageFault_24 BX101_pageFault_24
  exact ⟨rfl, ⟨T.1, T.2⟩, (ext_r _)⟩
noncomputable def GX101_pageFault_0 (a0 : Int32) (M : FM) : Int64 × FM :=
  fi (a0 = 0) (
    GX101_pageFault_24 (Int64.ofInt (-12)) M) (
    fi (a0 = (Int32.ofInt 1)) (
      GX101_pageFault_24 (Int64.ofInt (-13)) M) (
      GX101_pageFault_24 (Int64.ofInt (-15)) M))
theorem gX101_pageFault_0 (a0 : Int32) (M : FM) (T : Ty M) : gd (FX101_pageFault_0 a0 M) (GX101_pageFault_0 a0 M) (OkR M) := by
  delta FX101_pageFault_0 BX101_pageFault_0
  refine gd_fi (fun c0_0 => ?_) (fun c0_0 => ?_)
  · exact gd_tR (ext_r _) (gX101_pageFault_24 _ _ ⟨T.1, T.2⟩  )
  · refine gd_fi (fun c1_0 => ?_) (fun c1_0 => ?_)
    · exact gd_tR (ext_r _) (gX101_pageFault_24 _ _ ⟨T.1, T.2⟩  )
    · exact gd_tR (ext_r _) (gX101_pageFault_24 _ _ ⟨T.1, T.2⟩  )
noncomputable def GX101_pageFault (a0 : Int32) (M : FM) : Int64 × FM := GX101_pageFault_0 a0 M
theorem gX101_pageFault (a0 : Int32) (M : FM) (T : Ty M) : gd (FX101_pageFault a0 M) (GX101_pageFault a0 M) (OkR M) := gX101_pageFault_0 a0 M T 
noncomputable def GX93_isByte_21 (s0 : Int32) (M : FM) : Int32 × FM :=
  (s0, M)
theorem gX93_isByte_21 (s0 : Int32) (M : FM) (T : Ty M) (z_s0 : s0 = 0 ∨ s0 = 1) : gd (FX93_isByte_21 s0 M) (GX93_isByte_21 s0 M) (OkZ M) := by
  delta FX93_isByte_21 BX93_isByte_21
  exact gd_z z_s0 ⟨T.1, T.2⟩ (ext_r _) rfl
noncomputable def GX93_isByte_20 (M : FM) : Int32 × FM :=
  GX93_isByte_21 (Int32.ofInt 0) M
theorem gX93_isByte_20 (M : FM) (T : Ty M) : gd (FX93_isByte_20 M) (GX93_isByte_20 M) (OkZ M) := by
  delta FX93_isByte_20 BX93_isByte_20
  exact gd_tZ (ext_r _) (gX93_isByte_21 _ _ ⟨T.1, T.2⟩ fz_0 )
noncomputable def GX93_isByte_0 (a0 : Int64) (M : FM) : Int32 × FM :=
  fi ((lg_cmp a0 (Int64.ofInt 2147483648)) < 0) (
    GX93_isByte_20 M) (
    fi (0 ≤ (lg_cmp a0 (Int64.ofInt 2151677952))) (
      GX93_isByte_20 M) (
      GX93_isByte_21 (Int32.ofInt 1) M))
theorem gX93_isByte_0 (a0 : Int64) (M : FM) (T : Ty M) : gd (FX93_isByte_0 a0 M) (GX93_isByte_0 a0 M) (OkZ M) := by
  delta FX93_isByte_0 BX93_isByte_0
  refine gd_fi (fun c0_0 => ?_) (fun c0_0 => ?_)
  · exact gd_tZ (ext_r _) (gX93_isByte_20  _ ⟨T.1, T.2⟩  )
  · refine gd_fi (fun c1_0 => ?_) (fun c1_0 => ?_)
    · exact gd_tZ (ext_r _) (gX93_isByte_20  _ ⟨T.1, T.2⟩  )
    · exact gd_tZ (ext_r _) (gX93_isByte_21 _ _ ⟨T.1, T.2⟩ fz_1 )
noncomputable def GX93_isByte (a0 : Int64) (M : FM) : Int32 × FM := GX93_isByte_0 a0 M
theorem gX93_isByte (a0 : Int64) (M : FM) (T : Ty M) : gd (FX93_isByte a0 M) (GX93_isByte a0 M) (OkZ M) := gX93_isByte_0 a0 M T 
noncomputable def GX93_areBytes_22 (s0 : Int32) (M : FM) : Int32 × FM :=
  (s0, M)
theorem gX93_areBytes_22 (s0 : Int32) (M : FM) (T : Ty M) (z_s0 : s0 = 0 ∨ s0 = 1) : gd (FX93_areBytes_22 s0 M) (GX93_areBytes_22 s0 M) (OkZ M) := by
  delta FX93_areBytes_22 BX93_areBytes_22
  exact gd_z z_s0 ⟨T.1, T.2⟩ (ext_r _) rfl
noncomputable def GX93_areBytes_21 (M : FM) : Int32 × FM :=
  GX93_areBytes_22 (Int32.ofInt 0) M
theorem gX93_areBytes_21 (M : FM) (T : Ty M) : gd (FX93_areBytes_21 M) (GX93_areBytes_21 M) (OkZ M) := by
  delta FX93_areBytes_21 BX93_areBytes_21
  exact gd_tZ (ext_r _) (gX93_areBytes_22 _ _ ⟨T.1, T.2⟩ fz_0 )
noncomputable def GX93_areBytes_0 (a0 : Int64) (a2 : Int64) (M : FM) : Int32 × FM :=
  let r1 : Int32 × FM := GX93_isByte a0 M
  fi (r1.1 = 0) (
    GX93_areBytes_21 r1.2) (
    fi (0 < (lg_cmp a2 ((Int64.ofInt 2151677952) - a0))) (
      GX93_areBytes_21 r1.2) (
      GX93_areBytes_22 (Int32.ofInt 1) r1.2))
theorem gX93_areBytes_0 (a0 : Int64) (a2 : Int64) (M : FM) (T : Ty M) : gd (FX93_areBytes_0 a0 a2 M) (GX93_areBytes_0 a0 a2 M) (OkZ M) := by
  delta FX93_areBytes_0 BX93_areBytes_0
  refine gd_b (gX93_isByte _ _ ⟨T.1, T.2⟩  ) (fun K0 => ?_)
  refine gd_fi (fun c1_0 => ?_) (fun c1_0 => ?_)
  · exact gd_tZ K0.2.1 (gX93_areBytes_21  _ ⟨K0.1.1, K0.1.2⟩  )
  · refine gd_fi (fun c2_0 => ?_) (fun c2_0 => ?_)
    · exact gd_tZ K0.2.1 (gX93_areBytes_21  _ ⟨K0.1.1, K0.1.2⟩  )
    · exact gd_tZ K0.2.1 (gX93_areBytes_22 _ _ ⟨K0.1.1, K0.1.2⟩ fz_1 )
noncomputable def GX93_areBytes (a0 : Int64) (a2 : Int64) (M : FM) : Int32 × FM := GX93_areBytes_0 a0 a2 M
theorem gX93_areBytes (a0 : Int64) (a2 : Int64) (M : FM) (T : Ty M) : gd (FX93_areBytes a0 a2 M) (GX93_areBytes a0 a2 M) (OkZ M) := gX93_areBytes_0 a0 a2 M T 
noncomputable def GX101_accessFault_24 (s0 : Int64) (M : FM) : Int64 × FM :=
  (s0, M)
theorem gX101_accessFault_24 (s0 : Int64) (M : FM) (T : Ty M) : gd (FX101_accessFault_24 s0 M) (GX101_accessFault_24 s0 M) (OkR M) := by
  delta FX101_accessFault_24 BX101_accessFault_24
  exact ⟨rfl, ⟨T.1, T.2⟩, (ext_r _)⟩
noncomputable def GX101_accessFault_0 (a0 : Int32) (M : FM) : Int64 × FM :=
  fi (a0 = 0) (
    GX101_accessFault_24 (Int64.ofInt (-1)) M) (
    fi (a0 = (Int32.ofInt 1)) (
      GX101_accessFault_24 (Int64.ofInt (-5)) M) (
      GX101_accessFault_24 (Int64.ofInt (-7)) M))
theorem gX101_accessFault_0 (a0 : Int32) (M : FM) (T : Ty M) : gd (FX101_accessFault_0 a0 M) (GX101_accessFault_0 a0 M) (OkR M) := by
  delta FX101_accessFault_0 BX101_accessFault_0
  refine gd_fi (fun c0_0 => ?_) (fun c0_0 => ?_)
  · exact gd_tR (ext_r _) (gX101_accessFault_24 _ _ ⟨T.1, T.2⟩  )
  · refine gd_fi (fun c1_0 => ?_) (fun c1_0 => ?_)
    · exact gd_tR (ext_r _) (gX101_accessFault_24 _ _ ⟨T.1, T.2⟩  )
    · exact gd_tR (ext_r _) (gX101_accessFault_24 _ _ ⟨T.1, T.2⟩  )
noncomputable def GX101_accessFault (a0 : Int32) (M : FM) : Int64 × FM := GX101_accessFault_0 a0 M
theorem gX101_accessFault (a0 : Int32) (M : FM) (T : Ty M) : gd (FX101_accessFault a0 M) (GX101_accessFault a0 M) (OkR M) := gX101_accessFault_0 a0 M T 
noncomputable def GX101_kind_0 (a0 : Nat) (a1 : Int32) (M : FM) : Int32 × FM :=
  let x1 : Nat := (M.2.2 427 a0 0)
  ((((M.1 3 x1 a1.toNatClampNeg) >>> ((Int32.ofInt 3) &&& 31)) &&& (Int32.ofInt 3)), M)
def HX101_kind_0 (a0 : Nat) (a1 : Int32) (M : FM) : Prop := let x1 : Nat := (M.2.2 427 a0 0); (fm_in M x1 a1 = true ∧ True)
theorem gX101_kind_0 (a0 : Nat) (a1 : Int32) (M : FM) (T : Ty M) (n_a0 : fm_is M 101 101 a0 = true) (h : HX101_kind_0 a0 a1 M) : gd (FX101_kind_0 a0 a1 M) (GX101_kind_0 a0 a1 M) (OkR M) := by
  delta FX101_kind_0 BX101_kind_0
  refine gd_c n_a0 ?_
  have f0 := (tN_427 T.1 n_a0)
  refine gd_c ⟨f0, h.1⟩ ?_
  exact ⟨rfl, ⟨T.1, T.2⟩, (ext_r _)⟩
noncomputable def GX101_kind (a0 : Nat) (a1 : Int32) (M : FM) : Int32 × FM := GX101_kind_0 a0 a1 M
def HX101_kind (a0 : Nat) (a1 : Int32) (M : FM) : Prop := HX101_kind_0 a0 a1 M
theorem gX101_kind (a0 : Nat) (a1 : Int32) (M : FM) (T : Ty M) (n_a0 : fm_is M 101 101 a0 = true) (h : HX101_kind a0 a1 M) : gd (FX101_kind a0 a1 M) (GX101_kind a0 a1 M) (OkR M) := gX101_kind_0 a0 a1 M T n_a0 h
def kX101_cover (k91 : Nat → Int64 → Int64 → Int64 → FM → Option (FM)) : (Nat × Int64 × Int64 × Int64 × FM) ⊕ (FM) → Option (FM)
  | .inl (v0, v1, v2, v3, M') => k91 v0 v1 v2 v3 M'
  | .inr (r) => some r
def pX101_cover (M : FM) : (Nat × Int64 × Int64 × Int64 × FM) ⊕ (FM) → Prop
  | .inl (_, _, _, _, M') => OkV M M'
  | .inr (r) => OkV M r
theorem pX101_cover_t {M M1 : FM} (e : Ext M M1) : ∀ y, pX101_cover M1 y → pX101_cover M y
  | .inl (_, _, _, _, _), h => ⟨h.1, ext_tr e h.2⟩
  | .inr (r), h => ⟨h.1, ext_tr e h.2⟩
noncomputable def GX101_cover_154 (M : FM) : (Nat × Int64 × Int64 × Int64 × FM) ⊕ (FM) :=
  (.inr M)
theorem gX101_cover_154 (k91 : Nat → Int64 → Int64 → Int64 → FM → Option (FM)) (M : FM) (T : Ty M) : gs (FX101_cover_154 fN k91 M) (GX101_cover_154 M) (kX101_cover k91) (pX101_cover M) := by
  delta FX101_cover_154 BX101_cover_154
  exact And.intro rfl (And.intro (And.intro T.1 T.2) ((ext_r _)))
noncomputable def GX101_cover_134 (a0 : Nat) (a3 : Int64) (a5 : Int64) (M : FM) : (Nat × Int64 × Int64 × Int64 × FM) ⊕ (FM) :=
  let M1 : FM := fm_sL M 429 a0 0 ((Int64.ofInt 4) * a5)
  let M2 : FM := fm_sL M1 430 a0 0 ((M1.2.1 429 a0 0) + a3)
  GX101_cover_154 M2
theorem gX101_cover_134 (k91 : Nat → Int64 → Int64 → Int64 → FM → Option (FM)) (a0 : Nat) (a3 : Int64) (a5 : Int64) (M : FM) (T : Ty M) (n_a0 : fm_is M 101 101 a0 = true) : gs (FX101_cover_134 fN k91 a0 a3 a5 M) (GX101_cover_134 a0 a3 a5 M) (kX101_cover k91) (pX101_cover M) := by
  delta FX101_cover_134 BX101_cover_134
  refine gs_c n_a0 ?_
  refine gs_c n_a0 ?_
  refine gs_c n_a0 ?_
  exact gs_t (pX101_cover_t (ext_dL (ext_dL (ext_r _)))) (gX101_cover_154 k91  _ ⟨T.1, T.2⟩  )
noncomputable def GX101_cover_42 (a0 : Nat) (a1 : Int32) (s0 : Nat) (s1 : Int64) (M : FM) : (Nat × Int64 × Int64 × Int64 × FM) ⊕ (FM) :=
  let M1 : FM := fm_sL M 429 s0 0 s1
  let x2 : Nat := (M1.2.2 428 a0 0)
  let M3 : FM := fm_sL M1 430 a0 0 ((Int64.ofInt 4) * (M1.2.1 3 x2 a1.toNatClampNeg))
  GX101_cover_154 M3
def HX101_cover_42 (a0 : Nat) (a1 : Int32) (s0 : Nat) (s1 : Int64) (M : FM) : Prop := let M1 : FM := fm_sL M 429 s0 0 s1; let x2 : Nat := (M1.2.2 428 a0 0); (fm_in M1 x2 a1 = true ∧ True)
theorem gX101_cover_42 (k91 : Nat → Int64 → Int64 → Int64 → FM → Option (FM)) (a0 : Nat) (a1 : Int32) (s0 : Nat) (s1 : Int64) (M : FM) (T : Ty M) (n_s0 : fm_is M 101 101 s0 = true) (n_a0 : fm_is M 101 101 a0 = true) (h : HX101_cover_42 a0 a1 s0 s1 M) : gs (FX101_cover_42 fN k91 a0 a1 s0 s1 M) (GX101_cover_42 a0 a1 s0 s1 M) (kX101_cover k91) (pX101_cover M) := by
  delta FX101_cover_42 BX101_cover_42
  refine gs_c n_s0 ?_
  refine gs_c n_a0 ?_
  have f0 := (tN_428 T.1 n_a0)
  refine gs_c ⟨f0, h.1⟩ ?_
  refine gs_c n_a0 ?_
  exact gs_t (pX101_cover_t (ext_dL (ext_dL (ext_r _)))) (gX101_cover_154 k91  _ ⟨T.1, T.2⟩  )
noncomputable def GX101_cover_0 (a0 : Nat) (a1 : Int32) (M : FM) : (Nat × Int64 × Int64 × Int64 × FM) ⊕ (FM) :=
  let r1 : Int32 × FM := GX101_kind a0 a1 M
  let M2 : FM := fm_sL r1.2 429 a0 0 (Int64.ofInt 0)
  let M3 : FM := fm_sL M2 430 a0 0 (Int64.ofInt 0)
  fi (r1.1 = (Int32.ofInt 1)) (
    fi (a1 = 0) (
      GX101_cover_42 a0 a1 a0 (Int64.ofInt 0) M3) (
      let x4 : Int32 := (a1 - (Int32.ofInt 1))
      let x5 : Nat := (M3.2.2 428 a0 0)
      GX101_cover_42 a0 a1 a0 ((Int64.ofInt 4) * (M3.2.1 3 x5 x4.toNatClampNeg)) M3)) (
    fi (r1.1 ≤ (Int32.ofInt 1)) (
      GX101_cover_154 M3) (
      let x6 : Nat := (M3.2.2 428 a0 0)
      let x7 : Int64 := (M3.2.1 3 x6 a1.toNatClampNeg)
      fi (r1.1 = (Int32.ofInt 3)) (
        (.inl (a0, (Int64.ofInt 8), x7, (Int64.ofInt 1), M3))) (
        GX101_cover_134 a0 (Int64.ofInt 4) x7 M3)))
def HX101_cover_0 (a0 : Nat) (a1 : Int32) (M : FM) : Prop := (HX101_kind a0 a1 M ∧ let r1 : Int32 × FM := GX101_kind a0 a1 M; let M2 : FM := fm_sL r1.2 429 a0 0 (Int64.ofInt 0); let M3 : FM := fm_sL M2 430 a0 0 (Int64.ofInt 0); ((r1.1 = (Int32.ofInt 1) → ((a1 = 0 → HX101_cover_42 a0 a1 a0 (Int64.ofInt 0) M3) ∧ (¬ (a1 = 0) → let x4 : Int32 := (a1 - (Int32.ofInt 1)); let x5 : Nat := (M3.2.2 428 a0 0); (fm_in M3 x5 x4 = true ∧ HX101_cover_42 a0 a1 a0 ((Int64.ofInt 4) * (M3.2.1 3 x5 x4.toNatClampNeg)) M3)))) ∧ (¬ (r1.1 = (Int32.ofInt 1)) → ((r1.1 ≤ (Int32.ofInt 1) → True) ∧ (¬ (r1.1 ≤ (Int32.ofInt 1)) → let x6 : Nat := (M3.2.2 428 a0 0); (fm_in M3 x6 a1 = true ∧ True))))))
theorem gX101_cover_0 (k91 : Nat → Int64 → Int64 → Int64 → FM → Option (FM)) (a0 : Nat) (a1 : Int32) (M : FM) (T : Ty M) (n_a0 : fm_is M 101 101 a0 = true) (h : HX101_cover_0 a0 a1 M) : gs (FX101_cover_0 fN k91 a0 a1 M) (GX101_cover_0 a0 a1 M) (kX101_cover k91) (pX101_cover M) := by
  delta FX101_cover_0 BX101_cover_0
  refine gs_c n_a0 ?_
  refine gs_b (gX101_kind _ _ _ ⟨T.1, T.2⟩ n_a0 h.1) (fun K0 => ?_)
  have f1 := (ext_is K0.2 (Nat.zero_lt_succ _) n_a0)
  refine gs_c f1 ?_
  have f2 := (ext_is K0.2 (Nat.zero_lt_succ _) n_a0)
  refine gs_c f2 ?_
  refine gs_fi (fun c3_0 => ?_) (fun c3_0 => ?_)
  · refine gs_fi (fun c4_0 => ?_) (fun c4_0 => ?_)
    · have f5 := (ext_is K0.2 (Nat.zero_lt_succ _) n_a0)
      have f6 := (ext_is K0.2 (Nat.zero_lt_succ _) n_a0)
      exact gs_t (pX101_cover_t (ext_tr K0.2 (ext_dL (ext_dL (ext_r _))))) (gX101_cover_42 k91 _ _ _ _ _ ⟨K0.1.1, K0.1.2⟩ f5 f6 ((h.2.1 c3_0).1 c4_0))
    · have f7 := (ext_is K0.2 (Nat.zero_lt_succ _) n_a0)
      refine gs_c f7 ?_
      have f10 := (tN_428 K0.1.1 (ext_is K0.2 (Nat.zero_lt_succ _) n_a0))
      have f11 := ((h.2.1 c3_0).2 c4_0).1
      refine gs_c ⟨f10, f11⟩ ?_
      have f8 := (ext_is K0.2 (Nat.zero_lt_succ _) n_a0)
      have f9 := (ext_is K0.2 (Nat.zero_lt_succ _) n_a0)
      exact gs_t (pX101_cover_t (ext_tr K0.2 (ext_dL (ext_dL (ext_r _))))) (gX101_cover_42 k91 _ _ _ _ _ ⟨K0.1.1, K0.1.2⟩ f8 f9 ((h.2.1 c3_0).2 c4_0).2)
  · refine gs_fi (fun c12_0 => ?_) (fun c12_0 => ?_)
    · exact gs_t (pX101_cover_t (ext_tr K0.2 (ext_dL (ext_dL (ext_r _))))) (gX101_cover_154 k91  _ ⟨K0.1.1, K0.1.2⟩  )
    · have f13 := (ext_is K0.2 (Nat.zero_lt_succ _) n_a0)
      refine gs_c f13 ?_
      have f16 := (tN_428 K0.1.1 (ext_is K0.2 (Nat.zero_lt_succ _) n_a0))
      have f17 := ((h.2.2 c3_0).2 c12_0).1
      refine gs_c ⟨f16, f17⟩ ?_
      refine gs_fi (fun c14_0 => ?_) (fun c14_0 => ?_)
      · exact And.intro rfl (And.intro (And.intro K0.1.1 K0.1.2) ((ext_tr K0.2 (ext_dL (ext_dL (ext_r _))))))
      · have f15 := (ext_is K0.2 (Nat.zero_lt_succ _) n_a0)
        exact gs_t (pX101_cover_t (ext_tr K0.2 (ext_dL (ext_dL (ext_r _))))) (gX101_cover_134 k91 _ _ _ _ ⟨K0.1.1, K0.1.2⟩ f15 )
noncomputable def GX101_cover_91 (a0 : Nat) (a3 : Int64) (a5 : Int64) (a7 : Int64) (M : FM) : (Nat × Int64 × Int64 × Int64 × FM) ⊕ (FM) :=
  fi (0 ≤ (lg_cmp a7 (Int64.ofInt 18014398509481984))) (
    GX101_cover_134 a0 a3 a5 M) (
    fi ((lg_cmp (a5 &&& a7) (Int64.ofInt 0)) = 0) (
      GX101_cover_134 a0 a3 a5 M) (
      let x1 : Int64 := (a5 - a7)
      let x2 : Int64 := ((Int64.ofInt 2) * a7)
      let x3 : Int64 := ((Int64.ofInt 2) * a3)
      (.inl (a0, x3, x1, x2, M))))
theorem gX101_cover_91 (k91 : Nat → Int64 → Int64 → Int64 → FM → Option (FM)) (a0 : Nat) (a3 : Int64) (a5 : Int64) (a7 : Int64) (M : FM) (T : Ty M) (n_a0 : fm_is M 101 101 a0 = true) : gs (FX101_cover_91 fN k91 a0 a3 a5 a7 M) (GX101_cover_91 a0 a3 a5 a7 M) (kX101_cover k91) (pX101_cover M) := by
  delta FX101_cover_91 BX101_cover_91
  refine gs_fi (fun c0_0 => ?_) (fun c0_0 => ?_)
  · exact gs_t (pX101_cover_t (ext_r _)) (gX101_cover_134 k91 _ _ _ _ ⟨T.1, T.2⟩ n_a0 )
  · refine gs_fi (fun c1_0 => ?_) (fun c1_0 => ?_)
    · exact gs_t (pX101_cover_t (ext_r _)) (gX101_cover_134 k91 _ _ _ _ ⟨T.1, T.2⟩ n_a0 )
    · exact And.intro rfl (And.intro (And.intro T.1 T.2) ((ext_r _)))
noncomputable def GX101_cover (a0 : Nat) (a1 : Int32) (M : FM) : FM := (FX101_cover fN a0 a1 M).getD M
def HX101_cover (a0 : Nat) (a1 : Int32) (M : FM) : Prop := ∃ r, FX101_cover fN a0 a1 M = some r ∧ OkV M r
theorem gX101_cover (a0 : Nat) (a1 : Int32) (M : FM) (h : HX101_cover a0 a1 M) : gd (FX101_cover fN a0 a1 M) (GX101_cover a0 a1 M) (OkV M) := gd_op h
noncomputable def GX101_has_19 (s0 : Int32) (M : FM) : Int32 × FM :=
  (s0, M)
theorem gX101_has_19 (s0 : Int32) (M : FM) (T : Ty M) (z_s0 : s0 = 0 ∨ s0 = 1) : gd (FX101_has_19 s0 M) (GX101_has_19 s0 M) (OkZ M) := by
  delta FX101_has_19 BX101_has_19
  exact gd_z z_s0 ⟨T.1, T.2⟩ (ext_r _) rfl
noncomputable def GX101_has_0 (a0 : Nat) (a1 : Int32) (a2 : Int32) (M : FM) : Int32 × FM :=
  let x1 : Nat := (M.2.2 427 a0 0)
  fi ((((M.1 3 x1 a1.toNatClampNeg) >>> (a2 &&& 31)) &&& (Int32.ofInt 1)) = (Int32.ofInt 1)) (
    GX101_has_19 (Int32.ofInt 1) M) (
    GX101_has_19 (Int32.ofInt 0) M)
def HX101_has_0 (a0 : Nat) (a1 : Int32) (a2 : Int32) (M : FM) : Prop := let x1 : Nat := (M.2.2 427 a0 0); (fm_in M x1 a1 = true ∧ True)
theorem gX101_has_0 (a0 : Nat) (a1 : Int32) (a2 : Int32) (M : FM) (T : Ty M) (n_a0 : fm_is M 101 101 a0 = true) (h : HX101_has_0 a0 a1 a2 M) : gd (FX101_has_0 a0 a1 a2 M) (GX101_has_0 a0 a1 a2 M) (OkZ M) := by
  delta FX101_has_0 BX101_has_0
  refine gd_c n_a0 ?_
  have f1 := (tN_427 T.1 n_a0)
  refine gd_c ⟨f1, h.1⟩ ?_
  refine gd_fi (fun c0_0 => ?_) (fun c0_0 => ?_)
  · exact gd_tZ (ext_r _) (gX101_has_19 _ _ ⟨T.1, T.2⟩ fz_1 )
  · exact gd_tZ (ext_r _) (gX101_has_19 _ _ ⟨T.1, T.2⟩ fz_0 )
noncomputable def GX101_has (a0 : Nat) (a1 : Int32) (a2 : Int32) (M : FM) : Int32 × FM := GX101_has_0 a0 a1 a2 M
def HX101_has (a0 : Nat) (a1 : Int32) (a2 : Int32) (M : FM) : Prop := HX101_has_0 a0 a1 a2 M
theorem gX101_has (a0 : Nat) (a1 : Int32) (a2 : Int32) (M : FM) (T : Ty M) (n_a0 : fm_is M 101 101 a0 = true) (h : HX101_has a0 a1 a2 M) : gd (FX101_has a0 a1 a2 M) (GX101_has a0 a1 a2 M) (OkZ M) := gX101_has_0 a0 a1 a2 M T n_a0 h
def kX101_isLet (k3 : Nat → Int64 → Int32 → Int32 → Int32 → Int32 → FM → Option (Int32 × FM)) (k22 : Nat → Int64 → Int32 → Int32 → Int32 → Int32 → Int32 → Int32 → FM → Option (Int32 × FM)) : (Nat × Int64 × Int32 × Int32 × Int32 × Int32 × FM) ⊕ (Nat × Int64 × Int32 × Int32 × Int32 × Int32 × Int32 × Int32 × FM) ⊕ (Int32 × FM) → Option (Int32 × FM)
  | .inl (v0, v1, v2, v3, v4, v5, M') => k3 v0 v1 v2 v3 v4 v5 M'
  | .inr (.inl (v0, v1, v2, v3, v4, v5, v6, v7, M')) => k22 v0 v1 v2 v3 v4 v5 v6 v7 M'
  | .inr (.inr (r)) => some r
def pX101_isLet (M : FM) : (Nat × Int64 × Int32 × Int32 × Int32 × Int32 × FM) ⊕ (Nat × Int64 × Int32 × Int32 × Int32 × Int32 × Int32 × Int32 × FM) ⊕ (Int32 × FM) → Prop
  | .inl (_, _, _, _, _, _, M') => OkV M M'
  | .inr (.inl (_, _, _, _, _, _, _, _, M')) => OkV M M'
  | .inr (.inr (r)) => OkZ M r
theorem pX101_isLet_t {M M1 : FM} (e : Ext M M1) : ∀ y, pX101_isLet M1 y → pX101_isLet M y
  | .inl (_, _, _, _, _, _, _), h => ⟨h.1, ext_tr e h.2⟩
  | .inr (.inl (_, _, _, _, _, _, _, _, _)), h => ⟨h.1, ext_tr e h.2⟩
  | .inr (.inr (r)), h => ⟨h.1, ext_tr e h.2.1, h.2.2⟩
noncomputable def GX101_isLet_155 (s0 : Int32) (M : FM) : (Nat × Int64 × Int32 × Int32 × Int32 × Int32 × FM) ⊕ (Nat × Int64 × Int32 × Int32 × Int32 × Int32 × Int32 × Int32 × FM) ⊕ (Int32 × FM) :=
  (.inr (.inr (s0, M)))
theorem gX101_isLet_155 (k3 : Nat → Int64 → Int32 → Int32 → Int32 → Int32 → FM → Option (Int32 × FM)) (k22 : Nat → Int64 → Int32 → Int32 → Int32 → Int32 → Int32 → Int32 → FM → Option (Int32 × FM)) (s0 : Int32) (M : FM) (T : Ty M) (z_s0 : s0 = 0 ∨ s0 = 1) : gs (FX101_isLet_155 fN k3 k22 s0 M) (GX101_isLet_155 s0 M) (kX101_isLet k3 k22) (pX101_isLet M) := by
  delta FX101_isLet_155 BX101_isLet_155
  exact gs_z z_s0 ⟨T.1, T.2⟩ (ext_r _) rfl (fun h => h)
noncomputable def GX101_isLet_137 (s0 : Int32) (M : FM) : (Nat × Int64 × Int32 × Int32 × Int32 × Int32 × FM) ⊕ (Nat × Int64 × Int32 × Int32 × Int32 × Int32 × Int32 × Int32 × FM) ⊕ (Int32 × FM) :=
  (.inr (.inr (s0, M)))
theorem gX101_isLet_137 (k3 : Nat → Int64 → Int32 → Int32 → Int32 → Int32 → FM → Option (Int32 × FM)) (k22 : Nat → Int64 → Int32 → Int32 → Int32 → Int32 → Int32 → Int32 → FM → Option (Int32 × FM)) (s0 : Int32) (M : FM) (T : Ty M) (z_s0 : s0 = 0 ∨ s0 = 1) : gs (FX101_isLet_137 fN k3 k22 s0 M) (GX101_isLet_137 s0 M) (kX101_isLet k3 k22) (pX101_isLet M) := by
  delta FX101_isLet_137 BX101_isLet_137
  exact gs_z z_s0 ⟨T.1, T.2⟩ (ext_r _) rfl (fun h => h)
noncomputable def GX101_isLet_136 (M : FM) : (Nat × Int64 × Int32 × Int32 × Int32 × Int32 × FM) ⊕ (Nat × Int64 × Int32 × Int32 × Int32 × Int32 × Int32 × Int32 × FM) ⊕ (Int32 × FM) :=
  GX101_isLet_137 (Int32.ofInt 0) M
theorem gX101_isLet_136 (k3 : Nat → Int64 → Int32 → Int32 → Int32 → Int32 → FM → Option (Int32 × FM)) (k22 : Nat → Int64 → Int32 → Int32 → Int32 → Int32 → Int32 → Int32 → FM → Option (Int32 × FM)) (M : FM) (T : Ty M) : gs (FX101_isLet_136 fN k3 k22 M) (GX101_isLet_136 M) (kX101_isLet k3 k22) (pX101_isLet M) := by
  delta FX101_isLet_136 BX101_isLet_136
  exact gs_t (pX101_isLet_t (ext_r _)) (gX101_isLet_137 k3 k22 _ _ ⟨T.1, T.2⟩ fz_0 )
noncomputable def GX101_isLet_132 (M : FM) : (Nat × Int64 × Int32 × Int32 × Int32 × Int32 × FM) ⊕ (Nat × Int64 × Int32 × Int32 × Int32 × Int32 × Int32 × Int32 × FM) ⊕ (Int32 × FM) :=
  GX101_isLet_137 (Int32.ofInt 1) M
theorem gX101_isLet_132 (k3 : Nat → Int64 → Int32 → Int32 → Int32 → Int32 → FM → Option (Int32 × FM)) (k22 : Nat → Int64 → Int32 → Int32 → Int32 → Int32 → Int32 → Int32 → FM → Option (Int32 × FM)) (M : FM) (T : Ty M) : gs (FX101_isLet_132 fN k3 k22 M) (GX101_isLet_132 M) (kX101_isLet k3 k22) (pX101_isLet M) := by
  delta FX101_isLet_132 BX101_isLet_132
  exact gs_t (pX101_isLet_t (ext_r _)) (gX101_isLet_137 k3 k22 _ _ ⟨T.1, T.2⟩ fz_1 )
noncomputable def GX101_isLet_121 (a0 : Nat) (a6 : Int32) (a8 : Int32) (M : FM) : (Nat × Int64 × Int32 × Int32 × Int32 × Int32 × FM) ⊕ (Nat × Int64 × Int32 × Int32 × Int32 × Int32 × Int32 × Int32 × FM) ⊕ (Int32 × FM) :=
  let r1 : Int32 × FM := GX101_has a0 a6 a8 M
  fi (r1.1 = 0) (
    GX101_isLet_136 r1.2) (
    GX101_isLet_132 r1.2)
def HX101_isLet_121 (a0 : Nat) (a6 : Int32) (a8 : Int32) (M : FM) : Prop := (HX101_has a0 a6 a8 M ∧ True)
theorem gX101_isLet_121 (k3 : Nat → Int64 → Int32 → Int32 → Int32 → Int32 → FM → Option (Int32 × FM)) (k22 : Nat → Int64 → Int32 → Int32 → Int32 → Int32 → Int32 → Int32 → FM → Option (Int32 × FM)) (a0 : Nat) (a6 : Int32) (a8 : Int32) (M : FM) (T : Ty M) (n_a0 : fm_is M 101 101 a0 = true) (h : HX101_isLet_121 a0 a6 a8 M) : gs (FX101_isLet_121 fN k3 k22 a0 a6 a8 M) (GX101_isLet_121 a0 a6 a8 M) (kX101_isLet k3 k22) (pX101_isLet M) := by
  delta FX101_isLet_121 BX101_isLet_121
  refine gs_c n_a0 ?_
  refine gs_b (gX101_has _ _ _ _ ⟨T.1, T.2⟩ n_a0 h.1) (fun K0 => ?_)
  refine gs_fi (fun c1_0 => ?_) (fun c1_0 => ?_)
  · exact gs_t (pX101_isLet_t K0.2.1) (gX101_isLet_136 k3 k22  _ ⟨K0.1.1, K0.1.2⟩  )
  · exact gs_t (pX101_isLet_t K0.2.1) (gX101_isLet_132 k3 k22  _ ⟨K0.1.1, K0.1.2⟩  )
noncomputable def GX101_isLet_95 (a0 : Nat) (a4 : Int32) (a5 : Int32) (a6 : Int32) (a7 : Int32) (s0 : Int32) (M : FM) : (Nat × Int64 × Int32 × Int32 × Int32 × Int32 × FM) ⊕ (Nat × Int64 × Int32 × Int32 × Int32 × Int32 × Int32 × Int32 × FM) ⊕ (Int32 × FM) :=
  fi (a7 = a5) (
    fi (a4 = (Int32.ofInt 3)) (
      let r1 : Int32 × FM := GX101_has a0 a6 (Int32.ofInt 7) M
      fi (r1.1 = 0) (
        GX101_isLet_132 r1.2) (
        GX101_isLet_121 a0 a6 s0 r1.2)) (
      GX101_isLet_121 a0 a6 s0 M)) (
    GX101_isLet_136 M)
def HX101_isLet_95 (a0 : Nat) (a4 : Int32) (a5 : Int32) (a6 : Int32) (a7 : Int32) (s0 : Int32) (M : FM) : Prop := ((a7 = a5 → ((a4 = (Int32.ofInt 3) → (HX101_has a0 a6 (Int32.ofInt 7) M ∧ let r1 : Int32 × FM := GX101_has a0 a6 (Int32.ofInt 7) M; ((r1.1 = 0 → True) ∧ (¬ (r1.1 = 0) → HX101_isLet_121 a0 a6 s0 r1.2)))) ∧ (¬ (a4 = (Int32.ofInt 3)) → HX101_isLet_121 a0 a6 s0 M))) ∧ (¬ (a7 = a5) → True))
theorem gX101_isLet_95 (k3 : Nat → Int64 → Int32 → Int32 → Int32 → Int32 → FM → Option (Int32 × FM)) (k22 : Nat → Int64 → Int32 → Int32 → Int32 → Int32 → Int32 → Int32 → FM → Option (Int32 × FM)) (a0 : Nat) (a4 : Int32) (a5 : Int32) (a6 : Int32) (a7 : Int32) (s0 : Int32) (M : FM) (T : Ty M) (n_a0 : fm_is M 101 101 a0 = true) (h : HX101_isLet_95 a0 a4 a5 a6 a7 s0 M) : gs (FX101_isLet_95 fN k3 k22 a0 a4 a5 a6 a7 s0 M) (GX101_isLet_95 a0 a4 a5 a6 a7 s0 M) (kX101_isLet k3 k22) (pX101_isLet M) := by
  delta FX101_isLet_95 BX101_isLet_95
  refine gs_fi (fun c0_0 => ?_) (fun c0_0 => ?_)
  · refine gs_fi (fun c1_0 => ?_) (fun c1_0 => ?_)
    · refine gs_c n_a0 ?_
      refine gs_b (gX101_has _ _ _ _ ⟨T.1, T.2⟩ n_a0 ((h.1 c0_0).1 c1_0).1) (fun K2 => ?_)
      refine gs_fi (fun c3_0 => ?_) (fun c3_0 => ?_)
      · exact gs_t (pX101_isLet_t K2.2.1) (gX101_isLet_132 k3 k22  _ ⟨K2.1.1, K2.1.2⟩  )
      · have f4 := (ext_is K2.2.1 (Nat.zero_lt_succ _) n_a0)
        exact gs_t (pX101_isLet_t K2.2.1) (gX101_isLet_121 k3 k22 _ _ _ _ ⟨K2.1.1, K2.1.2⟩ f4 (((h.1 c0_0).1 c1_0).2.2 c3_0))
    · exact gs_t (pX101_isLet_t (ext_r _)) (gX101_isLet_121 k3 k22 _ _ _ _ ⟨T.1, T.2⟩ n_a0 ((h.1 c0_0).2 c1_0))
  · exact gs_t (pX101_isLet_t (ext_r _)) (gX101_isLet_136 k3 k22  _ ⟨T.1, T.2⟩  )
noncomputable def GX101_isLet_64 (a0 : Nat) (a1 : Int64) (a3 : Int32) (a4 : Int32) (a5 : Int32) (a6 : Int32) (a8 : Int32) (s0 : Int32) (M : FM) : (Nat × Int64 × Int32 × Int32 × Int32 × Int32 × FM) ⊕ (Nat × Int64 × Int32 × Int32 × Int32 × Int32 × Int32 × Int32 × FM) ⊕ (Int32 × FM) :=
  let x1 : Int32 := a8 + (Int32.ofInt 1)
  (.inr (.inl (a0, a1, a3, a4, a5, a6, s0, x1, M)))
theorem gX101_isLet_64 (k3 : Nat → Int64 → Int32 → Int32 → Int32 → Int32 → FM → Option (Int32 × FM)) (k22 : Nat → Int64 → Int32 → Int32 → Int32 → Int32 → Int32 → Int32 → FM → Option (Int32 × FM)) (a0 : Nat) (a1 : Int64) (a3 : Int32) (a4 : Int32) (a5 : Int32) (a6 : Int32) (a8 : Int32) (s0 : Int32) (M : FM) (T : Ty M) : gs (FX101_isLet_64 fN k3 k22 a0 a1 a3 a4 a5 a6 a8 s0 M) (GX101_isLet_64 a0 a1 a3 a4 a5 a6 a8 s0 M) (kX101_isLet k3 k22) (pX101_isLet M) := by
  delta FX101_isLet_64 BX101_isLet_64
  exact And.intro rfl (And.intro (And.intro T.1 T.2) ((ext_r _)))
noncomputable def GX101_isLet_62 (a0 : Nat) (a1 : Int64) (a3 : Int32) (a4 : Int32) (a5 : Int32) (a6 : Int32) (a7 : Int32) (a8 : Int32) (M : FM) : (Nat × Int64 × Int32 × Int32 × Int32 × Int32 × FM) ⊕ (Nat × Int64 × Int32 × Int32 × Int32 × Int32 × Int32 × Int32 × FM) ⊕ (Int32 × FM) :=
  GX101_isLet_64 a0 a1 a3 a4 a5 a6 a8 a7 M
theorem gX101_isLet_62 (k3 : Nat → Int64 → Int32 → Int32 → Int32 → Int32 → FM → Option (Int32 × FM)) (k22 : Nat → Int64 → Int32 → Int32 → Int32 → Int32 → Int32 → Int32 → FM → Option (Int32 × FM)) (a0 : Nat) (a1 : Int64) (a3 : Int32) (a4 : Int32) (a5 : Int32) (a6 : Int32) (a7 : Int32) (a8 : Int32) (M : FM) (T : Ty M) : gs (FX101_isLet_62 fN k3 k22 a0 a1 a3 a4 a5 a6 a7 a8 M) (GX101_isLet_62 a0 a1 a3 a4 a5 a6 a7 a8 M) (kX101_isLet k3 k22) (pX101_isLet M) := by
  delta FX101_isLet_62 BX101_isLet_62
  exact gs_t (pX101_isLet_t (ext_r _)) (gX101_isLet_64 k3 k22 _ _ _ _ _ _ _ _ _ ⟨T.1, T.2⟩  )
noncomputable def GX101_isLet_0 (a0 : Nat) (a1 : Int64) (a3 : Int32) (a4 : Int32) (a5 : Int32) (M : FM) : (Nat × Int64 × Int32 × Int32 × Int32 × Int32 × FM) ⊕ (Nat × Int64 × Int32 × Int32 × Int32 × Int32 × Int32 × Int32 × FM) ⊕ (Int32 × FM) :=
  (.inl (a0, a1, a3, a4, a5, (Int32.ofInt 0), M))
theorem gX101_isLet_0 (k3 : Nat → Int64 → Int32 → Int32 → Int32 → Int32 → FM → Option (Int32 × FM)) (k22 : Nat → Int64 → Int32 → Int32 → Int32 → Int32 → Int32 → Int32 → FM → Option (Int32 × FM)) (a0 : Nat) (a1 : Int64) (a3 : Int32) (a4 : Int32) (a5 : Int32) (M : FM) (T : Ty M) : gs (FX101_isLet_0 fN k3 k22 a0 a1 a3 a4 a5 M) (GX101_isLet_0 a0 a1 a3 a4 a5 M) (kX101_isLet k3 k22) (pX101_isLet M) := by
  delta FX101_isLet_0 BX101_isLet_0
  exact And.intro rfl (And.intro (And.intro T.1 T.2) ((ext_r _)))
noncomputable def GX101_isLet_22 (a0 : Nat) (a1 : Int64) (a3 : Int32) (a4 : Int32) (a5 : Int32) (a6 : Int32) (a7 : Int32) (a8 : Int32) (M : FM) : (Nat × Int64 × Int32 × Int32 × Int32 × Int32 × FM) ⊕ (Nat × Int64 × Int32 × Int32 × Int32 × Int32 × Int32 × Int32 × FM) ⊕ (Int32 × FM) :=
  fi (a5 ≤ a8) (
    fi (a7 ≤ 0) (
      let x1 : Int32 := a6 + (Int32.ofInt 1)
      (.inl (a0, a1, a3, a4, a5, x1, M))) (
      fi (a3 = 0) (
        GX101_isLet_95 a0 a4 a5 a6 a7 (Int32.ofInt 2) M) (
        fi (a3 = (Int32.ofInt 1)) (
          GX101_isLet_95 a0 a4 a5 a6 a7 (Int32.ofInt 0) M) (
          GX101_isLet_95 a0 a4 a5 a6 a7 (Int32.ofInt 1) M)))) (
    fi ((lg_cmp (a1 + a8.toInt64) (M.2.1 429 a0 0)) < 0) (
      GX101_isLet_62 a0 a1 a3 a4 a5 a6 a7 a8 M) (
      fi (0 ≤ (lg_cmp (a1 + a8.toInt64) (M.2.1 430 a0 0))) (
        GX101_isLet_62 a0 a1 a3 a4 a5 a6 a7 a8 M) (
        GX101_isLet_64 a0 a1 a3 a4 a5 a6 a8 (a7 + (Int32.ofInt 1)) M)))
def HX101_isLet_22 (a0 : Nat) (a1 : Int64) (a3 : Int32) (a4 : Int32) (a5 : Int32) (a6 : Int32) (a7 : Int32) (a8 : Int32) (M : FM) : Prop := ((a5 ≤ a8 → ((a7 ≤ 0 → True) ∧ (¬ (a7 ≤ 0) → ((a3 = 0 → HX101_isLet_95 a0 a4 a5 a6 a7 (Int32.ofInt 2) M) ∧ (¬ (a3 = 0) → ((a3 = (Int32.ofInt 1) → HX101_isLet_95 a0 a4 a5 a6 a7 (Int32.ofInt 0) M) ∧ (¬ (a3 = (Int32.ofInt 1)) → HX101_isLet_95 a0 a4 a5 a6 a7 (Int32.ofInt 1) M))))))) ∧ (¬ (a5 ≤ a8) → True))
theorem gX101_isLet_22 (k3 : Nat → Int64 → Int32 → Int32 → Int32 → Int32 → FM → Option (Int32 × FM)) (k22 : Nat → Int64 → Int32 → Int32 → Int32 → Int32 → Int32 → Int32 → FM → Option (Int32 × FM)) (a0 : Nat) (a1 : Int64) (a3 : Int32) (a4 : Int32) (a5 : Int32) (a6 : Int32) (a7 : Int32) (a8 : Int32) (M : FM) (T : Ty M) (n_a0 : fm_is M 101 101 a0 = true) (h : HX101_isLet_22 a0 a1 a3 a4 a5 a6 a7 a8 M) : gs (FX101_isLet_22 fN k3 k22 a0 a1 a3 a4 a5 a6 a7 a8 M) (GX101_isLet_22 a0 a1 a3 a4 a5 a6 a7 a8 M) (kX101_isLet k3 k22) (pX101_isLet M) := by
  delta FX101_isLet_22 BX101_isLet_22
  refine gs_fi (fun c0_0 => ?_) (fun c0_0 => ?_)
  · refine gs_fi (fun c1_0 => ?_) (fun c1_0 => ?_)
    · exact And.intro rfl (And.intro (And.intro T.1 T.2) ((ext_r _)))
    · refine gs_fi (fun c2_0 => ?_) (fun c2_0 => ?_)
      · exact gs_t (pX101_isLet_t (ext_r _)) (gX101_isLet_95 k3 k22 _ _ _ _ _ _ _ ⟨T.1, T.2⟩ n_a0 (((h.1 c0_0).2 c1_0).1 c2_0))
      · refine gs_fi (fun c3_0 => ?_) (fun c3_0 => ?_)
        · exact gs_t (pX101_isLet_t (ext_r _)) (gX101_isLet_95 k3 k22 _ _ _ _ _ _ _ ⟨T.1, T.2⟩ n_a0 ((((h.1 c0_0).2 c1_0).2 c2_0).1 c3_0))
        · exact gs_t (pX101_isLet_t (ext_r _)) (gX101_isLet_95 k3 k22 _ _ _ _ _ _ _ ⟨T.1, T.2⟩ n_a0 ((((h.1 c0_0).2 c1_0).2 c2_0).2 c3_0))
  · refine gs_c n_a0 ?_
    refine gs_fi (fun c4_0 => ?_) (fun c4_0 => ?_)
    · exact gs_t (pX101_isLet_t (ext_r _)) (gX101_isLet_62 k3 k22 _ _ _ _ _ _ _ _ _ ⟨T.1, T.2⟩  )
    · refine gs_c n_a0 ?_
      refine gs_fi (fun c5_0 => ?_) (fun c5_0 => ?_)
      · exact gs_t (pX101_isLet_t (ext_r _)) (gX101_isLet_62 k3 k22 _ _ _ _ _ _ _ _ _ ⟨T.1, T.2⟩  )
      · exact gs_t (pX101_isLet_t (ext_r _)) (gX101_isLet_64 k3 k22 _ _ _ _ _ _ _ _ _ ⟨T.1, T.2⟩  )
noncomputable def GX101_isLet_3 (a0 : Nat) (a1 : Int64) (a3 : Int32) (a4 : Int32) (a5 : Int32) (a6 : Int32) (M : FM) : (Nat × Int64 × Int32 × Int32 × Int32 × Int32 × FM) ⊕ (Nat × Int64 × Int32 × Int32 × Int32 × Int32 × Int32 × Int32 × FM) ⊕ (Int32 × FM) :=
  fi ((Int32.ofInt 8) ≤ a6) (
    fi (a4 = (Int32.ofInt 3)) (
      GX101_isLet_155 (Int32.ofInt 1) M) (
      GX101_isLet_155 (Int32.ofInt 0) M)) (
    let M1 : FM := GX101_cover a0 a6 M
    (.inr (.inl (a0, a1, a3, a4, a5, a6, (Int32.ofInt 0), (Int32.ofInt 0), M1))))
def HX101_isLet_3 (a0 : Nat) (a1 : Int64) (a3 : Int32) (a4 : Int32) (a5 : Int32) (a6 : Int32) (M : FM) : Prop := (((Int32.ofInt 8) ≤ a6 → True) ∧ (¬ ((Int32.ofInt 8) ≤ a6) → (HX101_cover a0 a6 M ∧ True)))
theorem gX101_isLet_3 (k3 : Nat → Int64 → Int32 → Int32 → Int32 → Int32 → FM → Option (Int32 × FM)) (k22 : Nat → Int64 → Int32 → Int32 → Int32 → Int32 → Int32 → Int32 → FM → Option (Int32 × FM)) (a0 : Nat) (a1 : Int64) (a3 : Int32) (a4 : Int32) (a5 : Int32) (a6 : Int32) (M : FM) (T : Ty M) (n_a0 : fm_is M 101 101 a0 = true) (h : HX101_isLet_3 a0 a1 a3 a4 a5 a6 M) : gs (FX101_isLet_3 fN k3 k22 a0 a1 a3 a4 a5 a6 M) (GX101_isLet_3 a0 a1 a3 a4 a5 a6 M) (kX101_isLet k3 k22) (pX101_isLet M) := by
  delta FX101_isLet_3 BX101_isLet_3
  refine gs_fi (fun c0_0 => ?_) (fun c0_0 => ?_)
  · refine gs_fi (fun c1_0 => ?_) (fun c1_0 => ?_)
    · exact gs_t (pX101_isLet_t (ext_r _)) (gX101_isLet_155 k3 k22 _ _ ⟨T.1, T.2⟩ fz_1 )
    · exact gs_t (pX101_isLet_t (ext_r _)) (gX101_isLet_155 k3 k22 _ _ ⟨T.1, T.2⟩ fz_0 )
  · refine gs_c n_a0 ?_
    refine gs_b (gX101_cover _ _ _ (h.2 c0_0).1) (fun K2 => ?_)
    exact And.intro rfl (And.intro (And.intro K2.1.1 K2.1.2) K2.2)
noncomputable def GX101_isLet (a0 : Nat) (a1 : Int64) (a2 : Int32) (a3 : Int32) (a4 : Int32) (M : FM) : Int32 × FM := (FX101_isLet fN a0 a1 a2 a3 a4 M).getD (0, M)
def HX101_isLet (a0 : Nat) (a1 : Int64) (a2 : Int32) (a3 : Int32) (a4 : Int32) (M : FM) : Prop := ∃ r, FX101_isLet fN a0 a1 a2 a3 a4 M = some r ∧ OkZ M r
theorem gX101_isLet (a0 : Nat) (a1 : Int64) (a2 : Int32) (a3 : Int32) (a4 : Int32) (M : FM) (h : HX101_isLet a0 a1 a2 a3 a4 M) : gd (FX101_isLet fN a0 a1 a2 a3 a4 M) (GX101_isLet a0 a1 a2 a3 a4 M) (OkZ M) := gd_op h
noncomputable def GX93_get_0 (a0 : Nat) (a1 : Int64) (M : FM) : Int32 × FM :=
  let x1 : Int32 := (a1 - (Int64.ofInt 2147483648)).toInt32
  let x2 : Int32 := (x1 / (Int32.ofInt 8))
  let x3 : Nat := (M.2.2 388 a0 0)
  (((((M.2.1 3 x3 x2.toNatClampNeg).toUInt64 >>> (((Int32.ofInt 8) * (x1 - x1 / (Int32.ofInt 8) * (Int32.ofInt 8))).toInt64.toUInt64 &&& Int64.toUInt64 63)).toInt64).toInt32 &&& (Int32.ofInt 255)), M)
def HX93_get_0 (a0 : Nat) (a1 : Int64) (M : FM) : Prop := let x1 : Int32 := (a1 - (Int64.ofInt 2147483648)).toInt32; let x2 : Int32 := (x1 / (Int32.ofInt 8)); let x3 : Nat := (M.2.2 388 a0 0); (fm_in M x3 x2 = true ∧ True)
theorem gX93_get_0 (a0 : Nat) (a1 : Int64) (M : FM) (T : Ty M) (n_a0 : fm_is M 98 98 a0 = true) (h : HX93_get_0 a0 a1 M) : gd (FX93_get_0 a0 a1 M) (GX93_get_0 a0 a1 M) (OkR M) := by
  delta FX93_get_0 BX93_get_0
  refine gd_c n_a0 ?_
  refine gd_n (by decide) ?_
  have f0 := (tN_388 T.1 n_a0)
  refine gd_c ⟨f0, h.1⟩ ?_
  refine gd_n (by decide) ?_
  exact ⟨rfl, ⟨T.1, T.2⟩, (ext_r _)⟩
noncomputable def GX93_get (a0 : Nat) (a1 : Int64) (M : FM) : Int32 × FM := GX93_get_0 a0 a1 M
def HX93_get (a0 : Nat) (a1 : Int64) (M : FM) : Prop := HX93_get_0 a0 a1 M
theorem gX93_get (a0 : Nat) (a1 : Int64) (M : FM) (T : Ty M) (n_a0 : fm_is M 98 98 a0 = true) (h : HX93_get a0 a1 M) : gd (FX93_get a0 a1 M) (GX93_get a0 a1 M) (OkR M) := gX93_get_0 a0 a1 M T n_a0 h
def kX93_number (k8 : Nat → Int64 → Int64 → Int32 → FM → Option (Int64 × FM)) : (Nat × Int64 × Int64 × Int32 × FM) ⊕ (Int64 × FM) → Option (Int64 × FM)
  | .inl (v0, v1, v2, v3, M') => k8 v0 v1 v2 v3 M'
  | .inr (r) => some r
def pX93_number (M : FM) : (Nat × Int64 × Int64 × Int32 × FM) ⊕ (Int64 × FM) → Prop
  | .inl (_, _, _, _, M') => OkV M M'
  | .inr (r) => OkR M r
theorem pX93_number_t {M M1 : FM} (e : Ext M M1) : ∀ y, pX93_number M1 y → pX93_number M y
  | .inl (_, _, _, _, _), h => ⟨h.1, ext_tr e h.2⟩
  | .inr (r), h => ⟨h.1, ext_tr e h.2⟩
noncomputable def GX93_number_0 (a0 : Nat) (a1 : Int64) (a3 : Int32) (M : FM) : (Nat × Int64 × Int64 × Int32 × FM) ⊕ (Int64 × FM) :=
  let x1 : Int32 := (a3 - (Int32.ofInt 1))
  (.inl (a0, a1, (Int64.ofInt 0), x1, M))
theorem gX93_number_0 (k8 : Nat → Int64 → Int64 → Int32 → FM → Option (Int64 × FM)) (a0 : Nat) (a1 : Int64) (a3 : Int32) (M : FM) (T : Ty M) : gs (FX93_number_0 fN k8 a0 a1 a3 M) (GX93_number_0 a0 a1 a3 M) (kX93_number k8) (pX93_number M) := by
  delta FX93_number_0 BX93_number_0
  exact And.intro rfl (And.intro (And.intro T.1 T.2) ((ext_r _)))
noncomputable def GX93_number_8 (a0 : Nat) (a1 : Int64) (a4 : Int64) (a6 : Int32) (M : FM) : (Nat × Int64 × Int64 × Int32 × FM) ⊕ (Int64 × FM) :=
  fi (a6 < 0) (
    (.inr (a4, M))) (
    let r1 : Int32 × FM := GX93_get a0 (a1 + a6.toInt64) M
    let x2 : Int64 := (((Int64.ofInt 256) * a4) + r1.1.toInt64)
    let x3 : Int32 := a6 + (Int32.ofInt (-1))
    (.inl (a0, a1, x2, x3, r1.2)))
def HX93_number_8 (a0 : Nat) (a1 : Int64) (a4 : Int64) (a6 : Int32) (M : FM) : Prop := ((a6 < 0 → True) ∧ (¬ (a6 < 0) → (HX93_get a0 (a1 + a6.toInt64) M ∧ True)))
theorem gX93_number_8 (k8 : Nat → Int64 → Int64 → Int32 → FM → Option (Int64 × FM)) (a0 : Nat) (a1 : Int64) (a4 : Int64) (a6 : Int32) (M : FM) (T : Ty M) (n_a0 : fm_is M 98 98 a0 = true) (h : HX93_number_8 a0 a1 a4 a6 M) : gs (FX93_number_8 fN k8 a0 a1 a4 a6 M) (GX93_number_8 a0 a1 a4 a6 M) (kX93_number k8) (pX93_number M) := by
  delta FX93_number_8 BX93_number_8
  refine gs_fi (fun c0_0 => ?_) (fun c0_0 => ?_)
  · exact And.intro rfl (And.intro (And.intro T.1 T.2) ((ext_r _)))
  · refine gs_c n_a0 ?_
    refine gs_b (gX93_get _ _ _ ⟨T.1, T.2⟩ n_a0 (h.2 c0_0).1) (fun K1 => ?_)
    exact And.intro rfl (And.intro (And.intro K1.1.1 K1.1.2) K1.2)
noncomputable def GX93_number (a0 : Nat) (a1 : Int64) (a2 : Int32) (M : FM) : Int64 × FM := (FX93_number fN a0 a1 a2 M).getD (0, M)
def HX93_number (a0 : Nat) (a1 : Int64) (a2 : Int32) (M : FM) : Prop := ∃ r, FX93_number fN a0 a1 a2 M = some r ∧ OkR M r
theorem gX93_number (a0 : Nat) (a1 : Int64) (a2 : Int32) (M : FM) (h : HX93_number a0 a1 a2 M) : gd (FX93_number fN a0 a1 a2 M) (GX93_number a0 a1 a2 M) (OkR M) := gd_op h
noncomputable def GX101_bit_15 (s0 : Int32) (M : FM) : Int32 × FM :=
  (s0, M)
theorem gX101_bit_15 (s0 : Int32) (M : FM) (T : Ty M) (z_s0 : s0 = 0 ∨ s0 = 1) : gd (FX101_bit_15 s0 M) (GX101_bit_15 s0 M) (OkZ M) := by
  delta FX101_bit_15 BX101_bit_15
  exact gd_z z_s0 ⟨T.1, T.2⟩ (ext_r _) rfl
noncomputable def GX101_bit_0 (a0 : Int64) (a2 : Int32) (M : FM) : Int32 × FM :=
  fi ((lg_cmp ((a0.toUInt64 >>> (a2.toInt64.toUInt64 &&& Int64.toUInt64 63)).toInt64 &&& (Int64.ofInt 1)) (Int64.ofInt 1)) = 0) (
    GX101_bit_15 (Int32.ofInt 1) M) (
    GX101_bit_15 (Int32.ofInt 0) M)
theorem gX101_bit_0 (a0 : Int64) (a2 : Int32) (M : FM) (T : Ty M) : gd (FX101_bit_0 a0 a2 M) (GX101_bit_0 a0 a2 M) (OkZ M) := by
  delta FX101_bit_0 BX101_bit_0
  refine gd_fi (fun c0_0 => ?_) (fun c0_0 => ?_)
  · exact gd_tZ (ext_r _) (gX101_bit_15 _ _ ⟨T.1, T.2⟩ fz_1 )
  · exact gd_tZ (ext_r _) (gX101_bit_15 _ _ ⟨T.1, T.2⟩ fz_0 )
noncomputable def GX101_bit (a0 : Int64) (a2 : Int32) (M : FM) : Int32 × FM := GX101_bit_0 a0 a2 M
theorem gX101_bit (a0 : Int64) (a2 : Int32) (M : FM) (T : Ty M) : gd (FX101_bit a0 a2 M) (GX101_bit a0 a2 M) (OkZ M) := gX101_bit_0 a0 a2 M T 
noncomputable def GX101_isBroken_38 (s0 : Int32) (M : FM) : Int32 × FM :=
  (s0, M)
theorem gX101_isBroken_38 (s0 : Int32) (M : FM) (T : Ty M) (z_s0 : s0 = 0 ∨ s0 = 1) : gd (FX101_isBroken_38 s0 M) (GX101_isBroken_38 s0 M) (OkZ M) := by
  delta FX101_isBroken_38 BX101_isBroken_38
  exact gd_z z_s0 ⟨T.1, T.2⟩ (ext_r _) rfl
noncomputable def GX101_isBroken_33 (M : FM) : Int32 × FM :=
  GX101_isBroken_38 (Int32.ofInt 1) M
theorem gX101_isBroken_33 (M : FM) (T : Ty M) : gd (FX101_isBroken_33 M) (GX101_isBroken_33 M) (OkZ M) := by
  delta FX101_isBroken_33 BX101_isBroken_33
  exact gd_tZ (ext_r _) (gX101_isBroken_38 _ _ ⟨T.1, T.2⟩ fz_1 )
noncomputable def GX101_isBroken_24 (a0 : Int64) (M : FM) : Int32 × FM :=
  fi ((lg_cmp ((a0.toUInt64 >>> ((Int32.ofInt 54).toInt64.toUInt64 &&& Int64.toUInt64 63)).toInt64) (Int64.ofInt 0)) = 0) (
    GX101_isBroken_38 (Int32.ofInt 0) M) (
    GX101_isBroken_33 M)
theorem gX101_isBroken_24 (a0 : Int64) (M : FM) (T : Ty M) : gd (FX101_isBroken_24 a0 M) (GX101_isBroken_24 a0 M) (OkZ M) := by
  delta FX101_isBroken_24 BX101_isBroken_24
  refine gd_fi (fun c0_0 => ?_) (fun c0_0 => ?_)
  · exact gd_tZ (ext_r _) (gX101_isBroken_38 _ _ ⟨T.1, T.2⟩ fz_0 )
  · exact gd_tZ (ext_r _) (gX101_isBroken_33  _ ⟨T.1, T.2⟩  )
noncomputable def GX101_isBroken_0 (a0 : Int64) (M : FM) : Int32 × FM :=
  let r1 : Int32 × FM := GX101_bit a0 (Int32.ofInt 0) M
  fi (r1.1 = 0) (
    GX101_isBroken_33 r1.2) (
    let r2 : Int32 × FM := GX101_bit a0 (Int32.ofInt 2) r1.2
    fi (r2.1 = 0) (
      GX101_isBroken_24 a0 r2.2) (
      let r3 : Int32 × FM := GX101_bit a0 (Int32.ofInt 1) r2.2
      fi (r3.1 = 0) (
        GX101_isBroken_33 r3.2) (
        GX101_isBroken_24 a0 r3.2)))
theorem gX101_isBroken_0 (a0 : Int64) (M : FM) (T : Ty M) : gd (FX101_isBroken_0 a0 M) (GX101_isBroken_0 a0 M) (OkZ M) := by
  delta FX101_isBroken_0 BX101_isBroken_0
  refine gd_b (gX101_bit _ _ _ ⟨T.1, T.2⟩  ) (fun K0 => ?_)
  refine gd_fi (fun c1_0 => ?_) (fun c1_0 => ?_)
  · exact gd_tZ K0.2.1 (gX101_isBroken_33  _ ⟨K0.1.1, K0.1.2⟩  )
  · refine gd_b (gX101_bit _ _ _ ⟨K0.1.1, K0.1.2⟩  ) (fun K2 => ?_)
    refine gd_fi (fun c3_0 => ?_) (fun c3_0 => ?_)
    · exact gd_tZ (ext_tr K0.2.1 K2.2.1) (gX101_isBroken_24 _ _ ⟨K2.1.1, K2.1.2⟩  )
    · refine gd_b (gX101_bit _ _ _ ⟨K2.1.1, K2.1.2⟩  ) (fun K4 => ?_)
      refine gd_fi (fun c5_0 => ?_) (fun c5_0 => ?_)
      · exact gd_tZ (ext_tr K0.2.1 (ext_tr K2.2.1 K4.2.1)) (gX101_isBroken_33  _ ⟨K4.1.1, K4.1.2⟩  )
      · exact gd_tZ (ext_tr K0.2.1 (ext_tr K2.2.1 K4.2.1)) (gX101_isBroken_24 _ _ ⟨K4.1.1, K4.1.2⟩  )
noncomputable def GX101_isBroken (a0 : Int64) (M : FM) : Int32 × FM := GX101_isBroken_0 a0 M
theorem gX101_isBroken (a0 : Int64) (M : FM) (T : Ty M) : gd (FX101_isBroken a0 M) (GX101_isBroken a0 M) (OkZ M) := gX101_isBroken_0 a0 M T 
noncomputable def GX101_numberIn_0 (a0 : Int64) (M : FM) : Int64 × FM :=
  (((a0.toUInt64 >>> ((Int32.ofInt 10).toInt64.toUInt64 &&& Int64.toUInt64 63)).toInt64 &&& (Int64.ofInt 17592186044415)), M)
theorem gX101_numberIn_0 (a0 : Int64) (M : FM) (T : Ty M) : gd (FX101_numberIn_0 a0 M) (GX101_numberIn_0 a0 M) (OkR M) := by
  delta FX101_numberIn_0 BX101_numberIn_0
  exact ⟨rfl, ⟨T.1, T.2⟩, (ext_r _)⟩
noncomputable def GX101_numberIn (a0 : Int64) (M : FM) : Int64 × FM := GX101_numberIn_0 a0 M
theorem gX101_numberIn (a0 : Int64) (M : FM) (T : Ty M) : gd (FX101_numberIn a0 M) (GX101_numberIn a0 M) (OkR M) := gX101_numberIn_0 a0 M T 
noncomputable def GX101_refuses_108 (s0 : Int32) (M : FM) : Int32 × FM :=
  (s0, M)
theorem gX101_refuses_108 (s0 : Int32) (M : FM) (T : Ty M) (z_s0 : s0 = 0 ∨ s0 = 1) : gd (FX101_refuses_108 s0 M) (GX101_refuses_108 s0 M) (OkZ M) := by
  delta FX101_refuses_108 BX101_refuses_108
  exact gd_z z_s0 ⟨T.1, T.2⟩ (ext_r _) rfl
noncomputable def GX101_refuses_91 (M : FM) : Int32 × FM :=
  GX101_refuses_108 (Int32.ofInt 0) M
theorem gX101_refuses_91 (M : FM) (T : Ty M) : gd (FX101_refuses_91 M) (GX101_refuses_91 M) (OkZ M) := by
  delta FX101_refuses_91 BX101_refuses_91
  exact gd_tZ (ext_r _) (gX101_refuses_108 _ _ ⟨T.1, T.2⟩ fz_0 )
noncomputable def GX101_refuses_87 (M : FM) : Int32 × FM :=
  GX101_refuses_108 (Int32.ofInt 1) M
theorem gX101_refuses_87 (M : FM) (T : Ty M) : gd (FX101_refuses_87 M) (GX101_refuses_87 M) (OkZ M) := by
  delta FX101_refuses_87 BX101_refuses_87
  exact gd_tZ (ext_r _) (gX101_refuses_108 _ _ ⟨T.1, T.2⟩ fz_1 )
noncomputable def GX101_refuses_58 (s0 : Int32) (M : FM) : Int32 × FM :=
  (s0, M)
theorem gX101_refuses_58 (s0 : Int32) (M : FM) (T : Ty M) (z_s0 : s0 = 0 ∨ s0 = 1) : gd (FX101_refuses_58 s0 M) (GX101_refuses_58 s0 M) (OkZ M) := by
  delta FX101_refuses_58 BX101_refuses_58
  exact gd_z z_s0 ⟨T.1, T.2⟩ (ext_r _) rfl
noncomputable def GX101_refuses_41 (a0 : Nat) (a1 : Int64) (a3 : Int32) (M : FM) : Int32 × FM :=
  fi (a3 = 0) (
    let r1 : Int32 × FM := GX101_bit a1 (Int32.ofInt 3) M
    fi (r1.1 = 0) (
      GX101_refuses_58 (Int32.ofInt 1) r1.2) (
      GX101_refuses_58 (Int32.ofInt 0) r1.2)) (
    fi (a3 = (Int32.ofInt 1)) (
      let r2 : Int32 × FM := GX101_bit a1 (Int32.ofInt 1) M
      fi (r2.1 = 0) (
        fi ((r2.2.1 426 a0 0) = 0) (
          GX101_refuses_87 r2.2) (
          let r3 : Int32 × FM := GX101_bit a1 (Int32.ofInt 3) r2.2
          fi (r3.1 = 0) (
            GX101_refuses_87 r3.2) (
            GX101_refuses_91 r3.2))) (
        GX101_refuses_91 r2.2)) (
      let r4 : Int32 × FM := GX101_bit a1 (Int32.ofInt 2) M
      fi (r4.1 = 0) (
        GX101_refuses_108 (Int32.ofInt 1) r4.2) (
        GX101_refuses_108 (Int32.ofInt 0) r4.2)))
theorem gX101_refuses_41 (a0 : Nat) (a1 : Int64) (a3 : Int32) (M : FM) (T : Ty M) (n_a0 : fm_is M 101 101 a0 = true) : gd (FX101_refuses_41 a0 a1 a3 M) (GX101_refuses_41 a0 a1 a3 M) (OkZ M) := by
  delta FX101_refuses_41 BX101_refuses_41
  refine gd_fi (fun c0_0 => ?_) (fun c0_0 => ?_)
  · refine gd_b (gX101_bit _ _ _ ⟨T.1, T.2⟩  ) (fun K1 => ?_)
    refine gd_fi (fun c2_0 => ?_) (fun c2_0 => ?_)
    · exact gd_tZ K1.2.1 (gX101_refuses_58 _ _ ⟨K1.1.1, K1.1.2⟩ fz_1 )
    · exact gd_tZ K1.2.1 (gX101_refuses_58 _ _ ⟨K1.1.1, K1.1.2⟩ fz_0 )
  · refine gd_fi (fun c3_0 => ?_) (fun c3_0 => ?_)
    · refine gd_b (gX101_bit _ _ _ ⟨T.1, T.2⟩  ) (fun K4 => ?_)
      refine gd_fi (fun c5_0 => ?_) (fun c5_0 => ?_)
      · have f6 := (ext_is K4.2.1 (Nat.zero_lt_succ _) n_a0)
        refine gd_c f6 ?_
        refine gd_fi (fun c7_0 => ?_) (fun c7_0 => ?_)
        · exact gd_tZ K4.2.1 (gX101_refuses_87  _ ⟨K4.1.1, K4.1.2⟩  )
        · refine gd_b (gX101_bit _ _ _ ⟨K4.1.1, K4.1.2⟩  ) (fun K8 => ?_)
          refine gd_fi (fun c9_0 => ?_) (fun c9_0 => ?_)
          · exact gd_tZ (ext_tr K4.2.1 K8.2.1) (gX101_refuses_87  _ ⟨K8.1.1, K8.1.2⟩  )
          · exact gd_tZ (ext_tr K4.2.1 K8.2.1) (gX101_refuses_91  _ ⟨K8.1.1, K8.1.2⟩  )
      · exact gd_tZ K4.2.1 (gX101_refuses_91  _ ⟨K4.1.1, K4.1.2⟩  )
    · refine gd_b (gX101_bit _ _ _ ⟨T.1, T.2⟩  ) (fun K10 => ?_)
      refine gd_fi (fun c11_0 => ?_) (fun c11_0 => ?_)
      · exact gd_tZ K10.2.1 (gX101_refuses_108 _ _ ⟨K10.1.1, K10.1.2⟩ fz_1 )
      · exact gd_tZ K10.2.1 (gX101_refuses_108 _ _ ⟨K10.1.1, K10.1.2⟩ fz_0 )
noncomputable def GX101_refuses_39 (M : FM) : Int32 × FM :=
  ((Int32.ofInt 1), M)
theorem gX101_refuses_39 (M : FM) (T : Ty M) : gd (FX101_refuses_39 M) (GX101_refuses_39 M) (OkZ M) := by
  delta FX101_refuses_39 BX101_refuses_39
  exact gd_z fz_1 ⟨T.1, T.2⟩ (ext_r _) rfl
noncomputable def GX101_refuses_17 (a0 : Nat) (a1 : Int64) (a3 : Int32) (a4 : Int32) (a5 : Int32) (M : FM) : Int32 × FM :=
  fi (a4 = (Int32.ofInt 1)) (
    fi (a5 = 0) (
      GX101_refuses_41 a0 a1 a3 M) (
      fi (a3 = 0) (
        GX101_refuses_39 M) (
        fi ((M.1 425 a0 0) = 0) (
          GX101_refuses_39 M) (
          GX101_refuses_41 a0 a1 a3 M)))) (
    GX101_refuses_41 a0 a1 a3 M)
theorem gX101_refuses_17 (a0 : Nat) (a1 : Int64) (a3 : Int32) (a4 : Int32) (a5 : Int32) (M : FM) (T : Ty M) (n_a0 : fm_is M 101 101 a0 = true) : gd (FX101_refuses_17 a0 a1 a3 a4 a5 M) (GX101_refuses_17 a0 a1 a3 a4 a5 M) (OkZ M) := by
  delta FX101_refuses_17 BX101_refuses_17
  refine gd_fi (fun c0_0 => ?_) (fun c0_0 => ?_)
  · refine gd_fi (fun c1_0 => ?_) (fun c1_0 => ?_)
    · exact gd_tZ (ext_r _) (gX101_refuses_41 _ _ _ _ ⟨T.1, T.2⟩ n_a0 )
    · refine gd_fi (fun c2_0 => ?_) (fun c2_0 => ?_)
      · exact gd_tZ (ext_r _) (gX101_refuses_39  _ ⟨T.1, T.2⟩  )
      · refine gd_c n_a0 ?_
        refine gd_fi (fun c3_0 => ?_) (fun c3_0 => ?_)
        · exact gd_tZ (ext_r _) (gX101_refuses_39  _ ⟨T.1, T.2⟩  )
        · exact gd_tZ (ext_r _) (gX101_refuses_41 _ _ _ _ ⟨T.1, T.2⟩ n_a0 )
  · exact gd_tZ (ext_r _) (gX101_refuses_41 _ _ _ _ ⟨T.1, T.2⟩ n_a0 )
noncomputable def GX101_refuses_0 (a0 : Nat) (a1 : Int64) (a3 : Int32) (a4 : Int32) (M : FM) : Int32 × FM :=
  let r1 : Int32 × FM := GX101_bit a1 (Int32.ofInt 4) M
  fi (a4 = 0) (
    fi (r1.1 = 0) (
      GX101_refuses_39 r1.2) (
      GX101_refuses_17 a0 a1 a3 a4 r1.1 r1.2)) (
    GX101_refuses_17 a0 a1 a3 a4 r1.1 r1.2)
theorem gX101_refuses_0 (a0 : Nat) (a1 : Int64) (a3 : Int32) (a4 : Int32) (M : FM) (T : Ty M) (n_a0 : fm_is M 101 101 a0 = true) : gd (FX101_refuses_0 a0 a1 a3 a4 M) (GX101_refuses_0 a0 a1 a3 a4 M) (OkZ M) := by
  delta FX101_refuses_0 BX101_refuses_0
  refine gd_b (gX101_bit _ _ _ ⟨T.1, T.2⟩  ) (fun K0 => ?_)
  refine gd_fi (fun c1_0 => ?_) (fun c1_0 => ?_)
  · refine gd_fi (fun c2_0 => ?_) (fun c2_0 => ?_)
    · exact gd_tZ K0.2.1 (gX101_refuses_39  _ ⟨K0.1.1, K0.1.2⟩  )
    · have f3 := (ext_is K0.2.1 (Nat.zero_lt_succ _) n_a0)
      exact gd_tZ K0.2.1 (gX101_refuses_17 _ _ _ _ _ _ ⟨K0.1.1, K0.1.2⟩ f3 )
  · have f4 := (ext_is K0.2.1 (Nat.zero_lt_succ _) n_a0)
    exact gd_tZ K0.2.1 (gX101_refuses_17 _ _ _ _ _ _ ⟨K0.1.1, K0.1.2⟩ f4 )
noncomputable def GX101_refuses (a0 : Nat) (a1 : Int64) (a3 : Int32) (a4 : Int32) (M : FM) : Int32 × FM := GX101_refuses_0 a0 a1 a3 a4 M
theorem gX101_refuses (a0 : Nat) (a1 : Int64) (a3 : Int32) (a4 : Int32) (M : FM) (T : Ty M) (n_a0 : fm_is M 101 101 a0 = true) : gd (FX101_refuses a0 a1 a3 a4 M) (GX101_refuses a0 a1 a3 a4 M) (OkZ M) := gX101_refuses_0 a0 a1 a3 a4 M T n_a0 
def kX93_keep (k3 : Nat → Int64 → Int32 → Int64 → Int32 → FM → Option (FM)) : (Nat × Int64 × Int32 × Int64 × Int32 × FM) ⊕ (FM) → Option (FM)
  | .inl (v0, v1, v2, v3, v4, M') => k3 v0 v1 v2 v3 v4 M'
  | .inr (r) => some r
def pX93_keep (M : FM) : (Nat × Int64 × Int32 × Int64 × Int32 × FM) ⊕ (FM) → Prop
  | .inl (_, _, _, _, _, M') => OkV M M'
  | .inr (r) => OkV M r
theorem pX93_keep_t {M M1 : FM} (e : Ext M M1) : ∀ y, pX93_keep M1 y → pX93_keep M y
  | .inl (_, _, _, _, _, _), h => ⟨h.1, ext_tr e h.2⟩
  | .inr (r), h => ⟨h.1, ext_tr e h.2⟩
noncomputable def GX93_keep_0 (a0 : Nat) (a1 : Int64) (a3 : Int32) (a4 : Int64) (M : FM) : (Nat × Int64 × Int32 × Int64 × Int32 × FM) ⊕ (FM) :=
  (.inl (a0, a1, a3, a4, (Int32.ofInt 0), M))
theorem gX93_keep_0 (k3 : Nat → Int64 → Int32 → Int64 → Int32 → FM → Option (FM)) (a0 : Nat) (a1 : Int64) (a3 : Int32) (a4 : Int64) (M : FM) (T : Ty M) : gs (FX93_keep_0 fN k3 a0 a1 a3 a4 M) (GX93_keep_0 a0 a1 a3 a4 M) (kX93_keep k3) (pX93_keep M) := by
  delta FX93_keep_0 BX93_keep_0
  exact And.intro rfl (And.intro (And.intro T.1 T.2) ((ext_r _)))
noncomputable def GX93_keep_3 (a0 : Nat) (a1 : Int64) (a3 : Int32) (a4 : Int64) (a6 : Int32) (M : FM) : (Nat × Int64 × Int32 × Int64 × Int32 × FM) ⊕ (FM) :=
  fi (a3 ≤ a6) (
    (.inr M)) (
    let M1 : FM := GX93_put a0 (a1 + a6.toInt64) (((a4.toUInt64 >>> (((Int32.ofInt 8) * a6).toInt64.toUInt64 &&& Int64.toUInt64 63)).toInt64).toInt32) M
    let x2 : Int32 := a6 + (Int32.ofInt 1)
    (.inl (a0, a1, a3, a4, x2, M1)))
def HX93_keep_3 (a0 : Nat) (a1 : Int64) (a3 : Int32) (a4 : Int64) (a6 : Int32) (M : FM) : Prop := ((a3 ≤ a6 → True) ∧ (¬ (a3 ≤ a6) → (HX93_put a0 (a1 + a6.toInt64) (((a4.toUInt64 >>> (((Int32.ofInt 8) * a6).toInt64.toUInt64 &&& Int64.toUInt64 63)).toInt64).toInt32) M ∧ True)))
theorem gX93_keep_3 (k3 : Nat → Int64 → Int32 → Int64 → Int32 → FM → Option (FM)) (a0 : Nat) (a1 : Int64) (a3 : Int32) (a4 : Int64) (a6 : Int32) (M : FM) (T : Ty M) (n_a0 : fm_is M 98 98 a0 = true) (h : HX93_keep_3 a0 a1 a3 a4 a6 M) : gs (FX93_keep_3 fN k3 a0 a1 a3 a4 a6 M) (GX93_keep_3 a0 a1 a3 a4 a6 M) (kX93_keep k3) (pX93_keep M) := by
  delta FX93_keep_3 BX93_keep_3
  refine gs_fi (fun c0_0 => ?_) (fun c0_0 => ?_)
  · exact And.intro rfl (And.intro (And.intro T.1 T.2) ((ext_r _)))
  · refine gs_c n_a0 ?_
    refine gs_b (gX93_put _ _ _ _ (h.2 c0_0).1) (fun K1 => ?_)
    exact And.intro rfl (And.intro (And.intro K1.1.1 K1.1.2) K1.2)
noncomputable def GX93_keep (a0 : Nat) (a1 : Int64) (a2 : Int32) (a3 : Int64) (M : FM) : FM := (FX93_keep fN a0 a1 a2 a3 M).getD M
def HX93_keep (a0 : Nat) (a1 : Int64) (a2 : Int32) (a3 : Int64) (M : FM) : Prop := ∃ r, FX93_keep fN a0 a1 a2 a3 M = some r ∧ OkV M r
theorem gX93_keep (a0 : Nat) (a1 : Int64) (a2 : Int32) (a3 : Int64) (M : FM) (h : HX93_keep a0 a1 a2 a3 M) : gd (FX93_keep fN a0 a1 a2 a3 M) (GX93_keep a0 a1 a2 a3 M) (OkV M) := gd_op h
noncomputable def GX101_last_125 (a1 : Int64) (a8 : Int64) (a10 : Int64) (M : FM) : Int64 × FM :=
  let r1 : Int64 × FM := GX101_numberIn a8 M
  ((((Int64.ofInt 4096) * r1.1) + (a1 &&& (((Int64.ofInt 4096) * a10) + (Int64.ofInt 4095)))), r1.2)
theorem gX101_last_125 (a1 : Int64) (a8 : Int64) (a10 : Int64) (M : FM) (T : Ty M) : gd (FX101_last_125 fN a1 a8 a10 M) (GX101_last_125 a1 a8 a10 M) (OkR M) := by
  delta FX101_last_125 BX101_last_125
  refine gd_b (gX101_numberIn _ _ ⟨T.1, T.2⟩  ) (fun K0 => ?_)
  exact ⟨rfl, ⟨K0.1.1, K0.1.2⟩, K0.2⟩
noncomputable def GX101_last_121 (a1 : Int64) (a8 : Int64) (a10 : Int64) (s0 : Nat) (s1 : Int64) (s2 : Int32) (s3 : Int64) (s4 : Int64) (M : FM) : Int64 × FM :=
  let M1 : FM := GX93_keep s0 s1 s2 (s3 ||| s4) M
  GX101_last_125 a1 a8 a10 M1
def HX101_last_121 (a1 : Int64) (a8 : Int64) (a10 : Int64) (s0 : Nat) (s1 : Int64) (s2 : Int32) (s3 : Int64) (s4 : Int64) (M : FM) : Prop := (HX93_keep s0 s1 s2 (s3 ||| s4) M ∧ True)
theorem gX101_last_121 (a1 : Int64) (a8 : Int64) (a10 : Int64) (s0 : Nat) (s1 : Int64) (s2 : Int32) (s3 : Int64) (s4 : Int64) (M : FM) (T : Ty M) (n_s0 : fm_is M 98 98 s0 = true) (h : HX101_last_121 a1 a8 a10 s0 s1 s2 s3 s4 M) : gd (FX101_last_121 fN a1 a8 a10 s0 s1 s2 s3 s4 M) (GX101_last_121 a1 a8 a10 s0 s1 s2 s3 s4 M) (OkR M) := by
  delta FX101_last_121 BX101_last_121
  refine gd_c n_s0 ?_
  refine gd_b (gX93_keep _ _ _ _ _ h.1) (fun K0 => ?_)
  exact gd_tR K0.2 (gX101_last_125 _ _ _ _ ⟨K0.1.1, K0.1.2⟩  )
noncomputable def GX101_last_79 (a0 : Nat) (a1 : Int64) (a3 : Int32) (a5 : Int64) (a8 : Int64) (a10 : Int64) (M : FM) : Int64 × FM :=
  let r1 : Int32 × FM := GX101_isLet a0 a5 (Int32.ofInt 2) (Int32.ofInt 1) (Int32.ofInt 8) M
  fi (r1.1 = 0) (
    let r2 : Int64 × FM := GX101_accessFault a3 r1.2
    (r2.1, r2.2)) (
    fi (a3 = (Int32.ofInt 2)) (
      GX101_last_121 a1 a8 a10 (r1.2.2.2 423 a0 0) a5 (Int32.ofInt 8) a8 (Int64.ofInt 192) r1.2) (
      GX101_last_121 a1 a8 a10 (r1.2.2.2 423 a0 0) a5 (Int32.ofInt 8) a8 (Int64.ofInt 64) r1.2))
def HX101_last_79 (a0 : Nat) (a1 : Int64) (a3 : Int32) (a5 : Int64) (a8 : Int64) (a10 : Int64) (M : FM) : Prop := (HX101_isLet a0 a5 (Int32.ofInt 2) (Int32.ofInt 1) (Int32.ofInt 8) M ∧ let r1 : Int32 × FM := GX101_isLet a0 a5 (Int32.ofInt 2) (Int32.ofInt 1) (Int32.ofInt 8) M; ((r1.1 = 0 → True) ∧ (¬ (r1.1 = 0) → ((a3 = (Int32.ofInt 2) → HX101_last_121 a1 a8 a10 (r1.2.2.2 423 a0 0) a5 (Int32.ofInt 8) a8 (Int64.ofInt 192) r1.2) ∧ (¬ (a3 = (Int32.ofInt 2)) → HX101_last_121 a1 a8 a10 (r1.2.2.2 423 a0 0) a5 (Int32.ofInt 8) a8 (Int64.ofInt 64) r1.2)))))
theorem gX101_last_79 (a0 : Nat) (a1 : Int64) (a3 : Int32) (a5 : Int64) (a8 : Int64) (a10 : Int64) (M : FM) (T : Ty M) (n_a0 : fm_is M 101 101 a0 = true) (h : HX101_last_79 a0 a1 a3 a5 a8 a10 M) : gd (FX101_last_79 fN a0 a1 a3 a5 a8 a10 M) (GX101_last_79 a0 a1 a3 a5 a8 a10 M) (OkR M) := by
  delta FX101_last_79 BX101_last_79
  refine gd_c n_a0 ?_
  refine gd_b (gX101_isLet _ _ _ _ _ _ h.1) (fun K0 => ?_)
  refine gd_fi (fun c1_0 => ?_) (fun c1_0 => ?_)
  · refine gd_b (gX101_accessFault _ _ ⟨K0.1.1, K0.1.2⟩  ) (fun K2 => ?_)
    exact ⟨rfl, ⟨K2.1.1, K2.1.2⟩, (ext_tr K0.2.1 K2.2)⟩
  · have f3 := (ext_is K0.2.1 (Nat.zero_lt_succ _) n_a0)
    refine gd_c f3 ?_
    refine gd_fi (fun c4_0 => ?_) (fun c4_0 => ?_)
    · have f5 := (tN_423 K0.1.1 (ext_is K0.2.1 (Nat.zero_lt_succ _) n_a0))
      exact gd_tR K0.2.1 (gX101_last_121 _ _ _ _ _ _ _ _ _ ⟨K0.1.1, K0.1.2⟩ f5 ((h.2.2 c1_0).1 c4_0))
    · have f6 := (tN_423 K0.1.1 (ext_is K0.2.1 (Nat.zero_lt_succ _) n_a0))
      exact gd_tR K0.2.1 (gX101_last_121 _ _ _ _ _ _ _ _ _ ⟨K0.1.1, K0.1.2⟩ f6 ((h.2.2 c1_0).2 c4_0))
noncomputable def GX101_last_49 (a3 : Int32) (M : FM) : Int64 × FM :=
  let r1 : Int64 × FM := GX101_pageFault a3 M
  (r1.1, r1.2)
theorem gX101_last_49 (a3 : Int32) (M : FM) (T : Ty M) : gd (FX101_last_49 fN a3 M) (GX101_last_49 a3 M) (OkR M) := by
  delta FX101_last_49 BX101_last_49
  refine gd_b (gX101_pageFault _ _ ⟨T.1, T.2⟩  ) (fun K0 => ?_)
  exact ⟨rfl, ⟨K0.1.1, K0.1.2⟩, K0.2⟩
noncomputable def GX101_last_0 (a0 : Nat) (a1 : Int64) (a3 : Int32) (a4 : Int32) (a5 : Int64) (a7 : Int32) (M : FM) : Int64 × FM :=
  let x1 : Nat := (M.2.2 423 a0 0)
  let r2 : Int64 × FM := GX93_number x1 a5 (Int32.ofInt 8) M
  let x3 : Int64 := (((Int64.ofInt 1) <<< (((Int32.ofInt 9) * a7).toInt64 &&& 63)) - (Int64.ofInt 1))
  let r4 : Int64 × FM := GX101_numberIn r2.1 r2.2
  fi ((lg_cmp (r4.1 &&& x3) (Int64.ofInt 0)) = 0) (
    let r5 : Int32 × FM := GX101_refuses a0 r2.1 a3 a4 r4.2
    fi (r5.1 = 0) (
      let r6 : Int32 × FM := GX101_bit r2.1 (Int32.ofInt 6) r5.2
      fi (r6.1 = 0) (
        GX101_last_79 a0 a1 a3 a5 r2.1 x3 r6.2) (
        fi (a3 = (Int32.ofInt 2)) (
          let r7 : Int32 × FM := GX101_bit r2.1 (Int32.ofInt 7) r6.2
          fi (r7.1 = 0) (
            GX101_last_79 a0 a1 a3 a5 r2.1 x3 r7.2) (
            GX101_last_125 a1 r2.1 x3 r7.2)) (
          GX101_last_125 a1 r2.1 x3 r6.2))) (
      GX101_last_49 a3 r5.2)) (
    GX101_last_49 a3 r4.2)
def HX101_last_0 (a0 : Nat) (a1 : Int64) (a3 : Int32) (a4 : Int32) (a5 : Int64) (a7 : Int32) (M : FM) : Prop := let x1 : Nat := (M.2.2 423 a0 0); (HX93_number x1 a5 (Int32.ofInt 8) M ∧ let r2 : Int64 × FM := GX93_number x1 a5 (Int32.ofInt 8) M; let x3 : Int64 := (((Int64.ofInt 1) <<< (((Int32.ofInt 9) * a7).toInt64 &&& 63)) - (Int64.ofInt 1)); let r4 : Int64 × FM := GX101_numberIn r2.1 r2.2; (((lg_cmp (r4.1 &&& x3) (Int64.ofInt 0)) = 0 → let r5 : Int32 × FM := GX101_refuses a0 r2.1 a3 a4 r4.2; ((r5.1 = 0 → let r6 : Int32 × FM := GX101_bit r2.1 (Int32.ofInt 6) r5.2; ((r6.1 = 0 → HX101_last_79 a0 a1 a3 a5 r2.1 x3 r6.2) ∧ (¬ (r6.1 = 0) → ((a3 = (Int32.ofInt 2) → let r7 : Int32 × FM := GX101_bit r2.1 (Int32.ofInt 7) r6.2; ((r7.1 = 0 → HX101_last_79 a0 a1 a3 a5 r2.1 x3 r7.2) ∧ (¬ (r7.1 = 0) → True))) ∧ (¬ (a3 = (Int32.ofInt 2)) → True))))) ∧ (¬ (r5.1 = 0) → True))) ∧ (¬ ((lg_cmp (r4.1 &&& x3) (Int64.ofInt 0)) = 0) → True)))
theorem gX101_last_0 (a0 : Nat) (a1 : Int64) (a3 : Int32) (a4 : Int32) (a5 : Int64) (a7 : Int32) (M : FM) (T : Ty M) (n_a0 : fm_is M 101 101 a0 = true) (h : HX101_last_0 a0 a1 a3 a4 a5 a7 M) : gd (FX101_last_0 fN a0 a1 a3 a4 a5 a7 M) (GX101_last_0 a0 a1 a3 a4 a5 a7 M) (OkR M) := by
  delta FX101_last_0 BX101_last_0
  refine gd_c n_a0 ?_
  have f0 := (tN_423 T.1 n_a0)
  refine gd_c f0 ?_
  refine gd_b (gX93_number _ _ _ _ h.1) (fun K1 => ?_)
  refine gd_b (gX101_numberIn _ _ ⟨K1.1.1, K1.1.2⟩  ) (fun K2 => ?_)
  refine gd_fi (fun c3_0 => ?_) (fun c3_0 => ?_)
  · have f4 := (ext_is K2.2 (Nat.zero_lt_succ _) (ext_is K1.2 (Nat.zero_lt_succ _) n_a0))
    refine gd_c f4 ?_
    have f14 := (ext_is K2.2 (Nat.zero_lt_succ _) (ext_is K1.2 (Nat.zero_lt_succ _) n_a0))
    refine gd_b (gX101_refuses _ _ _ _ _ ⟨K2.1.1, K2.1.2⟩ f14 ) (fun K5 => ?_)
    refine gd_fi (fun c6_0 => ?_) (fun c6_0 => ?_)
    · refine gd_b (gX101_bit _ _ _ ⟨K5.1.1, K5.1.2⟩  ) (fun K7 => ?_)
      refine gd_fi (fun c8_0 => ?_) (fun c8_0 => ?_)
      · have f9 := (ext_is K7.2.1 (Nat.zero_lt_succ _) (ext_is K5.2.1 (Nat.zero_lt_succ _) (ext_is K2.2 (Nat.zero_lt_succ _) (ext_is K1.2 (Nat.zero_lt_succ _) n_a0))))
        exact gd_tR (ext_tr K1.2 (ext_tr K2.2 (ext_tr K5.2.1 K7.2.1))) (gX101_last_79 _ _ _ _ _ _ _ ⟨K7.1.1, K7.1.2⟩ f9 (((h.2.1 c3_0).1 c6_0).1 c8_0))
      · refine gd_fi (fun c10_0 => ?_) (fun c10_0 => ?_)
        · refine gd_b (gX101_bit _ _ _ ⟨K7.1.1, K7.1.2⟩  ) (fun K11 => ?_)
          refine gd_fi (fun c12_0 => ?_) (fun c12_0 => ?_)
          · have f13 := (ext_is K11.2.1 (Nat.zero_lt_succ _) (ext_is K7.2.1 (Nat.zero_lt_succ _) (ext_is K5.2.1 (Nat.zero_lt_succ _) (ext_is K2.2 (Nat.zero_lt_succ _) (ext_is K1.2 (Nat.zero_lt_succ _) n_a0)))))
            exact gd_tR (ext_tr K1.2 (ext_tr K2.2 (ext_tr K5.2.1 (ext_tr K7.2.1 K11.2.1)))) (gX101_last_79 _ _ _ _ _ _ _ ⟨K11.1.1, K11.1.2⟩ f13 (((((h.2.1 c3_0).1 c6_0).2 c8_0).1 c10_0).1 c12_0))
          · exact gd_tR (ext_tr K1.2 (ext_tr K2.2 (ext_tr K5.2.1 (ext_tr K7.2.1 K11.2.1)))) (gX101_last_125 _ _ _ _ ⟨K11.1.1, K11.1.2⟩  )
        · exact gd_tR (ext_tr K1.2 (ext_tr K2.2 (ext_tr K5.2.1 K7.2.1))) (gX101_last_125 _ _ _ _ ⟨K7.1.1, K7.1.2⟩  )
    · exact gd_tR (ext_tr K1.2 (ext_tr K2.2 K5.2.1)) (gX101_last_49 _ _ ⟨K5.1.1, K5.1.2⟩  )
  · exact gd_tR (ext_tr K1.2 K2.2) (gX101_last_49 _ _ ⟨K2.1.1, K2.1.2⟩  )
noncomputable def GX101_last (a0 : Nat) (a1 : Int64) (a3 : Int32) (a4 : Int32) (a5 : Int64) (a7 : Int32) (M : FM) : Int64 × FM := GX101_last_0 a0 a1 a3 a4 a5 a7 M
def HX101_last (a0 : Nat) (a1 : Int64) (a3 : Int32) (a4 : Int32) (a5 : Int64) (a7 : Int32) (M : FM) : Prop := HX101_last_0 a0 a1 a3 a4 a5 a7 M
theorem gX101_last (a0 : Nat) (a1 : Int64) (a3 : Int32) (a4 : Int32) (a5 : Int64) (a7 : Int32) (M : FM) (T : Ty M) (n_a0 : fm_is M 101 101 a0 = true) (h : HX101_last a0 a1 a3 a4 a5 a7 M) : gd (FX101_last fN a0 a1 a3 a4 a5 a7 M) (GX101_last a0 a1 a3 a4 a5 a7 M) (OkR M) := gX101_last_0 a0 a1 a3 a4 a5 a7 M T n_a0 h
def kX101_walk (k70 : Nat → Int64 → Int32 → Int32 → Int64 → Int32 → FM → Option (Int64 × FM)) : (Nat × Int64 × Int32 × Int32 × Int64 × Int32 × FM) ⊕ (Int64 × FM) → Option (Int64 × FM)
  | .inl (v0, v1, v2, v3, v4, v5, M') => k70 v0 v1 v2 v3 v4 v5 M'
  | .inr (r) => some r
def pX101_walk (M : FM) : (Nat × Int64 × Int32 × Int32 × Int64 × Int32 × FM) ⊕ (Int64 × FM) → Prop
  | .inl (_, _, _, _, _, _, M') => OkV M M'
  | .inr (r) => OkR M r
theorem pX101_walk_t {M M1 : FM} (e : Ext M M1) : ∀ y, pX101_walk M1 y → pX101_walk M y
  | .inl (_, _, _, _, _, _, _), h => ⟨h.1, ext_tr e h.2⟩
  | .inr (r), h => ⟨h.1, ext_tr e h.2⟩
noncomputable def GX101_walk_222 (a3 : Int32) (M : FM) : (Nat × Int64 × Int32 × Int32 × Int64 × Int32 × FM) ⊕ (Int64 × FM) :=
  let r1 : Int64 × FM := GX101_pageFault a3 M
  (.inr (r1.1, r1.2))
theorem gX101_walk_222 (k70 : Nat → Int64 → Int32 → Int32 → Int64 → Int32 → FM → Option (Int64 × FM)) (a3 : Int32) (M : FM) (T : Ty M) : gs (FX101_walk_222 fN k70 a3 M) (GX101_walk_222 a3 M) (kX101_walk k70) (pX101_walk M) := by
  delta FX101_walk_222 BX101_walk_222
  refine gs_b (gX101_pageFault _ _ ⟨T.1, T.2⟩  ) (fun K0 => ?_)
  exact And.intro rfl (And.intro (And.intro K0.1.1 K0.1.2) K0.2)
noncomputable def GX101_walk_175 (a0 : Nat) (a1 : Int64) (a3 : Int32) (a4 : Int32) (a10 : Int32) (a11 : Int64) (M : FM) : (Nat × Int64 × Int32 × Int32 × Int64 × Int32 × FM) ⊕ (Int64 × FM) :=
  let r1 : Int64 × FM := GX101_last a0 a1 a3 a4 a11 a10 M
  (.inr (r1.1, r1.2))
def HX101_walk_175 (a0 : Nat) (a1 : Int64) (a3 : Int32) (a4 : Int32) (a10 : Int32) (a11 : Int64) (M : FM) : Prop := (HX101_last a0 a1 a3 a4 a11 a10 M ∧ True)
theorem gX101_walk_175 (k70 : Nat → Int64 → Int32 → Int32 → Int64 → Int32 → FM → Option (Int64 × FM)) (a0 : Nat) (a1 : Int64) (a3 : Int32) (a4 : Int32) (a10 : Int32) (a11 : Int64) (M : FM) (T : Ty M) (n_a0 : fm_is M 101 101 a0 = true) (h : HX101_walk_175 a0 a1 a3 a4 a10 a11 M) : gs (FX101_walk_175 fN k70 a0 a1 a3 a4 a10 a11 M) (GX101_walk_175 a0 a1 a3 a4 a10 a11 M) (kX101_walk k70) (pX101_walk M) := by
  delta FX101_walk_175 BX101_walk_175
  refine gs_c n_a0 ?_
  refine gs_b (gX101_last _ _ _ _ _ _ _ ⟨T.1, T.2⟩ n_a0 h.1) (fun K0 => ?_)
  exact And.intro rfl (And.intro (And.intro K0.1.1 K0.1.2) K0.2)
noncomputable def GX101_walk_126 (a3 : Int32) (M : FM) : (Nat × Int64 × Int32 × Int32 × Int64 × Int32 × FM) ⊕ (Int64 × FM) :=
  let r1 : Int64 × FM := GX101_accessFault a3 M
  (.inr (r1.1, r1.2))
theorem gX101_walk_126 (k70 : Nat → Int64 → Int32 → Int32 → Int64 → Int32 → FM → Option (Int64 × FM)) (a3 : Int32) (M : FM) (T : Ty M) : gs (FX101_walk_126 fN k70 a3 M) (GX101_walk_126 a3 M) (kX101_walk k70) (pX101_walk M) := by
  delta FX101_walk_126 BX101_walk_126
  refine gs_b (gX101_accessFault _ _ ⟨T.1, T.2⟩  ) (fun K0 => ?_)
  exact And.intro rfl (And.intro (And.intro K0.1.1 K0.1.2) K0.2)
noncomputable def GX101_walk_54 (a0 : Nat) (a1 : Int64) (a3 : Int32) (a4 : Int32) (a5 : Int32) (M : FM) : (Nat × Int64 × Int32 × Int32 × Int64 × Int32 × FM) ⊕ (Int64 × FM) :=
  let x1 : Int64 := ((M.2.1 424 a0 0) &&& (Int64.ofInt 17592186044415))
  let x2 : Int32 := (a5 - (Int32.ofInt 1))
  (.inl (a0, a1, a3, a4, x1, x2, M))
theorem gX101_walk_54 (k70 : Nat → Int64 → Int32 → Int32 → Int64 → Int32 → FM → Option (Int64 × FM)) (a0 : Nat) (a1 : Int64) (a3 : Int32) (a4 : Int32) (a5 : Int32) (M : FM) (T : Ty M) (n_a0 : fm_is M 101 101 a0 = true) : gs (FX101_walk_54 fN k70 a0 a1 a3 a4 a5 M) (GX101_walk_54 a0 a1 a3 a4 a5 M) (kX101_walk k70) (pX101_walk M) := by
  delta FX101_walk_54 BX101_walk_54
  refine gs_c n_a0 ?_
  exact And.intro rfl (And.intro (And.intro T.1 T.2) ((ext_r _)))
noncomputable def GX101_walk_19 (a0 : Nat) (a1 : Int64) (a3 : Int32) (a4 : Int32) (s0 : Int32) (M : FM) : (Nat × Int64 × Int32 × Int32 × Int64 × Int32 × FM) ⊕ (Int64 × FM) :=
  let x1 : Int64 := (a1 >>> ((((Int32.ofInt 9) * s0) + (Int32.ofInt 11)).toInt64 &&& 63))
  fi ((lg_cmp x1 (Int64.ofInt 0)) = 0) (
    GX101_walk_54 a0 a1 a3 a4 s0 M) (
    fi ((lg_cmp x1 (Int64.ofInt (-1))) = 0) (
      GX101_walk_54 a0 a1 a3 a4 s0 M) (
      let r2 : Int64 × FM := GX101_pageFault a3 M
      (.inr (r2.1, r2.2))))
theorem gX101_walk_19 (k70 : Nat → Int64 → Int32 → Int32 → Int64 → Int32 → FM → Option (Int64 × FM)) (a0 : Nat) (a1 : Int64) (a3 : Int32) (a4 : Int32) (s0 : Int32) (M : FM) (T : Ty M) (n_a0 : fm_is M 101 101 a0 = true) : gs (FX101_walk_19 fN k70 a0 a1 a3 a4 s0 M) (GX101_walk_19 a0 a1 a3 a4 s0 M) (kX101_walk k70) (pX101_walk M) := by
  delta FX101_walk_19 BX101_walk_19
  refine gs_fi (fun c0_0 => ?_) (fun c0_0 => ?_)
  · exact gs_t (pX101_walk_t (ext_r _)) (gX101_walk_54 k70 _ _ _ _ _ _ ⟨T.1, T.2⟩ n_a0 )
  · refine gs_fi (fun c1_0 => ?_) (fun c1_0 => ?_)
    · exact gs_t (pX101_walk_t (ext_r _)) (gX101_walk_54 k70 _ _ _ _ _ _ ⟨T.1, T.2⟩ n_a0 )
    · refine gs_b (gX101_pageFault _ _ ⟨T.1, T.2⟩  ) (fun K2 => ?_)
      exact And.intro rfl (And.intro (And.intro K2.1.1 K2.1.2) K2.2)
noncomputable def GX101_walk_0 (a0 : Nat) (a1 : Int64) (a3 : Int32) (a4 : Int32) (M : FM) : (Nat × Int64 × Int32 × Int32 × Int64 × Int32 × FM) ⊕ (Int64 × FM) :=
  let r1 : Int64 × FM := GX101_sortOf (M.2.1 424 a0 0) M
  fi ((lg_cmp r1.1 (Int64.ofInt 8)) = 0) (
    GX101_walk_19 a0 a1 a3 a4 (Int32.ofInt 3) r1.2) (
    GX101_walk_19 a0 a1 a3 a4 (Int32.ofInt 4) r1.2)
theorem gX101_walk_0 (k70 : Nat → Int64 → Int32 → Int32 → Int64 → Int32 → FM → Option (Int64 × FM)) (a0 : Nat) (a1 : Int64) (a3 : Int32) (a4 : Int32) (M : FM) (T : Ty M) (n_a0 : fm_is M 101 101 a0 = true) : gs (FX101_walk_0 fN k70 a0 a1 a3 a4 M) (GX101_walk_0 a0 a1 a3 a4 M) (kX101_walk k70) (pX101_walk M) := by
  delta FX101_walk_0 BX101_walk_0
  refine gs_c n_a0 ?_
  refine gs_b (gX101_sortOf _ _ ⟨T.1, T.2⟩  ) (fun K0 => ?_)
  refine gs_fi (fun c1_0 => ?_) (fun c1_0 => ?_)
  · have f2 := (ext_is K0.2 (Nat.zero_lt_succ _) n_a0)
    exact gs_t (pX101_walk_t K0.2) (gX101_walk_19 k70 _ _ _ _ _ _ ⟨K0.1.1, K0.1.2⟩ f2 )
  · have f3 := (ext_is K0.2 (Nat.zero_lt_succ _) n_a0)
    exact gs_t (pX101_walk_t K0.2) (gX101_walk_19 k70 _ _ _ _ _ _ ⟨K0.1.1, K0.1.2⟩ f3 )
noncomputable def GX101_walk_70 (a0 : Nat) (a1 : Int64) (a3 : Int32) (a4 : Int32) (a8 : Int64) (a10 : Int32) (M : FM) : (Nat × Int64 × Int32 × Int32 × Int64 × Int32 × FM) ⊕ (Int64 × FM) :=
  fi (a10 < 0) (
    let r1 : Int64 × FM := GX101_pageFault a3 M
    (.inr (r1.1, r1.2))) (
    let x2 : Int64 := (((Int64.ofInt 4096) * a8) + ((Int64.ofInt 8) * ((a1.toUInt64 >>> (((Int32.ofInt 12) + ((Int32.ofInt 9) * a10)).toInt64.toUInt64 &&& Int64.toUInt64 63)).toInt64 &&& (Int64.ofInt 511))))
    let r3 : Int32 × FM := GX93_areBytes x2 (Int64.ofInt 8) M
    fi (r3.1 = 0) (
      GX101_walk_126 a3 r3.2) (
      let r4 : Int32 × FM := GX101_isLet a0 x2 (Int32.ofInt 1) (Int32.ofInt 1) (Int32.ofInt 8) r3.2
      fi (r4.1 = 0) (
        GX101_walk_126 a3 r4.2) (
        let x5 : Nat := (r4.2.2.2 423 a0 0)
        let r6 : Int64 × FM := GX93_number x5 x2 (Int32.ofInt 8) r4.2
        let r7 : Int32 × FM := GX101_isBroken r6.1 r6.2
        fi (r7.1 = 0) (
          let r8 : Int32 × FM := GX101_bit r6.1 (Int32.ofInt 1) r7.2
          fi (r8.1 = 0) (
            let r9 : Int32 × FM := GX101_bit r6.1 (Int32.ofInt 3) r8.2
            fi (r9.1 = 0) (
              fi (a10 = 0) (
                GX101_walk_222 a3 r9.2) (
                let r10 : Int32 × FM := GX101_bit r6.1 (Int32.ofInt 4) r9.2
                fi (r10.1 = 0) (
                  let r11 : Int32 × FM := GX101_bit r6.1 (Int32.ofInt 6) r10.2
                  fi (r11.1 = 0) (
                    let r12 : Int32 × FM := GX101_bit r6.1 (Int32.ofInt 7) r11.2
                    fi (r12.1 = 0) (
                      let r13 : Int64 × FM := GX101_numberIn r6.1 r12.2
                      let x14 : Int32 := a10 + (Int32.ofInt (-1))
                      (.inl (a0, a1, a3, a4, r13.1, x14, r13.2))) (
                      GX101_walk_222 a3 r12.2)) (
                    GX101_walk_222 a3 r11.2)) (
                  GX101_walk_222 a3 r10.2))) (
              GX101_walk_175 a0 a1 a3 a4 a10 x2 r9.2)) (
            GX101_walk_175 a0 a1 a3 a4 a10 x2 r8.2)) (
          let r15 : Int64 × FM := GX101_pageFault a3 r7.2
          (.inr (r15.1, r15.2))))))
def HX101_walk_70 (a0 : Nat) (a1 : Int64) (a3 : Int32) (a4 : Int32) (a8 : Int64) (a10 : Int32) (M : FM) : Prop := ((a10 < 0 → True) ∧ (¬ (a10 < 0) → let x2 : Int64 := (((Int64.ofInt 4096) * a8) + ((Int64.ofInt 8) * ((a1.toUInt64 >>> (((Int32.ofInt 12) + ((Int32.ofInt 9) * a10)).toInt64.toUInt64 &&& Int64.toUInt64 63)).toInt64 &&& (Int64.ofInt 511)))); let r3 : Int32 × FM := GX93_areBytes x2 (Int64.ofInt 8) M; ((r3.1 = 0 → True) ∧ (¬ (r3.1 = 0) → (HX101_isLet a0 x2 (Int32.ofInt 1) (Int32.ofInt 1) (Int32.ofInt 8) r3.2 ∧ let r4 : Int32 × FM := GX101_isLet a0 x2 (Int32.ofInt 1) (Int32.ofInt 1) (Int32.ofInt 8) r3.2; ((r4.1 = 0 → True) ∧ (¬ (r4.1 = 0) → let x5 : Nat := (r4.2.2.2 423 a0 0); (HX93_number x5 x2 (Int32.ofInt 8) r4.2 ∧ let r6 : Int64 × FM := GX93_number x5 x2 (Int32.ofInt 8) r4.2; let r7 : Int32 × FM := GX101_isBroken r6.1 r6.2; ((r7.1 = 0 → let r8 : Int32 × FM := GX101_bit r6.1 (Int32.ofInt 1) r7.2; ((r8.1 = 0 → let r9 : Int32 × FM := GX101_bit r6.1 (Int32.ofInt 3) r8.2; ((r9.1 = 0 → True) ∧ (¬ (r9.1 = 0) → HX101_walk_175 a0 a1 a3 a4 a10 x2 r9.2))) ∧ (¬ (r8.1 = 0) → HX101_walk_175 a0 a1 a3 a4 a10 x2 r8.2))) ∧ (¬ (r7.1 = 0) → True))))))))))
theorem gX101_walk_70 (k70 : Nat → Int64 → Int32 → Int32 → Int64 → Int32 → FM → Option (Int64 × FM)) (a0 : Nat) (a1 : Int64) (a3 : Int32) (a4 : Int32) (a8 : Int64) (a10 : Int32) (M : FM) (T : Ty M) (n_a0 : fm_is M 101 101 a0 = true) (h : HX101_walk_70 a0 a1 a3 a4 a8 a10 M) : gs (FX101_walk_70 fN k70 a0 a1 a3 a4 a8 a10 M) (GX101_walk_70 a0 a1 a3 a4 a8 a10 M) (kX101_walk k70) (pX101_walk M) := by
  delta FX101_walk_70 BX101_walk_70
  refine gs_fi (fun c0_0 => ?_) (fun c0_0 => ?_)
  · refine gs_b (gX101_pageFault _ _ ⟨T.1, T.2⟩  ) (fun K1 => ?_)
    exact And.intro rfl (And.intro (And.intro K1.1.1 K1.1.2) K1.2)
  · refine gs_b (gX93_areBytes _ _ _ ⟨T.1, T.2⟩  ) (fun K2 => ?_)
    refine gs_fi (fun c3_0 => ?_) (fun c3_0 => ?_)
    · exact gs_t (pX101_walk_t K2.2.1) (gX101_walk_126 k70 _ _ ⟨K2.1.1, K2.1.2⟩  )
    · have f4 := (ext_is K2.2.1 (Nat.zero_lt_succ _) n_a0)
      refine gs_c f4 ?_
      refine gs_b (gX101_isLet _ _ _ _ _ _ ((h.2 c0_0).2 c3_0).1) (fun K5 => ?_)
      refine gs_fi (fun c6_0 => ?_) (fun c6_0 => ?_)
      · exact gs_t (pX101_walk_t (ext_tr K2.2.1 K5.2.1)) (gX101_walk_126 k70 _ _ ⟨K5.1.1, K5.1.2⟩  )
      · have f7 := (ext_is K5.2.1 (Nat.zero_lt_succ _) (ext_is K2.2.1 (Nat.zero_lt_succ _) n_a0))
        refine gs_c f7 ?_
        have f8 := (tN_423 K5.1.1 (ext_is K5.2.1 (Nat.zero_lt_succ _) (ext_is K2.2.1 (Nat.zero_lt_succ _) n_a0)))
        refine gs_c f8 ?_
        refine gs_b (gX93_number _ _ _ _ (((h.2 c0_0).2 c3_0).2.2 c6_0).1) (fun K9 => ?_)
        refine gs_b (gX101_isBroken _ _ ⟨K9.1.1, K9.1.2⟩  ) (fun K10 => ?_)
        refine gs_fi (fun c11_0 => ?_) (fun c11_0 => ?_)
        · refine gs_b (gX101_bit _ _ _ ⟨K10.1.1, K10.1.2⟩  ) (fun K12 => ?_)
          refine gs_fi (fun c13_0 => ?_) (fun c13_0 => ?_)
          · refine gs_b (gX101_bit _ _ _ ⟨K12.1.1, K12.1.2⟩  ) (fun K14 => ?_)
            refine gs_fi (fun c15_0 => ?_) (fun c15_0 => ?_)
            · refine gs_fi (fun c16_0 => ?_) (fun c16_0 => ?_)
              · exact gs_t (pX101_walk_t (ext_tr K2.2.1 (ext_tr K5.2.1 (ext_tr K9.2 (ext_tr K10.2.1 (ext_tr K12.2.1 K14.2.1)))))) (gX101_walk_222 k70 _ _ ⟨K14.1.1, K14.1.2⟩  )
              · refine gs_b (gX101_bit _ _ _ ⟨K14.1.1, K14.1.2⟩  ) (fun K17 => ?_)
                refine gs_fi (fun c18_0 => ?_) (fun c18_0 => ?_)
                · refine gs_b (gX101_bit _ _ _ ⟨K17.1.1, K17.1.2⟩  ) (fun K19 => ?_)
                  refine gs_fi (fun c20_0 => ?_) (fun c20_0 => ?_)
                  · refine gs_b (gX101_bit _ _ _ ⟨K19.1.1, K19.1.2⟩  ) (fun K21 => ?_)
                    refine gs_fi (fun c22_0 => ?_) (fun c22_0 => ?_)
                    · refine gs_b (gX101_numberIn _ _ ⟨K21.1.1, K21.1.2⟩  ) (fun K23 => ?_)
                      exact And.intro rfl (And.intro (And.intro K23.1.1 K23.1.2) ((ext_tr K2.2.1 (ext_tr K5.2.1 (ext_tr K9.2 (ext_tr K10.2.1 (ext_tr K12.2.1 (ext_tr K14.2.1 (ext_tr K17.2.1 (ext_tr K19.2.1 (ext_tr K21.2.1 K23.2)))))))))))
                    · exact gs_t (pX101_walk_t (ext_tr K2.2.1 (ext_tr K5.2.1 (ext_tr K9.2 (ext_tr K10.2.1 (ext_tr K12.2.1 (ext_tr K14.2.1 (ext_tr K17.2.1 (ext_tr K19.2.1 K21.2.1))))))))) (gX101_walk_222 k70 _ _ ⟨K21.1.1, K21.1.2⟩  )
                  · exact gs_t (pX101_walk_t (ext_tr K2.2.1 (ext_tr K5.2.1 (ext_tr K9.2 (ext_tr K10.2.1 (ext_tr K12.2.1 (ext_tr K14.2.1 (ext_tr K17.2.1 K19.2.1)))))))) (gX101_walk_222 k70 _ _ ⟨K19.1.1, K19.1.2⟩  )
                · exact gs_t (pX101_walk_t (ext_tr K2.2.1 (ext_tr K5.2.1 (ext_tr K9.2 (ext_tr K10.2.1 (ext_tr K12.2.1 (ext_tr K14.2.1 K17.2.1))))))) (gX101_walk_222 k70 _ _ ⟨K17.1.1, K17.1.2⟩  )
            · have f24 := (ext_is K14.2.1 (Nat.zero_lt_succ _) (ext_is K12.2.1 (Nat.zero_lt_succ _) (ext_is K10.2.1 (Nat.zero_lt_succ _) (ext_is K9.2 (Nat.zero_lt_succ _) (ext_is K5.2.1 (Nat.zero_lt_succ _) (ext_is K2.2.1 (Nat.zero_lt_succ _) n_a0))))))
              exact gs_t (pX101_walk_t (ext_tr K2.2.1 (ext_tr K5.2.1 (ext_tr K9.2 (ext_tr K10.2.1 (ext_tr K12.2.1 K14.2.1)))))) (gX101_walk_175 k70 _ _ _ _ _ _ _ ⟨K14.1.1, K14.1.2⟩ f24 ((((((h.2 c0_0).2 c3_0).2.2 c6_0).2.1 c11_0).1 c13_0).2 c15_0))
          · have f25 := (ext_is K12.2.1 (Nat.zero_lt_succ _) (ext_is K10.2.1 (Nat.zero_lt_succ _) (ext_is K9.2 (Nat.zero_lt_succ _) (ext_is K5.2.1 (Nat.zero_lt_succ _) (ext_is K2.2.1 (Nat.zero_lt_succ _) n_a0)))))
            exact gs_t (pX101_walk_t (ext_tr K2.2.1 (ext_tr K5.2.1 (ext_tr K9.2 (ext_tr K10.2.1 K12.2.1))))) (gX101_walk_175 k70 _ _ _ _ _ _ _ ⟨K12.1.1, K12.1.2⟩ f25 (((((h.2 c0_0).2 c3_0).2.2 c6_0).2.1 c11_0).2 c13_0))
        · refine gs_b (gX101_pageFault _ _ ⟨K10.1.1, K10.1.2⟩  ) (fun K26 => ?_)
          exact And.intro rfl (And.intro (And.intro K26.1.1 K26.1.2) ((ext_tr K2.2.1 (ext_tr K5.2.1 (ext_tr K9.2 (ext_tr K10.2.1 K26.2))))))
noncomputable def GX101_walk (a0 : Nat) (a1 : Int64) (a2 : Int32) (a3 : Int32) (M : FM) : Int64 × FM := (FX101_walk fN a0 a1 a2 a3 M).getD (0, M)
def HX101_walk (a0 : Nat) (a1 : Int64) (a2 : Int32) (a3 : Int32) (M : FM) : Prop := ∃ r, FX101_walk fN a0 a1 a2 a3 M = some r ∧ OkR M r
theorem gX101_walk (a0 : Nat) (a1 : Int64) (a2 : Int32) (a3 : Int32) (M : FM) (h : HX101_walk a0 a1 a2 a3 M) : gd (FX101_walk fN a0 a1 a2 a3 M) (GX101_walk a0 a1 a2 a3 M) (OkR M) := gd_op h
noncomputable def GX101_find_131 (s0 : Int64) (M : FM) : Int64 × FM :=
  (s0, M)
theorem gX101_find_131 (s0 : Int64) (M : FM) (T : Ty M) : gd (FX101_find_131 fN s0 M) (GX101_find_131 s0 M) (OkR M) := by
  delta FX101_find_131 BX101_find_131
  exact ⟨rfl, ⟨T.1, T.2⟩, (ext_r _)⟩
noncomputable def GX101_find_122 (a7 : Int64) (M : FM) : Int64 × FM :=
  GX101_find_131 a7 M
theorem gX101_find_122 (a7 : Int64) (M : FM) (T : Ty M) : gd (FX101_find_122 fN a7 M) (GX101_find_122 a7 M) (OkR M) := by
  delta FX101_find_122 BX101_find_122
  exact gd_tR (ext_r _) (gX101_find_131 _ _ ⟨T.1, T.2⟩  )
noncomputable def GX101_find_99 (a0 : Nat) (a3 : Int32) (a4 : Int32) (a5 : Int32) (s0 : Int64) (M : FM) : Int64 × FM :=
  fi ((lg_cmp s0 (Int64.ofInt 0)) < 0) (
    GX101_find_122 s0 M) (
    let r1 : Int32 × FM := GX101_isLet a0 s0 a3 a4 a5 M
    fi (r1.1 = 0) (
      let r2 : Int64 × FM := GX101_accessFault a3 r1.2
      GX101_find_131 r2.1 r2.2) (
      GX101_find_122 s0 r1.2))
def HX101_find_99 (a0 : Nat) (a3 : Int32) (a4 : Int32) (a5 : Int32) (s0 : Int64) (M : FM) : Prop := (((lg_cmp s0 (Int64.ofInt 0)) < 0 → True) ∧ (¬ ((lg_cmp s0 (Int64.ofInt 0)) < 0) → (HX101_isLet a0 s0 a3 a4 a5 M ∧ True)))
theorem gX101_find_99 (a0 : Nat) (a3 : Int32) (a4 : Int32) (a5 : Int32) (s0 : Int64) (M : FM) (T : Ty M) (n_a0 : fm_is M 101 101 a0 = true) (h : HX101_find_99 a0 a3 a4 a5 s0 M) : gd (FX101_find_99 fN a0 a3 a4 a5 s0 M) (GX101_find_99 a0 a3 a4 a5 s0 M) (OkR M) := by
  delta FX101_find_99 BX101_find_99
  refine gd_fi (fun c0_0 => ?_) (fun c0_0 => ?_)
  · exact gd_tR (ext_r _) (gX101_find_122 _ _ ⟨T.1, T.2⟩  )
  · refine gd_c n_a0 ?_
    refine gd_b (gX101_isLet _ _ _ _ _ _ (h.2 c0_0).1) (fun K1 => ?_)
    refine gd_fi (fun c2_0 => ?_) (fun c2_0 => ?_)
    · refine gd_b (gX101_accessFault _ _ ⟨K1.1.1, K1.1.2⟩  ) (fun K3 => ?_)
      exact gd_tR (ext_tr K1.2.1 K3.2) (gX101_find_131 _ _ ⟨K3.1.1, K3.1.2⟩  )
    · exact gd_tR K1.2.1 (gX101_find_122 _ _ ⟨K1.1.1, K1.1.2⟩  )
noncomputable def GX101_find_82 (a0 : Nat) (a1 : Int64) (a3 : Int32) (a4 : Int32) (a5 : Int32) (a6 : Int32) (M : FM) : Int64 × FM :=
  fi (a6 = 0) (
    let r1 : Int64 × FM := GX101_walk a0 a1 a3 a4 M
    GX101_find_99 a0 a3 a4 a5 r1.1 r1.2) (
    GX101_find_99 a0 a3 a4 a5 a1 M)
def HX101_find_82 (a0 : Nat) (a1 : Int64) (a3 : Int32) (a4 : Int32) (a5 : Int32) (a6 : Int32) (M : FM) : Prop := ((a6 = 0 → (HX101_walk a0 a1 a3 a4 M ∧ let r1 : Int64 × FM := GX101_walk a0 a1 a3 a4 M; HX101_find_99 a0 a3 a4 a5 r1.1 r1.2)) ∧ (¬ (a6 = 0) → HX101_find_99 a0 a3 a4 a5 a1 M))
theorem gX101_find_82 (a0 : Nat) (a1 : Int64) (a3 : Int32) (a4 : Int32) (a5 : Int32) (a6 : Int32) (M : FM) (T : Ty M) (n_a0 : fm_is M 101 101 a0 = true) (h : HX101_find_82 a0 a1 a3 a4 a5 a6 M) : gd (FX101_find_82 fN a0 a1 a3 a4 a5 a6 M) (GX101_find_82 a0 a1 a3 a4 a5 a6 M) (OkR M) := by
  delta FX101_find_82 BX101_find_82
  refine gd_fi (fun c0_0 => ?_) (fun c0_0 => ?_)
  · refine gd_c n_a0 ?_
    refine gd_b (gX101_walk _ _ _ _ _ (h.1 c0_0).1) (fun K1 => ?_)
    have f2 := (ext_is K1.2 (Nat.zero_lt_succ _) n_a0)
    exact gd_tR K1.2 (gX101_find_99 _ _ _ _ _ _ ⟨K1.1.1, K1.1.2⟩ f2 (h.1 c0_0).2)
  · exact gd_tR (ext_r _) (gX101_find_99 _ _ _ _ _ _ ⟨T.1, T.2⟩ n_a0 (h.2 c0_0))
noncomputable def GX101_find_61 (a0 : Nat) (a1 : Int64) (a3 : Int32) (a4 : Int32) (a5 : Int32) (s0 : Int32) (M : FM) : Int64 × FM :=
  fi (s0 = 0) (
    GX101_find_82 a0 a1 a3 a4 a5 s0 M) (
    fi ((lg_cmp ((a1.toUInt64 >>> ((Int32.ofInt 56).toInt64.toUInt64 &&& Int64.toUInt64 63)).toInt64) (Int64.ofInt 0)) = 0) (
      GX101_find_82 a0 a1 a3 a4 a5 s0 M) (
      let r1 : Int64 × FM := GX101_accessFault a3 M
      (r1.1, r1.2)))
def HX101_find_61 (a0 : Nat) (a1 : Int64) (a3 : Int32) (a4 : Int32) (a5 : Int32) (s0 : Int32) (M : FM) : Prop := ((s0 = 0 → HX101_find_82 a0 a1 a3 a4 a5 s0 M) ∧ (¬ (s0 = 0) → (((lg_cmp ((a1.toUInt64 >>> ((Int32.ofInt 56).toInt64.toUInt64 &&& Int64.toUInt64 63)).toInt64) (Int64.ofInt 0)) = 0 → HX101_find_82 a0 a1 a3 a4 a5 s0 M) ∧ (¬ ((lg_cmp ((a1.toUInt64 >>> ((Int32.ofInt 56).toInt64.toUInt64 &&& Int64.toUInt64 63)).toInt64) (Int64.ofInt 0)) = 0) → True))))
theorem gX101_find_61 (a0 : Nat) (a1 : Int64) (a3 : Int32) (a4 : Int32) (a5 : Int32) (s0 : Int32) (M : FM) (T : Ty M) (n_a0 : fm_is M 101 101 a0 = true) (h : HX101_find_61 a0 a1 a3 a4 a5 s0 M) : gd (FX101_find_61 fN a0 a1 a3 a4 a5 s0 M) (GX101_find_61 a0 a1 a3 a4 a5 s0 M) (OkR M) := by
  delta FX101_find_61 BX101_find_61
  refine gd_fi (fun c0_0 => ?_) (fun c0_0 => ?_)
  · exact gd_tR (ext_r _) (gX101_find_82 _ _ _ _ _ _ _ ⟨T.1, T.2⟩ n_a0 (h.1 c0_0))
  · refine gd_fi (fun c1_0 => ?_) (fun c1_0 => ?_)
    · exact gd_tR (ext_r _) (gX101_find_82 _ _ _ _ _ _ _ ⟨T.1, T.2⟩ n_a0 ((h.2 c0_0).1 c1_0))
    · refine gd_b (gX101_accessFault _ _ ⟨T.1, T.2⟩  ) (fun K2 => ?_)
      exact ⟨rfl, ⟨K2.1.1, K2.1.2⟩, K2.2⟩
noncomputable def GX101_find_56 (a0 : Nat) (a1 : Int64) (a3 : Int32) (a4 : Int32) (a5 : Int32) (M : FM) : Int64 × FM :=
  GX101_find_61 a0 a1 a3 a4 a5 (Int32.ofInt 1) M
def HX101_find_56 (a0 : Nat) (a1 : Int64) (a3 : Int32) (a4 : Int32) (a5 : Int32) (M : FM) : Prop := HX101_find_61 a0 a1 a3 a4 a5 (Int32.ofInt 1) M
theorem gX101_find_56 (a0 : Nat) (a1 : Int64) (a3 : Int32) (a4 : Int32) (a5 : Int32) (M : FM) (T : Ty M) (n_a0 : fm_is M 101 101 a0 = true) (h : HX101_find_56 a0 a1 a3 a4 a5 M) : gd (FX101_find_56 fN a0 a1 a3 a4 a5 M) (GX101_find_56 a0 a1 a3 a4 a5 M) (OkR M) := by
  delta FX101_find_56 BX101_find_56
  exact gd_tR (ext_r _) (gX101_find_61 _ _ _ _ _ _ _ ⟨T.1, T.2⟩ n_a0 h)
noncomputable def GX101_find_26 (a0 : Nat) (a1 : Int64) (a3 : Int32) (a4 : Int32) (a5 : Int32) (s0 : Nat) (s1 : Int32) (M : FM) : Int64 × FM :=
  let M1 : FM := fm_sI M 422 s0 0 s1
  fi ((M1.1 422 a0 0) ≤ 0) (
    fi (a4 = (Int32.ofInt 3)) (
      GX101_find_56 a0 a1 a3 a4 a5 M1) (
      let r2 : Int64 × FM := GX101_sortOf (M1.2.1 424 a0 0) M1
      fi ((lg_cmp r2.1 (Int64.ofInt 0)) = 0) (
        GX101_find_56 a0 a1 a3 a4 a5 r2.2) (
        GX101_find_61 a0 a1 a3 a4 a5 (Int32.ofInt 0) r2.2))) (
    ((Int64.ofInt 0), M1))
def HX101_find_26 (a0 : Nat) (a1 : Int64) (a3 : Int32) (a4 : Int32) (a5 : Int32) (s0 : Nat) (s1 : Int32) (M : FM) : Prop := let M1 : FM := fm_sI M 422 s0 0 s1; (((M1.1 422 a0 0) ≤ 0 → ((a4 = (Int32.ofInt 3) → HX101_find_56 a0 a1 a3 a4 a5 M1) ∧ (¬ (a4 = (Int32.ofInt 3)) → let r2 : Int64 × FM := GX101_sortOf (M1.2.1 424 a0 0) M1; (((lg_cmp r2.1 (Int64.ofInt 0)) = 0 → HX101_find_56 a0 a1 a3 a4 a5 r2.2) ∧ (¬ ((lg_cmp r2.1 (Int64.ofInt 0)) = 0) → HX101_find_61 a0 a1 a3 a4 a5 (Int32.ofInt 0) r2.2))))) ∧ (¬ ((M1.1 422 a0 0) ≤ 0) → True))
theorem gX101_find_26 (a0 : Nat) (a1 : Int64) (a3 : Int32) (a4 : Int32) (a5 : Int32) (s0 : Nat) (s1 : Int32) (M : FM) (T : Ty M) (n_s0 : fm_is M 101 101 s0 = true) (n_a0 : fm_is M 101 101 a0 = true) (h : HX101_find_26 a0 a1 a3 a4 a5 s0 s1 M) : gd (FX101_find_26 fN a0 a1 a3 a4 a5 s0 s1 M) (GX101_find_26 a0 a1 a3 a4 a5 s0 s1 M) (OkR M) := by
  delta FX101_find_26 BX101_find_26
  refine gd_c n_s0 ?_
  refine gd_c n_a0 ?_
  refine gd_fi (fun c0_0 => ?_) (fun c0_0 => ?_)
  · refine gd_fi (fun c1_0 => ?_) (fun c1_0 => ?_)
    · exact gd_tR (ext_dI (ext_r _)) (gX101_find_56 _ _ _ _ _ _ ⟨T.1, (tyb_sI (f := 422) rfl T.2)⟩ n_a0 ((h.1 c0_0).1 c1_0))
    · refine gd_c n_a0 ?_
      refine gd_b (gX101_sortOf _ _ ⟨T.1, (tyb_sI (f := 422) rfl T.2)⟩  ) (fun K2 => ?_)
      refine gd_fi (fun c3_0 => ?_) (fun c3_0 => ?_)
      · have f4 := (ext_is K2.2 (Nat.zero_lt_succ _) n_a0)
        exact gd_tR (ext_dI K2.2) (gX101_find_56 _ _ _ _ _ _ ⟨K2.1.1, K2.1.2⟩ f4 (((h.1 c0_0).2 c1_0).1 c3_0))
      · have f5 := (ext_is K2.2 (Nat.zero_lt_succ _) n_a0)
        exact gd_tR (ext_dI K2.2) (gX101_find_61 _ _ _ _ _ _ _ ⟨K2.1.1, K2.1.2⟩ f5 (((h.1 c0_0).2 c1_0).2 c3_0))
  · exact ⟨rfl, ⟨T.1, (tyb_sI (f := 422) rfl T.2)⟩, (ext_dI (ext_r _))⟩
noncomputable def GX101_find_25 (a0 : Nat) (a1 : Int64) (a3 : Int32) (a4 : Int32) (a5 : Int32) (s0 : Nat) (M : FM) : Int64 × FM :=
  GX101_find_26 a0 a1 a3 a4 a5 s0 (Int32.ofInt 1) M
def HX101_find_25 (a0 : Nat) (a1 : Int64) (a3 : Int32) (a4 : Int32) (a5 : Int32) (s0 : Nat) (M : FM) : Prop := HX101_find_26 a0 a1 a3 a4 a5 s0 (Int32.ofInt 1) M
theorem gX101_find_25 (a0 : Nat) (a1 : Int64) (a3 : Int32) (a4 : Int32) (a5 : Int32) (s0 : Nat) (M : FM) (T : Ty M) (n_s0 : fm_is M 101 101 s0 = true) (n_a0 : fm_is M 101 101 a0 = true) (h : HX101_find_25 a0 a1 a3 a4 a5 s0 M) : gd (FX101_find_25 fN a0 a1 a3 a4 a5 s0 M) (GX101_find_25 a0 a1 a3 a4 a5 s0 M) (OkR M) := by
  delta FX101_find_25 BX101_find_25
  exact gd_tR (ext_r _) (gX101_find_26 _ _ _ _ _ _ _ _ ⟨T.1, T.2⟩ n_s0 n_a0 h)
noncomputable def GX101_find_0 (a0 : Nat) (a1 : Int64) (a3 : Int32) (a4 : Int32) (a5 : Int32) (M : FM) : Int64 × FM :=
  let r1 : Int32 × FM := GX101_isAccess a3 a4 a5 M
  fi (r1.1 = 0) (
    GX101_find_25 a0 a1 a3 a4 a5 a0 r1.2) (
    let r2 : Int32 × FM := GX101_isWithin a1 a5 r1.2
    fi (r2.1 = 0) (
      GX101_find_25 a0 a1 a3 a4 a5 a0 r2.2) (
      GX101_find_26 a0 a1 a3 a4 a5 a0 (Int32.ofInt 0) r2.2))
def HX101_find_0 (a0 : Nat) (a1 : Int64) (a3 : Int32) (a4 : Int32) (a5 : Int32) (M : FM) : Prop := let r1 : Int32 × FM := GX101_isAccess a3 a4 a5 M; ((r1.1 = 0 → HX101_find_25 a0 a1 a3 a4 a5 a0 r1.2) ∧ (¬ (r1.1 = 0) → let r2 : Int32 × FM := GX101_isWithin a1 a5 r1.2; ((r2.1 = 0 → HX101_find_25 a0 a1 a3 a4 a5 a0 r2.2) ∧ (¬ (r2.1 = 0) → HX101_find_26 a0 a1 a3 a4 a5 a0 (Int32.ofInt 0) r2.2))))
theorem gX101_find_0 (a0 : Nat) (a1 : Int64) (a3 : Int32) (a4 : Int32) (a5 : Int32) (M : FM) (T : Ty M) (n_a0 : fm_is M 101 101 a0 = true) (h : HX101_find_0 a0 a1 a3 a4 a5 M) : gd (FX101_find_0 fN a0 a1 a3 a4 a5 M) (GX101_find_0 a0 a1 a3 a4 a5 M) (OkR M) := by
  delta FX101_find_0 BX101_find_0
  refine gd_b (gX101_isAccess _ _ _ _ ⟨T.1, T.2⟩  ) (fun K0 => ?_)
  refine gd_fi (fun c1_0 => ?_) (fun c1_0 => ?_)
  · have f2 := (ext_is K0.2.1 (Nat.zero_lt_succ _) n_a0)
    have f3 := (ext_is K0.2.1 (Nat.zero_lt_succ _) n_a0)
    exact gd_tR K0.2.1 (gX101_find_25 _ _ _ _ _ _ _ ⟨K0.1.1, K0.1.2⟩ f2 f3 (h.1 c1_0))
  · refine gd_b (gX101_isWithin _ _ _ ⟨K0.1.1, K0.1.2⟩  ) (fun K4 => ?_)
    refine gd_fi (fun c5_0 => ?_) (fun c5_0 => ?_)
    · have f6 := (ext_is K4.2.1 (Nat.zero_lt_succ _) (ext_is K0.2.1 (Nat.zero_lt_succ _) n_a0))
      have f7 := (ext_is K4.2.1 (Nat.zero_lt_succ _) (ext_is K0.2.1 (Nat.zero_lt_succ _) n_a0))
      exact gd_tR (ext_tr K0.2.1 K4.2.1) (gX101_find_25 _ _ _ _ _ _ _ ⟨K4.1.1, K4.1.2⟩ f6 f7 ((h.2 c1_0).1 c5_0))
    · have f8 := (ext_is K4.2.1 (Nat.zero_lt_succ _) (ext_is K0.2.1 (Nat.zero_lt_succ _) n_a0))
      have f9 := (ext_is K4.2.1 (Nat.zero_lt_succ _) (ext_is K0.2.1 (Nat.zero_lt_succ _) n_a0))
      exact gd_tR (ext_tr K0.2.1 K4.2.1) (gX101_find_26 _ _ _ _ _ _ _ _ ⟨K4.1.1, K4.1.2⟩ f8 f9 ((h.2 c1_0).2 c5_0))
noncomputable def GX101_find (a0 : Nat) (a1 : Int64) (a3 : Int32) (a4 : Int32) (a5 : Int32) (M : FM) : Int64 × FM := GX101_find_0 a0 a1 a3 a4 a5 M
def HX101_find (a0 : Nat) (a1 : Int64) (a3 : Int32) (a4 : Int32) (a5 : Int32) (M : FM) : Prop := HX101_find_0 a0 a1 a3 a4 a5 M
theorem gX101_find (a0 : Nat) (a1 : Int64) (a3 : Int32) (a4 : Int32) (a5 : Int32) (M : FM) (T : Ty M) (n_a0 : fm_is M 101 101 a0 = true) (h : HX101_find a0 a1 a3 a4 a5 M) : gd (FX101_find fN a0 a1 a3 a4 a5 M) (GX101_find a0 a1 a3 a4 a5 M) (OkR M) := gX101_find_0 a0 a1 a3 a4 a5 M T n_a0 h
noncomputable def GX92_fail_0 (a0 : Nat) (a1 : Int32) (a2 : Int64) (M : FM) : Int32 × FM :=
  let M1 : FM := fm_sI M 320 a0 0 a1
  let M2 : FM := fm_sL M1 321 a0 0 a2
  ((Int32.ofInt 0), M2)
theorem gX92_fail_0 (a0 : Nat) (a1 : Int32) (a2 : Int64) (M : FM) (T : Ty M) (n_a0 : fm_is M 92 92 a0 = true) : gd (FX92_fail_0 a0 a1 a2 M) (GX92_fail_0 a0 a1 a2 M) (OkZ M) := by
  delta FX92_fail_0 BX92_fail_0
  refine gd_c n_a0 ?_
  refine gd_c n_a0 ?_
  exact gd_z fz_0 ⟨T.1, (tyb_sI (f := 320) rfl T.2)⟩ (ext_dI (ext_dL (ext_r _))) rfl
noncomputable def GX92_fail (a0 : Nat) (a1 : Int32) (a2 : Int64) (M : FM) : Int32 × FM := GX92_fail_0 a0 a1 a2 M
theorem gX92_fail (a0 : Nat) (a1 : Int32) (a2 : Int64) (M : FM) (T : Ty M) (n_a0 : fm_is M 92 92 a0 = true) : gd (FX92_fail a0 a1 a2 M) (GX92_fail a0 a1 a2 M) (OkZ M) := gX92_fail_0 a0 a1 a2 M T n_a0 
noncomputable def GX92_half_89 (s0 : Int32) (M : FM) : Int32 × FM :=
  (s0, M)
theorem gX92_half_89 (s0 : Int32) (M : FM) (T : Ty M) : gd (FX92_half_89 fN s0 M) (GX92_half_89 s0 M) (OkR M) := by
  delta FX92_half_89 BX92_half_89
  exact ⟨rfl, ⟨T.1, T.2⟩, (ext_r _)⟩
noncomputable def GX92_half_67 (a0 : Nat) (a4 : Int64) (s0 : Int32) (M : FM) : Int32 × FM :=
  fi (s0 = 0) (
    GX92_half_89 (Int32.ofInt (-1)) M) (
    let x1 : Nat := (M.2.2 298 a0 0)
    let r2 : Int64 × FM := GX93_number x1 a4 (Int32.ofInt 2) M
    GX92_half_89 r2.1.toInt32 r2.2)
def HX92_half_67 (a0 : Nat) (a4 : Int64) (s0 : Int32) (M : FM) : Prop := ((s0 = 0 → True) ∧ (¬ (s0 = 0) → let x1 : Nat := (M.2.2 298 a0 0); (HX93_number x1 a4 (Int32.ofInt 2) M ∧ True)))
theorem gX92_half_67 (a0 : Nat) (a4 : Int64) (s0 : Int32) (M : FM) (T : Ty M) (n_a0 : fm_is M 92 92 a0 = true) (h : HX92_half_67 a0 a4 s0 M) : gd (FX92_half_67 fN a0 a4 s0 M) (GX92_half_67 a0 a4 s0 M) (OkR M) := by
  delta FX92_half_67 BX92_half_67
  refine gd_fi (fun c0_0 => ?_) (fun c0_0 => ?_)
  · exact gd_tR (ext_r _) (gX92_half_89 _ _ ⟨T.1, T.2⟩  )
  · refine gd_c n_a0 ?_
    have f1 := (tN_298 T.1 n_a0)
    refine gd_c f1 ?_
    refine gd_b (gX93_number _ _ _ _ (h.2 c0_0).1) (fun K2 => ?_)
    exact gd_tR K2.2 (gX92_half_89 _ _ ⟨K2.1.1, K2.1.2⟩  )
noncomputable def GX92_half_62 (a0 : Nat) (a4 : Int64) (M : FM) : Int32 × FM :=
  GX92_half_67 a0 a4 (Int32.ofInt 1) M
def HX92_half_62 (a0 : Nat) (a4 : Int64) (M : FM) : Prop := HX92_half_67 a0 a4 (Int32.ofInt 1) M
theorem gX92_half_62 (a0 : Nat) (a4 : Int64) (M : FM) (T : Ty M) (n_a0 : fm_is M 92 92 a0 = true) (h : HX92_half_62 a0 a4 M) : gd (FX92_half_62 fN a0 a4 M) (GX92_half_62 a0 a4 M) (OkR M) := by
  delta FX92_half_62 BX92_half_62
  exact gd_tR (ext_r _) (gX92_half_67 _ _ _ _ ⟨T.1, T.2⟩ n_a0 h)
noncomputable def GX92_half_0 (a0 : Nat) (a1 : Int32) (a2 : Int64) (M : FM) : Int32 × FM :=
  let x1 : Nat := (M.2.2 306 a0 0)
  let x2 : Nat := (M.2.2 305 a0 0)
  let x3 : Nat := (M.2.2 3 x2 a1.toNatClampNeg)
  let r4 : Int32 × FM := GX100_mode x3 M
  let x5 : Nat := (M.2.2 3 x1 a1.toNatClampNeg)
  let r6 : Int64 × FM := GX101_find x5 a2 (Int32.ofInt 0) r4.1 (Int32.ofInt 2) r4.2
  fi (0 ≤ (lg_cmp r6.1 (Int64.ofInt 0))) (
    let r7 : Int32 × FM := GX93_areBytes r6.1 (Int64.ofInt 2) r6.2
    fi (r7.1 = 0) (
      let r8 : Int32 × FM := GX92_fail a0 (Int32.ofInt 1) a2 r7.2
      fi (r8.1 = 0) (
        GX92_half_67 a0 r6.1 (Int32.ofInt 0) r8.2) (
        GX92_half_62 a0 r6.1 r8.2)) (
      GX92_half_62 a0 r6.1 r7.2)) (
    let r9 : Int32 × FM := GX92_fail a0 ((-r6.1).toInt32) a2 r6.2
    GX92_half_67 a0 r6.1 r9.1 r9.2)
def HX92_half_0 (a0 : Nat) (a1 : Int32) (a2 : Int64) (M : FM) : Prop := let x1 : Nat := (M.2.2 306 a0 0); (fm_in M x1 a1 = true ∧ let x2 : Nat := (M.2.2 305 a0 0); (fm_in M x2 a1 = true ∧ let x3 : Nat := (M.2.2 3 x2 a1.toNatClampNeg); (fm_is M 95 95 x3 = true ∧ let r4 : Int32 × FM := GX100_mode x3 M; let x5 : Nat := (M.2.2 3 x1 a1.toNatClampNeg); (fm_is r4.2 101 101 x5 = true ∧ (HX101_find x5 a2 (Int32.ofInt 0) r4.1 (Int32.ofInt 2) r4.2 ∧ let r6 : Int64 × FM := GX101_find x5 a2 (Int32.ofInt 0) r4.1 (Int32.ofInt 2) r4.2; ((0 ≤ (lg_cmp r6.1 (Int64.ofInt 0)) → let r7 : Int32 × FM := GX93_areBytes r6.1 (Int64.ofInt 2) r6.2; ((r7.1 = 0 → let r8 : Int32 × FM := GX92_fail a0 (Int32.ofInt 1) a2 r7.2; ((r8.1 = 0 → HX92_half_67 a0 r6.1 (Int32.ofInt 0) r8.2) ∧ (¬ (r8.1 = 0) → HX92_half_62 a0 r6.1 r8.2))) ∧ (¬ (r7.1 = 0) → HX92_half_62 a0 r6.1 r7.2))) ∧ (¬ (0 ≤ (lg_cmp r6.1 (Int64.ofInt 0))) → let r9 : Int32 × FM := GX92_fail a0 ((-r6.1).toInt32) a2 r6.2; HX92_half_67 a0 r6.1 r9.1 r9.2)))))))
theorem gX92_half_0 (a0 : Nat) (a1 : Int32) (a2 : Int64) (M : FM) (T : Ty M) (n_a0 : fm_is M 92 92 a0 = true) (h : HX92_half_0 a0 a1 a2 M) : gd (FX92_half_0 fN a0 a1 a2 M) (GX92_half_0 a0 a1 a2 M) (OkR M) := by
  delta FX92_half_0 BX92_half_0
  refine gd_c n_a0 ?_
  have f17 := (fm_w (lo' := 910) (hi' := 990) rfl rfl (tN_306 T.1 n_a0))
  refine gd_c ⟨f17, h.1⟩ ?_
  refine gd_c n_a0 ?_
  have f16 := (fm_w (lo' := 910) (hi' := 990) rfl rfl (tN_305 T.1 n_a0))
  refine gd_c ⟨f16, h.2.1⟩ ?_
  refine gd_c h.2.2.1 ?_
  refine gd_b (gX100_mode _ _ ⟨T.1, T.2⟩ h.2.2.1 ) (fun K0 => ?_)
  refine gd_c h.2.2.2.1 ?_
  refine gd_b (gX101_find _ _ _ _ _ _ ⟨K0.1.1, K0.1.2⟩ h.2.2.2.1 h.2.2.2.2.1) (fun K1 => ?_)
  refine gd_fi (fun c2_0 => ?_) (fun c2_0 => ?_)
  · refine gd_b (gX93_areBytes _ _ _ ⟨K1.1.1, K1.1.2⟩  ) (fun K3 => ?_)
    refine gd_fi (fun c4_0 => ?_) (fun c4_0 => ?_)
    · have f5 := (ext_is K3.2.1 (Nat.zero_lt_succ _) (ext_is K1.2 (Nat.zero_lt_succ _) (ext_is K0.2 (Nat.zero_lt_succ _) n_a0)))
      refine gd_c f5 ?_
      have f10 := (ext_is K3.2.1 (Nat.zero_lt_succ _) (ext_is K1.2 (Nat.zero_lt_succ _) (ext_is K0.2 (Nat.zero_lt_succ _) n_a0)))
      refine gd_b (gX92_fail _ _ _ _ ⟨K3.1.1, K3.1.2⟩ f10 ) (fun K6 => ?_)
      refine gd_fi (fun c7_0 => ?_) (fun c7_0 => ?_)
      · have f8 := (ext_is K6.2.1 (Nat.zero_lt_succ _) (ext_is K3.2.1 (Nat.zero_lt_succ _) (ext_is K1.2 (Nat.zero_lt_succ _) (ext_is K0.2 (Nat.zero_lt_succ _) n_a0))))
        exact gd_tR (ext_tr K0.2 (ext_tr K1.2 (ext_tr K3.2.1 K6.2.1))) (gX92_half_67 _ _ _ _ ⟨K6.1.1, K6.1.2⟩ f8 (((h.2.2.2.2.2.1 c2_0).1 c4_0).1 c7_0))
      · have f9 := (ext_is K6.2.1 (Nat.zero_lt_succ _) (ext_is K3.2.1 (Nat.zero_lt_succ _) (ext_is K1.2 (Nat.zero_lt_succ _) (ext_is K0.2 (Nat.zero_lt_succ _) n_a0))))
        exact gd_tR (ext_tr K0.2 (ext_tr K1.2 (ext_tr K3.2.1 K6.2.1))) (gX92_half_62 _ _ _ ⟨K6.1.1, K6.1.2⟩ f9 (((h.2.2.2.2.2.1 c2_0).1 c4_0).2 c7_0))
    · have f11 := (ext_is K3.2.1 (Nat.zero_lt_succ _) (ext_is K1.2 (Nat.zero_lt_succ _) (ext_is K0.2 (Nat.zero_lt_succ _) n_a0)))
      exact gd_tR (ext_tr K0.2 (ext_tr K1.2 K3.2.1)) (gX92_half_62 _ _ _ ⟨K3.1.1, K3.1.2⟩ f11 ((h.2.2.2.2.2.1 c2_0).2 c4_0))
  · have f12 := (ext_is K1.2 (Nat.zero_lt_succ _) (ext_is K0.2 (Nat.zero_lt_succ _) n_a0))
    refine gd_c f12 ?_
    have f15 := (ext_is K1.2 (Nat.zero_lt_succ _) (ext_is K0.2 (Nat.zero_lt_succ _) n_a0))
    refine gd_b (gX92_fail _ _ _ _ ⟨K1.1.1, K1.1.2⟩ f15 ) (fun K13 => ?_)
    have f14 := (ext_is K13.2.1 (Nat.zero_lt_succ _) (ext_is K1.2 (Nat.zero_lt_succ _) (ext_is K0.2 (Nat.zero_lt_succ _) n_a0)))
    exact gd_tR (ext_tr K0.2 (ext_tr K1.2 K13.2.1)) (gX92_half_67 _ _ _ _ ⟨K13.1.1, K13.1.2⟩ f14 (h.2.2.2.2.2.2 c2_0))
noncomputable def GX92_half (a0 : Nat) (a1 : Int32) (a2 : Int64) (M : FM) : Int32 × FM := GX92_half_0 a0 a1 a2 M
def HX92_half (a0 : Nat) (a1 : Int32) (a2 : Int64) (M : FM) : Prop := HX92_half_0 a0 a1 a2 M
theorem gX92_half (a0 : Nat) (a1 : Int32) (a2 : Int64) (M : FM) (T : Ty M) (n_a0 : fm_is M 92 92 a0 = true) (h : HX92_half a0 a1 a2 M) : gd (FX92_half fN a0 a1 a2 M) (GX92_half a0 a1 a2 M) (OkR M) := gX92_half_0 a0 a1 a2 M T n_a0 h
def kX94_bits (k5 : Nat → Int32 → Int32 → Int32 → FM → Option (Int32 × FM)) : (Nat × Int32 × Int32 × Int32 × FM) ⊕ (Int32 × FM) → Option (Int32 × FM)
  | .inl (v0, v1, v2, v3, M') => k5 v0 v1 v2 v3 M'
  | .inr (r) => some r
def pX94_bits (M : FM) : (Nat × Int32 × Int32 × Int32 × FM) ⊕ (Int32 × FM) → Prop
  | .inl (_, _, _, _, M') => OkV M M'
  | .inr (r) => OkR M r
theorem pX94_bits_t {M M1 : FM} (e : Ext M M1) : ∀ y, pX94_bits M1 y → pX94_bits M y
  | .inl (_, _, _, _, _), h => ⟨h.1, ext_tr e h.2⟩
  | .inr (r), h => ⟨h.1, ext_tr e h.2⟩
noncomputable def GX94_bits_0 (a0 : Nat) (a1 : Int32) (a2 : Int32) (M : FM) : (Nat × Int32 × Int32 × Int32 × FM) ⊕ (Int32 × FM) :=
  (.inl (a0, a2, (Int32.ofInt 0), a1, M))
theorem gX94_bits_0 (k5 : Nat → Int32 → Int32 → Int32 → FM → Option (Int32 × FM)) (a0 : Nat) (a1 : Int32) (a2 : Int32) (M : FM) (T : Ty M) : gs (FX94_bits_0 fN k5 a0 a1 a2 M) (GX94_bits_0 a0 a1 a2 M) (kX94_bits k5) (pX94_bits M) := by
  delta FX94_bits_0 BX94_bits_0
  exact And.intro rfl (And.intro (And.intro T.1 T.2) ((ext_r _)))
noncomputable def GX94_bits_5 (a0 : Nat) (a2 : Int32) (a3 : Int32) (a4 : Int32) (M : FM) : (Nat × Int32 × Int32 × Int32 × FM) ⊕ (Int32 × FM) :=
  fi (a4 < a2) (
    (.inr (a3, M))) (
    let x1 : Int32 := (((Int32.ofInt 2) * a3) + (((M.1 387 a0 0) >>> (a4 &&& 31)) &&& (Int32.ofInt 1)))
    let x2 : Int32 := a4 + (Int32.ofInt (-1))
    (.inl (a0, a2, x1, x2, M)))
theorem gX94_bits_5 (k5 : Nat → Int32 → Int32 → Int32 → FM → Option (Int32 × FM)) (a0 : Nat) (a2 : Int32) (a3 : Int32) (a4 : Int32) (M : FM) (T : Ty M) (n_a0 : fm_is M 97 97 a0 = true) : gs (FX94_bits_5 fN k5 a0 a2 a3 a4 M) (GX94_bits_5 a0 a2 a3 a4 M) (kX94_bits k5) (pX94_bits M) := by
  delta FX94_bits_5 BX94_bits_5
  refine gs_fi (fun c0_0 => ?_) (fun c0_0 => ?_)
  · exact And.intro rfl (And.intro (And.intro T.1 T.2) ((ext_r _)))
  · refine gs_c n_a0 ?_
    exact And.intro rfl (And.intro (And.intro T.1 T.2) ((ext_r _)))
noncomputable def GX94_bits (a0 : Nat) (a1 : Int32) (a2 : Int32) (M : FM) : Int32 × FM := (FX94_bits fN a0 a1 a2 M).getD (0, M)
def HX94_bits (a0 : Nat) (a1 : Int32) (a2 : Int32) (M : FM) : Prop := ∃ r, FX94_bits fN a0 a1 a2 M = some r ∧ OkR M r
theorem gX94_bits (a0 : Nat) (a1 : Int32) (a2 : Int32) (M : FM) (h : HX94_bits a0 a1 a2 M) : gd (FX94_bits fN a0 a1 a2 M) (GX94_bits a0 a1 a2 M) (OkR M) := gd_op h
noncomputable def GX94_eights_0 (a0 : Nat) (M : FM) : Int32 × FM :=
  let r1 : Int32 × FM := GX94_bits a0 (Int32.ofInt 6) (Int32.ofInt 5) M
  let r2 : Int32 × FM := GX94_bits a0 (Int32.ofInt 12) (Int32.ofInt 10) r1.2
  ((((Int32.ofInt 64) * r1.1) + ((Int32.ofInt 8) * r2.1)), r2.2)
def HX94_eights_0 (a0 : Nat) (M : FM) : Prop := (HX94_bits a0 (Int32.ofInt 6) (Int32.ofInt 5) M ∧ let r1 : Int32 × FM := GX94_bits a0 (Int32.ofInt 6) (Int32.ofInt 5) M; (HX94_bits a0 (Int32.ofInt 12) (Int32.ofInt 10) r1.2 ∧ True))
theorem gX94_eights_0 (a0 : Nat) (M : FM) (T : Ty M) (n_a0 : fm_is M 97 97 a0 = true) (h : HX94_eights_0 a0 M) : gd (FX94_eights_0 fN a0 M) (GX94_eights_0 a0 M) (OkR M) := by
  delta FX94_eights_0 BX94_eights_0
  refine gd_c n_a0 ?_
  refine gd_b (gX94_bits _ _ _ _ h.1) (fun K0 => ?_)
  have f1 := (ext_is K0.2 (Nat.zero_lt_succ _) n_a0)
  refine gd_c f1 ?_
  refine gd_b (gX94_bits _ _ _ _ h.2.1) (fun K2 => ?_)
  exact ⟨rfl, ⟨K2.1.1, K2.1.2⟩, (ext_tr K0.2 K2.2)⟩
noncomputable def GX94_eights (a0 : Nat) (M : FM) : Int32 × FM := GX94_eights_0 a0 M
def HX94_eights (a0 : Nat) (M : FM) : Prop := HX94_eights_0 a0 M
theorem gX94_eights (a0 : Nat) (M : FM) (T : Ty M) (n_a0 : fm_is M 97 97 a0 = true) (h : HX94_eights a0 M) : gd (FX94_eights fN a0 M) (GX94_eights a0 M) (OkR M) := gX94_eights_0 a0 M T n_a0 h
noncomputable def GX94_fours_0 (a0 : Nat) (M : FM) : Int32 × FM :=
  let r1 : Int32 × FM := GX94_bits a0 (Int32.ofInt 5) (Int32.ofInt 5) M
  let r2 : Int32 × FM := GX94_bits a0 (Int32.ofInt 12) (Int32.ofInt 10) r1.2
  let r3 : Int32 × FM := GX94_bits a0 (Int32.ofInt 6) (Int32.ofInt 6) r2.2
  (((((Int32.ofInt 64) * r1.1) + ((Int32.ofInt 8) * r2.1)) + ((Int32.ofInt 4) * r3.1)), r3.2)
def HX94_fours_0 (a0 : Nat) (M : FM) : Prop := (HX94_bits a0 (Int32.ofInt 5) (Int32.ofInt 5) M ∧ let r1 : Int32 × FM := GX94_bits a0 (Int32.ofInt 5) (Int32.ofInt 5) M; (HX94_bits a0 (Int32.ofInt 12) (Int32.ofInt 10) r1.2 ∧ let r2 : Int32 × FM := GX94_bits a0 (Int32.ofInt 12) (Int32.ofInt 10) r1.2; (HX94_bits a0 (Int32.ofInt 6) (Int32.ofInt 6) r2.2 ∧ True)))
theorem gX94_fours_0 (a0 : Nat) (M : FM) (T : Ty M) (n_a0 : fm_is M 97 97 a0 = true) (h : HX94_fours_0 a0 M) : gd (FX94_fours_0 fN a0 M) (GX94_fours_0 a0 M) (OkR M) := by
  delta FX94_fours_0 BX94_fours_0
  refine gd_c n_a0 ?_
  refine gd_b (gX94_bits _ _ _ _ h.1) (fun K0 => ?_)
  have f1 := (ext_is K0.2 (Nat.zero_lt_succ _) n_a0)
  refine gd_c f1 ?_
  refine gd_b (gX94_bits _ _ _ _ h.2.1) (fun K2 => ?_)
  have f3 := (ext_is K2.2 (Nat.zero_lt_succ _) (ext_is K0.2 (Nat.zero_lt_succ _) n_a0))
  refine gd_c f3 ?_
  refine gd_b (gX94_bits _ _ _ _ h.2.2.1) (fun K4 => ?_)
  exact ⟨rfl, ⟨K4.1.1, K4.1.2⟩, (ext_tr K0.2 (ext_tr K2.2 K4.2))⟩
noncomputable def GX94_fours (a0 : Nat) (M : FM) : Int32 × FM := GX94_fours_0 a0 M
def HX94_fours (a0 : Nat) (M : FM) : Prop := HX94_fours_0 a0 M
theorem gX94_fours (a0 : Nat) (M : FM) (T : Ty M) (n_a0 : fm_is M 97 97 a0 = true) (h : HX94_fours a0 M) : gd (FX94_fours fN a0 M) (GX94_fours a0 M) (OkR M) := gX94_fours_0 a0 M T n_a0 h
noncomputable def GX94_wordI_0 (a0 : Int32) (a1 : Int32) (a2 : Int32) (a3 : Int32) (a4 : Int32) (M : FM) : Int32 × FM :=
  (((((a0 + ((Int32.ofInt 128) * a1)) + ((Int32.ofInt 4096) * a2)) + ((Int32.ofInt 32768) * a3)) + ((Int32.ofInt 1048576) * (a4 &&& (Int32.ofInt 4095)))), M)
theorem gX94_wordI_0 (a0 : Int32) (a1 : Int32) (a2 : Int32) (a3 : Int32) (a4 : Int32) (M : FM) (T : Ty M) : gd (FX94_wordI_0 a0 a1 a2 a3 a4 M) (GX94_wordI_0 a0 a1 a2 a3 a4 M) (OkR M) := by
  delta FX94_wordI_0 BX94_wordI_0
  exact ⟨rfl, ⟨T.1, T.2⟩, (ext_r _)⟩
noncomputable def GX94_wordI (a0 : Int32) (a1 : Int32) (a2 : Int32) (a3 : Int32) (a4 : Int32) (M : FM) : Int32 × FM := GX94_wordI_0 a0 a1 a2 a3 a4 M
theorem gX94_wordI (a0 : Int32) (a1 : Int32) (a2 : Int32) (a3 : Int32) (a4 : Int32) (M : FM) (T : Ty M) : gd (FX94_wordI a0 a1 a2 a3 a4 M) (GX94_wordI a0 a1 a2 a3 a4 M) (OkR M) := gX94_wordI_0 a0 a1 a2 a3 a4 M T 
noncomputable def GX94_wordS_0 (a0 : Int32) (a1 : Int32) (a2 : Int32) (a3 : Int32) (a4 : Int32) (M : FM) : Int32 × FM :=
  ((((((a0 + ((Int32.ofInt 128) * (a4 &&& (Int32.ofInt 31)))) + ((Int32.ofInt 4096) * a1)) + ((Int32.ofInt 32768) * a2)) + ((Int32.ofInt 1048576) * a3)) + ((Int32.ofInt 33554432) * ((a4 >>> ((Int32.ofInt 5) &&& 31)) &&& (Int32.ofInt 127)))), M)
theorem gX94_wordS_0 (a0 : Int32) (a1 : Int32) (a2 : Int32) (a3 : Int32) (a4 : Int32) (M : FM) (T : Ty M) : gd (FX94_wordS_0 a0 a1 a2 a3 a4 M) (GX94_wordS_0 a0 a1 a2 a3 a4 M) (OkR M) := by
  delta FX94_wordS_0 BX94_wordS_0
  exact ⟨rfl, ⟨T.1, T.2⟩, (ext_r _)⟩
noncomputable def GX94_wordS (a0 : Int32) (a1 : Int32) (a2 : Int32) (a3 : Int32) (a4 : Int32) (M : FM) : Int32 × FM := GX94_wordS_0 a0 a1 a2 a3 a4 M
theorem gX94_wordS (a0 : Int32) (a1 : Int32) (a2 : Int32) (a3 : Int32) (a4 : Int32) (M : FM) (T : Ty M) : gd (FX94_wordS a0 a1 a2 a3 a4 M) (GX94_wordS a0 a1 a2 a3 a4 M) (OkR M) := gX94_wordS_0 a0 a1 a2 a3 a4 M T 
noncomputable def GX94_quadrant0_215 (M : FM) : Int32 × FM :=
  ((Int32.ofInt 0), M)
theorem gX94_quadrant0_215 (M : FM) (T : Ty M) : gd (FX94_quadrant0_215 fN M) (GX94_quadrant0_215 M) (OkR M) := by
  delta FX94_quadrant0_215 BX94_quadrant0_215
  exact ⟨rfl, ⟨T.1, T.2⟩, (ext_r _)⟩
noncomputable def GX94_quadrant0_138 (s0 : Int32) (M : FM) : Int32 × FM :=
  (s0, M)
theorem gX94_quadrant0_138 (s0 : Int32) (M : FM) (T : Ty M) : gd (FX94_quadrant0_138 fN s0 M) (GX94_quadrant0_138 s0 M) (OkR M) := by
  delta FX94_quadrant0_138 BX94_quadrant0_138
  exact ⟨rfl, ⟨T.1, T.2⟩, (ext_r _)⟩
noncomputable def GX94_quadrant0_0 (a0 : Nat) (M : FM) : Int32 × FM :=
  let r1 : Int32 × FM := GX94_bits a0 (Int32.ofInt 9) (Int32.ofInt 7) M
  let x2 : Int32 := ((Int32.ofInt 8) + r1.1)
  let r3 : Int32 × FM := GX94_bits a0 (Int32.ofInt 4) (Int32.ofInt 2) r1.2
  let x4 : Int32 := ((Int32.ofInt 8) + r3.1)
  let r5 : Int32 × FM := GX94_bits a0 (Int32.ofInt 15) (Int32.ofInt 13) r3.2
  fi (r5.1 = (Int32.ofInt 0)) (
    let r6 : Int32 × FM := GX94_bits a0 (Int32.ofInt 10) (Int32.ofInt 7) r5.2
    let r7 : Int32 × FM := GX94_bits a0 (Int32.ofInt 12) (Int32.ofInt 11) r6.2
    let r8 : Int32 × FM := GX94_bits a0 (Int32.ofInt 5) (Int32.ofInt 5) r7.2
    let r9 : Int32 × FM := GX94_bits a0 (Int32.ofInt 6) (Int32.ofInt 6) r8.2
    let x10 : Int32 := (((((Int32.ofInt 64) * r6.1) + ((Int32.ofInt 16) * r7.1)) + ((Int32.ofInt 8) * r8.1)) + ((Int32.ofInt 4) * r9.1))
    fi (x10 = 0) (
      GX94_quadrant0_138 (Int32.ofInt 0) r9.2) (
      let r11 : Int32 × FM := GX94_wordI (Int32.ofInt 19) x4 (Int32.ofInt 0) (Int32.ofInt 2) x10 r9.2
      GX94_quadrant0_138 r11.1 r11.2)) (
    fi (r5.1 = (Int32.ofInt 1)) (
      let r12 : Int32 × FM := GX94_eights a0 r5.2
      let r13 : Int32 × FM := GX94_wordI (Int32.ofInt 7) x4 (Int32.ofInt 3) x2 r12.1 r12.2
      (r13.1, r13.2)) (
      fi (r5.1 = (Int32.ofInt 2)) (
        let r14 : Int32 × FM := GX94_fours a0 r5.2
        let r15 : Int32 × FM := GX94_wordI (Int32.ofInt 3) x4 (Int32.ofInt 2) x2 r14.1 r14.2
        (r15.1, r15.2)) (
        fi (r5.1 = (Int32.ofInt 3)) (
          let r16 : Int32 × FM := GX94_eights a0 r5.2
          let r17 : Int32 × FM := GX94_wordI (Int32.ofInt 3) x4 (Int32.ofInt 3) x2 r16.1 r16.2
          (r17.1, r17.2)) (
          fi (r5.1 = (Int32.ofInt 4)) (
            GX94_quadrant0_215 r5.2) (
            fi (r5.1 = (Int32.ofInt 5)) (
              let r18 : Int32 × FM := GX94_eights a0 r5.2
              let r19 : Int32 × FM := GX94_wordS (Int32.ofInt 39) (Int32.ofInt 3) x2 x4 r18.1 r18.2
              (r19.1, r19.2)) (
              fi (r5.1 = (Int32.ofInt 6)) (
                let r20 : Int32 × FM := GX94_fours a0 r5.2
                let r21 : Int32 × FM := GX94_wordS (Int32.ofInt 35) (Int32.ofInt 2) x2 x4 r20.1 r20.2
                (r21.1, r21.2)) (
                fi (r5.1 = (Int32.ofInt 7)) (
                  let r22 : Int32 × FM := GX94_eights a0 r5.2
                  let r23 : Int32 × FM := GX94_wordS (Int32.ofInt 35) (Int32.ofInt 3) x2 x4 r22.1 r22.2
                  (r23.1, r23.2)) (
                  GX94_quadrant0_215 r5.2))))))))
def HX94_quadrant0_0 (a0 : Nat) (M : FM) : Prop := (HX94_bits a0 (Int32.ofInt 9) (Int32.ofInt 7) M ∧ let r1 : Int32 × FM := GX94_bits a0 (Int32.ofInt 9) (Int32.ofInt 7) M; let x2 : Int32 := ((Int32.ofInt 8) + r1.1); (HX94_bits a0 (Int32.ofInt 4) (Int32.ofInt 2) r1.2 ∧ let r3 : Int32 × FM := GX94_bits a0 (Int32.ofInt 4) (Int32.ofInt 2) r1.2; let x4 : Int32 := ((Int32.ofInt 8) + r3.1); (HX94_bits a0 (Int32.ofInt 15) (Int32.ofInt 13) r3.2 ∧ let r5 : Int32 × FM := GX94_bits a0 (Int32.ofInt 15) (Int32.ofInt 13) r3.2; ((r5.1 = (Int32.ofInt 0) → (HX94_bits a0 (Int32.ofInt 10) (Int32.ofInt 7) r5.2 ∧ let r6 : Int32 × FM := GX94_bits a0 (Int32.ofInt 10) (Int32.ofInt 7) r5.2; (HX94_bits a0 (Int32.ofInt 12) (Int32.ofInt 11) r6.2 ∧ let r7 : Int32 × FM := GX94_bits a0 (Int32.ofInt 12) (Int32.ofInt 11) r6.2; (HX94_bits a0 (Int32.ofInt 5) (Int32.ofInt 5) r7.2 ∧ let r8 : Int32 × FM := GX94_bits a0 (Int32.ofInt 5) (Int32.ofInt 5) r7.2; (HX94_bits a0 (Int32.ofInt 6) (Int32.ofInt 6) r8.2 ∧ True))))) ∧ (¬ (r5.1 = (Int32.ofInt 0)) → ((r5.1 = (Int32.ofInt 1) → (HX94_eights a0 r5.2 ∧ True)) ∧ (¬ (r5.1 = (Int32.ofInt 1)) → ((r5.1 = (Int32.ofInt 2) → (HX94_fours a0 r5.2 ∧ True)) ∧ (¬ (r5.1 = (Int32.ofInt 2)) → ((r5.1 = (Int32.ofInt 3) → (HX94_eights a0 r5.2 ∧ True)) ∧ (¬ (r5.1 = (Int32.ofInt 3)) → ((r5.1 = (Int32.ofInt 4) → True) ∧ (¬ (r5.1 = (Int32.ofInt 4)) → ((r5.1 = (Int32.ofInt 5) → (HX94_eights a0 r5.2 ∧ True)) ∧ (¬ (r5.1 = (Int32.ofInt 5)) → ((r5.1 = (Int32.ofInt 6) → (HX94_fours a0 r5.2 ∧ True)) ∧ (¬ (r5.1 = (Int32.ofInt 6)) → ((r5.1 = (Int32.ofInt 7) → (HX94_eights a0 r5.2 ∧ True)) ∧ (¬ (r5.1 = (Int32.ofInt 7)) → True)))))))))))))))))))
theorem gX94_quadrant0_0 (a0 : Nat) (M : FM) (T : Ty M) (n_a0 : fm_is M 97 97 a0 = true) (h : HX94_quadrant0_0 a0 M) : gd (FX94_quadrant0_0 fN a0 M) (GX94_quadrant0_0 a0 M) (OkR M) := by
  delta FX94_quadrant0_0 BX94_quadrant0_0
  refine gd_c n_a0 ?_
  refine gd_b (gX94_bits _ _ _ _ h.1) (fun K0 => ?_)
  have f1 := (ext_is K0.2 (Nat.zero_lt_succ _) n_a0)
  refine gd_c f1 ?_
  refine gd_b (gX94_bits _ _ _ _ h.2.1) (fun K2 => ?_)
  have f3 := (ext_is K2.2 (Nat.zero_lt_succ _) (ext_is K0.2 (Nat.zero_lt_succ _) n_a0))
  refine gd_c f3 ?_
  refine gd_b (gX94_bits _ _ _ _ h.2.2.1) (fun K4 => ?_)
  refine gd_fi (fun c5_0 => ?_) (fun c5_0 => ?_)
  · have f6 := (ext_is K4.2 (Nat.zero_lt_succ _) (ext_is K2.2 (Nat.zero_lt_succ _) (ext_is K0.2 (Nat.zero_lt_succ _) n_a0)))
    refine gd_c f6 ?_
    refine gd_b (gX94_bits _ _ _ _ (h.2.2.2.1 c5_0).1) (fun K7 => ?_)
    have f8 := (ext_is K7.2 (Nat.zero_lt_succ _) (ext_is K4.2 (Nat.zero_lt_succ _) (ext_is K2.2 (Nat.zero_lt_succ _) (ext_is K0.2 (Nat.zero_lt_succ _) n_a0))))
    refine gd_c f8 ?_
    refine gd_b (gX94_bits _ _ _ _ (h.2.2.2.1 c5_0).2.1) (fun K9 => ?_)
    have f10 := (ext_is K9.2 (Nat.zero_lt_succ _) (ext_is K7.2 (Nat.zero_lt_succ _) (ext_is K4.2 (Nat.zero_lt_succ _) (ext_is K2.2 (Nat.zero_lt_succ _) (ext_is K0.2 (Nat.zero_lt_succ _) n_a0)))))
    refine gd_c f10 ?_
    refine gd_b (gX94_bits _ _ _ _ (h.2.2.2.1 c5_0).2.2.1) (fun K11 => ?_)
    have f12 := (ext_is K11.2 (Nat.zero_lt_succ _) (ext_is K9.2 (Nat.zero_lt_succ _) (ext_is K7.2 (Nat.zero_lt_succ _) (ext_is K4.2 (Nat.zero_lt_succ _) (ext_is K2.2 (Nat.zero_lt_succ _) (ext_is K0.2 (Nat.zero_lt_succ _) n_a0))))))
    refine gd_c f12 ?_
    refine gd_b (gX94_bits _ _ _ _ (h.2.2.2.1 c5_0).2.2.2.1) (fun K13 => ?_)
    refine gd_fi (fun c14_0 => ?_) (fun c14_0 => ?_)
    · exact gd_tR (ext_tr K0.2 (ext_tr K2.2 (ext_tr K4.2 (ext_tr K7.2 (ext_tr K9.2 (ext_tr K11.2 K13.2)))))) (gX94_quadrant0_138 _ _ ⟨K13.1.1, K13.1.2⟩  )
    · refine gd_b (gX94_wordI _ _ _ _ _ _ ⟨K13.1.1, K13.1.2⟩  ) (fun K15 => ?_)
      exact gd_tR (ext_tr K0.2 (ext_tr K2.2 (ext_tr K4.2 (ext_tr K7.2 (ext_tr K9.2 (ext_tr K11.2 (ext_tr K13.2 K15.2))))))) (gX94_quadrant0_138 _ _ ⟨K15.1.1, K15.1.2⟩  )
  · refine gd_fi (fun c16_1 => ?_) (fun c16_1 => ?_)
    · have f17 := (ext_is K4.2 (Nat.zero_lt_succ _) (ext_is K2.2 (Nat.zero_lt_succ _) (ext_is K0.2 (Nat.zero_lt_succ _) n_a0)))
      refine gd_c f17 ?_
      have f20 := (ext_is K4.2 (Nat.zero_lt_succ _) (ext_is K2.2 (Nat.zero_lt_succ _) (ext_is K0.2 (Nat.zero_lt_succ _) n_a0)))
      refine gd_b (gX94_eights _ _ ⟨K4.1.1, K4.1.2⟩ f20 ((h.2.2.2.2 c5_0).1 c16_1).1) (fun K18 => ?_)
      refine gd_b (gX94_wordI _ _ _ _ _ _ ⟨K18.1.1, K18.1.2⟩  ) (fun K19 => ?_)
      exact ⟨rfl, ⟨K19.1.1, K19.1.2⟩, (ext_tr K0.2 (ext_tr K2.2 (ext_tr K4.2 (ext_tr K18.2 K19.2))))⟩
    · refine gd_fi (fun c21_2 => ?_) (fun c21_2 => ?_)
      · have f22 := (ext_is K4.2 (Nat.zero_lt_succ _) (ext_is K2.2 (Nat.zero_lt_succ _) (ext_is K0.2 (Nat.zero_lt_succ _) n_a0)))
        refine gd_c f22 ?_
        have f25 := (ext_is K4.2 (Nat.zero_lt_succ _) (ext_is K2.2 (Nat.zero_lt_succ _) (ext_is K0.2 (Nat.zero_lt_succ _) n_a0)))
        refine gd_b (gX94_fours _ _ ⟨K4.1.1, K4.1.2⟩ f25 (((h.2.2.2.2 c5_0).2 c16_1).1 c21_2).1) (fun K23 => ?_)
        refine gd_b (gX94_wordI _ _ _ _ _ _ ⟨K23.1.1, K23.1.2⟩  ) (fun K24 => ?_)
        exact ⟨rfl, ⟨K24.1.1, K24.1.2⟩, (ext_tr K0.2 (ext_tr K2.2 (ext_tr K4.2 (ext_tr K23.2 K24.2))))⟩
      · refine gd_fi (fun c26_3 => ?_) (fun c26_3 => ?_)
        · have f27 := (ext_is K4.2 (Nat.zero_lt_succ _) (ext_is K2.2 (Nat.zero_lt_succ _) (ext_is K0.2 (Nat.zero_lt_succ _) n_a0)))
          refine gd_c f27 ?_
          have f30 := (ext_is K4.2 (Nat.zero_lt_succ _) (ext_is K2.2 (Nat.zero_lt_succ _) (ext_is K0.2 (Nat.zero_lt_succ _) n_a0)))
          refine gd_b (gX94_eights _ _ ⟨K4.1.1, K4.1.2⟩ f30 ((((h.2.2.2.2 c5_0).2 c16_1).2 c21_2).1 c26_3).1) (fun K28 => ?_)
          refine gd_b (gX94_wordI _ _ _ _ _ _ ⟨K28.1.1, K28.1.2⟩  ) (fun K29 => ?_)
          exact ⟨rfl, ⟨K29.1.1, K29.1.2⟩, (ext_tr K0.2 (ext_tr K2.2 (ext_tr K4.2 (ext_tr K28.2 K29.2))))⟩
        · refine gd_fi (fun c31_4 => ?_) (fun c31_4 => ?_)
          · exact gd_tR (ext_tr K0.2 (ext_tr K2.2 K4.2)) (gX94_quadrant0_215  _ ⟨K4.1.1, K4.1.2⟩  )
          · refine gd_fi (fun c32_5 => ?_) (fun c32_5 => ?_)
            · have f33 := (ext_is K4.2 (Nat.zero_lt_succ _) (ext_is K2.2 (Nat.zero_lt_succ _) (ext_is K0.2 (Nat.zero_lt_succ _) n_a0)))
              refine gd_c f33 ?_
              have f36 := (ext_is K4.2 (Nat.zero_lt_succ _) (ext_is K2.2 (Nat.zero_lt_succ _) (ext_is K0.2 (Nat.zero_lt_succ _) n_a0)))
              refine gd_b (gX94_eights _ _ ⟨K4.1.1, K4.1.2⟩ f36 ((((((h.2.2.2.2 c5_0).2 c16_1).2 c21_2).2 c26_3).2 c31_4).1 c32_5).1) (fun K34 => ?_)
              refine gd_b (gX94_wordS _ _ _ _ _ _ ⟨K34.1.1, K34.1.2⟩  ) (fun K35 => ?_)
              exact ⟨rfl, ⟨K35.1.1, K35.1.2⟩, (ext_tr K0.2 (ext_tr K2.2 (ext_tr K4.2 (ext_tr K34.2 K35.2))))⟩
            · refine gd_fi (fun c37_6 => ?_) (fun c37_6 => ?_)
              · have f38 := (ext_is K4.2 (Nat.zero_lt_succ _) (ext_is K2.2 (Nat.zero_lt_succ _) (ext_is K0.2 (Nat.zero_lt_succ _) n_a0)))
                refine gd_c f38 ?_
                have f41 := (ext_is K4.2 (Nat.zero_lt_succ _) (ext_is K2.2 (Nat.zero_lt_succ _) (ext_is K0.2 (Nat.zero_lt_succ _) n_a0)))
                refine gd_b (gX94_fours _ _ ⟨K4.1.1, K4.1.2⟩ f41 (((((((h.2.2.2.2 c5_0).2 c16_1).2 c21_2).2 c26_3).2 c31_4).2 c32_5).1 c37_6).1) (fun K39 => ?_)
                refine gd_b (gX94_wordS _ _ _ _ _ _ ⟨K39.1.1, K39.1.2⟩  ) (fun K40 => ?_)
                exact ⟨rfl, ⟨K40.1.1, K40.1.2⟩, (ext_tr K0.2 (ext_tr K2.2 (ext_tr K4.2 (ext_tr K39.2 K40.2))))⟩
              · refine gd_fi (fun c42_7 => ?_) (fun c42_7 => ?_)
                · have f43 := (ext_is K4.2 (Nat.zero_lt_succ _) (ext_is K2.2 (Nat.zero_lt_succ _) (ext_is K0.2 (Nat.zero_lt_succ _) n_a0)))
                  refine gd_c f43 ?_
                  have f46 := (ext_is K4.2 (Nat.zero_lt_succ _) (ext_is K2.2 (Nat.zero_lt_succ _) (ext_is K0.2 (Nat.zero_lt_succ _) n_a0)))
                  refine gd_b (gX94_eights _ _ ⟨K4.1.1, K4.1.2⟩ f46 ((((((((h.2.2.2.2 c5_0).2 c16_1).2 c21_2).2 c26_3).2 c31_4).2 c32_5).2 c37_6).1 c42_7).1) (fun K44 => ?_)
                  refine gd_b (gX94_wordS _ _ _ _ _ _ ⟨K44.1.1, K44.1.2⟩  ) (fun K45 => ?_)
                  exact ⟨rfl, ⟨K45.1.1, K45.1.2⟩, (ext_tr K0.2 (ext_tr K2.2 (ext_tr K4.2 (ext_tr K44.2 K45.2))))⟩
                · exact gd_tR (ext_tr K0.2 (ext_tr K2.2 K4.2)) (gX94_quadrant0_215  _ ⟨K4.1.1, K4.1.2⟩  )
noncomputable def GX94_quadrant0 (a0 : Nat) (M : FM) : Int32 × FM := GX94_quadrant0_0 a0 M
def HX94_quadrant0 (a0 : Nat) (M : FM) : Prop := HX94_quadrant0_0 a0 M
theorem gX94_quadrant0 (a0 : Nat) (M : FM) (T : Ty M) (n_a0 : fm_is M 97 97 a0 = true) (h : HX94_quadrant0 a0 M) : gd (FX94_quadrant0 fN a0 M) (GX94_quadrant0 a0 M) (OkR M) := gX94_quadrant0_0 a0 M T n_a0 h
