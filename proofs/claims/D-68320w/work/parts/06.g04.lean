/-! functions without guards, printed by gen/gg.py -/
set_option maxRecDepth 100000
noncomputable def GX46_illegal_24 (s0 : Nat) (s1 : Int32) (s2 : Int64) (s3 : Int64) (M : FM) : Int32 × FM :=
  let r1 : Int32 × FM := GX46_raise s0 s1 (s2 &&& s3) M
  (r1.1, r1.2)
theorem gX46_illegal_24 (s0 : Nat) (s1 : Int32) (s2 : Int64) (s3 : Int64) (M : FM) (T : Ty M) (n_s0 : fm_is M 75 75 s0 = true) : gd (FX46_illegal_24 s0 s1 s2 s3 M) (GX46_illegal_24 s0 s1 s2 s3 M) (OkZ M) := by
  delta FX46_illegal_24 BX46_illegal_24
  refine gd_c n_s0 ?_
  refine gd_b (gX46_raise _ _ _ _ ⟨T.1, T.2⟩ n_s0 ) (fun K0 => ?_)
  exact gd_z K0.2.2 ⟨K0.1.1, K0.1.2⟩ K0.2.1 rfl
noncomputable def GX46_illegal_0 (a0 : Nat) (M : FM) : Int32 × FM :=
  fi ((M.1 221 a0 0) = (Int32.ofInt 2)) (
    GX46_illegal_24 a0 (Int32.ofInt 2) ((M.1 220 a0 0).toInt64) (Int64.ofInt 65535) M) (
    GX46_illegal_24 a0 (Int32.ofInt 2) ((M.1 220 a0 0).toInt64) (Int64.ofInt 4294967295) M)
theorem gX46_illegal_0 (a0 : Nat) (M : FM) (T : Ty M) (n_a0 : fm_is M 75 75 a0 = true) : gd (FX46_illegal_0 a0 M) (GX46_illegal_0 a0 M) (OkZ M) := by
  delta FX46_illegal_0 BX46_illegal_0
  refine gd_c n_a0 ?_
  refine gd_c n_a0 ?_
  refine gd_fi (fun c0_0 => ?_) (fun c0_0 => ?_)
  · exact gd_tZ (ext_r _) (gX46_illegal_24 _ _ _ _ _ ⟨T.1, T.2⟩ n_a0 )
  · exact gd_tZ (ext_r _) (gX46_illegal_24 _ _ _ _ _ ⟨T.1, T.2⟩ n_a0 )
noncomputable def GX46_illegal (a0 : Nat) (M : FM) : Int32 × FM := GX46_illegal_0 a0 M
theorem gX46_illegal (a0 : Nat) (M : FM) (T : Ty M) (n_a0 : fm_is M 75 75 a0 = true) : gd (FX46_illegal a0 M) (GX46_illegal a0 M) (OkZ M) := gX46_illegal_0 a0 M T n_a0 
noncomputable def GX105_bits_0 (a0 : Int32) (a1 : Int32) (a2 : Int32) (M : FM) : Int32 × FM :=
  (((a0 <<< (((Int32.ofInt 31) - a1) &&& 31)).toUInt32 >>> ((((Int32.ofInt 31) - a1) + a2).toUInt32 &&& Int32.toUInt32 31)).toInt32, M)
theorem gX105_bits_0 (a0 : Int32) (a1 : Int32) (a2 : Int32) (M : FM) (T : Ty M) : gd (FX105_bits_0 a0 a1 a2 M) (GX105_bits_0 a0 a1 a2 M) (OkR M) := by
  delta FX105_bits_0 BX105_bits_0
  exact ⟨rfl, ⟨T.1, T.2⟩, (ext_r _)⟩
noncomputable def GX105_bits (a0 : Int32) (a1 : Int32) (a2 : Int32) (M : FM) : Int32 × FM := GX105_bits_0 a0 a1 a2 M
theorem gX105_bits (a0 : Int32) (a1 : Int32) (a2 : Int32) (M : FM) (T : Ty M) : gd (FX105_bits a0 a1 a2 M) (GX105_bits a0 a1 a2 M) (OkR M) := gX105_bits_0 a0 a1 a2 M T 
noncomputable def GX49_access_38 (s0 : Nat) (M : FM) : Nat × FM :=
  (s0, M)
theorem gX49_access_38 (s0 : Nat) (M : FM) (T : Ty M) (n_s0 : fm_is M 53 60 s0 = true) : gd (FX49_access_38 s0 M) (GX49_access_38 s0 M) (OkN 53 60 M) := by
  delta FX49_access_38 BX49_access_38
  exact ⟨rfl, ⟨T.1, T.2⟩, (ext_r _), n_s0⟩
noncomputable def GX49_access_0 (a0 : Nat) (a1 : Nat) (a2 : Int32) (a3 : Int32) (a4 : Int64) (a6 : Int32) (a7 : Int32) (M : FM) : Nat × FM :=
  let M1 : FM := fm_sI M 158 a1 0 a3
  let M2 : FM := fm_sL M1 154 a1 0 a4
  let M3 : FM := fm_sI M2 159 a1 0 a6
  let M4 : FM := fm_sI M3 160 a1 0 a7
  fi (a2 = 0) (
    GX49_access_38 (M4.2.2 161 a0 0) M4) (
    GX49_access_38 (M4.2.2 169 a0 0) M4)
theorem gX49_access_0 (a0 : Nat) (a1 : Nat) (a2 : Int32) (a3 : Int32) (a4 : Int64) (a6 : Int32) (a7 : Int32) (M : FM) (T : Ty M) (n_a1 : fm_is M 61 61 a1 = true) (n_a0 : fm_is M 62 62 a0 = true) : gd (FX49_access_0 a0 a1 a2 a3 a4 a6 a7 M) (GX49_access_0 a0 a1 a2 a3 a4 a6 a7 M) (OkN 53 60 M) := by
  delta FX49_access_0 BX49_access_0
  refine gd_c n_a1 ?_
  refine gd_c n_a1 ?_
  refine gd_c n_a1 ?_
  refine gd_c n_a1 ?_
  refine gd_fi (fun c0_0 => ?_) (fun c0_0 => ?_)
  · refine gd_c n_a0 ?_
    have f1 := (tN_161 T.1 n_a0)
    exact gd_tN (ext_dI (ext_dL (ext_dI (ext_dI (ext_r _))))) (gX49_access_38 _ _ ⟨T.1, (tyb_sI (f := 160) rfl (tyb_sI (f := 159) rfl (tyb_sI (f := 158) rfl T.2)))⟩ f1 )
  · refine gd_c n_a0 ?_
    have f2 := (tN_169 T.1 n_a0)
    exact gd_tN (ext_dI (ext_dL (ext_dI (ext_dI (ext_r _))))) (gX49_access_38 _ _ ⟨T.1, (tyb_sI (f := 160) rfl (tyb_sI (f := 159) rfl (tyb_sI (f := 158) rfl T.2)))⟩ f2 )
noncomputable def GX49_access (a0 : Nat) (a1 : Nat) (a2 : Int32) (a3 : Int32) (a4 : Int64) (a6 : Int32) (a7 : Int32) (M : FM) : Nat × FM := GX49_access_0 a0 a1 a2 a3 a4 a6 a7 M
theorem gX49_access (a0 : Nat) (a1 : Nat) (a2 : Int32) (a3 : Int32) (a4 : Int64) (a6 : Int32) (a7 : Int32) (M : FM) (T : Ty M) (n_a1 : fm_is M 61 61 a1 = true) (n_a0 : fm_is M 62 62 a0 = true) : gd (FX49_access a0 a1 a2 a3 a4 a6 a7 M) (GX49_access a0 a1 a2 a3 a4 a6 a7 M) (OkN 53 60 M) := gX49_access_0 a0 a1 a2 a3 a4 a6 a7 M T n_a1 n_a0 
noncomputable def GX49_atomic_50 (a0 : Nat) (a1 : Nat) (a2 : Int32) (a3 : Int32) (s0 : Int32) (M : FM) : Nat × FM :=
  let r1 : Nat × FM := GX49_access a0 a1 s0 (Int32.ofInt 4) (Int64.ofInt 0) ((Int32.ofInt 1) <<< (a2 &&& 31)) a3 M
  (r1.1, r1.2)
theorem gX49_atomic_50 (a0 : Nat) (a1 : Nat) (a2 : Int32) (a3 : Int32) (s0 : Int32) (M : FM) (T : Ty M) (n_a0 : fm_is M 62 62 a0 = true) (n_a1 : fm_is M 61 61 a1 = true) : gd (FX49_atomic_50 a0 a1 a2 a3 s0 M) (GX49_atomic_50 a0 a1 a2 a3 s0 M) (OkN 53 60 M) := by
  delta FX49_atomic_50 BX49_atomic_50
  refine gd_c n_a0 ?_
  refine gd_b (gX49_access _ _ _ _ _ _ _ _ ⟨T.1, T.2⟩ n_a1 n_a0 ) (fun K0 => ?_)
  exact ⟨rfl, ⟨K0.1.1, K0.1.2⟩, K0.2.1, K0.2.2⟩
noncomputable def GX49_atomic_49 (a0 : Nat) (a1 : Nat) (a2 : Int32) (a3 : Int32) (M : FM) : Nat × FM :=
  GX49_atomic_50 a0 a1 a2 a3 (Int32.ofInt 0) M
theorem gX49_atomic_49 (a0 : Nat) (a1 : Nat) (a2 : Int32) (a3 : Int32) (M : FM) (T : Ty M) (n_a0 : fm_is M 62 62 a0 = true) (n_a1 : fm_is M 61 61 a1 = true) : gd (FX49_atomic_49 a0 a1 a2 a3 M) (GX49_atomic_49 a0 a1 a2 a3 M) (OkN 53 60 M) := by
  delta FX49_atomic_49 BX49_atomic_49
  exact gd_tN (ext_r _) (gX49_atomic_50 _ _ _ _ _ _ ⟨T.1, T.2⟩ n_a0 n_a1 )
noncomputable def GX49_atomic_45 (a0 : Nat) (a1 : Nat) (a2 : Int32) (a3 : Int32) (M : FM) : Nat × FM :=
  GX49_atomic_50 a0 a1 a2 a3 (Int32.ofInt 1) M
theorem gX49_atomic_45 (a0 : Nat) (a1 : Nat) (a2 : Int32) (a3 : Int32) (M : FM) (T : Ty M) (n_a0 : fm_is M 62 62 a0 = true) (n_a1 : fm_is M 61 61 a1 = true) : gd (FX49_atomic_45 a0 a1 a2 a3 M) (GX49_atomic_45 a0 a1 a2 a3 M) (OkN 53 60 M) := by
  delta FX49_atomic_45 BX49_atomic_45
  exact gd_tN (ext_r _) (gX49_atomic_50 _ _ _ _ _ _ ⟨T.1, T.2⟩ n_a0 n_a1 )
noncomputable def GX49_atomic_33 (a0 : Nat) (a1 : Nat) (a2 : Int32) (a3 : Int32) (M : FM) : Nat × FM :=
  fi (a3 = (Int32.ofInt 2)) (
    fi ((M.1 153 a1 0) = 0) (
      GX49_atomic_45 a0 a1 a2 a3 M) (
      GX49_atomic_49 a0 a1 a2 a3 M)) (
    GX49_atomic_45 a0 a1 a2 a3 M)
theorem gX49_atomic_33 (a0 : Nat) (a1 : Nat) (a2 : Int32) (a3 : Int32) (M : FM) (T : Ty M) (n_a1 : fm_is M 61 61 a1 = true) (n_a0 : fm_is M 62 62 a0 = true) : gd (FX49_atomic_33 a0 a1 a2 a3 M) (GX49_atomic_33 a0 a1 a2 a3 M) (OkN 53 60 M) := by
  delta FX49_atomic_33 BX49_atomic_33
  refine gd_fi (fun c0_0 => ?_) (fun c0_0 => ?_)
  · refine gd_c n_a1 ?_
    refine gd_fi (fun c1_0 => ?_) (fun c1_0 => ?_)
    · exact gd_tN (ext_r _) (gX49_atomic_45 _ _ _ _ _ ⟨T.1, T.2⟩ n_a0 n_a1 )
    · exact gd_tN (ext_r _) (gX49_atomic_49 _ _ _ _ _ ⟨T.1, T.2⟩ n_a0 n_a1 )
  · exact gd_tN (ext_r _) (gX49_atomic_45 _ _ _ _ _ ⟨T.1, T.2⟩ n_a0 n_a1 )
noncomputable def GX49_atomic_22 (a0 : Nat) (a1 : Nat) (a2 : Int32) (a3 : Int32) (M : FM) : Nat × FM :=
  fi (a3 < (Int32.ofInt 4)) (
    GX49_atomic_33 a0 a1 a2 a3 M) (
    fi ((a3 &&& (Int32.ofInt 3)) = 0) (
      GX49_atomic_33 a0 a1 a2 a3 M) (
      GX49_atomic_49 a0 a1 a2 a3 M))
theorem gX49_atomic_22 (a0 : Nat) (a1 : Nat) (a2 : Int32) (a3 : Int32) (M : FM) (T : Ty M) (n_a1 : fm_is M 61 61 a1 = true) (n_a0 : fm_is M 62 62 a0 = true) : gd (FX49_atomic_22 a0 a1 a2 a3 M) (GX49_atomic_22 a0 a1 a2 a3 M) (OkN 53 60 M) := by
  delta FX49_atomic_22 BX49_atomic_22
  refine gd_fi (fun c0_0 => ?_) (fun c0_0 => ?_)
  · exact gd_tN (ext_r _) (gX49_atomic_33 _ _ _ _ _ ⟨T.1, T.2⟩ n_a1 n_a0 )
  · refine gd_fi (fun c1_0 => ?_) (fun c1_0 => ?_)
    · exact gd_tN (ext_r _) (gX49_atomic_33 _ _ _ _ _ ⟨T.1, T.2⟩ n_a1 n_a0 )
    · exact gd_tN (ext_r _) (gX49_atomic_49 _ _ _ _ _ ⟨T.1, T.2⟩ n_a0 n_a1 )
noncomputable def GX49_atomic_0 (a0 : Nat) (a1 : Nat) (a2 : Int32) (M : FM) : Nat × FM :=
  let r1 : Int32 × FM := GX105_bits (M.1 150 a1 0) (Int32.ofInt 31) (Int32.ofInt 27) M
  fi (a2 = (Int32.ofInt 2)) (
    GX49_atomic_22 a0 a1 a2 r1.1 r1.2) (
    fi (a2 = (Int32.ofInt 3)) (
      GX49_atomic_22 a0 a1 a2 r1.1 r1.2) (
      GX49_atomic_49 a0 a1 a2 r1.1 r1.2))
theorem gX49_atomic_0 (a0 : Nat) (a1 : Nat) (a2 : Int32) (M : FM) (T : Ty M) (n_a1 : fm_is M 61 61 a1 = true) (n_a0 : fm_is M 62 62 a0 = true) : gd (FX49_atomic_0 a0 a1 a2 M) (GX49_atomic_0 a0 a1 a2 M) (OkN 53 60 M) := by
  delta FX49_atomic_0 BX49_atomic_0
  refine gd_c n_a1 ?_
  refine gd_b (gX105_bits _ _ _ _ ⟨T.1, T.2⟩  ) (fun K0 => ?_)
  refine gd_fi (fun c1_0 => ?_) (fun c1_0 => ?_)
  · have f2 := (ext_is K0.2 (Nat.zero_lt_succ _) n_a1)
    have f3 := (ext_is K0.2 (Nat.zero_lt_succ _) n_a0)
    exact gd_tN K0.2 (gX49_atomic_22 _ _ _ _ _ ⟨K0.1.1, K0.1.2⟩ f2 f3 )
  · refine gd_fi (fun c4_0 => ?_) (fun c4_0 => ?_)
    · have f5 := (ext_is K0.2 (Nat.zero_lt_succ _) n_a1)
      have f6 := (ext_is K0.2 (Nat.zero_lt_succ _) n_a0)
      exact gd_tN K0.2 (gX49_atomic_22 _ _ _ _ _ ⟨K0.1.1, K0.1.2⟩ f5 f6 )
    · have f7 := (ext_is K0.2 (Nat.zero_lt_succ _) n_a0)
      have f8 := (ext_is K0.2 (Nat.zero_lt_succ _) n_a1)
      exact gd_tN K0.2 (gX49_atomic_49 _ _ _ _ _ ⟨K0.1.1, K0.1.2⟩ f7 f8 )
noncomputable def GX49_atomic (a0 : Nat) (a1 : Nat) (a2 : Int32) (M : FM) : Nat × FM := GX49_atomic_0 a0 a1 a2 M
theorem gX49_atomic (a0 : Nat) (a1 : Nat) (a2 : Int32) (M : FM) (T : Ty M) (n_a1 : fm_is M 61 61 a1 = true) (n_a0 : fm_is M 62 62 a0 = true) : gd (FX49_atomic a0 a1 a2 M) (GX49_atomic a0 a1 a2 M) (OkN 53 60 M) := gX49_atomic_0 a0 a1 a2 M T n_a1 n_a0 
noncomputable def GX105_immediateB_0 (a0 : Int32) (M : FM) : Int64 × FM :=
  let r1 : Int32 × FM := GX105_bits a0 (Int32.ofInt 7) (Int32.ofInt 7) M
  let r2 : Int32 × FM := GX105_bits a0 (Int32.ofInt 30) (Int32.ofInt 25) r1.2
  let r3 : Int32 × FM := GX105_bits a0 (Int32.ofInt 11) (Int32.ofInt 8) r2.2
  ((((((a0 >>> ((Int32.ofInt 31) &&& 31)) <<< ((Int32.ofInt 12) &&& 31)) ||| (r1.1 <<< ((Int32.ofInt 11) &&& 31))) ||| (r2.1 <<< ((Int32.ofInt 5) &&& 31))) ||| (r3.1 <<< ((Int32.ofInt 1) &&& 31))).toInt64, r3.2)
theorem gX105_immediateB_0 (a0 : Int32) (M : FM) (T : Ty M) : gd (FX105_immediateB_0 a0 M) (GX105_immediateB_0 a0 M) (OkR M) := by
  delta FX105_immediateB_0 BX105_immediateB_0
  refine gd_b (gX105_bits _ _ _ _ ⟨T.1, T.2⟩  ) (fun K0 => ?_)
  refine gd_b (gX105_bits _ _ _ _ ⟨K0.1.1, K0.1.2⟩  ) (fun K1 => ?_)
  refine gd_b (gX105_bits _ _ _ _ ⟨K1.1.1, K1.1.2⟩  ) (fun K2 => ?_)
  exact ⟨rfl, ⟨K2.1.1, K2.1.2⟩, (ext_tr K0.2 (ext_tr K1.2 K2.2))⟩
noncomputable def GX105_immediateB (a0 : Int32) (M : FM) : Int64 × FM := GX105_immediateB_0 a0 M
theorem gX105_immediateB (a0 : Int32) (M : FM) (T : Ty M) : gd (FX105_immediateB a0 M) (GX105_immediateB a0 M) (OkR M) := gX105_immediateB_0 a0 M T 
noncomputable def GX49_branch_37 (s0 : Nat) (M : FM) : Nat × FM :=
  (s0, M)
theorem gX49_branch_37 (s0 : Nat) (M : FM) (T : Ty M) (n_s0 : fm_is M 53 60 s0 = true) : gd (FX49_branch_37 s0 M) (GX49_branch_37 s0 M) (OkN 53 60 M) := by
  delta FX49_branch_37 BX49_branch_37
  exact ⟨rfl, ⟨T.1, T.2⟩, (ext_r _), n_s0⟩
noncomputable def GX49_branch_26 (a0 : Nat) (M : FM) : Nat × FM :=
  GX49_branch_37 (M.2.2 161 a0 0) M
theorem gX49_branch_26 (a0 : Nat) (M : FM) (T : Ty M) (n_a0 : fm_is M 62 62 a0 = true) : gd (FX49_branch_26 a0 M) (GX49_branch_26 a0 M) (OkN 53 60 M) := by
  delta FX49_branch_26 BX49_branch_26
  refine gd_c n_a0 ?_
  have f0 := (tN_161 T.1 n_a0)
  exact gd_tN (ext_r _) (gX49_branch_37 _ _ ⟨T.1, T.2⟩ f0 )
noncomputable def GX49_branch_0 (a0 : Nat) (a1 : Nat) (a2 : Int32) (M : FM) : Nat × FM :=
  let r1 : Int64 × FM := GX105_immediateB (M.1 150 a1 0) M
  let M2 : FM := fm_sL r1.2 154 a1 0 r1.1
  let M3 : FM := fm_sI M2 160 a1 0 a2
  fi (a2 = (Int32.ofInt 2)) (
    GX49_branch_26 a0 M3) (
    fi (a2 = (Int32.ofInt 3)) (
      GX49_branch_26 a0 M3) (
      GX49_branch_37 (M3.2.2 167 a0 0) M3))
theorem gX49_branch_0 (a0 : Nat) (a1 : Nat) (a2 : Int32) (M : FM) (T : Ty M) (n_a1 : fm_is M 61 61 a1 = true) (n_a0 : fm_is M 62 62 a0 = true) : gd (FX49_branch_0 a0 a1 a2 M) (GX49_branch_0 a0 a1 a2 M) (OkN 53 60 M) := by
  delta FX49_branch_0 BX49_branch_0
  refine gd_c n_a1 ?_
  refine gd_b (gX105_immediateB _ _ ⟨T.1, T.2⟩  ) (fun K0 => ?_)
  have f1 := (ext_is K0.2 (Nat.zero_lt_succ _) n_a1)
  refine gd_c f1 ?_
  have f2 := (ext_is K0.2 (Nat.zero_lt_succ _) n_a1)
  refine gd_c f2 ?_
  refine gd_fi (fun c3_0 => ?_) (fun c3_0 => ?_)
  · have f4 := (ext_is K0.2 (Nat.zero_lt_succ _) n_a0)
    exact gd_tN (ext_tr K0.2 (ext_dL (ext_dI (ext_r _)))) (gX49_branch_26 _ _ ⟨K0.1.1, (tyb_sI (f := 160) rfl K0.1.2)⟩ f4 )
  · refine gd_fi (fun c5_0 => ?_) (fun c5_0 => ?_)
    · have f6 := (ext_is K0.2 (Nat.zero_lt_succ _) n_a0)
      exact gd_tN (ext_tr K0.2 (ext_dL (ext_dI (ext_r _)))) (gX49_branch_26 _ _ ⟨K0.1.1, (tyb_sI (f := 160) rfl K0.1.2)⟩ f6 )
    · have f7 := (ext_is K0.2 (Nat.zero_lt_succ _) n_a0)
      refine gd_c f7 ?_
      have f8 := (tN_167 K0.1.1 (ext_is K0.2 (Nat.zero_lt_succ _) n_a0))
      exact gd_tN (ext_tr K0.2 (ext_dL (ext_dI (ext_r _)))) (gX49_branch_37 _ _ ⟨K0.1.1, (tyb_sI (f := 160) rfl K0.1.2)⟩ f8 )
noncomputable def GX49_branch (a0 : Nat) (a1 : Nat) (a2 : Int32) (M : FM) : Nat × FM := GX49_branch_0 a0 a1 a2 M
theorem gX49_branch (a0 : Nat) (a1 : Nat) (a2 : Int32) (M : FM) (T : Ty M) (n_a1 : fm_is M 61 61 a1 = true) (n_a0 : fm_is M 62 62 a0 = true) : gd (FX49_branch a0 a1 a2 M) (GX49_branch a0 a1 a2 M) (OkN 53 60 M) := gX49_branch_0 a0 a1 a2 M T n_a1 n_a0 
noncomputable def GX49_plain_0 (a0 : Int32) (M : FM) : Nat × FM :=
  fi (a0 = (Int32.ofInt 0)) (
    (15, M)) (
    fi (a0 = (Int32.ofInt 1)) (
      (17, M)) (
      fi (a0 = (Int32.ofInt 2)) (
        (18, M)) (
        fi (a0 = (Int32.ofInt 3)) (
          (19, M)) (
          fi (a0 = (Int32.ofInt 4)) (
            (20, M)) (
            fi (a0 = (Int32.ofInt 5)) (
              (21, M)) (
              fi (a0 = (Int32.ofInt 6)) (
                (23, M)) (
                (24, M))))))))
theorem gX49_plain_0 (a0 : Int32) (M : FM) (T : Ty M) : gd (FX49_plain_0 a0 M) (GX49_plain_0 a0 M) (OkN 4 4 M) := by
  delta FX49_plain_0 BX49_plain_0
  refine gd_fi (fun c0_0 => ?_) (fun c0_0 => ?_)
  · have f1 := (tC_15 T.1)
    exact ⟨rfl, ⟨T.1, T.2⟩, (ext_r _), f1⟩
  · refine gd_fi (fun c2_1 => ?_) (fun c2_1 => ?_)
    · have f3 := (tC_17 T.1)
      exact ⟨rfl, ⟨T.1, T.2⟩, (ext_r _), f3⟩
    · refine gd_fi (fun c4_2 => ?_) (fun c4_2 => ?_)
      · have f5 := (tC_18 T.1)
        exact ⟨rfl, ⟨T.1, T.2⟩, (ext_r _), f5⟩
      · refine gd_fi (fun c6_3 => ?_) (fun c6_3 => ?_)
        · have f7 := (tC_19 T.1)
          exact ⟨rfl, ⟨T.1, T.2⟩, (ext_r _), f7⟩
        · refine gd_fi (fun c8_4 => ?_) (fun c8_4 => ?_)
          · have f9 := (tC_20 T.1)
            exact ⟨rfl, ⟨T.1, T.2⟩, (ext_r _), f9⟩
          · refine gd_fi (fun c10_5 => ?_) (fun c10_5 => ?_)
            · have f11 := (tC_21 T.1)
              exact ⟨rfl, ⟨T.1, T.2⟩, (ext_r _), f11⟩
            · refine gd_fi (fun c12_6 => ?_) (fun c12_6 => ?_)
              · have f13 := (tC_23 T.1)
                exact ⟨rfl, ⟨T.1, T.2⟩, (ext_r _), f13⟩
              · have f14 := (tC_24 T.1)
                exact ⟨rfl, ⟨T.1, T.2⟩, (ext_r _), f14⟩
noncomputable def GX49_plain (a0 : Int32) (M : FM) : Nat × FM := GX49_plain_0 a0 M
theorem gX49_plain (a0 : Int32) (M : FM) (T : Ty M) : gd (FX49_plain a0 M) (GX49_plain a0 M) (OkN 4 4 M) := gX49_plain_0 a0 M T 
noncomputable def GX105_immediateI_0 (a0 : Int32) (M : FM) : Int64 × FM :=
  ((a0 >>> ((Int32.ofInt 20) &&& 31)).toInt64, M)
theorem gX105_immediateI_0 (a0 : Int32) (M : FM) (T : Ty M) : gd (FX105_immediateI_0 a0 M) (GX105_immediateI_0 a0 M) (OkR M) := by
  delta FX105_immediateI_0 BX105_immediateI_0
  exact ⟨rfl, ⟨T.1, T.2⟩, (ext_r _)⟩
noncomputable def GX105_immediateI (a0 : Int32) (M : FM) : Int64 × FM := GX105_immediateI_0 a0 M
theorem gX105_immediateI (a0 : Int32) (M : FM) (T : Ty M) : gd (FX105_immediateI a0 M) (GX105_immediateI a0 M) (OkR M) := gX105_immediateI_0 a0 M T 
noncomputable def GX49_compute_37 (s0 : Nat) (M : FM) : Nat × FM :=
  (s0, M)
theorem gX49_compute_37 (s0 : Nat) (M : FM) (T : Ty M) (n_s0 : fm_is M 53 60 s0 = true) : gd (FX49_compute_37 s0 M) (GX49_compute_37 s0 M) (OkN 53 60 M) := by
  delta FX49_compute_37 BX49_compute_37
  exact ⟨rfl, ⟨T.1, T.2⟩, (ext_r _), n_s0⟩
noncomputable def GX49_compute_0 (a0 : Nat) (a1 : Nat) (a2 : Nat) (a3 : Int32) (a4 : Int32) (a5 : Int64) (M : FM) : Nat × FM :=
  let M1 : FM := fm_sR M 155 a1 0 a2
  let M2 : FM := fm_sI M1 156 a1 0 a3
  let M3 : FM := fm_sI M2 157 a1 0 a4
  let M4 : FM := fm_sL M3 154 a1 0 a5
  fi (a2 = 0) (
    GX49_compute_37 (M4.2.2 161 a0 0) M4) (
    GX49_compute_37 (M4.2.2 168 a0 0) M4)
theorem gX49_compute_0 (a0 : Nat) (a1 : Nat) (a2 : Nat) (a3 : Int32) (a4 : Int32) (a5 : Int64) (M : FM) (T : Ty M) (n_a1 : fm_is M 61 61 a1 = true) (q_a2 : a2 ≠ 0 → fm_is M 4 4 a2 = true) (z_a3 : a3 = 0 ∨ a3 = 1) (z_a4 : a4 = 0 ∨ a4 = 1) (n_a0 : fm_is M 62 62 a0 = true) : gd (FX49_compute_0 a0 a1 a2 a3 a4 a5 M) (GX49_compute_0 a0 a1 a2 a3 a4 a5 M) (OkN 53 60 M) := by
  delta FX49_compute_0 BX49_compute_0
  refine gd_c n_a1 ?_
  have TR0 : TyR (fm_sR M 155 a1 0 a2).2.2 := (tS_155 T.1 (fun h => (q_a2 h)))
  have BR0 : TyB (fm_sR M 155 a1 0 a2) := (tyb_sR (f := 155) (by decide) T.2)
  refine gd_c n_a1 ?_
  refine gd_c z_a3 ?_
  refine gd_c n_a1 ?_
  refine gd_c z_a4 ?_
  refine gd_c n_a1 ?_
  refine gd_fi (fun c1_0 => ?_) (fun c1_0 => ?_)
  · refine gd_c n_a0 ?_
    have f2 := (tN_161 TR0 n_a0)
    exact gd_tN (ext_dR (by decide) (ext_dI (ext_dI (ext_dL (ext_r _))))) (gX49_compute_37 _ _ ⟨TR0, (tyb_sIb (f := 157) rfl (tyb_sIb (f := 156) rfl BR0 z_a3) z_a4)⟩ f2 )
  · refine gd_c n_a0 ?_
    have f3 := (tN_168 TR0 n_a0)
    exact gd_tN (ext_dR (by decide) (ext_dI (ext_dI (ext_dL (ext_r _))))) (gX49_compute_37 _ _ ⟨TR0, (tyb_sIb (f := 157) rfl (tyb_sIb (f := 156) rfl BR0 z_a3) z_a4)⟩ f3 )
noncomputable def GX49_compute (a0 : Nat) (a1 : Nat) (a2 : Nat) (a3 : Int32) (a4 : Int32) (a5 : Int64) (M : FM) : Nat × FM := GX49_compute_0 a0 a1 a2 a3 a4 a5 M
theorem gX49_compute (a0 : Nat) (a1 : Nat) (a2 : Nat) (a3 : Int32) (a4 : Int32) (a5 : Int64) (M : FM) (T : Ty M) (n_a1 : fm_is M 61 61 a1 = true) (q_a2 : a2 ≠ 0 → fm_is M 4 4 a2 = true) (z_a3 : a3 = 0 ∨ a3 = 1) (z_a4 : a4 = 0 ∨ a4 = 1) (n_a0 : fm_is M 62 62 a0 = true) : gd (FX49_compute a0 a1 a2 a3 a4 a5 M) (GX49_compute a0 a1 a2 a3 a4 a5 M) (OkN 53 60 M) := gX49_compute_0 a0 a1 a2 a3 a4 a5 M T n_a1 q_a2 z_a3 z_a4 n_a0 
noncomputable def GX49_product_0 (a0 : Int32) (M : FM) : Nat × FM :=
  fi (a0 = (Int32.ofInt 0)) (
    (25, M)) (
    fi (a0 = (Int32.ofInt 1)) (
      (26, M)) (
      fi (a0 = (Int32.ofInt 2)) (
        (27, M)) (
        fi (a0 = (Int32.ofInt 3)) (
          (28, M)) (
          fi (a0 = (Int32.ofInt 4)) (
            (29, M)) (
            fi (a0 = (Int32.ofInt 5)) (
              (30, M)) (
              fi (a0 = (Int32.ofInt 6)) (
                (31, M)) (
                (32, M))))))))
theorem gX49_product_0 (a0 : Int32) (M : FM) (T : Ty M) : gd (FX49_product_0 a0 M) (GX49_product_0 a0 M) (OkN 4 4 M) := by
  delta FX49_product_0 BX49_product_0
  refine gd_fi (fun c0_0 => ?_) (fun c0_0 => ?_)
  · have f1 := (tC_25 T.1)
    exact ⟨rfl, ⟨T.1, T.2⟩, (ext_r _), f1⟩
  · refine gd_fi (fun c2_1 => ?_) (fun c2_1 => ?_)
    · have f3 := (tC_26 T.1)
      exact ⟨rfl, ⟨T.1, T.2⟩, (ext_r _), f3⟩
    · refine gd_fi (fun c4_2 => ?_) (fun c4_2 => ?_)
      · have f5 := (tC_27 T.1)
        exact ⟨rfl, ⟨T.1, T.2⟩, (ext_r _), f5⟩
      · refine gd_fi (fun c6_3 => ?_) (fun c6_3 => ?_)
        · have f7 := (tC_28 T.1)
          exact ⟨rfl, ⟨T.1, T.2⟩, (ext_r _), f7⟩
        · refine gd_fi (fun c8_4 => ?_) (fun c8_4 => ?_)
          · have f9 := (tC_29 T.1)
            exact ⟨rfl, ⟨T.1, T.2⟩, (ext_r _), f9⟩
          · refine gd_fi (fun c10_5 => ?_) (fun c10_5 => ?_)
            · have f11 := (tC_30 T.1)
              exact ⟨rfl, ⟨T.1, T.2⟩, (ext_r _), f11⟩
            · refine gd_fi (fun c12_6 => ?_) (fun c12_6 => ?_)
              · have f13 := (tC_31 T.1)
                exact ⟨rfl, ⟨T.1, T.2⟩, (ext_r _), f13⟩
              · have f14 := (tC_32 T.1)
                exact ⟨rfl, ⟨T.1, T.2⟩, (ext_r _), f14⟩
noncomputable def GX49_product (a0 : Int32) (M : FM) : Nat × FM := GX49_product_0 a0 M
theorem gX49_product (a0 : Int32) (M : FM) (T : Ty M) : gd (FX49_product a0 M) (GX49_product a0 M) (OkN 4 4 M) := gX49_product_0 a0 M T 
noncomputable def GX49_byField_53 (s0 : Nat) (M : FM) : Nat × FM :=
  (s0, M)
theorem gX49_byField_53 (s0 : Nat) (M : FM) (T : Ty M) : gd (FX49_byField_53 s0 M) (GX49_byField_53 s0 M) (OkR M) := by
  delta FX49_byField_53 BX49_byField_53
  exact ⟨rfl, ⟨T.1, T.2⟩, (ext_r _)⟩
noncomputable def GX49_byField_52 (M : FM) : Nat × FM :=
  GX49_byField_53 0 M
theorem gX49_byField_52 (M : FM) (T : Ty M) : gd (FX49_byField_52 M) (GX49_byField_52 M) (OkR M) := by
  delta FX49_byField_52 BX49_byField_52
  exact gd_tR (ext_r _) (gX49_byField_53 _ _ ⟨T.1, T.2⟩  )
noncomputable def GX49_byField_35 (a0 : Int32) (a1 : Int32) (M : FM) : Nat × FM :=
  fi (a1 = (Int32.ofInt 32)) (
    fi (a0 = (Int32.ofInt 5)) (
      GX49_byField_53 22 M) (
      GX49_byField_52 M)) (
    GX49_byField_52 M)
theorem gX49_byField_35 (a0 : Int32) (a1 : Int32) (M : FM) (T : Ty M) : gd (FX49_byField_35 a0 a1 M) (GX49_byField_35 a0 a1 M) (OkR M) := by
  delta FX49_byField_35 BX49_byField_35
  refine gd_fi (fun c0_0 => ?_) (fun c0_0 => ?_)
  · refine gd_fi (fun c1_0 => ?_) (fun c1_0 => ?_)
    · exact gd_tR (ext_r _) (gX49_byField_53 _ _ ⟨T.1, T.2⟩  )
    · exact gd_tR (ext_r _) (gX49_byField_52  _ ⟨T.1, T.2⟩  )
  · exact gd_tR (ext_r _) (gX49_byField_52  _ ⟨T.1, T.2⟩  )
noncomputable def GX49_byField_0 (a0 : Int32) (a1 : Int32) (M : FM) : Nat × FM :=
  fi (a1 = 0) (
    let r1 : Nat × FM := GX49_plain a0 M
    (r1.1, r1.2)) (
    fi (a1 = (Int32.ofInt 1)) (
      let r2 : Nat × FM := GX49_product a0 M
      (r2.1, r2.2)) (
      fi (a1 = (Int32.ofInt 32)) (
        fi (a0 = 0) (
          GX49_byField_53 16 M) (
          GX49_byField_35 a0 a1 M)) (
        GX49_byField_35 a0 a1 M)))
theorem gX49_byField_0 (a0 : Int32) (a1 : Int32) (M : FM) (T : Ty M) : gd (FX49_byField_0 a0 a1 M) (GX49_byField_0 a0 a1 M) (OkR M) := by
  delta FX49_byField_0 BX49_byField_0
  refine gd_fi (fun c0_0 => ?_) (fun c0_0 => ?_)
  · refine gd_b (gX49_plain _ _ ⟨T.1, T.2⟩  ) (fun K1 => ?_)
    exact ⟨rfl, ⟨K1.1.1, K1.1.2⟩, K1.2.1⟩
  · refine gd_fi (fun c2_0 => ?_) (fun c2_0 => ?_)
    · refine gd_b (gX49_product _ _ ⟨T.1, T.2⟩  ) (fun K3 => ?_)
      exact ⟨rfl, ⟨K3.1.1, K3.1.2⟩, K3.2.1⟩
    · refine gd_fi (fun c4_0 => ?_) (fun c4_0 => ?_)
      · refine gd_fi (fun c5_0 => ?_) (fun c5_0 => ?_)
        · exact gd_tR (ext_r _) (gX49_byField_53 _ _ ⟨T.1, T.2⟩  )
        · exact gd_tR (ext_r _) (gX49_byField_35 _ _ _ ⟨T.1, T.2⟩  )
      · exact gd_tR (ext_r _) (gX49_byField_35 _ _ _ ⟨T.1, T.2⟩  )
noncomputable def GX49_byField (a0 : Int32) (a1 : Int32) (M : FM) : Nat × FM := GX49_byField_0 a0 a1 M
theorem gX49_byField (a0 : Int32) (a1 : Int32) (M : FM) (T : Ty M) : gd (FX49_byField a0 a1 M) (GX49_byField a0 a1 M) (OkR M) := gX49_byField_0 a0 a1 M T 
noncomputable def GX49_immediate_156 (s0 : Nat) (s1 : Nat) (s2 : Nat) (s3 : Int32) (s4 : Int32) (s5 : Int64) (M : FM) : Nat × FM :=
  let r1 : Nat × FM := GX49_compute s0 s1 s2 s3 s4 s5 M
  (r1.1, r1.2)
def HX49_immediate_156 (s0 : Nat) (s1 : Nat) (s2 : Nat) (s3 : Int32) (s4 : Int32) (s5 : Int64) (M : FM) : Prop := ((s2 ≠ 0 → fm_is M 4 4 s2 = true) ∧ True)
theorem gX49_immediate_156 (s0 : Nat) (s1 : Nat) (s2 : Nat) (s3 : Int32) (s4 : Int32) (s5 : Int64) (M : FM) (T : Ty M) (n_s0 : fm_is M 62 62 s0 = true) (n_s1 : fm_is M 61 61 s1 = true) (z_s3 : s3 = 0 ∨ s3 = 1) (z_s4 : s4 = 0 ∨ s4 = 1) (h : HX49_immediate_156 s0 s1 s2 s3 s4 s5 M) : gd (FX49_immediate_156 s0 s1 s2 s3 s4 s5 M) (GX49_immediate_156 s0 s1 s2 s3 s4 s5 M) (OkN 53 60 M) := by
  delta FX49_immediate_156 BX49_immediate_156
  refine gd_c n_s0 ?_
  refine gd_b (gX49_compute _ _ _ _ _ _ _ ⟨T.1, T.2⟩ n_s1 h.1 z_s3 z_s4 n_s0 ) (fun K0 => ?_)
  exact ⟨rfl, ⟨K0.1.1, K0.1.2⟩, K0.2.1, K0.2.2⟩
noncomputable def GX49_immediate_127 (a3 : Int32) (a4 : Int32) (s0 : Nat) (s1 : Nat) (s2 : Nat) (M : FM) : Nat × FM :=
  fi (a3 = 0) (
    let r1 : Int32 × FM := GX105_bits a4 (Int32.ofInt 25) (Int32.ofInt 20) M
    GX49_immediate_156 s0 s1 s2 (Int32.ofInt 0) a3 r1.1.toInt64 r1.2) (
    let r2 : Int32 × FM := GX105_bits a4 (Int32.ofInt 24) (Int32.ofInt 20) M
    GX49_immediate_156 s0 s1 s2 (Int32.ofInt 0) a3 r2.1.toInt64 r2.2)
def HX49_immediate_127 (a3 : Int32) (a4 : Int32) (s0 : Nat) (s1 : Nat) (s2 : Nat) (M : FM) : Prop := ((a3 = 0 → let r1 : Int32 × FM := GX105_bits a4 (Int32.ofInt 25) (Int32.ofInt 20) M; HX49_immediate_156 s0 s1 s2 (Int32.ofInt 0) a3 r1.1.toInt64 r1.2) ∧ (¬ (a3 = 0) → let r2 : Int32 × FM := GX105_bits a4 (Int32.ofInt 24) (Int32.ofInt 20) M; HX49_immediate_156 s0 s1 s2 (Int32.ofInt 0) a3 r2.1.toInt64 r2.2))
theorem gX49_immediate_127 (a3 : Int32) (a4 : Int32) (s0 : Nat) (s1 : Nat) (s2 : Nat) (M : FM) (T : Ty M) (n_s0 : fm_is M 62 62 s0 = true) (n_s1 : fm_is M 61 61 s1 = true) (z_a3 : a3 = 0 ∨ a3 = 1) (h : HX49_immediate_127 a3 a4 s0 s1 s2 M) : gd (FX49_immediate_127 a3 a4 s0 s1 s2 M) (GX49_immediate_127 a3 a4 s0 s1 s2 M) (OkN 53 60 M) := by
  delta FX49_immediate_127 BX49_immediate_127
  refine gd_fi (fun c0_0 => ?_) (fun c0_0 => ?_)
  · refine gd_b (gX105_bits _ _ _ _ ⟨T.1, T.2⟩  ) (fun K1 => ?_)
    have f2 := (ext_is K1.2 (Nat.zero_lt_succ _) n_s0)
    have f3 := (ext_is K1.2 (Nat.zero_lt_succ _) n_s1)
    exact gd_tN K1.2 (gX49_immediate_156 _ _ _ _ _ _ _ ⟨K1.1.1, K1.1.2⟩ f2 f3 fz_0 z_a3 (h.1 c0_0))
  · refine gd_b (gX105_bits _ _ _ _ ⟨T.1, T.2⟩  ) (fun K4 => ?_)
    have f5 := (ext_is K4.2 (Nat.zero_lt_succ _) n_s0)
    have f6 := (ext_is K4.2 (Nat.zero_lt_succ _) n_s1)
    exact gd_tN K4.2 (gX49_immediate_156 _ _ _ _ _ _ _ ⟨K4.1.1, K4.1.2⟩ f5 f6 fz_0 z_a3 (h.2 c0_0))
noncomputable def GX49_immediate_108 (a0 : Nat) (a1 : Nat) (a2 : Int32) (a3 : Int32) (a4 : Int32) (a6 : Int32) (s0 : Int32) (M : FM) : Nat × FM :=
  fi (s0 = 0) (
    GX49_immediate_127 a3 a4 a0 a1 0 M) (
    let r1 : Nat × FM := GX49_byField a2 a6 M
    GX49_immediate_127 a3 a4 a0 a1 r1.1 r1.2)
def HX49_immediate_108 (a0 : Nat) (a1 : Nat) (a2 : Int32) (a3 : Int32) (a4 : Int32) (a6 : Int32) (s0 : Int32) (M : FM) : Prop := ((s0 = 0 → HX49_immediate_127 a3 a4 a0 a1 0 M) ∧ (¬ (s0 = 0) → let r1 : Nat × FM := GX49_byField a2 a6 M; HX49_immediate_127 a3 a4 a0 a1 r1.1 r1.2))
theorem gX49_immediate_108 (a0 : Nat) (a1 : Nat) (a2 : Int32) (a3 : Int32) (a4 : Int32) (a6 : Int32) (s0 : Int32) (M : FM) (T : Ty M) (n_a0 : fm_is M 62 62 a0 = true) (n_a1 : fm_is M 61 61 a1 = true) (z_a3 : a3 = 0 ∨ a3 = 1) (h : HX49_immediate_108 a0 a1 a2 a3 a4 a6 s0 M) : gd (FX49_immediate_108 a0 a1 a2 a3 a4 a6 s0 M) (GX49_immediate_108 a0 a1 a2 a3 a4 a6 s0 M) (OkN 53 60 M) := by
  delta FX49_immediate_108 BX49_immediate_108
  refine gd_fi (fun c0_0 => ?_) (fun c0_0 => ?_)
  · exact gd_tN (ext_r _) (gX49_immediate_127 _ _ _ _ _ _ ⟨T.1, T.2⟩ n_a0 n_a1 z_a3 (h.1 c0_0))
  · refine gd_b (gX49_byField _ _ _ ⟨T.1, T.2⟩  ) (fun K1 => ?_)
    have f2 := (ext_is K1.2 (Nat.zero_lt_succ _) n_a0)
    have f3 := (ext_is K1.2 (Nat.zero_lt_succ _) n_a1)
    exact gd_tN K1.2 (gX49_immediate_127 _ _ _ _ _ _ ⟨K1.1.1, K1.1.2⟩ f2 f3 z_a3 (h.2 c0_0))
noncomputable def GX49_immediate_107 (a0 : Nat) (a1 : Nat) (a2 : Int32) (a3 : Int32) (a4 : Int32) (a6 : Int32) (M : FM) : Nat × FM :=
  GX49_immediate_108 a0 a1 a2 a3 a4 a6 (Int32.ofInt 0) M
def HX49_immediate_107 (a0 : Nat) (a1 : Nat) (a2 : Int32) (a3 : Int32) (a4 : Int32) (a6 : Int32) (M : FM) : Prop := HX49_immediate_108 a0 a1 a2 a3 a4 a6 (Int32.ofInt 0) M
theorem gX49_immediate_107 (a0 : Nat) (a1 : Nat) (a2 : Int32) (a3 : Int32) (a4 : Int32) (a6 : Int32) (M : FM) (T : Ty M) (n_a0 : fm_is M 62 62 a0 = true) (n_a1 : fm_is M 61 61 a1 = true) (z_a3 : a3 = 0 ∨ a3 = 1) (h : HX49_immediate_107 a0 a1 a2 a3 a4 a6 M) : gd (FX49_immediate_107 a0 a1 a2 a3 a4 a6 M) (GX49_immediate_107 a0 a1 a2 a3 a4 a6 M) (OkN 53 60 M) := by
  delta FX49_immediate_107 BX49_immediate_107
  exact gd_tN (ext_r _) (gX49_immediate_108 _ _ _ _ _ _ _ _ ⟨T.1, T.2⟩ n_a0 n_a1 z_a3 h)
noncomputable def GX49_immediate_103 (a0 : Nat) (a1 : Nat) (a2 : Int32) (a3 : Int32) (a4 : Int32) (a6 : Int32) (M : FM) : Nat × FM :=
  GX49_immediate_108 a0 a1 a2 a3 a4 a6 (Int32.ofInt 1) M
def HX49_immediate_103 (a0 : Nat) (a1 : Nat) (a2 : Int32) (a3 : Int32) (a4 : Int32) (a6 : Int32) (M : FM) : Prop := HX49_immediate_108 a0 a1 a2 a3 a4 a6 (Int32.ofInt 1) M
theorem gX49_immediate_103 (a0 : Nat) (a1 : Nat) (a2 : Int32) (a3 : Int32) (a4 : Int32) (a6 : Int32) (M : FM) (T : Ty M) (n_a0 : fm_is M 62 62 a0 = true) (n_a1 : fm_is M 61 61 a1 = true) (z_a3 : a3 = 0 ∨ a3 = 1) (h : HX49_immediate_103 a0 a1 a2 a3 a4 a6 M) : gd (FX49_immediate_103 a0 a1 a2 a3 a4 a6 M) (GX49_immediate_103 a0 a1 a2 a3 a4 a6 M) (OkN 53 60 M) := by
  delta FX49_immediate_103 BX49_immediate_103
  exact gd_tN (ext_r _) (gX49_immediate_108 _ _ _ _ _ _ _ _ ⟨T.1, T.2⟩ n_a0 n_a1 z_a3 h)
noncomputable def GX49_immediate_84 (a0 : Nat) (a1 : Nat) (a2 : Int32) (a3 : Int32) (a4 : Int32) (s0 : Int32) (M : FM) : Nat × FM :=
  fi (s0 = 0) (
    GX49_immediate_103 a0 a1 a2 a3 a4 s0 M) (
    fi (s0 = (Int32.ofInt 32)) (
      fi (a2 = (Int32.ofInt 5)) (
        GX49_immediate_103 a0 a1 a2 a3 a4 s0 M) (
        GX49_immediate_107 a0 a1 a2 a3 a4 s0 M)) (
      GX49_immediate_107 a0 a1 a2 a3 a4 s0 M))
def HX49_immediate_84 (a0 : Nat) (a1 : Nat) (a2 : Int32) (a3 : Int32) (a4 : Int32) (s0 : Int32) (M : FM) : Prop := ((s0 = 0 → HX49_immediate_103 a0 a1 a2 a3 a4 s0 M) ∧ (¬ (s0 = 0) → ((s0 = (Int32.ofInt 32) → ((a2 = (Int32.ofInt 5) → HX49_immediate_103 a0 a1 a2 a3 a4 s0 M) ∧ (¬ (a2 = (Int32.ofInt 5)) → HX49_immediate_107 a0 a1 a2 a3 a4 s0 M))) ∧ (¬ (s0 = (Int32.ofInt 32)) → HX49_immediate_107 a0 a1 a2 a3 a4 s0 M))))
theorem gX49_immediate_84 (a0 : Nat) (a1 : Nat) (a2 : Int32) (a3 : Int32) (a4 : Int32) (s0 : Int32) (M : FM) (T : Ty M) (n_a0 : fm_is M 62 62 a0 = true) (n_a1 : fm_is M 61 61 a1 = true) (z_a3 : a3 = 0 ∨ a3 = 1) (h : HX49_immediate_84 a0 a1 a2 a3 a4 s0 M) : gd (FX49_immediate_84 a0 a1 a2 a3 a4 s0 M) (GX49_immediate_84 a0 a1 a2 a3 a4 s0 M) (OkN 53 60 M) := by
  delta FX49_immediate_84 BX49_immediate_84
  refine gd_fi (fun c0_0 => ?_) (fun c0_0 => ?_)
  · exact gd_tN (ext_r _) (gX49_immediate_103 _ _ _ _ _ _ _ ⟨T.1, T.2⟩ n_a0 n_a1 z_a3 (h.1 c0_0))
  · refine gd_fi (fun c1_0 => ?_) (fun c1_0 => ?_)
    · refine gd_fi (fun c2_0 => ?_) (fun c2_0 => ?_)
      · exact gd_tN (ext_r _) (gX49_immediate_103 _ _ _ _ _ _ _ ⟨T.1, T.2⟩ n_a0 n_a1 z_a3 (((h.2 c0_0).1 c1_0).1 c2_0))
      · exact gd_tN (ext_r _) (gX49_immediate_107 _ _ _ _ _ _ _ ⟨T.1, T.2⟩ n_a0 n_a1 z_a3 (((h.2 c0_0).1 c1_0).2 c2_0))
    · exact gd_tN (ext_r _) (gX49_immediate_107 _ _ _ _ _ _ _ ⟨T.1, T.2⟩ n_a0 n_a1 z_a3 ((h.2 c0_0).2 c1_0))
noncomputable def GX49_immediate_46 (a3 : Int32) (a4 : Int32) (s0 : Nat) (s1 : Nat) (s2 : Nat) (M : FM) : Nat × FM :=
  let r1 : Int64 × FM := GX105_immediateI a4 M
  let r2 : Nat × FM := GX49_compute s0 s1 s2 (Int32.ofInt 0) a3 r1.1 r1.2
  (r2.1, r2.2)
def HX49_immediate_46 (a3 : Int32) (a4 : Int32) (s0 : Nat) (s1 : Nat) (s2 : Nat) (M : FM) : Prop := let r1 : Int64 × FM := GX105_immediateI a4 M; ((s2 ≠ 0 → fm_is r1.2 4 4 s2 = true) ∧ True)
theorem gX49_immediate_46 (a3 : Int32) (a4 : Int32) (s0 : Nat) (s1 : Nat) (s2 : Nat) (M : FM) (T : Ty M) (n_s0 : fm_is M 62 62 s0 = true) (n_s1 : fm_is M 61 61 s1 = true) (z_a3 : a3 = 0 ∨ a3 = 1) (h : HX49_immediate_46 a3 a4 s0 s1 s2 M) : gd (FX49_immediate_46 a3 a4 s0 s1 s2 M) (GX49_immediate_46 a3 a4 s0 s1 s2 M) (OkN 53 60 M) := by
  delta FX49_immediate_46 BX49_immediate_46
  refine gd_b (gX105_immediateI _ _ ⟨T.1, T.2⟩  ) (fun K0 => ?_)
  have f1 := (ext_is K0.2 (Nat.zero_lt_succ _) n_s0)
  refine gd_c f1 ?_
  have f3 := (ext_is K0.2 (Nat.zero_lt_succ _) n_s1)
  have f4 := (ext_is K0.2 (Nat.zero_lt_succ _) n_s0)
  refine gd_b (gX49_compute _ _ _ _ _ _ _ ⟨K0.1.1, K0.1.2⟩ f3 h.1 fz_0 z_a3 f4 ) (fun K2 => ?_)
  exact ⟨rfl, ⟨K2.1.1, K2.1.2⟩, (ext_tr K0.2 K2.2.1), K2.2.2⟩
noncomputable def GX49_immediate_42 (a2 : Int32) (a3 : Int32) (a4 : Int32) (s0 : Nat) (s1 : Nat) (M : FM) : Nat × FM :=
  let r1 : Nat × FM := GX49_plain a2 M
  GX49_immediate_46 a3 a4 s0 s1 r1.1 r1.2
def HX49_immediate_42 (a2 : Int32) (a3 : Int32) (a4 : Int32) (s0 : Nat) (s1 : Nat) (M : FM) : Prop := let r1 : Nat × FM := GX49_plain a2 M; HX49_immediate_46 a3 a4 s0 s1 r1.1 r1.2
theorem gX49_immediate_42 (a2 : Int32) (a3 : Int32) (a4 : Int32) (s0 : Nat) (s1 : Nat) (M : FM) (T : Ty M) (n_s0 : fm_is M 62 62 s0 = true) (n_s1 : fm_is M 61 61 s1 = true) (z_a3 : a3 = 0 ∨ a3 = 1) (h : HX49_immediate_42 a2 a3 a4 s0 s1 M) : gd (FX49_immediate_42 a2 a3 a4 s0 s1 M) (GX49_immediate_42 a2 a3 a4 s0 s1 M) (OkN 53 60 M) := by
  delta FX49_immediate_42 BX49_immediate_42
  refine gd_b (gX49_plain _ _ ⟨T.1, T.2⟩  ) (fun K0 => ?_)
  have f1 := (ext_is K0.2.1 (Nat.zero_lt_succ _) n_s0)
  have f2 := (ext_is K0.2.1 (Nat.zero_lt_succ _) n_s1)
  exact gd_tN K0.2.1 (gX49_immediate_46 _ _ _ _ _ _ ⟨K0.1.1, K0.1.2⟩ f1 f2 z_a3 h)
noncomputable def GX49_immediate_21 (a0 : Nat) (a1 : Nat) (a2 : Int32) (a3 : Int32) (a4 : Int32) (s0 : Int32) (M : FM) : Nat × FM :=
  fi (s0 = 0) (
    fi (a3 = 0) (
      GX49_immediate_42 a2 a3 a4 a0 a1 M) (
      fi (a2 ≤ 0) (
        GX49_immediate_42 a2 a3 a4 a0 a1 M) (
        GX49_immediate_46 a3 a4 a0 a1 0 M))) (
    fi (a3 = 0) (
      let r1 : Int32 × FM := GX105_bits a4 (Int32.ofInt 31) (Int32.ofInt 26) M
      GX49_immediate_84 a0 a1 a2 a3 a4 (r1.1 <<< ((Int32.ofInt 1) &&& 31)) r1.2) (
      let r2 : Int32 × FM := GX105_bits a4 (Int32.ofInt 31) (Int32.ofInt 25) M
      GX49_immediate_84 a0 a1 a2 a3 a4 r2.1 r2.2))
def HX49_immediate_21 (a0 : Nat) (a1 : Nat) (a2 : Int32) (a3 : Int32) (a4 : Int32) (s0 : Int32) (M : FM) : Prop := ((s0 = 0 → ((a3 = 0 → HX49_immediate_42 a2 a3 a4 a0 a1 M) ∧ (¬ (a3 = 0) → ((a2 ≤ 0 → HX49_immediate_42 a2 a3 a4 a0 a1 M) ∧ (¬ (a2 ≤ 0) → HX49_immediate_46 a3 a4 a0 a1 0 M))))) ∧ (¬ (s0 = 0) → ((a3 = 0 → let r1 : Int32 × FM := GX105_bits a4 (Int32.ofInt 31) (Int32.ofInt 26) M; HX49_immediate_84 a0 a1 a2 a3 a4 (r1.1 <<< ((Int32.ofInt 1) &&& 31)) r1.2) ∧ (¬ (a3 = 0) → let r2 : Int32 × FM := GX105_bits a4 (Int32.ofInt 31) (Int32.ofInt 25) M; HX49_immediate_84 a0 a1 a2 a3 a4 r2.1 r2.2))))
theorem gX49_immediate_21 (a0 : Nat) (a1 : Nat) (a2 : Int32) (a3 : Int32) (a4 : Int32) (s0 : Int32) (M : FM) (T : Ty M) (n_a0 : fm_is M 62 62 a0 = true) (n_a1 : fm_is M 61 61 a1 = true) (z_a3 : a3 = 0 ∨ a3 = 1) (h : HX49_immediate_21 a0 a1 a2 a3 a4 s0 M) : gd (FX49_immediate_21 a0 a1 a2 a3 a4 s0 M) (GX49_immediate_21 a0 a1 a2 a3 a4 s0 M) (OkN 53 60 M) := by
  delta FX49_immediate_21 BX49_immediate_21
  refine gd_fi (fun c0_0 => ?_) (fun c0_0 => ?_)
  · refine gd_fi (fun c1_0 => ?_) (fun c1_0 => ?_)
    · exact gd_tN (ext_r _) (gX49_immediate_42 _ _ _ _ _ _ ⟨T.1, T.2⟩ n_a0 n_a1 z_a3 ((h.1 c0_0).1 c1_0))
    · refine gd_fi (fun c2_0 => ?_) (fun c2_0 => ?_)
      · exact gd_tN (ext_r _) (gX49_immediate_42 _ _ _ _ _ _ ⟨T.1, T.2⟩ n_a0 n_a1 z_a3 (((h.1 c0_0).2 c1_0).1 c2_0))
      · exact gd_tN (ext_r _) (gX49_immediate_46 _ _ _ _ _ _ ⟨T.1, T.2⟩ n_a0 n_a1 z_a3 (((h.1 c0_0).2 c1_0).2 c2_0))
  · refine gd_fi (fun c3_0 => ?_) (fun c3_0 => ?_)
    · refine gd_b (gX105_bits _ _ _ _ ⟨T.1, T.2⟩  ) (fun K4 => ?_)
      have f5 := (ext_is K4.2 (Nat.zero_lt_succ _) n_a0)
      have f6 := (ext_is K4.2 (Nat.zero_lt_succ _) n_a1)
      exact gd_tN K4.2 (gX49_immediate_84 _ _ _ _ _ _ _ ⟨K4.1.1, K4.1.2⟩ f5 f6 z_a3 ((h.2 c0_0).1 c3_0))
    · refine gd_b (gX105_bits _ _ _ _ ⟨T.1, T.2⟩  ) (fun K7 => ?_)
      have f8 := (ext_is K7.2 (Nat.zero_lt_succ _) n_a0)
      have f9 := (ext_is K7.2 (Nat.zero_lt_succ _) n_a1)
      exact gd_tN K7.2 (gX49_immediate_84 _ _ _ _ _ _ _ ⟨K7.1.1, K7.1.2⟩ f8 f9 z_a3 ((h.2 c0_0).2 c3_0))
noncomputable def GX49_immediate_16 (a0 : Nat) (a1 : Nat) (a2 : Int32) (a3 : Int32) (a4 : Int32) (M : FM) : Nat × FM :=
  GX49_immediate_21 a0 a1 a2 a3 a4 (Int32.ofInt 1) M
def HX49_immediate_16 (a0 : Nat) (a1 : Nat) (a2 : Int32) (a3 : Int32) (a4 : Int32) (M : FM) : Prop := HX49_immediate_21 a0 a1 a2 a3 a4 (Int32.ofInt 1) M
theorem gX49_immediate_16 (a0 : Nat) (a1 : Nat) (a2 : Int32) (a3 : Int32) (a4 : Int32) (M : FM) (T : Ty M) (n_a0 : fm_is M 62 62 a0 = true) (n_a1 : fm_is M 61 61 a1 = true) (z_a3 : a3 = 0 ∨ a3 = 1) (h : HX49_immediate_16 a0 a1 a2 a3 a4 M) : gd (FX49_immediate_16 a0 a1 a2 a3 a4 M) (GX49_immediate_16 a0 a1 a2 a3 a4 M) (OkN 53 60 M) := by
  delta FX49_immediate_16 BX49_immediate_16
  exact gd_tN (ext_r _) (gX49_immediate_21 _ _ _ _ _ _ _ ⟨T.1, T.2⟩ n_a0 n_a1 z_a3 h)
noncomputable def GX49_immediate_0 (a0 : Nat) (a1 : Nat) (a2 : Int32) (a3 : Int32) (M : FM) : Nat × FM :=
  let x1 : Int32 := (M.1 150 a1 0)
  fi (a2 = (Int32.ofInt 1)) (
    GX49_immediate_16 a0 a1 a2 a3 x1 M) (
    fi (a2 = (Int32.ofInt 5)) (
      GX49_immediate_16 a0 a1 a2 a3 x1 M) (
      GX49_immediate_21 a0 a1 a2 a3 x1 (Int32.ofInt 0) M))
def HX49_immediate_0 (a0 : Nat) (a1 : Nat) (a2 : Int32) (a3 : Int32) (M : FM) : Prop := let x1 : Int32 := (M.1 150 a1 0); ((a2 = (Int32.ofInt 1) → HX49_immediate_16 a0 a1 a2 a3 x1 M) ∧ (¬ (a2 = (Int32.ofInt 1)) → ((a2 = (Int32.ofInt 5) → HX49_immediate_16 a0 a1 a2 a3 x1 M) ∧ (¬ (a2 = (Int32.ofInt 5)) → HX49_immediate_21 a0 a1 a2 a3 x1 (Int32.ofInt 0) M))))
theorem gX49_immediate_0 (a0 : Nat) (a1 : Nat) (a2 : Int32) (a3 : Int32) (M : FM) (T : Ty M) (n_a1 : fm_is M 61 61 a1 = true) (n_a0 : fm_is M 62 62 a0 = true) (z_a3 : a3 = 0 ∨ a3 = 1) (h : HX49_immediate_0 a0 a1 a2 a3 M) : gd (FX49_immediate_0 a0 a1 a2 a3 M) (GX49_immediate_0 a0 a1 a2 a3 M) (OkN 53 60 M) := by
  delta FX49_immediate_0 BX49_immediate_0
  refine gd_c n_a1 ?_
  refine gd_fi (fun c0_0 => ?_) (fun c0_0 => ?_)
  · exact gd_tN (ext_r _) (gX49_immediate_16 _ _ _ _ _ _ ⟨T.1, T.2⟩ n_a0 n_a1 z_a3 (h.1 c0_0))
  · refine gd_fi (fun c1_0 => ?_) (fun c1_0 => ?_)
    · exact gd_tN (ext_r _) (gX49_immediate_16 _ _ _ _ _ _ ⟨T.1, T.2⟩ n_a0 n_a1 z_a3 ((h.2 c0_0).1 c1_0))
    · exact gd_tN (ext_r _) (gX49_immediate_21 _ _ _ _ _ _ _ ⟨T.1, T.2⟩ n_a0 n_a1 z_a3 ((h.2 c0_0).2 c1_0))
noncomputable def GX49_immediate (a0 : Nat) (a1 : Nat) (a2 : Int32) (a3 : Int32) (M : FM) : Nat × FM := GX49_immediate_0 a0 a1 a2 a3 M
def HX49_immediate (a0 : Nat) (a1 : Nat) (a2 : Int32) (a3 : Int32) (M : FM) : Prop := HX49_immediate_0 a0 a1 a2 a3 M
theorem gX49_immediate (a0 : Nat) (a1 : Nat) (a2 : Int32) (a3 : Int32) (M : FM) (T : Ty M) (n_a1 : fm_is M 61 61 a1 = true) (n_a0 : fm_is M 62 62 a0 = true) (z_a3 : a3 = 0 ∨ a3 = 1) (h : HX49_immediate a0 a1 a2 a3 M) : gd (FX49_immediate a0 a1 a2 a3 M) (GX49_immediate a0 a1 a2 a3 M) (OkN 53 60 M) := gX49_immediate_0 a0 a1 a2 a3 M T n_a1 n_a0 z_a3 h
noncomputable def GX49_registers_75 (a3 : Int32) (s0 : Nat) (s1 : Nat) (s2 : Nat) (M : FM) : Nat × FM :=
  let r1 : Nat × FM := GX49_compute s0 s1 s2 (Int32.ofInt 1) a3 (Int64.ofInt 0) M
  (r1.1, r1.2)
def HX49_registers_75 (a3 : Int32) (s0 : Nat) (s1 : Nat) (s2 : Nat) (M : FM) : Prop := ((s2 ≠ 0 → fm_is M 4 4 s2 = true) ∧ True)
theorem gX49_registers_75 (a3 : Int32) (s0 : Nat) (s1 : Nat) (s2 : Nat) (M : FM) (T : Ty M) (n_s0 : fm_is M 62 62 s0 = true) (n_s1 : fm_is M 61 61 s1 = true) (z_a3 : a3 = 0 ∨ a3 = 1) (h : HX49_registers_75 a3 s0 s1 s2 M) : gd (FX49_registers_75 a3 s0 s1 s2 M) (GX49_registers_75 a3 s0 s1 s2 M) (OkN 53 60 M) := by
  delta FX49_registers_75 BX49_registers_75
  refine gd_c n_s0 ?_
  refine gd_b (gX49_compute _ _ _ _ _ _ _ ⟨T.1, T.2⟩ n_s1 h.1 fz_1 z_a3 n_s0 ) (fun K0 => ?_)
  exact ⟨rfl, ⟨K0.1.1, K0.1.2⟩, K0.2.1, K0.2.2⟩
noncomputable def GX49_registers_56 (a0 : Nat) (a1 : Nat) (a2 : Int32) (a3 : Int32) (a4 : Int32) (s0 : Int32) (M : FM) : Nat × FM :=
  fi (s0 = 0) (
    let r1 : Nat × FM := GX49_byField a2 a4 M
    GX49_registers_75 a3 a0 a1 r1.1 r1.2) (
    GX49_registers_75 a3 a0 a1 0 M)
def HX49_registers_56 (a0 : Nat) (a1 : Nat) (a2 : Int32) (a3 : Int32) (a4 : Int32) (s0 : Int32) (M : FM) : Prop := ((s0 = 0 → let r1 : Nat × FM := GX49_byField a2 a4 M; HX49_registers_75 a3 a0 a1 r1.1 r1.2) ∧ (¬ (s0 = 0) → HX49_registers_75 a3 a0 a1 0 M))
theorem gX49_registers_56 (a0 : Nat) (a1 : Nat) (a2 : Int32) (a3 : Int32) (a4 : Int32) (s0 : Int32) (M : FM) (T : Ty M) (n_a0 : fm_is M 62 62 a0 = true) (n_a1 : fm_is M 61 61 a1 = true) (z_a3 : a3 = 0 ∨ a3 = 1) (h : HX49_registers_56 a0 a1 a2 a3 a4 s0 M) : gd (FX49_registers_56 a0 a1 a2 a3 a4 s0 M) (GX49_registers_56 a0 a1 a2 a3 a4 s0 M) (OkN 53 60 M) := by
  delta FX49_registers_56 BX49_registers_56
  refine gd_fi (fun c0_0 => ?_) (fun c0_0 => ?_)
  · refine gd_b (gX49_byField _ _ _ ⟨T.1, T.2⟩  ) (fun K1 => ?_)
    have f2 := (ext_is K1.2 (Nat.zero_lt_succ _) n_a0)
    have f3 := (ext_is K1.2 (Nat.zero_lt_succ _) n_a1)
    exact gd_tN K1.2 (gX49_registers_75 _ _ _ _ _ ⟨K1.1.1, K1.1.2⟩ f2 f3 z_a3 (h.1 c0_0))
  · exact gd_tN (ext_r _) (gX49_registers_75 _ _ _ _ _ ⟨T.1, T.2⟩ n_a0 n_a1 z_a3 (h.2 c0_0))
noncomputable def GX49_registers_55 (a0 : Nat) (a1 : Nat) (a2 : Int32) (a3 : Int32) (a4 : Int32) (M : FM) : Nat × FM :=
  GX49_registers_56 a0 a1 a2 a3 a4 (Int32.ofInt 0) M
def HX49_registers_55 (a0 : Nat) (a1 : Nat) (a2 : Int32) (a3 : Int32) (a4 : Int32) (M : FM) : Prop := HX49_registers_56 a0 a1 a2 a3 a4 (Int32.ofInt 0) M
theorem gX49_registers_55 (a0 : Nat) (a1 : Nat) (a2 : Int32) (a3 : Int32) (a4 : Int32) (M : FM) (T : Ty M) (n_a0 : fm_is M 62 62 a0 = true) (n_a1 : fm_is M 61 61 a1 = true) (z_a3 : a3 = 0 ∨ a3 = 1) (h : HX49_registers_55 a0 a1 a2 a3 a4 M) : gd (FX49_registers_55 a0 a1 a2 a3 a4 M) (GX49_registers_55 a0 a1 a2 a3 a4 M) (OkN 53 60 M) := by
  delta FX49_registers_55 BX49_registers_55
  exact gd_tN (ext_r _) (gX49_registers_56 _ _ _ _ _ _ _ ⟨T.1, T.2⟩ n_a0 n_a1 z_a3 h)
noncomputable def GX49_registers_51 (a0 : Nat) (a1 : Nat) (a2 : Int32) (a3 : Int32) (a4 : Int32) (M : FM) : Nat × FM :=
  GX49_registers_56 a0 a1 a2 a3 a4 (Int32.ofInt 1) M
def HX49_registers_51 (a0 : Nat) (a1 : Nat) (a2 : Int32) (a3 : Int32) (a4 : Int32) (M : FM) : Prop := HX49_registers_56 a0 a1 a2 a3 a4 (Int32.ofInt 1) M
theorem gX49_registers_51 (a0 : Nat) (a1 : Nat) (a2 : Int32) (a3 : Int32) (a4 : Int32) (M : FM) (T : Ty M) (n_a0 : fm_is M 62 62 a0 = true) (n_a1 : fm_is M 61 61 a1 = true) (z_a3 : a3 = 0 ∨ a3 = 1) (h : HX49_registers_51 a0 a1 a2 a3 a4 M) : gd (FX49_registers_51 a0 a1 a2 a3 a4 M) (GX49_registers_51 a0 a1 a2 a3 a4 M) (OkN 53 60 M) := by
  delta FX49_registers_51 BX49_registers_51
  exact gd_tN (ext_r _) (gX49_registers_56 _ _ _ _ _ _ _ ⟨T.1, T.2⟩ n_a0 n_a1 z_a3 h)
noncomputable def GX49_registers_36 (a0 : Nat) (a1 : Nat) (a2 : Int32) (a3 : Int32) (a4 : Int32) (M : FM) : Nat × FM :=
  fi (a4 = (Int32.ofInt 1)) (
    fi (a2 ≤ 0) (
      GX49_registers_55 a0 a1 a2 a3 a4 M) (
      fi ((Int32.ofInt 4) ≤ a2) (
        GX49_registers_55 a0 a1 a2 a3 a4 M) (
        GX49_registers_51 a0 a1 a2 a3 a4 M))) (
    GX49_registers_55 a0 a1 a2 a3 a4 M)
def HX49_registers_36 (a0 : Nat) (a1 : Nat) (a2 : Int32) (a3 : Int32) (a4 : Int32) (M : FM) : Prop := ((a4 = (Int32.ofInt 1) → ((a2 ≤ 0 → HX49_registers_55 a0 a1 a2 a3 a4 M) ∧ (¬ (a2 ≤ 0) → (((Int32.ofInt 4) ≤ a2 → HX49_registers_55 a0 a1 a2 a3 a4 M) ∧ (¬ ((Int32.ofInt 4) ≤ a2) → HX49_registers_51 a0 a1 a2 a3 a4 M))))) ∧ (¬ (a4 = (Int32.ofInt 1)) → HX49_registers_55 a0 a1 a2 a3 a4 M))
theorem gX49_registers_36 (a0 : Nat) (a1 : Nat) (a2 : Int32) (a3 : Int32) (a4 : Int32) (M : FM) (T : Ty M) (n_a0 : fm_is M 62 62 a0 = true) (n_a1 : fm_is M 61 61 a1 = true) (z_a3 : a3 = 0 ∨ a3 = 1) (h : HX49_registers_36 a0 a1 a2 a3 a4 M) : gd (FX49_registers_36 a0 a1 a2 a3 a4 M) (GX49_registers_36 a0 a1 a2 a3 a4 M) (OkN 53 60 M) := by
  delta FX49_registers_36 BX49_registers_36
  refine gd_fi (fun c0_0 => ?_) (fun c0_0 => ?_)
  · refine gd_fi (fun c1_0 => ?_) (fun c1_0 => ?_)
    · exact gd_tN (ext_r _) (gX49_registers_55 _ _ _ _ _ _ ⟨T.1, T.2⟩ n_a0 n_a1 z_a3 ((h.1 c0_0).1 c1_0))
    · refine gd_fi (fun c2_0 => ?_) (fun c2_0 => ?_)
      · exact gd_tN (ext_r _) (gX49_registers_55 _ _ _ _ _ _ ⟨T.1, T.2⟩ n_a0 n_a1 z_a3 (((h.1 c0_0).2 c1_0).1 c2_0))
      · exact gd_tN (ext_r _) (gX49_registers_51 _ _ _ _ _ _ ⟨T.1, T.2⟩ n_a0 n_a1 z_a3 (((h.1 c0_0).2 c1_0).2 c2_0))
  · exact gd_tN (ext_r _) (gX49_registers_55 _ _ _ _ _ _ ⟨T.1, T.2⟩ n_a0 n_a1 z_a3 (h.2 c0_0))
noncomputable def GX49_registers_0 (a0 : Nat) (a1 : Nat) (a2 : Int32) (a3 : Int32) (M : FM) : Nat × FM :=
  let r1 : Int32 × FM := GX105_bits (M.1 150 a1 0) (Int32.ofInt 31) (Int32.ofInt 25) M
  fi (a3 = 0) (
    GX49_registers_55 a0 a1 a2 a3 r1.1 r1.2) (
    fi (r1.1 = 0) (
      fi (a2 = 0) (
        GX49_registers_36 a0 a1 a2 a3 r1.1 r1.2) (
        fi (a2 = (Int32.ofInt 1)) (
          GX49_registers_36 a0 a1 a2 a3 r1.1 r1.2) (
          fi (a2 = (Int32.ofInt 5)) (
            GX49_registers_36 a0 a1 a2 a3 r1.1 r1.2) (
            GX49_registers_51 a0 a1 a2 a3 r1.1 r1.2)))) (
      GX49_registers_36 a0 a1 a2 a3 r1.1 r1.2))
def HX49_registers_0 (a0 : Nat) (a1 : Nat) (a2 : Int32) (a3 : Int32) (M : FM) : Prop := let r1 : Int32 × FM := GX105_bits (M.1 150 a1 0) (Int32.ofInt 31) (Int32.ofInt 25) M; ((a3 = 0 → HX49_registers_55 a0 a1 a2 a3 r1.1 r1.2) ∧ (¬ (a3 = 0) → ((r1.1 = 0 → ((a2 = 0 → HX49_registers_36 a0 a1 a2 a3 r1.1 r1.2) ∧ (¬ (a2 = 0) → ((a2 = (Int32.ofInt 1) → HX49_registers_36 a0 a1 a2 a3 r1.1 r1.2) ∧ (¬ (a2 = (Int32.ofInt 1)) → ((a2 = (Int32.ofInt 5) → HX49_registers_36 a0 a1 a2 a3 r1.1 r1.2) ∧ (¬ (a2 = (Int32.ofInt 5)) → HX49_registers_51 a0 a1 a2 a3 r1.1 r1.2))))))) ∧ (¬ (r1.1 = 0) → HX49_registers_36 a0 a1 a2 a3 r1.1 r1.2))))
theorem gX49_registers_0 (a0 : Nat) (a1 : Nat) (a2 : Int32) (a3 : Int32) (M : FM) (T : Ty M) (n_a1 : fm_is M 61 61 a1 = true) (n_a0 : fm_is M 62 62 a0 = true) (z_a3 : a3 = 0 ∨ a3 = 1) (h : HX49_registers_0 a0 a1 a2 a3 M) : gd (FX49_registers_0 a0 a1 a2 a3 M) (GX49_registers_0 a0 a1 a2 a3 M) (OkN 53 60 M) := by
  delta FX49_registers_0 BX49_registers_0
  refine gd_c n_a1 ?_
  refine gd_b (gX105_bits _ _ _ _ ⟨T.1, T.2⟩  ) (fun K0 => ?_)
  refine gd_fi (fun c1_0 => ?_) (fun c1_0 => ?_)
  · have f2 := (ext_is K0.2 (Nat.zero_lt_succ _) n_a0)
    have f3 := (ext_is K0.2 (Nat.zero_lt_succ _) n_a1)
    exact gd_tN K0.2 (gX49_registers_55 _ _ _ _ _ _ ⟨K0.1.1, K0.1.2⟩ f2 f3 z_a3 (h.1 c1_0))
  · refine gd_fi (fun c4_0 => ?_) (fun c4_0 => ?_)
    · refine gd_fi (fun c5_0 => ?_) (fun c5_0 => ?_)
      · have f6 := (ext_is K0.2 (Nat.zero_lt_succ _) n_a0)
        have f7 := (ext_is K0.2 (Nat.zero_lt_succ _) n_a1)
        exact gd_tN K0.2 (gX49_registers_36 _ _ _ _ _ _ ⟨K0.1.1, K0.1.2⟩ f6 f7 z_a3 (((h.2 c1_0).1 c4_0).1 c5_0))
      · refine gd_fi (fun c8_0 => ?_) (fun c8_0 => ?_)
        · have f9 := (ext_is K0.2 (Nat.zero_lt_succ _) n_a0)
          have f10 := (ext_is K0.2 (Nat.zero_lt_succ _) n_a1)
          exact gd_tN K0.2 (gX49_registers_36 _ _ _ _ _ _ ⟨K0.1.1, K0.1.2⟩ f9 f10 z_a3 ((((h.2 c1_0).1 c4_0).2 c5_0).1 c8_0))
        · refine gd_fi (fun c11_0 => ?_) (fun c11_0 => ?_)
          · have f12 := (ext_is K0.2 (Nat.zero_lt_succ _) n_a0)
            have f13 := (ext_is K0.2 (Nat.zero_lt_succ _) n_a1)
            exact gd_tN K0.2 (gX49_registers_36 _ _ _ _ _ _ ⟨K0.1.1, K0.1.2⟩ f12 f13 z_a3 (((((h.2 c1_0).1 c4_0).2 c5_0).2 c8_0).1 c11_0))
          · have f14 := (ext_is K0.2 (Nat.zero_lt_succ _) n_a0)
            have f15 := (ext_is K0.2 (Nat.zero_lt_succ _) n_a1)
            exact gd_tN K0.2 (gX49_registers_51 _ _ _ _ _ _ ⟨K0.1.1, K0.1.2⟩ f14 f15 z_a3 (((((h.2 c1_0).1 c4_0).2 c5_0).2 c8_0).2 c11_0))
    · have f16 := (ext_is K0.2 (Nat.zero_lt_succ _) n_a0)
      have f17 := (ext_is K0.2 (Nat.zero_lt_succ _) n_a1)
      exact gd_tN K0.2 (gX49_registers_36 _ _ _ _ _ _ ⟨K0.1.1, K0.1.2⟩ f16 f17 z_a3 ((h.2 c1_0).2 c4_0))
noncomputable def GX49_registers (a0 : Nat) (a1 : Nat) (a2 : Int32) (a3 : Int32) (M : FM) : Nat × FM := GX49_registers_0 a0 a1 a2 a3 M
def HX49_registers (a0 : Nat) (a1 : Nat) (a2 : Int32) (a3 : Int32) (M : FM) : Prop := HX49_registers_0 a0 a1 a2 a3 M
theorem gX49_registers (a0 : Nat) (a1 : Nat) (a2 : Int32) (a3 : Int32) (M : FM) (T : Ty M) (n_a1 : fm_is M 61 61 a1 = true) (n_a0 : fm_is M 62 62 a0 = true) (z_a3 : a3 = 0 ∨ a3 = 1) (h : HX49_registers a0 a1 a2 a3 M) : gd (FX49_registers a0 a1 a2 a3 M) (GX49_registers a0 a1 a2 a3 M) (OkN 53 60 M) := gX49_registers_0 a0 a1 a2 a3 M T n_a1 n_a0 z_a3 h
noncomputable def GX105_immediateU_0 (a0 : Int32) (M : FM) : Int64 × FM :=
  ((a0 &&& (Int32.ofInt (-4096))).toInt64, M)
theorem gX105_immediateU_0 (a0 : Int32) (M : FM) (T : Ty M) : gd (FX105_immediateU_0 a0 M) (GX105_immediateU_0 a0 M) (OkR M) := by
  delta FX105_immediateU_0 BX105_immediateU_0
  exact ⟨rfl, ⟨T.1, T.2⟩, (ext_r _)⟩
noncomputable def GX105_immediateU (a0 : Int32) (M : FM) : Int64 × FM := GX105_immediateU_0 a0 M
theorem gX105_immediateU (a0 : Int32) (M : FM) (T : Ty M) : gd (FX105_immediateU a0 M) (GX105_immediateU a0 M) (OkR M) := gX105_immediateU_0 a0 M T 
noncomputable def GX105_immediateJ_0 (a0 : Int32) (M : FM) : Int64 × FM :=
  let r1 : Int32 × FM := GX105_bits a0 (Int32.ofInt 19) (Int32.ofInt 12) M
  let r2 : Int32 × FM := GX105_bits a0 (Int32.ofInt 20) (Int32.ofInt 20) r1.2
  let r3 : Int32 × FM := GX105_bits a0 (Int32.ofInt 30) (Int32.ofInt 21) r2.2
  ((((((a0 >>> ((Int32.ofInt 31) &&& 31)) <<< ((Int32.ofInt 20) &&& 31)) ||| (r1.1 <<< ((Int32.ofInt 12) &&& 31))) ||| (r2.1 <<< ((Int32.ofInt 11) &&& 31))) ||| (r3.1 <<< ((Int32.ofInt 1) &&& 31))).toInt64, r3.2)
theorem gX105_immediateJ_0 (a0 : Int32) (M : FM) (T : Ty M) : gd (FX105_immediateJ_0 a0 M) (GX105_immediateJ_0 a0 M) (OkR M) := by
  delta FX105_immediateJ_0 BX105_immediateJ_0
  refine gd_b (gX105_bits _ _ _ _ ⟨T.1, T.2⟩  ) (fun K0 => ?_)
  refine gd_b (gX105_bits _ _ _ _ ⟨K0.1.1, K0.1.2⟩  ) (fun K1 => ?_)
  refine gd_b (gX105_bits _ _ _ _ ⟨K1.1.1, K1.1.2⟩  ) (fun K2 => ?_)
  exact ⟨rfl, ⟨K2.1.1, K2.1.2⟩, (ext_tr K0.2 (ext_tr K1.2 K2.2))⟩
noncomputable def GX105_immediateJ (a0 : Int32) (M : FM) : Int64 × FM := GX105_immediateJ_0 a0 M
theorem gX105_immediateJ (a0 : Int32) (M : FM) (T : Ty M) : gd (FX105_immediateJ a0 M) (GX105_immediateJ a0 M) (OkR M) := gX105_immediateJ_0 a0 M T 
noncomputable def GX49_jump_0 (a0 : Nat) (a1 : Nat) (a2 : Nat) (a3 : Int64) (M : FM) : Nat × FM :=
  let M1 : FM := fm_sL M 154 a1 0 a3
  (a2, M1)
theorem gX49_jump_0 (a0 : Nat) (a1 : Nat) (a2 : Nat) (a3 : Int64) (M : FM) (T : Ty M) (n_a1 : fm_is M 61 61 a1 = true) (n_a2 : fm_is M 53 60 a2 = true) : gd (FX49_jump_0 a0 a1 a2 a3 M) (GX49_jump_0 a0 a1 a2 a3 M) (OkN 53 60 M) := by
  delta FX49_jump_0 BX49_jump_0
  refine gd_c n_a1 ?_
  exact ⟨rfl, ⟨T.1, T.2⟩, (ext_dL (ext_r _)), n_a2⟩
noncomputable def GX49_jump (a0 : Nat) (a1 : Nat) (a2 : Nat) (a3 : Int64) (M : FM) : Nat × FM := GX49_jump_0 a0 a1 a2 a3 M
theorem gX49_jump (a0 : Nat) (a1 : Nat) (a2 : Nat) (a3 : Int64) (M : FM) (T : Ty M) (n_a1 : fm_is M 61 61 a1 = true) (n_a2 : fm_is M 53 60 a2 = true) : gd (FX49_jump a0 a1 a2 a3 M) (GX49_jump a0 a1 a2 a3 M) (OkN 53 60 M) := gX49_jump_0 a0 a1 a2 a3 M T n_a1 n_a2 
noncomputable def GX49_foreign_39 (s0 : Nat) (M : FM) : Nat × FM :=
  (s0, M)
theorem gX49_foreign_39 (s0 : Nat) (M : FM) (T : Ty M) (n_s0 : fm_is M 53 60 s0 = true) : gd (FX49_foreign_39 s0 M) (GX49_foreign_39 s0 M) (OkN 53 60 M) := by
  delta FX49_foreign_39 BX49_foreign_39
  exact ⟨rfl, ⟨T.1, T.2⟩, (ext_r _), n_s0⟩
noncomputable def GX49_foreign_0 (a0 : Nat) (a1 : Nat) (a2 : Int32) (a3 : Int32) (a4 : Int32) (a5 : Int32) (a6 : Int32) (M : FM) : Nat × FM :=
  let M1 : FM := fm_sI M 158 a1 0 a3
  let M2 : FM := fm_sL M1 154 a1 0 a4.toInt64
  let M3 : FM := fm_sI M2 156 a1 0 a5
  let M4 : FM := fm_sI M3 160 a1 0 a6
  fi (a2 = 0) (
    GX49_foreign_39 (M4.2.2 161 a0 0) M4) (
    GX49_foreign_39 (M4.2.2 170 a0 0) M4)
theorem gX49_foreign_0 (a0 : Nat) (a1 : Nat) (a2 : Int32) (a3 : Int32) (a4 : Int32) (a5 : Int32) (a6 : Int32) (M : FM) (T : Ty M) (n_a1 : fm_is M 61 61 a1 = true) (z_a5 : a5 = 0 ∨ a5 = 1) (n_a0 : fm_is M 62 62 a0 = true) : gd (FX49_foreign_0 a0 a1 a2 a3 a4 a5 a6 M) (GX49_foreign_0 a0 a1 a2 a3 a4 a5 a6 M) (OkN 53 60 M) := by
  delta FX49_foreign_0 BX49_foreign_0
  refine gd_c n_a1 ?_
  refine gd_c n_a1 ?_
  refine gd_c n_a1 ?_
  refine gd_c z_a5 ?_
  refine gd_c n_a1 ?_
  refine gd_fi (fun c0_0 => ?_) (fun c0_0 => ?_)
  · refine gd_c n_a0 ?_
    have f1 := (tN_161 T.1 n_a0)
    exact gd_tN (ext_dI (ext_dL (ext_dI (ext_dI (ext_r _))))) (gX49_foreign_39 _ _ ⟨T.1, (tyb_sI (f := 160) rfl (tyb_sIb (f := 156) rfl (tyb_sI (f := 158) rfl T.2) z_a5))⟩ f1 )
  · refine gd_c n_a0 ?_
    have f2 := (tN_170 T.1 n_a0)
    exact gd_tN (ext_dI (ext_dL (ext_dI (ext_dI (ext_r _))))) (gX49_foreign_39 _ _ ⟨T.1, (tyb_sI (f := 160) rfl (tyb_sIb (f := 156) rfl (tyb_sI (f := 158) rfl T.2) z_a5))⟩ f2 )
noncomputable def GX49_foreign (a0 : Nat) (a1 : Nat) (a2 : Int32) (a3 : Int32) (a4 : Int32) (a5 : Int32) (a6 : Int32) (M : FM) : Nat × FM := GX49_foreign_0 a0 a1 a2 a3 a4 a5 a6 M
theorem gX49_foreign (a0 : Nat) (a1 : Nat) (a2 : Int32) (a3 : Int32) (a4 : Int32) (a5 : Int32) (a6 : Int32) (M : FM) (T : Ty M) (n_a1 : fm_is M 61 61 a1 = true) (z_a5 : a5 = 0 ∨ a5 = 1) (n_a0 : fm_is M 62 62 a0 = true) : gd (FX49_foreign a0 a1 a2 a3 a4 a5 a6 M) (GX49_foreign a0 a1 a2 a3 a4 a5 a6 M) (OkN 53 60 M) := gX49_foreign_0 a0 a1 a2 a3 a4 a5 a6 M T n_a1 z_a5 n_a0 
noncomputable def GX105_immediateS_0 (a0 : Int32) (M : FM) : Int64 × FM :=
  let r1 : Int32 × FM := GX105_bits a0 (Int32.ofInt 11) (Int32.ofInt 7) M
  ((((a0 >>> ((Int32.ofInt 25) &&& 31)) <<< ((Int32.ofInt 5) &&& 31)) ||| r1.1).toInt64, r1.2)
theorem gX105_immediateS_0 (a0 : Int32) (M : FM) (T : Ty M) : gd (FX105_immediateS_0 a0 M) (GX105_immediateS_0 a0 M) (OkR M) := by
  delta FX105_immediateS_0 BX105_immediateS_0
  refine gd_b (gX105_bits _ _ _ _ ⟨T.1, T.2⟩  ) (fun K0 => ?_)
  exact ⟨rfl, ⟨K0.1.1, K0.1.2⟩, K0.2⟩
noncomputable def GX105_immediateS (a0 : Int32) (M : FM) : Int64 × FM := GX105_immediateS_0 a0 M
theorem gX105_immediateS (a0 : Int32) (M : FM) (T : Ty M) : gd (FX105_immediateS a0 M) (GX105_immediateS a0 M) (OkR M) := gX105_immediateS_0 a0 M T 
noncomputable def GX49_store_0 (a0 : Nat) (a1 : Nat) (a2 : Int32) (a3 : Int32) (a4 : Int32) (a5 : Int32) (M : FM) : Nat × FM :=
  let M1 : FM := fm_sI M 151 a1 0 (Int32.ofInt 0)
  let r2 : Int64 × FM := GX105_immediateS (M1.1 150 a1 0) M1
  let r3 : Nat × FM := GX49_access a0 a1 a2 a3 r2.1 a4 a5 r2.2
  (r3.1, r3.2)
theorem gX49_store_0 (a0 : Nat) (a1 : Nat) (a2 : Int32) (a3 : Int32) (a4 : Int32) (a5 : Int32) (M : FM) (T : Ty M) (n_a1 : fm_is M 61 61 a1 = true) (n_a0 : fm_is M 62 62 a0 = true) : gd (FX49_store_0 a0 a1 a2 a3 a4 a5 M) (GX49_store_0 a0 a1 a2 a3 a4 a5 M) (OkN 53 60 M) := by
  delta FX49_store_0 BX49_store_0
  refine gd_c n_a1 ?_
  refine gd_c n_a1 ?_
  refine gd_b (gX105_immediateS _ _ ⟨T.1, (tyb_sI (f := 151) rfl T.2)⟩  ) (fun K0 => ?_)
  have f1 := (ext_is K0.2 (Nat.zero_lt_succ _) n_a0)
  refine gd_c f1 ?_
  have f3 := (ext_is K0.2 (Nat.zero_lt_succ _) n_a1)
  have f4 := (ext_is K0.2 (Nat.zero_lt_succ _) n_a0)
  refine gd_b (gX49_access _ _ _ _ _ _ _ _ ⟨K0.1.1, K0.1.2⟩ f3 f4 ) (fun K2 => ?_)
  exact ⟨rfl, ⟨K2.1.1, K2.1.2⟩, (ext_dI (ext_tr K0.2 K2.2.1)), K2.2.2⟩
noncomputable def GX49_store (a0 : Nat) (a1 : Nat) (a2 : Int32) (a3 : Int32) (a4 : Int32) (a5 : Int32) (M : FM) : Nat × FM := GX49_store_0 a0 a1 a2 a3 a4 a5 M
theorem gX49_store (a0 : Nat) (a1 : Nat) (a2 : Int32) (a3 : Int32) (a4 : Int32) (a5 : Int32) (M : FM) (T : Ty M) (n_a1 : fm_is M 61 61 a1 = true) (n_a0 : fm_is M 62 62 a0 = true) : gd (FX49_store a0 a1 a2 a3 a4 a5 M) (GX49_store a0 a1 a2 a3 a4 a5 M) (OkN 53 60 M) := gX49_store_0 a0 a1 a2 a3 a4 a5 M T n_a1 n_a0 
noncomputable def GX49_find_465 (a3 : Int32) (s0 : Nat) (s1 : Nat) (s2 : Int32) (s3 : Int32) (s4 : Int32) (s5 : Int32) (M : FM) : Nat × FM :=
  let r1 : Nat × FM := GX49_foreign s0 s1 s2 s3 s4 s5 a3 M
  (r1.1, r1.2)
theorem gX49_find_465 (a3 : Int32) (s0 : Nat) (s1 : Nat) (s2 : Int32) (s3 : Int32) (s4 : Int32) (s5 : Int32) (M : FM) (T : Ty M) (n_s0 : fm_is M 62 62 s0 = true) (n_s1 : fm_is M 61 61 s1 = true) (z_s5 : s5 = 0 ∨ s5 = 1) : gd (FX49_find_465 a3 s0 s1 s2 s3 s4 s5 M) (GX49_find_465 a3 s0 s1 s2 s3 s4 s5 M) (OkN 53 60 M) := by
  delta FX49_find_465 BX49_find_465
  refine gd_c n_s0 ?_
  refine gd_b (gX49_foreign _ _ _ _ _ _ _ _ ⟨T.1, T.2⟩ n_s1 z_s5 n_s0 ) (fun K0 => ?_)
  exact ⟨rfl, ⟨K0.1.1, K0.1.2⟩, K0.2.1, K0.2.2⟩
noncomputable def GX49_find_444 (a3 : Int32) (a5 : Int32) (s0 : Nat) (s1 : Nat) (s2 : Int32) (M : FM) : Nat × FM :=
  let r1 : Int32 × FM := GX105_bits a5 (Int32.ofInt 31) (Int32.ofInt 20) M
  fi ((Int32.ofInt 4) ≤ a3) (
    GX49_find_465 a3 s0 s1 s2 (Int32.ofInt 6) r1.1 (Int32.ofInt 0) r1.2) (
    GX49_find_465 a3 s0 s1 s2 (Int32.ofInt 6) r1.1 (Int32.ofInt 1) r1.2)
theorem gX49_find_444 (a3 : Int32) (a5 : Int32) (s0 : Nat) (s1 : Nat) (s2 : Int32) (M : FM) (T : Ty M) (n_s0 : fm_is M 62 62 s0 = true) (n_s1 : fm_is M 61 61 s1 = true) : gd (FX49_find_444 a3 a5 s0 s1 s2 M) (GX49_find_444 a3 a5 s0 s1 s2 M) (OkN 53 60 M) := by
  delta FX49_find_444 BX49_find_444
  refine gd_b (gX105_bits _ _ _ _ ⟨T.1, T.2⟩  ) (fun K0 => ?_)
  refine gd_fi (fun c1_0 => ?_) (fun c1_0 => ?_)
  · have f2 := (ext_is K0.2 (Nat.zero_lt_succ _) n_s0)
    have f3 := (ext_is K0.2 (Nat.zero_lt_succ _) n_s1)
    exact gd_tN K0.2 (gX49_find_465 _ _ _ _ _ _ _ _ ⟨K0.1.1, K0.1.2⟩ f2 f3 fz_0 )
  · have f4 := (ext_is K0.2 (Nat.zero_lt_succ _) n_s0)
    have f5 := (ext_is K0.2 (Nat.zero_lt_succ _) n_s1)
    exact gd_tN K0.2 (gX49_find_465 _ _ _ _ _ _ _ _ ⟨K0.1.1, K0.1.2⟩ f4 f5 fz_1 )
noncomputable def GX49_find_421 (a0 : Nat) (a1 : Nat) (a2 : Int32) (M : FM) : Nat × FM :=
  let r1 : Nat × FM := GX49_foreign a0 a1 (Int32.ofInt 1) (Int32.ofInt 5) (Int32.ofInt 0) (Int32.ofInt 1) a2 M
  (r1.1, r1.2)
theorem gX49_find_421 (a0 : Nat) (a1 : Nat) (a2 : Int32) (M : FM) (T : Ty M) (n_a0 : fm_is M 62 62 a0 = true) (n_a1 : fm_is M 61 61 a1 = true) : gd (FX49_find_421 a0 a1 a2 M) (GX49_find_421 a0 a1 a2 M) (OkN 53 60 M) := by
  delta FX49_find_421 BX49_find_421
  refine gd_c n_a0 ?_
  refine gd_b (gX49_foreign _ _ _ _ _ _ _ _ ⟨T.1, T.2⟩ n_a1 fz_1 n_a0 ) (fun K0 => ?_)
  exact ⟨rfl, ⟨K0.1.1, K0.1.2⟩, K0.2.1, K0.2.2⟩
noncomputable def GX49_find_374 (a3 : Int32) (s0 : Nat) (s1 : Nat) (s2 : Int32) (M : FM) : Nat × FM :=
  let r1 : Nat × FM := GX49_store s0 s1 s2 (Int32.ofInt 3) ((Int32.ofInt 1) <<< (a3 &&& 31)) (Int32.ofInt 0) M
  (r1.1, r1.2)
theorem gX49_find_374 (a3 : Int32) (s0 : Nat) (s1 : Nat) (s2 : Int32) (M : FM) (T : Ty M) (n_s0 : fm_is M 62 62 s0 = true) (n_s1 : fm_is M 61 61 s1 = true) : gd (FX49_find_374 a3 s0 s1 s2 M) (GX49_find_374 a3 s0 s1 s2 M) (OkN 53 60 M) := by
  delta FX49_find_374 BX49_find_374
  refine gd_c n_s0 ?_
  refine gd_b (gX49_store _ _ _ _ _ _ _ ⟨T.1, T.2⟩ n_s1 n_s0 ) (fun K0 => ?_)
  exact ⟨rfl, ⟨K0.1.1, K0.1.2⟩, K0.2.1, K0.2.2⟩
noncomputable def GX49_find_344 (a3 : Int32) (a5 : Int32) (s0 : Nat) (s1 : Nat) (s2 : Int32) (M : FM) : Nat × FM :=
  let r1 : Int64 × FM := GX105_immediateI a5 M
  let r2 : Nat × FM := GX49_access s0 s1 s2 (Int32.ofInt 2) r1.1 ((Int32.ofInt 1) <<< ((a3 &&& (Int32.ofInt 3)) &&& 31)) (a3 >>> ((Int32.ofInt 2) &&& 31)) r1.2
  (r2.1, r2.2)
theorem gX49_find_344 (a3 : Int32) (a5 : Int32) (s0 : Nat) (s1 : Nat) (s2 : Int32) (M : FM) (T : Ty M) (n_s0 : fm_is M 62 62 s0 = true) (n_s1 : fm_is M 61 61 s1 = true) : gd (FX49_find_344 a3 a5 s0 s1 s2 M) (GX49_find_344 a3 a5 s0 s1 s2 M) (OkN 53 60 M) := by
  delta FX49_find_344 BX49_find_344
  refine gd_b (gX105_immediateI _ _ ⟨T.1, T.2⟩  ) (fun K0 => ?_)
  have f1 := (ext_is K0.2 (Nat.zero_lt_succ _) n_s0)
  refine gd_c f1 ?_
  have f3 := (ext_is K0.2 (Nat.zero_lt_succ _) n_s1)
  have f4 := (ext_is K0.2 (Nat.zero_lt_succ _) n_s0)
  refine gd_b (gX49_access _ _ _ _ _ _ _ _ ⟨K0.1.1, K0.1.2⟩ f3 f4 ) (fun K2 => ?_)
  exact ⟨rfl, ⟨K2.1.1, K2.1.2⟩, (ext_tr K0.2 K2.2.1), K2.2.2⟩
noncomputable def GX49_find_330 (s0 : Nat) (M : FM) : Nat × FM :=
  (s0, M)
theorem gX49_find_330 (s0 : Nat) (M : FM) (T : Ty M) (n_s0 : fm_is M 53 60 s0 = true) : gd (FX49_find_330 s0 M) (GX49_find_330 s0 M) (OkN 53 60 M) := by
  delta FX49_find_330 BX49_find_330
  exact ⟨rfl, ⟨T.1, T.2⟩, (ext_r _), n_s0⟩
noncomputable def GX49_find_266 (a5 : Int32) (s0 : Nat) (s1 : Nat) (s2 : Nat) (M : FM) : Nat × FM :=
  let r1 : Int64 × FM := GX105_immediateI a5 M
  let r2 : Nat × FM := GX49_jump s0 s1 s2 r1.1 r1.2
  (r2.1, r2.2)
theorem gX49_find_266 (a5 : Int32) (s0 : Nat) (s1 : Nat) (s2 : Nat) (M : FM) (T : Ty M) (n_s0 : fm_is M 62 62 s0 = true) (n_s1 : fm_is M 61 61 s1 = true) (n_s2 : fm_is M 53 60 s2 = true) : gd (FX49_find_266 a5 s0 s1 s2 M) (GX49_find_266 a5 s0 s1 s2 M) (OkN 53 60 M) := by
  delta FX49_find_266 BX49_find_266
  refine gd_b (gX105_immediateI _ _ ⟨T.1, T.2⟩  ) (fun K0 => ?_)
  have f1 := (ext_is K0.2 (Nat.zero_lt_succ _) n_s0)
  refine gd_c f1 ?_
  have f3 := (ext_is K0.2 (Nat.zero_lt_succ _) n_s1)
  have f4 := (ext_is K0.2 (Nat.zero_lt_succ _) n_s2)
  refine gd_b (gX49_jump _ _ _ _ _ ⟨K0.1.1, K0.1.2⟩ f3 f4 ) (fun K2 => ?_)
  exact ⟨rfl, ⟨K2.1.1, K2.1.2⟩, (ext_tr K0.2 K2.2.1), K2.2.2⟩
noncomputable def GX49_find_15 (a0 : Nat) (a1 : Nat) (a2 : Int32) (a3 : Int32) (s0 : Int32) (M : FM) : Nat × FM :=
  let x1 : Int32 := (M.1 150 a1 0)
  fi (a2 = (Int32.ofInt 3)) (
    fi ((Int32.ofInt 7) ≤ a3) (
      GX49_find_344 a3 x1 a0 a1 (Int32.ofInt 0) M) (
      GX49_find_344 a3 x1 a0 a1 (Int32.ofInt 1) M)) (
    fi (a2 = (Int32.ofInt 7)) (
      let r2 : Int64 × FM := GX105_immediateI x1 M
      let r3 : Nat × FM := GX49_access a0 a1 s0 (Int32.ofInt 5) r2.1 ((Int32.ofInt 1) <<< (a3 &&& 31)) a2 r2.2
      (r3.1, r3.2)) (
      fi (a2 = (Int32.ofInt 15)) (
        fi ((Int32.ofInt 2) ≤ a3) (
          GX49_find_330 (M.2.2 161 a0 0) M) (
          GX49_find_330 (M.2.2 162 a0 0) M)) (
        fi (a2 = (Int32.ofInt 19)) (
          let r4 : Nat × FM := GX49_immediate a0 a1 a3 (Int32.ofInt 0) M
          (r4.1, r4.2)) (
          fi (a2 = (Int32.ofInt 23)) (
            let r5 : Int64 × FM := GX105_immediateU x1 M
            let r6 : Nat × FM := GX49_jump a0 a1 (M.2.2 164 a0 0) r5.1 r5.2
            (r6.1, r6.2)) (
            fi (a2 = (Int32.ofInt 27)) (
              let r7 : Nat × FM := GX49_immediate a0 a1 a3 (Int32.ofInt 1) M
              (r7.1, r7.2)) (
              fi (a2 = (Int32.ofInt 35)) (
                fi ((Int32.ofInt 4) ≤ a3) (
                  GX49_find_374 a3 a0 a1 (Int32.ofInt 0) M) (
                  GX49_find_374 a3 a0 a1 (Int32.ofInt 1) M)) (
                fi (a2 = (Int32.ofInt 39)) (
                  let r8 : Nat × FM := GX49_store a0 a1 s0 (Int32.ofInt 5) ((Int32.ofInt 1) <<< (a3 &&& 31)) a2 M
                  (r8.1, r8.2)) (
                  fi (a2 = (Int32.ofInt 47)) (
                    let r9 : Nat × FM := GX49_atomic a0 a1 a3 M
                    (r9.1, r9.2)) (
                    fi (a2 = (Int32.ofInt 51)) (
                      let r10 : Nat × FM := GX49_registers a0 a1 a3 (Int32.ofInt 0) M
                      (r10.1, r10.2)) (
                      fi (a2 = (Int32.ofInt 55)) (
                        let r11 : Int64 × FM := GX105_immediateU x1 M
                        let r12 : Nat × FM := GX49_jump a0 a1 (M.2.2 163 a0 0) r11.1 r11.2
                        (r12.1, r12.2)) (
                        fi (a2 = (Int32.ofInt 59)) (
                          let r13 : Nat × FM := GX49_registers a0 a1 a3 (Int32.ofInt 1) M
                          (r13.1, r13.2)) (
                          fi (a2 = (Int32.ofInt 67)) (
                            GX49_find_421 a0 a1 a2 M) (
                            fi (a2 = (Int32.ofInt 71)) (
                              GX49_find_421 a0 a1 a2 M) (
                              fi (a2 = (Int32.ofInt 75)) (
                                GX49_find_421 a0 a1 a2 M) (
                                fi (a2 = (Int32.ofInt 79)) (
                                  GX49_find_421 a0 a1 a2 M) (
                                  fi (a2 = (Int32.ofInt 83)) (
                                    GX49_find_421 a0 a1 a2 M) (
                                    fi (a2 = (Int32.ofInt 99)) (
                                      let r14 : Nat × FM := GX49_branch a0 a1 a3 M
                                      (r14.1, r14.2)) (
                                      fi (a2 = (Int32.ofInt 103)) (
                                        fi (a3 = 0) (
                                          GX49_find_266 x1 a0 a1 (M.2.2 166 a0 0) M) (
                                          GX49_find_266 x1 a0 a1 (M.2.2 161 a0 0) M)) (
                                        fi (a2 = (Int32.ofInt 111)) (
                                          let r15 : Int64 × FM := GX105_immediateJ x1 M
                                          let r16 : Nat × FM := GX49_jump a0 a1 (M.2.2 165 a0 0) r15.1 r15.2
                                          (r16.1, r16.2)) (
                                          fi (a2 = (Int32.ofInt 115)) (
                                            fi (a3 = (Int32.ofInt 4)) (
                                              GX49_find_444 a3 x1 a0 a1 (Int32.ofInt 0) M) (
                                              GX49_find_444 a3 x1 a0 a1 (Int32.ofInt 1) M)) (
                                            ((M.2.2 161 a0 0), M))))))))))))))))))))))
def HX49_find_15 (a0 : Nat) (a1 : Nat) (a2 : Int32) (a3 : Int32) (s0 : Int32) (M : FM) : Prop := let x1 : Int32 := (M.1 150 a1 0); ((a2 = (Int32.ofInt 3) → True) ∧ (¬ (a2 = (Int32.ofInt 3)) → ((a2 = (Int32.ofInt 7) → True) ∧ (¬ (a2 = (Int32.ofInt 7)) → ((a2 = (Int32.ofInt 15) → True) ∧ (¬ (a2 = (Int32.ofInt 15)) → ((a2 = (Int32.ofInt 19) → (HX49_immediate a0 a1 a3 (Int32.ofInt 0) M ∧ True)) ∧ (¬ (a2 = (Int32.ofInt 19)) → ((a2 = (Int32.ofInt 23) → True) ∧ (¬ (a2 = (Int32.ofInt 23)) → ((a2 = (Int32.ofInt 27) → (HX49_immediate a0 a1 a3 (Int32.ofInt 1) M ∧ True)) ∧ (¬ (a2 = (Int32.ofInt 27)) → ((a2 = (Int32.ofInt 35) → True) ∧ (¬ (a2 = (Int32.ofInt 35)) → ((a2 = (Int32.ofInt 39) → True) ∧ (¬ (a2 = (Int32.ofInt 39)) → ((a2 = (Int32.ofInt 47) → True) ∧ (¬ (a2 = (Int32.ofInt 47)) → ((a2 = (Int32.ofInt 51) → (HX49_registers a0 a1 a3 (Int32.ofInt 0) M ∧ True)) ∧ (¬ (a2 = (Int32.ofInt 51)) → ((a2 = (Int32.ofInt 55) → True) ∧ (¬ (a2 = (Int32.ofInt 55)) → ((a2 = (Int32.ofInt 59) → (HX49_registers a0 a1 a3 (Int32.ofInt 1) M ∧ True)) ∧ (¬ (a2 = (Int32.ofInt 59)) → True))))))))))))))))))))))))
theorem gX49_find_15 (a0 : Nat) (a1 : Nat) (a2 : Int32) (a3 : Int32) (s0 : Int32) (M : FM) (T : Ty M) (n_a1 : fm_is M 61 61 a1 = true) (n_a0 : fm_is M 62 62 a0 = true) (h : HX49_find_15 a0 a1 a2 a3 s0 M) : gd (FX49_find_15 a0 a1 a2 a3 s0 M) (GX49_find_15 a0 a1 a2 a3 s0 M) (OkN 53 60 M) := by
  delta FX49_find_15 BX49_find_15
  refine gd_c n_a1 ?_
  refine gd_fi (fun c0_0 => ?_) (fun c0_0 => ?_)
  · refine gd_fi (fun c1_0 => ?_) (fun c1_0 => ?_)
    · exact gd_tN (ext_r _) (gX49_find_344 _ _ _ _ _ _ ⟨T.1, T.2⟩ n_a0 n_a1 )
    · exact gd_tN (ext_r _) (gX49_find_344 _ _ _ _ _ _ ⟨T.1, T.2⟩ n_a0 n_a1 )
  · refine gd_fi (fun c2_1 => ?_) (fun c2_1 => ?_)
    · refine gd_b (gX105_immediateI _ _ ⟨T.1, T.2⟩  ) (fun K3 => ?_)
      have f4 := (ext_is K3.2 (Nat.zero_lt_succ _) n_a0)
      refine gd_c f4 ?_
      have f6 := (ext_is K3.2 (Nat.zero_lt_succ _) n_a1)
      have f7 := (ext_is K3.2 (Nat.zero_lt_succ _) n_a0)
      refine gd_b (gX49_access _ _ _ _ _ _ _ _ ⟨K3.1.1, K3.1.2⟩ f6 f7 ) (fun K5 => ?_)
      exact ⟨rfl, ⟨K5.1.1, K5.1.2⟩, (ext_tr K3.2 K5.2.1), K5.2.2⟩
    · refine gd_fi (fun c8_2 => ?_) (fun c8_2 => ?_)
      · refine gd_fi (fun c9_0 => ?_) (fun c9_0 => ?_)
        · refine gd_c n_a0 ?_
          have f10 := (tN_161 T.1 n_a0)
          exact gd_tN (ext_r _) (gX49_find_330 _ _ ⟨T.1, T.2⟩ f10 )
        · refine gd_c n_a0 ?_
          have f11 := (tN_162 T.1 n_a0)
          exact gd_tN (ext_r _) (gX49_find_330 _ _ ⟨T.1, T.2⟩ f11 )
      · refine gd_fi (fun c12_3 => ?_) (fun c12_3 => ?_)
        · refine gd_c n_a0 ?_
          refine gd_b (gX49_immediate _ _ _ _ _ ⟨T.1, T.2⟩ n_a1 n_a0 fz_0 ((((h.2 c0_0).2 c2_1).2 c8_2).1 c12_3).1) (fun K13 => ?_)
          exact ⟨rfl, ⟨K13.1.1, K13.1.2⟩, K13.2.1, K13.2.2⟩
        · refine gd_fi (fun c14_4 => ?_) (fun c14_4 => ?_)
          · refine gd_c n_a0 ?_
            refine gd_b (gX105_immediateU _ _ ⟨T.1, T.2⟩  ) (fun K15 => ?_)
            have f16 := (ext_is K15.2 (Nat.zero_lt_succ _) n_a0)
            refine gd_c f16 ?_
            have f18 := (ext_is K15.2 (Nat.zero_lt_succ _) n_a1)
            have f19 := (ext_is K15.2 (Nat.zero_lt_succ _) (tN_164 T.1 n_a0))
            refine gd_b (gX49_jump _ _ _ _ _ ⟨K15.1.1, K15.1.2⟩ f18 f19 ) (fun K17 => ?_)
            exact ⟨rfl, ⟨K17.1.1, K17.1.2⟩, (ext_tr K15.2 K17.2.1), K17.2.2⟩
          · refine gd_fi (fun c20_5 => ?_) (fun c20_5 => ?_)
            · refine gd_c n_a0 ?_
              refine gd_b (gX49_immediate _ _ _ _ _ ⟨T.1, T.2⟩ n_a1 n_a0 fz_1 ((((((h.2 c0_0).2 c2_1).2 c8_2).2 c12_3).2 c14_4).1 c20_5).1) (fun K21 => ?_)
              exact ⟨rfl, ⟨K21.1.1, K21.1.2⟩, K21.2.1, K21.2.2⟩
            · refine gd_fi (fun c22_6 => ?_) (fun c22_6 => ?_)
              · refine gd_fi (fun c23_0 => ?_) (fun c23_0 => ?_)
                · exact gd_tN (ext_r _) (gX49_find_374 _ _ _ _ _ ⟨T.1, T.2⟩ n_a0 n_a1 )
                · exact gd_tN (ext_r _) (gX49_find_374 _ _ _ _ _ ⟨T.1, T.2⟩ n_a0 n_a1 )
              · refine gd_fi (fun c24_7 => ?_) (fun c24_7 => ?_)
                · refine gd_c n_a0 ?_
                  refine gd_b (gX49_store _ _ _ _ _ _ _ ⟨T.1, T.2⟩ n_a1 n_a0 ) (fun K25 => ?_)
                  exact ⟨rfl, ⟨K25.1.1, K25.1.2⟩, K25.2.1, K25.2.2⟩
                · refine gd_fi (fun c26_8 => ?_) (fun c26_8 => ?_)
                  · refine gd_c n_a0 ?_
                    refine gd_b (gX49_atomic _ _ _ _ ⟨T.1, T.2⟩ n_a1 n_a0 ) (fun K27 => ?_)
                    exact ⟨rfl, ⟨K27.1.1, K27.1.2⟩, K27.2.1, K27.2.2⟩
                  · refine gd_fi (fun c28_9 => ?_) (fun c28_9 => ?_)
                    · refine gd_c n_a0 ?_
                      refine gd_b (gX49_registers _ _ _ _ _ ⟨T.1, T.2⟩ n_a1 n_a0 fz_0 ((((((((((h.2 c0_0).2 c2_1).2 c8_2).2 c12_3).2 c14_4).2 c20_5).2 c22_6).2 c24_7).2 c26_8).1 c28_9).1) (fun K29 => ?_)
                      exact ⟨rfl, ⟨K29.1.1, K29.1.2⟩, K29.2.1, K29.2.2⟩
                    · refine gd_fi (fun c30_10 => ?_) (fun c30_10 => ?_)
                      · refine gd_c n_a0 ?_
                        refine gd_b (gX105_immediateU _ _ ⟨T.1, T.2⟩  ) (fun K31 => ?_)
                        have f32 := (ext_is K31.2 (Nat.zero_lt_succ _) n_a0)
                        refine gd_c f32 ?_
                        have f34 := (ext_is K31.2 (Nat.zero_lt_succ _) n_a1)
                        have f35 := (ext_is K31.2 (Nat.zero_lt_succ _) (tN_163 T.1 n_a0))
                        refine gd_b (gX49_jump _ _ _ _ _ ⟨K31.1.1, K31.1.2⟩ f34 f35 ) (fun K33 => ?_)
                        exact ⟨rfl, ⟨K33.1.1, K33.1.2⟩, (ext_tr K31.2 K33.2.1), K33.2.2⟩
                      · refine gd_fi (fun c36_11 => ?_) (fun c36_11 => ?_)
                        · refine gd_c n_a0 ?_
                          refine gd_b (gX49_registers _ _ _ _ _ ⟨T.1, T.2⟩ n_a1 n_a0 fz_1 ((((((((((((h.2 c0_0).2 c2_1).2 c8_2).2 c12_3).2 c14_4).2 c20_5).2 c22_6).2 c24_7).2 c26_8).2 c28_9).2 c30_10).1 c36_11).1) (fun K37 => ?_)
                          exact ⟨rfl, ⟨K37.1.1, K37.1.2⟩, K37.2.1, K37.2.2⟩
                        · refine gd_fi (fun c38_12 => ?_) (fun c38_12 => ?_)
                          · exact gd_tN (ext_r _) (gX49_find_421 _ _ _ _ ⟨T.1, T.2⟩ n_a0 n_a1 )
                          · refine gd_fi (fun c39_13 => ?_) (fun c39_13 => ?_)
                            · exact gd_tN (ext_r _) (gX49_find_421 _ _ _ _ ⟨T.1, T.2⟩ n_a0 n_a1 )
                            · refine gd_fi (fun c40_14 => ?_) (fun c40_14 => ?_)
                              · exact gd_tN (ext_r _) (gX49_find_421 _ _ _ _ ⟨T.1, T.2⟩ n_a0 n_a1 )
                              · refine gd_fi (fun c41_15 => ?_) (fun c41_15 => ?_)
                                · exact gd_tN (ext_r _) (gX49_find_421 _ _ _ _ ⟨T.1, T.2⟩ n_a0 n_a1 )
                                · refine gd_fi (fun c42_16 => ?_) (fun c42_16 => ?_)
                                  · exact gd_tN (ext_r _) (gX49_find_421 _ _ _ _ ⟨T.1, T.2⟩ n_a0 n_a1 )
                                  · refine gd_fi (fun c43_17 => ?_) (fun c43_17 => ?_)
                                    · refine gd_c n_a0 ?_
                                      refine gd_b (gX49_branch _ _ _ _ ⟨T.1, T.2⟩ n_a1 n_a0 ) (fun K44 => ?_)
                                      exact ⟨rfl, ⟨K44.1.1, K44.1.2⟩, K44.2.1, K44.2.2⟩
                                    · refine gd_fi (fun c45_18 => ?_) (fun c45_18 => ?_)
                                      · refine gd_fi (fun c46_0 => ?_) (fun c46_0 => ?_)
                                        · refine gd_c n_a0 ?_
                                          have f47 := (tN_166 T.1 n_a0)
                                          exact gd_tN (ext_r _) (gX49_find_266 _ _ _ _ _ ⟨T.1, T.2⟩ n_a0 n_a1 f47 )
                                        · refine gd_c n_a0 ?_
                                          have f48 := (tN_161 T.1 n_a0)
                                          exact gd_tN (ext_r _) (gX49_find_266 _ _ _ _ _ ⟨T.1, T.2⟩ n_a0 n_a1 f48 )
                                      · refine gd_fi (fun c49_19 => ?_) (fun c49_19 => ?_)
                                        · refine gd_c n_a0 ?_
                                          refine gd_b (gX105_immediateJ _ _ ⟨T.1, T.2⟩  ) (fun K50 => ?_)
                                          have f51 := (ext_is K50.2 (Nat.zero_lt_succ _) n_a0)
                                          refine gd_c f51 ?_
                                          have f53 := (ext_is K50.2 (Nat.zero_lt_succ _) n_a1)
                                          have f54 := (ext_is K50.2 (Nat.zero_lt_succ _) (tN_165 T.1 n_a0))
                                          refine gd_b (gX49_jump _ _ _ _ _ ⟨K50.1.1, K50.1.2⟩ f53 f54 ) (fun K52 => ?_)
                                          exact ⟨rfl, ⟨K52.1.1, K52.1.2⟩, (ext_tr K50.2 K52.2.1), K52.2.2⟩
                                        · refine gd_fi (fun c55_20 => ?_) (fun c55_20 => ?_)
                                          · refine gd_fi (fun c56_0 => ?_) (fun c56_0 => ?_)
                                            · exact gd_tN (ext_r _) (gX49_find_444 _ _ _ _ _ _ ⟨T.1, T.2⟩ n_a0 n_a1 )
                                            · exact gd_tN (ext_r _) (gX49_find_444 _ _ _ _ _ _ ⟨T.1, T.2⟩ n_a0 n_a1 )
                                          · refine gd_c n_a0 ?_
                                            have f57 := (tN_161 T.1 n_a0)
                                            exact ⟨rfl, ⟨T.1, T.2⟩, (ext_r _), f57⟩
noncomputable def GX49_find_10 (a0 : Nat) (a1 : Nat) (a2 : Int32) (a3 : Int32) (M : FM) : Nat × FM :=
  GX49_find_15 a0 a1 a2 a3 (Int32.ofInt 1) M
def HX49_find_10 (a0 : Nat) (a1 : Nat) (a2 : Int32) (a3 : Int32) (M : FM) : Prop := HX49_find_15 a0 a1 a2 a3 (Int32.ofInt 1) M
theorem gX49_find_10 (a0 : Nat) (a1 : Nat) (a2 : Int32) (a3 : Int32) (M : FM) (T : Ty M) (n_a1 : fm_is M 61 61 a1 = true) (n_a0 : fm_is M 62 62 a0 = true) (h : HX49_find_10 a0 a1 a2 a3 M) : gd (FX49_find_10 a0 a1 a2 a3 M) (GX49_find_10 a0 a1 a2 a3 M) (OkN 53 60 M) := by
  delta FX49_find_10 BX49_find_10
  exact gd_tN (ext_r _) (gX49_find_15 _ _ _ _ _ _ ⟨T.1, T.2⟩ n_a1 n_a0 h)
noncomputable def GX49_find_0 (a0 : Nat) (a1 : Nat) (a2 : Int32) (a3 : Int32) (M : FM) : Nat × FM :=
  fi (a3 = (Int32.ofInt 2)) (
    GX49_find_10 a0 a1 a2 a3 M) (
    fi (a3 = (Int32.ofInt 3)) (
      GX49_find_10 a0 a1 a2 a3 M) (
      GX49_find_15 a0 a1 a2 a3 (Int32.ofInt 0) M))
def HX49_find_0 (a0 : Nat) (a1 : Nat) (a2 : Int32) (a3 : Int32) (M : FM) : Prop := ((a3 = (Int32.ofInt 2) → HX49_find_10 a0 a1 a2 a3 M) ∧ (¬ (a3 = (Int32.ofInt 2)) → ((a3 = (Int32.ofInt 3) → HX49_find_10 a0 a1 a2 a3 M) ∧ (¬ (a3 = (Int32.ofInt 3)) → HX49_find_15 a0 a1 a2 a3 (Int32.ofInt 0) M))))
theorem gX49_find_0 (a0 : Nat) (a1 : Nat) (a2 : Int32) (a3 : Int32) (M : FM) (T : Ty M) (n_a1 : fm_is M 61 61 a1 = true) (n_a0 : fm_is M 62 62 a0 = true) (h : HX49_find_0 a0 a1 a2 a3 M) : gd (FX49_find_0 a0 a1 a2 a3 M) (GX49_find_0 a0 a1 a2 a3 M) (OkN 53 60 M) := by
  delta FX49_find_0 BX49_find_0
  refine gd_fi (fun c0_0 => ?_) (fun c0_0 => ?_)
  · exact gd_tN (ext_r _) (gX49_find_10 _ _ _ _ _ ⟨T.1, T.2⟩ n_a1 n_a0 (h.1 c0_0))
  · refine gd_fi (fun c1_0 => ?_) (fun c1_0 => ?_)
    · exact gd_tN (ext_r _) (gX49_find_10 _ _ _ _ _ ⟨T.1, T.2⟩ n_a1 n_a0 ((h.2 c0_0).1 c1_0))
    · exact gd_tN (ext_r _) (gX49_find_15 _ _ _ _ _ _ ⟨T.1, T.2⟩ n_a1 n_a0 ((h.2 c0_0).2 c1_0))
noncomputable def GX49_find (a0 : Nat) (a1 : Nat) (a2 : Int32) (a3 : Int32) (M : FM) : Nat × FM := GX49_find_0 a0 a1 a2 a3 M
def HX49_find (a0 : Nat) (a1 : Nat) (a2 : Int32) (a3 : Int32) (M : FM) : Prop := HX49_find_0 a0 a1 a2 a3 M
theorem gX49_find (a0 : Nat) (a1 : Nat) (a2 : Int32) (a3 : Int32) (M : FM) (T : Ty M) (n_a1 : fm_is M 61 61 a1 = true) (n_a0 : fm_is M 62 62 a0 = true) (h : HX49_find a0 a1 a2 a3 M) : gd (FX49_find a0 a1 a2 a3 M) (GX49_find a0 a1 a2 a3 M) (OkN 53 60 M) := gX49_find_0 a0 a1 a2 a3 M T n_a1 n_a0 h
noncomputable def GX49_read_0 (a0 : Nat) (a1 : Int32) (a2 : Nat) (M : FM) : FM :=
  let M1 : FM := fm_sI M 150 a2 0 a1
  let r2 : Int32 × FM := GX105_bits a1 (Int32.ofInt 11) (Int32.ofInt 7) M1
  let M3 : FM := fm_sI r2.2 151 a2 0 r2.1
  let r4 : Int32 × FM := GX105_bits a1 (Int32.ofInt 19) (Int32.ofInt 15) M3
  let M5 : FM := fm_sI r4.2 152 a2 0 r4.1
  let r6 : Int32 × FM := GX105_bits a1 (Int32.ofInt 24) (Int32.ofInt 20) M5
  let M7 : FM := fm_sI r6.2 153 a2 0 r6.1
  let r8 : Int32 × FM := GX105_bits a1 (Int32.ofInt 6) (Int32.ofInt 0) M7
  let r9 : Int32 × FM := GX105_bits a1 (Int32.ofInt 14) (Int32.ofInt 12) r8.2
  let r10 : Nat × FM := GX49_find a0 a2 r8.1 r9.1 r9.2
  let M11 : FM := fm_sR r10.2 149 a2 0 r10.1
  M11
def HX49_read_0 (a0 : Nat) (a1 : Int32) (a2 : Nat) (M : FM) : Prop := let M1 : FM := fm_sI M 150 a2 0 a1; let r2 : Int32 × FM := GX105_bits a1 (Int32.ofInt 11) (Int32.ofInt 7) M1; let M3 : FM := fm_sI r2.2 151 a2 0 r2.1; let r4 : Int32 × FM := GX105_bits a1 (Int32.ofInt 19) (Int32.ofInt 15) M3; let M5 : FM := fm_sI r4.2 152 a2 0 r4.1; let r6 : Int32 × FM := GX105_bits a1 (Int32.ofInt 24) (Int32.ofInt 20) M5; let M7 : FM := fm_sI r6.2 153 a2 0 r6.1; let r8 : Int32 × FM := GX105_bits a1 (Int32.ofInt 6) (Int32.ofInt 0) M7; let r9 : Int32 × FM := GX105_bits a1 (Int32.ofInt 14) (Int32.ofInt 12) r8.2; (HX49_find a0 a2 r8.1 r9.1 r9.2 ∧ True)
theorem gX49_read_0 (a0 : Nat) (a1 : Int32) (a2 : Nat) (M : FM) (T : Ty M) (n_a2 : fm_is M 61 61 a2 = true) (n_a0 : fm_is M 62 62 a0 = true) (h : HX49_read_0 a0 a1 a2 M) : gd (FX49_read_0 a0 a1 a2 M) (GX49_read_0 a0 a1 a2 M) (OkV M) := by
  delta FX49_read_0 BX49_read_0
  refine gd_c n_a2 ?_
  refine gd_b (gX105_bits _ _ _ _ ⟨T.1, (tyb_sI (f := 150) rfl T.2)⟩  ) (fun K0 => ?_)
  have f1 := (ext_is K0.2 (Nat.zero_lt_succ _) n_a2)
  refine gd_c f1 ?_
  refine gd_b (gX105_bits _ _ _ _ ⟨K0.1.1, (tyb_sI (f := 151) rfl K0.1.2)⟩  ) (fun K2 => ?_)
  have f3 := (ext_is K2.2 (Nat.zero_lt_succ _) (ext_is K0.2 (Nat.zero_lt_succ _) n_a2))
  refine gd_c f3 ?_
  refine gd_b (gX105_bits _ _ _ _ ⟨K2.1.1, (tyb_sI (f := 152) rfl K2.1.2)⟩  ) (fun K4 => ?_)
  have f5 := (ext_is K4.2 (Nat.zero_lt_succ _) (ext_is K2.2 (Nat.zero_lt_succ _) (ext_is K0.2 (Nat.zero_lt_succ _) n_a2)))
  refine gd_c f5 ?_
  refine gd_b (gX105_bits _ _ _ _ ⟨K4.1.1, (tyb_sI (f := 153) rfl K4.1.2)⟩  ) (fun K6 => ?_)
  refine gd_b (gX105_bits _ _ _ _ ⟨K6.1.1, K6.1.2⟩  ) (fun K7 => ?_)
  have f8 := (ext_is K7.2 (Nat.zero_lt_succ _) (ext_is K6.2 (Nat.zero_lt_succ _) (ext_is K4.2 (Nat.zero_lt_succ _) (ext_is K2.2 (Nat.zero_lt_succ _) (ext_is K0.2 (Nat.zero_lt_succ _) n_a0)))))
  refine gd_c f8 ?_
  have f12 := (ext_is K7.2 (Nat.zero_lt_succ _) (ext_is K6.2 (Nat.zero_lt_succ _) (ext_is K4.2 (Nat.zero_lt_succ _) (ext_is K2.2 (Nat.zero_lt_succ _) (ext_is K0.2 (Nat.zero_lt_succ _) n_a2)))))
  have f13 := (ext_is K7.2 (Nat.zero_lt_succ _) (ext_is K6.2 (Nat.zero_lt_succ _) (ext_is K4.2 (Nat.zero_lt_succ _) (ext_is K2.2 (Nat.zero_lt_succ _) (ext_is K0.2 (Nat.zero_lt_succ _) n_a0)))))
  refine gd_b (gX49_find _ _ _ _ _ ⟨K7.1.1, K7.1.2⟩ f12 f13 h.1) (fun K9 => ?_)
  have f10 := (ext_is K9.2.1 (Nat.zero_lt_succ _) (ext_is K7.2 (Nat.zero_lt_succ _) (ext_is K6.2 (Nat.zero_lt_succ _) (ext_is K4.2 (Nat.zero_lt_succ _) (ext_is K2.2 (Nat.zero_lt_succ _) (ext_is K0.2 (Nat.zero_lt_succ _) n_a2))))))
  refine gd_c f10 ?_
  have TR11 : TyR (fm_sR (GX49_find a0 a2 (GX105_bits a1 (Int32.ofInt 6) (Int32.ofInt 0) (fm_sI (GX105_bits a1 (Int32.ofInt 24) (Int32.ofInt 20) (fm_sI (GX105_bits a1 (Int32.ofInt 19) (Int32.ofInt 15) (fm_sI (GX105_bits a1 (Int32.ofInt 11) (Int32.ofInt 7) (fm_sI M 150 a2 0 a1)).2 151 a2 0 (GX105_bits a1 (Int32.ofInt 11) (Int32.ofInt 7) (fm_sI M 150 a2 0 a1)).1)).2 152 a2 0 (GX105_bits a1 (Int32.ofInt 19) (Int32.ofInt 15) (fm_sI (GX105_bits a1 (Int32.ofInt 11) (Int32.ofInt 7) (fm_sI M 150 a2 0 a1)).2 151 a2 0 (GX105_bits a1 (Int32.ofInt 11) (Int32.ofInt 7) (fm_sI M 150 a2 0 a1)).1)).1)).2 153 a2 0 (GX105_bits a1 (Int32.ofInt 24) (Int32.ofInt 20) (fm_sI (GX105_bits a1 (Int32.ofInt 19) (Int32.ofInt 15) (fm_sI (GX105_bits a1 (Int32.ofInt 11) (Int32.ofInt 7) (fm_sI M 150 a2 0 a1)).2 151 a2 0 (GX105_bits a1 (Int32.ofInt 11) (Int32.ofInt 7) (fm_sI M 150 a2 0 a1)).1)).2 152 a2 0 (GX105_bits a1 (Int32.ofInt 19) (Int32.ofInt 15) (fm_sI (GX105_bits a1 (Int32.ofInt 11) (Int32.ofInt 7) (fm_sI M 150 a2 0 a1)).2 151 a2 0 (GX105_bits a1 (Int32.ofInt 11) (Int32.ofInt 7) (fm_sI M 150 a2 0 a1)).1)).1)).1)).1 (GX105_bits a1 (Int32.ofInt 14) (Int32.ofInt 12) (GX105_bits a1 (Int32.ofInt 6) (Int32.ofInt 0) (fm_sI (GX105_bits a1 (Int32.ofInt 24) (Int32.ofInt 20) (fm_sI (GX105_bits a1 (Int32.ofInt 19) (Int32.ofInt 15) (fm_sI (GX105_bits a1 (Int32.ofInt 11) (Int32.ofInt 7) (fm_sI M 150 a2 0 a1)).2 151 a2 0 (GX105_bits a1 (Int32.ofInt 11) (Int32.ofInt 7) (fm_sI M 150 a2 0 a1)).1)).2 152 a2 0 (GX105_bits a1 (Int32.ofInt 19) (Int32.ofInt 15) (fm_sI (GX105_bits a1 (Int32.ofInt 11) (Int32.ofInt 7) (fm_sI M 150 a2 0 a1)).2 151 a2 0 (GX105_bits a1 (Int32.ofInt 11) (Int32.ofInt 7) (fm_sI M 150 a2 0 a1)).1)).1)).2 153 a2 0 (GX105_bits a1 (Int32.ofInt 24) (Int32.ofInt 20) (fm_sI (GX105_bits a1 (Int32.ofInt 19) (Int32.ofInt 15) (fm_sI (GX105_bits a1 (Int32.ofInt 11) (Int32.ofInt 7) (fm_sI M 150 a2 0 a1)).2 151 a2 0 (GX105_bits a1 (Int32.ofInt 11) (Int32.ofInt 7) (fm_sI M 150 a2 0 a1)).1)).2 152 a2 0 (GX105_bits a1 (Int32.ofInt 19) (Int32.ofInt 15) (fm_sI (GX105_bits a1 (Int32.ofInt 11) (Int32.ofInt 7) (fm_sI M 150 a2 0 a1)).2 151 a2 0 (GX105_bits a1 (Int32.ofInt 11) (Int32.ofInt 7) (fm_sI M 150 a2 0 a1)).1)).1)).1)).2).1 (GX105_bits a1 (Int32.ofInt 14) (Int32.ofInt 12) (GX105_bits a1 (Int32.ofInt 6) (Int32.ofInt 0) (fm_sI (GX105_bits a1 (Int32.ofInt 24) (Int32.ofInt 20) (fm_sI (GX105_bits a1 (Int32.ofInt 19) (Int32.ofInt 15) (fm_sI (GX105_bits a1 (Int32.ofInt 11) (Int32.ofInt 7) (fm_sI M 150 a2 0 a1)).2 151 a2 0 (GX105_bits a1 (Int32.ofInt 11) (Int32.ofInt 7) (fm_sI M 150 a2 0 a1)).1)).2 152 a2 0 (GX105_bits a1 (Int32.ofInt 19) (Int32.ofInt 15) (fm_sI (GX105_bits a1 (Int32.ofInt 11) (Int32.ofInt 7) (fm_sI M 150 a2 0 a1)).2 151 a2 0 (GX105_bits a1 (Int32.ofInt 11) (Int32.ofInt 7) (fm_sI M 150 a2 0 a1)).1)).1)).2 153 a2 0 (GX105_bits a1 (Int32.ofInt 24) (Int32.ofInt 20) (fm_sI (GX105_bits a1 (Int32.ofInt 19) (Int32.ofInt 15) (fm_sI (GX105_bits a1 (Int32.ofInt 11) (Int32.ofInt 7) (fm_sI M 150 a2 0 a1)).2 151 a2 0 (GX105_bits a1 (Int32.ofInt 11) (Int32.ofInt 7) (fm_sI M 150 a2 0 a1)).1)).2 152 a2 0 (GX105_bits a1 (Int32.ofInt 19) (Int32.ofInt 15) (fm_sI (GX105_bits a1 (Int32.ofInt 11) (Int32.ofInt 7) (fm_sI M 150 a2 0 a1)).2 151 a2 0 (GX105_bits a1 (Int32.ofInt 11) (Int32.ofInt 7) (fm_sI M 150 a2 0 a1)).1)).1)).1)).2).2).2 149 a2 0 (GX49_find a0 a2 (GX105_bits a1 (Int32.ofInt 6) (Int32.ofInt 0) (fm_sI (GX105_bits a1 (Int32.ofInt 24) (Int32.ofInt 20) (fm_sI (GX105_bits a1 (Int32.ofInt 19) (Int32.ofInt 15) (fm_sI (GX105_bits a1 (Int32.ofInt 11) (Int32.ofInt 7) (fm_sI M 150 a2 0 a1)).2 151 a2 0 (GX105_bits a1 (Int32.ofInt 11) (Int32.ofInt 7) (fm_sI M 150 a2 0 a1)).1)).2 152 a2 0 (GX105_bits a1 (Int32.ofInt 19) (Int32.ofInt 15) (fm_sI (GX105_bits a1 (Int32.ofInt 11) (Int32.ofInt 7) (fm_sI M 150 a2 0 a1)).2 151 a2 0 (GX105_bits a1 (Int32.ofInt 11) (Int32.ofInt 7) (fm_sI M 150 a2 0 a1)).1)).1)).2 153 a2 0 (GX105_bits a1 (Int32.ofInt 24) (Int32.ofInt 20) (fm_sI (GX105_bits a1 (Int32.ofInt 19) (Int32.ofInt 15) (fm_sI (GX105_bits a1 (Int32.ofInt 11) (Int32.ofInt 7) (fm_sI M 150 a2 0 a1)).2 151 a2 0 (GX105_bits a1 (Int32.ofInt 11) (Int32.ofInt 7) (fm_sI M 150 a2 0 a1)).1)).2 152 a2 0 (GX105_bits a1 (Int32.ofInt 19) (Int32.ofInt 15) (fm_sI (GX105_bits a1 (Int32.ofInt 11) (Int32.ofInt 7) (fm_sI M 150 a2 0 a1)).2 151 a2 0 (GX105_bits a1 (Int32.ofInt 11) (Int32.ofInt 7) (fm_sI M 150 a2 0 a1)).1)).1)).1)).1 (GX105_bits a1 (Int32.ofInt 14) (Int32.ofInt 12) (GX105_bits a1 (Int32.ofInt 6) (Int32.ofInt 0) (fm_sI (GX105_bits a1 (Int32.ofInt 24) (Int32.ofInt 20) (fm_sI (GX105_bits a1 (Int32.ofInt 19) (Int32.ofInt 15) (fm_sI (GX105_bits a1 (Int32.ofInt 11) (Int32.ofInt 7) (fm_sI M 150 a2 0 a1)).2 151 a2 0 (GX105_bits a1 (Int32.ofInt 11) (Int32.ofInt 7) (fm_sI M 150 a2 0 a1)).1)).2 152 a2 0 (GX105_bits a1 (Int32.ofInt 19) (Int32.ofInt 15) (fm_sI (GX105_bits a1 (Int32.ofInt 11) (Int32.ofInt 7) (fm_sI M 150 a2 0 a1)).2 151 a2 0 (GX105_bits a1 (Int32.ofInt 11) (Int32.ofInt 7) (fm_sI M 150 a2 0 a1)).1)).1)).2 153 a2 0 (GX105_bits a1 (Int32.ofInt 24) (Int32.ofInt 20) (fm_sI (GX105_bits a1 (Int32.ofInt 19) (Int32.ofInt 15) (fm_sI (GX105_bits a1 (Int32.ofInt 11) (Int32.ofInt 7) (fm_sI M 150 a2 0 a1)).2 151 a2 0 (GX105_bits a1 (Int32.ofInt 11) (Int32.ofInt 7) (fm_sI M 150 a2 0 a1)).1)).2 152 a2 0 (GX105_bits a1 (Int32.ofInt 19) (Int32.ofInt 15) (fm_sI (GX105_bits a1 (Int32.ofInt 11) (Int32.ofInt 7) (fm_sI M 150 a2 0 a1)).2 151 a2 0 (GX105_bits a1 (Int32.ofInt 11) (Int32.ofInt 7) (fm_sI M 150 a2 0 a1)).1)).1)).1)).2).1 (GX105_bits a1 (Int32.ofInt 14) (Int32.ofInt 12) (GX105_bits a1 (Int32.ofInt 6) (Int32.ofInt 0) (fm_sI (GX105_bits a1 (Int32.ofInt 24) (Int32.ofInt 20) (fm_sI (GX105_bits a1 (Int32.ofInt 19) (Int32.ofInt 15) (fm_sI (GX105_bits a1 (Int32.ofInt 11) (Int32.ofInt 7) (fm_sI M 150 a2 0 a1)).2 151 a2 0 (GX105_bits a1 (Int32.ofInt 11) (Int32.ofInt 7) (fm_sI M 150 a2 0 a1)).1)).2 152 a2 0 (GX105_bits a1 (Int32.ofInt 19) (Int32.ofInt 15) (fm_sI (GX105_bits a1 (Int32.ofInt 11) (Int32.ofInt 7) (fm_sI M 150 a2 0 a1)).2 151 a2 0 (GX105_bits a1 (Int32.ofInt 11) (Int32.ofInt 7) (fm_sI M 150 a2 0 a1)).1)).1)).2 153 a2 0 (GX105_bits a1 (Int32.ofInt 24) (Int32.ofInt 20) (fm_sI (GX105_bits a1 (Int32.ofInt 19) (Int32.ofInt 15) (fm_sI (GX105_bits a1 (Int32.ofInt 11) (Int32.ofInt 7) (fm_sI M 150 a2 0 a1)).2 151 a2 0 (GX105_bits a1 (Int32.ofInt 11) (Int32.ofInt 7) (fm_sI M 150 a2 0 a1)).1)).2 152 a2 0 (GX105_bits a1 (Int32.ofInt 19) (Int32.ofInt 15) (fm_sI (GX105_bits a1 (Int32.ofInt 11) (Int32.ofInt 7) (fm_sI M 150 a2 0 a1)).2 151 a2 0 (GX105_bits a1 (Int32.ofInt 11) (Int32.ofInt 7) (fm_sI M 150 a2 0 a1)).1)).1)).1)).2).2).1).2.2 := (tS_149 K9.1.1 (fun _ => K9.2.2))
  have BR11 : TyB (fm_sR (GX49_find a0 a2 (GX105_bits a1 (Int32.ofInt 6) (Int32.ofInt 0) (fm_sI (GX105_bits a1 (Int32.ofInt 24) (Int32.ofInt 20) (fm_sI (GX105_bits a1 (Int32.ofInt 19) (Int32.ofInt 15) (fm_sI (GX105_bits a1 (Int32.ofInt 11) (Int32.ofInt 7) (fm_sI M 150 a2 0 a1)).2 151 a2 0 (GX105_bits a1 (Int32.ofInt 11) (Int32.ofInt 7) (fm_sI M 150 a2 0 a1)).1)).2 152 a2 0 (GX105_bits a1 (Int32.ofInt 19) (Int32.ofInt 15) (fm_sI (GX105_bits a1 (Int32.ofInt 11) (Int32.ofInt 7) (fm_sI M 150 a2 0 a1)).2 151 a2 0 (GX105_bits a1 (Int32.ofInt 11) (Int32.ofInt 7) (fm_sI M 150 a2 0 a1)).1)).1)).2 153 a2 0 (GX105_bits a1 (Int32.ofInt 24) (Int32.ofInt 20) (fm_sI (GX105_bits a1 (Int32.ofInt 19) (Int32.ofInt 15) (fm_sI (GX105_bits a1 (Int32.ofInt 11) (Int32.ofInt 7) (fm_sI M 150 a2 0 a1)).2 151 a2 0 (GX105_bits a1 (Int32.ofInt 11) (Int32.ofInt 7) (fm_sI M 150 a2 0 a1)).1)).2 152 a2 0 (GX105_bits a1 (Int32.ofInt 19) (Int32.ofInt 15) (fm_sI (GX105_bits a1 (Int32.ofInt 11) (Int32.ofInt 7) (fm_sI M 150 a2 0 a1)).2 151 a2 0 (GX105_bits a1 (Int32.ofInt 11) (Int32.ofInt 7) (fm_sI M 150 a2 0 a1)).1)).1)).1)).1 (GX105_bits a1 (Int32.ofInt 14) (Int32.ofInt 12) (GX105_bits a1 (Int32.ofInt 6) (Int32.ofInt 0) (fm_sI (GX105_bits a1 (Int32.ofInt 24) (Int32.ofInt 20) (fm_sI (GX105_bits a1 (Int32.ofInt 19) (Int32.ofInt 15) (fm_sI (GX105_bits a1 (Int32.ofInt 11) (Int32.ofInt 7) (fm_sI M 150 a2 0 a1)).2 151 a2 0 (GX105_bits a1 (Int32.ofInt 11) (Int32.ofInt 7) (fm_sI M 150 a2 0 a1)).1)).2 152 a2 0 (GX105_bits a1 (Int32.ofInt 19) (Int32.ofInt 15) (fm_sI (GX105_bits a1 (Int32.ofInt 11) (Int32.ofInt 7) (fm_sI M 150 a2 0 a1)).2 151 a2 0 (GX105_bits a1 (Int32.ofInt 11) (Int32.ofInt 7) (fm_sI M 150 a2 0 a1)).1)).1)).2 153 a2 0 (GX105_bits a1 (Int32.ofInt 24) (Int32.ofInt 20) (fm_sI (GX105_bits a1 (Int32.ofInt 19) (Int32.ofInt 15) (fm_sI (GX105_bits a1 (Int32.ofInt 11) (Int32.ofInt 7) (fm_sI M 150 a2 0 a1)).2 151 a2 0 (GX105_bits a1 (Int32.ofInt 11) (Int32.ofInt 7) (fm_sI M 150 a2 0 a1)).1)).2 152 a2 0 (GX105_bits a1 (Int32.ofInt 19) (Int32.ofInt 15) (fm_sI (GX105_bits a1 (Int32.ofInt 11) (Int32.ofInt 7) (fm_sI M 150 a2 0 a1)).2 151 a2 0 (GX105_bits a1 (Int32.ofInt 11) (Int32.ofInt 7) (fm_sI M 150 a2 0 a1)).1)).1)).1)).2).1 (GX105_bits a1 (Int32.ofInt 14) (Int32.ofInt 12) (GX105_bits a1 (Int32.ofInt 6) (Int32.ofInt 0) (fm_sI (GX105_bits a1 (Int32.ofInt 24) (Int32.ofInt 20) (fm_sI (GX105_bits a1 (Int32.ofInt 19) (Int32.ofInt 15) (fm_sI (GX105_bits a1 (Int32.ofInt 11) (Int32.ofInt 7) (fm_sI M 150 a2 0 a1)).2 151 a2 0 (GX105_bits a1 (Int32.ofInt 11) (Int32.ofInt 7) (fm_sI M 150 a2 0 a1)).1)).2 152 a2 0 (GX105_bits a1 (Int32.ofInt 19) (Int32.ofInt 15) (fm_sI (GX105_bits a1 (Int32.ofInt 11) (Int32.ofInt 7) (fm_sI M 150 a2 0 a1)).2 151 a2 0 (GX105_bits a1 (Int32.ofInt 11) (Int32.ofInt 7) (fm_sI M 150 a2 0 a1)).1)).1)).2 153 a2 0 (GX105_bits a1 (Int32.ofInt 24) (Int32.ofInt 20) (fm_sI (GX105_bits a1 (Int32.ofInt 19) (Int32.ofInt 15) (fm_sI (GX105_bits a1 (Int32.ofInt 11) (Int32.ofInt 7) (fm_sI M 150 a2 0 a1)).2 151 a2 0 (GX105_bits a1 (Int32.ofInt 11) (Int32.ofInt 7) (fm_sI M 150 a2 0 a1)).1)).2 152 a2 0 (GX105_bits a1 (Int32.ofInt 19) (Int32.ofInt 15) (fm_sI (GX105_bits a1 (Int32.ofInt 11) (Int32.ofInt 7) (fm_sI M 150 a2 0 a1)).2 151 a2 0 (GX105_bits a1 (Int32.ofInt 11) (Int32.ofInt 7) (fm_sI M 150 a2 0 a1)).1)).1)).1)).2).2).2 149 a2 0 (GX49_find a0 a2 (GX105_bits a1 (Int32.ofInt 6) (Int32.ofInt 0) (fm_sI (GX105_bits a1 (Int32.ofInt 24) (Int32.ofInt 20) (fm_sI (GX105_bits a1 (Int32.ofInt 19) (Int32.ofInt 15) (fm_sI (GX105_bits a1 (Int32.ofInt 11) (Int32.ofInt 7) (fm_sI M 150 a2 0 a1)).2 151 a2 0 (GX105_bits a1 (Int32.ofInt 11) (Int32.ofInt 7) (fm_sI M 150 a2 0 a1)).1)).2 152 a2 0 (GX105_bits a1 (Int32.ofInt 19) (Int32.ofInt 15) (fm_sI (GX105_bits a1 (Int32.ofInt 11) (Int32.ofInt 7) (fm_sI M 150 a2 0 a1)).2 151 a2 0 (GX105_bits a1 (Int32.ofInt 11) (Int32.ofInt 7) (fm_sI M 150 a2 0 a1)).1)).1)).2 153 a2 0 (GX105_bits a1 (Int32.ofInt 24) (Int32.ofInt 20) (fm_sI (GX105_bits a1 (Int32.ofInt 19) (Int32.ofInt 15) (fm_sI (GX105_bits a1 (Int32.ofInt 11) (Int32.ofInt 7) (fm_sI M 150 a2 0 a1)).2 151 a2 0 (GX105_bits a1 (Int32.ofInt 11) (Int32.ofInt 7) (fm_sI M 150 a2 0 a1)).1)).2 152 a2 0 (GX105_bits a1 (Int32.ofInt 19) (Int32.ofInt 15) (fm_sI (GX105_bits a1 (Int32.ofInt 11) (Int32.ofInt 7) (fm_sI M 150 a2 0 a1)).2 151 a2 0 (GX105_bits a1 (Int32.ofInt 11) (Int32.ofInt 7) (fm_sI M 150 a2 0 a1)).1)).1)).1)).1 (GX105_bits a1 (Int32.ofInt 14) (Int32.ofInt 12) (GX105_bits a1 (Int32.ofInt 6) (Int32.ofInt 0) (fm_sI (GX105_bits a1 (Int32.ofInt 24) (Int32.ofInt 20) (fm_sI (GX105_bits a1 (Int32.ofInt 19) (Int32.ofInt 15) (fm_sI (GX105_bits a1 (Int32.ofInt 11) (Int32.ofInt 7) (fm_sI M 150 a2 0 a1)).2 151 a2 0 (GX105_bits a1 (Int32.ofInt 11) (Int32.ofInt 7) (fm_sI M 150 a2 0 a1)).1)).2 152 a2 0 (GX105_bits a1 (Int32.ofInt 19) (Int32.ofInt 15) (fm_sI (GX105_bits a1 (Int32.ofInt 11) (Int32.ofInt 7) (fm_sI M 150 a2 0 a1)).2 151 a2 0 (GX105_bits a1 (Int32.ofInt 11) (Int32.ofInt 7) (fm_sI M 150 a2 0 a1)).1)).1)).2 153 a2 0 (GX105_bits a1 (Int32.ofInt 24) (Int32.ofInt 20) (fm_sI (GX105_bits a1 (Int32.ofInt 19) (Int32.ofInt 15) (fm_sI (GX105_bits a1 (Int32.ofInt 11) (Int32.ofInt 7) (fm_sI M 150 a2 0 a1)).2 151 a2 0 (GX105_bits a1 (Int32.ofInt 11) (Int32.ofInt 7) (fm_sI M 150 a2 0 a1)).1)).2 152 a2 0 (GX105_bits a1 (Int32.ofInt 19) (Int32.ofInt 15) (fm_sI (GX105_bits a1 (Int32.ofInt 11) (Int32.ofInt 7) (fm_sI M 150 a2 0 a1)).2 151 a2 0 (GX105_bits a1 (Int32.ofInt 11) (Int32.ofInt 7) (fm_sI M 150 a2 0 a1)).1)).1)).1)).2).1 (GX105_bits a1 (Int32.ofInt 14) (Int32.ofInt 12) (GX105_bits a1 (Int32.ofInt 6) (Int32.ofInt 0) (fm_sI (GX105_bits a1 (Int32.ofInt 24) (Int32.ofInt 20) (fm_sI (GX105_bits a1 (Int32.ofInt 19) (Int32.ofInt 15) (fm_sI (GX105_bits a1 (Int32.ofInt 11) (Int32.ofInt 7) (fm_sI M 150 a2 0 a1)).2 151 a2 0 (GX105_bits a1 (Int32.ofInt 11) (Int32.ofInt 7) (fm_sI M 150 a2 0 a1)).1)).2 152 a2 0 (GX105_bits a1 (Int32.ofInt 19) (Int32.ofInt 15) (fm_sI (GX105_bits a1 (Int32.ofInt 11) (Int32.ofInt 7) (fm_sI M 150 a2 0 a1)).2 151 a2 0 (GX105_bits a1 (Int32.ofInt 11) (Int32.ofInt 7) (fm_sI M 150 a2 0 a1)).1)).1)).2 153 a2 0 (GX105_bits a1 (Int32.ofInt 24) (Int32.ofInt 20) (fm_sI (GX105_bits a1 (Int32.ofInt 19) (Int32.ofInt 15) (fm_sI (GX105_bits a1 (Int32.ofInt 11) (Int32.ofInt 7) (fm_sI M 150 a2 0 a1)).2 151 a2 0 (GX105_bits a1 (Int32.ofInt 11) (Int32.ofInt 7) (fm_sI M 150 a2 0 a1)).1)).2 152 a2 0 (GX105_bits a1 (Int32.ofInt 19) (Int32.ofInt 15) (fm_sI (GX105_bits a1 (Int32.ofInt 11) (Int32.ofInt 7) (fm_sI M 150 a2 0 a1)).2 151 a2 0 (GX105_bits a1 (Int32.ofInt 11) (Int32.ofInt 7) (fm_sI M 150 a2 0 a1)).1)).1)).1)).2).2).1) := (tyb_sR (f := 149) (by decide) K9.1.2)
  exact ⟨rfl, ⟨TR11, BR11⟩, (ext_dI (ext_tr K0.2 (ext_dI (ext_tr K2.2 (ext_dI (ext_tr K4.2 (ext_dI (ext_tr K6.2 (ext_tr K7.2 (ext_tr K9.2.1 (ext_dR (by decide) (ext_r _))))))))))))⟩
noncomputable def GX49_read (a0 : Nat) (a1 : Int32) (a2 : Nat) (M : FM) : FM := GX49_read_0 a0 a1 a2 M
def HX49_read (a0 : Nat) (a1 : Int32) (a2 : Nat) (M : FM) : Prop := HX49_read_0 a0 a1 a2 M
theorem gX49_read (a0 : Nat) (a1 : Int32) (a2 : Nat) (M : FM) (T : Ty M) (n_a2 : fm_is M 61 61 a2 = true) (n_a0 : fm_is M 62 62 a0 = true) (h : HX49_read a0 a1 a2 M) : gd (FX49_read a0 a1 a2 M) (GX49_read a0 a1 a2 M) (OkV M) := gX49_read_0 a0 a1 a2 M T n_a2 n_a0 h
noncomputable def GX47_find (a0 : Nat) (a1 : Int32) (M : FM) : Nat × FM := (FX47_find a0 a1 M).getD (0, M)
def HX47_find (a0 : Nat) (a1 : Int32) (M : FM) : Prop := ∃ r, FX47_find a0 a1 M = some r ∧ OkN 61 61 M r
theorem gX47_find (a0 : Nat) (a1 : Int32) (M : FM) (h : HX47_find a0 a1 M) : gd (FX47_find a0 a1 M) (GX47_find a0 a1 M) (OkN 61 61 M) := gd_op h
noncomputable def GX57_run_0 (a0 : Nat) (a1 : Nat) (a2 : Nat) (a3 : Int32) (M : FM) : Int32 × FM :=
  ((M.1 158 a2 0), M)
theorem gX57_run_0 (a0 : Nat) (a1 : Nat) (a2 : Nat) (a3 : Int32) (M : FM) (T : Ty M) (n_a2 : fm_is M 61 61 a2 = true) : gd (FX57_run_0 a0 a1 a2 a3 M) (GX57_run_0 a0 a1 a2 a3 M) (OkR M) := by
  delta FX57_run_0 BX57_run_0
  refine gd_c n_a2 ?_
  exact ⟨rfl, ⟨T.1, T.2⟩, (ext_r _)⟩
noncomputable def GX57_run (a0 : Nat) (a1 : Nat) (a2 : Nat) (a3 : Int32) (M : FM) : Int32 × FM := GX57_run_0 a0 a1 a2 a3 M
theorem gX57_run (a0 : Nat) (a1 : Nat) (a2 : Nat) (a3 : Int32) (M : FM) (T : Ty M) (n_a2 : fm_is M 61 61 a2 = true) : gd (FX57_run a0 a1 a2 a3 M) (GX57_run a0 a1 a2 a3 M) (OkR M) := gX57_run_0 a0 a1 a2 a3 M T n_a2 
noncomputable def GX106_isBelow_19 (s0 : Int32) (M : FM) : Int32 × FM :=
  (s0, M)
theorem gX106_isBelow_19 (s0 : Int32) (M : FM) (T : Ty M) (z_s0 : s0 = 0 ∨ s0 = 1) : gd (FX106_isBelow_19 s0 M) (GX106_isBelow_19 s0 M) (OkZ M) := by
  delta FX106_isBelow_19 BX106_isBelow_19
  exact gd_z z_s0 ⟨T.1, T.2⟩ (ext_r _) rfl
noncomputable def GX106_isBelow_0 (a0 : Int64) (a2 : Int64) (M : FM) : Int32 × FM :=
  fi (0 ≤ (lg_cmp (a0 ^^^ (Int64.ofInt (-9223372036854775808))) (a2 ^^^ (Int64.ofInt (-9223372036854775808))))) (
    GX106_isBelow_19 (Int32.ofInt 0) M) (
    GX106_isBelow_19 (Int32.ofInt 1) M)
theorem gX106_isBelow_0 (a0 : Int64) (a2 : Int64) (M : FM) (T : Ty M) : gd (FX106_isBelow_0 a0 a2 M) (GX106_isBelow_0 a0 a2 M) (OkZ M) := by
  delta FX106_isBelow_0 BX106_isBelow_0
  refine gd_fi (fun c0_0 => ?_) (fun c0_0 => ?_)
  · exact gd_tZ (ext_r _) (gX106_isBelow_19 _ _ ⟨T.1, T.2⟩ fz_0 )
  · exact gd_tZ (ext_r _) (gX106_isBelow_19 _ _ ⟨T.1, T.2⟩ fz_1 )
noncomputable def GX106_isBelow (a0 : Int64) (a2 : Int64) (M : FM) : Int32 × FM := GX106_isBelow_0 a0 a2 M
theorem gX106_isBelow (a0 : Int64) (a2 : Int64) (M : FM) (T : Ty M) : gd (FX106_isBelow a0 a2 M) (GX106_isBelow a0 a2 M) (OkZ M) := gX106_isBelow_0 a0 a2 M T 
noncomputable def GX55_run_114 (s0 : Nat) (s1 : Int64) (s2 : Int64) (M : FM) : Int32 × FM :=
  let M1 : FM := fm_sL M 179 s0 0 (s1 + s2)
  ((Int32.ofInt 0), M1)
theorem gX55_run_114 (s0 : Nat) (s1 : Int64) (s2 : Int64) (M : FM) (T : Ty M) (n_s0 : fm_is M 64 64 s0 = true) : gd (FX55_run_114 s0 s1 s2 M) (GX55_run_114 s0 s1 s2 M) (OkR M) := by
  delta FX55_run_114 BX55_run_114
  refine gd_c n_s0 ?_
  exact ⟨rfl, ⟨T.1, T.2⟩, (ext_dL (ext_r _))⟩
noncomputable def GX55_run_102 (a2 : Nat) (a3 : Int32) (s0 : Nat) (s1 : Int64) (s2 : Int32) (s3 : Int32) (M : FM) : Int32 × FM :=
  fi (s2 = s3) (
    GX55_run_114 s0 s1 a3.toInt64 M) (
    GX55_run_114 s0 s1 (M.2.1 154 a2 0) M)
theorem gX55_run_102 (a2 : Nat) (a3 : Int32) (s0 : Nat) (s1 : Int64) (s2 : Int32) (s3 : Int32) (M : FM) (T : Ty M) (n_s0 : fm_is M 64 64 s0 = true) (n_a2 : fm_is M 61 61 a2 = true) : gd (FX55_run_102 a2 a3 s0 s1 s2 s3 M) (GX55_run_102 a2 a3 s0 s1 s2 s3 M) (OkR M) := by
  delta FX55_run_102 BX55_run_102
  refine gd_fi (fun c0_0 => ?_) (fun c0_0 => ?_)
  · exact gd_tR (ext_r _) (gX55_run_114 _ _ _ _ ⟨T.1, T.2⟩ n_s0 )
  · refine gd_c n_a2 ?_
    exact gd_tR (ext_r _) (gX55_run_114 _ _ _ _ ⟨T.1, T.2⟩ n_s0 )
noncomputable def GX55_run_78 (a1 : Nat) (a2 : Nat) (a3 : Int32) (s0 : Int32) (M : FM) : Int32 × FM :=
  fi (((M.1 160 a2 0) &&& (Int32.ofInt 1)) = (Int32.ofInt 1)) (
    GX55_run_102 a2 a3 a1 (M.2.1 179 a1 0) s0 (Int32.ofInt 1) M) (
    GX55_run_102 a2 a3 a1 (M.2.1 179 a1 0) s0 (Int32.ofInt 0) M)
theorem gX55_run_78 (a1 : Nat) (a2 : Nat) (a3 : Int32) (s0 : Int32) (M : FM) (T : Ty M) (n_a1 : fm_is M 64 64 a1 = true) (n_a2 : fm_is M 61 61 a2 = true) : gd (FX55_run_78 a1 a2 a3 s0 M) (GX55_run_78 a1 a2 a3 s0 M) (OkR M) := by
  delta FX55_run_78 BX55_run_78
  refine gd_c n_a1 ?_
  refine gd_c n_a2 ?_
  refine gd_fi (fun c0_0 => ?_) (fun c0_0 => ?_)
  · exact gd_tR (ext_r _) (gX55_run_102 _ _ _ _ _ _ _ ⟨T.1, T.2⟩ n_a1 n_a2 )
  · exact gd_tR (ext_r _) (gX55_run_102 _ _ _ _ _ _ _ ⟨T.1, T.2⟩ n_a1 n_a2 )
noncomputable def GX55_run_0 (a0 : Nat) (a1 : Nat) (a2 : Nat) (a3 : Int32) (M : FM) : Int32 × FM :=
  let x1 : Int32 := (M.1 152 a2 0)
  let x2 : Nat := (M.2.2 178 a1 0)
  let x3 : Int64 := (M.2.1 3 x2 x1.toNatClampNeg)
  let x4 : Int32 := (M.1 153 a2 0)
  let x5 : Nat := (M.2.2 178 a1 0)
  let x6 : Int64 := (M.2.1 3 x5 x4.toNatClampNeg)
  fi ((Int32.ofInt 2) ≤ (M.1 160 a2 0)) (
    fi ((Int32.ofInt 6) ≤ (M.1 160 a2 0)) (
      let r7 : Int32 × FM := GX106_isBelow x3 x6 M
      GX55_run_78 a1 a2 a3 r7.1 r7.2) (
      fi (0 ≤ (lg_cmp x3 x6)) (
        GX55_run_78 a1 a2 a3 (Int32.ofInt 0) M) (
        GX55_run_78 a1 a2 a3 (Int32.ofInt 1) M))) (
    fi ((lg_cmp x3 x6) = 0) (
      GX55_run_78 a1 a2 a3 (Int32.ofInt 1) M) (
      GX55_run_78 a1 a2 a3 (Int32.ofInt 0) M))
def HX55_run_0 (a0 : Nat) (a1 : Nat) (a2 : Nat) (a3 : Int32) (M : FM) : Prop := let x1 : Int32 := (M.1 152 a2 0); let x2 : Nat := (M.2.2 178 a1 0); (fm_in M x2 x1 = true ∧ let x3 : Int64 := (M.2.1 3 x2 x1.toNatClampNeg); let x4 : Int32 := (M.1 153 a2 0); let x5 : Nat := (M.2.2 178 a1 0); (fm_in M x5 x4 = true ∧ True))
theorem gX55_run_0 (a0 : Nat) (a1 : Nat) (a2 : Nat) (a3 : Int32) (M : FM) (T : Ty M) (n_a1 : fm_is M 64 64 a1 = true) (n_a2 : fm_is M 61 61 a2 = true) (h : HX55_run_0 a0 a1 a2 a3 M) : gd (FX55_run_0 a0 a1 a2 a3 M) (GX55_run_0 a0 a1 a2 a3 M) (OkR M) := by
  delta FX55_run_0 BX55_run_0
  refine gd_c n_a1 ?_
  refine gd_c n_a2 ?_
  have f8 := (tN_178 T.1 n_a1)
  refine gd_c ⟨f8, h.1⟩ ?_
  refine gd_c n_a1 ?_
  refine gd_c n_a2 ?_
  have f7 := (tN_178 T.1 n_a1)
  refine gd_c ⟨f7, h.2.1⟩ ?_
  refine gd_c n_a2 ?_
  refine gd_fi (fun c0_0 => ?_) (fun c0_0 => ?_)
  · refine gd_c n_a2 ?_
    refine gd_fi (fun c1_0 => ?_) (fun c1_0 => ?_)
    · refine gd_b (gX106_isBelow _ _ _ ⟨T.1, T.2⟩  ) (fun K2 => ?_)
      have f3 := (ext_is K2.2.1 (Nat.zero_lt_succ _) n_a1)
      have f4 := (ext_is K2.2.1 (Nat.zero_lt_succ _) n_a2)
      exact gd_tR K2.2.1 (gX55_run_78 _ _ _ _ _ ⟨K2.1.1, K2.1.2⟩ f3 f4 )
    · refine gd_fi (fun c5_0 => ?_) (fun c5_0 => ?_)
      · exact gd_tR (ext_r _) (gX55_run_78 _ _ _ _ _ ⟨T.1, T.2⟩ n_a1 n_a2 )
      · exact gd_tR (ext_r _) (gX55_run_78 _ _ _ _ _ ⟨T.1, T.2⟩ n_a1 n_a2 )
  · refine gd_fi (fun c6_0 => ?_) (fun c6_0 => ?_)
    · exact gd_tR (ext_r _) (gX55_run_78 _ _ _ _ _ ⟨T.1, T.2⟩ n_a1 n_a2 )
    · exact gd_tR (ext_r _) (gX55_run_78 _ _ _ _ _ ⟨T.1, T.2⟩ n_a1 n_a2 )
noncomputable def GX55_run (a0 : Nat) (a1 : Nat) (a2 : Nat) (a3 : Int32) (M : FM) : Int32 × FM := GX55_run_0 a0 a1 a2 a3 M
def HX55_run (a0 : Nat) (a1 : Nat) (a2 : Nat) (a3 : Int32) (M : FM) : Prop := HX55_run_0 a0 a1 a2 a3 M
theorem gX55_run (a0 : Nat) (a1 : Nat) (a2 : Nat) (a3 : Int32) (M : FM) (T : Ty M) (n_a1 : fm_is M 64 64 a1 = true) (n_a2 : fm_is M 61 61 a2 = true) (h : HX55_run a0 a1 a2 a3 M) : gd (FX55_run a0 a1 a2 a3 M) (GX55_run a0 a1 a2 a3 M) (OkR M) := gX55_run_0 a0 a1 a2 a3 M T n_a1 n_a2 h
noncomputable def GX106_upper_0 (a0 : Int64) (a2 : Int64) (M : FM) : Int64 × FM :=
  let x1 : Int64 := (a0.toUInt64 >>> ((Int32.ofInt 32).toInt64.toUInt64 &&& Int64.toUInt64 63)).toInt64
  let x2 : Int64 := (a0 &&& (Int64.ofInt 4294967295))
  let x3 : Int64 := (a2.toUInt64 >>> ((Int32.ofInt 32).toInt64.toUInt64 &&& Int64.toUInt64 63)).toInt64
  let x4 : Int64 := (a2 &&& (Int64.ofInt 4294967295))
  let x5 : Int64 := (x2 * x4)
  let x6 : Int64 := ((x1 * x4) + (x5.toUInt64 >>> ((Int32.ofInt 32).toInt64.toUInt64 &&& Int64.toUInt64 63)).toInt64)
  let x7 : Int64 := ((x2 * x3) + (x6 &&& (Int64.ofInt 4294967295)))
  ((((x1 * x3) + (x6.toUInt64 >>> ((Int32.ofInt 32).toInt64.toUInt64 &&& Int64.toUInt64 63)).toInt64) + (x7.toUInt64 >>> ((Int32.ofInt 32).toInt64.toUInt64 &&& Int64.toUInt64 63)).toInt64), M)
theorem gX106_upper_0 (a0 : Int64) (a2 : Int64) (M : FM) (T : Ty M) : gd (FX106_upper_0 a0 a2 M) (GX106_upper_0 a0 a2 M) (OkR M) := by
  delta FX106_upper_0 BX106_upper_0
  exact ⟨rfl, ⟨T.1, T.2⟩, (ext_r _)⟩
noncomputable def GX106_upper (a0 : Int64) (a2 : Int64) (M : FM) : Int64 × FM := GX106_upper_0 a0 a2 M
theorem gX106_upper (a0 : Int64) (a2 : Int64) (M : FM) (T : Ty M) : gd (FX106_upper a0 a2 M) (GX106_upper a0 a2 M) (OkR M) := gX106_upper_0 a0 a2 M T 
noncomputable def GX106_divided_28 (s0 : Int64) (M : FM) : Int64 × FM :=
  (s0, M)
theorem gX106_divided_28 (s0 : Int64) (M : FM) (T : Ty M) : gd (FX106_divided_28 s0 M) (GX106_divided_28 s0 M) (OkR M) := by
  delta FX106_divided_28 BX106_divided_28
  exact ⟨rfl, ⟨T.1, T.2⟩, (ext_r _)⟩
noncomputable def GX106_divided_0 (a0 : Int64) (a2 : Int64) (M : FM) : Int64 × FM :=
  fi ((lg_cmp a2 (Int64.ofInt 0)) = 0) (
    GX106_divided_28 (Int64.ofInt (-1)) M) (
    fi ((lg_cmp a2 (Int64.ofInt (-1))) = 0) (
      GX106_divided_28 (-a0) M) (
      GX106_divided_28 (a0 / a2) M))
def HX106_divided_0 (a0 : Int64) (a2 : Int64) (M : FM) : Prop := (((lg_cmp a2 (Int64.ofInt 0)) = 0 → True) ∧ (¬ ((lg_cmp a2 (Int64.ofInt 0)) = 0) → (((lg_cmp a2 (Int64.ofInt (-1))) = 0 → True) ∧ (¬ ((lg_cmp a2 (Int64.ofInt (-1))) = 0) → (¬ a2 = 0 ∧ True)))))
theorem gX106_divided_0 (a0 : Int64) (a2 : Int64) (M : FM) (T : Ty M) (h : HX106_divided_0 a0 a2 M) : gd (FX106_divided_0 a0 a2 M) (GX106_divided_0 a0 a2 M) (OkR M) := by
  delta FX106_divided_0 BX106_divided_0
  refine gd_fi (fun c0_0 => ?_) (fun c0_0 => ?_)
  · exact gd_tR (ext_r _) (gX106_divided_28 _ _ ⟨T.1, T.2⟩  )
  · refine gd_fi (fun c1_0 => ?_) (fun c1_0 => ?_)
    · exact gd_tR (ext_r _) (gX106_divided_28 _ _ ⟨T.1, T.2⟩  )
    · refine gd_n ((h.2 c0_0).2 c1_0).1 ?_
      exact gd_tR (ext_r _) (gX106_divided_28 _ _ ⟨T.1, T.2⟩  )
noncomputable def GX106_divided (a0 : Int64) (a2 : Int64) (M : FM) : Int64 × FM := GX106_divided_0 a0 a2 M
def HX106_divided (a0 : Int64) (a2 : Int64) (M : FM) : Prop := HX106_divided_0 a0 a2 M
theorem gX106_divided (a0 : Int64) (a2 : Int64) (M : FM) (T : Ty M) (h : HX106_divided a0 a2 M) : gd (FX106_divided a0 a2 M) (GX106_divided a0 a2 M) (OkR M) := gX106_divided_0 a0 a2 M T h
noncomputable def GX106_rest_25 (s0 : Int64) (M : FM) : Int64 × FM :=
  (s0, M)
theorem gX106_rest_25 (s0 : Int64) (M : FM) (T : Ty M) : gd (FX106_rest_25 s0 M) (GX106_rest_25 s0 M) (OkR M) := by
  delta FX106_rest_25 BX106_rest_25
  exact ⟨rfl, ⟨T.1, T.2⟩, (ext_r _)⟩
noncomputable def GX106_rest_0 (a0 : Int64) (a2 : Int64) (M : FM) : Int64 × FM :=
  fi ((lg_cmp a2 (Int64.ofInt 0)) = 0) (
    GX106_rest_25 a0 M) (
    fi ((lg_cmp a2 (Int64.ofInt (-1))) = 0) (
      GX106_rest_25 (Int64.ofInt 0) M) (
      GX106_rest_25 (a0 - a0 / a2 * a2) M))
def HX106_rest_0 (a0 : Int64) (a2 : Int64) (M : FM) : Prop := (((lg_cmp a2 (Int64.ofInt 0)) = 0 → True) ∧ (¬ ((lg_cmp a2 (Int64.ofInt 0)) = 0) → (((lg_cmp a2 (Int64.ofInt (-1))) = 0 → True) ∧ (¬ ((lg_cmp a2 (Int64.ofInt (-1))) = 0) → (¬ a2 = 0 ∧ True)))))
theorem gX106_rest_0 (a0 : Int64) (a2 : Int64) (M : FM) (T : Ty M) (h : HX106_rest_0 a0 a2 M) : gd (FX106_rest_0 a0 a2 M) (GX106_rest_0 a0 a2 M) (OkR M) := by
  delta FX106_rest_0 BX106_rest_0
  refine gd_fi (fun c0_0 => ?_) (fun c0_0 => ?_)
  · exact gd_tR (ext_r _) (gX106_rest_25 _ _ ⟨T.1, T.2⟩  )
  · refine gd_fi (fun c1_0 => ?_) (fun c1_0 => ?_)
    · exact gd_tR (ext_r _) (gX106_rest_25 _ _ ⟨T.1, T.2⟩  )
    · refine gd_n ((h.2 c0_0).2 c1_0).1 ?_
      exact gd_tR (ext_r _) (gX106_rest_25 _ _ ⟨T.1, T.2⟩  )
noncomputable def GX106_rest (a0 : Int64) (a2 : Int64) (M : FM) : Int64 × FM := GX106_rest_0 a0 a2 M
def HX106_rest (a0 : Int64) (a2 : Int64) (M : FM) : Prop := HX106_rest_0 a0 a2 M
theorem gX106_rest (a0 : Int64) (a2 : Int64) (M : FM) (T : Ty M) (h : HX106_rest a0 a2 M) : gd (FX106_rest a0 a2 M) (GX106_rest a0 a2 M) (OkR M) := gX106_rest_0 a0 a2 M T h
noncomputable def GX106_quotient_51 (s0 : Int64) (M : FM) : Int64 × FM :=
  (s0, M)
theorem gX106_quotient_51 (s0 : Int64) (M : FM) (T : Ty M) : gd (FX106_quotient_51 s0 M) (GX106_quotient_51 s0 M) (OkR M) := by
  delta FX106_quotient_51 BX106_quotient_51
  exact ⟨rfl, ⟨T.1, T.2⟩, (ext_r _)⟩
noncomputable def GX106_quotient_19 (s0 : Int64) (M : FM) : Int64 × FM :=
  (s0, M)
theorem gX106_quotient_19 (s0 : Int64) (M : FM) (T : Ty M) : gd (FX106_quotient_19 s0 M) (GX106_quotient_19 s0 M) (OkR M) := by
  delta FX106_quotient_19 BX106_quotient_19
  exact ⟨rfl, ⟨T.1, T.2⟩, (ext_r _)⟩
noncomputable def GX106_quotient_0 (a0 : Int64) (a2 : Int64) (M : FM) : Int64 × FM :=
  fi (0 ≤ (lg_cmp a2 (Int64.ofInt 0))) (
    let x1 : Int64 := (((a0.toUInt64 >>> ((Int32.ofInt 1).toInt64.toUInt64 &&& Int64.toUInt64 63)).toInt64 / a2) <<< ((Int32.ofInt 1).toInt64 &&& 63))
    let r2 : Int32 × FM := GX106_isBelow (a0 - (x1 * a2)) a2 M
    fi (r2.1 = 0) (
      GX106_quotient_51 (x1 + (Int64.ofInt 1)) r2.2) (
      GX106_quotient_51 x1 r2.2)) (
    let r3 : Int32 × FM := GX106_isBelow a0 a2 M
    fi (r3.1 = 0) (
      GX106_quotient_19 (Int64.ofInt 1) r3.2) (
      GX106_quotient_19 (Int64.ofInt 0) r3.2))
def HX106_quotient_0 (a0 : Int64) (a2 : Int64) (M : FM) : Prop := ((0 ≤ (lg_cmp a2 (Int64.ofInt 0)) → (¬ a2 = 0 ∧ True)) ∧ (¬ (0 ≤ (lg_cmp a2 (Int64.ofInt 0))) → True))
theorem gX106_quotient_0 (a0 : Int64) (a2 : Int64) (M : FM) (T : Ty M) (h : HX106_quotient_0 a0 a2 M) : gd (FX106_quotient_0 a0 a2 M) (GX106_quotient_0 a0 a2 M) (OkR M) := by
  delta FX106_quotient_0 BX106_quotient_0
  refine gd_fi (fun c0_0 => ?_) (fun c0_0 => ?_)
  · refine gd_n (h.1 c0_0).1 ?_
    refine gd_b (gX106_isBelow _ _ _ ⟨T.1, T.2⟩  ) (fun K1 => ?_)
    refine gd_fi (fun c2_0 => ?_) (fun c2_0 => ?_)
    · exact gd_tR K1.2.1 (gX106_quotient_51 _ _ ⟨K1.1.1, K1.1.2⟩  )
    · exact gd_tR K1.2.1 (gX106_quotient_51 _ _ ⟨K1.1.1, K1.1.2⟩  )
  · refine gd_b (gX106_isBelow _ _ _ ⟨T.1, T.2⟩  ) (fun K3 => ?_)
    refine gd_fi (fun c4_0 => ?_) (fun c4_0 => ?_)
    · exact gd_tR K3.2.1 (gX106_quotient_19 _ _ ⟨K3.1.1, K3.1.2⟩  )
    · exact gd_tR K3.2.1 (gX106_quotient_19 _ _ ⟨K3.1.1, K3.1.2⟩  )
noncomputable def GX106_quotient (a0 : Int64) (a2 : Int64) (M : FM) : Int64 × FM := GX106_quotient_0 a0 a2 M
def HX106_quotient (a0 : Int64) (a2 : Int64) (M : FM) : Prop := HX106_quotient_0 a0 a2 M
theorem gX106_quotient (a0 : Int64) (a2 : Int64) (M : FM) (T : Ty M) (h : HX106_quotient a0 a2 M) : gd (FX106_quotient a0 a2 M) (GX106_quotient a0 a2 M) (OkR M) := gX106_quotient_0 a0 a2 M T h
noncomputable def GX106_reckon_256 (s0 : Int64) (M : FM) : Int64 × FM :=
  (s0, M)
theorem gX106_reckon_256 (s0 : Int64) (M : FM) (T : Ty M) : gd (FX106_reckon_256 s0 M) (GX106_reckon_256 s0 M) (OkR M) := by
  delta FX106_reckon_256 BX106_reckon_256
  exact ⟨rfl, ⟨T.1, T.2⟩, (ext_r _)⟩
noncomputable def GX106_reckon_230 (s0 : Int64) (M : FM) : Int64 × FM :=
  (s0, M)
theorem gX106_reckon_230 (s0 : Int64) (M : FM) (T : Ty M) : gd (FX106_reckon_230 s0 M) (GX106_reckon_230 s0 M) (OkR M) := by
  delta FX106_reckon_230 BX106_reckon_230
  exact ⟨rfl, ⟨T.1, T.2⟩, (ext_r _)⟩
noncomputable def GX106_reckon_199 (s0 : Int64) (s1 : Int64) (M : FM) : Int64 × FM :=
  ((s0 - s1), M)
theorem gX106_reckon_199 (s0 : Int64) (s1 : Int64) (M : FM) (T : Ty M) : gd (FX106_reckon_199 s0 s1 M) (GX106_reckon_199 s0 s1 M) (OkR M) := by
  delta FX106_reckon_199 BX106_reckon_199
  exact ⟨rfl, ⟨T.1, T.2⟩, (ext_r _)⟩
noncomputable def GX106_reckon_181 (s0 : Int64) (s1 : Int64) (M : FM) : Int64 × FM :=
  ((s0 - s1), M)
theorem gX106_reckon_181 (s0 : Int64) (s1 : Int64) (M : FM) (T : Ty M) : gd (FX106_reckon_181 s0 s1 M) (GX106_reckon_181 s0 s1 M) (OkR M) := by
  delta FX106_reckon_181 BX106_reckon_181
  exact ⟨rfl, ⟨T.1, T.2⟩, (ext_r _)⟩
noncomputable def GX106_reckon_169 (a1 : Int64) (a3 : Int64) (s0 : Int64) (s1 : Int64) (M : FM) : Int64 × FM :=
  fi (0 ≤ (lg_cmp a3 (Int64.ofInt 0))) (
    GX106_reckon_181 (s0 - s1) (Int64.ofInt 0) M) (
    GX106_reckon_181 (s0 - s1) a1 M)
theorem gX106_reckon_169 (a1 : Int64) (a3 : Int64) (s0 : Int64) (s1 : Int64) (M : FM) (T : Ty M) : gd (FX106_reckon_169 a1 a3 s0 s1 M) (GX106_reckon_169 a1 a3 s0 s1 M) (OkR M) := by
  delta FX106_reckon_169 BX106_reckon_169
  refine gd_fi (fun c0_0 => ?_) (fun c0_0 => ?_)
  · exact gd_tR (ext_r _) (gX106_reckon_181 _ _ _ ⟨T.1, T.2⟩  )
  · exact gd_tR (ext_r _) (gX106_reckon_181 _ _ _ ⟨T.1, T.2⟩  )
noncomputable def GX106_reckon_126 (s0 : Int64) (M : FM) : Int64 × FM :=
  (s0, M)
theorem gX106_reckon_126 (s0 : Int64) (M : FM) (T : Ty M) : gd (FX106_reckon_126 s0 M) (GX106_reckon_126 s0 M) (OkR M) := by
  delta FX106_reckon_126 BX106_reckon_126
  exact ⟨rfl, ⟨T.1, T.2⟩, (ext_r _)⟩
noncomputable def GX106_reckon_112 (s0 : Int64) (M : FM) : Int64 × FM :=
  (s0, M)
theorem gX106_reckon_112 (s0 : Int64) (M : FM) (T : Ty M) : gd (FX106_reckon_112 s0 M) (GX106_reckon_112 s0 M) (OkR M) := by
  delta FX106_reckon_112 BX106_reckon_112
  exact ⟨rfl, ⟨T.1, T.2⟩, (ext_r _)⟩
noncomputable def GX106_reckon_0 (a0 : Nat) (a1 : Int64) (a3 : Int64) (M : FM) : Int64 × FM :=
  let r1 : Int32 × FM := GJ0_ordinal a0 M
  fi (r1.1 = (Int32.ofInt 0)) (
    ((a1 + a3), r1.2)) (
    fi (r1.1 = (Int32.ofInt 1)) (
      ((a1 - a3), r1.2)) (
      fi (r1.1 = (Int32.ofInt 2)) (
        ((a1 <<< (a3.toInt32.toInt64 &&& 63)), r1.2)) (
        fi (r1.1 = (Int32.ofInt 3)) (
          fi (0 ≤ (lg_cmp a1 a3)) (
            GX106_reckon_112 (Int64.ofInt 0) r1.2) (
            GX106_reckon_112 (Int64.ofInt 1) r1.2)) (
          fi (r1.1 = (Int32.ofInt 4)) (
            let r2 : Int32 × FM := GX106_isBelow a1 a3 r1.2
            fi (r2.1 = 0) (
              GX106_reckon_126 (Int64.ofInt 0) r2.2) (
              GX106_reckon_126 (Int64.ofInt 1) r2.2)) (
            fi (r1.1 = (Int32.ofInt 5)) (
              ((a1 ^^^ a3), r1.2)) (
              fi (r1.1 = (Int32.ofInt 6)) (
                ((a1.toUInt64 >>> (a3.toInt32.toInt64.toUInt64 &&& Int64.toUInt64 63)).toInt64, r1.2)) (
                fi (r1.1 = (Int32.ofInt 7)) (
                  ((a1 >>> (a3.toInt32.toInt64 &&& 63)), r1.2)) (
                  fi (r1.1 = (Int32.ofInt 8)) (
                    ((a1 ||| a3), r1.2)) (
                    fi (r1.1 = (Int32.ofInt 9)) (
                      ((a1 &&& a3), r1.2)) (
                      fi (r1.1 = (Int32.ofInt 10)) (
                        ((a1 * a3), r1.2)) (
                        fi (r1.1 = (Int32.ofInt 11)) (
                          let r3 : Int64 × FM := GX106_upper a1 a3 r1.2
                          fi (0 ≤ (lg_cmp a1 (Int64.ofInt 0))) (
                            GX106_reckon_169 a1 a3 r3.1 (Int64.ofInt 0) r3.2) (
                            GX106_reckon_169 a1 a3 r3.1 a3 r3.2)) (
                          fi (r1.1 = (Int32.ofInt 12)) (
                            let r4 : Int64 × FM := GX106_upper a1 a3 r1.2
                            fi (0 ≤ (lg_cmp a1 (Int64.ofInt 0))) (
                              GX106_reckon_199 r4.1 (Int64.ofInt 0) r4.2) (
                              GX106_reckon_199 r4.1 a3 r4.2)) (
                            fi (r1.1 = (Int32.ofInt 13)) (
                              let r5 : Int64 × FM := GX106_upper a1 a3 r1.2
                              (r5.1, r5.2)) (
                              fi (r1.1 = (Int32.ofInt 14)) (
                                let r6 : Int64 × FM := GX106_divided a1 a3 r1.2
                                (r6.1, r6.2)) (
                                fi (r1.1 = (Int32.ofInt 15)) (
                                  fi ((lg_cmp a3 (Int64.ofInt 0)) = 0) (
                                    GX106_reckon_230 (Int64.ofInt (-1)) r1.2) (
                                    let r7 : Int64 × FM := GX106_quotient a1 a3 r1.2
                                    GX106_reckon_230 r7.1 r7.2)) (
                                  fi (r1.1 = (Int32.ofInt 16)) (
                                    let r8 : Int64 × FM := GX106_rest a1 a3 r1.2
                                    (r8.1, r8.2)) (
                                    fi ((lg_cmp a3 (Int64.ofInt 0)) = 0) (
                                      GX106_reckon_256 a1 r1.2) (
                                      let r9 : Int64 × FM := GX106_quotient a1 a3 r1.2
                                      GX106_reckon_256 (a1 - (r9.1 * a3)) r9.2))))))))))))))))))
def HX106_reckon_0 (a0 : Nat) (a1 : Int64) (a3 : Int64) (M : FM) : Prop := let r1 : Int32 × FM := GJ0_ordinal a0 M; ((r1.1 = (Int32.ofInt 0) → True) ∧ (¬ (r1.1 = (Int32.ofInt 0)) → ((r1.1 = (Int32.ofInt 1) → True) ∧ (¬ (r1.1 = (Int32.ofInt 1)) → ((r1.1 = (Int32.ofInt 2) → True) ∧ (¬ (r1.1 = (Int32.ofInt 2)) → ((r1.1 = (Int32.ofInt 3) → True) ∧ (¬ (r1.1 = (Int32.ofInt 3)) → ((r1.1 = (Int32.ofInt 4) → True) ∧ (¬ (r1.1 = (Int32.ofInt 4)) → ((r1.1 = (Int32.ofInt 5) → True) ∧ (¬ (r1.1 = (Int32.ofInt 5)) → ((r1.1 = (Int32.ofInt 6) → True) ∧ (¬ (r1.1 = (Int32.ofInt 6)) → ((r1.1 = (Int32.ofInt 7) → True) ∧ (¬ (r1.1 = (Int32.ofInt 7)) → ((r1.1 = (Int32.ofInt 8) → True) ∧ (¬ (r1.1 = (Int32.ofInt 8)) → ((r1.1 = (Int32.ofInt 9) → True) ∧ (¬ (r1.1 = (Int32.ofInt 9)) → ((r1.1 = (Int32.ofInt 10) → True) ∧ (¬ (r1.1 = (Int32.ofInt 10)) → ((r1.1 = (Int32.ofInt 11) → True) ∧ (¬ (r1.1 = (Int32.ofInt 11)) → ((r1.1 = (Int32.ofInt 12) → True) ∧ (¬ (r1.1 = (Int32.ofInt 12)) → ((r1.1 = (Int32.ofInt 13) → True) ∧ (¬ (r1.1 = (Int32.ofInt 13)) → ((r1.1 = (Int32.ofInt 14) → (HX106_divided a1 a3 r1.2 ∧ True)) ∧ (¬ (r1.1 = (Int32.ofInt 14)) → ((r1.1 = (Int32.ofInt 15) → (((lg_cmp a3 (Int64.ofInt 0)) = 0 → True) ∧ (¬ ((lg_cmp a3 (Int64.ofInt 0)) = 0) → (HX106_quotient a1 a3 r1.2 ∧ True)))) ∧ (¬ (r1.1 = (Int32.ofInt 15)) → ((r1.1 = (Int32.ofInt 16) → (HX106_rest a1 a3 r1.2 ∧ True)) ∧ (¬ (r1.1 = (Int32.ofInt 16)) → (((lg_cmp a3 (Int64.ofInt 0)) = 0 → True) ∧ (¬ ((lg_cmp a3 (Int64.ofInt 0)) = 0) → (HX106_quotient a1 a3 r1.2 ∧ True)))))))))))))))))))))))))))))))))))))
theorem gX106_reckon_0 (a0 : Nat) (a1 : Int64) (a3 : Int64) (M : FM) (T : Ty M) (n_a0 : fm_is M 4 4 a0 = true) (h : HX106_reckon_0 a0 a1 a3 M) : gd (FX106_reckon_0 a0 a1 a3 M) (GX106_reckon_0 a0 a1 a3 M) (OkR M) := by
  delta FX106_reckon_0 BX106_reckon_0
  refine gd_c n_a0 ?_
  have f32 := (fm_w (lo' := 1) (hi' := 6) rfl rfl n_a0)
  refine gd_b (gJ0_ordinal _ _ ⟨T.1, T.2⟩ f32 ) (fun K0 => ?_)
  refine gd_fi (fun c1_0 => ?_) (fun c1_0 => ?_)
  · exact ⟨rfl, ⟨K0.1.1, K0.1.2⟩, K0.2⟩
  · refine gd_fi (fun c2_1 => ?_) (fun c2_1 => ?_)
    · exact ⟨rfl, ⟨K0.1.1, K0.1.2⟩, K0.2⟩
    · refine gd_fi (fun c3_2 => ?_) (fun c3_2 => ?_)
      · exact ⟨rfl, ⟨K0.1.1, K0.1.2⟩, K0.2⟩
      · refine gd_fi (fun c4_3 => ?_) (fun c4_3 => ?_)
        · refine gd_fi (fun c5_0 => ?_) (fun c5_0 => ?_)
          · exact gd_tR K0.2 (gX106_reckon_112 _ _ ⟨K0.1.1, K0.1.2⟩  )
          · exact gd_tR K0.2 (gX106_reckon_112 _ _ ⟨K0.1.1, K0.1.2⟩  )
        · refine gd_fi (fun c6_4 => ?_) (fun c6_4 => ?_)
          · refine gd_b (gX106_isBelow _ _ _ ⟨K0.1.1, K0.1.2⟩  ) (fun K7 => ?_)
            refine gd_fi (fun c8_0 => ?_) (fun c8_0 => ?_)
            · exact gd_tR (ext_tr K0.2 K7.2.1) (gX106_reckon_126 _ _ ⟨K7.1.1, K7.1.2⟩  )
            · exact gd_tR (ext_tr K0.2 K7.2.1) (gX106_reckon_126 _ _ ⟨K7.1.1, K7.1.2⟩  )
          · refine gd_fi (fun c9_5 => ?_) (fun c9_5 => ?_)
            · exact ⟨rfl, ⟨K0.1.1, K0.1.2⟩, K0.2⟩
            · refine gd_fi (fun c10_6 => ?_) (fun c10_6 => ?_)
              · exact ⟨rfl, ⟨K0.1.1, K0.1.2⟩, K0.2⟩
              · refine gd_fi (fun c11_7 => ?_) (fun c11_7 => ?_)
                · exact ⟨rfl, ⟨K0.1.1, K0.1.2⟩, K0.2⟩
                · refine gd_fi (fun c12_8 => ?_) (fun c12_8 => ?_)
                  · exact ⟨rfl, ⟨K0.1.1, K0.1.2⟩, K0.2⟩
                  · refine gd_fi (fun c13_9 => ?_) (fun c13_9 => ?_)
                    · exact ⟨rfl, ⟨K0.1.1, K0.1.2⟩, K0.2⟩
                    · refine gd_fi (fun c14_10 => ?_) (fun c14_10 => ?_)
                      · exact ⟨rfl, ⟨K0.1.1, K0.1.2⟩, K0.2⟩
                      · refine gd_fi (fun c15_11 => ?_) (fun c15_11 => ?_)
                        · refine gd_b (gX106_upper _ _ _ ⟨K0.1.1, K0.1.2⟩  ) (fun K16 => ?_)
                          refine gd_fi (fun c17_0 => ?_) (fun c17_0 => ?_)
                          · exact gd_tR (ext_tr K0.2 K16.2) (gX106_reckon_169 _ _ _ _ _ ⟨K16.1.1, K16.1.2⟩  )
                          · exact gd_tR (ext_tr K0.2 K16.2) (gX106_reckon_169 _ _ _ _ _ ⟨K16.1.1, K16.1.2⟩  )
                        · refine gd_fi (fun c18_12 => ?_) (fun c18_12 => ?_)
                          · refine gd_b (gX106_upper _ _ _ ⟨K0.1.1, K0.1.2⟩  ) (fun K19 => ?_)
                            refine gd_fi (fun c20_0 => ?_) (fun c20_0 => ?_)
                            · exact gd_tR (ext_tr K0.2 K19.2) (gX106_reckon_199 _ _ _ ⟨K19.1.1, K19.1.2⟩  )
                            · exact gd_tR (ext_tr K0.2 K19.2) (gX106_reckon_199 _ _ _ ⟨K19.1.1, K19.1.2⟩  )
                          · refine gd_fi (fun c21_13 => ?_) (fun c21_13 => ?_)
                            · refine gd_b (gX106_upper _ _ _ ⟨K0.1.1, K0.1.2⟩  ) (fun K22 => ?_)
                              exact ⟨rfl, ⟨K22.1.1, K22.1.2⟩, (ext_tr K0.2 K22.2)⟩
                            · refine gd_fi (fun c23_14 => ?_) (fun c23_14 => ?_)
                              · refine gd_b (gX106_divided _ _ _ ⟨K0.1.1, K0.1.2⟩  (((((((((((((((h.2 c1_0).2 c2_1).2 c3_2).2 c4_3).2 c6_4).2 c9_5).2 c10_6).2 c11_7).2 c12_8).2 c13_9).2 c14_10).2 c15_11).2 c18_12).2 c21_13).1 c23_14).1) (fun K24 => ?_)
                                exact ⟨rfl, ⟨K24.1.1, K24.1.2⟩, (ext_tr K0.2 K24.2)⟩
                              · refine gd_fi (fun c25_15 => ?_) (fun c25_15 => ?_)
                                · refine gd_fi (fun c26_0 => ?_) (fun c26_0 => ?_)
                                  · exact gd_tR K0.2 (gX106_reckon_230 _ _ ⟨K0.1.1, K0.1.2⟩  )
                                  · refine gd_b (gX106_quotient _ _ _ ⟨K0.1.1, K0.1.2⟩  (((((((((((((((((h.2 c1_0).2 c2_1).2 c3_2).2 c4_3).2 c6_4).2 c9_5).2 c10_6).2 c11_7).2 c12_8).2 c13_9).2 c14_10).2 c15_11).2 c18_12).2 c21_13).2 c23_14).1 c25_15).2 c26_0).1) (fun K27 => ?_)
                                    exact gd_tR (ext_tr K0.2 K27.2) (gX106_reckon_230 _ _ ⟨K27.1.1, K27.1.2⟩  )
                                · refine gd_fi (fun c28_16 => ?_) (fun c28_16 => ?_)
                                  · refine gd_b (gX106_rest _ _ _ ⟨K0.1.1, K0.1.2⟩  (((((((((((((((((h.2 c1_0).2 c2_1).2 c3_2).2 c4_3).2 c6_4).2 c9_5).2 c10_6).2 c11_7).2 c12_8).2 c13_9).2 c14_10).2 c15_11).2 c18_12).2 c21_13).2 c23_14).2 c25_15).1 c28_16).1) (fun K29 => ?_)
                                    exact ⟨rfl, ⟨K29.1.1, K29.1.2⟩, (ext_tr K0.2 K29.2)⟩
                                  · refine gd_fi (fun c30_0 => ?_) (fun c30_0 => ?_)
                                    · exact gd_tR K0.2 (gX106_reckon_256 _ _ ⟨K0.1.1, K0.1.2⟩  )
                                    · refine gd_b (gX106_quotient _ _ _ ⟨K0.1.1, K0.1.2⟩  ((((((((((((((((((h.2 c1_0).2 c2_1).2 c3_2).2 c4_3).2 c6_4).2 c9_5).2 c10_6).2 c11_7).2 c12_8).2 c13_9).2 c14_10).2 c15_11).2 c18_12).2 c21_13).2 c23_14).2 c25_15).2 c28_16).2 c30_0).1) (fun K31 => ?_)
                                      exact gd_tR (ext_tr K0.2 K31.2) (gX106_reckon_256 _ _ ⟨K31.1.1, K31.1.2⟩  )
noncomputable def GX106_reckon (a0 : Nat) (a1 : Int64) (a3 : Int64) (M : FM) : Int64 × FM := GX106_reckon_0 a0 a1 a3 M
def HX106_reckon (a0 : Nat) (a1 : Int64) (a3 : Int64) (M : FM) : Prop := HX106_reckon_0 a0 a1 a3 M
theorem gX106_reckon (a0 : Nat) (a1 : Int64) (a3 : Int64) (M : FM) (T : Ty M) (n_a0 : fm_is M 4 4 a0 = true) (h : HX106_reckon a0 a1 a3 M) : gd (FX106_reckon a0 a1 a3 M) (GX106_reckon a0 a1 a3 M) (OkR M) := gX106_reckon_0 a0 a1 a3 M T n_a0 h
noncomputable def GX106_reckonInt_71 (a0 : Nat) (a1 : Int32) (a2 : Int32) (M : FM) : Int64 × FM :=
  let r1 : Int64 × FM := GX106_reckon a0 (a1.toInt64 &&& (Int64.ofInt 4294967295)) (a2.toInt64 &&& (Int64.ofInt 4294967295)) M
  (r1.1.toInt32.toInt64, r1.2)
def HX106_reckonInt_71 (a0 : Nat) (a1 : Int32) (a2 : Int32) (M : FM) : Prop := (HX106_reckon a0 (a1.toInt64 &&& (Int64.ofInt 4294967295)) (a2.toInt64 &&& (Int64.ofInt 4294967295)) M ∧ True)
theorem gX106_reckonInt_71 (a0 : Nat) (a1 : Int32) (a2 : Int32) (M : FM) (T : Ty M) (n_a0 : fm_is M 4 4 a0 = true) (h : HX106_reckonInt_71 a0 a1 a2 M) : gd (FX106_reckonInt_71 a0 a1 a2 M) (GX106_reckonInt_71 a0 a1 a2 M) (OkR M) := by
  delta FX106_reckonInt_71 BX106_reckonInt_71
  refine gd_b (gX106_reckon _ _ _ _ ⟨T.1, T.2⟩ n_a0 h.1) (fun K0 => ?_)
  exact ⟨rfl, ⟨K0.1.1, K0.1.2⟩, K0.2⟩
noncomputable def GX106_reckonInt_0 (a0 : Nat) (a1 : Int32) (a2 : Int32) (M : FM) : Int64 × FM :=
  let r1 : Int32 × FM := GJ0_ordinal a0 M
  fi (r1.1 = (Int32.ofInt 2)) (
    ((a1 <<< (a2 &&& 31)).toInt64, r1.2)) (
    fi (r1.1 = (Int32.ofInt 6)) (
      (((a1.toUInt32 >>> (a2.toUInt32 &&& Int32.toUInt32 31)).toInt32).toInt64, r1.2)) (
      fi (r1.1 = (Int32.ofInt 7)) (
        ((a1 >>> (a2 &&& 31)).toInt64, r1.2)) (
        fi (r1.1 = (Int32.ofInt 15)) (
          GX106_reckonInt_71 a0 a1 a2 r1.2) (
          fi (r1.1 = (Int32.ofInt 17)) (
            GX106_reckonInt_71 a0 a1 a2 r1.2) (
            let r2 : Int64 × FM := GX106_reckon a0 a1.toInt64 a2.toInt64 r1.2
            (r2.1.toInt32.toInt64, r2.2))))))
def HX106_reckonInt_0 (a0 : Nat) (a1 : Int32) (a2 : Int32) (M : FM) : Prop := let r1 : Int32 × FM := GJ0_ordinal a0 M; ((r1.1 = (Int32.ofInt 2) → True) ∧ (¬ (r1.1 = (Int32.ofInt 2)) → ((r1.1 = (Int32.ofInt 6) → True) ∧ (¬ (r1.1 = (Int32.ofInt 6)) → ((r1.1 = (Int32.ofInt 7) → True) ∧ (¬ (r1.1 = (Int32.ofInt 7)) → ((r1.1 = (Int32.ofInt 15) → HX106_reckonInt_71 a0 a1 a2 r1.2) ∧ (¬ (r1.1 = (Int32.ofInt 15)) → ((r1.1 = (Int32.ofInt 17) → HX106_reckonInt_71 a0 a1 a2 r1.2) ∧ (¬ (r1.1 = (Int32.ofInt 17)) → (HX106_reckon a0 a1.toInt64 a2.toInt64 r1.2 ∧ True)))))))))))
theorem gX106_reckonInt_0 (a0 : Nat) (a1 : Int32) (a2 : Int32) (M : FM) (T : Ty M) (n_a0 : fm_is M 4 4 a0 = true) (h : HX106_reckonInt_0 a0 a1 a2 M) : gd (FX106_reckonInt_0 a0 a1 a2 M) (GX106_reckonInt_0 a0 a1 a2 M) (OkR M) := by
  delta FX106_reckonInt_0 BX106_reckonInt_0
  refine gd_c n_a0 ?_
  have f10 := (fm_w (lo' := 1) (hi' := 6) rfl rfl n_a0)
  refine gd_b (gJ0_ordinal _ _ ⟨T.1, T.2⟩ f10 ) (fun K0 => ?_)
  refine gd_fi (fun c1_0 => ?_) (fun c1_0 => ?_)
  · exact ⟨rfl, ⟨K0.1.1, K0.1.2⟩, K0.2⟩
  · refine gd_fi (fun c2_1 => ?_) (fun c2_1 => ?_)
    · exact ⟨rfl, ⟨K0.1.1, K0.1.2⟩, K0.2⟩
    · refine gd_fi (fun c3_2 => ?_) (fun c3_2 => ?_)
      · exact ⟨rfl, ⟨K0.1.1, K0.1.2⟩, K0.2⟩
      · refine gd_fi (fun c4_3 => ?_) (fun c4_3 => ?_)
        · have f5 := (ext_is K0.2 (Nat.zero_lt_succ _) n_a0)
          exact gd_tR K0.2 (gX106_reckonInt_71 _ _ _ _ ⟨K0.1.1, K0.1.2⟩ f5 ((((h.2 c1_0).2 c2_1).2 c3_2).1 c4_3))
        · refine gd_fi (fun c6_4 => ?_) (fun c6_4 => ?_)
          · have f7 := (ext_is K0.2 (Nat.zero_lt_succ _) n_a0)
            exact gd_tR K0.2 (gX106_reckonInt_71 _ _ _ _ ⟨K0.1.1, K0.1.2⟩ f7 (((((h.2 c1_0).2 c2_1).2 c3_2).2 c4_3).1 c6_4))
          · have f9 := (ext_is K0.2 (Nat.zero_lt_succ _) n_a0)
            refine gd_b (gX106_reckon _ _ _ _ ⟨K0.1.1, K0.1.2⟩ f9 (((((h.2 c1_0).2 c2_1).2 c3_2).2 c4_3).2 c6_4).1) (fun K8 => ?_)
            exact ⟨rfl, ⟨K8.1.1, K8.1.2⟩, (ext_tr K0.2 K8.2)⟩
noncomputable def GX106_reckonInt (a0 : Nat) (a1 : Int32) (a2 : Int32) (M : FM) : Int64 × FM := GX106_reckonInt_0 a0 a1 a2 M
def HX106_reckonInt (a0 : Nat) (a1 : Int32) (a2 : Int32) (M : FM) : Prop := HX106_reckonInt_0 a0 a1 a2 M
theorem gX106_reckonInt (a0 : Nat) (a1 : Int32) (a2 : Int32) (M : FM) (T : Ty M) (n_a0 : fm_is M 4 4 a0 = true) (h : HX106_reckonInt a0 a1 a2 M) : gd (FX106_reckonInt a0 a1 a2 M) (GX106_reckonInt a0 a1 a2 M) (OkR M) := gX106_reckonInt_0 a0 a1 a2 M T n_a0 h
noncomputable def GX56_run_75 (a1 : Nat) (a3 : Int32) (s0 : Nat) (s1 : Int32) (s2 : Int64) (M : FM) : Int32 × FM :=
  let M1 : FM := GX48_set s0 s1 s2 M
  let M2 : FM := fm_sL M1 179 a1 0 ((M1.2.1 179 a1 0) + a3.toInt64)
  ((Int32.ofInt 0), M2)
def HX56_run_75 (a1 : Nat) (a3 : Int32) (s0 : Nat) (s1 : Int32) (s2 : Int64) (M : FM) : Prop := (HX48_set s0 s1 s2 M ∧ True)
theorem gX56_run_75 (a1 : Nat) (a3 : Int32) (s0 : Nat) (s1 : Int32) (s2 : Int64) (M : FM) (T : Ty M) (n_s0 : fm_is M 64 64 s0 = true) (n_a1 : fm_is M 64 64 a1 = true) (h : HX56_run_75 a1 a3 s0 s1 s2 M) : gd (FX56_run_75 a1 a3 s0 s1 s2 M) (GX56_run_75 a1 a3 s0 s1 s2 M) (OkR M) := by
  delta FX56_run_75 BX56_run_75
  refine gd_c n_s0 ?_
  refine gd_b (gX48_set _ _ _ _ ⟨T.1, T.2⟩ n_s0 h.1) (fun K0 => ?_)
  have f1 := (ext_is K0.2 (Nat.zero_lt_succ _) n_a1)
  refine gd_c f1 ?_
  have f2 := (ext_is K0.2 (Nat.zero_lt_succ _) n_a1)
  refine gd_c f2 ?_
  exact ⟨rfl, ⟨K0.1.1, K0.1.2⟩, (ext_tr K0.2 (ext_dL (ext_r _)))⟩
noncomputable def GX56_run_34 (a1 : Nat) (a2 : Nat) (a3 : Int32) (a4 : Int64) (s0 : Int64) (M : FM) : Int32 × FM :=
  fi ((M.1 157 a2 0) = 0) (
    let r1 : Int64 × FM := GX106_reckon (M.2.2 155 a2 0) a4 s0 M
    GX56_run_75 a1 a3 a1 (M.1 151 a2 0) r1.1 r1.2) (
    let r2 : Int64 × FM := GX106_reckonInt (M.2.2 155 a2 0) a4.toInt32 s0.toInt32 M
    GX56_run_75 a1 a3 a1 (M.1 151 a2 0) r2.1 r2.2)
def HX56_run_34 (a1 : Nat) (a2 : Nat) (a3 : Int32) (a4 : Int64) (s0 : Int64) (M : FM) : Prop := (((M.1 157 a2 0) = 0 → (fm_is M 4 4 (M.2.2 155 a2 0) = true ∧ HX106_reckon (M.2.2 155 a2 0) a4 s0 M ∧ let r1 : Int64 × FM := GX106_reckon (M.2.2 155 a2 0) a4 s0 M; HX56_run_75 a1 a3 a1 (M.1 151 a2 0) r1.1 r1.2)) ∧ (¬ ((M.1 157 a2 0) = 0) → (fm_is M 4 4 (M.2.2 155 a2 0) = true ∧ HX106_reckonInt (M.2.2 155 a2 0) a4.toInt32 s0.toInt32 M ∧ let r2 : Int64 × FM := GX106_reckonInt (M.2.2 155 a2 0) a4.toInt32 s0.toInt32 M; HX56_run_75 a1 a3 a1 (M.1 151 a2 0) r2.1 r2.2)))
theorem gX56_run_34 (a1 : Nat) (a2 : Nat) (a3 : Int32) (a4 : Int64) (s0 : Int64) (M : FM) (T : Ty M) (n_a2 : fm_is M 61 61 a2 = true) (n_a1 : fm_is M 64 64 a1 = true) (h : HX56_run_34 a1 a2 a3 a4 s0 M) : gd (FX56_run_34 a1 a2 a3 a4 s0 M) (GX56_run_34 a1 a2 a3 a4 s0 M) (OkR M) := by
  delta FX56_run_34 BX56_run_34
  refine gd_c n_a2 ?_
  refine gd_c n_a2 ?_
  refine gd_fi (fun c0_0 => ?_) (fun c0_0 => ?_)
  · refine gd_c n_a2 ?_
    refine gd_b (gX106_reckon _ _ _ _ ⟨T.1, T.2⟩ (h.1 c0_0).1 (h.1 c0_0).2.1) (fun K1 => ?_)
    have f2 := (ext_is K1.2 (Nat.zero_lt_succ _) n_a1)
    have f3 := (ext_is K1.2 (Nat.zero_lt_succ _) n_a1)
    exact gd_tR K1.2 (gX56_run_75 _ _ _ _ _ _ ⟨K1.1.1, K1.1.2⟩ f2 f3 (h.1 c0_0).2.2)
  · refine gd_c n_a2 ?_
    refine gd_b (gX106_reckonInt _ _ _ _ ⟨T.1, T.2⟩ (h.2 c0_0).1 (h.2 c0_0).2.1) (fun K4 => ?_)
    have f5 := (ext_is K4.2 (Nat.zero_lt_succ _) n_a1)
    have f6 := (ext_is K4.2 (Nat.zero_lt_succ _) n_a1)
    exact gd_tR K4.2 (gX56_run_75 _ _ _ _ _ _ ⟨K4.1.1, K4.1.2⟩ f5 f6 (h.2 c0_0).2.2)
noncomputable def GX56_run_0 (a0 : Nat) (a1 : Nat) (a2 : Nat) (a3 : Int32) (M : FM) : Int32 × FM :=
  let x1 : Int32 := (M.1 152 a2 0)
  let x2 : Nat := (M.2.2 178 a1 0)
  let x3 : Int64 := (M.2.1 3 x2 x1.toNatClampNeg)
  fi ((M.1 156 a2 0) = 0) (
    GX56_run_34 a1 a2 a3 x3 (M.2.1 154 a2 0) M) (
    let x4 : Int32 := (M.1 153 a2 0)
    let x5 : Nat := (M.2.2 178 a1 0)
    GX56_run_34 a1 a2 a3 x3 (M.2.1 3 x5 x4.toNatClampNeg) M)
def HX56_run_0 (a0 : Nat) (a1 : Nat) (a2 : Nat) (a3 : Int32) (M : FM) : Prop := let x1 : Int32 := (M.1 152 a2 0); let x2 : Nat := (M.2.2 178 a1 0); (fm_in M x2 x1 = true ∧ let x3 : Int64 := (M.2.1 3 x2 x1.toNatClampNeg); (((M.1 156 a2 0) = 0 → HX56_run_34 a1 a2 a3 x3 (M.2.1 154 a2 0) M) ∧ (¬ ((M.1 156 a2 0) = 0) → let x4 : Int32 := (M.1 153 a2 0); let x5 : Nat := (M.2.2 178 a1 0); (fm_in M x5 x4 = true ∧ HX56_run_34 a1 a2 a3 x3 (M.2.1 3 x5 x4.toNatClampNeg) M))))
theorem gX56_run_0 (a0 : Nat) (a1 : Nat) (a2 : Nat) (a3 : Int32) (M : FM) (T : Ty M) (n_a1 : fm_is M 64 64 a1 = true) (n_a2 : fm_is M 61 61 a2 = true) (h : HX56_run_0 a0 a1 a2 a3 M) : gd (FX56_run_0 a0 a1 a2 a3 M) (GX56_run_0 a0 a1 a2 a3 M) (OkR M) := by
  delta FX56_run_0 BX56_run_0
  refine gd_c n_a1 ?_
  refine gd_c n_a2 ?_
  have f2 := (tN_178 T.1 n_a1)
  refine gd_c ⟨f2, h.1⟩ ?_
  refine gd_c n_a2 ?_
  refine gd_fi (fun c0_0 => ?_) (fun c0_0 => ?_)
  · refine gd_c n_a2 ?_
    exact gd_tR (ext_r _) (gX56_run_34 _ _ _ _ _ _ ⟨T.1, T.2⟩ n_a2 n_a1 (h.2.1 c0_0))
  · refine gd_c n_a1 ?_
    refine gd_c n_a2 ?_
    have f1 := (tN_178 T.1 n_a1)
    refine gd_c ⟨f1, (h.2.2 c0_0).1⟩ ?_
    exact gd_tR (ext_r _) (gX56_run_34 _ _ _ _ _ _ ⟨T.1, T.2⟩ n_a2 n_a1 (h.2.2 c0_0).2)
noncomputable def GX56_run (a0 : Nat) (a1 : Nat) (a2 : Nat) (a3 : Int32) (M : FM) : Int32 × FM := GX56_run_0 a0 a1 a2 a3 M
def HX56_run (a0 : Nat) (a1 : Nat) (a2 : Nat) (a3 : Int32) (M : FM) : Prop := HX56_run_0 a0 a1 a2 a3 M
theorem gX56_run (a0 : Nat) (a1 : Nat) (a2 : Nat) (a3 : Int32) (M : FM) (T : Ty M) (n_a1 : fm_is M 64 64 a1 = true) (n_a2 : fm_is M 61 61 a2 = true) (h : HX56_run a0 a1 a2 a3 M) : gd (FX56_run a0 a1 a2 a3 M) (GX56_run a0 a1 a2 a3 M) (OkR M) := gX56_run_0 a0 a1 a2 a3 M T n_a1 n_a2 h
noncomputable def GX52_run_0 (a0 : Nat) (a1 : Nat) (a2 : Nat) (a3 : Int32) (M : FM) : Int32 × FM :=
  let M1 : FM := fm_sL M 179 a1 0 ((M.2.1 179 a1 0) + a3.toInt64)
  ((Int32.ofInt 1), M1)
theorem gX52_run_0 (a0 : Nat) (a1 : Nat) (a2 : Nat) (a3 : Int32) (M : FM) (T : Ty M) (n_a1 : fm_is M 64 64 a1 = true) : gd (FX52_run_0 a0 a1 a2 a3 M) (GX52_run_0 a0 a1 a2 a3 M) (OkR M) := by
  delta FX52_run_0 BX52_run_0
  refine gd_c n_a1 ?_
  refine gd_c n_a1 ?_
  exact ⟨rfl, ⟨T.1, T.2⟩, (ext_dL (ext_r _))⟩
noncomputable def GX52_run (a0 : Nat) (a1 : Nat) (a2 : Nat) (a3 : Int32) (M : FM) : Int32 × FM := GX52_run_0 a0 a1 a2 a3 M
theorem gX52_run (a0 : Nat) (a1 : Nat) (a2 : Nat) (a3 : Int32) (M : FM) (T : Ty M) (n_a1 : fm_is M 64 64 a1 = true) : gd (FX52_run a0 a1 a2 a3 M) (GX52_run a0 a1 a2 a3 M) (OkR M) := gX52_run_0 a0 a1 a2 a3 M T n_a1 
noncomputable def GX58_run_0 (a0 : Nat) (a1 : Nat) (a2 : Nat) (a3 : Int32) (M : FM) : Int32 × FM :=
  ((M.1 158 a2 0), M)
theorem gX58_run_0 (a0 : Nat) (a1 : Nat) (a2 : Nat) (a3 : Int32) (M : FM) (T : Ty M) (n_a2 : fm_is M 61 61 a2 = true) : gd (FX58_run_0 a0 a1 a2 a3 M) (GX58_run_0 a0 a1 a2 a3 M) (OkR M) := by
  delta FX58_run_0 BX58_run_0
  refine gd_c n_a2 ?_
  exact ⟨rfl, ⟨T.1, T.2⟩, (ext_r _)⟩
noncomputable def GX58_run (a0 : Nat) (a1 : Nat) (a2 : Nat) (a3 : Int32) (M : FM) : Int32 × FM := GX58_run_0 a0 a1 a2 a3 M
theorem gX58_run (a0 : Nat) (a1 : Nat) (a2 : Nat) (a3 : Int32) (M : FM) (T : Ty M) (n_a2 : fm_is M 61 61 a2 = true) : gd (FX58_run a0 a1 a2 a3 M) (GX58_run a0 a1 a2 a3 M) (OkR M) := gX58_run_0 a0 a1 a2 a3 M T n_a2 
noncomputable def GX51_run_0 (a0 : Nat) (a1 : Nat) (a2 : Nat) (a3 : Int32) (M : FM) : Int32 × FM :=
  ((Int32.ofInt (-1)), M)
theorem gX51_run_0 (a0 : Nat) (a1 : Nat) (a2 : Nat) (a3 : Int32) (M : FM) (T : Ty M) : gd (FX51_run_0 a0 a1 a2 a3 M) (GX51_run_0 a0 a1 a2 a3 M) (OkR M) := by
  delta FX51_run_0 BX51_run_0
  exact ⟨rfl, ⟨T.1, T.2⟩, (ext_r _)⟩
noncomputable def GX51_run (a0 : Nat) (a1 : Nat) (a2 : Nat) (a3 : Int32) (M : FM) : Int32 × FM := GX51_run_0 a0 a1 a2 a3 M
theorem gX51_run (a0 : Nat) (a1 : Nat) (a2 : Nat) (a3 : Int32) (M : FM) (T : Ty M) : gd (FX51_run a0 a1 a2 a3 M) (GX51_run a0 a1 a2 a3 M) (OkR M) := gX51_run_0 a0 a1 a2 a3 M T 
noncomputable def GX54_run_37 (a1 : Nat) (a2 : Nat) (a3 : Int32) (s0 : Int64) (M : FM) : Int32 × FM :=
  let M1 : FM := GX48_set a1 (M.1 151 a2 0) ((M.2.1 179 a1 0) + a3.toInt64) M
  let M2 : FM := fm_sL M1 179 a1 0 s0
  ((Int32.ofInt 0), M2)
def HX54_run_37 (a1 : Nat) (a2 : Nat) (a3 : Int32) (s0 : Int64) (M : FM) : Prop := (HX48_set a1 (M.1 151 a2 0) ((M.2.1 179 a1 0) + a3.toInt64) M ∧ True)
theorem gX54_run_37 (a1 : Nat) (a2 : Nat) (a3 : Int32) (s0 : Int64) (M : FM) (T : Ty M) (n_a2 : fm_is M 61 61 a2 = true) (n_a1 : fm_is M 64 64 a1 = true) (h : HX54_run_37 a1 a2 a3 s0 M) : gd (FX54_run_37 a1 a2 a3 s0 M) (GX54_run_37 a1 a2 a3 s0 M) (OkR M) := by
  delta FX54_run_37 BX54_run_37
  refine gd_c n_a2 ?_
  refine gd_c n_a1 ?_
  refine gd_c n_a1 ?_
  refine gd_b (gX48_set _ _ _ _ ⟨T.1, T.2⟩ n_a1 h.1) (fun K0 => ?_)
  have f1 := (ext_is K0.2 (Nat.zero_lt_succ _) n_a1)
  refine gd_c f1 ?_
  exact ⟨rfl, ⟨K0.1.1, K0.1.2⟩, (ext_tr K0.2 (ext_dL (ext_r _)))⟩
noncomputable def GX54_run_0 (a0 : Nat) (a1 : Nat) (a2 : Nat) (a3 : Int32) (M : FM) : Int32 × FM :=
  fi ((M.1 147 a0 0) = 0) (
    GX54_run_37 a1 a2 a3 ((M.2.1 179 a1 0) + (M.2.1 154 a2 0)) M) (
    let x1 : Int32 := (M.1 152 a2 0)
    let x2 : Nat := (M.2.2 178 a1 0)
    GX54_run_37 a1 a2 a3 (((M.2.1 3 x2 x1.toNatClampNeg) + (M.2.1 154 a2 0)) &&& (Int64.ofInt (-2))) M)
def HX54_run_0 (a0 : Nat) (a1 : Nat) (a2 : Nat) (a3 : Int32) (M : FM) : Prop := (((M.1 147 a0 0) = 0 → HX54_run_37 a1 a2 a3 ((M.2.1 179 a1 0) + (M.2.1 154 a2 0)) M) ∧ (¬ ((M.1 147 a0 0) = 0) → let x1 : Int32 := (M.1 152 a2 0); let x2 : Nat := (M.2.2 178 a1 0); (fm_in M x2 x1 = true ∧ HX54_run_37 a1 a2 a3 (((M.2.1 3 x2 x1.toNatClampNeg) + (M.2.1 154 a2 0)) &&& (Int64.ofInt (-2))) M)))
theorem gX54_run_0 (a0 : Nat) (a1 : Nat) (a2 : Nat) (a3 : Int32) (M : FM) (T : Ty M) (n_a0 : fm_is M 59 59 a0 = true) (n_a1 : fm_is M 64 64 a1 = true) (n_a2 : fm_is M 61 61 a2 = true) (h : HX54_run_0 a0 a1 a2 a3 M) : gd (FX54_run_0 a0 a1 a2 a3 M) (GX54_run_0 a0 a1 a2 a3 M) (OkR M) := by
  delta FX54_run_0 BX54_run_0
  refine gd_c n_a0 ?_
  refine gd_fi (fun c0_0 => ?_) (fun c0_0 => ?_)
  · refine gd_c n_a1 ?_
    refine gd_c n_a2 ?_
    exact gd_tR (ext_r _) (gX54_run_37 _ _ _ _ _ ⟨T.1, T.2⟩ n_a2 n_a1 (h.1 c0_0))
  · refine gd_c n_a1 ?_
    refine gd_c n_a2 ?_
    have f1 := (tN_178 T.1 n_a1)
    refine gd_c ⟨f1, (h.2 c0_0).1⟩ ?_
    refine gd_c n_a2 ?_
    exact gd_tR (ext_r _) (gX54_run_37 _ _ _ _ _ ⟨T.1, T.2⟩ n_a2 n_a1 (h.2 c0_0).2)
noncomputable def GX54_run (a0 : Nat) (a1 : Nat) (a2 : Nat) (a3 : Int32) (M : FM) : Int32 × FM := GX54_run_0 a0 a1 a2 a3 M
def HX54_run (a0 : Nat) (a1 : Nat) (a2 : Nat) (a3 : Int32) (M : FM) : Prop := HX54_run_0 a0 a1 a2 a3 M
theorem gX54_run (a0 : Nat) (a1 : Nat) (a2 : Nat) (a3 : Int32) (M : FM) (T : Ty M) (n_a0 : fm_is M 59 59 a0 = true) (n_a1 : fm_is M 64 64 a1 = true) (n_a2 : fm_is M 61 61 a2 = true) (h : HX54_run a0 a1 a2 a3 M) : gd (FX54_run a0 a1 a2 a3 M) (GX54_run a0 a1 a2 a3 M) (OkR M) := gX54_run_0 a0 a1 a2 a3 M T n_a0 n_a1 n_a2 h
noncomputable def GX53_run_24 (a1 : Nat) (a3 : Int32) (s0 : Nat) (s1 : Int32) (s2 : Int64) (s3 : Int64) (M : FM) : Int32 × FM :=
  let M1 : FM := GX48_set s0 s1 (s2 + s3) M
  let M2 : FM := fm_sL M1 179 a1 0 ((M1.2.1 179 a1 0) + a3.toInt64)
  ((Int32.ofInt 0), M2)
def HX53_run_24 (a1 : Nat) (a3 : Int32) (s0 : Nat) (s1 : Int32) (s2 : Int64) (s3 : Int64) (M : FM) : Prop := (HX48_set s0 s1 (s2 + s3) M ∧ True)
theorem gX53_run_24 (a1 : Nat) (a3 : Int32) (s0 : Nat) (s1 : Int32) (s2 : Int64) (s3 : Int64) (M : FM) (T : Ty M) (n_s0 : fm_is M 64 64 s0 = true) (n_a1 : fm_is M 64 64 a1 = true) (h : HX53_run_24 a1 a3 s0 s1 s2 s3 M) : gd (FX53_run_24 a1 a3 s0 s1 s2 s3 M) (GX53_run_24 a1 a3 s0 s1 s2 s3 M) (OkR M) := by
  delta FX53_run_24 BX53_run_24
  refine gd_c n_s0 ?_
  refine gd_b (gX48_set _ _ _ _ ⟨T.1, T.2⟩ n_s0 h.1) (fun K0 => ?_)
  have f1 := (ext_is K0.2 (Nat.zero_lt_succ _) n_a1)
  refine gd_c f1 ?_
  have f2 := (ext_is K0.2 (Nat.zero_lt_succ _) n_a1)
  refine gd_c f2 ?_
  exact ⟨rfl, ⟨K0.1.1, K0.1.2⟩, (ext_tr K0.2 (ext_dL (ext_r _)))⟩
noncomputable def GX53_run_0 (a0 : Nat) (a1 : Nat) (a2 : Nat) (a3 : Int32) (M : FM) : Int32 × FM :=
  fi ((M.1 148 a0 0) = 0) (
    GX53_run_24 a1 a3 a1 (M.1 151 a2 0) (M.2.1 154 a2 0) (Int64.ofInt 0) M) (
    GX53_run_24 a1 a3 a1 (M.1 151 a2 0) (M.2.1 154 a2 0) (M.2.1 179 a1 0) M)
def HX53_run_0 (a0 : Nat) (a1 : Nat) (a2 : Nat) (a3 : Int32) (M : FM) : Prop := (((M.1 148 a0 0) = 0 → HX53_run_24 a1 a3 a1 (M.1 151 a2 0) (M.2.1 154 a2 0) (Int64.ofInt 0) M) ∧ (¬ ((M.1 148 a0 0) = 0) → HX53_run_24 a1 a3 a1 (M.1 151 a2 0) (M.2.1 154 a2 0) (M.2.1 179 a1 0) M))
theorem gX53_run_0 (a0 : Nat) (a1 : Nat) (a2 : Nat) (a3 : Int32) (M : FM) (T : Ty M) (n_a2 : fm_is M 61 61 a2 = true) (n_a0 : fm_is M 60 60 a0 = true) (n_a1 : fm_is M 64 64 a1 = true) (h : HX53_run_0 a0 a1 a2 a3 M) : gd (FX53_run_0 a0 a1 a2 a3 M) (GX53_run_0 a0 a1 a2 a3 M) (OkR M) := by
  delta FX53_run_0 BX53_run_0
  refine gd_c n_a2 ?_
  refine gd_c n_a2 ?_
  refine gd_c n_a0 ?_
  refine gd_fi (fun c0_0 => ?_) (fun c0_0 => ?_)
  · exact gd_tR (ext_r _) (gX53_run_24 _ _ _ _ _ _ _ ⟨T.1, T.2⟩ n_a1 n_a1 (h.1 c0_0))
  · refine gd_c n_a1 ?_
    exact gd_tR (ext_r _) (gX53_run_24 _ _ _ _ _ _ _ ⟨T.1, T.2⟩ n_a1 n_a1 (h.2 c0_0))
noncomputable def GX53_run (a0 : Nat) (a1 : Nat) (a2 : Nat) (a3 : Int32) (M : FM) : Int32 × FM := GX53_run_0 a0 a1 a2 a3 M
def HX53_run (a0 : Nat) (a1 : Nat) (a2 : Nat) (a3 : Int32) (M : FM) : Prop := HX53_run_0 a0 a1 a2 a3 M
theorem gX53_run (a0 : Nat) (a1 : Nat) (a2 : Nat) (a3 : Int32) (M : FM) (T : Ty M) (n_a2 : fm_is M 61 61 a2 = true) (n_a0 : fm_is M 60 60 a0 = true) (n_a1 : fm_is M 64 64 a1 = true) (h : HX53_run a0 a1 a2 a3 M) : gd (FX53_run a0 a1 a2 a3 M) (GX53_run a0 a1 a2 a3 M) (OkR M) := gX53_run_0 a0 a1 a2 a3 M T n_a2 n_a0 n_a1 h
noncomputable def GX57_wanted_82 (s0 : Int64) (M : FM) : Int64 × FM :=
  (s0, M)
theorem gX57_wanted_82 (s0 : Int64) (M : FM) (T : Ty M) : gd (FX57_wanted_82 s0 M) (GX57_wanted_82 s0 M) (OkR M) := by
  delta FX57_wanted_82 BX57_wanted_82
  exact ⟨rfl, ⟨T.1, T.2⟩, (ext_r _)⟩
noncomputable def GX57_wanted_69 (a1 : Nat) (a2 : Nat) (M : FM) : Int64 × FM :=
  let x1 : Int32 := (M.1 153 a2 0)
  let x2 : Nat := (M.2.2 178 a1 0)
  GX57_wanted_82 (M.2.1 3 x2 x1.toNatClampNeg) M
def HX57_wanted_69 (a1 : Nat) (a2 : Nat) (M : FM) : Prop := let x1 : Int32 := (M.1 153 a2 0); let x2 : Nat := (M.2.2 178 a1 0); (fm_in M x2 x1 = true ∧ True)
theorem gX57_wanted_69 (a1 : Nat) (a2 : Nat) (M : FM) (T : Ty M) (n_a1 : fm_is M 64 64 a1 = true) (n_a2 : fm_is M 61 61 a2 = true) (h : HX57_wanted_69 a1 a2 M) : gd (FX57_wanted_69 a1 a2 M) (GX57_wanted_69 a1 a2 M) (OkR M) := by
  delta FX57_wanted_69 BX57_wanted_69
  refine gd_c n_a1 ?_
  refine gd_c n_a2 ?_
  have f0 := (tN_178 T.1 n_a1)
  refine gd_c ⟨f0, h.1⟩ ?_
  exact gd_tR (ext_r _) (gX57_wanted_82 _ _ ⟨T.1, T.2⟩  )
noncomputable def GX57_wanted_0 (a0 : Nat) (a1 : Nat) (a2 : Nat) (a3 : Int32) (M : FM) : Int64 × FM :=
  fi (a3 = (Int32.ofInt 0)) (
    let x1 : Int32 := (M.1 152 a2 0)
    let x2 : Nat := (M.2.2 178 a1 0)
    (((M.2.1 3 x2 x1.toNatClampNeg) + (M.2.1 154 a2 0)), M)) (
    fi (a3 = (Int32.ofInt 1)) (
      ((M.1 159 a2 0).toInt64, M)) (
      fi (a3 = (Int32.ofInt 2)) (
        fi ((M.1 158 a2 0) = (Int32.ofInt 3)) (
          GX57_wanted_69 a1 a2 M) (
          fi ((M.1 158 a2 0) = (Int32.ofInt 4)) (
            GX57_wanted_69 a1 a2 M) (
            GX57_wanted_82 (Int64.ofInt 0) M))) (
        fi (a3 = (Int32.ofInt 3)) (
          ((M.1 160 a2 0).toInt64, M)) (
          ((M.1 151 a2 0).toInt64, M)))))
def HX57_wanted_0 (a0 : Nat) (a1 : Nat) (a2 : Nat) (a3 : Int32) (M : FM) : Prop := ((a3 = (Int32.ofInt 0) → let x1 : Int32 := (M.1 152 a2 0); let x2 : Nat := (M.2.2 178 a1 0); (fm_in M x2 x1 = true ∧ True)) ∧ (¬ (a3 = (Int32.ofInt 0)) → ((a3 = (Int32.ofInt 1) → True) ∧ (¬ (a3 = (Int32.ofInt 1)) → ((a3 = (Int32.ofInt 2) → (((M.1 158 a2 0) = (Int32.ofInt 3) → HX57_wanted_69 a1 a2 M) ∧ (¬ ((M.1 158 a2 0) = (Int32.ofInt 3)) → (((M.1 158 a2 0) = (Int32.ofInt 4) → HX57_wanted_69 a1 a2 M) ∧ (¬ ((M.1 158 a2 0) = (Int32.ofInt 4)) → True))))) ∧ (¬ (a3 = (Int32.ofInt 2)) → True))))))
theorem gX57_wanted_0 (a0 : Nat) (a1 : Nat) (a2 : Nat) (a3 : Int32) (M : FM) (T : Ty M) (n_a1 : fm_is M 64 64 a1 = true) (n_a2 : fm_is M 61 61 a2 = true) (h : HX57_wanted_0 a0 a1 a2 a3 M) : gd (FX57_wanted_0 a0 a1 a2 a3 M) (GX57_wanted_0 a0 a1 a2 a3 M) (OkR M) := by
  delta FX57_wanted_0 BX57_wanted_0
  refine gd_fi (fun c0_0 => ?_) (fun c0_0 => ?_)
  · refine gd_c n_a1 ?_
    refine gd_c n_a2 ?_
    have f1 := (tN_178 T.1 n_a1)
    refine gd_c ⟨f1, (h.1 c0_0).1⟩ ?_
    refine gd_c n_a2 ?_
    exact ⟨rfl, ⟨T.1, T.2⟩, (ext_r _)⟩
  · refine gd_fi (fun c2_1 => ?_) (fun c2_1 => ?_)
    · refine gd_c n_a2 ?_
      exact ⟨rfl, ⟨T.1, T.2⟩, (ext_r _)⟩
    · refine gd_fi (fun c3_2 => ?_) (fun c3_2 => ?_)
      · refine gd_c n_a2 ?_
        refine gd_fi (fun c4_0 => ?_) (fun c4_0 => ?_)
        · exact gd_tR (ext_r _) (gX57_wanted_69 _ _ _ ⟨T.1, T.2⟩ n_a1 n_a2 ((((h.2 c0_0).2 c2_1).1 c3_2).1 c4_0))
        · refine gd_c n_a2 ?_
          refine gd_fi (fun c5_0 => ?_) (fun c5_0 => ?_)
          · exact gd_tR (ext_r _) (gX57_wanted_69 _ _ _ ⟨T.1, T.2⟩ n_a1 n_a2 (((((h.2 c0_0).2 c2_1).1 c3_2).2 c4_0).1 c5_0))
          · exact gd_tR (ext_r _) (gX57_wanted_82 _ _ ⟨T.1, T.2⟩  )
      · refine gd_fi (fun c6_3 => ?_) (fun c6_3 => ?_)
        · refine gd_c n_a2 ?_
          exact ⟨rfl, ⟨T.1, T.2⟩, (ext_r _)⟩
        · refine gd_c n_a2 ?_
          exact ⟨rfl, ⟨T.1, T.2⟩, (ext_r _)⟩
noncomputable def GX57_wanted (a0 : Nat) (a1 : Nat) (a2 : Nat) (a3 : Int32) (M : FM) : Int64 × FM := GX57_wanted_0 a0 a1 a2 a3 M
def HX57_wanted (a0 : Nat) (a1 : Nat) (a2 : Nat) (a3 : Int32) (M : FM) : Prop := HX57_wanted_0 a0 a1 a2 a3 M
theorem gX57_wanted (a0 : Nat) (a1 : Nat) (a2 : Nat) (a3 : Int32) (M : FM) (T : Ty M) (n_a1 : fm_is M 64 64 a1 = true) (n_a2 : fm_is M 61 61 a2 = true) (h : HX57_wanted a0 a1 a2 a3 M) : gd (FX57_wanted a0 a1 a2 a3 M) (GX57_wanted a0 a1 a2 a3 M) (OkR M) := gX57_wanted_0 a0 a1 a2 a3 M T n_a1 n_a2 h
noncomputable def GX50_wanted_0 (a0 : Nat) (a1 : Nat) (a2 : Nat) (a3 : Int32) (M : FM) : Int64 × FM :=
  ((Int64.ofInt (-1)), M)
theorem gX50_wanted_0 (a0 : Nat) (a1 : Nat) (a2 : Nat) (a3 : Int32) (M : FM) (T : Ty M) : gd (FX50_wanted_0 a0 a1 a2 a3 M) (GX50_wanted_0 a0 a1 a2 a3 M) (OkR M) := by
  delta FX50_wanted_0 BX50_wanted_0
  exact ⟨rfl, ⟨T.1, T.2⟩, (ext_r _)⟩
noncomputable def GX50_wanted (a0 : Nat) (a1 : Nat) (a2 : Nat) (a3 : Int32) (M : FM) : Int64 × FM := GX50_wanted_0 a0 a1 a2 a3 M
theorem gX50_wanted (a0 : Nat) (a1 : Nat) (a2 : Nat) (a3 : Int32) (M : FM) (T : Ty M) : gd (FX50_wanted a0 a1 a2 a3 M) (GX50_wanted a0 a1 a2 a3 M) (OkR M) := gX50_wanted_0 a0 a1 a2 a3 M T 
noncomputable def GX58_wanted_63 (s0 : Int64) (M : FM) : Int64 × FM :=
  (s0, M)
theorem gX58_wanted_63 (s0 : Int64) (M : FM) (T : Ty M) : gd (FX58_wanted_63 s0 M) (GX58_wanted_63 s0 M) (OkR M) := by
  delta FX58_wanted_63 BX58_wanted_63
  exact ⟨rfl, ⟨T.1, T.2⟩, (ext_r _)⟩
noncomputable def GX58_wanted_0 (a0 : Nat) (a1 : Nat) (a2 : Nat) (a3 : Int32) (M : FM) : Int64 × FM :=
  fi (a3 = (Int32.ofInt 0)) (
    ((M.2.1 154 a2 0), M)) (
    fi (a3 = (Int32.ofInt 1)) (
      ((Int64.ofInt 0), M)) (
      fi (a3 = (Int32.ofInt 2)) (
        fi ((M.1 156 a2 0) = 0) (
          GX58_wanted_63 ((M.1 152 a2 0).toInt64) M) (
          let x1 : Int32 := (M.1 152 a2 0)
          let x2 : Nat := (M.2.2 178 a1 0)
          GX58_wanted_63 (M.2.1 3 x2 x1.toNatClampNeg) M)) (
        fi (a3 = (Int32.ofInt 3)) (
          ((M.1 160 a2 0).toInt64, M)) (
          ((M.1 151 a2 0).toInt64, M)))))
def HX58_wanted_0 (a0 : Nat) (a1 : Nat) (a2 : Nat) (a3 : Int32) (M : FM) : Prop := ((a3 = (Int32.ofInt 0) → True) ∧ (¬ (a3 = (Int32.ofInt 0)) → ((a3 = (Int32.ofInt 1) → True) ∧ (¬ (a3 = (Int32.ofInt 1)) → ((a3 = (Int32.ofInt 2) → (((M.1 156 a2 0) = 0 → True) ∧ (¬ ((M.1 156 a2 0) = 0) → let x1 : Int32 := (M.1 152 a2 0); let x2 : Nat := (M.2.2 178 a1 0); (fm_in M x2 x1 = true ∧ True)))) ∧ (¬ (a3 = (Int32.ofInt 2)) → True))))))
theorem gX58_wanted_0 (a0 : Nat) (a1 : Nat) (a2 : Nat) (a3 : Int32) (M : FM) (T : Ty M) (n_a2 : fm_is M 61 61 a2 = true) (n_a1 : fm_is M 64 64 a1 = true) (h : HX58_wanted_0 a0 a1 a2 a3 M) : gd (FX58_wanted_0 a0 a1 a2 a3 M) (GX58_wanted_0 a0 a1 a2 a3 M) (OkR M) := by
  delta FX58_wanted_0 BX58_wanted_0
  refine gd_fi (fun c0_0 => ?_) (fun c0_0 => ?_)
  · refine gd_c n_a2 ?_
    exact ⟨rfl, ⟨T.1, T.2⟩, (ext_r _)⟩
  · refine gd_fi (fun c1_1 => ?_) (fun c1_1 => ?_)
    · exact ⟨rfl, ⟨T.1, T.2⟩, (ext_r _)⟩
    · refine gd_fi (fun c2_2 => ?_) (fun c2_2 => ?_)
      · refine gd_c n_a2 ?_
        refine gd_fi (fun c3_0 => ?_) (fun c3_0 => ?_)
        · refine gd_c n_a2 ?_
          exact gd_tR (ext_r _) (gX58_wanted_63 _ _ ⟨T.1, T.2⟩  )
        · refine gd_c n_a1 ?_
          refine gd_c n_a2 ?_
          have f4 := (tN_178 T.1 n_a1)
          have f5 := ((((h.2 c0_0).2 c1_1).1 c2_2).2 c3_0).1
          refine gd_c ⟨f4, f5⟩ ?_
          exact gd_tR (ext_r _) (gX58_wanted_63 _ _ ⟨T.1, T.2⟩  )
      · refine gd_fi (fun c6_3 => ?_) (fun c6_3 => ?_)
        · refine gd_c n_a2 ?_
          exact ⟨rfl, ⟨T.1, T.2⟩, (ext_r _)⟩
        · refine gd_c n_a2 ?_
          exact ⟨rfl, ⟨T.1, T.2⟩, (ext_r _)⟩
noncomputable def GX58_wanted (a0 : Nat) (a1 : Nat) (a2 : Nat) (a3 : Int32) (M : FM) : Int64 × FM := GX58_wanted_0 a0 a1 a2 a3 M
def HX58_wanted (a0 : Nat) (a1 : Nat) (a2 : Nat) (a3 : Int32) (M : FM) : Prop := HX58_wanted_0 a0 a1 a2 a3 M
theorem gX58_wanted (a0 : Nat) (a1 : Nat) (a2 : Nat) (a3 : Int32) (M : FM) (T : Ty M) (n_a2 : fm_is M 61 61 a2 = true) (n_a1 : fm_is M 64 64 a1 = true) (h : HX58_wanted a0 a1 a2 a3 M) : gd (FX58_wanted a0 a1 a2 a3 M) (GX58_wanted a0 a1 a2 a3 M) (OkR M) := gX58_wanted_0 a0 a1 a2 a3 M T n_a2 n_a1 h
def kX47_run (k45 : Nat → Nat → Int32 → Int32 → FM → Option (Int32 × FM)) : (Nat × Nat × Int32 × Int32 × FM) ⊕ (Int32 × FM) → Option (Int32 × FM)
  | .inl (v0, v1, v2, v3, M') => k45 v0 v1 v2 v3 M'
  | .inr (r) => some r
def pX47_run (M : FM) : (Nat × Nat × Int32 × Int32 × FM) ⊕ (Int32 × FM) → Prop
  | .inl (_, _, _, _, M') => OkV M M'
  | .inr (r) => OkR M r
theorem pX47_run_t {M M1 : FM} (e : Ext M M1) : ∀ y, pX47_run M1 y → pX47_run M y
  | .inl (_, _, _, _, _), h => ⟨h.1, ext_tr e h.2⟩
  | .inr (r), h => ⟨h.1, ext_tr e h.2⟩
noncomputable def GX47_run_96 (a4 : Int32) (M : FM) : (Nat × Nat × Int32 × Int32 × FM) ⊕ (Int32 × FM) :=
  (.inr (a4, M))
theorem gX47_run_96 (k45 : Nat → Nat → Int32 → Int32 → FM → Option (Int32 × FM)) (a4 : Int32) (M : FM) (T : Ty M) : gs (FX47_run_96 fN k45 a4 M) (GX47_run_96 a4 M) (kX47_run k45) (pX47_run M) := by
  delta FX47_run_96 BX47_run_96
  exact And.intro rfl (And.intro (And.intro T.1 T.2) ((ext_r _)))
noncomputable def GX47_run_0 (a0 : Nat) (a1 : Int32) (a2 : Int32) (M : FM) : (Nat × Nat × Int32 × Int32 × FM) ⊕ (Int32 × FM) :=
  let r1 : Nat × FM := GX47_find a0 a1 M
  let M2 : FM := fm_sR r1.2 174 a0 0 0
  let x3 : Nat := (M2.2.2 149 r1.1 0)
  let r4 : Int32 × FM := (fi (fm_is M2 53 53 x3 = true) (GX57_run x3 (M2.2.2 171 a0 0) r1.1 a2 M2) ((fi (fm_is M2 54 54 x3 = true) (GX55_run x3 (M2.2.2 171 a0 0) r1.1 a2 M2) ((fi (fm_is M2 55 55 x3 = true) (GX56_run x3 (M2.2.2 171 a0 0) r1.1 a2 M2) ((fi (fm_is M2 56 56 x3 = true) (GX52_run x3 (M2.2.2 171 a0 0) r1.1 a2 M2) ((fi (fm_is M2 57 57 x3 = true) (GX58_run x3 (M2.2.2 171 a0 0) r1.1 a2 M2) ((fi (fm_is M2 58 58 x3 = true) (GX51_run x3 (M2.2.2 171 a0 0) r1.1 a2 M2) ((fi (fm_is M2 59 59 x3 = true) (GX54_run x3 (M2.2.2 171 a0 0) r1.1 a2 M2) (GX53_run x3 (M2.2.2 171 a0 0) r1.1 a2 M2))))))))))))))
  fi (r4.1 ≤ (Int32.ofInt 1)) (
    fi (r4.1 < 0) (
      GX47_run_96 r4.1 r4.2) (
      let M5 : FM := fm_sL r4.2 177 a0 0 ((r4.2.2.1 177 a0 0) + (Int64.ofInt 1))
      GX47_run_96 r4.1 M5)) (
    let M6 : FM := fm_sR r4.2 174 a0 0 r1.1
    let M7 : FM := fm_sI M6 176 a0 0 a2
    (.inl (a0, r1.1, r4.1, (Int32.ofInt 0), M7)))
def HX47_run_0 (a0 : Nat) (a1 : Int32) (a2 : Int32) (M : FM) : Prop := (HX47_find a0 a1 M ∧ let r1 : Nat × FM := GX47_find a0 a1 M; let M2 : FM := fm_sR r1.2 174 a0 0 0; let x3 : Nat := (M2.2.2 149 r1.1 0); (((fm_is M2 53 53 x3 = true → True) ∧ (¬ (fm_is M2 53 53 x3 = true) → ((fm_is M2 54 54 x3 = true → HX55_run x3 (M2.2.2 171 a0 0) r1.1 a2 M2) ∧ (¬ (fm_is M2 54 54 x3 = true) → ((fm_is M2 55 55 x3 = true → HX56_run x3 (M2.2.2 171 a0 0) r1.1 a2 M2) ∧ (¬ (fm_is M2 55 55 x3 = true) → ((fm_is M2 56 56 x3 = true → True) ∧ (¬ (fm_is M2 56 56 x3 = true) → ((fm_is M2 57 57 x3 = true → True) ∧ (¬ (fm_is M2 57 57 x3 = true) → ((fm_is M2 58 58 x3 = true → True) ∧ (¬ (fm_is M2 58 58 x3 = true) → ((fm_is M2 59 59 x3 = true → HX54_run x3 (M2.2.2 171 a0 0) r1.1 a2 M2) ∧ (¬ (fm_is M2 59 59 x3 = true) → (fm_is M2 60 60 x3 = true ∧ HX53_run x3 (M2.2.2 171 a0 0) r1.1 a2 M2))))))))))))))) ∧ True))
theorem gX47_run_0 (k45 : Nat → Nat → Int32 → Int32 → FM → Option (Int32 × FM)) (a0 : Nat) (a1 : Int32) (a2 : Int32) (M : FM) (T : Ty M) (n_a0 : fm_is M 63 63 a0 = true) (h : HX47_run_0 a0 a1 a2 M) : gs (FX47_run_0 fN k45 a0 a1 a2 M) (GX47_run_0 a0 a1 a2 M) (kX47_run k45) (pX47_run M) := by
  delta FX47_run_0 BX47_run_0
  refine gs_c n_a0 ?_
  refine gs_b (gX47_find _ _ _ h.1) (fun K0 => ?_)
  have f1 := (ext_is K0.2.1 (Nat.zero_lt_succ _) n_a0)
  refine gs_c f1 ?_
  have TR2 : TyR (fm_sR (GX47_find a0 a1 M).2 174 a0 0 0).2.2 := (tS_174 K0.1.1 (fun h => absurd rfl h))
  have BR2 : TyB (fm_sR (GX47_find a0 a1 M).2 174 a0 0 0) := (tyb_sR (f := 174) (by decide) K0.1.2)
  refine gs_c K0.2.2 ?_
  have f3 := (ext_is K0.2.1 (Nat.zero_lt_succ _) n_a0)
  refine gs_c f3 ?_
  have f6 := (tN_171 TR2 (ext_is K0.2.1 (Nat.zero_lt_succ _) n_a0))
  have f8 := (tN_171 TR2 (ext_is K0.2.1 (Nat.zero_lt_succ _) n_a0))
  have f10 := (tN_171 TR2 (ext_is K0.2.1 (Nat.zero_lt_succ _) n_a0))
  have f14 := (tN_171 TR2 (ext_is K0.2.1 (Nat.zero_lt_succ _) n_a0))
  have f15 := (tN_171 TR2 (ext_is K0.2.1 (Nat.zero_lt_succ _) n_a0))
  refine gs_kb (gk_fi (gk_b _ _) (gk_fi (gk_b _ _) (gk_fi (gk_b _ _) (gk_fi (gk_b _ _) (gk_fi (gk_b _ _) (gk_fi (gk_b _ _) (gk_fi (gk_b _ _) (gk_fi (gk_b _ _) gk_0)))))))) (gd_fi (fun c4 => (gX57_run _ _ _ _ _ ⟨TR2, BR2⟩ K0.2.2 )) (fun c4 => (gd_fi (fun c5 => (gX55_run _ _ _ _ _ ⟨TR2, BR2⟩ f6 K0.2.2 ((h.2.1.2 c4).1 c5))) (fun c5 => (gd_fi (fun c7 => (gX56_run _ _ _ _ _ ⟨TR2, BR2⟩ f8 K0.2.2 (((h.2.1.2 c4).2 c5).1 c7))) (fun c7 => (gd_fi (fun c9 => (gX52_run _ _ _ _ _ ⟨TR2, BR2⟩ f10 )) (fun c9 => (gd_fi (fun c11 => (gX58_run _ _ _ _ _ ⟨TR2, BR2⟩ K0.2.2 )) (fun c11 => (gd_fi (fun c12 => (gX51_run _ _ _ _ _ ⟨TR2, BR2⟩  )) (fun c12 => (gd_fi (fun c13 => (gX54_run _ _ _ _ _ ⟨TR2, BR2⟩ c13 f14 K0.2.2 (((((((h.2.1.2 c4).2 c5).2 c7).2 c9).2 c11).2 c12).1 c13))) (fun c13 => (gd_c (((((((h.2.1.2 c4).2 c5).2 c7).2 c9).2 c11).2 c12).2 c13).1 (gX53_run _ _ _ _ _ ⟨TR2, BR2⟩ K0.2.2 (((((((h.2.1.2 c4).2 c5).2 c7).2 c9).2 c11).2 c12).2 c13).1 f15 (((((((h.2.1.2 c4).2 c5).2 c7).2 c9).2 c11).2 c12).2 c13).2)))))))))))))))) (fun K16 => ?_)
  refine gs_fi (fun c17_0 => ?_) (fun c17_0 => ?_)
  · refine gs_fi (fun c18_0 => ?_) (fun c18_0 => ?_)
    · exact gs_t (pX47_run_t (ext_tr K0.2.1 (ext_dR (by decide) K16.2))) (gX47_run_96 k45 _ _ ⟨K16.1.1, K16.1.2⟩  )
    · have f19 := (ext_is K16.2 (Nat.zero_lt_succ _) (ext_is K0.2.1 (Nat.zero_lt_succ _) n_a0))
      refine gs_c f19 ?_
      have f20 := (ext_is K16.2 (Nat.zero_lt_succ _) (ext_is K0.2.1 (Nat.zero_lt_succ _) n_a0))
      refine gs_c f20 ?_
      exact gs_t (pX47_run_t (ext_tr K0.2.1 (ext_dR (by decide) (ext_tr K16.2 (ext_dL (ext_r _)))))) (gX47_run_96 k45 _ _ ⟨K16.1.1, K16.1.2⟩  )
  · have f21 := (ext_is K16.2 (Nat.zero_lt_succ _) (ext_is K0.2.1 (Nat.zero_lt_succ _) n_a0))
    refine gs_c f21 ?_
    have TR22 : TyR (fm_sR ((fi (fm_is (fm_sR (GX47_find a0 a1 M).2 174 a0 0 0) 53 53 (((fm_sR (GX47_find a0 a1 M).2 174 a0 0 0).2.2 149 (GX47_find a0 a1 M).1 0)) = true) (GX57_run (((fm_sR (GX47_find a0 a1 M).2 174 a0 0 0).2.2 149 (GX47_find a0 a1 M).1 0)) ((fm_sR (GX47_find a0 a1 M).2 174 a0 0 0).2.2 171 a0 0) (GX47_find a0 a1 M).1 a2 (fm_sR (GX47_find a0 a1 M).2 174 a0 0 0)) ((fi (fm_is (fm_sR (GX47_find a0 a1 M).2 174 a0 0 0) 54 54 (((fm_sR (GX47_find a0 a1 M).2 174 a0 0 0).2.2 149 (GX47_find a0 a1 M).1 0)) = true) (GX55_run (((fm_sR (GX47_find a0 a1 M).2 174 a0 0 0).2.2 149 (GX47_find a0 a1 M).1 0)) ((fm_sR (GX47_find a0 a1 M).2 174 a0 0 0).2.2 171 a0 0) (GX47_find a0 a1 M).1 a2 (fm_sR (GX47_find a0 a1 M).2 174 a0 0 0)) ((fi (fm_is (fm_sR (GX47_find a0 a1 M).2 174 a0 0 0) 55 55 (((fm_sR (GX47_find a0 a1 M).2 174 a0 0 0).2.2 149 (GX47_find a0 a1 M).1 0)) = true) (GX56_run (((fm_sR (GX47_find a0 a1 M).2 174 a0 0 0).2.2 149 (GX47_find a0 a1 M).1 0)) ((fm_sR (GX47_find a0 a1 M).2 174 a0 0 0).2.2 171 a0 0) (GX47_find a0 a1 M).1 a2 (fm_sR (GX47_find a0 a1 M).2 174 a0 0 0)) ((fi (fm_is (fm_sR (GX47_find a0 a1 M).2 174 a0 0 0) 56 56 (((fm_sR (GX47_find a0 a1 M).2 174 a0 0 0).2.2 149 (GX47_find a0 a1 M).1 0)) = true) (GX52_run (((fm_sR (GX47_find a0 a1 M).2 174 a0 0 0).2.2 149 (GX47_find a0 a1 M).1 0)) ((fm_sR (GX47_find a0 a1 M).2 174 a0 0 0).2.2 171 a0 0) (GX47_find a0 a1 M).1 a2 (fm_sR (GX47_find a0 a1 M).2 174 a0 0 0)) ((fi (fm_is (fm_sR (GX47_find a0 a1 M).2 174 a0 0 0) 57 57 (((fm_sR (GX47_find a0 a1 M).2 174 a0 0 0).2.2 149 (GX47_find a0 a1 M).1 0)) = true) (GX58_run (((fm_sR (GX47_find a0 a1 M).2 174 a0 0 0).2.2 149 (GX47_find a0 a1 M).1 0)) ((fm_sR (GX47_find a0 a1 M).2 174 a0 0 0).2.2 171 a0 0) (GX47_find a0 a1 M).1 a2 (fm_sR (GX47_find a0 a1 M).2 174 a0 0 0)) ((fi (fm_is (fm_sR (GX47_find a0 a1 M).2 174 a0 0 0) 58 58 (((fm_sR (GX47_find a0 a1 M).2 174 a0 0 0).2.2 149 (GX47_find a0 a1 M).1 0)) = true) (GX51_run (((fm_sR (GX47_find a0 a1 M).2 174 a0 0 0).2.2 149 (GX47_find a0 a1 M).1 0)) ((fm_sR (GX47_find a0 a1 M).2 174 a0 0 0).2.2 171 a0 0) (GX47_find a0 a1 M).1 a2 (fm_sR (GX47_find a0 a1 M).2 174 a0 0 0)) ((fi (fm_is (fm_sR (GX47_find a0 a1 M).2 174 a0 0 0) 59 59 (((fm_sR (GX47_find a0 a1 M).2 174 a0 0 0).2.2 149 (GX47_find a0 a1 M).1 0)) = true) (GX54_run (((fm_sR (GX47_find a0 a1 M).2 174 a0 0 0).2.2 149 (GX47_find a0 a1 M).1 0)) ((fm_sR (GX47_find a0 a1 M).2 174 a0 0 0).2.2 171 a0 0) (GX47_find a0 a1 M).1 a2 (fm_sR (GX47_find a0 a1 M).2 174 a0 0 0)) (GX53_run (((fm_sR (GX47_find a0 a1 M).2 174 a0 0 0).2.2 149 (GX47_find a0 a1 M).1 0)) ((fm_sR (GX47_find a0 a1 M).2 174 a0 0 0).2.2 171 a0 0) (GX47_find a0 a1 M).1 a2 (fm_sR (GX47_find a0 a1 M).2 174 a0 0 0)))))))))))))))).2 174 a0 0 (GX47_find a0 a1 M).1).2.2 := (tS_174 K16.1.1 (fun _ => (ext_is K16.2 (Nat.zero_lt_succ _) K0.2.2)))
    have BR22 : TyB (fm_sR ((fi (fm_is (fm_sR (GX47_find a0 a1 M).2 174 a0 0 0) 53 53 (((fm_sR (GX47_find a0 a1 M).2 174 a0 0 0).2.2 149 (GX47_find a0 a1 M).1 0)) = true) (GX57_run (((fm_sR (GX47_find a0 a1 M).2 174 a0 0 0).2.2 149 (GX47_find a0 a1 M).1 0)) ((fm_sR (GX47_find a0 a1 M).2 174 a0 0 0).2.2 171 a0 0) (GX47_find a0 a1 M).1 a2 (fm_sR (GX47_find a0 a1 M).2 174 a0 0 0)) ((fi (fm_is (fm_sR (GX47_find a0 a1 M).2 174 a0 0 0) 54 54 (((fm_sR (GX47_find a0 a1 M).2 174 a0 0 0).2.2 149 (GX47_find a0 a1 M).1 0)) = true) (GX55_run (((fm_sR (GX47_find a0 a1 M).2 174 a0 0 0).2.2 149 (GX47_find a0 a1 M).1 0)) ((fm_sR (GX47_find a0 a1 M).2 174 a0 0 0).2.2 171 a0 0) (GX47_find a0 a1 M).1 a2 (fm_sR (GX47_find a0 a1 M).2 174 a0 0 0)) ((fi (fm_is (fm_sR (GX47_find a0 a1 M).2 174 a0 0 0) 55 55 (((fm_sR (GX47_find a0 a1 M).2 174 a0 0 0).2.2 149 (GX47_find a0 a1 M).1 0)) = true) (GX56_run (((fm_sR (GX47_find a0 a1 M).2 174 a0 0 0).2.2 149 (GX47_find a0 a1 M).1 0)) ((fm_sR (GX47_find a0 a1 M).2 174 a0 0 0).2.2 171 a0 0) (GX47_find a0 a1 M).1 a2 (fm_sR (GX47_find a0 a1 M).2 174 a0 0 0)) ((fi (fm_is (fm_sR (GX47_find a0 a1 M).2 174 a0 0 0) 56 56 (((fm_sR (GX47_find a0 a1 M).2 174 a0 0 0).2.2 149 (GX47_find a0 a1 M).1 0)) = true) (GX52_run (((fm_sR (GX47_find a0 a1 M).2 174 a0 0 0).2.2 149 (GX47_find a0 a1 M).1 0)) ((fm_sR (GX47_find a0 a1 M).2 174 a0 0 0).2.2 171 a0 0) (GX47_find a0 a1 M).1 a2 (fm_sR (GX47_find a0 a1 M).2 174 a0 0 0)) ((fi (fm_is (fm_sR (GX47_find a0 a1 M).2 174 a0 0 0) 57 57 (((fm_sR (GX47_find a0 a1 M).2 174 a0 0 0).2.2 149 (GX47_find a0 a1 M).1 0)) = true) (GX58_run (((fm_sR (GX47_find a0 a1 M).2 174 a0 0 0).2.2 149 (GX47_find a0 a1 M).1 0)) ((fm_sR (GX47_find a0 a1 M).2 174 a0 0 0).2.2 171 a0 0) (GX47_find a0 a1 M).1 a2 (fm_sR (GX47_find a0 a1 M).2 174 a0 0 0)) ((fi (fm_is (fm_sR (GX47_find a0 a1 M).2 174 a0 0 0) 58 58 (((fm_sR (GX47_find a0 a1 M).2 174 a0 0 0).2.2 149 (GX47_find a0 a1 M).1 0)) = true) (GX51_run (((fm_sR (GX47_find a0 a1 M).2 174 a0 0 0).2.2 149 (GX47_find a0 a1 M).1 0)) ((fm_sR (GX47_find a0 a1 M).2 174 a0 0 0).2.2 171 a0 0) (GX47_find a0 a1 M).1 a2 (fm_sR (GX47_find a0 a1 M).2 174 a0 0 0)) ((fi (fm_is (fm_sR (GX47_find a0 a1 M).2 174 a0 0 0) 59 59 (((fm_sR (GX47_find a0 a1 M).2 174 a0 0 0).2.2 149 (GX47_find a0 a1 M).1 0)) = true) (GX54_run (((fm_sR (GX47_find a0 a1 M).2 174 a0 0 0).2.2 149 (GX47_find a0 a1 M).1 0)) ((fm_sR (GX47_find a0 a1 M).2 174 a0 0 0).2.2 171 a0 0) (GX47_find a0 a1 M).1 a2 (fm_sR (GX47_find a0 a1 M).2 174 a0 0 0)) (GX53_run (((fm_sR (GX47_find a0 a1 M).2 174 a0 0 0).2.2 149 (GX47_find a0 a1 M).1 0)) ((fm_sR (GX47_find a0 a1 M).2 174 a0 0 0).2.2 171 a0 0) (GX47_find a0 a1 M).1 a2 (fm_sR (GX47_find a0 a1 M).2 174 a0 0 0)))))))))))))))).2 174 a0 0 (GX47_find a0 a1 M).1) := (tyb_sR (f := 174) (by decide) K16.1.2)
    have f23 := (ext_is K16.2 (Nat.zero_lt_succ _) (ext_is K0.2.1 (Nat.zero_lt_succ _) n_a0))
    refine gs_c f23 ?_
    exact And.intro rfl (And.intro (And.intro TR22 (tyb_sI (f := 176) rfl BR22)) ((ext_tr K0.2.1 (ext_dR (by decide) (ext_tr K16.2 (ext_dR (by decide) (ext_dI (ext_r _))))))))
noncomputable def GX47_run_45 (a0 : Nat) (a3 : Nat) (a4 : Int32) (a5 : Int32) (M : FM) : (Nat × Nat × Int32 × Int32 × FM) ⊕ (Int32 × FM) :=
  fi ((Int32.ofInt 5) ≤ a5) (
    GX47_run_96 a4 M) (
    let x1 : Nat := (M.2.2 149 a3 0)
    let r2 : Int64 × FM := (fi (fm_is M 53 53 x1 = true) (GX57_wanted x1 (M.2.2 171 a0 0) a3 a5 M) ((fi (fm_is M 54 54 x1 = true) (GX50_wanted x1 (M.2.2 171 a0 0) a3 a5 M) ((fi (fm_is M 55 55 x1 = true) (GX50_wanted x1 (M.2.2 171 a0 0) a3 a5 M) ((fi (fm_is M 56 56 x1 = true) (GX50_wanted x1 (M.2.2 171 a0 0) a3 a5 M) ((fi (fm_is M 57 57 x1 = true) (GX58_wanted x1 (M.2.2 171 a0 0) a3 a5 M) ((fi (fm_is M 58 58 x1 = true) (GX50_wanted x1 (M.2.2 171 a0 0) a3 a5 M) ((fi (fm_is M 59 59 x1 = true) (GX50_wanted x1 (M.2.2 171 a0 0) a3 a5 M) (GX50_wanted x1 (M.2.2 171 a0 0) a3 a5 M))))))))))))))
    let x3 : Nat := (M.2.2 175 a0 0)
    let M4 : FM := fm_sL r2.2 3 x3 a5.toNatClampNeg r2.1
    let x5 : Int32 := a5 + (Int32.ofInt 1)
    (.inl (a0, a3, a4, x5, M4)))
def HX47_run_45 (a0 : Nat) (a3 : Nat) (a4 : Int32) (a5 : Int32) (M : FM) : Prop := (((Int32.ofInt 5) ≤ a5 → True) ∧ (¬ ((Int32.ofInt 5) ≤ a5) → let x1 : Nat := (M.2.2 149 a3 0); (((fm_is M 53 53 x1 = true → HX57_wanted x1 (M.2.2 171 a0 0) a3 a5 M) ∧ (¬ (fm_is M 53 53 x1 = true) → ((fm_is M 54 54 x1 = true → True) ∧ (¬ (fm_is M 54 54 x1 = true) → ((fm_is M 55 55 x1 = true → True) ∧ (¬ (fm_is M 55 55 x1 = true) → ((fm_is M 56 56 x1 = true → True) ∧ (¬ (fm_is M 56 56 x1 = true) → ((fm_is M 57 57 x1 = true → HX58_wanted x1 (M.2.2 171 a0 0) a3 a5 M) ∧ (¬ (fm_is M 57 57 x1 = true) → ((fm_is M 58 58 x1 = true → True) ∧ (¬ (fm_is M 58 58 x1 = true) → ((fm_is M 59 59 x1 = true → True) ∧ (¬ (fm_is M 59 59 x1 = true) → (fm_is M 60 60 x1 = true ∧ True))))))))))))))) ∧ let r2 : Int64 × FM := (fi (fm_is M 53 53 x1 = true) (GX57_wanted x1 (M.2.2 171 a0 0) a3 a5 M) ((fi (fm_is M 54 54 x1 = true) (GX50_wanted x1 (M.2.2 171 a0 0) a3 a5 M) ((fi (fm_is M 55 55 x1 = true) (GX50_wanted x1 (M.2.2 171 a0 0) a3 a5 M) ((fi (fm_is M 56 56 x1 = true) (GX50_wanted x1 (M.2.2 171 a0 0) a3 a5 M) ((fi (fm_is M 57 57 x1 = true) (GX58_wanted x1 (M.2.2 171 a0 0) a3 a5 M) ((fi (fm_is M 58 58 x1 = true) (GX50_wanted x1 (M.2.2 171 a0 0) a3 a5 M) ((fi (fm_is M 59 59 x1 = true) (GX50_wanted x1 (M.2.2 171 a0 0) a3 a5 M) (GX50_wanted x1 (M.2.2 171 a0 0) a3 a5 M)))))))))))))); let x3 : Nat := (M.2.2 175 a0 0); (fm_in r2.2 x3 a5 = true ∧ True))))
theorem gX47_run_45 (k45 : Nat → Nat → Int32 → Int32 → FM → Option (Int32 × FM)) (a0 : Nat) (a3 : Nat) (a4 : Int32) (a5 : Int32) (M : FM) (T : Ty M) (n_a0 : fm_is M 63 63 a0 = true) (n_a3 : fm_is M 61 61 a3 = true) (h : HX47_run_45 a0 a3 a4 a5 M) : gs (FX47_run_45 fN k45 a0 a3 a4 a5 M) (GX47_run_45 a0 a3 a4 a5 M) (kX47_run k45) (pX47_run M) := by
  delta FX47_run_45 BX47_run_45
  refine gs_fi (fun c0_0 => ?_) (fun c0_0 => ?_)
  · exact gs_t (pX47_run_t (ext_r _)) (gX47_run_96 k45 _ _ ⟨T.1, T.2⟩  )
  · refine gs_c n_a0 ?_
    refine gs_c n_a3 ?_
    refine gs_c n_a0 ?_
    have f2 := (tN_171 T.1 n_a0)
    have f7 := (tN_171 T.1 n_a0)
    refine gs_kb (gk_fi (gk_b _ _) (gk_fi (gk_b _ _) (gk_fi (gk_b _ _) (gk_fi (gk_b _ _) (gk_fi (gk_b _ _) (gk_fi (gk_b _ _) (gk_fi (gk_b _ _) (gk_fi (gk_b _ _) gk_0)))))))) (gd_fi (fun c1 => (gX57_wanted _ _ _ _ _ ⟨T.1, T.2⟩ f2 n_a3 ((h.2 c0_0).1.1 c1))) (fun c1 => (gd_fi (fun c3 => (gX50_wanted _ _ _ _ _ ⟨T.1, T.2⟩  )) (fun c3 => (gd_fi (fun c4 => (gX50_wanted _ _ _ _ _ ⟨T.1, T.2⟩  )) (fun c4 => (gd_fi (fun c5 => (gX50_wanted _ _ _ _ _ ⟨T.1, T.2⟩  )) (fun c5 => (gd_fi (fun c6 => (gX58_wanted _ _ _ _ _ ⟨T.1, T.2⟩ n_a3 f7 ((((((h.2 c0_0).1.2 c1).2 c3).2 c4).2 c5).1 c6))) (fun c6 => (gd_fi (fun c8 => (gX50_wanted _ _ _ _ _ ⟨T.1, T.2⟩  )) (fun c8 => (gd_fi (fun c9 => (gX50_wanted _ _ _ _ _ ⟨T.1, T.2⟩  )) (fun c9 => (gd_c ((((((((h.2 c0_0).1.2 c1).2 c3).2 c4).2 c5).2 c6).2 c8).2 c9).1 (gX50_wanted _ _ _ _ _ ⟨T.1, T.2⟩  )))))))))))))))) (fun K10 => ?_)
    have f11 := (ext_is K10.2 (Nat.zero_lt_succ _) (tN_175 T.1 n_a0))
    refine gs_c ⟨f11, (h.2 c0_0).2.1⟩ ?_
    exact And.intro rfl (And.intro (And.intro K10.1.1 K10.1.2) ((ext_tr K10.2 (ext_dL (ext_r _)))))
noncomputable def GX47_run (a0 : Nat) (a1 : Int32) (a2 : Int32) (M : FM) : Int32 × FM := (FX47_run fN a0 a1 a2 M).getD (0, M)
def HX47_run (a0 : Nat) (a1 : Int32) (a2 : Int32) (M : FM) : Prop := ∃ r, FX47_run fN a0 a1 a2 M = some r ∧ OkR M r
theorem gX47_run (a0 : Nat) (a1 : Int32) (a2 : Int32) (M : FM) (h : HX47_run a0 a1 a2 M) : gd (FX47_run fN a0 a1 a2 M) (GX47_run a0 a1 a2 M) (OkR M) := gd_op h
noncomputable def GX47_wanted_19 (s0 : Int64) (M : FM) : Int64 × FM :=
  (s0, M)
theorem gX47_wanted_19 (s0 : Int64) (M : FM) (T : Ty M) : gd (FX47_wanted_19 s0 M) (GX47_wanted_19 s0 M) (OkR M) := by
  delta FX47_wanted_19 BX47_wanted_19
  exact ⟨rfl, ⟨T.1, T.2⟩, (ext_r _)⟩
noncomputable def GX47_wanted_0 (a0 : Nat) (a1 : Int32) (M : FM) : Int64 × FM :=
  fi ((M.2.2 174 a0 0) = 0) (
    GX47_wanted_19 (Int64.ofInt (-1)) M) (
    let x1 : Nat := (M.2.2 175 a0 0)
    GX47_wanted_19 (M.2.1 3 x1 a1.toNatClampNeg) M)
def HX47_wanted_0 (a0 : Nat) (a1 : Int32) (M : FM) : Prop := (((M.2.2 174 a0 0) = 0 → True) ∧ (¬ ((M.2.2 174 a0 0) = 0) → let x1 : Nat := (M.2.2 175 a0 0); (fm_in M x1 a1 = true ∧ True)))
theorem gX47_wanted_0 (a0 : Nat) (a1 : Int32) (M : FM) (T : Ty M) (n_a0 : fm_is M 63 63 a0 = true) (h : HX47_wanted_0 a0 a1 M) : gd (FX47_wanted_0 a0 a1 M) (GX47_wanted_0 a0 a1 M) (OkR M) := by
  delta FX47_wanted_0 BX47_wanted_0
  refine gd_c n_a0 ?_
  refine gd_fi (fun c0_0 => ?_) (fun c0_0 => ?_)
  · exact gd_tR (ext_r _) (gX47_wanted_19 _ _ ⟨T.1, T.2⟩  )
  · refine gd_c n_a0 ?_
    have f1 := (tN_175 T.1 n_a0)
    refine gd_c ⟨f1, (h.2 c0_0).1⟩ ?_
    exact gd_tR (ext_r _) (gX47_wanted_19 _ _ ⟨T.1, T.2⟩  )
noncomputable def GX47_wanted (a0 : Nat) (a1 : Int32) (M : FM) : Int64 × FM := GX47_wanted_0 a0 a1 M
def HX47_wanted (a0 : Nat) (a1 : Int32) (M : FM) : Prop := HX47_wanted_0 a0 a1 M
theorem gX47_wanted (a0 : Nat) (a1 : Int32) (M : FM) (T : Ty M) (n_a0 : fm_is M 63 63 a0 = true) (h : HX47_wanted a0 a1 M) : gd (FX47_wanted a0 a1 M) (GX47_wanted a0 a1 M) (OkR M) := gX47_wanted_0 a0 a1 M T n_a0 h
noncomputable def GX46_dataMode_37 (s0 : Int32) (M : FM) : Int32 × FM :=
  (s0, M)
theorem gX46_dataMode_37 (s0 : Int32) (M : FM) (T : Ty M) : gd (FX46_dataMode_37 s0 M) (GX46_dataMode_37 s0 M) (OkR M) := by
  delta FX46_dataMode_37 BX46_dataMode_37
  exact ⟨rfl, ⟨T.1, T.2⟩, (ext_r _)⟩
noncomputable def GX46_dataMode_0 (a0 : Nat) (M : FM) : Int32 × FM :=
  let x1 : Nat := (M.2.2 213 a0 0)
  let x2 : Nat := (M.2.2 27 x1 0)
  let r3 : Int32 × FM := GX78_has x2 (Int32.ofInt 17) M
  fi (r3.1 = 0) (
    let x4 : Nat := (r3.2.2.2 213 a0 0)
    GX46_dataMode_37 (r3.2.1 37 x4 0) r3.2) (
    let x5 : Nat := (r3.2.2.2 213 a0 0)
    let x6 : Nat := (r3.2.2.2 27 x5 0)
    let r7 : Int32 × FM := GX78_two x6 (Int32.ofInt 11) r3.2
    GX46_dataMode_37 r7.1 r7.2)
theorem gX46_dataMode_0 (a0 : Nat) (M : FM) (T : Ty M) (n_a0 : fm_is M 75 75 a0 = true) : gd (FX46_dataMode_0 a0 M) (GX46_dataMode_0 a0 M) (OkR M) := by
  delta FX46_dataMode_0 BX46_dataMode_0
  refine gd_c n_a0 ?_
  have f0 := (tN_213 T.1 n_a0)
  refine gd_c f0 ?_
  have f1 := (tN_27 T.1 (tN_213 T.1 n_a0))
  refine gd_c f1 ?_
  have f11 := (tN_27 T.1 (tN_213 T.1 n_a0))
  refine gd_b (gX78_has _ _ _ ⟨T.1, T.2⟩ f11 ) (fun K2 => ?_)
  refine gd_fi (fun c3_0 => ?_) (fun c3_0 => ?_)
  · have f4 := (ext_is K2.2.1 (Nat.zero_lt_succ _) n_a0)
    refine gd_c f4 ?_
    have f5 := (tN_213 K2.1.1 (ext_is K2.2.1 (Nat.zero_lt_succ _) n_a0))
    refine gd_c f5 ?_
    exact gd_tR K2.2.1 (gX46_dataMode_37 _ _ ⟨K2.1.1, K2.1.2⟩  )
  · have f6 := (ext_is K2.2.1 (Nat.zero_lt_succ _) n_a0)
    refine gd_c f6 ?_
    have f7 := (tN_213 K2.1.1 (ext_is K2.2.1 (Nat.zero_lt_succ _) n_a0))
    refine gd_c f7 ?_
    have f8 := (tN_27 K2.1.1 (tN_213 K2.1.1 (ext_is K2.2.1 (Nat.zero_lt_succ _) n_a0)))
    refine gd_c f8 ?_
    have f10 := (tN_27 K2.1.1 (tN_213 K2.1.1 (ext_is K2.2.1 (Nat.zero_lt_succ _) n_a0)))
    refine gd_b (gX78_two _ _ _ ⟨K2.1.1, K2.1.2⟩ f10 ) (fun K9 => ?_)
    exact gd_tR (ext_tr K2.2.1 K9.2) (gX46_dataMode_37 _ _ ⟨K9.1.1, K9.1.2⟩  )
noncomputable def GX46_dataMode (a0 : Nat) (M : FM) : Int32 × FM := GX46_dataMode_0 a0 M
theorem gX46_dataMode (a0 : Nat) (M : FM) (T : Ty M) (n_a0 : fm_is M 75 75 a0 = true) : gd (FX46_dataMode a0 M) (GX46_dataMode a0 M) (OkR M) := gX46_dataMode_0 a0 M T n_a0 
noncomputable def GX29_has_31 (s0 : Int32) (M : FM) : Int32 × FM :=
  (s0, M)
theorem gX29_has_31 (s0 : Int32) (M : FM) (T : Ty M) (z_s0 : s0 = 0 ∨ s0 = 1) : gd (FX29_has_31 s0 M) (GX29_has_31 s0 M) (OkZ M) := by
  delta FX29_has_31 BX29_has_31
  exact gd_z z_s0 ⟨T.1, T.2⟩ (ext_r _) rfl
noncomputable def GX29_has_30 (M : FM) : Int32 × FM :=
  GX29_has_31 (Int32.ofInt 0) M
theorem gX29_has_30 (M : FM) (T : Ty M) : gd (FX29_has_30 M) (GX29_has_30 M) (OkZ M) := by
  delta FX29_has_30 BX29_has_30
  exact gd_tZ (ext_r _) (gX29_has_31 _ _ ⟨T.1, T.2⟩ fz_0 )
noncomputable def GX29_has_0 (a0 : Nat) (a1 : Int64) (a3 : Int32) (M : FM) : Int32 × FM :=
  fi ((lg_cmp a1 (M.2.1 13 a0 0)) < 0) (
    GX29_has_30 M) (
    fi (0 < (lg_cmp a1 (((M.2.1 13 a0 0) + (M.2.1 14 a0 0)) - a3.toInt64))) (
      GX29_has_30 M) (
      GX29_has_31 (Int32.ofInt 1) M))
theorem gX29_has_0 (a0 : Nat) (a1 : Int64) (a3 : Int32) (M : FM) (T : Ty M) (n_a0 : fm_is M 6 6 a0 = true) : gd (FX29_has_0 a0 a1 a3 M) (GX29_has_0 a0 a1 a3 M) (OkZ M) := by
  delta FX29_has_0 BX29_has_0
  refine gd_c n_a0 ?_
  refine gd_fi (fun c0_0 => ?_) (fun c0_0 => ?_)
  · exact gd_tZ (ext_r _) (gX29_has_30  _ ⟨T.1, T.2⟩  )
  · refine gd_c n_a0 ?_
    refine gd_c n_a0 ?_
    refine gd_fi (fun c1_0 => ?_) (fun c1_0 => ?_)
    · exact gd_tZ (ext_r _) (gX29_has_30  _ ⟨T.1, T.2⟩  )
    · exact gd_tZ (ext_r _) (gX29_has_31 _ _ ⟨T.1, T.2⟩ fz_1 )
noncomputable def GX29_has (a0 : Nat) (a1 : Int64) (a3 : Int32) (M : FM) : Int32 × FM := GX29_has_0 a0 a1 a3 M
theorem gX29_has (a0 : Nat) (a1 : Int64) (a3 : Int32) (M : FM) (T : Ty M) (n_a0 : fm_is M 6 6 a0 = true) : gd (FX29_has a0 a1 a3 M) (GX29_has a0 a1 a3 M) (OkZ M) := gX29_has_0 a0 a1 a3 M T n_a0 
def kX10_find (k14 : Int64 → Int32 → Nat → Int32 → Int32 → FM → Option (Nat × FM)) : (Int64 × Int32 × Nat × Int32 × Int32 × FM) ⊕ (Nat × FM) → Option (Nat × FM)
  | .inl (v0, v1, v2, v3, v4, M') => k14 v0 v1 v2 v3 v4 M'
  | .inr (r) => some r
def pX10_find (M : FM) : (Int64 × Int32 × Nat × Int32 × Int32 × FM) ⊕ (Nat × FM) → Prop
  | .inl (_, _, _, _, _, M') => OkV M M'
  | .inr (r) => OkQ 6 6 M r
theorem pX10_find_t {M M1 : FM} (e : Ext M M1) : ∀ y, pX10_find M1 y → pX10_find M y
  | .inl (_, _, _, _, _, _), h => ⟨h.1, ext_tr e h.2⟩
  | .inr (r), h => ⟨h.1, ext_tr e h.2.1, h.2.2⟩
noncomputable def GX10_find_0 (a0 : Nat) (a1 : Int64) (a3 : Int32) (M : FM) : (Int64 × Int32 × Nat × Int32 × Int32 × FM) ⊕ (Nat × FM) :=
  let x1 : Nat := (M.2.2 21 a0 0)
  let x2 : Int32 := (Int32.ofNat (M.2.2 1 x1 0))
  (.inl (a1, a3, x1, x2, (Int32.ofInt 0), M))
theorem gX10_find_0 (k14 : Int64 → Int32 → Nat → Int32 → Int32 → FM → Option (Nat × FM)) (a0 : Nat) (a1 : Int64) (a3 : Int32) (M : FM) (T : Ty M) (n_a0 : fm_is M 11 11 a0 = true) : gs (FX10_find_0 fN k14 a0 a1 a3 M) (GX10_find_0 a0 a1 a3 M) (kX10_find k14) (pX10_find M) := by
  delta FX10_find_0 BX10_find_0
  refine gs_c n_a0 ?_
  have f0 := (fm_w (lo' := 901) (hi' := 990) rfl rfl (tN_21 T.1 n_a0))
  refine gs_c f0 ?_
  exact And.intro rfl (And.intro (And.intro T.1 T.2) ((ext_r _)))
noncomputable def GX10_find_14 (a1 : Int64) (a3 : Int32) (a4 : Nat) (a5 : Int32) (a6 : Int32) (M : FM) : (Int64 × Int32 × Nat × Int32 × Int32 × FM) ⊕ (Nat × FM) :=
  fi (a5 ≤ a6) (
    (.inr (0, M))) (
    let x1 : Nat := (M.2.2 3 a4 a6.toNatClampNeg)
    let r2 : Int32 × FM := GX29_has x1 a1 a3 M
    fi (r2.1 = 0) (
      let x3 : Int32 := a6 + (Int32.ofInt 1)
      (.inl (a1, a3, a4, a5, x3, r2.2))) (
      (.inr (x1, r2.2))))
def HX10_find_14 (a1 : Int64) (a3 : Int32) (a4 : Nat) (a5 : Int32) (a6 : Int32) (M : FM) : Prop := ((a5 ≤ a6 → True) ∧ (¬ (a5 ≤ a6) → (fm_in M a4 a6 = true ∧ True)))
theorem gX10_find_14 (k14 : Int64 → Int32 → Nat → Int32 → Int32 → FM → Option (Nat × FM)) (a1 : Int64) (a3 : Int32) (a4 : Nat) (a5 : Int32) (a6 : Int32) (M : FM) (T : Ty M) (n_a4 : fm_is M 928 928 a4 = true) (h : HX10_find_14 a1 a3 a4 a5 a6 M) : gs (FX10_find_14 fN k14 a1 a3 a4 a5 a6 M) (GX10_find_14 a1 a3 a4 a5 a6 M) (kX10_find k14) (pX10_find M) := by
  delta FX10_find_14 BX10_find_14
  refine gs_fi (fun c0_0 => ?_) (fun c0_0 => ?_)
  · exact And.intro rfl (And.intro (And.intro T.1 T.2) (And.intro (ext_r _) ((fun h => absurd rfl h))))
  · have f5 := (fm_w (lo' := 910) (hi' := 990) rfl rfl n_a4)
    refine gs_c ⟨f5, (h.2 c0_0).1⟩ ?_
    have f1 := (tE_928 T.1 n_a4 (h.2 c0_0).1)
    refine gs_c f1 ?_
    have f4 := (tE_928 T.1 n_a4 (h.2 c0_0).1)
    refine gs_b (gX29_has _ _ _ _ ⟨T.1, T.2⟩ f4 ) (fun K2 => ?_)
    refine gs_fi (fun c3_0 => ?_) (fun c3_0 => ?_)
    · exact And.intro rfl (And.intro (And.intro K2.1.1 K2.1.2) K2.2.1)
    · exact And.intro rfl (And.intro (And.intro K2.1.1 K2.1.2) (And.intro K2.2.1 ((fun _ => (ext_is K2.2.1 (Nat.zero_lt_succ _) (tE_928 T.1 n_a4 (h.2 c0_0).1))))))
noncomputable def GX10_find (a0 : Nat) (a1 : Int64) (a2 : Int32) (M : FM) : Nat × FM := (FX10_find fN a0 a1 a2 M).getD (0, M)
def HX10_find (a0 : Nat) (a1 : Int64) (a2 : Int32) (M : FM) : Prop := ∃ r, FX10_find fN a0 a1 a2 M = some r ∧ OkQ 6 6 M r
theorem gX10_find (a0 : Nat) (a1 : Int64) (a2 : Int32) (M : FM) (h : HX10_find a0 a1 a2 M) : gd (FX10_find fN a0 a1 a2 M) (GX10_find a0 a1 a2 M) (OkQ 6 6 M) := gd_op h
def kX46_locate (k90 : Nat → Int64 → Int32 → Int32 → Int32 → Int32 → Int32 → Int32 → FM → Option (Int32 × FM)) (k237 : Nat → Int64 → Int32 → Int32 → Int32 → Int32 → FM → Option (Int32 × FM)) : (Nat × Int64 × Int32 × Int32 × Int32 × Int32 × Int32 × Int32 × FM) ⊕ (Nat × Int64 × Int32 × Int32 × Int32 × Int32 × FM) ⊕ (Int32 × FM) → Option (Int32 × FM)
  | .inl (v0, v1, v2, v3, v4, v5, v6, v7, M') => k90 v0 v1 v2 v3 v4 v5 v6 v7 M'
  | .inr (.inl (v0, v1, v2, v3, v4, v5, M')) => k237 v0 v1 v2 v3 v4 v5 M'
  | .inr (.inr (r)) => some r
def pX46_locate (M : FM) : (Nat × Int64 × Int32 × Int32 × Int32 × Int32 × Int32 × Int32 × FM) ⊕ (Nat × Int64 × Int32 × Int32 × Int32 × Int32 × FM) ⊕ (Int32 × FM) → Prop
  | .inl (_, _, _, _, _, _, _, _, M') => OkV M M'
  | .inr (.inl (_, _, _, _, _, _, M')) => OkV M M'
  | .inr (.inr (r)) => OkZ M r
theorem pX46_locate_t {M M1 : FM} (e : Ext M M1) : ∀ y, pX46_locate M1 y → pX46_locate M y
  | .inl (_, _, _, _, _, _, _, _, _), h => ⟨h.1, ext_tr e h.2⟩
  | .inr (.inl (_, _, _, _, _, _, _)), h => ⟨h.1, ext_tr e h.2⟩
  | .inr (.inr (r)), h => ⟨h.1, ext_tr e h.2.1, h.2.2⟩
noncomputable def GX46_locate_307 (M : FM) : (Nat × Int64 × Int32 × Int32 × Int32 × Int32 × Int32 × Int32 × FM) ⊕ (Nat × Int64 × Int32 × Int32 × Int32 × Int32 × FM) ⊕ (Int32 × FM) :=
  (.inr (.inr ((Int32.ofInt 1), M)))
theorem gX46_locate_307 (k90 : Nat → Int64 → Int32 → Int32 → Int32 → Int32 → Int32 → Int32 → FM → Option (Int32 × FM)) (k237 : Nat → Int64 → Int32 → Int32 → Int32 → Int32 → FM → Option (Int32 × FM)) (M : FM) (T : Ty M) : gs (FX46_locate_307 fN k90 k237 M) (GX46_locate_307 M) (kX46_locate k90 k237) (pX46_locate M) := by
  delta FX46_locate_307 BX46_locate_307
  exact gs_z fz_1 ⟨T.1, T.2⟩ (ext_r _) rfl (fun h => h)
noncomputable def GX46_locate_292 (a1 : Int64) (a8 : Int32) (s0 : Nat) (s1 : Int32) (M : FM) : (Nat × Int64 × Int32 × Int32 × Int32 × Int32 × Int32 × Int32 × FM) ⊕ (Nat × Int64 × Int32 × Int32 × Int32 × Int32 × FM) ⊕ (Int32 × FM) :=
  let r1 : Int32 × FM := GX46_raise s0 s1 (a1 + a8.toInt64) M
  (.inr (.inr (r1.1, r1.2)))
theorem gX46_locate_292 (k90 : Nat → Int64 → Int32 → Int32 → Int32 → Int32 → Int32 → Int32 → FM → Option (Int32 × FM)) (k237 : Nat → Int64 → Int32 → Int32 → Int32 → Int32 → FM → Option (Int32 × FM)) (a1 : Int64) (a8 : Int32) (s0 : Nat) (s1 : Int32) (M : FM) (T : Ty M) (n_s0 : fm_is M 75 75 s0 = true) : gs (FX46_locate_292 fN k90 k237 a1 a8 s0 s1 M) (GX46_locate_292 a1 a8 s0 s1 M) (kX46_locate k90 k237) (pX46_locate M) := by
  delta FX46_locate_292 BX46_locate_292
  refine gs_c n_s0 ?_
  refine gs_b (gX46_raise _ _ _ _ ⟨T.1, T.2⟩ n_s0 ) (fun K0 => ?_)
  exact gs_z K0.2.2 ⟨K0.1.1, K0.1.2⟩ K0.2.1 rfl (fun h => h)
noncomputable def GX46_locate_234 (a0 : Nat) (a1 : Int64) (a3 : Int32) (a6 : Int32) (a7 : Int32) (M : FM) : (Nat × Int64 × Int32 × Int32 × Int32 × Int32 × Int32 × Int32 × FM) ⊕ (Nat × Int64 × Int32 × Int32 × Int32 × Int32 × FM) ⊕ (Int32 × FM) :=
  (.inr (.inl (a0, a1, a3, a6, a7, (Int32.ofInt 0), M)))
theorem gX46_locate_234 (k90 : Nat → Int64 → Int32 → Int32 → Int32 → Int32 → Int32 → Int32 → FM → Option (Int32 × FM)) (k237 : Nat → Int64 → Int32 → Int32 → Int32 → Int32 → FM → Option (Int32 × FM)) (a0 : Nat) (a1 : Int64) (a3 : Int32) (a6 : Int32) (a7 : Int32) (M : FM) (T : Ty M) : gs (FX46_locate_234 fN k90 k237 a0 a1 a3 a6 a7 M) (GX46_locate_234 a0 a1 a3 a6 a7 M) (kX46_locate k90 k237) (pX46_locate M) := by
  delta FX46_locate_234 BX46_locate_234
  exact And.intro rfl (And.intro (And.intro T.1 T.2) ((ext_r _)))
noncomputable def GX46_locate_85 (a0 : Nat) (a1 : Int64) (a3 : Int32) (a4 : Int32) (a5 : Int32) (a6 : Int32) (s0 : Int32) (M : FM) : (Nat × Int64 × Int32 × Int32 × Int32 × Int32 × Int32 × Int32 × FM) ⊕ (Nat × Int64 × Int32 × Int32 × Int32 × Int32 × FM) ⊕ (Int32 × FM) :=
  (.inl (a0, a1, a3, a4, a5, a6, s0, (Int32.ofInt 0), M))
theorem gX46_locate_85 (k90 : Nat → Int64 → Int32 → Int32 → Int32 → Int32 → Int32 → Int32 → FM → Option (Int32 × FM)) (k237 : Nat → Int64 → Int32 → Int32 → Int32 → Int32 → FM → Option (Int32 × FM)) (a0 : Nat) (a1 : Int64) (a3 : Int32) (a4 : Int32) (a5 : Int32) (a6 : Int32) (s0 : Int32) (M : FM) (T : Ty M) : gs (FX46_locate_85 fN k90 k237 a0 a1 a3 a4 a5 a6 s0 M) (GX46_locate_85 a0 a1 a3 a4 a5 a6 s0 M) (kX46_locate k90 k237) (pX46_locate M) := by
  delta FX46_locate_85 BX46_locate_85
  exact And.intro rfl (And.intro (And.intro T.1 T.2) ((ext_r _)))
noncomputable def GX46_locate_67 (a0 : Nat) (a1 : Int64) (a3 : Int32) (a4 : Int32) (a5 : Int32) (s0 : Int32) (M : FM) : (Nat × Int64 × Int32 × Int32 × Int32 × Int32 × Int32 × Int32 × FM) ⊕ (Nat × Int64 × Int32 × Int32 × Int32 × Int32 × FM) ⊕ (Int32 × FM) :=
  let x1 : Nat := (M.2.2 217 a0 0)
  fi ((M.1 123 x1 0) = 0) (
    GX46_locate_85 a0 a1 a3 a4 a5 s0 (Int32.ofInt 1) M) (
    GX46_locate_85 a0 a1 a3 a4 a5 s0 a4 M)
theorem gX46_locate_67 (k90 : Nat → Int64 → Int32 → Int32 → Int32 → Int32 → Int32 → Int32 → FM → Option (Int32 × FM)) (k237 : Nat → Int64 → Int32 → Int32 → Int32 → Int32 → FM → Option (Int32 × FM)) (a0 : Nat) (a1 : Int64) (a3 : Int32) (a4 : Int32) (a5 : Int32) (s0 : Int32) (M : FM) (T : Ty M) (n_a0 : fm_is M 75 75 a0 = true) : gs (FX46_locate_67 fN k90 k237 a0 a1 a3 a4 a5 s0 M) (GX46_locate_67 a0 a1 a3 a4 a5 s0 M) (kX46_locate k90 k237) (pX46_locate M) := by
  delta FX46_locate_67 BX46_locate_67
  refine gs_c n_a0 ?_
  have f0 := (tN_217 T.1 n_a0)
  refine gs_c f0 ?_
  refine gs_fi (fun c1_0 => ?_) (fun c1_0 => ?_)
  · exact gs_t (pX46_locate_t (ext_r _)) (gX46_locate_85 k90 k237 _ _ _ _ _ _ _ _ ⟨T.1, T.2⟩  )
  · exact gs_t (pX46_locate_t (ext_r _)) (gX46_locate_85 k90 k237 _ _ _ _ _ _ _ _ ⟨T.1, T.2⟩  )
noncomputable def GX46_locate_48 (a0 : Nat) (a1 : Int64) (a3 : Int32) (a4 : Int32) (a5 : Int32) (s0 : Nat) (s1 : Int32) (M : FM) : (Nat × Int64 × Int32 × Int32 × Int32 × Int32 × Int32 × Int32 × FM) ⊕ (Nat × Int64 × Int32 × Int32 × Int32 × Int32 × FM) ⊕ (Int32 × FM) :=
  let M1 : FM := fm_sI M 123 s0 0 s1
  let x2 : Nat := (M1.2.2 217 a0 0)
  fi ((M1.1 123 x2 0) = 0) (
    GX46_locate_67 a0 a1 a3 a4 a5 a4 M1) (
    GX46_locate_67 a0 a1 a3 a4 a5 (Int32.ofInt 1) M1)
theorem gX46_locate_48 (k90 : Nat → Int64 → Int32 → Int32 → Int32 → Int32 → Int32 → Int32 → FM → Option (Int32 × FM)) (k237 : Nat → Int64 → Int32 → Int32 → Int32 → Int32 → FM → Option (Int32 × FM)) (a0 : Nat) (a1 : Int64) (a3 : Int32) (a4 : Int32) (a5 : Int32) (s0 : Nat) (s1 : Int32) (M : FM) (T : Ty M) (n_s0 : fm_is M 41 41 s0 = true) (z_s1 : s1 = 0 ∨ s1 = 1) (n_a0 : fm_is M 75 75 a0 = true) : gs (FX46_locate_48 fN k90 k237 a0 a1 a3 a4 a5 s0 s1 M) (GX46_locate_48 a0 a1 a3 a4 a5 s0 s1 M) (kX46_locate k90 k237) (pX46_locate M) := by
  delta FX46_locate_48 BX46_locate_48
  refine gs_c n_s0 ?_
  refine gs_c z_s1 ?_
  refine gs_c n_a0 ?_
  have f0 := (tN_217 T.1 n_a0)
  refine gs_c f0 ?_
  refine gs_fi (fun c1_0 => ?_) (fun c1_0 => ?_)
  · exact gs_t (pX46_locate_t (ext_dI (ext_r _))) (gX46_locate_67 k90 k237 _ _ _ _ _ _ _ ⟨T.1, (tyb_sIb (f := 123) rfl T.2 z_s1)⟩ n_a0 )
  · exact gs_t (pX46_locate_t (ext_dI (ext_r _))) (gX46_locate_67 k90 k237 _ _ _ _ _ _ _ ⟨T.1, (tyb_sIb (f := 123) rfl T.2 z_s1)⟩ n_a0 )
noncomputable def GX46_locate_0 (a0 : Nat) (a1 : Int64) (a3 : Int32) (a4 : Int32) (M : FM) : (Nat × Int64 × Int32 × Int32 × Int32 × Int32 × Int32 × Int32 × FM) ⊕ (Nat × Int64 × Int32 × Int32 × Int32 × Int32 × FM) ⊕ (Int32 × FM) :=
  let r1 : Int32 × FM := GX46_dataMode a0 M
  let x2 : Nat := (r1.2.2.2 217 a0 0)
  let M3 : FM := fm_sI r1.2 122 x2 0 a4
  let x4 : Nat := (M3.2.2 217 a0 0)
  let M5 : FM := fm_sR M3 124 x4 0 0
  fi (0 < (lg_cmp ((a1 &&& (Int64.ofInt 4095)) + a4.toInt64) (Int64.ofInt 4096))) (
    GX46_locate_48 a0 a1 a3 a4 r1.1 (M5.2.2 217 a0 0) (Int32.ofInt 0) M5) (
    GX46_locate_48 a0 a1 a3 a4 r1.1 (M5.2.2 217 a0 0) (Int32.ofInt 1) M5)
theorem gX46_locate_0 (k90 : Nat → Int64 → Int32 → Int32 → Int32 → Int32 → Int32 → Int32 → FM → Option (Int32 × FM)) (k237 : Nat → Int64 → Int32 → Int32 → Int32 → Int32 → FM → Option (Int32 × FM)) (a0 : Nat) (a1 : Int64) (a3 : Int32) (a4 : Int32) (M : FM) (T : Ty M) (n_a0 : fm_is M 75 75 a0 = true) : gs (FX46_locate_0 fN k90 k237 a0 a1 a3 a4 M) (GX46_locate_0 a0 a1 a3 a4 M) (kX46_locate k90 k237) (pX46_locate M) := by
  delta FX46_locate_0 BX46_locate_0
  refine gs_c n_a0 ?_
  refine gs_b (gX46_dataMode _ _ ⟨T.1, T.2⟩ n_a0 ) (fun K0 => ?_)
  have f1 := (ext_is K0.2 (Nat.zero_lt_succ _) n_a0)
  refine gs_c f1 ?_
  have f2 := (tN_217 K0.1.1 (ext_is K0.2 (Nat.zero_lt_succ _) n_a0))
  refine gs_c f2 ?_
  have f3 := (ext_is K0.2 (Nat.zero_lt_succ _) n_a0)
  refine gs_c f3 ?_
  have f4 := (tN_217 K0.1.1 (ext_is K0.2 (Nat.zero_lt_succ _) n_a0))
  refine gs_c f4 ?_
  have TR5 : TyR (fm_sR (fm_sI (GX46_dataMode a0 M).2 122 (((GX46_dataMode a0 M).2.2.2 217 a0 0)) 0 a4) 124 (((fm_sI (GX46_dataMode a0 M).2 122 (((GX46_dataMode a0 M).2.2.2 217 a0 0)) 0 a4).2.2 217 a0 0)) 0 0).2.2 := (tS_124 K0.1.1 (fun h => absurd rfl h))
  have BR5 : TyB (fm_sR (fm_sI (GX46_dataMode a0 M).2 122 (((GX46_dataMode a0 M).2.2.2 217 a0 0)) 0 a4) 124 (((fm_sI (GX46_dataMode a0 M).2 122 (((GX46_dataMode a0 M).2.2.2 217 a0 0)) 0 a4).2.2 217 a0 0)) 0 0) := (tyb_sR (f := 124) (by decide) (tyb_sI (f := 122) rfl K0.1.2))
  have f6 := (ext_is K0.2 (Nat.zero_lt_succ _) n_a0)
  refine gs_c f6 ?_
  refine gs_fi (fun c7_0 => ?_) (fun c7_0 => ?_)
  · have f8 := (tN_217 TR5 (ext_is K0.2 (Nat.zero_lt_succ _) n_a0))
    have f9 := (ext_is K0.2 (Nat.zero_lt_succ _) n_a0)
    exact gs_t (pX46_locate_t (ext_tr K0.2 (ext_dI (ext_dR (by decide) (ext_r _))))) (gX46_locate_48 k90 k237 _ _ _ _ _ _ _ _ ⟨TR5, BR5⟩ f8 fz_0 f9 )
  · have f10 := (tN_217 TR5 (ext_is K0.2 (Nat.zero_lt_succ _) n_a0))
    have f11 := (ext_is K0.2 (Nat.zero_lt_succ _) n_a0)
    exact gs_t (pX46_locate_t (ext_tr K0.2 (ext_dI (ext_dR (by decide) (ext_r _))))) (gX46_locate_48 k90 k237 _ _ _ _ _ _ _ _ ⟨TR5, BR5⟩ f10 fz_1 f11 )
noncomputable def GX46_locate_237 (a0 : Nat) (a1 : Int64) (a3 : Int32) (a6 : Int32) (a7 : Int32) (a8 : Int32) (M : FM) : (Nat × Int64 × Int32 × Int32 × Int32 × Int32 × Int32 × Int32 × FM) ⊕ (Nat × Int64 × Int32 × Int32 × Int32 × Int32 × FM) ⊕ (Int32 × FM) :=
  fi (a6 ≤ a8) (
    GX46_locate_307 M) (
    let x1 : Nat := (M.2.2 217 a0 0)
    fi ((M.2.2 124 x1 0) = 0) (
      let x2 : Nat := (M.2.2 210 a0 0)
      let x3 : Nat := (M.2.2 217 a0 0)
      let x4 : Nat := (M.2.2 121 x3 0)
      let x5 : Nat := (M.2.2 18 x2 0)
      let r6 : Int32 × FM := GX11_has x5 (M.2.1 3 x4 a8.toNatClampNeg) a7.toInt64 M
      fi (r6.1 = 0) (
        fi (a3 = (Int32.ofInt 1)) (
          GX46_locate_292 a1 a8 a0 (Int32.ofInt 5) r6.2) (
          GX46_locate_292 a1 a8 a0 (Int32.ofInt 7) r6.2)) (
        let x7 : Int32 := a8 + (Int32.ofInt 1)
        (.inr (.inl (a0, a1, a3, a6, a7, x7, r6.2))))) (
      GX46_locate_307 M))
def HX46_locate_237 (a0 : Nat) (a1 : Int64) (a3 : Int32) (a6 : Int32) (a7 : Int32) (a8 : Int32) (M : FM) : Prop := ((a6 ≤ a8 → True) ∧ (¬ (a6 ≤ a8) → let x1 : Nat := (M.2.2 217 a0 0); (((M.2.2 124 x1 0) = 0 → let x2 : Nat := (M.2.2 210 a0 0); let x3 : Nat := (M.2.2 217 a0 0); let x4 : Nat := (M.2.2 121 x3 0); (fm_in M x4 a8 = true ∧ True)) ∧ (¬ ((M.2.2 124 x1 0) = 0) → True))))
theorem gX46_locate_237 (k90 : Nat → Int64 → Int32 → Int32 → Int32 → Int32 → Int32 → Int32 → FM → Option (Int32 × FM)) (k237 : Nat → Int64 → Int32 → Int32 → Int32 → Int32 → FM → Option (Int32 × FM)) (a0 : Nat) (a1 : Int64) (a3 : Int32) (a6 : Int32) (a7 : Int32) (a8 : Int32) (M : FM) (T : Ty M) (n_a0 : fm_is M 75 75 a0 = true) (h : HX46_locate_237 a0 a1 a3 a6 a7 a8 M) : gs (FX46_locate_237 fN k90 k237 a0 a1 a3 a6 a7 a8 M) (GX46_locate_237 a0 a1 a3 a6 a7 a8 M) (kX46_locate k90 k237) (pX46_locate M) := by
  delta FX46_locate_237 BX46_locate_237
  refine gs_fi (fun c0_0 => ?_) (fun c0_0 => ?_)
  · exact gs_t (pX46_locate_t (ext_r _)) (gX46_locate_307 k90 k237  _ ⟨T.1, T.2⟩  )
  · refine gs_c n_a0 ?_
    have f1 := (tN_217 T.1 n_a0)
    refine gs_c f1 ?_
    refine gs_fi (fun c2_0 => ?_) (fun c2_0 => ?_)
    · refine gs_c n_a0 ?_
      have f3 := (tN_210 T.1 n_a0)
      refine gs_c f3 ?_
      refine gs_c n_a0 ?_
      have f4 := (tN_217 T.1 n_a0)
      refine gs_c f4 ?_
      have f12 := (tN_121 T.1 (tN_217 T.1 n_a0))
      have f13 := ((h.2 c0_0).1 c2_0).1
      refine gs_c ⟨f12, f13⟩ ?_
      have f5 := (tN_18 T.1 (tN_210 T.1 n_a0))
      refine gs_c f5 ?_
      have f11 := (tN_18 T.1 (tN_210 T.1 n_a0))
      refine gs_b (gX11_has _ _ _ _ ⟨T.1, T.2⟩ f11 ) (fun K6 => ?_)
      refine gs_fi (fun c7_0 => ?_) (fun c7_0 => ?_)
      · refine gs_fi (fun c8_0 => ?_) (fun c8_0 => ?_)
        · have f9 := (ext_is K6.2.1 (Nat.zero_lt_succ _) n_a0)
          exact gs_t (pX46_locate_t K6.2.1) (gX46_locate_292 k90 k237 _ _ _ _ _ ⟨K6.1.1, K6.1.2⟩ f9 )
        · have f10 := (ext_is K6.2.1 (Nat.zero_lt_succ _) n_a0)
          exact gs_t (pX46_locate_t K6.2.1) (gX46_locate_292 k90 k237 _ _ _ _ _ ⟨K6.1.1, K6.1.2⟩ f10 )
      · exact And.intro rfl (And.intro (And.intro K6.1.1 K6.1.2) K6.2.1)
    · exact gs_t (pX46_locate_t (ext_r _)) (gX46_locate_307 k90 k237  _ ⟨T.1, T.2⟩  )
noncomputable def GX46_locate_90 (a0 : Nat) (a1 : Int64) (a3 : Int32) (a4 : Int32) (a5 : Int32) (a6 : Int32) (a7 : Int32) (a8 : Int32) (M : FM) : (Nat × Int64 × Int32 × Int32 × Int32 × Int32 × Int32 × Int32 × FM) ⊕ (Nat × Int64 × Int32 × Int32 × Int32 × Int32 × FM) ⊕ (Int32 × FM) :=
  fi (a6 ≤ a8) (
    let x1 : Nat := (M.2.2 217 a0 0)
    fi ((M.1 123 x1 0) = 0) (
      GX46_locate_234 a0 a1 a3 a6 a7 M) (
      let x2 : Nat := (M.2.2 210 a0 0)
      let x3 : Nat := (M.2.2 217 a0 0)
      let x4 : Nat := (M.2.2 121 x3 0)
      let x5 : Nat := (M.2.2 18 x2 0)
      let r6 : Int32 × FM := GX11_has x5 (M.2.1 3 x4 (Int32.ofInt 0).toNatClampNeg) a4.toInt64 M
      fi (r6.1 = 0) (
        let x7 : Int64 := a4.toInt64
        fi ((lg_cmp (a1 - a1 / x7 * x7) (Int64.ofInt 0)) = 0) (
          let x8 : Nat := (r6.2.2.2 217 a0 0)
          let x9 : Nat := (r6.2.2.2 121 x8 0)
          let x10 : Nat := (r6.2.2.2 210 a0 0)
          let r11 : Nat × FM := GX10_find x10 (r6.2.2.1 3 x9 (Int32.ofInt 0).toNatClampNeg) a4 r6.2
          let x12 : Nat := (r6.2.2.2 217 a0 0)
          let M13 : FM := fm_sR r11.2 124 x12 0 r11.1
          GX46_locate_234 a0 a1 a3 a6 a7 M13) (
          GX46_locate_234 a0 a1 a3 a6 a7 r6.2)) (
        GX46_locate_234 a0 a1 a3 a6 a7 r6.2))) (
    let x14 : Nat := (M.2.2 217 a0 0)
    let r15 : Int64 × FM := GX46_find a0 (a1 + a8.toInt64) a3 a5 a7 M
    let x16 : Nat := (M.2.2 121 x14 0)
    let M17 : FM := fm_sL r15.2 3 x16 a8.toNatClampNeg r15.1
    let x18 : Nat := (M17.2.2 217 a0 0)
    let x19 : Nat := (M17.2.2 121 x18 0)
    fi (0 ≤ (lg_cmp (M17.2.1 3 x19 a8.toNatClampNeg) (Int64.ofInt 0))) (
      let x20 : Int32 := a8 + (Int32.ofInt 1)
      (.inl (a0, a1, a3, a4, a5, a6, a7, x20, M17))) (
      let x21 : Nat := (M17.2.2 217 a0 0)
      let x22 : Nat := (M17.2.2 121 x21 0)
      let r23 : Int32 × FM := GX46_raise a0 ((-(M17.2.1 3 x22 a8.toNatClampNeg)).toInt32) (a1 + a8.toInt64) M17
      (.inr (.inr (r23.1, r23.2)))))
def HX46_locate_90 (a0 : Nat) (a1 : Int64) (a3 : Int32) (a4 : Int32) (a5 : Int32) (a6 : Int32) (a7 : Int32) (a8 : Int32) (M : FM) : Prop := ((a6 ≤ a8 → let x1 : Nat := (M.2.2 217 a0 0); (((M.1 123 x1 0) = 0 → True) ∧ (¬ ((M.1 123 x1 0) = 0) → let x2 : Nat := (M.2.2 210 a0 0); let x3 : Nat := (M.2.2 217 a0 0); let x4 : Nat := (M.2.2 121 x3 0); let x5 : Nat := (M.2.2 18 x2 0); let r6 : Int32 × FM := GX11_has x5 (M.2.1 3 x4 (Int32.ofInt 0).toNatClampNeg) a4.toInt64 M; ((r6.1 = 0 → let x7 : Int64 := a4.toInt64; (¬ x7 = 0 ∧ (((lg_cmp (a1 - a1 / x7 * x7) (Int64.ofInt 0)) = 0 → let x8 : Nat := (r6.2.2.2 217 a0 0); let x9 : Nat := (r6.2.2.2 121 x8 0); let x10 : Nat := (r6.2.2.2 210 a0 0); (HX10_find x10 (r6.2.2.1 3 x9 (Int32.ofInt 0).toNatClampNeg) a4 r6.2 ∧ True)) ∧ (¬ ((lg_cmp (a1 - a1 / x7 * x7) (Int64.ofInt 0)) = 0) → True)))) ∧ (¬ (r6.1 = 0) → True))))) ∧ (¬ (a6 ≤ a8) → let x14 : Nat := (M.2.2 217 a0 0); (HX46_find a0 (a1 + a8.toInt64) a3 a5 a7 M ∧ let r15 : Int64 × FM := GX46_find a0 (a1 + a8.toInt64) a3 a5 a7 M; let x16 : Nat := (M.2.2 121 x14 0); (fm_in r15.2 x16 a8 = true ∧ let M17 : FM := fm_sL r15.2 3 x16 a8.toNatClampNeg r15.1; let x18 : Nat := (M17.2.2 217 a0 0); let x19 : Nat := (M17.2.2 121 x18 0); (fm_in M17 x19 a8 = true ∧ ((0 ≤ (lg_cmp (M17.2.1 3 x19 a8.toNatClampNeg) (Int64.ofInt 0)) → True) ∧ (¬ (0 ≤ (lg_cmp (M17.2.1 3 x19 a8.toNatClampNeg) (Int64.ofInt 0))) → let x21 : Nat := (M17.2.2 217 a0 0); let x22 : Nat := (M17.2.2 121 x21 0); (fm_in M17 x22 a8 = true ∧ True))))))))
theorem gX46_locate_90 (k90 : Nat → Int64 → Int32 → Int32 → Int32 → Int32 → Int32 → Int32 → FM → Option (Int32 × FM)) (k237 : Nat → Int64 → Int32 → Int32 → Int32 → Int32 → FM → Option (Int32 × FM)) (a0 : Nat) (a1 : Int64) (a3 : Int32) (a4 : Int32) (a5 : Int32) (a6 : Int32) (a7 : Int32) (a8 : Int32) (M : FM) (T : Ty M) (n_a0 : fm_is M 75 75 a0 = true) (h : HX46_locate_90 a0 a1 a3 a4 a5 a6 a7 a8 M) : gs (FX46_locate_90 fN k90 k237 a0 a1 a3 a4 a5 a6 a7 a8 M) (GX46_locate_90 a0 a1 a3 a4 a5 a6 a7 a8 M) (kX46_locate k90 k237) (pX46_locate M) := by
  delta FX46_locate_90 BX46_locate_90
  refine gs_fi (fun c0_0 => ?_) (fun c0_0 => ?_)
  · refine gs_c n_a0 ?_
    have f1 := (tN_217 T.1 n_a0)
    refine gs_c f1 ?_
    refine gs_fi (fun c2_0 => ?_) (fun c2_0 => ?_)
    · exact gs_t (pX46_locate_t (ext_r _)) (gX46_locate_234 k90 k237 _ _ _ _ _ _ ⟨T.1, T.2⟩  )
    · refine gs_c n_a0 ?_
      have f3 := (tN_210 T.1 n_a0)
      refine gs_c f3 ?_
      refine gs_c n_a0 ?_
      have f4 := (tN_217 T.1 n_a0)
      refine gs_c f4 ?_
      have f20 := (tN_121 T.1 (tN_217 T.1 n_a0))
      have f21 := (fm_inl (i := (Int32.ofInt 0)) (tL_121 T.1 (tN_217 T.1 n_a0)) (by decide))
      refine gs_c ⟨f20, f21⟩ ?_
      have f5 := (tN_18 T.1 (tN_210 T.1 n_a0))
      refine gs_c f5 ?_
      have f19 := (tN_18 T.1 (tN_210 T.1 n_a0))
      refine gs_b (gX11_has _ _ _ _ ⟨T.1, T.2⟩ f19 ) (fun K6 => ?_)
      refine gs_fi (fun c7_0 => ?_) (fun c7_0 => ?_)
      · refine gs_n (((h.1 c0_0).2 c2_0).1 c7_0).1 ?_
        refine gs_fi (fun c8_0 => ?_) (fun c8_0 => ?_)
        · have f9 := (ext_is K6.2.1 (Nat.zero_lt_succ _) n_a0)
          refine gs_c f9 ?_
          have f10 := (ext_is K6.2.1 (Nat.zero_lt_succ _) n_a0)
          refine gs_c f10 ?_
          have f11 := (ext_is K6.2.1 (Nat.zero_lt_succ _) n_a0)
          refine gs_c f11 ?_
          have f12 := (tN_217 K6.1.1 (ext_is K6.2.1 (Nat.zero_lt_succ _) n_a0))
          refine gs_c f12 ?_
          have f17 := (tN_121 K6.1.1 (tN_217 K6.1.1 (ext_is K6.2.1 (Nat.zero_lt_succ _) n_a0)))
          have f18 := (fm_inl (i := (Int32.ofInt 0)) (tL_121 K6.1.1 (tN_217 K6.1.1 (ext_is K6.2.1 (Nat.zero_lt_succ _) n_a0))) (by decide))
          refine gs_c ⟨f17, f18⟩ ?_
          have f13 := (tN_210 K6.1.1 (ext_is K6.2.1 (Nat.zero_lt_succ _) n_a0))
          refine gs_c f13 ?_
          refine gs_b (gX10_find _ _ _ _ ((((h.1 c0_0).2 c2_0).1 c7_0).2.1 c8_0).1) (fun K14 => ?_)
          have f15 := (ext_is K14.2.1 (Nat.zero_lt_succ _) (tN_217 K6.1.1 (ext_is K6.2.1 (Nat.zero_lt_succ _) n_a0)))
          refine gs_c f15 ?_
          have TR16 : TyR (fm_sR (GX10_find (((GX11_has ((M.2.2 18 ((M.2.2 210 a0 0)) 0)) (M.2.1 3 ((M.2.2 121 ((M.2.2 217 a0 0)) 0)) (Int32.ofInt 0).toNatClampNeg) a4.toInt64 M).2.2.2 210 a0 0)) ((GX11_has ((M.2.2 18 ((M.2.2 210 a0 0)) 0)) (M.2.1 3 ((M.2.2 121 ((M.2.2 217 a0 0)) 0)) (Int32.ofInt 0).toNatClampNeg) a4.toInt64 M).2.2.1 3 (((GX11_has ((M.2.2 18 ((M.2.2 210 a0 0)) 0)) (M.2.1 3 ((M.2.2 121 ((M.2.2 217 a0 0)) 0)) (Int32.ofInt 0).toNatClampNeg) a4.toInt64 M).2.2.2 121 (((GX11_has ((M.2.2 18 ((M.2.2 210 a0 0)) 0)) (M.2.1 3 ((M.2.2 121 ((M.2.2 217 a0 0)) 0)) (Int32.ofInt 0).toNatClampNeg) a4.toInt64 M).2.2.2 217 a0 0)) 0)) (Int32.ofInt 0).toNatClampNeg) a4 (GX11_has ((M.2.2 18 ((M.2.2 210 a0 0)) 0)) (M.2.1 3 ((M.2.2 121 ((M.2.2 217 a0 0)) 0)) (Int32.ofInt 0).toNatClampNeg) a4.toInt64 M).2).2 124 (((GX11_has ((M.2.2 18 ((M.2.2 210 a0 0)) 0)) (M.2.1 3 ((M.2.2 121 ((M.2.2 217 a0 0)) 0)) (Int32.ofInt 0).toNatClampNeg) a4.toInt64 M).2.2.2 217 a0 0)) 0 (GX10_find (((GX11_has ((M.2.2 18 ((M.2.2 210 a0 0)) 0)) (M.2.1 3 ((M.2.2 121 ((M.2.2 217 a0 0)) 0)) (Int32.ofInt 0).toNatClampNeg) a4.toInt64 M).2.2.2 210 a0 0)) ((GX11_has ((M.2.2 18 ((M.2.2 210 a0 0)) 0)) (M.2.1 3 ((M.2.2 121 ((M.2.2 217 a0 0)) 0)) (Int32.ofInt 0).toNatClampNeg) a4.toInt64 M).2.2.1 3 (((GX11_has ((M.2.2 18 ((M.2.2 210 a0 0)) 0)) (M.2.1 3 ((M.2.2 121 ((M.2.2 217 a0 0)) 0)) (Int32.ofInt 0).toNatClampNeg) a4.toInt64 M).2.2.2 121 (((GX11_has ((M.2.2 18 ((M.2.2 210 a0 0)) 0)) (M.2.1 3 ((M.2.2 121 ((M.2.2 217 a0 0)) 0)) (Int32.ofInt 0).toNatClampNeg) a4.toInt64 M).2.2.2 217 a0 0)) 0)) (Int32.ofInt 0).toNatClampNeg) a4 (GX11_has ((M.2.2 18 ((M.2.2 210 a0 0)) 0)) (M.2.1 3 ((M.2.2 121 ((M.2.2 217 a0 0)) 0)) (Int32.ofInt 0).toNatClampNeg) a4.toInt64 M).2).1).2.2 := (tS_124 K14.1.1 (fun h => (K14.2.2 h)))
          have BR16 : TyB (fm_sR (GX10_find (((GX11_has ((M.2.2 18 ((M.2.2 210 a0 0)) 0)) (M.2.1 3 ((M.2.2 121 ((M.2.2 217 a0 0)) 0)) (Int32.ofInt 0).toNatClampNeg) a4.toInt64 M).2.2.2 210 a0 0)) ((GX11_has ((M.2.2 18 ((M.2.2 210 a0 0)) 0)) (M.2.1 3 ((M.2.2 121 ((M.2.2 217 a0 0)) 0)) (Int32.ofInt 0).toNatClampNeg) a4.toInt64 M).2.2.1 3 (((GX11_has ((M.2.2 18 ((M.2.2 210 a0 0)) 0)) (M.2.1 3 ((M.2.2 121 ((M.2.2 217 a0 0)) 0)) (Int32.ofInt 0).toNatClampNeg) a4.toInt64 M).2.2.2 121 (((GX11_has ((M.2.2 18 ((M.2.2 210 a0 0)) 0)) (M.2.1 3 ((M.2.2 121 ((M.2.2 217 a0 0)) 0)) (Int32.ofInt 0).toNatClampNeg) a4.toInt64 M).2.2.2 217 a0 0)) 0)) (Int32.ofInt 0).toNatClampNeg) a4 (GX11_has ((M.2.2 18 ((M.2.2 210 a0 0)) 0)) (M.2.1 3 ((M.2.2 121 ((M.2.2 217 a0 0)) 0)) (Int32.ofInt 0).toNatClampNeg) a4.toInt64 M).2).2 124 (((GX11_has ((M.2.2 18 ((M.2.2 210 a0 0)) 0)) (M.2.1 3 ((M.2.2 121 ((M.2.2 217 a0 0)) 0)) (Int32.ofInt 0).toNatClampNeg) a4.toInt64 M).2.2.2 217 a0 0)) 0 (GX10_find (((GX11_has ((M.2.2 18 ((M.2.2 210 a0 0)) 0)) (M.2.1 3 ((M.2.2 121 ((M.2.2 217 a0 0)) 0)) (Int32.ofInt 0).toNatClampNeg) a4.toInt64 M).2.2.2 210 a0 0)) ((GX11_has ((M.2.2 18 ((M.2.2 210 a0 0)) 0)) (M.2.1 3 ((M.2.2 121 ((M.2.2 217 a0 0)) 0)) (Int32.ofInt 0).toNatClampNeg) a4.toInt64 M).2.2.1 3 (((GX11_has ((M.2.2 18 ((M.2.2 210 a0 0)) 0)) (M.2.1 3 ((M.2.2 121 ((M.2.2 217 a0 0)) 0)) (Int32.ofInt 0).toNatClampNeg) a4.toInt64 M).2.2.2 121 (((GX11_has ((M.2.2 18 ((M.2.2 210 a0 0)) 0)) (M.2.1 3 ((M.2.2 121 ((M.2.2 217 a0 0)) 0)) (Int32.ofInt 0).toNatClampNeg) a4.toInt64 M).2.2.2 217 a0 0)) 0)) (Int32.ofInt 0).toNatClampNeg) a4 (GX11_has ((M.2.2 18 ((M.2.2 210 a0 0)) 0)) (M.2.1 3 ((M.2.2 121 ((M.2.2 217 a0 0)) 0)) (Int32.ofInt 0).toNatClampNeg) a4.toInt64 M).2).1) := (tyb_sR (f := 124) (by decide) K14.1.2)
          exact gs_t (pX46_locate_t (ext_tr K6.2.1 (ext_tr K14.2.1 (ext_dR (by decide) (ext_r _))))) (gX46_locate_234 k90 k237 _ _ _ _ _ _ ⟨TR16, BR16⟩  )
        · exact gs_t (pX46_locate_t K6.2.1) (gX46_locate_234 k90 k237 _ _ _ _ _ _ ⟨K6.1.1, K6.1.2⟩  )
      · exact gs_t (pX46_locate_t K6.2.1) (gX46_locate_234 k90 k237 _ _ _ _ _ _ ⟨K6.1.1, K6.1.2⟩  )
  · refine gs_c n_a0 ?_
    have f22 := (tN_217 T.1 n_a0)
    refine gs_c f22 ?_
    refine gs_c n_a0 ?_
    refine gs_b (gX46_find _ _ _ _ _ _ ⟨T.1, T.2⟩ n_a0 (h.2 c0_0).1) (fun K23 => ?_)
    have f24 := (ext_is K23.2 (Nat.zero_lt_succ _) (tN_121 T.1 (tN_217 T.1 n_a0)))
    refine gs_c ⟨f24, (h.2 c0_0).2.1⟩ ?_
    have f25 := (ext_is K23.2 (Nat.zero_lt_succ _) n_a0)
    refine gs_c f25 ?_
    have f26 := (tN_217 K23.1.1 (ext_is K23.2 (Nat.zero_lt_succ _) n_a0))
    refine gs_c f26 ?_
    have f35 := (tN_121 K23.1.1 (tN_217 K23.1.1 (ext_is K23.2 (Nat.zero_lt_succ _) n_a0)))
    refine gs_c ⟨f35, (h.2 c0_0).2.2.1⟩ ?_
    refine gs_fi (fun c27_0 => ?_) (fun c27_0 => ?_)
    · exact And.intro rfl (And.intro (And.intro K23.1.1 K23.1.2) ((ext_tr K23.2 (ext_dL (ext_r _)))))
    · have f28 := (ext_is K23.2 (Nat.zero_lt_succ _) n_a0)
      refine gs_c f28 ?_
      have f29 := (tN_217 K23.1.1 (ext_is K23.2 (Nat.zero_lt_succ _) n_a0))
      refine gs_c f29 ?_
      have f33 := (tN_121 K23.1.1 (tN_217 K23.1.1 (ext_is K23.2 (Nat.zero_lt_succ _) n_a0)))
      have f34 := ((h.2 c0_0).2.2.2.2 c27_0).1
      refine gs_c ⟨f33, f34⟩ ?_
      have f30 := (ext_is K23.2 (Nat.zero_lt_succ _) n_a0)
      refine gs_c f30 ?_
      have f32 := (ext_is K23.2 (Nat.zero_lt_succ _) n_a0)
      refine gs_b (gX46_raise _ _ _ _ ⟨K23.1.1, K23.1.2⟩ f32 ) (fun K31 => ?_)
      exact gs_z K31.2.2 ⟨K31.1.1, K31.1.2⟩ (ext_tr K23.2 (ext_dL K31.2.1)) rfl (fun h => h)
noncomputable def GX46_locate (a0 : Nat) (a1 : Int64) (a2 : Int32) (a3 : Int32) (M : FM) : Int32 × FM := (FX46_locate fN a0 a1 a2 a3 M).getD (0, M)
def HX46_locate (a0 : Nat) (a1 : Int64) (a2 : Int32) (a3 : Int32) (M : FM) : Prop := ∃ r, FX46_locate fN a0 a1 a2 a3 M = some r ∧ OkZ M r
theorem gX46_locate (a0 : Nat) (a1 : Int64) (a2 : Int32) (a3 : Int32) (M : FM) (h : HX46_locate a0 a1 a2 a3 M) : gd (FX46_locate fN a0 a1 a2 a3 M) (GX46_locate a0 a1 a2 a3 M) (OkZ M) := gd_op h
noncomputable def GX10_isRegister_28 (s0 : Int32) (M : FM) : Int32 × FM :=
  (s0, M)
theorem gX10_isRegister_28 (s0 : Int32) (M : FM) (T : Ty M) (z_s0 : s0 = 0 ∨ s0 = 1) : gd (FX10_isRegister_28 s0 M) (GX10_isRegister_28 s0 M) (OkZ M) := by
  delta FX10_isRegister_28 BX10_isRegister_28
  exact gd_z z_s0 ⟨T.1, T.2⟩ (ext_r _) rfl
noncomputable def GX10_isRegister_27 (M : FM) : Int32 × FM :=
  GX10_isRegister_28 (Int32.ofInt 0) M
theorem gX10_isRegister_27 (M : FM) (T : Ty M) : gd (FX10_isRegister_27 M) (GX10_isRegister_27 M) (OkZ M) := by
  delta FX10_isRegister_27 BX10_isRegister_27
  exact gd_tZ (ext_r _) (gX10_isRegister_28 _ _ ⟨T.1, T.2⟩ fz_0 )
noncomputable def GX10_isRegister_0 (a0 : Int64) (a2 : Int32) (M : FM) : Int32 × FM :=
  fi (a2 = (Int32.ofInt 4)) (
    fi ((lg_cmp (a0 &&& (Int64.ofInt 3)) (Int64.ofInt 0)) = 0) (
      fi (0 ≤ (lg_cmp a0 (Int64.ofInt 512))) (
        GX10_isRegister_27 M) (
        GX10_isRegister_28 (Int32.ofInt 1) M)) (
      GX10_isRegister_27 M)) (
    GX10_isRegister_27 M)
theorem gX10_isRegister_0 (a0 : Int64) (a2 : Int32) (M : FM) (T : Ty M) : gd (FX10_isRegister_0 a0 a2 M) (GX10_isRegister_0 a0 a2 M) (OkZ M) := by
  delta FX10_isRegister_0 BX10_isRegister_0
  refine gd_fi (fun c0_0 => ?_) (fun c0_0 => ?_)
  · refine gd_fi (fun c1_0 => ?_) (fun c1_0 => ?_)
    · refine gd_fi (fun c2_0 => ?_) (fun c2_0 => ?_)
      · exact gd_tZ (ext_r _) (gX10_isRegister_27  _ ⟨T.1, T.2⟩  )
      · exact gd_tZ (ext_r _) (gX10_isRegister_28 _ _ ⟨T.1, T.2⟩ fz_1 )
    · exact gd_tZ (ext_r _) (gX10_isRegister_27  _ ⟨T.1, T.2⟩  )
  · exact gd_tZ (ext_r _) (gX10_isRegister_27  _ ⟨T.1, T.2⟩  )
noncomputable def GX10_isRegister (a0 : Int64) (a2 : Int32) (M : FM) : Int32 × FM := GX10_isRegister_0 a0 a2 M
theorem gX10_isRegister (a0 : Int64) (a2 : Int32) (M : FM) (T : Ty M) : gd (FX10_isRegister a0 a2 M) (GX10_isRegister a0 a2 M) (OkZ M) := gX10_isRegister_0 a0 a2 M T 
noncomputable def GX33_contextAt_62 (s0 : Int32) (M : FM) : Int32 × FM :=
  (s0, M)
theorem gX33_contextAt_62 (s0 : Int32) (M : FM) (T : Ty M) : gd (FX33_contextAt_62 s0 M) (GX33_contextAt_62 s0 M) (OkR M) := by
  delta FX33_contextAt_62 BX33_contextAt_62
  exact ⟨rfl, ⟨T.1, T.2⟩, (ext_r _)⟩
noncomputable def GX33_contextAt_48 (a6 : Int64) (s0 : Int32) (M : FM) : Int32 × FM :=
  fi (s0 = 0) (
    GX33_contextAt_62 (Int32.ofInt (-1)) M) (
    GX33_contextAt_62 a6.toInt32 M)
theorem gX33_contextAt_48 (a6 : Int64) (s0 : Int32) (M : FM) (T : Ty M) : gd (FX33_contextAt_48 a6 s0 M) (GX33_contextAt_48 a6 s0 M) (OkR M) := by
  delta FX33_contextAt_48 BX33_contextAt_48
  refine gd_fi (fun c0_0 => ?_) (fun c0_0 => ?_)
  · exact gd_tR (ext_r _) (gX33_contextAt_62 _ _ ⟨T.1, T.2⟩  )
  · exact gd_tR (ext_r _) (gX33_contextAt_62 _ _ ⟨T.1, T.2⟩  )
noncomputable def GX33_contextAt_47 (a6 : Int64) (M : FM) : Int32 × FM :=
  GX33_contextAt_48 a6 (Int32.ofInt 0) M
theorem gX33_contextAt_47 (a6 : Int64) (M : FM) (T : Ty M) : gd (FX33_contextAt_47 a6 M) (GX33_contextAt_47 a6 M) (OkR M) := by
  delta FX33_contextAt_47 BX33_contextAt_47
  exact gd_tR (ext_r _) (gX33_contextAt_48 _ _ _ ⟨T.1, T.2⟩  )
noncomputable def GX33_contextAt_0 (a0 : Nat) (a1 : Int64) (a3 : Int32) (a4 : Int32) (a5 : Int32) (M : FM) : Int32 × FM :=
  let x1 : Int64 := a4.toInt64
  let x2 : Int64 := ((a1 - a3.toInt64) / x1)
  fi ((lg_cmp a1 a3.toInt64) < 0) (
    GX33_contextAt_47 x2 M) (
    let x3 : Int64 := a4.toInt64
    let x4 : Int64 := (a1 - a3.toInt64)
    fi ((lg_cmp (x4 - x4 / x3 * x3) a5.toInt64) = 0) (
      fi (0 ≤ (lg_cmp x2 ((M.1 223 a0 0).toInt64))) (
        GX33_contextAt_47 x2 M) (
        GX33_contextAt_48 x2 (Int32.ofInt 1) M)) (
      GX33_contextAt_47 x2 M))
def HX33_contextAt_0 (a0 : Nat) (a1 : Int64) (a3 : Int32) (a4 : Int32) (a5 : Int32) (M : FM) : Prop := let x1 : Int64 := a4.toInt64; (¬ x1 = 0 ∧ let x2 : Int64 := ((a1 - a3.toInt64) / x1); (((lg_cmp a1 a3.toInt64) < 0 → True) ∧ (¬ ((lg_cmp a1 a3.toInt64) < 0) → let x3 : Int64 := a4.toInt64; let x4 : Int64 := (a1 - a3.toInt64); (¬ x3 = 0 ∧ True))))
theorem gX33_contextAt_0 (a0 : Nat) (a1 : Int64) (a3 : Int32) (a4 : Int32) (a5 : Int32) (M : FM) (T : Ty M) (n_a0 : fm_is M 77 77 a0 = true) (h : HX33_contextAt_0 a0 a1 a3 a4 a5 M) : gd (FX33_contextAt_0 a0 a1 a3 a4 a5 M) (GX33_contextAt_0 a0 a1 a3 a4 a5 M) (OkR M) := by
  delta FX33_contextAt_0 BX33_contextAt_0
  refine gd_n h.1 ?_
  refine gd_fi (fun c0_0 => ?_) (fun c0_0 => ?_)
  · exact gd_tR (ext_r _) (gX33_contextAt_47 _ _ ⟨T.1, T.2⟩  )
  · refine gd_n (h.2.2 c0_0).1 ?_
    refine gd_fi (fun c1_0 => ?_) (fun c1_0 => ?_)
    · refine gd_c n_a0 ?_
      refine gd_fi (fun c2_0 => ?_) (fun c2_0 => ?_)
      · exact gd_tR (ext_r _) (gX33_contextAt_47 _ _ ⟨T.1, T.2⟩  )
      · exact gd_tR (ext_r _) (gX33_contextAt_48 _ _ _ ⟨T.1, T.2⟩  )
    · exact gd_tR (ext_r _) (gX33_contextAt_47 _ _ ⟨T.1, T.2⟩  )
noncomputable def GX33_contextAt (a0 : Nat) (a1 : Int64) (a3 : Int32) (a4 : Int32) (a5 : Int32) (M : FM) : Int32 × FM := GX33_contextAt_0 a0 a1 a3 a4 a5 M
def HX33_contextAt (a0 : Nat) (a1 : Int64) (a3 : Int32) (a4 : Int32) (a5 : Int32) (M : FM) : Prop := HX33_contextAt_0 a0 a1 a3 a4 a5 M
theorem gX33_contextAt (a0 : Nat) (a1 : Int64) (a3 : Int32) (a4 : Int32) (a5 : Int32) (M : FM) (T : Ty M) (n_a0 : fm_is M 77 77 a0 = true) (h : HX33_contextAt a0 a1 a3 a4 a5 M) : gd (FX33_contextAt a0 a1 a3 a4 a5 M) (GX33_contextAt a0 a1 a3 a4 a5 M) (OkR M) := gX33_contextAt_0 a0 a1 a3 a4 a5 M T n_a0 h
noncomputable def GX33_claim_47 (a2 : Int32) (M : FM) : Int32 × FM :=
  (a2, M)
theorem gX33_claim_47 (a2 : Int32) (M : FM) (T : Ty M) : gd (FX33_claim_47 fN a2 M) (GX33_claim_47 a2 M) (OkR M) := by
  delta FX33_claim_47 BX33_claim_47
  exact ⟨rfl, ⟨T.1, T.2⟩, (ext_r _)⟩
noncomputable def GX33_claim_0 (a0 : Nat) (a1 : Int32) (M : FM) : Int32 × FM :=
  let x1 : Nat := (M.2.2 225 a0 0)
  let r2 : Int32 × FM := GX33_best a0 ((M.1 228 a0 0) &&& (M.1 3 x1 a1.toNatClampNeg)) (Int32.ofInt 0) M
  fi (r2.1 ≤ 0) (
    GX33_claim_47 r2.1 r2.2) (
    let M3 : FM := fm_sI r2.2 228 a0 0 ((r2.2.1 228 a0 0) &&& (((Int32.ofInt 1) <<< (r2.1 &&& 31)) ^^^ (Int32.ofInt (-1))))
    let M4 : FM := fm_sI M3 229 a0 0 ((M3.1 229 a0 0) ||| ((Int32.ofInt 1) <<< (r2.1 &&& 31)))
    GX33_claim_47 r2.1 M4)
def HX33_claim_0 (a0 : Nat) (a1 : Int32) (M : FM) : Prop := let x1 : Nat := (M.2.2 225 a0 0); (fm_in M x1 a1 = true ∧ (HX33_best a0 ((M.1 228 a0 0) &&& (M.1 3 x1 a1.toNatClampNeg)) (Int32.ofInt 0) M ∧ True))
theorem gX33_claim_0 (a0 : Nat) (a1 : Int32) (M : FM) (T : Ty M) (n_a0 : fm_is M 77 77 a0 = true) (h : HX33_claim_0 a0 a1 M) : gd (FX33_claim_0 fN a0 a1 M) (GX33_claim_0 a0 a1 M) (OkR M) := by
  delta FX33_claim_0 BX33_claim_0
  refine gd_c n_a0 ?_
  refine gd_c n_a0 ?_
  have f6 := (tN_225 T.1 n_a0)
  refine gd_c ⟨f6, h.1⟩ ?_
  refine gd_c n_a0 ?_
  refine gd_b (gX33_best _ _ _ _ h.2.1) (fun K0 => ?_)
  refine gd_fi (fun c1_0 => ?_) (fun c1_0 => ?_)
  · exact gd_tR K0.2 (gX33_claim_47 _ _ ⟨K0.1.1, K0.1.2⟩  )
  · have f2 := (ext_is K0.2 (Nat.zero_lt_succ _) n_a0)
    refine gd_c f2 ?_
    have f3 := (ext_is K0.2 (Nat.zero_lt_succ _) n_a0)
    refine gd_c f3 ?_
    have f4 := (ext_is K0.2 (Nat.zero_lt_succ _) n_a0)
    refine gd_c f4 ?_
    have f5 := (ext_is K0.2 (Nat.zero_lt_succ _) n_a0)
    refine gd_c f5 ?_
    exact gd_tR (ext_tr K0.2 (ext_dI (ext_dI (ext_r _)))) (gX33_claim_47 _ _ ⟨K0.1.1, (tyb_sI (f := 229) rfl (tyb_sI (f := 228) rfl K0.1.2))⟩  )
noncomputable def GX33_claim (a0 : Nat) (a1 : Int32) (M : FM) : Int32 × FM := GX33_claim_0 a0 a1 M
def HX33_claim (a0 : Nat) (a1 : Int32) (M : FM) : Prop := HX33_claim_0 a0 a1 M
theorem gX33_claim (a0 : Nat) (a1 : Int32) (M : FM) (T : Ty M) (n_a0 : fm_is M 77 77 a0 = true) (h : HX33_claim a0 a1 M) : gd (FX33_claim fN a0 a1 M) (GX33_claim a0 a1 M) (OkR M) := gX33_claim_0 a0 a1 M T n_a0 h
noncomputable def GX33_read_144 (s0 : Int64) (M : FM) : Int64 × FM :=
  (s0, M)
theorem gX33_read_144 (s0 : Int64) (M : FM) (T : Ty M) : gd (FX33_read_144 fN s0 M) (GX33_read_144 s0 M) (OkR M) := by
  delta FX33_read_144 BX33_read_144
  exact ⟨rfl, ⟨T.1, T.2⟩, (ext_r _)⟩
noncomputable def GX33_read_15 (M : FM) : Int64 × FM :=
  ((Int64.ofInt 0), M)
theorem gX33_read_15 (M : FM) (T : Ty M) : gd (FX33_read_15 fN M) (GX33_read_15 M) (OkR M) := by
  delta FX33_read_15 BX33_read_15
  exact ⟨rfl, ⟨T.1, T.2⟩, (ext_r _)⟩
noncomputable def GX33_read_0 (a0 : Nat) (a1 : Int64) (a3 : Int32) (M : FM) : Int64 × FM :=
  fi (a3 = (Int32.ofInt 4)) (
    fi ((lg_cmp (a1 &&& (Int64.ofInt 3)) (Int64.ofInt 0)) = 0) (
      let r1 : Int32 × FM := GX33_contextAt a0 a1 (Int32.ofInt 8192) (Int32.ofInt 128) (Int32.ofInt 0) M
      let r2 : Int32 × FM := GX33_contextAt a0 a1 (Int32.ofInt 2097152) (Int32.ofInt 4096) (Int32.ofInt 0) r1.2
      let r3 : Int32 × FM := GX33_contextAt a0 a1 (Int32.ofInt 2097152) (Int32.ofInt 4096) (Int32.ofInt 4) r2.2
      fi (0 ≤ (lg_cmp a1 (Int64.ofInt 128))) (
        fi ((lg_cmp a1 (Int64.ofInt 4096)) = 0) (
          (((r3.2.1 228 a0 0).toInt64 &&& (Int64.ofInt 4294967295)), r3.2)) (
          fi (r1.1 < 0) (
            fi (r2.1 < 0) (
              fi (r3.1 < 0) (
                GX33_read_144 (Int64.ofInt 0) r3.2) (
                let r4 : Int32 × FM := GX33_claim a0 r3.1 r3.2
                GX33_read_144 r4.1.toInt64 r4.2)) (
              let x5 : Nat := (r3.2.2.2 226 a0 0)
              GX33_read_144 ((r3.2.1 3 x5 r2.1.toNatClampNeg).toInt64) r3.2)) (
            let x6 : Nat := (r3.2.2.2 225 a0 0)
            (((r3.2.1 3 x6 r1.1.toNatClampNeg).toInt64 &&& (Int64.ofInt 4294967295)), r3.2)))) (
        let x7 : Int32 := (a1 >>> ((Int32.ofInt 2).toInt64 &&& 63)).toInt32
        let x8 : Nat := (r3.2.2.2 224 a0 0)
        ((r3.2.1 3 x8 x7.toNatClampNeg).toInt64, r3.2))) (
      GX33_read_15 M)) (
    GX33_read_15 M)
def HX33_read_0 (a0 : Nat) (a1 : Int64) (a3 : Int32) (M : FM) : Prop := ((a3 = (Int32.ofInt 4) → (((lg_cmp (a1 &&& (Int64.ofInt 3)) (Int64.ofInt 0)) = 0 → (HX33_contextAt a0 a1 (Int32.ofInt 8192) (Int32.ofInt 128) (Int32.ofInt 0) M ∧ let r1 : Int32 × FM := GX33_contextAt a0 a1 (Int32.ofInt 8192) (Int32.ofInt 128) (Int32.ofInt 0) M; (HX33_contextAt a0 a1 (Int32.ofInt 2097152) (Int32.ofInt 4096) (Int32.ofInt 0) r1.2 ∧ let r2 : Int32 × FM := GX33_contextAt a0 a1 (Int32.ofInt 2097152) (Int32.ofInt 4096) (Int32.ofInt 0) r1.2; (HX33_contextAt a0 a1 (Int32.ofInt 2097152) (Int32.ofInt 4096) (Int32.ofInt 4) r2.2 ∧ let r3 : Int32 × FM := GX33_contextAt a0 a1 (Int32.ofInt 2097152) (Int32.ofInt 4096) (Int32.ofInt 4) r2.2; ((0 ≤ (lg_cmp a1 (Int64.ofInt 128)) → (((lg_cmp a1 (Int64.ofInt 4096)) = 0 → True) ∧ (¬ ((lg_cmp a1 (Int64.ofInt 4096)) = 0) → ((r1.1 < 0 → ((r2.1 < 0 → ((r3.1 < 0 → True) ∧ (¬ (r3.1 < 0) → (HX33_claim a0 r3.1 r3.2 ∧ True)))) ∧ (¬ (r2.1 < 0) → let x5 : Nat := (r3.2.2.2 226 a0 0); (fm_in r3.2 x5 r2.1 = true ∧ True)))) ∧ (¬ (r1.1 < 0) → let x6 : Nat := (r3.2.2.2 225 a0 0); (fm_in r3.2 x6 r1.1 = true ∧ True)))))) ∧ (¬ (0 ≤ (lg_cmp a1 (Int64.ofInt 128))) → let x7 : Int32 := (a1 >>> ((Int32.ofInt 2).toInt64 &&& 63)).toInt32; let x8 : Nat := (r3.2.2.2 224 a0 0); (fm_in r3.2 x8 x7 = true ∧ True))))))) ∧ (¬ ((lg_cmp (a1 &&& (Int64.ofInt 3)) (Int64.ofInt 0)) = 0) → True))) ∧ (¬ (a3 = (Int32.ofInt 4)) → True))
theorem gX33_read_0 (a0 : Nat) (a1 : Int64) (a3 : Int32) (M : FM) (T : Ty M) (n_a0 : fm_is M 77 77 a0 = true) (h : HX33_read_0 a0 a1 a3 M) : gd (FX33_read_0 fN a0 a1 a3 M) (GX33_read_0 a0 a1 a3 M) (OkR M) := by
  delta FX33_read_0 BX33_read_0
  refine gd_fi (fun c0_0 => ?_) (fun c0_0 => ?_)
  · refine gd_fi (fun c1_0 => ?_) (fun c1_0 => ?_)
    · refine gd_c n_a0 ?_
      refine gd_b (gX33_contextAt _ _ _ _ _ _ ⟨T.1, T.2⟩ n_a0 ((h.1 c0_0).1 c1_0).1) (fun K2 => ?_)
      have f3 := (ext_is K2.2 (Nat.zero_lt_succ _) n_a0)
      refine gd_c f3 ?_
      have f26 := (ext_is K2.2 (Nat.zero_lt_succ _) n_a0)
      refine gd_b (gX33_contextAt _ _ _ _ _ _ ⟨K2.1.1, K2.1.2⟩ f26 ((h.1 c0_0).1 c1_0).2.1) (fun K4 => ?_)
      have f5 := (ext_is K4.2 (Nat.zero_lt_succ _) (ext_is K2.2 (Nat.zero_lt_succ _) n_a0))
      refine gd_c f5 ?_
      have f25 := (ext_is K4.2 (Nat.zero_lt_succ _) (ext_is K2.2 (Nat.zero_lt_succ _) n_a0))
      refine gd_b (gX33_contextAt _ _ _ _ _ _ ⟨K4.1.1, K4.1.2⟩ f25 ((h.1 c0_0).1 c1_0).2.2.1) (fun K6 => ?_)
      refine gd_fi (fun c7_0 => ?_) (fun c7_0 => ?_)
      · refine gd_fi (fun c8_0 => ?_) (fun c8_0 => ?_)
        · have f9 := (ext_is K6.2 (Nat.zero_lt_succ _) (ext_is K4.2 (Nat.zero_lt_succ _) (ext_is K2.2 (Nat.zero_lt_succ _) n_a0)))
          refine gd_c f9 ?_
          exact ⟨rfl, ⟨K6.1.1, K6.1.2⟩, (ext_tr K2.2 (ext_tr K4.2 K6.2))⟩
        · refine gd_fi (fun c10_0 => ?_) (fun c10_0 => ?_)
          · refine gd_fi (fun c11_0 => ?_) (fun c11_0 => ?_)
            · refine gd_fi (fun c12_0 => ?_) (fun c12_0 => ?_)
              · exact gd_tR (ext_tr K2.2 (ext_tr K4.2 K6.2)) (gX33_read_144 _ _ ⟨K6.1.1, K6.1.2⟩  )
              · have f13 := (ext_is K6.2 (Nat.zero_lt_succ _) (ext_is K4.2 (Nat.zero_lt_succ _) (ext_is K2.2 (Nat.zero_lt_succ _) n_a0)))
                refine gd_c f13 ?_
                have f15 := (ext_is K6.2 (Nat.zero_lt_succ _) (ext_is K4.2 (Nat.zero_lt_succ _) (ext_is K2.2 (Nat.zero_lt_succ _) n_a0)))
                refine gd_b (gX33_claim _ _ _ ⟨K6.1.1, K6.1.2⟩ f15 (((((((h.1 c0_0).1 c1_0).2.2.2.1 c7_0).2 c8_0).1 c10_0).1 c11_0).2 c12_0).1) (fun K14 => ?_)
                exact gd_tR (ext_tr K2.2 (ext_tr K4.2 (ext_tr K6.2 K14.2))) (gX33_read_144 _ _ ⟨K14.1.1, K14.1.2⟩  )
            · have f16 := (ext_is K6.2 (Nat.zero_lt_succ _) (ext_is K4.2 (Nat.zero_lt_succ _) (ext_is K2.2 (Nat.zero_lt_succ _) n_a0)))
              refine gd_c f16 ?_
              have f17 := (tN_226 K6.1.1 (ext_is K6.2 (Nat.zero_lt_succ _) (ext_is K4.2 (Nat.zero_lt_succ _) (ext_is K2.2 (Nat.zero_lt_succ _) n_a0))))
              have f18 := ((((((h.1 c0_0).1 c1_0).2.2.2.1 c7_0).2 c8_0).1 c10_0).2 c11_0).1
              refine gd_c ⟨f17, f18⟩ ?_
              exact gd_tR (ext_tr K2.2 (ext_tr K4.2 K6.2)) (gX33_read_144 _ _ ⟨K6.1.1, K6.1.2⟩  )
          · have f19 := (ext_is K6.2 (Nat.zero_lt_succ _) (ext_is K4.2 (Nat.zero_lt_succ _) (ext_is K2.2 (Nat.zero_lt_succ _) n_a0)))
            refine gd_c f19 ?_
            have f20 := (tN_225 K6.1.1 (ext_is K6.2 (Nat.zero_lt_succ _) (ext_is K4.2 (Nat.zero_lt_succ _) (ext_is K2.2 (Nat.zero_lt_succ _) n_a0))))
            have f21 := (((((h.1 c0_0).1 c1_0).2.2.2.1 c7_0).2 c8_0).2 c10_0).1
            refine gd_c ⟨f20, f21⟩ ?_
            exact ⟨rfl, ⟨K6.1.1, K6.1.2⟩, (ext_tr K2.2 (ext_tr K4.2 K6.2))⟩
      · have f22 := (ext_is K6.2 (Nat.zero_lt_succ _) (ext_is K4.2 (Nat.zero_lt_succ _) (ext_is K2.2 (Nat.zero_lt_succ _) n_a0)))
        refine gd_c f22 ?_
        have f23 := (tN_224 K6.1.1 (ext_is K6.2 (Nat.zero_lt_succ _) (ext_is K4.2 (Nat.zero_lt_succ _) (ext_is K2.2 (Nat.zero_lt_succ _) n_a0))))
        have f24 := (((h.1 c0_0).1 c1_0).2.2.2.2 c7_0).1
        refine gd_c ⟨f23, f24⟩ ?_
        exact ⟨rfl, ⟨K6.1.1, K6.1.2⟩, (ext_tr K2.2 (ext_tr K4.2 K6.2))⟩
    · exact gd_tR (ext_r _) (gX33_read_15  _ ⟨T.1, T.2⟩  )
  · exact gd_tR (ext_r _) (gX33_read_15  _ ⟨T.1, T.2⟩  )
noncomputable def GX33_read (a0 : Nat) (a1 : Int64) (a3 : Int32) (M : FM) : Int64 × FM := GX33_read_0 a0 a1 a3 M
def HX33_read (a0 : Nat) (a1 : Int64) (a3 : Int32) (M : FM) : Prop := HX33_read_0 a0 a1 a3 M
theorem gX33_read (a0 : Nat) (a1 : Int64) (a3 : Int32) (M : FM) (T : Ty M) (n_a0 : fm_is M 77 77 a0 = true) (h : HX33_read a0 a1 a3 M) : gd (FX33_read fN a0 a1 a3 M) (GX33_read a0 a1 a3 M) (OkR M) := gX33_read_0 a0 a1 a3 M T n_a0 h
noncomputable def GX31_has_19 (s0 : Int32) (M : FM) : Int32 × FM :=
  (s0, M)
theorem gX31_has_19 (s0 : Int32) (M : FM) (T : Ty M) (z_s0 : s0 = 0 ∨ s0 = 1) : gd (FX31_has_19 s0 M) (GX31_has_19 s0 M) (OkZ M) := by
  delta FX31_has_19 BX31_has_19
  exact gd_z z_s0 ⟨T.1, T.2⟩ (ext_r _) rfl
noncomputable def GX31_has_0 (a0 : Nat) (a1 : Int32) (a2 : Int32) (M : FM) : Int32 × FM :=
  let x1 : Nat := (M.2.2 235 a0 0)
  fi ((((M.1 3 x1 a1.toNatClampNeg) >>> (a2 &&& 31)) &&& (Int32.ofInt 1)) = (Int32.ofInt 1)) (
    GX31_has_19 (Int32.ofInt 1) M) (
    GX31_has_19 (Int32.ofInt 0) M)
def HX31_has_0 (a0 : Nat) (a1 : Int32) (a2 : Int32) (M : FM) : Prop := let x1 : Nat := (M.2.2 235 a0 0); (fm_in M x1 a1 = true ∧ True)
theorem gX31_has_0 (a0 : Nat) (a1 : Int32) (a2 : Int32) (M : FM) (T : Ty M) (n_a0 : fm_is M 78 78 a0 = true) (h : HX31_has_0 a0 a1 a2 M) : gd (FX31_has_0 a0 a1 a2 M) (GX31_has_0 a0 a1 a2 M) (OkZ M) := by
  delta FX31_has_0 BX31_has_0
  refine gd_c n_a0 ?_
  have f1 := (tN_235 T.1 n_a0)
  refine gd_c ⟨f1, h.1⟩ ?_
  refine gd_fi (fun c0_0 => ?_) (fun c0_0 => ?_)
  · exact gd_tZ (ext_r _) (gX31_has_19 _ _ ⟨T.1, T.2⟩ fz_1 )
  · exact gd_tZ (ext_r _) (gX31_has_19 _ _ ⟨T.1, T.2⟩ fz_0 )
noncomputable def GX31_has (a0 : Nat) (a1 : Int32) (a2 : Int32) (M : FM) : Int32 × FM := GX31_has_0 a0 a1 a2 M
def HX31_has (a0 : Nat) (a1 : Int32) (a2 : Int32) (M : FM) : Prop := HX31_has_0 a0 a1 a2 M
theorem gX31_has (a0 : Nat) (a1 : Int32) (a2 : Int32) (M : FM) (T : Ty M) (n_a0 : fm_is M 78 78 a0 = true) (h : HX31_has a0 a1 a2 M) : gd (FX31_has a0 a1 a2 M) (GX31_has a0 a1 a2 M) (OkZ M) := gX31_has_0 a0 a1 a2 M T n_a0 h
noncomputable def GX31_take_0 (a0 : Nat) (M : FM) : Int32 × FM :=
  fi ((M.1 232 a0 0) = 0) (
    ((Int32.ofInt 0), M)) (
    let x1 : Int32 := (M.1 231 a0 0)
    let x2 : Nat := (M.2.2 230 a0 0)
    let x3 : Int32 := (M.1 3 x2 x1.toNatClampNeg)
    let x4 : Int32 := ((M.1 231 a0 0) + (Int32.ofInt 1))
    let M5 : FM := fm_sI M 231 a0 0 (x4 - x4 / (Int32.ofInt 16) * (Int32.ofInt 16))
    let M6 : FM := fm_sI M5 232 a0 0 ((M5.1 232 a0 0) - (Int32.ofInt 1))
    (x3, M6))
def HX31_take_0 (a0 : Nat) (M : FM) : Prop := (((M.1 232 a0 0) = 0 → True) ∧ (¬ ((M.1 232 a0 0) = 0) → let x1 : Int32 := (M.1 231 a0 0); let x2 : Nat := (M.2.2 230 a0 0); (fm_in M x2 x1 = true ∧ True)))
theorem gX31_take_0 (a0 : Nat) (M : FM) (T : Ty M) (n_a0 : fm_is M 78 78 a0 = true) (h : HX31_take_0 a0 M) : gd (FX31_take_0 a0 M) (GX31_take_0 a0 M) (OkR M) := by
  delta FX31_take_0 BX31_take_0
  refine gd_c n_a0 ?_
  refine gd_fi (fun c0_0 => ?_) (fun c0_0 => ?_)
  · exact ⟨rfl, ⟨T.1, T.2⟩, (ext_r _)⟩
  · refine gd_c n_a0 ?_
    refine gd_c n_a0 ?_
    have f1 := (tN_230 T.1 n_a0)
    refine gd_c ⟨f1, (h.2 c0_0).1⟩ ?_
    refine gd_c n_a0 ?_
    refine gd_n (by decide) ?_
    refine gd_c n_a0 ?_
    refine gd_c n_a0 ?_
    refine gd_c n_a0 ?_
    exact ⟨rfl, ⟨T.1, (tyb_sI (f := 232) rfl (tyb_sI (f := 231) rfl T.2))⟩, (ext_dI (ext_dI (ext_r _)))⟩
noncomputable def GX31_take (a0 : Nat) (M : FM) : Int32 × FM := GX31_take_0 a0 M
def HX31_take (a0 : Nat) (M : FM) : Prop := HX31_take_0 a0 M
theorem gX31_take (a0 : Nat) (M : FM) (T : Ty M) (n_a0 : fm_is M 78 78 a0 = true) (h : HX31_take a0 M) : gd (FX31_take a0 M) (GX31_take a0 M) (OkR M) := gX31_take_0 a0 M T n_a0 h
noncomputable def GX31_cause_58 (s0 : Int32) (M : FM) : Int32 × FM :=
  (s0, M)
theorem gX31_cause_58 (s0 : Int32) (M : FM) (T : Ty M) : gd (FX31_cause_58 s0 M) (GX31_cause_58 s0 M) (OkR M) := by
  delta FX31_cause_58 BX31_cause_58
  exact ⟨rfl, ⟨T.1, T.2⟩, (ext_r _)⟩
noncomputable def GX31_cause_57 (M : FM) : Int32 × FM :=
  GX31_cause_58 (Int32.ofInt 1) M
theorem gX31_cause_57 (M : FM) (T : Ty M) : gd (FX31_cause_57 M) (GX31_cause_57 M) (OkR M) := by
  delta FX31_cause_57 BX31_cause_57
  exact gd_tR (ext_r _) (gX31_cause_58 _ _ ⟨T.1, T.2⟩  )
noncomputable def GX31_cause_37 (a0 : Nat) (M : FM) : Int32 × FM :=
  let r1 : Int32 × FM := GX31_has a0 (Int32.ofInt 1) (Int32.ofInt 1) M
  fi (r1.1 = 0) (
    GX31_cause_57 r1.2) (
    fi ((r1.2.1 238 a0 0) = 0) (
      GX31_cause_57 r1.2) (
      GX31_cause_58 (Int32.ofInt 2) r1.2))
def HX31_cause_37 (a0 : Nat) (M : FM) : Prop := (HX31_has a0 (Int32.ofInt 1) (Int32.ofInt 1) M ∧ True)
theorem gX31_cause_37 (a0 : Nat) (M : FM) (T : Ty M) (n_a0 : fm_is M 78 78 a0 = true) (h : HX31_cause_37 a0 M) : gd (FX31_cause_37 a0 M) (GX31_cause_37 a0 M) (OkR M) := by
  delta FX31_cause_37 BX31_cause_37
  refine gd_c n_a0 ?_
  refine gd_b (gX31_has _ _ _ _ ⟨T.1, T.2⟩ n_a0 h.1) (fun K0 => ?_)
  refine gd_fi (fun c1_0 => ?_) (fun c1_0 => ?_)
  · exact gd_tR K0.2.1 (gX31_cause_57  _ ⟨K0.1.1, K0.1.2⟩  )
  · have f2 := (ext_is K0.2.1 (Nat.zero_lt_succ _) n_a0)
    refine gd_c f2 ?_
    refine gd_fi (fun c3_0 => ?_) (fun c3_0 => ?_)
    · exact gd_tR K0.2.1 (gX31_cause_57  _ ⟨K0.1.1, K0.1.2⟩  )
    · exact gd_tR K0.2.1 (gX31_cause_58 _ _ ⟨K0.1.1, K0.1.2⟩  )
noncomputable def GX31_cause_19 (a0 : Nat) (M : FM) : Int32 × FM :=
  let r1 : Int32 × FM := GX31_has a0 (Int32.ofInt 1) (Int32.ofInt 0) M
  fi (r1.1 = 0) (
    GX31_cause_37 a0 r1.2) (
    fi ((r1.2.1 232 a0 0) ≤ 0) (
      GX31_cause_37 a0 r1.2) (
      ((Int32.ofInt 4), r1.2)))
def HX31_cause_19 (a0 : Nat) (M : FM) : Prop := (HX31_has a0 (Int32.ofInt 1) (Int32.ofInt 0) M ∧ let r1 : Int32 × FM := GX31_has a0 (Int32.ofInt 1) (Int32.ofInt 0) M; ((r1.1 = 0 → HX31_cause_37 a0 r1.2) ∧ (¬ (r1.1 = 0) → (((r1.2.1 232 a0 0) ≤ 0 → HX31_cause_37 a0 r1.2) ∧ (¬ ((r1.2.1 232 a0 0) ≤ 0) → True)))))
theorem gX31_cause_19 (a0 : Nat) (M : FM) (T : Ty M) (n_a0 : fm_is M 78 78 a0 = true) (h : HX31_cause_19 a0 M) : gd (FX31_cause_19 a0 M) (GX31_cause_19 a0 M) (OkR M) := by
  delta FX31_cause_19 BX31_cause_19
  refine gd_c n_a0 ?_
  refine gd_b (gX31_has _ _ _ _ ⟨T.1, T.2⟩ n_a0 h.1) (fun K0 => ?_)
  refine gd_fi (fun c1_0 => ?_) (fun c1_0 => ?_)
  · have f2 := (ext_is K0.2.1 (Nat.zero_lt_succ _) n_a0)
    exact gd_tR K0.2.1 (gX31_cause_37 _ _ ⟨K0.1.1, K0.1.2⟩ f2 (h.2.1 c1_0))
  · have f3 := (ext_is K0.2.1 (Nat.zero_lt_succ _) n_a0)
    refine gd_c f3 ?_
    refine gd_fi (fun c4_0 => ?_) (fun c4_0 => ?_)
    · have f5 := (ext_is K0.2.1 (Nat.zero_lt_succ _) n_a0)
      exact gd_tR K0.2.1 (gX31_cause_37 _ _ ⟨K0.1.1, K0.1.2⟩ f5 ((h.2.2 c1_0).1 c4_0))
    · exact ⟨rfl, ⟨K0.1.1, K0.1.2⟩, K0.2.1⟩
noncomputable def GX31_cause_0 (a0 : Nat) (M : FM) : Int32 × FM :=
  let r1 : Int32 × FM := GX31_has a0 (Int32.ofInt 1) (Int32.ofInt 2) M
  fi (r1.1 = 0) (
    GX31_cause_19 a0 r1.2) (
    fi ((r1.2.1 237 a0 0) = 0) (
      GX31_cause_19 a0 r1.2) (
      ((Int32.ofInt 6), r1.2)))
def HX31_cause_0 (a0 : Nat) (M : FM) : Prop := (HX31_has a0 (Int32.ofInt 1) (Int32.ofInt 2) M ∧ let r1 : Int32 × FM := GX31_has a0 (Int32.ofInt 1) (Int32.ofInt 2) M; ((r1.1 = 0 → HX31_cause_19 a0 r1.2) ∧ (¬ (r1.1 = 0) → (((r1.2.1 237 a0 0) = 0 → HX31_cause_19 a0 r1.2) ∧ (¬ ((r1.2.1 237 a0 0) = 0) → True)))))
theorem gX31_cause_0 (a0 : Nat) (M : FM) (T : Ty M) (n_a0 : fm_is M 78 78 a0 = true) (h : HX31_cause_0 a0 M) : gd (FX31_cause_0 a0 M) (GX31_cause_0 a0 M) (OkR M) := by
  delta FX31_cause_0 BX31_cause_0
  refine gd_c n_a0 ?_
  refine gd_b (gX31_has _ _ _ _ ⟨T.1, T.2⟩ n_a0 h.1) (fun K0 => ?_)
  refine gd_fi (fun c1_0 => ?_) (fun c1_0 => ?_)
  · have f2 := (ext_is K0.2.1 (Nat.zero_lt_succ _) n_a0)
    exact gd_tR K0.2.1 (gX31_cause_19 _ _ ⟨K0.1.1, K0.1.2⟩ f2 (h.2.1 c1_0))
  · have f3 := (ext_is K0.2.1 (Nat.zero_lt_succ _) n_a0)
    refine gd_c f3 ?_
    refine gd_fi (fun c4_0 => ?_) (fun c4_0 => ?_)
    · have f5 := (ext_is K0.2.1 (Nat.zero_lt_succ _) n_a0)
      exact gd_tR K0.2.1 (gX31_cause_19 _ _ ⟨K0.1.1, K0.1.2⟩ f5 ((h.2.2 c1_0).1 c4_0))
    · exact ⟨rfl, ⟨K0.1.1, K0.1.2⟩, K0.2.1⟩
noncomputable def GX31_cause (a0 : Nat) (M : FM) : Int32 × FM := GX31_cause_0 a0 M
def HX31_cause (a0 : Nat) (M : FM) : Prop := HX31_cause_0 a0 M
theorem gX31_cause (a0 : Nat) (M : FM) (T : Ty M) (n_a0 : fm_is M 78 78 a0 = true) (h : HX31_cause a0 M) : gd (FX31_cause a0 M) (GX31_cause a0 M) (OkR M) := gX31_cause_0 a0 M T n_a0 h
