/-! functions without guards, printed by gen/gg.py -/
set_option maxRecDepth 100000
noncomputable def GX62_multiply_0 (a0 : Nat) (a1 : Int64) (a3 : Int64) (M : FM) : FM :=
  let x1 : Int64 := ((a1 &&& (Int64.ofInt 4294967295)) * (a3 &&& (Int64.ofInt 4294967295)))
  let x2 : Int64 := (((a1.toUInt64 >>> ((Int32.ofInt 32).toInt64.toUInt64 &&& Int64.toUInt64 63)).toInt64 * (a3 &&& (Int64.ofInt 4294967295))) + (x1.toUInt64 >>> ((Int32.ofInt 32).toInt64.toUInt64 &&& Int64.toUInt64 63)).toInt64)
  let x3 : Int64 := (((a1 &&& (Int64.ofInt 4294967295)) * (a3.toUInt64 >>> ((Int32.ofInt 32).toInt64.toUInt64 &&& Int64.toUInt64 63)).toInt64) + (x2 &&& (Int64.ofInt 4294967295)))
  let M4 : FM := fm_sL M 120 a0 0 ((x3 <<< ((Int32.ofInt 32).toInt64 &&& 63)) ||| (x1 &&& (Int64.ofInt 4294967295)))
  let M5 : FM := fm_sL M4 119 a0 0 ((((a1.toUInt64 >>> ((Int32.ofInt 32).toInt64.toUInt64 &&& Int64.toUInt64 63)).toInt64 * (a3.toUInt64 >>> ((Int32.ofInt 32).toInt64.toUInt64 &&& Int64.toUInt64 63)).toInt64) + (x2.toUInt64 >>> ((Int32.ofInt 32).toInt64.toUInt64 &&& Int64.toUInt64 63)).toInt64) + (x3.toUInt64 >>> ((Int32.ofInt 32).toInt64.toUInt64 &&& Int64.toUInt64 63)).toInt64)
  M5
theorem gX62_multiply_0 (a0 : Nat) (a1 : Int64) (a3 : Int64) (M : FM) (T : Ty M) (n_a0 : fm_is M 40 40 a0 = true) : gd (FX62_multiply_0 a0 a1 a3 M) (GX62_multiply_0 a0 a1 a3 M) (OkV M) := by
  delta FX62_multiply_0 BX62_multiply_0
  refine gd_c n_a0 ?_
  refine gd_c n_a0 ?_
  exact ⟨rfl, ⟨T.1, T.2⟩, (ext_dL (ext_dL (ext_r _)))⟩
noncomputable def GX62_multiply (a0 : Nat) (a1 : Int64) (a3 : Int64) (M : FM) : FM := GX62_multiply_0 a0 a1 a3 M
theorem gX62_multiply (a0 : Nat) (a1 : Int64) (a3 : Int64) (M : FM) (T : Ty M) (n_a0 : fm_is M 40 40 a0 = true) : gd (FX62_multiply a0 a1 a3 M) (GX62_multiply a0 a1 a3 M) (OkV M) := gX62_multiply_0 a0 a1 a3 M T n_a0 
noncomputable def GX67_work_173 (M : FM) : FM :=
  M
theorem gX67_work_173 (M : FM) (T : Ty M) : gd (FX67_work_173 M) (GX67_work_173 M) (OkV M) := by
  delta FX67_work_173 BX67_work_173
  exact ⟨rfl, ⟨T.1, T.2⟩, (ext_r _)⟩
noncomputable def GX67_work_168 (a6 : Int32) (s0 : Nat) (s1 : Nat) (M : FM) : FM :=
  let M1 : FM := GX71_become s0 s1 a6 M
  GX67_work_173 M1
theorem gX67_work_168 (a6 : Int32) (s0 : Nat) (s1 : Nat) (M : FM) (T : Ty M) (n_s0 : fm_is M 39 39 s0 = true) (n_s1 : fm_is M 2 2 s1 = true) (z_a6 : a6 = 0 ∨ a6 = 1) : gd (FX67_work_168 a6 s0 s1 M) (GX67_work_168 a6 s0 s1 M) (OkV M) := by
  delta FX67_work_168 BX67_work_168
  refine gd_c n_s0 ?_
  refine gd_b (gX71_become _ _ _ _ ⟨T.1, T.2⟩ n_s0 n_s1 z_a6 ) (fun K0 => ?_)
  exact gd_tV K0.2 (gX67_work_173  _ ⟨K0.1.1, K0.1.2⟩  )
noncomputable def GX67_work_159 (a6 : Int32) (s0 : Nat) (M : FM) : FM :=
  GX67_work_168 a6 s0 8 M
theorem gX67_work_159 (a6 : Int32) (s0 : Nat) (M : FM) (T : Ty M) (n_s0 : fm_is M 39 39 s0 = true) (z_a6 : a6 = 0 ∨ a6 = 1) : gd (FX67_work_159 a6 s0 M) (GX67_work_159 a6 s0 M) (OkV M) := by
  delta FX67_work_159 BX67_work_159
  have f0 := (tC_8 T.1)
  exact gd_tV (ext_r _) (gX67_work_168 _ _ _ _ ⟨T.1, T.2⟩ n_s0 f0 z_a6 )
noncomputable def GX67_work_137 (a1 : Nat) (a2 : Nat) (a5 : Nat) (a6 : Int32) (M : FM) : FM :=
  let r1 : Int32 × FM := GX71_is a1 8 M
  fi (r1.1 = 0) (
    let r2 : Int32 × FM := GX71_is a2 8 r1.2
    fi (r2.1 = 0) (
      GX67_work_168 a6 a5 6 r2.2) (
      GX67_work_159 a6 a5 r2.2)) (
    GX67_work_159 a6 a5 r1.2)
theorem gX67_work_137 (a1 : Nat) (a2 : Nat) (a5 : Nat) (a6 : Int32) (M : FM) (T : Ty M) (n_a1 : fm_is M 39 39 a1 = true) (n_a2 : fm_is M 39 39 a2 = true) (n_a5 : fm_is M 39 39 a5 = true) (z_a6 : a6 = 0 ∨ a6 = 1) : gd (FX67_work_137 a1 a2 a5 a6 M) (GX67_work_137 a1 a2 a5 a6 M) (OkV M) := by
  delta FX67_work_137 BX67_work_137
  refine gd_c n_a1 ?_
  have f11 := (tC_8 T.1)
  refine gd_b (gX71_is _ _ _ ⟨T.1, T.2⟩ n_a1 f11 ) (fun K0 => ?_)
  refine gd_fi (fun c1_0 => ?_) (fun c1_0 => ?_)
  · have f2 := (ext_is K0.2.1 (Nat.zero_lt_succ _) n_a2)
    refine gd_c f2 ?_
    have f8 := (ext_is K0.2.1 (Nat.zero_lt_succ _) n_a2)
    have f9 := (tC_8 K0.1.1)
    refine gd_b (gX71_is _ _ _ ⟨K0.1.1, K0.1.2⟩ f8 f9 ) (fun K3 => ?_)
    refine gd_fi (fun c4_0 => ?_) (fun c4_0 => ?_)
    · have f5 := (ext_is K3.2.1 (Nat.zero_lt_succ _) (ext_is K0.2.1 (Nat.zero_lt_succ _) n_a5))
      have f6 := (tC_6 K3.1.1)
      exact gd_tV (ext_tr K0.2.1 K3.2.1) (gX67_work_168 _ _ _ _ ⟨K3.1.1, K3.1.2⟩ f5 f6 z_a6 )
    · have f7 := (ext_is K3.2.1 (Nat.zero_lt_succ _) (ext_is K0.2.1 (Nat.zero_lt_succ _) n_a5))
      exact gd_tV (ext_tr K0.2.1 K3.2.1) (gX67_work_159 _ _ _ ⟨K3.1.1, K3.1.2⟩ f7 z_a6 )
  · have f10 := (ext_is K0.2.1 (Nat.zero_lt_succ _) n_a5)
    exact gd_tV K0.2.1 (gX67_work_159 _ _ _ ⟨K0.1.1, K0.1.2⟩ f10 z_a6 )
noncomputable def GX67_work_68 (a1 : Nat) (a2 : Nat) (a5 : Nat) (a6 : Int32) (M : FM) : FM :=
  let r1 : Int32 × FM := GX71_is a1 7 M
  fi (r1.1 = 0) (
    GX67_work_137 a1 a2 a5 a6 r1.2) (
    let r2 : Int32 × FM := GX71_is a2 7 r1.2
    fi (r2.1 = 0) (
      GX67_work_137 a1 a2 a5 a6 r2.2) (
      let M3 : FM := GX71_become a5 7 a6 r2.2
      let x4 : Nat := (M3.2.2 117 a1 0)
      let x5 : Nat := (M3.2.2 117 a2 0)
      let x6 : Nat := (M3.2.2 117 a5 0)
      let M7 : FM := GX62_multiply x6 (M3.2.1 120 x4 0) (M3.2.1 120 x5 0) M3
      let M8 : FM := fm_sI M7 116 a5 0 ((M7.1 116 a1 0) + (M7.1 116 a2 0))
      GX67_work_173 M8))
theorem gX67_work_68 (a1 : Nat) (a2 : Nat) (a5 : Nat) (a6 : Int32) (M : FM) (T : Ty M) (n_a1 : fm_is M 39 39 a1 = true) (n_a2 : fm_is M 39 39 a2 = true) (n_a5 : fm_is M 39 39 a5 = true) (z_a6 : a6 = 0 ∨ a6 = 1) : gd (FX67_work_68 a1 a2 a5 a6 M) (GX67_work_68 a1 a2 a5 a6 M) (OkV M) := by
  delta FX67_work_68 BX67_work_68
  refine gd_c n_a1 ?_
  have f28 := (tC_7 T.1)
  refine gd_b (gX71_is _ _ _ ⟨T.1, T.2⟩ n_a1 f28 ) (fun K0 => ?_)
  refine gd_fi (fun c1_0 => ?_) (fun c1_0 => ?_)
  · have f2 := (ext_is K0.2.1 (Nat.zero_lt_succ _) n_a1)
    have f3 := (ext_is K0.2.1 (Nat.zero_lt_succ _) n_a2)
    have f4 := (ext_is K0.2.1 (Nat.zero_lt_succ _) n_a5)
    exact gd_tV K0.2.1 (gX67_work_137 _ _ _ _ _ ⟨K0.1.1, K0.1.2⟩ f2 f3 f4 z_a6 )
  · have f5 := (ext_is K0.2.1 (Nat.zero_lt_succ _) n_a2)
    refine gd_c f5 ?_
    have f26 := (ext_is K0.2.1 (Nat.zero_lt_succ _) n_a2)
    have f27 := (tC_7 K0.1.1)
    refine gd_b (gX71_is _ _ _ ⟨K0.1.1, K0.1.2⟩ f26 f27 ) (fun K6 => ?_)
    refine gd_fi (fun c7_0 => ?_) (fun c7_0 => ?_)
    · have f8 := (ext_is K6.2.1 (Nat.zero_lt_succ _) (ext_is K0.2.1 (Nat.zero_lt_succ _) n_a1))
      have f9 := (ext_is K6.2.1 (Nat.zero_lt_succ _) (ext_is K0.2.1 (Nat.zero_lt_succ _) n_a2))
      have f10 := (ext_is K6.2.1 (Nat.zero_lt_succ _) (ext_is K0.2.1 (Nat.zero_lt_succ _) n_a5))
      exact gd_tV (ext_tr K0.2.1 K6.2.1) (gX67_work_137 _ _ _ _ _ ⟨K6.1.1, K6.1.2⟩ f8 f9 f10 z_a6 )
    · have f11 := (ext_is K6.2.1 (Nat.zero_lt_succ _) (ext_is K0.2.1 (Nat.zero_lt_succ _) n_a5))
      refine gd_c f11 ?_
      have f24 := (ext_is K6.2.1 (Nat.zero_lt_succ _) (ext_is K0.2.1 (Nat.zero_lt_succ _) n_a5))
      have f25 := (tC_7 K6.1.1)
      refine gd_b (gX71_become _ _ _ _ ⟨K6.1.1, K6.1.2⟩ f24 f25 z_a6 ) (fun K12 => ?_)
      have f13 := (ext_is K12.2 (Nat.zero_lt_succ _) (ext_is K6.2.1 (Nat.zero_lt_succ _) (ext_is K0.2.1 (Nat.zero_lt_succ _) n_a5)))
      refine gd_c f13 ?_
      have f14 := (ext_is K12.2 (Nat.zero_lt_succ _) (ext_is K6.2.1 (Nat.zero_lt_succ _) (ext_is K0.2.1 (Nat.zero_lt_succ _) n_a1)))
      refine gd_c f14 ?_
      have f15 := (tN_117 K12.1.1 (ext_is K12.2 (Nat.zero_lt_succ _) (ext_is K6.2.1 (Nat.zero_lt_succ _) (ext_is K0.2.1 (Nat.zero_lt_succ _) n_a1))))
      refine gd_c f15 ?_
      have f16 := (ext_is K12.2 (Nat.zero_lt_succ _) (ext_is K6.2.1 (Nat.zero_lt_succ _) (ext_is K0.2.1 (Nat.zero_lt_succ _) n_a2)))
      refine gd_c f16 ?_
      have f17 := (tN_117 K12.1.1 (ext_is K12.2 (Nat.zero_lt_succ _) (ext_is K6.2.1 (Nat.zero_lt_succ _) (ext_is K0.2.1 (Nat.zero_lt_succ _) n_a2))))
      refine gd_c f17 ?_
      have f18 := (tN_117 K12.1.1 (ext_is K12.2 (Nat.zero_lt_succ _) (ext_is K6.2.1 (Nat.zero_lt_succ _) (ext_is K0.2.1 (Nat.zero_lt_succ _) n_a5))))
      refine gd_c f18 ?_
      have f23 := (tN_117 K12.1.1 (ext_is K12.2 (Nat.zero_lt_succ _) (ext_is K6.2.1 (Nat.zero_lt_succ _) (ext_is K0.2.1 (Nat.zero_lt_succ _) n_a5))))
      refine gd_b (gX62_multiply _ _ _ _ ⟨K12.1.1, K12.1.2⟩ f23 ) (fun K19 => ?_)
      have f20 := (ext_is K19.2 (Nat.zero_lt_succ _) (ext_is K12.2 (Nat.zero_lt_succ _) (ext_is K6.2.1 (Nat.zero_lt_succ _) (ext_is K0.2.1 (Nat.zero_lt_succ _) n_a1))))
      refine gd_c f20 ?_
      have f21 := (ext_is K19.2 (Nat.zero_lt_succ _) (ext_is K12.2 (Nat.zero_lt_succ _) (ext_is K6.2.1 (Nat.zero_lt_succ _) (ext_is K0.2.1 (Nat.zero_lt_succ _) n_a2))))
      refine gd_c f21 ?_
      have f22 := (ext_is K19.2 (Nat.zero_lt_succ _) (ext_is K12.2 (Nat.zero_lt_succ _) (ext_is K6.2.1 (Nat.zero_lt_succ _) (ext_is K0.2.1 (Nat.zero_lt_succ _) n_a5))))
      refine gd_c f22 ?_
      exact gd_tV (ext_tr K0.2.1 (ext_tr K6.2.1 (ext_tr K12.2 (ext_tr K19.2 (ext_dI (ext_r _)))))) (gX67_work_173  _ ⟨K19.1.1, (tyb_sI (f := 116) rfl K19.1.2)⟩  )
noncomputable def GX67_work_58 (a4 : Nat) (a5 : Nat) (M : FM) : FM :=
  let M1 : FM := GX65_refuse a4 a5 M
  GX67_work_173 M1
def HX67_work_58 (a4 : Nat) (a5 : Nat) (M : FM) : Prop := (HX65_refuse a4 a5 M ∧ True)
theorem gX67_work_58 (a4 : Nat) (a5 : Nat) (M : FM) (T : Ty M) (n_a4 : fm_is M 31 31 a4 = true) (n_a5 : fm_is M 39 39 a5 = true) (h : HX67_work_58 a4 a5 M) : gd (FX67_work_58 a4 a5 M) (GX67_work_58 a4 a5 M) (OkV M) := by
  delta FX67_work_58 BX67_work_58
  refine gd_b (gX65_refuse _ _ _ ⟨T.1, T.2⟩ n_a4 n_a5 h.1) (fun K0 => ?_)
  exact gd_tV K0.2 (gX67_work_173  _ ⟨K0.1.1, K0.1.2⟩  )
noncomputable def GX67_work_38 (a1 : Nat) (a2 : Nat) (a4 : Nat) (a5 : Nat) (a6 : Int32) (M : FM) : FM :=
  let r1 : Int32 × FM := GX71_is a1 6 M
  fi (r1.1 = 0) (
    GX67_work_68 a1 a2 a5 a6 r1.2) (
    let r2 : Int32 × FM := GX71_is a2 8 r1.2
    fi (r2.1 = 0) (
      GX67_work_68 a1 a2 a5 a6 r2.2) (
      GX67_work_58 a4 a5 r2.2))
def HX67_work_38 (a1 : Nat) (a2 : Nat) (a4 : Nat) (a5 : Nat) (a6 : Int32) (M : FM) : Prop := let r1 : Int32 × FM := GX71_is a1 6 M; ((r1.1 = 0 → True) ∧ (¬ (r1.1 = 0) → let r2 : Int32 × FM := GX71_is a2 8 r1.2; ((r2.1 = 0 → True) ∧ (¬ (r2.1 = 0) → HX67_work_58 a4 a5 r2.2))))
theorem gX67_work_38 (a1 : Nat) (a2 : Nat) (a4 : Nat) (a5 : Nat) (a6 : Int32) (M : FM) (T : Ty M) (n_a1 : fm_is M 39 39 a1 = true) (n_a2 : fm_is M 39 39 a2 = true) (n_a5 : fm_is M 39 39 a5 = true) (z_a6 : a6 = 0 ∨ a6 = 1) (n_a4 : fm_is M 31 31 a4 = true) (h : HX67_work_38 a1 a2 a4 a5 a6 M) : gd (FX67_work_38 a1 a2 a4 a5 a6 M) (GX67_work_38 a1 a2 a4 a5 a6 M) (OkV M) := by
  delta FX67_work_38 BX67_work_38
  refine gd_c n_a1 ?_
  have f15 := (tC_6 T.1)
  refine gd_b (gX71_is _ _ _ ⟨T.1, T.2⟩ n_a1 f15 ) (fun K0 => ?_)
  refine gd_fi (fun c1_0 => ?_) (fun c1_0 => ?_)
  · have f2 := (ext_is K0.2.1 (Nat.zero_lt_succ _) n_a1)
    have f3 := (ext_is K0.2.1 (Nat.zero_lt_succ _) n_a2)
    have f4 := (ext_is K0.2.1 (Nat.zero_lt_succ _) n_a5)
    exact gd_tV K0.2.1 (gX67_work_68 _ _ _ _ _ ⟨K0.1.1, K0.1.2⟩ f2 f3 f4 z_a6 )
  · have f5 := (ext_is K0.2.1 (Nat.zero_lt_succ _) n_a2)
    refine gd_c f5 ?_
    have f13 := (ext_is K0.2.1 (Nat.zero_lt_succ _) n_a2)
    have f14 := (tC_8 K0.1.1)
    refine gd_b (gX71_is _ _ _ ⟨K0.1.1, K0.1.2⟩ f13 f14 ) (fun K6 => ?_)
    refine gd_fi (fun c7_0 => ?_) (fun c7_0 => ?_)
    · have f8 := (ext_is K6.2.1 (Nat.zero_lt_succ _) (ext_is K0.2.1 (Nat.zero_lt_succ _) n_a1))
      have f9 := (ext_is K6.2.1 (Nat.zero_lt_succ _) (ext_is K0.2.1 (Nat.zero_lt_succ _) n_a2))
      have f10 := (ext_is K6.2.1 (Nat.zero_lt_succ _) (ext_is K0.2.1 (Nat.zero_lt_succ _) n_a5))
      exact gd_tV (ext_tr K0.2.1 K6.2.1) (gX67_work_68 _ _ _ _ _ ⟨K6.1.1, K6.1.2⟩ f8 f9 f10 z_a6 )
    · have f11 := (ext_is K6.2.1 (Nat.zero_lt_succ _) (ext_is K0.2.1 (Nat.zero_lt_succ _) n_a4))
      have f12 := (ext_is K6.2.1 (Nat.zero_lt_succ _) (ext_is K0.2.1 (Nat.zero_lt_succ _) n_a5))
      exact gd_tV (ext_tr K0.2.1 K6.2.1) (gX67_work_58 _ _ _ ⟨K6.1.1, K6.1.2⟩ f11 f12 ((h.2 c1_0).2 c7_0))
noncomputable def GX67_work_16 (a1 : Nat) (a2 : Nat) (a4 : Nat) (a5 : Nat) (s0 : Int32) (M : FM) : FM :=
  let r1 : Int32 × FM := GX71_is a1 8 M
  fi (r1.1 = 0) (
    GX67_work_38 a1 a2 a4 a5 s0 r1.2) (
    let r2 : Int32 × FM := GX71_is a2 6 r1.2
    fi (r2.1 = 0) (
      GX67_work_38 a1 a2 a4 a5 s0 r2.2) (
      GX67_work_58 a4 a5 r2.2))
def HX67_work_16 (a1 : Nat) (a2 : Nat) (a4 : Nat) (a5 : Nat) (s0 : Int32) (M : FM) : Prop := let r1 : Int32 × FM := GX71_is a1 8 M; ((r1.1 = 0 → HX67_work_38 a1 a2 a4 a5 s0 r1.2) ∧ (¬ (r1.1 = 0) → let r2 : Int32 × FM := GX71_is a2 6 r1.2; ((r2.1 = 0 → HX67_work_38 a1 a2 a4 a5 s0 r2.2) ∧ (¬ (r2.1 = 0) → HX67_work_58 a4 a5 r2.2))))
theorem gX67_work_16 (a1 : Nat) (a2 : Nat) (a4 : Nat) (a5 : Nat) (s0 : Int32) (M : FM) (T : Ty M) (n_a1 : fm_is M 39 39 a1 = true) (n_a2 : fm_is M 39 39 a2 = true) (n_a5 : fm_is M 39 39 a5 = true) (z_s0 : s0 = 0 ∨ s0 = 1) (n_a4 : fm_is M 31 31 a4 = true) (h : HX67_work_16 a1 a2 a4 a5 s0 M) : gd (FX67_work_16 a1 a2 a4 a5 s0 M) (GX67_work_16 a1 a2 a4 a5 s0 M) (OkV M) := by
  delta FX67_work_16 BX67_work_16
  refine gd_c n_a1 ?_
  have f17 := (tC_8 T.1)
  refine gd_b (gX71_is _ _ _ ⟨T.1, T.2⟩ n_a1 f17 ) (fun K0 => ?_)
  refine gd_fi (fun c1_0 => ?_) (fun c1_0 => ?_)
  · have f2 := (ext_is K0.2.1 (Nat.zero_lt_succ _) n_a1)
    have f3 := (ext_is K0.2.1 (Nat.zero_lt_succ _) n_a2)
    have f4 := (ext_is K0.2.1 (Nat.zero_lt_succ _) n_a5)
    have f5 := (ext_is K0.2.1 (Nat.zero_lt_succ _) n_a4)
    exact gd_tV K0.2.1 (gX67_work_38 _ _ _ _ _ _ ⟨K0.1.1, K0.1.2⟩ f2 f3 f4 z_s0 f5 (h.1 c1_0))
  · have f6 := (ext_is K0.2.1 (Nat.zero_lt_succ _) n_a2)
    refine gd_c f6 ?_
    have f15 := (ext_is K0.2.1 (Nat.zero_lt_succ _) n_a2)
    have f16 := (tC_6 K0.1.1)
    refine gd_b (gX71_is _ _ _ ⟨K0.1.1, K0.1.2⟩ f15 f16 ) (fun K7 => ?_)
    refine gd_fi (fun c8_0 => ?_) (fun c8_0 => ?_)
    · have f9 := (ext_is K7.2.1 (Nat.zero_lt_succ _) (ext_is K0.2.1 (Nat.zero_lt_succ _) n_a1))
      have f10 := (ext_is K7.2.1 (Nat.zero_lt_succ _) (ext_is K0.2.1 (Nat.zero_lt_succ _) n_a2))
      have f11 := (ext_is K7.2.1 (Nat.zero_lt_succ _) (ext_is K0.2.1 (Nat.zero_lt_succ _) n_a5))
      have f12 := (ext_is K7.2.1 (Nat.zero_lt_succ _) (ext_is K0.2.1 (Nat.zero_lt_succ _) n_a4))
      exact gd_tV (ext_tr K0.2.1 K7.2.1) (gX67_work_38 _ _ _ _ _ _ ⟨K7.1.1, K7.1.2⟩ f9 f10 f11 z_s0 f12 ((h.2 c1_0).1 c8_0))
    · have f13 := (ext_is K7.2.1 (Nat.zero_lt_succ _) (ext_is K0.2.1 (Nat.zero_lt_succ _) n_a4))
      have f14 := (ext_is K7.2.1 (Nat.zero_lt_succ _) (ext_is K0.2.1 (Nat.zero_lt_succ _) n_a5))
      exact gd_tV (ext_tr K0.2.1 K7.2.1) (gX67_work_58 _ _ _ ⟨K7.1.1, K7.1.2⟩ f13 f14 ((h.2 c1_0).2 c8_0))
noncomputable def GX67_work_0 (a0 : Nat) (a1 : Nat) (a2 : Nat) (a3 : Nat) (a4 : Nat) (a5 : Nat) (M : FM) : FM :=
  fi ((M.1 115 a1 0) = (M.1 115 a2 0)) (
    GX67_work_16 a1 a2 a4 a5 (Int32.ofInt 0) M) (
    GX67_work_16 a1 a2 a4 a5 (Int32.ofInt 1) M)
def HX67_work_0 (a0 : Nat) (a1 : Nat) (a2 : Nat) (a3 : Nat) (a4 : Nat) (a5 : Nat) (M : FM) : Prop := (((M.1 115 a1 0) = (M.1 115 a2 0) → HX67_work_16 a1 a2 a4 a5 (Int32.ofInt 0) M) ∧ (¬ ((M.1 115 a1 0) = (M.1 115 a2 0)) → HX67_work_16 a1 a2 a4 a5 (Int32.ofInt 1) M))
theorem gX67_work_0 (a0 : Nat) (a1 : Nat) (a2 : Nat) (a3 : Nat) (a4 : Nat) (a5 : Nat) (M : FM) (T : Ty M) (n_a1 : fm_is M 39 39 a1 = true) (n_a2 : fm_is M 39 39 a2 = true) (n_a5 : fm_is M 39 39 a5 = true) (n_a4 : fm_is M 31 31 a4 = true) (h : HX67_work_0 a0 a1 a2 a3 a4 a5 M) : gd (FX67_work_0 a0 a1 a2 a3 a4 a5 M) (GX67_work_0 a0 a1 a2 a3 a4 a5 M) (OkV M) := by
  delta FX67_work_0 BX67_work_0
  refine gd_c n_a1 ?_
  refine gd_c n_a2 ?_
  refine gd_fi (fun c0_0 => ?_) (fun c0_0 => ?_)
  · exact gd_tV (ext_r _) (gX67_work_16 _ _ _ _ _ _ ⟨T.1, T.2⟩ n_a1 n_a2 n_a5 fz_0 n_a4 (h.1 c0_0))
  · exact gd_tV (ext_r _) (gX67_work_16 _ _ _ _ _ _ ⟨T.1, T.2⟩ n_a1 n_a2 n_a5 fz_1 n_a4 (h.2 c0_0))
noncomputable def GX67_work (a0 : Nat) (a1 : Nat) (a2 : Nat) (a3 : Nat) (a4 : Nat) (a5 : Nat) (M : FM) : FM := GX67_work_0 a0 a1 a2 a3 a4 a5 M
def HX67_work (a0 : Nat) (a1 : Nat) (a2 : Nat) (a3 : Nat) (a4 : Nat) (a5 : Nat) (M : FM) : Prop := HX67_work_0 a0 a1 a2 a3 a4 a5 M
theorem gX67_work (a0 : Nat) (a1 : Nat) (a2 : Nat) (a3 : Nat) (a4 : Nat) (a5 : Nat) (M : FM) (T : Ty M) (n_a1 : fm_is M 39 39 a1 = true) (n_a2 : fm_is M 39 39 a2 = true) (n_a5 : fm_is M 39 39 a5 = true) (n_a4 : fm_is M 31 31 a4 = true) (h : HX67_work a0 a1 a2 a3 a4 a5 M) : gd (FX67_work a0 a1 a2 a3 a4 a5 M) (GX67_work a0 a1 a2 a3 a4 a5 M) (OkV M) := gX67_work_0 a0 a1 a2 a3 a4 a5 M T n_a1 n_a2 n_a5 n_a4 h
def kX68_divide (k35 : Nat → Nat → Nat → Int64 → Int64 → Int64 → Int32 → FM → Option (FM)) : (Nat × Nat × Nat × Int64 × Int64 × Int64 × Int32 × FM) ⊕ (FM) → Option (FM)
  | .inl (v0, v1, v2, v3, v4, v5, v6, M') => k35 v0 v1 v2 v3 v4 v5 v6 M'
  | .inr (r) => some r
def pX68_divide (M : FM) : (Nat × Nat × Nat × Int64 × Int64 × Int64 × Int32 × FM) ⊕ (FM) → Prop
  | .inl (_, _, _, _, _, _, _, M') => OkV M M'
  | .inr (r) => OkV M r
theorem pX68_divide_t {M M1 : FM} (e : Ext M M1) : ∀ y, pX68_divide M1 y → pX68_divide M y
  | .inl (_, _, _, _, _, _, _, _), h => ⟨h.1, ext_tr e h.2⟩
  | .inr (r), h => ⟨h.1, ext_tr e h.2⟩
noncomputable def GX68_divide_99 (a0 : Nat) (a1 : Nat) (a2 : Nat) (s0 : Nat) (s1 : Int64) (s2 : Int64) (M : FM) : (Nat × Nat × Nat × Int64 × Int64 × Int64 × Int32 × FM) ⊕ (FM) :=
  let M1 : FM := GX62_set s0 (s1 ||| s2) M
  let M2 : FM := fm_sI M1 116 a2 0 (((M1.1 116 a0 0) - (M1.1 116 a1 0)) - (Int32.ofInt 61))
  (.inr M2)
theorem gX68_divide_99 (k35 : Nat → Nat → Nat → Int64 → Int64 → Int64 → Int32 → FM → Option (FM)) (a0 : Nat) (a1 : Nat) (a2 : Nat) (s0 : Nat) (s1 : Int64) (s2 : Int64) (M : FM) (T : Ty M) (n_s0 : fm_is M 40 40 s0 = true) (n_a0 : fm_is M 39 39 a0 = true) (n_a1 : fm_is M 39 39 a1 = true) (n_a2 : fm_is M 39 39 a2 = true) : gs (FX68_divide_99 fN k35 a0 a1 a2 s0 s1 s2 M) (GX68_divide_99 a0 a1 a2 s0 s1 s2 M) (kX68_divide k35) (pX68_divide M) := by
  delta FX68_divide_99 BX68_divide_99
  refine gs_c n_s0 ?_
  refine gs_b (gX62_set _ _ _ ⟨T.1, T.2⟩ n_s0 ) (fun K0 => ?_)
  have f1 := (ext_is K0.2 (Nat.zero_lt_succ _) n_a0)
  refine gs_c f1 ?_
  have f2 := (ext_is K0.2 (Nat.zero_lt_succ _) n_a1)
  refine gs_c f2 ?_
  have f3 := (ext_is K0.2 (Nat.zero_lt_succ _) n_a2)
  refine gs_c f3 ?_
  exact And.intro rfl (And.intro (And.intro K0.1.1 (tyb_sI (f := 116) rfl K0.1.2)) ((ext_tr K0.2 (ext_dI (ext_r _)))))
noncomputable def GX68_divide_67 (a0 : Nat) (a1 : Nat) (a2 : Nat) (a3 : Int64) (a5 : Int64) (a7 : Int64) (a9 : Int32) (M : FM) : (Nat × Nat × Nat × Int64 × Int64 × Int64 × Int32 × FM) ⊕ (FM) :=
  let x1 : Int64 := (a5 <<< ((Int32.ofInt 1).toInt64 &&& 63))
  let x2 : Int32 := a9 + (Int32.ofInt 1)
  (.inl (a0, a1, a2, a3, x1, a7, x2, M))
theorem gX68_divide_67 (k35 : Nat → Nat → Nat → Int64 → Int64 → Int64 → Int32 → FM → Option (FM)) (a0 : Nat) (a1 : Nat) (a2 : Nat) (a3 : Int64) (a5 : Int64) (a7 : Int64) (a9 : Int32) (M : FM) (T : Ty M) : gs (FX68_divide_67 fN k35 a0 a1 a2 a3 a5 a7 a9 M) (GX68_divide_67 a0 a1 a2 a3 a5 a7 a9 M) (kX68_divide k35) (pX68_divide M) := by
  delta FX68_divide_67 BX68_divide_67
  exact And.intro rfl (And.intro (And.intro T.1 T.2) ((ext_r _)))
noncomputable def GX68_divide_0 (a0 : Nat) (a1 : Nat) (a2 : Nat) (M : FM) : (Nat × Nat × Nat × Int64 × Int64 × Int64 × Int32 × FM) ⊕ (FM) :=
  let M1 : FM := GX71_lift a0 (Int32.ofInt 61) M
  let M2 : FM := GX71_lift a1 (Int32.ofInt 61) M1
  let x3 : Nat := (M2.2.2 117 a1 0)
  let x4 : Int64 := (M2.2.1 120 x3 0)
  let x5 : Nat := (M2.2.2 117 a0 0)
  let x6 : Int64 := (M2.2.1 120 x5 0)
  (.inl (a0, a1, a2, x4, x6, (Int64.ofInt 0), (Int32.ofInt 0), M2))
def HX68_divide_0 (a0 : Nat) (a1 : Nat) (a2 : Nat) (M : FM) : Prop := (HX71_lift a0 (Int32.ofInt 61) M ∧ let M1 : FM := GX71_lift a0 (Int32.ofInt 61) M; (HX71_lift a1 (Int32.ofInt 61) M1 ∧ True))
theorem gX68_divide_0 (k35 : Nat → Nat → Nat → Int64 → Int64 → Int64 → Int32 → FM → Option (FM)) (a0 : Nat) (a1 : Nat) (a2 : Nat) (M : FM) (T : Ty M) (n_a0 : fm_is M 39 39 a0 = true) (n_a1 : fm_is M 39 39 a1 = true) (h : HX68_divide_0 a0 a1 a2 M) : gs (FX68_divide_0 fN k35 a0 a1 a2 M) (GX68_divide_0 a0 a1 a2 M) (kX68_divide k35) (pX68_divide M) := by
  delta FX68_divide_0 BX68_divide_0
  refine gs_c n_a0 ?_
  refine gs_b (gX71_lift _ _ _ ⟨T.1, T.2⟩ n_a0 h.1) (fun K0 => ?_)
  have f1 := (ext_is K0.2 (Nat.zero_lt_succ _) n_a1)
  refine gs_c f1 ?_
  have f7 := (ext_is K0.2 (Nat.zero_lt_succ _) n_a1)
  refine gs_b (gX71_lift _ _ _ ⟨K0.1.1, K0.1.2⟩ f7 h.2.1) (fun K2 => ?_)
  have f3 := (ext_is K2.2 (Nat.zero_lt_succ _) (ext_is K0.2 (Nat.zero_lt_succ _) n_a1))
  refine gs_c f3 ?_
  have f4 := (tN_117 K2.1.1 (ext_is K2.2 (Nat.zero_lt_succ _) (ext_is K0.2 (Nat.zero_lt_succ _) n_a1)))
  refine gs_c f4 ?_
  have f5 := (ext_is K2.2 (Nat.zero_lt_succ _) (ext_is K0.2 (Nat.zero_lt_succ _) n_a0))
  refine gs_c f5 ?_
  have f6 := (tN_117 K2.1.1 (ext_is K2.2 (Nat.zero_lt_succ _) (ext_is K0.2 (Nat.zero_lt_succ _) n_a0)))
  refine gs_c f6 ?_
  exact And.intro rfl (And.intro (And.intro K2.1.1 K2.1.2) ((ext_tr K0.2 K2.2)))
noncomputable def GX68_divide_35 (a0 : Nat) (a1 : Nat) (a2 : Nat) (a3 : Int64) (a5 : Int64) (a7 : Int64) (a9 : Int32) (M : FM) : (Nat × Nat × Nat × Int64 × Int64 × Int64 × Int32 × FM) ⊕ (FM) :=
  fi ((Int32.ofInt 61) ≤ a9) (
    fi ((lg_cmp a5 (Int64.ofInt 0)) = 0) (
      GX68_divide_99 a0 a1 a2 (M.2.2 117 a2 0) (a7 <<< ((Int32.ofInt 1).toInt64 &&& 63)) (Int64.ofInt 0) M) (
      GX68_divide_99 a0 a1 a2 (M.2.2 117 a2 0) (a7 <<< ((Int32.ofInt 1).toInt64 &&& 63)) (Int64.ofInt 1) M)) (
    let x1 : Int64 := (a7 <<< ((Int32.ofInt 1).toInt64 &&& 63))
    fi ((lg_cmp a5 a3) < 0) (
      GX68_divide_67 a0 a1 a2 a3 a5 x1 a9 M) (
      let x2 : Int64 := (a5 - a3)
      let x3 : Int64 := (x1 ||| (Int64.ofInt 1))
      GX68_divide_67 a0 a1 a2 a3 x2 x3 a9 M))
theorem gX68_divide_35 (k35 : Nat → Nat → Nat → Int64 → Int64 → Int64 → Int32 → FM → Option (FM)) (a0 : Nat) (a1 : Nat) (a2 : Nat) (a3 : Int64) (a5 : Int64) (a7 : Int64) (a9 : Int32) (M : FM) (T : Ty M) (n_a2 : fm_is M 39 39 a2 = true) (n_a0 : fm_is M 39 39 a0 = true) (n_a1 : fm_is M 39 39 a1 = true) : gs (FX68_divide_35 fN k35 a0 a1 a2 a3 a5 a7 a9 M) (GX68_divide_35 a0 a1 a2 a3 a5 a7 a9 M) (kX68_divide k35) (pX68_divide M) := by
  delta FX68_divide_35 BX68_divide_35
  refine gs_fi (fun c0_0 => ?_) (fun c0_0 => ?_)
  · refine gs_c n_a2 ?_
    refine gs_fi (fun c1_0 => ?_) (fun c1_0 => ?_)
    · have f2 := (tN_117 T.1 n_a2)
      exact gs_t (pX68_divide_t (ext_r _)) (gX68_divide_99 k35 _ _ _ _ _ _ _ ⟨T.1, T.2⟩ f2 n_a0 n_a1 n_a2 )
    · have f3 := (tN_117 T.1 n_a2)
      exact gs_t (pX68_divide_t (ext_r _)) (gX68_divide_99 k35 _ _ _ _ _ _ _ ⟨T.1, T.2⟩ f3 n_a0 n_a1 n_a2 )
  · refine gs_fi (fun c4_0 => ?_) (fun c4_0 => ?_)
    · exact gs_t (pX68_divide_t (ext_r _)) (gX68_divide_67 k35 _ _ _ _ _ _ _ _ ⟨T.1, T.2⟩  )
    · exact gs_t (pX68_divide_t (ext_r _)) (gX68_divide_67 k35 _ _ _ _ _ _ _ _ ⟨T.1, T.2⟩  )
noncomputable def GX68_divide (a0 : Nat) (a1 : Nat) (a2 : Nat) (M : FM) : FM := (FX68_divide fN a0 a1 a2 M).getD M
def HX68_divide (a0 : Nat) (a1 : Nat) (a2 : Nat) (M : FM) : Prop := ∃ r, FX68_divide fN a0 a1 a2 M = some r ∧ OkV M r
theorem gX68_divide (a0 : Nat) (a1 : Nat) (a2 : Nat) (M : FM) (h : HX68_divide a0 a1 a2 M) : gd (FX68_divide fN a0 a1 a2 M) (GX68_divide a0 a1 a2 M) (OkV M) := gd_op h
noncomputable def GX68_work_156 (M : FM) : FM :=
  M
theorem gX68_work_156 (M : FM) (T : Ty M) : gd (FX68_work_156 fN M) (GX68_work_156 M) (OkV M) := by
  delta FX68_work_156 BX68_work_156
  exact ⟨rfl, ⟨T.1, T.2⟩, (ext_r _)⟩
noncomputable def GX68_work_151 (a6 : Int32) (s0 : Nat) (s1 : Nat) (M : FM) : FM :=
  let M1 : FM := GX71_become s0 s1 a6 M
  GX68_work_156 M1
theorem gX68_work_151 (a6 : Int32) (s0 : Nat) (s1 : Nat) (M : FM) (T : Ty M) (n_s0 : fm_is M 39 39 s0 = true) (n_s1 : fm_is M 2 2 s1 = true) (z_a6 : a6 = 0 ∨ a6 = 1) : gd (FX68_work_151 fN a6 s0 s1 M) (GX68_work_151 a6 s0 s1 M) (OkV M) := by
  delta FX68_work_151 BX68_work_151
  refine gd_c n_s0 ?_
  refine gd_b (gX71_become _ _ _ _ ⟨T.1, T.2⟩ n_s0 n_s1 z_a6 ) (fun K0 => ?_)
  exact gd_tV K0.2 (gX68_work_156  _ ⟨K0.1.1, K0.1.2⟩  )
noncomputable def GX68_work_142 (a6 : Int32) (s0 : Nat) (M : FM) : FM :=
  GX68_work_151 a6 s0 8 M
theorem gX68_work_142 (a6 : Int32) (s0 : Nat) (M : FM) (T : Ty M) (n_s0 : fm_is M 39 39 s0 = true) (z_a6 : a6 = 0 ∨ a6 = 1) : gd (FX68_work_142 fN a6 s0 M) (GX68_work_142 a6 s0 M) (OkV M) := by
  delta FX68_work_142 BX68_work_142
  have f0 := (tC_8 T.1)
  exact gd_tV (ext_r _) (gX68_work_151 _ _ _ _ ⟨T.1, T.2⟩ n_s0 f0 z_a6 )
noncomputable def GX68_work_117 (a1 : Nat) (a2 : Nat) (a5 : Nat) (a6 : Int32) (s0 : Nat) (s1 : Int32) (M : FM) : FM :=
  let M1 : FM := GX60_raise s0 s1 M
  let r2 : Int32 × FM := GX71_is a1 8 M1
  fi (r2.1 = 0) (
    let r3 : Int32 × FM := GX71_is a2 6 r2.2
    fi (r3.1 = 0) (
      GX68_work_151 a6 a5 6 r3.2) (
      GX68_work_142 a6 a5 r3.2)) (
    GX68_work_142 a6 a5 r2.2)
def HX68_work_117 (a1 : Nat) (a2 : Nat) (a5 : Nat) (a6 : Int32) (s0 : Nat) (s1 : Int32) (M : FM) : Prop := (HX60_raise s0 s1 M ∧ True)
theorem gX68_work_117 (a1 : Nat) (a2 : Nat) (a5 : Nat) (a6 : Int32) (s0 : Nat) (s1 : Int32) (M : FM) (T : Ty M) (n_s0 : fm_is M 31 31 s0 = true) (n_a1 : fm_is M 39 39 a1 = true) (n_a2 : fm_is M 39 39 a2 = true) (n_a5 : fm_is M 39 39 a5 = true) (z_a6 : a6 = 0 ∨ a6 = 1) (h : HX68_work_117 a1 a2 a5 a6 s0 s1 M) : gd (FX68_work_117 fN a1 a2 a5 a6 s0 s1 M) (GX68_work_117 a1 a2 a5 a6 s0 s1 M) (OkV M) := by
  delta FX68_work_117 BX68_work_117
  refine gd_c n_s0 ?_
  refine gd_b (gX60_raise _ _ _ ⟨T.1, T.2⟩ n_s0 h.1) (fun K0 => ?_)
  have f1 := (ext_is K0.2 (Nat.zero_lt_succ _) n_a1)
  refine gd_c f1 ?_
  have f13 := (ext_is K0.2 (Nat.zero_lt_succ _) n_a1)
  have f14 := (tC_8 K0.1.1)
  refine gd_b (gX71_is _ _ _ ⟨K0.1.1, K0.1.2⟩ f13 f14 ) (fun K2 => ?_)
  refine gd_fi (fun c3_0 => ?_) (fun c3_0 => ?_)
  · have f4 := (ext_is K2.2.1 (Nat.zero_lt_succ _) (ext_is K0.2 (Nat.zero_lt_succ _) n_a2))
    refine gd_c f4 ?_
    have f10 := (ext_is K2.2.1 (Nat.zero_lt_succ _) (ext_is K0.2 (Nat.zero_lt_succ _) n_a2))
    have f11 := (tC_6 K2.1.1)
    refine gd_b (gX71_is _ _ _ ⟨K2.1.1, K2.1.2⟩ f10 f11 ) (fun K5 => ?_)
    refine gd_fi (fun c6_0 => ?_) (fun c6_0 => ?_)
    · have f7 := (ext_is K5.2.1 (Nat.zero_lt_succ _) (ext_is K2.2.1 (Nat.zero_lt_succ _) (ext_is K0.2 (Nat.zero_lt_succ _) n_a5)))
      have f8 := (tC_6 K5.1.1)
      exact gd_tV (ext_tr K0.2 (ext_tr K2.2.1 K5.2.1)) (gX68_work_151 _ _ _ _ ⟨K5.1.1, K5.1.2⟩ f7 f8 z_a6 )
    · have f9 := (ext_is K5.2.1 (Nat.zero_lt_succ _) (ext_is K2.2.1 (Nat.zero_lt_succ _) (ext_is K0.2 (Nat.zero_lt_succ _) n_a5)))
      exact gd_tV (ext_tr K0.2 (ext_tr K2.2.1 K5.2.1)) (gX68_work_142 _ _ _ ⟨K5.1.1, K5.1.2⟩ f9 z_a6 )
  · have f12 := (ext_is K2.2.1 (Nat.zero_lt_succ _) (ext_is K0.2 (Nat.zero_lt_succ _) n_a5))
    exact gd_tV (ext_tr K0.2 K2.2.1) (gX68_work_142 _ _ _ ⟨K2.1.1, K2.1.2⟩ f12 z_a6 )
noncomputable def GX68_work_116 (a1 : Nat) (a2 : Nat) (a5 : Nat) (a6 : Int32) (s0 : Nat) (M : FM) : FM :=
  GX68_work_117 a1 a2 a5 a6 s0 (Int32.ofInt 0) M
def HX68_work_116 (a1 : Nat) (a2 : Nat) (a5 : Nat) (a6 : Int32) (s0 : Nat) (M : FM) : Prop := HX68_work_117 a1 a2 a5 a6 s0 (Int32.ofInt 0) M
theorem gX68_work_116 (a1 : Nat) (a2 : Nat) (a5 : Nat) (a6 : Int32) (s0 : Nat) (M : FM) (T : Ty M) (n_s0 : fm_is M 31 31 s0 = true) (n_a1 : fm_is M 39 39 a1 = true) (n_a2 : fm_is M 39 39 a2 = true) (n_a5 : fm_is M 39 39 a5 = true) (z_a6 : a6 = 0 ∨ a6 = 1) (h : HX68_work_116 a1 a2 a5 a6 s0 M) : gd (FX68_work_116 fN a1 a2 a5 a6 s0 M) (GX68_work_116 a1 a2 a5 a6 s0 M) (OkV M) := by
  delta FX68_work_116 BX68_work_116
  exact gd_tV (ext_r _) (gX68_work_117 _ _ _ _ _ _ _ ⟨T.1, T.2⟩ n_s0 n_a1 n_a2 n_a5 z_a6 h)
noncomputable def GX68_work_89 (a1 : Nat) (a2 : Nat) (a4 : Nat) (a5 : Nat) (a6 : Int32) (M : FM) : FM :=
  let r1 : Int32 × FM := GX71_is a1 7 M
  fi (r1.1 = 0) (
    GX68_work_116 a1 a2 a5 a6 a4 r1.2) (
    let r2 : Int32 × FM := GX71_is a2 6 r1.2
    fi (r2.1 = 0) (
      GX68_work_116 a1 a2 a5 a6 a4 r2.2) (
      GX68_work_117 a1 a2 a5 a6 a4 (Int32.ofInt 8) r2.2))
def HX68_work_89 (a1 : Nat) (a2 : Nat) (a4 : Nat) (a5 : Nat) (a6 : Int32) (M : FM) : Prop := let r1 : Int32 × FM := GX71_is a1 7 M; ((r1.1 = 0 → HX68_work_116 a1 a2 a5 a6 a4 r1.2) ∧ (¬ (r1.1 = 0) → let r2 : Int32 × FM := GX71_is a2 6 r1.2; ((r2.1 = 0 → HX68_work_116 a1 a2 a5 a6 a4 r2.2) ∧ (¬ (r2.1 = 0) → HX68_work_117 a1 a2 a5 a6 a4 (Int32.ofInt 8) r2.2))))
theorem gX68_work_89 (a1 : Nat) (a2 : Nat) (a4 : Nat) (a5 : Nat) (a6 : Int32) (M : FM) (T : Ty M) (n_a1 : fm_is M 39 39 a1 = true) (n_a4 : fm_is M 31 31 a4 = true) (n_a2 : fm_is M 39 39 a2 = true) (n_a5 : fm_is M 39 39 a5 = true) (z_a6 : a6 = 0 ∨ a6 = 1) (h : HX68_work_89 a1 a2 a4 a5 a6 M) : gd (FX68_work_89 fN a1 a2 a4 a5 a6 M) (GX68_work_89 a1 a2 a4 a5 a6 M) (OkV M) := by
  delta FX68_work_89 BX68_work_89
  refine gd_c n_a1 ?_
  have f19 := (tC_7 T.1)
  refine gd_b (gX71_is _ _ _ ⟨T.1, T.2⟩ n_a1 f19 ) (fun K0 => ?_)
  refine gd_fi (fun c1_0 => ?_) (fun c1_0 => ?_)
  · have f2 := (ext_is K0.2.1 (Nat.zero_lt_succ _) n_a4)
    have f3 := (ext_is K0.2.1 (Nat.zero_lt_succ _) n_a1)
    have f4 := (ext_is K0.2.1 (Nat.zero_lt_succ _) n_a2)
    have f5 := (ext_is K0.2.1 (Nat.zero_lt_succ _) n_a5)
    exact gd_tV K0.2.1 (gX68_work_116 _ _ _ _ _ _ ⟨K0.1.1, K0.1.2⟩ f2 f3 f4 f5 z_a6 (h.1 c1_0))
  · have f6 := (ext_is K0.2.1 (Nat.zero_lt_succ _) n_a2)
    refine gd_c f6 ?_
    have f17 := (ext_is K0.2.1 (Nat.zero_lt_succ _) n_a2)
    have f18 := (tC_6 K0.1.1)
    refine gd_b (gX71_is _ _ _ ⟨K0.1.1, K0.1.2⟩ f17 f18 ) (fun K7 => ?_)
    refine gd_fi (fun c8_0 => ?_) (fun c8_0 => ?_)
    · have f9 := (ext_is K7.2.1 (Nat.zero_lt_succ _) (ext_is K0.2.1 (Nat.zero_lt_succ _) n_a4))
      have f10 := (ext_is K7.2.1 (Nat.zero_lt_succ _) (ext_is K0.2.1 (Nat.zero_lt_succ _) n_a1))
      have f11 := (ext_is K7.2.1 (Nat.zero_lt_succ _) (ext_is K0.2.1 (Nat.zero_lt_succ _) n_a2))
      have f12 := (ext_is K7.2.1 (Nat.zero_lt_succ _) (ext_is K0.2.1 (Nat.zero_lt_succ _) n_a5))
      exact gd_tV (ext_tr K0.2.1 K7.2.1) (gX68_work_116 _ _ _ _ _ _ ⟨K7.1.1, K7.1.2⟩ f9 f10 f11 f12 z_a6 ((h.2 c1_0).1 c8_0))
    · have f13 := (ext_is K7.2.1 (Nat.zero_lt_succ _) (ext_is K0.2.1 (Nat.zero_lt_succ _) n_a4))
      have f14 := (ext_is K7.2.1 (Nat.zero_lt_succ _) (ext_is K0.2.1 (Nat.zero_lt_succ _) n_a1))
      have f15 := (ext_is K7.2.1 (Nat.zero_lt_succ _) (ext_is K0.2.1 (Nat.zero_lt_succ _) n_a2))
      have f16 := (ext_is K7.2.1 (Nat.zero_lt_succ _) (ext_is K0.2.1 (Nat.zero_lt_succ _) n_a5))
      exact gd_tV (ext_tr K0.2.1 K7.2.1) (gX68_work_117 _ _ _ _ _ _ _ ⟨K7.1.1, K7.1.2⟩ f13 f14 f15 f16 z_a6 ((h.2 c1_0).2 c8_0))
noncomputable def GX68_work_49 (a1 : Nat) (a2 : Nat) (a4 : Nat) (a5 : Nat) (a6 : Int32) (M : FM) : FM :=
  let r1 : Int32 × FM := GX71_is a1 7 M
  fi (r1.1 = 0) (
    GX68_work_89 a1 a2 a4 a5 a6 r1.2) (
    let r2 : Int32 × FM := GX71_is a2 7 r1.2
    fi (r2.1 = 0) (
      GX68_work_89 a1 a2 a4 a5 a6 r2.2) (
      let M3 : FM := GX68_divide a1 a2 a5 r2.2
      let M4 : FM := GX71_become a5 7 a6 M3
      GX68_work_156 M4))
def HX68_work_49 (a1 : Nat) (a2 : Nat) (a4 : Nat) (a5 : Nat) (a6 : Int32) (M : FM) : Prop := let r1 : Int32 × FM := GX71_is a1 7 M; ((r1.1 = 0 → HX68_work_89 a1 a2 a4 a5 a6 r1.2) ∧ (¬ (r1.1 = 0) → let r2 : Int32 × FM := GX71_is a2 7 r1.2; ((r2.1 = 0 → HX68_work_89 a1 a2 a4 a5 a6 r2.2) ∧ (¬ (r2.1 = 0) → (HX68_divide a1 a2 a5 r2.2 ∧ True)))))
theorem gX68_work_49 (a1 : Nat) (a2 : Nat) (a4 : Nat) (a5 : Nat) (a6 : Int32) (M : FM) (T : Ty M) (n_a1 : fm_is M 39 39 a1 = true) (n_a4 : fm_is M 31 31 a4 = true) (n_a2 : fm_is M 39 39 a2 = true) (n_a5 : fm_is M 39 39 a5 = true) (z_a6 : a6 = 0 ∨ a6 = 1) (h : HX68_work_49 a1 a2 a4 a5 a6 M) : gd (FX68_work_49 fN a1 a2 a4 a5 a6 M) (GX68_work_49 a1 a2 a4 a5 a6 M) (OkV M) := by
  delta FX68_work_49 BX68_work_49
  refine gd_c n_a1 ?_
  have f20 := (tC_7 T.1)
  refine gd_b (gX71_is _ _ _ ⟨T.1, T.2⟩ n_a1 f20 ) (fun K0 => ?_)
  refine gd_fi (fun c1_0 => ?_) (fun c1_0 => ?_)
  · have f2 := (ext_is K0.2.1 (Nat.zero_lt_succ _) n_a1)
    have f3 := (ext_is K0.2.1 (Nat.zero_lt_succ _) n_a4)
    have f4 := (ext_is K0.2.1 (Nat.zero_lt_succ _) n_a2)
    have f5 := (ext_is K0.2.1 (Nat.zero_lt_succ _) n_a5)
    exact gd_tV K0.2.1 (gX68_work_89 _ _ _ _ _ _ ⟨K0.1.1, K0.1.2⟩ f2 f3 f4 f5 z_a6 (h.1 c1_0))
  · have f6 := (ext_is K0.2.1 (Nat.zero_lt_succ _) n_a2)
    refine gd_c f6 ?_
    have f18 := (ext_is K0.2.1 (Nat.zero_lt_succ _) n_a2)
    have f19 := (tC_7 K0.1.1)
    refine gd_b (gX71_is _ _ _ ⟨K0.1.1, K0.1.2⟩ f18 f19 ) (fun K7 => ?_)
    refine gd_fi (fun c8_0 => ?_) (fun c8_0 => ?_)
    · have f9 := (ext_is K7.2.1 (Nat.zero_lt_succ _) (ext_is K0.2.1 (Nat.zero_lt_succ _) n_a1))
      have f10 := (ext_is K7.2.1 (Nat.zero_lt_succ _) (ext_is K0.2.1 (Nat.zero_lt_succ _) n_a4))
      have f11 := (ext_is K7.2.1 (Nat.zero_lt_succ _) (ext_is K0.2.1 (Nat.zero_lt_succ _) n_a2))
      have f12 := (ext_is K7.2.1 (Nat.zero_lt_succ _) (ext_is K0.2.1 (Nat.zero_lt_succ _) n_a5))
      exact gd_tV (ext_tr K0.2.1 K7.2.1) (gX68_work_89 _ _ _ _ _ _ ⟨K7.1.1, K7.1.2⟩ f9 f10 f11 f12 z_a6 ((h.2 c1_0).1 c8_0))
    · refine gd_b (gX68_divide _ _ _ _ ((h.2 c1_0).2 c8_0).1) (fun K13 => ?_)
      have f14 := (ext_is K13.2 (Nat.zero_lt_succ _) (ext_is K7.2.1 (Nat.zero_lt_succ _) (ext_is K0.2.1 (Nat.zero_lt_succ _) n_a5)))
      refine gd_c f14 ?_
      have f16 := (ext_is K13.2 (Nat.zero_lt_succ _) (ext_is K7.2.1 (Nat.zero_lt_succ _) (ext_is K0.2.1 (Nat.zero_lt_succ _) n_a5)))
      have f17 := (tC_7 K13.1.1)
      refine gd_b (gX71_become _ _ _ _ ⟨K13.1.1, K13.1.2⟩ f16 f17 z_a6 ) (fun K15 => ?_)
      exact gd_tV (ext_tr K0.2.1 (ext_tr K7.2.1 (ext_tr K13.2 K15.2))) (gX68_work_156  _ ⟨K15.1.1, K15.1.2⟩  )
noncomputable def GX68_work_16 (a1 : Nat) (a2 : Nat) (a4 : Nat) (a5 : Nat) (s0 : Int32) (M : FM) : FM :=
  let x1 : Nat := (M.2.2 114 a1 0)
  let x2 : Nat := (M.2.2 114 a2 0)
  fi (x1 = x2) (
    let r3 : Int32 × FM := GX71_is a1 7 M
    fi (r3.1 = 0) (
      let M4 : FM := GX65_refuse a4 a5 r3.2
      GX68_work_156 M4) (
      GX68_work_49 a1 a2 a4 a5 s0 r3.2)) (
    GX68_work_49 a1 a2 a4 a5 s0 M)
def HX68_work_16 (a1 : Nat) (a2 : Nat) (a4 : Nat) (a5 : Nat) (s0 : Int32) (M : FM) : Prop := let x1 : Nat := (M.2.2 114 a1 0); let x2 : Nat := (M.2.2 114 a2 0); ((x1 = x2 → let r3 : Int32 × FM := GX71_is a1 7 M; ((r3.1 = 0 → (HX65_refuse a4 a5 r3.2 ∧ True)) ∧ (¬ (r3.1 = 0) → HX68_work_49 a1 a2 a4 a5 s0 r3.2))) ∧ (¬ (x1 = x2) → HX68_work_49 a1 a2 a4 a5 s0 M))
theorem gX68_work_16 (a1 : Nat) (a2 : Nat) (a4 : Nat) (a5 : Nat) (s0 : Int32) (M : FM) (T : Ty M) (n_a1 : fm_is M 39 39 a1 = true) (n_a2 : fm_is M 39 39 a2 = true) (n_a4 : fm_is M 31 31 a4 = true) (n_a5 : fm_is M 39 39 a5 = true) (z_s0 : s0 = 0 ∨ s0 = 1) (h : HX68_work_16 a1 a2 a4 a5 s0 M) : gd (FX68_work_16 fN a1 a2 a4 a5 s0 M) (GX68_work_16 a1 a2 a4 a5 s0 M) (OkV M) := by
  delta FX68_work_16 BX68_work_16
  refine gd_c n_a1 ?_
  refine gd_c n_a2 ?_
  refine gd_c (Or.inl ⟨(ty_enum T.1 (fm_w (lo' := 1) (hi' := 6) rfl rfl (tN_114 T.1 n_a1))), (ty_enum T.1 (fm_w (lo' := 1) (hi' := 6) rfl rfl (tN_114 T.1 n_a2)))⟩) ?_
  refine gd_fi (fun c0_0 => ?_) (fun c0_0 => ?_)
  · refine gd_c n_a1 ?_
    have f10 := (tC_7 T.1)
    refine gd_b (gX71_is _ _ _ ⟨T.1, T.2⟩ n_a1 f10 ) (fun K1 => ?_)
    refine gd_fi (fun c2_0 => ?_) (fun c2_0 => ?_)
    · have f4 := (ext_is K1.2.1 (Nat.zero_lt_succ _) n_a4)
      have f5 := (ext_is K1.2.1 (Nat.zero_lt_succ _) n_a5)
      refine gd_b (gX65_refuse _ _ _ ⟨K1.1.1, K1.1.2⟩ f4 f5 ((h.1 c0_0).1 c2_0).1) (fun K3 => ?_)
      exact gd_tV (ext_tr K1.2.1 K3.2) (gX68_work_156  _ ⟨K3.1.1, K3.1.2⟩  )
    · have f6 := (ext_is K1.2.1 (Nat.zero_lt_succ _) n_a1)
      have f7 := (ext_is K1.2.1 (Nat.zero_lt_succ _) n_a4)
      have f8 := (ext_is K1.2.1 (Nat.zero_lt_succ _) n_a2)
      have f9 := (ext_is K1.2.1 (Nat.zero_lt_succ _) n_a5)
      exact gd_tV K1.2.1 (gX68_work_49 _ _ _ _ _ _ ⟨K1.1.1, K1.1.2⟩ f6 f7 f8 f9 z_s0 ((h.1 c0_0).2 c2_0))
  · exact gd_tV (ext_r _) (gX68_work_49 _ _ _ _ _ _ ⟨T.1, T.2⟩ n_a1 n_a4 n_a2 n_a5 z_s0 (h.2 c0_0))
noncomputable def GX68_work_0 (a0 : Nat) (a1 : Nat) (a2 : Nat) (a3 : Nat) (a4 : Nat) (a5 : Nat) (M : FM) : FM :=
  fi ((M.1 115 a1 0) = (M.1 115 a2 0)) (
    GX68_work_16 a1 a2 a4 a5 (Int32.ofInt 0) M) (
    GX68_work_16 a1 a2 a4 a5 (Int32.ofInt 1) M)
def HX68_work_0 (a0 : Nat) (a1 : Nat) (a2 : Nat) (a3 : Nat) (a4 : Nat) (a5 : Nat) (M : FM) : Prop := (((M.1 115 a1 0) = (M.1 115 a2 0) → HX68_work_16 a1 a2 a4 a5 (Int32.ofInt 0) M) ∧ (¬ ((M.1 115 a1 0) = (M.1 115 a2 0)) → HX68_work_16 a1 a2 a4 a5 (Int32.ofInt 1) M))
theorem gX68_work_0 (a0 : Nat) (a1 : Nat) (a2 : Nat) (a3 : Nat) (a4 : Nat) (a5 : Nat) (M : FM) (T : Ty M) (n_a1 : fm_is M 39 39 a1 = true) (n_a2 : fm_is M 39 39 a2 = true) (n_a4 : fm_is M 31 31 a4 = true) (n_a5 : fm_is M 39 39 a5 = true) (h : HX68_work_0 a0 a1 a2 a3 a4 a5 M) : gd (FX68_work_0 fN a0 a1 a2 a3 a4 a5 M) (GX68_work_0 a0 a1 a2 a3 a4 a5 M) (OkV M) := by
  delta FX68_work_0 BX68_work_0
  refine gd_c n_a1 ?_
  refine gd_c n_a2 ?_
  refine gd_fi (fun c0_0 => ?_) (fun c0_0 => ?_)
  · exact gd_tV (ext_r _) (gX68_work_16 _ _ _ _ _ _ ⟨T.1, T.2⟩ n_a1 n_a2 n_a4 n_a5 fz_0 (h.1 c0_0))
  · exact gd_tV (ext_r _) (gX68_work_16 _ _ _ _ _ _ ⟨T.1, T.2⟩ n_a1 n_a2 n_a4 n_a5 fz_1 (h.2 c0_0))
noncomputable def GX68_work (a0 : Nat) (a1 : Nat) (a2 : Nat) (a3 : Nat) (a4 : Nat) (a5 : Nat) (M : FM) : FM := GX68_work_0 a0 a1 a2 a3 a4 a5 M
def HX68_work (a0 : Nat) (a1 : Nat) (a2 : Nat) (a3 : Nat) (a4 : Nat) (a5 : Nat) (M : FM) : Prop := HX68_work_0 a0 a1 a2 a3 a4 a5 M
theorem gX68_work (a0 : Nat) (a1 : Nat) (a2 : Nat) (a3 : Nat) (a4 : Nat) (a5 : Nat) (M : FM) (T : Ty M) (n_a1 : fm_is M 39 39 a1 = true) (n_a2 : fm_is M 39 39 a2 = true) (n_a4 : fm_is M 31 31 a4 = true) (n_a5 : fm_is M 39 39 a5 = true) (h : HX68_work a0 a1 a2 a3 a4 a5 M) : gd (FX68_work fN a0 a1 a2 a3 a4 a5 M) (GX68_work a0 a1 a2 a3 a4 a5 M) (OkV M) := gX68_work_0 a0 a1 a2 a3 a4 a5 M T n_a1 n_a2 n_a4 n_a5 h
def kX69_dig (k51 : Nat → Nat → Int64 → Int64 → Int64 → Int32 → FM → Option (FM)) : (Nat × Nat × Int64 × Int64 × Int64 × Int32 × FM) ⊕ (FM) → Option (FM)
  | .inl (v0, v1, v2, v3, v4, v5, M') => k51 v0 v1 v2 v3 v4 v5 M'
  | .inr (r) => some r
def pX69_dig (M : FM) : (Nat × Nat × Int64 × Int64 × Int64 × Int32 × FM) ⊕ (FM) → Prop
  | .inl (_, _, _, _, _, _, M') => OkV M M'
  | .inr (r) => OkV M r
theorem pX69_dig_t {M M1 : FM} (e : Ext M M1) : ∀ y, pX69_dig M1 y → pX69_dig M y
  | .inl (_, _, _, _, _, _, _), h => ⟨h.1, ext_tr e h.2⟩
  | .inr (r), h => ⟨h.1, ext_tr e h.2⟩
noncomputable def GX69_dig_152 (a0 : Nat) (a1 : Nat) (s0 : Nat) (s1 : Int64) (s2 : Int64) (M : FM) : (Nat × Nat × Int64 × Int64 × Int64 × Int32 × FM) ⊕ (FM) :=
  let M1 : FM := GX62_set s0 (s1 ||| s2) M
  let M2 : FM := fm_sI M1 116 a1 0 ((((M1.1 116 a0 0) - (Int32.ofInt 52)) >>> ((Int32.ofInt 1) &&& 31)) - (Int32.ofInt 1))
  (.inr M2)
theorem gX69_dig_152 (k51 : Nat → Nat → Int64 → Int64 → Int64 → Int32 → FM → Option (FM)) (a0 : Nat) (a1 : Nat) (s0 : Nat) (s1 : Int64) (s2 : Int64) (M : FM) (T : Ty M) (n_s0 : fm_is M 40 40 s0 = true) (n_a0 : fm_is M 39 39 a0 = true) (n_a1 : fm_is M 39 39 a1 = true) : gs (FX69_dig_152 fN k51 a0 a1 s0 s1 s2 M) (GX69_dig_152 a0 a1 s0 s1 s2 M) (kX69_dig k51) (pX69_dig M) := by
  delta FX69_dig_152 BX69_dig_152
  refine gs_c n_s0 ?_
  refine gs_b (gX62_set _ _ _ ⟨T.1, T.2⟩ n_s0 ) (fun K0 => ?_)
  have f1 := (ext_is K0.2 (Nat.zero_lt_succ _) n_a0)
  refine gs_c f1 ?_
  have f2 := (ext_is K0.2 (Nat.zero_lt_succ _) n_a1)
  refine gs_c f2 ?_
  exact And.intro rfl (And.intro (And.intro K0.1.1 (tyb_sI (f := 116) rfl K0.1.2)) ((ext_tr K0.2 (ext_dI (ext_r _)))))
noncomputable def GX69_dig_126 (a0 : Nat) (a1 : Nat) (a2 : Int64) (a4 : Int64) (a6 : Int64) (a8 : Int32) (M : FM) : (Nat × Nat × Int64 × Int64 × Int64 × Int32 × FM) ⊕ (FM) :=
  let x1 : Int32 := a8 + (Int32.ofInt 1)
  (.inl (a0, a1, a2, a4, a6, x1, M))
theorem gX69_dig_126 (k51 : Nat → Nat → Int64 → Int64 → Int64 → Int32 → FM → Option (FM)) (a0 : Nat) (a1 : Nat) (a2 : Int64) (a4 : Int64) (a6 : Int64) (a8 : Int32) (M : FM) (T : Ty M) : gs (FX69_dig_126 fN k51 a0 a1 a2 a4 a6 a8 M) (GX69_dig_126 a0 a1 a2 a4 a6 a8 M) (kX69_dig k51) (pX69_dig M) := by
  delta FX69_dig_126 BX69_dig_126
  exact And.intro rfl (And.intro (And.intro T.1 T.2) ((ext_r _)))
noncomputable def GX69_dig_88 (a0 : Nat) (a1 : Nat) (a2 : Int64) (a6 : Int64) (a8 : Int32) (s0 : Int64) (s1 : Int64) (M : FM) : (Nat × Nat × Int64 × Int64 × Int64 × Int32 × FM) ⊕ (FM) :=
  let x1 : Int64 := (s0 ||| s1)
  let x2 : Int64 := ((a6 <<< ((Int32.ofInt 2).toInt64 &&& 63)) ||| (Int64.ofInt 1))
  let x3 : Int64 := (a6 <<< ((Int32.ofInt 1).toInt64 &&& 63))
  fi ((lg_cmp x1 x2) < 0) (
    GX69_dig_126 a0 a1 a2 x1 x3 a8 M) (
    let x4 : Int64 := (x1 - x2)
    let x5 : Int64 := (x3 ||| (Int64.ofInt 1))
    GX69_dig_126 a0 a1 a2 x4 x5 a8 M)
theorem gX69_dig_88 (k51 : Nat → Nat → Int64 → Int64 → Int64 → Int32 → FM → Option (FM)) (a0 : Nat) (a1 : Nat) (a2 : Int64) (a6 : Int64) (a8 : Int32) (s0 : Int64) (s1 : Int64) (M : FM) (T : Ty M) : gs (FX69_dig_88 fN k51 a0 a1 a2 a6 a8 s0 s1 M) (GX69_dig_88 a0 a1 a2 a6 a8 s0 s1 M) (kX69_dig k51) (pX69_dig M) := by
  delta FX69_dig_88 BX69_dig_88
  refine gs_fi (fun c0_0 => ?_) (fun c0_0 => ?_)
  · exact gs_t (pX69_dig_t (ext_r _)) (gX69_dig_126 k51 _ _ _ _ _ _ _ ⟨T.1, T.2⟩  )
  · exact gs_t (pX69_dig_t (ext_r _)) (gX69_dig_126 k51 _ _ _ _ _ _ _ ⟨T.1, T.2⟩  )
noncomputable def GX69_dig_34 (a0 : Nat) (a1 : Nat) (M : FM) : (Nat × Nat × Int64 × Int64 × Int64 × Int32 × FM) ⊕ (FM) :=
  let x1 : Nat := (M.2.2 117 a0 0)
  let x2 : Int64 := (M.2.1 120 x1 0)
  (.inl (a0, a1, x2, (Int64.ofInt 0), (Int64.ofInt 0), (Int32.ofInt 0), M))
theorem gX69_dig_34 (k51 : Nat → Nat → Int64 → Int64 → Int64 → Int32 → FM → Option (FM)) (a0 : Nat) (a1 : Nat) (M : FM) (T : Ty M) (n_a0 : fm_is M 39 39 a0 = true) : gs (FX69_dig_34 fN k51 a0 a1 M) (GX69_dig_34 a0 a1 M) (kX69_dig k51) (pX69_dig M) := by
  delta FX69_dig_34 BX69_dig_34
  refine gs_c n_a0 ?_
  have f0 := (tN_117 T.1 n_a0)
  refine gs_c f0 ?_
  exact And.intro rfl (And.intro (And.intro T.1 T.2) ((ext_r _)))
noncomputable def GX69_dig_0 (a0 : Nat) (a1 : Nat) (M : FM) : (Nat × Nat × Int64 × Int64 × Int64 × Int32 × FM) ⊕ (FM) :=
  let M1 : FM := GX71_lift a0 (Int32.ofInt 61) M
  fi (((M1.1 116 a0 0) &&& (Int32.ofInt 1)) = (Int32.ofInt 1)) (
    let x2 : Nat := (M1.2.2 117 a0 0)
    let M3 : FM := GX62_left x2 (Int32.ofInt 1) M1
    let M4 : FM := fm_sI M3 116 a0 0 ((M3.1 116 a0 0) - (Int32.ofInt 1))
    GX69_dig_34 a0 a1 M4) (
    GX69_dig_34 a0 a1 M1)
def HX69_dig_0 (a0 : Nat) (a1 : Nat) (M : FM) : Prop := (HX71_lift a0 (Int32.ofInt 61) M ∧ True)
theorem gX69_dig_0 (k51 : Nat → Nat → Int64 → Int64 → Int64 → Int32 → FM → Option (FM)) (a0 : Nat) (a1 : Nat) (M : FM) (T : Ty M) (n_a0 : fm_is M 39 39 a0 = true) (h : HX69_dig_0 a0 a1 M) : gs (FX69_dig_0 fN k51 a0 a1 M) (GX69_dig_0 a0 a1 M) (kX69_dig k51) (pX69_dig M) := by
  delta FX69_dig_0 BX69_dig_0
  refine gs_c n_a0 ?_
  refine gs_b (gX71_lift _ _ _ ⟨T.1, T.2⟩ n_a0 h.1) (fun K0 => ?_)
  have f1 := (ext_is K0.2 (Nat.zero_lt_succ _) n_a0)
  refine gs_c f1 ?_
  refine gs_fi (fun c2_0 => ?_) (fun c2_0 => ?_)
  · have f3 := (ext_is K0.2 (Nat.zero_lt_succ _) n_a0)
    refine gs_c f3 ?_
    have f4 := (tN_117 K0.1.1 (ext_is K0.2 (Nat.zero_lt_succ _) n_a0))
    refine gs_c f4 ?_
    have f9 := (tN_117 K0.1.1 (ext_is K0.2 (Nat.zero_lt_succ _) n_a0))
    refine gs_b (gX62_left _ _ _ ⟨K0.1.1, K0.1.2⟩ f9 ) (fun K5 => ?_)
    have f6 := (ext_is K5.2 (Nat.zero_lt_succ _) (ext_is K0.2 (Nat.zero_lt_succ _) n_a0))
    refine gs_c f6 ?_
    have f7 := (ext_is K5.2 (Nat.zero_lt_succ _) (ext_is K0.2 (Nat.zero_lt_succ _) n_a0))
    refine gs_c f7 ?_
    have f8 := (ext_is K5.2 (Nat.zero_lt_succ _) (ext_is K0.2 (Nat.zero_lt_succ _) n_a0))
    exact gs_t (pX69_dig_t (ext_tr K0.2 (ext_tr K5.2 (ext_dI (ext_r _))))) (gX69_dig_34 k51 _ _ _ ⟨K5.1.1, (tyb_sI (f := 116) rfl K5.1.2)⟩ f8 )
  · have f10 := (ext_is K0.2 (Nat.zero_lt_succ _) n_a0)
    exact gs_t (pX69_dig_t K0.2) (gX69_dig_34 k51 _ _ _ ⟨K0.1.1, K0.1.2⟩ f10 )
noncomputable def GX69_dig_51 (a0 : Nat) (a1 : Nat) (a2 : Int64) (a4 : Int64) (a6 : Int64) (a8 : Int32) (M : FM) : (Nat × Nat × Int64 × Int64 × Int64 × Int32 × FM) ⊕ (FM) :=
  fi ((Int32.ofInt 58) ≤ a8) (
    fi ((lg_cmp a4 (Int64.ofInt 0)) = 0) (
      GX69_dig_152 a0 a1 (M.2.2 117 a1 0) (a6 <<< ((Int32.ofInt 1).toInt64 &&& 63)) (Int64.ofInt 0) M) (
      GX69_dig_152 a0 a1 (M.2.2 117 a1 0) (a6 <<< ((Int32.ofInt 1).toInt64 &&& 63)) (Int64.ofInt 1) M)) (
    let x1 : Int32 := ((Int32.ofInt 62) - ((Int32.ofInt 2) * a8))
    fi (x1 < 0) (
      GX69_dig_88 a0 a1 a2 a6 a8 (a4 <<< ((Int32.ofInt 2).toInt64 &&& 63)) (Int64.ofInt 0) M) (
      GX69_dig_88 a0 a1 a2 a6 a8 (a4 <<< ((Int32.ofInt 2).toInt64 &&& 63)) ((a2.toUInt64 >>> (x1.toInt64.toUInt64 &&& Int64.toUInt64 63)).toInt64 &&& (Int64.ofInt 3)) M))
theorem gX69_dig_51 (k51 : Nat → Nat → Int64 → Int64 → Int64 → Int32 → FM → Option (FM)) (a0 : Nat) (a1 : Nat) (a2 : Int64) (a4 : Int64) (a6 : Int64) (a8 : Int32) (M : FM) (T : Ty M) (n_a1 : fm_is M 39 39 a1 = true) (n_a0 : fm_is M 39 39 a0 = true) : gs (FX69_dig_51 fN k51 a0 a1 a2 a4 a6 a8 M) (GX69_dig_51 a0 a1 a2 a4 a6 a8 M) (kX69_dig k51) (pX69_dig M) := by
  delta FX69_dig_51 BX69_dig_51
  refine gs_fi (fun c0_0 => ?_) (fun c0_0 => ?_)
  · refine gs_c n_a1 ?_
    refine gs_fi (fun c1_0 => ?_) (fun c1_0 => ?_)
    · have f2 := (tN_117 T.1 n_a1)
      exact gs_t (pX69_dig_t (ext_r _)) (gX69_dig_152 k51 _ _ _ _ _ _ ⟨T.1, T.2⟩ f2 n_a0 n_a1 )
    · have f3 := (tN_117 T.1 n_a1)
      exact gs_t (pX69_dig_t (ext_r _)) (gX69_dig_152 k51 _ _ _ _ _ _ ⟨T.1, T.2⟩ f3 n_a0 n_a1 )
  · refine gs_fi (fun c4_0 => ?_) (fun c4_0 => ?_)
    · exact gs_t (pX69_dig_t (ext_r _)) (gX69_dig_88 k51 _ _ _ _ _ _ _ _ ⟨T.1, T.2⟩  )
    · exact gs_t (pX69_dig_t (ext_r _)) (gX69_dig_88 k51 _ _ _ _ _ _ _ _ ⟨T.1, T.2⟩  )
noncomputable def GX69_dig (a0 : Nat) (a1 : Nat) (M : FM) : FM := (FX69_dig fN a0 a1 M).getD M
def HX69_dig (a0 : Nat) (a1 : Nat) (M : FM) : Prop := ∃ r, FX69_dig fN a0 a1 M = some r ∧ OkV M r
theorem gX69_dig (a0 : Nat) (a1 : Nat) (M : FM) (h : HX69_dig a0 a1 M) : gd (FX69_dig fN a0 a1 M) (GX69_dig a0 a1 M) (OkV M) := gd_op h
noncomputable def GX69_work_68 (M : FM) : FM :=
  M
theorem gX69_work_68 (M : FM) (T : Ty M) : gd (FX69_work_68 fN M) (GX69_work_68 M) (OkV M) := by
  delta FX69_work_68 BX69_work_68
  exact ⟨rfl, ⟨T.1, T.2⟩, (ext_r _)⟩
noncomputable def GX69_work_27 (a1 : Nat) (a5 : Nat) (M : FM) : FM :=
  let r1 : Int32 × FM := GX71_is a1 7 M
  fi (r1.1 = 0) (
    let M2 : FM := GX71_become a5 (r1.2.2.2 114 a1 0) (r1.2.1 115 a1 0) r1.2
    GX69_work_68 M2) (
    let M3 : FM := GX71_become a5 7 (Int32.ofInt 0) r1.2
    let M4 : FM := GX69_dig a1 a5 M3
    GX69_work_68 M4)
def HX69_work_27 (a1 : Nat) (a5 : Nat) (M : FM) : Prop := let r1 : Int32 × FM := GX71_is a1 7 M; ((r1.1 = 0 → True) ∧ (¬ (r1.1 = 0) → let M3 : FM := GX71_become a5 7 (Int32.ofInt 0) r1.2; (HX69_dig a1 a5 M3 ∧ True)))
theorem gX69_work_27 (a1 : Nat) (a5 : Nat) (M : FM) (T : Ty M) (n_a1 : fm_is M 39 39 a1 = true) (n_a5 : fm_is M 39 39 a5 = true) (h : HX69_work_27 a1 a5 M) : gd (FX69_work_27 fN a1 a5 M) (GX69_work_27 a1 a5 M) (OkV M) := by
  delta FX69_work_27 BX69_work_27
  refine gd_c n_a1 ?_
  have f13 := (tC_7 T.1)
  refine gd_b (gX71_is _ _ _ ⟨T.1, T.2⟩ n_a1 f13 ) (fun K0 => ?_)
  refine gd_fi (fun c1_0 => ?_) (fun c1_0 => ?_)
  · have f2 := (ext_is K0.2.1 (Nat.zero_lt_succ _) n_a1)
    refine gd_c f2 ?_
    have f3 := (ext_is K0.2.1 (Nat.zero_lt_succ _) n_a1)
    refine gd_c f3 ?_
    have f4 := (ext_is K0.2.1 (Nat.zero_lt_succ _) n_a5)
    refine gd_c f4 ?_
    have f6 := (ext_is K0.2.1 (Nat.zero_lt_succ _) n_a5)
    have f7 := (tN_114 K0.1.1 (ext_is K0.2.1 (Nat.zero_lt_succ _) n_a1))
    refine gd_b (gX71_become _ _ _ _ ⟨K0.1.1, K0.1.2⟩ f6 f7 (tB_115 K0.1.2 _) ) (fun K5 => ?_)
    exact gd_tV (ext_tr K0.2.1 K5.2) (gX69_work_68  _ ⟨K5.1.1, K5.1.2⟩  )
  · have f8 := (ext_is K0.2.1 (Nat.zero_lt_succ _) n_a5)
    refine gd_c f8 ?_
    have f11 := (ext_is K0.2.1 (Nat.zero_lt_succ _) n_a5)
    have f12 := (tC_7 K0.1.1)
    refine gd_b (gX71_become _ _ _ _ ⟨K0.1.1, K0.1.2⟩ f11 f12 fz_0 ) (fun K9 => ?_)
    refine gd_b (gX69_dig _ _ _ (h.2 c1_0).1) (fun K10 => ?_)
    exact gd_tV (ext_tr K0.2.1 (ext_tr K9.2 K10.2)) (gX69_work_68  _ ⟨K10.1.1, K10.1.2⟩  )
noncomputable def GX69_work_0 (a0 : Nat) (a1 : Nat) (a2 : Nat) (a3 : Nat) (a4 : Nat) (a5 : Nat) (M : FM) : FM :=
  fi ((M.1 115 a1 0) = 0) (
    GX69_work_27 a1 a5 M) (
    let r1 : Int32 × FM := GX71_is a1 6 M
    fi (r1.1 = 0) (
      let M2 : FM := GX65_refuse a4 a5 r1.2
      GX69_work_68 M2) (
      GX69_work_27 a1 a5 r1.2))
def HX69_work_0 (a0 : Nat) (a1 : Nat) (a2 : Nat) (a3 : Nat) (a4 : Nat) (a5 : Nat) (M : FM) : Prop := (((M.1 115 a1 0) = 0 → HX69_work_27 a1 a5 M) ∧ (¬ ((M.1 115 a1 0) = 0) → let r1 : Int32 × FM := GX71_is a1 6 M; ((r1.1 = 0 → (HX65_refuse a4 a5 r1.2 ∧ True)) ∧ (¬ (r1.1 = 0) → HX69_work_27 a1 a5 r1.2))))
theorem gX69_work_0 (a0 : Nat) (a1 : Nat) (a2 : Nat) (a3 : Nat) (a4 : Nat) (a5 : Nat) (M : FM) (T : Ty M) (n_a1 : fm_is M 39 39 a1 = true) (n_a5 : fm_is M 39 39 a5 = true) (n_a4 : fm_is M 31 31 a4 = true) (h : HX69_work_0 a0 a1 a2 a3 a4 a5 M) : gd (FX69_work_0 fN a0 a1 a2 a3 a4 a5 M) (GX69_work_0 a0 a1 a2 a3 a4 a5 M) (OkV M) := by
  delta FX69_work_0 BX69_work_0
  refine gd_c n_a1 ?_
  refine gd_fi (fun c0_0 => ?_) (fun c0_0 => ?_)
  · exact gd_tV (ext_r _) (gX69_work_27 _ _ _ ⟨T.1, T.2⟩ n_a1 n_a5 (h.1 c0_0))
  · refine gd_c n_a1 ?_
    have f8 := (tC_6 T.1)
    refine gd_b (gX71_is _ _ _ ⟨T.1, T.2⟩ n_a1 f8 ) (fun K1 => ?_)
    refine gd_fi (fun c2_0 => ?_) (fun c2_0 => ?_)
    · have f4 := (ext_is K1.2.1 (Nat.zero_lt_succ _) n_a4)
      have f5 := (ext_is K1.2.1 (Nat.zero_lt_succ _) n_a5)
      refine gd_b (gX65_refuse _ _ _ ⟨K1.1.1, K1.1.2⟩ f4 f5 ((h.2 c0_0).1 c2_0).1) (fun K3 => ?_)
      exact gd_tV (ext_tr K1.2.1 K3.2) (gX69_work_68  _ ⟨K3.1.1, K3.1.2⟩  )
    · have f6 := (ext_is K1.2.1 (Nat.zero_lt_succ _) n_a1)
      have f7 := (ext_is K1.2.1 (Nat.zero_lt_succ _) n_a5)
      exact gd_tV K1.2.1 (gX69_work_27 _ _ _ ⟨K1.1.1, K1.1.2⟩ f6 f7 ((h.2 c0_0).2 c2_0))
noncomputable def GX69_work (a0 : Nat) (a1 : Nat) (a2 : Nat) (a3 : Nat) (a4 : Nat) (a5 : Nat) (M : FM) : FM := GX69_work_0 a0 a1 a2 a3 a4 a5 M
def HX69_work (a0 : Nat) (a1 : Nat) (a2 : Nat) (a3 : Nat) (a4 : Nat) (a5 : Nat) (M : FM) : Prop := HX69_work_0 a0 a1 a2 a3 a4 a5 M
theorem gX69_work (a0 : Nat) (a1 : Nat) (a2 : Nat) (a3 : Nat) (a4 : Nat) (a5 : Nat) (M : FM) (T : Ty M) (n_a1 : fm_is M 39 39 a1 = true) (n_a5 : fm_is M 39 39 a5 = true) (n_a4 : fm_is M 31 31 a4 = true) (h : HX69_work a0 a1 a2 a3 a4 a5 M) : gd (FX69_work fN a0 a1 a2 a3 a4 a5 M) (GX69_work a0 a1 a2 a3 a4 a5 M) (OkV M) := gX69_work_0 a0 a1 a2 a3 a4 a5 M T n_a1 n_a5 n_a4 h
noncomputable def GX62_copy_0 (a0 : Nat) (a1 : Nat) (M : FM) : FM :=
  let M1 : FM := fm_sL M 119 a0 0 (M.2.1 119 a1 0)
  let M2 : FM := fm_sL M1 120 a0 0 (M1.2.1 120 a1 0)
  M2
theorem gX62_copy_0 (a0 : Nat) (a1 : Nat) (M : FM) (T : Ty M) (n_a1 : fm_is M 40 40 a1 = true) (n_a0 : fm_is M 40 40 a0 = true) : gd (FX62_copy_0 a0 a1 M) (GX62_copy_0 a0 a1 M) (OkV M) := by
  delta FX62_copy_0 BX62_copy_0
  refine gd_c n_a1 ?_
  refine gd_c n_a0 ?_
  refine gd_c n_a1 ?_
  refine gd_c n_a0 ?_
  exact ⟨rfl, ⟨T.1, T.2⟩, (ext_dL (ext_dL (ext_r _)))⟩
noncomputable def GX62_copy (a0 : Nat) (a1 : Nat) (M : FM) : FM := GX62_copy_0 a0 a1 M
theorem gX62_copy (a0 : Nat) (a1 : Nat) (M : FM) (T : Ty M) (n_a1 : fm_is M 40 40 a1 = true) (n_a0 : fm_is M 40 40 a0 = true) : gd (FX62_copy a0 a1 M) (GX62_copy a0 a1 M) (OkV M) := gX62_copy_0 a0 a1 M T n_a1 n_a0 
noncomputable def GX71_copy_0 (a0 : Nat) (a1 : Nat) (M : FM) : FM :=
  let M1 : FM := GX71_become a0 (M.2.2 114 a1 0) (M.1 115 a1 0) M
  let M2 : FM := fm_sI M1 116 a0 0 (M1.1 116 a1 0)
  let x3 : Nat := (M2.2.2 117 a0 0)
  let M4 : FM := GX62_copy x3 (M2.2.2 117 a1 0) M2
  M4
theorem gX71_copy_0 (a0 : Nat) (a1 : Nat) (M : FM) (T : Ty M) (n_a1 : fm_is M 39 39 a1 = true) (n_a0 : fm_is M 39 39 a0 = true) : gd (FX71_copy_0 a0 a1 M) (GX71_copy_0 a0 a1 M) (OkV M) := by
  delta FX71_copy_0 BX71_copy_0
  refine gd_c n_a1 ?_
  refine gd_c n_a1 ?_
  refine gd_c n_a0 ?_
  have f9 := (tN_114 T.1 n_a1)
  refine gd_b (gX71_become _ _ _ _ ⟨T.1, T.2⟩ n_a0 f9 (tB_115 T.2 _) ) (fun K0 => ?_)
  have f1 := (ext_is K0.2 (Nat.zero_lt_succ _) n_a1)
  refine gd_c f1 ?_
  have f2 := (ext_is K0.2 (Nat.zero_lt_succ _) n_a0)
  refine gd_c f2 ?_
  have f3 := (ext_is K0.2 (Nat.zero_lt_succ _) n_a0)
  refine gd_c f3 ?_
  have f4 := (ext_is K0.2 (Nat.zero_lt_succ _) n_a1)
  refine gd_c f4 ?_
  have f5 := (tN_117 K0.1.1 (ext_is K0.2 (Nat.zero_lt_succ _) n_a0))
  refine gd_c f5 ?_
  have f7 := (tN_117 K0.1.1 (ext_is K0.2 (Nat.zero_lt_succ _) n_a1))
  have f8 := (tN_117 K0.1.1 (ext_is K0.2 (Nat.zero_lt_succ _) n_a0))
  refine gd_b (gX62_copy _ _ _ ⟨K0.1.1, (tyb_sI (f := 116) rfl K0.1.2)⟩ f7 f8 ) (fun K6 => ?_)
  exact ⟨rfl, ⟨K6.1.1, K6.1.2⟩, (ext_tr K0.2 (ext_dI K6.2))⟩
noncomputable def GX71_copy (a0 : Nat) (a1 : Nat) (M : FM) : FM := GX71_copy_0 a0 a1 M
theorem gX71_copy (a0 : Nat) (a1 : Nat) (M : FM) (T : Ty M) (n_a1 : fm_is M 39 39 a1 = true) (n_a0 : fm_is M 39 39 a0 = true) : gd (FX71_copy a0 a1 M) (GX71_copy a0 a1 M) (OkV M) := gX71_copy_0 a0 a1 M T n_a1 n_a0 
noncomputable def GX70_work_0 (a0 : Nat) (a1 : Nat) (a2 : Nat) (a3 : Nat) (a4 : Nat) (a5 : Nat) (M : FM) : FM :=
  let M1 : FM := GX71_copy a5 a1 M
  M1
theorem gX70_work_0 (a0 : Nat) (a1 : Nat) (a2 : Nat) (a3 : Nat) (a4 : Nat) (a5 : Nat) (M : FM) (T : Ty M) (n_a5 : fm_is M 39 39 a5 = true) (n_a1 : fm_is M 39 39 a1 = true) : gd (FX70_work_0 a0 a1 a2 a3 a4 a5 M) (GX70_work_0 a0 a1 a2 a3 a4 a5 M) (OkV M) := by
  delta FX70_work_0 BX70_work_0
  refine gd_c n_a5 ?_
  refine gd_b (gX71_copy _ _ _ ⟨T.1, T.2⟩ n_a1 n_a5 ) (fun K0 => ?_)
  exact ⟨rfl, ⟨K0.1.1, K0.1.2⟩, K0.2⟩
noncomputable def GX70_work (a0 : Nat) (a1 : Nat) (a2 : Nat) (a3 : Nat) (a4 : Nat) (a5 : Nat) (M : FM) : FM := GX70_work_0 a0 a1 a2 a3 a4 a5 M
theorem gX70_work (a0 : Nat) (a1 : Nat) (a2 : Nat) (a3 : Nat) (a4 : Nat) (a5 : Nat) (M : FM) (T : Ty M) (n_a5 : fm_is M 39 39 a5 = true) (n_a1 : fm_is M 39 39 a1 = true) : gd (FX70_work a0 a1 a2 a3 a4 a5 M) (GX70_work a0 a1 a2 a3 a4 a5 M) (OkV M) := gX70_work_0 a0 a1 a2 a3 a4 a5 M T n_a5 n_a1 
noncomputable def GX62_isZero_19 (s0 : Int32) (M : FM) : Int32 × FM :=
  (s0, M)
theorem gX62_isZero_19 (s0 : Int32) (M : FM) (T : Ty M) (z_s0 : s0 = 0 ∨ s0 = 1) : gd (FX62_isZero_19 s0 M) (GX62_isZero_19 s0 M) (OkZ M) := by
  delta FX62_isZero_19 BX62_isZero_19
  exact gd_z z_s0 ⟨T.1, T.2⟩ (ext_r _) rfl
noncomputable def GX62_isZero_0 (a0 : Nat) (M : FM) : Int32 × FM :=
  fi ((lg_cmp ((M.2.1 119 a0 0) ||| (M.2.1 120 a0 0)) (Int64.ofInt 0)) = 0) (
    GX62_isZero_19 (Int32.ofInt 1) M) (
    GX62_isZero_19 (Int32.ofInt 0) M)
theorem gX62_isZero_0 (a0 : Nat) (M : FM) (T : Ty M) (n_a0 : fm_is M 40 40 a0 = true) : gd (FX62_isZero_0 a0 M) (GX62_isZero_0 a0 M) (OkZ M) := by
  delta FX62_isZero_0 BX62_isZero_0
  refine gd_c n_a0 ?_
  refine gd_c n_a0 ?_
  refine gd_fi (fun c0_0 => ?_) (fun c0_0 => ?_)
  · exact gd_tZ (ext_r _) (gX62_isZero_19 _ _ ⟨T.1, T.2⟩ fz_1 )
  · exact gd_tZ (ext_r _) (gX62_isZero_19 _ _ ⟨T.1, T.2⟩ fz_0 )
noncomputable def GX62_isZero (a0 : Nat) (M : FM) : Int32 × FM := GX62_isZero_0 a0 M
theorem gX62_isZero (a0 : Nat) (M : FM) (T : Ty M) (n_a0 : fm_is M 40 40 a0 = true) : gd (FX62_isZero a0 M) (GX62_isZero a0 M) (OkZ M) := gX62_isZero_0 a0 M T n_a0 
noncomputable def GX62_right_61 (M : FM) : FM :=
  M
theorem gX62_right_61 (M : FM) (T : Ty M) : gd (FX62_right_61 M) (GX62_right_61 M) (OkV M) := by
  delta FX62_right_61 BX62_right_61
  exact ⟨rfl, ⟨T.1, T.2⟩, (ext_r _)⟩
noncomputable def GX62_right_0 (a0 : Nat) (a1 : Int32) (M : FM) : FM :=
  fi (a1 ≤ (Int32.ofInt 63)) (
    fi (a1 ≤ 0) (
      GX62_right_61 M) (
      let M1 : FM := fm_sL M 120 a0 0 (((M.2.1 120 a0 0).toUInt64 >>> (a1.toInt64.toUInt64 &&& Int64.toUInt64 63)).toInt64 ||| ((M.2.1 119 a0 0) <<< (((Int32.ofInt 64) - a1).toInt64 &&& 63)))
      let M2 : FM := fm_sL M1 119 a0 0 (((M1.2.1 119 a0 0).toUInt64 >>> (a1.toInt64.toUInt64 &&& Int64.toUInt64 63)).toInt64)
      GX62_right_61 M2)) (
    let M3 : FM := fm_sL M 120 a0 0 (((M.2.1 119 a0 0).toUInt64 >>> ((a1 - (Int32.ofInt 64)).toInt64.toUInt64 &&& Int64.toUInt64 63)).toInt64)
    let M4 : FM := fm_sL M3 119 a0 0 (Int64.ofInt 0)
    GX62_right_61 M4)
theorem gX62_right_0 (a0 : Nat) (a1 : Int32) (M : FM) (T : Ty M) (n_a0 : fm_is M 40 40 a0 = true) : gd (FX62_right_0 a0 a1 M) (GX62_right_0 a0 a1 M) (OkV M) := by
  delta FX62_right_0 BX62_right_0
  refine gd_fi (fun c0_0 => ?_) (fun c0_0 => ?_)
  · refine gd_fi (fun c1_0 => ?_) (fun c1_0 => ?_)
    · exact gd_tV (ext_r _) (gX62_right_61  _ ⟨T.1, T.2⟩  )
    · refine gd_c n_a0 ?_
      refine gd_c n_a0 ?_
      refine gd_c n_a0 ?_
      refine gd_c n_a0 ?_
      refine gd_c n_a0 ?_
      exact gd_tV (ext_dL (ext_dL (ext_r _))) (gX62_right_61  _ ⟨T.1, T.2⟩  )
  · refine gd_c n_a0 ?_
    refine gd_c n_a0 ?_
    refine gd_c n_a0 ?_
    exact gd_tV (ext_dL (ext_dL (ext_r _))) (gX62_right_61  _ ⟨T.1, T.2⟩  )
noncomputable def GX62_right (a0 : Nat) (a1 : Int32) (M : FM) : FM := GX62_right_0 a0 a1 M
theorem gX62_right (a0 : Nat) (a1 : Int32) (M : FM) (T : Ty M) (n_a0 : fm_is M 40 40 a0 = true) : gd (FX62_right a0 a1 M) (GX62_right a0 a1 M) (OkV M) := gX62_right_0 a0 a1 M T n_a0 
noncomputable def GX62_jam_124 (s0 : Nat) (s1 : Int64) (s2 : Int64) (M : FM) : FM :=
  let M1 : FM := fm_sL M 120 s0 0 (s1 ||| s2)
  M1
theorem gX62_jam_124 (s0 : Nat) (s1 : Int64) (s2 : Int64) (M : FM) (T : Ty M) (n_s0 : fm_is M 40 40 s0 = true) : gd (FX62_jam_124 s0 s1 s2 M) (GX62_jam_124 s0 s1 s2 M) (OkV M) := by
  delta FX62_jam_124 BX62_jam_124
  refine gd_c n_s0 ?_
  exact ⟨rfl, ⟨T.1, T.2⟩, (ext_dL (ext_r _))⟩
noncomputable def GX62_jam_110 (a0 : Nat) (a2 : Int32) (M : FM) : FM :=
  fi (a2 = 0) (
    GX62_jam_124 a0 (M.2.1 120 a0 0) (Int64.ofInt 0) M) (
    GX62_jam_124 a0 (M.2.1 120 a0 0) (Int64.ofInt 1) M)
theorem gX62_jam_110 (a0 : Nat) (a2 : Int32) (M : FM) (T : Ty M) (n_a0 : fm_is M 40 40 a0 = true) : gd (FX62_jam_110 a0 a2 M) (GX62_jam_110 a0 a2 M) (OkV M) := by
  delta FX62_jam_110 BX62_jam_110
  refine gd_c n_a0 ?_
  refine gd_fi (fun c0_0 => ?_) (fun c0_0 => ?_)
  · exact gd_tV (ext_r _) (gX62_jam_124 _ _ _ _ ⟨T.1, T.2⟩ n_a0 )
  · exact gd_tV (ext_r _) (gX62_jam_124 _ _ _ _ ⟨T.1, T.2⟩ n_a0 )
noncomputable def GX62_jam_90 (a0 : Nat) (a1 : Int32) (s0 : Int32) (M : FM) : FM :=
  fi (a1 ≤ (Int32.ofInt 127)) (
    let M1 : FM := GX62_right a0 a1 M
    GX62_jam_110 a0 s0 M1) (
    let M2 : FM := GX62_set a0 (Int64.ofInt 0) M
    GX62_jam_110 a0 s0 M2)
theorem gX62_jam_90 (a0 : Nat) (a1 : Int32) (s0 : Int32) (M : FM) (T : Ty M) (n_a0 : fm_is M 40 40 a0 = true) : gd (FX62_jam_90 a0 a1 s0 M) (GX62_jam_90 a0 a1 s0 M) (OkV M) := by
  delta FX62_jam_90 BX62_jam_90
  refine gd_fi (fun c0_0 => ?_) (fun c0_0 => ?_)
  · refine gd_c n_a0 ?_
    refine gd_b (gX62_right _ _ _ ⟨T.1, T.2⟩ n_a0 ) (fun K1 => ?_)
    have f2 := (ext_is K1.2 (Nat.zero_lt_succ _) n_a0)
    exact gd_tV K1.2 (gX62_jam_110 _ _ _ ⟨K1.1.1, K1.1.2⟩ f2 )
  · refine gd_c n_a0 ?_
    refine gd_b (gX62_set _ _ _ ⟨T.1, T.2⟩ n_a0 ) (fun K3 => ?_)
    have f4 := (ext_is K3.2 (Nat.zero_lt_succ _) n_a0)
    exact gd_tV K3.2 (gX62_jam_110 _ _ _ ⟨K3.1.1, K3.1.2⟩ f4 )
noncomputable def GX62_jam_67 (a0 : Nat) (a1 : Int32) (M : FM) : FM :=
  GX62_jam_90 a0 a1 (Int32.ofInt 0) M
theorem gX62_jam_67 (a0 : Nat) (a1 : Int32) (M : FM) (T : Ty M) (n_a0 : fm_is M 40 40 a0 = true) : gd (FX62_jam_67 a0 a1 M) (GX62_jam_67 a0 a1 M) (OkV M) := by
  delta FX62_jam_67 BX62_jam_67
  exact gd_tV (ext_r _) (gX62_jam_90 _ _ _ _ ⟨T.1, T.2⟩ n_a0 )
noncomputable def GX62_jam_63 (a0 : Nat) (a1 : Int32) (M : FM) : FM :=
  GX62_jam_90 a0 a1 (Int32.ofInt 1) M
theorem gX62_jam_63 (a0 : Nat) (a1 : Int32) (M : FM) (T : Ty M) (n_a0 : fm_is M 40 40 a0 = true) : gd (FX62_jam_63 a0 a1 M) (GX62_jam_63 a0 a1 M) (OkV M) := by
  delta FX62_jam_63 BX62_jam_63
  exact gd_tV (ext_r _) (gX62_jam_90 _ _ _ _ ⟨T.1, T.2⟩ n_a0 )
noncomputable def GX62_jam_0 (a0 : Nat) (a1 : Int32) (M : FM) : FM :=
  fi ((Int32.ofInt 1) ≤ a1) (
    fi (a1 ≤ (Int32.ofInt 127)) (
      fi (a1 ≤ (Int32.ofInt 63)) (
        fi ((lg_cmp ((M.2.1 120 a0 0) <<< (((Int32.ofInt 64) - a1).toInt64 &&& 63)) (Int64.ofInt 0)) = 0) (
          GX62_jam_90 a0 a1 (Int32.ofInt 0) M) (
          GX62_jam_90 a0 a1 (Int32.ofInt 1) M)) (
        fi ((lg_cmp (M.2.1 120 a0 0) (Int64.ofInt 0)) = 0) (
          fi (a1 ≤ (Int32.ofInt 64)) (
            GX62_jam_67 a0 a1 M) (
            fi ((lg_cmp ((M.2.1 119 a0 0) <<< (((Int32.ofInt 128) - a1).toInt64 &&& 63)) (Int64.ofInt 0)) = 0) (
              GX62_jam_67 a0 a1 M) (
              GX62_jam_63 a0 a1 M))) (
          GX62_jam_63 a0 a1 M))) (
      let r1 : Int32 × FM := GX62_isZero a0 M
      fi (r1.1 = 0) (
        GX62_jam_90 a0 a1 (Int32.ofInt 1) r1.2) (
        GX62_jam_90 a0 a1 (Int32.ofInt 0) r1.2))) (
    M)
theorem gX62_jam_0 (a0 : Nat) (a1 : Int32) (M : FM) (T : Ty M) (n_a0 : fm_is M 40 40 a0 = true) : gd (FX62_jam_0 a0 a1 M) (GX62_jam_0 a0 a1 M) (OkV M) := by
  delta FX62_jam_0 BX62_jam_0
  refine gd_fi (fun c0_0 => ?_) (fun c0_0 => ?_)
  · refine gd_fi (fun c1_0 => ?_) (fun c1_0 => ?_)
    · refine gd_fi (fun c2_0 => ?_) (fun c2_0 => ?_)
      · refine gd_c n_a0 ?_
        refine gd_fi (fun c3_0 => ?_) (fun c3_0 => ?_)
        · exact gd_tV (ext_r _) (gX62_jam_90 _ _ _ _ ⟨T.1, T.2⟩ n_a0 )
        · exact gd_tV (ext_r _) (gX62_jam_90 _ _ _ _ ⟨T.1, T.2⟩ n_a0 )
      · refine gd_c n_a0 ?_
        refine gd_fi (fun c4_0 => ?_) (fun c4_0 => ?_)
        · refine gd_fi (fun c5_0 => ?_) (fun c5_0 => ?_)
          · exact gd_tV (ext_r _) (gX62_jam_67 _ _ _ ⟨T.1, T.2⟩ n_a0 )
          · refine gd_c n_a0 ?_
            refine gd_fi (fun c6_0 => ?_) (fun c6_0 => ?_)
            · exact gd_tV (ext_r _) (gX62_jam_67 _ _ _ ⟨T.1, T.2⟩ n_a0 )
            · exact gd_tV (ext_r _) (gX62_jam_63 _ _ _ ⟨T.1, T.2⟩ n_a0 )
        · exact gd_tV (ext_r _) (gX62_jam_63 _ _ _ ⟨T.1, T.2⟩ n_a0 )
    · refine gd_c n_a0 ?_
      refine gd_b (gX62_isZero _ _ ⟨T.1, T.2⟩ n_a0 ) (fun K7 => ?_)
      refine gd_fi (fun c8_0 => ?_) (fun c8_0 => ?_)
      · have f9 := (ext_is K7.2.1 (Nat.zero_lt_succ _) n_a0)
        exact gd_tV K7.2.1 (gX62_jam_90 _ _ _ _ ⟨K7.1.1, K7.1.2⟩ f9 )
      · have f10 := (ext_is K7.2.1 (Nat.zero_lt_succ _) n_a0)
        exact gd_tV K7.2.1 (gX62_jam_90 _ _ _ _ ⟨K7.1.1, K7.1.2⟩ f10 )
  · exact ⟨rfl, ⟨T.1, T.2⟩, (ext_r _)⟩
noncomputable def GX62_jam (a0 : Nat) (a1 : Int32) (M : FM) : FM := GX62_jam_0 a0 a1 M
theorem gX62_jam (a0 : Nat) (a1 : Int32) (M : FM) (T : Ty M) (n_a0 : fm_is M 40 40 a0 = true) : gd (FX62_jam a0 a1 M) (GX62_jam a0 a1 M) (OkV M) := gX62_jam_0 a0 a1 M T n_a0 
noncomputable def GX62_add_41 (s0 : Nat) (s1 : Int64) (s2 : Int64) (s3 : Int64) (M : FM) : FM :=
  let M1 : FM := fm_sL M 119 s0 0 (s1 + (s2 + s3))
  M1
theorem gX62_add_41 (s0 : Nat) (s1 : Int64) (s2 : Int64) (s3 : Int64) (M : FM) (T : Ty M) (n_s0 : fm_is M 40 40 s0 = true) : gd (FX62_add_41 s0 s1 s2 s3 M) (GX62_add_41 s0 s1 s2 s3 M) (OkV M) := by
  delta FX62_add_41 BX62_add_41
  refine gd_c n_s0 ?_
  exact ⟨rfl, ⟨T.1, T.2⟩, (ext_dL (ext_r _))⟩
noncomputable def GX62_add_0 (a0 : Nat) (a1 : Nat) (M : FM) : FM :=
  let M1 : FM := fm_sL M 120 a0 0 ((M.2.1 120 a0 0) + (M.2.1 120 a1 0))
  let r2 : Int32 × FM := GX108_isLess (M1.2.1 120 a0 0) (M1.2.1 120 a1 0) M1
  fi (r2.1 = 0) (
    GX62_add_41 a0 (M1.2.1 119 a0 0) (M1.2.1 119 a1 0) (Int64.ofInt 0) r2.2) (
    GX62_add_41 a0 (M1.2.1 119 a0 0) (M1.2.1 119 a1 0) (Int64.ofInt 1) r2.2)
theorem gX62_add_0 (a0 : Nat) (a1 : Nat) (M : FM) (T : Ty M) (n_a0 : fm_is M 40 40 a0 = true) (n_a1 : fm_is M 40 40 a1 = true) : gd (FX62_add_0 a0 a1 M) (GX62_add_0 a0 a1 M) (OkV M) := by
  delta FX62_add_0 BX62_add_0
  refine gd_c n_a0 ?_
  refine gd_c n_a1 ?_
  refine gd_c n_a0 ?_
  refine gd_c n_a0 ?_
  refine gd_c n_a1 ?_
  refine gd_c n_a0 ?_
  refine gd_c n_a1 ?_
  refine gd_b (gX108_isLess _ _ _ ⟨T.1, T.2⟩  ) (fun K0 => ?_)
  refine gd_fi (fun c1_0 => ?_) (fun c1_0 => ?_)
  · have f2 := (ext_is K0.2.1 (Nat.zero_lt_succ _) n_a0)
    exact gd_tV (ext_dL K0.2.1) (gX62_add_41 _ _ _ _ _ ⟨K0.1.1, K0.1.2⟩ f2 )
  · have f3 := (ext_is K0.2.1 (Nat.zero_lt_succ _) n_a0)
    exact gd_tV (ext_dL K0.2.1) (gX62_add_41 _ _ _ _ _ ⟨K0.1.1, K0.1.2⟩ f3 )
noncomputable def GX62_add (a0 : Nat) (a1 : Nat) (M : FM) : FM := GX62_add_0 a0 a1 M
theorem gX62_add (a0 : Nat) (a1 : Nat) (M : FM) (T : Ty M) (n_a0 : fm_is M 40 40 a0 = true) (n_a1 : fm_is M 40 40 a1 = true) : gd (FX62_add a0 a1 M) (GX62_add a0 a1 M) (OkV M) := gX62_add_0 a0 a1 M T n_a0 n_a1 
noncomputable def GX62_subtract_28 (a0 : Nat) (a1 : Nat) (s0 : Nat) (s1 : Int64) (s2 : Int64) (s3 : Int64) (M : FM) : FM :=
  let M1 : FM := fm_sL M 119 s0 0 (s1 - (s2 + s3))
  let M2 : FM := fm_sL M1 120 a0 0 ((M1.2.1 120 a0 0) - (M1.2.1 120 a1 0))
  M2
theorem gX62_subtract_28 (a0 : Nat) (a1 : Nat) (s0 : Nat) (s1 : Int64) (s2 : Int64) (s3 : Int64) (M : FM) (T : Ty M) (n_s0 : fm_is M 40 40 s0 = true) (n_a0 : fm_is M 40 40 a0 = true) (n_a1 : fm_is M 40 40 a1 = true) : gd (FX62_subtract_28 a0 a1 s0 s1 s2 s3 M) (GX62_subtract_28 a0 a1 s0 s1 s2 s3 M) (OkV M) := by
  delta FX62_subtract_28 BX62_subtract_28
  refine gd_c n_s0 ?_
  refine gd_c n_a0 ?_
  refine gd_c n_a1 ?_
  refine gd_c n_a0 ?_
  exact ⟨rfl, ⟨T.1, T.2⟩, (ext_dL (ext_dL (ext_r _)))⟩
noncomputable def GX62_subtract_0 (a0 : Nat) (a1 : Nat) (M : FM) : FM :=
  let r1 : Int32 × FM := GX108_isLess (M.2.1 120 a0 0) (M.2.1 120 a1 0) M
  fi (r1.1 = 0) (
    GX62_subtract_28 a0 a1 a0 (M.2.1 119 a0 0) (M.2.1 119 a1 0) (Int64.ofInt 0) r1.2) (
    GX62_subtract_28 a0 a1 a0 (M.2.1 119 a0 0) (M.2.1 119 a1 0) (Int64.ofInt 1) r1.2)
theorem gX62_subtract_0 (a0 : Nat) (a1 : Nat) (M : FM) (T : Ty M) (n_a0 : fm_is M 40 40 a0 = true) (n_a1 : fm_is M 40 40 a1 = true) : gd (FX62_subtract_0 a0 a1 M) (GX62_subtract_0 a0 a1 M) (OkV M) := by
  delta FX62_subtract_0 BX62_subtract_0
  refine gd_c n_a0 ?_
  refine gd_c n_a1 ?_
  refine gd_c n_a0 ?_
  refine gd_c n_a1 ?_
  refine gd_b (gX108_isLess _ _ _ ⟨T.1, T.2⟩  ) (fun K0 => ?_)
  refine gd_fi (fun c1_0 => ?_) (fun c1_0 => ?_)
  · have f2 := (ext_is K0.2.1 (Nat.zero_lt_succ _) n_a0)
    have f3 := (ext_is K0.2.1 (Nat.zero_lt_succ _) n_a0)
    have f4 := (ext_is K0.2.1 (Nat.zero_lt_succ _) n_a1)
    exact gd_tV K0.2.1 (gX62_subtract_28 _ _ _ _ _ _ _ ⟨K0.1.1, K0.1.2⟩ f2 f3 f4 )
  · have f5 := (ext_is K0.2.1 (Nat.zero_lt_succ _) n_a0)
    have f6 := (ext_is K0.2.1 (Nat.zero_lt_succ _) n_a0)
    have f7 := (ext_is K0.2.1 (Nat.zero_lt_succ _) n_a1)
    exact gd_tV K0.2.1 (gX62_subtract_28 _ _ _ _ _ _ _ ⟨K0.1.1, K0.1.2⟩ f5 f6 f7 )
noncomputable def GX62_subtract (a0 : Nat) (a1 : Nat) (M : FM) : FM := GX62_subtract_0 a0 a1 M
theorem gX62_subtract (a0 : Nat) (a1 : Nat) (M : FM) (T : Ty M) (n_a0 : fm_is M 40 40 a0 = true) (n_a1 : fm_is M 40 40 a1 = true) : gd (FX62_subtract a0 a1 M) (GX62_subtract a0 a1 M) (OkV M) := gX62_subtract_0 a0 a1 M T n_a0 n_a1 
noncomputable def GX66_lay_169 (M : FM) : FM :=
  M
theorem gX66_lay_169 (M : FM) (T : Ty M) : gd (FX66_lay_169 fN M) (GX66_lay_169 M) (OkV M) := by
  delta FX66_lay_169 BX66_lay_169
  exact ⟨rfl, ⟨T.1, T.2⟩, (ext_r _)⟩
noncomputable def GX66_lay_166 (s0 : Nat) (s1 : Nat) (s2 : Int32) (M : FM) : FM :=
  let M1 : FM := GX71_become s0 s1 s2 M
  GX66_lay_169 M1
theorem gX66_lay_166 (s0 : Nat) (s1 : Nat) (s2 : Int32) (M : FM) (T : Ty M) (n_s0 : fm_is M 39 39 s0 = true) (n_s1 : fm_is M 2 2 s1 = true) (z_s2 : s2 = 0 ∨ s2 = 1) : gd (FX66_lay_166 fN s0 s1 s2 M) (GX66_lay_166 s0 s1 s2 M) (OkV M) := by
  delta FX66_lay_166 BX66_lay_166
  refine gd_c n_s0 ?_
  refine gd_b (gX71_become _ _ _ _ ⟨T.1, T.2⟩ n_s0 n_s1 z_s2 ) (fun K0 => ?_)
  exact gd_tV K0.2 (gX66_lay_169  _ ⟨K0.1.1, K0.1.2⟩  )
noncomputable def GX66_lay_77 (a0 : Nat) (a1 : Nat) (a2 : Nat) (a3 : Nat) (a5 : Nat) (s0 : Nat) (M : FM) : FM :=
  let x1 : Nat := (M.2.2 117 s0 0)
  let M2 : FM := GX62_jam x1 ((M.1 116 a5 0) - (M.1 116 s0 0)) M
  let M3 : FM := GX71_copy a3 a5 M2
  fi ((M3.1 115 a0 0) = (M3.1 115 a1 0)) (
    let x4 : Nat := (M3.2.2 117 a3 0)
    let M5 : FM := GX62_add x4 (M3.2.2 117 s0 0) M3
    M5) (
    let x6 : Nat := (M3.2.2 117 a3 0)
    let M7 : FM := GX62_subtract x6 (M3.2.2 117 s0 0) M3
    let x8 : Nat := (M7.2.2 117 a3 0)
    let r9 : Int32 × FM := GX62_isZero x8 M7
    fi (r9.1 = 0) (
      GX66_lay_169 r9.2) (
      fi (a2 = 3) (
        GX66_lay_166 a3 6 (Int32.ofInt 1) r9.2) (
        GX66_lay_166 a3 6 (Int32.ofInt 0) r9.2)))
theorem gX66_lay_77 (a0 : Nat) (a1 : Nat) (a2 : Nat) (a3 : Nat) (a5 : Nat) (s0 : Nat) (M : FM) (T : Ty M) (n_s0 : fm_is M 39 39 s0 = true) (n_a5 : fm_is M 39 39 a5 = true) (n_a3 : fm_is M 39 39 a3 = true) (n_a0 : fm_is M 39 39 a0 = true) (n_a1 : fm_is M 39 39 a1 = true) (n_a2 : fm_is M 1 1 a2 = true) : gd (FX66_lay_77 fN a0 a1 a2 a3 a5 s0 M) (GX66_lay_77 a0 a1 a2 a3 a5 s0 M) (OkV M) := by
  delta FX66_lay_77 BX66_lay_77
  refine gd_c n_s0 ?_
  refine gd_c n_a5 ?_
  refine gd_c n_s0 ?_
  have f0 := (tN_117 T.1 n_s0)
  refine gd_c f0 ?_
  have f31 := (tN_117 T.1 n_s0)
  refine gd_b (gX62_jam _ _ _ ⟨T.1, T.2⟩ f31 ) (fun K1 => ?_)
  have f2 := (ext_is K1.2 (Nat.zero_lt_succ _) n_a3)
  refine gd_c f2 ?_
  have f29 := (ext_is K1.2 (Nat.zero_lt_succ _) n_a5)
  have f30 := (ext_is K1.2 (Nat.zero_lt_succ _) n_a3)
  refine gd_b (gX71_copy _ _ _ ⟨K1.1.1, K1.1.2⟩ f29 f30 ) (fun K3 => ?_)
  have f4 := (ext_is K3.2 (Nat.zero_lt_succ _) (ext_is K1.2 (Nat.zero_lt_succ _) n_a0))
  refine gd_c f4 ?_
  have f5 := (ext_is K3.2 (Nat.zero_lt_succ _) (ext_is K1.2 (Nat.zero_lt_succ _) n_a1))
  refine gd_c f5 ?_
  refine gd_fi (fun c6_0 => ?_) (fun c6_0 => ?_)
  · have f7 := (ext_is K3.2 (Nat.zero_lt_succ _) (ext_is K1.2 (Nat.zero_lt_succ _) n_a3))
    refine gd_c f7 ?_
    have f8 := (ext_is K3.2 (Nat.zero_lt_succ _) (ext_is K1.2 (Nat.zero_lt_succ _) n_s0))
    refine gd_c f8 ?_
    have f9 := (tN_117 K3.1.1 (ext_is K3.2 (Nat.zero_lt_succ _) (ext_is K1.2 (Nat.zero_lt_succ _) n_a3)))
    refine gd_c f9 ?_
    have f11 := (tN_117 K3.1.1 (ext_is K3.2 (Nat.zero_lt_succ _) (ext_is K1.2 (Nat.zero_lt_succ _) n_a3)))
    have f12 := (tN_117 K3.1.1 (ext_is K3.2 (Nat.zero_lt_succ _) (ext_is K1.2 (Nat.zero_lt_succ _) n_s0)))
    refine gd_b (gX62_add _ _ _ ⟨K3.1.1, K3.1.2⟩ f11 f12 ) (fun K10 => ?_)
    exact ⟨rfl, ⟨K10.1.1, K10.1.2⟩, (ext_tr K1.2 (ext_tr K3.2 K10.2))⟩
  · have f13 := (ext_is K3.2 (Nat.zero_lt_succ _) (ext_is K1.2 (Nat.zero_lt_succ _) n_a3))
    refine gd_c f13 ?_
    have f14 := (ext_is K3.2 (Nat.zero_lt_succ _) (ext_is K1.2 (Nat.zero_lt_succ _) n_s0))
    refine gd_c f14 ?_
    have f15 := (tN_117 K3.1.1 (ext_is K3.2 (Nat.zero_lt_succ _) (ext_is K1.2 (Nat.zero_lt_succ _) n_a3)))
    refine gd_c f15 ?_
    have f27 := (tN_117 K3.1.1 (ext_is K3.2 (Nat.zero_lt_succ _) (ext_is K1.2 (Nat.zero_lt_succ _) n_a3)))
    have f28 := (tN_117 K3.1.1 (ext_is K3.2 (Nat.zero_lt_succ _) (ext_is K1.2 (Nat.zero_lt_succ _) n_s0)))
    refine gd_b (gX62_subtract _ _ _ ⟨K3.1.1, K3.1.2⟩ f27 f28 ) (fun K16 => ?_)
    have f17 := (ext_is K16.2 (Nat.zero_lt_succ _) (ext_is K3.2 (Nat.zero_lt_succ _) (ext_is K1.2 (Nat.zero_lt_succ _) n_a3)))
    refine gd_c f17 ?_
    have f18 := (tN_117 K16.1.1 (ext_is K16.2 (Nat.zero_lt_succ _) (ext_is K3.2 (Nat.zero_lt_succ _) (ext_is K1.2 (Nat.zero_lt_succ _) n_a3))))
    refine gd_c f18 ?_
    have f26 := (tN_117 K16.1.1 (ext_is K16.2 (Nat.zero_lt_succ _) (ext_is K3.2 (Nat.zero_lt_succ _) (ext_is K1.2 (Nat.zero_lt_succ _) n_a3))))
    refine gd_b (gX62_isZero _ _ ⟨K16.1.1, K16.1.2⟩ f26 ) (fun K19 => ?_)
    refine gd_fi (fun c20_0 => ?_) (fun c20_0 => ?_)
    · exact gd_tV (ext_tr K1.2 (ext_tr K3.2 (ext_tr K16.2 K19.2.1))) (gX66_lay_169  _ ⟨K19.1.1, K19.1.2⟩  )
    · refine gd_c (Or.inl ⟨(ty_enum K19.1.1 (fm_w (lo' := 1) (hi' := 6) rfl rfl (ext_is K19.2.1 (Nat.zero_lt_succ _) (ext_is K16.2 (Nat.zero_lt_succ _) (ext_is K3.2 (Nat.zero_lt_succ _) (ext_is K1.2 (Nat.zero_lt_succ _) n_a2)))))), (ty_enum K19.1.1 (fm_w (lo' := 1) (hi' := 6) rfl rfl (tC_3 K19.1.1)))⟩) ?_
      refine gd_fi (fun c21_0 => ?_) (fun c21_0 => ?_)
      · have f22 := (ext_is K19.2.1 (Nat.zero_lt_succ _) (ext_is K16.2 (Nat.zero_lt_succ _) (ext_is K3.2 (Nat.zero_lt_succ _) (ext_is K1.2 (Nat.zero_lt_succ _) n_a3))))
        have f23 := (tC_6 K19.1.1)
        exact gd_tV (ext_tr K1.2 (ext_tr K3.2 (ext_tr K16.2 K19.2.1))) (gX66_lay_166 _ _ _ _ ⟨K19.1.1, K19.1.2⟩ f22 f23 fz_1 )
      · have f24 := (ext_is K19.2.1 (Nat.zero_lt_succ _) (ext_is K16.2 (Nat.zero_lt_succ _) (ext_is K3.2 (Nat.zero_lt_succ _) (ext_is K1.2 (Nat.zero_lt_succ _) n_a3))))
        have f25 := (tC_6 K19.1.1)
        exact gd_tV (ext_tr K1.2 (ext_tr K3.2 (ext_tr K16.2 K19.2.1))) (gX66_lay_166 _ _ _ _ ⟨K19.1.1, K19.1.2⟩ f24 f25 fz_0 )
noncomputable def GX66_lay_65 (a0 : Nat) (a1 : Nat) (a2 : Nat) (a3 : Nat) (a4 : Int32) (s0 : Nat) (M : FM) : FM :=
  fi (a4 = 0) (
    GX66_lay_77 a0 a1 a2 a3 s0 a1 M) (
    GX66_lay_77 a0 a1 a2 a3 s0 a0 M)
theorem gX66_lay_65 (a0 : Nat) (a1 : Nat) (a2 : Nat) (a3 : Nat) (a4 : Int32) (s0 : Nat) (M : FM) (T : Ty M) (n_a1 : fm_is M 39 39 a1 = true) (n_s0 : fm_is M 39 39 s0 = true) (n_a3 : fm_is M 39 39 a3 = true) (n_a0 : fm_is M 39 39 a0 = true) (n_a2 : fm_is M 1 1 a2 = true) : gd (FX66_lay_65 fN a0 a1 a2 a3 a4 s0 M) (GX66_lay_65 a0 a1 a2 a3 a4 s0 M) (OkV M) := by
  delta FX66_lay_65 BX66_lay_65
  refine gd_fi (fun c0_0 => ?_) (fun c0_0 => ?_)
  · exact gd_tV (ext_r _) (gX66_lay_77 _ _ _ _ _ _ _ ⟨T.1, T.2⟩ n_a1 n_s0 n_a3 n_a0 n_a1 n_a2 )
  · exact gd_tV (ext_r _) (gX66_lay_77 _ _ _ _ _ _ _ ⟨T.1, T.2⟩ n_a0 n_s0 n_a3 n_a0 n_a1 n_a2 )
noncomputable def GX66_lay_53 (a0 : Nat) (a1 : Nat) (a2 : Nat) (a3 : Nat) (s0 : Int32) (M : FM) : FM :=
  fi (s0 = 0) (
    GX66_lay_65 a0 a1 a2 a3 s0 a0 M) (
    GX66_lay_65 a0 a1 a2 a3 s0 a1 M)
theorem gX66_lay_53 (a0 : Nat) (a1 : Nat) (a2 : Nat) (a3 : Nat) (s0 : Int32) (M : FM) (T : Ty M) (n_a1 : fm_is M 39 39 a1 = true) (n_a0 : fm_is M 39 39 a0 = true) (n_a3 : fm_is M 39 39 a3 = true) (n_a2 : fm_is M 1 1 a2 = true) : gd (FX66_lay_53 fN a0 a1 a2 a3 s0 M) (GX66_lay_53 a0 a1 a2 a3 s0 M) (OkV M) := by
  delta FX66_lay_53 BX66_lay_53
  refine gd_fi (fun c0_0 => ?_) (fun c0_0 => ?_)
  · exact gd_tV (ext_r _) (gX66_lay_65 _ _ _ _ _ _ _ ⟨T.1, T.2⟩ n_a1 n_a0 n_a3 n_a0 n_a2 )
  · exact gd_tV (ext_r _) (gX66_lay_65 _ _ _ _ _ _ _ ⟨T.1, T.2⟩ n_a1 n_a1 n_a3 n_a0 n_a2 )
noncomputable def GX66_lay_52 (a0 : Nat) (a1 : Nat) (a2 : Nat) (a3 : Nat) (M : FM) : FM :=
  GX66_lay_53 a0 a1 a2 a3 (Int32.ofInt 0) M
theorem gX66_lay_52 (a0 : Nat) (a1 : Nat) (a2 : Nat) (a3 : Nat) (M : FM) (T : Ty M) (n_a1 : fm_is M 39 39 a1 = true) (n_a0 : fm_is M 39 39 a0 = true) (n_a3 : fm_is M 39 39 a3 = true) (n_a2 : fm_is M 1 1 a2 = true) : gd (FX66_lay_52 fN a0 a1 a2 a3 M) (GX66_lay_52 a0 a1 a2 a3 M) (OkV M) := by
  delta FX66_lay_52 BX66_lay_52
  exact gd_tV (ext_r _) (gX66_lay_53 _ _ _ _ _ _ ⟨T.1, T.2⟩ n_a1 n_a0 n_a3 n_a2 )
noncomputable def GX66_lay_48 (a0 : Nat) (a1 : Nat) (a2 : Nat) (a3 : Nat) (M : FM) : FM :=
  GX66_lay_53 a0 a1 a2 a3 (Int32.ofInt 1) M
theorem gX66_lay_48 (a0 : Nat) (a1 : Nat) (a2 : Nat) (a3 : Nat) (M : FM) (T : Ty M) (n_a1 : fm_is M 39 39 a1 = true) (n_a0 : fm_is M 39 39 a0 = true) (n_a3 : fm_is M 39 39 a3 = true) (n_a2 : fm_is M 1 1 a2 = true) : gd (FX66_lay_48 fN a0 a1 a2 a3 M) (GX66_lay_48 a0 a1 a2 a3 M) (OkV M) := by
  delta FX66_lay_48 BX66_lay_48
  exact gd_tV (ext_r _) (gX66_lay_53 _ _ _ _ _ _ ⟨T.1, T.2⟩ n_a1 n_a0 n_a3 n_a2 )
noncomputable def GX66_lay_0 (a0 : Nat) (a1 : Nat) (a2 : Nat) (a3 : Nat) (M : FM) : FM :=
  let M1 : FM := GX71_lift a0 (Int32.ofInt 125) M
  let M2 : FM := GX71_lift a1 (Int32.ofInt 125) M1
  fi ((M2.1 116 a0 0) < (M2.1 116 a1 0)) (
    GX66_lay_48 a0 a1 a2 a3 M2) (
    fi ((M2.1 116 a0 0) = (M2.1 116 a1 0)) (
      let x3 : Nat := (M2.2.2 117 a0 0)
      let r4 : Int32 × FM := GX62_isBelow x3 (M2.2.2 117 a1 0) M2
      fi (r4.1 = 0) (
        GX66_lay_52 a0 a1 a2 a3 r4.2) (
        GX66_lay_48 a0 a1 a2 a3 r4.2)) (
      GX66_lay_52 a0 a1 a2 a3 M2))
def HX66_lay_0 (a0 : Nat) (a1 : Nat) (a2 : Nat) (a3 : Nat) (M : FM) : Prop := (HX71_lift a0 (Int32.ofInt 125) M ∧ let M1 : FM := GX71_lift a0 (Int32.ofInt 125) M; (HX71_lift a1 (Int32.ofInt 125) M1 ∧ True))
theorem gX66_lay_0 (a0 : Nat) (a1 : Nat) (a2 : Nat) (a3 : Nat) (M : FM) (T : Ty M) (n_a0 : fm_is M 39 39 a0 = true) (n_a1 : fm_is M 39 39 a1 = true) (n_a3 : fm_is M 39 39 a3 = true) (n_a2 : fm_is M 1 1 a2 = true) (h : HX66_lay_0 a0 a1 a2 a3 M) : gd (FX66_lay_0 fN a0 a1 a2 a3 M) (GX66_lay_0 a0 a1 a2 a3 M) (OkV M) := by
  delta FX66_lay_0 BX66_lay_0
  refine gd_c n_a0 ?_
  refine gd_b (gX71_lift _ _ _ ⟨T.1, T.2⟩ n_a0 h.1) (fun K0 => ?_)
  have f1 := (ext_is K0.2 (Nat.zero_lt_succ _) n_a1)
  refine gd_c f1 ?_
  have f32 := (ext_is K0.2 (Nat.zero_lt_succ _) n_a1)
  refine gd_b (gX71_lift _ _ _ ⟨K0.1.1, K0.1.2⟩ f32 h.2.1) (fun K2 => ?_)
  have f3 := (ext_is K2.2 (Nat.zero_lt_succ _) (ext_is K0.2 (Nat.zero_lt_succ _) n_a0))
  refine gd_c f3 ?_
  have f4 := (ext_is K2.2 (Nat.zero_lt_succ _) (ext_is K0.2 (Nat.zero_lt_succ _) n_a1))
  refine gd_c f4 ?_
  refine gd_fi (fun c5_0 => ?_) (fun c5_0 => ?_)
  · have f6 := (ext_is K2.2 (Nat.zero_lt_succ _) (ext_is K0.2 (Nat.zero_lt_succ _) n_a1))
    have f7 := (ext_is K2.2 (Nat.zero_lt_succ _) (ext_is K0.2 (Nat.zero_lt_succ _) n_a0))
    have f8 := (ext_is K2.2 (Nat.zero_lt_succ _) (ext_is K0.2 (Nat.zero_lt_succ _) n_a3))
    have f9 := (ext_is K2.2 (Nat.zero_lt_succ _) (ext_is K0.2 (Nat.zero_lt_succ _) n_a2))
    exact gd_tV (ext_tr K0.2 K2.2) (gX66_lay_48 _ _ _ _ _ ⟨K2.1.1, K2.1.2⟩ f6 f7 f8 f9 )
  · have f10 := (ext_is K2.2 (Nat.zero_lt_succ _) (ext_is K0.2 (Nat.zero_lt_succ _) n_a0))
    refine gd_c f10 ?_
    have f11 := (ext_is K2.2 (Nat.zero_lt_succ _) (ext_is K0.2 (Nat.zero_lt_succ _) n_a1))
    refine gd_c f11 ?_
    refine gd_fi (fun c12_0 => ?_) (fun c12_0 => ?_)
    · have f13 := (ext_is K2.2 (Nat.zero_lt_succ _) (ext_is K0.2 (Nat.zero_lt_succ _) n_a0))
      refine gd_c f13 ?_
      have f14 := (ext_is K2.2 (Nat.zero_lt_succ _) (ext_is K0.2 (Nat.zero_lt_succ _) n_a1))
      refine gd_c f14 ?_
      have f15 := (tN_117 K2.1.1 (ext_is K2.2 (Nat.zero_lt_succ _) (ext_is K0.2 (Nat.zero_lt_succ _) n_a0)))
      refine gd_c f15 ?_
      have f26 := (tN_117 K2.1.1 (ext_is K2.2 (Nat.zero_lt_succ _) (ext_is K0.2 (Nat.zero_lt_succ _) n_a0)))
      have f27 := (tN_117 K2.1.1 (ext_is K2.2 (Nat.zero_lt_succ _) (ext_is K0.2 (Nat.zero_lt_succ _) n_a1)))
      refine gd_b (gX62_isBelow _ _ _ ⟨K2.1.1, K2.1.2⟩ f26 f27 ) (fun K16 => ?_)
      refine gd_fi (fun c17_0 => ?_) (fun c17_0 => ?_)
      · have f18 := (ext_is K16.2.1 (Nat.zero_lt_succ _) (ext_is K2.2 (Nat.zero_lt_succ _) (ext_is K0.2 (Nat.zero_lt_succ _) n_a1)))
        have f19 := (ext_is K16.2.1 (Nat.zero_lt_succ _) (ext_is K2.2 (Nat.zero_lt_succ _) (ext_is K0.2 (Nat.zero_lt_succ _) n_a0)))
        have f20 := (ext_is K16.2.1 (Nat.zero_lt_succ _) (ext_is K2.2 (Nat.zero_lt_succ _) (ext_is K0.2 (Nat.zero_lt_succ _) n_a3)))
        have f21 := (ext_is K16.2.1 (Nat.zero_lt_succ _) (ext_is K2.2 (Nat.zero_lt_succ _) (ext_is K0.2 (Nat.zero_lt_succ _) n_a2)))
        exact gd_tV (ext_tr K0.2 (ext_tr K2.2 K16.2.1)) (gX66_lay_52 _ _ _ _ _ ⟨K16.1.1, K16.1.2⟩ f18 f19 f20 f21 )
      · have f22 := (ext_is K16.2.1 (Nat.zero_lt_succ _) (ext_is K2.2 (Nat.zero_lt_succ _) (ext_is K0.2 (Nat.zero_lt_succ _) n_a1)))
        have f23 := (ext_is K16.2.1 (Nat.zero_lt_succ _) (ext_is K2.2 (Nat.zero_lt_succ _) (ext_is K0.2 (Nat.zero_lt_succ _) n_a0)))
        have f24 := (ext_is K16.2.1 (Nat.zero_lt_succ _) (ext_is K2.2 (Nat.zero_lt_succ _) (ext_is K0.2 (Nat.zero_lt_succ _) n_a3)))
        have f25 := (ext_is K16.2.1 (Nat.zero_lt_succ _) (ext_is K2.2 (Nat.zero_lt_succ _) (ext_is K0.2 (Nat.zero_lt_succ _) n_a2)))
        exact gd_tV (ext_tr K0.2 (ext_tr K2.2 K16.2.1)) (gX66_lay_48 _ _ _ _ _ ⟨K16.1.1, K16.1.2⟩ f22 f23 f24 f25 )
    · have f28 := (ext_is K2.2 (Nat.zero_lt_succ _) (ext_is K0.2 (Nat.zero_lt_succ _) n_a1))
      have f29 := (ext_is K2.2 (Nat.zero_lt_succ _) (ext_is K0.2 (Nat.zero_lt_succ _) n_a0))
      have f30 := (ext_is K2.2 (Nat.zero_lt_succ _) (ext_is K0.2 (Nat.zero_lt_succ _) n_a3))
      have f31 := (ext_is K2.2 (Nat.zero_lt_succ _) (ext_is K0.2 (Nat.zero_lt_succ _) n_a2))
      exact gd_tV (ext_tr K0.2 K2.2) (gX66_lay_52 _ _ _ _ _ ⟨K2.1.1, K2.1.2⟩ f28 f29 f30 f31 )
noncomputable def GX66_lay (a0 : Nat) (a1 : Nat) (a2 : Nat) (a3 : Nat) (M : FM) : FM := GX66_lay_0 a0 a1 a2 a3 M
def HX66_lay (a0 : Nat) (a1 : Nat) (a2 : Nat) (a3 : Nat) (M : FM) : Prop := HX66_lay_0 a0 a1 a2 a3 M
theorem gX66_lay (a0 : Nat) (a1 : Nat) (a2 : Nat) (a3 : Nat) (M : FM) (T : Ty M) (n_a0 : fm_is M 39 39 a0 = true) (n_a1 : fm_is M 39 39 a1 = true) (n_a3 : fm_is M 39 39 a3 = true) (n_a2 : fm_is M 1 1 a2 = true) (h : HX66_lay a0 a1 a2 a3 M) : gd (FX66_lay fN a0 a1 a2 a3 M) (GX66_lay a0 a1 a2 a3 M) (OkV M) := gX66_lay_0 a0 a1 a2 a3 M T n_a0 n_a1 n_a3 n_a2 h
noncomputable def GX66_add_204 (M : FM) : FM :=
  M
theorem gX66_add_204 (M : FM) (T : Ty M) : gd (FX66_add_204 fN M) (GX66_add_204 M) (OkV M) := by
  delta FX66_add_204 BX66_add_204
  exact ⟨rfl, ⟨T.1, T.2⟩, (ext_r _)⟩
noncomputable def GX66_add_190 (s0 : Nat) (s1 : Nat) (M : FM) : FM :=
  let M1 : FM := GX71_copy s0 s1 M
  GX66_add_204 M1
theorem gX66_add_190 (s0 : Nat) (s1 : Nat) (M : FM) (T : Ty M) (n_s0 : fm_is M 39 39 s0 = true) (n_s1 : fm_is M 39 39 s1 = true) : gd (FX66_add_190 fN s0 s1 M) (GX66_add_190 s0 s1 M) (OkV M) := by
  delta FX66_add_190 BX66_add_190
  refine gd_c n_s0 ?_
  refine gd_b (gX71_copy _ _ _ ⟨T.1, T.2⟩ n_s1 n_s0 ) (fun K0 => ?_)
  exact gd_tV K0.2 (gX66_add_204  _ ⟨K0.1.1, K0.1.2⟩  )
noncomputable def GX66_add_173 (a0 : Nat) (a1 : Nat) (a4 : Nat) (M : FM) : FM :=
  let r1 : Int32 × FM := GX71_is a0 6 M
  fi (r1.1 = 0) (
    GX66_add_190 a4 a0 r1.2) (
    GX66_add_190 a4 a1 r1.2)
theorem gX66_add_173 (a0 : Nat) (a1 : Nat) (a4 : Nat) (M : FM) (T : Ty M) (n_a0 : fm_is M 39 39 a0 = true) (n_a4 : fm_is M 39 39 a4 = true) (n_a1 : fm_is M 39 39 a1 = true) : gd (FX66_add_173 fN a0 a1 a4 M) (GX66_add_173 a0 a1 a4 M) (OkV M) := by
  delta FX66_add_173 BX66_add_173
  refine gd_c n_a0 ?_
  have f6 := (tC_6 T.1)
  refine gd_b (gX71_is _ _ _ ⟨T.1, T.2⟩ n_a0 f6 ) (fun K0 => ?_)
  refine gd_fi (fun c1_0 => ?_) (fun c1_0 => ?_)
  · have f2 := (ext_is K0.2.1 (Nat.zero_lt_succ _) n_a4)
    have f3 := (ext_is K0.2.1 (Nat.zero_lt_succ _) n_a0)
    exact gd_tV K0.2.1 (gX66_add_190 _ _ _ ⟨K0.1.1, K0.1.2⟩ f2 f3 )
  · have f4 := (ext_is K0.2.1 (Nat.zero_lt_succ _) n_a4)
    have f5 := (ext_is K0.2.1 (Nat.zero_lt_succ _) n_a1)
    exact gd_tV K0.2.1 (gX66_add_190 _ _ _ ⟨K0.1.1, K0.1.2⟩ f4 f5 )
noncomputable def GX66_add_153 (a0 : Nat) (a1 : Nat) (a2 : Nat) (a4 : Nat) (M : FM) : FM :=
  let r1 : Int32 × FM := GX71_is a0 6 M
  fi (r1.1 = 0) (
    let r2 : Int32 × FM := GX71_is a1 6 r1.2
    fi (r2.1 = 0) (
      let M3 : FM := GX66_lay a0 a1 a2 a4 r2.2
      GX66_add_204 M3) (
      GX66_add_173 a0 a1 a4 r2.2)) (
    GX66_add_173 a0 a1 a4 r1.2)
def HX66_add_153 (a0 : Nat) (a1 : Nat) (a2 : Nat) (a4 : Nat) (M : FM) : Prop := let r1 : Int32 × FM := GX71_is a0 6 M; ((r1.1 = 0 → let r2 : Int32 × FM := GX71_is a1 6 r1.2; ((r2.1 = 0 → (HX66_lay a0 a1 a2 a4 r2.2 ∧ True)) ∧ (¬ (r2.1 = 0) → True))) ∧ (¬ (r1.1 = 0) → True))
theorem gX66_add_153 (a0 : Nat) (a1 : Nat) (a2 : Nat) (a4 : Nat) (M : FM) (T : Ty M) (n_a0 : fm_is M 39 39 a0 = true) (n_a1 : fm_is M 39 39 a1 = true) (n_a4 : fm_is M 39 39 a4 = true) (n_a2 : fm_is M 1 1 a2 = true) (h : HX66_add_153 a0 a1 a2 a4 M) : gd (FX66_add_153 fN a0 a1 a2 a4 M) (GX66_add_153 a0 a1 a2 a4 M) (OkV M) := by
  delta FX66_add_153 BX66_add_153
  refine gd_c n_a0 ?_
  have f18 := (tC_6 T.1)
  refine gd_b (gX71_is _ _ _ ⟨T.1, T.2⟩ n_a0 f18 ) (fun K0 => ?_)
  refine gd_fi (fun c1_0 => ?_) (fun c1_0 => ?_)
  · have f2 := (ext_is K0.2.1 (Nat.zero_lt_succ _) n_a1)
    refine gd_c f2 ?_
    have f13 := (ext_is K0.2.1 (Nat.zero_lt_succ _) n_a1)
    have f14 := (tC_6 K0.1.1)
    refine gd_b (gX71_is _ _ _ ⟨K0.1.1, K0.1.2⟩ f13 f14 ) (fun K3 => ?_)
    refine gd_fi (fun c4_0 => ?_) (fun c4_0 => ?_)
    · have f6 := (ext_is K3.2.1 (Nat.zero_lt_succ _) (ext_is K0.2.1 (Nat.zero_lt_succ _) n_a0))
      have f7 := (ext_is K3.2.1 (Nat.zero_lt_succ _) (ext_is K0.2.1 (Nat.zero_lt_succ _) n_a1))
      have f8 := (ext_is K3.2.1 (Nat.zero_lt_succ _) (ext_is K0.2.1 (Nat.zero_lt_succ _) n_a4))
      have f9 := (ext_is K3.2.1 (Nat.zero_lt_succ _) (ext_is K0.2.1 (Nat.zero_lt_succ _) n_a2))
      refine gd_b (gX66_lay _ _ _ _ _ ⟨K3.1.1, K3.1.2⟩ f6 f7 f8 f9 ((h.1 c1_0).1 c4_0).1) (fun K5 => ?_)
      exact gd_tV (ext_tr K0.2.1 (ext_tr K3.2.1 K5.2)) (gX66_add_204  _ ⟨K5.1.1, K5.1.2⟩  )
    · have f10 := (ext_is K3.2.1 (Nat.zero_lt_succ _) (ext_is K0.2.1 (Nat.zero_lt_succ _) n_a0))
      have f11 := (ext_is K3.2.1 (Nat.zero_lt_succ _) (ext_is K0.2.1 (Nat.zero_lt_succ _) n_a4))
      have f12 := (ext_is K3.2.1 (Nat.zero_lt_succ _) (ext_is K0.2.1 (Nat.zero_lt_succ _) n_a1))
      exact gd_tV (ext_tr K0.2.1 K3.2.1) (gX66_add_173 _ _ _ _ ⟨K3.1.1, K3.1.2⟩ f10 f11 f12 )
  · have f15 := (ext_is K0.2.1 (Nat.zero_lt_succ _) n_a0)
    have f16 := (ext_is K0.2.1 (Nat.zero_lt_succ _) n_a4)
    have f17 := (ext_is K0.2.1 (Nat.zero_lt_succ _) n_a1)
    exact gd_tV K0.2.1 (gX66_add_173 _ _ _ _ ⟨K0.1.1, K0.1.2⟩ f15 f16 f17 )
noncomputable def GX66_add_147 (s0 : Nat) (s1 : Nat) (s2 : Int32) (M : FM) : FM :=
  let M1 : FM := GX71_become s0 s1 s2 M
  GX66_add_204 M1
theorem gX66_add_147 (s0 : Nat) (s1 : Nat) (s2 : Int32) (M : FM) (T : Ty M) (n_s0 : fm_is M 39 39 s0 = true) (n_s1 : fm_is M 2 2 s1 = true) (z_s2 : s2 = 0 ∨ s2 = 1) : gd (FX66_add_147 fN s0 s1 s2 M) (GX66_add_147 s0 s1 s2 M) (OkV M) := by
  delta FX66_add_147 BX66_add_147
  refine gd_c n_s0 ?_
  refine gd_b (gX71_become _ _ _ _ ⟨T.1, T.2⟩ n_s0 n_s1 z_s2 ) (fun K0 => ?_)
  exact gd_tV K0.2 (gX66_add_204  _ ⟨K0.1.1, K0.1.2⟩  )
noncomputable def GX66_add_86 (s0 : Nat) (s1 : Nat) (s2 : Int32) (M : FM) : FM :=
  let M1 : FM := GX71_become s0 s1 s2 M
  GX66_add_204 M1
theorem gX66_add_86 (s0 : Nat) (s1 : Nat) (s2 : Int32) (M : FM) (T : Ty M) (n_s0 : fm_is M 39 39 s0 = true) (n_s1 : fm_is M 2 2 s1 = true) (z_s2 : s2 = 0 ∨ s2 = 1) : gd (FX66_add_86 fN s0 s1 s2 M) (GX66_add_86 s0 s1 s2 M) (OkV M) := by
  delta FX66_add_86 BX66_add_86
  refine gd_c n_s0 ?_
  refine gd_b (gX71_become _ _ _ _ ⟨T.1, T.2⟩ n_s0 n_s1 z_s2 ) (fun K0 => ?_)
  exact gd_tV K0.2 (gX66_add_204  _ ⟨K0.1.1, K0.1.2⟩  )
noncomputable def GX66_add_60 (a0 : Nat) (a1 : Nat) (a4 : Nat) (M : FM) : FM :=
  let r1 : Int32 × FM := GX71_is a0 8 M
  fi (r1.1 = 0) (
    GX66_add_86 a4 8 (r1.2.1 115 a1 0) r1.2) (
    GX66_add_86 a4 8 (r1.2.1 115 a0 0) r1.2)
theorem gX66_add_60 (a0 : Nat) (a1 : Nat) (a4 : Nat) (M : FM) (T : Ty M) (n_a0 : fm_is M 39 39 a0 = true) (n_a1 : fm_is M 39 39 a1 = true) (n_a4 : fm_is M 39 39 a4 = true) : gd (FX66_add_60 fN a0 a1 a4 M) (GX66_add_60 a0 a1 a4 M) (OkV M) := by
  delta FX66_add_60 BX66_add_60
  refine gd_c n_a0 ?_
  have f8 := (tC_8 T.1)
  refine gd_b (gX71_is _ _ _ ⟨T.1, T.2⟩ n_a0 f8 ) (fun K0 => ?_)
  refine gd_fi (fun c1_0 => ?_) (fun c1_0 => ?_)
  · have f2 := (ext_is K0.2.1 (Nat.zero_lt_succ _) n_a1)
    refine gd_c f2 ?_
    have f3 := (ext_is K0.2.1 (Nat.zero_lt_succ _) n_a4)
    have f4 := (ext_is K0.2.1 (Nat.zero_lt_succ _) (tC_8 T.1))
    exact gd_tV K0.2.1 (gX66_add_86 _ _ _ _ ⟨K0.1.1, K0.1.2⟩ f3 f4 (tB_115 K0.1.2 _) )
  · have f5 := (ext_is K0.2.1 (Nat.zero_lt_succ _) n_a0)
    refine gd_c f5 ?_
    have f6 := (ext_is K0.2.1 (Nat.zero_lt_succ _) n_a4)
    have f7 := (ext_is K0.2.1 (Nat.zero_lt_succ _) (tC_8 T.1))
    exact gd_tV K0.2.1 (gX66_add_86 _ _ _ _ ⟨K0.1.1, K0.1.2⟩ f6 f7 (tB_115 K0.1.2 _) )
noncomputable def GX66_add_40 (a0 : Nat) (a1 : Nat) (a2 : Nat) (a4 : Nat) (M : FM) : FM :=
  let r1 : Int32 × FM := GX71_is a0 8 M
  fi (r1.1 = 0) (
    let r2 : Int32 × FM := GX71_is a1 8 r1.2
    fi (r2.1 = 0) (
      let r3 : Int32 × FM := GX71_is a0 6 r2.2
      fi (r3.1 = 0) (
        GX66_add_153 a0 a1 a2 a4 r3.2) (
        let r4 : Int32 × FM := GX71_is a1 6 r3.2
        fi (r4.1 = 0) (
          GX66_add_153 a0 a1 a2 a4 r4.2) (
          fi ((r4.2.1 115 a0 0) = (r4.2.1 115 a1 0)) (
            GX66_add_147 a4 6 (r4.2.1 115 a0 0) r4.2) (
            fi (a2 = 3) (
              GX66_add_147 a4 6 (Int32.ofInt 1) r4.2) (
              GX66_add_147 a4 6 (Int32.ofInt 0) r4.2))))) (
      GX66_add_60 a0 a1 a4 r2.2)) (
    GX66_add_60 a0 a1 a4 r1.2)
def HX66_add_40 (a0 : Nat) (a1 : Nat) (a2 : Nat) (a4 : Nat) (M : FM) : Prop := let r1 : Int32 × FM := GX71_is a0 8 M; ((r1.1 = 0 → let r2 : Int32 × FM := GX71_is a1 8 r1.2; ((r2.1 = 0 → let r3 : Int32 × FM := GX71_is a0 6 r2.2; ((r3.1 = 0 → HX66_add_153 a0 a1 a2 a4 r3.2) ∧ (¬ (r3.1 = 0) → let r4 : Int32 × FM := GX71_is a1 6 r3.2; ((r4.1 = 0 → HX66_add_153 a0 a1 a2 a4 r4.2) ∧ (¬ (r4.1 = 0) → True))))) ∧ (¬ (r2.1 = 0) → True))) ∧ (¬ (r1.1 = 0) → True))
theorem gX66_add_40 (a0 : Nat) (a1 : Nat) (a2 : Nat) (a4 : Nat) (M : FM) (T : Ty M) (n_a0 : fm_is M 39 39 a0 = true) (n_a1 : fm_is M 39 39 a1 = true) (n_a4 : fm_is M 39 39 a4 = true) (n_a2 : fm_is M 1 1 a2 = true) (h : HX66_add_40 a0 a1 a2 a4 M) : gd (FX66_add_40 fN a0 a1 a2 a4 M) (GX66_add_40 a0 a1 a2 a4 M) (OkV M) := by
  delta FX66_add_40 BX66_add_40
  refine gd_c n_a0 ?_
  have f42 := (tC_8 T.1)
  refine gd_b (gX71_is _ _ _ ⟨T.1, T.2⟩ n_a0 f42 ) (fun K0 => ?_)
  refine gd_fi (fun c1_0 => ?_) (fun c1_0 => ?_)
  · have f2 := (ext_is K0.2.1 (Nat.zero_lt_succ _) n_a1)
    refine gd_c f2 ?_
    have f37 := (ext_is K0.2.1 (Nat.zero_lt_succ _) n_a1)
    have f38 := (tC_8 K0.1.1)
    refine gd_b (gX71_is _ _ _ ⟨K0.1.1, K0.1.2⟩ f37 f38 ) (fun K3 => ?_)
    refine gd_fi (fun c4_0 => ?_) (fun c4_0 => ?_)
    · have f5 := (ext_is K3.2.1 (Nat.zero_lt_succ _) (ext_is K0.2.1 (Nat.zero_lt_succ _) n_a0))
      refine gd_c f5 ?_
      have f32 := (ext_is K3.2.1 (Nat.zero_lt_succ _) (ext_is K0.2.1 (Nat.zero_lt_succ _) n_a0))
      have f33 := (tC_6 K3.1.1)
      refine gd_b (gX71_is _ _ _ ⟨K3.1.1, K3.1.2⟩ f32 f33 ) (fun K6 => ?_)
      refine gd_fi (fun c7_0 => ?_) (fun c7_0 => ?_)
      · have f8 := (ext_is K6.2.1 (Nat.zero_lt_succ _) (ext_is K3.2.1 (Nat.zero_lt_succ _) (ext_is K0.2.1 (Nat.zero_lt_succ _) n_a0)))
        have f9 := (ext_is K6.2.1 (Nat.zero_lt_succ _) (ext_is K3.2.1 (Nat.zero_lt_succ _) (ext_is K0.2.1 (Nat.zero_lt_succ _) n_a1)))
        have f10 := (ext_is K6.2.1 (Nat.zero_lt_succ _) (ext_is K3.2.1 (Nat.zero_lt_succ _) (ext_is K0.2.1 (Nat.zero_lt_succ _) n_a4)))
        have f11 := (ext_is K6.2.1 (Nat.zero_lt_succ _) (ext_is K3.2.1 (Nat.zero_lt_succ _) (ext_is K0.2.1 (Nat.zero_lt_succ _) n_a2)))
        exact gd_tV (ext_tr K0.2.1 (ext_tr K3.2.1 K6.2.1)) (gX66_add_153 _ _ _ _ _ ⟨K6.1.1, K6.1.2⟩ f8 f9 f10 f11 (((h.1 c1_0).1 c4_0).1 c7_0))
      · have f12 := (ext_is K6.2.1 (Nat.zero_lt_succ _) (ext_is K3.2.1 (Nat.zero_lt_succ _) (ext_is K0.2.1 (Nat.zero_lt_succ _) n_a1)))
        refine gd_c f12 ?_
        have f30 := (ext_is K6.2.1 (Nat.zero_lt_succ _) (ext_is K3.2.1 (Nat.zero_lt_succ _) (ext_is K0.2.1 (Nat.zero_lt_succ _) n_a1)))
        have f31 := (tC_6 K6.1.1)
        refine gd_b (gX71_is _ _ _ ⟨K6.1.1, K6.1.2⟩ f30 f31 ) (fun K13 => ?_)
        refine gd_fi (fun c14_0 => ?_) (fun c14_0 => ?_)
        · have f15 := (ext_is K13.2.1 (Nat.zero_lt_succ _) (ext_is K6.2.1 (Nat.zero_lt_succ _) (ext_is K3.2.1 (Nat.zero_lt_succ _) (ext_is K0.2.1 (Nat.zero_lt_succ _) n_a0))))
          have f16 := (ext_is K13.2.1 (Nat.zero_lt_succ _) (ext_is K6.2.1 (Nat.zero_lt_succ _) (ext_is K3.2.1 (Nat.zero_lt_succ _) (ext_is K0.2.1 (Nat.zero_lt_succ _) n_a1))))
          have f17 := (ext_is K13.2.1 (Nat.zero_lt_succ _) (ext_is K6.2.1 (Nat.zero_lt_succ _) (ext_is K3.2.1 (Nat.zero_lt_succ _) (ext_is K0.2.1 (Nat.zero_lt_succ _) n_a4))))
          have f18 := (ext_is K13.2.1 (Nat.zero_lt_succ _) (ext_is K6.2.1 (Nat.zero_lt_succ _) (ext_is K3.2.1 (Nat.zero_lt_succ _) (ext_is K0.2.1 (Nat.zero_lt_succ _) n_a2))))
          exact gd_tV (ext_tr K0.2.1 (ext_tr K3.2.1 (ext_tr K6.2.1 K13.2.1))) (gX66_add_153 _ _ _ _ _ ⟨K13.1.1, K13.1.2⟩ f15 f16 f17 f18 ((((h.1 c1_0).1 c4_0).2 c7_0).1 c14_0))
        · have f19 := (ext_is K13.2.1 (Nat.zero_lt_succ _) (ext_is K6.2.1 (Nat.zero_lt_succ _) (ext_is K3.2.1 (Nat.zero_lt_succ _) (ext_is K0.2.1 (Nat.zero_lt_succ _) n_a0))))
          refine gd_c f19 ?_
          have f20 := (ext_is K13.2.1 (Nat.zero_lt_succ _) (ext_is K6.2.1 (Nat.zero_lt_succ _) (ext_is K3.2.1 (Nat.zero_lt_succ _) (ext_is K0.2.1 (Nat.zero_lt_succ _) n_a1))))
          refine gd_c f20 ?_
          refine gd_fi (fun c21_0 => ?_) (fun c21_0 => ?_)
          · have f22 := (ext_is K13.2.1 (Nat.zero_lt_succ _) (ext_is K6.2.1 (Nat.zero_lt_succ _) (ext_is K3.2.1 (Nat.zero_lt_succ _) (ext_is K0.2.1 (Nat.zero_lt_succ _) n_a0))))
            refine gd_c f22 ?_
            have f23 := (ext_is K13.2.1 (Nat.zero_lt_succ _) (ext_is K6.2.1 (Nat.zero_lt_succ _) (ext_is K3.2.1 (Nat.zero_lt_succ _) (ext_is K0.2.1 (Nat.zero_lt_succ _) n_a4))))
            have f24 := (tC_6 K13.1.1)
            exact gd_tV (ext_tr K0.2.1 (ext_tr K3.2.1 (ext_tr K6.2.1 K13.2.1))) (gX66_add_147 _ _ _ _ ⟨K13.1.1, K13.1.2⟩ f23 f24 (tB_115 K13.1.2 _) )
          · refine gd_c (Or.inl ⟨(ty_enum K13.1.1 (fm_w (lo' := 1) (hi' := 6) rfl rfl (ext_is K13.2.1 (Nat.zero_lt_succ _) (ext_is K6.2.1 (Nat.zero_lt_succ _) (ext_is K3.2.1 (Nat.zero_lt_succ _) (ext_is K0.2.1 (Nat.zero_lt_succ _) n_a2)))))), (ty_enum K13.1.1 (fm_w (lo' := 1) (hi' := 6) rfl rfl (tC_3 K13.1.1)))⟩) ?_
            refine gd_fi (fun c25_0 => ?_) (fun c25_0 => ?_)
            · have f26 := (ext_is K13.2.1 (Nat.zero_lt_succ _) (ext_is K6.2.1 (Nat.zero_lt_succ _) (ext_is K3.2.1 (Nat.zero_lt_succ _) (ext_is K0.2.1 (Nat.zero_lt_succ _) n_a4))))
              have f27 := (tC_6 K13.1.1)
              exact gd_tV (ext_tr K0.2.1 (ext_tr K3.2.1 (ext_tr K6.2.1 K13.2.1))) (gX66_add_147 _ _ _ _ ⟨K13.1.1, K13.1.2⟩ f26 f27 fz_1 )
            · have f28 := (ext_is K13.2.1 (Nat.zero_lt_succ _) (ext_is K6.2.1 (Nat.zero_lt_succ _) (ext_is K3.2.1 (Nat.zero_lt_succ _) (ext_is K0.2.1 (Nat.zero_lt_succ _) n_a4))))
              have f29 := (tC_6 K13.1.1)
              exact gd_tV (ext_tr K0.2.1 (ext_tr K3.2.1 (ext_tr K6.2.1 K13.2.1))) (gX66_add_147 _ _ _ _ ⟨K13.1.1, K13.1.2⟩ f28 f29 fz_0 )
    · have f34 := (ext_is K3.2.1 (Nat.zero_lt_succ _) (ext_is K0.2.1 (Nat.zero_lt_succ _) n_a0))
      have f35 := (ext_is K3.2.1 (Nat.zero_lt_succ _) (ext_is K0.2.1 (Nat.zero_lt_succ _) n_a1))
      have f36 := (ext_is K3.2.1 (Nat.zero_lt_succ _) (ext_is K0.2.1 (Nat.zero_lt_succ _) n_a4))
      exact gd_tV (ext_tr K0.2.1 K3.2.1) (gX66_add_60 _ _ _ _ ⟨K3.1.1, K3.1.2⟩ f34 f35 f36 )
  · have f39 := (ext_is K0.2.1 (Nat.zero_lt_succ _) n_a0)
    have f40 := (ext_is K0.2.1 (Nat.zero_lt_succ _) n_a1)
    have f41 := (ext_is K0.2.1 (Nat.zero_lt_succ _) n_a4)
    exact gd_tV K0.2.1 (gX66_add_60 _ _ _ _ ⟨K0.1.1, K0.1.2⟩ f39 f40 f41 )
noncomputable def GX66_add_0 (a0 : Nat) (a1 : Nat) (a2 : Nat) (a3 : Nat) (a4 : Nat) (M : FM) : FM :=
  let r1 : Int32 × FM := GX71_is a0 8 M
  fi (r1.1 = 0) (
    GX66_add_40 a0 a1 a2 a4 r1.2) (
    let r2 : Int32 × FM := GX71_is a1 8 r1.2
    fi (r2.1 = 0) (
      GX66_add_40 a0 a1 a2 a4 r2.2) (
      fi ((r2.2.1 115 a0 0) = (r2.2.1 115 a1 0)) (
        GX66_add_40 a0 a1 a2 a4 r2.2) (
        let M3 : FM := GX65_refuse a3 a4 r2.2
        GX66_add_204 M3)))
def HX66_add_0 (a0 : Nat) (a1 : Nat) (a2 : Nat) (a3 : Nat) (a4 : Nat) (M : FM) : Prop := let r1 : Int32 × FM := GX71_is a0 8 M; ((r1.1 = 0 → HX66_add_40 a0 a1 a2 a4 r1.2) ∧ (¬ (r1.1 = 0) → let r2 : Int32 × FM := GX71_is a1 8 r1.2; ((r2.1 = 0 → HX66_add_40 a0 a1 a2 a4 r2.2) ∧ (¬ (r2.1 = 0) → (((r2.2.1 115 a0 0) = (r2.2.1 115 a1 0) → HX66_add_40 a0 a1 a2 a4 r2.2) ∧ (¬ ((r2.2.1 115 a0 0) = (r2.2.1 115 a1 0)) → (HX65_refuse a3 a4 r2.2 ∧ True)))))))
theorem gX66_add_0 (a0 : Nat) (a1 : Nat) (a2 : Nat) (a3 : Nat) (a4 : Nat) (M : FM) (T : Ty M) (n_a0 : fm_is M 39 39 a0 = true) (n_a1 : fm_is M 39 39 a1 = true) (n_a4 : fm_is M 39 39 a4 = true) (n_a2 : fm_is M 1 1 a2 = true) (n_a3 : fm_is M 31 31 a3 = true) (h : HX66_add_0 a0 a1 a2 a3 a4 M) : gd (FX66_add_0 fN a0 a1 a2 a3 a4 M) (GX66_add_0 a0 a1 a2 a3 a4 M) (OkV M) := by
  delta FX66_add_0 BX66_add_0
  refine gd_c n_a0 ?_
  have f25 := (tC_8 T.1)
  refine gd_b (gX71_is _ _ _ ⟨T.1, T.2⟩ n_a0 f25 ) (fun K0 => ?_)
  refine gd_fi (fun c1_0 => ?_) (fun c1_0 => ?_)
  · have f2 := (ext_is K0.2.1 (Nat.zero_lt_succ _) n_a0)
    have f3 := (ext_is K0.2.1 (Nat.zero_lt_succ _) n_a1)
    have f4 := (ext_is K0.2.1 (Nat.zero_lt_succ _) n_a4)
    have f5 := (ext_is K0.2.1 (Nat.zero_lt_succ _) n_a2)
    exact gd_tV K0.2.1 (gX66_add_40 _ _ _ _ _ ⟨K0.1.1, K0.1.2⟩ f2 f3 f4 f5 (h.1 c1_0))
  · have f6 := (ext_is K0.2.1 (Nat.zero_lt_succ _) n_a1)
    refine gd_c f6 ?_
    have f23 := (ext_is K0.2.1 (Nat.zero_lt_succ _) n_a1)
    have f24 := (tC_8 K0.1.1)
    refine gd_b (gX71_is _ _ _ ⟨K0.1.1, K0.1.2⟩ f23 f24 ) (fun K7 => ?_)
    refine gd_fi (fun c8_0 => ?_) (fun c8_0 => ?_)
    · have f9 := (ext_is K7.2.1 (Nat.zero_lt_succ _) (ext_is K0.2.1 (Nat.zero_lt_succ _) n_a0))
      have f10 := (ext_is K7.2.1 (Nat.zero_lt_succ _) (ext_is K0.2.1 (Nat.zero_lt_succ _) n_a1))
      have f11 := (ext_is K7.2.1 (Nat.zero_lt_succ _) (ext_is K0.2.1 (Nat.zero_lt_succ _) n_a4))
      have f12 := (ext_is K7.2.1 (Nat.zero_lt_succ _) (ext_is K0.2.1 (Nat.zero_lt_succ _) n_a2))
      exact gd_tV (ext_tr K0.2.1 K7.2.1) (gX66_add_40 _ _ _ _ _ ⟨K7.1.1, K7.1.2⟩ f9 f10 f11 f12 ((h.2 c1_0).1 c8_0))
    · have f13 := (ext_is K7.2.1 (Nat.zero_lt_succ _) (ext_is K0.2.1 (Nat.zero_lt_succ _) n_a0))
      refine gd_c f13 ?_
      have f14 := (ext_is K7.2.1 (Nat.zero_lt_succ _) (ext_is K0.2.1 (Nat.zero_lt_succ _) n_a1))
      refine gd_c f14 ?_
      refine gd_fi (fun c15_0 => ?_) (fun c15_0 => ?_)
      · have f16 := (ext_is K7.2.1 (Nat.zero_lt_succ _) (ext_is K0.2.1 (Nat.zero_lt_succ _) n_a0))
        have f17 := (ext_is K7.2.1 (Nat.zero_lt_succ _) (ext_is K0.2.1 (Nat.zero_lt_succ _) n_a1))
        have f18 := (ext_is K7.2.1 (Nat.zero_lt_succ _) (ext_is K0.2.1 (Nat.zero_lt_succ _) n_a4))
        have f19 := (ext_is K7.2.1 (Nat.zero_lt_succ _) (ext_is K0.2.1 (Nat.zero_lt_succ _) n_a2))
        exact gd_tV (ext_tr K0.2.1 K7.2.1) (gX66_add_40 _ _ _ _ _ ⟨K7.1.1, K7.1.2⟩ f16 f17 f18 f19 (((h.2 c1_0).2 c8_0).1 c15_0))
      · have f21 := (ext_is K7.2.1 (Nat.zero_lt_succ _) (ext_is K0.2.1 (Nat.zero_lt_succ _) n_a3))
        have f22 := (ext_is K7.2.1 (Nat.zero_lt_succ _) (ext_is K0.2.1 (Nat.zero_lt_succ _) n_a4))
        refine gd_b (gX65_refuse _ _ _ ⟨K7.1.1, K7.1.2⟩ f21 f22 (((h.2 c1_0).2 c8_0).2 c15_0).1) (fun K20 => ?_)
        exact gd_tV (ext_tr K0.2.1 (ext_tr K7.2.1 K20.2)) (gX66_add_204  _ ⟨K20.1.1, K20.1.2⟩  )
noncomputable def GX66_add (a0 : Nat) (a1 : Nat) (a2 : Nat) (a3 : Nat) (a4 : Nat) (M : FM) : FM := GX66_add_0 a0 a1 a2 a3 a4 M
def HX66_add (a0 : Nat) (a1 : Nat) (a2 : Nat) (a3 : Nat) (a4 : Nat) (M : FM) : Prop := HX66_add_0 a0 a1 a2 a3 a4 M
theorem gX66_add (a0 : Nat) (a1 : Nat) (a2 : Nat) (a3 : Nat) (a4 : Nat) (M : FM) (T : Ty M) (n_a0 : fm_is M 39 39 a0 = true) (n_a1 : fm_is M 39 39 a1 = true) (n_a4 : fm_is M 39 39 a4 = true) (n_a2 : fm_is M 1 1 a2 = true) (n_a3 : fm_is M 31 31 a3 = true) (h : HX66_add a0 a1 a2 a3 a4 M) : gd (FX66_add fN a0 a1 a2 a3 a4 M) (GX66_add a0 a1 a2 a3 a4 M) (OkV M) := gX66_add_0 a0 a1 a2 a3 a4 M T n_a0 n_a1 n_a4 n_a2 n_a3 h
noncomputable def GX66_work_0 (a0 : Nat) (a1 : Nat) (a2 : Nat) (a3 : Nat) (a4 : Nat) (a5 : Nat) (M : FM) : FM :=
  let x1 : Int32 := ((M.1 115 a2 0) ^^^ (M.1 113 a0 0))
  let M2 : FM := fm_sI M 115 a2 0 x1
  let M3 : FM := GX66_add a1 a2 a3 a4 a5 M2
  M3
def HX66_work_0 (a0 : Nat) (a1 : Nat) (a2 : Nat) (a3 : Nat) (a4 : Nat) (a5 : Nat) (M : FM) : Prop := let x1 : Int32 := ((M.1 115 a2 0) ^^^ (M.1 113 a0 0)); let M2 : FM := fm_sI M 115 a2 0 x1; (HX66_add a1 a2 a3 a4 a5 M2 ∧ True)
theorem gX66_work_0 (a0 : Nat) (a1 : Nat) (a2 : Nat) (a3 : Nat) (a4 : Nat) (a5 : Nat) (M : FM) (T : Ty M) (n_a2 : fm_is M 39 39 a2 = true) (n_a0 : fm_is M 38 38 a0 = true) (n_a1 : fm_is M 39 39 a1 = true) (n_a5 : fm_is M 39 39 a5 = true) (n_a3 : fm_is M 1 1 a3 = true) (n_a4 : fm_is M 31 31 a4 = true) (h : HX66_work_0 a0 a1 a2 a3 a4 a5 M) : gd (FX66_work_0 fN a0 a1 a2 a3 a4 a5 M) (GX66_work_0 a0 a1 a2 a3 a4 a5 M) (OkV M) := by
  delta FX66_work_0 BX66_work_0
  refine gd_c n_a2 ?_
  refine gd_c n_a0 ?_
  refine gd_c n_a2 ?_
  refine gd_c (zz_xor (tB_115 T.2 _) (tB_113 T.2 _)) ?_
  refine gd_b (gX66_add _ _ _ _ _ _ ⟨T.1, (tyb_sIb (f := 115) rfl T.2 (zz_xor (tB_115 T.2 _) (tB_113 T.2 _)))⟩ n_a1 n_a2 n_a5 n_a3 n_a4 h.1) (fun K0 => ?_)
  exact ⟨rfl, ⟨K0.1.1, K0.1.2⟩, (ext_dI K0.2)⟩
noncomputable def GX66_work (a0 : Nat) (a1 : Nat) (a2 : Nat) (a3 : Nat) (a4 : Nat) (a5 : Nat) (M : FM) : FM := GX66_work_0 a0 a1 a2 a3 a4 a5 M
def HX66_work (a0 : Nat) (a1 : Nat) (a2 : Nat) (a3 : Nat) (a4 : Nat) (a5 : Nat) (M : FM) : Prop := HX66_work_0 a0 a1 a2 a3 a4 a5 M
theorem gX66_work (a0 : Nat) (a1 : Nat) (a2 : Nat) (a3 : Nat) (a4 : Nat) (a5 : Nat) (M : FM) (T : Ty M) (n_a2 : fm_is M 39 39 a2 = true) (n_a0 : fm_is M 38 38 a0 = true) (n_a1 : fm_is M 39 39 a1 = true) (n_a5 : fm_is M 39 39 a5 = true) (n_a3 : fm_is M 1 1 a3 = true) (n_a4 : fm_is M 31 31 a4 = true) (h : HX66_work a0 a1 a2 a3 a4 a5 M) : gd (FX66_work fN a0 a1 a2 a3 a4 a5 M) (GX66_work a0 a1 a2 a3 a4 a5 M) (OkV M) := gX66_work_0 a0 a1 a2 a3 a4 a5 M T n_a2 n_a0 n_a1 n_a5 n_a3 n_a4 h
noncomputable def GX65_run_23 (M : FM) : FM :=
  M
theorem gX65_run_23 (M : FM) (T : Ty M) : gd (FX65_run_23 fN M) (GX65_run_23 M) (OkV M) := by
  delta FX65_run_23 BX65_run_23
  exact ⟨rfl, ⟨T.1, T.2⟩, (ext_r _)⟩
noncomputable def GX65_run_0 (a0 : Nat) (a1 : Nat) (a2 : Nat) (a3 : Nat) (a4 : Nat) (a5 : Nat) (M : FM) : FM :=
  let r1 : Int32 × FM := GX65_isNone a1 a2 a4 a5 M
  fi (r1.1 = 0) (
    let M2 : FM := (fi (fm_is r1.2 34 34 a0 = true) (GX67_work a0 a1 a2 a3 a4 a5 r1.2) ((fi (fm_is r1.2 35 35 a0 = true) (GX68_work a0 a1 a2 a3 a4 a5 r1.2) ((fi (fm_is r1.2 36 36 a0 = true) (GX69_work a0 a1 a2 a3 a4 a5 r1.2) ((fi (fm_is r1.2 37 37 a0 = true) (GX70_work a0 a1 a2 a3 a4 a5 r1.2) (GX66_work a0 a1 a2 a3 a4 a5 r1.2))))))))
    GX65_run_23 M2) (
    GX65_run_23 r1.2)
def HX65_run_0 (a0 : Nat) (a1 : Nat) (a2 : Nat) (a3 : Nat) (a4 : Nat) (a5 : Nat) (M : FM) : Prop := (HX65_isNone a1 a2 a4 a5 M ∧ let r1 : Int32 × FM := GX65_isNone a1 a2 a4 a5 M; ((r1.1 = 0 → (((fm_is r1.2 34 34 a0 = true → HX67_work a0 a1 a2 a3 a4 a5 r1.2) ∧ (¬ (fm_is r1.2 34 34 a0 = true) → ((fm_is r1.2 35 35 a0 = true → HX68_work a0 a1 a2 a3 a4 a5 r1.2) ∧ (¬ (fm_is r1.2 35 35 a0 = true) → ((fm_is r1.2 36 36 a0 = true → HX69_work a0 a1 a2 a3 a4 a5 r1.2) ∧ (¬ (fm_is r1.2 36 36 a0 = true) → ((fm_is r1.2 37 37 a0 = true → True) ∧ (¬ (fm_is r1.2 37 37 a0 = true) → HX66_work a0 a1 a2 a3 a4 a5 r1.2)))))))) ∧ True)) ∧ (¬ (r1.1 = 0) → True)))
theorem gX65_run_0 (a0 : Nat) (a1 : Nat) (a2 : Nat) (a3 : Nat) (a4 : Nat) (a5 : Nat) (M : FM) (T : Ty M) (n_a1 : fm_is M 39 39 a1 = true) (n_a2 : fm_is M 39 39 a2 = true) (n_a4 : fm_is M 31 31 a4 = true) (n_a5 : fm_is M 39 39 a5 = true) (n_a0 : fm_is M 34 38 a0 = true) (n_a3 : fm_is M 1 1 a3 = true) (h : HX65_run_0 a0 a1 a2 a3 a4 a5 M) : gd (FX65_run_0 fN a0 a1 a2 a3 a4 a5 M) (GX65_run_0 a0 a1 a2 a3 a4 a5 M) (OkV M) := by
  delta FX65_run_0 BX65_run_0
  refine gd_b (gX65_isNone _ _ _ _ _ ⟨T.1, T.2⟩ n_a1 n_a2 n_a4 n_a5 h.1) (fun K0 => ?_)
  refine gd_fi (fun c1_0 => ?_) (fun c1_0 => ?_)
  · have f2 := (ext_is K0.2.1 (Nat.zero_lt_succ _) n_a0)
    have f4 := (ext_is K0.2.1 (Nat.zero_lt_succ _) n_a1)
    have f5 := (ext_is K0.2.1 (Nat.zero_lt_succ _) n_a2)
    have f6 := (ext_is K0.2.1 (Nat.zero_lt_succ _) n_a5)
    have f7 := (ext_is K0.2.1 (Nat.zero_lt_succ _) n_a4)
    have f9 := (ext_is K0.2.1 (Nat.zero_lt_succ _) n_a1)
    have f10 := (ext_is K0.2.1 (Nat.zero_lt_succ _) n_a2)
    have f11 := (ext_is K0.2.1 (Nat.zero_lt_succ _) n_a4)
    have f12 := (ext_is K0.2.1 (Nat.zero_lt_succ _) n_a5)
    have f14 := (ext_is K0.2.1 (Nat.zero_lt_succ _) n_a1)
    have f15 := (ext_is K0.2.1 (Nat.zero_lt_succ _) n_a5)
    have f16 := (ext_is K0.2.1 (Nat.zero_lt_succ _) n_a4)
    have f18 := (ext_is K0.2.1 (Nat.zero_lt_succ _) n_a5)
    have f19 := (ext_is K0.2.1 (Nat.zero_lt_succ _) n_a1)
    have f20 := (ext_is K0.2.1 (Nat.zero_lt_succ _) n_a2)
    have f21 := (ext_is K0.2.1 (Nat.zero_lt_succ _) n_a1)
    have f22 := (ext_is K0.2.1 (Nat.zero_lt_succ _) n_a5)
    have f23 := (ext_is K0.2.1 (Nat.zero_lt_succ _) n_a3)
    have f24 := (ext_is K0.2.1 (Nat.zero_lt_succ _) n_a4)
    refine gd_kb (gk_fi (gk_b _ _) (gk_fi (gk_b _ _) (gk_fi (gk_b _ _) (gk_fi (gk_b _ _) (gk_fi (gk_b _ _) gk_0))))) (gd_fi (fun c3 => (gX67_work _ _ _ _ _ _ _ ⟨K0.1.1, K0.1.2⟩ f4 f5 f6 f7 ((h.2.1 c1_0).1.1 c3))) (fun c3 => (gd_fi (fun c8 => (gX68_work _ _ _ _ _ _ _ ⟨K0.1.1, K0.1.2⟩ f9 f10 f11 f12 (((h.2.1 c1_0).1.2 c3).1 c8))) (fun c8 => (gd_fi (fun c13 => (gX69_work _ _ _ _ _ _ _ ⟨K0.1.1, K0.1.2⟩ f14 f15 f16 ((((h.2.1 c1_0).1.2 c3).2 c8).1 c13))) (fun c13 => (gd_fi (fun c17 => (gX70_work _ _ _ _ _ _ _ ⟨K0.1.1, K0.1.2⟩ f18 f19 )) (fun c17 => (gd_c (fm_up (fm_up (fm_up (fm_up f2 c3) c8) c13) c17) (gX66_work _ _ _ _ _ _ _ ⟨K0.1.1, K0.1.2⟩ f20 (fm_up (fm_up (fm_up (fm_up f2 c3) c8) c13) c17) f21 f22 f23 f24 (((((h.2.1 c1_0).1.2 c3).2 c8).2 c13).2 c17))))))))))) (fun K25 => ?_)
    exact gd_tV (ext_tr K0.2.1 K25.2) (gX65_run_23  _ ⟨K25.1.1, K25.1.2⟩  )
  · exact gd_tV K0.2.1 (gX65_run_23  _ ⟨K0.1.1, K0.1.2⟩  )
noncomputable def GX65_run (a0 : Nat) (a1 : Nat) (a2 : Nat) (a3 : Nat) (a4 : Nat) (a5 : Nat) (M : FM) : FM := GX65_run_0 a0 a1 a2 a3 a4 a5 M
def HX65_run (a0 : Nat) (a1 : Nat) (a2 : Nat) (a3 : Nat) (a4 : Nat) (a5 : Nat) (M : FM) : Prop := HX65_run_0 a0 a1 a2 a3 a4 a5 M
theorem gX65_run (a0 : Nat) (a1 : Nat) (a2 : Nat) (a3 : Nat) (a4 : Nat) (a5 : Nat) (M : FM) (T : Ty M) (n_a1 : fm_is M 39 39 a1 = true) (n_a2 : fm_is M 39 39 a2 = true) (n_a4 : fm_is M 31 31 a4 = true) (n_a5 : fm_is M 39 39 a5 = true) (n_a0 : fm_is M 34 38 a0 = true) (n_a3 : fm_is M 1 1 a3 = true) (h : HX65_run a0 a1 a2 a3 a4 a5 M) : gd (FX65_run fN a0 a1 a2 a3 a4 a5 M) (GX65_run a0 a1 a2 a3 a4 a5 M) (OkV M) := gX65_run_0 a0 a1 a2 a3 a4 a5 M T n_a1 n_a2 n_a4 n_a5 n_a0 n_a3 h
noncomputable def GX61_infinite_0 (a0 : Nat) (a1 : Int32) (M : FM) : Int64 × FM :=
  let r1 : Int64 × FM := GX61_sign a0 a1 M
  let r2 : Int64 × FM := GX61_top a0 r1.2
  ((r1.1 ||| r2.1), r2.2)
theorem gX61_infinite_0 (a0 : Nat) (a1 : Int32) (M : FM) (T : Ty M) (n_a0 : fm_is M 33 33 a0 = true) : gd (FX61_infinite_0 a0 a1 M) (GX61_infinite_0 a0 a1 M) (OkR M) := by
  delta FX61_infinite_0 BX61_infinite_0
  refine gd_c n_a0 ?_
  refine gd_b (gX61_sign _ _ _ ⟨T.1, T.2⟩ n_a0 ) (fun K0 => ?_)
  have f1 := (ext_is K0.2 (Nat.zero_lt_succ _) n_a0)
  refine gd_c f1 ?_
  have f3 := (ext_is K0.2 (Nat.zero_lt_succ _) n_a0)
  refine gd_b (gX61_top _ _ ⟨K0.1.1, K0.1.2⟩ f3 ) (fun K2 => ?_)
  exact ⟨rfl, ⟨K2.1.1, K2.1.2⟩, (ext_tr K0.2 K2.2)⟩
noncomputable def GX61_infinite (a0 : Nat) (a1 : Int32) (M : FM) : Int64 × FM := GX61_infinite_0 a0 a1 M
theorem gX61_infinite (a0 : Nat) (a1 : Int32) (M : FM) (T : Ty M) (n_a0 : fm_is M 33 33 a0 = true) : gd (FX61_infinite a0 a1 M) (GX61_infinite a0 a1 M) (OkR M) := gX61_infinite_0 a0 a1 M T n_a0 
noncomputable def GJ5_max_10 (s0 : Int32) (M : FM) : Int32 × FM :=
  (s0, M)
theorem gJ5_max_10 (s0 : Int32) (M : FM) (T : Ty M) : gd (FJ5_max_10 s0 M) (GJ5_max_10 s0 M) (OkR M) := by
  delta FJ5_max_10 BJ5_max_10
  exact ⟨rfl, ⟨T.1, T.2⟩, (ext_r _)⟩
noncomputable def GJ5_max_0 (a0 : Int32) (a1 : Int32) (M : FM) : Int32 × FM :=
  fi (a0 < a1) (
    GJ5_max_10 a1 M) (
    GJ5_max_10 a0 M)
theorem gJ5_max_0 (a0 : Int32) (a1 : Int32) (M : FM) (T : Ty M) : gd (FJ5_max_0 a0 a1 M) (GJ5_max_0 a0 a1 M) (OkR M) := by
  delta FJ5_max_0 BJ5_max_0
  refine gd_fi (fun c0_0 => ?_) (fun c0_0 => ?_)
  · exact gd_tR (ext_r _) (gJ5_max_10 _ _ ⟨T.1, T.2⟩  )
  · exact gd_tR (ext_r _) (gJ5_max_10 _ _ ⟨T.1, T.2⟩  )
noncomputable def GJ5_max (a0 : Int32) (a1 : Int32) (M : FM) : Int32 × FM := GJ5_max_0 a0 a1 M
theorem gJ5_max (a0 : Int32) (a1 : Int32) (M : FM) (T : Ty M) : gd (FJ5_max a0 a1 M) (GJ5_max a0 a1 M) (OkR M) := gJ5_max_0 a0 a1 M T 
noncomputable def GX62_cut_33 (a0 : Nat) (M : FM) : Int32 × FM :=
  let x1 : Int32 := ((M.2.1 120 a0 0) &&& (Int64.ofInt 3)).toInt32
  let M2 : FM := GX62_right a0 (Int32.ofInt 2) M
  (x1, M2)
theorem gX62_cut_33 (a0 : Nat) (M : FM) (T : Ty M) (n_a0 : fm_is M 40 40 a0 = true) : gd (FX62_cut_33 a0 M) (GX62_cut_33 a0 M) (OkR M) := by
  delta FX62_cut_33 BX62_cut_33
  refine gd_c n_a0 ?_
  refine gd_c n_a0 ?_
  refine gd_b (gX62_right _ _ _ ⟨T.1, T.2⟩ n_a0 ) (fun K0 => ?_)
  exact ⟨rfl, ⟨K0.1.1, K0.1.2⟩, K0.2⟩
noncomputable def GX62_cut_0 (a0 : Nat) (a1 : Int32) (M : FM) : Int32 × FM :=
  fi ((Int32.ofInt 1) ≤ a1) (
    fi (a1 = (Int32.ofInt 1)) (
      let M1 : FM := GX62_left a0 (Int32.ofInt 1) M
      GX62_cut_33 a0 M1) (
      let M2 : FM := GX62_jam a0 (a1 - (Int32.ofInt 2)) M
      GX62_cut_33 a0 M2)) (
    let M3 : FM := GX62_left a0 (-a1) M
    ((Int32.ofInt 0), M3))
theorem gX62_cut_0 (a0 : Nat) (a1 : Int32) (M : FM) (T : Ty M) (n_a0 : fm_is M 40 40 a0 = true) : gd (FX62_cut_0 a0 a1 M) (GX62_cut_0 a0 a1 M) (OkR M) := by
  delta FX62_cut_0 BX62_cut_0
  refine gd_fi (fun c0_0 => ?_) (fun c0_0 => ?_)
  · refine gd_fi (fun c1_0 => ?_) (fun c1_0 => ?_)
    · refine gd_c n_a0 ?_
      refine gd_b (gX62_left _ _ _ ⟨T.1, T.2⟩ n_a0 ) (fun K2 => ?_)
      have f3 := (ext_is K2.2 (Nat.zero_lt_succ _) n_a0)
      exact gd_tR K2.2 (gX62_cut_33 _ _ ⟨K2.1.1, K2.1.2⟩ f3 )
    · refine gd_c n_a0 ?_
      refine gd_b (gX62_jam _ _ _ ⟨T.1, T.2⟩ n_a0 ) (fun K4 => ?_)
      have f5 := (ext_is K4.2 (Nat.zero_lt_succ _) n_a0)
      exact gd_tR K4.2 (gX62_cut_33 _ _ ⟨K4.1.1, K4.1.2⟩ f5 )
  · refine gd_c n_a0 ?_
    refine gd_b (gX62_left _ _ _ ⟨T.1, T.2⟩ n_a0 ) (fun K6 => ?_)
    exact ⟨rfl, ⟨K6.1.1, K6.1.2⟩, K6.2⟩
noncomputable def GX62_cut (a0 : Nat) (a1 : Int32) (M : FM) : Int32 × FM := GX62_cut_0 a0 a1 M
theorem gX62_cut (a0 : Nat) (a1 : Int32) (M : FM) (T : Ty M) (n_a0 : fm_is M 40 40 a0 = true) : gd (FX62_cut a0 a1 M) (GX62_cut a0 a1 M) (OkR M) := gX62_cut_0 a0 a1 M T n_a0 
noncomputable def GX62_isOdd_16 (s0 : Int32) (M : FM) : Int32 × FM :=
  (s0, M)
theorem gX62_isOdd_16 (s0 : Int32) (M : FM) (T : Ty M) (z_s0 : s0 = 0 ∨ s0 = 1) : gd (FX62_isOdd_16 s0 M) (GX62_isOdd_16 s0 M) (OkZ M) := by
  delta FX62_isOdd_16 BX62_isOdd_16
  exact gd_z z_s0 ⟨T.1, T.2⟩ (ext_r _) rfl
noncomputable def GX62_isOdd_0 (a0 : Nat) (M : FM) : Int32 × FM :=
  fi ((lg_cmp ((M.2.1 120 a0 0) &&& (Int64.ofInt 1)) (Int64.ofInt 1)) = 0) (
    GX62_isOdd_16 (Int32.ofInt 1) M) (
    GX62_isOdd_16 (Int32.ofInt 0) M)
theorem gX62_isOdd_0 (a0 : Nat) (M : FM) (T : Ty M) (n_a0 : fm_is M 40 40 a0 = true) : gd (FX62_isOdd_0 a0 M) (GX62_isOdd_0 a0 M) (OkZ M) := by
  delta FX62_isOdd_0 BX62_isOdd_0
  refine gd_c n_a0 ?_
  refine gd_fi (fun c0_0 => ?_) (fun c0_0 => ?_)
  · exact gd_tZ (ext_r _) (gX62_isOdd_16 _ _ ⟨T.1, T.2⟩ fz_1 )
  · exact gd_tZ (ext_r _) (gX62_isOdd_16 _ _ ⟨T.1, T.2⟩ fz_0 )
noncomputable def GX62_isOdd (a0 : Nat) (M : FM) : Int32 × FM := GX62_isOdd_0 a0 M
theorem gX62_isOdd (a0 : Nat) (M : FM) (T : Ty M) (n_a0 : fm_is M 40 40 a0 = true) : gd (FX62_isOdd a0 M) (GX62_isOdd a0 M) (OkZ M) := gX62_isOdd_0 a0 M T n_a0 
noncomputable def GX63_grows_99 (M : FM) : Int32 × FM :=
  ((Int32.ofInt 0), M)
theorem gX63_grows_99 (M : FM) (T : Ty M) : gd (FX63_grows_99 M) (GX63_grows_99 M) (OkZ M) := by
  delta FX63_grows_99 BX63_grows_99
  exact gd_z fz_0 ⟨T.1, T.2⟩ (ext_r _) rfl
noncomputable def GX63_grows_98 (s0 : Int32) (M : FM) : Int32 × FM :=
  (s0, M)
theorem gX63_grows_98 (s0 : Int32) (M : FM) (T : Ty M) (z_s0 : s0 = 0 ∨ s0 = 1) : gd (FX63_grows_98 s0 M) (GX63_grows_98 s0 M) (OkZ M) := by
  delta FX63_grows_98 BX63_grows_98
  exact gd_z z_s0 ⟨T.1, T.2⟩ (ext_r _) rfl
noncomputable def GX63_grows_87 (s0 : Int32) (M : FM) : Int32 × FM :=
  (s0, M)
theorem gX63_grows_87 (s0 : Int32) (M : FM) (T : Ty M) (z_s0 : s0 = 0 ∨ s0 = 1) : gd (FX63_grows_87 s0 M) (GX63_grows_87 s0 M) (OkZ M) := by
  delta FX63_grows_87 BX63_grows_87
  exact gd_z z_s0 ⟨T.1, T.2⟩ (ext_r _) rfl
noncomputable def GX63_grows_86 (M : FM) : Int32 × FM :=
  GX63_grows_87 (Int32.ofInt 0) M
theorem gX63_grows_86 (M : FM) (T : Ty M) : gd (FX63_grows_86 M) (GX63_grows_86 M) (OkZ M) := by
  delta FX63_grows_86 BX63_grows_86
  exact gd_tZ (ext_r _) (gX63_grows_87 _ _ ⟨T.1, T.2⟩ fz_0 )
noncomputable def GX63_grows_73 (s0 : Int32) (M : FM) : Int32 × FM :=
  (s0, M)
theorem gX63_grows_73 (s0 : Int32) (M : FM) (T : Ty M) (z_s0 : s0 = 0 ∨ s0 = 1) : gd (FX63_grows_73 s0 M) (GX63_grows_73 s0 M) (OkZ M) := by
  delta FX63_grows_73 BX63_grows_73
  exact gd_z z_s0 ⟨T.1, T.2⟩ (ext_r _) rfl
noncomputable def GX63_grows_72 (M : FM) : Int32 × FM :=
  GX63_grows_73 (Int32.ofInt 0) M
theorem gX63_grows_72 (M : FM) (T : Ty M) : gd (FX63_grows_72 M) (GX63_grows_72 M) (OkZ M) := by
  delta FX63_grows_72 BX63_grows_72
  exact gd_tZ (ext_r _) (gX63_grows_73 _ _ ⟨T.1, T.2⟩ fz_0 )
noncomputable def GX63_grows_59 (s0 : Int32) (M : FM) : Int32 × FM :=
  (s0, M)
theorem gX63_grows_59 (s0 : Int32) (M : FM) (T : Ty M) (z_s0 : s0 = 0 ∨ s0 = 1) : gd (FX63_grows_59 s0 M) (GX63_grows_59 s0 M) (OkZ M) := by
  delta FX63_grows_59 BX63_grows_59
  exact gd_z z_s0 ⟨T.1, T.2⟩ (ext_r _) rfl
noncomputable def GX63_grows_58 (M : FM) : Int32 × FM :=
  GX63_grows_59 (Int32.ofInt 0) M
theorem gX63_grows_58 (M : FM) (T : Ty M) : gd (FX63_grows_58 M) (GX63_grows_58 M) (OkZ M) := by
  delta FX63_grows_58 BX63_grows_58
  exact gd_tZ (ext_r _) (gX63_grows_59 _ _ ⟨T.1, T.2⟩ fz_0 )
noncomputable def GX63_grows_54 (M : FM) : Int32 × FM :=
  GX63_grows_59 (Int32.ofInt 1) M
theorem gX63_grows_54 (M : FM) (T : Ty M) : gd (FX63_grows_54 M) (GX63_grows_54 M) (OkZ M) := by
  delta FX63_grows_54 BX63_grows_54
  exact gd_tZ (ext_r _) (gX63_grows_59 _ _ ⟨T.1, T.2⟩ fz_1 )
noncomputable def GX63_grows_0 (a0 : Nat) (a1 : Int32) (a2 : Int32) (a3 : Int32) (M : FM) : Int32 × FM :=
  let r1 : Int32 × FM := GJ0_ordinal a0 M
  fi (r1.1 = (Int32.ofInt 0)) (
    fi (a3 = (Int32.ofInt 3)) (
      GX63_grows_54 r1.2) (
      fi (a3 = (Int32.ofInt 2)) (
        fi (a2 = 0) (
          GX63_grows_58 r1.2) (
          GX63_grows_54 r1.2)) (
        GX63_grows_58 r1.2))) (
    fi (r1.1 = (Int32.ofInt 1)) (
      GX63_grows_99 r1.2) (
      fi (r1.1 = (Int32.ofInt 2)) (
        fi (a1 = 0) (
          GX63_grows_72 r1.2) (
          fi (a3 ≤ 0) (
            GX63_grows_72 r1.2) (
            GX63_grows_73 (Int32.ofInt 1) r1.2))) (
        fi (r1.1 = (Int32.ofInt 3)) (
          fi (a1 = 0) (
            fi (a3 ≤ 0) (
              GX63_grows_86 r1.2) (
              GX63_grows_87 (Int32.ofInt 1) r1.2)) (
            GX63_grows_86 r1.2)) (
          fi (r1.1 = (Int32.ofInt 4)) (
            fi (a3 ≤ (Int32.ofInt 1)) (
              GX63_grows_98 (Int32.ofInt 0) r1.2) (
              GX63_grows_98 (Int32.ofInt 1) r1.2)) (
            GX63_grows_99 r1.2)))))
theorem gX63_grows_0 (a0 : Nat) (a1 : Int32) (a2 : Int32) (a3 : Int32) (M : FM) (T : Ty M) (n_a0 : fm_is M 1 1 a0 = true) : gd (FX63_grows_0 a0 a1 a2 a3 M) (GX63_grows_0 a0 a1 a2 a3 M) (OkZ M) := by
  delta FX63_grows_0 BX63_grows_0
  refine gd_c n_a0 ?_
  have f14 := (fm_w (lo' := 1) (hi' := 6) rfl rfl n_a0)
  refine gd_b (gJ0_ordinal _ _ ⟨T.1, T.2⟩ f14 ) (fun K0 => ?_)
  refine gd_fi (fun c1_0 => ?_) (fun c1_0 => ?_)
  · refine gd_fi (fun c2_0 => ?_) (fun c2_0 => ?_)
    · exact gd_tZ K0.2 (gX63_grows_54  _ ⟨K0.1.1, K0.1.2⟩  )
    · refine gd_fi (fun c3_0 => ?_) (fun c3_0 => ?_)
      · refine gd_fi (fun c4_0 => ?_) (fun c4_0 => ?_)
        · exact gd_tZ K0.2 (gX63_grows_58  _ ⟨K0.1.1, K0.1.2⟩  )
        · exact gd_tZ K0.2 (gX63_grows_54  _ ⟨K0.1.1, K0.1.2⟩  )
      · exact gd_tZ K0.2 (gX63_grows_58  _ ⟨K0.1.1, K0.1.2⟩  )
  · refine gd_fi (fun c5_1 => ?_) (fun c5_1 => ?_)
    · exact gd_tZ K0.2 (gX63_grows_99  _ ⟨K0.1.1, K0.1.2⟩  )
    · refine gd_fi (fun c6_2 => ?_) (fun c6_2 => ?_)
      · refine gd_fi (fun c7_0 => ?_) (fun c7_0 => ?_)
        · exact gd_tZ K0.2 (gX63_grows_72  _ ⟨K0.1.1, K0.1.2⟩  )
        · refine gd_fi (fun c8_0 => ?_) (fun c8_0 => ?_)
          · exact gd_tZ K0.2 (gX63_grows_72  _ ⟨K0.1.1, K0.1.2⟩  )
          · exact gd_tZ K0.2 (gX63_grows_73 _ _ ⟨K0.1.1, K0.1.2⟩ fz_1 )
      · refine gd_fi (fun c9_3 => ?_) (fun c9_3 => ?_)
        · refine gd_fi (fun c10_0 => ?_) (fun c10_0 => ?_)
          · refine gd_fi (fun c11_0 => ?_) (fun c11_0 => ?_)
            · exact gd_tZ K0.2 (gX63_grows_86  _ ⟨K0.1.1, K0.1.2⟩  )
            · exact gd_tZ K0.2 (gX63_grows_87 _ _ ⟨K0.1.1, K0.1.2⟩ fz_1 )
          · exact gd_tZ K0.2 (gX63_grows_86  _ ⟨K0.1.1, K0.1.2⟩  )
        · refine gd_fi (fun c12_4 => ?_) (fun c12_4 => ?_)
          · refine gd_fi (fun c13_0 => ?_) (fun c13_0 => ?_)
            · exact gd_tZ K0.2 (gX63_grows_98 _ _ ⟨K0.1.1, K0.1.2⟩ fz_0 )
            · exact gd_tZ K0.2 (gX63_grows_98 _ _ ⟨K0.1.1, K0.1.2⟩ fz_1 )
          · exact gd_tZ K0.2 (gX63_grows_99  _ ⟨K0.1.1, K0.1.2⟩  )
noncomputable def GX63_grows (a0 : Nat) (a1 : Int32) (a2 : Int32) (a3 : Int32) (M : FM) : Int32 × FM := GX63_grows_0 a0 a1 a2 a3 M
theorem gX63_grows (a0 : Nat) (a1 : Int32) (a2 : Int32) (a3 : Int32) (M : FM) (T : Ty M) (n_a0 : fm_is M 1 1 a0 = true) : gd (FX63_grows a0 a1 a2 a3 M) (GX63_grows a0 a1 a2 a3 M) (OkZ M) := gX63_grows_0 a0 a1 a2 a3 M T n_a0 
noncomputable def GX62_grow_29 (s0 : Nat) (s1 : Int64) (s2 : Int64) (M : FM) : FM :=
  let M1 : FM := fm_sL M 119 s0 0 (s1 + s2)
  M1
theorem gX62_grow_29 (s0 : Nat) (s1 : Int64) (s2 : Int64) (M : FM) (T : Ty M) (n_s0 : fm_is M 40 40 s0 = true) : gd (FX62_grow_29 s0 s1 s2 M) (GX62_grow_29 s0 s1 s2 M) (OkV M) := by
  delta FX62_grow_29 BX62_grow_29
  refine gd_c n_s0 ?_
  exact ⟨rfl, ⟨T.1, T.2⟩, (ext_dL (ext_r _))⟩
noncomputable def GX62_grow_0 (a0 : Nat) (M : FM) : FM :=
  let M1 : FM := fm_sL M 120 a0 0 ((M.2.1 120 a0 0) + (Int64.ofInt 1))
  fi ((lg_cmp (M1.2.1 120 a0 0) (Int64.ofInt 0)) = 0) (
    GX62_grow_29 a0 (M1.2.1 119 a0 0) (Int64.ofInt 1) M1) (
    GX62_grow_29 a0 (M1.2.1 119 a0 0) (Int64.ofInt 0) M1)
theorem gX62_grow_0 (a0 : Nat) (M : FM) (T : Ty M) (n_a0 : fm_is M 40 40 a0 = true) : gd (FX62_grow_0 a0 M) (GX62_grow_0 a0 M) (OkV M) := by
  delta FX62_grow_0 BX62_grow_0
  refine gd_c n_a0 ?_
  refine gd_c n_a0 ?_
  refine gd_c n_a0 ?_
  refine gd_c n_a0 ?_
  refine gd_fi (fun c0_0 => ?_) (fun c0_0 => ?_)
  · exact gd_tV (ext_dL (ext_r _)) (gX62_grow_29 _ _ _ _ ⟨T.1, T.2⟩ n_a0 )
  · exact gd_tV (ext_dL (ext_r _)) (gX62_grow_29 _ _ _ _ ⟨T.1, T.2⟩ n_a0 )
noncomputable def GX62_grow (a0 : Nat) (M : FM) : FM := GX62_grow_0 a0 M
theorem gX62_grow (a0 : Nat) (M : FM) (T : Ty M) (n_a0 : fm_is M 40 40 a0 = true) : gd (FX62_grow a0 M) (GX62_grow a0 M) (OkV M) := gX62_grow_0 a0 M T n_a0 
noncomputable def GX61_reaches_90 (s0 : Int32) (M : FM) : Int32 × FM :=
  (s0, M)
theorem gX61_reaches_90 (s0 : Int32) (M : FM) (T : Ty M) (z_s0 : s0 = 0 ∨ s0 = 1) : gd (FX61_reaches_90 fN s0 M) (GX61_reaches_90 s0 M) (OkZ M) := by
  delta FX61_reaches_90 BX61_reaches_90
  exact gd_z z_s0 ⟨T.1, T.2⟩ (ext_r _) rfl
noncomputable def GX61_reaches_69 (a0 : Nat) (M : FM) : Int32 × FM :=
  let x1 : Nat := (M.2.2 112 a0 0)
  let r2 : Int32 × FM := GX62_length x1 M
  fi (r2.1 ≤ ((r2.2.1 109 a0 0) + (Int32.ofInt 1))) (
    GX61_reaches_90 (Int32.ofInt 0) r2.2) (
    GX61_reaches_90 (Int32.ofInt 1) r2.2)
def HX61_reaches_69 (a0 : Nat) (M : FM) : Prop := let x1 : Nat := (M.2.2 112 a0 0); (HX62_length x1 M ∧ True)
theorem gX61_reaches_69 (a0 : Nat) (M : FM) (T : Ty M) (n_a0 : fm_is M 33 33 a0 = true) (h : HX61_reaches_69 a0 M) : gd (FX61_reaches_69 fN a0 M) (GX61_reaches_69 a0 M) (OkZ M) := by
  delta FX61_reaches_69 BX61_reaches_69
  refine gd_c n_a0 ?_
  have f0 := (tN_112 T.1 n_a0)
  refine gd_c f0 ?_
  have f4 := (tN_112 T.1 n_a0)
  refine gd_b (gX62_length _ _ ⟨T.1, T.2⟩ f4 h.1) (fun K1 => ?_)
  have f2 := (ext_is K1.2 (Nat.zero_lt_succ _) n_a0)
  refine gd_c f2 ?_
  refine gd_fi (fun c3_0 => ?_) (fun c3_0 => ?_)
  · exact gd_tZ K1.2 (gX61_reaches_90 _ _ ⟨K1.1.1, K1.1.2⟩ fz_0 )
  · exact gd_tZ K1.2 (gX61_reaches_90 _ _ ⟨K1.1.1, K1.1.2⟩ fz_1 )
noncomputable def GX61_reaches_0 (a0 : Nat) (a1 : Nat) (a2 : Nat) (a3 : Int32) (M : FM) : Int32 × FM :=
  fi (a3 = (-(M.1 110 a0 0))) (
    let x1 : Nat := (M.2.2 112 a0 0)
    let M2 : FM := GX62_copy x1 (M.2.2 117 a1 0) M
    let x3 : Nat := (M2.2.2 112 a0 0)
    let r4 : Int32 × FM := GX62_cut x3 ((a3 - (M2.1 109 a0 0)) - (M2.1 116 a1 0)) M2
    let x5 : Nat := (r4.2.2.2 112 a0 0)
    let r6 : Int32 × FM := GX62_isOdd x5 r4.2
    let r7 : Int32 × FM := GX63_grows a2 (r4.2.1 115 a1 0) r6.1 r4.1 r6.2
    fi (r7.1 = 0) (
      GX61_reaches_69 a0 r7.2) (
      let x8 : Nat := (r7.2.2.2 112 a0 0)
      let M9 : FM := GX62_grow x8 r7.2
      GX61_reaches_69 a0 M9)) (
    ((Int32.ofInt 0), M))
def HX61_reaches_0 (a0 : Nat) (a1 : Nat) (a2 : Nat) (a3 : Int32) (M : FM) : Prop := ((a3 = (-(M.1 110 a0 0)) → let x1 : Nat := (M.2.2 112 a0 0); let M2 : FM := GX62_copy x1 (M.2.2 117 a1 0) M; let x3 : Nat := (M2.2.2 112 a0 0); let r4 : Int32 × FM := GX62_cut x3 ((a3 - (M2.1 109 a0 0)) - (M2.1 116 a1 0)) M2; let x5 : Nat := (r4.2.2.2 112 a0 0); let r6 : Int32 × FM := GX62_isOdd x5 r4.2; let r7 : Int32 × FM := GX63_grows a2 (r4.2.1 115 a1 0) r6.1 r4.1 r6.2; ((r7.1 = 0 → HX61_reaches_69 a0 r7.2) ∧ (¬ (r7.1 = 0) → let x8 : Nat := (r7.2.2.2 112 a0 0); let M9 : FM := GX62_grow x8 r7.2; HX61_reaches_69 a0 M9))) ∧ (¬ (a3 = (-(M.1 110 a0 0))) → True))
theorem gX61_reaches_0 (a0 : Nat) (a1 : Nat) (a2 : Nat) (a3 : Int32) (M : FM) (T : Ty M) (n_a0 : fm_is M 33 33 a0 = true) (n_a1 : fm_is M 39 39 a1 = true) (n_a2 : fm_is M 1 1 a2 = true) (h : HX61_reaches_0 a0 a1 a2 a3 M) : gd (FX61_reaches_0 fN a0 a1 a2 a3 M) (GX61_reaches_0 a0 a1 a2 a3 M) (OkZ M) := by
  delta FX61_reaches_0 BX61_reaches_0
  refine gd_c n_a0 ?_
  refine gd_fi (fun c0_0 => ?_) (fun c0_0 => ?_)
  · refine gd_c n_a0 ?_
    refine gd_c n_a1 ?_
    have f1 := (tN_112 T.1 n_a0)
    refine gd_c f1 ?_
    have f24 := (tN_117 T.1 n_a1)
    have f25 := (tN_112 T.1 n_a0)
    refine gd_b (gX62_copy _ _ _ ⟨T.1, T.2⟩ f24 f25 ) (fun K2 => ?_)
    have f3 := (ext_is K2.2 (Nat.zero_lt_succ _) n_a0)
    refine gd_c f3 ?_
    have f4 := (ext_is K2.2 (Nat.zero_lt_succ _) n_a0)
    refine gd_c f4 ?_
    have f5 := (ext_is K2.2 (Nat.zero_lt_succ _) n_a1)
    refine gd_c f5 ?_
    have f6 := (tN_112 K2.1.1 (ext_is K2.2 (Nat.zero_lt_succ _) n_a0))
    refine gd_c f6 ?_
    have f23 := (tN_112 K2.1.1 (ext_is K2.2 (Nat.zero_lt_succ _) n_a0))
    refine gd_b (gX62_cut _ _ _ ⟨K2.1.1, K2.1.2⟩ f23 ) (fun K7 => ?_)
    have f8 := (ext_is K7.2 (Nat.zero_lt_succ _) (ext_is K2.2 (Nat.zero_lt_succ _) n_a1))
    refine gd_c f8 ?_
    have f9 := (ext_is K7.2 (Nat.zero_lt_succ _) (ext_is K2.2 (Nat.zero_lt_succ _) n_a0))
    refine gd_c f9 ?_
    have f10 := (tN_112 K7.1.1 (ext_is K7.2 (Nat.zero_lt_succ _) (ext_is K2.2 (Nat.zero_lt_succ _) n_a0)))
    refine gd_c f10 ?_
    have f22 := (tN_112 K7.1.1 (ext_is K7.2 (Nat.zero_lt_succ _) (ext_is K2.2 (Nat.zero_lt_succ _) n_a0)))
    refine gd_b (gX62_isOdd _ _ ⟨K7.1.1, K7.1.2⟩ f22 ) (fun K11 => ?_)
    have f12 := (ext_is K11.2.1 (Nat.zero_lt_succ _) (ext_is K7.2 (Nat.zero_lt_succ _) (ext_is K2.2 (Nat.zero_lt_succ _) n_a2)))
    refine gd_c f12 ?_
    have f21 := (ext_is K11.2.1 (Nat.zero_lt_succ _) (ext_is K7.2 (Nat.zero_lt_succ _) (ext_is K2.2 (Nat.zero_lt_succ _) n_a2)))
    refine gd_b (gX63_grows _ _ _ _ _ ⟨K11.1.1, K11.1.2⟩ f21 ) (fun K13 => ?_)
    refine gd_fi (fun c14_0 => ?_) (fun c14_0 => ?_)
    · have f15 := (ext_is K13.2.1 (Nat.zero_lt_succ _) (ext_is K11.2.1 (Nat.zero_lt_succ _) (ext_is K7.2 (Nat.zero_lt_succ _) (ext_is K2.2 (Nat.zero_lt_succ _) n_a0))))
      exact gd_tZ (ext_tr K2.2 (ext_tr K7.2 (ext_tr K11.2.1 K13.2.1))) (gX61_reaches_69 _ _ ⟨K13.1.1, K13.1.2⟩ f15 ((h.1 c0_0).1 c14_0))
    · have f16 := (ext_is K13.2.1 (Nat.zero_lt_succ _) (ext_is K11.2.1 (Nat.zero_lt_succ _) (ext_is K7.2 (Nat.zero_lt_succ _) (ext_is K2.2 (Nat.zero_lt_succ _) n_a0))))
      refine gd_c f16 ?_
      have f17 := (tN_112 K13.1.1 (ext_is K13.2.1 (Nat.zero_lt_succ _) (ext_is K11.2.1 (Nat.zero_lt_succ _) (ext_is K7.2 (Nat.zero_lt_succ _) (ext_is K2.2 (Nat.zero_lt_succ _) n_a0)))))
      refine gd_c f17 ?_
      have f20 := (tN_112 K13.1.1 (ext_is K13.2.1 (Nat.zero_lt_succ _) (ext_is K11.2.1 (Nat.zero_lt_succ _) (ext_is K7.2 (Nat.zero_lt_succ _) (ext_is K2.2 (Nat.zero_lt_succ _) n_a0)))))
      refine gd_b (gX62_grow _ _ ⟨K13.1.1, K13.1.2⟩ f20 ) (fun K18 => ?_)
      have f19 := (ext_is K18.2 (Nat.zero_lt_succ _) (ext_is K13.2.1 (Nat.zero_lt_succ _) (ext_is K11.2.1 (Nat.zero_lt_succ _) (ext_is K7.2 (Nat.zero_lt_succ _) (ext_is K2.2 (Nat.zero_lt_succ _) n_a0)))))
      exact gd_tZ (ext_tr K2.2 (ext_tr K7.2 (ext_tr K11.2.1 (ext_tr K13.2.1 K18.2)))) (gX61_reaches_69 _ _ ⟨K18.1.1, K18.1.2⟩ f19 ((h.1 c0_0).2 c14_0))
  · exact gd_z fz_0 ⟨T.1, T.2⟩ (ext_r _) rfl
noncomputable def GX61_reaches (a0 : Nat) (a1 : Nat) (a2 : Nat) (a3 : Int32) (M : FM) : Int32 × FM := GX61_reaches_0 a0 a1 a2 a3 M
def HX61_reaches (a0 : Nat) (a1 : Nat) (a2 : Nat) (a3 : Int32) (M : FM) : Prop := HX61_reaches_0 a0 a1 a2 a3 M
theorem gX61_reaches (a0 : Nat) (a1 : Nat) (a2 : Nat) (a3 : Int32) (M : FM) (T : Ty M) (n_a0 : fm_is M 33 33 a0 = true) (n_a1 : fm_is M 39 39 a1 = true) (n_a2 : fm_is M 1 1 a2 = true) (h : HX61_reaches a0 a1 a2 a3 M) : gd (FX61_reaches fN a0 a1 a2 a3 M) (GX61_reaches a0 a1 a2 a3 M) (OkZ M) := gX61_reaches_0 a0 a1 a2 a3 M T n_a0 n_a1 n_a2 h
noncomputable def GX63_leaps_36 (s0 : Int32) (M : FM) : Int32 × FM :=
  (s0, M)
theorem gX63_leaps_36 (s0 : Int32) (M : FM) (T : Ty M) (z_s0 : s0 = 0 ∨ s0 = 1) : gd (FX63_leaps_36 s0 M) (GX63_leaps_36 s0 M) (OkZ M) := by
  delta FX63_leaps_36 BX63_leaps_36
  exact gd_z z_s0 ⟨T.1, T.2⟩ (ext_r _) rfl
noncomputable def GX63_leaps_31 (M : FM) : Int32 × FM :=
  GX63_leaps_36 (Int32.ofInt 1) M
theorem gX63_leaps_31 (M : FM) (T : Ty M) : gd (FX63_leaps_31 M) (GX63_leaps_31 M) (OkZ M) := by
  delta FX63_leaps_31 BX63_leaps_31
  exact gd_tZ (ext_r _) (gX63_leaps_36 _ _ ⟨T.1, T.2⟩ fz_1 )
noncomputable def GX63_leaps_28 (s0 : Nat) (s1 : Nat) (M : FM) : Int32 × FM :=
  fi (s0 = s1) (
    GX63_leaps_31 M) (
    GX63_leaps_36 (Int32.ofInt 0) M)
theorem gX63_leaps_28 (s0 : Nat) (s1 : Nat) (M : FM) (T : Ty M) (n_s0 : fm_is M 1 1 s0 = true) (n_s1 : fm_is M 1 1 s1 = true) : gd (FX63_leaps_28 s0 s1 M) (GX63_leaps_28 s0 s1 M) (OkZ M) := by
  delta FX63_leaps_28 BX63_leaps_28
  refine gd_c (Or.inl ⟨(ty_enum T.1 (fm_w (lo' := 1) (hi' := 6) rfl rfl n_s0)), (ty_enum T.1 (fm_w (lo' := 1) (hi' := 6) rfl rfl n_s1))⟩) ?_
  refine gd_fi (fun c0_0 => ?_) (fun c0_0 => ?_)
  · exact gd_tZ (ext_r _) (gX63_leaps_31  _ ⟨T.1, T.2⟩  )
  · exact gd_tZ (ext_r _) (gX63_leaps_36 _ _ ⟨T.1, T.2⟩ fz_0 )
noncomputable def GX63_leaps_0 (a0 : Nat) (a1 : Int32) (M : FM) : Int32 × FM :=
  fi (a0 = 1) (
    GX63_leaps_31 M) (
    fi (a0 = 5) (
      GX63_leaps_31 M) (
      fi (a1 = 0) (
        GX63_leaps_28 a0 4 M) (
        GX63_leaps_28 a0 3 M)))
theorem gX63_leaps_0 (a0 : Nat) (a1 : Int32) (M : FM) (T : Ty M) (n_a0 : fm_is M 1 1 a0 = true) : gd (FX63_leaps_0 a0 a1 M) (GX63_leaps_0 a0 a1 M) (OkZ M) := by
  delta FX63_leaps_0 BX63_leaps_0
  refine gd_c (Or.inl ⟨(ty_enum T.1 (fm_w (lo' := 1) (hi' := 6) rfl rfl n_a0)), (ty_enum T.1 (fm_w (lo' := 1) (hi' := 6) rfl rfl (tC_1 T.1)))⟩) ?_
  refine gd_fi (fun c0_0 => ?_) (fun c0_0 => ?_)
  · exact gd_tZ (ext_r _) (gX63_leaps_31  _ ⟨T.1, T.2⟩  )
  · refine gd_c (Or.inl ⟨(ty_enum T.1 (fm_w (lo' := 1) (hi' := 6) rfl rfl n_a0)), (ty_enum T.1 (fm_w (lo' := 1) (hi' := 6) rfl rfl (tC_5 T.1)))⟩) ?_
    refine gd_fi (fun c1_0 => ?_) (fun c1_0 => ?_)
    · exact gd_tZ (ext_r _) (gX63_leaps_31  _ ⟨T.1, T.2⟩  )
    · refine gd_fi (fun c2_0 => ?_) (fun c2_0 => ?_)
      · have f3 := (tC_4 T.1)
        exact gd_tZ (ext_r _) (gX63_leaps_28 _ _ _ ⟨T.1, T.2⟩ n_a0 f3 )
      · have f4 := (tC_3 T.1)
        exact gd_tZ (ext_r _) (gX63_leaps_28 _ _ _ ⟨T.1, T.2⟩ n_a0 f4 )
noncomputable def GX63_leaps (a0 : Nat) (a1 : Int32) (M : FM) : Int32 × FM := GX63_leaps_0 a0 a1 M
theorem gX63_leaps (a0 : Nat) (a1 : Int32) (M : FM) (T : Ty M) (n_a0 : fm_is M 1 1 a0 = true) : gd (FX63_leaps a0 a1 M) (GX63_leaps a0 a1 M) (OkZ M) := gX63_leaps_0 a0 a1 M T n_a0 
noncomputable def GX61_round_252 (a0 : Nat) (a1 : Nat) (a8 : Int64) (s0 : Int64) (M : FM) : Int64 × FM :=
  let r1 : Int64 × FM := GX61_sign a0 (M.1 115 a1 0) M
  (((r1.1 ||| (s0 <<< ((r1.2.1 109 a0 0).toInt64 &&& 63))) ||| (a8 &&& (((Int64.ofInt 1) <<< ((r1.2.1 109 a0 0).toInt64 &&& 63)) - (Int64.ofInt 1)))), r1.2)
theorem gX61_round_252 (a0 : Nat) (a1 : Nat) (a8 : Int64) (s0 : Int64) (M : FM) (T : Ty M) (n_a1 : fm_is M 39 39 a1 = true) (n_a0 : fm_is M 33 33 a0 = true) : gd (FX61_round_252 fN a0 a1 a8 s0 M) (GX61_round_252 a0 a1 a8 s0 M) (OkR M) := by
  delta FX61_round_252 BX61_round_252
  refine gd_c n_a1 ?_
  refine gd_c n_a0 ?_
  refine gd_b (gX61_sign _ _ _ ⟨T.1, T.2⟩ n_a0 ) (fun K0 => ?_)
  have f1 := (ext_is K0.2 (Nat.zero_lt_succ _) n_a0)
  refine gd_c f1 ?_
  have f2 := (ext_is K0.2 (Nat.zero_lt_succ _) n_a0)
  refine gd_c f2 ?_
  exact ⟨rfl, ⟨K0.1.1, K0.1.2⟩, K0.2⟩
noncomputable def GX61_round_211 (a0 : Nat) (a1 : Nat) (a5 : Int32) (s0 : Nat) (s1 : Int32) (M : FM) : Int64 × FM :=
  let M1 : FM := GX60_raise s0 s1 M
  let x2 : Nat := (M1.2.2 117 a1 0)
  let x3 : Int64 := (M1.2.1 120 x2 0)
  fi ((lg_cmp ((x3.toUInt64 >>> ((M1.1 109 a0 0).toInt64.toUInt64 &&& Int64.toUInt64 63)).toInt64) (Int64.ofInt 0)) = 0) (
    GX61_round_252 a0 a1 x3 (Int64.ofInt 0) M1) (
    GX61_round_252 a0 a1 x3 (((a5 + (M1.1 109 a0 0)) + (M1.1 110 a0 0)).toInt64) M1)
def HX61_round_211 (a0 : Nat) (a1 : Nat) (a5 : Int32) (s0 : Nat) (s1 : Int32) (M : FM) : Prop := (HX60_raise s0 s1 M ∧ True)
theorem gX61_round_211 (a0 : Nat) (a1 : Nat) (a5 : Int32) (s0 : Nat) (s1 : Int32) (M : FM) (T : Ty M) (n_s0 : fm_is M 31 31 s0 = true) (n_a1 : fm_is M 39 39 a1 = true) (n_a0 : fm_is M 33 33 a0 = true) (h : HX61_round_211 a0 a1 a5 s0 s1 M) : gd (FX61_round_211 fN a0 a1 a5 s0 s1 M) (GX61_round_211 a0 a1 a5 s0 s1 M) (OkR M) := by
  delta FX61_round_211 BX61_round_211
  refine gd_c n_s0 ?_
  refine gd_b (gX60_raise _ _ _ ⟨T.1, T.2⟩ n_s0 h.1) (fun K0 => ?_)
  have f1 := (ext_is K0.2 (Nat.zero_lt_succ _) n_a1)
  refine gd_c f1 ?_
  have f2 := (tN_117 K0.1.1 (ext_is K0.2 (Nat.zero_lt_succ _) n_a1))
  refine gd_c f2 ?_
  have f3 := (ext_is K0.2 (Nat.zero_lt_succ _) n_a0)
  refine gd_c f3 ?_
  refine gd_fi (fun c4_0 => ?_) (fun c4_0 => ?_)
  · have f5 := (ext_is K0.2 (Nat.zero_lt_succ _) n_a1)
    have f6 := (ext_is K0.2 (Nat.zero_lt_succ _) n_a0)
    exact gd_tR K0.2 (gX61_round_252 _ _ _ _ _ ⟨K0.1.1, K0.1.2⟩ f5 f6 )
  · have f7 := (ext_is K0.2 (Nat.zero_lt_succ _) n_a0)
    refine gd_c f7 ?_
    have f8 := (ext_is K0.2 (Nat.zero_lt_succ _) n_a0)
    refine gd_c f8 ?_
    have f9 := (ext_is K0.2 (Nat.zero_lt_succ _) n_a1)
    have f10 := (ext_is K0.2 (Nat.zero_lt_succ _) n_a0)
    exact gd_tR K0.2 (gX61_round_252 _ _ _ _ _ ⟨K0.1.1, K0.1.2⟩ f9 f10 )
noncomputable def GX61_round_190 (s0 : Int64) (M : FM) : Int64 × FM :=
  (s0, M)
theorem gX61_round_190 (s0 : Int64) (M : FM) (T : Ty M) : gd (FX61_round_190 fN s0 M) (GX61_round_190 s0 M) (OkR M) := by
  delta FX61_round_190 BX61_round_190
  exact ⟨rfl, ⟨T.1, T.2⟩, (ext_r _)⟩
noncomputable def GX61_round_134 (a0 : Nat) (a1 : Nat) (a2 : Nat) (a3 : Nat) (a5 : Int32) (a6 : Int32) (a7 : Int32) (M : FM) : Int64 × FM :=
  fi ((a5 + (M.1 109 a0 0)) ≤ (M.1 110 a0 0)) (
    fi (a7 = 0) (
      GX61_round_211 a0 a1 a5 a3 (Int32.ofInt 0) M) (
      fi (a6 = 0) (
        GX61_round_211 a0 a1 a5 a3 (Int32.ofInt 1) M) (
        GX61_round_211 a0 a1 a5 a3 (Int32.ofInt 3) M))) (
    let M1 : FM := GX60_raise a3 (Int32.ofInt 5) M
    let r2 : Int32 × FM := GX63_leaps a2 (M1.1 115 a1 0) M1
    fi (r2.1 = 0) (
      let r3 : Int64 × FM := GX61_sign a0 (r2.2.1 115 a1 0) r2.2
      let r4 : Int64 × FM := GX61_top a0 r3.2
      GX61_round_190 (r3.1 ||| (r4.1 - (Int64.ofInt 1))) r4.2) (
      let r5 : Int64 × FM := GX61_infinite a0 (r2.2.1 115 a1 0) r2.2
      GX61_round_190 r5.1 r5.2))
def HX61_round_134 (a0 : Nat) (a1 : Nat) (a2 : Nat) (a3 : Nat) (a5 : Int32) (a6 : Int32) (a7 : Int32) (M : FM) : Prop := (((a5 + (M.1 109 a0 0)) ≤ (M.1 110 a0 0) → ((a7 = 0 → HX61_round_211 a0 a1 a5 a3 (Int32.ofInt 0) M) ∧ (¬ (a7 = 0) → ((a6 = 0 → HX61_round_211 a0 a1 a5 a3 (Int32.ofInt 1) M) ∧ (¬ (a6 = 0) → HX61_round_211 a0 a1 a5 a3 (Int32.ofInt 3) M))))) ∧ (¬ ((a5 + (M.1 109 a0 0)) ≤ (M.1 110 a0 0)) → (HX60_raise a3 (Int32.ofInt 5) M ∧ True)))
theorem gX61_round_134 (a0 : Nat) (a1 : Nat) (a2 : Nat) (a3 : Nat) (a5 : Int32) (a6 : Int32) (a7 : Int32) (M : FM) (T : Ty M) (n_a0 : fm_is M 33 33 a0 = true) (n_a3 : fm_is M 31 31 a3 = true) (n_a1 : fm_is M 39 39 a1 = true) (n_a2 : fm_is M 1 1 a2 = true) (h : HX61_round_134 a0 a1 a2 a3 a5 a6 a7 M) : gd (FX61_round_134 fN a0 a1 a2 a3 a5 a6 a7 M) (GX61_round_134 a0 a1 a2 a3 a5 a6 a7 M) (OkR M) := by
  delta FX61_round_134 BX61_round_134
  refine gd_c n_a0 ?_
  refine gd_c n_a0 ?_
  refine gd_fi (fun c0_0 => ?_) (fun c0_0 => ?_)
  · refine gd_fi (fun c1_0 => ?_) (fun c1_0 => ?_)
    · exact gd_tR (ext_r _) (gX61_round_211 _ _ _ _ _ _ ⟨T.1, T.2⟩ n_a3 n_a1 n_a0 ((h.1 c0_0).1 c1_0))
    · refine gd_fi (fun c2_0 => ?_) (fun c2_0 => ?_)
      · exact gd_tR (ext_r _) (gX61_round_211 _ _ _ _ _ _ ⟨T.1, T.2⟩ n_a3 n_a1 n_a0 (((h.1 c0_0).2 c1_0).1 c2_0))
      · exact gd_tR (ext_r _) (gX61_round_211 _ _ _ _ _ _ ⟨T.1, T.2⟩ n_a3 n_a1 n_a0 (((h.1 c0_0).2 c1_0).2 c2_0))
  · refine gd_c n_a3 ?_
    refine gd_b (gX60_raise _ _ _ ⟨T.1, T.2⟩ n_a3 (h.2 c0_0).1) (fun K3 => ?_)
    have f4 := (ext_is K3.2 (Nat.zero_lt_succ _) n_a1)
    refine gd_c f4 ?_
    have f5 := (ext_is K3.2 (Nat.zero_lt_succ _) n_a2)
    refine gd_c f5 ?_
    have f19 := (ext_is K3.2 (Nat.zero_lt_succ _) n_a2)
    refine gd_b (gX63_leaps _ _ _ ⟨K3.1.1, K3.1.2⟩ f19 ) (fun K6 => ?_)
    refine gd_fi (fun c7_0 => ?_) (fun c7_0 => ?_)
    · have f8 := (ext_is K6.2.1 (Nat.zero_lt_succ _) (ext_is K3.2 (Nat.zero_lt_succ _) n_a1))
      refine gd_c f8 ?_
      have f9 := (ext_is K6.2.1 (Nat.zero_lt_succ _) (ext_is K3.2 (Nat.zero_lt_succ _) n_a0))
      refine gd_c f9 ?_
      have f14 := (ext_is K6.2.1 (Nat.zero_lt_succ _) (ext_is K3.2 (Nat.zero_lt_succ _) n_a0))
      refine gd_b (gX61_sign _ _ _ ⟨K6.1.1, K6.1.2⟩ f14 ) (fun K10 => ?_)
      have f11 := (ext_is K10.2 (Nat.zero_lt_succ _) (ext_is K6.2.1 (Nat.zero_lt_succ _) (ext_is K3.2 (Nat.zero_lt_succ _) n_a0)))
      refine gd_c f11 ?_
      have f13 := (ext_is K10.2 (Nat.zero_lt_succ _) (ext_is K6.2.1 (Nat.zero_lt_succ _) (ext_is K3.2 (Nat.zero_lt_succ _) n_a0)))
      refine gd_b (gX61_top _ _ ⟨K10.1.1, K10.1.2⟩ f13 ) (fun K12 => ?_)
      exact gd_tR (ext_tr K3.2 (ext_tr K6.2.1 (ext_tr K10.2 K12.2))) (gX61_round_190 _ _ ⟨K12.1.1, K12.1.2⟩  )
    · have f15 := (ext_is K6.2.1 (Nat.zero_lt_succ _) (ext_is K3.2 (Nat.zero_lt_succ _) n_a1))
      refine gd_c f15 ?_
      have f16 := (ext_is K6.2.1 (Nat.zero_lt_succ _) (ext_is K3.2 (Nat.zero_lt_succ _) n_a0))
      refine gd_c f16 ?_
      have f18 := (ext_is K6.2.1 (Nat.zero_lt_succ _) (ext_is K3.2 (Nat.zero_lt_succ _) n_a0))
      refine gd_b (gX61_infinite _ _ _ ⟨K6.1.1, K6.1.2⟩ f18 ) (fun K17 => ?_)
      exact gd_tR (ext_tr K3.2 (ext_tr K6.2.1 K17.2)) (gX61_round_190 _ _ ⟨K17.1.1, K17.1.2⟩  )
noncomputable def GX61_round_106 (a0 : Nat) (a1 : Nat) (a2 : Nat) (a3 : Nat) (a5 : Int32) (a6 : Int32) (a7 : Int32) (M : FM) : Int64 × FM :=
  let x1 : Nat := (M.2.2 117 a1 0)
  let r2 : Int32 × FM := GX62_length x1 M
  fi (r2.1 ≤ ((r2.2.1 109 a0 0) + (Int32.ofInt 1))) (
    GX61_round_134 a0 a1 a2 a3 a5 a6 a7 r2.2) (
    let x3 : Nat := (r2.2.2.2 117 a1 0)
    let r4 : Int32 × FM := GX62_cut x3 (Int32.ofInt 1) r2.2
    let x5 : Int32 := a5 + (Int32.ofInt 1)
    GX61_round_134 a0 a1 a2 a3 x5 a6 a7 r4.2)
def HX61_round_106 (a0 : Nat) (a1 : Nat) (a2 : Nat) (a3 : Nat) (a5 : Int32) (a6 : Int32) (a7 : Int32) (M : FM) : Prop := let x1 : Nat := (M.2.2 117 a1 0); (HX62_length x1 M ∧ let r2 : Int32 × FM := GX62_length x1 M; ((r2.1 ≤ ((r2.2.1 109 a0 0) + (Int32.ofInt 1)) → HX61_round_134 a0 a1 a2 a3 a5 a6 a7 r2.2) ∧ (¬ (r2.1 ≤ ((r2.2.1 109 a0 0) + (Int32.ofInt 1))) → let x3 : Nat := (r2.2.2.2 117 a1 0); let r4 : Int32 × FM := GX62_cut x3 (Int32.ofInt 1) r2.2; let x5 : Int32 := a5 + (Int32.ofInt 1); HX61_round_134 a0 a1 a2 a3 x5 a6 a7 r4.2)))
theorem gX61_round_106 (a0 : Nat) (a1 : Nat) (a2 : Nat) (a3 : Nat) (a5 : Int32) (a6 : Int32) (a7 : Int32) (M : FM) (T : Ty M) (n_a1 : fm_is M 39 39 a1 = true) (n_a0 : fm_is M 33 33 a0 = true) (n_a3 : fm_is M 31 31 a3 = true) (n_a2 : fm_is M 1 1 a2 = true) (h : HX61_round_106 a0 a1 a2 a3 a5 a6 a7 M) : gd (FX61_round_106 fN a0 a1 a2 a3 a5 a6 a7 M) (GX61_round_106 a0 a1 a2 a3 a5 a6 a7 M) (OkR M) := by
  delta FX61_round_106 BX61_round_106
  refine gd_c n_a1 ?_
  have f0 := (tN_117 T.1 n_a1)
  refine gd_c f0 ?_
  have f16 := (tN_117 T.1 n_a1)
  refine gd_b (gX62_length _ _ ⟨T.1, T.2⟩ f16 h.1) (fun K1 => ?_)
  have f2 := (ext_is K1.2 (Nat.zero_lt_succ _) n_a0)
  refine gd_c f2 ?_
  refine gd_fi (fun c3_0 => ?_) (fun c3_0 => ?_)
  · have f4 := (ext_is K1.2 (Nat.zero_lt_succ _) n_a0)
    have f5 := (ext_is K1.2 (Nat.zero_lt_succ _) n_a3)
    have f6 := (ext_is K1.2 (Nat.zero_lt_succ _) n_a1)
    have f7 := (ext_is K1.2 (Nat.zero_lt_succ _) n_a2)
    exact gd_tR K1.2 (gX61_round_134 _ _ _ _ _ _ _ _ ⟨K1.1.1, K1.1.2⟩ f4 f5 f6 f7 (h.2.1 c3_0))
  · have f8 := (ext_is K1.2 (Nat.zero_lt_succ _) n_a1)
    refine gd_c f8 ?_
    have f9 := (tN_117 K1.1.1 (ext_is K1.2 (Nat.zero_lt_succ _) n_a1))
    refine gd_c f9 ?_
    have f15 := (tN_117 K1.1.1 (ext_is K1.2 (Nat.zero_lt_succ _) n_a1))
    refine gd_b (gX62_cut _ _ _ ⟨K1.1.1, K1.1.2⟩ f15 ) (fun K10 => ?_)
    have f11 := (ext_is K10.2 (Nat.zero_lt_succ _) (ext_is K1.2 (Nat.zero_lt_succ _) n_a0))
    have f12 := (ext_is K10.2 (Nat.zero_lt_succ _) (ext_is K1.2 (Nat.zero_lt_succ _) n_a3))
    have f13 := (ext_is K10.2 (Nat.zero_lt_succ _) (ext_is K1.2 (Nat.zero_lt_succ _) n_a1))
    have f14 := (ext_is K10.2 (Nat.zero_lt_succ _) (ext_is K1.2 (Nat.zero_lt_succ _) n_a2))
    exact gd_tR (ext_tr K1.2 K10.2) (gX61_round_134 _ _ _ _ _ _ _ _ ⟨K10.1.1, K10.1.2⟩ f11 f12 f13 f14 (h.2.2 c3_0))
noncomputable def GX61_round_61 (a0 : Nat) (a1 : Nat) (a2 : Nat) (a3 : Nat) (a5 : Int32) (s0 : Int32) (M : FM) : Int64 × FM :=
  let x1 : Nat := (M.2.2 117 a1 0)
  let r2 : Int32 × FM := GX62_cut x1 (a5 - (M.1 116 a1 0)) M
  let x3 : Nat := (r2.2.2.2 117 a1 0)
  let r4 : Int32 × FM := GX62_isOdd x3 r2.2
  let r5 : Int32 × FM := GX63_grows a2 (r2.2.1 115 a1 0) r4.1 r2.1 r4.2
  fi (r5.1 = 0) (
    GX61_round_106 a0 a1 a2 a3 a5 s0 r2.1 r5.2) (
    let x6 : Nat := (r5.2.2.2 117 a1 0)
    let M7 : FM := GX62_grow x6 r5.2
    GX61_round_106 a0 a1 a2 a3 a5 s0 r2.1 M7)
def HX61_round_61 (a0 : Nat) (a1 : Nat) (a2 : Nat) (a3 : Nat) (a5 : Int32) (s0 : Int32) (M : FM) : Prop := let x1 : Nat := (M.2.2 117 a1 0); let r2 : Int32 × FM := GX62_cut x1 (a5 - (M.1 116 a1 0)) M; let x3 : Nat := (r2.2.2.2 117 a1 0); let r4 : Int32 × FM := GX62_isOdd x3 r2.2; let r5 : Int32 × FM := GX63_grows a2 (r2.2.1 115 a1 0) r4.1 r2.1 r4.2; ((r5.1 = 0 → HX61_round_106 a0 a1 a2 a3 a5 s0 r2.1 r5.2) ∧ (¬ (r5.1 = 0) → let x6 : Nat := (r5.2.2.2 117 a1 0); let M7 : FM := GX62_grow x6 r5.2; HX61_round_106 a0 a1 a2 a3 a5 s0 r2.1 M7))
theorem gX61_round_61 (a0 : Nat) (a1 : Nat) (a2 : Nat) (a3 : Nat) (a5 : Int32) (s0 : Int32) (M : FM) (T : Ty M) (n_a1 : fm_is M 39 39 a1 = true) (n_a2 : fm_is M 1 1 a2 = true) (n_a0 : fm_is M 33 33 a0 = true) (n_a3 : fm_is M 31 31 a3 = true) (h : HX61_round_61 a0 a1 a2 a3 a5 s0 M) : gd (FX61_round_61 fN a0 a1 a2 a3 a5 s0 M) (GX61_round_61 a0 a1 a2 a3 a5 s0 M) (OkR M) := by
  delta FX61_round_61 BX61_round_61
  refine gd_c n_a1 ?_
  refine gd_c n_a1 ?_
  have f0 := (tN_117 T.1 n_a1)
  refine gd_c f0 ?_
  have f23 := (tN_117 T.1 n_a1)
  refine gd_b (gX62_cut _ _ _ ⟨T.1, T.2⟩ f23 ) (fun K1 => ?_)
  have f2 := (ext_is K1.2 (Nat.zero_lt_succ _) n_a1)
  refine gd_c f2 ?_
  have f3 := (ext_is K1.2 (Nat.zero_lt_succ _) n_a1)
  refine gd_c f3 ?_
  have f4 := (tN_117 K1.1.1 (ext_is K1.2 (Nat.zero_lt_succ _) n_a1))
  refine gd_c f4 ?_
  have f22 := (tN_117 K1.1.1 (ext_is K1.2 (Nat.zero_lt_succ _) n_a1))
  refine gd_b (gX62_isOdd _ _ ⟨K1.1.1, K1.1.2⟩ f22 ) (fun K5 => ?_)
  have f6 := (ext_is K5.2.1 (Nat.zero_lt_succ _) (ext_is K1.2 (Nat.zero_lt_succ _) n_a2))
  refine gd_c f6 ?_
  have f21 := (ext_is K5.2.1 (Nat.zero_lt_succ _) (ext_is K1.2 (Nat.zero_lt_succ _) n_a2))
  refine gd_b (gX63_grows _ _ _ _ _ ⟨K5.1.1, K5.1.2⟩ f21 ) (fun K7 => ?_)
  refine gd_fi (fun c8_0 => ?_) (fun c8_0 => ?_)
  · have f9 := (ext_is K7.2.1 (Nat.zero_lt_succ _) (ext_is K5.2.1 (Nat.zero_lt_succ _) (ext_is K1.2 (Nat.zero_lt_succ _) n_a1)))
    have f10 := (ext_is K7.2.1 (Nat.zero_lt_succ _) (ext_is K5.2.1 (Nat.zero_lt_succ _) (ext_is K1.2 (Nat.zero_lt_succ _) n_a0)))
    have f11 := (ext_is K7.2.1 (Nat.zero_lt_succ _) (ext_is K5.2.1 (Nat.zero_lt_succ _) (ext_is K1.2 (Nat.zero_lt_succ _) n_a3)))
    have f12 := (ext_is K7.2.1 (Nat.zero_lt_succ _) (ext_is K5.2.1 (Nat.zero_lt_succ _) (ext_is K1.2 (Nat.zero_lt_succ _) n_a2)))
    exact gd_tR (ext_tr K1.2 (ext_tr K5.2.1 K7.2.1)) (gX61_round_106 _ _ _ _ _ _ _ _ ⟨K7.1.1, K7.1.2⟩ f9 f10 f11 f12 (h.1 c8_0))
  · have f13 := (ext_is K7.2.1 (Nat.zero_lt_succ _) (ext_is K5.2.1 (Nat.zero_lt_succ _) (ext_is K1.2 (Nat.zero_lt_succ _) n_a1)))
    refine gd_c f13 ?_
    have f14 := (tN_117 K7.1.1 (ext_is K7.2.1 (Nat.zero_lt_succ _) (ext_is K5.2.1 (Nat.zero_lt_succ _) (ext_is K1.2 (Nat.zero_lt_succ _) n_a1))))
    refine gd_c f14 ?_
    have f20 := (tN_117 K7.1.1 (ext_is K7.2.1 (Nat.zero_lt_succ _) (ext_is K5.2.1 (Nat.zero_lt_succ _) (ext_is K1.2 (Nat.zero_lt_succ _) n_a1))))
    refine gd_b (gX62_grow _ _ ⟨K7.1.1, K7.1.2⟩ f20 ) (fun K15 => ?_)
    have f16 := (ext_is K15.2 (Nat.zero_lt_succ _) (ext_is K7.2.1 (Nat.zero_lt_succ _) (ext_is K5.2.1 (Nat.zero_lt_succ _) (ext_is K1.2 (Nat.zero_lt_succ _) n_a1))))
    have f17 := (ext_is K15.2 (Nat.zero_lt_succ _) (ext_is K7.2.1 (Nat.zero_lt_succ _) (ext_is K5.2.1 (Nat.zero_lt_succ _) (ext_is K1.2 (Nat.zero_lt_succ _) n_a0))))
    have f18 := (ext_is K15.2 (Nat.zero_lt_succ _) (ext_is K7.2.1 (Nat.zero_lt_succ _) (ext_is K5.2.1 (Nat.zero_lt_succ _) (ext_is K1.2 (Nat.zero_lt_succ _) n_a3))))
    have f19 := (ext_is K15.2 (Nat.zero_lt_succ _) (ext_is K7.2.1 (Nat.zero_lt_succ _) (ext_is K5.2.1 (Nat.zero_lt_succ _) (ext_is K1.2 (Nat.zero_lt_succ _) n_a2))))
    exact gd_tR (ext_tr K1.2 (ext_tr K5.2.1 (ext_tr K7.2.1 K15.2))) (gX61_round_106 _ _ _ _ _ _ _ _ ⟨K15.1.1, K15.1.2⟩ f16 f17 f18 f19 (h.2 c8_0))
noncomputable def GX61_round_60 (a0 : Nat) (a1 : Nat) (a2 : Nat) (a3 : Nat) (a5 : Int32) (M : FM) : Int64 × FM :=
  GX61_round_61 a0 a1 a2 a3 a5 (Int32.ofInt 0) M
def HX61_round_60 (a0 : Nat) (a1 : Nat) (a2 : Nat) (a3 : Nat) (a5 : Int32) (M : FM) : Prop := HX61_round_61 a0 a1 a2 a3 a5 (Int32.ofInt 0) M
theorem gX61_round_60 (a0 : Nat) (a1 : Nat) (a2 : Nat) (a3 : Nat) (a5 : Int32) (M : FM) (T : Ty M) (n_a1 : fm_is M 39 39 a1 = true) (n_a2 : fm_is M 1 1 a2 = true) (n_a0 : fm_is M 33 33 a0 = true) (n_a3 : fm_is M 31 31 a3 = true) (h : HX61_round_60 a0 a1 a2 a3 a5 M) : gd (FX61_round_60 fN a0 a1 a2 a3 a5 M) (GX61_round_60 a0 a1 a2 a3 a5 M) (OkR M) := by
  delta FX61_round_60 BX61_round_60
  exact gd_tR (ext_r _) (gX61_round_61 _ _ _ _ _ _ _ ⟨T.1, T.2⟩ n_a1 n_a2 n_a0 n_a3 h)
noncomputable def GX61_round_0 (a0 : Nat) (a1 : Nat) (a2 : Nat) (a3 : Nat) (M : FM) : Int64 × FM :=
  let x1 : Nat := (M.2.2 117 a1 0)
  let r2 : Int32 × FM := GX62_length x1 M
  let x3 : Int32 := (((M.1 116 a1 0) + r2.1) - (Int32.ofInt 1))
  let r4 : Int32 × FM := GJ5_max x3 ((Int32.ofInt 1) - (r2.2.1 110 a0 0)) r2.2
  let x5 : Int32 := (r4.1 - (r4.2.1 109 a0 0))
  fi (((Int32.ofInt 1) - (r4.2.1 110 a0 0)) ≤ x3) (
    GX61_round_60 a0 a1 a2 a3 x5 r4.2) (
    let r6 : Int32 × FM := GX61_reaches a0 a1 a2 x3 r4.2
    fi (r6.1 = 0) (
      GX61_round_61 a0 a1 a2 a3 x5 (Int32.ofInt 1) r6.2) (
      GX61_round_60 a0 a1 a2 a3 x5 r6.2))
def HX61_round_0 (a0 : Nat) (a1 : Nat) (a2 : Nat) (a3 : Nat) (M : FM) : Prop := let x1 : Nat := (M.2.2 117 a1 0); (HX62_length x1 M ∧ let r2 : Int32 × FM := GX62_length x1 M; let x3 : Int32 := (((M.1 116 a1 0) + r2.1) - (Int32.ofInt 1)); let r4 : Int32 × FM := GJ5_max x3 ((Int32.ofInt 1) - (r2.2.1 110 a0 0)) r2.2; let x5 : Int32 := (r4.1 - (r4.2.1 109 a0 0)); ((((Int32.ofInt 1) - (r4.2.1 110 a0 0)) ≤ x3 → HX61_round_60 a0 a1 a2 a3 x5 r4.2) ∧ (¬ (((Int32.ofInt 1) - (r4.2.1 110 a0 0)) ≤ x3) → (HX61_reaches a0 a1 a2 x3 r4.2 ∧ let r6 : Int32 × FM := GX61_reaches a0 a1 a2 x3 r4.2; ((r6.1 = 0 → HX61_round_61 a0 a1 a2 a3 x5 (Int32.ofInt 1) r6.2) ∧ (¬ (r6.1 = 0) → HX61_round_60 a0 a1 a2 a3 x5 r6.2))))))
theorem gX61_round_0 (a0 : Nat) (a1 : Nat) (a2 : Nat) (a3 : Nat) (M : FM) (T : Ty M) (n_a1 : fm_is M 39 39 a1 = true) (n_a0 : fm_is M 33 33 a0 = true) (n_a2 : fm_is M 1 1 a2 = true) (n_a3 : fm_is M 31 31 a3 = true) (h : HX61_round_0 a0 a1 a2 a3 M) : gd (FX61_round_0 fN a0 a1 a2 a3 M) (GX61_round_0 a0 a1 a2 a3 M) (OkR M) := by
  delta FX61_round_0 BX61_round_0
  refine gd_c n_a1 ?_
  refine gd_c n_a1 ?_
  have f0 := (tN_117 T.1 n_a1)
  refine gd_c f0 ?_
  have f25 := (tN_117 T.1 n_a1)
  refine gd_b (gX62_length _ _ ⟨T.1, T.2⟩ f25 h.1) (fun K1 => ?_)
  have f2 := (ext_is K1.2 (Nat.zero_lt_succ _) n_a0)
  refine gd_c f2 ?_
  refine gd_b (gJ5_max _ _ _ ⟨K1.1.1, K1.1.2⟩  ) (fun K3 => ?_)
  have f4 := (ext_is K3.2 (Nat.zero_lt_succ _) (ext_is K1.2 (Nat.zero_lt_succ _) n_a0))
  refine gd_c f4 ?_
  have f5 := (ext_is K3.2 (Nat.zero_lt_succ _) (ext_is K1.2 (Nat.zero_lt_succ _) n_a0))
  refine gd_c f5 ?_
  refine gd_fi (fun c6_0 => ?_) (fun c6_0 => ?_)
  · have f7 := (ext_is K3.2 (Nat.zero_lt_succ _) (ext_is K1.2 (Nat.zero_lt_succ _) n_a1))
    have f8 := (ext_is K3.2 (Nat.zero_lt_succ _) (ext_is K1.2 (Nat.zero_lt_succ _) n_a2))
    have f9 := (ext_is K3.2 (Nat.zero_lt_succ _) (ext_is K1.2 (Nat.zero_lt_succ _) n_a0))
    have f10 := (ext_is K3.2 (Nat.zero_lt_succ _) (ext_is K1.2 (Nat.zero_lt_succ _) n_a3))
    exact gd_tR (ext_tr K1.2 K3.2) (gX61_round_60 _ _ _ _ _ _ ⟨K3.1.1, K3.1.2⟩ f7 f8 f9 f10 (h.2.1 c6_0))
  · have f11 := (ext_is K3.2 (Nat.zero_lt_succ _) (ext_is K1.2 (Nat.zero_lt_succ _) n_a0))
    refine gd_c f11 ?_
    have f22 := (ext_is K3.2 (Nat.zero_lt_succ _) (ext_is K1.2 (Nat.zero_lt_succ _) n_a0))
    have f23 := (ext_is K3.2 (Nat.zero_lt_succ _) (ext_is K1.2 (Nat.zero_lt_succ _) n_a1))
    have f24 := (ext_is K3.2 (Nat.zero_lt_succ _) (ext_is K1.2 (Nat.zero_lt_succ _) n_a2))
    refine gd_b (gX61_reaches _ _ _ _ _ ⟨K3.1.1, K3.1.2⟩ f22 f23 f24 (h.2.2 c6_0).1) (fun K12 => ?_)
    refine gd_fi (fun c13_0 => ?_) (fun c13_0 => ?_)
    · have f14 := (ext_is K12.2.1 (Nat.zero_lt_succ _) (ext_is K3.2 (Nat.zero_lt_succ _) (ext_is K1.2 (Nat.zero_lt_succ _) n_a1)))
      have f15 := (ext_is K12.2.1 (Nat.zero_lt_succ _) (ext_is K3.2 (Nat.zero_lt_succ _) (ext_is K1.2 (Nat.zero_lt_succ _) n_a2)))
      have f16 := (ext_is K12.2.1 (Nat.zero_lt_succ _) (ext_is K3.2 (Nat.zero_lt_succ _) (ext_is K1.2 (Nat.zero_lt_succ _) n_a0)))
      have f17 := (ext_is K12.2.1 (Nat.zero_lt_succ _) (ext_is K3.2 (Nat.zero_lt_succ _) (ext_is K1.2 (Nat.zero_lt_succ _) n_a3)))
      exact gd_tR (ext_tr K1.2 (ext_tr K3.2 K12.2.1)) (gX61_round_61 _ _ _ _ _ _ _ ⟨K12.1.1, K12.1.2⟩ f14 f15 f16 f17 ((h.2.2 c6_0).2.1 c13_0))
    · have f18 := (ext_is K12.2.1 (Nat.zero_lt_succ _) (ext_is K3.2 (Nat.zero_lt_succ _) (ext_is K1.2 (Nat.zero_lt_succ _) n_a1)))
      have f19 := (ext_is K12.2.1 (Nat.zero_lt_succ _) (ext_is K3.2 (Nat.zero_lt_succ _) (ext_is K1.2 (Nat.zero_lt_succ _) n_a2)))
      have f20 := (ext_is K12.2.1 (Nat.zero_lt_succ _) (ext_is K3.2 (Nat.zero_lt_succ _) (ext_is K1.2 (Nat.zero_lt_succ _) n_a0)))
      have f21 := (ext_is K12.2.1 (Nat.zero_lt_succ _) (ext_is K3.2 (Nat.zero_lt_succ _) (ext_is K1.2 (Nat.zero_lt_succ _) n_a3)))
      exact gd_tR (ext_tr K1.2 (ext_tr K3.2 K12.2.1)) (gX61_round_60 _ _ _ _ _ _ ⟨K12.1.1, K12.1.2⟩ f18 f19 f20 f21 ((h.2.2 c6_0).2.2 c13_0))
noncomputable def GX61_round (a0 : Nat) (a1 : Nat) (a2 : Nat) (a3 : Nat) (M : FM) : Int64 × FM := GX61_round_0 a0 a1 a2 a3 M
def HX61_round (a0 : Nat) (a1 : Nat) (a2 : Nat) (a3 : Nat) (M : FM) : Prop := HX61_round_0 a0 a1 a2 a3 M
theorem gX61_round (a0 : Nat) (a1 : Nat) (a2 : Nat) (a3 : Nat) (M : FM) (T : Ty M) (n_a1 : fm_is M 39 39 a1 = true) (n_a0 : fm_is M 33 33 a0 = true) (n_a2 : fm_is M 1 1 a2 = true) (n_a3 : fm_is M 31 31 a3 = true) (h : HX61_round a0 a1 a2 a3 M) : gd (FX61_round fN a0 a1 a2 a3 M) (GX61_round a0 a1 a2 a3 M) (OkR M) := gX61_round_0 a0 a1 a2 a3 M T n_a1 n_a0 n_a2 n_a3 h
noncomputable def GX61_put_0 (a0 : Nat) (a1 : Nat) (a2 : Nat) (a3 : Nat) (M : FM) : Int64 × FM :=
  let x1 : Nat := (M.2.2 114 a1 0)
  let r2 : Int32 × FM := GJ0_ordinal x1 M
  fi (r2.1 = (Int32.ofInt 0)) (
    let r3 : Int64 × FM := GX61_sign a0 (r2.2.1 115 a1 0) r2.2
    (r3.1, r3.2)) (
    fi (r2.1 = (Int32.ofInt 1)) (
      let r4 : Int64 × FM := GX61_round a0 a1 a2 a3 r2.2
      (r4.1, r4.2)) (
      fi (r2.1 = (Int32.ofInt 2)) (
        let r5 : Int64 × FM := GX61_infinite a0 (r2.2.1 115 a1 0) r2.2
        (r5.1, r5.2)) (
        let r6 : Int64 × FM := GX61_quiet a0 r2.2
        (r6.1, r6.2))))
def HX61_put_0 (a0 : Nat) (a1 : Nat) (a2 : Nat) (a3 : Nat) (M : FM) : Prop := let x1 : Nat := (M.2.2 114 a1 0); let r2 : Int32 × FM := GJ0_ordinal x1 M; ((r2.1 = (Int32.ofInt 0) → True) ∧ (¬ (r2.1 = (Int32.ofInt 0)) → ((r2.1 = (Int32.ofInt 1) → (HX61_round a0 a1 a2 a3 r2.2 ∧ True)) ∧ (¬ (r2.1 = (Int32.ofInt 1)) → True))))
theorem gX61_put_0 (a0 : Nat) (a1 : Nat) (a2 : Nat) (a3 : Nat) (M : FM) (T : Ty M) (n_a1 : fm_is M 39 39 a1 = true) (n_a0 : fm_is M 33 33 a0 = true) (n_a2 : fm_is M 1 1 a2 = true) (n_a3 : fm_is M 31 31 a3 = true) (h : HX61_put_0 a0 a1 a2 a3 M) : gd (FX61_put_0 fN a0 a1 a2 a3 M) (GX61_put_0 a0 a1 a2 a3 M) (OkR M) := by
  delta FX61_put_0 BX61_put_0
  refine gd_c n_a1 ?_
  have f0 := (tN_114 T.1 n_a1)
  refine gd_c f0 ?_
  have f22 := (fm_w (lo' := 1) (hi' := 6) rfl rfl (tN_114 T.1 n_a1))
  refine gd_b (gJ0_ordinal _ _ ⟨T.1, T.2⟩ f22 ) (fun K1 => ?_)
  refine gd_fi (fun c2_0 => ?_) (fun c2_0 => ?_)
  · have f3 := (ext_is K1.2 (Nat.zero_lt_succ _) n_a1)
    refine gd_c f3 ?_
    have f4 := (ext_is K1.2 (Nat.zero_lt_succ _) n_a0)
    refine gd_c f4 ?_
    have f6 := (ext_is K1.2 (Nat.zero_lt_succ _) n_a0)
    refine gd_b (gX61_sign _ _ _ ⟨K1.1.1, K1.1.2⟩ f6 ) (fun K5 => ?_)
    exact ⟨rfl, ⟨K5.1.1, K5.1.2⟩, (ext_tr K1.2 K5.2)⟩
  · refine gd_fi (fun c7_1 => ?_) (fun c7_1 => ?_)
    · have f8 := (ext_is K1.2 (Nat.zero_lt_succ _) n_a0)
      refine gd_c f8 ?_
      have f10 := (ext_is K1.2 (Nat.zero_lt_succ _) n_a1)
      have f11 := (ext_is K1.2 (Nat.zero_lt_succ _) n_a0)
      have f12 := (ext_is K1.2 (Nat.zero_lt_succ _) n_a2)
      have f13 := (ext_is K1.2 (Nat.zero_lt_succ _) n_a3)
      refine gd_b (gX61_round _ _ _ _ _ ⟨K1.1.1, K1.1.2⟩ f10 f11 f12 f13 ((h.2 c2_0).1 c7_1).1) (fun K9 => ?_)
      exact ⟨rfl, ⟨K9.1.1, K9.1.2⟩, (ext_tr K1.2 K9.2)⟩
    · refine gd_fi (fun c14_2 => ?_) (fun c14_2 => ?_)
      · have f15 := (ext_is K1.2 (Nat.zero_lt_succ _) n_a1)
        refine gd_c f15 ?_
        have f16 := (ext_is K1.2 (Nat.zero_lt_succ _) n_a0)
        refine gd_c f16 ?_
        have f18 := (ext_is K1.2 (Nat.zero_lt_succ _) n_a0)
        refine gd_b (gX61_infinite _ _ _ ⟨K1.1.1, K1.1.2⟩ f18 ) (fun K17 => ?_)
        exact ⟨rfl, ⟨K17.1.1, K17.1.2⟩, (ext_tr K1.2 K17.2)⟩
      · have f19 := (ext_is K1.2 (Nat.zero_lt_succ _) n_a0)
        refine gd_c f19 ?_
        have f21 := (ext_is K1.2 (Nat.zero_lt_succ _) n_a0)
        refine gd_b (gX61_quiet _ _ ⟨K1.1.1, K1.1.2⟩ f21 ) (fun K20 => ?_)
        exact ⟨rfl, ⟨K20.1.1, K20.1.2⟩, (ext_tr K1.2 K20.2)⟩
noncomputable def GX61_put (a0 : Nat) (a1 : Nat) (a2 : Nat) (a3 : Nat) (M : FM) : Int64 × FM := GX61_put_0 a0 a1 a2 a3 M
def HX61_put (a0 : Nat) (a1 : Nat) (a2 : Nat) (a3 : Nat) (M : FM) : Prop := HX61_put_0 a0 a1 a2 a3 M
theorem gX61_put (a0 : Nat) (a1 : Nat) (a2 : Nat) (a3 : Nat) (M : FM) (T : Ty M) (n_a1 : fm_is M 39 39 a1 = true) (n_a0 : fm_is M 33 33 a0 = true) (n_a2 : fm_is M 1 1 a2 = true) (n_a3 : fm_is M 31 31 a3 = true) (h : HX61_put a0 a1 a2 a3 M) : gd (FX61_put fN a0 a1 a2 a3 M) (GX61_put a0 a1 a2 a3 M) (OkR M) := gX61_put_0 a0 a1 a2 a3 M T n_a1 n_a0 n_a2 n_a3 h
noncomputable def GX59_reckon_105 (a0 : Nat) (a1 : Int32) (a2 : Nat) (a3 : Nat) (M : FM) : Int32 × FM :=
  let r1 : Int64 × FM := GX61_put a2 (M.2.2 108 a0 0) a3 (M.2.2 94 a0 0) M
  let r2 : Int32 × FM := GX59_write a0 a1 a2 r1.1 r1.2
  (r2.1, r2.2)
def HX59_reckon_105 (a0 : Nat) (a1 : Int32) (a2 : Nat) (a3 : Nat) (M : FM) : Prop := (HX61_put a2 (M.2.2 108 a0 0) a3 (M.2.2 94 a0 0) M ∧ let r1 : Int64 × FM := GX61_put a2 (M.2.2 108 a0 0) a3 (M.2.2 94 a0 0) M; (HX59_write a0 a1 a2 r1.1 r1.2 ∧ True))
theorem gX59_reckon_105 (a0 : Nat) (a1 : Int32) (a2 : Nat) (a3 : Nat) (M : FM) (T : Ty M) (n_a0 : fm_is M 32 32 a0 = true) (n_a2 : fm_is M 33 33 a2 = true) (n_a3 : fm_is M 1 1 a3 = true) (h : HX59_reckon_105 a0 a1 a2 a3 M) : gd (FX59_reckon_105 fN a0 a1 a2 a3 M) (GX59_reckon_105 a0 a1 a2 a3 M) (OkR M) := by
  delta FX59_reckon_105 BX59_reckon_105
  refine gd_c n_a0 ?_
  refine gd_c n_a0 ?_
  refine gd_c n_a2 ?_
  have f5 := (tN_108 T.1 n_a0)
  have f6 := (tN_94 T.1 n_a0)
  refine gd_b (gX61_put _ _ _ _ _ ⟨T.1, T.2⟩ f5 n_a2 n_a3 f6 h.1) (fun K0 => ?_)
  have f1 := (ext_is K0.2 (Nat.zero_lt_succ _) n_a0)
  refine gd_c f1 ?_
  have f3 := (ext_is K0.2 (Nat.zero_lt_succ _) n_a0)
  have f4 := (ext_is K0.2 (Nat.zero_lt_succ _) n_a2)
  refine gd_b (gX59_write _ _ _ _ _ ⟨K0.1.1, K0.1.2⟩ f3 f4 h.2.1) (fun K2 => ?_)
  exact ⟨rfl, ⟨K2.1.1, K2.1.2⟩, (ext_tr K0.2 K2.2)⟩
noncomputable def GX59_reckon_0 (a0 : Nat) (a1 : Int32) (a2 : Nat) (a3 : Nat) (M : FM) : Int32 × FM :=
  let r1 : Int32 × FM := GX59_part a1 (Int32.ofInt 27) (Int32.ofInt 5) M
  let r2 : Int32 × FM := GX59_part a1 (Int32.ofInt 15) (Int32.ofInt 5) r1.2
  let M3 : FM := GX59_take a0 r2.1 a2 (r2.2.2.2 105 a0 0) r2.2
  let x4 : Nat := (M3.2.2 101 a0 0)
  fi ((Int32.ofNat (M3.2.2 1 x4 0)) ≤ r1.1) (
    let x5 : Nat := (M3.2.2 103 a0 0)
    let M6 : FM := GX65_run x5 (M3.2.2 105 a0 0) (M3.2.2 105 a0 0) a3 (M3.2.2 94 a0 0) (M3.2.2 108 a0 0) M3
    GX59_reckon_105 a0 a1 a2 a3 M6) (
    let r7 : Int32 × FM := GX59_part a1 (Int32.ofInt 20) (Int32.ofInt 5) M3
    let M8 : FM := GX59_take a0 r7.1 a2 (r7.2.2.2 106 a0 0) r7.2
    let x9 : Nat := (M8.2.2 101 a0 0)
    let x10 : Nat := (M8.2.2 3 x9 r1.1.toNatClampNeg)
    let M11 : FM := GX65_run x10 (M8.2.2 105 a0 0) (M8.2.2 106 a0 0) a3 (M8.2.2 94 a0 0) (M8.2.2 108 a0 0) M8
    GX59_reckon_105 a0 a1 a2 a3 M11)
def HX59_reckon_0 (a0 : Nat) (a1 : Int32) (a2 : Nat) (a3 : Nat) (M : FM) : Prop := let r1 : Int32 × FM := GX59_part a1 (Int32.ofInt 27) (Int32.ofInt 5) M; let r2 : Int32 × FM := GX59_part a1 (Int32.ofInt 15) (Int32.ofInt 5) r1.2; (HX59_take a0 r2.1 a2 (r2.2.2.2 105 a0 0) r2.2 ∧ let M3 : FM := GX59_take a0 r2.1 a2 (r2.2.2.2 105 a0 0) r2.2; let x4 : Nat := (M3.2.2 101 a0 0); (((Int32.ofNat (M3.2.2 1 x4 0)) ≤ r1.1 → let x5 : Nat := (M3.2.2 103 a0 0); (HX65_run x5 (M3.2.2 105 a0 0) (M3.2.2 105 a0 0) a3 (M3.2.2 94 a0 0) (M3.2.2 108 a0 0) M3 ∧ let M6 : FM := GX65_run x5 (M3.2.2 105 a0 0) (M3.2.2 105 a0 0) a3 (M3.2.2 94 a0 0) (M3.2.2 108 a0 0) M3; HX59_reckon_105 a0 a1 a2 a3 M6)) ∧ (¬ ((Int32.ofNat (M3.2.2 1 x4 0)) ≤ r1.1) → let r7 : Int32 × FM := GX59_part a1 (Int32.ofInt 20) (Int32.ofInt 5) M3; (HX59_take a0 r7.1 a2 (r7.2.2.2 106 a0 0) r7.2 ∧ let M8 : FM := GX59_take a0 r7.1 a2 (r7.2.2.2 106 a0 0) r7.2; let x9 : Nat := (M8.2.2 101 a0 0); (fm_in M8 x9 r1.1 = true ∧ let x10 : Nat := (M8.2.2 3 x9 r1.1.toNatClampNeg); (HX65_run x10 (M8.2.2 105 a0 0) (M8.2.2 106 a0 0) a3 (M8.2.2 94 a0 0) (M8.2.2 108 a0 0) M8 ∧ let M11 : FM := GX65_run x10 (M8.2.2 105 a0 0) (M8.2.2 106 a0 0) a3 (M8.2.2 94 a0 0) (M8.2.2 108 a0 0) M8; HX59_reckon_105 a0 a1 a2 a3 M11))))))
theorem gX59_reckon_0 (a0 : Nat) (a1 : Int32) (a2 : Nat) (a3 : Nat) (M : FM) (T : Ty M) (n_a0 : fm_is M 32 32 a0 = true) (n_a2 : fm_is M 33 33 a2 = true) (n_a3 : fm_is M 1 1 a3 = true) (h : HX59_reckon_0 a0 a1 a2 a3 M) : gd (FX59_reckon_0 fN a0 a1 a2 a3 M) (GX59_reckon_0 a0 a1 a2 a3 M) (OkR M) := by
  delta FX59_reckon_0 BX59_reckon_0
  refine gd_b (gX59_part _ _ _ _ ⟨T.1, T.2⟩  ) (fun K0 => ?_)
  refine gd_b (gX59_part _ _ _ _ ⟨K0.1.1, K0.1.2⟩  ) (fun K1 => ?_)
  have f2 := (ext_is K1.2 (Nat.zero_lt_succ _) (ext_is K0.2 (Nat.zero_lt_succ _) n_a0))
  refine gd_c f2 ?_
  have f3 := (ext_is K1.2 (Nat.zero_lt_succ _) (ext_is K0.2 (Nat.zero_lt_succ _) n_a0))
  refine gd_c f3 ?_
  have f48 := (ext_is K1.2 (Nat.zero_lt_succ _) (ext_is K0.2 (Nat.zero_lt_succ _) n_a0))
  have f49 := (ext_is K1.2 (Nat.zero_lt_succ _) (ext_is K0.2 (Nat.zero_lt_succ _) n_a2))
  have f50 := (tN_105 K1.1.1 (ext_is K1.2 (Nat.zero_lt_succ _) (ext_is K0.2 (Nat.zero_lt_succ _) n_a0)))
  refine gd_b (gX59_take _ _ _ _ _ ⟨K1.1.1, K1.1.2⟩ f48 f49 f50 h.1) (fun K4 => ?_)
  have f5 := (ext_is K4.2 (Nat.zero_lt_succ _) (ext_is K1.2 (Nat.zero_lt_succ _) (ext_is K0.2 (Nat.zero_lt_succ _) n_a0)))
  refine gd_c f5 ?_
  have f6 := (fm_w (lo' := 901) (hi' := 990) rfl rfl (tN_101 K4.1.1 (ext_is K4.2 (Nat.zero_lt_succ _) (ext_is K1.2 (Nat.zero_lt_succ _) (ext_is K0.2 (Nat.zero_lt_succ _) n_a0)))))
  refine gd_c f6 ?_
  refine gd_fi (fun c7_0 => ?_) (fun c7_0 => ?_)
  · have f8 := (ext_is K4.2 (Nat.zero_lt_succ _) (ext_is K1.2 (Nat.zero_lt_succ _) (ext_is K0.2 (Nat.zero_lt_succ _) n_a0)))
    refine gd_c f8 ?_
    have f9 := (ext_is K4.2 (Nat.zero_lt_succ _) (ext_is K1.2 (Nat.zero_lt_succ _) (ext_is K0.2 (Nat.zero_lt_succ _) n_a0)))
    refine gd_c f9 ?_
    have f10 := (ext_is K4.2 (Nat.zero_lt_succ _) (ext_is K1.2 (Nat.zero_lt_succ _) (ext_is K0.2 (Nat.zero_lt_succ _) n_a0)))
    refine gd_c f10 ?_
    have f11 := (ext_is K4.2 (Nat.zero_lt_succ _) (ext_is K1.2 (Nat.zero_lt_succ _) (ext_is K0.2 (Nat.zero_lt_succ _) n_a0)))
    refine gd_c f11 ?_
    have f12 := (ext_is K4.2 (Nat.zero_lt_succ _) (ext_is K1.2 (Nat.zero_lt_succ _) (ext_is K0.2 (Nat.zero_lt_succ _) n_a0)))
    refine gd_c f12 ?_
    have f13 := (tN_103 K4.1.1 (ext_is K4.2 (Nat.zero_lt_succ _) (ext_is K1.2 (Nat.zero_lt_succ _) (ext_is K0.2 (Nat.zero_lt_succ _) n_a0))))
    refine gd_c f13 ?_
    have f18 := (tN_105 K4.1.1 (ext_is K4.2 (Nat.zero_lt_succ _) (ext_is K1.2 (Nat.zero_lt_succ _) (ext_is K0.2 (Nat.zero_lt_succ _) n_a0))))
    have f19 := (tN_105 K4.1.1 (ext_is K4.2 (Nat.zero_lt_succ _) (ext_is K1.2 (Nat.zero_lt_succ _) (ext_is K0.2 (Nat.zero_lt_succ _) n_a0))))
    have f20 := (tN_94 K4.1.1 (ext_is K4.2 (Nat.zero_lt_succ _) (ext_is K1.2 (Nat.zero_lt_succ _) (ext_is K0.2 (Nat.zero_lt_succ _) n_a0))))
    have f21 := (tN_108 K4.1.1 (ext_is K4.2 (Nat.zero_lt_succ _) (ext_is K1.2 (Nat.zero_lt_succ _) (ext_is K0.2 (Nat.zero_lt_succ _) n_a0))))
    have f22 := (tN_103 K4.1.1 (ext_is K4.2 (Nat.zero_lt_succ _) (ext_is K1.2 (Nat.zero_lt_succ _) (ext_is K0.2 (Nat.zero_lt_succ _) n_a0))))
    have f23 := (ext_is K4.2 (Nat.zero_lt_succ _) (ext_is K1.2 (Nat.zero_lt_succ _) (ext_is K0.2 (Nat.zero_lt_succ _) n_a3)))
    refine gd_b (gX65_run _ _ _ _ _ _ _ ⟨K4.1.1, K4.1.2⟩ f18 f19 f20 f21 f22 f23 (h.2.1 c7_0).1) (fun K14 => ?_)
    have f15 := (ext_is K14.2 (Nat.zero_lt_succ _) (ext_is K4.2 (Nat.zero_lt_succ _) (ext_is K1.2 (Nat.zero_lt_succ _) (ext_is K0.2 (Nat.zero_lt_succ _) n_a0))))
    have f16 := (ext_is K14.2 (Nat.zero_lt_succ _) (ext_is K4.2 (Nat.zero_lt_succ _) (ext_is K1.2 (Nat.zero_lt_succ _) (ext_is K0.2 (Nat.zero_lt_succ _) n_a2))))
    have f17 := (ext_is K14.2 (Nat.zero_lt_succ _) (ext_is K4.2 (Nat.zero_lt_succ _) (ext_is K1.2 (Nat.zero_lt_succ _) (ext_is K0.2 (Nat.zero_lt_succ _) n_a3))))
    exact gd_tR (ext_tr K0.2 (ext_tr K1.2 (ext_tr K4.2 K14.2))) (gX59_reckon_105 _ _ _ _ _ ⟨K14.1.1, K14.1.2⟩ f15 f16 f17 (h.2.1 c7_0).2)
  · refine gd_b (gX59_part _ _ _ _ ⟨K4.1.1, K4.1.2⟩  ) (fun K24 => ?_)
    have f25 := (ext_is K24.2 (Nat.zero_lt_succ _) (ext_is K4.2 (Nat.zero_lt_succ _) (ext_is K1.2 (Nat.zero_lt_succ _) (ext_is K0.2 (Nat.zero_lt_succ _) n_a0))))
    refine gd_c f25 ?_
    have f26 := (ext_is K24.2 (Nat.zero_lt_succ _) (ext_is K4.2 (Nat.zero_lt_succ _) (ext_is K1.2 (Nat.zero_lt_succ _) (ext_is K0.2 (Nat.zero_lt_succ _) n_a0))))
    refine gd_c f26 ?_
    have f45 := (ext_is K24.2 (Nat.zero_lt_succ _) (ext_is K4.2 (Nat.zero_lt_succ _) (ext_is K1.2 (Nat.zero_lt_succ _) (ext_is K0.2 (Nat.zero_lt_succ _) n_a0))))
    have f46 := (ext_is K24.2 (Nat.zero_lt_succ _) (ext_is K4.2 (Nat.zero_lt_succ _) (ext_is K1.2 (Nat.zero_lt_succ _) (ext_is K0.2 (Nat.zero_lt_succ _) n_a2))))
    have f47 := (tN_106 K24.1.1 (ext_is K24.2 (Nat.zero_lt_succ _) (ext_is K4.2 (Nat.zero_lt_succ _) (ext_is K1.2 (Nat.zero_lt_succ _) (ext_is K0.2 (Nat.zero_lt_succ _) n_a0)))))
    refine gd_b (gX59_take _ _ _ _ _ ⟨K24.1.1, K24.1.2⟩ f45 f46 f47 (h.2.2 c7_0).1) (fun K27 => ?_)
    have f28 := (ext_is K27.2 (Nat.zero_lt_succ _) (ext_is K24.2 (Nat.zero_lt_succ _) (ext_is K4.2 (Nat.zero_lt_succ _) (ext_is K1.2 (Nat.zero_lt_succ _) (ext_is K0.2 (Nat.zero_lt_succ _) n_a0)))))
    refine gd_c f28 ?_
    have f44 := (fm_w (lo' := 910) (hi' := 990) rfl rfl (tN_101 K27.1.1 (ext_is K27.2 (Nat.zero_lt_succ _) (ext_is K24.2 (Nat.zero_lt_succ _) (ext_is K4.2 (Nat.zero_lt_succ _) (ext_is K1.2 (Nat.zero_lt_succ _) (ext_is K0.2 (Nat.zero_lt_succ _) n_a0)))))))
    refine gd_c ⟨f44, (h.2.2 c7_0).2.1⟩ ?_
    have f29 := (ext_is K27.2 (Nat.zero_lt_succ _) (ext_is K24.2 (Nat.zero_lt_succ _) (ext_is K4.2 (Nat.zero_lt_succ _) (ext_is K1.2 (Nat.zero_lt_succ _) (ext_is K0.2 (Nat.zero_lt_succ _) n_a0)))))
    refine gd_c f29 ?_
    have f30 := (ext_is K27.2 (Nat.zero_lt_succ _) (ext_is K24.2 (Nat.zero_lt_succ _) (ext_is K4.2 (Nat.zero_lt_succ _) (ext_is K1.2 (Nat.zero_lt_succ _) (ext_is K0.2 (Nat.zero_lt_succ _) n_a0)))))
    refine gd_c f30 ?_
    have f31 := (ext_is K27.2 (Nat.zero_lt_succ _) (ext_is K24.2 (Nat.zero_lt_succ _) (ext_is K4.2 (Nat.zero_lt_succ _) (ext_is K1.2 (Nat.zero_lt_succ _) (ext_is K0.2 (Nat.zero_lt_succ _) n_a0)))))
    refine gd_c f31 ?_
    have f32 := (ext_is K27.2 (Nat.zero_lt_succ _) (ext_is K24.2 (Nat.zero_lt_succ _) (ext_is K4.2 (Nat.zero_lt_succ _) (ext_is K1.2 (Nat.zero_lt_succ _) (ext_is K0.2 (Nat.zero_lt_succ _) n_a0)))))
    refine gd_c f32 ?_
    have f33 := (tE_914 K27.1.1 (tN_101 K27.1.1 (ext_is K27.2 (Nat.zero_lt_succ _) (ext_is K24.2 (Nat.zero_lt_succ _) (ext_is K4.2 (Nat.zero_lt_succ _) (ext_is K1.2 (Nat.zero_lt_succ _) (ext_is K0.2 (Nat.zero_lt_succ _) n_a0)))))) (h.2.2 c7_0).2.1)
    refine gd_c f33 ?_
    have f38 := (tN_105 K27.1.1 (ext_is K27.2 (Nat.zero_lt_succ _) (ext_is K24.2 (Nat.zero_lt_succ _) (ext_is K4.2 (Nat.zero_lt_succ _) (ext_is K1.2 (Nat.zero_lt_succ _) (ext_is K0.2 (Nat.zero_lt_succ _) n_a0))))))
    have f39 := (tN_106 K27.1.1 (ext_is K27.2 (Nat.zero_lt_succ _) (ext_is K24.2 (Nat.zero_lt_succ _) (ext_is K4.2 (Nat.zero_lt_succ _) (ext_is K1.2 (Nat.zero_lt_succ _) (ext_is K0.2 (Nat.zero_lt_succ _) n_a0))))))
    have f40 := (tN_94 K27.1.1 (ext_is K27.2 (Nat.zero_lt_succ _) (ext_is K24.2 (Nat.zero_lt_succ _) (ext_is K4.2 (Nat.zero_lt_succ _) (ext_is K1.2 (Nat.zero_lt_succ _) (ext_is K0.2 (Nat.zero_lt_succ _) n_a0))))))
    have f41 := (tN_108 K27.1.1 (ext_is K27.2 (Nat.zero_lt_succ _) (ext_is K24.2 (Nat.zero_lt_succ _) (ext_is K4.2 (Nat.zero_lt_succ _) (ext_is K1.2 (Nat.zero_lt_succ _) (ext_is K0.2 (Nat.zero_lt_succ _) n_a0))))))
    have f42 := (tE_914 K27.1.1 (tN_101 K27.1.1 (ext_is K27.2 (Nat.zero_lt_succ _) (ext_is K24.2 (Nat.zero_lt_succ _) (ext_is K4.2 (Nat.zero_lt_succ _) (ext_is K1.2 (Nat.zero_lt_succ _) (ext_is K0.2 (Nat.zero_lt_succ _) n_a0)))))) (h.2.2 c7_0).2.1)
    have f43 := (ext_is K27.2 (Nat.zero_lt_succ _) (ext_is K24.2 (Nat.zero_lt_succ _) (ext_is K4.2 (Nat.zero_lt_succ _) (ext_is K1.2 (Nat.zero_lt_succ _) (ext_is K0.2 (Nat.zero_lt_succ _) n_a3)))))
    refine gd_b (gX65_run _ _ _ _ _ _ _ ⟨K27.1.1, K27.1.2⟩ f38 f39 f40 f41 f42 f43 (h.2.2 c7_0).2.2.1) (fun K34 => ?_)
    have f35 := (ext_is K34.2 (Nat.zero_lt_succ _) (ext_is K27.2 (Nat.zero_lt_succ _) (ext_is K24.2 (Nat.zero_lt_succ _) (ext_is K4.2 (Nat.zero_lt_succ _) (ext_is K1.2 (Nat.zero_lt_succ _) (ext_is K0.2 (Nat.zero_lt_succ _) n_a0))))))
    have f36 := (ext_is K34.2 (Nat.zero_lt_succ _) (ext_is K27.2 (Nat.zero_lt_succ _) (ext_is K24.2 (Nat.zero_lt_succ _) (ext_is K4.2 (Nat.zero_lt_succ _) (ext_is K1.2 (Nat.zero_lt_succ _) (ext_is K0.2 (Nat.zero_lt_succ _) n_a2))))))
    have f37 := (ext_is K34.2 (Nat.zero_lt_succ _) (ext_is K27.2 (Nat.zero_lt_succ _) (ext_is K24.2 (Nat.zero_lt_succ _) (ext_is K4.2 (Nat.zero_lt_succ _) (ext_is K1.2 (Nat.zero_lt_succ _) (ext_is K0.2 (Nat.zero_lt_succ _) n_a3))))))
    exact gd_tR (ext_tr K0.2 (ext_tr K1.2 (ext_tr K4.2 (ext_tr K24.2 (ext_tr K27.2 K34.2))))) (gX59_reckon_105 _ _ _ _ _ ⟨K34.1.1, K34.1.2⟩ f35 f36 f37 (h.2.2 c7_0).2.2.2)
noncomputable def GX59_reckon (a0 : Nat) (a1 : Int32) (a2 : Nat) (a3 : Nat) (M : FM) : Int32 × FM := GX59_reckon_0 a0 a1 a2 a3 M
def HX59_reckon (a0 : Nat) (a1 : Int32) (a2 : Nat) (a3 : Nat) (M : FM) : Prop := HX59_reckon_0 a0 a1 a2 a3 M
theorem gX59_reckon (a0 : Nat) (a1 : Int32) (a2 : Nat) (a3 : Nat) (M : FM) (T : Ty M) (n_a0 : fm_is M 32 32 a0 = true) (n_a2 : fm_is M 33 33 a2 = true) (n_a3 : fm_is M 1 1 a3 = true) (h : HX59_reckon a0 a1 a2 a3 M) : gd (FX59_reckon fN a0 a1 a2 a3 M) (GX59_reckon a0 a1 a2 a3 M) (OkR M) := gX59_reckon_0 a0 a1 a2 a3 M T n_a0 n_a2 n_a3 h
noncomputable def GX64_take_70 (s0 : Nat) (s1 : Int32) (s2 : Int64) (M : FM) : FM :=
  let M1 : FM := GX71_number s0 s1 s2 (Int32.ofInt 0) M
  M1
theorem gX64_take_70 (s0 : Nat) (s1 : Int32) (s2 : Int64) (M : FM) (T : Ty M) (n_s0 : fm_is M 39 39 s0 = true) (z_s1 : s1 = 0 ∨ s1 = 1) : gd (FX64_take_70 s0 s1 s2 M) (GX64_take_70 s0 s1 s2 M) (OkV M) := by
  delta FX64_take_70 BX64_take_70
  refine gd_c n_s0 ?_
  refine gd_b (gX71_number _ _ _ _ _ ⟨T.1, T.2⟩ n_s0 z_s1 ) (fun K0 => ?_)
  exact ⟨rfl, ⟨K0.1.1, K0.1.2⟩, K0.2⟩
noncomputable def GX64_take_52 (a3 : Nat) (a4 : Int64) (s0 : Int32) (M : FM) : FM :=
  fi (s0 = 0) (
    GX64_take_70 a3 s0 a4 M) (
    GX64_take_70 a3 s0 (-a4) M)
theorem gX64_take_52 (a3 : Nat) (a4 : Int64) (s0 : Int32) (M : FM) (T : Ty M) (n_a3 : fm_is M 39 39 a3 = true) (z_s0 : s0 = 0 ∨ s0 = 1) : gd (FX64_take_52 a3 a4 s0 M) (GX64_take_52 a3 a4 s0 M) (OkV M) := by
  delta FX64_take_52 BX64_take_52
  refine gd_fi (fun c0_0 => ?_) (fun c0_0 => ?_)
  · exact gd_tV (ext_r _) (gX64_take_70 _ _ _ _ ⟨T.1, T.2⟩ n_a3 z_s0 )
  · exact gd_tV (ext_r _) (gX64_take_70 _ _ _ _ ⟨T.1, T.2⟩ n_a3 z_s0 )
noncomputable def GX64_take_51 (a3 : Nat) (a4 : Int64) (M : FM) : FM :=
  GX64_take_52 a3 a4 (Int32.ofInt 0) M
theorem gX64_take_51 (a3 : Nat) (a4 : Int64) (M : FM) (T : Ty M) (n_a3 : fm_is M 39 39 a3 = true) : gd (FX64_take_51 a3 a4 M) (GX64_take_51 a3 a4 M) (OkV M) := by
  delta FX64_take_51 BX64_take_51
  exact gd_tV (ext_r _) (gX64_take_52 _ _ _ _ ⟨T.1, T.2⟩ n_a3 fz_0 )
noncomputable def GX64_take_31 (a0 : Nat) (a3 : Nat) (s0 : Int64) (M : FM) : FM :=
  fi ((M.1 12 a0 0) = 0) (
    GX64_take_51 a3 s0 M) (
    fi (0 ≤ (lg_cmp s0 (Int64.ofInt 0))) (
      GX64_take_51 a3 s0 M) (
      GX64_take_52 a3 s0 (Int32.ofInt 1) M))
theorem gX64_take_31 (a0 : Nat) (a3 : Nat) (s0 : Int64) (M : FM) (T : Ty M) (n_a0 : fm_is M 3 3 a0 = true) (n_a3 : fm_is M 39 39 a3 = true) : gd (FX64_take_31 a0 a3 s0 M) (GX64_take_31 a0 a3 s0 M) (OkV M) := by
  delta FX64_take_31 BX64_take_31
  refine gd_c n_a0 ?_
  refine gd_fi (fun c0_0 => ?_) (fun c0_0 => ?_)
  · exact gd_tV (ext_r _) (gX64_take_51 _ _ _ ⟨T.1, T.2⟩ n_a3 )
  · refine gd_fi (fun c1_0 => ?_) (fun c1_0 => ?_)
    · exact gd_tV (ext_r _) (gX64_take_51 _ _ _ ⟨T.1, T.2⟩ n_a3 )
    · exact gd_tV (ext_r _) (gX64_take_52 _ _ _ _ ⟨T.1, T.2⟩ n_a3 fz_1 )
noncomputable def GX64_take_0 (a0 : Nat) (a1 : Int64) (a3 : Nat) (M : FM) : FM :=
  fi ((M.1 11 a0 0) = (Int32.ofInt 64)) (
    GX64_take_31 a0 a3 a1 M) (
    fi ((M.1 12 a0 0) = 0) (
      GX64_take_31 a0 a3 (a1 &&& (Int64.ofInt 4294967295)) M) (
      GX64_take_31 a0 a3 a1.toInt32.toInt64 M))
theorem gX64_take_0 (a0 : Nat) (a1 : Int64) (a3 : Nat) (M : FM) (T : Ty M) (n_a0 : fm_is M 3 3 a0 = true) (n_a3 : fm_is M 39 39 a3 = true) : gd (FX64_take_0 a0 a1 a3 M) (GX64_take_0 a0 a1 a3 M) (OkV M) := by
  delta FX64_take_0 BX64_take_0
  refine gd_c n_a0 ?_
  refine gd_fi (fun c0_0 => ?_) (fun c0_0 => ?_)
  · exact gd_tV (ext_r _) (gX64_take_31 _ _ _ _ ⟨T.1, T.2⟩ n_a0 n_a3 )
  · refine gd_c n_a0 ?_
    refine gd_fi (fun c1_0 => ?_) (fun c1_0 => ?_)
    · exact gd_tV (ext_r _) (gX64_take_31 _ _ _ _ ⟨T.1, T.2⟩ n_a0 n_a3 )
    · exact gd_tV (ext_r _) (gX64_take_31 _ _ _ _ ⟨T.1, T.2⟩ n_a0 n_a3 )
noncomputable def GX64_take (a0 : Nat) (a1 : Int64) (a3 : Nat) (M : FM) : FM := GX64_take_0 a0 a1 a3 M
theorem gX64_take (a0 : Nat) (a1 : Int64) (a3 : Nat) (M : FM) (T : Ty M) (n_a0 : fm_is M 3 3 a0 = true) (n_a3 : fm_is M 39 39 a3 = true) : gd (FX64_take a0 a1 a3 M) (GX64_take a0 a1 a3 M) (OkV M) := gX64_take_0 a0 a1 a3 M T n_a0 n_a3 
noncomputable def GX64_limit_43 (s0 : Int64) (M : FM) : Int64 × FM :=
  (s0, M)
theorem gX64_limit_43 (s0 : Int64) (M : FM) (T : Ty M) : gd (FX64_limit_43 s0 M) (GX64_limit_43 s0 M) (OkR M) := by
  delta FX64_limit_43 BX64_limit_43
  exact ⟨rfl, ⟨T.1, T.2⟩, (ext_r _)⟩
noncomputable def GX64_limit_0 (a0 : Nat) (a1 : Int32) (M : FM) : Int64 × FM :=
  let x1 : Int64 := ((Int64.ofInt 1) <<< (((M.1 11 a0 0) - (Int32.ofInt 1)).toInt64 &&& 63))
  fi ((M.1 12 a0 0) = 0) (
    fi (a1 = 0) (
      GX64_limit_43 ((x1 - (Int64.ofInt 1)) + x1) M) (
      GX64_limit_43 (Int64.ofInt 0) M)) (
    fi (a1 = 0) (
      GX64_limit_43 (x1 - (Int64.ofInt 1)) M) (
      GX64_limit_43 x1 M))
theorem gX64_limit_0 (a0 : Nat) (a1 : Int32) (M : FM) (T : Ty M) (n_a0 : fm_is M 3 3 a0 = true) : gd (FX64_limit_0 a0 a1 M) (GX64_limit_0 a0 a1 M) (OkR M) := by
  delta FX64_limit_0 BX64_limit_0
  refine gd_c n_a0 ?_
  refine gd_c n_a0 ?_
  refine gd_fi (fun c0_0 => ?_) (fun c0_0 => ?_)
  · refine gd_fi (fun c1_0 => ?_) (fun c1_0 => ?_)
    · exact gd_tR (ext_r _) (gX64_limit_43 _ _ ⟨T.1, T.2⟩  )
    · exact gd_tR (ext_r _) (gX64_limit_43 _ _ ⟨T.1, T.2⟩  )
  · refine gd_fi (fun c2_0 => ?_) (fun c2_0 => ?_)
    · exact gd_tR (ext_r _) (gX64_limit_43 _ _ ⟨T.1, T.2⟩  )
    · exact gd_tR (ext_r _) (gX64_limit_43 _ _ ⟨T.1, T.2⟩  )
noncomputable def GX64_limit (a0 : Nat) (a1 : Int32) (M : FM) : Int64 × FM := GX64_limit_0 a0 a1 M
theorem gX64_limit (a0 : Nat) (a1 : Int32) (M : FM) (T : Ty M) (n_a0 : fm_is M 3 3 a0 = true) : gd (FX64_limit a0 a1 M) (GX64_limit a0 a1 M) (OkR M) := gX64_limit_0 a0 a1 M T n_a0 
noncomputable def GX64_told_30 (s0 : Int64) (M : FM) : Int64 × FM :=
  (s0, M)
theorem gX64_told_30 (s0 : Int64) (M : FM) (T : Ty M) : gd (FX64_told_30 s0 M) (GX64_told_30 s0 M) (OkR M) := by
  delta FX64_told_30 BX64_told_30
  exact ⟨rfl, ⟨T.1, T.2⟩, (ext_r _)⟩
noncomputable def GX64_told_10 (a0 : Nat) (s0 : Int64) (M : FM) : Int64 × FM :=
  fi ((M.1 11 a0 0) = (Int32.ofInt 32)) (
    GX64_told_30 s0.toInt32.toInt64 M) (
    GX64_told_30 s0 M)
theorem gX64_told_10 (a0 : Nat) (s0 : Int64) (M : FM) (T : Ty M) (n_a0 : fm_is M 3 3 a0 = true) : gd (FX64_told_10 a0 s0 M) (GX64_told_10 a0 s0 M) (OkR M) := by
  delta FX64_told_10 BX64_told_10
  refine gd_c n_a0 ?_
  refine gd_fi (fun c0_0 => ?_) (fun c0_0 => ?_)
  · exact gd_tR (ext_r _) (gX64_told_30 _ _ ⟨T.1, T.2⟩  )
  · exact gd_tR (ext_r _) (gX64_told_30 _ _ ⟨T.1, T.2⟩  )
noncomputable def GX64_told_0 (a0 : Nat) (a1 : Int64) (a3 : Int32) (M : FM) : Int64 × FM :=
  fi (a3 = 0) (
    GX64_told_10 a0 a1 M) (
    GX64_told_10 a0 (-a1) M)
theorem gX64_told_0 (a0 : Nat) (a1 : Int64) (a3 : Int32) (M : FM) (T : Ty M) (n_a0 : fm_is M 3 3 a0 = true) : gd (FX64_told_0 a0 a1 a3 M) (GX64_told_0 a0 a1 a3 M) (OkR M) := by
  delta FX64_told_0 BX64_told_0
  refine gd_fi (fun c0_0 => ?_) (fun c0_0 => ?_)
  · exact gd_tR (ext_r _) (gX64_told_10 _ _ _ ⟨T.1, T.2⟩ n_a0 )
  · exact gd_tR (ext_r _) (gX64_told_10 _ _ _ ⟨T.1, T.2⟩ n_a0 )
noncomputable def GX64_told (a0 : Nat) (a1 : Int64) (a3 : Int32) (M : FM) : Int64 × FM := GX64_told_0 a0 a1 a3 M
theorem gX64_told (a0 : Nat) (a1 : Int64) (a3 : Int32) (M : FM) (T : Ty M) (n_a0 : fm_is M 3 3 a0 = true) : gd (FX64_told a0 a1 a3 M) (GX64_told a0 a1 a3 M) (OkR M) := gX64_told_0 a0 a1 a3 M T n_a0 
noncomputable def GX64_round_191 (a0 : Nat) (a1 : Nat) (a5 : Int32) (s0 : Nat) (s1 : Int32) (M : FM) : Int64 × FM :=
  let M1 : FM := GX60_raise s0 s1 M
  let x2 : Nat := (M1.2.2 117 a1 0)
  let r3 : Int64 × FM := GX64_told a0 (M1.2.1 120 x2 0) a5 M1
  (r3.1, r3.2)
def HX64_round_191 (a0 : Nat) (a1 : Nat) (a5 : Int32) (s0 : Nat) (s1 : Int32) (M : FM) : Prop := (HX60_raise s0 s1 M ∧ True)
theorem gX64_round_191 (a0 : Nat) (a1 : Nat) (a5 : Int32) (s0 : Nat) (s1 : Int32) (M : FM) (T : Ty M) (n_s0 : fm_is M 31 31 s0 = true) (n_a1 : fm_is M 39 39 a1 = true) (n_a0 : fm_is M 3 3 a0 = true) (h : HX64_round_191 a0 a1 a5 s0 s1 M) : gd (FX64_round_191 fN a0 a1 a5 s0 s1 M) (GX64_round_191 a0 a1 a5 s0 s1 M) (OkR M) := by
  delta FX64_round_191 BX64_round_191
  refine gd_c n_s0 ?_
  refine gd_b (gX60_raise _ _ _ ⟨T.1, T.2⟩ n_s0 h.1) (fun K0 => ?_)
  have f1 := (ext_is K0.2 (Nat.zero_lt_succ _) n_a1)
  refine gd_c f1 ?_
  have f2 := (tN_117 K0.1.1 (ext_is K0.2 (Nat.zero_lt_succ _) n_a1))
  refine gd_c f2 ?_
  have f3 := (ext_is K0.2 (Nat.zero_lt_succ _) n_a0)
  refine gd_c f3 ?_
  have f5 := (ext_is K0.2 (Nat.zero_lt_succ _) n_a0)
  refine gd_b (gX64_told _ _ _ _ ⟨K0.1.1, K0.1.2⟩ f5 ) (fun K4 => ?_)
  exact ⟨rfl, ⟨K4.1.1, K4.1.2⟩, (ext_tr K0.2 K4.2)⟩
noncomputable def GX64_round_165 (a0 : Nat) (a3 : Nat) (a5 : Int32) (a7 : Int64) (M : FM) : Int64 × FM :=
  let M1 : FM := GX60_raise a3 (Int32.ofInt 16) M
  let r2 : Int64 × FM := GX64_told a0 a7 a5 M1
  (r2.1, r2.2)
def HX64_round_165 (a0 : Nat) (a3 : Nat) (a5 : Int32) (a7 : Int64) (M : FM) : Prop := (HX60_raise a3 (Int32.ofInt 16) M ∧ True)
theorem gX64_round_165 (a0 : Nat) (a3 : Nat) (a5 : Int32) (a7 : Int64) (M : FM) (T : Ty M) (n_a3 : fm_is M 31 31 a3 = true) (n_a0 : fm_is M 3 3 a0 = true) (h : HX64_round_165 a0 a3 a5 a7 M) : gd (FX64_round_165 fN a0 a3 a5 a7 M) (GX64_round_165 a0 a3 a5 a7 M) (OkR M) := by
  delta FX64_round_165 BX64_round_165
  refine gd_c n_a3 ?_
  refine gd_b (gX60_raise _ _ _ ⟨T.1, T.2⟩ n_a3 h.1) (fun K0 => ?_)
  have f1 := (ext_is K0.2 (Nat.zero_lt_succ _) n_a0)
  refine gd_c f1 ?_
  have f3 := (ext_is K0.2 (Nat.zero_lt_succ _) n_a0)
  refine gd_b (gX64_told _ _ _ _ ⟨K0.1.1, K0.1.2⟩ f3 ) (fun K2 => ?_)
  exact ⟨rfl, ⟨K2.1.1, K2.1.2⟩, (ext_tr K0.2 K2.2)⟩
noncomputable def GX64_round_125 (a0 : Nat) (a1 : Nat) (a3 : Nat) (a4 : Int32) (a5 : Int32) (a6 : Int32) (M : FM) : Int64 × FM :=
  let r1 : Int64 × FM := GX64_limit a0 a5 M
  fi (a4 = 0) (
    let x2 : Nat := (r1.2.2.2 117 a1 0)
    fi ((lg_cmp (r1.2.2.1 119 x2 0) (Int64.ofInt 0)) = 0) (
      let x3 : Nat := (r1.2.2.2 117 a1 0)
      let r4 : Int32 × FM := GX108_isLess r1.1 (r1.2.2.1 120 x3 0) r1.2
      fi (r4.1 = 0) (
        fi (a6 = 0) (
          GX64_round_191 a0 a1 a5 a3 (Int32.ofInt 0) r4.2) (
          GX64_round_191 a0 a1 a5 a3 (Int32.ofInt 1) r4.2)) (
        GX64_round_165 a0 a3 a5 r1.1 r4.2)) (
      GX64_round_165 a0 a3 a5 r1.1 r1.2)) (
    GX64_round_165 a0 a3 a5 r1.1 r1.2)
def HX64_round_125 (a0 : Nat) (a1 : Nat) (a3 : Nat) (a4 : Int32) (a5 : Int32) (a6 : Int32) (M : FM) : Prop := let r1 : Int64 × FM := GX64_limit a0 a5 M; ((a4 = 0 → let x2 : Nat := (r1.2.2.2 117 a1 0); (((lg_cmp (r1.2.2.1 119 x2 0) (Int64.ofInt 0)) = 0 → let x3 : Nat := (r1.2.2.2 117 a1 0); let r4 : Int32 × FM := GX108_isLess r1.1 (r1.2.2.1 120 x3 0) r1.2; ((r4.1 = 0 → ((a6 = 0 → HX64_round_191 a0 a1 a5 a3 (Int32.ofInt 0) r4.2) ∧ (¬ (a6 = 0) → HX64_round_191 a0 a1 a5 a3 (Int32.ofInt 1) r4.2))) ∧ (¬ (r4.1 = 0) → HX64_round_165 a0 a3 a5 r1.1 r4.2))) ∧ (¬ ((lg_cmp (r1.2.2.1 119 x2 0) (Int64.ofInt 0)) = 0) → HX64_round_165 a0 a3 a5 r1.1 r1.2))) ∧ (¬ (a4 = 0) → HX64_round_165 a0 a3 a5 r1.1 r1.2))
theorem gX64_round_125 (a0 : Nat) (a1 : Nat) (a3 : Nat) (a4 : Int32) (a5 : Int32) (a6 : Int32) (M : FM) (T : Ty M) (n_a0 : fm_is M 3 3 a0 = true) (n_a1 : fm_is M 39 39 a1 = true) (n_a3 : fm_is M 31 31 a3 = true) (h : HX64_round_125 a0 a1 a3 a4 a5 a6 M) : gd (FX64_round_125 fN a0 a1 a3 a4 a5 a6 M) (GX64_round_125 a0 a1 a3 a4 a5 a6 M) (OkR M) := by
  delta FX64_round_125 BX64_round_125
  refine gd_c n_a0 ?_
  refine gd_b (gX64_limit _ _ _ ⟨T.1, T.2⟩ n_a0 ) (fun K0 => ?_)
  refine gd_fi (fun c1_0 => ?_) (fun c1_0 => ?_)
  · have f2 := (ext_is K0.2 (Nat.zero_lt_succ _) n_a1)
    refine gd_c f2 ?_
    have f3 := (tN_117 K0.1.1 (ext_is K0.2 (Nat.zero_lt_succ _) n_a1))
    refine gd_c f3 ?_
    refine gd_fi (fun c4_0 => ?_) (fun c4_0 => ?_)
    · have f5 := (ext_is K0.2 (Nat.zero_lt_succ _) n_a1)
      refine gd_c f5 ?_
      have f6 := (tN_117 K0.1.1 (ext_is K0.2 (Nat.zero_lt_succ _) n_a1))
      refine gd_c f6 ?_
      refine gd_b (gX108_isLess _ _ _ ⟨K0.1.1, K0.1.2⟩  ) (fun K7 => ?_)
      refine gd_fi (fun c8_0 => ?_) (fun c8_0 => ?_)
      · refine gd_fi (fun c9_0 => ?_) (fun c9_0 => ?_)
        · have f10 := (ext_is K7.2.1 (Nat.zero_lt_succ _) (ext_is K0.2 (Nat.zero_lt_succ _) n_a3))
          have f11 := (ext_is K7.2.1 (Nat.zero_lt_succ _) (ext_is K0.2 (Nat.zero_lt_succ _) n_a1))
          have f12 := (ext_is K7.2.1 (Nat.zero_lt_succ _) (ext_is K0.2 (Nat.zero_lt_succ _) n_a0))
          exact gd_tR (ext_tr K0.2 K7.2.1) (gX64_round_191 _ _ _ _ _ _ ⟨K7.1.1, K7.1.2⟩ f10 f11 f12 ((((h.1 c1_0).1 c4_0).1 c8_0).1 c9_0))
        · have f13 := (ext_is K7.2.1 (Nat.zero_lt_succ _) (ext_is K0.2 (Nat.zero_lt_succ _) n_a3))
          have f14 := (ext_is K7.2.1 (Nat.zero_lt_succ _) (ext_is K0.2 (Nat.zero_lt_succ _) n_a1))
          have f15 := (ext_is K7.2.1 (Nat.zero_lt_succ _) (ext_is K0.2 (Nat.zero_lt_succ _) n_a0))
          exact gd_tR (ext_tr K0.2 K7.2.1) (gX64_round_191 _ _ _ _ _ _ ⟨K7.1.1, K7.1.2⟩ f13 f14 f15 ((((h.1 c1_0).1 c4_0).1 c8_0).2 c9_0))
      · have f16 := (ext_is K7.2.1 (Nat.zero_lt_succ _) (ext_is K0.2 (Nat.zero_lt_succ _) n_a3))
        have f17 := (ext_is K7.2.1 (Nat.zero_lt_succ _) (ext_is K0.2 (Nat.zero_lt_succ _) n_a0))
        exact gd_tR (ext_tr K0.2 K7.2.1) (gX64_round_165 _ _ _ _ _ ⟨K7.1.1, K7.1.2⟩ f16 f17 (((h.1 c1_0).1 c4_0).2 c8_0))
    · have f18 := (ext_is K0.2 (Nat.zero_lt_succ _) n_a3)
      have f19 := (ext_is K0.2 (Nat.zero_lt_succ _) n_a0)
      exact gd_tR K0.2 (gX64_round_165 _ _ _ _ _ ⟨K0.1.1, K0.1.2⟩ f18 f19 ((h.1 c1_0).2 c4_0))
  · have f20 := (ext_is K0.2 (Nat.zero_lt_succ _) n_a3)
    have f21 := (ext_is K0.2 (Nat.zero_lt_succ _) n_a0)
    exact gd_tR K0.2 (gX64_round_165 _ _ _ _ _ ⟨K0.1.1, K0.1.2⟩ f20 f21 (h.2 c1_0))
noncomputable def GX64_round_66 (a0 : Nat) (a1 : Nat) (a2 : Nat) (a3 : Nat) (a4 : Int32) (s0 : Int32) (M : FM) : Int64 × FM :=
  let r1 : Int32 × FM := GX71_is a1 7 M
  fi (r1.1 = 0) (
    GX64_round_125 a0 a1 a3 a4 s0 (Int32.ofInt 0) r1.2) (
    fi (a4 = 0) (
      let x2 : Nat := (r1.2.2.2 117 a1 0)
      let r3 : Int32 × FM := GX62_cut x2 (-(r1.2.1 116 a1 0)) r1.2
      let x4 : Nat := (r3.2.2.2 117 a1 0)
      let r5 : Int32 × FM := GX62_isOdd x4 r3.2
      let r6 : Int32 × FM := GX63_grows a2 s0 r5.1 r3.1 r5.2
      fi (r6.1 = 0) (
        GX64_round_125 a0 a1 a3 a4 s0 r3.1 r6.2) (
        let x7 : Nat := (r6.2.2.2 117 a1 0)
        let M8 : FM := GX62_grow x7 r6.2
        GX64_round_125 a0 a1 a3 a4 s0 r3.1 M8)) (
      GX64_round_125 a0 a1 a3 a4 s0 (Int32.ofInt 0) r1.2))
def HX64_round_66 (a0 : Nat) (a1 : Nat) (a2 : Nat) (a3 : Nat) (a4 : Int32) (s0 : Int32) (M : FM) : Prop := let r1 : Int32 × FM := GX71_is a1 7 M; ((r1.1 = 0 → HX64_round_125 a0 a1 a3 a4 s0 (Int32.ofInt 0) r1.2) ∧ (¬ (r1.1 = 0) → ((a4 = 0 → let x2 : Nat := (r1.2.2.2 117 a1 0); let r3 : Int32 × FM := GX62_cut x2 (-(r1.2.1 116 a1 0)) r1.2; let x4 : Nat := (r3.2.2.2 117 a1 0); let r5 : Int32 × FM := GX62_isOdd x4 r3.2; let r6 : Int32 × FM := GX63_grows a2 s0 r5.1 r3.1 r5.2; ((r6.1 = 0 → HX64_round_125 a0 a1 a3 a4 s0 r3.1 r6.2) ∧ (¬ (r6.1 = 0) → let x7 : Nat := (r6.2.2.2 117 a1 0); let M8 : FM := GX62_grow x7 r6.2; HX64_round_125 a0 a1 a3 a4 s0 r3.1 M8))) ∧ (¬ (a4 = 0) → HX64_round_125 a0 a1 a3 a4 s0 (Int32.ofInt 0) r1.2))))
theorem gX64_round_66 (a0 : Nat) (a1 : Nat) (a2 : Nat) (a3 : Nat) (a4 : Int32) (s0 : Int32) (M : FM) (T : Ty M) (n_a1 : fm_is M 39 39 a1 = true) (n_a0 : fm_is M 3 3 a0 = true) (n_a3 : fm_is M 31 31 a3 = true) (n_a2 : fm_is M 1 1 a2 = true) (h : HX64_round_66 a0 a1 a2 a3 a4 s0 M) : gd (FX64_round_66 fN a0 a1 a2 a3 a4 s0 M) (GX64_round_66 a0 a1 a2 a3 a4 s0 M) (OkR M) := by
  delta FX64_round_66 BX64_round_66
  refine gd_c n_a1 ?_
  have f32 := (tC_7 T.1)
  refine gd_b (gX71_is _ _ _ ⟨T.1, T.2⟩ n_a1 f32 ) (fun K0 => ?_)
  refine gd_fi (fun c1_0 => ?_) (fun c1_0 => ?_)
  · have f2 := (ext_is K0.2.1 (Nat.zero_lt_succ _) n_a0)
    have f3 := (ext_is K0.2.1 (Nat.zero_lt_succ _) n_a1)
    have f4 := (ext_is K0.2.1 (Nat.zero_lt_succ _) n_a3)
    exact gd_tR K0.2.1 (gX64_round_125 _ _ _ _ _ _ _ ⟨K0.1.1, K0.1.2⟩ f2 f3 f4 (h.1 c1_0))
  · refine gd_fi (fun c5_0 => ?_) (fun c5_0 => ?_)
    · have f6 := (ext_is K0.2.1 (Nat.zero_lt_succ _) n_a1)
      refine gd_c f6 ?_
      have f7 := (ext_is K0.2.1 (Nat.zero_lt_succ _) n_a1)
      refine gd_c f7 ?_
      have f8 := (tN_117 K0.1.1 (ext_is K0.2.1 (Nat.zero_lt_succ _) n_a1))
      refine gd_c f8 ?_
      have f28 := (tN_117 K0.1.1 (ext_is K0.2.1 (Nat.zero_lt_succ _) n_a1))
      refine gd_b (gX62_cut _ _ _ ⟨K0.1.1, K0.1.2⟩ f28 ) (fun K9 => ?_)
      have f10 := (ext_is K9.2 (Nat.zero_lt_succ _) (ext_is K0.2.1 (Nat.zero_lt_succ _) n_a1))
      refine gd_c f10 ?_
      have f11 := (tN_117 K9.1.1 (ext_is K9.2 (Nat.zero_lt_succ _) (ext_is K0.2.1 (Nat.zero_lt_succ _) n_a1)))
      refine gd_c f11 ?_
      have f27 := (tN_117 K9.1.1 (ext_is K9.2 (Nat.zero_lt_succ _) (ext_is K0.2.1 (Nat.zero_lt_succ _) n_a1)))
      refine gd_b (gX62_isOdd _ _ ⟨K9.1.1, K9.1.2⟩ f27 ) (fun K12 => ?_)
      have f13 := (ext_is K12.2.1 (Nat.zero_lt_succ _) (ext_is K9.2 (Nat.zero_lt_succ _) (ext_is K0.2.1 (Nat.zero_lt_succ _) n_a2)))
      refine gd_c f13 ?_
      have f26 := (ext_is K12.2.1 (Nat.zero_lt_succ _) (ext_is K9.2 (Nat.zero_lt_succ _) (ext_is K0.2.1 (Nat.zero_lt_succ _) n_a2)))
      refine gd_b (gX63_grows _ _ _ _ _ ⟨K12.1.1, K12.1.2⟩ f26 ) (fun K14 => ?_)
      refine gd_fi (fun c15_0 => ?_) (fun c15_0 => ?_)
      · have f16 := (ext_is K14.2.1 (Nat.zero_lt_succ _) (ext_is K12.2.1 (Nat.zero_lt_succ _) (ext_is K9.2 (Nat.zero_lt_succ _) (ext_is K0.2.1 (Nat.zero_lt_succ _) n_a0))))
        have f17 := (ext_is K14.2.1 (Nat.zero_lt_succ _) (ext_is K12.2.1 (Nat.zero_lt_succ _) (ext_is K9.2 (Nat.zero_lt_succ _) (ext_is K0.2.1 (Nat.zero_lt_succ _) n_a1))))
        have f18 := (ext_is K14.2.1 (Nat.zero_lt_succ _) (ext_is K12.2.1 (Nat.zero_lt_succ _) (ext_is K9.2 (Nat.zero_lt_succ _) (ext_is K0.2.1 (Nat.zero_lt_succ _) n_a3))))
        exact gd_tR (ext_tr K0.2.1 (ext_tr K9.2 (ext_tr K12.2.1 K14.2.1))) (gX64_round_125 _ _ _ _ _ _ _ ⟨K14.1.1, K14.1.2⟩ f16 f17 f18 (((h.2 c1_0).1 c5_0).1 c15_0))
      · have f19 := (ext_is K14.2.1 (Nat.zero_lt_succ _) (ext_is K12.2.1 (Nat.zero_lt_succ _) (ext_is K9.2 (Nat.zero_lt_succ _) (ext_is K0.2.1 (Nat.zero_lt_succ _) n_a1))))
        refine gd_c f19 ?_
        have f20 := (tN_117 K14.1.1 (ext_is K14.2.1 (Nat.zero_lt_succ _) (ext_is K12.2.1 (Nat.zero_lt_succ _) (ext_is K9.2 (Nat.zero_lt_succ _) (ext_is K0.2.1 (Nat.zero_lt_succ _) n_a1)))))
        refine gd_c f20 ?_
        have f25 := (tN_117 K14.1.1 (ext_is K14.2.1 (Nat.zero_lt_succ _) (ext_is K12.2.1 (Nat.zero_lt_succ _) (ext_is K9.2 (Nat.zero_lt_succ _) (ext_is K0.2.1 (Nat.zero_lt_succ _) n_a1)))))
        refine gd_b (gX62_grow _ _ ⟨K14.1.1, K14.1.2⟩ f25 ) (fun K21 => ?_)
        have f22 := (ext_is K21.2 (Nat.zero_lt_succ _) (ext_is K14.2.1 (Nat.zero_lt_succ _) (ext_is K12.2.1 (Nat.zero_lt_succ _) (ext_is K9.2 (Nat.zero_lt_succ _) (ext_is K0.2.1 (Nat.zero_lt_succ _) n_a0)))))
        have f23 := (ext_is K21.2 (Nat.zero_lt_succ _) (ext_is K14.2.1 (Nat.zero_lt_succ _) (ext_is K12.2.1 (Nat.zero_lt_succ _) (ext_is K9.2 (Nat.zero_lt_succ _) (ext_is K0.2.1 (Nat.zero_lt_succ _) n_a1)))))
        have f24 := (ext_is K21.2 (Nat.zero_lt_succ _) (ext_is K14.2.1 (Nat.zero_lt_succ _) (ext_is K12.2.1 (Nat.zero_lt_succ _) (ext_is K9.2 (Nat.zero_lt_succ _) (ext_is K0.2.1 (Nat.zero_lt_succ _) n_a3)))))
        exact gd_tR (ext_tr K0.2.1 (ext_tr K9.2 (ext_tr K12.2.1 (ext_tr K14.2.1 K21.2)))) (gX64_round_125 _ _ _ _ _ _ _ ⟨K21.1.1, K21.1.2⟩ f22 f23 f24 (((h.2 c1_0).1 c5_0).2 c15_0))
    · have f29 := (ext_is K0.2.1 (Nat.zero_lt_succ _) n_a0)
      have f30 := (ext_is K0.2.1 (Nat.zero_lt_succ _) n_a1)
      have f31 := (ext_is K0.2.1 (Nat.zero_lt_succ _) n_a3)
      exact gd_tR K0.2.1 (gX64_round_125 _ _ _ _ _ _ _ ⟨K0.1.1, K0.1.2⟩ f29 f30 f31 ((h.2 c1_0).2 c5_0))
noncomputable def GX64_round_65 (a0 : Nat) (a1 : Nat) (a2 : Nat) (a3 : Nat) (a4 : Int32) (M : FM) : Int64 × FM :=
  GX64_round_66 a0 a1 a2 a3 a4 (Int32.ofInt 0) M
def HX64_round_65 (a0 : Nat) (a1 : Nat) (a2 : Nat) (a3 : Nat) (a4 : Int32) (M : FM) : Prop := HX64_round_66 a0 a1 a2 a3 a4 (Int32.ofInt 0) M
theorem gX64_round_65 (a0 : Nat) (a1 : Nat) (a2 : Nat) (a3 : Nat) (a4 : Int32) (M : FM) (T : Ty M) (n_a1 : fm_is M 39 39 a1 = true) (n_a0 : fm_is M 3 3 a0 = true) (n_a3 : fm_is M 31 31 a3 = true) (n_a2 : fm_is M 1 1 a2 = true) (h : HX64_round_65 a0 a1 a2 a3 a4 M) : gd (FX64_round_65 fN a0 a1 a2 a3 a4 M) (GX64_round_65 a0 a1 a2 a3 a4 M) (OkR M) := by
  delta FX64_round_65 BX64_round_65
  exact gd_tR (ext_r _) (gX64_round_66 _ _ _ _ _ _ _ ⟨T.1, T.2⟩ n_a1 n_a0 n_a3 n_a2 h)
noncomputable def GX64_round_42 (a0 : Nat) (a1 : Nat) (a2 : Nat) (a3 : Nat) (s0 : Int32) (M : FM) : Int64 × FM :=
  fi ((M.1 115 a1 0) = 0) (
    GX64_round_65 a0 a1 a2 a3 s0 M) (
    let x1 : Nat := (M.2.2 114 a1 0)
    let r2 : Int32 × FM := GX72_isNone x1 M
    fi (r2.1 = 0) (
      GX64_round_66 a0 a1 a2 a3 s0 (Int32.ofInt 1) r2.2) (
      GX64_round_65 a0 a1 a2 a3 s0 r2.2))
def HX64_round_42 (a0 : Nat) (a1 : Nat) (a2 : Nat) (a3 : Nat) (s0 : Int32) (M : FM) : Prop := (((M.1 115 a1 0) = 0 → HX64_round_65 a0 a1 a2 a3 s0 M) ∧ (¬ ((M.1 115 a1 0) = 0) → let x1 : Nat := (M.2.2 114 a1 0); let r2 : Int32 × FM := GX72_isNone x1 M; ((r2.1 = 0 → HX64_round_66 a0 a1 a2 a3 s0 (Int32.ofInt 1) r2.2) ∧ (¬ (r2.1 = 0) → HX64_round_65 a0 a1 a2 a3 s0 r2.2))))
theorem gX64_round_42 (a0 : Nat) (a1 : Nat) (a2 : Nat) (a3 : Nat) (s0 : Int32) (M : FM) (T : Ty M) (n_a1 : fm_is M 39 39 a1 = true) (n_a0 : fm_is M 3 3 a0 = true) (n_a3 : fm_is M 31 31 a3 = true) (n_a2 : fm_is M 1 1 a2 = true) (h : HX64_round_42 a0 a1 a2 a3 s0 M) : gd (FX64_round_42 fN a0 a1 a2 a3 s0 M) (GX64_round_42 a0 a1 a2 a3 s0 M) (OkR M) := by
  delta FX64_round_42 BX64_round_42
  refine gd_c n_a1 ?_
  refine gd_fi (fun c0_0 => ?_) (fun c0_0 => ?_)
  · exact gd_tR (ext_r _) (gX64_round_65 _ _ _ _ _ _ ⟨T.1, T.2⟩ n_a1 n_a0 n_a3 n_a2 (h.1 c0_0))
  · refine gd_c n_a1 ?_
    have f1 := (tN_114 T.1 n_a1)
    refine gd_c f1 ?_
    have f12 := (tN_114 T.1 n_a1)
    refine gd_b (gX72_isNone _ _ ⟨T.1, T.2⟩ f12 ) (fun K2 => ?_)
    refine gd_fi (fun c3_0 => ?_) (fun c3_0 => ?_)
    · have f4 := (ext_is K2.2.1 (Nat.zero_lt_succ _) n_a1)
      have f5 := (ext_is K2.2.1 (Nat.zero_lt_succ _) n_a0)
      have f6 := (ext_is K2.2.1 (Nat.zero_lt_succ _) n_a3)
      have f7 := (ext_is K2.2.1 (Nat.zero_lt_succ _) n_a2)
      exact gd_tR K2.2.1 (gX64_round_66 _ _ _ _ _ _ _ ⟨K2.1.1, K2.1.2⟩ f4 f5 f6 f7 ((h.2 c0_0).1 c3_0))
    · have f8 := (ext_is K2.2.1 (Nat.zero_lt_succ _) n_a1)
      have f9 := (ext_is K2.2.1 (Nat.zero_lt_succ _) n_a0)
      have f10 := (ext_is K2.2.1 (Nat.zero_lt_succ _) n_a3)
      have f11 := (ext_is K2.2.1 (Nat.zero_lt_succ _) n_a2)
      exact gd_tR K2.2.1 (gX64_round_65 _ _ _ _ _ _ ⟨K2.1.1, K2.1.2⟩ f8 f9 f10 f11 ((h.2 c0_0).2 c3_0))
noncomputable def GX64_round_41 (a0 : Nat) (a1 : Nat) (a2 : Nat) (a3 : Nat) (M : FM) : Int64 × FM :=
  GX64_round_42 a0 a1 a2 a3 (Int32.ofInt 0) M
def HX64_round_41 (a0 : Nat) (a1 : Nat) (a2 : Nat) (a3 : Nat) (M : FM) : Prop := HX64_round_42 a0 a1 a2 a3 (Int32.ofInt 0) M
theorem gX64_round_41 (a0 : Nat) (a1 : Nat) (a2 : Nat) (a3 : Nat) (M : FM) (T : Ty M) (n_a1 : fm_is M 39 39 a1 = true) (n_a0 : fm_is M 3 3 a0 = true) (n_a3 : fm_is M 31 31 a3 = true) (n_a2 : fm_is M 1 1 a2 = true) (h : HX64_round_41 a0 a1 a2 a3 M) : gd (FX64_round_41 fN a0 a1 a2 a3 M) (GX64_round_41 a0 a1 a2 a3 M) (OkR M) := by
  delta FX64_round_41 BX64_round_41
  exact gd_tR (ext_r _) (gX64_round_42 _ _ _ _ _ _ ⟨T.1, T.2⟩ n_a1 n_a0 n_a3 n_a2 h)
noncomputable def GX64_round_37 (a0 : Nat) (a1 : Nat) (a2 : Nat) (a3 : Nat) (M : FM) : Int64 × FM :=
  GX64_round_42 a0 a1 a2 a3 (Int32.ofInt 1) M
def HX64_round_37 (a0 : Nat) (a1 : Nat) (a2 : Nat) (a3 : Nat) (M : FM) : Prop := HX64_round_42 a0 a1 a2 a3 (Int32.ofInt 1) M
theorem gX64_round_37 (a0 : Nat) (a1 : Nat) (a2 : Nat) (a3 : Nat) (M : FM) (T : Ty M) (n_a1 : fm_is M 39 39 a1 = true) (n_a0 : fm_is M 3 3 a0 = true) (n_a3 : fm_is M 31 31 a3 = true) (n_a2 : fm_is M 1 1 a2 = true) (h : HX64_round_37 a0 a1 a2 a3 M) : gd (FX64_round_37 fN a0 a1 a2 a3 M) (GX64_round_37 a0 a1 a2 a3 M) (OkR M) := by
  delta FX64_round_37 BX64_round_37
  exact gd_tR (ext_r _) (gX64_round_42 _ _ _ _ _ _ ⟨T.1, T.2⟩ n_a1 n_a0 n_a3 n_a2 h)
noncomputable def GX64_round_0 (a0 : Nat) (a1 : Nat) (a2 : Nat) (a3 : Nat) (M : FM) : Int64 × FM :=
  let r1 : Int32 × FM := GX71_is a1 6 M
  fi (r1.1 = 0) (
    let r2 : Int32 × FM := GX71_is a1 7 r1.2
    fi (r2.1 = 0) (
      GX64_round_37 a0 a1 a2 a3 r2.2) (
      let x3 : Nat := (r2.2.2.2 117 a1 0)
      let r4 : Int32 × FM := GX62_length x3 r2.2
      fi (((r2.2.1 116 a1 0) + r4.1) ≤ (Int32.ofInt 65)) (
        GX64_round_41 a0 a1 a2 a3 r4.2) (
        GX64_round_37 a0 a1 a2 a3 r4.2))) (
    GX64_round_41 a0 a1 a2 a3 r1.2)
def HX64_round_0 (a0 : Nat) (a1 : Nat) (a2 : Nat) (a3 : Nat) (M : FM) : Prop := let r1 : Int32 × FM := GX71_is a1 6 M; ((r1.1 = 0 → let r2 : Int32 × FM := GX71_is a1 7 r1.2; ((r2.1 = 0 → HX64_round_37 a0 a1 a2 a3 r2.2) ∧ (¬ (r2.1 = 0) → let x3 : Nat := (r2.2.2.2 117 a1 0); (HX62_length x3 r2.2 ∧ let r4 : Int32 × FM := GX62_length x3 r2.2; ((((r2.2.1 116 a1 0) + r4.1) ≤ (Int32.ofInt 65) → HX64_round_41 a0 a1 a2 a3 r4.2) ∧ (¬ (((r2.2.1 116 a1 0) + r4.1) ≤ (Int32.ofInt 65)) → HX64_round_37 a0 a1 a2 a3 r4.2)))))) ∧ (¬ (r1.1 = 0) → HX64_round_41 a0 a1 a2 a3 r1.2))
theorem gX64_round_0 (a0 : Nat) (a1 : Nat) (a2 : Nat) (a3 : Nat) (M : FM) (T : Ty M) (n_a1 : fm_is M 39 39 a1 = true) (n_a0 : fm_is M 3 3 a0 = true) (n_a3 : fm_is M 31 31 a3 = true) (n_a2 : fm_is M 1 1 a2 = true) (h : HX64_round_0 a0 a1 a2 a3 M) : gd (FX64_round_0 fN a0 a1 a2 a3 M) (GX64_round_0 a0 a1 a2 a3 M) (OkR M) := by
  delta FX64_round_0 BX64_round_0
  refine gd_c n_a1 ?_
  have f29 := (tC_6 T.1)
  refine gd_b (gX71_is _ _ _ ⟨T.1, T.2⟩ n_a1 f29 ) (fun K0 => ?_)
  refine gd_fi (fun c1_0 => ?_) (fun c1_0 => ?_)
  · have f2 := (ext_is K0.2.1 (Nat.zero_lt_succ _) n_a1)
    refine gd_c f2 ?_
    have f23 := (ext_is K0.2.1 (Nat.zero_lt_succ _) n_a1)
    have f24 := (tC_7 K0.1.1)
    refine gd_b (gX71_is _ _ _ ⟨K0.1.1, K0.1.2⟩ f23 f24 ) (fun K3 => ?_)
    refine gd_fi (fun c4_0 => ?_) (fun c4_0 => ?_)
    · have f5 := (ext_is K3.2.1 (Nat.zero_lt_succ _) (ext_is K0.2.1 (Nat.zero_lt_succ _) n_a1))
      have f6 := (ext_is K3.2.1 (Nat.zero_lt_succ _) (ext_is K0.2.1 (Nat.zero_lt_succ _) n_a0))
      have f7 := (ext_is K3.2.1 (Nat.zero_lt_succ _) (ext_is K0.2.1 (Nat.zero_lt_succ _) n_a3))
      have f8 := (ext_is K3.2.1 (Nat.zero_lt_succ _) (ext_is K0.2.1 (Nat.zero_lt_succ _) n_a2))
      exact gd_tR (ext_tr K0.2.1 K3.2.1) (gX64_round_37 _ _ _ _ _ ⟨K3.1.1, K3.1.2⟩ f5 f6 f7 f8 ((h.1 c1_0).1 c4_0))
    · have f9 := (ext_is K3.2.1 (Nat.zero_lt_succ _) (ext_is K0.2.1 (Nat.zero_lt_succ _) n_a1))
      refine gd_c f9 ?_
      have f10 := (ext_is K3.2.1 (Nat.zero_lt_succ _) (ext_is K0.2.1 (Nat.zero_lt_succ _) n_a1))
      refine gd_c f10 ?_
      have f11 := (tN_117 K3.1.1 (ext_is K3.2.1 (Nat.zero_lt_succ _) (ext_is K0.2.1 (Nat.zero_lt_succ _) n_a1)))
      refine gd_c f11 ?_
      have f22 := (tN_117 K3.1.1 (ext_is K3.2.1 (Nat.zero_lt_succ _) (ext_is K0.2.1 (Nat.zero_lt_succ _) n_a1)))
      refine gd_b (gX62_length _ _ ⟨K3.1.1, K3.1.2⟩ f22 ((h.1 c1_0).2 c4_0).1) (fun K12 => ?_)
      refine gd_fi (fun c13_0 => ?_) (fun c13_0 => ?_)
      · have f14 := (ext_is K12.2 (Nat.zero_lt_succ _) (ext_is K3.2.1 (Nat.zero_lt_succ _) (ext_is K0.2.1 (Nat.zero_lt_succ _) n_a1)))
        have f15 := (ext_is K12.2 (Nat.zero_lt_succ _) (ext_is K3.2.1 (Nat.zero_lt_succ _) (ext_is K0.2.1 (Nat.zero_lt_succ _) n_a0)))
        have f16 := (ext_is K12.2 (Nat.zero_lt_succ _) (ext_is K3.2.1 (Nat.zero_lt_succ _) (ext_is K0.2.1 (Nat.zero_lt_succ _) n_a3)))
        have f17 := (ext_is K12.2 (Nat.zero_lt_succ _) (ext_is K3.2.1 (Nat.zero_lt_succ _) (ext_is K0.2.1 (Nat.zero_lt_succ _) n_a2)))
        exact gd_tR (ext_tr K0.2.1 (ext_tr K3.2.1 K12.2)) (gX64_round_41 _ _ _ _ _ ⟨K12.1.1, K12.1.2⟩ f14 f15 f16 f17 (((h.1 c1_0).2 c4_0).2.1 c13_0))
      · have f18 := (ext_is K12.2 (Nat.zero_lt_succ _) (ext_is K3.2.1 (Nat.zero_lt_succ _) (ext_is K0.2.1 (Nat.zero_lt_succ _) n_a1)))
        have f19 := (ext_is K12.2 (Nat.zero_lt_succ _) (ext_is K3.2.1 (Nat.zero_lt_succ _) (ext_is K0.2.1 (Nat.zero_lt_succ _) n_a0)))
        have f20 := (ext_is K12.2 (Nat.zero_lt_succ _) (ext_is K3.2.1 (Nat.zero_lt_succ _) (ext_is K0.2.1 (Nat.zero_lt_succ _) n_a3)))
        have f21 := (ext_is K12.2 (Nat.zero_lt_succ _) (ext_is K3.2.1 (Nat.zero_lt_succ _) (ext_is K0.2.1 (Nat.zero_lt_succ _) n_a2)))
        exact gd_tR (ext_tr K0.2.1 (ext_tr K3.2.1 K12.2)) (gX64_round_37 _ _ _ _ _ ⟨K12.1.1, K12.1.2⟩ f18 f19 f20 f21 (((h.1 c1_0).2 c4_0).2.2 c13_0))
  · have f25 := (ext_is K0.2.1 (Nat.zero_lt_succ _) n_a1)
    have f26 := (ext_is K0.2.1 (Nat.zero_lt_succ _) n_a0)
    have f27 := (ext_is K0.2.1 (Nat.zero_lt_succ _) n_a3)
    have f28 := (ext_is K0.2.1 (Nat.zero_lt_succ _) n_a2)
    exact gd_tR K0.2.1 (gX64_round_41 _ _ _ _ _ ⟨K0.1.1, K0.1.2⟩ f25 f26 f27 f28 (h.2 c1_0))
noncomputable def GX64_round (a0 : Nat) (a1 : Nat) (a2 : Nat) (a3 : Nat) (M : FM) : Int64 × FM := GX64_round_0 a0 a1 a2 a3 M
def HX64_round (a0 : Nat) (a1 : Nat) (a2 : Nat) (a3 : Nat) (M : FM) : Prop := HX64_round_0 a0 a1 a2 a3 M
theorem gX64_round (a0 : Nat) (a1 : Nat) (a2 : Nat) (a3 : Nat) (M : FM) (T : Ty M) (n_a1 : fm_is M 39 39 a1 = true) (n_a0 : fm_is M 3 3 a0 = true) (n_a3 : fm_is M 31 31 a3 = true) (n_a2 : fm_is M 1 1 a2 = true) (h : HX64_round a0 a1 a2 a3 M) : gd (FX64_round fN a0 a1 a2 a3 M) (GX64_round a0 a1 a2 a3 M) (OkR M) := gX64_round_0 a0 a1 a2 a3 M T n_a1 n_a0 n_a3 n_a2 h
noncomputable def GX59_convert_69 (M : FM) : Int32 × FM :=
  ((Int32.ofInt (-1)), M)
theorem gX59_convert_69 (M : FM) (T : Ty M) : gd (FX59_convert_69 fN M) (GX59_convert_69 M) (OkR M) := by
  delta FX59_convert_69 BX59_convert_69
  exact ⟨rfl, ⟨T.1, T.2⟩, (ext_r _)⟩
noncomputable def GX59_convert_0 (a0 : Nat) (a1 : Int32) (a2 : Nat) (a3 : Nat) (a4 : Int64) (M : FM) : Int32 × FM :=
  let r1 : Int32 × FM := GX59_part a1 (Int32.ofInt 20) (Int32.ofInt 5) M
  let r2 : Int32 × FM := GX59_part a1 (Int32.ofInt 27) (Int32.ofInt 5) r1.2
  fi (r2.1 = (Int32.ofInt 8)) (
    fi ((Int32.ofInt 1) < r1.1) (
      GX59_convert_69 r2.2) (
      let x3 : Nat := (r2.2.2.2 98 a0 0)
      let x4 : Nat := (r2.2.2.2 3 x3 r1.1.toNatClampNeg)
      fi (x4 = a2) (
        GX59_convert_69 r2.2) (
        let r5 : Int32 × FM := GX59_part a1 (Int32.ofInt 15) (Int32.ofInt 5) r2.2
        let x6 : Nat := (r5.2.2.2 98 a0 0)
        let M7 : FM := GX59_take a0 r5.1 (r5.2.2.2 3 x6 r1.1.toNatClampNeg) (r5.2.2.2 105 a0 0) r5.2
        let x8 : Nat := (M7.2.2 104 a0 0)
        let M9 : FM := GX65_run x8 (M7.2.2 105 a0 0) (M7.2.2 105 a0 0) a3 (M7.2.2 94 a0 0) (M7.2.2 108 a0 0) M7
        let r10 : Int64 × FM := GX61_put a2 (M9.2.2 108 a0 0) a3 (M9.2.2 94 a0 0) M9
        let r11 : Int32 × FM := GX59_write a0 a1 a2 r10.1 r10.2
        (r11.1, r11.2)))) (
    fi (r2.1 = (Int32.ofInt 24)) (
      let x12 : Nat := (r2.2.2.2 100 a0 0)
      fi (r1.1 < (Int32.ofNat (r2.2.2.2 1 x12 0))) (
        let r13 : Int32 × FM := GX59_part a1 (Int32.ofInt 15) (Int32.ofInt 5) r2.2
        let M14 : FM := GX59_take a0 r13.1 a2 (r13.2.2.2 105 a0 0) r13.2
        let x15 : Nat := (M14.2.2 100 a0 0)
        let x16 : Nat := (M14.2.2 3 x15 r1.1.toNatClampNeg)
        let r17 : Int64 × FM := GX64_round x16 (M14.2.2 105 a0 0) a3 (M14.2.2 94 a0 0) M14
        let r18 : Int32 × FM := GX59_give a0 r17.1 r17.2
        (r18.1, r18.2)) (
        ((Int32.ofInt (-1)), r2.2))) (
      fi (r2.1 = (Int32.ofInt 26)) (
        let x19 : Nat := (r2.2.2.2 100 a0 0)
        fi (r1.1 < (Int32.ofNat (r2.2.2.2 1 x19 0))) (
          let x20 : Nat := (r2.2.2.2 100 a0 0)
          let x21 : Nat := (r2.2.2.2 3 x20 r1.1.toNatClampNeg)
          let M22 : FM := GX64_take x21 a4 (r2.2.2.2 105 a0 0) r2.2
          let r23 : Int64 × FM := GX61_put a2 (M22.2.2 105 a0 0) a3 (M22.2.2 94 a0 0) M22
          let r24 : Int32 × FM := GX59_write a0 a1 a2 r23.1 r23.2
          (r24.1, r24.2)) (
          ((Int32.ofInt (-1)), r2.2))) (
        ((Int32.ofInt (-1)), r2.2))))
def HX59_convert_0 (a0 : Nat) (a1 : Int32) (a2 : Nat) (a3 : Nat) (a4 : Int64) (M : FM) : Prop := let r1 : Int32 × FM := GX59_part a1 (Int32.ofInt 20) (Int32.ofInt 5) M; let r2 : Int32 × FM := GX59_part a1 (Int32.ofInt 27) (Int32.ofInt 5) r1.2; ((r2.1 = (Int32.ofInt 8) → (((Int32.ofInt 1) < r1.1 → True) ∧ (¬ ((Int32.ofInt 1) < r1.1) → let x3 : Nat := (r2.2.2.2 98 a0 0); (fm_in r2.2 x3 r1.1 = true ∧ let x4 : Nat := (r2.2.2.2 3 x3 r1.1.toNatClampNeg); ((x4 = a2 → True) ∧ (¬ (x4 = a2) → let r5 : Int32 × FM := GX59_part a1 (Int32.ofInt 15) (Int32.ofInt 5) r2.2; let x6 : Nat := (r5.2.2.2 98 a0 0); (fm_in r5.2 x6 r1.1 = true ∧ (HX59_take a0 r5.1 (r5.2.2.2 3 x6 r1.1.toNatClampNeg) (r5.2.2.2 105 a0 0) r5.2 ∧ let M7 : FM := GX59_take a0 r5.1 (r5.2.2.2 3 x6 r1.1.toNatClampNeg) (r5.2.2.2 105 a0 0) r5.2; let x8 : Nat := (M7.2.2 104 a0 0); (HX65_run x8 (M7.2.2 105 a0 0) (M7.2.2 105 a0 0) a3 (M7.2.2 94 a0 0) (M7.2.2 108 a0 0) M7 ∧ let M9 : FM := GX65_run x8 (M7.2.2 105 a0 0) (M7.2.2 105 a0 0) a3 (M7.2.2 94 a0 0) (M7.2.2 108 a0 0) M7; (HX61_put a2 (M9.2.2 108 a0 0) a3 (M9.2.2 94 a0 0) M9 ∧ let r10 : Int64 × FM := GX61_put a2 (M9.2.2 108 a0 0) a3 (M9.2.2 94 a0 0) M9; (HX59_write a0 a1 a2 r10.1 r10.2 ∧ True))))))))))) ∧ (¬ (r2.1 = (Int32.ofInt 8)) → ((r2.1 = (Int32.ofInt 24) → let x12 : Nat := (r2.2.2.2 100 a0 0); ((r1.1 < (Int32.ofNat (r2.2.2.2 1 x12 0)) → let r13 : Int32 × FM := GX59_part a1 (Int32.ofInt 15) (Int32.ofInt 5) r2.2; (HX59_take a0 r13.1 a2 (r13.2.2.2 105 a0 0) r13.2 ∧ let M14 : FM := GX59_take a0 r13.1 a2 (r13.2.2.2 105 a0 0) r13.2; let x15 : Nat := (M14.2.2 100 a0 0); (fm_in M14 x15 r1.1 = true ∧ let x16 : Nat := (M14.2.2 3 x15 r1.1.toNatClampNeg); (HX64_round x16 (M14.2.2 105 a0 0) a3 (M14.2.2 94 a0 0) M14 ∧ True)))) ∧ (¬ (r1.1 < (Int32.ofNat (r2.2.2.2 1 x12 0))) → True))) ∧ (¬ (r2.1 = (Int32.ofInt 24)) → ((r2.1 = (Int32.ofInt 26) → let x19 : Nat := (r2.2.2.2 100 a0 0); ((r1.1 < (Int32.ofNat (r2.2.2.2 1 x19 0)) → let x20 : Nat := (r2.2.2.2 100 a0 0); (fm_in r2.2 x20 r1.1 = true ∧ let x21 : Nat := (r2.2.2.2 3 x20 r1.1.toNatClampNeg); let M22 : FM := GX64_take x21 a4 (r2.2.2.2 105 a0 0) r2.2; (HX61_put a2 (M22.2.2 105 a0 0) a3 (M22.2.2 94 a0 0) M22 ∧ let r23 : Int64 × FM := GX61_put a2 (M22.2.2 105 a0 0) a3 (M22.2.2 94 a0 0) M22; (HX59_write a0 a1 a2 r23.1 r23.2 ∧ True)))) ∧ (¬ (r1.1 < (Int32.ofNat (r2.2.2.2 1 x19 0))) → True))) ∧ (¬ (r2.1 = (Int32.ofInt 26)) → True))))))
theorem gX59_convert_0 (a0 : Nat) (a1 : Int32) (a2 : Nat) (a3 : Nat) (a4 : Int64) (M : FM) (T : Ty M) (n_a0 : fm_is M 32 32 a0 = true) (n_a2 : fm_is M 33 33 a2 = true) (n_a3 : fm_is M 1 1 a3 = true) (h : HX59_convert_0 a0 a1 a2 a3 a4 M) : gd (FX59_convert_0 fN a0 a1 a2 a3 a4 M) (GX59_convert_0 a0 a1 a2 a3 a4 M) (OkR M) := by
  delta FX59_convert_0 BX59_convert_0
  refine gd_b (gX59_part _ _ _ _ ⟨T.1, T.2⟩  ) (fun K0 => ?_)
  refine gd_b (gX59_part _ _ _ _ ⟨K0.1.1, K0.1.2⟩  ) (fun K1 => ?_)
  refine gd_fi (fun c2_0 => ?_) (fun c2_0 => ?_)
  · refine gd_fi (fun c3_0 => ?_) (fun c3_0 => ?_)
    · exact gd_tR (ext_tr K0.2 K1.2) (gX59_convert_69  _ ⟨K1.1.1, K1.1.2⟩  )
    · have f4 := (ext_is K1.2 (Nat.zero_lt_succ _) (ext_is K0.2 (Nat.zero_lt_succ _) n_a0))
      refine gd_c f4 ?_
      have f41 := (fm_w (lo' := 910) (hi' := 990) rfl rfl (tN_98 K1.1.1 (ext_is K1.2 (Nat.zero_lt_succ _) (ext_is K0.2 (Nat.zero_lt_succ _) n_a0))))
      have f42 := ((h.1 c2_0).2 c3_0).1
      refine gd_c ⟨f41, f42⟩ ?_
      refine gd_c (Or.inr (Or.inl (ty_obj K1.1.1 (fm_w (lo' := 10) (hi' := 899) rfl rfl (tE_912 K1.1.1 (tN_98 K1.1.1 (ext_is K1.2 (Nat.zero_lt_succ _) (ext_is K0.2 (Nat.zero_lt_succ _) n_a0))) ((h.1 c2_0).2 c3_0).1))))) ?_
      refine gd_fi (fun c5_0 => ?_) (fun c5_0 => ?_)
      · exact gd_tR (ext_tr K0.2 K1.2) (gX59_convert_69  _ ⟨K1.1.1, K1.1.2⟩  )
      · refine gd_b (gX59_part _ _ _ _ ⟨K1.1.1, K1.1.2⟩  ) (fun K6 => ?_)
        have f7 := (ext_is K6.2 (Nat.zero_lt_succ _) (ext_is K1.2 (Nat.zero_lt_succ _) (ext_is K0.2 (Nat.zero_lt_succ _) n_a0)))
        refine gd_c f7 ?_
        have f39 := (fm_w (lo' := 910) (hi' := 990) rfl rfl (tN_98 K6.1.1 (ext_is K6.2 (Nat.zero_lt_succ _) (ext_is K1.2 (Nat.zero_lt_succ _) (ext_is K0.2 (Nat.zero_lt_succ _) n_a0)))))
        have f40 := (((h.1 c2_0).2 c3_0).2.2 c5_0).1
        refine gd_c ⟨f39, f40⟩ ?_
        have f8 := (ext_is K6.2 (Nat.zero_lt_succ _) (ext_is K1.2 (Nat.zero_lt_succ _) (ext_is K0.2 (Nat.zero_lt_succ _) n_a0)))
        refine gd_c f8 ?_
        have f9 := (ext_is K6.2 (Nat.zero_lt_succ _) (ext_is K1.2 (Nat.zero_lt_succ _) (ext_is K0.2 (Nat.zero_lt_succ _) n_a0)))
        refine gd_c f9 ?_
        have f36 := (ext_is K6.2 (Nat.zero_lt_succ _) (ext_is K1.2 (Nat.zero_lt_succ _) (ext_is K0.2 (Nat.zero_lt_succ _) n_a0)))
        have f37 := (tE_912 K6.1.1 (tN_98 K6.1.1 (ext_is K6.2 (Nat.zero_lt_succ _) (ext_is K1.2 (Nat.zero_lt_succ _) (ext_is K0.2 (Nat.zero_lt_succ _) n_a0)))) (((h.1 c2_0).2 c3_0).2.2 c5_0).1)
        have f38 := (tN_105 K6.1.1 (ext_is K6.2 (Nat.zero_lt_succ _) (ext_is K1.2 (Nat.zero_lt_succ _) (ext_is K0.2 (Nat.zero_lt_succ _) n_a0))))
        refine gd_b (gX59_take _ _ _ _ _ ⟨K6.1.1, K6.1.2⟩ f36 f37 f38 (((h.1 c2_0).2 c3_0).2.2 c5_0).2.1) (fun K10 => ?_)
        have f11 := (ext_is K10.2 (Nat.zero_lt_succ _) (ext_is K6.2 (Nat.zero_lt_succ _) (ext_is K1.2 (Nat.zero_lt_succ _) (ext_is K0.2 (Nat.zero_lt_succ _) n_a0))))
        refine gd_c f11 ?_
        have f12 := (ext_is K10.2 (Nat.zero_lt_succ _) (ext_is K6.2 (Nat.zero_lt_succ _) (ext_is K1.2 (Nat.zero_lt_succ _) (ext_is K0.2 (Nat.zero_lt_succ _) n_a0))))
        refine gd_c f12 ?_
        have f13 := (ext_is K10.2 (Nat.zero_lt_succ _) (ext_is K6.2 (Nat.zero_lt_succ _) (ext_is K1.2 (Nat.zero_lt_succ _) (ext_is K0.2 (Nat.zero_lt_succ _) n_a0))))
        refine gd_c f13 ?_
        have f14 := (ext_is K10.2 (Nat.zero_lt_succ _) (ext_is K6.2 (Nat.zero_lt_succ _) (ext_is K1.2 (Nat.zero_lt_succ _) (ext_is K0.2 (Nat.zero_lt_succ _) n_a0))))
        refine gd_c f14 ?_
        have f15 := (ext_is K10.2 (Nat.zero_lt_succ _) (ext_is K6.2 (Nat.zero_lt_succ _) (ext_is K1.2 (Nat.zero_lt_succ _) (ext_is K0.2 (Nat.zero_lt_succ _) n_a0))))
        refine gd_c f15 ?_
        have f16 := (tN_104 K10.1.1 (ext_is K10.2 (Nat.zero_lt_succ _) (ext_is K6.2 (Nat.zero_lt_succ _) (ext_is K1.2 (Nat.zero_lt_succ _) (ext_is K0.2 (Nat.zero_lt_succ _) n_a0)))))
        refine gd_c f16 ?_
        have f30 := (tN_105 K10.1.1 (ext_is K10.2 (Nat.zero_lt_succ _) (ext_is K6.2 (Nat.zero_lt_succ _) (ext_is K1.2 (Nat.zero_lt_succ _) (ext_is K0.2 (Nat.zero_lt_succ _) n_a0)))))
        have f31 := (tN_105 K10.1.1 (ext_is K10.2 (Nat.zero_lt_succ _) (ext_is K6.2 (Nat.zero_lt_succ _) (ext_is K1.2 (Nat.zero_lt_succ _) (ext_is K0.2 (Nat.zero_lt_succ _) n_a0)))))
        have f32 := (tN_94 K10.1.1 (ext_is K10.2 (Nat.zero_lt_succ _) (ext_is K6.2 (Nat.zero_lt_succ _) (ext_is K1.2 (Nat.zero_lt_succ _) (ext_is K0.2 (Nat.zero_lt_succ _) n_a0)))))
        have f33 := (tN_108 K10.1.1 (ext_is K10.2 (Nat.zero_lt_succ _) (ext_is K6.2 (Nat.zero_lt_succ _) (ext_is K1.2 (Nat.zero_lt_succ _) (ext_is K0.2 (Nat.zero_lt_succ _) n_a0)))))
        have f34 := (tN_104 K10.1.1 (ext_is K10.2 (Nat.zero_lt_succ _) (ext_is K6.2 (Nat.zero_lt_succ _) (ext_is K1.2 (Nat.zero_lt_succ _) (ext_is K0.2 (Nat.zero_lt_succ _) n_a0)))))
        have f35 := (ext_is K10.2 (Nat.zero_lt_succ _) (ext_is K6.2 (Nat.zero_lt_succ _) (ext_is K1.2 (Nat.zero_lt_succ _) (ext_is K0.2 (Nat.zero_lt_succ _) n_a3))))
        refine gd_b (gX65_run _ _ _ _ _ _ _ ⟨K10.1.1, K10.1.2⟩ f30 f31 f32 f33 f34 f35 (((h.1 c2_0).2 c3_0).2.2 c5_0).2.2.1) (fun K17 => ?_)
        have f18 := (ext_is K17.2 (Nat.zero_lt_succ _) (ext_is K10.2 (Nat.zero_lt_succ _) (ext_is K6.2 (Nat.zero_lt_succ _) (ext_is K1.2 (Nat.zero_lt_succ _) (ext_is K0.2 (Nat.zero_lt_succ _) n_a0)))))
        refine gd_c f18 ?_
        have f19 := (ext_is K17.2 (Nat.zero_lt_succ _) (ext_is K10.2 (Nat.zero_lt_succ _) (ext_is K6.2 (Nat.zero_lt_succ _) (ext_is K1.2 (Nat.zero_lt_succ _) (ext_is K0.2 (Nat.zero_lt_succ _) n_a0)))))
        refine gd_c f19 ?_
        have f20 := (ext_is K17.2 (Nat.zero_lt_succ _) (ext_is K10.2 (Nat.zero_lt_succ _) (ext_is K6.2 (Nat.zero_lt_succ _) (ext_is K1.2 (Nat.zero_lt_succ _) (ext_is K0.2 (Nat.zero_lt_succ _) n_a2)))))
        refine gd_c f20 ?_
        have f26 := (tN_108 K17.1.1 (ext_is K17.2 (Nat.zero_lt_succ _) (ext_is K10.2 (Nat.zero_lt_succ _) (ext_is K6.2 (Nat.zero_lt_succ _) (ext_is K1.2 (Nat.zero_lt_succ _) (ext_is K0.2 (Nat.zero_lt_succ _) n_a0))))))
        have f27 := (ext_is K17.2 (Nat.zero_lt_succ _) (ext_is K10.2 (Nat.zero_lt_succ _) (ext_is K6.2 (Nat.zero_lt_succ _) (ext_is K1.2 (Nat.zero_lt_succ _) (ext_is K0.2 (Nat.zero_lt_succ _) n_a2)))))
        have f28 := (ext_is K17.2 (Nat.zero_lt_succ _) (ext_is K10.2 (Nat.zero_lt_succ _) (ext_is K6.2 (Nat.zero_lt_succ _) (ext_is K1.2 (Nat.zero_lt_succ _) (ext_is K0.2 (Nat.zero_lt_succ _) n_a3)))))
        have f29 := (tN_94 K17.1.1 (ext_is K17.2 (Nat.zero_lt_succ _) (ext_is K10.2 (Nat.zero_lt_succ _) (ext_is K6.2 (Nat.zero_lt_succ _) (ext_is K1.2 (Nat.zero_lt_succ _) (ext_is K0.2 (Nat.zero_lt_succ _) n_a0))))))
        refine gd_b (gX61_put _ _ _ _ _ ⟨K17.1.1, K17.1.2⟩ f26 f27 f28 f29 (((h.1 c2_0).2 c3_0).2.2 c5_0).2.2.2.1) (fun K21 => ?_)
        have f22 := (ext_is K21.2 (Nat.zero_lt_succ _) (ext_is K17.2 (Nat.zero_lt_succ _) (ext_is K10.2 (Nat.zero_lt_succ _) (ext_is K6.2 (Nat.zero_lt_succ _) (ext_is K1.2 (Nat.zero_lt_succ _) (ext_is K0.2 (Nat.zero_lt_succ _) n_a0))))))
        refine gd_c f22 ?_
        have f24 := (ext_is K21.2 (Nat.zero_lt_succ _) (ext_is K17.2 (Nat.zero_lt_succ _) (ext_is K10.2 (Nat.zero_lt_succ _) (ext_is K6.2 (Nat.zero_lt_succ _) (ext_is K1.2 (Nat.zero_lt_succ _) (ext_is K0.2 (Nat.zero_lt_succ _) n_a0))))))
        have f25 := (ext_is K21.2 (Nat.zero_lt_succ _) (ext_is K17.2 (Nat.zero_lt_succ _) (ext_is K10.2 (Nat.zero_lt_succ _) (ext_is K6.2 (Nat.zero_lt_succ _) (ext_is K1.2 (Nat.zero_lt_succ _) (ext_is K0.2 (Nat.zero_lt_succ _) n_a2))))))
        refine gd_b (gX59_write _ _ _ _ _ ⟨K21.1.1, K21.1.2⟩ f24 f25 (((h.1 c2_0).2 c3_0).2.2 c5_0).2.2.2.2.1) (fun K23 => ?_)
        exact ⟨rfl, ⟨K23.1.1, K23.1.2⟩, (ext_tr K0.2 (ext_tr K1.2 (ext_tr K6.2 (ext_tr K10.2 (ext_tr K17.2 (ext_tr K21.2 K23.2))))))⟩
  · refine gd_fi (fun c43_1 => ?_) (fun c43_1 => ?_)
    · have f44 := (ext_is K1.2 (Nat.zero_lt_succ _) (ext_is K0.2 (Nat.zero_lt_succ _) n_a0))
      refine gd_c f44 ?_
      have f45 := (fm_w (lo' := 901) (hi' := 990) rfl rfl (tN_100 K1.1.1 (ext_is K1.2 (Nat.zero_lt_succ _) (ext_is K0.2 (Nat.zero_lt_succ _) n_a0))))
      refine gd_c f45 ?_
      refine gd_fi (fun c46_0 => ?_) (fun c46_0 => ?_)
      · refine gd_b (gX59_part _ _ _ _ ⟨K1.1.1, K1.1.2⟩  ) (fun K47 => ?_)
        have f48 := (ext_is K47.2 (Nat.zero_lt_succ _) (ext_is K1.2 (Nat.zero_lt_succ _) (ext_is K0.2 (Nat.zero_lt_succ _) n_a0)))
        refine gd_c f48 ?_
        have f49 := (ext_is K47.2 (Nat.zero_lt_succ _) (ext_is K1.2 (Nat.zero_lt_succ _) (ext_is K0.2 (Nat.zero_lt_succ _) n_a0)))
        refine gd_c f49 ?_
        have f65 := (ext_is K47.2 (Nat.zero_lt_succ _) (ext_is K1.2 (Nat.zero_lt_succ _) (ext_is K0.2 (Nat.zero_lt_succ _) n_a0)))
        have f66 := (ext_is K47.2 (Nat.zero_lt_succ _) (ext_is K1.2 (Nat.zero_lt_succ _) (ext_is K0.2 (Nat.zero_lt_succ _) n_a2)))
        have f67 := (tN_105 K47.1.1 (ext_is K47.2 (Nat.zero_lt_succ _) (ext_is K1.2 (Nat.zero_lt_succ _) (ext_is K0.2 (Nat.zero_lt_succ _) n_a0))))
        refine gd_b (gX59_take _ _ _ _ _ ⟨K47.1.1, K47.1.2⟩ f65 f66 f67 (((h.2 c2_0).1 c43_1).1 c46_0).1) (fun K50 => ?_)
        have f51 := (ext_is K50.2 (Nat.zero_lt_succ _) (ext_is K47.2 (Nat.zero_lt_succ _) (ext_is K1.2 (Nat.zero_lt_succ _) (ext_is K0.2 (Nat.zero_lt_succ _) n_a0))))
        refine gd_c f51 ?_
        have f63 := (fm_w (lo' := 910) (hi' := 990) rfl rfl (tN_100 K50.1.1 (ext_is K50.2 (Nat.zero_lt_succ _) (ext_is K47.2 (Nat.zero_lt_succ _) (ext_is K1.2 (Nat.zero_lt_succ _) (ext_is K0.2 (Nat.zero_lt_succ _) n_a0))))))
        have f64 := (((h.2 c2_0).1 c43_1).1 c46_0).2.1
        refine gd_c ⟨f63, f64⟩ ?_
        have f52 := (ext_is K50.2 (Nat.zero_lt_succ _) (ext_is K47.2 (Nat.zero_lt_succ _) (ext_is K1.2 (Nat.zero_lt_succ _) (ext_is K0.2 (Nat.zero_lt_succ _) n_a0))))
        refine gd_c f52 ?_
        have f53 := (ext_is K50.2 (Nat.zero_lt_succ _) (ext_is K47.2 (Nat.zero_lt_succ _) (ext_is K1.2 (Nat.zero_lt_succ _) (ext_is K0.2 (Nat.zero_lt_succ _) n_a0))))
        refine gd_c f53 ?_
        have f54 := (tE_915 K50.1.1 (tN_100 K50.1.1 (ext_is K50.2 (Nat.zero_lt_succ _) (ext_is K47.2 (Nat.zero_lt_succ _) (ext_is K1.2 (Nat.zero_lt_succ _) (ext_is K0.2 (Nat.zero_lt_succ _) n_a0))))) (((h.2 c2_0).1 c43_1).1 c46_0).2.1)
        refine gd_c f54 ?_
        have f59 := (tN_105 K50.1.1 (ext_is K50.2 (Nat.zero_lt_succ _) (ext_is K47.2 (Nat.zero_lt_succ _) (ext_is K1.2 (Nat.zero_lt_succ _) (ext_is K0.2 (Nat.zero_lt_succ _) n_a0)))))
        have f60 := (tE_915 K50.1.1 (tN_100 K50.1.1 (ext_is K50.2 (Nat.zero_lt_succ _) (ext_is K47.2 (Nat.zero_lt_succ _) (ext_is K1.2 (Nat.zero_lt_succ _) (ext_is K0.2 (Nat.zero_lt_succ _) n_a0))))) (((h.2 c2_0).1 c43_1).1 c46_0).2.1)
        have f61 := (tN_94 K50.1.1 (ext_is K50.2 (Nat.zero_lt_succ _) (ext_is K47.2 (Nat.zero_lt_succ _) (ext_is K1.2 (Nat.zero_lt_succ _) (ext_is K0.2 (Nat.zero_lt_succ _) n_a0)))))
        have f62 := (ext_is K50.2 (Nat.zero_lt_succ _) (ext_is K47.2 (Nat.zero_lt_succ _) (ext_is K1.2 (Nat.zero_lt_succ _) (ext_is K0.2 (Nat.zero_lt_succ _) n_a3))))
        refine gd_b (gX64_round _ _ _ _ _ ⟨K50.1.1, K50.1.2⟩ f59 f60 f61 f62 (((h.2 c2_0).1 c43_1).1 c46_0).2.2.1) (fun K55 => ?_)
        have f56 := (ext_is K55.2 (Nat.zero_lt_succ _) (ext_is K50.2 (Nat.zero_lt_succ _) (ext_is K47.2 (Nat.zero_lt_succ _) (ext_is K1.2 (Nat.zero_lt_succ _) (ext_is K0.2 (Nat.zero_lt_succ _) n_a0)))))
        refine gd_c f56 ?_
        have f58 := (ext_is K55.2 (Nat.zero_lt_succ _) (ext_is K50.2 (Nat.zero_lt_succ _) (ext_is K47.2 (Nat.zero_lt_succ _) (ext_is K1.2 (Nat.zero_lt_succ _) (ext_is K0.2 (Nat.zero_lt_succ _) n_a0)))))
        refine gd_b (gX59_give _ _ _ ⟨K55.1.1, K55.1.2⟩ f58 ) (fun K57 => ?_)
        exact ⟨rfl, ⟨K57.1.1, K57.1.2⟩, (ext_tr K0.2 (ext_tr K1.2 (ext_tr K47.2 (ext_tr K50.2 (ext_tr K55.2 K57.2)))))⟩
      · exact ⟨rfl, ⟨K1.1.1, K1.1.2⟩, (ext_tr K0.2 K1.2)⟩
    · refine gd_fi (fun c68_2 => ?_) (fun c68_2 => ?_)
      · have f69 := (ext_is K1.2 (Nat.zero_lt_succ _) (ext_is K0.2 (Nat.zero_lt_succ _) n_a0))
        refine gd_c f69 ?_
        have f70 := (fm_w (lo' := 901) (hi' := 990) rfl rfl (tN_100 K1.1.1 (ext_is K1.2 (Nat.zero_lt_succ _) (ext_is K0.2 (Nat.zero_lt_succ _) n_a0))))
        refine gd_c f70 ?_
        refine gd_fi (fun c71_0 => ?_) (fun c71_0 => ?_)
        · have f72 := (ext_is K1.2 (Nat.zero_lt_succ _) (ext_is K0.2 (Nat.zero_lt_succ _) n_a0))
          refine gd_c f72 ?_
          have f90 := (fm_w (lo' := 910) (hi' := 990) rfl rfl (tN_100 K1.1.1 (ext_is K1.2 (Nat.zero_lt_succ _) (ext_is K0.2 (Nat.zero_lt_succ _) n_a0))))
          have f91 := ((((h.2 c2_0).2 c43_1).1 c68_2).1 c71_0).1
          refine gd_c ⟨f90, f91⟩ ?_
          have f73 := (ext_is K1.2 (Nat.zero_lt_succ _) (ext_is K0.2 (Nat.zero_lt_succ _) n_a0))
          refine gd_c f73 ?_
          have f74 := (tE_915 K1.1.1 (tN_100 K1.1.1 (ext_is K1.2 (Nat.zero_lt_succ _) (ext_is K0.2 (Nat.zero_lt_succ _) n_a0))) ((((h.2 c2_0).2 c43_1).1 c68_2).1 c71_0).1)
          refine gd_c f74 ?_
          have f88 := (tE_915 K1.1.1 (tN_100 K1.1.1 (ext_is K1.2 (Nat.zero_lt_succ _) (ext_is K0.2 (Nat.zero_lt_succ _) n_a0))) ((((h.2 c2_0).2 c43_1).1 c68_2).1 c71_0).1)
          have f89 := (tN_105 K1.1.1 (ext_is K1.2 (Nat.zero_lt_succ _) (ext_is K0.2 (Nat.zero_lt_succ _) n_a0)))
          refine gd_b (gX64_take _ _ _ _ ⟨K1.1.1, K1.1.2⟩ f88 f89 ) (fun K75 => ?_)
          have f76 := (ext_is K75.2 (Nat.zero_lt_succ _) (ext_is K1.2 (Nat.zero_lt_succ _) (ext_is K0.2 (Nat.zero_lt_succ _) n_a0)))
          refine gd_c f76 ?_
          have f77 := (ext_is K75.2 (Nat.zero_lt_succ _) (ext_is K1.2 (Nat.zero_lt_succ _) (ext_is K0.2 (Nat.zero_lt_succ _) n_a0)))
          refine gd_c f77 ?_
          have f78 := (ext_is K75.2 (Nat.zero_lt_succ _) (ext_is K1.2 (Nat.zero_lt_succ _) (ext_is K0.2 (Nat.zero_lt_succ _) n_a2)))
          refine gd_c f78 ?_
          have f84 := (tN_105 K75.1.1 (ext_is K75.2 (Nat.zero_lt_succ _) (ext_is K1.2 (Nat.zero_lt_succ _) (ext_is K0.2 (Nat.zero_lt_succ _) n_a0))))
          have f85 := (ext_is K75.2 (Nat.zero_lt_succ _) (ext_is K1.2 (Nat.zero_lt_succ _) (ext_is K0.2 (Nat.zero_lt_succ _) n_a2)))
          have f86 := (ext_is K75.2 (Nat.zero_lt_succ _) (ext_is K1.2 (Nat.zero_lt_succ _) (ext_is K0.2 (Nat.zero_lt_succ _) n_a3)))
          have f87 := (tN_94 K75.1.1 (ext_is K75.2 (Nat.zero_lt_succ _) (ext_is K1.2 (Nat.zero_lt_succ _) (ext_is K0.2 (Nat.zero_lt_succ _) n_a0))))
          refine gd_b (gX61_put _ _ _ _ _ ⟨K75.1.1, K75.1.2⟩ f84 f85 f86 f87 ((((h.2 c2_0).2 c43_1).1 c68_2).1 c71_0).2.1) (fun K79 => ?_)
          have f80 := (ext_is K79.2 (Nat.zero_lt_succ _) (ext_is K75.2 (Nat.zero_lt_succ _) (ext_is K1.2 (Nat.zero_lt_succ _) (ext_is K0.2 (Nat.zero_lt_succ _) n_a0))))
          refine gd_c f80 ?_
          have f82 := (ext_is K79.2 (Nat.zero_lt_succ _) (ext_is K75.2 (Nat.zero_lt_succ _) (ext_is K1.2 (Nat.zero_lt_succ _) (ext_is K0.2 (Nat.zero_lt_succ _) n_a0))))
          have f83 := (ext_is K79.2 (Nat.zero_lt_succ _) (ext_is K75.2 (Nat.zero_lt_succ _) (ext_is K1.2 (Nat.zero_lt_succ _) (ext_is K0.2 (Nat.zero_lt_succ _) n_a2))))
          refine gd_b (gX59_write _ _ _ _ _ ⟨K79.1.1, K79.1.2⟩ f82 f83 ((((h.2 c2_0).2 c43_1).1 c68_2).1 c71_0).2.2.1) (fun K81 => ?_)
          exact ⟨rfl, ⟨K81.1.1, K81.1.2⟩, (ext_tr K0.2 (ext_tr K1.2 (ext_tr K75.2 (ext_tr K79.2 K81.2))))⟩
        · exact ⟨rfl, ⟨K1.1.1, K1.1.2⟩, (ext_tr K0.2 K1.2)⟩
      · exact ⟨rfl, ⟨K1.1.1, K1.1.2⟩, (ext_tr K0.2 K1.2)⟩
noncomputable def GX59_convert (a0 : Nat) (a1 : Int32) (a2 : Nat) (a3 : Nat) (a4 : Int64) (M : FM) : Int32 × FM := GX59_convert_0 a0 a1 a2 a3 a4 M
def HX59_convert (a0 : Nat) (a1 : Int32) (a2 : Nat) (a3 : Nat) (a4 : Int64) (M : FM) : Prop := HX59_convert_0 a0 a1 a2 a3 a4 M
theorem gX59_convert (a0 : Nat) (a1 : Int32) (a2 : Nat) (a3 : Nat) (a4 : Int64) (M : FM) (T : Ty M) (n_a0 : fm_is M 32 32 a0 = true) (n_a2 : fm_is M 33 33 a2 = true) (n_a3 : fm_is M 1 1 a3 = true) (h : HX59_convert a0 a1 a2 a3 a4 M) : gd (FX59_convert fN a0 a1 a2 a3 a4 M) (GX59_convert a0 a1 a2 a3 a4 M) (OkR M) := gX59_convert_0 a0 a1 a2 a3 a4 M T n_a0 n_a2 n_a3 h
noncomputable def GX59_operate_209 (s0 : Int32) (M : FM) : Int32 × FM :=
  (s0, M)
theorem gX59_operate_209 (s0 : Int32) (M : FM) (T : Ty M) : gd (FX59_operate_209 fN s0 M) (GX59_operate_209 s0 M) (OkR M) := by
  delta FX59_operate_209 BX59_operate_209
  exact ⟨rfl, ⟨T.1, T.2⟩, (ext_r _)⟩
noncomputable def GX59_operate_200 (a0 : Nat) (a1 : Int32) (a2 : Nat) (a3 : Int64) (a7 : Nat) (M : FM) : Int32 × FM :=
  let r1 : Int32 × FM := GX59_convert a0 a1 a2 a7 a3 M
  GX59_operate_209 r1.1 r1.2
def HX59_operate_200 (a0 : Nat) (a1 : Int32) (a2 : Nat) (a3 : Int64) (a7 : Nat) (M : FM) : Prop := (HX59_convert a0 a1 a2 a7 a3 M ∧ True)
theorem gX59_operate_200 (a0 : Nat) (a1 : Int32) (a2 : Nat) (a3 : Int64) (a7 : Nat) (M : FM) (T : Ty M) (n_a0 : fm_is M 32 32 a0 = true) (n_a2 : fm_is M 33 33 a2 = true) (n_a7 : fm_is M 1 1 a7 = true) (h : HX59_operate_200 a0 a1 a2 a3 a7 M) : gd (FX59_operate_200 fN a0 a1 a2 a3 a7 M) (GX59_operate_200 a0 a1 a2 a3 a7 M) (OkR M) := by
  delta FX59_operate_200 BX59_operate_200
  refine gd_c n_a0 ?_
  refine gd_b (gX59_convert _ _ _ _ _ _ ⟨T.1, T.2⟩ n_a0 n_a2 n_a7 h.1) (fun K0 => ?_)
  exact gd_tR K0.2 (gX59_operate_209 _ _ ⟨K0.1.1, K0.1.2⟩  )
noncomputable def GX59_operate_189 (a0 : Nat) (a1 : Int32) (a2 : Nat) (a7 : Nat) (M : FM) : Int32 × FM :=
  let r1 : Int32 × FM := GX59_reckon a0 a1 a2 a7 M
  GX59_operate_209 r1.1 r1.2
def HX59_operate_189 (a0 : Nat) (a1 : Int32) (a2 : Nat) (a7 : Nat) (M : FM) : Prop := (HX59_reckon a0 a1 a2 a7 M ∧ True)
theorem gX59_operate_189 (a0 : Nat) (a1 : Int32) (a2 : Nat) (a7 : Nat) (M : FM) (T : Ty M) (n_a0 : fm_is M 32 32 a0 = true) (n_a2 : fm_is M 33 33 a2 = true) (n_a7 : fm_is M 1 1 a7 = true) (h : HX59_operate_189 a0 a1 a2 a7 M) : gd (FX59_operate_189 fN a0 a1 a2 a7 M) (GX59_operate_189 a0 a1 a2 a7 M) (OkR M) := by
  delta FX59_operate_189 BX59_operate_189
  refine gd_c n_a0 ?_
  refine gd_b (gX59_reckon _ _ _ _ _ ⟨T.1, T.2⟩ n_a0 n_a2 n_a7 h.1) (fun K0 => ?_)
  exact gd_tR K0.2 (gX59_operate_209 _ _ ⟨K0.1.1, K0.1.2⟩  )
noncomputable def GX59_operate_150 (s0 : Int32) (M : FM) : Int32 × FM :=
  (s0, M)
theorem gX59_operate_150 (s0 : Int32) (M : FM) (T : Ty M) : gd (FX59_operate_150 fN s0 M) (GX59_operate_150 s0 M) (OkR M) := by
  delta FX59_operate_150 BX59_operate_150
  exact ⟨rfl, ⟨T.1, T.2⟩, (ext_r _)⟩
noncomputable def GX59_operate_149 (M : FM) : Int32 × FM :=
  GX59_operate_150 (Int32.ofInt (-1)) M
theorem gX59_operate_149 (M : FM) (T : Ty M) : gd (FX59_operate_149 fN M) (GX59_operate_149 M) (OkR M) := by
  delta FX59_operate_149 BX59_operate_149
  exact gd_tR (ext_r _) (gX59_operate_150 _ _ ⟨T.1, T.2⟩  )
noncomputable def GX59_operate_143 (s0 : Nat) (s1 : Int32) (s2 : Nat) (s3 : Int64) (M : FM) : Int32 × FM :=
  let r1 : Int32 × FM := GX59_write s0 s1 s2 s3 M
  GX59_operate_150 r1.1 r1.2
def HX59_operate_143 (s0 : Nat) (s1 : Int32) (s2 : Nat) (s3 : Int64) (M : FM) : Prop := (HX59_write s0 s1 s2 s3 M ∧ True)
theorem gX59_operate_143 (s0 : Nat) (s1 : Int32) (s2 : Nat) (s3 : Int64) (M : FM) (T : Ty M) (n_s0 : fm_is M 32 32 s0 = true) (n_s2 : fm_is M 33 33 s2 = true) (h : HX59_operate_143 s0 s1 s2 s3 M) : gd (FX59_operate_143 fN s0 s1 s2 s3 M) (GX59_operate_143 s0 s1 s2 s3 M) (OkR M) := by
  delta FX59_operate_143 BX59_operate_143
  refine gd_c n_s0 ?_
  refine gd_b (gX59_write _ _ _ _ _ ⟨T.1, T.2⟩ n_s0 n_s2 h.1) (fun K0 => ?_)
  exact gd_tR K0.2 (gX59_operate_150 _ _ ⟨K0.1.1, K0.1.2⟩  )
noncomputable def GX59_operate_108 (s0 : Int32) (M : FM) : Int32 × FM :=
  (s0, M)
theorem gX59_operate_108 (s0 : Int32) (M : FM) (T : Ty M) : gd (FX59_operate_108 fN s0 M) (GX59_operate_108 s0 M) (OkR M) := by
  delta FX59_operate_108 BX59_operate_108
  exact ⟨rfl, ⟨T.1, T.2⟩, (ext_r _)⟩
noncomputable def GX59_operate_0 (a0 : Nat) (a1 : Int32) (a2 : Nat) (a3 : Int64) (M : FM) : Int32 × FM :=
  let r1 : Int32 × FM := GX59_part a1 (Int32.ofInt 27) (Int32.ofInt 5) M
  let r2 : Int32 × FM := GX59_part a1 (Int32.ofInt 20) (Int32.ofInt 5) r1.2
  fi (r1.1 = (Int32.ofInt 4)) (
    let r3 : Int32 × FM := GX59_changeSign a0 a1 a2 r2.2
    (r3.1, r3.2)) (
    fi (r1.1 = (Int32.ofInt 5)) (
      let r4 : Int32 × FM := GX59_choose a0 a1 a2 r2.2
      (r4.1, r4.2)) (
      fi (r1.1 = (Int32.ofInt 20)) (
        let r5 : Int32 × FM := GX59_compare a0 a1 a2 r2.2
        (r5.1, r5.2)) (
        fi (r1.1 = (Int32.ofInt 28)) (
          fi (r2.1 = 0) (
            let r6 : Int32 × FM := GX59_look a0 a1 a2 r2.2
            GX59_operate_108 r6.1 r6.2) (
            GX59_operate_108 (Int32.ofInt (-1)) r2.2)) (
          fi (r1.1 = (Int32.ofInt 30)) (
            fi (r2.1 = 0) (
              let r7 : Int32 × FM := GX59_part a1 (Int32.ofInt 12) (Int32.ofInt 3) r2.2
              fi (r7.1 = 0) (
                let r8 : Int32 × FM := GX59_isDouble a2 r7.2
                fi (r8.1 = 0) (
                  GX59_operate_143 a0 a1 a2 (a3 &&& (Int64.ofInt 4294967295)) r8.2) (
                  GX59_operate_143 a0 a1 a2 a3 r8.2)) (
                GX59_operate_149 r7.2)) (
              GX59_operate_149 r2.2)) (
            let r9 : Nat × FM := GX59_modeOf a0 a1 r2.2
            fi (r9.1 = 0) (
              GX59_operate_209 (Int32.ofInt (-1)) r9.2) (
              let x10 : Nat := (r9.2.2.2 101 a0 0)
              fi (r1.1 < (Int32.ofNat (r9.2.2.2 1 x10 0))) (
                GX59_operate_189 a0 a1 a2 r9.1 r9.2) (
                fi (r1.1 = (Int32.ofInt 11)) (
                  fi (r2.1 = 0) (
                    GX59_operate_189 a0 a1 a2 r9.1 r9.2) (
                    GX59_operate_200 a0 a1 a2 a3 r9.1 r9.2)) (
                  GX59_operate_200 a0 a1 a2 a3 r9.1 r9.2))))))))
def HX59_operate_0 (a0 : Nat) (a1 : Int32) (a2 : Nat) (a3 : Int64) (M : FM) : Prop := let r1 : Int32 × FM := GX59_part a1 (Int32.ofInt 27) (Int32.ofInt 5) M; let r2 : Int32 × FM := GX59_part a1 (Int32.ofInt 20) (Int32.ofInt 5) r1.2; ((r1.1 = (Int32.ofInt 4) → (HX59_changeSign a0 a1 a2 r2.2 ∧ True)) ∧ (¬ (r1.1 = (Int32.ofInt 4)) → ((r1.1 = (Int32.ofInt 5) → (HX59_choose a0 a1 a2 r2.2 ∧ True)) ∧ (¬ (r1.1 = (Int32.ofInt 5)) → ((r1.1 = (Int32.ofInt 20) → (HX59_compare a0 a1 a2 r2.2 ∧ True)) ∧ (¬ (r1.1 = (Int32.ofInt 20)) → ((r1.1 = (Int32.ofInt 28) → ((r2.1 = 0 → (HX59_look a0 a1 a2 r2.2 ∧ True)) ∧ (¬ (r2.1 = 0) → True))) ∧ (¬ (r1.1 = (Int32.ofInt 28)) → ((r1.1 = (Int32.ofInt 30) → ((r2.1 = 0 → let r7 : Int32 × FM := GX59_part a1 (Int32.ofInt 12) (Int32.ofInt 3) r2.2; ((r7.1 = 0 → let r8 : Int32 × FM := GX59_isDouble a2 r7.2; ((r8.1 = 0 → HX59_operate_143 a0 a1 a2 (a3 &&& (Int64.ofInt 4294967295)) r8.2) ∧ (¬ (r8.1 = 0) → HX59_operate_143 a0 a1 a2 a3 r8.2))) ∧ (¬ (r7.1 = 0) → True))) ∧ (¬ (r2.1 = 0) → True))) ∧ (¬ (r1.1 = (Int32.ofInt 30)) → (HX59_modeOf a0 a1 r2.2 ∧ let r9 : Nat × FM := GX59_modeOf a0 a1 r2.2; ((r9.1 = 0 → True) ∧ (¬ (r9.1 = 0) → let x10 : Nat := (r9.2.2.2 101 a0 0); ((r1.1 < (Int32.ofNat (r9.2.2.2 1 x10 0)) → (fm_is r9.2 1 1 r9.1 = true ∧ HX59_operate_189 a0 a1 a2 r9.1 r9.2)) ∧ (¬ (r1.1 < (Int32.ofNat (r9.2.2.2 1 x10 0))) → ((r1.1 = (Int32.ofInt 11) → ((r2.1 = 0 → (fm_is r9.2 1 1 r9.1 = true ∧ HX59_operate_189 a0 a1 a2 r9.1 r9.2)) ∧ (¬ (r2.1 = 0) → (fm_is r9.2 1 1 r9.1 = true ∧ HX59_operate_200 a0 a1 a2 a3 r9.1 r9.2)))) ∧ (¬ (r1.1 = (Int32.ofInt 11)) → (fm_is r9.2 1 1 r9.1 = true ∧ HX59_operate_200 a0 a1 a2 a3 r9.1 r9.2))))))))))))))))))
theorem gX59_operate_0 (a0 : Nat) (a1 : Int32) (a2 : Nat) (a3 : Int64) (M : FM) (T : Ty M) (n_a0 : fm_is M 32 32 a0 = true) (n_a2 : fm_is M 33 33 a2 = true) (h : HX59_operate_0 a0 a1 a2 a3 M) : gd (FX59_operate_0 fN a0 a1 a2 a3 M) (GX59_operate_0 a0 a1 a2 a3 M) (OkR M) := by
  delta FX59_operate_0 BX59_operate_0
  refine gd_b (gX59_part _ _ _ _ ⟨T.1, T.2⟩  ) (fun K0 => ?_)
  refine gd_b (gX59_part _ _ _ _ ⟨K0.1.1, K0.1.2⟩  ) (fun K1 => ?_)
  refine gd_fi (fun c2_0 => ?_) (fun c2_0 => ?_)
  · have f3 := (ext_is K1.2 (Nat.zero_lt_succ _) (ext_is K0.2 (Nat.zero_lt_succ _) n_a0))
    refine gd_c f3 ?_
    have f5 := (ext_is K1.2 (Nat.zero_lt_succ _) (ext_is K0.2 (Nat.zero_lt_succ _) n_a0))
    have f6 := (ext_is K1.2 (Nat.zero_lt_succ _) (ext_is K0.2 (Nat.zero_lt_succ _) n_a2))
    refine gd_b (gX59_changeSign _ _ _ _ ⟨K1.1.1, K1.1.2⟩ f5 f6 (h.1 c2_0).1) (fun K4 => ?_)
    exact ⟨rfl, ⟨K4.1.1, K4.1.2⟩, (ext_tr K0.2 (ext_tr K1.2 K4.2))⟩
  · refine gd_fi (fun c7_1 => ?_) (fun c7_1 => ?_)
    · have f8 := (ext_is K1.2 (Nat.zero_lt_succ _) (ext_is K0.2 (Nat.zero_lt_succ _) n_a0))
      refine gd_c f8 ?_
      have f10 := (ext_is K1.2 (Nat.zero_lt_succ _) (ext_is K0.2 (Nat.zero_lt_succ _) n_a0))
      have f11 := (ext_is K1.2 (Nat.zero_lt_succ _) (ext_is K0.2 (Nat.zero_lt_succ _) n_a2))
      refine gd_b (gX59_choose _ _ _ _ ⟨K1.1.1, K1.1.2⟩ f10 f11 ((h.2 c2_0).1 c7_1).1) (fun K9 => ?_)
      exact ⟨rfl, ⟨K9.1.1, K9.1.2⟩, (ext_tr K0.2 (ext_tr K1.2 K9.2))⟩
    · refine gd_fi (fun c12_2 => ?_) (fun c12_2 => ?_)
      · have f13 := (ext_is K1.2 (Nat.zero_lt_succ _) (ext_is K0.2 (Nat.zero_lt_succ _) n_a0))
        refine gd_c f13 ?_
        have f15 := (ext_is K1.2 (Nat.zero_lt_succ _) (ext_is K0.2 (Nat.zero_lt_succ _) n_a0))
        have f16 := (ext_is K1.2 (Nat.zero_lt_succ _) (ext_is K0.2 (Nat.zero_lt_succ _) n_a2))
        refine gd_b (gX59_compare _ _ _ _ ⟨K1.1.1, K1.1.2⟩ f15 f16 (((h.2 c2_0).2 c7_1).1 c12_2).1) (fun K14 => ?_)
        exact ⟨rfl, ⟨K14.1.1, K14.1.2⟩, (ext_tr K0.2 (ext_tr K1.2 K14.2))⟩
      · refine gd_fi (fun c17_3 => ?_) (fun c17_3 => ?_)
        · refine gd_fi (fun c18_0 => ?_) (fun c18_0 => ?_)
          · have f19 := (ext_is K1.2 (Nat.zero_lt_succ _) (ext_is K0.2 (Nat.zero_lt_succ _) n_a0))
            refine gd_c f19 ?_
            have f21 := (ext_is K1.2 (Nat.zero_lt_succ _) (ext_is K0.2 (Nat.zero_lt_succ _) n_a2))
            have f22 := (ext_is K1.2 (Nat.zero_lt_succ _) (ext_is K0.2 (Nat.zero_lt_succ _) n_a0))
            refine gd_b (gX59_look _ _ _ _ ⟨K1.1.1, K1.1.2⟩ f21 f22 (((((h.2 c2_0).2 c7_1).2 c12_2).1 c17_3).1 c18_0).1) (fun K20 => ?_)
            exact gd_tR (ext_tr K0.2 (ext_tr K1.2 K20.2)) (gX59_operate_108 _ _ ⟨K20.1.1, K20.1.2⟩  )
          · exact gd_tR (ext_tr K0.2 K1.2) (gX59_operate_108 _ _ ⟨K1.1.1, K1.1.2⟩  )
        · refine gd_fi (fun c23_4 => ?_) (fun c23_4 => ?_)
          · refine gd_fi (fun c24_0 => ?_) (fun c24_0 => ?_)
            · refine gd_b (gX59_part _ _ _ _ ⟨K1.1.1, K1.1.2⟩  ) (fun K25 => ?_)
              refine gd_fi (fun c26_0 => ?_) (fun c26_0 => ?_)
              · have f33 := (ext_is K25.2 (Nat.zero_lt_succ _) (ext_is K1.2 (Nat.zero_lt_succ _) (ext_is K0.2 (Nat.zero_lt_succ _) n_a2)))
                refine gd_b (gX59_isDouble _ _ ⟨K25.1.1, K25.1.2⟩ f33 ) (fun K27 => ?_)
                refine gd_fi (fun c28_0 => ?_) (fun c28_0 => ?_)
                · have f29 := (ext_is K27.2.1 (Nat.zero_lt_succ _) (ext_is K25.2 (Nat.zero_lt_succ _) (ext_is K1.2 (Nat.zero_lt_succ _) (ext_is K0.2 (Nat.zero_lt_succ _) n_a0))))
                  have f30 := (ext_is K27.2.1 (Nat.zero_lt_succ _) (ext_is K25.2 (Nat.zero_lt_succ _) (ext_is K1.2 (Nat.zero_lt_succ _) (ext_is K0.2 (Nat.zero_lt_succ _) n_a2))))
                  exact gd_tR (ext_tr K0.2 (ext_tr K1.2 (ext_tr K25.2 K27.2.1))) (gX59_operate_143 _ _ _ _ _ ⟨K27.1.1, K27.1.2⟩ f29 f30 ((((((((h.2 c2_0).2 c7_1).2 c12_2).2 c17_3).1 c23_4).1 c24_0).1 c26_0).1 c28_0))
                · have f31 := (ext_is K27.2.1 (Nat.zero_lt_succ _) (ext_is K25.2 (Nat.zero_lt_succ _) (ext_is K1.2 (Nat.zero_lt_succ _) (ext_is K0.2 (Nat.zero_lt_succ _) n_a0))))
                  have f32 := (ext_is K27.2.1 (Nat.zero_lt_succ _) (ext_is K25.2 (Nat.zero_lt_succ _) (ext_is K1.2 (Nat.zero_lt_succ _) (ext_is K0.2 (Nat.zero_lt_succ _) n_a2))))
                  exact gd_tR (ext_tr K0.2 (ext_tr K1.2 (ext_tr K25.2 K27.2.1))) (gX59_operate_143 _ _ _ _ _ ⟨K27.1.1, K27.1.2⟩ f31 f32 ((((((((h.2 c2_0).2 c7_1).2 c12_2).2 c17_3).1 c23_4).1 c24_0).1 c26_0).2 c28_0))
              · exact gd_tR (ext_tr K0.2 (ext_tr K1.2 K25.2)) (gX59_operate_149  _ ⟨K25.1.1, K25.1.2⟩  )
            · exact gd_tR (ext_tr K0.2 K1.2) (gX59_operate_149  _ ⟨K1.1.1, K1.1.2⟩  )
          · have f34 := (ext_is K1.2 (Nat.zero_lt_succ _) (ext_is K0.2 (Nat.zero_lt_succ _) n_a0))
            refine gd_c f34 ?_
            have f54 := (ext_is K1.2 (Nat.zero_lt_succ _) (ext_is K0.2 (Nat.zero_lt_succ _) n_a0))
            refine gd_b (gX59_modeOf _ _ _ ⟨K1.1.1, K1.1.2⟩ f54 (((((h.2 c2_0).2 c7_1).2 c12_2).2 c17_3).2 c23_4).1) (fun K35 => ?_)
            refine gd_fi (fun c36_0 => ?_) (fun c36_0 => ?_)
            · exact gd_tR (ext_tr K0.2 (ext_tr K1.2 K35.2)) (gX59_operate_209 _ _ ⟨K35.1.1, K35.1.2⟩  )
            · have f37 := (ext_is K35.2 (Nat.zero_lt_succ _) (ext_is K1.2 (Nat.zero_lt_succ _) (ext_is K0.2 (Nat.zero_lt_succ _) n_a0)))
              refine gd_c f37 ?_
              have f38 := (fm_w (lo' := 901) (hi' := 990) rfl rfl (tN_101 K35.1.1 (ext_is K35.2 (Nat.zero_lt_succ _) (ext_is K1.2 (Nat.zero_lt_succ _) (ext_is K0.2 (Nat.zero_lt_succ _) n_a0)))))
              refine gd_c f38 ?_
              refine gd_fi (fun c39_0 => ?_) (fun c39_0 => ?_)
              · have f40 := (ext_is K35.2 (Nat.zero_lt_succ _) (ext_is K1.2 (Nat.zero_lt_succ _) (ext_is K0.2 (Nat.zero_lt_succ _) n_a0)))
                have f41 := (ext_is K35.2 (Nat.zero_lt_succ _) (ext_is K1.2 (Nat.zero_lt_succ _) (ext_is K0.2 (Nat.zero_lt_succ _) n_a2)))
                have f42 := (((((((h.2 c2_0).2 c7_1).2 c12_2).2 c17_3).2 c23_4).2.2 c36_0).1 c39_0).1
                exact gd_tR (ext_tr K0.2 (ext_tr K1.2 K35.2)) (gX59_operate_189 _ _ _ _ _ ⟨K35.1.1, K35.1.2⟩ f40 f41 f42 (((((((h.2 c2_0).2 c7_1).2 c12_2).2 c17_3).2 c23_4).2.2 c36_0).1 c39_0).2)
              · refine gd_fi (fun c43_0 => ?_) (fun c43_0 => ?_)
                · refine gd_fi (fun c44_0 => ?_) (fun c44_0 => ?_)
                  · have f45 := (ext_is K35.2 (Nat.zero_lt_succ _) (ext_is K1.2 (Nat.zero_lt_succ _) (ext_is K0.2 (Nat.zero_lt_succ _) n_a0)))
                    have f46 := (ext_is K35.2 (Nat.zero_lt_succ _) (ext_is K1.2 (Nat.zero_lt_succ _) (ext_is K0.2 (Nat.zero_lt_succ _) n_a2)))
                    have f47 := (((((((((h.2 c2_0).2 c7_1).2 c12_2).2 c17_3).2 c23_4).2.2 c36_0).2 c39_0).1 c43_0).1 c44_0).1
                    exact gd_tR (ext_tr K0.2 (ext_tr K1.2 K35.2)) (gX59_operate_189 _ _ _ _ _ ⟨K35.1.1, K35.1.2⟩ f45 f46 f47 (((((((((h.2 c2_0).2 c7_1).2 c12_2).2 c17_3).2 c23_4).2.2 c36_0).2 c39_0).1 c43_0).1 c44_0).2)
                  · have f48 := (ext_is K35.2 (Nat.zero_lt_succ _) (ext_is K1.2 (Nat.zero_lt_succ _) (ext_is K0.2 (Nat.zero_lt_succ _) n_a0)))
                    have f49 := (ext_is K35.2 (Nat.zero_lt_succ _) (ext_is K1.2 (Nat.zero_lt_succ _) (ext_is K0.2 (Nat.zero_lt_succ _) n_a2)))
                    have f50 := (((((((((h.2 c2_0).2 c7_1).2 c12_2).2 c17_3).2 c23_4).2.2 c36_0).2 c39_0).1 c43_0).2 c44_0).1
                    exact gd_tR (ext_tr K0.2 (ext_tr K1.2 K35.2)) (gX59_operate_200 _ _ _ _ _ _ ⟨K35.1.1, K35.1.2⟩ f48 f49 f50 (((((((((h.2 c2_0).2 c7_1).2 c12_2).2 c17_3).2 c23_4).2.2 c36_0).2 c39_0).1 c43_0).2 c44_0).2)
                · have f51 := (ext_is K35.2 (Nat.zero_lt_succ _) (ext_is K1.2 (Nat.zero_lt_succ _) (ext_is K0.2 (Nat.zero_lt_succ _) n_a0)))
                  have f52 := (ext_is K35.2 (Nat.zero_lt_succ _) (ext_is K1.2 (Nat.zero_lt_succ _) (ext_is K0.2 (Nat.zero_lt_succ _) n_a2)))
                  have f53 := ((((((((h.2 c2_0).2 c7_1).2 c12_2).2 c17_3).2 c23_4).2.2 c36_0).2 c39_0).2 c43_0).1
                  exact gd_tR (ext_tr K0.2 (ext_tr K1.2 K35.2)) (gX59_operate_200 _ _ _ _ _ _ ⟨K35.1.1, K35.1.2⟩ f51 f52 f53 ((((((((h.2 c2_0).2 c7_1).2 c12_2).2 c17_3).2 c23_4).2.2 c36_0).2 c39_0).2 c43_0).2)
noncomputable def GX59_operate (a0 : Nat) (a1 : Int32) (a2 : Nat) (a3 : Int64) (M : FM) : Int32 × FM := GX59_operate_0 a0 a1 a2 a3 M
def HX59_operate (a0 : Nat) (a1 : Int32) (a2 : Nat) (a3 : Int64) (M : FM) : Prop := HX59_operate_0 a0 a1 a2 a3 M
theorem gX59_operate (a0 : Nat) (a1 : Int32) (a2 : Nat) (a3 : Int64) (M : FM) (T : Ty M) (n_a0 : fm_is M 32 32 a0 = true) (n_a2 : fm_is M 33 33 a2 = true) (h : HX59_operate a0 a1 a2 a3 M) : gd (FX59_operate fN a0 a1 a2 a3 M) (GX59_operate a0 a1 a2 a3 M) (OkR M) := gX59_operate_0 a0 a1 a2 a3 M T n_a0 n_a2 h
