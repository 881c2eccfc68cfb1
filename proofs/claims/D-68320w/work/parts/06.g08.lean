/-! functions without guards, printed by gen/gg.py -/
set_option maxRecDepth 100000
noncomputable def GX59_fuse_143 (a0 : Nat) (a1 : Int32) (a2 : Nat) (a4 : Nat) (s0 : Nat) (s1 : Int32) (s2 : Int32) (M : FM) : Int32 × FM :=
  let x1 : Int32 := (s1 ^^^ s2)
  let M2 : FM := fm_sI M 115 s0 0 x1
  let x3 : Nat := (M2.2.2 101 a0 0)
  let x4 : Nat := (M2.2.2 3 x3 (Int32.ofInt 0).toNatClampNeg)
  let M5 : FM := GX65_run x4 (M2.2.2 105 a0 0) (M2.2.2 107 a0 0) a4 (M2.2.2 94 a0 0) (M2.2.2 108 a0 0) M2
  let r6 : Int64 × FM := GX61_put a2 (M5.2.2 108 a0 0) a4 (M5.2.2 94 a0 0) M5
  let r7 : Int32 × FM := GX59_write a0 a1 a2 r6.1 r6.2
  (r7.1, r7.2)
def HX59_fuse_143 (a0 : Nat) (a1 : Int32) (a2 : Nat) (a4 : Nat) (s0 : Nat) (s1 : Int32) (s2 : Int32) (M : FM) : Prop := let x1 : Int32 := (s1 ^^^ s2); ((x1 = 0 ∨ x1 = 1) ∧ let M2 : FM := fm_sI M 115 s0 0 x1; let x3 : Nat := (M2.2.2 101 a0 0); let x4 : Nat := (M2.2.2 3 x3 (Int32.ofInt 0).toNatClampNeg); (HX65_run x4 (M2.2.2 105 a0 0) (M2.2.2 107 a0 0) a4 (M2.2.2 94 a0 0) (M2.2.2 108 a0 0) M2 ∧ let M5 : FM := GX65_run x4 (M2.2.2 105 a0 0) (M2.2.2 107 a0 0) a4 (M2.2.2 94 a0 0) (M2.2.2 108 a0 0) M2; (HX61_put a2 (M5.2.2 108 a0 0) a4 (M5.2.2 94 a0 0) M5 ∧ let r6 : Int64 × FM := GX61_put a2 (M5.2.2 108 a0 0) a4 (M5.2.2 94 a0 0) M5; (HX59_write a0 a1 a2 r6.1 r6.2 ∧ True))))
theorem gX59_fuse_143 (a0 : Nat) (a1 : Int32) (a2 : Nat) (a4 : Nat) (s0 : Nat) (s1 : Int32) (s2 : Int32) (M : FM) (T : Ty M) (n_s0 : fm_is M 39 39 s0 = true) (n_a0 : fm_is M 32 32 a0 = true) (n_a4 : fm_is M 1 1 a4 = true) (n_a2 : fm_is M 33 33 a2 = true) (h : HX59_fuse_143 a0 a1 a2 a4 s0 s1 s2 M) : gd (FX59_fuse_143 fN a0 a1 a2 a4 s0 s1 s2 M) (GX59_fuse_143 a0 a1 a2 a4 s0 s1 s2 M) (OkR M) := by
  delta FX59_fuse_143 BX59_fuse_143
  refine gd_c n_s0 ?_
  refine gd_c h.1 ?_
  refine gd_c n_a0 ?_
  have f19 := (fm_w (lo' := 910) (hi' := 990) rfl rfl (tN_101 T.1 n_a0))
  have f20 := (fm_inl (i := (Int32.ofInt 0)) (tL_101 T.1 n_a0) (by decide))
  refine gd_c ⟨f19, f20⟩ ?_
  refine gd_c n_a0 ?_
  refine gd_c n_a0 ?_
  refine gd_c n_a0 ?_
  refine gd_c n_a0 ?_
  have f0 := (tE_914 T.1 (tN_101 T.1 n_a0) (fm_inl (i := (Int32.ofInt 0)) (tL_101 T.1 n_a0) (by decide)))
  refine gd_c f0 ?_
  have f14 := (tN_105 T.1 n_a0)
  have f15 := (tN_107 T.1 n_a0)
  have f16 := (tN_94 T.1 n_a0)
  have f17 := (tN_108 T.1 n_a0)
  have f18 := (tE_914 T.1 (tN_101 T.1 n_a0) (fm_inl (i := (Int32.ofInt 0)) (tL_101 T.1 n_a0) (by decide)))
  refine gd_b (gX65_run _ _ _ _ _ _ _ ⟨T.1, (tyb_sIb (f := 115) rfl T.2 h.1)⟩ f14 f15 f16 f17 f18 n_a4 h.2.1) (fun K1 => ?_)
  have f2 := (ext_is K1.2 (Nat.zero_lt_succ _) n_a0)
  refine gd_c f2 ?_
  have f3 := (ext_is K1.2 (Nat.zero_lt_succ _) n_a0)
  refine gd_c f3 ?_
  have f4 := (ext_is K1.2 (Nat.zero_lt_succ _) n_a2)
  refine gd_c f4 ?_
  have f10 := (tN_108 K1.1.1 (ext_is K1.2 (Nat.zero_lt_succ _) n_a0))
  have f11 := (ext_is K1.2 (Nat.zero_lt_succ _) n_a2)
  have f12 := (ext_is K1.2 (Nat.zero_lt_succ _) n_a4)
  have f13 := (tN_94 K1.1.1 (ext_is K1.2 (Nat.zero_lt_succ _) n_a0))
  refine gd_b (gX61_put _ _ _ _ _ ⟨K1.1.1, K1.1.2⟩ f10 f11 f12 f13 h.2.2.1) (fun K5 => ?_)
  have f6 := (ext_is K5.2 (Nat.zero_lt_succ _) (ext_is K1.2 (Nat.zero_lt_succ _) n_a0))
  refine gd_c f6 ?_
  have f8 := (ext_is K5.2 (Nat.zero_lt_succ _) (ext_is K1.2 (Nat.zero_lt_succ _) n_a0))
  have f9 := (ext_is K5.2 (Nat.zero_lt_succ _) (ext_is K1.2 (Nat.zero_lt_succ _) n_a2))
  refine gd_b (gX59_write _ _ _ _ _ ⟨K5.1.1, K5.1.2⟩ f8 f9 h.2.2.2.1) (fun K7 => ?_)
  exact ⟨rfl, ⟨K7.1.1, K7.1.2⟩, (ext_dI (ext_tr K1.2 (ext_tr K5.2 K7.2)))⟩
noncomputable def GX59_fuse_138 (a0 : Nat) (a1 : Int32) (a2 : Nat) (a4 : Nat) (s0 : Nat) (s1 : Int32) (M : FM) : Int32 × FM :=
  GX59_fuse_143 a0 a1 a2 a4 s0 s1 (Int32.ofInt 1) M
def HX59_fuse_138 (a0 : Nat) (a1 : Int32) (a2 : Nat) (a4 : Nat) (s0 : Nat) (s1 : Int32) (M : FM) : Prop := HX59_fuse_143 a0 a1 a2 a4 s0 s1 (Int32.ofInt 1) M
theorem gX59_fuse_138 (a0 : Nat) (a1 : Int32) (a2 : Nat) (a4 : Nat) (s0 : Nat) (s1 : Int32) (M : FM) (T : Ty M) (n_s0 : fm_is M 39 39 s0 = true) (n_a0 : fm_is M 32 32 a0 = true) (n_a4 : fm_is M 1 1 a4 = true) (n_a2 : fm_is M 33 33 a2 = true) (h : HX59_fuse_138 a0 a1 a2 a4 s0 s1 M) : gd (FX59_fuse_138 fN a0 a1 a2 a4 s0 s1 M) (GX59_fuse_138 a0 a1 a2 a4 s0 s1 M) (OkR M) := by
  delta FX59_fuse_138 BX59_fuse_138
  exact gd_tR (ext_r _) (gX59_fuse_143 _ _ _ _ _ _ _ _ ⟨T.1, T.2⟩ n_s0 n_a0 n_a4 n_a2 h)
noncomputable def GX59_fuse_116 (a0 : Nat) (a1 : Int32) (a2 : Nat) (a3 : Int32) (a4 : Nat) (s0 : Nat) (s1 : Int32) (s2 : Int32) (M : FM) : Int32 × FM :=
  let x1 : Int32 := (s1 ^^^ s2)
  let M2 : FM := fm_sI M 115 s0 0 x1
  let x3 : Nat := (M2.2.2 107 a0 0)
  fi (a3 = (Int32.ofInt 1)) (
    GX59_fuse_138 a0 a1 a2 a4 x3 (M2.1 115 x3 0) M2) (
    fi (a3 = (Int32.ofInt 3)) (
      GX59_fuse_138 a0 a1 a2 a4 x3 (M2.1 115 x3 0) M2) (
      GX59_fuse_143 a0 a1 a2 a4 x3 (M2.1 115 x3 0) (Int32.ofInt 0) M2))
def HX59_fuse_116 (a0 : Nat) (a1 : Int32) (a2 : Nat) (a3 : Int32) (a4 : Nat) (s0 : Nat) (s1 : Int32) (s2 : Int32) (M : FM) : Prop := let x1 : Int32 := (s1 ^^^ s2); ((x1 = 0 ∨ x1 = 1) ∧ let M2 : FM := fm_sI M 115 s0 0 x1; let x3 : Nat := (M2.2.2 107 a0 0); ((a3 = (Int32.ofInt 1) → HX59_fuse_138 a0 a1 a2 a4 x3 (M2.1 115 x3 0) M2) ∧ (¬ (a3 = (Int32.ofInt 1)) → ((a3 = (Int32.ofInt 3) → HX59_fuse_138 a0 a1 a2 a4 x3 (M2.1 115 x3 0) M2) ∧ (¬ (a3 = (Int32.ofInt 3)) → HX59_fuse_143 a0 a1 a2 a4 x3 (M2.1 115 x3 0) (Int32.ofInt 0) M2)))))
theorem gX59_fuse_116 (a0 : Nat) (a1 : Int32) (a2 : Nat) (a3 : Int32) (a4 : Nat) (s0 : Nat) (s1 : Int32) (s2 : Int32) (M : FM) (T : Ty M) (n_s0 : fm_is M 39 39 s0 = true) (n_a0 : fm_is M 32 32 a0 = true) (n_a4 : fm_is M 1 1 a4 = true) (n_a2 : fm_is M 33 33 a2 = true) (h : HX59_fuse_116 a0 a1 a2 a3 a4 s0 s1 s2 M) : gd (FX59_fuse_116 fN a0 a1 a2 a3 a4 s0 s1 s2 M) (GX59_fuse_116 a0 a1 a2 a3 a4 s0 s1 s2 M) (OkR M) := by
  delta FX59_fuse_116 BX59_fuse_116
  refine gd_c n_s0 ?_
  refine gd_c h.1 ?_
  refine gd_c n_a0 ?_
  have f0 := (tN_107 T.1 n_a0)
  refine gd_c f0 ?_
  refine gd_fi (fun c1_0 => ?_) (fun c1_0 => ?_)
  · have f2 := (tN_107 T.1 n_a0)
    exact gd_tR (ext_dI (ext_r _)) (gX59_fuse_138 _ _ _ _ _ _ _ ⟨T.1, (tyb_sIb (f := 115) rfl T.2 h.1)⟩ f2 n_a0 n_a4 n_a2 (h.2.1 c1_0))
  · refine gd_fi (fun c3_0 => ?_) (fun c3_0 => ?_)
    · have f4 := (tN_107 T.1 n_a0)
      exact gd_tR (ext_dI (ext_r _)) (gX59_fuse_138 _ _ _ _ _ _ _ ⟨T.1, (tyb_sIb (f := 115) rfl T.2 h.1)⟩ f4 n_a0 n_a4 n_a2 ((h.2.2 c1_0).1 c3_0))
    · have f5 := (tN_107 T.1 n_a0)
      exact gd_tR (ext_dI (ext_r _)) (gX59_fuse_143 _ _ _ _ _ _ _ _ ⟨T.1, (tyb_sIb (f := 115) rfl T.2 h.1)⟩ f5 n_a0 n_a4 n_a2 ((h.2.2 c1_0).2 c3_0))
noncomputable def GX59_fuse_0 (a0 : Nat) (a1 : Int32) (a2 : Nat) (a3 : Int32) (M : FM) : Int32 × FM :=
  let r1 : Nat × FM := GX59_modeOf a0 a1 M
  fi (r1.1 = 0) (
    ((Int32.ofInt (-1)), r1.2)) (
    let r2 : Int32 × FM := GX59_part a1 (Int32.ofInt 15) (Int32.ofInt 5) r1.2
    let M3 : FM := GX59_take a0 r2.1 a2 (r2.2.2.2 105 a0 0) r2.2
    let r4 : Int32 × FM := GX59_part a1 (Int32.ofInt 20) (Int32.ofInt 5) M3
    let M5 : FM := GX59_take a0 r4.1 a2 (r4.2.2.2 106 a0 0) r4.2
    let r6 : Int32 × FM := GX59_part a1 (Int32.ofInt 27) (Int32.ofInt 5) M5
    let M7 : FM := GX59_take a0 r6.1 a2 (r6.2.2.2 107 a0 0) r6.2
    let x8 : Nat := (M7.2.2 102 a0 0)
    let M9 : FM := GX65_run x8 (M7.2.2 105 a0 0) (M7.2.2 106 a0 0) r1.1 (M7.2.2 94 a0 0) (M7.2.2 108 a0 0) M7
    let x10 : Nat := (M9.2.2 105 a0 0)
    let M11 : FM := GX71_copy x10 (M9.2.2 108 a0 0) M9
    let x12 : Nat := (M11.2.2 105 a0 0)
    fi (a3 ≤ (Int32.ofInt 1)) (
      GX59_fuse_116 a0 a1 a2 a3 r1.1 x12 (M11.1 115 x12 0) (Int32.ofInt 0) M11) (
      GX59_fuse_116 a0 a1 a2 a3 r1.1 x12 (M11.1 115 x12 0) (Int32.ofInt 1) M11))
def HX59_fuse_0 (a0 : Nat) (a1 : Int32) (a2 : Nat) (a3 : Int32) (M : FM) : Prop := (HX59_modeOf a0 a1 M ∧ let r1 : Nat × FM := GX59_modeOf a0 a1 M; ((r1.1 = 0 → True) ∧ (¬ (r1.1 = 0) → let r2 : Int32 × FM := GX59_part a1 (Int32.ofInt 15) (Int32.ofInt 5) r1.2; (HX59_take a0 r2.1 a2 (r2.2.2.2 105 a0 0) r2.2 ∧ let M3 : FM := GX59_take a0 r2.1 a2 (r2.2.2.2 105 a0 0) r2.2; let r4 : Int32 × FM := GX59_part a1 (Int32.ofInt 20) (Int32.ofInt 5) M3; (HX59_take a0 r4.1 a2 (r4.2.2.2 106 a0 0) r4.2 ∧ let M5 : FM := GX59_take a0 r4.1 a2 (r4.2.2.2 106 a0 0) r4.2; let r6 : Int32 × FM := GX59_part a1 (Int32.ofInt 27) (Int32.ofInt 5) M5; (HX59_take a0 r6.1 a2 (r6.2.2.2 107 a0 0) r6.2 ∧ let M7 : FM := GX59_take a0 r6.1 a2 (r6.2.2.2 107 a0 0) r6.2; let x8 : Nat := (M7.2.2 102 a0 0); (fm_is M7 1 1 r1.1 = true ∧ HX65_run x8 (M7.2.2 105 a0 0) (M7.2.2 106 a0 0) r1.1 (M7.2.2 94 a0 0) (M7.2.2 108 a0 0) M7 ∧ let M9 : FM := GX65_run x8 (M7.2.2 105 a0 0) (M7.2.2 106 a0 0) r1.1 (M7.2.2 94 a0 0) (M7.2.2 108 a0 0) M7; let x10 : Nat := (M9.2.2 105 a0 0); let M11 : FM := GX71_copy x10 (M9.2.2 108 a0 0) M9; let x12 : Nat := (M11.2.2 105 a0 0); ((a3 ≤ (Int32.ofInt 1) → (fm_is M11 1 1 r1.1 = true ∧ HX59_fuse_116 a0 a1 a2 a3 r1.1 x12 (M11.1 115 x12 0) (Int32.ofInt 0) M11)) ∧ (¬ (a3 ≤ (Int32.ofInt 1)) → (fm_is M11 1 1 r1.1 = true ∧ HX59_fuse_116 a0 a1 a2 a3 r1.1 x12 (M11.1 115 x12 0) (Int32.ofInt 1) M11))))))))))
theorem gX59_fuse_0 (a0 : Nat) (a1 : Int32) (a2 : Nat) (a3 : Int32) (M : FM) (T : Ty M) (n_a0 : fm_is M 32 32 a0 = true) (n_a2 : fm_is M 33 33 a2 = true) (h : HX59_fuse_0 a0 a1 a2 a3 M) : gd (FX59_fuse_0 fN a0 a1 a2 a3 M) (GX59_fuse_0 a0 a1 a2 a3 M) (OkR M) := by
  delta FX59_fuse_0 BX59_fuse_0
  refine gd_c n_a0 ?_
  refine gd_b (gX59_modeOf _ _ _ ⟨T.1, T.2⟩ n_a0 h.1) (fun K0 => ?_)
  refine gd_fi (fun c1_0 => ?_) (fun c1_0 => ?_)
  · exact ⟨rfl, ⟨K0.1.1, K0.1.2⟩, K0.2⟩
  · refine gd_b (gX59_part _ _ _ _ ⟨K0.1.1, K0.1.2⟩  ) (fun K2 => ?_)
    have f3 := (ext_is K2.2 (Nat.zero_lt_succ _) (ext_is K0.2 (Nat.zero_lt_succ _) n_a0))
    refine gd_c f3 ?_
    have f4 := (ext_is K2.2 (Nat.zero_lt_succ _) (ext_is K0.2 (Nat.zero_lt_succ _) n_a0))
    refine gd_c f4 ?_
    have f49 := (ext_is K2.2 (Nat.zero_lt_succ _) (ext_is K0.2 (Nat.zero_lt_succ _) n_a0))
    have f50 := (ext_is K2.2 (Nat.zero_lt_succ _) (ext_is K0.2 (Nat.zero_lt_succ _) n_a2))
    have f51 := (tN_105 K2.1.1 (ext_is K2.2 (Nat.zero_lt_succ _) (ext_is K0.2 (Nat.zero_lt_succ _) n_a0)))
    refine gd_b (gX59_take _ _ _ _ _ ⟨K2.1.1, K2.1.2⟩ f49 f50 f51 (h.2.2 c1_0).1) (fun K5 => ?_)
    refine gd_b (gX59_part _ _ _ _ ⟨K5.1.1, K5.1.2⟩  ) (fun K6 => ?_)
    have f7 := (ext_is K6.2 (Nat.zero_lt_succ _) (ext_is K5.2 (Nat.zero_lt_succ _) (ext_is K2.2 (Nat.zero_lt_succ _) (ext_is K0.2 (Nat.zero_lt_succ _) n_a0))))
    refine gd_c f7 ?_
    have f8 := (ext_is K6.2 (Nat.zero_lt_succ _) (ext_is K5.2 (Nat.zero_lt_succ _) (ext_is K2.2 (Nat.zero_lt_succ _) (ext_is K0.2 (Nat.zero_lt_succ _) n_a0))))
    refine gd_c f8 ?_
    have f46 := (ext_is K6.2 (Nat.zero_lt_succ _) (ext_is K5.2 (Nat.zero_lt_succ _) (ext_is K2.2 (Nat.zero_lt_succ _) (ext_is K0.2 (Nat.zero_lt_succ _) n_a0))))
    have f47 := (ext_is K6.2 (Nat.zero_lt_succ _) (ext_is K5.2 (Nat.zero_lt_succ _) (ext_is K2.2 (Nat.zero_lt_succ _) (ext_is K0.2 (Nat.zero_lt_succ _) n_a2))))
    have f48 := (tN_106 K6.1.1 (ext_is K6.2 (Nat.zero_lt_succ _) (ext_is K5.2 (Nat.zero_lt_succ _) (ext_is K2.2 (Nat.zero_lt_succ _) (ext_is K0.2 (Nat.zero_lt_succ _) n_a0)))))
    refine gd_b (gX59_take _ _ _ _ _ ⟨K6.1.1, K6.1.2⟩ f46 f47 f48 (h.2.2 c1_0).2.1) (fun K9 => ?_)
    refine gd_b (gX59_part _ _ _ _ ⟨K9.1.1, K9.1.2⟩  ) (fun K10 => ?_)
    have f11 := (ext_is K10.2 (Nat.zero_lt_succ _) (ext_is K9.2 (Nat.zero_lt_succ _) (ext_is K6.2 (Nat.zero_lt_succ _) (ext_is K5.2 (Nat.zero_lt_succ _) (ext_is K2.2 (Nat.zero_lt_succ _) (ext_is K0.2 (Nat.zero_lt_succ _) n_a0))))))
    refine gd_c f11 ?_
    have f12 := (ext_is K10.2 (Nat.zero_lt_succ _) (ext_is K9.2 (Nat.zero_lt_succ _) (ext_is K6.2 (Nat.zero_lt_succ _) (ext_is K5.2 (Nat.zero_lt_succ _) (ext_is K2.2 (Nat.zero_lt_succ _) (ext_is K0.2 (Nat.zero_lt_succ _) n_a0))))))
    refine gd_c f12 ?_
    have f43 := (ext_is K10.2 (Nat.zero_lt_succ _) (ext_is K9.2 (Nat.zero_lt_succ _) (ext_is K6.2 (Nat.zero_lt_succ _) (ext_is K5.2 (Nat.zero_lt_succ _) (ext_is K2.2 (Nat.zero_lt_succ _) (ext_is K0.2 (Nat.zero_lt_succ _) n_a0))))))
    have f44 := (ext_is K10.2 (Nat.zero_lt_succ _) (ext_is K9.2 (Nat.zero_lt_succ _) (ext_is K6.2 (Nat.zero_lt_succ _) (ext_is K5.2 (Nat.zero_lt_succ _) (ext_is K2.2 (Nat.zero_lt_succ _) (ext_is K0.2 (Nat.zero_lt_succ _) n_a2))))))
    have f45 := (tN_107 K10.1.1 (ext_is K10.2 (Nat.zero_lt_succ _) (ext_is K9.2 (Nat.zero_lt_succ _) (ext_is K6.2 (Nat.zero_lt_succ _) (ext_is K5.2 (Nat.zero_lt_succ _) (ext_is K2.2 (Nat.zero_lt_succ _) (ext_is K0.2 (Nat.zero_lt_succ _) n_a0)))))))
    refine gd_b (gX59_take _ _ _ _ _ ⟨K10.1.1, K10.1.2⟩ f43 f44 f45 (h.2.2 c1_0).2.2.1) (fun K13 => ?_)
    have f14 := (ext_is K13.2 (Nat.zero_lt_succ _) (ext_is K10.2 (Nat.zero_lt_succ _) (ext_is K9.2 (Nat.zero_lt_succ _) (ext_is K6.2 (Nat.zero_lt_succ _) (ext_is K5.2 (Nat.zero_lt_succ _) (ext_is K2.2 (Nat.zero_lt_succ _) (ext_is K0.2 (Nat.zero_lt_succ _) n_a0)))))))
    refine gd_c f14 ?_
    have f15 := (ext_is K13.2 (Nat.zero_lt_succ _) (ext_is K10.2 (Nat.zero_lt_succ _) (ext_is K9.2 (Nat.zero_lt_succ _) (ext_is K6.2 (Nat.zero_lt_succ _) (ext_is K5.2 (Nat.zero_lt_succ _) (ext_is K2.2 (Nat.zero_lt_succ _) (ext_is K0.2 (Nat.zero_lt_succ _) n_a0)))))))
    refine gd_c f15 ?_
    have f16 := (ext_is K13.2 (Nat.zero_lt_succ _) (ext_is K10.2 (Nat.zero_lt_succ _) (ext_is K9.2 (Nat.zero_lt_succ _) (ext_is K6.2 (Nat.zero_lt_succ _) (ext_is K5.2 (Nat.zero_lt_succ _) (ext_is K2.2 (Nat.zero_lt_succ _) (ext_is K0.2 (Nat.zero_lt_succ _) n_a0)))))))
    refine gd_c f16 ?_
    have f17 := (ext_is K13.2 (Nat.zero_lt_succ _) (ext_is K10.2 (Nat.zero_lt_succ _) (ext_is K9.2 (Nat.zero_lt_succ _) (ext_is K6.2 (Nat.zero_lt_succ _) (ext_is K5.2 (Nat.zero_lt_succ _) (ext_is K2.2 (Nat.zero_lt_succ _) (ext_is K0.2 (Nat.zero_lt_succ _) n_a0)))))))
    refine gd_c f17 ?_
    have f18 := (ext_is K13.2 (Nat.zero_lt_succ _) (ext_is K10.2 (Nat.zero_lt_succ _) (ext_is K9.2 (Nat.zero_lt_succ _) (ext_is K6.2 (Nat.zero_lt_succ _) (ext_is K5.2 (Nat.zero_lt_succ _) (ext_is K2.2 (Nat.zero_lt_succ _) (ext_is K0.2 (Nat.zero_lt_succ _) n_a0)))))))
    refine gd_c f18 ?_
    have f19 := (tN_102 K13.1.1 (ext_is K13.2 (Nat.zero_lt_succ _) (ext_is K10.2 (Nat.zero_lt_succ _) (ext_is K9.2 (Nat.zero_lt_succ _) (ext_is K6.2 (Nat.zero_lt_succ _) (ext_is K5.2 (Nat.zero_lt_succ _) (ext_is K2.2 (Nat.zero_lt_succ _) (ext_is K0.2 (Nat.zero_lt_succ _) n_a0))))))))
    refine gd_c f19 ?_
    have f38 := (tN_105 K13.1.1 (ext_is K13.2 (Nat.zero_lt_succ _) (ext_is K10.2 (Nat.zero_lt_succ _) (ext_is K9.2 (Nat.zero_lt_succ _) (ext_is K6.2 (Nat.zero_lt_succ _) (ext_is K5.2 (Nat.zero_lt_succ _) (ext_is K2.2 (Nat.zero_lt_succ _) (ext_is K0.2 (Nat.zero_lt_succ _) n_a0))))))))
    have f39 := (tN_106 K13.1.1 (ext_is K13.2 (Nat.zero_lt_succ _) (ext_is K10.2 (Nat.zero_lt_succ _) (ext_is K9.2 (Nat.zero_lt_succ _) (ext_is K6.2 (Nat.zero_lt_succ _) (ext_is K5.2 (Nat.zero_lt_succ _) (ext_is K2.2 (Nat.zero_lt_succ _) (ext_is K0.2 (Nat.zero_lt_succ _) n_a0))))))))
    have f40 := (tN_94 K13.1.1 (ext_is K13.2 (Nat.zero_lt_succ _) (ext_is K10.2 (Nat.zero_lt_succ _) (ext_is K9.2 (Nat.zero_lt_succ _) (ext_is K6.2 (Nat.zero_lt_succ _) (ext_is K5.2 (Nat.zero_lt_succ _) (ext_is K2.2 (Nat.zero_lt_succ _) (ext_is K0.2 (Nat.zero_lt_succ _) n_a0))))))))
    have f41 := (tN_108 K13.1.1 (ext_is K13.2 (Nat.zero_lt_succ _) (ext_is K10.2 (Nat.zero_lt_succ _) (ext_is K9.2 (Nat.zero_lt_succ _) (ext_is K6.2 (Nat.zero_lt_succ _) (ext_is K5.2 (Nat.zero_lt_succ _) (ext_is K2.2 (Nat.zero_lt_succ _) (ext_is K0.2 (Nat.zero_lt_succ _) n_a0))))))))
    have f42 := (tN_102 K13.1.1 (ext_is K13.2 (Nat.zero_lt_succ _) (ext_is K10.2 (Nat.zero_lt_succ _) (ext_is K9.2 (Nat.zero_lt_succ _) (ext_is K6.2 (Nat.zero_lt_succ _) (ext_is K5.2 (Nat.zero_lt_succ _) (ext_is K2.2 (Nat.zero_lt_succ _) (ext_is K0.2 (Nat.zero_lt_succ _) n_a0))))))))
    refine gd_b (gX65_run _ _ _ _ _ _ _ ⟨K13.1.1, K13.1.2⟩ f38 f39 f40 f41 f42 (h.2.2 c1_0).2.2.2.1 (h.2.2 c1_0).2.2.2.2.1) (fun K20 => ?_)
    have f21 := (ext_is K20.2 (Nat.zero_lt_succ _) (ext_is K13.2 (Nat.zero_lt_succ _) (ext_is K10.2 (Nat.zero_lt_succ _) (ext_is K9.2 (Nat.zero_lt_succ _) (ext_is K6.2 (Nat.zero_lt_succ _) (ext_is K5.2 (Nat.zero_lt_succ _) (ext_is K2.2 (Nat.zero_lt_succ _) (ext_is K0.2 (Nat.zero_lt_succ _) n_a0))))))))
    refine gd_c f21 ?_
    have f22 := (ext_is K20.2 (Nat.zero_lt_succ _) (ext_is K13.2 (Nat.zero_lt_succ _) (ext_is K10.2 (Nat.zero_lt_succ _) (ext_is K9.2 (Nat.zero_lt_succ _) (ext_is K6.2 (Nat.zero_lt_succ _) (ext_is K5.2 (Nat.zero_lt_succ _) (ext_is K2.2 (Nat.zero_lt_succ _) (ext_is K0.2 (Nat.zero_lt_succ _) n_a0))))))))
    refine gd_c f22 ?_
    have f23 := (tN_105 K20.1.1 (ext_is K20.2 (Nat.zero_lt_succ _) (ext_is K13.2 (Nat.zero_lt_succ _) (ext_is K10.2 (Nat.zero_lt_succ _) (ext_is K9.2 (Nat.zero_lt_succ _) (ext_is K6.2 (Nat.zero_lt_succ _) (ext_is K5.2 (Nat.zero_lt_succ _) (ext_is K2.2 (Nat.zero_lt_succ _) (ext_is K0.2 (Nat.zero_lt_succ _) n_a0)))))))))
    refine gd_c f23 ?_
    have f36 := (tN_108 K20.1.1 (ext_is K20.2 (Nat.zero_lt_succ _) (ext_is K13.2 (Nat.zero_lt_succ _) (ext_is K10.2 (Nat.zero_lt_succ _) (ext_is K9.2 (Nat.zero_lt_succ _) (ext_is K6.2 (Nat.zero_lt_succ _) (ext_is K5.2 (Nat.zero_lt_succ _) (ext_is K2.2 (Nat.zero_lt_succ _) (ext_is K0.2 (Nat.zero_lt_succ _) n_a0)))))))))
    have f37 := (tN_105 K20.1.1 (ext_is K20.2 (Nat.zero_lt_succ _) (ext_is K13.2 (Nat.zero_lt_succ _) (ext_is K10.2 (Nat.zero_lt_succ _) (ext_is K9.2 (Nat.zero_lt_succ _) (ext_is K6.2 (Nat.zero_lt_succ _) (ext_is K5.2 (Nat.zero_lt_succ _) (ext_is K2.2 (Nat.zero_lt_succ _) (ext_is K0.2 (Nat.zero_lt_succ _) n_a0)))))))))
    refine gd_b (gX71_copy _ _ _ ⟨K20.1.1, K20.1.2⟩ f36 f37 ) (fun K24 => ?_)
    have f25 := (ext_is K24.2 (Nat.zero_lt_succ _) (ext_is K20.2 (Nat.zero_lt_succ _) (ext_is K13.2 (Nat.zero_lt_succ _) (ext_is K10.2 (Nat.zero_lt_succ _) (ext_is K9.2 (Nat.zero_lt_succ _) (ext_is K6.2 (Nat.zero_lt_succ _) (ext_is K5.2 (Nat.zero_lt_succ _) (ext_is K2.2 (Nat.zero_lt_succ _) (ext_is K0.2 (Nat.zero_lt_succ _) n_a0)))))))))
    refine gd_c f25 ?_
    have f26 := (tN_105 K24.1.1 (ext_is K24.2 (Nat.zero_lt_succ _) (ext_is K20.2 (Nat.zero_lt_succ _) (ext_is K13.2 (Nat.zero_lt_succ _) (ext_is K10.2 (Nat.zero_lt_succ _) (ext_is K9.2 (Nat.zero_lt_succ _) (ext_is K6.2 (Nat.zero_lt_succ _) (ext_is K5.2 (Nat.zero_lt_succ _) (ext_is K2.2 (Nat.zero_lt_succ _) (ext_is K0.2 (Nat.zero_lt_succ _) n_a0))))))))))
    refine gd_c f26 ?_
    refine gd_fi (fun c27_0 => ?_) (fun c27_0 => ?_)
    · have f28 := (tN_105 K24.1.1 (ext_is K24.2 (Nat.zero_lt_succ _) (ext_is K20.2 (Nat.zero_lt_succ _) (ext_is K13.2 (Nat.zero_lt_succ _) (ext_is K10.2 (Nat.zero_lt_succ _) (ext_is K9.2 (Nat.zero_lt_succ _) (ext_is K6.2 (Nat.zero_lt_succ _) (ext_is K5.2 (Nat.zero_lt_succ _) (ext_is K2.2 (Nat.zero_lt_succ _) (ext_is K0.2 (Nat.zero_lt_succ _) n_a0))))))))))
      have f29 := (ext_is K24.2 (Nat.zero_lt_succ _) (ext_is K20.2 (Nat.zero_lt_succ _) (ext_is K13.2 (Nat.zero_lt_succ _) (ext_is K10.2 (Nat.zero_lt_succ _) (ext_is K9.2 (Nat.zero_lt_succ _) (ext_is K6.2 (Nat.zero_lt_succ _) (ext_is K5.2 (Nat.zero_lt_succ _) (ext_is K2.2 (Nat.zero_lt_succ _) (ext_is K0.2 (Nat.zero_lt_succ _) n_a0)))))))))
      have f30 := ((h.2.2 c1_0).2.2.2.2.2.1 c27_0).1
      have f31 := (ext_is K24.2 (Nat.zero_lt_succ _) (ext_is K20.2 (Nat.zero_lt_succ _) (ext_is K13.2 (Nat.zero_lt_succ _) (ext_is K10.2 (Nat.zero_lt_succ _) (ext_is K9.2 (Nat.zero_lt_succ _) (ext_is K6.2 (Nat.zero_lt_succ _) (ext_is K5.2 (Nat.zero_lt_succ _) (ext_is K2.2 (Nat.zero_lt_succ _) (ext_is K0.2 (Nat.zero_lt_succ _) n_a2)))))))))
      exact gd_tR (ext_tr K0.2 (ext_tr K2.2 (ext_tr K5.2 (ext_tr K6.2 (ext_tr K9.2 (ext_tr K10.2 (ext_tr K13.2 (ext_tr K20.2 K24.2)))))))) (gX59_fuse_116 _ _ _ _ _ _ _ _ _ ⟨K24.1.1, K24.1.2⟩ f28 f29 f30 f31 ((h.2.2 c1_0).2.2.2.2.2.1 c27_0).2)
    · have f32 := (tN_105 K24.1.1 (ext_is K24.2 (Nat.zero_lt_succ _) (ext_is K20.2 (Nat.zero_lt_succ _) (ext_is K13.2 (Nat.zero_lt_succ _) (ext_is K10.2 (Nat.zero_lt_succ _) (ext_is K9.2 (Nat.zero_lt_succ _) (ext_is K6.2 (Nat.zero_lt_succ _) (ext_is K5.2 (Nat.zero_lt_succ _) (ext_is K2.2 (Nat.zero_lt_succ _) (ext_is K0.2 (Nat.zero_lt_succ _) n_a0))))))))))
      have f33 := (ext_is K24.2 (Nat.zero_lt_succ _) (ext_is K20.2 (Nat.zero_lt_succ _) (ext_is K13.2 (Nat.zero_lt_succ _) (ext_is K10.2 (Nat.zero_lt_succ _) (ext_is K9.2 (Nat.zero_lt_succ _) (ext_is K6.2 (Nat.zero_lt_succ _) (ext_is K5.2 (Nat.zero_lt_succ _) (ext_is K2.2 (Nat.zero_lt_succ _) (ext_is K0.2 (Nat.zero_lt_succ _) n_a0)))))))))
      have f34 := ((h.2.2 c1_0).2.2.2.2.2.2 c27_0).1
      have f35 := (ext_is K24.2 (Nat.zero_lt_succ _) (ext_is K20.2 (Nat.zero_lt_succ _) (ext_is K13.2 (Nat.zero_lt_succ _) (ext_is K10.2 (Nat.zero_lt_succ _) (ext_is K9.2 (Nat.zero_lt_succ _) (ext_is K6.2 (Nat.zero_lt_succ _) (ext_is K5.2 (Nat.zero_lt_succ _) (ext_is K2.2 (Nat.zero_lt_succ _) (ext_is K0.2 (Nat.zero_lt_succ _) n_a2)))))))))
      exact gd_tR (ext_tr K0.2 (ext_tr K2.2 (ext_tr K5.2 (ext_tr K6.2 (ext_tr K9.2 (ext_tr K10.2 (ext_tr K13.2 (ext_tr K20.2 K24.2)))))))) (gX59_fuse_116 _ _ _ _ _ _ _ _ _ ⟨K24.1.1, K24.1.2⟩ f32 f33 f34 f35 ((h.2.2 c1_0).2.2.2.2.2.2 c27_0).2)
noncomputable def GX59_fuse (a0 : Nat) (a1 : Int32) (a2 : Nat) (a3 : Int32) (M : FM) : Int32 × FM := GX59_fuse_0 a0 a1 a2 a3 M
def HX59_fuse (a0 : Nat) (a1 : Int32) (a2 : Nat) (a3 : Int32) (M : FM) : Prop := HX59_fuse_0 a0 a1 a2 a3 M
theorem gX59_fuse (a0 : Nat) (a1 : Int32) (a2 : Nat) (a3 : Int32) (M : FM) (T : Ty M) (n_a0 : fm_is M 32 32 a0 = true) (n_a2 : fm_is M 33 33 a2 = true) (h : HX59_fuse a0 a1 a2 a3 M) : gd (FX59_fuse fN a0 a1 a2 a3 M) (GX59_fuse a0 a1 a2 a3 M) (OkR M) := gX59_fuse_0 a0 a1 a2 a3 M T n_a0 n_a2 h
noncomputable def GX59_run_92 (s0 : Int32) (M : FM) : Int32 × FM :=
  (s0, M)
theorem gX59_run_92 (s0 : Int32) (M : FM) (T : Ty M) : gd (FX59_run_92 fN s0 M) (GX59_run_92 s0 M) (OkR M) := by
  delta FX59_run_92 BX59_run_92
  exact ⟨rfl, ⟨T.1, T.2⟩, (ext_r _)⟩
noncomputable def GX59_run_91 (M : FM) : Int32 × FM :=
  GX59_run_92 (Int32.ofInt (-1)) M
theorem gX59_run_91 (M : FM) (T : Ty M) : gd (FX59_run_91 fN M) (GX59_run_91 M) (OkR M) := by
  delta FX59_run_91 BX59_run_91
  exact gd_tR (ext_r _) (gX59_run_92 _ _ ⟨T.1, T.2⟩  )
noncomputable def GX59_run_0 (a0 : Nat) (a1 : Int32) (a2 : Int64) (M : FM) : Int32 × FM :=
  let r1 : Int32 × FM := GX59_part a1 (Int32.ofInt 0) (Int32.ofInt 7) M
  let r2 : Int32 × FM := GX59_part a1 (Int32.ofInt 25) (Int32.ofInt 2) r1.2
  fi (r2.1 ≤ (Int32.ofInt 1)) (
    fi (r1.1 = (Int32.ofInt 83)) (
      let x3 : Nat := (r2.2.2.2 98 a0 0)
      let r4 : Int32 × FM := GX59_operate a0 a1 (r2.2.2.2 3 x3 r2.1.toNatClampNeg) a2 r2.2
      (r4.1, r4.2)) (
      fi (r1.1 < (Int32.ofInt 67)) (
        GX59_run_91 r2.2) (
        fi ((Int32.ofInt 79) < r1.1) (
          GX59_run_91 r2.2) (
          fi ((r1.1 &&& (Int32.ofInt 3)) = (Int32.ofInt 3)) (
            let x5 : Nat := (r2.2.2.2 98 a0 0)
            let r6 : Int32 × FM := GX59_fuse a0 a1 (r2.2.2.2 3 x5 r2.1.toNatClampNeg) ((r1.1 - (Int32.ofInt 67)) >>> ((Int32.ofInt 2) &&& 31)) r2.2
            GX59_run_92 r6.1 r6.2) (
            GX59_run_91 r2.2))))) (
    ((Int32.ofInt (-1)), r2.2))
def HX59_run_0 (a0 : Nat) (a1 : Int32) (a2 : Int64) (M : FM) : Prop := let r1 : Int32 × FM := GX59_part a1 (Int32.ofInt 0) (Int32.ofInt 7) M; let r2 : Int32 × FM := GX59_part a1 (Int32.ofInt 25) (Int32.ofInt 2) r1.2; ((r2.1 ≤ (Int32.ofInt 1) → ((r1.1 = (Int32.ofInt 83) → let x3 : Nat := (r2.2.2.2 98 a0 0); (fm_in r2.2 x3 r2.1 = true ∧ (HX59_operate a0 a1 (r2.2.2.2 3 x3 r2.1.toNatClampNeg) a2 r2.2 ∧ True))) ∧ (¬ (r1.1 = (Int32.ofInt 83)) → ((r1.1 < (Int32.ofInt 67) → True) ∧ (¬ (r1.1 < (Int32.ofInt 67)) → (((Int32.ofInt 79) < r1.1 → True) ∧ (¬ ((Int32.ofInt 79) < r1.1) → (((r1.1 &&& (Int32.ofInt 3)) = (Int32.ofInt 3) → let x5 : Nat := (r2.2.2.2 98 a0 0); (fm_in r2.2 x5 r2.1 = true ∧ (HX59_fuse a0 a1 (r2.2.2.2 3 x5 r2.1.toNatClampNeg) ((r1.1 - (Int32.ofInt 67)) >>> ((Int32.ofInt 2) &&& 31)) r2.2 ∧ True))) ∧ (¬ ((r1.1 &&& (Int32.ofInt 3)) = (Int32.ofInt 3)) → True))))))))) ∧ (¬ (r2.1 ≤ (Int32.ofInt 1)) → True))
theorem gX59_run_0 (a0 : Nat) (a1 : Int32) (a2 : Int64) (M : FM) (T : Ty M) (n_a0 : fm_is M 32 32 a0 = true) (h : HX59_run_0 a0 a1 a2 M) : gd (FX59_run_0 fN a0 a1 a2 M) (GX59_run_0 a0 a1 a2 M) (OkR M) := by
  delta FX59_run_0 BX59_run_0
  refine gd_b (gX59_part _ _ _ _ ⟨T.1, T.2⟩  ) (fun K0 => ?_)
  refine gd_b (gX59_part _ _ _ _ ⟨K0.1.1, K0.1.2⟩  ) (fun K1 => ?_)
  refine gd_fi (fun c2_0 => ?_) (fun c2_0 => ?_)
  · refine gd_fi (fun c3_0 => ?_) (fun c3_0 => ?_)
    · have f4 := (ext_is K1.2 (Nat.zero_lt_succ _) (ext_is K0.2 (Nat.zero_lt_succ _) n_a0))
      refine gd_c f4 ?_
      have f9 := (fm_w (lo' := 910) (hi' := 990) rfl rfl (tN_98 K1.1.1 (ext_is K1.2 (Nat.zero_lt_succ _) (ext_is K0.2 (Nat.zero_lt_succ _) n_a0))))
      have f10 := ((h.1 c2_0).1 c3_0).1
      refine gd_c ⟨f9, f10⟩ ?_
      have f5 := (ext_is K1.2 (Nat.zero_lt_succ _) (ext_is K0.2 (Nat.zero_lt_succ _) n_a0))
      refine gd_c f5 ?_
      have f7 := (ext_is K1.2 (Nat.zero_lt_succ _) (ext_is K0.2 (Nat.zero_lt_succ _) n_a0))
      have f8 := (tE_912 K1.1.1 (tN_98 K1.1.1 (ext_is K1.2 (Nat.zero_lt_succ _) (ext_is K0.2 (Nat.zero_lt_succ _) n_a0))) ((h.1 c2_0).1 c3_0).1)
      refine gd_b (gX59_operate _ _ _ _ _ ⟨K1.1.1, K1.1.2⟩ f7 f8 ((h.1 c2_0).1 c3_0).2.1) (fun K6 => ?_)
      exact ⟨rfl, ⟨K6.1.1, K6.1.2⟩, (ext_tr K0.2 (ext_tr K1.2 K6.2))⟩
    · refine gd_fi (fun c11_0 => ?_) (fun c11_0 => ?_)
      · exact gd_tR (ext_tr K0.2 K1.2) (gX59_run_91  _ ⟨K1.1.1, K1.1.2⟩  )
      · refine gd_fi (fun c12_0 => ?_) (fun c12_0 => ?_)
        · exact gd_tR (ext_tr K0.2 K1.2) (gX59_run_91  _ ⟨K1.1.1, K1.1.2⟩  )
        · refine gd_fi (fun c13_0 => ?_) (fun c13_0 => ?_)
          · have f14 := (ext_is K1.2 (Nat.zero_lt_succ _) (ext_is K0.2 (Nat.zero_lt_succ _) n_a0))
            refine gd_c f14 ?_
            have f19 := (fm_w (lo' := 910) (hi' := 990) rfl rfl (tN_98 K1.1.1 (ext_is K1.2 (Nat.zero_lt_succ _) (ext_is K0.2 (Nat.zero_lt_succ _) n_a0))))
            have f20 := (((((h.1 c2_0).2 c3_0).2 c11_0).2 c12_0).1 c13_0).1
            refine gd_c ⟨f19, f20⟩ ?_
            have f15 := (ext_is K1.2 (Nat.zero_lt_succ _) (ext_is K0.2 (Nat.zero_lt_succ _) n_a0))
            refine gd_c f15 ?_
            have f17 := (ext_is K1.2 (Nat.zero_lt_succ _) (ext_is K0.2 (Nat.zero_lt_succ _) n_a0))
            have f18 := (tE_912 K1.1.1 (tN_98 K1.1.1 (ext_is K1.2 (Nat.zero_lt_succ _) (ext_is K0.2 (Nat.zero_lt_succ _) n_a0))) (((((h.1 c2_0).2 c3_0).2 c11_0).2 c12_0).1 c13_0).1)
            refine gd_b (gX59_fuse _ _ _ _ _ ⟨K1.1.1, K1.1.2⟩ f17 f18 (((((h.1 c2_0).2 c3_0).2 c11_0).2 c12_0).1 c13_0).2.1) (fun K16 => ?_)
            exact gd_tR (ext_tr K0.2 (ext_tr K1.2 K16.2)) (gX59_run_92 _ _ ⟨K16.1.1, K16.1.2⟩  )
          · exact gd_tR (ext_tr K0.2 K1.2) (gX59_run_91  _ ⟨K1.1.1, K1.1.2⟩  )
  · exact ⟨rfl, ⟨K1.1.1, K1.1.2⟩, (ext_tr K0.2 K1.2)⟩
noncomputable def GX59_run (a0 : Nat) (a1 : Int32) (a2 : Int64) (M : FM) : Int32 × FM := GX59_run_0 a0 a1 a2 M
def HX59_run (a0 : Nat) (a1 : Int32) (a2 : Int64) (M : FM) : Prop := HX59_run_0 a0 a1 a2 M
theorem gX59_run (a0 : Nat) (a1 : Int32) (a2 : Int64) (M : FM) (T : Ty M) (n_a0 : fm_is M 32 32 a0 = true) (h : HX59_run a0 a1 a2 M) : gd (FX59_run fN a0 a1 a2 M) (GX59_run a0 a1 a2 M) (OkR M) := gX59_run_0 a0 a1 a2 M T n_a0 h
noncomputable def GX46_floating_140 (a2 : Int32) (M : FM) : Int32 × FM :=
  (a2, M)
theorem gX46_floating_140 (a2 : Int32) (M : FM) (T : Ty M) (z_a2 : a2 = 0 ∨ a2 = 1) : gd (FX46_floating_140 fN a2 M) (GX46_floating_140 a2 M) (OkZ M) := by
  delta FX46_floating_140 BX46_floating_140
  exact gd_z z_a2 ⟨T.1, T.2⟩ (ext_r _) rfl
noncomputable def GX46_floating_110 (a0 : Nat) (a2 : Int32) (M : FM) : Int32 × FM :=
  let x1 : Nat := (M.2.2 212 a0 0)
  let r2 : Int32 × FM := GX59_isWritten x1 M
  fi (r2.1 = 0) (
    GX46_floating_140 a2 r2.2) (
    let x3 : Nat := (r2.2.2.2 213 a0 0)
    let x4 : Nat := (r2.2.2.2 27 x3 0)
    let M5 : FM := GX78_putTwo x4 (Int32.ofInt 13) (Int32.ofInt 3) r2.2
    let x6 : Nat := (M5.2.2 212 a0 0)
    let M7 : FM := GX59_calm x6 M5
    GX46_floating_140 a2 M7)
theorem gX46_floating_110 (a0 : Nat) (a2 : Int32) (M : FM) (T : Ty M) (n_a0 : fm_is M 75 75 a0 = true) (z_a2 : a2 = 0 ∨ a2 = 1) : gd (FX46_floating_110 fN a0 a2 M) (GX46_floating_110 a0 a2 M) (OkZ M) := by
  delta FX46_floating_110 BX46_floating_110
  refine gd_c n_a0 ?_
  have f0 := (tN_212 T.1 n_a0)
  refine gd_c f0 ?_
  have f12 := (tN_212 T.1 n_a0)
  refine gd_b (gX59_isWritten _ _ ⟨T.1, T.2⟩ f12 ) (fun K1 => ?_)
  refine gd_fi (fun c2_0 => ?_) (fun c2_0 => ?_)
  · exact gd_tZ K1.2.1 (gX46_floating_140 _ _ ⟨K1.1.1, K1.1.2⟩ z_a2 )
  · have f3 := (ext_is K1.2.1 (Nat.zero_lt_succ _) n_a0)
    refine gd_c f3 ?_
    have f4 := (tN_213 K1.1.1 (ext_is K1.2.1 (Nat.zero_lt_succ _) n_a0))
    refine gd_c f4 ?_
    have f5 := (tN_27 K1.1.1 (tN_213 K1.1.1 (ext_is K1.2.1 (Nat.zero_lt_succ _) n_a0)))
    refine gd_c f5 ?_
    have f11 := (tN_27 K1.1.1 (tN_213 K1.1.1 (ext_is K1.2.1 (Nat.zero_lt_succ _) n_a0)))
    refine gd_b (gX78_putTwo _ _ _ _ ⟨K1.1.1, K1.1.2⟩ f11 ) (fun K6 => ?_)
    have f7 := (ext_is K6.2 (Nat.zero_lt_succ _) (ext_is K1.2.1 (Nat.zero_lt_succ _) n_a0))
    refine gd_c f7 ?_
    have f8 := (tN_212 K6.1.1 (ext_is K6.2 (Nat.zero_lt_succ _) (ext_is K1.2.1 (Nat.zero_lt_succ _) n_a0)))
    refine gd_c f8 ?_
    have f10 := (tN_212 K6.1.1 (ext_is K6.2 (Nat.zero_lt_succ _) (ext_is K1.2.1 (Nat.zero_lt_succ _) n_a0)))
    refine gd_b (gX59_calm _ _ ⟨K6.1.1, K6.1.2⟩ f10 ) (fun K9 => ?_)
    exact gd_tZ (ext_tr K1.2.1 (ext_tr K6.2 K9.2)) (gX46_floating_140 _ _ ⟨K9.1.1, K9.1.2⟩ z_a2 )
noncomputable def GX46_floating_97 (a0 : Nat) (s0 : Nat) (s1 : Int32) (M : FM) : Int32 × FM :=
  let x1 : Nat := (M.2.2 212 a0 0)
  let r2 : Int32 × FM := GX47_finish s0 s1 (M.2.1 97 x1 0) M
  GX46_floating_110 a0 (Int32.ofInt 1) r2.2
def HX46_floating_97 (a0 : Nat) (s0 : Nat) (s1 : Int32) (M : FM) : Prop := let x1 : Nat := (M.2.2 212 a0 0); (HX47_finish s0 s1 (M.2.1 97 x1 0) M ∧ True)
theorem gX46_floating_97 (a0 : Nat) (s0 : Nat) (s1 : Int32) (M : FM) (T : Ty M) (n_a0 : fm_is M 75 75 a0 = true) (n_s0 : fm_is M 63 63 s0 = true) (h : HX46_floating_97 a0 s0 s1 M) : gd (FX46_floating_97 fN a0 s0 s1 M) (GX46_floating_97 a0 s0 s1 M) (OkZ M) := by
  delta FX46_floating_97 BX46_floating_97
  refine gd_c n_a0 ?_
  have f0 := (tN_212 T.1 n_a0)
  refine gd_c f0 ?_
  refine gd_c n_s0 ?_
  refine gd_b (gX47_finish _ _ _ _ ⟨T.1, T.2⟩ n_s0 h.1) (fun K1 => ?_)
  have f2 := (ext_is K1.2 (Nat.zero_lt_succ _) n_a0)
  exact gd_tZ K1.2 (gX46_floating_110 _ _ _ ⟨K1.1.1, K1.1.2⟩ f2 fz_1 )
noncomputable def GX46_floating_0 (a0 : Nat) (M : FM) : Int32 × FM :=
  let x1 : Nat := (M.2.2 213 a0 0)
  let r2 : Int32 × FM := GX74_floats x1 M
  fi (r2.1 = 0) (
    let r3 : Int32 × FM := GX46_illegal a0 r2.2
    (r3.1, r3.2)) (
    let x4 : Nat := (r2.2.2.2 211 a0 0)
    let r5 : Int64 × FM := GX47_wanted x4 (Int32.ofInt 3) r2.2
    let x6 : Int32 := r5.1.toInt32
    fi (x6 = (Int32.ofInt 7)) (
      let r7 : Int32 × FM := GX46_floatLoad a0 r5.2
      GX46_floating_110 a0 r7.1 r7.2) (
      fi (x6 = (Int32.ofInt 39)) (
        let r8 : Int32 × FM := GX46_floatStore a0 r5.2
        GX46_floating_110 a0 r8.1 r8.2) (
        let x9 : Nat := (r5.2.2.2 211 a0 0)
        let r10 : Int64 × FM := GX47_wanted x9 (Int32.ofInt 2) r5.2
        let x11 : Nat := (r5.2.2.2 212 a0 0)
        let r12 : Int32 × FM := GX59_run x11 (r5.2.1 219 a0 0) r10.1 r10.2
        fi (r12.1 = (Int32.ofInt (-1))) (
          let r13 : Int32 × FM := GX46_illegal a0 r12.2
          (r13.1, r13.2)) (
          fi (r12.1 = (Int32.ofInt 1)) (
            GX46_floating_97 a0 (r12.2.2.2 211 a0 0) (Int32.ofInt 1) r12.2) (
            GX46_floating_97 a0 (r12.2.2.2 211 a0 0) (Int32.ofInt 0) r12.2)))))
def HX46_floating_0 (a0 : Nat) (M : FM) : Prop := let x1 : Nat := (M.2.2 213 a0 0); let r2 : Int32 × FM := GX74_floats x1 M; ((r2.1 = 0 → True) ∧ (¬ (r2.1 = 0) → let x4 : Nat := (r2.2.2.2 211 a0 0); (HX47_wanted x4 (Int32.ofInt 3) r2.2 ∧ let r5 : Int64 × FM := GX47_wanted x4 (Int32.ofInt 3) r2.2; let x6 : Int32 := r5.1.toInt32; ((x6 = (Int32.ofInt 7) → (HX46_floatLoad a0 r5.2 ∧ True)) ∧ (¬ (x6 = (Int32.ofInt 7)) → ((x6 = (Int32.ofInt 39) → (HX46_floatStore a0 r5.2 ∧ True)) ∧ (¬ (x6 = (Int32.ofInt 39)) → let x9 : Nat := (r5.2.2.2 211 a0 0); (HX47_wanted x9 (Int32.ofInt 2) r5.2 ∧ let r10 : Int64 × FM := GX47_wanted x9 (Int32.ofInt 2) r5.2; let x11 : Nat := (r5.2.2.2 212 a0 0); (HX59_run x11 (r5.2.1 219 a0 0) r10.1 r10.2 ∧ let r12 : Int32 × FM := GX59_run x11 (r5.2.1 219 a0 0) r10.1 r10.2; ((r12.1 = (Int32.ofInt (-1)) → True) ∧ (¬ (r12.1 = (Int32.ofInt (-1))) → ((r12.1 = (Int32.ofInt 1) → HX46_floating_97 a0 (r12.2.2.2 211 a0 0) (Int32.ofInt 1) r12.2) ∧ (¬ (r12.1 = (Int32.ofInt 1)) → HX46_floating_97 a0 (r12.2.2.2 211 a0 0) (Int32.ofInt 0) r12.2)))))))))))))
theorem gX46_floating_0 (a0 : Nat) (M : FM) (T : Ty M) (n_a0 : fm_is M 75 75 a0 = true) (h : HX46_floating_0 a0 M) : gd (FX46_floating_0 fN a0 M) (GX46_floating_0 a0 M) (OkZ M) := by
  delta FX46_floating_0 BX46_floating_0
  refine gd_c n_a0 ?_
  have f0 := (tN_213 T.1 n_a0)
  refine gd_c f0 ?_
  have f39 := (tN_213 T.1 n_a0)
  refine gd_b (gX74_floats _ _ ⟨T.1, T.2⟩ f39 ) (fun K1 => ?_)
  refine gd_fi (fun c2_0 => ?_) (fun c2_0 => ?_)
  · have f3 := (ext_is K1.2.1 (Nat.zero_lt_succ _) n_a0)
    refine gd_c f3 ?_
    have f5 := (ext_is K1.2.1 (Nat.zero_lt_succ _) n_a0)
    refine gd_b (gX46_illegal _ _ ⟨K1.1.1, K1.1.2⟩ f5 ) (fun K4 => ?_)
    exact gd_z K4.2.2 ⟨K4.1.1, K4.1.2⟩ (ext_tr K1.2.1 K4.2.1) rfl
  · have f6 := (ext_is K1.2.1 (Nat.zero_lt_succ _) n_a0)
    refine gd_c f6 ?_
    have f7 := (tN_211 K1.1.1 (ext_is K1.2.1 (Nat.zero_lt_succ _) n_a0))
    refine gd_c f7 ?_
    have f38 := (tN_211 K1.1.1 (ext_is K1.2.1 (Nat.zero_lt_succ _) n_a0))
    refine gd_b (gX47_wanted _ _ _ ⟨K1.1.1, K1.1.2⟩ f38 (h.2 c2_0).1) (fun K8 => ?_)
    refine gd_fi (fun c9_0 => ?_) (fun c9_0 => ?_)
    · have f10 := (ext_is K8.2 (Nat.zero_lt_succ _) (ext_is K1.2.1 (Nat.zero_lt_succ _) n_a0))
      refine gd_c f10 ?_
      have f13 := (ext_is K8.2 (Nat.zero_lt_succ _) (ext_is K1.2.1 (Nat.zero_lt_succ _) n_a0))
      refine gd_b (gX46_floatLoad _ _ ⟨K8.1.1, K8.1.2⟩ f13 ((h.2 c2_0).2.1 c9_0).1) (fun K11 => ?_)
      have f12 := (ext_is K11.2.1 (Nat.zero_lt_succ _) (ext_is K8.2 (Nat.zero_lt_succ _) (ext_is K1.2.1 (Nat.zero_lt_succ _) n_a0)))
      exact gd_tZ (ext_tr K1.2.1 (ext_tr K8.2 K11.2.1)) (gX46_floating_110 _ _ _ ⟨K11.1.1, K11.1.2⟩ f12 K11.2.2 )
    · refine gd_fi (fun c14_0 => ?_) (fun c14_0 => ?_)
      · have f15 := (ext_is K8.2 (Nat.zero_lt_succ _) (ext_is K1.2.1 (Nat.zero_lt_succ _) n_a0))
        refine gd_c f15 ?_
        have f18 := (ext_is K8.2 (Nat.zero_lt_succ _) (ext_is K1.2.1 (Nat.zero_lt_succ _) n_a0))
        refine gd_b (gX46_floatStore _ _ ⟨K8.1.1, K8.1.2⟩ f18 (((h.2 c2_0).2.2 c9_0).1 c14_0).1) (fun K16 => ?_)
        have f17 := (ext_is K16.2.1 (Nat.zero_lt_succ _) (ext_is K8.2 (Nat.zero_lt_succ _) (ext_is K1.2.1 (Nat.zero_lt_succ _) n_a0)))
        exact gd_tZ (ext_tr K1.2.1 (ext_tr K8.2 K16.2.1)) (gX46_floating_110 _ _ _ ⟨K16.1.1, K16.1.2⟩ f17 K16.2.2 )
      · have f19 := (ext_is K8.2 (Nat.zero_lt_succ _) (ext_is K1.2.1 (Nat.zero_lt_succ _) n_a0))
        refine gd_c f19 ?_
        have f20 := (ext_is K8.2 (Nat.zero_lt_succ _) (ext_is K1.2.1 (Nat.zero_lt_succ _) n_a0))
        refine gd_c f20 ?_
        have f21 := (ext_is K8.2 (Nat.zero_lt_succ _) (ext_is K1.2.1 (Nat.zero_lt_succ _) n_a0))
        refine gd_c f21 ?_
        have f22 := (tN_211 K8.1.1 (ext_is K8.2 (Nat.zero_lt_succ _) (ext_is K1.2.1 (Nat.zero_lt_succ _) n_a0)))
        refine gd_c f22 ?_
        have f37 := (tN_211 K8.1.1 (ext_is K8.2 (Nat.zero_lt_succ _) (ext_is K1.2.1 (Nat.zero_lt_succ _) n_a0)))
        refine gd_b (gX47_wanted _ _ _ ⟨K8.1.1, K8.1.2⟩ f37 (((h.2 c2_0).2.2 c9_0).2 c14_0).1) (fun K23 => ?_)
        have f24 := (ext_is K23.2 (Nat.zero_lt_succ _) (tN_212 K8.1.1 (ext_is K8.2 (Nat.zero_lt_succ _) (ext_is K1.2.1 (Nat.zero_lt_succ _) n_a0))))
        refine gd_c f24 ?_
        have f36 := (ext_is K23.2 (Nat.zero_lt_succ _) (tN_212 K8.1.1 (ext_is K8.2 (Nat.zero_lt_succ _) (ext_is K1.2.1 (Nat.zero_lt_succ _) n_a0))))
        refine gd_b (gX59_run _ _ _ _ ⟨K23.1.1, K23.1.2⟩ f36 (((h.2 c2_0).2.2 c9_0).2 c14_0).2.1) (fun K25 => ?_)
        refine gd_fi (fun c26_0 => ?_) (fun c26_0 => ?_)
        · have f27 := (ext_is K25.2 (Nat.zero_lt_succ _) (ext_is K23.2 (Nat.zero_lt_succ _) (ext_is K8.2 (Nat.zero_lt_succ _) (ext_is K1.2.1 (Nat.zero_lt_succ _) n_a0))))
          refine gd_c f27 ?_
          have f29 := (ext_is K25.2 (Nat.zero_lt_succ _) (ext_is K23.2 (Nat.zero_lt_succ _) (ext_is K8.2 (Nat.zero_lt_succ _) (ext_is K1.2.1 (Nat.zero_lt_succ _) n_a0))))
          refine gd_b (gX46_illegal _ _ ⟨K25.1.1, K25.1.2⟩ f29 ) (fun K28 => ?_)
          exact gd_z K28.2.2 ⟨K28.1.1, K28.1.2⟩ (ext_tr K1.2.1 (ext_tr K8.2 (ext_tr K23.2 (ext_tr K25.2 K28.2.1)))) rfl
        · have f30 := (ext_is K25.2 (Nat.zero_lt_succ _) (ext_is K23.2 (Nat.zero_lt_succ _) (ext_is K8.2 (Nat.zero_lt_succ _) (ext_is K1.2.1 (Nat.zero_lt_succ _) n_a0))))
          refine gd_c f30 ?_
          refine gd_fi (fun c31_0 => ?_) (fun c31_0 => ?_)
          · have f32 := (ext_is K25.2 (Nat.zero_lt_succ _) (ext_is K23.2 (Nat.zero_lt_succ _) (ext_is K8.2 (Nat.zero_lt_succ _) (ext_is K1.2.1 (Nat.zero_lt_succ _) n_a0))))
            have f33 := (tN_211 K25.1.1 (ext_is K25.2 (Nat.zero_lt_succ _) (ext_is K23.2 (Nat.zero_lt_succ _) (ext_is K8.2 (Nat.zero_lt_succ _) (ext_is K1.2.1 (Nat.zero_lt_succ _) n_a0)))))
            exact gd_tZ (ext_tr K1.2.1 (ext_tr K8.2 (ext_tr K23.2 K25.2))) (gX46_floating_97 _ _ _ _ ⟨K25.1.1, K25.1.2⟩ f32 f33 (((((h.2 c2_0).2.2 c9_0).2 c14_0).2.2.2 c26_0).1 c31_0))
          · have f34 := (ext_is K25.2 (Nat.zero_lt_succ _) (ext_is K23.2 (Nat.zero_lt_succ _) (ext_is K8.2 (Nat.zero_lt_succ _) (ext_is K1.2.1 (Nat.zero_lt_succ _) n_a0))))
            have f35 := (tN_211 K25.1.1 (ext_is K25.2 (Nat.zero_lt_succ _) (ext_is K23.2 (Nat.zero_lt_succ _) (ext_is K8.2 (Nat.zero_lt_succ _) (ext_is K1.2.1 (Nat.zero_lt_succ _) n_a0)))))
            exact gd_tZ (ext_tr K1.2.1 (ext_tr K8.2 (ext_tr K23.2 K25.2))) (gX46_floating_97 _ _ _ _ ⟨K25.1.1, K25.1.2⟩ f34 f35 (((((h.2 c2_0).2.2 c9_0).2 c14_0).2.2.2 c26_0).2 c31_0))
noncomputable def GX46_floating (a0 : Nat) (M : FM) : Int32 × FM := GX46_floating_0 a0 M
def HX46_floating (a0 : Nat) (M : FM) : Prop := HX46_floating_0 a0 M
theorem gX46_floating (a0 : Nat) (M : FM) (T : Ty M) (n_a0 : fm_is M 75 75 a0 = true) (h : HX46_floating a0 M) : gd (FX46_floating fN a0 M) (GX46_floating a0 M) (OkZ M) := gX46_floating_0 a0 M T n_a0 h
noncomputable def GX74_backFromMachine_0 (a0 : Nat) (M : FM) : FM :=
  let x1 : Nat := (M.2.2 27 a0 0)
  let r2 : Int32 × FM := GX78_has x1 (Int32.ofInt 7) M
  let x3 : Nat := (M.2.2 27 a0 0)
  let M4 : FM := GX78_put x3 (Int32.ofInt 3) r2.1 r2.2
  let x5 : Nat := (M4.2.2 27 a0 0)
  let M6 : FM := GX78_put x5 (Int32.ofInt 7) (Int32.ofInt 1) M4
  let x7 : Nat := (M6.2.2 27 a0 0)
  let r8 : Int32 × FM := GX78_two x7 (Int32.ofInt 11) M6
  let M9 : FM := fm_sI r8.2 37 a0 0 r8.1
  let x10 : Nat := (M9.2.2 27 a0 0)
  let M11 : FM := GX78_putTwo x10 (Int32.ofInt 11) (Int32.ofInt 0) M9
  let x12 : Nat := (M11.2.2 32 a0 0)
  let x13 : Nat := (M11.2.2 51 x12 0)
  let r14 : Int64 × FM := (fi (fm_is M11 14 14 x13 = true) (GX77_show x13 M11) ((fi (fm_is M11 15 15 x13 = true) (GX79_show x13 M11) ((fi (fm_is M11 16 16 x13 = true) (GX78_show x13 M11) (GX77_show x13 M11))))))
  let M15 : FM := fm_sL r14.2 39 a0 0 r14.1
  M15
theorem gX74_backFromMachine_0 (a0 : Nat) (M : FM) (T : Ty M) (n_a0 : fm_is M 12 12 a0 = true) : gd (FX74_backFromMachine_0 a0 M) (GX74_backFromMachine_0 a0 M) (OkV M) := by
  delta FX74_backFromMachine_0 BX74_backFromMachine_0
  refine gd_c n_a0 ?_
  refine gd_c n_a0 ?_
  have f0 := (tN_27 T.1 n_a0)
  refine gd_c f0 ?_
  have f26 := (tN_27 T.1 n_a0)
  refine gd_b (gX78_has _ _ _ ⟨T.1, T.2⟩ f26 ) (fun K1 => ?_)
  have f2 := (ext_is K1.2.1 (Nat.zero_lt_succ _) (tN_27 T.1 n_a0))
  refine gd_c f2 ?_
  have f25 := (ext_is K1.2.1 (Nat.zero_lt_succ _) (tN_27 T.1 n_a0))
  refine gd_b (gX78_put _ _ _ _ ⟨K1.1.1, K1.1.2⟩ f25 ) (fun K3 => ?_)
  have f4 := (ext_is K3.2 (Nat.zero_lt_succ _) (ext_is K1.2.1 (Nat.zero_lt_succ _) n_a0))
  refine gd_c f4 ?_
  have f5 := (tN_27 K3.1.1 (ext_is K3.2 (Nat.zero_lt_succ _) (ext_is K1.2.1 (Nat.zero_lt_succ _) n_a0)))
  refine gd_c f5 ?_
  have f24 := (tN_27 K3.1.1 (ext_is K3.2 (Nat.zero_lt_succ _) (ext_is K1.2.1 (Nat.zero_lt_succ _) n_a0)))
  refine gd_b (gX78_put _ _ _ _ ⟨K3.1.1, K3.1.2⟩ f24 ) (fun K6 => ?_)
  have f7 := (ext_is K6.2 (Nat.zero_lt_succ _) (ext_is K3.2 (Nat.zero_lt_succ _) (ext_is K1.2.1 (Nat.zero_lt_succ _) n_a0)))
  refine gd_c f7 ?_
  have f8 := (tN_27 K6.1.1 (ext_is K6.2 (Nat.zero_lt_succ _) (ext_is K3.2 (Nat.zero_lt_succ _) (ext_is K1.2.1 (Nat.zero_lt_succ _) n_a0))))
  refine gd_c f8 ?_
  have f23 := (tN_27 K6.1.1 (ext_is K6.2 (Nat.zero_lt_succ _) (ext_is K3.2 (Nat.zero_lt_succ _) (ext_is K1.2.1 (Nat.zero_lt_succ _) n_a0))))
  refine gd_b (gX78_two _ _ _ ⟨K6.1.1, K6.1.2⟩ f23 ) (fun K9 => ?_)
  have f10 := (ext_is K9.2 (Nat.zero_lt_succ _) (ext_is K6.2 (Nat.zero_lt_succ _) (ext_is K3.2 (Nat.zero_lt_succ _) (ext_is K1.2.1 (Nat.zero_lt_succ _) n_a0))))
  refine gd_c f10 ?_
  have f11 := (ext_is K9.2 (Nat.zero_lt_succ _) (ext_is K6.2 (Nat.zero_lt_succ _) (ext_is K3.2 (Nat.zero_lt_succ _) (ext_is K1.2.1 (Nat.zero_lt_succ _) n_a0))))
  refine gd_c f11 ?_
  have f12 := (tN_27 K9.1.1 (ext_is K9.2 (Nat.zero_lt_succ _) (ext_is K6.2 (Nat.zero_lt_succ _) (ext_is K3.2 (Nat.zero_lt_succ _) (ext_is K1.2.1 (Nat.zero_lt_succ _) n_a0)))))
  refine gd_c f12 ?_
  have f22 := (tN_27 K9.1.1 (ext_is K9.2 (Nat.zero_lt_succ _) (ext_is K6.2 (Nat.zero_lt_succ _) (ext_is K3.2 (Nat.zero_lt_succ _) (ext_is K1.2.1 (Nat.zero_lt_succ _) n_a0)))))
  refine gd_b (gX78_putTwo _ _ _ _ ⟨K9.1.1, (tyb_sI (f := 37) rfl K9.1.2)⟩ f22 ) (fun K13 => ?_)
  have f14 := (ext_is K13.2 (Nat.zero_lt_succ _) (ext_is K9.2 (Nat.zero_lt_succ _) (ext_is K6.2 (Nat.zero_lt_succ _) (ext_is K3.2 (Nat.zero_lt_succ _) (ext_is K1.2.1 (Nat.zero_lt_succ _) n_a0)))))
  refine gd_c f14 ?_
  have f15 := (tN_32 K13.1.1 (ext_is K13.2 (Nat.zero_lt_succ _) (ext_is K9.2 (Nat.zero_lt_succ _) (ext_is K6.2 (Nat.zero_lt_succ _) (ext_is K3.2 (Nat.zero_lt_succ _) (ext_is K1.2.1 (Nat.zero_lt_succ _) n_a0))))))
  refine gd_c f15 ?_
  have f16 := (tN_51 K13.1.1 (tN_32 K13.1.1 (ext_is K13.2 (Nat.zero_lt_succ _) (ext_is K9.2 (Nat.zero_lt_succ _) (ext_is K6.2 (Nat.zero_lt_succ _) (ext_is K3.2 (Nat.zero_lt_succ _) (ext_is K1.2.1 (Nat.zero_lt_succ _) n_a0)))))))
  refine gd_kb (gk_fi (gk_b _ _) (gk_fi (gk_b _ _) (gk_fi (gk_b _ _) (gk_fi (gk_b _ _) gk_0)))) (gd_fi (fun c17 => (gX77_show _ _ ⟨K13.1.1, K13.1.2⟩ (fm_w (lo' := 14) (hi' := 17) rfl rfl c17) )) (fun c17 => (gd_fi (fun c18 => (gX79_show _ _ ⟨K13.1.1, K13.1.2⟩ c18 )) (fun c18 => (gd_fi (fun c19 => (gX78_show _ _ ⟨K13.1.1, K13.1.2⟩ c19 )) (fun c19 => (gd_c (fm_up (fm_up (fm_up f16 c17) c18) c19) (gX77_show _ _ ⟨K13.1.1, K13.1.2⟩ (fm_w (lo' := 14) (hi' := 17) rfl rfl (fm_up (fm_up (fm_up f16 c17) c18) c19)) )))))))) (fun K20 => ?_)
  have f21 := (ext_is K20.2 (Nat.zero_lt_succ _) (ext_is K13.2 (Nat.zero_lt_succ _) (ext_is K9.2 (Nat.zero_lt_succ _) (ext_is K6.2 (Nat.zero_lt_succ _) (ext_is K3.2 (Nat.zero_lt_succ _) (ext_is K1.2.1 (Nat.zero_lt_succ _) n_a0))))))
  refine gd_c f21 ?_
  exact ⟨rfl, ⟨K20.1.1, K20.1.2⟩, (ext_tr K1.2.1 (ext_tr K3.2 (ext_tr K6.2 (ext_tr K9.2 (ext_dI (ext_tr K13.2 (ext_tr K20.2 (ext_dL (ext_r _)))))))))⟩
noncomputable def GX74_backFromMachine (a0 : Nat) (M : FM) : FM := GX74_backFromMachine_0 a0 M
theorem gX74_backFromMachine (a0 : Nat) (M : FM) (T : Ty M) (n_a0 : fm_is M 12 12 a0 = true) : gd (FX74_backFromMachine a0 M) (GX74_backFromMachine a0 M) (OkV M) := gX74_backFromMachine_0 a0 M T n_a0 
noncomputable def GX74_backFromSupervisor_43 (a0 : Nat) (s0 : Nat) (s1 : Int32) (M : FM) : FM :=
  let M1 : FM := fm_sI M 37 s0 0 s1
  let x2 : Nat := (M1.2.2 27 a0 0)
  let M3 : FM := GX78_put x2 (Int32.ofInt 8) (Int32.ofInt 0) M1
  let x4 : Nat := (M3.2.2 33 a0 0)
  let x5 : Nat := (M3.2.2 51 x4 0)
  let r6 : Int64 × FM := (fi (fm_is M3 14 14 x5 = true) (GX77_show x5 M3) ((fi (fm_is M3 15 15 x5 = true) (GX79_show x5 M3) ((fi (fm_is M3 16 16 x5 = true) (GX78_show x5 M3) (GX77_show x5 M3))))))
  let M7 : FM := fm_sL r6.2 39 a0 0 r6.1
  M7
theorem gX74_backFromSupervisor_43 (a0 : Nat) (s0 : Nat) (s1 : Int32) (M : FM) (T : Ty M) (n_s0 : fm_is M 12 12 s0 = true) (n_a0 : fm_is M 12 12 a0 = true) : gd (FX74_backFromSupervisor_43 a0 s0 s1 M) (GX74_backFromSupervisor_43 a0 s0 s1 M) (OkV M) := by
  delta FX74_backFromSupervisor_43 BX74_backFromSupervisor_43
  refine gd_c n_s0 ?_
  refine gd_c n_a0 ?_
  have f0 := (tN_27 T.1 n_a0)
  refine gd_c f0 ?_
  have f10 := (tN_27 T.1 n_a0)
  refine gd_b (gX78_put _ _ _ _ ⟨T.1, (tyb_sI (f := 37) rfl T.2)⟩ f10 ) (fun K1 => ?_)
  have f2 := (ext_is K1.2 (Nat.zero_lt_succ _) n_a0)
  refine gd_c f2 ?_
  have f3 := (tN_33 K1.1.1 (ext_is K1.2 (Nat.zero_lt_succ _) n_a0))
  refine gd_c f3 ?_
  have f4 := (tN_51 K1.1.1 (tN_33 K1.1.1 (ext_is K1.2 (Nat.zero_lt_succ _) n_a0)))
  refine gd_kb (gk_fi (gk_b _ _) (gk_fi (gk_b _ _) (gk_fi (gk_b _ _) (gk_fi (gk_b _ _) gk_0)))) (gd_fi (fun c5 => (gX77_show _ _ ⟨K1.1.1, K1.1.2⟩ (fm_w (lo' := 14) (hi' := 17) rfl rfl c5) )) (fun c5 => (gd_fi (fun c6 => (gX79_show _ _ ⟨K1.1.1, K1.1.2⟩ c6 )) (fun c6 => (gd_fi (fun c7 => (gX78_show _ _ ⟨K1.1.1, K1.1.2⟩ c7 )) (fun c7 => (gd_c (fm_up (fm_up (fm_up f4 c5) c6) c7) (gX77_show _ _ ⟨K1.1.1, K1.1.2⟩ (fm_w (lo' := 14) (hi' := 17) rfl rfl (fm_up (fm_up (fm_up f4 c5) c6) c7)) )))))))) (fun K8 => ?_)
  have f9 := (ext_is K8.2 (Nat.zero_lt_succ _) (ext_is K1.2 (Nat.zero_lt_succ _) n_a0))
  refine gd_c f9 ?_
  exact ⟨rfl, ⟨K8.1.1, K8.1.2⟩, (ext_dI (ext_tr K1.2 (ext_tr K8.2 (ext_dL (ext_r _)))))⟩
noncomputable def GX74_backFromSupervisor_0 (a0 : Nat) (M : FM) : FM :=
  let x1 : Nat := (M.2.2 27 a0 0)
  let r2 : Int32 × FM := GX78_has x1 (Int32.ofInt 5) M
  let x3 : Nat := (M.2.2 27 a0 0)
  let M4 : FM := GX78_put x3 (Int32.ofInt 1) r2.1 r2.2
  let x5 : Nat := (M4.2.2 27 a0 0)
  let M6 : FM := GX78_put x5 (Int32.ofInt 5) (Int32.ofInt 1) M4
  let x7 : Nat := (M6.2.2 27 a0 0)
  let r8 : Int32 × FM := GX78_has x7 (Int32.ofInt 8) M6
  fi (r8.1 = 0) (
    GX74_backFromSupervisor_43 a0 a0 (Int32.ofInt 0) r8.2) (
    GX74_backFromSupervisor_43 a0 a0 (Int32.ofInt 1) r8.2)
theorem gX74_backFromSupervisor_0 (a0 : Nat) (M : FM) (T : Ty M) (n_a0 : fm_is M 12 12 a0 = true) : gd (FX74_backFromSupervisor_0 a0 M) (GX74_backFromSupervisor_0 a0 M) (OkV M) := by
  delta FX74_backFromSupervisor_0 BX74_backFromSupervisor_0
  refine gd_c n_a0 ?_
  refine gd_c n_a0 ?_
  have f0 := (tN_27 T.1 n_a0)
  refine gd_c f0 ?_
  have f18 := (tN_27 T.1 n_a0)
  refine gd_b (gX78_has _ _ _ ⟨T.1, T.2⟩ f18 ) (fun K1 => ?_)
  have f2 := (ext_is K1.2.1 (Nat.zero_lt_succ _) (tN_27 T.1 n_a0))
  refine gd_c f2 ?_
  have f17 := (ext_is K1.2.1 (Nat.zero_lt_succ _) (tN_27 T.1 n_a0))
  refine gd_b (gX78_put _ _ _ _ ⟨K1.1.1, K1.1.2⟩ f17 ) (fun K3 => ?_)
  have f4 := (ext_is K3.2 (Nat.zero_lt_succ _) (ext_is K1.2.1 (Nat.zero_lt_succ _) n_a0))
  refine gd_c f4 ?_
  have f5 := (tN_27 K3.1.1 (ext_is K3.2 (Nat.zero_lt_succ _) (ext_is K1.2.1 (Nat.zero_lt_succ _) n_a0)))
  refine gd_c f5 ?_
  have f16 := (tN_27 K3.1.1 (ext_is K3.2 (Nat.zero_lt_succ _) (ext_is K1.2.1 (Nat.zero_lt_succ _) n_a0)))
  refine gd_b (gX78_put _ _ _ _ ⟨K3.1.1, K3.1.2⟩ f16 ) (fun K6 => ?_)
  have f7 := (ext_is K6.2 (Nat.zero_lt_succ _) (ext_is K3.2 (Nat.zero_lt_succ _) (ext_is K1.2.1 (Nat.zero_lt_succ _) n_a0)))
  refine gd_c f7 ?_
  have f8 := (tN_27 K6.1.1 (ext_is K6.2 (Nat.zero_lt_succ _) (ext_is K3.2 (Nat.zero_lt_succ _) (ext_is K1.2.1 (Nat.zero_lt_succ _) n_a0))))
  refine gd_c f8 ?_
  have f15 := (tN_27 K6.1.1 (ext_is K6.2 (Nat.zero_lt_succ _) (ext_is K3.2 (Nat.zero_lt_succ _) (ext_is K1.2.1 (Nat.zero_lt_succ _) n_a0))))
  refine gd_b (gX78_has _ _ _ ⟨K6.1.1, K6.1.2⟩ f15 ) (fun K9 => ?_)
  refine gd_fi (fun c10_0 => ?_) (fun c10_0 => ?_)
  · have f11 := (ext_is K9.2.1 (Nat.zero_lt_succ _) (ext_is K6.2 (Nat.zero_lt_succ _) (ext_is K3.2 (Nat.zero_lt_succ _) (ext_is K1.2.1 (Nat.zero_lt_succ _) n_a0))))
    have f12 := (ext_is K9.2.1 (Nat.zero_lt_succ _) (ext_is K6.2 (Nat.zero_lt_succ _) (ext_is K3.2 (Nat.zero_lt_succ _) (ext_is K1.2.1 (Nat.zero_lt_succ _) n_a0))))
    exact gd_tV (ext_tr K1.2.1 (ext_tr K3.2 (ext_tr K6.2 K9.2.1))) (gX74_backFromSupervisor_43 _ _ _ _ ⟨K9.1.1, K9.1.2⟩ f11 f12 )
  · have f13 := (ext_is K9.2.1 (Nat.zero_lt_succ _) (ext_is K6.2 (Nat.zero_lt_succ _) (ext_is K3.2 (Nat.zero_lt_succ _) (ext_is K1.2.1 (Nat.zero_lt_succ _) n_a0))))
    have f14 := (ext_is K9.2.1 (Nat.zero_lt_succ _) (ext_is K6.2 (Nat.zero_lt_succ _) (ext_is K3.2 (Nat.zero_lt_succ _) (ext_is K1.2.1 (Nat.zero_lt_succ _) n_a0))))
    exact gd_tV (ext_tr K1.2.1 (ext_tr K3.2 (ext_tr K6.2 K9.2.1))) (gX74_backFromSupervisor_43 _ _ _ _ ⟨K9.1.1, K9.1.2⟩ f13 f14 )
noncomputable def GX74_backFromSupervisor (a0 : Nat) (M : FM) : FM := GX74_backFromSupervisor_0 a0 M
theorem gX74_backFromSupervisor (a0 : Nat) (M : FM) (T : Ty M) (n_a0 : fm_is M 12 12 a0 = true) : gd (FX74_backFromSupervisor a0 M) (GX74_backFromSupervisor a0 M) (OkV M) := gX74_backFromSupervisor_0 a0 M T n_a0 
noncomputable def GX74_back_66 (M : FM) : Int32 × FM :=
  ((Int32.ofInt 1), M)
theorem gX74_back_66 (M : FM) (T : Ty M) : gd (FX74_back_66 M) (GX74_back_66 M) (OkZ M) := by
  delta FX74_back_66 BX74_back_66
  exact gd_z fz_1 ⟨T.1, T.2⟩ (ext_r _) rfl
noncomputable def GX74_back_48 (a0 : Nat) (M : FM) : Int32 × FM :=
  fi ((M.1 37 a0 0) = (Int32.ofInt 3)) (
    GX74_back_66 M) (
    let x1 : Nat := (M.2.2 27 a0 0)
    let M2 : FM := GX78_put x1 (Int32.ofInt 17) (Int32.ofInt 0) M
    GX74_back_66 M2)
theorem gX74_back_48 (a0 : Nat) (M : FM) (T : Ty M) (n_a0 : fm_is M 12 12 a0 = true) : gd (FX74_back_48 a0 M) (GX74_back_48 a0 M) (OkZ M) := by
  delta FX74_back_48 BX74_back_48
  refine gd_c n_a0 ?_
  refine gd_fi (fun c0_0 => ?_) (fun c0_0 => ?_)
  · exact gd_tZ (ext_r _) (gX74_back_66  _ ⟨T.1, T.2⟩  )
  · refine gd_c n_a0 ?_
    have f1 := (tN_27 T.1 n_a0)
    refine gd_c f1 ?_
    have f3 := (tN_27 T.1 n_a0)
    refine gd_b (gX78_put _ _ _ _ ⟨T.1, T.2⟩ f3 ) (fun K2 => ?_)
    exact gd_tZ K2.2 (gX74_back_66  _ ⟨K2.1.1, K2.1.2⟩  )
noncomputable def GX74_back_33 (a0 : Nat) (a1 : Int32) (M : FM) : Int32 × FM :=
  fi (a1 = 0) (
    let M1 : FM := GX74_backFromSupervisor a0 M
    GX74_back_48 a0 M1) (
    let M2 : FM := GX74_backFromMachine a0 M
    GX74_back_48 a0 M2)
theorem gX74_back_33 (a0 : Nat) (a1 : Int32) (M : FM) (T : Ty M) (n_a0 : fm_is M 12 12 a0 = true) : gd (FX74_back_33 a0 a1 M) (GX74_back_33 a0 a1 M) (OkZ M) := by
  delta FX74_back_33 BX74_back_33
  refine gd_fi (fun c0_0 => ?_) (fun c0_0 => ?_)
  · refine gd_c n_a0 ?_
    refine gd_b (gX74_backFromSupervisor _ _ ⟨T.1, T.2⟩ n_a0 ) (fun K1 => ?_)
    have f2 := (ext_is K1.2 (Nat.zero_lt_succ _) n_a0)
    exact gd_tZ K1.2 (gX74_back_48 _ _ ⟨K1.1.1, K1.1.2⟩ f2 )
  · refine gd_c n_a0 ?_
    refine gd_b (gX74_backFromMachine _ _ ⟨T.1, T.2⟩ n_a0 ) (fun K3 => ?_)
    have f4 := (ext_is K3.2 (Nat.zero_lt_succ _) n_a0)
    exact gd_tZ K3.2 (gX74_back_48 _ _ ⟨K3.1.1, K3.1.2⟩ f4 )
noncomputable def GX74_back_31 (M : FM) : Int32 × FM :=
  ((Int32.ofInt 0), M)
theorem gX74_back_31 (M : FM) (T : Ty M) : gd (FX74_back_31 M) (GX74_back_31 M) (OkZ M) := by
  delta FX74_back_31 BX74_back_31
  exact gd_z fz_0 ⟨T.1, T.2⟩ (ext_r _) rfl
noncomputable def GX74_back_0 (a0 : Nat) (a1 : Int32) (M : FM) : Int32 × FM :=
  fi ((M.1 37 a0 0) = (Int32.ofInt 3)) (
    GX74_back_33 a0 a1 M) (
    fi (a1 = 0) (
      fi ((M.1 37 a0 0) = 0) (
        GX74_back_31 M) (
        let x1 : Nat := (M.2.2 27 a0 0)
        let r2 : Int32 × FM := GX78_has x1 (Int32.ofInt 22) M
        fi (r2.1 = 0) (
          GX74_back_33 a0 a1 r2.2) (
          GX74_back_31 r2.2))) (
      GX74_back_31 M))
theorem gX74_back_0 (a0 : Nat) (a1 : Int32) (M : FM) (T : Ty M) (n_a0 : fm_is M 12 12 a0 = true) : gd (FX74_back_0 a0 a1 M) (GX74_back_0 a0 a1 M) (OkZ M) := by
  delta FX74_back_0 BX74_back_0
  refine gd_c n_a0 ?_
  refine gd_fi (fun c0_0 => ?_) (fun c0_0 => ?_)
  · exact gd_tZ (ext_r _) (gX74_back_33 _ _ _ ⟨T.1, T.2⟩ n_a0 )
  · refine gd_fi (fun c1_0 => ?_) (fun c1_0 => ?_)
    · refine gd_c n_a0 ?_
      refine gd_fi (fun c2_0 => ?_) (fun c2_0 => ?_)
      · exact gd_tZ (ext_r _) (gX74_back_31  _ ⟨T.1, T.2⟩  )
      · refine gd_c n_a0 ?_
        have f3 := (tN_27 T.1 n_a0)
        refine gd_c f3 ?_
        have f7 := (tN_27 T.1 n_a0)
        refine gd_b (gX78_has _ _ _ ⟨T.1, T.2⟩ f7 ) (fun K4 => ?_)
        refine gd_fi (fun c5_0 => ?_) (fun c5_0 => ?_)
        · have f6 := (ext_is K4.2.1 (Nat.zero_lt_succ _) n_a0)
          exact gd_tZ K4.2.1 (gX74_back_33 _ _ _ ⟨K4.1.1, K4.1.2⟩ f6 )
        · exact gd_tZ K4.2.1 (gX74_back_31  _ ⟨K4.1.1, K4.1.2⟩  )
    · exact gd_tZ (ext_r _) (gX74_back_31  _ ⟨T.1, T.2⟩  )
noncomputable def GX74_back (a0 : Nat) (a1 : Int32) (M : FM) : Int32 × FM := GX74_back_0 a0 a1 M
theorem gX74_back (a0 : Nat) (a1 : Int32) (M : FM) (T : Ty M) (n_a0 : fm_is M 12 12 a0 = true) : gd (FX74_back a0 a1 M) (GX74_back a0 a1 M) (OkZ M) := gX74_back_0 a0 a1 M T n_a0 
noncomputable def GX46_back_0 (a0 : Nat) (a1 : Int32) (M : FM) : Int32 × FM :=
  let x1 : Nat := (M.2.2 213 a0 0)
  let r2 : Int32 × FM := GX74_back x1 a1 M
  fi (r2.1 = 0) (
    let r3 : Int32 × FM := GX46_illegal a0 r2.2
    (r3.1, r3.2)) (
    let x4 : Nat := (r2.2.2.2 213 a0 0)
    let x5 : Nat := (r2.2.2.2 211 a0 0)
    let M6 : FM := GX47_jump x5 (r2.2.2.1 39 x4 0) r2.2
    ((Int32.ofInt 1), M6))
theorem gX46_back_0 (a0 : Nat) (a1 : Int32) (M : FM) (T : Ty M) (n_a0 : fm_is M 75 75 a0 = true) : gd (FX46_back_0 a0 a1 M) (GX46_back_0 a0 a1 M) (OkZ M) := by
  delta FX46_back_0 BX46_back_0
  refine gd_c n_a0 ?_
  have f0 := (tN_213 T.1 n_a0)
  refine gd_c f0 ?_
  have f12 := (tN_213 T.1 n_a0)
  refine gd_b (gX74_back _ _ _ ⟨T.1, T.2⟩ f12 ) (fun K1 => ?_)
  refine gd_fi (fun c2_0 => ?_) (fun c2_0 => ?_)
  · have f3 := (ext_is K1.2.1 (Nat.zero_lt_succ _) n_a0)
    refine gd_c f3 ?_
    have f5 := (ext_is K1.2.1 (Nat.zero_lt_succ _) n_a0)
    refine gd_b (gX46_illegal _ _ ⟨K1.1.1, K1.1.2⟩ f5 ) (fun K4 => ?_)
    exact gd_z K4.2.2 ⟨K4.1.1, K4.1.2⟩ (ext_tr K1.2.1 K4.2.1) rfl
  · have f6 := (ext_is K1.2.1 (Nat.zero_lt_succ _) n_a0)
    refine gd_c f6 ?_
    have f7 := (ext_is K1.2.1 (Nat.zero_lt_succ _) n_a0)
    refine gd_c f7 ?_
    have f8 := (tN_213 K1.1.1 (ext_is K1.2.1 (Nat.zero_lt_succ _) n_a0))
    refine gd_c f8 ?_
    have f9 := (tN_211 K1.1.1 (ext_is K1.2.1 (Nat.zero_lt_succ _) n_a0))
    refine gd_c f9 ?_
    have f11 := (tN_211 K1.1.1 (ext_is K1.2.1 (Nat.zero_lt_succ _) n_a0))
    refine gd_b (gX47_jump _ _ _ ⟨K1.1.1, K1.1.2⟩ f11 ) (fun K10 => ?_)
    exact gd_z fz_1 ⟨K10.1.1, K10.1.2⟩ (ext_tr K1.2.1 K10.2) rfl
noncomputable def GX46_back (a0 : Nat) (a1 : Int32) (M : FM) : Int32 × FM := GX46_back_0 a0 a1 M
theorem gX46_back (a0 : Nat) (a1 : Int32) (M : FM) (T : Ty M) (n_a0 : fm_is M 75 75 a0 = true) : gd (FX46_back a0 a1 M) (GX46_back a0 a1 M) (OkZ M) := gX46_back_0 a0 a1 M T n_a0 
noncomputable def GX74_allowed_42 (s0 : Int32) (M : FM) : Int32 × FM :=
  (s0, M)
theorem gX74_allowed_42 (s0 : Int32) (M : FM) (T : Ty M) (z_s0 : s0 = 0 ∨ s0 = 1) : gd (FX74_allowed_42 s0 M) (GX74_allowed_42 s0 M) (OkZ M) := by
  delta FX74_allowed_42 BX74_allowed_42
  exact gd_z z_s0 ⟨T.1, T.2⟩ (ext_r _) rfl
noncomputable def GX74_allowed_41 (M : FM) : Int32 × FM :=
  GX74_allowed_42 (Int32.ofInt 0) M
theorem gX74_allowed_41 (M : FM) (T : Ty M) : gd (FX74_allowed_41 M) (GX74_allowed_41 M) (OkZ M) := by
  delta FX74_allowed_41 BX74_allowed_41
  exact gd_tZ (ext_r _) (gX74_allowed_42 _ _ ⟨T.1, T.2⟩ fz_0 )
noncomputable def GX74_allowed_37 (M : FM) : Int32 × FM :=
  GX74_allowed_42 (Int32.ofInt 1) M
theorem gX74_allowed_37 (M : FM) (T : Ty M) : gd (FX74_allowed_37 M) (GX74_allowed_37 M) (OkZ M) := by
  delta FX74_allowed_37 BX74_allowed_37
  exact gd_tZ (ext_r _) (gX74_allowed_42 _ _ ⟨T.1, T.2⟩ fz_1 )
noncomputable def GX74_allowed_31 (s0 : Nat) (s1 : Int32) (M : FM) : Int32 × FM :=
  let r1 : Int32 × FM := GX78_has s0 s1 M
  fi (r1.1 = 0) (
    GX74_allowed_37 r1.2) (
    GX74_allowed_41 r1.2)
theorem gX74_allowed_31 (s0 : Nat) (s1 : Int32) (M : FM) (T : Ty M) (n_s0 : fm_is M 16 16 s0 = true) : gd (FX74_allowed_31 s0 s1 M) (GX74_allowed_31 s0 s1 M) (OkZ M) := by
  delta FX74_allowed_31 BX74_allowed_31
  refine gd_c n_s0 ?_
  refine gd_b (gX78_has _ _ _ ⟨T.1, T.2⟩ n_s0 ) (fun K0 => ?_)
  refine gd_fi (fun c1_0 => ?_) (fun c1_0 => ?_)
  · exact gd_tZ K0.2.1 (gX74_allowed_37  _ ⟨K0.1.1, K0.1.2⟩  )
  · exact gd_tZ K0.2.1 (gX74_allowed_41  _ ⟨K0.1.1, K0.1.2⟩  )
noncomputable def GX74_allowed_0 (a0 : Nat) (a1 : Int32) (M : FM) : Int32 × FM :=
  fi ((M.1 37 a0 0) = (Int32.ofInt 3)) (
    GX74_allowed_37 M) (
    fi ((M.1 37 a0 0) = (Int32.ofInt 1)) (
      fi (a1 = 0) (
        GX74_allowed_31 (M.2.2 27 a0 0) (Int32.ofInt 21) M) (
        GX74_allowed_31 (M.2.2 27 a0 0) (Int32.ofInt 20) M)) (
      GX74_allowed_41 M))
theorem gX74_allowed_0 (a0 : Nat) (a1 : Int32) (M : FM) (T : Ty M) (n_a0 : fm_is M 12 12 a0 = true) : gd (FX74_allowed_0 a0 a1 M) (GX74_allowed_0 a0 a1 M) (OkZ M) := by
  delta FX74_allowed_0 BX74_allowed_0
  refine gd_c n_a0 ?_
  refine gd_fi (fun c0_0 => ?_) (fun c0_0 => ?_)
  · exact gd_tZ (ext_r _) (gX74_allowed_37  _ ⟨T.1, T.2⟩  )
  · refine gd_c n_a0 ?_
    refine gd_fi (fun c1_0 => ?_) (fun c1_0 => ?_)
    · refine gd_c n_a0 ?_
      refine gd_fi (fun c2_0 => ?_) (fun c2_0 => ?_)
      · have f3 := (tN_27 T.1 n_a0)
        exact gd_tZ (ext_r _) (gX74_allowed_31 _ _ _ ⟨T.1, T.2⟩ f3 )
      · have f4 := (tN_27 T.1 n_a0)
        exact gd_tZ (ext_r _) (gX74_allowed_31 _ _ _ ⟨T.1, T.2⟩ f4 )
    · exact gd_tZ (ext_r _) (gX74_allowed_41  _ ⟨T.1, T.2⟩  )
noncomputable def GX74_allowed (a0 : Nat) (a1 : Int32) (M : FM) : Int32 × FM := GX74_allowed_0 a0 a1 M
theorem gX74_allowed (a0 : Nat) (a1 : Int32) (M : FM) (T : Ty M) (n_a0 : fm_is M 12 12 a0 = true) : gd (FX74_allowed a0 a1 M) (GX74_allowed a0 a1 M) (OkZ M) := gX74_allowed_0 a0 a1 M T n_a0 
noncomputable def GX46_idle_13 (a0 : Nat) (a1 : Int32) (s0 : Nat) (s1 : Int32) (M : FM) : Int32 × FM :=
  let r1 : Int32 × FM := GX74_allowed s0 s1 M
  fi (r1.1 = 0) (
    let r2 : Int32 × FM := GX46_illegal a0 r1.2
    (r2.1, r2.2)) (
    let M3 : FM := fm_sI r1.2 218 a0 0 a1
    let x4 : Nat := (M3.2.2 211 a0 0)
    let r5 : Int32 × FM := GX47_finish x4 (Int32.ofInt 0) (Int64.ofInt 0) M3
    ((Int32.ofInt 1), r5.2))
def HX46_idle_13 (a0 : Nat) (a1 : Int32) (s0 : Nat) (s1 : Int32) (M : FM) : Prop := let r1 : Int32 × FM := GX74_allowed s0 s1 M; ((r1.1 = 0 → True) ∧ (¬ (r1.1 = 0) → let M3 : FM := fm_sI r1.2 218 a0 0 a1; let x4 : Nat := (M3.2.2 211 a0 0); (HX47_finish x4 (Int32.ofInt 0) (Int64.ofInt 0) M3 ∧ True)))
theorem gX46_idle_13 (a0 : Nat) (a1 : Int32) (s0 : Nat) (s1 : Int32) (M : FM) (T : Ty M) (n_s0 : fm_is M 12 12 s0 = true) (n_a0 : fm_is M 75 75 a0 = true) (z_a1 : a1 = 0 ∨ a1 = 1) (h : HX46_idle_13 a0 a1 s0 s1 M) : gd (FX46_idle_13 a0 a1 s0 s1 M) (GX46_idle_13 a0 a1 s0 s1 M) (OkZ M) := by
  delta FX46_idle_13 BX46_idle_13
  refine gd_c n_s0 ?_
  refine gd_b (gX74_allowed _ _ _ ⟨T.1, T.2⟩ n_s0 ) (fun K0 => ?_)
  refine gd_fi (fun c1_0 => ?_) (fun c1_0 => ?_)
  · have f2 := (ext_is K0.2.1 (Nat.zero_lt_succ _) n_a0)
    refine gd_c f2 ?_
    have f4 := (ext_is K0.2.1 (Nat.zero_lt_succ _) n_a0)
    refine gd_b (gX46_illegal _ _ ⟨K0.1.1, K0.1.2⟩ f4 ) (fun K3 => ?_)
    exact gd_z K3.2.2 ⟨K3.1.1, K3.1.2⟩ (ext_tr K0.2.1 K3.2.1) rfl
  · have f5 := (ext_is K0.2.1 (Nat.zero_lt_succ _) n_a0)
    refine gd_c f5 ?_
    refine gd_c z_a1 ?_
    have f6 := (ext_is K0.2.1 (Nat.zero_lt_succ _) n_a0)
    refine gd_c f6 ?_
    have f7 := (tN_211 K0.1.1 (ext_is K0.2.1 (Nat.zero_lt_succ _) n_a0))
    refine gd_c f7 ?_
    have f9 := (tN_211 K0.1.1 (ext_is K0.2.1 (Nat.zero_lt_succ _) n_a0))
    refine gd_b (gX47_finish _ _ _ _ ⟨K0.1.1, (tyb_sIb (f := 218) rfl K0.1.2 z_a1)⟩ f9 (h.2 c1_0).1) (fun K8 => ?_)
    exact gd_z fz_1 ⟨K8.1.1, K8.1.2⟩ (ext_tr K0.2.1 (ext_dI K8.2)) rfl
noncomputable def GX46_idle_0 (a0 : Nat) (a1 : Int32) (M : FM) : Int32 × FM :=
  fi (a1 = 0) (
    GX46_idle_13 a0 a1 (M.2.2 213 a0 0) (Int32.ofInt 1) M) (
    GX46_idle_13 a0 a1 (M.2.2 213 a0 0) (Int32.ofInt 0) M)
def HX46_idle_0 (a0 : Nat) (a1 : Int32) (M : FM) : Prop := ((a1 = 0 → HX46_idle_13 a0 a1 (M.2.2 213 a0 0) (Int32.ofInt 1) M) ∧ (¬ (a1 = 0) → HX46_idle_13 a0 a1 (M.2.2 213 a0 0) (Int32.ofInt 0) M))
theorem gX46_idle_0 (a0 : Nat) (a1 : Int32) (M : FM) (T : Ty M) (n_a0 : fm_is M 75 75 a0 = true) (z_a1 : a1 = 0 ∨ a1 = 1) (h : HX46_idle_0 a0 a1 M) : gd (FX46_idle_0 a0 a1 M) (GX46_idle_0 a0 a1 M) (OkZ M) := by
  delta FX46_idle_0 BX46_idle_0
  refine gd_c n_a0 ?_
  refine gd_fi (fun c0_0 => ?_) (fun c0_0 => ?_)
  · have f1 := (tN_213 T.1 n_a0)
    exact gd_tZ (ext_r _) (gX46_idle_13 _ _ _ _ _ ⟨T.1, T.2⟩ f1 n_a0 z_a1 (h.1 c0_0))
  · have f2 := (tN_213 T.1 n_a0)
    exact gd_tZ (ext_r _) (gX46_idle_13 _ _ _ _ _ ⟨T.1, T.2⟩ f2 n_a0 z_a1 (h.2 c0_0))
noncomputable def GX46_idle (a0 : Nat) (a1 : Int32) (M : FM) : Int32 × FM := GX46_idle_0 a0 a1 M
def HX46_idle (a0 : Nat) (a1 : Int32) (M : FM) : Prop := HX46_idle_0 a0 a1 M
theorem gX46_idle (a0 : Nat) (a1 : Int32) (M : FM) (T : Ty M) (n_a0 : fm_is M 75 75 a0 = true) (z_a1 : a1 = 0 ∨ a1 = 1) (h : HX46_idle a0 a1 M) : gd (FX46_idle a0 a1 M) (GX46_idle a0 a1 M) (OkZ M) := gX46_idle_0 a0 a1 M T n_a0 z_a1 h
noncomputable def GX46_system_65 (a0 : Nat) (a1 : Int32) (a2 : Int32) (M : FM) : Int32 × FM :=
  fi (a2 = 0) (
    let r1 : Int32 × FM := GX46_illegal a0 M
    (r1.1, r1.2)) (
    fi (a1 = (Int32.ofInt 0)) (
      let x2 : Nat := (M.2.2 213 a0 0)
      let r3 : Int32 × FM := GX46_raise a0 ((Int32.ofInt 8) + (M.1 37 x2 0)) (Int64.ofInt 0) M
      (r3.1, r3.2)) (
      fi (a1 = (Int32.ofInt 1)) (
        let r4 : Int64 × FM := GX46_counter a0 M
        let r5 : Int32 × FM := GX46_raise a0 (Int32.ofInt 3) r4.1 r4.2
        (r5.1, r5.2)) (
        fi (a1 = (Int32.ofInt 258)) (
          let r6 : Int32 × FM := GX46_back a0 (Int32.ofInt 0) M
          (r6.1, r6.2)) (
          fi (a1 = (Int32.ofInt 261)) (
            let r7 : Int32 × FM := GX46_idle a0 (Int32.ofInt 1) M
            (r7.1, r7.2)) (
            fi (a1 = (Int32.ofInt 770)) (
              let r8 : Int32 × FM := GX46_back a0 (Int32.ofInt 1) M
              (r8.1, r8.2)) (
              let r9 : Int32 × FM := GX46_illegal a0 M
              (r9.1, r9.2)))))))
def HX46_system_65 (a0 : Nat) (a1 : Int32) (a2 : Int32) (M : FM) : Prop := ((a2 = 0 → True) ∧ (¬ (a2 = 0) → ((a1 = (Int32.ofInt 0) → True) ∧ (¬ (a1 = (Int32.ofInt 0)) → ((a1 = (Int32.ofInt 1) → True) ∧ (¬ (a1 = (Int32.ofInt 1)) → ((a1 = (Int32.ofInt 258) → True) ∧ (¬ (a1 = (Int32.ofInt 258)) → ((a1 = (Int32.ofInt 261) → (HX46_idle a0 (Int32.ofInt 1) M ∧ True)) ∧ (¬ (a1 = (Int32.ofInt 261)) → True))))))))))
theorem gX46_system_65 (a0 : Nat) (a1 : Int32) (a2 : Int32) (M : FM) (T : Ty M) (n_a0 : fm_is M 75 75 a0 = true) (h : HX46_system_65 a0 a1 a2 M) : gd (FX46_system_65 a0 a1 a2 M) (GX46_system_65 a0 a1 a2 M) (OkZ M) := by
  delta FX46_system_65 BX46_system_65
  refine gd_fi (fun c0_0 => ?_) (fun c0_0 => ?_)
  · refine gd_c n_a0 ?_
    refine gd_b (gX46_illegal _ _ ⟨T.1, T.2⟩ n_a0 ) (fun K1 => ?_)
    exact gd_z K1.2.2 ⟨K1.1.1, K1.1.2⟩ K1.2.1 rfl
  · refine gd_fi (fun c2_0 => ?_) (fun c2_0 => ?_)
    · refine gd_c n_a0 ?_
      have f3 := (tN_213 T.1 n_a0)
      refine gd_c f3 ?_
      refine gd_c n_a0 ?_
      refine gd_b (gX46_raise _ _ _ _ ⟨T.1, T.2⟩ n_a0 ) (fun K4 => ?_)
      exact gd_z K4.2.2 ⟨K4.1.1, K4.1.2⟩ K4.2.1 rfl
    · refine gd_fi (fun c5_1 => ?_) (fun c5_1 => ?_)
      · refine gd_c n_a0 ?_
        refine gd_b (gX46_counter _ _ ⟨T.1, T.2⟩ n_a0 ) (fun K6 => ?_)
        have f7 := (ext_is K6.2 (Nat.zero_lt_succ _) n_a0)
        refine gd_c f7 ?_
        have f9 := (ext_is K6.2 (Nat.zero_lt_succ _) n_a0)
        refine gd_b (gX46_raise _ _ _ _ ⟨K6.1.1, K6.1.2⟩ f9 ) (fun K8 => ?_)
        exact gd_z K8.2.2 ⟨K8.1.1, K8.1.2⟩ (ext_tr K6.2 K8.2.1) rfl
      · refine gd_fi (fun c10_2 => ?_) (fun c10_2 => ?_)
        · refine gd_c n_a0 ?_
          refine gd_b (gX46_back _ _ _ ⟨T.1, T.2⟩ n_a0 ) (fun K11 => ?_)
          exact gd_z K11.2.2 ⟨K11.1.1, K11.1.2⟩ K11.2.1 rfl
        · refine gd_fi (fun c12_3 => ?_) (fun c12_3 => ?_)
          · refine gd_c n_a0 ?_
            refine gd_b (gX46_idle _ _ _ ⟨T.1, T.2⟩ n_a0 fz_1 (((((h.2 c0_0).2 c2_0).2 c5_1).2 c10_2).1 c12_3).1) (fun K13 => ?_)
            exact gd_z K13.2.2 ⟨K13.1.1, K13.1.2⟩ K13.2.1 rfl
          · refine gd_fi (fun c14_4 => ?_) (fun c14_4 => ?_)
            · refine gd_c n_a0 ?_
              refine gd_b (gX46_back _ _ _ ⟨T.1, T.2⟩ n_a0 ) (fun K15 => ?_)
              exact gd_z K15.2.2 ⟨K15.1.1, K15.1.2⟩ K15.2.1 rfl
            · refine gd_c n_a0 ?_
              refine gd_b (gX46_illegal _ _ ⟨T.1, T.2⟩ n_a0 ) (fun K16 => ?_)
              exact gd_z K16.2.2 ⟨K16.1.1, K16.1.2⟩ K16.2.1 rfl
noncomputable def GX46_system_31 (a0 : Nat) (a1 : Int32) (s0 : Int32) (M : FM) : Int32 × FM :=
  fi (a1 < (Int32.ofInt 288)) (
    GX46_system_65 a0 a1 s0 M) (
    fi ((Int32.ofInt 320) ≤ a1) (
      GX46_system_65 a0 a1 s0 M) (
      fi ((((M.1 219 a0 0).toUInt32 >>> ((Int32.ofInt 7).toUInt32 &&& Int32.toUInt32 31)).toInt32 &&& (Int32.ofInt 31)) = 0) (
        let r1 : Int32 × FM := GX46_idle a0 (Int32.ofInt 0) M
        (r1.1, r1.2)) (
        GX46_system_65 a0 a1 s0 M)))
def HX46_system_31 (a0 : Nat) (a1 : Int32) (s0 : Int32) (M : FM) : Prop := ((a1 < (Int32.ofInt 288) → HX46_system_65 a0 a1 s0 M) ∧ (¬ (a1 < (Int32.ofInt 288)) → (((Int32.ofInt 320) ≤ a1 → HX46_system_65 a0 a1 s0 M) ∧ (¬ ((Int32.ofInt 320) ≤ a1) → (((((M.1 219 a0 0).toUInt32 >>> ((Int32.ofInt 7).toUInt32 &&& Int32.toUInt32 31)).toInt32 &&& (Int32.ofInt 31)) = 0 → (HX46_idle a0 (Int32.ofInt 0) M ∧ True)) ∧ (¬ ((((M.1 219 a0 0).toUInt32 >>> ((Int32.ofInt 7).toUInt32 &&& Int32.toUInt32 31)).toInt32 &&& (Int32.ofInt 31)) = 0) → HX46_system_65 a0 a1 s0 M))))))
theorem gX46_system_31 (a0 : Nat) (a1 : Int32) (s0 : Int32) (M : FM) (T : Ty M) (n_a0 : fm_is M 75 75 a0 = true) (h : HX46_system_31 a0 a1 s0 M) : gd (FX46_system_31 a0 a1 s0 M) (GX46_system_31 a0 a1 s0 M) (OkZ M) := by
  delta FX46_system_31 BX46_system_31
  refine gd_fi (fun c0_0 => ?_) (fun c0_0 => ?_)
  · exact gd_tZ (ext_r _) (gX46_system_65 _ _ _ _ ⟨T.1, T.2⟩ n_a0 (h.1 c0_0))
  · refine gd_fi (fun c1_0 => ?_) (fun c1_0 => ?_)
    · exact gd_tZ (ext_r _) (gX46_system_65 _ _ _ _ ⟨T.1, T.2⟩ n_a0 ((h.2 c0_0).1 c1_0))
    · refine gd_c n_a0 ?_
      refine gd_fi (fun c2_0 => ?_) (fun c2_0 => ?_)
      · refine gd_c n_a0 ?_
        refine gd_b (gX46_idle _ _ _ ⟨T.1, T.2⟩ n_a0 fz_0 (((h.2 c0_0).2 c1_0).1 c2_0).1) (fun K3 => ?_)
        exact gd_z K3.2.2 ⟨K3.1.1, K3.1.2⟩ K3.2.1 rfl
      · exact gd_tZ (ext_r _) (gX46_system_65 _ _ _ _ ⟨T.1, T.2⟩ n_a0 (((h.2 c0_0).2 c1_0).2 c2_0))
noncomputable def GX46_system_30 (a0 : Nat) (a1 : Int32) (M : FM) : Int32 × FM :=
  GX46_system_31 a0 a1 (Int32.ofInt 0) M
def HX46_system_30 (a0 : Nat) (a1 : Int32) (M : FM) : Prop := HX46_system_31 a0 a1 (Int32.ofInt 0) M
theorem gX46_system_30 (a0 : Nat) (a1 : Int32) (M : FM) (T : Ty M) (n_a0 : fm_is M 75 75 a0 = true) (h : HX46_system_30 a0 a1 M) : gd (FX46_system_30 a0 a1 M) (GX46_system_30 a0 a1 M) (OkZ M) := by
  delta FX46_system_30 BX46_system_30
  exact gd_tZ (ext_r _) (gX46_system_31 _ _ _ _ ⟨T.1, T.2⟩ n_a0 h)
noncomputable def GX46_system_0 (a0 : Nat) (a1 : Int32) (M : FM) : Int32 × FM :=
  fi ((((M.1 219 a0 0).toUInt32 >>> ((Int32.ofInt 15).toUInt32 &&& Int32.toUInt32 31)).toInt32 &&& (Int32.ofInt 31)) = 0) (
    fi ((((M.1 219 a0 0).toUInt32 >>> ((Int32.ofInt 7).toUInt32 &&& Int32.toUInt32 31)).toInt32 &&& (Int32.ofInt 31)) = 0) (
      GX46_system_31 a0 a1 (Int32.ofInt 1) M) (
      GX46_system_30 a0 a1 M)) (
    GX46_system_30 a0 a1 M)
def HX46_system_0 (a0 : Nat) (a1 : Int32) (M : FM) : Prop := (((((M.1 219 a0 0).toUInt32 >>> ((Int32.ofInt 15).toUInt32 &&& Int32.toUInt32 31)).toInt32 &&& (Int32.ofInt 31)) = 0 → (((((M.1 219 a0 0).toUInt32 >>> ((Int32.ofInt 7).toUInt32 &&& Int32.toUInt32 31)).toInt32 &&& (Int32.ofInt 31)) = 0 → HX46_system_31 a0 a1 (Int32.ofInt 1) M) ∧ (¬ ((((M.1 219 a0 0).toUInt32 >>> ((Int32.ofInt 7).toUInt32 &&& Int32.toUInt32 31)).toInt32 &&& (Int32.ofInt 31)) = 0) → HX46_system_30 a0 a1 M))) ∧ (¬ ((((M.1 219 a0 0).toUInt32 >>> ((Int32.ofInt 15).toUInt32 &&& Int32.toUInt32 31)).toInt32 &&& (Int32.ofInt 31)) = 0) → HX46_system_30 a0 a1 M))
theorem gX46_system_0 (a0 : Nat) (a1 : Int32) (M : FM) (T : Ty M) (n_a0 : fm_is M 75 75 a0 = true) (h : HX46_system_0 a0 a1 M) : gd (FX46_system_0 a0 a1 M) (GX46_system_0 a0 a1 M) (OkZ M) := by
  delta FX46_system_0 BX46_system_0
  refine gd_c n_a0 ?_
  refine gd_fi (fun c0_0 => ?_) (fun c0_0 => ?_)
  · refine gd_c n_a0 ?_
    refine gd_fi (fun c1_0 => ?_) (fun c1_0 => ?_)
    · exact gd_tZ (ext_r _) (gX46_system_31 _ _ _ _ ⟨T.1, T.2⟩ n_a0 ((h.1 c0_0).1 c1_0))
    · exact gd_tZ (ext_r _) (gX46_system_30 _ _ _ ⟨T.1, T.2⟩ n_a0 ((h.1 c0_0).2 c1_0))
  · exact gd_tZ (ext_r _) (gX46_system_30 _ _ _ ⟨T.1, T.2⟩ n_a0 (h.2 c0_0))
noncomputable def GX46_system (a0 : Nat) (a1 : Int32) (M : FM) : Int32 × FM := GX46_system_0 a0 a1 M
def HX46_system (a0 : Nat) (a1 : Int32) (M : FM) : Prop := HX46_system_0 a0 a1 M
theorem gX46_system (a0 : Nat) (a1 : Int32) (M : FM) (T : Ty M) (n_a0 : fm_is M 75 75 a0 = true) (h : HX46_system a0 a1 M) : gd (FX46_system a0 a1 M) (GX46_system a0 a1 M) (OkZ M) := gX46_system_0 a0 a1 M T n_a0 h
noncomputable def GX74_mayCount_68 (s0 : Int32) (M : FM) : Int32 × FM :=
  (s0, M)
theorem gX74_mayCount_68 (s0 : Int32) (M : FM) (T : Ty M) (z_s0 : s0 = 0 ∨ s0 = 1) : gd (FX74_mayCount_68 s0 M) (GX74_mayCount_68 s0 M) (OkZ M) := by
  delta FX74_mayCount_68 BX74_mayCount_68
  exact gd_z z_s0 ⟨T.1, T.2⟩ (ext_r _) rfl
noncomputable def GX74_mayCount_67 (M : FM) : Int32 × FM :=
  GX74_mayCount_68 (Int32.ofInt 0) M
theorem gX74_mayCount_67 (M : FM) (T : Ty M) : gd (FX74_mayCount_67 M) (GX74_mayCount_67 M) (OkZ M) := by
  delta FX74_mayCount_67 BX74_mayCount_67
  exact gd_tZ (ext_r _) (gX74_mayCount_68 _ _ ⟨T.1, T.2⟩ fz_0 )
noncomputable def GX74_mayCount_63 (M : FM) : Int32 × FM :=
  GX74_mayCount_68 (Int32.ofInt 1) M
theorem gX74_mayCount_63 (M : FM) (T : Ty M) : gd (FX74_mayCount_63 M) (GX74_mayCount_63 M) (OkZ M) := by
  delta FX74_mayCount_63 BX74_mayCount_63
  exact gd_tZ (ext_r _) (gX74_mayCount_68 _ _ ⟨T.1, T.2⟩ fz_1 )
noncomputable def GX74_mayCount_32 (a0 : Nat) (a1 : Int32) (s0 : Int32) (M : FM) : Int32 × FM :=
  fi (s0 = 0) (
    GX74_mayCount_67 M) (
    fi ((M.1 37 a0 0) = 0) (
      let x1 : Nat := (M.2.2 33 a0 0)
      let x2 : Nat := (M.2.2 54 x1 0)
      let r3 : Int64 × FM := (fi (fm_is M 14 14 x2 = true) (GX77_show x2 M) ((fi (fm_is M 15 15 x2 = true) (GX79_show x2 M) ((fi (fm_is M 16 16 x2 = true) (GX78_show x2 M) (GX77_show x2 M))))))
      fi ((lg_cmp ((r3.1 >>> (a1.toInt64 &&& 63)) &&& (Int64.ofInt 1)) (Int64.ofInt 1)) = 0) (
        GX74_mayCount_63 r3.2) (
        GX74_mayCount_67 r3.2)) (
      GX74_mayCount_63 M))
theorem gX74_mayCount_32 (a0 : Nat) (a1 : Int32) (s0 : Int32) (M : FM) (T : Ty M) (n_a0 : fm_is M 12 12 a0 = true) : gd (FX74_mayCount_32 a0 a1 s0 M) (GX74_mayCount_32 a0 a1 s0 M) (OkZ M) := by
  delta FX74_mayCount_32 BX74_mayCount_32
  refine gd_fi (fun c0_0 => ?_) (fun c0_0 => ?_)
  · exact gd_tZ (ext_r _) (gX74_mayCount_67  _ ⟨T.1, T.2⟩  )
  · refine gd_c n_a0 ?_
    refine gd_fi (fun c1_0 => ?_) (fun c1_0 => ?_)
    · refine gd_c n_a0 ?_
      have f2 := (tN_33 T.1 n_a0)
      refine gd_c f2 ?_
      have f3 := (tN_54 T.1 (tN_33 T.1 n_a0))
      refine gd_kb (gk_fi (gk_b _ _) (gk_fi (gk_b _ _) (gk_fi (gk_b _ _) (gk_fi (gk_b _ _) gk_0)))) (gd_fi (fun c4 => (gX77_show _ _ ⟨T.1, T.2⟩ (fm_w (lo' := 14) (hi' := 17) rfl rfl c4) )) (fun c4 => (gd_fi (fun c5 => (gX79_show _ _ ⟨T.1, T.2⟩ c5 )) (fun c5 => (gd_fi (fun c6 => (gX78_show _ _ ⟨T.1, T.2⟩ c6 )) (fun c6 => (gd_c (fm_up (fm_up (fm_up f3 c4) c5) c6) (gX77_show _ _ ⟨T.1, T.2⟩ (fm_w (lo' := 14) (hi' := 17) rfl rfl (fm_up (fm_up (fm_up f3 c4) c5) c6)) )))))))) (fun K7 => ?_)
      refine gd_fi (fun c8_0 => ?_) (fun c8_0 => ?_)
      · exact gd_tZ K7.2 (gX74_mayCount_63  _ ⟨K7.1.1, K7.1.2⟩  )
      · exact gd_tZ K7.2 (gX74_mayCount_67  _ ⟨K7.1.1, K7.1.2⟩  )
    · exact gd_tZ (ext_r _) (gX74_mayCount_63  _ ⟨T.1, T.2⟩  )
noncomputable def GX74_mayCount_27 (a0 : Nat) (a1 : Int32) (M : FM) : Int32 × FM :=
  GX74_mayCount_32 a0 a1 (Int32.ofInt 1) M
theorem gX74_mayCount_27 (a0 : Nat) (a1 : Int32) (M : FM) (T : Ty M) (n_a0 : fm_is M 12 12 a0 = true) : gd (FX74_mayCount_27 a0 a1 M) (GX74_mayCount_27 a0 a1 M) (OkZ M) := by
  delta FX74_mayCount_27 BX74_mayCount_27
  exact gd_tZ (ext_r _) (gX74_mayCount_32 _ _ _ _ ⟨T.1, T.2⟩ n_a0 )
noncomputable def GX74_mayCount_0 (a0 : Nat) (a1 : Int32) (M : FM) : Int32 × FM :=
  fi ((M.1 37 a0 0) = (Int32.ofInt 3)) (
    GX74_mayCount_27 a0 a1 M) (
    let x1 : Nat := (M.2.2 32 a0 0)
    let x2 : Nat := (M.2.2 54 x1 0)
    let r3 : Int64 × FM := (fi (fm_is M 14 14 x2 = true) (GX77_show x2 M) ((fi (fm_is M 15 15 x2 = true) (GX79_show x2 M) ((fi (fm_is M 16 16 x2 = true) (GX78_show x2 M) (GX77_show x2 M))))))
    fi ((lg_cmp ((r3.1 >>> (a1.toInt64 &&& 63)) &&& (Int64.ofInt 1)) (Int64.ofInt 1)) = 0) (
      GX74_mayCount_27 a0 a1 r3.2) (
      GX74_mayCount_32 a0 a1 (Int32.ofInt 0) r3.2))
theorem gX74_mayCount_0 (a0 : Nat) (a1 : Int32) (M : FM) (T : Ty M) (n_a0 : fm_is M 12 12 a0 = true) : gd (FX74_mayCount_0 a0 a1 M) (GX74_mayCount_0 a0 a1 M) (OkZ M) := by
  delta FX74_mayCount_0 BX74_mayCount_0
  refine gd_c n_a0 ?_
  refine gd_fi (fun c0_0 => ?_) (fun c0_0 => ?_)
  · exact gd_tZ (ext_r _) (gX74_mayCount_27 _ _ _ ⟨T.1, T.2⟩ n_a0 )
  · refine gd_c n_a0 ?_
    have f1 := (tN_32 T.1 n_a0)
    refine gd_c f1 ?_
    have f2 := (tN_54 T.1 (tN_32 T.1 n_a0))
    refine gd_kb (gk_fi (gk_b _ _) (gk_fi (gk_b _ _) (gk_fi (gk_b _ _) (gk_fi (gk_b _ _) gk_0)))) (gd_fi (fun c3 => (gX77_show _ _ ⟨T.1, T.2⟩ (fm_w (lo' := 14) (hi' := 17) rfl rfl c3) )) (fun c3 => (gd_fi (fun c4 => (gX79_show _ _ ⟨T.1, T.2⟩ c4 )) (fun c4 => (gd_fi (fun c5 => (gX78_show _ _ ⟨T.1, T.2⟩ c5 )) (fun c5 => (gd_c (fm_up (fm_up (fm_up f2 c3) c4) c5) (gX77_show _ _ ⟨T.1, T.2⟩ (fm_w (lo' := 14) (hi' := 17) rfl rfl (fm_up (fm_up (fm_up f2 c3) c4) c5)) )))))))) (fun K6 => ?_)
    refine gd_fi (fun c7_0 => ?_) (fun c7_0 => ?_)
    · have f8 := (ext_is K6.2 (Nat.zero_lt_succ _) n_a0)
      exact gd_tZ K6.2 (gX74_mayCount_27 _ _ _ ⟨K6.1.1, K6.1.2⟩ f8 )
    · have f9 := (ext_is K6.2 (Nat.zero_lt_succ _) n_a0)
      exact gd_tZ K6.2 (gX74_mayCount_32 _ _ _ _ ⟨K6.1.1, K6.1.2⟩ f9 )
noncomputable def GX74_mayCount (a0 : Nat) (a1 : Int32) (M : FM) : Int32 × FM := GX74_mayCount_0 a0 a1 M
theorem gX74_mayCount (a0 : Nat) (a1 : Int32) (M : FM) (T : Ty M) (n_a0 : fm_is M 12 12 a0 = true) : gd (FX74_mayCount a0 a1 M) (GX74_mayCount a0 a1 M) (OkZ M) := gX74_mayCount_0 a0 a1 M T n_a0 
noncomputable def GX74_isIllegal_160 (s0 : Int32) (M : FM) : Int32 × FM :=
  (s0, M)
theorem gX74_isIllegal_160 (s0 : Int32) (M : FM) (T : Ty M) (z_s0 : s0 = 0 ∨ s0 = 1) : gd (FX74_isIllegal_160 s0 M) (GX74_isIllegal_160 s0 M) (OkZ M) := by
  delta FX74_isIllegal_160 BX74_isIllegal_160
  exact gd_z z_s0 ⟨T.1, T.2⟩ (ext_r _) rfl
noncomputable def GX74_isIllegal_155 (M : FM) : Int32 × FM :=
  GX74_isIllegal_160 (Int32.ofInt 1) M
theorem gX74_isIllegal_155 (M : FM) (T : Ty M) : gd (FX74_isIllegal_155 M) (GX74_isIllegal_155 M) (OkZ M) := by
  delta FX74_isIllegal_155 BX74_isIllegal_155
  exact gd_tZ (ext_r _) (gX74_isIllegal_160 _ _ ⟨T.1, T.2⟩ fz_1 )
noncomputable def GX74_isIllegal_120 (a0 : Nat) (a1 : Int32) (a3 : Int32) (a4 : Int32) (a5 : Int32) (a6 : Int32) (s0 : Int32) (M : FM) : Int32 × FM :=
  let x1 : Nat := (M.2.2 25 a0 0)
  fi ((M.2.2 3 x1 a1.toNatClampNeg) = 0) (
    GX74_isIllegal_155 M) (
    fi (a3 = 0) (
      fi (a4 = 0) (
        fi (a5 = 0) (
          fi (a6 = 0) (
            fi (s0 = 0) (
              GX74_isIllegal_160 (Int32.ofInt 0) M) (
              GX74_isIllegal_155 M)) (
            GX74_isIllegal_155 M)) (
          GX74_isIllegal_155 M)) (
        GX74_isIllegal_155 M)) (
      GX74_isIllegal_155 M))
def HX74_isIllegal_120 (a0 : Nat) (a1 : Int32) (a3 : Int32) (a4 : Int32) (a5 : Int32) (a6 : Int32) (s0 : Int32) (M : FM) : Prop := let x1 : Nat := (M.2.2 25 a0 0); (fm_in M x1 a1 = true ∧ True)
theorem gX74_isIllegal_120 (a0 : Nat) (a1 : Int32) (a3 : Int32) (a4 : Int32) (a5 : Int32) (a6 : Int32) (s0 : Int32) (M : FM) (T : Ty M) (n_a0 : fm_is M 12 12 a0 = true) (h : HX74_isIllegal_120 a0 a1 a3 a4 a5 a6 s0 M) : gd (FX74_isIllegal_120 a0 a1 a3 a4 a5 a6 s0 M) (GX74_isIllegal_120 a0 a1 a3 a4 a5 a6 s0 M) (OkZ M) := by
  delta FX74_isIllegal_120 BX74_isIllegal_120
  refine gd_c n_a0 ?_
  have f6 := (fm_w (lo' := 910) (hi' := 990) rfl rfl (tN_25 T.1 n_a0))
  refine gd_c ⟨f6, h.1⟩ ?_
  refine gd_fi (fun c0_0 => ?_) (fun c0_0 => ?_)
  · exact gd_tZ (ext_r _) (gX74_isIllegal_155  _ ⟨T.1, T.2⟩  )
  · refine gd_fi (fun c1_0 => ?_) (fun c1_0 => ?_)
    · refine gd_fi (fun c2_0 => ?_) (fun c2_0 => ?_)
      · refine gd_fi (fun c3_0 => ?_) (fun c3_0 => ?_)
        · refine gd_fi (fun c4_0 => ?_) (fun c4_0 => ?_)
          · refine gd_fi (fun c5_0 => ?_) (fun c5_0 => ?_)
            · exact gd_tZ (ext_r _) (gX74_isIllegal_160 _ _ ⟨T.1, T.2⟩ fz_0 )
            · exact gd_tZ (ext_r _) (gX74_isIllegal_155  _ ⟨T.1, T.2⟩  )
          · exact gd_tZ (ext_r _) (gX74_isIllegal_155  _ ⟨T.1, T.2⟩  )
        · exact gd_tZ (ext_r _) (gX74_isIllegal_155  _ ⟨T.1, T.2⟩  )
      · exact gd_tZ (ext_r _) (gX74_isIllegal_155  _ ⟨T.1, T.2⟩  )
    · exact gd_tZ (ext_r _) (gX74_isIllegal_155  _ ⟨T.1, T.2⟩  )
noncomputable def GX74_isIllegal_119 (a0 : Nat) (a1 : Int32) (a3 : Int32) (a4 : Int32) (a5 : Int32) (a6 : Int32) (M : FM) : Int32 × FM :=
  GX74_isIllegal_120 a0 a1 a3 a4 a5 a6 (Int32.ofInt 0) M
def HX74_isIllegal_119 (a0 : Nat) (a1 : Int32) (a3 : Int32) (a4 : Int32) (a5 : Int32) (a6 : Int32) (M : FM) : Prop := HX74_isIllegal_120 a0 a1 a3 a4 a5 a6 (Int32.ofInt 0) M
theorem gX74_isIllegal_119 (a0 : Nat) (a1 : Int32) (a3 : Int32) (a4 : Int32) (a5 : Int32) (a6 : Int32) (M : FM) (T : Ty M) (n_a0 : fm_is M 12 12 a0 = true) (h : HX74_isIllegal_119 a0 a1 a3 a4 a5 a6 M) : gd (FX74_isIllegal_119 a0 a1 a3 a4 a5 a6 M) (GX74_isIllegal_119 a0 a1 a3 a4 a5 a6 M) (OkZ M) := by
  delta FX74_isIllegal_119 BX74_isIllegal_119
  exact gd_tZ (ext_r _) (gX74_isIllegal_120 _ _ _ _ _ _ _ _ ⟨T.1, T.2⟩ n_a0 h)
noncomputable def GX74_isIllegal_89 (a0 : Nat) (a1 : Int32) (a3 : Int32) (a4 : Int32) (a5 : Int32) (s0 : Int32) (M : FM) : Int32 × FM :=
  fi (a1 < (Int32.ofInt 3072)) (
    GX74_isIllegal_119 a0 a1 a3 a4 a5 s0 M) (
    fi ((Int32.ofInt 3074) < a1) (
      GX74_isIllegal_119 a0 a1 a3 a4 a5 s0 M) (
      let r1 : Int32 × FM := GX74_mayCount a0 (a1 &&& (Int32.ofInt 3)) M
      fi (r1.1 = 0) (
        GX74_isIllegal_120 a0 a1 a3 a4 a5 s0 (Int32.ofInt 1) r1.2) (
        GX74_isIllegal_119 a0 a1 a3 a4 a5 s0 r1.2)))
def HX74_isIllegal_89 (a0 : Nat) (a1 : Int32) (a3 : Int32) (a4 : Int32) (a5 : Int32) (s0 : Int32) (M : FM) : Prop := ((a1 < (Int32.ofInt 3072) → HX74_isIllegal_119 a0 a1 a3 a4 a5 s0 M) ∧ (¬ (a1 < (Int32.ofInt 3072)) → (((Int32.ofInt 3074) < a1 → HX74_isIllegal_119 a0 a1 a3 a4 a5 s0 M) ∧ (¬ ((Int32.ofInt 3074) < a1) → let r1 : Int32 × FM := GX74_mayCount a0 (a1 &&& (Int32.ofInt 3)) M; ((r1.1 = 0 → HX74_isIllegal_120 a0 a1 a3 a4 a5 s0 (Int32.ofInt 1) r1.2) ∧ (¬ (r1.1 = 0) → HX74_isIllegal_119 a0 a1 a3 a4 a5 s0 r1.2))))))
theorem gX74_isIllegal_89 (a0 : Nat) (a1 : Int32) (a3 : Int32) (a4 : Int32) (a5 : Int32) (s0 : Int32) (M : FM) (T : Ty M) (n_a0 : fm_is M 12 12 a0 = true) (h : HX74_isIllegal_89 a0 a1 a3 a4 a5 s0 M) : gd (FX74_isIllegal_89 a0 a1 a3 a4 a5 s0 M) (GX74_isIllegal_89 a0 a1 a3 a4 a5 s0 M) (OkZ M) := by
  delta FX74_isIllegal_89 BX74_isIllegal_89
  refine gd_fi (fun c0_0 => ?_) (fun c0_0 => ?_)
  · exact gd_tZ (ext_r _) (gX74_isIllegal_119 _ _ _ _ _ _ _ ⟨T.1, T.2⟩ n_a0 (h.1 c0_0))
  · refine gd_fi (fun c1_0 => ?_) (fun c1_0 => ?_)
    · exact gd_tZ (ext_r _) (gX74_isIllegal_119 _ _ _ _ _ _ _ ⟨T.1, T.2⟩ n_a0 ((h.2 c0_0).1 c1_0))
    · refine gd_c n_a0 ?_
      refine gd_b (gX74_mayCount _ _ _ ⟨T.1, T.2⟩ n_a0 ) (fun K2 => ?_)
      refine gd_fi (fun c3_0 => ?_) (fun c3_0 => ?_)
      · have f4 := (ext_is K2.2.1 (Nat.zero_lt_succ _) n_a0)
        exact gd_tZ K2.2.1 (gX74_isIllegal_120 _ _ _ _ _ _ _ _ ⟨K2.1.1, K2.1.2⟩ f4 (((h.2 c0_0).2 c1_0).1 c3_0))
      · have f5 := (ext_is K2.2.1 (Nat.zero_lt_succ _) n_a0)
        exact gd_tZ K2.2.1 (gX74_isIllegal_119 _ _ _ _ _ _ _ ⟨K2.1.1, K2.1.2⟩ f5 (((h.2 c0_0).2 c1_0).2 c3_0))
noncomputable def GX74_isIllegal_88 (a0 : Nat) (a1 : Int32) (a3 : Int32) (a4 : Int32) (a5 : Int32) (M : FM) : Int32 × FM :=
  GX74_isIllegal_89 a0 a1 a3 a4 a5 (Int32.ofInt 0) M
def HX74_isIllegal_88 (a0 : Nat) (a1 : Int32) (a3 : Int32) (a4 : Int32) (a5 : Int32) (M : FM) : Prop := HX74_isIllegal_89 a0 a1 a3 a4 a5 (Int32.ofInt 0) M
theorem gX74_isIllegal_88 (a0 : Nat) (a1 : Int32) (a3 : Int32) (a4 : Int32) (a5 : Int32) (M : FM) (T : Ty M) (n_a0 : fm_is M 12 12 a0 = true) (h : HX74_isIllegal_88 a0 a1 a3 a4 a5 M) : gd (FX74_isIllegal_88 a0 a1 a3 a4 a5 M) (GX74_isIllegal_88 a0 a1 a3 a4 a5 M) (OkZ M) := by
  delta FX74_isIllegal_88 BX74_isIllegal_88
  exact gd_tZ (ext_r _) (gX74_isIllegal_89 _ _ _ _ _ _ _ ⟨T.1, T.2⟩ n_a0 h)
noncomputable def GX74_isIllegal_70 (a0 : Nat) (a1 : Int32) (a3 : Int32) (a4 : Int32) (s0 : Int32) (M : FM) : Int32 × FM :=
  fi ((Int32.ofInt 4) ≤ a1) (
    GX74_isIllegal_88 a0 a1 a3 a4 s0 M) (
    let r1 : Int32 × FM := GX74_floats a0 M
    fi (r1.1 = 0) (
      GX74_isIllegal_89 a0 a1 a3 a4 s0 (Int32.ofInt 1) r1.2) (
      GX74_isIllegal_88 a0 a1 a3 a4 s0 r1.2))
def HX74_isIllegal_70 (a0 : Nat) (a1 : Int32) (a3 : Int32) (a4 : Int32) (s0 : Int32) (M : FM) : Prop := (((Int32.ofInt 4) ≤ a1 → HX74_isIllegal_88 a0 a1 a3 a4 s0 M) ∧ (¬ ((Int32.ofInt 4) ≤ a1) → let r1 : Int32 × FM := GX74_floats a0 M; ((r1.1 = 0 → HX74_isIllegal_89 a0 a1 a3 a4 s0 (Int32.ofInt 1) r1.2) ∧ (¬ (r1.1 = 0) → HX74_isIllegal_88 a0 a1 a3 a4 s0 r1.2))))
theorem gX74_isIllegal_70 (a0 : Nat) (a1 : Int32) (a3 : Int32) (a4 : Int32) (s0 : Int32) (M : FM) (T : Ty M) (n_a0 : fm_is M 12 12 a0 = true) (h : HX74_isIllegal_70 a0 a1 a3 a4 s0 M) : gd (FX74_isIllegal_70 a0 a1 a3 a4 s0 M) (GX74_isIllegal_70 a0 a1 a3 a4 s0 M) (OkZ M) := by
  delta FX74_isIllegal_70 BX74_isIllegal_70
  refine gd_fi (fun c0_0 => ?_) (fun c0_0 => ?_)
  · exact gd_tZ (ext_r _) (gX74_isIllegal_88 _ _ _ _ _ _ ⟨T.1, T.2⟩ n_a0 (h.1 c0_0))
  · refine gd_c n_a0 ?_
    refine gd_b (gX74_floats _ _ ⟨T.1, T.2⟩ n_a0 ) (fun K1 => ?_)
    refine gd_fi (fun c2_0 => ?_) (fun c2_0 => ?_)
    · have f3 := (ext_is K1.2.1 (Nat.zero_lt_succ _) n_a0)
      exact gd_tZ K1.2.1 (gX74_isIllegal_89 _ _ _ _ _ _ _ ⟨K1.1.1, K1.1.2⟩ f3 ((h.2 c0_0).1 c2_0))
    · have f4 := (ext_is K1.2.1 (Nat.zero_lt_succ _) n_a0)
      exact gd_tZ K1.2.1 (gX74_isIllegal_88 _ _ _ _ _ _ ⟨K1.1.1, K1.1.2⟩ f4 ((h.2 c0_0).2 c2_0))
noncomputable def GX74_isIllegal_69 (a0 : Nat) (a1 : Int32) (a3 : Int32) (a4 : Int32) (M : FM) : Int32 × FM :=
  GX74_isIllegal_70 a0 a1 a3 a4 (Int32.ofInt 0) M
def HX74_isIllegal_69 (a0 : Nat) (a1 : Int32) (a3 : Int32) (a4 : Int32) (M : FM) : Prop := HX74_isIllegal_70 a0 a1 a3 a4 (Int32.ofInt 0) M
theorem gX74_isIllegal_69 (a0 : Nat) (a1 : Int32) (a3 : Int32) (a4 : Int32) (M : FM) (T : Ty M) (n_a0 : fm_is M 12 12 a0 = true) (h : HX74_isIllegal_69 a0 a1 a3 a4 M) : gd (FX74_isIllegal_69 a0 a1 a3 a4 M) (GX74_isIllegal_69 a0 a1 a3 a4 M) (OkZ M) := by
  delta FX74_isIllegal_69 BX74_isIllegal_69
  exact gd_tZ (ext_r _) (gX74_isIllegal_70 _ _ _ _ _ _ ⟨T.1, T.2⟩ n_a0 h)
noncomputable def GX74_isIllegal_36 (a0 : Nat) (a1 : Int32) (a3 : Int32) (s0 : Int32) (M : FM) : Int32 × FM :=
  fi (a1 = (Int32.ofInt 384)) (
    fi ((M.1 37 a0 0) = (Int32.ofInt 1)) (
      let x1 : Nat := (M.2.2 27 a0 0)
      let r2 : Int32 × FM := GX78_has x1 (Int32.ofInt 20) M
      fi (r2.1 = 0) (
        GX74_isIllegal_69 a0 a1 a3 s0 r2.2) (
        GX74_isIllegal_70 a0 a1 a3 s0 (Int32.ofInt 1) r2.2)) (
      GX74_isIllegal_69 a0 a1 a3 s0 M)) (
    GX74_isIllegal_69 a0 a1 a3 s0 M)
def HX74_isIllegal_36 (a0 : Nat) (a1 : Int32) (a3 : Int32) (s0 : Int32) (M : FM) : Prop := ((a1 = (Int32.ofInt 384) → (((M.1 37 a0 0) = (Int32.ofInt 1) → let x1 : Nat := (M.2.2 27 a0 0); let r2 : Int32 × FM := GX78_has x1 (Int32.ofInt 20) M; ((r2.1 = 0 → HX74_isIllegal_69 a0 a1 a3 s0 r2.2) ∧ (¬ (r2.1 = 0) → HX74_isIllegal_70 a0 a1 a3 s0 (Int32.ofInt 1) r2.2))) ∧ (¬ ((M.1 37 a0 0) = (Int32.ofInt 1)) → HX74_isIllegal_69 a0 a1 a3 s0 M))) ∧ (¬ (a1 = (Int32.ofInt 384)) → HX74_isIllegal_69 a0 a1 a3 s0 M))
theorem gX74_isIllegal_36 (a0 : Nat) (a1 : Int32) (a3 : Int32) (s0 : Int32) (M : FM) (T : Ty M) (n_a0 : fm_is M 12 12 a0 = true) (h : HX74_isIllegal_36 a0 a1 a3 s0 M) : gd (FX74_isIllegal_36 a0 a1 a3 s0 M) (GX74_isIllegal_36 a0 a1 a3 s0 M) (OkZ M) := by
  delta FX74_isIllegal_36 BX74_isIllegal_36
  refine gd_fi (fun c0_0 => ?_) (fun c0_0 => ?_)
  · refine gd_c n_a0 ?_
    refine gd_fi (fun c1_0 => ?_) (fun c1_0 => ?_)
    · refine gd_c n_a0 ?_
      have f2 := (tN_27 T.1 n_a0)
      refine gd_c f2 ?_
      have f7 := (tN_27 T.1 n_a0)
      refine gd_b (gX78_has _ _ _ ⟨T.1, T.2⟩ f7 ) (fun K3 => ?_)
      refine gd_fi (fun c4_0 => ?_) (fun c4_0 => ?_)
      · have f5 := (ext_is K3.2.1 (Nat.zero_lt_succ _) n_a0)
        exact gd_tZ K3.2.1 (gX74_isIllegal_69 _ _ _ _ _ ⟨K3.1.1, K3.1.2⟩ f5 (((h.1 c0_0).1 c1_0).1 c4_0))
      · have f6 := (ext_is K3.2.1 (Nat.zero_lt_succ _) n_a0)
        exact gd_tZ K3.2.1 (gX74_isIllegal_70 _ _ _ _ _ _ ⟨K3.1.1, K3.1.2⟩ f6 (((h.1 c0_0).1 c1_0).2 c4_0))
    · exact gd_tZ (ext_r _) (gX74_isIllegal_69 _ _ _ _ _ ⟨T.1, T.2⟩ n_a0 ((h.1 c0_0).2 c1_0))
  · exact gd_tZ (ext_r _) (gX74_isIllegal_69 _ _ _ _ _ ⟨T.1, T.2⟩ n_a0 (h.2 c0_0))
noncomputable def GX74_isIllegal_35 (a0 : Nat) (a1 : Int32) (a3 : Int32) (M : FM) : Int32 × FM :=
  GX74_isIllegal_36 a0 a1 a3 (Int32.ofInt 0) M
def HX74_isIllegal_35 (a0 : Nat) (a1 : Int32) (a3 : Int32) (M : FM) : Prop := HX74_isIllegal_36 a0 a1 a3 (Int32.ofInt 0) M
theorem gX74_isIllegal_35 (a0 : Nat) (a1 : Int32) (a3 : Int32) (M : FM) (T : Ty M) (n_a0 : fm_is M 12 12 a0 = true) (h : HX74_isIllegal_35 a0 a1 a3 M) : gd (FX74_isIllegal_35 a0 a1 a3 M) (GX74_isIllegal_35 a0 a1 a3 M) (OkZ M) := by
  delta FX74_isIllegal_35 BX74_isIllegal_35
  exact gd_tZ (ext_r _) (gX74_isIllegal_36 _ _ _ _ _ ⟨T.1, T.2⟩ n_a0 h)
noncomputable def GX74_isIllegal_18 (a0 : Nat) (a1 : Int32) (a2 : Int32) (s0 : Int32) (M : FM) : Int32 × FM :=
  fi (a2 = 0) (
    GX74_isIllegal_35 a0 a1 s0 M) (
    fi ((a1 >>> ((Int32.ofInt 10) &&& 31)) = (Int32.ofInt 3)) (
      GX74_isIllegal_36 a0 a1 s0 (Int32.ofInt 1) M) (
      GX74_isIllegal_35 a0 a1 s0 M))
def HX74_isIllegal_18 (a0 : Nat) (a1 : Int32) (a2 : Int32) (s0 : Int32) (M : FM) : Prop := ((a2 = 0 → HX74_isIllegal_35 a0 a1 s0 M) ∧ (¬ (a2 = 0) → (((a1 >>> ((Int32.ofInt 10) &&& 31)) = (Int32.ofInt 3) → HX74_isIllegal_36 a0 a1 s0 (Int32.ofInt 1) M) ∧ (¬ ((a1 >>> ((Int32.ofInt 10) &&& 31)) = (Int32.ofInt 3)) → HX74_isIllegal_35 a0 a1 s0 M))))
theorem gX74_isIllegal_18 (a0 : Nat) (a1 : Int32) (a2 : Int32) (s0 : Int32) (M : FM) (T : Ty M) (n_a0 : fm_is M 12 12 a0 = true) (h : HX74_isIllegal_18 a0 a1 a2 s0 M) : gd (FX74_isIllegal_18 a0 a1 a2 s0 M) (GX74_isIllegal_18 a0 a1 a2 s0 M) (OkZ M) := by
  delta FX74_isIllegal_18 BX74_isIllegal_18
  refine gd_fi (fun c0_0 => ?_) (fun c0_0 => ?_)
  · exact gd_tZ (ext_r _) (gX74_isIllegal_35 _ _ _ _ ⟨T.1, T.2⟩ n_a0 (h.1 c0_0))
  · refine gd_fi (fun c1_0 => ?_) (fun c1_0 => ?_)
    · exact gd_tZ (ext_r _) (gX74_isIllegal_36 _ _ _ _ _ ⟨T.1, T.2⟩ n_a0 ((h.2 c0_0).1 c1_0))
    · exact gd_tZ (ext_r _) (gX74_isIllegal_35 _ _ _ _ ⟨T.1, T.2⟩ n_a0 ((h.2 c0_0).2 c1_0))
noncomputable def GX74_isIllegal_0 (a0 : Nat) (a1 : Int32) (a2 : Int32) (M : FM) : Int32 × FM :=
  fi (((a1 >>> ((Int32.ofInt 8) &&& 31)) &&& (Int32.ofInt 3)) ≤ (M.1 37 a0 0)) (
    GX74_isIllegal_18 a0 a1 a2 (Int32.ofInt 0) M) (
    GX74_isIllegal_18 a0 a1 a2 (Int32.ofInt 1) M)
def HX74_isIllegal_0 (a0 : Nat) (a1 : Int32) (a2 : Int32) (M : FM) : Prop := ((((a1 >>> ((Int32.ofInt 8) &&& 31)) &&& (Int32.ofInt 3)) ≤ (M.1 37 a0 0) → HX74_isIllegal_18 a0 a1 a2 (Int32.ofInt 0) M) ∧ (¬ (((a1 >>> ((Int32.ofInt 8) &&& 31)) &&& (Int32.ofInt 3)) ≤ (M.1 37 a0 0)) → HX74_isIllegal_18 a0 a1 a2 (Int32.ofInt 1) M))
theorem gX74_isIllegal_0 (a0 : Nat) (a1 : Int32) (a2 : Int32) (M : FM) (T : Ty M) (n_a0 : fm_is M 12 12 a0 = true) (h : HX74_isIllegal_0 a0 a1 a2 M) : gd (FX74_isIllegal_0 a0 a1 a2 M) (GX74_isIllegal_0 a0 a1 a2 M) (OkZ M) := by
  delta FX74_isIllegal_0 BX74_isIllegal_0
  refine gd_c n_a0 ?_
  refine gd_fi (fun c0_0 => ?_) (fun c0_0 => ?_)
  · exact gd_tZ (ext_r _) (gX74_isIllegal_18 _ _ _ _ _ ⟨T.1, T.2⟩ n_a0 (h.1 c0_0))
  · exact gd_tZ (ext_r _) (gX74_isIllegal_18 _ _ _ _ _ ⟨T.1, T.2⟩ n_a0 (h.2 c0_0))
noncomputable def GX74_isIllegal (a0 : Nat) (a1 : Int32) (a2 : Int32) (M : FM) : Int32 × FM := GX74_isIllegal_0 a0 a1 a2 M
def HX74_isIllegal (a0 : Nat) (a1 : Int32) (a2 : Int32) (M : FM) : Prop := HX74_isIllegal_0 a0 a1 a2 M
theorem gX74_isIllegal (a0 : Nat) (a1 : Int32) (a2 : Int32) (M : FM) (T : Ty M) (n_a0 : fm_is M 12 12 a0 = true) (h : HX74_isIllegal a0 a1 a2 M) : gd (FX74_isIllegal a0 a1 a2 M) (GX74_isIllegal a0 a1 a2 M) (OkZ M) := gX74_isIllegal_0 a0 a1 a2 M T n_a0 h
noncomputable def GX76_show_0 (a0 : Nat) (M : FM) : Int64 × FM :=
  ((M.2.1 40 a0 0), M)
theorem gX76_show_0 (a0 : Nat) (M : FM) (T : Ty M) (n_a0 : fm_is M 13 13 a0 = true) : gd (FX76_show_0 a0 M) (GX76_show_0 a0 M) (OkR M) := by
  delta FX76_show_0 BX76_show_0
  refine gd_c n_a0 ?_
  exact ⟨rfl, ⟨T.1, T.2⟩, (ext_r _)⟩
noncomputable def GX76_show (a0 : Nat) (M : FM) : Int64 × FM := GX76_show_0 a0 M
theorem gX76_show (a0 : Nat) (M : FM) (T : Ty M) (n_a0 : fm_is M 13 13 a0 = true) : gd (FX76_show a0 M) (GX76_show a0 M) (OkR M) := gX76_show_0 a0 M T n_a0 
noncomputable def GX83_show_0 (a0 : Nat) (M : FM) : Int64 × FM :=
  let x1 : Nat := (M.2.2 44 a0 0)
  let r2 : Int64 × FM := (fi (fm_is M 13 13 x1 = true) (GX76_show x1 M) ((fi (fm_is M 14 14 x1 = true) (GX77_show x1 M) ((fi (fm_is M 15 15 x1 = true) (GX79_show x1 M) ((fi (fm_is M 16 16 x1 = true) (GX78_show x1 M) (GX77_show x1 M))))))))
  (r2.1, r2.2)
def HX83_show_0 (a0 : Nat) (M : FM) : Prop := let x1 : Nat := (M.2.2 44 a0 0); (((fm_is M 13 13 x1 = true → True) ∧ (¬ (fm_is M 13 13 x1 = true) → ((fm_is M 14 14 x1 = true → True) ∧ (¬ (fm_is M 14 14 x1 = true) → ((fm_is M 15 15 x1 = true → True) ∧ (¬ (fm_is M 15 15 x1 = true) → ((fm_is M 16 16 x1 = true → True) ∧ (¬ (fm_is M 16 16 x1 = true) → (fm_is M 17 17 x1 = true ∧ True))))))))) ∧ True)
theorem gX83_show_0 (a0 : Nat) (M : FM) (T : Ty M) (n_a0 : fm_is M 18 18 a0 = true) (h : HX83_show_0 a0 M) : gd (FX83_show_0 a0 M) (GX83_show_0 a0 M) (OkR M) := by
  delta FX83_show_0 BX83_show_0
  refine gd_c n_a0 ?_
  refine gd_kb (gk_fi (gk_b _ _) (gk_fi (gk_b _ _) (gk_fi (gk_b _ _) (gk_fi (gk_b _ _) (gk_fi (gk_b _ _) gk_0))))) (gd_fi (fun c0 => (gX76_show _ _ ⟨T.1, T.2⟩ c0 )) (fun c0 => (gd_fi (fun c1 => (gX77_show _ _ ⟨T.1, T.2⟩ (fm_w (lo' := 14) (hi' := 17) rfl rfl c1) )) (fun c1 => (gd_fi (fun c2 => (gX79_show _ _ ⟨T.1, T.2⟩ c2 )) (fun c2 => (gd_fi (fun c3 => (gX78_show _ _ ⟨T.1, T.2⟩ c3 )) (fun c3 => (gd_c ((((h.1.2 c0).2 c1).2 c2).2 c3).1 (gX77_show _ _ ⟨T.1, T.2⟩ (fm_w (lo' := 14) (hi' := 17) rfl rfl ((((h.1.2 c0).2 c1).2 c2).2 c3).1) )))))))))) (fun K4 => ?_)
  exact ⟨rfl, ⟨K4.1.1, K4.1.2⟩, K4.2⟩
noncomputable def GX83_show (a0 : Nat) (M : FM) : Int64 × FM := GX83_show_0 a0 M
def HX83_show (a0 : Nat) (M : FM) : Prop := HX83_show_0 a0 M
theorem gX83_show (a0 : Nat) (M : FM) (T : Ty M) (n_a0 : fm_is M 18 18 a0 = true) (h : HX83_show a0 M) : gd (FX83_show a0 M) (GX83_show a0 M) (OkR M) := gX83_show_0 a0 M T n_a0 h
noncomputable def GX81_show_0 (a0 : Nat) (M : FM) : Int64 × FM :=
  let x1 : Nat := (M.2.2 45 a0 0)
  let r2 : Int64 × FM := (fi (fm_is M 14 14 x1 = true) (GX77_show x1 M) ((fi (fm_is M 15 15 x1 = true) (GX79_show x1 M) ((fi (fm_is M 16 16 x1 = true) (GX78_show x1 M) (GX77_show x1 M))))))
  let x3 : Nat := (r2.2.2.2 46 a0 0)
  let r4 : Int64 × FM := (fi (fm_is r2.2 13 13 x3 = true) (GX76_show x3 r2.2) ((fi (fm_is r2.2 14 14 x3 = true) (GX77_show x3 r2.2) ((fi (fm_is r2.2 15 15 x3 = true) (GX79_show x3 r2.2) ((fi (fm_is r2.2 16 16 x3 = true) (GX78_show x3 r2.2) (GX77_show x3 r2.2))))))))
  ((r2.1 &&& (r4.1 ||| (r4.2.2.1 48 a0 0))), r4.2)
def HX81_show_0 (a0 : Nat) (M : FM) : Prop := let x1 : Nat := (M.2.2 45 a0 0); let r2 : Int64 × FM := (fi (fm_is M 14 14 x1 = true) (GX77_show x1 M) ((fi (fm_is M 15 15 x1 = true) (GX79_show x1 M) ((fi (fm_is M 16 16 x1 = true) (GX78_show x1 M) (GX77_show x1 M)))))); let x3 : Nat := (r2.2.2.2 46 a0 0); (((fm_is r2.2 13 13 x3 = true → True) ∧ (¬ (fm_is r2.2 13 13 x3 = true) → ((fm_is r2.2 14 14 x3 = true → True) ∧ (¬ (fm_is r2.2 14 14 x3 = true) → ((fm_is r2.2 15 15 x3 = true → True) ∧ (¬ (fm_is r2.2 15 15 x3 = true) → ((fm_is r2.2 16 16 x3 = true → True) ∧ (¬ (fm_is r2.2 16 16 x3 = true) → (fm_is r2.2 17 17 x3 = true ∧ True))))))))) ∧ True)
theorem gX81_show_0 (a0 : Nat) (M : FM) (T : Ty M) (n_a0 : fm_is M 19 19 a0 = true) (h : HX81_show_0 a0 M) : gd (FX81_show_0 a0 M) (GX81_show_0 a0 M) (OkR M) := by
  delta FX81_show_0 BX81_show_0
  refine gd_c n_a0 ?_
  have f0 := (tN_45 T.1 n_a0)
  refine gd_kb (gk_fi (gk_b _ _) (gk_fi (gk_b _ _) (gk_fi (gk_b _ _) (gk_fi (gk_b _ _) gk_0)))) (gd_fi (fun c1 => (gX77_show _ _ ⟨T.1, T.2⟩ (fm_w (lo' := 14) (hi' := 17) rfl rfl c1) )) (fun c1 => (gd_fi (fun c2 => (gX79_show _ _ ⟨T.1, T.2⟩ c2 )) (fun c2 => (gd_fi (fun c3 => (gX78_show _ _ ⟨T.1, T.2⟩ c3 )) (fun c3 => (gd_c (fm_up (fm_up (fm_up f0 c1) c2) c3) (gX77_show _ _ ⟨T.1, T.2⟩ (fm_w (lo' := 14) (hi' := 17) rfl rfl (fm_up (fm_up (fm_up f0 c1) c2) c3)) )))))))) (fun K4 => ?_)
  have f5 := (ext_is K4.2 (Nat.zero_lt_succ _) n_a0)
  refine gd_c f5 ?_
  refine gd_kb (gk_fi (gk_b _ _) (gk_fi (gk_b _ _) (gk_fi (gk_b _ _) (gk_fi (gk_b _ _) (gk_fi (gk_b _ _) gk_0))))) (gd_fi (fun c6 => (gX76_show _ _ ⟨K4.1.1, K4.1.2⟩ c6 )) (fun c6 => (gd_fi (fun c7 => (gX77_show _ _ ⟨K4.1.1, K4.1.2⟩ (fm_w (lo' := 14) (hi' := 17) rfl rfl c7) )) (fun c7 => (gd_fi (fun c8 => (gX79_show _ _ ⟨K4.1.1, K4.1.2⟩ c8 )) (fun c8 => (gd_fi (fun c9 => (gX78_show _ _ ⟨K4.1.1, K4.1.2⟩ c9 )) (fun c9 => (gd_c ((((h.1.2 c6).2 c7).2 c8).2 c9).1 (gX77_show _ _ ⟨K4.1.1, K4.1.2⟩ (fm_w (lo' := 14) (hi' := 17) rfl rfl ((((h.1.2 c6).2 c7).2 c8).2 c9).1) )))))))))) (fun K10 => ?_)
  have f11 := (ext_is K10.2 (Nat.zero_lt_succ _) (ext_is K4.2 (Nat.zero_lt_succ _) n_a0))
  refine gd_c f11 ?_
  exact ⟨rfl, ⟨K10.1.1, K10.1.2⟩, (ext_tr K4.2 K10.2)⟩
noncomputable def GX81_show (a0 : Nat) (M : FM) : Int64 × FM := GX81_show_0 a0 M
def HX81_show (a0 : Nat) (M : FM) : Prop := HX81_show_0 a0 M
theorem gX81_show (a0 : Nat) (M : FM) (T : Ty M) (n_a0 : fm_is M 19 19 a0 = true) (h : HX81_show a0 M) : gd (FX81_show a0 M) (GX81_show a0 M) (OkR M) := gX81_show_0 a0 M T n_a0 h
noncomputable def GX76_write_0 (a0 : Nat) (a1 : Int64) (M : FM) : FM :=
  M
theorem gX76_write_0 (a0 : Nat) (a1 : Int64) (M : FM) (T : Ty M) : gd (FX76_write_0 a0 a1 M) (GX76_write_0 a0 a1 M) (OkV M) := by
  delta FX76_write_0 BX76_write_0
  exact ⟨rfl, ⟨T.1, T.2⟩, (ext_r _)⟩
noncomputable def GX76_write (a0 : Nat) (a1 : Int64) (M : FM) : FM := GX76_write_0 a0 a1 M
theorem gX76_write (a0 : Nat) (a1 : Int64) (M : FM) (T : Ty M) : gd (FX76_write a0 a1 M) (GX76_write a0 a1 M) (OkV M) := gX76_write_0 a0 a1 M T 
noncomputable def GX83_write_0 (a0 : Nat) (a1 : Int64) (M : FM) : FM :=
  M
theorem gX83_write_0 (a0 : Nat) (a1 : Int64) (M : FM) (T : Ty M) : gd (FX83_write_0 a0 a1 M) (GX83_write_0 a0 a1 M) (OkV M) := by
  delta FX83_write_0 BX83_write_0
  exact ⟨rfl, ⟨T.1, T.2⟩, (ext_r _)⟩
noncomputable def GX83_write (a0 : Nat) (a1 : Int64) (M : FM) : FM := GX83_write_0 a0 a1 M
theorem gX83_write (a0 : Nat) (a1 : Int64) (M : FM) (T : Ty M) : gd (FX83_write a0 a1 M) (GX83_write a0 a1 M) (OkV M) := gX83_write_0 a0 a1 M T 
noncomputable def GX81_write_0 (a0 : Nat) (a1 : Int64) (M : FM) : FM :=
  let x1 : Nat := (M.2.2 46 a0 0)
  let r2 : Int64 × FM := (fi (fm_is M 13 13 x1 = true) (GX76_show x1 M) ((fi (fm_is M 14 14 x1 = true) (GX77_show x1 M) ((fi (fm_is M 15 15 x1 = true) (GX79_show x1 M) ((fi (fm_is M 16 16 x1 = true) (GX78_show x1 M) (GX77_show x1 M))))))))
  let x3 : Int64 := (r2.1 &&& (r2.2.2.1 47 a0 0))
  let x4 : Nat := (r2.2.2.2 45 a0 0)
  let x5 : Nat := (r2.2.2.2 45 a0 0)
  let M6 : FM := fm_sL r2.2 41 x5 0 (((r2.2.2.1 41 x4 0) &&& (x3 ^^^ (Int64.ofInt (-1)))) ||| (a1 &&& x3))
  M6
def HX81_write_0 (a0 : Nat) (a1 : Int64) (M : FM) : Prop := let x1 : Nat := (M.2.2 46 a0 0); (((fm_is M 13 13 x1 = true → True) ∧ (¬ (fm_is M 13 13 x1 = true) → ((fm_is M 14 14 x1 = true → True) ∧ (¬ (fm_is M 14 14 x1 = true) → ((fm_is M 15 15 x1 = true → True) ∧ (¬ (fm_is M 15 15 x1 = true) → ((fm_is M 16 16 x1 = true → True) ∧ (¬ (fm_is M 16 16 x1 = true) → (fm_is M 17 17 x1 = true ∧ True))))))))) ∧ True)
theorem gX81_write_0 (a0 : Nat) (a1 : Int64) (M : FM) (T : Ty M) (n_a0 : fm_is M 19 19 a0 = true) (h : HX81_write_0 a0 a1 M) : gd (FX81_write_0 a0 a1 M) (GX81_write_0 a0 a1 M) (OkV M) := by
  delta FX81_write_0 BX81_write_0
  refine gd_c n_a0 ?_
  refine gd_kb (gk_fi (gk_b _ _) (gk_fi (gk_b _ _) (gk_fi (gk_b _ _) (gk_fi (gk_b _ _) (gk_fi (gk_b _ _) gk_0))))) (gd_fi (fun c0 => (gX76_show _ _ ⟨T.1, T.2⟩ c0 )) (fun c0 => (gd_fi (fun c1 => (gX77_show _ _ ⟨T.1, T.2⟩ (fm_w (lo' := 14) (hi' := 17) rfl rfl c1) )) (fun c1 => (gd_fi (fun c2 => (gX79_show _ _ ⟨T.1, T.2⟩ c2 )) (fun c2 => (gd_fi (fun c3 => (gX78_show _ _ ⟨T.1, T.2⟩ c3 )) (fun c3 => (gd_c ((((h.1.2 c0).2 c1).2 c2).2 c3).1 (gX77_show _ _ ⟨T.1, T.2⟩ (fm_w (lo' := 14) (hi' := 17) rfl rfl ((((h.1.2 c0).2 c1).2 c2).2 c3).1) )))))))))) (fun K4 => ?_)
  have f5 := (ext_is K4.2 (Nat.zero_lt_succ _) n_a0)
  refine gd_c f5 ?_
  have f6 := (ext_is K4.2 (Nat.zero_lt_succ _) n_a0)
  refine gd_c f6 ?_
  have f7 := (ext_is K4.2 (Nat.zero_lt_succ _) n_a0)
  refine gd_c f7 ?_
  have f8 := (tN_45 K4.1.1 (ext_is K4.2 (Nat.zero_lt_succ _) n_a0))
  refine gd_c f8 ?_
  have f9 := (tN_45 K4.1.1 (ext_is K4.2 (Nat.zero_lt_succ _) n_a0))
  refine gd_c f9 ?_
  exact ⟨rfl, ⟨K4.1.1, K4.1.2⟩, (ext_tr K4.2 (ext_dL (ext_r _)))⟩
noncomputable def GX81_write (a0 : Nat) (a1 : Int64) (M : FM) : FM := GX81_write_0 a0 a1 M
def HX81_write (a0 : Nat) (a1 : Int64) (M : FM) : Prop := HX81_write_0 a0 a1 M
theorem gX81_write (a0 : Nat) (a1 : Int64) (M : FM) (T : Ty M) (n_a0 : fm_is M 19 19 a0 = true) (h : HX81_write a0 a1 M) : gd (FX81_write a0 a1 M) (GX81_write a0 a1 M) (OkV M) := gX81_write_0 a0 a1 M T n_a0 h
noncomputable def GX75_base_0 (a0 : Nat) (M : FM) : Int64 × FM :=
  let r1 : Int64 × FM := (fi (fm_is M 13 13 a0 = true) (GX76_show a0 M) ((fi (fm_is M 14 14 a0 = true) (GX77_show a0 M) ((fi (fm_is M 15 15 a0 = true) (GX79_show a0 M) ((fi (fm_is M 16 16 a0 = true) (GX78_show a0 M) ((fi (fm_is M 17 17 a0 = true) (GX77_show a0 M) ((fi (fm_is M 18 18 a0 = true) (GX83_show a0 M) (GX81_show a0 M))))))))))))
  (r1.1, r1.2)
def HX75_base_0 (a0 : Nat) (M : FM) : Prop := (((fm_is M 13 13 a0 = true → True) ∧ (¬ (fm_is M 13 13 a0 = true) → ((fm_is M 14 14 a0 = true → True) ∧ (¬ (fm_is M 14 14 a0 = true) → ((fm_is M 15 15 a0 = true → True) ∧ (¬ (fm_is M 15 15 a0 = true) → ((fm_is M 16 16 a0 = true → True) ∧ (¬ (fm_is M 16 16 a0 = true) → ((fm_is M 17 17 a0 = true → True) ∧ (¬ (fm_is M 17 17 a0 = true) → ((fm_is M 18 18 a0 = true → HX83_show a0 M) ∧ (¬ (fm_is M 18 18 a0 = true) → HX81_show a0 M)))))))))))) ∧ True)
theorem gX75_base_0 (a0 : Nat) (M : FM) (T : Ty M) (n_a0 : fm_is M 13 19 a0 = true) (h : HX75_base_0 a0 M) : gd (FX75_base_0 a0 M) (GX75_base_0 a0 M) (OkR M) := by
  delta FX75_base_0 BX75_base_0
  refine gd_kb (gk_fi (gk_b _ _) (gk_fi (gk_b _ _) (gk_fi (gk_b _ _) (gk_fi (gk_b _ _) (gk_fi (gk_b _ _) (gk_fi (gk_b _ _) (gk_fi (gk_b _ _) gk_0))))))) (gd_fi (fun c0 => (gX76_show _ _ ⟨T.1, T.2⟩ c0 )) (fun c0 => (gd_fi (fun c1 => (gX77_show _ _ ⟨T.1, T.2⟩ (fm_w (lo' := 14) (hi' := 17) rfl rfl c1) )) (fun c1 => (gd_fi (fun c2 => (gX79_show _ _ ⟨T.1, T.2⟩ c2 )) (fun c2 => (gd_fi (fun c3 => (gX78_show _ _ ⟨T.1, T.2⟩ c3 )) (fun c3 => (gd_fi (fun c4 => (gX77_show _ _ ⟨T.1, T.2⟩ (fm_w (lo' := 14) (hi' := 17) rfl rfl c4) )) (fun c4 => (gd_fi (fun c5 => (gX83_show _ _ ⟨T.1, T.2⟩ c5 ((((((h.1.2 c0).2 c1).2 c2).2 c3).2 c4).1 c5))) (fun c5 => (gd_c (fm_up (fm_up (fm_up (fm_up (fm_up (fm_up n_a0 c0) c1) c2) c3) c4) c5) (gX81_show _ _ ⟨T.1, T.2⟩ (fm_up (fm_up (fm_up (fm_up (fm_up (fm_up n_a0 c0) c1) c2) c3) c4) c5) ((((((h.1.2 c0).2 c1).2 c2).2 c3).2 c4).2 c5))))))))))))))) (fun K6 => ?_)
  exact ⟨rfl, ⟨K6.1.1, K6.1.2⟩, K6.2⟩
noncomputable def GX75_base (a0 : Nat) (M : FM) : Int64 × FM := GX75_base_0 a0 M
def HX75_base (a0 : Nat) (M : FM) : Prop := HX75_base_0 a0 M
theorem gX75_base (a0 : Nat) (M : FM) (T : Ty M) (n_a0 : fm_is M 13 19 a0 = true) (h : HX75_base a0 M) : gd (FX75_base a0 M) (GX75_base a0 M) (OkR M) := gX75_base_0 a0 M T n_a0 h
noncomputable def GX79_base_0 (a0 : Nat) (M : FM) : Int64 × FM :=
  (((M.2.1 41 a0 0) ||| ((M.2.1 43 a0 0) &&& (Int64.ofInt (-513)))), M)
theorem gX79_base_0 (a0 : Nat) (M : FM) (T : Ty M) (n_a0 : fm_is M 15 15 a0 = true) : gd (FX79_base_0 a0 M) (GX79_base_0 a0 M) (OkR M) := by
  delta FX79_base_0 BX79_base_0
  refine gd_c n_a0 ?_
  refine gd_c n_a0 ?_
  exact ⟨rfl, ⟨T.1, T.2⟩, (ext_r _)⟩
noncomputable def GX79_base (a0 : Nat) (M : FM) : Int64 × FM := GX79_base_0 a0 M
theorem gX79_base (a0 : Nat) (M : FM) (T : Ty M) (n_a0 : fm_is M 15 15 a0 = true) : gd (FX79_base a0 M) (GX79_base a0 M) (OkR M) := gX79_base_0 a0 M T n_a0 
noncomputable def GX75_access_34 (s0 : Nat) (s1 : Int64) (M : FM) : FM :=
  let M1 : FM := (fi (fm_is M 13 13 s0 = true) (GX76_write s0 s1 M) ((fi (fm_is M 14 14 s0 = true) (GX77_write s0 s1 M) ((fi (fm_is M 15 15 s0 = true) (GX77_write s0 s1 M) ((fi (fm_is M 16 16 s0 = true) (GX78_write s0 s1 M) ((fi (fm_is M 17 17 s0 = true) (GX82_write s0 s1 M) ((fi (fm_is M 18 18 s0 = true) (GX83_write s0 s1 M) (GX81_write s0 s1 M))))))))))))
  M1
def HX75_access_34 (s0 : Nat) (s1 : Int64) (M : FM) : Prop := (((fm_is M 13 13 s0 = true → True) ∧ (¬ (fm_is M 13 13 s0 = true) → ((fm_is M 14 14 s0 = true → True) ∧ (¬ (fm_is M 14 14 s0 = true) → ((fm_is M 15 15 s0 = true → True) ∧ (¬ (fm_is M 15 15 s0 = true) → ((fm_is M 16 16 s0 = true → True) ∧ (¬ (fm_is M 16 16 s0 = true) → ((fm_is M 17 17 s0 = true → True) ∧ (¬ (fm_is M 17 17 s0 = true) → ((fm_is M 18 18 s0 = true → True) ∧ (¬ (fm_is M 18 18 s0 = true) → HX81_write s0 s1 M)))))))))))) ∧ True)
theorem gX75_access_34 (s0 : Nat) (s1 : Int64) (M : FM) (T : Ty M) (n_s0 : fm_is M 13 19 s0 = true) (h : HX75_access_34 s0 s1 M) : gd (FX75_access_34 s0 s1 M) (GX75_access_34 s0 s1 M) (OkV M) := by
  delta FX75_access_34 BX75_access_34
  refine gd_kb (gk_fi (gk_b _ _) (gk_fi (gk_b _ _) (gk_fi (gk_b _ _) (gk_fi (gk_b _ _) (gk_fi (gk_b _ _) (gk_fi (gk_b _ _) (gk_fi (gk_b _ _) gk_0))))))) (gd_fi (fun c0 => (gX76_write _ _ _ ⟨T.1, T.2⟩  )) (fun c0 => (gd_fi (fun c1 => (gX77_write _ _ _ ⟨T.1, T.2⟩ (fm_w (lo' := 14) (hi' := 17) rfl rfl c1) )) (fun c1 => (gd_fi (fun c2 => (gX77_write _ _ _ ⟨T.1, T.2⟩ (fm_w (lo' := 14) (hi' := 17) rfl rfl c2) )) (fun c2 => (gd_fi (fun c3 => (gX78_write _ _ _ ⟨T.1, T.2⟩ c3 )) (fun c3 => (gd_fi (fun c4 => (gX82_write _ _ _ ⟨T.1, T.2⟩ c4 )) (fun c4 => (gd_fi (fun c5 => (gX83_write _ _ _ ⟨T.1, T.2⟩  )) (fun c5 => (gd_c (fm_up (fm_up (fm_up (fm_up (fm_up (fm_up n_s0 c0) c1) c2) c3) c4) c5) (gX81_write _ _ _ ⟨T.1, T.2⟩ (fm_up (fm_up (fm_up (fm_up (fm_up (fm_up n_s0 c0) c1) c2) c3) c4) c5) ((((((h.1.2 c0).2 c1).2 c2).2 c3).2 c4).2 c5))))))))))))))) (fun K6 => ?_)
  exact ⟨rfl, ⟨K6.1.1, K6.1.2⟩, K6.2⟩
noncomputable def GX75_access_0 (a0 : Nat) (a1 : Int32) (a2 : Int64) (M : FM) : FM :=
  fi (a1 = (Int32.ofInt 1)) (
    GX75_access_34 a0 a2 M) (
    fi (a1 = (Int32.ofInt 2)) (
      let r1 : Int64 × FM := (fi (fm_is M 13 13 a0 = true) (GX75_base a0 M) ((fi (fm_is M 14 14 a0 = true) (GX75_base a0 M) ((fi (fm_is M 15 15 a0 = true) (GX79_base a0 M) ((fi (fm_is M 16 16 a0 = true) (GX75_base a0 M) ((fi (fm_is M 17 17 a0 = true) (GX75_base a0 M) ((fi (fm_is M 18 18 a0 = true) (GX75_base a0 M) (GX75_base a0 M))))))))))))
      GX75_access_34 a0 (r1.1 ||| a2) r1.2) (
      let r2 : Int64 × FM := (fi (fm_is M 13 13 a0 = true) (GX75_base a0 M) ((fi (fm_is M 14 14 a0 = true) (GX75_base a0 M) ((fi (fm_is M 15 15 a0 = true) (GX79_base a0 M) ((fi (fm_is M 16 16 a0 = true) (GX75_base a0 M) ((fi (fm_is M 17 17 a0 = true) (GX75_base a0 M) ((fi (fm_is M 18 18 a0 = true) (GX75_base a0 M) (GX75_base a0 M))))))))))))
      GX75_access_34 a0 (r2.1 &&& (a2 ^^^ (Int64.ofInt (-1)))) r2.2))
def HX75_access_0 (a0 : Nat) (a1 : Int32) (a2 : Int64) (M : FM) : Prop := ((a1 = (Int32.ofInt 1) → HX75_access_34 a0 a2 M) ∧ (¬ (a1 = (Int32.ofInt 1)) → ((a1 = (Int32.ofInt 2) → (((fm_is M 13 13 a0 = true → HX75_base a0 M) ∧ (¬ (fm_is M 13 13 a0 = true) → ((fm_is M 14 14 a0 = true → HX75_base a0 M) ∧ (¬ (fm_is M 14 14 a0 = true) → ((fm_is M 15 15 a0 = true → True) ∧ (¬ (fm_is M 15 15 a0 = true) → ((fm_is M 16 16 a0 = true → HX75_base a0 M) ∧ (¬ (fm_is M 16 16 a0 = true) → ((fm_is M 17 17 a0 = true → HX75_base a0 M) ∧ (¬ (fm_is M 17 17 a0 = true) → ((fm_is M 18 18 a0 = true → HX75_base a0 M) ∧ (¬ (fm_is M 18 18 a0 = true) → HX75_base a0 M)))))))))))) ∧ let r1 : Int64 × FM := (fi (fm_is M 13 13 a0 = true) (GX75_base a0 M) ((fi (fm_is M 14 14 a0 = true) (GX75_base a0 M) ((fi (fm_is M 15 15 a0 = true) (GX79_base a0 M) ((fi (fm_is M 16 16 a0 = true) (GX75_base a0 M) ((fi (fm_is M 17 17 a0 = true) (GX75_base a0 M) ((fi (fm_is M 18 18 a0 = true) (GX75_base a0 M) (GX75_base a0 M)))))))))))); HX75_access_34 a0 (r1.1 ||| a2) r1.2)) ∧ (¬ (a1 = (Int32.ofInt 2)) → (((fm_is M 13 13 a0 = true → HX75_base a0 M) ∧ (¬ (fm_is M 13 13 a0 = true) → ((fm_is M 14 14 a0 = true → HX75_base a0 M) ∧ (¬ (fm_is M 14 14 a0 = true) → ((fm_is M 15 15 a0 = true → True) ∧ (¬ (fm_is M 15 15 a0 = true) → ((fm_is M 16 16 a0 = true → HX75_base a0 M) ∧ (¬ (fm_is M 16 16 a0 = true) → ((fm_is M 17 17 a0 = true → HX75_base a0 M) ∧ (¬ (fm_is M 17 17 a0 = true) → ((fm_is M 18 18 a0 = true → HX75_base a0 M) ∧ (¬ (fm_is M 18 18 a0 = true) → HX75_base a0 M)))))))))))) ∧ let r2 : Int64 × FM := (fi (fm_is M 13 13 a0 = true) (GX75_base a0 M) ((fi (fm_is M 14 14 a0 = true) (GX75_base a0 M) ((fi (fm_is M 15 15 a0 = true) (GX79_base a0 M) ((fi (fm_is M 16 16 a0 = true) (GX75_base a0 M) ((fi (fm_is M 17 17 a0 = true) (GX75_base a0 M) ((fi (fm_is M 18 18 a0 = true) (GX75_base a0 M) (GX75_base a0 M)))))))))))); HX75_access_34 a0 (r2.1 &&& (a2 ^^^ (Int64.ofInt (-1)))) r2.2)))))
theorem gX75_access_0 (a0 : Nat) (a1 : Int32) (a2 : Int64) (M : FM) (T : Ty M) (n_a0 : fm_is M 13 19 a0 = true) (h : HX75_access_0 a0 a1 a2 M) : gd (FX75_access_0 a0 a1 a2 M) (GX75_access_0 a0 a1 a2 M) (OkV M) := by
  delta FX75_access_0 BX75_access_0
  refine gd_fi (fun c0_0 => ?_) (fun c0_0 => ?_)
  · exact gd_tV (ext_r _) (gX75_access_34 _ _ _ ⟨T.1, T.2⟩ n_a0 (h.1 c0_0))
  · refine gd_fi (fun c1_0 => ?_) (fun c1_0 => ?_)
    · refine gd_kb (gk_fi (gk_b _ _) (gk_fi (gk_b _ _) (gk_fi (gk_b _ _) (gk_fi (gk_b _ _) (gk_fi (gk_b _ _) (gk_fi (gk_b _ _) (gk_fi (gk_b _ _) gk_0))))))) (gd_fi (fun c2 => (gX75_base _ _ ⟨T.1, T.2⟩ (fm_w (lo' := 13) (hi' := 19) rfl rfl c2) (((h.2 c0_0).1 c1_0).1.1 c2))) (fun c2 => (gd_fi (fun c3 => (gX75_base _ _ ⟨T.1, T.2⟩ (fm_w (lo' := 13) (hi' := 19) rfl rfl c3) ((((h.2 c0_0).1 c1_0).1.2 c2).1 c3))) (fun c3 => (gd_fi (fun c4 => (gX79_base _ _ ⟨T.1, T.2⟩ c4 )) (fun c4 => (gd_fi (fun c5 => (gX75_base _ _ ⟨T.1, T.2⟩ (fm_w (lo' := 13) (hi' := 19) rfl rfl c5) ((((((h.2 c0_0).1 c1_0).1.2 c2).2 c3).2 c4).1 c5))) (fun c5 => (gd_fi (fun c6 => (gX75_base _ _ ⟨T.1, T.2⟩ (fm_w (lo' := 13) (hi' := 19) rfl rfl c6) (((((((h.2 c0_0).1 c1_0).1.2 c2).2 c3).2 c4).2 c5).1 c6))) (fun c6 => (gd_fi (fun c7 => (gX75_base _ _ ⟨T.1, T.2⟩ (fm_w (lo' := 13) (hi' := 19) rfl rfl c7) ((((((((h.2 c0_0).1 c1_0).1.2 c2).2 c3).2 c4).2 c5).2 c6).1 c7))) (fun c7 => (gd_c (fm_up (fm_up (fm_up (fm_up (fm_up (fm_up n_a0 c2) c3) c4) c5) c6) c7) (gX75_base _ _ ⟨T.1, T.2⟩ (fm_w (lo' := 13) (hi' := 19) rfl rfl (fm_up (fm_up (fm_up (fm_up (fm_up (fm_up n_a0 c2) c3) c4) c5) c6) c7)) ((((((((h.2 c0_0).1 c1_0).1.2 c2).2 c3).2 c4).2 c5).2 c6).2 c7))))))))))))))) (fun K8 => ?_)
      have f9 := (ext_is K8.2 (Nat.zero_lt_succ _) n_a0)
      exact gd_tV K8.2 (gX75_access_34 _ _ _ ⟨K8.1.1, K8.1.2⟩ f9 ((h.2 c0_0).1 c1_0).2)
    · refine gd_kb (gk_fi (gk_b _ _) (gk_fi (gk_b _ _) (gk_fi (gk_b _ _) (gk_fi (gk_b _ _) (gk_fi (gk_b _ _) (gk_fi (gk_b _ _) (gk_fi (gk_b _ _) gk_0))))))) (gd_fi (fun c10 => (gX75_base _ _ ⟨T.1, T.2⟩ (fm_w (lo' := 13) (hi' := 19) rfl rfl c10) (((h.2 c0_0).2 c1_0).1.1 c10))) (fun c10 => (gd_fi (fun c11 => (gX75_base _ _ ⟨T.1, T.2⟩ (fm_w (lo' := 13) (hi' := 19) rfl rfl c11) ((((h.2 c0_0).2 c1_0).1.2 c10).1 c11))) (fun c11 => (gd_fi (fun c12 => (gX79_base _ _ ⟨T.1, T.2⟩ c12 )) (fun c12 => (gd_fi (fun c13 => (gX75_base _ _ ⟨T.1, T.2⟩ (fm_w (lo' := 13) (hi' := 19) rfl rfl c13) ((((((h.2 c0_0).2 c1_0).1.2 c10).2 c11).2 c12).1 c13))) (fun c13 => (gd_fi (fun c14 => (gX75_base _ _ ⟨T.1, T.2⟩ (fm_w (lo' := 13) (hi' := 19) rfl rfl c14) (((((((h.2 c0_0).2 c1_0).1.2 c10).2 c11).2 c12).2 c13).1 c14))) (fun c14 => (gd_fi (fun c15 => (gX75_base _ _ ⟨T.1, T.2⟩ (fm_w (lo' := 13) (hi' := 19) rfl rfl c15) ((((((((h.2 c0_0).2 c1_0).1.2 c10).2 c11).2 c12).2 c13).2 c14).1 c15))) (fun c15 => (gd_c (fm_up (fm_up (fm_up (fm_up (fm_up (fm_up n_a0 c10) c11) c12) c13) c14) c15) (gX75_base _ _ ⟨T.1, T.2⟩ (fm_w (lo' := 13) (hi' := 19) rfl rfl (fm_up (fm_up (fm_up (fm_up (fm_up (fm_up n_a0 c10) c11) c12) c13) c14) c15)) ((((((((h.2 c0_0).2 c1_0).1.2 c10).2 c11).2 c12).2 c13).2 c14).2 c15))))))))))))))) (fun K16 => ?_)
      have f17 := (ext_is K16.2 (Nat.zero_lt_succ _) n_a0)
      exact gd_tV K16.2 (gX75_access_34 _ _ _ ⟨K16.1.1, K16.1.2⟩ f17 ((h.2 c0_0).2 c1_0).2)
noncomputable def GX75_access (a0 : Nat) (a1 : Int32) (a2 : Int64) (M : FM) : FM := GX75_access_0 a0 a1 a2 M
def HX75_access (a0 : Nat) (a1 : Int32) (a2 : Int64) (M : FM) : Prop := HX75_access_0 a0 a1 a2 M
theorem gX75_access (a0 : Nat) (a1 : Int32) (a2 : Int64) (M : FM) (T : Ty M) (n_a0 : fm_is M 13 19 a0 = true) (h : HX75_access a0 a1 a2 M) : gd (FX75_access a0 a1 a2 M) (GX75_access a0 a1 a2 M) (OkV M) := gX75_access_0 a0 a1 a2 M T n_a0 h
noncomputable def GX74_access_70 (M : FM) : Int32 × FM :=
  ((Int32.ofInt 0), M)
theorem gX74_access_70 (M : FM) (T : Ty M) : gd (FX74_access_70 M) (GX74_access_70 M) (OkR M) := by
  delta FX74_access_70 BX74_access_70
  exact ⟨rfl, ⟨T.1, T.2⟩, (ext_r _)⟩
noncomputable def GX74_access_47 (M : FM) : Int32 × FM :=
  ((Int32.ofInt 1), M)
theorem gX74_access_47 (M : FM) (T : Ty M) : gd (FX74_access_47 M) (GX74_access_47 M) (OkR M) := by
  delta FX74_access_47 BX74_access_47
  exact ⟨rfl, ⟨T.1, T.2⟩, (ext_r _)⟩
noncomputable def GX74_access_0 (a0 : Nat) (a1 : Int32) (a2 : Int32) (a3 : Int32) (a4 : Int64) (M : FM) : Int32 × FM :=
  let r1 : Int32 × FM := GX74_isIllegal a0 a1 a3 M
  fi (r1.1 = 0) (
    let x2 : Nat := (r1.2.2.2 25 a0 0)
    let x3 : Nat := (r1.2.2.2 3 x2 a1.toNatClampNeg)
    let x4 : Nat := (r1.2.2.2 26 a0 0)
    fi (x3 = x4) (
      fi (a3 = 0) (
        GX74_access_47 r1.2) (
        fi ((Int32.ofInt 4) ≤ a1) (
          GX74_access_47 r1.2) (
          let x5 : Nat := (r1.2.2.2 27 a0 0)
          let M6 : FM := GX78_putTwo x5 (Int32.ofInt 13) (Int32.ofInt 3) r1.2
          GX74_access_47 M6))) (
      let r7 : Int64 × FM := (fi (fm_is r1.2 13 13 x3 = true) (GX76_show x3 r1.2) ((fi (fm_is r1.2 14 14 x3 = true) (GX77_show x3 r1.2) ((fi (fm_is r1.2 15 15 x3 = true) (GX79_show x3 r1.2) ((fi (fm_is r1.2 16 16 x3 = true) (GX78_show x3 r1.2) ((fi (fm_is r1.2 17 17 x3 = true) (GX77_show x3 r1.2) ((fi (fm_is r1.2 18 18 x3 = true) (GX83_show x3 r1.2) (GX81_show x3 r1.2))))))))))))
      let M8 : FM := fm_sL r7.2 38 a0 0 r7.1
      fi (a3 = 0) (
        GX74_access_70 M8) (
        let M9 : FM := GX75_access x3 a2 a4 M8
        GX74_access_70 M9))) (
    ((Int32.ofInt 2), r1.2))
def HX74_access_0 (a0 : Nat) (a1 : Int32) (a2 : Int32) (a3 : Int32) (a4 : Int64) (M : FM) : Prop := (HX74_isIllegal a0 a1 a3 M ∧ let r1 : Int32 × FM := GX74_isIllegal a0 a1 a3 M; ((r1.1 = 0 → let x2 : Nat := (r1.2.2.2 25 a0 0); (fm_in r1.2 x2 a1 = true ∧ let x3 : Nat := (r1.2.2.2 3 x2 a1.toNatClampNeg); let x4 : Nat := (r1.2.2.2 26 a0 0); ((x3 = x4 → True) ∧ (¬ (x3 = x4) → (((fm_is r1.2 13 13 x3 = true → True) ∧ (¬ (fm_is r1.2 13 13 x3 = true) → ((fm_is r1.2 14 14 x3 = true → True) ∧ (¬ (fm_is r1.2 14 14 x3 = true) → ((fm_is r1.2 15 15 x3 = true → True) ∧ (¬ (fm_is r1.2 15 15 x3 = true) → ((fm_is r1.2 16 16 x3 = true → True) ∧ (¬ (fm_is r1.2 16 16 x3 = true) → ((fm_is r1.2 17 17 x3 = true → True) ∧ (¬ (fm_is r1.2 17 17 x3 = true) → ((fm_is r1.2 18 18 x3 = true → HX83_show x3 r1.2) ∧ (¬ (fm_is r1.2 18 18 x3 = true) → (fm_is r1.2 19 19 x3 = true ∧ HX81_show x3 r1.2))))))))))))) ∧ let r7 : Int64 × FM := (fi (fm_is r1.2 13 13 x3 = true) (GX76_show x3 r1.2) ((fi (fm_is r1.2 14 14 x3 = true) (GX77_show x3 r1.2) ((fi (fm_is r1.2 15 15 x3 = true) (GX79_show x3 r1.2) ((fi (fm_is r1.2 16 16 x3 = true) (GX78_show x3 r1.2) ((fi (fm_is r1.2 17 17 x3 = true) (GX77_show x3 r1.2) ((fi (fm_is r1.2 18 18 x3 = true) (GX83_show x3 r1.2) (GX81_show x3 r1.2)))))))))))); let M8 : FM := fm_sL r7.2 38 a0 0 r7.1; ((a3 = 0 → True) ∧ (¬ (a3 = 0) → (fm_is M8 13 19 x3 = true ∧ (HX75_access x3 a2 a4 M8 ∧ True))))))))) ∧ (¬ (r1.1 = 0) → True)))
theorem gX74_access_0 (a0 : Nat) (a1 : Int32) (a2 : Int32) (a3 : Int32) (a4 : Int64) (M : FM) (T : Ty M) (n_a0 : fm_is M 12 12 a0 = true) (h : HX74_access_0 a0 a1 a2 a3 a4 M) : gd (FX74_access_0 a0 a1 a2 a3 a4 M) (GX74_access_0 a0 a1 a2 a3 a4 M) (OkR M) := by
  delta FX74_access_0 BX74_access_0
  refine gd_c n_a0 ?_
  refine gd_b (gX74_isIllegal _ _ _ _ ⟨T.1, T.2⟩ n_a0 h.1) (fun K0 => ?_)
  refine gd_fi (fun c1_0 => ?_) (fun c1_0 => ?_)
  · have f2 := (ext_is K0.2.1 (Nat.zero_lt_succ _) n_a0)
    refine gd_c f2 ?_
    have f22 := (fm_w (lo' := 910) (hi' := 990) rfl rfl (tN_25 K0.1.1 (ext_is K0.2.1 (Nat.zero_lt_succ _) n_a0)))
    refine gd_c ⟨f22, (h.2.1 c1_0).1⟩ ?_
    have f3 := (ext_is K0.2.1 (Nat.zero_lt_succ _) n_a0)
    refine gd_c f3 ?_
    refine gd_c (Or.inr (Or.inr (ty_obj K0.1.1 (fm_w (lo' := 10) (hi' := 899) rfl rfl (tN_26 K0.1.1 (ext_is K0.2.1 (Nat.zero_lt_succ _) n_a0)))))) ?_
    refine gd_fi (fun c4_0 => ?_) (fun c4_0 => ?_)
    · refine gd_fi (fun c5_0 => ?_) (fun c5_0 => ?_)
      · exact gd_tR K0.2.1 (gX74_access_47  _ ⟨K0.1.1, K0.1.2⟩  )
      · refine gd_fi (fun c6_0 => ?_) (fun c6_0 => ?_)
        · exact gd_tR K0.2.1 (gX74_access_47  _ ⟨K0.1.1, K0.1.2⟩  )
        · have f7 := (ext_is K0.2.1 (Nat.zero_lt_succ _) n_a0)
          refine gd_c f7 ?_
          have f8 := (tN_27 K0.1.1 (ext_is K0.2.1 (Nat.zero_lt_succ _) n_a0))
          refine gd_c f8 ?_
          have f10 := (tN_27 K0.1.1 (ext_is K0.2.1 (Nat.zero_lt_succ _) n_a0))
          refine gd_b (gX78_putTwo _ _ _ _ ⟨K0.1.1, K0.1.2⟩ f10 ) (fun K9 => ?_)
          exact gd_tR (ext_tr K0.2.1 K9.2) (gX74_access_47  _ ⟨K9.1.1, K9.1.2⟩  )
    · refine gd_kb (gk_fi (gk_b _ _) (gk_fi (gk_b _ _) (gk_fi (gk_b _ _) (gk_fi (gk_b _ _) (gk_fi (gk_b _ _) (gk_fi (gk_b _ _) (gk_fi (gk_b _ _) gk_0))))))) (gd_fi (fun c11 => (gX76_show _ _ ⟨K0.1.1, K0.1.2⟩ c11 )) (fun c11 => (gd_fi (fun c12 => (gX77_show _ _ ⟨K0.1.1, K0.1.2⟩ (fm_w (lo' := 14) (hi' := 17) rfl rfl c12) )) (fun c12 => (gd_fi (fun c13 => (gX79_show _ _ ⟨K0.1.1, K0.1.2⟩ c13 )) (fun c13 => (gd_fi (fun c14 => (gX78_show _ _ ⟨K0.1.1, K0.1.2⟩ c14 )) (fun c14 => (gd_fi (fun c15 => (gX77_show _ _ ⟨K0.1.1, K0.1.2⟩ (fm_w (lo' := 14) (hi' := 17) rfl rfl c15) )) (fun c15 => (gd_fi (fun c16 => (gX83_show _ _ ⟨K0.1.1, K0.1.2⟩ c16 ((((((((h.2.1 c1_0).2.2 c4_0).1.2 c11).2 c12).2 c13).2 c14).2 c15).1 c16))) (fun c16 => (gd_c ((((((((h.2.1 c1_0).2.2 c4_0).1.2 c11).2 c12).2 c13).2 c14).2 c15).2 c16).1 (gX81_show _ _ ⟨K0.1.1, K0.1.2⟩ ((((((((h.2.1 c1_0).2.2 c4_0).1.2 c11).2 c12).2 c13).2 c14).2 c15).2 c16).1 ((((((((h.2.1 c1_0).2.2 c4_0).1.2 c11).2 c12).2 c13).2 c14).2 c15).2 c16).2)))))))))))))) (fun K17 => ?_)
      have f18 := (ext_is K17.2 (Nat.zero_lt_succ _) (ext_is K0.2.1 (Nat.zero_lt_succ _) n_a0))
      refine gd_c f18 ?_
      refine gd_fi (fun c19_0 => ?_) (fun c19_0 => ?_)
      · exact gd_tR (ext_tr K0.2.1 (ext_tr K17.2 (ext_dL (ext_r _)))) (gX74_access_70  _ ⟨K17.1.1, K17.1.2⟩  )
      · refine gd_c (((h.2.1 c1_0).2.2 c4_0).2.2 c19_0).1 ?_
        have f21 := (((h.2.1 c1_0).2.2 c4_0).2.2 c19_0).1
        refine gd_b (gX75_access _ _ _ _ ⟨K17.1.1, K17.1.2⟩ f21 (((h.2.1 c1_0).2.2 c4_0).2.2 c19_0).2.1) (fun K20 => ?_)
        exact gd_tR (ext_tr K0.2.1 (ext_tr K17.2 (ext_dL K20.2))) (gX74_access_70  _ ⟨K20.1.1, K20.1.2⟩  )
  · exact ⟨rfl, ⟨K0.1.1, K0.1.2⟩, K0.2.1⟩
noncomputable def GX74_access (a0 : Nat) (a1 : Int32) (a2 : Int32) (a3 : Int32) (a4 : Int64) (M : FM) : Int32 × FM := GX74_access_0 a0 a1 a2 a3 a4 M
def HX74_access (a0 : Nat) (a1 : Int32) (a2 : Int32) (a3 : Int32) (a4 : Int64) (M : FM) : Prop := HX74_access_0 a0 a1 a2 a3 a4 M
theorem gX74_access (a0 : Nat) (a1 : Int32) (a2 : Int32) (a3 : Int32) (a4 : Int64) (M : FM) (T : Ty M) (n_a0 : fm_is M 12 12 a0 = true) (h : HX74_access a0 a1 a2 a3 a4 M) : gd (FX74_access a0 a1 a2 a3 a4 M) (GX74_access a0 a1 a2 a3 a4 M) (OkR M) := gX74_access_0 a0 a1 a2 a3 a4 M T n_a0 h
def kX86_configs (k5 : Nat → Int64 → Int32 → FM → Option (Int64 × FM)) : (Nat × Int64 × Int32 × FM) ⊕ (Int64 × FM) → Option (Int64 × FM)
  | .inl (v0, v1, v2, M') => k5 v0 v1 v2 M'
  | .inr (r) => some r
def pX86_configs (M : FM) : (Nat × Int64 × Int32 × FM) ⊕ (Int64 × FM) → Prop
  | .inl (_, _, _, M') => OkV M M'
  | .inr (r) => OkR M r
theorem pX86_configs_t {M M1 : FM} (e : Ext M M1) : ∀ y, pX86_configs M1 y → pX86_configs M y
  | .inl (_, _, _, _), h => ⟨h.1, ext_tr e h.2⟩
  | .inr (r), h => ⟨h.1, ext_tr e h.2⟩
noncomputable def GX86_configs_0 (a0 : Nat) (M : FM) : (Nat × Int64 × Int32 × FM) ⊕ (Int64 × FM) :=
  (.inl (a0, (Int64.ofInt 0), (Int32.ofInt 7), M))
theorem gX86_configs_0 (k5 : Nat → Int64 → Int32 → FM → Option (Int64 × FM)) (a0 : Nat) (M : FM) (T : Ty M) : gs (FX86_configs_0 fN k5 a0 M) (GX86_configs_0 a0 M) (kX86_configs k5) (pX86_configs M) := by
  delta FX86_configs_0 BX86_configs_0
  exact And.intro rfl (And.intro (And.intro T.1 T.2) ((ext_r _)))
noncomputable def GX86_configs_5 (a0 : Nat) (a1 : Int64) (a3 : Int32) (M : FM) : (Nat × Int64 × Int32 × FM) ⊕ (Int64 × FM) :=
  fi (a3 < 0) (
    (.inr (a1, M))) (
    let x1 : Nat := (M.2.2 284 a0 0)
    let x2 : Nat := (M.2.2 3 x1 a3.toNatClampNeg)
    let x3 : Int64 := ((a1 <<< ((Int32.ofInt 8).toInt64 &&& 63)) ||| (M.1 280 x2 0).toInt64)
    let x4 : Int32 := a3 + (Int32.ofInt (-1))
    (.inl (a0, x3, x4, M)))
def HX86_configs_5 (a0 : Nat) (a1 : Int64) (a3 : Int32) (M : FM) : Prop := ((a3 < 0 → True) ∧ (¬ (a3 < 0) → let x1 : Nat := (M.2.2 284 a0 0); (fm_in M x1 a3 = true ∧ True)))
theorem gX86_configs_5 (k5 : Nat → Int64 → Int32 → FM → Option (Int64 × FM)) (a0 : Nat) (a1 : Int64) (a3 : Int32) (M : FM) (T : Ty M) (n_a0 : fm_is M 90 90 a0 = true) (h : HX86_configs_5 a0 a1 a3 M) : gs (FX86_configs_5 fN k5 a0 a1 a3 M) (GX86_configs_5 a0 a1 a3 M) (kX86_configs k5) (pX86_configs M) := by
  delta FX86_configs_5 BX86_configs_5
  refine gs_fi (fun c0_0 => ?_) (fun c0_0 => ?_)
  · exact And.intro rfl (And.intro (And.intro T.1 T.2) ((ext_r _)))
  · refine gs_c n_a0 ?_
    have f2 := (fm_w (lo' := 910) (hi' := 990) rfl rfl (tN_284 T.1 n_a0))
    refine gs_c ⟨f2, (h.2 c0_0).1⟩ ?_
    have f1 := (tE_927 T.1 (tN_284 T.1 n_a0) (h.2 c0_0).1)
    refine gs_c f1 ?_
    exact And.intro rfl (And.intro (And.intro T.1 T.2) ((ext_r _)))
noncomputable def GX86_configs (a0 : Nat) (M : FM) : Int64 × FM := (FX86_configs fN a0 M).getD (0, M)
def HX86_configs (a0 : Nat) (M : FM) : Prop := ∃ r, FX86_configs fN a0 M = some r ∧ OkR M r
theorem gX86_configs (a0 : Nat) (M : FM) (h : HX86_configs a0 M) : gd (FX86_configs fN a0 M) (GX86_configs a0 M) (OkR M) := gd_op h
noncomputable def GX46_elsewhere_109 (s0 : Int64) (M : FM) : Int64 × FM :=
  (s0, M)
theorem gX46_elsewhere_109 (s0 : Int64) (M : FM) (T : Ty M) : gd (FX46_elsewhere_109 fN s0 M) (GX46_elsewhere_109 s0 M) (OkR M) := by
  delta FX46_elsewhere_109 BX46_elsewhere_109
  exact ⟨rfl, ⟨T.1, T.2⟩, (ext_r _)⟩
noncomputable def GX46_elsewhere_108 (M : FM) : Int64 × FM :=
  GX46_elsewhere_109 (Int64.ofInt 0) M
theorem gX46_elsewhere_108 (M : FM) (T : Ty M) : gd (FX46_elsewhere_108 fN M) (GX46_elsewhere_108 M) (OkR M) := by
  delta FX46_elsewhere_108 BX46_elsewhere_108
  exact gd_tR (ext_r _) (gX46_elsewhere_109 _ _ ⟨T.1, T.2⟩  )
noncomputable def GX46_elsewhere_53 (s0 : Int64) (M : FM) : Int64 × FM :=
  (s0, M)
theorem gX46_elsewhere_53 (s0 : Int64) (M : FM) (T : Ty M) : gd (FX46_elsewhere_53 fN s0 M) (GX46_elsewhere_53 s0 M) (OkR M) := by
  delta FX46_elsewhere_53 BX46_elsewhere_53
  exact ⟨rfl, ⟨T.1, T.2⟩, (ext_r _)⟩
noncomputable def GX46_elsewhere_0 (a0 : Nat) (a1 : Int32) (M : FM) : Int64 × FM :=
  fi ((Int32.ofInt 4) ≤ a1) (
    fi (a1 = (Int32.ofInt 928)) (
      let x1 : Nat := (M.2.2 214 a0 0)
      let x2 : Nat := (M.2.2 288 x1 0)
      let r3 : Int64 × FM := GX86_configs x2 M
      (r3.1, r3.2)) (
      fi (a1 < (Int32.ofInt 944)) (
        GX46_elsewhere_108 M) (
        fi ((Int32.ofInt 952) ≤ a1) (
          GX46_elsewhere_108 M) (
          let x4 : Nat := (M.2.2 214 a0 0)
          let x5 : Nat := (M.2.2 288 x4 0)
          let x6 : Int32 := (a1 - (Int32.ofInt 944))
          let x7 : Nat := (M.2.2 284 x5 0)
          let x8 : Nat := (M.2.2 3 x7 x6.toNatClampNeg)
          GX46_elsewhere_109 (M.2.1 281 x8 0) M)))) (
    let x9 : Nat := (M.2.2 212 a0 0)
    let x10 : Nat := (M.2.2 94 x9 0)
    let x11 : Nat := (M.2.2 212 a0 0)
    let x12 : Int32 := ((M.1 91 x10 0) ||| ((M.1 95 x11 0) <<< ((Int32.ofInt 5) &&& 31)))
    fi (a1 = (Int32.ofInt 1)) (
      GX46_elsewhere_53 ((x12 &&& (Int32.ofInt 31)).toInt64) M) (
      fi (a1 = (Int32.ofInt 2)) (
        GX46_elsewhere_53 ((x12 >>> ((Int32.ofInt 5) &&& 31)).toInt64) M) (
        GX46_elsewhere_53 x12.toInt64 M)))
def HX46_elsewhere_0 (a0 : Nat) (a1 : Int32) (M : FM) : Prop := (((Int32.ofInt 4) ≤ a1 → ((a1 = (Int32.ofInt 928) → let x1 : Nat := (M.2.2 214 a0 0); let x2 : Nat := (M.2.2 288 x1 0); (HX86_configs x2 M ∧ True)) ∧ (¬ (a1 = (Int32.ofInt 928)) → ((a1 < (Int32.ofInt 944) → True) ∧ (¬ (a1 < (Int32.ofInt 944)) → (((Int32.ofInt 952) ≤ a1 → True) ∧ (¬ ((Int32.ofInt 952) ≤ a1) → let x4 : Nat := (M.2.2 214 a0 0); let x5 : Nat := (M.2.2 288 x4 0); let x6 : Int32 := (a1 - (Int32.ofInt 944)); let x7 : Nat := (M.2.2 284 x5 0); (fm_in M x7 x6 = true ∧ True)))))))) ∧ (¬ ((Int32.ofInt 4) ≤ a1) → True))
theorem gX46_elsewhere_0 (a0 : Nat) (a1 : Int32) (M : FM) (T : Ty M) (n_a0 : fm_is M 75 75 a0 = true) (h : HX46_elsewhere_0 a0 a1 M) : gd (FX46_elsewhere_0 fN a0 a1 M) (GX46_elsewhere_0 a0 a1 M) (OkR M) := by
  delta FX46_elsewhere_0 BX46_elsewhere_0
  refine gd_fi (fun c0_0 => ?_) (fun c0_0 => ?_)
  · refine gd_fi (fun c1_0 => ?_) (fun c1_0 => ?_)
    · refine gd_c n_a0 ?_
      have f2 := (tN_214 T.1 n_a0)
      refine gd_c f2 ?_
      have f3 := (tN_288 T.1 (tN_214 T.1 n_a0))
      refine gd_c f3 ?_
      refine gd_b (gX86_configs _ _ ((h.1 c0_0).1 c1_0).1) (fun K4 => ?_)
      exact ⟨rfl, ⟨K4.1.1, K4.1.2⟩, K4.2⟩
    · refine gd_fi (fun c5_0 => ?_) (fun c5_0 => ?_)
      · exact gd_tR (ext_r _) (gX46_elsewhere_108  _ ⟨T.1, T.2⟩  )
      · refine gd_fi (fun c6_0 => ?_) (fun c6_0 => ?_)
        · exact gd_tR (ext_r _) (gX46_elsewhere_108  _ ⟨T.1, T.2⟩  )
        · refine gd_c n_a0 ?_
          have f7 := (tN_214 T.1 n_a0)
          refine gd_c f7 ?_
          have f8 := (tN_288 T.1 (tN_214 T.1 n_a0))
          refine gd_c f8 ?_
          have f10 := (fm_w (lo' := 910) (hi' := 990) rfl rfl (tN_284 T.1 (tN_288 T.1 (tN_214 T.1 n_a0))))
          have f11 := ((((h.1 c0_0).2 c1_0).2 c5_0).2 c6_0).1
          refine gd_c ⟨f10, f11⟩ ?_
          have f9 := (tE_927 T.1 (tN_284 T.1 (tN_288 T.1 (tN_214 T.1 n_a0))) ((((h.1 c0_0).2 c1_0).2 c5_0).2 c6_0).1)
          refine gd_c f9 ?_
          exact gd_tR (ext_r _) (gX46_elsewhere_109 _ _ ⟨T.1, T.2⟩  )
  · refine gd_c n_a0 ?_
    have f12 := (tN_212 T.1 n_a0)
    refine gd_c f12 ?_
    have f13 := (tN_94 T.1 (tN_212 T.1 n_a0))
    refine gd_c f13 ?_
    refine gd_c n_a0 ?_
    have f14 := (tN_212 T.1 n_a0)
    refine gd_c f14 ?_
    refine gd_fi (fun c15_0 => ?_) (fun c15_0 => ?_)
    · exact gd_tR (ext_r _) (gX46_elsewhere_53 _ _ ⟨T.1, T.2⟩  )
    · refine gd_fi (fun c16_0 => ?_) (fun c16_0 => ?_)
      · exact gd_tR (ext_r _) (gX46_elsewhere_53 _ _ ⟨T.1, T.2⟩  )
      · exact gd_tR (ext_r _) (gX46_elsewhere_53 _ _ ⟨T.1, T.2⟩  )
noncomputable def GX46_elsewhere (a0 : Nat) (a1 : Int32) (M : FM) : Int64 × FM := GX46_elsewhere_0 a0 a1 M
def HX46_elsewhere (a0 : Nat) (a1 : Int32) (M : FM) : Prop := HX46_elsewhere_0 a0 a1 M
theorem gX46_elsewhere (a0 : Nat) (a1 : Int32) (M : FM) (T : Ty M) (n_a0 : fm_is M 75 75 a0 = true) (h : HX46_elsewhere a0 a1 M) : gd (FX46_elsewhere fN a0 a1 M) (GX46_elsewhere a0 a1 M) (OkR M) := gX46_elsewhere_0 a0 a1 M T n_a0 h
noncomputable def GX87_configure_22 (s0 : Nat) (s1 : Int32) (M : FM) : FM :=
  let M1 : FM := fm_sI M 280 s0 0 s1
  M1
theorem gX87_configure_22 (s0 : Nat) (s1 : Int32) (M : FM) (T : Ty M) (n_s0 : fm_is M 89 89 s0 = true) : gd (FX87_configure_22 s0 s1 M) (GX87_configure_22 s0 s1 M) (OkV M) := by
  delta FX87_configure_22 BX87_configure_22
  refine gd_c n_s0 ?_
  exact ⟨rfl, ⟨T.1, (tyb_sI (f := 280) rfl T.2)⟩, (ext_dI (ext_r _))⟩
noncomputable def GX87_configure_0 (a0 : Nat) (a1 : Int32) (M : FM) : FM :=
  let x1 : Int32 := (a1 &&& (Int32.ofInt 159))
  fi ((x1 &&& (Int32.ofInt 3)) = (Int32.ofInt 2)) (
    GX87_configure_22 a0 (x1 &&& (Int32.ofInt (-3))) M) (
    GX87_configure_22 a0 x1 M)
theorem gX87_configure_0 (a0 : Nat) (a1 : Int32) (M : FM) (T : Ty M) (n_a0 : fm_is M 89 89 a0 = true) : gd (FX87_configure_0 a0 a1 M) (GX87_configure_0 a0 a1 M) (OkV M) := by
  delta FX87_configure_0 BX87_configure_0
  refine gd_fi (fun c0_0 => ?_) (fun c0_0 => ?_)
  · exact gd_tV (ext_r _) (gX87_configure_22 _ _ _ ⟨T.1, T.2⟩ n_a0 )
  · exact gd_tV (ext_r _) (gX87_configure_22 _ _ _ ⟨T.1, T.2⟩ n_a0 )
noncomputable def GX87_configure (a0 : Nat) (a1 : Int32) (M : FM) : FM := GX87_configure_0 a0 a1 M
theorem gX87_configure (a0 : Nat) (a1 : Int32) (M : FM) (T : Ty M) (n_a0 : fm_is M 89 89 a0 = true) : gd (FX87_configure a0 a1 M) (GX87_configure a0 a1 M) (OkV M) := gX87_configure_0 a0 a1 M T n_a0 
def kX86_configure (k2 : Nat → Int64 → Int32 → FM → Option (FM)) : (Nat × Int64 × Int32 × FM) ⊕ (FM) → Option (FM)
  | .inl (v0, v1, v2, M') => k2 v0 v1 v2 M'
  | .inr (r) => some r
def pX86_configure (M : FM) : (Nat × Int64 × Int32 × FM) ⊕ (FM) → Prop
  | .inl (_, _, _, M') => OkV M M'
  | .inr (r) => OkV M r
theorem pX86_configure_t {M M1 : FM} (e : Ext M M1) : ∀ y, pX86_configure M1 y → pX86_configure M y
  | .inl (_, _, _, _), h => ⟨h.1, ext_tr e h.2⟩
  | .inr (r), h => ⟨h.1, ext_tr e h.2⟩
noncomputable def GX86_configure_40 (a0 : Nat) (a1 : Int64) (a3 : Int32) (M : FM) : (Nat × Int64 × Int32 × FM) ⊕ (FM) :=
  let x1 : Int32 := a3 + (Int32.ofInt 1)
  (.inl (a0, a1, x1, M))
theorem gX86_configure_40 (k2 : Nat → Int64 → Int32 → FM → Option (FM)) (a0 : Nat) (a1 : Int64) (a3 : Int32) (M : FM) (T : Ty M) : gs (FX86_configure_40 fN k2 a0 a1 a3 M) (GX86_configure_40 a0 a1 a3 M) (kX86_configure k2) (pX86_configure M) := by
  delta FX86_configure_40 BX86_configure_40
  exact And.intro rfl (And.intro (And.intro T.1 T.2) ((ext_r _)))
noncomputable def GX86_configure_0 (a0 : Nat) (a1 : Int64) (M : FM) : (Nat × Int64 × Int32 × FM) ⊕ (FM) :=
  (.inl (a0, a1, (Int32.ofInt 0), M))
theorem gX86_configure_0 (k2 : Nat → Int64 → Int32 → FM → Option (FM)) (a0 : Nat) (a1 : Int64) (M : FM) (T : Ty M) : gs (FX86_configure_0 fN k2 a0 a1 M) (GX86_configure_0 a0 a1 M) (kX86_configure k2) (pX86_configure M) := by
  delta FX86_configure_0 BX86_configure_0
  exact And.intro rfl (And.intro (And.intro T.1 T.2) ((ext_r _)))
noncomputable def GX86_configure_2 (a0 : Nat) (a1 : Int64) (a3 : Int32) (M : FM) : (Nat × Int64 × Int32 × FM) ⊕ (FM) :=
  fi ((Int32.ofInt 8) ≤ a3) (
    let M1 : FM := GX86_lay a0 M
    (.inr M1)) (
    let x2 : Nat := (M.2.2 284 a0 0)
    let x3 : Nat := (M.2.2 3 x2 a3.toNatClampNeg)
    let r4 : Int32 × FM := GX87_isLocked x3 M
    fi (r4.1 = 0) (
      let x5 : Nat := (r4.2.2.2 284 a0 0)
      let r6 : Int64 × FM := GX102_bits a1 ((Int32.ofInt 8) * a3) (Int32.ofInt 8) r4.2
      let x7 : Nat := (r4.2.2.2 3 x5 a3.toNatClampNeg)
      let M8 : FM := GX87_configure x7 r6.1.toInt32 r6.2
      GX86_configure_40 a0 a1 a3 M8) (
      GX86_configure_40 a0 a1 a3 r4.2))
def HX86_configure_2 (a0 : Nat) (a1 : Int64) (a3 : Int32) (M : FM) : Prop := (((Int32.ofInt 8) ≤ a3 → (HX86_lay a0 M ∧ True)) ∧ (¬ ((Int32.ofInt 8) ≤ a3) → let x2 : Nat := (M.2.2 284 a0 0); (fm_in M x2 a3 = true ∧ let x3 : Nat := (M.2.2 3 x2 a3.toNatClampNeg); let r4 : Int32 × FM := GX87_isLocked x3 M; ((r4.1 = 0 → let x5 : Nat := (r4.2.2.2 284 a0 0); (fm_in r4.2 x5 a3 = true ∧ True)) ∧ (¬ (r4.1 = 0) → True)))))
theorem gX86_configure_2 (k2 : Nat → Int64 → Int32 → FM → Option (FM)) (a0 : Nat) (a1 : Int64) (a3 : Int32) (M : FM) (T : Ty M) (n_a0 : fm_is M 90 90 a0 = true) (h : HX86_configure_2 a0 a1 a3 M) : gs (FX86_configure_2 fN k2 a0 a1 a3 M) (GX86_configure_2 a0 a1 a3 M) (kX86_configure k2) (pX86_configure M) := by
  delta FX86_configure_2 BX86_configure_2
  refine gs_fi (fun c0_0 => ?_) (fun c0_0 => ?_)
  · refine gs_c n_a0 ?_
    refine gs_b (gX86_lay _ _ (h.1 c0_0).1) (fun K1 => ?_)
    exact And.intro rfl (And.intro (And.intro K1.1.1 K1.1.2) K1.2)
  · refine gs_c n_a0 ?_
    have f13 := (fm_w (lo' := 910) (hi' := 990) rfl rfl (tN_284 T.1 n_a0))
    refine gs_c ⟨f13, (h.2 c0_0).1⟩ ?_
    have f2 := (tE_927 T.1 (tN_284 T.1 n_a0) (h.2 c0_0).1)
    refine gs_c f2 ?_
    have f12 := (tE_927 T.1 (tN_284 T.1 n_a0) (h.2 c0_0).1)
    refine gs_b (gX87_isLocked _ _ ⟨T.1, T.2⟩ f12 ) (fun K3 => ?_)
    refine gs_fi (fun c4_0 => ?_) (fun c4_0 => ?_)
    · have f5 := (ext_is K3.2.1 (Nat.zero_lt_succ _) n_a0)
      refine gs_c f5 ?_
      have f10 := (fm_w (lo' := 910) (hi' := 990) rfl rfl (tN_284 K3.1.1 (ext_is K3.2.1 (Nat.zero_lt_succ _) n_a0)))
      have f11 := ((h.2 c0_0).2.1 c4_0).1
      refine gs_c ⟨f10, f11⟩ ?_
      refine gs_b (gX102_bits _ _ _ _ ⟨K3.1.1, K3.1.2⟩  ) (fun K6 => ?_)
      have f7 := (ext_is K6.2 (Nat.zero_lt_succ _) (tE_927 K3.1.1 (tN_284 K3.1.1 (ext_is K3.2.1 (Nat.zero_lt_succ _) n_a0)) ((h.2 c0_0).2.1 c4_0).1))
      refine gs_c f7 ?_
      have f9 := (ext_is K6.2 (Nat.zero_lt_succ _) (tE_927 K3.1.1 (tN_284 K3.1.1 (ext_is K3.2.1 (Nat.zero_lt_succ _) n_a0)) ((h.2 c0_0).2.1 c4_0).1))
      refine gs_b (gX87_configure _ _ _ ⟨K6.1.1, K6.1.2⟩ f9 ) (fun K8 => ?_)
      exact gs_t (pX86_configure_t (ext_tr K3.2.1 (ext_tr K6.2 K8.2))) (gX86_configure_40 k2 _ _ _ _ ⟨K8.1.1, K8.1.2⟩  )
    · exact gs_t (pX86_configure_t K3.2.1) (gX86_configure_40 k2 _ _ _ _ ⟨K3.1.1, K3.1.2⟩  )
noncomputable def GX86_configure (a0 : Nat) (a1 : Int64) (M : FM) : FM := (FX86_configure fN a0 a1 M).getD M
def HX86_configure (a0 : Nat) (a1 : Int64) (M : FM) : Prop := ∃ r, FX86_configure fN a0 a1 M = some r ∧ OkV M r
theorem gX86_configure (a0 : Nat) (a1 : Int64) (M : FM) (h : HX86_configure a0 a1 M) : gd (FX86_configure fN a0 a1 M) (GX86_configure a0 a1 M) (OkV M) := gd_op h
noncomputable def GX86_number_83 (M : FM) : FM :=
  M
theorem gX86_number_83 (M : FM) (T : Ty M) : gd (FX86_number_83 fN M) (GX86_number_83 M) (OkV M) := by
  delta FX86_number_83 BX86_number_83
  exact ⟨rfl, ⟨T.1, T.2⟩, (ext_r _)⟩
noncomputable def GX86_number_44 (a0 : Nat) (a1 : Int32) (a2 : Int64) (s0 : Int32) (M : FM) : FM :=
  let x1 : Nat := (M.2.2 284 a0 0)
  let x2 : Nat := (M.2.2 3 x1 a1.toNatClampNeg)
  let r3 : Int32 × FM := GX87_isLocked x2 M
  fi (r3.1 = 0) (
    fi (s0 = 0) (
      let x4 : Nat := (r3.2.2.2 284 a0 0)
      let r5 : Int64 × FM := GX102_bits a2 (Int32.ofInt 0) (Int32.ofInt 54) r3.2
      let x6 : Nat := (r3.2.2.2 3 x4 a1.toNatClampNeg)
      let M7 : FM := fm_sL r5.2 281 x6 0 r5.1
      let M8 : FM := GX86_lay a0 M7
      GX86_number_83 M8) (
      GX86_number_83 r3.2)) (
    GX86_number_83 r3.2)
def HX86_number_44 (a0 : Nat) (a1 : Int32) (a2 : Int64) (s0 : Int32) (M : FM) : Prop := let x1 : Nat := (M.2.2 284 a0 0); (fm_in M x1 a1 = true ∧ let x2 : Nat := (M.2.2 3 x1 a1.toNatClampNeg); let r3 : Int32 × FM := GX87_isLocked x2 M; ((r3.1 = 0 → ((s0 = 0 → let x4 : Nat := (r3.2.2.2 284 a0 0); (fm_in r3.2 x4 a1 = true ∧ let r5 : Int64 × FM := GX102_bits a2 (Int32.ofInt 0) (Int32.ofInt 54) r3.2; let x6 : Nat := (r3.2.2.2 3 x4 a1.toNatClampNeg); let M7 : FM := fm_sL r5.2 281 x6 0 r5.1; (HX86_lay a0 M7 ∧ True))) ∧ (¬ (s0 = 0) → True))) ∧ (¬ (r3.1 = 0) → True)))
theorem gX86_number_44 (a0 : Nat) (a1 : Int32) (a2 : Int64) (s0 : Int32) (M : FM) (T : Ty M) (n_a0 : fm_is M 90 90 a0 = true) (h : HX86_number_44 a0 a1 a2 s0 M) : gd (FX86_number_44 fN a0 a1 a2 s0 M) (GX86_number_44 a0 a1 a2 s0 M) (OkV M) := by
  delta FX86_number_44 BX86_number_44
  refine gd_c n_a0 ?_
  have f12 := (fm_w (lo' := 910) (hi' := 990) rfl rfl (tN_284 T.1 n_a0))
  refine gd_c ⟨f12, h.1⟩ ?_
  have f0 := (tE_927 T.1 (tN_284 T.1 n_a0) h.1)
  refine gd_c f0 ?_
  have f11 := (tE_927 T.1 (tN_284 T.1 n_a0) h.1)
  refine gd_b (gX87_isLocked _ _ ⟨T.1, T.2⟩ f11 ) (fun K1 => ?_)
  refine gd_fi (fun c2_0 => ?_) (fun c2_0 => ?_)
  · refine gd_fi (fun c3_0 => ?_) (fun c3_0 => ?_)
    · have f4 := (ext_is K1.2.1 (Nat.zero_lt_succ _) n_a0)
      refine gd_c f4 ?_
      have f9 := (fm_w (lo' := 910) (hi' := 990) rfl rfl (tN_284 K1.1.1 (ext_is K1.2.1 (Nat.zero_lt_succ _) n_a0)))
      have f10 := ((h.2.1 c2_0).1 c3_0).1
      refine gd_c ⟨f9, f10⟩ ?_
      refine gd_b (gX102_bits _ _ _ _ ⟨K1.1.1, K1.1.2⟩  ) (fun K5 => ?_)
      have f6 := (ext_is K5.2 (Nat.zero_lt_succ _) (tE_927 K1.1.1 (tN_284 K1.1.1 (ext_is K1.2.1 (Nat.zero_lt_succ _) n_a0)) ((h.2.1 c2_0).1 c3_0).1))
      refine gd_c f6 ?_
      have f7 := (ext_is K5.2 (Nat.zero_lt_succ _) (ext_is K1.2.1 (Nat.zero_lt_succ _) n_a0))
      refine gd_c f7 ?_
      refine gd_b (gX86_lay _ _ ((h.2.1 c2_0).1 c3_0).2.1) (fun K8 => ?_)
      exact gd_tV (ext_tr K1.2.1 (ext_tr K5.2 (ext_dL K8.2))) (gX86_number_83  _ ⟨K8.1.1, K8.1.2⟩  )
    · exact gd_tV K1.2.1 (gX86_number_83  _ ⟨K1.1.1, K1.1.2⟩  )
  · exact gd_tV K1.2.1 (gX86_number_83  _ ⟨K1.1.1, K1.1.2⟩  )
noncomputable def GX86_number_43 (a0 : Nat) (a1 : Int32) (a2 : Int64) (M : FM) : FM :=
  GX86_number_44 a0 a1 a2 (Int32.ofInt 0) M
def HX86_number_43 (a0 : Nat) (a1 : Int32) (a2 : Int64) (M : FM) : Prop := HX86_number_44 a0 a1 a2 (Int32.ofInt 0) M
theorem gX86_number_43 (a0 : Nat) (a1 : Int32) (a2 : Int64) (M : FM) (T : Ty M) (n_a0 : fm_is M 90 90 a0 = true) (h : HX86_number_43 a0 a1 a2 M) : gd (FX86_number_43 fN a0 a1 a2 M) (GX86_number_43 a0 a1 a2 M) (OkV M) := by
  delta FX86_number_43 BX86_number_43
  exact gd_tV (ext_r _) (gX86_number_44 _ _ _ _ _ ⟨T.1, T.2⟩ n_a0 h)
noncomputable def GX86_number_0 (a0 : Nat) (a1 : Int32) (a2 : Int64) (M : FM) : FM :=
  fi ((Int32.ofInt 8) ≤ (a1 + (Int32.ofInt 1))) (
    GX86_number_43 a0 a1 a2 M) (
    let x1 : Int32 := (a1 + (Int32.ofInt 1))
    let x2 : Nat := (M.2.2 284 a0 0)
    let x3 : Nat := (M.2.2 3 x2 x1.toNatClampNeg)
    let r4 : Int32 × FM := GX87_isLocked x3 M
    fi (r4.1 = 0) (
      GX86_number_43 a0 a1 a2 r4.2) (
      let x5 : Int32 := (a1 + (Int32.ofInt 1))
      let x6 : Nat := (r4.2.2.2 284 a0 0)
      let x7 : Nat := (r4.2.2.2 3 x6 x5.toNatClampNeg)
      let r8 : Nat × FM := GX87_span x7 r4.2
      fi (r8.1 = 34) (
        GX86_number_44 a0 a1 a2 (Int32.ofInt 1) r8.2) (
        GX86_number_43 a0 a1 a2 r8.2)))
def HX86_number_0 (a0 : Nat) (a1 : Int32) (a2 : Int64) (M : FM) : Prop := (((Int32.ofInt 8) ≤ (a1 + (Int32.ofInt 1)) → HX86_number_43 a0 a1 a2 M) ∧ (¬ ((Int32.ofInt 8) ≤ (a1 + (Int32.ofInt 1))) → let x1 : Int32 := (a1 + (Int32.ofInt 1)); let x2 : Nat := (M.2.2 284 a0 0); (fm_in M x2 x1 = true ∧ let x3 : Nat := (M.2.2 3 x2 x1.toNatClampNeg); let r4 : Int32 × FM := GX87_isLocked x3 M; ((r4.1 = 0 → HX86_number_43 a0 a1 a2 r4.2) ∧ (¬ (r4.1 = 0) → let x5 : Int32 := (a1 + (Int32.ofInt 1)); let x6 : Nat := (r4.2.2.2 284 a0 0); (fm_in r4.2 x6 x5 = true ∧ let x7 : Nat := (r4.2.2.2 3 x6 x5.toNatClampNeg); let r8 : Nat × FM := GX87_span x7 r4.2; ((r8.1 = 34 → HX86_number_44 a0 a1 a2 (Int32.ofInt 1) r8.2) ∧ (¬ (r8.1 = 34) → HX86_number_43 a0 a1 a2 r8.2))))))))
theorem gX86_number_0 (a0 : Nat) (a1 : Int32) (a2 : Int64) (M : FM) (T : Ty M) (n_a0 : fm_is M 90 90 a0 = true) (h : HX86_number_0 a0 a1 a2 M) : gd (FX86_number_0 fN a0 a1 a2 M) (GX86_number_0 a0 a1 a2 M) (OkV M) := by
  delta FX86_number_0 BX86_number_0
  refine gd_fi (fun c0_0 => ?_) (fun c0_0 => ?_)
  · exact gd_tV (ext_r _) (gX86_number_43 _ _ _ _ ⟨T.1, T.2⟩ n_a0 (h.1 c0_0))
  · refine gd_c n_a0 ?_
    have f15 := (fm_w (lo' := 910) (hi' := 990) rfl rfl (tN_284 T.1 n_a0))
    refine gd_c ⟨f15, (h.2 c0_0).1⟩ ?_
    have f1 := (tE_927 T.1 (tN_284 T.1 n_a0) (h.2 c0_0).1)
    refine gd_c f1 ?_
    have f14 := (tE_927 T.1 (tN_284 T.1 n_a0) (h.2 c0_0).1)
    refine gd_b (gX87_isLocked _ _ ⟨T.1, T.2⟩ f14 ) (fun K2 => ?_)
    refine gd_fi (fun c3_0 => ?_) (fun c3_0 => ?_)
    · have f4 := (ext_is K2.2.1 (Nat.zero_lt_succ _) n_a0)
      exact gd_tV K2.2.1 (gX86_number_43 _ _ _ _ ⟨K2.1.1, K2.1.2⟩ f4 ((h.2 c0_0).2.1 c3_0))
    · have f5 := (ext_is K2.2.1 (Nat.zero_lt_succ _) n_a0)
      refine gd_c f5 ?_
      have f12 := (fm_w (lo' := 910) (hi' := 990) rfl rfl (tN_284 K2.1.1 (ext_is K2.2.1 (Nat.zero_lt_succ _) n_a0)))
      have f13 := ((h.2 c0_0).2.2 c3_0).1
      refine gd_c ⟨f12, f13⟩ ?_
      have f6 := (tE_927 K2.1.1 (tN_284 K2.1.1 (ext_is K2.2.1 (Nat.zero_lt_succ _) n_a0)) ((h.2 c0_0).2.2 c3_0).1)
      refine gd_c f6 ?_
      have f11 := (tE_927 K2.1.1 (tN_284 K2.1.1 (ext_is K2.2.1 (Nat.zero_lt_succ _) n_a0)) ((h.2 c0_0).2.2 c3_0).1)
      refine gd_b (gX87_span _ _ ⟨K2.1.1, K2.1.2⟩ f11 ) (fun K7 => ?_)
      refine gd_c (Or.inl ⟨(ty_enum K7.1.1 (fm_w (lo' := 1) (hi' := 6) rfl rfl K7.2.2)), (ty_enum K7.1.1 (fm_w (lo' := 1) (hi' := 6) rfl rfl (tC_34 K7.1.1)))⟩) ?_
      refine gd_fi (fun c8_0 => ?_) (fun c8_0 => ?_)
      · have f9 := (ext_is K7.2.1 (Nat.zero_lt_succ _) (ext_is K2.2.1 (Nat.zero_lt_succ _) n_a0))
        exact gd_tV (ext_tr K2.2.1 K7.2.1) (gX86_number_44 _ _ _ _ _ ⟨K7.1.1, K7.1.2⟩ f9 (((h.2 c0_0).2.2 c3_0).2.1 c8_0))
      · have f10 := (ext_is K7.2.1 (Nat.zero_lt_succ _) (ext_is K2.2.1 (Nat.zero_lt_succ _) n_a0))
        exact gd_tV (ext_tr K2.2.1 K7.2.1) (gX86_number_43 _ _ _ _ ⟨K7.1.1, K7.1.2⟩ f10 (((h.2 c0_0).2.2 c3_0).2.2 c8_0))
noncomputable def GX86_number (a0 : Nat) (a1 : Int32) (a2 : Int64) (M : FM) : FM := GX86_number_0 a0 a1 a2 M
def HX86_number (a0 : Nat) (a1 : Int32) (a2 : Int64) (M : FM) : Prop := HX86_number_0 a0 a1 a2 M
theorem gX86_number (a0 : Nat) (a1 : Int32) (a2 : Int64) (M : FM) (T : Ty M) (n_a0 : fm_is M 90 90 a0 = true) (h : HX86_number a0 a1 a2 M) : gd (FX86_number fN a0 a1 a2 M) (GX86_number a0 a1 a2 M) (OkV M) := gX86_number_0 a0 a1 a2 M T n_a0 h
noncomputable def GX46_putElsewhere_105 (M : FM) : FM :=
  M
theorem gX46_putElsewhere_105 (M : FM) (T : Ty M) : gd (FX46_putElsewhere_105 fN M) (GX46_putElsewhere_105 M) (OkV M) := by
  delta FX46_putElsewhere_105 BX46_putElsewhere_105
  exact ⟨rfl, ⟨T.1, T.2⟩, (ext_r _)⟩
noncomputable def GX46_putElsewhere_98 (a0 : Nat) (M : FM) : FM :=
  let x1 : Nat := (M.2.2 212 a0 0)
  let M2 : FM := GX59_calm x1 M
  GX46_putElsewhere_105 M2
theorem gX46_putElsewhere_98 (a0 : Nat) (M : FM) (T : Ty M) (n_a0 : fm_is M 75 75 a0 = true) : gd (FX46_putElsewhere_98 fN a0 M) (GX46_putElsewhere_98 a0 M) (OkV M) := by
  delta FX46_putElsewhere_98 BX46_putElsewhere_98
  refine gd_c n_a0 ?_
  have f0 := (tN_212 T.1 n_a0)
  refine gd_c f0 ?_
  have f2 := (tN_212 T.1 n_a0)
  refine gd_b (gX59_calm _ _ ⟨T.1, T.2⟩ f2 ) (fun K1 => ?_)
  exact gd_tV K1.2 (gX46_putElsewhere_105  _ ⟨K1.1.1, K1.1.2⟩  )
noncomputable def GX46_putElsewhere_94 (a0 : Nat) (s0 : Nat) (s1 : Int64) (M : FM) : FM :=
  let M1 : FM := GX59_putMode s0 s1.toInt32 M
  GX46_putElsewhere_98 a0 M1
theorem gX46_putElsewhere_94 (a0 : Nat) (s0 : Nat) (s1 : Int64) (M : FM) (T : Ty M) (n_s0 : fm_is M 32 32 s0 = true) (n_a0 : fm_is M 75 75 a0 = true) : gd (FX46_putElsewhere_94 fN a0 s0 s1 M) (GX46_putElsewhere_94 a0 s0 s1 M) (OkV M) := by
  delta FX46_putElsewhere_94 BX46_putElsewhere_94
  refine gd_c n_s0 ?_
  refine gd_b (gX59_putMode _ _ _ ⟨T.1, T.2⟩ n_s0 ) (fun K0 => ?_)
  have f1 := (ext_is K0.2 (Nat.zero_lt_succ _) n_a0)
  exact gd_tV K0.2 (gX46_putElsewhere_98 _ _ ⟨K0.1.1, K0.1.2⟩ f1 )
noncomputable def GX46_putElsewhere_73 (a0 : Nat) (a1 : Int32) (a2 : Int64) (M : FM) : FM :=
  fi (a1 = (Int32.ofInt 1)) (
    GX46_putElsewhere_98 a0 M) (
    fi (a1 = (Int32.ofInt 2)) (
      GX46_putElsewhere_94 a0 (M.2.2 212 a0 0) a2 M) (
      GX46_putElsewhere_94 a0 (M.2.2 212 a0 0) (a2 >>> ((Int32.ofInt 5).toInt64 &&& 63)) M))
theorem gX46_putElsewhere_73 (a0 : Nat) (a1 : Int32) (a2 : Int64) (M : FM) (T : Ty M) (n_a0 : fm_is M 75 75 a0 = true) : gd (FX46_putElsewhere_73 fN a0 a1 a2 M) (GX46_putElsewhere_73 a0 a1 a2 M) (OkV M) := by
  delta FX46_putElsewhere_73 BX46_putElsewhere_73
  refine gd_fi (fun c0_0 => ?_) (fun c0_0 => ?_)
  · exact gd_tV (ext_r _) (gX46_putElsewhere_98 _ _ ⟨T.1, T.2⟩ n_a0 )
  · refine gd_c n_a0 ?_
    refine gd_fi (fun c1_0 => ?_) (fun c1_0 => ?_)
    · have f2 := (tN_212 T.1 n_a0)
      exact gd_tV (ext_r _) (gX46_putElsewhere_94 _ _ _ _ ⟨T.1, T.2⟩ f2 n_a0 )
    · have f3 := (tN_212 T.1 n_a0)
      exact gd_tV (ext_r _) (gX46_putElsewhere_94 _ _ _ _ ⟨T.1, T.2⟩ f3 n_a0 )
noncomputable def GX46_putElsewhere_54 (a0 : Nat) (a1 : Int32) (a2 : Int64) (M : FM) : FM :=
  fi ((Int32.ofInt 4) ≤ a1) (
    GX46_putElsewhere_105 M) (
    fi (a1 = (Int32.ofInt 2)) (
      GX46_putElsewhere_73 a0 a1 a2 M) (
      let x1 : Nat := (M.2.2 212 a0 0)
      let M2 : FM := GX59_putFlags x1 a2.toInt32 M
      GX46_putElsewhere_73 a0 a1 a2 M2))
theorem gX46_putElsewhere_54 (a0 : Nat) (a1 : Int32) (a2 : Int64) (M : FM) (T : Ty M) (n_a0 : fm_is M 75 75 a0 = true) : gd (FX46_putElsewhere_54 fN a0 a1 a2 M) (GX46_putElsewhere_54 a0 a1 a2 M) (OkV M) := by
  delta FX46_putElsewhere_54 BX46_putElsewhere_54
  refine gd_fi (fun c0_0 => ?_) (fun c0_0 => ?_)
  · exact gd_tV (ext_r _) (gX46_putElsewhere_105  _ ⟨T.1, T.2⟩  )
  · refine gd_fi (fun c1_0 => ?_) (fun c1_0 => ?_)
    · exact gd_tV (ext_r _) (gX46_putElsewhere_73 _ _ _ _ ⟨T.1, T.2⟩ n_a0 )
    · refine gd_c n_a0 ?_
      have f2 := (tN_212 T.1 n_a0)
      refine gd_c f2 ?_
      have f5 := (tN_212 T.1 n_a0)
      refine gd_b (gX59_putFlags _ _ _ ⟨T.1, T.2⟩ f5 ) (fun K3 => ?_)
      have f4 := (ext_is K3.2 (Nat.zero_lt_succ _) n_a0)
      exact gd_tV K3.2 (gX46_putElsewhere_73 _ _ _ _ ⟨K3.1.1, K3.1.2⟩ f4 )
noncomputable def GX46_putElsewhere_0 (a0 : Nat) (a1 : Int32) (a2 : Int64) (M : FM) : FM :=
  fi (a1 = (Int32.ofInt 928)) (
    let x1 : Nat := (M.2.2 214 a0 0)
    let x2 : Nat := (M.2.2 288 x1 0)
    let M3 : FM := GX86_configure x2 a2 M
    GX46_putElsewhere_105 M3) (
    fi (a1 < (Int32.ofInt 944)) (
      GX46_putElsewhere_54 a0 a1 a2 M) (
      fi ((Int32.ofInt 952) ≤ a1) (
        GX46_putElsewhere_54 a0 a1 a2 M) (
        let x4 : Nat := (M.2.2 214 a0 0)
        let x5 : Nat := (M.2.2 288 x4 0)
        let M6 : FM := GX86_number x5 (a1 - (Int32.ofInt 944)) a2 M
        GX46_putElsewhere_105 M6)))
def HX46_putElsewhere_0 (a0 : Nat) (a1 : Int32) (a2 : Int64) (M : FM) : Prop := ((a1 = (Int32.ofInt 928) → let x1 : Nat := (M.2.2 214 a0 0); let x2 : Nat := (M.2.2 288 x1 0); (HX86_configure x2 a2 M ∧ True)) ∧ (¬ (a1 = (Int32.ofInt 928)) → ((a1 < (Int32.ofInt 944) → True) ∧ (¬ (a1 < (Int32.ofInt 944)) → (((Int32.ofInt 952) ≤ a1 → True) ∧ (¬ ((Int32.ofInt 952) ≤ a1) → let x4 : Nat := (M.2.2 214 a0 0); let x5 : Nat := (M.2.2 288 x4 0); (HX86_number x5 (a1 - (Int32.ofInt 944)) a2 M ∧ True)))))))
theorem gX46_putElsewhere_0 (a0 : Nat) (a1 : Int32) (a2 : Int64) (M : FM) (T : Ty M) (n_a0 : fm_is M 75 75 a0 = true) (h : HX46_putElsewhere_0 a0 a1 a2 M) : gd (FX46_putElsewhere_0 fN a0 a1 a2 M) (GX46_putElsewhere_0 a0 a1 a2 M) (OkV M) := by
  delta FX46_putElsewhere_0 BX46_putElsewhere_0
  refine gd_fi (fun c0_0 => ?_) (fun c0_0 => ?_)
  · refine gd_c n_a0 ?_
    have f1 := (tN_214 T.1 n_a0)
    refine gd_c f1 ?_
    have f2 := (tN_288 T.1 (tN_214 T.1 n_a0))
    refine gd_c f2 ?_
    refine gd_b (gX86_configure _ _ _ (h.1 c0_0).1) (fun K3 => ?_)
    exact gd_tV K3.2 (gX46_putElsewhere_105  _ ⟨K3.1.1, K3.1.2⟩  )
  · refine gd_fi (fun c4_0 => ?_) (fun c4_0 => ?_)
    · exact gd_tV (ext_r _) (gX46_putElsewhere_54 _ _ _ _ ⟨T.1, T.2⟩ n_a0 )
    · refine gd_fi (fun c5_0 => ?_) (fun c5_0 => ?_)
      · exact gd_tV (ext_r _) (gX46_putElsewhere_54 _ _ _ _ ⟨T.1, T.2⟩ n_a0 )
      · refine gd_c n_a0 ?_
        have f6 := (tN_214 T.1 n_a0)
        refine gd_c f6 ?_
        have f7 := (tN_288 T.1 (tN_214 T.1 n_a0))
        refine gd_c f7 ?_
        have f9 := (tN_288 T.1 (tN_214 T.1 n_a0))
        refine gd_b (gX86_number _ _ _ _ ⟨T.1, T.2⟩ f9 (((h.2 c0_0).2 c4_0).2 c5_0).1) (fun K8 => ?_)
        exact gd_tV K8.2 (gX46_putElsewhere_105  _ ⟨K8.1.1, K8.1.2⟩  )
noncomputable def GX46_putElsewhere (a0 : Nat) (a1 : Int32) (a2 : Int64) (M : FM) : FM := GX46_putElsewhere_0 a0 a1 a2 M
def HX46_putElsewhere (a0 : Nat) (a1 : Int32) (a2 : Int64) (M : FM) : Prop := HX46_putElsewhere_0 a0 a1 a2 M
theorem gX46_putElsewhere (a0 : Nat) (a1 : Int32) (a2 : Int64) (M : FM) (T : Ty M) (n_a0 : fm_is M 75 75 a0 = true) (h : HX46_putElsewhere a0 a1 a2 M) : gd (FX46_putElsewhere fN a0 a1 a2 M) (GX46_putElsewhere a0 a1 a2 M) (OkV M) := gX46_putElsewhere_0 a0 a1 a2 M T n_a0 h
noncomputable def GX46_access_111 (a0 : Nat) (a7 : Int64) (M : FM) : Int32 × FM :=
  let x1 : Nat := (M.2.2 211 a0 0)
  let r2 : Int32 × FM := GX47_finish x1 (Int32.ofInt 1) a7 M
  ((Int32.ofInt 1), r2.2)
def HX46_access_111 (a0 : Nat) (a7 : Int64) (M : FM) : Prop := let x1 : Nat := (M.2.2 211 a0 0); (HX47_finish x1 (Int32.ofInt 1) a7 M ∧ True)
theorem gX46_access_111 (a0 : Nat) (a7 : Int64) (M : FM) (T : Ty M) (n_a0 : fm_is M 75 75 a0 = true) (h : HX46_access_111 a0 a7 M) : gd (FX46_access_111 fN a0 a7 M) (GX46_access_111 a0 a7 M) (OkZ M) := by
  delta FX46_access_111 BX46_access_111
  refine gd_c n_a0 ?_
  have f0 := (tN_211 T.1 n_a0)
  refine gd_c f0 ?_
  have f2 := (tN_211 T.1 n_a0)
  refine gd_b (gX47_finish _ _ _ _ ⟨T.1, T.2⟩ f2 h.1) (fun K1 => ?_)
  exact gd_z fz_1 ⟨K1.1.1, K1.1.2⟩ K1.2 rfl
noncomputable def GX46_access_108 (a0 : Nat) (a7 : Int64) (s0 : Nat) (s1 : Int32) (s2 : Int64) (M : FM) : Int32 × FM :=
  let M1 : FM := GX46_putElsewhere s0 s1 s2 M
  GX46_access_111 a0 a7 M1
def HX46_access_108 (a0 : Nat) (a7 : Int64) (s0 : Nat) (s1 : Int32) (s2 : Int64) (M : FM) : Prop := (HX46_putElsewhere s0 s1 s2 M ∧ let M1 : FM := GX46_putElsewhere s0 s1 s2 M; HX46_access_111 a0 a7 M1)
theorem gX46_access_108 (a0 : Nat) (a7 : Int64) (s0 : Nat) (s1 : Int32) (s2 : Int64) (M : FM) (T : Ty M) (n_s0 : fm_is M 75 75 s0 = true) (n_a0 : fm_is M 75 75 a0 = true) (h : HX46_access_108 a0 a7 s0 s1 s2 M) : gd (FX46_access_108 fN a0 a7 s0 s1 s2 M) (GX46_access_108 a0 a7 s0 s1 s2 M) (OkZ M) := by
  delta FX46_access_108 BX46_access_108
  refine gd_c n_s0 ?_
  refine gd_b (gX46_putElsewhere _ _ _ _ ⟨T.1, T.2⟩ n_s0 h.1) (fun K0 => ?_)
  have f1 := (ext_is K0.2 (Nat.zero_lt_succ _) n_a0)
  exact gd_tZ K0.2 (gX46_access_111 _ _ _ ⟨K0.1.1, K0.1.2⟩ f1 h.2)
noncomputable def GX46_access_23 (a0 : Nat) (a1 : Int32) (a2 : Int32) (a3 : Int64) (s0 : Int32) (M : FM) : Int32 × FM :=
  let x1 : Nat := (M.2.2 213 a0 0)
  let r2 : Int32 × FM := GX74_access x1 a1 a2 s0 a3 M
  fi (r2.1 = (Int32.ofInt 2)) (
    let r3 : Int32 × FM := GX46_illegal a0 r2.2
    (r3.1, r3.2)) (
    let x4 : Nat := (r2.2.2.2 213 a0 0)
    let x5 : Int64 := (r2.2.2.1 38 x4 0)
    fi (r2.1 = (Int32.ofInt 1)) (
      let r6 : Int64 × FM := GX46_elsewhere a0 a1 r2.2
      fi (s0 = 0) (
        GX46_access_111 a0 r6.1 r6.2) (
        fi (a2 = (Int32.ofInt 1)) (
          GX46_access_108 a0 r6.1 a0 a1 a3 r6.2) (
          fi (a2 = (Int32.ofInt 2)) (
            GX46_access_108 a0 r6.1 a0 a1 (r6.1 ||| a3) r6.2) (
            GX46_access_108 a0 r6.1 a0 a1 (r6.1 &&& (a3 ^^^ (Int64.ofInt (-1)))) r6.2)))) (
      GX46_access_111 a0 x5 r2.2))
def HX46_access_23 (a0 : Nat) (a1 : Int32) (a2 : Int32) (a3 : Int64) (s0 : Int32) (M : FM) : Prop := let x1 : Nat := (M.2.2 213 a0 0); (HX74_access x1 a1 a2 s0 a3 M ∧ let r2 : Int32 × FM := GX74_access x1 a1 a2 s0 a3 M; ((r2.1 = (Int32.ofInt 2) → True) ∧ (¬ (r2.1 = (Int32.ofInt 2)) → let x4 : Nat := (r2.2.2.2 213 a0 0); let x5 : Int64 := (r2.2.2.1 38 x4 0); ((r2.1 = (Int32.ofInt 1) → (HX46_elsewhere a0 a1 r2.2 ∧ let r6 : Int64 × FM := GX46_elsewhere a0 a1 r2.2; ((s0 = 0 → HX46_access_111 a0 r6.1 r6.2) ∧ (¬ (s0 = 0) → ((a2 = (Int32.ofInt 1) → HX46_access_108 a0 r6.1 a0 a1 a3 r6.2) ∧ (¬ (a2 = (Int32.ofInt 1)) → ((a2 = (Int32.ofInt 2) → HX46_access_108 a0 r6.1 a0 a1 (r6.1 ||| a3) r6.2) ∧ (¬ (a2 = (Int32.ofInt 2)) → HX46_access_108 a0 r6.1 a0 a1 (r6.1 &&& (a3 ^^^ (Int64.ofInt (-1)))) r6.2)))))))) ∧ (¬ (r2.1 = (Int32.ofInt 1)) → HX46_access_111 a0 x5 r2.2)))))
theorem gX46_access_23 (a0 : Nat) (a1 : Int32) (a2 : Int32) (a3 : Int64) (s0 : Int32) (M : FM) (T : Ty M) (n_a0 : fm_is M 75 75 a0 = true) (h : HX46_access_23 a0 a1 a2 a3 s0 M) : gd (FX46_access_23 fN a0 a1 a2 a3 s0 M) (GX46_access_23 a0 a1 a2 a3 s0 M) (OkZ M) := by
  delta FX46_access_23 BX46_access_23
  refine gd_c n_a0 ?_
  have f0 := (tN_213 T.1 n_a0)
  refine gd_c f0 ?_
  have f23 := (tN_213 T.1 n_a0)
  refine gd_b (gX74_access _ _ _ _ _ _ ⟨T.1, T.2⟩ f23 h.1) (fun K1 => ?_)
  refine gd_fi (fun c2_0 => ?_) (fun c2_0 => ?_)
  · have f3 := (ext_is K1.2 (Nat.zero_lt_succ _) n_a0)
    refine gd_c f3 ?_
    have f5 := (ext_is K1.2 (Nat.zero_lt_succ _) n_a0)
    refine gd_b (gX46_illegal _ _ ⟨K1.1.1, K1.1.2⟩ f5 ) (fun K4 => ?_)
    exact gd_z K4.2.2 ⟨K4.1.1, K4.1.2⟩ (ext_tr K1.2 K4.2.1) rfl
  · have f6 := (ext_is K1.2 (Nat.zero_lt_succ _) n_a0)
    refine gd_c f6 ?_
    have f7 := (tN_213 K1.1.1 (ext_is K1.2 (Nat.zero_lt_succ _) n_a0))
    refine gd_c f7 ?_
    refine gd_fi (fun c8_0 => ?_) (fun c8_0 => ?_)
    · have f9 := (ext_is K1.2 (Nat.zero_lt_succ _) n_a0)
      refine gd_c f9 ?_
      have f21 := (ext_is K1.2 (Nat.zero_lt_succ _) n_a0)
      refine gd_b (gX46_elsewhere _ _ _ ⟨K1.1.1, K1.1.2⟩ f21 ((h.2.2 c2_0).1 c8_0).1) (fun K10 => ?_)
      refine gd_fi (fun c11_0 => ?_) (fun c11_0 => ?_)
      · have f12 := (ext_is K10.2 (Nat.zero_lt_succ _) (ext_is K1.2 (Nat.zero_lt_succ _) n_a0))
        exact gd_tZ (ext_tr K1.2 K10.2) (gX46_access_111 _ _ _ ⟨K10.1.1, K10.1.2⟩ f12 (((h.2.2 c2_0).1 c8_0).2.1 c11_0))
      · refine gd_fi (fun c13_0 => ?_) (fun c13_0 => ?_)
        · have f14 := (ext_is K10.2 (Nat.zero_lt_succ _) (ext_is K1.2 (Nat.zero_lt_succ _) n_a0))
          have f15 := (ext_is K10.2 (Nat.zero_lt_succ _) (ext_is K1.2 (Nat.zero_lt_succ _) n_a0))
          exact gd_tZ (ext_tr K1.2 K10.2) (gX46_access_108 _ _ _ _ _ _ ⟨K10.1.1, K10.1.2⟩ f14 f15 ((((h.2.2 c2_0).1 c8_0).2.2 c11_0).1 c13_0))
        · refine gd_fi (fun c16_0 => ?_) (fun c16_0 => ?_)
          · have f17 := (ext_is K10.2 (Nat.zero_lt_succ _) (ext_is K1.2 (Nat.zero_lt_succ _) n_a0))
            have f18 := (ext_is K10.2 (Nat.zero_lt_succ _) (ext_is K1.2 (Nat.zero_lt_succ _) n_a0))
            exact gd_tZ (ext_tr K1.2 K10.2) (gX46_access_108 _ _ _ _ _ _ ⟨K10.1.1, K10.1.2⟩ f17 f18 (((((h.2.2 c2_0).1 c8_0).2.2 c11_0).2 c13_0).1 c16_0))
          · have f19 := (ext_is K10.2 (Nat.zero_lt_succ _) (ext_is K1.2 (Nat.zero_lt_succ _) n_a0))
            have f20 := (ext_is K10.2 (Nat.zero_lt_succ _) (ext_is K1.2 (Nat.zero_lt_succ _) n_a0))
            exact gd_tZ (ext_tr K1.2 K10.2) (gX46_access_108 _ _ _ _ _ _ ⟨K10.1.1, K10.1.2⟩ f19 f20 (((((h.2.2 c2_0).1 c8_0).2.2 c11_0).2 c13_0).2 c16_0))
    · have f22 := (ext_is K1.2 (Nat.zero_lt_succ _) n_a0)
      exact gd_tZ K1.2 (gX46_access_111 _ _ _ ⟨K1.1.1, K1.1.2⟩ f22 ((h.2.2 c2_0).2 c8_0))
noncomputable def GX46_access_18 (a0 : Nat) (a1 : Int32) (a2 : Int32) (a3 : Int64) (M : FM) : Int32 × FM :=
  GX46_access_23 a0 a1 a2 a3 (Int32.ofInt 1) M
def HX46_access_18 (a0 : Nat) (a1 : Int32) (a2 : Int32) (a3 : Int64) (M : FM) : Prop := HX46_access_23 a0 a1 a2 a3 (Int32.ofInt 1) M
theorem gX46_access_18 (a0 : Nat) (a1 : Int32) (a2 : Int32) (a3 : Int64) (M : FM) (T : Ty M) (n_a0 : fm_is M 75 75 a0 = true) (h : HX46_access_18 a0 a1 a2 a3 M) : gd (FX46_access_18 fN a0 a1 a2 a3 M) (GX46_access_18 a0 a1 a2 a3 M) (OkZ M) := by
  delta FX46_access_18 BX46_access_18
  exact gd_tZ (ext_r _) (gX46_access_23 _ _ _ _ _ _ ⟨T.1, T.2⟩ n_a0 h)
noncomputable def GX46_access_0 (a0 : Nat) (a1 : Int32) (a2 : Int32) (a3 : Int64) (M : FM) : Int32 × FM :=
  fi (a2 = (Int32.ofInt 1)) (
    GX46_access_18 a0 a1 a2 a3 M) (
    fi ((((M.1 219 a0 0).toUInt32 >>> ((Int32.ofInt 15).toUInt32 &&& Int32.toUInt32 31)).toInt32 &&& (Int32.ofInt 31)) = 0) (
      GX46_access_23 a0 a1 a2 a3 (Int32.ofInt 0) M) (
      GX46_access_18 a0 a1 a2 a3 M))
def HX46_access_0 (a0 : Nat) (a1 : Int32) (a2 : Int32) (a3 : Int64) (M : FM) : Prop := ((a2 = (Int32.ofInt 1) → HX46_access_18 a0 a1 a2 a3 M) ∧ (¬ (a2 = (Int32.ofInt 1)) → (((((M.1 219 a0 0).toUInt32 >>> ((Int32.ofInt 15).toUInt32 &&& Int32.toUInt32 31)).toInt32 &&& (Int32.ofInt 31)) = 0 → HX46_access_23 a0 a1 a2 a3 (Int32.ofInt 0) M) ∧ (¬ ((((M.1 219 a0 0).toUInt32 >>> ((Int32.ofInt 15).toUInt32 &&& Int32.toUInt32 31)).toInt32 &&& (Int32.ofInt 31)) = 0) → HX46_access_18 a0 a1 a2 a3 M))))
theorem gX46_access_0 (a0 : Nat) (a1 : Int32) (a2 : Int32) (a3 : Int64) (M : FM) (T : Ty M) (n_a0 : fm_is M 75 75 a0 = true) (h : HX46_access_0 a0 a1 a2 a3 M) : gd (FX46_access_0 fN a0 a1 a2 a3 M) (GX46_access_0 a0 a1 a2 a3 M) (OkZ M) := by
  delta FX46_access_0 BX46_access_0
  refine gd_fi (fun c0_0 => ?_) (fun c0_0 => ?_)
  · exact gd_tZ (ext_r _) (gX46_access_18 _ _ _ _ _ ⟨T.1, T.2⟩ n_a0 (h.1 c0_0))
  · refine gd_c n_a0 ?_
    refine gd_fi (fun c1_0 => ?_) (fun c1_0 => ?_)
    · exact gd_tZ (ext_r _) (gX46_access_23 _ _ _ _ _ _ ⟨T.1, T.2⟩ n_a0 ((h.2 c0_0).1 c1_0))
    · exact gd_tZ (ext_r _) (gX46_access_18 _ _ _ _ _ ⟨T.1, T.2⟩ n_a0 ((h.2 c0_0).2 c1_0))
noncomputable def GX46_access (a0 : Nat) (a1 : Int32) (a2 : Int32) (a3 : Int64) (M : FM) : Int32 × FM := GX46_access_0 a0 a1 a2 a3 M
def HX46_access (a0 : Nat) (a1 : Int32) (a2 : Int32) (a3 : Int64) (M : FM) : Prop := HX46_access_0 a0 a1 a2 a3 M
theorem gX46_access (a0 : Nat) (a1 : Int32) (a2 : Int32) (a3 : Int64) (M : FM) (T : Ty M) (n_a0 : fm_is M 75 75 a0 = true) (h : HX46_access a0 a1 a2 a3 M) : gd (FX46_access fN a0 a1 a2 a3 M) (GX46_access a0 a1 a2 a3 M) (OkZ M) := gX46_access_0 a0 a1 a2 a3 M T n_a0 h
noncomputable def GX46_control_48 (s0 : Int32) (M : FM) : Int32 × FM :=
  (s0, M)
theorem gX46_control_48 (s0 : Int32) (M : FM) (T : Ty M) (z_s0 : s0 = 0 ∨ s0 = 1) : gd (FX46_control_48 fN s0 M) (GX46_control_48 s0 M) (OkZ M) := by
  delta FX46_control_48 BX46_control_48
  exact gd_z z_s0 ⟨T.1, T.2⟩ (ext_r _) rfl
noncomputable def GX46_control_0 (a0 : Nat) (M : FM) : Int32 × FM :=
  let x1 : Nat := (M.2.2 211 a0 0)
  let r2 : Int64 × FM := GX47_wanted x1 (Int32.ofInt 0) M
  let x3 : Int32 := r2.1.toInt32
  let x4 : Nat := (r2.2.2.2 211 a0 0)
  let r5 : Int64 × FM := GX47_wanted x4 (Int32.ofInt 3) r2.2
  let x6 : Int32 := r5.1.toInt32
  fi (x6 = 0) (
    let r7 : Int32 × FM := GX46_system a0 x3 r5.2
    GX46_control_48 r7.1 r7.2) (
    let x8 : Nat := (r5.2.2.2 211 a0 0)
    let r9 : Int64 × FM := GX47_wanted x8 (Int32.ofInt 2) r5.2
    let r10 : Int32 × FM := GX46_access a0 x3 (x6 &&& (Int32.ofInt 3)) r9.1 r9.2
    GX46_control_48 r10.1 r10.2)
def HX46_control_0 (a0 : Nat) (M : FM) : Prop := let x1 : Nat := (M.2.2 211 a0 0); (HX47_wanted x1 (Int32.ofInt 0) M ∧ let r2 : Int64 × FM := GX47_wanted x1 (Int32.ofInt 0) M; let x3 : Int32 := r2.1.toInt32; let x4 : Nat := (r2.2.2.2 211 a0 0); (HX47_wanted x4 (Int32.ofInt 3) r2.2 ∧ let r5 : Int64 × FM := GX47_wanted x4 (Int32.ofInt 3) r2.2; let x6 : Int32 := r5.1.toInt32; ((x6 = 0 → (HX46_system a0 x3 r5.2 ∧ True)) ∧ (¬ (x6 = 0) → let x8 : Nat := (r5.2.2.2 211 a0 0); (HX47_wanted x8 (Int32.ofInt 2) r5.2 ∧ let r9 : Int64 × FM := GX47_wanted x8 (Int32.ofInt 2) r5.2; (HX46_access a0 x3 (x6 &&& (Int32.ofInt 3)) r9.1 r9.2 ∧ True))))))
theorem gX46_control_0 (a0 : Nat) (M : FM) (T : Ty M) (n_a0 : fm_is M 75 75 a0 = true) (h : HX46_control_0 a0 M) : gd (FX46_control_0 fN a0 M) (GX46_control_0 a0 M) (OkZ M) := by
  delta FX46_control_0 BX46_control_0
  refine gd_c n_a0 ?_
  have f0 := (tN_211 T.1 n_a0)
  refine gd_c f0 ?_
  have f17 := (tN_211 T.1 n_a0)
  refine gd_b (gX47_wanted _ _ _ ⟨T.1, T.2⟩ f17 h.1) (fun K1 => ?_)
  have f2 := (ext_is K1.2 (Nat.zero_lt_succ _) n_a0)
  refine gd_c f2 ?_
  have f3 := (tN_211 K1.1.1 (ext_is K1.2 (Nat.zero_lt_succ _) n_a0))
  refine gd_c f3 ?_
  have f16 := (tN_211 K1.1.1 (ext_is K1.2 (Nat.zero_lt_succ _) n_a0))
  refine gd_b (gX47_wanted _ _ _ ⟨K1.1.1, K1.1.2⟩ f16 h.2.1) (fun K4 => ?_)
  refine gd_fi (fun c5_0 => ?_) (fun c5_0 => ?_)
  · have f6 := (ext_is K4.2 (Nat.zero_lt_succ _) (ext_is K1.2 (Nat.zero_lt_succ _) n_a0))
    refine gd_c f6 ?_
    have f8 := (ext_is K4.2 (Nat.zero_lt_succ _) (ext_is K1.2 (Nat.zero_lt_succ _) n_a0))
    refine gd_b (gX46_system _ _ _ ⟨K4.1.1, K4.1.2⟩ f8 (h.2.2.1 c5_0).1) (fun K7 => ?_)
    exact gd_tZ (ext_tr K1.2 (ext_tr K4.2 K7.2.1)) (gX46_control_48 _ _ ⟨K7.1.1, K7.1.2⟩ K7.2.2 )
  · have f9 := (ext_is K4.2 (Nat.zero_lt_succ _) (ext_is K1.2 (Nat.zero_lt_succ _) n_a0))
    refine gd_c f9 ?_
    have f10 := (tN_211 K4.1.1 (ext_is K4.2 (Nat.zero_lt_succ _) (ext_is K1.2 (Nat.zero_lt_succ _) n_a0)))
    refine gd_c f10 ?_
    have f15 := (tN_211 K4.1.1 (ext_is K4.2 (Nat.zero_lt_succ _) (ext_is K1.2 (Nat.zero_lt_succ _) n_a0)))
    refine gd_b (gX47_wanted _ _ _ ⟨K4.1.1, K4.1.2⟩ f15 (h.2.2.2 c5_0).1) (fun K11 => ?_)
    have f12 := (ext_is K11.2 (Nat.zero_lt_succ _) (ext_is K4.2 (Nat.zero_lt_succ _) (ext_is K1.2 (Nat.zero_lt_succ _) n_a0)))
    refine gd_c f12 ?_
    have f14 := (ext_is K11.2 (Nat.zero_lt_succ _) (ext_is K4.2 (Nat.zero_lt_succ _) (ext_is K1.2 (Nat.zero_lt_succ _) n_a0)))
    refine gd_b (gX46_access _ _ _ _ _ ⟨K11.1.1, K11.1.2⟩ f14 (h.2.2.2 c5_0).2.1) (fun K13 => ?_)
    exact gd_tZ (ext_tr K1.2 (ext_tr K4.2 (ext_tr K11.2 K13.2.1))) (gX46_control_48 _ _ ⟨K13.1.1, K13.1.2⟩ K13.2.2 )
noncomputable def GX46_control (a0 : Nat) (M : FM) : Int32 × FM := GX46_control_0 a0 M
def HX46_control (a0 : Nat) (M : FM) : Prop := HX46_control_0 a0 M
theorem gX46_control (a0 : Nat) (M : FM) (T : Ty M) (n_a0 : fm_is M 75 75 a0 = true) (h : HX46_control a0 M) : gd (FX46_control fN a0 M) (GX46_control a0 M) (OkZ M) := gX46_control_0 a0 M T n_a0 h
noncomputable def GX46_execute_110 (M : FM) : Int32 × FM :=
  ((Int32.ofInt 1), M)
theorem gX46_execute_110 (M : FM) (T : Ty M) : gd (FX46_execute_110 fN M) (GX46_execute_110 M) (OkZ M) := by
  delta FX46_execute_110 BX46_execute_110
  exact gd_z fz_1 ⟨T.1, T.2⟩ (ext_r _) rfl
noncomputable def GX46_execute_20 (a0 : Nat) (M : FM) : Int32 × FM :=
  let x1 : Nat := (M.2.2 211 a0 0)
  let r2 : Int32 × FM := GX47_run x1 (M.1 219 a0 0) (M.1 221 a0 0) M
  fi (r2.1 = (Int32.ofInt (-1))) (
    let r3 : Int32 × FM := GX46_illegal a0 r2.2
    (r3.1, r3.2)) (
    fi (r2.1 = (Int32.ofInt 0)) (
      GX46_execute_110 r2.2) (
      fi (r2.1 = (Int32.ofInt 1)) (
        GX46_execute_110 r2.2) (
        fi (r2.1 = (Int32.ofInt 2)) (
          let r4 : Int32 × FM := GX46_load a0 r2.2
          (r4.1, r4.2)) (
          fi (r2.1 = (Int32.ofInt 3)) (
            let r5 : Int32 × FM := GX46_store a0 r2.2
            (r5.1, r5.2)) (
            fi (r2.1 = (Int32.ofInt 4)) (
              let r6 : Int32 × FM := GX46_atomic a0 r2.2
              (r6.1, r6.2)) (
              fi (r2.1 = (Int32.ofInt 5)) (
                let r7 : Int32 × FM := GX46_floating a0 r2.2
                (r7.1, r7.2)) (
                fi (r2.1 = (Int32.ofInt 6)) (
                  let r8 : Int32 × FM := GX46_control a0 r2.2
                  (r8.1, r8.2)) (
                  GX46_execute_110 r2.2))))))))
def HX46_execute_20 (a0 : Nat) (M : FM) : Prop := let x1 : Nat := (M.2.2 211 a0 0); (HX47_run x1 (M.1 219 a0 0) (M.1 221 a0 0) M ∧ let r2 : Int32 × FM := GX47_run x1 (M.1 219 a0 0) (M.1 221 a0 0) M; ((r2.1 = (Int32.ofInt (-1)) → True) ∧ (¬ (r2.1 = (Int32.ofInt (-1))) → ((r2.1 = (Int32.ofInt 0) → True) ∧ (¬ (r2.1 = (Int32.ofInt 0)) → ((r2.1 = (Int32.ofInt 1) → True) ∧ (¬ (r2.1 = (Int32.ofInt 1)) → ((r2.1 = (Int32.ofInt 2) → (HX46_load a0 r2.2 ∧ True)) ∧ (¬ (r2.1 = (Int32.ofInt 2)) → ((r2.1 = (Int32.ofInt 3) → (HX46_store a0 r2.2 ∧ True)) ∧ (¬ (r2.1 = (Int32.ofInt 3)) → ((r2.1 = (Int32.ofInt 4) → (HX46_atomic a0 r2.2 ∧ True)) ∧ (¬ (r2.1 = (Int32.ofInt 4)) → ((r2.1 = (Int32.ofInt 5) → (HX46_floating a0 r2.2 ∧ True)) ∧ (¬ (r2.1 = (Int32.ofInt 5)) → ((r2.1 = (Int32.ofInt 6) → (HX46_control a0 r2.2 ∧ True)) ∧ (¬ (r2.1 = (Int32.ofInt 6)) → True)))))))))))))))))
theorem gX46_execute_20 (a0 : Nat) (M : FM) (T : Ty M) (n_a0 : fm_is M 75 75 a0 = true) (h : HX46_execute_20 a0 M) : gd (FX46_execute_20 fN a0 M) (GX46_execute_20 a0 M) (OkZ M) := by
  delta FX46_execute_20 BX46_execute_20
  refine gd_c n_a0 ?_
  refine gd_c n_a0 ?_
  refine gd_c n_a0 ?_
  have f0 := (tN_211 T.1 n_a0)
  refine gd_c f0 ?_
  refine gd_b (gX47_run _ _ _ _ h.1) (fun K1 => ?_)
  refine gd_fi (fun c2_0 => ?_) (fun c2_0 => ?_)
  · have f3 := (ext_is K1.2 (Nat.zero_lt_succ _) n_a0)
    refine gd_c f3 ?_
    have f5 := (ext_is K1.2 (Nat.zero_lt_succ _) n_a0)
    refine gd_b (gX46_illegal _ _ ⟨K1.1.1, K1.1.2⟩ f5 ) (fun K4 => ?_)
    exact gd_z K4.2.2 ⟨K4.1.1, K4.1.2⟩ (ext_tr K1.2 K4.2.1) rfl
  · refine gd_fi (fun c6_1 => ?_) (fun c6_1 => ?_)
    · exact gd_tZ K1.2 (gX46_execute_110  _ ⟨K1.1.1, K1.1.2⟩  )
    · refine gd_fi (fun c7_2 => ?_) (fun c7_2 => ?_)
      · exact gd_tZ K1.2 (gX46_execute_110  _ ⟨K1.1.1, K1.1.2⟩  )
      · refine gd_fi (fun c8_3 => ?_) (fun c8_3 => ?_)
        · have f9 := (ext_is K1.2 (Nat.zero_lt_succ _) n_a0)
          refine gd_c f9 ?_
          have f11 := (ext_is K1.2 (Nat.zero_lt_succ _) n_a0)
          refine gd_b (gX46_load _ _ ⟨K1.1.1, K1.1.2⟩ f11 ((((h.2.2 c2_0).2 c6_1).2 c7_2).1 c8_3).1) (fun K10 => ?_)
          exact gd_z K10.2.2 ⟨K10.1.1, K10.1.2⟩ (ext_tr K1.2 K10.2.1) rfl
        · refine gd_fi (fun c12_4 => ?_) (fun c12_4 => ?_)
          · have f13 := (ext_is K1.2 (Nat.zero_lt_succ _) n_a0)
            refine gd_c f13 ?_
            have f15 := (ext_is K1.2 (Nat.zero_lt_succ _) n_a0)
            refine gd_b (gX46_store _ _ ⟨K1.1.1, K1.1.2⟩ f15 (((((h.2.2 c2_0).2 c6_1).2 c7_2).2 c8_3).1 c12_4).1) (fun K14 => ?_)
            exact gd_z K14.2.2 ⟨K14.1.1, K14.1.2⟩ (ext_tr K1.2 K14.2.1) rfl
          · refine gd_fi (fun c16_5 => ?_) (fun c16_5 => ?_)
            · have f17 := (ext_is K1.2 (Nat.zero_lt_succ _) n_a0)
              refine gd_c f17 ?_
              have f19 := (ext_is K1.2 (Nat.zero_lt_succ _) n_a0)
              refine gd_b (gX46_atomic _ _ ⟨K1.1.1, K1.1.2⟩ f19 ((((((h.2.2 c2_0).2 c6_1).2 c7_2).2 c8_3).2 c12_4).1 c16_5).1) (fun K18 => ?_)
              exact gd_z K18.2.2 ⟨K18.1.1, K18.1.2⟩ (ext_tr K1.2 K18.2.1) rfl
            · refine gd_fi (fun c20_6 => ?_) (fun c20_6 => ?_)
              · have f21 := (ext_is K1.2 (Nat.zero_lt_succ _) n_a0)
                refine gd_c f21 ?_
                have f23 := (ext_is K1.2 (Nat.zero_lt_succ _) n_a0)
                refine gd_b (gX46_floating _ _ ⟨K1.1.1, K1.1.2⟩ f23 (((((((h.2.2 c2_0).2 c6_1).2 c7_2).2 c8_3).2 c12_4).2 c16_5).1 c20_6).1) (fun K22 => ?_)
                exact gd_z K22.2.2 ⟨K22.1.1, K22.1.2⟩ (ext_tr K1.2 K22.2.1) rfl
              · refine gd_fi (fun c24_7 => ?_) (fun c24_7 => ?_)
                · have f25 := (ext_is K1.2 (Nat.zero_lt_succ _) n_a0)
                  refine gd_c f25 ?_
                  have f27 := (ext_is K1.2 (Nat.zero_lt_succ _) n_a0)
                  refine gd_b (gX46_control _ _ ⟨K1.1.1, K1.1.2⟩ f27 ((((((((h.2.2 c2_0).2 c6_1).2 c7_2).2 c8_3).2 c12_4).2 c16_5).2 c20_6).1 c24_7).1) (fun K26 => ?_)
                  exact gd_z K26.2.2 ⟨K26.1.1, K26.1.2⟩ (ext_tr K1.2 K26.2.1) rfl
                · exact gd_tZ K1.2 (gX46_execute_110  _ ⟨K1.1.1, K1.1.2⟩  )
noncomputable def GX46_execute_0 (a0 : Nat) (M : FM) : Int32 × FM :=
  fi ((M.1 221 a0 0) = (Int32.ofInt 2)) (
    fi ((M.1 219 a0 0) = 0) (
      let r1 : Int32 × FM := GX46_illegal a0 M
      (r1.1, r1.2)) (
      GX46_execute_20 a0 M)) (
    GX46_execute_20 a0 M)
def HX46_execute_0 (a0 : Nat) (M : FM) : Prop := (((M.1 221 a0 0) = (Int32.ofInt 2) → (((M.1 219 a0 0) = 0 → True) ∧ (¬ ((M.1 219 a0 0) = 0) → HX46_execute_20 a0 M))) ∧ (¬ ((M.1 221 a0 0) = (Int32.ofInt 2)) → HX46_execute_20 a0 M))
theorem gX46_execute_0 (a0 : Nat) (M : FM) (T : Ty M) (n_a0 : fm_is M 75 75 a0 = true) (h : HX46_execute_0 a0 M) : gd (FX46_execute_0 fN a0 M) (GX46_execute_0 a0 M) (OkZ M) := by
  delta FX46_execute_0 BX46_execute_0
  refine gd_c n_a0 ?_
  refine gd_fi (fun c0_0 => ?_) (fun c0_0 => ?_)
  · refine gd_c n_a0 ?_
    refine gd_fi (fun c1_0 => ?_) (fun c1_0 => ?_)
    · refine gd_c n_a0 ?_
      refine gd_b (gX46_illegal _ _ ⟨T.1, T.2⟩ n_a0 ) (fun K2 => ?_)
      exact gd_z K2.2.2 ⟨K2.1.1, K2.1.2⟩ K2.2.1 rfl
    · exact gd_tZ (ext_r _) (gX46_execute_20 _ _ ⟨T.1, T.2⟩ n_a0 ((h.1 c0_0).2 c1_0))
  · exact gd_tZ (ext_r _) (gX46_execute_20 _ _ ⟨T.1, T.2⟩ n_a0 (h.2 c0_0))
noncomputable def GX46_execute (a0 : Nat) (M : FM) : Int32 × FM := GX46_execute_0 a0 M
def HX46_execute (a0 : Nat) (M : FM) : Prop := HX46_execute_0 a0 M
theorem gX46_execute (a0 : Nat) (M : FM) (T : Ty M) (n_a0 : fm_is M 75 75 a0 = true) (h : HX46_execute a0 M) : gd (FX46_execute fN a0 M) (GX46_execute a0 M) (OkZ M) := gX46_execute_0 a0 M T n_a0 h
noncomputable def GX46_step_95 (M : FM) : FM :=
  M
theorem gX46_step_95 (M : FM) (T : Ty M) : gd (FX46_step_95 fN M) (GX46_step_95 M) (OkV M) := by
  delta FX46_step_95 BX46_step_95
  exact ⟨rfl, ⟨T.1, T.2⟩, (ext_r _)⟩
noncomputable def GX46_step_24 (a0 : Nat) (M : FM) : FM :=
  let M1 : FM := fm_sI M 218 a0 0 (Int32.ofInt 0)
  let x2 : Nat := (M1.2.2 213 a0 0)
  let r3 : Int32 × FM := GX74_taken x2 M1
  fi (r3.1 < 0) (
    let r4 : Int32 × FM := GX46_fetch a0 r3.2
    fi (r4.1 = 0) (
      GX46_step_95 r4.2) (
      let r5 : Int32 × FM := GX46_execute a0 r4.2
      fi (r5.1 = 0) (
        GX46_step_95 r5.2) (
        let x6 : Nat := (r5.2.2.2 213 a0 0)
        let x7 : Nat := (r5.2.2.2 35 x6 0)
        let M8 : FM := fm_sL r5.2 41 x7 0 ((r5.2.2.1 41 x7 0) + (Int64.ofInt 1))
        GX46_step_95 M8))) (
    let r9 : Int64 × FM := GX46_counter a0 r3.2
    let x10 : Nat := (r3.2.2.2 213 a0 0)
    let r11 : Int64 × FM := GX74_trap x10 (Int32.ofInt 1) r3.1 (Int64.ofInt 0) r9.1 r9.2
    let x12 : Nat := (r3.2.2.2 211 a0 0)
    let M13 : FM := GX47_jump x12 r11.1 r11.2
    GX46_step_95 M13)
def HX46_step_24 (a0 : Nat) (M : FM) : Prop := let M1 : FM := fm_sI M 218 a0 0 (Int32.ofInt 0); let x2 : Nat := (M1.2.2 213 a0 0); (HX74_taken x2 M1 ∧ let r3 : Int32 × FM := GX74_taken x2 M1; ((r3.1 < 0 → (HX46_fetch a0 r3.2 ∧ let r4 : Int32 × FM := GX46_fetch a0 r3.2; ((r4.1 = 0 → True) ∧ (¬ (r4.1 = 0) → (HX46_execute a0 r4.2 ∧ True))))) ∧ (¬ (r3.1 < 0) → True)))
theorem gX46_step_24 (a0 : Nat) (M : FM) (T : Ty M) (n_a0 : fm_is M 75 75 a0 = true) (h : HX46_step_24 a0 M) : gd (FX46_step_24 fN a0 M) (GX46_step_24 a0 M) (OkV M) := by
  delta FX46_step_24 BX46_step_24
  refine gd_c n_a0 ?_
  refine gd_c fz_0 ?_
  refine gd_c n_a0 ?_
  have f0 := (tN_213 T.1 n_a0)
  refine gd_c f0 ?_
  have f26 := (tN_213 T.1 n_a0)
  refine gd_b (gX74_taken _ _ ⟨T.1, (tyb_sIb (f := 218) rfl T.2 fz_0)⟩ f26 h.1) (fun K1 => ?_)
  refine gd_fi (fun c2_0 => ?_) (fun c2_0 => ?_)
  · have f3 := (ext_is K1.2 (Nat.zero_lt_succ _) n_a0)
    refine gd_c f3 ?_
    have f14 := (ext_is K1.2 (Nat.zero_lt_succ _) n_a0)
    refine gd_b (gX46_fetch _ _ ⟨K1.1.1, K1.1.2⟩ f14 (h.2.1 c2_0).1) (fun K4 => ?_)
    refine gd_fi (fun c5_0 => ?_) (fun c5_0 => ?_)
    · exact gd_tV (ext_dI (ext_tr K1.2 K4.2.1)) (gX46_step_95  _ ⟨K4.1.1, K4.1.2⟩  )
    · have f6 := (ext_is K4.2.1 (Nat.zero_lt_succ _) (ext_is K1.2 (Nat.zero_lt_succ _) n_a0))
      refine gd_c f6 ?_
      have f13 := (ext_is K4.2.1 (Nat.zero_lt_succ _) (ext_is K1.2 (Nat.zero_lt_succ _) n_a0))
      refine gd_b (gX46_execute _ _ ⟨K4.1.1, K4.1.2⟩ f13 ((h.2.1 c2_0).2.2 c5_0).1) (fun K7 => ?_)
      refine gd_fi (fun c8_0 => ?_) (fun c8_0 => ?_)
      · exact gd_tV (ext_dI (ext_tr K1.2 (ext_tr K4.2.1 K7.2.1))) (gX46_step_95  _ ⟨K7.1.1, K7.1.2⟩  )
      · have f9 := (ext_is K7.2.1 (Nat.zero_lt_succ _) (ext_is K4.2.1 (Nat.zero_lt_succ _) (ext_is K1.2 (Nat.zero_lt_succ _) n_a0)))
        refine gd_c f9 ?_
        have f10 := (tN_213 K7.1.1 (ext_is K7.2.1 (Nat.zero_lt_succ _) (ext_is K4.2.1 (Nat.zero_lt_succ _) (ext_is K1.2 (Nat.zero_lt_succ _) n_a0))))
        refine gd_c f10 ?_
        have f11 := (tN_35 K7.1.1 (tN_213 K7.1.1 (ext_is K7.2.1 (Nat.zero_lt_succ _) (ext_is K4.2.1 (Nat.zero_lt_succ _) (ext_is K1.2 (Nat.zero_lt_succ _) n_a0)))))
        refine gd_c f11 ?_
        have f12 := (tN_35 K7.1.1 (tN_213 K7.1.1 (ext_is K7.2.1 (Nat.zero_lt_succ _) (ext_is K4.2.1 (Nat.zero_lt_succ _) (ext_is K1.2 (Nat.zero_lt_succ _) n_a0)))))
        refine gd_c f12 ?_
        exact gd_tV (ext_dI (ext_tr K1.2 (ext_tr K4.2.1 (ext_tr K7.2.1 (ext_dL (ext_r _)))))) (gX46_step_95  _ ⟨K7.1.1, K7.1.2⟩  )
  · have f15 := (ext_is K1.2 (Nat.zero_lt_succ _) n_a0)
    refine gd_c f15 ?_
    have f16 := (ext_is K1.2 (Nat.zero_lt_succ _) n_a0)
    refine gd_c f16 ?_
    have f17 := (ext_is K1.2 (Nat.zero_lt_succ _) n_a0)
    refine gd_c f17 ?_
    have f25 := (ext_is K1.2 (Nat.zero_lt_succ _) n_a0)
    refine gd_b (gX46_counter _ _ ⟨K1.1.1, K1.1.2⟩ f25 ) (fun K18 => ?_)
    have f19 := (ext_is K18.2 (Nat.zero_lt_succ _) (tN_213 K1.1.1 (ext_is K1.2 (Nat.zero_lt_succ _) n_a0)))
    refine gd_c f19 ?_
    have f24 := (ext_is K18.2 (Nat.zero_lt_succ _) (tN_213 K1.1.1 (ext_is K1.2 (Nat.zero_lt_succ _) n_a0)))
    refine gd_b (gX74_trap _ _ _ _ _ _ ⟨K18.1.1, K18.1.2⟩ f24 ) (fun K20 => ?_)
    have f21 := (ext_is K20.2 (Nat.zero_lt_succ _) (ext_is K18.2 (Nat.zero_lt_succ _) (tN_211 K1.1.1 (ext_is K1.2 (Nat.zero_lt_succ _) n_a0))))
    refine gd_c f21 ?_
    have f23 := (ext_is K20.2 (Nat.zero_lt_succ _) (ext_is K18.2 (Nat.zero_lt_succ _) (tN_211 K1.1.1 (ext_is K1.2 (Nat.zero_lt_succ _) n_a0))))
    refine gd_b (gX47_jump _ _ _ ⟨K20.1.1, K20.1.2⟩ f23 ) (fun K22 => ?_)
    exact gd_tV (ext_dI (ext_tr K1.2 (ext_tr K18.2 (ext_tr K20.2 K22.2)))) (gX46_step_95  _ ⟨K22.1.1, K22.1.2⟩  )
noncomputable def GX46_step_0 (a0 : Nat) (M : FM) : FM :=
  let M1 : FM := GX46_look a0 M
  fi ((M1.1 218 a0 0) = 0) (
    GX46_step_24 a0 M1) (
    let x2 : Nat := (M1.2.2 213 a0 0)
    let r3 : Int64 × FM := GX74_waiting x2 M1
    fi ((lg_cmp r3.1 (Int64.ofInt 0)) = 0) (
      r3.2) (
      GX46_step_24 a0 r3.2))
def HX46_step_0 (a0 : Nat) (M : FM) : Prop := (HX46_look a0 M ∧ let M1 : FM := GX46_look a0 M; (((M1.1 218 a0 0) = 0 → HX46_step_24 a0 M1) ∧ (¬ ((M1.1 218 a0 0) = 0) → let x2 : Nat := (M1.2.2 213 a0 0); let r3 : Int64 × FM := GX74_waiting x2 M1; (((lg_cmp r3.1 (Int64.ofInt 0)) = 0 → True) ∧ (¬ ((lg_cmp r3.1 (Int64.ofInt 0)) = 0) → HX46_step_24 a0 r3.2)))))
theorem gX46_step_0 (a0 : Nat) (M : FM) (T : Ty M) (n_a0 : fm_is M 75 75 a0 = true) (h : HX46_step_0 a0 M) : gd (FX46_step_0 fN a0 M) (GX46_step_0 a0 M) (OkV M) := by
  delta FX46_step_0 BX46_step_0
  refine gd_c n_a0 ?_
  refine gd_b (gX46_look _ _ ⟨T.1, T.2⟩ n_a0 h.1) (fun K0 => ?_)
  have f1 := (ext_is K0.2 (Nat.zero_lt_succ _) n_a0)
  refine gd_c f1 ?_
  refine gd_fi (fun c2_0 => ?_) (fun c2_0 => ?_)
  · have f3 := (ext_is K0.2 (Nat.zero_lt_succ _) n_a0)
    exact gd_tV K0.2 (gX46_step_24 _ _ ⟨K0.1.1, K0.1.2⟩ f3 (h.2.1 c2_0))
  · have f4 := (ext_is K0.2 (Nat.zero_lt_succ _) n_a0)
    refine gd_c f4 ?_
    have f5 := (tN_213 K0.1.1 (ext_is K0.2 (Nat.zero_lt_succ _) n_a0))
    refine gd_c f5 ?_
    have f9 := (tN_213 K0.1.1 (ext_is K0.2 (Nat.zero_lt_succ _) n_a0))
    refine gd_b (gX74_waiting _ _ ⟨K0.1.1, K0.1.2⟩ f9 ) (fun K6 => ?_)
    refine gd_fi (fun c7_0 => ?_) (fun c7_0 => ?_)
    · exact ⟨rfl, ⟨K6.1.1, K6.1.2⟩, (ext_tr K0.2 K6.2)⟩
    · have f8 := (ext_is K6.2 (Nat.zero_lt_succ _) (ext_is K0.2 (Nat.zero_lt_succ _) n_a0))
      exact gd_tV (ext_tr K0.2 K6.2) (gX46_step_24 _ _ ⟨K6.1.1, K6.1.2⟩ f8 ((h.2.2 c2_0).2 c7_0))
noncomputable def GX46_step (a0 : Nat) (M : FM) : FM := GX46_step_0 a0 M
def HX46_step (a0 : Nat) (M : FM) : Prop := HX46_step_0 a0 M
theorem gX46_step (a0 : Nat) (M : FM) (T : Ty M) (n_a0 : fm_is M 75 75 a0 = true) (h : HX46_step a0 M) : gd (FX46_step fN a0 M) (GX46_step a0 M) (OkV M) := gX46_step_0 a0 M T n_a0 h
noncomputable def GX30_come_0 (a0 : Nat) (a1 : Int32) (M : FM) : Int32 × FM :=
  let x1 : Nat := (M.2.2 242 a0 0)
  let r2 : Int32 × FM := GX31_come x1 a1 M
  let M3 : FM := GX30_look a0 r2.2
  (r2.1, M3)
def HX30_come_0 (a0 : Nat) (a1 : Int32) (M : FM) : Prop := let x1 : Nat := (M.2.2 242 a0 0); (HX31_come x1 a1 M ∧ let r2 : Int32 × FM := GX31_come x1 a1 M; (HX30_look a0 r2.2 ∧ True))
theorem gX30_come_0 (a0 : Nat) (a1 : Int32) (M : FM) (T : Ty M) (n_a0 : fm_is M 79 79 a0 = true) (h : HX30_come_0 a0 a1 M) : gd (FX30_come_0 a0 a1 M) (GX30_come_0 a0 a1 M) (OkZ M) := by
  delta FX30_come_0 BX30_come_0
  refine gd_c n_a0 ?_
  have f0 := (tN_242 T.1 n_a0)
  refine gd_c f0 ?_
  have f5 := (tN_242 T.1 n_a0)
  refine gd_b (gX31_come _ _ _ ⟨T.1, T.2⟩ f5 h.1) (fun K1 => ?_)
  have f2 := (ext_is K1.2.1 (Nat.zero_lt_succ _) n_a0)
  refine gd_c f2 ?_
  have f4 := (ext_is K1.2.1 (Nat.zero_lt_succ _) n_a0)
  refine gd_b (gX30_look _ _ ⟨K1.1.1, K1.1.2⟩ f4 h.2.1) (fun K3 => ?_)
  exact gd_z K1.2.2 ⟨K3.1.1, K3.1.2⟩ (ext_tr K1.2.1 K3.2) rfl
noncomputable def GX30_come (a0 : Nat) (a1 : Int32) (M : FM) : Int32 × FM := GX30_come_0 a0 a1 M
def HX30_come (a0 : Nat) (a1 : Int32) (M : FM) : Prop := HX30_come_0 a0 a1 M
theorem gX30_come (a0 : Nat) (a1 : Int32) (M : FM) (T : Ty M) (n_a0 : fm_is M 79 79 a0 = true) (h : HX30_come a0 a1 M) : gd (FX30_come a0 a1 M) (GX30_come a0 a1 M) (OkZ M) := gX30_come_0 a0 a1 M T n_a0 h
noncomputable def GX2_come_66 (M : FM) : FM :=
  M
theorem gX2_come_66 (M : FM) (T : Ty M) : gd (FX2_come_66 M) (GX2_come_66 M) (OkV M) := by
  delta FX2_come_66 BX2_come_66
  exact ⟨rfl, ⟨T.1, T.2⟩, (ext_r _)⟩
noncomputable def GX2_come_0 (a0 : Nat) (M : FM) : FM :=
  fi ((M.1 196 a0 0) ≤ 0) (
    GX2_come_66 M) (
    let x1 : Nat := (M.2.2 189 a0 0)
    let x2 : Nat := (M.2.2 19 x1 0)
    let x3 : Nat := (M.2.2 242 x2 0)
    let r4 : Int32 × FM := GX31_room x3 M
    fi (r4.1 ≤ 0) (
      GX2_come_66 r4.2) (
      let x5 : Nat := (r4.2.2.2 189 a0 0)
      let x6 : Int32 := (r4.2.1 195 a0 0)
      let x7 : Nat := (r4.2.2.2 194 a0 0)
      let x8 : Nat := (r4.2.2.2 19 x5 0)
      let r9 : Int32 × FM := GX30_come x8 (r4.2.1 3 x7 x6.toNatClampNeg) r4.2
      let x10 : Int32 := ((r9.2.1 195 a0 0) + (Int32.ofInt 1))
      let M11 : FM := fm_sI r9.2 195 a0 0 (x10 - x10 / (Int32.ofInt 65536) * (Int32.ofInt 65536))
      let M12 : FM := fm_sI M11 196 a0 0 ((M11.1 196 a0 0) - (Int32.ofInt 1))
      GX2_come_66 M12))
def HX2_come_0 (a0 : Nat) (M : FM) : Prop := (((M.1 196 a0 0) ≤ 0 → True) ∧ (¬ ((M.1 196 a0 0) ≤ 0) → let x1 : Nat := (M.2.2 189 a0 0); let x2 : Nat := (M.2.2 19 x1 0); let x3 : Nat := (M.2.2 242 x2 0); let r4 : Int32 × FM := GX31_room x3 M; ((r4.1 ≤ 0 → True) ∧ (¬ (r4.1 ≤ 0) → let x5 : Nat := (r4.2.2.2 189 a0 0); let x6 : Int32 := (r4.2.1 195 a0 0); let x7 : Nat := (r4.2.2.2 194 a0 0); (fm_in r4.2 x7 x6 = true ∧ let x8 : Nat := (r4.2.2.2 19 x5 0); (HX30_come x8 (r4.2.1 3 x7 x6.toNatClampNeg) r4.2 ∧ True))))))
theorem gX2_come_0 (a0 : Nat) (M : FM) (T : Ty M) (n_a0 : fm_is M 67 67 a0 = true) (h : HX2_come_0 a0 M) : gd (FX2_come_0 a0 M) (GX2_come_0 a0 M) (OkV M) := by
  delta FX2_come_0 BX2_come_0
  refine gd_c n_a0 ?_
  refine gd_fi (fun c0_0 => ?_) (fun c0_0 => ?_)
  · exact gd_tV (ext_r _) (gX2_come_66  _ ⟨T.1, T.2⟩  )
  · refine gd_c n_a0 ?_
    have f1 := (tN_189 T.1 n_a0)
    refine gd_c f1 ?_
    have f2 := (tN_19 T.1 (tN_189 T.1 n_a0))
    refine gd_c f2 ?_
    have f3 := (tN_242 T.1 (tN_19 T.1 (tN_189 T.1 n_a0)))
    refine gd_c f3 ?_
    have f19 := (tN_242 T.1 (tN_19 T.1 (tN_189 T.1 n_a0)))
    refine gd_b (gX31_room _ _ ⟨T.1, T.2⟩ f19 ) (fun K4 => ?_)
    refine gd_fi (fun c5_0 => ?_) (fun c5_0 => ?_)
    · exact gd_tV K4.2 (gX2_come_66  _ ⟨K4.1.1, K4.1.2⟩  )
    · have f6 := (ext_is K4.2 (Nat.zero_lt_succ _) n_a0)
      refine gd_c f6 ?_
      have f7 := (tN_189 K4.1.1 (ext_is K4.2 (Nat.zero_lt_succ _) n_a0))
      refine gd_c f7 ?_
      have f8 := (ext_is K4.2 (Nat.zero_lt_succ _) n_a0)
      refine gd_c f8 ?_
      have f9 := (ext_is K4.2 (Nat.zero_lt_succ _) n_a0)
      refine gd_c f9 ?_
      have f17 := (tN_194 K4.1.1 (ext_is K4.2 (Nat.zero_lt_succ _) n_a0))
      have f18 := ((h.2 c0_0).2 c5_0).1
      refine gd_c ⟨f17, f18⟩ ?_
      have f10 := (tN_19 K4.1.1 (tN_189 K4.1.1 (ext_is K4.2 (Nat.zero_lt_succ _) n_a0)))
      refine gd_c f10 ?_
      have f16 := (tN_19 K4.1.1 (tN_189 K4.1.1 (ext_is K4.2 (Nat.zero_lt_succ _) n_a0)))
      refine gd_b (gX30_come _ _ _ ⟨K4.1.1, K4.1.2⟩ f16 ((h.2 c0_0).2 c5_0).2.1) (fun K11 => ?_)
      have f12 := (ext_is K11.2.1 (Nat.zero_lt_succ _) (ext_is K4.2 (Nat.zero_lt_succ _) n_a0))
      refine gd_c f12 ?_
      refine gd_n (by decide) ?_
      have f13 := (ext_is K11.2.1 (Nat.zero_lt_succ _) (ext_is K4.2 (Nat.zero_lt_succ _) n_a0))
      refine gd_c f13 ?_
      have f14 := (ext_is K11.2.1 (Nat.zero_lt_succ _) (ext_is K4.2 (Nat.zero_lt_succ _) n_a0))
      refine gd_c f14 ?_
      have f15 := (ext_is K11.2.1 (Nat.zero_lt_succ _) (ext_is K4.2 (Nat.zero_lt_succ _) n_a0))
      refine gd_c f15 ?_
      exact gd_tV (ext_tr K4.2 (ext_tr K11.2.1 (ext_dI (ext_dI (ext_r _))))) (gX2_come_66  _ ⟨K11.1.1, (tyb_sI (f := 196) rfl (tyb_sI (f := 195) rfl K11.1.2))⟩  )
noncomputable def GX2_come (a0 : Nat) (M : FM) : FM := GX2_come_0 a0 M
def HX2_come (a0 : Nat) (M : FM) : Prop := HX2_come_0 a0 M
theorem gX2_come (a0 : Nat) (M : FM) (T : Ty M) (n_a0 : fm_is M 67 67 a0 = true) (h : HX2_come a0 M) : gd (FX2_come a0 M) (GX2_come a0 M) (OkV M) := gX2_come_0 a0 M T n_a0 h
noncomputable def GX10_pass_0 (a0 : Nat) (M : FM) : FM :=
  let x1 : Nat := (M.2.2 19 a0 0)
  let x2 : Nat := (M.2.2 240 x1 0)
  let x3 : Nat := (M.2.2 246 x2 0)
  let M4 : FM := fm_sL M 3 x3 (Int32.ofInt 4).toNatClampNeg ((M.2.1 3 x3 (Int32.ofInt 4).toNatClampNeg) + (Int64.ofInt 1))
  M4
theorem gX10_pass_0 (a0 : Nat) (M : FM) (T : Ty M) (n_a0 : fm_is M 11 11 a0 = true) : gd (FX10_pass_0 a0 M) (GX10_pass_0 a0 M) (OkV M) := by
  delta FX10_pass_0 BX10_pass_0
  refine gd_c n_a0 ?_
  have f0 := (tN_19 T.1 n_a0)
  refine gd_c f0 ?_
  have f1 := (tN_240 T.1 (tN_19 T.1 n_a0))
  refine gd_c f1 ?_
  have f4 := (tN_246 T.1 (tN_240 T.1 (tN_19 T.1 n_a0)))
  have f5 := (fm_inl (i := (Int32.ofInt 4)) (tL_246 T.1 (tN_240 T.1 (tN_19 T.1 n_a0))) (by decide))
  refine gd_c ⟨f4, f5⟩ ?_
  have f2 := (tN_246 T.1 (tN_240 T.1 (tN_19 T.1 n_a0)))
  have f3 := (fm_inl (i := (Int32.ofInt 4)) (tL_246 T.1 (tN_240 T.1 (tN_19 T.1 n_a0))) (by decide))
  refine gd_c ⟨f2, f3⟩ ?_
  exact ⟨rfl, ⟨T.1, T.2⟩, (ext_dL (ext_r _))⟩
noncomputable def GX10_pass (a0 : Nat) (M : FM) : FM := GX10_pass_0 a0 M
theorem gX10_pass (a0 : Nat) (M : FM) (T : Ty M) (n_a0 : fm_is M 11 11 a0 = true) : gd (FX10_pass a0 M) (GX10_pass a0 M) (OkV M) := gX10_pass_0 a0 M T n_a0 
def kX2_round (k2 : Nat → Int32 → FM → Option (FM)) (k56 : Nat → Nat → Int32 → Int32 → FM → Option (FM)) : (Nat × Int32 × FM) ⊕ (Nat × Nat × Int32 × Int32 × FM) ⊕ (FM) → Option (FM)
  | .inl (v0, v1, M') => k2 v0 v1 M'
  | .inr (.inl (v0, v1, v2, v3, M')) => k56 v0 v1 v2 v3 M'
  | .inr (.inr (r)) => some r
def pX2_round (M : FM) : (Nat × Int32 × FM) ⊕ (Nat × Nat × Int32 × Int32 × FM) ⊕ (FM) → Prop
  | .inl (_, _, M') => OkV M M'
  | .inr (.inl (_, _, _, _, M')) => OkV M M'
  | .inr (.inr (r)) => OkV M r
theorem pX2_round_t {M M1 : FM} (e : Ext M M1) : ∀ y, pX2_round M1 y → pX2_round M y
  | .inl (_, _, _), h => ⟨h.1, ext_tr e h.2⟩
  | .inr (.inl (_, _, _, _, _)), h => ⟨h.1, ext_tr e h.2⟩
  | .inr (.inr (r)), h => ⟨h.1, ext_tr e h.2⟩
noncomputable def GX2_round_120 (M : FM) : (Nat × Int32 × FM) ⊕ (Nat × Nat × Int32 × Int32 × FM) ⊕ (FM) :=
  (.inr (.inr M))
theorem gX2_round_120 (k2 : Nat → Int32 → FM → Option (FM)) (k56 : Nat → Nat → Int32 → Int32 → FM → Option (FM)) (M : FM) (T : Ty M) : gs (FX2_round_120 fN k2 k56 M) (GX2_round_120 M) (kX2_round k2 k56) (pX2_round M) := by
  delta FX2_round_120 BX2_round_120
  exact And.intro rfl (And.intro (And.intro T.1 T.2) ((ext_r _)))
noncomputable def GX2_round_116 (a0 : Nat) (M : FM) : (Nat × Int32 × FM) ⊕ (Nat × Nat × Int32 × Int32 × FM) ⊕ (FM) :=
  let M1 : FM := GX2_come a0 M
  GX2_round_120 M1
def HX2_round_116 (a0 : Nat) (M : FM) : Prop := (HX2_come a0 M ∧ True)
theorem gX2_round_116 (k2 : Nat → Int32 → FM → Option (FM)) (k56 : Nat → Nat → Int32 → Int32 → FM → Option (FM)) (a0 : Nat) (M : FM) (T : Ty M) (n_a0 : fm_is M 67 67 a0 = true) (h : HX2_round_116 a0 M) : gs (FX2_round_116 fN k2 k56 a0 M) (GX2_round_116 a0 M) (kX2_round k2 k56) (pX2_round M) := by
  delta FX2_round_116 BX2_round_116
  refine gs_c n_a0 ?_
  refine gs_b (gX2_come _ _ ⟨T.1, T.2⟩ n_a0 h.1) (fun K0 => ?_)
  exact gs_t (pX2_round_t K0.2) (gX2_round_120 k2 k56  _ ⟨K0.1.1, K0.1.2⟩  )
noncomputable def GX2_round_36 (a0 : Nat) (M : FM) : (Nat × Int32 × FM) ⊕ (Nat × Nat × Int32 × Int32 × FM) ⊕ (FM) :=
  let x1 : Nat := (M.2.2 189 a0 0)
  fi ((M.1 22 x1 0) = 0) (
    let x2 : Nat := (M.2.2 190 a0 0)
    let x3 : Int32 := (Int32.ofNat (M.2.2 1 x2 0))
    (.inr (.inl (a0, x2, x3, (Int32.ofInt 0), M)))) (
    GX2_round_120 M)
theorem gX2_round_36 (k2 : Nat → Int32 → FM → Option (FM)) (k56 : Nat → Nat → Int32 → Int32 → FM → Option (FM)) (a0 : Nat) (M : FM) (T : Ty M) (n_a0 : fm_is M 67 67 a0 = true) : gs (FX2_round_36 fN k2 k56 a0 M) (GX2_round_36 a0 M) (kX2_round k2 k56) (pX2_round M) := by
  delta FX2_round_36 BX2_round_36
  refine gs_c n_a0 ?_
  have f0 := (tN_189 T.1 n_a0)
  refine gs_c f0 ?_
  refine gs_fi (fun c1_0 => ?_) (fun c1_0 => ?_)
  · refine gs_c n_a0 ?_
    have f2 := (fm_w (lo' := 901) (hi' := 990) rfl rfl (tN_190 T.1 n_a0))
    refine gs_c f2 ?_
    exact And.intro rfl (And.intro (And.intro T.1 T.2) ((ext_r _)))
  · exact gs_t (pX2_round_t (ext_r _)) (gX2_round_120 k2 k56  _ ⟨T.1, T.2⟩  )
noncomputable def GX2_round_0 (a0 : Nat) (M : FM) : (Nat × Int32 × FM) ⊕ (Nat × Nat × Int32 × Int32 × FM) ⊕ (FM) :=
  (.inl (a0, (Int32.ofInt 0), M))
theorem gX2_round_0 (k2 : Nat → Int32 → FM → Option (FM)) (k56 : Nat → Nat → Int32 → Int32 → FM → Option (FM)) (a0 : Nat) (M : FM) (T : Ty M) : gs (FX2_round_0 fN k2 k56 a0 M) (GX2_round_0 a0 M) (kX2_round k2 k56) (pX2_round M) := by
  delta FX2_round_0 BX2_round_0
  exact And.intro rfl (And.intro (And.intro T.1 T.2) ((ext_r _)))
noncomputable def GX2_round_56 (a0 : Nat) (a1 : Nat) (a2 : Int32) (a3 : Int32) (M : FM) : (Nat × Int32 × FM) ⊕ (Nat × Nat × Int32 × Int32 × FM) ⊕ (FM) :=
  fi (a2 ≤ a3) (
    let x1 : Int32 := ((M.1 197 a0 0) + (Int32.ofInt 1))
    let M2 : FM := fm_sI M 197 a0 0 (x1 - x1 / (Int32.ofInt 10) * (Int32.ofInt 10))
    fi ((M2.1 197 a0 0) = 0) (
      let x3 : Nat := (M2.2.2 189 a0 0)
      let M4 : FM := GX10_pass x3 M2
      GX2_round_116 a0 M4) (
      GX2_round_116 a0 M2)) (
    let x5 : Nat := (M.2.2 3 a1 a3.toNatClampNeg)
    let x6 : Nat := (M.2.2 213 x5 0)
    let x7 : Nat := (M.2.2 34 x6 0)
    let M8 : FM := fm_sL M 41 x7 0 ((M.2.1 41 x7 0) + (Int64.ofInt 1))
    let x9 : Int32 := a3 + (Int32.ofInt 1)
    (.inr (.inl (a0, a1, a2, x9, M8))))
def HX2_round_56 (a0 : Nat) (a1 : Nat) (a2 : Int32) (a3 : Int32) (M : FM) : Prop := ((a2 ≤ a3 → let x1 : Int32 := ((M.1 197 a0 0) + (Int32.ofInt 1)); let M2 : FM := fm_sI M 197 a0 0 (x1 - x1 / (Int32.ofInt 10) * (Int32.ofInt 10)); (((M2.1 197 a0 0) = 0 → let x3 : Nat := (M2.2.2 189 a0 0); let M4 : FM := GX10_pass x3 M2; HX2_round_116 a0 M4) ∧ (¬ ((M2.1 197 a0 0) = 0) → HX2_round_116 a0 M2))) ∧ (¬ (a2 ≤ a3) → (fm_in M a1 a3 = true ∧ True)))
theorem gX2_round_56 (k2 : Nat → Int32 → FM → Option (FM)) (k56 : Nat → Nat → Int32 → Int32 → FM → Option (FM)) (a0 : Nat) (a1 : Nat) (a2 : Int32) (a3 : Int32) (M : FM) (T : Ty M) (n_a0 : fm_is M 67 67 a0 = true) (n_a1 : fm_is M 922 922 a1 = true) (h : HX2_round_56 a0 a1 a2 a3 M) : gs (FX2_round_56 fN k2 k56 a0 a1 a2 a3 M) (GX2_round_56 a0 a1 a2 a3 M) (kX2_round k2 k56) (pX2_round M) := by
  delta FX2_round_56 BX2_round_56
  refine gs_fi (fun c0_0 => ?_) (fun c0_0 => ?_)
  · refine gs_c n_a0 ?_
    refine gs_n (by decide) ?_
    refine gs_c n_a0 ?_
    refine gs_c n_a0 ?_
    refine gs_fi (fun c1_0 => ?_) (fun c1_0 => ?_)
    · refine gs_c n_a0 ?_
      have f2 := (tN_189 T.1 n_a0)
      refine gs_c f2 ?_
      have f5 := (tN_189 T.1 n_a0)
      refine gs_b (gX10_pass _ _ ⟨T.1, (tyb_sI (f := 197) rfl T.2)⟩ f5 ) (fun K3 => ?_)
      have f4 := (ext_is K3.2 (Nat.zero_lt_succ _) n_a0)
      exact gs_t (pX2_round_t (ext_dI K3.2)) (gX2_round_116 k2 k56 _ _ ⟨K3.1.1, K3.1.2⟩ f4 ((h.1 c0_0).1 c1_0))
    · exact gs_t (pX2_round_t (ext_dI (ext_r _))) (gX2_round_116 k2 k56 _ _ ⟨T.1, (tyb_sI (f := 197) rfl T.2)⟩ n_a0 ((h.1 c0_0).2 c1_0))
  · have f10 := (fm_w (lo' := 910) (hi' := 990) rfl rfl n_a1)
    refine gs_c ⟨f10, (h.2 c0_0).1⟩ ?_
    have f6 := (tE_922 T.1 n_a1 (h.2 c0_0).1)
    refine gs_c f6 ?_
    have f7 := (tN_213 T.1 (tE_922 T.1 n_a1 (h.2 c0_0).1))
    refine gs_c f7 ?_
    have f8 := (tN_34 T.1 (tN_213 T.1 (tE_922 T.1 n_a1 (h.2 c0_0).1)))
    refine gs_c f8 ?_
    have f9 := (tN_34 T.1 (tN_213 T.1 (tE_922 T.1 n_a1 (h.2 c0_0).1)))
    refine gs_c f9 ?_
    exact And.intro rfl (And.intro (And.intro T.1 T.2) ((ext_dL (ext_r _))))
noncomputable def GX2_round_2 (a0 : Nat) (a1 : Int32) (M : FM) : (Nat × Int32 × FM) ⊕ (Nat × Nat × Int32 × Int32 × FM) ⊕ (FM) :=
  let x1 : Nat := (M.2.2 190 a0 0)
  fi ((Int32.ofNat (M.2.2 1 x1 0)) ≤ a1) (
    GX2_round_36 a0 M) (
    let x2 : Nat := (M.2.2 189 a0 0)
    fi ((M.1 22 x2 0) = 0) (
      let x3 : Nat := (M.2.2 190 a0 0)
      let x4 : Nat := (M.2.2 3 x3 a1.toNatClampNeg)
      let M5 : FM := GX46_step x4 M
      let x6 : Int32 := a1 + (Int32.ofInt 1)
      (.inl (a0, x6, M5))) (
      GX2_round_36 a0 M))
def HX2_round_2 (a0 : Nat) (a1 : Int32) (M : FM) : Prop := let x1 : Nat := (M.2.2 190 a0 0); (((Int32.ofNat (M.2.2 1 x1 0)) ≤ a1 → True) ∧ (¬ ((Int32.ofNat (M.2.2 1 x1 0)) ≤ a1) → let x2 : Nat := (M.2.2 189 a0 0); (((M.1 22 x2 0) = 0 → let x3 : Nat := (M.2.2 190 a0 0); (fm_in M x3 a1 = true ∧ let x4 : Nat := (M.2.2 3 x3 a1.toNatClampNeg); (HX46_step x4 M ∧ True))) ∧ (¬ ((M.1 22 x2 0) = 0) → True))))
theorem gX2_round_2 (k2 : Nat → Int32 → FM → Option (FM)) (k56 : Nat → Nat → Int32 → Int32 → FM → Option (FM)) (a0 : Nat) (a1 : Int32) (M : FM) (T : Ty M) (n_a0 : fm_is M 67 67 a0 = true) (h : HX2_round_2 a0 a1 M) : gs (FX2_round_2 fN k2 k56 a0 a1 M) (GX2_round_2 a0 a1 M) (kX2_round k2 k56) (pX2_round M) := by
  delta FX2_round_2 BX2_round_2
  refine gs_c n_a0 ?_
  have f0 := (fm_w (lo' := 901) (hi' := 990) rfl rfl (tN_190 T.1 n_a0))
  refine gs_c f0 ?_
  refine gs_fi (fun c1_0 => ?_) (fun c1_0 => ?_)
  · exact gs_t (pX2_round_t (ext_r _)) (gX2_round_36 k2 k56 _ _ ⟨T.1, T.2⟩ n_a0 )
  · refine gs_c n_a0 ?_
    have f2 := (tN_189 T.1 n_a0)
    refine gs_c f2 ?_
    refine gs_fi (fun c3_0 => ?_) (fun c3_0 => ?_)
    · refine gs_c n_a0 ?_
      have f7 := (fm_w (lo' := 910) (hi' := 990) rfl rfl (tN_190 T.1 n_a0))
      have f8 := ((h.2 c1_0).1 c3_0).1
      refine gs_c ⟨f7, f8⟩ ?_
      have f4 := (tE_922 T.1 (tN_190 T.1 n_a0) ((h.2 c1_0).1 c3_0).1)
      refine gs_c f4 ?_
      have f6 := (tE_922 T.1 (tN_190 T.1 n_a0) ((h.2 c1_0).1 c3_0).1)
      refine gs_b (gX46_step _ _ ⟨T.1, T.2⟩ f6 ((h.2 c1_0).1 c3_0).2.1) (fun K5 => ?_)
      exact And.intro rfl (And.intro (And.intro K5.1.1 K5.1.2) K5.2)
    · exact gs_t (pX2_round_t (ext_r _)) (gX2_round_36 k2 k56 _ _ ⟨T.1, T.2⟩ n_a0 )
noncomputable def GX2_round (a0 : Nat) (M : FM) : FM := (FX2_round fN a0 M).getD M
def HX2_round (a0 : Nat) (M : FM) : Prop := ∃ r, FX2_round fN a0 M = some r ∧ OkV M r
theorem gX2_round (a0 : Nat) (M : FM) (h : HX2_round a0 M) : gd (FX2_round fN a0 M) (GX2_round a0 M) (OkV M) := gd_op h
def kX2_run (k2 : Nat → Int32 → Int32 → FM → Option (Int32 × FM)) : (Nat × Int32 × Int32 × FM) ⊕ (Int32 × FM) → Option (Int32 × FM)
  | .inl (v0, v1, v2, M') => k2 v0 v1 v2 M'
  | .inr (r) => some r
def pX2_run (M : FM) : (Nat × Int32 × Int32 × FM) ⊕ (Int32 × FM) → Prop
  | .inl (_, _, _, M') => OkV M M'
  | .inr (r) => OkR M r
theorem pX2_run_t {M M1 : FM} (e : Ext M M1) : ∀ y, pX2_run M1 y → pX2_run M y
  | .inl (_, _, _, _), h => ⟨h.1, ext_tr e h.2⟩
  | .inr (r), h => ⟨h.1, ext_tr e h.2⟩
noncomputable def GX2_run_27 (a2 : Int32) (M : FM) : (Nat × Int32 × Int32 × FM) ⊕ (Int32 × FM) :=
  (.inr (a2, M))
theorem gX2_run_27 (k2 : Nat → Int32 → Int32 → FM → Option (Int32 × FM)) (a2 : Int32) (M : FM) (T : Ty M) : gs (FX2_run_27 fN k2 a2 M) (GX2_run_27 a2 M) (kX2_run k2) (pX2_run M) := by
  delta FX2_run_27 BX2_run_27
  exact And.intro rfl (And.intro (And.intro T.1 T.2) ((ext_r _)))
noncomputable def GX2_run_0 (a0 : Nat) (a1 : Int32) (M : FM) : (Nat × Int32 × Int32 × FM) ⊕ (Int32 × FM) :=
  (.inl (a0, a1, (Int32.ofInt 0), M))
theorem gX2_run_0 (k2 : Nat → Int32 → Int32 → FM → Option (Int32 × FM)) (a0 : Nat) (a1 : Int32) (M : FM) (T : Ty M) : gs (FX2_run_0 fN k2 a0 a1 M) (GX2_run_0 a0 a1 M) (kX2_run k2) (pX2_run M) := by
  delta FX2_run_0 BX2_run_0
  exact And.intro rfl (And.intro (And.intro T.1 T.2) ((ext_r _)))
noncomputable def GX2_run_2 (a0 : Nat) (a1 : Int32) (a2 : Int32) (M : FM) : (Nat × Int32 × Int32 × FM) ⊕ (Int32 × FM) :=
  fi (a1 ≤ a2) (
    GX2_run_27 a2 M) (
    let x1 : Nat := (M.2.2 189 a0 0)
    fi ((M.1 22 x1 0) = 0) (
      let M2 : FM := GX2_round a0 M
      let x3 : Int32 := a2 + (Int32.ofInt 1)
      (.inl (a0, a1, x3, M2))) (
      GX2_run_27 a2 M))
def HX2_run_2 (a0 : Nat) (a1 : Int32) (a2 : Int32) (M : FM) : Prop := ((a1 ≤ a2 → True) ∧ (¬ (a1 ≤ a2) → let x1 : Nat := (M.2.2 189 a0 0); (((M.1 22 x1 0) = 0 → (HX2_round a0 M ∧ True)) ∧ (¬ ((M.1 22 x1 0) = 0) → True))))
theorem gX2_run_2 (k2 : Nat → Int32 → Int32 → FM → Option (Int32 × FM)) (a0 : Nat) (a1 : Int32) (a2 : Int32) (M : FM) (T : Ty M) (n_a0 : fm_is M 67 67 a0 = true) (h : HX2_run_2 a0 a1 a2 M) : gs (FX2_run_2 fN k2 a0 a1 a2 M) (GX2_run_2 a0 a1 a2 M) (kX2_run k2) (pX2_run M) := by
  delta FX2_run_2 BX2_run_2
  refine gs_fi (fun c0_0 => ?_) (fun c0_0 => ?_)
  · exact gs_t (pX2_run_t (ext_r _)) (gX2_run_27 k2 _ _ ⟨T.1, T.2⟩  )
  · refine gs_c n_a0 ?_
    have f1 := (tN_189 T.1 n_a0)
    refine gs_c f1 ?_
    refine gs_fi (fun c2_0 => ?_) (fun c2_0 => ?_)
    · refine gs_c n_a0 ?_
      refine gs_b (gX2_round _ _ ((h.2 c0_0).1 c2_0).1) (fun K3 => ?_)
      exact And.intro rfl (And.intro (And.intro K3.1.1 K3.1.2) K3.2)
    · exact gs_t (pX2_run_t (ext_r _)) (gX2_run_27 k2 _ _ ⟨T.1, T.2⟩  )
noncomputable def GX2_run (a0 : Nat) (a1 : Int32) (M : FM) : Int32 × FM := (FX2_run fN a0 a1 M).getD (0, M)
def HX2_run (a0 : Nat) (a1 : Int32) (M : FM) : Prop := ∃ r, FX2_run fN a0 a1 M = some r ∧ OkR M r
theorem gX2_run (a0 : Nat) (a1 : Int32) (M : FM) (h : HX2_run a0 a1 M) : gd (FX2_run fN a0 a1 M) (GX2_run a0 a1 M) (OkR M) := gd_op h
noncomputable def GX1_run_16 (a0 : Nat) (a1 : Int32) (s0 : Int32) (M : FM) : Int32 × FM :=
  let M1 : FM := GX1_proper s0 M
  let x2 : Nat := (M1.2.2 17 a0 0)
  let r3 : Int32 × FM := GX2_run x2 a1 M1
  (r3.1, r3.2)
def HX1_run_16 (a0 : Nat) (a1 : Int32) (s0 : Int32) (M : FM) : Prop := (HX1_proper s0 M ∧ let M1 : FM := GX1_proper s0 M; let x2 : Nat := (M1.2.2 17 a0 0); (HX2_run x2 a1 M1 ∧ True))
theorem gX1_run_16 (a0 : Nat) (a1 : Int32) (s0 : Int32) (M : FM) (T : Ty M) (n_a0 : fm_is M 10 10 a0 = true) (h : HX1_run_16 a0 a1 s0 M) : gd (FX1_run_16 fN a0 a1 s0 M) (GX1_run_16 a0 a1 s0 M) (OkR M) := by
  delta FX1_run_16 BX1_run_16
  refine gd_b (gX1_proper _ _ ⟨T.1, T.2⟩  h.1) (fun K0 => ?_)
  have f1 := (ext_is K0.2 (Nat.zero_lt_succ _) n_a0)
  refine gd_c f1 ?_
  have f2 := (tN_17 K0.1.1 (ext_is K0.2 (Nat.zero_lt_succ _) n_a0))
  refine gd_c f2 ?_
  refine gd_b (gX2_run _ _ _ h.2.1) (fun K3 => ?_)
  exact ⟨rfl, ⟨K3.1.1, K3.1.2⟩, (ext_tr K0.2 K3.2)⟩
noncomputable def GX1_run_15 (a0 : Nat) (a1 : Int32) (M : FM) : Int32 × FM :=
  GX1_run_16 a0 a1 (Int32.ofInt 0) M
def HX1_run_15 (a0 : Nat) (a1 : Int32) (M : FM) : Prop := HX1_run_16 a0 a1 (Int32.ofInt 0) M
theorem gX1_run_15 (a0 : Nat) (a1 : Int32) (M : FM) (T : Ty M) (n_a0 : fm_is M 10 10 a0 = true) (h : HX1_run_15 a0 a1 M) : gd (FX1_run_15 fN a0 a1 M) (GX1_run_15 a0 a1 M) (OkR M) := by
  delta FX1_run_15 BX1_run_15
  exact gd_tR (ext_r _) (gX1_run_16 _ _ _ _ ⟨T.1, T.2⟩ n_a0 h)
noncomputable def GX1_run_0 (a0 : Nat) (a1 : Int32) (M : FM) : Int32 × FM :=
  fi (a1 < 0) (
    GX1_run_15 a0 a1 M) (
    fi ((Int32.ofInt 10000) < a1) (
      GX1_run_15 a0 a1 M) (
      GX1_run_16 a0 a1 (Int32.ofInt 1) M))
def HX1_run_0 (a0 : Nat) (a1 : Int32) (M : FM) : Prop := ((a1 < 0 → HX1_run_15 a0 a1 M) ∧ (¬ (a1 < 0) → (((Int32.ofInt 10000) < a1 → HX1_run_15 a0 a1 M) ∧ (¬ ((Int32.ofInt 10000) < a1) → HX1_run_16 a0 a1 (Int32.ofInt 1) M))))
theorem gX1_run_0 (a0 : Nat) (a1 : Int32) (M : FM) (T : Ty M) (n_a0 : fm_is M 10 10 a0 = true) (h : HX1_run_0 a0 a1 M) : gd (FX1_run_0 fN a0 a1 M) (GX1_run_0 a0 a1 M) (OkR M) := by
  delta FX1_run_0 BX1_run_0
  refine gd_fi (fun c0_0 => ?_) (fun c0_0 => ?_)
  · exact gd_tR (ext_r _) (gX1_run_15 _ _ _ ⟨T.1, T.2⟩ n_a0 (h.1 c0_0))
  · refine gd_fi (fun c1_0 => ?_) (fun c1_0 => ?_)
    · exact gd_tR (ext_r _) (gX1_run_15 _ _ _ ⟨T.1, T.2⟩ n_a0 ((h.2 c0_0).1 c1_0))
    · exact gd_tR (ext_r _) (gX1_run_16 _ _ _ _ ⟨T.1, T.2⟩ n_a0 ((h.2 c0_0).2 c1_0))
noncomputable def GX1_run (a0 : Nat) (a1 : Int32) (M : FM) : Int32 × FM := GX1_run_0 a0 a1 M
def HX1_run (a0 : Nat) (a1 : Int32) (M : FM) : Prop := HX1_run_0 a0 a1 M
theorem gX1_run (a0 : Nat) (a1 : Int32) (M : FM) (T : Ty M) (n_a0 : fm_is M 10 10 a0 = true) (h : HX1_run a0 a1 M) : gd (FX1_run fN a0 a1 M) (GX1_run a0 a1 M) (OkR M) := gX1_run_0 a0 a1 M T n_a0 h
noncomputable def GX0_run (a0 : Nat) (a1 : Int32) (a2 : Nat) (M : FM) : Int32 × FM := (Fh_law_run fN a0 a1 a2 M).getD (0, M)
def HX0_run (a0 : Nat) (a1 : Int32) (a2 : Nat) (M : FM) : Prop := ∃ r, Fh_law_run fN a0 a1 a2 M = some r ∧ OkR M r
theorem gX0_run (a0 : Nat) (a1 : Int32) (a2 : Nat) (M : FM) (h : HX0_run a0 a1 a2 M) : gd (Fh_law_run fN a0 a1 a2 M) (GX0_run a0 a1 a2 M) (OkR M) := gd_op h
noncomputable def GX1_there_0 (a0 : Int32) (M : FM) : FM :=
  fi (a0 = 0) (
    M) (
    M)
def HX1_there_0 (a0 : Int32) (M : FM) : Prop := ((a0 = 0 → False) ∧ (¬ (a0 = 0) → True))
theorem gX1_there_0 (a0 : Int32) (M : FM) (T : Ty M) (h : HX1_there_0 a0 M) : gd (FX1_there_0 a0 M) (GX1_there_0 a0 M) (OkV M) := by
  delta FX1_there_0 BX1_there_0
  refine gd_fi (fun c0_0 => ?_) (fun c0_0 => ?_)
  · exact h_false (h.1 c0_0)
  · exact ⟨rfl, ⟨T.1, T.2⟩, (ext_r _)⟩
noncomputable def GX1_there (a0 : Int32) (M : FM) : FM := GX1_there_0 a0 M
def HX1_there (a0 : Int32) (M : FM) : Prop := HX1_there_0 a0 M
theorem gX1_there (a0 : Int32) (M : FM) (T : Ty M) (h : HX1_there a0 M) : gd (FX1_there a0 M) (GX1_there a0 M) (OkV M) := gX1_there_0 a0 M T h
noncomputable def GX1_at_21 (a0 : Nat) (a1 : Int32) (s0 : Int32) (M : FM) : Nat × FM :=
  let M1 : FM := GX1_there s0 M
  let x2 : Nat := (M1.2.2 17 a0 0)
  let x3 : Nat := (M1.2.2 190 x2 0)
  ((M1.2.2 3 x3 a1.toNatClampNeg), M1)
def HX1_at_21 (a0 : Nat) (a1 : Int32) (s0 : Int32) (M : FM) : Prop := (HX1_there s0 M ∧ let M1 : FM := GX1_there s0 M; let x2 : Nat := (M1.2.2 17 a0 0); let x3 : Nat := (M1.2.2 190 x2 0); (fm_in M1 x3 a1 = true ∧ True))
theorem gX1_at_21 (a0 : Nat) (a1 : Int32) (s0 : Int32) (M : FM) (T : Ty M) (n_a0 : fm_is M 10 10 a0 = true) (h : HX1_at_21 a0 a1 s0 M) : gd (FX1_at_21 a0 a1 s0 M) (GX1_at_21 a0 a1 s0 M) (OkN 75 75 M) := by
  delta FX1_at_21 BX1_at_21
  refine gd_b (gX1_there _ _ ⟨T.1, T.2⟩  h.1) (fun K0 => ?_)
  have f1 := (ext_is K0.2 (Nat.zero_lt_succ _) n_a0)
  refine gd_c f1 ?_
  have f2 := (tN_17 K0.1.1 (ext_is K0.2 (Nat.zero_lt_succ _) n_a0))
  refine gd_c f2 ?_
  have f4 := (fm_w (lo' := 910) (hi' := 990) rfl rfl (tN_190 K0.1.1 (tN_17 K0.1.1 (ext_is K0.2 (Nat.zero_lt_succ _) n_a0))))
  refine gd_c ⟨f4, h.2.1⟩ ?_
  have f3 := (tE_922 K0.1.1 (tN_190 K0.1.1 (tN_17 K0.1.1 (ext_is K0.2 (Nat.zero_lt_succ _) n_a0))) h.2.1)
  exact ⟨rfl, ⟨K0.1.1, K0.1.2⟩, K0.2, f3⟩
noncomputable def GX1_at_20 (a0 : Nat) (a1 : Int32) (M : FM) : Nat × FM :=
  GX1_at_21 a0 a1 (Int32.ofInt 0) M
def HX1_at_20 (a0 : Nat) (a1 : Int32) (M : FM) : Prop := HX1_at_21 a0 a1 (Int32.ofInt 0) M
theorem gX1_at_20 (a0 : Nat) (a1 : Int32) (M : FM) (T : Ty M) (n_a0 : fm_is M 10 10 a0 = true) (h : HX1_at_20 a0 a1 M) : gd (FX1_at_20 a0 a1 M) (GX1_at_20 a0 a1 M) (OkN 75 75 M) := by
  delta FX1_at_20 BX1_at_20
  exact gd_tN (ext_r _) (gX1_at_21 _ _ _ _ ⟨T.1, T.2⟩ n_a0 h)
noncomputable def GX1_at_0 (a0 : Nat) (a1 : Int32) (M : FM) : Nat × FM :=
  fi (a1 < 0) (
    GX1_at_20 a0 a1 M) (
    let x1 : Nat := (M.2.2 17 a0 0)
    let x2 : Nat := (M.2.2 190 x1 0)
    fi ((Int32.ofNat (M.2.2 1 x2 0)) ≤ a1) (
      GX1_at_20 a0 a1 M) (
      GX1_at_21 a0 a1 (Int32.ofInt 1) M))
def HX1_at_0 (a0 : Nat) (a1 : Int32) (M : FM) : Prop := ((a1 < 0 → HX1_at_20 a0 a1 M) ∧ (¬ (a1 < 0) → let x1 : Nat := (M.2.2 17 a0 0); let x2 : Nat := (M.2.2 190 x1 0); (((Int32.ofNat (M.2.2 1 x2 0)) ≤ a1 → HX1_at_20 a0 a1 M) ∧ (¬ ((Int32.ofNat (M.2.2 1 x2 0)) ≤ a1) → HX1_at_21 a0 a1 (Int32.ofInt 1) M))))
theorem gX1_at_0 (a0 : Nat) (a1 : Int32) (M : FM) (T : Ty M) (n_a0 : fm_is M 10 10 a0 = true) (h : HX1_at_0 a0 a1 M) : gd (FX1_at_0 a0 a1 M) (GX1_at_0 a0 a1 M) (OkN 75 75 M) := by
  delta FX1_at_0 BX1_at_0
  refine gd_fi (fun c0_0 => ?_) (fun c0_0 => ?_)
  · exact gd_tN (ext_r _) (gX1_at_20 _ _ _ ⟨T.1, T.2⟩ n_a0 (h.1 c0_0))
  · refine gd_c n_a0 ?_
    have f1 := (tN_17 T.1 n_a0)
    refine gd_c f1 ?_
    have f2 := (fm_w (lo' := 901) (hi' := 990) rfl rfl (tN_190 T.1 (tN_17 T.1 n_a0)))
    refine gd_c f2 ?_
    refine gd_fi (fun c3_0 => ?_) (fun c3_0 => ?_)
    · exact gd_tN (ext_r _) (gX1_at_20 _ _ _ ⟨T.1, T.2⟩ n_a0 ((h.2 c0_0).1 c3_0))
    · exact gd_tN (ext_r _) (gX1_at_21 _ _ _ _ ⟨T.1, T.2⟩ n_a0 ((h.2 c0_0).2 c3_0))
noncomputable def GX1_at (a0 : Nat) (a1 : Int32) (M : FM) : Nat × FM := GX1_at_0 a0 a1 M
def HX1_at (a0 : Nat) (a1 : Int32) (M : FM) : Prop := HX1_at_0 a0 a1 M
theorem gX1_at (a0 : Nat) (a1 : Int32) (M : FM) (T : Ty M) (n_a0 : fm_is M 10 10 a0 = true) (h : HX1_at a0 a1 M) : gd (FX1_at a0 a1 M) (GX1_at a0 a1 M) (OkN 75 75 M) := gX1_at_0 a0 a1 M T n_a0 h
noncomputable def GX1_counter_0 (a0 : Nat) (a1 : Int32) (M : FM) : Int64 × FM :=
  let r1 : Nat × FM := GX1_at a0 a1 M
  let r2 : Int64 × FM := GX46_counter r1.1 r1.2
  (r2.1, r2.2)
def HX1_counter_0 (a0 : Nat) (a1 : Int32) (M : FM) : Prop := (HX1_at a0 a1 M ∧ True)
theorem gX1_counter_0 (a0 : Nat) (a1 : Int32) (M : FM) (T : Ty M) (n_a0 : fm_is M 10 10 a0 = true) (h : HX1_counter_0 a0 a1 M) : gd (FX1_counter_0 a0 a1 M) (GX1_counter_0 a0 a1 M) (OkR M) := by
  delta FX1_counter_0 BX1_counter_0
  refine gd_c n_a0 ?_
  refine gd_b (gX1_at _ _ _ ⟨T.1, T.2⟩ n_a0 h.1) (fun K0 => ?_)
  refine gd_c K0.2.2 ?_
  refine gd_b (gX46_counter _ _ ⟨K0.1.1, K0.1.2⟩ K0.2.2 ) (fun K1 => ?_)
  exact ⟨rfl, ⟨K1.1.1, K1.1.2⟩, (ext_tr K0.2.1 K1.2)⟩
noncomputable def GX1_counter (a0 : Nat) (a1 : Int32) (M : FM) : Int64 × FM := GX1_counter_0 a0 a1 M
def HX1_counter (a0 : Nat) (a1 : Int32) (M : FM) : Prop := HX1_counter_0 a0 a1 M
theorem gX1_counter (a0 : Nat) (a1 : Int32) (M : FM) (T : Ty M) (n_a0 : fm_is M 10 10 a0 = true) (h : HX1_counter a0 a1 M) : gd (FX1_counter a0 a1 M) (GX1_counter a0 a1 M) (OkR M) := gX1_counter_0 a0 a1 M T n_a0 h
noncomputable def GX0_counter (a0 : Nat) (a1 : Int32) (a2 : Nat) (M : FM) : Int32 × FM := (Fh_law_counter fN a0 a1 a2 M).getD (0, M)
def HX0_counter (a0 : Nat) (a1 : Int32) (a2 : Nat) (M : FM) : Prop := ∃ r, Fh_law_counter fN a0 a1 a2 M = some r ∧ OkR M r
theorem gX0_counter (a0 : Nat) (a1 : Int32) (a2 : Nat) (M : FM) (h : HX0_counter a0 a1 a2 M) : gd (Fh_law_counter fN a0 a1 a2 M) (GX0_counter a0 a1 a2 M) (OkR M) := gd_op h
noncomputable def GX1_mode_25 (s0 : Int32) (s1 : Int32) (M : FM) : Int32 × FM :=
  ((s0 + s1), M)
theorem gX1_mode_25 (s0 : Int32) (s1 : Int32) (M : FM) (T : Ty M) : gd (FX1_mode_25 s0 s1 M) (GX1_mode_25 s0 s1 M) (OkR M) := by
  delta FX1_mode_25 BX1_mode_25
  exact ⟨rfl, ⟨T.1, T.2⟩, (ext_r _)⟩
noncomputable def GX1_mode_0 (a0 : Nat) (a1 : Int32) (M : FM) : Int32 × FM :=
  let r1 : Nat × FM := GX1_at a0 a1 M
  let x2 : Nat := (r1.2.2.2 213 r1.1 0)
  fi ((r1.2.1 218 r1.1 0) = 0) (
    GX1_mode_25 (r1.2.1 37 x2 0) (Int32.ofInt 0) r1.2) (
    GX1_mode_25 (r1.2.1 37 x2 0) (Int32.ofInt 4) r1.2)
def HX1_mode_0 (a0 : Nat) (a1 : Int32) (M : FM) : Prop := (HX1_at a0 a1 M ∧ True)
theorem gX1_mode_0 (a0 : Nat) (a1 : Int32) (M : FM) (T : Ty M) (n_a0 : fm_is M 10 10 a0 = true) (h : HX1_mode_0 a0 a1 M) : gd (FX1_mode_0 a0 a1 M) (GX1_mode_0 a0 a1 M) (OkR M) := by
  delta FX1_mode_0 BX1_mode_0
  refine gd_c n_a0 ?_
  refine gd_b (gX1_at _ _ _ ⟨T.1, T.2⟩ n_a0 h.1) (fun K0 => ?_)
  refine gd_c K0.2.2 ?_
  have f1 := (tN_213 K0.1.1 K0.2.2)
  refine gd_c f1 ?_
  refine gd_c K0.2.2 ?_
  refine gd_fi (fun c2_0 => ?_) (fun c2_0 => ?_)
  · exact gd_tR K0.2.1 (gX1_mode_25 _ _ _ ⟨K0.1.1, K0.1.2⟩  )
  · exact gd_tR K0.2.1 (gX1_mode_25 _ _ _ ⟨K0.1.1, K0.1.2⟩  )
noncomputable def GX1_mode (a0 : Nat) (a1 : Int32) (M : FM) : Int32 × FM := GX1_mode_0 a0 a1 M
def HX1_mode (a0 : Nat) (a1 : Int32) (M : FM) : Prop := HX1_mode_0 a0 a1 M
theorem gX1_mode (a0 : Nat) (a1 : Int32) (M : FM) (T : Ty M) (n_a0 : fm_is M 10 10 a0 = true) (h : HX1_mode a0 a1 M) : gd (FX1_mode a0 a1 M) (GX1_mode a0 a1 M) (OkR M) := gX1_mode_0 a0 a1 M T n_a0 h
noncomputable def GX0_mode (a0 : Nat) (a1 : Int32) (a2 : Nat) (M : FM) : Int32 × FM := (Fh_law_mode fN a0 a1 a2 M).getD (0, M)
def HX0_mode (a0 : Nat) (a1 : Int32) (a2 : Nat) (M : FM) : Prop := ∃ r, Fh_law_mode fN a0 a1 a2 M = some r ∧ OkR M r
theorem gX0_mode (a0 : Nat) (a1 : Int32) (a2 : Nat) (M : FM) (h : HX0_mode a0 a1 a2 M) : gd (Fh_law_mode fN a0 a1 a2 M) (GX0_mode a0 a1 a2 M) (OkR M) := gd_op h
noncomputable def GX23_isPlace_21 (s0 : Int32) (M : FM) : Int32 × FM :=
  (s0, M)
theorem gX23_isPlace_21 (s0 : Int32) (M : FM) (T : Ty M) (z_s0 : s0 = 0 ∨ s0 = 1) : gd (FX23_isPlace_21 s0 M) (GX23_isPlace_21 s0 M) (OkZ M) := by
  delta FX23_isPlace_21 BX23_isPlace_21
  exact gd_z z_s0 ⟨T.1, T.2⟩ (ext_r _) rfl
noncomputable def GX23_isPlace_20 (M : FM) : Int32 × FM :=
  GX23_isPlace_21 (Int32.ofInt 0) M
theorem gX23_isPlace_20 (M : FM) (T : Ty M) : gd (FX23_isPlace_20 M) (GX23_isPlace_20 M) (OkZ M) := by
  delta FX23_isPlace_20 BX23_isPlace_20
  exact gd_tZ (ext_r _) (gX23_isPlace_21 _ _ ⟨T.1, T.2⟩ fz_0 )
noncomputable def GX23_isPlace_0 (a0 : Nat) (a1 : Int32) (M : FM) : Int32 × FM :=
  fi (a1 < 0) (
    GX23_isPlace_20 M) (
    fi (((Int32.ofInt 512) * (M.1 68 a0 0)) ≤ a1) (
      GX23_isPlace_20 M) (
      GX23_isPlace_21 (Int32.ofInt 1) M))
theorem gX23_isPlace_0 (a0 : Nat) (a1 : Int32) (M : FM) (T : Ty M) (n_a0 : fm_is M 23 23 a0 = true) : gd (FX23_isPlace_0 a0 a1 M) (GX23_isPlace_0 a0 a1 M) (OkZ M) := by
  delta FX23_isPlace_0 BX23_isPlace_0
  refine gd_fi (fun c0_0 => ?_) (fun c0_0 => ?_)
  · exact gd_tZ (ext_r _) (gX23_isPlace_20  _ ⟨T.1, T.2⟩  )
  · refine gd_c n_a0 ?_
    refine gd_fi (fun c1_0 => ?_) (fun c1_0 => ?_)
    · exact gd_tZ (ext_r _) (gX23_isPlace_20  _ ⟨T.1, T.2⟩  )
    · exact gd_tZ (ext_r _) (gX23_isPlace_21 _ _ ⟨T.1, T.2⟩ fz_1 )
noncomputable def GX23_isPlace (a0 : Nat) (a1 : Int32) (M : FM) : Int32 × FM := GX23_isPlace_0 a0 a1 M
theorem gX23_isPlace (a0 : Nat) (a1 : Int32) (M : FM) (T : Ty M) (n_a0 : fm_is M 23 23 a0 = true) : gd (FX23_isPlace a0 a1 M) (GX23_isPlace a0 a1 M) (OkZ M) := gX23_isPlace_0 a0 a1 M T n_a0 
noncomputable def GX1_disk_0 (a0 : Nat) (a1 : Int32) (M : FM) : Int32 × FM :=
  let x1 : Nat := (M.2.2 17 a0 0)
  let x2 : Nat := (M.2.2 189 x1 0)
  let x3 : Nat := (M.2.2 20 x2 0)
  let x4 : Nat := (M.2.2 59 x3 0)
  let r5 : Int32 × FM := GX23_isPlace x4 a1 M
  let M6 : FM := GX1_there r5.1 r5.2
  let x7 : Nat := (M6.2.2 17 a0 0)
  let x8 : Nat := (M6.2.2 189 x7 0)
  let x9 : Nat := (M6.2.2 20 x8 0)
  let x10 : Nat := (M6.2.2 59 x9 0)
  let r11 : Int32 × FM := GX23_get x10 a1 M6
  (r11.1, r11.2)
def HX1_disk_0 (a0 : Nat) (a1 : Int32) (M : FM) : Prop := let x1 : Nat := (M.2.2 17 a0 0); let x2 : Nat := (M.2.2 189 x1 0); let x3 : Nat := (M.2.2 20 x2 0); let x4 : Nat := (M.2.2 59 x3 0); let r5 : Int32 × FM := GX23_isPlace x4 a1 M; (HX1_there r5.1 r5.2 ∧ let M6 : FM := GX1_there r5.1 r5.2; let x7 : Nat := (M6.2.2 17 a0 0); let x8 : Nat := (M6.2.2 189 x7 0); let x9 : Nat := (M6.2.2 20 x8 0); let x10 : Nat := (M6.2.2 59 x9 0); (HX23_get x10 a1 M6 ∧ True))
theorem gX1_disk_0 (a0 : Nat) (a1 : Int32) (M : FM) (T : Ty M) (n_a0 : fm_is M 10 10 a0 = true) (h : HX1_disk_0 a0 a1 M) : gd (FX1_disk_0 a0 a1 M) (GX1_disk_0 a0 a1 M) (OkR M) := by
  delta FX1_disk_0 BX1_disk_0
  refine gd_c n_a0 ?_
  have f0 := (tN_17 T.1 n_a0)
  refine gd_c f0 ?_
  have f1 := (tN_189 T.1 (tN_17 T.1 n_a0))
  refine gd_c f1 ?_
  have f2 := (tN_20 T.1 (tN_189 T.1 (tN_17 T.1 n_a0)))
  refine gd_c f2 ?_
  have f3 := (tN_59 T.1 (tN_20 T.1 (tN_189 T.1 (tN_17 T.1 n_a0))))
  refine gd_c f3 ?_
  have f13 := (tN_59 T.1 (tN_20 T.1 (tN_189 T.1 (tN_17 T.1 n_a0))))
  refine gd_b (gX23_isPlace _ _ _ ⟨T.1, T.2⟩ f13 ) (fun K4 => ?_)
  refine gd_b (gX1_there _ _ ⟨K4.1.1, K4.1.2⟩  h.1) (fun K5 => ?_)
  have f6 := (ext_is K5.2 (Nat.zero_lt_succ _) (ext_is K4.2.1 (Nat.zero_lt_succ _) n_a0))
  refine gd_c f6 ?_
  have f7 := (tN_17 K5.1.1 (ext_is K5.2 (Nat.zero_lt_succ _) (ext_is K4.2.1 (Nat.zero_lt_succ _) n_a0)))
  refine gd_c f7 ?_
  have f8 := (tN_189 K5.1.1 (tN_17 K5.1.1 (ext_is K5.2 (Nat.zero_lt_succ _) (ext_is K4.2.1 (Nat.zero_lt_succ _) n_a0))))
  refine gd_c f8 ?_
  have f9 := (tN_20 K5.1.1 (tN_189 K5.1.1 (tN_17 K5.1.1 (ext_is K5.2 (Nat.zero_lt_succ _) (ext_is K4.2.1 (Nat.zero_lt_succ _) n_a0)))))
  refine gd_c f9 ?_
  have f10 := (tN_59 K5.1.1 (tN_20 K5.1.1 (tN_189 K5.1.1 (tN_17 K5.1.1 (ext_is K5.2 (Nat.zero_lt_succ _) (ext_is K4.2.1 (Nat.zero_lt_succ _) n_a0))))))
  refine gd_c f10 ?_
  have f12 := (tN_59 K5.1.1 (tN_20 K5.1.1 (tN_189 K5.1.1 (tN_17 K5.1.1 (ext_is K5.2 (Nat.zero_lt_succ _) (ext_is K4.2.1 (Nat.zero_lt_succ _) n_a0))))))
  refine gd_b (gX23_get _ _ _ ⟨K5.1.1, K5.1.2⟩ f12 h.2.1) (fun K11 => ?_)
  exact ⟨rfl, ⟨K11.1.1, K11.1.2⟩, (ext_tr K4.2.1 (ext_tr K5.2 K11.2))⟩
noncomputable def GX1_disk (a0 : Nat) (a1 : Int32) (M : FM) : Int32 × FM := GX1_disk_0 a0 a1 M
def HX1_disk (a0 : Nat) (a1 : Int32) (M : FM) : Prop := HX1_disk_0 a0 a1 M
theorem gX1_disk (a0 : Nat) (a1 : Int32) (M : FM) (T : Ty M) (n_a0 : fm_is M 10 10 a0 = true) (h : HX1_disk a0 a1 M) : gd (FX1_disk a0 a1 M) (GX1_disk a0 a1 M) (OkR M) := gX1_disk_0 a0 a1 M T n_a0 h
noncomputable def GX0_disk (a0 : Nat) (a1 : Int32) (a2 : Nat) (M : FM) : Int32 × FM := (Fh_law_disk fN a0 a1 a2 M).getD (0, M)
def HX0_disk (a0 : Nat) (a1 : Int32) (a2 : Nat) (M : FM) : Prop := ∃ r, Fh_law_disk fN a0 a1 a2 M = some r ∧ OkR M r
theorem gX0_disk (a0 : Nat) (a1 : Int32) (a2 : Nat) (M : FM) (h : HX0_disk a0 a1 a2 M) : gd (Fh_law_disk fN a0 a1 a2 M) (GX0_disk a0 a1 a2 M) (OkR M) := gd_op h
noncomputable def GX1_register_21 (a2 : Int32) (a3 : Nat) (s0 : Int32) (M : FM) : Int64 × FM :=
  let M1 : FM := GX1_there s0 M
  let x2 : Nat := (M1.2.2 211 a3 0)
  let x3 : Nat := (M1.2.2 171 x2 0)
  let x4 : Nat := (M1.2.2 178 x3 0)
  ((M1.2.1 3 x4 a2.toNatClampNeg), M1)
def HX1_register_21 (a2 : Int32) (a3 : Nat) (s0 : Int32) (M : FM) : Prop := (HX1_there s0 M ∧ let M1 : FM := GX1_there s0 M; let x2 : Nat := (M1.2.2 211 a3 0); let x3 : Nat := (M1.2.2 171 x2 0); let x4 : Nat := (M1.2.2 178 x3 0); (fm_in M1 x4 a2 = true ∧ True))
theorem gX1_register_21 (a2 : Int32) (a3 : Nat) (s0 : Int32) (M : FM) (T : Ty M) (n_a3 : fm_is M 75 75 a3 = true) (h : HX1_register_21 a2 a3 s0 M) : gd (FX1_register_21 a2 a3 s0 M) (GX1_register_21 a2 a3 s0 M) (OkR M) := by
  delta FX1_register_21 BX1_register_21
  refine gd_b (gX1_there _ _ ⟨T.1, T.2⟩  h.1) (fun K0 => ?_)
  have f1 := (ext_is K0.2 (Nat.zero_lt_succ _) n_a3)
  refine gd_c f1 ?_
  have f2 := (tN_211 K0.1.1 (ext_is K0.2 (Nat.zero_lt_succ _) n_a3))
  refine gd_c f2 ?_
  have f3 := (tN_171 K0.1.1 (tN_211 K0.1.1 (ext_is K0.2 (Nat.zero_lt_succ _) n_a3)))
  refine gd_c f3 ?_
  have f4 := (tN_178 K0.1.1 (tN_171 K0.1.1 (tN_211 K0.1.1 (ext_is K0.2 (Nat.zero_lt_succ _) n_a3))))
  refine gd_c ⟨f4, h.2.1⟩ ?_
  exact ⟨rfl, ⟨K0.1.1, K0.1.2⟩, K0.2⟩
noncomputable def GX1_register_20 (a2 : Int32) (a3 : Nat) (M : FM) : Int64 × FM :=
  GX1_register_21 a2 a3 (Int32.ofInt 0) M
def HX1_register_20 (a2 : Int32) (a3 : Nat) (M : FM) : Prop := HX1_register_21 a2 a3 (Int32.ofInt 0) M
theorem gX1_register_20 (a2 : Int32) (a3 : Nat) (M : FM) (T : Ty M) (n_a3 : fm_is M 75 75 a3 = true) (h : HX1_register_20 a2 a3 M) : gd (FX1_register_20 a2 a3 M) (GX1_register_20 a2 a3 M) (OkR M) := by
  delta FX1_register_20 BX1_register_20
  exact gd_tR (ext_r _) (gX1_register_21 _ _ _ _ ⟨T.1, T.2⟩ n_a3 h)
noncomputable def GX1_register_0 (a0 : Nat) (a1 : Int32) (a2 : Int32) (M : FM) : Int64 × FM :=
  let r1 : Nat × FM := GX1_at a0 a1 M
  fi (a2 < 0) (
    GX1_register_20 a2 r1.1 r1.2) (
    fi ((Int32.ofInt 32) ≤ a2) (
      GX1_register_20 a2 r1.1 r1.2) (
      GX1_register_21 a2 r1.1 (Int32.ofInt 1) r1.2))
def HX1_register_0 (a0 : Nat) (a1 : Int32) (a2 : Int32) (M : FM) : Prop := (HX1_at a0 a1 M ∧ let r1 : Nat × FM := GX1_at a0 a1 M; ((a2 < 0 → HX1_register_20 a2 r1.1 r1.2) ∧ (¬ (a2 < 0) → (((Int32.ofInt 32) ≤ a2 → HX1_register_20 a2 r1.1 r1.2) ∧ (¬ ((Int32.ofInt 32) ≤ a2) → HX1_register_21 a2 r1.1 (Int32.ofInt 1) r1.2)))))
theorem gX1_register_0 (a0 : Nat) (a1 : Int32) (a2 : Int32) (M : FM) (T : Ty M) (n_a0 : fm_is M 10 10 a0 = true) (h : HX1_register_0 a0 a1 a2 M) : gd (FX1_register_0 a0 a1 a2 M) (GX1_register_0 a0 a1 a2 M) (OkR M) := by
  delta FX1_register_0 BX1_register_0
  refine gd_c n_a0 ?_
  refine gd_b (gX1_at _ _ _ ⟨T.1, T.2⟩ n_a0 h.1) (fun K0 => ?_)
  refine gd_fi (fun c1_0 => ?_) (fun c1_0 => ?_)
  · exact gd_tR K0.2.1 (gX1_register_20 _ _ _ ⟨K0.1.1, K0.1.2⟩ K0.2.2 (h.2.1 c1_0))
  · refine gd_fi (fun c2_0 => ?_) (fun c2_0 => ?_)
    · exact gd_tR K0.2.1 (gX1_register_20 _ _ _ ⟨K0.1.1, K0.1.2⟩ K0.2.2 ((h.2.2 c1_0).1 c2_0))
    · exact gd_tR K0.2.1 (gX1_register_21 _ _ _ _ ⟨K0.1.1, K0.1.2⟩ K0.2.2 ((h.2.2 c1_0).2 c2_0))
noncomputable def GX1_register (a0 : Nat) (a1 : Int32) (a2 : Int32) (M : FM) : Int64 × FM := GX1_register_0 a0 a1 a2 M
def HX1_register (a0 : Nat) (a1 : Int32) (a2 : Int32) (M : FM) : Prop := HX1_register_0 a0 a1 a2 M
theorem gX1_register (a0 : Nat) (a1 : Int32) (a2 : Int32) (M : FM) (T : Ty M) (n_a0 : fm_is M 10 10 a0 = true) (h : HX1_register a0 a1 a2 M) : gd (FX1_register a0 a1 a2 M) (GX1_register a0 a1 a2 M) (OkR M) := gX1_register_0 a0 a1 a2 M T n_a0 h
noncomputable def GX0_register (a0 : Nat) (a1 : Int32) (a2 : Int32) (a3 : Nat) (M : FM) : Int32 × FM := (Fh_law_register fN a0 a1 a2 a3 M).getD (0, M)
def HX0_register (a0 : Nat) (a1 : Int32) (a2 : Int32) (a3 : Nat) (M : FM) : Prop := ∃ r, Fh_law_register fN a0 a1 a2 a3 M = some r ∧ OkR M r
theorem gX0_register (a0 : Nat) (a1 : Int32) (a2 : Int32) (a3 : Nat) (M : FM) (h : HX0_register a0 a1 a2 a3 M) : gd (Fh_law_register fN a0 a1 a2 a3 M) (GX0_register a0 a1 a2 a3 M) (OkR M) := gd_op h
noncomputable def GX1_floating_21 (a2 : Int32) (a3 : Nat) (s0 : Int32) (M : FM) : Int64 × FM :=
  let M1 : FM := GX1_there s0 M
  let x2 : Nat := (M1.2.2 212 a3 0)
  let x3 : Nat := (M1.2.2 93 x2 0)
  ((M1.2.1 3 x3 a2.toNatClampNeg), M1)
def HX1_floating_21 (a2 : Int32) (a3 : Nat) (s0 : Int32) (M : FM) : Prop := (HX1_there s0 M ∧ let M1 : FM := GX1_there s0 M; let x2 : Nat := (M1.2.2 212 a3 0); let x3 : Nat := (M1.2.2 93 x2 0); (fm_in M1 x3 a2 = true ∧ True))
theorem gX1_floating_21 (a2 : Int32) (a3 : Nat) (s0 : Int32) (M : FM) (T : Ty M) (n_a3 : fm_is M 75 75 a3 = true) (h : HX1_floating_21 a2 a3 s0 M) : gd (FX1_floating_21 a2 a3 s0 M) (GX1_floating_21 a2 a3 s0 M) (OkR M) := by
  delta FX1_floating_21 BX1_floating_21
  refine gd_b (gX1_there _ _ ⟨T.1, T.2⟩  h.1) (fun K0 => ?_)
  have f1 := (ext_is K0.2 (Nat.zero_lt_succ _) n_a3)
  refine gd_c f1 ?_
  have f2 := (tN_212 K0.1.1 (ext_is K0.2 (Nat.zero_lt_succ _) n_a3))
  refine gd_c f2 ?_
  have f3 := (tN_93 K0.1.1 (tN_212 K0.1.1 (ext_is K0.2 (Nat.zero_lt_succ _) n_a3)))
  refine gd_c ⟨f3, h.2.1⟩ ?_
  exact ⟨rfl, ⟨K0.1.1, K0.1.2⟩, K0.2⟩
noncomputable def GX1_floating_20 (a2 : Int32) (a3 : Nat) (M : FM) : Int64 × FM :=
  GX1_floating_21 a2 a3 (Int32.ofInt 0) M
def HX1_floating_20 (a2 : Int32) (a3 : Nat) (M : FM) : Prop := HX1_floating_21 a2 a3 (Int32.ofInt 0) M
theorem gX1_floating_20 (a2 : Int32) (a3 : Nat) (M : FM) (T : Ty M) (n_a3 : fm_is M 75 75 a3 = true) (h : HX1_floating_20 a2 a3 M) : gd (FX1_floating_20 a2 a3 M) (GX1_floating_20 a2 a3 M) (OkR M) := by
  delta FX1_floating_20 BX1_floating_20
  exact gd_tR (ext_r _) (gX1_floating_21 _ _ _ _ ⟨T.1, T.2⟩ n_a3 h)
noncomputable def GX1_floating_0 (a0 : Nat) (a1 : Int32) (a2 : Int32) (M : FM) : Int64 × FM :=
  let r1 : Nat × FM := GX1_at a0 a1 M
  fi (a2 < 0) (
    GX1_floating_20 a2 r1.1 r1.2) (
    fi ((Int32.ofInt 32) ≤ a2) (
      GX1_floating_20 a2 r1.1 r1.2) (
      GX1_floating_21 a2 r1.1 (Int32.ofInt 1) r1.2))
def HX1_floating_0 (a0 : Nat) (a1 : Int32) (a2 : Int32) (M : FM) : Prop := (HX1_at a0 a1 M ∧ let r1 : Nat × FM := GX1_at a0 a1 M; ((a2 < 0 → HX1_floating_20 a2 r1.1 r1.2) ∧ (¬ (a2 < 0) → (((Int32.ofInt 32) ≤ a2 → HX1_floating_20 a2 r1.1 r1.2) ∧ (¬ ((Int32.ofInt 32) ≤ a2) → HX1_floating_21 a2 r1.1 (Int32.ofInt 1) r1.2)))))
theorem gX1_floating_0 (a0 : Nat) (a1 : Int32) (a2 : Int32) (M : FM) (T : Ty M) (n_a0 : fm_is M 10 10 a0 = true) (h : HX1_floating_0 a0 a1 a2 M) : gd (FX1_floating_0 a0 a1 a2 M) (GX1_floating_0 a0 a1 a2 M) (OkR M) := by
  delta FX1_floating_0 BX1_floating_0
  refine gd_c n_a0 ?_
  refine gd_b (gX1_at _ _ _ ⟨T.1, T.2⟩ n_a0 h.1) (fun K0 => ?_)
  refine gd_fi (fun c1_0 => ?_) (fun c1_0 => ?_)
  · exact gd_tR K0.2.1 (gX1_floating_20 _ _ _ ⟨K0.1.1, K0.1.2⟩ K0.2.2 (h.2.1 c1_0))
  · refine gd_fi (fun c2_0 => ?_) (fun c2_0 => ?_)
    · exact gd_tR K0.2.1 (gX1_floating_20 _ _ _ ⟨K0.1.1, K0.1.2⟩ K0.2.2 ((h.2.2 c1_0).1 c2_0))
    · exact gd_tR K0.2.1 (gX1_floating_21 _ _ _ _ ⟨K0.1.1, K0.1.2⟩ K0.2.2 ((h.2.2 c1_0).2 c2_0))
noncomputable def GX1_floating (a0 : Nat) (a1 : Int32) (a2 : Int32) (M : FM) : Int64 × FM := GX1_floating_0 a0 a1 a2 M
def HX1_floating (a0 : Nat) (a1 : Int32) (a2 : Int32) (M : FM) : Prop := HX1_floating_0 a0 a1 a2 M
theorem gX1_floating (a0 : Nat) (a1 : Int32) (a2 : Int32) (M : FM) (T : Ty M) (n_a0 : fm_is M 10 10 a0 = true) (h : HX1_floating a0 a1 a2 M) : gd (FX1_floating a0 a1 a2 M) (GX1_floating a0 a1 a2 M) (OkR M) := gX1_floating_0 a0 a1 a2 M T n_a0 h
noncomputable def GX0_floating (a0 : Nat) (a1 : Int32) (a2 : Int32) (a3 : Nat) (M : FM) : Int32 × FM := (Fh_law_floating fN a0 a1 a2 a3 M).getD (0, M)
def HX0_floating (a0 : Nat) (a1 : Int32) (a2 : Int32) (a3 : Nat) (M : FM) : Prop := ∃ r, Fh_law_floating fN a0 a1 a2 a3 M = some r ∧ OkR M r
theorem gX0_floating (a0 : Nat) (a1 : Int32) (a2 : Int32) (a3 : Nat) (M : FM) (h : HX0_floating a0 a1 a2 a3 M) : gd (Fh_law_floating fN a0 a1 a2 a3 M) (GX0_floating a0 a1 a2 a3 M) (OkR M) := gd_op h
noncomputable def GX74_peek_33 (s0 : Int64) (M : FM) : Int64 × FM :=
  (s0, M)
theorem gX74_peek_33 (s0 : Int64) (M : FM) (T : Ty M) : gd (FX74_peek_33 s0 M) (GX74_peek_33 s0 M) (OkR M) := by
  delta FX74_peek_33 BX74_peek_33
  exact ⟨rfl, ⟨T.1, T.2⟩, (ext_r _)⟩
noncomputable def GX74_peek_20 (M : FM) : Int64 × FM :=
  GX74_peek_33 (Int64.ofInt 0) M
theorem gX74_peek_20 (M : FM) (T : Ty M) : gd (FX74_peek_20 M) (GX74_peek_20 M) (OkR M) := by
  delta FX74_peek_20 BX74_peek_20
  exact gd_tR (ext_r _) (gX74_peek_33 _ _ ⟨T.1, T.2⟩  )
noncomputable def GX74_peek_0 (a0 : Nat) (a1 : Int32) (M : FM) : Int64 × FM :=
  fi (a1 < 0) (
    GX74_peek_20 M) (
    fi ((Int32.ofInt 4096) ≤ a1) (
      GX74_peek_20 M) (
      let x1 : Nat := (M.2.2 25 a0 0)
      fi ((M.2.2 3 x1 a1.toNatClampNeg) = 0) (
        GX74_peek_20 M) (
        let x2 : Nat := (M.2.2 25 a0 0)
        let x3 : Nat := (M.2.2 3 x2 a1.toNatClampNeg)
        let r4 : Int64 × FM := (fi (fm_is M 13 13 x3 = true) (GX76_show x3 M) ((fi (fm_is M 14 14 x3 = true) (GX77_show x3 M) ((fi (fm_is M 15 15 x3 = true) (GX79_show x3 M) ((fi (fm_is M 16 16 x3 = true) (GX78_show x3 M) ((fi (fm_is M 17 17 x3 = true) (GX77_show x3 M) ((fi (fm_is M 18 18 x3 = true) (GX83_show x3 M) (GX81_show x3 M))))))))))))
        GX74_peek_33 r4.1 r4.2)))
def HX74_peek_0 (a0 : Nat) (a1 : Int32) (M : FM) : Prop := ((a1 < 0 → True) ∧ (¬ (a1 < 0) → (((Int32.ofInt 4096) ≤ a1 → True) ∧ (¬ ((Int32.ofInt 4096) ≤ a1) → let x1 : Nat := (M.2.2 25 a0 0); (fm_in M x1 a1 = true ∧ (((M.2.2 3 x1 a1.toNatClampNeg) = 0 → True) ∧ (¬ ((M.2.2 3 x1 a1.toNatClampNeg) = 0) → let x2 : Nat := (M.2.2 25 a0 0); (fm_in M x2 a1 = true ∧ let x3 : Nat := (M.2.2 3 x2 a1.toNatClampNeg); (((fm_is M 13 13 x3 = true → True) ∧ (¬ (fm_is M 13 13 x3 = true) → ((fm_is M 14 14 x3 = true → True) ∧ (¬ (fm_is M 14 14 x3 = true) → ((fm_is M 15 15 x3 = true → True) ∧ (¬ (fm_is M 15 15 x3 = true) → ((fm_is M 16 16 x3 = true → True) ∧ (¬ (fm_is M 16 16 x3 = true) → ((fm_is M 17 17 x3 = true → True) ∧ (¬ (fm_is M 17 17 x3 = true) → ((fm_is M 18 18 x3 = true → HX83_show x3 M) ∧ (¬ (fm_is M 18 18 x3 = true) → (fm_is M 19 19 x3 = true ∧ HX81_show x3 M))))))))))))) ∧ True)))))))))
theorem gX74_peek_0 (a0 : Nat) (a1 : Int32) (M : FM) (T : Ty M) (n_a0 : fm_is M 12 12 a0 = true) (h : HX74_peek_0 a0 a1 M) : gd (FX74_peek_0 a0 a1 M) (GX74_peek_0 a0 a1 M) (OkR M) := by
  delta FX74_peek_0 BX74_peek_0
  refine gd_fi (fun c0_0 => ?_) (fun c0_0 => ?_)
  · exact gd_tR (ext_r _) (gX74_peek_20  _ ⟨T.1, T.2⟩  )
  · refine gd_fi (fun c1_0 => ?_) (fun c1_0 => ?_)
    · exact gd_tR (ext_r _) (gX74_peek_20  _ ⟨T.1, T.2⟩  )
    · refine gd_c n_a0 ?_
      have f12 := (fm_w (lo' := 910) (hi' := 990) rfl rfl (tN_25 T.1 n_a0))
      have f13 := ((h.2 c0_0).2 c1_0).1
      refine gd_c ⟨f12, f13⟩ ?_
      refine gd_fi (fun c2_0 => ?_) (fun c2_0 => ?_)
      · exact gd_tR (ext_r _) (gX74_peek_20  _ ⟨T.1, T.2⟩  )
      · refine gd_c n_a0 ?_
        have f10 := (fm_w (lo' := 910) (hi' := 990) rfl rfl (tN_25 T.1 n_a0))
        have f11 := (((h.2 c0_0).2 c1_0).2.2 c2_0).1
        refine gd_c ⟨f10, f11⟩ ?_
        refine gd_kb (gk_fi (gk_b _ _) (gk_fi (gk_b _ _) (gk_fi (gk_b _ _) (gk_fi (gk_b _ _) (gk_fi (gk_b _ _) (gk_fi (gk_b _ _) (gk_fi (gk_b _ _) gk_0))))))) (gd_fi (fun c3 => (gX76_show _ _ ⟨T.1, T.2⟩ c3 )) (fun c3 => (gd_fi (fun c4 => (gX77_show _ _ ⟨T.1, T.2⟩ (fm_w (lo' := 14) (hi' := 17) rfl rfl c4) )) (fun c4 => (gd_fi (fun c5 => (gX79_show _ _ ⟨T.1, T.2⟩ c5 )) (fun c5 => (gd_fi (fun c6 => (gX78_show _ _ ⟨T.1, T.2⟩ c6 )) (fun c6 => (gd_fi (fun c7 => (gX77_show _ _ ⟨T.1, T.2⟩ (fm_w (lo' := 14) (hi' := 17) rfl rfl c7) )) (fun c7 => (gd_fi (fun c8 => (gX83_show _ _ ⟨T.1, T.2⟩ c8 (((((((((h.2 c0_0).2 c1_0).2.2 c2_0).2.1.2 c3).2 c4).2 c5).2 c6).2 c7).1 c8))) (fun c8 => (gd_c (((((((((h.2 c0_0).2 c1_0).2.2 c2_0).2.1.2 c3).2 c4).2 c5).2 c6).2 c7).2 c8).1 (gX81_show _ _ ⟨T.1, T.2⟩ (((((((((h.2 c0_0).2 c1_0).2.2 c2_0).2.1.2 c3).2 c4).2 c5).2 c6).2 c7).2 c8).1 (((((((((h.2 c0_0).2 c1_0).2.2 c2_0).2.1.2 c3).2 c4).2 c5).2 c6).2 c7).2 c8).2)))))))))))))) (fun K9 => ?_)
        exact gd_tR K9.2 (gX74_peek_33 _ _ ⟨K9.1.1, K9.1.2⟩  )
noncomputable def GX74_peek (a0 : Nat) (a1 : Int32) (M : FM) : Int64 × FM := GX74_peek_0 a0 a1 M
def HX74_peek (a0 : Nat) (a1 : Int32) (M : FM) : Prop := HX74_peek_0 a0 a1 M
theorem gX74_peek (a0 : Nat) (a1 : Int32) (M : FM) (T : Ty M) (n_a0 : fm_is M 12 12 a0 = true) (h : HX74_peek a0 a1 M) : gd (FX74_peek a0 a1 M) (GX74_peek a0 a1 M) (OkR M) := gX74_peek_0 a0 a1 M T n_a0 h
