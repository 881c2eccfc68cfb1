/-! functions without guards, printed by gen/gg.py -/
set_option maxRecDepth 100000
noncomputable def GX99_order_142 (s0 : Int32) (M : FM) : Int32 × FM :=
  (s0, M)
theorem gX99_order_142 (s0 : Int32) (M : FM) (T : Ty M) : gd (FX99_order_142 s0 M) (GX99_order_142 s0 M) (OkR M) := by
  delta FX99_order_142 BX99_order_142
  exact ⟨rfl, ⟨T.1, T.2⟩, (ext_r _)⟩
noncomputable def GX99_order_115 (a7 : Int64) (s0 : Int64) (M : FM) : Int32 × FM :=
  fi (0 ≤ (lg_cmp a7 s0)) (
    fi ((lg_cmp a7 s0) ≤ 0) (
      GX99_order_142 (Int32.ofInt 0) M) (
      GX99_order_142 (Int32.ofInt 1) M)) (
    GX99_order_142 (Int32.ofInt (-1)) M)
theorem gX99_order_115 (a7 : Int64) (s0 : Int64) (M : FM) (T : Ty M) : gd (FX99_order_115 a7 s0 M) (GX99_order_115 a7 s0 M) (OkR M) := by
  delta FX99_order_115 BX99_order_115
  refine gd_fi (fun c0_0 => ?_) (fun c0_0 => ?_)
  · refine gd_fi (fun c1_0 => ?_) (fun c1_0 => ?_)
    · exact gd_tR (ext_r _) (gX99_order_142 _ _ ⟨T.1, T.2⟩  )
    · exact gd_tR (ext_r _) (gX99_order_142 _ _ ⟨T.1, T.2⟩  )
  · exact gd_tR (ext_r _) (gX99_order_142 _ _ ⟨T.1, T.2⟩  )
noncomputable def GX99_order_94 (a0 : Nat) (a9 : Int64) (s0 : Int64) (M : FM) : Int32 × FM :=
  let x1 : Nat := (M.2.2 376 a0 0)
  fi ((M.1 3 x1 (Int32.ofInt 1).toNatClampNeg) = (Int32.ofInt 1)) (
    GX99_order_115 s0 ((Int64.ofInt 0) - a9) M) (
    GX99_order_115 s0 a9 M)
theorem gX99_order_94 (a0 : Nat) (a9 : Int64) (s0 : Int64) (M : FM) (T : Ty M) (n_a0 : fm_is M 96 96 a0 = true) : gd (FX99_order_94 a0 a9 s0 M) (GX99_order_94 a0 a9 s0 M) (OkR M) := by
  delta FX99_order_94 BX99_order_94
  refine gd_c n_a0 ?_
  have f1 := (tN_376 T.1 n_a0)
  have f2 := (fm_inl (i := (Int32.ofInt 1)) (tL_376 T.1 n_a0) (by decide))
  refine gd_c ⟨f1, f2⟩ ?_
  refine gd_fi (fun c0_0 => ?_) (fun c0_0 => ?_)
  · exact gd_tR (ext_r _) (gX99_order_115 _ _ _ ⟨T.1, T.2⟩  )
  · exact gd_tR (ext_r _) (gX99_order_115 _ _ _ ⟨T.1, T.2⟩  )
noncomputable def GX99_order_75 (a0 : Nat) (a7 : Int64) (a9 : Int64) (M : FM) : Int32 × FM :=
  let x1 : Nat := (M.2.2 376 a0 0)
  fi ((M.1 3 x1 (Int32.ofInt 0).toNatClampNeg) = (Int32.ofInt 1)) (
    GX99_order_94 a0 a9 ((Int64.ofInt 0) - a7) M) (
    GX99_order_94 a0 a9 a7 M)
theorem gX99_order_75 (a0 : Nat) (a7 : Int64) (a9 : Int64) (M : FM) (T : Ty M) (n_a0 : fm_is M 96 96 a0 = true) : gd (FX99_order_75 a0 a7 a9 M) (GX99_order_75 a0 a7 a9 M) (OkR M) := by
  delta FX99_order_75 BX99_order_75
  refine gd_c n_a0 ?_
  have f1 := (tN_376 T.1 n_a0)
  have f2 := (fm_inl (i := (Int32.ofInt 0)) (tL_376 T.1 n_a0) (by decide))
  refine gd_c ⟨f1, f2⟩ ?_
  refine gd_fi (fun c0_0 => ?_) (fun c0_0 => ?_)
  · exact gd_tR (ext_r _) (gX99_order_94 _ _ _ _ ⟨T.1, T.2⟩ n_a0 )
  · exact gd_tR (ext_r _) (gX99_order_94 _ _ _ _ ⟨T.1, T.2⟩ n_a0 )
noncomputable def GX99_order_74 (s0 : Int32) (M : FM) : Int32 × FM :=
  (s0, M)
theorem gX99_order_74 (s0 : Int32) (M : FM) (T : Ty M) : gd (FX99_order_74 s0 M) (GX99_order_74 s0 M) (OkR M) := by
  delta FX99_order_74 BX99_order_74
  exact ⟨rfl, ⟨T.1, T.2⟩, (ext_r _)⟩
noncomputable def GX99_order_14 (a0 : Nat) (a1 : Int32) (a2 : Int32) (a3 : Int32) (a4 : Int32) (s0 : Int64) (M : FM) : Int32 × FM :=
  let r1 : Int64 × FM := GX99_bitsOf a0 a1 a3 M
  let x2 : Int64 := (r1.1 &&& s0)
  let r3 : Int64 × FM := GX99_bitsOf a0 a2 a3 r1.2
  let x4 : Int64 := (r3.1 &&& s0)
  fi ((lg_cmp x2 (Int64.ofInt 0)) = 0) (
    fi ((lg_cmp x4 (Int64.ofInt 0)) = 0) (
      fi (a4 = 0) (
        GX99_order_74 (Int32.ofInt 0) r3.2) (
        let x5 : Nat := (r3.2.2.2 376 a0 0)
        let x6 : Nat := (r3.2.2.2 376 a0 0)
        GX99_order_74 ((r3.2.1 3 x5 (Int32.ofInt 1).toNatClampNeg) - (r3.2.1 3 x6 (Int32.ofInt 0).toNatClampNeg)) r3.2)) (
      GX99_order_75 a0 x2 x4 r3.2)) (
    GX99_order_75 a0 x2 x4 r3.2)
def HX99_order_14 (a0 : Nat) (a1 : Int32) (a2 : Int32) (a3 : Int32) (a4 : Int32) (s0 : Int64) (M : FM) : Prop := (HX99_bitsOf a0 a1 a3 M ∧ let r1 : Int64 × FM := GX99_bitsOf a0 a1 a3 M; let x2 : Int64 := (r1.1 &&& s0); (HX99_bitsOf a0 a2 a3 r1.2 ∧ True))
theorem gX99_order_14 (a0 : Nat) (a1 : Int32) (a2 : Int32) (a3 : Int32) (a4 : Int32) (s0 : Int64) (M : FM) (T : Ty M) (n_a0 : fm_is M 96 96 a0 = true) (h : HX99_order_14 a0 a1 a2 a3 a4 s0 M) : gd (FX99_order_14 a0 a1 a2 a3 a4 s0 M) (GX99_order_14 a0 a1 a2 a3 a4 s0 M) (OkR M) := by
  delta FX99_order_14 BX99_order_14
  refine gd_c n_a0 ?_
  refine gd_b (gX99_bitsOf _ _ _ _ ⟨T.1, T.2⟩ n_a0 h.1) (fun K0 => ?_)
  have f1 := (ext_is K0.2 (Nat.zero_lt_succ _) n_a0)
  refine gd_c f1 ?_
  have f14 := (ext_is K0.2 (Nat.zero_lt_succ _) n_a0)
  refine gd_b (gX99_bitsOf _ _ _ _ ⟨K0.1.1, K0.1.2⟩ f14 h.2.1) (fun K2 => ?_)
  refine gd_fi (fun c3_0 => ?_) (fun c3_0 => ?_)
  · refine gd_fi (fun c4_0 => ?_) (fun c4_0 => ?_)
    · refine gd_fi (fun c5_0 => ?_) (fun c5_0 => ?_)
      · exact gd_tR (ext_tr K0.2 K2.2) (gX99_order_74 _ _ ⟨K2.1.1, K2.1.2⟩  )
      · have f6 := (ext_is K2.2 (Nat.zero_lt_succ _) (ext_is K0.2 (Nat.zero_lt_succ _) n_a0))
        refine gd_c f6 ?_
        have f10 := (tN_376 K2.1.1 (ext_is K2.2 (Nat.zero_lt_succ _) (ext_is K0.2 (Nat.zero_lt_succ _) n_a0)))
        have f11 := (fm_inl (i := (Int32.ofInt 1)) (tL_376 K2.1.1 (ext_is K2.2 (Nat.zero_lt_succ _) (ext_is K0.2 (Nat.zero_lt_succ _) n_a0))) (by decide))
        refine gd_c ⟨f10, f11⟩ ?_
        have f7 := (ext_is K2.2 (Nat.zero_lt_succ _) (ext_is K0.2 (Nat.zero_lt_succ _) n_a0))
        refine gd_c f7 ?_
        have f8 := (tN_376 K2.1.1 (ext_is K2.2 (Nat.zero_lt_succ _) (ext_is K0.2 (Nat.zero_lt_succ _) n_a0)))
        have f9 := (fm_inl (i := (Int32.ofInt 0)) (tL_376 K2.1.1 (ext_is K2.2 (Nat.zero_lt_succ _) (ext_is K0.2 (Nat.zero_lt_succ _) n_a0))) (by decide))
        refine gd_c ⟨f8, f9⟩ ?_
        exact gd_tR (ext_tr K0.2 K2.2) (gX99_order_74 _ _ ⟨K2.1.1, K2.1.2⟩  )
    · have f12 := (ext_is K2.2 (Nat.zero_lt_succ _) (ext_is K0.2 (Nat.zero_lt_succ _) n_a0))
      exact gd_tR (ext_tr K0.2 K2.2) (gX99_order_75 _ _ _ _ ⟨K2.1.1, K2.1.2⟩ f12 )
  · have f13 := (ext_is K2.2 (Nat.zero_lt_succ _) (ext_is K0.2 (Nat.zero_lt_succ _) n_a0))
    exact gd_tR (ext_tr K0.2 K2.2) (gX99_order_75 _ _ _ _ ⟨K2.1.1, K2.1.2⟩ f13 )
noncomputable def GX99_order_0 (a0 : Nat) (a1 : Int32) (a2 : Int32) (a3 : Int32) (a4 : Int32) (M : FM) : Int32 × FM :=
  fi (a3 = (Int32.ofInt 1)) (
    GX99_order_14 a0 a1 a2 a3 a4 (Int64.ofInt 9223372036854775807) M) (
    GX99_order_14 a0 a1 a2 a3 a4 (Int64.ofInt 2147483647) M)
def HX99_order_0 (a0 : Nat) (a1 : Int32) (a2 : Int32) (a3 : Int32) (a4 : Int32) (M : FM) : Prop := ((a3 = (Int32.ofInt 1) → HX99_order_14 a0 a1 a2 a3 a4 (Int64.ofInt 9223372036854775807) M) ∧ (¬ (a3 = (Int32.ofInt 1)) → HX99_order_14 a0 a1 a2 a3 a4 (Int64.ofInt 2147483647) M))
theorem gX99_order_0 (a0 : Nat) (a1 : Int32) (a2 : Int32) (a3 : Int32) (a4 : Int32) (M : FM) (T : Ty M) (n_a0 : fm_is M 96 96 a0 = true) (h : HX99_order_0 a0 a1 a2 a3 a4 M) : gd (FX99_order_0 a0 a1 a2 a3 a4 M) (GX99_order_0 a0 a1 a2 a3 a4 M) (OkR M) := by
  delta FX99_order_0 BX99_order_0
  refine gd_fi (fun c0_0 => ?_) (fun c0_0 => ?_)
  · exact gd_tR (ext_r _) (gX99_order_14 _ _ _ _ _ _ _ ⟨T.1, T.2⟩ n_a0 (h.1 c0_0))
  · exact gd_tR (ext_r _) (gX99_order_14 _ _ _ _ _ _ _ ⟨T.1, T.2⟩ n_a0 (h.2 c0_0))
noncomputable def GX99_order (a0 : Nat) (a1 : Int32) (a2 : Int32) (a3 : Int32) (a4 : Int32) (M : FM) : Int32 × FM := GX99_order_0 a0 a1 a2 a3 a4 M
def HX99_order (a0 : Nat) (a1 : Int32) (a2 : Int32) (a3 : Int32) (a4 : Int32) (M : FM) : Prop := HX99_order_0 a0 a1 a2 a3 a4 M
theorem gX99_order (a0 : Nat) (a1 : Int32) (a2 : Int32) (a3 : Int32) (a4 : Int32) (M : FM) (T : Ty M) (n_a0 : fm_is M 96 96 a0 = true) (h : HX99_order a0 a1 a2 a3 a4 M) : gd (FX99_order a0 a1 a2 a3 a4 M) (GX99_order a0 a1 a2 a3 a4 M) (OkR M) := gX99_order_0 a0 a1 a2 a3 a4 M T n_a0 h
noncomputable def GX99_extreme_123 (a4 : Int32) (s0 : Nat) (s1 : Int32) (s2 : Nat) (s3 : Int32) (M : FM) : Int32 × FM :=
  let r1 : Int64 × FM := GX99_bitsOf s2 s3 a4 M
  let r2 : Int32 × FM := GX99_write s0 s1 r1.1 a4 r1.2
  (r2.1, r2.2)
def HX99_extreme_123 (a4 : Int32) (s0 : Nat) (s1 : Int32) (s2 : Nat) (s3 : Int32) (M : FM) : Prop := (HX99_bitsOf s2 s3 a4 M ∧ let r1 : Int64 × FM := GX99_bitsOf s2 s3 a4 M; (HX99_write s0 s1 r1.1 a4 r1.2 ∧ True))
theorem gX99_extreme_123 (a4 : Int32) (s0 : Nat) (s1 : Int32) (s2 : Nat) (s3 : Int32) (M : FM) (T : Ty M) (n_s2 : fm_is M 96 96 s2 = true) (n_s0 : fm_is M 96 96 s0 = true) (h : HX99_extreme_123 a4 s0 s1 s2 s3 M) : gd (FX99_extreme_123 a4 s0 s1 s2 s3 M) (GX99_extreme_123 a4 s0 s1 s2 s3 M) (OkR M) := by
  delta FX99_extreme_123 BX99_extreme_123
  refine gd_c n_s2 ?_
  refine gd_b (gX99_bitsOf _ _ _ _ ⟨T.1, T.2⟩ n_s2 h.1) (fun K0 => ?_)
  have f1 := (ext_is K0.2 (Nat.zero_lt_succ _) n_s0)
  refine gd_c f1 ?_
  have f3 := (ext_is K0.2 (Nat.zero_lt_succ _) n_s0)
  refine gd_b (gX99_write _ _ _ _ _ ⟨K0.1.1, K0.1.2⟩ f3 h.2.1) (fun K2 => ?_)
  exact ⟨rfl, ⟨K2.1.1, K2.1.2⟩, (ext_tr K0.2 K2.2)⟩
noncomputable def GX99_extreme_108 (a0 : Nat) (a1 : Int32) (a2 : Int32) (a3 : Int32) (a4 : Int32) (s0 : Int32) (M : FM) : Int32 × FM :=
  fi (s0 = 0) (
    GX99_extreme_123 a4 a0 a1 a0 a3 M) (
    GX99_extreme_123 a4 a0 a1 a0 a2 M)
def HX99_extreme_108 (a0 : Nat) (a1 : Int32) (a2 : Int32) (a3 : Int32) (a4 : Int32) (s0 : Int32) (M : FM) : Prop := ((s0 = 0 → HX99_extreme_123 a4 a0 a1 a0 a3 M) ∧ (¬ (s0 = 0) → HX99_extreme_123 a4 a0 a1 a0 a2 M))
theorem gX99_extreme_108 (a0 : Nat) (a1 : Int32) (a2 : Int32) (a3 : Int32) (a4 : Int32) (s0 : Int32) (M : FM) (T : Ty M) (n_a0 : fm_is M 96 96 a0 = true) (h : HX99_extreme_108 a0 a1 a2 a3 a4 s0 M) : gd (FX99_extreme_108 a0 a1 a2 a3 a4 s0 M) (GX99_extreme_108 a0 a1 a2 a3 a4 s0 M) (OkR M) := by
  delta FX99_extreme_108 BX99_extreme_108
  refine gd_fi (fun c0_0 => ?_) (fun c0_0 => ?_)
  · exact gd_tR (ext_r _) (gX99_extreme_123 _ _ _ _ _ _ ⟨T.1, T.2⟩ n_a0 n_a0 (h.1 c0_0))
  · exact gd_tR (ext_r _) (gX99_extreme_123 _ _ _ _ _ _ ⟨T.1, T.2⟩ n_a0 n_a0 (h.2 c0_0))
noncomputable def GX99_extreme_107 (a0 : Nat) (a1 : Int32) (a2 : Int32) (a3 : Int32) (a4 : Int32) (M : FM) : Int32 × FM :=
  GX99_extreme_108 a0 a1 a2 a3 a4 (Int32.ofInt 0) M
def HX99_extreme_107 (a0 : Nat) (a1 : Int32) (a2 : Int32) (a3 : Int32) (a4 : Int32) (M : FM) : Prop := HX99_extreme_108 a0 a1 a2 a3 a4 (Int32.ofInt 0) M
theorem gX99_extreme_107 (a0 : Nat) (a1 : Int32) (a2 : Int32) (a3 : Int32) (a4 : Int32) (M : FM) (T : Ty M) (n_a0 : fm_is M 96 96 a0 = true) (h : HX99_extreme_107 a0 a1 a2 a3 a4 M) : gd (FX99_extreme_107 a0 a1 a2 a3 a4 M) (GX99_extreme_107 a0 a1 a2 a3 a4 M) (OkR M) := by
  delta FX99_extreme_107 BX99_extreme_107
  exact gd_tR (ext_r _) (gX99_extreme_108 _ _ _ _ _ _ _ ⟨T.1, T.2⟩ n_a0 h)
noncomputable def GX99_extreme_103 (a0 : Nat) (a1 : Int32) (a2 : Int32) (a3 : Int32) (a4 : Int32) (M : FM) : Int32 × FM :=
  GX99_extreme_108 a0 a1 a2 a3 a4 (Int32.ofInt 1) M
def HX99_extreme_103 (a0 : Nat) (a1 : Int32) (a2 : Int32) (a3 : Int32) (a4 : Int32) (M : FM) : Prop := HX99_extreme_108 a0 a1 a2 a3 a4 (Int32.ofInt 1) M
theorem gX99_extreme_103 (a0 : Nat) (a1 : Int32) (a2 : Int32) (a3 : Int32) (a4 : Int32) (M : FM) (T : Ty M) (n_a0 : fm_is M 96 96 a0 = true) (h : HX99_extreme_103 a0 a1 a2 a3 a4 M) : gd (FX99_extreme_103 a0 a1 a2 a3 a4 M) (GX99_extreme_103 a0 a1 a2 a3 a4 M) (OkR M) := by
  delta FX99_extreme_103 BX99_extreme_103
  exact gd_tR (ext_r _) (gX99_extreme_108 _ _ _ _ _ _ _ ⟨T.1, T.2⟩ n_a0 h)
noncomputable def GX99_extreme_55 (a0 : Nat) (a1 : Int32) (a2 : Int32) (a3 : Int32) (a4 : Int32) (a5 : Int32) (M : FM) : Int32 × FM :=
  let r1 : Int32 × FM := GX99_isNone a0 (Int32.ofInt 1) M
  fi (r1.1 = 0) (
    let r2 : Int32 × FM := GX99_isNone a0 (Int32.ofInt 0) r1.2
    fi (r2.1 = 0) (
      fi (a5 = 0) (
        let r3 : Int32 × FM := GX99_order a0 a2 a3 a4 (Int32.ofInt 1) r2.2
        fi (0 < r3.1) (
          GX99_extreme_107 a0 a1 a2 a3 a4 r3.2) (
          GX99_extreme_103 a0 a1 a2 a3 a4 r3.2)) (
        let r4 : Int32 × FM := GX99_order a0 a2 a3 a4 (Int32.ofInt 1) r2.2
        fi (r4.1 < 0) (
          GX99_extreme_107 a0 a1 a2 a3 a4 r4.2) (
          GX99_extreme_103 a0 a1 a2 a3 a4 r4.2))) (
      GX99_extreme_107 a0 a1 a2 a3 a4 r2.2)) (
    GX99_extreme_103 a0 a1 a2 a3 a4 r1.2)
def HX99_extreme_55 (a0 : Nat) (a1 : Int32) (a2 : Int32) (a3 : Int32) (a4 : Int32) (a5 : Int32) (M : FM) : Prop := (HX99_isNone a0 (Int32.ofInt 1) M ∧ let r1 : Int32 × FM := GX99_isNone a0 (Int32.ofInt 1) M; ((r1.1 = 0 → (HX99_isNone a0 (Int32.ofInt 0) r1.2 ∧ let r2 : Int32 × FM := GX99_isNone a0 (Int32.ofInt 0) r1.2; ((r2.1 = 0 → ((a5 = 0 → (HX99_order a0 a2 a3 a4 (Int32.ofInt 1) r2.2 ∧ let r3 : Int32 × FM := GX99_order a0 a2 a3 a4 (Int32.ofInt 1) r2.2; ((0 < r3.1 → HX99_extreme_107 a0 a1 a2 a3 a4 r3.2) ∧ (¬ (0 < r3.1) → HX99_extreme_103 a0 a1 a2 a3 a4 r3.2)))) ∧ (¬ (a5 = 0) → (HX99_order a0 a2 a3 a4 (Int32.ofInt 1) r2.2 ∧ let r4 : Int32 × FM := GX99_order a0 a2 a3 a4 (Int32.ofInt 1) r2.2; ((r4.1 < 0 → HX99_extreme_107 a0 a1 a2 a3 a4 r4.2) ∧ (¬ (r4.1 < 0) → HX99_extreme_103 a0 a1 a2 a3 a4 r4.2)))))) ∧ (¬ (r2.1 = 0) → HX99_extreme_107 a0 a1 a2 a3 a4 r2.2)))) ∧ (¬ (r1.1 = 0) → HX99_extreme_103 a0 a1 a2 a3 a4 r1.2)))
theorem gX99_extreme_55 (a0 : Nat) (a1 : Int32) (a2 : Int32) (a3 : Int32) (a4 : Int32) (a5 : Int32) (M : FM) (T : Ty M) (n_a0 : fm_is M 96 96 a0 = true) (h : HX99_extreme_55 a0 a1 a2 a3 a4 a5 M) : gd (FX99_extreme_55 a0 a1 a2 a3 a4 a5 M) (GX99_extreme_55 a0 a1 a2 a3 a4 a5 M) (OkR M) := by
  delta FX99_extreme_55 BX99_extreme_55
  refine gd_c n_a0 ?_
  refine gd_b (gX99_isNone _ _ _ ⟨T.1, T.2⟩ n_a0 h.1) (fun K0 => ?_)
  refine gd_fi (fun c1_0 => ?_) (fun c1_0 => ?_)
  · have f2 := (ext_is K0.2.1 (Nat.zero_lt_succ _) n_a0)
    refine gd_c f2 ?_
    have f19 := (ext_is K0.2.1 (Nat.zero_lt_succ _) n_a0)
    refine gd_b (gX99_isNone _ _ _ ⟨K0.1.1, K0.1.2⟩ f19 (h.2.1 c1_0).1) (fun K3 => ?_)
    refine gd_fi (fun c4_0 => ?_) (fun c4_0 => ?_)
    · refine gd_fi (fun c5_0 => ?_) (fun c5_0 => ?_)
      · have f6 := (ext_is K3.2.1 (Nat.zero_lt_succ _) (ext_is K0.2.1 (Nat.zero_lt_succ _) n_a0))
        refine gd_c f6 ?_
        have f11 := (ext_is K3.2.1 (Nat.zero_lt_succ _) (ext_is K0.2.1 (Nat.zero_lt_succ _) n_a0))
        refine gd_b (gX99_order _ _ _ _ _ _ ⟨K3.1.1, K3.1.2⟩ f11 (((h.2.1 c1_0).2.1 c4_0).1 c5_0).1) (fun K7 => ?_)
        refine gd_fi (fun c8_0 => ?_) (fun c8_0 => ?_)
        · have f9 := (ext_is K7.2 (Nat.zero_lt_succ _) (ext_is K3.2.1 (Nat.zero_lt_succ _) (ext_is K0.2.1 (Nat.zero_lt_succ _) n_a0)))
          exact gd_tR (ext_tr K0.2.1 (ext_tr K3.2.1 K7.2)) (gX99_extreme_107 _ _ _ _ _ _ ⟨K7.1.1, K7.1.2⟩ f9 ((((h.2.1 c1_0).2.1 c4_0).1 c5_0).2.1 c8_0))
        · have f10 := (ext_is K7.2 (Nat.zero_lt_succ _) (ext_is K3.2.1 (Nat.zero_lt_succ _) (ext_is K0.2.1 (Nat.zero_lt_succ _) n_a0)))
          exact gd_tR (ext_tr K0.2.1 (ext_tr K3.2.1 K7.2)) (gX99_extreme_103 _ _ _ _ _ _ ⟨K7.1.1, K7.1.2⟩ f10 ((((h.2.1 c1_0).2.1 c4_0).1 c5_0).2.2 c8_0))
      · have f12 := (ext_is K3.2.1 (Nat.zero_lt_succ _) (ext_is K0.2.1 (Nat.zero_lt_succ _) n_a0))
        refine gd_c f12 ?_
        have f17 := (ext_is K3.2.1 (Nat.zero_lt_succ _) (ext_is K0.2.1 (Nat.zero_lt_succ _) n_a0))
        refine gd_b (gX99_order _ _ _ _ _ _ ⟨K3.1.1, K3.1.2⟩ f17 (((h.2.1 c1_0).2.1 c4_0).2 c5_0).1) (fun K13 => ?_)
        refine gd_fi (fun c14_0 => ?_) (fun c14_0 => ?_)
        · have f15 := (ext_is K13.2 (Nat.zero_lt_succ _) (ext_is K3.2.1 (Nat.zero_lt_succ _) (ext_is K0.2.1 (Nat.zero_lt_succ _) n_a0)))
          exact gd_tR (ext_tr K0.2.1 (ext_tr K3.2.1 K13.2)) (gX99_extreme_107 _ _ _ _ _ _ ⟨K13.1.1, K13.1.2⟩ f15 ((((h.2.1 c1_0).2.1 c4_0).2 c5_0).2.1 c14_0))
        · have f16 := (ext_is K13.2 (Nat.zero_lt_succ _) (ext_is K3.2.1 (Nat.zero_lt_succ _) (ext_is K0.2.1 (Nat.zero_lt_succ _) n_a0)))
          exact gd_tR (ext_tr K0.2.1 (ext_tr K3.2.1 K13.2)) (gX99_extreme_103 _ _ _ _ _ _ ⟨K13.1.1, K13.1.2⟩ f16 ((((h.2.1 c1_0).2.1 c4_0).2 c5_0).2.2 c14_0))
    · have f18 := (ext_is K3.2.1 (Nat.zero_lt_succ _) (ext_is K0.2.1 (Nat.zero_lt_succ _) n_a0))
      exact gd_tR (ext_tr K0.2.1 K3.2.1) (gX99_extreme_107 _ _ _ _ _ _ ⟨K3.1.1, K3.1.2⟩ f18 ((h.2.1 c1_0).2.2 c4_0))
  · have f20 := (ext_is K0.2.1 (Nat.zero_lt_succ _) n_a0)
    exact gd_tR K0.2.1 (gX99_extreme_103 _ _ _ _ _ _ ⟨K0.1.1, K0.1.2⟩ f20 (h.2.2 c1_0))
noncomputable def GX99_extreme_26 (a0 : Nat) (a1 : Int32) (a2 : Int32) (a3 : Int32) (a4 : Int32) (a5 : Int32) (M : FM) : Int32 × FM :=
  let r1 : Int32 × FM := GX99_isNone a0 (Int32.ofInt 0) M
  fi (r1.1 = 0) (
    GX99_extreme_55 a0 a1 a2 a3 a4 a5 r1.2) (
    let r2 : Int32 × FM := GX99_isNone a0 (Int32.ofInt 1) r1.2
    fi (r2.1 = 0) (
      GX99_extreme_55 a0 a1 a2 a3 a4 a5 r2.2) (
      let r3 : Int64 × FM := GX99_quiet a4 r2.2
      let r4 : Int32 × FM := GX99_write a0 a1 r3.1 a4 r3.2
      (r4.1, r4.2)))
def HX99_extreme_26 (a0 : Nat) (a1 : Int32) (a2 : Int32) (a3 : Int32) (a4 : Int32) (a5 : Int32) (M : FM) : Prop := (HX99_isNone a0 (Int32.ofInt 0) M ∧ let r1 : Int32 × FM := GX99_isNone a0 (Int32.ofInt 0) M; ((r1.1 = 0 → HX99_extreme_55 a0 a1 a2 a3 a4 a5 r1.2) ∧ (¬ (r1.1 = 0) → (HX99_isNone a0 (Int32.ofInt 1) r1.2 ∧ let r2 : Int32 × FM := GX99_isNone a0 (Int32.ofInt 1) r1.2; ((r2.1 = 0 → HX99_extreme_55 a0 a1 a2 a3 a4 a5 r2.2) ∧ (¬ (r2.1 = 0) → let r3 : Int64 × FM := GX99_quiet a4 r2.2; (HX99_write a0 a1 r3.1 a4 r3.2 ∧ True)))))))
theorem gX99_extreme_26 (a0 : Nat) (a1 : Int32) (a2 : Int32) (a3 : Int32) (a4 : Int32) (a5 : Int32) (M : FM) (T : Ty M) (n_a0 : fm_is M 96 96 a0 = true) (h : HX99_extreme_26 a0 a1 a2 a3 a4 a5 M) : gd (FX99_extreme_26 a0 a1 a2 a3 a4 a5 M) (GX99_extreme_26 a0 a1 a2 a3 a4 a5 M) (OkR M) := by
  delta FX99_extreme_26 BX99_extreme_26
  refine gd_c n_a0 ?_
  refine gd_b (gX99_isNone _ _ _ ⟨T.1, T.2⟩ n_a0 h.1) (fun K0 => ?_)
  refine gd_fi (fun c1_0 => ?_) (fun c1_0 => ?_)
  · have f2 := (ext_is K0.2.1 (Nat.zero_lt_succ _) n_a0)
    exact gd_tR K0.2.1 (gX99_extreme_55 _ _ _ _ _ _ _ ⟨K0.1.1, K0.1.2⟩ f2 (h.2.1 c1_0))
  · have f3 := (ext_is K0.2.1 (Nat.zero_lt_succ _) n_a0)
    refine gd_c f3 ?_
    have f11 := (ext_is K0.2.1 (Nat.zero_lt_succ _) n_a0)
    refine gd_b (gX99_isNone _ _ _ ⟨K0.1.1, K0.1.2⟩ f11 (h.2.2 c1_0).1) (fun K4 => ?_)
    refine gd_fi (fun c5_0 => ?_) (fun c5_0 => ?_)
    · have f6 := (ext_is K4.2.1 (Nat.zero_lt_succ _) (ext_is K0.2.1 (Nat.zero_lt_succ _) n_a0))
      exact gd_tR (ext_tr K0.2.1 K4.2.1) (gX99_extreme_55 _ _ _ _ _ _ _ ⟨K4.1.1, K4.1.2⟩ f6 ((h.2.2 c1_0).2.1 c5_0))
    · refine gd_b (gX99_quiet _ _ ⟨K4.1.1, K4.1.2⟩  ) (fun K7 => ?_)
      have f8 := (ext_is K7.2 (Nat.zero_lt_succ _) (ext_is K4.2.1 (Nat.zero_lt_succ _) (ext_is K0.2.1 (Nat.zero_lt_succ _) n_a0)))
      refine gd_c f8 ?_
      have f10 := (ext_is K7.2 (Nat.zero_lt_succ _) (ext_is K4.2.1 (Nat.zero_lt_succ _) (ext_is K0.2.1 (Nat.zero_lt_succ _) n_a0)))
      refine gd_b (gX99_write _ _ _ _ _ ⟨K7.1.1, K7.1.2⟩ f10 ((h.2.2 c1_0).2.2 c5_0).1) (fun K9 => ?_)
      exact ⟨rfl, ⟨K9.1.1, K9.1.2⟩, (ext_tr K0.2.1 (ext_tr K4.2.1 (ext_tr K7.2 K9.2)))⟩
noncomputable def GX99_extreme_20 (a0 : Nat) (a1 : Int32) (a2 : Int32) (a3 : Int32) (a4 : Int32) (a5 : Int32) (M : FM) : Int32 × FM :=
  let M1 : FM := GX99_raiseFlags a0 (Int32.ofInt 16) M
  GX99_extreme_26 a0 a1 a2 a3 a4 a5 M1
def HX99_extreme_20 (a0 : Nat) (a1 : Int32) (a2 : Int32) (a3 : Int32) (a4 : Int32) (a5 : Int32) (M : FM) : Prop := let M1 : FM := GX99_raiseFlags a0 (Int32.ofInt 16) M; HX99_extreme_26 a0 a1 a2 a3 a4 a5 M1
theorem gX99_extreme_20 (a0 : Nat) (a1 : Int32) (a2 : Int32) (a3 : Int32) (a4 : Int32) (a5 : Int32) (M : FM) (T : Ty M) (n_a0 : fm_is M 96 96 a0 = true) (h : HX99_extreme_20 a0 a1 a2 a3 a4 a5 M) : gd (FX99_extreme_20 a0 a1 a2 a3 a4 a5 M) (GX99_extreme_20 a0 a1 a2 a3 a4 a5 M) (OkR M) := by
  delta FX99_extreme_20 BX99_extreme_20
  refine gd_c n_a0 ?_
  refine gd_b (gX99_raiseFlags _ _ _ ⟨T.1, T.2⟩ n_a0 ) (fun K0 => ?_)
  have f1 := (ext_is K0.2 (Nat.zero_lt_succ _) n_a0)
  exact gd_tR K0.2 (gX99_extreme_26 _ _ _ _ _ _ _ ⟨K0.1.1, K0.1.2⟩ f1 h)
noncomputable def GX99_extreme_0 (a0 : Nat) (a1 : Int32) (a2 : Int32) (a3 : Int32) (a4 : Int32) (a5 : Int32) (M : FM) : Int32 × FM :=
  let x1 : Nat := (M.2.2 375 a0 0)
  fi ((M.1 3 x1 (Int32.ofInt 0).toNatClampNeg) = (Int32.ofInt 4)) (
    GX99_extreme_20 a0 a1 a2 a3 a4 a5 M) (
    let x2 : Nat := (M.2.2 375 a0 0)
    fi ((M.1 3 x2 (Int32.ofInt 1).toNatClampNeg) = (Int32.ofInt 4)) (
      GX99_extreme_20 a0 a1 a2 a3 a4 a5 M) (
      GX99_extreme_26 a0 a1 a2 a3 a4 a5 M))
def HX99_extreme_0 (a0 : Nat) (a1 : Int32) (a2 : Int32) (a3 : Int32) (a4 : Int32) (a5 : Int32) (M : FM) : Prop := let x1 : Nat := (M.2.2 375 a0 0); (((M.1 3 x1 (Int32.ofInt 0).toNatClampNeg) = (Int32.ofInt 4) → HX99_extreme_20 a0 a1 a2 a3 a4 a5 M) ∧ (¬ ((M.1 3 x1 (Int32.ofInt 0).toNatClampNeg) = (Int32.ofInt 4)) → let x2 : Nat := (M.2.2 375 a0 0); (((M.1 3 x2 (Int32.ofInt 1).toNatClampNeg) = (Int32.ofInt 4) → HX99_extreme_20 a0 a1 a2 a3 a4 a5 M) ∧ (¬ ((M.1 3 x2 (Int32.ofInt 1).toNatClampNeg) = (Int32.ofInt 4)) → HX99_extreme_26 a0 a1 a2 a3 a4 a5 M))))
theorem gX99_extreme_0 (a0 : Nat) (a1 : Int32) (a2 : Int32) (a3 : Int32) (a4 : Int32) (a5 : Int32) (M : FM) (T : Ty M) (n_a0 : fm_is M 96 96 a0 = true) (h : HX99_extreme_0 a0 a1 a2 a3 a4 a5 M) : gd (FX99_extreme_0 a0 a1 a2 a3 a4 a5 M) (GX99_extreme_0 a0 a1 a2 a3 a4 a5 M) (OkR M) := by
  delta FX99_extreme_0 BX99_extreme_0
  refine gd_c n_a0 ?_
  have f4 := (tN_375 T.1 n_a0)
  have f5 := (fm_inl (i := (Int32.ofInt 0)) (tL_375 T.1 n_a0) (by decide))
  refine gd_c ⟨f4, f5⟩ ?_
  refine gd_fi (fun c0_0 => ?_) (fun c0_0 => ?_)
  · exact gd_tR (ext_r _) (gX99_extreme_20 _ _ _ _ _ _ _ ⟨T.1, T.2⟩ n_a0 (h.1 c0_0))
  · refine gd_c n_a0 ?_
    have f2 := (tN_375 T.1 n_a0)
    have f3 := (fm_inl (i := (Int32.ofInt 1)) (tL_375 T.1 n_a0) (by decide))
    refine gd_c ⟨f2, f3⟩ ?_
    refine gd_fi (fun c1_0 => ?_) (fun c1_0 => ?_)
    · exact gd_tR (ext_r _) (gX99_extreme_20 _ _ _ _ _ _ _ ⟨T.1, T.2⟩ n_a0 ((h.2 c0_0).1 c1_0))
    · exact gd_tR (ext_r _) (gX99_extreme_26 _ _ _ _ _ _ _ ⟨T.1, T.2⟩ n_a0 ((h.2 c0_0).2 c1_0))
noncomputable def GX99_extreme (a0 : Nat) (a1 : Int32) (a2 : Int32) (a3 : Int32) (a4 : Int32) (a5 : Int32) (M : FM) : Int32 × FM := GX99_extreme_0 a0 a1 a2 a3 a4 a5 M
def HX99_extreme (a0 : Nat) (a1 : Int32) (a2 : Int32) (a3 : Int32) (a4 : Int32) (a5 : Int32) (M : FM) : Prop := HX99_extreme_0 a0 a1 a2 a3 a4 a5 M
theorem gX99_extreme (a0 : Nat) (a1 : Int32) (a2 : Int32) (a3 : Int32) (a4 : Int32) (a5 : Int32) (M : FM) (T : Ty M) (n_a0 : fm_is M 96 96 a0 = true) (h : HX99_extreme a0 a1 a2 a3 a4 a5 M) : gd (FX99_extreme a0 a1 a2 a3 a4 a5 M) (GX99_extreme a0 a1 a2 a3 a4 a5 M) (OkR M) := gX99_extreme_0 a0 a1 a2 a3 a4 a5 M T n_a0 h
noncomputable def GX99_compared_124 (s0 : Nat) (s1 : Int64) (M : FM) : Int32 × FM :=
  let r1 : Int32 × FM := GX99_tell s0 s1 M
  (r1.1, r1.2)
theorem gX99_compared_124 (s0 : Nat) (s1 : Int64) (M : FM) (T : Ty M) (n_s0 : fm_is M 96 96 s0 = true) : gd (FX99_compared_124 s0 s1 M) (GX99_compared_124 s0 s1 M) (OkR M) := by
  delta FX99_compared_124 BX99_compared_124
  refine gd_c n_s0 ?_
  refine gd_b (gX99_tell _ _ _ ⟨T.1, T.2⟩ n_s0 ) (fun K0 => ?_)
  exact ⟨rfl, ⟨K0.1.1, K0.1.2⟩, K0.2⟩
noncomputable def GX99_compared_111 (a0 : Nat) (s0 : Int32) (M : FM) : Int32 × FM :=
  fi (s0 = 0) (
    GX99_compared_124 a0 (Int64.ofInt 0) M) (
    GX99_compared_124 a0 (Int64.ofInt 1) M)
theorem gX99_compared_111 (a0 : Nat) (s0 : Int32) (M : FM) (T : Ty M) (n_a0 : fm_is M 96 96 a0 = true) : gd (FX99_compared_111 a0 s0 M) (GX99_compared_111 a0 s0 M) (OkR M) := by
  delta FX99_compared_111 BX99_compared_111
  refine gd_fi (fun c0_0 => ?_) (fun c0_0 => ?_)
  · exact gd_tR (ext_r _) (gX99_compared_124 _ _ _ ⟨T.1, T.2⟩ n_a0 )
  · exact gd_tR (ext_r _) (gX99_compared_124 _ _ _ ⟨T.1, T.2⟩ n_a0 )
noncomputable def GX99_compared_48 (a0 : Nat) (M : FM) : Int32 × FM :=
  let r1 : Int32 × FM := GX99_tell a0 (Int64.ofInt 0) M
  (r1.1, r1.2)
theorem gX99_compared_48 (a0 : Nat) (M : FM) (T : Ty M) (n_a0 : fm_is M 96 96 a0 = true) : gd (FX99_compared_48 a0 M) (GX99_compared_48 a0 M) (OkR M) := by
  delta FX99_compared_48 BX99_compared_48
  refine gd_c n_a0 ?_
  refine gd_b (gX99_tell _ _ _ ⟨T.1, T.2⟩ n_a0 ) (fun K0 => ?_)
  exact ⟨rfl, ⟨K0.1.1, K0.1.2⟩, K0.2⟩
noncomputable def GX99_compared_42 (a0 : Nat) (M : FM) : Int32 × FM :=
  let M1 : FM := GX99_raiseFlags a0 (Int32.ofInt 16) M
  GX99_compared_48 a0 M1
theorem gX99_compared_42 (a0 : Nat) (M : FM) (T : Ty M) (n_a0 : fm_is M 96 96 a0 = true) : gd (FX99_compared_42 a0 M) (GX99_compared_42 a0 M) (OkR M) := by
  delta FX99_compared_42 BX99_compared_42
  refine gd_c n_a0 ?_
  refine gd_b (gX99_raiseFlags _ _ _ ⟨T.1, T.2⟩ n_a0 ) (fun K0 => ?_)
  have f1 := (ext_is K0.2 (Nat.zero_lt_succ _) n_a0)
  exact gd_tR K0.2 (gX99_compared_48 _ _ ⟨K0.1.1, K0.1.2⟩ f1 )
noncomputable def GX99_compared_16 (a0 : Nat) (a4 : Int32) (M : FM) : Int32 × FM :=
  fi (a4 < (Int32.ofInt 2)) (
    GX99_compared_42 a0 M) (
    let x1 : Nat := (M.2.2 375 a0 0)
    fi ((M.1 3 x1 (Int32.ofInt 0).toNatClampNeg) = (Int32.ofInt 4)) (
      GX99_compared_42 a0 M) (
      let x2 : Nat := (M.2.2 375 a0 0)
      fi ((M.1 3 x2 (Int32.ofInt 1).toNatClampNeg) = (Int32.ofInt 4)) (
        GX99_compared_42 a0 M) (
        GX99_compared_48 a0 M)))
theorem gX99_compared_16 (a0 : Nat) (a4 : Int32) (M : FM) (T : Ty M) (n_a0 : fm_is M 96 96 a0 = true) : gd (FX99_compared_16 a0 a4 M) (GX99_compared_16 a0 a4 M) (OkR M) := by
  delta FX99_compared_16 BX99_compared_16
  refine gd_fi (fun c0_0 => ?_) (fun c0_0 => ?_)
  · exact gd_tR (ext_r _) (gX99_compared_42 _ _ ⟨T.1, T.2⟩ n_a0 )
  · refine gd_c n_a0 ?_
    have f5 := (tN_375 T.1 n_a0)
    have f6 := (fm_inl (i := (Int32.ofInt 0)) (tL_375 T.1 n_a0) (by decide))
    refine gd_c ⟨f5, f6⟩ ?_
    refine gd_fi (fun c1_0 => ?_) (fun c1_0 => ?_)
    · exact gd_tR (ext_r _) (gX99_compared_42 _ _ ⟨T.1, T.2⟩ n_a0 )
    · refine gd_c n_a0 ?_
      have f3 := (tN_375 T.1 n_a0)
      have f4 := (fm_inl (i := (Int32.ofInt 1)) (tL_375 T.1 n_a0) (by decide))
      refine gd_c ⟨f3, f4⟩ ?_
      refine gd_fi (fun c2_0 => ?_) (fun c2_0 => ?_)
      · exact gd_tR (ext_r _) (gX99_compared_42 _ _ ⟨T.1, T.2⟩ n_a0 )
      · exact gd_tR (ext_r _) (gX99_compared_48 _ _ ⟨T.1, T.2⟩ n_a0 )
noncomputable def GX99_compared_0 (a0 : Nat) (a1 : Int32) (a2 : Int32) (a3 : Int32) (a4 : Int32) (M : FM) : Int32 × FM :=
  let r1 : Int32 × FM := GX99_isNone a0 (Int32.ofInt 0) M
  fi (r1.1 = 0) (
    let r2 : Int32 × FM := GX99_isNone a0 (Int32.ofInt 1) r1.2
    fi (r2.1 = 0) (
      let r3 : Int32 × FM := GX99_order a0 a1 a2 a3 (Int32.ofInt 0) r2.2
      fi (a4 = 0) (
        fi (0 < r3.1) (
          GX99_compared_111 a0 (Int32.ofInt 0) r3.2) (
          GX99_compared_111 a0 (Int32.ofInt 1) r3.2)) (
        fi (a4 = (Int32.ofInt 1)) (
          fi (0 ≤ r3.1) (
            GX99_compared_111 a0 (Int32.ofInt 0) r3.2) (
            GX99_compared_111 a0 (Int32.ofInt 1) r3.2)) (
          fi (r3.1 = 0) (
            GX99_compared_111 a0 (Int32.ofInt 1) r3.2) (
            GX99_compared_111 a0 (Int32.ofInt 0) r3.2)))) (
      GX99_compared_16 a0 a4 r2.2)) (
    GX99_compared_16 a0 a4 r1.2)
def HX99_compared_0 (a0 : Nat) (a1 : Int32) (a2 : Int32) (a3 : Int32) (a4 : Int32) (M : FM) : Prop := (HX99_isNone a0 (Int32.ofInt 0) M ∧ let r1 : Int32 × FM := GX99_isNone a0 (Int32.ofInt 0) M; ((r1.1 = 0 → (HX99_isNone a0 (Int32.ofInt 1) r1.2 ∧ let r2 : Int32 × FM := GX99_isNone a0 (Int32.ofInt 1) r1.2; ((r2.1 = 0 → (HX99_order a0 a1 a2 a3 (Int32.ofInt 0) r2.2 ∧ True)) ∧ (¬ (r2.1 = 0) → True)))) ∧ (¬ (r1.1 = 0) → True)))
theorem gX99_compared_0 (a0 : Nat) (a1 : Int32) (a2 : Int32) (a3 : Int32) (a4 : Int32) (M : FM) (T : Ty M) (n_a0 : fm_is M 96 96 a0 = true) (h : HX99_compared_0 a0 a1 a2 a3 a4 M) : gd (FX99_compared_0 a0 a1 a2 a3 a4 M) (GX99_compared_0 a0 a1 a2 a3 a4 M) (OkR M) := by
  delta FX99_compared_0 BX99_compared_0
  refine gd_c n_a0 ?_
  refine gd_b (gX99_isNone _ _ _ ⟨T.1, T.2⟩ n_a0 h.1) (fun K0 => ?_)
  refine gd_fi (fun c1_0 => ?_) (fun c1_0 => ?_)
  · have f2 := (ext_is K0.2.1 (Nat.zero_lt_succ _) n_a0)
    refine gd_c f2 ?_
    have f20 := (ext_is K0.2.1 (Nat.zero_lt_succ _) n_a0)
    refine gd_b (gX99_isNone _ _ _ ⟨K0.1.1, K0.1.2⟩ f20 (h.2.1 c1_0).1) (fun K3 => ?_)
    refine gd_fi (fun c4_0 => ?_) (fun c4_0 => ?_)
    · have f5 := (ext_is K3.2.1 (Nat.zero_lt_succ _) (ext_is K0.2.1 (Nat.zero_lt_succ _) n_a0))
      refine gd_c f5 ?_
      have f18 := (ext_is K3.2.1 (Nat.zero_lt_succ _) (ext_is K0.2.1 (Nat.zero_lt_succ _) n_a0))
      refine gd_b (gX99_order _ _ _ _ _ _ ⟨K3.1.1, K3.1.2⟩ f18 ((h.2.1 c1_0).2.1 c4_0).1) (fun K6 => ?_)
      refine gd_fi (fun c7_0 => ?_) (fun c7_0 => ?_)
      · refine gd_fi (fun c8_0 => ?_) (fun c8_0 => ?_)
        · have f9 := (ext_is K6.2 (Nat.zero_lt_succ _) (ext_is K3.2.1 (Nat.zero_lt_succ _) (ext_is K0.2.1 (Nat.zero_lt_succ _) n_a0)))
          exact gd_tR (ext_tr K0.2.1 (ext_tr K3.2.1 K6.2)) (gX99_compared_111 _ _ _ ⟨K6.1.1, K6.1.2⟩ f9 )
        · have f10 := (ext_is K6.2 (Nat.zero_lt_succ _) (ext_is K3.2.1 (Nat.zero_lt_succ _) (ext_is K0.2.1 (Nat.zero_lt_succ _) n_a0)))
          exact gd_tR (ext_tr K0.2.1 (ext_tr K3.2.1 K6.2)) (gX99_compared_111 _ _ _ ⟨K6.1.1, K6.1.2⟩ f10 )
      · refine gd_fi (fun c11_0 => ?_) (fun c11_0 => ?_)
        · refine gd_fi (fun c12_0 => ?_) (fun c12_0 => ?_)
          · have f13 := (ext_is K6.2 (Nat.zero_lt_succ _) (ext_is K3.2.1 (Nat.zero_lt_succ _) (ext_is K0.2.1 (Nat.zero_lt_succ _) n_a0)))
            exact gd_tR (ext_tr K0.2.1 (ext_tr K3.2.1 K6.2)) (gX99_compared_111 _ _ _ ⟨K6.1.1, K6.1.2⟩ f13 )
          · have f14 := (ext_is K6.2 (Nat.zero_lt_succ _) (ext_is K3.2.1 (Nat.zero_lt_succ _) (ext_is K0.2.1 (Nat.zero_lt_succ _) n_a0)))
            exact gd_tR (ext_tr K0.2.1 (ext_tr K3.2.1 K6.2)) (gX99_compared_111 _ _ _ ⟨K6.1.1, K6.1.2⟩ f14 )
        · refine gd_fi (fun c15_0 => ?_) (fun c15_0 => ?_)
          · have f16 := (ext_is K6.2 (Nat.zero_lt_succ _) (ext_is K3.2.1 (Nat.zero_lt_succ _) (ext_is K0.2.1 (Nat.zero_lt_succ _) n_a0)))
            exact gd_tR (ext_tr K0.2.1 (ext_tr K3.2.1 K6.2)) (gX99_compared_111 _ _ _ ⟨K6.1.1, K6.1.2⟩ f16 )
          · have f17 := (ext_is K6.2 (Nat.zero_lt_succ _) (ext_is K3.2.1 (Nat.zero_lt_succ _) (ext_is K0.2.1 (Nat.zero_lt_succ _) n_a0)))
            exact gd_tR (ext_tr K0.2.1 (ext_tr K3.2.1 K6.2)) (gX99_compared_111 _ _ _ ⟨K6.1.1, K6.1.2⟩ f17 )
    · have f19 := (ext_is K3.2.1 (Nat.zero_lt_succ _) (ext_is K0.2.1 (Nat.zero_lt_succ _) n_a0))
      exact gd_tR (ext_tr K0.2.1 K3.2.1) (gX99_compared_16 _ _ _ ⟨K3.1.1, K3.1.2⟩ f19 )
  · have f21 := (ext_is K0.2.1 (Nat.zero_lt_succ _) n_a0)
    exact gd_tR K0.2.1 (gX99_compared_16 _ _ _ ⟨K0.1.1, K0.1.2⟩ f21 )
noncomputable def GX99_compared (a0 : Nat) (a1 : Int32) (a2 : Int32) (a3 : Int32) (a4 : Int32) (M : FM) : Int32 × FM := GX99_compared_0 a0 a1 a2 a3 a4 M
def HX99_compared (a0 : Nat) (a1 : Int32) (a2 : Int32) (a3 : Int32) (a4 : Int32) (M : FM) : Prop := HX99_compared_0 a0 a1 a2 a3 a4 M
theorem gX99_compared (a0 : Nat) (a1 : Int32) (a2 : Int32) (a3 : Int32) (a4 : Int32) (M : FM) (T : Ty M) (n_a0 : fm_is M 96 96 a0 = true) (h : HX99_compared a0 a1 a2 a3 a4 M) : gd (FX99_compared a0 a1 a2 a3 a4 M) (GX99_compared a0 a1 a2 a3 a4 M) (OkR M) := gX99_compared_0 a0 a1 a2 a3 a4 M T n_a0 h
noncomputable def GX99_classified_115 (s0 : Nat) (s1 : Int64) (M : FM) : Int32 × FM :=
  let r1 : Int32 × FM := GX99_tell s0 s1 M
  (r1.1, r1.2)
theorem gX99_classified_115 (s0 : Nat) (s1 : Int64) (M : FM) (T : Ty M) (n_s0 : fm_is M 96 96 s0 = true) : gd (FX99_classified_115 s0 s1 M) (GX99_classified_115 s0 s1 M) (OkR M) := by
  delta FX99_classified_115 BX99_classified_115
  refine gd_c n_s0 ?_
  refine gd_b (gX99_tell _ _ _ ⟨T.1, T.2⟩ n_s0 ) (fun K0 => ?_)
  exact ⟨rfl, ⟨K0.1.1, K0.1.2⟩, K0.2⟩
noncomputable def GX99_classified_78 (a0 : Nat) (s0 : Int32) (M : FM) : Int32 × FM :=
  let x1 : Nat := (M.2.2 375 a0 0)
  fi ((M.1 3 x1 (Int32.ofInt 0).toNatClampNeg) = (Int32.ofInt 4)) (
    GX99_classified_115 a0 (Int64.ofInt 256) M) (
    let x2 : Nat := (M.2.2 375 a0 0)
    fi ((M.1 3 x2 (Int32.ofInt 0).toNatClampNeg) = (Int32.ofInt 3)) (
      GX99_classified_115 a0 (Int64.ofInt 512) M) (
      GX99_classified_115 a0 ((Int64.ofInt 1) <<< (s0.toInt64 &&& 63)) M))
theorem gX99_classified_78 (a0 : Nat) (s0 : Int32) (M : FM) (T : Ty M) (n_a0 : fm_is M 96 96 a0 = true) : gd (FX99_classified_78 a0 s0 M) (GX99_classified_78 a0 s0 M) (OkR M) := by
  delta FX99_classified_78 BX99_classified_78
  refine gd_c n_a0 ?_
  have f4 := (tN_375 T.1 n_a0)
  have f5 := (fm_inl (i := (Int32.ofInt 0)) (tL_375 T.1 n_a0) (by decide))
  refine gd_c ⟨f4, f5⟩ ?_
  refine gd_fi (fun c0_0 => ?_) (fun c0_0 => ?_)
  · exact gd_tR (ext_r _) (gX99_classified_115 _ _ _ ⟨T.1, T.2⟩ n_a0 )
  · refine gd_c n_a0 ?_
    have f2 := (tN_375 T.1 n_a0)
    have f3 := (fm_inl (i := (Int32.ofInt 0)) (tL_375 T.1 n_a0) (by decide))
    refine gd_c ⟨f2, f3⟩ ?_
    refine gd_fi (fun c1_0 => ?_) (fun c1_0 => ?_)
    · exact gd_tR (ext_r _) (gX99_classified_115 _ _ _ ⟨T.1, T.2⟩ n_a0 )
    · exact gd_tR (ext_r _) (gX99_classified_115 _ _ _ ⟨T.1, T.2⟩ n_a0 )
noncomputable def GX99_classified_60 (a0 : Nat) (s0 : Int32) (M : FM) : Int32 × FM :=
  let x1 : Nat := (M.2.2 376 a0 0)
  fi ((M.1 3 x1 (Int32.ofInt 0).toNatClampNeg) = 0) (
    GX99_classified_78 a0 ((Int32.ofInt 7) - s0) M) (
    GX99_classified_78 a0 s0 M)
theorem gX99_classified_60 (a0 : Nat) (s0 : Int32) (M : FM) (T : Ty M) (n_a0 : fm_is M 96 96 a0 = true) : gd (FX99_classified_60 a0 s0 M) (GX99_classified_60 a0 s0 M) (OkR M) := by
  delta FX99_classified_60 BX99_classified_60
  refine gd_c n_a0 ?_
  have f1 := (tN_376 T.1 n_a0)
  have f2 := (fm_inl (i := (Int32.ofInt 0)) (tL_376 T.1 n_a0) (by decide))
  refine gd_c ⟨f1, f2⟩ ?_
  refine gd_fi (fun c0_0 => ?_) (fun c0_0 => ?_)
  · exact gd_tR (ext_r _) (gX99_classified_78 _ _ _ ⟨T.1, T.2⟩ n_a0 )
  · exact gd_tR (ext_r _) (gX99_classified_78 _ _ _ ⟨T.1, T.2⟩ n_a0 )
noncomputable def GX99_classified_23 (a0 : Nat) (s0 : Int32) (M : FM) : Int32 × FM :=
  let x1 : Nat := (M.2.2 375 a0 0)
  fi ((M.1 3 x1 (Int32.ofInt 0).toNatClampNeg) = 0) (
    GX99_classified_60 a0 (Int32.ofInt 3) M) (
    let x2 : Nat := (M.2.2 375 a0 0)
    fi ((M.1 3 x2 (Int32.ofInt 0).toNatClampNeg) = (Int32.ofInt 1)) (
      fi (s0 = 0) (
        GX99_classified_60 a0 (Int32.ofInt 1) M) (
        GX99_classified_60 a0 (Int32.ofInt 2) M)) (
      GX99_classified_60 a0 (Int32.ofInt 0) M))
theorem gX99_classified_23 (a0 : Nat) (s0 : Int32) (M : FM) (T : Ty M) (n_a0 : fm_is M 96 96 a0 = true) : gd (FX99_classified_23 a0 s0 M) (GX99_classified_23 a0 s0 M) (OkR M) := by
  delta FX99_classified_23 BX99_classified_23
  refine gd_c n_a0 ?_
  have f5 := (tN_375 T.1 n_a0)
  have f6 := (fm_inl (i := (Int32.ofInt 0)) (tL_375 T.1 n_a0) (by decide))
  refine gd_c ⟨f5, f6⟩ ?_
  refine gd_fi (fun c0_0 => ?_) (fun c0_0 => ?_)
  · exact gd_tR (ext_r _) (gX99_classified_60 _ _ _ ⟨T.1, T.2⟩ n_a0 )
  · refine gd_c n_a0 ?_
    have f3 := (tN_375 T.1 n_a0)
    have f4 := (fm_inl (i := (Int32.ofInt 0)) (tL_375 T.1 n_a0) (by decide))
    refine gd_c ⟨f3, f4⟩ ?_
    refine gd_fi (fun c1_0 => ?_) (fun c1_0 => ?_)
    · refine gd_fi (fun c2_0 => ?_) (fun c2_0 => ?_)
      · exact gd_tR (ext_r _) (gX99_classified_60 _ _ _ ⟨T.1, T.2⟩ n_a0 )
      · exact gd_tR (ext_r _) (gX99_classified_60 _ _ _ ⟨T.1, T.2⟩ n_a0 )
    · exact gd_tR (ext_r _) (gX99_classified_60 _ _ _ ⟨T.1, T.2⟩ n_a0 )
noncomputable def GX99_classified_0 (a0 : Nat) (a1 : Int32) (M : FM) : Int32 × FM :=
  let x1 : Nat := (M.2.2 377 a0 0)
  let x2 : Nat := (M.2.2 372 a0 0)
  fi (0 ≤ (lg_cmp (M.2.1 3 x1 (Int32.ofInt 0).toNatClampNeg) ((Int64.ofInt 1) <<< ((M.1 3 x2 a1.toNatClampNeg).toInt64 &&& 63)))) (
    GX99_classified_23 a0 (Int32.ofInt 0) M) (
    GX99_classified_23 a0 (Int32.ofInt 1) M)
def HX99_classified_0 (a0 : Nat) (a1 : Int32) (M : FM) : Prop := let x1 : Nat := (M.2.2 377 a0 0); let x2 : Nat := (M.2.2 372 a0 0); (fm_in M x2 a1 = true ∧ True)
theorem gX99_classified_0 (a0 : Nat) (a1 : Int32) (M : FM) (T : Ty M) (n_a0 : fm_is M 96 96 a0 = true) (h : HX99_classified_0 a0 a1 M) : gd (FX99_classified_0 a0 a1 M) (GX99_classified_0 a0 a1 M) (OkR M) := by
  delta FX99_classified_0 BX99_classified_0
  refine gd_c n_a0 ?_
  have f2 := (tN_377 T.1 n_a0)
  have f3 := (fm_inl (i := (Int32.ofInt 0)) (tL_377 T.1 n_a0) (by decide))
  refine gd_c ⟨f2, f3⟩ ?_
  refine gd_c n_a0 ?_
  have f1 := (tN_372 T.1 n_a0)
  refine gd_c ⟨f1, h.1⟩ ?_
  refine gd_fi (fun c0_0 => ?_) (fun c0_0 => ?_)
  · exact gd_tR (ext_r _) (gX99_classified_23 _ _ _ ⟨T.1, T.2⟩ n_a0 )
  · exact gd_tR (ext_r _) (gX99_classified_23 _ _ _ ⟨T.1, T.2⟩ n_a0 )
noncomputable def GX99_classified (a0 : Nat) (a1 : Int32) (M : FM) : Int32 × FM := GX99_classified_0 a0 a1 M
def HX99_classified (a0 : Nat) (a1 : Int32) (M : FM) : Prop := HX99_classified_0 a0 a1 M
theorem gX99_classified (a0 : Nat) (a1 : Int32) (M : FM) (T : Ty M) (n_a0 : fm_is M 96 96 a0 = true) (h : HX99_classified a0 a1 M) : gd (FX99_classified a0 a1 M) (GX99_classified a0 a1 M) (OkR M) := gX99_classified_0 a0 a1 M T n_a0 h
noncomputable def GX99_plain_249 (M : FM) : Int32 × FM :=
  ((Int32.ofInt (-1)), M)
theorem gX99_plain_249 (M : FM) (T : Ty M) : gd (FX99_plain_249 M) (GX99_plain_249 M) (OkR M) := by
  delta FX99_plain_249 BX99_plain_249
  exact ⟨rfl, ⟨T.1, T.2⟩, (ext_r _)⟩
noncomputable def GX99_plain_243 (a5 : Int32) (s0 : Nat) (s1 : Int32) (s2 : Int64) (M : FM) : Int32 × FM :=
  let r1 : Int32 × FM := GX99_write s0 s1 s2 a5 M
  (r1.1, r1.2)
def HX99_plain_243 (a5 : Int32) (s0 : Nat) (s1 : Int32) (s2 : Int64) (M : FM) : Prop := (HX99_write s0 s1 s2 a5 M ∧ True)
theorem gX99_plain_243 (a5 : Int32) (s0 : Nat) (s1 : Int32) (s2 : Int64) (M : FM) (T : Ty M) (n_s0 : fm_is M 96 96 s0 = true) (h : HX99_plain_243 a5 s0 s1 s2 M) : gd (FX99_plain_243 a5 s0 s1 s2 M) (GX99_plain_243 a5 s0 s1 s2 M) (OkR M) := by
  delta FX99_plain_243 BX99_plain_243
  refine gd_c n_s0 ?_
  refine gd_b (gX99_write _ _ _ _ _ ⟨T.1, T.2⟩ n_s0 h.1) (fun K0 => ?_)
  exact ⟨rfl, ⟨K0.1.1, K0.1.2⟩, K0.2⟩
noncomputable def GX99_plain_208 (a0 : Nat) (a1 : Int32) (a2 : Int32) (a4 : Int32) (a5 : Int32) (a6 : Int32) (a7 : Int64) (M : FM) : Int32 × FM :=
  fi (a1 = (Int32.ofInt 30)) (
    fi (a4 = 0) (
      fi (a6 = 0) (
        fi (a5 = (Int32.ofInt 1)) (
          GX99_plain_243 a5 a0 a2 a7 M) (
          GX99_plain_243 a5 a0 a2 (a7 &&& (Int64.ofInt 4294967295)) M)) (
        GX99_plain_249 M)) (
      GX99_plain_249 M)) (
    GX99_plain_249 M)
def HX99_plain_208 (a0 : Nat) (a1 : Int32) (a2 : Int32) (a4 : Int32) (a5 : Int32) (a6 : Int32) (a7 : Int64) (M : FM) : Prop := ((a1 = (Int32.ofInt 30) → ((a4 = 0 → ((a6 = 0 → ((a5 = (Int32.ofInt 1) → HX99_plain_243 a5 a0 a2 a7 M) ∧ (¬ (a5 = (Int32.ofInt 1)) → HX99_plain_243 a5 a0 a2 (a7 &&& (Int64.ofInt 4294967295)) M))) ∧ (¬ (a6 = 0) → True))) ∧ (¬ (a4 = 0) → True))) ∧ (¬ (a1 = (Int32.ofInt 30)) → True))
theorem gX99_plain_208 (a0 : Nat) (a1 : Int32) (a2 : Int32) (a4 : Int32) (a5 : Int32) (a6 : Int32) (a7 : Int64) (M : FM) (T : Ty M) (n_a0 : fm_is M 96 96 a0 = true) (h : HX99_plain_208 a0 a1 a2 a4 a5 a6 a7 M) : gd (FX99_plain_208 a0 a1 a2 a4 a5 a6 a7 M) (GX99_plain_208 a0 a1 a2 a4 a5 a6 a7 M) (OkR M) := by
  delta FX99_plain_208 BX99_plain_208
  refine gd_fi (fun c0_0 => ?_) (fun c0_0 => ?_)
  · refine gd_fi (fun c1_0 => ?_) (fun c1_0 => ?_)
    · refine gd_fi (fun c2_0 => ?_) (fun c2_0 => ?_)
      · refine gd_fi (fun c3_0 => ?_) (fun c3_0 => ?_)
        · exact gd_tR (ext_r _) (gX99_plain_243 _ _ _ _ _ ⟨T.1, T.2⟩ n_a0 ((((h.1 c0_0).1 c1_0).1 c2_0).1 c3_0))
        · exact gd_tR (ext_r _) (gX99_plain_243 _ _ _ _ _ ⟨T.1, T.2⟩ n_a0 ((((h.1 c0_0).1 c1_0).1 c2_0).2 c3_0))
      · exact gd_tR (ext_r _) (gX99_plain_249  _ ⟨T.1, T.2⟩  )
    · exact gd_tR (ext_r _) (gX99_plain_249  _ ⟨T.1, T.2⟩  )
  · exact gd_tR (ext_r _) (gX99_plain_249  _ ⟨T.1, T.2⟩  )
noncomputable def GX99_plain_207 (s0 : Int32) (M : FM) : Int32 × FM :=
  (s0, M)
theorem gX99_plain_207 (s0 : Int32) (M : FM) (T : Ty M) : gd (FX99_plain_207 s0 M) (GX99_plain_207 s0 M) (OkR M) := by
  delta FX99_plain_207 BX99_plain_207
  exact ⟨rfl, ⟨T.1, T.2⟩, (ext_r _)⟩
noncomputable def GX99_plain_204 (s0 : Nat) (s1 : Int64) (M : FM) : Int32 × FM :=
  let r1 : Int32 × FM := GX99_tell s0 s1 M
  GX99_plain_207 r1.1 r1.2
theorem gX99_plain_204 (s0 : Nat) (s1 : Int64) (M : FM) (T : Ty M) (n_s0 : fm_is M 96 96 s0 = true) : gd (FX99_plain_204 s0 s1 M) (GX99_plain_204 s0 s1 M) (OkR M) := by
  delta FX99_plain_204 BX99_plain_204
  refine gd_c n_s0 ?_
  refine gd_b (gX99_tell _ _ _ ⟨T.1, T.2⟩ n_s0 ) (fun K0 => ?_)
  exact gd_tR K0.2 (gX99_plain_207 _ _ ⟨K0.1.1, K0.1.2⟩  )
noncomputable def GX99_plain_148 (a0 : Nat) (a1 : Int32) (a2 : Int32) (a3 : Int32) (a4 : Int32) (a5 : Int32) (a6 : Int32) (a7 : Int64) (M : FM) : Int32 × FM :=
  fi (a1 = (Int32.ofInt 28)) (
    fi (a4 = 0) (
      fi ((Int32.ofInt 2) ≤ a6) (
        GX99_plain_208 a0 a1 a2 a4 a5 a6 a7 M) (
        fi (a6 = (Int32.ofInt 1)) (
          let r1 : Int32 × FM := GX99_classified a0 a5 M
          GX99_plain_207 r1.1 r1.2) (
          fi (a5 = (Int32.ofInt 1)) (
            let x2 : Nat := (M.2.2 367 a0 0)
            GX99_plain_204 a0 (M.2.1 3 x2 a3.toNatClampNeg) M) (
            let x3 : Nat := (M.2.2 367 a0 0)
            GX99_plain_204 a0 (((M.2.1 3 x3 a3.toNatClampNeg).toInt32).toInt64) M)))) (
      GX99_plain_208 a0 a1 a2 a4 a5 a6 a7 M)) (
    GX99_plain_208 a0 a1 a2 a4 a5 a6 a7 M)
def HX99_plain_148 (a0 : Nat) (a1 : Int32) (a2 : Int32) (a3 : Int32) (a4 : Int32) (a5 : Int32) (a6 : Int32) (a7 : Int64) (M : FM) : Prop := ((a1 = (Int32.ofInt 28) → ((a4 = 0 → (((Int32.ofInt 2) ≤ a6 → HX99_plain_208 a0 a1 a2 a4 a5 a6 a7 M) ∧ (¬ ((Int32.ofInt 2) ≤ a6) → ((a6 = (Int32.ofInt 1) → (HX99_classified a0 a5 M ∧ True)) ∧ (¬ (a6 = (Int32.ofInt 1)) → ((a5 = (Int32.ofInt 1) → let x2 : Nat := (M.2.2 367 a0 0); (fm_in M x2 a3 = true ∧ True)) ∧ (¬ (a5 = (Int32.ofInt 1)) → let x3 : Nat := (M.2.2 367 a0 0); (fm_in M x3 a3 = true ∧ True)))))))) ∧ (¬ (a4 = 0) → HX99_plain_208 a0 a1 a2 a4 a5 a6 a7 M))) ∧ (¬ (a1 = (Int32.ofInt 28)) → HX99_plain_208 a0 a1 a2 a4 a5 a6 a7 M))
theorem gX99_plain_148 (a0 : Nat) (a1 : Int32) (a2 : Int32) (a3 : Int32) (a4 : Int32) (a5 : Int32) (a6 : Int32) (a7 : Int64) (M : FM) (T : Ty M) (n_a0 : fm_is M 96 96 a0 = true) (h : HX99_plain_148 a0 a1 a2 a3 a4 a5 a6 a7 M) : gd (FX99_plain_148 a0 a1 a2 a3 a4 a5 a6 a7 M) (GX99_plain_148 a0 a1 a2 a3 a4 a5 a6 a7 M) (OkR M) := by
  delta FX99_plain_148 BX99_plain_148
  refine gd_fi (fun c0_0 => ?_) (fun c0_0 => ?_)
  · refine gd_fi (fun c1_0 => ?_) (fun c1_0 => ?_)
    · refine gd_fi (fun c2_0 => ?_) (fun c2_0 => ?_)
      · exact gd_tR (ext_r _) (gX99_plain_208 _ _ _ _ _ _ _ _ ⟨T.1, T.2⟩ n_a0 (((h.1 c0_0).1 c1_0).1 c2_0))
      · refine gd_fi (fun c3_0 => ?_) (fun c3_0 => ?_)
        · refine gd_c n_a0 ?_
          refine gd_b (gX99_classified _ _ _ ⟨T.1, T.2⟩ n_a0 ((((h.1 c0_0).1 c1_0).2 c2_0).1 c3_0).1) (fun K4 => ?_)
          exact gd_tR K4.2 (gX99_plain_207 _ _ ⟨K4.1.1, K4.1.2⟩  )
        · refine gd_fi (fun c5_0 => ?_) (fun c5_0 => ?_)
          · refine gd_c n_a0 ?_
            have f6 := (tN_367 T.1 n_a0)
            have f7 := (((((h.1 c0_0).1 c1_0).2 c2_0).2 c3_0).1 c5_0).1
            refine gd_c ⟨f6, f7⟩ ?_
            exact gd_tR (ext_r _) (gX99_plain_204 _ _ _ ⟨T.1, T.2⟩ n_a0 )
          · refine gd_c n_a0 ?_
            have f8 := (tN_367 T.1 n_a0)
            have f9 := (((((h.1 c0_0).1 c1_0).2 c2_0).2 c3_0).2 c5_0).1
            refine gd_c ⟨f8, f9⟩ ?_
            exact gd_tR (ext_r _) (gX99_plain_204 _ _ _ ⟨T.1, T.2⟩ n_a0 )
    · exact gd_tR (ext_r _) (gX99_plain_208 _ _ _ _ _ _ _ _ ⟨T.1, T.2⟩ n_a0 ((h.1 c0_0).2 c1_0))
  · exact gd_tR (ext_r _) (gX99_plain_208 _ _ _ _ _ _ _ _ ⟨T.1, T.2⟩ n_a0 (h.2 c0_0))
noncomputable def GX99_plain_124 (a0 : Nat) (a1 : Int32) (a2 : Int32) (a3 : Int32) (a4 : Int32) (a5 : Int32) (a6 : Int32) (a7 : Int64) (M : FM) : Int32 × FM :=
  fi (a1 = (Int32.ofInt 20)) (
    fi ((Int32.ofInt 3) ≤ a6) (
      GX99_plain_148 a0 a1 a2 a3 a4 a5 a6 a7 M) (
      let r1 : Int32 × FM := GX99_compared a0 a3 a4 a5 a6 M
      (r1.1, r1.2))) (
    GX99_plain_148 a0 a1 a2 a3 a4 a5 a6 a7 M)
def HX99_plain_124 (a0 : Nat) (a1 : Int32) (a2 : Int32) (a3 : Int32) (a4 : Int32) (a5 : Int32) (a6 : Int32) (a7 : Int64) (M : FM) : Prop := ((a1 = (Int32.ofInt 20) → (((Int32.ofInt 3) ≤ a6 → HX99_plain_148 a0 a1 a2 a3 a4 a5 a6 a7 M) ∧ (¬ ((Int32.ofInt 3) ≤ a6) → (HX99_compared a0 a3 a4 a5 a6 M ∧ True)))) ∧ (¬ (a1 = (Int32.ofInt 20)) → HX99_plain_148 a0 a1 a2 a3 a4 a5 a6 a7 M))
theorem gX99_plain_124 (a0 : Nat) (a1 : Int32) (a2 : Int32) (a3 : Int32) (a4 : Int32) (a5 : Int32) (a6 : Int32) (a7 : Int64) (M : FM) (T : Ty M) (n_a0 : fm_is M 96 96 a0 = true) (h : HX99_plain_124 a0 a1 a2 a3 a4 a5 a6 a7 M) : gd (FX99_plain_124 a0 a1 a2 a3 a4 a5 a6 a7 M) (GX99_plain_124 a0 a1 a2 a3 a4 a5 a6 a7 M) (OkR M) := by
  delta FX99_plain_124 BX99_plain_124
  refine gd_fi (fun c0_0 => ?_) (fun c0_0 => ?_)
  · refine gd_fi (fun c1_0 => ?_) (fun c1_0 => ?_)
    · exact gd_tR (ext_r _) (gX99_plain_148 _ _ _ _ _ _ _ _ _ ⟨T.1, T.2⟩ n_a0 ((h.1 c0_0).1 c1_0))
    · refine gd_c n_a0 ?_
      refine gd_b (gX99_compared _ _ _ _ _ _ ⟨T.1, T.2⟩ n_a0 ((h.1 c0_0).2 c1_0).1) (fun K2 => ?_)
      exact ⟨rfl, ⟨K2.1.1, K2.1.2⟩, K2.2⟩
  · exact gd_tR (ext_r _) (gX99_plain_148 _ _ _ _ _ _ _ _ _ ⟨T.1, T.2⟩ n_a0 (h.2 c0_0))
noncomputable def GX99_plain_100 (a0 : Nat) (a1 : Int32) (a2 : Int32) (a3 : Int32) (a4 : Int32) (a5 : Int32) (a6 : Int32) (a7 : Int64) (M : FM) : Int32 × FM :=
  fi (a1 = (Int32.ofInt 5)) (
    fi ((Int32.ofInt 2) ≤ a6) (
      GX99_plain_124 a0 a1 a2 a3 a4 a5 a6 a7 M) (
      let r1 : Int32 × FM := GX99_extreme a0 a2 a3 a4 a5 a6 M
      (r1.1, r1.2))) (
    GX99_plain_124 a0 a1 a2 a3 a4 a5 a6 a7 M)
def HX99_plain_100 (a0 : Nat) (a1 : Int32) (a2 : Int32) (a3 : Int32) (a4 : Int32) (a5 : Int32) (a6 : Int32) (a7 : Int64) (M : FM) : Prop := ((a1 = (Int32.ofInt 5) → (((Int32.ofInt 2) ≤ a6 → HX99_plain_124 a0 a1 a2 a3 a4 a5 a6 a7 M) ∧ (¬ ((Int32.ofInt 2) ≤ a6) → (HX99_extreme a0 a2 a3 a4 a5 a6 M ∧ True)))) ∧ (¬ (a1 = (Int32.ofInt 5)) → HX99_plain_124 a0 a1 a2 a3 a4 a5 a6 a7 M))
theorem gX99_plain_100 (a0 : Nat) (a1 : Int32) (a2 : Int32) (a3 : Int32) (a4 : Int32) (a5 : Int32) (a6 : Int32) (a7 : Int64) (M : FM) (T : Ty M) (n_a0 : fm_is M 96 96 a0 = true) (h : HX99_plain_100 a0 a1 a2 a3 a4 a5 a6 a7 M) : gd (FX99_plain_100 a0 a1 a2 a3 a4 a5 a6 a7 M) (GX99_plain_100 a0 a1 a2 a3 a4 a5 a6 a7 M) (OkR M) := by
  delta FX99_plain_100 BX99_plain_100
  refine gd_fi (fun c0_0 => ?_) (fun c0_0 => ?_)
  · refine gd_fi (fun c1_0 => ?_) (fun c1_0 => ?_)
    · exact gd_tR (ext_r _) (gX99_plain_124 _ _ _ _ _ _ _ _ _ ⟨T.1, T.2⟩ n_a0 ((h.1 c0_0).1 c1_0))
    · refine gd_c n_a0 ?_
      refine gd_b (gX99_extreme _ _ _ _ _ _ _ ⟨T.1, T.2⟩ n_a0 ((h.1 c0_0).2 c1_0).1) (fun K2 => ?_)
      exact ⟨rfl, ⟨K2.1.1, K2.1.2⟩, K2.2⟩
  · exact gd_tR (ext_r _) (gX99_plain_124 _ _ _ _ _ _ _ _ _ ⟨T.1, T.2⟩ n_a0 (h.2 c0_0))
noncomputable def GX99_plain_72 (a0 : Nat) (a2 : Int32) (a3 : Int32) (a5 : Int32) (a9 : Int64) (s0 : Int32) (M : FM) : Int32 × FM :=
  let r1 : Int64 × FM := GX99_bitsOf a0 a3 a5 M
  let r2 : Int64 × FM := GX99_pack s0 (Int64.ofInt 0) (r1.1 &&& a9) a5 r1.2
  let r3 : Int32 × FM := GX99_write a0 a2 r2.1 a5 r2.2
  (r3.1, r3.2)
def HX99_plain_72 (a0 : Nat) (a2 : Int32) (a3 : Int32) (a5 : Int32) (a9 : Int64) (s0 : Int32) (M : FM) : Prop := (HX99_bitsOf a0 a3 a5 M ∧ let r1 : Int64 × FM := GX99_bitsOf a0 a3 a5 M; let r2 : Int64 × FM := GX99_pack s0 (Int64.ofInt 0) (r1.1 &&& a9) a5 r1.2; (HX99_write a0 a2 r2.1 a5 r2.2 ∧ True))
theorem gX99_plain_72 (a0 : Nat) (a2 : Int32) (a3 : Int32) (a5 : Int32) (a9 : Int64) (s0 : Int32) (M : FM) (T : Ty M) (n_a0 : fm_is M 96 96 a0 = true) (h : HX99_plain_72 a0 a2 a3 a5 a9 s0 M) : gd (FX99_plain_72 a0 a2 a3 a5 a9 s0 M) (GX99_plain_72 a0 a2 a3 a5 a9 s0 M) (OkR M) := by
  delta FX99_plain_72 BX99_plain_72
  refine gd_c n_a0 ?_
  refine gd_b (gX99_bitsOf _ _ _ _ ⟨T.1, T.2⟩ n_a0 h.1) (fun K0 => ?_)
  refine gd_b (gX99_pack _ _ _ _ _ ⟨K0.1.1, K0.1.2⟩  ) (fun K1 => ?_)
  have f2 := (ext_is K1.2 (Nat.zero_lt_succ _) (ext_is K0.2 (Nat.zero_lt_succ _) n_a0))
  refine gd_c f2 ?_
  have f4 := (ext_is K1.2 (Nat.zero_lt_succ _) (ext_is K0.2 (Nat.zero_lt_succ _) n_a0))
  refine gd_b (gX99_write _ _ _ _ _ ⟨K1.1.1, K1.1.2⟩ f4 h.2.1) (fun K3 => ?_)
  exact ⟨rfl, ⟨K3.1.1, K3.1.2⟩, (ext_tr K0.2 (ext_tr K1.2 K3.2))⟩
noncomputable def GX99_plain_26 (a0 : Nat) (a2 : Int32) (a3 : Int32) (a5 : Int32) (a6 : Int32) (s0 : Int64) (M : FM) : Int32 × FM :=
  fi (a6 = 0) (
    let x1 : Nat := (M.2.2 376 a0 0)
    GX99_plain_72 a0 a2 a3 a5 s0 (M.1 3 x1 (Int32.ofInt 1).toNatClampNeg) M) (
    fi (a6 = (Int32.ofInt 1)) (
      let x2 : Nat := (M.2.2 376 a0 0)
      GX99_plain_72 a0 a2 a3 a5 s0 ((Int32.ofInt 1) - (M.1 3 x2 (Int32.ofInt 1).toNatClampNeg)) M) (
      let x3 : Nat := (M.2.2 376 a0 0)
      let x4 : Nat := (M.2.2 376 a0 0)
      GX99_plain_72 a0 a2 a3 a5 s0 ((M.1 3 x3 (Int32.ofInt 0).toNatClampNeg) ^^^ (M.1 3 x4 (Int32.ofInt 1).toNatClampNeg)) M))
def HX99_plain_26 (a0 : Nat) (a2 : Int32) (a3 : Int32) (a5 : Int32) (a6 : Int32) (s0 : Int64) (M : FM) : Prop := ((a6 = 0 → let x1 : Nat := (M.2.2 376 a0 0); HX99_plain_72 a0 a2 a3 a5 s0 (M.1 3 x1 (Int32.ofInt 1).toNatClampNeg) M) ∧ (¬ (a6 = 0) → ((a6 = (Int32.ofInt 1) → let x2 : Nat := (M.2.2 376 a0 0); HX99_plain_72 a0 a2 a3 a5 s0 ((Int32.ofInt 1) - (M.1 3 x2 (Int32.ofInt 1).toNatClampNeg)) M) ∧ (¬ (a6 = (Int32.ofInt 1)) → let x3 : Nat := (M.2.2 376 a0 0); let x4 : Nat := (M.2.2 376 a0 0); HX99_plain_72 a0 a2 a3 a5 s0 ((M.1 3 x3 (Int32.ofInt 0).toNatClampNeg) ^^^ (M.1 3 x4 (Int32.ofInt 1).toNatClampNeg)) M))))
theorem gX99_plain_26 (a0 : Nat) (a2 : Int32) (a3 : Int32) (a5 : Int32) (a6 : Int32) (s0 : Int64) (M : FM) (T : Ty M) (n_a0 : fm_is M 96 96 a0 = true) (h : HX99_plain_26 a0 a2 a3 a5 a6 s0 M) : gd (FX99_plain_26 a0 a2 a3 a5 a6 s0 M) (GX99_plain_26 a0 a2 a3 a5 a6 s0 M) (OkR M) := by
  delta FX99_plain_26 BX99_plain_26
  refine gd_fi (fun c0_0 => ?_) (fun c0_0 => ?_)
  · refine gd_c n_a0 ?_
    have f1 := (tN_376 T.1 n_a0)
    have f2 := (fm_inl (i := (Int32.ofInt 1)) (tL_376 T.1 n_a0) (by decide))
    refine gd_c ⟨f1, f2⟩ ?_
    exact gd_tR (ext_r _) (gX99_plain_72 _ _ _ _ _ _ _ ⟨T.1, T.2⟩ n_a0 (h.1 c0_0))
  · refine gd_fi (fun c3_0 => ?_) (fun c3_0 => ?_)
    · refine gd_c n_a0 ?_
      have f4 := (tN_376 T.1 n_a0)
      have f5 := (fm_inl (i := (Int32.ofInt 1)) (tL_376 T.1 n_a0) (by decide))
      refine gd_c ⟨f4, f5⟩ ?_
      exact gd_tR (ext_r _) (gX99_plain_72 _ _ _ _ _ _ _ ⟨T.1, T.2⟩ n_a0 ((h.2 c0_0).1 c3_0))
    · refine gd_c n_a0 ?_
      have f8 := (tN_376 T.1 n_a0)
      have f9 := (fm_inl (i := (Int32.ofInt 0)) (tL_376 T.1 n_a0) (by decide))
      refine gd_c ⟨f8, f9⟩ ?_
      refine gd_c n_a0 ?_
      have f6 := (tN_376 T.1 n_a0)
      have f7 := (fm_inl (i := (Int32.ofInt 1)) (tL_376 T.1 n_a0) (by decide))
      refine gd_c ⟨f6, f7⟩ ?_
      exact gd_tR (ext_r _) (gX99_plain_72 _ _ _ _ _ _ _ ⟨T.1, T.2⟩ n_a0 ((h.2 c0_0).2 c3_0))
noncomputable def GX99_plain_0 (a0 : Nat) (a1 : Int32) (a2 : Int32) (a3 : Int32) (a4 : Int32) (a5 : Int32) (a6 : Int32) (a7 : Int64) (M : FM) : Int32 × FM :=
  fi (a1 = (Int32.ofInt 4)) (
    fi ((Int32.ofInt 3) ≤ a6) (
      GX99_plain_100 a0 a1 a2 a3 a4 a5 a6 a7 M) (
      fi (a5 = (Int32.ofInt 1)) (
        GX99_plain_26 a0 a2 a3 a5 a6 (Int64.ofInt 9223372036854775807) M) (
        GX99_plain_26 a0 a2 a3 a5 a6 (Int64.ofInt 2147483647) M))) (
    GX99_plain_100 a0 a1 a2 a3 a4 a5 a6 a7 M)
def HX99_plain_0 (a0 : Nat) (a1 : Int32) (a2 : Int32) (a3 : Int32) (a4 : Int32) (a5 : Int32) (a6 : Int32) (a7 : Int64) (M : FM) : Prop := ((a1 = (Int32.ofInt 4) → (((Int32.ofInt 3) ≤ a6 → HX99_plain_100 a0 a1 a2 a3 a4 a5 a6 a7 M) ∧ (¬ ((Int32.ofInt 3) ≤ a6) → ((a5 = (Int32.ofInt 1) → HX99_plain_26 a0 a2 a3 a5 a6 (Int64.ofInt 9223372036854775807) M) ∧ (¬ (a5 = (Int32.ofInt 1)) → HX99_plain_26 a0 a2 a3 a5 a6 (Int64.ofInt 2147483647) M))))) ∧ (¬ (a1 = (Int32.ofInt 4)) → HX99_plain_100 a0 a1 a2 a3 a4 a5 a6 a7 M))
theorem gX99_plain_0 (a0 : Nat) (a1 : Int32) (a2 : Int32) (a3 : Int32) (a4 : Int32) (a5 : Int32) (a6 : Int32) (a7 : Int64) (M : FM) (T : Ty M) (n_a0 : fm_is M 96 96 a0 = true) (h : HX99_plain_0 a0 a1 a2 a3 a4 a5 a6 a7 M) : gd (FX99_plain_0 a0 a1 a2 a3 a4 a5 a6 a7 M) (GX99_plain_0 a0 a1 a2 a3 a4 a5 a6 a7 M) (OkR M) := by
  delta FX99_plain_0 BX99_plain_0
  refine gd_fi (fun c0_0 => ?_) (fun c0_0 => ?_)
  · refine gd_fi (fun c1_0 => ?_) (fun c1_0 => ?_)
    · exact gd_tR (ext_r _) (gX99_plain_100 _ _ _ _ _ _ _ _ _ ⟨T.1, T.2⟩ n_a0 ((h.1 c0_0).1 c1_0))
    · refine gd_fi (fun c2_0 => ?_) (fun c2_0 => ?_)
      · exact gd_tR (ext_r _) (gX99_plain_26 _ _ _ _ _ _ _ ⟨T.1, T.2⟩ n_a0 (((h.1 c0_0).2 c1_0).1 c2_0))
      · exact gd_tR (ext_r _) (gX99_plain_26 _ _ _ _ _ _ _ ⟨T.1, T.2⟩ n_a0 (((h.1 c0_0).2 c1_0).2 c2_0))
  · exact gd_tR (ext_r _) (gX99_plain_100 _ _ _ _ _ _ _ _ _ ⟨T.1, T.2⟩ n_a0 (h.2 c0_0))
noncomputable def GX99_plain (a0 : Nat) (a1 : Int32) (a2 : Int32) (a3 : Int32) (a4 : Int32) (a5 : Int32) (a6 : Int32) (a7 : Int64) (M : FM) : Int32 × FM := GX99_plain_0 a0 a1 a2 a3 a4 a5 a6 a7 M
def HX99_plain (a0 : Nat) (a1 : Int32) (a2 : Int32) (a3 : Int32) (a4 : Int32) (a5 : Int32) (a6 : Int32) (a7 : Int64) (M : FM) : Prop := HX99_plain_0 a0 a1 a2 a3 a4 a5 a6 a7 M
theorem gX99_plain (a0 : Nat) (a1 : Int32) (a2 : Int32) (a3 : Int32) (a4 : Int32) (a5 : Int32) (a6 : Int32) (a7 : Int64) (M : FM) (T : Ty M) (n_a0 : fm_is M 96 96 a0 = true) (h : HX99_plain a0 a1 a2 a3 a4 a5 a6 a7 M) : gd (FX99_plain a0 a1 a2 a3 a4 a5 a6 a7 M) (GX99_plain a0 a1 a2 a3 a4 a5 a6 a7 M) (OkR M) := gX99_plain_0 a0 a1 a2 a3 a4 a5 a6 a7 M T n_a0 h
noncomputable def GX99_run_293 (s0 : Int32) (M : FM) : Int32 × FM :=
  (s0, M)
theorem gX99_run_293 (s0 : Int32) (M : FM) (T : Ty M) : gd (FX99_run_293 fN s0 M) (GX99_run_293 s0 M) (OkR M) := by
  delta FX99_run_293 BX99_run_293
  exact ⟨rfl, ⟨T.1, T.2⟩, (ext_r _)⟩
noncomputable def GX99_run_266 (a0 : Nat) (a2 : Int64) (a6 : Int32) (a7 : Int32) (a8 : Int32) (a9 : Int32) (a10 : Int32) (a11 : Int32) (M : FM) : Int32 × FM :=
  fi (a11 ≤ (Int32.ofInt 4)) (
    let r1 : Int32 × FM := GX99_arithmetic a0 a7 a8 a9 a10 a6 a11 a2 M
    GX99_run_293 r1.1 r1.2) (
    GX99_run_293 (Int32.ofInt (-1)) M)
def HX99_run_266 (a0 : Nat) (a2 : Int64) (a6 : Int32) (a7 : Int32) (a8 : Int32) (a9 : Int32) (a10 : Int32) (a11 : Int32) (M : FM) : Prop := ((a11 ≤ (Int32.ofInt 4) → (HX99_arithmetic a0 a7 a8 a9 a10 a6 a11 a2 M ∧ True)) ∧ (¬ (a11 ≤ (Int32.ofInt 4)) → True))
theorem gX99_run_266 (a0 : Nat) (a2 : Int64) (a6 : Int32) (a7 : Int32) (a8 : Int32) (a9 : Int32) (a10 : Int32) (a11 : Int32) (M : FM) (T : Ty M) (n_a0 : fm_is M 96 96 a0 = true) (h : HX99_run_266 a0 a2 a6 a7 a8 a9 a10 a11 M) : gd (FX99_run_266 fN a0 a2 a6 a7 a8 a9 a10 a11 M) (GX99_run_266 a0 a2 a6 a7 a8 a9 a10 a11 M) (OkR M) := by
  delta FX99_run_266 BX99_run_266
  refine gd_fi (fun c0_0 => ?_) (fun c0_0 => ?_)
  · refine gd_c n_a0 ?_
    refine gd_b (gX99_arithmetic _ _ _ _ _ _ _ _ _ ⟨T.1, T.2⟩ n_a0 (h.1 c0_0).1) (fun K1 => ?_)
    exact gd_tR K1.2 (gX99_run_293 _ _ ⟨K1.1.1, K1.1.2⟩  )
  · exact gd_tR (ext_r _) (gX99_run_293 _ _ ⟨T.1, T.2⟩  )
noncomputable def GX99_run_192 (a6 : Int32) (a11 : Int32) (s0 : Nat) (s1 : Int32) (s2 : Nat) (s3 : Int32) (s4 : Int32) (M : FM) : Int32 × FM :=
  let r1 : Int64 × FM := GX99_fused s2 s3 s4 a6 a11 M
  let r2 : Int32 × FM := GX99_write s0 s1 r1.1 a6 r1.2
  (r2.1, r2.2)
def HX99_run_192 (a6 : Int32) (a11 : Int32) (s0 : Nat) (s1 : Int32) (s2 : Nat) (s3 : Int32) (s4 : Int32) (M : FM) : Prop := (HX99_fused s2 s3 s4 a6 a11 M ∧ let r1 : Int64 × FM := GX99_fused s2 s3 s4 a6 a11 M; (HX99_write s0 s1 r1.1 a6 r1.2 ∧ True))
theorem gX99_run_192 (a6 : Int32) (a11 : Int32) (s0 : Nat) (s1 : Int32) (s2 : Nat) (s3 : Int32) (s4 : Int32) (M : FM) (T : Ty M) (n_s2 : fm_is M 96 96 s2 = true) (n_s0 : fm_is M 96 96 s0 = true) (h : HX99_run_192 a6 a11 s0 s1 s2 s3 s4 M) : gd (FX99_run_192 fN a6 a11 s0 s1 s2 s3 s4 M) (GX99_run_192 a6 a11 s0 s1 s2 s3 s4 M) (OkR M) := by
  delta FX99_run_192 BX99_run_192
  refine gd_c n_s2 ?_
  refine gd_b (gX99_fused _ _ _ _ _ _ ⟨T.1, T.2⟩ n_s2 h.1) (fun K0 => ?_)
  have f1 := (ext_is K0.2 (Nat.zero_lt_succ _) n_s0)
  refine gd_c f1 ?_
  have f3 := (ext_is K0.2 (Nat.zero_lt_succ _) n_s0)
  refine gd_b (gX99_write _ _ _ _ _ ⟨K0.1.1, K0.1.2⟩ f3 h.2.1) (fun K2 => ?_)
  exact ⟨rfl, ⟨K2.1.1, K2.1.2⟩, (ext_tr K0.2 K2.2)⟩
noncomputable def GX99_run_187 (a6 : Int32) (a11 : Int32) (s0 : Nat) (s1 : Int32) (s2 : Nat) (s3 : Int32) (M : FM) : Int32 × FM :=
  GX99_run_192 a6 a11 s0 s1 s2 s3 (Int32.ofInt 1) M
def HX99_run_187 (a6 : Int32) (a11 : Int32) (s0 : Nat) (s1 : Int32) (s2 : Nat) (s3 : Int32) (M : FM) : Prop := HX99_run_192 a6 a11 s0 s1 s2 s3 (Int32.ofInt 1) M
theorem gX99_run_187 (a6 : Int32) (a11 : Int32) (s0 : Nat) (s1 : Int32) (s2 : Nat) (s3 : Int32) (M : FM) (T : Ty M) (n_s2 : fm_is M 96 96 s2 = true) (n_s0 : fm_is M 96 96 s0 = true) (h : HX99_run_187 a6 a11 s0 s1 s2 s3 M) : gd (FX99_run_187 fN a6 a11 s0 s1 s2 s3 M) (GX99_run_187 a6 a11 s0 s1 s2 s3 M) (OkR M) := by
  delta FX99_run_187 BX99_run_187
  exact gd_tR (ext_r _) (gX99_run_192 _ _ _ _ _ _ _ _ ⟨T.1, T.2⟩ n_s2 n_s0 h)
noncomputable def GX99_run_173 (a4 : Int32) (a6 : Int32) (a11 : Int32) (s0 : Nat) (s1 : Int32) (s2 : Nat) (s3 : Int32) (M : FM) : Int32 × FM :=
  fi (a4 = (Int32.ofInt 71)) (
    GX99_run_187 a6 a11 s0 s1 s2 s3 M) (
    fi (a4 = (Int32.ofInt 79)) (
      GX99_run_187 a6 a11 s0 s1 s2 s3 M) (
      GX99_run_192 a6 a11 s0 s1 s2 s3 (Int32.ofInt 0) M))
def HX99_run_173 (a4 : Int32) (a6 : Int32) (a11 : Int32) (s0 : Nat) (s1 : Int32) (s2 : Nat) (s3 : Int32) (M : FM) : Prop := ((a4 = (Int32.ofInt 71) → HX99_run_187 a6 a11 s0 s1 s2 s3 M) ∧ (¬ (a4 = (Int32.ofInt 71)) → ((a4 = (Int32.ofInt 79) → HX99_run_187 a6 a11 s0 s1 s2 s3 M) ∧ (¬ (a4 = (Int32.ofInt 79)) → HX99_run_192 a6 a11 s0 s1 s2 s3 (Int32.ofInt 0) M))))
theorem gX99_run_173 (a4 : Int32) (a6 : Int32) (a11 : Int32) (s0 : Nat) (s1 : Int32) (s2 : Nat) (s3 : Int32) (M : FM) (T : Ty M) (n_s2 : fm_is M 96 96 s2 = true) (n_s0 : fm_is M 96 96 s0 = true) (h : HX99_run_173 a4 a6 a11 s0 s1 s2 s3 M) : gd (FX99_run_173 fN a4 a6 a11 s0 s1 s2 s3 M) (GX99_run_173 a4 a6 a11 s0 s1 s2 s3 M) (OkR M) := by
  delta FX99_run_173 BX99_run_173
  refine gd_fi (fun c0_0 => ?_) (fun c0_0 => ?_)
  · exact gd_tR (ext_r _) (gX99_run_187 _ _ _ _ _ _ _ ⟨T.1, T.2⟩ n_s2 n_s0 (h.1 c0_0))
  · refine gd_fi (fun c1_0 => ?_) (fun c1_0 => ?_)
    · exact gd_tR (ext_r _) (gX99_run_187 _ _ _ _ _ _ _ ⟨T.1, T.2⟩ n_s2 n_s0 ((h.2 c0_0).1 c1_0))
    · exact gd_tR (ext_r _) (gX99_run_192 _ _ _ _ _ _ _ _ ⟨T.1, T.2⟩ n_s2 n_s0 ((h.2 c0_0).2 c1_0))
noncomputable def GX99_run_122 (a0 : Nat) (a4 : Int32) (a6 : Int32) (a7 : Int32) (a8 : Int32) (a9 : Int32) (a10 : Int32) (a11 : Int32) (M : FM) : Int32 × FM :=
  fi (a11 ≤ (Int32.ofInt 4)) (
    let M1 : FM := GX99_read a0 (Int32.ofInt 0) a9 a6 M
    let M2 : FM := GX99_read a0 (Int32.ofInt 1) a10 a6 M1
    let M3 : FM := GX99_read a0 (Int32.ofInt 2) a7 a6 M2
    fi (a4 ≤ (Int32.ofInt 71)) (
      GX99_run_173 a4 a6 a11 a0 a8 a0 (Int32.ofInt 0) M3) (
      GX99_run_173 a4 a6 a11 a0 a8 a0 (Int32.ofInt 1) M3)) (
    ((Int32.ofInt (-1)), M))
def HX99_run_122 (a0 : Nat) (a4 : Int32) (a6 : Int32) (a7 : Int32) (a8 : Int32) (a9 : Int32) (a10 : Int32) (a11 : Int32) (M : FM) : Prop := ((a11 ≤ (Int32.ofInt 4) → (HX99_read a0 (Int32.ofInt 0) a9 a6 M ∧ let M1 : FM := GX99_read a0 (Int32.ofInt 0) a9 a6 M; (HX99_read a0 (Int32.ofInt 1) a10 a6 M1 ∧ let M2 : FM := GX99_read a0 (Int32.ofInt 1) a10 a6 M1; (HX99_read a0 (Int32.ofInt 2) a7 a6 M2 ∧ let M3 : FM := GX99_read a0 (Int32.ofInt 2) a7 a6 M2; ((a4 ≤ (Int32.ofInt 71) → HX99_run_173 a4 a6 a11 a0 a8 a0 (Int32.ofInt 0) M3) ∧ (¬ (a4 ≤ (Int32.ofInt 71)) → HX99_run_173 a4 a6 a11 a0 a8 a0 (Int32.ofInt 1) M3)))))) ∧ (¬ (a11 ≤ (Int32.ofInt 4)) → True))
theorem gX99_run_122 (a0 : Nat) (a4 : Int32) (a6 : Int32) (a7 : Int32) (a8 : Int32) (a9 : Int32) (a10 : Int32) (a11 : Int32) (M : FM) (T : Ty M) (n_a0 : fm_is M 96 96 a0 = true) (h : HX99_run_122 a0 a4 a6 a7 a8 a9 a10 a11 M) : gd (FX99_run_122 fN a0 a4 a6 a7 a8 a9 a10 a11 M) (GX99_run_122 a0 a4 a6 a7 a8 a9 a10 a11 M) (OkR M) := by
  delta FX99_run_122 BX99_run_122
  refine gd_fi (fun c0_0 => ?_) (fun c0_0 => ?_)
  · refine gd_c n_a0 ?_
    refine gd_b (gX99_read _ _ _ _ _ ⟨T.1, T.2⟩ n_a0 (h.1 c0_0).1) (fun K1 => ?_)
    have f2 := (ext_is K1.2 (Nat.zero_lt_succ _) n_a0)
    refine gd_c f2 ?_
    have f12 := (ext_is K1.2 (Nat.zero_lt_succ _) n_a0)
    refine gd_b (gX99_read _ _ _ _ _ ⟨K1.1.1, K1.1.2⟩ f12 (h.1 c0_0).2.1) (fun K3 => ?_)
    have f4 := (ext_is K3.2 (Nat.zero_lt_succ _) (ext_is K1.2 (Nat.zero_lt_succ _) n_a0))
    refine gd_c f4 ?_
    have f11 := (ext_is K3.2 (Nat.zero_lt_succ _) (ext_is K1.2 (Nat.zero_lt_succ _) n_a0))
    refine gd_b (gX99_read _ _ _ _ _ ⟨K3.1.1, K3.1.2⟩ f11 (h.1 c0_0).2.2.1) (fun K5 => ?_)
    refine gd_fi (fun c6_0 => ?_) (fun c6_0 => ?_)
    · have f7 := (ext_is K5.2 (Nat.zero_lt_succ _) (ext_is K3.2 (Nat.zero_lt_succ _) (ext_is K1.2 (Nat.zero_lt_succ _) n_a0)))
      have f8 := (ext_is K5.2 (Nat.zero_lt_succ _) (ext_is K3.2 (Nat.zero_lt_succ _) (ext_is K1.2 (Nat.zero_lt_succ _) n_a0)))
      exact gd_tR (ext_tr K1.2 (ext_tr K3.2 K5.2)) (gX99_run_173 _ _ _ _ _ _ _ _ ⟨K5.1.1, K5.1.2⟩ f7 f8 ((h.1 c0_0).2.2.2.1 c6_0))
    · have f9 := (ext_is K5.2 (Nat.zero_lt_succ _) (ext_is K3.2 (Nat.zero_lt_succ _) (ext_is K1.2 (Nat.zero_lt_succ _) n_a0)))
      have f10 := (ext_is K5.2 (Nat.zero_lt_succ _) (ext_is K3.2 (Nat.zero_lt_succ _) (ext_is K1.2 (Nat.zero_lt_succ _) n_a0)))
      exact gd_tR (ext_tr K1.2 (ext_tr K3.2 K5.2)) (gX99_run_173 _ _ _ _ _ _ _ _ ⟨K5.1.1, K5.1.2⟩ f9 f10 ((h.1 c0_0).2.2.2.2 c6_0))
  · exact ⟨rfl, ⟨T.1, T.2⟩, (ext_r _)⟩
noncomputable def GX99_run_84 (a0 : Nat) (a2 : Int64) (a4 : Int32) (a5 : Int32) (a6 : Int32) (a7 : Int32) (a8 : Int32) (a9 : Int32) (a10 : Int32) (s0 : Int32) (M : FM) : Int32 × FM :=
  fi (a6 ≤ (Int32.ofInt 1)) (
    fi (a4 = (Int32.ofInt 67)) (
      GX99_run_122 a0 a4 a6 a7 a8 a9 a10 s0 M) (
      fi (a4 = (Int32.ofInt 71)) (
        GX99_run_122 a0 a4 a6 a7 a8 a9 a10 s0 M) (
        fi (a4 = (Int32.ofInt 75)) (
          GX99_run_122 a0 a4 a6 a7 a8 a9 a10 s0 M) (
          fi (a4 = (Int32.ofInt 79)) (
            GX99_run_122 a0 a4 a6 a7 a8 a9 a10 s0 M) (
            fi (a4 = (Int32.ofInt 83)) (
              let M1 : FM := GX99_read a0 (Int32.ofInt 0) a9 a6 M
              let M2 : FM := GX99_read a0 (Int32.ofInt 1) a10 a6 M1
              fi (a7 < (Int32.ofInt 4)) (
                GX99_run_266 a0 a2 a6 a7 a8 a9 a10 s0 M2) (
                fi (a7 = (Int32.ofInt 11)) (
                  GX99_run_266 a0 a2 a6 a7 a8 a9 a10 s0 M2) (
                  fi (a7 = (Int32.ofInt 8)) (
                    GX99_run_266 a0 a2 a6 a7 a8 a9 a10 s0 M2) (
                    fi (a7 = (Int32.ofInt 24)) (
                      GX99_run_266 a0 a2 a6 a7 a8 a9 a10 s0 M2) (
                      fi (a7 = (Int32.ofInt 26)) (
                        GX99_run_266 a0 a2 a6 a7 a8 a9 a10 s0 M2) (
                        let r3 : Int32 × FM := GX99_plain a0 a7 a8 a9 a10 a6 a5 a2 M2
                        (r3.1, r3.2))))))) (
              ((Int32.ofInt (-1)), M))))))) (
    ((Int32.ofInt (-1)), M))
def HX99_run_84 (a0 : Nat) (a2 : Int64) (a4 : Int32) (a5 : Int32) (a6 : Int32) (a7 : Int32) (a8 : Int32) (a9 : Int32) (a10 : Int32) (s0 : Int32) (M : FM) : Prop := ((a6 ≤ (Int32.ofInt 1) → ((a4 = (Int32.ofInt 67) → HX99_run_122 a0 a4 a6 a7 a8 a9 a10 s0 M) ∧ (¬ (a4 = (Int32.ofInt 67)) → ((a4 = (Int32.ofInt 71) → HX99_run_122 a0 a4 a6 a7 a8 a9 a10 s0 M) ∧ (¬ (a4 = (Int32.ofInt 71)) → ((a4 = (Int32.ofInt 75) → HX99_run_122 a0 a4 a6 a7 a8 a9 a10 s0 M) ∧ (¬ (a4 = (Int32.ofInt 75)) → ((a4 = (Int32.ofInt 79) → HX99_run_122 a0 a4 a6 a7 a8 a9 a10 s0 M) ∧ (¬ (a4 = (Int32.ofInt 79)) → ((a4 = (Int32.ofInt 83) → (HX99_read a0 (Int32.ofInt 0) a9 a6 M ∧ let M1 : FM := GX99_read a0 (Int32.ofInt 0) a9 a6 M; (HX99_read a0 (Int32.ofInt 1) a10 a6 M1 ∧ let M2 : FM := GX99_read a0 (Int32.ofInt 1) a10 a6 M1; ((a7 < (Int32.ofInt 4) → HX99_run_266 a0 a2 a6 a7 a8 a9 a10 s0 M2) ∧ (¬ (a7 < (Int32.ofInt 4)) → ((a7 = (Int32.ofInt 11) → HX99_run_266 a0 a2 a6 a7 a8 a9 a10 s0 M2) ∧ (¬ (a7 = (Int32.ofInt 11)) → ((a7 = (Int32.ofInt 8) → HX99_run_266 a0 a2 a6 a7 a8 a9 a10 s0 M2) ∧ (¬ (a7 = (Int32.ofInt 8)) → ((a7 = (Int32.ofInt 24) → HX99_run_266 a0 a2 a6 a7 a8 a9 a10 s0 M2) ∧ (¬ (a7 = (Int32.ofInt 24)) → ((a7 = (Int32.ofInt 26) → HX99_run_266 a0 a2 a6 a7 a8 a9 a10 s0 M2) ∧ (¬ (a7 = (Int32.ofInt 26)) → (HX99_plain a0 a7 a8 a9 a10 a6 a5 a2 M2 ∧ True)))))))))))))) ∧ (¬ (a4 = (Int32.ofInt 83)) → True))))))))))) ∧ (¬ (a6 ≤ (Int32.ofInt 1)) → True))
theorem gX99_run_84 (a0 : Nat) (a2 : Int64) (a4 : Int32) (a5 : Int32) (a6 : Int32) (a7 : Int32) (a8 : Int32) (a9 : Int32) (a10 : Int32) (s0 : Int32) (M : FM) (T : Ty M) (n_a0 : fm_is M 96 96 a0 = true) (h : HX99_run_84 a0 a2 a4 a5 a6 a7 a8 a9 a10 s0 M) : gd (FX99_run_84 fN a0 a2 a4 a5 a6 a7 a8 a9 a10 s0 M) (GX99_run_84 a0 a2 a4 a5 a6 a7 a8 a9 a10 s0 M) (OkR M) := by
  delta FX99_run_84 BX99_run_84
  refine gd_fi (fun c0_0 => ?_) (fun c0_0 => ?_)
  · refine gd_fi (fun c1_0 => ?_) (fun c1_0 => ?_)
    · exact gd_tR (ext_r _) (gX99_run_122 _ _ _ _ _ _ _ _ _ ⟨T.1, T.2⟩ n_a0 ((h.1 c0_0).1 c1_0))
    · refine gd_fi (fun c2_0 => ?_) (fun c2_0 => ?_)
      · exact gd_tR (ext_r _) (gX99_run_122 _ _ _ _ _ _ _ _ _ ⟨T.1, T.2⟩ n_a0 (((h.1 c0_0).2 c1_0).1 c2_0))
      · refine gd_fi (fun c3_0 => ?_) (fun c3_0 => ?_)
        · exact gd_tR (ext_r _) (gX99_run_122 _ _ _ _ _ _ _ _ _ ⟨T.1, T.2⟩ n_a0 ((((h.1 c0_0).2 c1_0).2 c2_0).1 c3_0))
        · refine gd_fi (fun c4_0 => ?_) (fun c4_0 => ?_)
          · exact gd_tR (ext_r _) (gX99_run_122 _ _ _ _ _ _ _ _ _ ⟨T.1, T.2⟩ n_a0 (((((h.1 c0_0).2 c1_0).2 c2_0).2 c3_0).1 c4_0))
          · refine gd_fi (fun c5_0 => ?_) (fun c5_0 => ?_)
            · refine gd_c n_a0 ?_
              refine gd_b (gX99_read _ _ _ _ _ ⟨T.1, T.2⟩ n_a0 ((((((h.1 c0_0).2 c1_0).2 c2_0).2 c3_0).2 c4_0).1 c5_0).1) (fun K6 => ?_)
              have f7 := (ext_is K6.2 (Nat.zero_lt_succ _) n_a0)
              refine gd_c f7 ?_
              have f22 := (ext_is K6.2 (Nat.zero_lt_succ _) n_a0)
              refine gd_b (gX99_read _ _ _ _ _ ⟨K6.1.1, K6.1.2⟩ f22 ((((((h.1 c0_0).2 c1_0).2 c2_0).2 c3_0).2 c4_0).1 c5_0).2.1) (fun K8 => ?_)
              refine gd_fi (fun c9_0 => ?_) (fun c9_0 => ?_)
              · have f10 := (ext_is K8.2 (Nat.zero_lt_succ _) (ext_is K6.2 (Nat.zero_lt_succ _) n_a0))
                exact gd_tR (ext_tr K6.2 K8.2) (gX99_run_266 _ _ _ _ _ _ _ _ _ ⟨K8.1.1, K8.1.2⟩ f10 (((((((h.1 c0_0).2 c1_0).2 c2_0).2 c3_0).2 c4_0).1 c5_0).2.2.1 c9_0))
              · refine gd_fi (fun c11_0 => ?_) (fun c11_0 => ?_)
                · have f12 := (ext_is K8.2 (Nat.zero_lt_succ _) (ext_is K6.2 (Nat.zero_lt_succ _) n_a0))
                  exact gd_tR (ext_tr K6.2 K8.2) (gX99_run_266 _ _ _ _ _ _ _ _ _ ⟨K8.1.1, K8.1.2⟩ f12 ((((((((h.1 c0_0).2 c1_0).2 c2_0).2 c3_0).2 c4_0).1 c5_0).2.2.2 c9_0).1 c11_0))
                · refine gd_fi (fun c13_0 => ?_) (fun c13_0 => ?_)
                  · have f14 := (ext_is K8.2 (Nat.zero_lt_succ _) (ext_is K6.2 (Nat.zero_lt_succ _) n_a0))
                    exact gd_tR (ext_tr K6.2 K8.2) (gX99_run_266 _ _ _ _ _ _ _ _ _ ⟨K8.1.1, K8.1.2⟩ f14 (((((((((h.1 c0_0).2 c1_0).2 c2_0).2 c3_0).2 c4_0).1 c5_0).2.2.2 c9_0).2 c11_0).1 c13_0))
                  · refine gd_fi (fun c15_0 => ?_) (fun c15_0 => ?_)
                    · have f16 := (ext_is K8.2 (Nat.zero_lt_succ _) (ext_is K6.2 (Nat.zero_lt_succ _) n_a0))
                      exact gd_tR (ext_tr K6.2 K8.2) (gX99_run_266 _ _ _ _ _ _ _ _ _ ⟨K8.1.1, K8.1.2⟩ f16 ((((((((((h.1 c0_0).2 c1_0).2 c2_0).2 c3_0).2 c4_0).1 c5_0).2.2.2 c9_0).2 c11_0).2 c13_0).1 c15_0))
                    · refine gd_fi (fun c17_0 => ?_) (fun c17_0 => ?_)
                      · have f18 := (ext_is K8.2 (Nat.zero_lt_succ _) (ext_is K6.2 (Nat.zero_lt_succ _) n_a0))
                        exact gd_tR (ext_tr K6.2 K8.2) (gX99_run_266 _ _ _ _ _ _ _ _ _ ⟨K8.1.1, K8.1.2⟩ f18 (((((((((((h.1 c0_0).2 c1_0).2 c2_0).2 c3_0).2 c4_0).1 c5_0).2.2.2 c9_0).2 c11_0).2 c13_0).2 c15_0).1 c17_0))
                      · have f19 := (ext_is K8.2 (Nat.zero_lt_succ _) (ext_is K6.2 (Nat.zero_lt_succ _) n_a0))
                        refine gd_c f19 ?_
                        have f21 := (ext_is K8.2 (Nat.zero_lt_succ _) (ext_is K6.2 (Nat.zero_lt_succ _) n_a0))
                        refine gd_b (gX99_plain _ _ _ _ _ _ _ _ _ ⟨K8.1.1, K8.1.2⟩ f21 (((((((((((h.1 c0_0).2 c1_0).2 c2_0).2 c3_0).2 c4_0).1 c5_0).2.2.2 c9_0).2 c11_0).2 c13_0).2 c15_0).2 c17_0).1) (fun K20 => ?_)
                        exact ⟨rfl, ⟨K20.1.1, K20.1.2⟩, (ext_tr K6.2 (ext_tr K8.2 K20.2))⟩
            · exact ⟨rfl, ⟨T.1, T.2⟩, (ext_r _)⟩
  · exact ⟨rfl, ⟨T.1, T.2⟩, (ext_r _)⟩
noncomputable def GX99_run_0 (a0 : Nat) (a1 : Int32) (a2 : Int64) (M : FM) : Int32 × FM :=
  let M1 : FM := fm_sI M 366 a0 0 (Int32.ofInt 0)
  let r2 : Int32 × FM := GX99_field a1 (Int32.ofInt 0) (Int32.ofInt 7) M1
  let r3 : Int32 × FM := GX99_field a1 (Int32.ofInt 12) (Int32.ofInt 3) r2.2
  let r4 : Int32 × FM := GX99_field a1 (Int32.ofInt 25) (Int32.ofInt 2) r3.2
  let r5 : Int32 × FM := GX99_field a1 (Int32.ofInt 27) (Int32.ofInt 5) r4.2
  let r6 : Int32 × FM := GX99_field a1 (Int32.ofInt 7) (Int32.ofInt 5) r5.2
  let r7 : Int32 × FM := GX99_field a1 (Int32.ofInt 15) (Int32.ofInt 5) r6.2
  let r8 : Int32 × FM := GX99_field a1 (Int32.ofInt 20) (Int32.ofInt 5) r7.2
  fi (r3.1 = (Int32.ofInt 7)) (
    GX99_run_84 a0 a2 r2.1 r3.1 r4.1 r5.1 r6.1 r7.1 r8.1 (r8.2.1 369 a0 0) r8.2) (
    GX99_run_84 a0 a2 r2.1 r3.1 r4.1 r5.1 r6.1 r7.1 r8.1 r3.1 r8.2)
def HX99_run_0 (a0 : Nat) (a1 : Int32) (a2 : Int64) (M : FM) : Prop := let M1 : FM := fm_sI M 366 a0 0 (Int32.ofInt 0); let r2 : Int32 × FM := GX99_field a1 (Int32.ofInt 0) (Int32.ofInt 7) M1; let r3 : Int32 × FM := GX99_field a1 (Int32.ofInt 12) (Int32.ofInt 3) r2.2; let r4 : Int32 × FM := GX99_field a1 (Int32.ofInt 25) (Int32.ofInt 2) r3.2; let r5 : Int32 × FM := GX99_field a1 (Int32.ofInt 27) (Int32.ofInt 5) r4.2; let r6 : Int32 × FM := GX99_field a1 (Int32.ofInt 7) (Int32.ofInt 5) r5.2; let r7 : Int32 × FM := GX99_field a1 (Int32.ofInt 15) (Int32.ofInt 5) r6.2; let r8 : Int32 × FM := GX99_field a1 (Int32.ofInt 20) (Int32.ofInt 5) r7.2; ((r3.1 = (Int32.ofInt 7) → HX99_run_84 a0 a2 r2.1 r3.1 r4.1 r5.1 r6.1 r7.1 r8.1 (r8.2.1 369 a0 0) r8.2) ∧ (¬ (r3.1 = (Int32.ofInt 7)) → HX99_run_84 a0 a2 r2.1 r3.1 r4.1 r5.1 r6.1 r7.1 r8.1 r3.1 r8.2))
theorem gX99_run_0 (a0 : Nat) (a1 : Int32) (a2 : Int64) (M : FM) (T : Ty M) (n_a0 : fm_is M 96 96 a0 = true) (h : HX99_run_0 a0 a1 a2 M) : gd (FX99_run_0 fN a0 a1 a2 M) (GX99_run_0 a0 a1 a2 M) (OkR M) := by
  delta FX99_run_0 BX99_run_0
  refine gd_c n_a0 ?_
  refine gd_b (gX99_field _ _ _ _ ⟨T.1, (tyb_sI (f := 366) rfl T.2)⟩  ) (fun K0 => ?_)
  refine gd_b (gX99_field _ _ _ _ ⟨K0.1.1, K0.1.2⟩  ) (fun K1 => ?_)
  refine gd_b (gX99_field _ _ _ _ ⟨K1.1.1, K1.1.2⟩  ) (fun K2 => ?_)
  refine gd_b (gX99_field _ _ _ _ ⟨K2.1.1, K2.1.2⟩  ) (fun K3 => ?_)
  refine gd_b (gX99_field _ _ _ _ ⟨K3.1.1, K3.1.2⟩  ) (fun K4 => ?_)
  refine gd_b (gX99_field _ _ _ _ ⟨K4.1.1, K4.1.2⟩  ) (fun K5 => ?_)
  refine gd_b (gX99_field _ _ _ _ ⟨K5.1.1, K5.1.2⟩  ) (fun K6 => ?_)
  refine gd_fi (fun c7_0 => ?_) (fun c7_0 => ?_)
  · have f8 := (ext_is K6.2 (Nat.zero_lt_succ _) (ext_is K5.2 (Nat.zero_lt_succ _) (ext_is K4.2 (Nat.zero_lt_succ _) (ext_is K3.2 (Nat.zero_lt_succ _) (ext_is K2.2 (Nat.zero_lt_succ _) (ext_is K1.2 (Nat.zero_lt_succ _) (ext_is K0.2 (Nat.zero_lt_succ _) n_a0)))))))
    refine gd_c f8 ?_
    have f9 := (ext_is K6.2 (Nat.zero_lt_succ _) (ext_is K5.2 (Nat.zero_lt_succ _) (ext_is K4.2 (Nat.zero_lt_succ _) (ext_is K3.2 (Nat.zero_lt_succ _) (ext_is K2.2 (Nat.zero_lt_succ _) (ext_is K1.2 (Nat.zero_lt_succ _) (ext_is K0.2 (Nat.zero_lt_succ _) n_a0)))))))
    exact gd_tR (ext_dI (ext_tr K0.2 (ext_tr K1.2 (ext_tr K2.2 (ext_tr K3.2 (ext_tr K4.2 (ext_tr K5.2 K6.2))))))) (gX99_run_84 _ _ _ _ _ _ _ _ _ _ _ ⟨K6.1.1, K6.1.2⟩ f9 (h.1 c7_0))
  · have f10 := (ext_is K6.2 (Nat.zero_lt_succ _) (ext_is K5.2 (Nat.zero_lt_succ _) (ext_is K4.2 (Nat.zero_lt_succ _) (ext_is K3.2 (Nat.zero_lt_succ _) (ext_is K2.2 (Nat.zero_lt_succ _) (ext_is K1.2 (Nat.zero_lt_succ _) (ext_is K0.2 (Nat.zero_lt_succ _) n_a0)))))))
    exact gd_tR (ext_dI (ext_tr K0.2 (ext_tr K1.2 (ext_tr K2.2 (ext_tr K3.2 (ext_tr K4.2 (ext_tr K5.2 K6.2))))))) (gX99_run_84 _ _ _ _ _ _ _ _ _ _ _ ⟨K6.1.1, K6.1.2⟩ f10 (h.2 c7_0))
noncomputable def GX99_run (a0 : Nat) (a1 : Int32) (a2 : Int64) (M : FM) : Int32 × FM := GX99_run_0 a0 a1 a2 M
def HX99_run (a0 : Nat) (a1 : Int32) (a2 : Int64) (M : FM) : Prop := HX99_run_0 a0 a1 a2 M
theorem gX99_run (a0 : Nat) (a1 : Int32) (a2 : Int64) (M : FM) (T : Ty M) (n_a0 : fm_is M 96 96 a0 = true) (h : HX99_run a0 a1 a2 M) : gd (FX99_run fN a0 a1 a2 M) (GX99_run a0 a1 a2 M) (OkR M) := gX99_run_0 a0 a1 a2 M T n_a0 h
noncomputable def GX99_set_16 (M : FM) : FM :=
  M
theorem gX99_set_16 (M : FM) (T : Ty M) : gd (FX99_set_16 M) (GX99_set_16 M) (OkV M) := by
  delta FX99_set_16 BX99_set_16
  exact ⟨rfl, ⟨T.1, T.2⟩, (ext_r _)⟩
noncomputable def GX99_set_0 (a0 : Nat) (a1 : Int32) (a2 : Int64) (M : FM) : FM :=
  let r1 : Int32 × FM := GX99_isNo a0 a1 M
  fi (r1.1 = 0) (
    let r2 : Int32 × FM := GX99_write a0 a1 a2 (Int32.ofInt 1) r1.2
    GX99_set_16 r2.2) (
    GX99_set_16 r1.2)
def HX99_set_0 (a0 : Nat) (a1 : Int32) (a2 : Int64) (M : FM) : Prop := let r1 : Int32 × FM := GX99_isNo a0 a1 M; ((r1.1 = 0 → (HX99_write a0 a1 a2 (Int32.ofInt 1) r1.2 ∧ True)) ∧ (¬ (r1.1 = 0) → True))
theorem gX99_set_0 (a0 : Nat) (a1 : Int32) (a2 : Int64) (M : FM) (T : Ty M) (n_a0 : fm_is M 96 96 a0 = true) (h : HX99_set_0 a0 a1 a2 M) : gd (FX99_set_0 a0 a1 a2 M) (GX99_set_0 a0 a1 a2 M) (OkV M) := by
  delta FX99_set_0 BX99_set_0
  refine gd_c n_a0 ?_
  refine gd_b (gX99_isNo _ _ _ ⟨T.1, T.2⟩ n_a0 ) (fun K0 => ?_)
  refine gd_fi (fun c1_0 => ?_) (fun c1_0 => ?_)
  · have f2 := (ext_is K0.2.1 (Nat.zero_lt_succ _) n_a0)
    refine gd_c f2 ?_
    have f4 := (ext_is K0.2.1 (Nat.zero_lt_succ _) n_a0)
    refine gd_b (gX99_write _ _ _ _ _ ⟨K0.1.1, K0.1.2⟩ f4 (h.1 c1_0).1) (fun K3 => ?_)
    exact gd_tV (ext_tr K0.2.1 K3.2) (gX99_set_16  _ ⟨K3.1.1, K3.1.2⟩  )
  · exact gd_tV K0.2.1 (gX99_set_16  _ ⟨K0.1.1, K0.1.2⟩  )
noncomputable def GX99_set (a0 : Nat) (a1 : Int32) (a2 : Int64) (M : FM) : FM := GX99_set_0 a0 a1 a2 M
def HX99_set (a0 : Nat) (a1 : Int32) (a2 : Int64) (M : FM) : Prop := HX99_set_0 a0 a1 a2 M
theorem gX99_set (a0 : Nat) (a1 : Int32) (a2 : Int64) (M : FM) (T : Ty M) (n_a0 : fm_is M 96 96 a0 = true) (h : HX99_set a0 a1 a2 M) : gd (FX99_set a0 a1 a2 M) (GX99_set a0 a1 a2 M) (OkV M) := gX99_set_0 a0 a1 a2 M T n_a0 h
noncomputable def GX99_box_21 (M : FM) : FM :=
  M
theorem gX99_box_21 (M : FM) (T : Ty M) : gd (FX99_box_21 M) (GX99_box_21 M) (OkV M) := by
  delta FX99_box_21 BX99_box_21
  exact ⟨rfl, ⟨T.1, T.2⟩, (ext_r _)⟩
noncomputable def GX99_box_0 (a0 : Nat) (a1 : Int32) (a2 : Int32) (M : FM) : FM :=
  let r1 : Int32 × FM := GX99_isNo a0 a1 M
  fi (r1.1 = 0) (
    let r2 : Int32 × FM := GX99_write a0 a1 (a2.toInt64 &&& (Int64.ofInt 4294967295)) (Int32.ofInt 0) r1.2
    GX99_box_21 r2.2) (
    GX99_box_21 r1.2)
def HX99_box_0 (a0 : Nat) (a1 : Int32) (a2 : Int32) (M : FM) : Prop := let r1 : Int32 × FM := GX99_isNo a0 a1 M; ((r1.1 = 0 → (HX99_write a0 a1 (a2.toInt64 &&& (Int64.ofInt 4294967295)) (Int32.ofInt 0) r1.2 ∧ True)) ∧ (¬ (r1.1 = 0) → True))
theorem gX99_box_0 (a0 : Nat) (a1 : Int32) (a2 : Int32) (M : FM) (T : Ty M) (n_a0 : fm_is M 96 96 a0 = true) (h : HX99_box_0 a0 a1 a2 M) : gd (FX99_box_0 a0 a1 a2 M) (GX99_box_0 a0 a1 a2 M) (OkV M) := by
  delta FX99_box_0 BX99_box_0
  refine gd_c n_a0 ?_
  refine gd_b (gX99_isNo _ _ _ ⟨T.1, T.2⟩ n_a0 ) (fun K0 => ?_)
  refine gd_fi (fun c1_0 => ?_) (fun c1_0 => ?_)
  · have f2 := (ext_is K0.2.1 (Nat.zero_lt_succ _) n_a0)
    refine gd_c f2 ?_
    have f4 := (ext_is K0.2.1 (Nat.zero_lt_succ _) n_a0)
    refine gd_b (gX99_write _ _ _ _ _ ⟨K0.1.1, K0.1.2⟩ f4 (h.1 c1_0).1) (fun K3 => ?_)
    exact gd_tV (ext_tr K0.2.1 K3.2) (gX99_box_21  _ ⟨K3.1.1, K3.1.2⟩  )
  · exact gd_tV K0.2.1 (gX99_box_21  _ ⟨K0.1.1, K0.1.2⟩  )
noncomputable def GX99_box (a0 : Nat) (a1 : Int32) (a2 : Int32) (M : FM) : FM := GX99_box_0 a0 a1 a2 M
def HX99_box (a0 : Nat) (a1 : Int32) (a2 : Int32) (M : FM) : Prop := HX99_box_0 a0 a1 a2 M
theorem gX99_box (a0 : Nat) (a1 : Int32) (a2 : Int32) (M : FM) (T : Ty M) (n_a0 : fm_is M 96 96 a0 = true) (h : HX99_box a0 a1 a2 M) : gd (FX99_box a0 a1 a2 M) (GX99_box a0 a1 a2 M) (OkV M) := gX99_box_0 a0 a1 a2 M T n_a0 h
noncomputable def GX99_value_0 (a0 : Nat) (M : FM) : Int64 × FM :=
  let M1 : FM := fm_sI M 366 a0 0 (Int32.ofInt 0)
  ((M1.2.1 370 a0 0), M1)
theorem gX99_value_0 (a0 : Nat) (M : FM) (T : Ty M) (n_a0 : fm_is M 96 96 a0 = true) : gd (FX99_value_0 a0 M) (GX99_value_0 a0 M) (OkR M) := by
  delta FX99_value_0 BX99_value_0
  refine gd_c n_a0 ?_
  refine gd_c n_a0 ?_
  exact ⟨rfl, ⟨T.1, (tyb_sI (f := 366) rfl T.2)⟩, (ext_dI (ext_r _))⟩
noncomputable def GX99_value (a0 : Nat) (M : FM) : Int64 × FM := GX99_value_0 a0 M
theorem gX99_value (a0 : Nat) (M : FM) (T : Ty M) (n_a0 : fm_is M 96 96 a0 = true) : gd (FX99_value a0 M) (GX99_value a0 M) (OkR M) := gX99_value_0 a0 M T n_a0 
noncomputable def GX99_written_0 (a0 : Nat) (M : FM) : Int32 × FM :=
  let M1 : FM := fm_sI M 366 a0 0 (Int32.ofInt 0)
  let x2 : Int32 := (M1.1 371 a0 0)
  (x2, M1)
theorem gX99_written_0 (a0 : Nat) (M : FM) (T : Ty M) (n_a0 : fm_is M 96 96 a0 = true) : gd (FX99_written_0 a0 M) (GX99_written_0 a0 M) (OkZ M) := by
  delta FX99_written_0 BX99_written_0
  refine gd_c n_a0 ?_
  refine gd_c n_a0 ?_
  exact gd_z (tB_371 (tyb_sI (f := 366) rfl T.2) _) ⟨T.1, (tyb_sI (f := 366) rfl T.2)⟩ (ext_dI (ext_r _)) rfl
noncomputable def GX99_written (a0 : Nat) (M : FM) : Int32 × FM := GX99_written_0 a0 M
theorem gX99_written (a0 : Nat) (M : FM) (T : Ty M) (n_a0 : fm_is M 96 96 a0 = true) : gd (FX99_written a0 M) (GX99_written a0 M) (OkZ M) := gX99_written_0 a0 M T n_a0 
noncomputable def GX100_put_0 (a0 : Nat) (a1 : Int32) (a2 : Int32) (M : FM) : FM :=
  let x1 : Nat := (M.2.2 361 a0 0)
  let x2 : Nat := (M.2.2 361 a0 0)
  let M3 : FM := fm_sL M 3 x2 (Int32.ofInt 768).toNatClampNeg (((M.2.1 3 x1 (Int32.ofInt 768).toNatClampNeg) &&& (((Int64.ofInt 1) <<< (a1.toInt64 &&& 63)) ^^^ (Int64.ofInt (-1)))) ||| (a2.toInt64 <<< (a1.toInt64 &&& 63)))
  M3
theorem gX100_put_0 (a0 : Nat) (a1 : Int32) (a2 : Int32) (M : FM) (T : Ty M) (n_a0 : fm_is M 95 95 a0 = true) : gd (FX100_put_0 a0 a1 a2 M) (GX100_put_0 a0 a1 a2 M) (OkV M) := by
  delta FX100_put_0 BX100_put_0
  refine gd_c n_a0 ?_
  refine gd_c n_a0 ?_
  have f2 := (tN_361 T.1 n_a0)
  have f3 := (fm_inl (i := (Int32.ofInt 768)) (tL_361 T.1 n_a0) (by decide))
  refine gd_c ⟨f2, f3⟩ ?_
  have f0 := (tN_361 T.1 n_a0)
  have f1 := (fm_inl (i := (Int32.ofInt 768)) (tL_361 T.1 n_a0) (by decide))
  refine gd_c ⟨f0, f1⟩ ?_
  exact ⟨rfl, ⟨T.1, T.2⟩, (ext_dL (ext_r _))⟩
noncomputable def GX100_put (a0 : Nat) (a1 : Int32) (a2 : Int32) (M : FM) : FM := GX100_put_0 a0 a1 a2 M
theorem gX100_put (a0 : Nat) (a1 : Int32) (a2 : Int32) (M : FM) (T : Ty M) (n_a0 : fm_is M 95 95 a0 = true) : gd (FX100_put a0 a1 a2 M) (GX100_put a0 a1 a2 M) (OkV M) := gX100_put_0 a0 a1 a2 M T n_a0 
noncomputable def GX100_dirty_26 (M : FM) : FM :=
  M
theorem gX100_dirty_26 (M : FM) (T : Ty M) : gd (FX100_dirty_26 M) (GX100_dirty_26 M) (OkV M) := by
  delta FX100_dirty_26 BX100_dirty_26
  exact ⟨rfl, ⟨T.1, T.2⟩, (ext_r _)⟩
noncomputable def GX100_dirty_0 (a0 : Nat) (M : FM) : FM :=
  let M1 : FM := fm_sI M 358 a0 0 (Int32.ofInt 0)
  let r2 : Int32 × FM := GX100_floating a0 M1
  fi (r2.1 ≤ 0) (
    GX100_dirty_26 r2.2) (
    let M3 : FM := GX100_put a0 (Int32.ofInt 13) (Int32.ofInt 1) r2.2
    let M4 : FM := GX100_put a0 (Int32.ofInt 14) (Int32.ofInt 1) M3
    GX100_dirty_26 M4)
theorem gX100_dirty_0 (a0 : Nat) (M : FM) (T : Ty M) (n_a0 : fm_is M 95 95 a0 = true) : gd (FX100_dirty_0 a0 M) (GX100_dirty_0 a0 M) (OkV M) := by
  delta FX100_dirty_0 BX100_dirty_0
  refine gd_c n_a0 ?_
  refine gd_c n_a0 ?_
  refine gd_b (gX100_floating _ _ ⟨T.1, (tyb_sI (f := 358) rfl T.2)⟩ n_a0 ) (fun K0 => ?_)
  refine gd_fi (fun c1_0 => ?_) (fun c1_0 => ?_)
  · exact gd_tV (ext_dI K0.2) (gX100_dirty_26  _ ⟨K0.1.1, K0.1.2⟩  )
  · have f2 := (ext_is K0.2 (Nat.zero_lt_succ _) n_a0)
    refine gd_c f2 ?_
    have f7 := (ext_is K0.2 (Nat.zero_lt_succ _) n_a0)
    refine gd_b (gX100_put _ _ _ _ ⟨K0.1.1, K0.1.2⟩ f7 ) (fun K3 => ?_)
    have f4 := (ext_is K3.2 (Nat.zero_lt_succ _) (ext_is K0.2 (Nat.zero_lt_succ _) n_a0))
    refine gd_c f4 ?_
    have f6 := (ext_is K3.2 (Nat.zero_lt_succ _) (ext_is K0.2 (Nat.zero_lt_succ _) n_a0))
    refine gd_b (gX100_put _ _ _ _ ⟨K3.1.1, K3.1.2⟩ f6 ) (fun K5 => ?_)
    exact gd_tV (ext_dI (ext_tr K0.2 (ext_tr K3.2 K5.2))) (gX100_dirty_26  _ ⟨K5.1.1, K5.1.2⟩  )
noncomputable def GX100_dirty (a0 : Nat) (M : FM) : FM := GX100_dirty_0 a0 M
theorem gX100_dirty (a0 : Nat) (M : FM) (T : Ty M) (n_a0 : fm_is M 95 95 a0 = true) : gd (FX100_dirty a0 M) (GX100_dirty a0 M) (OkV M) := gX100_dirty_0 a0 M T n_a0 
noncomputable def GX99_calm_0 (a0 : Nat) (M : FM) : FM :=
  let M1 : FM := fm_sI M 366 a0 0 (Int32.ofInt 0)
  let M2 : FM := fm_sI M1 371 a0 0 (Int32.ofInt 0)
  M2
theorem gX99_calm_0 (a0 : Nat) (M : FM) (T : Ty M) (n_a0 : fm_is M 96 96 a0 = true) : gd (FX99_calm_0 a0 M) (GX99_calm_0 a0 M) (OkV M) := by
  delta FX99_calm_0 BX99_calm_0
  refine gd_c n_a0 ?_
  refine gd_c n_a0 ?_
  refine gd_c fz_0 ?_
  exact ⟨rfl, ⟨T.1, (tyb_sIb (f := 371) rfl (tyb_sI (f := 366) rfl T.2) fz_0)⟩, (ext_dI (ext_dI (ext_r _)))⟩
noncomputable def GX99_calm (a0 : Nat) (M : FM) : FM := GX99_calm_0 a0 M
theorem gX99_calm (a0 : Nat) (M : FM) (T : Ty M) (n_a0 : fm_is M 96 96 a0 = true) : gd (FX99_calm a0 M) (GX99_calm a0 M) (OkV M) := gX99_calm_0 a0 M T n_a0 
noncomputable def GX92_floating_207 (M : FM) : Int32 × FM :=
  ((Int32.ofInt 1), M)
theorem gX92_floating_207 (M : FM) (T : Ty M) : gd (FX92_floating_207 fN M) (GX92_floating_207 M) (OkZ M) := by
  delta FX92_floating_207 BX92_floating_207
  exact gd_z fz_1 ⟨T.1, T.2⟩ (ext_r _) rfl
noncomputable def GX92_floating_185 (a0 : Nat) (a1 : Int32) (a7 : Nat) (M : FM) : Int32 × FM :=
  let r1 : Int32 × FM := GX99_written a7 M
  fi (r1.1 = 0) (
    GX92_floating_207 r1.2) (
    let x2 : Nat := (r1.2.2.2 305 a0 0)
    let x3 : Nat := (r1.2.2.2 3 x2 a1.toNatClampNeg)
    let M4 : FM := GX100_dirty x3 r1.2
    let M5 : FM := GX99_calm a7 M4
    GX92_floating_207 M5)
def HX92_floating_185 (a0 : Nat) (a1 : Int32) (a7 : Nat) (M : FM) : Prop := let r1 : Int32 × FM := GX99_written a7 M; ((r1.1 = 0 → True) ∧ (¬ (r1.1 = 0) → let x2 : Nat := (r1.2.2.2 305 a0 0); (fm_in r1.2 x2 a1 = true ∧ let x3 : Nat := (r1.2.2.2 3 x2 a1.toNatClampNeg); (fm_is r1.2 95 95 x3 = true ∧ True))))
theorem gX92_floating_185 (a0 : Nat) (a1 : Int32) (a7 : Nat) (M : FM) (T : Ty M) (n_a7 : fm_is M 96 96 a7 = true) (n_a0 : fm_is M 92 92 a0 = true) (h : HX92_floating_185 a0 a1 a7 M) : gd (FX92_floating_185 fN a0 a1 a7 M) (GX92_floating_185 a0 a1 a7 M) (OkZ M) := by
  delta FX92_floating_185 BX92_floating_185
  refine gd_c n_a7 ?_
  refine gd_b (gX99_written _ _ ⟨T.1, T.2⟩ n_a7 ) (fun K0 => ?_)
  refine gd_fi (fun c1_0 => ?_) (fun c1_0 => ?_)
  · exact gd_tZ K0.2.1 (gX92_floating_207  _ ⟨K0.1.1, K0.1.2⟩  )
  · have f2 := (ext_is K0.2.1 (Nat.zero_lt_succ _) n_a0)
    refine gd_c f2 ?_
    have f7 := (fm_w (lo' := 910) (hi' := 990) rfl rfl (tN_305 K0.1.1 (ext_is K0.2.1 (Nat.zero_lt_succ _) n_a0)))
    refine gd_c ⟨f7, (h.2 c1_0).1⟩ ?_
    refine gd_c (h.2 c1_0).2.1 ?_
    refine gd_b (gX100_dirty _ _ ⟨K0.1.1, K0.1.2⟩ (h.2 c1_0).2.1 ) (fun K3 => ?_)
    have f4 := (ext_is K3.2 (Nat.zero_lt_succ _) (ext_is K0.2.1 (Nat.zero_lt_succ _) n_a7))
    refine gd_c f4 ?_
    have f6 := (ext_is K3.2 (Nat.zero_lt_succ _) (ext_is K0.2.1 (Nat.zero_lt_succ _) n_a7))
    refine gd_b (gX99_calm _ _ ⟨K3.1.1, K3.1.2⟩ f6 ) (fun K5 => ?_)
    exact gd_tZ (ext_tr K0.2.1 (ext_tr K3.2 K5.2)) (gX92_floating_207  _ ⟨K5.1.1, K5.1.2⟩  )
noncomputable def GX92_floating_176 (a0 : Nat) (a1 : Int32) (a7 : Nat) (s0 : Nat) (s1 : Int32) (M : FM) : Int32 × FM :=
  let r1 : Int64 × FM := GX99_value a7 M
  let r2 : Int32 × FM := GX98_finish s0 s1 r1.1 r1.2
  GX92_floating_185 a0 a1 a7 r2.2
def HX92_floating_176 (a0 : Nat) (a1 : Int32) (a7 : Nat) (s0 : Nat) (s1 : Int32) (M : FM) : Prop := let r1 : Int64 × FM := GX99_value a7 M; (HX98_finish s0 s1 r1.1 r1.2 ∧ let r2 : Int32 × FM := GX98_finish s0 s1 r1.1 r1.2; HX92_floating_185 a0 a1 a7 r2.2)
theorem gX92_floating_176 (a0 : Nat) (a1 : Int32) (a7 : Nat) (s0 : Nat) (s1 : Int32) (M : FM) (T : Ty M) (n_a7 : fm_is M 96 96 a7 = true) (n_s0 : fm_is M 94 94 s0 = true) (n_a0 : fm_is M 92 92 a0 = true) (h : HX92_floating_176 a0 a1 a7 s0 s1 M) : gd (FX92_floating_176 fN a0 a1 a7 s0 s1 M) (GX92_floating_176 a0 a1 a7 s0 s1 M) (OkZ M) := by
  delta FX92_floating_176 BX92_floating_176
  refine gd_c n_a7 ?_
  refine gd_b (gX99_value _ _ ⟨T.1, T.2⟩ n_a7 ) (fun K0 => ?_)
  have f1 := (ext_is K0.2 (Nat.zero_lt_succ _) n_s0)
  refine gd_c f1 ?_
  have f5 := (ext_is K0.2 (Nat.zero_lt_succ _) n_s0)
  refine gd_b (gX98_finish _ _ _ _ ⟨K0.1.1, K0.1.2⟩ f5 h.1) (fun K2 => ?_)
  have f3 := (ext_is K2.2 (Nat.zero_lt_succ _) (ext_is K0.2 (Nat.zero_lt_succ _) n_a7))
  have f4 := (ext_is K2.2 (Nat.zero_lt_succ _) (ext_is K0.2 (Nat.zero_lt_succ _) n_a0))
  exact gd_tZ (ext_tr K0.2 K2.2) (gX92_floating_185 _ _ _ _ ⟨K2.1.1, K2.1.2⟩ f3 f4 h.2)
noncomputable def GX92_floating_113 (a0 : Nat) (a1 : Int32) (a7 : Nat) (M : FM) : Int32 × FM :=
  let x1 : Nat := (M.2.2 303 a0 0)
  let x2 : Nat := (M.2.2 3 x1 a1.toNatClampNeg)
  let r3 : Int32 × FM := GX98_finish x2 (Int32.ofInt 0) (Int64.ofInt 0) M
  GX92_floating_185 a0 a1 a7 r3.2
def HX92_floating_113 (a0 : Nat) (a1 : Int32) (a7 : Nat) (M : FM) : Prop := let x1 : Nat := (M.2.2 303 a0 0); (fm_in M x1 a1 = true ∧ let x2 : Nat := (M.2.2 3 x1 a1.toNatClampNeg); (fm_is M 94 94 x2 = true ∧ (HX98_finish x2 (Int32.ofInt 0) (Int64.ofInt 0) M ∧ let r3 : Int32 × FM := GX98_finish x2 (Int32.ofInt 0) (Int64.ofInt 0) M; HX92_floating_185 a0 a1 a7 r3.2)))
theorem gX92_floating_113 (a0 : Nat) (a1 : Int32) (a7 : Nat) (M : FM) (T : Ty M) (n_a0 : fm_is M 92 92 a0 = true) (n_a7 : fm_is M 96 96 a7 = true) (h : HX92_floating_113 a0 a1 a7 M) : gd (FX92_floating_113 fN a0 a1 a7 M) (GX92_floating_113 a0 a1 a7 M) (OkZ M) := by
  delta FX92_floating_113 BX92_floating_113
  refine gd_c n_a0 ?_
  have f3 := (fm_w (lo' := 910) (hi' := 990) rfl rfl (tN_303 T.1 n_a0))
  refine gd_c ⟨f3, h.1⟩ ?_
  refine gd_c h.2.1 ?_
  refine gd_b (gX98_finish _ _ _ _ ⟨T.1, T.2⟩ h.2.1 h.2.2.1) (fun K0 => ?_)
  have f1 := (ext_is K0.2 (Nat.zero_lt_succ _) n_a7)
  have f2 := (ext_is K0.2 (Nat.zero_lt_succ _) n_a0)
  exact gd_tZ K0.2 (gX92_floating_185 _ _ _ _ ⟨K0.1.1, K0.1.2⟩ f1 f2 h.2.2.2)
noncomputable def GX92_floating_0 (a0 : Nat) (a1 : Int32) (a2 : Int64) (a4 : Int32) (a5 : Int32) (a6 : Int32) (M : FM) : Int32 × FM :=
  let x1 : Nat := (M.2.2 304 a0 0)
  let x2 : Nat := (M.2.2 3 x1 a1.toNatClampNeg)
  let x3 : Nat := (M.2.2 305 a0 0)
  let x4 : Nat := (M.2.2 3 x3 a1.toNatClampNeg)
  let r5 : Int32 × FM := GX100_floats x4 M
  fi (r5.1 = 0) (
    let r6 : Int32 × FM := GX92_illegal a0 r5.2
    (r6.1, r6.2)) (
    fi (a5 = (Int32.ofInt 39)) (
      let r7 : Int64 × FM := GX99_get x2 (((r5.2.1 317 a0 0) >>> ((Int32.ofInt 20) &&& 31)) &&& (Int32.ofInt 31)) r5.2
      let r8 : Int32 × FM := GX92_store a0 a1 a2 a4 r7.1 r7.2
      (r8.1, r8.2)) (
      fi (a5 = (Int32.ofInt 7)) (
        let r9 : Int32 × FM := GX92_finds a0 a1 a2 a4 (Int32.ofInt 1) r5.2
        fi (r9.1 = 0) (
          ((Int32.ofInt 0), r9.2)) (
          let r10 : Int64 × FM := GX92_get a0 a4 r9.2
          fi (a4 = (Int32.ofInt 4)) (
            let M11 : FM := GX99_box x2 a6 r10.1.toInt32 r10.2
            GX92_floating_113 a0 a1 x2 M11) (
            let M12 : FM := GX99_set x2 a6 r10.1 r10.2
            GX92_floating_113 a0 a1 x2 M12))) (
        let x13 : Nat := (r5.2.2.2 303 a0 0)
        let x14 : Nat := (r5.2.2.2 3 x13 a1.toNatClampNeg)
        let r15 : Int64 × FM := GX98_wanted x14 (Int32.ofInt 2) r5.2
        let r16 : Int32 × FM := GX99_run x2 (r5.2.1 317 a0 0) r15.1 r15.2
        fi (0 ≤ r16.1) (
          let x17 : Nat := (r16.2.2.2 303 a0 0)
          fi (r16.1 = (Int32.ofInt 1)) (
            GX92_floating_176 a0 a1 x2 (r16.2.2.2 3 x17 a1.toNatClampNeg) (Int32.ofInt 1) r16.2) (
            GX92_floating_176 a0 a1 x2 (r16.2.2.2 3 x17 a1.toNatClampNeg) (Int32.ofInt 0) r16.2)) (
          let r18 : Int32 × FM := GX92_illegal a0 r16.2
          (r18.1, r18.2)))))
def HX92_floating_0 (a0 : Nat) (a1 : Int32) (a2 : Int64) (a4 : Int32) (a5 : Int32) (a6 : Int32) (M : FM) : Prop := let x1 : Nat := (M.2.2 304 a0 0); (fm_in M x1 a1 = true ∧ let x2 : Nat := (M.2.2 3 x1 a1.toNatClampNeg); let x3 : Nat := (M.2.2 305 a0 0); (fm_in M x3 a1 = true ∧ let x4 : Nat := (M.2.2 3 x3 a1.toNatClampNeg); (fm_is M 95 95 x4 = true ∧ let r5 : Int32 × FM := GX100_floats x4 M; ((r5.1 = 0 → True) ∧ (¬ (r5.1 = 0) → ((a5 = (Int32.ofInt 39) → (fm_is r5.2 96 96 x2 = true ∧ (HX99_get x2 (((r5.2.1 317 a0 0) >>> ((Int32.ofInt 20) &&& 31)) &&& (Int32.ofInt 31)) r5.2 ∧ let r7 : Int64 × FM := GX99_get x2 (((r5.2.1 317 a0 0) >>> ((Int32.ofInt 20) &&& 31)) &&& (Int32.ofInt 31)) r5.2; (HX92_store a0 a1 a2 a4 r7.1 r7.2 ∧ True)))) ∧ (¬ (a5 = (Int32.ofInt 39)) → ((a5 = (Int32.ofInt 7) → (HX92_finds a0 a1 a2 a4 (Int32.ofInt 1) r5.2 ∧ let r9 : Int32 × FM := GX92_finds a0 a1 a2 a4 (Int32.ofInt 1) r5.2; ((r9.1 = 0 → True) ∧ (¬ (r9.1 = 0) → (HX92_get a0 a4 r9.2 ∧ let r10 : Int64 × FM := GX92_get a0 a4 r9.2; ((a4 = (Int32.ofInt 4) → (fm_is r10.2 96 96 x2 = true ∧ (HX99_box x2 a6 r10.1.toInt32 r10.2 ∧ let M11 : FM := GX99_box x2 a6 r10.1.toInt32 r10.2; (fm_is M11 96 96 x2 = true ∧ HX92_floating_113 a0 a1 x2 M11)))) ∧ (¬ (a4 = (Int32.ofInt 4)) → (fm_is r10.2 96 96 x2 = true ∧ (HX99_set x2 a6 r10.1 r10.2 ∧ let M12 : FM := GX99_set x2 a6 r10.1 r10.2; (fm_is M12 96 96 x2 = true ∧ HX92_floating_113 a0 a1 x2 M12)))))))))) ∧ (¬ (a5 = (Int32.ofInt 7)) → let x13 : Nat := (r5.2.2.2 303 a0 0); (fm_in r5.2 x13 a1 = true ∧ let x14 : Nat := (r5.2.2.2 3 x13 a1.toNatClampNeg); (fm_is r5.2 94 94 x14 = true ∧ (HX98_wanted x14 (Int32.ofInt 2) r5.2 ∧ let r15 : Int64 × FM := GX98_wanted x14 (Int32.ofInt 2) r5.2; (fm_is r15.2 96 96 x2 = true ∧ (HX99_run x2 (r5.2.1 317 a0 0) r15.1 r15.2 ∧ let r16 : Int32 × FM := GX99_run x2 (r5.2.1 317 a0 0) r15.1 r15.2; ((0 ≤ r16.1 → let x17 : Nat := (r16.2.2.2 303 a0 0); (fm_in r16.2 x17 a1 = true ∧ ((r16.1 = (Int32.ofInt 1) → (fm_is r16.2 96 96 x2 = true ∧ fm_is r16.2 94 94 (r16.2.2.2 3 x17 a1.toNatClampNeg) = true ∧ HX92_floating_176 a0 a1 x2 (r16.2.2.2 3 x17 a1.toNatClampNeg) (Int32.ofInt 1) r16.2)) ∧ (¬ (r16.1 = (Int32.ofInt 1)) → (fm_is r16.2 96 96 x2 = true ∧ fm_is r16.2 94 94 (r16.2.2.2 3 x17 a1.toNatClampNeg) = true ∧ HX92_floating_176 a0 a1 x2 (r16.2.2.2 3 x17 a1.toNatClampNeg) (Int32.ofInt 0) r16.2))))) ∧ (¬ (0 ≤ r16.1) → True))))))))))))))))
theorem gX92_floating_0 (a0 : Nat) (a1 : Int32) (a2 : Int64) (a4 : Int32) (a5 : Int32) (a6 : Int32) (M : FM) (T : Ty M) (n_a0 : fm_is M 92 92 a0 = true) (h : HX92_floating_0 a0 a1 a2 a4 a5 a6 M) : gd (FX92_floating_0 fN a0 a1 a2 a4 a5 a6 M) (GX92_floating_0 a0 a1 a2 a4 a5 a6 M) (OkZ M) := by
  delta FX92_floating_0 BX92_floating_0
  refine gd_c n_a0 ?_
  have f50 := (fm_w (lo' := 910) (hi' := 990) rfl rfl (tN_304 T.1 n_a0))
  refine gd_c ⟨f50, h.1⟩ ?_
  refine gd_c n_a0 ?_
  have f49 := (fm_w (lo' := 910) (hi' := 990) rfl rfl (tN_305 T.1 n_a0))
  refine gd_c ⟨f49, h.2.1⟩ ?_
  refine gd_c h.2.2.1 ?_
  refine gd_b (gX100_floats _ _ ⟨T.1, T.2⟩ h.2.2.1 ) (fun K0 => ?_)
  refine gd_fi (fun c1_0 => ?_) (fun c1_0 => ?_)
  · have f2 := (ext_is K0.2.1 (Nat.zero_lt_succ _) n_a0)
    refine gd_c f2 ?_
    have f4 := (ext_is K0.2.1 (Nat.zero_lt_succ _) n_a0)
    refine gd_b (gX92_illegal _ _ ⟨K0.1.1, K0.1.2⟩ f4 ) (fun K3 => ?_)
    exact gd_z K3.2.2 ⟨K3.1.1, K3.1.2⟩ (ext_tr K0.2.1 K3.2.1) rfl
  · refine gd_fi (fun c5_0 => ?_) (fun c5_0 => ?_)
    · have f6 := (ext_is K0.2.1 (Nat.zero_lt_succ _) n_a0)
      refine gd_c f6 ?_
      refine gd_c ((h.2.2.2.2 c1_0).1 c5_0).1 ?_
      have f11 := ((h.2.2.2.2 c1_0).1 c5_0).1
      refine gd_b (gX99_get _ _ _ ⟨K0.1.1, K0.1.2⟩ f11 ((h.2.2.2.2 c1_0).1 c5_0).2.1) (fun K7 => ?_)
      have f8 := (ext_is K7.2 (Nat.zero_lt_succ _) (ext_is K0.2.1 (Nat.zero_lt_succ _) n_a0))
      refine gd_c f8 ?_
      have f10 := (ext_is K7.2 (Nat.zero_lt_succ _) (ext_is K0.2.1 (Nat.zero_lt_succ _) n_a0))
      refine gd_b (gX92_store _ _ _ _ _ _ ⟨K7.1.1, K7.1.2⟩ f10 ((h.2.2.2.2 c1_0).1 c5_0).2.2.1) (fun K9 => ?_)
      exact gd_z K9.2.2 ⟨K9.1.1, K9.1.2⟩ (ext_tr K0.2.1 (ext_tr K7.2 K9.2.1)) rfl
    · refine gd_fi (fun c12_0 => ?_) (fun c12_0 => ?_)
      · have f13 := (ext_is K0.2.1 (Nat.zero_lt_succ _) n_a0)
        refine gd_c f13 ?_
        refine gd_b (gX92_finds _ _ _ _ _ _ (((h.2.2.2.2 c1_0).2 c5_0).1 c12_0).1) (fun K14 => ?_)
        refine gd_fi (fun c15_0 => ?_) (fun c15_0 => ?_)
        · exact gd_z fz_0 ⟨K14.1.1, K14.1.2⟩ (ext_tr K0.2.1 K14.2.1) rfl
        · have f16 := (ext_is K14.2.1 (Nat.zero_lt_succ _) (ext_is K0.2.1 (Nat.zero_lt_succ _) n_a0))
          refine gd_c f16 ?_
          refine gd_b (gX92_get _ _ _ ((((h.2.2.2.2 c1_0).2 c5_0).1 c12_0).2.2 c15_0).1) (fun K17 => ?_)
          refine gd_fi (fun c18_0 => ?_) (fun c18_0 => ?_)
          · refine gd_c (((((h.2.2.2.2 c1_0).2 c5_0).1 c12_0).2.2 c15_0).2.1 c18_0).1 ?_
            have f22 := (((((h.2.2.2.2 c1_0).2 c5_0).1 c12_0).2.2 c15_0).2.1 c18_0).1
            refine gd_b (gX99_box _ _ _ _ ⟨K17.1.1, K17.1.2⟩ f22 (((((h.2.2.2.2 c1_0).2 c5_0).1 c12_0).2.2 c15_0).2.1 c18_0).2.1) (fun K19 => ?_)
            have f20 := (ext_is K19.2 (Nat.zero_lt_succ _) (ext_is K17.2 (Nat.zero_lt_succ _) (ext_is K14.2.1 (Nat.zero_lt_succ _) (ext_is K0.2.1 (Nat.zero_lt_succ _) n_a0))))
            have f21 := (((((h.2.2.2.2 c1_0).2 c5_0).1 c12_0).2.2 c15_0).2.1 c18_0).2.2.1
            exact gd_tZ (ext_tr K0.2.1 (ext_tr K14.2.1 (ext_tr K17.2 K19.2))) (gX92_floating_113 _ _ _ _ ⟨K19.1.1, K19.1.2⟩ f20 f21 (((((h.2.2.2.2 c1_0).2 c5_0).1 c12_0).2.2 c15_0).2.1 c18_0).2.2.2)
          · refine gd_c (((((h.2.2.2.2 c1_0).2 c5_0).1 c12_0).2.2 c15_0).2.2 c18_0).1 ?_
            have f26 := (((((h.2.2.2.2 c1_0).2 c5_0).1 c12_0).2.2 c15_0).2.2 c18_0).1
            refine gd_b (gX99_set _ _ _ _ ⟨K17.1.1, K17.1.2⟩ f26 (((((h.2.2.2.2 c1_0).2 c5_0).1 c12_0).2.2 c15_0).2.2 c18_0).2.1) (fun K23 => ?_)
            have f24 := (ext_is K23.2 (Nat.zero_lt_succ _) (ext_is K17.2 (Nat.zero_lt_succ _) (ext_is K14.2.1 (Nat.zero_lt_succ _) (ext_is K0.2.1 (Nat.zero_lt_succ _) n_a0))))
            have f25 := (((((h.2.2.2.2 c1_0).2 c5_0).1 c12_0).2.2 c15_0).2.2 c18_0).2.2.1
            exact gd_tZ (ext_tr K0.2.1 (ext_tr K14.2.1 (ext_tr K17.2 K23.2))) (gX92_floating_113 _ _ _ _ ⟨K23.1.1, K23.1.2⟩ f24 f25 (((((h.2.2.2.2 c1_0).2 c5_0).1 c12_0).2.2 c15_0).2.2 c18_0).2.2.2)
      · have f27 := (ext_is K0.2.1 (Nat.zero_lt_succ _) n_a0)
        refine gd_c f27 ?_
        have f28 := (ext_is K0.2.1 (Nat.zero_lt_succ _) n_a0)
        refine gd_c f28 ?_
        have f47 := (fm_w (lo' := 910) (hi' := 990) rfl rfl (tN_303 K0.1.1 (ext_is K0.2.1 (Nat.zero_lt_succ _) n_a0)))
        have f48 := (((h.2.2.2.2 c1_0).2 c5_0).2 c12_0).1
        refine gd_c ⟨f47, f48⟩ ?_
        refine gd_c (((h.2.2.2.2 c1_0).2 c5_0).2 c12_0).2.1 ?_
        have f46 := (((h.2.2.2.2 c1_0).2 c5_0).2 c12_0).2.1
        refine gd_b (gX98_wanted _ _ _ ⟨K0.1.1, K0.1.2⟩ f46 (((h.2.2.2.2 c1_0).2 c5_0).2 c12_0).2.2.1) (fun K29 => ?_)
        refine gd_c (((h.2.2.2.2 c1_0).2 c5_0).2 c12_0).2.2.2.1 ?_
        have f45 := (((h.2.2.2.2 c1_0).2 c5_0).2 c12_0).2.2.2.1
        refine gd_b (gX99_run _ _ _ _ ⟨K29.1.1, K29.1.2⟩ f45 (((h.2.2.2.2 c1_0).2 c5_0).2 c12_0).2.2.2.2.1) (fun K30 => ?_)
        refine gd_fi (fun c31_0 => ?_) (fun c31_0 => ?_)
        · have f32 := (ext_is K30.2 (Nat.zero_lt_succ _) (ext_is K29.2 (Nat.zero_lt_succ _) (ext_is K0.2.1 (Nat.zero_lt_succ _) n_a0)))
          refine gd_c f32 ?_
          have f40 := (fm_w (lo' := 910) (hi' := 990) rfl rfl (tN_303 K30.1.1 (ext_is K30.2 (Nat.zero_lt_succ _) (ext_is K29.2 (Nat.zero_lt_succ _) (ext_is K0.2.1 (Nat.zero_lt_succ _) n_a0)))))
          have f41 := ((((h.2.2.2.2 c1_0).2 c5_0).2 c12_0).2.2.2.2.2.1 c31_0).1
          refine gd_c ⟨f40, f41⟩ ?_
          refine gd_fi (fun c33_0 => ?_) (fun c33_0 => ?_)
          · have f34 := (((((h.2.2.2.2 c1_0).2 c5_0).2 c12_0).2.2.2.2.2.1 c31_0).2.1 c33_0).1
            have f35 := (((((h.2.2.2.2 c1_0).2 c5_0).2 c12_0).2.2.2.2.2.1 c31_0).2.1 c33_0).2.1
            have f36 := (ext_is K30.2 (Nat.zero_lt_succ _) (ext_is K29.2 (Nat.zero_lt_succ _) (ext_is K0.2.1 (Nat.zero_lt_succ _) n_a0)))
            exact gd_tZ (ext_tr K0.2.1 (ext_tr K29.2 K30.2)) (gX92_floating_176 _ _ _ _ _ _ ⟨K30.1.1, K30.1.2⟩ f34 f35 f36 (((((h.2.2.2.2 c1_0).2 c5_0).2 c12_0).2.2.2.2.2.1 c31_0).2.1 c33_0).2.2)
          · have f37 := (((((h.2.2.2.2 c1_0).2 c5_0).2 c12_0).2.2.2.2.2.1 c31_0).2.2 c33_0).1
            have f38 := (((((h.2.2.2.2 c1_0).2 c5_0).2 c12_0).2.2.2.2.2.1 c31_0).2.2 c33_0).2.1
            have f39 := (ext_is K30.2 (Nat.zero_lt_succ _) (ext_is K29.2 (Nat.zero_lt_succ _) (ext_is K0.2.1 (Nat.zero_lt_succ _) n_a0)))
            exact gd_tZ (ext_tr K0.2.1 (ext_tr K29.2 K30.2)) (gX92_floating_176 _ _ _ _ _ _ ⟨K30.1.1, K30.1.2⟩ f37 f38 f39 (((((h.2.2.2.2 c1_0).2 c5_0).2 c12_0).2.2.2.2.2.1 c31_0).2.2 c33_0).2.2)
        · have f42 := (ext_is K30.2 (Nat.zero_lt_succ _) (ext_is K29.2 (Nat.zero_lt_succ _) (ext_is K0.2.1 (Nat.zero_lt_succ _) n_a0)))
          refine gd_c f42 ?_
          have f44 := (ext_is K30.2 (Nat.zero_lt_succ _) (ext_is K29.2 (Nat.zero_lt_succ _) (ext_is K0.2.1 (Nat.zero_lt_succ _) n_a0)))
          refine gd_b (gX92_illegal _ _ ⟨K30.1.1, K30.1.2⟩ f44 ) (fun K43 => ?_)
          exact gd_z K43.2.2 ⟨K43.1.1, K43.1.2⟩ (ext_tr K0.2.1 (ext_tr K29.2 (ext_tr K30.2 K43.2.1))) rfl
noncomputable def GX92_floating (a0 : Nat) (a1 : Int32) (a2 : Int64) (a4 : Int32) (a5 : Int32) (a6 : Int32) (M : FM) : Int32 × FM := GX92_floating_0 a0 a1 a2 a4 a5 a6 M
def HX92_floating (a0 : Nat) (a1 : Int32) (a2 : Int64) (a4 : Int32) (a5 : Int32) (a6 : Int32) (M : FM) : Prop := HX92_floating_0 a0 a1 a2 a4 a5 a6 M
theorem gX92_floating (a0 : Nat) (a1 : Int32) (a2 : Int64) (a4 : Int32) (a5 : Int32) (a6 : Int32) (M : FM) (T : Ty M) (n_a0 : fm_is M 92 92 a0 = true) (h : HX92_floating a0 a1 a2 a4 a5 a6 M) : gd (FX92_floating fN a0 a1 a2 a4 a5 a6 M) (GX92_floating a0 a1 a2 a4 a5 a6 M) (OkZ M) := gX92_floating_0 a0 a1 a2 a4 a5 a6 M T n_a0 h
noncomputable def GX100_back_158 (s0 : Nat) (s1 : Nat) (s2 : Int32) (M : FM) : Int32 × FM :=
  let M1 : FM := fm_sL M 365 s0 0 (M.2.1 3 s1 s2.toNatClampNeg)
  ((Int32.ofInt 1), M1)
def HX100_back_158 (s0 : Nat) (s1 : Nat) (s2 : Int32) (M : FM) : Prop := (fm_in M s1 s2 = true ∧ True)
theorem gX100_back_158 (s0 : Nat) (s1 : Nat) (s2 : Int32) (M : FM) (T : Ty M) (n_s1 : fm_is M 902 902 s1 = true) (n_s0 : fm_is M 95 95 s0 = true) (h : HX100_back_158 s0 s1 s2 M) : gd (FX100_back_158 s0 s1 s2 M) (GX100_back_158 s0 s1 s2 M) (OkZ M) := by
  delta FX100_back_158 BX100_back_158
  refine gd_c ⟨n_s1, h.1⟩ ?_
  refine gd_c n_s0 ?_
  exact gd_z fz_1 ⟨T.1, T.2⟩ (ext_dL (ext_r _)) rfl
noncomputable def GX100_back_140 (a0 : Nat) (a1 : Int32) (M : FM) : Int32 × FM :=
  fi (a1 = 0) (
    GX100_back_158 a0 (M.2.2 361 a0 0) (Int32.ofInt 321) M) (
    GX100_back_158 a0 (M.2.2 361 a0 0) (Int32.ofInt 833) M)
def HX100_back_140 (a0 : Nat) (a1 : Int32) (M : FM) : Prop := ((a1 = 0 → HX100_back_158 a0 (M.2.2 361 a0 0) (Int32.ofInt 321) M) ∧ (¬ (a1 = 0) → HX100_back_158 a0 (M.2.2 361 a0 0) (Int32.ofInt 833) M))
theorem gX100_back_140 (a0 : Nat) (a1 : Int32) (M : FM) (T : Ty M) (n_a0 : fm_is M 95 95 a0 = true) (h : HX100_back_140 a0 a1 M) : gd (FX100_back_140 a0 a1 M) (GX100_back_140 a0 a1 M) (OkZ M) := by
  delta FX100_back_140 BX100_back_140
  refine gd_c n_a0 ?_
  refine gd_fi (fun c0_0 => ?_) (fun c0_0 => ?_)
  · have f1 := (tN_361 T.1 n_a0)
    exact gd_tZ (ext_r _) (gX100_back_158 _ _ _ _ ⟨T.1, T.2⟩ f1 n_a0 (h.1 c0_0))
  · have f2 := (tN_361 T.1 n_a0)
    exact gd_tZ (ext_r _) (gX100_back_158 _ _ _ _ ⟨T.1, T.2⟩ f2 n_a0 (h.2 c0_0))
noncomputable def GX100_back_125 (a0 : Nat) (a1 : Int32) (M : FM) : Int32 × FM :=
  fi ((Int32.ofInt 3) ≤ (M.1 360 a0 0)) (
    GX100_back_140 a0 a1 M) (
    let M1 : FM := GX100_put a0 (Int32.ofInt 17) (Int32.ofInt 0) M
    GX100_back_140 a0 a1 M1)
def HX100_back_125 (a0 : Nat) (a1 : Int32) (M : FM) : Prop := (((Int32.ofInt 3) ≤ (M.1 360 a0 0) → HX100_back_140 a0 a1 M) ∧ (¬ ((Int32.ofInt 3) ≤ (M.1 360 a0 0)) → let M1 : FM := GX100_put a0 (Int32.ofInt 17) (Int32.ofInt 0) M; HX100_back_140 a0 a1 M1))
theorem gX100_back_125 (a0 : Nat) (a1 : Int32) (M : FM) (T : Ty M) (n_a0 : fm_is M 95 95 a0 = true) (h : HX100_back_125 a0 a1 M) : gd (FX100_back_125 a0 a1 M) (GX100_back_125 a0 a1 M) (OkZ M) := by
  delta FX100_back_125 BX100_back_125
  refine gd_c n_a0 ?_
  refine gd_fi (fun c0_0 => ?_) (fun c0_0 => ?_)
  · exact gd_tZ (ext_r _) (gX100_back_140 _ _ _ ⟨T.1, T.2⟩ n_a0 (h.1 c0_0))
  · refine gd_c n_a0 ?_
    refine gd_b (gX100_put _ _ _ _ ⟨T.1, T.2⟩ n_a0 ) (fun K1 => ?_)
    have f2 := (ext_is K1.2 (Nat.zero_lt_succ _) n_a0)
    exact gd_tZ K1.2 (gX100_back_140 _ _ _ ⟨K1.1.1, K1.1.2⟩ f2 (h.2 c0_0))
noncomputable def GX100_back_94 (a0 : Nat) (a1 : Int32) (s0 : Nat) (s1 : Int32) (M : FM) : Int32 × FM :=
  let M1 : FM := fm_sI M 360 s0 0 s1
  fi (a1 = 0) (
    let M2 : FM := GX100_put a0 (Int32.ofInt 8) (Int32.ofInt 0) M1
    GX100_back_125 a0 a1 M2) (
    let M3 : FM := GX100_put a0 (Int32.ofInt 11) (Int32.ofInt 0) M1
    let M4 : FM := GX100_put a0 (Int32.ofInt 12) (Int32.ofInt 0) M3
    GX100_back_125 a0 a1 M4)
def HX100_back_94 (a0 : Nat) (a1 : Int32) (s0 : Nat) (s1 : Int32) (M : FM) : Prop := let M1 : FM := fm_sI M 360 s0 0 s1; ((a1 = 0 → let M2 : FM := GX100_put a0 (Int32.ofInt 8) (Int32.ofInt 0) M1; HX100_back_125 a0 a1 M2) ∧ (¬ (a1 = 0) → let M3 : FM := GX100_put a0 (Int32.ofInt 11) (Int32.ofInt 0) M1; let M4 : FM := GX100_put a0 (Int32.ofInt 12) (Int32.ofInt 0) M3; HX100_back_125 a0 a1 M4))
theorem gX100_back_94 (a0 : Nat) (a1 : Int32) (s0 : Nat) (s1 : Int32) (M : FM) (T : Ty M) (n_s0 : fm_is M 95 95 s0 = true) (n_a0 : fm_is M 95 95 a0 = true) (h : HX100_back_94 a0 a1 s0 s1 M) : gd (FX100_back_94 a0 a1 s0 s1 M) (GX100_back_94 a0 a1 s0 s1 M) (OkZ M) := by
  delta FX100_back_94 BX100_back_94
  refine gd_c n_s0 ?_
  refine gd_fi (fun c0_0 => ?_) (fun c0_0 => ?_)
  · refine gd_c n_a0 ?_
    refine gd_b (gX100_put _ _ _ _ ⟨T.1, (tyb_sI (f := 360) rfl T.2)⟩ n_a0 ) (fun K1 => ?_)
    have f2 := (ext_is K1.2 (Nat.zero_lt_succ _) n_a0)
    exact gd_tZ (ext_dI K1.2) (gX100_back_125 _ _ _ ⟨K1.1.1, K1.1.2⟩ f2 (h.1 c0_0))
  · refine gd_c n_a0 ?_
    refine gd_b (gX100_put _ _ _ _ ⟨T.1, (tyb_sI (f := 360) rfl T.2)⟩ n_a0 ) (fun K3 => ?_)
    have f4 := (ext_is K3.2 (Nat.zero_lt_succ _) n_a0)
    refine gd_c f4 ?_
    have f7 := (ext_is K3.2 (Nat.zero_lt_succ _) n_a0)
    refine gd_b (gX100_put _ _ _ _ ⟨K3.1.1, K3.1.2⟩ f7 ) (fun K5 => ?_)
    have f6 := (ext_is K5.2 (Nat.zero_lt_succ _) (ext_is K3.2 (Nat.zero_lt_succ _) n_a0))
    exact gd_tZ (ext_dI (ext_tr K3.2 K5.2)) (gX100_back_125 _ _ _ ⟨K5.1.1, K5.1.2⟩ f6 (h.2 c0_0))
noncomputable def GX100_back_55 (a0 : Nat) (a1 : Int32) (s0 : Int32) (M : FM) : Int32 × FM :=
  let r1 : Int32 × FM := GX100_status a0 (s0 + (Int32.ofInt 4)) M
  let M2 : FM := GX100_put a0 s0 r1.1 r1.2
  let M3 : FM := GX100_put a0 (s0 + (Int32.ofInt 4)) (Int32.ofInt 1) M2
  fi (a1 = 0) (
    let r4 : Int32 × FM := GX100_status a0 (Int32.ofInt 8) M3
    GX100_back_94 a0 a1 a0 r4.1 r4.2) (
    let r5 : Int32 × FM := GX100_below a0 M3
    GX100_back_94 a0 a1 a0 r5.1 r5.2)
def HX100_back_55 (a0 : Nat) (a1 : Int32) (s0 : Int32) (M : FM) : Prop := let r1 : Int32 × FM := GX100_status a0 (s0 + (Int32.ofInt 4)) M; let M2 : FM := GX100_put a0 s0 r1.1 r1.2; let M3 : FM := GX100_put a0 (s0 + (Int32.ofInt 4)) (Int32.ofInt 1) M2; ((a1 = 0 → let r4 : Int32 × FM := GX100_status a0 (Int32.ofInt 8) M3; HX100_back_94 a0 a1 a0 r4.1 r4.2) ∧ (¬ (a1 = 0) → let r5 : Int32 × FM := GX100_below a0 M3; HX100_back_94 a0 a1 a0 r5.1 r5.2))
theorem gX100_back_55 (a0 : Nat) (a1 : Int32) (s0 : Int32) (M : FM) (T : Ty M) (n_a0 : fm_is M 95 95 a0 = true) (h : HX100_back_55 a0 a1 s0 M) : gd (FX100_back_55 a0 a1 s0 M) (GX100_back_55 a0 a1 s0 M) (OkZ M) := by
  delta FX100_back_55 BX100_back_55
  refine gd_c n_a0 ?_
  refine gd_b (gX100_status _ _ _ ⟨T.1, T.2⟩ n_a0 ) (fun K0 => ?_)
  have f1 := (ext_is K0.2 (Nat.zero_lt_succ _) n_a0)
  refine gd_c f1 ?_
  have f17 := (ext_is K0.2 (Nat.zero_lt_succ _) n_a0)
  refine gd_b (gX100_put _ _ _ _ ⟨K0.1.1, K0.1.2⟩ f17 ) (fun K2 => ?_)
  have f3 := (ext_is K2.2 (Nat.zero_lt_succ _) (ext_is K0.2 (Nat.zero_lt_succ _) n_a0))
  refine gd_c f3 ?_
  have f16 := (ext_is K2.2 (Nat.zero_lt_succ _) (ext_is K0.2 (Nat.zero_lt_succ _) n_a0))
  refine gd_b (gX100_put _ _ _ _ ⟨K2.1.1, K2.1.2⟩ f16 ) (fun K4 => ?_)
  refine gd_fi (fun c5_0 => ?_) (fun c5_0 => ?_)
  · have f6 := (ext_is K4.2 (Nat.zero_lt_succ _) (ext_is K2.2 (Nat.zero_lt_succ _) (ext_is K0.2 (Nat.zero_lt_succ _) n_a0)))
    refine gd_c f6 ?_
    have f10 := (ext_is K4.2 (Nat.zero_lt_succ _) (ext_is K2.2 (Nat.zero_lt_succ _) (ext_is K0.2 (Nat.zero_lt_succ _) n_a0)))
    refine gd_b (gX100_status _ _ _ ⟨K4.1.1, K4.1.2⟩ f10 ) (fun K7 => ?_)
    have f8 := (ext_is K7.2 (Nat.zero_lt_succ _) (ext_is K4.2 (Nat.zero_lt_succ _) (ext_is K2.2 (Nat.zero_lt_succ _) (ext_is K0.2 (Nat.zero_lt_succ _) n_a0))))
    have f9 := (ext_is K7.2 (Nat.zero_lt_succ _) (ext_is K4.2 (Nat.zero_lt_succ _) (ext_is K2.2 (Nat.zero_lt_succ _) (ext_is K0.2 (Nat.zero_lt_succ _) n_a0))))
    exact gd_tZ (ext_tr K0.2 (ext_tr K2.2 (ext_tr K4.2 K7.2))) (gX100_back_94 _ _ _ _ _ ⟨K7.1.1, K7.1.2⟩ f8 f9 (h.1 c5_0))
  · have f11 := (ext_is K4.2 (Nat.zero_lt_succ _) (ext_is K2.2 (Nat.zero_lt_succ _) (ext_is K0.2 (Nat.zero_lt_succ _) n_a0)))
    refine gd_c f11 ?_
    have f15 := (ext_is K4.2 (Nat.zero_lt_succ _) (ext_is K2.2 (Nat.zero_lt_succ _) (ext_is K0.2 (Nat.zero_lt_succ _) n_a0)))
    refine gd_b (gX100_below _ _ ⟨K4.1.1, K4.1.2⟩ f15 ) (fun K12 => ?_)
    have f13 := (ext_is K12.2 (Nat.zero_lt_succ _) (ext_is K4.2 (Nat.zero_lt_succ _) (ext_is K2.2 (Nat.zero_lt_succ _) (ext_is K0.2 (Nat.zero_lt_succ _) n_a0))))
    have f14 := (ext_is K12.2 (Nat.zero_lt_succ _) (ext_is K4.2 (Nat.zero_lt_succ _) (ext_is K2.2 (Nat.zero_lt_succ _) (ext_is K0.2 (Nat.zero_lt_succ _) n_a0))))
    exact gd_tZ (ext_tr K0.2 (ext_tr K2.2 (ext_tr K4.2 K12.2))) (gX100_back_94 _ _ _ _ _ ⟨K12.1.1, K12.1.2⟩ f13 f14 (h.2 c5_0))
noncomputable def GX100_back_39 (a0 : Nat) (a1 : Int32) (s0 : Int32) (M : FM) : Int32 × FM :=
  fi (s0 = 0) (
    ((Int32.ofInt 0), M)) (
    fi (a1 = 0) (
      GX100_back_55 a0 a1 (Int32.ofInt 1) M) (
      GX100_back_55 a0 a1 (Int32.ofInt 3) M))
def HX100_back_39 (a0 : Nat) (a1 : Int32) (s0 : Int32) (M : FM) : Prop := ((s0 = 0 → True) ∧ (¬ (s0 = 0) → ((a1 = 0 → HX100_back_55 a0 a1 (Int32.ofInt 1) M) ∧ (¬ (a1 = 0) → HX100_back_55 a0 a1 (Int32.ofInt 3) M))))
theorem gX100_back_39 (a0 : Nat) (a1 : Int32) (s0 : Int32) (M : FM) (T : Ty M) (n_a0 : fm_is M 95 95 a0 = true) (h : HX100_back_39 a0 a1 s0 M) : gd (FX100_back_39 a0 a1 s0 M) (GX100_back_39 a0 a1 s0 M) (OkZ M) := by
  delta FX100_back_39 BX100_back_39
  refine gd_fi (fun c0_0 => ?_) (fun c0_0 => ?_)
  · exact gd_z fz_0 ⟨T.1, T.2⟩ (ext_r _) rfl
  · refine gd_fi (fun c1_0 => ?_) (fun c1_0 => ?_)
    · exact gd_tZ (ext_r _) (gX100_back_55 _ _ _ _ ⟨T.1, T.2⟩ n_a0 ((h.2 c0_0).1 c1_0))
    · exact gd_tZ (ext_r _) (gX100_back_55 _ _ _ _ ⟨T.1, T.2⟩ n_a0 ((h.2 c0_0).2 c1_0))
noncomputable def GX100_back_38 (a0 : Nat) (a1 : Int32) (M : FM) : Int32 × FM :=
  GX100_back_39 a0 a1 (Int32.ofInt 0) M
def HX100_back_38 (a0 : Nat) (a1 : Int32) (M : FM) : Prop := HX100_back_39 a0 a1 (Int32.ofInt 0) M
theorem gX100_back_38 (a0 : Nat) (a1 : Int32) (M : FM) (T : Ty M) (n_a0 : fm_is M 95 95 a0 = true) (h : HX100_back_38 a0 a1 M) : gd (FX100_back_38 a0 a1 M) (GX100_back_38 a0 a1 M) (OkZ M) := by
  delta FX100_back_38 BX100_back_38
  exact gd_tZ (ext_r _) (gX100_back_39 _ _ _ _ ⟨T.1, T.2⟩ n_a0 h)
noncomputable def GX100_back_34 (a0 : Nat) (a1 : Int32) (M : FM) : Int32 × FM :=
  GX100_back_39 a0 a1 (Int32.ofInt 1) M
def HX100_back_34 (a0 : Nat) (a1 : Int32) (M : FM) : Prop := HX100_back_39 a0 a1 (Int32.ofInt 1) M
theorem gX100_back_34 (a0 : Nat) (a1 : Int32) (M : FM) (T : Ty M) (n_a0 : fm_is M 95 95 a0 = true) (h : HX100_back_34 a0 a1 M) : gd (FX100_back_34 a0 a1 M) (GX100_back_34 a0 a1 M) (OkZ M) := by
  delta FX100_back_34 BX100_back_34
  exact gd_tZ (ext_r _) (gX100_back_39 _ _ _ _ ⟨T.1, T.2⟩ n_a0 h)
noncomputable def GX100_back_0 (a0 : Nat) (a1 : Int32) (M : FM) : Int32 × FM :=
  let M1 : FM := fm_sI M 358 a0 0 (Int32.ofInt 0)
  fi ((M1.1 360 a0 0) = (Int32.ofInt 3)) (
    GX100_back_34 a0 a1 M1) (
    fi (a1 = 0) (
      fi ((M1.1 360 a0 0) = (Int32.ofInt 1)) (
        let r2 : Int32 × FM := GX100_status a0 (Int32.ofInt 22) M1
        fi (r2.1 = 0) (
          GX100_back_34 a0 a1 r2.2) (
          GX100_back_38 a0 a1 r2.2)) (
        GX100_back_38 a0 a1 M1)) (
      GX100_back_38 a0 a1 M1))
def HX100_back_0 (a0 : Nat) (a1 : Int32) (M : FM) : Prop := let M1 : FM := fm_sI M 358 a0 0 (Int32.ofInt 0); (((M1.1 360 a0 0) = (Int32.ofInt 3) → HX100_back_34 a0 a1 M1) ∧ (¬ ((M1.1 360 a0 0) = (Int32.ofInt 3)) → ((a1 = 0 → (((M1.1 360 a0 0) = (Int32.ofInt 1) → let r2 : Int32 × FM := GX100_status a0 (Int32.ofInt 22) M1; ((r2.1 = 0 → HX100_back_34 a0 a1 r2.2) ∧ (¬ (r2.1 = 0) → HX100_back_38 a0 a1 r2.2))) ∧ (¬ ((M1.1 360 a0 0) = (Int32.ofInt 1)) → HX100_back_38 a0 a1 M1))) ∧ (¬ (a1 = 0) → HX100_back_38 a0 a1 M1))))
theorem gX100_back_0 (a0 : Nat) (a1 : Int32) (M : FM) (T : Ty M) (n_a0 : fm_is M 95 95 a0 = true) (h : HX100_back_0 a0 a1 M) : gd (FX100_back_0 a0 a1 M) (GX100_back_0 a0 a1 M) (OkZ M) := by
  delta FX100_back_0 BX100_back_0
  refine gd_c n_a0 ?_
  refine gd_c n_a0 ?_
  refine gd_fi (fun c0_0 => ?_) (fun c0_0 => ?_)
  · exact gd_tZ (ext_dI (ext_r _)) (gX100_back_34 _ _ _ ⟨T.1, (tyb_sI (f := 358) rfl T.2)⟩ n_a0 (h.1 c0_0))
  · refine gd_fi (fun c1_0 => ?_) (fun c1_0 => ?_)
    · refine gd_c n_a0 ?_
      refine gd_fi (fun c2_0 => ?_) (fun c2_0 => ?_)
      · refine gd_c n_a0 ?_
        refine gd_b (gX100_status _ _ _ ⟨T.1, (tyb_sI (f := 358) rfl T.2)⟩ n_a0 ) (fun K3 => ?_)
        refine gd_fi (fun c4_0 => ?_) (fun c4_0 => ?_)
        · have f5 := (ext_is K3.2 (Nat.zero_lt_succ _) n_a0)
          exact gd_tZ (ext_dI K3.2) (gX100_back_34 _ _ _ ⟨K3.1.1, K3.1.2⟩ f5 ((((h.2 c0_0).1 c1_0).1 c2_0).1 c4_0))
        · have f6 := (ext_is K3.2 (Nat.zero_lt_succ _) n_a0)
          exact gd_tZ (ext_dI K3.2) (gX100_back_38 _ _ _ ⟨K3.1.1, K3.1.2⟩ f6 ((((h.2 c0_0).1 c1_0).1 c2_0).2 c4_0))
      · exact gd_tZ (ext_dI (ext_r _)) (gX100_back_38 _ _ _ ⟨T.1, (tyb_sI (f := 358) rfl T.2)⟩ n_a0 (((h.2 c0_0).1 c1_0).2 c2_0))
    · exact gd_tZ (ext_dI (ext_r _)) (gX100_back_38 _ _ _ ⟨T.1, (tyb_sI (f := 358) rfl T.2)⟩ n_a0 ((h.2 c0_0).2 c1_0))
noncomputable def GX100_back (a0 : Nat) (a1 : Int32) (M : FM) : Int32 × FM := GX100_back_0 a0 a1 M
def HX100_back (a0 : Nat) (a1 : Int32) (M : FM) : Prop := HX100_back_0 a0 a1 M
theorem gX100_back (a0 : Nat) (a1 : Int32) (M : FM) (T : Ty M) (n_a0 : fm_is M 95 95 a0 = true) (h : HX100_back a0 a1 M) : gd (FX100_back a0 a1 M) (GX100_back a0 a1 M) (OkZ M) := gX100_back_0 a0 a1 M T n_a0 h
noncomputable def GX100_place_0 (a0 : Nat) (M : FM) : Int64 × FM :=
  let M1 : FM := fm_sI M 358 a0 0 (Int32.ofInt 0)
  ((M1.2.1 365 a0 0), M1)
theorem gX100_place_0 (a0 : Nat) (M : FM) (T : Ty M) (n_a0 : fm_is M 95 95 a0 = true) : gd (FX100_place_0 a0 M) (GX100_place_0 a0 M) (OkR M) := by
  delta FX100_place_0 BX100_place_0
  refine gd_c n_a0 ?_
  refine gd_c n_a0 ?_
  exact ⟨rfl, ⟨T.1, (tyb_sI (f := 358) rfl T.2)⟩, (ext_dI (ext_r _))⟩
noncomputable def GX100_place (a0 : Nat) (M : FM) : Int64 × FM := GX100_place_0 a0 M
theorem gX100_place (a0 : Nat) (M : FM) (T : Ty M) (n_a0 : fm_is M 95 95 a0 = true) : gd (FX100_place a0 M) (GX100_place a0 M) (OkR M) := gX100_place_0 a0 M T n_a0 
noncomputable def GX98_jump_0 (a0 : Nat) (a1 : Int64) (M : FM) : FM :=
  let M1 : FM := fm_sI M 345 a0 0 (Int32.ofInt 0)
  let M2 : FM := fm_sL M1 347 a0 0 (a1 - (a1 &&& (Int64.ofInt 1)))
  let M3 : FM := fm_sI M2 353 a0 0 (Int32.ofInt (-1))
  M3
theorem gX98_jump_0 (a0 : Nat) (a1 : Int64) (M : FM) (T : Ty M) (n_a0 : fm_is M 94 94 a0 = true) : gd (FX98_jump_0 a0 a1 M) (GX98_jump_0 a0 a1 M) (OkV M) := by
  delta FX98_jump_0 BX98_jump_0
  refine gd_c n_a0 ?_
  refine gd_c n_a0 ?_
  refine gd_c n_a0 ?_
  exact ⟨rfl, ⟨T.1, (tyb_sI (f := 353) rfl (tyb_sI (f := 345) rfl T.2))⟩, (ext_dI (ext_dL (ext_dI (ext_r _))))⟩
noncomputable def GX98_jump (a0 : Nat) (a1 : Int64) (M : FM) : FM := GX98_jump_0 a0 a1 M
theorem gX98_jump (a0 : Nat) (a1 : Int64) (M : FM) (T : Ty M) (n_a0 : fm_is M 94 94 a0 = true) : gd (FX98_jump a0 a1 M) (GX98_jump a0 a1 M) (OkV M) := gX98_jump_0 a0 a1 M T n_a0 
noncomputable def GX92_back_0 (a0 : Nat) (a1 : Int32) (a2 : Int32) (M : FM) : Int32 × FM :=
  let x1 : Nat := (M.2.2 305 a0 0)
  let x2 : Nat := (M.2.2 3 x1 a1.toNatClampNeg)
  let r3 : Int32 × FM := GX100_back x2 a2 M
  fi (r3.1 = 0) (
    let r4 : Int32 × FM := GX92_illegal a0 r3.2
    (r4.1, r4.2)) (
    let x5 : Nat := (r3.2.2.2 303 a0 0)
    let x6 : Nat := (r3.2.2.2 305 a0 0)
    let x7 : Nat := (r3.2.2.2 3 x6 a1.toNatClampNeg)
    let r8 : Int64 × FM := GX100_place x7 r3.2
    let x9 : Nat := (r3.2.2.2 3 x5 a1.toNatClampNeg)
    let M10 : FM := GX98_jump x9 r8.1 r8.2
    ((Int32.ofInt 1), M10))
def HX92_back_0 (a0 : Nat) (a1 : Int32) (a2 : Int32) (M : FM) : Prop := let x1 : Nat := (M.2.2 305 a0 0); (fm_in M x1 a1 = true ∧ let x2 : Nat := (M.2.2 3 x1 a1.toNatClampNeg); (fm_is M 95 95 x2 = true ∧ (HX100_back x2 a2 M ∧ let r3 : Int32 × FM := GX100_back x2 a2 M; ((r3.1 = 0 → True) ∧ (¬ (r3.1 = 0) → let x5 : Nat := (r3.2.2.2 303 a0 0); (fm_in r3.2 x5 a1 = true ∧ let x6 : Nat := (r3.2.2.2 305 a0 0); (fm_in r3.2 x6 a1 = true ∧ let x7 : Nat := (r3.2.2.2 3 x6 a1.toNatClampNeg); (fm_is r3.2 95 95 x7 = true ∧ let r8 : Int64 × FM := GX100_place x7 r3.2; let x9 : Nat := (r3.2.2.2 3 x5 a1.toNatClampNeg); (fm_is r8.2 94 94 x9 = true ∧ True)))))))))
theorem gX92_back_0 (a0 : Nat) (a1 : Int32) (a2 : Int32) (M : FM) (T : Ty M) (n_a0 : fm_is M 92 92 a0 = true) (h : HX92_back_0 a0 a1 a2 M) : gd (FX92_back_0 a0 a1 a2 M) (GX92_back_0 a0 a1 a2 M) (OkZ M) := by
  delta FX92_back_0 BX92_back_0
  refine gd_c n_a0 ?_
  have f11 := (fm_w (lo' := 910) (hi' := 990) rfl rfl (tN_305 T.1 n_a0))
  refine gd_c ⟨f11, h.1⟩ ?_
  refine gd_c h.2.1 ?_
  refine gd_b (gX100_back _ _ _ ⟨T.1, T.2⟩ h.2.1 h.2.2.1) (fun K0 => ?_)
  refine gd_fi (fun c1_0 => ?_) (fun c1_0 => ?_)
  · have f2 := (ext_is K0.2.1 (Nat.zero_lt_succ _) n_a0)
    refine gd_c f2 ?_
    have f4 := (ext_is K0.2.1 (Nat.zero_lt_succ _) n_a0)
    refine gd_b (gX92_illegal _ _ ⟨K0.1.1, K0.1.2⟩ f4 ) (fun K3 => ?_)
    exact gd_z K3.2.2 ⟨K3.1.1, K3.1.2⟩ (ext_tr K0.2.1 K3.2.1) rfl
  · have f5 := (ext_is K0.2.1 (Nat.zero_lt_succ _) n_a0)
    refine gd_c f5 ?_
    have f10 := (fm_w (lo' := 910) (hi' := 990) rfl rfl (tN_303 K0.1.1 (ext_is K0.2.1 (Nat.zero_lt_succ _) n_a0)))
    refine gd_c ⟨f10, (h.2.2.2.2 c1_0).1⟩ ?_
    have f6 := (ext_is K0.2.1 (Nat.zero_lt_succ _) n_a0)
    refine gd_c f6 ?_
    have f9 := (fm_w (lo' := 910) (hi' := 990) rfl rfl (tN_305 K0.1.1 (ext_is K0.2.1 (Nat.zero_lt_succ _) n_a0)))
    refine gd_c ⟨f9, (h.2.2.2.2 c1_0).2.1⟩ ?_
    refine gd_c (h.2.2.2.2 c1_0).2.2.1 ?_
    refine gd_b (gX100_place _ _ ⟨K0.1.1, K0.1.2⟩ (h.2.2.2.2 c1_0).2.2.1 ) (fun K7 => ?_)
    refine gd_c (h.2.2.2.2 c1_0).2.2.2.1 ?_
    refine gd_b (gX98_jump _ _ _ ⟨K7.1.1, K7.1.2⟩ (h.2.2.2.2 c1_0).2.2.2.1 ) (fun K8 => ?_)
    exact gd_z fz_1 ⟨K8.1.1, K8.1.2⟩ (ext_tr K0.2.1 (ext_tr K7.2 K8.2)) rfl
noncomputable def GX92_back (a0 : Nat) (a1 : Int32) (a2 : Int32) (M : FM) : Int32 × FM := GX92_back_0 a0 a1 a2 M
def HX92_back (a0 : Nat) (a1 : Int32) (a2 : Int32) (M : FM) : Prop := HX92_back_0 a0 a1 a2 M
theorem gX92_back (a0 : Nat) (a1 : Int32) (a2 : Int32) (M : FM) (T : Ty M) (n_a0 : fm_is M 92 92 a0 = true) (h : HX92_back a0 a1 a2 M) : gd (FX92_back a0 a1 a2 M) (GX92_back a0 a1 a2 M) (OkZ M) := gX92_back_0 a0 a1 a2 M T n_a0 h
noncomputable def GX100_allowed_64 (s0 : Int32) (M : FM) : Int32 × FM :=
  (s0, M)
theorem gX100_allowed_64 (s0 : Int32) (M : FM) (T : Ty M) (z_s0 : s0 = 0 ∨ s0 = 1) : gd (FX100_allowed_64 s0 M) (GX100_allowed_64 s0 M) (OkZ M) := by
  delta FX100_allowed_64 BX100_allowed_64
  exact gd_z z_s0 ⟨T.1, T.2⟩ (ext_r _) rfl
noncomputable def GX100_allowed_63 (M : FM) : Int32 × FM :=
  GX100_allowed_64 (Int32.ofInt 0) M
theorem gX100_allowed_63 (M : FM) (T : Ty M) : gd (FX100_allowed_63 M) (GX100_allowed_63 M) (OkZ M) := by
  delta FX100_allowed_63 BX100_allowed_63
  exact gd_tZ (ext_r _) (gX100_allowed_64 _ _ ⟨T.1, T.2⟩ fz_0 )
noncomputable def GX100_allowed_59 (M : FM) : Int32 × FM :=
  GX100_allowed_64 (Int32.ofInt 1) M
theorem gX100_allowed_59 (M : FM) (T : Ty M) : gd (FX100_allowed_59 M) (GX100_allowed_59 M) (OkZ M) := by
  delta FX100_allowed_59 BX100_allowed_59
  exact gd_tZ (ext_r _) (gX100_allowed_64 _ _ ⟨T.1, T.2⟩ fz_1 )
noncomputable def GX100_allowed_53 (s0 : Nat) (s1 : Int32) (M : FM) : Int32 × FM :=
  let r1 : Int32 × FM := GX100_status s0 s1 M
  fi (r1.1 = 0) (
    GX100_allowed_59 r1.2) (
    GX100_allowed_63 r1.2)
theorem gX100_allowed_53 (s0 : Nat) (s1 : Int32) (M : FM) (T : Ty M) (n_s0 : fm_is M 95 95 s0 = true) : gd (FX100_allowed_53 s0 s1 M) (GX100_allowed_53 s0 s1 M) (OkZ M) := by
  delta FX100_allowed_53 BX100_allowed_53
  refine gd_c n_s0 ?_
  refine gd_b (gX100_status _ _ _ ⟨T.1, T.2⟩ n_s0 ) (fun K0 => ?_)
  refine gd_fi (fun c1_0 => ?_) (fun c1_0 => ?_)
  · exact gd_tZ K0.2 (gX100_allowed_59  _ ⟨K0.1.1, K0.1.2⟩  )
  · exact gd_tZ K0.2 (gX100_allowed_63  _ ⟨K0.1.1, K0.1.2⟩  )
noncomputable def GX100_allowed_15 (a0 : Nat) (a1 : Int32) (s0 : Nat) (s1 : Int32) (M : FM) : Int32 × FM :=
  let M1 : FM := fm_sI M 358 s0 0 s1
  fi ((M1.1 358 a0 0) = 0) (
    fi ((M1.1 360 a0 0) = (Int32.ofInt 3)) (
      GX100_allowed_59 M1) (
      fi ((M1.1 360 a0 0) = (Int32.ofInt 1)) (
        fi (a1 = 0) (
          GX100_allowed_53 a0 (Int32.ofInt 21) M1) (
          GX100_allowed_53 a0 (Int32.ofInt 20) M1)) (
        GX100_allowed_63 M1))) (
    GX100_allowed_63 M1)
theorem gX100_allowed_15 (a0 : Nat) (a1 : Int32) (s0 : Nat) (s1 : Int32) (M : FM) (T : Ty M) (n_s0 : fm_is M 95 95 s0 = true) (n_a0 : fm_is M 95 95 a0 = true) : gd (FX100_allowed_15 a0 a1 s0 s1 M) (GX100_allowed_15 a0 a1 s0 s1 M) (OkZ M) := by
  delta FX100_allowed_15 BX100_allowed_15
  refine gd_c n_s0 ?_
  refine gd_c n_a0 ?_
  refine gd_fi (fun c0_0 => ?_) (fun c0_0 => ?_)
  · refine gd_c n_a0 ?_
    refine gd_fi (fun c1_0 => ?_) (fun c1_0 => ?_)
    · exact gd_tZ (ext_dI (ext_r _)) (gX100_allowed_59  _ ⟨T.1, (tyb_sI (f := 358) rfl T.2)⟩  )
    · refine gd_c n_a0 ?_
      refine gd_fi (fun c2_0 => ?_) (fun c2_0 => ?_)
      · refine gd_fi (fun c3_0 => ?_) (fun c3_0 => ?_)
        · exact gd_tZ (ext_dI (ext_r _)) (gX100_allowed_53 _ _ _ ⟨T.1, (tyb_sI (f := 358) rfl T.2)⟩ n_a0 )
        · exact gd_tZ (ext_dI (ext_r _)) (gX100_allowed_53 _ _ _ ⟨T.1, (tyb_sI (f := 358) rfl T.2)⟩ n_a0 )
      · exact gd_tZ (ext_dI (ext_r _)) (gX100_allowed_63  _ ⟨T.1, (tyb_sI (f := 358) rfl T.2)⟩  )
  · exact gd_tZ (ext_dI (ext_r _)) (gX100_allowed_63  _ ⟨T.1, (tyb_sI (f := 358) rfl T.2)⟩  )
noncomputable def GX100_allowed_10 (a0 : Nat) (a1 : Int32) (s0 : Nat) (M : FM) : Int32 × FM :=
  GX100_allowed_15 a0 a1 s0 (Int32.ofInt 0) M
theorem gX100_allowed_10 (a0 : Nat) (a1 : Int32) (s0 : Nat) (M : FM) (T : Ty M) (n_s0 : fm_is M 95 95 s0 = true) (n_a0 : fm_is M 95 95 a0 = true) : gd (FX100_allowed_10 a0 a1 s0 M) (GX100_allowed_10 a0 a1 s0 M) (OkZ M) := by
  delta FX100_allowed_10 BX100_allowed_10
  exact gd_tZ (ext_r _) (gX100_allowed_15 _ _ _ _ _ ⟨T.1, T.2⟩ n_s0 n_a0 )
noncomputable def GX100_allowed_0 (a0 : Nat) (a1 : Int32) (M : FM) : Int32 × FM :=
  fi (a1 = 0) (
    GX100_allowed_10 a0 a1 a0 M) (
    fi (a1 = (Int32.ofInt 1)) (
      GX100_allowed_10 a0 a1 a0 M) (
      GX100_allowed_15 a0 a1 a0 (Int32.ofInt 1) M))
theorem gX100_allowed_0 (a0 : Nat) (a1 : Int32) (M : FM) (T : Ty M) (n_a0 : fm_is M 95 95 a0 = true) : gd (FX100_allowed_0 a0 a1 M) (GX100_allowed_0 a0 a1 M) (OkZ M) := by
  delta FX100_allowed_0 BX100_allowed_0
  refine gd_fi (fun c0_0 => ?_) (fun c0_0 => ?_)
  · exact gd_tZ (ext_r _) (gX100_allowed_10 _ _ _ _ ⟨T.1, T.2⟩ n_a0 n_a0 )
  · refine gd_fi (fun c1_0 => ?_) (fun c1_0 => ?_)
    · exact gd_tZ (ext_r _) (gX100_allowed_10 _ _ _ _ ⟨T.1, T.2⟩ n_a0 n_a0 )
    · exact gd_tZ (ext_r _) (gX100_allowed_15 _ _ _ _ _ ⟨T.1, T.2⟩ n_a0 n_a0 )
noncomputable def GX100_allowed (a0 : Nat) (a1 : Int32) (M : FM) : Int32 × FM := GX100_allowed_0 a0 a1 M
theorem gX100_allowed (a0 : Nat) (a1 : Int32) (M : FM) (T : Ty M) (n_a0 : fm_is M 95 95 a0 = true) : gd (FX100_allowed a0 a1 M) (GX100_allowed a0 a1 M) (OkZ M) := gX100_allowed_0 a0 a1 M T n_a0 
noncomputable def GX92_system_187 (a0 : Nat) (a1 : Int32) (s0 : Nat) (s1 : Int32) (s2 : Int32) (M : FM) : Int32 × FM :=
  let M1 : FM := fm_sI M 3 s0 s1.toNatClampNeg (s2 &&& 1)
  let x2 : Nat := (M1.2.2 303 a0 0)
  let x3 : Nat := (M1.2.2 3 x2 a1.toNatClampNeg)
  let r4 : Int32 × FM := GX98_finish x3 (Int32.ofInt 0) (Int64.ofInt 0) M1
  ((Int32.ofInt 1), r4.2)
def HX92_system_187 (a0 : Nat) (a1 : Int32) (s0 : Nat) (s1 : Int32) (s2 : Int32) (M : FM) : Prop := (fm_in M s0 s1 = true ∧ let M1 : FM := fm_sI M 3 s0 s1.toNatClampNeg (s2 &&& 1); let x2 : Nat := (M1.2.2 303 a0 0); (fm_in M1 x2 a1 = true ∧ let x3 : Nat := (M1.2.2 3 x2 a1.toNatClampNeg); (fm_is M1 94 94 x3 = true ∧ (HX98_finish x3 (Int32.ofInt 0) (Int64.ofInt 0) M1 ∧ True))))
theorem gX92_system_187 (a0 : Nat) (a1 : Int32) (s0 : Nat) (s1 : Int32) (s2 : Int32) (M : FM) (T : Ty M) (n_s0 : fm_is M 904 904 s0 = true) (n_a0 : fm_is M 92 92 a0 = true) (h : HX92_system_187 a0 a1 s0 s1 s2 M) : gd (FX92_system_187 a0 a1 s0 s1 s2 M) (GX92_system_187 a0 a1 s0 s1 s2 M) (OkZ M) := by
  delta FX92_system_187 BX92_system_187
  refine gd_c ⟨n_s0, h.1⟩ ?_
  refine gd_c n_a0 ?_
  have f1 := (fm_w (lo' := 910) (hi' := 990) rfl rfl (tN_303 T.1 n_a0))
  refine gd_c ⟨f1, h.2.1⟩ ?_
  refine gd_c h.2.2.1 ?_
  refine gd_b (gX98_finish _ _ _ _ ⟨T.1, (tyb_s4 T.2)⟩ h.2.2.1 h.2.2.2.1) (fun K0 => ?_)
  exact gd_z fz_1 ⟨K0.1.1, K0.1.2⟩ (ext_dI K0.2) rfl
noncomputable def GX92_system_170 (a0 : Nat) (a1 : Int32) (a2 : Int32) (M : FM) : Int32 × FM :=
  fi (a2 = (Int32.ofInt 261)) (
    GX92_system_187 a0 a1 (M.2.2 307 a0 0) a1 (Int32.ofInt 1) M) (
    GX92_system_187 a0 a1 (M.2.2 307 a0 0) a1 (Int32.ofInt 0) M)
def HX92_system_170 (a0 : Nat) (a1 : Int32) (a2 : Int32) (M : FM) : Prop := ((a2 = (Int32.ofInt 261) → HX92_system_187 a0 a1 (M.2.2 307 a0 0) a1 (Int32.ofInt 1) M) ∧ (¬ (a2 = (Int32.ofInt 261)) → HX92_system_187 a0 a1 (M.2.2 307 a0 0) a1 (Int32.ofInt 0) M))
theorem gX92_system_170 (a0 : Nat) (a1 : Int32) (a2 : Int32) (M : FM) (T : Ty M) (n_a0 : fm_is M 92 92 a0 = true) (h : HX92_system_170 a0 a1 a2 M) : gd (FX92_system_170 a0 a1 a2 M) (GX92_system_170 a0 a1 a2 M) (OkZ M) := by
  delta FX92_system_170 BX92_system_170
  refine gd_c n_a0 ?_
  refine gd_fi (fun c0_0 => ?_) (fun c0_0 => ?_)
  · have f1 := (tN_307 T.1 n_a0)
    exact gd_tZ (ext_r _) (gX92_system_187 _ _ _ _ _ _ ⟨T.1, T.2⟩ f1 n_a0 (h.1 c0_0))
  · have f2 := (tN_307 T.1 n_a0)
    exact gd_tZ (ext_r _) (gX92_system_187 _ _ _ _ _ _ ⟨T.1, T.2⟩ f2 n_a0 (h.2 c0_0))
noncomputable def GX92_system_165 (a0 : Nat) (M : FM) : Int32 × FM :=
  let r1 : Int32 × FM := GX92_illegal a0 M
  (r1.1, r1.2)
theorem gX92_system_165 (a0 : Nat) (M : FM) (T : Ty M) (n_a0 : fm_is M 92 92 a0 = true) : gd (FX92_system_165 a0 M) (GX92_system_165 a0 M) (OkZ M) := by
  delta FX92_system_165 BX92_system_165
  refine gd_c n_a0 ?_
  refine gd_b (gX92_illegal _ _ ⟨T.1, T.2⟩ n_a0 ) (fun K0 => ?_)
  exact gd_z K0.2.2 ⟨K0.1.1, K0.1.2⟩ K0.2.1 rfl
noncomputable def GX92_system_149 (a0 : Nat) (a1 : Int32) (a2 : Int32) (a5 : Nat) (M : FM) : Int32 × FM :=
  fi (a2 = (Int32.ofInt 261)) (
    let r1 : Int32 × FM := GX100_allowed a5 (Int32.ofInt 0) M
    fi (r1.1 = 0) (
      GX92_system_165 a0 r1.2) (
      GX92_system_170 a0 a1 a2 r1.2)) (
    GX92_system_165 a0 M)
def HX92_system_149 (a0 : Nat) (a1 : Int32) (a2 : Int32) (a5 : Nat) (M : FM) : Prop := ((a2 = (Int32.ofInt 261) → let r1 : Int32 × FM := GX100_allowed a5 (Int32.ofInt 0) M; ((r1.1 = 0 → True) ∧ (¬ (r1.1 = 0) → HX92_system_170 a0 a1 a2 r1.2))) ∧ (¬ (a2 = (Int32.ofInt 261)) → True))
theorem gX92_system_149 (a0 : Nat) (a1 : Int32) (a2 : Int32) (a5 : Nat) (M : FM) (T : Ty M) (n_a5 : fm_is M 95 95 a5 = true) (n_a0 : fm_is M 92 92 a0 = true) (h : HX92_system_149 a0 a1 a2 a5 M) : gd (FX92_system_149 a0 a1 a2 a5 M) (GX92_system_149 a0 a1 a2 a5 M) (OkZ M) := by
  delta FX92_system_149 BX92_system_149
  refine gd_fi (fun c0_0 => ?_) (fun c0_0 => ?_)
  · refine gd_c n_a5 ?_
    refine gd_b (gX100_allowed _ _ _ ⟨T.1, T.2⟩ n_a5 ) (fun K1 => ?_)
    refine gd_fi (fun c2_0 => ?_) (fun c2_0 => ?_)
    · have f3 := (ext_is K1.2.1 (Nat.zero_lt_succ _) n_a0)
      exact gd_tZ K1.2.1 (gX92_system_165 _ _ ⟨K1.1.1, K1.1.2⟩ f3 )
    · have f4 := (ext_is K1.2.1 (Nat.zero_lt_succ _) n_a0)
      exact gd_tZ K1.2.1 (gX92_system_170 _ _ _ _ ⟨K1.1.1, K1.1.2⟩ f4 ((h.1 c0_0).2 c2_0))
  · exact gd_tZ (ext_r _) (gX92_system_165 _ _ ⟨T.1, T.2⟩ n_a0 )
noncomputable def GX92_system_48 (a0 : Nat) (a1 : Int32) (a2 : Int32) (a5 : Nat) (a6 : Int32) (M : FM) : Int32 × FM :=
  fi (a2 = (Int32.ofInt 0)) (
    let r1 : Int32 × FM := GX100_mode a5 M
    let r2 : Int32 × FM := GX92_fail a0 ((Int32.ofInt 8) + r1.1) (Int64.ofInt 0) r1.2
    (r2.1, r2.2)) (
    fi (a2 = (Int32.ofInt 1)) (
      let x3 : Nat := (M.2.2 303 a0 0)
      let x4 : Nat := (M.2.2 3 x3 a1.toNatClampNeg)
      let r5 : Int64 × FM := GX98_counter x4 M
      let r6 : Int32 × FM := GX92_fail a0 (Int32.ofInt 3) r5.1 r5.2
      (r6.1, r6.2)) (
      fi (a2 = (Int32.ofInt 258)) (
        let r7 : Int32 × FM := GX92_back a0 a1 (Int32.ofInt 0) M
        (r7.1, r7.2)) (
        fi (a2 = (Int32.ofInt 770)) (
          let r8 : Int32 × FM := GX92_back a0 a1 (Int32.ofInt 1) M
          (r8.1, r8.2)) (
          fi (a6 = 0) (
            GX92_system_149 a0 a1 a2 a5 M) (
            let r9 : Int32 × FM := GX100_allowed a5 (Int32.ofInt 1) M
            fi (r9.1 = 0) (
              GX92_system_149 a0 a1 a2 a5 r9.2) (
              GX92_system_170 a0 a1 a2 r9.2))))))
def HX92_system_48 (a0 : Nat) (a1 : Int32) (a2 : Int32) (a5 : Nat) (a6 : Int32) (M : FM) : Prop := ((a2 = (Int32.ofInt 0) → True) ∧ (¬ (a2 = (Int32.ofInt 0)) → ((a2 = (Int32.ofInt 1) → let x3 : Nat := (M.2.2 303 a0 0); (fm_in M x3 a1 = true ∧ let x4 : Nat := (M.2.2 3 x3 a1.toNatClampNeg); (fm_is M 94 94 x4 = true ∧ True))) ∧ (¬ (a2 = (Int32.ofInt 1)) → ((a2 = (Int32.ofInt 258) → (HX92_back a0 a1 (Int32.ofInt 0) M ∧ True)) ∧ (¬ (a2 = (Int32.ofInt 258)) → ((a2 = (Int32.ofInt 770) → (HX92_back a0 a1 (Int32.ofInt 1) M ∧ True)) ∧ (¬ (a2 = (Int32.ofInt 770)) → ((a6 = 0 → HX92_system_149 a0 a1 a2 a5 M) ∧ (¬ (a6 = 0) → let r9 : Int32 × FM := GX100_allowed a5 (Int32.ofInt 1) M; ((r9.1 = 0 → HX92_system_149 a0 a1 a2 a5 r9.2) ∧ (¬ (r9.1 = 0) → HX92_system_170 a0 a1 a2 r9.2))))))))))))
theorem gX92_system_48 (a0 : Nat) (a1 : Int32) (a2 : Int32) (a5 : Nat) (a6 : Int32) (M : FM) (T : Ty M) (n_a5 : fm_is M 95 95 a5 = true) (n_a0 : fm_is M 92 92 a0 = true) (h : HX92_system_48 a0 a1 a2 a5 a6 M) : gd (FX92_system_48 a0 a1 a2 a5 a6 M) (GX92_system_48 a0 a1 a2 a5 a6 M) (OkZ M) := by
  delta FX92_system_48 BX92_system_48
  refine gd_fi (fun c0_0 => ?_) (fun c0_0 => ?_)
  · refine gd_c n_a5 ?_
    refine gd_b (gX100_mode _ _ ⟨T.1, T.2⟩ n_a5 ) (fun K1 => ?_)
    have f2 := (ext_is K1.2 (Nat.zero_lt_succ _) n_a0)
    refine gd_c f2 ?_
    have f4 := (ext_is K1.2 (Nat.zero_lt_succ _) n_a0)
    refine gd_b (gX92_fail _ _ _ _ ⟨K1.1.1, K1.1.2⟩ f4 ) (fun K3 => ?_)
    exact gd_z K3.2.2 ⟨K3.1.1, K3.1.2⟩ (ext_tr K1.2 K3.2.1) rfl
  · refine gd_fi (fun c5_1 => ?_) (fun c5_1 => ?_)
    · refine gd_c n_a0 ?_
      have f11 := (fm_w (lo' := 910) (hi' := 990) rfl rfl (tN_303 T.1 n_a0))
      have f12 := ((h.2 c0_0).1 c5_1).1
      refine gd_c ⟨f11, f12⟩ ?_
      refine gd_c ((h.2 c0_0).1 c5_1).2.1 ?_
      have f10 := ((h.2 c0_0).1 c5_1).2.1
      refine gd_b (gX98_counter _ _ ⟨T.1, T.2⟩ f10 ) (fun K6 => ?_)
      have f7 := (ext_is K6.2 (Nat.zero_lt_succ _) n_a0)
      refine gd_c f7 ?_
      have f9 := (ext_is K6.2 (Nat.zero_lt_succ _) n_a0)
      refine gd_b (gX92_fail _ _ _ _ ⟨K6.1.1, K6.1.2⟩ f9 ) (fun K8 => ?_)
      exact gd_z K8.2.2 ⟨K8.1.1, K8.1.2⟩ (ext_tr K6.2 K8.2.1) rfl
    · refine gd_fi (fun c13_2 => ?_) (fun c13_2 => ?_)
      · refine gd_c n_a0 ?_
        refine gd_b (gX92_back _ _ _ _ ⟨T.1, T.2⟩ n_a0 (((h.2 c0_0).2 c5_1).1 c13_2).1) (fun K14 => ?_)
        exact gd_z K14.2.2 ⟨K14.1.1, K14.1.2⟩ K14.2.1 rfl
      · refine gd_fi (fun c15_3 => ?_) (fun c15_3 => ?_)
        · refine gd_c n_a0 ?_
          refine gd_b (gX92_back _ _ _ _ ⟨T.1, T.2⟩ n_a0 ((((h.2 c0_0).2 c5_1).2 c13_2).1 c15_3).1) (fun K16 => ?_)
          exact gd_z K16.2.2 ⟨K16.1.1, K16.1.2⟩ K16.2.1 rfl
        · refine gd_fi (fun c17_0 => ?_) (fun c17_0 => ?_)
          · exact gd_tZ (ext_r _) (gX92_system_149 _ _ _ _ _ ⟨T.1, T.2⟩ n_a5 n_a0 (((((h.2 c0_0).2 c5_1).2 c13_2).2 c15_3).1 c17_0))
          · refine gd_c n_a5 ?_
            refine gd_b (gX100_allowed _ _ _ ⟨T.1, T.2⟩ n_a5 ) (fun K18 => ?_)
            refine gd_fi (fun c19_0 => ?_) (fun c19_0 => ?_)
            · have f20 := (ext_is K18.2.1 (Nat.zero_lt_succ _) n_a5)
              have f21 := (ext_is K18.2.1 (Nat.zero_lt_succ _) n_a0)
              exact gd_tZ K18.2.1 (gX92_system_149 _ _ _ _ _ ⟨K18.1.1, K18.1.2⟩ f20 f21 ((((((h.2 c0_0).2 c5_1).2 c13_2).2 c15_3).2 c17_0).1 c19_0))
            · have f22 := (ext_is K18.2.1 (Nat.zero_lt_succ _) n_a0)
              exact gd_tZ K18.2.1 (gX92_system_170 _ _ _ _ ⟨K18.1.1, K18.1.2⟩ f22 ((((((h.2 c0_0).2 c5_1).2 c13_2).2 c15_3).2 c17_0).2 c19_0))
noncomputable def GX92_system_43 (a0 : Nat) (M : FM) : Int32 × FM :=
  let r1 : Int32 × FM := GX92_illegal a0 M
  (r1.1, r1.2)
theorem gX92_system_43 (a0 : Nat) (M : FM) (T : Ty M) (n_a0 : fm_is M 92 92 a0 = true) : gd (FX92_system_43 a0 M) (GX92_system_43 a0 M) (OkZ M) := by
  delta FX92_system_43 BX92_system_43
  refine gd_c n_a0 ?_
  refine gd_b (gX92_illegal _ _ ⟨T.1, T.2⟩ n_a0 ) (fun K0 => ?_)
  exact gd_z K0.2.2 ⟨K0.1.1, K0.1.2⟩ K0.2.1 rfl
noncomputable def GX92_system_27 (a0 : Nat) (a1 : Int32) (a2 : Int32) (a3 : Int32) (a4 : Int32) (a5 : Nat) (s0 : Int32) (M : FM) : Int32 × FM :=
  fi (a3 = 0) (
    fi (a4 = 0) (
      GX92_system_48 a0 a1 a2 a5 s0 M) (
      fi (s0 = 0) (
        GX92_system_43 a0 M) (
        GX92_system_48 a0 a1 a2 a5 s0 M))) (
    GX92_system_43 a0 M)
def HX92_system_27 (a0 : Nat) (a1 : Int32) (a2 : Int32) (a3 : Int32) (a4 : Int32) (a5 : Nat) (s0 : Int32) (M : FM) : Prop := ((a3 = 0 → ((a4 = 0 → HX92_system_48 a0 a1 a2 a5 s0 M) ∧ (¬ (a4 = 0) → ((s0 = 0 → True) ∧ (¬ (s0 = 0) → HX92_system_48 a0 a1 a2 a5 s0 M))))) ∧ (¬ (a3 = 0) → True))
theorem gX92_system_27 (a0 : Nat) (a1 : Int32) (a2 : Int32) (a3 : Int32) (a4 : Int32) (a5 : Nat) (s0 : Int32) (M : FM) (T : Ty M) (n_a5 : fm_is M 95 95 a5 = true) (n_a0 : fm_is M 92 92 a0 = true) (h : HX92_system_27 a0 a1 a2 a3 a4 a5 s0 M) : gd (FX92_system_27 a0 a1 a2 a3 a4 a5 s0 M) (GX92_system_27 a0 a1 a2 a3 a4 a5 s0 M) (OkZ M) := by
  delta FX92_system_27 BX92_system_27
  refine gd_fi (fun c0_0 => ?_) (fun c0_0 => ?_)
  · refine gd_fi (fun c1_0 => ?_) (fun c1_0 => ?_)
    · exact gd_tZ (ext_r _) (gX92_system_48 _ _ _ _ _ _ ⟨T.1, T.2⟩ n_a5 n_a0 ((h.1 c0_0).1 c1_0))
    · refine gd_fi (fun c2_0 => ?_) (fun c2_0 => ?_)
      · exact gd_tZ (ext_r _) (gX92_system_43 _ _ ⟨T.1, T.2⟩ n_a0 )
      · exact gd_tZ (ext_r _) (gX92_system_48 _ _ _ _ _ _ ⟨T.1, T.2⟩ n_a5 n_a0 (((h.1 c0_0).2 c1_0).2 c2_0))
  · exact gd_tZ (ext_r _) (gX92_system_43 _ _ ⟨T.1, T.2⟩ n_a0 )
noncomputable def GX92_system_26 (a0 : Nat) (a1 : Int32) (a2 : Int32) (a3 : Int32) (a4 : Int32) (a5 : Nat) (M : FM) : Int32 × FM :=
  GX92_system_27 a0 a1 a2 a3 a4 a5 (Int32.ofInt 0) M
def HX92_system_26 (a0 : Nat) (a1 : Int32) (a2 : Int32) (a3 : Int32) (a4 : Int32) (a5 : Nat) (M : FM) : Prop := HX92_system_27 a0 a1 a2 a3 a4 a5 (Int32.ofInt 0) M
theorem gX92_system_26 (a0 : Nat) (a1 : Int32) (a2 : Int32) (a3 : Int32) (a4 : Int32) (a5 : Nat) (M : FM) (T : Ty M) (n_a5 : fm_is M 95 95 a5 = true) (n_a0 : fm_is M 92 92 a0 = true) (h : HX92_system_26 a0 a1 a2 a3 a4 a5 M) : gd (FX92_system_26 a0 a1 a2 a3 a4 a5 M) (GX92_system_26 a0 a1 a2 a3 a4 a5 M) (OkZ M) := by
  delta FX92_system_26 BX92_system_26
  exact gd_tZ (ext_r _) (gX92_system_27 _ _ _ _ _ _ _ _ ⟨T.1, T.2⟩ n_a5 n_a0 h)
noncomputable def GX92_system_0 (a0 : Nat) (a1 : Int32) (a2 : Int32) (a3 : Int32) (a4 : Int32) (M : FM) : Int32 × FM :=
  let x1 : Nat := (M.2.2 305 a0 0)
  let x2 : Nat := (M.2.2 3 x1 a1.toNatClampNeg)
  fi (a2 < (Int32.ofInt 288)) (
    GX92_system_26 a0 a1 a2 a3 a4 x2 M) (
    fi ((Int32.ofInt 320) ≤ a2) (
      GX92_system_26 a0 a1 a2 a3 a4 x2 M) (
      GX92_system_27 a0 a1 a2 a3 a4 x2 (Int32.ofInt 1) M))
def HX92_system_0 (a0 : Nat) (a1 : Int32) (a2 : Int32) (a3 : Int32) (a4 : Int32) (M : FM) : Prop := let x1 : Nat := (M.2.2 305 a0 0); (fm_in M x1 a1 = true ∧ let x2 : Nat := (M.2.2 3 x1 a1.toNatClampNeg); ((a2 < (Int32.ofInt 288) → (fm_is M 95 95 x2 = true ∧ HX92_system_26 a0 a1 a2 a3 a4 x2 M)) ∧ (¬ (a2 < (Int32.ofInt 288)) → (((Int32.ofInt 320) ≤ a2 → (fm_is M 95 95 x2 = true ∧ HX92_system_26 a0 a1 a2 a3 a4 x2 M)) ∧ (¬ ((Int32.ofInt 320) ≤ a2) → (fm_is M 95 95 x2 = true ∧ HX92_system_27 a0 a1 a2 a3 a4 x2 (Int32.ofInt 1) M))))))
theorem gX92_system_0 (a0 : Nat) (a1 : Int32) (a2 : Int32) (a3 : Int32) (a4 : Int32) (M : FM) (T : Ty M) (n_a0 : fm_is M 92 92 a0 = true) (h : HX92_system_0 a0 a1 a2 a3 a4 M) : gd (FX92_system_0 a0 a1 a2 a3 a4 M) (GX92_system_0 a0 a1 a2 a3 a4 M) (OkZ M) := by
  delta FX92_system_0 BX92_system_0
  refine gd_c n_a0 ?_
  have f4 := (fm_w (lo' := 910) (hi' := 990) rfl rfl (tN_305 T.1 n_a0))
  refine gd_c ⟨f4, h.1⟩ ?_
  refine gd_fi (fun c0_0 => ?_) (fun c0_0 => ?_)
  · exact gd_tZ (ext_r _) (gX92_system_26 _ _ _ _ _ _ _ ⟨T.1, T.2⟩ (h.2.1 c0_0).1 n_a0 (h.2.1 c0_0).2)
  · refine gd_fi (fun c1_0 => ?_) (fun c1_0 => ?_)
    · have f2 := ((h.2.2 c0_0).1 c1_0).1
      exact gd_tZ (ext_r _) (gX92_system_26 _ _ _ _ _ _ _ ⟨T.1, T.2⟩ f2 n_a0 ((h.2.2 c0_0).1 c1_0).2)
    · have f3 := ((h.2.2 c0_0).2 c1_0).1
      exact gd_tZ (ext_r _) (gX92_system_27 _ _ _ _ _ _ _ _ ⟨T.1, T.2⟩ f3 n_a0 ((h.2.2 c0_0).2 c1_0).2)
noncomputable def GX92_system (a0 : Nat) (a1 : Int32) (a2 : Int32) (a3 : Int32) (a4 : Int32) (M : FM) : Int32 × FM := GX92_system_0 a0 a1 a2 a3 a4 M
def HX92_system (a0 : Nat) (a1 : Int32) (a2 : Int32) (a3 : Int32) (a4 : Int32) (M : FM) : Prop := HX92_system_0 a0 a1 a2 a3 a4 M
theorem gX92_system (a0 : Nat) (a1 : Int32) (a2 : Int32) (a3 : Int32) (a4 : Int32) (M : FM) (T : Ty M) (n_a0 : fm_is M 92 92 a0 = true) (h : HX92_system a0 a1 a2 a3 a4 M) : gd (FX92_system a0 a1 a2 a3 a4 M) (GX92_system a0 a1 a2 a3 a4 M) (OkZ M) := gX92_system_0 a0 a1 a2 a3 a4 M T n_a0 h
noncomputable def GX100_isIllegal_177 (s0 : Int32) (M : FM) : Int32 × FM :=
  (s0, M)
theorem gX100_isIllegal_177 (s0 : Int32) (M : FM) (T : Ty M) (z_s0 : s0 = 0 ∨ s0 = 1) : gd (FX100_isIllegal_177 s0 M) (GX100_isIllegal_177 s0 M) (OkZ M) := by
  delta FX100_isIllegal_177 BX100_isIllegal_177
  exact gd_z z_s0 ⟨T.1, T.2⟩ (ext_r _) rfl
noncomputable def GX100_isIllegal_172 (M : FM) : Int32 × FM :=
  GX100_isIllegal_177 (Int32.ofInt 1) M
theorem gX100_isIllegal_172 (M : FM) (T : Ty M) : gd (FX100_isIllegal_172 M) (GX100_isIllegal_172 M) (OkZ M) := by
  delta FX100_isIllegal_172 BX100_isIllegal_172
  exact gd_tZ (ext_r _) (gX100_isIllegal_177 _ _ ⟨T.1, T.2⟩ fz_1 )
noncomputable def GX100_isIllegal_163 (a3 : Int32) (a4 : Int32) (M : FM) : Int32 × FM :=
  fi (a3 = 0) (
    fi (a4 = 0) (
      GX100_isIllegal_177 (Int32.ofInt 0) M) (
      GX100_isIllegal_172 M)) (
    GX100_isIllegal_172 M)
theorem gX100_isIllegal_163 (a3 : Int32) (a4 : Int32) (M : FM) (T : Ty M) : gd (FX100_isIllegal_163 a3 a4 M) (GX100_isIllegal_163 a3 a4 M) (OkZ M) := by
  delta FX100_isIllegal_163 BX100_isIllegal_163
  refine gd_fi (fun c0_0 => ?_) (fun c0_0 => ?_)
  · refine gd_fi (fun c1_0 => ?_) (fun c1_0 => ?_)
    · exact gd_tZ (ext_r _) (gX100_isIllegal_177 _ _ ⟨T.1, T.2⟩ fz_0 )
    · exact gd_tZ (ext_r _) (gX100_isIllegal_172  _ ⟨T.1, T.2⟩  )
  · exact gd_tZ (ext_r _) (gX100_isIllegal_172  _ ⟨T.1, T.2⟩  )
noncomputable def GX100_isIllegal_161 (a3 : Int32) (s0 : Int32) (M : FM) : Int32 × FM :=
  GX100_isIllegal_163 a3 s0 M
theorem gX100_isIllegal_161 (a3 : Int32) (s0 : Int32) (M : FM) (T : Ty M) : gd (FX100_isIllegal_161 a3 s0 M) (GX100_isIllegal_161 a3 s0 M) (OkZ M) := by
  delta FX100_isIllegal_161 BX100_isIllegal_161
  exact gd_tZ (ext_r _) (gX100_isIllegal_163 _ _ _ ⟨T.1, T.2⟩  )
noncomputable def GX100_isIllegal_160 (a3 : Int32) (M : FM) : Int32 × FM :=
  GX100_isIllegal_161 a3 (Int32.ofInt 0) M
theorem gX100_isIllegal_160 (a3 : Int32) (M : FM) (T : Ty M) : gd (FX100_isIllegal_160 a3 M) (GX100_isIllegal_160 a3 M) (OkZ M) := by
  delta FX100_isIllegal_160 BX100_isIllegal_160
  exact gd_tZ (ext_r _) (gX100_isIllegal_161 _ _ _ ⟨T.1, T.2⟩  )
noncomputable def GX100_isIllegal_156 (a3 : Int32) (M : FM) : Int32 × FM :=
  GX100_isIllegal_161 a3 (Int32.ofInt 1) M
theorem gX100_isIllegal_156 (a3 : Int32) (M : FM) (T : Ty M) : gd (FX100_isIllegal_156 a3 M) (GX100_isIllegal_156 a3 M) (OkZ M) := by
  delta FX100_isIllegal_156 BX100_isIllegal_156
  exact gd_tZ (ext_r _) (gX100_isIllegal_161 _ _ _ ⟨T.1, T.2⟩  )
noncomputable def GX100_isIllegal_133 (a0 : Nat) (a3 : Int32) (a5 : Int64) (M : FM) : Int32 × FM :=
  fi ((M.1 360 a0 0) = 0) (
    let x1 : Nat := (M.2.2 361 a0 0)
    fi ((lg_cmp ((M.2.1 3 x1 (Int32.ofInt 262).toNatClampNeg) &&& a5) (Int64.ofInt 0)) = 0) (
      GX100_isIllegal_156 a3 M) (
      GX100_isIllegal_160 a3 M)) (
    GX100_isIllegal_160 a3 M)
theorem gX100_isIllegal_133 (a0 : Nat) (a3 : Int32) (a5 : Int64) (M : FM) (T : Ty M) (n_a0 : fm_is M 95 95 a0 = true) : gd (FX100_isIllegal_133 a0 a3 a5 M) (GX100_isIllegal_133 a0 a3 a5 M) (OkZ M) := by
  delta FX100_isIllegal_133 BX100_isIllegal_133
  refine gd_c n_a0 ?_
  refine gd_fi (fun c0_0 => ?_) (fun c0_0 => ?_)
  · refine gd_c n_a0 ?_
    have f2 := (tN_361 T.1 n_a0)
    have f3 := (fm_inl (i := (Int32.ofInt 262)) (tL_361 T.1 n_a0) (by decide))
    refine gd_c ⟨f2, f3⟩ ?_
    refine gd_fi (fun c1_0 => ?_) (fun c1_0 => ?_)
    · exact gd_tZ (ext_r _) (gX100_isIllegal_156 _ _ ⟨T.1, T.2⟩  )
    · exact gd_tZ (ext_r _) (gX100_isIllegal_160 _ _ ⟨T.1, T.2⟩  )
  · exact gd_tZ (ext_r _) (gX100_isIllegal_160 _ _ ⟨T.1, T.2⟩  )
noncomputable def GX100_isIllegal_86 (a0 : Nat) (a1 : Int32) (a3 : Int32) (s0 : Int32) (M : FM) : Int32 × FM :=
  let r1 : Int32 × FM := GX100_isCount a1 M
  fi (r1.1 = 0) (
    GX100_isIllegal_163 a3 s0 r1.2) (
    let x2 : Int64 := ((Int64.ofInt 1) <<< ((a1 - (Int32.ofInt 3072)).toInt64 &&& 63))
    fi (s0 = 0) (
      fi ((Int32.ofInt 3) ≤ (r1.2.1 360 a0 0)) (
        GX100_isIllegal_133 a0 a3 x2 r1.2) (
        let x3 : Nat := (r1.2.2.2 361 a0 0)
        fi ((lg_cmp ((r1.2.2.1 3 x3 (Int32.ofInt 774).toNatClampNeg) &&& x2) (Int64.ofInt 0)) = 0) (
          GX100_isIllegal_156 a3 r1.2) (
          GX100_isIllegal_133 a0 a3 x2 r1.2))) (
      GX100_isIllegal_156 a3 r1.2))
theorem gX100_isIllegal_86 (a0 : Nat) (a1 : Int32) (a3 : Int32) (s0 : Int32) (M : FM) (T : Ty M) (n_a0 : fm_is M 95 95 a0 = true) : gd (FX100_isIllegal_86 a0 a1 a3 s0 M) (GX100_isIllegal_86 a0 a1 a3 s0 M) (OkZ M) := by
  delta FX100_isIllegal_86 BX100_isIllegal_86
  refine gd_b (gX100_isCount _ _ ⟨T.1, T.2⟩  ) (fun K0 => ?_)
  refine gd_fi (fun c1_0 => ?_) (fun c1_0 => ?_)
  · exact gd_tZ K0.2.1 (gX100_isIllegal_163 _ _ _ ⟨K0.1.1, K0.1.2⟩  )
  · refine gd_fi (fun c2_0 => ?_) (fun c2_0 => ?_)
    · have f3 := (ext_is K0.2.1 (Nat.zero_lt_succ _) n_a0)
      refine gd_c f3 ?_
      refine gd_fi (fun c4_0 => ?_) (fun c4_0 => ?_)
      · have f5 := (ext_is K0.2.1 (Nat.zero_lt_succ _) n_a0)
        exact gd_tZ K0.2.1 (gX100_isIllegal_133 _ _ _ _ ⟨K0.1.1, K0.1.2⟩ f5 )
      · have f6 := (ext_is K0.2.1 (Nat.zero_lt_succ _) n_a0)
        refine gd_c f6 ?_
        have f9 := (tN_361 K0.1.1 (ext_is K0.2.1 (Nat.zero_lt_succ _) n_a0))
        have f10 := (fm_inl (i := (Int32.ofInt 774)) (tL_361 K0.1.1 (ext_is K0.2.1 (Nat.zero_lt_succ _) n_a0)) (by decide))
        refine gd_c ⟨f9, f10⟩ ?_
        refine gd_fi (fun c7_0 => ?_) (fun c7_0 => ?_)
        · exact gd_tZ K0.2.1 (gX100_isIllegal_156 _ _ ⟨K0.1.1, K0.1.2⟩  )
        · have f8 := (ext_is K0.2.1 (Nat.zero_lt_succ _) n_a0)
          exact gd_tZ K0.2.1 (gX100_isIllegal_133 _ _ _ _ ⟨K0.1.1, K0.1.2⟩ f8 )
    · exact gd_tZ K0.2.1 (gX100_isIllegal_156 _ _ ⟨K0.1.1, K0.1.2⟩  )
noncomputable def GX100_isIllegal_85 (a0 : Nat) (a1 : Int32) (a3 : Int32) (M : FM) : Int32 × FM :=
  GX100_isIllegal_86 a0 a1 a3 (Int32.ofInt 0) M
theorem gX100_isIllegal_85 (a0 : Nat) (a1 : Int32) (a3 : Int32) (M : FM) (T : Ty M) (n_a0 : fm_is M 95 95 a0 = true) : gd (FX100_isIllegal_85 a0 a1 a3 M) (GX100_isIllegal_85 a0 a1 a3 M) (OkZ M) := by
  delta FX100_isIllegal_85 BX100_isIllegal_85
  exact gd_tZ (ext_r _) (gX100_isIllegal_86 _ _ _ _ _ ⟨T.1, T.2⟩ n_a0 )
noncomputable def GX100_isIllegal_81 (a0 : Nat) (a1 : Int32) (a3 : Int32) (M : FM) : Int32 × FM :=
  GX100_isIllegal_86 a0 a1 a3 (Int32.ofInt 1) M
theorem gX100_isIllegal_81 (a0 : Nat) (a1 : Int32) (a3 : Int32) (M : FM) (T : Ty M) (n_a0 : fm_is M 95 95 a0 = true) : gd (FX100_isIllegal_81 a0 a1 a3 M) (GX100_isIllegal_81 a0 a1 a3 M) (OkZ M) := by
  delta FX100_isIllegal_81 BX100_isIllegal_81
  exact gd_tZ (ext_r _) (gX100_isIllegal_86 _ _ _ _ _ ⟨T.1, T.2⟩ n_a0 )
noncomputable def GX100_isIllegal_65 (a0 : Nat) (a1 : Int32) (a3 : Int32) (M : FM) : Int32 × FM :=
  fi (a1 ≤ 0) (
    GX100_isIllegal_85 a0 a1 a3 M) (
    fi ((Int32.ofInt 4) ≤ a1) (
      GX100_isIllegal_85 a0 a1 a3 M) (
      let r1 : Int32 × FM := GX100_floating a0 M
      fi (r1.1 = 0) (
        GX100_isIllegal_81 a0 a1 a3 r1.2) (
        GX100_isIllegal_85 a0 a1 a3 r1.2)))
theorem gX100_isIllegal_65 (a0 : Nat) (a1 : Int32) (a3 : Int32) (M : FM) (T : Ty M) (n_a0 : fm_is M 95 95 a0 = true) : gd (FX100_isIllegal_65 a0 a1 a3 M) (GX100_isIllegal_65 a0 a1 a3 M) (OkZ M) := by
  delta FX100_isIllegal_65 BX100_isIllegal_65
  refine gd_fi (fun c0_0 => ?_) (fun c0_0 => ?_)
  · exact gd_tZ (ext_r _) (gX100_isIllegal_85 _ _ _ _ ⟨T.1, T.2⟩ n_a0 )
  · refine gd_fi (fun c1_0 => ?_) (fun c1_0 => ?_)
    · exact gd_tZ (ext_r _) (gX100_isIllegal_85 _ _ _ _ ⟨T.1, T.2⟩ n_a0 )
    · refine gd_c n_a0 ?_
      refine gd_b (gX100_floating _ _ ⟨T.1, T.2⟩ n_a0 ) (fun K2 => ?_)
      refine gd_fi (fun c3_0 => ?_) (fun c3_0 => ?_)
      · have f4 := (ext_is K2.2 (Nat.zero_lt_succ _) n_a0)
        exact gd_tZ K2.2 (gX100_isIllegal_81 _ _ _ _ ⟨K2.1.1, K2.1.2⟩ f4 )
      · have f5 := (ext_is K2.2 (Nat.zero_lt_succ _) n_a0)
        exact gd_tZ K2.2 (gX100_isIllegal_85 _ _ _ _ ⟨K2.1.1, K2.1.2⟩ f5 )
noncomputable def GX100_isIllegal_39 (a0 : Nat) (a1 : Int32) (s0 : Int32) (M : FM) : Int32 × FM :=
  fi (a1 = (Int32.ofInt 384)) (
    fi ((M.1 360 a0 0) = (Int32.ofInt 1)) (
      let r1 : Int32 × FM := GX100_status a0 (Int32.ofInt 20) M
      fi (r1.1 = (Int32.ofInt 1)) (
        GX100_isIllegal_81 a0 a1 s0 r1.2) (
        GX100_isIllegal_65 a0 a1 s0 r1.2)) (
      GX100_isIllegal_65 a0 a1 s0 M)) (
    GX100_isIllegal_65 a0 a1 s0 M)
theorem gX100_isIllegal_39 (a0 : Nat) (a1 : Int32) (s0 : Int32) (M : FM) (T : Ty M) (n_a0 : fm_is M 95 95 a0 = true) : gd (FX100_isIllegal_39 a0 a1 s0 M) (GX100_isIllegal_39 a0 a1 s0 M) (OkZ M) := by
  delta FX100_isIllegal_39 BX100_isIllegal_39
  refine gd_fi (fun c0_0 => ?_) (fun c0_0 => ?_)
  · refine gd_c n_a0 ?_
    refine gd_fi (fun c1_0 => ?_) (fun c1_0 => ?_)
    · refine gd_c n_a0 ?_
      refine gd_b (gX100_status _ _ _ ⟨T.1, T.2⟩ n_a0 ) (fun K2 => ?_)
      refine gd_fi (fun c3_0 => ?_) (fun c3_0 => ?_)
      · have f4 := (ext_is K2.2 (Nat.zero_lt_succ _) n_a0)
        exact gd_tZ K2.2 (gX100_isIllegal_81 _ _ _ _ ⟨K2.1.1, K2.1.2⟩ f4 )
      · have f5 := (ext_is K2.2 (Nat.zero_lt_succ _) n_a0)
        exact gd_tZ K2.2 (gX100_isIllegal_65 _ _ _ _ ⟨K2.1.1, K2.1.2⟩ f5 )
    · exact gd_tZ (ext_r _) (gX100_isIllegal_65 _ _ _ _ ⟨T.1, T.2⟩ n_a0 )
  · exact gd_tZ (ext_r _) (gX100_isIllegal_65 _ _ _ _ ⟨T.1, T.2⟩ n_a0 )
noncomputable def GX100_isIllegal_38 (a0 : Nat) (a1 : Int32) (M : FM) : Int32 × FM :=
  GX100_isIllegal_39 a0 a1 (Int32.ofInt 0) M
theorem gX100_isIllegal_38 (a0 : Nat) (a1 : Int32) (M : FM) (T : Ty M) (n_a0 : fm_is M 95 95 a0 = true) : gd (FX100_isIllegal_38 a0 a1 M) (GX100_isIllegal_38 a0 a1 M) (OkZ M) := by
  delta FX100_isIllegal_38 BX100_isIllegal_38
  exact gd_tZ (ext_r _) (gX100_isIllegal_39 _ _ _ _ ⟨T.1, T.2⟩ n_a0 )
noncomputable def GX100_isIllegal_34 (a0 : Nat) (a1 : Int32) (M : FM) : Int32 × FM :=
  GX100_isIllegal_39 a0 a1 (Int32.ofInt 1) M
theorem gX100_isIllegal_34 (a0 : Nat) (a1 : Int32) (M : FM) (T : Ty M) (n_a0 : fm_is M 95 95 a0 = true) : gd (FX100_isIllegal_34 a0 a1 M) (GX100_isIllegal_34 a0 a1 M) (OkZ M) := by
  delta FX100_isIllegal_34 BX100_isIllegal_34
  exact gd_tZ (ext_r _) (gX100_isIllegal_39 _ _ _ _ ⟨T.1, T.2⟩ n_a0 )
noncomputable def GX100_isIllegal_0 (a0 : Nat) (a1 : Int32) (a2 : Int32) (M : FM) : Int32 × FM :=
  let r1 : Int32 × FM := GX100_isThere a1 M
  fi (r1.1 = 0) (
    GX100_isIllegal_34 a0 a1 r1.2) (
    fi ((r1.2.1 360 a0 0) < ((a1 >>> ((Int32.ofInt 8) &&& 31)) &&& (Int32.ofInt 3))) (
      GX100_isIllegal_34 a0 a1 r1.2) (
      fi (a2 = 0) (
        GX100_isIllegal_38 a0 a1 r1.2) (
        fi (((a1 >>> ((Int32.ofInt 10) &&& 31)) &&& (Int32.ofInt 3)) = (Int32.ofInt 3)) (
          GX100_isIllegal_34 a0 a1 r1.2) (
          GX100_isIllegal_38 a0 a1 r1.2))))
theorem gX100_isIllegal_0 (a0 : Nat) (a1 : Int32) (a2 : Int32) (M : FM) (T : Ty M) (n_a0 : fm_is M 95 95 a0 = true) : gd (FX100_isIllegal_0 a0 a1 a2 M) (GX100_isIllegal_0 a0 a1 a2 M) (OkZ M) := by
  delta FX100_isIllegal_0 BX100_isIllegal_0
  refine gd_b (gX100_isThere _ _ ⟨T.1, T.2⟩  ) (fun K0 => ?_)
  refine gd_fi (fun c1_0 => ?_) (fun c1_0 => ?_)
  · have f2 := (ext_is K0.2.1 (Nat.zero_lt_succ _) n_a0)
    exact gd_tZ K0.2.1 (gX100_isIllegal_34 _ _ _ ⟨K0.1.1, K0.1.2⟩ f2 )
  · have f3 := (ext_is K0.2.1 (Nat.zero_lt_succ _) n_a0)
    refine gd_c f3 ?_
    refine gd_fi (fun c4_0 => ?_) (fun c4_0 => ?_)
    · have f5 := (ext_is K0.2.1 (Nat.zero_lt_succ _) n_a0)
      exact gd_tZ K0.2.1 (gX100_isIllegal_34 _ _ _ ⟨K0.1.1, K0.1.2⟩ f5 )
    · refine gd_fi (fun c6_0 => ?_) (fun c6_0 => ?_)
      · have f7 := (ext_is K0.2.1 (Nat.zero_lt_succ _) n_a0)
        exact gd_tZ K0.2.1 (gX100_isIllegal_38 _ _ _ ⟨K0.1.1, K0.1.2⟩ f7 )
      · refine gd_fi (fun c8_0 => ?_) (fun c8_0 => ?_)
        · have f9 := (ext_is K0.2.1 (Nat.zero_lt_succ _) n_a0)
          exact gd_tZ K0.2.1 (gX100_isIllegal_34 _ _ _ ⟨K0.1.1, K0.1.2⟩ f9 )
        · have f10 := (ext_is K0.2.1 (Nat.zero_lt_succ _) n_a0)
          exact gd_tZ K0.2.1 (gX100_isIllegal_38 _ _ _ ⟨K0.1.1, K0.1.2⟩ f10 )
noncomputable def GX100_isIllegal (a0 : Nat) (a1 : Int32) (a2 : Int32) (M : FM) : Int32 × FM := GX100_isIllegal_0 a0 a1 a2 M
theorem gX100_isIllegal (a0 : Nat) (a1 : Int32) (a2 : Int32) (M : FM) (T : Ty M) (n_a0 : fm_is M 95 95 a0 = true) : gd (FX100_isIllegal a0 a1 a2 M) (GX100_isIllegal a0 a1 a2 M) (OkZ M) := gX100_isIllegal_0 a0 a1 a2 M T n_a0 
noncomputable def GX100_through_0 (a0 : Nat) (a1 : Int32) (a2 : Int64) (a4 : Int64) (M : FM) : FM :=
  let x1 : Nat := (M.2.2 361 a0 0)
  let x2 : Nat := (M.2.2 361 a0 0)
  let M3 : FM := fm_sL M 3 x2 a1.toNatClampNeg (((M.2.1 3 x1 a1.toNatClampNeg) &&& (a2 ^^^ (Int64.ofInt (-1)))) ||| (a4 &&& a2))
  M3
def HX100_through_0 (a0 : Nat) (a1 : Int32) (a2 : Int64) (a4 : Int64) (M : FM) : Prop := let x1 : Nat := (M.2.2 361 a0 0); (fm_in M x1 a1 = true ∧ let x2 : Nat := (M.2.2 361 a0 0); (fm_in M x2 a1 = true ∧ True))
theorem gX100_through_0 (a0 : Nat) (a1 : Int32) (a2 : Int64) (a4 : Int64) (M : FM) (T : Ty M) (n_a0 : fm_is M 95 95 a0 = true) (h : HX100_through_0 a0 a1 a2 a4 M) : gd (FX100_through_0 a0 a1 a2 a4 M) (GX100_through_0 a0 a1 a2 a4 M) (OkV M) := by
  delta FX100_through_0 BX100_through_0
  refine gd_c n_a0 ?_
  refine gd_c n_a0 ?_
  have f1 := (tN_361 T.1 n_a0)
  refine gd_c ⟨f1, h.1⟩ ?_
  have f0 := (tN_361 T.1 n_a0)
  refine gd_c ⟨f0, h.2.1⟩ ?_
  exact ⟨rfl, ⟨T.1, T.2⟩, (ext_dL (ext_r _))⟩
noncomputable def GX100_through (a0 : Nat) (a1 : Int32) (a2 : Int64) (a4 : Int64) (M : FM) : FM := GX100_through_0 a0 a1 a2 a4 M
def HX100_through (a0 : Nat) (a1 : Int32) (a2 : Int64) (a4 : Int64) (M : FM) : Prop := HX100_through_0 a0 a1 a2 a4 M
theorem gX100_through (a0 : Nat) (a1 : Int32) (a2 : Int64) (a4 : Int64) (M : FM) (T : Ty M) (n_a0 : fm_is M 95 95 a0 = true) (h : HX100_through a0 a1 a2 a4 M) : gd (FX100_through a0 a1 a2 a4 M) (GX100_through a0 a1 a2 a4 M) (OkV M) := gX100_through_0 a0 a1 a2 a4 M T n_a0 h
noncomputable def GX100_writeStatus_43 (M : FM) : FM :=
  M
theorem gX100_writeStatus_43 (M : FM) (T : Ty M) : gd (FX100_writeStatus_43 M) (GX100_writeStatus_43 M) (OkV M) := by
  delta FX100_writeStatus_43 BX100_writeStatus_43
  exact ⟨rfl, ⟨T.1, T.2⟩, (ext_r _)⟩
noncomputable def GX100_writeStatus_0 (a0 : Nat) (a1 : Int64) (a3 : Int64) (M : FM) : FM :=
  let r1 : Int32 × FM := GX100_below a0 M
  let M2 : FM := GX100_through a0 (Int32.ofInt 768) a1 a3 r1.2
  let r3 : Int32 × FM := GX100_below a0 M2
  fi (r3.1 = (Int32.ofInt 2)) (
    let M4 : FM := GX100_put a0 (Int32.ofInt 11) (r1.1 - r1.1 / (Int32.ofInt 2) * (Int32.ofInt 2)) r3.2
    let M5 : FM := GX100_put a0 (Int32.ofInt 12) (r1.1 / (Int32.ofInt 2)) M4
    GX100_writeStatus_43 M5) (
    GX100_writeStatus_43 r3.2)
def HX100_writeStatus_0 (a0 : Nat) (a1 : Int64) (a3 : Int64) (M : FM) : Prop := let r1 : Int32 × FM := GX100_below a0 M; (HX100_through a0 (Int32.ofInt 768) a1 a3 r1.2 ∧ True)
theorem gX100_writeStatus_0 (a0 : Nat) (a1 : Int64) (a3 : Int64) (M : FM) (T : Ty M) (n_a0 : fm_is M 95 95 a0 = true) (h : HX100_writeStatus_0 a0 a1 a3 M) : gd (FX100_writeStatus_0 a0 a1 a3 M) (GX100_writeStatus_0 a0 a1 a3 M) (OkV M) := by
  delta FX100_writeStatus_0 BX100_writeStatus_0
  refine gd_c n_a0 ?_
  refine gd_b (gX100_below _ _ ⟨T.1, T.2⟩ n_a0 ) (fun K0 => ?_)
  have f1 := (ext_is K0.2 (Nat.zero_lt_succ _) n_a0)
  refine gd_c f1 ?_
  have f13 := (ext_is K0.2 (Nat.zero_lt_succ _) n_a0)
  refine gd_b (gX100_through _ _ _ _ _ ⟨K0.1.1, K0.1.2⟩ f13 h.1) (fun K2 => ?_)
  have f3 := (ext_is K2.2 (Nat.zero_lt_succ _) (ext_is K0.2 (Nat.zero_lt_succ _) n_a0))
  refine gd_c f3 ?_
  have f12 := (ext_is K2.2 (Nat.zero_lt_succ _) (ext_is K0.2 (Nat.zero_lt_succ _) n_a0))
  refine gd_b (gX100_below _ _ ⟨K2.1.1, K2.1.2⟩ f12 ) (fun K4 => ?_)
  refine gd_fi (fun c5_0 => ?_) (fun c5_0 => ?_)
  · refine gd_n (by decide) ?_
    have f6 := (ext_is K4.2 (Nat.zero_lt_succ _) (ext_is K2.2 (Nat.zero_lt_succ _) (ext_is K0.2 (Nat.zero_lt_succ _) n_a0)))
    refine gd_c f6 ?_
    have f11 := (ext_is K4.2 (Nat.zero_lt_succ _) (ext_is K2.2 (Nat.zero_lt_succ _) (ext_is K0.2 (Nat.zero_lt_succ _) n_a0)))
    refine gd_b (gX100_put _ _ _ _ ⟨K4.1.1, K4.1.2⟩ f11 ) (fun K7 => ?_)
    refine gd_n (by decide) ?_
    have f8 := (ext_is K7.2 (Nat.zero_lt_succ _) (ext_is K4.2 (Nat.zero_lt_succ _) (ext_is K2.2 (Nat.zero_lt_succ _) (ext_is K0.2 (Nat.zero_lt_succ _) n_a0))))
    refine gd_c f8 ?_
    have f10 := (ext_is K7.2 (Nat.zero_lt_succ _) (ext_is K4.2 (Nat.zero_lt_succ _) (ext_is K2.2 (Nat.zero_lt_succ _) (ext_is K0.2 (Nat.zero_lt_succ _) n_a0))))
    refine gd_b (gX100_put _ _ _ _ ⟨K7.1.1, K7.1.2⟩ f10 ) (fun K9 => ?_)
    exact gd_tV (ext_tr K0.2 (ext_tr K2.2 (ext_tr K4.2 (ext_tr K7.2 K9.2)))) (gX100_writeStatus_43  _ ⟨K9.1.1, K9.1.2⟩  )
  · exact gd_tV (ext_tr K0.2 (ext_tr K2.2 K4.2)) (gX100_writeStatus_43  _ ⟨K4.1.1, K4.1.2⟩  )
noncomputable def GX100_writeStatus (a0 : Nat) (a1 : Int64) (a3 : Int64) (M : FM) : FM := GX100_writeStatus_0 a0 a1 a3 M
def HX100_writeStatus (a0 : Nat) (a1 : Int64) (a3 : Int64) (M : FM) : Prop := HX100_writeStatus_0 a0 a1 a3 M
theorem gX100_writeStatus (a0 : Nat) (a1 : Int64) (a3 : Int64) (M : FM) (T : Ty M) (n_a0 : fm_is M 95 95 a0 = true) (h : HX100_writeStatus a0 a1 a3 M) : gd (FX100_writeStatus a0 a1 a3 M) (GX100_writeStatus a0 a1 a3 M) (OkV M) := gX100_writeStatus_0 a0 a1 a3 M T n_a0 h
noncomputable def GX100_write_359 (M : FM) : FM :=
  M
theorem gX100_write_359 (M : FM) (T : Ty M) : gd (FX100_write_359 fN M) (GX100_write_359 M) (OkV M) := by
  delta FX100_write_359 BX100_write_359
  exact ⟨rfl, ⟨T.1, T.2⟩, (ext_r _)⟩
noncomputable def GX100_write_342 (a2 : Int64) (s0 : Nat) (s1 : Int32) (s2 : Int64) (M : FM) : FM :=
  let M1 : FM := GX100_through s0 s1 s2 a2 M
  GX100_write_359 M1
def HX100_write_342 (a2 : Int64) (s0 : Nat) (s1 : Int32) (s2 : Int64) (M : FM) : Prop := (HX100_through s0 s1 s2 a2 M ∧ True)
theorem gX100_write_342 (a2 : Int64) (s0 : Nat) (s1 : Int32) (s2 : Int64) (M : FM) (T : Ty M) (n_s0 : fm_is M 95 95 s0 = true) (h : HX100_write_342 a2 s0 s1 s2 M) : gd (FX100_write_342 fN a2 s0 s1 s2 M) (GX100_write_342 a2 s0 s1 s2 M) (OkV M) := by
  delta FX100_write_342 BX100_write_342
  refine gd_c n_s0 ?_
  refine gd_b (gX100_through _ _ _ _ _ ⟨T.1, T.2⟩ n_s0 h.1) (fun K0 => ?_)
  exact gd_tV K0.2 (gX100_write_359  _ ⟨K0.1.1, K0.1.2⟩  )
noncomputable def GX100_write_335 (a2 : Int64) (s0 : Nat) (s1 : Int32) (M : FM) : FM :=
  GX100_write_342 a2 s0 s1 (Int64.ofInt (-1)) M
def HX100_write_335 (a2 : Int64) (s0 : Nat) (s1 : Int32) (M : FM) : Prop := HX100_write_342 a2 s0 s1 (Int64.ofInt (-1)) M
theorem gX100_write_335 (a2 : Int64) (s0 : Nat) (s1 : Int32) (M : FM) (T : Ty M) (n_s0 : fm_is M 95 95 s0 = true) (h : HX100_write_335 a2 s0 s1 M) : gd (FX100_write_335 fN a2 s0 s1 M) (GX100_write_335 a2 s0 s1 M) (OkV M) := by
  delta FX100_write_335 BX100_write_335
  exact gd_tV (ext_r _) (gX100_write_342 _ _ _ _ _ ⟨T.1, T.2⟩ n_s0 h)
noncomputable def GX100_write_286 (a0 : Nat) (a1 : Int32) (a2 : Int64) (M : FM) : FM :=
  let M1 : FM := GX100_through a0 a1 (Int64.ofInt 7) a2 M
  GX100_write_359 M1
def HX100_write_286 (a0 : Nat) (a1 : Int32) (a2 : Int64) (M : FM) : Prop := (HX100_through a0 a1 (Int64.ofInt 7) a2 M ∧ True)
theorem gX100_write_286 (a0 : Nat) (a1 : Int32) (a2 : Int64) (M : FM) (T : Ty M) (n_a0 : fm_is M 95 95 a0 = true) (h : HX100_write_286 a0 a1 a2 M) : gd (FX100_write_286 fN a0 a1 a2 M) (GX100_write_286 a0 a1 a2 M) (OkV M) := by
  delta FX100_write_286 BX100_write_286
  refine gd_c n_a0 ?_
  refine gd_b (gX100_through _ _ _ _ _ ⟨T.1, T.2⟩ n_a0 h.1) (fun K0 => ?_)
  exact gd_tV K0.2 (gX100_write_359  _ ⟨K0.1.1, K0.1.2⟩  )
noncomputable def GX100_write_274 (a0 : Nat) (a1 : Int32) (a2 : Int64) (M : FM) : FM :=
  let M1 : FM := GX100_through a0 a1 (Int64.ofInt (-2)) a2 M
  GX100_write_359 M1
def HX100_write_274 (a0 : Nat) (a1 : Int32) (a2 : Int64) (M : FM) : Prop := (HX100_through a0 a1 (Int64.ofInt (-2)) a2 M ∧ True)
theorem gX100_write_274 (a0 : Nat) (a1 : Int32) (a2 : Int64) (M : FM) (T : Ty M) (n_a0 : fm_is M 95 95 a0 = true) (h : HX100_write_274 a0 a1 a2 M) : gd (FX100_write_274 fN a0 a1 a2 M) (GX100_write_274 a0 a1 a2 M) (OkV M) := by
  delta FX100_write_274 BX100_write_274
  refine gd_c n_a0 ?_
  refine gd_b (gX100_through _ _ _ _ _ ⟨T.1, T.2⟩ n_a0 h.1) (fun K0 => ?_)
  exact gd_tV K0.2 (gX100_write_359  _ ⟨K0.1.1, K0.1.2⟩  )
noncomputable def GX100_write_262 (a0 : Nat) (a1 : Int32) (a2 : Int64) (M : FM) : FM :=
  let M1 : FM := GX100_through a0 a1 (Int64.ofInt (-3)) a2 M
  GX100_write_359 M1
def HX100_write_262 (a0 : Nat) (a1 : Int32) (a2 : Int64) (M : FM) : Prop := (HX100_through a0 a1 (Int64.ofInt (-3)) a2 M ∧ True)
theorem gX100_write_262 (a0 : Nat) (a1 : Int32) (a2 : Int64) (M : FM) (T : Ty M) (n_a0 : fm_is M 95 95 a0 = true) (h : HX100_write_262 a0 a1 a2 M) : gd (FX100_write_262 fN a0 a1 a2 M) (GX100_write_262 a0 a1 a2 M) (OkV M) := by
  delta FX100_write_262 BX100_write_262
  refine gd_c n_a0 ?_
  refine gd_b (gX100_through _ _ _ _ _ ⟨T.1, T.2⟩ n_a0 h.1) (fun K0 => ?_)
  exact gd_tV K0.2 (gX100_write_359  _ ⟨K0.1.1, K0.1.2⟩  )
noncomputable def GX100_write_0 (a0 : Nat) (a1 : Int32) (a2 : Int64) (M : FM) : FM :=
  fi (a1 = (Int32.ofInt 256)) (
    let r1 : Int64 × FM := GX100_statusSeen (Int32.ofInt 0) M
    let M2 : FM := GX100_writeStatus a0 r1.1 a2 r1.2
    GX100_write_359 M2) (
    fi (a1 = (Int32.ofInt 260)) (
      let x3 : Nat := (M.2.2 361 a0 0)
      let M4 : FM := GX100_through a0 (Int32.ofInt 772) (M.2.1 3 x3 (Int32.ofInt 771).toNatClampNeg) a2 M
      GX100_write_359 M4) (
      fi (a1 = (Int32.ofInt 261)) (
        GX100_write_262 a0 a1 a2 M) (
        fi (a1 = (Int32.ofInt 262)) (
          GX100_write_286 a0 a1 a2 M) (
          fi (a1 = (Int32.ofInt 321)) (
            GX100_write_274 a0 a1 a2 M) (
            fi (a1 = (Int32.ofInt 324)) (
              let x5 : Nat := (M.2.2 361 a0 0)
              let M6 : FM := GX100_through a0 (Int32.ofInt 836) ((M.2.1 3 x5 (Int32.ofInt 771).toNatClampNeg) &&& (Int64.ofInt 2)) a2 M
              GX100_write_359 M6) (
              fi (a1 = (Int32.ofInt 384)) (
                let x7 : Int64 := ((a2 >>> ((Int32.ofInt 60).toInt64 &&& 63)) &&& (Int64.ofInt 15))
                fi ((lg_cmp x7 (Int64.ofInt 0)) = 0) (
                  GX100_write_335 a2 a0 a1 M) (
                  fi ((lg_cmp x7 (Int64.ofInt 8)) = 0) (
                    GX100_write_335 a2 a0 a1 M) (
                    fi ((lg_cmp x7 (Int64.ofInt 9)) = 0) (
                      GX100_write_335 a2 a0 a1 M) (
                      GX100_write_342 a2 a0 a1 (Int64.ofInt 0) M)))) (
                fi (a1 = (Int32.ofInt 768)) (
                  let r8 : Int64 × FM := GX100_statusSeen (Int32.ofInt 1) M
                  let M9 : FM := GX100_writeStatus a0 r8.1 a2 r8.2
                  GX100_write_359 M9) (
                  fi (a1 = (Int32.ofInt 769)) (
                    GX100_write_359 M) (
                    fi (a1 = (Int32.ofInt 770)) (
                      let M10 : FM := GX100_through a0 (Int32.ofInt 770) (Int64.ofInt 46079) a2 M
                      GX100_write_359 M10) (
                      fi (a1 = (Int32.ofInt 771)) (
                        let M11 : FM := GX100_through a0 (Int32.ofInt 771) (Int64.ofInt 546) a2 M
                        GX100_write_359 M11) (
                        fi (a1 = (Int32.ofInt 772)) (
                          let M12 : FM := GX100_through a0 (Int32.ofInt 772) (Int64.ofInt 2730) a2 M
                          GX100_write_359 M12) (
                          fi (a1 = (Int32.ofInt 773)) (
                            GX100_write_262 a0 a1 a2 M) (
                            fi (a1 = (Int32.ofInt 774)) (
                              GX100_write_286 a0 a1 a2 M) (
                              fi (a1 = (Int32.ofInt 833)) (
                                GX100_write_274 a0 a1 a2 M) (
                                fi (a1 = (Int32.ofInt 836)) (
                                  let M13 : FM := GX100_through a0 (Int32.ofInt 836) (Int64.ofInt 546) a2 M
                                  GX100_write_359 M13) (
                                  let x14 : Nat := (M.2.2 361 a0 0)
                                  let M15 : FM := fm_sL M 3 x14 a1.toNatClampNeg a2
                                  GX100_write_359 M15))))))))))))))))
def HX100_write_0 (a0 : Nat) (a1 : Int32) (a2 : Int64) (M : FM) : Prop := ((a1 = (Int32.ofInt 256) → (HX100_statusSeen (Int32.ofInt 0) M ∧ let r1 : Int64 × FM := GX100_statusSeen (Int32.ofInt 0) M; (HX100_writeStatus a0 r1.1 a2 r1.2 ∧ True))) ∧ (¬ (a1 = (Int32.ofInt 256)) → ((a1 = (Int32.ofInt 260) → let x3 : Nat := (M.2.2 361 a0 0); (HX100_through a0 (Int32.ofInt 772) (M.2.1 3 x3 (Int32.ofInt 771).toNatClampNeg) a2 M ∧ True)) ∧ (¬ (a1 = (Int32.ofInt 260)) → ((a1 = (Int32.ofInt 261) → HX100_write_262 a0 a1 a2 M) ∧ (¬ (a1 = (Int32.ofInt 261)) → ((a1 = (Int32.ofInt 262) → HX100_write_286 a0 a1 a2 M) ∧ (¬ (a1 = (Int32.ofInt 262)) → ((a1 = (Int32.ofInt 321) → HX100_write_274 a0 a1 a2 M) ∧ (¬ (a1 = (Int32.ofInt 321)) → ((a1 = (Int32.ofInt 324) → let x5 : Nat := (M.2.2 361 a0 0); (HX100_through a0 (Int32.ofInt 836) ((M.2.1 3 x5 (Int32.ofInt 771).toNatClampNeg) &&& (Int64.ofInt 2)) a2 M ∧ True)) ∧ (¬ (a1 = (Int32.ofInt 324)) → ((a1 = (Int32.ofInt 384) → let x7 : Int64 := ((a2 >>> ((Int32.ofInt 60).toInt64 &&& 63)) &&& (Int64.ofInt 15)); (((lg_cmp x7 (Int64.ofInt 0)) = 0 → HX100_write_335 a2 a0 a1 M) ∧ (¬ ((lg_cmp x7 (Int64.ofInt 0)) = 0) → (((lg_cmp x7 (Int64.ofInt 8)) = 0 → HX100_write_335 a2 a0 a1 M) ∧ (¬ ((lg_cmp x7 (Int64.ofInt 8)) = 0) → (((lg_cmp x7 (Int64.ofInt 9)) = 0 → HX100_write_335 a2 a0 a1 M) ∧ (¬ ((lg_cmp x7 (Int64.ofInt 9)) = 0) → HX100_write_342 a2 a0 a1 (Int64.ofInt 0) M))))))) ∧ (¬ (a1 = (Int32.ofInt 384)) → ((a1 = (Int32.ofInt 768) → (HX100_statusSeen (Int32.ofInt 1) M ∧ let r8 : Int64 × FM := GX100_statusSeen (Int32.ofInt 1) M; (HX100_writeStatus a0 r8.1 a2 r8.2 ∧ True))) ∧ (¬ (a1 = (Int32.ofInt 768)) → ((a1 = (Int32.ofInt 769) → True) ∧ (¬ (a1 = (Int32.ofInt 769)) → ((a1 = (Int32.ofInt 770) → (HX100_through a0 (Int32.ofInt 770) (Int64.ofInt 46079) a2 M ∧ True)) ∧ (¬ (a1 = (Int32.ofInt 770)) → ((a1 = (Int32.ofInt 771) → (HX100_through a0 (Int32.ofInt 771) (Int64.ofInt 546) a2 M ∧ True)) ∧ (¬ (a1 = (Int32.ofInt 771)) → ((a1 = (Int32.ofInt 772) → (HX100_through a0 (Int32.ofInt 772) (Int64.ofInt 2730) a2 M ∧ True)) ∧ (¬ (a1 = (Int32.ofInt 772)) → ((a1 = (Int32.ofInt 773) → HX100_write_262 a0 a1 a2 M) ∧ (¬ (a1 = (Int32.ofInt 773)) → ((a1 = (Int32.ofInt 774) → HX100_write_286 a0 a1 a2 M) ∧ (¬ (a1 = (Int32.ofInt 774)) → ((a1 = (Int32.ofInt 833) → HX100_write_274 a0 a1 a2 M) ∧ (¬ (a1 = (Int32.ofInt 833)) → ((a1 = (Int32.ofInt 836) → (HX100_through a0 (Int32.ofInt 836) (Int64.ofInt 546) a2 M ∧ True)) ∧ (¬ (a1 = (Int32.ofInt 836)) → let x14 : Nat := (M.2.2 361 a0 0); (fm_in M x14 a1 = true ∧ True)))))))))))))))))))))))))))))))))
theorem gX100_write_0 (a0 : Nat) (a1 : Int32) (a2 : Int64) (M : FM) (T : Ty M) (n_a0 : fm_is M 95 95 a0 = true) (h : HX100_write_0 a0 a1 a2 M) : gd (FX100_write_0 fN a0 a1 a2 M) (GX100_write_0 a0 a1 a2 M) (OkV M) := by
  delta FX100_write_0 BX100_write_0
  refine gd_fi (fun c0_0 => ?_) (fun c0_0 => ?_)
  · refine gd_b (gX100_statusSeen _ _ (h.1 c0_0).1) (fun K1 => ?_)
    have f2 := (ext_is K1.2 (Nat.zero_lt_succ _) n_a0)
    refine gd_c f2 ?_
    have f4 := (ext_is K1.2 (Nat.zero_lt_succ _) n_a0)
    refine gd_b (gX100_writeStatus _ _ _ _ ⟨K1.1.1, K1.1.2⟩ f4 (h.1 c0_0).2.1) (fun K3 => ?_)
    exact gd_tV (ext_tr K1.2 K3.2) (gX100_write_359  _ ⟨K3.1.1, K3.1.2⟩  )
  · refine gd_fi (fun c5_1 => ?_) (fun c5_1 => ?_)
    · refine gd_c n_a0 ?_
      have f7 := (tN_361 T.1 n_a0)
      have f8 := (fm_inl (i := (Int32.ofInt 771)) (tL_361 T.1 n_a0) (by decide))
      refine gd_c ⟨f7, f8⟩ ?_
      refine gd_c n_a0 ?_
      refine gd_b (gX100_through _ _ _ _ _ ⟨T.1, T.2⟩ n_a0 ((h.2 c0_0).1 c5_1).1) (fun K6 => ?_)
      exact gd_tV K6.2 (gX100_write_359  _ ⟨K6.1.1, K6.1.2⟩  )
    · refine gd_fi (fun c9_2 => ?_) (fun c9_2 => ?_)
      · exact gd_tV (ext_r _) (gX100_write_262 _ _ _ _ ⟨T.1, T.2⟩ n_a0 (((h.2 c0_0).2 c5_1).1 c9_2))
      · refine gd_fi (fun c10_3 => ?_) (fun c10_3 => ?_)
        · exact gd_tV (ext_r _) (gX100_write_286 _ _ _ _ ⟨T.1, T.2⟩ n_a0 ((((h.2 c0_0).2 c5_1).2 c9_2).1 c10_3))
        · refine gd_fi (fun c11_4 => ?_) (fun c11_4 => ?_)
          · exact gd_tV (ext_r _) (gX100_write_274 _ _ _ _ ⟨T.1, T.2⟩ n_a0 (((((h.2 c0_0).2 c5_1).2 c9_2).2 c10_3).1 c11_4))
          · refine gd_fi (fun c12_5 => ?_) (fun c12_5 => ?_)
            · refine gd_c n_a0 ?_
              have f14 := (tN_361 T.1 n_a0)
              have f15 := (fm_inl (i := (Int32.ofInt 771)) (tL_361 T.1 n_a0) (by decide))
              refine gd_c ⟨f14, f15⟩ ?_
              refine gd_c n_a0 ?_
              refine gd_b (gX100_through _ _ _ _ _ ⟨T.1, T.2⟩ n_a0 ((((((h.2 c0_0).2 c5_1).2 c9_2).2 c10_3).2 c11_4).1 c12_5).1) (fun K13 => ?_)
              exact gd_tV K13.2 (gX100_write_359  _ ⟨K13.1.1, K13.1.2⟩  )
            · refine gd_fi (fun c16_6 => ?_) (fun c16_6 => ?_)
              · refine gd_fi (fun c17_0 => ?_) (fun c17_0 => ?_)
                · exact gd_tV (ext_r _) (gX100_write_335 _ _ _ _ ⟨T.1, T.2⟩ n_a0 ((((((((h.2 c0_0).2 c5_1).2 c9_2).2 c10_3).2 c11_4).2 c12_5).1 c16_6).1 c17_0))
                · refine gd_fi (fun c18_0 => ?_) (fun c18_0 => ?_)
                  · exact gd_tV (ext_r _) (gX100_write_335 _ _ _ _ ⟨T.1, T.2⟩ n_a0 (((((((((h.2 c0_0).2 c5_1).2 c9_2).2 c10_3).2 c11_4).2 c12_5).1 c16_6).2 c17_0).1 c18_0))
                  · refine gd_fi (fun c19_0 => ?_) (fun c19_0 => ?_)
                    · exact gd_tV (ext_r _) (gX100_write_335 _ _ _ _ ⟨T.1, T.2⟩ n_a0 ((((((((((h.2 c0_0).2 c5_1).2 c9_2).2 c10_3).2 c11_4).2 c12_5).1 c16_6).2 c17_0).2 c18_0).1 c19_0))
                    · exact gd_tV (ext_r _) (gX100_write_342 _ _ _ _ _ ⟨T.1, T.2⟩ n_a0 ((((((((((h.2 c0_0).2 c5_1).2 c9_2).2 c10_3).2 c11_4).2 c12_5).1 c16_6).2 c17_0).2 c18_0).2 c19_0))
              · refine gd_fi (fun c20_7 => ?_) (fun c20_7 => ?_)
                · refine gd_b (gX100_statusSeen _ _ ((((((((h.2 c0_0).2 c5_1).2 c9_2).2 c10_3).2 c11_4).2 c12_5).2 c16_6).1 c20_7).1) (fun K21 => ?_)
                  have f22 := (ext_is K21.2 (Nat.zero_lt_succ _) n_a0)
                  refine gd_c f22 ?_
                  have f24 := (ext_is K21.2 (Nat.zero_lt_succ _) n_a0)
                  refine gd_b (gX100_writeStatus _ _ _ _ ⟨K21.1.1, K21.1.2⟩ f24 ((((((((h.2 c0_0).2 c5_1).2 c9_2).2 c10_3).2 c11_4).2 c12_5).2 c16_6).1 c20_7).2.1) (fun K23 => ?_)
                  exact gd_tV (ext_tr K21.2 K23.2) (gX100_write_359  _ ⟨K23.1.1, K23.1.2⟩  )
                · refine gd_fi (fun c25_8 => ?_) (fun c25_8 => ?_)
                  · exact gd_tV (ext_r _) (gX100_write_359  _ ⟨T.1, T.2⟩  )
                  · refine gd_fi (fun c26_9 => ?_) (fun c26_9 => ?_)
                    · refine gd_c n_a0 ?_
                      refine gd_b (gX100_through _ _ _ _ _ ⟨T.1, T.2⟩ n_a0 ((((((((((h.2 c0_0).2 c5_1).2 c9_2).2 c10_3).2 c11_4).2 c12_5).2 c16_6).2 c20_7).2 c25_8).1 c26_9).1) (fun K27 => ?_)
                      exact gd_tV K27.2 (gX100_write_359  _ ⟨K27.1.1, K27.1.2⟩  )
                    · refine gd_fi (fun c28_10 => ?_) (fun c28_10 => ?_)
                      · refine gd_c n_a0 ?_
                        refine gd_b (gX100_through _ _ _ _ _ ⟨T.1, T.2⟩ n_a0 (((((((((((h.2 c0_0).2 c5_1).2 c9_2).2 c10_3).2 c11_4).2 c12_5).2 c16_6).2 c20_7).2 c25_8).2 c26_9).1 c28_10).1) (fun K29 => ?_)
                        exact gd_tV K29.2 (gX100_write_359  _ ⟨K29.1.1, K29.1.2⟩  )
                      · refine gd_fi (fun c30_11 => ?_) (fun c30_11 => ?_)
                        · refine gd_c n_a0 ?_
                          refine gd_b (gX100_through _ _ _ _ _ ⟨T.1, T.2⟩ n_a0 ((((((((((((h.2 c0_0).2 c5_1).2 c9_2).2 c10_3).2 c11_4).2 c12_5).2 c16_6).2 c20_7).2 c25_8).2 c26_9).2 c28_10).1 c30_11).1) (fun K31 => ?_)
                          exact gd_tV K31.2 (gX100_write_359  _ ⟨K31.1.1, K31.1.2⟩  )
                        · refine gd_fi (fun c32_12 => ?_) (fun c32_12 => ?_)
                          · exact gd_tV (ext_r _) (gX100_write_262 _ _ _ _ ⟨T.1, T.2⟩ n_a0 (((((((((((((h.2 c0_0).2 c5_1).2 c9_2).2 c10_3).2 c11_4).2 c12_5).2 c16_6).2 c20_7).2 c25_8).2 c26_9).2 c28_10).2 c30_11).1 c32_12))
                          · refine gd_fi (fun c33_13 => ?_) (fun c33_13 => ?_)
                            · exact gd_tV (ext_r _) (gX100_write_286 _ _ _ _ ⟨T.1, T.2⟩ n_a0 ((((((((((((((h.2 c0_0).2 c5_1).2 c9_2).2 c10_3).2 c11_4).2 c12_5).2 c16_6).2 c20_7).2 c25_8).2 c26_9).2 c28_10).2 c30_11).2 c32_12).1 c33_13))
                            · refine gd_fi (fun c34_14 => ?_) (fun c34_14 => ?_)
                              · exact gd_tV (ext_r _) (gX100_write_274 _ _ _ _ ⟨T.1, T.2⟩ n_a0 (((((((((((((((h.2 c0_0).2 c5_1).2 c9_2).2 c10_3).2 c11_4).2 c12_5).2 c16_6).2 c20_7).2 c25_8).2 c26_9).2 c28_10).2 c30_11).2 c32_12).2 c33_13).1 c34_14))
                              · refine gd_fi (fun c35_15 => ?_) (fun c35_15 => ?_)
                                · refine gd_c n_a0 ?_
                                  refine gd_b (gX100_through _ _ _ _ _ ⟨T.1, T.2⟩ n_a0 ((((((((((((((((h.2 c0_0).2 c5_1).2 c9_2).2 c10_3).2 c11_4).2 c12_5).2 c16_6).2 c20_7).2 c25_8).2 c26_9).2 c28_10).2 c30_11).2 c32_12).2 c33_13).2 c34_14).1 c35_15).1) (fun K36 => ?_)
                                  exact gd_tV K36.2 (gX100_write_359  _ ⟨K36.1.1, K36.1.2⟩  )
                                · refine gd_c n_a0 ?_
                                  have f37 := (tN_361 T.1 n_a0)
                                  have f38 := ((((((((((((((((h.2 c0_0).2 c5_1).2 c9_2).2 c10_3).2 c11_4).2 c12_5).2 c16_6).2 c20_7).2 c25_8).2 c26_9).2 c28_10).2 c30_11).2 c32_12).2 c33_13).2 c34_14).2 c35_15).1
                                  refine gd_c ⟨f37, f38⟩ ?_
                                  exact gd_tV (ext_dL (ext_r _)) (gX100_write_359  _ ⟨T.1, T.2⟩  )
noncomputable def GX100_write (a0 : Nat) (a1 : Int32) (a2 : Int64) (M : FM) : FM := GX100_write_0 a0 a1 a2 M
def HX100_write (a0 : Nat) (a1 : Int32) (a2 : Int64) (M : FM) : Prop := HX100_write_0 a0 a1 a2 M
theorem gX100_write (a0 : Nat) (a1 : Int32) (a2 : Int64) (M : FM) (T : Ty M) (n_a0 : fm_is M 95 95 a0 = true) (h : HX100_write a0 a1 a2 M) : gd (FX100_write fN a0 a1 a2 M) (GX100_write a0 a1 a2 M) (OkV M) := gX100_write_0 a0 a1 a2 M T n_a0 h
noncomputable def GX100_access_165 (M : FM) : Int32 × FM :=
  ((Int32.ofInt 0), M)
theorem gX100_access_165 (M : FM) (T : Ty M) : gd (FX100_access_165 fN M) (GX100_access_165 M) (OkR M) := by
  delta FX100_access_165 BX100_access_165
  exact ⟨rfl, ⟨T.1, T.2⟩, (ext_r _)⟩
noncomputable def GX100_access_162 (s0 : Nat) (s1 : Int32) (s2 : Int64) (M : FM) : Int32 × FM :=
  let M1 : FM := GX100_write s0 s1 s2 M
  GX100_access_165 M1
def HX100_access_162 (s0 : Nat) (s1 : Int32) (s2 : Int64) (M : FM) : Prop := (HX100_write s0 s1 s2 M ∧ True)
theorem gX100_access_162 (s0 : Nat) (s1 : Int32) (s2 : Int64) (M : FM) (T : Ty M) (n_s0 : fm_is M 95 95 s0 = true) (h : HX100_access_162 s0 s1 s2 M) : gd (FX100_access_162 fN s0 s1 s2 M) (GX100_access_162 s0 s1 s2 M) (OkR M) := by
  delta FX100_access_162 BX100_access_162
  refine gd_c n_s0 ?_
  refine gd_b (gX100_write _ _ _ _ ⟨T.1, T.2⟩ n_s0 h.1) (fun K0 => ?_)
  exact gd_tR K0.2 (gX100_access_165  _ ⟨K0.1.1, K0.1.2⟩  )
noncomputable def GX100_access_122 (a0 : Nat) (a1 : Int32) (a2 : Int32) (a3 : Int32) (a4 : Int64) (s0 : Int64) (M : FM) : Int32 × FM :=
  fi (a3 = 0) (
    GX100_access_165 M) (
    fi (a2 = (Int32.ofInt 1)) (
      GX100_access_162 a0 a1 a4 M) (
      fi (a2 = (Int32.ofInt 2)) (
        GX100_access_162 a0 a1 (s0 ||| a4) M) (
        GX100_access_162 a0 a1 (s0 &&& (a4 ^^^ (Int64.ofInt (-1)))) M)))
def HX100_access_122 (a0 : Nat) (a1 : Int32) (a2 : Int32) (a3 : Int32) (a4 : Int64) (s0 : Int64) (M : FM) : Prop := ((a3 = 0 → True) ∧ (¬ (a3 = 0) → ((a2 = (Int32.ofInt 1) → HX100_access_162 a0 a1 a4 M) ∧ (¬ (a2 = (Int32.ofInt 1)) → ((a2 = (Int32.ofInt 2) → HX100_access_162 a0 a1 (s0 ||| a4) M) ∧ (¬ (a2 = (Int32.ofInt 2)) → HX100_access_162 a0 a1 (s0 &&& (a4 ^^^ (Int64.ofInt (-1)))) M))))))
theorem gX100_access_122 (a0 : Nat) (a1 : Int32) (a2 : Int32) (a3 : Int32) (a4 : Int64) (s0 : Int64) (M : FM) (T : Ty M) (n_a0 : fm_is M 95 95 a0 = true) (h : HX100_access_122 a0 a1 a2 a3 a4 s0 M) : gd (FX100_access_122 fN a0 a1 a2 a3 a4 s0 M) (GX100_access_122 a0 a1 a2 a3 a4 s0 M) (OkR M) := by
  delta FX100_access_122 BX100_access_122
  refine gd_fi (fun c0_0 => ?_) (fun c0_0 => ?_)
  · exact gd_tR (ext_r _) (gX100_access_165  _ ⟨T.1, T.2⟩  )
  · refine gd_fi (fun c1_0 => ?_) (fun c1_0 => ?_)
    · exact gd_tR (ext_r _) (gX100_access_162 _ _ _ _ ⟨T.1, T.2⟩ n_a0 ((h.2 c0_0).1 c1_0))
    · refine gd_fi (fun c2_0 => ?_) (fun c2_0 => ?_)
      · exact gd_tR (ext_r _) (gX100_access_162 _ _ _ _ ⟨T.1, T.2⟩ n_a0 (((h.2 c0_0).2 c1_0).1 c2_0))
      · exact gd_tR (ext_r _) (gX100_access_162 _ _ _ _ ⟨T.1, T.2⟩ n_a0 (((h.2 c0_0).2 c1_0).2 c2_0))
noncomputable def GX100_access_80 (M : FM) : Int32 × FM :=
  ((Int32.ofInt 1), M)
theorem gX100_access_80 (M : FM) (T : Ty M) : gd (FX100_access_80 fN M) (GX100_access_80 M) (OkR M) := by
  delta FX100_access_80 BX100_access_80
  exact ⟨rfl, ⟨T.1, T.2⟩, (ext_r _)⟩
noncomputable def GX100_access_27 (a0 : Nat) (a1 : Int32) (a2 : Int32) (a3 : Int32) (a4 : Int64) (s0 : Nat) (s1 : Int32) (M : FM) : Int32 × FM :=
  let M1 : FM := fm_sI M 358 s0 0 s1
  fi ((M1.1 358 a0 0) ≤ 0) (
    let r2 : Int32 × FM := GX100_isIllegal a0 a1 a3 M1
    fi (r2.1 = 0) (
      let r3 : Int32 × FM := GX100_isElsewhere a1 r2.2
      fi (r3.1 = 0) (
        let r4 : Int64 × FM := GX100_shown a0 a1 r3.2
        let M5 : FM := fm_sL r4.2 364 a0 0 r4.1
        fi (a1 = (Int32.ofInt 836)) (
          let x6 : Nat := (M5.2.2 361 a0 0)
          let r7 : Int64 × FM := GX100_lineBits a0 M5
          GX100_access_122 a0 a1 a2 a3 a4 ((M5.2.1 3 x6 (Int32.ofInt 836).toNatClampNeg) ||| (r7.1 &&& (Int64.ofInt (-513)))) r7.2) (
          GX100_access_122 a0 a1 a2 a3 a4 (M5.2.1 364 a0 0) M5)) (
        fi (a3 = 0) (
          GX100_access_80 r3.2) (
          fi ((Int32.ofInt 4) ≤ a1) (
            GX100_access_80 r3.2) (
            let M8 : FM := GX100_put a0 (Int32.ofInt 13) (Int32.ofInt 1) r3.2
            let M9 : FM := GX100_put a0 (Int32.ofInt 14) (Int32.ofInt 1) M8
            GX100_access_80 M9)))) (
      ((Int32.ofInt 2), r2.2))) (
    ((Int32.ofInt 0), M1))
def HX100_access_27 (a0 : Nat) (a1 : Int32) (a2 : Int32) (a3 : Int32) (a4 : Int64) (s0 : Nat) (s1 : Int32) (M : FM) : Prop := let M1 : FM := fm_sI M 358 s0 0 s1; (((M1.1 358 a0 0) ≤ 0 → let r2 : Int32 × FM := GX100_isIllegal a0 a1 a3 M1; ((r2.1 = 0 → let r3 : Int32 × FM := GX100_isElsewhere a1 r2.2; ((r3.1 = 0 → (HX100_shown a0 a1 r3.2 ∧ let r4 : Int64 × FM := GX100_shown a0 a1 r3.2; let M5 : FM := fm_sL r4.2 364 a0 0 r4.1; ((a1 = (Int32.ofInt 836) → let x6 : Nat := (M5.2.2 361 a0 0); (HX100_lineBits a0 M5 ∧ let r7 : Int64 × FM := GX100_lineBits a0 M5; HX100_access_122 a0 a1 a2 a3 a4 ((M5.2.1 3 x6 (Int32.ofInt 836).toNatClampNeg) ||| (r7.1 &&& (Int64.ofInt (-513)))) r7.2)) ∧ (¬ (a1 = (Int32.ofInt 836)) → HX100_access_122 a0 a1 a2 a3 a4 (M5.2.1 364 a0 0) M5)))) ∧ (¬ (r3.1 = 0) → True))) ∧ (¬ (r2.1 = 0) → True))) ∧ (¬ ((M1.1 358 a0 0) ≤ 0) → True))
theorem gX100_access_27 (a0 : Nat) (a1 : Int32) (a2 : Int32) (a3 : Int32) (a4 : Int64) (s0 : Nat) (s1 : Int32) (M : FM) (T : Ty M) (n_s0 : fm_is M 95 95 s0 = true) (n_a0 : fm_is M 95 95 a0 = true) (h : HX100_access_27 a0 a1 a2 a3 a4 s0 s1 M) : gd (FX100_access_27 fN a0 a1 a2 a3 a4 s0 s1 M) (GX100_access_27 a0 a1 a2 a3 a4 s0 s1 M) (OkR M) := by
  delta FX100_access_27 BX100_access_27
  refine gd_c n_s0 ?_
  refine gd_c n_a0 ?_
  refine gd_fi (fun c0_0 => ?_) (fun c0_0 => ?_)
  · refine gd_c n_a0 ?_
    refine gd_b (gX100_isIllegal _ _ _ _ ⟨T.1, (tyb_sI (f := 358) rfl T.2)⟩ n_a0 ) (fun K1 => ?_)
    refine gd_fi (fun c2_0 => ?_) (fun c2_0 => ?_)
    · refine gd_b (gX100_isElsewhere _ _ ⟨K1.1.1, K1.1.2⟩  ) (fun K3 => ?_)
      refine gd_fi (fun c4_0 => ?_) (fun c4_0 => ?_)
      · have f5 := (ext_is K3.2.1 (Nat.zero_lt_succ _) (ext_is K1.2.1 (Nat.zero_lt_succ _) n_a0))
        refine gd_c f5 ?_
        have f17 := (ext_is K3.2.1 (Nat.zero_lt_succ _) (ext_is K1.2.1 (Nat.zero_lt_succ _) n_a0))
        refine gd_b (gX100_shown _ _ _ ⟨K3.1.1, K3.1.2⟩ f17 (((h.1 c0_0).1 c2_0).1 c4_0).1) (fun K6 => ?_)
        have f7 := (ext_is K6.2 (Nat.zero_lt_succ _) (ext_is K3.2.1 (Nat.zero_lt_succ _) (ext_is K1.2.1 (Nat.zero_lt_succ _) n_a0)))
        refine gd_c f7 ?_
        refine gd_fi (fun c8_0 => ?_) (fun c8_0 => ?_)
        · have f9 := (ext_is K6.2 (Nat.zero_lt_succ _) (ext_is K3.2.1 (Nat.zero_lt_succ _) (ext_is K1.2.1 (Nat.zero_lt_succ _) n_a0)))
          refine gd_c f9 ?_
          have f13 := (tN_361 K6.1.1 (ext_is K6.2 (Nat.zero_lt_succ _) (ext_is K3.2.1 (Nat.zero_lt_succ _) (ext_is K1.2.1 (Nat.zero_lt_succ _) n_a0))))
          have f14 := (fm_inl (i := (Int32.ofInt 836)) (tL_361 K6.1.1 (ext_is K6.2 (Nat.zero_lt_succ _) (ext_is K3.2.1 (Nat.zero_lt_succ _) (ext_is K1.2.1 (Nat.zero_lt_succ _) n_a0)))) (by decide))
          refine gd_c ⟨f13, f14⟩ ?_
          have f10 := (ext_is K6.2 (Nat.zero_lt_succ _) (ext_is K3.2.1 (Nat.zero_lt_succ _) (ext_is K1.2.1 (Nat.zero_lt_succ _) n_a0)))
          refine gd_c f10 ?_
          refine gd_b (gX100_lineBits _ _ ((((h.1 c0_0).1 c2_0).1 c4_0).2.1 c8_0).1) (fun K11 => ?_)
          have f12 := (ext_is K11.2 (Nat.zero_lt_succ _) (ext_is K6.2 (Nat.zero_lt_succ _) (ext_is K3.2.1 (Nat.zero_lt_succ _) (ext_is K1.2.1 (Nat.zero_lt_succ _) n_a0))))
          exact gd_tR (ext_dI (ext_tr K1.2.1 (ext_tr K3.2.1 (ext_tr K6.2 (ext_dL K11.2))))) (gX100_access_122 _ _ _ _ _ _ _ ⟨K11.1.1, K11.1.2⟩ f12 ((((h.1 c0_0).1 c2_0).1 c4_0).2.1 c8_0).2)
        · have f15 := (ext_is K6.2 (Nat.zero_lt_succ _) (ext_is K3.2.1 (Nat.zero_lt_succ _) (ext_is K1.2.1 (Nat.zero_lt_succ _) n_a0)))
          refine gd_c f15 ?_
          have f16 := (ext_is K6.2 (Nat.zero_lt_succ _) (ext_is K3.2.1 (Nat.zero_lt_succ _) (ext_is K1.2.1 (Nat.zero_lt_succ _) n_a0)))
          exact gd_tR (ext_dI (ext_tr K1.2.1 (ext_tr K3.2.1 (ext_tr K6.2 (ext_dL (ext_r _)))))) (gX100_access_122 _ _ _ _ _ _ _ ⟨K6.1.1, K6.1.2⟩ f16 ((((h.1 c0_0).1 c2_0).1 c4_0).2.2 c8_0))
      · refine gd_fi (fun c18_0 => ?_) (fun c18_0 => ?_)
        · exact gd_tR (ext_dI (ext_tr K1.2.1 K3.2.1)) (gX100_access_80  _ ⟨K3.1.1, K3.1.2⟩  )
        · refine gd_fi (fun c19_0 => ?_) (fun c19_0 => ?_)
          · exact gd_tR (ext_dI (ext_tr K1.2.1 K3.2.1)) (gX100_access_80  _ ⟨K3.1.1, K3.1.2⟩  )
          · have f20 := (ext_is K3.2.1 (Nat.zero_lt_succ _) (ext_is K1.2.1 (Nat.zero_lt_succ _) n_a0))
            refine gd_c f20 ?_
            have f25 := (ext_is K3.2.1 (Nat.zero_lt_succ _) (ext_is K1.2.1 (Nat.zero_lt_succ _) n_a0))
            refine gd_b (gX100_put _ _ _ _ ⟨K3.1.1, K3.1.2⟩ f25 ) (fun K21 => ?_)
            have f22 := (ext_is K21.2 (Nat.zero_lt_succ _) (ext_is K3.2.1 (Nat.zero_lt_succ _) (ext_is K1.2.1 (Nat.zero_lt_succ _) n_a0)))
            refine gd_c f22 ?_
            have f24 := (ext_is K21.2 (Nat.zero_lt_succ _) (ext_is K3.2.1 (Nat.zero_lt_succ _) (ext_is K1.2.1 (Nat.zero_lt_succ _) n_a0)))
            refine gd_b (gX100_put _ _ _ _ ⟨K21.1.1, K21.1.2⟩ f24 ) (fun K23 => ?_)
            exact gd_tR (ext_dI (ext_tr K1.2.1 (ext_tr K3.2.1 (ext_tr K21.2 K23.2)))) (gX100_access_80  _ ⟨K23.1.1, K23.1.2⟩  )
    · exact ⟨rfl, ⟨K1.1.1, K1.1.2⟩, (ext_dI K1.2.1)⟩
  · exact ⟨rfl, ⟨T.1, (tyb_sI (f := 358) rfl T.2)⟩, (ext_dI (ext_r _))⟩
noncomputable def GX100_access_22 (a0 : Nat) (a1 : Int32) (a2 : Int32) (a3 : Int32) (a4 : Int64) (s0 : Nat) (M : FM) : Int32 × FM :=
  GX100_access_27 a0 a1 a2 a3 a4 s0 (Int32.ofInt 1) M
def HX100_access_22 (a0 : Nat) (a1 : Int32) (a2 : Int32) (a3 : Int32) (a4 : Int64) (s0 : Nat) (M : FM) : Prop := HX100_access_27 a0 a1 a2 a3 a4 s0 (Int32.ofInt 1) M
theorem gX100_access_22 (a0 : Nat) (a1 : Int32) (a2 : Int32) (a3 : Int32) (a4 : Int64) (s0 : Nat) (M : FM) (T : Ty M) (n_s0 : fm_is M 95 95 s0 = true) (n_a0 : fm_is M 95 95 a0 = true) (h : HX100_access_22 a0 a1 a2 a3 a4 s0 M) : gd (FX100_access_22 fN a0 a1 a2 a3 a4 s0 M) (GX100_access_22 a0 a1 a2 a3 a4 s0 M) (OkR M) := by
  delta FX100_access_22 BX100_access_22
  exact gd_tR (ext_r _) (gX100_access_27 _ _ _ _ _ _ _ _ ⟨T.1, T.2⟩ n_s0 n_a0 h)
noncomputable def GX100_access_0 (a0 : Nat) (a1 : Int32) (a2 : Int32) (a3 : Int32) (a4 : Int64) (M : FM) : Int32 × FM :=
  fi (a1 < 0) (
    GX100_access_22 a0 a1 a2 a3 a4 a0 M) (
    fi ((Int32.ofInt 4095) < a1) (
      GX100_access_22 a0 a1 a2 a3 a4 a0 M) (
      fi (a2 < (Int32.ofInt 1)) (
        GX100_access_22 a0 a1 a2 a3 a4 a0 M) (
        fi (a2 ≤ (Int32.ofInt 3)) (
          GX100_access_27 a0 a1 a2 a3 a4 a0 (Int32.ofInt 0) M) (
          GX100_access_22 a0 a1 a2 a3 a4 a0 M))))
def HX100_access_0 (a0 : Nat) (a1 : Int32) (a2 : Int32) (a3 : Int32) (a4 : Int64) (M : FM) : Prop := ((a1 < 0 → HX100_access_22 a0 a1 a2 a3 a4 a0 M) ∧ (¬ (a1 < 0) → (((Int32.ofInt 4095) < a1 → HX100_access_22 a0 a1 a2 a3 a4 a0 M) ∧ (¬ ((Int32.ofInt 4095) < a1) → ((a2 < (Int32.ofInt 1) → HX100_access_22 a0 a1 a2 a3 a4 a0 M) ∧ (¬ (a2 < (Int32.ofInt 1)) → ((a2 ≤ (Int32.ofInt 3) → HX100_access_27 a0 a1 a2 a3 a4 a0 (Int32.ofInt 0) M) ∧ (¬ (a2 ≤ (Int32.ofInt 3)) → HX100_access_22 a0 a1 a2 a3 a4 a0 M))))))))
theorem gX100_access_0 (a0 : Nat) (a1 : Int32) (a2 : Int32) (a3 : Int32) (a4 : Int64) (M : FM) (T : Ty M) (n_a0 : fm_is M 95 95 a0 = true) (h : HX100_access_0 a0 a1 a2 a3 a4 M) : gd (FX100_access_0 fN a0 a1 a2 a3 a4 M) (GX100_access_0 a0 a1 a2 a3 a4 M) (OkR M) := by
  delta FX100_access_0 BX100_access_0
  refine gd_fi (fun c0_0 => ?_) (fun c0_0 => ?_)
  · exact gd_tR (ext_r _) (gX100_access_22 _ _ _ _ _ _ _ ⟨T.1, T.2⟩ n_a0 n_a0 (h.1 c0_0))
  · refine gd_fi (fun c1_0 => ?_) (fun c1_0 => ?_)
    · exact gd_tR (ext_r _) (gX100_access_22 _ _ _ _ _ _ _ ⟨T.1, T.2⟩ n_a0 n_a0 ((h.2 c0_0).1 c1_0))
    · refine gd_fi (fun c2_0 => ?_) (fun c2_0 => ?_)
      · exact gd_tR (ext_r _) (gX100_access_22 _ _ _ _ _ _ _ ⟨T.1, T.2⟩ n_a0 n_a0 (((h.2 c0_0).2 c1_0).1 c2_0))
      · refine gd_fi (fun c3_0 => ?_) (fun c3_0 => ?_)
        · exact gd_tR (ext_r _) (gX100_access_27 _ _ _ _ _ _ _ _ ⟨T.1, T.2⟩ n_a0 n_a0 ((((h.2 c0_0).2 c1_0).2 c2_0).1 c3_0))
        · exact gd_tR (ext_r _) (gX100_access_22 _ _ _ _ _ _ _ ⟨T.1, T.2⟩ n_a0 n_a0 ((((h.2 c0_0).2 c1_0).2 c2_0).2 c3_0))
noncomputable def GX100_access (a0 : Nat) (a1 : Int32) (a2 : Int32) (a3 : Int32) (a4 : Int64) (M : FM) : Int32 × FM := GX100_access_0 a0 a1 a2 a3 a4 M
def HX100_access (a0 : Nat) (a1 : Int32) (a2 : Int32) (a3 : Int32) (a4 : Int64) (M : FM) : Prop := HX100_access_0 a0 a1 a2 a3 a4 M
theorem gX100_access (a0 : Nat) (a1 : Int32) (a2 : Int32) (a3 : Int32) (a4 : Int64) (M : FM) (T : Ty M) (n_a0 : fm_is M 95 95 a0 = true) (h : HX100_access a0 a1 a2 a3 a4 M) : gd (FX100_access fN a0 a1 a2 a3 a4 M) (GX100_access a0 a1 a2 a3 a4 M) (OkR M) := gX100_access_0 a0 a1 a2 a3 a4 M T n_a0 h
noncomputable def GX99_flags_0 (a0 : Nat) (M : FM) : Int32 × FM :=
  let M1 : FM := fm_sI M 366 a0 0 (Int32.ofInt 0)
  ((M1.1 368 a0 0), M1)
theorem gX99_flags_0 (a0 : Nat) (M : FM) (T : Ty M) (n_a0 : fm_is M 96 96 a0 = true) : gd (FX99_flags_0 a0 M) (GX99_flags_0 a0 M) (OkR M) := by
  delta FX99_flags_0 BX99_flags_0
  refine gd_c n_a0 ?_
  refine gd_c n_a0 ?_
  exact ⟨rfl, ⟨T.1, (tyb_sI (f := 366) rfl T.2)⟩, (ext_dI (ext_r _))⟩
noncomputable def GX99_flags (a0 : Nat) (M : FM) : Int32 × FM := GX99_flags_0 a0 M
theorem gX99_flags (a0 : Nat) (M : FM) (T : Ty M) (n_a0 : fm_is M 96 96 a0 = true) : gd (FX99_flags a0 M) (GX99_flags a0 M) (OkR M) := gX99_flags_0 a0 M T n_a0 
noncomputable def GX99_mode_0 (a0 : Nat) (M : FM) : Int32 × FM :=
  let M1 : FM := fm_sI M 366 a0 0 (Int32.ofInt 0)
  ((M1.1 369 a0 0), M1)
theorem gX99_mode_0 (a0 : Nat) (M : FM) (T : Ty M) (n_a0 : fm_is M 96 96 a0 = true) : gd (FX99_mode_0 a0 M) (GX99_mode_0 a0 M) (OkR M) := by
  delta FX99_mode_0 BX99_mode_0
  refine gd_c n_a0 ?_
  refine gd_c n_a0 ?_
  exact ⟨rfl, ⟨T.1, (tyb_sI (f := 366) rfl T.2)⟩, (ext_dI (ext_r _))⟩
noncomputable def GX99_mode (a0 : Nat) (M : FM) : Int32 × FM := GX99_mode_0 a0 M
theorem gX99_mode (a0 : Nat) (M : FM) (T : Ty M) (n_a0 : fm_is M 96 96 a0 = true) : gd (FX99_mode a0 M) (GX99_mode a0 M) (OkR M) := gX99_mode_0 a0 M T n_a0 
def kX101_configs (k10 : Nat → Int64 → Int32 → FM → Option (Int64 × FM)) : (Nat × Int64 × Int32 × FM) ⊕ (Int64 × FM) → Option (Int64 × FM)
  | .inl (v0, v1, v2, M') => k10 v0 v1 v2 M'
  | .inr (r) => some r
def pX101_configs (M : FM) : (Nat × Int64 × Int32 × FM) ⊕ (Int64 × FM) → Prop
  | .inl (_, _, _, M') => OkV M M'
  | .inr (r) => OkR M r
theorem pX101_configs_t {M M1 : FM} (e : Ext M M1) : ∀ y, pX101_configs M1 y → pX101_configs M y
  | .inl (_, _, _, _), h => ⟨h.1, ext_tr e h.2⟩
  | .inr (r), h => ⟨h.1, ext_tr e h.2⟩
noncomputable def GX101_configs_0 (a0 : Nat) (M : FM) : (Nat × Int64 × Int32 × FM) ⊕ (Int64 × FM) :=
  let M1 : FM := fm_sI M 422 a0 0 (Int32.ofInt 0)
  (.inl (a0, (Int64.ofInt 0), (Int32.ofInt 7), M1))
theorem gX101_configs_0 (k10 : Nat → Int64 → Int32 → FM → Option (Int64 × FM)) (a0 : Nat) (M : FM) (T : Ty M) (n_a0 : fm_is M 101 101 a0 = true) : gs (FX101_configs_0 fN k10 a0 M) (GX101_configs_0 a0 M) (kX101_configs k10) (pX101_configs M) := by
  delta FX101_configs_0 BX101_configs_0
  refine gs_c n_a0 ?_
  exact And.intro rfl (And.intro (And.intro T.1 (tyb_sI (f := 422) rfl T.2)) ((ext_dI (ext_r _))))
noncomputable def GX101_configs_10 (a0 : Nat) (a1 : Int64) (a3 : Int32) (M : FM) : (Nat × Int64 × Int32 × FM) ⊕ (Int64 × FM) :=
  fi (a3 < 0) (
    (.inr (a1, M))) (
    let x1 : Nat := (M.2.2 427 a0 0)
    let x2 : Int64 := (((Int64.ofInt 256) * a1) + (M.1 3 x1 a3.toNatClampNeg).toInt64)
    let x3 : Int32 := a3 + (Int32.ofInt (-1))
    (.inl (a0, x2, x3, M)))
def HX101_configs_10 (a0 : Nat) (a1 : Int64) (a3 : Int32) (M : FM) : Prop := ((a3 < 0 → True) ∧ (¬ (a3 < 0) → let x1 : Nat := (M.2.2 427 a0 0); (fm_in M x1 a3 = true ∧ True)))
theorem gX101_configs_10 (k10 : Nat → Int64 → Int32 → FM → Option (Int64 × FM)) (a0 : Nat) (a1 : Int64) (a3 : Int32) (M : FM) (T : Ty M) (n_a0 : fm_is M 101 101 a0 = true) (h : HX101_configs_10 a0 a1 a3 M) : gs (FX101_configs_10 fN k10 a0 a1 a3 M) (GX101_configs_10 a0 a1 a3 M) (kX101_configs k10) (pX101_configs M) := by
  delta FX101_configs_10 BX101_configs_10
  refine gs_fi (fun c0_0 => ?_) (fun c0_0 => ?_)
  · exact And.intro rfl (And.intro (And.intro T.1 T.2) ((ext_r _)))
  · refine gs_c n_a0 ?_
    have f1 := (tN_427 T.1 n_a0)
    refine gs_c ⟨f1, (h.2 c0_0).1⟩ ?_
    exact And.intro rfl (And.intro (And.intro T.1 T.2) ((ext_r _)))
noncomputable def GX101_configs (a0 : Nat) (M : FM) : Int64 × FM := (FX101_configs fN a0 M).getD (0, M)
def HX101_configs (a0 : Nat) (M : FM) : Prop := ∃ r, FX101_configs fN a0 M = some r ∧ OkR M r
theorem gX101_configs (a0 : Nat) (M : FM) (h : HX101_configs a0 M) : gd (FX101_configs fN a0 M) (GX101_configs a0 M) (OkR M) := gd_op h
noncomputable def GX101_number_36 (s0 : Int64) (M : FM) : Int64 × FM :=
  (s0, M)
theorem gX101_number_36 (s0 : Int64) (M : FM) (T : Ty M) : gd (FX101_number_36 s0 M) (GX101_number_36 s0 M) (OkR M) := by
  delta FX101_number_36 BX101_number_36
  exact ⟨rfl, ⟨T.1, T.2⟩, (ext_r _)⟩
noncomputable def GX101_number_16 (a0 : Nat) (a1 : Int32) (s0 : Nat) (s1 : Int32) (M : FM) : Int64 × FM :=
  let M1 : FM := fm_sI M 422 s0 0 s1
  fi ((M1.1 422 a0 0) ≤ 0) (
    let x2 : Nat := (M1.2.2 428 a0 0)
    GX101_number_36 (M1.2.1 3 x2 a1.toNatClampNeg) M1) (
    GX101_number_36 (Int64.ofInt 0) M1)
def HX101_number_16 (a0 : Nat) (a1 : Int32) (s0 : Nat) (s1 : Int32) (M : FM) : Prop := let M1 : FM := fm_sI M 422 s0 0 s1; (((M1.1 422 a0 0) ≤ 0 → let x2 : Nat := (M1.2.2 428 a0 0); (fm_in M1 x2 a1 = true ∧ True)) ∧ (¬ ((M1.1 422 a0 0) ≤ 0) → True))
theorem gX101_number_16 (a0 : Nat) (a1 : Int32) (s0 : Nat) (s1 : Int32) (M : FM) (T : Ty M) (n_s0 : fm_is M 101 101 s0 = true) (n_a0 : fm_is M 101 101 a0 = true) (h : HX101_number_16 a0 a1 s0 s1 M) : gd (FX101_number_16 a0 a1 s0 s1 M) (GX101_number_16 a0 a1 s0 s1 M) (OkR M) := by
  delta FX101_number_16 BX101_number_16
  refine gd_c n_s0 ?_
  refine gd_c n_a0 ?_
  refine gd_fi (fun c0_0 => ?_) (fun c0_0 => ?_)
  · refine gd_c n_a0 ?_
    have f1 := (tN_428 T.1 n_a0)
    refine gd_c ⟨f1, (h.1 c0_0).1⟩ ?_
    exact gd_tR (ext_dI (ext_r _)) (gX101_number_36 _ _ ⟨T.1, (tyb_sI (f := 422) rfl T.2)⟩  )
  · exact gd_tR (ext_dI (ext_r _)) (gX101_number_36 _ _ ⟨T.1, (tyb_sI (f := 422) rfl T.2)⟩  )
noncomputable def GX101_number_11 (a0 : Nat) (a1 : Int32) (s0 : Nat) (M : FM) : Int64 × FM :=
  GX101_number_16 a0 a1 s0 (Int32.ofInt 1) M
def HX101_number_11 (a0 : Nat) (a1 : Int32) (s0 : Nat) (M : FM) : Prop := HX101_number_16 a0 a1 s0 (Int32.ofInt 1) M
theorem gX101_number_11 (a0 : Nat) (a1 : Int32) (s0 : Nat) (M : FM) (T : Ty M) (n_s0 : fm_is M 101 101 s0 = true) (n_a0 : fm_is M 101 101 a0 = true) (h : HX101_number_11 a0 a1 s0 M) : gd (FX101_number_11 a0 a1 s0 M) (GX101_number_11 a0 a1 s0 M) (OkR M) := by
  delta FX101_number_11 BX101_number_11
  exact gd_tR (ext_r _) (gX101_number_16 _ _ _ _ _ ⟨T.1, T.2⟩ n_s0 n_a0 h)
noncomputable def GX101_number_0 (a0 : Nat) (a1 : Int32) (M : FM) : Int64 × FM :=
  fi (a1 < 0) (
    GX101_number_11 a0 a1 a0 M) (
    fi (a1 ≤ (Int32.ofInt 7)) (
      GX101_number_16 a0 a1 a0 (Int32.ofInt 0) M) (
      GX101_number_11 a0 a1 a0 M))
def HX101_number_0 (a0 : Nat) (a1 : Int32) (M : FM) : Prop := ((a1 < 0 → HX101_number_11 a0 a1 a0 M) ∧ (¬ (a1 < 0) → ((a1 ≤ (Int32.ofInt 7) → HX101_number_16 a0 a1 a0 (Int32.ofInt 0) M) ∧ (¬ (a1 ≤ (Int32.ofInt 7)) → HX101_number_11 a0 a1 a0 M))))
theorem gX101_number_0 (a0 : Nat) (a1 : Int32) (M : FM) (T : Ty M) (n_a0 : fm_is M 101 101 a0 = true) (h : HX101_number_0 a0 a1 M) : gd (FX101_number_0 a0 a1 M) (GX101_number_0 a0 a1 M) (OkR M) := by
  delta FX101_number_0 BX101_number_0
  refine gd_fi (fun c0_0 => ?_) (fun c0_0 => ?_)
  · exact gd_tR (ext_r _) (gX101_number_11 _ _ _ _ ⟨T.1, T.2⟩ n_a0 n_a0 (h.1 c0_0))
  · refine gd_fi (fun c1_0 => ?_) (fun c1_0 => ?_)
    · exact gd_tR (ext_r _) (gX101_number_16 _ _ _ _ _ ⟨T.1, T.2⟩ n_a0 n_a0 ((h.2 c0_0).1 c1_0))
    · exact gd_tR (ext_r _) (gX101_number_11 _ _ _ _ ⟨T.1, T.2⟩ n_a0 n_a0 ((h.2 c0_0).2 c1_0))
noncomputable def GX101_number (a0 : Nat) (a1 : Int32) (M : FM) : Int64 × FM := GX101_number_0 a0 a1 M
def HX101_number (a0 : Nat) (a1 : Int32) (M : FM) : Prop := HX101_number_0 a0 a1 M
theorem gX101_number (a0 : Nat) (a1 : Int32) (M : FM) (T : Ty M) (n_a0 : fm_is M 101 101 a0 = true) (h : HX101_number a0 a1 M) : gd (FX101_number a0 a1 M) (GX101_number a0 a1 M) (OkR M) := gX101_number_0 a0 a1 M T n_a0 h
noncomputable def GX92_elsewhere_132 (s0 : Int64) (M : FM) : Int64 × FM :=
  (s0, M)
theorem gX92_elsewhere_132 (s0 : Int64) (M : FM) (T : Ty M) : gd (FX92_elsewhere_132 fN s0 M) (GX92_elsewhere_132 s0 M) (OkR M) := by
  delta FX92_elsewhere_132 BX92_elsewhere_132
  exact ⟨rfl, ⟨T.1, T.2⟩, (ext_r _)⟩
noncomputable def GX92_elsewhere_131 (M : FM) : Int64 × FM :=
  GX92_elsewhere_132 (Int64.ofInt 0) M
theorem gX92_elsewhere_131 (M : FM) (T : Ty M) : gd (FX92_elsewhere_131 fN M) (GX92_elsewhere_131 M) (OkR M) := by
  delta FX92_elsewhere_131 BX92_elsewhere_131
  exact gd_tR (ext_r _) (gX92_elsewhere_132 _ _ ⟨T.1, T.2⟩  )
noncomputable def GX92_elsewhere_0 (a0 : Nat) (a1 : Int32) (a2 : Int32) (M : FM) : Int64 × FM :=
  fi (a2 = (Int32.ofInt 1)) (
    let x1 : Nat := (M.2.2 304 a0 0)
    let x2 : Nat := (M.2.2 3 x1 a1.toNatClampNeg)
    let r3 : Int32 × FM := GX99_flags x2 M
    (r3.1.toInt64, r3.2)) (
    fi (a2 = (Int32.ofInt 2)) (
      let x4 : Nat := (M.2.2 304 a0 0)
      let x5 : Nat := (M.2.2 3 x4 a1.toNatClampNeg)
      let r6 : Int32 × FM := GX99_mode x5 M
      (r6.1.toInt64, r6.2)) (
      fi (a2 = (Int32.ofInt 3)) (
        let x7 : Nat := (M.2.2 304 a0 0)
        let x8 : Nat := (M.2.2 3 x7 a1.toNatClampNeg)
        let r9 : Int32 × FM := GX99_flags x8 M
        let x10 : Nat := (r9.2.2.2 304 a0 0)
        let x11 : Nat := (r9.2.2.2 3 x10 a1.toNatClampNeg)
        let r12 : Int32 × FM := GX99_mode x11 r9.2
        ((r9.1 + ((Int32.ofInt 32) * r12.1)).toInt64, r12.2)) (
        fi (a2 = (Int32.ofInt 928)) (
          let x13 : Nat := (M.2.2 306 a0 0)
          let x14 : Nat := (M.2.2 3 x13 a1.toNatClampNeg)
          let r15 : Int64 × FM := GX101_configs x14 M
          (r15.1, r15.2)) (
          fi (a2 < (Int32.ofInt 944)) (
            GX92_elsewhere_131 M) (
            fi ((Int32.ofInt 952) ≤ a2) (
              GX92_elsewhere_131 M) (
              let x16 : Nat := (M.2.2 306 a0 0)
              let x17 : Nat := (M.2.2 3 x16 a1.toNatClampNeg)
              let r18 : Int64 × FM := GX101_number x17 (a2 - (Int32.ofInt 944)) M
              GX92_elsewhere_132 r18.1 r18.2))))))
def HX92_elsewhere_0 (a0 : Nat) (a1 : Int32) (a2 : Int32) (M : FM) : Prop := ((a2 = (Int32.ofInt 1) → let x1 : Nat := (M.2.2 304 a0 0); (fm_in M x1 a1 = true ∧ let x2 : Nat := (M.2.2 3 x1 a1.toNatClampNeg); (fm_is M 96 96 x2 = true ∧ True))) ∧ (¬ (a2 = (Int32.ofInt 1)) → ((a2 = (Int32.ofInt 2) → let x4 : Nat := (M.2.2 304 a0 0); (fm_in M x4 a1 = true ∧ let x5 : Nat := (M.2.2 3 x4 a1.toNatClampNeg); (fm_is M 96 96 x5 = true ∧ True))) ∧ (¬ (a2 = (Int32.ofInt 2)) → ((a2 = (Int32.ofInt 3) → let x7 : Nat := (M.2.2 304 a0 0); (fm_in M x7 a1 = true ∧ let x8 : Nat := (M.2.2 3 x7 a1.toNatClampNeg); (fm_is M 96 96 x8 = true ∧ let r9 : Int32 × FM := GX99_flags x8 M; let x10 : Nat := (r9.2.2.2 304 a0 0); (fm_in r9.2 x10 a1 = true ∧ let x11 : Nat := (r9.2.2.2 3 x10 a1.toNatClampNeg); (fm_is r9.2 96 96 x11 = true ∧ True))))) ∧ (¬ (a2 = (Int32.ofInt 3)) → ((a2 = (Int32.ofInt 928) → let x13 : Nat := (M.2.2 306 a0 0); (fm_in M x13 a1 = true ∧ let x14 : Nat := (M.2.2 3 x13 a1.toNatClampNeg); (fm_is M 101 101 x14 = true ∧ (HX101_configs x14 M ∧ True)))) ∧ (¬ (a2 = (Int32.ofInt 928)) → ((a2 < (Int32.ofInt 944) → True) ∧ (¬ (a2 < (Int32.ofInt 944)) → (((Int32.ofInt 952) ≤ a2 → True) ∧ (¬ ((Int32.ofInt 952) ≤ a2) → let x16 : Nat := (M.2.2 306 a0 0); (fm_in M x16 a1 = true ∧ let x17 : Nat := (M.2.2 3 x16 a1.toNatClampNeg); (fm_is M 101 101 x17 = true ∧ (HX101_number x17 (a2 - (Int32.ofInt 944)) M ∧ True)))))))))))))))
theorem gX92_elsewhere_0 (a0 : Nat) (a1 : Int32) (a2 : Int32) (M : FM) (T : Ty M) (n_a0 : fm_is M 92 92 a0 = true) (h : HX92_elsewhere_0 a0 a1 a2 M) : gd (FX92_elsewhere_0 fN a0 a1 a2 M) (GX92_elsewhere_0 a0 a1 a2 M) (OkR M) := by
  delta FX92_elsewhere_0 BX92_elsewhere_0
  refine gd_fi (fun c0_0 => ?_) (fun c0_0 => ?_)
  · refine gd_c n_a0 ?_
    have f2 := (fm_w (lo' := 910) (hi' := 990) rfl rfl (tN_304 T.1 n_a0))
    refine gd_c ⟨f2, (h.1 c0_0).1⟩ ?_
    refine gd_c (h.1 c0_0).2.1 ?_
    refine gd_b (gX99_flags _ _ ⟨T.1, T.2⟩ (h.1 c0_0).2.1 ) (fun K1 => ?_)
    exact ⟨rfl, ⟨K1.1.1, K1.1.2⟩, K1.2⟩
  · refine gd_fi (fun c3_1 => ?_) (fun c3_1 => ?_)
    · refine gd_c n_a0 ?_
      have f6 := (fm_w (lo' := 910) (hi' := 990) rfl rfl (tN_304 T.1 n_a0))
      have f7 := ((h.2 c0_0).1 c3_1).1
      refine gd_c ⟨f6, f7⟩ ?_
      refine gd_c ((h.2 c0_0).1 c3_1).2.1 ?_
      have f5 := ((h.2 c0_0).1 c3_1).2.1
      refine gd_b (gX99_mode _ _ ⟨T.1, T.2⟩ f5 ) (fun K4 => ?_)
      exact ⟨rfl, ⟨K4.1.1, K4.1.2⟩, K4.2⟩
    · refine gd_fi (fun c8_2 => ?_) (fun c8_2 => ?_)
      · refine gd_c n_a0 ?_
        have f16 := (fm_w (lo' := 910) (hi' := 990) rfl rfl (tN_304 T.1 n_a0))
        have f17 := (((h.2 c0_0).2 c3_1).1 c8_2).1
        refine gd_c ⟨f16, f17⟩ ?_
        refine gd_c (((h.2 c0_0).2 c3_1).1 c8_2).2.1 ?_
        have f15 := (((h.2 c0_0).2 c3_1).1 c8_2).2.1
        refine gd_b (gX99_flags _ _ ⟨T.1, T.2⟩ f15 ) (fun K9 => ?_)
        have f10 := (ext_is K9.2 (Nat.zero_lt_succ _) n_a0)
        refine gd_c f10 ?_
        have f13 := (fm_w (lo' := 910) (hi' := 990) rfl rfl (tN_304 K9.1.1 (ext_is K9.2 (Nat.zero_lt_succ _) n_a0)))
        have f14 := (((h.2 c0_0).2 c3_1).1 c8_2).2.2.1
        refine gd_c ⟨f13, f14⟩ ?_
        refine gd_c (((h.2 c0_0).2 c3_1).1 c8_2).2.2.2.1 ?_
        have f12 := (((h.2 c0_0).2 c3_1).1 c8_2).2.2.2.1
        refine gd_b (gX99_mode _ _ ⟨K9.1.1, K9.1.2⟩ f12 ) (fun K11 => ?_)
        exact ⟨rfl, ⟨K11.1.1, K11.1.2⟩, (ext_tr K9.2 K11.2)⟩
      · refine gd_fi (fun c18_3 => ?_) (fun c18_3 => ?_)
        · refine gd_c n_a0 ?_
          have f20 := (fm_w (lo' := 910) (hi' := 990) rfl rfl (tN_306 T.1 n_a0))
          have f21 := ((((h.2 c0_0).2 c3_1).2 c8_2).1 c18_3).1
          refine gd_c ⟨f20, f21⟩ ?_
          refine gd_c ((((h.2 c0_0).2 c3_1).2 c8_2).1 c18_3).2.1 ?_
          refine gd_b (gX101_configs _ _ ((((h.2 c0_0).2 c3_1).2 c8_2).1 c18_3).2.2.1) (fun K19 => ?_)
          exact ⟨rfl, ⟨K19.1.1, K19.1.2⟩, K19.2⟩
        · refine gd_fi (fun c22_0 => ?_) (fun c22_0 => ?_)
          · exact gd_tR (ext_r _) (gX92_elsewhere_131  _ ⟨T.1, T.2⟩  )
          · refine gd_fi (fun c23_0 => ?_) (fun c23_0 => ?_)
            · exact gd_tR (ext_r _) (gX92_elsewhere_131  _ ⟨T.1, T.2⟩  )
            · refine gd_c n_a0 ?_
              have f26 := (fm_w (lo' := 910) (hi' := 990) rfl rfl (tN_306 T.1 n_a0))
              have f27 := ((((((h.2 c0_0).2 c3_1).2 c8_2).2 c18_3).2 c22_0).2 c23_0).1
              refine gd_c ⟨f26, f27⟩ ?_
              refine gd_c ((((((h.2 c0_0).2 c3_1).2 c8_2).2 c18_3).2 c22_0).2 c23_0).2.1 ?_
              have f25 := ((((((h.2 c0_0).2 c3_1).2 c8_2).2 c18_3).2 c22_0).2 c23_0).2.1
              refine gd_b (gX101_number _ _ _ ⟨T.1, T.2⟩ f25 ((((((h.2 c0_0).2 c3_1).2 c8_2).2 c18_3).2 c22_0).2 c23_0).2.2.1) (fun K24 => ?_)
              exact gd_tR K24.2 (gX92_elsewhere_132 _ _ ⟨K24.1.1, K24.1.2⟩  )
noncomputable def GX92_elsewhere (a0 : Nat) (a1 : Int32) (a2 : Int32) (M : FM) : Int64 × FM := GX92_elsewhere_0 a0 a1 a2 M
def HX92_elsewhere (a0 : Nat) (a1 : Int32) (a2 : Int32) (M : FM) : Prop := HX92_elsewhere_0 a0 a1 a2 M
theorem gX92_elsewhere (a0 : Nat) (a1 : Int32) (a2 : Int32) (M : FM) (T : Ty M) (n_a0 : fm_is M 92 92 a0 = true) (h : HX92_elsewhere a0 a1 a2 M) : gd (FX92_elsewhere fN a0 a1 a2 M) (GX92_elsewhere a0 a1 a2 M) (OkR M) := gX92_elsewhere_0 a0 a1 a2 M T n_a0 h
noncomputable def GX100_had_0 (a0 : Nat) (M : FM) : Int64 × FM :=
  let M1 : FM := fm_sI M 358 a0 0 (Int32.ofInt 0)
  ((M1.2.1 364 a0 0), M1)
theorem gX100_had_0 (a0 : Nat) (M : FM) (T : Ty M) (n_a0 : fm_is M 95 95 a0 = true) : gd (FX100_had_0 a0 M) (GX100_had_0 a0 M) (OkR M) := by
  delta FX100_had_0 BX100_had_0
  refine gd_c n_a0 ?_
  refine gd_c n_a0 ?_
  exact ⟨rfl, ⟨T.1, (tyb_sI (f := 358) rfl T.2)⟩, (ext_dI (ext_r _))⟩
noncomputable def GX100_had (a0 : Nat) (M : FM) : Int64 × FM := GX100_had_0 a0 M
theorem gX100_had (a0 : Nat) (M : FM) (T : Ty M) (n_a0 : fm_is M 95 95 a0 = true) : gd (FX100_had a0 M) (GX100_had a0 M) (OkR M) := gX100_had_0 a0 M T n_a0 
noncomputable def GX99_putFlags_0 (a0 : Nat) (a1 : Int32) (M : FM) : FM :=
  let M1 : FM := fm_sI M 366 a0 0 (Int32.ofInt 0)
  let M2 : FM := fm_sI M1 368 a0 0 (a1 &&& (Int32.ofInt 31))
  let M3 : FM := fm_sI M2 371 a0 0 (Int32.ofInt 1)
  M3
theorem gX99_putFlags_0 (a0 : Nat) (a1 : Int32) (M : FM) (T : Ty M) (n_a0 : fm_is M 96 96 a0 = true) : gd (FX99_putFlags_0 a0 a1 M) (GX99_putFlags_0 a0 a1 M) (OkV M) := by
  delta FX99_putFlags_0 BX99_putFlags_0
  refine gd_c n_a0 ?_
  refine gd_c n_a0 ?_
  refine gd_c n_a0 ?_
  refine gd_c fz_1 ?_
  exact ⟨rfl, ⟨T.1, (tyb_sIb (f := 371) rfl (tyb_sI (f := 368) rfl (tyb_sI (f := 366) rfl T.2)) fz_1)⟩, (ext_dI (ext_dI (ext_dI (ext_r _))))⟩
noncomputable def GX99_putFlags (a0 : Nat) (a1 : Int32) (M : FM) : FM := GX99_putFlags_0 a0 a1 M
theorem gX99_putFlags (a0 : Nat) (a1 : Int32) (M : FM) (T : Ty M) (n_a0 : fm_is M 96 96 a0 = true) : gd (FX99_putFlags a0 a1 M) (GX99_putFlags a0 a1 M) (OkV M) := gX99_putFlags_0 a0 a1 M T n_a0 
def kX101_setConfigs (k7 : Nat → Int64 → Int32 → FM → Option (FM)) : (Nat × Int64 × Int32 × FM) ⊕ (FM) → Option (FM)
  | .inl (v0, v1, v2, M') => k7 v0 v1 v2 M'
  | .inr (r) => some r
def pX101_setConfigs (M : FM) : (Nat × Int64 × Int32 × FM) ⊕ (FM) → Prop
  | .inl (_, _, _, M') => OkV M M'
  | .inr (r) => OkV M r
theorem pX101_setConfigs_t {M M1 : FM} (e : Ext M M1) : ∀ y, pX101_setConfigs M1 y → pX101_setConfigs M y
  | .inl (_, _, _, _), h => ⟨h.1, ext_tr e h.2⟩
  | .inr (r), h => ⟨h.1, ext_tr e h.2⟩
noncomputable def GX101_setConfigs_71 (a0 : Nat) (a1 : Int64) (a3 : Int32) (s0 : Nat) (s1 : Int32) (s2 : Int32) (M : FM) : (Nat × Int64 × Int32 × FM) ⊕ (FM) :=
  let M1 : FM := fm_sI M 3 s0 s1.toNatClampNeg s2
  let x2 : Int32 := a3 + (Int32.ofInt 1)
  (.inl (a0, a1, x2, M1))
def HX101_setConfigs_71 (a0 : Nat) (a1 : Int64) (a3 : Int32) (s0 : Nat) (s1 : Int32) (s2 : Int32) (M : FM) : Prop := (fm_in M s0 s1 = true ∧ True)
theorem gX101_setConfigs_71 (k7 : Nat → Int64 → Int32 → FM → Option (FM)) (a0 : Nat) (a1 : Int64) (a3 : Int32) (s0 : Nat) (s1 : Int32) (s2 : Int32) (M : FM) (T : Ty M) (n_s0 : fm_is M 901 901 s0 = true) (h : HX101_setConfigs_71 a0 a1 a3 s0 s1 s2 M) : gs (FX101_setConfigs_71 fN k7 a0 a1 a3 s0 s1 s2 M) (GX101_setConfigs_71 a0 a1 a3 s0 s1 s2 M) (kX101_setConfigs k7) (pX101_setConfigs M) := by
  delta FX101_setConfigs_71 BX101_setConfigs_71
  refine gs_c ⟨n_s0, h.1⟩ ?_
  exact And.intro rfl (And.intro (And.intro T.1 (tyb_s3 (t := 901) rfl T.2 n_s0)) ((ext_dI (ext_r _))))
noncomputable def GX101_setConfigs_43 (a0 : Nat) (a1 : Int64) (a3 : Int32) (s0 : Int32) (M : FM) : (Nat × Int64 × Int32 × FM) ⊕ (FM) :=
  let r1 : Int32 × FM := GX101_has a0 a3 (Int32.ofInt 7) M
  fi (r1.1 = 0) (
    GX101_setConfigs_71 a0 a1 a3 (M.2.2 427 a0 0) a3 s0 r1.2) (
    let x2 : Nat := (r1.2.2.2 427 a0 0)
    GX101_setConfigs_71 a0 a1 a3 (M.2.2 427 a0 0) a3 (r1.2.1 3 x2 a3.toNatClampNeg) r1.2)
def HX101_setConfigs_43 (a0 : Nat) (a1 : Int64) (a3 : Int32) (s0 : Int32) (M : FM) : Prop := (HX101_has a0 a3 (Int32.ofInt 7) M ∧ let r1 : Int32 × FM := GX101_has a0 a3 (Int32.ofInt 7) M; ((r1.1 = 0 → HX101_setConfigs_71 a0 a1 a3 (M.2.2 427 a0 0) a3 s0 r1.2) ∧ (¬ (r1.1 = 0) → let x2 : Nat := (r1.2.2.2 427 a0 0); (fm_in r1.2 x2 a3 = true ∧ HX101_setConfigs_71 a0 a1 a3 (M.2.2 427 a0 0) a3 (r1.2.1 3 x2 a3.toNatClampNeg) r1.2))))
theorem gX101_setConfigs_43 (k7 : Nat → Int64 → Int32 → FM → Option (FM)) (a0 : Nat) (a1 : Int64) (a3 : Int32) (s0 : Int32) (M : FM) (T : Ty M) (n_a0 : fm_is M 101 101 a0 = true) (h : HX101_setConfigs_43 a0 a1 a3 s0 M) : gs (FX101_setConfigs_43 fN k7 a0 a1 a3 s0 M) (GX101_setConfigs_43 a0 a1 a3 s0 M) (kX101_setConfigs k7) (pX101_setConfigs M) := by
  delta FX101_setConfigs_43 BX101_setConfigs_43
  refine gs_c n_a0 ?_
  refine gs_c n_a0 ?_
  refine gs_b (gX101_has _ _ _ _ ⟨T.1, T.2⟩ n_a0 h.1) (fun K0 => ?_)
  refine gs_fi (fun c1_0 => ?_) (fun c1_0 => ?_)
  · have f2 := (ext_is K0.2.1 (Nat.zero_lt_succ _) (tN_427 T.1 n_a0))
    exact gs_t (pX101_setConfigs_t K0.2.1) (gX101_setConfigs_71 k7 _ _ _ _ _ _ _ ⟨K0.1.1, K0.1.2⟩ f2 (h.2.1 c1_0))
  · have f3 := (ext_is K0.2.1 (Nat.zero_lt_succ _) n_a0)
    refine gs_c f3 ?_
    have f5 := (tN_427 K0.1.1 (ext_is K0.2.1 (Nat.zero_lt_succ _) n_a0))
    refine gs_c ⟨f5, (h.2.2 c1_0).1⟩ ?_
    have f4 := (ext_is K0.2.1 (Nat.zero_lt_succ _) (tN_427 T.1 n_a0))
    exact gs_t (pX101_setConfigs_t K0.2.1) (gX101_setConfigs_71 k7 _ _ _ _ _ _ _ ⟨K0.1.1, K0.1.2⟩ f4 (h.2.2 c1_0).2)
noncomputable def GX101_setConfigs_0 (a0 : Nat) (a1 : Int64) (M : FM) : (Nat × Int64 × Int32 × FM) ⊕ (FM) :=
  let M1 : FM := fm_sI M 422 a0 0 (Int32.ofInt 0)
  (.inl (a0, a1, (Int32.ofInt 0), M1))
theorem gX101_setConfigs_0 (k7 : Nat → Int64 → Int32 → FM → Option (FM)) (a0 : Nat) (a1 : Int64) (M : FM) (T : Ty M) (n_a0 : fm_is M 101 101 a0 = true) : gs (FX101_setConfigs_0 fN k7 a0 a1 M) (GX101_setConfigs_0 a0 a1 M) (kX101_setConfigs k7) (pX101_setConfigs M) := by
  delta FX101_setConfigs_0 BX101_setConfigs_0
  refine gs_c n_a0 ?_
  exact And.intro rfl (And.intro (And.intro T.1 (tyb_sI (f := 422) rfl T.2)) ((ext_dI (ext_r _))))
noncomputable def GX101_setConfigs_7 (a0 : Nat) (a1 : Int64) (a3 : Int32) (M : FM) : (Nat × Int64 × Int32 × FM) ⊕ (FM) :=
  fi ((Int32.ofInt 8) ≤ a3) (
    (.inr M)) (
    let x1 : Int32 := (((a1.toUInt64 >>> (((Int32.ofInt 8) * a3).toInt64.toUInt64 &&& Int64.toUInt64 63)).toInt64).toInt32 &&& (Int32.ofInt 159))
    fi ((x1 &&& (Int32.ofInt 3)) = (Int32.ofInt 2)) (
      GX101_setConfigs_43 a0 a1 a3 (x1 - (Int32.ofInt 2)) M) (
      GX101_setConfigs_43 a0 a1 a3 x1 M))
def HX101_setConfigs_7 (a0 : Nat) (a1 : Int64) (a3 : Int32) (M : FM) : Prop := (((Int32.ofInt 8) ≤ a3 → True) ∧ (¬ ((Int32.ofInt 8) ≤ a3) → let x1 : Int32 := (((a1.toUInt64 >>> (((Int32.ofInt 8) * a3).toInt64.toUInt64 &&& Int64.toUInt64 63)).toInt64).toInt32 &&& (Int32.ofInt 159)); (((x1 &&& (Int32.ofInt 3)) = (Int32.ofInt 2) → HX101_setConfigs_43 a0 a1 a3 (x1 - (Int32.ofInt 2)) M) ∧ (¬ ((x1 &&& (Int32.ofInt 3)) = (Int32.ofInt 2)) → HX101_setConfigs_43 a0 a1 a3 x1 M))))
theorem gX101_setConfigs_7 (k7 : Nat → Int64 → Int32 → FM → Option (FM)) (a0 : Nat) (a1 : Int64) (a3 : Int32) (M : FM) (T : Ty M) (n_a0 : fm_is M 101 101 a0 = true) (h : HX101_setConfigs_7 a0 a1 a3 M) : gs (FX101_setConfigs_7 fN k7 a0 a1 a3 M) (GX101_setConfigs_7 a0 a1 a3 M) (kX101_setConfigs k7) (pX101_setConfigs M) := by
  delta FX101_setConfigs_7 BX101_setConfigs_7
  refine gs_fi (fun c0_0 => ?_) (fun c0_0 => ?_)
  · exact And.intro rfl (And.intro (And.intro T.1 T.2) ((ext_r _)))
  · refine gs_fi (fun c1_0 => ?_) (fun c1_0 => ?_)
    · exact gs_t (pX101_setConfigs_t (ext_r _)) (gX101_setConfigs_43 k7 _ _ _ _ _ ⟨T.1, T.2⟩ n_a0 ((h.2 c0_0).1 c1_0))
    · exact gs_t (pX101_setConfigs_t (ext_r _)) (gX101_setConfigs_43 k7 _ _ _ _ _ ⟨T.1, T.2⟩ n_a0 ((h.2 c0_0).2 c1_0))
noncomputable def GX101_setConfigs (a0 : Nat) (a1 : Int64) (M : FM) : FM := (FX101_setConfigs fN a0 a1 M).getD M
def HX101_setConfigs (a0 : Nat) (a1 : Int64) (M : FM) : Prop := ∃ r, FX101_setConfigs fN a0 a1 M = some r ∧ OkV M r
theorem gX101_setConfigs (a0 : Nat) (a1 : Int64) (M : FM) (h : HX101_setConfigs a0 a1 M) : gd (FX101_setConfigs fN a0 a1 M) (GX101_setConfigs a0 a1 M) (OkV M) := gd_op h
noncomputable def GX99_putMode_0 (a0 : Nat) (a1 : Int32) (M : FM) : FM :=
  let M1 : FM := fm_sI M 366 a0 0 (Int32.ofInt 0)
  let M2 : FM := fm_sI M1 369 a0 0 (a1 &&& (Int32.ofInt 7))
  let M3 : FM := fm_sI M2 371 a0 0 (Int32.ofInt 1)
  M3
theorem gX99_putMode_0 (a0 : Nat) (a1 : Int32) (M : FM) (T : Ty M) (n_a0 : fm_is M 96 96 a0 = true) : gd (FX99_putMode_0 a0 a1 M) (GX99_putMode_0 a0 a1 M) (OkV M) := by
  delta FX99_putMode_0 BX99_putMode_0
  refine gd_c n_a0 ?_
  refine gd_c n_a0 ?_
  refine gd_c n_a0 ?_
  refine gd_c fz_1 ?_
  exact ⟨rfl, ⟨T.1, (tyb_sIb (f := 371) rfl (tyb_sI (f := 369) rfl (tyb_sI (f := 366) rfl T.2)) fz_1)⟩, (ext_dI (ext_dI (ext_dI (ext_r _))))⟩
noncomputable def GX99_putMode (a0 : Nat) (a1 : Int32) (M : FM) : FM := GX99_putMode_0 a0 a1 M
theorem gX99_putMode (a0 : Nat) (a1 : Int32) (M : FM) (T : Ty M) (n_a0 : fm_is M 96 96 a0 = true) : gd (FX99_putMode a0 a1 M) (GX99_putMode a0 a1 M) (OkV M) := gX99_putMode_0 a0 a1 M T n_a0 
noncomputable def GX101_setNumber_97 (s0 : Nat) (s1 : Int32) (s2 : Int64) (M : FM) : FM :=
  let M1 : FM := fm_sL M 3 s0 s1.toNatClampNeg s2
  M1
def HX101_setNumber_97 (s0 : Nat) (s1 : Int32) (s2 : Int64) (M : FM) : Prop := (fm_in M s0 s1 = true ∧ True)
theorem gX101_setNumber_97 (s0 : Nat) (s1 : Int32) (s2 : Int64) (M : FM) (T : Ty M) (n_s0 : fm_is M 902 902 s0 = true) (h : HX101_setNumber_97 s0 s1 s2 M) : gd (FX101_setNumber_97 s0 s1 s2 M) (GX101_setNumber_97 s0 s1 s2 M) (OkV M) := by
  delta FX101_setNumber_97 BX101_setNumber_97
  refine gd_c ⟨n_s0, h.1⟩ ?_
  exact ⟨rfl, ⟨T.1, T.2⟩, (ext_dL (ext_r _))⟩
noncomputable def GX101_setNumber_71 (a0 : Nat) (a1 : Int32) (a2 : Int64) (s0 : Int32) (M : FM) : FM :=
  fi (s0 = 0) (
    GX101_setNumber_97 (M.2.2 428 a0 0) a1 (a2 &&& (Int64.ofInt 18014398509481983)) M) (
    let x1 : Nat := (M.2.2 428 a0 0)
    GX101_setNumber_97 (M.2.2 428 a0 0) a1 (M.2.1 3 x1 a1.toNatClampNeg) M)
def HX101_setNumber_71 (a0 : Nat) (a1 : Int32) (a2 : Int64) (s0 : Int32) (M : FM) : Prop := ((s0 = 0 → HX101_setNumber_97 (M.2.2 428 a0 0) a1 (a2 &&& (Int64.ofInt 18014398509481983)) M) ∧ (¬ (s0 = 0) → let x1 : Nat := (M.2.2 428 a0 0); (fm_in M x1 a1 = true ∧ HX101_setNumber_97 (M.2.2 428 a0 0) a1 (M.2.1 3 x1 a1.toNatClampNeg) M)))
theorem gX101_setNumber_71 (a0 : Nat) (a1 : Int32) (a2 : Int64) (s0 : Int32) (M : FM) (T : Ty M) (n_a0 : fm_is M 101 101 a0 = true) (h : HX101_setNumber_71 a0 a1 a2 s0 M) : gd (FX101_setNumber_71 a0 a1 a2 s0 M) (GX101_setNumber_71 a0 a1 a2 s0 M) (OkV M) := by
  delta FX101_setNumber_71 BX101_setNumber_71
  refine gd_c n_a0 ?_
  refine gd_fi (fun c0_0 => ?_) (fun c0_0 => ?_)
  · have f1 := (tN_428 T.1 n_a0)
    exact gd_tV (ext_r _) (gX101_setNumber_97 _ _ _ _ ⟨T.1, T.2⟩ f1 (h.1 c0_0))
  · refine gd_c n_a0 ?_
    have f3 := (tN_428 T.1 n_a0)
    refine gd_c ⟨f3, (h.2 c0_0).1⟩ ?_
    have f2 := (tN_428 T.1 n_a0)
    exact gd_tV (ext_r _) (gX101_setNumber_97 _ _ _ _ ⟨T.1, T.2⟩ f2 (h.2 c0_0).2)
noncomputable def GX101_setNumber_70 (a0 : Nat) (a1 : Int32) (a2 : Int64) (M : FM) : FM :=
  GX101_setNumber_71 a0 a1 a2 (Int32.ofInt 0) M
def HX101_setNumber_70 (a0 : Nat) (a1 : Int32) (a2 : Int64) (M : FM) : Prop := HX101_setNumber_71 a0 a1 a2 (Int32.ofInt 0) M
theorem gX101_setNumber_70 (a0 : Nat) (a1 : Int32) (a2 : Int64) (M : FM) (T : Ty M) (n_a0 : fm_is M 101 101 a0 = true) (h : HX101_setNumber_70 a0 a1 a2 M) : gd (FX101_setNumber_70 a0 a1 a2 M) (GX101_setNumber_70 a0 a1 a2 M) (OkV M) := by
  delta FX101_setNumber_70 BX101_setNumber_70
  exact gd_tV (ext_r _) (gX101_setNumber_71 _ _ _ _ _ ⟨T.1, T.2⟩ n_a0 h)
noncomputable def GX101_setNumber_66 (a0 : Nat) (a1 : Int32) (a2 : Int64) (M : FM) : FM :=
  GX101_setNumber_71 a0 a1 a2 (Int32.ofInt 1) M
def HX101_setNumber_66 (a0 : Nat) (a1 : Int32) (a2 : Int64) (M : FM) : Prop := HX101_setNumber_71 a0 a1 a2 (Int32.ofInt 1) M
theorem gX101_setNumber_66 (a0 : Nat) (a1 : Int32) (a2 : Int64) (M : FM) (T : Ty M) (n_a0 : fm_is M 101 101 a0 = true) (h : HX101_setNumber_66 a0 a1 a2 M) : gd (FX101_setNumber_66 a0 a1 a2 M) (GX101_setNumber_66 a0 a1 a2 M) (OkV M) := by
  delta FX101_setNumber_66 BX101_setNumber_66
  exact gd_tV (ext_r _) (gX101_setNumber_71 _ _ _ _ _ ⟨T.1, T.2⟩ n_a0 h)
noncomputable def GX101_setNumber_16 (a0 : Nat) (a1 : Int32) (a2 : Int64) (s0 : Nat) (s1 : Int32) (M : FM) : FM :=
  let M1 : FM := fm_sI M 422 s0 0 s1
  fi ((M1.1 422 a0 0) ≤ 0) (
    let r2 : Int32 × FM := GX101_has a0 a1 (Int32.ofInt 7) M1
    fi (r2.1 = 0) (
      fi ((Int32.ofInt 7) ≤ a1) (
        GX101_setNumber_70 a0 a1 a2 r2.2) (
        let r3 : Int32 × FM := GX101_has a0 (a1 + (Int32.ofInt 1)) (Int32.ofInt 7) r2.2
        fi (r3.1 = 0) (
          GX101_setNumber_70 a0 a1 a2 r3.2) (
          let r4 : Int32 × FM := GX101_kind a0 (a1 + (Int32.ofInt 1)) r3.2
          fi (r4.1 = (Int32.ofInt 1)) (
            GX101_setNumber_66 a0 a1 a2 r4.2) (
            GX101_setNumber_70 a0 a1 a2 r4.2)))) (
      GX101_setNumber_66 a0 a1 a2 r2.2)) (
    M1)
def HX101_setNumber_16 (a0 : Nat) (a1 : Int32) (a2 : Int64) (s0 : Nat) (s1 : Int32) (M : FM) : Prop := let M1 : FM := fm_sI M 422 s0 0 s1; (((M1.1 422 a0 0) ≤ 0 → (HX101_has a0 a1 (Int32.ofInt 7) M1 ∧ let r2 : Int32 × FM := GX101_has a0 a1 (Int32.ofInt 7) M1; ((r2.1 = 0 → (((Int32.ofInt 7) ≤ a1 → HX101_setNumber_70 a0 a1 a2 r2.2) ∧ (¬ ((Int32.ofInt 7) ≤ a1) → (HX101_has a0 (a1 + (Int32.ofInt 1)) (Int32.ofInt 7) r2.2 ∧ let r3 : Int32 × FM := GX101_has a0 (a1 + (Int32.ofInt 1)) (Int32.ofInt 7) r2.2; ((r3.1 = 0 → HX101_setNumber_70 a0 a1 a2 r3.2) ∧ (¬ (r3.1 = 0) → (HX101_kind a0 (a1 + (Int32.ofInt 1)) r3.2 ∧ let r4 : Int32 × FM := GX101_kind a0 (a1 + (Int32.ofInt 1)) r3.2; ((r4.1 = (Int32.ofInt 1) → HX101_setNumber_66 a0 a1 a2 r4.2) ∧ (¬ (r4.1 = (Int32.ofInt 1)) → HX101_setNumber_70 a0 a1 a2 r4.2))))))))) ∧ (¬ (r2.1 = 0) → HX101_setNumber_66 a0 a1 a2 r2.2)))) ∧ (¬ ((M1.1 422 a0 0) ≤ 0) → True))
theorem gX101_setNumber_16 (a0 : Nat) (a1 : Int32) (a2 : Int64) (s0 : Nat) (s1 : Int32) (M : FM) (T : Ty M) (n_s0 : fm_is M 101 101 s0 = true) (n_a0 : fm_is M 101 101 a0 = true) (h : HX101_setNumber_16 a0 a1 a2 s0 s1 M) : gd (FX101_setNumber_16 a0 a1 a2 s0 s1 M) (GX101_setNumber_16 a0 a1 a2 s0 s1 M) (OkV M) := by
  delta FX101_setNumber_16 BX101_setNumber_16
  refine gd_c n_s0 ?_
  refine gd_c n_a0 ?_
  refine gd_fi (fun c0_0 => ?_) (fun c0_0 => ?_)
  · refine gd_c n_a0 ?_
    refine gd_b (gX101_has _ _ _ _ ⟨T.1, (tyb_sI (f := 422) rfl T.2)⟩ n_a0 (h.1 c0_0).1) (fun K1 => ?_)
    refine gd_fi (fun c2_0 => ?_) (fun c2_0 => ?_)
    · refine gd_fi (fun c3_0 => ?_) (fun c3_0 => ?_)
      · have f4 := (ext_is K1.2.1 (Nat.zero_lt_succ _) n_a0)
        exact gd_tV (ext_dI K1.2.1) (gX101_setNumber_70 _ _ _ _ ⟨K1.1.1, K1.1.2⟩ f4 (((h.1 c0_0).2.1 c2_0).1 c3_0))
      · have f5 := (ext_is K1.2.1 (Nat.zero_lt_succ _) n_a0)
        refine gd_c f5 ?_
        have f15 := (ext_is K1.2.1 (Nat.zero_lt_succ _) n_a0)
        refine gd_b (gX101_has _ _ _ _ ⟨K1.1.1, K1.1.2⟩ f15 (((h.1 c0_0).2.1 c2_0).2 c3_0).1) (fun K6 => ?_)
        refine gd_fi (fun c7_0 => ?_) (fun c7_0 => ?_)
        · have f8 := (ext_is K6.2.1 (Nat.zero_lt_succ _) (ext_is K1.2.1 (Nat.zero_lt_succ _) n_a0))
          exact gd_tV (ext_dI (ext_tr K1.2.1 K6.2.1)) (gX101_setNumber_70 _ _ _ _ ⟨K6.1.1, K6.1.2⟩ f8 ((((h.1 c0_0).2.1 c2_0).2 c3_0).2.1 c7_0))
        · have f9 := (ext_is K6.2.1 (Nat.zero_lt_succ _) (ext_is K1.2.1 (Nat.zero_lt_succ _) n_a0))
          refine gd_c f9 ?_
          have f14 := (ext_is K6.2.1 (Nat.zero_lt_succ _) (ext_is K1.2.1 (Nat.zero_lt_succ _) n_a0))
          refine gd_b (gX101_kind _ _ _ ⟨K6.1.1, K6.1.2⟩ f14 ((((h.1 c0_0).2.1 c2_0).2 c3_0).2.2 c7_0).1) (fun K10 => ?_)
          refine gd_fi (fun c11_0 => ?_) (fun c11_0 => ?_)
          · have f12 := (ext_is K10.2 (Nat.zero_lt_succ _) (ext_is K6.2.1 (Nat.zero_lt_succ _) (ext_is K1.2.1 (Nat.zero_lt_succ _) n_a0)))
            exact gd_tV (ext_dI (ext_tr K1.2.1 (ext_tr K6.2.1 K10.2))) (gX101_setNumber_66 _ _ _ _ ⟨K10.1.1, K10.1.2⟩ f12 (((((h.1 c0_0).2.1 c2_0).2 c3_0).2.2 c7_0).2.1 c11_0))
          · have f13 := (ext_is K10.2 (Nat.zero_lt_succ _) (ext_is K6.2.1 (Nat.zero_lt_succ _) (ext_is K1.2.1 (Nat.zero_lt_succ _) n_a0)))
            exact gd_tV (ext_dI (ext_tr K1.2.1 (ext_tr K6.2.1 K10.2))) (gX101_setNumber_70 _ _ _ _ ⟨K10.1.1, K10.1.2⟩ f13 (((((h.1 c0_0).2.1 c2_0).2 c3_0).2.2 c7_0).2.2 c11_0))
    · have f16 := (ext_is K1.2.1 (Nat.zero_lt_succ _) n_a0)
      exact gd_tV (ext_dI K1.2.1) (gX101_setNumber_66 _ _ _ _ ⟨K1.1.1, K1.1.2⟩ f16 ((h.1 c0_0).2.2 c2_0))
  · exact ⟨rfl, ⟨T.1, (tyb_sI (f := 422) rfl T.2)⟩, (ext_dI (ext_r _))⟩
noncomputable def GX101_setNumber_11 (a0 : Nat) (a1 : Int32) (a2 : Int64) (s0 : Nat) (M : FM) : FM :=
  GX101_setNumber_16 a0 a1 a2 s0 (Int32.ofInt 1) M
def HX101_setNumber_11 (a0 : Nat) (a1 : Int32) (a2 : Int64) (s0 : Nat) (M : FM) : Prop := HX101_setNumber_16 a0 a1 a2 s0 (Int32.ofInt 1) M
theorem gX101_setNumber_11 (a0 : Nat) (a1 : Int32) (a2 : Int64) (s0 : Nat) (M : FM) (T : Ty M) (n_s0 : fm_is M 101 101 s0 = true) (n_a0 : fm_is M 101 101 a0 = true) (h : HX101_setNumber_11 a0 a1 a2 s0 M) : gd (FX101_setNumber_11 a0 a1 a2 s0 M) (GX101_setNumber_11 a0 a1 a2 s0 M) (OkV M) := by
  delta FX101_setNumber_11 BX101_setNumber_11
  exact gd_tV (ext_r _) (gX101_setNumber_16 _ _ _ _ _ _ ⟨T.1, T.2⟩ n_s0 n_a0 h)
noncomputable def GX101_setNumber_0 (a0 : Nat) (a1 : Int32) (a2 : Int64) (M : FM) : FM :=
  fi (a1 < 0) (
    GX101_setNumber_11 a0 a1 a2 a0 M) (
    fi (a1 ≤ (Int32.ofInt 7)) (
      GX101_setNumber_16 a0 a1 a2 a0 (Int32.ofInt 0) M) (
      GX101_setNumber_11 a0 a1 a2 a0 M))
def HX101_setNumber_0 (a0 : Nat) (a1 : Int32) (a2 : Int64) (M : FM) : Prop := ((a1 < 0 → HX101_setNumber_11 a0 a1 a2 a0 M) ∧ (¬ (a1 < 0) → ((a1 ≤ (Int32.ofInt 7) → HX101_setNumber_16 a0 a1 a2 a0 (Int32.ofInt 0) M) ∧ (¬ (a1 ≤ (Int32.ofInt 7)) → HX101_setNumber_11 a0 a1 a2 a0 M))))
theorem gX101_setNumber_0 (a0 : Nat) (a1 : Int32) (a2 : Int64) (M : FM) (T : Ty M) (n_a0 : fm_is M 101 101 a0 = true) (h : HX101_setNumber_0 a0 a1 a2 M) : gd (FX101_setNumber_0 a0 a1 a2 M) (GX101_setNumber_0 a0 a1 a2 M) (OkV M) := by
  delta FX101_setNumber_0 BX101_setNumber_0
  refine gd_fi (fun c0_0 => ?_) (fun c0_0 => ?_)
  · exact gd_tV (ext_r _) (gX101_setNumber_11 _ _ _ _ _ ⟨T.1, T.2⟩ n_a0 n_a0 (h.1 c0_0))
  · refine gd_fi (fun c1_0 => ?_) (fun c1_0 => ?_)
    · exact gd_tV (ext_r _) (gX101_setNumber_16 _ _ _ _ _ _ ⟨T.1, T.2⟩ n_a0 n_a0 ((h.2 c0_0).1 c1_0))
    · exact gd_tV (ext_r _) (gX101_setNumber_11 _ _ _ _ _ ⟨T.1, T.2⟩ n_a0 n_a0 ((h.2 c0_0).2 c1_0))
noncomputable def GX101_setNumber (a0 : Nat) (a1 : Int32) (a2 : Int64) (M : FM) : FM := GX101_setNumber_0 a0 a1 a2 M
def HX101_setNumber (a0 : Nat) (a1 : Int32) (a2 : Int64) (M : FM) : Prop := HX101_setNumber_0 a0 a1 a2 M
theorem gX101_setNumber (a0 : Nat) (a1 : Int32) (a2 : Int64) (M : FM) (T : Ty M) (n_a0 : fm_is M 101 101 a0 = true) (h : HX101_setNumber a0 a1 a2 M) : gd (FX101_setNumber a0 a1 a2 M) (GX101_setNumber a0 a1 a2 M) (OkV M) := gX101_setNumber_0 a0 a1 a2 M T n_a0 h
noncomputable def GX92_setElsewhere_108 (a0 : Nat) (a1 : Int32) (M : FM) : FM :=
  let x1 : Nat := (M.2.2 304 a0 0)
  let x2 : Nat := (M.2.2 3 x1 a1.toNatClampNeg)
  let M3 : FM := GX99_calm x2 M
  M3
def HX92_setElsewhere_108 (a0 : Nat) (a1 : Int32) (M : FM) : Prop := let x1 : Nat := (M.2.2 304 a0 0); (fm_in M x1 a1 = true ∧ let x2 : Nat := (M.2.2 3 x1 a1.toNatClampNeg); (fm_is M 96 96 x2 = true ∧ True))
theorem gX92_setElsewhere_108 (a0 : Nat) (a1 : Int32) (M : FM) (T : Ty M) (n_a0 : fm_is M 92 92 a0 = true) (h : HX92_setElsewhere_108 a0 a1 M) : gd (FX92_setElsewhere_108 fN a0 a1 M) (GX92_setElsewhere_108 a0 a1 M) (OkV M) := by
  delta FX92_setElsewhere_108 BX92_setElsewhere_108
  refine gd_c n_a0 ?_
  have f1 := (fm_w (lo' := 910) (hi' := 990) rfl rfl (tN_304 T.1 n_a0))
  refine gd_c ⟨f1, h.1⟩ ?_
  refine gd_c h.2.1 ?_
  refine gd_b (gX99_calm _ _ ⟨T.1, T.2⟩ h.2.1 ) (fun K0 => ?_)
  exact ⟨rfl, ⟨K0.1.1, K0.1.2⟩, K0.2⟩
noncomputable def GX92_setElsewhere_59 (a0 : Nat) (a1 : Int32) (a2 : Int32) (a3 : Int64) (M : FM) : FM :=
  fi (a2 = (Int32.ofInt 928)) (
    let x1 : Nat := (M.2.2 306 a0 0)
    let x2 : Nat := (M.2.2 3 x1 a1.toNatClampNeg)
    let M3 : FM := GX101_setConfigs x2 a3 M
    GX92_setElsewhere_108 a0 a1 M3) (
    fi (a2 < (Int32.ofInt 944)) (
      GX92_setElsewhere_108 a0 a1 M) (
      fi ((Int32.ofInt 952) ≤ a2) (
        GX92_setElsewhere_108 a0 a1 M) (
        let x4 : Nat := (M.2.2 306 a0 0)
        let x5 : Nat := (M.2.2 3 x4 a1.toNatClampNeg)
        let M6 : FM := GX101_setNumber x5 (a2 - (Int32.ofInt 944)) a3 M
        GX92_setElsewhere_108 a0 a1 M6)))
def HX92_setElsewhere_59 (a0 : Nat) (a1 : Int32) (a2 : Int32) (a3 : Int64) (M : FM) : Prop := ((a2 = (Int32.ofInt 928) → let x1 : Nat := (M.2.2 306 a0 0); (fm_in M x1 a1 = true ∧ let x2 : Nat := (M.2.2 3 x1 a1.toNatClampNeg); (fm_is M 101 101 x2 = true ∧ (HX101_setConfigs x2 a3 M ∧ let M3 : FM := GX101_setConfigs x2 a3 M; HX92_setElsewhere_108 a0 a1 M3)))) ∧ (¬ (a2 = (Int32.ofInt 928)) → ((a2 < (Int32.ofInt 944) → HX92_setElsewhere_108 a0 a1 M) ∧ (¬ (a2 < (Int32.ofInt 944)) → (((Int32.ofInt 952) ≤ a2 → HX92_setElsewhere_108 a0 a1 M) ∧ (¬ ((Int32.ofInt 952) ≤ a2) → let x4 : Nat := (M.2.2 306 a0 0); (fm_in M x4 a1 = true ∧ let x5 : Nat := (M.2.2 3 x4 a1.toNatClampNeg); (fm_is M 101 101 x5 = true ∧ (HX101_setNumber x5 (a2 - (Int32.ofInt 944)) a3 M ∧ let M6 : FM := GX101_setNumber x5 (a2 - (Int32.ofInt 944)) a3 M; HX92_setElsewhere_108 a0 a1 M6)))))))))
theorem gX92_setElsewhere_59 (a0 : Nat) (a1 : Int32) (a2 : Int32) (a3 : Int64) (M : FM) (T : Ty M) (n_a0 : fm_is M 92 92 a0 = true) (h : HX92_setElsewhere_59 a0 a1 a2 a3 M) : gd (FX92_setElsewhere_59 fN a0 a1 a2 a3 M) (GX92_setElsewhere_59 a0 a1 a2 a3 M) (OkV M) := by
  delta FX92_setElsewhere_59 BX92_setElsewhere_59
  refine gd_fi (fun c0_0 => ?_) (fun c0_0 => ?_)
  · refine gd_c n_a0 ?_
    have f3 := (fm_w (lo' := 910) (hi' := 990) rfl rfl (tN_306 T.1 n_a0))
    refine gd_c ⟨f3, (h.1 c0_0).1⟩ ?_
    refine gd_c (h.1 c0_0).2.1 ?_
    refine gd_b (gX101_setConfigs _ _ _ (h.1 c0_0).2.2.1) (fun K1 => ?_)
    have f2 := (ext_is K1.2 (Nat.zero_lt_succ _) n_a0)
    exact gd_tV K1.2 (gX92_setElsewhere_108 _ _ _ ⟨K1.1.1, K1.1.2⟩ f2 (h.1 c0_0).2.2.2)
  · refine gd_fi (fun c4_0 => ?_) (fun c4_0 => ?_)
    · exact gd_tV (ext_r _) (gX92_setElsewhere_108 _ _ _ ⟨T.1, T.2⟩ n_a0 ((h.2 c0_0).1 c4_0))
    · refine gd_fi (fun c5_0 => ?_) (fun c5_0 => ?_)
      · exact gd_tV (ext_r _) (gX92_setElsewhere_108 _ _ _ ⟨T.1, T.2⟩ n_a0 (((h.2 c0_0).2 c4_0).1 c5_0))
      · refine gd_c n_a0 ?_
        have f9 := (fm_w (lo' := 910) (hi' := 990) rfl rfl (tN_306 T.1 n_a0))
        have f10 := (((h.2 c0_0).2 c4_0).2 c5_0).1
        refine gd_c ⟨f9, f10⟩ ?_
        refine gd_c (((h.2 c0_0).2 c4_0).2 c5_0).2.1 ?_
        have f8 := (((h.2 c0_0).2 c4_0).2 c5_0).2.1
        refine gd_b (gX101_setNumber _ _ _ _ ⟨T.1, T.2⟩ f8 (((h.2 c0_0).2 c4_0).2 c5_0).2.2.1) (fun K6 => ?_)
        have f7 := (ext_is K6.2 (Nat.zero_lt_succ _) n_a0)
        exact gd_tV K6.2 (gX92_setElsewhere_108 _ _ _ ⟨K6.1.1, K6.1.2⟩ f7 (((h.2 c0_0).2 c4_0).2 c5_0).2.2.2)
noncomputable def GX92_setElsewhere_52 (a0 : Nat) (a1 : Int32) (a2 : Int32) (a3 : Int64) (s0 : Nat) (s1 : Int64) (M : FM) : FM :=
  let M1 : FM := GX99_putMode s0 (s1.toInt32 &&& (Int32.ofInt 7)) M
  GX92_setElsewhere_59 a0 a1 a2 a3 M1
def HX92_setElsewhere_52 (a0 : Nat) (a1 : Int32) (a2 : Int32) (a3 : Int64) (s0 : Nat) (s1 : Int64) (M : FM) : Prop := let M1 : FM := GX99_putMode s0 (s1.toInt32 &&& (Int32.ofInt 7)) M; HX92_setElsewhere_59 a0 a1 a2 a3 M1
theorem gX92_setElsewhere_52 (a0 : Nat) (a1 : Int32) (a2 : Int32) (a3 : Int64) (s0 : Nat) (s1 : Int64) (M : FM) (T : Ty M) (n_s0 : fm_is M 96 96 s0 = true) (n_a0 : fm_is M 92 92 a0 = true) (h : HX92_setElsewhere_52 a0 a1 a2 a3 s0 s1 M) : gd (FX92_setElsewhere_52 fN a0 a1 a2 a3 s0 s1 M) (GX92_setElsewhere_52 a0 a1 a2 a3 s0 s1 M) (OkV M) := by
  delta FX92_setElsewhere_52 BX92_setElsewhere_52
  refine gd_c n_s0 ?_
  refine gd_b (gX99_putMode _ _ _ ⟨T.1, T.2⟩ n_s0 ) (fun K0 => ?_)
  have f1 := (ext_is K0.2 (Nat.zero_lt_succ _) n_a0)
  exact gd_tV K0.2 (gX92_setElsewhere_59 _ _ _ _ _ ⟨K0.1.1, K0.1.2⟩ f1 h)
noncomputable def GX92_setElsewhere_34 (a0 : Nat) (a1 : Int32) (a2 : Int32) (a3 : Int64) (M : FM) : FM :=
  let x1 : Nat := (M.2.2 304 a0 0)
  fi (a2 = (Int32.ofInt 2)) (
    GX92_setElsewhere_52 a0 a1 a2 a3 (M.2.2 3 x1 a1.toNatClampNeg) a3 M) (
    GX92_setElsewhere_52 a0 a1 a2 a3 (M.2.2 3 x1 a1.toNatClampNeg) (a3 >>> ((Int32.ofInt 5).toInt64 &&& 63)) M)
def HX92_setElsewhere_34 (a0 : Nat) (a1 : Int32) (a2 : Int32) (a3 : Int64) (M : FM) : Prop := let x1 : Nat := (M.2.2 304 a0 0); (fm_in M x1 a1 = true ∧ ((a2 = (Int32.ofInt 2) → (fm_is M 96 96 (M.2.2 3 x1 a1.toNatClampNeg) = true ∧ HX92_setElsewhere_52 a0 a1 a2 a3 (M.2.2 3 x1 a1.toNatClampNeg) a3 M)) ∧ (¬ (a2 = (Int32.ofInt 2)) → (fm_is M 96 96 (M.2.2 3 x1 a1.toNatClampNeg) = true ∧ HX92_setElsewhere_52 a0 a1 a2 a3 (M.2.2 3 x1 a1.toNatClampNeg) (a3 >>> ((Int32.ofInt 5).toInt64 &&& 63)) M))))
theorem gX92_setElsewhere_34 (a0 : Nat) (a1 : Int32) (a2 : Int32) (a3 : Int64) (M : FM) (T : Ty M) (n_a0 : fm_is M 92 92 a0 = true) (h : HX92_setElsewhere_34 a0 a1 a2 a3 M) : gd (FX92_setElsewhere_34 fN a0 a1 a2 a3 M) (GX92_setElsewhere_34 a0 a1 a2 a3 M) (OkV M) := by
  delta FX92_setElsewhere_34 BX92_setElsewhere_34
  refine gd_c n_a0 ?_
  have f1 := (fm_w (lo' := 910) (hi' := 990) rfl rfl (tN_304 T.1 n_a0))
  refine gd_c ⟨f1, h.1⟩ ?_
  refine gd_fi (fun c0_0 => ?_) (fun c0_0 => ?_)
  · exact gd_tV (ext_r _) (gX92_setElsewhere_52 _ _ _ _ _ _ _ ⟨T.1, T.2⟩ (h.2.1 c0_0).1 n_a0 (h.2.1 c0_0).2)
  · exact gd_tV (ext_r _) (gX92_setElsewhere_52 _ _ _ _ _ _ _ ⟨T.1, T.2⟩ (h.2.2 c0_0).1 n_a0 (h.2.2 c0_0).2)
noncomputable def GX92_setElsewhere_24 (a0 : Nat) (a1 : Int32) (a2 : Int32) (a3 : Int64) (M : FM) : FM :=
  fi (a2 = (Int32.ofInt 2)) (
    GX92_setElsewhere_34 a0 a1 a2 a3 M) (
    fi (a2 = (Int32.ofInt 3)) (
      GX92_setElsewhere_34 a0 a1 a2 a3 M) (
      GX92_setElsewhere_59 a0 a1 a2 a3 M))
def HX92_setElsewhere_24 (a0 : Nat) (a1 : Int32) (a2 : Int32) (a3 : Int64) (M : FM) : Prop := ((a2 = (Int32.ofInt 2) → HX92_setElsewhere_34 a0 a1 a2 a3 M) ∧ (¬ (a2 = (Int32.ofInt 2)) → ((a2 = (Int32.ofInt 3) → HX92_setElsewhere_34 a0 a1 a2 a3 M) ∧ (¬ (a2 = (Int32.ofInt 3)) → HX92_setElsewhere_59 a0 a1 a2 a3 M))))
theorem gX92_setElsewhere_24 (a0 : Nat) (a1 : Int32) (a2 : Int32) (a3 : Int64) (M : FM) (T : Ty M) (n_a0 : fm_is M 92 92 a0 = true) (h : HX92_setElsewhere_24 a0 a1 a2 a3 M) : gd (FX92_setElsewhere_24 fN a0 a1 a2 a3 M) (GX92_setElsewhere_24 a0 a1 a2 a3 M) (OkV M) := by
  delta FX92_setElsewhere_24 BX92_setElsewhere_24
  refine gd_fi (fun c0_0 => ?_) (fun c0_0 => ?_)
  · exact gd_tV (ext_r _) (gX92_setElsewhere_34 _ _ _ _ _ ⟨T.1, T.2⟩ n_a0 (h.1 c0_0))
  · refine gd_fi (fun c1_0 => ?_) (fun c1_0 => ?_)
    · exact gd_tV (ext_r _) (gX92_setElsewhere_34 _ _ _ _ _ ⟨T.1, T.2⟩ n_a0 ((h.2 c0_0).1 c1_0))
    · exact gd_tV (ext_r _) (gX92_setElsewhere_59 _ _ _ _ _ ⟨T.1, T.2⟩ n_a0 ((h.2 c0_0).2 c1_0))
noncomputable def GX92_setElsewhere_10 (a0 : Nat) (a1 : Int32) (a2 : Int32) (a3 : Int64) (M : FM) : FM :=
  let x1 : Nat := (M.2.2 304 a0 0)
  let x2 : Nat := (M.2.2 3 x1 a1.toNatClampNeg)
  let M3 : FM := GX99_putFlags x2 (a3.toInt32 &&& (Int32.ofInt 31)) M
  GX92_setElsewhere_24 a0 a1 a2 a3 M3
def HX92_setElsewhere_10 (a0 : Nat) (a1 : Int32) (a2 : Int32) (a3 : Int64) (M : FM) : Prop := let x1 : Nat := (M.2.2 304 a0 0); (fm_in M x1 a1 = true ∧ let x2 : Nat := (M.2.2 3 x1 a1.toNatClampNeg); (fm_is M 96 96 x2 = true ∧ let M3 : FM := GX99_putFlags x2 (a3.toInt32 &&& (Int32.ofInt 31)) M; HX92_setElsewhere_24 a0 a1 a2 a3 M3))
theorem gX92_setElsewhere_10 (a0 : Nat) (a1 : Int32) (a2 : Int32) (a3 : Int64) (M : FM) (T : Ty M) (n_a0 : fm_is M 92 92 a0 = true) (h : HX92_setElsewhere_10 a0 a1 a2 a3 M) : gd (FX92_setElsewhere_10 fN a0 a1 a2 a3 M) (GX92_setElsewhere_10 a0 a1 a2 a3 M) (OkV M) := by
  delta FX92_setElsewhere_10 BX92_setElsewhere_10
  refine gd_c n_a0 ?_
  have f2 := (fm_w (lo' := 910) (hi' := 990) rfl rfl (tN_304 T.1 n_a0))
  refine gd_c ⟨f2, h.1⟩ ?_
  refine gd_c h.2.1 ?_
  refine gd_b (gX99_putFlags _ _ _ ⟨T.1, T.2⟩ h.2.1 ) (fun K0 => ?_)
  have f1 := (ext_is K0.2 (Nat.zero_lt_succ _) n_a0)
  exact gd_tV K0.2 (gX92_setElsewhere_24 _ _ _ _ _ ⟨K0.1.1, K0.1.2⟩ f1 h.2.2)
noncomputable def GX92_setElsewhere_0 (a0 : Nat) (a1 : Int32) (a2 : Int32) (a3 : Int64) (M : FM) : FM :=
  fi (a2 = (Int32.ofInt 1)) (
    GX92_setElsewhere_10 a0 a1 a2 a3 M) (
    fi (a2 = (Int32.ofInt 3)) (
      GX92_setElsewhere_10 a0 a1 a2 a3 M) (
      GX92_setElsewhere_24 a0 a1 a2 a3 M))
def HX92_setElsewhere_0 (a0 : Nat) (a1 : Int32) (a2 : Int32) (a3 : Int64) (M : FM) : Prop := ((a2 = (Int32.ofInt 1) → HX92_setElsewhere_10 a0 a1 a2 a3 M) ∧ (¬ (a2 = (Int32.ofInt 1)) → ((a2 = (Int32.ofInt 3) → HX92_setElsewhere_10 a0 a1 a2 a3 M) ∧ (¬ (a2 = (Int32.ofInt 3)) → HX92_setElsewhere_24 a0 a1 a2 a3 M))))
theorem gX92_setElsewhere_0 (a0 : Nat) (a1 : Int32) (a2 : Int32) (a3 : Int64) (M : FM) (T : Ty M) (n_a0 : fm_is M 92 92 a0 = true) (h : HX92_setElsewhere_0 a0 a1 a2 a3 M) : gd (FX92_setElsewhere_0 fN a0 a1 a2 a3 M) (GX92_setElsewhere_0 a0 a1 a2 a3 M) (OkV M) := by
  delta FX92_setElsewhere_0 BX92_setElsewhere_0
  refine gd_fi (fun c0_0 => ?_) (fun c0_0 => ?_)
  · exact gd_tV (ext_r _) (gX92_setElsewhere_10 _ _ _ _ _ ⟨T.1, T.2⟩ n_a0 (h.1 c0_0))
  · refine gd_fi (fun c1_0 => ?_) (fun c1_0 => ?_)
    · exact gd_tV (ext_r _) (gX92_setElsewhere_10 _ _ _ _ _ ⟨T.1, T.2⟩ n_a0 ((h.2 c0_0).1 c1_0))
    · exact gd_tV (ext_r _) (gX92_setElsewhere_24 _ _ _ _ _ ⟨T.1, T.2⟩ n_a0 ((h.2 c0_0).2 c1_0))
noncomputable def GX92_setElsewhere (a0 : Nat) (a1 : Int32) (a2 : Int32) (a3 : Int64) (M : FM) : FM := GX92_setElsewhere_0 a0 a1 a2 a3 M
def HX92_setElsewhere (a0 : Nat) (a1 : Int32) (a2 : Int32) (a3 : Int64) (M : FM) : Prop := HX92_setElsewhere_0 a0 a1 a2 a3 M
theorem gX92_setElsewhere (a0 : Nat) (a1 : Int32) (a2 : Int32) (a3 : Int64) (M : FM) (T : Ty M) (n_a0 : fm_is M 92 92 a0 = true) (h : HX92_setElsewhere a0 a1 a2 a3 M) : gd (FX92_setElsewhere fN a0 a1 a2 a3 M) (GX92_setElsewhere a0 a1 a2 a3 M) (OkV M) := gX92_setElsewhere_0 a0 a1 a2 a3 M T n_a0 h
