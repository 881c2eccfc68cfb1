/-! functions without guards, printed by gen/gg.py -/
set_option maxRecDepth 100000
noncomputable def GX92_access_102 (a0 : Nat) (a1 : Int32) (a8 : Int64) (M : FM) : Int32 × FM :=
  let x1 : Nat := (M.2.2 303 a0 0)
  let x2 : Nat := (M.2.2 3 x1 a1.toNatClampNeg)
  let r3 : Int32 × FM := GX98_finish x2 (Int32.ofInt 1) a8 M
  ((Int32.ofInt 1), r3.2)
def HX92_access_102 (a0 : Nat) (a1 : Int32) (a8 : Int64) (M : FM) : Prop := let x1 : Nat := (M.2.2 303 a0 0); (fm_in M x1 a1 = true ∧ let x2 : Nat := (M.2.2 3 x1 a1.toNatClampNeg); (fm_is M 94 94 x2 = true ∧ (HX98_finish x2 (Int32.ofInt 1) a8 M ∧ True)))
theorem gX92_access_102 (a0 : Nat) (a1 : Int32) (a8 : Int64) (M : FM) (T : Ty M) (n_a0 : fm_is M 92 92 a0 = true) (h : HX92_access_102 a0 a1 a8 M) : gd (FX92_access_102 fN a0 a1 a8 M) (GX92_access_102 a0 a1 a8 M) (OkZ M) := by
  delta FX92_access_102 BX92_access_102
  refine gd_c n_a0 ?_
  have f1 := (fm_w (lo' := 910) (hi' := 990) rfl rfl (tN_303 T.1 n_a0))
  refine gd_c ⟨f1, h.1⟩ ?_
  refine gd_c h.2.1 ?_
  refine gd_b (gX98_finish _ _ _ _ ⟨T.1, T.2⟩ h.2.1 h.2.2.1) (fun K0 => ?_)
  exact gd_z fz_1 ⟨K0.1.1, K0.1.2⟩ K0.2 rfl
noncomputable def GX92_access_99 (a0 : Nat) (a1 : Int32) (a8 : Int64) (s0 : Nat) (s1 : Int32) (s2 : Int32) (s3 : Int64) (M : FM) : Int32 × FM :=
  let M1 : FM := GX92_setElsewhere s0 s1 s2 s3 M
  GX92_access_102 a0 a1 a8 M1
def HX92_access_99 (a0 : Nat) (a1 : Int32) (a8 : Int64) (s0 : Nat) (s1 : Int32) (s2 : Int32) (s3 : Int64) (M : FM) : Prop := (HX92_setElsewhere s0 s1 s2 s3 M ∧ let M1 : FM := GX92_setElsewhere s0 s1 s2 s3 M; HX92_access_102 a0 a1 a8 M1)
theorem gX92_access_99 (a0 : Nat) (a1 : Int32) (a8 : Int64) (s0 : Nat) (s1 : Int32) (s2 : Int32) (s3 : Int64) (M : FM) (T : Ty M) (n_s0 : fm_is M 92 92 s0 = true) (n_a0 : fm_is M 92 92 a0 = true) (h : HX92_access_99 a0 a1 a8 s0 s1 s2 s3 M) : gd (FX92_access_99 fN a0 a1 a8 s0 s1 s2 s3 M) (GX92_access_99 a0 a1 a8 s0 s1 s2 s3 M) (OkZ M) := by
  delta FX92_access_99 BX92_access_99
  refine gd_c n_s0 ?_
  refine gd_b (gX92_setElsewhere _ _ _ _ _ ⟨T.1, T.2⟩ n_s0 h.1) (fun K0 => ?_)
  have f1 := (ext_is K0.2 (Nat.zero_lt_succ _) n_a0)
  exact gd_tZ K0.2 (gX92_access_102 _ _ _ _ ⟨K0.1.1, K0.1.2⟩ f1 h.2)
noncomputable def GX92_access_51 (a0 : Nat) (a1 : Int32) (a2 : Int32) (a3 : Int32) (a4 : Int32) (a5 : Int64) (a7 : Int32) (s0 : Int64) (M : FM) : Int32 × FM :=
  fi (a7 = (Int32.ofInt 1)) (
    fi (a4 = 0) (
      GX92_access_102 a0 a1 s0 M) (
      fi (a3 = (Int32.ofInt 1)) (
        GX92_access_99 a0 a1 s0 a0 a1 a2 a5 M) (
        fi (a3 = (Int32.ofInt 2)) (
          GX92_access_99 a0 a1 s0 a0 a1 a2 (s0 ||| a5) M) (
          GX92_access_99 a0 a1 s0 a0 a1 a2 (s0 &&& (a5 ^^^ (Int64.ofInt (-1)))) M)))) (
    GX92_access_102 a0 a1 s0 M)
def HX92_access_51 (a0 : Nat) (a1 : Int32) (a2 : Int32) (a3 : Int32) (a4 : Int32) (a5 : Int64) (a7 : Int32) (s0 : Int64) (M : FM) : Prop := ((a7 = (Int32.ofInt 1) → ((a4 = 0 → HX92_access_102 a0 a1 s0 M) ∧ (¬ (a4 = 0) → ((a3 = (Int32.ofInt 1) → HX92_access_99 a0 a1 s0 a0 a1 a2 a5 M) ∧ (¬ (a3 = (Int32.ofInt 1)) → ((a3 = (Int32.ofInt 2) → HX92_access_99 a0 a1 s0 a0 a1 a2 (s0 ||| a5) M) ∧ (¬ (a3 = (Int32.ofInt 2)) → HX92_access_99 a0 a1 s0 a0 a1 a2 (s0 &&& (a5 ^^^ (Int64.ofInt (-1)))) M))))))) ∧ (¬ (a7 = (Int32.ofInt 1)) → HX92_access_102 a0 a1 s0 M))
theorem gX92_access_51 (a0 : Nat) (a1 : Int32) (a2 : Int32) (a3 : Int32) (a4 : Int32) (a5 : Int64) (a7 : Int32) (s0 : Int64) (M : FM) (T : Ty M) (n_a0 : fm_is M 92 92 a0 = true) (h : HX92_access_51 a0 a1 a2 a3 a4 a5 a7 s0 M) : gd (FX92_access_51 fN a0 a1 a2 a3 a4 a5 a7 s0 M) (GX92_access_51 a0 a1 a2 a3 a4 a5 a7 s0 M) (OkZ M) := by
  delta FX92_access_51 BX92_access_51
  refine gd_fi (fun c0_0 => ?_) (fun c0_0 => ?_)
  · refine gd_fi (fun c1_0 => ?_) (fun c1_0 => ?_)
    · exact gd_tZ (ext_r _) (gX92_access_102 _ _ _ _ ⟨T.1, T.2⟩ n_a0 ((h.1 c0_0).1 c1_0))
    · refine gd_fi (fun c2_0 => ?_) (fun c2_0 => ?_)
      · exact gd_tZ (ext_r _) (gX92_access_99 _ _ _ _ _ _ _ _ ⟨T.1, T.2⟩ n_a0 n_a0 (((h.1 c0_0).2 c1_0).1 c2_0))
      · refine gd_fi (fun c3_0 => ?_) (fun c3_0 => ?_)
        · exact gd_tZ (ext_r _) (gX92_access_99 _ _ _ _ _ _ _ _ ⟨T.1, T.2⟩ n_a0 n_a0 ((((h.1 c0_0).2 c1_0).2 c2_0).1 c3_0))
        · exact gd_tZ (ext_r _) (gX92_access_99 _ _ _ _ _ _ _ _ ⟨T.1, T.2⟩ n_a0 n_a0 ((((h.1 c0_0).2 c1_0).2 c2_0).2 c3_0))
  · exact gd_tZ (ext_r _) (gX92_access_102 _ _ _ _ ⟨T.1, T.2⟩ n_a0 (h.2 c0_0))
noncomputable def GX92_access_0 (a0 : Nat) (a1 : Int32) (a2 : Int32) (a3 : Int32) (a4 : Int32) (a5 : Int64) (M : FM) : Int32 × FM :=
  let x1 : Nat := (M.2.2 305 a0 0)
  let x2 : Nat := (M.2.2 3 x1 a1.toNatClampNeg)
  let r3 : Int32 × FM := GX100_access x2 a2 a3 a4 a5 M
  fi (r3.1 = (Int32.ofInt 2)) (
    let r4 : Int32 × FM := GX92_illegal a0 r3.2
    (r4.1, r4.2)) (
    fi (r3.1 = 0) (
      let x5 : Nat := (r3.2.2.2 305 a0 0)
      let x6 : Nat := (r3.2.2.2 3 x5 a1.toNatClampNeg)
      let r7 : Int64 × FM := GX100_had x6 r3.2
      GX92_access_51 a0 a1 a2 a3 a4 a5 r3.1 r7.1 r7.2) (
      let r8 : Int64 × FM := GX92_elsewhere a0 a1 a2 r3.2
      GX92_access_51 a0 a1 a2 a3 a4 a5 r3.1 r8.1 r8.2))
def HX92_access_0 (a0 : Nat) (a1 : Int32) (a2 : Int32) (a3 : Int32) (a4 : Int32) (a5 : Int64) (M : FM) : Prop := let x1 : Nat := (M.2.2 305 a0 0); (fm_in M x1 a1 = true ∧ let x2 : Nat := (M.2.2 3 x1 a1.toNatClampNeg); (fm_is M 95 95 x2 = true ∧ (HX100_access x2 a2 a3 a4 a5 M ∧ let r3 : Int32 × FM := GX100_access x2 a2 a3 a4 a5 M; ((r3.1 = (Int32.ofInt 2) → True) ∧ (¬ (r3.1 = (Int32.ofInt 2)) → ((r3.1 = 0 → let x5 : Nat := (r3.2.2.2 305 a0 0); (fm_in r3.2 x5 a1 = true ∧ let x6 : Nat := (r3.2.2.2 3 x5 a1.toNatClampNeg); (fm_is r3.2 95 95 x6 = true ∧ let r7 : Int64 × FM := GX100_had x6 r3.2; HX92_access_51 a0 a1 a2 a3 a4 a5 r3.1 r7.1 r7.2))) ∧ (¬ (r3.1 = 0) → (HX92_elsewhere a0 a1 a2 r3.2 ∧ let r8 : Int64 × FM := GX92_elsewhere a0 a1 a2 r3.2; HX92_access_51 a0 a1 a2 a3 a4 a5 r3.1 r8.1 r8.2))))))))
theorem gX92_access_0 (a0 : Nat) (a1 : Int32) (a2 : Int32) (a3 : Int32) (a4 : Int32) (a5 : Int64) (M : FM) (T : Ty M) (n_a0 : fm_is M 92 92 a0 = true) (h : HX92_access_0 a0 a1 a2 a3 a4 a5 M) : gd (FX92_access_0 fN a0 a1 a2 a3 a4 a5 M) (GX92_access_0 a0 a1 a2 a3 a4 a5 M) (OkZ M) := by
  delta FX92_access_0 BX92_access_0
  refine gd_c n_a0 ?_
  have f16 := (fm_w (lo' := 910) (hi' := 990) rfl rfl (tN_305 T.1 n_a0))
  refine gd_c ⟨f16, h.1⟩ ?_
  refine gd_c h.2.1 ?_
  refine gd_b (gX100_access _ _ _ _ _ _ ⟨T.1, T.2⟩ h.2.1 h.2.2.1) (fun K0 => ?_)
  refine gd_fi (fun c1_0 => ?_) (fun c1_0 => ?_)
  · have f2 := (ext_is K0.2 (Nat.zero_lt_succ _) n_a0)
    refine gd_c f2 ?_
    have f4 := (ext_is K0.2 (Nat.zero_lt_succ _) n_a0)
    refine gd_b (gX92_illegal _ _ ⟨K0.1.1, K0.1.2⟩ f4 ) (fun K3 => ?_)
    exact gd_z K3.2.2 ⟨K3.1.1, K3.1.2⟩ (ext_tr K0.2 K3.2.1) rfl
  · refine gd_fi (fun c5_0 => ?_) (fun c5_0 => ?_)
    · have f6 := (ext_is K0.2 (Nat.zero_lt_succ _) n_a0)
      refine gd_c f6 ?_
      have f10 := (fm_w (lo' := 910) (hi' := 990) rfl rfl (tN_305 K0.1.1 (ext_is K0.2 (Nat.zero_lt_succ _) n_a0)))
      have f11 := ((h.2.2.2.2 c1_0).1 c5_0).1
      refine gd_c ⟨f10, f11⟩ ?_
      refine gd_c ((h.2.2.2.2 c1_0).1 c5_0).2.1 ?_
      have f9 := ((h.2.2.2.2 c1_0).1 c5_0).2.1
      refine gd_b (gX100_had _ _ ⟨K0.1.1, K0.1.2⟩ f9 ) (fun K7 => ?_)
      have f8 := (ext_is K7.2 (Nat.zero_lt_succ _) (ext_is K0.2 (Nat.zero_lt_succ _) n_a0))
      exact gd_tZ (ext_tr K0.2 K7.2) (gX92_access_51 _ _ _ _ _ _ _ _ _ ⟨K7.1.1, K7.1.2⟩ f8 ((h.2.2.2.2 c1_0).1 c5_0).2.2)
    · have f12 := (ext_is K0.2 (Nat.zero_lt_succ _) n_a0)
      refine gd_c f12 ?_
      have f15 := (ext_is K0.2 (Nat.zero_lt_succ _) n_a0)
      refine gd_b (gX92_elsewhere _ _ _ _ ⟨K0.1.1, K0.1.2⟩ f15 ((h.2.2.2.2 c1_0).2 c5_0).1) (fun K13 => ?_)
      have f14 := (ext_is K13.2 (Nat.zero_lt_succ _) (ext_is K0.2 (Nat.zero_lt_succ _) n_a0))
      exact gd_tZ (ext_tr K0.2 K13.2) (gX92_access_51 _ _ _ _ _ _ _ _ _ ⟨K13.1.1, K13.1.2⟩ f14 ((h.2.2.2.2 c1_0).2 c5_0).2)
noncomputable def GX92_access (a0 : Nat) (a1 : Int32) (a2 : Int32) (a3 : Int32) (a4 : Int32) (a5 : Int64) (M : FM) : Int32 × FM := GX92_access_0 a0 a1 a2 a3 a4 a5 M
def HX92_access (a0 : Nat) (a1 : Int32) (a2 : Int32) (a3 : Int32) (a4 : Int32) (a5 : Int64) (M : FM) : Prop := HX92_access_0 a0 a1 a2 a3 a4 a5 M
theorem gX92_access (a0 : Nat) (a1 : Int32) (a2 : Int32) (a3 : Int32) (a4 : Int32) (a5 : Int64) (M : FM) (T : Ty M) (n_a0 : fm_is M 92 92 a0 = true) (h : HX92_access a0 a1 a2 a3 a4 a5 M) : gd (FX92_access fN a0 a1 a2 a3 a4 a5 M) (GX92_access a0 a1 a2 a3 a4 a5 M) (OkZ M) := gX92_access_0 a0 a1 a2 a3 a4 a5 M T n_a0 h
noncomputable def GX92_carries_245 (s0 : Int32) (M : FM) : Int32 × FM :=
  (s0, M)
theorem gX92_carries_245 (s0 : Int32) (M : FM) (T : Ty M) (z_s0 : s0 = 0 ∨ s0 = 1) : gd (FX92_carries_245 fN s0 M) (GX92_carries_245 s0 M) (OkZ M) := by
  delta FX92_carries_245 BX92_carries_245
  exact gd_z z_s0 ⟨T.1, T.2⟩ (ext_r _) rfl
noncomputable def GX92_carries_240 (a7 : Int64) (s0 : Nat) (s1 : Int32) (s2 : Int32) (s3 : Int32) (s4 : Int32) (M : FM) : Int32 × FM :=
  let r1 : Int32 × FM := GX92_access s0 s1 s2 s3 s4 a7 M
  GX92_carries_245 r1.1 r1.2
def HX92_carries_240 (a7 : Int64) (s0 : Nat) (s1 : Int32) (s2 : Int32) (s3 : Int32) (s4 : Int32) (M : FM) : Prop := (HX92_access s0 s1 s2 s3 s4 a7 M ∧ True)
theorem gX92_carries_240 (a7 : Int64) (s0 : Nat) (s1 : Int32) (s2 : Int32) (s3 : Int32) (s4 : Int32) (M : FM) (T : Ty M) (n_s0 : fm_is M 92 92 s0 = true) (h : HX92_carries_240 a7 s0 s1 s2 s3 s4 M) : gd (FX92_carries_240 fN a7 s0 s1 s2 s3 s4 M) (GX92_carries_240 a7 s0 s1 s2 s3 s4 M) (OkZ M) := by
  delta FX92_carries_240 BX92_carries_240
  refine gd_c n_s0 ?_
  refine gd_b (gX92_access _ _ _ _ _ _ _ ⟨T.1, T.2⟩ n_s0 h.1) (fun K0 => ?_)
  exact gd_tZ K0.2.1 (gX92_carries_245 _ _ ⟨K0.1.1, K0.1.2⟩ K0.2.2 )
noncomputable def GX92_carries_235 (a7 : Int64) (s0 : Nat) (s1 : Int32) (s2 : Int32) (s3 : Int32) (M : FM) : Int32 × FM :=
  GX92_carries_240 a7 s0 s1 s2 s3 (Int32.ofInt 1) M
def HX92_carries_235 (a7 : Int64) (s0 : Nat) (s1 : Int32) (s2 : Int32) (s3 : Int32) (M : FM) : Prop := HX92_carries_240 a7 s0 s1 s2 s3 (Int32.ofInt 1) M
theorem gX92_carries_235 (a7 : Int64) (s0 : Nat) (s1 : Int32) (s2 : Int32) (s3 : Int32) (M : FM) (T : Ty M) (n_s0 : fm_is M 92 92 s0 = true) (h : HX92_carries_235 a7 s0 s1 s2 s3 M) : gd (FX92_carries_235 fN a7 s0 s1 s2 s3 M) (GX92_carries_235 a7 s0 s1 s2 s3 M) (OkZ M) := by
  delta FX92_carries_235 BX92_carries_235
  exact gd_tZ (ext_r _) (gX92_carries_240 _ _ _ _ _ _ _ ⟨T.1, T.2⟩ n_s0 h)
noncomputable def GX92_carries_29 (M : FM) : Int32 × FM :=
  ((Int32.ofInt 1), M)
theorem gX92_carries_29 (M : FM) (T : Ty M) : gd (FX92_carries_29 fN M) (GX92_carries_29 M) (OkZ M) := by
  delta FX92_carries_29 BX92_carries_29
  exact gd_z fz_1 ⟨T.1, T.2⟩ (ext_r _) rfl
noncomputable def GX92_carries_0 (a0 : Nat) (a1 : Int32) (M : FM) : Int32 × FM :=
  let x1 : Nat := (M.2.2 303 a0 0)
  let x2 : Nat := (M.2.2 3 x1 a1.toNatClampNeg)
  let r3 : Int32 × FM := GX98_run x2 (M.1 317 a0 0) (M.1 318 a0 0) M
  fi (r3.1 = 0) (
    GX92_carries_29 r3.2) (
    fi (r3.1 = (Int32.ofInt 1)) (
      GX92_carries_29 r3.2) (
      fi (r3.1 = (Int32.ofInt (-1))) (
        let r4 : Int32 × FM := GX92_illegal a0 r3.2
        (r4.1, r4.2)) (
        let r5 : Int64 × FM := GX98_wanted x2 (Int32.ofInt 0) r3.2
        let r6 : Int64 × FM := GX98_wanted x2 (Int32.ofInt 1) r5.2
        let x7 : Int32 := r6.1.toInt32
        let r8 : Int64 × FM := GX98_wanted x2 (Int32.ofInt 2) r6.2
        let r9 : Int64 × FM := GX98_wanted x2 (Int32.ofInt 3) r8.2
        let x10 : Int32 := r9.1.toInt32
        let r11 : Int64 × FM := GX98_wanted x2 (Int32.ofInt 4) r9.2
        let x12 : Int32 := r11.1.toInt32
        fi (r3.1 = (Int32.ofInt 2)) (
          let r13 : Int32 × FM := GX92_finds a0 a1 r5.1 x7 (Int32.ofInt 1) r11.2
          fi (r13.1 = 0) (
            ((Int32.ofInt 0), r13.2)) (
            let r14 : Int64 × FM := GX92_get a0 x7 r13.2
            let r15 : Int32 × FM := GX98_finish x2 (Int32.ofInt 1) r14.1 r14.2
            ((Int32.ofInt 1), r15.2))) (
          fi (r3.1 = (Int32.ofInt 3)) (
            let r16 : Int32 × FM := GX92_store a0 a1 r5.1 x7 r8.1 r11.2
            (r16.1, r16.2)) (
            fi (r3.1 = (Int32.ofInt 4)) (
              let r17 : Int32 × FM := GX92_atomic a0 a1 r5.1 x7 x10 r8.1 r11.2
              (r17.1, r17.2)) (
              fi (r3.1 = (Int32.ofInt 5)) (
                let r18 : Int32 × FM := GX92_floating a0 a1 r5.1 x7 x10 x12 r11.2
                (r18.1, r18.2)) (
                let x19 : Int32 := (((r11.2.1 317 a0 0) >>> ((Int32.ofInt 15) &&& 31)) &&& (Int32.ofInt 31))
                fi (x10 = 0) (
                  let r20 : Int32 × FM := GX92_system a0 a1 r5.1.toInt32 x12 x19 r11.2
                  GX92_carries_245 r20.1 r20.2) (
                  fi ((x10 - x10 / (Int32.ofInt 4) * (Int32.ofInt 4)) = (Int32.ofInt 1)) (
                    GX92_carries_235 r8.1 a0 a1 r5.1.toInt32 (x10 - x10 / (Int32.ofInt 4) * (Int32.ofInt 4)) r11.2) (
                    fi (x19 = 0) (
                      GX92_carries_240 r8.1 a0 a1 r5.1.toInt32 (x10 - x10 / (Int32.ofInt 4) * (Int32.ofInt 4)) (Int32.ofInt 0) r11.2) (
                      GX92_carries_235 r8.1 a0 a1 r5.1.toInt32 (x10 - x10 / (Int32.ofInt 4) * (Int32.ofInt 4)) r11.2))))))))))
def HX92_carries_0 (a0 : Nat) (a1 : Int32) (M : FM) : Prop := let x1 : Nat := (M.2.2 303 a0 0); (fm_in M x1 a1 = true ∧ let x2 : Nat := (M.2.2 3 x1 a1.toNatClampNeg); (fm_is M 94 94 x2 = true ∧ (HX98_run x2 (M.1 317 a0 0) (M.1 318 a0 0) M ∧ let r3 : Int32 × FM := GX98_run x2 (M.1 317 a0 0) (M.1 318 a0 0) M; ((r3.1 = 0 → True) ∧ (¬ (r3.1 = 0) → ((r3.1 = (Int32.ofInt 1) → True) ∧ (¬ (r3.1 = (Int32.ofInt 1)) → ((r3.1 = (Int32.ofInt (-1)) → True) ∧ (¬ (r3.1 = (Int32.ofInt (-1))) → (fm_is r3.2 94 94 x2 = true ∧ (HX98_wanted x2 (Int32.ofInt 0) r3.2 ∧ let r5 : Int64 × FM := GX98_wanted x2 (Int32.ofInt 0) r3.2; (fm_is r5.2 94 94 x2 = true ∧ (HX98_wanted x2 (Int32.ofInt 1) r5.2 ∧ let r6 : Int64 × FM := GX98_wanted x2 (Int32.ofInt 1) r5.2; let x7 : Int32 := r6.1.toInt32; (fm_is r6.2 94 94 x2 = true ∧ (HX98_wanted x2 (Int32.ofInt 2) r6.2 ∧ let r8 : Int64 × FM := GX98_wanted x2 (Int32.ofInt 2) r6.2; (fm_is r8.2 94 94 x2 = true ∧ (HX98_wanted x2 (Int32.ofInt 3) r8.2 ∧ let r9 : Int64 × FM := GX98_wanted x2 (Int32.ofInt 3) r8.2; let x10 : Int32 := r9.1.toInt32; (fm_is r9.2 94 94 x2 = true ∧ (HX98_wanted x2 (Int32.ofInt 4) r9.2 ∧ let r11 : Int64 × FM := GX98_wanted x2 (Int32.ofInt 4) r9.2; let x12 : Int32 := r11.1.toInt32; ((r3.1 = (Int32.ofInt 2) → (HX92_finds a0 a1 r5.1 x7 (Int32.ofInt 1) r11.2 ∧ let r13 : Int32 × FM := GX92_finds a0 a1 r5.1 x7 (Int32.ofInt 1) r11.2; ((r13.1 = 0 → True) ∧ (¬ (r13.1 = 0) → (HX92_get a0 x7 r13.2 ∧ let r14 : Int64 × FM := GX92_get a0 x7 r13.2; (fm_is r14.2 94 94 x2 = true ∧ (HX98_finish x2 (Int32.ofInt 1) r14.1 r14.2 ∧ True))))))) ∧ (¬ (r3.1 = (Int32.ofInt 2)) → ((r3.1 = (Int32.ofInt 3) → (HX92_store a0 a1 r5.1 x7 r8.1 r11.2 ∧ True)) ∧ (¬ (r3.1 = (Int32.ofInt 3)) → ((r3.1 = (Int32.ofInt 4) → (HX92_atomic a0 a1 r5.1 x7 x10 r8.1 r11.2 ∧ True)) ∧ (¬ (r3.1 = (Int32.ofInt 4)) → ((r3.1 = (Int32.ofInt 5) → (HX92_floating a0 a1 r5.1 x7 x10 x12 r11.2 ∧ True)) ∧ (¬ (r3.1 = (Int32.ofInt 5)) → let x19 : Int32 := (((r11.2.1 317 a0 0) >>> ((Int32.ofInt 15) &&& 31)) &&& (Int32.ofInt 31)); ((x10 = 0 → (HX92_system a0 a1 r5.1.toInt32 x12 x19 r11.2 ∧ True)) ∧ (¬ (x10 = 0) → (((x10 - x10 / (Int32.ofInt 4) * (Int32.ofInt 4)) = (Int32.ofInt 1) → HX92_carries_235 r8.1 a0 a1 r5.1.toInt32 (x10 - x10 / (Int32.ofInt 4) * (Int32.ofInt 4)) r11.2) ∧ (¬ ((x10 - x10 / (Int32.ofInt 4) * (Int32.ofInt 4)) = (Int32.ofInt 1)) → ((x19 = 0 → HX92_carries_240 r8.1 a0 a1 r5.1.toInt32 (x10 - x10 / (Int32.ofInt 4) * (Int32.ofInt 4)) (Int32.ofInt 0) r11.2) ∧ (¬ (x19 = 0) → HX92_carries_235 r8.1 a0 a1 r5.1.toInt32 (x10 - x10 / (Int32.ofInt 4) * (Int32.ofInt 4)) r11.2)))))))))))))))))))))))))))))))))
theorem gX92_carries_0 (a0 : Nat) (a1 : Int32) (M : FM) (T : Ty M) (n_a0 : fm_is M 92 92 a0 = true) (h : HX92_carries_0 a0 a1 M) : gd (FX92_carries_0 fN a0 a1 M) (GX92_carries_0 a0 a1 M) (OkZ M) := by
  delta FX92_carries_0 BX92_carries_0
  refine gd_c n_a0 ?_
  have f47 := (fm_w (lo' := 910) (hi' := 990) rfl rfl (tN_303 T.1 n_a0))
  refine gd_c ⟨f47, h.1⟩ ?_
  refine gd_c n_a0 ?_
  refine gd_c n_a0 ?_
  refine gd_c h.2.1 ?_
  refine gd_b (gX98_run _ _ _ _ ⟨T.1, T.2⟩ h.2.1 h.2.2.1) (fun K0 => ?_)
  refine gd_fi (fun c1_0 => ?_) (fun c1_0 => ?_)
  · exact gd_tZ K0.2 (gX92_carries_29  _ ⟨K0.1.1, K0.1.2⟩  )
  · refine gd_fi (fun c2_0 => ?_) (fun c2_0 => ?_)
    · exact gd_tZ K0.2 (gX92_carries_29  _ ⟨K0.1.1, K0.1.2⟩  )
    · refine gd_fi (fun c3_0 => ?_) (fun c3_0 => ?_)
      · have f4 := (ext_is K0.2 (Nat.zero_lt_succ _) n_a0)
        refine gd_c f4 ?_
        have f6 := (ext_is K0.2 (Nat.zero_lt_succ _) n_a0)
        refine gd_b (gX92_illegal _ _ ⟨K0.1.1, K0.1.2⟩ f6 ) (fun K5 => ?_)
        exact gd_z K5.2.2 ⟨K5.1.1, K5.1.2⟩ (ext_tr K0.2 K5.2.1) rfl
      · refine gd_c (((h.2.2.2.2 c1_0).2 c2_0).2 c3_0).1 ?_
        have f46 := (((h.2.2.2.2 c1_0).2 c2_0).2 c3_0).1
        refine gd_b (gX98_wanted _ _ _ ⟨K0.1.1, K0.1.2⟩ f46 (((h.2.2.2.2 c1_0).2 c2_0).2 c3_0).2.1) (fun K7 => ?_)
        refine gd_c (((h.2.2.2.2 c1_0).2 c2_0).2 c3_0).2.2.1 ?_
        have f45 := (((h.2.2.2.2 c1_0).2 c2_0).2 c3_0).2.2.1
        refine gd_b (gX98_wanted _ _ _ ⟨K7.1.1, K7.1.2⟩ f45 (((h.2.2.2.2 c1_0).2 c2_0).2 c3_0).2.2.2.1) (fun K8 => ?_)
        refine gd_c (((h.2.2.2.2 c1_0).2 c2_0).2 c3_0).2.2.2.2.1 ?_
        have f44 := (((h.2.2.2.2 c1_0).2 c2_0).2 c3_0).2.2.2.2.1
        refine gd_b (gX98_wanted _ _ _ ⟨K8.1.1, K8.1.2⟩ f44 (((h.2.2.2.2 c1_0).2 c2_0).2 c3_0).2.2.2.2.2.1) (fun K9 => ?_)
        refine gd_c (((h.2.2.2.2 c1_0).2 c2_0).2 c3_0).2.2.2.2.2.2.1 ?_
        have f43 := (((h.2.2.2.2 c1_0).2 c2_0).2 c3_0).2.2.2.2.2.2.1
        refine gd_b (gX98_wanted _ _ _ ⟨K9.1.1, K9.1.2⟩ f43 (((h.2.2.2.2 c1_0).2 c2_0).2 c3_0).2.2.2.2.2.2.2.1) (fun K10 => ?_)
        refine gd_c (((h.2.2.2.2 c1_0).2 c2_0).2 c3_0).2.2.2.2.2.2.2.2.1 ?_
        have f42 := (((h.2.2.2.2 c1_0).2 c2_0).2 c3_0).2.2.2.2.2.2.2.2.1
        refine gd_b (gX98_wanted _ _ _ ⟨K10.1.1, K10.1.2⟩ f42 (((h.2.2.2.2 c1_0).2 c2_0).2 c3_0).2.2.2.2.2.2.2.2.2.1) (fun K11 => ?_)
        refine gd_fi (fun c12_0 => ?_) (fun c12_0 => ?_)
        · have f13 := (ext_is K11.2 (Nat.zero_lt_succ _) (ext_is K10.2 (Nat.zero_lt_succ _) (ext_is K9.2 (Nat.zero_lt_succ _) (ext_is K8.2 (Nat.zero_lt_succ _) (ext_is K7.2 (Nat.zero_lt_succ _) (ext_is K0.2 (Nat.zero_lt_succ _) n_a0))))))
          refine gd_c f13 ?_
          refine gd_b (gX92_finds _ _ _ _ _ _ ((((h.2.2.2.2 c1_0).2 c2_0).2 c3_0).2.2.2.2.2.2.2.2.2.2.1 c12_0).1) (fun K14 => ?_)
          refine gd_fi (fun c15_0 => ?_) (fun c15_0 => ?_)
          · exact gd_z fz_0 ⟨K14.1.1, K14.1.2⟩ (ext_tr K0.2 (ext_tr K7.2 (ext_tr K8.2 (ext_tr K9.2 (ext_tr K10.2 (ext_tr K11.2 K14.2.1)))))) rfl
          · have f16 := (ext_is K14.2.1 (Nat.zero_lt_succ _) (ext_is K11.2 (Nat.zero_lt_succ _) (ext_is K10.2 (Nat.zero_lt_succ _) (ext_is K9.2 (Nat.zero_lt_succ _) (ext_is K8.2 (Nat.zero_lt_succ _) (ext_is K7.2 (Nat.zero_lt_succ _) (ext_is K0.2 (Nat.zero_lt_succ _) n_a0)))))))
            refine gd_c f16 ?_
            refine gd_b (gX92_get _ _ _ (((((h.2.2.2.2 c1_0).2 c2_0).2 c3_0).2.2.2.2.2.2.2.2.2.2.1 c12_0).2.2 c15_0).1) (fun K17 => ?_)
            refine gd_c (((((h.2.2.2.2 c1_0).2 c2_0).2 c3_0).2.2.2.2.2.2.2.2.2.2.1 c12_0).2.2 c15_0).2.1 ?_
            have f19 := (((((h.2.2.2.2 c1_0).2 c2_0).2 c3_0).2.2.2.2.2.2.2.2.2.2.1 c12_0).2.2 c15_0).2.1
            refine gd_b (gX98_finish _ _ _ _ ⟨K17.1.1, K17.1.2⟩ f19 (((((h.2.2.2.2 c1_0).2 c2_0).2 c3_0).2.2.2.2.2.2.2.2.2.2.1 c12_0).2.2 c15_0).2.2.1) (fun K18 => ?_)
            exact gd_z fz_1 ⟨K18.1.1, K18.1.2⟩ (ext_tr K0.2 (ext_tr K7.2 (ext_tr K8.2 (ext_tr K9.2 (ext_tr K10.2 (ext_tr K11.2 (ext_tr K14.2.1 (ext_tr K17.2 K18.2)))))))) rfl
        · refine gd_fi (fun c20_1 => ?_) (fun c20_1 => ?_)
          · have f21 := (ext_is K11.2 (Nat.zero_lt_succ _) (ext_is K10.2 (Nat.zero_lt_succ _) (ext_is K9.2 (Nat.zero_lt_succ _) (ext_is K8.2 (Nat.zero_lt_succ _) (ext_is K7.2 (Nat.zero_lt_succ _) (ext_is K0.2 (Nat.zero_lt_succ _) n_a0))))))
            refine gd_c f21 ?_
            have f23 := (ext_is K11.2 (Nat.zero_lt_succ _) (ext_is K10.2 (Nat.zero_lt_succ _) (ext_is K9.2 (Nat.zero_lt_succ _) (ext_is K8.2 (Nat.zero_lt_succ _) (ext_is K7.2 (Nat.zero_lt_succ _) (ext_is K0.2 (Nat.zero_lt_succ _) n_a0))))))
            refine gd_b (gX92_store _ _ _ _ _ _ ⟨K11.1.1, K11.1.2⟩ f23 (((((h.2.2.2.2 c1_0).2 c2_0).2 c3_0).2.2.2.2.2.2.2.2.2.2.2 c12_0).1 c20_1).1) (fun K22 => ?_)
            exact gd_z K22.2.2 ⟨K22.1.1, K22.1.2⟩ (ext_tr K0.2 (ext_tr K7.2 (ext_tr K8.2 (ext_tr K9.2 (ext_tr K10.2 (ext_tr K11.2 K22.2.1)))))) rfl
          · refine gd_fi (fun c24_2 => ?_) (fun c24_2 => ?_)
            · have f25 := (ext_is K11.2 (Nat.zero_lt_succ _) (ext_is K10.2 (Nat.zero_lt_succ _) (ext_is K9.2 (Nat.zero_lt_succ _) (ext_is K8.2 (Nat.zero_lt_succ _) (ext_is K7.2 (Nat.zero_lt_succ _) (ext_is K0.2 (Nat.zero_lt_succ _) n_a0))))))
              refine gd_c f25 ?_
              have f27 := (ext_is K11.2 (Nat.zero_lt_succ _) (ext_is K10.2 (Nat.zero_lt_succ _) (ext_is K9.2 (Nat.zero_lt_succ _) (ext_is K8.2 (Nat.zero_lt_succ _) (ext_is K7.2 (Nat.zero_lt_succ _) (ext_is K0.2 (Nat.zero_lt_succ _) n_a0))))))
              refine gd_b (gX92_atomic _ _ _ _ _ _ _ ⟨K11.1.1, K11.1.2⟩ f27 ((((((h.2.2.2.2 c1_0).2 c2_0).2 c3_0).2.2.2.2.2.2.2.2.2.2.2 c12_0).2 c20_1).1 c24_2).1) (fun K26 => ?_)
              exact gd_z K26.2.2 ⟨K26.1.1, K26.1.2⟩ (ext_tr K0.2 (ext_tr K7.2 (ext_tr K8.2 (ext_tr K9.2 (ext_tr K10.2 (ext_tr K11.2 K26.2.1)))))) rfl
            · refine gd_fi (fun c28_3 => ?_) (fun c28_3 => ?_)
              · have f29 := (ext_is K11.2 (Nat.zero_lt_succ _) (ext_is K10.2 (Nat.zero_lt_succ _) (ext_is K9.2 (Nat.zero_lt_succ _) (ext_is K8.2 (Nat.zero_lt_succ _) (ext_is K7.2 (Nat.zero_lt_succ _) (ext_is K0.2 (Nat.zero_lt_succ _) n_a0))))))
                refine gd_c f29 ?_
                have f31 := (ext_is K11.2 (Nat.zero_lt_succ _) (ext_is K10.2 (Nat.zero_lt_succ _) (ext_is K9.2 (Nat.zero_lt_succ _) (ext_is K8.2 (Nat.zero_lt_succ _) (ext_is K7.2 (Nat.zero_lt_succ _) (ext_is K0.2 (Nat.zero_lt_succ _) n_a0))))))
                refine gd_b (gX92_floating _ _ _ _ _ _ _ ⟨K11.1.1, K11.1.2⟩ f31 (((((((h.2.2.2.2 c1_0).2 c2_0).2 c3_0).2.2.2.2.2.2.2.2.2.2.2 c12_0).2 c20_1).2 c24_2).1 c28_3).1) (fun K30 => ?_)
                exact gd_z K30.2.2 ⟨K30.1.1, K30.1.2⟩ (ext_tr K0.2 (ext_tr K7.2 (ext_tr K8.2 (ext_tr K9.2 (ext_tr K10.2 (ext_tr K11.2 K30.2.1)))))) rfl
              · have f32 := (ext_is K11.2 (Nat.zero_lt_succ _) (ext_is K10.2 (Nat.zero_lt_succ _) (ext_is K9.2 (Nat.zero_lt_succ _) (ext_is K8.2 (Nat.zero_lt_succ _) (ext_is K7.2 (Nat.zero_lt_succ _) (ext_is K0.2 (Nat.zero_lt_succ _) n_a0))))))
                refine gd_c f32 ?_
                refine gd_fi (fun c33_0 => ?_) (fun c33_0 => ?_)
                · have f34 := (ext_is K11.2 (Nat.zero_lt_succ _) (ext_is K10.2 (Nat.zero_lt_succ _) (ext_is K9.2 (Nat.zero_lt_succ _) (ext_is K8.2 (Nat.zero_lt_succ _) (ext_is K7.2 (Nat.zero_lt_succ _) (ext_is K0.2 (Nat.zero_lt_succ _) n_a0))))))
                  refine gd_c f34 ?_
                  have f36 := (ext_is K11.2 (Nat.zero_lt_succ _) (ext_is K10.2 (Nat.zero_lt_succ _) (ext_is K9.2 (Nat.zero_lt_succ _) (ext_is K8.2 (Nat.zero_lt_succ _) (ext_is K7.2 (Nat.zero_lt_succ _) (ext_is K0.2 (Nat.zero_lt_succ _) n_a0))))))
                  refine gd_b (gX92_system _ _ _ _ _ _ ⟨K11.1.1, K11.1.2⟩ f36 ((((((((h.2.2.2.2 c1_0).2 c2_0).2 c3_0).2.2.2.2.2.2.2.2.2.2.2 c12_0).2 c20_1).2 c24_2).2 c28_3).1 c33_0).1) (fun K35 => ?_)
                  exact gd_tZ (ext_tr K0.2 (ext_tr K7.2 (ext_tr K8.2 (ext_tr K9.2 (ext_tr K10.2 (ext_tr K11.2 K35.2.1)))))) (gX92_carries_245 _ _ ⟨K35.1.1, K35.1.2⟩ K35.2.2 )
                · refine gd_n (by decide) ?_
                  refine gd_n (by decide) ?_
                  refine gd_fi (fun c37_0 => ?_) (fun c37_0 => ?_)
                  · have f38 := (ext_is K11.2 (Nat.zero_lt_succ _) (ext_is K10.2 (Nat.zero_lt_succ _) (ext_is K9.2 (Nat.zero_lt_succ _) (ext_is K8.2 (Nat.zero_lt_succ _) (ext_is K7.2 (Nat.zero_lt_succ _) (ext_is K0.2 (Nat.zero_lt_succ _) n_a0))))))
                    exact gd_tZ (ext_tr K0.2 (ext_tr K7.2 (ext_tr K8.2 (ext_tr K9.2 (ext_tr K10.2 K11.2))))) (gX92_carries_235 _ _ _ _ _ _ ⟨K11.1.1, K11.1.2⟩ f38 (((((((((h.2.2.2.2 c1_0).2 c2_0).2 c3_0).2.2.2.2.2.2.2.2.2.2.2 c12_0).2 c20_1).2 c24_2).2 c28_3).2 c33_0).1 c37_0))
                  · refine gd_fi (fun c39_0 => ?_) (fun c39_0 => ?_)
                    · have f40 := (ext_is K11.2 (Nat.zero_lt_succ _) (ext_is K10.2 (Nat.zero_lt_succ _) (ext_is K9.2 (Nat.zero_lt_succ _) (ext_is K8.2 (Nat.zero_lt_succ _) (ext_is K7.2 (Nat.zero_lt_succ _) (ext_is K0.2 (Nat.zero_lt_succ _) n_a0))))))
                      exact gd_tZ (ext_tr K0.2 (ext_tr K7.2 (ext_tr K8.2 (ext_tr K9.2 (ext_tr K10.2 K11.2))))) (gX92_carries_240 _ _ _ _ _ _ _ ⟨K11.1.1, K11.1.2⟩ f40 ((((((((((h.2.2.2.2 c1_0).2 c2_0).2 c3_0).2.2.2.2.2.2.2.2.2.2.2 c12_0).2 c20_1).2 c24_2).2 c28_3).2 c33_0).2 c37_0).1 c39_0))
                    · have f41 := (ext_is K11.2 (Nat.zero_lt_succ _) (ext_is K10.2 (Nat.zero_lt_succ _) (ext_is K9.2 (Nat.zero_lt_succ _) (ext_is K8.2 (Nat.zero_lt_succ _) (ext_is K7.2 (Nat.zero_lt_succ _) (ext_is K0.2 (Nat.zero_lt_succ _) n_a0))))))
                      exact gd_tZ (ext_tr K0.2 (ext_tr K7.2 (ext_tr K8.2 (ext_tr K9.2 (ext_tr K10.2 K11.2))))) (gX92_carries_235 _ _ _ _ _ _ ⟨K11.1.1, K11.1.2⟩ f41 ((((((((((h.2.2.2.2 c1_0).2 c2_0).2 c3_0).2.2.2.2.2.2.2.2.2.2.2 c12_0).2 c20_1).2 c24_2).2 c28_3).2 c33_0).2 c37_0).2 c39_0))
noncomputable def GX92_carries (a0 : Nat) (a1 : Int32) (M : FM) : Int32 × FM := GX92_carries_0 a0 a1 M
def HX92_carries (a0 : Nat) (a1 : Int32) (M : FM) : Prop := HX92_carries_0 a0 a1 M
theorem gX92_carries (a0 : Nat) (a1 : Int32) (M : FM) (T : Ty M) (n_a0 : fm_is M 92 92 a0 = true) (h : HX92_carries a0 a1 M) : gd (FX92_carries fN a0 a1 M) (GX92_carries a0 a1 M) (OkZ M) := gX92_carries_0 a0 a1 M T n_a0 h
noncomputable def GX100_beginning_33 (s0 : Int64) (M : FM) : Int64 × FM :=
  (s0, M)
theorem gX100_beginning_33 (s0 : Int64) (M : FM) (T : Ty M) : gd (FX100_beginning_33 s0 M) (GX100_beginning_33 s0 M) (OkR M) := by
  delta FX100_beginning_33 BX100_beginning_33
  exact ⟨rfl, ⟨T.1, T.2⟩, (ext_r _)⟩
noncomputable def GX100_beginning_31 (a4 : Int64) (M : FM) : Int64 × FM :=
  GX100_beginning_33 a4 M
theorem gX100_beginning_31 (a4 : Int64) (M : FM) (T : Ty M) : gd (FX100_beginning_31 a4 M) (GX100_beginning_31 a4 M) (OkR M) := by
  delta FX100_beginning_31 BX100_beginning_31
  exact gd_tR (ext_r _) (gX100_beginning_33 _ _ ⟨T.1, T.2⟩  )
noncomputable def GX100_beginning_0 (a0 : Int64) (a2 : Int32) (a3 : Int32) (M : FM) : Int64 × FM :=
  let x1 : Int64 := (a0 &&& (Int64.ofInt (-4)))
  fi (a2 = 0) (
    GX100_beginning_31 x1 M) (
    fi ((lg_cmp (a0 &&& (Int64.ofInt 1)) (Int64.ofInt 1)) = 0) (
      GX100_beginning_33 (x1 + ((Int64.ofInt 4) * a3.toInt64)) M) (
      GX100_beginning_31 x1 M))
theorem gX100_beginning_0 (a0 : Int64) (a2 : Int32) (a3 : Int32) (M : FM) (T : Ty M) : gd (FX100_beginning_0 a0 a2 a3 M) (GX100_beginning_0 a0 a2 a3 M) (OkR M) := by
  delta FX100_beginning_0 BX100_beginning_0
  refine gd_fi (fun c0_0 => ?_) (fun c0_0 => ?_)
  · exact gd_tR (ext_r _) (gX100_beginning_31 _ _ ⟨T.1, T.2⟩  )
  · refine gd_fi (fun c1_0 => ?_) (fun c1_0 => ?_)
    · exact gd_tR (ext_r _) (gX100_beginning_33 _ _ ⟨T.1, T.2⟩  )
    · exact gd_tR (ext_r _) (gX100_beginning_31 _ _ ⟨T.1, T.2⟩  )
noncomputable def GX100_beginning (a0 : Int64) (a2 : Int32) (a3 : Int32) (M : FM) : Int64 × FM := GX100_beginning_0 a0 a2 a3 M
theorem gX100_beginning (a0 : Int64) (a2 : Int32) (a3 : Int32) (M : FM) (T : Ty M) : gd (FX100_beginning a0 a2 a3 M) (GX100_beginning a0 a2 a3 M) (OkR M) := gX100_beginning_0 a0 a2 a3 M T 
noncomputable def GX100_trap_243 (a0 : Nat) (a1 : Int32) (a2 : Int32) (s0 : Nat) (s1 : Nat) (s2 : Int32) (M : FM) : Int64 × FM :=
  let r1 : Int64 × FM := GX100_beginning (M.2.1 3 s1 s2.toNatClampNeg) a1 a2 M
  let M2 : FM := fm_sL r1.2 365 s0 0 r1.1
  ((M2.2.1 365 a0 0), M2)
def HX100_trap_243 (a0 : Nat) (a1 : Int32) (a2 : Int32) (s0 : Nat) (s1 : Nat) (s2 : Int32) (M : FM) : Prop := (fm_in M s1 s2 = true ∧ True)
theorem gX100_trap_243 (a0 : Nat) (a1 : Int32) (a2 : Int32) (s0 : Nat) (s1 : Nat) (s2 : Int32) (M : FM) (T : Ty M) (n_s1 : fm_is M 902 902 s1 = true) (n_s0 : fm_is M 95 95 s0 = true) (n_a0 : fm_is M 95 95 a0 = true) (h : HX100_trap_243 a0 a1 a2 s0 s1 s2 M) : gd (FX100_trap_243 a0 a1 a2 s0 s1 s2 M) (GX100_trap_243 a0 a1 a2 s0 s1 s2 M) (OkR M) := by
  delta FX100_trap_243 BX100_trap_243
  refine gd_c ⟨n_s1, h.1⟩ ?_
  refine gd_b (gX100_beginning _ _ _ _ ⟨T.1, T.2⟩  ) (fun K0 => ?_)
  have f1 := (ext_is K0.2 (Nat.zero_lt_succ _) n_s0)
  refine gd_c f1 ?_
  have f2 := (ext_is K0.2 (Nat.zero_lt_succ _) n_a0)
  refine gd_c f2 ?_
  exact ⟨rfl, ⟨K0.1.1, K0.1.2⟩, (ext_tr K0.2 (ext_dL (ext_r _)))⟩
noncomputable def GX100_trap_224 (a0 : Nat) (a1 : Int32) (a2 : Int32) (a9 : Int32) (M : FM) : Int64 × FM :=
  fi (a9 = 0) (
    GX100_trap_243 a0 a1 a2 a0 (M.2.2 361 a0 0) (Int32.ofInt 773) M) (
    GX100_trap_243 a0 a1 a2 a0 (M.2.2 361 a0 0) (Int32.ofInt 261) M)
def HX100_trap_224 (a0 : Nat) (a1 : Int32) (a2 : Int32) (a9 : Int32) (M : FM) : Prop := ((a9 = 0 → HX100_trap_243 a0 a1 a2 a0 (M.2.2 361 a0 0) (Int32.ofInt 773) M) ∧ (¬ (a9 = 0) → HX100_trap_243 a0 a1 a2 a0 (M.2.2 361 a0 0) (Int32.ofInt 261) M))
theorem gX100_trap_224 (a0 : Nat) (a1 : Int32) (a2 : Int32) (a9 : Int32) (M : FM) (T : Ty M) (n_a0 : fm_is M 95 95 a0 = true) (h : HX100_trap_224 a0 a1 a2 a9 M) : gd (FX100_trap_224 a0 a1 a2 a9 M) (GX100_trap_224 a0 a1 a2 a9 M) (OkR M) := by
  delta FX100_trap_224 BX100_trap_224
  refine gd_c n_a0 ?_
  refine gd_fi (fun c0_0 => ?_) (fun c0_0 => ?_)
  · have f1 := (tN_361 T.1 n_a0)
    exact gd_tR (ext_r _) (gX100_trap_243 _ _ _ _ _ _ _ ⟨T.1, T.2⟩ f1 n_a0 n_a0 (h.1 c0_0))
  · have f2 := (tN_361 T.1 n_a0)
    exact gd_tR (ext_r _) (gX100_trap_243 _ _ _ _ _ _ _ ⟨T.1, T.2⟩ f2 n_a0 n_a0 (h.2 c0_0))
noncomputable def GX100_trap_139 (a0 : Nat) (a1 : Int32) (a2 : Int32) (a9 : Int32) (M : FM) : Int64 × FM :=
  fi (a9 = 0) (
    let x1 : Int32 := (M.1 360 a0 0)
    let M2 : FM := GX100_put a0 (Int32.ofInt 11) (x1 - x1 / (Int32.ofInt 2) * (Int32.ofInt 2)) M
    let M3 : FM := GX100_put a0 (Int32.ofInt 12) ((M2.1 360 a0 0) / (Int32.ofInt 2)) M2
    let r4 : Int32 × FM := GX100_status a0 (Int32.ofInt 3) M3
    let M5 : FM := GX100_put a0 (Int32.ofInt 7) r4.1 r4.2
    let M6 : FM := GX100_put a0 (Int32.ofInt 3) (Int32.ofInt 0) M5
    let M7 : FM := fm_sI M6 360 a0 0 (Int32.ofInt 3)
    GX100_trap_224 a0 a1 a2 a9 M7) (
    let M8 : FM := GX100_put a0 (Int32.ofInt 8) (M.1 360 a0 0) M
    let r9 : Int32 × FM := GX100_status a0 (Int32.ofInt 1) M8
    let M10 : FM := GX100_put a0 (Int32.ofInt 5) r9.1 r9.2
    let M11 : FM := GX100_put a0 (Int32.ofInt 1) (Int32.ofInt 0) M10
    let M12 : FM := fm_sI M11 360 a0 0 (Int32.ofInt 1)
    GX100_trap_224 a0 a1 a2 a9 M12)
def HX100_trap_139 (a0 : Nat) (a1 : Int32) (a2 : Int32) (a9 : Int32) (M : FM) : Prop := ((a9 = 0 → let x1 : Int32 := (M.1 360 a0 0); let M2 : FM := GX100_put a0 (Int32.ofInt 11) (x1 - x1 / (Int32.ofInt 2) * (Int32.ofInt 2)) M; let M3 : FM := GX100_put a0 (Int32.ofInt 12) ((M2.1 360 a0 0) / (Int32.ofInt 2)) M2; let r4 : Int32 × FM := GX100_status a0 (Int32.ofInt 3) M3; let M5 : FM := GX100_put a0 (Int32.ofInt 7) r4.1 r4.2; let M6 : FM := GX100_put a0 (Int32.ofInt 3) (Int32.ofInt 0) M5; let M7 : FM := fm_sI M6 360 a0 0 (Int32.ofInt 3); HX100_trap_224 a0 a1 a2 a9 M7) ∧ (¬ (a9 = 0) → let M8 : FM := GX100_put a0 (Int32.ofInt 8) (M.1 360 a0 0) M; let r9 : Int32 × FM := GX100_status a0 (Int32.ofInt 1) M8; let M10 : FM := GX100_put a0 (Int32.ofInt 5) r9.1 r9.2; let M11 : FM := GX100_put a0 (Int32.ofInt 1) (Int32.ofInt 0) M10; let M12 : FM := fm_sI M11 360 a0 0 (Int32.ofInt 1); HX100_trap_224 a0 a1 a2 a9 M12))
theorem gX100_trap_139 (a0 : Nat) (a1 : Int32) (a2 : Int32) (a9 : Int32) (M : FM) (T : Ty M) (n_a0 : fm_is M 95 95 a0 = true) (h : HX100_trap_139 a0 a1 a2 a9 M) : gd (FX100_trap_139 a0 a1 a2 a9 M) (GX100_trap_139 a0 a1 a2 a9 M) (OkR M) := by
  delta FX100_trap_139 BX100_trap_139
  refine gd_fi (fun c0_0 => ?_) (fun c0_0 => ?_)
  · refine gd_c n_a0 ?_
    refine gd_n (by decide) ?_
    refine gd_c n_a0 ?_
    refine gd_b (gX100_put _ _ _ _ ⟨T.1, T.2⟩ n_a0 ) (fun K1 => ?_)
    have f2 := (ext_is K1.2 (Nat.zero_lt_succ _) n_a0)
    refine gd_c f2 ?_
    refine gd_n (by decide) ?_
    have f3 := (ext_is K1.2 (Nat.zero_lt_succ _) n_a0)
    refine gd_c f3 ?_
    have f16 := (ext_is K1.2 (Nat.zero_lt_succ _) n_a0)
    refine gd_b (gX100_put _ _ _ _ ⟨K1.1.1, K1.1.2⟩ f16 ) (fun K4 => ?_)
    have f5 := (ext_is K4.2 (Nat.zero_lt_succ _) (ext_is K1.2 (Nat.zero_lt_succ _) n_a0))
    refine gd_c f5 ?_
    have f15 := (ext_is K4.2 (Nat.zero_lt_succ _) (ext_is K1.2 (Nat.zero_lt_succ _) n_a0))
    refine gd_b (gX100_status _ _ _ ⟨K4.1.1, K4.1.2⟩ f15 ) (fun K6 => ?_)
    have f7 := (ext_is K6.2 (Nat.zero_lt_succ _) (ext_is K4.2 (Nat.zero_lt_succ _) (ext_is K1.2 (Nat.zero_lt_succ _) n_a0)))
    refine gd_c f7 ?_
    have f14 := (ext_is K6.2 (Nat.zero_lt_succ _) (ext_is K4.2 (Nat.zero_lt_succ _) (ext_is K1.2 (Nat.zero_lt_succ _) n_a0)))
    refine gd_b (gX100_put _ _ _ _ ⟨K6.1.1, K6.1.2⟩ f14 ) (fun K8 => ?_)
    have f9 := (ext_is K8.2 (Nat.zero_lt_succ _) (ext_is K6.2 (Nat.zero_lt_succ _) (ext_is K4.2 (Nat.zero_lt_succ _) (ext_is K1.2 (Nat.zero_lt_succ _) n_a0))))
    refine gd_c f9 ?_
    have f13 := (ext_is K8.2 (Nat.zero_lt_succ _) (ext_is K6.2 (Nat.zero_lt_succ _) (ext_is K4.2 (Nat.zero_lt_succ _) (ext_is K1.2 (Nat.zero_lt_succ _) n_a0))))
    refine gd_b (gX100_put _ _ _ _ ⟨K8.1.1, K8.1.2⟩ f13 ) (fun K10 => ?_)
    have f11 := (ext_is K10.2 (Nat.zero_lt_succ _) (ext_is K8.2 (Nat.zero_lt_succ _) (ext_is K6.2 (Nat.zero_lt_succ _) (ext_is K4.2 (Nat.zero_lt_succ _) (ext_is K1.2 (Nat.zero_lt_succ _) n_a0)))))
    refine gd_c f11 ?_
    have f12 := (ext_is K10.2 (Nat.zero_lt_succ _) (ext_is K8.2 (Nat.zero_lt_succ _) (ext_is K6.2 (Nat.zero_lt_succ _) (ext_is K4.2 (Nat.zero_lt_succ _) (ext_is K1.2 (Nat.zero_lt_succ _) n_a0)))))
    exact gd_tR (ext_tr K1.2 (ext_tr K4.2 (ext_tr K6.2 (ext_tr K8.2 (ext_tr K10.2 (ext_dI (ext_r _))))))) (gX100_trap_224 _ _ _ _ _ ⟨K10.1.1, (tyb_sI (f := 360) rfl K10.1.2)⟩ f12 (h.1 c0_0))
  · refine gd_c n_a0 ?_
    refine gd_c n_a0 ?_
    refine gd_b (gX100_put _ _ _ _ ⟨T.1, T.2⟩ n_a0 ) (fun K17 => ?_)
    have f18 := (ext_is K17.2 (Nat.zero_lt_succ _) n_a0)
    refine gd_c f18 ?_
    have f28 := (ext_is K17.2 (Nat.zero_lt_succ _) n_a0)
    refine gd_b (gX100_status _ _ _ ⟨K17.1.1, K17.1.2⟩ f28 ) (fun K19 => ?_)
    have f20 := (ext_is K19.2 (Nat.zero_lt_succ _) (ext_is K17.2 (Nat.zero_lt_succ _) n_a0))
    refine gd_c f20 ?_
    have f27 := (ext_is K19.2 (Nat.zero_lt_succ _) (ext_is K17.2 (Nat.zero_lt_succ _) n_a0))
    refine gd_b (gX100_put _ _ _ _ ⟨K19.1.1, K19.1.2⟩ f27 ) (fun K21 => ?_)
    have f22 := (ext_is K21.2 (Nat.zero_lt_succ _) (ext_is K19.2 (Nat.zero_lt_succ _) (ext_is K17.2 (Nat.zero_lt_succ _) n_a0)))
    refine gd_c f22 ?_
    have f26 := (ext_is K21.2 (Nat.zero_lt_succ _) (ext_is K19.2 (Nat.zero_lt_succ _) (ext_is K17.2 (Nat.zero_lt_succ _) n_a0)))
    refine gd_b (gX100_put _ _ _ _ ⟨K21.1.1, K21.1.2⟩ f26 ) (fun K23 => ?_)
    have f24 := (ext_is K23.2 (Nat.zero_lt_succ _) (ext_is K21.2 (Nat.zero_lt_succ _) (ext_is K19.2 (Nat.zero_lt_succ _) (ext_is K17.2 (Nat.zero_lt_succ _) n_a0))))
    refine gd_c f24 ?_
    have f25 := (ext_is K23.2 (Nat.zero_lt_succ _) (ext_is K21.2 (Nat.zero_lt_succ _) (ext_is K19.2 (Nat.zero_lt_succ _) (ext_is K17.2 (Nat.zero_lt_succ _) n_a0))))
    exact gd_tR (ext_tr K17.2 (ext_tr K19.2 (ext_tr K21.2 (ext_tr K23.2 (ext_dI (ext_r _)))))) (gX100_trap_224 _ _ _ _ _ ⟨K23.1.1, (tyb_sI (f := 360) rfl K23.1.2)⟩ f25 (h.2 c0_0))
noncomputable def GX100_trap_129 (a0 : Nat) (a1 : Int32) (a2 : Int32) (a3 : Int64) (a9 : Int32) (a10 : Int32) (M : FM) : Int64 × FM :=
  let x1 : Int32 := (a10 + (Int32.ofInt 3))
  let x2 : Nat := (M.2.2 361 a0 0)
  let M3 : FM := fm_sL M 3 x2 x1.toNatClampNeg a3
  GX100_trap_139 a0 a1 a2 a9 M3
def HX100_trap_129 (a0 : Nat) (a1 : Int32) (a2 : Int32) (a3 : Int64) (a9 : Int32) (a10 : Int32) (M : FM) : Prop := let x1 : Int32 := (a10 + (Int32.ofInt 3)); let x2 : Nat := (M.2.2 361 a0 0); (fm_in M x2 x1 = true ∧ let M3 : FM := fm_sL M 3 x2 x1.toNatClampNeg a3; HX100_trap_139 a0 a1 a2 a9 M3)
theorem gX100_trap_129 (a0 : Nat) (a1 : Int32) (a2 : Int32) (a3 : Int64) (a9 : Int32) (a10 : Int32) (M : FM) (T : Ty M) (n_a0 : fm_is M 95 95 a0 = true) (h : HX100_trap_129 a0 a1 a2 a3 a9 a10 M) : gd (FX100_trap_129 a0 a1 a2 a3 a9 a10 M) (GX100_trap_129 a0 a1 a2 a3 a9 a10 M) (OkR M) := by
  delta FX100_trap_129 BX100_trap_129
  refine gd_c n_a0 ?_
  have f0 := (tN_361 T.1 n_a0)
  refine gd_c ⟨f0, h.1⟩ ?_
  exact gd_tR (ext_dL (ext_r _)) (gX100_trap_139 _ _ _ _ _ ⟨T.1, T.2⟩ n_a0 h.2)
noncomputable def GX100_trap_118 (a0 : Nat) (a1 : Int32) (a2 : Int32) (a3 : Int64) (a7 : Int64) (a9 : Int32) (a10 : Int32) (M : FM) : Int64 × FM :=
  let x1 : Int32 := (a10 + (Int32.ofInt 2))
  let x2 : Nat := (M.2.2 361 a0 0)
  let M3 : FM := fm_sL M 3 x2 x1.toNatClampNeg a7
  GX100_trap_129 a0 a1 a2 a3 a9 a10 M3
def HX100_trap_118 (a0 : Nat) (a1 : Int32) (a2 : Int32) (a3 : Int64) (a7 : Int64) (a9 : Int32) (a10 : Int32) (M : FM) : Prop := let x1 : Int32 := (a10 + (Int32.ofInt 2)); let x2 : Nat := (M.2.2 361 a0 0); (fm_in M x2 x1 = true ∧ let M3 : FM := fm_sL M 3 x2 x1.toNatClampNeg a7; HX100_trap_129 a0 a1 a2 a3 a9 a10 M3)
theorem gX100_trap_118 (a0 : Nat) (a1 : Int32) (a2 : Int32) (a3 : Int64) (a7 : Int64) (a9 : Int32) (a10 : Int32) (M : FM) (T : Ty M) (n_a0 : fm_is M 95 95 a0 = true) (h : HX100_trap_118 a0 a1 a2 a3 a7 a9 a10 M) : gd (FX100_trap_118 a0 a1 a2 a3 a7 a9 a10 M) (GX100_trap_118 a0 a1 a2 a3 a7 a9 a10 M) (OkR M) := by
  delta FX100_trap_118 BX100_trap_118
  refine gd_c n_a0 ?_
  have f0 := (tN_361 T.1 n_a0)
  refine gd_c ⟨f0, h.1⟩ ?_
  exact gd_tR (ext_dL (ext_r _)) (gX100_trap_129 _ _ _ _ _ _ _ ⟨T.1, T.2⟩ n_a0 h.2)
noncomputable def GX100_trap_101 (a0 : Nat) (a1 : Int32) (a2 : Int32) (a3 : Int64) (a5 : Int64) (a7 : Int64) (a9 : Int32) (s0 : Int32) (M : FM) : Int64 × FM :=
  let x1 : Int32 := (s0 + (Int32.ofInt 1))
  let x2 : Nat := (M.2.2 361 a0 0)
  let M3 : FM := fm_sL M 3 x2 x1.toNatClampNeg (a5 &&& (Int64.ofInt (-2)))
  GX100_trap_118 a0 a1 a2 a3 a7 a9 s0 M3
def HX100_trap_101 (a0 : Nat) (a1 : Int32) (a2 : Int32) (a3 : Int64) (a5 : Int64) (a7 : Int64) (a9 : Int32) (s0 : Int32) (M : FM) : Prop := let x1 : Int32 := (s0 + (Int32.ofInt 1)); let x2 : Nat := (M.2.2 361 a0 0); (fm_in M x2 x1 = true ∧ let M3 : FM := fm_sL M 3 x2 x1.toNatClampNeg (a5 &&& (Int64.ofInt (-2))); HX100_trap_118 a0 a1 a2 a3 a7 a9 s0 M3)
theorem gX100_trap_101 (a0 : Nat) (a1 : Int32) (a2 : Int32) (a3 : Int64) (a5 : Int64) (a7 : Int64) (a9 : Int32) (s0 : Int32) (M : FM) (T : Ty M) (n_a0 : fm_is M 95 95 a0 = true) (h : HX100_trap_101 a0 a1 a2 a3 a5 a7 a9 s0 M) : gd (FX100_trap_101 a0 a1 a2 a3 a5 a7 a9 s0 M) (GX100_trap_101 a0 a1 a2 a3 a5 a7 a9 s0 M) (OkR M) := by
  delta FX100_trap_101 BX100_trap_101
  refine gd_c n_a0 ?_
  have f0 := (tN_361 T.1 n_a0)
  refine gd_c ⟨f0, h.1⟩ ?_
  exact gd_tR (ext_dL (ext_r _)) (gX100_trap_118 _ _ _ _ _ _ _ _ ⟨T.1, T.2⟩ n_a0 h.2)
noncomputable def GX100_trap_85 (a0 : Nat) (a1 : Int32) (a2 : Int32) (a3 : Int64) (a5 : Int64) (a7 : Int64) (s0 : Int32) (M : FM) : Int64 × FM :=
  fi (s0 = 0) (
    GX100_trap_101 a0 a1 a2 a3 a5 a7 s0 (Int32.ofInt 832) M) (
    GX100_trap_101 a0 a1 a2 a3 a5 a7 s0 (Int32.ofInt 320) M)
def HX100_trap_85 (a0 : Nat) (a1 : Int32) (a2 : Int32) (a3 : Int64) (a5 : Int64) (a7 : Int64) (s0 : Int32) (M : FM) : Prop := ((s0 = 0 → HX100_trap_101 a0 a1 a2 a3 a5 a7 s0 (Int32.ofInt 832) M) ∧ (¬ (s0 = 0) → HX100_trap_101 a0 a1 a2 a3 a5 a7 s0 (Int32.ofInt 320) M))
theorem gX100_trap_85 (a0 : Nat) (a1 : Int32) (a2 : Int32) (a3 : Int64) (a5 : Int64) (a7 : Int64) (s0 : Int32) (M : FM) (T : Ty M) (n_a0 : fm_is M 95 95 a0 = true) (h : HX100_trap_85 a0 a1 a2 a3 a5 a7 s0 M) : gd (FX100_trap_85 a0 a1 a2 a3 a5 a7 s0 M) (GX100_trap_85 a0 a1 a2 a3 a5 a7 s0 M) (OkR M) := by
  delta FX100_trap_85 BX100_trap_85
  refine gd_fi (fun c0_0 => ?_) (fun c0_0 => ?_)
  · exact gd_tR (ext_r _) (gX100_trap_101 _ _ _ _ _ _ _ _ _ ⟨T.1, T.2⟩ n_a0 (h.1 c0_0))
  · exact gd_tR (ext_r _) (gX100_trap_101 _ _ _ _ _ _ _ _ _ ⟨T.1, T.2⟩ n_a0 (h.2 c0_0))
noncomputable def GX100_trap_84 (a0 : Nat) (a1 : Int32) (a2 : Int32) (a3 : Int64) (a5 : Int64) (a7 : Int64) (M : FM) : Int64 × FM :=
  GX100_trap_85 a0 a1 a2 a3 a5 a7 (Int32.ofInt 0) M
def HX100_trap_84 (a0 : Nat) (a1 : Int32) (a2 : Int32) (a3 : Int64) (a5 : Int64) (a7 : Int64) (M : FM) : Prop := HX100_trap_85 a0 a1 a2 a3 a5 a7 (Int32.ofInt 0) M
theorem gX100_trap_84 (a0 : Nat) (a1 : Int32) (a2 : Int32) (a3 : Int64) (a5 : Int64) (a7 : Int64) (M : FM) (T : Ty M) (n_a0 : fm_is M 95 95 a0 = true) (h : HX100_trap_84 a0 a1 a2 a3 a5 a7 M) : gd (FX100_trap_84 a0 a1 a2 a3 a5 a7 M) (GX100_trap_84 a0 a1 a2 a3 a5 a7 M) (OkR M) := by
  delta FX100_trap_84 BX100_trap_84
  exact gd_tR (ext_r _) (gX100_trap_85 _ _ _ _ _ _ _ _ ⟨T.1, T.2⟩ n_a0 h)
noncomputable def GX100_trap_70 (a0 : Nat) (a1 : Int32) (a2 : Int32) (a3 : Int64) (a5 : Int64) (a7 : Int64) (s0 : Nat) (s1 : Int32) (M : FM) : Int64 × FM :=
  fi ((lg_cmp (((M.2.1 3 s0 s1.toNatClampNeg) >>> (a2.toInt64 &&& 63)) &&& (Int64.ofInt 1)) (Int64.ofInt 1)) = 0) (
    GX100_trap_85 a0 a1 a2 a3 a5 a7 (Int32.ofInt 1) M) (
    GX100_trap_84 a0 a1 a2 a3 a5 a7 M)
def HX100_trap_70 (a0 : Nat) (a1 : Int32) (a2 : Int32) (a3 : Int64) (a5 : Int64) (a7 : Int64) (s0 : Nat) (s1 : Int32) (M : FM) : Prop := (fm_in M s0 s1 = true ∧ (((lg_cmp (((M.2.1 3 s0 s1.toNatClampNeg) >>> (a2.toInt64 &&& 63)) &&& (Int64.ofInt 1)) (Int64.ofInt 1)) = 0 → HX100_trap_85 a0 a1 a2 a3 a5 a7 (Int32.ofInt 1) M) ∧ (¬ ((lg_cmp (((M.2.1 3 s0 s1.toNatClampNeg) >>> (a2.toInt64 &&& 63)) &&& (Int64.ofInt 1)) (Int64.ofInt 1)) = 0) → HX100_trap_84 a0 a1 a2 a3 a5 a7 M)))
theorem gX100_trap_70 (a0 : Nat) (a1 : Int32) (a2 : Int32) (a3 : Int64) (a5 : Int64) (a7 : Int64) (s0 : Nat) (s1 : Int32) (M : FM) (T : Ty M) (n_s0 : fm_is M 902 902 s0 = true) (n_a0 : fm_is M 95 95 a0 = true) (h : HX100_trap_70 a0 a1 a2 a3 a5 a7 s0 s1 M) : gd (FX100_trap_70 a0 a1 a2 a3 a5 a7 s0 s1 M) (GX100_trap_70 a0 a1 a2 a3 a5 a7 s0 s1 M) (OkR M) := by
  delta FX100_trap_70 BX100_trap_70
  refine gd_c ⟨n_s0, h.1⟩ ?_
  refine gd_fi (fun c0_0 => ?_) (fun c0_0 => ?_)
  · exact gd_tR (ext_r _) (gX100_trap_85 _ _ _ _ _ _ _ _ ⟨T.1, T.2⟩ n_a0 (h.2.1 c0_0))
  · exact gd_tR (ext_r _) (gX100_trap_84 _ _ _ _ _ _ _ ⟨T.1, T.2⟩ n_a0 (h.2.2 c0_0))
noncomputable def GX100_trap_43 (a0 : Nat) (a1 : Int32) (a2 : Int32) (a3 : Int64) (a5 : Int64) (s0 : Int64) (M : FM) : Int64 × FM :=
  fi ((Int32.ofInt 3) ≤ (M.1 360 a0 0)) (
    GX100_trap_84 a0 a1 a2 a3 a5 s0 M) (
    fi (a1 = 0) (
      GX100_trap_70 a0 a1 a2 a3 a5 s0 (M.2.2 361 a0 0) (Int32.ofInt 770) M) (
      GX100_trap_70 a0 a1 a2 a3 a5 s0 (M.2.2 361 a0 0) (Int32.ofInt 771) M))
def HX100_trap_43 (a0 : Nat) (a1 : Int32) (a2 : Int32) (a3 : Int64) (a5 : Int64) (s0 : Int64) (M : FM) : Prop := (((Int32.ofInt 3) ≤ (M.1 360 a0 0) → HX100_trap_84 a0 a1 a2 a3 a5 s0 M) ∧ (¬ ((Int32.ofInt 3) ≤ (M.1 360 a0 0)) → ((a1 = 0 → HX100_trap_70 a0 a1 a2 a3 a5 s0 (M.2.2 361 a0 0) (Int32.ofInt 770) M) ∧ (¬ (a1 = 0) → HX100_trap_70 a0 a1 a2 a3 a5 s0 (M.2.2 361 a0 0) (Int32.ofInt 771) M))))
theorem gX100_trap_43 (a0 : Nat) (a1 : Int32) (a2 : Int32) (a3 : Int64) (a5 : Int64) (s0 : Int64) (M : FM) (T : Ty M) (n_a0 : fm_is M 95 95 a0 = true) (h : HX100_trap_43 a0 a1 a2 a3 a5 s0 M) : gd (FX100_trap_43 a0 a1 a2 a3 a5 s0 M) (GX100_trap_43 a0 a1 a2 a3 a5 s0 M) (OkR M) := by
  delta FX100_trap_43 BX100_trap_43
  refine gd_c n_a0 ?_
  refine gd_fi (fun c0_0 => ?_) (fun c0_0 => ?_)
  · exact gd_tR (ext_r _) (gX100_trap_84 _ _ _ _ _ _ _ ⟨T.1, T.2⟩ n_a0 (h.1 c0_0))
  · refine gd_c n_a0 ?_
    refine gd_fi (fun c1_0 => ?_) (fun c1_0 => ?_)
    · have f2 := (tN_361 T.1 n_a0)
      exact gd_tR (ext_r _) (gX100_trap_70 _ _ _ _ _ _ _ _ _ ⟨T.1, T.2⟩ f2 n_a0 ((h.2 c0_0).1 c1_0))
    · have f3 := (tN_361 T.1 n_a0)
      exact gd_tR (ext_r _) (gX100_trap_70 _ _ _ _ _ _ _ _ _ ⟨T.1, T.2⟩ f3 n_a0 ((h.2 c0_0).2 c1_0))
noncomputable def GX100_trap_16 (a0 : Nat) (a1 : Int32) (a2 : Int32) (a3 : Int64) (a5 : Int64) (s0 : Nat) (s1 : Int32) (M : FM) : Int64 × FM :=
  let M1 : FM := fm_sI M 358 s0 0 s1
  fi ((M1.1 358 a0 0) ≤ 0) (
    fi (a1 = 0) (
      GX100_trap_43 a0 a1 a2 a3 a5 a2.toInt64 M1) (
      GX100_trap_43 a0 a1 a2 a3 a5 (a2.toInt64 ||| (Int64.ofInt (-9223372036854775808))) M1)) (
    ((Int64.ofInt 0), M1))
def HX100_trap_16 (a0 : Nat) (a1 : Int32) (a2 : Int32) (a3 : Int64) (a5 : Int64) (s0 : Nat) (s1 : Int32) (M : FM) : Prop := let M1 : FM := fm_sI M 358 s0 0 s1; (((M1.1 358 a0 0) ≤ 0 → ((a1 = 0 → HX100_trap_43 a0 a1 a2 a3 a5 a2.toInt64 M1) ∧ (¬ (a1 = 0) → HX100_trap_43 a0 a1 a2 a3 a5 (a2.toInt64 ||| (Int64.ofInt (-9223372036854775808))) M1))) ∧ (¬ ((M1.1 358 a0 0) ≤ 0) → True))
theorem gX100_trap_16 (a0 : Nat) (a1 : Int32) (a2 : Int32) (a3 : Int64) (a5 : Int64) (s0 : Nat) (s1 : Int32) (M : FM) (T : Ty M) (n_s0 : fm_is M 95 95 s0 = true) (n_a0 : fm_is M 95 95 a0 = true) (h : HX100_trap_16 a0 a1 a2 a3 a5 s0 s1 M) : gd (FX100_trap_16 a0 a1 a2 a3 a5 s0 s1 M) (GX100_trap_16 a0 a1 a2 a3 a5 s0 s1 M) (OkR M) := by
  delta FX100_trap_16 BX100_trap_16
  refine gd_c n_s0 ?_
  refine gd_c n_a0 ?_
  refine gd_fi (fun c0_0 => ?_) (fun c0_0 => ?_)
  · refine gd_fi (fun c1_0 => ?_) (fun c1_0 => ?_)
    · exact gd_tR (ext_dI (ext_r _)) (gX100_trap_43 _ _ _ _ _ _ _ ⟨T.1, (tyb_sI (f := 358) rfl T.2)⟩ n_a0 ((h.1 c0_0).1 c1_0))
    · exact gd_tR (ext_dI (ext_r _)) (gX100_trap_43 _ _ _ _ _ _ _ ⟨T.1, (tyb_sI (f := 358) rfl T.2)⟩ n_a0 ((h.1 c0_0).2 c1_0))
  · exact ⟨rfl, ⟨T.1, (tyb_sI (f := 358) rfl T.2)⟩, (ext_dI (ext_r _))⟩
noncomputable def GX100_trap_11 (a0 : Nat) (a1 : Int32) (a2 : Int32) (a3 : Int64) (a5 : Int64) (s0 : Nat) (M : FM) : Int64 × FM :=
  GX100_trap_16 a0 a1 a2 a3 a5 s0 (Int32.ofInt 1) M
def HX100_trap_11 (a0 : Nat) (a1 : Int32) (a2 : Int32) (a3 : Int64) (a5 : Int64) (s0 : Nat) (M : FM) : Prop := HX100_trap_16 a0 a1 a2 a3 a5 s0 (Int32.ofInt 1) M
theorem gX100_trap_11 (a0 : Nat) (a1 : Int32) (a2 : Int32) (a3 : Int64) (a5 : Int64) (s0 : Nat) (M : FM) (T : Ty M) (n_s0 : fm_is M 95 95 s0 = true) (n_a0 : fm_is M 95 95 a0 = true) (h : HX100_trap_11 a0 a1 a2 a3 a5 s0 M) : gd (FX100_trap_11 a0 a1 a2 a3 a5 s0 M) (GX100_trap_11 a0 a1 a2 a3 a5 s0 M) (OkR M) := by
  delta FX100_trap_11 BX100_trap_11
  exact gd_tR (ext_r _) (gX100_trap_16 _ _ _ _ _ _ _ _ ⟨T.1, T.2⟩ n_s0 n_a0 h)
noncomputable def GX100_trap_0 (a0 : Nat) (a1 : Int32) (a2 : Int32) (a3 : Int64) (a5 : Int64) (M : FM) : Int64 × FM :=
  fi (a2 < 0) (
    GX100_trap_11 a0 a1 a2 a3 a5 a0 M) (
    fi (a2 ≤ (Int32.ofInt 63)) (
      GX100_trap_16 a0 a1 a2 a3 a5 a0 (Int32.ofInt 0) M) (
      GX100_trap_11 a0 a1 a2 a3 a5 a0 M))
def HX100_trap_0 (a0 : Nat) (a1 : Int32) (a2 : Int32) (a3 : Int64) (a5 : Int64) (M : FM) : Prop := ((a2 < 0 → HX100_trap_11 a0 a1 a2 a3 a5 a0 M) ∧ (¬ (a2 < 0) → ((a2 ≤ (Int32.ofInt 63) → HX100_trap_16 a0 a1 a2 a3 a5 a0 (Int32.ofInt 0) M) ∧ (¬ (a2 ≤ (Int32.ofInt 63)) → HX100_trap_11 a0 a1 a2 a3 a5 a0 M))))
theorem gX100_trap_0 (a0 : Nat) (a1 : Int32) (a2 : Int32) (a3 : Int64) (a5 : Int64) (M : FM) (T : Ty M) (n_a0 : fm_is M 95 95 a0 = true) (h : HX100_trap_0 a0 a1 a2 a3 a5 M) : gd (FX100_trap_0 a0 a1 a2 a3 a5 M) (GX100_trap_0 a0 a1 a2 a3 a5 M) (OkR M) := by
  delta FX100_trap_0 BX100_trap_0
  refine gd_fi (fun c0_0 => ?_) (fun c0_0 => ?_)
  · exact gd_tR (ext_r _) (gX100_trap_11 _ _ _ _ _ _ _ ⟨T.1, T.2⟩ n_a0 n_a0 (h.1 c0_0))
  · refine gd_fi (fun c1_0 => ?_) (fun c1_0 => ?_)
    · exact gd_tR (ext_r _) (gX100_trap_16 _ _ _ _ _ _ _ _ ⟨T.1, T.2⟩ n_a0 n_a0 ((h.2 c0_0).1 c1_0))
    · exact gd_tR (ext_r _) (gX100_trap_11 _ _ _ _ _ _ _ ⟨T.1, T.2⟩ n_a0 n_a0 ((h.2 c0_0).2 c1_0))
noncomputable def GX100_trap (a0 : Nat) (a1 : Int32) (a2 : Int32) (a3 : Int64) (a5 : Int64) (M : FM) : Int64 × FM := GX100_trap_0 a0 a1 a2 a3 a5 M
def HX100_trap (a0 : Nat) (a1 : Int32) (a2 : Int32) (a3 : Int64) (a5 : Int64) (M : FM) : Prop := HX100_trap_0 a0 a1 a2 a3 a5 M
theorem gX100_trap (a0 : Nat) (a1 : Int32) (a2 : Int32) (a3 : Int64) (a5 : Int64) (M : FM) (T : Ty M) (n_a0 : fm_is M 95 95 a0 = true) (h : HX100_trap a0 a1 a2 a3 a5 M) : gd (FX100_trap a0 a1 a2 a3 a5 M) (GX100_trap a0 a1 a2 a3 a5 M) (OkR M) := gX100_trap_0 a0 a1 a2 a3 a5 M T n_a0 h
noncomputable def GX100_count_0 (a0 : Nat) (a1 : Int64) (a3 : Int64) (M : FM) : FM :=
  let M1 : FM := fm_sI M 358 a0 0 (Int32.ofInt 0)
  let x2 : Nat := (M1.2.2 361 a0 0)
  let x3 : Nat := (M1.2.2 361 a0 0)
  let M4 : FM := fm_sL M1 3 x3 (Int32.ofInt 2816).toNatClampNeg ((M1.2.1 3 x2 (Int32.ofInt 2816).toNatClampNeg) + a1)
  let x5 : Nat := (M4.2.2 361 a0 0)
  let x6 : Nat := (M4.2.2 361 a0 0)
  let M7 : FM := fm_sL M4 3 x6 (Int32.ofInt 2818).toNatClampNeg ((M4.2.1 3 x5 (Int32.ofInt 2818).toNatClampNeg) + a3)
  M7
theorem gX100_count_0 (a0 : Nat) (a1 : Int64) (a3 : Int64) (M : FM) (T : Ty M) (n_a0 : fm_is M 95 95 a0 = true) : gd (FX100_count_0 a0 a1 a3 M) (GX100_count_0 a0 a1 a3 M) (OkV M) := by
  delta FX100_count_0 BX100_count_0
  refine gd_c n_a0 ?_
  refine gd_c n_a0 ?_
  refine gd_c n_a0 ?_
  have f6 := (tN_361 T.1 n_a0)
  have f7 := (fm_inl (i := (Int32.ofInt 2816)) (tL_361 T.1 n_a0) (by decide))
  refine gd_c ⟨f6, f7⟩ ?_
  have f0 := (tN_361 T.1 n_a0)
  have f1 := (fm_inl (i := (Int32.ofInt 2816)) (tL_361 T.1 n_a0) (by decide))
  refine gd_c ⟨f0, f1⟩ ?_
  refine gd_c n_a0 ?_
  refine gd_c n_a0 ?_
  have f4 := (tN_361 T.1 n_a0)
  have f5 := (fm_inl (i := (Int32.ofInt 2818)) (tL_361 T.1 n_a0) (by decide))
  refine gd_c ⟨f4, f5⟩ ?_
  have f2 := (tN_361 T.1 n_a0)
  have f3 := (fm_inl (i := (Int32.ofInt 2818)) (tL_361 T.1 n_a0) (by decide))
  refine gd_c ⟨f2, f3⟩ ?_
  exact ⟨rfl, ⟨T.1, (tyb_sI (f := 358) rfl T.2)⟩, (ext_dI (ext_dL (ext_dL (ext_r _))))⟩
noncomputable def GX100_count (a0 : Nat) (a1 : Int64) (a3 : Int64) (M : FM) : FM := GX100_count_0 a0 a1 a3 M
theorem gX100_count (a0 : Nat) (a1 : Int64) (a3 : Int64) (M : FM) (T : Ty M) (n_a0 : fm_is M 95 95 a0 = true) : gd (FX100_count a0 a1 a3 M) (GX100_count a0 a1 a3 M) (OkV M) := gX100_count_0 a0 a1 a3 M T n_a0 
noncomputable def GX92_step_117 (M : FM) : FM :=
  M
theorem gX92_step_117 (M : FM) (T : Ty M) : gd (FX92_step_117 fN M) (GX92_step_117 M) (OkV M) := by
  delta FX92_step_117 BX92_step_117
  exact ⟨rfl, ⟨T.1, T.2⟩, (ext_r _)⟩
noncomputable def GX92_step_96 (a0 : Nat) (a2 : Nat) (a3 : Nat) (M : FM) : FM :=
  let r1 : Int64 × FM := GX98_counter a2 M
  let r2 : Int64 × FM := GX100_trap a3 (Int32.ofInt 0) (M.1 320 a0 0) (M.2.1 321 a0 0) r1.1 r1.2
  let M3 : FM := GX98_jump a2 r2.1 r2.2
  GX92_step_117 M3
def HX92_step_96 (a0 : Nat) (a2 : Nat) (a3 : Nat) (M : FM) : Prop := let r1 : Int64 × FM := GX98_counter a2 M; (HX100_trap a3 (Int32.ofInt 0) (M.1 320 a0 0) (M.2.1 321 a0 0) r1.1 r1.2 ∧ True)
theorem gX92_step_96 (a0 : Nat) (a2 : Nat) (a3 : Nat) (M : FM) (T : Ty M) (n_a0 : fm_is M 92 92 a0 = true) (n_a2 : fm_is M 94 94 a2 = true) (n_a3 : fm_is M 95 95 a3 = true) (h : HX92_step_96 a0 a2 a3 M) : gd (FX92_step_96 fN a0 a2 a3 M) (GX92_step_96 a0 a2 a3 M) (OkV M) := by
  delta FX92_step_96 BX92_step_96
  refine gd_c n_a0 ?_
  refine gd_c n_a0 ?_
  refine gd_c n_a2 ?_
  refine gd_b (gX98_counter _ _ ⟨T.1, T.2⟩ n_a2 ) (fun K0 => ?_)
  have f1 := (ext_is K0.2 (Nat.zero_lt_succ _) n_a3)
  refine gd_c f1 ?_
  have f6 := (ext_is K0.2 (Nat.zero_lt_succ _) n_a3)
  refine gd_b (gX100_trap _ _ _ _ _ _ ⟨K0.1.1, K0.1.2⟩ f6 h.1) (fun K2 => ?_)
  have f3 := (ext_is K2.2 (Nat.zero_lt_succ _) (ext_is K0.2 (Nat.zero_lt_succ _) n_a2))
  refine gd_c f3 ?_
  have f5 := (ext_is K2.2 (Nat.zero_lt_succ _) (ext_is K0.2 (Nat.zero_lt_succ _) n_a2))
  refine gd_b (gX98_jump _ _ _ ⟨K2.1.1, K2.1.2⟩ f5 ) (fun K4 => ?_)
  exact gd_tV (ext_tr K0.2 (ext_tr K2.2 K4.2)) (gX92_step_117  _ ⟨K4.1.1, K4.1.2⟩  )
noncomputable def GX92_step_36 (a0 : Nat) (a1 : Int32) (a2 : Nat) (a3 : Nat) (M : FM) : FM :=
  let x1 : Nat := (M.2.2 307 a0 0)
  let M2 : FM := fm_sI M 3 x1 a1.toNatClampNeg ((Int32.ofInt 0) &&& 1)
  let r3 : Int32 × FM := GX100_taken a3 M2
  fi (r3.1 < 0) (
    let r4 : Int32 × FM := GX92_fetch a0 a1 r3.2
    fi (r4.1 = 0) (
      GX92_step_96 a0 a2 a3 r4.2) (
      let r5 : Int32 × FM := GX92_carries a0 a1 r4.2
      fi (r5.1 = 0) (
        GX92_step_96 a0 a2 a3 r5.2) (
        let M6 : FM := GX100_count a3 (Int64.ofInt 0) (Int64.ofInt 1) r5.2
        GX92_step_117 M6))) (
    let r7 : Int64 × FM := GX98_counter a2 r3.2
    let r8 : Int64 × FM := GX100_trap a3 (Int32.ofInt 1) r3.1 (Int64.ofInt 0) r7.1 r7.2
    let M9 : FM := GX98_jump a2 r8.1 r8.2
    M9)
def HX92_step_36 (a0 : Nat) (a1 : Int32) (a2 : Nat) (a3 : Nat) (M : FM) : Prop := let x1 : Nat := (M.2.2 307 a0 0); (fm_in M x1 a1 = true ∧ let M2 : FM := fm_sI M 3 x1 a1.toNatClampNeg ((Int32.ofInt 0) &&& 1); (HX100_taken a3 M2 ∧ let r3 : Int32 × FM := GX100_taken a3 M2; ((r3.1 < 0 → (HX92_fetch a0 a1 r3.2 ∧ let r4 : Int32 × FM := GX92_fetch a0 a1 r3.2; ((r4.1 = 0 → HX92_step_96 a0 a2 a3 r4.2) ∧ (¬ (r4.1 = 0) → (HX92_carries a0 a1 r4.2 ∧ let r5 : Int32 × FM := GX92_carries a0 a1 r4.2; ((r5.1 = 0 → HX92_step_96 a0 a2 a3 r5.2) ∧ (¬ (r5.1 = 0) → True))))))) ∧ (¬ (r3.1 < 0) → let r7 : Int64 × FM := GX98_counter a2 r3.2; (HX100_trap a3 (Int32.ofInt 1) r3.1 (Int64.ofInt 0) r7.1 r7.2 ∧ True)))))
theorem gX92_step_36 (a0 : Nat) (a1 : Int32) (a2 : Nat) (a3 : Nat) (M : FM) (T : Ty M) (n_a0 : fm_is M 92 92 a0 = true) (n_a3 : fm_is M 95 95 a3 = true) (n_a2 : fm_is M 94 94 a2 = true) (h : HX92_step_36 a0 a1 a2 a3 M) : gd (FX92_step_36 fN a0 a1 a2 a3 M) (GX92_step_36 a0 a1 a2 a3 M) (OkV M) := by
  delta FX92_step_36 BX92_step_36
  refine gd_c n_a0 ?_
  have f0 := (tN_307 T.1 n_a0)
  refine gd_c ⟨f0, h.1⟩ ?_
  refine gd_c n_a3 ?_
  refine gd_b (gX100_taken _ _ ⟨T.1, (tyb_s4 T.2)⟩ n_a3 h.2.1) (fun K1 => ?_)
  refine gd_fi (fun c2_0 => ?_) (fun c2_0 => ?_)
  · have f3 := (ext_is K1.2 (Nat.zero_lt_succ _) n_a0)
    refine gd_c f3 ?_
    have f19 := (ext_is K1.2 (Nat.zero_lt_succ _) n_a0)
    refine gd_b (gX92_fetch _ _ _ ⟨K1.1.1, K1.1.2⟩ f19 (h.2.2.1 c2_0).1) (fun K4 => ?_)
    refine gd_fi (fun c5_0 => ?_) (fun c5_0 => ?_)
    · have f6 := (ext_is K4.2.1 (Nat.zero_lt_succ _) (ext_is K1.2 (Nat.zero_lt_succ _) n_a0))
      have f7 := (ext_is K4.2.1 (Nat.zero_lt_succ _) (ext_is K1.2 (Nat.zero_lt_succ _) n_a2))
      have f8 := (ext_is K4.2.1 (Nat.zero_lt_succ _) (ext_is K1.2 (Nat.zero_lt_succ _) n_a3))
      exact gd_tV (ext_dI (ext_tr K1.2 K4.2.1)) (gX92_step_96 _ _ _ _ ⟨K4.1.1, K4.1.2⟩ f6 f7 f8 ((h.2.2.1 c2_0).2.1 c5_0))
    · have f9 := (ext_is K4.2.1 (Nat.zero_lt_succ _) (ext_is K1.2 (Nat.zero_lt_succ _) n_a0))
      refine gd_c f9 ?_
      have f18 := (ext_is K4.2.1 (Nat.zero_lt_succ _) (ext_is K1.2 (Nat.zero_lt_succ _) n_a0))
      refine gd_b (gX92_carries _ _ _ ⟨K4.1.1, K4.1.2⟩ f18 ((h.2.2.1 c2_0).2.2 c5_0).1) (fun K10 => ?_)
      refine gd_fi (fun c11_0 => ?_) (fun c11_0 => ?_)
      · have f12 := (ext_is K10.2.1 (Nat.zero_lt_succ _) (ext_is K4.2.1 (Nat.zero_lt_succ _) (ext_is K1.2 (Nat.zero_lt_succ _) n_a0)))
        have f13 := (ext_is K10.2.1 (Nat.zero_lt_succ _) (ext_is K4.2.1 (Nat.zero_lt_succ _) (ext_is K1.2 (Nat.zero_lt_succ _) n_a2)))
        have f14 := (ext_is K10.2.1 (Nat.zero_lt_succ _) (ext_is K4.2.1 (Nat.zero_lt_succ _) (ext_is K1.2 (Nat.zero_lt_succ _) n_a3)))
        exact gd_tV (ext_dI (ext_tr K1.2 (ext_tr K4.2.1 K10.2.1))) (gX92_step_96 _ _ _ _ ⟨K10.1.1, K10.1.2⟩ f12 f13 f14 (((h.2.2.1 c2_0).2.2 c5_0).2.1 c11_0))
      · have f15 := (ext_is K10.2.1 (Nat.zero_lt_succ _) (ext_is K4.2.1 (Nat.zero_lt_succ _) (ext_is K1.2 (Nat.zero_lt_succ _) n_a3)))
        refine gd_c f15 ?_
        have f17 := (ext_is K10.2.1 (Nat.zero_lt_succ _) (ext_is K4.2.1 (Nat.zero_lt_succ _) (ext_is K1.2 (Nat.zero_lt_succ _) n_a3)))
        refine gd_b (gX100_count _ _ _ _ ⟨K10.1.1, K10.1.2⟩ f17 ) (fun K16 => ?_)
        exact gd_tV (ext_dI (ext_tr K1.2 (ext_tr K4.2.1 (ext_tr K10.2.1 K16.2)))) (gX92_step_117  _ ⟨K16.1.1, K16.1.2⟩  )
  · have f20 := (ext_is K1.2 (Nat.zero_lt_succ _) n_a2)
    refine gd_c f20 ?_
    have f28 := (ext_is K1.2 (Nat.zero_lt_succ _) n_a2)
    refine gd_b (gX98_counter _ _ ⟨K1.1.1, K1.1.2⟩ f28 ) (fun K21 => ?_)
    have f22 := (ext_is K21.2 (Nat.zero_lt_succ _) (ext_is K1.2 (Nat.zero_lt_succ _) n_a3))
    refine gd_c f22 ?_
    have f27 := (ext_is K21.2 (Nat.zero_lt_succ _) (ext_is K1.2 (Nat.zero_lt_succ _) n_a3))
    refine gd_b (gX100_trap _ _ _ _ _ _ ⟨K21.1.1, K21.1.2⟩ f27 (h.2.2.2 c2_0).1) (fun K23 => ?_)
    have f24 := (ext_is K23.2 (Nat.zero_lt_succ _) (ext_is K21.2 (Nat.zero_lt_succ _) (ext_is K1.2 (Nat.zero_lt_succ _) n_a2)))
    refine gd_c f24 ?_
    have f26 := (ext_is K23.2 (Nat.zero_lt_succ _) (ext_is K21.2 (Nat.zero_lt_succ _) (ext_is K1.2 (Nat.zero_lt_succ _) n_a2)))
    refine gd_b (gX98_jump _ _ _ ⟨K23.1.1, K23.1.2⟩ f26 ) (fun K25 => ?_)
    exact ⟨rfl, ⟨K25.1.1, K25.1.2⟩, (ext_dI (ext_tr K1.2 (ext_tr K21.2 (ext_tr K23.2 K25.2))))⟩
noncomputable def GX92_step_0 (a0 : Nat) (a1 : Int32) (M : FM) : FM :=
  let x1 : Nat := (M.2.2 303 a0 0)
  let x2 : Nat := (M.2.2 3 x1 a1.toNatClampNeg)
  let x3 : Nat := (M.2.2 305 a0 0)
  let x4 : Nat := (M.2.2 3 x3 a1.toNatClampNeg)
  let M5 : FM := GX92_tell a0 a1 M
  let x6 : Nat := (M5.2.2 307 a0 0)
  fi ((M5.1 3 x6 a1.toNatClampNeg) = 0) (
    GX92_step_36 a0 a1 x2 x4 M5) (
    let r7 : Int32 × FM := GX100_wakes x4 M5
    fi (r7.1 = 0) (
      r7.2) (
      GX92_step_36 a0 a1 x2 x4 r7.2))
def HX92_step_0 (a0 : Nat) (a1 : Int32) (M : FM) : Prop := let x1 : Nat := (M.2.2 303 a0 0); (fm_in M x1 a1 = true ∧ let x2 : Nat := (M.2.2 3 x1 a1.toNatClampNeg); let x3 : Nat := (M.2.2 305 a0 0); (fm_in M x3 a1 = true ∧ let x4 : Nat := (M.2.2 3 x3 a1.toNatClampNeg); (HX92_tell a0 a1 M ∧ let M5 : FM := GX92_tell a0 a1 M; let x6 : Nat := (M5.2.2 307 a0 0); (fm_in M5 x6 a1 = true ∧ (((M5.1 3 x6 a1.toNatClampNeg) = 0 → (fm_is M5 95 95 x4 = true ∧ fm_is M5 94 94 x2 = true ∧ HX92_step_36 a0 a1 x2 x4 M5)) ∧ (¬ ((M5.1 3 x6 a1.toNatClampNeg) = 0) → (fm_is M5 95 95 x4 = true ∧ (HX100_wakes x4 M5 ∧ let r7 : Int32 × FM := GX100_wakes x4 M5; ((r7.1 = 0 → True) ∧ (¬ (r7.1 = 0) → (fm_is r7.2 95 95 x4 = true ∧ fm_is r7.2 94 94 x2 = true ∧ HX92_step_36 a0 a1 x2 x4 r7.2)))))))))))
theorem gX92_step_0 (a0 : Nat) (a1 : Int32) (M : FM) (T : Ty M) (n_a0 : fm_is M 92 92 a0 = true) (h : HX92_step_0 a0 a1 M) : gd (FX92_step_0 fN a0 a1 M) (GX92_step_0 a0 a1 M) (OkV M) := by
  delta FX92_step_0 BX92_step_0
  refine gd_c n_a0 ?_
  have f11 := (fm_w (lo' := 910) (hi' := 990) rfl rfl (tN_303 T.1 n_a0))
  refine gd_c ⟨f11, h.1⟩ ?_
  refine gd_c n_a0 ?_
  have f10 := (fm_w (lo' := 910) (hi' := 990) rfl rfl (tN_305 T.1 n_a0))
  refine gd_c ⟨f10, h.2.1⟩ ?_
  refine gd_c n_a0 ?_
  refine gd_b (gX92_tell _ _ _ h.2.2.1) (fun K0 => ?_)
  have f1 := (ext_is K0.2 (Nat.zero_lt_succ _) n_a0)
  refine gd_c f1 ?_
  have f9 := (tN_307 K0.1.1 (ext_is K0.2 (Nat.zero_lt_succ _) n_a0))
  refine gd_c ⟨f9, h.2.2.2.1⟩ ?_
  refine gd_fi (fun c2_0 => ?_) (fun c2_0 => ?_)
  · have f3 := (ext_is K0.2 (Nat.zero_lt_succ _) n_a0)
    exact gd_tV K0.2 (gX92_step_36 _ _ _ _ _ ⟨K0.1.1, K0.1.2⟩ f3 (h.2.2.2.2.1 c2_0).1 (h.2.2.2.2.1 c2_0).2.1 (h.2.2.2.2.1 c2_0).2.2)
  · refine gd_c (h.2.2.2.2.2 c2_0).1 ?_
    refine gd_b (gX100_wakes _ _ ⟨K0.1.1, K0.1.2⟩ (h.2.2.2.2.2 c2_0).1 (h.2.2.2.2.2 c2_0).2.1) (fun K4 => ?_)
    refine gd_fi (fun c5_0 => ?_) (fun c5_0 => ?_)
    · exact ⟨rfl, ⟨K4.1.1, K4.1.2⟩, (ext_tr K0.2 K4.2.1)⟩
    · have f6 := (ext_is K4.2.1 (Nat.zero_lt_succ _) (ext_is K0.2 (Nat.zero_lt_succ _) n_a0))
      have f7 := ((h.2.2.2.2.2 c2_0).2.2.2 c5_0).1
      have f8 := ((h.2.2.2.2.2 c2_0).2.2.2 c5_0).2.1
      exact gd_tV (ext_tr K0.2 K4.2.1) (gX92_step_36 _ _ _ _ _ ⟨K4.1.1, K4.1.2⟩ f6 f7 f8 ((h.2.2.2.2.2 c2_0).2.2.2 c5_0).2.2)
noncomputable def GX92_step (a0 : Nat) (a1 : Int32) (M : FM) : FM := GX92_step_0 a0 a1 M
def HX92_step (a0 : Nat) (a1 : Int32) (M : FM) : Prop := HX92_step_0 a0 a1 M
theorem gX92_step (a0 : Nat) (a1 : Int32) (M : FM) (T : Ty M) (n_a0 : fm_is M 92 92 a0 = true) (h : HX92_step a0 a1 M) : gd (FX92_step fN a0 a1 M) (GX92_step a0 a1 M) (OkV M) := gX92_step_0 a0 a1 M T n_a0 h
noncomputable def GX98_get_33 (s0 : Int64) (M : FM) : Int64 × FM :=
  (s0, M)
theorem gX98_get_33 (s0 : Int64) (M : FM) (T : Ty M) : gd (FX98_get_33 s0 M) (GX98_get_33 s0 M) (OkR M) := by
  delta FX98_get_33 BX98_get_33
  exact ⟨rfl, ⟨T.1, T.2⟩, (ext_r _)⟩
noncomputable def GX98_get_13 (a0 : Nat) (a1 : Int32) (s0 : Nat) (s1 : Int32) (M : FM) : Int64 × FM :=
  let M1 : FM := fm_sI M 345 s0 0 s1
  fi ((M1.1 345 a0 0) = 0) (
    let x2 : Nat := (M1.2.2 346 a0 0)
    GX98_get_33 (M1.2.1 3 x2 a1.toNatClampNeg) M1) (
    GX98_get_33 (Int64.ofInt 0) M1)
def HX98_get_13 (a0 : Nat) (a1 : Int32) (s0 : Nat) (s1 : Int32) (M : FM) : Prop := let M1 : FM := fm_sI M 345 s0 0 s1; (((M1.1 345 a0 0) = 0 → let x2 : Nat := (M1.2.2 346 a0 0); (fm_in M1 x2 a1 = true ∧ True)) ∧ (¬ ((M1.1 345 a0 0) = 0) → True))
theorem gX98_get_13 (a0 : Nat) (a1 : Int32) (s0 : Nat) (s1 : Int32) (M : FM) (T : Ty M) (n_s0 : fm_is M 94 94 s0 = true) (n_a0 : fm_is M 94 94 a0 = true) (h : HX98_get_13 a0 a1 s0 s1 M) : gd (FX98_get_13 a0 a1 s0 s1 M) (GX98_get_13 a0 a1 s0 s1 M) (OkR M) := by
  delta FX98_get_13 BX98_get_13
  refine gd_c n_s0 ?_
  refine gd_c n_a0 ?_
  refine gd_fi (fun c0_0 => ?_) (fun c0_0 => ?_)
  · refine gd_c n_a0 ?_
    have f1 := (tN_346 T.1 n_a0)
    refine gd_c ⟨f1, (h.1 c0_0).1⟩ ?_
    exact gd_tR (ext_dI (ext_r _)) (gX98_get_33 _ _ ⟨T.1, (tyb_sI (f := 345) rfl T.2)⟩  )
  · exact gd_tR (ext_dI (ext_r _)) (gX98_get_33 _ _ ⟨T.1, (tyb_sI (f := 345) rfl T.2)⟩  )
noncomputable def GX98_get_0 (a0 : Nat) (a1 : Int32) (M : FM) : Int64 × FM :=
  let r1 : Int32 × FM := GX98_isRegister a1 M
  fi (r1.1 = 0) (
    GX98_get_13 a0 a1 a0 (Int32.ofInt 1) r1.2) (
    GX98_get_13 a0 a1 a0 (Int32.ofInt 0) r1.2)
def HX98_get_0 (a0 : Nat) (a1 : Int32) (M : FM) : Prop := let r1 : Int32 × FM := GX98_isRegister a1 M; ((r1.1 = 0 → HX98_get_13 a0 a1 a0 (Int32.ofInt 1) r1.2) ∧ (¬ (r1.1 = 0) → HX98_get_13 a0 a1 a0 (Int32.ofInt 0) r1.2))
theorem gX98_get_0 (a0 : Nat) (a1 : Int32) (M : FM) (T : Ty M) (n_a0 : fm_is M 94 94 a0 = true) (h : HX98_get_0 a0 a1 M) : gd (FX98_get_0 a0 a1 M) (GX98_get_0 a0 a1 M) (OkR M) := by
  delta FX98_get_0 BX98_get_0
  refine gd_b (gX98_isRegister _ _ ⟨T.1, T.2⟩  ) (fun K0 => ?_)
  refine gd_fi (fun c1_0 => ?_) (fun c1_0 => ?_)
  · have f2 := (ext_is K0.2.1 (Nat.zero_lt_succ _) n_a0)
    have f3 := (ext_is K0.2.1 (Nat.zero_lt_succ _) n_a0)
    exact gd_tR K0.2.1 (gX98_get_13 _ _ _ _ _ ⟨K0.1.1, K0.1.2⟩ f2 f3 (h.1 c1_0))
  · have f4 := (ext_is K0.2.1 (Nat.zero_lt_succ _) n_a0)
    have f5 := (ext_is K0.2.1 (Nat.zero_lt_succ _) n_a0)
    exact gd_tR K0.2.1 (gX98_get_13 _ _ _ _ _ ⟨K0.1.1, K0.1.2⟩ f4 f5 (h.2 c1_0))
noncomputable def GX98_get (a0 : Nat) (a1 : Int32) (M : FM) : Int64 × FM := GX98_get_0 a0 a1 M
def HX98_get (a0 : Nat) (a1 : Int32) (M : FM) : Prop := HX98_get_0 a0 a1 M
theorem gX98_get (a0 : Nat) (a1 : Int32) (M : FM) (T : Ty M) (n_a0 : fm_is M 94 94 a0 = true) (h : HX98_get a0 a1 M) : gd (FX98_get a0 a1 M) (GX98_get a0 a1 M) (OkR M) := gX98_get_0 a0 a1 M T n_a0 h
noncomputable def GX92_check_133 (s0 : Nat) (s1 : Int64) (M : FM) : FM :=
  let M1 : FM := fm_sL M 316 s0 0 s1
  M1
theorem gX92_check_133 (s0 : Nat) (s1 : Int64) (M : FM) (T : Ty M) (n_s0 : fm_is M 92 92 s0 = true) : gd (FX92_check_133 s0 s1 M) (GX92_check_133 s0 s1 M) (OkV M) := by
  delta FX92_check_133 BX92_check_133
  refine gd_c n_s0 ?_
  exact ⟨rfl, ⟨T.1, T.2⟩, (ext_dL (ext_r _))⟩
noncomputable def GX92_check_103 (a0 : Nat) (a1 : Int32) (s0 : Nat) (s1 : Int64) (M : FM) : FM :=
  let M1 : FM := fm_sL M 316 s0 0 s1
  let x2 : Nat := (M1.2.2 305 a0 0)
  let x3 : Nat := (M1.2.2 3 x2 a1.toNatClampNeg)
  let r4 : Int32 × FM := GX100_below x3 M1
  fi (r4.1 = (Int32.ofInt 2)) (
    GX92_check_133 a0 ((r4.2.2.1 316 a0 0) + (Int64.ofInt 1)) r4.2) (
    GX92_check_133 a0 (r4.2.2.1 316 a0 0) r4.2)
def HX92_check_103 (a0 : Nat) (a1 : Int32) (s0 : Nat) (s1 : Int64) (M : FM) : Prop := let M1 : FM := fm_sL M 316 s0 0 s1; let x2 : Nat := (M1.2.2 305 a0 0); (fm_in M1 x2 a1 = true ∧ let x3 : Nat := (M1.2.2 3 x2 a1.toNatClampNeg); (fm_is M1 95 95 x3 = true ∧ True))
theorem gX92_check_103 (a0 : Nat) (a1 : Int32) (s0 : Nat) (s1 : Int64) (M : FM) (T : Ty M) (n_s0 : fm_is M 92 92 s0 = true) (n_a0 : fm_is M 92 92 a0 = true) (h : HX92_check_103 a0 a1 s0 s1 M) : gd (FX92_check_103 a0 a1 s0 s1 M) (GX92_check_103 a0 a1 s0 s1 M) (OkV M) := by
  delta FX92_check_103 BX92_check_103
  refine gd_c n_s0 ?_
  refine gd_c n_a0 ?_
  have f6 := (fm_w (lo' := 910) (hi' := 990) rfl rfl (tN_305 T.1 n_a0))
  refine gd_c ⟨f6, h.1⟩ ?_
  refine gd_c h.2.1 ?_
  refine gd_b (gX100_below _ _ ⟨T.1, T.2⟩ h.2.1 ) (fun K0 => ?_)
  refine gd_fi (fun c1_0 => ?_) (fun c1_0 => ?_)
  · have f2 := (ext_is K0.2 (Nat.zero_lt_succ _) n_a0)
    refine gd_c f2 ?_
    have f3 := (ext_is K0.2 (Nat.zero_lt_succ _) n_a0)
    exact gd_tV (ext_dL K0.2) (gX92_check_133 _ _ _ ⟨K0.1.1, K0.1.2⟩ f3 )
  · have f4 := (ext_is K0.2 (Nat.zero_lt_succ _) n_a0)
    refine gd_c f4 ?_
    have f5 := (ext_is K0.2 (Nat.zero_lt_succ _) n_a0)
    exact gd_tV (ext_dL K0.2) (gX92_check_133 _ _ _ ⟨K0.1.1, K0.1.2⟩ f5 )
noncomputable def GX92_check_99 (a0 : Nat) (a1 : Int32) (s0 : Nat) (M : FM) : FM :=
  GX92_check_103 a0 a1 s0 (M.2.1 316 a0 0) M
def HX92_check_99 (a0 : Nat) (a1 : Int32) (s0 : Nat) (M : FM) : Prop := HX92_check_103 a0 a1 s0 (M.2.1 316 a0 0) M
theorem gX92_check_99 (a0 : Nat) (a1 : Int32) (s0 : Nat) (M : FM) (T : Ty M) (n_a0 : fm_is M 92 92 a0 = true) (n_s0 : fm_is M 92 92 s0 = true) (h : HX92_check_99 a0 a1 s0 M) : gd (FX92_check_99 a0 a1 s0 M) (GX92_check_99 a0 a1 s0 M) (OkV M) := by
  delta FX92_check_99 BX92_check_99
  refine gd_c n_a0 ?_
  exact gd_tV (ext_r _) (gX92_check_103 _ _ _ _ _ ⟨T.1, T.2⟩ n_s0 n_a0 h)
noncomputable def GX92_check_72 (a0 : Nat) (a1 : Int32) (a2 : Int32) (s0 : Nat) (s1 : Int64) (M : FM) : FM :=
  let M1 : FM := fm_sL M 316 s0 0 s1
  fi (a2 = 0) (
    GX92_check_99 a0 a1 a0 M1) (
    fi (a2 = (Int32.ofInt 1)) (
      GX92_check_99 a0 a1 a0 M1) (
      fi (a2 = (Int32.ofInt 3)) (
        GX92_check_99 a0 a1 a0 M1) (
        GX92_check_103 a0 a1 a0 ((M1.2.1 316 a0 0) + (Int64.ofInt 1)) M1)))
def HX92_check_72 (a0 : Nat) (a1 : Int32) (a2 : Int32) (s0 : Nat) (s1 : Int64) (M : FM) : Prop := let M1 : FM := fm_sL M 316 s0 0 s1; ((a2 = 0 → HX92_check_99 a0 a1 a0 M1) ∧ (¬ (a2 = 0) → ((a2 = (Int32.ofInt 1) → HX92_check_99 a0 a1 a0 M1) ∧ (¬ (a2 = (Int32.ofInt 1)) → ((a2 = (Int32.ofInt 3) → HX92_check_99 a0 a1 a0 M1) ∧ (¬ (a2 = (Int32.ofInt 3)) → HX92_check_103 a0 a1 a0 ((M1.2.1 316 a0 0) + (Int64.ofInt 1)) M1))))))
theorem gX92_check_72 (a0 : Nat) (a1 : Int32) (a2 : Int32) (s0 : Nat) (s1 : Int64) (M : FM) (T : Ty M) (n_s0 : fm_is M 92 92 s0 = true) (n_a0 : fm_is M 92 92 a0 = true) (h : HX92_check_72 a0 a1 a2 s0 s1 M) : gd (FX92_check_72 a0 a1 a2 s0 s1 M) (GX92_check_72 a0 a1 a2 s0 s1 M) (OkV M) := by
  delta FX92_check_72 BX92_check_72
  refine gd_c n_s0 ?_
  refine gd_fi (fun c0_0 => ?_) (fun c0_0 => ?_)
  · exact gd_tV (ext_dL (ext_r _)) (gX92_check_99 _ _ _ _ ⟨T.1, T.2⟩ n_a0 n_a0 (h.1 c0_0))
  · refine gd_fi (fun c1_0 => ?_) (fun c1_0 => ?_)
    · exact gd_tV (ext_dL (ext_r _)) (gX92_check_99 _ _ _ _ ⟨T.1, T.2⟩ n_a0 n_a0 ((h.2 c0_0).1 c1_0))
    · refine gd_fi (fun c2_0 => ?_) (fun c2_0 => ?_)
      · exact gd_tV (ext_dL (ext_r _)) (gX92_check_99 _ _ _ _ ⟨T.1, T.2⟩ n_a0 n_a0 (((h.2 c0_0).2 c1_0).1 c2_0))
      · refine gd_c n_a0 ?_
        exact gd_tV (ext_dL (ext_r _)) (gX92_check_103 _ _ _ _ _ ⟨T.1, T.2⟩ n_a0 n_a0 (((h.2 c0_0).2 c1_0).2 c2_0))
noncomputable def GX92_check_39 (a0 : Nat) (a1 : Int32) (a2 : Int32) (s0 : Nat) (s1 : Int64) (M : FM) : FM :=
  let M1 : FM := fm_sL M 316 s0 0 s1
  let x2 : Nat := (M1.2.2 303 a0 0)
  let x3 : Nat := (M1.2.2 3 x2 a1.toNatClampNeg)
  let r4 : Int64 × FM := GX98_counter x3 M1
  fi ((lg_cmp (r4.1 &&& (Int64.ofInt 1)) (Int64.ofInt 0)) = 0) (
    GX92_check_72 a0 a1 a2 a0 (r4.2.2.1 316 a0 0) r4.2) (
    GX92_check_72 a0 a1 a2 a0 ((r4.2.2.1 316 a0 0) + (Int64.ofInt 1)) r4.2)
def HX92_check_39 (a0 : Nat) (a1 : Int32) (a2 : Int32) (s0 : Nat) (s1 : Int64) (M : FM) : Prop := let M1 : FM := fm_sL M 316 s0 0 s1; let x2 : Nat := (M1.2.2 303 a0 0); (fm_in M1 x2 a1 = true ∧ let x3 : Nat := (M1.2.2 3 x2 a1.toNatClampNeg); (fm_is M1 94 94 x3 = true ∧ let r4 : Int64 × FM := GX98_counter x3 M1; (((lg_cmp (r4.1 &&& (Int64.ofInt 1)) (Int64.ofInt 0)) = 0 → HX92_check_72 a0 a1 a2 a0 (r4.2.2.1 316 a0 0) r4.2) ∧ (¬ ((lg_cmp (r4.1 &&& (Int64.ofInt 1)) (Int64.ofInt 0)) = 0) → HX92_check_72 a0 a1 a2 a0 ((r4.2.2.1 316 a0 0) + (Int64.ofInt 1)) r4.2))))
theorem gX92_check_39 (a0 : Nat) (a1 : Int32) (a2 : Int32) (s0 : Nat) (s1 : Int64) (M : FM) (T : Ty M) (n_s0 : fm_is M 92 92 s0 = true) (n_a0 : fm_is M 92 92 a0 = true) (h : HX92_check_39 a0 a1 a2 s0 s1 M) : gd (FX92_check_39 a0 a1 a2 s0 s1 M) (GX92_check_39 a0 a1 a2 s0 s1 M) (OkV M) := by
  delta FX92_check_39 BX92_check_39
  refine gd_c n_s0 ?_
  refine gd_c n_a0 ?_
  have f8 := (fm_w (lo' := 910) (hi' := 990) rfl rfl (tN_303 T.1 n_a0))
  refine gd_c ⟨f8, h.1⟩ ?_
  refine gd_c h.2.1 ?_
  refine gd_b (gX98_counter _ _ ⟨T.1, T.2⟩ h.2.1 ) (fun K0 => ?_)
  refine gd_fi (fun c1_0 => ?_) (fun c1_0 => ?_)
  · have f2 := (ext_is K0.2 (Nat.zero_lt_succ _) n_a0)
    refine gd_c f2 ?_
    have f3 := (ext_is K0.2 (Nat.zero_lt_succ _) n_a0)
    have f4 := (ext_is K0.2 (Nat.zero_lt_succ _) n_a0)
    exact gd_tV (ext_dL K0.2) (gX92_check_72 _ _ _ _ _ _ ⟨K0.1.1, K0.1.2⟩ f3 f4 (h.2.2.1 c1_0))
  · have f5 := (ext_is K0.2 (Nat.zero_lt_succ _) n_a0)
    refine gd_c f5 ?_
    have f6 := (ext_is K0.2 (Nat.zero_lt_succ _) n_a0)
    have f7 := (ext_is K0.2 (Nat.zero_lt_succ _) n_a0)
    exact gd_tV (ext_dL K0.2) (gX92_check_72 _ _ _ _ _ _ ⟨K0.1.1, K0.1.2⟩ f6 f7 (h.2.2.2 c1_0))
noncomputable def GX92_check_0 (a0 : Nat) (a1 : Int32) (M : FM) : FM :=
  let x1 : Nat := (M.2.2 305 a0 0)
  let x2 : Nat := (M.2.2 3 x1 a1.toNatClampNeg)
  let r3 : Int32 × FM := GX100_mode x2 M
  let x4 : Nat := (r3.2.2.2 303 a0 0)
  let x5 : Nat := (r3.2.2.2 3 x4 a1.toNatClampNeg)
  let r6 : Int64 × FM := GX98_get x5 (Int32.ofInt 0) r3.2
  fi ((lg_cmp r6.1 (Int64.ofInt 0)) = 0) (
    GX92_check_39 a0 a1 r3.1 a0 (r6.2.2.1 316 a0 0) r6.2) (
    GX92_check_39 a0 a1 r3.1 a0 ((r6.2.2.1 316 a0 0) + (Int64.ofInt 1)) r6.2)
def HX92_check_0 (a0 : Nat) (a1 : Int32) (M : FM) : Prop := let x1 : Nat := (M.2.2 305 a0 0); (fm_in M x1 a1 = true ∧ let x2 : Nat := (M.2.2 3 x1 a1.toNatClampNeg); (fm_is M 95 95 x2 = true ∧ let r3 : Int32 × FM := GX100_mode x2 M; let x4 : Nat := (r3.2.2.2 303 a0 0); (fm_in r3.2 x4 a1 = true ∧ let x5 : Nat := (r3.2.2.2 3 x4 a1.toNatClampNeg); (fm_is r3.2 94 94 x5 = true ∧ (HX98_get x5 (Int32.ofInt 0) r3.2 ∧ let r6 : Int64 × FM := GX98_get x5 (Int32.ofInt 0) r3.2; (((lg_cmp r6.1 (Int64.ofInt 0)) = 0 → HX92_check_39 a0 a1 r3.1 a0 (r6.2.2.1 316 a0 0) r6.2) ∧ (¬ ((lg_cmp r6.1 (Int64.ofInt 0)) = 0) → HX92_check_39 a0 a1 r3.1 a0 ((r6.2.2.1 316 a0 0) + (Int64.ofInt 1)) r6.2)))))))
theorem gX92_check_0 (a0 : Nat) (a1 : Int32) (M : FM) (T : Ty M) (n_a0 : fm_is M 92 92 a0 = true) (h : HX92_check_0 a0 a1 M) : gd (FX92_check_0 a0 a1 M) (GX92_check_0 a0 a1 M) (OkV M) := by
  delta FX92_check_0 BX92_check_0
  refine gd_c n_a0 ?_
  have f11 := (fm_w (lo' := 910) (hi' := 990) rfl rfl (tN_305 T.1 n_a0))
  refine gd_c ⟨f11, h.1⟩ ?_
  refine gd_c h.2.1 ?_
  refine gd_b (gX100_mode _ _ ⟨T.1, T.2⟩ h.2.1 ) (fun K0 => ?_)
  have f1 := (ext_is K0.2 (Nat.zero_lt_succ _) n_a0)
  refine gd_c f1 ?_
  have f10 := (fm_w (lo' := 910) (hi' := 990) rfl rfl (tN_303 K0.1.1 (ext_is K0.2 (Nat.zero_lt_succ _) n_a0)))
  refine gd_c ⟨f10, h.2.2.1⟩ ?_
  refine gd_c h.2.2.2.1 ?_
  refine gd_b (gX98_get _ _ _ ⟨K0.1.1, K0.1.2⟩ h.2.2.2.1 h.2.2.2.2.1) (fun K2 => ?_)
  refine gd_fi (fun c3_0 => ?_) (fun c3_0 => ?_)
  · have f4 := (ext_is K2.2 (Nat.zero_lt_succ _) (ext_is K0.2 (Nat.zero_lt_succ _) n_a0))
    refine gd_c f4 ?_
    have f5 := (ext_is K2.2 (Nat.zero_lt_succ _) (ext_is K0.2 (Nat.zero_lt_succ _) n_a0))
    have f6 := (ext_is K2.2 (Nat.zero_lt_succ _) (ext_is K0.2 (Nat.zero_lt_succ _) n_a0))
    exact gd_tV (ext_tr K0.2 K2.2) (gX92_check_39 _ _ _ _ _ _ ⟨K2.1.1, K2.1.2⟩ f5 f6 (h.2.2.2.2.2.1 c3_0))
  · have f7 := (ext_is K2.2 (Nat.zero_lt_succ _) (ext_is K0.2 (Nat.zero_lt_succ _) n_a0))
    refine gd_c f7 ?_
    have f8 := (ext_is K2.2 (Nat.zero_lt_succ _) (ext_is K0.2 (Nat.zero_lt_succ _) n_a0))
    have f9 := (ext_is K2.2 (Nat.zero_lt_succ _) (ext_is K0.2 (Nat.zero_lt_succ _) n_a0))
    exact gd_tV (ext_tr K0.2 K2.2) (gX92_check_39 _ _ _ _ _ _ ⟨K2.1.1, K2.1.2⟩ f8 f9 (h.2.2.2.2.2.2 c3_0))
noncomputable def GX92_check (a0 : Nat) (a1 : Int32) (M : FM) : FM := GX92_check_0 a0 a1 M
def HX92_check (a0 : Nat) (a1 : Int32) (M : FM) : Prop := HX92_check_0 a0 a1 M
theorem gX92_check (a0 : Nat) (a1 : Int32) (M : FM) (T : Ty M) (n_a0 : fm_is M 92 92 a0 = true) (h : HX92_check a0 a1 M) : gd (FX92_check a0 a1 M) (GX92_check a0 a1 M) (OkV M) := gX92_check_0 a0 a1 M T n_a0 h
noncomputable def GX96_pass_0 (a0 : Nat) (a1 : Int64) (M : FM) : FM :=
  let M1 : FM := fm_sI M 394 a0 0 (Int32.ofInt 0)
  let M2 : FM := fm_sL M1 398 a0 0 ((M1.2.1 398 a0 0) + a1)
  M2
theorem gX96_pass_0 (a0 : Nat) (a1 : Int64) (M : FM) (T : Ty M) (n_a0 : fm_is M 99 99 a0 = true) : gd (FX96_pass_0 a0 a1 M) (GX96_pass_0 a0 a1 M) (OkV M) := by
  delta FX96_pass_0 BX96_pass_0
  refine gd_c n_a0 ?_
  refine gd_c n_a0 ?_
  refine gd_c n_a0 ?_
  exact ⟨rfl, ⟨T.1, (tyb_sI (f := 394) rfl T.2)⟩, (ext_dI (ext_dL (ext_r _)))⟩
noncomputable def GX96_pass (a0 : Nat) (a1 : Int64) (M : FM) : FM := GX96_pass_0 a0 a1 M
theorem gX96_pass (a0 : Nat) (a1 : Int64) (M : FM) (T : Ty M) (n_a0 : fm_is M 99 99 a0 = true) : gd (FX96_pass a0 a1 M) (GX96_pass a0 a1 M) (OkV M) := gX96_pass_0 a0 a1 M T n_a0 
noncomputable def GX96_room_0 (a0 : Nat) (M : FM) : Int32 × FM :=
  let M1 : FM := fm_sI M 394 a0 0 (Int32.ofInt 0)
  let r2 : Int32 × FM := GX96_space a0 M1
  (r2.1, r2.2)
theorem gX96_room_0 (a0 : Nat) (M : FM) (T : Ty M) (n_a0 : fm_is M 99 99 a0 = true) : gd (FX96_room_0 a0 M) (GX96_room_0 a0 M) (OkR M) := by
  delta FX96_room_0 BX96_room_0
  refine gd_c n_a0 ?_
  refine gd_c n_a0 ?_
  refine gd_b (gX96_space _ _ ⟨T.1, (tyb_sI (f := 394) rfl T.2)⟩ n_a0 ) (fun K0 => ?_)
  exact ⟨rfl, ⟨K0.1.1, K0.1.2⟩, (ext_dI K0.2)⟩
noncomputable def GX96_room (a0 : Nat) (M : FM) : Int32 × FM := GX96_room_0 a0 M
theorem gX96_room (a0 : Nat) (M : FM) (T : Ty M) (n_a0 : fm_is M 99 99 a0 = true) : gd (FX96_room a0 M) (GX96_room a0 M) (OkR M) := gX96_room_0 a0 M T n_a0 
noncomputable def GX96_come_0 (a0 : Nat) (a1 : Int32) (M : FM) : Int32 × FM :=
  let M1 : FM := fm_sI M 394 a0 0 (Int32.ofInt 0)
  let r2 : Int32 × FM := GX96_takeIn a0 a1 M1
  let M3 : FM := GX96_settle a0 r2.2
  (r2.1, M3)
def HX96_come_0 (a0 : Nat) (a1 : Int32) (M : FM) : Prop := let M1 : FM := fm_sI M 394 a0 0 (Int32.ofInt 0); (HX96_takeIn a0 a1 M1 ∧ let r2 : Int32 × FM := GX96_takeIn a0 a1 M1; (HX96_settle a0 r2.2 ∧ True))
theorem gX96_come_0 (a0 : Nat) (a1 : Int32) (M : FM) (T : Ty M) (n_a0 : fm_is M 99 99 a0 = true) (h : HX96_come_0 a0 a1 M) : gd (FX96_come_0 fN a0 a1 M) (GX96_come_0 a0 a1 M) (OkZ M) := by
  delta FX96_come_0 BX96_come_0
  refine gd_c n_a0 ?_
  refine gd_c n_a0 ?_
  refine gd_b (gX96_takeIn _ _ _ ⟨T.1, (tyb_sI (f := 394) rfl T.2)⟩ n_a0 h.1) (fun K0 => ?_)
  have f1 := (ext_is K0.2.1 (Nat.zero_lt_succ _) n_a0)
  refine gd_c f1 ?_
  refine gd_b (gX96_settle _ _ h.2.1) (fun K2 => ?_)
  exact gd_z K0.2.2 ⟨K2.1.1, K2.1.2⟩ (ext_dI (ext_tr K0.2.1 K2.2)) rfl
noncomputable def GX96_come (a0 : Nat) (a1 : Int32) (M : FM) : Int32 × FM := GX96_come_0 a0 a1 M
def HX96_come (a0 : Nat) (a1 : Int32) (M : FM) : Prop := HX96_come_0 a0 a1 M
theorem gX96_come (a0 : Nat) (a1 : Int32) (M : FM) (T : Ty M) (n_a0 : fm_is M 99 99 a0 = true) (h : HX96_come a0 a1 M) : gd (FX96_come fN a0 a1 M) (GX96_come a0 a1 M) (OkZ M) := gX96_come_0 a0 a1 M T n_a0 h
def kX92_round (k2 : Nat → Int32 → FM → Option (FM)) (k45 : Nat → Int32 → FM → Option (FM)) : (Nat × Int32 × FM) ⊕ (Nat × Int32 × FM) ⊕ (FM) → Option (FM)
  | .inl (v0, v1, M') => k2 v0 v1 M'
  | .inr (.inl (v0, v1, M')) => k45 v0 v1 M'
  | .inr (.inr (r)) => some r
def pX92_round (M : FM) : (Nat × Int32 × FM) ⊕ (Nat × Int32 × FM) ⊕ (FM) → Prop
  | .inl (_, _, M') => OkV M M'
  | .inr (.inl (_, _, M')) => OkV M M'
  | .inr (.inr (r)) => OkV M r
theorem pX92_round_t {M M1 : FM} (e : Ext M M1) : ∀ y, pX92_round M1 y → pX92_round M y
  | .inl (_, _, _), h => ⟨h.1, ext_tr e h.2⟩
  | .inr (.inl (_, _, _)), h => ⟨h.1, ext_tr e h.2⟩
  | .inr (.inr (r)), h => ⟨h.1, ext_tr e h.2⟩
noncomputable def GX92_round_177 (M : FM) : (Nat × Int32 × FM) ⊕ (Nat × Int32 × FM) ⊕ (FM) :=
  (.inr (.inr M))
theorem gX92_round_177 (k2 : Nat → Int32 → FM → Option (FM)) (k45 : Nat → Int32 → FM → Option (FM)) (M : FM) (T : Ty M) : gs (FX92_round_177 fN k2 k45 M) (GX92_round_177 M) (kX92_round k2 k45) (pX92_round M) := by
  delta FX92_round_177 BX92_round_177
  exact And.intro rfl (And.intro (And.intro T.1 T.2) ((ext_r _)))
noncomputable def GX92_round_151 (a0 : Nat) (s0 : Nat) (s1 : Int64) (M : FM) : (Nat × Int32 × FM) ⊕ (Nat × Int32 × FM) ⊕ (FM) :=
  let M1 : FM := fm_sL M 316 s0 0 s1
  let x2 : Int32 := ((M1.1 311 a0 0) + (Int32.ofInt 1))
  let M3 : FM := fm_sI M1 311 a0 0 (x2 - x2 / (Int32.ofInt 65536) * (Int32.ofInt 65536))
  let M4 : FM := fm_sI M3 312 a0 0 ((M3.1 312 a0 0) - (Int32.ofInt 1))
  GX92_round_177 M4
theorem gX92_round_151 (k2 : Nat → Int32 → FM → Option (FM)) (k45 : Nat → Int32 → FM → Option (FM)) (a0 : Nat) (s0 : Nat) (s1 : Int64) (M : FM) (T : Ty M) (n_s0 : fm_is M 92 92 s0 = true) (n_a0 : fm_is M 92 92 a0 = true) : gs (FX92_round_151 fN k2 k45 a0 s0 s1 M) (GX92_round_151 a0 s0 s1 M) (kX92_round k2 k45) (pX92_round M) := by
  delta FX92_round_151 BX92_round_151
  refine gs_c n_s0 ?_
  refine gs_c n_a0 ?_
  refine gs_n (by decide) ?_
  refine gs_c n_a0 ?_
  refine gs_c n_a0 ?_
  refine gs_c n_a0 ?_
  exact gs_t (pX92_round_t (ext_dL (ext_dI (ext_dI (ext_r _))))) (gX92_round_177 k2 k45  _ ⟨T.1, (tyb_sI (f := 312) rfl (tyb_sI (f := 311) rfl T.2))⟩  )
noncomputable def GX92_round_101 (a0 : Nat) (M : FM) : (Nat × Int32 × FM) ⊕ (Nat × Int32 × FM) ⊕ (FM) :=
  fi ((M.1 312 a0 0) ≤ 0) (
    GX92_round_177 M) (
    let x1 : Nat := (M.2.2 301 a0 0)
    let r2 : Int32 × FM := GX96_room x1 M
    fi (r2.1 ≤ 0) (
      GX92_round_177 r2.2) (
      let x3 : Int32 := (r2.2.1 311 a0 0)
      let x4 : Nat := (r2.2.2.2 310 a0 0)
      let x5 : Nat := (r2.2.2.2 301 a0 0)
      let r6 : Int32 × FM := GX96_come x5 (r2.2.1 3 x4 x3.toNatClampNeg) r2.2
      fi (r6.1 = 0) (
        GX92_round_151 a0 a0 ((r6.2.2.1 316 a0 0) + (Int64.ofInt 1)) r6.2) (
        GX92_round_151 a0 a0 (r6.2.2.1 316 a0 0) r6.2)))
def HX92_round_101 (a0 : Nat) (M : FM) : Prop := (((M.1 312 a0 0) ≤ 0 → True) ∧ (¬ ((M.1 312 a0 0) ≤ 0) → let x1 : Nat := (M.2.2 301 a0 0); let r2 : Int32 × FM := GX96_room x1 M; ((r2.1 ≤ 0 → True) ∧ (¬ (r2.1 ≤ 0) → let x3 : Int32 := (r2.2.1 311 a0 0); let x4 : Nat := (r2.2.2.2 310 a0 0); (fm_in r2.2 x4 x3 = true ∧ let x5 : Nat := (r2.2.2.2 301 a0 0); (HX96_come x5 (r2.2.1 3 x4 x3.toNatClampNeg) r2.2 ∧ True))))))
theorem gX92_round_101 (k2 : Nat → Int32 → FM → Option (FM)) (k45 : Nat → Int32 → FM → Option (FM)) (a0 : Nat) (M : FM) (T : Ty M) (n_a0 : fm_is M 92 92 a0 = true) (h : HX92_round_101 a0 M) : gs (FX92_round_101 fN k2 k45 a0 M) (GX92_round_101 a0 M) (kX92_round k2 k45) (pX92_round M) := by
  delta FX92_round_101 BX92_round_101
  refine gs_c n_a0 ?_
  refine gs_fi (fun c0_0 => ?_) (fun c0_0 => ?_)
  · exact gs_t (pX92_round_t (ext_r _)) (gX92_round_177 k2 k45  _ ⟨T.1, T.2⟩  )
  · refine gs_c n_a0 ?_
    have f1 := (tN_301 T.1 n_a0)
    refine gs_c f1 ?_
    have f19 := (tN_301 T.1 n_a0)
    refine gs_b (gX96_room _ _ ⟨T.1, T.2⟩ f19 ) (fun K2 => ?_)
    refine gs_fi (fun c3_0 => ?_) (fun c3_0 => ?_)
    · exact gs_t (pX92_round_t K2.2) (gX92_round_177 k2 k45  _ ⟨K2.1.1, K2.1.2⟩  )
    · have f4 := (ext_is K2.2 (Nat.zero_lt_succ _) n_a0)
      refine gs_c f4 ?_
      have f5 := (ext_is K2.2 (Nat.zero_lt_succ _) n_a0)
      refine gs_c f5 ?_
      have f6 := (ext_is K2.2 (Nat.zero_lt_succ _) n_a0)
      refine gs_c f6 ?_
      have f17 := (tN_310 K2.1.1 (ext_is K2.2 (Nat.zero_lt_succ _) n_a0))
      have f18 := ((h.2 c0_0).2 c3_0).1
      refine gs_c ⟨f17, f18⟩ ?_
      have f7 := (tN_301 K2.1.1 (ext_is K2.2 (Nat.zero_lt_succ _) n_a0))
      refine gs_c f7 ?_
      have f16 := (tN_301 K2.1.1 (ext_is K2.2 (Nat.zero_lt_succ _) n_a0))
      refine gs_b (gX96_come _ _ _ ⟨K2.1.1, K2.1.2⟩ f16 ((h.2 c0_0).2 c3_0).2.1) (fun K8 => ?_)
      refine gs_fi (fun c9_0 => ?_) (fun c9_0 => ?_)
      · have f10 := (ext_is K8.2.1 (Nat.zero_lt_succ _) (ext_is K2.2 (Nat.zero_lt_succ _) n_a0))
        refine gs_c f10 ?_
        have f11 := (ext_is K8.2.1 (Nat.zero_lt_succ _) (ext_is K2.2 (Nat.zero_lt_succ _) n_a0))
        have f12 := (ext_is K8.2.1 (Nat.zero_lt_succ _) (ext_is K2.2 (Nat.zero_lt_succ _) n_a0))
        exact gs_t (pX92_round_t (ext_tr K2.2 K8.2.1)) (gX92_round_151 k2 k45 _ _ _ _ ⟨K8.1.1, K8.1.2⟩ f11 f12 )
      · have f13 := (ext_is K8.2.1 (Nat.zero_lt_succ _) (ext_is K2.2 (Nat.zero_lt_succ _) n_a0))
        refine gs_c f13 ?_
        have f14 := (ext_is K8.2.1 (Nat.zero_lt_succ _) (ext_is K2.2 (Nat.zero_lt_succ _) n_a0))
        have f15 := (ext_is K8.2.1 (Nat.zero_lt_succ _) (ext_is K2.2 (Nat.zero_lt_succ _) n_a0))
        exact gs_t (pX92_round_t (ext_tr K2.2 K8.2.1)) (gX92_round_151 k2 k45 _ _ _ _ ⟨K8.1.1, K8.1.2⟩ f14 f15 )
noncomputable def GX92_round_34 (a0 : Nat) (M : FM) : (Nat × Int32 × FM) ⊕ (Nat × Int32 × FM) ⊕ (FM) :=
  fi ((M.1 315 a0 0) = (Int32.ofInt (-1))) (
    (.inr (.inl (a0, (Int32.ofInt 0), M)))) (
    (.inr (.inr M)))
theorem gX92_round_34 (k2 : Nat → Int32 → FM → Option (FM)) (k45 : Nat → Int32 → FM → Option (FM)) (a0 : Nat) (M : FM) (T : Ty M) (n_a0 : fm_is M 92 92 a0 = true) : gs (FX92_round_34 fN k2 k45 a0 M) (GX92_round_34 a0 M) (kX92_round k2 k45) (pX92_round M) := by
  delta FX92_round_34 BX92_round_34
  refine gs_c n_a0 ?_
  refine gs_fi (fun c0_0 => ?_) (fun c0_0 => ?_)
  · exact And.intro rfl (And.intro (And.intro T.1 T.2) ((ext_r _)))
  · exact And.intro rfl (And.intro (And.intro T.1 T.2) ((ext_r _)))
noncomputable def GX92_round_0 (a0 : Nat) (M : FM) : (Nat × Int32 × FM) ⊕ (Nat × Int32 × FM) ⊕ (FM) :=
  (.inl (a0, (Int32.ofInt 0), M))
theorem gX92_round_0 (k2 : Nat → Int32 → FM → Option (FM)) (k45 : Nat → Int32 → FM → Option (FM)) (a0 : Nat) (M : FM) (T : Ty M) : gs (FX92_round_0 fN k2 k45 a0 M) (GX92_round_0 a0 M) (kX92_round k2 k45) (pX92_round M) := by
  delta FX92_round_0 BX92_round_0
  exact And.intro rfl (And.intro (And.intro T.1 T.2) ((ext_r _)))
noncomputable def GX92_round_45 (a0 : Nat) (a1 : Int32) (M : FM) : (Nat × Int32 × FM) ⊕ (Nat × Int32 × FM) ⊕ (FM) :=
  fi ((M.1 297 a0 0) ≤ a1) (
    let M1 : FM := fm_sL M 314 a0 0 ((M.2.1 314 a0 0) + (Int64.ofInt 1))
    let x2 : Int64 := (M1.2.1 314 a0 0)
    fi ((lg_cmp (x2 - x2 / (Int64.ofInt 10) * (Int64.ofInt 10)) (Int64.ofInt 0)) = 0) (
      let x3 : Nat := (M1.2.2 301 a0 0)
      let M4 : FM := GX96_pass x3 (Int64.ofInt 1) M1
      GX92_round_101 a0 M4) (
      GX92_round_101 a0 M1)) (
    let x5 : Nat := (M.2.2 305 a0 0)
    let x6 : Nat := (M.2.2 3 x5 a1.toNatClampNeg)
    let M7 : FM := GX100_count x6 (Int64.ofInt 1) (Int64.ofInt 0) M
    let x8 : Int32 := a1 + (Int32.ofInt 1)
    (.inr (.inl (a0, x8, M7))))
def HX92_round_45 (a0 : Nat) (a1 : Int32) (M : FM) : Prop := (((M.1 297 a0 0) ≤ a1 → let M1 : FM := fm_sL M 314 a0 0 ((M.2.1 314 a0 0) + (Int64.ofInt 1)); let x2 : Int64 := (M1.2.1 314 a0 0); (((lg_cmp (x2 - x2 / (Int64.ofInt 10) * (Int64.ofInt 10)) (Int64.ofInt 0)) = 0 → let x3 : Nat := (M1.2.2 301 a0 0); let M4 : FM := GX96_pass x3 (Int64.ofInt 1) M1; HX92_round_101 a0 M4) ∧ (¬ ((lg_cmp (x2 - x2 / (Int64.ofInt 10) * (Int64.ofInt 10)) (Int64.ofInt 0)) = 0) → HX92_round_101 a0 M1))) ∧ (¬ ((M.1 297 a0 0) ≤ a1) → let x5 : Nat := (M.2.2 305 a0 0); (fm_in M x5 a1 = true ∧ let x6 : Nat := (M.2.2 3 x5 a1.toNatClampNeg); (fm_is M 95 95 x6 = true ∧ True))))
theorem gX92_round_45 (k2 : Nat → Int32 → FM → Option (FM)) (k45 : Nat → Int32 → FM → Option (FM)) (a0 : Nat) (a1 : Int32) (M : FM) (T : Ty M) (n_a0 : fm_is M 92 92 a0 = true) (h : HX92_round_45 a0 a1 M) : gs (FX92_round_45 fN k2 k45 a0 a1 M) (GX92_round_45 a0 a1 M) (kX92_round k2 k45) (pX92_round M) := by
  delta FX92_round_45 BX92_round_45
  refine gs_c n_a0 ?_
  refine gs_fi (fun c0_0 => ?_) (fun c0_0 => ?_)
  · refine gs_c n_a0 ?_
    refine gs_c n_a0 ?_
    refine gs_c n_a0 ?_
    refine gs_n (by decide) ?_
    refine gs_fi (fun c1_0 => ?_) (fun c1_0 => ?_)
    · refine gs_c n_a0 ?_
      have f2 := (tN_301 T.1 n_a0)
      refine gs_c f2 ?_
      have f5 := (tN_301 T.1 n_a0)
      refine gs_b (gX96_pass _ _ _ ⟨T.1, T.2⟩ f5 ) (fun K3 => ?_)
      have f4 := (ext_is K3.2 (Nat.zero_lt_succ _) n_a0)
      exact gs_t (pX92_round_t (ext_dL K3.2)) (gX92_round_101 k2 k45 _ _ ⟨K3.1.1, K3.1.2⟩ f4 ((h.1 c0_0).1 c1_0))
    · exact gs_t (pX92_round_t (ext_dL (ext_r _))) (gX92_round_101 k2 k45 _ _ ⟨T.1, T.2⟩ n_a0 ((h.1 c0_0).2 c1_0))
  · refine gs_c n_a0 ?_
    have f7 := (fm_w (lo' := 910) (hi' := 990) rfl rfl (tN_305 T.1 n_a0))
    refine gs_c ⟨f7, (h.2 c0_0).1⟩ ?_
    refine gs_c (h.2 c0_0).2.1 ?_
    refine gs_b (gX100_count _ _ _ _ ⟨T.1, T.2⟩ (h.2 c0_0).2.1 ) (fun K6 => ?_)
    exact And.intro rfl (And.intro (And.intro K6.1.1 K6.1.2) K6.2)
noncomputable def GX92_round_2 (a0 : Nat) (a1 : Int32) (M : FM) : (Nat × Int32 × FM) ⊕ (Nat × Int32 × FM) ⊕ (FM) :=
  fi ((M.1 297 a0 0) ≤ a1) (
    GX92_round_34 a0 M) (
    fi ((M.1 315 a0 0) = (Int32.ofInt (-1))) (
      let M1 : FM := GX92_step a0 a1 M
      let M2 : FM := GX92_check a0 a1 M1
      let x3 : Int32 := a1 + (Int32.ofInt 1)
      (.inl (a0, x3, M2))) (
      GX92_round_34 a0 M))
def HX92_round_2 (a0 : Nat) (a1 : Int32) (M : FM) : Prop := (((M.1 297 a0 0) ≤ a1 → True) ∧ (¬ ((M.1 297 a0 0) ≤ a1) → (((M.1 315 a0 0) = (Int32.ofInt (-1)) → (HX92_step a0 a1 M ∧ let M1 : FM := GX92_step a0 a1 M; (HX92_check a0 a1 M1 ∧ True))) ∧ (¬ ((M.1 315 a0 0) = (Int32.ofInt (-1))) → True))))
theorem gX92_round_2 (k2 : Nat → Int32 → FM → Option (FM)) (k45 : Nat → Int32 → FM → Option (FM)) (a0 : Nat) (a1 : Int32) (M : FM) (T : Ty M) (n_a0 : fm_is M 92 92 a0 = true) (h : HX92_round_2 a0 a1 M) : gs (FX92_round_2 fN k2 k45 a0 a1 M) (GX92_round_2 a0 a1 M) (kX92_round k2 k45) (pX92_round M) := by
  delta FX92_round_2 BX92_round_2
  refine gs_c n_a0 ?_
  refine gs_fi (fun c0_0 => ?_) (fun c0_0 => ?_)
  · exact gs_t (pX92_round_t (ext_r _)) (gX92_round_34 k2 k45 _ _ ⟨T.1, T.2⟩ n_a0 )
  · refine gs_c n_a0 ?_
    refine gs_fi (fun c1_0 => ?_) (fun c1_0 => ?_)
    · refine gs_c n_a0 ?_
      refine gs_b (gX92_step _ _ _ ⟨T.1, T.2⟩ n_a0 ((h.2 c0_0).1 c1_0).1) (fun K2 => ?_)
      have f3 := (ext_is K2.2 (Nat.zero_lt_succ _) n_a0)
      refine gs_c f3 ?_
      have f5 := (ext_is K2.2 (Nat.zero_lt_succ _) n_a0)
      refine gs_b (gX92_check _ _ _ ⟨K2.1.1, K2.1.2⟩ f5 ((h.2 c0_0).1 c1_0).2.1) (fun K4 => ?_)
      exact And.intro rfl (And.intro (And.intro K4.1.1 K4.1.2) ((ext_tr K2.2 K4.2)))
    · exact gs_t (pX92_round_t (ext_r _)) (gX92_round_34 k2 k45 _ _ ⟨T.1, T.2⟩ n_a0 )
noncomputable def GX92_round (a0 : Nat) (M : FM) : FM := (FX92_round fN a0 M).getD M
def HX92_round (a0 : Nat) (M : FM) : Prop := ∃ r, FX92_round fN a0 M = some r ∧ OkV M r
theorem gX92_round (a0 : Nat) (M : FM) (h : HX92_round a0 M) : gd (FX92_round fN a0 M) (GX92_round a0 M) (OkV M) := gd_op h
def kX92_run (k22 : Nat → Int32 → Int32 → FM → Option (Int32 × FM)) : (Nat × Int32 × Int32 × FM) ⊕ (Int32 × FM) → Option (Int32 × FM)
  | .inl (v0, v1, v2, M') => k22 v0 v1 v2 M'
  | .inr (r) => some r
def pX92_run (M : FM) : (Nat × Int32 × Int32 × FM) ⊕ (Int32 × FM) → Prop
  | .inl (_, _, _, M') => OkV M M'
  | .inr (r) => OkR M r
theorem pX92_run_t {M M1 : FM} (e : Ext M M1) : ∀ y, pX92_run M1 y → pX92_run M y
  | .inl (_, _, _, _), h => ⟨h.1, ext_tr e h.2⟩
  | .inr (r), h => ⟨h.1, ext_tr e h.2⟩
noncomputable def GX92_run_52 (a2 : Int32) (M : FM) : (Nat × Int32 × Int32 × FM) ⊕ (Int32 × FM) :=
  (.inr (a2, M))
theorem gX92_run_52 (k22 : Nat → Int32 → Int32 → FM → Option (Int32 × FM)) (a2 : Int32) (M : FM) (T : Ty M) : gs (FX92_run_52 fN k22 a2 M) (GX92_run_52 a2 M) (kX92_run k22) (pX92_run M) := by
  delta FX92_run_52 BX92_run_52
  exact And.intro rfl (And.intro (And.intro T.1 T.2) ((ext_r _)))
noncomputable def GX92_run_17 (a0 : Nat) (a1 : Int32) (s0 : Nat) (s1 : Int32) (M : FM) : (Nat × Int32 × Int32 × FM) ⊕ (Int32 × FM) :=
  let M1 : FM := fm_sI M 296 s0 0 s1
  (.inl (a0, a1, (Int32.ofInt 0), M1))
theorem gX92_run_17 (k22 : Nat → Int32 → Int32 → FM → Option (Int32 × FM)) (a0 : Nat) (a1 : Int32) (s0 : Nat) (s1 : Int32) (M : FM) (T : Ty M) (n_s0 : fm_is M 92 92 s0 = true) : gs (FX92_run_17 fN k22 a0 a1 s0 s1 M) (GX92_run_17 a0 a1 s0 s1 M) (kX92_run k22) (pX92_run M) := by
  delta FX92_run_17 BX92_run_17
  refine gs_c n_s0 ?_
  exact And.intro rfl (And.intro (And.intro T.1 (tyb_sI (f := 296) rfl T.2)) ((ext_dI (ext_r _))))
noncomputable def GX92_run_12 (a0 : Nat) (a1 : Int32) (s0 : Nat) (M : FM) : (Nat × Int32 × Int32 × FM) ⊕ (Int32 × FM) :=
  GX92_run_17 a0 a1 s0 (Int32.ofInt 1) M
theorem gX92_run_12 (k22 : Nat → Int32 → Int32 → FM → Option (Int32 × FM)) (a0 : Nat) (a1 : Int32) (s0 : Nat) (M : FM) (T : Ty M) (n_s0 : fm_is M 92 92 s0 = true) : gs (FX92_run_12 fN k22 a0 a1 s0 M) (GX92_run_12 a0 a1 s0 M) (kX92_run k22) (pX92_run M) := by
  delta FX92_run_12 BX92_run_12
  exact gs_t (pX92_run_t (ext_r _)) (gX92_run_17 k22 _ _ _ _ _ ⟨T.1, T.2⟩ n_s0 )
noncomputable def GX92_run_0 (a0 : Nat) (a1 : Int32) (M : FM) : (Nat × Int32 × Int32 × FM) ⊕ (Int32 × FM) :=
  fi (a1 < 0) (
    GX92_run_12 a0 a1 a0 M) (
    fi (a1 ≤ (Int32.ofInt 10000)) (
      GX92_run_17 a0 a1 a0 (Int32.ofInt 0) M) (
      GX92_run_12 a0 a1 a0 M))
theorem gX92_run_0 (k22 : Nat → Int32 → Int32 → FM → Option (Int32 × FM)) (a0 : Nat) (a1 : Int32) (M : FM) (T : Ty M) (n_a0 : fm_is M 92 92 a0 = true) : gs (FX92_run_0 fN k22 a0 a1 M) (GX92_run_0 a0 a1 M) (kX92_run k22) (pX92_run M) := by
  delta FX92_run_0 BX92_run_0
  refine gs_fi (fun c0_0 => ?_) (fun c0_0 => ?_)
  · exact gs_t (pX92_run_t (ext_r _)) (gX92_run_12 k22 _ _ _ _ ⟨T.1, T.2⟩ n_a0 )
  · refine gs_fi (fun c1_0 => ?_) (fun c1_0 => ?_)
    · exact gs_t (pX92_run_t (ext_r _)) (gX92_run_17 k22 _ _ _ _ _ ⟨T.1, T.2⟩ n_a0 )
    · exact gs_t (pX92_run_t (ext_r _)) (gX92_run_12 k22 _ _ _ _ ⟨T.1, T.2⟩ n_a0 )
noncomputable def GX92_run_22 (a0 : Nat) (a1 : Int32) (a2 : Int32) (M : FM) : (Nat × Int32 × Int32 × FM) ⊕ (Int32 × FM) :=
  fi ((M.1 296 a0 0) = 0) (
    fi (a1 ≤ a2) (
      GX92_run_52 a2 M) (
      fi ((M.1 315 a0 0) = (Int32.ofInt (-1))) (
        let M1 : FM := GX92_round a0 M
        let x2 : Int32 := a2 + (Int32.ofInt 1)
        (.inl (a0, a1, x2, M1))) (
        GX92_run_52 a2 M))) (
    GX92_run_52 a2 M)
def HX92_run_22 (a0 : Nat) (a1 : Int32) (a2 : Int32) (M : FM) : Prop := (((M.1 296 a0 0) = 0 → ((a1 ≤ a2 → True) ∧ (¬ (a1 ≤ a2) → (((M.1 315 a0 0) = (Int32.ofInt (-1)) → (HX92_round a0 M ∧ True)) ∧ (¬ ((M.1 315 a0 0) = (Int32.ofInt (-1))) → True))))) ∧ (¬ ((M.1 296 a0 0) = 0) → True))
theorem gX92_run_22 (k22 : Nat → Int32 → Int32 → FM → Option (Int32 × FM)) (a0 : Nat) (a1 : Int32) (a2 : Int32) (M : FM) (T : Ty M) (n_a0 : fm_is M 92 92 a0 = true) (h : HX92_run_22 a0 a1 a2 M) : gs (FX92_run_22 fN k22 a0 a1 a2 M) (GX92_run_22 a0 a1 a2 M) (kX92_run k22) (pX92_run M) := by
  delta FX92_run_22 BX92_run_22
  refine gs_c n_a0 ?_
  refine gs_fi (fun c0_0 => ?_) (fun c0_0 => ?_)
  · refine gs_fi (fun c1_0 => ?_) (fun c1_0 => ?_)
    · exact gs_t (pX92_run_t (ext_r _)) (gX92_run_52 k22 _ _ ⟨T.1, T.2⟩  )
    · refine gs_c n_a0 ?_
      refine gs_fi (fun c2_0 => ?_) (fun c2_0 => ?_)
      · refine gs_c n_a0 ?_
        refine gs_b (gX92_round _ _ (((h.1 c0_0).2 c1_0).1 c2_0).1) (fun K3 => ?_)
        exact And.intro rfl (And.intro (And.intro K3.1.1 K3.1.2) K3.2)
      · exact gs_t (pX92_run_t (ext_r _)) (gX92_run_52 k22 _ _ ⟨T.1, T.2⟩  )
  · exact gs_t (pX92_run_t (ext_r _)) (gX92_run_52 k22 _ _ ⟨T.1, T.2⟩  )
noncomputable def GX92_run (a0 : Nat) (a1 : Int32) (M : FM) : Int32 × FM := (FX92_run fN a0 a1 M).getD (0, M)
def HX92_run (a0 : Nat) (a1 : Int32) (M : FM) : Prop := ∃ r, FX92_run fN a0 a1 M = some r ∧ OkR M r
theorem gX92_run (a0 : Nat) (a1 : Int32) (M : FM) (h : HX92_run a0 a1 M) : gd (FX92_run fN a0 a1 M) (GX92_run a0 a1 M) (OkR M) := gd_op h
noncomputable def GX92_isNone_33 (s0 : Int32) (M : FM) : Int32 × FM :=
  (s0, M)
theorem gX92_isNone_33 (s0 : Int32) (M : FM) (T : Ty M) (z_s0 : s0 = 0 ∨ s0 = 1) : gd (FX92_isNone_33 s0 M) (GX92_isNone_33 s0 M) (OkZ M) := by
  delta FX92_isNone_33 BX92_isNone_33
  exact gd_z z_s0 ⟨T.1, T.2⟩ (ext_r _) rfl
noncomputable def GX92_isNone_18 (a0 : Nat) (s0 : Nat) (s1 : Int32) (M : FM) : Int32 × FM :=
  let M1 : FM := fm_sI M 296 s0 0 s1
  fi ((M1.1 296 a0 0) ≤ 0) (
    GX92_isNone_33 (Int32.ofInt 0) M1) (
    GX92_isNone_33 (Int32.ofInt 1) M1)
theorem gX92_isNone_18 (a0 : Nat) (s0 : Nat) (s1 : Int32) (M : FM) (T : Ty M) (n_s0 : fm_is M 92 92 s0 = true) (n_a0 : fm_is M 92 92 a0 = true) : gd (FX92_isNone_18 a0 s0 s1 M) (GX92_isNone_18 a0 s0 s1 M) (OkZ M) := by
  delta FX92_isNone_18 BX92_isNone_18
  refine gd_c n_s0 ?_
  refine gd_c n_a0 ?_
  refine gd_fi (fun c0_0 => ?_) (fun c0_0 => ?_)
  · exact gd_tZ (ext_dI (ext_r _)) (gX92_isNone_33 _ _ ⟨T.1, (tyb_sI (f := 296) rfl T.2)⟩ fz_0 )
  · exact gd_tZ (ext_dI (ext_r _)) (gX92_isNone_33 _ _ ⟨T.1, (tyb_sI (f := 296) rfl T.2)⟩ fz_1 )
noncomputable def GX92_isNone_13 (a0 : Nat) (s0 : Nat) (M : FM) : Int32 × FM :=
  GX92_isNone_18 a0 s0 (Int32.ofInt 1) M
theorem gX92_isNone_13 (a0 : Nat) (s0 : Nat) (M : FM) (T : Ty M) (n_s0 : fm_is M 92 92 s0 = true) (n_a0 : fm_is M 92 92 a0 = true) : gd (FX92_isNone_13 a0 s0 M) (GX92_isNone_13 a0 s0 M) (OkZ M) := by
  delta FX92_isNone_13 BX92_isNone_13
  exact gd_tZ (ext_r _) (gX92_isNone_18 _ _ _ _ ⟨T.1, T.2⟩ n_s0 n_a0 )
noncomputable def GX92_isNone_0 (a0 : Nat) (a1 : Int32) (M : FM) : Int32 × FM :=
  fi (a1 < 0) (
    GX92_isNone_13 a0 a0 M) (
    fi (a1 < (M.1 297 a0 0)) (
      GX92_isNone_18 a0 a0 (Int32.ofInt 0) M) (
      GX92_isNone_13 a0 a0 M))
theorem gX92_isNone_0 (a0 : Nat) (a1 : Int32) (M : FM) (T : Ty M) (n_a0 : fm_is M 92 92 a0 = true) : gd (FX92_isNone_0 a0 a1 M) (GX92_isNone_0 a0 a1 M) (OkZ M) := by
  delta FX92_isNone_0 BX92_isNone_0
  refine gd_fi (fun c0_0 => ?_) (fun c0_0 => ?_)
  · exact gd_tZ (ext_r _) (gX92_isNone_13 _ _ _ ⟨T.1, T.2⟩ n_a0 n_a0 )
  · refine gd_c n_a0 ?_
    refine gd_fi (fun c1_0 => ?_) (fun c1_0 => ?_)
    · exact gd_tZ (ext_r _) (gX92_isNone_18 _ _ _ _ ⟨T.1, T.2⟩ n_a0 n_a0 )
    · exact gd_tZ (ext_r _) (gX92_isNone_13 _ _ _ ⟨T.1, T.2⟩ n_a0 n_a0 )
noncomputable def GX92_isNone (a0 : Nat) (a1 : Int32) (M : FM) : Int32 × FM := GX92_isNone_0 a0 a1 M
theorem gX92_isNone (a0 : Nat) (a1 : Int32) (M : FM) (T : Ty M) (n_a0 : fm_is M 92 92 a0 = true) : gd (FX92_isNone a0 a1 M) (GX92_isNone a0 a1 M) (OkZ M) := gX92_isNone_0 a0 a1 M T n_a0 
noncomputable def GX92_counter_21 (s0 : Int64) (M : FM) : Int64 × FM :=
  (s0, M)
theorem gX92_counter_21 (s0 : Int64) (M : FM) (T : Ty M) : gd (FX92_counter_21 s0 M) (GX92_counter_21 s0 M) (OkR M) := by
  delta FX92_counter_21 BX92_counter_21
  exact ⟨rfl, ⟨T.1, T.2⟩, (ext_r _)⟩
noncomputable def GX92_counter_0 (a0 : Nat) (a1 : Int32) (M : FM) : Int64 × FM :=
  let r1 : Int32 × FM := GX92_isNone a0 a1 M
  fi (r1.1 = 0) (
    let x2 : Nat := (r1.2.2.2 303 a0 0)
    let x3 : Nat := (r1.2.2.2 3 x2 a1.toNatClampNeg)
    let r4 : Int64 × FM := GX98_counter x3 r1.2
    GX92_counter_21 r4.1 r4.2) (
    GX92_counter_21 (Int64.ofInt 0) r1.2)
def HX92_counter_0 (a0 : Nat) (a1 : Int32) (M : FM) : Prop := let r1 : Int32 × FM := GX92_isNone a0 a1 M; ((r1.1 = 0 → let x2 : Nat := (r1.2.2.2 303 a0 0); (fm_in r1.2 x2 a1 = true ∧ let x3 : Nat := (r1.2.2.2 3 x2 a1.toNatClampNeg); (fm_is r1.2 94 94 x3 = true ∧ True))) ∧ (¬ (r1.1 = 0) → True))
theorem gX92_counter_0 (a0 : Nat) (a1 : Int32) (M : FM) (T : Ty M) (n_a0 : fm_is M 92 92 a0 = true) (h : HX92_counter_0 a0 a1 M) : gd (FX92_counter_0 a0 a1 M) (GX92_counter_0 a0 a1 M) (OkR M) := by
  delta FX92_counter_0 BX92_counter_0
  refine gd_c n_a0 ?_
  refine gd_b (gX92_isNone _ _ _ ⟨T.1, T.2⟩ n_a0 ) (fun K0 => ?_)
  refine gd_fi (fun c1_0 => ?_) (fun c1_0 => ?_)
  · have f2 := (ext_is K0.2.1 (Nat.zero_lt_succ _) n_a0)
    refine gd_c f2 ?_
    have f4 := (fm_w (lo' := 910) (hi' := 990) rfl rfl (tN_303 K0.1.1 (ext_is K0.2.1 (Nat.zero_lt_succ _) n_a0)))
    refine gd_c ⟨f4, (h.1 c1_0).1⟩ ?_
    refine gd_c (h.1 c1_0).2.1 ?_
    refine gd_b (gX98_counter _ _ ⟨K0.1.1, K0.1.2⟩ (h.1 c1_0).2.1 ) (fun K3 => ?_)
    exact gd_tR (ext_tr K0.2.1 K3.2) (gX92_counter_21 _ _ ⟨K3.1.1, K3.1.2⟩  )
  · exact gd_tR K0.2.1 (gX92_counter_21 _ _ ⟨K0.1.1, K0.1.2⟩  )
noncomputable def GX92_counter (a0 : Nat) (a1 : Int32) (M : FM) : Int64 × FM := GX92_counter_0 a0 a1 M
def HX92_counter (a0 : Nat) (a1 : Int32) (M : FM) : Prop := HX92_counter_0 a0 a1 M
theorem gX92_counter (a0 : Nat) (a1 : Int32) (M : FM) (T : Ty M) (n_a0 : fm_is M 92 92 a0 = true) (h : HX92_counter a0 a1 M) : gd (FX92_counter a0 a1 M) (GX92_counter a0 a1 M) (OkR M) := gX92_counter_0 a0 a1 M T n_a0 h
noncomputable def GX92_mode_36 (s0 : Int32) (M : FM) : Int32 × FM :=
  (s0, M)
theorem gX92_mode_36 (s0 : Int32) (M : FM) (T : Ty M) : gd (FX92_mode_36 s0 M) (GX92_mode_36 s0 M) (OkR M) := by
  delta FX92_mode_36 BX92_mode_36
  exact ⟨rfl, ⟨T.1, T.2⟩, (ext_r _)⟩
noncomputable def GX92_mode_35 (s0 : Int32) (s1 : Int32) (M : FM) : Int32 × FM :=
  GX92_mode_36 (s0 + s1) M
theorem gX92_mode_35 (s0 : Int32) (s1 : Int32) (M : FM) (T : Ty M) : gd (FX92_mode_35 s0 s1 M) (GX92_mode_35 s0 s1 M) (OkR M) := by
  delta FX92_mode_35 BX92_mode_35
  exact gd_tR (ext_r _) (gX92_mode_36 _ _ ⟨T.1, T.2⟩  )
noncomputable def GX92_mode_0 (a0 : Nat) (a1 : Int32) (M : FM) : Int32 × FM :=
  let r1 : Int32 × FM := GX92_isNone a0 a1 M
  fi (r1.1 = 0) (
    let x2 : Nat := (r1.2.2.2 305 a0 0)
    let x3 : Nat := (r1.2.2.2 3 x2 a1.toNatClampNeg)
    let r4 : Int32 × FM := GX100_mode x3 r1.2
    let x5 : Nat := (r4.2.2.2 307 a0 0)
    fi ((r4.2.1 3 x5 a1.toNatClampNeg) = 0) (
      GX92_mode_35 r4.1 (Int32.ofInt 0) r4.2) (
      GX92_mode_35 r4.1 (Int32.ofInt 4) r4.2)) (
    GX92_mode_36 (Int32.ofInt 0) r1.2)
def HX92_mode_0 (a0 : Nat) (a1 : Int32) (M : FM) : Prop := let r1 : Int32 × FM := GX92_isNone a0 a1 M; ((r1.1 = 0 → let x2 : Nat := (r1.2.2.2 305 a0 0); (fm_in r1.2 x2 a1 = true ∧ let x3 : Nat := (r1.2.2.2 3 x2 a1.toNatClampNeg); (fm_is r1.2 95 95 x3 = true ∧ let r4 : Int32 × FM := GX100_mode x3 r1.2; let x5 : Nat := (r4.2.2.2 307 a0 0); (fm_in r4.2 x5 a1 = true ∧ True)))) ∧ (¬ (r1.1 = 0) → True))
theorem gX92_mode_0 (a0 : Nat) (a1 : Int32) (M : FM) (T : Ty M) (n_a0 : fm_is M 92 92 a0 = true) (h : HX92_mode_0 a0 a1 M) : gd (FX92_mode_0 a0 a1 M) (GX92_mode_0 a0 a1 M) (OkR M) := by
  delta FX92_mode_0 BX92_mode_0
  refine gd_c n_a0 ?_
  refine gd_b (gX92_isNone _ _ _ ⟨T.1, T.2⟩ n_a0 ) (fun K0 => ?_)
  refine gd_fi (fun c1_0 => ?_) (fun c1_0 => ?_)
  · have f2 := (ext_is K0.2.1 (Nat.zero_lt_succ _) n_a0)
    refine gd_c f2 ?_
    have f7 := (fm_w (lo' := 910) (hi' := 990) rfl rfl (tN_305 K0.1.1 (ext_is K0.2.1 (Nat.zero_lt_succ _) n_a0)))
    refine gd_c ⟨f7, (h.1 c1_0).1⟩ ?_
    refine gd_c (h.1 c1_0).2.1 ?_
    refine gd_b (gX100_mode _ _ ⟨K0.1.1, K0.1.2⟩ (h.1 c1_0).2.1 ) (fun K3 => ?_)
    have f4 := (ext_is K3.2 (Nat.zero_lt_succ _) (ext_is K0.2.1 (Nat.zero_lt_succ _) n_a0))
    refine gd_c f4 ?_
    have f6 := (tN_307 K3.1.1 (ext_is K3.2 (Nat.zero_lt_succ _) (ext_is K0.2.1 (Nat.zero_lt_succ _) n_a0)))
    refine gd_c ⟨f6, (h.1 c1_0).2.2.1⟩ ?_
    refine gd_fi (fun c5_0 => ?_) (fun c5_0 => ?_)
    · exact gd_tR (ext_tr K0.2.1 K3.2) (gX92_mode_35 _ _ _ ⟨K3.1.1, K3.1.2⟩  )
    · exact gd_tR (ext_tr K0.2.1 K3.2) (gX92_mode_35 _ _ _ ⟨K3.1.1, K3.1.2⟩  )
  · exact gd_tR K0.2.1 (gX92_mode_36 _ _ ⟨K0.1.1, K0.1.2⟩  )
noncomputable def GX92_mode (a0 : Nat) (a1 : Int32) (M : FM) : Int32 × FM := GX92_mode_0 a0 a1 M
def HX92_mode (a0 : Nat) (a1 : Int32) (M : FM) : Prop := HX92_mode_0 a0 a1 M
theorem gX92_mode (a0 : Nat) (a1 : Int32) (M : FM) (T : Ty M) (n_a0 : fm_is M 92 92 a0 = true) (h : HX92_mode a0 a1 M) : gd (FX92_mode a0 a1 M) (GX92_mode a0 a1 M) (OkR M) := gX92_mode_0 a0 a1 M T n_a0 h
noncomputable def GX95_noPlace_37 (s0 : Int32) (M : FM) : Int32 × FM :=
  (s0, M)
theorem gX95_noPlace_37 (s0 : Int32) (M : FM) (T : Ty M) (z_s0 : s0 = 0 ∨ s0 = 1) : gd (FX95_noPlace_37 s0 M) (GX95_noPlace_37 s0 M) (OkZ M) := by
  delta FX95_noPlace_37 BX95_noPlace_37
  exact gd_z z_s0 ⟨T.1, T.2⟩ (ext_r _) rfl
noncomputable def GX95_noPlace_22 (a0 : Nat) (s0 : Nat) (s1 : Int32) (M : FM) : Int32 × FM :=
  let M1 : FM := fm_sI M 324 s0 0 s1
  fi ((M1.1 324 a0 0) ≤ 0) (
    GX95_noPlace_37 (Int32.ofInt 0) M1) (
    GX95_noPlace_37 (Int32.ofInt 1) M1)
theorem gX95_noPlace_22 (a0 : Nat) (s0 : Nat) (s1 : Int32) (M : FM) (T : Ty M) (n_s0 : fm_is M 93 93 s0 = true) (n_a0 : fm_is M 93 93 a0 = true) : gd (FX95_noPlace_22 a0 s0 s1 M) (GX95_noPlace_22 a0 s0 s1 M) (OkZ M) := by
  delta FX95_noPlace_22 BX95_noPlace_22
  refine gd_c n_s0 ?_
  refine gd_c n_a0 ?_
  refine gd_fi (fun c0_0 => ?_) (fun c0_0 => ?_)
  · exact gd_tZ (ext_dI (ext_r _)) (gX95_noPlace_37 _ _ ⟨T.1, (tyb_sI (f := 324) rfl T.2)⟩ fz_0 )
  · exact gd_tZ (ext_dI (ext_r _)) (gX95_noPlace_37 _ _ ⟨T.1, (tyb_sI (f := 324) rfl T.2)⟩ fz_1 )
noncomputable def GX95_noPlace_17 (a0 : Nat) (s0 : Nat) (M : FM) : Int32 × FM :=
  GX95_noPlace_22 a0 s0 (Int32.ofInt 1) M
theorem gX95_noPlace_17 (a0 : Nat) (s0 : Nat) (M : FM) (T : Ty M) (n_s0 : fm_is M 93 93 s0 = true) (n_a0 : fm_is M 93 93 a0 = true) : gd (FX95_noPlace_17 a0 s0 M) (GX95_noPlace_17 a0 s0 M) (OkZ M) := by
  delta FX95_noPlace_17 BX95_noPlace_17
  exact gd_tZ (ext_r _) (gX95_noPlace_22 _ _ _ _ ⟨T.1, T.2⟩ n_s0 n_a0 )
noncomputable def GX95_noPlace_0 (a0 : Nat) (a1 : Int32) (M : FM) : Int32 × FM :=
  fi (a1 < 0) (
    GX95_noPlace_17 a0 a0 M) (
    fi (a1 < ((Int32.ofInt 512) * (M.1 325 a0 0))) (
      GX95_noPlace_22 a0 a0 (Int32.ofInt 0) M) (
      GX95_noPlace_17 a0 a0 M))
theorem gX95_noPlace_0 (a0 : Nat) (a1 : Int32) (M : FM) (T : Ty M) (n_a0 : fm_is M 93 93 a0 = true) : gd (FX95_noPlace_0 a0 a1 M) (GX95_noPlace_0 a0 a1 M) (OkZ M) := by
  delta FX95_noPlace_0 BX95_noPlace_0
  refine gd_fi (fun c0_0 => ?_) (fun c0_0 => ?_)
  · exact gd_tZ (ext_r _) (gX95_noPlace_17 _ _ _ ⟨T.1, T.2⟩ n_a0 n_a0 )
  · refine gd_c n_a0 ?_
    refine gd_fi (fun c1_0 => ?_) (fun c1_0 => ?_)
    · exact gd_tZ (ext_r _) (gX95_noPlace_22 _ _ _ _ ⟨T.1, T.2⟩ n_a0 n_a0 )
    · exact gd_tZ (ext_r _) (gX95_noPlace_17 _ _ _ ⟨T.1, T.2⟩ n_a0 n_a0 )
noncomputable def GX95_noPlace (a0 : Nat) (a1 : Int32) (M : FM) : Int32 × FM := GX95_noPlace_0 a0 a1 M
theorem gX95_noPlace (a0 : Nat) (a1 : Int32) (M : FM) (T : Ty M) (n_a0 : fm_is M 93 93 a0 = true) : gd (FX95_noPlace a0 a1 M) (GX95_noPlace a0 a1 M) (OkZ M) := gX95_noPlace_0 a0 a1 M T n_a0 
noncomputable def GX95_disk_20 (s0 : Int32) (M : FM) : Int32 × FM :=
  (s0, M)
theorem gX95_disk_20 (s0 : Int32) (M : FM) (T : Ty M) : gd (FX95_disk_20 s0 M) (GX95_disk_20 s0 M) (OkR M) := by
  delta FX95_disk_20 BX95_disk_20
  exact ⟨rfl, ⟨T.1, T.2⟩, (ext_r _)⟩
noncomputable def GX95_disk_0 (a0 : Nat) (a1 : Int32) (M : FM) : Int32 × FM :=
  let r1 : Int32 × FM := GX95_noPlace a0 a1 M
  fi (r1.1 = 0) (
    let r2 : Int32 × FM := GX95_byteOf (r1.2.2.2 327 a0 0) a1 r1.2
    GX95_disk_20 r2.1 r2.2) (
    GX95_disk_20 (Int32.ofInt 0) r1.2)
def HX95_disk_0 (a0 : Nat) (a1 : Int32) (M : FM) : Prop := let r1 : Int32 × FM := GX95_noPlace a0 a1 M; ((r1.1 = 0 → (HX95_byteOf (r1.2.2.2 327 a0 0) a1 r1.2 ∧ True)) ∧ (¬ (r1.1 = 0) → True))
theorem gX95_disk_0 (a0 : Nat) (a1 : Int32) (M : FM) (T : Ty M) (n_a0 : fm_is M 93 93 a0 = true) (h : HX95_disk_0 a0 a1 M) : gd (FX95_disk_0 a0 a1 M) (GX95_disk_0 a0 a1 M) (OkR M) := by
  delta FX95_disk_0 BX95_disk_0
  refine gd_c n_a0 ?_
  refine gd_b (gX95_noPlace _ _ _ ⟨T.1, T.2⟩ n_a0 ) (fun K0 => ?_)
  refine gd_fi (fun c1_0 => ?_) (fun c1_0 => ?_)
  · have f2 := (ext_is K0.2.1 (Nat.zero_lt_succ _) n_a0)
    refine gd_c f2 ?_
    have f4 := (tN_327 K0.1.1 (ext_is K0.2.1 (Nat.zero_lt_succ _) n_a0))
    refine gd_b (gX95_byteOf _ _ _ ⟨K0.1.1, K0.1.2⟩ f4 (h.1 c1_0).1) (fun K3 => ?_)
    exact gd_tR (ext_tr K0.2.1 K3.2) (gX95_disk_20 _ _ ⟨K3.1.1, K3.1.2⟩  )
  · exact gd_tR K0.2.1 (gX95_disk_20 _ _ ⟨K0.1.1, K0.1.2⟩  )
noncomputable def GX95_disk (a0 : Nat) (a1 : Int32) (M : FM) : Int32 × FM := GX95_disk_0 a0 a1 M
def HX95_disk (a0 : Nat) (a1 : Int32) (M : FM) : Prop := HX95_disk_0 a0 a1 M
theorem gX95_disk (a0 : Nat) (a1 : Int32) (M : FM) (T : Ty M) (n_a0 : fm_is M 93 93 a0 = true) (h : HX95_disk a0 a1 M) : gd (FX95_disk a0 a1 M) (GX95_disk a0 a1 M) (OkR M) := gX95_disk_0 a0 a1 M T n_a0 h
noncomputable def GX95_thrown_0 (a0 : Nat) (M : FM) : Int32 × FM :=
  ((M.1 324 a0 0), M)
theorem gX95_thrown_0 (a0 : Nat) (M : FM) (T : Ty M) (n_a0 : fm_is M 93 93 a0 = true) : gd (FX95_thrown_0 a0 M) (GX95_thrown_0 a0 M) (OkR M) := by
  delta FX95_thrown_0 BX95_thrown_0
  refine gd_c n_a0 ?_
  exact ⟨rfl, ⟨T.1, T.2⟩, (ext_r _)⟩
noncomputable def GX95_thrown (a0 : Nat) (M : FM) : Int32 × FM := GX95_thrown_0 a0 M
theorem gX95_thrown (a0 : Nat) (M : FM) (T : Ty M) (n_a0 : fm_is M 93 93 a0 = true) : gd (FX95_thrown a0 M) (GX95_thrown a0 M) (OkR M) := gX95_thrown_0 a0 M T n_a0 
noncomputable def GX92_disk_0 (a0 : Nat) (a1 : Int32) (M : FM) : Int32 × FM :=
  let x1 : Nat := (M.2.2 300 a0 0)
  let r2 : Int32 × FM := GX95_disk x1 a1 M
  let x3 : Nat := (r2.2.2.2 300 a0 0)
  let r4 : Int32 × FM := GX95_thrown x3 r2.2
  let M5 : FM := fm_sI r4.2 296 a0 0 r4.1
  (r2.1, M5)
def HX92_disk_0 (a0 : Nat) (a1 : Int32) (M : FM) : Prop := let x1 : Nat := (M.2.2 300 a0 0); (HX95_disk x1 a1 M ∧ True)
theorem gX92_disk_0 (a0 : Nat) (a1 : Int32) (M : FM) (T : Ty M) (n_a0 : fm_is M 92 92 a0 = true) (h : HX92_disk_0 a0 a1 M) : gd (FX92_disk_0 a0 a1 M) (GX92_disk_0 a0 a1 M) (OkR M) := by
  delta FX92_disk_0 BX92_disk_0
  refine gd_c n_a0 ?_
  have f0 := (tN_300 T.1 n_a0)
  refine gd_c f0 ?_
  have f7 := (tN_300 T.1 n_a0)
  refine gd_b (gX95_disk _ _ _ ⟨T.1, T.2⟩ f7 h.1) (fun K1 => ?_)
  have f2 := (ext_is K1.2 (Nat.zero_lt_succ _) n_a0)
  refine gd_c f2 ?_
  have f3 := (tN_300 K1.1.1 (ext_is K1.2 (Nat.zero_lt_succ _) n_a0))
  refine gd_c f3 ?_
  have f6 := (tN_300 K1.1.1 (ext_is K1.2 (Nat.zero_lt_succ _) n_a0))
  refine gd_b (gX95_thrown _ _ ⟨K1.1.1, K1.1.2⟩ f6 ) (fun K4 => ?_)
  have f5 := (ext_is K4.2 (Nat.zero_lt_succ _) (ext_is K1.2 (Nat.zero_lt_succ _) n_a0))
  refine gd_c f5 ?_
  exact ⟨rfl, ⟨K4.1.1, (tyb_sI (f := 296) rfl K4.1.2)⟩, (ext_tr K1.2 (ext_tr K4.2 (ext_dI (ext_r _))))⟩
noncomputable def GX92_disk (a0 : Nat) (a1 : Int32) (M : FM) : Int32 × FM := GX92_disk_0 a0 a1 M
def HX92_disk (a0 : Nat) (a1 : Int32) (M : FM) : Prop := HX92_disk_0 a0 a1 M
theorem gX92_disk (a0 : Nat) (a1 : Int32) (M : FM) (T : Ty M) (n_a0 : fm_is M 92 92 a0 = true) (h : HX92_disk a0 a1 M) : gd (FX92_disk a0 a1 M) (GX92_disk a0 a1 M) (OkR M) := gX92_disk_0 a0 a1 M T n_a0 h
noncomputable def GX92_thrown_0 (a0 : Nat) (M : FM) : Int32 × FM :=
  ((M.1 296 a0 0), M)
theorem gX92_thrown_0 (a0 : Nat) (M : FM) (T : Ty M) (n_a0 : fm_is M 92 92 a0 = true) : gd (FX92_thrown_0 a0 M) (GX92_thrown_0 a0 M) (OkR M) := by
  delta FX92_thrown_0 BX92_thrown_0
  refine gd_c n_a0 ?_
  exact ⟨rfl, ⟨T.1, T.2⟩, (ext_r _)⟩
noncomputable def GX92_thrown (a0 : Nat) (M : FM) : Int32 × FM := GX92_thrown_0 a0 M
theorem gX92_thrown (a0 : Nat) (M : FM) (T : Ty M) (n_a0 : fm_is M 92 92 a0 = true) : gd (FX92_thrown a0 M) (GX92_thrown a0 M) (OkR M) := gX92_thrown_0 a0 M T n_a0 
noncomputable def GX31_outAt_47 (s0 : Int32) (M : FM) : Int32 × FM :=
  (s0, M)
theorem gX31_outAt_47 (s0 : Int32) (M : FM) (T : Ty M) : gd (FX31_outAt_47 s0 M) (GX31_outAt_47 s0 M) (OkR M) := by
  delta FX31_outAt_47 BX31_outAt_47
  exact ⟨rfl, ⟨T.1, T.2⟩, (ext_r _)⟩
noncomputable def GX31_outAt_28 (M : FM) : Int32 × FM :=
  GX31_outAt_47 (Int32.ofInt (-1)) M
theorem gX31_outAt_28 (M : FM) (T : Ty M) : gd (FX31_outAt_28 M) (GX31_outAt_28 M) (OkR M) := by
  delta FX31_outAt_28 BX31_outAt_28
  exact gd_tR (ext_r _) (gX31_outAt_47 _ _ ⟨T.1, T.2⟩  )
noncomputable def GX31_outAt_0 (a0 : Nat) (a1 : Int64) (M : FM) : Int32 × FM :=
  fi ((lg_cmp a1 (Int64.ofInt 0)) < 0) (
    GX31_outAt_28 M) (
    fi (0 ≤ (lg_cmp a1 (M.2.1 234 a0 0))) (
      GX31_outAt_28 M) (
      fi (0 ≤ (lg_cmp a1 ((M.2.1 234 a0 0) - (Int64.ofInt 4096)))) (
        let x1 : Int32 := (a1 - a1 / (Int64.ofInt 4096) * (Int64.ofInt 4096)).toInt32
        let x2 : Nat := (M.2.2 233 a0 0)
        GX31_outAt_47 ((M.1 3 x2 x1.toNatClampNeg) &&& (Int32.ofInt 255)) M) (
        GX31_outAt_28 M)))
def HX31_outAt_0 (a0 : Nat) (a1 : Int64) (M : FM) : Prop := (((lg_cmp a1 (Int64.ofInt 0)) < 0 → True) ∧ (¬ ((lg_cmp a1 (Int64.ofInt 0)) < 0) → ((0 ≤ (lg_cmp a1 (M.2.1 234 a0 0)) → True) ∧ (¬ (0 ≤ (lg_cmp a1 (M.2.1 234 a0 0))) → ((0 ≤ (lg_cmp a1 ((M.2.1 234 a0 0) - (Int64.ofInt 4096))) → let x1 : Int32 := (a1 - a1 / (Int64.ofInt 4096) * (Int64.ofInt 4096)).toInt32; let x2 : Nat := (M.2.2 233 a0 0); (fm_in M x2 x1 = true ∧ True)) ∧ (¬ (0 ≤ (lg_cmp a1 ((M.2.1 234 a0 0) - (Int64.ofInt 4096)))) → True))))))
theorem gX31_outAt_0 (a0 : Nat) (a1 : Int64) (M : FM) (T : Ty M) (n_a0 : fm_is M 78 78 a0 = true) (h : HX31_outAt_0 a0 a1 M) : gd (FX31_outAt_0 a0 a1 M) (GX31_outAt_0 a0 a1 M) (OkR M) := by
  delta FX31_outAt_0 BX31_outAt_0
  refine gd_fi (fun c0_0 => ?_) (fun c0_0 => ?_)
  · exact gd_tR (ext_r _) (gX31_outAt_28  _ ⟨T.1, T.2⟩  )
  · refine gd_c n_a0 ?_
    refine gd_fi (fun c1_0 => ?_) (fun c1_0 => ?_)
    · exact gd_tR (ext_r _) (gX31_outAt_28  _ ⟨T.1, T.2⟩  )
    · refine gd_c n_a0 ?_
      refine gd_fi (fun c2_0 => ?_) (fun c2_0 => ?_)
      · refine gd_c n_a0 ?_
        refine gd_n (by decide) ?_
        have f3 := (tN_233 T.1 n_a0)
        have f4 := (((h.2 c0_0).2 c1_0).1 c2_0).1
        refine gd_c ⟨f3, f4⟩ ?_
        exact gd_tR (ext_r _) (gX31_outAt_47 _ _ ⟨T.1, T.2⟩  )
      · exact gd_tR (ext_r _) (gX31_outAt_28  _ ⟨T.1, T.2⟩  )
noncomputable def GX31_outAt (a0 : Nat) (a1 : Int64) (M : FM) : Int32 × FM := GX31_outAt_0 a0 a1 M
def HX31_outAt (a0 : Nat) (a1 : Int64) (M : FM) : Prop := HX31_outAt_0 a0 a1 M
theorem gX31_outAt (a0 : Nat) (a1 : Int64) (M : FM) (T : Ty M) (n_a0 : fm_is M 78 78 a0 = true) (h : HX31_outAt a0 a1 M) : gd (FX31_outAt a0 a1 M) (GX31_outAt a0 a1 M) (OkR M) := gX31_outAt_0 a0 a1 M T n_a0 h
noncomputable def GX1_out_0 (a0 : Nat) (a1 : Int64) (M : FM) : Int32 × FM :=
  let x1 : Nat := (M.2.2 17 a0 0)
  let x2 : Nat := (M.2.2 189 x1 0)
  let x3 : Nat := (M.2.2 19 x2 0)
  let x4 : Nat := (M.2.2 242 x3 0)
  let r5 : Int32 × FM := GX31_outAt x4 a1 M
  (r5.1, r5.2)
def HX1_out_0 (a0 : Nat) (a1 : Int64) (M : FM) : Prop := let x1 : Nat := (M.2.2 17 a0 0); let x2 : Nat := (M.2.2 189 x1 0); let x3 : Nat := (M.2.2 19 x2 0); let x4 : Nat := (M.2.2 242 x3 0); (HX31_outAt x4 a1 M ∧ True)
theorem gX1_out_0 (a0 : Nat) (a1 : Int64) (M : FM) (T : Ty M) (n_a0 : fm_is M 10 10 a0 = true) (h : HX1_out_0 a0 a1 M) : gd (FX1_out_0 a0 a1 M) (GX1_out_0 a0 a1 M) (OkR M) := by
  delta FX1_out_0 BX1_out_0
  refine gd_c n_a0 ?_
  have f0 := (tN_17 T.1 n_a0)
  refine gd_c f0 ?_
  have f1 := (tN_189 T.1 (tN_17 T.1 n_a0))
  refine gd_c f1 ?_
  have f2 := (tN_19 T.1 (tN_189 T.1 (tN_17 T.1 n_a0)))
  refine gd_c f2 ?_
  have f3 := (tN_242 T.1 (tN_19 T.1 (tN_189 T.1 (tN_17 T.1 n_a0))))
  refine gd_c f3 ?_
  have f5 := (tN_242 T.1 (tN_19 T.1 (tN_189 T.1 (tN_17 T.1 n_a0))))
  refine gd_b (gX31_outAt _ _ _ ⟨T.1, T.2⟩ f5 h.1) (fun K4 => ?_)
  exact ⟨rfl, ⟨K4.1.1, K4.1.2⟩, K4.2⟩
noncomputable def GX1_out (a0 : Nat) (a1 : Int64) (M : FM) : Int32 × FM := GX1_out_0 a0 a1 M
def HX1_out (a0 : Nat) (a1 : Int64) (M : FM) : Prop := HX1_out_0 a0 a1 M
theorem gX1_out (a0 : Nat) (a1 : Int64) (M : FM) (T : Ty M) (n_a0 : fm_is M 10 10 a0 = true) (h : HX1_out a0 a1 M) : gd (FX1_out a0 a1 M) (GX1_out a0 a1 M) (OkR M) := gX1_out_0 a0 a1 M T n_a0 h
noncomputable def GX1_word_0 (a0 : Nat) (a1 : Int64) (M : FM) : Int64 × FM :=
  let x1 : Nat := (M.2.2 17 a0 0)
  let x2 : Nat := (M.2.2 189 x1 0)
  let x3 : Nat := (M.2.2 18 x2 0)
  let r4 : Int32 × FM := GX11_has x3 a1 (Int64.ofInt 8) M
  let M5 : FM := GX1_there r4.1 r4.2
  let x6 : Nat := (M5.2.2 17 a0 0)
  let x7 : Nat := (M5.2.2 189 x6 0)
  let x8 : Nat := (M5.2.2 18 x7 0)
  let r9 : Int64 × FM := GX11_load x8 a1 (Int32.ofInt 8) M5
  (r9.1, r9.2)
def HX1_word_0 (a0 : Nat) (a1 : Int64) (M : FM) : Prop := let x1 : Nat := (M.2.2 17 a0 0); let x2 : Nat := (M.2.2 189 x1 0); let x3 : Nat := (M.2.2 18 x2 0); let r4 : Int32 × FM := GX11_has x3 a1 (Int64.ofInt 8) M; (HX1_there r4.1 r4.2 ∧ let M5 : FM := GX1_there r4.1 r4.2; let x6 : Nat := (M5.2.2 17 a0 0); let x7 : Nat := (M5.2.2 189 x6 0); let x8 : Nat := (M5.2.2 18 x7 0); (HX11_load x8 a1 (Int32.ofInt 8) M5 ∧ True))
theorem gX1_word_0 (a0 : Nat) (a1 : Int64) (M : FM) (T : Ty M) (n_a0 : fm_is M 10 10 a0 = true) (h : HX1_word_0 a0 a1 M) : gd (FX1_word_0 a0 a1 M) (GX1_word_0 a0 a1 M) (OkR M) := by
  delta FX1_word_0 BX1_word_0
  refine gd_c n_a0 ?_
  have f0 := (tN_17 T.1 n_a0)
  refine gd_c f0 ?_
  have f1 := (tN_189 T.1 (tN_17 T.1 n_a0))
  refine gd_c f1 ?_
  have f2 := (tN_18 T.1 (tN_189 T.1 (tN_17 T.1 n_a0)))
  refine gd_c f2 ?_
  have f11 := (tN_18 T.1 (tN_189 T.1 (tN_17 T.1 n_a0)))
  refine gd_b (gX11_has _ _ _ _ ⟨T.1, T.2⟩ f11 ) (fun K3 => ?_)
  refine gd_b (gX1_there _ _ ⟨K3.1.1, K3.1.2⟩  h.1) (fun K4 => ?_)
  have f5 := (ext_is K4.2 (Nat.zero_lt_succ _) (ext_is K3.2.1 (Nat.zero_lt_succ _) n_a0))
  refine gd_c f5 ?_
  have f6 := (tN_17 K4.1.1 (ext_is K4.2 (Nat.zero_lt_succ _) (ext_is K3.2.1 (Nat.zero_lt_succ _) n_a0)))
  refine gd_c f6 ?_
  have f7 := (tN_189 K4.1.1 (tN_17 K4.1.1 (ext_is K4.2 (Nat.zero_lt_succ _) (ext_is K3.2.1 (Nat.zero_lt_succ _) n_a0))))
  refine gd_c f7 ?_
  have f8 := (tN_18 K4.1.1 (tN_189 K4.1.1 (tN_17 K4.1.1 (ext_is K4.2 (Nat.zero_lt_succ _) (ext_is K3.2.1 (Nat.zero_lt_succ _) n_a0)))))
  refine gd_c f8 ?_
  have f10 := (tN_18 K4.1.1 (tN_189 K4.1.1 (tN_17 K4.1.1 (ext_is K4.2 (Nat.zero_lt_succ _) (ext_is K3.2.1 (Nat.zero_lt_succ _) n_a0)))))
  refine gd_b (gX11_load _ _ _ _ ⟨K4.1.1, K4.1.2⟩ f10 h.2.1) (fun K9 => ?_)
  exact ⟨rfl, ⟨K9.1.1, K9.1.2⟩, (ext_tr K3.2.1 (ext_tr K4.2 K9.2))⟩
noncomputable def GX1_word (a0 : Nat) (a1 : Int64) (M : FM) : Int64 × FM := GX1_word_0 a0 a1 M
def HX1_word (a0 : Nat) (a1 : Int64) (M : FM) : Prop := HX1_word_0 a0 a1 M
theorem gX1_word (a0 : Nat) (a1 : Int64) (M : FM) (T : Ty M) (n_a0 : fm_is M 10 10 a0 = true) (h : HX1_word a0 a1 M) : gd (FX1_word a0 a1 M) (GX1_word a0 a1 M) (OkR M) := gX1_word_0 a0 a1 M T n_a0 h
noncomputable def GX0_word (a0 : Nat) (a1 : Int64) (a2 : Nat) (M : FM) : Int32 × FM := (Fh_law_word fN a0 a1 a2 M).getD (0, M)
def HX0_word (a0 : Nat) (a1 : Int64) (a2 : Nat) (M : FM) : Prop := ∃ r, Fh_law_word fN a0 a1 a2 M = some r ∧ OkR M r
theorem gX0_word (a0 : Nat) (a1 : Int64) (a2 : Nat) (M : FM) (h : HX0_word a0 a1 a2 M) : gd (Fh_law_word fN a0 a1 a2 M) (GX0_word a0 a1 a2 M) (OkR M) := gd_op h
def kX90_number (k8 : Nat → Int64 → Int64 → Int32 → FM → Option (Int64 × FM)) : (Nat × Int64 × Int64 × Int32 × FM) ⊕ (Int64 × FM) → Option (Int64 × FM)
  | .inl (v0, v1, v2, v3, M') => k8 v0 v1 v2 v3 M'
  | .inr (r) => some r
def pX90_number (M : FM) : (Nat × Int64 × Int64 × Int32 × FM) ⊕ (Int64 × FM) → Prop
  | .inl (_, _, _, _, M') => OkV M M'
  | .inr (r) => OkR M r
theorem pX90_number_t {M M1 : FM} (e : Ext M M1) : ∀ y, pX90_number M1 y → pX90_number M y
  | .inl (_, _, _, _, _), h => ⟨h.1, ext_tr e h.2⟩
  | .inr (r), h => ⟨h.1, ext_tr e h.2⟩
noncomputable def GX90_number_0 (a0 : Nat) (a1 : Int64) (a3 : Int32) (M : FM) : (Nat × Int64 × Int64 × Int32 × FM) ⊕ (Int64 × FM) :=
  let x1 : Int32 := (a3 - (Int32.ofInt 1))
  (.inl (a0, a1, (Int64.ofInt 0), x1, M))
theorem gX90_number_0 (k8 : Nat → Int64 → Int64 → Int32 → FM → Option (Int64 × FM)) (a0 : Nat) (a1 : Int64) (a3 : Int32) (M : FM) (T : Ty M) : gs (FX90_number_0 fN k8 a0 a1 a3 M) (GX90_number_0 a0 a1 a3 M) (kX90_number k8) (pX90_number M) := by
  delta FX90_number_0 BX90_number_0
  exact And.intro rfl (And.intro (And.intro T.1 T.2) ((ext_r _)))
noncomputable def GX90_number_8 (a0 : Nat) (a1 : Int64) (a4 : Int64) (a6 : Int32) (M : FM) : (Nat × Int64 × Int64 × Int32 × FM) ⊕ (Int64 × FM) :=
  fi (a6 < 0) (
    (.inr (a4, M))) (
    let x1 : Nat := (M.2.2 186 a0 0)
    let r2 : Int32 × FM := GX3_get x1 (a1.toInt32 + a6) M
    let x3 : Int64 := ((a4 <<< ((Int32.ofInt 8).toInt64 &&& 63)) ||| r2.1.toInt64)
    let x4 : Int32 := a6 + (Int32.ofInt (-1))
    (.inl (a0, a1, x3, x4, r2.2)))
def HX90_number_8 (a0 : Nat) (a1 : Int64) (a4 : Int64) (a6 : Int32) (M : FM) : Prop := ((a6 < 0 → True) ∧ (¬ (a6 < 0) → let x1 : Nat := (M.2.2 186 a0 0); (HX3_get x1 (a1.toInt32 + a6) M ∧ True)))
theorem gX90_number_8 (k8 : Nat → Int64 → Int64 → Int32 → FM → Option (Int64 × FM)) (a0 : Nat) (a1 : Int64) (a4 : Int64) (a6 : Int32) (M : FM) (T : Ty M) (n_a0 : fm_is M 66 66 a0 = true) (h : HX90_number_8 a0 a1 a4 a6 M) : gs (FX90_number_8 fN k8 a0 a1 a4 a6 M) (GX90_number_8 a0 a1 a4 a6 M) (kX90_number k8) (pX90_number M) := by
  delta FX90_number_8 BX90_number_8
  refine gs_fi (fun c0_0 => ?_) (fun c0_0 => ?_)
  · exact And.intro rfl (And.intro (And.intro T.1 T.2) ((ext_r _)))
  · refine gs_c n_a0 ?_
    have f1 := (tN_186 T.1 n_a0)
    refine gs_c f1 ?_
    have f3 := (tN_186 T.1 n_a0)
    refine gs_b (gX3_get _ _ _ ⟨T.1, T.2⟩ f3 (h.2 c0_0).1) (fun K2 => ?_)
    exact And.intro rfl (And.intro (And.intro K2.1.1 K2.1.2) K2.2)
noncomputable def GX90_number (a0 : Nat) (a1 : Int64) (a2 : Int32) (M : FM) : Int64 × FM := (FX90_number fN a0 a1 a2 M).getD (0, M)
def HX90_number (a0 : Nat) (a1 : Int64) (a2 : Int32) (M : FM) : Prop := ∃ r, FX90_number fN a0 a1 a2 M = some r ∧ OkR M r
theorem gX90_number (a0 : Nat) (a1 : Int64) (a2 : Int32) (M : FM) (h : HX90_number a0 a1 a2 M) : gd (FX90_number fN a0 a1 a2 M) (GX90_number a0 a1 a2 M) (OkR M) := gd_op h
noncomputable def GX90_begins_19 (s0 : Int32) (M : FM) : Int32 × FM :=
  (s0, M)
theorem gX90_begins_19 (s0 : Int32) (M : FM) (T : Ty M) (z_s0 : s0 = 0 ∨ s0 = 1) : gd (FX90_begins_19 fN s0 M) (GX90_begins_19 s0 M) (OkZ M) := by
  delta FX90_begins_19 BX90_begins_19
  exact gd_z z_s0 ⟨T.1, T.2⟩ (ext_r _) rfl
noncomputable def GX90_begins_0 (a0 : Nat) (M : FM) : Int32 × FM :=
  let r1 : Int64 × FM := GX90_number a0 (Int64.ofInt 0) (Int32.ofInt 7) M
  fi ((lg_cmp r1.1 (Int64.ofInt 282584257676671)) = 0) (
    GX90_begins_19 (Int32.ofInt 1) r1.2) (
    GX90_begins_19 (Int32.ofInt 0) r1.2)
def HX90_begins_0 (a0 : Nat) (M : FM) : Prop := (HX90_number a0 (Int64.ofInt 0) (Int32.ofInt 7) M ∧ True)
theorem gX90_begins_0 (a0 : Nat) (M : FM) (T : Ty M) (n_a0 : fm_is M 66 66 a0 = true) (h : HX90_begins_0 a0 M) : gd (FX90_begins_0 fN a0 M) (GX90_begins_0 a0 M) (OkZ M) := by
  delta FX90_begins_0 BX90_begins_0
  refine gd_c n_a0 ?_
  refine gd_b (gX90_number _ _ _ _ h.1) (fun K0 => ?_)
  refine gd_fi (fun c1_0 => ?_) (fun c1_0 => ?_)
  · exact gd_tZ K0.2 (gX90_begins_19 _ _ ⟨K0.1.1, K0.1.2⟩ fz_1 )
  · exact gd_tZ K0.2 (gX90_begins_19 _ _ ⟨K0.1.1, K0.1.2⟩ fz_0 )
noncomputable def GX90_begins (a0 : Nat) (M : FM) : Int32 × FM := GX90_begins_0 a0 M
def HX90_begins (a0 : Nat) (M : FM) : Prop := HX90_begins_0 a0 M
theorem gX90_begins (a0 : Nat) (M : FM) (T : Ty M) (n_a0 : fm_is M 66 66 a0 = true) (h : HX90_begins a0 M) : gd (FX90_begins fN a0 M) (GX90_begins a0 M) (OkZ M) := gX90_begins_0 a0 M T n_a0 h
noncomputable def GX90_fits_33 (s0 : Int32) (M : FM) : Int32 × FM :=
  (s0, M)
theorem gX90_fits_33 (s0 : Int32) (M : FM) (T : Ty M) (z_s0 : s0 = 0 ∨ s0 = 1) : gd (FX90_fits_33 s0 M) (GX90_fits_33 s0 M) (OkZ M) := by
  delta FX90_fits_33 BX90_fits_33
  exact gd_z z_s0 ⟨T.1, T.2⟩ (ext_r _) rfl
noncomputable def GX90_fits_32 (M : FM) : Int32 × FM :=
  GX90_fits_33 (Int32.ofInt 0) M
theorem gX90_fits_32 (M : FM) (T : Ty M) : gd (FX90_fits_32 M) (GX90_fits_32 M) (OkZ M) := by
  delta FX90_fits_32 BX90_fits_32
  exact gd_tZ (ext_r _) (gX90_fits_33 _ _ ⟨T.1, T.2⟩ fz_0 )
noncomputable def GX90_fits_0 (a0 : Int64) (a2 : Int64) (a4 : Int64) (M : FM) : Int32 × FM :=
  fi ((lg_cmp a0 (Int64.ofInt 0)) < 0) (
    GX90_fits_32 M) (
    fi (0 < (lg_cmp a0 a4)) (
      GX90_fits_32 M) (
      fi ((lg_cmp a2 (Int64.ofInt 0)) < 0) (
        GX90_fits_32 M) (
        fi (0 < (lg_cmp a2 (a4 - a0))) (
          GX90_fits_32 M) (
          GX90_fits_33 (Int32.ofInt 1) M))))
theorem gX90_fits_0 (a0 : Int64) (a2 : Int64) (a4 : Int64) (M : FM) (T : Ty M) : gd (FX90_fits_0 a0 a2 a4 M) (GX90_fits_0 a0 a2 a4 M) (OkZ M) := by
  delta FX90_fits_0 BX90_fits_0
  refine gd_fi (fun c0_0 => ?_) (fun c0_0 => ?_)
  · exact gd_tZ (ext_r _) (gX90_fits_32  _ ⟨T.1, T.2⟩  )
  · refine gd_fi (fun c1_0 => ?_) (fun c1_0 => ?_)
    · exact gd_tZ (ext_r _) (gX90_fits_32  _ ⟨T.1, T.2⟩  )
    · refine gd_fi (fun c2_0 => ?_) (fun c2_0 => ?_)
      · exact gd_tZ (ext_r _) (gX90_fits_32  _ ⟨T.1, T.2⟩  )
      · refine gd_fi (fun c3_0 => ?_) (fun c3_0 => ?_)
        · exact gd_tZ (ext_r _) (gX90_fits_32  _ ⟨T.1, T.2⟩  )
        · exact gd_tZ (ext_r _) (gX90_fits_33 _ _ ⟨T.1, T.2⟩ fz_1 )
noncomputable def GX90_fits (a0 : Int64) (a2 : Int64) (a4 : Int64) (M : FM) : Int32 × FM := GX90_fits_0 a0 a2 a4 M
theorem gX90_fits (a0 : Int64) (a2 : Int64) (a4 : Int64) (M : FM) (T : Ty M) : gd (FX90_fits a0 a2 a4 M) (GX90_fits a0 a2 a4 M) (OkZ M) := gX90_fits_0 a0 a2 a4 M T 
noncomputable def GX90_isSegment_22 (s0 : Int32) (M : FM) : Int32 × FM :=
  (s0, M)
theorem gX90_isSegment_22 (s0 : Int32) (M : FM) (T : Ty M) (z_s0 : s0 = 0 ∨ s0 = 1) : gd (FX90_isSegment_22 fN s0 M) (GX90_isSegment_22 s0 M) (OkZ M) := by
  delta FX90_isSegment_22 BX90_isSegment_22
  exact gd_z z_s0 ⟨T.1, T.2⟩ (ext_r _) rfl
noncomputable def GX90_isSegment_0 (a0 : Nat) (a1 : Int64) (a3 : Int32) (M : FM) : Int32 × FM :=
  let r1 : Int64 × FM := GX90_number a0 (a1 + ((Int32.ofInt 56) * a3).toInt64) (Int32.ofInt 4) M
  fi ((lg_cmp r1.1 (Int64.ofInt 1)) = 0) (
    GX90_isSegment_22 (Int32.ofInt 1) r1.2) (
    GX90_isSegment_22 (Int32.ofInt 0) r1.2)
def HX90_isSegment_0 (a0 : Nat) (a1 : Int64) (a3 : Int32) (M : FM) : Prop := (HX90_number a0 (a1 + ((Int32.ofInt 56) * a3).toInt64) (Int32.ofInt 4) M ∧ True)
theorem gX90_isSegment_0 (a0 : Nat) (a1 : Int64) (a3 : Int32) (M : FM) (T : Ty M) (n_a0 : fm_is M 66 66 a0 = true) (h : HX90_isSegment_0 a0 a1 a3 M) : gd (FX90_isSegment_0 fN a0 a1 a3 M) (GX90_isSegment_0 a0 a1 a3 M) (OkZ M) := by
  delta FX90_isSegment_0 BX90_isSegment_0
  refine gd_c n_a0 ?_
  refine gd_b (gX90_number _ _ _ _ h.1) (fun K0 => ?_)
  refine gd_fi (fun c1_0 => ?_) (fun c1_0 => ?_)
  · exact gd_tZ K0.2 (gX90_isSegment_22 _ _ ⟨K0.1.1, K0.1.2⟩ fz_1 )
  · exact gd_tZ K0.2 (gX90_isSegment_22 _ _ ⟨K0.1.1, K0.1.2⟩ fz_0 )
noncomputable def GX90_isSegment (a0 : Nat) (a1 : Int64) (a3 : Int32) (M : FM) : Int32 × FM := GX90_isSegment_0 a0 a1 a3 M
def HX90_isSegment (a0 : Nat) (a1 : Int64) (a3 : Int32) (M : FM) : Prop := HX90_isSegment_0 a0 a1 a3 M
theorem gX90_isSegment (a0 : Nat) (a1 : Int64) (a3 : Int32) (M : FM) (T : Ty M) (n_a0 : fm_is M 66 66 a0 = true) (h : HX90_isSegment a0 a1 a3 M) : gd (FX90_isSegment fN a0 a1 a3 M) (GX90_isSegment a0 a1 a3 M) (OkZ M) := gX90_isSegment_0 a0 a1 a3 M T n_a0 h
noncomputable def GX90_meets_129 (s0 : Int32) (M : FM) : Int32 × FM :=
  (s0, M)
theorem gX90_meets_129 (s0 : Int32) (M : FM) (T : Ty M) (z_s0 : s0 = 0 ∨ s0 = 1) : gd (FX90_meets_129 fN s0 M) (GX90_meets_129 s0 M) (OkZ M) := by
  delta FX90_meets_129 BX90_meets_129
  exact gd_z z_s0 ⟨T.1, T.2⟩ (ext_r _) rfl
noncomputable def GX90_meets_128 (M : FM) : Int32 × FM :=
  GX90_meets_129 (Int32.ofInt 0) M
theorem gX90_meets_128 (M : FM) (T : Ty M) : gd (FX90_meets_128 fN M) (GX90_meets_128 M) (OkZ M) := by
  delta FX90_meets_128 BX90_meets_128
  exact gd_tZ (ext_r _) (gX90_meets_129 _ _ ⟨T.1, T.2⟩ fz_0 )
noncomputable def GX90_meets_0 (a0 : Nat) (a1 : Int64) (a3 : Int32) (a4 : Int32) (M : FM) : Int32 × FM :=
  let r1 : Int64 × FM := GX90_number a0 ((a1 + ((Int32.ofInt 56) * a3).toInt64) + (Int64.ofInt 24)) (Int32.ofInt 8) M
  let r2 : Int64 × FM := GX90_number a0 ((a1 + ((Int32.ofInt 56) * a3).toInt64) + (Int64.ofInt 40)) (Int32.ofInt 8) r1.2
  let r3 : Int64 × FM := GX90_number a0 ((a1 + ((Int32.ofInt 56) * a4).toInt64) + (Int64.ofInt 24)) (Int32.ofInt 8) r2.2
  let r4 : Int64 × FM := GX90_number a0 ((a1 + ((Int32.ofInt 56) * a4).toInt64) + (Int64.ofInt 40)) (Int32.ofInt 8) r3.2
  let r5 : Int32 × FM := GX90_isSegment a0 a1 a4 r4.2
  fi (r5.1 = 0) (
    GX90_meets_128 r5.2) (
    fi ((lg_cmp r2.1 (Int64.ofInt 0)) ≤ 0) (
      GX90_meets_128 r5.2) (
      fi ((lg_cmp r4.1 (Int64.ofInt 0)) ≤ 0) (
        GX90_meets_128 r5.2) (
        fi (0 ≤ (lg_cmp r1.1 (r3.1 + r4.1))) (
          GX90_meets_128 r5.2) (
          fi (0 ≤ (lg_cmp r3.1 (r1.1 + r2.1))) (
            GX90_meets_128 r5.2) (
            GX90_meets_129 (Int32.ofInt 1) r5.2)))))
def HX90_meets_0 (a0 : Nat) (a1 : Int64) (a3 : Int32) (a4 : Int32) (M : FM) : Prop := (HX90_number a0 ((a1 + ((Int32.ofInt 56) * a3).toInt64) + (Int64.ofInt 24)) (Int32.ofInt 8) M ∧ let r1 : Int64 × FM := GX90_number a0 ((a1 + ((Int32.ofInt 56) * a3).toInt64) + (Int64.ofInt 24)) (Int32.ofInt 8) M; (HX90_number a0 ((a1 + ((Int32.ofInt 56) * a3).toInt64) + (Int64.ofInt 40)) (Int32.ofInt 8) r1.2 ∧ let r2 : Int64 × FM := GX90_number a0 ((a1 + ((Int32.ofInt 56) * a3).toInt64) + (Int64.ofInt 40)) (Int32.ofInt 8) r1.2; (HX90_number a0 ((a1 + ((Int32.ofInt 56) * a4).toInt64) + (Int64.ofInt 24)) (Int32.ofInt 8) r2.2 ∧ let r3 : Int64 × FM := GX90_number a0 ((a1 + ((Int32.ofInt 56) * a4).toInt64) + (Int64.ofInt 24)) (Int32.ofInt 8) r2.2; (HX90_number a0 ((a1 + ((Int32.ofInt 56) * a4).toInt64) + (Int64.ofInt 40)) (Int32.ofInt 8) r3.2 ∧ let r4 : Int64 × FM := GX90_number a0 ((a1 + ((Int32.ofInt 56) * a4).toInt64) + (Int64.ofInt 40)) (Int32.ofInt 8) r3.2; (HX90_isSegment a0 a1 a4 r4.2 ∧ True)))))
theorem gX90_meets_0 (a0 : Nat) (a1 : Int64) (a3 : Int32) (a4 : Int32) (M : FM) (T : Ty M) (n_a0 : fm_is M 66 66 a0 = true) (h : HX90_meets_0 a0 a1 a3 a4 M) : gd (FX90_meets_0 fN a0 a1 a3 a4 M) (GX90_meets_0 a0 a1 a3 a4 M) (OkZ M) := by
  delta FX90_meets_0 BX90_meets_0
  refine gd_c n_a0 ?_
  refine gd_b (gX90_number _ _ _ _ h.1) (fun K0 => ?_)
  have f1 := (ext_is K0.2 (Nat.zero_lt_succ _) n_a0)
  refine gd_c f1 ?_
  refine gd_b (gX90_number _ _ _ _ h.2.1) (fun K2 => ?_)
  have f3 := (ext_is K2.2 (Nat.zero_lt_succ _) (ext_is K0.2 (Nat.zero_lt_succ _) n_a0))
  refine gd_c f3 ?_
  refine gd_b (gX90_number _ _ _ _ h.2.2.1) (fun K4 => ?_)
  have f5 := (ext_is K4.2 (Nat.zero_lt_succ _) (ext_is K2.2 (Nat.zero_lt_succ _) (ext_is K0.2 (Nat.zero_lt_succ _) n_a0)))
  refine gd_c f5 ?_
  refine gd_b (gX90_number _ _ _ _ h.2.2.2.1) (fun K6 => ?_)
  have f7 := (ext_is K6.2 (Nat.zero_lt_succ _) (ext_is K4.2 (Nat.zero_lt_succ _) (ext_is K2.2 (Nat.zero_lt_succ _) (ext_is K0.2 (Nat.zero_lt_succ _) n_a0))))
  refine gd_c f7 ?_
  have f14 := (ext_is K6.2 (Nat.zero_lt_succ _) (ext_is K4.2 (Nat.zero_lt_succ _) (ext_is K2.2 (Nat.zero_lt_succ _) (ext_is K0.2 (Nat.zero_lt_succ _) n_a0))))
  refine gd_b (gX90_isSegment _ _ _ _ ⟨K6.1.1, K6.1.2⟩ f14 h.2.2.2.2.1) (fun K8 => ?_)
  refine gd_fi (fun c9_0 => ?_) (fun c9_0 => ?_)
  · exact gd_tZ (ext_tr K0.2 (ext_tr K2.2 (ext_tr K4.2 (ext_tr K6.2 K8.2.1)))) (gX90_meets_128  _ ⟨K8.1.1, K8.1.2⟩  )
  · refine gd_fi (fun c10_0 => ?_) (fun c10_0 => ?_)
    · exact gd_tZ (ext_tr K0.2 (ext_tr K2.2 (ext_tr K4.2 (ext_tr K6.2 K8.2.1)))) (gX90_meets_128  _ ⟨K8.1.1, K8.1.2⟩  )
    · refine gd_fi (fun c11_0 => ?_) (fun c11_0 => ?_)
      · exact gd_tZ (ext_tr K0.2 (ext_tr K2.2 (ext_tr K4.2 (ext_tr K6.2 K8.2.1)))) (gX90_meets_128  _ ⟨K8.1.1, K8.1.2⟩  )
      · refine gd_fi (fun c12_0 => ?_) (fun c12_0 => ?_)
        · exact gd_tZ (ext_tr K0.2 (ext_tr K2.2 (ext_tr K4.2 (ext_tr K6.2 K8.2.1)))) (gX90_meets_128  _ ⟨K8.1.1, K8.1.2⟩  )
        · refine gd_fi (fun c13_0 => ?_) (fun c13_0 => ?_)
          · exact gd_tZ (ext_tr K0.2 (ext_tr K2.2 (ext_tr K4.2 (ext_tr K6.2 K8.2.1)))) (gX90_meets_128  _ ⟨K8.1.1, K8.1.2⟩  )
          · exact gd_tZ (ext_tr K0.2 (ext_tr K2.2 (ext_tr K4.2 (ext_tr K6.2 K8.2.1)))) (gX90_meets_129 _ _ ⟨K8.1.1, K8.1.2⟩ fz_1 )
noncomputable def GX90_meets (a0 : Nat) (a1 : Int64) (a3 : Int32) (a4 : Int32) (M : FM) : Int32 × FM := GX90_meets_0 a0 a1 a3 a4 M
def HX90_meets (a0 : Nat) (a1 : Int64) (a3 : Int32) (a4 : Int32) (M : FM) : Prop := HX90_meets_0 a0 a1 a3 a4 M
theorem gX90_meets (a0 : Nat) (a1 : Int64) (a3 : Int32) (a4 : Int32) (M : FM) (T : Ty M) (n_a0 : fm_is M 66 66 a0 = true) (h : HX90_meets a0 a1 a3 a4 M) : gd (FX90_meets fN a0 a1 a3 a4 M) (GX90_meets a0 a1 a3 a4 M) (OkZ M) := gX90_meets_0 a0 a1 a3 a4 M T n_a0 h
def kX90_segmentFault (k158 : Nat → Int64 → Int32 → Int32 → FM → Option (Int32 × FM)) : (Nat × Int64 × Int32 × Int32 × FM) ⊕ (Int32 × FM) → Option (Int32 × FM)
  | .inl (v0, v1, v2, v3, M') => k158 v0 v1 v2 v3 M'
  | .inr (r) => some r
def pX90_segmentFault (M : FM) : (Nat × Int64 × Int32 × Int32 × FM) ⊕ (Int32 × FM) → Prop
  | .inl (_, _, _, _, M') => OkV M M'
  | .inr (r) => OkR M r
theorem pX90_segmentFault_t {M M1 : FM} (e : Ext M M1) : ∀ y, pX90_segmentFault M1 y → pX90_segmentFault M y
  | .inl (_, _, _, _, _), h => ⟨h.1, ext_tr e h.2⟩
  | .inr (r), h => ⟨h.1, ext_tr e h.2⟩
noncomputable def GX90_segmentFault_155 (a0 : Nat) (a1 : Int64) (a3 : Int32) (M : FM) : (Nat × Int64 × Int32 × Int32 × FM) ⊕ (Int32 × FM) :=
  (.inl (a0, a1, a3, (Int32.ofInt 0), M))
theorem gX90_segmentFault_155 (k158 : Nat → Int64 → Int32 → Int32 → FM → Option (Int32 × FM)) (a0 : Nat) (a1 : Int64) (a3 : Int32) (M : FM) (T : Ty M) : gs (FX90_segmentFault_155 fN k158 a0 a1 a3 M) (GX90_segmentFault_155 a0 a1 a3 M) (kX90_segmentFault k158) (pX90_segmentFault M) := by
  delta FX90_segmentFault_155 BX90_segmentFault_155
  exact And.intro rfl (And.intro (And.intro T.1 T.2) ((ext_r _)))
noncomputable def GX90_segmentFault_152 (M : FM) : (Nat × Int64 × Int32 × Int32 × FM) ⊕ (Int32 × FM) :=
  (.inr ((Int32.ofInt 6), M))
theorem gX90_segmentFault_152 (k158 : Nat → Int64 → Int32 → Int32 → FM → Option (Int32 × FM)) (M : FM) (T : Ty M) : gs (FX90_segmentFault_152 fN k158 M) (GX90_segmentFault_152 M) (kX90_segmentFault k158) (pX90_segmentFault M) := by
  delta FX90_segmentFault_152 BX90_segmentFault_152
  exact And.intro rfl (And.intro (And.intro T.1 T.2) ((ext_r _)))
noncomputable def GX90_segmentFault_113 (M : FM) : (Nat × Int64 × Int32 × Int32 × FM) ⊕ (Int32 × FM) :=
  (.inr ((Int32.ofInt 5), M))
theorem gX90_segmentFault_113 (k158 : Nat → Int64 → Int32 → Int32 → FM → Option (Int32 × FM)) (M : FM) (T : Ty M) : gs (FX90_segmentFault_113 fN k158 M) (GX90_segmentFault_113 M) (kX90_segmentFault k158) (pX90_segmentFault M) := by
  delta FX90_segmentFault_113 BX90_segmentFault_113
  exact And.intro rfl (And.intro (And.intro T.1 T.2) ((ext_r _)))
noncomputable def GX90_segmentFault_78 (a0 : Nat) (a1 : Int64) (a3 : Int32) (a4 : Int64) (a6 : Int64) (a8 : Int64) (a10 : Int64) (s0 : Int32) (M : FM) : (Nat × Int64 × Int32 × Int32 × FM) ⊕ (Int32 × FM) :=
  let r1 : Int64 × FM := GX90_number a0 (a4 + (Int64.ofInt 8)) (Int32.ofInt 8) M
  let x2 : Nat := (r1.2.2.2 186 a0 0)
  let r3 : Int32 × FM := GX90_fits r1.1 a6 ((r1.2.1 262 x2 0).toInt64) r1.2
  fi (r3.1 = 0) (
    GX90_segmentFault_113 r3.2) (
    fi (s0 = 0) (
      fi ((lg_cmp a8 (Int64.ofInt 0)) = 0) (
        GX90_segmentFault_155 a0 a1 a3 r3.2) (
        fi ((lg_cmp a8 (Int64.ofInt 0)) < 0) (
          GX90_segmentFault_152 r3.2) (
          fi (0 < (lg_cmp a8 (Int64.ofInt 4194304))) (
            GX90_segmentFault_152 r3.2) (
            let x4 : Nat := (r3.2.2.2 187 a0 0)
            let r5 : Int32 × FM := GX11_has x4 a10 a8 r3.2
            fi (r5.1 = 0) (
              GX90_segmentFault_152 r5.2) (
              GX90_segmentFault_155 a0 a1 a3 r5.2))))) (
      GX90_segmentFault_113 r3.2))
def HX90_segmentFault_78 (a0 : Nat) (a1 : Int64) (a3 : Int32) (a4 : Int64) (a6 : Int64) (a8 : Int64) (a10 : Int64) (s0 : Int32) (M : FM) : Prop := (HX90_number a0 (a4 + (Int64.ofInt 8)) (Int32.ofInt 8) M ∧ True)
theorem gX90_segmentFault_78 (k158 : Nat → Int64 → Int32 → Int32 → FM → Option (Int32 × FM)) (a0 : Nat) (a1 : Int64) (a3 : Int32) (a4 : Int64) (a6 : Int64) (a8 : Int64) (a10 : Int64) (s0 : Int32) (M : FM) (T : Ty M) (n_a0 : fm_is M 66 66 a0 = true) (h : HX90_segmentFault_78 a0 a1 a3 a4 a6 a8 a10 s0 M) : gs (FX90_segmentFault_78 fN k158 a0 a1 a3 a4 a6 a8 a10 s0 M) (GX90_segmentFault_78 a0 a1 a3 a4 a6 a8 a10 s0 M) (kX90_segmentFault k158) (pX90_segmentFault M) := by
  delta FX90_segmentFault_78 BX90_segmentFault_78
  refine gs_c n_a0 ?_
  refine gs_b (gX90_number _ _ _ _ h.1) (fun K0 => ?_)
  have f1 := (ext_is K0.2 (Nat.zero_lt_succ _) n_a0)
  refine gs_c f1 ?_
  have f2 := (tN_186 K0.1.1 (ext_is K0.2 (Nat.zero_lt_succ _) n_a0))
  refine gs_c f2 ?_
  refine gs_b (gX90_fits _ _ _ _ ⟨K0.1.1, K0.1.2⟩  ) (fun K3 => ?_)
  refine gs_fi (fun c4_0 => ?_) (fun c4_0 => ?_)
  · exact gs_t (pX90_segmentFault_t (ext_tr K0.2 K3.2.1)) (gX90_segmentFault_113 k158  _ ⟨K3.1.1, K3.1.2⟩  )
  · refine gs_fi (fun c5_0 => ?_) (fun c5_0 => ?_)
    · refine gs_fi (fun c6_0 => ?_) (fun c6_0 => ?_)
      · exact gs_t (pX90_segmentFault_t (ext_tr K0.2 K3.2.1)) (gX90_segmentFault_155 k158 _ _ _ _ ⟨K3.1.1, K3.1.2⟩  )
      · refine gs_fi (fun c7_0 => ?_) (fun c7_0 => ?_)
        · exact gs_t (pX90_segmentFault_t (ext_tr K0.2 K3.2.1)) (gX90_segmentFault_152 k158  _ ⟨K3.1.1, K3.1.2⟩  )
        · refine gs_fi (fun c8_0 => ?_) (fun c8_0 => ?_)
          · exact gs_t (pX90_segmentFault_t (ext_tr K0.2 K3.2.1)) (gX90_segmentFault_152 k158  _ ⟨K3.1.1, K3.1.2⟩  )
          · have f9 := (ext_is K3.2.1 (Nat.zero_lt_succ _) (ext_is K0.2 (Nat.zero_lt_succ _) n_a0))
            refine gs_c f9 ?_
            have f10 := (tN_187 K3.1.1 (ext_is K3.2.1 (Nat.zero_lt_succ _) (ext_is K0.2 (Nat.zero_lt_succ _) n_a0)))
            refine gs_c f10 ?_
            have f13 := (tN_187 K3.1.1 (ext_is K3.2.1 (Nat.zero_lt_succ _) (ext_is K0.2 (Nat.zero_lt_succ _) n_a0)))
            refine gs_b (gX11_has _ _ _ _ ⟨K3.1.1, K3.1.2⟩ f13 ) (fun K11 => ?_)
            refine gs_fi (fun c12_0 => ?_) (fun c12_0 => ?_)
            · exact gs_t (pX90_segmentFault_t (ext_tr K0.2 (ext_tr K3.2.1 K11.2.1))) (gX90_segmentFault_152 k158  _ ⟨K11.1.1, K11.1.2⟩  )
            · exact gs_t (pX90_segmentFault_t (ext_tr K0.2 (ext_tr K3.2.1 K11.2.1))) (gX90_segmentFault_155 k158 _ _ _ _ ⟨K11.1.1, K11.1.2⟩  )
    · exact gs_t (pX90_segmentFault_t (ext_tr K0.2 K3.2.1)) (gX90_segmentFault_113 k158  _ ⟨K3.1.1, K3.1.2⟩  )
noncomputable def GX90_segmentFault_77 (a0 : Nat) (a1 : Int64) (a3 : Int32) (a4 : Int64) (a6 : Int64) (a8 : Int64) (a10 : Int64) (M : FM) : (Nat × Int64 × Int32 × Int32 × FM) ⊕ (Int32 × FM) :=
  GX90_segmentFault_78 a0 a1 a3 a4 a6 a8 a10 (Int32.ofInt 0) M
def HX90_segmentFault_77 (a0 : Nat) (a1 : Int64) (a3 : Int32) (a4 : Int64) (a6 : Int64) (a8 : Int64) (a10 : Int64) (M : FM) : Prop := HX90_segmentFault_78 a0 a1 a3 a4 a6 a8 a10 (Int32.ofInt 0) M
theorem gX90_segmentFault_77 (k158 : Nat → Int64 → Int32 → Int32 → FM → Option (Int32 × FM)) (a0 : Nat) (a1 : Int64) (a3 : Int32) (a4 : Int64) (a6 : Int64) (a8 : Int64) (a10 : Int64) (M : FM) (T : Ty M) (n_a0 : fm_is M 66 66 a0 = true) (h : HX90_segmentFault_77 a0 a1 a3 a4 a6 a8 a10 M) : gs (FX90_segmentFault_77 fN k158 a0 a1 a3 a4 a6 a8 a10 M) (GX90_segmentFault_77 a0 a1 a3 a4 a6 a8 a10 M) (kX90_segmentFault k158) (pX90_segmentFault M) := by
  delta FX90_segmentFault_77 BX90_segmentFault_77
  exact gs_t (pX90_segmentFault_t (ext_r _)) (gX90_segmentFault_78 k158 _ _ _ _ _ _ _ _ _ ⟨T.1, T.2⟩ n_a0 h)
noncomputable def GX90_segmentFault_73 (a0 : Nat) (a1 : Int64) (a3 : Int32) (a4 : Int64) (a6 : Int64) (a8 : Int64) (a10 : Int64) (M : FM) : (Nat × Int64 × Int32 × Int32 × FM) ⊕ (Int32 × FM) :=
  GX90_segmentFault_78 a0 a1 a3 a4 a6 a8 a10 (Int32.ofInt 1) M
def HX90_segmentFault_73 (a0 : Nat) (a1 : Int64) (a3 : Int32) (a4 : Int64) (a6 : Int64) (a8 : Int64) (a10 : Int64) (M : FM) : Prop := HX90_segmentFault_78 a0 a1 a3 a4 a6 a8 a10 (Int32.ofInt 1) M
theorem gX90_segmentFault_73 (k158 : Nat → Int64 → Int32 → Int32 → FM → Option (Int32 × FM)) (a0 : Nat) (a1 : Int64) (a3 : Int32) (a4 : Int64) (a6 : Int64) (a8 : Int64) (a10 : Int64) (M : FM) (T : Ty M) (n_a0 : fm_is M 66 66 a0 = true) (h : HX90_segmentFault_73 a0 a1 a3 a4 a6 a8 a10 M) : gs (FX90_segmentFault_73 fN k158 a0 a1 a3 a4 a6 a8 a10 M) (GX90_segmentFault_73 a0 a1 a3 a4 a6 a8 a10 M) (kX90_segmentFault k158) (pX90_segmentFault M) := by
  delta FX90_segmentFault_73 BX90_segmentFault_73
  exact gs_t (pX90_segmentFault_t (ext_r _)) (gX90_segmentFault_78 k158 _ _ _ _ _ _ _ _ _ ⟨T.1, T.2⟩ n_a0 h)
noncomputable def GX90_segmentFault_0 (a0 : Nat) (a1 : Int64) (a3 : Int32) (M : FM) : (Nat × Int64 × Int32 × Int32 × FM) ⊕ (Int32 × FM) :=
  let x1 : Int64 := (a1 + ((Int32.ofInt 56) * a3).toInt64)
  let r2 : Int64 × FM := GX90_number a0 (x1 + (Int64.ofInt 32)) (Int32.ofInt 8) M
  let r3 : Int64 × FM := GX90_number a0 (x1 + (Int64.ofInt 40)) (Int32.ofInt 8) r2.2
  let r4 : Int64 × FM := GX90_number a0 (x1 + (Int64.ofInt 24)) (Int32.ofInt 8) r3.2
  fi ((lg_cmp r2.1 (Int64.ofInt 0)) < 0) (
    GX90_segmentFault_73 a0 a1 a3 x1 r2.1 r3.1 r4.1 r4.2) (
    fi ((lg_cmp r3.1 (Int64.ofInt 0)) < 0) (
      GX90_segmentFault_77 a0 a1 a3 x1 r2.1 r3.1 r4.1 r4.2) (
      fi ((lg_cmp r2.1 r3.1) ≤ 0) (
        GX90_segmentFault_77 a0 a1 a3 x1 r2.1 r3.1 r4.1 r4.2) (
        GX90_segmentFault_73 a0 a1 a3 x1 r2.1 r3.1 r4.1 r4.2)))
def HX90_segmentFault_0 (a0 : Nat) (a1 : Int64) (a3 : Int32) (M : FM) : Prop := let x1 : Int64 := (a1 + ((Int32.ofInt 56) * a3).toInt64); (HX90_number a0 (x1 + (Int64.ofInt 32)) (Int32.ofInt 8) M ∧ let r2 : Int64 × FM := GX90_number a0 (x1 + (Int64.ofInt 32)) (Int32.ofInt 8) M; (HX90_number a0 (x1 + (Int64.ofInt 40)) (Int32.ofInt 8) r2.2 ∧ let r3 : Int64 × FM := GX90_number a0 (x1 + (Int64.ofInt 40)) (Int32.ofInt 8) r2.2; (HX90_number a0 (x1 + (Int64.ofInt 24)) (Int32.ofInt 8) r3.2 ∧ let r4 : Int64 × FM := GX90_number a0 (x1 + (Int64.ofInt 24)) (Int32.ofInt 8) r3.2; (((lg_cmp r2.1 (Int64.ofInt 0)) < 0 → HX90_segmentFault_73 a0 a1 a3 x1 r2.1 r3.1 r4.1 r4.2) ∧ (¬ ((lg_cmp r2.1 (Int64.ofInt 0)) < 0) → (((lg_cmp r3.1 (Int64.ofInt 0)) < 0 → HX90_segmentFault_77 a0 a1 a3 x1 r2.1 r3.1 r4.1 r4.2) ∧ (¬ ((lg_cmp r3.1 (Int64.ofInt 0)) < 0) → (((lg_cmp r2.1 r3.1) ≤ 0 → HX90_segmentFault_77 a0 a1 a3 x1 r2.1 r3.1 r4.1 r4.2) ∧ (¬ ((lg_cmp r2.1 r3.1) ≤ 0) → HX90_segmentFault_73 a0 a1 a3 x1 r2.1 r3.1 r4.1 r4.2)))))))))
theorem gX90_segmentFault_0 (k158 : Nat → Int64 → Int32 → Int32 → FM → Option (Int32 × FM)) (a0 : Nat) (a1 : Int64) (a3 : Int32) (M : FM) (T : Ty M) (n_a0 : fm_is M 66 66 a0 = true) (h : HX90_segmentFault_0 a0 a1 a3 M) : gs (FX90_segmentFault_0 fN k158 a0 a1 a3 M) (GX90_segmentFault_0 a0 a1 a3 M) (kX90_segmentFault k158) (pX90_segmentFault M) := by
  delta FX90_segmentFault_0 BX90_segmentFault_0
  refine gs_c n_a0 ?_
  refine gs_b (gX90_number _ _ _ _ h.1) (fun K0 => ?_)
  have f1 := (ext_is K0.2 (Nat.zero_lt_succ _) n_a0)
  refine gs_c f1 ?_
  refine gs_b (gX90_number _ _ _ _ h.2.1) (fun K2 => ?_)
  have f3 := (ext_is K2.2 (Nat.zero_lt_succ _) (ext_is K0.2 (Nat.zero_lt_succ _) n_a0))
  refine gs_c f3 ?_
  refine gs_b (gX90_number _ _ _ _ h.2.2.1) (fun K4 => ?_)
  refine gs_fi (fun c5_0 => ?_) (fun c5_0 => ?_)
  · have f6 := (ext_is K4.2 (Nat.zero_lt_succ _) (ext_is K2.2 (Nat.zero_lt_succ _) (ext_is K0.2 (Nat.zero_lt_succ _) n_a0)))
    exact gs_t (pX90_segmentFault_t (ext_tr K0.2 (ext_tr K2.2 K4.2))) (gX90_segmentFault_73 k158 _ _ _ _ _ _ _ _ ⟨K4.1.1, K4.1.2⟩ f6 (h.2.2.2.1 c5_0))
  · refine gs_fi (fun c7_0 => ?_) (fun c7_0 => ?_)
    · have f8 := (ext_is K4.2 (Nat.zero_lt_succ _) (ext_is K2.2 (Nat.zero_lt_succ _) (ext_is K0.2 (Nat.zero_lt_succ _) n_a0)))
      exact gs_t (pX90_segmentFault_t (ext_tr K0.2 (ext_tr K2.2 K4.2))) (gX90_segmentFault_77 k158 _ _ _ _ _ _ _ _ ⟨K4.1.1, K4.1.2⟩ f8 ((h.2.2.2.2 c5_0).1 c7_0))
    · refine gs_fi (fun c9_0 => ?_) (fun c9_0 => ?_)
      · have f10 := (ext_is K4.2 (Nat.zero_lt_succ _) (ext_is K2.2 (Nat.zero_lt_succ _) (ext_is K0.2 (Nat.zero_lt_succ _) n_a0)))
        exact gs_t (pX90_segmentFault_t (ext_tr K0.2 (ext_tr K2.2 K4.2))) (gX90_segmentFault_77 k158 _ _ _ _ _ _ _ _ ⟨K4.1.1, K4.1.2⟩ f10 (((h.2.2.2.2 c5_0).2 c7_0).1 c9_0))
      · have f11 := (ext_is K4.2 (Nat.zero_lt_succ _) (ext_is K2.2 (Nat.zero_lt_succ _) (ext_is K0.2 (Nat.zero_lt_succ _) n_a0)))
        exact gs_t (pX90_segmentFault_t (ext_tr K0.2 (ext_tr K2.2 K4.2))) (gX90_segmentFault_73 k158 _ _ _ _ _ _ _ _ ⟨K4.1.1, K4.1.2⟩ f11 (((h.2.2.2.2 c5_0).2 c7_0).2 c9_0))
noncomputable def GX90_segmentFault_158 (a0 : Nat) (a1 : Int64) (a3 : Int32) (a13 : Int32) (M : FM) : (Nat × Int64 × Int32 × Int32 × FM) ⊕ (Int32 × FM) :=
  fi (a3 ≤ a13) (
    (.inr ((Int32.ofInt 0), M))) (
    let r1 : Int32 × FM := GX90_meets a0 a1 a3 a13 M
    fi (r1.1 = 0) (
      let x2 : Int32 := a13 + (Int32.ofInt 1)
      (.inl (a0, a1, a3, x2, r1.2))) (
      (.inr ((Int32.ofInt 7), r1.2))))
def HX90_segmentFault_158 (a0 : Nat) (a1 : Int64) (a3 : Int32) (a13 : Int32) (M : FM) : Prop := ((a3 ≤ a13 → True) ∧ (¬ (a3 ≤ a13) → (HX90_meets a0 a1 a3 a13 M ∧ True)))
theorem gX90_segmentFault_158 (k158 : Nat → Int64 → Int32 → Int32 → FM → Option (Int32 × FM)) (a0 : Nat) (a1 : Int64) (a3 : Int32) (a13 : Int32) (M : FM) (T : Ty M) (n_a0 : fm_is M 66 66 a0 = true) (h : HX90_segmentFault_158 a0 a1 a3 a13 M) : gs (FX90_segmentFault_158 fN k158 a0 a1 a3 a13 M) (GX90_segmentFault_158 a0 a1 a3 a13 M) (kX90_segmentFault k158) (pX90_segmentFault M) := by
  delta FX90_segmentFault_158 BX90_segmentFault_158
  refine gs_fi (fun c0_0 => ?_) (fun c0_0 => ?_)
  · exact And.intro rfl (And.intro (And.intro T.1 T.2) ((ext_r _)))
  · refine gs_c n_a0 ?_
    refine gs_b (gX90_meets _ _ _ _ _ ⟨T.1, T.2⟩ n_a0 (h.2 c0_0).1) (fun K1 => ?_)
    refine gs_fi (fun c2_0 => ?_) (fun c2_0 => ?_)
    · exact And.intro rfl (And.intro (And.intro K1.1.1 K1.1.2) K1.2.1)
    · exact And.intro rfl (And.intro (And.intro K1.1.1 K1.1.2) K1.2.1)
noncomputable def GX90_segmentFault (a0 : Nat) (a1 : Int64) (a2 : Int32) (M : FM) : Int32 × FM := (FX90_segmentFault fN a0 a1 a2 M).getD (0, M)
def HX90_segmentFault (a0 : Nat) (a1 : Int64) (a2 : Int32) (M : FM) : Prop := ∃ r, FX90_segmentFault fN a0 a1 a2 M = some r ∧ OkR M r
theorem gX90_segmentFault (a0 : Nat) (a1 : Int64) (a2 : Int32) (M : FM) (h : HX90_segmentFault a0 a1 a2 M) : gd (FX90_segmentFault fN a0 a1 a2 M) (GX90_segmentFault a0 a1 a2 M) (OkR M) := gd_op h
def kX90_fault (k155 : Nat → Int64 → Int32 → Int32 → FM → Option (Int32 × FM)) : (Nat × Int64 × Int32 × Int32 × FM) ⊕ (Int32 × FM) → Option (Int32 × FM)
  | .inl (v0, v1, v2, v3, M') => k155 v0 v1 v2 v3 M'
  | .inr (r) => some r
def pX90_fault (M : FM) : (Nat × Int64 × Int32 × Int32 × FM) ⊕ (Int32 × FM) → Prop
  | .inl (_, _, _, _, M') => OkV M M'
  | .inr (r) => OkR M r
theorem pX90_fault_t {M M1 : FM} (e : Ext M M1) : ∀ y, pX90_fault M1 y → pX90_fault M y
  | .inl (_, _, _, _, _), h => ⟨h.1, ext_tr e h.2⟩
  | .inr (r), h => ⟨h.1, ext_tr e h.2⟩
noncomputable def GX90_fault_237 (s0 : Int32) (M : FM) : (Nat × Int64 × Int32 × Int32 × FM) ⊕ (Int32 × FM) :=
  (.inr (s0, M))
theorem gX90_fault_237 (k155 : Nat → Int64 → Int32 → Int32 → FM → Option (Int32 × FM)) (s0 : Int32) (M : FM) (T : Ty M) : gs (FX90_fault_237 fN k155 s0 M) (GX90_fault_237 s0 M) (kX90_fault k155) (pX90_fault M) := by
  delta FX90_fault_237 BX90_fault_237
  exact And.intro rfl (And.intro (And.intro T.1 T.2) ((ext_r _)))
noncomputable def GX90_fault_231 (M : FM) : (Nat × Int64 × Int32 × Int32 × FM) ⊕ (Int32 × FM) :=
  GX90_fault_237 (Int32.ofInt 8) M
theorem gX90_fault_231 (k155 : Nat → Int64 → Int32 → Int32 → FM → Option (Int32 × FM)) (M : FM) (T : Ty M) : gs (FX90_fault_231 fN k155 M) (GX90_fault_231 M) (kX90_fault k155) (pX90_fault M) := by
  delta FX90_fault_231 BX90_fault_231
  exact gs_t (pX90_fault_t (ext_r _)) (gX90_fault_237 k155 _ _ ⟨T.1, T.2⟩  )
noncomputable def GX90_fault_182 (a0 : Nat) (a1 : Int64) (a3 : Int32) (a4 : Int32) (s0 : Int32) (M : FM) : (Nat × Int64 × Int32 × Int32 × FM) ⊕ (Int32 × FM) :=
  fi (s0 ≤ 0) (
    let x1 : Int32 := a4 + (Int32.ofInt 1)
    (.inl (a0, a1, a3, x1, M))) (
    (.inr (s0, M)))
theorem gX90_fault_182 (k155 : Nat → Int64 → Int32 → Int32 → FM → Option (Int32 × FM)) (a0 : Nat) (a1 : Int64) (a3 : Int32) (a4 : Int32) (s0 : Int32) (M : FM) (T : Ty M) : gs (FX90_fault_182 fN k155 a0 a1 a3 a4 s0 M) (GX90_fault_182 a0 a1 a3 a4 s0 M) (kX90_fault k155) (pX90_fault M) := by
  delta FX90_fault_182 BX90_fault_182
  refine gs_fi (fun c0_0 => ?_) (fun c0_0 => ?_)
  · exact And.intro rfl (And.intro (And.intro T.1 T.2) ((ext_r _)))
  · exact And.intro rfl (And.intro (And.intro T.1 T.2) ((ext_r _)))
noncomputable def GX90_fault_150 (M : FM) : (Nat × Int64 × Int32 × Int32 × FM) ⊕ (Int32 × FM) :=
  (.inr ((Int32.ofInt 4), M))
theorem gX90_fault_150 (k155 : Nat → Int64 → Int32 → Int32 → FM → Option (Int32 × FM)) (M : FM) (T : Ty M) : gs (FX90_fault_150 fN k155 M) (GX90_fault_150 M) (kX90_fault k155) (pX90_fault M) := by
  delta FX90_fault_150 BX90_fault_150
  exact And.intro rfl (And.intro (And.intro T.1 T.2) ((ext_r _)))
noncomputable def GX90_fault_66 (M : FM) : (Nat × Int64 × Int32 × Int32 × FM) ⊕ (Int32 × FM) :=
  (.inr ((Int32.ofInt 3), M))
theorem gX90_fault_66 (k155 : Nat → Int64 → Int32 → Int32 → FM → Option (Int32 × FM)) (M : FM) (T : Ty M) : gs (FX90_fault_66 fN k155 M) (GX90_fault_66 M) (kX90_fault k155) (pX90_fault M) := by
  delta FX90_fault_66 BX90_fault_66
  exact And.intro rfl (And.intro (And.intro T.1 T.2) ((ext_r _)))
noncomputable def GX90_fault_0 (a0 : Nat) (M : FM) : (Nat × Int64 × Int32 × Int32 × FM) ⊕ (Int32 × FM) :=
  let x1 : Nat := (M.2.2 186 a0 0)
  fi ((Int32.ofInt 64) ≤ (M.1 262 x1 0)) (
    let r2 : Int32 × FM := GX90_begins a0 M
    fi (r2.1 = 0) (
      (.inr ((Int32.ofInt 2), r2.2))) (
      let r3 : Int64 × FM := GX90_number a0 (Int64.ofInt 16) (Int32.ofInt 2) r2.2
      fi ((lg_cmp r3.1 (Int64.ofInt 2)) = 0) (
        let r4 : Int64 × FM := GX90_number a0 (Int64.ofInt 18) (Int32.ofInt 2) r3.2
        fi ((lg_cmp r4.1 (Int64.ofInt 243)) = 0) (
          let r5 : Int64 × FM := GX90_number a0 (Int64.ofInt 20) (Int32.ofInt 4) r4.2
          fi ((lg_cmp r5.1 (Int64.ofInt 1)) = 0) (
            let r6 : Int64 × FM := GX90_number a0 (Int64.ofInt 32) (Int32.ofInt 8) r5.2
            let r7 : Int64 × FM := GX90_number a0 (Int64.ofInt 56) (Int32.ofInt 2) r6.2
            let x8 : Int32 := r7.1.toInt32
            let r9 : Int64 × FM := GX90_number a0 (Int64.ofInt 52) (Int32.ofInt 2) r7.2
            fi ((lg_cmp r9.1 (Int64.ofInt 64)) = 0) (
              let r10 : Int64 × FM := GX90_number a0 (Int64.ofInt 54) (Int32.ofInt 2) r9.2
              fi ((lg_cmp r10.1 (Int64.ofInt 56)) = 0) (
                fi (x8 < (Int32.ofInt 1)) (
                  GX90_fault_150 r10.2) (
                  fi ((Int32.ofInt 16) < x8) (
                    GX90_fault_150 r10.2) (
                    let x11 : Nat := (r10.2.2.2 186 a0 0)
                    let r12 : Int32 × FM := GX90_fits r6.1 ((Int64.ofInt 56) * x8.toInt64) ((r10.2.1 262 x11 0).toInt64) r10.2
                    fi (r12.1 = 0) (
                      GX90_fault_150 r12.2) (
                      (.inl (a0, r6.1, x8, (Int32.ofInt 0), r12.2)))))) (
                GX90_fault_150 r10.2)) (
              GX90_fault_150 r9.2)) (
            GX90_fault_66 r5.2)) (
          GX90_fault_66 r4.2)) (
        GX90_fault_66 r3.2))) (
    (.inr ((Int32.ofInt 1), M)))
def HX90_fault_0 (a0 : Nat) (M : FM) : Prop := let x1 : Nat := (M.2.2 186 a0 0); (((Int32.ofInt 64) ≤ (M.1 262 x1 0) → (HX90_begins a0 M ∧ let r2 : Int32 × FM := GX90_begins a0 M; ((r2.1 = 0 → True) ∧ (¬ (r2.1 = 0) → (HX90_number a0 (Int64.ofInt 16) (Int32.ofInt 2) r2.2 ∧ let r3 : Int64 × FM := GX90_number a0 (Int64.ofInt 16) (Int32.ofInt 2) r2.2; (((lg_cmp r3.1 (Int64.ofInt 2)) = 0 → (HX90_number a0 (Int64.ofInt 18) (Int32.ofInt 2) r3.2 ∧ let r4 : Int64 × FM := GX90_number a0 (Int64.ofInt 18) (Int32.ofInt 2) r3.2; (((lg_cmp r4.1 (Int64.ofInt 243)) = 0 → (HX90_number a0 (Int64.ofInt 20) (Int32.ofInt 4) r4.2 ∧ let r5 : Int64 × FM := GX90_number a0 (Int64.ofInt 20) (Int32.ofInt 4) r4.2; (((lg_cmp r5.1 (Int64.ofInt 1)) = 0 → (HX90_number a0 (Int64.ofInt 32) (Int32.ofInt 8) r5.2 ∧ let r6 : Int64 × FM := GX90_number a0 (Int64.ofInt 32) (Int32.ofInt 8) r5.2; (HX90_number a0 (Int64.ofInt 56) (Int32.ofInt 2) r6.2 ∧ let r7 : Int64 × FM := GX90_number a0 (Int64.ofInt 56) (Int32.ofInt 2) r6.2; let x8 : Int32 := r7.1.toInt32; (HX90_number a0 (Int64.ofInt 52) (Int32.ofInt 2) r7.2 ∧ let r9 : Int64 × FM := GX90_number a0 (Int64.ofInt 52) (Int32.ofInt 2) r7.2; (((lg_cmp r9.1 (Int64.ofInt 64)) = 0 → (HX90_number a0 (Int64.ofInt 54) (Int32.ofInt 2) r9.2 ∧ True)) ∧ (¬ ((lg_cmp r9.1 (Int64.ofInt 64)) = 0) → True)))))) ∧ (¬ ((lg_cmp r5.1 (Int64.ofInt 1)) = 0) → True)))) ∧ (¬ ((lg_cmp r4.1 (Int64.ofInt 243)) = 0) → True)))) ∧ (¬ ((lg_cmp r3.1 (Int64.ofInt 2)) = 0) → True))))))) ∧ (¬ ((Int32.ofInt 64) ≤ (M.1 262 x1 0)) → True))
theorem gX90_fault_0 (k155 : Nat → Int64 → Int32 → Int32 → FM → Option (Int32 × FM)) (a0 : Nat) (M : FM) (T : Ty M) (n_a0 : fm_is M 66 66 a0 = true) (h : HX90_fault_0 a0 M) : gs (FX90_fault_0 fN k155 a0 M) (GX90_fault_0 a0 M) (kX90_fault k155) (pX90_fault M) := by
  delta FX90_fault_0 BX90_fault_0
  refine gs_c n_a0 ?_
  have f0 := (tN_186 T.1 n_a0)
  refine gs_c f0 ?_
  refine gs_fi (fun c1_0 => ?_) (fun c1_0 => ?_)
  · refine gs_c n_a0 ?_
    refine gs_b (gX90_begins _ _ ⟨T.1, T.2⟩ n_a0 (h.1 c1_0).1) (fun K2 => ?_)
    refine gs_fi (fun c3_0 => ?_) (fun c3_0 => ?_)
    · exact And.intro rfl (And.intro (And.intro K2.1.1 K2.1.2) K2.2.1)
    · have f4 := (ext_is K2.2.1 (Nat.zero_lt_succ _) n_a0)
      refine gs_c f4 ?_
      refine gs_b (gX90_number _ _ _ _ ((h.1 c1_0).2.2 c3_0).1) (fun K5 => ?_)
      refine gs_fi (fun c6_0 => ?_) (fun c6_0 => ?_)
      · have f7 := (ext_is K5.2 (Nat.zero_lt_succ _) (ext_is K2.2.1 (Nat.zero_lt_succ _) n_a0))
        refine gs_c f7 ?_
        refine gs_b (gX90_number _ _ _ _ (((h.1 c1_0).2.2 c3_0).2.1 c6_0).1) (fun K8 => ?_)
        refine gs_fi (fun c9_0 => ?_) (fun c9_0 => ?_)
        · have f10 := (ext_is K8.2 (Nat.zero_lt_succ _) (ext_is K5.2 (Nat.zero_lt_succ _) (ext_is K2.2.1 (Nat.zero_lt_succ _) n_a0)))
          refine gs_c f10 ?_
          refine gs_b (gX90_number _ _ _ _ ((((h.1 c1_0).2.2 c3_0).2.1 c6_0).2.1 c9_0).1) (fun K11 => ?_)
          refine gs_fi (fun c12_0 => ?_) (fun c12_0 => ?_)
          · have f13 := (ext_is K11.2 (Nat.zero_lt_succ _) (ext_is K8.2 (Nat.zero_lt_succ _) (ext_is K5.2 (Nat.zero_lt_succ _) (ext_is K2.2.1 (Nat.zero_lt_succ _) n_a0))))
            refine gs_c f13 ?_
            refine gs_b (gX90_number _ _ _ _ (((((h.1 c1_0).2.2 c3_0).2.1 c6_0).2.1 c9_0).2.1 c12_0).1) (fun K14 => ?_)
            have f15 := (ext_is K14.2 (Nat.zero_lt_succ _) (ext_is K11.2 (Nat.zero_lt_succ _) (ext_is K8.2 (Nat.zero_lt_succ _) (ext_is K5.2 (Nat.zero_lt_succ _) (ext_is K2.2.1 (Nat.zero_lt_succ _) n_a0)))))
            refine gs_c f15 ?_
            refine gs_b (gX90_number _ _ _ _ (((((h.1 c1_0).2.2 c3_0).2.1 c6_0).2.1 c9_0).2.1 c12_0).2.1) (fun K16 => ?_)
            have f17 := (ext_is K16.2 (Nat.zero_lt_succ _) (ext_is K14.2 (Nat.zero_lt_succ _) (ext_is K11.2 (Nat.zero_lt_succ _) (ext_is K8.2 (Nat.zero_lt_succ _) (ext_is K5.2 (Nat.zero_lt_succ _) (ext_is K2.2.1 (Nat.zero_lt_succ _) n_a0))))))
            refine gs_c f17 ?_
            refine gs_b (gX90_number _ _ _ _ (((((h.1 c1_0).2.2 c3_0).2.1 c6_0).2.1 c9_0).2.1 c12_0).2.2.1) (fun K18 => ?_)
            refine gs_fi (fun c19_0 => ?_) (fun c19_0 => ?_)
            · have f20 := (ext_is K18.2 (Nat.zero_lt_succ _) (ext_is K16.2 (Nat.zero_lt_succ _) (ext_is K14.2 (Nat.zero_lt_succ _) (ext_is K11.2 (Nat.zero_lt_succ _) (ext_is K8.2 (Nat.zero_lt_succ _) (ext_is K5.2 (Nat.zero_lt_succ _) (ext_is K2.2.1 (Nat.zero_lt_succ _) n_a0)))))))
              refine gs_c f20 ?_
              refine gs_b (gX90_number _ _ _ _ ((((((h.1 c1_0).2.2 c3_0).2.1 c6_0).2.1 c9_0).2.1 c12_0).2.2.2.1 c19_0).1) (fun K21 => ?_)
              refine gs_fi (fun c22_0 => ?_) (fun c22_0 => ?_)
              · refine gs_fi (fun c23_0 => ?_) (fun c23_0 => ?_)
                · exact gs_t (pX90_fault_t (ext_tr K2.2.1 (ext_tr K5.2 (ext_tr K8.2 (ext_tr K11.2 (ext_tr K14.2 (ext_tr K16.2 (ext_tr K18.2 K21.2)))))))) (gX90_fault_150 k155  _ ⟨K21.1.1, K21.1.2⟩  )
                · refine gs_fi (fun c24_0 => ?_) (fun c24_0 => ?_)
                  · exact gs_t (pX90_fault_t (ext_tr K2.2.1 (ext_tr K5.2 (ext_tr K8.2 (ext_tr K11.2 (ext_tr K14.2 (ext_tr K16.2 (ext_tr K18.2 K21.2)))))))) (gX90_fault_150 k155  _ ⟨K21.1.1, K21.1.2⟩  )
                  · have f25 := (ext_is K21.2 (Nat.zero_lt_succ _) (ext_is K18.2 (Nat.zero_lt_succ _) (ext_is K16.2 (Nat.zero_lt_succ _) (ext_is K14.2 (Nat.zero_lt_succ _) (ext_is K11.2 (Nat.zero_lt_succ _) (ext_is K8.2 (Nat.zero_lt_succ _) (ext_is K5.2 (Nat.zero_lt_succ _) (ext_is K2.2.1 (Nat.zero_lt_succ _) n_a0))))))))
                    refine gs_c f25 ?_
                    have f26 := (tN_186 K21.1.1 (ext_is K21.2 (Nat.zero_lt_succ _) (ext_is K18.2 (Nat.zero_lt_succ _) (ext_is K16.2 (Nat.zero_lt_succ _) (ext_is K14.2 (Nat.zero_lt_succ _) (ext_is K11.2 (Nat.zero_lt_succ _) (ext_is K8.2 (Nat.zero_lt_succ _) (ext_is K5.2 (Nat.zero_lt_succ _) (ext_is K2.2.1 (Nat.zero_lt_succ _) n_a0)))))))))
                    refine gs_c f26 ?_
                    refine gs_b (gX90_fits _ _ _ _ ⟨K21.1.1, K21.1.2⟩  ) (fun K27 => ?_)
                    refine gs_fi (fun c28_0 => ?_) (fun c28_0 => ?_)
                    · exact gs_t (pX90_fault_t (ext_tr K2.2.1 (ext_tr K5.2 (ext_tr K8.2 (ext_tr K11.2 (ext_tr K14.2 (ext_tr K16.2 (ext_tr K18.2 (ext_tr K21.2 K27.2.1))))))))) (gX90_fault_150 k155  _ ⟨K27.1.1, K27.1.2⟩  )
                    · exact And.intro rfl (And.intro (And.intro K27.1.1 K27.1.2) ((ext_tr K2.2.1 (ext_tr K5.2 (ext_tr K8.2 (ext_tr K11.2 (ext_tr K14.2 (ext_tr K16.2 (ext_tr K18.2 (ext_tr K21.2 K27.2.1))))))))))
              · exact gs_t (pX90_fault_t (ext_tr K2.2.1 (ext_tr K5.2 (ext_tr K8.2 (ext_tr K11.2 (ext_tr K14.2 (ext_tr K16.2 (ext_tr K18.2 K21.2)))))))) (gX90_fault_150 k155  _ ⟨K21.1.1, K21.1.2⟩  )
            · exact gs_t (pX90_fault_t (ext_tr K2.2.1 (ext_tr K5.2 (ext_tr K8.2 (ext_tr K11.2 (ext_tr K14.2 (ext_tr K16.2 K18.2))))))) (gX90_fault_150 k155  _ ⟨K18.1.1, K18.1.2⟩  )
          · exact gs_t (pX90_fault_t (ext_tr K2.2.1 (ext_tr K5.2 (ext_tr K8.2 K11.2)))) (gX90_fault_66 k155  _ ⟨K11.1.1, K11.1.2⟩  )
        · exact gs_t (pX90_fault_t (ext_tr K2.2.1 (ext_tr K5.2 K8.2))) (gX90_fault_66 k155  _ ⟨K8.1.1, K8.1.2⟩  )
      · exact gs_t (pX90_fault_t (ext_tr K2.2.1 K5.2)) (gX90_fault_66 k155  _ ⟨K5.1.1, K5.1.2⟩  )
  · exact And.intro rfl (And.intro (And.intro T.1 T.2) ((ext_r _)))
noncomputable def GX90_fault_155 (a0 : Nat) (a1 : Int64) (a3 : Int32) (a4 : Int32) (M : FM) : (Nat × Int64 × Int32 × Int32 × FM) ⊕ (Int32 × FM) :=
  fi (a3 ≤ a4) (
    let r1 : Int64 × FM := GX90_number a0 (Int64.ofInt 24) (Int32.ofInt 8) M
    fi ((lg_cmp (r1.1 &&& (Int64.ofInt 1)) (Int64.ofInt 0)) = 0) (
      let x2 : Nat := (r1.2.2.2 187 a0 0)
      let r3 : Int32 × FM := GX11_has x2 r1.1 (Int64.ofInt 1) r1.2
      fi (r3.1 = 0) (
        GX90_fault_231 r3.2) (
        GX90_fault_237 (Int32.ofInt 0) r3.2)) (
      GX90_fault_231 r1.2)) (
    let r4 : Int32 × FM := GX90_isSegment a0 a1 a4 M
    fi (r4.1 = 0) (
      GX90_fault_182 a0 a1 a3 a4 (Int32.ofInt 0) r4.2) (
      let r5 : Int32 × FM := GX90_segmentFault a0 a1 a4 r4.2
      GX90_fault_182 a0 a1 a3 a4 r5.1 r5.2))
def HX90_fault_155 (a0 : Nat) (a1 : Int64) (a3 : Int32) (a4 : Int32) (M : FM) : Prop := ((a3 ≤ a4 → (HX90_number a0 (Int64.ofInt 24) (Int32.ofInt 8) M ∧ True)) ∧ (¬ (a3 ≤ a4) → (HX90_isSegment a0 a1 a4 M ∧ let r4 : Int32 × FM := GX90_isSegment a0 a1 a4 M; ((r4.1 = 0 → True) ∧ (¬ (r4.1 = 0) → (HX90_segmentFault a0 a1 a4 r4.2 ∧ True))))))
theorem gX90_fault_155 (k155 : Nat → Int64 → Int32 → Int32 → FM → Option (Int32 × FM)) (a0 : Nat) (a1 : Int64) (a3 : Int32) (a4 : Int32) (M : FM) (T : Ty M) (n_a0 : fm_is M 66 66 a0 = true) (h : HX90_fault_155 a0 a1 a3 a4 M) : gs (FX90_fault_155 fN k155 a0 a1 a3 a4 M) (GX90_fault_155 a0 a1 a3 a4 M) (kX90_fault k155) (pX90_fault M) := by
  delta FX90_fault_155 BX90_fault_155
  refine gs_fi (fun c0_0 => ?_) (fun c0_0 => ?_)
  · refine gs_c n_a0 ?_
    refine gs_b (gX90_number _ _ _ _ (h.1 c0_0).1) (fun K1 => ?_)
    refine gs_fi (fun c2_0 => ?_) (fun c2_0 => ?_)
    · have f3 := (ext_is K1.2 (Nat.zero_lt_succ _) n_a0)
      refine gs_c f3 ?_
      have f4 := (tN_187 K1.1.1 (ext_is K1.2 (Nat.zero_lt_succ _) n_a0))
      refine gs_c f4 ?_
      have f7 := (tN_187 K1.1.1 (ext_is K1.2 (Nat.zero_lt_succ _) n_a0))
      refine gs_b (gX11_has _ _ _ _ ⟨K1.1.1, K1.1.2⟩ f7 ) (fun K5 => ?_)
      refine gs_fi (fun c6_0 => ?_) (fun c6_0 => ?_)
      · exact gs_t (pX90_fault_t (ext_tr K1.2 K5.2.1)) (gX90_fault_231 k155  _ ⟨K5.1.1, K5.1.2⟩  )
      · exact gs_t (pX90_fault_t (ext_tr K1.2 K5.2.1)) (gX90_fault_237 k155 _ _ ⟨K5.1.1, K5.1.2⟩  )
    · exact gs_t (pX90_fault_t K1.2) (gX90_fault_231 k155  _ ⟨K1.1.1, K1.1.2⟩  )
  · refine gs_c n_a0 ?_
    refine gs_b (gX90_isSegment _ _ _ _ ⟨T.1, T.2⟩ n_a0 (h.2 c0_0).1) (fun K8 => ?_)
    refine gs_fi (fun c9_0 => ?_) (fun c9_0 => ?_)
    · exact gs_t (pX90_fault_t K8.2.1) (gX90_fault_182 k155 _ _ _ _ _ _ ⟨K8.1.1, K8.1.2⟩  )
    · have f10 := (ext_is K8.2.1 (Nat.zero_lt_succ _) n_a0)
      refine gs_c f10 ?_
      refine gs_b (gX90_segmentFault _ _ _ _ ((h.2 c0_0).2.2 c9_0).1) (fun K11 => ?_)
      exact gs_t (pX90_fault_t (ext_tr K8.2.1 K11.2)) (gX90_fault_182 k155 _ _ _ _ _ _ ⟨K11.1.1, K11.1.2⟩  )
noncomputable def GX90_fault (a0 : Nat) (M : FM) : Int32 × FM := (FX90_fault fN a0 M).getD (0, M)
def HX90_fault (a0 : Nat) (M : FM) : Prop := ∃ r, FX90_fault fN a0 M = some r ∧ OkR M r
theorem gX90_fault (a0 : Nat) (M : FM) (h : HX90_fault a0 M) : gd (FX90_fault fN a0 M) (GX90_fault a0 M) (OkR M) := gd_op h
def kX91_fill (k3 : Nat → Int32 → Int32 → Int32 → FM → Option (FM)) : (Nat × Int32 × Int32 × Int32 × FM) ⊕ (FM) → Option (FM)
  | .inl (v0, v1, v2, v3, M') => k3 v0 v1 v2 v3 M'
  | .inr (r) => some r
def pX91_fill (M : FM) : (Nat × Int32 × Int32 × Int32 × FM) ⊕ (FM) → Prop
  | .inl (_, _, _, _, M') => OkV M M'
  | .inr (r) => OkV M r
theorem pX91_fill_t {M M1 : FM} (e : Ext M M1) : ∀ y, pX91_fill M1 y → pX91_fill M y
  | .inl (_, _, _, _, _), h => ⟨h.1, ext_tr e h.2⟩
  | .inr (r), h => ⟨h.1, ext_tr e h.2⟩
noncomputable def GX91_fill_0 (a0 : Nat) (a1 : Int32) (a2 : Int32) (a3 : Int32) (M : FM) : (Nat × Int32 × Int32 × Int32 × FM) ⊕ (FM) :=
  (.inl (a0, a2, a3, a1, M))
theorem gX91_fill_0 (k3 : Nat → Int32 → Int32 → Int32 → FM → Option (FM)) (a0 : Nat) (a1 : Int32) (a2 : Int32) (a3 : Int32) (M : FM) (T : Ty M) : gs (FX91_fill_0 fN k3 a0 a1 a2 a3 M) (GX91_fill_0 a0 a1 a2 a3 M) (kX91_fill k3) (pX91_fill M) := by
  delta FX91_fill_0 BX91_fill_0
  exact And.intro rfl (And.intro (And.intro T.1 T.2) ((ext_r _)))
noncomputable def GX91_fill_3 (a0 : Nat) (a2 : Int32) (a3 : Int32) (a4 : Int32) (M : FM) : (Nat × Int32 × Int32 × Int32 × FM) ⊕ (FM) :=
  fi (a2 ≤ a4) (
    (.inr M)) (
    let M1 : FM := GX91_put a0 a4 (Int32.ofInt 1) a3.toInt64 M
    let x2 : Int32 := a4 + (Int32.ofInt 1)
    (.inl (a0, a2, a3, x2, M1)))
def HX91_fill_3 (a0 : Nat) (a2 : Int32) (a3 : Int32) (a4 : Int32) (M : FM) : Prop := ((a2 ≤ a4 → True) ∧ (¬ (a2 ≤ a4) → (HX91_put a0 a4 (Int32.ofInt 1) a3.toInt64 M ∧ True)))
theorem gX91_fill_3 (k3 : Nat → Int32 → Int32 → Int32 → FM → Option (FM)) (a0 : Nat) (a2 : Int32) (a3 : Int32) (a4 : Int32) (M : FM) (T : Ty M) (n_a0 : fm_is M 72 72 a0 = true) (h : HX91_fill_3 a0 a2 a3 a4 M) : gs (FX91_fill_3 fN k3 a0 a2 a3 a4 M) (GX91_fill_3 a0 a2 a3 a4 M) (kX91_fill k3) (pX91_fill M) := by
  delta FX91_fill_3 BX91_fill_3
  refine gs_fi (fun c0_0 => ?_) (fun c0_0 => ?_)
  · exact And.intro rfl (And.intro (And.intro T.1 T.2) ((ext_r _)))
  · refine gs_c n_a0 ?_
    refine gs_b (gX91_put _ _ _ _ _ ⟨T.1, T.2⟩ n_a0 (h.2 c0_0).1) (fun K1 => ?_)
    exact And.intro rfl (And.intro (And.intro K1.1.1 K1.1.2) K1.2)
noncomputable def GX91_fill (a0 : Nat) (a1 : Int32) (a2 : Int32) (a3 : Int32) (M : FM) : FM := (FX91_fill fN a0 a1 a2 a3 M).getD M
def HX91_fill (a0 : Nat) (a1 : Int32) (a2 : Int32) (a3 : Int32) (M : FM) : Prop := ∃ r, FX91_fill fN a0 a1 a2 a3 M = some r ∧ OkV M r
theorem gX91_fill (a0 : Nat) (a1 : Int32) (a2 : Int32) (a3 : Int32) (M : FM) (h : HX91_fill a0 a1 a2 a3 M) : gd (FX91_fill fN a0 a1 a2 a3 M) (GX91_fill a0 a1 a2 a3 M) (OkV M) := gd_op h
def kX11_fill (k3 : Nat → Int64 → Int64 → Int32 → Int64 → FM → Option (FM)) : (Nat × Int64 × Int64 × Int32 × Int64 × FM) ⊕ (FM) → Option (FM)
  | .inl (v0, v1, v2, v3, v4, M') => k3 v0 v1 v2 v3 v4 M'
  | .inr (r) => some r
def pX11_fill (M : FM) : (Nat × Int64 × Int64 × Int32 × Int64 × FM) ⊕ (FM) → Prop
  | .inl (_, _, _, _, _, M') => OkV M M'
  | .inr (r) => OkV M r
theorem pX11_fill_t {M M1 : FM} (e : Ext M M1) : ∀ y, pX11_fill M1 y → pX11_fill M y
  | .inl (_, _, _, _, _, _), h => ⟨h.1, ext_tr e h.2⟩
  | .inr (r), h => ⟨h.1, ext_tr e h.2⟩
noncomputable def GX11_fill_75 (a0 : Nat) (a1 : Int64) (a3 : Int64) (a5 : Int32) (a6 : Int64) (a8 : Int32) (a9 : Int32) (a10 : Int32) (M : FM) : (Nat × Int64 × Int64 × Int32 × Int64 × FM) ⊕ (FM) :=
  let x1 : Nat := (M.2.2 204 a0 0)
  let M2 : FM := fm_sL M 3 x1 a8.toNatClampNeg ((M.2.1 3 x1 a8.toNatClampNeg) + (Int64.ofInt 1))
  let x3 : Int64 := (a6 + (a10 - a9).toInt64)
  (.inl (a0, a1, a3, a5, x3, M2))
def HX11_fill_75 (a0 : Nat) (a1 : Int64) (a3 : Int64) (a5 : Int32) (a6 : Int64) (a8 : Int32) (a9 : Int32) (a10 : Int32) (M : FM) : Prop := let x1 : Nat := (M.2.2 204 a0 0); (fm_in M x1 a8 = true ∧ (fm_in M x1 a8 = true ∧ True))
theorem gX11_fill_75 (k3 : Nat → Int64 → Int64 → Int32 → Int64 → FM → Option (FM)) (a0 : Nat) (a1 : Int64) (a3 : Int64) (a5 : Int32) (a6 : Int64) (a8 : Int32) (a9 : Int32) (a10 : Int32) (M : FM) (T : Ty M) (n_a0 : fm_is M 73 73 a0 = true) (h : HX11_fill_75 a0 a1 a3 a5 a6 a8 a9 a10 M) : gs (FX11_fill_75 fN k3 a0 a1 a3 a5 a6 a8 a9 a10 M) (GX11_fill_75 a0 a1 a3 a5 a6 a8 a9 a10 M) (kX11_fill k3) (pX11_fill M) := by
  delta FX11_fill_75 BX11_fill_75
  refine gs_c n_a0 ?_
  have f1 := (tN_204 T.1 n_a0)
  refine gs_c ⟨f1, h.1⟩ ?_
  have f0 := (tN_204 T.1 n_a0)
  refine gs_c ⟨f0, h.2.1⟩ ?_
  exact And.intro rfl (And.intro (And.intro T.1 T.2) ((ext_dL (ext_r _))))
noncomputable def GX11_fill_60 (a0 : Nat) (a1 : Int64) (a3 : Int64) (a5 : Int32) (a6 : Int64) (a8 : Int32) (a9 : Int32) (a10 : Int32) (M : FM) : (Nat × Int64 × Int64 × Int32 × Int64 × FM) ⊕ (FM) :=
  let r1 : Nat × FM := GX11_made a0 a8 M
  let M2 : FM := GX91_fill r1.1 a9 a10 a5 r1.2
  GX11_fill_75 a0 a1 a3 a5 a6 a8 a9 a10 M2
def HX11_fill_60 (a0 : Nat) (a1 : Int64) (a3 : Int64) (a5 : Int32) (a6 : Int64) (a8 : Int32) (a9 : Int32) (a10 : Int32) (M : FM) : Prop := (HX11_made a0 a8 M ∧ let r1 : Nat × FM := GX11_made a0 a8 M; (HX91_fill r1.1 a9 a10 a5 r1.2 ∧ let M2 : FM := GX91_fill r1.1 a9 a10 a5 r1.2; HX11_fill_75 a0 a1 a3 a5 a6 a8 a9 a10 M2))
theorem gX11_fill_60 (k3 : Nat → Int64 → Int64 → Int32 → Int64 → FM → Option (FM)) (a0 : Nat) (a1 : Int64) (a3 : Int64) (a5 : Int32) (a6 : Int64) (a8 : Int32) (a9 : Int32) (a10 : Int32) (M : FM) (T : Ty M) (n_a0 : fm_is M 73 73 a0 = true) (h : HX11_fill_60 a0 a1 a3 a5 a6 a8 a9 a10 M) : gs (FX11_fill_60 fN k3 a0 a1 a3 a5 a6 a8 a9 a10 M) (GX11_fill_60 a0 a1 a3 a5 a6 a8 a9 a10 M) (kX11_fill k3) (pX11_fill M) := by
  delta FX11_fill_60 BX11_fill_60
  refine gs_c n_a0 ?_
  refine gs_b (gX11_made _ _ _ h.1) (fun K0 => ?_)
  refine gs_c K0.2.2 ?_
  refine gs_b (gX91_fill _ _ _ _ _ h.2.1) (fun K1 => ?_)
  have f2 := (ext_is K1.2 (Nat.zero_lt_succ _) (ext_is K0.2.1 (Nat.zero_lt_succ _) n_a0))
  exact gs_t (pX11_fill_t (ext_tr K0.2.1 K1.2)) (gX11_fill_75 k3 _ _ _ _ _ _ _ _ _ ⟨K1.1.1, K1.1.2⟩ f2 h.2.2)
noncomputable def GX11_fill_0 (a0 : Nat) (a1 : Int64) (a3 : Int64) (a5 : Int32) (M : FM) : (Nat × Int64 × Int64 × Int32 × Int64 × FM) ⊕ (FM) :=
  (.inl (a0, a1, a3, a5, a1, M))
theorem gX11_fill_0 (k3 : Nat → Int64 → Int64 → Int32 → Int64 → FM → Option (FM)) (a0 : Nat) (a1 : Int64) (a3 : Int64) (a5 : Int32) (M : FM) (T : Ty M) : gs (FX11_fill_0 fN k3 a0 a1 a3 a5 M) (GX11_fill_0 a0 a1 a3 a5 M) (kX11_fill k3) (pX11_fill M) := by
  delta FX11_fill_0 BX11_fill_0
  exact And.intro rfl (And.intro (And.intro T.1 T.2) ((ext_r _)))
noncomputable def GX11_fill_3 (a0 : Nat) (a1 : Int64) (a3 : Int64) (a5 : Int32) (a6 : Int64) (M : FM) : (Nat × Int64 × Int64 × Int32 × Int64 × FM) ⊕ (FM) :=
  fi (0 ≤ (lg_cmp a6 a3)) (
    let M1 : FM := GX11_touch a0 a1 a3 M
    (.inr M1)) (
    let r2 : Int32 × FM := GX11_pageOf a6 M
    let r3 : Int32 × FM := GX11_placeOf a6 r2.2
    let r4 : Int64 × FM := GJ5_min_2 (Int64.ofInt 4096) (r3.1.toInt64 + (a3 - a6)) r3.2
    let x5 : Int32 := r4.1.toInt32
    fi ((a5 &&& (Int32.ofInt 255)) = 0) (
      let x6 : Nat := (r4.2.2.2 203 a0 0)
      fi ((r4.2.2.2 3 x6 r2.1.toNatClampNeg) = 0) (
        GX11_fill_75 a0 a1 a3 a5 a6 r2.1 r3.1 x5 r4.2) (
        GX11_fill_60 a0 a1 a3 a5 a6 r2.1 r3.1 x5 r4.2)) (
      GX11_fill_60 a0 a1 a3 a5 a6 r2.1 r3.1 x5 r4.2))
def HX11_fill_3 (a0 : Nat) (a1 : Int64) (a3 : Int64) (a5 : Int32) (a6 : Int64) (M : FM) : Prop := ((0 ≤ (lg_cmp a6 a3) → (HX11_touch a0 a1 a3 M ∧ True)) ∧ (¬ (0 ≤ (lg_cmp a6 a3)) → let r2 : Int32 × FM := GX11_pageOf a6 M; let r3 : Int32 × FM := GX11_placeOf a6 r2.2; let r4 : Int64 × FM := GJ5_min_2 (Int64.ofInt 4096) (r3.1.toInt64 + (a3 - a6)) r3.2; let x5 : Int32 := r4.1.toInt32; (((a5 &&& (Int32.ofInt 255)) = 0 → let x6 : Nat := (r4.2.2.2 203 a0 0); (fm_in r4.2 x6 r2.1 = true ∧ (((r4.2.2.2 3 x6 r2.1.toNatClampNeg) = 0 → HX11_fill_75 a0 a1 a3 a5 a6 r2.1 r3.1 x5 r4.2) ∧ (¬ ((r4.2.2.2 3 x6 r2.1.toNatClampNeg) = 0) → HX11_fill_60 a0 a1 a3 a5 a6 r2.1 r3.1 x5 r4.2)))) ∧ (¬ ((a5 &&& (Int32.ofInt 255)) = 0) → HX11_fill_60 a0 a1 a3 a5 a6 r2.1 r3.1 x5 r4.2))))
theorem gX11_fill_3 (k3 : Nat → Int64 → Int64 → Int32 → Int64 → FM → Option (FM)) (a0 : Nat) (a1 : Int64) (a3 : Int64) (a5 : Int32) (a6 : Int64) (M : FM) (T : Ty M) (n_a0 : fm_is M 73 73 a0 = true) (h : HX11_fill_3 a0 a1 a3 a5 a6 M) : gs (FX11_fill_3 fN k3 a0 a1 a3 a5 a6 M) (GX11_fill_3 a0 a1 a3 a5 a6 M) (kX11_fill k3) (pX11_fill M) := by
  delta FX11_fill_3 BX11_fill_3
  refine gs_fi (fun c0_0 => ?_) (fun c0_0 => ?_)
  · refine gs_c n_a0 ?_
    refine gs_b (gX11_touch _ _ _ _ (h.1 c0_0).1) (fun K1 => ?_)
    exact And.intro rfl (And.intro (And.intro K1.1.1 K1.1.2) K1.2)
  · refine gs_b (gX11_pageOf _ _ ⟨T.1, T.2⟩  ) (fun K2 => ?_)
    refine gs_b (gX11_placeOf _ _ ⟨K2.1.1, K2.1.2⟩  ) (fun K3 => ?_)
    refine gs_b (gJ5_min_2 _ _ _ ⟨K3.1.1, K3.1.2⟩  ) (fun K4 => ?_)
    refine gs_fi (fun c5_0 => ?_) (fun c5_0 => ?_)
    · have f6 := (ext_is K4.2 (Nat.zero_lt_succ _) (ext_is K3.2 (Nat.zero_lt_succ _) (ext_is K2.2 (Nat.zero_lt_succ _) n_a0)))
      refine gs_c f6 ?_
      have f10 := (fm_w (lo' := 910) (hi' := 990) rfl rfl (tN_203 K4.1.1 (ext_is K4.2 (Nat.zero_lt_succ _) (ext_is K3.2 (Nat.zero_lt_succ _) (ext_is K2.2 (Nat.zero_lt_succ _) n_a0)))))
      have f11 := ((h.2 c0_0).1 c5_0).1
      refine gs_c ⟨f10, f11⟩ ?_
      refine gs_fi (fun c7_0 => ?_) (fun c7_0 => ?_)
      · have f8 := (ext_is K4.2 (Nat.zero_lt_succ _) (ext_is K3.2 (Nat.zero_lt_succ _) (ext_is K2.2 (Nat.zero_lt_succ _) n_a0)))
        exact gs_t (pX11_fill_t (ext_tr K2.2 (ext_tr K3.2 K4.2))) (gX11_fill_75 k3 _ _ _ _ _ _ _ _ _ ⟨K4.1.1, K4.1.2⟩ f8 (((h.2 c0_0).1 c5_0).2.1 c7_0))
      · have f9 := (ext_is K4.2 (Nat.zero_lt_succ _) (ext_is K3.2 (Nat.zero_lt_succ _) (ext_is K2.2 (Nat.zero_lt_succ _) n_a0)))
        exact gs_t (pX11_fill_t (ext_tr K2.2 (ext_tr K3.2 K4.2))) (gX11_fill_60 k3 _ _ _ _ _ _ _ _ _ ⟨K4.1.1, K4.1.2⟩ f9 (((h.2 c0_0).1 c5_0).2.2 c7_0))
    · have f12 := (ext_is K4.2 (Nat.zero_lt_succ _) (ext_is K3.2 (Nat.zero_lt_succ _) (ext_is K2.2 (Nat.zero_lt_succ _) n_a0)))
      exact gs_t (pX11_fill_t (ext_tr K2.2 (ext_tr K3.2 K4.2))) (gX11_fill_60 k3 _ _ _ _ _ _ _ _ _ ⟨K4.1.1, K4.1.2⟩ f12 ((h.2 c0_0).2 c5_0))
noncomputable def GX11_fill (a0 : Nat) (a1 : Int64) (a2 : Int64) (a3 : Int32) (M : FM) : FM := (FX11_fill fN a0 a1 a2 a3 M).getD M
def HX11_fill (a0 : Nat) (a1 : Int64) (a2 : Int64) (a3 : Int32) (M : FM) : Prop := ∃ r, FX11_fill fN a0 a1 a2 a3 M = some r ∧ OkV M r
theorem gX11_fill (a0 : Nat) (a1 : Int64) (a2 : Int64) (a3 : Int32) (M : FM) (h : HX11_fill a0 a1 a2 a3 M) : gd (FX11_fill fN a0 a1 a2 a3 M) (GX11_fill a0 a1 a2 a3 M) (OkV M) := gd_op h
def kX90_put (k54 : Nat → Int64 → Int64 → Int64 → Int64 → Int64 → FM → Option (FM)) : (Nat × Int64 × Int64 × Int64 × Int64 × Int64 × FM) ⊕ (FM) → Option (FM)
  | .inl (v0, v1, v2, v3, v4, v5, M') => k54 v0 v1 v2 v3 v4 v5 M'
  | .inr (r) => some r
def pX90_put (M : FM) : (Nat × Int64 × Int64 × Int64 × Int64 × Int64 × FM) ⊕ (FM) → Prop
  | .inl (_, _, _, _, _, _, M') => OkV M M'
  | .inr (r) => OkV M r
theorem pX90_put_t {M M1 : FM} (e : Ext M M1) : ∀ y, pX90_put M1 y → pX90_put M y
  | .inl (_, _, _, _, _, _, _), h => ⟨h.1, ext_tr e h.2⟩
  | .inr (r), h => ⟨h.1, ext_tr e h.2⟩
noncomputable def GX90_put_123 (M : FM) : (Nat × Int64 × Int64 × Int64 × Int64 × Int64 × FM) ⊕ (FM) :=
  (.inr M)
theorem gX90_put_123 (k54 : Nat → Int64 → Int64 → Int64 → Int64 → Int64 → FM → Option (FM)) (M : FM) (T : Ty M) : gs (FX90_put_123 fN k54 M) (GX90_put_123 M) (kX90_put k54) (pX90_put M) := by
  delta FX90_put_123 BX90_put_123
  exact And.intro rfl (And.intro (And.intro T.1 T.2) ((ext_r _)))
noncomputable def GX90_put_0 (a0 : Nat) (a1 : Int64) (M : FM) : (Nat × Int64 × Int64 × Int64 × Int64 × Int64 × FM) ⊕ (FM) :=
  let r1 : Int64 × FM := GX90_number a0 (a1 + (Int64.ofInt 8)) (Int32.ofInt 8) M
  let r2 : Int64 × FM := GX90_number a0 (a1 + (Int64.ofInt 24)) (Int32.ofInt 8) r1.2
  let r3 : Int64 × FM := GX90_number a0 (a1 + (Int64.ofInt 32)) (Int32.ofInt 8) r2.2
  let r4 : Int64 × FM := GX90_number a0 (a1 + (Int64.ofInt 40)) (Int32.ofInt 8) r3.2
  (.inl (a0, r1.1, r2.1, r3.1, r4.1, (Int64.ofInt 0), r4.2))
def HX90_put_0 (a0 : Nat) (a1 : Int64) (M : FM) : Prop := (HX90_number a0 (a1 + (Int64.ofInt 8)) (Int32.ofInt 8) M ∧ let r1 : Int64 × FM := GX90_number a0 (a1 + (Int64.ofInt 8)) (Int32.ofInt 8) M; (HX90_number a0 (a1 + (Int64.ofInt 24)) (Int32.ofInt 8) r1.2 ∧ let r2 : Int64 × FM := GX90_number a0 (a1 + (Int64.ofInt 24)) (Int32.ofInt 8) r1.2; (HX90_number a0 (a1 + (Int64.ofInt 32)) (Int32.ofInt 8) r2.2 ∧ let r3 : Int64 × FM := GX90_number a0 (a1 + (Int64.ofInt 32)) (Int32.ofInt 8) r2.2; (HX90_number a0 (a1 + (Int64.ofInt 40)) (Int32.ofInt 8) r3.2 ∧ True))))
theorem gX90_put_0 (k54 : Nat → Int64 → Int64 → Int64 → Int64 → Int64 → FM → Option (FM)) (a0 : Nat) (a1 : Int64) (M : FM) (T : Ty M) (n_a0 : fm_is M 66 66 a0 = true) (h : HX90_put_0 a0 a1 M) : gs (FX90_put_0 fN k54 a0 a1 M) (GX90_put_0 a0 a1 M) (kX90_put k54) (pX90_put M) := by
  delta FX90_put_0 BX90_put_0
  refine gs_c n_a0 ?_
  refine gs_b (gX90_number _ _ _ _ h.1) (fun K0 => ?_)
  have f1 := (ext_is K0.2 (Nat.zero_lt_succ _) n_a0)
  refine gs_c f1 ?_
  refine gs_b (gX90_number _ _ _ _ h.2.1) (fun K2 => ?_)
  have f3 := (ext_is K2.2 (Nat.zero_lt_succ _) (ext_is K0.2 (Nat.zero_lt_succ _) n_a0))
  refine gs_c f3 ?_
  refine gs_b (gX90_number _ _ _ _ h.2.2.1) (fun K4 => ?_)
  have f5 := (ext_is K4.2 (Nat.zero_lt_succ _) (ext_is K2.2 (Nat.zero_lt_succ _) (ext_is K0.2 (Nat.zero_lt_succ _) n_a0)))
  refine gs_c f5 ?_
  refine gs_b (gX90_number _ _ _ _ h.2.2.2.1) (fun K6 => ?_)
  exact And.intro rfl (And.intro (And.intro K6.1.1 K6.1.2) ((ext_tr K0.2 (ext_tr K2.2 (ext_tr K4.2 K6.2)))))
noncomputable def GX90_put_54 (a0 : Nat) (a3 : Int64) (a5 : Int64) (a7 : Int64) (a9 : Int64) (a11 : Int64) (M : FM) : (Nat × Int64 × Int64 × Int64 × Int64 × Int64 × FM) ⊕ (FM) :=
  fi (0 ≤ (lg_cmp a11 a7)) (
    fi ((lg_cmp a9 a7) ≤ 0) (
      GX90_put_123 M) (
      let x1 : Nat := (M.2.2 187 a0 0)
      let M2 : FM := GX11_fill x1 (a5 + a7) (a5 + a9) (Int32.ofInt 0) M
      GX90_put_123 M2)) (
    let x3 : Nat := (M.2.2 186 a0 0)
    let r4 : Int32 × FM := GX3_get x3 ((a3 + a11).toInt32) M
    let x5 : Nat := (M.2.2 187 a0 0)
    let M6 : FM := GX11_store x5 (a5 + a11) (Int32.ofInt 1) r4.1.toInt64 r4.2
    let x7 : Int64 := (a11 + (Int64.ofInt 1))
    (.inl (a0, a3, a5, a7, a9, x7, M6)))
def HX90_put_54 (a0 : Nat) (a3 : Int64) (a5 : Int64) (a7 : Int64) (a9 : Int64) (a11 : Int64) (M : FM) : Prop := ((0 ≤ (lg_cmp a11 a7) → (((lg_cmp a9 a7) ≤ 0 → True) ∧ (¬ ((lg_cmp a9 a7) ≤ 0) → let x1 : Nat := (M.2.2 187 a0 0); (HX11_fill x1 (a5 + a7) (a5 + a9) (Int32.ofInt 0) M ∧ True)))) ∧ (¬ (0 ≤ (lg_cmp a11 a7)) → let x3 : Nat := (M.2.2 186 a0 0); (HX3_get x3 ((a3 + a11).toInt32) M ∧ let r4 : Int32 × FM := GX3_get x3 ((a3 + a11).toInt32) M; let x5 : Nat := (M.2.2 187 a0 0); (HX11_store x5 (a5 + a11) (Int32.ofInt 1) r4.1.toInt64 r4.2 ∧ True))))
theorem gX90_put_54 (k54 : Nat → Int64 → Int64 → Int64 → Int64 → Int64 → FM → Option (FM)) (a0 : Nat) (a3 : Int64) (a5 : Int64) (a7 : Int64) (a9 : Int64) (a11 : Int64) (M : FM) (T : Ty M) (n_a0 : fm_is M 66 66 a0 = true) (h : HX90_put_54 a0 a3 a5 a7 a9 a11 M) : gs (FX90_put_54 fN k54 a0 a3 a5 a7 a9 a11 M) (GX90_put_54 a0 a3 a5 a7 a9 a11 M) (kX90_put k54) (pX90_put M) := by
  delta FX90_put_54 BX90_put_54
  refine gs_fi (fun c0_0 => ?_) (fun c0_0 => ?_)
  · refine gs_fi (fun c1_0 => ?_) (fun c1_0 => ?_)
    · exact gs_t (pX90_put_t (ext_r _)) (gX90_put_123 k54  _ ⟨T.1, T.2⟩  )
    · refine gs_c n_a0 ?_
      have f2 := (tN_187 T.1 n_a0)
      refine gs_c f2 ?_
      refine gs_b (gX11_fill _ _ _ _ _ ((h.1 c0_0).2 c1_0).1) (fun K3 => ?_)
      exact gs_t (pX90_put_t K3.2) (gX90_put_123 k54  _ ⟨K3.1.1, K3.1.2⟩  )
  · refine gs_c n_a0 ?_
    refine gs_c n_a0 ?_
    have f4 := (tN_186 T.1 n_a0)
    refine gs_c f4 ?_
    have f9 := (tN_186 T.1 n_a0)
    refine gs_b (gX3_get _ _ _ ⟨T.1, T.2⟩ f9 (h.2 c0_0).1) (fun K5 => ?_)
    have f6 := (ext_is K5.2 (Nat.zero_lt_succ _) (tN_187 T.1 n_a0))
    refine gs_c f6 ?_
    have f8 := (ext_is K5.2 (Nat.zero_lt_succ _) (tN_187 T.1 n_a0))
    refine gs_b (gX11_store _ _ _ _ _ ⟨K5.1.1, K5.1.2⟩ f8 (h.2 c0_0).2.1) (fun K7 => ?_)
    exact And.intro rfl (And.intro (And.intro K7.1.1 K7.1.2) ((ext_tr K5.2 K7.2)))
noncomputable def GX90_put (a0 : Nat) (a1 : Int64) (M : FM) : FM := (FX90_put fN a0 a1 M).getD M
def HX90_put (a0 : Nat) (a1 : Int64) (M : FM) : Prop := ∃ r, FX90_put fN a0 a1 M = some r ∧ OkV M r
theorem gX90_put (a0 : Nat) (a1 : Int64) (M : FM) (h : HX90_put a0 a1 M) : gd (FX90_put fN a0 a1 M) (GX90_put a0 a1 M) (OkV M) := gd_op h
def kX90_load (k33 : Nat → Int32 → Int64 → Int32 → Int32 → FM → Option (Int32 × FM)) : (Nat × Int32 × Int64 × Int32 × Int32 × FM) ⊕ (Int32 × FM) → Option (Int32 × FM)
  | .inl (v0, v1, v2, v3, v4, M') => k33 v0 v1 v2 v3 v4 M'
  | .inr (r) => some r
def pX90_load (M : FM) : (Nat × Int32 × Int64 × Int32 × Int32 × FM) ⊕ (Int32 × FM) → Prop
  | .inl (_, _, _, _, _, M') => OkV M M'
  | .inr (r) => OkR M r
theorem pX90_load_t {M M1 : FM} (e : Ext M M1) : ∀ y, pX90_load M1 y → pX90_load M y
  | .inl (_, _, _, _, _, _), h => ⟨h.1, ext_tr e h.2⟩
  | .inr (r), h => ⟨h.1, ext_tr e h.2⟩
noncomputable def GX90_load_81 (a1 : Int32) (M : FM) : (Nat × Int32 × Int64 × Int32 × Int32 × FM) ⊕ (Int32 × FM) :=
  (.inr (a1, M))
theorem gX90_load_81 (k33 : Nat → Int32 → Int64 → Int32 → Int32 → FM → Option (Int32 × FM)) (a1 : Int32) (M : FM) (T : Ty M) : gs (FX90_load_81 fN k33 a1 M) (GX90_load_81 a1 M) (kX90_load k33) (pX90_load M) := by
  delta FX90_load_81 BX90_load_81
  exact And.intro rfl (And.intro (And.intro T.1 T.2) ((ext_r _)))
noncomputable def GX90_load_62 (a0 : Nat) (a1 : Int32) (a2 : Int64) (a4 : Int32) (a5 : Int32) (M : FM) : (Nat × Int32 × Int64 × Int32 × Int32 × FM) ⊕ (Int32 × FM) :=
  let x1 : Int32 := a5 + (Int32.ofInt 1)
  (.inl (a0, a1, a2, a4, x1, M))
theorem gX90_load_62 (k33 : Nat → Int32 → Int64 → Int32 → Int32 → FM → Option (Int32 × FM)) (a0 : Nat) (a1 : Int32) (a2 : Int64) (a4 : Int32) (a5 : Int32) (M : FM) (T : Ty M) : gs (FX90_load_62 fN k33 a0 a1 a2 a4 a5 M) (GX90_load_62 a0 a1 a2 a4 a5 M) (kX90_load k33) (pX90_load M) := by
  delta FX90_load_62 BX90_load_62
  exact And.intro rfl (And.intro (And.intro T.1 T.2) ((ext_r _)))
noncomputable def GX90_load_0 (a0 : Nat) (M : FM) : (Nat × Int32 × Int64 × Int32 × Int32 × FM) ⊕ (Int32 × FM) :=
  let r1 : Int32 × FM := GX90_fault a0 M
  fi (r1.1 = 0) (
    let r2 : Int64 × FM := GX90_number a0 (Int64.ofInt 32) (Int32.ofInt 8) r1.2
    let r3 : Int64 × FM := GX90_number a0 (Int64.ofInt 56) (Int32.ofInt 2) r2.2
    let x4 : Int32 := r3.1.toInt32
    (.inl (a0, r1.1, r2.1, x4, (Int32.ofInt 0), r3.2))) (
    GX90_load_81 r1.1 r1.2)
def HX90_load_0 (a0 : Nat) (M : FM) : Prop := (HX90_fault a0 M ∧ let r1 : Int32 × FM := GX90_fault a0 M; ((r1.1 = 0 → (HX90_number a0 (Int64.ofInt 32) (Int32.ofInt 8) r1.2 ∧ let r2 : Int64 × FM := GX90_number a0 (Int64.ofInt 32) (Int32.ofInt 8) r1.2; (HX90_number a0 (Int64.ofInt 56) (Int32.ofInt 2) r2.2 ∧ True))) ∧ (¬ (r1.1 = 0) → True)))
theorem gX90_load_0 (k33 : Nat → Int32 → Int64 → Int32 → Int32 → FM → Option (Int32 × FM)) (a0 : Nat) (M : FM) (T : Ty M) (n_a0 : fm_is M 66 66 a0 = true) (h : HX90_load_0 a0 M) : gs (FX90_load_0 fN k33 a0 M) (GX90_load_0 a0 M) (kX90_load k33) (pX90_load M) := by
  delta FX90_load_0 BX90_load_0
  refine gs_c n_a0 ?_
  refine gs_b (gX90_fault _ _ h.1) (fun K0 => ?_)
  refine gs_fi (fun c1_0 => ?_) (fun c1_0 => ?_)
  · have f2 := (ext_is K0.2 (Nat.zero_lt_succ _) n_a0)
    refine gs_c f2 ?_
    refine gs_b (gX90_number _ _ _ _ (h.2.1 c1_0).1) (fun K3 => ?_)
    have f4 := (ext_is K3.2 (Nat.zero_lt_succ _) (ext_is K0.2 (Nat.zero_lt_succ _) n_a0))
    refine gs_c f4 ?_
    refine gs_b (gX90_number _ _ _ _ (h.2.1 c1_0).2.1) (fun K5 => ?_)
    exact And.intro rfl (And.intro (And.intro K5.1.1 K5.1.2) ((ext_tr K0.2 (ext_tr K3.2 K5.2))))
  · exact gs_t (pX90_load_t K0.2) (gX90_load_81 k33 _ _ ⟨K0.1.1, K0.1.2⟩  )
noncomputable def GX90_load_33 (a0 : Nat) (a1 : Int32) (a2 : Int64) (a4 : Int32) (a5 : Int32) (M : FM) : (Nat × Int32 × Int64 × Int32 × Int32 × FM) ⊕ (Int32 × FM) :=
  fi (a4 ≤ a5) (
    let r1 : Int64 × FM := GX90_number a0 (Int64.ofInt 24) (Int32.ofInt 8) M
    let M2 : FM := fm_sL r1.2 188 a0 0 r1.1
    GX90_load_81 a1 M2) (
    let r3 : Int32 × FM := GX90_isSegment a0 a2 a5 M
    fi (r3.1 = 0) (
      GX90_load_62 a0 a1 a2 a4 a5 r3.2) (
      let M4 : FM := GX90_put a0 (a2 + ((Int32.ofInt 56) * a5).toInt64) r3.2
      GX90_load_62 a0 a1 a2 a4 a5 M4))
def HX90_load_33 (a0 : Nat) (a1 : Int32) (a2 : Int64) (a4 : Int32) (a5 : Int32) (M : FM) : Prop := ((a4 ≤ a5 → (HX90_number a0 (Int64.ofInt 24) (Int32.ofInt 8) M ∧ True)) ∧ (¬ (a4 ≤ a5) → (HX90_isSegment a0 a2 a5 M ∧ let r3 : Int32 × FM := GX90_isSegment a0 a2 a5 M; ((r3.1 = 0 → True) ∧ (¬ (r3.1 = 0) → (HX90_put a0 (a2 + ((Int32.ofInt 56) * a5).toInt64) r3.2 ∧ True))))))
theorem gX90_load_33 (k33 : Nat → Int32 → Int64 → Int32 → Int32 → FM → Option (Int32 × FM)) (a0 : Nat) (a1 : Int32) (a2 : Int64) (a4 : Int32) (a5 : Int32) (M : FM) (T : Ty M) (n_a0 : fm_is M 66 66 a0 = true) (h : HX90_load_33 a0 a1 a2 a4 a5 M) : gs (FX90_load_33 fN k33 a0 a1 a2 a4 a5 M) (GX90_load_33 a0 a1 a2 a4 a5 M) (kX90_load k33) (pX90_load M) := by
  delta FX90_load_33 BX90_load_33
  refine gs_fi (fun c0_0 => ?_) (fun c0_0 => ?_)
  · refine gs_c n_a0 ?_
    refine gs_b (gX90_number _ _ _ _ (h.1 c0_0).1) (fun K1 => ?_)
    have f2 := (ext_is K1.2 (Nat.zero_lt_succ _) n_a0)
    refine gs_c f2 ?_
    exact gs_t (pX90_load_t (ext_tr K1.2 (ext_dL (ext_r _)))) (gX90_load_81 k33 _ _ ⟨K1.1.1, K1.1.2⟩  )
  · refine gs_c n_a0 ?_
    refine gs_b (gX90_isSegment _ _ _ _ ⟨T.1, T.2⟩ n_a0 (h.2 c0_0).1) (fun K3 => ?_)
    refine gs_fi (fun c4_0 => ?_) (fun c4_0 => ?_)
    · exact gs_t (pX90_load_t K3.2.1) (gX90_load_62 k33 _ _ _ _ _ _ ⟨K3.1.1, K3.1.2⟩  )
    · have f5 := (ext_is K3.2.1 (Nat.zero_lt_succ _) n_a0)
      refine gs_c f5 ?_
      refine gs_b (gX90_put _ _ _ ((h.2 c0_0).2.2 c4_0).1) (fun K6 => ?_)
      exact gs_t (pX90_load_t (ext_tr K3.2.1 K6.2)) (gX90_load_62 k33 _ _ _ _ _ _ ⟨K6.1.1, K6.1.2⟩  )
noncomputable def GX90_load (a0 : Nat) (M : FM) : Int32 × FM := (FX90_load fN a0 M).getD (0, M)
def HX90_load (a0 : Nat) (M : FM) : Prop := ∃ r, FX90_load fN a0 M = some r ∧ OkR M r
theorem gX90_load (a0 : Nat) (M : FM) (h : HX90_load a0 M) : gd (FX90_load fN a0 M) (GX90_load a0 M) (OkR M) := gd_op h
noncomputable def GX2_image_0 (a0 : Nat) (M : FM) : Int32 × FM :=
  let x1 : Nat := (M.2.2 192 a0 0)
  let r2 : Int32 × FM := GX90_load x1 M
  let x3 : Nat := (r2.2.2.2 191 a0 0)
  let M4 : FM := fm_sI r2.2 262 x3 0 (Int32.ofInt 0)
  (r2.1, M4)
def HX2_image_0 (a0 : Nat) (M : FM) : Prop := let x1 : Nat := (M.2.2 192 a0 0); (HX90_load x1 M ∧ True)
theorem gX2_image_0 (a0 : Nat) (M : FM) (T : Ty M) (n_a0 : fm_is M 67 67 a0 = true) (h : HX2_image_0 a0 M) : gd (FX2_image_0 fN a0 M) (GX2_image_0 a0 M) (OkR M) := by
  delta FX2_image_0 BX2_image_0
  refine gd_c n_a0 ?_
  have f0 := (tN_192 T.1 n_a0)
  refine gd_c f0 ?_
  refine gd_b (gX90_load _ _ h.1) (fun K1 => ?_)
  have f2 := (ext_is K1.2 (Nat.zero_lt_succ _) n_a0)
  refine gd_c f2 ?_
  have f3 := (tN_191 K1.1.1 (ext_is K1.2 (Nat.zero_lt_succ _) n_a0))
  refine gd_c f3 ?_
  exact ⟨rfl, ⟨K1.1.1, (tyb_sI (f := 262) rfl K1.1.2)⟩, (ext_tr K1.2 (ext_dI (ext_r _)))⟩
noncomputable def GX2_image (a0 : Nat) (M : FM) : Int32 × FM := GX2_image_0 a0 M
def HX2_image (a0 : Nat) (M : FM) : Prop := HX2_image_0 a0 M
theorem gX2_image (a0 : Nat) (M : FM) (T : Ty M) (n_a0 : fm_is M 67 67 a0 = true) (h : HX2_image a0 M) : gd (FX2_image fN a0 M) (GX2_image a0 M) (OkR M) := gX2_image_0 a0 M T n_a0 h
def kX2_typed (k20 : Nat → Int32 → Int32 → FM → Option (Int32 × FM)) : (Nat × Int32 × Int32 × FM) ⊕ (Int32 × FM) → Option (Int32 × FM)
  | .inl (v0, v1, v2, M') => k20 v0 v1 v2 M'
  | .inr (r) => some r
def pX2_typed (M : FM) : (Nat × Int32 × Int32 × FM) ⊕ (Int32 × FM) → Prop
  | .inl (_, _, _, M') => OkV M M'
  | .inr (r) => OkR M r
theorem pX2_typed_t {M M1 : FM} (e : Ext M M1) : ∀ y, pX2_typed M1 y → pX2_typed M y
  | .inl (_, _, _, _), h => ⟨h.1, ext_tr e h.2⟩
  | .inr (r), h => ⟨h.1, ext_tr e h.2⟩
noncomputable def GX2_typed_0 (a0 : Nat) (M : FM) : (Nat × Int32 × Int32 × FM) ⊕ (Int32 × FM) :=
  let x1 : Nat := (M.2.2 191 a0 0)
  let r2 : Int32 × FM := GJ5_min (M.1 262 x1 0) ((Int32.ofInt 65536) - (M.1 196 a0 0)) M
  (.inl (a0, r2.1, (Int32.ofInt 0), r2.2))
theorem gX2_typed_0 (k20 : Nat → Int32 → Int32 → FM → Option (Int32 × FM)) (a0 : Nat) (M : FM) (T : Ty M) (n_a0 : fm_is M 67 67 a0 = true) : gs (FX2_typed_0 fN k20 a0 M) (GX2_typed_0 a0 M) (kX2_typed k20) (pX2_typed M) := by
  delta FX2_typed_0 BX2_typed_0
  refine gs_c n_a0 ?_
  have f0 := (tN_191 T.1 n_a0)
  refine gs_c f0 ?_
  refine gs_c n_a0 ?_
  refine gs_b (gJ5_min _ _ _ ⟨T.1, T.2⟩  ) (fun K1 => ?_)
  exact And.intro rfl (And.intro (And.intro K1.1.1 K1.1.2) K1.2)
noncomputable def GX2_typed_20 (a0 : Nat) (a1 : Int32) (a2 : Int32) (M : FM) : (Nat × Int32 × Int32 × FM) ⊕ (Int32 × FM) :=
  fi (a1 ≤ a2) (
    let x1 : Nat := (M.2.2 191 a0 0)
    let M2 : FM := fm_sI M 262 x1 0 (Int32.ofInt 0)
    (.inr (a1, M2))) (
    let x3 : Int32 := ((M.1 195 a0 0) + (M.1 196 a0 0))
    let x4 : Nat := (M.2.2 191 a0 0)
    let x5 : Nat := (M.2.2 261 x4 0)
    let x6 : Int32 := (x3 - x3 / (Int32.ofInt 65536) * (Int32.ofInt 65536))
    let x7 : Nat := (M.2.2 194 a0 0)
    let M8 : FM := fm_sI M 3 x7 x6.toNatClampNeg ((M.1 3 x5 a2.toNatClampNeg).toInt8.toInt32)
    let M9 : FM := fm_sI M8 196 a0 0 ((M8.1 196 a0 0) + (Int32.ofInt 1))
    let x10 : Int32 := a2 + (Int32.ofInt 1)
    (.inl (a0, a1, x10, M9)))
def HX2_typed_20 (a0 : Nat) (a1 : Int32) (a2 : Int32) (M : FM) : Prop := ((a1 ≤ a2 → True) ∧ (¬ (a1 ≤ a2) → let x3 : Int32 := ((M.1 195 a0 0) + (M.1 196 a0 0)); let x4 : Nat := (M.2.2 191 a0 0); let x5 : Nat := (M.2.2 261 x4 0); (fm_in M x5 a2 = true ∧ let x6 : Int32 := (x3 - x3 / (Int32.ofInt 65536) * (Int32.ofInt 65536)); let x7 : Nat := (M.2.2 194 a0 0); (fm_in M x7 x6 = true ∧ True))))
theorem gX2_typed_20 (k20 : Nat → Int32 → Int32 → FM → Option (Int32 × FM)) (a0 : Nat) (a1 : Int32) (a2 : Int32) (M : FM) (T : Ty M) (n_a0 : fm_is M 67 67 a0 = true) (h : HX2_typed_20 a0 a1 a2 M) : gs (FX2_typed_20 fN k20 a0 a1 a2 M) (GX2_typed_20 a0 a1 a2 M) (kX2_typed k20) (pX2_typed M) := by
  delta FX2_typed_20 BX2_typed_20
  refine gs_fi (fun c0_0 => ?_) (fun c0_0 => ?_)
  · refine gs_c n_a0 ?_
    have f1 := (tN_191 T.1 n_a0)
    refine gs_c f1 ?_
    exact And.intro rfl (And.intro (And.intro T.1 (tyb_sI (f := 262) rfl T.2)) ((ext_dI (ext_r _))))
  · refine gs_c n_a0 ?_
    refine gs_c n_a0 ?_
    refine gs_c n_a0 ?_
    refine gs_n (by decide) ?_
    refine gs_c n_a0 ?_
    have f2 := (tN_191 T.1 n_a0)
    refine gs_c f2 ?_
    have f4 := (tN_261 T.1 (tN_191 T.1 n_a0))
    refine gs_c ⟨f4, (h.2 c0_0).1⟩ ?_
    have f3 := (tN_194 T.1 n_a0)
    refine gs_c ⟨f3, (h.2 c0_0).2.1⟩ ?_
    refine gs_c n_a0 ?_
    refine gs_c n_a0 ?_
    exact And.intro rfl (And.intro (And.intro T.1 (tyb_sI (f := 196) rfl (tyb_s3 (t := 903) rfl T.2 f3))) ((ext_dI (ext_dI (ext_r _)))))
noncomputable def GX2_typed (a0 : Nat) (M : FM) : Int32 × FM := (FX2_typed fN a0 M).getD (0, M)
def HX2_typed (a0 : Nat) (M : FM) : Prop := ∃ r, FX2_typed fN a0 M = some r ∧ OkR M r
theorem gX2_typed (a0 : Nat) (M : FM) (h : HX2_typed a0 M) : gd (FX2_typed fN a0 M) (GX2_typed a0 M) (OkR M) := gd_op h
def kX2_bytes (k11 : Nat → Int64 → Int32 → Int32 → FM → Option (Int32 × FM)) : (Nat × Int64 × Int32 × Int32 × FM) ⊕ (Int32 × FM) → Option (Int32 × FM)
  | .inl (v0, v1, v2, v3, M') => k11 v0 v1 v2 v3 M'
  | .inr (r) => some r
def pX2_bytes (M : FM) : (Nat × Int64 × Int32 × Int32 × FM) ⊕ (Int32 × FM) → Prop
  | .inl (_, _, _, _, M') => OkV M M'
  | .inr (r) => OkR M r
theorem pX2_bytes_t {M M1 : FM} (e : Ext M M1) : ∀ y, pX2_bytes M1 y → pX2_bytes M y
  | .inl (_, _, _, _, _), h => ⟨h.1, ext_tr e h.2⟩
  | .inr (r), h => ⟨h.1, ext_tr e h.2⟩
noncomputable def GX2_bytes_0 (a0 : Nat) (a1 : Int64) (M : FM) : (Nat × Int64 × Int32 × Int32 × FM) ⊕ (Int32 × FM) :=
  let x1 : Nat := (M.2.2 191 a0 0)
  let x2 : Int32 := (M.1 262 x1 0)
  (.inl (a0, a1, x2, (Int32.ofInt 0), M))
theorem gX2_bytes_0 (k11 : Nat → Int64 → Int32 → Int32 → FM → Option (Int32 × FM)) (a0 : Nat) (a1 : Int64) (M : FM) (T : Ty M) (n_a0 : fm_is M 67 67 a0 = true) : gs (FX2_bytes_0 fN k11 a0 a1 M) (GX2_bytes_0 a0 a1 M) (kX2_bytes k11) (pX2_bytes M) := by
  delta FX2_bytes_0 BX2_bytes_0
  refine gs_c n_a0 ?_
  have f0 := (tN_191 T.1 n_a0)
  refine gs_c f0 ?_
  exact And.intro rfl (And.intro (And.intro T.1 T.2) ((ext_r _)))
noncomputable def GX2_bytes_11 (a0 : Nat) (a1 : Int64) (a3 : Int32) (a4 : Int32) (M : FM) : (Nat × Int64 × Int32 × Int32 × FM) ⊕ (Int32 × FM) :=
  fi (a3 ≤ a4) (
    let x1 : Nat := (M.2.2 191 a0 0)
    let M2 : FM := fm_sI M 262 x1 0 (Int32.ofInt 0)
    (.inr (a3, M2))) (
    let x3 : Nat := (M.2.2 189 a0 0)
    let x4 : Nat := (M.2.2 191 a0 0)
    let r5 : Int32 × FM := GX3_get x4 a4 M
    let x6 : Nat := (M.2.2 18 x3 0)
    let M7 : FM := GX11_store x6 (a1 + a4.toInt64) (Int32.ofInt 1) r5.1.toInt64 r5.2
    let x8 : Int32 := a4 + (Int32.ofInt 1)
    (.inl (a0, a1, a3, x8, M7)))
def HX2_bytes_11 (a0 : Nat) (a1 : Int64) (a3 : Int32) (a4 : Int32) (M : FM) : Prop := ((a3 ≤ a4 → True) ∧ (¬ (a3 ≤ a4) → let x3 : Nat := (M.2.2 189 a0 0); let x4 : Nat := (M.2.2 191 a0 0); (HX3_get x4 a4 M ∧ let r5 : Int32 × FM := GX3_get x4 a4 M; let x6 : Nat := (M.2.2 18 x3 0); (HX11_store x6 (a1 + a4.toInt64) (Int32.ofInt 1) r5.1.toInt64 r5.2 ∧ True))))
theorem gX2_bytes_11 (k11 : Nat → Int64 → Int32 → Int32 → FM → Option (Int32 × FM)) (a0 : Nat) (a1 : Int64) (a3 : Int32) (a4 : Int32) (M : FM) (T : Ty M) (n_a0 : fm_is M 67 67 a0 = true) (h : HX2_bytes_11 a0 a1 a3 a4 M) : gs (FX2_bytes_11 fN k11 a0 a1 a3 a4 M) (GX2_bytes_11 a0 a1 a3 a4 M) (kX2_bytes k11) (pX2_bytes M) := by
  delta FX2_bytes_11 BX2_bytes_11
  refine gs_fi (fun c0_0 => ?_) (fun c0_0 => ?_)
  · refine gs_c n_a0 ?_
    have f1 := (tN_191 T.1 n_a0)
    refine gs_c f1 ?_
    exact And.intro rfl (And.intro (And.intro T.1 (tyb_sI (f := 262) rfl T.2)) ((ext_dI (ext_r _))))
  · refine gs_c n_a0 ?_
    have f2 := (tN_189 T.1 n_a0)
    refine gs_c f2 ?_
    refine gs_c n_a0 ?_
    have f3 := (tN_191 T.1 n_a0)
    refine gs_c f3 ?_
    have f8 := (tN_191 T.1 n_a0)
    refine gs_b (gX3_get _ _ _ ⟨T.1, T.2⟩ f8 (h.2 c0_0).1) (fun K4 => ?_)
    have f5 := (ext_is K4.2 (Nat.zero_lt_succ _) (tN_18 T.1 (tN_189 T.1 n_a0)))
    refine gs_c f5 ?_
    have f7 := (ext_is K4.2 (Nat.zero_lt_succ _) (tN_18 T.1 (tN_189 T.1 n_a0)))
    refine gs_b (gX11_store _ _ _ _ _ ⟨K4.1.1, K4.1.2⟩ f7 (h.2 c0_0).2.1) (fun K6 => ?_)
    exact And.intro rfl (And.intro (And.intro K6.1.1 K6.1.2) ((ext_tr K4.2 K6.2)))
noncomputable def GX2_bytes (a0 : Nat) (a1 : Int64) (M : FM) : Int32 × FM := (FX2_bytes fN a0 a1 M).getD (0, M)
def HX2_bytes (a0 : Nat) (a1 : Int64) (M : FM) : Prop := ∃ r, FX2_bytes fN a0 a1 M = some r ∧ OkR M r
theorem gX2_bytes (a0 : Nat) (a1 : Int64) (M : FM) (h : HX2_bytes a0 a1 M) : gd (FX2_bytes fN a0 a1 M) (GX2_bytes a0 a1 M) (OkR M) := gd_op h
def kX2_sectors (k11 : Nat → Int64 → Int32 → Int32 → FM → Option (Int32 × FM)) : (Nat × Int64 × Int32 × Int32 × FM) ⊕ (Int32 × FM) → Option (Int32 × FM)
  | .inl (v0, v1, v2, v3, M') => k11 v0 v1 v2 v3 M'
  | .inr (r) => some r
def pX2_sectors (M : FM) : (Nat × Int64 × Int32 × Int32 × FM) ⊕ (Int32 × FM) → Prop
  | .inl (_, _, _, _, M') => OkV M M'
  | .inr (r) => OkR M r
theorem pX2_sectors_t {M M1 : FM} (e : Ext M M1) : ∀ y, pX2_sectors M1 y → pX2_sectors M y
  | .inl (_, _, _, _, _), h => ⟨h.1, ext_tr e h.2⟩
  | .inr (r), h => ⟨h.1, ext_tr e h.2⟩
noncomputable def GX2_sectors_0 (a0 : Nat) (a1 : Int64) (M : FM) : (Nat × Int64 × Int32 × Int32 × FM) ⊕ (Int32 × FM) :=
  let x1 : Nat := (M.2.2 191 a0 0)
  let x2 : Int32 := (M.1 262 x1 0)
  (.inl (a0, a1, x2, (Int32.ofInt 0), M))
theorem gX2_sectors_0 (k11 : Nat → Int64 → Int32 → Int32 → FM → Option (Int32 × FM)) (a0 : Nat) (a1 : Int64) (M : FM) (T : Ty M) (n_a0 : fm_is M 67 67 a0 = true) : gs (FX2_sectors_0 fN k11 a0 a1 M) (GX2_sectors_0 a0 a1 M) (kX2_sectors k11) (pX2_sectors M) := by
  delta FX2_sectors_0 BX2_sectors_0
  refine gs_c n_a0 ?_
  have f0 := (tN_191 T.1 n_a0)
  refine gs_c f0 ?_
  exact And.intro rfl (And.intro (And.intro T.1 T.2) ((ext_r _)))
noncomputable def GX2_sectors_11 (a0 : Nat) (a1 : Int64) (a3 : Int32) (a4 : Int32) (M : FM) : (Nat × Int64 × Int32 × Int32 × FM) ⊕ (Int32 × FM) :=
  fi (a3 ≤ a4) (
    let x1 : Nat := (M.2.2 191 a0 0)
    let M2 : FM := fm_sI M 262 x1 0 (Int32.ofInt 0)
    (.inr (a3, M2))) (
    let x3 : Nat := (M.2.2 189 a0 0)
    let x4 : Nat := (M.2.2 20 x3 0)
    let x5 : Nat := (M.2.2 191 a0 0)
    let r6 : Int32 × FM := GX3_get x5 a4 M
    let x7 : Nat := (M.2.2 59 x4 0)
    let M8 : FM := GX23_put x7 (((Int64.ofInt 512) * a1).toInt32 + a4) r6.1 r6.2
    let x9 : Int32 := a4 + (Int32.ofInt 1)
    (.inl (a0, a1, a3, x9, M8)))
def HX2_sectors_11 (a0 : Nat) (a1 : Int64) (a3 : Int32) (a4 : Int32) (M : FM) : Prop := ((a3 ≤ a4 → True) ∧ (¬ (a3 ≤ a4) → let x3 : Nat := (M.2.2 189 a0 0); let x4 : Nat := (M.2.2 20 x3 0); let x5 : Nat := (M.2.2 191 a0 0); (HX3_get x5 a4 M ∧ let r6 : Int32 × FM := GX3_get x5 a4 M; let x7 : Nat := (M.2.2 59 x4 0); (HX23_put x7 (((Int64.ofInt 512) * a1).toInt32 + a4) r6.1 r6.2 ∧ True))))
theorem gX2_sectors_11 (k11 : Nat → Int64 → Int32 → Int32 → FM → Option (Int32 × FM)) (a0 : Nat) (a1 : Int64) (a3 : Int32) (a4 : Int32) (M : FM) (T : Ty M) (n_a0 : fm_is M 67 67 a0 = true) (h : HX2_sectors_11 a0 a1 a3 a4 M) : gs (FX2_sectors_11 fN k11 a0 a1 a3 a4 M) (GX2_sectors_11 a0 a1 a3 a4 M) (kX2_sectors k11) (pX2_sectors M) := by
  delta FX2_sectors_11 BX2_sectors_11
  refine gs_fi (fun c0_0 => ?_) (fun c0_0 => ?_)
  · refine gs_c n_a0 ?_
    have f1 := (tN_191 T.1 n_a0)
    refine gs_c f1 ?_
    exact And.intro rfl (And.intro (And.intro T.1 (tyb_sI (f := 262) rfl T.2)) ((ext_dI (ext_r _))))
  · refine gs_c n_a0 ?_
    have f2 := (tN_189 T.1 n_a0)
    refine gs_c f2 ?_
    have f3 := (tN_20 T.1 (tN_189 T.1 n_a0))
    refine gs_c f3 ?_
    refine gs_c n_a0 ?_
    have f4 := (tN_191 T.1 n_a0)
    refine gs_c f4 ?_
    have f9 := (tN_191 T.1 n_a0)
    refine gs_b (gX3_get _ _ _ ⟨T.1, T.2⟩ f9 (h.2 c0_0).1) (fun K5 => ?_)
    have f6 := (ext_is K5.2 (Nat.zero_lt_succ _) (tN_59 T.1 (tN_20 T.1 (tN_189 T.1 n_a0))))
    refine gs_c f6 ?_
    have f8 := (ext_is K5.2 (Nat.zero_lt_succ _) (tN_59 T.1 (tN_20 T.1 (tN_189 T.1 n_a0))))
    refine gs_b (gX23_put _ _ _ _ ⟨K5.1.1, K5.1.2⟩ f8 (h.2 c0_0).2.1) (fun K7 => ?_)
    exact And.intro rfl (And.intro (And.intro K7.1.1 K7.1.2) ((ext_tr K5.2 K7.2)))
noncomputable def GX2_sectors (a0 : Nat) (a1 : Int64) (M : FM) : Int32 × FM := (FX2_sectors fN a0 a1 M).getD (0, M)
def HX2_sectors (a0 : Nat) (a1 : Int64) (M : FM) : Prop := ∃ r, FX2_sectors fN a0 a1 M = some r ∧ OkR M r
theorem gX2_sectors (a0 : Nat) (a1 : Int64) (M : FM) (h : HX2_sectors a0 a1 M) : gd (FX2_sectors fN a0 a1 M) (GX2_sectors a0 a1 M) (OkR M) := gd_op h
noncomputable def GX1_load_134 (a0 : Nat) (a2 : Int64) (s0 : Int32) (M : FM) : Int32 × FM :=
  let M1 : FM := GX1_there s0 M
  let x2 : Nat := (M1.2.2 17 a0 0)
  let r3 : Int32 × FM := GX2_sectors x2 a2 M1
  (r3.1, r3.2)
def HX1_load_134 (a0 : Nat) (a2 : Int64) (s0 : Int32) (M : FM) : Prop := (HX1_there s0 M ∧ let M1 : FM := GX1_there s0 M; let x2 : Nat := (M1.2.2 17 a0 0); (HX2_sectors x2 a2 M1 ∧ True))
theorem gX1_load_134 (a0 : Nat) (a2 : Int64) (s0 : Int32) (M : FM) (T : Ty M) (n_a0 : fm_is M 10 10 a0 = true) (h : HX1_load_134 a0 a2 s0 M) : gd (FX1_load_134 fN a0 a2 s0 M) (GX1_load_134 a0 a2 s0 M) (OkR M) := by
  delta FX1_load_134 BX1_load_134
  refine gd_b (gX1_there _ _ ⟨T.1, T.2⟩  h.1) (fun K0 => ?_)
  have f1 := (ext_is K0.2 (Nat.zero_lt_succ _) n_a0)
  refine gd_c f1 ?_
  have f2 := (tN_17 K0.1.1 (ext_is K0.2 (Nat.zero_lt_succ _) n_a0))
  refine gd_c f2 ?_
  refine gd_b (gX2_sectors _ _ _ h.2.1) (fun K3 => ?_)
  exact ⟨rfl, ⟨K3.1.1, K3.1.2⟩, (ext_tr K0.2 K3.2)⟩
noncomputable def GX1_load_133 (a0 : Nat) (a2 : Int64) (M : FM) : Int32 × FM :=
  GX1_load_134 a0 a2 (Int32.ofInt 0) M
def HX1_load_133 (a0 : Nat) (a2 : Int64) (M : FM) : Prop := HX1_load_134 a0 a2 (Int32.ofInt 0) M
theorem gX1_load_133 (a0 : Nat) (a2 : Int64) (M : FM) (T : Ty M) (n_a0 : fm_is M 10 10 a0 = true) (h : HX1_load_133 a0 a2 M) : gd (FX1_load_133 fN a0 a2 M) (GX1_load_133 a0 a2 M) (OkR M) := by
  delta FX1_load_133 BX1_load_133
  exact gd_tR (ext_r _) (gX1_load_134 _ _ _ _ ⟨T.1, T.2⟩ n_a0 h)
noncomputable def GX1_load_129 (a0 : Nat) (a2 : Int64) (M : FM) : Int32 × FM :=
  GX1_load_134 a0 a2 (Int32.ofInt 1) M
def HX1_load_129 (a0 : Nat) (a2 : Int64) (M : FM) : Prop := HX1_load_134 a0 a2 (Int32.ofInt 1) M
theorem gX1_load_129 (a0 : Nat) (a2 : Int64) (M : FM) (T : Ty M) (n_a0 : fm_is M 10 10 a0 = true) (h : HX1_load_129 a0 a2 M) : gd (FX1_load_129 fN a0 a2 M) (GX1_load_129 a0 a2 M) (OkR M) := by
  delta FX1_load_129 BX1_load_129
  exact gd_tR (ext_r _) (gX1_load_134 _ _ _ _ ⟨T.1, T.2⟩ n_a0 h)
noncomputable def GX1_load_74 (a0 : Nat) (a2 : Int64) (s0 : Int32) (M : FM) : Int32 × FM :=
  let M1 : FM := GX1_there s0 M
  let x2 : Nat := (M1.2.2 17 a0 0)
  let r3 : Int32 × FM := GX2_bytes x2 a2 M1
  (r3.1, r3.2)
def HX1_load_74 (a0 : Nat) (a2 : Int64) (s0 : Int32) (M : FM) : Prop := (HX1_there s0 M ∧ let M1 : FM := GX1_there s0 M; let x2 : Nat := (M1.2.2 17 a0 0); (HX2_bytes x2 a2 M1 ∧ True))
theorem gX1_load_74 (a0 : Nat) (a2 : Int64) (s0 : Int32) (M : FM) (T : Ty M) (n_a0 : fm_is M 10 10 a0 = true) (h : HX1_load_74 a0 a2 s0 M) : gd (FX1_load_74 fN a0 a2 s0 M) (GX1_load_74 a0 a2 s0 M) (OkR M) := by
  delta FX1_load_74 BX1_load_74
  refine gd_b (gX1_there _ _ ⟨T.1, T.2⟩  h.1) (fun K0 => ?_)
  have f1 := (ext_is K0.2 (Nat.zero_lt_succ _) n_a0)
  refine gd_c f1 ?_
  have f2 := (tN_17 K0.1.1 (ext_is K0.2 (Nat.zero_lt_succ _) n_a0))
  refine gd_c f2 ?_
  refine gd_b (gX2_bytes _ _ _ h.2.1) (fun K3 => ?_)
  exact ⟨rfl, ⟨K3.1.1, K3.1.2⟩, (ext_tr K0.2 K3.2)⟩
noncomputable def GX1_load_69 (a0 : Nat) (a2 : Int64) (M : FM) : Int32 × FM :=
  GX1_load_74 a0 a2 (Int32.ofInt 1) M
def HX1_load_69 (a0 : Nat) (a2 : Int64) (M : FM) : Prop := HX1_load_74 a0 a2 (Int32.ofInt 1) M
theorem gX1_load_69 (a0 : Nat) (a2 : Int64) (M : FM) (T : Ty M) (n_a0 : fm_is M 10 10 a0 = true) (h : HX1_load_69 a0 a2 M) : gd (FX1_load_69 fN a0 a2 M) (GX1_load_69 a0 a2 M) (OkR M) := by
  delta FX1_load_69 BX1_load_69
  exact gd_tR (ext_r _) (gX1_load_74 _ _ _ _ ⟨T.1, T.2⟩ n_a0 h)
noncomputable def GX1_load_0 (a0 : Nat) (a1 : Int32) (a2 : Int64) (M : FM) : Int32 × FM :=
  let x1 : Nat := (M.2.2 17 a0 0)
  let x2 : Nat := (M.2.2 191 x1 0)
  let x3 : Int32 := (M.1 262 x2 0)
  fi (a1 = (Int32.ofInt 0)) (
    fi (x3 = 0) (
      GX1_load_69 a0 a2 M) (
      let x4 : Nat := (M.2.2 17 a0 0)
      let x5 : Nat := (M.2.2 189 x4 0)
      let x6 : Nat := (M.2.2 18 x5 0)
      let r7 : Int32 × FM := GX11_has x6 a2 x3.toInt64 M
      fi (r7.1 = 0) (
        GX1_load_74 a0 a2 (Int32.ofInt 0) r7.2) (
        GX1_load_69 a0 a2 r7.2))) (
    fi (a1 = (Int32.ofInt 1)) (
      let x8 : Nat := (M.2.2 17 a0 0)
      let r9 : Int32 × FM := GX2_image x8 M
      (r9.1, r9.2)) (
      fi (a1 = (Int32.ofInt 2)) (
        fi (x3 = 0) (
          GX1_load_129 a0 a2 M) (
          fi ((lg_cmp a2 (Int64.ofInt 0)) < 0) (
            GX1_load_133 a0 a2 M) (
            fi (0 ≤ (lg_cmp a2 (Int64.ofInt 2048))) (
              GX1_load_133 a0 a2 M) (
              fi (0 < (lg_cmp x3.toInt64 ((Int64.ofInt 512) * ((Int64.ofInt 2048) - a2)))) (
                GX1_load_133 a0 a2 M) (
                GX1_load_129 a0 a2 M))))) (
        fi (a1 = (Int32.ofInt 3)) (
          let x10 : Nat := (M.2.2 17 a0 0)
          let r11 : Int32 × FM := GX2_typed x10 M
          (r11.1, r11.2)) (
          (0, M)))))
def HX1_load_0 (a0 : Nat) (a1 : Int32) (a2 : Int64) (M : FM) : Prop := let x1 : Nat := (M.2.2 17 a0 0); let x2 : Nat := (M.2.2 191 x1 0); let x3 : Int32 := (M.1 262 x2 0); ((a1 = (Int32.ofInt 0) → ((x3 = 0 → HX1_load_69 a0 a2 M) ∧ (¬ (x3 = 0) → let x4 : Nat := (M.2.2 17 a0 0); let x5 : Nat := (M.2.2 189 x4 0); let x6 : Nat := (M.2.2 18 x5 0); let r7 : Int32 × FM := GX11_has x6 a2 x3.toInt64 M; ((r7.1 = 0 → HX1_load_74 a0 a2 (Int32.ofInt 0) r7.2) ∧ (¬ (r7.1 = 0) → HX1_load_69 a0 a2 r7.2))))) ∧ (¬ (a1 = (Int32.ofInt 0)) → ((a1 = (Int32.ofInt 1) → let x8 : Nat := (M.2.2 17 a0 0); (HX2_image x8 M ∧ True)) ∧ (¬ (a1 = (Int32.ofInt 1)) → ((a1 = (Int32.ofInt 2) → ((x3 = 0 → HX1_load_129 a0 a2 M) ∧ (¬ (x3 = 0) → (((lg_cmp a2 (Int64.ofInt 0)) < 0 → HX1_load_133 a0 a2 M) ∧ (¬ ((lg_cmp a2 (Int64.ofInt 0)) < 0) → ((0 ≤ (lg_cmp a2 (Int64.ofInt 2048)) → HX1_load_133 a0 a2 M) ∧ (¬ (0 ≤ (lg_cmp a2 (Int64.ofInt 2048))) → ((0 < (lg_cmp x3.toInt64 ((Int64.ofInt 512) * ((Int64.ofInt 2048) - a2))) → HX1_load_133 a0 a2 M) ∧ (¬ (0 < (lg_cmp x3.toInt64 ((Int64.ofInt 512) * ((Int64.ofInt 2048) - a2)))) → HX1_load_129 a0 a2 M))))))))) ∧ (¬ (a1 = (Int32.ofInt 2)) → ((a1 = (Int32.ofInt 3) → let x10 : Nat := (M.2.2 17 a0 0); (HX2_typed x10 M ∧ True)) ∧ (¬ (a1 = (Int32.ofInt 3)) → False))))))))
theorem gX1_load_0 (a0 : Nat) (a1 : Int32) (a2 : Int64) (M : FM) (T : Ty M) (n_a0 : fm_is M 10 10 a0 = true) (h : HX1_load_0 a0 a1 a2 M) : gd (FX1_load_0 fN a0 a1 a2 M) (GX1_load_0 a0 a1 a2 M) (OkR M) := by
  delta FX1_load_0 BX1_load_0
  refine gd_c n_a0 ?_
  have f0 := (tN_17 T.1 n_a0)
  refine gd_c f0 ?_
  have f1 := (tN_191 T.1 (tN_17 T.1 n_a0))
  refine gd_c f1 ?_
  refine gd_fi (fun c2_0 => ?_) (fun c2_0 => ?_)
  · refine gd_fi (fun c3_0 => ?_) (fun c3_0 => ?_)
    · exact gd_tR (ext_r _) (gX1_load_69 _ _ _ ⟨T.1, T.2⟩ n_a0 ((h.1 c2_0).1 c3_0))
    · refine gd_c n_a0 ?_
      have f4 := (tN_17 T.1 n_a0)
      refine gd_c f4 ?_
      have f5 := (tN_189 T.1 (tN_17 T.1 n_a0))
      refine gd_c f5 ?_
      have f6 := (tN_18 T.1 (tN_189 T.1 (tN_17 T.1 n_a0)))
      refine gd_c f6 ?_
      have f11 := (tN_18 T.1 (tN_189 T.1 (tN_17 T.1 n_a0)))
      refine gd_b (gX11_has _ _ _ _ ⟨T.1, T.2⟩ f11 ) (fun K7 => ?_)
      refine gd_fi (fun c8_0 => ?_) (fun c8_0 => ?_)
      · have f9 := (ext_is K7.2.1 (Nat.zero_lt_succ _) n_a0)
        exact gd_tR K7.2.1 (gX1_load_74 _ _ _ _ ⟨K7.1.1, K7.1.2⟩ f9 (((h.1 c2_0).2 c3_0).1 c8_0))
      · have f10 := (ext_is K7.2.1 (Nat.zero_lt_succ _) n_a0)
        exact gd_tR K7.2.1 (gX1_load_69 _ _ _ ⟨K7.1.1, K7.1.2⟩ f10 (((h.1 c2_0).2 c3_0).2 c8_0))
  · refine gd_fi (fun c12_1 => ?_) (fun c12_1 => ?_)
    · refine gd_c n_a0 ?_
      have f13 := (tN_17 T.1 n_a0)
      refine gd_c f13 ?_
      have f15 := (tN_17 T.1 n_a0)
      refine gd_b (gX2_image _ _ ⟨T.1, T.2⟩ f15 ((h.2 c2_0).1 c12_1).1) (fun K14 => ?_)
      exact ⟨rfl, ⟨K14.1.1, K14.1.2⟩, K14.2⟩
    · refine gd_fi (fun c16_2 => ?_) (fun c16_2 => ?_)
      · refine gd_fi (fun c17_0 => ?_) (fun c17_0 => ?_)
        · exact gd_tR (ext_r _) (gX1_load_129 _ _ _ ⟨T.1, T.2⟩ n_a0 ((((h.2 c2_0).2 c12_1).1 c16_2).1 c17_0))
        · refine gd_fi (fun c18_0 => ?_) (fun c18_0 => ?_)
          · exact gd_tR (ext_r _) (gX1_load_133 _ _ _ ⟨T.1, T.2⟩ n_a0 (((((h.2 c2_0).2 c12_1).1 c16_2).2 c17_0).1 c18_0))
          · refine gd_fi (fun c19_0 => ?_) (fun c19_0 => ?_)
            · exact gd_tR (ext_r _) (gX1_load_133 _ _ _ ⟨T.1, T.2⟩ n_a0 ((((((h.2 c2_0).2 c12_1).1 c16_2).2 c17_0).2 c18_0).1 c19_0))
            · refine gd_fi (fun c20_0 => ?_) (fun c20_0 => ?_)
              · exact gd_tR (ext_r _) (gX1_load_133 _ _ _ ⟨T.1, T.2⟩ n_a0 (((((((h.2 c2_0).2 c12_1).1 c16_2).2 c17_0).2 c18_0).2 c19_0).1 c20_0))
              · exact gd_tR (ext_r _) (gX1_load_129 _ _ _ ⟨T.1, T.2⟩ n_a0 (((((((h.2 c2_0).2 c12_1).1 c16_2).2 c17_0).2 c18_0).2 c19_0).2 c20_0))
      · refine gd_fi (fun c21_3 => ?_) (fun c21_3 => ?_)
        · refine gd_c n_a0 ?_
          have f22 := (tN_17 T.1 n_a0)
          refine gd_c f22 ?_
          refine gd_b (gX2_typed _ _ ((((h.2 c2_0).2 c12_1).2 c16_2).1 c21_3).1) (fun K23 => ?_)
          exact ⟨rfl, ⟨K23.1.1, K23.1.2⟩, K23.2⟩
        · exact h_false ((((h.2 c2_0).2 c12_1).2 c16_2).2 c21_3)
noncomputable def GX1_load (a0 : Nat) (a1 : Int32) (a2 : Int64) (M : FM) : Int32 × FM := GX1_load_0 a0 a1 a2 M
def HX1_load (a0 : Nat) (a1 : Int32) (a2 : Int64) (M : FM) : Prop := HX1_load_0 a0 a1 a2 M
theorem gX1_load (a0 : Nat) (a1 : Int32) (a2 : Int64) (M : FM) (T : Ty M) (n_a0 : fm_is M 10 10 a0 = true) (h : HX1_load a0 a1 a2 M) : gd (FX1_load fN a0 a1 a2 M) (GX1_load a0 a1 a2 M) (OkR M) := gX1_load_0 a0 a1 a2 M T n_a0 h
noncomputable def GX0_load (a0 : Nat) (a1 : Int32) (a2 : Int64) (a3 : Nat) (M : FM) : Int32 × FM := (Fh_law_load fN a0 a1 a2 a3 M).getD (0, M)
def HX0_load (a0 : Nat) (a1 : Int32) (a2 : Int64) (a3 : Nat) (M : FM) : Prop := ∃ r, Fh_law_load fN a0 a1 a2 a3 M = some r ∧ OkR M r
theorem gX0_load (a0 : Nat) (a1 : Int32) (a2 : Int64) (a3 : Nat) (M : FM) (h : HX0_load a0 a1 a2 a3 M) : gd (Fh_law_load fN a0 a1 a2 a3 M) (GX0_load a0 a1 a2 a3 M) (OkR M) := gd_op h
noncomputable def GX92_register_52 (s0 : Int64) (M : FM) : Int64 × FM :=
  (s0, M)
theorem gX92_register_52 (s0 : Int64) (M : FM) (T : Ty M) : gd (FX92_register_52 s0 M) (GX92_register_52 s0 M) (OkR M) := by
  delta FX92_register_52 BX92_register_52
  exact ⟨rfl, ⟨T.1, T.2⟩, (ext_r _)⟩
noncomputable def GX92_register_28 (a0 : Nat) (a1 : Int32) (a2 : Int32) (s0 : Nat) (s1 : Int32) (M : FM) : Int64 × FM :=
  let M1 : FM := fm_sI M 296 s0 0 s1
  fi ((M1.1 296 a0 0) ≤ 0) (
    let x2 : Nat := (M1.2.2 303 a0 0)
    let x3 : Nat := (M1.2.2 3 x2 a1.toNatClampNeg)
    let r4 : Int64 × FM := GX98_get x3 a2 M1
    GX92_register_52 r4.1 r4.2) (
    GX92_register_52 (Int64.ofInt 0) M1)
def HX92_register_28 (a0 : Nat) (a1 : Int32) (a2 : Int32) (s0 : Nat) (s1 : Int32) (M : FM) : Prop := let M1 : FM := fm_sI M 296 s0 0 s1; (((M1.1 296 a0 0) ≤ 0 → let x2 : Nat := (M1.2.2 303 a0 0); (fm_in M1 x2 a1 = true ∧ let x3 : Nat := (M1.2.2 3 x2 a1.toNatClampNeg); (fm_is M1 94 94 x3 = true ∧ (HX98_get x3 a2 M1 ∧ True)))) ∧ (¬ ((M1.1 296 a0 0) ≤ 0) → True))
theorem gX92_register_28 (a0 : Nat) (a1 : Int32) (a2 : Int32) (s0 : Nat) (s1 : Int32) (M : FM) (T : Ty M) (n_s0 : fm_is M 92 92 s0 = true) (n_a0 : fm_is M 92 92 a0 = true) (h : HX92_register_28 a0 a1 a2 s0 s1 M) : gd (FX92_register_28 a0 a1 a2 s0 s1 M) (GX92_register_28 a0 a1 a2 s0 s1 M) (OkR M) := by
  delta FX92_register_28 BX92_register_28
  refine gd_c n_s0 ?_
  refine gd_c n_a0 ?_
  refine gd_fi (fun c0_0 => ?_) (fun c0_0 => ?_)
  · refine gd_c n_a0 ?_
    have f2 := (fm_w (lo' := 910) (hi' := 990) rfl rfl (tN_303 T.1 n_a0))
    refine gd_c ⟨f2, (h.1 c0_0).1⟩ ?_
    refine gd_c (h.1 c0_0).2.1 ?_
    refine gd_b (gX98_get _ _ _ ⟨T.1, (tyb_sI (f := 296) rfl T.2)⟩ (h.1 c0_0).2.1 (h.1 c0_0).2.2.1) (fun K1 => ?_)
    exact gd_tR (ext_dI K1.2) (gX92_register_52 _ _ ⟨K1.1.1, K1.1.2⟩  )
  · exact gd_tR (ext_dI (ext_r _)) (gX92_register_52 _ _ ⟨T.1, (tyb_sI (f := 296) rfl T.2)⟩  )
noncomputable def GX92_register_23 (a0 : Nat) (a1 : Int32) (a2 : Int32) (s0 : Nat) (M : FM) : Int64 × FM :=
  GX92_register_28 a0 a1 a2 s0 (Int32.ofInt 1) M
def HX92_register_23 (a0 : Nat) (a1 : Int32) (a2 : Int32) (s0 : Nat) (M : FM) : Prop := HX92_register_28 a0 a1 a2 s0 (Int32.ofInt 1) M
theorem gX92_register_23 (a0 : Nat) (a1 : Int32) (a2 : Int32) (s0 : Nat) (M : FM) (T : Ty M) (n_s0 : fm_is M 92 92 s0 = true) (n_a0 : fm_is M 92 92 a0 = true) (h : HX92_register_23 a0 a1 a2 s0 M) : gd (FX92_register_23 a0 a1 a2 s0 M) (GX92_register_23 a0 a1 a2 s0 M) (OkR M) := by
  delta FX92_register_23 BX92_register_23
  exact gd_tR (ext_r _) (gX92_register_28 _ _ _ _ _ _ ⟨T.1, T.2⟩ n_s0 n_a0 h)
noncomputable def GX92_register_0 (a0 : Nat) (a1 : Int32) (a2 : Int32) (M : FM) : Int64 × FM :=
  fi (a1 < 0) (
    GX92_register_23 a0 a1 a2 a0 M) (
    fi ((M.1 297 a0 0) ≤ a1) (
      GX92_register_23 a0 a1 a2 a0 M) (
      fi (a2 < 0) (
        GX92_register_23 a0 a1 a2 a0 M) (
        fi (a2 ≤ (Int32.ofInt 31)) (
          GX92_register_28 a0 a1 a2 a0 (Int32.ofInt 0) M) (
          GX92_register_23 a0 a1 a2 a0 M))))
def HX92_register_0 (a0 : Nat) (a1 : Int32) (a2 : Int32) (M : FM) : Prop := ((a1 < 0 → HX92_register_23 a0 a1 a2 a0 M) ∧ (¬ (a1 < 0) → (((M.1 297 a0 0) ≤ a1 → HX92_register_23 a0 a1 a2 a0 M) ∧ (¬ ((M.1 297 a0 0) ≤ a1) → ((a2 < 0 → HX92_register_23 a0 a1 a2 a0 M) ∧ (¬ (a2 < 0) → ((a2 ≤ (Int32.ofInt 31) → HX92_register_28 a0 a1 a2 a0 (Int32.ofInt 0) M) ∧ (¬ (a2 ≤ (Int32.ofInt 31)) → HX92_register_23 a0 a1 a2 a0 M))))))))
theorem gX92_register_0 (a0 : Nat) (a1 : Int32) (a2 : Int32) (M : FM) (T : Ty M) (n_a0 : fm_is M 92 92 a0 = true) (h : HX92_register_0 a0 a1 a2 M) : gd (FX92_register_0 a0 a1 a2 M) (GX92_register_0 a0 a1 a2 M) (OkR M) := by
  delta FX92_register_0 BX92_register_0
  refine gd_fi (fun c0_0 => ?_) (fun c0_0 => ?_)
  · exact gd_tR (ext_r _) (gX92_register_23 _ _ _ _ _ ⟨T.1, T.2⟩ n_a0 n_a0 (h.1 c0_0))
  · refine gd_c n_a0 ?_
    refine gd_fi (fun c1_0 => ?_) (fun c1_0 => ?_)
    · exact gd_tR (ext_r _) (gX92_register_23 _ _ _ _ _ ⟨T.1, T.2⟩ n_a0 n_a0 ((h.2 c0_0).1 c1_0))
    · refine gd_fi (fun c2_0 => ?_) (fun c2_0 => ?_)
      · exact gd_tR (ext_r _) (gX92_register_23 _ _ _ _ _ ⟨T.1, T.2⟩ n_a0 n_a0 (((h.2 c0_0).2 c1_0).1 c2_0))
      · refine gd_fi (fun c3_0 => ?_) (fun c3_0 => ?_)
        · exact gd_tR (ext_r _) (gX92_register_28 _ _ _ _ _ _ ⟨T.1, T.2⟩ n_a0 n_a0 ((((h.2 c0_0).2 c1_0).2 c2_0).1 c3_0))
        · exact gd_tR (ext_r _) (gX92_register_23 _ _ _ _ _ ⟨T.1, T.2⟩ n_a0 n_a0 ((((h.2 c0_0).2 c1_0).2 c2_0).2 c3_0))
noncomputable def GX92_register (a0 : Nat) (a1 : Int32) (a2 : Int32) (M : FM) : Int64 × FM := GX92_register_0 a0 a1 a2 M
def HX92_register (a0 : Nat) (a1 : Int32) (a2 : Int32) (M : FM) : Prop := HX92_register_0 a0 a1 a2 M
theorem gX92_register (a0 : Nat) (a1 : Int32) (a2 : Int32) (M : FM) (T : Ty M) (n_a0 : fm_is M 92 92 a0 = true) (h : HX92_register a0 a1 a2 M) : gd (FX92_register a0 a1 a2 M) (GX92_register a0 a1 a2 M) (OkR M) := gX92_register_0 a0 a1 a2 M T n_a0 h
noncomputable def GX92_floating_2_52 (s0 : Int64) (M : FM) : Int64 × FM :=
  (s0, M)
theorem gX92_floating_2_52 (s0 : Int64) (M : FM) (T : Ty M) : gd (FX92_floating_2_52 s0 M) (GX92_floating_2_52 s0 M) (OkR M) := by
  delta FX92_floating_2_52 BX92_floating_2_52
  exact ⟨rfl, ⟨T.1, T.2⟩, (ext_r _)⟩
noncomputable def GX92_floating_2_28 (a0 : Nat) (a1 : Int32) (a2 : Int32) (s0 : Nat) (s1 : Int32) (M : FM) : Int64 × FM :=
  let M1 : FM := fm_sI M 296 s0 0 s1
  fi ((M1.1 296 a0 0) ≤ 0) (
    let x2 : Nat := (M1.2.2 304 a0 0)
    let x3 : Nat := (M1.2.2 3 x2 a1.toNatClampNeg)
    let r4 : Int64 × FM := GX99_get x3 a2 M1
    GX92_floating_2_52 r4.1 r4.2) (
    GX92_floating_2_52 (Int64.ofInt 0) M1)
def HX92_floating_2_28 (a0 : Nat) (a1 : Int32) (a2 : Int32) (s0 : Nat) (s1 : Int32) (M : FM) : Prop := let M1 : FM := fm_sI M 296 s0 0 s1; (((M1.1 296 a0 0) ≤ 0 → let x2 : Nat := (M1.2.2 304 a0 0); (fm_in M1 x2 a1 = true ∧ let x3 : Nat := (M1.2.2 3 x2 a1.toNatClampNeg); (fm_is M1 96 96 x3 = true ∧ (HX99_get x3 a2 M1 ∧ True)))) ∧ (¬ ((M1.1 296 a0 0) ≤ 0) → True))
theorem gX92_floating_2_28 (a0 : Nat) (a1 : Int32) (a2 : Int32) (s0 : Nat) (s1 : Int32) (M : FM) (T : Ty M) (n_s0 : fm_is M 92 92 s0 = true) (n_a0 : fm_is M 92 92 a0 = true) (h : HX92_floating_2_28 a0 a1 a2 s0 s1 M) : gd (FX92_floating_2_28 a0 a1 a2 s0 s1 M) (GX92_floating_2_28 a0 a1 a2 s0 s1 M) (OkR M) := by
  delta FX92_floating_2_28 BX92_floating_2_28
  refine gd_c n_s0 ?_
  refine gd_c n_a0 ?_
  refine gd_fi (fun c0_0 => ?_) (fun c0_0 => ?_)
  · refine gd_c n_a0 ?_
    have f2 := (fm_w (lo' := 910) (hi' := 990) rfl rfl (tN_304 T.1 n_a0))
    refine gd_c ⟨f2, (h.1 c0_0).1⟩ ?_
    refine gd_c (h.1 c0_0).2.1 ?_
    refine gd_b (gX99_get _ _ _ ⟨T.1, (tyb_sI (f := 296) rfl T.2)⟩ (h.1 c0_0).2.1 (h.1 c0_0).2.2.1) (fun K1 => ?_)
    exact gd_tR (ext_dI K1.2) (gX92_floating_2_52 _ _ ⟨K1.1.1, K1.1.2⟩  )
  · exact gd_tR (ext_dI (ext_r _)) (gX92_floating_2_52 _ _ ⟨T.1, (tyb_sI (f := 296) rfl T.2)⟩  )
noncomputable def GX92_floating_2_23 (a0 : Nat) (a1 : Int32) (a2 : Int32) (s0 : Nat) (M : FM) : Int64 × FM :=
  GX92_floating_2_28 a0 a1 a2 s0 (Int32.ofInt 1) M
def HX92_floating_2_23 (a0 : Nat) (a1 : Int32) (a2 : Int32) (s0 : Nat) (M : FM) : Prop := HX92_floating_2_28 a0 a1 a2 s0 (Int32.ofInt 1) M
theorem gX92_floating_2_23 (a0 : Nat) (a1 : Int32) (a2 : Int32) (s0 : Nat) (M : FM) (T : Ty M) (n_s0 : fm_is M 92 92 s0 = true) (n_a0 : fm_is M 92 92 a0 = true) (h : HX92_floating_2_23 a0 a1 a2 s0 M) : gd (FX92_floating_2_23 a0 a1 a2 s0 M) (GX92_floating_2_23 a0 a1 a2 s0 M) (OkR M) := by
  delta FX92_floating_2_23 BX92_floating_2_23
  exact gd_tR (ext_r _) (gX92_floating_2_28 _ _ _ _ _ _ ⟨T.1, T.2⟩ n_s0 n_a0 h)
noncomputable def GX92_floating_2_0 (a0 : Nat) (a1 : Int32) (a2 : Int32) (M : FM) : Int64 × FM :=
  fi (a1 < 0) (
    GX92_floating_2_23 a0 a1 a2 a0 M) (
    fi ((M.1 297 a0 0) ≤ a1) (
      GX92_floating_2_23 a0 a1 a2 a0 M) (
      fi (a2 < 0) (
        GX92_floating_2_23 a0 a1 a2 a0 M) (
        fi (a2 ≤ (Int32.ofInt 31)) (
          GX92_floating_2_28 a0 a1 a2 a0 (Int32.ofInt 0) M) (
          GX92_floating_2_23 a0 a1 a2 a0 M))))
def HX92_floating_2_0 (a0 : Nat) (a1 : Int32) (a2 : Int32) (M : FM) : Prop := ((a1 < 0 → HX92_floating_2_23 a0 a1 a2 a0 M) ∧ (¬ (a1 < 0) → (((M.1 297 a0 0) ≤ a1 → HX92_floating_2_23 a0 a1 a2 a0 M) ∧ (¬ ((M.1 297 a0 0) ≤ a1) → ((a2 < 0 → HX92_floating_2_23 a0 a1 a2 a0 M) ∧ (¬ (a2 < 0) → ((a2 ≤ (Int32.ofInt 31) → HX92_floating_2_28 a0 a1 a2 a0 (Int32.ofInt 0) M) ∧ (¬ (a2 ≤ (Int32.ofInt 31)) → HX92_floating_2_23 a0 a1 a2 a0 M))))))))
theorem gX92_floating_2_0 (a0 : Nat) (a1 : Int32) (a2 : Int32) (M : FM) (T : Ty M) (n_a0 : fm_is M 92 92 a0 = true) (h : HX92_floating_2_0 a0 a1 a2 M) : gd (FX92_floating_2_0 a0 a1 a2 M) (GX92_floating_2_0 a0 a1 a2 M) (OkR M) := by
  delta FX92_floating_2_0 BX92_floating_2_0
  refine gd_fi (fun c0_0 => ?_) (fun c0_0 => ?_)
  · exact gd_tR (ext_r _) (gX92_floating_2_23 _ _ _ _ _ ⟨T.1, T.2⟩ n_a0 n_a0 (h.1 c0_0))
  · refine gd_c n_a0 ?_
    refine gd_fi (fun c1_0 => ?_) (fun c1_0 => ?_)
    · exact gd_tR (ext_r _) (gX92_floating_2_23 _ _ _ _ _ ⟨T.1, T.2⟩ n_a0 n_a0 ((h.2 c0_0).1 c1_0))
    · refine gd_fi (fun c2_0 => ?_) (fun c2_0 => ?_)
      · exact gd_tR (ext_r _) (gX92_floating_2_23 _ _ _ _ _ ⟨T.1, T.2⟩ n_a0 n_a0 (((h.2 c0_0).2 c1_0).1 c2_0))
      · refine gd_fi (fun c3_0 => ?_) (fun c3_0 => ?_)
        · exact gd_tR (ext_r _) (gX92_floating_2_28 _ _ _ _ _ _ ⟨T.1, T.2⟩ n_a0 n_a0 ((((h.2 c0_0).2 c1_0).2 c2_0).1 c3_0))
        · exact gd_tR (ext_r _) (gX92_floating_2_23 _ _ _ _ _ ⟨T.1, T.2⟩ n_a0 n_a0 ((((h.2 c0_0).2 c1_0).2 c2_0).2 c3_0))
noncomputable def GX92_floating_2 (a0 : Nat) (a1 : Int32) (a2 : Int32) (M : FM) : Int64 × FM := GX92_floating_2_0 a0 a1 a2 M
def HX92_floating_2 (a0 : Nat) (a1 : Int32) (a2 : Int32) (M : FM) : Prop := HX92_floating_2_0 a0 a1 a2 M
theorem gX92_floating_2 (a0 : Nat) (a1 : Int32) (a2 : Int32) (M : FM) (T : Ty M) (n_a0 : fm_is M 92 92 a0 = true) (h : HX92_floating_2 a0 a1 a2 M) : gd (FX92_floating_2 a0 a1 a2 M) (GX92_floating_2 a0 a1 a2 M) (OkR M) := gX92_floating_2_0 a0 a1 a2 M T n_a0 h
noncomputable def GX92_control_41 (s0 : Int64) (M : FM) : Int64 × FM :=
  (s0, M)
theorem gX92_control_41 (s0 : Int64) (M : FM) (T : Ty M) : gd (FX92_control_41 fN s0 M) (GX92_control_41 s0 M) (OkR M) := by
  delta FX92_control_41 BX92_control_41
  exact ⟨rfl, ⟨T.1, T.2⟩, (ext_r _)⟩
noncomputable def GX92_control_0 (a0 : Nat) (a1 : Int32) (a2 : Int32) (M : FM) : Int64 × FM :=
  let r1 : Int32 × FM := GX92_isNone a0 a1 M
  fi (r1.1 = 0) (
    let M2 : FM := GX92_tell a0 a1 r1.2
    let r3 : Int32 × FM := GX100_isElsewhere a2 M2
    fi (r3.1 = 0) (
      let x4 : Nat := (r3.2.2.2 305 a0 0)
      let x5 : Nat := (r3.2.2.2 3 x4 a1.toNatClampNeg)
      let r6 : Int64 × FM := GX100_peek x5 a2 r3.2
      GX92_control_41 r6.1 r6.2) (
      let r7 : Int64 × FM := GX92_elsewhere a0 a1 a2 r3.2
      GX92_control_41 r7.1 r7.2)) (
    ((Int64.ofInt 0), r1.2))
def HX92_control_0 (a0 : Nat) (a1 : Int32) (a2 : Int32) (M : FM) : Prop := let r1 : Int32 × FM := GX92_isNone a0 a1 M; ((r1.1 = 0 → (HX92_tell a0 a1 r1.2 ∧ let M2 : FM := GX92_tell a0 a1 r1.2; let r3 : Int32 × FM := GX100_isElsewhere a2 M2; ((r3.1 = 0 → let x4 : Nat := (r3.2.2.2 305 a0 0); (fm_in r3.2 x4 a1 = true ∧ let x5 : Nat := (r3.2.2.2 3 x4 a1.toNatClampNeg); (fm_is r3.2 95 95 x5 = true ∧ (HX100_peek x5 a2 r3.2 ∧ True)))) ∧ (¬ (r3.1 = 0) → (HX92_elsewhere a0 a1 a2 r3.2 ∧ True))))) ∧ (¬ (r1.1 = 0) → True))
theorem gX92_control_0 (a0 : Nat) (a1 : Int32) (a2 : Int32) (M : FM) (T : Ty M) (n_a0 : fm_is M 92 92 a0 = true) (h : HX92_control_0 a0 a1 a2 M) : gd (FX92_control_0 fN a0 a1 a2 M) (GX92_control_0 a0 a1 a2 M) (OkR M) := by
  delta FX92_control_0 BX92_control_0
  refine gd_c n_a0 ?_
  refine gd_b (gX92_isNone _ _ _ ⟨T.1, T.2⟩ n_a0 ) (fun K0 => ?_)
  refine gd_fi (fun c1_0 => ?_) (fun c1_0 => ?_)
  · have f2 := (ext_is K0.2.1 (Nat.zero_lt_succ _) n_a0)
    refine gd_c f2 ?_
    refine gd_b (gX92_tell _ _ _ (h.1 c1_0).1) (fun K3 => ?_)
    refine gd_b (gX100_isElsewhere _ _ ⟨K3.1.1, K3.1.2⟩  ) (fun K4 => ?_)
    refine gd_fi (fun c5_0 => ?_) (fun c5_0 => ?_)
    · have f6 := (ext_is K4.2.1 (Nat.zero_lt_succ _) (ext_is K3.2 (Nat.zero_lt_succ _) (ext_is K0.2.1 (Nat.zero_lt_succ _) n_a0)))
      refine gd_c f6 ?_
      have f9 := (fm_w (lo' := 910) (hi' := 990) rfl rfl (tN_305 K4.1.1 (ext_is K4.2.1 (Nat.zero_lt_succ _) (ext_is K3.2 (Nat.zero_lt_succ _) (ext_is K0.2.1 (Nat.zero_lt_succ _) n_a0)))))
      have f10 := ((h.1 c1_0).2.1 c5_0).1
      refine gd_c ⟨f9, f10⟩ ?_
      refine gd_c ((h.1 c1_0).2.1 c5_0).2.1 ?_
      have f8 := ((h.1 c1_0).2.1 c5_0).2.1
      refine gd_b (gX100_peek _ _ _ ⟨K4.1.1, K4.1.2⟩ f8 ((h.1 c1_0).2.1 c5_0).2.2.1) (fun K7 => ?_)
      exact gd_tR (ext_tr K0.2.1 (ext_tr K3.2 (ext_tr K4.2.1 K7.2))) (gX92_control_41 _ _ ⟨K7.1.1, K7.1.2⟩  )
    · have f11 := (ext_is K4.2.1 (Nat.zero_lt_succ _) (ext_is K3.2 (Nat.zero_lt_succ _) (ext_is K0.2.1 (Nat.zero_lt_succ _) n_a0)))
      refine gd_c f11 ?_
      have f13 := (ext_is K4.2.1 (Nat.zero_lt_succ _) (ext_is K3.2 (Nat.zero_lt_succ _) (ext_is K0.2.1 (Nat.zero_lt_succ _) n_a0)))
      refine gd_b (gX92_elsewhere _ _ _ _ ⟨K4.1.1, K4.1.2⟩ f13 ((h.1 c1_0).2.2 c5_0).1) (fun K12 => ?_)
      exact gd_tR (ext_tr K0.2.1 (ext_tr K3.2 (ext_tr K4.2.1 K12.2))) (gX92_control_41 _ _ ⟨K12.1.1, K12.1.2⟩  )
  · exact ⟨rfl, ⟨K0.1.1, K0.1.2⟩, K0.2.1⟩
noncomputable def GX92_control (a0 : Nat) (a1 : Int32) (a2 : Int32) (M : FM) : Int64 × FM := GX92_control_0 a0 a1 a2 M
def HX92_control (a0 : Nat) (a1 : Int32) (a2 : Int32) (M : FM) : Prop := HX92_control_0 a0 a1 a2 M
theorem gX92_control (a0 : Nat) (a1 : Int32) (a2 : Int32) (M : FM) (T : Ty M) (n_a0 : fm_is M 92 92 a0 = true) (h : HX92_control a0 a1 a2 M) : gd (FX92_control fN a0 a1 a2 M) (GX92_control a0 a1 a2 M) (OkR M) := gX92_control_0 a0 a1 a2 M T n_a0 h
noncomputable def GX1_feed_0 (a0 : Nat) (a1 : Int32) (a2 : Int32) (a3 : Int32) (a4 : Int32) (a5 : Int32) (M : FM) : Int32 × FM :=
  let x1 : Nat := (M.2.2 17 a0 0)
  let x2 : Nat := (M.2.2 191 x1 0)
  fi (((M.1 262 x2 0) + (Int32.ofInt 20)) ≤ (Int32.ofInt 65536)) (
    let x3 : Nat := (M.2.2 17 a0 0)
    let x4 : Nat := (M.2.2 191 x3 0)
    let M5 : FM := GX3_addNumber x4 a1 M
    let x6 : Nat := (M5.2.2 17 a0 0)
    let x7 : Nat := (M5.2.2 191 x6 0)
    let M8 : FM := GX3_addNumber x7 a2 M5
    let x9 : Nat := (M8.2.2 17 a0 0)
    let x10 : Nat := (M8.2.2 191 x9 0)
    let M11 : FM := GX3_addNumber x10 a3 M8
    let x12 : Nat := (M11.2.2 17 a0 0)
    let x13 : Nat := (M11.2.2 191 x12 0)
    let M14 : FM := GX3_addNumber x13 a4 M11
    let x15 : Nat := (M14.2.2 17 a0 0)
    let x16 : Nat := (M14.2.2 191 x15 0)
    let M17 : FM := GX3_addNumber x16 a5 M14
    let x18 : Nat := (M17.2.2 17 a0 0)
    let x19 : Nat := (M17.2.2 191 x18 0)
    ((M17.1 262 x19 0), M17)) (
    (0, M))
def HX1_feed_0 (a0 : Nat) (a1 : Int32) (a2 : Int32) (a3 : Int32) (a4 : Int32) (a5 : Int32) (M : FM) : Prop := let x1 : Nat := (M.2.2 17 a0 0); let x2 : Nat := (M.2.2 191 x1 0); ((((M.1 262 x2 0) + (Int32.ofInt 20)) ≤ (Int32.ofInt 65536) → let x3 : Nat := (M.2.2 17 a0 0); let x4 : Nat := (M.2.2 191 x3 0); (HX3_addNumber x4 a1 M ∧ let M5 : FM := GX3_addNumber x4 a1 M; let x6 : Nat := (M5.2.2 17 a0 0); let x7 : Nat := (M5.2.2 191 x6 0); (HX3_addNumber x7 a2 M5 ∧ let M8 : FM := GX3_addNumber x7 a2 M5; let x9 : Nat := (M8.2.2 17 a0 0); let x10 : Nat := (M8.2.2 191 x9 0); (HX3_addNumber x10 a3 M8 ∧ let M11 : FM := GX3_addNumber x10 a3 M8; let x12 : Nat := (M11.2.2 17 a0 0); let x13 : Nat := (M11.2.2 191 x12 0); (HX3_addNumber x13 a4 M11 ∧ let M14 : FM := GX3_addNumber x13 a4 M11; let x15 : Nat := (M14.2.2 17 a0 0); let x16 : Nat := (M14.2.2 191 x15 0); (HX3_addNumber x16 a5 M14 ∧ True)))))) ∧ (¬ (((M.1 262 x2 0) + (Int32.ofInt 20)) ≤ (Int32.ofInt 65536)) → False))
theorem gX1_feed_0 (a0 : Nat) (a1 : Int32) (a2 : Int32) (a3 : Int32) (a4 : Int32) (a5 : Int32) (M : FM) (T : Ty M) (n_a0 : fm_is M 10 10 a0 = true) (h : HX1_feed_0 a0 a1 a2 a3 a4 a5 M) : gd (FX1_feed_0 fN a0 a1 a2 a3 a4 a5 M) (GX1_feed_0 a0 a1 a2 a3 a4 a5 M) (OkR M) := by
  delta FX1_feed_0 BX1_feed_0
  refine gd_c n_a0 ?_
  have f0 := (tN_17 T.1 n_a0)
  refine gd_c f0 ?_
  have f1 := (tN_191 T.1 (tN_17 T.1 n_a0))
  refine gd_c f1 ?_
  refine gd_fi (fun c2_0 => ?_) (fun c2_0 => ?_)
  · refine gd_c n_a0 ?_
    have f3 := (tN_17 T.1 n_a0)
    refine gd_c f3 ?_
    have f4 := (tN_191 T.1 (tN_17 T.1 n_a0))
    refine gd_c f4 ?_
    refine gd_b (gX3_addNumber _ _ _ (h.1 c2_0).1) (fun K5 => ?_)
    have f6 := (ext_is K5.2 (Nat.zero_lt_succ _) n_a0)
    refine gd_c f6 ?_
    have f7 := (tN_17 K5.1.1 (ext_is K5.2 (Nat.zero_lt_succ _) n_a0))
    refine gd_c f7 ?_
    have f8 := (tN_191 K5.1.1 (tN_17 K5.1.1 (ext_is K5.2 (Nat.zero_lt_succ _) n_a0)))
    refine gd_c f8 ?_
    refine gd_b (gX3_addNumber _ _ _ (h.1 c2_0).2.1) (fun K9 => ?_)
    have f10 := (ext_is K9.2 (Nat.zero_lt_succ _) (ext_is K5.2 (Nat.zero_lt_succ _) n_a0))
    refine gd_c f10 ?_
    have f11 := (tN_17 K9.1.1 (ext_is K9.2 (Nat.zero_lt_succ _) (ext_is K5.2 (Nat.zero_lt_succ _) n_a0)))
    refine gd_c f11 ?_
    have f12 := (tN_191 K9.1.1 (tN_17 K9.1.1 (ext_is K9.2 (Nat.zero_lt_succ _) (ext_is K5.2 (Nat.zero_lt_succ _) n_a0))))
    refine gd_c f12 ?_
    refine gd_b (gX3_addNumber _ _ _ (h.1 c2_0).2.2.1) (fun K13 => ?_)
    have f14 := (ext_is K13.2 (Nat.zero_lt_succ _) (ext_is K9.2 (Nat.zero_lt_succ _) (ext_is K5.2 (Nat.zero_lt_succ _) n_a0)))
    refine gd_c f14 ?_
    have f15 := (tN_17 K13.1.1 (ext_is K13.2 (Nat.zero_lt_succ _) (ext_is K9.2 (Nat.zero_lt_succ _) (ext_is K5.2 (Nat.zero_lt_succ _) n_a0))))
    refine gd_c f15 ?_
    have f16 := (tN_191 K13.1.1 (tN_17 K13.1.1 (ext_is K13.2 (Nat.zero_lt_succ _) (ext_is K9.2 (Nat.zero_lt_succ _) (ext_is K5.2 (Nat.zero_lt_succ _) n_a0)))))
    refine gd_c f16 ?_
    refine gd_b (gX3_addNumber _ _ _ (h.1 c2_0).2.2.2.1) (fun K17 => ?_)
    have f18 := (ext_is K17.2 (Nat.zero_lt_succ _) (ext_is K13.2 (Nat.zero_lt_succ _) (ext_is K9.2 (Nat.zero_lt_succ _) (ext_is K5.2 (Nat.zero_lt_succ _) n_a0))))
    refine gd_c f18 ?_
    have f19 := (tN_17 K17.1.1 (ext_is K17.2 (Nat.zero_lt_succ _) (ext_is K13.2 (Nat.zero_lt_succ _) (ext_is K9.2 (Nat.zero_lt_succ _) (ext_is K5.2 (Nat.zero_lt_succ _) n_a0)))))
    refine gd_c f19 ?_
    have f20 := (tN_191 K17.1.1 (tN_17 K17.1.1 (ext_is K17.2 (Nat.zero_lt_succ _) (ext_is K13.2 (Nat.zero_lt_succ _) (ext_is K9.2 (Nat.zero_lt_succ _) (ext_is K5.2 (Nat.zero_lt_succ _) n_a0))))))
    refine gd_c f20 ?_
    refine gd_b (gX3_addNumber _ _ _ (h.1 c2_0).2.2.2.2.1) (fun K21 => ?_)
    have f22 := (ext_is K21.2 (Nat.zero_lt_succ _) (ext_is K17.2 (Nat.zero_lt_succ _) (ext_is K13.2 (Nat.zero_lt_succ _) (ext_is K9.2 (Nat.zero_lt_succ _) (ext_is K5.2 (Nat.zero_lt_succ _) n_a0)))))
    refine gd_c f22 ?_
    have f23 := (tN_17 K21.1.1 (ext_is K21.2 (Nat.zero_lt_succ _) (ext_is K17.2 (Nat.zero_lt_succ _) (ext_is K13.2 (Nat.zero_lt_succ _) (ext_is K9.2 (Nat.zero_lt_succ _) (ext_is K5.2 (Nat.zero_lt_succ _) n_a0))))))
    refine gd_c f23 ?_
    have f24 := (tN_191 K21.1.1 (tN_17 K21.1.1 (ext_is K21.2 (Nat.zero_lt_succ _) (ext_is K17.2 (Nat.zero_lt_succ _) (ext_is K13.2 (Nat.zero_lt_succ _) (ext_is K9.2 (Nat.zero_lt_succ _) (ext_is K5.2 (Nat.zero_lt_succ _) n_a0)))))))
    refine gd_c f24 ?_
    exact ⟨rfl, ⟨K21.1.1, K21.1.2⟩, (ext_tr K5.2 (ext_tr K9.2 (ext_tr K13.2 (ext_tr K17.2 K21.2))))⟩
  · exact h_false (h.2 c2_0)
noncomputable def GX1_feed (a0 : Nat) (a1 : Int32) (a2 : Int32) (a3 : Int32) (a4 : Int32) (a5 : Int32) (M : FM) : Int32 × FM := GX1_feed_0 a0 a1 a2 a3 a4 a5 M
def HX1_feed (a0 : Nat) (a1 : Int32) (a2 : Int32) (a3 : Int32) (a4 : Int32) (a5 : Int32) (M : FM) : Prop := HX1_feed_0 a0 a1 a2 a3 a4 a5 M
theorem gX1_feed (a0 : Nat) (a1 : Int32) (a2 : Int32) (a3 : Int32) (a4 : Int32) (a5 : Int32) (M : FM) (T : Ty M) (n_a0 : fm_is M 10 10 a0 = true) (h : HX1_feed a0 a1 a2 a3 a4 a5 M) : gd (FX1_feed fN a0 a1 a2 a3 a4 a5 M) (GX1_feed a0 a1 a2 a3 a4 a5 M) (OkR M) := gX1_feed_0 a0 a1 a2 a3 a4 a5 M T n_a0 h
