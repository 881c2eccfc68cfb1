/-! functions without guards, printed by gen/gg.py -/
set_option maxRecDepth 100000
noncomputable def GX20_place_54 (M : FM) : FM :=
  M
theorem gX20_place_54 (M : FM) (T : Ty M) : gd (FX20_place_54 M) (GX20_place_54 M) (OkV M) := by
  delta FX20_place_54 BX20_place_54
  exact ⟨rfl, ⟨T.1, T.2⟩, (ext_r _)⟩
noncomputable def GX20_place_0 (a0 : Nat) (a1 : Int32) (a2 : Int32) (a3 : Int32) (M : FM) : FM :=
  fi (a1 = 0) (
    let r1 : Int64 × FM := GX20_half (M.2.1 73 a0 0) a2 a3 M
    let M2 : FM := fm_sL r1.2 73 a0 0 r1.1
    GX20_place_54 M2) (
    fi (a1 = (Int32.ofInt 1)) (
      let r3 : Int64 × FM := GX20_half (M.2.1 74 a0 0) a2 a3 M
      let M4 : FM := fm_sL r3.2 74 a0 0 r3.1
      GX20_place_54 M4) (
      let r5 : Int64 × FM := GX20_half (M.2.1 75 a0 0) a2 a3 M
      let M6 : FM := fm_sL r5.2 75 a0 0 r5.1
      GX20_place_54 M6))
theorem gX20_place_0 (a0 : Nat) (a1 : Int32) (a2 : Int32) (a3 : Int32) (M : FM) (T : Ty M) (n_a0 : fm_is M 28 28 a0 = true) : gd (FX20_place_0 a0 a1 a2 a3 M) (GX20_place_0 a0 a1 a2 a3 M) (OkV M) := by
  delta FX20_place_0 BX20_place_0
  refine gd_fi (fun c0_0 => ?_) (fun c0_0 => ?_)
  · refine gd_c n_a0 ?_
    refine gd_b (gX20_half _ _ _ _ ⟨T.1, T.2⟩  ) (fun K1 => ?_)
    have f2 := (ext_is K1.2 (Nat.zero_lt_succ _) n_a0)
    refine gd_c f2 ?_
    exact gd_tV (ext_tr K1.2 (ext_dL (ext_r _))) (gX20_place_54  _ ⟨K1.1.1, K1.1.2⟩  )
  · refine gd_fi (fun c3_0 => ?_) (fun c3_0 => ?_)
    · refine gd_c n_a0 ?_
      refine gd_b (gX20_half _ _ _ _ ⟨T.1, T.2⟩  ) (fun K4 => ?_)
      have f5 := (ext_is K4.2 (Nat.zero_lt_succ _) n_a0)
      refine gd_c f5 ?_
      exact gd_tV (ext_tr K4.2 (ext_dL (ext_r _))) (gX20_place_54  _ ⟨K4.1.1, K4.1.2⟩  )
    · refine gd_c n_a0 ?_
      refine gd_b (gX20_half _ _ _ _ ⟨T.1, T.2⟩  ) (fun K6 => ?_)
      have f7 := (ext_is K6.2 (Nat.zero_lt_succ _) n_a0)
      refine gd_c f7 ?_
      exact gd_tV (ext_tr K6.2 (ext_dL (ext_r _))) (gX20_place_54  _ ⟨K6.1.1, K6.1.2⟩  )
noncomputable def GX20_place (a0 : Nat) (a1 : Int32) (a2 : Int32) (a3 : Int32) (M : FM) : FM := GX20_place_0 a0 a1 a2 a3 M
theorem gX20_place (a0 : Nat) (a1 : Int32) (a2 : Int32) (a3 : Int32) (M : FM) (T : Ty M) (n_a0 : fm_is M 28 28 a0 = true) : gd (FX20_place a0 a1 a2 a3 M) (GX20_place a0 a1 a2 a3 M) (OkV M) := gX20_place_0 a0 a1 a2 a3 M T n_a0 
noncomputable def GX18_writeQueue_131 (M : FM) : FM :=
  M
theorem gX18_writeQueue_131 (M : FM) (T : Ty M) : gd (FX18_writeQueue_131 M) (GX18_writeQueue_131 M) (OkV M) := by
  delta FX18_writeQueue_131 BX18_writeQueue_131
  exact ⟨rfl, ⟨T.1, T.2⟩, (ext_r _)⟩
noncomputable def GX18_writeQueue_127 (a2 : Int32) (s0 : Nat) (s1 : Int32) (s2 : Int32) (M : FM) : FM :=
  let M1 : FM := GX20_place s0 s1 s2 a2 M
  GX18_writeQueue_131 M1
theorem gX18_writeQueue_127 (a2 : Int32) (s0 : Nat) (s1 : Int32) (s2 : Int32) (M : FM) (T : Ty M) (n_s0 : fm_is M 28 28 s0 = true) : gd (FX18_writeQueue_127 a2 s0 s1 s2 M) (GX18_writeQueue_127 a2 s0 s1 s2 M) (OkV M) := by
  delta FX18_writeQueue_127 BX18_writeQueue_127
  refine gd_c n_s0 ?_
  refine gd_b (gX20_place _ _ _ _ _ ⟨T.1, T.2⟩ n_s0 ) (fun K0 => ?_)
  exact gd_tV K0.2 (gX18_writeQueue_131  _ ⟨K0.1.1, K0.1.2⟩  )
noncomputable def GX18_writeQueue_78 (s0 : Nat) (s1 : Int32) (M : FM) : FM :=
  let M1 : FM := fm_sI M 71 s0 0 s1
  GX18_writeQueue_131 M1
theorem gX18_writeQueue_78 (s0 : Nat) (s1 : Int32) (M : FM) (T : Ty M) (n_s0 : fm_is M 28 28 s0 = true) : gd (FX18_writeQueue_78 s0 s1 M) (GX18_writeQueue_78 s0 s1 M) (OkV M) := by
  delta FX18_writeQueue_78 BX18_writeQueue_78
  refine gd_c n_s0 ?_
  exact gd_tV (ext_dI (ext_r _)) (gX18_writeQueue_131  _ ⟨T.1, (tyb_sI (f := 71) rfl T.2)⟩  )
noncomputable def GX18_writeQueue_71 (a0 : Nat) (s0 : Nat) (M : FM) : FM :=
  let x1 : Nat := (M.2.2 60 a0 0)
  GX18_writeQueue_78 s0 (M.1 71 x1 0) M
theorem gX18_writeQueue_71 (a0 : Nat) (s0 : Nat) (M : FM) (T : Ty M) (n_a0 : fm_is M 22 22 a0 = true) (n_s0 : fm_is M 28 28 s0 = true) : gd (FX18_writeQueue_71 a0 s0 M) (GX18_writeQueue_71 a0 s0 M) (OkV M) := by
  delta FX18_writeQueue_71 BX18_writeQueue_71
  refine gd_c n_a0 ?_
  have f0 := (tN_60 T.1 n_a0)
  refine gd_c f0 ?_
  exact gd_tV (ext_r _) (gX18_writeQueue_78 _ _ _ ⟨T.1, T.2⟩ n_s0 )
noncomputable def GX18_writeQueue_22 (s0 : Nat) (s1 : Int32) (M : FM) : FM :=
  let M1 : FM := fm_sI M 72 s0 0 s1
  GX18_writeQueue_131 M1
theorem gX18_writeQueue_22 (s0 : Nat) (s1 : Int32) (M : FM) (T : Ty M) (n_s0 : fm_is M 28 28 s0 = true) (z_s1 : s1 = 0 ∨ s1 = 1) : gd (FX18_writeQueue_22 s0 s1 M) (GX18_writeQueue_22 s0 s1 M) (OkV M) := by
  delta FX18_writeQueue_22 BX18_writeQueue_22
  refine gd_c n_s0 ?_
  refine gd_c z_s1 ?_
  exact gd_tV (ext_dI (ext_r _)) (gX18_writeQueue_131  _ ⟨T.1, (tyb_sIb (f := 72) rfl T.2 z_s1)⟩  )
noncomputable def GX18_writeQueue_0 (a0 : Nat) (a1 : Int32) (a2 : Int32) (M : FM) : FM :=
  fi (a1 = (Int32.ofInt 68)) (
    fi ((a2 &&& (Int32.ofInt 1)) = (Int32.ofInt 1)) (
      GX18_writeQueue_22 (M.2.2 60 a0 0) (Int32.ofInt 1) M) (
      GX18_writeQueue_22 (M.2.2 60 a0 0) (Int32.ofInt 0) M)) (
    let x1 : Nat := (M.2.2 60 a0 0)
    fi ((M.1 72 x1 0) = 0) (
      fi (a1 = (Int32.ofInt 56)) (
        fi (a2 ≤ 0) (
          GX18_writeQueue_71 a0 (M.2.2 60 a0 0) M) (
          fi ((Int32.ofInt 16) < a2) (
            GX18_writeQueue_71 a0 (M.2.2 60 a0 0) M) (
            fi ((a2 &&& (a2 - (Int32.ofInt 1))) = 0) (
              GX18_writeQueue_78 (M.2.2 60 a0 0) a2 M) (
              GX18_writeQueue_71 a0 (M.2.2 60 a0 0) M)))) (
        fi (a1 < (Int32.ofInt 128)) (
          GX18_writeQueue_131 M) (
          fi ((Int32.ofInt 168) ≤ a1) (
            GX18_writeQueue_131 M) (
            fi ((a1 &&& (Int32.ofInt 8)) = 0) (
              fi ((a1 &&& (Int32.ofInt 4)) = 0) (
                GX18_writeQueue_127 a2 (M.2.2 60 a0 0) ((a1 - (Int32.ofInt 128)) >>> ((Int32.ofInt 4) &&& 31)) (Int32.ofInt 0) M) (
                GX18_writeQueue_127 a2 (M.2.2 60 a0 0) ((a1 - (Int32.ofInt 128)) >>> ((Int32.ofInt 4) &&& 31)) (Int32.ofInt 1) M)) (
              GX18_writeQueue_131 M))))) (
      M))
theorem gX18_writeQueue_0 (a0 : Nat) (a1 : Int32) (a2 : Int32) (M : FM) (T : Ty M) (n_a0 : fm_is M 22 22 a0 = true) : gd (FX18_writeQueue_0 a0 a1 a2 M) (GX18_writeQueue_0 a0 a1 a2 M) (OkV M) := by
  delta FX18_writeQueue_0 BX18_writeQueue_0
  refine gd_fi (fun c0_0 => ?_) (fun c0_0 => ?_)
  · refine gd_c n_a0 ?_
    refine gd_fi (fun c1_0 => ?_) (fun c1_0 => ?_)
    · have f2 := (tN_60 T.1 n_a0)
      exact gd_tV (ext_r _) (gX18_writeQueue_22 _ _ _ ⟨T.1, T.2⟩ f2 fz_1 )
    · have f3 := (tN_60 T.1 n_a0)
      exact gd_tV (ext_r _) (gX18_writeQueue_22 _ _ _ ⟨T.1, T.2⟩ f3 fz_0 )
  · refine gd_c n_a0 ?_
    have f4 := (tN_60 T.1 n_a0)
    refine gd_c f4 ?_
    refine gd_fi (fun c5_0 => ?_) (fun c5_0 => ?_)
    · refine gd_fi (fun c6_0 => ?_) (fun c6_0 => ?_)
      · refine gd_c n_a0 ?_
        refine gd_fi (fun c7_0 => ?_) (fun c7_0 => ?_)
        · have f8 := (tN_60 T.1 n_a0)
          exact gd_tV (ext_r _) (gX18_writeQueue_71 _ _ _ ⟨T.1, T.2⟩ n_a0 f8 )
        · refine gd_fi (fun c9_0 => ?_) (fun c9_0 => ?_)
          · have f10 := (tN_60 T.1 n_a0)
            exact gd_tV (ext_r _) (gX18_writeQueue_71 _ _ _ ⟨T.1, T.2⟩ n_a0 f10 )
          · refine gd_fi (fun c11_0 => ?_) (fun c11_0 => ?_)
            · have f12 := (tN_60 T.1 n_a0)
              exact gd_tV (ext_r _) (gX18_writeQueue_78 _ _ _ ⟨T.1, T.2⟩ f12 )
            · have f13 := (tN_60 T.1 n_a0)
              exact gd_tV (ext_r _) (gX18_writeQueue_71 _ _ _ ⟨T.1, T.2⟩ n_a0 f13 )
      · refine gd_fi (fun c14_0 => ?_) (fun c14_0 => ?_)
        · exact gd_tV (ext_r _) (gX18_writeQueue_131  _ ⟨T.1, T.2⟩  )
        · refine gd_fi (fun c15_0 => ?_) (fun c15_0 => ?_)
          · exact gd_tV (ext_r _) (gX18_writeQueue_131  _ ⟨T.1, T.2⟩  )
          · refine gd_fi (fun c16_0 => ?_) (fun c16_0 => ?_)
            · refine gd_c n_a0 ?_
              refine gd_fi (fun c17_0 => ?_) (fun c17_0 => ?_)
              · have f18 := (tN_60 T.1 n_a0)
                exact gd_tV (ext_r _) (gX18_writeQueue_127 _ _ _ _ _ ⟨T.1, T.2⟩ f18 )
              · have f19 := (tN_60 T.1 n_a0)
                exact gd_tV (ext_r _) (gX18_writeQueue_127 _ _ _ _ _ ⟨T.1, T.2⟩ f19 )
            · exact gd_tV (ext_r _) (gX18_writeQueue_131  _ ⟨T.1, T.2⟩  )
    · exact ⟨rfl, ⟨T.1, T.2⟩, (ext_r _)⟩
noncomputable def GX18_writeQueue (a0 : Nat) (a1 : Int32) (a2 : Int32) (M : FM) : FM := GX18_writeQueue_0 a0 a1 a2 M
theorem gX18_writeQueue (a0 : Nat) (a1 : Int32) (a2 : Int32) (M : FM) (T : Ty M) (n_a0 : fm_is M 22 22 a0 = true) : gd (FX18_writeQueue a0 a1 a2 M) (GX18_writeQueue a0 a1 a2 M) (OkV M) := gX18_writeQueue_0 a0 a1 a2 M T n_a0 
noncomputable def GX18_write_115 (M : FM) : FM :=
  M
theorem gX18_write_115 (M : FM) (T : Ty M) : gd (FX18_write_115 fN M) (GX18_write_115 M) (OkV M) := by
  delta FX18_write_115 BX18_write_115
  exact ⟨rfl, ⟨T.1, T.2⟩, (ext_r _)⟩
noncomputable def GX18_write_0 (a0 : Nat) (a1 : Int32) (a2 : Int32) (M : FM) : FM :=
  fi (a1 = (Int32.ofInt 20)) (
    let M1 : FM := fm_sI M 63 a0 0 a2
    GX18_write_115 M1) (
    fi (a1 = (Int32.ofInt 48)) (
      let M2 : FM := fm_sI M 64 a0 0 a2
      GX18_write_115 M2) (
      fi (a1 = (Int32.ofInt 80)) (
        fi (a2 = 0) (
          let M3 : FM := GX18_work a0 M
          GX18_write_115 M3) (
          GX18_write_115 M)) (
        fi (a1 = (Int32.ofInt 100)) (
          let M4 : FM := fm_sI M 66 a0 0 ((M.1 66 a0 0) &&& (a2 ^^^ (Int32.ofInt (-1))))
          GX18_write_115 M4) (
          fi (a1 = (Int32.ofInt 112)) (
            let M5 : FM := GX18_become a0 a2 M
            GX18_write_115 M5) (
            fi ((M.1 64 a0 0) = 0) (
              let M6 : FM := GX18_writeQueue a0 a1 a2 M
              GX18_write_115 M6) (
              GX18_write_115 M))))))
def HX18_write_0 (a0 : Nat) (a1 : Int32) (a2 : Int32) (M : FM) : Prop := ((a1 = (Int32.ofInt 20) → True) ∧ (¬ (a1 = (Int32.ofInt 20)) → ((a1 = (Int32.ofInt 48) → True) ∧ (¬ (a1 = (Int32.ofInt 48)) → ((a1 = (Int32.ofInt 80) → ((a2 = 0 → (HX18_work a0 M ∧ True)) ∧ (¬ (a2 = 0) → True))) ∧ (¬ (a1 = (Int32.ofInt 80)) → True))))))
theorem gX18_write_0 (a0 : Nat) (a1 : Int32) (a2 : Int32) (M : FM) (T : Ty M) (n_a0 : fm_is M 22 22 a0 = true) (h : HX18_write_0 a0 a1 a2 M) : gd (FX18_write_0 fN a0 a1 a2 M) (GX18_write_0 a0 a1 a2 M) (OkV M) := by
  delta FX18_write_0 BX18_write_0
  refine gd_fi (fun c0_0 => ?_) (fun c0_0 => ?_)
  · refine gd_c n_a0 ?_
    exact gd_tV (ext_dI (ext_r _)) (gX18_write_115  _ ⟨T.1, (tyb_sI (f := 63) rfl T.2)⟩  )
  · refine gd_fi (fun c1_1 => ?_) (fun c1_1 => ?_)
    · refine gd_c n_a0 ?_
      exact gd_tV (ext_dI (ext_r _)) (gX18_write_115  _ ⟨T.1, (tyb_sI (f := 64) rfl T.2)⟩  )
    · refine gd_fi (fun c2_2 => ?_) (fun c2_2 => ?_)
      · refine gd_fi (fun c3_0 => ?_) (fun c3_0 => ?_)
        · refine gd_c n_a0 ?_
          refine gd_b (gX18_work _ _ ((((h.2 c0_0).2 c1_1).1 c2_2).1 c3_0).1) (fun K4 => ?_)
          exact gd_tV K4.2 (gX18_write_115  _ ⟨K4.1.1, K4.1.2⟩  )
        · exact gd_tV (ext_r _) (gX18_write_115  _ ⟨T.1, T.2⟩  )
      · refine gd_fi (fun c5_3 => ?_) (fun c5_3 => ?_)
        · refine gd_c n_a0 ?_
          refine gd_c n_a0 ?_
          exact gd_tV (ext_dI (ext_r _)) (gX18_write_115  _ ⟨T.1, (tyb_sI (f := 66) rfl T.2)⟩  )
        · refine gd_fi (fun c6_4 => ?_) (fun c6_4 => ?_)
          · refine gd_c n_a0 ?_
            refine gd_b (gX18_become _ _ _ ⟨T.1, T.2⟩ n_a0 ) (fun K7 => ?_)
            exact gd_tV K7.2 (gX18_write_115  _ ⟨K7.1.1, K7.1.2⟩  )
          · refine gd_c n_a0 ?_
            refine gd_fi (fun c8_0 => ?_) (fun c8_0 => ?_)
            · refine gd_c n_a0 ?_
              refine gd_b (gX18_writeQueue _ _ _ _ ⟨T.1, T.2⟩ n_a0 ) (fun K9 => ?_)
              exact gd_tV K9.2 (gX18_write_115  _ ⟨K9.1.1, K9.1.2⟩  )
            · exact gd_tV (ext_r _) (gX18_write_115  _ ⟨T.1, T.2⟩  )
noncomputable def GX18_write (a0 : Nat) (a1 : Int32) (a2 : Int32) (M : FM) : FM := GX18_write_0 a0 a1 a2 M
def HX18_write (a0 : Nat) (a1 : Int32) (a2 : Int32) (M : FM) : Prop := HX18_write_0 a0 a1 a2 M
theorem gX18_write (a0 : Nat) (a1 : Int32) (a2 : Int32) (M : FM) (T : Ty M) (n_a0 : fm_is M 22 22 a0 = true) (h : HX18_write a0 a1 a2 M) : gd (FX18_write fN a0 a1 a2 M) (GX18_write a0 a1 a2 M) (OkV M) := gX18_write_0 a0 a1 a2 M T n_a0 h
noncomputable def GX10_write_167 (M : FM) : FM :=
  M
theorem gX10_write_167 (M : FM) (T : Ty M) : gd (FX10_write_167 fN M) (GX10_write_167 M) (OkV M) := by
  delta FX10_write_167 BX10_write_167
  exact ⟨rfl, ⟨T.1, T.2⟩, (ext_r _)⟩
noncomputable def GX10_write_141 (s0 : Nat) (s1 : Int32) (s2 : Int32) (M : FM) : FM :=
  let M1 : FM := GX33_signal s0 s1 s2 M
  GX10_write_167 M1
theorem gX10_write_141 (s0 : Nat) (s1 : Int32) (s2 : Int32) (M : FM) (T : Ty M) (n_s0 : fm_is M 77 77 s0 = true) : gd (FX10_write_141 fN s0 s1 s2 M) (GX10_write_141 s0 s1 s2 M) (OkV M) := by
  delta FX10_write_141 BX10_write_141
  refine gd_c n_s0 ?_
  refine gd_b (gX33_signal _ _ _ _ ⟨T.1, T.2⟩ n_s0 ) (fun K0 => ?_)
  exact gd_tV K0.2 (gX10_write_167  _ ⟨K0.1.1, K0.1.2⟩  )
noncomputable def GX10_write_0 (a0 : Nat) (a1 : Nat) (a2 : Int64) (a4 : Int32) (a5 : Int64) (M : FM) : FM :=
  let x1 : Int64 := (a2 - (M.2.1 13 a1 0))
  let r2 : Int32 × FM := GJ0_ordinal a1 M
  fi (r2.1 = (Int32.ofInt 1)) (
    let x3 : Nat := (r2.2.2.2 19 a0 0)
    let M4 : FM := GX30_write x3 (Int32.ofInt 0) x1 a4 a5 r2.2
    GX10_write_167 M4) (
    fi (r2.1 = (Int32.ofInt 2)) (
      let x5 : Nat := (r2.2.2.2 19 a0 0)
      let M6 : FM := GX30_write x5 (Int32.ofInt 1) x1 a4 a5 r2.2
      GX10_write_167 M6) (
      fi (r2.1 = (Int32.ofInt 3)) (
        let x7 : Nat := (r2.2.2.2 19 a0 0)
        let M8 : FM := GX30_write x7 (Int32.ofInt 2) x1 a4 a5 r2.2
        GX10_write_167 M8) (
        fi (r2.1 = (Int32.ofInt 4)) (
          let r9 : Int32 × FM := GX10_isRegister x1 a4 r2.2
          fi (r9.1 = 0) (
            GX10_write_167 r9.2) (
            let x10 : Nat := (r9.2.2.2 20 a0 0)
            let M11 : FM := GX18_write x10 x1.toInt32 a5.toInt32 r9.2
            let x12 : Nat := (M11.2.2 19 a0 0)
            let x13 : Nat := (M11.2.2 20 a0 0)
            fi ((M11.1 66 x13 0) = 0) (
              GX10_write_141 (M11.2.2 241 x12 0) (Int32.ofInt 1) (Int32.ofInt 0) M11) (
              GX10_write_141 (M11.2.2 241 x12 0) (Int32.ofInt 1) (Int32.ofInt 1) M11))) (
          fi ((lg_cmp x1 (Int64.ofInt 0)) = 0) (
            fi (a4 = (Int32.ofInt 4)) (
              let M14 : FM := GX10_end a0 a5.toInt32 r2.2
              GX10_write_167 M14) (
              GX10_write_167 r2.2)) (
            GX10_write_167 r2.2)))))
def HX10_write_0 (a0 : Nat) (a1 : Nat) (a2 : Int64) (a4 : Int32) (a5 : Int64) (M : FM) : Prop := let x1 : Int64 := (a2 - (M.2.1 13 a1 0)); let r2 : Int32 × FM := GJ0_ordinal a1 M; ((r2.1 = (Int32.ofInt 1) → let x3 : Nat := (r2.2.2.2 19 a0 0); (HX30_write x3 (Int32.ofInt 0) x1 a4 a5 r2.2 ∧ True)) ∧ (¬ (r2.1 = (Int32.ofInt 1)) → ((r2.1 = (Int32.ofInt 2) → let x5 : Nat := (r2.2.2.2 19 a0 0); (HX30_write x5 (Int32.ofInt 1) x1 a4 a5 r2.2 ∧ True)) ∧ (¬ (r2.1 = (Int32.ofInt 2)) → ((r2.1 = (Int32.ofInt 3) → let x7 : Nat := (r2.2.2.2 19 a0 0); (HX30_write x7 (Int32.ofInt 2) x1 a4 a5 r2.2 ∧ True)) ∧ (¬ (r2.1 = (Int32.ofInt 3)) → ((r2.1 = (Int32.ofInt 4) → let r9 : Int32 × FM := GX10_isRegister x1 a4 r2.2; ((r9.1 = 0 → True) ∧ (¬ (r9.1 = 0) → let x10 : Nat := (r9.2.2.2 20 a0 0); (HX18_write x10 x1.toInt32 a5.toInt32 r9.2 ∧ True)))) ∧ (¬ (r2.1 = (Int32.ofInt 4)) → True))))))))
theorem gX10_write_0 (a0 : Nat) (a1 : Nat) (a2 : Int64) (a4 : Int32) (a5 : Int64) (M : FM) (T : Ty M) (n_a1 : fm_is M 6 6 a1 = true) (n_a0 : fm_is M 11 11 a0 = true) (h : HX10_write_0 a0 a1 a2 a4 a5 M) : gd (FX10_write_0 fN a0 a1 a2 a4 a5 M) (GX10_write_0 a0 a1 a2 a4 a5 M) (OkV M) := by
  delta FX10_write_0 BX10_write_0
  refine gd_c n_a1 ?_
  refine gd_c n_a1 ?_
  have f35 := (fm_w (lo' := 1) (hi' := 6) rfl rfl n_a1)
  refine gd_b (gJ0_ordinal _ _ ⟨T.1, T.2⟩ f35 ) (fun K0 => ?_)
  refine gd_fi (fun c1_0 => ?_) (fun c1_0 => ?_)
  · have f2 := (ext_is K0.2 (Nat.zero_lt_succ _) n_a0)
    refine gd_c f2 ?_
    have f3 := (tN_19 K0.1.1 (ext_is K0.2 (Nat.zero_lt_succ _) n_a0))
    refine gd_c f3 ?_
    have f5 := (tN_19 K0.1.1 (ext_is K0.2 (Nat.zero_lt_succ _) n_a0))
    refine gd_b (gX30_write _ _ _ _ _ _ ⟨K0.1.1, K0.1.2⟩ f5 (h.1 c1_0).1) (fun K4 => ?_)
    exact gd_tV (ext_tr K0.2 K4.2) (gX10_write_167  _ ⟨K4.1.1, K4.1.2⟩  )
  · refine gd_fi (fun c6_1 => ?_) (fun c6_1 => ?_)
    · have f7 := (ext_is K0.2 (Nat.zero_lt_succ _) n_a0)
      refine gd_c f7 ?_
      have f8 := (tN_19 K0.1.1 (ext_is K0.2 (Nat.zero_lt_succ _) n_a0))
      refine gd_c f8 ?_
      have f10 := (tN_19 K0.1.1 (ext_is K0.2 (Nat.zero_lt_succ _) n_a0))
      refine gd_b (gX30_write _ _ _ _ _ _ ⟨K0.1.1, K0.1.2⟩ f10 ((h.2 c1_0).1 c6_1).1) (fun K9 => ?_)
      exact gd_tV (ext_tr K0.2 K9.2) (gX10_write_167  _ ⟨K9.1.1, K9.1.2⟩  )
    · refine gd_fi (fun c11_2 => ?_) (fun c11_2 => ?_)
      · have f12 := (ext_is K0.2 (Nat.zero_lt_succ _) n_a0)
        refine gd_c f12 ?_
        have f13 := (tN_19 K0.1.1 (ext_is K0.2 (Nat.zero_lt_succ _) n_a0))
        refine gd_c f13 ?_
        have f15 := (tN_19 K0.1.1 (ext_is K0.2 (Nat.zero_lt_succ _) n_a0))
        refine gd_b (gX30_write _ _ _ _ _ _ ⟨K0.1.1, K0.1.2⟩ f15 (((h.2 c1_0).2 c6_1).1 c11_2).1) (fun K14 => ?_)
        exact gd_tV (ext_tr K0.2 K14.2) (gX10_write_167  _ ⟨K14.1.1, K14.1.2⟩  )
      · refine gd_fi (fun c16_3 => ?_) (fun c16_3 => ?_)
        · refine gd_b (gX10_isRegister _ _ _ ⟨K0.1.1, K0.1.2⟩  ) (fun K17 => ?_)
          refine gd_fi (fun c18_0 => ?_) (fun c18_0 => ?_)
          · exact gd_tV (ext_tr K0.2 K17.2.1) (gX10_write_167  _ ⟨K17.1.1, K17.1.2⟩  )
          · have f19 := (ext_is K17.2.1 (Nat.zero_lt_succ _) (ext_is K0.2 (Nat.zero_lt_succ _) n_a0))
            refine gd_c f19 ?_
            have f20 := (tN_20 K17.1.1 (ext_is K17.2.1 (Nat.zero_lt_succ _) (ext_is K0.2 (Nat.zero_lt_succ _) n_a0)))
            refine gd_c f20 ?_
            have f29 := (tN_20 K17.1.1 (ext_is K17.2.1 (Nat.zero_lt_succ _) (ext_is K0.2 (Nat.zero_lt_succ _) n_a0)))
            refine gd_b (gX18_write _ _ _ _ ⟨K17.1.1, K17.1.2⟩ f29 (((((h.2 c1_0).2 c6_1).2 c11_2).1 c16_3).2 c18_0).1) (fun K21 => ?_)
            have f22 := (ext_is K21.2 (Nat.zero_lt_succ _) (ext_is K17.2.1 (Nat.zero_lt_succ _) (ext_is K0.2 (Nat.zero_lt_succ _) n_a0)))
            refine gd_c f22 ?_
            have f23 := (tN_19 K21.1.1 (ext_is K21.2 (Nat.zero_lt_succ _) (ext_is K17.2.1 (Nat.zero_lt_succ _) (ext_is K0.2 (Nat.zero_lt_succ _) n_a0))))
            refine gd_c f23 ?_
            have f24 := (ext_is K21.2 (Nat.zero_lt_succ _) (ext_is K17.2.1 (Nat.zero_lt_succ _) (ext_is K0.2 (Nat.zero_lt_succ _) n_a0)))
            refine gd_c f24 ?_
            have f25 := (tN_20 K21.1.1 (ext_is K21.2 (Nat.zero_lt_succ _) (ext_is K17.2.1 (Nat.zero_lt_succ _) (ext_is K0.2 (Nat.zero_lt_succ _) n_a0))))
            refine gd_c f25 ?_
            refine gd_fi (fun c26_0 => ?_) (fun c26_0 => ?_)
            · have f27 := (tN_241 K21.1.1 (tN_19 K21.1.1 (ext_is K21.2 (Nat.zero_lt_succ _) (ext_is K17.2.1 (Nat.zero_lt_succ _) (ext_is K0.2 (Nat.zero_lt_succ _) n_a0)))))
              exact gd_tV (ext_tr K0.2 (ext_tr K17.2.1 K21.2)) (gX10_write_141 _ _ _ _ ⟨K21.1.1, K21.1.2⟩ f27 )
            · have f28 := (tN_241 K21.1.1 (tN_19 K21.1.1 (ext_is K21.2 (Nat.zero_lt_succ _) (ext_is K17.2.1 (Nat.zero_lt_succ _) (ext_is K0.2 (Nat.zero_lt_succ _) n_a0)))))
              exact gd_tV (ext_tr K0.2 (ext_tr K17.2.1 K21.2)) (gX10_write_141 _ _ _ _ ⟨K21.1.1, K21.1.2⟩ f28 )
        · refine gd_fi (fun c30_0 => ?_) (fun c30_0 => ?_)
          · refine gd_fi (fun c31_0 => ?_) (fun c31_0 => ?_)
            · have f32 := (ext_is K0.2 (Nat.zero_lt_succ _) n_a0)
              refine gd_c f32 ?_
              have f34 := (ext_is K0.2 (Nat.zero_lt_succ _) n_a0)
              refine gd_b (gX10_end _ _ _ ⟨K0.1.1, K0.1.2⟩ f34 ) (fun K33 => ?_)
              exact gd_tV (ext_tr K0.2 K33.2) (gX10_write_167  _ ⟨K33.1.1, K33.1.2⟩  )
            · exact gd_tV K0.2 (gX10_write_167  _ ⟨K0.1.1, K0.1.2⟩  )
          · exact gd_tV K0.2 (gX10_write_167  _ ⟨K0.1.1, K0.1.2⟩  )
noncomputable def GX10_write (a0 : Nat) (a1 : Nat) (a2 : Int64) (a4 : Int32) (a5 : Int64) (M : FM) : FM := GX10_write_0 a0 a1 a2 a4 a5 M
def HX10_write (a0 : Nat) (a1 : Nat) (a2 : Int64) (a4 : Int32) (a5 : Int64) (M : FM) : Prop := HX10_write_0 a0 a1 a2 a4 a5 M
theorem gX10_write (a0 : Nat) (a1 : Nat) (a2 : Int64) (a4 : Int32) (a5 : Int64) (M : FM) (T : Ty M) (n_a1 : fm_is M 6 6 a1 = true) (n_a0 : fm_is M 11 11 a0 = true) (h : HX10_write a0 a1 a2 a4 a5 M) : gd (FX10_write fN a0 a1 a2 a4 a5 M) (GX10_write a0 a1 a2 a4 a5 M) (OkV M) := gX10_write_0 a0 a1 a2 a4 a5 M T n_a1 n_a0 h
def kX73_store (k60 : Nat → Nat → Int64 → Int32 → FM → Option (FM)) : (Nat × Nat × Int64 × Int32 × FM) ⊕ (FM) → Option (FM)
  | .inl (v0, v1, v2, v3, M') => k60 v0 v1 v2 v3 M'
  | .inr (r) => some r
def pX73_store (M : FM) : (Nat × Nat × Int64 × Int32 × FM) ⊕ (FM) → Prop
  | .inl (_, _, _, _, M') => OkV M M'
  | .inr (r) => OkV M r
theorem pX73_store_t {M M1 : FM} (e : Ext M M1) : ∀ y, pX73_store M1 y → pX73_store M y
  | .inl (_, _, _, _, _), h => ⟨h.1, ext_tr e h.2⟩
  | .inr (r), h => ⟨h.1, ext_tr e h.2⟩
noncomputable def GX73_store_97 (M : FM) : (Nat × Nat × Int64 × Int32 × FM) ⊕ (FM) :=
  (.inr M)
theorem gX73_store_97 (k60 : Nat → Nat → Int64 → Int32 → FM → Option (FM)) (M : FM) (T : Ty M) : gs (FX73_store_97 fN k60 M) (GX73_store_97 M) (kX73_store k60) (pX73_store M) := by
  delta FX73_store_97 BX73_store_97
  exact And.intro rfl (And.intro (And.intro T.1 T.2) ((ext_r _)))
noncomputable def GX73_store_0 (a0 : Nat) (a1 : Nat) (a2 : Int64) (M : FM) : (Nat × Nat × Int64 × Int32 × FM) ⊕ (FM) :=
  fi ((M.2.2 124 a0 0) = 0) (
    fi ((M.1 123 a0 0) = 0) (
      (.inl (a0, a1, a2, (Int32.ofInt 0), M))) (
      let x1 : Nat := (M.2.2 121 a0 0)
      let x2 : Nat := (M.2.2 18 a1 0)
      let M3 : FM := GX11_store x2 (M.2.1 3 x1 (Int32.ofInt 0).toNatClampNeg) (M.1 122 a0 0) a2 M
      GX73_store_97 M3)) (
    let x4 : Nat := (M.2.2 121 a0 0)
    let M5 : FM := GX10_write a1 (M.2.2 124 a0 0) (M.2.1 3 x4 (Int32.ofInt 0).toNatClampNeg) (M.1 122 a0 0) a2 M
    GX73_store_97 M5)
def HX73_store_0 (a0 : Nat) (a1 : Nat) (a2 : Int64) (M : FM) : Prop := (((M.2.2 124 a0 0) = 0 → (((M.1 123 a0 0) = 0 → True) ∧ (¬ ((M.1 123 a0 0) = 0) → let x1 : Nat := (M.2.2 121 a0 0); let x2 : Nat := (M.2.2 18 a1 0); (HX11_store x2 (M.2.1 3 x1 (Int32.ofInt 0).toNatClampNeg) (M.1 122 a0 0) a2 M ∧ True)))) ∧ (¬ ((M.2.2 124 a0 0) = 0) → let x4 : Nat := (M.2.2 121 a0 0); (HX10_write a1 (M.2.2 124 a0 0) (M.2.1 3 x4 (Int32.ofInt 0).toNatClampNeg) (M.1 122 a0 0) a2 M ∧ True)))
theorem gX73_store_0 (k60 : Nat → Nat → Int64 → Int32 → FM → Option (FM)) (a0 : Nat) (a1 : Nat) (a2 : Int64) (M : FM) (T : Ty M) (n_a0 : fm_is M 41 41 a0 = true) (n_a1 : fm_is M 11 11 a1 = true) (h : HX73_store_0 a0 a1 a2 M) : gs (FX73_store_0 fN k60 a0 a1 a2 M) (GX73_store_0 a0 a1 a2 M) (kX73_store k60) (pX73_store M) := by
  delta FX73_store_0 BX73_store_0
  refine gs_c n_a0 ?_
  refine gs_fi (fun c0_0 => ?_) (fun c0_0 => ?_)
  · refine gs_c n_a0 ?_
    refine gs_fi (fun c1_0 => ?_) (fun c1_0 => ?_)
    · exact And.intro rfl (And.intro (And.intro T.1 T.2) ((ext_r _)))
    · refine gs_c n_a1 ?_
      refine gs_c n_a0 ?_
      have f5 := (tN_121 T.1 n_a0)
      have f6 := (fm_inl (i := (Int32.ofInt 0)) (tL_121 T.1 n_a0) (by decide))
      refine gs_c ⟨f5, f6⟩ ?_
      refine gs_c n_a0 ?_
      have f2 := (tN_18 T.1 n_a1)
      refine gs_c f2 ?_
      have f4 := (tN_18 T.1 n_a1)
      refine gs_b (gX11_store _ _ _ _ _ ⟨T.1, T.2⟩ f4 ((h.1 c0_0).2 c1_0).1) (fun K3 => ?_)
      exact gs_t (pX73_store_t K3.2) (gX73_store_97 k60  _ ⟨K3.1.1, K3.1.2⟩  )
  · refine gs_c n_a0 ?_
    refine gs_c n_a0 ?_
    have f9 := (tN_121 T.1 n_a0)
    have f10 := (fm_inl (i := (Int32.ofInt 0)) (tL_121 T.1 n_a0) (by decide))
    refine gs_c ⟨f9, f10⟩ ?_
    refine gs_c n_a0 ?_
    refine gs_c n_a1 ?_
    have f8 := ((tZ_124 T.1 n_a0) c0_0)
    refine gs_b (gX10_write _ _ _ _ _ _ ⟨T.1, T.2⟩ f8 n_a1 (h.2 c0_0).1) (fun K7 => ?_)
    exact gs_t (pX73_store_t K7.2) (gX73_store_97 k60  _ ⟨K7.1.1, K7.1.2⟩  )
noncomputable def GX73_store_60 (a0 : Nat) (a1 : Nat) (a2 : Int64) (a4 : Int32) (M : FM) : (Nat × Nat × Int64 × Int32 × FM) ⊕ (FM) :=
  fi ((M.1 122 a0 0) ≤ a4) (
    GX73_store_97 M) (
    let x1 : Nat := (M.2.2 121 a0 0)
    let x2 : Nat := (M.2.2 18 a1 0)
    let M3 : FM := GX11_store x2 (M.2.1 3 x1 a4.toNatClampNeg) (Int32.ofInt 1) ((a2.toUInt64 >>> (((Int32.ofInt 8) * a4).toInt64.toUInt64 &&& Int64.toUInt64 63)).toInt64) M
    let x4 : Int32 := a4 + (Int32.ofInt 1)
    (.inl (a0, a1, a2, x4, M3)))
def HX73_store_60 (a0 : Nat) (a1 : Nat) (a2 : Int64) (a4 : Int32) (M : FM) : Prop := (((M.1 122 a0 0) ≤ a4 → True) ∧ (¬ ((M.1 122 a0 0) ≤ a4) → let x1 : Nat := (M.2.2 121 a0 0); (fm_in M x1 a4 = true ∧ let x2 : Nat := (M.2.2 18 a1 0); (HX11_store x2 (M.2.1 3 x1 a4.toNatClampNeg) (Int32.ofInt 1) ((a2.toUInt64 >>> (((Int32.ofInt 8) * a4).toInt64.toUInt64 &&& Int64.toUInt64 63)).toInt64) M ∧ True))))
theorem gX73_store_60 (k60 : Nat → Nat → Int64 → Int32 → FM → Option (FM)) (a0 : Nat) (a1 : Nat) (a2 : Int64) (a4 : Int32) (M : FM) (T : Ty M) (n_a0 : fm_is M 41 41 a0 = true) (n_a1 : fm_is M 11 11 a1 = true) (h : HX73_store_60 a0 a1 a2 a4 M) : gs (FX73_store_60 fN k60 a0 a1 a2 a4 M) (GX73_store_60 a0 a1 a2 a4 M) (kX73_store k60) (pX73_store M) := by
  delta FX73_store_60 BX73_store_60
  refine gs_c n_a0 ?_
  refine gs_fi (fun c0_0 => ?_) (fun c0_0 => ?_)
  · exact gs_t (pX73_store_t (ext_r _)) (gX73_store_97 k60  _ ⟨T.1, T.2⟩  )
  · refine gs_c n_a1 ?_
    refine gs_c n_a0 ?_
    have f4 := (tN_121 T.1 n_a0)
    refine gs_c ⟨f4, (h.2 c0_0).1⟩ ?_
    have f1 := (tN_18 T.1 n_a1)
    refine gs_c f1 ?_
    have f3 := (tN_18 T.1 n_a1)
    refine gs_b (gX11_store _ _ _ _ _ ⟨T.1, T.2⟩ f3 (h.2 c0_0).2.1) (fun K2 => ?_)
    exact And.intro rfl (And.intro (And.intro K2.1.1 K2.1.2) K2.2)
noncomputable def GX73_store (a0 : Nat) (a1 : Nat) (a2 : Int64) (M : FM) : FM := (FX73_store fN a0 a1 a2 M).getD M
def HX73_store (a0 : Nat) (a1 : Nat) (a2 : Int64) (M : FM) : Prop := ∃ r, FX73_store fN a0 a1 a2 M = some r ∧ OkV M r
theorem gX73_store (a0 : Nat) (a1 : Nat) (a2 : Int64) (M : FM) (h : HX73_store a0 a1 a2 M) : gd (FX73_store fN a0 a1 a2 M) (GX73_store a0 a1 a2 M) (OkV M) := gd_op h
noncomputable def GX46_store_0 (a0 : Nat) (M : FM) : Int32 × FM :=
  let x1 : Nat := (M.2.2 211 a0 0)
  let r2 : Int64 × FM := GX47_wanted x1 (Int32.ofInt 0) M
  let x3 : Nat := (r2.2.2.2 211 a0 0)
  let r4 : Int64 × FM := GX47_wanted x3 (Int32.ofInt 1) r2.2
  let r5 : Int32 × FM := GX46_locate a0 r2.1 (Int32.ofInt 2) r4.1.toInt32 r4.2
  fi (r5.1 = 0) (
    ((Int32.ofInt 0), r5.2)) (
    let x6 : Nat := (r5.2.2.2 211 a0 0)
    let r7 : Int64 × FM := GX47_wanted x6 (Int32.ofInt 2) r5.2
    let x8 : Nat := (r5.2.2.2 217 a0 0)
    let M9 : FM := GX73_store x8 (r5.2.2.2 210 a0 0) r7.1 r7.2
    let x10 : Nat := (M9.2.2 211 a0 0)
    let r11 : Int32 × FM := GX47_finish x10 (Int32.ofInt 0) (Int64.ofInt 0) M9
    ((Int32.ofInt 1), r11.2))
def HX46_store_0 (a0 : Nat) (M : FM) : Prop := let x1 : Nat := (M.2.2 211 a0 0); (HX47_wanted x1 (Int32.ofInt 0) M ∧ let r2 : Int64 × FM := GX47_wanted x1 (Int32.ofInt 0) M; let x3 : Nat := (r2.2.2.2 211 a0 0); (HX47_wanted x3 (Int32.ofInt 1) r2.2 ∧ let r4 : Int64 × FM := GX47_wanted x3 (Int32.ofInt 1) r2.2; (HX46_locate a0 r2.1 (Int32.ofInt 2) r4.1.toInt32 r4.2 ∧ let r5 : Int32 × FM := GX46_locate a0 r2.1 (Int32.ofInt 2) r4.1.toInt32 r4.2; ((r5.1 = 0 → True) ∧ (¬ (r5.1 = 0) → let x6 : Nat := (r5.2.2.2 211 a0 0); (HX47_wanted x6 (Int32.ofInt 2) r5.2 ∧ let r7 : Int64 × FM := GX47_wanted x6 (Int32.ofInt 2) r5.2; let x8 : Nat := (r5.2.2.2 217 a0 0); (HX73_store x8 (r5.2.2.2 210 a0 0) r7.1 r7.2 ∧ let M9 : FM := GX73_store x8 (r5.2.2.2 210 a0 0) r7.1 r7.2; let x10 : Nat := (M9.2.2 211 a0 0); (HX47_finish x10 (Int32.ofInt 0) (Int64.ofInt 0) M9 ∧ True))))))))
theorem gX46_store_0 (a0 : Nat) (M : FM) (T : Ty M) (n_a0 : fm_is M 75 75 a0 = true) (h : HX46_store_0 a0 M) : gd (FX46_store_0 fN a0 M) (GX46_store_0 a0 M) (OkZ M) := by
  delta FX46_store_0 BX46_store_0
  refine gd_c n_a0 ?_
  have f0 := (tN_211 T.1 n_a0)
  refine gd_c f0 ?_
  have f21 := (tN_211 T.1 n_a0)
  refine gd_b (gX47_wanted _ _ _ ⟨T.1, T.2⟩ f21 h.1) (fun K1 => ?_)
  have f2 := (ext_is K1.2 (Nat.zero_lt_succ _) n_a0)
  refine gd_c f2 ?_
  have f3 := (tN_211 K1.1.1 (ext_is K1.2 (Nat.zero_lt_succ _) n_a0))
  refine gd_c f3 ?_
  have f20 := (tN_211 K1.1.1 (ext_is K1.2 (Nat.zero_lt_succ _) n_a0))
  refine gd_b (gX47_wanted _ _ _ ⟨K1.1.1, K1.1.2⟩ f20 h.2.1) (fun K4 => ?_)
  have f5 := (ext_is K4.2 (Nat.zero_lt_succ _) (ext_is K1.2 (Nat.zero_lt_succ _) n_a0))
  refine gd_c f5 ?_
  refine gd_b (gX46_locate _ _ _ _ _ h.2.2.1) (fun K6 => ?_)
  refine gd_fi (fun c7_0 => ?_) (fun c7_0 => ?_)
  · exact gd_z fz_0 ⟨K6.1.1, K6.1.2⟩ (ext_tr K1.2 (ext_tr K4.2 K6.2.1)) rfl
  · have f8 := (ext_is K6.2.1 (Nat.zero_lt_succ _) (ext_is K4.2 (Nat.zero_lt_succ _) (ext_is K1.2 (Nat.zero_lt_succ _) n_a0)))
    refine gd_c f8 ?_
    have f9 := (ext_is K6.2.1 (Nat.zero_lt_succ _) (ext_is K4.2 (Nat.zero_lt_succ _) (ext_is K1.2 (Nat.zero_lt_succ _) n_a0)))
    refine gd_c f9 ?_
    have f10 := (ext_is K6.2.1 (Nat.zero_lt_succ _) (ext_is K4.2 (Nat.zero_lt_succ _) (ext_is K1.2 (Nat.zero_lt_succ _) n_a0)))
    refine gd_c f10 ?_
    have f11 := (tN_211 K6.1.1 (ext_is K6.2.1 (Nat.zero_lt_succ _) (ext_is K4.2 (Nat.zero_lt_succ _) (ext_is K1.2 (Nat.zero_lt_succ _) n_a0))))
    refine gd_c f11 ?_
    have f19 := (tN_211 K6.1.1 (ext_is K6.2.1 (Nat.zero_lt_succ _) (ext_is K4.2 (Nat.zero_lt_succ _) (ext_is K1.2 (Nat.zero_lt_succ _) n_a0))))
    refine gd_b (gX47_wanted _ _ _ ⟨K6.1.1, K6.1.2⟩ f19 (h.2.2.2.2 c7_0).1) (fun K12 => ?_)
    have f13 := (ext_is K12.2 (Nat.zero_lt_succ _) (tN_217 K6.1.1 (ext_is K6.2.1 (Nat.zero_lt_succ _) (ext_is K4.2 (Nat.zero_lt_succ _) (ext_is K1.2 (Nat.zero_lt_succ _) n_a0)))))
    refine gd_c f13 ?_
    refine gd_b (gX73_store _ _ _ _ (h.2.2.2.2 c7_0).2.1) (fun K14 => ?_)
    have f15 := (ext_is K14.2 (Nat.zero_lt_succ _) (ext_is K12.2 (Nat.zero_lt_succ _) (ext_is K6.2.1 (Nat.zero_lt_succ _) (ext_is K4.2 (Nat.zero_lt_succ _) (ext_is K1.2 (Nat.zero_lt_succ _) n_a0)))))
    refine gd_c f15 ?_
    have f16 := (tN_211 K14.1.1 (ext_is K14.2 (Nat.zero_lt_succ _) (ext_is K12.2 (Nat.zero_lt_succ _) (ext_is K6.2.1 (Nat.zero_lt_succ _) (ext_is K4.2 (Nat.zero_lt_succ _) (ext_is K1.2 (Nat.zero_lt_succ _) n_a0))))))
    refine gd_c f16 ?_
    have f18 := (tN_211 K14.1.1 (ext_is K14.2 (Nat.zero_lt_succ _) (ext_is K12.2 (Nat.zero_lt_succ _) (ext_is K6.2.1 (Nat.zero_lt_succ _) (ext_is K4.2 (Nat.zero_lt_succ _) (ext_is K1.2 (Nat.zero_lt_succ _) n_a0))))))
    refine gd_b (gX47_finish _ _ _ _ ⟨K14.1.1, K14.1.2⟩ f18 (h.2.2.2.2 c7_0).2.2.1) (fun K17 => ?_)
    exact gd_z fz_1 ⟨K17.1.1, K17.1.2⟩ (ext_tr K1.2 (ext_tr K4.2 (ext_tr K6.2.1 (ext_tr K12.2 (ext_tr K14.2 K17.2))))) rfl
noncomputable def GX46_store (a0 : Nat) (M : FM) : Int32 × FM := GX46_store_0 a0 M
def HX46_store (a0 : Nat) (M : FM) : Prop := HX46_store_0 a0 M
theorem gX46_store (a0 : Nat) (M : FM) (T : Ty M) (n_a0 : fm_is M 75 75 a0 = true) (h : HX46_store a0 M) : gd (FX46_store fN a0 M) (GX46_store a0 M) (OkZ M) := gX46_store_0 a0 M T n_a0 h
noncomputable def GX11_signed_12 (s0 : Int64) (M : FM) : Int64 × FM :=
  (s0, M)
theorem gX11_signed_12 (s0 : Int64) (M : FM) (T : Ty M) : gd (FX11_signed_12 s0 M) (GX11_signed_12 s0 M) (OkR M) := by
  delta FX11_signed_12 BX11_signed_12
  exact ⟨rfl, ⟨T.1, T.2⟩, (ext_r _)⟩
noncomputable def GX11_signed_0 (a0 : Int64) (a2 : Int32) (M : FM) : Int64 × FM :=
  fi (a2 = (Int32.ofInt 4)) (
    GX11_signed_12 a0.toInt32.toInt64 M) (
    GX11_signed_12 a0 M)
theorem gX11_signed_0 (a0 : Int64) (a2 : Int32) (M : FM) (T : Ty M) : gd (FX11_signed_0 a0 a2 M) (GX11_signed_0 a0 a2 M) (OkR M) := by
  delta FX11_signed_0 BX11_signed_0
  refine gd_fi (fun c0_0 => ?_) (fun c0_0 => ?_)
  · exact gd_tR (ext_r _) (gX11_signed_12 _ _ ⟨T.1, T.2⟩  )
  · exact gd_tR (ext_r _) (gX11_signed_12 _ _ ⟨T.1, T.2⟩  )
noncomputable def GX11_signed (a0 : Int64) (a2 : Int32) (M : FM) : Int64 × FM := GX11_signed_0 a0 a2 M
theorem gX11_signed (a0 : Int64) (a2 : Int32) (M : FM) (T : Ty M) : gd (FX11_signed a0 a2 M) (GX11_signed a0 a2 M) (OkR M) := gX11_signed_0 a0 a2 M T 
noncomputable def GX12_make_0 (a0 : Nat) (a1 : Int64) (a3 : Int32) (M : FM) : FM :=
  let M1 : FM := fm_sL M 207 a0 0 a1
  let M2 : FM := fm_sI M1 208 a0 0 a3
  M2
theorem gX12_make_0 (a0 : Nat) (a1 : Int64) (a3 : Int32) (M : FM) (T : Ty M) (n_a0 : fm_is M 74 74 a0 = true) : gd (FX12_make_0 a0 a1 a3 M) (GX12_make_0 a0 a1 a3 M) (OkV M) := by
  delta FX12_make_0 BX12_make_0
  refine gd_c n_a0 ?_
  refine gd_c n_a0 ?_
  exact ⟨rfl, ⟨T.1, (tyb_sI (f := 208) rfl T.2)⟩, (ext_dL (ext_dI (ext_r _)))⟩
noncomputable def GX12_make (a0 : Nat) (a1 : Int64) (a3 : Int32) (M : FM) : FM := GX12_make_0 a0 a1 a3 M
theorem gX12_make (a0 : Nat) (a1 : Int64) (a3 : Int32) (M : FM) (T : Ty M) (n_a0 : fm_is M 74 74 a0 = true) : gd (FX12_make a0 a1 a3 M) (GX12_make a0 a1 a3 M) (OkV M) := gX12_make_0 a0 a1 a3 M T n_a0 
noncomputable def GX12_is_22 (s0 : Int32) (M : FM) : Int32 × FM :=
  (s0, M)
theorem gX12_is_22 (s0 : Int32) (M : FM) (T : Ty M) (z_s0 : s0 = 0 ∨ s0 = 1) : gd (FX12_is_22 s0 M) (GX12_is_22 s0 M) (OkZ M) := by
  delta FX12_is_22 BX12_is_22
  exact gd_z z_s0 ⟨T.1, T.2⟩ (ext_r _) rfl
noncomputable def GX12_is_21 (M : FM) : Int32 × FM :=
  GX12_is_22 (Int32.ofInt 0) M
theorem gX12_is_21 (M : FM) (T : Ty M) : gd (FX12_is_21 M) (GX12_is_21 M) (OkZ M) := by
  delta FX12_is_21 BX12_is_21
  exact gd_tZ (ext_r _) (gX12_is_22 _ _ ⟨T.1, T.2⟩ fz_0 )
noncomputable def GX12_is_0 (a0 : Nat) (a1 : Int64) (a3 : Int32) (M : FM) : Int32 × FM :=
  fi ((M.1 208 a0 0) = a3) (
    fi ((lg_cmp (M.2.1 207 a0 0) a1) = 0) (
      GX12_is_22 (Int32.ofInt 1) M) (
      GX12_is_21 M)) (
    GX12_is_21 M)
theorem gX12_is_0 (a0 : Nat) (a1 : Int64) (a3 : Int32) (M : FM) (T : Ty M) (n_a0 : fm_is M 74 74 a0 = true) : gd (FX12_is_0 a0 a1 a3 M) (GX12_is_0 a0 a1 a3 M) (OkZ M) := by
  delta FX12_is_0 BX12_is_0
  refine gd_c n_a0 ?_
  refine gd_fi (fun c0_0 => ?_) (fun c0_0 => ?_)
  · refine gd_c n_a0 ?_
    refine gd_fi (fun c1_0 => ?_) (fun c1_0 => ?_)
    · exact gd_tZ (ext_r _) (gX12_is_22 _ _ ⟨T.1, T.2⟩ fz_1 )
    · exact gd_tZ (ext_r _) (gX12_is_21  _ ⟨T.1, T.2⟩  )
  · exact gd_tZ (ext_r _) (gX12_is_21  _ ⟨T.1, T.2⟩  )
noncomputable def GX12_is (a0 : Nat) (a1 : Int64) (a3 : Int32) (M : FM) : Int32 × FM := GX12_is_0 a0 a1 a3 M
theorem gX12_is (a0 : Nat) (a1 : Int64) (a3 : Int32) (M : FM) (T : Ty M) (n_a0 : fm_is M 74 74 a0 = true) : gd (FX12_is a0 a1 a3 M) (GX12_is a0 a1 a3 M) (OkZ M) := gX12_is_0 a0 a1 a3 M T n_a0 
noncomputable def GX16_part_16 (s0 : Int64) (M : FM) : Int64 × FM :=
  (s0, M)
theorem gX16_part_16 (s0 : Int64) (M : FM) (T : Ty M) : gd (FX16_part_16 s0 M) (GX16_part_16 s0 M) (OkR M) := by
  delta FX16_part_16 BX16_part_16
  exact ⟨rfl, ⟨T.1, T.2⟩, (ext_r _)⟩
noncomputable def GX16_part_0 (a0 : Nat) (a1 : Int32) (a2 : Int64) (M : FM) : Int64 × FM :=
  fi ((((M.1 198 a0 0) >>> (a1 &&& 31)) &&& (Int32.ofInt 1)) = 0) (
    GX16_part_16 (Int64.ofInt 0) M) (
    GX16_part_16 a2 M)
theorem gX16_part_0 (a0 : Nat) (a1 : Int32) (a2 : Int64) (M : FM) (T : Ty M) (n_a0 : fm_is M 68 68 a0 = true) : gd (FX16_part_0 a0 a1 a2 M) (GX16_part_0 a0 a1 a2 M) (OkR M) := by
  delta FX16_part_0 BX16_part_0
  refine gd_c n_a0 ?_
  refine gd_fi (fun c0_0 => ?_) (fun c0_0 => ?_)
  · exact gd_tR (ext_r _) (gX16_part_16 _ _ ⟨T.1, T.2⟩  )
  · exact gd_tR (ext_r _) (gX16_part_16 _ _ ⟨T.1, T.2⟩  )
noncomputable def GX16_part (a0 : Nat) (a1 : Int32) (a2 : Int64) (M : FM) : Int64 × FM := GX16_part_0 a0 a1 a2 M
theorem gX16_part (a0 : Nat) (a1 : Int32) (a2 : Int64) (M : FM) (T : Ty M) (n_a0 : fm_is M 68 68 a0 = true) : gd (FX16_part a0 a1 a2 M) (GX16_part a0 a1 a2 M) (OkR M) := gX16_part_0 a0 a1 a2 M T n_a0 
noncomputable def GX16_of_0 (a0 : Nat) (a1 : Int64) (a3 : Int64) (M : FM) : Int64 × FM :=
  let r1 : Int64 × FM := GX16_part a0 (Int32.ofInt 0) ((a1 ^^^ (Int64.ofInt (-1))) &&& (a3 ^^^ (Int64.ofInt (-1)))) M
  let r2 : Int64 × FM := GX16_part a0 (Int32.ofInt 1) ((a1 ^^^ (Int64.ofInt (-1))) &&& a3) r1.2
  let r3 : Int64 × FM := GX16_part a0 (Int32.ofInt 2) (a1 &&& (a3 ^^^ (Int64.ofInt (-1)))) r2.2
  let r4 : Int64 × FM := GX16_part a0 (Int32.ofInt 3) (a1 &&& a3) r3.2
  ((((r1.1 ||| r2.1) ||| r3.1) ||| r4.1), r4.2)
theorem gX16_of_0 (a0 : Nat) (a1 : Int64) (a3 : Int64) (M : FM) (T : Ty M) (n_a0 : fm_is M 68 68 a0 = true) : gd (FX16_of_0 a0 a1 a3 M) (GX16_of_0 a0 a1 a3 M) (OkR M) := by
  delta FX16_of_0 BX16_of_0
  refine gd_c n_a0 ?_
  refine gd_b (gX16_part _ _ _ _ ⟨T.1, T.2⟩ n_a0 ) (fun K0 => ?_)
  have f1 := (ext_is K0.2 (Nat.zero_lt_succ _) n_a0)
  refine gd_c f1 ?_
  have f9 := (ext_is K0.2 (Nat.zero_lt_succ _) n_a0)
  refine gd_b (gX16_part _ _ _ _ ⟨K0.1.1, K0.1.2⟩ f9 ) (fun K2 => ?_)
  have f3 := (ext_is K2.2 (Nat.zero_lt_succ _) (ext_is K0.2 (Nat.zero_lt_succ _) n_a0))
  refine gd_c f3 ?_
  have f8 := (ext_is K2.2 (Nat.zero_lt_succ _) (ext_is K0.2 (Nat.zero_lt_succ _) n_a0))
  refine gd_b (gX16_part _ _ _ _ ⟨K2.1.1, K2.1.2⟩ f8 ) (fun K4 => ?_)
  have f5 := (ext_is K4.2 (Nat.zero_lt_succ _) (ext_is K2.2 (Nat.zero_lt_succ _) (ext_is K0.2 (Nat.zero_lt_succ _) n_a0)))
  refine gd_c f5 ?_
  have f7 := (ext_is K4.2 (Nat.zero_lt_succ _) (ext_is K2.2 (Nat.zero_lt_succ _) (ext_is K0.2 (Nat.zero_lt_succ _) n_a0)))
  refine gd_b (gX16_part _ _ _ _ ⟨K4.1.1, K4.1.2⟩ f7 ) (fun K6 => ?_)
  exact ⟨rfl, ⟨K6.1.1, K6.1.2⟩, (ext_tr K0.2 (ext_tr K2.2 (ext_tr K4.2 K6.2)))⟩
noncomputable def GX16_of (a0 : Nat) (a1 : Int64) (a3 : Int64) (M : FM) : Int64 × FM := GX16_of_0 a0 a1 a3 M
theorem gX16_of (a0 : Nat) (a1 : Int64) (a3 : Int64) (M : FM) (T : Ty M) (n_a0 : fm_is M 68 68 a0 = true) : gd (FX16_of a0 a1 a3 M) (GX16_of a0 a1 a3 M) (OkR M) := gX16_of_0 a0 a1 a3 M T n_a0 
noncomputable def GX17_of_33 (s0 : Int64) (M : FM) : Int64 × FM :=
  (s0, M)
theorem gX17_of_33 (s0 : Int64) (M : FM) (T : Ty M) : gd (FX17_of_33 s0 M) (GX17_of_33 s0 M) (OkR M) := by
  delta FX17_of_33 BX17_of_33
  exact ⟨rfl, ⟨T.1, T.2⟩, (ext_r _)⟩
noncomputable def GX17_of_21 (a0 : Nat) (a1 : Int64) (a3 : Int64) (s0 : Int32) (M : FM) : Int64 × FM :=
  fi (s0 = (M.1 199 a0 0)) (
    GX17_of_33 a1 M) (
    GX17_of_33 a3 M)
theorem gX17_of_21 (a0 : Nat) (a1 : Int64) (a3 : Int64) (s0 : Int32) (M : FM) (T : Ty M) (n_a0 : fm_is M 69 69 a0 = true) : gd (FX17_of_21 a0 a1 a3 s0 M) (GX17_of_21 a0 a1 a3 s0 M) (OkR M) := by
  delta FX17_of_21 BX17_of_21
  refine gd_c n_a0 ?_
  refine gd_fi (fun c0_0 => ?_) (fun c0_0 => ?_)
  · exact gd_tR (ext_r _) (gX17_of_33 _ _ ⟨T.1, T.2⟩  )
  · exact gd_tR (ext_r _) (gX17_of_33 _ _ ⟨T.1, T.2⟩  )
noncomputable def GX17_of_0 (a0 : Nat) (a1 : Int64) (a3 : Int64) (M : FM) : Int64 × FM :=
  fi (0 ≤ (lg_cmp (a1 + (M.2.1 200 a0 0)) (a3 + (M.2.1 200 a0 0)))) (
    GX17_of_21 a0 a1 a3 (Int32.ofInt 0) M) (
    GX17_of_21 a0 a1 a3 (Int32.ofInt 1) M)
theorem gX17_of_0 (a0 : Nat) (a1 : Int64) (a3 : Int64) (M : FM) (T : Ty M) (n_a0 : fm_is M 69 69 a0 = true) : gd (FX17_of_0 a0 a1 a3 M) (GX17_of_0 a0 a1 a3 M) (OkR M) := by
  delta FX17_of_0 BX17_of_0
  refine gd_c n_a0 ?_
  refine gd_c n_a0 ?_
  refine gd_fi (fun c0_0 => ?_) (fun c0_0 => ?_)
  · exact gd_tR (ext_r _) (gX17_of_21 _ _ _ _ _ ⟨T.1, T.2⟩ n_a0 )
  · exact gd_tR (ext_r _) (gX17_of_21 _ _ _ _ _ ⟨T.1, T.2⟩ n_a0 )
noncomputable def GX17_of (a0 : Nat) (a1 : Int64) (a3 : Int64) (M : FM) : Int64 × FM := GX17_of_0 a0 a1 a3 M
theorem gX17_of (a0 : Nat) (a1 : Int64) (a3 : Int64) (M : FM) (T : Ty M) (n_a0 : fm_is M 69 69 a0 = true) : gd (FX17_of a0 a1 a3 M) (GX17_of a0 a1 a3 M) (OkR M) := gX17_of_0 a0 a1 a3 M T n_a0 
noncomputable def GX14_of_0 (a0 : Nat) (a1 : Int64) (a3 : Int64) (M : FM) : Int64 × FM :=
  ((a1 + a3), M)
theorem gX14_of_0 (a0 : Nat) (a1 : Int64) (a3 : Int64) (M : FM) (T : Ty M) : gd (FX14_of_0 a0 a1 a3 M) (GX14_of_0 a0 a1 a3 M) (OkR M) := by
  delta FX14_of_0 BX14_of_0
  exact ⟨rfl, ⟨T.1, T.2⟩, (ext_r _)⟩
noncomputable def GX14_of (a0 : Nat) (a1 : Int64) (a3 : Int64) (M : FM) : Int64 × FM := GX14_of_0 a0 a1 a3 M
theorem gX14_of (a0 : Nat) (a1 : Int64) (a3 : Int64) (M : FM) (T : Ty M) : gd (FX14_of a0 a1 a3 M) (GX14_of a0 a1 a3 M) (OkR M) := gX14_of_0 a0 a1 a3 M T 
noncomputable def GX15_of_0 (a0 : Nat) (a1 : Int64) (a3 : Int64) (M : FM) : Int64 × FM :=
  (a3, M)
theorem gX15_of_0 (a0 : Nat) (a1 : Int64) (a3 : Int64) (M : FM) (T : Ty M) : gd (FX15_of_0 a0 a1 a3 M) (GX15_of_0 a0 a1 a3 M) (OkR M) := by
  delta FX15_of_0 BX15_of_0
  exact ⟨rfl, ⟨T.1, T.2⟩, (ext_r _)⟩
noncomputable def GX15_of (a0 : Nat) (a1 : Int64) (a3 : Int64) (M : FM) : Int64 × FM := GX15_of_0 a0 a1 a3 M
theorem gX15_of (a0 : Nat) (a1 : Int64) (a3 : Int64) (M : FM) (T : Ty M) : gd (FX15_of a0 a1 a3 M) (GX15_of a0 a1 a3 M) (OkR M) := gX15_of_0 a0 a1 a3 M T 
noncomputable def GX11_atomic_83 (s0 : Int64) (M : FM) : Int64 × FM :=
  (s0, M)
theorem gX11_atomic_83 (s0 : Int64) (M : FM) (T : Ty M) : gd (FX11_atomic_83 fN s0 M) (GX11_atomic_83 s0 M) (OkR M) := by
  delta FX11_atomic_83 BX11_atomic_83
  exact ⟨rfl, ⟨T.1, T.2⟩, (ext_r _)⟩
noncomputable def GX11_atomic_73 (a11 : Int32) (M : FM) : Int64 × FM :=
  fi (a11 = 0) (
    GX11_atomic_83 (Int64.ofInt 1) M) (
    GX11_atomic_83 (Int64.ofInt 0) M)
theorem gX11_atomic_73 (a11 : Int32) (M : FM) (T : Ty M) : gd (FX11_atomic_73 fN a11 M) (GX11_atomic_73 a11 M) (OkR M) := by
  delta FX11_atomic_73 BX11_atomic_73
  refine gd_fi (fun c0_0 => ?_) (fun c0_0 => ?_)
  · exact gd_tR (ext_r _) (gX11_atomic_83 _ _ ⟨T.1, T.2⟩  )
  · exact gd_tR (ext_r _) (gX11_atomic_83 _ _ ⟨T.1, T.2⟩  )
noncomputable def GX11_atomic_0 (a0 : Nat) (a1 : Int32) (a2 : Int32) (a3 : Int64) (a5 : Int32) (a6 : Int64) (M : FM) : Int64 × FM :=
  let x1 : Nat := (M.2.2 205 a0 0)
  let x2 : Nat := (M.2.2 3 x1 a1.toNatClampNeg)
  let r3 : Int64 × FM := GX11_load a0 a3 a5 M
  let r4 : Int64 × FM := GX11_signed r3.1 a5 r3.2
  fi (a2 = (Int32.ofInt 2)) (
    let M5 : FM := GX12_make x2 a3 a5 r4.2
    (r4.1, M5)) (
    fi (a2 = (Int32.ofInt 3)) (
      let r6 : Int32 × FM := GX12_is x2 a3 a5 r4.2
      let r7 : Int32 × FM := GX12_drop x2 r6.2
      fi (r6.1 = 0) (
        GX11_atomic_73 r6.1 r7.2) (
        let M8 : FM := GX11_store a0 a3 a5 a6 r7.2
        GX11_atomic_73 r6.1 M8)) (
      let x9 : Nat := (r4.2.2.2 206 a0 0)
      let r10 : Int64 × FM := GX11_signed a6 a5 r4.2
      let x11 : Nat := (r4.2.2.2 3 x9 a2.toNatClampNeg)
      let r12 : Int64 × FM := (fi (fm_is r10.2 68 68 x11 = true) (GX16_of x11 r4.1 r10.1 r10.2) ((fi (fm_is r10.2 69 69 x11 = true) (GX17_of x11 r4.1 r10.1 r10.2) ((fi (fm_is r10.2 70 70 x11 = true) (GX14_of x11 r4.1 r10.1 r10.2) (GX15_of x11 r4.1 r10.1 r10.2))))))
      let M13 : FM := GX11_store a0 a3 a5 r12.1 r12.2
      (r4.1, M13)))
def HX11_atomic_0 (a0 : Nat) (a1 : Int32) (a2 : Int32) (a3 : Int64) (a5 : Int32) (a6 : Int64) (M : FM) : Prop := let x1 : Nat := (M.2.2 205 a0 0); (fm_in M x1 a1 = true ∧ let x2 : Nat := (M.2.2 3 x1 a1.toNatClampNeg); (HX11_load a0 a3 a5 M ∧ let r3 : Int64 × FM := GX11_load a0 a3 a5 M; let r4 : Int64 × FM := GX11_signed r3.1 a5 r3.2; ((a2 = (Int32.ofInt 2) → True) ∧ (¬ (a2 = (Int32.ofInt 2)) → ((a2 = (Int32.ofInt 3) → let r6 : Int32 × FM := GX12_is x2 a3 a5 r4.2; let r7 : Int32 × FM := GX12_drop x2 r6.2; ((r6.1 = 0 → True) ∧ (¬ (r6.1 = 0) → (HX11_store a0 a3 a5 a6 r7.2 ∧ True)))) ∧ (¬ (a2 = (Int32.ofInt 3)) → let x9 : Nat := (r4.2.2.2 206 a0 0); (fm_in r4.2 x9 a2 = true ∧ let r10 : Int64 × FM := GX11_signed a6 a5 r4.2; let x11 : Nat := (r4.2.2.2 3 x9 a2.toNatClampNeg); (((fm_is r10.2 68 68 x11 = true → True) ∧ (¬ (fm_is r10.2 68 68 x11 = true) → ((fm_is r10.2 69 69 x11 = true → True) ∧ (¬ (fm_is r10.2 69 69 x11 = true) → ((fm_is r10.2 70 70 x11 = true → True) ∧ (¬ (fm_is r10.2 70 70 x11 = true) → (fm_is r10.2 71 71 x11 = true ∧ True))))))) ∧ let r12 : Int64 × FM := (fi (fm_is r10.2 68 68 x11 = true) (GX16_of x11 r4.1 r10.1 r10.2) ((fi (fm_is r10.2 69 69 x11 = true) (GX17_of x11 r4.1 r10.1 r10.2) ((fi (fm_is r10.2 70 70 x11 = true) (GX14_of x11 r4.1 r10.1 r10.2) (GX15_of x11 r4.1 r10.1 r10.2)))))); (HX11_store a0 a3 a5 r12.1 r12.2 ∧ True)))))))))
theorem gX11_atomic_0 (a0 : Nat) (a1 : Int32) (a2 : Int32) (a3 : Int64) (a5 : Int32) (a6 : Int64) (M : FM) (T : Ty M) (n_a0 : fm_is M 73 73 a0 = true) (h : HX11_atomic_0 a0 a1 a2 a3 a5 a6 M) : gd (FX11_atomic_0 fN a0 a1 a2 a3 a5 a6 M) (GX11_atomic_0 a0 a1 a2 a3 a5 a6 M) (OkR M) := by
  delta FX11_atomic_0 BX11_atomic_0
  refine gd_c n_a0 ?_
  have f28 := (fm_w (lo' := 910) (hi' := 990) rfl rfl (tN_205 T.1 n_a0))
  refine gd_c ⟨f28, h.1⟩ ?_
  refine gd_c n_a0 ?_
  refine gd_b (gX11_load _ _ _ _ ⟨T.1, T.2⟩ n_a0 h.2.1) (fun K0 => ?_)
  refine gd_b (gX11_signed _ _ _ ⟨K0.1.1, K0.1.2⟩  ) (fun K1 => ?_)
  refine gd_fi (fun c2_0 => ?_) (fun c2_0 => ?_)
  · have f3 := (ext_is K1.2 (Nat.zero_lt_succ _) (ext_is K0.2 (Nat.zero_lt_succ _) (tE_921 T.1 (tN_205 T.1 n_a0) h.1)))
    refine gd_c f3 ?_
    have f5 := (ext_is K1.2 (Nat.zero_lt_succ _) (ext_is K0.2 (Nat.zero_lt_succ _) (tE_921 T.1 (tN_205 T.1 n_a0) h.1)))
    refine gd_b (gX12_make _ _ _ _ ⟨K1.1.1, K1.1.2⟩ f5 ) (fun K4 => ?_)
    exact ⟨rfl, ⟨K4.1.1, K4.1.2⟩, (ext_tr K0.2 (ext_tr K1.2 K4.2))⟩
  · refine gd_fi (fun c6_0 => ?_) (fun c6_0 => ?_)
    · have f7 := (ext_is K1.2 (Nat.zero_lt_succ _) (ext_is K0.2 (Nat.zero_lt_succ _) (tE_921 T.1 (tN_205 T.1 n_a0) h.1)))
      refine gd_c f7 ?_
      have f16 := (ext_is K1.2 (Nat.zero_lt_succ _) (ext_is K0.2 (Nat.zero_lt_succ _) (tE_921 T.1 (tN_205 T.1 n_a0) h.1)))
      refine gd_b (gX12_is _ _ _ _ ⟨K1.1.1, K1.1.2⟩ f16 ) (fun K8 => ?_)
      have f9 := (ext_is K8.2.1 (Nat.zero_lt_succ _) (ext_is K1.2 (Nat.zero_lt_succ _) (ext_is K0.2 (Nat.zero_lt_succ _) (tE_921 T.1 (tN_205 T.1 n_a0) h.1))))
      refine gd_c f9 ?_
      have f15 := (ext_is K8.2.1 (Nat.zero_lt_succ _) (ext_is K1.2 (Nat.zero_lt_succ _) (ext_is K0.2 (Nat.zero_lt_succ _) (tE_921 T.1 (tN_205 T.1 n_a0) h.1))))
      refine gd_b (gX12_drop _ _ ⟨K8.1.1, K8.1.2⟩ f15 ) (fun K10 => ?_)
      refine gd_fi (fun c11_0 => ?_) (fun c11_0 => ?_)
      · exact gd_tR (ext_tr K0.2 (ext_tr K1.2 (ext_tr K8.2.1 K10.2.1))) (gX11_atomic_73 _ _ ⟨K10.1.1, K10.1.2⟩  )
      · have f12 := (ext_is K10.2.1 (Nat.zero_lt_succ _) (ext_is K8.2.1 (Nat.zero_lt_succ _) (ext_is K1.2 (Nat.zero_lt_succ _) (ext_is K0.2 (Nat.zero_lt_succ _) n_a0))))
        refine gd_c f12 ?_
        have f14 := (ext_is K10.2.1 (Nat.zero_lt_succ _) (ext_is K8.2.1 (Nat.zero_lt_succ _) (ext_is K1.2 (Nat.zero_lt_succ _) (ext_is K0.2 (Nat.zero_lt_succ _) n_a0))))
        refine gd_b (gX11_store _ _ _ _ _ ⟨K10.1.1, K10.1.2⟩ f14 (((h.2.2.2 c2_0).1 c6_0).2 c11_0).1) (fun K13 => ?_)
        exact gd_tR (ext_tr K0.2 (ext_tr K1.2 (ext_tr K8.2.1 (ext_tr K10.2.1 K13.2)))) (gX11_atomic_73 _ _ ⟨K13.1.1, K13.1.2⟩  )
    · have f17 := (ext_is K1.2 (Nat.zero_lt_succ _) (ext_is K0.2 (Nat.zero_lt_succ _) n_a0))
      refine gd_c f17 ?_
      have f26 := (fm_w (lo' := 910) (hi' := 990) rfl rfl (tN_206 K1.1.1 (ext_is K1.2 (Nat.zero_lt_succ _) (ext_is K0.2 (Nat.zero_lt_succ _) n_a0))))
      have f27 := ((h.2.2.2 c2_0).2 c6_0).1
      refine gd_c ⟨f26, f27⟩ ?_
      refine gd_b (gX11_signed _ _ _ ⟨K1.1.1, K1.1.2⟩  ) (fun K18 => ?_)
      refine gd_kb (gk_fi (gk_b _ _) (gk_fi (gk_b _ _) (gk_fi (gk_b _ _) (gk_fi (gk_b _ _) gk_0)))) (gd_fi (fun c19 => (gX16_of _ _ _ _ ⟨K18.1.1, K18.1.2⟩ c19 )) (fun c19 => (gd_fi (fun c20 => (gX17_of _ _ _ _ ⟨K18.1.1, K18.1.2⟩ c20 )) (fun c20 => (gd_fi (fun c21 => (gX14_of _ _ _ _ ⟨K18.1.1, K18.1.2⟩  )) (fun c21 => (gd_c (((((h.2.2.2 c2_0).2 c6_0).2.1.2 c19).2 c20).2 c21).1 (gX15_of _ _ _ _ ⟨K18.1.1, K18.1.2⟩  )))))))) (fun K22 => ?_)
      have f23 := (ext_is K22.2 (Nat.zero_lt_succ _) (ext_is K18.2 (Nat.zero_lt_succ _) (ext_is K1.2 (Nat.zero_lt_succ _) (ext_is K0.2 (Nat.zero_lt_succ _) n_a0))))
      refine gd_c f23 ?_
      have f25 := (ext_is K22.2 (Nat.zero_lt_succ _) (ext_is K18.2 (Nat.zero_lt_succ _) (ext_is K1.2 (Nat.zero_lt_succ _) (ext_is K0.2 (Nat.zero_lt_succ _) n_a0))))
      refine gd_b (gX11_store _ _ _ _ _ ⟨K22.1.1, K22.1.2⟩ f25 ((h.2.2.2 c2_0).2 c6_0).2.2.1) (fun K24 => ?_)
      exact ⟨rfl, ⟨K24.1.1, K24.1.2⟩, (ext_tr K0.2 (ext_tr K1.2 (ext_tr K18.2 (ext_tr K22.2 K24.2))))⟩
noncomputable def GX11_atomic (a0 : Nat) (a1 : Int32) (a2 : Int32) (a3 : Int64) (a5 : Int32) (a6 : Int64) (M : FM) : Int64 × FM := GX11_atomic_0 a0 a1 a2 a3 a5 a6 M
def HX11_atomic (a0 : Nat) (a1 : Int32) (a2 : Int32) (a3 : Int64) (a5 : Int32) (a6 : Int64) (M : FM) : Prop := HX11_atomic_0 a0 a1 a2 a3 a5 a6 M
theorem gX11_atomic (a0 : Nat) (a1 : Int32) (a2 : Int32) (a3 : Int64) (a5 : Int32) (a6 : Int64) (M : FM) (T : Ty M) (n_a0 : fm_is M 73 73 a0 = true) (h : HX11_atomic a0 a1 a2 a3 a5 a6 M) : gd (FX11_atomic fN a0 a1 a2 a3 a5 a6 M) (GX11_atomic a0 a1 a2 a3 a5 a6 M) (OkR M) := gX11_atomic_0 a0 a1 a2 a3 a5 a6 M T n_a0 h
noncomputable def GX46_atomic_131 (a1 : Int64) (s0 : Nat) (s1 : Int32) (M : FM) : Int32 × FM :=
  let r1 : Int32 × FM := GX46_raise s0 s1 a1 M
  (r1.1, r1.2)
theorem gX46_atomic_131 (a1 : Int64) (s0 : Nat) (s1 : Int32) (M : FM) (T : Ty M) (n_s0 : fm_is M 75 75 s0 = true) : gd (FX46_atomic_131 fN a1 s0 s1 M) (GX46_atomic_131 a1 s0 s1 M) (OkZ M) := by
  delta FX46_atomic_131 BX46_atomic_131
  refine gd_c n_s0 ?_
  refine gd_b (gX46_raise _ _ _ _ ⟨T.1, T.2⟩ n_s0 ) (fun K0 => ?_)
  exact gd_z K0.2.2 ⟨K0.1.1, K0.1.2⟩ K0.2.1 rfl
noncomputable def GX46_atomic_65 (a1 : Int64) (s0 : Nat) (s1 : Int32) (M : FM) : Int32 × FM :=
  let r1 : Int32 × FM := GX46_raise s0 s1 a1 M
  (r1.1, r1.2)
theorem gX46_atomic_65 (a1 : Int64) (s0 : Nat) (s1 : Int32) (M : FM) (T : Ty M) (n_s0 : fm_is M 75 75 s0 = true) : gd (FX46_atomic_65 fN a1 s0 s1 M) (GX46_atomic_65 a1 s0 s1 M) (OkZ M) := by
  delta FX46_atomic_65 BX46_atomic_65
  refine gd_c n_s0 ?_
  refine gd_b (gX46_raise _ _ _ _ ⟨T.1, T.2⟩ n_s0 ) (fun K0 => ?_)
  exact gd_z K0.2.2 ⟨K0.1.1, K0.1.2⟩ K0.2.1 rfl
noncomputable def GX46_atomic_41 (a0 : Nat) (a1 : Int64) (a3 : Int32) (a4 : Int32) (s0 : Int32) (M : FM) : Int32 × FM :=
  let x1 : Int64 := a3.toInt64
  fi ((lg_cmp (a1 - a1 / x1 * x1) (Int64.ofInt 0)) = 0) (
    let r2 : Int32 × FM := GX46_dataMode a0 M
    let r3 : Int64 × FM := GX46_find a0 a1 s0 r2.1 a3 r2.2
    fi (0 ≤ (lg_cmp r3.1 (Int64.ofInt 0))) (
      let x4 : Nat := (r3.2.2.2 210 a0 0)
      let x5 : Nat := (r3.2.2.2 18 x4 0)
      let r6 : Int32 × FM := GX11_has x5 r3.1 a3.toInt64 r3.2
      fi (r6.1 = 0) (
        fi (s0 = (Int32.ofInt 1)) (
          GX46_atomic_131 a1 a0 (Int32.ofInt 5) r6.2) (
          GX46_atomic_131 a1 a0 (Int32.ofInt 7) r6.2)) (
        let x7 : Nat := (r6.2.2.2 210 a0 0)
        let x8 : Nat := (r6.2.2.2 211 a0 0)
        let r9 : Int64 × FM := GX47_wanted x8 (Int32.ofInt 2) r6.2
        let x10 : Nat := (r6.2.2.2 18 x7 0)
        let r11 : Int64 × FM := GX11_atomic x10 (r6.2.1 209 a0 0) a4 r3.1 a3 r9.1 r9.2
        let x12 : Nat := (r6.2.2.2 211 a0 0)
        let r13 : Int32 × FM := GX47_finish x12 (Int32.ofInt 1) r11.1 r11.2
        ((Int32.ofInt 1), r13.2))) (
      let r14 : Int32 × FM := GX46_raise a0 ((-r3.1).toInt32) a1 r3.2
      (r14.1, r14.2))) (
    fi (s0 = (Int32.ofInt 1)) (
      GX46_atomic_65 a1 a0 (Int32.ofInt 4) M) (
      GX46_atomic_65 a1 a0 (Int32.ofInt 6) M))
def HX46_atomic_41 (a0 : Nat) (a1 : Int64) (a3 : Int32) (a4 : Int32) (s0 : Int32) (M : FM) : Prop := let x1 : Int64 := a3.toInt64; (¬ x1 = 0 ∧ (((lg_cmp (a1 - a1 / x1 * x1) (Int64.ofInt 0)) = 0 → let r2 : Int32 × FM := GX46_dataMode a0 M; (HX46_find a0 a1 s0 r2.1 a3 r2.2 ∧ let r3 : Int64 × FM := GX46_find a0 a1 s0 r2.1 a3 r2.2; ((0 ≤ (lg_cmp r3.1 (Int64.ofInt 0)) → let x4 : Nat := (r3.2.2.2 210 a0 0); let x5 : Nat := (r3.2.2.2 18 x4 0); let r6 : Int32 × FM := GX11_has x5 r3.1 a3.toInt64 r3.2; ((r6.1 = 0 → True) ∧ (¬ (r6.1 = 0) → let x7 : Nat := (r6.2.2.2 210 a0 0); let x8 : Nat := (r6.2.2.2 211 a0 0); (HX47_wanted x8 (Int32.ofInt 2) r6.2 ∧ let r9 : Int64 × FM := GX47_wanted x8 (Int32.ofInt 2) r6.2; let x10 : Nat := (r6.2.2.2 18 x7 0); (HX11_atomic x10 (r6.2.1 209 a0 0) a4 r3.1 a3 r9.1 r9.2 ∧ let r11 : Int64 × FM := GX11_atomic x10 (r6.2.1 209 a0 0) a4 r3.1 a3 r9.1 r9.2; let x12 : Nat := (r6.2.2.2 211 a0 0); (HX47_finish x12 (Int32.ofInt 1) r11.1 r11.2 ∧ True)))))) ∧ (¬ (0 ≤ (lg_cmp r3.1 (Int64.ofInt 0))) → True)))) ∧ (¬ ((lg_cmp (a1 - a1 / x1 * x1) (Int64.ofInt 0)) = 0) → True)))
theorem gX46_atomic_41 (a0 : Nat) (a1 : Int64) (a3 : Int32) (a4 : Int32) (s0 : Int32) (M : FM) (T : Ty M) (n_a0 : fm_is M 75 75 a0 = true) (h : HX46_atomic_41 a0 a1 a3 a4 s0 M) : gd (FX46_atomic_41 fN a0 a1 a3 a4 s0 M) (GX46_atomic_41 a0 a1 a3 a4 s0 M) (OkZ M) := by
  delta FX46_atomic_41 BX46_atomic_41
  refine gd_n h.1 ?_
  refine gd_fi (fun c0_0 => ?_) (fun c0_0 => ?_)
  · refine gd_c n_a0 ?_
    refine gd_b (gX46_dataMode _ _ ⟨T.1, T.2⟩ n_a0 ) (fun K1 => ?_)
    have f2 := (ext_is K1.2 (Nat.zero_lt_succ _) n_a0)
    refine gd_c f2 ?_
    have f31 := (ext_is K1.2 (Nat.zero_lt_succ _) n_a0)
    refine gd_b (gX46_find _ _ _ _ _ _ ⟨K1.1.1, K1.1.2⟩ f31 (h.2.1 c0_0).1) (fun K3 => ?_)
    refine gd_fi (fun c4_0 => ?_) (fun c4_0 => ?_)
    · have f5 := (ext_is K3.2 (Nat.zero_lt_succ _) (ext_is K1.2 (Nat.zero_lt_succ _) n_a0))
      refine gd_c f5 ?_
      have f6 := (tN_210 K3.1.1 (ext_is K3.2 (Nat.zero_lt_succ _) (ext_is K1.2 (Nat.zero_lt_succ _) n_a0)))
      refine gd_c f6 ?_
      have f7 := (tN_18 K3.1.1 (tN_210 K3.1.1 (ext_is K3.2 (Nat.zero_lt_succ _) (ext_is K1.2 (Nat.zero_lt_succ _) n_a0))))
      refine gd_c f7 ?_
      have f27 := (tN_18 K3.1.1 (tN_210 K3.1.1 (ext_is K3.2 (Nat.zero_lt_succ _) (ext_is K1.2 (Nat.zero_lt_succ _) n_a0))))
      refine gd_b (gX11_has _ _ _ _ ⟨K3.1.1, K3.1.2⟩ f27 ) (fun K8 => ?_)
      refine gd_fi (fun c9_0 => ?_) (fun c9_0 => ?_)
      · refine gd_fi (fun c10_0 => ?_) (fun c10_0 => ?_)
        · have f11 := (ext_is K8.2.1 (Nat.zero_lt_succ _) (ext_is K3.2 (Nat.zero_lt_succ _) (ext_is K1.2 (Nat.zero_lt_succ _) n_a0)))
          exact gd_tZ (ext_tr K1.2 (ext_tr K3.2 K8.2.1)) (gX46_atomic_131 _ _ _ _ ⟨K8.1.1, K8.1.2⟩ f11 )
        · have f12 := (ext_is K8.2.1 (Nat.zero_lt_succ _) (ext_is K3.2 (Nat.zero_lt_succ _) (ext_is K1.2 (Nat.zero_lt_succ _) n_a0)))
          exact gd_tZ (ext_tr K1.2 (ext_tr K3.2 K8.2.1)) (gX46_atomic_131 _ _ _ _ ⟨K8.1.1, K8.1.2⟩ f12 )
      · have f13 := (ext_is K8.2.1 (Nat.zero_lt_succ _) (ext_is K3.2 (Nat.zero_lt_succ _) (ext_is K1.2 (Nat.zero_lt_succ _) n_a0)))
        refine gd_c f13 ?_
        have f14 := (ext_is K8.2.1 (Nat.zero_lt_succ _) (ext_is K3.2 (Nat.zero_lt_succ _) (ext_is K1.2 (Nat.zero_lt_succ _) n_a0)))
        refine gd_c f14 ?_
        have f15 := (tN_210 K8.1.1 (ext_is K8.2.1 (Nat.zero_lt_succ _) (ext_is K3.2 (Nat.zero_lt_succ _) (ext_is K1.2 (Nat.zero_lt_succ _) n_a0))))
        refine gd_c f15 ?_
        have f16 := (ext_is K8.2.1 (Nat.zero_lt_succ _) (ext_is K3.2 (Nat.zero_lt_succ _) (ext_is K1.2 (Nat.zero_lt_succ _) n_a0)))
        refine gd_c f16 ?_
        have f17 := (ext_is K8.2.1 (Nat.zero_lt_succ _) (ext_is K3.2 (Nat.zero_lt_succ _) (ext_is K1.2 (Nat.zero_lt_succ _) n_a0)))
        refine gd_c f17 ?_
        have f18 := (tN_211 K8.1.1 (ext_is K8.2.1 (Nat.zero_lt_succ _) (ext_is K3.2 (Nat.zero_lt_succ _) (ext_is K1.2 (Nat.zero_lt_succ _) n_a0))))
        refine gd_c f18 ?_
        have f26 := (tN_211 K8.1.1 (ext_is K8.2.1 (Nat.zero_lt_succ _) (ext_is K3.2 (Nat.zero_lt_succ _) (ext_is K1.2 (Nat.zero_lt_succ _) n_a0))))
        refine gd_b (gX47_wanted _ _ _ ⟨K8.1.1, K8.1.2⟩ f26 (((h.2.1 c0_0).2.1 c4_0).2 c9_0).1) (fun K19 => ?_)
        have f20 := (ext_is K19.2 (Nat.zero_lt_succ _) (tN_18 K8.1.1 (tN_210 K8.1.1 (ext_is K8.2.1 (Nat.zero_lt_succ _) (ext_is K3.2 (Nat.zero_lt_succ _) (ext_is K1.2 (Nat.zero_lt_succ _) n_a0))))))
        refine gd_c f20 ?_
        have f25 := (ext_is K19.2 (Nat.zero_lt_succ _) (tN_18 K8.1.1 (tN_210 K8.1.1 (ext_is K8.2.1 (Nat.zero_lt_succ _) (ext_is K3.2 (Nat.zero_lt_succ _) (ext_is K1.2 (Nat.zero_lt_succ _) n_a0))))))
        refine gd_b (gX11_atomic _ _ _ _ _ _ _ ⟨K19.1.1, K19.1.2⟩ f25 (((h.2.1 c0_0).2.1 c4_0).2 c9_0).2.1) (fun K21 => ?_)
        have f22 := (ext_is K21.2 (Nat.zero_lt_succ _) (ext_is K19.2 (Nat.zero_lt_succ _) (tN_211 K8.1.1 (ext_is K8.2.1 (Nat.zero_lt_succ _) (ext_is K3.2 (Nat.zero_lt_succ _) (ext_is K1.2 (Nat.zero_lt_succ _) n_a0))))))
        refine gd_c f22 ?_
        have f24 := (ext_is K21.2 (Nat.zero_lt_succ _) (ext_is K19.2 (Nat.zero_lt_succ _) (tN_211 K8.1.1 (ext_is K8.2.1 (Nat.zero_lt_succ _) (ext_is K3.2 (Nat.zero_lt_succ _) (ext_is K1.2 (Nat.zero_lt_succ _) n_a0))))))
        refine gd_b (gX47_finish _ _ _ _ ⟨K21.1.1, K21.1.2⟩ f24 (((h.2.1 c0_0).2.1 c4_0).2 c9_0).2.2.1) (fun K23 => ?_)
        exact gd_z fz_1 ⟨K23.1.1, K23.1.2⟩ (ext_tr K1.2 (ext_tr K3.2 (ext_tr K8.2.1 (ext_tr K19.2 (ext_tr K21.2 K23.2))))) rfl
    · have f28 := (ext_is K3.2 (Nat.zero_lt_succ _) (ext_is K1.2 (Nat.zero_lt_succ _) n_a0))
      refine gd_c f28 ?_
      have f30 := (ext_is K3.2 (Nat.zero_lt_succ _) (ext_is K1.2 (Nat.zero_lt_succ _) n_a0))
      refine gd_b (gX46_raise _ _ _ _ ⟨K3.1.1, K3.1.2⟩ f30 ) (fun K29 => ?_)
      exact gd_z K29.2.2 ⟨K29.1.1, K29.1.2⟩ (ext_tr K1.2 (ext_tr K3.2 K29.2.1)) rfl
  · refine gd_fi (fun c32_0 => ?_) (fun c32_0 => ?_)
    · exact gd_tZ (ext_r _) (gX46_atomic_65 _ _ _ _ ⟨T.1, T.2⟩ n_a0 )
    · exact gd_tZ (ext_r _) (gX46_atomic_65 _ _ _ _ ⟨T.1, T.2⟩ n_a0 )
noncomputable def GX46_atomic_0 (a0 : Nat) (M : FM) : Int32 × FM :=
  let x1 : Nat := (M.2.2 211 a0 0)
  let r2 : Int64 × FM := GX47_wanted x1 (Int32.ofInt 0) M
  let x3 : Nat := (r2.2.2.2 211 a0 0)
  let r4 : Int64 × FM := GX47_wanted x3 (Int32.ofInt 1) r2.2
  let x5 : Int32 := r4.1.toInt32
  let x6 : Nat := (r4.2.2.2 211 a0 0)
  let r7 : Int64 × FM := GX47_wanted x6 (Int32.ofInt 3) r4.2
  let x8 : Int32 := r7.1.toInt32
  fi (x8 = (Int32.ofInt 2)) (
    GX46_atomic_41 a0 r2.1 x5 x8 (Int32.ofInt 1) r7.2) (
    GX46_atomic_41 a0 r2.1 x5 x8 (Int32.ofInt 2) r7.2)
def HX46_atomic_0 (a0 : Nat) (M : FM) : Prop := let x1 : Nat := (M.2.2 211 a0 0); (HX47_wanted x1 (Int32.ofInt 0) M ∧ let r2 : Int64 × FM := GX47_wanted x1 (Int32.ofInt 0) M; let x3 : Nat := (r2.2.2.2 211 a0 0); (HX47_wanted x3 (Int32.ofInt 1) r2.2 ∧ let r4 : Int64 × FM := GX47_wanted x3 (Int32.ofInt 1) r2.2; let x5 : Int32 := r4.1.toInt32; let x6 : Nat := (r4.2.2.2 211 a0 0); (HX47_wanted x6 (Int32.ofInt 3) r4.2 ∧ let r7 : Int64 × FM := GX47_wanted x6 (Int32.ofInt 3) r4.2; let x8 : Int32 := r7.1.toInt32; ((x8 = (Int32.ofInt 2) → HX46_atomic_41 a0 r2.1 x5 x8 (Int32.ofInt 1) r7.2) ∧ (¬ (x8 = (Int32.ofInt 2)) → HX46_atomic_41 a0 r2.1 x5 x8 (Int32.ofInt 2) r7.2)))))
theorem gX46_atomic_0 (a0 : Nat) (M : FM) (T : Ty M) (n_a0 : fm_is M 75 75 a0 = true) (h : HX46_atomic_0 a0 M) : gd (FX46_atomic_0 fN a0 M) (GX46_atomic_0 a0 M) (OkZ M) := by
  delta FX46_atomic_0 BX46_atomic_0
  refine gd_c n_a0 ?_
  have f0 := (tN_211 T.1 n_a0)
  refine gd_c f0 ?_
  have f13 := (tN_211 T.1 n_a0)
  refine gd_b (gX47_wanted _ _ _ ⟨T.1, T.2⟩ f13 h.1) (fun K1 => ?_)
  have f2 := (ext_is K1.2 (Nat.zero_lt_succ _) n_a0)
  refine gd_c f2 ?_
  have f3 := (tN_211 K1.1.1 (ext_is K1.2 (Nat.zero_lt_succ _) n_a0))
  refine gd_c f3 ?_
  have f12 := (tN_211 K1.1.1 (ext_is K1.2 (Nat.zero_lt_succ _) n_a0))
  refine gd_b (gX47_wanted _ _ _ ⟨K1.1.1, K1.1.2⟩ f12 h.2.1) (fun K4 => ?_)
  have f5 := (ext_is K4.2 (Nat.zero_lt_succ _) (ext_is K1.2 (Nat.zero_lt_succ _) n_a0))
  refine gd_c f5 ?_
  have f6 := (tN_211 K4.1.1 (ext_is K4.2 (Nat.zero_lt_succ _) (ext_is K1.2 (Nat.zero_lt_succ _) n_a0)))
  refine gd_c f6 ?_
  have f11 := (tN_211 K4.1.1 (ext_is K4.2 (Nat.zero_lt_succ _) (ext_is K1.2 (Nat.zero_lt_succ _) n_a0)))
  refine gd_b (gX47_wanted _ _ _ ⟨K4.1.1, K4.1.2⟩ f11 h.2.2.1) (fun K7 => ?_)
  refine gd_fi (fun c8_0 => ?_) (fun c8_0 => ?_)
  · have f9 := (ext_is K7.2 (Nat.zero_lt_succ _) (ext_is K4.2 (Nat.zero_lt_succ _) (ext_is K1.2 (Nat.zero_lt_succ _) n_a0)))
    exact gd_tZ (ext_tr K1.2 (ext_tr K4.2 K7.2)) (gX46_atomic_41 _ _ _ _ _ _ ⟨K7.1.1, K7.1.2⟩ f9 (h.2.2.2.1 c8_0))
  · have f10 := (ext_is K7.2 (Nat.zero_lt_succ _) (ext_is K4.2 (Nat.zero_lt_succ _) (ext_is K1.2 (Nat.zero_lt_succ _) n_a0)))
    exact gd_tZ (ext_tr K1.2 (ext_tr K4.2 K7.2)) (gX46_atomic_41 _ _ _ _ _ _ ⟨K7.1.1, K7.1.2⟩ f10 (h.2.2.2.2 c8_0))
noncomputable def GX46_atomic (a0 : Nat) (M : FM) : Int32 × FM := GX46_atomic_0 a0 M
def HX46_atomic (a0 : Nat) (M : FM) : Prop := HX46_atomic_0 a0 M
theorem gX46_atomic (a0 : Nat) (M : FM) (T : Ty M) (n_a0 : fm_is M 75 75 a0 = true) (h : HX46_atomic a0 M) : gd (FX46_atomic fN a0 M) (GX46_atomic a0 M) (OkZ M) := gX46_atomic_0 a0 M T n_a0 h
noncomputable def GX74_floats_17 (s0 : Int32) (M : FM) : Int32 × FM :=
  (s0, M)
theorem gX74_floats_17 (s0 : Int32) (M : FM) (T : Ty M) (z_s0 : s0 = 0 ∨ s0 = 1) : gd (FX74_floats_17 s0 M) (GX74_floats_17 s0 M) (OkZ M) := by
  delta FX74_floats_17 BX74_floats_17
  exact gd_z z_s0 ⟨T.1, T.2⟩ (ext_r _) rfl
noncomputable def GX74_floats_0 (a0 : Nat) (M : FM) : Int32 × FM :=
  let x1 : Nat := (M.2.2 27 a0 0)
  let r2 : Int32 × FM := GX78_two x1 (Int32.ofInt 13) M
  fi (r2.1 = 0) (
    GX74_floats_17 (Int32.ofInt 0) r2.2) (
    GX74_floats_17 (Int32.ofInt 1) r2.2)
theorem gX74_floats_0 (a0 : Nat) (M : FM) (T : Ty M) (n_a0 : fm_is M 12 12 a0 = true) : gd (FX74_floats_0 a0 M) (GX74_floats_0 a0 M) (OkZ M) := by
  delta FX74_floats_0 BX74_floats_0
  refine gd_c n_a0 ?_
  have f0 := (tN_27 T.1 n_a0)
  refine gd_c f0 ?_
  have f3 := (tN_27 T.1 n_a0)
  refine gd_b (gX78_two _ _ _ ⟨T.1, T.2⟩ f3 ) (fun K1 => ?_)
  refine gd_fi (fun c2_0 => ?_) (fun c2_0 => ?_)
  · exact gd_tZ K1.2 (gX74_floats_17 _ _ ⟨K1.1.1, K1.1.2⟩ fz_0 )
  · exact gd_tZ K1.2 (gX74_floats_17 _ _ ⟨K1.1.1, K1.1.2⟩ fz_1 )
noncomputable def GX74_floats (a0 : Nat) (M : FM) : Int32 × FM := GX74_floats_0 a0 M
theorem gX74_floats (a0 : Nat) (M : FM) (T : Ty M) (n_a0 : fm_is M 12 12 a0 = true) : gd (FX74_floats a0 M) (GX74_floats a0 M) (OkZ M) := gX74_floats_0 a0 M T n_a0 
noncomputable def GX59_set_0 (a0 : Nat) (a1 : Int32) (a2 : Int64) (M : FM) : FM :=
  let x1 : Nat := (M.2.2 93 a0 0)
  let M2 : FM := fm_sL M 3 x1 a1.toNatClampNeg a2
  let M3 : FM := fm_sI M2 96 a0 0 (Int32.ofInt 1)
  M3
def HX59_set_0 (a0 : Nat) (a1 : Int32) (a2 : Int64) (M : FM) : Prop := let x1 : Nat := (M.2.2 93 a0 0); (fm_in M x1 a1 = true ∧ True)
theorem gX59_set_0 (a0 : Nat) (a1 : Int32) (a2 : Int64) (M : FM) (T : Ty M) (n_a0 : fm_is M 32 32 a0 = true) (h : HX59_set_0 a0 a1 a2 M) : gd (FX59_set_0 a0 a1 a2 M) (GX59_set_0 a0 a1 a2 M) (OkV M) := by
  delta FX59_set_0 BX59_set_0
  refine gd_c n_a0 ?_
  have f0 := (tN_93 T.1 n_a0)
  refine gd_c ⟨f0, h.1⟩ ?_
  refine gd_c n_a0 ?_
  refine gd_c fz_1 ?_
  exact ⟨rfl, ⟨T.1, (tyb_sIb (f := 96) rfl T.2 fz_1)⟩, (ext_dL (ext_dI (ext_r _)))⟩
noncomputable def GX59_set (a0 : Nat) (a1 : Int32) (a2 : Int64) (M : FM) : FM := GX59_set_0 a0 a1 a2 M
def HX59_set (a0 : Nat) (a1 : Int32) (a2 : Int64) (M : FM) : Prop := HX59_set_0 a0 a1 a2 M
theorem gX59_set (a0 : Nat) (a1 : Int32) (a2 : Int64) (M : FM) (T : Ty M) (n_a0 : fm_is M 32 32 a0 = true) (h : HX59_set a0 a1 a2 M) : gd (FX59_set a0 a1 a2 M) (GX59_set a0 a1 a2 M) (OkV M) := gX59_set_0 a0 a1 a2 M T n_a0 h
noncomputable def GX46_floatLoad_68 (a0 : Nat) (s0 : Nat) (s1 : Int32) (s2 : Int64) (M : FM) : Int32 × FM :=
  let M1 : FM := GX59_set s0 s1 s2 M
  let x2 : Nat := (M1.2.2 211 a0 0)
  let r3 : Int32 × FM := GX47_finish x2 (Int32.ofInt 0) (Int64.ofInt 0) M1
  ((Int32.ofInt 1), r3.2)
def HX46_floatLoad_68 (a0 : Nat) (s0 : Nat) (s1 : Int32) (s2 : Int64) (M : FM) : Prop := (HX59_set s0 s1 s2 M ∧ let M1 : FM := GX59_set s0 s1 s2 M; let x2 : Nat := (M1.2.2 211 a0 0); (HX47_finish x2 (Int32.ofInt 0) (Int64.ofInt 0) M1 ∧ True))
theorem gX46_floatLoad_68 (a0 : Nat) (s0 : Nat) (s1 : Int32) (s2 : Int64) (M : FM) (T : Ty M) (n_s0 : fm_is M 32 32 s0 = true) (n_a0 : fm_is M 75 75 a0 = true) (h : HX46_floatLoad_68 a0 s0 s1 s2 M) : gd (FX46_floatLoad_68 fN a0 s0 s1 s2 M) (GX46_floatLoad_68 a0 s0 s1 s2 M) (OkZ M) := by
  delta FX46_floatLoad_68 BX46_floatLoad_68
  refine gd_c n_s0 ?_
  refine gd_b (gX59_set _ _ _ _ ⟨T.1, T.2⟩ n_s0 h.1) (fun K0 => ?_)
  have f1 := (ext_is K0.2 (Nat.zero_lt_succ _) n_a0)
  refine gd_c f1 ?_
  have f2 := (tN_211 K0.1.1 (ext_is K0.2 (Nat.zero_lt_succ _) n_a0))
  refine gd_c f2 ?_
  have f4 := (tN_211 K0.1.1 (ext_is K0.2 (Nat.zero_lt_succ _) n_a0))
  refine gd_b (gX47_finish _ _ _ _ ⟨K0.1.1, K0.1.2⟩ f4 h.2.1) (fun K3 => ?_)
  exact gd_z fz_1 ⟨K3.1.1, K3.1.2⟩ (ext_tr K0.2 K3.2) rfl
noncomputable def GX46_floatLoad_0 (a0 : Nat) (M : FM) : Int32 × FM :=
  let x1 : Nat := (M.2.2 211 a0 0)
  let r2 : Int64 × FM := GX47_wanted x1 (Int32.ofInt 1) M
  let x3 : Int32 := r2.1.toInt32
  let x4 : Nat := (r2.2.2.2 211 a0 0)
  let r5 : Int64 × FM := GX47_wanted x4 (Int32.ofInt 0) r2.2
  let r6 : Int32 × FM := GX46_locate a0 r5.1 (Int32.ofInt 1) x3 r5.2
  fi (r6.1 = 0) (
    ((Int32.ofInt 0), r6.2)) (
    let x7 : Nat := (r6.2.2.2 217 a0 0)
    let r8 : Int64 × FM := GX73_load x7 (r6.2.2.2 210 a0 0) r6.2
    let x9 : Nat := (r8.2.2.2 211 a0 0)
    let r10 : Int64 × FM := GX47_wanted x9 (Int32.ofInt 4) r8.2
    fi (x3 = (Int32.ofInt 4)) (
      GX46_floatLoad_68 a0 (r8.2.2.2 212 a0 0) r10.1.toInt32 (r8.1 ||| (Int64.ofInt (-4294967296))) r10.2) (
      GX46_floatLoad_68 a0 (r8.2.2.2 212 a0 0) r10.1.toInt32 r8.1 r10.2))
def HX46_floatLoad_0 (a0 : Nat) (M : FM) : Prop := let x1 : Nat := (M.2.2 211 a0 0); (HX47_wanted x1 (Int32.ofInt 1) M ∧ let r2 : Int64 × FM := GX47_wanted x1 (Int32.ofInt 1) M; let x3 : Int32 := r2.1.toInt32; let x4 : Nat := (r2.2.2.2 211 a0 0); (HX47_wanted x4 (Int32.ofInt 0) r2.2 ∧ let r5 : Int64 × FM := GX47_wanted x4 (Int32.ofInt 0) r2.2; (HX46_locate a0 r5.1 (Int32.ofInt 1) x3 r5.2 ∧ let r6 : Int32 × FM := GX46_locate a0 r5.1 (Int32.ofInt 1) x3 r5.2; ((r6.1 = 0 → True) ∧ (¬ (r6.1 = 0) → let x7 : Nat := (r6.2.2.2 217 a0 0); (HX73_load x7 (r6.2.2.2 210 a0 0) r6.2 ∧ let r8 : Int64 × FM := GX73_load x7 (r6.2.2.2 210 a0 0) r6.2; let x9 : Nat := (r8.2.2.2 211 a0 0); (HX47_wanted x9 (Int32.ofInt 4) r8.2 ∧ let r10 : Int64 × FM := GX47_wanted x9 (Int32.ofInt 4) r8.2; ((x3 = (Int32.ofInt 4) → HX46_floatLoad_68 a0 (r8.2.2.2 212 a0 0) r10.1.toInt32 (r8.1 ||| (Int64.ofInt (-4294967296))) r10.2) ∧ (¬ (x3 = (Int32.ofInt 4)) → HX46_floatLoad_68 a0 (r8.2.2.2 212 a0 0) r10.1.toInt32 r8.1 r10.2)))))))))
theorem gX46_floatLoad_0 (a0 : Nat) (M : FM) (T : Ty M) (n_a0 : fm_is M 75 75 a0 = true) (h : HX46_floatLoad_0 a0 M) : gd (FX46_floatLoad_0 fN a0 M) (GX46_floatLoad_0 a0 M) (OkZ M) := by
  delta FX46_floatLoad_0 BX46_floatLoad_0
  refine gd_c n_a0 ?_
  have f0 := (tN_211 T.1 n_a0)
  refine gd_c f0 ?_
  have f23 := (tN_211 T.1 n_a0)
  refine gd_b (gX47_wanted _ _ _ ⟨T.1, T.2⟩ f23 h.1) (fun K1 => ?_)
  have f2 := (ext_is K1.2 (Nat.zero_lt_succ _) n_a0)
  refine gd_c f2 ?_
  have f3 := (tN_211 K1.1.1 (ext_is K1.2 (Nat.zero_lt_succ _) n_a0))
  refine gd_c f3 ?_
  have f22 := (tN_211 K1.1.1 (ext_is K1.2 (Nat.zero_lt_succ _) n_a0))
  refine gd_b (gX47_wanted _ _ _ ⟨K1.1.1, K1.1.2⟩ f22 h.2.1) (fun K4 => ?_)
  have f5 := (ext_is K4.2 (Nat.zero_lt_succ _) (ext_is K1.2 (Nat.zero_lt_succ _) n_a0))
  refine gd_c f5 ?_
  refine gd_b (gX46_locate _ _ _ _ _ h.2.2.1) (fun K6 => ?_)
  refine gd_fi (fun c7_0 => ?_) (fun c7_0 => ?_)
  · exact gd_z fz_0 ⟨K6.1.1, K6.1.2⟩ (ext_tr K1.2 (ext_tr K4.2 K6.2.1)) rfl
  · have f8 := (ext_is K6.2.1 (Nat.zero_lt_succ _) (ext_is K4.2 (Nat.zero_lt_succ _) (ext_is K1.2 (Nat.zero_lt_succ _) n_a0)))
    refine gd_c f8 ?_
    have f9 := (ext_is K6.2.1 (Nat.zero_lt_succ _) (ext_is K4.2 (Nat.zero_lt_succ _) (ext_is K1.2 (Nat.zero_lt_succ _) n_a0)))
    refine gd_c f9 ?_
    have f10 := (tN_217 K6.1.1 (ext_is K6.2.1 (Nat.zero_lt_succ _) (ext_is K4.2 (Nat.zero_lt_succ _) (ext_is K1.2 (Nat.zero_lt_succ _) n_a0))))
    refine gd_c f10 ?_
    refine gd_b (gX73_load _ _ _ (h.2.2.2.2 c7_0).1) (fun K11 => ?_)
    have f12 := (ext_is K11.2 (Nat.zero_lt_succ _) (ext_is K6.2.1 (Nat.zero_lt_succ _) (ext_is K4.2 (Nat.zero_lt_succ _) (ext_is K1.2 (Nat.zero_lt_succ _) n_a0))))
    refine gd_c f12 ?_
    have f13 := (ext_is K11.2 (Nat.zero_lt_succ _) (ext_is K6.2.1 (Nat.zero_lt_succ _) (ext_is K4.2 (Nat.zero_lt_succ _) (ext_is K1.2 (Nat.zero_lt_succ _) n_a0))))
    refine gd_c f13 ?_
    have f14 := (tN_211 K11.1.1 (ext_is K11.2 (Nat.zero_lt_succ _) (ext_is K6.2.1 (Nat.zero_lt_succ _) (ext_is K4.2 (Nat.zero_lt_succ _) (ext_is K1.2 (Nat.zero_lt_succ _) n_a0)))))
    refine gd_c f14 ?_
    have f21 := (tN_211 K11.1.1 (ext_is K11.2 (Nat.zero_lt_succ _) (ext_is K6.2.1 (Nat.zero_lt_succ _) (ext_is K4.2 (Nat.zero_lt_succ _) (ext_is K1.2 (Nat.zero_lt_succ _) n_a0)))))
    refine gd_b (gX47_wanted _ _ _ ⟨K11.1.1, K11.1.2⟩ f21 (h.2.2.2.2 c7_0).2.1) (fun K15 => ?_)
    refine gd_fi (fun c16_0 => ?_) (fun c16_0 => ?_)
    · have f17 := (ext_is K15.2 (Nat.zero_lt_succ _) (tN_212 K11.1.1 (ext_is K11.2 (Nat.zero_lt_succ _) (ext_is K6.2.1 (Nat.zero_lt_succ _) (ext_is K4.2 (Nat.zero_lt_succ _) (ext_is K1.2 (Nat.zero_lt_succ _) n_a0))))))
      have f18 := (ext_is K15.2 (Nat.zero_lt_succ _) (ext_is K11.2 (Nat.zero_lt_succ _) (ext_is K6.2.1 (Nat.zero_lt_succ _) (ext_is K4.2 (Nat.zero_lt_succ _) (ext_is K1.2 (Nat.zero_lt_succ _) n_a0)))))
      exact gd_tZ (ext_tr K1.2 (ext_tr K4.2 (ext_tr K6.2.1 (ext_tr K11.2 K15.2)))) (gX46_floatLoad_68 _ _ _ _ _ ⟨K15.1.1, K15.1.2⟩ f17 f18 ((h.2.2.2.2 c7_0).2.2.1 c16_0))
    · have f19 := (ext_is K15.2 (Nat.zero_lt_succ _) (tN_212 K11.1.1 (ext_is K11.2 (Nat.zero_lt_succ _) (ext_is K6.2.1 (Nat.zero_lt_succ _) (ext_is K4.2 (Nat.zero_lt_succ _) (ext_is K1.2 (Nat.zero_lt_succ _) n_a0))))))
      have f20 := (ext_is K15.2 (Nat.zero_lt_succ _) (ext_is K11.2 (Nat.zero_lt_succ _) (ext_is K6.2.1 (Nat.zero_lt_succ _) (ext_is K4.2 (Nat.zero_lt_succ _) (ext_is K1.2 (Nat.zero_lt_succ _) n_a0)))))
      exact gd_tZ (ext_tr K1.2 (ext_tr K4.2 (ext_tr K6.2.1 (ext_tr K11.2 K15.2)))) (gX46_floatLoad_68 _ _ _ _ _ ⟨K15.1.1, K15.1.2⟩ f19 f20 ((h.2.2.2.2 c7_0).2.2.2 c16_0))
noncomputable def GX46_floatLoad (a0 : Nat) (M : FM) : Int32 × FM := GX46_floatLoad_0 a0 M
def HX46_floatLoad (a0 : Nat) (M : FM) : Prop := HX46_floatLoad_0 a0 M
theorem gX46_floatLoad (a0 : Nat) (M : FM) (T : Ty M) (n_a0 : fm_is M 75 75 a0 = true) (h : HX46_floatLoad a0 M) : gd (FX46_floatLoad fN a0 M) (GX46_floatLoad a0 M) (OkZ M) := gX46_floatLoad_0 a0 M T n_a0 h
noncomputable def GX46_floatStore_0 (a0 : Nat) (M : FM) : Int32 × FM :=
  let x1 : Nat := (M.2.2 211 a0 0)
  let r2 : Int64 × FM := GX47_wanted x1 (Int32.ofInt 0) M
  let x3 : Nat := (r2.2.2.2 211 a0 0)
  let r4 : Int64 × FM := GX47_wanted x3 (Int32.ofInt 1) r2.2
  let r5 : Int32 × FM := GX46_locate a0 r2.1 (Int32.ofInt 2) r4.1.toInt32 r4.2
  fi (r5.1 = 0) (
    ((Int32.ofInt 0), r5.2)) (
    let x6 : Nat := (r5.2.2.2 212 a0 0)
    let x7 : Int32 := (((r5.2.1 219 a0 0).toUInt32 >>> ((Int32.ofInt 20).toUInt32 &&& Int32.toUInt32 31)).toInt32 &&& (Int32.ofInt 31))
    let x8 : Nat := (r5.2.2.2 93 x6 0)
    let x9 : Nat := (r5.2.2.2 217 a0 0)
    let M10 : FM := GX73_store x9 (r5.2.2.2 210 a0 0) (r5.2.2.1 3 x8 x7.toNatClampNeg) r5.2
    let x11 : Nat := (M10.2.2 211 a0 0)
    let r12 : Int32 × FM := GX47_finish x11 (Int32.ofInt 0) (Int64.ofInt 0) M10
    ((Int32.ofInt 1), r12.2))
def HX46_floatStore_0 (a0 : Nat) (M : FM) : Prop := let x1 : Nat := (M.2.2 211 a0 0); (HX47_wanted x1 (Int32.ofInt 0) M ∧ let r2 : Int64 × FM := GX47_wanted x1 (Int32.ofInt 0) M; let x3 : Nat := (r2.2.2.2 211 a0 0); (HX47_wanted x3 (Int32.ofInt 1) r2.2 ∧ let r4 : Int64 × FM := GX47_wanted x3 (Int32.ofInt 1) r2.2; (HX46_locate a0 r2.1 (Int32.ofInt 2) r4.1.toInt32 r4.2 ∧ let r5 : Int32 × FM := GX46_locate a0 r2.1 (Int32.ofInt 2) r4.1.toInt32 r4.2; ((r5.1 = 0 → True) ∧ (¬ (r5.1 = 0) → let x6 : Nat := (r5.2.2.2 212 a0 0); let x7 : Int32 := (((r5.2.1 219 a0 0).toUInt32 >>> ((Int32.ofInt 20).toUInt32 &&& Int32.toUInt32 31)).toInt32 &&& (Int32.ofInt 31)); let x8 : Nat := (r5.2.2.2 93 x6 0); (fm_in r5.2 x8 x7 = true ∧ let x9 : Nat := (r5.2.2.2 217 a0 0); (HX73_store x9 (r5.2.2.2 210 a0 0) (r5.2.2.1 3 x8 x7.toNatClampNeg) r5.2 ∧ let M10 : FM := GX73_store x9 (r5.2.2.2 210 a0 0) (r5.2.2.1 3 x8 x7.toNatClampNeg) r5.2; let x11 : Nat := (M10.2.2 211 a0 0); (HX47_finish x11 (Int32.ofInt 0) (Int64.ofInt 0) M10 ∧ True))))))))
theorem gX46_floatStore_0 (a0 : Nat) (M : FM) (T : Ty M) (n_a0 : fm_is M 75 75 a0 = true) (h : HX46_floatStore_0 a0 M) : gd (FX46_floatStore_0 fN a0 M) (GX46_floatStore_0 a0 M) (OkZ M) := by
  delta FX46_floatStore_0 BX46_floatStore_0
  refine gd_c n_a0 ?_
  have f0 := (tN_211 T.1 n_a0)
  refine gd_c f0 ?_
  have f21 := (tN_211 T.1 n_a0)
  refine gd_b (gX47_wanted _ _ _ ⟨T.1, T.2⟩ f21 h.1) (fun K1 => ?_)
  have f2 := (ext_is K1.2 (Nat.zero_lt_succ _) n_a0)
  refine gd_c f2 ?_
  have f3 := (tN_211 K1.1.1 (ext_is K1.2 (Nat.zero_lt_succ _) n_a0))
  refine gd_c f3 ?_
  have f20 := (tN_211 K1.1.1 (ext_is K1.2 (Nat.zero_lt_succ _) n_a0))
  refine gd_b (gX47_wanted _ _ _ ⟨K1.1.1, K1.1.2⟩ f20 h.2.1) (fun K4 => ?_)
  have f5 := (ext_is K4.2 (Nat.zero_lt_succ _) (ext_is K1.2 (Nat.zero_lt_succ _) n_a0))
  refine gd_c f5 ?_
  refine gd_b (gX46_locate _ _ _ _ _ h.2.2.1) (fun K6 => ?_)
  refine gd_fi (fun c7_0 => ?_) (fun c7_0 => ?_)
  · exact gd_z fz_0 ⟨K6.1.1, K6.1.2⟩ (ext_tr K1.2 (ext_tr K4.2 K6.2.1)) rfl
  · have f8 := (ext_is K6.2.1 (Nat.zero_lt_succ _) (ext_is K4.2 (Nat.zero_lt_succ _) (ext_is K1.2 (Nat.zero_lt_succ _) n_a0)))
    refine gd_c f8 ?_
    have f9 := (ext_is K6.2.1 (Nat.zero_lt_succ _) (ext_is K4.2 (Nat.zero_lt_succ _) (ext_is K1.2 (Nat.zero_lt_succ _) n_a0)))
    refine gd_c f9 ?_
    have f10 := (ext_is K6.2.1 (Nat.zero_lt_succ _) (ext_is K4.2 (Nat.zero_lt_succ _) (ext_is K1.2 (Nat.zero_lt_succ _) n_a0)))
    refine gd_c f10 ?_
    have f11 := (tN_212 K6.1.1 (ext_is K6.2.1 (Nat.zero_lt_succ _) (ext_is K4.2 (Nat.zero_lt_succ _) (ext_is K1.2 (Nat.zero_lt_succ _) n_a0))))
    refine gd_c f11 ?_
    have f12 := (ext_is K6.2.1 (Nat.zero_lt_succ _) (ext_is K4.2 (Nat.zero_lt_succ _) (ext_is K1.2 (Nat.zero_lt_succ _) n_a0)))
    refine gd_c f12 ?_
    have f19 := (tN_93 K6.1.1 (tN_212 K6.1.1 (ext_is K6.2.1 (Nat.zero_lt_succ _) (ext_is K4.2 (Nat.zero_lt_succ _) (ext_is K1.2 (Nat.zero_lt_succ _) n_a0)))))
    refine gd_c ⟨f19, (h.2.2.2.2 c7_0).1⟩ ?_
    have f13 := (tN_217 K6.1.1 (ext_is K6.2.1 (Nat.zero_lt_succ _) (ext_is K4.2 (Nat.zero_lt_succ _) (ext_is K1.2 (Nat.zero_lt_succ _) n_a0))))
    refine gd_c f13 ?_
    refine gd_b (gX73_store _ _ _ _ (h.2.2.2.2 c7_0).2.1) (fun K14 => ?_)
    have f15 := (ext_is K14.2 (Nat.zero_lt_succ _) (ext_is K6.2.1 (Nat.zero_lt_succ _) (ext_is K4.2 (Nat.zero_lt_succ _) (ext_is K1.2 (Nat.zero_lt_succ _) n_a0))))
    refine gd_c f15 ?_
    have f16 := (tN_211 K14.1.1 (ext_is K14.2 (Nat.zero_lt_succ _) (ext_is K6.2.1 (Nat.zero_lt_succ _) (ext_is K4.2 (Nat.zero_lt_succ _) (ext_is K1.2 (Nat.zero_lt_succ _) n_a0)))))
    refine gd_c f16 ?_
    have f18 := (tN_211 K14.1.1 (ext_is K14.2 (Nat.zero_lt_succ _) (ext_is K6.2.1 (Nat.zero_lt_succ _) (ext_is K4.2 (Nat.zero_lt_succ _) (ext_is K1.2 (Nat.zero_lt_succ _) n_a0)))))
    refine gd_b (gX47_finish _ _ _ _ ⟨K14.1.1, K14.1.2⟩ f18 (h.2.2.2.2 c7_0).2.2.1) (fun K17 => ?_)
    exact gd_z fz_1 ⟨K17.1.1, K17.1.2⟩ (ext_tr K1.2 (ext_tr K4.2 (ext_tr K6.2.1 (ext_tr K14.2 K17.2)))) rfl
noncomputable def GX46_floatStore (a0 : Nat) (M : FM) : Int32 × FM := GX46_floatStore_0 a0 M
def HX46_floatStore (a0 : Nat) (M : FM) : Prop := HX46_floatStore_0 a0 M
theorem gX46_floatStore (a0 : Nat) (M : FM) (T : Ty M) (n_a0 : fm_is M 75 75 a0 = true) (h : HX46_floatStore a0 M) : gd (FX46_floatStore fN a0 M) (GX46_floatStore a0 M) (OkZ M) := gX46_floatStore_0 a0 M T n_a0 h
noncomputable def GX59_isWritten_22 (s0 : Int32) (M : FM) : Int32 × FM :=
  (s0, M)
theorem gX59_isWritten_22 (s0 : Int32) (M : FM) (T : Ty M) (z_s0 : s0 = 0 ∨ s0 = 1) : gd (FX59_isWritten_22 s0 M) (GX59_isWritten_22 s0 M) (OkZ M) := by
  delta FX59_isWritten_22 BX59_isWritten_22
  exact gd_z z_s0 ⟨T.1, T.2⟩ (ext_r _) rfl
noncomputable def GX59_isWritten_17 (M : FM) : Int32 × FM :=
  GX59_isWritten_22 (Int32.ofInt 1) M
theorem gX59_isWritten_17 (M : FM) (T : Ty M) : gd (FX59_isWritten_17 M) (GX59_isWritten_17 M) (OkZ M) := by
  delta FX59_isWritten_17 BX59_isWritten_17
  exact gd_tZ (ext_r _) (gX59_isWritten_22 _ _ ⟨T.1, T.2⟩ fz_1 )
noncomputable def GX59_isWritten_0 (a0 : Nat) (M : FM) : Int32 × FM :=
  fi ((M.1 96 a0 0) = 0) (
    let x1 : Nat := (M.2.2 94 a0 0)
    fi ((M.1 92 x1 0) = 0) (
      GX59_isWritten_22 (Int32.ofInt 0) M) (
      GX59_isWritten_17 M)) (
    GX59_isWritten_17 M)
theorem gX59_isWritten_0 (a0 : Nat) (M : FM) (T : Ty M) (n_a0 : fm_is M 32 32 a0 = true) : gd (FX59_isWritten_0 a0 M) (GX59_isWritten_0 a0 M) (OkZ M) := by
  delta FX59_isWritten_0 BX59_isWritten_0
  refine gd_c n_a0 ?_
  refine gd_fi (fun c0_0 => ?_) (fun c0_0 => ?_)
  · refine gd_c n_a0 ?_
    have f1 := (tN_94 T.1 n_a0)
    refine gd_c f1 ?_
    refine gd_fi (fun c2_0 => ?_) (fun c2_0 => ?_)
    · exact gd_tZ (ext_r _) (gX59_isWritten_22 _ _ ⟨T.1, T.2⟩ fz_0 )
    · exact gd_tZ (ext_r _) (gX59_isWritten_17  _ ⟨T.1, T.2⟩  )
  · exact gd_tZ (ext_r _) (gX59_isWritten_17  _ ⟨T.1, T.2⟩  )
noncomputable def GX59_isWritten (a0 : Nat) (M : FM) : Int32 × FM := GX59_isWritten_0 a0 M
theorem gX59_isWritten (a0 : Nat) (M : FM) (T : Ty M) (n_a0 : fm_is M 32 32 a0 = true) : gd (FX59_isWritten a0 M) (GX59_isWritten a0 M) (OkZ M) := gX59_isWritten_0 a0 M T n_a0 
noncomputable def GX59_part_0 (a0 : Int32) (a1 : Int32) (a2 : Int32) (M : FM) : Int32 × FM :=
  (((a0.toUInt32 >>> (a1.toUInt32 &&& Int32.toUInt32 31)).toInt32 &&& (((Int32.ofInt 1) <<< (a2 &&& 31)) - (Int32.ofInt 1))), M)
theorem gX59_part_0 (a0 : Int32) (a1 : Int32) (a2 : Int32) (M : FM) (T : Ty M) : gd (FX59_part_0 a0 a1 a2 M) (GX59_part_0 a0 a1 a2 M) (OkR M) := by
  delta FX59_part_0 BX59_part_0
  exact ⟨rfl, ⟨T.1, T.2⟩, (ext_r _)⟩
noncomputable def GX59_part (a0 : Int32) (a1 : Int32) (a2 : Int32) (M : FM) : Int32 × FM := GX59_part_0 a0 a1 a2 M
theorem gX59_part (a0 : Int32) (a1 : Int32) (a2 : Int32) (M : FM) (T : Ty M) : gd (FX59_part a0 a1 a2 M) (GX59_part a0 a1 a2 M) (OkR M) := gX59_part_0 a0 a1 a2 M T 
noncomputable def GX59_modeOf_42 (s0 : Nat) (M : FM) : Nat × FM :=
  (s0, M)
theorem gX59_modeOf_42 (s0 : Nat) (M : FM) (T : Ty M) : gd (FX59_modeOf_42 s0 M) (GX59_modeOf_42 s0 M) (OkR M) := by
  delta FX59_modeOf_42 BX59_modeOf_42
  exact ⟨rfl, ⟨T.1, T.2⟩, (ext_r _)⟩
noncomputable def GX59_modeOf_22 (a0 : Nat) (s0 : Int32) (M : FM) : Nat × FM :=
  let x1 : Nat := (M.2.2 99 a0 0)
  fi ((Int32.ofNat (M.2.2 1 x1 0)) ≤ s0) (
    GX59_modeOf_42 0 M) (
    let x2 : Nat := (M.2.2 99 a0 0)
    GX59_modeOf_42 (M.2.2 3 x2 s0.toNatClampNeg) M)
def HX59_modeOf_22 (a0 : Nat) (s0 : Int32) (M : FM) : Prop := let x1 : Nat := (M.2.2 99 a0 0); (((Int32.ofNat (M.2.2 1 x1 0)) ≤ s0 → True) ∧ (¬ ((Int32.ofNat (M.2.2 1 x1 0)) ≤ s0) → let x2 : Nat := (M.2.2 99 a0 0); (fm_in M x2 s0 = true ∧ True)))
theorem gX59_modeOf_22 (a0 : Nat) (s0 : Int32) (M : FM) (T : Ty M) (n_a0 : fm_is M 32 32 a0 = true) (h : HX59_modeOf_22 a0 s0 M) : gd (FX59_modeOf_22 a0 s0 M) (GX59_modeOf_22 a0 s0 M) (OkR M) := by
  delta FX59_modeOf_22 BX59_modeOf_22
  refine gd_c n_a0 ?_
  have f0 := (fm_w (lo' := 901) (hi' := 990) rfl rfl (tN_99 T.1 n_a0))
  refine gd_c f0 ?_
  refine gd_fi (fun c1_0 => ?_) (fun c1_0 => ?_)
  · exact gd_tR (ext_r _) (gX59_modeOf_42 _ _ ⟨T.1, T.2⟩  )
  · refine gd_c n_a0 ?_
    have f2 := (fm_w (lo' := 910) (hi' := 990) rfl rfl (tN_99 T.1 n_a0))
    refine gd_c ⟨f2, (h.2 c1_0).1⟩ ?_
    exact gd_tR (ext_r _) (gX59_modeOf_42 _ _ ⟨T.1, T.2⟩  )
noncomputable def GX59_modeOf_0 (a0 : Nat) (a1 : Int32) (M : FM) : Nat × FM :=
  let r1 : Int32 × FM := GX59_part a1 (Int32.ofInt 12) (Int32.ofInt 3) M
  fi (r1.1 = (Int32.ofInt 7)) (
    GX59_modeOf_22 a0 (r1.2.1 95 a0 0) r1.2) (
    GX59_modeOf_22 a0 r1.1 r1.2)
def HX59_modeOf_0 (a0 : Nat) (a1 : Int32) (M : FM) : Prop := let r1 : Int32 × FM := GX59_part a1 (Int32.ofInt 12) (Int32.ofInt 3) M; ((r1.1 = (Int32.ofInt 7) → HX59_modeOf_22 a0 (r1.2.1 95 a0 0) r1.2) ∧ (¬ (r1.1 = (Int32.ofInt 7)) → HX59_modeOf_22 a0 r1.1 r1.2))
theorem gX59_modeOf_0 (a0 : Nat) (a1 : Int32) (M : FM) (T : Ty M) (n_a0 : fm_is M 32 32 a0 = true) (h : HX59_modeOf_0 a0 a1 M) : gd (FX59_modeOf_0 a0 a1 M) (GX59_modeOf_0 a0 a1 M) (OkR M) := by
  delta FX59_modeOf_0 BX59_modeOf_0
  refine gd_b (gX59_part _ _ _ _ ⟨T.1, T.2⟩  ) (fun K0 => ?_)
  refine gd_fi (fun c1_0 => ?_) (fun c1_0 => ?_)
  · have f2 := (ext_is K0.2 (Nat.zero_lt_succ _) n_a0)
    refine gd_c f2 ?_
    have f3 := (ext_is K0.2 (Nat.zero_lt_succ _) n_a0)
    exact gd_tR K0.2 (gX59_modeOf_22 _ _ _ ⟨K0.1.1, K0.1.2⟩ f3 (h.1 c1_0))
  · have f4 := (ext_is K0.2 (Nat.zero_lt_succ _) n_a0)
    exact gd_tR K0.2 (gX59_modeOf_22 _ _ _ ⟨K0.1.1, K0.1.2⟩ f4 (h.2 c1_0))
noncomputable def GX59_modeOf (a0 : Nat) (a1 : Int32) (M : FM) : Nat × FM := GX59_modeOf_0 a0 a1 M
def HX59_modeOf (a0 : Nat) (a1 : Int32) (M : FM) : Prop := HX59_modeOf_0 a0 a1 M
theorem gX59_modeOf (a0 : Nat) (a1 : Int32) (M : FM) (T : Ty M) (n_a0 : fm_is M 32 32 a0 = true) (h : HX59_modeOf a0 a1 M) : gd (FX59_modeOf a0 a1 M) (GX59_modeOf a0 a1 M) (OkR M) := gX59_modeOf_0 a0 a1 M T n_a0 h
noncomputable def GX59_isDouble_14 (s0 : Int32) (M : FM) : Int32 × FM :=
  (s0, M)
theorem gX59_isDouble_14 (s0 : Int32) (M : FM) (T : Ty M) (z_s0 : s0 = 0 ∨ s0 = 1) : gd (FX59_isDouble_14 s0 M) (GX59_isDouble_14 s0 M) (OkZ M) := by
  delta FX59_isDouble_14 BX59_isDouble_14
  exact gd_z z_s0 ⟨T.1, T.2⟩ (ext_r _) rfl
noncomputable def GX59_isDouble_0 (a0 : Nat) (M : FM) : Int32 × FM :=
  fi ((M.1 111 a0 0) = (Int32.ofInt 63)) (
    GX59_isDouble_14 (Int32.ofInt 1) M) (
    GX59_isDouble_14 (Int32.ofInt 0) M)
theorem gX59_isDouble_0 (a0 : Nat) (M : FM) (T : Ty M) (n_a0 : fm_is M 33 33 a0 = true) : gd (FX59_isDouble_0 a0 M) (GX59_isDouble_0 a0 M) (OkZ M) := by
  delta FX59_isDouble_0 BX59_isDouble_0
  refine gd_c n_a0 ?_
  refine gd_fi (fun c0_0 => ?_) (fun c0_0 => ?_)
  · exact gd_tZ (ext_r _) (gX59_isDouble_14 _ _ ⟨T.1, T.2⟩ fz_1 )
  · exact gd_tZ (ext_r _) (gX59_isDouble_14 _ _ ⟨T.1, T.2⟩ fz_0 )
noncomputable def GX59_isDouble (a0 : Nat) (M : FM) : Int32 × FM := GX59_isDouble_0 a0 M
theorem gX59_isDouble (a0 : Nat) (M : FM) (T : Ty M) (n_a0 : fm_is M 33 33 a0 = true) : gd (FX59_isDouble a0 M) (GX59_isDouble a0 M) (OkZ M) := gX59_isDouble_0 a0 M T n_a0 
noncomputable def GX61_top_0 (a0 : Nat) (M : FM) : Int64 × FM :=
  (((((Int64.ofInt 2) * (M.1 110 a0 0).toInt64) + (Int64.ofInt 1)) <<< ((M.1 109 a0 0).toInt64 &&& 63)), M)
theorem gX61_top_0 (a0 : Nat) (M : FM) (T : Ty M) (n_a0 : fm_is M 33 33 a0 = true) : gd (FX61_top_0 a0 M) (GX61_top_0 a0 M) (OkR M) := by
  delta FX61_top_0 BX61_top_0
  refine gd_c n_a0 ?_
  refine gd_c n_a0 ?_
  exact ⟨rfl, ⟨T.1, T.2⟩, (ext_r _)⟩
noncomputable def GX61_top (a0 : Nat) (M : FM) : Int64 × FM := GX61_top_0 a0 M
theorem gX61_top (a0 : Nat) (M : FM) (T : Ty M) (n_a0 : fm_is M 33 33 a0 = true) : gd (FX61_top a0 M) (GX61_top a0 M) (OkR M) := gX61_top_0 a0 M T n_a0 
noncomputable def GX61_quiet_0 (a0 : Nat) (M : FM) : Int64 × FM :=
  let r1 : Int64 × FM := GX61_top a0 M
  ((r1.1 ||| ((Int64.ofInt 1) <<< (((r1.2.1 109 a0 0) - (Int32.ofInt 1)).toInt64 &&& 63))), r1.2)
theorem gX61_quiet_0 (a0 : Nat) (M : FM) (T : Ty M) (n_a0 : fm_is M 33 33 a0 = true) : gd (FX61_quiet_0 a0 M) (GX61_quiet_0 a0 M) (OkR M) := by
  delta FX61_quiet_0 BX61_quiet_0
  refine gd_c n_a0 ?_
  refine gd_b (gX61_top _ _ ⟨T.1, T.2⟩ n_a0 ) (fun K0 => ?_)
  have f1 := (ext_is K0.2 (Nat.zero_lt_succ _) n_a0)
  refine gd_c f1 ?_
  exact ⟨rfl, ⟨K0.1.1, K0.1.2⟩, K0.2⟩
noncomputable def GX61_quiet (a0 : Nat) (M : FM) : Int64 × FM := GX61_quiet_0 a0 M
theorem gX61_quiet (a0 : Nat) (M : FM) (T : Ty M) (n_a0 : fm_is M 33 33 a0 = true) : gd (FX61_quiet a0 M) (GX61_quiet a0 M) (OkR M) := gX61_quiet_0 a0 M T n_a0 
noncomputable def GX59_read_42 (s0 : Int64) (M : FM) : Int64 × FM :=
  (s0, M)
theorem gX59_read_42 (s0 : Int64) (M : FM) (T : Ty M) : gd (FX59_read_42 s0 M) (GX59_read_42 s0 M) (OkR M) := by
  delta FX59_read_42 BX59_read_42
  exact ⟨rfl, ⟨T.1, T.2⟩, (ext_r _)⟩
noncomputable def GX59_read_0 (a0 : Nat) (a1 : Int32) (a2 : Nat) (M : FM) : Int64 × FM :=
  let x1 : Nat := (M.2.2 93 a0 0)
  let x2 : Int64 := (M.2.1 3 x1 a1.toNatClampNeg)
  let r3 : Int32 × FM := GX59_isDouble a2 M
  fi (r3.1 = 0) (
    fi ((lg_cmp (x2 &&& (Int64.ofInt (-4294967296))) (Int64.ofInt (-4294967296))) = 0) (
      GX59_read_42 (x2 &&& (Int64.ofInt 4294967295)) r3.2) (
      let r4 : Int64 × FM := GX61_quiet a2 r3.2
      GX59_read_42 r4.1 r4.2)) (
    GX59_read_42 x2 r3.2)
def HX59_read_0 (a0 : Nat) (a1 : Int32) (a2 : Nat) (M : FM) : Prop := let x1 : Nat := (M.2.2 93 a0 0); (fm_in M x1 a1 = true ∧ True)
theorem gX59_read_0 (a0 : Nat) (a1 : Int32) (a2 : Nat) (M : FM) (T : Ty M) (n_a0 : fm_is M 32 32 a0 = true) (n_a2 : fm_is M 33 33 a2 = true) (h : HX59_read_0 a0 a1 a2 M) : gd (FX59_read_0 a0 a1 a2 M) (GX59_read_0 a0 a1 a2 M) (OkR M) := by
  delta FX59_read_0 BX59_read_0
  refine gd_c n_a0 ?_
  have f6 := (tN_93 T.1 n_a0)
  refine gd_c ⟨f6, h.1⟩ ?_
  refine gd_b (gX59_isDouble _ _ ⟨T.1, T.2⟩ n_a2 ) (fun K0 => ?_)
  refine gd_fi (fun c1_0 => ?_) (fun c1_0 => ?_)
  · refine gd_fi (fun c2_0 => ?_) (fun c2_0 => ?_)
    · exact gd_tR K0.2.1 (gX59_read_42 _ _ ⟨K0.1.1, K0.1.2⟩  )
    · have f3 := (ext_is K0.2.1 (Nat.zero_lt_succ _) n_a2)
      refine gd_c f3 ?_
      have f5 := (ext_is K0.2.1 (Nat.zero_lt_succ _) n_a2)
      refine gd_b (gX61_quiet _ _ ⟨K0.1.1, K0.1.2⟩ f5 ) (fun K4 => ?_)
      exact gd_tR (ext_tr K0.2.1 K4.2) (gX59_read_42 _ _ ⟨K4.1.1, K4.1.2⟩  )
  · exact gd_tR K0.2.1 (gX59_read_42 _ _ ⟨K0.1.1, K0.1.2⟩  )
noncomputable def GX59_read (a0 : Nat) (a1 : Int32) (a2 : Nat) (M : FM) : Int64 × FM := GX59_read_0 a0 a1 a2 M
def HX59_read (a0 : Nat) (a1 : Int32) (a2 : Nat) (M : FM) : Prop := HX59_read_0 a0 a1 a2 M
theorem gX59_read (a0 : Nat) (a1 : Int32) (a2 : Nat) (M : FM) (T : Ty M) (n_a0 : fm_is M 32 32 a0 = true) (n_a2 : fm_is M 33 33 a2 = true) (h : HX59_read a0 a1 a2 M) : gd (FX59_read a0 a1 a2 M) (GX59_read a0 a1 a2 M) (OkR M) := gX59_read_0 a0 a1 a2 M T n_a0 n_a2 h
noncomputable def GX61_hasSign_18 (s0 : Int32) (M : FM) : Int32 × FM :=
  (s0, M)
theorem gX61_hasSign_18 (s0 : Int32) (M : FM) (T : Ty M) (z_s0 : s0 = 0 ∨ s0 = 1) : gd (FX61_hasSign_18 s0 M) (GX61_hasSign_18 s0 M) (OkZ M) := by
  delta FX61_hasSign_18 BX61_hasSign_18
  exact gd_z z_s0 ⟨T.1, T.2⟩ (ext_r _) rfl
noncomputable def GX61_hasSign_0 (a0 : Nat) (a1 : Int64) (M : FM) : Int32 × FM :=
  fi ((lg_cmp ((a1.toUInt64 >>> ((M.1 111 a0 0).toInt64.toUInt64 &&& Int64.toUInt64 63)).toInt64 &&& (Int64.ofInt 1)) (Int64.ofInt 1)) = 0) (
    GX61_hasSign_18 (Int32.ofInt 1) M) (
    GX61_hasSign_18 (Int32.ofInt 0) M)
theorem gX61_hasSign_0 (a0 : Nat) (a1 : Int64) (M : FM) (T : Ty M) (n_a0 : fm_is M 33 33 a0 = true) : gd (FX61_hasSign_0 a0 a1 M) (GX61_hasSign_0 a0 a1 M) (OkZ M) := by
  delta FX61_hasSign_0 BX61_hasSign_0
  refine gd_c n_a0 ?_
  refine gd_fi (fun c0_0 => ?_) (fun c0_0 => ?_)
  · exact gd_tZ (ext_r _) (gX61_hasSign_18 _ _ ⟨T.1, T.2⟩ fz_1 )
  · exact gd_tZ (ext_r _) (gX61_hasSign_18 _ _ ⟨T.1, T.2⟩ fz_0 )
noncomputable def GX61_hasSign (a0 : Nat) (a1 : Int64) (M : FM) : Int32 × FM := GX61_hasSign_0 a0 a1 M
theorem gX61_hasSign (a0 : Nat) (a1 : Int64) (M : FM) (T : Ty M) (n_a0 : fm_is M 33 33 a0 = true) : gd (FX61_hasSign a0 a1 M) (GX61_hasSign a0 a1 M) (OkZ M) := gX61_hasSign_0 a0 a1 M T n_a0 
noncomputable def GX61_sign_14 (s0 : Int64) (M : FM) : Int64 × FM :=
  (s0, M)
theorem gX61_sign_14 (s0 : Int64) (M : FM) (T : Ty M) : gd (FX61_sign_14 s0 M) (GX61_sign_14 s0 M) (OkR M) := by
  delta FX61_sign_14 BX61_sign_14
  exact ⟨rfl, ⟨T.1, T.2⟩, (ext_r _)⟩
noncomputable def GX61_sign_0 (a0 : Nat) (a1 : Int32) (M : FM) : Int64 × FM :=
  fi (a1 = 0) (
    GX61_sign_14 (Int64.ofInt 0) M) (
    GX61_sign_14 ((Int64.ofInt 1) <<< ((M.1 111 a0 0).toInt64 &&& 63)) M)
theorem gX61_sign_0 (a0 : Nat) (a1 : Int32) (M : FM) (T : Ty M) (n_a0 : fm_is M 33 33 a0 = true) : gd (FX61_sign_0 a0 a1 M) (GX61_sign_0 a0 a1 M) (OkR M) := by
  delta FX61_sign_0 BX61_sign_0
  refine gd_fi (fun c0_0 => ?_) (fun c0_0 => ?_)
  · exact gd_tR (ext_r _) (gX61_sign_14 _ _ ⟨T.1, T.2⟩  )
  · refine gd_c n_a0 ?_
    exact gd_tR (ext_r _) (gX61_sign_14 _ _ ⟨T.1, T.2⟩  )
noncomputable def GX61_sign (a0 : Nat) (a1 : Int32) (M : FM) : Int64 × FM := GX61_sign_0 a0 a1 M
theorem gX61_sign (a0 : Nat) (a1 : Int32) (M : FM) (T : Ty M) (n_a0 : fm_is M 33 33 a0 = true) : gd (FX61_sign a0 a1 M) (GX61_sign a0 a1 M) (OkR M) := gX61_sign_0 a0 a1 M T n_a0 
noncomputable def GX59_write_27 (a0 : Nat) (s0 : Nat) (s1 : Int32) (s2 : Int64) (M : FM) : Int32 × FM :=
  let M1 : FM := fm_sL M 3 s0 s1.toNatClampNeg s2
  let M2 : FM := fm_sI M1 96 a0 0 (Int32.ofInt 1)
  ((Int32.ofInt 0), M2)
def HX59_write_27 (a0 : Nat) (s0 : Nat) (s1 : Int32) (s2 : Int64) (M : FM) : Prop := (fm_in M s0 s1 = true ∧ True)
theorem gX59_write_27 (a0 : Nat) (s0 : Nat) (s1 : Int32) (s2 : Int64) (M : FM) (T : Ty M) (n_s0 : fm_is M 902 902 s0 = true) (n_a0 : fm_is M 32 32 a0 = true) (h : HX59_write_27 a0 s0 s1 s2 M) : gd (FX59_write_27 a0 s0 s1 s2 M) (GX59_write_27 a0 s0 s1 s2 M) (OkR M) := by
  delta FX59_write_27 BX59_write_27
  refine gd_c ⟨n_s0, h.1⟩ ?_
  refine gd_c n_a0 ?_
  refine gd_c fz_1 ?_
  exact ⟨rfl, ⟨T.1, (tyb_sIb (f := 96) rfl T.2 fz_1)⟩, (ext_dL (ext_dI (ext_r _)))⟩
noncomputable def GX59_write_0 (a0 : Nat) (a1 : Int32) (a2 : Nat) (a3 : Int64) (M : FM) : Int32 × FM :=
  let r1 : Int32 × FM := GX59_part a1 (Int32.ofInt 7) (Int32.ofInt 5) M
  let r2 : Int32 × FM := GX59_isDouble a2 r1.2
  fi (r2.1 = 0) (
    GX59_write_27 a0 (M.2.2 93 a0 0) r1.1 (a3 ||| (Int64.ofInt (-4294967296))) r2.2) (
    GX59_write_27 a0 (M.2.2 93 a0 0) r1.1 a3 r2.2)
def HX59_write_0 (a0 : Nat) (a1 : Int32) (a2 : Nat) (a3 : Int64) (M : FM) : Prop := let r1 : Int32 × FM := GX59_part a1 (Int32.ofInt 7) (Int32.ofInt 5) M; let r2 : Int32 × FM := GX59_isDouble a2 r1.2; ((r2.1 = 0 → HX59_write_27 a0 (M.2.2 93 a0 0) r1.1 (a3 ||| (Int64.ofInt (-4294967296))) r2.2) ∧ (¬ (r2.1 = 0) → HX59_write_27 a0 (M.2.2 93 a0 0) r1.1 a3 r2.2))
theorem gX59_write_0 (a0 : Nat) (a1 : Int32) (a2 : Nat) (a3 : Int64) (M : FM) (T : Ty M) (n_a0 : fm_is M 32 32 a0 = true) (n_a2 : fm_is M 33 33 a2 = true) (h : HX59_write_0 a0 a1 a2 a3 M) : gd (FX59_write_0 a0 a1 a2 a3 M) (GX59_write_0 a0 a1 a2 a3 M) (OkR M) := by
  delta FX59_write_0 BX59_write_0
  refine gd_c n_a0 ?_
  refine gd_b (gX59_part _ _ _ _ ⟨T.1, T.2⟩  ) (fun K0 => ?_)
  have f7 := (ext_is K0.2 (Nat.zero_lt_succ _) n_a2)
  refine gd_b (gX59_isDouble _ _ ⟨K0.1.1, K0.1.2⟩ f7 ) (fun K1 => ?_)
  refine gd_fi (fun c2_0 => ?_) (fun c2_0 => ?_)
  · have f3 := (ext_is K1.2.1 (Nat.zero_lt_succ _) (ext_is K0.2 (Nat.zero_lt_succ _) (tN_93 T.1 n_a0)))
    have f4 := (ext_is K1.2.1 (Nat.zero_lt_succ _) (ext_is K0.2 (Nat.zero_lt_succ _) n_a0))
    exact gd_tR (ext_tr K0.2 K1.2.1) (gX59_write_27 _ _ _ _ _ ⟨K1.1.1, K1.1.2⟩ f3 f4 (h.1 c2_0))
  · have f5 := (ext_is K1.2.1 (Nat.zero_lt_succ _) (ext_is K0.2 (Nat.zero_lt_succ _) (tN_93 T.1 n_a0)))
    have f6 := (ext_is K1.2.1 (Nat.zero_lt_succ _) (ext_is K0.2 (Nat.zero_lt_succ _) n_a0))
    exact gd_tR (ext_tr K0.2 K1.2.1) (gX59_write_27 _ _ _ _ _ ⟨K1.1.1, K1.1.2⟩ f5 f6 (h.2 c2_0))
noncomputable def GX59_write (a0 : Nat) (a1 : Int32) (a2 : Nat) (a3 : Int64) (M : FM) : Int32 × FM := GX59_write_0 a0 a1 a2 a3 M
def HX59_write (a0 : Nat) (a1 : Int32) (a2 : Nat) (a3 : Int64) (M : FM) : Prop := HX59_write_0 a0 a1 a2 a3 M
theorem gX59_write (a0 : Nat) (a1 : Int32) (a2 : Nat) (a3 : Int64) (M : FM) (T : Ty M) (n_a0 : fm_is M 32 32 a0 = true) (n_a2 : fm_is M 33 33 a2 = true) (h : HX59_write a0 a1 a2 a3 M) : gd (FX59_write a0 a1 a2 a3 M) (GX59_write a0 a1 a2 a3 M) (OkR M) := gX59_write_0 a0 a1 a2 a3 M T n_a0 n_a2 h
noncomputable def GX59_changeSign_92 (a0 : Nat) (a1 : Int32) (a2 : Nat) (a3 : Int64) (s0 : Int32) (M : FM) : Int32 × FM :=
  let r1 : Int64 × FM := GX61_sign a2 (Int32.ofInt 1) M
  let r2 : Int64 × FM := GX61_sign a2 s0 r1.2
  let r3 : Int32 × FM := GX59_write a0 a1 a2 ((a3 &&& (r1.1 ^^^ (Int64.ofInt (-1)))) ||| r2.1) r2.2
  (r3.1, r3.2)
def HX59_changeSign_92 (a0 : Nat) (a1 : Int32) (a2 : Nat) (a3 : Int64) (s0 : Int32) (M : FM) : Prop := let r1 : Int64 × FM := GX61_sign a2 (Int32.ofInt 1) M; let r2 : Int64 × FM := GX61_sign a2 s0 r1.2; (HX59_write a0 a1 a2 ((a3 &&& (r1.1 ^^^ (Int64.ofInt (-1)))) ||| r2.1) r2.2 ∧ True)
theorem gX59_changeSign_92 (a0 : Nat) (a1 : Int32) (a2 : Nat) (a3 : Int64) (s0 : Int32) (M : FM) (T : Ty M) (n_a2 : fm_is M 33 33 a2 = true) (n_a0 : fm_is M 32 32 a0 = true) (h : HX59_changeSign_92 a0 a1 a2 a3 s0 M) : gd (FX59_changeSign_92 a0 a1 a2 a3 s0 M) (GX59_changeSign_92 a0 a1 a2 a3 s0 M) (OkR M) := by
  delta FX59_changeSign_92 BX59_changeSign_92
  refine gd_c n_a2 ?_
  refine gd_b (gX61_sign _ _ _ ⟨T.1, T.2⟩ n_a2 ) (fun K0 => ?_)
  have f1 := (ext_is K0.2 (Nat.zero_lt_succ _) n_a2)
  refine gd_c f1 ?_
  have f7 := (ext_is K0.2 (Nat.zero_lt_succ _) n_a2)
  refine gd_b (gX61_sign _ _ _ ⟨K0.1.1, K0.1.2⟩ f7 ) (fun K2 => ?_)
  have f3 := (ext_is K2.2 (Nat.zero_lt_succ _) (ext_is K0.2 (Nat.zero_lt_succ _) n_a0))
  refine gd_c f3 ?_
  have f5 := (ext_is K2.2 (Nat.zero_lt_succ _) (ext_is K0.2 (Nat.zero_lt_succ _) n_a0))
  have f6 := (ext_is K2.2 (Nat.zero_lt_succ _) (ext_is K0.2 (Nat.zero_lt_succ _) n_a2))
  refine gd_b (gX59_write _ _ _ _ _ ⟨K2.1.1, K2.1.2⟩ f5 f6 h.1) (fun K4 => ?_)
  exact ⟨rfl, ⟨K4.1.1, K4.1.2⟩, (ext_tr K0.2 (ext_tr K2.2 K4.2))⟩
noncomputable def GX59_changeSign_0 (a0 : Nat) (a1 : Int32) (a2 : Nat) (M : FM) : Int32 × FM :=
  let r1 : Int32 × FM := GX59_part a1 (Int32.ofInt 15) (Int32.ofInt 5) M
  let r2 : Int64 × FM := GX59_read a0 r1.1 a2 r1.2
  let r3 : Int32 × FM := GX59_part a1 (Int32.ofInt 20) (Int32.ofInt 5) r2.2
  let r4 : Int64 × FM := GX59_read a0 r3.1 a2 r3.2
  let r5 : Int32 × FM := GX61_hasSign a2 r4.1 r4.2
  let r6 : Int32 × FM := GX59_part a1 (Int32.ofInt 12) (Int32.ofInt 3) r5.2
  fi (r6.1 ≤ (Int32.ofInt 2)) (
    fi (r6.1 = 0) (
      GX59_changeSign_92 a0 a1 a2 r2.1 r5.1 r6.2) (
      fi (r6.1 = (Int32.ofInt 1)) (
        fi (r5.1 = 0) (
          GX59_changeSign_92 a0 a1 a2 r2.1 (Int32.ofInt 1) r6.2) (
          GX59_changeSign_92 a0 a1 a2 r2.1 (Int32.ofInt 0) r6.2)) (
        let r7 : Int32 × FM := GX61_hasSign a2 r2.1 r6.2
        fi (r5.1 = r7.1) (
          GX59_changeSign_92 a0 a1 a2 r2.1 (Int32.ofInt 0) r7.2) (
          GX59_changeSign_92 a0 a1 a2 r2.1 (Int32.ofInt 1) r7.2)))) (
    ((Int32.ofInt (-1)), r6.2))
def HX59_changeSign_0 (a0 : Nat) (a1 : Int32) (a2 : Nat) (M : FM) : Prop := let r1 : Int32 × FM := GX59_part a1 (Int32.ofInt 15) (Int32.ofInt 5) M; (HX59_read a0 r1.1 a2 r1.2 ∧ let r2 : Int64 × FM := GX59_read a0 r1.1 a2 r1.2; let r3 : Int32 × FM := GX59_part a1 (Int32.ofInt 20) (Int32.ofInt 5) r2.2; (HX59_read a0 r3.1 a2 r3.2 ∧ let r4 : Int64 × FM := GX59_read a0 r3.1 a2 r3.2; let r5 : Int32 × FM := GX61_hasSign a2 r4.1 r4.2; let r6 : Int32 × FM := GX59_part a1 (Int32.ofInt 12) (Int32.ofInt 3) r5.2; ((r6.1 ≤ (Int32.ofInt 2) → ((r6.1 = 0 → HX59_changeSign_92 a0 a1 a2 r2.1 r5.1 r6.2) ∧ (¬ (r6.1 = 0) → ((r6.1 = (Int32.ofInt 1) → ((r5.1 = 0 → HX59_changeSign_92 a0 a1 a2 r2.1 (Int32.ofInt 1) r6.2) ∧ (¬ (r5.1 = 0) → HX59_changeSign_92 a0 a1 a2 r2.1 (Int32.ofInt 0) r6.2))) ∧ (¬ (r6.1 = (Int32.ofInt 1)) → let r7 : Int32 × FM := GX61_hasSign a2 r2.1 r6.2; ((r5.1 = r7.1 → HX59_changeSign_92 a0 a1 a2 r2.1 (Int32.ofInt 0) r7.2) ∧ (¬ (r5.1 = r7.1) → HX59_changeSign_92 a0 a1 a2 r2.1 (Int32.ofInt 1) r7.2))))))) ∧ (¬ (r6.1 ≤ (Int32.ofInt 2)) → True))))
theorem gX59_changeSign_0 (a0 : Nat) (a1 : Int32) (a2 : Nat) (M : FM) (T : Ty M) (n_a0 : fm_is M 32 32 a0 = true) (n_a2 : fm_is M 33 33 a2 = true) (h : HX59_changeSign_0 a0 a1 a2 M) : gd (FX59_changeSign_0 a0 a1 a2 M) (GX59_changeSign_0 a0 a1 a2 M) (OkR M) := by
  delta FX59_changeSign_0 BX59_changeSign_0
  refine gd_b (gX59_part _ _ _ _ ⟨T.1, T.2⟩  ) (fun K0 => ?_)
  have f1 := (ext_is K0.2 (Nat.zero_lt_succ _) n_a0)
  refine gd_c f1 ?_
  have f30 := (ext_is K0.2 (Nat.zero_lt_succ _) n_a0)
  have f31 := (ext_is K0.2 (Nat.zero_lt_succ _) n_a2)
  refine gd_b (gX59_read _ _ _ _ ⟨K0.1.1, K0.1.2⟩ f30 f31 h.1) (fun K2 => ?_)
  refine gd_b (gX59_part _ _ _ _ ⟨K2.1.1, K2.1.2⟩  ) (fun K3 => ?_)
  have f4 := (ext_is K3.2 (Nat.zero_lt_succ _) (ext_is K2.2 (Nat.zero_lt_succ _) (ext_is K0.2 (Nat.zero_lt_succ _) n_a0)))
  refine gd_c f4 ?_
  have f28 := (ext_is K3.2 (Nat.zero_lt_succ _) (ext_is K2.2 (Nat.zero_lt_succ _) (ext_is K0.2 (Nat.zero_lt_succ _) n_a0)))
  have f29 := (ext_is K3.2 (Nat.zero_lt_succ _) (ext_is K2.2 (Nat.zero_lt_succ _) (ext_is K0.2 (Nat.zero_lt_succ _) n_a2)))
  refine gd_b (gX59_read _ _ _ _ ⟨K3.1.1, K3.1.2⟩ f28 f29 h.2.1) (fun K5 => ?_)
  have f6 := (ext_is K5.2 (Nat.zero_lt_succ _) (ext_is K3.2 (Nat.zero_lt_succ _) (ext_is K2.2 (Nat.zero_lt_succ _) (ext_is K0.2 (Nat.zero_lt_succ _) n_a2))))
  refine gd_c f6 ?_
  have f27 := (ext_is K5.2 (Nat.zero_lt_succ _) (ext_is K3.2 (Nat.zero_lt_succ _) (ext_is K2.2 (Nat.zero_lt_succ _) (ext_is K0.2 (Nat.zero_lt_succ _) n_a2))))
  refine gd_b (gX61_hasSign _ _ _ ⟨K5.1.1, K5.1.2⟩ f27 ) (fun K7 => ?_)
  refine gd_b (gX59_part _ _ _ _ ⟨K7.1.1, K7.1.2⟩  ) (fun K8 => ?_)
  refine gd_fi (fun c9_0 => ?_) (fun c9_0 => ?_)
  · refine gd_fi (fun c10_0 => ?_) (fun c10_0 => ?_)
    · have f11 := (ext_is K8.2 (Nat.zero_lt_succ _) (ext_is K7.2.1 (Nat.zero_lt_succ _) (ext_is K5.2 (Nat.zero_lt_succ _) (ext_is K3.2 (Nat.zero_lt_succ _) (ext_is K2.2 (Nat.zero_lt_succ _) (ext_is K0.2 (Nat.zero_lt_succ _) n_a2))))))
      have f12 := (ext_is K8.2 (Nat.zero_lt_succ _) (ext_is K7.2.1 (Nat.zero_lt_succ _) (ext_is K5.2 (Nat.zero_lt_succ _) (ext_is K3.2 (Nat.zero_lt_succ _) (ext_is K2.2 (Nat.zero_lt_succ _) (ext_is K0.2 (Nat.zero_lt_succ _) n_a0))))))
      exact gd_tR (ext_tr K0.2 (ext_tr K2.2 (ext_tr K3.2 (ext_tr K5.2 (ext_tr K7.2.1 K8.2))))) (gX59_changeSign_92 _ _ _ _ _ _ ⟨K8.1.1, K8.1.2⟩ f11 f12 ((h.2.2.1 c9_0).1 c10_0))
    · refine gd_fi (fun c13_0 => ?_) (fun c13_0 => ?_)
      · refine gd_fi (fun c14_0 => ?_) (fun c14_0 => ?_)
        · have f15 := (ext_is K8.2 (Nat.zero_lt_succ _) (ext_is K7.2.1 (Nat.zero_lt_succ _) (ext_is K5.2 (Nat.zero_lt_succ _) (ext_is K3.2 (Nat.zero_lt_succ _) (ext_is K2.2 (Nat.zero_lt_succ _) (ext_is K0.2 (Nat.zero_lt_succ _) n_a2))))))
          have f16 := (ext_is K8.2 (Nat.zero_lt_succ _) (ext_is K7.2.1 (Nat.zero_lt_succ _) (ext_is K5.2 (Nat.zero_lt_succ _) (ext_is K3.2 (Nat.zero_lt_succ _) (ext_is K2.2 (Nat.zero_lt_succ _) (ext_is K0.2 (Nat.zero_lt_succ _) n_a0))))))
          exact gd_tR (ext_tr K0.2 (ext_tr K2.2 (ext_tr K3.2 (ext_tr K5.2 (ext_tr K7.2.1 K8.2))))) (gX59_changeSign_92 _ _ _ _ _ _ ⟨K8.1.1, K8.1.2⟩ f15 f16 ((((h.2.2.1 c9_0).2 c10_0).1 c13_0).1 c14_0))
        · have f17 := (ext_is K8.2 (Nat.zero_lt_succ _) (ext_is K7.2.1 (Nat.zero_lt_succ _) (ext_is K5.2 (Nat.zero_lt_succ _) (ext_is K3.2 (Nat.zero_lt_succ _) (ext_is K2.2 (Nat.zero_lt_succ _) (ext_is K0.2 (Nat.zero_lt_succ _) n_a2))))))
          have f18 := (ext_is K8.2 (Nat.zero_lt_succ _) (ext_is K7.2.1 (Nat.zero_lt_succ _) (ext_is K5.2 (Nat.zero_lt_succ _) (ext_is K3.2 (Nat.zero_lt_succ _) (ext_is K2.2 (Nat.zero_lt_succ _) (ext_is K0.2 (Nat.zero_lt_succ _) n_a0))))))
          exact gd_tR (ext_tr K0.2 (ext_tr K2.2 (ext_tr K3.2 (ext_tr K5.2 (ext_tr K7.2.1 K8.2))))) (gX59_changeSign_92 _ _ _ _ _ _ ⟨K8.1.1, K8.1.2⟩ f17 f18 ((((h.2.2.1 c9_0).2 c10_0).1 c13_0).2 c14_0))
      · have f19 := (ext_is K8.2 (Nat.zero_lt_succ _) (ext_is K7.2.1 (Nat.zero_lt_succ _) (ext_is K5.2 (Nat.zero_lt_succ _) (ext_is K3.2 (Nat.zero_lt_succ _) (ext_is K2.2 (Nat.zero_lt_succ _) (ext_is K0.2 (Nat.zero_lt_succ _) n_a2))))))
        refine gd_c f19 ?_
        have f26 := (ext_is K8.2 (Nat.zero_lt_succ _) (ext_is K7.2.1 (Nat.zero_lt_succ _) (ext_is K5.2 (Nat.zero_lt_succ _) (ext_is K3.2 (Nat.zero_lt_succ _) (ext_is K2.2 (Nat.zero_lt_succ _) (ext_is K0.2 (Nat.zero_lt_succ _) n_a2))))))
        refine gd_b (gX61_hasSign _ _ _ ⟨K8.1.1, K8.1.2⟩ f26 ) (fun K20 => ?_)
        refine gd_fi (fun c21_0 => ?_) (fun c21_0 => ?_)
        · have f22 := (ext_is K20.2.1 (Nat.zero_lt_succ _) (ext_is K8.2 (Nat.zero_lt_succ _) (ext_is K7.2.1 (Nat.zero_lt_succ _) (ext_is K5.2 (Nat.zero_lt_succ _) (ext_is K3.2 (Nat.zero_lt_succ _) (ext_is K2.2 (Nat.zero_lt_succ _) (ext_is K0.2 (Nat.zero_lt_succ _) n_a2)))))))
          have f23 := (ext_is K20.2.1 (Nat.zero_lt_succ _) (ext_is K8.2 (Nat.zero_lt_succ _) (ext_is K7.2.1 (Nat.zero_lt_succ _) (ext_is K5.2 (Nat.zero_lt_succ _) (ext_is K3.2 (Nat.zero_lt_succ _) (ext_is K2.2 (Nat.zero_lt_succ _) (ext_is K0.2 (Nat.zero_lt_succ _) n_a0)))))))
          exact gd_tR (ext_tr K0.2 (ext_tr K2.2 (ext_tr K3.2 (ext_tr K5.2 (ext_tr K7.2.1 (ext_tr K8.2 K20.2.1)))))) (gX59_changeSign_92 _ _ _ _ _ _ ⟨K20.1.1, K20.1.2⟩ f22 f23 ((((h.2.2.1 c9_0).2 c10_0).2 c13_0).1 c21_0))
        · have f24 := (ext_is K20.2.1 (Nat.zero_lt_succ _) (ext_is K8.2 (Nat.zero_lt_succ _) (ext_is K7.2.1 (Nat.zero_lt_succ _) (ext_is K5.2 (Nat.zero_lt_succ _) (ext_is K3.2 (Nat.zero_lt_succ _) (ext_is K2.2 (Nat.zero_lt_succ _) (ext_is K0.2 (Nat.zero_lt_succ _) n_a2)))))))
          have f25 := (ext_is K20.2.1 (Nat.zero_lt_succ _) (ext_is K8.2 (Nat.zero_lt_succ _) (ext_is K7.2.1 (Nat.zero_lt_succ _) (ext_is K5.2 (Nat.zero_lt_succ _) (ext_is K3.2 (Nat.zero_lt_succ _) (ext_is K2.2 (Nat.zero_lt_succ _) (ext_is K0.2 (Nat.zero_lt_succ _) n_a0)))))))
          exact gd_tR (ext_tr K0.2 (ext_tr K2.2 (ext_tr K3.2 (ext_tr K5.2 (ext_tr K7.2.1 (ext_tr K8.2 K20.2.1)))))) (gX59_changeSign_92 _ _ _ _ _ _ ⟨K20.1.1, K20.1.2⟩ f24 f25 ((((h.2.2.1 c9_0).2 c10_0).2 c13_0).2 c21_0))
  · exact ⟨rfl, ⟨K8.1.1, K8.1.2⟩, (ext_tr K0.2 (ext_tr K2.2 (ext_tr K3.2 (ext_tr K5.2 (ext_tr K7.2.1 K8.2)))))⟩
noncomputable def GX59_changeSign (a0 : Nat) (a1 : Int32) (a2 : Nat) (M : FM) : Int32 × FM := GX59_changeSign_0 a0 a1 a2 M
def HX59_changeSign (a0 : Nat) (a1 : Int32) (a2 : Nat) (M : FM) : Prop := HX59_changeSign_0 a0 a1 a2 M
theorem gX59_changeSign (a0 : Nat) (a1 : Int32) (a2 : Nat) (M : FM) (T : Ty M) (n_a0 : fm_is M 32 32 a0 = true) (n_a2 : fm_is M 33 33 a2 = true) (h : HX59_changeSign a0 a1 a2 M) : gd (FX59_changeSign a0 a1 a2 M) (GX59_changeSign a0 a1 a2 M) (OkR M) := gX59_changeSign_0 a0 a1 a2 M T n_a0 n_a2 h
noncomputable def GX71_become_0 (a0 : Nat) (a1 : Nat) (a2 : Int32) (M : FM) : FM :=
  let M1 : FM := fm_sR M 114 a0 0 a1
  let M2 : FM := fm_sI M1 115 a0 0 a2
  M2
theorem gX71_become_0 (a0 : Nat) (a1 : Nat) (a2 : Int32) (M : FM) (T : Ty M) (n_a0 : fm_is M 39 39 a0 = true) (n_a1 : fm_is M 2 2 a1 = true) (z_a2 : a2 = 0 ∨ a2 = 1) : gd (FX71_become_0 a0 a1 a2 M) (GX71_become_0 a0 a1 a2 M) (OkV M) := by
  delta FX71_become_0 BX71_become_0
  refine gd_c n_a0 ?_
  have TR0 : TyR (fm_sR M 114 a0 0 a1).2.2 := (tS_114 T.1 n_a1)
  have BR0 : TyB (fm_sR M 114 a0 0 a1) := (tyb_sR (f := 114) (by decide) T.2)
  refine gd_c n_a0 ?_
  refine gd_c z_a2 ?_
  exact ⟨rfl, ⟨TR0, (tyb_sIb (f := 115) rfl BR0 z_a2)⟩, (ext_dR (by decide) (ext_dI (ext_r _)))⟩
noncomputable def GX71_become (a0 : Nat) (a1 : Nat) (a2 : Int32) (M : FM) : FM := GX71_become_0 a0 a1 a2 M
theorem gX71_become (a0 : Nat) (a1 : Nat) (a2 : Int32) (M : FM) (T : Ty M) (n_a0 : fm_is M 39 39 a0 = true) (n_a1 : fm_is M 2 2 a1 = true) (z_a2 : a2 = 0 ∨ a2 = 1) : gd (FX71_become a0 a1 a2 M) (GX71_become a0 a1 a2 M) (OkV M) := gX71_become_0 a0 a1 a2 M T n_a0 n_a1 z_a2 
noncomputable def GX62_set_0 (a0 : Nat) (a1 : Int64) (M : FM) : FM :=
  let M1 : FM := fm_sL M 119 a0 0 (Int64.ofInt 0)
  let M2 : FM := fm_sL M1 120 a0 0 a1
  M2
theorem gX62_set_0 (a0 : Nat) (a1 : Int64) (M : FM) (T : Ty M) (n_a0 : fm_is M 40 40 a0 = true) : gd (FX62_set_0 a0 a1 M) (GX62_set_0 a0 a1 M) (OkV M) := by
  delta FX62_set_0 BX62_set_0
  refine gd_c n_a0 ?_
  refine gd_c n_a0 ?_
  exact ⟨rfl, ⟨T.1, T.2⟩, (ext_dL (ext_dL (ext_r _)))⟩
noncomputable def GX62_set (a0 : Nat) (a1 : Int64) (M : FM) : FM := GX62_set_0 a0 a1 M
theorem gX62_set (a0 : Nat) (a1 : Int64) (M : FM) (T : Ty M) (n_a0 : fm_is M 40 40 a0 = true) : gd (FX62_set a0 a1 M) (GX62_set a0 a1 M) (OkV M) := gX62_set_0 a0 a1 M T n_a0 
noncomputable def GX71_number_16 (a0 : Nat) (a1 : Int32) (a2 : Int64) (a4 : Int32) (s0 : Nat) (s1 : Nat) (M : FM) : FM :=
  let M1 : FM := GX71_become s0 s1 a1 M
  let x2 : Nat := (M1.2.2 117 a0 0)
  let M3 : FM := GX62_set x2 a2 M1
  let M4 : FM := fm_sI M3 116 a0 0 a4
  M4
theorem gX71_number_16 (a0 : Nat) (a1 : Int32) (a2 : Int64) (a4 : Int32) (s0 : Nat) (s1 : Nat) (M : FM) (T : Ty M) (n_s0 : fm_is M 39 39 s0 = true) (n_s1 : fm_is M 2 2 s1 = true) (z_a1 : a1 = 0 ∨ a1 = 1) (n_a0 : fm_is M 39 39 a0 = true) : gd (FX71_number_16 a0 a1 a2 a4 s0 s1 M) (GX71_number_16 a0 a1 a2 a4 s0 s1 M) (OkV M) := by
  delta FX71_number_16 BX71_number_16
  refine gd_c n_s0 ?_
  refine gd_b (gX71_become _ _ _ _ ⟨T.1, T.2⟩ n_s0 n_s1 z_a1 ) (fun K0 => ?_)
  have f1 := (ext_is K0.2 (Nat.zero_lt_succ _) n_a0)
  refine gd_c f1 ?_
  have f2 := (tN_117 K0.1.1 (ext_is K0.2 (Nat.zero_lt_succ _) n_a0))
  refine gd_c f2 ?_
  have f5 := (tN_117 K0.1.1 (ext_is K0.2 (Nat.zero_lt_succ _) n_a0))
  refine gd_b (gX62_set _ _ _ ⟨K0.1.1, K0.1.2⟩ f5 ) (fun K3 => ?_)
  have f4 := (ext_is K3.2 (Nat.zero_lt_succ _) (ext_is K0.2 (Nat.zero_lt_succ _) n_a0))
  refine gd_c f4 ?_
  exact ⟨rfl, ⟨K3.1.1, (tyb_sI (f := 116) rfl K3.1.2)⟩, (ext_tr K0.2 (ext_tr K3.2 (ext_dI (ext_r _))))⟩
noncomputable def GX71_number_0 (a0 : Nat) (a1 : Int32) (a2 : Int64) (a4 : Int32) (M : FM) : FM :=
  fi ((lg_cmp a2 (Int64.ofInt 0)) = 0) (
    GX71_number_16 a0 a1 a2 a4 a0 6 M) (
    GX71_number_16 a0 a1 a2 a4 a0 7 M)
theorem gX71_number_0 (a0 : Nat) (a1 : Int32) (a2 : Int64) (a4 : Int32) (M : FM) (T : Ty M) (n_a0 : fm_is M 39 39 a0 = true) (z_a1 : a1 = 0 ∨ a1 = 1) : gd (FX71_number_0 a0 a1 a2 a4 M) (GX71_number_0 a0 a1 a2 a4 M) (OkV M) := by
  delta FX71_number_0 BX71_number_0
  refine gd_fi (fun c0_0 => ?_) (fun c0_0 => ?_)
  · have f1 := (tC_6 T.1)
    exact gd_tV (ext_r _) (gX71_number_16 _ _ _ _ _ _ _ ⟨T.1, T.2⟩ n_a0 f1 z_a1 n_a0 )
  · have f2 := (tC_7 T.1)
    exact gd_tV (ext_r _) (gX71_number_16 _ _ _ _ _ _ _ ⟨T.1, T.2⟩ n_a0 f2 z_a1 n_a0 )
noncomputable def GX71_number (a0 : Nat) (a1 : Int32) (a2 : Int64) (a4 : Int32) (M : FM) : FM := GX71_number_0 a0 a1 a2 a4 M
theorem gX71_number (a0 : Nat) (a1 : Int32) (a2 : Int64) (a4 : Int32) (M : FM) (T : Ty M) (n_a0 : fm_is M 39 39 a0 = true) (z_a1 : a1 = 0 ∨ a1 = 1) : gd (FX71_number a0 a1 a2 a4 M) (GX71_number a0 a1 a2 a4 M) (OkV M) := gX71_number_0 a0 a1 a2 a4 M T n_a0 z_a1 
noncomputable def GX61_take_158 (M : FM) : FM :=
  M
theorem gX61_take_158 (M : FM) (T : Ty M) : gd (FX61_take_158 M) (GX61_take_158 M) (OkV M) := by
  delta FX61_take_158 BX61_take_158
  exact ⟨rfl, ⟨T.1, T.2⟩, (ext_r _)⟩
noncomputable def GX61_take_145 (a0 : Nat) (s0 : Nat) (s1 : Int32) (s2 : Int64) (s3 : Int32) (M : FM) : FM :=
  let M1 : FM := GX71_number s0 s1 s2 ((s3 - (M.1 110 a0 0)) - (M.1 109 a0 0)) M
  GX61_take_158 M1
theorem gX61_take_145 (a0 : Nat) (s0 : Nat) (s1 : Int32) (s2 : Int64) (s3 : Int32) (M : FM) (T : Ty M) (n_a0 : fm_is M 33 33 a0 = true) (n_s0 : fm_is M 39 39 s0 = true) (z_s1 : s1 = 0 ∨ s1 = 1) : gd (FX61_take_145 a0 s0 s1 s2 s3 M) (GX61_take_145 a0 s0 s1 s2 s3 M) (OkV M) := by
  delta FX61_take_145 BX61_take_145
  refine gd_c n_a0 ?_
  refine gd_c n_a0 ?_
  refine gd_c n_s0 ?_
  refine gd_b (gX71_number _ _ _ _ _ ⟨T.1, T.2⟩ n_s0 z_s1 ) (fun K0 => ?_)
  exact gd_tV K0.2 (gX61_take_158  _ ⟨K0.1.1, K0.1.2⟩  )
noncomputable def GX61_take_134 (a0 : Nat) (a6 : Int32) (s0 : Nat) (s1 : Int32) (s2 : Int64) (M : FM) : FM :=
  fi (a6 = 0) (
    GX61_take_145 a0 s0 s1 s2 (Int32.ofInt 1) M) (
    GX61_take_145 a0 s0 s1 s2 a6 M)
theorem gX61_take_134 (a0 : Nat) (a6 : Int32) (s0 : Nat) (s1 : Int32) (s2 : Int64) (M : FM) (T : Ty M) (n_a0 : fm_is M 33 33 a0 = true) (n_s0 : fm_is M 39 39 s0 = true) (z_s1 : s1 = 0 ∨ s1 = 1) : gd (FX61_take_134 a0 a6 s0 s1 s2 M) (GX61_take_134 a0 a6 s0 s1 s2 M) (OkV M) := by
  delta FX61_take_134 BX61_take_134
  refine gd_fi (fun c0_0 => ?_) (fun c0_0 => ?_)
  · exact gd_tV (ext_r _) (gX61_take_145 _ _ _ _ _ _ ⟨T.1, T.2⟩ n_a0 n_s0 z_s1 )
  · exact gd_tV (ext_r _) (gX61_take_145 _ _ _ _ _ _ ⟨T.1, T.2⟩ n_a0 n_s0 z_s1 )
noncomputable def GX61_take_104 (a7 : Int32) (s0 : Nat) (s1 : Nat) (M : FM) : FM :=
  let M1 : FM := GX71_become s0 s1 a7 M
  GX61_take_158 M1
theorem gX61_take_104 (a7 : Int32) (s0 : Nat) (s1 : Nat) (M : FM) (T : Ty M) (n_s0 : fm_is M 39 39 s0 = true) (n_s1 : fm_is M 2 2 s1 = true) (z_a7 : a7 = 0 ∨ a7 = 1) : gd (FX61_take_104 a7 s0 s1 M) (GX61_take_104 a7 s0 s1 M) (OkV M) := by
  delta FX61_take_104 BX61_take_104
  refine gd_c n_s0 ?_
  refine gd_b (gX71_become _ _ _ _ ⟨T.1, T.2⟩ n_s0 n_s1 z_a7 ) (fun K0 => ?_)
  exact gd_tV K0.2 (gX61_take_158  _ ⟨K0.1.1, K0.1.2⟩  )
noncomputable def GX61_take_74 (a3 : Nat) (a4 : Int64) (a7 : Int32) (s0 : Int32) (M : FM) : FM :=
  fi ((lg_cmp a4 (Int64.ofInt 0)) = 0) (
    GX61_take_104 a7 a3 8 M) (
    fi (s0 = 0) (
      GX61_take_104 a7 a3 10 M) (
      GX61_take_104 a7 a3 9 M))
theorem gX61_take_74 (a3 : Nat) (a4 : Int64) (a7 : Int32) (s0 : Int32) (M : FM) (T : Ty M) (n_a3 : fm_is M 39 39 a3 = true) (z_a7 : a7 = 0 ∨ a7 = 1) : gd (FX61_take_74 a3 a4 a7 s0 M) (GX61_take_74 a3 a4 a7 s0 M) (OkV M) := by
  delta FX61_take_74 BX61_take_74
  refine gd_fi (fun c0_0 => ?_) (fun c0_0 => ?_)
  · have f1 := (tC_8 T.1)
    exact gd_tV (ext_r _) (gX61_take_104 _ _ _ _ ⟨T.1, T.2⟩ n_a3 f1 z_a7 )
  · refine gd_fi (fun c2_0 => ?_) (fun c2_0 => ?_)
    · have f3 := (tC_10 T.1)
      exact gd_tV (ext_r _) (gX61_take_104 _ _ _ _ ⟨T.1, T.2⟩ n_a3 f3 z_a7 )
    · have f4 := (tC_9 T.1)
      exact gd_tV (ext_r _) (gX61_take_104 _ _ _ _ ⟨T.1, T.2⟩ n_a3 f4 z_a7 )
noncomputable def GX61_take_0 (a0 : Nat) (a1 : Int64) (a3 : Nat) (M : FM) : FM :=
  let x1 : Int64 := (a1 &&& (((Int64.ofInt 1) <<< ((M.1 109 a0 0).toInt64 &&& 63)) - (Int64.ofInt 1)))
  let x2 : Int32 := (((a1.toUInt64 >>> ((M.1 109 a0 0).toInt64.toUInt64 &&& Int64.toUInt64 63)).toInt64).toInt32 &&& (((Int32.ofInt 2) * (M.1 110 a0 0)) + (Int32.ofInt 1)))
  let r3 : Int32 × FM := GX61_hasSign a0 a1 M
  let M4 : FM := fm_sL r3.2 118 a3 0 a1
  fi (x2 = (((Int32.ofInt 2) * (M4.1 110 a0 0)) + (Int32.ofInt 1))) (
    fi ((lg_cmp ((x1.toUInt64 >>> (((M4.1 109 a0 0) - (Int32.ofInt 1)).toInt64.toUInt64 &&& Int64.toUInt64 63)).toInt64) (Int64.ofInt 1)) = 0) (
      GX61_take_74 a3 x1 r3.1 (Int32.ofInt 1) M4) (
      GX61_take_74 a3 x1 r3.1 (Int32.ofInt 0) M4)) (
    fi (x2 = 0) (
      GX61_take_134 a0 x2 a3 r3.1 x1 M4) (
      GX61_take_134 a0 x2 a3 r3.1 (((Int64.ofInt 1) <<< ((M4.1 109 a0 0).toInt64 &&& 63)) ||| x1) M4))
theorem gX61_take_0 (a0 : Nat) (a1 : Int64) (a3 : Nat) (M : FM) (T : Ty M) (n_a0 : fm_is M 33 33 a0 = true) (n_a3 : fm_is M 39 39 a3 = true) : gd (FX61_take_0 a0 a1 a3 M) (GX61_take_0 a0 a1 a3 M) (OkV M) := by
  delta FX61_take_0 BX61_take_0
  refine gd_c n_a0 ?_
  refine gd_c n_a0 ?_
  refine gd_c n_a0 ?_
  refine gd_c n_a0 ?_
  refine gd_b (gX61_hasSign _ _ _ ⟨T.1, T.2⟩ n_a0 ) (fun K0 => ?_)
  have f1 := (ext_is K0.2.1 (Nat.zero_lt_succ _) n_a3)
  refine gd_c f1 ?_
  have f2 := (ext_is K0.2.1 (Nat.zero_lt_succ _) n_a0)
  refine gd_c f2 ?_
  refine gd_fi (fun c3_0 => ?_) (fun c3_0 => ?_)
  · have f4 := (ext_is K0.2.1 (Nat.zero_lt_succ _) n_a0)
    refine gd_c f4 ?_
    refine gd_fi (fun c5_0 => ?_) (fun c5_0 => ?_)
    · have f6 := (ext_is K0.2.1 (Nat.zero_lt_succ _) n_a3)
      exact gd_tV (ext_tr K0.2.1 (ext_dL (ext_r _))) (gX61_take_74 _ _ _ _ _ ⟨K0.1.1, K0.1.2⟩ f6 K0.2.2 )
    · have f7 := (ext_is K0.2.1 (Nat.zero_lt_succ _) n_a3)
      exact gd_tV (ext_tr K0.2.1 (ext_dL (ext_r _))) (gX61_take_74 _ _ _ _ _ ⟨K0.1.1, K0.1.2⟩ f7 K0.2.2 )
  · refine gd_fi (fun c8_0 => ?_) (fun c8_0 => ?_)
    · have f9 := (ext_is K0.2.1 (Nat.zero_lt_succ _) n_a0)
      have f10 := (ext_is K0.2.1 (Nat.zero_lt_succ _) n_a3)
      exact gd_tV (ext_tr K0.2.1 (ext_dL (ext_r _))) (gX61_take_134 _ _ _ _ _ _ ⟨K0.1.1, K0.1.2⟩ f9 f10 K0.2.2 )
    · have f11 := (ext_is K0.2.1 (Nat.zero_lt_succ _) n_a0)
      refine gd_c f11 ?_
      have f12 := (ext_is K0.2.1 (Nat.zero_lt_succ _) n_a0)
      have f13 := (ext_is K0.2.1 (Nat.zero_lt_succ _) n_a3)
      exact gd_tV (ext_tr K0.2.1 (ext_dL (ext_r _))) (gX61_take_134 _ _ _ _ _ _ ⟨K0.1.1, K0.1.2⟩ f12 f13 K0.2.2 )
noncomputable def GX61_take (a0 : Nat) (a1 : Int64) (a3 : Nat) (M : FM) : FM := GX61_take_0 a0 a1 a3 M
theorem gX61_take (a0 : Nat) (a1 : Int64) (a3 : Nat) (M : FM) (T : Ty M) (n_a0 : fm_is M 33 33 a0 = true) (n_a3 : fm_is M 39 39 a3 = true) : gd (FX61_take a0 a1 a3 M) (GX61_take a0 a1 a3 M) (OkV M) := gX61_take_0 a0 a1 a3 M T n_a0 n_a3 
noncomputable def GX59_take_0 (a0 : Nat) (a1 : Int32) (a2 : Nat) (a3 : Nat) (M : FM) : FM :=
  let r1 : Int64 × FM := GX59_read a0 a1 a2 M
  let M2 : FM := GX61_take a2 r1.1 a3 r1.2
  M2
def HX59_take_0 (a0 : Nat) (a1 : Int32) (a2 : Nat) (a3 : Nat) (M : FM) : Prop := (HX59_read a0 a1 a2 M ∧ True)
theorem gX59_take_0 (a0 : Nat) (a1 : Int32) (a2 : Nat) (a3 : Nat) (M : FM) (T : Ty M) (n_a0 : fm_is M 32 32 a0 = true) (n_a2 : fm_is M 33 33 a2 = true) (n_a3 : fm_is M 39 39 a3 = true) (h : HX59_take_0 a0 a1 a2 a3 M) : gd (FX59_take_0 a0 a1 a2 a3 M) (GX59_take_0 a0 a1 a2 a3 M) (OkV M) := by
  delta FX59_take_0 BX59_take_0
  refine gd_c n_a0 ?_
  refine gd_b (gX59_read _ _ _ _ ⟨T.1, T.2⟩ n_a0 n_a2 h.1) (fun K0 => ?_)
  have f1 := (ext_is K0.2 (Nat.zero_lt_succ _) n_a2)
  refine gd_c f1 ?_
  have f3 := (ext_is K0.2 (Nat.zero_lt_succ _) n_a2)
  have f4 := (ext_is K0.2 (Nat.zero_lt_succ _) n_a3)
  refine gd_b (gX61_take _ _ _ _ ⟨K0.1.1, K0.1.2⟩ f3 f4 ) (fun K2 => ?_)
  exact ⟨rfl, ⟨K2.1.1, K2.1.2⟩, (ext_tr K0.2 K2.2)⟩
noncomputable def GX59_take (a0 : Nat) (a1 : Int32) (a2 : Nat) (a3 : Nat) (M : FM) : FM := GX59_take_0 a0 a1 a2 a3 M
def HX59_take (a0 : Nat) (a1 : Int32) (a2 : Nat) (a3 : Nat) (M : FM) : Prop := HX59_take_0 a0 a1 a2 a3 M
theorem gX59_take (a0 : Nat) (a1 : Int32) (a2 : Nat) (a3 : Nat) (M : FM) (T : Ty M) (n_a0 : fm_is M 32 32 a0 = true) (n_a2 : fm_is M 33 33 a2 = true) (n_a3 : fm_is M 39 39 a3 = true) (h : HX59_take a0 a1 a2 a3 M) : gd (FX59_take a0 a1 a2 a3 M) (GX59_take a0 a1 a2 a3 M) (OkV M) := gX59_take_0 a0 a1 a2 a3 M T n_a0 n_a2 n_a3 h
noncomputable def GX72_isNone_19 (s0 : Int32) (M : FM) : Int32 × FM :=
  (s0, M)
theorem gX72_isNone_19 (s0 : Int32) (M : FM) (T : Ty M) (z_s0 : s0 = 0 ∨ s0 = 1) : gd (FX72_isNone_19 s0 M) (GX72_isNone_19 s0 M) (OkZ M) := by
  delta FX72_isNone_19 BX72_isNone_19
  exact gd_z z_s0 ⟨T.1, T.2⟩ (ext_r _) rfl
noncomputable def GX72_isNone_14 (M : FM) : Int32 × FM :=
  GX72_isNone_19 (Int32.ofInt 1) M
theorem gX72_isNone_14 (M : FM) (T : Ty M) : gd (FX72_isNone_14 M) (GX72_isNone_14 M) (OkZ M) := by
  delta FX72_isNone_14 BX72_isNone_14
  exact gd_tZ (ext_r _) (gX72_isNone_19 _ _ ⟨T.1, T.2⟩ fz_1 )
noncomputable def GX72_isNone_0 (a0 : Nat) (M : FM) : Int32 × FM :=
  fi (a0 = 9) (
    GX72_isNone_14 M) (
    fi (a0 = 10) (
      GX72_isNone_14 M) (
      GX72_isNone_19 (Int32.ofInt 0) M))
theorem gX72_isNone_0 (a0 : Nat) (M : FM) (T : Ty M) (n_a0 : fm_is M 2 2 a0 = true) : gd (FX72_isNone_0 a0 M) (GX72_isNone_0 a0 M) (OkZ M) := by
  delta FX72_isNone_0 BX72_isNone_0
  refine gd_c (Or.inl ⟨(ty_enum T.1 (fm_w (lo' := 1) (hi' := 6) rfl rfl n_a0)), (ty_enum T.1 (fm_w (lo' := 1) (hi' := 6) rfl rfl (tC_9 T.1)))⟩) ?_
  refine gd_fi (fun c0_0 => ?_) (fun c0_0 => ?_)
  · exact gd_tZ (ext_r _) (gX72_isNone_14  _ ⟨T.1, T.2⟩  )
  · refine gd_c (Or.inl ⟨(ty_enum T.1 (fm_w (lo' := 1) (hi' := 6) rfl rfl n_a0)), (ty_enum T.1 (fm_w (lo' := 1) (hi' := 6) rfl rfl (tC_10 T.1)))⟩) ?_
    refine gd_fi (fun c1_0 => ?_) (fun c1_0 => ?_)
    · exact gd_tZ (ext_r _) (gX72_isNone_14  _ ⟨T.1, T.2⟩  )
    · exact gd_tZ (ext_r _) (gX72_isNone_19 _ _ ⟨T.1, T.2⟩ fz_0 )
noncomputable def GX72_isNone (a0 : Nat) (M : FM) : Int32 × FM := GX72_isNone_0 a0 M
theorem gX72_isNone (a0 : Nat) (M : FM) (T : Ty M) (n_a0 : fm_is M 2 2 a0 = true) : gd (FX72_isNone a0 M) (GX72_isNone a0 M) (OkZ M) := gX72_isNone_0 a0 M T n_a0 
noncomputable def GX71_is_13 (s0 : Int32) (M : FM) : Int32 × FM :=
  (s0, M)
theorem gX71_is_13 (s0 : Int32) (M : FM) (T : Ty M) (z_s0 : s0 = 0 ∨ s0 = 1) : gd (FX71_is_13 s0 M) (GX71_is_13 s0 M) (OkZ M) := by
  delta FX71_is_13 BX71_is_13
  exact gd_z z_s0 ⟨T.1, T.2⟩ (ext_r _) rfl
noncomputable def GX71_is_0 (a0 : Nat) (a1 : Nat) (M : FM) : Int32 × FM :=
  let x1 : Nat := (M.2.2 114 a0 0)
  fi (x1 = a1) (
    GX71_is_13 (Int32.ofInt 1) M) (
    GX71_is_13 (Int32.ofInt 0) M)
theorem gX71_is_0 (a0 : Nat) (a1 : Nat) (M : FM) (T : Ty M) (n_a0 : fm_is M 39 39 a0 = true) (n_a1 : fm_is M 2 2 a1 = true) : gd (FX71_is_0 a0 a1 M) (GX71_is_0 a0 a1 M) (OkZ M) := by
  delta FX71_is_0 BX71_is_0
  refine gd_c n_a0 ?_
  refine gd_c (Or.inl ⟨(ty_enum T.1 (fm_w (lo' := 1) (hi' := 6) rfl rfl (tN_114 T.1 n_a0))), (ty_enum T.1 (fm_w (lo' := 1) (hi' := 6) rfl rfl n_a1))⟩) ?_
  refine gd_fi (fun c0_0 => ?_) (fun c0_0 => ?_)
  · exact gd_tZ (ext_r _) (gX71_is_13 _ _ ⟨T.1, T.2⟩ fz_1 )
  · exact gd_tZ (ext_r _) (gX71_is_13 _ _ ⟨T.1, T.2⟩ fz_0 )
noncomputable def GX71_is (a0 : Nat) (a1 : Nat) (M : FM) : Int32 × FM := GX71_is_0 a0 a1 M
theorem gX71_is (a0 : Nat) (a1 : Nat) (M : FM) (T : Ty M) (n_a0 : fm_is M 39 39 a0 = true) (n_a1 : fm_is M 2 2 a1 = true) : gd (FX71_is a0 a1 M) (GX71_is a0 a1 M) (OkZ M) := gX71_is_0 a0 a1 M T n_a0 n_a1 
noncomputable def GX60_raise_24 (s0 : Nat) (s1 : Int32) (s2 : Int32) (M : FM) : FM :=
  let x1 : Int32 := (s1 ||| s2)
  let M2 : FM := fm_sI M 92 s0 0 x1
  M2
def HX60_raise_24 (s0 : Nat) (s1 : Int32) (s2 : Int32) (M : FM) : Prop := let x1 : Int32 := (s1 ||| s2); ((x1 = 0 ∨ x1 = 1) ∧ True)
theorem gX60_raise_24 (s0 : Nat) (s1 : Int32) (s2 : Int32) (M : FM) (T : Ty M) (n_s0 : fm_is M 31 31 s0 = true) (h : HX60_raise_24 s0 s1 s2 M) : gd (FX60_raise_24 s0 s1 s2 M) (GX60_raise_24 s0 s1 s2 M) (OkV M) := by
  delta FX60_raise_24 BX60_raise_24
  refine gd_c n_s0 ?_
  refine gd_c h.1 ?_
  exact ⟨rfl, ⟨T.1, (tyb_sIb (f := 92) rfl T.2 h.1)⟩, (ext_dI (ext_r _))⟩
noncomputable def GX60_raise_0 (a0 : Nat) (a1 : Int32) (M : FM) : FM :=
  let M1 : FM := fm_sI M 91 a0 0 ((M.1 91 a0 0) ||| a1)
  fi (a1 = 0) (
    GX60_raise_24 a0 (M1.1 92 a0 0) (Int32.ofInt 0) M1) (
    GX60_raise_24 a0 (M1.1 92 a0 0) (Int32.ofInt 1) M1)
def HX60_raise_0 (a0 : Nat) (a1 : Int32) (M : FM) : Prop := let M1 : FM := fm_sI M 91 a0 0 ((M.1 91 a0 0) ||| a1); ((a1 = 0 → HX60_raise_24 a0 (M1.1 92 a0 0) (Int32.ofInt 0) M1) ∧ (¬ (a1 = 0) → HX60_raise_24 a0 (M1.1 92 a0 0) (Int32.ofInt 1) M1))
theorem gX60_raise_0 (a0 : Nat) (a1 : Int32) (M : FM) (T : Ty M) (n_a0 : fm_is M 31 31 a0 = true) (h : HX60_raise_0 a0 a1 M) : gd (FX60_raise_0 a0 a1 M) (GX60_raise_0 a0 a1 M) (OkV M) := by
  delta FX60_raise_0 BX60_raise_0
  refine gd_c n_a0 ?_
  refine gd_c n_a0 ?_
  refine gd_c n_a0 ?_
  refine gd_fi (fun c0_0 => ?_) (fun c0_0 => ?_)
  · exact gd_tV (ext_dI (ext_r _)) (gX60_raise_24 _ _ _ _ ⟨T.1, (tyb_sI (f := 91) rfl T.2)⟩ n_a0 (h.1 c0_0))
  · exact gd_tV (ext_dI (ext_r _)) (gX60_raise_24 _ _ _ _ ⟨T.1, (tyb_sI (f := 91) rfl T.2)⟩ n_a0 (h.2 c0_0))
noncomputable def GX60_raise (a0 : Nat) (a1 : Int32) (M : FM) : FM := GX60_raise_0 a0 a1 M
def HX60_raise (a0 : Nat) (a1 : Int32) (M : FM) : Prop := HX60_raise_0 a0 a1 M
theorem gX60_raise (a0 : Nat) (a1 : Int32) (M : FM) (T : Ty M) (n_a0 : fm_is M 31 31 a0 = true) (h : HX60_raise a0 a1 M) : gd (FX60_raise a0 a1 M) (GX60_raise a0 a1 M) (OkV M) := gX60_raise_0 a0 a1 M T n_a0 h
def kX108_lengthOf (k9 : Int64 → Int32 → Int32 → FM → Option (Int32 × FM)) : (Int64 × Int32 × Int32 × FM) ⊕ (Int32 × FM) → Option (Int32 × FM)
  | .inl (v0, v1, v2, M') => k9 v0 v1 v2 M'
  | .inr (r) => some r
def pX108_lengthOf (M : FM) : (Int64 × Int32 × Int32 × FM) ⊕ (Int32 × FM) → Prop
  | .inl (_, _, _, M') => OkV M M'
  | .inr (r) => OkR M r
theorem pX108_lengthOf_t {M M1 : FM} (e : Ext M M1) : ∀ y, pX108_lengthOf M1 y → pX108_lengthOf M y
  | .inl (_, _, _, _), h => ⟨h.1, ext_tr e h.2⟩
  | .inr (r), h => ⟨h.1, ext_tr e h.2⟩
noncomputable def GX108_lengthOf_59 (s0 : Int32) (M : FM) : (Int64 × Int32 × Int32 × FM) ⊕ (Int32 × FM) :=
  (.inr (s0, M))
theorem gX108_lengthOf_59 (k9 : Int64 → Int32 → Int32 → FM → Option (Int32 × FM)) (s0 : Int32) (M : FM) (T : Ty M) : gs (FX108_lengthOf_59 fN k9 s0 M) (GX108_lengthOf_59 s0 M) (kX108_lengthOf k9) (pX108_lengthOf M) := by
  delta FX108_lengthOf_59 BX108_lengthOf_59
  exact And.intro rfl (And.intro (And.intro T.1 T.2) ((ext_r _)))
noncomputable def GX108_lengthOf_35 (a2 : Int64) (a4 : Int32) (a5 : Int32) (M : FM) : (Int64 × Int32 × Int32 × FM) ⊕ (Int32 × FM) :=
  let x1 : Int32 := (a5 >>> ((Int32.ofInt 1) &&& 31))
  (.inl (a2, a4, x1, M))
theorem gX108_lengthOf_35 (k9 : Int64 → Int32 → Int32 → FM → Option (Int32 × FM)) (a2 : Int64) (a4 : Int32) (a5 : Int32) (M : FM) (T : Ty M) : gs (FX108_lengthOf_35 fN k9 a2 a4 a5 M) (GX108_lengthOf_35 a2 a4 a5 M) (kX108_lengthOf k9) (pX108_lengthOf M) := by
  delta FX108_lengthOf_35 BX108_lengthOf_35
  exact And.intro rfl (And.intro (And.intro T.1 T.2) ((ext_r _)))
noncomputable def GX108_lengthOf_0 (a0 : Int64) (M : FM) : (Int64 × Int32 × Int32 × FM) ⊕ (Int32 × FM) :=
  (.inl (a0, (Int32.ofInt 0), (Int32.ofInt 32), M))
theorem gX108_lengthOf_0 (k9 : Int64 → Int32 → Int32 → FM → Option (Int32 × FM)) (a0 : Int64) (M : FM) (T : Ty M) : gs (FX108_lengthOf_0 fN k9 a0 M) (GX108_lengthOf_0 a0 M) (kX108_lengthOf k9) (pX108_lengthOf M) := by
  delta FX108_lengthOf_0 BX108_lengthOf_0
  exact And.intro rfl (And.intro (And.intro T.1 T.2) ((ext_r _)))
noncomputable def GX108_lengthOf_9 (a2 : Int64) (a4 : Int32) (a5 : Int32) (M : FM) : (Int64 × Int32 × Int32 × FM) ⊕ (Int32 × FM) :=
  fi (a5 ≤ 0) (
    fi ((lg_cmp a2 (Int64.ofInt 0)) = 0) (
      GX108_lengthOf_59 a4 M) (
      GX108_lengthOf_59 (a4 + (Int32.ofInt 1)) M)) (
    fi ((lg_cmp ((a2.toUInt64 >>> (a5.toInt64.toUInt64 &&& Int64.toUInt64 63)).toInt64) (Int64.ofInt 0)) = 0) (
      GX108_lengthOf_35 a2 a4 a5 M) (
      let x1 : Int64 := (a2.toUInt64 >>> (a5.toInt64.toUInt64 &&& Int64.toUInt64 63)).toInt64
      let x2 : Int32 := (a4 + a5)
      GX108_lengthOf_35 x1 x2 a5 M))
theorem gX108_lengthOf_9 (k9 : Int64 → Int32 → Int32 → FM → Option (Int32 × FM)) (a2 : Int64) (a4 : Int32) (a5 : Int32) (M : FM) (T : Ty M) : gs (FX108_lengthOf_9 fN k9 a2 a4 a5 M) (GX108_lengthOf_9 a2 a4 a5 M) (kX108_lengthOf k9) (pX108_lengthOf M) := by
  delta FX108_lengthOf_9 BX108_lengthOf_9
  refine gs_fi (fun c0_0 => ?_) (fun c0_0 => ?_)
  · refine gs_fi (fun c1_0 => ?_) (fun c1_0 => ?_)
    · exact gs_t (pX108_lengthOf_t (ext_r _)) (gX108_lengthOf_59 k9 _ _ ⟨T.1, T.2⟩  )
    · exact gs_t (pX108_lengthOf_t (ext_r _)) (gX108_lengthOf_59 k9 _ _ ⟨T.1, T.2⟩  )
  · refine gs_fi (fun c2_0 => ?_) (fun c2_0 => ?_)
    · exact gs_t (pX108_lengthOf_t (ext_r _)) (gX108_lengthOf_35 k9 _ _ _ _ ⟨T.1, T.2⟩  )
    · exact gs_t (pX108_lengthOf_t (ext_r _)) (gX108_lengthOf_35 k9 _ _ _ _ ⟨T.1, T.2⟩  )
noncomputable def GX108_lengthOf (a0 : Int64) (M : FM) : Int32 × FM := (FX108_lengthOf fN a0 M).getD (0, M)
def HX108_lengthOf (a0 : Int64) (M : FM) : Prop := ∃ r, FX108_lengthOf fN a0 M = some r ∧ OkR M r
theorem gX108_lengthOf (a0 : Int64) (M : FM) (h : HX108_lengthOf a0 M) : gd (FX108_lengthOf fN a0 M) (GX108_lengthOf a0 M) (OkR M) := gd_op h
noncomputable def GX62_length_29 (s0 : Int32) (M : FM) : Int32 × FM :=
  (s0, M)
theorem gX62_length_29 (s0 : Int32) (M : FM) (T : Ty M) : gd (FX62_length_29 fN s0 M) (GX62_length_29 s0 M) (OkR M) := by
  delta FX62_length_29 BX62_length_29
  exact ⟨rfl, ⟨T.1, T.2⟩, (ext_r _)⟩
noncomputable def GX62_length_0 (a0 : Nat) (M : FM) : Int32 × FM :=
  fi ((lg_cmp (M.2.1 119 a0 0) (Int64.ofInt 0)) = 0) (
    let r1 : Int32 × FM := GX108_lengthOf (M.2.1 120 a0 0) M
    GX62_length_29 r1.1 r1.2) (
    let r2 : Int32 × FM := GX108_lengthOf (M.2.1 119 a0 0) M
    GX62_length_29 ((Int32.ofInt 64) + r2.1) r2.2)
def HX62_length_0 (a0 : Nat) (M : FM) : Prop := (((lg_cmp (M.2.1 119 a0 0) (Int64.ofInt 0)) = 0 → (HX108_lengthOf (M.2.1 120 a0 0) M ∧ True)) ∧ (¬ ((lg_cmp (M.2.1 119 a0 0) (Int64.ofInt 0)) = 0) → (HX108_lengthOf (M.2.1 119 a0 0) M ∧ True)))
theorem gX62_length_0 (a0 : Nat) (M : FM) (T : Ty M) (n_a0 : fm_is M 40 40 a0 = true) (h : HX62_length_0 a0 M) : gd (FX62_length_0 fN a0 M) (GX62_length_0 a0 M) (OkR M) := by
  delta FX62_length_0 BX62_length_0
  refine gd_c n_a0 ?_
  refine gd_fi (fun c0_0 => ?_) (fun c0_0 => ?_)
  · refine gd_c n_a0 ?_
    refine gd_b (gX108_lengthOf _ _ (h.1 c0_0).1) (fun K1 => ?_)
    exact gd_tR K1.2 (gX62_length_29 _ _ ⟨K1.1.1, K1.1.2⟩  )
  · refine gd_c n_a0 ?_
    refine gd_b (gX108_lengthOf _ _ (h.2 c0_0).1) (fun K2 => ?_)
    exact gd_tR K2.2 (gX62_length_29 _ _ ⟨K2.1.1, K2.1.2⟩  )
noncomputable def GX62_length (a0 : Nat) (M : FM) : Int32 × FM := GX62_length_0 a0 M
def HX62_length (a0 : Nat) (M : FM) : Prop := HX62_length_0 a0 M
theorem gX62_length (a0 : Nat) (M : FM) (T : Ty M) (n_a0 : fm_is M 40 40 a0 = true) (h : HX62_length a0 M) : gd (FX62_length fN a0 M) (GX62_length a0 M) (OkR M) := gX62_length_0 a0 M T n_a0 h
noncomputable def GX62_left_61 (M : FM) : FM :=
  M
theorem gX62_left_61 (M : FM) (T : Ty M) : gd (FX62_left_61 M) (GX62_left_61 M) (OkV M) := by
  delta FX62_left_61 BX62_left_61
  exact ⟨rfl, ⟨T.1, T.2⟩, (ext_r _)⟩
noncomputable def GX62_left_0 (a0 : Nat) (a1 : Int32) (M : FM) : FM :=
  fi (a1 ≤ (Int32.ofInt 63)) (
    fi (a1 ≤ 0) (
      GX62_left_61 M) (
      let M1 : FM := fm_sL M 119 a0 0 (((M.2.1 119 a0 0) <<< (a1.toInt64 &&& 63)) ||| ((M.2.1 120 a0 0).toUInt64 >>> (((Int32.ofInt 64) - a1).toInt64.toUInt64 &&& Int64.toUInt64 63)).toInt64)
      let M2 : FM := fm_sL M1 120 a0 0 ((M1.2.1 120 a0 0) <<< (a1.toInt64 &&& 63))
      GX62_left_61 M2)) (
    let M3 : FM := fm_sL M 119 a0 0 ((M.2.1 120 a0 0) <<< ((a1 - (Int32.ofInt 64)).toInt64 &&& 63))
    let M4 : FM := fm_sL M3 120 a0 0 (Int64.ofInt 0)
    GX62_left_61 M4)
theorem gX62_left_0 (a0 : Nat) (a1 : Int32) (M : FM) (T : Ty M) (n_a0 : fm_is M 40 40 a0 = true) : gd (FX62_left_0 a0 a1 M) (GX62_left_0 a0 a1 M) (OkV M) := by
  delta FX62_left_0 BX62_left_0
  refine gd_fi (fun c0_0 => ?_) (fun c0_0 => ?_)
  · refine gd_fi (fun c1_0 => ?_) (fun c1_0 => ?_)
    · exact gd_tV (ext_r _) (gX62_left_61  _ ⟨T.1, T.2⟩  )
    · refine gd_c n_a0 ?_
      refine gd_c n_a0 ?_
      refine gd_c n_a0 ?_
      refine gd_c n_a0 ?_
      refine gd_c n_a0 ?_
      exact gd_tV (ext_dL (ext_dL (ext_r _))) (gX62_left_61  _ ⟨T.1, T.2⟩  )
  · refine gd_c n_a0 ?_
    refine gd_c n_a0 ?_
    refine gd_c n_a0 ?_
    exact gd_tV (ext_dL (ext_dL (ext_r _))) (gX62_left_61  _ ⟨T.1, T.2⟩  )
noncomputable def GX62_left (a0 : Nat) (a1 : Int32) (M : FM) : FM := GX62_left_0 a0 a1 M
theorem gX62_left (a0 : Nat) (a1 : Int32) (M : FM) (T : Ty M) (n_a0 : fm_is M 40 40 a0 = true) : gd (FX62_left a0 a1 M) (GX62_left a0 a1 M) (OkV M) := gX62_left_0 a0 a1 M T n_a0 
noncomputable def GX71_lift_0 (a0 : Nat) (a1 : Int32) (M : FM) : FM :=
  let x1 : Nat := (M.2.2 117 a0 0)
  let r2 : Int32 × FM := GX62_length x1 M
  let x3 : Int32 := ((a1 + (Int32.ofInt 1)) - r2.1)
  let x4 : Nat := (r2.2.2.2 117 a0 0)
  let M5 : FM := GX62_left x4 x3 r2.2
  let M6 : FM := fm_sI M5 116 a0 0 ((M5.1 116 a0 0) - x3)
  M6
def HX71_lift_0 (a0 : Nat) (a1 : Int32) (M : FM) : Prop := let x1 : Nat := (M.2.2 117 a0 0); (HX62_length x1 M ∧ True)
theorem gX71_lift_0 (a0 : Nat) (a1 : Int32) (M : FM) (T : Ty M) (n_a0 : fm_is M 39 39 a0 = true) (h : HX71_lift_0 a0 a1 M) : gd (FX71_lift_0 fN a0 a1 M) (GX71_lift_0 a0 a1 M) (OkV M) := by
  delta FX71_lift_0 BX71_lift_0
  refine gd_c n_a0 ?_
  have f0 := (tN_117 T.1 n_a0)
  refine gd_c f0 ?_
  have f8 := (tN_117 T.1 n_a0)
  refine gd_b (gX62_length _ _ ⟨T.1, T.2⟩ f8 h.1) (fun K1 => ?_)
  have f2 := (ext_is K1.2 (Nat.zero_lt_succ _) n_a0)
  refine gd_c f2 ?_
  have f3 := (tN_117 K1.1.1 (ext_is K1.2 (Nat.zero_lt_succ _) n_a0))
  refine gd_c f3 ?_
  have f7 := (tN_117 K1.1.1 (ext_is K1.2 (Nat.zero_lt_succ _) n_a0))
  refine gd_b (gX62_left _ _ _ ⟨K1.1.1, K1.1.2⟩ f7 ) (fun K4 => ?_)
  have f5 := (ext_is K4.2 (Nat.zero_lt_succ _) (ext_is K1.2 (Nat.zero_lt_succ _) n_a0))
  refine gd_c f5 ?_
  have f6 := (ext_is K4.2 (Nat.zero_lt_succ _) (ext_is K1.2 (Nat.zero_lt_succ _) n_a0))
  refine gd_c f6 ?_
  exact ⟨rfl, ⟨K4.1.1, (tyb_sI (f := 116) rfl K4.1.2)⟩, (ext_tr K1.2 (ext_tr K4.2 (ext_dI (ext_r _))))⟩
noncomputable def GX71_lift (a0 : Nat) (a1 : Int32) (M : FM) : FM := GX71_lift_0 a0 a1 M
def HX71_lift (a0 : Nat) (a1 : Int32) (M : FM) : Prop := HX71_lift_0 a0 a1 M
theorem gX71_lift (a0 : Nat) (a1 : Int32) (M : FM) (T : Ty M) (n_a0 : fm_is M 39 39 a0 = true) (h : HX71_lift a0 a1 M) : gd (FX71_lift fN a0 a1 M) (GX71_lift a0 a1 M) (OkV M) := gX71_lift_0 a0 a1 M T n_a0 h
noncomputable def GX108_isLess_19 (s0 : Int32) (M : FM) : Int32 × FM :=
  (s0, M)
theorem gX108_isLess_19 (s0 : Int32) (M : FM) (T : Ty M) (z_s0 : s0 = 0 ∨ s0 = 1) : gd (FX108_isLess_19 s0 M) (GX108_isLess_19 s0 M) (OkZ M) := by
  delta FX108_isLess_19 BX108_isLess_19
  exact gd_z z_s0 ⟨T.1, T.2⟩ (ext_r _) rfl
noncomputable def GX108_isLess_0 (a0 : Int64) (a2 : Int64) (M : FM) : Int32 × FM :=
  fi (0 ≤ (lg_cmp (a0 + (Int64.ofInt (-9223372036854775808))) (a2 + (Int64.ofInt (-9223372036854775808))))) (
    GX108_isLess_19 (Int32.ofInt 0) M) (
    GX108_isLess_19 (Int32.ofInt 1) M)
theorem gX108_isLess_0 (a0 : Int64) (a2 : Int64) (M : FM) (T : Ty M) : gd (FX108_isLess_0 a0 a2 M) (GX108_isLess_0 a0 a2 M) (OkZ M) := by
  delta FX108_isLess_0 BX108_isLess_0
  refine gd_fi (fun c0_0 => ?_) (fun c0_0 => ?_)
  · exact gd_tZ (ext_r _) (gX108_isLess_19 _ _ ⟨T.1, T.2⟩ fz_0 )
  · exact gd_tZ (ext_r _) (gX108_isLess_19 _ _ ⟨T.1, T.2⟩ fz_1 )
noncomputable def GX108_isLess (a0 : Int64) (a2 : Int64) (M : FM) : Int32 × FM := GX108_isLess_0 a0 a2 M
theorem gX108_isLess (a0 : Int64) (a2 : Int64) (M : FM) (T : Ty M) : gd (FX108_isLess a0 a2 M) (GX108_isLess a0 a2 M) (OkZ M) := gX108_isLess_0 a0 a2 M T 
noncomputable def GX62_isBelow_37 (s0 : Int32) (M : FM) : Int32 × FM :=
  (s0, M)
theorem gX62_isBelow_37 (s0 : Int32) (M : FM) (T : Ty M) (z_s0 : s0 = 0 ∨ s0 = 1) : gd (FX62_isBelow_37 s0 M) (GX62_isBelow_37 s0 M) (OkZ M) := by
  delta FX62_isBelow_37 BX62_isBelow_37
  exact gd_z z_s0 ⟨T.1, T.2⟩ (ext_r _) rfl
noncomputable def GX62_isBelow_0 (a0 : Nat) (a1 : Nat) (M : FM) : Int32 × FM :=
  fi ((lg_cmp (M.2.1 119 a0 0) (M.2.1 119 a1 0)) = 0) (
    let r1 : Int32 × FM := GX108_isLess (M.2.1 120 a0 0) (M.2.1 120 a1 0) M
    GX62_isBelow_37 r1.1 r1.2) (
    let r2 : Int32 × FM := GX108_isLess (M.2.1 119 a0 0) (M.2.1 119 a1 0) M
    GX62_isBelow_37 r2.1 r2.2)
theorem gX62_isBelow_0 (a0 : Nat) (a1 : Nat) (M : FM) (T : Ty M) (n_a0 : fm_is M 40 40 a0 = true) (n_a1 : fm_is M 40 40 a1 = true) : gd (FX62_isBelow_0 a0 a1 M) (GX62_isBelow_0 a0 a1 M) (OkZ M) := by
  delta FX62_isBelow_0 BX62_isBelow_0
  refine gd_c n_a0 ?_
  refine gd_c n_a1 ?_
  refine gd_fi (fun c0_0 => ?_) (fun c0_0 => ?_)
  · refine gd_c n_a0 ?_
    refine gd_c n_a1 ?_
    refine gd_b (gX108_isLess _ _ _ ⟨T.1, T.2⟩  ) (fun K1 => ?_)
    exact gd_tZ K1.2.1 (gX62_isBelow_37 _ _ ⟨K1.1.1, K1.1.2⟩ K1.2.2 )
  · refine gd_c n_a0 ?_
    refine gd_c n_a1 ?_
    refine gd_b (gX108_isLess _ _ _ ⟨T.1, T.2⟩  ) (fun K2 => ?_)
    exact gd_tZ K2.2.1 (gX62_isBelow_37 _ _ ⟨K2.1.1, K2.1.2⟩ K2.2.2 )
noncomputable def GX62_isBelow (a0 : Nat) (a1 : Nat) (M : FM) : Int32 × FM := GX62_isBelow_0 a0 a1 M
theorem gX62_isBelow (a0 : Nat) (a1 : Nat) (M : FM) (T : Ty M) (n_a0 : fm_is M 40 40 a0 = true) (n_a1 : fm_is M 40 40 a1 = true) : gd (FX62_isBelow a0 a1 M) (GX62_isBelow a0 a1 M) (OkZ M) := gX62_isBelow_0 a0 a1 M T n_a0 n_a1 
noncomputable def GX71_compareSize_128 (s0 : Int32) (M : FM) : Int32 × FM :=
  (s0, M)
theorem gX71_compareSize_128 (s0 : Int32) (M : FM) (T : Ty M) : gd (FX71_compareSize_128 fN s0 M) (GX71_compareSize_128 s0 M) (OkR M) := by
  delta FX71_compareSize_128 BX71_compareSize_128
  exact ⟨rfl, ⟨T.1, T.2⟩, (ext_r _)⟩
noncomputable def GX71_compareSize_90 (s0 : Int32) (M : FM) : Int32 × FM :=
  (s0, M)
theorem gX71_compareSize_90 (s0 : Int32) (M : FM) (T : Ty M) : gd (FX71_compareSize_90 fN s0 M) (GX71_compareSize_90 s0 M) (OkR M) := by
  delta FX71_compareSize_90 BX71_compareSize_90
  exact ⟨rfl, ⟨T.1, T.2⟩, (ext_r _)⟩
noncomputable def GX71_compareSize_50 (s0 : Int32) (M : FM) : Int32 × FM :=
  (s0, M)
theorem gX71_compareSize_50 (s0 : Int32) (M : FM) (T : Ty M) : gd (FX71_compareSize_50 fN s0 M) (GX71_compareSize_50 s0 M) (OkR M) := by
  delta FX71_compareSize_50 BX71_compareSize_50
  exact ⟨rfl, ⟨T.1, T.2⟩, (ext_r _)⟩
noncomputable def GX71_compareSize_20 (a0 : Nat) (a1 : Nat) (M : FM) : Int32 × FM :=
  let x1 : Nat := (M.2.2 114 a0 0)
  let x2 : Nat := (M.2.2 114 a1 0)
  fi (x1 = x2) (
    GX71_compareSize_50 (Int32.ofInt 0) M) (
    let r3 : Int32 × FM := GX71_is a0 8 M
    fi (r3.1 = 0) (
      GX71_compareSize_50 (Int32.ofInt (-1)) r3.2) (
      GX71_compareSize_50 (Int32.ofInt 1) r3.2))
theorem gX71_compareSize_20 (a0 : Nat) (a1 : Nat) (M : FM) (T : Ty M) (n_a0 : fm_is M 39 39 a0 = true) (n_a1 : fm_is M 39 39 a1 = true) : gd (FX71_compareSize_20 fN a0 a1 M) (GX71_compareSize_20 a0 a1 M) (OkR M) := by
  delta FX71_compareSize_20 BX71_compareSize_20
  refine gd_c n_a0 ?_
  refine gd_c n_a1 ?_
  refine gd_c (Or.inl ⟨(ty_enum T.1 (fm_w (lo' := 1) (hi' := 6) rfl rfl (tN_114 T.1 n_a0))), (ty_enum T.1 (fm_w (lo' := 1) (hi' := 6) rfl rfl (tN_114 T.1 n_a1)))⟩) ?_
  refine gd_fi (fun c0_0 => ?_) (fun c0_0 => ?_)
  · exact gd_tR (ext_r _) (gX71_compareSize_50 _ _ ⟨T.1, T.2⟩  )
  · refine gd_c n_a0 ?_
    have f3 := (tC_8 T.1)
    refine gd_b (gX71_is _ _ _ ⟨T.1, T.2⟩ n_a0 f3 ) (fun K1 => ?_)
    refine gd_fi (fun c2_0 => ?_) (fun c2_0 => ?_)
    · exact gd_tR K1.2.1 (gX71_compareSize_50 _ _ ⟨K1.1.1, K1.1.2⟩  )
    · exact gd_tR K1.2.1 (gX71_compareSize_50 _ _ ⟨K1.1.1, K1.1.2⟩  )
noncomputable def GX71_compareSize_0 (a0 : Nat) (a1 : Nat) (M : FM) : Int32 × FM :=
  let r1 : Int32 × FM := GX71_is a0 8 M
  fi (r1.1 = 0) (
    let r2 : Int32 × FM := GX71_is a1 8 r1.2
    fi (r2.1 = 0) (
      let M3 : FM := GX71_lift a0 (Int32.ofInt 61) r2.2
      let M4 : FM := GX71_lift a1 (Int32.ofInt 61) M3
      fi ((M4.1 116 a0 0) = (M4.1 116 a1 0)) (
        let x5 : Nat := (M4.2.2 117 a0 0)
        let r6 : Int32 × FM := GX62_isBelow x5 (M4.2.2 117 a1 0) M4
        fi (r6.1 = 0) (
          let x7 : Nat := (r6.2.2.2 117 a1 0)
          let r8 : Int32 × FM := GX62_isBelow x7 (r6.2.2.2 117 a0 0) r6.2
          fi (r8.1 = 0) (
            GX71_compareSize_128 (Int32.ofInt 0) r8.2) (
            GX71_compareSize_128 (Int32.ofInt 1) r8.2)) (
          GX71_compareSize_128 (Int32.ofInt (-1)) r6.2)) (
        fi ((M4.1 116 a1 0) ≤ (M4.1 116 a0 0)) (
          GX71_compareSize_90 (Int32.ofInt 1) M4) (
          GX71_compareSize_90 (Int32.ofInt (-1)) M4))) (
      GX71_compareSize_20 a0 a1 r2.2)) (
    GX71_compareSize_20 a0 a1 r1.2)
def HX71_compareSize_0 (a0 : Nat) (a1 : Nat) (M : FM) : Prop := let r1 : Int32 × FM := GX71_is a0 8 M; ((r1.1 = 0 → let r2 : Int32 × FM := GX71_is a1 8 r1.2; ((r2.1 = 0 → (HX71_lift a0 (Int32.ofInt 61) r2.2 ∧ let M3 : FM := GX71_lift a0 (Int32.ofInt 61) r2.2; (HX71_lift a1 (Int32.ofInt 61) M3 ∧ True))) ∧ (¬ (r2.1 = 0) → True))) ∧ (¬ (r1.1 = 0) → True))
theorem gX71_compareSize_0 (a0 : Nat) (a1 : Nat) (M : FM) (T : Ty M) (n_a0 : fm_is M 39 39 a0 = true) (n_a1 : fm_is M 39 39 a1 = true) (h : HX71_compareSize_0 a0 a1 M) : gd (FX71_compareSize_0 fN a0 a1 M) (GX71_compareSize_0 a0 a1 M) (OkR M) := by
  delta FX71_compareSize_0 BX71_compareSize_0
  refine gd_c n_a0 ?_
  have f37 := (tC_8 T.1)
  refine gd_b (gX71_is _ _ _ ⟨T.1, T.2⟩ n_a0 f37 ) (fun K0 => ?_)
  refine gd_fi (fun c1_0 => ?_) (fun c1_0 => ?_)
  · have f2 := (ext_is K0.2.1 (Nat.zero_lt_succ _) n_a1)
    refine gd_c f2 ?_
    have f33 := (ext_is K0.2.1 (Nat.zero_lt_succ _) n_a1)
    have f34 := (tC_8 K0.1.1)
    refine gd_b (gX71_is _ _ _ ⟨K0.1.1, K0.1.2⟩ f33 f34 ) (fun K3 => ?_)
    refine gd_fi (fun c4_0 => ?_) (fun c4_0 => ?_)
    · have f5 := (ext_is K3.2.1 (Nat.zero_lt_succ _) (ext_is K0.2.1 (Nat.zero_lt_succ _) n_a0))
      refine gd_c f5 ?_
      have f30 := (ext_is K3.2.1 (Nat.zero_lt_succ _) (ext_is K0.2.1 (Nat.zero_lt_succ _) n_a0))
      refine gd_b (gX71_lift _ _ _ ⟨K3.1.1, K3.1.2⟩ f30 ((h.1 c1_0).1 c4_0).1) (fun K6 => ?_)
      have f7 := (ext_is K6.2 (Nat.zero_lt_succ _) (ext_is K3.2.1 (Nat.zero_lt_succ _) (ext_is K0.2.1 (Nat.zero_lt_succ _) n_a1)))
      refine gd_c f7 ?_
      have f29 := (ext_is K6.2 (Nat.zero_lt_succ _) (ext_is K3.2.1 (Nat.zero_lt_succ _) (ext_is K0.2.1 (Nat.zero_lt_succ _) n_a1)))
      refine gd_b (gX71_lift _ _ _ ⟨K6.1.1, K6.1.2⟩ f29 ((h.1 c1_0).1 c4_0).2.1) (fun K8 => ?_)
      have f9 := (ext_is K8.2 (Nat.zero_lt_succ _) (ext_is K6.2 (Nat.zero_lt_succ _) (ext_is K3.2.1 (Nat.zero_lt_succ _) (ext_is K0.2.1 (Nat.zero_lt_succ _) n_a0))))
      refine gd_c f9 ?_
      have f10 := (ext_is K8.2 (Nat.zero_lt_succ _) (ext_is K6.2 (Nat.zero_lt_succ _) (ext_is K3.2.1 (Nat.zero_lt_succ _) (ext_is K0.2.1 (Nat.zero_lt_succ _) n_a1))))
      refine gd_c f10 ?_
      refine gd_fi (fun c11_0 => ?_) (fun c11_0 => ?_)
      · have f12 := (ext_is K8.2 (Nat.zero_lt_succ _) (ext_is K6.2 (Nat.zero_lt_succ _) (ext_is K3.2.1 (Nat.zero_lt_succ _) (ext_is K0.2.1 (Nat.zero_lt_succ _) n_a0))))
        refine gd_c f12 ?_
        have f13 := (ext_is K8.2 (Nat.zero_lt_succ _) (ext_is K6.2 (Nat.zero_lt_succ _) (ext_is K3.2.1 (Nat.zero_lt_succ _) (ext_is K0.2.1 (Nat.zero_lt_succ _) n_a1))))
        refine gd_c f13 ?_
        have f14 := (tN_117 K8.1.1 (ext_is K8.2 (Nat.zero_lt_succ _) (ext_is K6.2 (Nat.zero_lt_succ _) (ext_is K3.2.1 (Nat.zero_lt_succ _) (ext_is K0.2.1 (Nat.zero_lt_succ _) n_a0)))))
        refine gd_c f14 ?_
        have f24 := (tN_117 K8.1.1 (ext_is K8.2 (Nat.zero_lt_succ _) (ext_is K6.2 (Nat.zero_lt_succ _) (ext_is K3.2.1 (Nat.zero_lt_succ _) (ext_is K0.2.1 (Nat.zero_lt_succ _) n_a0)))))
        have f25 := (tN_117 K8.1.1 (ext_is K8.2 (Nat.zero_lt_succ _) (ext_is K6.2 (Nat.zero_lt_succ _) (ext_is K3.2.1 (Nat.zero_lt_succ _) (ext_is K0.2.1 (Nat.zero_lt_succ _) n_a1)))))
        refine gd_b (gX62_isBelow _ _ _ ⟨K8.1.1, K8.1.2⟩ f24 f25 ) (fun K15 => ?_)
        refine gd_fi (fun c16_0 => ?_) (fun c16_0 => ?_)
        · have f17 := (ext_is K15.2.1 (Nat.zero_lt_succ _) (ext_is K8.2 (Nat.zero_lt_succ _) (ext_is K6.2 (Nat.zero_lt_succ _) (ext_is K3.2.1 (Nat.zero_lt_succ _) (ext_is K0.2.1 (Nat.zero_lt_succ _) n_a1)))))
          refine gd_c f17 ?_
          have f18 := (ext_is K15.2.1 (Nat.zero_lt_succ _) (ext_is K8.2 (Nat.zero_lt_succ _) (ext_is K6.2 (Nat.zero_lt_succ _) (ext_is K3.2.1 (Nat.zero_lt_succ _) (ext_is K0.2.1 (Nat.zero_lt_succ _) n_a0)))))
          refine gd_c f18 ?_
          have f19 := (tN_117 K15.1.1 (ext_is K15.2.1 (Nat.zero_lt_succ _) (ext_is K8.2 (Nat.zero_lt_succ _) (ext_is K6.2 (Nat.zero_lt_succ _) (ext_is K3.2.1 (Nat.zero_lt_succ _) (ext_is K0.2.1 (Nat.zero_lt_succ _) n_a1))))))
          refine gd_c f19 ?_
          have f22 := (tN_117 K15.1.1 (ext_is K15.2.1 (Nat.zero_lt_succ _) (ext_is K8.2 (Nat.zero_lt_succ _) (ext_is K6.2 (Nat.zero_lt_succ _) (ext_is K3.2.1 (Nat.zero_lt_succ _) (ext_is K0.2.1 (Nat.zero_lt_succ _) n_a1))))))
          have f23 := (tN_117 K15.1.1 (ext_is K15.2.1 (Nat.zero_lt_succ _) (ext_is K8.2 (Nat.zero_lt_succ _) (ext_is K6.2 (Nat.zero_lt_succ _) (ext_is K3.2.1 (Nat.zero_lt_succ _) (ext_is K0.2.1 (Nat.zero_lt_succ _) n_a0))))))
          refine gd_b (gX62_isBelow _ _ _ ⟨K15.1.1, K15.1.2⟩ f22 f23 ) (fun K20 => ?_)
          refine gd_fi (fun c21_0 => ?_) (fun c21_0 => ?_)
          · exact gd_tR (ext_tr K0.2.1 (ext_tr K3.2.1 (ext_tr K6.2 (ext_tr K8.2 (ext_tr K15.2.1 K20.2.1))))) (gX71_compareSize_128 _ _ ⟨K20.1.1, K20.1.2⟩  )
          · exact gd_tR (ext_tr K0.2.1 (ext_tr K3.2.1 (ext_tr K6.2 (ext_tr K8.2 (ext_tr K15.2.1 K20.2.1))))) (gX71_compareSize_128 _ _ ⟨K20.1.1, K20.1.2⟩  )
        · exact gd_tR (ext_tr K0.2.1 (ext_tr K3.2.1 (ext_tr K6.2 (ext_tr K8.2 K15.2.1)))) (gX71_compareSize_128 _ _ ⟨K15.1.1, K15.1.2⟩  )
      · have f26 := (ext_is K8.2 (Nat.zero_lt_succ _) (ext_is K6.2 (Nat.zero_lt_succ _) (ext_is K3.2.1 (Nat.zero_lt_succ _) (ext_is K0.2.1 (Nat.zero_lt_succ _) n_a0))))
        refine gd_c f26 ?_
        have f27 := (ext_is K8.2 (Nat.zero_lt_succ _) (ext_is K6.2 (Nat.zero_lt_succ _) (ext_is K3.2.1 (Nat.zero_lt_succ _) (ext_is K0.2.1 (Nat.zero_lt_succ _) n_a1))))
        refine gd_c f27 ?_
        refine gd_fi (fun c28_0 => ?_) (fun c28_0 => ?_)
        · exact gd_tR (ext_tr K0.2.1 (ext_tr K3.2.1 (ext_tr K6.2 K8.2))) (gX71_compareSize_90 _ _ ⟨K8.1.1, K8.1.2⟩  )
        · exact gd_tR (ext_tr K0.2.1 (ext_tr K3.2.1 (ext_tr K6.2 K8.2))) (gX71_compareSize_90 _ _ ⟨K8.1.1, K8.1.2⟩  )
    · have f31 := (ext_is K3.2.1 (Nat.zero_lt_succ _) (ext_is K0.2.1 (Nat.zero_lt_succ _) n_a0))
      have f32 := (ext_is K3.2.1 (Nat.zero_lt_succ _) (ext_is K0.2.1 (Nat.zero_lt_succ _) n_a1))
      exact gd_tR (ext_tr K0.2.1 K3.2.1) (gX71_compareSize_20 _ _ _ ⟨K3.1.1, K3.1.2⟩ f31 f32 )
  · have f35 := (ext_is K0.2.1 (Nat.zero_lt_succ _) n_a0)
    have f36 := (ext_is K0.2.1 (Nat.zero_lt_succ _) n_a1)
    exact gd_tR K0.2.1 (gX71_compareSize_20 _ _ _ ⟨K0.1.1, K0.1.2⟩ f35 f36 )
noncomputable def GX71_compareSize (a0 : Nat) (a1 : Nat) (M : FM) : Int32 × FM := GX71_compareSize_0 a0 a1 M
def HX71_compareSize (a0 : Nat) (a1 : Nat) (M : FM) : Prop := HX71_compareSize_0 a0 a1 M
theorem gX71_compareSize (a0 : Nat) (a1 : Nat) (M : FM) (T : Ty M) (n_a0 : fm_is M 39 39 a0 = true) (n_a1 : fm_is M 39 39 a1 = true) (h : HX71_compareSize a0 a1 M) : gd (FX71_compareSize fN a0 a1 M) (GX71_compareSize a0 a1 M) (OkR M) := gX71_compareSize_0 a0 a1 M T n_a0 n_a1 h
noncomputable def GX71_compare_115 (s0 : Int32) (M : FM) : Int32 × FM :=
  (s0, M)
theorem gX71_compare_115 (s0 : Int32) (M : FM) (T : Ty M) : gd (FX71_compare_115 fN s0 M) (GX71_compare_115 s0 M) (OkR M) := by
  delta FX71_compare_115 BX71_compare_115
  exact ⟨rfl, ⟨T.1, T.2⟩, (ext_r _)⟩
noncomputable def GX71_compare_95 (s0 : Int32) (M : FM) : Int32 × FM :=
  (s0, M)
theorem gX71_compare_95 (s0 : Int32) (M : FM) (T : Ty M) : gd (FX71_compare_95 fN s0 M) (GX71_compare_95 s0 M) (OkR M) := by
  delta FX71_compare_95 BX71_compare_95
  exact ⟨rfl, ⟨T.1, T.2⟩, (ext_r _)⟩
noncomputable def GX71_compare_94 (M : FM) : Int32 × FM :=
  GX71_compare_95 (Int32.ofInt 1) M
theorem gX71_compare_94 (M : FM) (T : Ty M) : gd (FX71_compare_94 fN M) (GX71_compare_94 M) (OkR M) := by
  delta FX71_compare_94 BX71_compare_94
  exact gd_tR (ext_r _) (gX71_compare_95 _ _ ⟨T.1, T.2⟩  )
noncomputable def GX71_compare_90 (M : FM) : Int32 × FM :=
  GX71_compare_95 (Int32.ofInt (-1)) M
theorem gX71_compare_90 (M : FM) (T : Ty M) : gd (FX71_compare_90 fN M) (GX71_compare_90 M) (OkR M) := by
  delta FX71_compare_90 BX71_compare_90
  exact gd_tR (ext_r _) (gX71_compare_95 _ _ ⟨T.1, T.2⟩  )
noncomputable def GX71_compare_63 (a0 : Nat) (a1 : Nat) (M : FM) : Int32 × FM :=
  let r1 : Int32 × FM := GX71_is a0 6 M
  fi (r1.1 = 0) (
    fi ((r1.2.1 115 a0 0) = 0) (
      GX71_compare_94 r1.2) (
      GX71_compare_90 r1.2)) (
    fi ((r1.2.1 115 a1 0) = 0) (
      GX71_compare_90 r1.2) (
      GX71_compare_94 r1.2))
theorem gX71_compare_63 (a0 : Nat) (a1 : Nat) (M : FM) (T : Ty M) (n_a0 : fm_is M 39 39 a0 = true) (n_a1 : fm_is M 39 39 a1 = true) : gd (FX71_compare_63 fN a0 a1 M) (GX71_compare_63 a0 a1 M) (OkR M) := by
  delta FX71_compare_63 BX71_compare_63
  refine gd_c n_a0 ?_
  have f6 := (tC_6 T.1)
  refine gd_b (gX71_is _ _ _ ⟨T.1, T.2⟩ n_a0 f6 ) (fun K0 => ?_)
  refine gd_fi (fun c1_0 => ?_) (fun c1_0 => ?_)
  · have f2 := (ext_is K0.2.1 (Nat.zero_lt_succ _) n_a0)
    refine gd_c f2 ?_
    refine gd_fi (fun c3_0 => ?_) (fun c3_0 => ?_)
    · exact gd_tR K0.2.1 (gX71_compare_94  _ ⟨K0.1.1, K0.1.2⟩  )
    · exact gd_tR K0.2.1 (gX71_compare_90  _ ⟨K0.1.1, K0.1.2⟩  )
  · have f4 := (ext_is K0.2.1 (Nat.zero_lt_succ _) n_a1)
    refine gd_c f4 ?_
    refine gd_fi (fun c5_0 => ?_) (fun c5_0 => ?_)
    · exact gd_tR K0.2.1 (gX71_compare_90  _ ⟨K0.1.1, K0.1.2⟩  )
    · exact gd_tR K0.2.1 (gX71_compare_94  _ ⟨K0.1.1, K0.1.2⟩  )
noncomputable def GX71_compare_25 (a0 : Nat) (a1 : Nat) (s0 : Int32) (M : FM) : Int32 × FM :=
  fi (s0 = 0) (
    let r1 : Int32 × FM := GX71_is a0 6 M
    fi (r1.1 = 0) (
      let r2 : Int32 × FM := GX71_is a1 6 r1.2
      fi (r2.1 = 0) (
        fi ((r2.2.1 115 a0 0) = (r2.2.1 115 a1 0)) (
          let r3 : Int32 × FM := GX71_compareSize a0 a1 r2.2
          fi ((r3.2.1 115 a0 0) = 0) (
            GX71_compare_115 r3.1 r3.2) (
            GX71_compare_115 (-r3.1) r3.2)) (
          GX71_compare_63 a0 a1 r2.2)) (
        GX71_compare_63 a0 a1 r2.2)) (
      GX71_compare_63 a0 a1 r1.2)) (
    ((Int32.ofInt 0), M))
def HX71_compare_25 (a0 : Nat) (a1 : Nat) (s0 : Int32) (M : FM) : Prop := ((s0 = 0 → let r1 : Int32 × FM := GX71_is a0 6 M; ((r1.1 = 0 → let r2 : Int32 × FM := GX71_is a1 6 r1.2; ((r2.1 = 0 → (((r2.2.1 115 a0 0) = (r2.2.1 115 a1 0) → (HX71_compareSize a0 a1 r2.2 ∧ True)) ∧ (¬ ((r2.2.1 115 a0 0) = (r2.2.1 115 a1 0)) → True))) ∧ (¬ (r2.1 = 0) → True))) ∧ (¬ (r1.1 = 0) → True))) ∧ (¬ (s0 = 0) → True))
theorem gX71_compare_25 (a0 : Nat) (a1 : Nat) (s0 : Int32) (M : FM) (T : Ty M) (n_a0 : fm_is M 39 39 a0 = true) (n_a1 : fm_is M 39 39 a1 = true) (h : HX71_compare_25 a0 a1 s0 M) : gd (FX71_compare_25 fN a0 a1 s0 M) (GX71_compare_25 a0 a1 s0 M) (OkR M) := by
  delta FX71_compare_25 BX71_compare_25
  refine gd_fi (fun c0_0 => ?_) (fun c0_0 => ?_)
  · refine gd_c n_a0 ?_
    have f23 := (tC_6 T.1)
    refine gd_b (gX71_is _ _ _ ⟨T.1, T.2⟩ n_a0 f23 ) (fun K1 => ?_)
    refine gd_fi (fun c2_0 => ?_) (fun c2_0 => ?_)
    · have f3 := (ext_is K1.2.1 (Nat.zero_lt_succ _) n_a1)
      refine gd_c f3 ?_
      have f19 := (ext_is K1.2.1 (Nat.zero_lt_succ _) n_a1)
      have f20 := (tC_6 K1.1.1)
      refine gd_b (gX71_is _ _ _ ⟨K1.1.1, K1.1.2⟩ f19 f20 ) (fun K4 => ?_)
      refine gd_fi (fun c5_0 => ?_) (fun c5_0 => ?_)
      · have f6 := (ext_is K4.2.1 (Nat.zero_lt_succ _) (ext_is K1.2.1 (Nat.zero_lt_succ _) n_a0))
        refine gd_c f6 ?_
        have f7 := (ext_is K4.2.1 (Nat.zero_lt_succ _) (ext_is K1.2.1 (Nat.zero_lt_succ _) n_a1))
        refine gd_c f7 ?_
        refine gd_fi (fun c8_0 => ?_) (fun c8_0 => ?_)
        · have f9 := (ext_is K4.2.1 (Nat.zero_lt_succ _) (ext_is K1.2.1 (Nat.zero_lt_succ _) n_a0))
          refine gd_c f9 ?_
          have f13 := (ext_is K4.2.1 (Nat.zero_lt_succ _) (ext_is K1.2.1 (Nat.zero_lt_succ _) n_a0))
          have f14 := (ext_is K4.2.1 (Nat.zero_lt_succ _) (ext_is K1.2.1 (Nat.zero_lt_succ _) n_a1))
          refine gd_b (gX71_compareSize _ _ _ ⟨K4.1.1, K4.1.2⟩ f13 f14 ((((h.1 c0_0).1 c2_0).1 c5_0).1 c8_0).1) (fun K10 => ?_)
          have f11 := (ext_is K10.2 (Nat.zero_lt_succ _) (ext_is K4.2.1 (Nat.zero_lt_succ _) (ext_is K1.2.1 (Nat.zero_lt_succ _) n_a0)))
          refine gd_c f11 ?_
          refine gd_fi (fun c12_0 => ?_) (fun c12_0 => ?_)
          · exact gd_tR (ext_tr K1.2.1 (ext_tr K4.2.1 K10.2)) (gX71_compare_115 _ _ ⟨K10.1.1, K10.1.2⟩  )
          · exact gd_tR (ext_tr K1.2.1 (ext_tr K4.2.1 K10.2)) (gX71_compare_115 _ _ ⟨K10.1.1, K10.1.2⟩  )
        · have f15 := (ext_is K4.2.1 (Nat.zero_lt_succ _) (ext_is K1.2.1 (Nat.zero_lt_succ _) n_a0))
          have f16 := (ext_is K4.2.1 (Nat.zero_lt_succ _) (ext_is K1.2.1 (Nat.zero_lt_succ _) n_a1))
          exact gd_tR (ext_tr K1.2.1 K4.2.1) (gX71_compare_63 _ _ _ ⟨K4.1.1, K4.1.2⟩ f15 f16 )
      · have f17 := (ext_is K4.2.1 (Nat.zero_lt_succ _) (ext_is K1.2.1 (Nat.zero_lt_succ _) n_a0))
        have f18 := (ext_is K4.2.1 (Nat.zero_lt_succ _) (ext_is K1.2.1 (Nat.zero_lt_succ _) n_a1))
        exact gd_tR (ext_tr K1.2.1 K4.2.1) (gX71_compare_63 _ _ _ ⟨K4.1.1, K4.1.2⟩ f17 f18 )
    · have f21 := (ext_is K1.2.1 (Nat.zero_lt_succ _) n_a0)
      have f22 := (ext_is K1.2.1 (Nat.zero_lt_succ _) n_a1)
      exact gd_tR K1.2.1 (gX71_compare_63 _ _ _ ⟨K1.1.1, K1.1.2⟩ f21 f22 )
  · exact ⟨rfl, ⟨T.1, T.2⟩, (ext_r _)⟩
noncomputable def GX71_compare_24 (a0 : Nat) (a1 : Nat) (M : FM) : Int32 × FM :=
  GX71_compare_25 a0 a1 (Int32.ofInt 0) M
def HX71_compare_24 (a0 : Nat) (a1 : Nat) (M : FM) : Prop := HX71_compare_25 a0 a1 (Int32.ofInt 0) M
theorem gX71_compare_24 (a0 : Nat) (a1 : Nat) (M : FM) (T : Ty M) (n_a0 : fm_is M 39 39 a0 = true) (n_a1 : fm_is M 39 39 a1 = true) (h : HX71_compare_24 a0 a1 M) : gd (FX71_compare_24 fN a0 a1 M) (GX71_compare_24 a0 a1 M) (OkR M) := by
  delta FX71_compare_24 BX71_compare_24
  exact gd_tR (ext_r _) (gX71_compare_25 _ _ _ _ ⟨T.1, T.2⟩ n_a0 n_a1 h)
noncomputable def GX71_compare_0 (a0 : Nat) (a1 : Nat) (M : FM) : Int32 × FM :=
  let r1 : Int32 × FM := GX71_is a0 6 M
  fi (r1.1 = 0) (
    GX71_compare_24 a0 a1 r1.2) (
    let r2 : Int32 × FM := GX71_is a1 6 r1.2
    fi (r2.1 = 0) (
      GX71_compare_24 a0 a1 r2.2) (
      GX71_compare_25 a0 a1 (Int32.ofInt 1) r2.2))
def HX71_compare_0 (a0 : Nat) (a1 : Nat) (M : FM) : Prop := let r1 : Int32 × FM := GX71_is a0 6 M; ((r1.1 = 0 → HX71_compare_24 a0 a1 r1.2) ∧ (¬ (r1.1 = 0) → let r2 : Int32 × FM := GX71_is a1 6 r1.2; ((r2.1 = 0 → HX71_compare_24 a0 a1 r2.2) ∧ (¬ (r2.1 = 0) → HX71_compare_25 a0 a1 (Int32.ofInt 1) r2.2))))
theorem gX71_compare_0 (a0 : Nat) (a1 : Nat) (M : FM) (T : Ty M) (n_a0 : fm_is M 39 39 a0 = true) (n_a1 : fm_is M 39 39 a1 = true) (h : HX71_compare_0 a0 a1 M) : gd (FX71_compare_0 fN a0 a1 M) (GX71_compare_0 a0 a1 M) (OkR M) := by
  delta FX71_compare_0 BX71_compare_0
  refine gd_c n_a0 ?_
  have f13 := (tC_6 T.1)
  refine gd_b (gX71_is _ _ _ ⟨T.1, T.2⟩ n_a0 f13 ) (fun K0 => ?_)
  refine gd_fi (fun c1_0 => ?_) (fun c1_0 => ?_)
  · have f2 := (ext_is K0.2.1 (Nat.zero_lt_succ _) n_a0)
    have f3 := (ext_is K0.2.1 (Nat.zero_lt_succ _) n_a1)
    exact gd_tR K0.2.1 (gX71_compare_24 _ _ _ ⟨K0.1.1, K0.1.2⟩ f2 f3 (h.1 c1_0))
  · have f4 := (ext_is K0.2.1 (Nat.zero_lt_succ _) n_a1)
    refine gd_c f4 ?_
    have f11 := (ext_is K0.2.1 (Nat.zero_lt_succ _) n_a1)
    have f12 := (tC_6 K0.1.1)
    refine gd_b (gX71_is _ _ _ ⟨K0.1.1, K0.1.2⟩ f11 f12 ) (fun K5 => ?_)
    refine gd_fi (fun c6_0 => ?_) (fun c6_0 => ?_)
    · have f7 := (ext_is K5.2.1 (Nat.zero_lt_succ _) (ext_is K0.2.1 (Nat.zero_lt_succ _) n_a0))
      have f8 := (ext_is K5.2.1 (Nat.zero_lt_succ _) (ext_is K0.2.1 (Nat.zero_lt_succ _) n_a1))
      exact gd_tR (ext_tr K0.2.1 K5.2.1) (gX71_compare_24 _ _ _ ⟨K5.1.1, K5.1.2⟩ f7 f8 ((h.2 c1_0).1 c6_0))
    · have f9 := (ext_is K5.2.1 (Nat.zero_lt_succ _) (ext_is K0.2.1 (Nat.zero_lt_succ _) n_a0))
      have f10 := (ext_is K5.2.1 (Nat.zero_lt_succ _) (ext_is K0.2.1 (Nat.zero_lt_succ _) n_a1))
      exact gd_tR (ext_tr K0.2.1 K5.2.1) (gX71_compare_25 _ _ _ _ ⟨K5.1.1, K5.1.2⟩ f9 f10 ((h.2 c1_0).2 c6_0))
noncomputable def GX71_compare (a0 : Nat) (a1 : Nat) (M : FM) : Int32 × FM := GX71_compare_0 a0 a1 M
def HX71_compare (a0 : Nat) (a1 : Nat) (M : FM) : Prop := HX71_compare_0 a0 a1 M
theorem gX71_compare (a0 : Nat) (a1 : Nat) (M : FM) (T : Ty M) (n_a0 : fm_is M 39 39 a0 = true) (n_a1 : fm_is M 39 39 a1 = true) (h : HX71_compare a0 a1 M) : gd (FX71_compare fN a0 a1 M) (GX71_compare a0 a1 M) (OkR M) := gX71_compare_0 a0 a1 M T n_a0 n_a1 h
noncomputable def GX59_choose_240 (s0 : Nat) (s1 : Int32) (s2 : Nat) (s3 : Int64) (M : FM) : Int32 × FM :=
  let r1 : Int32 × FM := GX59_write s0 s1 s2 s3 M
  (r1.1, r1.2)
def HX59_choose_240 (s0 : Nat) (s1 : Int32) (s2 : Nat) (s3 : Int64) (M : FM) : Prop := (HX59_write s0 s1 s2 s3 M ∧ True)
theorem gX59_choose_240 (s0 : Nat) (s1 : Int32) (s2 : Nat) (s3 : Int64) (M : FM) (T : Ty M) (n_s0 : fm_is M 32 32 s0 = true) (n_s2 : fm_is M 33 33 s2 = true) (h : HX59_choose_240 s0 s1 s2 s3 M) : gd (FX59_choose_240 fN s0 s1 s2 s3 M) (GX59_choose_240 s0 s1 s2 s3 M) (OkR M) := by
  delta FX59_choose_240 BX59_choose_240
  refine gd_c n_s0 ?_
  refine gd_b (gX59_write _ _ _ _ _ ⟨T.1, T.2⟩ n_s0 n_s2 h.1) (fun K0 => ?_)
  exact ⟨rfl, ⟨K0.1.1, K0.1.2⟩, K0.2⟩
noncomputable def GX59_choose_220 (a0 : Nat) (s0 : Nat) (s1 : Int32) (s2 : Nat) (s3 : Int32) (s4 : Int32) (M : FM) : Int32 × FM :=
  fi (s3 = s4) (
    let x1 : Nat := (M.2.2 105 a0 0)
    GX59_choose_240 s0 s1 s2 (M.2.1 118 x1 0) M) (
    let x2 : Nat := (M.2.2 106 a0 0)
    GX59_choose_240 s0 s1 s2 (M.2.1 118 x2 0) M)
def HX59_choose_220 (a0 : Nat) (s0 : Nat) (s1 : Int32) (s2 : Nat) (s3 : Int32) (s4 : Int32) (M : FM) : Prop := ((s3 = s4 → let x1 : Nat := (M.2.2 105 a0 0); HX59_choose_240 s0 s1 s2 (M.2.1 118 x1 0) M) ∧ (¬ (s3 = s4) → let x2 : Nat := (M.2.2 106 a0 0); HX59_choose_240 s0 s1 s2 (M.2.1 118 x2 0) M))
theorem gX59_choose_220 (a0 : Nat) (s0 : Nat) (s1 : Int32) (s2 : Nat) (s3 : Int32) (s4 : Int32) (M : FM) (T : Ty M) (n_a0 : fm_is M 32 32 a0 = true) (n_s0 : fm_is M 32 32 s0 = true) (n_s2 : fm_is M 33 33 s2 = true) (h : HX59_choose_220 a0 s0 s1 s2 s3 s4 M) : gd (FX59_choose_220 fN a0 s0 s1 s2 s3 s4 M) (GX59_choose_220 a0 s0 s1 s2 s3 s4 M) (OkR M) := by
  delta FX59_choose_220 BX59_choose_220
  refine gd_fi (fun c0_0 => ?_) (fun c0_0 => ?_)
  · refine gd_c n_a0 ?_
    have f1 := (tN_105 T.1 n_a0)
    refine gd_c f1 ?_
    exact gd_tR (ext_r _) (gX59_choose_240 _ _ _ _ _ ⟨T.1, T.2⟩ n_s0 n_s2 (h.1 c0_0))
  · refine gd_c n_a0 ?_
    have f2 := (tN_106 T.1 n_a0)
    refine gd_c f2 ?_
    exact gd_tR (ext_r _) (gX59_choose_240 _ _ _ _ _ ⟨T.1, T.2⟩ n_s0 n_s2 (h.2 c0_0))
noncomputable def GX59_choose_204 (a0 : Nat) (a1 : Int32) (a2 : Nat) (a3 : Int32) (s0 : Int32) (M : FM) : Int32 × FM :=
  fi (a3 = 0) (
    GX59_choose_220 a0 a0 a1 a2 s0 (Int32.ofInt 1) M) (
    GX59_choose_220 a0 a0 a1 a2 s0 (Int32.ofInt 0) M)
def HX59_choose_204 (a0 : Nat) (a1 : Int32) (a2 : Nat) (a3 : Int32) (s0 : Int32) (M : FM) : Prop := ((a3 = 0 → HX59_choose_220 a0 a0 a1 a2 s0 (Int32.ofInt 1) M) ∧ (¬ (a3 = 0) → HX59_choose_220 a0 a0 a1 a2 s0 (Int32.ofInt 0) M))
theorem gX59_choose_204 (a0 : Nat) (a1 : Int32) (a2 : Nat) (a3 : Int32) (s0 : Int32) (M : FM) (T : Ty M) (n_a0 : fm_is M 32 32 a0 = true) (n_a2 : fm_is M 33 33 a2 = true) (h : HX59_choose_204 a0 a1 a2 a3 s0 M) : gd (FX59_choose_204 fN a0 a1 a2 a3 s0 M) (GX59_choose_204 a0 a1 a2 a3 s0 M) (OkR M) := by
  delta FX59_choose_204 BX59_choose_204
  refine gd_fi (fun c0_0 => ?_) (fun c0_0 => ?_)
  · exact gd_tR (ext_r _) (gX59_choose_220 _ _ _ _ _ _ _ ⟨T.1, T.2⟩ n_a0 n_a0 n_a2 (h.1 c0_0))
  · exact gd_tR (ext_r _) (gX59_choose_220 _ _ _ _ _ _ _ ⟨T.1, T.2⟩ n_a0 n_a0 n_a2 (h.2 c0_0))
noncomputable def GX59_choose_162 (s0 : Nat) (s1 : Int32) (s2 : Nat) (s3 : Int64) (M : FM) : Int32 × FM :=
  let r1 : Int32 × FM := GX59_write s0 s1 s2 s3 M
  (r1.1, r1.2)
def HX59_choose_162 (s0 : Nat) (s1 : Int32) (s2 : Nat) (s3 : Int64) (M : FM) : Prop := (HX59_write s0 s1 s2 s3 M ∧ True)
theorem gX59_choose_162 (s0 : Nat) (s1 : Int32) (s2 : Nat) (s3 : Int64) (M : FM) (T : Ty M) (n_s0 : fm_is M 32 32 s0 = true) (n_s2 : fm_is M 33 33 s2 = true) (h : HX59_choose_162 s0 s1 s2 s3 M) : gd (FX59_choose_162 fN s0 s1 s2 s3 M) (GX59_choose_162 s0 s1 s2 s3 M) (OkR M) := by
  delta FX59_choose_162 BX59_choose_162
  refine gd_c n_s0 ?_
  refine gd_b (gX59_write _ _ _ _ _ ⟨T.1, T.2⟩ n_s0 n_s2 h.1) (fun K0 => ?_)
  exact ⟨rfl, ⟨K0.1.1, K0.1.2⟩, K0.2⟩
noncomputable def GX59_choose_140 (a0 : Nat) (a4 : Int32) (s0 : Nat) (s1 : Int32) (s2 : Nat) (M : FM) : Int32 × FM :=
  fi (a4 = 0) (
    let x1 : Nat := (M.2.2 105 a0 0)
    GX59_choose_162 s0 s1 s2 (M.2.1 118 x1 0) M) (
    let x2 : Nat := (M.2.2 106 a0 0)
    GX59_choose_162 s0 s1 s2 (M.2.1 118 x2 0) M)
def HX59_choose_140 (a0 : Nat) (a4 : Int32) (s0 : Nat) (s1 : Int32) (s2 : Nat) (M : FM) : Prop := ((a4 = 0 → let x1 : Nat := (M.2.2 105 a0 0); HX59_choose_162 s0 s1 s2 (M.2.1 118 x1 0) M) ∧ (¬ (a4 = 0) → let x2 : Nat := (M.2.2 106 a0 0); HX59_choose_162 s0 s1 s2 (M.2.1 118 x2 0) M))
theorem gX59_choose_140 (a0 : Nat) (a4 : Int32) (s0 : Nat) (s1 : Int32) (s2 : Nat) (M : FM) (T : Ty M) (n_a0 : fm_is M 32 32 a0 = true) (n_s0 : fm_is M 32 32 s0 = true) (n_s2 : fm_is M 33 33 s2 = true) (h : HX59_choose_140 a0 a4 s0 s1 s2 M) : gd (FX59_choose_140 fN a0 a4 s0 s1 s2 M) (GX59_choose_140 a0 a4 s0 s1 s2 M) (OkR M) := by
  delta FX59_choose_140 BX59_choose_140
  refine gd_fi (fun c0_0 => ?_) (fun c0_0 => ?_)
  · refine gd_c n_a0 ?_
    have f1 := (tN_105 T.1 n_a0)
    refine gd_c f1 ?_
    exact gd_tR (ext_r _) (gX59_choose_162 _ _ _ _ _ ⟨T.1, T.2⟩ n_s0 n_s2 (h.1 c0_0))
  · refine gd_c n_a0 ?_
    have f2 := (tN_106 T.1 n_a0)
    refine gd_c f2 ?_
    exact gd_tR (ext_r _) (gX59_choose_162 _ _ _ _ _ ⟨T.1, T.2⟩ n_s0 n_s2 (h.2 c0_0))
noncomputable def GX59_choose_120 (a0 : Nat) (a1 : Int32) (a2 : Nat) (a4 : Int32) (a5 : Int32) (M : FM) : Int32 × FM :=
  fi (a4 = 0) (
    GX59_choose_140 a0 a4 a0 a1 a2 M) (
    fi (a5 = 0) (
      GX59_choose_140 a0 a4 a0 a1 a2 M) (
      let r1 : Int64 × FM := GX61_quiet a2 M
      GX59_choose_162 a0 a1 a2 r1.1 r1.2))
def HX59_choose_120 (a0 : Nat) (a1 : Int32) (a2 : Nat) (a4 : Int32) (a5 : Int32) (M : FM) : Prop := ((a4 = 0 → HX59_choose_140 a0 a4 a0 a1 a2 M) ∧ (¬ (a4 = 0) → ((a5 = 0 → HX59_choose_140 a0 a4 a0 a1 a2 M) ∧ (¬ (a5 = 0) → let r1 : Int64 × FM := GX61_quiet a2 M; HX59_choose_162 a0 a1 a2 r1.1 r1.2))))
theorem gX59_choose_120 (a0 : Nat) (a1 : Int32) (a2 : Nat) (a4 : Int32) (a5 : Int32) (M : FM) (T : Ty M) (n_a0 : fm_is M 32 32 a0 = true) (n_a2 : fm_is M 33 33 a2 = true) (h : HX59_choose_120 a0 a1 a2 a4 a5 M) : gd (FX59_choose_120 fN a0 a1 a2 a4 a5 M) (GX59_choose_120 a0 a1 a2 a4 a5 M) (OkR M) := by
  delta FX59_choose_120 BX59_choose_120
  refine gd_fi (fun c0_0 => ?_) (fun c0_0 => ?_)
  · exact gd_tR (ext_r _) (gX59_choose_140 _ _ _ _ _ _ ⟨T.1, T.2⟩ n_a0 n_a0 n_a2 (h.1 c0_0))
  · refine gd_fi (fun c1_0 => ?_) (fun c1_0 => ?_)
    · exact gd_tR (ext_r _) (gX59_choose_140 _ _ _ _ _ _ ⟨T.1, T.2⟩ n_a0 n_a0 n_a2 ((h.2 c0_0).1 c1_0))
    · refine gd_c n_a2 ?_
      refine gd_b (gX61_quiet _ _ ⟨T.1, T.2⟩ n_a2 ) (fun K2 => ?_)
      have f3 := (ext_is K2.2 (Nat.zero_lt_succ _) n_a0)
      have f4 := (ext_is K2.2 (Nat.zero_lt_succ _) n_a2)
      exact gd_tR K2.2 (gX59_choose_162 _ _ _ _ _ ⟨K2.1.1, K2.1.2⟩ f3 f4 ((h.2 c0_0).2 c1_0))
noncomputable def GX59_choose_107 (a0 : Nat) (a1 : Int32) (a2 : Nat) (a3 : Int32) (a4 : Int32) (a5 : Int32) (s0 : Nat) (s1 : Int32) (M : FM) : Int32 × FM :=
  let M1 : FM := GX60_raise s0 s1 M
  fi (a4 = 0) (
    fi (a5 = 0) (
      let x2 : Nat := (M1.2.2 105 a0 0)
      let r3 : Int32 × FM := GX71_compare x2 (M1.2.2 106 a0 0) M1
      fi (r3.1 = 0) (
        let x4 : Nat := (r3.2.2.2 105 a0 0)
        GX59_choose_204 a0 a1 a2 a3 (r3.2.1 115 x4 0) r3.2) (
        fi (0 ≤ r3.1) (
          GX59_choose_204 a0 a1 a2 a3 (Int32.ofInt 0) r3.2) (
          GX59_choose_204 a0 a1 a2 a3 (Int32.ofInt 1) r3.2))) (
      GX59_choose_120 a0 a1 a2 a4 a5 M1)) (
    GX59_choose_120 a0 a1 a2 a4 a5 M1)
def HX59_choose_107 (a0 : Nat) (a1 : Int32) (a2 : Nat) (a3 : Int32) (a4 : Int32) (a5 : Int32) (s0 : Nat) (s1 : Int32) (M : FM) : Prop := (HX60_raise s0 s1 M ∧ let M1 : FM := GX60_raise s0 s1 M; ((a4 = 0 → ((a5 = 0 → let x2 : Nat := (M1.2.2 105 a0 0); (HX71_compare x2 (M1.2.2 106 a0 0) M1 ∧ let r3 : Int32 × FM := GX71_compare x2 (M1.2.2 106 a0 0) M1; ((r3.1 = 0 → let x4 : Nat := (r3.2.2.2 105 a0 0); HX59_choose_204 a0 a1 a2 a3 (r3.2.1 115 x4 0) r3.2) ∧ (¬ (r3.1 = 0) → ((0 ≤ r3.1 → HX59_choose_204 a0 a1 a2 a3 (Int32.ofInt 0) r3.2) ∧ (¬ (0 ≤ r3.1) → HX59_choose_204 a0 a1 a2 a3 (Int32.ofInt 1) r3.2)))))) ∧ (¬ (a5 = 0) → HX59_choose_120 a0 a1 a2 a4 a5 M1))) ∧ (¬ (a4 = 0) → HX59_choose_120 a0 a1 a2 a4 a5 M1)))
theorem gX59_choose_107 (a0 : Nat) (a1 : Int32) (a2 : Nat) (a3 : Int32) (a4 : Int32) (a5 : Int32) (s0 : Nat) (s1 : Int32) (M : FM) (T : Ty M) (n_s0 : fm_is M 31 31 s0 = true) (n_a0 : fm_is M 32 32 a0 = true) (n_a2 : fm_is M 33 33 a2 = true) (h : HX59_choose_107 a0 a1 a2 a3 a4 a5 s0 s1 M) : gd (FX59_choose_107 fN a0 a1 a2 a3 a4 a5 s0 s1 M) (GX59_choose_107 a0 a1 a2 a3 a4 a5 s0 s1 M) (OkR M) := by
  delta FX59_choose_107 BX59_choose_107
  refine gd_c n_s0 ?_
  refine gd_b (gX60_raise _ _ _ ⟨T.1, T.2⟩ n_s0 h.1) (fun K0 => ?_)
  refine gd_fi (fun c1_0 => ?_) (fun c1_0 => ?_)
  · refine gd_fi (fun c2_0 => ?_) (fun c2_0 => ?_)
    · have f3 := (ext_is K0.2 (Nat.zero_lt_succ _) n_a0)
      refine gd_c f3 ?_
      have f4 := (ext_is K0.2 (Nat.zero_lt_succ _) n_a0)
      refine gd_c f4 ?_
      have f5 := (tN_105 K0.1.1 (ext_is K0.2 (Nat.zero_lt_succ _) n_a0))
      refine gd_c f5 ?_
      have f17 := (tN_105 K0.1.1 (ext_is K0.2 (Nat.zero_lt_succ _) n_a0))
      have f18 := (tN_106 K0.1.1 (ext_is K0.2 (Nat.zero_lt_succ _) n_a0))
      refine gd_b (gX71_compare _ _ _ ⟨K0.1.1, K0.1.2⟩ f17 f18 ((h.2.1 c1_0).1 c2_0).1) (fun K6 => ?_)
      refine gd_fi (fun c7_0 => ?_) (fun c7_0 => ?_)
      · have f8 := (ext_is K6.2 (Nat.zero_lt_succ _) (ext_is K0.2 (Nat.zero_lt_succ _) n_a0))
        refine gd_c f8 ?_
        have f9 := (tN_105 K6.1.1 (ext_is K6.2 (Nat.zero_lt_succ _) (ext_is K0.2 (Nat.zero_lt_succ _) n_a0)))
        refine gd_c f9 ?_
        have f10 := (ext_is K6.2 (Nat.zero_lt_succ _) (ext_is K0.2 (Nat.zero_lt_succ _) n_a0))
        have f11 := (ext_is K6.2 (Nat.zero_lt_succ _) (ext_is K0.2 (Nat.zero_lt_succ _) n_a2))
        exact gd_tR (ext_tr K0.2 K6.2) (gX59_choose_204 _ _ _ _ _ _ ⟨K6.1.1, K6.1.2⟩ f10 f11 (((h.2.1 c1_0).1 c2_0).2.1 c7_0))
      · refine gd_fi (fun c12_0 => ?_) (fun c12_0 => ?_)
        · have f13 := (ext_is K6.2 (Nat.zero_lt_succ _) (ext_is K0.2 (Nat.zero_lt_succ _) n_a0))
          have f14 := (ext_is K6.2 (Nat.zero_lt_succ _) (ext_is K0.2 (Nat.zero_lt_succ _) n_a2))
          exact gd_tR (ext_tr K0.2 K6.2) (gX59_choose_204 _ _ _ _ _ _ ⟨K6.1.1, K6.1.2⟩ f13 f14 ((((h.2.1 c1_0).1 c2_0).2.2 c7_0).1 c12_0))
        · have f15 := (ext_is K6.2 (Nat.zero_lt_succ _) (ext_is K0.2 (Nat.zero_lt_succ _) n_a0))
          have f16 := (ext_is K6.2 (Nat.zero_lt_succ _) (ext_is K0.2 (Nat.zero_lt_succ _) n_a2))
          exact gd_tR (ext_tr K0.2 K6.2) (gX59_choose_204 _ _ _ _ _ _ ⟨K6.1.1, K6.1.2⟩ f15 f16 ((((h.2.1 c1_0).1 c2_0).2.2 c7_0).2 c12_0))
    · have f19 := (ext_is K0.2 (Nat.zero_lt_succ _) n_a0)
      have f20 := (ext_is K0.2 (Nat.zero_lt_succ _) n_a2)
      exact gd_tR K0.2 (gX59_choose_120 _ _ _ _ _ _ ⟨K0.1.1, K0.1.2⟩ f19 f20 ((h.2.1 c1_0).2 c2_0))
  · have f21 := (ext_is K0.2 (Nat.zero_lt_succ _) n_a0)
    have f22 := (ext_is K0.2 (Nat.zero_lt_succ _) n_a2)
    exact gd_tR K0.2 (gX59_choose_120 _ _ _ _ _ _ ⟨K0.1.1, K0.1.2⟩ f21 f22 (h.2.2 c1_0))
noncomputable def GX59_choose_101 (a0 : Nat) (a1 : Int32) (a2 : Nat) (a3 : Int32) (a4 : Int32) (a5 : Int32) (s0 : Nat) (M : FM) : Int32 × FM :=
  GX59_choose_107 a0 a1 a2 a3 a4 a5 s0 (Int32.ofInt 16) M
def HX59_choose_101 (a0 : Nat) (a1 : Int32) (a2 : Nat) (a3 : Int32) (a4 : Int32) (a5 : Int32) (s0 : Nat) (M : FM) : Prop := HX59_choose_107 a0 a1 a2 a3 a4 a5 s0 (Int32.ofInt 16) M
theorem gX59_choose_101 (a0 : Nat) (a1 : Int32) (a2 : Nat) (a3 : Int32) (a4 : Int32) (a5 : Int32) (s0 : Nat) (M : FM) (T : Ty M) (n_s0 : fm_is M 31 31 s0 = true) (n_a0 : fm_is M 32 32 a0 = true) (n_a2 : fm_is M 33 33 a2 = true) (h : HX59_choose_101 a0 a1 a2 a3 a4 a5 s0 M) : gd (FX59_choose_101 fN a0 a1 a2 a3 a4 a5 s0 M) (GX59_choose_101 a0 a1 a2 a3 a4 a5 s0 M) (OkR M) := by
  delta FX59_choose_101 BX59_choose_101
  exact gd_tR (ext_r _) (gX59_choose_107 _ _ _ _ _ _ _ _ _ ⟨T.1, T.2⟩ n_s0 n_a0 n_a2 h)
noncomputable def GX59_choose_0 (a0 : Nat) (a1 : Int32) (a2 : Nat) (M : FM) : Int32 × FM :=
  let r1 : Int32 × FM := GX59_part a1 (Int32.ofInt 12) (Int32.ofInt 3) M
  fi (r1.1 ≤ (Int32.ofInt 1)) (
    let r2 : Int32 × FM := GX59_part a1 (Int32.ofInt 15) (Int32.ofInt 5) r1.2
    let M3 : FM := GX59_take a0 r2.1 a2 (r2.2.2.2 105 a0 0) r2.2
    let r4 : Int32 × FM := GX59_part a1 (Int32.ofInt 20) (Int32.ofInt 5) M3
    let M5 : FM := GX59_take a0 r4.1 a2 (r4.2.2.2 106 a0 0) r4.2
    let x6 : Nat := (M5.2.2 105 a0 0)
    let x7 : Nat := (M5.2.2 114 x6 0)
    let r8 : Int32 × FM := GX72_isNone x7 M5
    let x9 : Nat := (r8.2.2.2 106 a0 0)
    let x10 : Nat := (r8.2.2.2 114 x9 0)
    let r11 : Int32 × FM := GX72_isNone x10 r8.2
    let x12 : Nat := (r11.2.2.2 105 a0 0)
    let r13 : Int32 × FM := GX71_is x12 10 r11.2
    fi (r13.1 = 0) (
      let x14 : Nat := (r13.2.2.2 106 a0 0)
      let r15 : Int32 × FM := GX71_is x14 10 r13.2
      fi (r15.1 = 0) (
        GX59_choose_107 a0 a1 a2 r1.1 r8.1 r11.1 (r11.2.2.2 94 a0 0) (Int32.ofInt 0) r15.2) (
        GX59_choose_101 a0 a1 a2 r1.1 r8.1 r11.1 (r11.2.2.2 94 a0 0) r15.2)) (
      GX59_choose_101 a0 a1 a2 r1.1 r8.1 r11.1 (r11.2.2.2 94 a0 0) r13.2)) (
    ((Int32.ofInt (-1)), r1.2))
def HX59_choose_0 (a0 : Nat) (a1 : Int32) (a2 : Nat) (M : FM) : Prop := let r1 : Int32 × FM := GX59_part a1 (Int32.ofInt 12) (Int32.ofInt 3) M; ((r1.1 ≤ (Int32.ofInt 1) → let r2 : Int32 × FM := GX59_part a1 (Int32.ofInt 15) (Int32.ofInt 5) r1.2; (HX59_take a0 r2.1 a2 (r2.2.2.2 105 a0 0) r2.2 ∧ let M3 : FM := GX59_take a0 r2.1 a2 (r2.2.2.2 105 a0 0) r2.2; let r4 : Int32 × FM := GX59_part a1 (Int32.ofInt 20) (Int32.ofInt 5) M3; (HX59_take a0 r4.1 a2 (r4.2.2.2 106 a0 0) r4.2 ∧ let M5 : FM := GX59_take a0 r4.1 a2 (r4.2.2.2 106 a0 0) r4.2; let x6 : Nat := (M5.2.2 105 a0 0); let x7 : Nat := (M5.2.2 114 x6 0); let r8 : Int32 × FM := GX72_isNone x7 M5; let x9 : Nat := (r8.2.2.2 106 a0 0); let x10 : Nat := (r8.2.2.2 114 x9 0); let r11 : Int32 × FM := GX72_isNone x10 r8.2; let x12 : Nat := (r11.2.2.2 105 a0 0); let r13 : Int32 × FM := GX71_is x12 10 r11.2; ((r13.1 = 0 → let x14 : Nat := (r13.2.2.2 106 a0 0); let r15 : Int32 × FM := GX71_is x14 10 r13.2; ((r15.1 = 0 → HX59_choose_107 a0 a1 a2 r1.1 r8.1 r11.1 (r11.2.2.2 94 a0 0) (Int32.ofInt 0) r15.2) ∧ (¬ (r15.1 = 0) → HX59_choose_101 a0 a1 a2 r1.1 r8.1 r11.1 (r11.2.2.2 94 a0 0) r15.2))) ∧ (¬ (r13.1 = 0) → HX59_choose_101 a0 a1 a2 r1.1 r8.1 r11.1 (r11.2.2.2 94 a0 0) r13.2))))) ∧ (¬ (r1.1 ≤ (Int32.ofInt 1)) → True))
theorem gX59_choose_0 (a0 : Nat) (a1 : Int32) (a2 : Nat) (M : FM) (T : Ty M) (n_a0 : fm_is M 32 32 a0 = true) (n_a2 : fm_is M 33 33 a2 = true) (h : HX59_choose_0 a0 a1 a2 M) : gd (FX59_choose_0 fN a0 a1 a2 M) (GX59_choose_0 a0 a1 a2 M) (OkR M) := by
  delta FX59_choose_0 BX59_choose_0
  refine gd_b (gX59_part _ _ _ _ ⟨T.1, T.2⟩  ) (fun K0 => ?_)
  refine gd_fi (fun c1_0 => ?_) (fun c1_0 => ?_)
  · refine gd_b (gX59_part _ _ _ _ ⟨K0.1.1, K0.1.2⟩  ) (fun K2 => ?_)
    have f3 := (ext_is K2.2 (Nat.zero_lt_succ _) (ext_is K0.2 (Nat.zero_lt_succ _) n_a0))
    refine gd_c f3 ?_
    have f4 := (ext_is K2.2 (Nat.zero_lt_succ _) (ext_is K0.2 (Nat.zero_lt_succ _) n_a0))
    refine gd_c f4 ?_
    have f45 := (ext_is K2.2 (Nat.zero_lt_succ _) (ext_is K0.2 (Nat.zero_lt_succ _) n_a0))
    have f46 := (ext_is K2.2 (Nat.zero_lt_succ _) (ext_is K0.2 (Nat.zero_lt_succ _) n_a2))
    have f47 := (tN_105 K2.1.1 (ext_is K2.2 (Nat.zero_lt_succ _) (ext_is K0.2 (Nat.zero_lt_succ _) n_a0)))
    refine gd_b (gX59_take _ _ _ _ _ ⟨K2.1.1, K2.1.2⟩ f45 f46 f47 (h.1 c1_0).1) (fun K5 => ?_)
    refine gd_b (gX59_part _ _ _ _ ⟨K5.1.1, K5.1.2⟩  ) (fun K6 => ?_)
    have f7 := (ext_is K6.2 (Nat.zero_lt_succ _) (ext_is K5.2 (Nat.zero_lt_succ _) (ext_is K2.2 (Nat.zero_lt_succ _) (ext_is K0.2 (Nat.zero_lt_succ _) n_a0))))
    refine gd_c f7 ?_
    have f8 := (ext_is K6.2 (Nat.zero_lt_succ _) (ext_is K5.2 (Nat.zero_lt_succ _) (ext_is K2.2 (Nat.zero_lt_succ _) (ext_is K0.2 (Nat.zero_lt_succ _) n_a0))))
    refine gd_c f8 ?_
    have f42 := (ext_is K6.2 (Nat.zero_lt_succ _) (ext_is K5.2 (Nat.zero_lt_succ _) (ext_is K2.2 (Nat.zero_lt_succ _) (ext_is K0.2 (Nat.zero_lt_succ _) n_a0))))
    have f43 := (ext_is K6.2 (Nat.zero_lt_succ _) (ext_is K5.2 (Nat.zero_lt_succ _) (ext_is K2.2 (Nat.zero_lt_succ _) (ext_is K0.2 (Nat.zero_lt_succ _) n_a2))))
    have f44 := (tN_106 K6.1.1 (ext_is K6.2 (Nat.zero_lt_succ _) (ext_is K5.2 (Nat.zero_lt_succ _) (ext_is K2.2 (Nat.zero_lt_succ _) (ext_is K0.2 (Nat.zero_lt_succ _) n_a0)))))
    refine gd_b (gX59_take _ _ _ _ _ ⟨K6.1.1, K6.1.2⟩ f42 f43 f44 (h.1 c1_0).2.1) (fun K9 => ?_)
    have f10 := (ext_is K9.2 (Nat.zero_lt_succ _) (ext_is K6.2 (Nat.zero_lt_succ _) (ext_is K5.2 (Nat.zero_lt_succ _) (ext_is K2.2 (Nat.zero_lt_succ _) (ext_is K0.2 (Nat.zero_lt_succ _) n_a0)))))
    refine gd_c f10 ?_
    have f11 := (tN_105 K9.1.1 (ext_is K9.2 (Nat.zero_lt_succ _) (ext_is K6.2 (Nat.zero_lt_succ _) (ext_is K5.2 (Nat.zero_lt_succ _) (ext_is K2.2 (Nat.zero_lt_succ _) (ext_is K0.2 (Nat.zero_lt_succ _) n_a0))))))
    refine gd_c f11 ?_
    have f12 := (tN_114 K9.1.1 (tN_105 K9.1.1 (ext_is K9.2 (Nat.zero_lt_succ _) (ext_is K6.2 (Nat.zero_lt_succ _) (ext_is K5.2 (Nat.zero_lt_succ _) (ext_is K2.2 (Nat.zero_lt_succ _) (ext_is K0.2 (Nat.zero_lt_succ _) n_a0)))))))
    refine gd_c f12 ?_
    have f41 := (tN_114 K9.1.1 (tN_105 K9.1.1 (ext_is K9.2 (Nat.zero_lt_succ _) (ext_is K6.2 (Nat.zero_lt_succ _) (ext_is K5.2 (Nat.zero_lt_succ _) (ext_is K2.2 (Nat.zero_lt_succ _) (ext_is K0.2 (Nat.zero_lt_succ _) n_a0)))))))
    refine gd_b (gX72_isNone _ _ ⟨K9.1.1, K9.1.2⟩ f41 ) (fun K13 => ?_)
    have f14 := (ext_is K13.2.1 (Nat.zero_lt_succ _) (ext_is K9.2 (Nat.zero_lt_succ _) (ext_is K6.2 (Nat.zero_lt_succ _) (ext_is K5.2 (Nat.zero_lt_succ _) (ext_is K2.2 (Nat.zero_lt_succ _) (ext_is K0.2 (Nat.zero_lt_succ _) n_a0))))))
    refine gd_c f14 ?_
    have f15 := (tN_106 K13.1.1 (ext_is K13.2.1 (Nat.zero_lt_succ _) (ext_is K9.2 (Nat.zero_lt_succ _) (ext_is K6.2 (Nat.zero_lt_succ _) (ext_is K5.2 (Nat.zero_lt_succ _) (ext_is K2.2 (Nat.zero_lt_succ _) (ext_is K0.2 (Nat.zero_lt_succ _) n_a0)))))))
    refine gd_c f15 ?_
    have f16 := (tN_114 K13.1.1 (tN_106 K13.1.1 (ext_is K13.2.1 (Nat.zero_lt_succ _) (ext_is K9.2 (Nat.zero_lt_succ _) (ext_is K6.2 (Nat.zero_lt_succ _) (ext_is K5.2 (Nat.zero_lt_succ _) (ext_is K2.2 (Nat.zero_lt_succ _) (ext_is K0.2 (Nat.zero_lt_succ _) n_a0))))))))
    refine gd_c f16 ?_
    have f40 := (tN_114 K13.1.1 (tN_106 K13.1.1 (ext_is K13.2.1 (Nat.zero_lt_succ _) (ext_is K9.2 (Nat.zero_lt_succ _) (ext_is K6.2 (Nat.zero_lt_succ _) (ext_is K5.2 (Nat.zero_lt_succ _) (ext_is K2.2 (Nat.zero_lt_succ _) (ext_is K0.2 (Nat.zero_lt_succ _) n_a0))))))))
    refine gd_b (gX72_isNone _ _ ⟨K13.1.1, K13.1.2⟩ f40 ) (fun K17 => ?_)
    have f18 := (ext_is K17.2.1 (Nat.zero_lt_succ _) (ext_is K13.2.1 (Nat.zero_lt_succ _) (ext_is K9.2 (Nat.zero_lt_succ _) (ext_is K6.2 (Nat.zero_lt_succ _) (ext_is K5.2 (Nat.zero_lt_succ _) (ext_is K2.2 (Nat.zero_lt_succ _) (ext_is K0.2 (Nat.zero_lt_succ _) n_a0)))))))
    refine gd_c f18 ?_
    have f19 := (ext_is K17.2.1 (Nat.zero_lt_succ _) (ext_is K13.2.1 (Nat.zero_lt_succ _) (ext_is K9.2 (Nat.zero_lt_succ _) (ext_is K6.2 (Nat.zero_lt_succ _) (ext_is K5.2 (Nat.zero_lt_succ _) (ext_is K2.2 (Nat.zero_lt_succ _) (ext_is K0.2 (Nat.zero_lt_succ _) n_a0)))))))
    refine gd_c f19 ?_
    have f20 := (tN_105 K17.1.1 (ext_is K17.2.1 (Nat.zero_lt_succ _) (ext_is K13.2.1 (Nat.zero_lt_succ _) (ext_is K9.2 (Nat.zero_lt_succ _) (ext_is K6.2 (Nat.zero_lt_succ _) (ext_is K5.2 (Nat.zero_lt_succ _) (ext_is K2.2 (Nat.zero_lt_succ _) (ext_is K0.2 (Nat.zero_lt_succ _) n_a0))))))))
    refine gd_c f20 ?_
    have f38 := (tN_105 K17.1.1 (ext_is K17.2.1 (Nat.zero_lt_succ _) (ext_is K13.2.1 (Nat.zero_lt_succ _) (ext_is K9.2 (Nat.zero_lt_succ _) (ext_is K6.2 (Nat.zero_lt_succ _) (ext_is K5.2 (Nat.zero_lt_succ _) (ext_is K2.2 (Nat.zero_lt_succ _) (ext_is K0.2 (Nat.zero_lt_succ _) n_a0))))))))
    have f39 := (tC_10 K17.1.1)
    refine gd_b (gX71_is _ _ _ ⟨K17.1.1, K17.1.2⟩ f38 f39 ) (fun K21 => ?_)
    refine gd_fi (fun c22_0 => ?_) (fun c22_0 => ?_)
    · have f23 := (ext_is K21.2.1 (Nat.zero_lt_succ _) (ext_is K17.2.1 (Nat.zero_lt_succ _) (ext_is K13.2.1 (Nat.zero_lt_succ _) (ext_is K9.2 (Nat.zero_lt_succ _) (ext_is K6.2 (Nat.zero_lt_succ _) (ext_is K5.2 (Nat.zero_lt_succ _) (ext_is K2.2 (Nat.zero_lt_succ _) (ext_is K0.2 (Nat.zero_lt_succ _) n_a0))))))))
      refine gd_c f23 ?_
      have f24 := (tN_106 K21.1.1 (ext_is K21.2.1 (Nat.zero_lt_succ _) (ext_is K17.2.1 (Nat.zero_lt_succ _) (ext_is K13.2.1 (Nat.zero_lt_succ _) (ext_is K9.2 (Nat.zero_lt_succ _) (ext_is K6.2 (Nat.zero_lt_succ _) (ext_is K5.2 (Nat.zero_lt_succ _) (ext_is K2.2 (Nat.zero_lt_succ _) (ext_is K0.2 (Nat.zero_lt_succ _) n_a0)))))))))
      refine gd_c f24 ?_
      have f33 := (tN_106 K21.1.1 (ext_is K21.2.1 (Nat.zero_lt_succ _) (ext_is K17.2.1 (Nat.zero_lt_succ _) (ext_is K13.2.1 (Nat.zero_lt_succ _) (ext_is K9.2 (Nat.zero_lt_succ _) (ext_is K6.2 (Nat.zero_lt_succ _) (ext_is K5.2 (Nat.zero_lt_succ _) (ext_is K2.2 (Nat.zero_lt_succ _) (ext_is K0.2 (Nat.zero_lt_succ _) n_a0)))))))))
      have f34 := (tC_10 K21.1.1)
      refine gd_b (gX71_is _ _ _ ⟨K21.1.1, K21.1.2⟩ f33 f34 ) (fun K25 => ?_)
      refine gd_fi (fun c26_0 => ?_) (fun c26_0 => ?_)
      · have f27 := (ext_is K25.2.1 (Nat.zero_lt_succ _) (ext_is K21.2.1 (Nat.zero_lt_succ _) (tN_94 K17.1.1 (ext_is K17.2.1 (Nat.zero_lt_succ _) (ext_is K13.2.1 (Nat.zero_lt_succ _) (ext_is K9.2 (Nat.zero_lt_succ _) (ext_is K6.2 (Nat.zero_lt_succ _) (ext_is K5.2 (Nat.zero_lt_succ _) (ext_is K2.2 (Nat.zero_lt_succ _) (ext_is K0.2 (Nat.zero_lt_succ _) n_a0))))))))))
        have f28 := (ext_is K25.2.1 (Nat.zero_lt_succ _) (ext_is K21.2.1 (Nat.zero_lt_succ _) (ext_is K17.2.1 (Nat.zero_lt_succ _) (ext_is K13.2.1 (Nat.zero_lt_succ _) (ext_is K9.2 (Nat.zero_lt_succ _) (ext_is K6.2 (Nat.zero_lt_succ _) (ext_is K5.2 (Nat.zero_lt_succ _) (ext_is K2.2 (Nat.zero_lt_succ _) (ext_is K0.2 (Nat.zero_lt_succ _) n_a0)))))))))
        have f29 := (ext_is K25.2.1 (Nat.zero_lt_succ _) (ext_is K21.2.1 (Nat.zero_lt_succ _) (ext_is K17.2.1 (Nat.zero_lt_succ _) (ext_is K13.2.1 (Nat.zero_lt_succ _) (ext_is K9.2 (Nat.zero_lt_succ _) (ext_is K6.2 (Nat.zero_lt_succ _) (ext_is K5.2 (Nat.zero_lt_succ _) (ext_is K2.2 (Nat.zero_lt_succ _) (ext_is K0.2 (Nat.zero_lt_succ _) n_a2)))))))))
        exact gd_tR (ext_tr K0.2 (ext_tr K2.2 (ext_tr K5.2 (ext_tr K6.2 (ext_tr K9.2 (ext_tr K13.2.1 (ext_tr K17.2.1 (ext_tr K21.2.1 K25.2.1)))))))) (gX59_choose_107 _ _ _ _ _ _ _ _ _ ⟨K25.1.1, K25.1.2⟩ f27 f28 f29 (((h.1 c1_0).2.2.1 c22_0).1 c26_0))
      · have f30 := (ext_is K25.2.1 (Nat.zero_lt_succ _) (ext_is K21.2.1 (Nat.zero_lt_succ _) (tN_94 K17.1.1 (ext_is K17.2.1 (Nat.zero_lt_succ _) (ext_is K13.2.1 (Nat.zero_lt_succ _) (ext_is K9.2 (Nat.zero_lt_succ _) (ext_is K6.2 (Nat.zero_lt_succ _) (ext_is K5.2 (Nat.zero_lt_succ _) (ext_is K2.2 (Nat.zero_lt_succ _) (ext_is K0.2 (Nat.zero_lt_succ _) n_a0))))))))))
        have f31 := (ext_is K25.2.1 (Nat.zero_lt_succ _) (ext_is K21.2.1 (Nat.zero_lt_succ _) (ext_is K17.2.1 (Nat.zero_lt_succ _) (ext_is K13.2.1 (Nat.zero_lt_succ _) (ext_is K9.2 (Nat.zero_lt_succ _) (ext_is K6.2 (Nat.zero_lt_succ _) (ext_is K5.2 (Nat.zero_lt_succ _) (ext_is K2.2 (Nat.zero_lt_succ _) (ext_is K0.2 (Nat.zero_lt_succ _) n_a0)))))))))
        have f32 := (ext_is K25.2.1 (Nat.zero_lt_succ _) (ext_is K21.2.1 (Nat.zero_lt_succ _) (ext_is K17.2.1 (Nat.zero_lt_succ _) (ext_is K13.2.1 (Nat.zero_lt_succ _) (ext_is K9.2 (Nat.zero_lt_succ _) (ext_is K6.2 (Nat.zero_lt_succ _) (ext_is K5.2 (Nat.zero_lt_succ _) (ext_is K2.2 (Nat.zero_lt_succ _) (ext_is K0.2 (Nat.zero_lt_succ _) n_a2)))))))))
        exact gd_tR (ext_tr K0.2 (ext_tr K2.2 (ext_tr K5.2 (ext_tr K6.2 (ext_tr K9.2 (ext_tr K13.2.1 (ext_tr K17.2.1 (ext_tr K21.2.1 K25.2.1)))))))) (gX59_choose_101 _ _ _ _ _ _ _ _ ⟨K25.1.1, K25.1.2⟩ f30 f31 f32 (((h.1 c1_0).2.2.1 c22_0).2 c26_0))
    · have f35 := (ext_is K21.2.1 (Nat.zero_lt_succ _) (tN_94 K17.1.1 (ext_is K17.2.1 (Nat.zero_lt_succ _) (ext_is K13.2.1 (Nat.zero_lt_succ _) (ext_is K9.2 (Nat.zero_lt_succ _) (ext_is K6.2 (Nat.zero_lt_succ _) (ext_is K5.2 (Nat.zero_lt_succ _) (ext_is K2.2 (Nat.zero_lt_succ _) (ext_is K0.2 (Nat.zero_lt_succ _) n_a0)))))))))
      have f36 := (ext_is K21.2.1 (Nat.zero_lt_succ _) (ext_is K17.2.1 (Nat.zero_lt_succ _) (ext_is K13.2.1 (Nat.zero_lt_succ _) (ext_is K9.2 (Nat.zero_lt_succ _) (ext_is K6.2 (Nat.zero_lt_succ _) (ext_is K5.2 (Nat.zero_lt_succ _) (ext_is K2.2 (Nat.zero_lt_succ _) (ext_is K0.2 (Nat.zero_lt_succ _) n_a0))))))))
      have f37 := (ext_is K21.2.1 (Nat.zero_lt_succ _) (ext_is K17.2.1 (Nat.zero_lt_succ _) (ext_is K13.2.1 (Nat.zero_lt_succ _) (ext_is K9.2 (Nat.zero_lt_succ _) (ext_is K6.2 (Nat.zero_lt_succ _) (ext_is K5.2 (Nat.zero_lt_succ _) (ext_is K2.2 (Nat.zero_lt_succ _) (ext_is K0.2 (Nat.zero_lt_succ _) n_a2))))))))
      exact gd_tR (ext_tr K0.2 (ext_tr K2.2 (ext_tr K5.2 (ext_tr K6.2 (ext_tr K9.2 (ext_tr K13.2.1 (ext_tr K17.2.1 K21.2.1))))))) (gX59_choose_101 _ _ _ _ _ _ _ _ ⟨K21.1.1, K21.1.2⟩ f35 f36 f37 ((h.1 c1_0).2.2.2 c22_0))
  · exact ⟨rfl, ⟨K0.1.1, K0.1.2⟩, K0.2⟩
noncomputable def GX59_choose (a0 : Nat) (a1 : Int32) (a2 : Nat) (M : FM) : Int32 × FM := GX59_choose_0 a0 a1 a2 M
def HX59_choose (a0 : Nat) (a1 : Int32) (a2 : Nat) (M : FM) : Prop := HX59_choose_0 a0 a1 a2 M
theorem gX59_choose (a0 : Nat) (a1 : Int32) (a2 : Nat) (M : FM) (T : Ty M) (n_a0 : fm_is M 32 32 a0 = true) (n_a2 : fm_is M 33 33 a2 = true) (h : HX59_choose a0 a1 a2 M) : gd (FX59_choose fN a0 a1 a2 M) (GX59_choose a0 a1 a2 M) (OkR M) := gX59_choose_0 a0 a1 a2 M T n_a0 n_a2 h
noncomputable def GX59_give_0 (a0 : Nat) (a1 : Int64) (M : FM) : Int32 × FM :=
  let M1 : FM := fm_sL M 97 a0 0 a1
  ((Int32.ofInt 1), M1)
theorem gX59_give_0 (a0 : Nat) (a1 : Int64) (M : FM) (T : Ty M) (n_a0 : fm_is M 32 32 a0 = true) : gd (FX59_give_0 a0 a1 M) (GX59_give_0 a0 a1 M) (OkR M) := by
  delta FX59_give_0 BX59_give_0
  refine gd_c n_a0 ?_
  exact ⟨rfl, ⟨T.1, T.2⟩, (ext_dL (ext_r _))⟩
noncomputable def GX59_give (a0 : Nat) (a1 : Int64) (M : FM) : Int32 × FM := GX59_give_0 a0 a1 M
theorem gX59_give (a0 : Nat) (a1 : Int64) (M : FM) (T : Ty M) (n_a0 : fm_is M 32 32 a0 = true) : gd (FX59_give a0 a1 M) (GX59_give a0 a1 M) (OkR M) := gX59_give_0 a0 a1 M T n_a0 
noncomputable def GX59_compare_184 (s0 : Nat) (s1 : Int64) (M : FM) : Int32 × FM :=
  let r1 : Int32 × FM := GX59_give s0 s1 M
  (r1.1, r1.2)
theorem gX59_compare_184 (s0 : Nat) (s1 : Int64) (M : FM) (T : Ty M) (n_s0 : fm_is M 32 32 s0 = true) : gd (FX59_compare_184 fN s0 s1 M) (GX59_compare_184 s0 s1 M) (OkR M) := by
  delta FX59_compare_184 BX59_compare_184
  refine gd_c n_s0 ?_
  refine gd_b (gX59_give _ _ _ ⟨T.1, T.2⟩ n_s0 ) (fun K0 => ?_)
  exact ⟨rfl, ⟨K0.1.1, K0.1.2⟩, K0.2⟩
noncomputable def GX59_compare_183 (s0 : Nat) (M : FM) : Int32 × FM :=
  GX59_compare_184 s0 (Int64.ofInt 0) M
theorem gX59_compare_183 (s0 : Nat) (M : FM) (T : Ty M) (n_s0 : fm_is M 32 32 s0 = true) : gd (FX59_compare_183 fN s0 M) (GX59_compare_183 s0 M) (OkR M) := by
  delta FX59_compare_183 BX59_compare_183
  exact gd_tR (ext_r _) (gX59_compare_184 _ _ _ ⟨T.1, T.2⟩ n_s0 )
noncomputable def GX59_compare_179 (s0 : Nat) (M : FM) : Int32 × FM :=
  GX59_compare_184 s0 (Int64.ofInt 1) M
theorem gX59_compare_179 (s0 : Nat) (M : FM) (T : Ty M) (n_s0 : fm_is M 32 32 s0 = true) : gd (FX59_compare_179 fN s0 M) (GX59_compare_179 s0 M) (OkR M) := by
  delta FX59_compare_179 BX59_compare_179
  exact gd_tR (ext_r _) (gX59_compare_184 _ _ _ ⟨T.1, T.2⟩ n_s0 )
noncomputable def GX59_compare_126 (a0 : Nat) (s0 : Nat) (s1 : Int32) (M : FM) : Int32 × FM :=
  let M1 : FM := GX60_raise s0 s1 M
  let r2 : Int32 × FM := GX59_give a0 (Int64.ofInt 0) M1
  (r2.1, r2.2)
def HX59_compare_126 (a0 : Nat) (s0 : Nat) (s1 : Int32) (M : FM) : Prop := (HX60_raise s0 s1 M ∧ True)
theorem gX59_compare_126 (a0 : Nat) (s0 : Nat) (s1 : Int32) (M : FM) (T : Ty M) (n_s0 : fm_is M 31 31 s0 = true) (n_a0 : fm_is M 32 32 a0 = true) (h : HX59_compare_126 a0 s0 s1 M) : gd (FX59_compare_126 fN a0 s0 s1 M) (GX59_compare_126 a0 s0 s1 M) (OkR M) := by
  delta FX59_compare_126 BX59_compare_126
  refine gd_c n_s0 ?_
  refine gd_b (gX60_raise _ _ _ ⟨T.1, T.2⟩ n_s0 h.1) (fun K0 => ?_)
  have f1 := (ext_is K0.2 (Nat.zero_lt_succ _) n_a0)
  refine gd_c f1 ?_
  have f3 := (ext_is K0.2 (Nat.zero_lt_succ _) n_a0)
  refine gd_b (gX59_give _ _ _ ⟨K0.1.1, K0.1.2⟩ f3 ) (fun K2 => ?_)
  exact ⟨rfl, ⟨K2.1.1, K2.1.2⟩, (ext_tr K0.2 K2.2)⟩
noncomputable def GX59_compare_109 (a0 : Nat) (s0 : Int32) (M : FM) : Int32 × FM :=
  fi (s0 = 0) (
    GX59_compare_126 a0 (M.2.2 94 a0 0) (Int32.ofInt 0) M) (
    GX59_compare_126 a0 (M.2.2 94 a0 0) (Int32.ofInt 16) M)
def HX59_compare_109 (a0 : Nat) (s0 : Int32) (M : FM) : Prop := ((s0 = 0 → HX59_compare_126 a0 (M.2.2 94 a0 0) (Int32.ofInt 0) M) ∧ (¬ (s0 = 0) → HX59_compare_126 a0 (M.2.2 94 a0 0) (Int32.ofInt 16) M))
theorem gX59_compare_109 (a0 : Nat) (s0 : Int32) (M : FM) (T : Ty M) (n_a0 : fm_is M 32 32 a0 = true) (h : HX59_compare_109 a0 s0 M) : gd (FX59_compare_109 fN a0 s0 M) (GX59_compare_109 a0 s0 M) (OkR M) := by
  delta FX59_compare_109 BX59_compare_109
  refine gd_c n_a0 ?_
  refine gd_fi (fun c0_0 => ?_) (fun c0_0 => ?_)
  · have f1 := (tN_94 T.1 n_a0)
    exact gd_tR (ext_r _) (gX59_compare_126 _ _ _ _ ⟨T.1, T.2⟩ f1 n_a0 (h.1 c0_0))
  · have f2 := (tN_94 T.1 n_a0)
    exact gd_tR (ext_r _) (gX59_compare_126 _ _ _ _ ⟨T.1, T.2⟩ f2 n_a0 (h.2 c0_0))
noncomputable def GX59_compare_104 (a0 : Nat) (M : FM) : Int32 × FM :=
  GX59_compare_109 a0 (Int32.ofInt 1) M
def HX59_compare_104 (a0 : Nat) (M : FM) : Prop := HX59_compare_109 a0 (Int32.ofInt 1) M
theorem gX59_compare_104 (a0 : Nat) (M : FM) (T : Ty M) (n_a0 : fm_is M 32 32 a0 = true) (h : HX59_compare_104 a0 M) : gd (FX59_compare_104 fN a0 M) (GX59_compare_104 a0 M) (OkR M) := by
  delta FX59_compare_104 BX59_compare_104
  exact gd_tR (ext_r _) (gX59_compare_109 _ _ _ ⟨T.1, T.2⟩ n_a0 h)
noncomputable def GX59_compare_73 (a0 : Nat) (a3 : Int32) (M : FM) : Int32 × FM :=
  fi (a3 < (Int32.ofInt 2)) (
    GX59_compare_104 a0 M) (
    let x1 : Nat := (M.2.2 105 a0 0)
    let r2 : Int32 × FM := GX71_is x1 10 M
    fi (r2.1 = 0) (
      let x3 : Nat := (r2.2.2.2 106 a0 0)
      let r4 : Int32 × FM := GX71_is x3 10 r2.2
      fi (r4.1 = 0) (
        GX59_compare_109 a0 (Int32.ofInt 0) r4.2) (
        GX59_compare_104 a0 r4.2)) (
      GX59_compare_104 a0 r2.2))
def HX59_compare_73 (a0 : Nat) (a3 : Int32) (M : FM) : Prop := ((a3 < (Int32.ofInt 2) → HX59_compare_104 a0 M) ∧ (¬ (a3 < (Int32.ofInt 2)) → let x1 : Nat := (M.2.2 105 a0 0); let r2 : Int32 × FM := GX71_is x1 10 M; ((r2.1 = 0 → let x3 : Nat := (r2.2.2.2 106 a0 0); let r4 : Int32 × FM := GX71_is x3 10 r2.2; ((r4.1 = 0 → HX59_compare_109 a0 (Int32.ofInt 0) r4.2) ∧ (¬ (r4.1 = 0) → HX59_compare_104 a0 r4.2))) ∧ (¬ (r2.1 = 0) → HX59_compare_104 a0 r2.2))))
theorem gX59_compare_73 (a0 : Nat) (a3 : Int32) (M : FM) (T : Ty M) (n_a0 : fm_is M 32 32 a0 = true) (h : HX59_compare_73 a0 a3 M) : gd (FX59_compare_73 fN a0 a3 M) (GX59_compare_73 a0 a3 M) (OkR M) := by
  delta FX59_compare_73 BX59_compare_73
  refine gd_fi (fun c0_0 => ?_) (fun c0_0 => ?_)
  · exact gd_tR (ext_r _) (gX59_compare_104 _ _ ⟨T.1, T.2⟩ n_a0 (h.1 c0_0))
  · refine gd_c n_a0 ?_
    have f1 := (tN_105 T.1 n_a0)
    refine gd_c f1 ?_
    have f13 := (tN_105 T.1 n_a0)
    have f14 := (tC_10 T.1)
    refine gd_b (gX71_is _ _ _ ⟨T.1, T.2⟩ f13 f14 ) (fun K2 => ?_)
    refine gd_fi (fun c3_0 => ?_) (fun c3_0 => ?_)
    · have f4 := (ext_is K2.2.1 (Nat.zero_lt_succ _) n_a0)
      refine gd_c f4 ?_
      have f5 := (tN_106 K2.1.1 (ext_is K2.2.1 (Nat.zero_lt_succ _) n_a0))
      refine gd_c f5 ?_
      have f10 := (tN_106 K2.1.1 (ext_is K2.2.1 (Nat.zero_lt_succ _) n_a0))
      have f11 := (tC_10 K2.1.1)
      refine gd_b (gX71_is _ _ _ ⟨K2.1.1, K2.1.2⟩ f10 f11 ) (fun K6 => ?_)
      refine gd_fi (fun c7_0 => ?_) (fun c7_0 => ?_)
      · have f8 := (ext_is K6.2.1 (Nat.zero_lt_succ _) (ext_is K2.2.1 (Nat.zero_lt_succ _) n_a0))
        exact gd_tR (ext_tr K2.2.1 K6.2.1) (gX59_compare_109 _ _ _ ⟨K6.1.1, K6.1.2⟩ f8 (((h.2 c0_0).1 c3_0).1 c7_0))
      · have f9 := (ext_is K6.2.1 (Nat.zero_lt_succ _) (ext_is K2.2.1 (Nat.zero_lt_succ _) n_a0))
        exact gd_tR (ext_tr K2.2.1 K6.2.1) (gX59_compare_104 _ _ ⟨K6.1.1, K6.1.2⟩ f9 (((h.2 c0_0).1 c3_0).2 c7_0))
    · have f12 := (ext_is K2.2.1 (Nat.zero_lt_succ _) n_a0)
      exact gd_tR K2.2.1 (gX59_compare_104 _ _ ⟨K2.1.1, K2.1.2⟩ f12 ((h.2 c0_0).2 c3_0))
noncomputable def GX59_compare_0 (a0 : Nat) (a1 : Int32) (a2 : Nat) (M : FM) : Int32 × FM :=
  let r1 : Int32 × FM := GX59_part a1 (Int32.ofInt 12) (Int32.ofInt 3) M
  fi (r1.1 ≤ (Int32.ofInt 2)) (
    let r2 : Int32 × FM := GX59_part a1 (Int32.ofInt 15) (Int32.ofInt 5) r1.2
    let M3 : FM := GX59_take a0 r2.1 a2 (r2.2.2.2 105 a0 0) r2.2
    let r4 : Int32 × FM := GX59_part a1 (Int32.ofInt 20) (Int32.ofInt 5) M3
    let M5 : FM := GX59_take a0 r4.1 a2 (r4.2.2.2 106 a0 0) r4.2
    let x6 : Nat := (M5.2.2 105 a0 0)
    let x7 : Nat := (M5.2.2 114 x6 0)
    let r8 : Int32 × FM := GX72_isNone x7 M5
    fi (r8.1 = 0) (
      let x9 : Nat := (r8.2.2.2 106 a0 0)
      let x10 : Nat := (r8.2.2.2 114 x9 0)
      let r11 : Int32 × FM := GX72_isNone x10 r8.2
      fi (r11.1 = 0) (
        let x12 : Nat := (r11.2.2.2 105 a0 0)
        let r13 : Int32 × FM := GX71_compare x12 (r11.2.2.2 106 a0 0) r11.2
        fi (r1.1 = 0) (
          fi (0 < r13.1) (
            GX59_compare_183 a0 r13.2) (
            GX59_compare_179 a0 r13.2)) (
          fi (r1.1 = (Int32.ofInt 1)) (
            fi (0 ≤ r13.1) (
              GX59_compare_183 a0 r13.2) (
              GX59_compare_179 a0 r13.2)) (
            fi (r13.1 = 0) (
              GX59_compare_179 a0 r13.2) (
              GX59_compare_183 a0 r13.2)))) (
        GX59_compare_73 a0 r1.1 r11.2)) (
      GX59_compare_73 a0 r1.1 r8.2)) (
    ((Int32.ofInt (-1)), r1.2))
def HX59_compare_0 (a0 : Nat) (a1 : Int32) (a2 : Nat) (M : FM) : Prop := let r1 : Int32 × FM := GX59_part a1 (Int32.ofInt 12) (Int32.ofInt 3) M; ((r1.1 ≤ (Int32.ofInt 2) → let r2 : Int32 × FM := GX59_part a1 (Int32.ofInt 15) (Int32.ofInt 5) r1.2; (HX59_take a0 r2.1 a2 (r2.2.2.2 105 a0 0) r2.2 ∧ let M3 : FM := GX59_take a0 r2.1 a2 (r2.2.2.2 105 a0 0) r2.2; let r4 : Int32 × FM := GX59_part a1 (Int32.ofInt 20) (Int32.ofInt 5) M3; (HX59_take a0 r4.1 a2 (r4.2.2.2 106 a0 0) r4.2 ∧ let M5 : FM := GX59_take a0 r4.1 a2 (r4.2.2.2 106 a0 0) r4.2; let x6 : Nat := (M5.2.2 105 a0 0); let x7 : Nat := (M5.2.2 114 x6 0); let r8 : Int32 × FM := GX72_isNone x7 M5; ((r8.1 = 0 → let x9 : Nat := (r8.2.2.2 106 a0 0); let x10 : Nat := (r8.2.2.2 114 x9 0); let r11 : Int32 × FM := GX72_isNone x10 r8.2; ((r11.1 = 0 → let x12 : Nat := (r11.2.2.2 105 a0 0); (HX71_compare x12 (r11.2.2.2 106 a0 0) r11.2 ∧ True)) ∧ (¬ (r11.1 = 0) → HX59_compare_73 a0 r1.1 r11.2))) ∧ (¬ (r8.1 = 0) → HX59_compare_73 a0 r1.1 r8.2))))) ∧ (¬ (r1.1 ≤ (Int32.ofInt 2)) → True))
theorem gX59_compare_0 (a0 : Nat) (a1 : Int32) (a2 : Nat) (M : FM) (T : Ty M) (n_a0 : fm_is M 32 32 a0 = true) (n_a2 : fm_is M 33 33 a2 = true) (h : HX59_compare_0 a0 a1 a2 M) : gd (FX59_compare_0 fN a0 a1 a2 M) (GX59_compare_0 a0 a1 a2 M) (OkR M) := by
  delta FX59_compare_0 BX59_compare_0
  refine gd_b (gX59_part _ _ _ _ ⟨T.1, T.2⟩  ) (fun K0 => ?_)
  refine gd_fi (fun c1_0 => ?_) (fun c1_0 => ?_)
  · refine gd_b (gX59_part _ _ _ _ ⟨K0.1.1, K0.1.2⟩  ) (fun K2 => ?_)
    have f3 := (ext_is K2.2 (Nat.zero_lt_succ _) (ext_is K0.2 (Nat.zero_lt_succ _) n_a0))
    refine gd_c f3 ?_
    have f4 := (ext_is K2.2 (Nat.zero_lt_succ _) (ext_is K0.2 (Nat.zero_lt_succ _) n_a0))
    refine gd_c f4 ?_
    have f44 := (ext_is K2.2 (Nat.zero_lt_succ _) (ext_is K0.2 (Nat.zero_lt_succ _) n_a0))
    have f45 := (ext_is K2.2 (Nat.zero_lt_succ _) (ext_is K0.2 (Nat.zero_lt_succ _) n_a2))
    have f46 := (tN_105 K2.1.1 (ext_is K2.2 (Nat.zero_lt_succ _) (ext_is K0.2 (Nat.zero_lt_succ _) n_a0)))
    refine gd_b (gX59_take _ _ _ _ _ ⟨K2.1.1, K2.1.2⟩ f44 f45 f46 (h.1 c1_0).1) (fun K5 => ?_)
    refine gd_b (gX59_part _ _ _ _ ⟨K5.1.1, K5.1.2⟩  ) (fun K6 => ?_)
    have f7 := (ext_is K6.2 (Nat.zero_lt_succ _) (ext_is K5.2 (Nat.zero_lt_succ _) (ext_is K2.2 (Nat.zero_lt_succ _) (ext_is K0.2 (Nat.zero_lt_succ _) n_a0))))
    refine gd_c f7 ?_
    have f8 := (ext_is K6.2 (Nat.zero_lt_succ _) (ext_is K5.2 (Nat.zero_lt_succ _) (ext_is K2.2 (Nat.zero_lt_succ _) (ext_is K0.2 (Nat.zero_lt_succ _) n_a0))))
    refine gd_c f8 ?_
    have f41 := (ext_is K6.2 (Nat.zero_lt_succ _) (ext_is K5.2 (Nat.zero_lt_succ _) (ext_is K2.2 (Nat.zero_lt_succ _) (ext_is K0.2 (Nat.zero_lt_succ _) n_a0))))
    have f42 := (ext_is K6.2 (Nat.zero_lt_succ _) (ext_is K5.2 (Nat.zero_lt_succ _) (ext_is K2.2 (Nat.zero_lt_succ _) (ext_is K0.2 (Nat.zero_lt_succ _) n_a2))))
    have f43 := (tN_106 K6.1.1 (ext_is K6.2 (Nat.zero_lt_succ _) (ext_is K5.2 (Nat.zero_lt_succ _) (ext_is K2.2 (Nat.zero_lt_succ _) (ext_is K0.2 (Nat.zero_lt_succ _) n_a0)))))
    refine gd_b (gX59_take _ _ _ _ _ ⟨K6.1.1, K6.1.2⟩ f41 f42 f43 (h.1 c1_0).2.1) (fun K9 => ?_)
    have f10 := (ext_is K9.2 (Nat.zero_lt_succ _) (ext_is K6.2 (Nat.zero_lt_succ _) (ext_is K5.2 (Nat.zero_lt_succ _) (ext_is K2.2 (Nat.zero_lt_succ _) (ext_is K0.2 (Nat.zero_lt_succ _) n_a0)))))
    refine gd_c f10 ?_
    have f11 := (tN_105 K9.1.1 (ext_is K9.2 (Nat.zero_lt_succ _) (ext_is K6.2 (Nat.zero_lt_succ _) (ext_is K5.2 (Nat.zero_lt_succ _) (ext_is K2.2 (Nat.zero_lt_succ _) (ext_is K0.2 (Nat.zero_lt_succ _) n_a0))))))
    refine gd_c f11 ?_
    have f12 := (tN_114 K9.1.1 (tN_105 K9.1.1 (ext_is K9.2 (Nat.zero_lt_succ _) (ext_is K6.2 (Nat.zero_lt_succ _) (ext_is K5.2 (Nat.zero_lt_succ _) (ext_is K2.2 (Nat.zero_lt_succ _) (ext_is K0.2 (Nat.zero_lt_succ _) n_a0)))))))
    refine gd_c f12 ?_
    have f40 := (tN_114 K9.1.1 (tN_105 K9.1.1 (ext_is K9.2 (Nat.zero_lt_succ _) (ext_is K6.2 (Nat.zero_lt_succ _) (ext_is K5.2 (Nat.zero_lt_succ _) (ext_is K2.2 (Nat.zero_lt_succ _) (ext_is K0.2 (Nat.zero_lt_succ _) n_a0)))))))
    refine gd_b (gX72_isNone _ _ ⟨K9.1.1, K9.1.2⟩ f40 ) (fun K13 => ?_)
    refine gd_fi (fun c14_0 => ?_) (fun c14_0 => ?_)
    · have f15 := (ext_is K13.2.1 (Nat.zero_lt_succ _) (ext_is K9.2 (Nat.zero_lt_succ _) (ext_is K6.2 (Nat.zero_lt_succ _) (ext_is K5.2 (Nat.zero_lt_succ _) (ext_is K2.2 (Nat.zero_lt_succ _) (ext_is K0.2 (Nat.zero_lt_succ _) n_a0))))))
      refine gd_c f15 ?_
      have f16 := (tN_106 K13.1.1 (ext_is K13.2.1 (Nat.zero_lt_succ _) (ext_is K9.2 (Nat.zero_lt_succ _) (ext_is K6.2 (Nat.zero_lt_succ _) (ext_is K5.2 (Nat.zero_lt_succ _) (ext_is K2.2 (Nat.zero_lt_succ _) (ext_is K0.2 (Nat.zero_lt_succ _) n_a0)))))))
      refine gd_c f16 ?_
      have f17 := (tN_114 K13.1.1 (tN_106 K13.1.1 (ext_is K13.2.1 (Nat.zero_lt_succ _) (ext_is K9.2 (Nat.zero_lt_succ _) (ext_is K6.2 (Nat.zero_lt_succ _) (ext_is K5.2 (Nat.zero_lt_succ _) (ext_is K2.2 (Nat.zero_lt_succ _) (ext_is K0.2 (Nat.zero_lt_succ _) n_a0))))))))
      refine gd_c f17 ?_
      have f38 := (tN_114 K13.1.1 (tN_106 K13.1.1 (ext_is K13.2.1 (Nat.zero_lt_succ _) (ext_is K9.2 (Nat.zero_lt_succ _) (ext_is K6.2 (Nat.zero_lt_succ _) (ext_is K5.2 (Nat.zero_lt_succ _) (ext_is K2.2 (Nat.zero_lt_succ _) (ext_is K0.2 (Nat.zero_lt_succ _) n_a0))))))))
      refine gd_b (gX72_isNone _ _ ⟨K13.1.1, K13.1.2⟩ f38 ) (fun K18 => ?_)
      refine gd_fi (fun c19_0 => ?_) (fun c19_0 => ?_)
      · have f20 := (ext_is K18.2.1 (Nat.zero_lt_succ _) (ext_is K13.2.1 (Nat.zero_lt_succ _) (ext_is K9.2 (Nat.zero_lt_succ _) (ext_is K6.2 (Nat.zero_lt_succ _) (ext_is K5.2 (Nat.zero_lt_succ _) (ext_is K2.2 (Nat.zero_lt_succ _) (ext_is K0.2 (Nat.zero_lt_succ _) n_a0)))))))
        refine gd_c f20 ?_
        have f21 := (ext_is K18.2.1 (Nat.zero_lt_succ _) (ext_is K13.2.1 (Nat.zero_lt_succ _) (ext_is K9.2 (Nat.zero_lt_succ _) (ext_is K6.2 (Nat.zero_lt_succ _) (ext_is K5.2 (Nat.zero_lt_succ _) (ext_is K2.2 (Nat.zero_lt_succ _) (ext_is K0.2 (Nat.zero_lt_succ _) n_a0)))))))
        refine gd_c f21 ?_
        have f22 := (tN_105 K18.1.1 (ext_is K18.2.1 (Nat.zero_lt_succ _) (ext_is K13.2.1 (Nat.zero_lt_succ _) (ext_is K9.2 (Nat.zero_lt_succ _) (ext_is K6.2 (Nat.zero_lt_succ _) (ext_is K5.2 (Nat.zero_lt_succ _) (ext_is K2.2 (Nat.zero_lt_succ _) (ext_is K0.2 (Nat.zero_lt_succ _) n_a0))))))))
        refine gd_c f22 ?_
        have f35 := (tN_105 K18.1.1 (ext_is K18.2.1 (Nat.zero_lt_succ _) (ext_is K13.2.1 (Nat.zero_lt_succ _) (ext_is K9.2 (Nat.zero_lt_succ _) (ext_is K6.2 (Nat.zero_lt_succ _) (ext_is K5.2 (Nat.zero_lt_succ _) (ext_is K2.2 (Nat.zero_lt_succ _) (ext_is K0.2 (Nat.zero_lt_succ _) n_a0))))))))
        have f36 := (tN_106 K18.1.1 (ext_is K18.2.1 (Nat.zero_lt_succ _) (ext_is K13.2.1 (Nat.zero_lt_succ _) (ext_is K9.2 (Nat.zero_lt_succ _) (ext_is K6.2 (Nat.zero_lt_succ _) (ext_is K5.2 (Nat.zero_lt_succ _) (ext_is K2.2 (Nat.zero_lt_succ _) (ext_is K0.2 (Nat.zero_lt_succ _) n_a0))))))))
        refine gd_b (gX71_compare _ _ _ ⟨K18.1.1, K18.1.2⟩ f35 f36 (((h.1 c1_0).2.2.1 c14_0).1 c19_0).1) (fun K23 => ?_)
        refine gd_fi (fun c24_0 => ?_) (fun c24_0 => ?_)
        · refine gd_fi (fun c25_0 => ?_) (fun c25_0 => ?_)
          · have f26 := (ext_is K23.2 (Nat.zero_lt_succ _) (ext_is K18.2.1 (Nat.zero_lt_succ _) (ext_is K13.2.1 (Nat.zero_lt_succ _) (ext_is K9.2 (Nat.zero_lt_succ _) (ext_is K6.2 (Nat.zero_lt_succ _) (ext_is K5.2 (Nat.zero_lt_succ _) (ext_is K2.2 (Nat.zero_lt_succ _) (ext_is K0.2 (Nat.zero_lt_succ _) n_a0))))))))
            exact gd_tR (ext_tr K0.2 (ext_tr K2.2 (ext_tr K5.2 (ext_tr K6.2 (ext_tr K9.2 (ext_tr K13.2.1 (ext_tr K18.2.1 K23.2))))))) (gX59_compare_183 _ _ ⟨K23.1.1, K23.1.2⟩ f26 )
          · have f27 := (ext_is K23.2 (Nat.zero_lt_succ _) (ext_is K18.2.1 (Nat.zero_lt_succ _) (ext_is K13.2.1 (Nat.zero_lt_succ _) (ext_is K9.2 (Nat.zero_lt_succ _) (ext_is K6.2 (Nat.zero_lt_succ _) (ext_is K5.2 (Nat.zero_lt_succ _) (ext_is K2.2 (Nat.zero_lt_succ _) (ext_is K0.2 (Nat.zero_lt_succ _) n_a0))))))))
            exact gd_tR (ext_tr K0.2 (ext_tr K2.2 (ext_tr K5.2 (ext_tr K6.2 (ext_tr K9.2 (ext_tr K13.2.1 (ext_tr K18.2.1 K23.2))))))) (gX59_compare_179 _ _ ⟨K23.1.1, K23.1.2⟩ f27 )
        · refine gd_fi (fun c28_0 => ?_) (fun c28_0 => ?_)
          · refine gd_fi (fun c29_0 => ?_) (fun c29_0 => ?_)
            · have f30 := (ext_is K23.2 (Nat.zero_lt_succ _) (ext_is K18.2.1 (Nat.zero_lt_succ _) (ext_is K13.2.1 (Nat.zero_lt_succ _) (ext_is K9.2 (Nat.zero_lt_succ _) (ext_is K6.2 (Nat.zero_lt_succ _) (ext_is K5.2 (Nat.zero_lt_succ _) (ext_is K2.2 (Nat.zero_lt_succ _) (ext_is K0.2 (Nat.zero_lt_succ _) n_a0))))))))
              exact gd_tR (ext_tr K0.2 (ext_tr K2.2 (ext_tr K5.2 (ext_tr K6.2 (ext_tr K9.2 (ext_tr K13.2.1 (ext_tr K18.2.1 K23.2))))))) (gX59_compare_183 _ _ ⟨K23.1.1, K23.1.2⟩ f30 )
            · have f31 := (ext_is K23.2 (Nat.zero_lt_succ _) (ext_is K18.2.1 (Nat.zero_lt_succ _) (ext_is K13.2.1 (Nat.zero_lt_succ _) (ext_is K9.2 (Nat.zero_lt_succ _) (ext_is K6.2 (Nat.zero_lt_succ _) (ext_is K5.2 (Nat.zero_lt_succ _) (ext_is K2.2 (Nat.zero_lt_succ _) (ext_is K0.2 (Nat.zero_lt_succ _) n_a0))))))))
              exact gd_tR (ext_tr K0.2 (ext_tr K2.2 (ext_tr K5.2 (ext_tr K6.2 (ext_tr K9.2 (ext_tr K13.2.1 (ext_tr K18.2.1 K23.2))))))) (gX59_compare_179 _ _ ⟨K23.1.1, K23.1.2⟩ f31 )
          · refine gd_fi (fun c32_0 => ?_) (fun c32_0 => ?_)
            · have f33 := (ext_is K23.2 (Nat.zero_lt_succ _) (ext_is K18.2.1 (Nat.zero_lt_succ _) (ext_is K13.2.1 (Nat.zero_lt_succ _) (ext_is K9.2 (Nat.zero_lt_succ _) (ext_is K6.2 (Nat.zero_lt_succ _) (ext_is K5.2 (Nat.zero_lt_succ _) (ext_is K2.2 (Nat.zero_lt_succ _) (ext_is K0.2 (Nat.zero_lt_succ _) n_a0))))))))
              exact gd_tR (ext_tr K0.2 (ext_tr K2.2 (ext_tr K5.2 (ext_tr K6.2 (ext_tr K9.2 (ext_tr K13.2.1 (ext_tr K18.2.1 K23.2))))))) (gX59_compare_179 _ _ ⟨K23.1.1, K23.1.2⟩ f33 )
            · have f34 := (ext_is K23.2 (Nat.zero_lt_succ _) (ext_is K18.2.1 (Nat.zero_lt_succ _) (ext_is K13.2.1 (Nat.zero_lt_succ _) (ext_is K9.2 (Nat.zero_lt_succ _) (ext_is K6.2 (Nat.zero_lt_succ _) (ext_is K5.2 (Nat.zero_lt_succ _) (ext_is K2.2 (Nat.zero_lt_succ _) (ext_is K0.2 (Nat.zero_lt_succ _) n_a0))))))))
              exact gd_tR (ext_tr K0.2 (ext_tr K2.2 (ext_tr K5.2 (ext_tr K6.2 (ext_tr K9.2 (ext_tr K13.2.1 (ext_tr K18.2.1 K23.2))))))) (gX59_compare_183 _ _ ⟨K23.1.1, K23.1.2⟩ f34 )
      · have f37 := (ext_is K18.2.1 (Nat.zero_lt_succ _) (ext_is K13.2.1 (Nat.zero_lt_succ _) (ext_is K9.2 (Nat.zero_lt_succ _) (ext_is K6.2 (Nat.zero_lt_succ _) (ext_is K5.2 (Nat.zero_lt_succ _) (ext_is K2.2 (Nat.zero_lt_succ _) (ext_is K0.2 (Nat.zero_lt_succ _) n_a0)))))))
        exact gd_tR (ext_tr K0.2 (ext_tr K2.2 (ext_tr K5.2 (ext_tr K6.2 (ext_tr K9.2 (ext_tr K13.2.1 K18.2.1)))))) (gX59_compare_73 _ _ _ ⟨K18.1.1, K18.1.2⟩ f37 (((h.1 c1_0).2.2.1 c14_0).2 c19_0))
    · have f39 := (ext_is K13.2.1 (Nat.zero_lt_succ _) (ext_is K9.2 (Nat.zero_lt_succ _) (ext_is K6.2 (Nat.zero_lt_succ _) (ext_is K5.2 (Nat.zero_lt_succ _) (ext_is K2.2 (Nat.zero_lt_succ _) (ext_is K0.2 (Nat.zero_lt_succ _) n_a0))))))
      exact gd_tR (ext_tr K0.2 (ext_tr K2.2 (ext_tr K5.2 (ext_tr K6.2 (ext_tr K9.2 K13.2.1))))) (gX59_compare_73 _ _ _ ⟨K13.1.1, K13.1.2⟩ f39 ((h.1 c1_0).2.2.2 c14_0))
  · exact ⟨rfl, ⟨K0.1.1, K0.1.2⟩, K0.2⟩
noncomputable def GX59_compare (a0 : Nat) (a1 : Int32) (a2 : Nat) (M : FM) : Int32 × FM := GX59_compare_0 a0 a1 a2 M
def HX59_compare (a0 : Nat) (a1 : Int32) (a2 : Nat) (M : FM) : Prop := HX59_compare_0 a0 a1 a2 M
theorem gX59_compare (a0 : Nat) (a1 : Int32) (a2 : Nat) (M : FM) (T : Ty M) (n_a0 : fm_is M 32 32 a0 = true) (n_a2 : fm_is M 33 33 a2 = true) (h : HX59_compare a0 a1 a2 M) : gd (FX59_compare fN a0 a1 a2 M) (GX59_compare a0 a1 a2 M) (OkR M) := gX59_compare_0 a0 a1 a2 M T n_a0 n_a2 h
noncomputable def GX61_isSmall_16 (s0 : Int32) (M : FM) : Int32 × FM :=
  (s0, M)
theorem gX61_isSmall_16 (s0 : Int32) (M : FM) (T : Ty M) (z_s0 : s0 = 0 ∨ s0 = 1) : gd (FX61_isSmall_16 s0 M) (GX61_isSmall_16 s0 M) (OkZ M) := by
  delta FX61_isSmall_16 BX61_isSmall_16
  exact gd_z z_s0 ⟨T.1, T.2⟩ (ext_r _) rfl
noncomputable def GX61_isSmall_0 (a0 : Nat) (a1 : Int64) (M : FM) : Int32 × FM :=
  let r1 : Int64 × FM := GX61_top a0 M
  fi ((lg_cmp (a1 &&& r1.1) (Int64.ofInt 0)) = 0) (
    GX61_isSmall_16 (Int32.ofInt 1) r1.2) (
    GX61_isSmall_16 (Int32.ofInt 0) r1.2)
theorem gX61_isSmall_0 (a0 : Nat) (a1 : Int64) (M : FM) (T : Ty M) (n_a0 : fm_is M 33 33 a0 = true) : gd (FX61_isSmall_0 a0 a1 M) (GX61_isSmall_0 a0 a1 M) (OkZ M) := by
  delta FX61_isSmall_0 BX61_isSmall_0
  refine gd_c n_a0 ?_
  refine gd_b (gX61_top _ _ ⟨T.1, T.2⟩ n_a0 ) (fun K0 => ?_)
  refine gd_fi (fun c1_0 => ?_) (fun c1_0 => ?_)
  · exact gd_tZ K0.2 (gX61_isSmall_16 _ _ ⟨K0.1.1, K0.1.2⟩ fz_1 )
  · exact gd_tZ K0.2 (gX61_isSmall_16 _ _ ⟨K0.1.1, K0.1.2⟩ fz_0 )
noncomputable def GX61_isSmall (a0 : Nat) (a1 : Int64) (M : FM) : Int32 × FM := GX61_isSmall_0 a0 a1 M
theorem gX61_isSmall (a0 : Nat) (a1 : Int64) (M : FM) (T : Ty M) (n_a0 : fm_is M 33 33 a0 = true) : gd (FX61_isSmall a0 a1 M) (GX61_isSmall a0 a1 M) (OkZ M) := gX61_isSmall_0 a0 a1 M T n_a0 
noncomputable def GX59_classOf_90 (s0 : Int32) (M : FM) : Int32 × FM :=
  (s0, M)
theorem gX59_classOf_90 (s0 : Int32) (M : FM) (T : Ty M) : gd (FX59_classOf_90 s0 M) (GX59_classOf_90 s0 M) (OkR M) := by
  delta FX59_classOf_90 BX59_classOf_90
  exact ⟨rfl, ⟨T.1, T.2⟩, (ext_r _)⟩
noncomputable def GX59_classOf_74 (a0 : Nat) (s0 : Int32) (M : FM) : Int32 × FM :=
  fi ((M.1 115 a0 0) = 0) (
    GX59_classOf_90 s0 M) (
    GX59_classOf_90 ((Int32.ofInt 7) - s0) M)
theorem gX59_classOf_74 (a0 : Nat) (s0 : Int32) (M : FM) (T : Ty M) (n_a0 : fm_is M 39 39 a0 = true) : gd (FX59_classOf_74 a0 s0 M) (GX59_classOf_74 a0 s0 M) (OkR M) := by
  delta FX59_classOf_74 BX59_classOf_74
  refine gd_c n_a0 ?_
  refine gd_fi (fun c0_0 => ?_) (fun c0_0 => ?_)
  · exact gd_tR (ext_r _) (gX59_classOf_90 _ _ ⟨T.1, T.2⟩  )
  · exact gd_tR (ext_r _) (gX59_classOf_90 _ _ ⟨T.1, T.2⟩  )
noncomputable def GX59_classOf_27 (s0 : Int32) (M : FM) : Int32 × FM :=
  (s0, M)
theorem gX59_classOf_27 (s0 : Int32) (M : FM) (T : Ty M) : gd (FX59_classOf_27 s0 M) (GX59_classOf_27 s0 M) (OkR M) := by
  delta FX59_classOf_27 BX59_classOf_27
  exact ⟨rfl, ⟨T.1, T.2⟩, (ext_r _)⟩
noncomputable def GX59_classOf_0 (a0 : Nat) (a1 : Nat) (M : FM) : Int32 × FM :=
  let x1 : Nat := (M.2.2 114 a0 0)
  let r2 : Int32 × FM := GX72_isNone x1 M
  fi (r2.1 = 0) (
    let r3 : Int32 × FM := GX71_is a0 8 r2.2
    fi (r3.1 = 0) (
      let r4 : Int32 × FM := GX71_is a0 6 r3.2
      fi (r4.1 = 0) (
        let r5 : Int32 × FM := GX61_isSmall a1 (r4.2.2.1 118 a0 0) r4.2
        fi (r5.1 = 0) (
          GX59_classOf_74 a0 (Int32.ofInt 6) r5.2) (
          GX59_classOf_74 a0 (Int32.ofInt 5) r5.2)) (
        GX59_classOf_74 a0 (Int32.ofInt 4) r4.2)) (
      GX59_classOf_74 a0 (Int32.ofInt 7) r3.2)) (
    let r6 : Int32 × FM := GX71_is a0 10 r2.2
    fi (r6.1 = 0) (
      GX59_classOf_27 (Int32.ofInt 9) r6.2) (
      GX59_classOf_27 (Int32.ofInt 8) r6.2))
theorem gX59_classOf_0 (a0 : Nat) (a1 : Nat) (M : FM) (T : Ty M) (n_a0 : fm_is M 39 39 a0 = true) (n_a1 : fm_is M 33 33 a1 = true) : gd (FX59_classOf_0 a0 a1 M) (GX59_classOf_0 a0 a1 M) (OkR M) := by
  delta FX59_classOf_0 BX59_classOf_0
  refine gd_c n_a0 ?_
  have f0 := (tN_114 T.1 n_a0)
  refine gd_c f0 ?_
  have f27 := (tN_114 T.1 n_a0)
  refine gd_b (gX72_isNone _ _ ⟨T.1, T.2⟩ f27 ) (fun K1 => ?_)
  refine gd_fi (fun c2_0 => ?_) (fun c2_0 => ?_)
  · have f3 := (ext_is K1.2.1 (Nat.zero_lt_succ _) n_a0)
    refine gd_c f3 ?_
    have f20 := (ext_is K1.2.1 (Nat.zero_lt_succ _) n_a0)
    have f21 := (tC_8 K1.1.1)
    refine gd_b (gX71_is _ _ _ ⟨K1.1.1, K1.1.2⟩ f20 f21 ) (fun K4 => ?_)
    refine gd_fi (fun c5_0 => ?_) (fun c5_0 => ?_)
    · have f6 := (ext_is K4.2.1 (Nat.zero_lt_succ _) (ext_is K1.2.1 (Nat.zero_lt_succ _) n_a0))
      refine gd_c f6 ?_
      have f17 := (ext_is K4.2.1 (Nat.zero_lt_succ _) (ext_is K1.2.1 (Nat.zero_lt_succ _) n_a0))
      have f18 := (tC_6 K4.1.1)
      refine gd_b (gX71_is _ _ _ ⟨K4.1.1, K4.1.2⟩ f17 f18 ) (fun K7 => ?_)
      refine gd_fi (fun c8_0 => ?_) (fun c8_0 => ?_)
      · have f9 := (ext_is K7.2.1 (Nat.zero_lt_succ _) (ext_is K4.2.1 (Nat.zero_lt_succ _) (ext_is K1.2.1 (Nat.zero_lt_succ _) n_a0)))
        refine gd_c f9 ?_
        have f10 := (ext_is K7.2.1 (Nat.zero_lt_succ _) (ext_is K4.2.1 (Nat.zero_lt_succ _) (ext_is K1.2.1 (Nat.zero_lt_succ _) n_a1)))
        refine gd_c f10 ?_
        have f15 := (ext_is K7.2.1 (Nat.zero_lt_succ _) (ext_is K4.2.1 (Nat.zero_lt_succ _) (ext_is K1.2.1 (Nat.zero_lt_succ _) n_a1)))
        refine gd_b (gX61_isSmall _ _ _ ⟨K7.1.1, K7.1.2⟩ f15 ) (fun K11 => ?_)
        refine gd_fi (fun c12_0 => ?_) (fun c12_0 => ?_)
        · have f13 := (ext_is K11.2.1 (Nat.zero_lt_succ _) (ext_is K7.2.1 (Nat.zero_lt_succ _) (ext_is K4.2.1 (Nat.zero_lt_succ _) (ext_is K1.2.1 (Nat.zero_lt_succ _) n_a0))))
          exact gd_tR (ext_tr K1.2.1 (ext_tr K4.2.1 (ext_tr K7.2.1 K11.2.1))) (gX59_classOf_74 _ _ _ ⟨K11.1.1, K11.1.2⟩ f13 )
        · have f14 := (ext_is K11.2.1 (Nat.zero_lt_succ _) (ext_is K7.2.1 (Nat.zero_lt_succ _) (ext_is K4.2.1 (Nat.zero_lt_succ _) (ext_is K1.2.1 (Nat.zero_lt_succ _) n_a0))))
          exact gd_tR (ext_tr K1.2.1 (ext_tr K4.2.1 (ext_tr K7.2.1 K11.2.1))) (gX59_classOf_74 _ _ _ ⟨K11.1.1, K11.1.2⟩ f14 )
      · have f16 := (ext_is K7.2.1 (Nat.zero_lt_succ _) (ext_is K4.2.1 (Nat.zero_lt_succ _) (ext_is K1.2.1 (Nat.zero_lt_succ _) n_a0)))
        exact gd_tR (ext_tr K1.2.1 (ext_tr K4.2.1 K7.2.1)) (gX59_classOf_74 _ _ _ ⟨K7.1.1, K7.1.2⟩ f16 )
    · have f19 := (ext_is K4.2.1 (Nat.zero_lt_succ _) (ext_is K1.2.1 (Nat.zero_lt_succ _) n_a0))
      exact gd_tR (ext_tr K1.2.1 K4.2.1) (gX59_classOf_74 _ _ _ ⟨K4.1.1, K4.1.2⟩ f19 )
  · have f22 := (ext_is K1.2.1 (Nat.zero_lt_succ _) n_a0)
    refine gd_c f22 ?_
    have f25 := (ext_is K1.2.1 (Nat.zero_lt_succ _) n_a0)
    have f26 := (tC_10 K1.1.1)
    refine gd_b (gX71_is _ _ _ ⟨K1.1.1, K1.1.2⟩ f25 f26 ) (fun K23 => ?_)
    refine gd_fi (fun c24_0 => ?_) (fun c24_0 => ?_)
    · exact gd_tR (ext_tr K1.2.1 K23.2.1) (gX59_classOf_27 _ _ ⟨K23.1.1, K23.1.2⟩  )
    · exact gd_tR (ext_tr K1.2.1 K23.2.1) (gX59_classOf_27 _ _ ⟨K23.1.1, K23.1.2⟩  )
noncomputable def GX59_classOf (a0 : Nat) (a1 : Nat) (M : FM) : Int32 × FM := GX59_classOf_0 a0 a1 M
theorem gX59_classOf (a0 : Nat) (a1 : Nat) (M : FM) (T : Ty M) (n_a0 : fm_is M 39 39 a0 = true) (n_a1 : fm_is M 33 33 a1 = true) : gd (FX59_classOf a0 a1 M) (GX59_classOf a0 a1 M) (OkR M) := gX59_classOf_0 a0 a1 M T n_a0 n_a1 
noncomputable def GX59_look_65 (s0 : Nat) (s1 : Int64) (M : FM) : Int32 × FM :=
  let r1 : Int32 × FM := GX59_give s0 s1 M
  (r1.1, r1.2)
theorem gX59_look_65 (s0 : Nat) (s1 : Int64) (M : FM) (T : Ty M) (n_s0 : fm_is M 32 32 s0 = true) : gd (FX59_look_65 s0 s1 M) (GX59_look_65 s0 s1 M) (OkR M) := by
  delta FX59_look_65 BX59_look_65
  refine gd_c n_s0 ?_
  refine gd_b (gX59_give _ _ _ ⟨T.1, T.2⟩ n_s0 ) (fun K0 => ?_)
  exact ⟨rfl, ⟨K0.1.1, K0.1.2⟩, K0.2⟩
noncomputable def GX59_look_0 (a0 : Nat) (a1 : Int32) (a2 : Nat) (M : FM) : Int32 × FM :=
  let r1 : Int32 × FM := GX59_part a1 (Int32.ofInt 15) (Int32.ofInt 5) M
  let r2 : Int32 × FM := GX59_part a1 (Int32.ofInt 12) (Int32.ofInt 3) r1.2
  fi (r2.1 = (Int32.ofInt 0)) (
    let r3 : Int32 × FM := GX59_isDouble a2 r2.2
    fi (r3.1 = 0) (
      let x4 : Nat := (r3.2.2.2 93 a0 0)
      GX59_look_65 a0 (((r3.2.2.1 3 x4 r1.1.toNatClampNeg).toInt32).toInt64) r3.2) (
      let x5 : Nat := (r3.2.2.2 93 a0 0)
      GX59_look_65 a0 (r3.2.2.1 3 x5 r1.1.toNatClampNeg) r3.2)) (
    fi (r2.1 = (Int32.ofInt 1)) (
      let M6 : FM := GX59_take a0 r1.1 a2 (r2.2.2.2 105 a0 0) r2.2
      let r7 : Int32 × FM := GX59_classOf (M6.2.2 105 a0 0) a2 M6
      let r8 : Int32 × FM := GX59_give a0 ((Int64.ofInt 1) <<< (r7.1.toInt64 &&& 63)) r7.2
      (r8.1, r8.2)) (
      ((Int32.ofInt (-1)), r2.2)))
def HX59_look_0 (a0 : Nat) (a1 : Int32) (a2 : Nat) (M : FM) : Prop := let r1 : Int32 × FM := GX59_part a1 (Int32.ofInt 15) (Int32.ofInt 5) M; let r2 : Int32 × FM := GX59_part a1 (Int32.ofInt 12) (Int32.ofInt 3) r1.2; ((r2.1 = (Int32.ofInt 0) → let r3 : Int32 × FM := GX59_isDouble a2 r2.2; ((r3.1 = 0 → let x4 : Nat := (r3.2.2.2 93 a0 0); (fm_in r3.2 x4 r1.1 = true ∧ True)) ∧ (¬ (r3.1 = 0) → let x5 : Nat := (r3.2.2.2 93 a0 0); (fm_in r3.2 x5 r1.1 = true ∧ True)))) ∧ (¬ (r2.1 = (Int32.ofInt 0)) → ((r2.1 = (Int32.ofInt 1) → (HX59_take a0 r1.1 a2 (r2.2.2.2 105 a0 0) r2.2 ∧ True)) ∧ (¬ (r2.1 = (Int32.ofInt 1)) → True))))
theorem gX59_look_0 (a0 : Nat) (a1 : Int32) (a2 : Nat) (M : FM) (T : Ty M) (n_a2 : fm_is M 33 33 a2 = true) (n_a0 : fm_is M 32 32 a0 = true) (h : HX59_look_0 a0 a1 a2 M) : gd (FX59_look_0 a0 a1 a2 M) (GX59_look_0 a0 a1 a2 M) (OkR M) := by
  delta FX59_look_0 BX59_look_0
  refine gd_b (gX59_part _ _ _ _ ⟨T.1, T.2⟩  ) (fun K0 => ?_)
  refine gd_b (gX59_part _ _ _ _ ⟨K0.1.1, K0.1.2⟩  ) (fun K1 => ?_)
  refine gd_fi (fun c2_0 => ?_) (fun c2_0 => ?_)
  · have f13 := (ext_is K1.2 (Nat.zero_lt_succ _) (ext_is K0.2 (Nat.zero_lt_succ _) n_a2))
    refine gd_b (gX59_isDouble _ _ ⟨K1.1.1, K1.1.2⟩ f13 ) (fun K3 => ?_)
    refine gd_fi (fun c4_0 => ?_) (fun c4_0 => ?_)
    · have f5 := (ext_is K3.2.1 (Nat.zero_lt_succ _) (ext_is K1.2 (Nat.zero_lt_succ _) (ext_is K0.2 (Nat.zero_lt_succ _) n_a0)))
      refine gd_c f5 ?_
      have f7 := (tN_93 K3.1.1 (ext_is K3.2.1 (Nat.zero_lt_succ _) (ext_is K1.2 (Nat.zero_lt_succ _) (ext_is K0.2 (Nat.zero_lt_succ _) n_a0))))
      have f8 := ((h.1 c2_0).1 c4_0).1
      refine gd_c ⟨f7, f8⟩ ?_
      have f6 := (ext_is K3.2.1 (Nat.zero_lt_succ _) (ext_is K1.2 (Nat.zero_lt_succ _) (ext_is K0.2 (Nat.zero_lt_succ _) n_a0)))
      exact gd_tR (ext_tr K0.2 (ext_tr K1.2 K3.2.1)) (gX59_look_65 _ _ _ ⟨K3.1.1, K3.1.2⟩ f6 )
    · have f9 := (ext_is K3.2.1 (Nat.zero_lt_succ _) (ext_is K1.2 (Nat.zero_lt_succ _) (ext_is K0.2 (Nat.zero_lt_succ _) n_a0)))
      refine gd_c f9 ?_
      have f11 := (tN_93 K3.1.1 (ext_is K3.2.1 (Nat.zero_lt_succ _) (ext_is K1.2 (Nat.zero_lt_succ _) (ext_is K0.2 (Nat.zero_lt_succ _) n_a0))))
      have f12 := ((h.1 c2_0).2 c4_0).1
      refine gd_c ⟨f11, f12⟩ ?_
      have f10 := (ext_is K3.2.1 (Nat.zero_lt_succ _) (ext_is K1.2 (Nat.zero_lt_succ _) (ext_is K0.2 (Nat.zero_lt_succ _) n_a0)))
      exact gd_tR (ext_tr K0.2 (ext_tr K1.2 K3.2.1)) (gX59_look_65 _ _ _ ⟨K3.1.1, K3.1.2⟩ f10 )
  · refine gd_fi (fun c14_1 => ?_) (fun c14_1 => ?_)
    · have f15 := (ext_is K1.2 (Nat.zero_lt_succ _) (ext_is K0.2 (Nat.zero_lt_succ _) n_a0))
      refine gd_c f15 ?_
      have f16 := (ext_is K1.2 (Nat.zero_lt_succ _) (ext_is K0.2 (Nat.zero_lt_succ _) n_a0))
      refine gd_c f16 ?_
      have f25 := (ext_is K1.2 (Nat.zero_lt_succ _) (ext_is K0.2 (Nat.zero_lt_succ _) n_a0))
      have f26 := (ext_is K1.2 (Nat.zero_lt_succ _) (ext_is K0.2 (Nat.zero_lt_succ _) n_a2))
      have f27 := (tN_105 K1.1.1 (ext_is K1.2 (Nat.zero_lt_succ _) (ext_is K0.2 (Nat.zero_lt_succ _) n_a0)))
      refine gd_b (gX59_take _ _ _ _ _ ⟨K1.1.1, K1.1.2⟩ f25 f26 f27 ((h.2 c2_0).1 c14_1).1) (fun K17 => ?_)
      have f18 := (ext_is K17.2 (Nat.zero_lt_succ _) (ext_is K1.2 (Nat.zero_lt_succ _) (ext_is K0.2 (Nat.zero_lt_succ _) n_a0)))
      refine gd_c f18 ?_
      have f23 := (tN_105 K17.1.1 (ext_is K17.2 (Nat.zero_lt_succ _) (ext_is K1.2 (Nat.zero_lt_succ _) (ext_is K0.2 (Nat.zero_lt_succ _) n_a0))))
      have f24 := (ext_is K17.2 (Nat.zero_lt_succ _) (ext_is K1.2 (Nat.zero_lt_succ _) (ext_is K0.2 (Nat.zero_lt_succ _) n_a2)))
      refine gd_b (gX59_classOf _ _ _ ⟨K17.1.1, K17.1.2⟩ f23 f24 ) (fun K19 => ?_)
      have f20 := (ext_is K19.2 (Nat.zero_lt_succ _) (ext_is K17.2 (Nat.zero_lt_succ _) (ext_is K1.2 (Nat.zero_lt_succ _) (ext_is K0.2 (Nat.zero_lt_succ _) n_a0))))
      refine gd_c f20 ?_
      have f22 := (ext_is K19.2 (Nat.zero_lt_succ _) (ext_is K17.2 (Nat.zero_lt_succ _) (ext_is K1.2 (Nat.zero_lt_succ _) (ext_is K0.2 (Nat.zero_lt_succ _) n_a0))))
      refine gd_b (gX59_give _ _ _ ⟨K19.1.1, K19.1.2⟩ f22 ) (fun K21 => ?_)
      exact ⟨rfl, ⟨K21.1.1, K21.1.2⟩, (ext_tr K0.2 (ext_tr K1.2 (ext_tr K17.2 (ext_tr K19.2 K21.2))))⟩
    · exact ⟨rfl, ⟨K1.1.1, K1.1.2⟩, (ext_tr K0.2 K1.2)⟩
noncomputable def GX59_look (a0 : Nat) (a1 : Int32) (a2 : Nat) (M : FM) : Int32 × FM := GX59_look_0 a0 a1 a2 M
def HX59_look (a0 : Nat) (a1 : Int32) (a2 : Nat) (M : FM) : Prop := HX59_look_0 a0 a1 a2 M
theorem gX59_look (a0 : Nat) (a1 : Int32) (a2 : Nat) (M : FM) (T : Ty M) (n_a2 : fm_is M 33 33 a2 = true) (n_a0 : fm_is M 32 32 a0 = true) (h : HX59_look a0 a1 a2 M) : gd (FX59_look a0 a1 a2 M) (GX59_look a0 a1 a2 M) (OkR M) := gX59_look_0 a0 a1 a2 M T n_a2 n_a0 h
noncomputable def GX65_none_0 (a0 : Nat) (M : FM) : FM :=
  let M1 : FM := GX71_become a0 9 (Int32.ofInt 0) M
  M1
theorem gX65_none_0 (a0 : Nat) (M : FM) (T : Ty M) (n_a0 : fm_is M 39 39 a0 = true) : gd (FX65_none_0 a0 M) (GX65_none_0 a0 M) (OkV M) := by
  delta FX65_none_0 BX65_none_0
  refine gd_c n_a0 ?_
  have f1 := (tC_9 T.1)
  refine gd_b (gX71_become _ _ _ _ ⟨T.1, T.2⟩ n_a0 f1 fz_0 ) (fun K0 => ?_)
  exact ⟨rfl, ⟨K0.1.1, K0.1.2⟩, K0.2⟩
noncomputable def GX65_none (a0 : Nat) (M : FM) : FM := GX65_none_0 a0 M
theorem gX65_none (a0 : Nat) (M : FM) (T : Ty M) (n_a0 : fm_is M 39 39 a0 = true) : gd (FX65_none a0 M) (GX65_none a0 M) (OkV M) := gX65_none_0 a0 M T n_a0 
noncomputable def GX65_isNone_66 (a4 : Int32) (M : FM) : Int32 × FM :=
  (a4, M)
theorem gX65_isNone_66 (a4 : Int32) (M : FM) (T : Ty M) (z_a4 : a4 = 0 ∨ a4 = 1) : gd (FX65_isNone_66 a4 M) (GX65_isNone_66 a4 M) (OkZ M) := by
  delta FX65_isNone_66 BX65_isNone_66
  exact gd_z z_a4 ⟨T.1, T.2⟩ (ext_r _) rfl
noncomputable def GX65_isNone_59 (a3 : Nat) (a4 : Int32) (s0 : Nat) (s1 : Int32) (M : FM) : Int32 × FM :=
  let M1 : FM := GX60_raise s0 s1 M
  let M2 : FM := GX65_none a3 M1
  GX65_isNone_66 a4 M2
def HX65_isNone_59 (a3 : Nat) (a4 : Int32) (s0 : Nat) (s1 : Int32) (M : FM) : Prop := (HX60_raise s0 s1 M ∧ True)
theorem gX65_isNone_59 (a3 : Nat) (a4 : Int32) (s0 : Nat) (s1 : Int32) (M : FM) (T : Ty M) (n_s0 : fm_is M 31 31 s0 = true) (n_a3 : fm_is M 39 39 a3 = true) (z_a4 : a4 = 0 ∨ a4 = 1) (h : HX65_isNone_59 a3 a4 s0 s1 M) : gd (FX65_isNone_59 a3 a4 s0 s1 M) (GX65_isNone_59 a3 a4 s0 s1 M) (OkZ M) := by
  delta FX65_isNone_59 BX65_isNone_59
  refine gd_c n_s0 ?_
  refine gd_b (gX60_raise _ _ _ ⟨T.1, T.2⟩ n_s0 h.1) (fun K0 => ?_)
  have f2 := (ext_is K0.2 (Nat.zero_lt_succ _) n_a3)
  refine gd_b (gX65_none _ _ ⟨K0.1.1, K0.1.2⟩ f2 ) (fun K1 => ?_)
  exact gd_tZ (ext_tr K0.2 K1.2) (gX65_isNone_66 _ _ ⟨K1.1.1, K1.1.2⟩ z_a4 )
noncomputable def GX65_isNone_53 (a3 : Nat) (a4 : Int32) (s0 : Nat) (M : FM) : Int32 × FM :=
  GX65_isNone_59 a3 a4 s0 (Int32.ofInt 16) M
def HX65_isNone_53 (a3 : Nat) (a4 : Int32) (s0 : Nat) (M : FM) : Prop := HX65_isNone_59 a3 a4 s0 (Int32.ofInt 16) M
theorem gX65_isNone_53 (a3 : Nat) (a4 : Int32) (s0 : Nat) (M : FM) (T : Ty M) (n_s0 : fm_is M 31 31 s0 = true) (n_a3 : fm_is M 39 39 a3 = true) (z_a4 : a4 = 0 ∨ a4 = 1) (h : HX65_isNone_53 a3 a4 s0 M) : gd (FX65_isNone_53 a3 a4 s0 M) (GX65_isNone_53 a3 a4 s0 M) (OkZ M) := by
  delta FX65_isNone_53 BX65_isNone_53
  exact gd_tZ (ext_r _) (gX65_isNone_59 _ _ _ _ _ ⟨T.1, T.2⟩ n_s0 n_a3 z_a4 h)
noncomputable def GX65_isNone_25 (a0 : Nat) (a1 : Nat) (a2 : Nat) (a3 : Nat) (s0 : Int32) (M : FM) : Int32 × FM :=
  fi (s0 = 0) (
    GX65_isNone_66 s0 M) (
    let r1 : Int32 × FM := GX71_is a0 10 M
    fi (r1.1 = 0) (
      let r2 : Int32 × FM := GX71_is a1 10 r1.2
      fi (r2.1 = 0) (
        GX65_isNone_59 a3 s0 a2 (Int32.ofInt 0) r2.2) (
        GX65_isNone_53 a3 s0 a2 r2.2)) (
      GX65_isNone_53 a3 s0 a2 r1.2))
def HX65_isNone_25 (a0 : Nat) (a1 : Nat) (a2 : Nat) (a3 : Nat) (s0 : Int32) (M : FM) : Prop := ((s0 = 0 → True) ∧ (¬ (s0 = 0) → let r1 : Int32 × FM := GX71_is a0 10 M; ((r1.1 = 0 → let r2 : Int32 × FM := GX71_is a1 10 r1.2; ((r2.1 = 0 → HX65_isNone_59 a3 s0 a2 (Int32.ofInt 0) r2.2) ∧ (¬ (r2.1 = 0) → HX65_isNone_53 a3 s0 a2 r2.2))) ∧ (¬ (r1.1 = 0) → HX65_isNone_53 a3 s0 a2 r1.2))))
theorem gX65_isNone_25 (a0 : Nat) (a1 : Nat) (a2 : Nat) (a3 : Nat) (s0 : Int32) (M : FM) (T : Ty M) (z_s0 : s0 = 0 ∨ s0 = 1) (n_a0 : fm_is M 39 39 a0 = true) (n_a1 : fm_is M 39 39 a1 = true) (n_a2 : fm_is M 31 31 a2 = true) (n_a3 : fm_is M 39 39 a3 = true) (h : HX65_isNone_25 a0 a1 a2 a3 s0 M) : gd (FX65_isNone_25 a0 a1 a2 a3 s0 M) (GX65_isNone_25 a0 a1 a2 a3 s0 M) (OkZ M) := by
  delta FX65_isNone_25 BX65_isNone_25
  refine gd_fi (fun c0_0 => ?_) (fun c0_0 => ?_)
  · exact gd_tZ (ext_r _) (gX65_isNone_66 _ _ ⟨T.1, T.2⟩ z_s0 )
  · refine gd_c n_a0 ?_
    have f14 := (tC_10 T.1)
    refine gd_b (gX71_is _ _ _ ⟨T.1, T.2⟩ n_a0 f14 ) (fun K1 => ?_)
    refine gd_fi (fun c2_0 => ?_) (fun c2_0 => ?_)
    · have f3 := (ext_is K1.2.1 (Nat.zero_lt_succ _) n_a1)
      refine gd_c f3 ?_
      have f10 := (ext_is K1.2.1 (Nat.zero_lt_succ _) n_a1)
      have f11 := (tC_10 K1.1.1)
      refine gd_b (gX71_is _ _ _ ⟨K1.1.1, K1.1.2⟩ f10 f11 ) (fun K4 => ?_)
      refine gd_fi (fun c5_0 => ?_) (fun c5_0 => ?_)
      · have f6 := (ext_is K4.2.1 (Nat.zero_lt_succ _) (ext_is K1.2.1 (Nat.zero_lt_succ _) n_a2))
        have f7 := (ext_is K4.2.1 (Nat.zero_lt_succ _) (ext_is K1.2.1 (Nat.zero_lt_succ _) n_a3))
        exact gd_tZ (ext_tr K1.2.1 K4.2.1) (gX65_isNone_59 _ _ _ _ _ ⟨K4.1.1, K4.1.2⟩ f6 f7 z_s0 (((h.2 c0_0).1 c2_0).1 c5_0))
      · have f8 := (ext_is K4.2.1 (Nat.zero_lt_succ _) (ext_is K1.2.1 (Nat.zero_lt_succ _) n_a2))
        have f9 := (ext_is K4.2.1 (Nat.zero_lt_succ _) (ext_is K1.2.1 (Nat.zero_lt_succ _) n_a3))
        exact gd_tZ (ext_tr K1.2.1 K4.2.1) (gX65_isNone_53 _ _ _ _ ⟨K4.1.1, K4.1.2⟩ f8 f9 z_s0 (((h.2 c0_0).1 c2_0).2 c5_0))
    · have f12 := (ext_is K1.2.1 (Nat.zero_lt_succ _) n_a2)
      have f13 := (ext_is K1.2.1 (Nat.zero_lt_succ _) n_a3)
      exact gd_tZ K1.2.1 (gX65_isNone_53 _ _ _ _ ⟨K1.1.1, K1.1.2⟩ f12 f13 z_s0 ((h.2 c0_0).2 c2_0))
noncomputable def GX65_isNone_20 (a0 : Nat) (a1 : Nat) (a2 : Nat) (a3 : Nat) (M : FM) : Int32 × FM :=
  GX65_isNone_25 a0 a1 a2 a3 (Int32.ofInt 1) M
def HX65_isNone_20 (a0 : Nat) (a1 : Nat) (a2 : Nat) (a3 : Nat) (M : FM) : Prop := HX65_isNone_25 a0 a1 a2 a3 (Int32.ofInt 1) M
theorem gX65_isNone_20 (a0 : Nat) (a1 : Nat) (a2 : Nat) (a3 : Nat) (M : FM) (T : Ty M) (n_a0 : fm_is M 39 39 a0 = true) (n_a1 : fm_is M 39 39 a1 = true) (n_a2 : fm_is M 31 31 a2 = true) (n_a3 : fm_is M 39 39 a3 = true) (h : HX65_isNone_20 a0 a1 a2 a3 M) : gd (FX65_isNone_20 a0 a1 a2 a3 M) (GX65_isNone_20 a0 a1 a2 a3 M) (OkZ M) := by
  delta FX65_isNone_20 BX65_isNone_20
  exact gd_tZ (ext_r _) (gX65_isNone_25 _ _ _ _ _ _ ⟨T.1, T.2⟩ fz_1 n_a0 n_a1 n_a2 n_a3 h)
noncomputable def GX65_isNone_0 (a0 : Nat) (a1 : Nat) (a2 : Nat) (a3 : Nat) (M : FM) : Int32 × FM :=
  let x1 : Nat := (M.2.2 114 a0 0)
  let r2 : Int32 × FM := GX72_isNone x1 M
  fi (r2.1 = 0) (
    let x3 : Nat := (r2.2.2.2 114 a1 0)
    let r4 : Int32 × FM := GX72_isNone x3 r2.2
    fi (r4.1 = 0) (
      GX65_isNone_25 a0 a1 a2 a3 (Int32.ofInt 0) r4.2) (
      GX65_isNone_20 a0 a1 a2 a3 r4.2)) (
    GX65_isNone_20 a0 a1 a2 a3 r2.2)
def HX65_isNone_0 (a0 : Nat) (a1 : Nat) (a2 : Nat) (a3 : Nat) (M : FM) : Prop := let x1 : Nat := (M.2.2 114 a0 0); let r2 : Int32 × FM := GX72_isNone x1 M; ((r2.1 = 0 → let x3 : Nat := (r2.2.2.2 114 a1 0); let r4 : Int32 × FM := GX72_isNone x3 r2.2; ((r4.1 = 0 → HX65_isNone_25 a0 a1 a2 a3 (Int32.ofInt 0) r4.2) ∧ (¬ (r4.1 = 0) → HX65_isNone_20 a0 a1 a2 a3 r4.2))) ∧ (¬ (r2.1 = 0) → HX65_isNone_20 a0 a1 a2 a3 r2.2))
theorem gX65_isNone_0 (a0 : Nat) (a1 : Nat) (a2 : Nat) (a3 : Nat) (M : FM) (T : Ty M) (n_a0 : fm_is M 39 39 a0 = true) (n_a1 : fm_is M 39 39 a1 = true) (n_a2 : fm_is M 31 31 a2 = true) (n_a3 : fm_is M 39 39 a3 = true) (h : HX65_isNone_0 a0 a1 a2 a3 M) : gd (FX65_isNone_0 a0 a1 a2 a3 M) (GX65_isNone_0 a0 a1 a2 a3 M) (OkZ M) := by
  delta FX65_isNone_0 BX65_isNone_0
  refine gd_c n_a0 ?_
  have f0 := (tN_114 T.1 n_a0)
  refine gd_c f0 ?_
  have f20 := (tN_114 T.1 n_a0)
  refine gd_b (gX72_isNone _ _ ⟨T.1, T.2⟩ f20 ) (fun K1 => ?_)
  refine gd_fi (fun c2_0 => ?_) (fun c2_0 => ?_)
  · have f3 := (ext_is K1.2.1 (Nat.zero_lt_succ _) n_a1)
    refine gd_c f3 ?_
    have f4 := (tN_114 K1.1.1 (ext_is K1.2.1 (Nat.zero_lt_succ _) n_a1))
    refine gd_c f4 ?_
    have f15 := (tN_114 K1.1.1 (ext_is K1.2.1 (Nat.zero_lt_succ _) n_a1))
    refine gd_b (gX72_isNone _ _ ⟨K1.1.1, K1.1.2⟩ f15 ) (fun K5 => ?_)
    refine gd_fi (fun c6_0 => ?_) (fun c6_0 => ?_)
    · have f7 := (ext_is K5.2.1 (Nat.zero_lt_succ _) (ext_is K1.2.1 (Nat.zero_lt_succ _) n_a0))
      have f8 := (ext_is K5.2.1 (Nat.zero_lt_succ _) (ext_is K1.2.1 (Nat.zero_lt_succ _) n_a1))
      have f9 := (ext_is K5.2.1 (Nat.zero_lt_succ _) (ext_is K1.2.1 (Nat.zero_lt_succ _) n_a2))
      have f10 := (ext_is K5.2.1 (Nat.zero_lt_succ _) (ext_is K1.2.1 (Nat.zero_lt_succ _) n_a3))
      exact gd_tZ (ext_tr K1.2.1 K5.2.1) (gX65_isNone_25 _ _ _ _ _ _ ⟨K5.1.1, K5.1.2⟩ fz_0 f7 f8 f9 f10 ((h.1 c2_0).1 c6_0))
    · have f11 := (ext_is K5.2.1 (Nat.zero_lt_succ _) (ext_is K1.2.1 (Nat.zero_lt_succ _) n_a0))
      have f12 := (ext_is K5.2.1 (Nat.zero_lt_succ _) (ext_is K1.2.1 (Nat.zero_lt_succ _) n_a1))
      have f13 := (ext_is K5.2.1 (Nat.zero_lt_succ _) (ext_is K1.2.1 (Nat.zero_lt_succ _) n_a2))
      have f14 := (ext_is K5.2.1 (Nat.zero_lt_succ _) (ext_is K1.2.1 (Nat.zero_lt_succ _) n_a3))
      exact gd_tZ (ext_tr K1.2.1 K5.2.1) (gX65_isNone_20 _ _ _ _ _ ⟨K5.1.1, K5.1.2⟩ f11 f12 f13 f14 ((h.1 c2_0).2 c6_0))
  · have f16 := (ext_is K1.2.1 (Nat.zero_lt_succ _) n_a0)
    have f17 := (ext_is K1.2.1 (Nat.zero_lt_succ _) n_a1)
    have f18 := (ext_is K1.2.1 (Nat.zero_lt_succ _) n_a2)
    have f19 := (ext_is K1.2.1 (Nat.zero_lt_succ _) n_a3)
    exact gd_tZ K1.2.1 (gX65_isNone_20 _ _ _ _ _ ⟨K1.1.1, K1.1.2⟩ f16 f17 f18 f19 (h.2 c2_0))
noncomputable def GX65_isNone (a0 : Nat) (a1 : Nat) (a2 : Nat) (a3 : Nat) (M : FM) : Int32 × FM := GX65_isNone_0 a0 a1 a2 a3 M
def HX65_isNone (a0 : Nat) (a1 : Nat) (a2 : Nat) (a3 : Nat) (M : FM) : Prop := HX65_isNone_0 a0 a1 a2 a3 M
theorem gX65_isNone (a0 : Nat) (a1 : Nat) (a2 : Nat) (a3 : Nat) (M : FM) (T : Ty M) (n_a0 : fm_is M 39 39 a0 = true) (n_a1 : fm_is M 39 39 a1 = true) (n_a2 : fm_is M 31 31 a2 = true) (n_a3 : fm_is M 39 39 a3 = true) (h : HX65_isNone a0 a1 a2 a3 M) : gd (FX65_isNone a0 a1 a2 a3 M) (GX65_isNone a0 a1 a2 a3 M) (OkZ M) := gX65_isNone_0 a0 a1 a2 a3 M T n_a0 n_a1 n_a2 n_a3 h
noncomputable def GX65_refuse_0 (a0 : Nat) (a1 : Nat) (M : FM) : FM :=
  let M1 : FM := GX60_raise a0 (Int32.ofInt 16) M
  let M2 : FM := GX65_none a1 M1
  M2
def HX65_refuse_0 (a0 : Nat) (a1 : Nat) (M : FM) : Prop := (HX60_raise a0 (Int32.ofInt 16) M ∧ True)
theorem gX65_refuse_0 (a0 : Nat) (a1 : Nat) (M : FM) (T : Ty M) (n_a0 : fm_is M 31 31 a0 = true) (n_a1 : fm_is M 39 39 a1 = true) (h : HX65_refuse_0 a0 a1 M) : gd (FX65_refuse_0 a0 a1 M) (GX65_refuse_0 a0 a1 M) (OkV M) := by
  delta FX65_refuse_0 BX65_refuse_0
  refine gd_c n_a0 ?_
  refine gd_b (gX60_raise _ _ _ ⟨T.1, T.2⟩ n_a0 h.1) (fun K0 => ?_)
  have f2 := (ext_is K0.2 (Nat.zero_lt_succ _) n_a1)
  refine gd_b (gX65_none _ _ ⟨K0.1.1, K0.1.2⟩ f2 ) (fun K1 => ?_)
  exact ⟨rfl, ⟨K1.1.1, K1.1.2⟩, (ext_tr K0.2 K1.2)⟩
noncomputable def GX65_refuse (a0 : Nat) (a1 : Nat) (M : FM) : FM := GX65_refuse_0 a0 a1 M
def HX65_refuse (a0 : Nat) (a1 : Nat) (M : FM) : Prop := HX65_refuse_0 a0 a1 M
theorem gX65_refuse (a0 : Nat) (a1 : Nat) (M : FM) (T : Ty M) (n_a0 : fm_is M 31 31 a0 = true) (n_a1 : fm_is M 39 39 a1 = true) (h : HX65_refuse a0 a1 M) : gd (FX65_refuse a0 a1 M) (GX65_refuse a0 a1 M) (OkV M) := gX65_refuse_0 a0 a1 M T n_a0 n_a1 h
