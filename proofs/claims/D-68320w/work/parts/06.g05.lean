/-! functions without guards, printed by gen/gg.py -/
set_option maxRecDepth 100000
noncomputable def GX31_readCause_40 (s0 : Int32) (M : FM) : Int32 × FM :=
  (s0, M)
theorem gX31_readCause_40 (s0 : Int32) (M : FM) (T : Ty M) : gd (FX31_readCause_40 s0 M) (GX31_readCause_40 s0 M) (OkR M) := by
  delta FX31_readCause_40 BX31_readCause_40
  exact ⟨rfl, ⟨T.1, T.2⟩, (ext_r _)⟩
noncomputable def GX31_readCause_20 (a0 : Nat) (a1 : Int32) (s0 : Nat) (s1 : Int32) (s2 : Int32) (M : FM) : Int32 × FM :=
  let x1 : Int32 := (s1 &&& s2)
  let M2 : FM := fm_sI M 238 s0 0 x1
  fi ((M2.1 236 a0 0) = 0) (
    GX31_readCause_40 a1 M2) (
    GX31_readCause_40 (a1 ||| (Int32.ofInt 192)) M2)
def HX31_readCause_20 (a0 : Nat) (a1 : Int32) (s0 : Nat) (s1 : Int32) (s2 : Int32) (M : FM) : Prop := let x1 : Int32 := (s1 &&& s2); ((x1 = 0 ∨ x1 = 1) ∧ True)
theorem gX31_readCause_20 (a0 : Nat) (a1 : Int32) (s0 : Nat) (s1 : Int32) (s2 : Int32) (M : FM) (T : Ty M) (n_s0 : fm_is M 78 78 s0 = true) (n_a0 : fm_is M 78 78 a0 = true) (h : HX31_readCause_20 a0 a1 s0 s1 s2 M) : gd (FX31_readCause_20 a0 a1 s0 s1 s2 M) (GX31_readCause_20 a0 a1 s0 s1 s2 M) (OkR M) := by
  delta FX31_readCause_20 BX31_readCause_20
  refine gd_c n_s0 ?_
  refine gd_c h.1 ?_
  refine gd_c n_a0 ?_
  refine gd_fi (fun c0_0 => ?_) (fun c0_0 => ?_)
  · exact gd_tR (ext_dI (ext_r _)) (gX31_readCause_40 _ _ ⟨T.1, (tyb_sIb (f := 238) rfl T.2 h.1)⟩  )
  · exact gd_tR (ext_dI (ext_r _)) (gX31_readCause_40 _ _ ⟨T.1, (tyb_sIb (f := 238) rfl T.2 h.1)⟩  )
noncomputable def GX31_readCause_0 (a0 : Nat) (M : FM) : Int32 × FM :=
  let r1 : Int32 × FM := GX31_cause a0 M
  fi (r1.1 = (Int32.ofInt 2)) (
    GX31_readCause_20 a0 r1.1 a0 (r1.2.1 238 a0 0) (Int32.ofInt 0) r1.2) (
    GX31_readCause_20 a0 r1.1 a0 (r1.2.1 238 a0 0) (Int32.ofInt 1) r1.2)
def HX31_readCause_0 (a0 : Nat) (M : FM) : Prop := (HX31_cause a0 M ∧ let r1 : Int32 × FM := GX31_cause a0 M; ((r1.1 = (Int32.ofInt 2) → HX31_readCause_20 a0 r1.1 a0 (r1.2.1 238 a0 0) (Int32.ofInt 0) r1.2) ∧ (¬ (r1.1 = (Int32.ofInt 2)) → HX31_readCause_20 a0 r1.1 a0 (r1.2.1 238 a0 0) (Int32.ofInt 1) r1.2)))
theorem gX31_readCause_0 (a0 : Nat) (M : FM) (T : Ty M) (n_a0 : fm_is M 78 78 a0 = true) (h : HX31_readCause_0 a0 M) : gd (FX31_readCause_0 a0 M) (GX31_readCause_0 a0 M) (OkR M) := by
  delta FX31_readCause_0 BX31_readCause_0
  refine gd_c n_a0 ?_
  refine gd_b (gX31_cause _ _ ⟨T.1, T.2⟩ n_a0 h.1) (fun K0 => ?_)
  have f1 := (ext_is K0.2 (Nat.zero_lt_succ _) n_a0)
  refine gd_c f1 ?_
  refine gd_fi (fun c2_0 => ?_) (fun c2_0 => ?_)
  · have f3 := (ext_is K0.2 (Nat.zero_lt_succ _) n_a0)
    have f4 := (ext_is K0.2 (Nat.zero_lt_succ _) n_a0)
    exact gd_tR K0.2 (gX31_readCause_20 _ _ _ _ _ _ ⟨K0.1.1, K0.1.2⟩ f3 f4 (h.2.1 c2_0))
  · have f5 := (ext_is K0.2 (Nat.zero_lt_succ _) n_a0)
    have f6 := (ext_is K0.2 (Nat.zero_lt_succ _) n_a0)
    exact gd_tR K0.2 (gX31_readCause_20 _ _ _ _ _ _ ⟨K0.1.1, K0.1.2⟩ f5 f6 (h.2.2 c2_0))
noncomputable def GX31_readCause (a0 : Nat) (M : FM) : Int32 × FM := GX31_readCause_0 a0 M
def HX31_readCause (a0 : Nat) (M : FM) : Prop := HX31_readCause_0 a0 M
theorem gX31_readCause (a0 : Nat) (M : FM) (T : Ty M) (n_a0 : fm_is M 78 78 a0 = true) (h : HX31_readCause a0 M) : gd (FX31_readCause a0 M) (GX31_readCause a0 M) (OkR M) := gX31_readCause_0 a0 M T n_a0 h
noncomputable def GX31_readStatus_27 (a0 : Nat) (s0 : Int32) (s1 : Int32) (M : FM) : Int32 × FM :=
  let x1 : Int32 := (s0 ||| s1)
  let M2 : FM := fm_sI M 237 a0 0 (Int32.ofInt 0)
  (x1, M2)
theorem gX31_readStatus_27 (a0 : Nat) (s0 : Int32) (s1 : Int32) (M : FM) (T : Ty M) (n_a0 : fm_is M 78 78 a0 = true) : gd (FX31_readStatus_27 a0 s0 s1 M) (GX31_readStatus_27 a0 s0 s1 M) (OkR M) := by
  delta FX31_readStatus_27 BX31_readStatus_27
  refine gd_c n_a0 ?_
  refine gd_c fz_0 ?_
  exact ⟨rfl, ⟨T.1, (tyb_sIb (f := 237) rfl T.2 fz_0)⟩, (ext_dI (ext_r _))⟩
noncomputable def GX31_readStatus_14 (a0 : Nat) (s0 : Int32) (s1 : Int32) (M : FM) : Int32 × FM :=
  fi ((M.1 237 a0 0) = 0) (
    GX31_readStatus_27 a0 (s0 ||| s1) (Int32.ofInt 0) M) (
    GX31_readStatus_27 a0 (s0 ||| s1) (Int32.ofInt 2) M)
theorem gX31_readStatus_14 (a0 : Nat) (s0 : Int32) (s1 : Int32) (M : FM) (T : Ty M) (n_a0 : fm_is M 78 78 a0 = true) : gd (FX31_readStatus_14 a0 s0 s1 M) (GX31_readStatus_14 a0 s0 s1 M) (OkR M) := by
  delta FX31_readStatus_14 BX31_readStatus_14
  refine gd_c n_a0 ?_
  refine gd_fi (fun c0_0 => ?_) (fun c0_0 => ?_)
  · exact gd_tR (ext_r _) (gX31_readStatus_27 _ _ _ _ ⟨T.1, T.2⟩ n_a0 )
  · exact gd_tR (ext_r _) (gX31_readStatus_27 _ _ _ _ ⟨T.1, T.2⟩ n_a0 )
noncomputable def GX31_readStatus_0 (a0 : Nat) (M : FM) : Int32 × FM :=
  fi ((M.1 232 a0 0) ≤ 0) (
    GX31_readStatus_14 a0 (Int32.ofInt 96) (Int32.ofInt 0) M) (
    GX31_readStatus_14 a0 (Int32.ofInt 96) (Int32.ofInt 1) M)
theorem gX31_readStatus_0 (a0 : Nat) (M : FM) (T : Ty M) (n_a0 : fm_is M 78 78 a0 = true) : gd (FX31_readStatus_0 a0 M) (GX31_readStatus_0 a0 M) (OkR M) := by
  delta FX31_readStatus_0 BX31_readStatus_0
  refine gd_c n_a0 ?_
  refine gd_fi (fun c0_0 => ?_) (fun c0_0 => ?_)
  · exact gd_tR (ext_r _) (gX31_readStatus_14 _ _ _ _ ⟨T.1, T.2⟩ n_a0 )
  · exact gd_tR (ext_r _) (gX31_readStatus_14 _ _ _ _ ⟨T.1, T.2⟩ n_a0 )
noncomputable def GX31_readStatus (a0 : Nat) (M : FM) : Int32 × FM := GX31_readStatus_0 a0 M
theorem gX31_readStatus (a0 : Nat) (M : FM) (T : Ty M) (n_a0 : fm_is M 78 78 a0 = true) : gd (FX31_readStatus a0 M) (GX31_readStatus a0 M) (OkR M) := gX31_readStatus_0 a0 M T n_a0 
noncomputable def GX31_modem_46 (s0 : Int32) (M : FM) : Int32 × FM :=
  (s0, M)
theorem gX31_modem_46 (s0 : Int32) (M : FM) (T : Ty M) : gd (FX31_modem_46 s0 M) (GX31_modem_46 s0 M) (OkR M) := by
  delta FX31_modem_46 BX31_modem_46
  exact ⟨rfl, ⟨T.1, T.2⟩, (ext_r _)⟩
noncomputable def GX31_modem_0 (a0 : Nat) (M : FM) : Int32 × FM :=
  let x1 : Nat := (M.2.2 235 a0 0)
  let x2 : Int32 := (M.1 3 x1 (Int32.ofInt 4).toNatClampNeg)
  let r3 : Int32 × FM := GX31_has a0 (Int32.ofInt 4) (Int32.ofInt 4) M
  fi (r3.1 = 0) (
    GX31_modem_46 (Int32.ofInt 176) r3.2) (
    GX31_modem_46 (((((x2 &&& (Int32.ofInt 2)) <<< ((Int32.ofInt 3) &&& 31)) ||| ((x2 &&& (Int32.ofInt 1)) <<< ((Int32.ofInt 5) &&& 31))) ||| ((x2 &&& (Int32.ofInt 4)) <<< ((Int32.ofInt 4) &&& 31))) ||| ((x2 &&& (Int32.ofInt 8)) <<< ((Int32.ofInt 4) &&& 31))) r3.2)
def HX31_modem_0 (a0 : Nat) (M : FM) : Prop := let x1 : Nat := (M.2.2 235 a0 0); let x2 : Int32 := (M.1 3 x1 (Int32.ofInt 4).toNatClampNeg); (HX31_has a0 (Int32.ofInt 4) (Int32.ofInt 4) M ∧ True)
theorem gX31_modem_0 (a0 : Nat) (M : FM) (T : Ty M) (n_a0 : fm_is M 78 78 a0 = true) (h : HX31_modem_0 a0 M) : gd (FX31_modem_0 a0 M) (GX31_modem_0 a0 M) (OkR M) := by
  delta FX31_modem_0 BX31_modem_0
  refine gd_c n_a0 ?_
  have f2 := (tN_235 T.1 n_a0)
  have f3 := (fm_inl (i := (Int32.ofInt 4)) (tL_235 T.1 n_a0) (by decide))
  refine gd_c ⟨f2, f3⟩ ?_
  refine gd_c n_a0 ?_
  refine gd_b (gX31_has _ _ _ _ ⟨T.1, T.2⟩ n_a0 h.1) (fun K0 => ?_)
  refine gd_fi (fun c1_0 => ?_) (fun c1_0 => ?_)
  · exact gd_tR K0.2.1 (gX31_modem_46 _ _ ⟨K0.1.1, K0.1.2⟩  )
  · exact gd_tR K0.2.1 (gX31_modem_46 _ _ ⟨K0.1.1, K0.1.2⟩  )
noncomputable def GX31_modem (a0 : Nat) (M : FM) : Int32 × FM := GX31_modem_0 a0 M
def HX31_modem (a0 : Nat) (M : FM) : Prop := HX31_modem_0 a0 M
theorem gX31_modem (a0 : Nat) (M : FM) (T : Ty M) (n_a0 : fm_is M 78 78 a0 = true) (h : HX31_modem a0 M) : gd (FX31_modem a0 M) (GX31_modem a0 M) (OkR M) := gX31_modem_0 a0 M T n_a0 h
noncomputable def GX31_read_116 (a0 : Nat) (a4 : Int32) (M : FM) : Int64 × FM :=
  let x1 : Nat := (M.2.2 235 a0 0)
  ((M.1 3 x1 a4.toNatClampNeg).toInt64, M)
def HX31_read_116 (a0 : Nat) (a4 : Int32) (M : FM) : Prop := let x1 : Nat := (M.2.2 235 a0 0); (fm_in M x1 a4 = true ∧ True)
theorem gX31_read_116 (a0 : Nat) (a4 : Int32) (M : FM) (T : Ty M) (n_a0 : fm_is M 78 78 a0 = true) (h : HX31_read_116 a0 a4 M) : gd (FX31_read_116 a0 a4 M) (GX31_read_116 a0 a4 M) (OkR M) := by
  delta FX31_read_116 BX31_read_116
  refine gd_c n_a0 ?_
  have f0 := (tN_235 T.1 n_a0)
  refine gd_c ⟨f0, h.1⟩ ?_
  exact ⟨rfl, ⟨T.1, T.2⟩, (ext_r _)⟩
noncomputable def GX31_read_47 (a0 : Nat) (a4 : Int32) (M : FM) : Int64 × FM :=
  fi (a4 = (Int32.ofInt 0)) (
    let r1 : Int32 × FM := GX31_take a0 M
    (r1.1.toInt64, r1.2)) (
    fi (a4 = (Int32.ofInt 1)) (
      GX31_read_116 a0 a4 M) (
      fi (a4 = (Int32.ofInt 2)) (
        let r2 : Int32 × FM := GX31_readCause a0 M
        (r2.1.toInt64, r2.2)) (
        fi (a4 = (Int32.ofInt 3)) (
          GX31_read_116 a0 a4 M) (
          fi (a4 = (Int32.ofInt 4)) (
            GX31_read_116 a0 a4 M) (
            fi (a4 = (Int32.ofInt 5)) (
              let r3 : Int32 × FM := GX31_readStatus a0 M
              (r3.1.toInt64, r3.2)) (
              fi (a4 = (Int32.ofInt 6)) (
                let r4 : Int32 × FM := GX31_modem a0 M
                (r4.1.toInt64, r4.2)) (
                GX31_read_116 a0 a4 M)))))))
def HX31_read_47 (a0 : Nat) (a4 : Int32) (M : FM) : Prop := ((a4 = (Int32.ofInt 0) → (HX31_take a0 M ∧ True)) ∧ (¬ (a4 = (Int32.ofInt 0)) → ((a4 = (Int32.ofInt 1) → HX31_read_116 a0 a4 M) ∧ (¬ (a4 = (Int32.ofInt 1)) → ((a4 = (Int32.ofInt 2) → (HX31_readCause a0 M ∧ True)) ∧ (¬ (a4 = (Int32.ofInt 2)) → ((a4 = (Int32.ofInt 3) → HX31_read_116 a0 a4 M) ∧ (¬ (a4 = (Int32.ofInt 3)) → ((a4 = (Int32.ofInt 4) → HX31_read_116 a0 a4 M) ∧ (¬ (a4 = (Int32.ofInt 4)) → ((a4 = (Int32.ofInt 5) → True) ∧ (¬ (a4 = (Int32.ofInt 5)) → ((a4 = (Int32.ofInt 6) → (HX31_modem a0 M ∧ True)) ∧ (¬ (a4 = (Int32.ofInt 6)) → HX31_read_116 a0 a4 M))))))))))))))
theorem gX31_read_47 (a0 : Nat) (a4 : Int32) (M : FM) (T : Ty M) (n_a0 : fm_is M 78 78 a0 = true) (h : HX31_read_47 a0 a4 M) : gd (FX31_read_47 a0 a4 M) (GX31_read_47 a0 a4 M) (OkR M) := by
  delta FX31_read_47 BX31_read_47
  refine gd_fi (fun c0_0 => ?_) (fun c0_0 => ?_)
  · refine gd_c n_a0 ?_
    refine gd_b (gX31_take _ _ ⟨T.1, T.2⟩ n_a0 (h.1 c0_0).1) (fun K1 => ?_)
    exact ⟨rfl, ⟨K1.1.1, K1.1.2⟩, K1.2⟩
  · refine gd_fi (fun c2_1 => ?_) (fun c2_1 => ?_)
    · exact gd_tR (ext_r _) (gX31_read_116 _ _ _ ⟨T.1, T.2⟩ n_a0 ((h.2 c0_0).1 c2_1))
    · refine gd_fi (fun c3_2 => ?_) (fun c3_2 => ?_)
      · refine gd_c n_a0 ?_
        refine gd_b (gX31_readCause _ _ ⟨T.1, T.2⟩ n_a0 (((h.2 c0_0).2 c2_1).1 c3_2).1) (fun K4 => ?_)
        exact ⟨rfl, ⟨K4.1.1, K4.1.2⟩, K4.2⟩
      · refine gd_fi (fun c5_3 => ?_) (fun c5_3 => ?_)
        · exact gd_tR (ext_r _) (gX31_read_116 _ _ _ ⟨T.1, T.2⟩ n_a0 ((((h.2 c0_0).2 c2_1).2 c3_2).1 c5_3))
        · refine gd_fi (fun c6_4 => ?_) (fun c6_4 => ?_)
          · exact gd_tR (ext_r _) (gX31_read_116 _ _ _ ⟨T.1, T.2⟩ n_a0 (((((h.2 c0_0).2 c2_1).2 c3_2).2 c5_3).1 c6_4))
          · refine gd_fi (fun c7_5 => ?_) (fun c7_5 => ?_)
            · refine gd_c n_a0 ?_
              refine gd_b (gX31_readStatus _ _ ⟨T.1, T.2⟩ n_a0 ) (fun K8 => ?_)
              exact ⟨rfl, ⟨K8.1.1, K8.1.2⟩, K8.2⟩
            · refine gd_fi (fun c9_6 => ?_) (fun c9_6 => ?_)
              · refine gd_c n_a0 ?_
                refine gd_b (gX31_modem _ _ ⟨T.1, T.2⟩ n_a0 (((((((h.2 c0_0).2 c2_1).2 c3_2).2 c5_3).2 c6_4).2 c7_5).1 c9_6).1) (fun K10 => ?_)
                exact ⟨rfl, ⟨K10.1.1, K10.1.2⟩, K10.2⟩
              · exact gd_tR (ext_r _) (gX31_read_116 _ _ _ ⟨T.1, T.2⟩ n_a0 (((((((h.2 c0_0).2 c2_1).2 c3_2).2 c5_3).2 c6_4).2 c7_5).2 c9_6))
noncomputable def GX31_read_13 (M : FM) : Int64 × FM :=
  ((Int64.ofInt 0), M)
theorem gX31_read_13 (M : FM) (T : Ty M) : gd (FX31_read_13 M) (GX31_read_13 M) (OkR M) := by
  delta FX31_read_13 BX31_read_13
  exact ⟨rfl, ⟨T.1, T.2⟩, (ext_r _)⟩
noncomputable def GX31_read_0 (a0 : Nat) (a1 : Int64) (a3 : Int32) (M : FM) : Int64 × FM :=
  fi (a3 = (Int32.ofInt 1)) (
    fi ((lg_cmp a1 (Int64.ofInt 7)) ≤ 0) (
      let x1 : Int32 := a1.toInt32
      fi ((Int32.ofInt 2) ≤ x1) (
        GX31_read_47 a0 x1 M) (
        let r2 : Int32 × FM := GX31_has a0 (Int32.ofInt 3) (Int32.ofInt 7) M
        fi (r2.1 = 0) (
          GX31_read_47 a0 x1 r2.2) (
          let x3 : Int32 := ((Int32.ofInt 8) + x1)
          let x4 : Nat := (r2.2.2.2 235 a0 0)
          ((r2.2.1 3 x4 x3.toNatClampNeg).toInt64, r2.2)))) (
      GX31_read_13 M)) (
    GX31_read_13 M)
def HX31_read_0 (a0 : Nat) (a1 : Int64) (a3 : Int32) (M : FM) : Prop := ((a3 = (Int32.ofInt 1) → (((lg_cmp a1 (Int64.ofInt 7)) ≤ 0 → let x1 : Int32 := a1.toInt32; (((Int32.ofInt 2) ≤ x1 → HX31_read_47 a0 x1 M) ∧ (¬ ((Int32.ofInt 2) ≤ x1) → (HX31_has a0 (Int32.ofInt 3) (Int32.ofInt 7) M ∧ let r2 : Int32 × FM := GX31_has a0 (Int32.ofInt 3) (Int32.ofInt 7) M; ((r2.1 = 0 → HX31_read_47 a0 x1 r2.2) ∧ (¬ (r2.1 = 0) → let x3 : Int32 := ((Int32.ofInt 8) + x1); let x4 : Nat := (r2.2.2.2 235 a0 0); (fm_in r2.2 x4 x3 = true ∧ True))))))) ∧ (¬ ((lg_cmp a1 (Int64.ofInt 7)) ≤ 0) → True))) ∧ (¬ (a3 = (Int32.ofInt 1)) → True))
theorem gX31_read_0 (a0 : Nat) (a1 : Int64) (a3 : Int32) (M : FM) (T : Ty M) (n_a0 : fm_is M 78 78 a0 = true) (h : HX31_read_0 a0 a1 a3 M) : gd (FX31_read_0 a0 a1 a3 M) (GX31_read_0 a0 a1 a3 M) (OkR M) := by
  delta FX31_read_0 BX31_read_0
  refine gd_fi (fun c0_0 => ?_) (fun c0_0 => ?_)
  · refine gd_fi (fun c1_0 => ?_) (fun c1_0 => ?_)
    · refine gd_fi (fun c2_0 => ?_) (fun c2_0 => ?_)
      · exact gd_tR (ext_r _) (gX31_read_47 _ _ _ ⟨T.1, T.2⟩ n_a0 (((h.1 c0_0).1 c1_0).1 c2_0))
      · refine gd_c n_a0 ?_
        refine gd_b (gX31_has _ _ _ _ ⟨T.1, T.2⟩ n_a0 (((h.1 c0_0).1 c1_0).2 c2_0).1) (fun K3 => ?_)
        refine gd_fi (fun c4_0 => ?_) (fun c4_0 => ?_)
        · have f5 := (ext_is K3.2.1 (Nat.zero_lt_succ _) n_a0)
          exact gd_tR K3.2.1 (gX31_read_47 _ _ _ ⟨K3.1.1, K3.1.2⟩ f5 ((((h.1 c0_0).1 c1_0).2 c2_0).2.1 c4_0))
        · have f6 := (ext_is K3.2.1 (Nat.zero_lt_succ _) n_a0)
          refine gd_c f6 ?_
          have f7 := (tN_235 K3.1.1 (ext_is K3.2.1 (Nat.zero_lt_succ _) n_a0))
          have f8 := ((((h.1 c0_0).1 c1_0).2 c2_0).2.2 c4_0).1
          refine gd_c ⟨f7, f8⟩ ?_
          exact ⟨rfl, ⟨K3.1.1, K3.1.2⟩, K3.2.1⟩
    · exact gd_tR (ext_r _) (gX31_read_13  _ ⟨T.1, T.2⟩  )
  · exact gd_tR (ext_r _) (gX31_read_13  _ ⟨T.1, T.2⟩  )
noncomputable def GX31_read (a0 : Nat) (a1 : Int64) (a3 : Int32) (M : FM) : Int64 × FM := GX31_read_0 a0 a1 a3 M
def HX31_read (a0 : Nat) (a1 : Int64) (a3 : Int32) (M : FM) : Prop := HX31_read_0 a0 a1 a3 M
theorem gX31_read (a0 : Nat) (a1 : Int64) (a3 : Int32) (M : FM) (T : Ty M) (n_a0 : fm_is M 78 78 a0 = true) (h : HX31_read a0 a1 a3 M) : gd (FX31_read a0 a1 a3 M) (GX31_read a0 a1 a3 M) (OkR M) := gX31_read_0 a0 a1 a3 M T n_a0 h
noncomputable def GX32_find_48 (s0 : Int32) (M : FM) : Int32 × FM :=
  (s0, M)
theorem gX32_find_48 (s0 : Int32) (M : FM) (T : Ty M) : gd (FX32_find_48 s0 M) (GX32_find_48 s0 M) (OkR M) := by
  delta FX32_find_48 BX32_find_48
  exact ⟨rfl, ⟨T.1, T.2⟩, (ext_r _)⟩
noncomputable def GX32_find_47 (M : FM) : Int32 × FM :=
  GX32_find_48 (Int32.ofInt (-1)) M
theorem gX32_find_47 (M : FM) (T : Ty M) : gd (FX32_find_47 M) (GX32_find_47 M) (OkR M) := by
  delta FX32_find_47 BX32_find_47
  exact gd_tR (ext_r _) (gX32_find_48 _ _ ⟨T.1, T.2⟩  )
noncomputable def GX32_find_18 (a0 : Nat) (a1 : Int64) (M : FM) : Int32 × FM :=
  let x1 : Int64 := ((a1 - (Int64.ofInt 16384)) >>> ((Int32.ofInt 3).toInt64 &&& 63))
  fi ((lg_cmp x1 (Int64.ofInt 0)) < 0) (
    GX32_find_47 M) (
    fi (0 ≤ (lg_cmp x1 ((M.1 244 a0 0).toInt64))) (
      GX32_find_47 M) (
      GX32_find_48 x1.toInt32 M))
theorem gX32_find_18 (a0 : Nat) (a1 : Int64) (M : FM) (T : Ty M) (n_a0 : fm_is M 80 80 a0 = true) : gd (FX32_find_18 a0 a1 M) (GX32_find_18 a0 a1 M) (OkR M) := by
  delta FX32_find_18 BX32_find_18
  refine gd_fi (fun c0_0 => ?_) (fun c0_0 => ?_)
  · exact gd_tR (ext_r _) (gX32_find_47  _ ⟨T.1, T.2⟩  )
  · refine gd_c n_a0 ?_
    refine gd_fi (fun c1_0 => ?_) (fun c1_0 => ?_)
    · exact gd_tR (ext_r _) (gX32_find_47  _ ⟨T.1, T.2⟩  )
    · exact gd_tR (ext_r _) (gX32_find_48 _ _ ⟨T.1, T.2⟩  )
noncomputable def GX32_find_0 (a0 : Nat) (a1 : Int64) (M : FM) : Int32 × FM :=
  fi ((lg_cmp a1 (Int64.ofInt 49144)) < 0) (
    GX32_find_18 a0 a1 M) (
    fi (0 ≤ (lg_cmp a1 (Int64.ofInt 49152))) (
      GX32_find_18 a0 a1 M) (
      ((Int32.ofInt 4), M)))
theorem gX32_find_0 (a0 : Nat) (a1 : Int64) (M : FM) (T : Ty M) (n_a0 : fm_is M 80 80 a0 = true) : gd (FX32_find_0 a0 a1 M) (GX32_find_0 a0 a1 M) (OkR M) := by
  delta FX32_find_0 BX32_find_0
  refine gd_fi (fun c0_0 => ?_) (fun c0_0 => ?_)
  · exact gd_tR (ext_r _) (gX32_find_18 _ _ _ ⟨T.1, T.2⟩ n_a0 )
  · refine gd_fi (fun c1_0 => ?_) (fun c1_0 => ?_)
    · exact gd_tR (ext_r _) (gX32_find_18 _ _ _ ⟨T.1, T.2⟩ n_a0 )
    · exact ⟨rfl, ⟨T.1, T.2⟩, (ext_r _)⟩
noncomputable def GX32_find (a0 : Nat) (a1 : Int64) (M : FM) : Int32 × FM := GX32_find_0 a0 a1 M
theorem gX32_find (a0 : Nat) (a1 : Int64) (M : FM) (T : Ty M) (n_a0 : fm_is M 80 80 a0 = true) : gd (FX32_find a0 a1 M) (GX32_find a0 a1 M) (OkR M) := gX32_find_0 a0 a1 M T n_a0 
noncomputable def GX32_isWhole_21 (s0 : Int32) (M : FM) : Int32 × FM :=
  (s0, M)
theorem gX32_isWhole_21 (s0 : Int32) (M : FM) (T : Ty M) (z_s0 : s0 = 0 ∨ s0 = 1) : gd (FX32_isWhole_21 s0 M) (GX32_isWhole_21 s0 M) (OkZ M) := by
  delta FX32_isWhole_21 BX32_isWhole_21
  exact gd_z z_s0 ⟨T.1, T.2⟩ (ext_r _) rfl
noncomputable def GX32_isWhole_20 (M : FM) : Int32 × FM :=
  GX32_isWhole_21 (Int32.ofInt 0) M
theorem gX32_isWhole_20 (M : FM) (T : Ty M) : gd (FX32_isWhole_20 M) (GX32_isWhole_20 M) (OkZ M) := by
  delta FX32_isWhole_20 BX32_isWhole_20
  exact gd_tZ (ext_r _) (gX32_isWhole_21 _ _ ⟨T.1, T.2⟩ fz_0 )
noncomputable def GX32_isWhole_0 (a0 : Nat) (a1 : Int64) (a3 : Int32) (M : FM) : Int32 × FM :=
  fi (a3 = (Int32.ofInt 8)) (
    fi ((lg_cmp (a1 &&& (Int64.ofInt 7)) (Int64.ofInt 0)) = 0) (
      GX32_isWhole_21 (Int32.ofInt 1) M) (
      GX32_isWhole_20 M)) (
    GX32_isWhole_20 M)
theorem gX32_isWhole_0 (a0 : Nat) (a1 : Int64) (a3 : Int32) (M : FM) (T : Ty M) : gd (FX32_isWhole_0 a0 a1 a3 M) (GX32_isWhole_0 a0 a1 a3 M) (OkZ M) := by
  delta FX32_isWhole_0 BX32_isWhole_0
  refine gd_fi (fun c0_0 => ?_) (fun c0_0 => ?_)
  · refine gd_fi (fun c1_0 => ?_) (fun c1_0 => ?_)
    · exact gd_tZ (ext_r _) (gX32_isWhole_21 _ _ ⟨T.1, T.2⟩ fz_1 )
    · exact gd_tZ (ext_r _) (gX32_isWhole_20  _ ⟨T.1, T.2⟩  )
  · exact gd_tZ (ext_r _) (gX32_isWhole_20  _ ⟨T.1, T.2⟩  )
noncomputable def GX32_isWhole (a0 : Nat) (a1 : Int64) (a3 : Int32) (M : FM) : Int32 × FM := GX32_isWhole_0 a0 a1 a3 M
theorem gX32_isWhole (a0 : Nat) (a1 : Int64) (a3 : Int32) (M : FM) (T : Ty M) : gd (FX32_isWhole a0 a1 a3 M) (GX32_isWhole a0 a1 a3 M) (OkZ M) := gX32_isWhole_0 a0 a1 a3 M T 
noncomputable def GX32_isHalf_20 (s0 : Int32) (M : FM) : Int32 × FM :=
  (s0, M)
theorem gX32_isHalf_20 (s0 : Int32) (M : FM) (T : Ty M) (z_s0 : s0 = 0 ∨ s0 = 1) : gd (FX32_isHalf_20 s0 M) (GX32_isHalf_20 s0 M) (OkZ M) := by
  delta FX32_isHalf_20 BX32_isHalf_20
  exact gd_z z_s0 ⟨T.1, T.2⟩ (ext_r _) rfl
noncomputable def GX32_isHalf_19 (M : FM) : Int32 × FM :=
  GX32_isHalf_20 (Int32.ofInt 0) M
theorem gX32_isHalf_19 (M : FM) (T : Ty M) : gd (FX32_isHalf_19 M) (GX32_isHalf_19 M) (OkZ M) := by
  delta FX32_isHalf_19 BX32_isHalf_19
  exact gd_tZ (ext_r _) (gX32_isHalf_20 _ _ ⟨T.1, T.2⟩ fz_0 )
noncomputable def GX32_isHalf_0 (a0 : Nat) (a1 : Int64) (a3 : Int32) (M : FM) : Int32 × FM :=
  fi (a3 = (Int32.ofInt 4)) (
    fi ((lg_cmp (a1 &&& (Int64.ofInt 3)) (Int64.ofInt 0)) = 0) (
      GX32_isHalf_20 (Int32.ofInt 1) M) (
      GX32_isHalf_19 M)) (
    GX32_isHalf_19 M)
theorem gX32_isHalf_0 (a0 : Nat) (a1 : Int64) (a3 : Int32) (M : FM) (T : Ty M) : gd (FX32_isHalf_0 a0 a1 a3 M) (GX32_isHalf_0 a0 a1 a3 M) (OkZ M) := by
  delta FX32_isHalf_0 BX32_isHalf_0
  refine gd_fi (fun c0_0 => ?_) (fun c0_0 => ?_)
  · refine gd_fi (fun c1_0 => ?_) (fun c1_0 => ?_)
    · exact gd_tZ (ext_r _) (gX32_isHalf_20 _ _ ⟨T.1, T.2⟩ fz_1 )
    · exact gd_tZ (ext_r _) (gX32_isHalf_19  _ ⟨T.1, T.2⟩  )
  · exact gd_tZ (ext_r _) (gX32_isHalf_19  _ ⟨T.1, T.2⟩  )
noncomputable def GX32_isHalf (a0 : Nat) (a1 : Int64) (a3 : Int32) (M : FM) : Int32 × FM := GX32_isHalf_0 a0 a1 a3 M
theorem gX32_isHalf (a0 : Nat) (a1 : Int64) (a3 : Int32) (M : FM) (T : Ty M) : gd (FX32_isHalf a0 a1 a3 M) (GX32_isHalf a0 a1 a3 M) (OkZ M) := gX32_isHalf_0 a0 a1 a3 M T 
noncomputable def GX32_read_120 (s0 : Int64) (M : FM) : Int64 × FM :=
  (s0, M)
theorem gX32_read_120 (s0 : Int64) (M : FM) (T : Ty M) : gd (FX32_read_120 s0 M) (GX32_read_120 s0 M) (OkR M) := by
  delta FX32_read_120 BX32_read_120
  exact ⟨rfl, ⟨T.1, T.2⟩, (ext_r _)⟩
noncomputable def GX32_read_119 (M : FM) : Int64 × FM :=
  GX32_read_120 (Int64.ofInt 0) M
theorem gX32_read_119 (M : FM) (T : Ty M) : gd (FX32_read_119 M) (GX32_read_119 M) (OkR M) := by
  delta FX32_read_119 BX32_read_119
  exact gd_tR (ext_r _) (gX32_read_120 _ _ ⟨T.1, T.2⟩  )
noncomputable def GX32_read_78 (a0 : Nat) (a1 : Int64) (a3 : Int32) (a4 : Int32) (M : FM) : Int64 × FM :=
  fi (0 ≤ a4) (
    GX32_read_119 M) (
    let r1 : Int32 × FM := GX32_isHalf a0 a1 a3 M
    fi (r1.1 = 0) (
      GX32_read_119 r1.2) (
      fi (0 ≤ (lg_cmp a1 ((Int64.ofInt 4) * (r1.2.1 244 a0 0).toInt64))) (
        GX32_read_119 r1.2) (
        let x2 : Int32 := (a1 >>> ((Int32.ofInt 2).toInt64 &&& 63)).toInt32
        let x3 : Nat := (r1.2.2.2 245 a0 0)
        GX32_read_120 ((r1.2.1 3 x3 x2.toNatClampNeg).toInt64) r1.2)))
def HX32_read_78 (a0 : Nat) (a1 : Int64) (a3 : Int32) (a4 : Int32) (M : FM) : Prop := ((0 ≤ a4 → True) ∧ (¬ (0 ≤ a4) → let r1 : Int32 × FM := GX32_isHalf a0 a1 a3 M; ((r1.1 = 0 → True) ∧ (¬ (r1.1 = 0) → ((0 ≤ (lg_cmp a1 ((Int64.ofInt 4) * (r1.2.1 244 a0 0).toInt64)) → True) ∧ (¬ (0 ≤ (lg_cmp a1 ((Int64.ofInt 4) * (r1.2.1 244 a0 0).toInt64))) → let x2 : Int32 := (a1 >>> ((Int32.ofInt 2).toInt64 &&& 63)).toInt32; let x3 : Nat := (r1.2.2.2 245 a0 0); (fm_in r1.2 x3 x2 = true ∧ True)))))))
theorem gX32_read_78 (a0 : Nat) (a1 : Int64) (a3 : Int32) (a4 : Int32) (M : FM) (T : Ty M) (n_a0 : fm_is M 80 80 a0 = true) (h : HX32_read_78 a0 a1 a3 a4 M) : gd (FX32_read_78 a0 a1 a3 a4 M) (GX32_read_78 a0 a1 a3 a4 M) (OkR M) := by
  delta FX32_read_78 BX32_read_78
  refine gd_fi (fun c0_0 => ?_) (fun c0_0 => ?_)
  · exact gd_tR (ext_r _) (gX32_read_119  _ ⟨T.1, T.2⟩  )
  · refine gd_c n_a0 ?_
    refine gd_b (gX32_isHalf _ _ _ _ ⟨T.1, T.2⟩  ) (fun K1 => ?_)
    refine gd_fi (fun c2_0 => ?_) (fun c2_0 => ?_)
    · exact gd_tR K1.2.1 (gX32_read_119  _ ⟨K1.1.1, K1.1.2⟩  )
    · have f3 := (ext_is K1.2.1 (Nat.zero_lt_succ _) n_a0)
      refine gd_c f3 ?_
      refine gd_fi (fun c4_0 => ?_) (fun c4_0 => ?_)
      · exact gd_tR K1.2.1 (gX32_read_119  _ ⟨K1.1.1, K1.1.2⟩  )
      · have f5 := (ext_is K1.2.1 (Nat.zero_lt_succ _) n_a0)
        refine gd_c f5 ?_
        have f6 := (tN_245 K1.1.1 (ext_is K1.2.1 (Nat.zero_lt_succ _) n_a0))
        have f7 := (((h.2 c0_0).2 c2_0).2 c4_0).1
        refine gd_c ⟨f6, f7⟩ ?_
        exact gd_tR K1.2.1 (gX32_read_120 _ _ ⟨K1.1.1, K1.1.2⟩  )
noncomputable def GX32_read_77 (s0 : Int64) (M : FM) : Int64 × FM :=
  (s0, M)
theorem gX32_read_77 (s0 : Int64) (M : FM) (T : Ty M) : gd (FX32_read_77 s0 M) (GX32_read_77 s0 M) (OkR M) := by
  delta FX32_read_77 BX32_read_77
  exact ⟨rfl, ⟨T.1, T.2⟩, (ext_r _)⟩
noncomputable def GX32_read_29 (a0 : Nat) (a1 : Int64) (a3 : Int32) (a4 : Int32) (M : FM) : Int64 × FM :=
  fi (a4 < 0) (
    GX32_read_78 a0 a1 a3 a4 M) (
    let r1 : Int32 × FM := GX32_isHalf a0 a1 a3 M
    fi (r1.1 = 0) (
      GX32_read_78 a0 a1 a3 a4 r1.2) (
      fi ((lg_cmp (a1 &&& (Int64.ofInt 4)) (Int64.ofInt 0)) = 0) (
        let x2 : Nat := (r1.2.2.2 246 a0 0)
        GX32_read_77 ((r1.2.2.1 3 x2 a4.toNatClampNeg) &&& (Int64.ofInt 4294967295)) r1.2) (
        let x3 : Nat := (r1.2.2.2 246 a0 0)
        GX32_read_77 (((r1.2.2.1 3 x3 a4.toNatClampNeg).toUInt64 >>> ((Int32.ofInt 32).toInt64.toUInt64 &&& Int64.toUInt64 63)).toInt64) r1.2)))
def HX32_read_29 (a0 : Nat) (a1 : Int64) (a3 : Int32) (a4 : Int32) (M : FM) : Prop := ((a4 < 0 → HX32_read_78 a0 a1 a3 a4 M) ∧ (¬ (a4 < 0) → let r1 : Int32 × FM := GX32_isHalf a0 a1 a3 M; ((r1.1 = 0 → HX32_read_78 a0 a1 a3 a4 r1.2) ∧ (¬ (r1.1 = 0) → (((lg_cmp (a1 &&& (Int64.ofInt 4)) (Int64.ofInt 0)) = 0 → let x2 : Nat := (r1.2.2.2 246 a0 0); (fm_in r1.2 x2 a4 = true ∧ True)) ∧ (¬ ((lg_cmp (a1 &&& (Int64.ofInt 4)) (Int64.ofInt 0)) = 0) → let x3 : Nat := (r1.2.2.2 246 a0 0); (fm_in r1.2 x3 a4 = true ∧ True)))))))
theorem gX32_read_29 (a0 : Nat) (a1 : Int64) (a3 : Int32) (a4 : Int32) (M : FM) (T : Ty M) (n_a0 : fm_is M 80 80 a0 = true) (h : HX32_read_29 a0 a1 a3 a4 M) : gd (FX32_read_29 a0 a1 a3 a4 M) (GX32_read_29 a0 a1 a3 a4 M) (OkR M) := by
  delta FX32_read_29 BX32_read_29
  refine gd_fi (fun c0_0 => ?_) (fun c0_0 => ?_)
  · exact gd_tR (ext_r _) (gX32_read_78 _ _ _ _ _ ⟨T.1, T.2⟩ n_a0 (h.1 c0_0))
  · refine gd_c n_a0 ?_
    refine gd_b (gX32_isHalf _ _ _ _ ⟨T.1, T.2⟩  ) (fun K1 => ?_)
    refine gd_fi (fun c2_0 => ?_) (fun c2_0 => ?_)
    · have f3 := (ext_is K1.2.1 (Nat.zero_lt_succ _) n_a0)
      exact gd_tR K1.2.1 (gX32_read_78 _ _ _ _ _ ⟨K1.1.1, K1.1.2⟩ f3 ((h.2 c0_0).1 c2_0))
    · refine gd_fi (fun c4_0 => ?_) (fun c4_0 => ?_)
      · have f5 := (ext_is K1.2.1 (Nat.zero_lt_succ _) n_a0)
        refine gd_c f5 ?_
        have f6 := (tN_246 K1.1.1 (ext_is K1.2.1 (Nat.zero_lt_succ _) n_a0))
        have f7 := (((h.2 c0_0).2 c2_0).1 c4_0).1
        refine gd_c ⟨f6, f7⟩ ?_
        exact gd_tR K1.2.1 (gX32_read_77 _ _ ⟨K1.1.1, K1.1.2⟩  )
      · have f8 := (ext_is K1.2.1 (Nat.zero_lt_succ _) n_a0)
        refine gd_c f8 ?_
        have f9 := (tN_246 K1.1.1 (ext_is K1.2.1 (Nat.zero_lt_succ _) n_a0))
        have f10 := (((h.2 c0_0).2 c2_0).2 c4_0).1
        refine gd_c ⟨f9, f10⟩ ?_
        exact gd_tR K1.2.1 (gX32_read_77 _ _ ⟨K1.1.1, K1.1.2⟩  )
noncomputable def GX32_read_0 (a0 : Nat) (a1 : Int64) (a3 : Int32) (M : FM) : Int64 × FM :=
  let r1 : Int32 × FM := GX32_find a0 a1 M
  fi (r1.1 < 0) (
    GX32_read_29 a0 a1 a3 r1.1 r1.2) (
    let r2 : Int32 × FM := GX32_isWhole a0 a1 a3 r1.2
    fi (r2.1 = 0) (
      GX32_read_29 a0 a1 a3 r1.1 r2.2) (
      let x3 : Nat := (r2.2.2.2 246 a0 0)
      ((r2.2.2.1 3 x3 r1.1.toNatClampNeg), r2.2)))
def HX32_read_0 (a0 : Nat) (a1 : Int64) (a3 : Int32) (M : FM) : Prop := let r1 : Int32 × FM := GX32_find a0 a1 M; ((r1.1 < 0 → HX32_read_29 a0 a1 a3 r1.1 r1.2) ∧ (¬ (r1.1 < 0) → let r2 : Int32 × FM := GX32_isWhole a0 a1 a3 r1.2; ((r2.1 = 0 → HX32_read_29 a0 a1 a3 r1.1 r2.2) ∧ (¬ (r2.1 = 0) → let x3 : Nat := (r2.2.2.2 246 a0 0); (fm_in r2.2 x3 r1.1 = true ∧ True)))))
theorem gX32_read_0 (a0 : Nat) (a1 : Int64) (a3 : Int32) (M : FM) (T : Ty M) (n_a0 : fm_is M 80 80 a0 = true) (h : HX32_read_0 a0 a1 a3 M) : gd (FX32_read_0 a0 a1 a3 M) (GX32_read_0 a0 a1 a3 M) (OkR M) := by
  delta FX32_read_0 BX32_read_0
  refine gd_c n_a0 ?_
  refine gd_b (gX32_find _ _ _ ⟨T.1, T.2⟩ n_a0 ) (fun K0 => ?_)
  refine gd_fi (fun c1_0 => ?_) (fun c1_0 => ?_)
  · have f2 := (ext_is K0.2 (Nat.zero_lt_succ _) n_a0)
    exact gd_tR K0.2 (gX32_read_29 _ _ _ _ _ ⟨K0.1.1, K0.1.2⟩ f2 (h.1 c1_0))
  · have f3 := (ext_is K0.2 (Nat.zero_lt_succ _) n_a0)
    refine gd_c f3 ?_
    refine gd_b (gX32_isWhole _ _ _ _ ⟨K0.1.1, K0.1.2⟩  ) (fun K4 => ?_)
    refine gd_fi (fun c5_0 => ?_) (fun c5_0 => ?_)
    · have f6 := (ext_is K4.2.1 (Nat.zero_lt_succ _) (ext_is K0.2 (Nat.zero_lt_succ _) n_a0))
      exact gd_tR (ext_tr K0.2 K4.2.1) (gX32_read_29 _ _ _ _ _ ⟨K4.1.1, K4.1.2⟩ f6 ((h.2 c1_0).1 c5_0))
    · have f7 := (ext_is K4.2.1 (Nat.zero_lt_succ _) (ext_is K0.2 (Nat.zero_lt_succ _) n_a0))
      refine gd_c f7 ?_
      have f8 := (tN_246 K4.1.1 (ext_is K4.2.1 (Nat.zero_lt_succ _) (ext_is K0.2 (Nat.zero_lt_succ _) n_a0)))
      have f9 := ((h.2 c1_0).2 c5_0).1
      refine gd_c ⟨f8, f9⟩ ?_
      exact ⟨rfl, ⟨K4.1.1, K4.1.2⟩, (ext_tr K0.2 K4.2.1)⟩
noncomputable def GX32_read (a0 : Nat) (a1 : Int64) (a3 : Int32) (M : FM) : Int64 × FM := GX32_read_0 a0 a1 a3 M
def HX32_read (a0 : Nat) (a1 : Int64) (a3 : Int32) (M : FM) : Prop := HX32_read_0 a0 a1 a3 M
theorem gX32_read (a0 : Nat) (a1 : Int64) (a3 : Int32) (M : FM) (T : Ty M) (n_a0 : fm_is M 80 80 a0 = true) (h : HX32_read a0 a1 a3 M) : gd (FX32_read a0 a1 a3 M) (GX32_read a0 a1 a3 M) (OkR M) := gX32_read_0 a0 a1 a3 M T n_a0 h
noncomputable def GX33_look_0 (a0 : Nat) (M : FM) : FM :=
  let M1 : FM := fm_sI M 228 a0 0 ((M.1 228 a0 0) ||| ((M.1 227 a0 0) &&& ((M.1 229 a0 0) ^^^ (Int32.ofInt (-1)))))
  M1
theorem gX33_look_0 (a0 : Nat) (M : FM) (T : Ty M) (n_a0 : fm_is M 77 77 a0 = true) : gd (FX33_look_0 a0 M) (GX33_look_0 a0 M) (OkV M) := by
  delta FX33_look_0 BX33_look_0
  refine gd_c n_a0 ?_
  refine gd_c n_a0 ?_
  refine gd_c n_a0 ?_
  refine gd_c n_a0 ?_
  exact ⟨rfl, ⟨T.1, (tyb_sI (f := 228) rfl T.2)⟩, (ext_dI (ext_r _))⟩
noncomputable def GX33_look (a0 : Nat) (M : FM) : FM := GX33_look_0 a0 M
theorem gX33_look (a0 : Nat) (M : FM) (T : Ty M) (n_a0 : fm_is M 77 77 a0 = true) : gd (FX33_look a0 M) (GX33_look a0 M) (OkV M) := gX33_look_0 a0 M T n_a0 
noncomputable def GX33_signal_26 (a0 : Nat) (s0 : Nat) (s1 : Int32) (M : FM) : FM :=
  let M1 : FM := fm_sI M 227 s0 0 s1
  let M2 : FM := GX33_look a0 M1
  M2
theorem gX33_signal_26 (a0 : Nat) (s0 : Nat) (s1 : Int32) (M : FM) (T : Ty M) (n_s0 : fm_is M 77 77 s0 = true) (n_a0 : fm_is M 77 77 a0 = true) : gd (FX33_signal_26 a0 s0 s1 M) (GX33_signal_26 a0 s0 s1 M) (OkV M) := by
  delta FX33_signal_26 BX33_signal_26
  refine gd_c n_s0 ?_
  refine gd_c n_a0 ?_
  refine gd_b (gX33_look _ _ ⟨T.1, (tyb_sI (f := 227) rfl T.2)⟩ n_a0 ) (fun K0 => ?_)
  exact ⟨rfl, ⟨K0.1.1, K0.1.2⟩, (ext_dI K0.2)⟩
noncomputable def GX33_signal_0 (a0 : Nat) (a1 : Int32) (a2 : Int32) (M : FM) : FM :=
  fi (a2 = 0) (
    GX33_signal_26 a0 a0 ((M.1 227 a0 0) &&& (((Int32.ofInt 1) <<< (a1 &&& 31)) ^^^ (Int32.ofInt (-1)))) M) (
    GX33_signal_26 a0 a0 ((M.1 227 a0 0) ||| ((Int32.ofInt 1) <<< (a1 &&& 31))) M)
theorem gX33_signal_0 (a0 : Nat) (a1 : Int32) (a2 : Int32) (M : FM) (T : Ty M) (n_a0 : fm_is M 77 77 a0 = true) : gd (FX33_signal_0 a0 a1 a2 M) (GX33_signal_0 a0 a1 a2 M) (OkV M) := by
  delta FX33_signal_0 BX33_signal_0
  refine gd_fi (fun c0_0 => ?_) (fun c0_0 => ?_)
  · refine gd_c n_a0 ?_
    exact gd_tV (ext_r _) (gX33_signal_26 _ _ _ _ ⟨T.1, T.2⟩ n_a0 n_a0 )
  · refine gd_c n_a0 ?_
    exact gd_tV (ext_r _) (gX33_signal_26 _ _ _ _ ⟨T.1, T.2⟩ n_a0 n_a0 )
noncomputable def GX33_signal (a0 : Nat) (a1 : Int32) (a2 : Int32) (M : FM) : FM := GX33_signal_0 a0 a1 a2 M
theorem gX33_signal (a0 : Nat) (a1 : Int32) (a2 : Int32) (M : FM) (T : Ty M) (n_a0 : fm_is M 77 77 a0 = true) : gd (FX33_signal a0 a1 a2 M) (GX33_signal a0 a1 a2 M) (OkV M) := gX33_signal_0 a0 a1 a2 M T n_a0 
noncomputable def GX30_look_22 (s0 : Nat) (s1 : Int32) (s2 : Int32) (M : FM) : FM :=
  let M1 : FM := GX33_signal s0 s1 s2 M
  M1
theorem gX30_look_22 (s0 : Nat) (s1 : Int32) (s2 : Int32) (M : FM) (T : Ty M) (n_s0 : fm_is M 77 77 s0 = true) : gd (FX30_look_22 s0 s1 s2 M) (GX30_look_22 s0 s1 s2 M) (OkV M) := by
  delta FX30_look_22 BX30_look_22
  refine gd_c n_s0 ?_
  refine gd_b (gX33_signal _ _ _ _ ⟨T.1, T.2⟩ n_s0 ) (fun K0 => ?_)
  exact ⟨rfl, ⟨K0.1.1, K0.1.2⟩, K0.2⟩
noncomputable def GX30_look_0 (a0 : Nat) (M : FM) : FM :=
  let x1 : Nat := (M.2.2 242 a0 0)
  let r2 : Int32 × FM := GX31_cause x1 M
  fi (r2.1 = (Int32.ofInt 1)) (
    GX30_look_22 (M.2.2 241 a0 0) (Int32.ofInt 10) (Int32.ofInt 0) r2.2) (
    GX30_look_22 (M.2.2 241 a0 0) (Int32.ofInt 10) (Int32.ofInt 1) r2.2)
def HX30_look_0 (a0 : Nat) (M : FM) : Prop := let x1 : Nat := (M.2.2 242 a0 0); (HX31_cause x1 M ∧ True)
theorem gX30_look_0 (a0 : Nat) (M : FM) (T : Ty M) (n_a0 : fm_is M 79 79 a0 = true) (h : HX30_look_0 a0 M) : gd (FX30_look_0 a0 M) (GX30_look_0 a0 M) (OkV M) := by
  delta FX30_look_0 BX30_look_0
  refine gd_c n_a0 ?_
  refine gd_c n_a0 ?_
  have f0 := (tN_242 T.1 n_a0)
  refine gd_c f0 ?_
  have f5 := (tN_242 T.1 n_a0)
  refine gd_b (gX31_cause _ _ ⟨T.1, T.2⟩ f5 h.1) (fun K1 => ?_)
  refine gd_fi (fun c2_0 => ?_) (fun c2_0 => ?_)
  · have f3 := (ext_is K1.2 (Nat.zero_lt_succ _) (tN_241 T.1 n_a0))
    exact gd_tV K1.2 (gX30_look_22 _ _ _ _ ⟨K1.1.1, K1.1.2⟩ f3 )
  · have f4 := (ext_is K1.2 (Nat.zero_lt_succ _) (tN_241 T.1 n_a0))
    exact gd_tV K1.2 (gX30_look_22 _ _ _ _ ⟨K1.1.1, K1.1.2⟩ f4 )
noncomputable def GX30_look (a0 : Nat) (M : FM) : FM := GX30_look_0 a0 M
def HX30_look (a0 : Nat) (M : FM) : Prop := HX30_look_0 a0 M
theorem gX30_look (a0 : Nat) (M : FM) (T : Ty M) (n_a0 : fm_is M 79 79 a0 = true) (h : HX30_look a0 M) : gd (FX30_look a0 M) (GX30_look a0 M) (OkV M) := gX30_look_0 a0 M T n_a0 h
noncomputable def GX30_read_0 (a0 : Nat) (a1 : Int32) (a2 : Int64) (a4 : Int32) (M : FM) : Int64 × FM :=
  let x1 : Nat := (M.2.2 243 a0 0)
  let x2 : Nat := (M.2.2 3 x1 a1.toNatClampNeg)
  let r3 : Int64 × FM := (fi (fm_is M 77 77 x2 = true) (GX33_read x2 a2 a4 M) ((fi (fm_is M 78 78 x2 = true) (GX31_read x2 a2 a4 M) (GX32_read x2 a2 a4 M))))
  let M4 : FM := GX30_look a0 r3.2
  (r3.1, M4)
def HX30_read_0 (a0 : Nat) (a1 : Int32) (a2 : Int64) (a4 : Int32) (M : FM) : Prop := let x1 : Nat := (M.2.2 243 a0 0); (fm_in M x1 a1 = true ∧ let x2 : Nat := (M.2.2 3 x1 a1.toNatClampNeg); (((fm_is M 77 77 x2 = true → HX33_read x2 a2 a4 M) ∧ (¬ (fm_is M 77 77 x2 = true) → ((fm_is M 78 78 x2 = true → HX31_read x2 a2 a4 M) ∧ (¬ (fm_is M 78 78 x2 = true) → (fm_is M 80 80 x2 = true ∧ HX32_read x2 a2 a4 M))))) ∧ let r3 : Int64 × FM := (fi (fm_is M 77 77 x2 = true) (GX33_read x2 a2 a4 M) ((fi (fm_is M 78 78 x2 = true) (GX31_read x2 a2 a4 M) (GX32_read x2 a2 a4 M)))); (HX30_look a0 r3.2 ∧ True)))
theorem gX30_read_0 (a0 : Nat) (a1 : Int32) (a2 : Int64) (a4 : Int32) (M : FM) (T : Ty M) (n_a0 : fm_is M 79 79 a0 = true) (h : HX30_read_0 a0 a1 a2 a4 M) : gd (FX30_read_0 fN a0 a1 a2 a4 M) (GX30_read_0 a0 a1 a2 a4 M) (OkR M) := by
  delta FX30_read_0 BX30_read_0
  refine gd_c n_a0 ?_
  have f6 := (fm_w (lo' := 910) (hi' := 990) rfl rfl (tN_243 T.1 n_a0))
  refine gd_c ⟨f6, h.1⟩ ?_
  refine gd_kb (gk_fi (gk_b _ _) (gk_fi (gk_b _ _) (gk_fi (gk_b _ _) gk_0))) (gd_fi (fun c0 => (gX33_read _ _ _ _ ⟨T.1, T.2⟩ c0 (h.2.1.1 c0))) (fun c0 => (gd_fi (fun c1 => (gX31_read _ _ _ _ ⟨T.1, T.2⟩ c1 ((h.2.1.2 c0).1 c1))) (fun c1 => (gd_c ((h.2.1.2 c0).2 c1).1 (gX32_read _ _ _ _ ⟨T.1, T.2⟩ ((h.2.1.2 c0).2 c1).1 ((h.2.1.2 c0).2 c1).2)))))) (fun K2 => ?_)
  have f3 := (ext_is K2.2 (Nat.zero_lt_succ _) n_a0)
  refine gd_c f3 ?_
  have f5 := (ext_is K2.2 (Nat.zero_lt_succ _) n_a0)
  refine gd_b (gX30_look _ _ ⟨K2.1.1, K2.1.2⟩ f5 h.2.2.1) (fun K4 => ?_)
  exact ⟨rfl, ⟨K4.1.1, K4.1.2⟩, (ext_tr K2.2 K4.2)⟩
noncomputable def GX30_read (a0 : Nat) (a1 : Int32) (a2 : Int64) (a4 : Int32) (M : FM) : Int64 × FM := GX30_read_0 a0 a1 a2 a4 M
def HX30_read (a0 : Nat) (a1 : Int32) (a2 : Int64) (a4 : Int32) (M : FM) : Prop := HX30_read_0 a0 a1 a2 a4 M
theorem gX30_read (a0 : Nat) (a1 : Int32) (a2 : Int64) (a4 : Int32) (M : FM) (T : Ty M) (n_a0 : fm_is M 79 79 a0 = true) (h : HX30_read a0 a1 a2 a4 M) : gd (FX30_read fN a0 a1 a2 a4 M) (GX30_read a0 a1 a2 a4 M) (OkR M) := gX30_read_0 a0 a1 a2 a4 M T n_a0 h
noncomputable def GX18_read_152 (s0 : Int32) (M : FM) : Int32 × FM :=
  (s0, M)
theorem gX18_read_152 (s0 : Int32) (M : FM) (T : Ty M) : gd (FX18_read_152 s0 M) (GX18_read_152 s0 M) (OkR M) := by
  delta FX18_read_152 BX18_read_152
  exact ⟨rfl, ⟨T.1, T.2⟩, (ext_r _)⟩
noncomputable def GX18_read_151 (M : FM) : Int32 × FM :=
  GX18_read_152 (Int32.ofInt 0) M
theorem gX18_read_151 (M : FM) (T : Ty M) : gd (FX18_read_151 M) (GX18_read_151 M) (OkR M) := by
  delta FX18_read_151 BX18_read_151
  exact gd_tR (ext_r _) (gX18_read_152 _ _ ⟨T.1, T.2⟩  )
noncomputable def GX18_read_129 (s0 : Int32) (M : FM) : Int32 × FM :=
  (s0, M)
theorem gX18_read_129 (s0 : Int32) (M : FM) (T : Ty M) : gd (FX18_read_129 s0 M) (GX18_read_129 s0 M) (OkR M) := by
  delta FX18_read_129 BX18_read_129
  exact ⟨rfl, ⟨T.1, T.2⟩, (ext_r _)⟩
noncomputable def GX18_read_115 (s0 : Int32) (M : FM) : Int32 × FM :=
  (s0, M)
theorem gX18_read_115 (s0 : Int32) (M : FM) (T : Ty M) : gd (FX18_read_115 s0 M) (GX18_read_115 s0 M) (OkR M) := by
  delta FX18_read_115 BX18_read_115
  exact ⟨rfl, ⟨T.1, T.2⟩, (ext_r _)⟩
noncomputable def GX18_read_87 (M : FM) : Int32 × FM :=
  ((Int32.ofInt 2), M)
theorem gX18_read_87 (M : FM) (T : Ty M) : gd (FX18_read_87 M) (GX18_read_87 M) (OkR M) := by
  delta FX18_read_87 BX18_read_87
  exact ⟨rfl, ⟨T.1, T.2⟩, (ext_r _)⟩
noncomputable def GX18_read_0 (a0 : Nat) (a1 : Int32) (M : FM) : Int32 × FM :=
  fi (a1 = (Int32.ofInt 0)) (
    ((Int32.ofInt 1953655158), M)) (
    fi (a1 = (Int32.ofInt 4)) (
      GX18_read_87 M) (
      fi (a1 = (Int32.ofInt 8)) (
        GX18_read_87 M) (
        fi (a1 = (Int32.ofInt 16)) (
          fi ((M.1 63 a0 0) = 0) (
            GX18_read_115 (Int32.ofInt 512) M) (
            fi ((M.1 63 a0 0) = (Int32.ofInt 1)) (
              GX18_read_115 (Int32.ofInt 1) M) (
              GX18_read_115 (Int32.ofInt 0) M))) (
          fi (a1 = (Int32.ofInt 52)) (
            fi ((M.1 64 a0 0) = 0) (
              GX18_read_129 (Int32.ofInt 16) M) (
              GX18_read_129 (Int32.ofInt 0) M)) (
            fi (a1 = (Int32.ofInt 68)) (
              fi ((M.1 64 a0 0) = 0) (
                let x1 : Nat := (M.2.2 60 a0 0)
                fi ((M.1 72 x1 0) = 0) (
                  GX18_read_151 M) (
                  GX18_read_152 (Int32.ofInt 1) M)) (
                GX18_read_151 M)) (
              fi (a1 = (Int32.ofInt 96)) (
                ((M.1 66 a0 0), M)) (
                fi (a1 = (Int32.ofInt 112)) (
                  ((M.1 65 a0 0), M)) (
                  fi (a1 = (Int32.ofInt 256)) (
                    let x2 : Nat := (M.2.2 59 a0 0)
                    ((M.1 68 x2 0), M)) (
                    ((Int32.ofInt 0), M))))))))))
theorem gX18_read_0 (a0 : Nat) (a1 : Int32) (M : FM) (T : Ty M) (n_a0 : fm_is M 22 22 a0 = true) : gd (FX18_read_0 a0 a1 M) (GX18_read_0 a0 a1 M) (OkR M) := by
  delta FX18_read_0 BX18_read_0
  refine gd_fi (fun c0_0 => ?_) (fun c0_0 => ?_)
  · exact ⟨rfl, ⟨T.1, T.2⟩, (ext_r _)⟩
  · refine gd_fi (fun c1_1 => ?_) (fun c1_1 => ?_)
    · exact gd_tR (ext_r _) (gX18_read_87  _ ⟨T.1, T.2⟩  )
    · refine gd_fi (fun c2_2 => ?_) (fun c2_2 => ?_)
      · exact gd_tR (ext_r _) (gX18_read_87  _ ⟨T.1, T.2⟩  )
      · refine gd_fi (fun c3_3 => ?_) (fun c3_3 => ?_)
        · refine gd_c n_a0 ?_
          refine gd_fi (fun c4_0 => ?_) (fun c4_0 => ?_)
          · exact gd_tR (ext_r _) (gX18_read_115 _ _ ⟨T.1, T.2⟩  )
          · refine gd_c n_a0 ?_
            refine gd_fi (fun c5_0 => ?_) (fun c5_0 => ?_)
            · exact gd_tR (ext_r _) (gX18_read_115 _ _ ⟨T.1, T.2⟩  )
            · exact gd_tR (ext_r _) (gX18_read_115 _ _ ⟨T.1, T.2⟩  )
        · refine gd_fi (fun c6_4 => ?_) (fun c6_4 => ?_)
          · refine gd_c n_a0 ?_
            refine gd_fi (fun c7_0 => ?_) (fun c7_0 => ?_)
            · exact gd_tR (ext_r _) (gX18_read_129 _ _ ⟨T.1, T.2⟩  )
            · exact gd_tR (ext_r _) (gX18_read_129 _ _ ⟨T.1, T.2⟩  )
          · refine gd_fi (fun c8_5 => ?_) (fun c8_5 => ?_)
            · refine gd_c n_a0 ?_
              refine gd_fi (fun c9_0 => ?_) (fun c9_0 => ?_)
              · refine gd_c n_a0 ?_
                have f10 := (tN_60 T.1 n_a0)
                refine gd_c f10 ?_
                refine gd_fi (fun c11_0 => ?_) (fun c11_0 => ?_)
                · exact gd_tR (ext_r _) (gX18_read_151  _ ⟨T.1, T.2⟩  )
                · exact gd_tR (ext_r _) (gX18_read_152 _ _ ⟨T.1, T.2⟩  )
              · exact gd_tR (ext_r _) (gX18_read_151  _ ⟨T.1, T.2⟩  )
            · refine gd_fi (fun c12_6 => ?_) (fun c12_6 => ?_)
              · refine gd_c n_a0 ?_
                exact ⟨rfl, ⟨T.1, T.2⟩, (ext_r _)⟩
              · refine gd_fi (fun c13_7 => ?_) (fun c13_7 => ?_)
                · refine gd_c n_a0 ?_
                  exact ⟨rfl, ⟨T.1, T.2⟩, (ext_r _)⟩
                · refine gd_fi (fun c14_8 => ?_) (fun c14_8 => ?_)
                  · refine gd_c n_a0 ?_
                    have f15 := (tN_59 T.1 n_a0)
                    refine gd_c f15 ?_
                    exact ⟨rfl, ⟨T.1, T.2⟩, (ext_r _)⟩
                  · exact ⟨rfl, ⟨T.1, T.2⟩, (ext_r _)⟩
noncomputable def GX18_read (a0 : Nat) (a1 : Int32) (M : FM) : Int32 × FM := GX18_read_0 a0 a1 M
theorem gX18_read (a0 : Nat) (a1 : Int32) (M : FM) (T : Ty M) (n_a0 : fm_is M 22 22 a0 = true) : gd (FX18_read a0 a1 M) (GX18_read a0 a1 M) (OkR M) := gX18_read_0 a0 a1 M T n_a0 
noncomputable def GX10_read_112 (s0 : Int64) (M : FM) : Int64 × FM :=
  (s0, M)
theorem gX10_read_112 (s0 : Int64) (M : FM) (T : Ty M) : gd (FX10_read_112 fN s0 M) (GX10_read_112 s0 M) (OkR M) := by
  delta FX10_read_112 BX10_read_112
  exact ⟨rfl, ⟨T.1, T.2⟩, (ext_r _)⟩
noncomputable def GX10_read_0 (a0 : Nat) (a1 : Nat) (a2 : Int64) (a4 : Int32) (M : FM) : Int64 × FM :=
  let x1 : Int64 := (a2 - (M.2.1 13 a1 0))
  let r2 : Int32 × FM := GJ0_ordinal a1 M
  fi (r2.1 = (Int32.ofInt 1)) (
    let x3 : Nat := (r2.2.2.2 19 a0 0)
    let r4 : Int64 × FM := GX30_read x3 (Int32.ofInt 0) x1 a4 r2.2
    (r4.1, r4.2)) (
    fi (r2.1 = (Int32.ofInt 2)) (
      let x5 : Nat := (r2.2.2.2 19 a0 0)
      let r6 : Int64 × FM := GX30_read x5 (Int32.ofInt 1) x1 a4 r2.2
      (r6.1, r6.2)) (
      fi (r2.1 = (Int32.ofInt 3)) (
        let x7 : Nat := (r2.2.2.2 19 a0 0)
        let r8 : Int64 × FM := GX30_read x7 (Int32.ofInt 2) x1 a4 r2.2
        (r8.1, r8.2)) (
        fi (r2.1 = (Int32.ofInt 4)) (
          let r9 : Int32 × FM := GX10_isRegister x1 a4 r2.2
          fi (r9.1 = 0) (
            GX10_read_112 (Int64.ofInt 0) r9.2) (
            let x10 : Nat := (r9.2.2.2 20 a0 0)
            let r11 : Int32 × FM := GX18_read x10 x1.toInt32 r9.2
            GX10_read_112 (r11.1.toInt64 &&& (Int64.ofInt 4294967295)) r11.2)) (
          ((Int64.ofInt 0), r2.2)))))
def HX10_read_0 (a0 : Nat) (a1 : Nat) (a2 : Int64) (a4 : Int32) (M : FM) : Prop := let x1 : Int64 := (a2 - (M.2.1 13 a1 0)); let r2 : Int32 × FM := GJ0_ordinal a1 M; ((r2.1 = (Int32.ofInt 1) → let x3 : Nat := (r2.2.2.2 19 a0 0); (HX30_read x3 (Int32.ofInt 0) x1 a4 r2.2 ∧ True)) ∧ (¬ (r2.1 = (Int32.ofInt 1)) → ((r2.1 = (Int32.ofInt 2) → let x5 : Nat := (r2.2.2.2 19 a0 0); (HX30_read x5 (Int32.ofInt 1) x1 a4 r2.2 ∧ True)) ∧ (¬ (r2.1 = (Int32.ofInt 2)) → ((r2.1 = (Int32.ofInt 3) → let x7 : Nat := (r2.2.2.2 19 a0 0); (HX30_read x7 (Int32.ofInt 2) x1 a4 r2.2 ∧ True)) ∧ (¬ (r2.1 = (Int32.ofInt 3)) → True))))))
theorem gX10_read_0 (a0 : Nat) (a1 : Nat) (a2 : Int64) (a4 : Int32) (M : FM) (T : Ty M) (n_a1 : fm_is M 6 6 a1 = true) (n_a0 : fm_is M 11 11 a0 = true) (h : HX10_read_0 a0 a1 a2 a4 M) : gd (FX10_read_0 fN a0 a1 a2 a4 M) (GX10_read_0 a0 a1 a2 a4 M) (OkR M) := by
  delta FX10_read_0 BX10_read_0
  refine gd_c n_a1 ?_
  refine gd_c n_a1 ?_
  have f23 := (fm_w (lo' := 1) (hi' := 6) rfl rfl n_a1)
  refine gd_b (gJ0_ordinal _ _ ⟨T.1, T.2⟩ f23 ) (fun K0 => ?_)
  refine gd_fi (fun c1_0 => ?_) (fun c1_0 => ?_)
  · have f2 := (ext_is K0.2 (Nat.zero_lt_succ _) n_a0)
    refine gd_c f2 ?_
    have f3 := (tN_19 K0.1.1 (ext_is K0.2 (Nat.zero_lt_succ _) n_a0))
    refine gd_c f3 ?_
    have f5 := (tN_19 K0.1.1 (ext_is K0.2 (Nat.zero_lt_succ _) n_a0))
    refine gd_b (gX30_read _ _ _ _ _ ⟨K0.1.1, K0.1.2⟩ f5 (h.1 c1_0).1) (fun K4 => ?_)
    exact ⟨rfl, ⟨K4.1.1, K4.1.2⟩, (ext_tr K0.2 K4.2)⟩
  · refine gd_fi (fun c6_1 => ?_) (fun c6_1 => ?_)
    · have f7 := (ext_is K0.2 (Nat.zero_lt_succ _) n_a0)
      refine gd_c f7 ?_
      have f8 := (tN_19 K0.1.1 (ext_is K0.2 (Nat.zero_lt_succ _) n_a0))
      refine gd_c f8 ?_
      have f10 := (tN_19 K0.1.1 (ext_is K0.2 (Nat.zero_lt_succ _) n_a0))
      refine gd_b (gX30_read _ _ _ _ _ ⟨K0.1.1, K0.1.2⟩ f10 ((h.2 c1_0).1 c6_1).1) (fun K9 => ?_)
      exact ⟨rfl, ⟨K9.1.1, K9.1.2⟩, (ext_tr K0.2 K9.2)⟩
    · refine gd_fi (fun c11_2 => ?_) (fun c11_2 => ?_)
      · have f12 := (ext_is K0.2 (Nat.zero_lt_succ _) n_a0)
        refine gd_c f12 ?_
        have f13 := (tN_19 K0.1.1 (ext_is K0.2 (Nat.zero_lt_succ _) n_a0))
        refine gd_c f13 ?_
        have f15 := (tN_19 K0.1.1 (ext_is K0.2 (Nat.zero_lt_succ _) n_a0))
        refine gd_b (gX30_read _ _ _ _ _ ⟨K0.1.1, K0.1.2⟩ f15 (((h.2 c1_0).2 c6_1).1 c11_2).1) (fun K14 => ?_)
        exact ⟨rfl, ⟨K14.1.1, K14.1.2⟩, (ext_tr K0.2 K14.2)⟩
      · refine gd_fi (fun c16_3 => ?_) (fun c16_3 => ?_)
        · refine gd_b (gX10_isRegister _ _ _ ⟨K0.1.1, K0.1.2⟩  ) (fun K17 => ?_)
          refine gd_fi (fun c18_0 => ?_) (fun c18_0 => ?_)
          · exact gd_tR (ext_tr K0.2 K17.2.1) (gX10_read_112 _ _ ⟨K17.1.1, K17.1.2⟩  )
          · have f19 := (ext_is K17.2.1 (Nat.zero_lt_succ _) (ext_is K0.2 (Nat.zero_lt_succ _) n_a0))
            refine gd_c f19 ?_
            have f20 := (tN_20 K17.1.1 (ext_is K17.2.1 (Nat.zero_lt_succ _) (ext_is K0.2 (Nat.zero_lt_succ _) n_a0)))
            refine gd_c f20 ?_
            have f22 := (tN_20 K17.1.1 (ext_is K17.2.1 (Nat.zero_lt_succ _) (ext_is K0.2 (Nat.zero_lt_succ _) n_a0)))
            refine gd_b (gX18_read _ _ _ ⟨K17.1.1, K17.1.2⟩ f22 ) (fun K21 => ?_)
            exact gd_tR (ext_tr K0.2 (ext_tr K17.2.1 K21.2)) (gX10_read_112 _ _ ⟨K21.1.1, K21.1.2⟩  )
        · exact ⟨rfl, ⟨K0.1.1, K0.1.2⟩, K0.2⟩
noncomputable def GX10_read (a0 : Nat) (a1 : Nat) (a2 : Int64) (a4 : Int32) (M : FM) : Int64 × FM := GX10_read_0 a0 a1 a2 a4 M
def HX10_read (a0 : Nat) (a1 : Nat) (a2 : Int64) (a4 : Int32) (M : FM) : Prop := HX10_read_0 a0 a1 a2 a4 M
theorem gX10_read (a0 : Nat) (a1 : Nat) (a2 : Int64) (a4 : Int32) (M : FM) (T : Ty M) (n_a1 : fm_is M 6 6 a1 = true) (n_a0 : fm_is M 11 11 a0 = true) (h : HX10_read a0 a1 a2 a4 M) : gd (FX10_read fN a0 a1 a2 a4 M) (GX10_read a0 a1 a2 a4 M) (OkR M) := gX10_read_0 a0 a1 a2 a4 M T n_a1 n_a0 h
def kX73_load (k61 : Nat → Nat → Int64 → Int32 → FM → Option (Int64 × FM)) : (Nat × Nat × Int64 × Int32 × FM) ⊕ (Int64 × FM) → Option (Int64 × FM)
  | .inl (v0, v1, v2, v3, M') => k61 v0 v1 v2 v3 M'
  | .inr (r) => some r
def pX73_load (M : FM) : (Nat × Nat × Int64 × Int32 × FM) ⊕ (Int64 × FM) → Prop
  | .inl (_, _, _, _, M') => OkV M M'
  | .inr (r) => OkR M r
theorem pX73_load_t {M M1 : FM} (e : Ext M M1) : ∀ y, pX73_load M1 y → pX73_load M y
  | .inl (_, _, _, _, _), h => ⟨h.1, ext_tr e h.2⟩
  | .inr (r), h => ⟨h.1, ext_tr e h.2⟩
noncomputable def GX73_load_0 (a0 : Nat) (a1 : Nat) (M : FM) : (Nat × Nat × Int64 × Int32 × FM) ⊕ (Int64 × FM) :=
  fi ((M.2.2 124 a0 0) = 0) (
    fi ((M.1 123 a0 0) = 0) (
      let x1 : Int32 := ((M.1 122 a0 0) - (Int32.ofInt 1))
      (.inl (a0, a1, (Int64.ofInt 0), x1, M))) (
      let x2 : Nat := (M.2.2 121 a0 0)
      let x3 : Nat := (M.2.2 18 a1 0)
      let r4 : Int64 × FM := GX11_load x3 (M.2.1 3 x2 (Int32.ofInt 0).toNatClampNeg) (M.1 122 a0 0) M
      (.inr (r4.1, r4.2)))) (
    let x5 : Nat := (M.2.2 121 a0 0)
    let r6 : Int64 × FM := GX10_read a1 (M.2.2 124 a0 0) (M.2.1 3 x5 (Int32.ofInt 0).toNatClampNeg) (M.1 122 a0 0) M
    (.inr (r6.1, r6.2)))
def HX73_load_0 (a0 : Nat) (a1 : Nat) (M : FM) : Prop := (((M.2.2 124 a0 0) = 0 → (((M.1 123 a0 0) = 0 → True) ∧ (¬ ((M.1 123 a0 0) = 0) → let x2 : Nat := (M.2.2 121 a0 0); let x3 : Nat := (M.2.2 18 a1 0); (HX11_load x3 (M.2.1 3 x2 (Int32.ofInt 0).toNatClampNeg) (M.1 122 a0 0) M ∧ True)))) ∧ (¬ ((M.2.2 124 a0 0) = 0) → let x5 : Nat := (M.2.2 121 a0 0); (HX10_read a1 (M.2.2 124 a0 0) (M.2.1 3 x5 (Int32.ofInt 0).toNatClampNeg) (M.1 122 a0 0) M ∧ True)))
theorem gX73_load_0 (k61 : Nat → Nat → Int64 → Int32 → FM → Option (Int64 × FM)) (a0 : Nat) (a1 : Nat) (M : FM) (T : Ty M) (n_a0 : fm_is M 41 41 a0 = true) (n_a1 : fm_is M 11 11 a1 = true) (h : HX73_load_0 a0 a1 M) : gs (FX73_load_0 fN k61 a0 a1 M) (GX73_load_0 a0 a1 M) (kX73_load k61) (pX73_load M) := by
  delta FX73_load_0 BX73_load_0
  refine gs_c n_a0 ?_
  refine gs_fi (fun c0_0 => ?_) (fun c0_0 => ?_)
  · refine gs_c n_a0 ?_
    refine gs_fi (fun c1_0 => ?_) (fun c1_0 => ?_)
    · refine gs_c n_a0 ?_
      exact And.intro rfl (And.intro (And.intro T.1 T.2) ((ext_r _)))
    · refine gs_c n_a1 ?_
      refine gs_c n_a0 ?_
      have f5 := (tN_121 T.1 n_a0)
      have f6 := (fm_inl (i := (Int32.ofInt 0)) (tL_121 T.1 n_a0) (by decide))
      refine gs_c ⟨f5, f6⟩ ?_
      refine gs_c n_a0 ?_
      have f2 := (tN_18 T.1 n_a1)
      refine gs_c f2 ?_
      have f4 := (tN_18 T.1 n_a1)
      refine gs_b (gX11_load _ _ _ _ ⟨T.1, T.2⟩ f4 ((h.1 c0_0).2 c1_0).1) (fun K3 => ?_)
      exact And.intro rfl (And.intro (And.intro K3.1.1 K3.1.2) K3.2)
  · refine gs_c n_a0 ?_
    refine gs_c n_a0 ?_
    have f9 := (tN_121 T.1 n_a0)
    have f10 := (fm_inl (i := (Int32.ofInt 0)) (tL_121 T.1 n_a0) (by decide))
    refine gs_c ⟨f9, f10⟩ ?_
    refine gs_c n_a0 ?_
    refine gs_c n_a1 ?_
    have f8 := ((tZ_124 T.1 n_a0) c0_0)
    refine gs_b (gX10_read _ _ _ _ _ ⟨T.1, T.2⟩ f8 n_a1 (h.2 c0_0).1) (fun K7 => ?_)
    exact And.intro rfl (And.intro (And.intro K7.1.1 K7.1.2) K7.2)
noncomputable def GX73_load_61 (a0 : Nat) (a1 : Nat) (a2 : Int64) (a4 : Int32) (M : FM) : (Nat × Nat × Int64 × Int32 × FM) ⊕ (Int64 × FM) :=
  fi (a4 < 0) (
    (.inr (a2, M))) (
    let x1 : Nat := (M.2.2 121 a0 0)
    let x2 : Nat := (M.2.2 18 a1 0)
    let r3 : Int64 × FM := GX11_load x2 (M.2.1 3 x1 a4.toNatClampNeg) (Int32.ofInt 1) M
    let x4 : Int64 := ((a2 <<< ((Int32.ofInt 8).toInt64 &&& 63)) ||| r3.1)
    let x5 : Int32 := a4 + (Int32.ofInt (-1))
    (.inl (a0, a1, x4, x5, r3.2)))
def HX73_load_61 (a0 : Nat) (a1 : Nat) (a2 : Int64) (a4 : Int32) (M : FM) : Prop := ((a4 < 0 → True) ∧ (¬ (a4 < 0) → let x1 : Nat := (M.2.2 121 a0 0); (fm_in M x1 a4 = true ∧ let x2 : Nat := (M.2.2 18 a1 0); (HX11_load x2 (M.2.1 3 x1 a4.toNatClampNeg) (Int32.ofInt 1) M ∧ True))))
theorem gX73_load_61 (k61 : Nat → Nat → Int64 → Int32 → FM → Option (Int64 × FM)) (a0 : Nat) (a1 : Nat) (a2 : Int64) (a4 : Int32) (M : FM) (T : Ty M) (n_a1 : fm_is M 11 11 a1 = true) (n_a0 : fm_is M 41 41 a0 = true) (h : HX73_load_61 a0 a1 a2 a4 M) : gs (FX73_load_61 fN k61 a0 a1 a2 a4 M) (GX73_load_61 a0 a1 a2 a4 M) (kX73_load k61) (pX73_load M) := by
  delta FX73_load_61 BX73_load_61
  refine gs_fi (fun c0_0 => ?_) (fun c0_0 => ?_)
  · exact And.intro rfl (And.intro (And.intro T.1 T.2) ((ext_r _)))
  · refine gs_c n_a1 ?_
    refine gs_c n_a0 ?_
    have f4 := (tN_121 T.1 n_a0)
    refine gs_c ⟨f4, (h.2 c0_0).1⟩ ?_
    have f1 := (tN_18 T.1 n_a1)
    refine gs_c f1 ?_
    have f3 := (tN_18 T.1 n_a1)
    refine gs_b (gX11_load _ _ _ _ ⟨T.1, T.2⟩ f3 (h.2 c0_0).2.1) (fun K2 => ?_)
    exact And.intro rfl (And.intro (And.intro K2.1.1 K2.1.2) K2.2)
noncomputable def GX73_load (a0 : Nat) (a1 : Nat) (M : FM) : Int64 × FM := (FX73_load fN a0 a1 M).getD (0, M)
def HX73_load (a0 : Nat) (a1 : Nat) (M : FM) : Prop := ∃ r, FX73_load fN a0 a1 M = some r ∧ OkR M r
theorem gX73_load (a0 : Nat) (a1 : Nat) (M : FM) (h : HX73_load a0 a1 M) : gd (FX73_load fN a0 a1 M) (GX73_load a0 a1 M) (OkR M) := gd_op h
noncomputable def GX57_finish_74 (s0 : Nat) (s1 : Int32) (s2 : Int64) (M : FM) : FM :=
  let M1 : FM := GX48_set s0 s1 s2 M
  M1
def HX57_finish_74 (s0 : Nat) (s1 : Int32) (s2 : Int64) (M : FM) : Prop := (HX48_set s0 s1 s2 M ∧ True)
theorem gX57_finish_74 (s0 : Nat) (s1 : Int32) (s2 : Int64) (M : FM) (T : Ty M) (n_s0 : fm_is M 64 64 s0 = true) (h : HX57_finish_74 s0 s1 s2 M) : gd (FX57_finish_74 s0 s1 s2 M) (GX57_finish_74 s0 s1 s2 M) (OkV M) := by
  delta FX57_finish_74 BX57_finish_74
  refine gd_c n_s0 ?_
  refine gd_b (gX48_set _ _ _ _ ⟨T.1, T.2⟩ n_s0 h.1) (fun K0 => ?_)
  exact ⟨rfl, ⟨K0.1.1, K0.1.2⟩, K0.2⟩
noncomputable def GX57_finish_33 (a1 : Nat) (a2 : Nat) (a3 : Int64) (a5 : Int32) (s0 : Int32) (M : FM) : FM :=
  fi ((M.1 158 a2 0) = (Int32.ofInt 5)) (
    GX57_finish_74 a1 (M.1 151 a2 0) a3 M) (
    fi (s0 = 0) (
      GX57_finish_74 a1 (M.1 151 a2 0) ((a3 <<< (a5.toInt64 &&& 63)) >>> (a5.toInt64 &&& 63)) M) (
      GX57_finish_74 a1 (M.1 151 a2 0) (((a3 <<< (a5.toInt64 &&& 63)).toUInt64 >>> (a5.toInt64.toUInt64 &&& Int64.toUInt64 63)).toInt64) M))
def HX57_finish_33 (a1 : Nat) (a2 : Nat) (a3 : Int64) (a5 : Int32) (s0 : Int32) (M : FM) : Prop := (((M.1 158 a2 0) = (Int32.ofInt 5) → HX57_finish_74 a1 (M.1 151 a2 0) a3 M) ∧ (¬ ((M.1 158 a2 0) = (Int32.ofInt 5)) → ((s0 = 0 → HX57_finish_74 a1 (M.1 151 a2 0) ((a3 <<< (a5.toInt64 &&& 63)) >>> (a5.toInt64 &&& 63)) M) ∧ (¬ (s0 = 0) → HX57_finish_74 a1 (M.1 151 a2 0) (((a3 <<< (a5.toInt64 &&& 63)).toUInt64 >>> (a5.toInt64.toUInt64 &&& Int64.toUInt64 63)).toInt64) M))))
theorem gX57_finish_33 (a1 : Nat) (a2 : Nat) (a3 : Int64) (a5 : Int32) (s0 : Int32) (M : FM) (T : Ty M) (n_a2 : fm_is M 61 61 a2 = true) (n_a1 : fm_is M 64 64 a1 = true) (h : HX57_finish_33 a1 a2 a3 a5 s0 M) : gd (FX57_finish_33 a1 a2 a3 a5 s0 M) (GX57_finish_33 a1 a2 a3 a5 s0 M) (OkV M) := by
  delta FX57_finish_33 BX57_finish_33
  refine gd_c n_a2 ?_
  refine gd_c n_a2 ?_
  refine gd_fi (fun c0_0 => ?_) (fun c0_0 => ?_)
  · exact gd_tV (ext_r _) (gX57_finish_74 _ _ _ _ ⟨T.1, T.2⟩ n_a1 (h.1 c0_0))
  · refine gd_fi (fun c1_0 => ?_) (fun c1_0 => ?_)
    · exact gd_tV (ext_r _) (gX57_finish_74 _ _ _ _ ⟨T.1, T.2⟩ n_a1 ((h.2 c0_0).1 c1_0))
    · exact gd_tV (ext_r _) (gX57_finish_74 _ _ _ _ ⟨T.1, T.2⟩ n_a1 ((h.2 c0_0).2 c1_0))
noncomputable def GX57_finish_32 (a1 : Nat) (a2 : Nat) (a3 : Int64) (a5 : Int32) (M : FM) : FM :=
  GX57_finish_33 a1 a2 a3 a5 (Int32.ofInt 0) M
def HX57_finish_32 (a1 : Nat) (a2 : Nat) (a3 : Int64) (a5 : Int32) (M : FM) : Prop := HX57_finish_33 a1 a2 a3 a5 (Int32.ofInt 0) M
theorem gX57_finish_32 (a1 : Nat) (a2 : Nat) (a3 : Int64) (a5 : Int32) (M : FM) (T : Ty M) (n_a2 : fm_is M 61 61 a2 = true) (n_a1 : fm_is M 64 64 a1 = true) (h : HX57_finish_32 a1 a2 a3 a5 M) : gd (FX57_finish_32 a1 a2 a3 a5 M) (GX57_finish_32 a1 a2 a3 a5 M) (OkV M) := by
  delta FX57_finish_32 BX57_finish_32
  exact gd_tV (ext_r _) (gX57_finish_33 _ _ _ _ _ _ ⟨T.1, T.2⟩ n_a2 n_a1 h)
noncomputable def GX57_finish_0 (a0 : Nat) (a1 : Nat) (a2 : Nat) (a3 : Int64) (M : FM) : FM :=
  let x1 : Int32 := ((Int32.ofInt 64) - ((Int32.ofInt 8) * (M.1 159 a2 0)))
  fi ((M.1 158 a2 0) = (Int32.ofInt 2)) (
    fi ((M.1 160 a2 0) = (Int32.ofInt 1)) (
      GX57_finish_33 a1 a2 a3 x1 (Int32.ofInt 1) M) (
      GX57_finish_32 a1 a2 a3 x1 M)) (
    GX57_finish_32 a1 a2 a3 x1 M)
def HX57_finish_0 (a0 : Nat) (a1 : Nat) (a2 : Nat) (a3 : Int64) (M : FM) : Prop := let x1 : Int32 := ((Int32.ofInt 64) - ((Int32.ofInt 8) * (M.1 159 a2 0))); (((M.1 158 a2 0) = (Int32.ofInt 2) → (((M.1 160 a2 0) = (Int32.ofInt 1) → HX57_finish_33 a1 a2 a3 x1 (Int32.ofInt 1) M) ∧ (¬ ((M.1 160 a2 0) = (Int32.ofInt 1)) → HX57_finish_32 a1 a2 a3 x1 M))) ∧ (¬ ((M.1 158 a2 0) = (Int32.ofInt 2)) → HX57_finish_32 a1 a2 a3 x1 M))
theorem gX57_finish_0 (a0 : Nat) (a1 : Nat) (a2 : Nat) (a3 : Int64) (M : FM) (T : Ty M) (n_a2 : fm_is M 61 61 a2 = true) (n_a1 : fm_is M 64 64 a1 = true) (h : HX57_finish_0 a0 a1 a2 a3 M) : gd (FX57_finish_0 a0 a1 a2 a3 M) (GX57_finish_0 a0 a1 a2 a3 M) (OkV M) := by
  delta FX57_finish_0 BX57_finish_0
  refine gd_c n_a2 ?_
  refine gd_c n_a2 ?_
  refine gd_fi (fun c0_0 => ?_) (fun c0_0 => ?_)
  · refine gd_c n_a2 ?_
    refine gd_fi (fun c1_0 => ?_) (fun c1_0 => ?_)
    · exact gd_tV (ext_r _) (gX57_finish_33 _ _ _ _ _ _ ⟨T.1, T.2⟩ n_a2 n_a1 ((h.1 c0_0).1 c1_0))
    · exact gd_tV (ext_r _) (gX57_finish_32 _ _ _ _ _ ⟨T.1, T.2⟩ n_a2 n_a1 ((h.1 c0_0).2 c1_0))
  · exact gd_tV (ext_r _) (gX57_finish_32 _ _ _ _ _ ⟨T.1, T.2⟩ n_a2 n_a1 (h.2 c0_0))
noncomputable def GX57_finish (a0 : Nat) (a1 : Nat) (a2 : Nat) (a3 : Int64) (M : FM) : FM := GX57_finish_0 a0 a1 a2 a3 M
def HX57_finish (a0 : Nat) (a1 : Nat) (a2 : Nat) (a3 : Int64) (M : FM) : Prop := HX57_finish_0 a0 a1 a2 a3 M
theorem gX57_finish (a0 : Nat) (a1 : Nat) (a2 : Nat) (a3 : Int64) (M : FM) (T : Ty M) (n_a2 : fm_is M 61 61 a2 = true) (n_a1 : fm_is M 64 64 a1 = true) (h : HX57_finish a0 a1 a2 a3 M) : gd (FX57_finish a0 a1 a2 a3 M) (GX57_finish a0 a1 a2 a3 M) (OkV M) := gX57_finish_0 a0 a1 a2 a3 M T n_a2 n_a1 h
noncomputable def GX50_finish_0 (a0 : Nat) (a1 : Nat) (a2 : Nat) (a3 : Int64) (M : FM) : FM :=
  let M1 : FM := GX48_set a1 (M.1 151 a2 0) a3 M
  M1
def HX50_finish_0 (a0 : Nat) (a1 : Nat) (a2 : Nat) (a3 : Int64) (M : FM) : Prop := (HX48_set a1 (M.1 151 a2 0) a3 M ∧ True)
theorem gX50_finish_0 (a0 : Nat) (a1 : Nat) (a2 : Nat) (a3 : Int64) (M : FM) (T : Ty M) (n_a2 : fm_is M 61 61 a2 = true) (n_a1 : fm_is M 64 64 a1 = true) (h : HX50_finish_0 a0 a1 a2 a3 M) : gd (FX50_finish_0 a0 a1 a2 a3 M) (GX50_finish_0 a0 a1 a2 a3 M) (OkV M) := by
  delta FX50_finish_0 BX50_finish_0
  refine gd_c n_a2 ?_
  refine gd_c n_a1 ?_
  refine gd_b (gX48_set _ _ _ _ ⟨T.1, T.2⟩ n_a1 h.1) (fun K0 => ?_)
  exact ⟨rfl, ⟨K0.1.1, K0.1.2⟩, K0.2⟩
noncomputable def GX50_finish (a0 : Nat) (a1 : Nat) (a2 : Nat) (a3 : Int64) (M : FM) : FM := GX50_finish_0 a0 a1 a2 a3 M
def HX50_finish (a0 : Nat) (a1 : Nat) (a2 : Nat) (a3 : Int64) (M : FM) : Prop := HX50_finish_0 a0 a1 a2 a3 M
theorem gX50_finish (a0 : Nat) (a1 : Nat) (a2 : Nat) (a3 : Int64) (M : FM) (T : Ty M) (n_a2 : fm_is M 61 61 a2 = true) (n_a1 : fm_is M 64 64 a1 = true) (h : HX50_finish a0 a1 a2 a3 M) : gd (FX50_finish a0 a1 a2 a3 M) (GX50_finish a0 a1 a2 a3 M) (OkV M) := gX50_finish_0 a0 a1 a2 a3 M T n_a2 n_a1 h
noncomputable def GX47_finish_25 (a0 : Nat) (a4 : Nat) (M : FM) : Int32 × FM :=
  let x1 : Nat := (M.2.2 171 a0 0)
  let M2 : FM := fm_sL M 179 x1 0 ((M.2.1 179 x1 0) + (M.1 176 a0 0).toInt64)
  let M3 : FM := fm_sR M2 174 a0 0 0
  let M4 : FM := fm_sL M3 177 a0 0 ((M3.2.1 177 a0 0) + (Int64.ofInt 1))
  ((M4.1 158 a4 0), M4)
theorem gX47_finish_25 (a0 : Nat) (a4 : Nat) (M : FM) (T : Ty M) (n_a0 : fm_is M 63 63 a0 = true) (n_a4 : fm_is M 61 61 a4 = true) : gd (FX47_finish_25 a0 a4 M) (GX47_finish_25 a0 a4 M) (OkR M) := by
  delta FX47_finish_25 BX47_finish_25
  refine gd_c n_a0 ?_
  have f0 := (tN_171 T.1 n_a0)
  refine gd_c f0 ?_
  refine gd_c n_a0 ?_
  have f1 := (tN_171 T.1 n_a0)
  refine gd_c f1 ?_
  refine gd_c n_a0 ?_
  have TR2 : TyR (fm_sR (fm_sL M 179 ((M.2.2 171 a0 0)) 0 ((M.2.1 179 ((M.2.2 171 a0 0)) 0) + (M.1 176 a0 0).toInt64)) 174 a0 0 0).2.2 := (tS_174 T.1 (fun h => absurd rfl h))
  have BR2 : TyB (fm_sR (fm_sL M 179 ((M.2.2 171 a0 0)) 0 ((M.2.1 179 ((M.2.2 171 a0 0)) 0) + (M.1 176 a0 0).toInt64)) 174 a0 0 0) := (tyb_sR (f := 174) (by decide) T.2)
  refine gd_c n_a0 ?_
  refine gd_c n_a0 ?_
  refine gd_c n_a4 ?_
  exact ⟨rfl, ⟨TR2, BR2⟩, (ext_dL (ext_dR (by decide) (ext_dL (ext_r _))))⟩
noncomputable def GX47_finish_0 (a0 : Nat) (a1 : Int32) (a2 : Int64) (M : FM) : Int32 × FM :=
  let x1 : Nat := (M.2.2 174 a0 0)
  fi (a1 = 0) (
    GX47_finish_25 a0 x1 M) (
    let x2 : Nat := (M.2.2 149 x1 0)
    let M3 : FM := (fi (fm_is M 53 53 x2 = true) (GX57_finish x2 (M.2.2 171 a0 0) x1 a2 M) ((fi (fm_is M 54 54 x2 = true) (GX50_finish x2 (M.2.2 171 a0 0) x1 a2 M) ((fi (fm_is M 55 55 x2 = true) (GX50_finish x2 (M.2.2 171 a0 0) x1 a2 M) ((fi (fm_is M 56 56 x2 = true) (GX50_finish x2 (M.2.2 171 a0 0) x1 a2 M) ((fi (fm_is M 57 57 x2 = true) (GX50_finish x2 (M.2.2 171 a0 0) x1 a2 M) ((fi (fm_is M 58 58 x2 = true) (GX50_finish x2 (M.2.2 171 a0 0) x1 a2 M) ((fi (fm_is M 59 59 x2 = true) (GX50_finish x2 (M.2.2 171 a0 0) x1 a2 M) (GX50_finish x2 (M.2.2 171 a0 0) x1 a2 M))))))))))))))
    GX47_finish_25 a0 x1 M3)
def HX47_finish_0 (a0 : Nat) (a1 : Int32) (a2 : Int64) (M : FM) : Prop := let x1 : Nat := (M.2.2 174 a0 0); ((a1 = 0 → (fm_is M 61 61 x1 = true ∧ True)) ∧ (¬ (a1 = 0) → (fm_is M 61 61 x1 = true ∧ let x2 : Nat := (M.2.2 149 x1 0); (((fm_is M 53 53 x2 = true → (fm_is M 61 61 x1 = true ∧ HX57_finish x2 (M.2.2 171 a0 0) x1 a2 M)) ∧ (¬ (fm_is M 53 53 x2 = true) → ((fm_is M 54 54 x2 = true → (fm_is M 61 61 x1 = true ∧ HX50_finish x2 (M.2.2 171 a0 0) x1 a2 M)) ∧ (¬ (fm_is M 54 54 x2 = true) → ((fm_is M 55 55 x2 = true → (fm_is M 61 61 x1 = true ∧ HX50_finish x2 (M.2.2 171 a0 0) x1 a2 M)) ∧ (¬ (fm_is M 55 55 x2 = true) → ((fm_is M 56 56 x2 = true → (fm_is M 61 61 x1 = true ∧ HX50_finish x2 (M.2.2 171 a0 0) x1 a2 M)) ∧ (¬ (fm_is M 56 56 x2 = true) → ((fm_is M 57 57 x2 = true → (fm_is M 61 61 x1 = true ∧ HX50_finish x2 (M.2.2 171 a0 0) x1 a2 M)) ∧ (¬ (fm_is M 57 57 x2 = true) → ((fm_is M 58 58 x2 = true → (fm_is M 61 61 x1 = true ∧ HX50_finish x2 (M.2.2 171 a0 0) x1 a2 M)) ∧ (¬ (fm_is M 58 58 x2 = true) → ((fm_is M 59 59 x2 = true → (fm_is M 61 61 x1 = true ∧ HX50_finish x2 (M.2.2 171 a0 0) x1 a2 M)) ∧ (¬ (fm_is M 59 59 x2 = true) → (fm_is M 60 60 x2 = true ∧ (fm_is M 61 61 x1 = true ∧ HX50_finish x2 (M.2.2 171 a0 0) x1 a2 M)))))))))))))))) ∧ let M3 : FM := (fi (fm_is M 53 53 x2 = true) (GX57_finish x2 (M.2.2 171 a0 0) x1 a2 M) ((fi (fm_is M 54 54 x2 = true) (GX50_finish x2 (M.2.2 171 a0 0) x1 a2 M) ((fi (fm_is M 55 55 x2 = true) (GX50_finish x2 (M.2.2 171 a0 0) x1 a2 M) ((fi (fm_is M 56 56 x2 = true) (GX50_finish x2 (M.2.2 171 a0 0) x1 a2 M) ((fi (fm_is M 57 57 x2 = true) (GX50_finish x2 (M.2.2 171 a0 0) x1 a2 M) ((fi (fm_is M 58 58 x2 = true) (GX50_finish x2 (M.2.2 171 a0 0) x1 a2 M) ((fi (fm_is M 59 59 x2 = true) (GX50_finish x2 (M.2.2 171 a0 0) x1 a2 M) (GX50_finish x2 (M.2.2 171 a0 0) x1 a2 M)))))))))))))); (fm_is M3 61 61 x1 = true ∧ True)))))
theorem gX47_finish_0 (a0 : Nat) (a1 : Int32) (a2 : Int64) (M : FM) (T : Ty M) (n_a0 : fm_is M 63 63 a0 = true) (h : HX47_finish_0 a0 a1 a2 M) : gd (FX47_finish_0 a0 a1 a2 M) (GX47_finish_0 a0 a1 a2 M) (OkR M) := by
  delta FX47_finish_0 BX47_finish_0
  refine gd_c n_a0 ?_
  refine gd_fi (fun c0_0 => ?_) (fun c0_0 => ?_)
  · exact gd_tR (ext_r _) (gX47_finish_25 _ _ _ ⟨T.1, T.2⟩ n_a0 (h.1 c0_0).1 )
  · refine gd_c (h.2 c0_0).1 ?_
    refine gd_c n_a0 ?_
    have f2 := (tN_171 T.1 n_a0)
    have f4 := (tN_171 T.1 n_a0)
    have f6 := (tN_171 T.1 n_a0)
    have f8 := (tN_171 T.1 n_a0)
    have f10 := (tN_171 T.1 n_a0)
    have f12 := (tN_171 T.1 n_a0)
    have f14 := (tN_171 T.1 n_a0)
    have f15 := (tN_171 T.1 n_a0)
    refine gd_kb (gk_fi (gk_b _ _) (gk_fi (gk_b _ _) (gk_fi (gk_b _ _) (gk_fi (gk_b _ _) (gk_fi (gk_b _ _) (gk_fi (gk_b _ _) (gk_fi (gk_b _ _) (gk_fi (gk_b _ _) gk_0)))))))) (gd_fi (fun c1 => (gX57_finish _ _ _ _ _ ⟨T.1, T.2⟩ ((h.2 c0_0).2.1.1 c1).1 f2 ((h.2 c0_0).2.1.1 c1).2)) (fun c1 => (gd_fi (fun c3 => (gX50_finish _ _ _ _ _ ⟨T.1, T.2⟩ (((h.2 c0_0).2.1.2 c1).1 c3).1 f4 (((h.2 c0_0).2.1.2 c1).1 c3).2)) (fun c3 => (gd_fi (fun c5 => (gX50_finish _ _ _ _ _ ⟨T.1, T.2⟩ ((((h.2 c0_0).2.1.2 c1).2 c3).1 c5).1 f6 ((((h.2 c0_0).2.1.2 c1).2 c3).1 c5).2)) (fun c5 => (gd_fi (fun c7 => (gX50_finish _ _ _ _ _ ⟨T.1, T.2⟩ (((((h.2 c0_0).2.1.2 c1).2 c3).2 c5).1 c7).1 f8 (((((h.2 c0_0).2.1.2 c1).2 c3).2 c5).1 c7).2)) (fun c7 => (gd_fi (fun c9 => (gX50_finish _ _ _ _ _ ⟨T.1, T.2⟩ ((((((h.2 c0_0).2.1.2 c1).2 c3).2 c5).2 c7).1 c9).1 f10 ((((((h.2 c0_0).2.1.2 c1).2 c3).2 c5).2 c7).1 c9).2)) (fun c9 => (gd_fi (fun c11 => (gX50_finish _ _ _ _ _ ⟨T.1, T.2⟩ (((((((h.2 c0_0).2.1.2 c1).2 c3).2 c5).2 c7).2 c9).1 c11).1 f12 (((((((h.2 c0_0).2.1.2 c1).2 c3).2 c5).2 c7).2 c9).1 c11).2)) (fun c11 => (gd_fi (fun c13 => (gX50_finish _ _ _ _ _ ⟨T.1, T.2⟩ ((((((((h.2 c0_0).2.1.2 c1).2 c3).2 c5).2 c7).2 c9).2 c11).1 c13).1 f14 ((((((((h.2 c0_0).2.1.2 c1).2 c3).2 c5).2 c7).2 c9).2 c11).1 c13).2)) (fun c13 => (gd_c ((((((((h.2 c0_0).2.1.2 c1).2 c3).2 c5).2 c7).2 c9).2 c11).2 c13).1 (gX50_finish _ _ _ _ _ ⟨T.1, T.2⟩ ((((((((h.2 c0_0).2.1.2 c1).2 c3).2 c5).2 c7).2 c9).2 c11).2 c13).2.1 f15 ((((((((h.2 c0_0).2.1.2 c1).2 c3).2 c5).2 c7).2 c9).2 c11).2 c13).2.2)))))))))))))))) (fun K16 => ?_)
    have f17 := (ext_is K16.2 (Nat.zero_lt_succ _) n_a0)
    exact gd_tR K16.2 (gX47_finish_25 _ _ _ ⟨K16.1.1, K16.1.2⟩ f17 (h.2 c0_0).2.2.1 )
noncomputable def GX47_finish (a0 : Nat) (a1 : Int32) (a2 : Int64) (M : FM) : Int32 × FM := GX47_finish_0 a0 a1 a2 M
def HX47_finish (a0 : Nat) (a1 : Int32) (a2 : Int64) (M : FM) : Prop := HX47_finish_0 a0 a1 a2 M
theorem gX47_finish (a0 : Nat) (a1 : Int32) (a2 : Int64) (M : FM) (T : Ty M) (n_a0 : fm_is M 63 63 a0 = true) (h : HX47_finish a0 a1 a2 M) : gd (FX47_finish a0 a1 a2 M) (GX47_finish a0 a1 a2 M) (OkR M) := gX47_finish_0 a0 a1 a2 M T n_a0 h
noncomputable def GX46_load_0 (a0 : Nat) (M : FM) : Int32 × FM :=
  let x1 : Nat := (M.2.2 211 a0 0)
  let r2 : Int64 × FM := GX47_wanted x1 (Int32.ofInt 0) M
  let x3 : Nat := (r2.2.2.2 211 a0 0)
  let r4 : Int64 × FM := GX47_wanted x3 (Int32.ofInt 1) r2.2
  let r5 : Int32 × FM := GX46_locate a0 r2.1 (Int32.ofInt 1) r4.1.toInt32 r4.2
  fi (r5.1 = 0) (
    ((Int32.ofInt 0), r5.2)) (
    let x6 : Nat := (r5.2.2.2 217 a0 0)
    let r7 : Int64 × FM := GX73_load x6 (r5.2.2.2 210 a0 0) r5.2
    let x8 : Nat := (r5.2.2.2 211 a0 0)
    let r9 : Int32 × FM := GX47_finish x8 (Int32.ofInt 1) r7.1 r7.2
    ((Int32.ofInt 1), r9.2))
def HX46_load_0 (a0 : Nat) (M : FM) : Prop := let x1 : Nat := (M.2.2 211 a0 0); (HX47_wanted x1 (Int32.ofInt 0) M ∧ let r2 : Int64 × FM := GX47_wanted x1 (Int32.ofInt 0) M; let x3 : Nat := (r2.2.2.2 211 a0 0); (HX47_wanted x3 (Int32.ofInt 1) r2.2 ∧ let r4 : Int64 × FM := GX47_wanted x3 (Int32.ofInt 1) r2.2; (HX46_locate a0 r2.1 (Int32.ofInt 1) r4.1.toInt32 r4.2 ∧ let r5 : Int32 × FM := GX46_locate a0 r2.1 (Int32.ofInt 1) r4.1.toInt32 r4.2; ((r5.1 = 0 → True) ∧ (¬ (r5.1 = 0) → let x6 : Nat := (r5.2.2.2 217 a0 0); (HX73_load x6 (r5.2.2.2 210 a0 0) r5.2 ∧ let r7 : Int64 × FM := GX73_load x6 (r5.2.2.2 210 a0 0) r5.2; let x8 : Nat := (r5.2.2.2 211 a0 0); (HX47_finish x8 (Int32.ofInt 1) r7.1 r7.2 ∧ True)))))))
theorem gX46_load_0 (a0 : Nat) (M : FM) (T : Ty M) (n_a0 : fm_is M 75 75 a0 = true) (h : HX46_load_0 a0 M) : gd (FX46_load_0 fN a0 M) (GX46_load_0 a0 M) (OkZ M) := by
  delta FX46_load_0 BX46_load_0
  refine gd_c n_a0 ?_
  have f0 := (tN_211 T.1 n_a0)
  refine gd_c f0 ?_
  have f17 := (tN_211 T.1 n_a0)
  refine gd_b (gX47_wanted _ _ _ ⟨T.1, T.2⟩ f17 h.1) (fun K1 => ?_)
  have f2 := (ext_is K1.2 (Nat.zero_lt_succ _) n_a0)
  refine gd_c f2 ?_
  have f3 := (tN_211 K1.1.1 (ext_is K1.2 (Nat.zero_lt_succ _) n_a0))
  refine gd_c f3 ?_
  have f16 := (tN_211 K1.1.1 (ext_is K1.2 (Nat.zero_lt_succ _) n_a0))
  refine gd_b (gX47_wanted _ _ _ ⟨K1.1.1, K1.1.2⟩ f16 h.2.1) (fun K4 => ?_)
  have f5 := (ext_is K4.2 (Nat.zero_lt_succ _) (ext_is K1.2 (Nat.zero_lt_succ _) n_a0))
  refine gd_c f5 ?_
  refine gd_b (gX46_locate _ _ _ _ _ h.2.2.1) (fun K6 => ?_)
  refine gd_fi (fun c7_0 => ?_) (fun c7_0 => ?_)
  · exact gd_z fz_0 ⟨K6.1.1, K6.1.2⟩ (ext_tr K1.2 (ext_tr K4.2 K6.2.1)) rfl
  · have f8 := (ext_is K6.2.1 (Nat.zero_lt_succ _) (ext_is K4.2 (Nat.zero_lt_succ _) (ext_is K1.2 (Nat.zero_lt_succ _) n_a0)))
    refine gd_c f8 ?_
    have f9 := (ext_is K6.2.1 (Nat.zero_lt_succ _) (ext_is K4.2 (Nat.zero_lt_succ _) (ext_is K1.2 (Nat.zero_lt_succ _) n_a0)))
    refine gd_c f9 ?_
    have f10 := (ext_is K6.2.1 (Nat.zero_lt_succ _) (ext_is K4.2 (Nat.zero_lt_succ _) (ext_is K1.2 (Nat.zero_lt_succ _) n_a0)))
    refine gd_c f10 ?_
    have f11 := (tN_217 K6.1.1 (ext_is K6.2.1 (Nat.zero_lt_succ _) (ext_is K4.2 (Nat.zero_lt_succ _) (ext_is K1.2 (Nat.zero_lt_succ _) n_a0))))
    refine gd_c f11 ?_
    refine gd_b (gX73_load _ _ _ (h.2.2.2.2 c7_0).1) (fun K12 => ?_)
    have f13 := (ext_is K12.2 (Nat.zero_lt_succ _) (tN_211 K6.1.1 (ext_is K6.2.1 (Nat.zero_lt_succ _) (ext_is K4.2 (Nat.zero_lt_succ _) (ext_is K1.2 (Nat.zero_lt_succ _) n_a0)))))
    refine gd_c f13 ?_
    have f15 := (ext_is K12.2 (Nat.zero_lt_succ _) (tN_211 K6.1.1 (ext_is K6.2.1 (Nat.zero_lt_succ _) (ext_is K4.2 (Nat.zero_lt_succ _) (ext_is K1.2 (Nat.zero_lt_succ _) n_a0)))))
    refine gd_b (gX47_finish _ _ _ _ ⟨K12.1.1, K12.1.2⟩ f15 (h.2.2.2.2 c7_0).2.1) (fun K14 => ?_)
    exact gd_z fz_1 ⟨K14.1.1, K14.1.2⟩ (ext_tr K1.2 (ext_tr K4.2 (ext_tr K6.2.1 (ext_tr K12.2 K14.2)))) rfl
noncomputable def GX46_load (a0 : Nat) (M : FM) : Int32 × FM := GX46_load_0 a0 M
def HX46_load (a0 : Nat) (M : FM) : Prop := HX46_load_0 a0 M
theorem gX46_load (a0 : Nat) (M : FM) (T : Ty M) (n_a0 : fm_is M 75 75 a0 = true) (h : HX46_load a0 M) : gd (FX46_load fN a0 M) (GX46_load a0 M) (OkZ M) := gX46_load_0 a0 M T n_a0 h
noncomputable def GX33_complete_48 (M : FM) : FM :=
  M
theorem gX33_complete_48 (M : FM) (T : Ty M) : gd (FX33_complete_48 M) (GX33_complete_48 M) (OkV M) := by
  delta FX33_complete_48 BX33_complete_48
  exact ⟨rfl, ⟨T.1, T.2⟩, (ext_r _)⟩
noncomputable def GX33_complete_0 (a0 : Nat) (a1 : Int32) (a2 : Int64) (M : FM) : FM :=
  fi ((lg_cmp a2 (Int64.ofInt 0)) ≤ 0) (
    GX33_complete_48 M) (
    fi (0 ≤ (lg_cmp a2 (Int64.ofInt 32))) (
      GX33_complete_48 M) (
      let x1 : Nat := (M.2.2 225 a0 0)
      fi ((((M.1 3 x1 a1.toNatClampNeg) >>> (a2.toInt32 &&& 31)) &&& (Int32.ofInt 1)) = (Int32.ofInt 1)) (
        let M2 : FM := fm_sI M 229 a0 0 ((M.1 229 a0 0) &&& (((Int32.ofInt 1) <<< (a2.toInt32 &&& 31)) ^^^ (Int32.ofInt (-1))))
        let M3 : FM := GX33_look a0 M2
        GX33_complete_48 M3) (
        GX33_complete_48 M)))
def HX33_complete_0 (a0 : Nat) (a1 : Int32) (a2 : Int64) (M : FM) : Prop := (((lg_cmp a2 (Int64.ofInt 0)) ≤ 0 → True) ∧ (¬ ((lg_cmp a2 (Int64.ofInt 0)) ≤ 0) → ((0 ≤ (lg_cmp a2 (Int64.ofInt 32)) → True) ∧ (¬ (0 ≤ (lg_cmp a2 (Int64.ofInt 32))) → let x1 : Nat := (M.2.2 225 a0 0); (fm_in M x1 a1 = true ∧ True)))))
theorem gX33_complete_0 (a0 : Nat) (a1 : Int32) (a2 : Int64) (M : FM) (T : Ty M) (n_a0 : fm_is M 77 77 a0 = true) (h : HX33_complete_0 a0 a1 a2 M) : gd (FX33_complete_0 a0 a1 a2 M) (GX33_complete_0 a0 a1 a2 M) (OkV M) := by
  delta FX33_complete_0 BX33_complete_0
  refine gd_fi (fun c0_0 => ?_) (fun c0_0 => ?_)
  · exact gd_tV (ext_r _) (gX33_complete_48  _ ⟨T.1, T.2⟩  )
  · refine gd_fi (fun c1_0 => ?_) (fun c1_0 => ?_)
    · exact gd_tV (ext_r _) (gX33_complete_48  _ ⟨T.1, T.2⟩  )
    · refine gd_c n_a0 ?_
      have f4 := (tN_225 T.1 n_a0)
      have f5 := ((h.2 c0_0).2 c1_0).1
      refine gd_c ⟨f4, f5⟩ ?_
      refine gd_fi (fun c2_0 => ?_) (fun c2_0 => ?_)
      · refine gd_c n_a0 ?_
        refine gd_c n_a0 ?_
        refine gd_c n_a0 ?_
        refine gd_b (gX33_look _ _ ⟨T.1, (tyb_sI (f := 229) rfl T.2)⟩ n_a0 ) (fun K3 => ?_)
        exact gd_tV (ext_dI K3.2) (gX33_complete_48  _ ⟨K3.1.1, K3.1.2⟩  )
      · exact gd_tV (ext_r _) (gX33_complete_48  _ ⟨T.1, T.2⟩  )
noncomputable def GX33_complete (a0 : Nat) (a1 : Int32) (a2 : Int64) (M : FM) : FM := GX33_complete_0 a0 a1 a2 M
def HX33_complete (a0 : Nat) (a1 : Int32) (a2 : Int64) (M : FM) : Prop := HX33_complete_0 a0 a1 a2 M
theorem gX33_complete (a0 : Nat) (a1 : Int32) (a2 : Int64) (M : FM) (T : Ty M) (n_a0 : fm_is M 77 77 a0 = true) (h : HX33_complete a0 a1 a2 M) : gd (FX33_complete a0 a1 a2 M) (GX33_complete a0 a1 a2 M) (OkV M) := gX33_complete_0 a0 a1 a2 M T n_a0 h
noncomputable def GX33_write_147 (M : FM) : FM :=
  M
theorem gX33_write_147 (M : FM) (T : Ty M) : gd (FX33_write_147 M) (GX33_write_147 M) (OkV M) := by
  delta FX33_write_147 BX33_write_147
  exact ⟨rfl, ⟨T.1, T.2⟩, (ext_r _)⟩
noncomputable def GX33_write_88 (a0 : Nat) (a4 : Int64) (a6 : Int32) (a7 : Int32) (a8 : Int32) (M : FM) : FM :=
  fi (a6 < 0) (
    fi (a7 < 0) (
      fi (a8 < 0) (
        GX33_write_147 M) (
        let M1 : FM := GX33_complete a0 a8 (a4 &&& (Int64.ofInt 4294967295)) M
        GX33_write_147 M1)) (
      let x2 : Nat := (M.2.2 226 a0 0)
      let M3 : FM := fm_sI M 3 x2 a7.toNatClampNeg (a4.toInt32 &&& (Int32.ofInt 7))
      GX33_write_147 M3)) (
    let x4 : Nat := (M.2.2 225 a0 0)
    let M5 : FM := fm_sI M 3 x4 a6.toNatClampNeg (a4.toInt32 &&& (Int32.ofInt (-2)))
    GX33_write_147 M5)
def HX33_write_88 (a0 : Nat) (a4 : Int64) (a6 : Int32) (a7 : Int32) (a8 : Int32) (M : FM) : Prop := ((a6 < 0 → ((a7 < 0 → ((a8 < 0 → True) ∧ (¬ (a8 < 0) → (HX33_complete a0 a8 (a4 &&& (Int64.ofInt 4294967295)) M ∧ True)))) ∧ (¬ (a7 < 0) → let x2 : Nat := (M.2.2 226 a0 0); (fm_in M x2 a7 = true ∧ True)))) ∧ (¬ (a6 < 0) → let x4 : Nat := (M.2.2 225 a0 0); (fm_in M x4 a6 = true ∧ True)))
theorem gX33_write_88 (a0 : Nat) (a4 : Int64) (a6 : Int32) (a7 : Int32) (a8 : Int32) (M : FM) (T : Ty M) (n_a0 : fm_is M 77 77 a0 = true) (h : HX33_write_88 a0 a4 a6 a7 a8 M) : gd (FX33_write_88 a0 a4 a6 a7 a8 M) (GX33_write_88 a0 a4 a6 a7 a8 M) (OkV M) := by
  delta FX33_write_88 BX33_write_88
  refine gd_fi (fun c0_0 => ?_) (fun c0_0 => ?_)
  · refine gd_fi (fun c1_0 => ?_) (fun c1_0 => ?_)
    · refine gd_fi (fun c2_0 => ?_) (fun c2_0 => ?_)
      · exact gd_tV (ext_r _) (gX33_write_147  _ ⟨T.1, T.2⟩  )
      · refine gd_c n_a0 ?_
        refine gd_b (gX33_complete _ _ _ _ ⟨T.1, T.2⟩ n_a0 (((h.1 c0_0).1 c1_0).2 c2_0).1) (fun K3 => ?_)
        exact gd_tV K3.2 (gX33_write_147  _ ⟨K3.1.1, K3.1.2⟩  )
    · refine gd_c n_a0 ?_
      have f4 := (tN_226 T.1 n_a0)
      have f5 := ((h.1 c0_0).2 c1_0).1
      refine gd_c ⟨f4, f5⟩ ?_
      exact gd_tV (ext_dI (ext_r _)) (gX33_write_147  _ ⟨T.1, (tyb_s3 (t := 901) rfl T.2 f4)⟩  )
  · refine gd_c n_a0 ?_
    have f6 := (tN_225 T.1 n_a0)
    refine gd_c ⟨f6, (h.2 c0_0).1⟩ ?_
    exact gd_tV (ext_dI (ext_r _)) (gX33_write_147  _ ⟨T.1, (tyb_s3 (t := 901) rfl T.2 f6)⟩  )
noncomputable def GX33_write_15 (M : FM) : FM :=
  M
theorem gX33_write_15 (M : FM) (T : Ty M) : gd (FX33_write_15 M) (GX33_write_15 M) (OkV M) := by
  delta FX33_write_15 BX33_write_15
  exact ⟨rfl, ⟨T.1, T.2⟩, (ext_r _)⟩
noncomputable def GX33_write_0 (a0 : Nat) (a1 : Int64) (a3 : Int32) (a4 : Int64) (M : FM) : FM :=
  fi (a3 = (Int32.ofInt 4)) (
    fi ((lg_cmp (a1 &&& (Int64.ofInt 3)) (Int64.ofInt 0)) = 0) (
      let r1 : Int32 × FM := GX33_contextAt a0 a1 (Int32.ofInt 8192) (Int32.ofInt 128) (Int32.ofInt 0) M
      let r2 : Int32 × FM := GX33_contextAt a0 a1 (Int32.ofInt 2097152) (Int32.ofInt 4096) (Int32.ofInt 0) r1.2
      let r3 : Int32 × FM := GX33_contextAt a0 a1 (Int32.ofInt 2097152) (Int32.ofInt 4096) (Int32.ofInt 4) r2.2
      fi ((lg_cmp a1 (Int64.ofInt 0)) ≤ 0) (
        GX33_write_88 a0 a4 r1.1 r2.1 r3.1 r3.2) (
        fi (0 ≤ (lg_cmp a1 (Int64.ofInt 128))) (
          GX33_write_88 a0 a4 r1.1 r2.1 r3.1 r3.2) (
          let x4 : Int32 := (a1 >>> ((Int32.ofInt 2).toInt64 &&& 63)).toInt32
          let x5 : Nat := (r3.2.2.2 224 a0 0)
          let M6 : FM := fm_sI r3.2 3 x5 x4.toNatClampNeg (a4.toInt32 &&& (Int32.ofInt 7))
          GX33_write_147 M6))) (
      GX33_write_15 M)) (
    GX33_write_15 M)
def HX33_write_0 (a0 : Nat) (a1 : Int64) (a3 : Int32) (a4 : Int64) (M : FM) : Prop := ((a3 = (Int32.ofInt 4) → (((lg_cmp (a1 &&& (Int64.ofInt 3)) (Int64.ofInt 0)) = 0 → (HX33_contextAt a0 a1 (Int32.ofInt 8192) (Int32.ofInt 128) (Int32.ofInt 0) M ∧ let r1 : Int32 × FM := GX33_contextAt a0 a1 (Int32.ofInt 8192) (Int32.ofInt 128) (Int32.ofInt 0) M; (HX33_contextAt a0 a1 (Int32.ofInt 2097152) (Int32.ofInt 4096) (Int32.ofInt 0) r1.2 ∧ let r2 : Int32 × FM := GX33_contextAt a0 a1 (Int32.ofInt 2097152) (Int32.ofInt 4096) (Int32.ofInt 0) r1.2; (HX33_contextAt a0 a1 (Int32.ofInt 2097152) (Int32.ofInt 4096) (Int32.ofInt 4) r2.2 ∧ let r3 : Int32 × FM := GX33_contextAt a0 a1 (Int32.ofInt 2097152) (Int32.ofInt 4096) (Int32.ofInt 4) r2.2; (((lg_cmp a1 (Int64.ofInt 0)) ≤ 0 → HX33_write_88 a0 a4 r1.1 r2.1 r3.1 r3.2) ∧ (¬ ((lg_cmp a1 (Int64.ofInt 0)) ≤ 0) → ((0 ≤ (lg_cmp a1 (Int64.ofInt 128)) → HX33_write_88 a0 a4 r1.1 r2.1 r3.1 r3.2) ∧ (¬ (0 ≤ (lg_cmp a1 (Int64.ofInt 128))) → let x4 : Int32 := (a1 >>> ((Int32.ofInt 2).toInt64 &&& 63)).toInt32; let x5 : Nat := (r3.2.2.2 224 a0 0); (fm_in r3.2 x5 x4 = true ∧ True))))))))) ∧ (¬ ((lg_cmp (a1 &&& (Int64.ofInt 3)) (Int64.ofInt 0)) = 0) → True))) ∧ (¬ (a3 = (Int32.ofInt 4)) → True))
theorem gX33_write_0 (a0 : Nat) (a1 : Int64) (a3 : Int32) (a4 : Int64) (M : FM) (T : Ty M) (n_a0 : fm_is M 77 77 a0 = true) (h : HX33_write_0 a0 a1 a3 a4 M) : gd (FX33_write_0 a0 a1 a3 a4 M) (GX33_write_0 a0 a1 a3 a4 M) (OkV M) := by
  delta FX33_write_0 BX33_write_0
  refine gd_fi (fun c0_0 => ?_) (fun c0_0 => ?_)
  · refine gd_fi (fun c1_0 => ?_) (fun c1_0 => ?_)
    · refine gd_c n_a0 ?_
      refine gd_b (gX33_contextAt _ _ _ _ _ _ ⟨T.1, T.2⟩ n_a0 ((h.1 c0_0).1 c1_0).1) (fun K2 => ?_)
      have f3 := (ext_is K2.2 (Nat.zero_lt_succ _) n_a0)
      refine gd_c f3 ?_
      have f15 := (ext_is K2.2 (Nat.zero_lt_succ _) n_a0)
      refine gd_b (gX33_contextAt _ _ _ _ _ _ ⟨K2.1.1, K2.1.2⟩ f15 ((h.1 c0_0).1 c1_0).2.1) (fun K4 => ?_)
      have f5 := (ext_is K4.2 (Nat.zero_lt_succ _) (ext_is K2.2 (Nat.zero_lt_succ _) n_a0))
      refine gd_c f5 ?_
      have f14 := (ext_is K4.2 (Nat.zero_lt_succ _) (ext_is K2.2 (Nat.zero_lt_succ _) n_a0))
      refine gd_b (gX33_contextAt _ _ _ _ _ _ ⟨K4.1.1, K4.1.2⟩ f14 ((h.1 c0_0).1 c1_0).2.2.1) (fun K6 => ?_)
      refine gd_fi (fun c7_0 => ?_) (fun c7_0 => ?_)
      · have f8 := (ext_is K6.2 (Nat.zero_lt_succ _) (ext_is K4.2 (Nat.zero_lt_succ _) (ext_is K2.2 (Nat.zero_lt_succ _) n_a0)))
        exact gd_tV (ext_tr K2.2 (ext_tr K4.2 K6.2)) (gX33_write_88 _ _ _ _ _ _ ⟨K6.1.1, K6.1.2⟩ f8 (((h.1 c0_0).1 c1_0).2.2.2.1 c7_0))
      · refine gd_fi (fun c9_0 => ?_) (fun c9_0 => ?_)
        · have f10 := (ext_is K6.2 (Nat.zero_lt_succ _) (ext_is K4.2 (Nat.zero_lt_succ _) (ext_is K2.2 (Nat.zero_lt_succ _) n_a0)))
          exact gd_tV (ext_tr K2.2 (ext_tr K4.2 K6.2)) (gX33_write_88 _ _ _ _ _ _ ⟨K6.1.1, K6.1.2⟩ f10 ((((h.1 c0_0).1 c1_0).2.2.2.2 c7_0).1 c9_0))
        · have f11 := (ext_is K6.2 (Nat.zero_lt_succ _) (ext_is K4.2 (Nat.zero_lt_succ _) (ext_is K2.2 (Nat.zero_lt_succ _) n_a0)))
          refine gd_c f11 ?_
          have f12 := (tN_224 K6.1.1 (ext_is K6.2 (Nat.zero_lt_succ _) (ext_is K4.2 (Nat.zero_lt_succ _) (ext_is K2.2 (Nat.zero_lt_succ _) n_a0))))
          have f13 := ((((h.1 c0_0).1 c1_0).2.2.2.2 c7_0).2 c9_0).1
          refine gd_c ⟨f12, f13⟩ ?_
          exact gd_tV (ext_tr K2.2 (ext_tr K4.2 (ext_tr K6.2 (ext_dI (ext_r _))))) (gX33_write_147  _ ⟨K6.1.1, (tyb_s3 (t := 901) rfl K6.1.2 f12)⟩  )
    · exact gd_tV (ext_r _) (gX33_write_15  _ ⟨T.1, T.2⟩  )
  · exact gd_tV (ext_r _) (gX33_write_15  _ ⟨T.1, T.2⟩  )
noncomputable def GX33_write (a0 : Nat) (a1 : Int64) (a3 : Int32) (a4 : Int64) (M : FM) : FM := GX33_write_0 a0 a1 a3 a4 M
def HX33_write (a0 : Nat) (a1 : Int64) (a3 : Int32) (a4 : Int64) (M : FM) : Prop := HX33_write_0 a0 a1 a3 a4 M
theorem gX33_write (a0 : Nat) (a1 : Int64) (a3 : Int32) (a4 : Int64) (M : FM) (T : Ty M) (n_a0 : fm_is M 77 77 a0 = true) (h : HX33_write a0 a1 a3 a4 M) : gd (FX33_write a0 a1 a3 a4 M) (GX33_write a0 a1 a3 a4 M) (OkV M) := gX33_write_0 a0 a1 a3 a4 M T n_a0 h
noncomputable def GX31_room_13 (a0 : Nat) (s0 : Int32) (M : FM) : Int32 × FM :=
  ((s0 - (M.1 232 a0 0)), M)
theorem gX31_room_13 (a0 : Nat) (s0 : Int32) (M : FM) (T : Ty M) (n_a0 : fm_is M 78 78 a0 = true) : gd (FX31_room_13 a0 s0 M) (GX31_room_13 a0 s0 M) (OkR M) := by
  delta FX31_room_13 BX31_room_13
  refine gd_c n_a0 ?_
  exact ⟨rfl, ⟨T.1, T.2⟩, (ext_r _)⟩
noncomputable def GX31_room_0 (a0 : Nat) (M : FM) : Int32 × FM :=
  fi ((M.1 236 a0 0) = 0) (
    GX31_room_13 a0 (Int32.ofInt 1) M) (
    GX31_room_13 a0 (Int32.ofInt 16) M)
theorem gX31_room_0 (a0 : Nat) (M : FM) (T : Ty M) (n_a0 : fm_is M 78 78 a0 = true) : gd (FX31_room_0 a0 M) (GX31_room_0 a0 M) (OkR M) := by
  delta FX31_room_0 BX31_room_0
  refine gd_c n_a0 ?_
  refine gd_fi (fun c0_0 => ?_) (fun c0_0 => ?_)
  · exact gd_tR (ext_r _) (gX31_room_13 _ _ _ ⟨T.1, T.2⟩ n_a0 )
  · exact gd_tR (ext_r _) (gX31_room_13 _ _ _ ⟨T.1, T.2⟩ n_a0 )
noncomputable def GX31_room (a0 : Nat) (M : FM) : Int32 × FM := GX31_room_0 a0 M
theorem gX31_room (a0 : Nat) (M : FM) (T : Ty M) (n_a0 : fm_is M 78 78 a0 = true) : gd (FX31_room a0 M) (GX31_room a0 M) (OkR M) := gX31_room_0 a0 M T n_a0 
noncomputable def GX31_come_57 (a2 : Int32) (M : FM) : Int32 × FM :=
  (a2, M)
theorem gX31_come_57 (a2 : Int32) (M : FM) (T : Ty M) (z_a2 : a2 = 0 ∨ a2 = 1) : gd (FX31_come_57 a2 M) (GX31_come_57 a2 M) (OkZ M) := by
  delta FX31_come_57 BX31_come_57
  exact gd_z z_a2 ⟨T.1, T.2⟩ (ext_r _) rfl
noncomputable def GX31_come_12 (a0 : Nat) (a1 : Int32) (s0 : Int32) (M : FM) : Int32 × FM :=
  fi (s0 = 0) (
    let M1 : FM := fm_sI M 237 a0 0 (Int32.ofInt 1)
    GX31_come_57 s0 M1) (
    let x2 : Int32 := ((M.1 231 a0 0) + (M.1 232 a0 0))
    let x3 : Int32 := (x2 - x2 / (Int32.ofInt 16) * (Int32.ofInt 16))
    let x4 : Nat := (M.2.2 230 a0 0)
    let M5 : FM := fm_sI M 3 x4 x3.toNatClampNeg (a1 &&& (Int32.ofInt 255))
    let M6 : FM := fm_sI M5 232 a0 0 ((M5.1 232 a0 0) + (Int32.ofInt 1))
    GX31_come_57 s0 M6)
def HX31_come_12 (a0 : Nat) (a1 : Int32) (s0 : Int32) (M : FM) : Prop := ((s0 = 0 → True) ∧ (¬ (s0 = 0) → let x2 : Int32 := ((M.1 231 a0 0) + (M.1 232 a0 0)); let x3 : Int32 := (x2 - x2 / (Int32.ofInt 16) * (Int32.ofInt 16)); let x4 : Nat := (M.2.2 230 a0 0); (fm_in M x4 x3 = true ∧ True)))
theorem gX31_come_12 (a0 : Nat) (a1 : Int32) (s0 : Int32) (M : FM) (T : Ty M) (n_a0 : fm_is M 78 78 a0 = true) (z_s0 : s0 = 0 ∨ s0 = 1) (h : HX31_come_12 a0 a1 s0 M) : gd (FX31_come_12 a0 a1 s0 M) (GX31_come_12 a0 a1 s0 M) (OkZ M) := by
  delta FX31_come_12 BX31_come_12
  refine gd_fi (fun c0_0 => ?_) (fun c0_0 => ?_)
  · refine gd_c n_a0 ?_
    refine gd_c fz_1 ?_
    exact gd_tZ (ext_dI (ext_r _)) (gX31_come_57 _ _ ⟨T.1, (tyb_sIb (f := 237) rfl T.2 fz_1)⟩ z_s0 )
  · refine gd_c n_a0 ?_
    refine gd_c n_a0 ?_
    refine gd_c n_a0 ?_
    refine gd_n (by decide) ?_
    have f1 := (tN_230 T.1 n_a0)
    refine gd_c ⟨f1, (h.2 c0_0).1⟩ ?_
    refine gd_c n_a0 ?_
    refine gd_c n_a0 ?_
    exact gd_tZ (ext_dI (ext_dI (ext_r _))) (gX31_come_57 _ _ ⟨T.1, (tyb_sI (f := 232) rfl (tyb_s3 (t := 901) rfl T.2 f1))⟩ z_s0 )
noncomputable def GX31_come_0 (a0 : Nat) (a1 : Int32) (M : FM) : Int32 × FM :=
  let r1 : Int32 × FM := GX31_room a0 M
  fi (r1.1 ≤ 0) (
    GX31_come_12 a0 a1 (Int32.ofInt 0) r1.2) (
    GX31_come_12 a0 a1 (Int32.ofInt 1) r1.2)
def HX31_come_0 (a0 : Nat) (a1 : Int32) (M : FM) : Prop := let r1 : Int32 × FM := GX31_room a0 M; ((r1.1 ≤ 0 → HX31_come_12 a0 a1 (Int32.ofInt 0) r1.2) ∧ (¬ (r1.1 ≤ 0) → HX31_come_12 a0 a1 (Int32.ofInt 1) r1.2))
theorem gX31_come_0 (a0 : Nat) (a1 : Int32) (M : FM) (T : Ty M) (n_a0 : fm_is M 78 78 a0 = true) (h : HX31_come_0 a0 a1 M) : gd (FX31_come_0 a0 a1 M) (GX31_come_0 a0 a1 M) (OkZ M) := by
  delta FX31_come_0 BX31_come_0
  refine gd_c n_a0 ?_
  refine gd_b (gX31_room _ _ ⟨T.1, T.2⟩ n_a0 ) (fun K0 => ?_)
  refine gd_fi (fun c1_0 => ?_) (fun c1_0 => ?_)
  · have f2 := (ext_is K0.2 (Nat.zero_lt_succ _) n_a0)
    exact gd_tZ K0.2 (gX31_come_12 _ _ _ _ ⟨K0.1.1, K0.1.2⟩ f2 fz_0 (h.1 c1_0))
  · have f3 := (ext_is K0.2 (Nat.zero_lt_succ _) n_a0)
    exact gd_tZ K0.2 (gX31_come_12 _ _ _ _ ⟨K0.1.1, K0.1.2⟩ f3 fz_1 (h.2 c1_0))
noncomputable def GX31_come (a0 : Nat) (a1 : Int32) (M : FM) : Int32 × FM := GX31_come_0 a0 a1 M
def HX31_come (a0 : Nat) (a1 : Int32) (M : FM) : Prop := HX31_come_0 a0 a1 M
theorem gX31_come (a0 : Nat) (a1 : Int32) (M : FM) (T : Ty M) (n_a0 : fm_is M 78 78 a0 = true) (h : HX31_come a0 a1 M) : gd (FX31_come a0 a1 M) (GX31_come a0 a1 M) (OkZ M) := gX31_come_0 a0 a1 M T n_a0 h
noncomputable def GX31_send_44 (a0 : Nat) (M : FM) : FM :=
  let M1 : FM := fm_sI M 238 a0 0 (Int32.ofInt 1)
  M1
theorem gX31_send_44 (a0 : Nat) (M : FM) (T : Ty M) (n_a0 : fm_is M 78 78 a0 = true) : gd (FX31_send_44 a0 M) (GX31_send_44 a0 M) (OkV M) := by
  delta FX31_send_44 BX31_send_44
  refine gd_c n_a0 ?_
  refine gd_c fz_1 ?_
  exact ⟨rfl, ⟨T.1, (tyb_sIb (f := 238) rfl T.2 fz_1)⟩, (ext_dI (ext_r _))⟩
noncomputable def GX31_send_0 (a0 : Nat) (a1 : Int32) (M : FM) : FM :=
  let r1 : Int32 × FM := GX31_has a0 (Int32.ofInt 4) (Int32.ofInt 4) M
  fi (r1.1 = 0) (
    let x2 : Int64 := (r1.2.2.1 234 a0 0)
    let x3 : Int32 := (x2 - x2 / (Int64.ofInt 4096) * (Int64.ofInt 4096)).toInt32
    let x4 : Nat := (r1.2.2.2 233 a0 0)
    let M5 : FM := fm_sI r1.2 3 x4 x3.toNatClampNeg a1.toInt8.toInt32.toInt8.toInt32
    let M6 : FM := fm_sL M5 234 a0 0 ((M5.2.1 234 a0 0) + (Int64.ofInt 1))
    GX31_send_44 a0 M6) (
    let r7 : Int32 × FM := GX31_come a0 a1 r1.2
    GX31_send_44 a0 r7.2)
def HX31_send_0 (a0 : Nat) (a1 : Int32) (M : FM) : Prop := (HX31_has a0 (Int32.ofInt 4) (Int32.ofInt 4) M ∧ let r1 : Int32 × FM := GX31_has a0 (Int32.ofInt 4) (Int32.ofInt 4) M; ((r1.1 = 0 → let x2 : Int64 := (r1.2.2.1 234 a0 0); let x3 : Int32 := (x2 - x2 / (Int64.ofInt 4096) * (Int64.ofInt 4096)).toInt32; let x4 : Nat := (r1.2.2.2 233 a0 0); (fm_in r1.2 x4 x3 = true ∧ True)) ∧ (¬ (r1.1 = 0) → (HX31_come a0 a1 r1.2 ∧ True))))
theorem gX31_send_0 (a0 : Nat) (a1 : Int32) (M : FM) (T : Ty M) (n_a0 : fm_is M 78 78 a0 = true) (h : HX31_send_0 a0 a1 M) : gd (FX31_send_0 a0 a1 M) (GX31_send_0 a0 a1 M) (OkV M) := by
  delta FX31_send_0 BX31_send_0
  refine gd_c n_a0 ?_
  refine gd_b (gX31_has _ _ _ _ ⟨T.1, T.2⟩ n_a0 h.1) (fun K0 => ?_)
  refine gd_fi (fun c1_0 => ?_) (fun c1_0 => ?_)
  · have f2 := (ext_is K0.2.1 (Nat.zero_lt_succ _) n_a0)
    refine gd_c f2 ?_
    have f3 := (ext_is K0.2.1 (Nat.zero_lt_succ _) n_a0)
    refine gd_c f3 ?_
    refine gd_n (by decide) ?_
    have f4 := (tN_233 K0.1.1 (ext_is K0.2.1 (Nat.zero_lt_succ _) n_a0))
    refine gd_c ⟨f4, (h.2.1 c1_0).1⟩ ?_
    have f5 := (ext_is K0.2.1 (Nat.zero_lt_succ _) n_a0)
    refine gd_c f5 ?_
    have f6 := (ext_is K0.2.1 (Nat.zero_lt_succ _) n_a0)
    refine gd_c f6 ?_
    have f7 := (ext_is K0.2.1 (Nat.zero_lt_succ _) n_a0)
    exact gd_tV (ext_tr K0.2.1 (ext_dI (ext_dL (ext_r _)))) (gX31_send_44 _ _ ⟨K0.1.1, (tyb_s3 (t := 903) rfl K0.1.2 f4)⟩ f7 )
  · have f8 := (ext_is K0.2.1 (Nat.zero_lt_succ _) n_a0)
    refine gd_c f8 ?_
    have f11 := (ext_is K0.2.1 (Nat.zero_lt_succ _) n_a0)
    refine gd_b (gX31_come _ _ _ ⟨K0.1.1, K0.1.2⟩ f11 (h.2.2 c1_0).1) (fun K9 => ?_)
    have f10 := (ext_is K9.2.1 (Nat.zero_lt_succ _) (ext_is K0.2.1 (Nat.zero_lt_succ _) n_a0))
    exact gd_tV (ext_tr K0.2.1 K9.2.1) (gX31_send_44 _ _ ⟨K9.1.1, K9.1.2⟩ f10 )
noncomputable def GX31_send (a0 : Nat) (a1 : Int32) (M : FM) : FM := GX31_send_0 a0 a1 M
def HX31_send (a0 : Nat) (a1 : Int32) (M : FM) : Prop := HX31_send_0 a0 a1 M
theorem gX31_send (a0 : Nat) (a1 : Int32) (M : FM) (T : Ty M) (n_a0 : fm_is M 78 78 a0 = true) (h : HX31_send a0 a1 M) : gd (FX31_send a0 a1 M) (GX31_send a0 a1 M) (OkV M) := gX31_send_0 a0 a1 M T n_a0 h
noncomputable def GX31_queue_33 (a0 : Nat) (a2 : Int32) (M : FM) : FM :=
  let M1 : FM := fm_sI M 236 a0 0 a2
  M1
theorem gX31_queue_33 (a0 : Nat) (a2 : Int32) (M : FM) (T : Ty M) (n_a0 : fm_is M 78 78 a0 = true) (z_a2 : a2 = 0 ∨ a2 = 1) : gd (FX31_queue_33 a0 a2 M) (GX31_queue_33 a0 a2 M) (OkV M) := by
  delta FX31_queue_33 BX31_queue_33
  refine gd_c n_a0 ?_
  refine gd_c z_a2 ?_
  exact ⟨rfl, ⟨T.1, (tyb_sIb (f := 236) rfl T.2 z_a2)⟩, (ext_dI (ext_r _))⟩
noncomputable def GX31_queue_28 (a0 : Nat) (a2 : Int32) (M : FM) : FM :=
  let M1 : FM := fm_sI M 232 a0 0 (Int32.ofInt 0)
  GX31_queue_33 a0 a2 M1
theorem gX31_queue_28 (a0 : Nat) (a2 : Int32) (M : FM) (T : Ty M) (n_a0 : fm_is M 78 78 a0 = true) (z_a2 : a2 = 0 ∨ a2 = 1) : gd (FX31_queue_28 a0 a2 M) (GX31_queue_28 a0 a2 M) (OkV M) := by
  delta FX31_queue_28 BX31_queue_28
  refine gd_c n_a0 ?_
  exact gd_tV (ext_dI (ext_r _)) (gX31_queue_33 _ _ _ ⟨T.1, (tyb_sI (f := 232) rfl T.2)⟩ n_a0 z_a2 )
noncomputable def GX31_queue_12 (a0 : Nat) (a1 : Int32) (s0 : Int32) (M : FM) : FM :=
  fi (s0 = (M.1 236 a0 0)) (
    fi ((a1 &&& (Int32.ofInt 2)) = (Int32.ofInt 2)) (
      GX31_queue_28 a0 s0 M) (
      GX31_queue_33 a0 s0 M)) (
    GX31_queue_28 a0 s0 M)
theorem gX31_queue_12 (a0 : Nat) (a1 : Int32) (s0 : Int32) (M : FM) (T : Ty M) (n_a0 : fm_is M 78 78 a0 = true) (z_s0 : s0 = 0 ∨ s0 = 1) : gd (FX31_queue_12 a0 a1 s0 M) (GX31_queue_12 a0 a1 s0 M) (OkV M) := by
  delta FX31_queue_12 BX31_queue_12
  refine gd_c n_a0 ?_
  refine gd_fi (fun c0_0 => ?_) (fun c0_0 => ?_)
  · refine gd_fi (fun c1_0 => ?_) (fun c1_0 => ?_)
    · exact gd_tV (ext_r _) (gX31_queue_28 _ _ _ ⟨T.1, T.2⟩ n_a0 z_s0 )
    · exact gd_tV (ext_r _) (gX31_queue_33 _ _ _ ⟨T.1, T.2⟩ n_a0 z_s0 )
  · exact gd_tV (ext_r _) (gX31_queue_28 _ _ _ ⟨T.1, T.2⟩ n_a0 z_s0 )
noncomputable def GX31_queue_0 (a0 : Nat) (a1 : Int32) (M : FM) : FM :=
  fi ((a1 &&& (Int32.ofInt 1)) = (Int32.ofInt 1)) (
    GX31_queue_12 a0 a1 (Int32.ofInt 1) M) (
    GX31_queue_12 a0 a1 (Int32.ofInt 0) M)
theorem gX31_queue_0 (a0 : Nat) (a1 : Int32) (M : FM) (T : Ty M) (n_a0 : fm_is M 78 78 a0 = true) : gd (FX31_queue_0 a0 a1 M) (GX31_queue_0 a0 a1 M) (OkV M) := by
  delta FX31_queue_0 BX31_queue_0
  refine gd_fi (fun c0_0 => ?_) (fun c0_0 => ?_)
  · exact gd_tV (ext_r _) (gX31_queue_12 _ _ _ _ ⟨T.1, T.2⟩ n_a0 fz_1 )
  · exact gd_tV (ext_r _) (gX31_queue_12 _ _ _ _ ⟨T.1, T.2⟩ n_a0 fz_0 )
noncomputable def GX31_queue (a0 : Nat) (a1 : Int32) (M : FM) : FM := GX31_queue_0 a0 a1 M
theorem gX31_queue (a0 : Nat) (a1 : Int32) (M : FM) (T : Ty M) (n_a0 : fm_is M 78 78 a0 = true) : gd (FX31_queue a0 a1 M) (GX31_queue a0 a1 M) (OkV M) := gX31_queue_0 a0 a1 M T n_a0 
noncomputable def GX31_write_193 (M : FM) : FM :=
  M
theorem gX31_write_193 (M : FM) (T : Ty M) : gd (FX31_write_193 M) (GX31_write_193 M) (OkV M) := by
  delta FX31_write_193 BX31_write_193
  exact ⟨rfl, ⟨T.1, T.2⟩, (ext_r _)⟩
noncomputable def GX31_write_181 (a0 : Nat) (a6 : Int32) (a7 : Int32) (M : FM) : FM :=
  let x1 : Nat := (M.2.2 235 a0 0)
  let M2 : FM := fm_sI M 3 x1 a6.toNatClampNeg a7
  GX31_write_193 M2
def HX31_write_181 (a0 : Nat) (a6 : Int32) (a7 : Int32) (M : FM) : Prop := let x1 : Nat := (M.2.2 235 a0 0); (fm_in M x1 a6 = true ∧ True)
theorem gX31_write_181 (a0 : Nat) (a6 : Int32) (a7 : Int32) (M : FM) (T : Ty M) (n_a0 : fm_is M 78 78 a0 = true) (h : HX31_write_181 a0 a6 a7 M) : gd (FX31_write_181 a0 a6 a7 M) (GX31_write_181 a0 a6 a7 M) (OkV M) := by
  delta FX31_write_181 BX31_write_181
  refine gd_c n_a0 ?_
  have f0 := (tN_235 T.1 n_a0)
  refine gd_c ⟨f0, h.1⟩ ?_
  exact gd_tV (ext_dI (ext_r _)) (gX31_write_193  _ ⟨T.1, (tyb_s3 (t := 901) rfl T.2 f0)⟩  )
noncomputable def GX31_write_140 (a0 : Nat) (a7 : Int32) (s0 : Nat) (s1 : Int32) (s2 : Int32) (M : FM) : FM :=
  let x1 : Int32 := (s1 ||| s2)
  let M2 : FM := fm_sI M 238 s0 0 x1
  let x3 : Nat := (M2.2.2 235 a0 0)
  let M4 : FM := fm_sI M2 3 x3 (Int32.ofInt 1).toNatClampNeg (a7 &&& (Int32.ofInt 15))
  GX31_write_193 M4
def HX31_write_140 (a0 : Nat) (a7 : Int32) (s0 : Nat) (s1 : Int32) (s2 : Int32) (M : FM) : Prop := let x1 : Int32 := (s1 ||| s2); ((x1 = 0 ∨ x1 = 1) ∧ True)
theorem gX31_write_140 (a0 : Nat) (a7 : Int32) (s0 : Nat) (s1 : Int32) (s2 : Int32) (M : FM) (T : Ty M) (n_s0 : fm_is M 78 78 s0 = true) (n_a0 : fm_is M 78 78 a0 = true) (h : HX31_write_140 a0 a7 s0 s1 s2 M) : gd (FX31_write_140 a0 a7 s0 s1 s2 M) (GX31_write_140 a0 a7 s0 s1 s2 M) (OkV M) := by
  delta FX31_write_140 BX31_write_140
  refine gd_c n_s0 ?_
  refine gd_c h.1 ?_
  refine gd_c n_a0 ?_
  have f0 := (tN_235 T.1 n_a0)
  have f1 := (fm_inl (i := (Int32.ofInt 1)) (tL_235 T.1 n_a0) (by decide))
  refine gd_c ⟨f0, f1⟩ ?_
  exact gd_tV (ext_dI (ext_dI (ext_r _))) (gX31_write_193  _ ⟨T.1, (tyb_s3 (t := 901) rfl (tyb_sIb (f := 238) rfl T.2 h.1) f0)⟩  )
noncomputable def GX31_write_139 (a0 : Nat) (a7 : Int32) (s0 : Nat) (s1 : Int32) (M : FM) : FM :=
  GX31_write_140 a0 a7 s0 s1 (Int32.ofInt 0) M
def HX31_write_139 (a0 : Nat) (a7 : Int32) (s0 : Nat) (s1 : Int32) (M : FM) : Prop := HX31_write_140 a0 a7 s0 s1 (Int32.ofInt 0) M
theorem gX31_write_139 (a0 : Nat) (a7 : Int32) (s0 : Nat) (s1 : Int32) (M : FM) (T : Ty M) (n_s0 : fm_is M 78 78 s0 = true) (n_a0 : fm_is M 78 78 a0 = true) (h : HX31_write_139 a0 a7 s0 s1 M) : gd (FX31_write_139 a0 a7 s0 s1 M) (GX31_write_139 a0 a7 s0 s1 M) (OkV M) := by
  delta FX31_write_139 BX31_write_139
  exact gd_tV (ext_r _) (gX31_write_140 _ _ _ _ _ _ ⟨T.1, T.2⟩ n_s0 n_a0 h)
noncomputable def GX31_write_56 (a0 : Nat) (a6 : Int32) (a7 : Int32) (M : FM) : FM :=
  fi (a6 = (Int32.ofInt 0)) (
    let M1 : FM := GX31_send a0 a7 M
    GX31_write_193 M1) (
    fi (a6 = (Int32.ofInt 1)) (
      let r2 : Int32 × FM := GX31_has a0 (Int32.ofInt 1) (Int32.ofInt 1) M
      fi (r2.1 = 0) (
        fi ((a7 &&& (Int32.ofInt 2)) = (Int32.ofInt 2)) (
          GX31_write_140 a0 a7 a0 (M.1 238 a0 0) (Int32.ofInt 1) r2.2) (
          GX31_write_139 a0 a7 a0 (M.1 238 a0 0) r2.2)) (
        GX31_write_139 a0 a7 a0 (M.1 238 a0 0) r2.2)) (
      fi (a6 = (Int32.ofInt 2)) (
        let M3 : FM := GX31_queue a0 a7 M
        GX31_write_193 M3) (
        fi (a6 = (Int32.ofInt 3)) (
          GX31_write_181 a0 a6 a7 M) (
          fi (a6 = (Int32.ofInt 4)) (
            let x4 : Nat := (M.2.2 235 a0 0)
            let M5 : FM := fm_sI M 3 x4 (Int32.ofInt 4).toNatClampNeg (a7 &&& (Int32.ofInt 31))
            GX31_write_193 M5) (
            fi (a6 = (Int32.ofInt 5)) (
              GX31_write_193 M) (
              fi (a6 = (Int32.ofInt 6)) (
                GX31_write_193 M) (
                fi (a6 = (Int32.ofInt 7)) (
                  GX31_write_181 a0 a6 a7 M) (
                  GX31_write_193 M))))))))
def HX31_write_56 (a0 : Nat) (a6 : Int32) (a7 : Int32) (M : FM) : Prop := ((a6 = (Int32.ofInt 0) → (HX31_send a0 a7 M ∧ True)) ∧ (¬ (a6 = (Int32.ofInt 0)) → ((a6 = (Int32.ofInt 1) → (HX31_has a0 (Int32.ofInt 1) (Int32.ofInt 1) M ∧ let r2 : Int32 × FM := GX31_has a0 (Int32.ofInt 1) (Int32.ofInt 1) M; ((r2.1 = 0 → (((a7 &&& (Int32.ofInt 2)) = (Int32.ofInt 2) → HX31_write_140 a0 a7 a0 (M.1 238 a0 0) (Int32.ofInt 1) r2.2) ∧ (¬ ((a7 &&& (Int32.ofInt 2)) = (Int32.ofInt 2)) → HX31_write_139 a0 a7 a0 (M.1 238 a0 0) r2.2))) ∧ (¬ (r2.1 = 0) → HX31_write_139 a0 a7 a0 (M.1 238 a0 0) r2.2)))) ∧ (¬ (a6 = (Int32.ofInt 1)) → ((a6 = (Int32.ofInt 2) → True) ∧ (¬ (a6 = (Int32.ofInt 2)) → ((a6 = (Int32.ofInt 3) → HX31_write_181 a0 a6 a7 M) ∧ (¬ (a6 = (Int32.ofInt 3)) → ((a6 = (Int32.ofInt 4) → True) ∧ (¬ (a6 = (Int32.ofInt 4)) → ((a6 = (Int32.ofInt 5) → True) ∧ (¬ (a6 = (Int32.ofInt 5)) → ((a6 = (Int32.ofInt 6) → True) ∧ (¬ (a6 = (Int32.ofInt 6)) → ((a6 = (Int32.ofInt 7) → HX31_write_181 a0 a6 a7 M) ∧ (¬ (a6 = (Int32.ofInt 7)) → True))))))))))))))))
theorem gX31_write_56 (a0 : Nat) (a6 : Int32) (a7 : Int32) (M : FM) (T : Ty M) (n_a0 : fm_is M 78 78 a0 = true) (h : HX31_write_56 a0 a6 a7 M) : gd (FX31_write_56 a0 a6 a7 M) (GX31_write_56 a0 a6 a7 M) (OkV M) := by
  delta FX31_write_56 BX31_write_56
  refine gd_fi (fun c0_0 => ?_) (fun c0_0 => ?_)
  · refine gd_c n_a0 ?_
    refine gd_b (gX31_send _ _ _ ⟨T.1, T.2⟩ n_a0 (h.1 c0_0).1) (fun K1 => ?_)
    exact gd_tV K1.2 (gX31_write_193  _ ⟨K1.1.1, K1.1.2⟩  )
  · refine gd_fi (fun c2_1 => ?_) (fun c2_1 => ?_)
    · refine gd_c n_a0 ?_
      refine gd_c n_a0 ?_
      refine gd_b (gX31_has _ _ _ _ ⟨T.1, T.2⟩ n_a0 ((h.2 c0_0).1 c2_1).1) (fun K3 => ?_)
      refine gd_fi (fun c4_0 => ?_) (fun c4_0 => ?_)
      · refine gd_fi (fun c5_0 => ?_) (fun c5_0 => ?_)
        · have f6 := (ext_is K3.2.1 (Nat.zero_lt_succ _) n_a0)
          have f7 := (ext_is K3.2.1 (Nat.zero_lt_succ _) n_a0)
          exact gd_tV K3.2.1 (gX31_write_140 _ _ _ _ _ _ ⟨K3.1.1, K3.1.2⟩ f6 f7 ((((h.2 c0_0).1 c2_1).2.1 c4_0).1 c5_0))
        · have f8 := (ext_is K3.2.1 (Nat.zero_lt_succ _) n_a0)
          have f9 := (ext_is K3.2.1 (Nat.zero_lt_succ _) n_a0)
          exact gd_tV K3.2.1 (gX31_write_139 _ _ _ _ _ ⟨K3.1.1, K3.1.2⟩ f8 f9 ((((h.2 c0_0).1 c2_1).2.1 c4_0).2 c5_0))
      · have f10 := (ext_is K3.2.1 (Nat.zero_lt_succ _) n_a0)
        have f11 := (ext_is K3.2.1 (Nat.zero_lt_succ _) n_a0)
        exact gd_tV K3.2.1 (gX31_write_139 _ _ _ _ _ ⟨K3.1.1, K3.1.2⟩ f10 f11 (((h.2 c0_0).1 c2_1).2.2 c4_0))
    · refine gd_fi (fun c12_2 => ?_) (fun c12_2 => ?_)
      · refine gd_c n_a0 ?_
        refine gd_b (gX31_queue _ _ _ ⟨T.1, T.2⟩ n_a0 ) (fun K13 => ?_)
        exact gd_tV K13.2 (gX31_write_193  _ ⟨K13.1.1, K13.1.2⟩  )
      · refine gd_fi (fun c14_3 => ?_) (fun c14_3 => ?_)
        · exact gd_tV (ext_r _) (gX31_write_181 _ _ _ _ ⟨T.1, T.2⟩ n_a0 ((((h.2 c0_0).2 c2_1).2 c12_2).1 c14_3))
        · refine gd_fi (fun c15_4 => ?_) (fun c15_4 => ?_)
          · refine gd_c n_a0 ?_
            have f16 := (tN_235 T.1 n_a0)
            have f17 := (fm_inl (i := (Int32.ofInt 4)) (tL_235 T.1 n_a0) (by decide))
            refine gd_c ⟨f16, f17⟩ ?_
            exact gd_tV (ext_dI (ext_r _)) (gX31_write_193  _ ⟨T.1, (tyb_s3 (t := 901) rfl T.2 f16)⟩  )
          · refine gd_fi (fun c18_5 => ?_) (fun c18_5 => ?_)
            · exact gd_tV (ext_r _) (gX31_write_193  _ ⟨T.1, T.2⟩  )
            · refine gd_fi (fun c19_6 => ?_) (fun c19_6 => ?_)
              · exact gd_tV (ext_r _) (gX31_write_193  _ ⟨T.1, T.2⟩  )
              · refine gd_fi (fun c20_7 => ?_) (fun c20_7 => ?_)
                · exact gd_tV (ext_r _) (gX31_write_181 _ _ _ _ ⟨T.1, T.2⟩ n_a0 ((((((((h.2 c0_0).2 c2_1).2 c12_2).2 c14_3).2 c15_4).2 c18_5).2 c19_6).1 c20_7))
                · exact gd_tV (ext_r _) (gX31_write_193  _ ⟨T.1, T.2⟩  )
noncomputable def GX31_write_13 (M : FM) : FM :=
  M
theorem gX31_write_13 (M : FM) (T : Ty M) : gd (FX31_write_13 M) (GX31_write_13 M) (OkV M) := by
  delta FX31_write_13 BX31_write_13
  exact ⟨rfl, ⟨T.1, T.2⟩, (ext_r _)⟩
noncomputable def GX31_write_0 (a0 : Nat) (a1 : Int64) (a3 : Int32) (a4 : Int64) (M : FM) : FM :=
  fi (a3 = (Int32.ofInt 1)) (
    fi ((lg_cmp a1 (Int64.ofInt 7)) ≤ 0) (
      let x1 : Int32 := a1.toInt32
      let x2 : Int32 := (a4.toInt32 &&& (Int32.ofInt 255))
      fi ((Int32.ofInt 2) ≤ x1) (
        GX31_write_56 a0 x1 x2 M) (
        let r3 : Int32 × FM := GX31_has a0 (Int32.ofInt 3) (Int32.ofInt 7) M
        fi (r3.1 = 0) (
          GX31_write_56 a0 x1 x2 r3.2) (
          let x4 : Int32 := ((Int32.ofInt 8) + x1)
          let x5 : Nat := (r3.2.2.2 235 a0 0)
          let M6 : FM := fm_sI r3.2 3 x5 x4.toNatClampNeg x2
          M6))) (
      GX31_write_13 M)) (
    GX31_write_13 M)
def HX31_write_0 (a0 : Nat) (a1 : Int64) (a3 : Int32) (a4 : Int64) (M : FM) : Prop := ((a3 = (Int32.ofInt 1) → (((lg_cmp a1 (Int64.ofInt 7)) ≤ 0 → let x1 : Int32 := a1.toInt32; let x2 : Int32 := (a4.toInt32 &&& (Int32.ofInt 255)); (((Int32.ofInt 2) ≤ x1 → HX31_write_56 a0 x1 x2 M) ∧ (¬ ((Int32.ofInt 2) ≤ x1) → (HX31_has a0 (Int32.ofInt 3) (Int32.ofInt 7) M ∧ let r3 : Int32 × FM := GX31_has a0 (Int32.ofInt 3) (Int32.ofInt 7) M; ((r3.1 = 0 → HX31_write_56 a0 x1 x2 r3.2) ∧ (¬ (r3.1 = 0) → let x4 : Int32 := ((Int32.ofInt 8) + x1); let x5 : Nat := (r3.2.2.2 235 a0 0); (fm_in r3.2 x5 x4 = true ∧ True))))))) ∧ (¬ ((lg_cmp a1 (Int64.ofInt 7)) ≤ 0) → True))) ∧ (¬ (a3 = (Int32.ofInt 1)) → True))
theorem gX31_write_0 (a0 : Nat) (a1 : Int64) (a3 : Int32) (a4 : Int64) (M : FM) (T : Ty M) (n_a0 : fm_is M 78 78 a0 = true) (h : HX31_write_0 a0 a1 a3 a4 M) : gd (FX31_write_0 a0 a1 a3 a4 M) (GX31_write_0 a0 a1 a3 a4 M) (OkV M) := by
  delta FX31_write_0 BX31_write_0
  refine gd_fi (fun c0_0 => ?_) (fun c0_0 => ?_)
  · refine gd_fi (fun c1_0 => ?_) (fun c1_0 => ?_)
    · refine gd_fi (fun c2_0 => ?_) (fun c2_0 => ?_)
      · exact gd_tV (ext_r _) (gX31_write_56 _ _ _ _ ⟨T.1, T.2⟩ n_a0 (((h.1 c0_0).1 c1_0).1 c2_0))
      · refine gd_c n_a0 ?_
        refine gd_b (gX31_has _ _ _ _ ⟨T.1, T.2⟩ n_a0 (((h.1 c0_0).1 c1_0).2 c2_0).1) (fun K3 => ?_)
        refine gd_fi (fun c4_0 => ?_) (fun c4_0 => ?_)
        · have f5 := (ext_is K3.2.1 (Nat.zero_lt_succ _) n_a0)
          exact gd_tV K3.2.1 (gX31_write_56 _ _ _ _ ⟨K3.1.1, K3.1.2⟩ f5 ((((h.1 c0_0).1 c1_0).2 c2_0).2.1 c4_0))
        · have f6 := (ext_is K3.2.1 (Nat.zero_lt_succ _) n_a0)
          refine gd_c f6 ?_
          have f7 := (tN_235 K3.1.1 (ext_is K3.2.1 (Nat.zero_lt_succ _) n_a0))
          have f8 := ((((h.1 c0_0).1 c1_0).2 c2_0).2.2 c4_0).1
          refine gd_c ⟨f7, f8⟩ ?_
          exact ⟨rfl, ⟨K3.1.1, (tyb_s3 (t := 901) rfl K3.1.2 f7)⟩, (ext_tr K3.2.1 (ext_dI (ext_r _)))⟩
    · exact gd_tV (ext_r _) (gX31_write_13  _ ⟨T.1, T.2⟩  )
  · exact gd_tV (ext_r _) (gX31_write_13  _ ⟨T.1, T.2⟩  )
noncomputable def GX31_write (a0 : Nat) (a1 : Int64) (a3 : Int32) (a4 : Int64) (M : FM) : FM := GX31_write_0 a0 a1 a3 a4 M
def HX31_write (a0 : Nat) (a1 : Int64) (a3 : Int32) (a4 : Int64) (M : FM) : Prop := HX31_write_0 a0 a1 a3 a4 M
theorem gX31_write (a0 : Nat) (a1 : Int64) (a3 : Int32) (a4 : Int64) (M : FM) (T : Ty M) (n_a0 : fm_is M 78 78 a0 = true) (h : HX31_write a0 a1 a3 a4 M) : gd (FX31_write a0 a1 a3 a4 M) (GX31_write a0 a1 a3 a4 M) (OkV M) := gX31_write_0 a0 a1 a3 a4 M T n_a0 h
noncomputable def GX32_write_154 (M : FM) : FM :=
  M
theorem gX32_write_154 (M : FM) (T : Ty M) : gd (FX32_write_154 M) (GX32_write_154 M) (OkV M) := by
  delta FX32_write_154 BX32_write_154
  exact ⟨rfl, ⟨T.1, T.2⟩, (ext_r _)⟩
noncomputable def GX32_write_117 (a0 : Nat) (a1 : Int64) (a3 : Int32) (a4 : Int64) (M : FM) : FM :=
  let r1 : Int32 × FM := GX32_isHalf a0 a1 a3 M
  fi (r1.1 = 0) (
    GX32_write_154 r1.2) (
    fi (0 ≤ (lg_cmp a1 ((Int64.ofInt 4) * (r1.2.1 244 a0 0).toInt64))) (
      GX32_write_154 r1.2) (
      let x2 : Int32 := (a1 >>> ((Int32.ofInt 2).toInt64 &&& 63)).toInt32
      let x3 : Nat := (r1.2.2.2 245 a0 0)
      let M4 : FM := fm_sI r1.2 3 x3 x2.toNatClampNeg (a4.toInt32 &&& (Int32.ofInt 1))
      GX32_write_154 M4))
def HX32_write_117 (a0 : Nat) (a1 : Int64) (a3 : Int32) (a4 : Int64) (M : FM) : Prop := let r1 : Int32 × FM := GX32_isHalf a0 a1 a3 M; ((r1.1 = 0 → True) ∧ (¬ (r1.1 = 0) → ((0 ≤ (lg_cmp a1 ((Int64.ofInt 4) * (r1.2.1 244 a0 0).toInt64)) → True) ∧ (¬ (0 ≤ (lg_cmp a1 ((Int64.ofInt 4) * (r1.2.1 244 a0 0).toInt64))) → let x2 : Int32 := (a1 >>> ((Int32.ofInt 2).toInt64 &&& 63)).toInt32; let x3 : Nat := (r1.2.2.2 245 a0 0); (fm_in r1.2 x3 x2 = true ∧ True)))))
theorem gX32_write_117 (a0 : Nat) (a1 : Int64) (a3 : Int32) (a4 : Int64) (M : FM) (T : Ty M) (n_a0 : fm_is M 80 80 a0 = true) (h : HX32_write_117 a0 a1 a3 a4 M) : gd (FX32_write_117 a0 a1 a3 a4 M) (GX32_write_117 a0 a1 a3 a4 M) (OkV M) := by
  delta FX32_write_117 BX32_write_117
  refine gd_c n_a0 ?_
  refine gd_b (gX32_isHalf _ _ _ _ ⟨T.1, T.2⟩  ) (fun K0 => ?_)
  refine gd_fi (fun c1_0 => ?_) (fun c1_0 => ?_)
  · exact gd_tV K0.2.1 (gX32_write_154  _ ⟨K0.1.1, K0.1.2⟩  )
  · have f2 := (ext_is K0.2.1 (Nat.zero_lt_succ _) n_a0)
    refine gd_c f2 ?_
    refine gd_fi (fun c3_0 => ?_) (fun c3_0 => ?_)
    · exact gd_tV K0.2.1 (gX32_write_154  _ ⟨K0.1.1, K0.1.2⟩  )
    · have f4 := (ext_is K0.2.1 (Nat.zero_lt_succ _) n_a0)
      refine gd_c f4 ?_
      have f5 := (tN_245 K0.1.1 (ext_is K0.2.1 (Nat.zero_lt_succ _) n_a0))
      have f6 := ((h.2 c1_0).2 c3_0).1
      refine gd_c ⟨f5, f6⟩ ?_
      exact gd_tV (ext_tr K0.2.1 (ext_dI (ext_r _))) (gX32_write_154  _ ⟨K0.1.1, (tyb_s3 (t := 901) rfl K0.1.2 f5)⟩  )
noncomputable def GX32_write_113 (s0 : Nat) (s1 : Int32) (s2 : Int64) (M : FM) : FM :=
  let M1 : FM := fm_sL M 3 s0 s1.toNatClampNeg s2
  GX32_write_154 M1
def HX32_write_113 (s0 : Nat) (s1 : Int32) (s2 : Int64) (M : FM) : Prop := (fm_in M s0 s1 = true ∧ True)
theorem gX32_write_113 (s0 : Nat) (s1 : Int32) (s2 : Int64) (M : FM) (T : Ty M) (n_s0 : fm_is M 902 902 s0 = true) (h : HX32_write_113 s0 s1 s2 M) : gd (FX32_write_113 s0 s1 s2 M) (GX32_write_113 s0 s1 s2 M) (OkV M) := by
  delta FX32_write_113 BX32_write_113
  refine gd_c ⟨n_s0, h.1⟩ ?_
  exact gd_tV (ext_dL (ext_r _)) (gX32_write_154  _ ⟨T.1, T.2⟩  )
noncomputable def GX32_write_62 (a0 : Nat) (a4 : Int64) (a6 : Int32) (s0 : Int32) (M : FM) : FM :=
  fi (s0 = 0) (
    let x1 : Nat := (M.2.2 246 a0 0)
    GX32_write_113 (M.2.2 246 a0 0) a6 (((M.2.1 3 x1 a6.toNatClampNeg) &&& (Int64.ofInt 4294967295)) ||| (a4 <<< ((Int32.ofInt 32).toInt64 &&& 63))) M) (
    let x2 : Nat := (M.2.2 246 a0 0)
    GX32_write_113 (M.2.2 246 a0 0) a6 (((M.2.1 3 x2 a6.toNatClampNeg) &&& (Int64.ofInt (-4294967296))) ||| (a4 &&& (Int64.ofInt 4294967295))) M)
def HX32_write_62 (a0 : Nat) (a4 : Int64) (a6 : Int32) (s0 : Int32) (M : FM) : Prop := ((s0 = 0 → let x1 : Nat := (M.2.2 246 a0 0); (fm_in M x1 a6 = true ∧ HX32_write_113 (M.2.2 246 a0 0) a6 (((M.2.1 3 x1 a6.toNatClampNeg) &&& (Int64.ofInt 4294967295)) ||| (a4 <<< ((Int32.ofInt 32).toInt64 &&& 63))) M)) ∧ (¬ (s0 = 0) → let x2 : Nat := (M.2.2 246 a0 0); (fm_in M x2 a6 = true ∧ HX32_write_113 (M.2.2 246 a0 0) a6 (((M.2.1 3 x2 a6.toNatClampNeg) &&& (Int64.ofInt (-4294967296))) ||| (a4 &&& (Int64.ofInt 4294967295))) M)))
theorem gX32_write_62 (a0 : Nat) (a4 : Int64) (a6 : Int32) (s0 : Int32) (M : FM) (T : Ty M) (n_a0 : fm_is M 80 80 a0 = true) (h : HX32_write_62 a0 a4 a6 s0 M) : gd (FX32_write_62 a0 a4 a6 s0 M) (GX32_write_62 a0 a4 a6 s0 M) (OkV M) := by
  delta FX32_write_62 BX32_write_62
  refine gd_c n_a0 ?_
  refine gd_fi (fun c0_0 => ?_) (fun c0_0 => ?_)
  · refine gd_c n_a0 ?_
    have f2 := (tN_246 T.1 n_a0)
    refine gd_c ⟨f2, (h.1 c0_0).1⟩ ?_
    have f1 := (tN_246 T.1 n_a0)
    exact gd_tV (ext_r _) (gX32_write_113 _ _ _ _ ⟨T.1, T.2⟩ f1 (h.1 c0_0).2)
  · refine gd_c n_a0 ?_
    have f4 := (tN_246 T.1 n_a0)
    refine gd_c ⟨f4, (h.2 c0_0).1⟩ ?_
    have f3 := (tN_246 T.1 n_a0)
    exact gd_tV (ext_r _) (gX32_write_113 _ _ _ _ ⟨T.1, T.2⟩ f3 (h.2 c0_0).2)
noncomputable def GX32_write_33 (a0 : Nat) (a1 : Int64) (a3 : Int32) (a4 : Int64) (a6 : Int32) (M : FM) : FM :=
  fi (a6 < 0) (
    GX32_write_117 a0 a1 a3 a4 M) (
    let r1 : Int32 × FM := GX32_isHalf a0 a1 a3 M
    fi (r1.1 = 0) (
      GX32_write_117 a0 a1 a3 a4 r1.2) (
      fi ((lg_cmp (a1 &&& (Int64.ofInt 4)) (Int64.ofInt 0)) = 0) (
        GX32_write_62 a0 a4 a6 (Int32.ofInt 1) r1.2) (
        GX32_write_62 a0 a4 a6 (Int32.ofInt 0) r1.2)))
def HX32_write_33 (a0 : Nat) (a1 : Int64) (a3 : Int32) (a4 : Int64) (a6 : Int32) (M : FM) : Prop := ((a6 < 0 → HX32_write_117 a0 a1 a3 a4 M) ∧ (¬ (a6 < 0) → let r1 : Int32 × FM := GX32_isHalf a0 a1 a3 M; ((r1.1 = 0 → HX32_write_117 a0 a1 a3 a4 r1.2) ∧ (¬ (r1.1 = 0) → (((lg_cmp (a1 &&& (Int64.ofInt 4)) (Int64.ofInt 0)) = 0 → HX32_write_62 a0 a4 a6 (Int32.ofInt 1) r1.2) ∧ (¬ ((lg_cmp (a1 &&& (Int64.ofInt 4)) (Int64.ofInt 0)) = 0) → HX32_write_62 a0 a4 a6 (Int32.ofInt 0) r1.2))))))
theorem gX32_write_33 (a0 : Nat) (a1 : Int64) (a3 : Int32) (a4 : Int64) (a6 : Int32) (M : FM) (T : Ty M) (n_a0 : fm_is M 80 80 a0 = true) (h : HX32_write_33 a0 a1 a3 a4 a6 M) : gd (FX32_write_33 a0 a1 a3 a4 a6 M) (GX32_write_33 a0 a1 a3 a4 a6 M) (OkV M) := by
  delta FX32_write_33 BX32_write_33
  refine gd_fi (fun c0_0 => ?_) (fun c0_0 => ?_)
  · exact gd_tV (ext_r _) (gX32_write_117 _ _ _ _ _ ⟨T.1, T.2⟩ n_a0 (h.1 c0_0))
  · refine gd_c n_a0 ?_
    refine gd_b (gX32_isHalf _ _ _ _ ⟨T.1, T.2⟩  ) (fun K1 => ?_)
    refine gd_fi (fun c2_0 => ?_) (fun c2_0 => ?_)
    · have f3 := (ext_is K1.2.1 (Nat.zero_lt_succ _) n_a0)
      exact gd_tV K1.2.1 (gX32_write_117 _ _ _ _ _ ⟨K1.1.1, K1.1.2⟩ f3 ((h.2 c0_0).1 c2_0))
    · refine gd_fi (fun c4_0 => ?_) (fun c4_0 => ?_)
      · have f5 := (ext_is K1.2.1 (Nat.zero_lt_succ _) n_a0)
        exact gd_tV K1.2.1 (gX32_write_62 _ _ _ _ _ ⟨K1.1.1, K1.1.2⟩ f5 (((h.2 c0_0).2 c2_0).1 c4_0))
      · have f6 := (ext_is K1.2.1 (Nat.zero_lt_succ _) n_a0)
        exact gd_tV K1.2.1 (gX32_write_62 _ _ _ _ _ ⟨K1.1.1, K1.1.2⟩ f6 (((h.2 c0_0).2 c2_0).2 c4_0))
noncomputable def GX32_write_0 (a0 : Nat) (a1 : Int64) (a3 : Int32) (a4 : Int64) (M : FM) : FM :=
  let r1 : Int32 × FM := GX32_find a0 a1 M
  fi (r1.1 < 0) (
    GX32_write_33 a0 a1 a3 a4 r1.1 r1.2) (
    let r2 : Int32 × FM := GX32_isWhole a0 a1 a3 r1.2
    fi (r2.1 = 0) (
      GX32_write_33 a0 a1 a3 a4 r1.1 r2.2) (
      let x3 : Nat := (r2.2.2.2 246 a0 0)
      let M4 : FM := fm_sL r2.2 3 x3 r1.1.toNatClampNeg a4
      GX32_write_154 M4))
def HX32_write_0 (a0 : Nat) (a1 : Int64) (a3 : Int32) (a4 : Int64) (M : FM) : Prop := let r1 : Int32 × FM := GX32_find a0 a1 M; ((r1.1 < 0 → HX32_write_33 a0 a1 a3 a4 r1.1 r1.2) ∧ (¬ (r1.1 < 0) → let r2 : Int32 × FM := GX32_isWhole a0 a1 a3 r1.2; ((r2.1 = 0 → HX32_write_33 a0 a1 a3 a4 r1.1 r2.2) ∧ (¬ (r2.1 = 0) → let x3 : Nat := (r2.2.2.2 246 a0 0); (fm_in r2.2 x3 r1.1 = true ∧ True)))))
theorem gX32_write_0 (a0 : Nat) (a1 : Int64) (a3 : Int32) (a4 : Int64) (M : FM) (T : Ty M) (n_a0 : fm_is M 80 80 a0 = true) (h : HX32_write_0 a0 a1 a3 a4 M) : gd (FX32_write_0 a0 a1 a3 a4 M) (GX32_write_0 a0 a1 a3 a4 M) (OkV M) := by
  delta FX32_write_0 BX32_write_0
  refine gd_c n_a0 ?_
  refine gd_b (gX32_find _ _ _ ⟨T.1, T.2⟩ n_a0 ) (fun K0 => ?_)
  refine gd_fi (fun c1_0 => ?_) (fun c1_0 => ?_)
  · have f2 := (ext_is K0.2 (Nat.zero_lt_succ _) n_a0)
    exact gd_tV K0.2 (gX32_write_33 _ _ _ _ _ _ ⟨K0.1.1, K0.1.2⟩ f2 (h.1 c1_0))
  · have f3 := (ext_is K0.2 (Nat.zero_lt_succ _) n_a0)
    refine gd_c f3 ?_
    refine gd_b (gX32_isWhole _ _ _ _ ⟨K0.1.1, K0.1.2⟩  ) (fun K4 => ?_)
    refine gd_fi (fun c5_0 => ?_) (fun c5_0 => ?_)
    · have f6 := (ext_is K4.2.1 (Nat.zero_lt_succ _) (ext_is K0.2 (Nat.zero_lt_succ _) n_a0))
      exact gd_tV (ext_tr K0.2 K4.2.1) (gX32_write_33 _ _ _ _ _ _ ⟨K4.1.1, K4.1.2⟩ f6 ((h.2 c1_0).1 c5_0))
    · have f7 := (ext_is K4.2.1 (Nat.zero_lt_succ _) (ext_is K0.2 (Nat.zero_lt_succ _) n_a0))
      refine gd_c f7 ?_
      have f8 := (tN_246 K4.1.1 (ext_is K4.2.1 (Nat.zero_lt_succ _) (ext_is K0.2 (Nat.zero_lt_succ _) n_a0)))
      have f9 := ((h.2 c1_0).2 c5_0).1
      refine gd_c ⟨f8, f9⟩ ?_
      exact gd_tV (ext_tr K0.2 (ext_tr K4.2.1 (ext_dL (ext_r _)))) (gX32_write_154  _ ⟨K4.1.1, K4.1.2⟩  )
noncomputable def GX32_write (a0 : Nat) (a1 : Int64) (a3 : Int32) (a4 : Int64) (M : FM) : FM := GX32_write_0 a0 a1 a3 a4 M
def HX32_write (a0 : Nat) (a1 : Int64) (a3 : Int32) (a4 : Int64) (M : FM) : Prop := HX32_write_0 a0 a1 a3 a4 M
theorem gX32_write (a0 : Nat) (a1 : Int64) (a3 : Int32) (a4 : Int64) (M : FM) (T : Ty M) (n_a0 : fm_is M 80 80 a0 = true) (h : HX32_write a0 a1 a3 a4 M) : gd (FX32_write a0 a1 a3 a4 M) (GX32_write a0 a1 a3 a4 M) (OkV M) := gX32_write_0 a0 a1 a3 a4 M T n_a0 h
noncomputable def GX30_write_0 (a0 : Nat) (a1 : Int32) (a2 : Int64) (a4 : Int32) (a5 : Int64) (M : FM) : FM :=
  let x1 : Nat := (M.2.2 243 a0 0)
  let x2 : Nat := (M.2.2 3 x1 a1.toNatClampNeg)
  let M3 : FM := (fi (fm_is M 77 77 x2 = true) (GX33_write x2 a2 a4 a5 M) ((fi (fm_is M 78 78 x2 = true) (GX31_write x2 a2 a4 a5 M) (GX32_write x2 a2 a4 a5 M))))
  let M4 : FM := GX30_look a0 M3
  M4
def HX30_write_0 (a0 : Nat) (a1 : Int32) (a2 : Int64) (a4 : Int32) (a5 : Int64) (M : FM) : Prop := let x1 : Nat := (M.2.2 243 a0 0); (fm_in M x1 a1 = true ∧ let x2 : Nat := (M.2.2 3 x1 a1.toNatClampNeg); (((fm_is M 77 77 x2 = true → HX33_write x2 a2 a4 a5 M) ∧ (¬ (fm_is M 77 77 x2 = true) → ((fm_is M 78 78 x2 = true → HX31_write x2 a2 a4 a5 M) ∧ (¬ (fm_is M 78 78 x2 = true) → (fm_is M 80 80 x2 = true ∧ HX32_write x2 a2 a4 a5 M))))) ∧ let M3 : FM := (fi (fm_is M 77 77 x2 = true) (GX33_write x2 a2 a4 a5 M) ((fi (fm_is M 78 78 x2 = true) (GX31_write x2 a2 a4 a5 M) (GX32_write x2 a2 a4 a5 M)))); (HX30_look a0 M3 ∧ True)))
theorem gX30_write_0 (a0 : Nat) (a1 : Int32) (a2 : Int64) (a4 : Int32) (a5 : Int64) (M : FM) (T : Ty M) (n_a0 : fm_is M 79 79 a0 = true) (h : HX30_write_0 a0 a1 a2 a4 a5 M) : gd (FX30_write_0 a0 a1 a2 a4 a5 M) (GX30_write_0 a0 a1 a2 a4 a5 M) (OkV M) := by
  delta FX30_write_0 BX30_write_0
  refine gd_c n_a0 ?_
  have f6 := (fm_w (lo' := 910) (hi' := 990) rfl rfl (tN_243 T.1 n_a0))
  refine gd_c ⟨f6, h.1⟩ ?_
  refine gd_kb (gk_fi (gk_b _ _) (gk_fi (gk_b _ _) (gk_fi (gk_b _ _) gk_0))) (gd_fi (fun c0 => (gX33_write _ _ _ _ _ ⟨T.1, T.2⟩ c0 (h.2.1.1 c0))) (fun c0 => (gd_fi (fun c1 => (gX31_write _ _ _ _ _ ⟨T.1, T.2⟩ c1 ((h.2.1.2 c0).1 c1))) (fun c1 => (gd_c ((h.2.1.2 c0).2 c1).1 (gX32_write _ _ _ _ _ ⟨T.1, T.2⟩ ((h.2.1.2 c0).2 c1).1 ((h.2.1.2 c0).2 c1).2)))))) (fun K2 => ?_)
  have f3 := (ext_is K2.2 (Nat.zero_lt_succ _) n_a0)
  refine gd_c f3 ?_
  have f5 := (ext_is K2.2 (Nat.zero_lt_succ _) n_a0)
  refine gd_b (gX30_look _ _ ⟨K2.1.1, K2.1.2⟩ f5 h.2.2.1) (fun K4 => ?_)
  exact ⟨rfl, ⟨K4.1.1, K4.1.2⟩, (ext_tr K2.2 K4.2)⟩
noncomputable def GX30_write (a0 : Nat) (a1 : Int32) (a2 : Int64) (a4 : Int32) (a5 : Int64) (M : FM) : FM := GX30_write_0 a0 a1 a2 a4 a5 M
def HX30_write (a0 : Nat) (a1 : Int32) (a2 : Int64) (a4 : Int32) (a5 : Int64) (M : FM) : Prop := HX30_write_0 a0 a1 a2 a4 a5 M
theorem gX30_write (a0 : Nat) (a1 : Int32) (a2 : Int64) (a4 : Int32) (a5 : Int64) (M : FM) (T : Ty M) (n_a0 : fm_is M 79 79 a0 = true) (h : HX30_write a0 a1 a2 a4 a5 M) : gd (FX30_write a0 a1 a2 a4 a5 M) (GX30_write a0 a1 a2 a4 a5 M) (OkV M) := gX30_write_0 a0 a1 a2 a4 a5 M T n_a0 h
noncomputable def GX10_end_43 (M : FM) : FM :=
  M
theorem gX10_end_43 (M : FM) (T : Ty M) : gd (FX10_end_43 M) (GX10_end_43 M) (OkV M) := by
  delta FX10_end_43 BX10_end_43
  exact ⟨rfl, ⟨T.1, T.2⟩, (ext_r _)⟩
noncomputable def GX10_end_40 (s0 : Nat) (s1 : Int32) (M : FM) : FM :=
  let M1 : FM := fm_sI M 23 s0 0 s1
  GX10_end_43 M1
theorem gX10_end_40 (s0 : Nat) (s1 : Int32) (M : FM) (T : Ty M) (n_s0 : fm_is M 11 11 s0 = true) : gd (FX10_end_40 s0 s1 M) (GX10_end_40 s0 s1 M) (OkV M) := by
  delta FX10_end_40 BX10_end_40
  refine gd_c n_s0 ?_
  exact gd_tV (ext_dI (ext_r _)) (gX10_end_43  _ ⟨T.1, (tyb_sI (f := 23) rfl T.2)⟩  )
noncomputable def GX10_end_19 (a0 : Nat) (a1 : Int32) (a2 : Int32) (M : FM) : FM :=
  let M1 : FM := fm_sI M 22 a0 0 (Int32.ofInt 1)
  fi (a2 = (Int32.ofInt 21845)) (
    GX10_end_40 a0 (Int32.ofInt 0) M1) (
    GX10_end_40 a0 ((a1.toUInt32 >>> ((Int32.ofInt 16).toUInt32 &&& Int32.toUInt32 31)).toInt32) M1)
theorem gX10_end_19 (a0 : Nat) (a1 : Int32) (a2 : Int32) (M : FM) (T : Ty M) (n_a0 : fm_is M 11 11 a0 = true) : gd (FX10_end_19 a0 a1 a2 M) (GX10_end_19 a0 a1 a2 M) (OkV M) := by
  delta FX10_end_19 BX10_end_19
  refine gd_c n_a0 ?_
  refine gd_c fz_1 ?_
  refine gd_fi (fun c0_0 => ?_) (fun c0_0 => ?_)
  · exact gd_tV (ext_dI (ext_r _)) (gX10_end_40 _ _ _ ⟨T.1, (tyb_sIb (f := 22) rfl T.2 fz_1)⟩ n_a0 )
  · exact gd_tV (ext_dI (ext_r _)) (gX10_end_40 _ _ _ ⟨T.1, (tyb_sIb (f := 22) rfl T.2 fz_1)⟩ n_a0 )
noncomputable def GX10_end_0 (a0 : Nat) (a1 : Int32) (M : FM) : FM :=
  let x1 : Int32 := (a1 &&& (Int32.ofInt 65535))
  fi (x1 = (Int32.ofInt 21845)) (
    GX10_end_19 a0 a1 x1 M) (
    fi (x1 = (Int32.ofInt 13107)) (
      GX10_end_19 a0 a1 x1 M) (
      GX10_end_43 M))
theorem gX10_end_0 (a0 : Nat) (a1 : Int32) (M : FM) (T : Ty M) (n_a0 : fm_is M 11 11 a0 = true) : gd (FX10_end_0 a0 a1 M) (GX10_end_0 a0 a1 M) (OkV M) := by
  delta FX10_end_0 BX10_end_0
  refine gd_fi (fun c0_0 => ?_) (fun c0_0 => ?_)
  · exact gd_tV (ext_r _) (gX10_end_19 _ _ _ _ ⟨T.1, T.2⟩ n_a0 )
  · refine gd_fi (fun c1_0 => ?_) (fun c1_0 => ?_)
    · exact gd_tV (ext_r _) (gX10_end_19 _ _ _ _ ⟨T.1, T.2⟩ n_a0 )
    · exact gd_tV (ext_r _) (gX10_end_43  _ ⟨T.1, T.2⟩  )
noncomputable def GX10_end (a0 : Nat) (a1 : Int32) (M : FM) : FM := GX10_end_0 a0 a1 M
theorem gX10_end (a0 : Nat) (a1 : Int32) (M : FM) (T : Ty M) (n_a0 : fm_is M 11 11 a0 = true) : gd (FX10_end a0 a1 M) (GX10_end a0 a1 M) (OkV M) := gX10_end_0 a0 a1 M T n_a0 
noncomputable def GX20_reset_0 (a0 : Nat) (M : FM) : FM :=
  let M1 : FM := fm_sI M 71 a0 0 (Int32.ofInt 16)
  let M2 : FM := fm_sI M1 72 a0 0 (Int32.ofInt 0)
  let M3 : FM := fm_sL M2 73 a0 0 (Int64.ofInt 0)
  let M4 : FM := fm_sL M3 74 a0 0 (Int64.ofInt 0)
  let M5 : FM := fm_sL M4 75 a0 0 (Int64.ofInt 0)
  let M6 : FM := fm_sI M5 76 a0 0 (Int32.ofInt 0)
  let M7 : FM := fm_sI M6 77 a0 0 (Int32.ofInt 0)
  M7
theorem gX20_reset_0 (a0 : Nat) (M : FM) (T : Ty M) (n_a0 : fm_is M 28 28 a0 = true) : gd (FX20_reset_0 a0 M) (GX20_reset_0 a0 M) (OkV M) := by
  delta FX20_reset_0 BX20_reset_0
  refine gd_c n_a0 ?_
  refine gd_c n_a0 ?_
  refine gd_c fz_0 ?_
  refine gd_c n_a0 ?_
  refine gd_c n_a0 ?_
  refine gd_c n_a0 ?_
  refine gd_c n_a0 ?_
  refine gd_c n_a0 ?_
  exact ⟨rfl, ⟨T.1, (tyb_sI (f := 77) rfl (tyb_sI (f := 76) rfl (tyb_sIb (f := 72) rfl (tyb_sI (f := 71) rfl T.2) fz_0)))⟩, (ext_dI (ext_dI (ext_dL (ext_dL (ext_dL (ext_dI (ext_dI (ext_r _))))))))⟩
noncomputable def GX20_reset (a0 : Nat) (M : FM) : FM := GX20_reset_0 a0 M
theorem gX20_reset (a0 : Nat) (M : FM) (T : Ty M) (n_a0 : fm_is M 28 28 a0 = true) : gd (FX20_reset a0 M) (GX20_reset a0 M) (OkV M) := gX20_reset_0 a0 M T n_a0 
noncomputable def GX18_become_51 (M : FM) : FM :=
  M
theorem gX18_become_51 (M : FM) (T : Ty M) : gd (FX18_become_51 M) (GX18_become_51 M) (OkV M) := by
  delta FX18_become_51 BX18_become_51
  exact ⟨rfl, ⟨T.1, T.2⟩, (ext_r _)⟩
noncomputable def GX18_become_0 (a0 : Nat) (a1 : Int32) (M : FM) : FM :=
  fi (a1 = 0) (
    let x1 : Nat := (M.2.2 60 a0 0)
    let M2 : FM := GX20_reset x1 M
    let M3 : FM := fm_sI M2 63 a0 0 (Int32.ofInt 0)
    let M4 : FM := fm_sI M3 64 a0 0 (Int32.ofInt 0)
    let M5 : FM := fm_sI M4 65 a0 0 (Int32.ofInt 0)
    let M6 : FM := fm_sI M5 66 a0 0 (Int32.ofInt 0)
    GX18_become_51 M6) (
    let M7 : FM := fm_sI M 65 a0 0 ((a1 &&& (Int32.ofInt 255)) ||| ((M.1 65 a0 0) &&& (Int32.ofInt 64)))
    GX18_become_51 M7)
theorem gX18_become_0 (a0 : Nat) (a1 : Int32) (M : FM) (T : Ty M) (n_a0 : fm_is M 22 22 a0 = true) : gd (FX18_become_0 a0 a1 M) (GX18_become_0 a0 a1 M) (OkV M) := by
  delta FX18_become_0 BX18_become_0
  refine gd_fi (fun c0_0 => ?_) (fun c0_0 => ?_)
  · refine gd_c n_a0 ?_
    have f1 := (tN_60 T.1 n_a0)
    refine gd_c f1 ?_
    have f7 := (tN_60 T.1 n_a0)
    refine gd_b (gX20_reset _ _ ⟨T.1, T.2⟩ f7 ) (fun K2 => ?_)
    have f3 := (ext_is K2.2 (Nat.zero_lt_succ _) n_a0)
    refine gd_c f3 ?_
    have f4 := (ext_is K2.2 (Nat.zero_lt_succ _) n_a0)
    refine gd_c f4 ?_
    have f5 := (ext_is K2.2 (Nat.zero_lt_succ _) n_a0)
    refine gd_c f5 ?_
    have f6 := (ext_is K2.2 (Nat.zero_lt_succ _) n_a0)
    refine gd_c f6 ?_
    exact gd_tV (ext_tr K2.2 (ext_dI (ext_dI (ext_dI (ext_dI (ext_r _)))))) (gX18_become_51  _ ⟨K2.1.1, (tyb_sI (f := 66) rfl (tyb_sI (f := 65) rfl (tyb_sI (f := 64) rfl (tyb_sI (f := 63) rfl K2.1.2))))⟩  )
  · refine gd_c n_a0 ?_
    refine gd_c n_a0 ?_
    exact gd_tV (ext_dI (ext_r _)) (gX18_become_51  _ ⟨T.1, (tyb_sI (f := 65) rfl T.2)⟩  )
noncomputable def GX18_become (a0 : Nat) (a1 : Int32) (M : FM) : FM := GX18_become_0 a0 a1 M
theorem gX18_become (a0 : Nat) (a1 : Int32) (M : FM) (T : Ty M) (n_a0 : fm_is M 22 22 a0 = true) : gd (FX18_become a0 a1 M) (GX18_become a0 a1 M) (OkV M) := gX18_become_0 a0 a1 M T n_a0 
noncomputable def GX19_has_0 (a0 : Nat) (a1 : Int64) (a3 : Int64) (M : FM) : Int32 × FM :=
  let x1 : Nat := (M.2.2 222 a0 0)
  let r2 : Int32 × FM := GX11_has x1 a1 a3 M
  (r2.1, r2.2)
theorem gX19_has_0 (a0 : Nat) (a1 : Int64) (a3 : Int64) (M : FM) (T : Ty M) (n_a0 : fm_is M 76 76 a0 = true) : gd (FX19_has_0 a0 a1 a3 M) (GX19_has_0 a0 a1 a3 M) (OkZ M) := by
  delta FX19_has_0 BX19_has_0
  refine gd_c n_a0 ?_
  have f0 := (tN_222 T.1 n_a0)
  refine gd_c f0 ?_
  have f2 := (tN_222 T.1 n_a0)
  refine gd_b (gX11_has _ _ _ _ ⟨T.1, T.2⟩ f2 ) (fun K1 => ?_)
  exact gd_z K1.2.2 ⟨K1.1.1, K1.1.2⟩ K1.2.1 rfl
noncomputable def GX19_has (a0 : Nat) (a1 : Int64) (a3 : Int64) (M : FM) : Int32 × FM := GX19_has_0 a0 a1 a3 M
theorem gX19_has (a0 : Nat) (a1 : Int64) (a3 : Int64) (M : FM) (T : Ty M) (n_a0 : fm_is M 76 76 a0 = true) : gd (FX19_has a0 a1 a3 M) (GX19_has a0 a1 a3 M) (OkZ M) := gX19_has_0 a0 a1 a3 M T n_a0 
noncomputable def GX19_get_0 (a0 : Nat) (a1 : Int64) (M : FM) : Int32 × FM :=
  let x1 : Nat := (M.2.2 222 a0 0)
  let r2 : Int64 × FM := GX11_load x1 a1 (Int32.ofInt 1) M
  (r2.1.toInt32, r2.2)
def HX19_get_0 (a0 : Nat) (a1 : Int64) (M : FM) : Prop := let x1 : Nat := (M.2.2 222 a0 0); (HX11_load x1 a1 (Int32.ofInt 1) M ∧ True)
theorem gX19_get_0 (a0 : Nat) (a1 : Int64) (M : FM) (T : Ty M) (n_a0 : fm_is M 76 76 a0 = true) (h : HX19_get_0 a0 a1 M) : gd (FX19_get_0 a0 a1 M) (GX19_get_0 a0 a1 M) (OkR M) := by
  delta FX19_get_0 BX19_get_0
  refine gd_c n_a0 ?_
  have f0 := (tN_222 T.1 n_a0)
  refine gd_c f0 ?_
  have f2 := (tN_222 T.1 n_a0)
  refine gd_b (gX11_load _ _ _ _ ⟨T.1, T.2⟩ f2 h.1) (fun K1 => ?_)
  exact ⟨rfl, ⟨K1.1.1, K1.1.2⟩, K1.2⟩
noncomputable def GX19_get (a0 : Nat) (a1 : Int64) (M : FM) : Int32 × FM := GX19_get_0 a0 a1 M
def HX19_get (a0 : Nat) (a1 : Int64) (M : FM) : Prop := HX19_get_0 a0 a1 M
theorem gX19_get (a0 : Nat) (a1 : Int64) (M : FM) (T : Ty M) (n_a0 : fm_is M 76 76 a0 = true) (h : HX19_get a0 a1 M) : gd (FX19_get a0 a1 M) (GX19_get a0 a1 M) (OkR M) := gX19_get_0 a0 a1 M T n_a0 h
def kX107_number (k8 : Nat → Int64 → Int64 → Int32 → FM → Option (Int64 × FM)) : (Nat × Int64 × Int64 × Int32 × FM) ⊕ (Int64 × FM) → Option (Int64 × FM)
  | .inl (v0, v1, v2, v3, M') => k8 v0 v1 v2 v3 M'
  | .inr (r) => some r
def pX107_number (M : FM) : (Nat × Int64 × Int64 × Int32 × FM) ⊕ (Int64 × FM) → Prop
  | .inl (_, _, _, _, M') => OkV M M'
  | .inr (r) => OkR M r
theorem pX107_number_t {M M1 : FM} (e : Ext M M1) : ∀ y, pX107_number M1 y → pX107_number M y
  | .inl (_, _, _, _, _), h => ⟨h.1, ext_tr e h.2⟩
  | .inr (r), h => ⟨h.1, ext_tr e h.2⟩
noncomputable def GX107_number_0 (a0 : Nat) (a1 : Int64) (a3 : Int32) (M : FM) : (Nat × Int64 × Int64 × Int32 × FM) ⊕ (Int64 × FM) :=
  let x1 : Int32 := (a3 - (Int32.ofInt 1))
  (.inl (a0, a1, (Int64.ofInt 0), x1, M))
theorem gX107_number_0 (k8 : Nat → Int64 → Int64 → Int32 → FM → Option (Int64 × FM)) (a0 : Nat) (a1 : Int64) (a3 : Int32) (M : FM) (T : Ty M) : gs (FX107_number_0 fN k8 a0 a1 a3 M) (GX107_number_0 a0 a1 a3 M) (kX107_number k8) (pX107_number M) := by
  delta FX107_number_0 BX107_number_0
  exact And.intro rfl (And.intro (And.intro T.1 T.2) ((ext_r _)))
noncomputable def GX107_number_8 (a0 : Nat) (a1 : Int64) (a4 : Int64) (a6 : Int32) (M : FM) : (Nat × Int64 × Int64 × Int32 × FM) ⊕ (Int64 × FM) :=
  fi (a6 < 0) (
    (.inr (a4, M))) (
    let r1 : Int32 × FM := GX19_get a0 (a1 + a6.toInt64) M
    let x2 : Int64 := ((a4 <<< ((Int32.ofInt 8).toInt64 &&& 63)) ||| r1.1.toInt64)
    let x3 : Int32 := a6 + (Int32.ofInt (-1))
    (.inl (a0, a1, x2, x3, r1.2)))
def HX107_number_8 (a0 : Nat) (a1 : Int64) (a4 : Int64) (a6 : Int32) (M : FM) : Prop := ((a6 < 0 → True) ∧ (¬ (a6 < 0) → (HX19_get a0 (a1 + a6.toInt64) M ∧ True)))
theorem gX107_number_8 (k8 : Nat → Int64 → Int64 → Int32 → FM → Option (Int64 × FM)) (a0 : Nat) (a1 : Int64) (a4 : Int64) (a6 : Int32) (M : FM) (T : Ty M) (n_a0 : fm_is M 76 76 a0 = true) (h : HX107_number_8 a0 a1 a4 a6 M) : gs (FX107_number_8 fN k8 a0 a1 a4 a6 M) (GX107_number_8 a0 a1 a4 a6 M) (kX107_number k8) (pX107_number M) := by
  delta FX107_number_8 BX107_number_8
  refine gs_fi (fun c0_0 => ?_) (fun c0_0 => ?_)
  · exact And.intro rfl (And.intro (And.intro T.1 T.2) ((ext_r _)))
  · refine gs_kb (gk_fi (gk_b _ _) gk_0) (gd_c n_a0 (gX19_get _ _ _ ⟨T.1, T.2⟩ n_a0 (h.2 c0_0).1)) (fun K1 => ?_)
    exact And.intro rfl (And.intro (And.intro K1.1.1 K1.1.2) K1.2)
noncomputable def GX107_number (a0 : Nat) (a1 : Int64) (a2 : Int32) (M : FM) : Int64 × FM := (FX107_number fN a0 a1 a2 M).getD (0, M)
def HX107_number (a0 : Nat) (a1 : Int64) (a2 : Int32) (M : FM) : Prop := ∃ r, FX107_number fN a0 a1 a2 M = some r ∧ OkR M r
theorem gX107_number (a0 : Nat) (a1 : Int64) (a2 : Int32) (M : FM) (h : HX107_number a0 a1 a2 M) : gd (FX107_number fN a0 a1 a2 M) (GX107_number a0 a1 a2 M) (OkR M) := gd_op h
noncomputable def GX18_fail_0 (a0 : Nat) (M : FM) : FM :=
  let M1 : FM := fm_sI M 65 a0 0 ((M.1 65 a0 0) ||| (Int32.ofInt 64))
  let M2 : FM := fm_sI M1 66 a0 0 ((M1.1 66 a0 0) ||| (Int32.ofInt 2))
  M2
theorem gX18_fail_0 (a0 : Nat) (M : FM) (T : Ty M) (n_a0 : fm_is M 22 22 a0 = true) : gd (FX18_fail_0 a0 M) (GX18_fail_0 a0 M) (OkV M) := by
  delta FX18_fail_0 BX18_fail_0
  refine gd_c n_a0 ?_
  refine gd_c n_a0 ?_
  refine gd_c n_a0 ?_
  refine gd_c n_a0 ?_
  exact ⟨rfl, ⟨T.1, (tyb_sI (f := 66) rfl (tyb_sI (f := 65) rfl T.2))⟩, (ext_dI (ext_dI (ext_r _)))⟩
noncomputable def GX18_fail (a0 : Nat) (M : FM) : FM := GX18_fail_0 a0 M
theorem gX18_fail (a0 : Nat) (M : FM) (T : Ty M) (n_a0 : fm_is M 22 22 a0 = true) : gd (FX18_fail a0 M) (GX18_fail a0 M) (OkV M) := gX18_fail_0 a0 M T n_a0 
noncomputable def GX20_offer_0 (a0 : Nat) (M : FM) : Int64 × FM :=
  let x1 : Int32 := (M.1 71 a0 0)
  let x2 : Int32 := (M.1 76 a0 0)
  ((((M.2.1 74 a0 0) + (Int64.ofInt 4)) + ((Int64.ofInt 2) * (x2 - x2 / x1 * x1).toInt64)), M)
def HX20_offer_0 (a0 : Nat) (M : FM) : Prop := let x1 : Int32 := (M.1 71 a0 0); let x2 : Int32 := (M.1 76 a0 0); (¬ x1 = 0 ∧ True)
theorem gX20_offer_0 (a0 : Nat) (M : FM) (T : Ty M) (n_a0 : fm_is M 28 28 a0 = true) (h : HX20_offer_0 a0 M) : gd (FX20_offer_0 a0 M) (GX20_offer_0 a0 M) (OkR M) := by
  delta FX20_offer_0 BX20_offer_0
  refine gd_c n_a0 ?_
  refine gd_c n_a0 ?_
  refine gd_c n_a0 ?_
  refine gd_n h.1 ?_
  exact ⟨rfl, ⟨T.1, T.2⟩, (ext_r _)⟩
noncomputable def GX20_offer (a0 : Nat) (M : FM) : Int64 × FM := GX20_offer_0 a0 M
def HX20_offer (a0 : Nat) (M : FM) : Prop := HX20_offer_0 a0 M
theorem gX20_offer (a0 : Nat) (M : FM) (T : Ty M) (n_a0 : fm_is M 28 28 a0 = true) (h : HX20_offer a0 M) : gd (FX20_offer a0 M) (GX20_offer a0 M) (OkR M) := gX20_offer_0 a0 M T n_a0 h
noncomputable def GX22_clear_0 (a0 : Nat) (M : FM) : FM :=
  let M1 : FM := fm_sI M 87 a0 0 (Int32.ofInt 0)
  let M2 : FM := fm_sL M1 88 a0 0 (Int64.ofInt 0)
  let M3 : FM := fm_sI M2 89 a0 0 (Int32.ofInt 0)
  let M4 : FM := fm_sL M3 90 a0 0 (Int64.ofInt 0)
  M4
theorem gX22_clear_0 (a0 : Nat) (M : FM) (T : Ty M) (n_a0 : fm_is M 30 30 a0 = true) : gd (FX22_clear_0 a0 M) (GX22_clear_0 a0 M) (OkV M) := by
  delta FX22_clear_0 BX22_clear_0
  refine gd_c n_a0 ?_
  refine gd_c n_a0 ?_
  refine gd_c n_a0 ?_
  refine gd_c n_a0 ?_
  exact ⟨rfl, ⟨T.1, (tyb_sI (f := 89) rfl (tyb_sI (f := 87) rfl T.2))⟩, (ext_dI (ext_dL (ext_dI (ext_dL (ext_r _)))))⟩
noncomputable def GX22_clear (a0 : Nat) (M : FM) : FM := GX22_clear_0 a0 M
theorem gX22_clear (a0 : Nat) (M : FM) (T : Ty M) (n_a0 : fm_is M 30 30 a0 = true) : gd (FX22_clear a0 M) (GX22_clear a0 M) (OkV M) := gX22_clear_0 a0 M T n_a0 
noncomputable def GX20_answer_0 (a0 : Nat) (M : FM) : Int64 × FM :=
  let x1 : Int32 := (M.1 71 a0 0)
  let x2 : Int32 := (M.1 77 a0 0)
  ((((M.2.1 75 a0 0) + (Int64.ofInt 4)) + ((Int64.ofInt 8) * (x2 - x2 / x1 * x1).toInt64)), M)
def HX20_answer_0 (a0 : Nat) (M : FM) : Prop := let x1 : Int32 := (M.1 71 a0 0); let x2 : Int32 := (M.1 77 a0 0); (¬ x1 = 0 ∧ True)
theorem gX20_answer_0 (a0 : Nat) (M : FM) (T : Ty M) (n_a0 : fm_is M 28 28 a0 = true) (h : HX20_answer_0 a0 M) : gd (FX20_answer_0 a0 M) (GX20_answer_0 a0 M) (OkR M) := by
  delta FX20_answer_0 BX20_answer_0
  refine gd_c n_a0 ?_
  refine gd_c n_a0 ?_
  refine gd_c n_a0 ?_
  refine gd_n h.1 ?_
  exact ⟨rfl, ⟨T.1, T.2⟩, (ext_r _)⟩
noncomputable def GX20_answer (a0 : Nat) (M : FM) : Int64 × FM := GX20_answer_0 a0 M
def HX20_answer (a0 : Nat) (M : FM) : Prop := HX20_answer_0 a0 M
theorem gX20_answer (a0 : Nat) (M : FM) (T : Ty M) (n_a0 : fm_is M 28 28 a0 = true) (h : HX20_answer a0 M) : gd (FX20_answer a0 M) (GX20_answer a0 M) (OkR M) := gX20_answer_0 a0 M T n_a0 h
noncomputable def GX22_add_0 (a0 : Nat) (a1 : Int64) (a3 : Int64) (M : FM) : FM :=
  let x1 : Int32 := (M.1 87 a0 0)
  let x2 : Nat := (M.2.2 85 a0 0)
  let M3 : FM := fm_sL M 3 x2 x1.toNatClampNeg a1
  let x4 : Int32 := (M3.1 87 a0 0)
  let x5 : Nat := (M3.2.2 86 a0 0)
  let M6 : FM := fm_sL M3 3 x5 x4.toNatClampNeg a3
  let M7 : FM := fm_sI M6 87 a0 0 ((M6.1 87 a0 0) + (Int32.ofInt 1))
  let M8 : FM := fm_sL M7 88 a0 0 ((M7.2.1 88 a0 0) + a3)
  M8
def HX22_add_0 (a0 : Nat) (a1 : Int64) (a3 : Int64) (M : FM) : Prop := let x1 : Int32 := (M.1 87 a0 0); let x2 : Nat := (M.2.2 85 a0 0); (fm_in M x2 x1 = true ∧ let M3 : FM := fm_sL M 3 x2 x1.toNatClampNeg a1; let x4 : Int32 := (M3.1 87 a0 0); let x5 : Nat := (M3.2.2 86 a0 0); (fm_in M3 x5 x4 = true ∧ True))
theorem gX22_add_0 (a0 : Nat) (a1 : Int64) (a3 : Int64) (M : FM) (T : Ty M) (n_a0 : fm_is M 30 30 a0 = true) (h : HX22_add_0 a0 a1 a3 M) : gd (FX22_add_0 a0 a1 a3 M) (GX22_add_0 a0 a1 a3 M) (OkV M) := by
  delta FX22_add_0 BX22_add_0
  refine gd_c n_a0 ?_
  refine gd_c n_a0 ?_
  have f0 := (tN_85 T.1 n_a0)
  refine gd_c ⟨f0, h.1⟩ ?_
  refine gd_c n_a0 ?_
  refine gd_c n_a0 ?_
  have f1 := (tN_86 T.1 n_a0)
  refine gd_c ⟨f1, h.2.1⟩ ?_
  refine gd_c n_a0 ?_
  refine gd_c n_a0 ?_
  refine gd_c n_a0 ?_
  refine gd_c n_a0 ?_
  exact ⟨rfl, ⟨T.1, (tyb_sI (f := 87) rfl T.2)⟩, (ext_dL (ext_dL (ext_dI (ext_dL (ext_r _)))))⟩
noncomputable def GX22_add (a0 : Nat) (a1 : Int64) (a3 : Int64) (M : FM) : FM := GX22_add_0 a0 a1 a3 M
def HX22_add (a0 : Nat) (a1 : Int64) (a3 : Int64) (M : FM) : Prop := HX22_add_0 a0 a1 a3 M
theorem gX22_add (a0 : Nat) (a1 : Int64) (a3 : Int64) (M : FM) (T : Ty M) (n_a0 : fm_is M 30 30 a0 = true) (h : HX22_add a0 a1 a3 M) : gd (FX22_add a0 a1 a3 M) (GX22_add a0 a1 a3 M) (OkV M) := gX22_add_0 a0 a1 a3 M T n_a0 h
def kX20_gather (k34 : Nat → Nat → Nat → Int32 → Int32 → Int32 → Int32 → Int64 → FM → Option (Int32 × FM)) : (Nat × Nat × Nat × Int32 × Int32 × Int32 × Int32 × Int64 × FM) ⊕ (Int32 × FM) → Option (Int32 × FM)
  | .inl (v0, v1, v2, v3, v4, v5, v6, v7, M') => k34 v0 v1 v2 v3 v4 v5 v6 v7 M'
  | .inr (r) => some r
def pX20_gather (M : FM) : (Nat × Nat × Nat × Int32 × Int32 × Int32 × Int32 × Int64 × FM) ⊕ (Int32 × FM) → Prop
  | .inl (_, _, _, _, _, _, _, _, M') => OkV M M'
  | .inr (r) => OkZ M r
theorem pX20_gather_t {M M1 : FM} (e : Ext M M1) : ∀ y, pX20_gather M1 y → pX20_gather M y
  | .inl (_, _, _, _, _, _, _, _, _), h => ⟨h.1, ext_tr e h.2⟩
  | .inr (r), h => ⟨h.1, ext_tr e h.2.1, h.2.2⟩
noncomputable def GX20_gather_380 (s0 : Int32) (M : FM) : (Nat × Nat × Nat × Int32 × Int32 × Int32 × Int32 × Int64 × FM) ⊕ (Int32 × FM) :=
  (.inr (s0, M))
theorem gX20_gather_380 (k34 : Nat → Nat → Nat → Int32 → Int32 → Int32 → Int32 → Int64 → FM → Option (Int32 × FM)) (s0 : Int32) (M : FM) (T : Ty M) (z_s0 : s0 = 0 ∨ s0 = 1) : gs (FX20_gather_380 fN k34 s0 M) (GX20_gather_380 s0 M) (kX20_gather k34) (pX20_gather M) := by
  delta FX20_gather_380 BX20_gather_380
  exact gs_z z_s0 ⟨T.1, T.2⟩ (ext_r _) rfl (fun h => h)
noncomputable def GX20_gather_379 (M : FM) : (Nat × Nat × Nat × Int32 × Int32 × Int32 × Int32 × Int64 × FM) ⊕ (Int32 × FM) :=
  GX20_gather_380 (Int32.ofInt 0) M
theorem gX20_gather_379 (k34 : Nat → Nat → Nat → Int32 → Int32 → Int32 → Int32 → Int64 → FM → Option (Int32 × FM)) (M : FM) (T : Ty M) : gs (FX20_gather_379 fN k34 M) (GX20_gather_379 M) (kX20_gather k34) (pX20_gather M) := by
  delta FX20_gather_379 BX20_gather_379
  exact gs_t (pX20_gather_t (ext_r _)) (gX20_gather_380 k34 _ _ ⟨T.1, T.2⟩ fz_0 )
noncomputable def GX20_gather_305 (a0 : Nat) (a1 : Nat) (a3 : Nat) (a5 : Int32) (a7 : Int32) (a8 : Int64) (a10 : Int64) (s0 : Int32) (M : FM) : (Nat × Nat × Nat × Int32 × Int32 × Int32 × Int32 × Int64 × FM) ⊕ (Int32 × FM) :=
  let r1 : Int64 × FM := GX107_number a1 (a10 + (Int64.ofInt 14)) (Int32.ofInt 2) M
  let x2 : Int32 := r1.1.toInt32
  let x3 : Int32 := a5 + (Int32.ofInt 1)
  (.inl (a0, a1, a3, x2, x3, s0, a7, a8, r1.2))
def HX20_gather_305 (a0 : Nat) (a1 : Nat) (a3 : Nat) (a5 : Int32) (a7 : Int32) (a8 : Int64) (a10 : Int64) (s0 : Int32) (M : FM) : Prop := (HX107_number a1 (a10 + (Int64.ofInt 14)) (Int32.ofInt 2) M ∧ True)
theorem gX20_gather_305 (k34 : Nat → Nat → Nat → Int32 → Int32 → Int32 → Int32 → Int64 → FM → Option (Int32 × FM)) (a0 : Nat) (a1 : Nat) (a3 : Nat) (a5 : Int32) (a7 : Int32) (a8 : Int64) (a10 : Int64) (s0 : Int32) (M : FM) (T : Ty M) (h : HX20_gather_305 a0 a1 a3 a5 a7 a8 a10 s0 M) : gs (FX20_gather_305 fN k34 a0 a1 a3 a5 a7 a8 a10 s0 M) (GX20_gather_305 a0 a1 a3 a5 a7 a8 a10 s0 M) (kX20_gather k34) (pX20_gather M) := by
  delta FX20_gather_305 BX20_gather_305
  refine gs_b (gX107_number _ _ _ _ h.1) (fun K0 => ?_)
  exact And.intro rfl (And.intro (And.intro K0.1.1 K0.1.2) K0.2)
noncomputable def GX20_gather_274 (a0 : Nat) (a1 : Nat) (a3 : Nat) (a5 : Int32) (a10 : Int64) (a12 : Int64) (a14 : Int64) (a16 : Int32) (a17 : Int32) (M : FM) : (Nat × Nat × Nat × Int32 × Int32 × Int32 × Int32 × Int64 × FM) ⊕ (Int32 × FM) :=
  let M1 : FM := fm_sL M 83 a3 0 ((a12 + a14) - (Int64.ofInt 1))
  fi ((a16 &&& (Int32.ofInt 1)) = 0) (
    GX20_gather_305 a0 a1 a3 a5 a17 a14 a10 (Int32.ofInt 0) M1) (
    GX20_gather_305 a0 a1 a3 a5 a17 a14 a10 (Int32.ofInt 1) M1)
def HX20_gather_274 (a0 : Nat) (a1 : Nat) (a3 : Nat) (a5 : Int32) (a10 : Int64) (a12 : Int64) (a14 : Int64) (a16 : Int32) (a17 : Int32) (M : FM) : Prop := let M1 : FM := fm_sL M 83 a3 0 ((a12 + a14) - (Int64.ofInt 1)); (((a16 &&& (Int32.ofInt 1)) = 0 → HX20_gather_305 a0 a1 a3 a5 a17 a14 a10 (Int32.ofInt 0) M1) ∧ (¬ ((a16 &&& (Int32.ofInt 1)) = 0) → HX20_gather_305 a0 a1 a3 a5 a17 a14 a10 (Int32.ofInt 1) M1))
theorem gX20_gather_274 (k34 : Nat → Nat → Nat → Int32 → Int32 → Int32 → Int32 → Int64 → FM → Option (Int32 × FM)) (a0 : Nat) (a1 : Nat) (a3 : Nat) (a5 : Int32) (a10 : Int64) (a12 : Int64) (a14 : Int64) (a16 : Int32) (a17 : Int32) (M : FM) (T : Ty M) (n_a3 : fm_is M 29 29 a3 = true) (h : HX20_gather_274 a0 a1 a3 a5 a10 a12 a14 a16 a17 M) : gs (FX20_gather_274 fN k34 a0 a1 a3 a5 a10 a12 a14 a16 a17 M) (GX20_gather_274 a0 a1 a3 a5 a10 a12 a14 a16 a17 M) (kX20_gather k34) (pX20_gather M) := by
  delta FX20_gather_274 BX20_gather_274
  refine gs_c n_a3 ?_
  refine gs_fi (fun c0_0 => ?_) (fun c0_0 => ?_)
  · exact gs_t (pX20_gather_t (ext_dL (ext_r _))) (gX20_gather_305 k34 _ _ _ _ _ _ _ _ _ ⟨T.1, T.2⟩  (h.1 c0_0))
  · exact gs_t (pX20_gather_t (ext_dL (ext_r _))) (gX20_gather_305 k34 _ _ _ _ _ _ _ _ _ ⟨T.1, T.2⟩  (h.2 c0_0))
noncomputable def GX20_gather_208 (a0 : Nat) (a1 : Nat) (a3 : Nat) (a5 : Int32) (a10 : Int64) (a12 : Int64) (a14 : Int64) (a16 : Int32) (a17 : Int32) (M : FM) : (Nat × Nat × Nat × Int32 × Int32 × Int32 × Int32 × Int64 × FM) ⊕ (Int32 × FM) :=
  fi (a5 = 0) (
    let r1 : Int64 × FM := GX107_number a1 a12 (Int32.ofInt 4) M
    let M2 : FM := fm_sI r1.2 81 a3 0 r1.1.toInt32
    let r3 : Int64 × FM := GX107_number a1 (a12 + (Int64.ofInt 8)) (Int32.ofInt 8) M2
    let M4 : FM := fm_sL r3.2 82 a3 0 r3.1
    GX20_gather_274 a0 a1 a3 a5 a10 a12 a14 a16 a17 M4) (
    fi (a17 = 0) (
      let x5 : Nat := (M.2.2 78 a3 0)
      let M6 : FM := GX22_add x5 a12 a14 M
      GX20_gather_274 a0 a1 a3 a5 a10 a12 a14 a16 a17 M6) (
      let x7 : Nat := (M.2.2 79 a3 0)
      let M8 : FM := GX22_add x7 a12 a14 M
      GX20_gather_274 a0 a1 a3 a5 a10 a12 a14 a16 a17 M8))
def HX20_gather_208 (a0 : Nat) (a1 : Nat) (a3 : Nat) (a5 : Int32) (a10 : Int64) (a12 : Int64) (a14 : Int64) (a16 : Int32) (a17 : Int32) (M : FM) : Prop := ((a5 = 0 → (HX107_number a1 a12 (Int32.ofInt 4) M ∧ let r1 : Int64 × FM := GX107_number a1 a12 (Int32.ofInt 4) M; let M2 : FM := fm_sI r1.2 81 a3 0 r1.1.toInt32; (HX107_number a1 (a12 + (Int64.ofInt 8)) (Int32.ofInt 8) M2 ∧ let r3 : Int64 × FM := GX107_number a1 (a12 + (Int64.ofInt 8)) (Int32.ofInt 8) M2; let M4 : FM := fm_sL r3.2 82 a3 0 r3.1; HX20_gather_274 a0 a1 a3 a5 a10 a12 a14 a16 a17 M4))) ∧ (¬ (a5 = 0) → ((a17 = 0 → let x5 : Nat := (M.2.2 78 a3 0); (HX22_add x5 a12 a14 M ∧ let M6 : FM := GX22_add x5 a12 a14 M; HX20_gather_274 a0 a1 a3 a5 a10 a12 a14 a16 a17 M6)) ∧ (¬ (a17 = 0) → let x7 : Nat := (M.2.2 79 a3 0); (HX22_add x7 a12 a14 M ∧ let M8 : FM := GX22_add x7 a12 a14 M; HX20_gather_274 a0 a1 a3 a5 a10 a12 a14 a16 a17 M8)))))
theorem gX20_gather_208 (k34 : Nat → Nat → Nat → Int32 → Int32 → Int32 → Int32 → Int64 → FM → Option (Int32 × FM)) (a0 : Nat) (a1 : Nat) (a3 : Nat) (a5 : Int32) (a10 : Int64) (a12 : Int64) (a14 : Int64) (a16 : Int32) (a17 : Int32) (M : FM) (T : Ty M) (n_a3 : fm_is M 29 29 a3 = true) (h : HX20_gather_208 a0 a1 a3 a5 a10 a12 a14 a16 a17 M) : gs (FX20_gather_208 fN k34 a0 a1 a3 a5 a10 a12 a14 a16 a17 M) (GX20_gather_208 a0 a1 a3 a5 a10 a12 a14 a16 a17 M) (kX20_gather k34) (pX20_gather M) := by
  delta FX20_gather_208 BX20_gather_208
  refine gs_fi (fun c0_0 => ?_) (fun c0_0 => ?_)
  · refine gs_b (gX107_number _ _ _ _ (h.1 c0_0).1) (fun K1 => ?_)
    have f2 := (ext_is K1.2 (Nat.zero_lt_succ _) n_a3)
    refine gs_c f2 ?_
    refine gs_b (gX107_number _ _ _ _ (h.1 c0_0).2.1) (fun K3 => ?_)
    have f4 := (ext_is K3.2 (Nat.zero_lt_succ _) (ext_is K1.2 (Nat.zero_lt_succ _) n_a3))
    refine gs_c f4 ?_
    have f5 := (ext_is K3.2 (Nat.zero_lt_succ _) (ext_is K1.2 (Nat.zero_lt_succ _) n_a3))
    exact gs_t (pX20_gather_t (ext_tr K1.2 (ext_dI (ext_tr K3.2 (ext_dL (ext_r _)))))) (gX20_gather_274 k34 _ _ _ _ _ _ _ _ _ _ ⟨K3.1.1, K3.1.2⟩ f5 (h.1 c0_0).2.2)
  · refine gs_fi (fun c6_0 => ?_) (fun c6_0 => ?_)
    · refine gs_c n_a3 ?_
      have f7 := (tN_78 T.1 n_a3)
      refine gs_c f7 ?_
      have f10 := (tN_78 T.1 n_a3)
      refine gs_b (gX22_add _ _ _ _ ⟨T.1, T.2⟩ f10 ((h.2 c0_0).1 c6_0).1) (fun K8 => ?_)
      have f9 := (ext_is K8.2 (Nat.zero_lt_succ _) n_a3)
      exact gs_t (pX20_gather_t K8.2) (gX20_gather_274 k34 _ _ _ _ _ _ _ _ _ _ ⟨K8.1.1, K8.1.2⟩ f9 ((h.2 c0_0).1 c6_0).2)
    · refine gs_c n_a3 ?_
      have f11 := (tN_79 T.1 n_a3)
      refine gs_c f11 ?_
      have f14 := (tN_79 T.1 n_a3)
      refine gs_b (gX22_add _ _ _ _ ⟨T.1, T.2⟩ f14 ((h.2 c0_0).2 c6_0).1) (fun K12 => ?_)
      have f13 := (ext_is K12.2 (Nat.zero_lt_succ _) n_a3)
      exact gs_t (pX20_gather_t K12.2) (gX20_gather_274 k34 _ _ _ _ _ _ _ _ _ _ ⟨K12.1.1, K12.1.2⟩ f13 ((h.2 c0_0).2 c6_0).2)
noncomputable def GX20_gather_206 (M : FM) : (Nat × Nat × Nat × Int32 × Int32 × Int32 × Int32 × Int64 × FM) ⊕ (Int32 × FM) :=
  (.inr ((Int32.ofInt 0), M))
theorem gX20_gather_206 (k34 : Nat → Nat → Nat → Int32 → Int32 → Int32 → Int32 → Int64 → FM → Option (Int32 × FM)) (M : FM) (T : Ty M) : gs (FX20_gather_206 fN k34 M) (GX20_gather_206 M) (kX20_gather k34) (pX20_gather M) := by
  delta FX20_gather_206 BX20_gather_206
  exact gs_z fz_0 ⟨T.1, T.2⟩ (ext_r _) rfl (fun h => h)
noncomputable def GX20_gather_179 (a0 : Nat) (a1 : Nat) (a3 : Nat) (a5 : Int32) (a10 : Int64) (a12 : Int64) (a14 : Int64) (a16 : Int32) (a17 : Int32) (s0 : Int32) (M : FM) : (Nat × Nat × Nat × Int32 × Int32 × Int32 × Int32 × Int64 × FM) ⊕ (Int32 × FM) :=
  fi (s0 = 0) (
    fi ((lg_cmp a14 (Int64.ofInt 0)) ≤ 0) (
      GX20_gather_208 a0 a1 a3 a5 a10 a12 a14 a16 a17 M) (
      let r1 : Int32 × FM := GX19_has a1 a12 a14 M
      fi (r1.1 = 0) (
        GX20_gather_206 r1.2) (
        GX20_gather_208 a0 a1 a3 a5 a10 a12 a14 a16 a17 r1.2))) (
    GX20_gather_206 M)
def HX20_gather_179 (a0 : Nat) (a1 : Nat) (a3 : Nat) (a5 : Int32) (a10 : Int64) (a12 : Int64) (a14 : Int64) (a16 : Int32) (a17 : Int32) (s0 : Int32) (M : FM) : Prop := ((s0 = 0 → (((lg_cmp a14 (Int64.ofInt 0)) ≤ 0 → HX20_gather_208 a0 a1 a3 a5 a10 a12 a14 a16 a17 M) ∧ (¬ ((lg_cmp a14 (Int64.ofInt 0)) ≤ 0) → let r1 : Int32 × FM := GX19_has a1 a12 a14 M; ((r1.1 = 0 → True) ∧ (¬ (r1.1 = 0) → HX20_gather_208 a0 a1 a3 a5 a10 a12 a14 a16 a17 r1.2))))) ∧ (¬ (s0 = 0) → True))
theorem gX20_gather_179 (k34 : Nat → Nat → Nat → Int32 → Int32 → Int32 → Int32 → Int64 → FM → Option (Int32 × FM)) (a0 : Nat) (a1 : Nat) (a3 : Nat) (a5 : Int32) (a10 : Int64) (a12 : Int64) (a14 : Int64) (a16 : Int32) (a17 : Int32) (s0 : Int32) (M : FM) (T : Ty M) (n_a3 : fm_is M 29 29 a3 = true) (n_a1 : fm_is M 76 76 a1 = true) (h : HX20_gather_179 a0 a1 a3 a5 a10 a12 a14 a16 a17 s0 M) : gs (FX20_gather_179 fN k34 a0 a1 a3 a5 a10 a12 a14 a16 a17 s0 M) (GX20_gather_179 a0 a1 a3 a5 a10 a12 a14 a16 a17 s0 M) (kX20_gather k34) (pX20_gather M) := by
  delta FX20_gather_179 BX20_gather_179
  refine gs_fi (fun c0_0 => ?_) (fun c0_0 => ?_)
  · refine gs_fi (fun c1_0 => ?_) (fun c1_0 => ?_)
    · exact gs_t (pX20_gather_t (ext_r _)) (gX20_gather_208 k34 _ _ _ _ _ _ _ _ _ _ ⟨T.1, T.2⟩ n_a3 ((h.1 c0_0).1 c1_0))
    · refine gs_kb (gk_fi (gk_b _ _) gk_0) (gd_c n_a1 (gX19_has _ _ _ _ ⟨T.1, T.2⟩ n_a1 )) (fun K2 => ?_)
      refine gs_fi (fun c3_0 => ?_) (fun c3_0 => ?_)
      · exact gs_t (pX20_gather_t K2.2.1) (gX20_gather_206 k34  _ ⟨K2.1.1, K2.1.2⟩  )
      · have f4 := (ext_is K2.2.1 (Nat.zero_lt_succ _) n_a3)
        exact gs_t (pX20_gather_t K2.2.1) (gX20_gather_208 k34 _ _ _ _ _ _ _ _ _ _ ⟨K2.1.1, K2.1.2⟩ f4 (((h.1 c0_0).2 c1_0).2 c3_0))
  · exact gs_t (pX20_gather_t (ext_r _)) (gX20_gather_206 k34  _ ⟨T.1, T.2⟩  )
noncomputable def GX20_gather_178 (a0 : Nat) (a1 : Nat) (a3 : Nat) (a5 : Int32) (a10 : Int64) (a12 : Int64) (a14 : Int64) (a16 : Int32) (a17 : Int32) (M : FM) : (Nat × Nat × Nat × Int32 × Int32 × Int32 × Int32 × Int64 × FM) ⊕ (Int32 × FM) :=
  GX20_gather_179 a0 a1 a3 a5 a10 a12 a14 a16 a17 (Int32.ofInt 0) M
def HX20_gather_178 (a0 : Nat) (a1 : Nat) (a3 : Nat) (a5 : Int32) (a10 : Int64) (a12 : Int64) (a14 : Int64) (a16 : Int32) (a17 : Int32) (M : FM) : Prop := HX20_gather_179 a0 a1 a3 a5 a10 a12 a14 a16 a17 (Int32.ofInt 0) M
theorem gX20_gather_178 (k34 : Nat → Nat → Nat → Int32 → Int32 → Int32 → Int32 → Int64 → FM → Option (Int32 × FM)) (a0 : Nat) (a1 : Nat) (a3 : Nat) (a5 : Int32) (a10 : Int64) (a12 : Int64) (a14 : Int64) (a16 : Int32) (a17 : Int32) (M : FM) (T : Ty M) (n_a3 : fm_is M 29 29 a3 = true) (n_a1 : fm_is M 76 76 a1 = true) (h : HX20_gather_178 a0 a1 a3 a5 a10 a12 a14 a16 a17 M) : gs (FX20_gather_178 fN k34 a0 a1 a3 a5 a10 a12 a14 a16 a17 M) (GX20_gather_178 a0 a1 a3 a5 a10 a12 a14 a16 a17 M) (kX20_gather k34) (pX20_gather M) := by
  delta FX20_gather_178 BX20_gather_178
  exact gs_t (pX20_gather_t (ext_r _)) (gX20_gather_179 k34 _ _ _ _ _ _ _ _ _ _ _ ⟨T.1, T.2⟩ n_a3 n_a1 h)
noncomputable def GX20_gather_174 (a0 : Nat) (a1 : Nat) (a3 : Nat) (a5 : Int32) (a10 : Int64) (a12 : Int64) (a14 : Int64) (a16 : Int32) (a17 : Int32) (M : FM) : (Nat × Nat × Nat × Int32 × Int32 × Int32 × Int32 × Int64 × FM) ⊕ (Int32 × FM) :=
  GX20_gather_179 a0 a1 a3 a5 a10 a12 a14 a16 a17 (Int32.ofInt 1) M
def HX20_gather_174 (a0 : Nat) (a1 : Nat) (a3 : Nat) (a5 : Int32) (a10 : Int64) (a12 : Int64) (a14 : Int64) (a16 : Int32) (a17 : Int32) (M : FM) : Prop := HX20_gather_179 a0 a1 a3 a5 a10 a12 a14 a16 a17 (Int32.ofInt 1) M
theorem gX20_gather_174 (k34 : Nat → Nat → Nat → Int32 → Int32 → Int32 → Int32 → Int64 → FM → Option (Int32 × FM)) (a0 : Nat) (a1 : Nat) (a3 : Nat) (a5 : Int32) (a10 : Int64) (a12 : Int64) (a14 : Int64) (a16 : Int32) (a17 : Int32) (M : FM) (T : Ty M) (n_a3 : fm_is M 29 29 a3 = true) (n_a1 : fm_is M 76 76 a1 = true) (h : HX20_gather_174 a0 a1 a3 a5 a10 a12 a14 a16 a17 M) : gs (FX20_gather_174 fN k34 a0 a1 a3 a5 a10 a12 a14 a16 a17 M) (GX20_gather_174 a0 a1 a3 a5 a10 a12 a14 a16 a17 M) (kX20_gather k34) (pX20_gather M) := by
  delta FX20_gather_174 BX20_gather_174
  exact gs_t (pX20_gather_t (ext_r _)) (gX20_gather_179 k34 _ _ _ _ _ _ _ _ _ _ _ ⟨T.1, T.2⟩ n_a3 n_a1 h)
noncomputable def GX20_gather_155 (a0 : Nat) (a1 : Nat) (a3 : Nat) (a5 : Int32) (a10 : Int64) (a12 : Int64) (a14 : Int64) (a16 : Int32) (a17 : Int32) (M : FM) : (Nat × Nat × Nat × Int32 × Int32 × Int32 × Int32 × Int64 × FM) ⊕ (Int32 × FM) :=
  fi (a5 = 0) (
    fi (a17 = 0) (
      fi (0 ≤ (lg_cmp a14 (Int64.ofInt 16))) (
        GX20_gather_178 a0 a1 a3 a5 a10 a12 a14 a16 a17 M) (
        GX20_gather_174 a0 a1 a3 a5 a10 a12 a14 a16 a17 M)) (
      GX20_gather_174 a0 a1 a3 a5 a10 a12 a14 a16 a17 M)) (
    GX20_gather_178 a0 a1 a3 a5 a10 a12 a14 a16 a17 M)
def HX20_gather_155 (a0 : Nat) (a1 : Nat) (a3 : Nat) (a5 : Int32) (a10 : Int64) (a12 : Int64) (a14 : Int64) (a16 : Int32) (a17 : Int32) (M : FM) : Prop := ((a5 = 0 → ((a17 = 0 → ((0 ≤ (lg_cmp a14 (Int64.ofInt 16)) → HX20_gather_178 a0 a1 a3 a5 a10 a12 a14 a16 a17 M) ∧ (¬ (0 ≤ (lg_cmp a14 (Int64.ofInt 16))) → HX20_gather_174 a0 a1 a3 a5 a10 a12 a14 a16 a17 M))) ∧ (¬ (a17 = 0) → HX20_gather_174 a0 a1 a3 a5 a10 a12 a14 a16 a17 M))) ∧ (¬ (a5 = 0) → HX20_gather_178 a0 a1 a3 a5 a10 a12 a14 a16 a17 M))
theorem gX20_gather_155 (k34 : Nat → Nat → Nat → Int32 → Int32 → Int32 → Int32 → Int64 → FM → Option (Int32 × FM)) (a0 : Nat) (a1 : Nat) (a3 : Nat) (a5 : Int32) (a10 : Int64) (a12 : Int64) (a14 : Int64) (a16 : Int32) (a17 : Int32) (M : FM) (T : Ty M) (n_a3 : fm_is M 29 29 a3 = true) (n_a1 : fm_is M 76 76 a1 = true) (h : HX20_gather_155 a0 a1 a3 a5 a10 a12 a14 a16 a17 M) : gs (FX20_gather_155 fN k34 a0 a1 a3 a5 a10 a12 a14 a16 a17 M) (GX20_gather_155 a0 a1 a3 a5 a10 a12 a14 a16 a17 M) (kX20_gather k34) (pX20_gather M) := by
  delta FX20_gather_155 BX20_gather_155
  refine gs_fi (fun c0_0 => ?_) (fun c0_0 => ?_)
  · refine gs_fi (fun c1_0 => ?_) (fun c1_0 => ?_)
    · refine gs_fi (fun c2_0 => ?_) (fun c2_0 => ?_)
      · exact gs_t (pX20_gather_t (ext_r _)) (gX20_gather_178 k34 _ _ _ _ _ _ _ _ _ _ ⟨T.1, T.2⟩ n_a3 n_a1 (((h.1 c0_0).1 c1_0).1 c2_0))
      · exact gs_t (pX20_gather_t (ext_r _)) (gX20_gather_174 k34 _ _ _ _ _ _ _ _ _ _ ⟨T.1, T.2⟩ n_a3 n_a1 (((h.1 c0_0).1 c1_0).2 c2_0))
    · exact gs_t (pX20_gather_t (ext_r _)) (gX20_gather_174 k34 _ _ _ _ _ _ _ _ _ _ ⟨T.1, T.2⟩ n_a3 n_a1 ((h.1 c0_0).2 c1_0))
  · exact gs_t (pX20_gather_t (ext_r _)) (gX20_gather_178 k34 _ _ _ _ _ _ _ _ _ _ ⟨T.1, T.2⟩ n_a3 n_a1 (h.2 c0_0))
noncomputable def GX20_gather_136 (a0 : Nat) (a1 : Nat) (a3 : Nat) (a5 : Int32) (a7 : Int32) (a10 : Int64) (a12 : Int64) (a14 : Int64) (a16 : Int32) (s0 : Int32) (M : FM) : (Nat × Nat × Nat × Int32 × Int32 × Int32 × Int32 × Int64 × FM) ⊕ (Int32 × FM) :=
  fi ((a16 &&& (Int32.ofInt 4)) = 0) (
    fi (a7 = 0) (
      GX20_gather_155 a0 a1 a3 a5 a10 a12 a14 a16 s0 M) (
      fi (s0 = 0) (
        GX20_gather_174 a0 a1 a3 a5 a10 a12 a14 a16 s0 M) (
        GX20_gather_155 a0 a1 a3 a5 a10 a12 a14 a16 s0 M))) (
    GX20_gather_174 a0 a1 a3 a5 a10 a12 a14 a16 s0 M)
def HX20_gather_136 (a0 : Nat) (a1 : Nat) (a3 : Nat) (a5 : Int32) (a7 : Int32) (a10 : Int64) (a12 : Int64) (a14 : Int64) (a16 : Int32) (s0 : Int32) (M : FM) : Prop := (((a16 &&& (Int32.ofInt 4)) = 0 → ((a7 = 0 → HX20_gather_155 a0 a1 a3 a5 a10 a12 a14 a16 s0 M) ∧ (¬ (a7 = 0) → ((s0 = 0 → HX20_gather_174 a0 a1 a3 a5 a10 a12 a14 a16 s0 M) ∧ (¬ (s0 = 0) → HX20_gather_155 a0 a1 a3 a5 a10 a12 a14 a16 s0 M))))) ∧ (¬ ((a16 &&& (Int32.ofInt 4)) = 0) → HX20_gather_174 a0 a1 a3 a5 a10 a12 a14 a16 s0 M))
theorem gX20_gather_136 (k34 : Nat → Nat → Nat → Int32 → Int32 → Int32 → Int32 → Int64 → FM → Option (Int32 × FM)) (a0 : Nat) (a1 : Nat) (a3 : Nat) (a5 : Int32) (a7 : Int32) (a10 : Int64) (a12 : Int64) (a14 : Int64) (a16 : Int32) (s0 : Int32) (M : FM) (T : Ty M) (n_a3 : fm_is M 29 29 a3 = true) (n_a1 : fm_is M 76 76 a1 = true) (h : HX20_gather_136 a0 a1 a3 a5 a7 a10 a12 a14 a16 s0 M) : gs (FX20_gather_136 fN k34 a0 a1 a3 a5 a7 a10 a12 a14 a16 s0 M) (GX20_gather_136 a0 a1 a3 a5 a7 a10 a12 a14 a16 s0 M) (kX20_gather k34) (pX20_gather M) := by
  delta FX20_gather_136 BX20_gather_136
  refine gs_fi (fun c0_0 => ?_) (fun c0_0 => ?_)
  · refine gs_fi (fun c1_0 => ?_) (fun c1_0 => ?_)
    · exact gs_t (pX20_gather_t (ext_r _)) (gX20_gather_155 k34 _ _ _ _ _ _ _ _ _ _ ⟨T.1, T.2⟩ n_a3 n_a1 ((h.1 c0_0).1 c1_0))
    · refine gs_fi (fun c2_0 => ?_) (fun c2_0 => ?_)
      · exact gs_t (pX20_gather_t (ext_r _)) (gX20_gather_174 k34 _ _ _ _ _ _ _ _ _ _ ⟨T.1, T.2⟩ n_a3 n_a1 (((h.1 c0_0).2 c1_0).1 c2_0))
      · exact gs_t (pX20_gather_t (ext_r _)) (gX20_gather_155 k34 _ _ _ _ _ _ _ _ _ _ ⟨T.1, T.2⟩ n_a3 n_a1 (((h.1 c0_0).2 c1_0).2 c2_0))
  · exact gs_t (pX20_gather_t (ext_r _)) (gX20_gather_174 k34 _ _ _ _ _ _ _ _ _ _ ⟨T.1, T.2⟩ n_a3 n_a1 (h.2 c0_0))
noncomputable def GX20_gather_85 (M : FM) : (Nat × Nat × Nat × Int32 × Int32 × Int32 × Int32 × Int64 × FM) ⊕ (Int32 × FM) :=
  (.inr ((Int32.ofInt 0), M))
theorem gX20_gather_85 (k34 : Nat → Nat → Nat → Int32 → Int32 → Int32 → Int32 → Int64 → FM → Option (Int32 × FM)) (M : FM) (T : Ty M) : gs (FX20_gather_85 fN k34 M) (GX20_gather_85 M) (kX20_gather k34) (pX20_gather M) := by
  delta FX20_gather_85 BX20_gather_85
  exact gs_z fz_0 ⟨T.1, T.2⟩ (ext_r _) rfl (fun h => h)
noncomputable def GX20_gather_0 (a0 : Nat) (a1 : Nat) (a2 : Int32) (a3 : Nat) (M : FM) : (Nat × Nat × Nat × Int32 × Int32 × Int32 × Int32 × Int64 × FM) ⊕ (Int32 × FM) :=
  let x1 : Nat := (M.2.2 78 a3 0)
  let M2 : FM := GX22_clear x1 M
  let x3 : Nat := (M2.2.2 79 a3 0)
  let M4 : FM := GX22_clear x3 M2
  let M5 : FM := fm_sI M4 80 a3 0 a2
  (.inl (a0, a1, a3, a2, (Int32.ofInt 0), (Int32.ofInt 1), (Int32.ofInt 0), (Int64.ofInt 0), M5))
theorem gX20_gather_0 (k34 : Nat → Nat → Nat → Int32 → Int32 → Int32 → Int32 → Int64 → FM → Option (Int32 × FM)) (a0 : Nat) (a1 : Nat) (a2 : Int32) (a3 : Nat) (M : FM) (T : Ty M) (n_a3 : fm_is M 29 29 a3 = true) : gs (FX20_gather_0 fN k34 a0 a1 a2 a3 M) (GX20_gather_0 a0 a1 a2 a3 M) (kX20_gather k34) (pX20_gather M) := by
  delta FX20_gather_0 BX20_gather_0
  refine gs_c n_a3 ?_
  have f0 := (tN_78 T.1 n_a3)
  refine gs_c f0 ?_
  have f7 := (tN_78 T.1 n_a3)
  refine gs_b (gX22_clear _ _ ⟨T.1, T.2⟩ f7 ) (fun K1 => ?_)
  have f2 := (ext_is K1.2 (Nat.zero_lt_succ _) n_a3)
  refine gs_c f2 ?_
  have f3 := (tN_79 K1.1.1 (ext_is K1.2 (Nat.zero_lt_succ _) n_a3))
  refine gs_c f3 ?_
  have f6 := (tN_79 K1.1.1 (ext_is K1.2 (Nat.zero_lt_succ _) n_a3))
  refine gs_b (gX22_clear _ _ ⟨K1.1.1, K1.1.2⟩ f6 ) (fun K4 => ?_)
  have f5 := (ext_is K4.2 (Nat.zero_lt_succ _) (ext_is K1.2 (Nat.zero_lt_succ _) n_a3))
  refine gs_c f5 ?_
  exact And.intro rfl (And.intro (And.intro K4.1.1 (tyb_sI (f := 80) rfl K4.1.2)) ((ext_tr K1.2 (ext_tr K4.2 (ext_dI (ext_r _))))))
noncomputable def GX20_gather_34 (a0 : Nat) (a1 : Nat) (a3 : Nat) (a4 : Int32) (a5 : Int32) (a6 : Int32) (a7 : Int32) (a8 : Int64) (M : FM) : (Nat × Nat × Nat × Int32 × Int32 × Int32 × Int32 × Int64 × FM) ⊕ (Int32 × FM) :=
  fi (a6 = 0) (
    fi (a7 = 0) (
      GX20_gather_379 M) (
      fi ((lg_cmp a8 (Int64.ofInt 0)) ≤ 0) (
        GX20_gather_379 M) (
        let r1 : Int64 × FM := GX20_answer a0 M
        let r2 : Int32 × FM := GX19_has a1 r1.1 (Int64.ofInt 8) r1.2
        fi (r2.1 = 0) (
          GX20_gather_379 r2.2) (
          let r3 : Int32 × FM := GX19_has a1 ((r2.2.2.1 75 a0 0) + (Int64.ofInt 2)) (Int64.ofInt 2) r2.2
          fi (r3.1 = 0) (
            GX20_gather_379 r3.2) (
            GX20_gather_380 (Int32.ofInt 1) r3.2))))) (
    let x4 : Int64 := ((M.2.1 73 a0 0) + ((Int64.ofInt 16) * a4.toInt64))
    fi ((M.1 71 a0 0) ≤ a4) (
      GX20_gather_85 M) (
      fi (a5 = (M.1 71 a0 0)) (
        GX20_gather_85 M) (
        let r5 : Int32 × FM := GX19_has a1 x4 (Int64.ofInt 16) M
        fi (r5.1 = 0) (
          GX20_gather_85 r5.2) (
          let r6 : Int64 × FM := GX107_number a1 x4 (Int32.ofInt 8) r5.2
          let r7 : Int64 × FM := GX107_number a1 (x4 + (Int64.ofInt 8)) (Int32.ofInt 4) r6.2
          let r8 : Int64 × FM := GX107_number a1 (x4 + (Int64.ofInt 12)) (Int32.ofInt 2) r7.2
          let x9 : Int32 := r8.1.toInt32
          fi ((x9 &&& (Int32.ofInt 2)) = 0) (
            GX20_gather_136 a0 a1 a3 a5 a7 x4 r6.1 r7.1 x9 (Int32.ofInt 0) r8.2) (
            GX20_gather_136 a0 a1 a3 a5 a7 x4 r6.1 r7.1 x9 (Int32.ofInt 1) r8.2)))))
def HX20_gather_34 (a0 : Nat) (a1 : Nat) (a3 : Nat) (a4 : Int32) (a5 : Int32) (a6 : Int32) (a7 : Int32) (a8 : Int64) (M : FM) : Prop := ((a6 = 0 → ((a7 = 0 → True) ∧ (¬ (a7 = 0) → (((lg_cmp a8 (Int64.ofInt 0)) ≤ 0 → True) ∧ (¬ ((lg_cmp a8 (Int64.ofInt 0)) ≤ 0) → (HX20_answer a0 M ∧ True)))))) ∧ (¬ (a6 = 0) → let x4 : Int64 := ((M.2.1 73 a0 0) + ((Int64.ofInt 16) * a4.toInt64)); (((M.1 71 a0 0) ≤ a4 → True) ∧ (¬ ((M.1 71 a0 0) ≤ a4) → ((a5 = (M.1 71 a0 0) → True) ∧ (¬ (a5 = (M.1 71 a0 0)) → let r5 : Int32 × FM := GX19_has a1 x4 (Int64.ofInt 16) M; ((r5.1 = 0 → True) ∧ (¬ (r5.1 = 0) → (HX107_number a1 x4 (Int32.ofInt 8) r5.2 ∧ let r6 : Int64 × FM := GX107_number a1 x4 (Int32.ofInt 8) r5.2; (HX107_number a1 (x4 + (Int64.ofInt 8)) (Int32.ofInt 4) r6.2 ∧ let r7 : Int64 × FM := GX107_number a1 (x4 + (Int64.ofInt 8)) (Int32.ofInt 4) r6.2; (HX107_number a1 (x4 + (Int64.ofInt 12)) (Int32.ofInt 2) r7.2 ∧ let r8 : Int64 × FM := GX107_number a1 (x4 + (Int64.ofInt 12)) (Int32.ofInt 2) r7.2; let x9 : Int32 := r8.1.toInt32; (((x9 &&& (Int32.ofInt 2)) = 0 → HX20_gather_136 a0 a1 a3 a5 a7 x4 r6.1 r7.1 x9 (Int32.ofInt 0) r8.2) ∧ (¬ ((x9 &&& (Int32.ofInt 2)) = 0) → HX20_gather_136 a0 a1 a3 a5 a7 x4 r6.1 r7.1 x9 (Int32.ofInt 1) r8.2)))))))))))))
theorem gX20_gather_34 (k34 : Nat → Nat → Nat → Int32 → Int32 → Int32 → Int32 → Int64 → FM → Option (Int32 × FM)) (a0 : Nat) (a1 : Nat) (a3 : Nat) (a4 : Int32) (a5 : Int32) (a6 : Int32) (a7 : Int32) (a8 : Int64) (M : FM) (T : Ty M) (n_a0 : fm_is M 28 28 a0 = true) (n_a1 : fm_is M 76 76 a1 = true) (n_a3 : fm_is M 29 29 a3 = true) (h : HX20_gather_34 a0 a1 a3 a4 a5 a6 a7 a8 M) : gs (FX20_gather_34 fN k34 a0 a1 a3 a4 a5 a6 a7 a8 M) (GX20_gather_34 a0 a1 a3 a4 a5 a6 a7 a8 M) (kX20_gather k34) (pX20_gather M) := by
  delta FX20_gather_34 BX20_gather_34
  refine gs_fi (fun c0_0 => ?_) (fun c0_0 => ?_)
  · refine gs_fi (fun c1_0 => ?_) (fun c1_0 => ?_)
    · exact gs_t (pX20_gather_t (ext_r _)) (gX20_gather_379 k34  _ ⟨T.1, T.2⟩  )
    · refine gs_fi (fun c2_0 => ?_) (fun c2_0 => ?_)
      · exact gs_t (pX20_gather_t (ext_r _)) (gX20_gather_379 k34  _ ⟨T.1, T.2⟩  )
      · refine gs_c n_a0 ?_
        refine gs_b (gX20_answer _ _ ⟨T.1, T.2⟩ n_a0 (((h.1 c0_0).2 c1_0).2 c2_0).1) (fun K3 => ?_)
        have f4 := (ext_is K3.2 (Nat.zero_lt_succ _) n_a1)
        refine gs_kb (gk_fi (gk_b _ _) gk_0) (gd_c f4 (gX19_has _ _ _ _ ⟨K3.1.1, K3.1.2⟩ f4 )) (fun K5 => ?_)
        refine gs_fi (fun c6_0 => ?_) (fun c6_0 => ?_)
        · exact gs_t (pX20_gather_t (ext_tr K3.2 K5.2.1)) (gX20_gather_379 k34  _ ⟨K5.1.1, K5.1.2⟩  )
        · have f7 := (ext_is K5.2.1 (Nat.zero_lt_succ _) (ext_is K3.2 (Nat.zero_lt_succ _) n_a0))
          refine gs_c f7 ?_
          have f8 := (ext_is K5.2.1 (Nat.zero_lt_succ _) (ext_is K3.2 (Nat.zero_lt_succ _) n_a1))
          refine gs_kb (gk_fi (gk_b _ _) gk_0) (gd_c f8 (gX19_has _ _ _ _ ⟨K5.1.1, K5.1.2⟩ f8 )) (fun K9 => ?_)
          refine gs_fi (fun c10_0 => ?_) (fun c10_0 => ?_)
          · exact gs_t (pX20_gather_t (ext_tr K3.2 (ext_tr K5.2.1 K9.2.1))) (gX20_gather_379 k34  _ ⟨K9.1.1, K9.1.2⟩  )
          · exact gs_t (pX20_gather_t (ext_tr K3.2 (ext_tr K5.2.1 K9.2.1))) (gX20_gather_380 k34 _ _ ⟨K9.1.1, K9.1.2⟩ fz_1 )
  · refine gs_c n_a0 ?_
    refine gs_c n_a0 ?_
    refine gs_fi (fun c11_0 => ?_) (fun c11_0 => ?_)
    · exact gs_t (pX20_gather_t (ext_r _)) (gX20_gather_85 k34  _ ⟨T.1, T.2⟩  )
    · refine gs_c n_a0 ?_
      refine gs_fi (fun c12_0 => ?_) (fun c12_0 => ?_)
      · exact gs_t (pX20_gather_t (ext_r _)) (gX20_gather_85 k34  _ ⟨T.1, T.2⟩  )
      · refine gs_kb (gk_fi (gk_b _ _) gk_0) (gd_c n_a1 (gX19_has _ _ _ _ ⟨T.1, T.2⟩ n_a1 )) (fun K13 => ?_)
        refine gs_fi (fun c14_0 => ?_) (fun c14_0 => ?_)
        · exact gs_t (pX20_gather_t K13.2.1) (gX20_gather_85 k34  _ ⟨K13.1.1, K13.1.2⟩  )
        · refine gs_b (gX107_number _ _ _ _ ((((h.2 c0_0).2 c11_0).2 c12_0).2 c14_0).1) (fun K15 => ?_)
          refine gs_b (gX107_number _ _ _ _ ((((h.2 c0_0).2 c11_0).2 c12_0).2 c14_0).2.1) (fun K16 => ?_)
          refine gs_b (gX107_number _ _ _ _ ((((h.2 c0_0).2 c11_0).2 c12_0).2 c14_0).2.2.1) (fun K17 => ?_)
          refine gs_fi (fun c18_0 => ?_) (fun c18_0 => ?_)
          · have f19 := (ext_is K17.2 (Nat.zero_lt_succ _) (ext_is K16.2 (Nat.zero_lt_succ _) (ext_is K15.2 (Nat.zero_lt_succ _) (ext_is K13.2.1 (Nat.zero_lt_succ _) n_a3))))
            have f20 := (ext_is K17.2 (Nat.zero_lt_succ _) (ext_is K16.2 (Nat.zero_lt_succ _) (ext_is K15.2 (Nat.zero_lt_succ _) (ext_is K13.2.1 (Nat.zero_lt_succ _) n_a1))))
            exact gs_t (pX20_gather_t (ext_tr K13.2.1 (ext_tr K15.2 (ext_tr K16.2 K17.2)))) (gX20_gather_136 k34 _ _ _ _ _ _ _ _ _ _ _ ⟨K17.1.1, K17.1.2⟩ f19 f20 (((((h.2 c0_0).2 c11_0).2 c12_0).2 c14_0).2.2.2.1 c18_0))
          · have f21 := (ext_is K17.2 (Nat.zero_lt_succ _) (ext_is K16.2 (Nat.zero_lt_succ _) (ext_is K15.2 (Nat.zero_lt_succ _) (ext_is K13.2.1 (Nat.zero_lt_succ _) n_a3))))
            have f22 := (ext_is K17.2 (Nat.zero_lt_succ _) (ext_is K16.2 (Nat.zero_lt_succ _) (ext_is K15.2 (Nat.zero_lt_succ _) (ext_is K13.2.1 (Nat.zero_lt_succ _) n_a1))))
            exact gs_t (pX20_gather_t (ext_tr K13.2.1 (ext_tr K15.2 (ext_tr K16.2 K17.2)))) (gX20_gather_136 k34 _ _ _ _ _ _ _ _ _ _ _ ⟨K17.1.1, K17.1.2⟩ f21 f22 (((((h.2 c0_0).2 c11_0).2 c12_0).2 c14_0).2.2.2.2 c18_0))
noncomputable def GX20_gather (a0 : Nat) (a1 : Nat) (a2 : Int32) (a3 : Nat) (M : FM) : Int32 × FM := (FX20_gather fN a0 a1 a2 a3 M).getD (0, M)
def HX20_gather (a0 : Nat) (a1 : Nat) (a2 : Int32) (a3 : Nat) (M : FM) : Prop := ∃ r, FX20_gather fN a0 a1 a2 a3 M = some r ∧ OkZ M r
theorem gX20_gather (a0 : Nat) (a1 : Nat) (a2 : Int32) (a3 : Nat) (M : FM) (h : HX20_gather a0 a1 a2 a3 M) : gd (FX20_gather fN a0 a1 a2 a3 M) (GX20_gather a0 a1 a2 a3 M) (OkZ M) := gd_op h
noncomputable def GX27_run_0 (a0 : Nat) (a1 : Nat) (a2 : Nat) (a3 : Nat) (M : FM) : Int32 × FM :=
  ((Int32.ofInt 0), M)
theorem gX27_run_0 (a0 : Nat) (a1 : Nat) (a2 : Nat) (a3 : Nat) (M : FM) (T : Ty M) : gd (FX27_run_0 a0 a1 a2 a3 M) (GX27_run_0 a0 a1 a2 a3 M) (OkR M) := by
  delta FX27_run_0 BX27_run_0
  exact ⟨rfl, ⟨T.1, T.2⟩, (ext_r _)⟩
noncomputable def GX27_run (a0 : Nat) (a1 : Nat) (a2 : Nat) (a3 : Nat) (M : FM) : Int32 × FM := GX27_run_0 a0 a1 a2 a3 M
theorem gX27_run (a0 : Nat) (a1 : Nat) (a2 : Nat) (a3 : Nat) (M : FM) (T : Ty M) : gd (FX27_run a0 a1 a2 a3 M) (GX27_run a0 a1 a2 a3 M) (OkR M) := gX27_run_0 a0 a1 a2 a3 M T 
noncomputable def GJ5_min_2_11 (s0 : Int64) (M : FM) : Int64 × FM :=
  (s0, M)
theorem gJ5_min_2_11 (s0 : Int64) (M : FM) (T : Ty M) : gd (FJ5_min_2_11 s0 M) (GJ5_min_2_11 s0 M) (OkR M) := by
  delta FJ5_min_2_11 BJ5_min_2_11
  exact ⟨rfl, ⟨T.1, T.2⟩, (ext_r _)⟩
noncomputable def GJ5_min_2_0 (a0 : Int64) (a2 : Int64) (M : FM) : Int64 × FM :=
  fi (0 < (lg_cmp a0 a2)) (
    GJ5_min_2_11 a2 M) (
    GJ5_min_2_11 a0 M)
theorem gJ5_min_2_0 (a0 : Int64) (a2 : Int64) (M : FM) (T : Ty M) : gd (FJ5_min_2_0 a0 a2 M) (GJ5_min_2_0 a0 a2 M) (OkR M) := by
  delta FJ5_min_2_0 BJ5_min_2_0
  refine gd_fi (fun c0_0 => ?_) (fun c0_0 => ?_)
  · exact gd_tR (ext_r _) (gJ5_min_2_11 _ _ ⟨T.1, T.2⟩  )
  · exact gd_tR (ext_r _) (gJ5_min_2_11 _ _ ⟨T.1, T.2⟩  )
noncomputable def GJ5_min_2 (a0 : Int64) (a2 : Int64) (M : FM) : Int64 × FM := GJ5_min_2_0 a0 a2 M
theorem gJ5_min_2 (a0 : Int64) (a2 : Int64) (M : FM) (T : Ty M) : gd (FJ5_min_2 a0 a2 M) (GJ5_min_2 a0 a2 M) (OkR M) := gJ5_min_2_0 a0 a2 M T 
def kX22_next (k0 : Nat → FM → Option (Int64 × FM)) : (Nat × FM) ⊕ (Int64 × FM) → Option (Int64 × FM)
  | .inl (v0, M') => k0 v0 M'
  | .inr (r) => some r
def pX22_next (M : FM) : (Nat × FM) ⊕ (Int64 × FM) → Prop
  | .inl (_, M') => OkV M M'
  | .inr (r) => OkR M r
theorem pX22_next_t {M M1 : FM} (e : Ext M M1) : ∀ y, pX22_next M1 y → pX22_next M y
  | .inl (_, _), h => ⟨h.1, ext_tr e h.2⟩
  | .inr (r), h => ⟨h.1, ext_tr e h.2⟩
noncomputable def GX22_next_0 (a0 : Nat) (M : FM) : (Nat × FM) ⊕ (Int64 × FM) :=
  let x1 : Int32 := (M.1 89 a0 0)
  let x2 : Nat := (M.2.2 86 a0 0)
  fi ((lg_cmp (M.2.1 90 a0 0) (M.2.1 3 x2 x1.toNatClampNeg)) = 0) (
    let M3 : FM := fm_sI M 89 a0 0 ((M.1 89 a0 0) + (Int32.ofInt 1))
    let M4 : FM := fm_sL M3 90 a0 0 (Int64.ofInt 0)
    (.inl (a0, M4))) (
    let x5 : Int32 := (M.1 89 a0 0)
    let x6 : Nat := (M.2.2 85 a0 0)
    let x7 : Int64 := (M.2.1 90 a0 0)
    let M8 : FM := fm_sL M 90 a0 0 (x7 + (Int64.ofInt 1))
    (.inr (((M.2.1 3 x6 x5.toNatClampNeg) + x7), M8)))
def HX22_next_0 (a0 : Nat) (M : FM) : Prop := let x1 : Int32 := (M.1 89 a0 0); let x2 : Nat := (M.2.2 86 a0 0); (fm_in M x2 x1 = true ∧ (((lg_cmp (M.2.1 90 a0 0) (M.2.1 3 x2 x1.toNatClampNeg)) = 0 → True) ∧ (¬ ((lg_cmp (M.2.1 90 a0 0) (M.2.1 3 x2 x1.toNatClampNeg)) = 0) → let x5 : Int32 := (M.1 89 a0 0); let x6 : Nat := (M.2.2 85 a0 0); (fm_in M x6 x5 = true ∧ True))))
theorem gX22_next_0 (k0 : Nat → FM → Option (Int64 × FM)) (a0 : Nat) (M : FM) (T : Ty M) (n_a0 : fm_is M 30 30 a0 = true) (h : HX22_next_0 a0 M) : gs (FX22_next_0 fN k0 a0 M) (GX22_next_0 a0 M) (kX22_next k0) (pX22_next M) := by
  delta FX22_next_0 BX22_next_0
  refine gs_c n_a0 ?_
  refine gs_c n_a0 ?_
  refine gs_c n_a0 ?_
  have f2 := (tN_86 T.1 n_a0)
  refine gs_c ⟨f2, h.1⟩ ?_
  refine gs_fi (fun c0_0 => ?_) (fun c0_0 => ?_)
  · refine gs_c n_a0 ?_
    refine gs_c n_a0 ?_
    refine gs_c n_a0 ?_
    exact And.intro rfl (And.intro (And.intro T.1 (tyb_sI (f := 89) rfl T.2)) ((ext_dI (ext_dL (ext_r _)))))
  · refine gs_c n_a0 ?_
    refine gs_c n_a0 ?_
    have f1 := (tN_85 T.1 n_a0)
    refine gs_c ⟨f1, (h.2.2 c0_0).1⟩ ?_
    refine gs_c n_a0 ?_
    refine gs_c n_a0 ?_
    exact And.intro rfl (And.intro (And.intro T.1 T.2) ((ext_dL (ext_r _))))
noncomputable def GX22_next (a0 : Nat) (M : FM) : Int64 × FM := (FX22_next fN a0 M).getD (0, M)
def HX22_next (a0 : Nat) (M : FM) : Prop := ∃ r, FX22_next fN a0 M = some r ∧ OkR M r
theorem gX22_next (a0 : Nat) (M : FM) (h : HX22_next a0 M) : gd (FX22_next fN a0 M) (GX22_next a0 M) (OkR M) := gd_op h
noncomputable def GX19_put_0 (a0 : Nat) (a1 : Int64) (a3 : Int32) (M : FM) : FM :=
  let x1 : Nat := (M.2.2 222 a0 0)
  let M2 : FM := GX11_store x1 a1 (Int32.ofInt 1) a3.toInt64 M
  M2
def HX19_put_0 (a0 : Nat) (a1 : Int64) (a3 : Int32) (M : FM) : Prop := let x1 : Nat := (M.2.2 222 a0 0); (HX11_store x1 a1 (Int32.ofInt 1) a3.toInt64 M ∧ True)
theorem gX19_put_0 (a0 : Nat) (a1 : Int64) (a3 : Int32) (M : FM) (T : Ty M) (n_a0 : fm_is M 76 76 a0 = true) (h : HX19_put_0 a0 a1 a3 M) : gd (FX19_put_0 fN a0 a1 a3 M) (GX19_put_0 a0 a1 a3 M) (OkV M) := by
  delta FX19_put_0 BX19_put_0
  refine gd_c n_a0 ?_
  have f0 := (tN_222 T.1 n_a0)
  refine gd_c f0 ?_
  have f2 := (tN_222 T.1 n_a0)
  refine gd_b (gX11_store _ _ _ _ _ ⟨T.1, T.2⟩ f2 h.1) (fun K1 => ?_)
  exact ⟨rfl, ⟨K1.1.1, K1.1.2⟩, K1.2⟩
noncomputable def GX19_put (a0 : Nat) (a1 : Int64) (a3 : Int32) (M : FM) : FM := GX19_put_0 a0 a1 a3 M
def HX19_put (a0 : Nat) (a1 : Int64) (a3 : Int32) (M : FM) : Prop := HX19_put_0 a0 a1 a3 M
theorem gX19_put (a0 : Nat) (a1 : Int64) (a3 : Int32) (M : FM) (T : Ty M) (n_a0 : fm_is M 76 76 a0 = true) (h : HX19_put a0 a1 a3 M) : gd (FX19_put fN a0 a1 a3 M) (GX19_put a0 a1 a3 M) (OkV M) := gX19_put_0 a0 a1 a3 M T n_a0 h
def kX28_run (k20 : Nat → Nat → Int64 → Int32 → FM → Option (Int32 × FM)) : (Nat × Nat × Int64 × Int32 × FM) ⊕ (Int32 × FM) → Option (Int32 × FM)
  | .inl (v0, v1, v2, v3, M') => k20 v0 v1 v2 v3 M'
  | .inr (r) => some r
def pX28_run (M : FM) : (Nat × Nat × Int64 × Int32 × FM) ⊕ (Int32 × FM) → Prop
  | .inl (_, _, _, _, M') => OkV M M'
  | .inr (r) => OkR M r
theorem pX28_run_t {M M1 : FM} (e : Ext M M1) : ∀ y, pX28_run M1 y → pX28_run M y
  | .inl (_, _, _, _, _), h => ⟨h.1, ext_tr e h.2⟩
  | .inr (r), h => ⟨h.1, ext_tr e h.2⟩
noncomputable def GX28_run_58 (a1 : Nat) (a3 : Nat) (a4 : Int64) (a6 : Int32) (s0 : Nat) (s1 : Int64) (s2 : Int32) (M : FM) : (Nat × Nat × Int64 × Int32 × FM) ⊕ (Int32 × FM) :=
  let M1 : FM := GX19_put s0 s1 s2 M
  let x2 : Int32 := a6 + (Int32.ofInt 1)
  (.inl (a1, a3, a4, x2, M1))
def HX28_run_58 (a1 : Nat) (a3 : Nat) (a4 : Int64) (a6 : Int32) (s0 : Nat) (s1 : Int64) (s2 : Int32) (M : FM) : Prop := (HX19_put s0 s1 s2 M ∧ True)
theorem gX28_run_58 (k20 : Nat → Nat → Int64 → Int32 → FM → Option (Int32 × FM)) (a1 : Nat) (a3 : Nat) (a4 : Int64) (a6 : Int32) (s0 : Nat) (s1 : Int64) (s2 : Int32) (M : FM) (T : Ty M) (n_s0 : fm_is M 76 76 s0 = true) (h : HX28_run_58 a1 a3 a4 a6 s0 s1 s2 M) : gs (FX28_run_58 fN k20 a1 a3 a4 a6 s0 s1 s2 M) (GX28_run_58 a1 a3 a4 a6 s0 s1 s2 M) (kX28_run k20) (pX28_run M) := by
  delta FX28_run_58 BX28_run_58
  refine gs_kb (gk_fi (gk_b _ _) gk_0) (gd_c n_s0 (gX19_put _ _ _ _ ⟨T.1, T.2⟩ n_s0 h.1)) (fun K0 => ?_)
  exact And.intro rfl (And.intro (And.intro K0.1.1 K0.1.2) K0.2)
noncomputable def GX28_run_0 (a0 : Nat) (a1 : Nat) (a2 : Nat) (a3 : Nat) (M : FM) : (Nat × Nat × Int64 × Int32 × FM) ⊕ (Int32 × FM) :=
  let x1 : Nat := (M.2.2 79 a1 0)
  let r2 : Int64 × FM := GJ5_min_2 (Int64.ofInt 20) ((M.2.1 88 x1 0) - (Int64.ofInt 1)) M
  (.inl (a1, a3, r2.1, (Int32.ofInt 0), r2.2))
theorem gX28_run_0 (k20 : Nat → Nat → Int64 → Int32 → FM → Option (Int32 × FM)) (a0 : Nat) (a1 : Nat) (a2 : Nat) (a3 : Nat) (M : FM) (T : Ty M) (n_a1 : fm_is M 29 29 a1 = true) : gs (FX28_run_0 fN k20 a0 a1 a2 a3 M) (GX28_run_0 a0 a1 a2 a3 M) (kX28_run k20) (pX28_run M) := by
  delta FX28_run_0 BX28_run_0
  refine gs_c n_a1 ?_
  have f0 := (tN_79 T.1 n_a1)
  refine gs_c f0 ?_
  refine gs_b (gJ5_min_2 _ _ _ ⟨T.1, T.2⟩  ) (fun K1 => ?_)
  exact And.intro rfl (And.intro (And.intro K1.1.1 K1.1.2) K1.2)
noncomputable def GX28_run_20 (a1 : Nat) (a3 : Nat) (a4 : Int64) (a6 : Int32) (M : FM) : (Nat × Nat × Int64 × Int32 × FM) ⊕ (Int32 × FM) :=
  fi (0 ≤ (lg_cmp a6.toInt64 a4)) (
    let M1 : FM := fm_sL M 84 a1 0 ((M.2.1 84 a1 0) + a4)
    (.inr ((Int32.ofInt 0), M1))) (
    let x2 : Nat := (M.2.2 79 a1 0)
    let r3 : Int64 × FM := GX22_next x2 M
    let r4 : Int32 × FM := GJ1_length 105 r3.2
    fi (r4.1 ≤ a6) (
      GX28_run_58 a1 a3 a4 a6 a3 r3.1 (Int32.ofInt 0) r4.2) (
      let r5 : Int32 × FM := GJ1_charAt 105 a6 r4.2
      GX28_run_58 a1 a3 a4 a6 a3 r3.1 r5.1 r5.2))
def HX28_run_20 (a1 : Nat) (a3 : Nat) (a4 : Int64) (a6 : Int32) (M : FM) : Prop := ((0 ≤ (lg_cmp a6.toInt64 a4) → True) ∧ (¬ (0 ≤ (lg_cmp a6.toInt64 a4)) → let x2 : Nat := (M.2.2 79 a1 0); (HX22_next x2 M ∧ let r3 : Int64 × FM := GX22_next x2 M; (fm_is r3.2 7 7 105 = true ∧ let r4 : Int32 × FM := GJ1_length 105 r3.2; ((r4.1 ≤ a6 → HX28_run_58 a1 a3 a4 a6 a3 r3.1 (Int32.ofInt 0) r4.2) ∧ (¬ (r4.1 ≤ a6) → (fm_is r4.2 7 7 105 = true ∧ (HJ1_charAt 105 a6 r4.2 ∧ let r5 : Int32 × FM := GJ1_charAt 105 a6 r4.2; HX28_run_58 a1 a3 a4 a6 a3 r3.1 r5.1 r5.2))))))))
theorem gX28_run_20 (k20 : Nat → Nat → Int64 → Int32 → FM → Option (Int32 × FM)) (a1 : Nat) (a3 : Nat) (a4 : Int64) (a6 : Int32) (M : FM) (T : Ty M) (n_a1 : fm_is M 29 29 a1 = true) (n_a3 : fm_is M 76 76 a3 = true) (h : HX28_run_20 a1 a3 a4 a6 M) : gs (FX28_run_20 fN k20 a1 a3 a4 a6 M) (GX28_run_20 a1 a3 a4 a6 M) (kX28_run k20) (pX28_run M) := by
  delta FX28_run_20 BX28_run_20
  refine gs_fi (fun c0_0 => ?_) (fun c0_0 => ?_)
  · refine gs_c n_a1 ?_
    refine gs_c n_a1 ?_
    exact And.intro rfl (And.intro (And.intro T.1 T.2) ((ext_dL (ext_r _))))
  · refine gs_c n_a1 ?_
    have f1 := (tN_79 T.1 n_a1)
    refine gs_c f1 ?_
    refine gs_b (gX22_next _ _ (h.2 c0_0).1) (fun K2 => ?_)
    refine gs_c (h.2 c0_0).2.1 ?_
    refine gs_b (gJ1_length _ _ ⟨K2.1.1, K2.1.2⟩ (h.2 c0_0).2.1 ) (fun K3 => ?_)
    refine gs_fi (fun c4_0 => ?_) (fun c4_0 => ?_)
    · have f5 := (ext_is K3.2 (Nat.zero_lt_succ _) (ext_is K2.2 (Nat.zero_lt_succ _) n_a3))
      exact gs_t (pX28_run_t (ext_tr K2.2 K3.2)) (gX28_run_58 k20 _ _ _ _ _ _ _ _ ⟨K3.1.1, K3.1.2⟩ f5 ((h.2 c0_0).2.2.1 c4_0))
    · refine gs_c ((h.2 c0_0).2.2.2 c4_0).1 ?_
      have f8 := ((h.2 c0_0).2.2.2 c4_0).1
      refine gs_b (gJ1_charAt _ _ _ ⟨K3.1.1, K3.1.2⟩ f8 ((h.2 c0_0).2.2.2 c4_0).2.1) (fun K6 => ?_)
      have f7 := (ext_is K6.2 (Nat.zero_lt_succ _) (ext_is K3.2 (Nat.zero_lt_succ _) (ext_is K2.2 (Nat.zero_lt_succ _) n_a3)))
      exact gs_t (pX28_run_t (ext_tr K2.2 (ext_tr K3.2 K6.2))) (gX28_run_58 k20 _ _ _ _ _ _ _ _ ⟨K6.1.1, K6.1.2⟩ f7 ((h.2 c0_0).2.2.2 c4_0).2.2)
noncomputable def GX28_run (a0 : Nat) (a1 : Nat) (a2 : Nat) (a3 : Nat) (M : FM) : Int32 × FM := (FX28_run fN a0 a1 a2 a3 M).getD (0, M)
def HX28_run (a0 : Nat) (a1 : Nat) (a2 : Nat) (a3 : Nat) (M : FM) : Prop := ∃ r, FX28_run fN a0 a1 a2 a3 M = some r ∧ OkR M r
theorem gX28_run (a0 : Nat) (a1 : Nat) (a2 : Nat) (a3 : Nat) (M : FM) (h : HX28_run a0 a1 a2 a3 M) : gd (FX28_run fN a0 a1 a2 a3 M) (GX28_run a0 a1 a2 a3 M) (OkR M) := gd_op h
noncomputable def GX23_has_51 (s0 : Int32) (M : FM) : Int32 × FM :=
  (s0, M)
theorem gX23_has_51 (s0 : Int32) (M : FM) (T : Ty M) (z_s0 : s0 = 0 ∨ s0 = 1) : gd (FX23_has_51 s0 M) (GX23_has_51 s0 M) (OkZ M) := by
  delta FX23_has_51 BX23_has_51
  exact gd_z z_s0 ⟨T.1, T.2⟩ (ext_r _) rfl
noncomputable def GX23_has_50 (M : FM) : Int32 × FM :=
  GX23_has_51 (Int32.ofInt 0) M
theorem gX23_has_50 (M : FM) (T : Ty M) : gd (FX23_has_50 M) (GX23_has_50 M) (OkZ M) := by
  delta FX23_has_50 BX23_has_50
  exact gd_tZ (ext_r _) (gX23_has_51 _ _ ⟨T.1, T.2⟩ fz_0 )
noncomputable def GX23_has_0 (a0 : Nat) (a1 : Int64) (a3 : Int64) (M : FM) : Int32 × FM :=
  fi ((lg_cmp a3 (Int64.ofInt 0)) ≤ 0) (
    GX23_has_50 M) (
    fi (0 < (lg_cmp a3 (Int64.ofInt 32768))) (
      GX23_has_50 M) (
      fi ((lg_cmp (a3 - a3 / (Int64.ofInt 512) * (Int64.ofInt 512)) (Int64.ofInt 0)) = 0) (
        fi ((lg_cmp a1 (Int64.ofInt 0)) < 0) (
          GX23_has_50 M) (
          fi (0 < (lg_cmp a1 ((M.1 68 a0 0).toInt64 - (a3 / (Int64.ofInt 512))))) (
            GX23_has_50 M) (
            GX23_has_51 (Int32.ofInt 1) M))) (
        GX23_has_50 M)))
theorem gX23_has_0 (a0 : Nat) (a1 : Int64) (a3 : Int64) (M : FM) (T : Ty M) (n_a0 : fm_is M 23 23 a0 = true) : gd (FX23_has_0 a0 a1 a3 M) (GX23_has_0 a0 a1 a3 M) (OkZ M) := by
  delta FX23_has_0 BX23_has_0
  refine gd_fi (fun c0_0 => ?_) (fun c0_0 => ?_)
  · exact gd_tZ (ext_r _) (gX23_has_50  _ ⟨T.1, T.2⟩  )
  · refine gd_fi (fun c1_0 => ?_) (fun c1_0 => ?_)
    · exact gd_tZ (ext_r _) (gX23_has_50  _ ⟨T.1, T.2⟩  )
    · refine gd_n (by decide) ?_
      refine gd_fi (fun c2_0 => ?_) (fun c2_0 => ?_)
      · refine gd_fi (fun c3_0 => ?_) (fun c3_0 => ?_)
        · exact gd_tZ (ext_r _) (gX23_has_50  _ ⟨T.1, T.2⟩  )
        · refine gd_c n_a0 ?_
          refine gd_n (by decide) ?_
          refine gd_fi (fun c4_0 => ?_) (fun c4_0 => ?_)
          · exact gd_tZ (ext_r _) (gX23_has_50  _ ⟨T.1, T.2⟩  )
          · exact gd_tZ (ext_r _) (gX23_has_51 _ _ ⟨T.1, T.2⟩ fz_1 )
      · exact gd_tZ (ext_r _) (gX23_has_50  _ ⟨T.1, T.2⟩  )
noncomputable def GX23_has (a0 : Nat) (a1 : Int64) (a3 : Int64) (M : FM) : Int32 × FM := GX23_has_0 a0 a1 a3 M
theorem gX23_has (a0 : Nat) (a1 : Int64) (a3 : Int64) (M : FM) (T : Ty M) (n_a0 : fm_is M 23 23 a0 = true) : gd (FX23_has a0 a1 a3 M) (GX23_has a0 a1 a3 M) (OkZ M) := gX23_has_0 a0 a1 a3 M T n_a0 
noncomputable def GX23_get_0 (a0 : Nat) (a1 : Int32) (M : FM) : Int32 × FM :=
  let x1 : Int32 := (a1 >>> ((Int32.ofInt 3) &&& 31))
  let x2 : Nat := (M.2.2 69 a0 0)
  (((((M.2.1 3 x2 x1.toNatClampNeg).toUInt64 >>> (((Int32.ofInt 8) * (a1 &&& (Int32.ofInt 7))).toInt64.toUInt64 &&& Int64.toUInt64 63)).toInt64).toInt32 &&& (Int32.ofInt 255)), M)
def HX23_get_0 (a0 : Nat) (a1 : Int32) (M : FM) : Prop := let x1 : Int32 := (a1 >>> ((Int32.ofInt 3) &&& 31)); let x2 : Nat := (M.2.2 69 a0 0); (fm_in M x2 x1 = true ∧ True)
theorem gX23_get_0 (a0 : Nat) (a1 : Int32) (M : FM) (T : Ty M) (n_a0 : fm_is M 23 23 a0 = true) (h : HX23_get_0 a0 a1 M) : gd (FX23_get_0 a0 a1 M) (GX23_get_0 a0 a1 M) (OkR M) := by
  delta FX23_get_0 BX23_get_0
  refine gd_c n_a0 ?_
  have f0 := (tN_69 T.1 n_a0)
  refine gd_c ⟨f0, h.1⟩ ?_
  exact ⟨rfl, ⟨T.1, T.2⟩, (ext_r _)⟩
noncomputable def GX23_get (a0 : Nat) (a1 : Int32) (M : FM) : Int32 × FM := GX23_get_0 a0 a1 M
def HX23_get (a0 : Nat) (a1 : Int32) (M : FM) : Prop := HX23_get_0 a0 a1 M
theorem gX23_get (a0 : Nat) (a1 : Int32) (M : FM) (T : Ty M) (n_a0 : fm_is M 23 23 a0 = true) (h : HX23_get a0 a1 M) : gd (FX23_get a0 a1 M) (GX23_get a0 a1 M) (OkR M) := gX23_get_0 a0 a1 M T n_a0 h
def kX25_run (k40 : Nat → Nat → Nat → Int64 → Int32 → Int32 → FM → Option (Int32 × FM)) : (Nat × Nat × Nat × Int64 × Int32 × Int32 × FM) ⊕ (Int32 × FM) → Option (Int32 × FM)
  | .inl (v0, v1, v2, v3, v4, v5, M') => k40 v0 v1 v2 v3 v4 v5 M'
  | .inr (r) => some r
def pX25_run (M : FM) : (Nat × Nat × Nat × Int64 × Int32 × Int32 × FM) ⊕ (Int32 × FM) → Prop
  | .inl (_, _, _, _, _, _, M') => OkV M M'
  | .inr (r) => OkR M r
theorem pX25_run_t {M M1 : FM} (e : Ext M M1) : ∀ y, pX25_run M1 y → pX25_run M y
  | .inl (_, _, _, _, _, _, _), h => ⟨h.1, ext_tr e h.2⟩
  | .inr (r), h => ⟨h.1, ext_tr e h.2⟩
noncomputable def GX25_run_0 (a0 : Nat) (a1 : Nat) (a2 : Nat) (a3 : Nat) (M : FM) : (Nat × Nat × Nat × Int64 × Int32 × Int32 × FM) ⊕ (Int32 × FM) :=
  let x1 : Nat := (M.2.2 79 a1 0)
  let x2 : Int64 := ((M.2.1 88 x1 0) - (Int64.ofInt 1))
  let r3 : Int32 × FM := GX23_has a2 (M.2.1 82 a1 0) x2 M
  fi (r3.1 = 0) (
    (.inr ((Int32.ofInt 1), r3.2))) (
    let x4 : Int32 := ((r3.2.2.1 82 a1 0).toInt32 * (Int32.ofInt 512))
    (.inl (a1, a2, a3, x2, x4, (Int32.ofInt 0), r3.2)))
theorem gX25_run_0 (k40 : Nat → Nat → Nat → Int64 → Int32 → Int32 → FM → Option (Int32 × FM)) (a0 : Nat) (a1 : Nat) (a2 : Nat) (a3 : Nat) (M : FM) (T : Ty M) (n_a1 : fm_is M 29 29 a1 = true) (n_a2 : fm_is M 23 23 a2 = true) : gs (FX25_run_0 fN k40 a0 a1 a2 a3 M) (GX25_run_0 a0 a1 a2 a3 M) (kX25_run k40) (pX25_run M) := by
  delta FX25_run_0 BX25_run_0
  refine gs_c n_a1 ?_
  have f0 := (tN_79 T.1 n_a1)
  refine gs_c f0 ?_
  refine gs_c n_a1 ?_
  refine gs_c n_a2 ?_
  refine gs_b (gX23_has _ _ _ _ ⟨T.1, T.2⟩ n_a2 ) (fun K1 => ?_)
  refine gs_fi (fun c2_0 => ?_) (fun c2_0 => ?_)
  · exact And.intro rfl (And.intro (And.intro K1.1.1 K1.1.2) K1.2.1)
  · have f3 := (ext_is K1.2.1 (Nat.zero_lt_succ _) n_a1)
    refine gs_c f3 ?_
    exact And.intro rfl (And.intro (And.intro K1.1.1 K1.1.2) K1.2.1)
noncomputable def GX25_run_40 (a1 : Nat) (a2 : Nat) (a3 : Nat) (a4 : Int64) (a6 : Int32) (a7 : Int32) (M : FM) : (Nat × Nat × Nat × Int64 × Int32 × Int32 × FM) ⊕ (Int32 × FM) :=
  fi (0 ≤ (lg_cmp a7.toInt64 a4)) (
    let M1 : FM := fm_sL M 84 a1 0 ((M.2.1 84 a1 0) + a4)
    (.inr ((Int32.ofInt 0), M1))) (
    let x2 : Nat := (M.2.2 79 a1 0)
    let r3 : Int64 × FM := GX22_next x2 M
    let r4 : Int32 × FM := GX23_get a2 (a6 + a7) r3.2
    let M5 : FM := GX19_put a3 r3.1 r4.1 r4.2
    let x6 : Int32 := a7 + (Int32.ofInt 1)
    (.inl (a1, a2, a3, a4, a6, x6, M5)))
def HX25_run_40 (a1 : Nat) (a2 : Nat) (a3 : Nat) (a4 : Int64) (a6 : Int32) (a7 : Int32) (M : FM) : Prop := ((0 ≤ (lg_cmp a7.toInt64 a4) → True) ∧ (¬ (0 ≤ (lg_cmp a7.toInt64 a4)) → let x2 : Nat := (M.2.2 79 a1 0); (HX22_next x2 M ∧ let r3 : Int64 × FM := GX22_next x2 M; (HX23_get a2 (a6 + a7) r3.2 ∧ let r4 : Int32 × FM := GX23_get a2 (a6 + a7) r3.2; (HX19_put a3 r3.1 r4.1 r4.2 ∧ True)))))
theorem gX25_run_40 (k40 : Nat → Nat → Nat → Int64 → Int32 → Int32 → FM → Option (Int32 × FM)) (a1 : Nat) (a2 : Nat) (a3 : Nat) (a4 : Int64) (a6 : Int32) (a7 : Int32) (M : FM) (T : Ty M) (n_a1 : fm_is M 29 29 a1 = true) (n_a2 : fm_is M 23 23 a2 = true) (n_a3 : fm_is M 76 76 a3 = true) (h : HX25_run_40 a1 a2 a3 a4 a6 a7 M) : gs (FX25_run_40 fN k40 a1 a2 a3 a4 a6 a7 M) (GX25_run_40 a1 a2 a3 a4 a6 a7 M) (kX25_run k40) (pX25_run M) := by
  delta FX25_run_40 BX25_run_40
  refine gs_fi (fun c0_0 => ?_) (fun c0_0 => ?_)
  · refine gs_c n_a1 ?_
    refine gs_c n_a1 ?_
    exact And.intro rfl (And.intro (And.intro T.1 T.2) ((ext_dL (ext_r _))))
  · refine gs_c n_a1 ?_
    have f1 := (tN_79 T.1 n_a1)
    refine gs_c f1 ?_
    refine gs_b (gX22_next _ _ (h.2 c0_0).1) (fun K2 => ?_)
    have f3 := (ext_is K2.2 (Nat.zero_lt_succ _) n_a2)
    refine gs_c f3 ?_
    have f7 := (ext_is K2.2 (Nat.zero_lt_succ _) n_a2)
    refine gs_b (gX23_get _ _ _ ⟨K2.1.1, K2.1.2⟩ f7 (h.2 c0_0).2.1) (fun K4 => ?_)
    have f5 := (ext_is K4.2 (Nat.zero_lt_succ _) (ext_is K2.2 (Nat.zero_lt_succ _) n_a3))
    refine gs_kb (gk_fi (gk_b _ _) gk_0) (gd_c f5 (gX19_put _ _ _ _ ⟨K4.1.1, K4.1.2⟩ f5 (h.2 c0_0).2.2.1)) (fun K6 => ?_)
    exact And.intro rfl (And.intro (And.intro K6.1.1 K6.1.2) ((ext_tr K2.2 (ext_tr K4.2 K6.2))))
noncomputable def GX25_run (a0 : Nat) (a1 : Nat) (a2 : Nat) (a3 : Nat) (M : FM) : Int32 × FM := (FX25_run fN a0 a1 a2 a3 M).getD (0, M)
def HX25_run (a0 : Nat) (a1 : Nat) (a2 : Nat) (a3 : Nat) (M : FM) : Prop := ∃ r, FX25_run fN a0 a1 a2 a3 M = some r ∧ OkR M r
theorem gX25_run (a0 : Nat) (a1 : Nat) (a2 : Nat) (a3 : Nat) (M : FM) (h : HX25_run a0 a1 a2 a3 M) : gd (FX25_run fN a0 a1 a2 a3 M) (GX25_run a0 a1 a2 a3 M) (OkR M) := gd_op h
noncomputable def GX23_put_0 (a0 : Nat) (a1 : Int32) (a2 : Int32) (M : FM) : FM :=
  let x1 : Int32 := ((Int32.ofInt 8) * (a1 &&& (Int32.ofInt 7)))
  let x2 : Int32 := (a1 >>> ((Int32.ofInt 3) &&& 31))
  let x3 : Nat := (M.2.2 69 a0 0)
  let x4 : Int32 := (a1 >>> ((Int32.ofInt 3) &&& 31))
  let x5 : Nat := (M.2.2 69 a0 0)
  let M6 : FM := fm_sL M 3 x5 x4.toNatClampNeg (((M.2.1 3 x3 x2.toNatClampNeg) &&& (((Int64.ofInt 255) <<< (x1.toInt64 &&& 63)) ^^^ (Int64.ofInt (-1)))) ||| ((a2.toInt64 &&& (Int64.ofInt 255)) <<< (x1.toInt64 &&& 63)))
  M6
def HX23_put_0 (a0 : Nat) (a1 : Int32) (a2 : Int32) (M : FM) : Prop := let x1 : Int32 := ((Int32.ofInt 8) * (a1 &&& (Int32.ofInt 7))); let x2 : Int32 := (a1 >>> ((Int32.ofInt 3) &&& 31)); let x3 : Nat := (M.2.2 69 a0 0); (fm_in M x3 x2 = true ∧ let x4 : Int32 := (a1 >>> ((Int32.ofInt 3) &&& 31)); let x5 : Nat := (M.2.2 69 a0 0); (fm_in M x5 x4 = true ∧ True))
theorem gX23_put_0 (a0 : Nat) (a1 : Int32) (a2 : Int32) (M : FM) (T : Ty M) (n_a0 : fm_is M 23 23 a0 = true) (h : HX23_put_0 a0 a1 a2 M) : gd (FX23_put_0 a0 a1 a2 M) (GX23_put_0 a0 a1 a2 M) (OkV M) := by
  delta FX23_put_0 BX23_put_0
  refine gd_c n_a0 ?_
  refine gd_c n_a0 ?_
  have f1 := (tN_69 T.1 n_a0)
  refine gd_c ⟨f1, h.1⟩ ?_
  have f0 := (tN_69 T.1 n_a0)
  refine gd_c ⟨f0, h.2.1⟩ ?_
  exact ⟨rfl, ⟨T.1, T.2⟩, (ext_dL (ext_r _))⟩
noncomputable def GX23_put (a0 : Nat) (a1 : Int32) (a2 : Int32) (M : FM) : FM := GX23_put_0 a0 a1 a2 M
def HX23_put (a0 : Nat) (a1 : Int32) (a2 : Int32) (M : FM) : Prop := HX23_put_0 a0 a1 a2 M
theorem gX23_put (a0 : Nat) (a1 : Int32) (a2 : Int32) (M : FM) (T : Ty M) (n_a0 : fm_is M 23 23 a0 = true) (h : HX23_put a0 a1 a2 M) : gd (FX23_put a0 a1 a2 M) (GX23_put a0 a1 a2 M) (OkV M) := gX23_put_0 a0 a1 a2 M T n_a0 h
def kX26_run (k38 : Nat → Nat → Nat → Int64 → Int32 → Int32 → FM → Option (Int32 × FM)) : (Nat × Nat × Nat × Int64 × Int32 × Int32 × FM) ⊕ (Int32 × FM) → Option (Int32 × FM)
  | .inl (v0, v1, v2, v3, v4, v5, M') => k38 v0 v1 v2 v3 v4 v5 M'
  | .inr (r) => some r
def pX26_run (M : FM) : (Nat × Nat × Nat × Int64 × Int32 × Int32 × FM) ⊕ (Int32 × FM) → Prop
  | .inl (_, _, _, _, _, _, M') => OkV M M'
  | .inr (r) => OkR M r
theorem pX26_run_t {M M1 : FM} (e : Ext M M1) : ∀ y, pX26_run M1 y → pX26_run M y
  | .inl (_, _, _, _, _, _, _), h => ⟨h.1, ext_tr e h.2⟩
  | .inr (r), h => ⟨h.1, ext_tr e h.2⟩
noncomputable def GX26_run_0 (a0 : Nat) (a1 : Nat) (a2 : Nat) (a3 : Nat) (M : FM) : (Nat × Nat × Nat × Int64 × Int32 × Int32 × FM) ⊕ (Int32 × FM) :=
  let x1 : Nat := (M.2.2 78 a1 0)
  let x2 : Int64 := (M.2.1 88 x1 0)
  let r3 : Int32 × FM := GX23_has a2 (M.2.1 82 a1 0) x2 M
  fi (r3.1 = 0) (
    (.inr ((Int32.ofInt 1), r3.2))) (
    let x4 : Int32 := ((r3.2.2.1 82 a1 0).toInt32 * (Int32.ofInt 512))
    (.inl (a1, a2, a3, x2, x4, (Int32.ofInt 0), r3.2)))
theorem gX26_run_0 (k38 : Nat → Nat → Nat → Int64 → Int32 → Int32 → FM → Option (Int32 × FM)) (a0 : Nat) (a1 : Nat) (a2 : Nat) (a3 : Nat) (M : FM) (T : Ty M) (n_a1 : fm_is M 29 29 a1 = true) (n_a2 : fm_is M 23 23 a2 = true) : gs (FX26_run_0 fN k38 a0 a1 a2 a3 M) (GX26_run_0 a0 a1 a2 a3 M) (kX26_run k38) (pX26_run M) := by
  delta FX26_run_0 BX26_run_0
  refine gs_c n_a1 ?_
  have f0 := (tN_78 T.1 n_a1)
  refine gs_c f0 ?_
  refine gs_c n_a1 ?_
  refine gs_c n_a2 ?_
  refine gs_b (gX23_has _ _ _ _ ⟨T.1, T.2⟩ n_a2 ) (fun K1 => ?_)
  refine gs_fi (fun c2_0 => ?_) (fun c2_0 => ?_)
  · exact And.intro rfl (And.intro (And.intro K1.1.1 K1.1.2) K1.2.1)
  · have f3 := (ext_is K1.2.1 (Nat.zero_lt_succ _) n_a1)
    refine gs_c f3 ?_
    exact And.intro rfl (And.intro (And.intro K1.1.1 K1.1.2) K1.2.1)
noncomputable def GX26_run_38 (a1 : Nat) (a2 : Nat) (a3 : Nat) (a4 : Int64) (a6 : Int32) (a7 : Int32) (M : FM) : (Nat × Nat × Nat × Int64 × Int32 × Int32 × FM) ⊕ (Int32 × FM) :=
  fi (0 ≤ (lg_cmp a7.toInt64 a4)) (
    let M1 : FM := fm_sI M 70 a2 0 ((M.1 70 a2 0) + (a4.toInt32 / (Int32.ofInt 512)))
    (.inr ((Int32.ofInt 0), M1))) (
    let x2 : Nat := (M.2.2 78 a1 0)
    let r3 : Int64 × FM := GX22_next x2 M
    let r4 : Int32 × FM := GX19_get a3 r3.1 r3.2
    let M5 : FM := GX23_put a2 (a6 + a7) r4.1 r4.2
    let x6 : Int32 := a7 + (Int32.ofInt 1)
    (.inl (a1, a2, a3, a4, a6, x6, M5)))
def HX26_run_38 (a1 : Nat) (a2 : Nat) (a3 : Nat) (a4 : Int64) (a6 : Int32) (a7 : Int32) (M : FM) : Prop := ((0 ≤ (lg_cmp a7.toInt64 a4) → True) ∧ (¬ (0 ≤ (lg_cmp a7.toInt64 a4)) → let x2 : Nat := (M.2.2 78 a1 0); (HX22_next x2 M ∧ let r3 : Int64 × FM := GX22_next x2 M; (HX19_get a3 r3.1 r3.2 ∧ let r4 : Int32 × FM := GX19_get a3 r3.1 r3.2; (HX23_put a2 (a6 + a7) r4.1 r4.2 ∧ True)))))
theorem gX26_run_38 (k38 : Nat → Nat → Nat → Int64 → Int32 → Int32 → FM → Option (Int32 × FM)) (a1 : Nat) (a2 : Nat) (a3 : Nat) (a4 : Int64) (a6 : Int32) (a7 : Int32) (M : FM) (T : Ty M) (n_a2 : fm_is M 23 23 a2 = true) (n_a1 : fm_is M 29 29 a1 = true) (n_a3 : fm_is M 76 76 a3 = true) (h : HX26_run_38 a1 a2 a3 a4 a6 a7 M) : gs (FX26_run_38 fN k38 a1 a2 a3 a4 a6 a7 M) (GX26_run_38 a1 a2 a3 a4 a6 a7 M) (kX26_run k38) (pX26_run M) := by
  delta FX26_run_38 BX26_run_38
  refine gs_fi (fun c0_0 => ?_) (fun c0_0 => ?_)
  · refine gs_c n_a2 ?_
    refine gs_n (by decide) ?_
    refine gs_c n_a2 ?_
    exact And.intro rfl (And.intro (And.intro T.1 (tyb_sI (f := 70) rfl T.2)) ((ext_dI (ext_r _))))
  · refine gs_c n_a1 ?_
    have f1 := (tN_78 T.1 n_a1)
    refine gs_c f1 ?_
    refine gs_b (gX22_next _ _ (h.2 c0_0).1) (fun K2 => ?_)
    have f3 := (ext_is K2.2 (Nat.zero_lt_succ _) n_a3)
    refine gs_kb (gk_fi (gk_b _ _) gk_0) (gd_c f3 (gX19_get _ _ _ ⟨K2.1.1, K2.1.2⟩ f3 (h.2 c0_0).2.1)) (fun K4 => ?_)
    have f5 := (ext_is K4.2 (Nat.zero_lt_succ _) (ext_is K2.2 (Nat.zero_lt_succ _) n_a2))
    refine gs_c f5 ?_
    have f7 := (ext_is K4.2 (Nat.zero_lt_succ _) (ext_is K2.2 (Nat.zero_lt_succ _) n_a2))
    refine gs_b (gX23_put _ _ _ _ ⟨K4.1.1, K4.1.2⟩ f7 (h.2 c0_0).2.2.1) (fun K6 => ?_)
    exact And.intro rfl (And.intro (And.intro K6.1.1 K6.1.2) ((ext_tr K2.2 (ext_tr K4.2 K6.2))))
noncomputable def GX26_run (a0 : Nat) (a1 : Nat) (a2 : Nat) (a3 : Nat) (M : FM) : Int32 × FM := (FX26_run fN a0 a1 a2 a3 M).getD (0, M)
def HX26_run (a0 : Nat) (a1 : Nat) (a2 : Nat) (a3 : Nat) (M : FM) : Prop := ∃ r, FX26_run fN a0 a1 a2 a3 M = some r ∧ OkR M r
theorem gX26_run (a0 : Nat) (a1 : Nat) (a2 : Nat) (a3 : Nat) (M : FM) (h : HX26_run a0 a1 a2 a3 M) : gd (FX26_run fN a0 a1 a2 a3 M) (GX26_run a0 a1 a2 a3 M) (OkR M) := gd_op h
def kX107_putNumber (k3 : Nat → Int64 → Int32 → Int64 → Int32 → FM → Option (FM)) : (Nat × Int64 × Int32 × Int64 × Int32 × FM) ⊕ (FM) → Option (FM)
  | .inl (v0, v1, v2, v3, v4, M') => k3 v0 v1 v2 v3 v4 M'
  | .inr (r) => some r
def pX107_putNumber (M : FM) : (Nat × Int64 × Int32 × Int64 × Int32 × FM) ⊕ (FM) → Prop
  | .inl (_, _, _, _, _, M') => OkV M M'
  | .inr (r) => OkV M r
theorem pX107_putNumber_t {M M1 : FM} (e : Ext M M1) : ∀ y, pX107_putNumber M1 y → pX107_putNumber M y
  | .inl (_, _, _, _, _, _), h => ⟨h.1, ext_tr e h.2⟩
  | .inr (r), h => ⟨h.1, ext_tr e h.2⟩
noncomputable def GX107_putNumber_0 (a0 : Nat) (a1 : Int64) (a3 : Int32) (a4 : Int64) (M : FM) : (Nat × Int64 × Int32 × Int64 × Int32 × FM) ⊕ (FM) :=
  (.inl (a0, a1, a3, a4, (Int32.ofInt 0), M))
theorem gX107_putNumber_0 (k3 : Nat → Int64 → Int32 → Int64 → Int32 → FM → Option (FM)) (a0 : Nat) (a1 : Int64) (a3 : Int32) (a4 : Int64) (M : FM) (T : Ty M) : gs (FX107_putNumber_0 fN k3 a0 a1 a3 a4 M) (GX107_putNumber_0 a0 a1 a3 a4 M) (kX107_putNumber k3) (pX107_putNumber M) := by
  delta FX107_putNumber_0 BX107_putNumber_0
  exact And.intro rfl (And.intro (And.intro T.1 T.2) ((ext_r _)))
noncomputable def GX107_putNumber_3 (a0 : Nat) (a1 : Int64) (a3 : Int32) (a4 : Int64) (a6 : Int32) (M : FM) : (Nat × Int64 × Int32 × Int64 × Int32 × FM) ⊕ (FM) :=
  fi (a3 ≤ a6) (
    (.inr M)) (
    let M1 : FM := GX19_put a0 (a1 + a6.toInt64) (((a4.toUInt64 >>> (((Int32.ofInt 8) * a6).toInt64.toUInt64 &&& Int64.toUInt64 63)).toInt64).toInt32 &&& (Int32.ofInt 255)) M
    let x2 : Int32 := a6 + (Int32.ofInt 1)
    (.inl (a0, a1, a3, a4, x2, M1)))
def HX107_putNumber_3 (a0 : Nat) (a1 : Int64) (a3 : Int32) (a4 : Int64) (a6 : Int32) (M : FM) : Prop := ((a3 ≤ a6 → True) ∧ (¬ (a3 ≤ a6) → (HX19_put a0 (a1 + a6.toInt64) (((a4.toUInt64 >>> (((Int32.ofInt 8) * a6).toInt64.toUInt64 &&& Int64.toUInt64 63)).toInt64).toInt32 &&& (Int32.ofInt 255)) M ∧ True)))
theorem gX107_putNumber_3 (k3 : Nat → Int64 → Int32 → Int64 → Int32 → FM → Option (FM)) (a0 : Nat) (a1 : Int64) (a3 : Int32) (a4 : Int64) (a6 : Int32) (M : FM) (T : Ty M) (n_a0 : fm_is M 76 76 a0 = true) (h : HX107_putNumber_3 a0 a1 a3 a4 a6 M) : gs (FX107_putNumber_3 fN k3 a0 a1 a3 a4 a6 M) (GX107_putNumber_3 a0 a1 a3 a4 a6 M) (kX107_putNumber k3) (pX107_putNumber M) := by
  delta FX107_putNumber_3 BX107_putNumber_3
  refine gs_fi (fun c0_0 => ?_) (fun c0_0 => ?_)
  · exact And.intro rfl (And.intro (And.intro T.1 T.2) ((ext_r _)))
  · refine gs_kb (gk_fi (gk_b _ _) gk_0) (gd_c n_a0 (gX19_put _ _ _ _ ⟨T.1, T.2⟩ n_a0 (h.2 c0_0).1)) (fun K1 => ?_)
    exact And.intro rfl (And.intro (And.intro K1.1.1 K1.1.2) K1.2)
noncomputable def GX107_putNumber (a0 : Nat) (a1 : Int64) (a2 : Int32) (a3 : Int64) (M : FM) : FM := (FX107_putNumber fN a0 a1 a2 a3 M).getD M
def HX107_putNumber (a0 : Nat) (a1 : Int64) (a2 : Int32) (a3 : Int64) (M : FM) : Prop := ∃ r, FX107_putNumber fN a0 a1 a2 a3 M = some r ∧ OkV M r
theorem gX107_putNumber (a0 : Nat) (a1 : Int64) (a2 : Int32) (a3 : Int64) (M : FM) (h : HX107_putNumber a0 a1 a2 a3 M) : gd (FX107_putNumber fN a0 a1 a2 a3 M) (GX107_putNumber a0 a1 a2 a3 M) (OkV M) := gd_op h
noncomputable def GX18_serve_132 (a0 : Nat) (a2 : Nat) (s0 : Int32) (M : FM) : Int32 × FM :=
  let x1 : Nat := (M.2.2 58 a0 0)
  let M2 : FM := GX19_put x1 (M.2.1 83 a2 0) s0 M
  let x3 : Nat := (M2.2.2 60 a0 0)
  let r4 : Int64 × FM := GX20_answer x3 M2
  let M5 : FM := GX107_putNumber (M2.2.2 58 a0 0) r4.1 (Int32.ofInt 4) ((r4.2.1 80 a2 0).toInt64) r4.2
  let x6 : Nat := (M5.2.2 60 a0 0)
  let r7 : Int64 × FM := GX20_answer x6 M5
  let M8 : FM := GX107_putNumber (M5.2.2 58 a0 0) (r7.1 + (Int64.ofInt 4)) (Int32.ofInt 4) (r7.2.2.1 84 a2 0) r7.2
  let x9 : Nat := (M8.2.2 60 a0 0)
  let x10 : Nat := (M8.2.2 60 a0 0)
  let M11 : FM := fm_sI M8 76 x10 0 (((M8.1 76 x9 0) + (Int32.ofInt 1)) &&& (Int32.ofInt 65535))
  let x12 : Nat := (M11.2.2 60 a0 0)
  let x13 : Nat := (M11.2.2 60 a0 0)
  let M14 : FM := fm_sI M11 77 x13 0 (((M11.1 77 x12 0) + (Int32.ofInt 1)) &&& (Int32.ofInt 65535))
  let x15 : Nat := (M14.2.2 60 a0 0)
  let x16 : Nat := (M14.2.2 60 a0 0)
  let M17 : FM := GX107_putNumber (M14.2.2 58 a0 0) ((M14.2.1 75 x15 0) + (Int64.ofInt 2)) (Int32.ofInt 2) ((M14.1 77 x16 0).toInt64) M14
  let M18 : FM := fm_sI M17 67 a0 0 ((M17.1 67 a0 0) + (Int32.ofInt 1))
  ((Int32.ofInt 1), M18)
def HX18_serve_132 (a0 : Nat) (a2 : Nat) (s0 : Int32) (M : FM) : Prop := let x1 : Nat := (M.2.2 58 a0 0); (HX19_put x1 (M.2.1 83 a2 0) s0 M ∧ let M2 : FM := GX19_put x1 (M.2.1 83 a2 0) s0 M; let x3 : Nat := (M2.2.2 60 a0 0); (HX20_answer x3 M2 ∧ let r4 : Int64 × FM := GX20_answer x3 M2; (HX107_putNumber (M2.2.2 58 a0 0) r4.1 (Int32.ofInt 4) ((r4.2.1 80 a2 0).toInt64) r4.2 ∧ let M5 : FM := GX107_putNumber (M2.2.2 58 a0 0) r4.1 (Int32.ofInt 4) ((r4.2.1 80 a2 0).toInt64) r4.2; let x6 : Nat := (M5.2.2 60 a0 0); (HX20_answer x6 M5 ∧ let r7 : Int64 × FM := GX20_answer x6 M5; (HX107_putNumber (M5.2.2 58 a0 0) (r7.1 + (Int64.ofInt 4)) (Int32.ofInt 4) (r7.2.2.1 84 a2 0) r7.2 ∧ let M8 : FM := GX107_putNumber (M5.2.2 58 a0 0) (r7.1 + (Int64.ofInt 4)) (Int32.ofInt 4) (r7.2.2.1 84 a2 0) r7.2; let x9 : Nat := (M8.2.2 60 a0 0); let x10 : Nat := (M8.2.2 60 a0 0); let M11 : FM := fm_sI M8 76 x10 0 (((M8.1 76 x9 0) + (Int32.ofInt 1)) &&& (Int32.ofInt 65535)); let x12 : Nat := (M11.2.2 60 a0 0); let x13 : Nat := (M11.2.2 60 a0 0); let M14 : FM := fm_sI M11 77 x13 0 (((M11.1 77 x12 0) + (Int32.ofInt 1)) &&& (Int32.ofInt 65535)); let x15 : Nat := (M14.2.2 60 a0 0); let x16 : Nat := (M14.2.2 60 a0 0); (HX107_putNumber (M14.2.2 58 a0 0) ((M14.2.1 75 x15 0) + (Int64.ofInt 2)) (Int32.ofInt 2) ((M14.1 77 x16 0).toInt64) M14 ∧ True))))))
theorem gX18_serve_132 (a0 : Nat) (a2 : Nat) (s0 : Int32) (M : FM) (T : Ty M) (n_a0 : fm_is M 22 22 a0 = true) (n_a2 : fm_is M 29 29 a2 = true) (h : HX18_serve_132 a0 a2 s0 M) : gd (FX18_serve_132 fN a0 a2 s0 M) (GX18_serve_132 a0 a2 s0 M) (OkZ M) := by
  delta FX18_serve_132 BX18_serve_132
  refine gd_c n_a0 ?_
  refine gd_c n_a2 ?_
  have f0 := (tN_58 T.1 n_a0)
  refine gd_kb (gk_fi (gk_b _ _) gk_0) (gd_c f0 (gX19_put _ _ _ _ ⟨T.1, T.2⟩ f0 h.1)) (fun K1 => ?_)
  have f2 := (ext_is K1.2 (Nat.zero_lt_succ _) n_a0)
  refine gd_c f2 ?_
  have f3 := (ext_is K1.2 (Nat.zero_lt_succ _) n_a0)
  refine gd_c f3 ?_
  have f4 := (tN_60 K1.1.1 (ext_is K1.2 (Nat.zero_lt_succ _) n_a0))
  refine gd_c f4 ?_
  have f31 := (tN_60 K1.1.1 (ext_is K1.2 (Nat.zero_lt_succ _) n_a0))
  refine gd_b (gX20_answer _ _ ⟨K1.1.1, K1.1.2⟩ f31 h.2.1) (fun K5 => ?_)
  have f6 := (ext_is K5.2 (Nat.zero_lt_succ _) (ext_is K1.2 (Nat.zero_lt_succ _) n_a2))
  refine gd_c f6 ?_
  refine gd_b (gX107_putNumber _ _ _ _ _ h.2.2.1) (fun K7 => ?_)
  have f8 := (ext_is K7.2 (Nat.zero_lt_succ _) (ext_is K5.2 (Nat.zero_lt_succ _) (ext_is K1.2 (Nat.zero_lt_succ _) n_a0)))
  refine gd_c f8 ?_
  have f9 := (ext_is K7.2 (Nat.zero_lt_succ _) (ext_is K5.2 (Nat.zero_lt_succ _) (ext_is K1.2 (Nat.zero_lt_succ _) n_a0)))
  refine gd_c f9 ?_
  have f10 := (tN_60 K7.1.1 (ext_is K7.2 (Nat.zero_lt_succ _) (ext_is K5.2 (Nat.zero_lt_succ _) (ext_is K1.2 (Nat.zero_lt_succ _) n_a0))))
  refine gd_c f10 ?_
  have f30 := (tN_60 K7.1.1 (ext_is K7.2 (Nat.zero_lt_succ _) (ext_is K5.2 (Nat.zero_lt_succ _) (ext_is K1.2 (Nat.zero_lt_succ _) n_a0))))
  refine gd_b (gX20_answer _ _ ⟨K7.1.1, K7.1.2⟩ f30 h.2.2.2.1) (fun K11 => ?_)
  have f12 := (ext_is K11.2 (Nat.zero_lt_succ _) (ext_is K7.2 (Nat.zero_lt_succ _) (ext_is K5.2 (Nat.zero_lt_succ _) (ext_is K1.2 (Nat.zero_lt_succ _) n_a2))))
  refine gd_c f12 ?_
  refine gd_b (gX107_putNumber _ _ _ _ _ h.2.2.2.2.1) (fun K13 => ?_)
  have f14 := (ext_is K13.2 (Nat.zero_lt_succ _) (ext_is K11.2 (Nat.zero_lt_succ _) (ext_is K7.2 (Nat.zero_lt_succ _) (ext_is K5.2 (Nat.zero_lt_succ _) (ext_is K1.2 (Nat.zero_lt_succ _) n_a0)))))
  refine gd_c f14 ?_
  have f15 := (ext_is K13.2 (Nat.zero_lt_succ _) (ext_is K11.2 (Nat.zero_lt_succ _) (ext_is K7.2 (Nat.zero_lt_succ _) (ext_is K5.2 (Nat.zero_lt_succ _) (ext_is K1.2 (Nat.zero_lt_succ _) n_a0)))))
  refine gd_c f15 ?_
  have f16 := (tN_60 K13.1.1 (ext_is K13.2 (Nat.zero_lt_succ _) (ext_is K11.2 (Nat.zero_lt_succ _) (ext_is K7.2 (Nat.zero_lt_succ _) (ext_is K5.2 (Nat.zero_lt_succ _) (ext_is K1.2 (Nat.zero_lt_succ _) n_a0))))))
  refine gd_c f16 ?_
  have f17 := (tN_60 K13.1.1 (ext_is K13.2 (Nat.zero_lt_succ _) (ext_is K11.2 (Nat.zero_lt_succ _) (ext_is K7.2 (Nat.zero_lt_succ _) (ext_is K5.2 (Nat.zero_lt_succ _) (ext_is K1.2 (Nat.zero_lt_succ _) n_a0))))))
  refine gd_c f17 ?_
  have f18 := (ext_is K13.2 (Nat.zero_lt_succ _) (ext_is K11.2 (Nat.zero_lt_succ _) (ext_is K7.2 (Nat.zero_lt_succ _) (ext_is K5.2 (Nat.zero_lt_succ _) (ext_is K1.2 (Nat.zero_lt_succ _) n_a0)))))
  refine gd_c f18 ?_
  have f19 := (ext_is K13.2 (Nat.zero_lt_succ _) (ext_is K11.2 (Nat.zero_lt_succ _) (ext_is K7.2 (Nat.zero_lt_succ _) (ext_is K5.2 (Nat.zero_lt_succ _) (ext_is K1.2 (Nat.zero_lt_succ _) n_a0)))))
  refine gd_c f19 ?_
  have f20 := (tN_60 K13.1.1 (ext_is K13.2 (Nat.zero_lt_succ _) (ext_is K11.2 (Nat.zero_lt_succ _) (ext_is K7.2 (Nat.zero_lt_succ _) (ext_is K5.2 (Nat.zero_lt_succ _) (ext_is K1.2 (Nat.zero_lt_succ _) n_a0))))))
  refine gd_c f20 ?_
  have f21 := (tN_60 K13.1.1 (ext_is K13.2 (Nat.zero_lt_succ _) (ext_is K11.2 (Nat.zero_lt_succ _) (ext_is K7.2 (Nat.zero_lt_succ _) (ext_is K5.2 (Nat.zero_lt_succ _) (ext_is K1.2 (Nat.zero_lt_succ _) n_a0))))))
  refine gd_c f21 ?_
  have f22 := (ext_is K13.2 (Nat.zero_lt_succ _) (ext_is K11.2 (Nat.zero_lt_succ _) (ext_is K7.2 (Nat.zero_lt_succ _) (ext_is K5.2 (Nat.zero_lt_succ _) (ext_is K1.2 (Nat.zero_lt_succ _) n_a0)))))
  refine gd_c f22 ?_
  have f23 := (ext_is K13.2 (Nat.zero_lt_succ _) (ext_is K11.2 (Nat.zero_lt_succ _) (ext_is K7.2 (Nat.zero_lt_succ _) (ext_is K5.2 (Nat.zero_lt_succ _) (ext_is K1.2 (Nat.zero_lt_succ _) n_a0)))))
  refine gd_c f23 ?_
  have f24 := (tN_60 K13.1.1 (ext_is K13.2 (Nat.zero_lt_succ _) (ext_is K11.2 (Nat.zero_lt_succ _) (ext_is K7.2 (Nat.zero_lt_succ _) (ext_is K5.2 (Nat.zero_lt_succ _) (ext_is K1.2 (Nat.zero_lt_succ _) n_a0))))))
  refine gd_c f24 ?_
  have f25 := (ext_is K13.2 (Nat.zero_lt_succ _) (ext_is K11.2 (Nat.zero_lt_succ _) (ext_is K7.2 (Nat.zero_lt_succ _) (ext_is K5.2 (Nat.zero_lt_succ _) (ext_is K1.2 (Nat.zero_lt_succ _) n_a0)))))
  refine gd_c f25 ?_
  have f26 := (tN_60 K13.1.1 (ext_is K13.2 (Nat.zero_lt_succ _) (ext_is K11.2 (Nat.zero_lt_succ _) (ext_is K7.2 (Nat.zero_lt_succ _) (ext_is K5.2 (Nat.zero_lt_succ _) (ext_is K1.2 (Nat.zero_lt_succ _) n_a0))))))
  refine gd_c f26 ?_
  refine gd_b (gX107_putNumber _ _ _ _ _ h.2.2.2.2.2.1) (fun K27 => ?_)
  have f28 := (ext_is K27.2 (Nat.zero_lt_succ _) (ext_is K13.2 (Nat.zero_lt_succ _) (ext_is K11.2 (Nat.zero_lt_succ _) (ext_is K7.2 (Nat.zero_lt_succ _) (ext_is K5.2 (Nat.zero_lt_succ _) (ext_is K1.2 (Nat.zero_lt_succ _) n_a0))))))
  refine gd_c f28 ?_
  have f29 := (ext_is K27.2 (Nat.zero_lt_succ _) (ext_is K13.2 (Nat.zero_lt_succ _) (ext_is K11.2 (Nat.zero_lt_succ _) (ext_is K7.2 (Nat.zero_lt_succ _) (ext_is K5.2 (Nat.zero_lt_succ _) (ext_is K1.2 (Nat.zero_lt_succ _) n_a0))))))
  refine gd_c f29 ?_
  exact gd_z fz_1 ⟨K27.1.1, (tyb_sI (f := 67) rfl K27.1.2)⟩ (ext_tr K1.2 (ext_tr K5.2 (ext_tr K7.2 (ext_tr K11.2 (ext_tr K13.2 (ext_dI (ext_dI (ext_tr K27.2 (ext_dI (ext_r _)))))))))) rfl
noncomputable def GX18_serve_105 (a0 : Nat) (a2 : Nat) (s0 : Nat) (M : FM) : Int32 × FM :=
  let M1 : FM := fm_sL M 84 a2 0 (Int64.ofInt 1)
  fi (s0 = 0) (
    GX18_serve_132 a0 a2 (Int32.ofInt 2) M1) (
    let r2 : Int32 × FM := (fi (fm_is M1 24 24 s0 = true) (GX27_run s0 a2 (M1.2.2 59 a0 0) (M1.2.2 58 a0 0) M1) ((fi (fm_is M1 25 25 s0 = true) (GX28_run s0 a2 (M1.2.2 59 a0 0) (M1.2.2 58 a0 0) M1) ((fi (fm_is M1 26 26 s0 = true) (GX25_run s0 a2 (M1.2.2 59 a0 0) (M1.2.2 58 a0 0) M1) (GX26_run s0 a2 (M1.2.2 59 a0 0) (M1.2.2 58 a0 0) M1))))))
    GX18_serve_132 a0 a2 r2.1 r2.2)
def HX18_serve_105 (a0 : Nat) (a2 : Nat) (s0 : Nat) (M : FM) : Prop := let M1 : FM := fm_sL M 84 a2 0 (Int64.ofInt 1); ((s0 = 0 → HX18_serve_132 a0 a2 (Int32.ofInt 2) M1) ∧ (¬ (s0 = 0) → (((fm_is M1 24 24 s0 = true → True) ∧ (¬ (fm_is M1 24 24 s0 = true) → ((fm_is M1 25 25 s0 = true → HX28_run s0 a2 (M1.2.2 59 a0 0) (M1.2.2 58 a0 0) M1) ∧ (¬ (fm_is M1 25 25 s0 = true) → ((fm_is M1 26 26 s0 = true → HX25_run s0 a2 (M1.2.2 59 a0 0) (M1.2.2 58 a0 0) M1) ∧ (¬ (fm_is M1 26 26 s0 = true) → (fm_is M1 27 27 s0 = true ∧ HX26_run s0 a2 (M1.2.2 59 a0 0) (M1.2.2 58 a0 0) M1))))))) ∧ let r2 : Int32 × FM := (fi (fm_is M1 24 24 s0 = true) (GX27_run s0 a2 (M1.2.2 59 a0 0) (M1.2.2 58 a0 0) M1) ((fi (fm_is M1 25 25 s0 = true) (GX28_run s0 a2 (M1.2.2 59 a0 0) (M1.2.2 58 a0 0) M1) ((fi (fm_is M1 26 26 s0 = true) (GX25_run s0 a2 (M1.2.2 59 a0 0) (M1.2.2 58 a0 0) M1) (GX26_run s0 a2 (M1.2.2 59 a0 0) (M1.2.2 58 a0 0) M1)))))); HX18_serve_132 a0 a2 r2.1 r2.2)))
theorem gX18_serve_105 (a0 : Nat) (a2 : Nat) (s0 : Nat) (M : FM) (T : Ty M) (n_a2 : fm_is M 29 29 a2 = true) (n_a0 : fm_is M 22 22 a0 = true) (h : HX18_serve_105 a0 a2 s0 M) : gd (FX18_serve_105 fN a0 a2 s0 M) (GX18_serve_105 a0 a2 s0 M) (OkZ M) := by
  delta FX18_serve_105 BX18_serve_105
  refine gd_c n_a2 ?_
  refine gd_fi (fun c0_0 => ?_) (fun c0_0 => ?_)
  · exact gd_tZ (ext_dL (ext_r _)) (gX18_serve_132 _ _ _ _ ⟨T.1, T.2⟩ n_a0 n_a2 (h.1 c0_0))
  · refine gd_c n_a0 ?_
    refine gd_c n_a0 ?_
    refine gd_kb (gk_fi (gk_b _ _) (gk_fi (gk_b _ _) (gk_fi (gk_b _ _) (gk_fi (gk_b _ _) gk_0)))) (gd_fi (fun c1 => (gX27_run _ _ _ _ _ ⟨T.1, T.2⟩  )) (fun c1 => (gd_fi (fun c2 => (gX28_run _ _ _ _ _ (((h.2 c0_0).1.2 c1).1 c2))) (fun c2 => (gd_fi (fun c3 => (gX25_run _ _ _ _ _ ((((h.2 c0_0).1.2 c1).2 c2).1 c3))) (fun c3 => (gd_c ((((h.2 c0_0).1.2 c1).2 c2).2 c3).1 (gX26_run _ _ _ _ _ ((((h.2 c0_0).1.2 c1).2 c2).2 c3).2)))))))) (fun K4 => ?_)
    have f5 := (ext_is K4.2 (Nat.zero_lt_succ _) n_a0)
    have f6 := (ext_is K4.2 (Nat.zero_lt_succ _) n_a2)
    exact gd_tZ (ext_dL K4.2) (gX18_serve_132 _ _ _ _ ⟨K4.1.1, K4.1.2⟩ f5 f6 (h.2 c0_0).2)
noncomputable def GX18_serve_104 (a0 : Nat) (a2 : Nat) (M : FM) : Int32 × FM :=
  GX18_serve_105 a0 a2 0 M
def HX18_serve_104 (a0 : Nat) (a2 : Nat) (M : FM) : Prop := HX18_serve_105 a0 a2 0 M
theorem gX18_serve_104 (a0 : Nat) (a2 : Nat) (M : FM) (T : Ty M) (n_a2 : fm_is M 29 29 a2 = true) (n_a0 : fm_is M 22 22 a0 = true) (h : HX18_serve_104 a0 a2 M) : gd (FX18_serve_104 fN a0 a2 M) (GX18_serve_104 a0 a2 M) (OkZ M) := by
  delta FX18_serve_104 BX18_serve_104
  exact gd_tZ (ext_r _) (gX18_serve_105 _ _ _ _ ⟨T.1, T.2⟩ n_a2 n_a0 h)
noncomputable def GX18_serve_33 (M : FM) : Int32 × FM :=
  ((Int32.ofInt 0), M)
theorem gX18_serve_33 (M : FM) (T : Ty M) : gd (FX18_serve_33 fN M) (GX18_serve_33 M) (OkZ M) := by
  delta FX18_serve_33 BX18_serve_33
  exact gd_z fz_0 ⟨T.1, T.2⟩ (ext_r _) rfl
noncomputable def GX18_serve_0 (a0 : Nat) (a1 : Int32) (M : FM) : Int32 × FM :=
  let x1 : Nat := (M.2.2 60 a0 0)
  fi ((M.1 71 x1 0) < a1) (
    GX18_serve_33 M) (
    let x2 : Nat := (M.2.2 60 a0 0)
    let r3 : Int64 × FM := GX20_offer x2 M
    let x4 : Nat := (M.2.2 58 a0 0)
    let r5 : Int32 × FM := GX19_has x4 r3.1 (Int64.ofInt 2) r3.2
    fi (r5.1 = 0) (
      GX18_serve_33 r5.2) (
      let x6 : Nat := (r5.2.2.2 61 a0 0)
      let x7 : Nat := (r5.2.2.2 60 a0 0)
      let r8 : Int64 × FM := GX20_offer x7 r5.2
      let r9 : Int64 × FM := GX107_number (r5.2.2.2 58 a0 0) r8.1 (Int32.ofInt 2) r8.2
      let x10 : Nat := (r5.2.2.2 60 a0 0)
      let r11 : Int32 × FM := GX20_gather x10 (r5.2.2.2 58 a0 0) r9.1.toInt32 x6 r9.2
      fi (r11.1 = 0) (
        ((Int32.ofInt 0), r11.2)) (
        fi ((r11.2.1 81 x6 0) < 0) (
          GX18_serve_104 a0 x6 r11.2) (
          let x12 : Nat := (r11.2.2.2 62 a0 0)
          fi ((Int32.ofNat (r11.2.2.2 1 x12 0)) ≤ (r11.2.1 81 x6 0)) (
            GX18_serve_104 a0 x6 r11.2) (
            let x13 : Int32 := (r11.2.1 81 x6 0)
            let x14 : Nat := (r11.2.2.2 62 a0 0)
            GX18_serve_105 a0 x6 (r11.2.2.2 3 x14 x13.toNatClampNeg) r11.2)))))
def HX18_serve_0 (a0 : Nat) (a1 : Int32) (M : FM) : Prop := let x1 : Nat := (M.2.2 60 a0 0); (((M.1 71 x1 0) < a1 → True) ∧ (¬ ((M.1 71 x1 0) < a1) → let x2 : Nat := (M.2.2 60 a0 0); (HX20_offer x2 M ∧ let r3 : Int64 × FM := GX20_offer x2 M; let x4 : Nat := (M.2.2 58 a0 0); let r5 : Int32 × FM := GX19_has x4 r3.1 (Int64.ofInt 2) r3.2; ((r5.1 = 0 → True) ∧ (¬ (r5.1 = 0) → let x6 : Nat := (r5.2.2.2 61 a0 0); let x7 : Nat := (r5.2.2.2 60 a0 0); (HX20_offer x7 r5.2 ∧ let r8 : Int64 × FM := GX20_offer x7 r5.2; (HX107_number (r5.2.2.2 58 a0 0) r8.1 (Int32.ofInt 2) r8.2 ∧ let r9 : Int64 × FM := GX107_number (r5.2.2.2 58 a0 0) r8.1 (Int32.ofInt 2) r8.2; let x10 : Nat := (r5.2.2.2 60 a0 0); (HX20_gather x10 (r5.2.2.2 58 a0 0) r9.1.toInt32 x6 r9.2 ∧ let r11 : Int32 × FM := GX20_gather x10 (r5.2.2.2 58 a0 0) r9.1.toInt32 x6 r9.2; ((r11.1 = 0 → True) ∧ (¬ (r11.1 = 0) → (((r11.2.1 81 x6 0) < 0 → HX18_serve_104 a0 x6 r11.2) ∧ (¬ ((r11.2.1 81 x6 0) < 0) → let x12 : Nat := (r11.2.2.2 62 a0 0); (((Int32.ofNat (r11.2.2.2 1 x12 0)) ≤ (r11.2.1 81 x6 0) → HX18_serve_104 a0 x6 r11.2) ∧ (¬ ((Int32.ofNat (r11.2.2.2 1 x12 0)) ≤ (r11.2.1 81 x6 0)) → let x13 : Int32 := (r11.2.1 81 x6 0); let x14 : Nat := (r11.2.2.2 62 a0 0); (fm_in r11.2 x14 x13 = true ∧ HX18_serve_105 a0 x6 (r11.2.2.2 3 x14 x13.toNatClampNeg) r11.2)))))))))))))))
theorem gX18_serve_0 (a0 : Nat) (a1 : Int32) (M : FM) (T : Ty M) (n_a0 : fm_is M 22 22 a0 = true) (h : HX18_serve_0 a0 a1 M) : gd (FX18_serve_0 fN a0 a1 M) (GX18_serve_0 a0 a1 M) (OkZ M) := by
  delta FX18_serve_0 BX18_serve_0
  refine gd_c n_a0 ?_
  have f0 := (tN_60 T.1 n_a0)
  refine gd_c f0 ?_
  refine gd_fi (fun c1_0 => ?_) (fun c1_0 => ?_)
  · exact gd_tZ (ext_r _) (gX18_serve_33  _ ⟨T.1, T.2⟩  )
  · refine gd_c n_a0 ?_
    refine gd_c n_a0 ?_
    have f2 := (tN_60 T.1 n_a0)
    refine gd_c f2 ?_
    have f35 := (tN_60 T.1 n_a0)
    refine gd_b (gX20_offer _ _ ⟨T.1, T.2⟩ f35 (h.2 c1_0).1) (fun K3 => ?_)
    have f4 := (ext_is K3.2 (Nat.zero_lt_succ _) (tN_58 T.1 n_a0))
    refine gd_kb (gk_fi (gk_b _ _) gk_0) (gd_c f4 (gX19_has _ _ _ _ ⟨K3.1.1, K3.1.2⟩ f4 )) (fun K5 => ?_)
    refine gd_fi (fun c6_0 => ?_) (fun c6_0 => ?_)
    · exact gd_tZ (ext_tr K3.2 K5.2.1) (gX18_serve_33  _ ⟨K5.1.1, K5.1.2⟩  )
    · have f7 := (ext_is K5.2.1 (Nat.zero_lt_succ _) (ext_is K3.2 (Nat.zero_lt_succ _) n_a0))
      refine gd_c f7 ?_
      have f8 := (ext_is K5.2.1 (Nat.zero_lt_succ _) (ext_is K3.2 (Nat.zero_lt_succ _) n_a0))
      refine gd_c f8 ?_
      have f9 := (ext_is K5.2.1 (Nat.zero_lt_succ _) (ext_is K3.2 (Nat.zero_lt_succ _) n_a0))
      refine gd_c f9 ?_
      have f10 := (ext_is K5.2.1 (Nat.zero_lt_succ _) (ext_is K3.2 (Nat.zero_lt_succ _) n_a0))
      refine gd_c f10 ?_
      have f11 := (ext_is K5.2.1 (Nat.zero_lt_succ _) (ext_is K3.2 (Nat.zero_lt_succ _) n_a0))
      refine gd_c f11 ?_
      have f12 := (tN_60 K5.1.1 (ext_is K5.2.1 (Nat.zero_lt_succ _) (ext_is K3.2 (Nat.zero_lt_succ _) n_a0)))
      refine gd_c f12 ?_
      have f34 := (tN_60 K5.1.1 (ext_is K5.2.1 (Nat.zero_lt_succ _) (ext_is K3.2 (Nat.zero_lt_succ _) n_a0)))
      refine gd_b (gX20_offer _ _ ⟨K5.1.1, K5.1.2⟩ f34 ((h.2 c1_0).2.2 c6_0).1) (fun K13 => ?_)
      refine gd_b (gX107_number _ _ _ _ ((h.2 c1_0).2.2 c6_0).2.1) (fun K14 => ?_)
      have f15 := (ext_is K14.2 (Nat.zero_lt_succ _) (ext_is K13.2 (Nat.zero_lt_succ _) (tN_60 K5.1.1 (ext_is K5.2.1 (Nat.zero_lt_succ _) (ext_is K3.2 (Nat.zero_lt_succ _) n_a0)))))
      refine gd_c f15 ?_
      refine gd_b (gX20_gather _ _ _ _ _ ((h.2 c1_0).2.2 c6_0).2.2.1) (fun K16 => ?_)
      refine gd_fi (fun c17_0 => ?_) (fun c17_0 => ?_)
      · exact gd_z fz_0 ⟨K16.1.1, K16.1.2⟩ (ext_tr K3.2 (ext_tr K5.2.1 (ext_tr K13.2 (ext_tr K14.2 K16.2.1)))) rfl
      · have f18 := (ext_is K16.2.1 (Nat.zero_lt_succ _) (ext_is K14.2 (Nat.zero_lt_succ _) (ext_is K13.2 (Nat.zero_lt_succ _) (tN_61 K5.1.1 (ext_is K5.2.1 (Nat.zero_lt_succ _) (ext_is K3.2 (Nat.zero_lt_succ _) n_a0))))))
        refine gd_c f18 ?_
        refine gd_fi (fun c19_0 => ?_) (fun c19_0 => ?_)
        · have f20 := (ext_is K16.2.1 (Nat.zero_lt_succ _) (ext_is K14.2 (Nat.zero_lt_succ _) (ext_is K13.2 (Nat.zero_lt_succ _) (tN_61 K5.1.1 (ext_is K5.2.1 (Nat.zero_lt_succ _) (ext_is K3.2 (Nat.zero_lt_succ _) n_a0))))))
          have f21 := (ext_is K16.2.1 (Nat.zero_lt_succ _) (ext_is K14.2 (Nat.zero_lt_succ _) (ext_is K13.2 (Nat.zero_lt_succ _) (ext_is K5.2.1 (Nat.zero_lt_succ _) (ext_is K3.2 (Nat.zero_lt_succ _) n_a0)))))
          exact gd_tZ (ext_tr K3.2 (ext_tr K5.2.1 (ext_tr K13.2 (ext_tr K14.2 K16.2.1)))) (gX18_serve_104 _ _ _ ⟨K16.1.1, K16.1.2⟩ f20 f21 ((((h.2 c1_0).2.2 c6_0).2.2.2.2 c17_0).1 c19_0))
        · have f22 := (ext_is K16.2.1 (Nat.zero_lt_succ _) (ext_is K14.2 (Nat.zero_lt_succ _) (ext_is K13.2 (Nat.zero_lt_succ _) (tN_61 K5.1.1 (ext_is K5.2.1 (Nat.zero_lt_succ _) (ext_is K3.2 (Nat.zero_lt_succ _) n_a0))))))
          refine gd_c f22 ?_
          have f23 := (ext_is K16.2.1 (Nat.zero_lt_succ _) (ext_is K14.2 (Nat.zero_lt_succ _) (ext_is K13.2 (Nat.zero_lt_succ _) (ext_is K5.2.1 (Nat.zero_lt_succ _) (ext_is K3.2 (Nat.zero_lt_succ _) n_a0)))))
          refine gd_c f23 ?_
          have f24 := (fm_w (lo' := 901) (hi' := 990) rfl rfl (tN_62 K16.1.1 (ext_is K16.2.1 (Nat.zero_lt_succ _) (ext_is K14.2 (Nat.zero_lt_succ _) (ext_is K13.2 (Nat.zero_lt_succ _) (ext_is K5.2.1 (Nat.zero_lt_succ _) (ext_is K3.2 (Nat.zero_lt_succ _) n_a0)))))))
          refine gd_c f24 ?_
          refine gd_fi (fun c25_0 => ?_) (fun c25_0 => ?_)
          · have f26 := (ext_is K16.2.1 (Nat.zero_lt_succ _) (ext_is K14.2 (Nat.zero_lt_succ _) (ext_is K13.2 (Nat.zero_lt_succ _) (tN_61 K5.1.1 (ext_is K5.2.1 (Nat.zero_lt_succ _) (ext_is K3.2 (Nat.zero_lt_succ _) n_a0))))))
            have f27 := (ext_is K16.2.1 (Nat.zero_lt_succ _) (ext_is K14.2 (Nat.zero_lt_succ _) (ext_is K13.2 (Nat.zero_lt_succ _) (ext_is K5.2.1 (Nat.zero_lt_succ _) (ext_is K3.2 (Nat.zero_lt_succ _) n_a0)))))
            exact gd_tZ (ext_tr K3.2 (ext_tr K5.2.1 (ext_tr K13.2 (ext_tr K14.2 K16.2.1)))) (gX18_serve_104 _ _ _ ⟨K16.1.1, K16.1.2⟩ f26 f27 (((((h.2 c1_0).2.2 c6_0).2.2.2.2 c17_0).2 c19_0).1 c25_0))
          · have f28 := (ext_is K16.2.1 (Nat.zero_lt_succ _) (ext_is K14.2 (Nat.zero_lt_succ _) (ext_is K13.2 (Nat.zero_lt_succ _) (ext_is K5.2.1 (Nat.zero_lt_succ _) (ext_is K3.2 (Nat.zero_lt_succ _) n_a0)))))
            refine gd_c f28 ?_
            have f29 := (ext_is K16.2.1 (Nat.zero_lt_succ _) (ext_is K14.2 (Nat.zero_lt_succ _) (ext_is K13.2 (Nat.zero_lt_succ _) (tN_61 K5.1.1 (ext_is K5.2.1 (Nat.zero_lt_succ _) (ext_is K3.2 (Nat.zero_lt_succ _) n_a0))))))
            refine gd_c f29 ?_
            have f32 := (fm_w (lo' := 910) (hi' := 990) rfl rfl (tN_62 K16.1.1 (ext_is K16.2.1 (Nat.zero_lt_succ _) (ext_is K14.2 (Nat.zero_lt_succ _) (ext_is K13.2 (Nat.zero_lt_succ _) (ext_is K5.2.1 (Nat.zero_lt_succ _) (ext_is K3.2 (Nat.zero_lt_succ _) n_a0)))))))
            have f33 := (((((h.2 c1_0).2.2 c6_0).2.2.2.2 c17_0).2 c19_0).2 c25_0).1
            refine gd_c ⟨f32, f33⟩ ?_
            have f30 := (ext_is K16.2.1 (Nat.zero_lt_succ _) (ext_is K14.2 (Nat.zero_lt_succ _) (ext_is K13.2 (Nat.zero_lt_succ _) (tN_61 K5.1.1 (ext_is K5.2.1 (Nat.zero_lt_succ _) (ext_is K3.2 (Nat.zero_lt_succ _) n_a0))))))
            have f31 := (ext_is K16.2.1 (Nat.zero_lt_succ _) (ext_is K14.2 (Nat.zero_lt_succ _) (ext_is K13.2 (Nat.zero_lt_succ _) (ext_is K5.2.1 (Nat.zero_lt_succ _) (ext_is K3.2 (Nat.zero_lt_succ _) n_a0)))))
            exact gd_tZ (ext_tr K3.2 (ext_tr K5.2.1 (ext_tr K13.2 (ext_tr K14.2 K16.2.1)))) (gX18_serve_105 _ _ _ _ ⟨K16.1.1, K16.1.2⟩ f30 f31 (((((h.2 c1_0).2.2 c6_0).2.2.2.2 c17_0).2 c19_0).2 c25_0).2)
noncomputable def GX18_serve (a0 : Nat) (a1 : Int32) (M : FM) : Int32 × FM := GX18_serve_0 a0 a1 M
def HX18_serve (a0 : Nat) (a1 : Int32) (M : FM) : Prop := HX18_serve_0 a0 a1 M
theorem gX18_serve (a0 : Nat) (a1 : Int32) (M : FM) (T : Ty M) (n_a0 : fm_is M 22 22 a0 = true) (h : HX18_serve a0 a1 M) : gd (FX18_serve fN a0 a1 M) (GX18_serve a0 a1 M) (OkZ M) := gX18_serve_0 a0 a1 M T n_a0 h
def kX18_work (k39 : Nat → Int32 → Int32 → Int32 → FM → Option (FM)) : (Nat × Int32 × Int32 × Int32 × FM) ⊕ (FM) → Option (FM)
  | .inl (v0, v1, v2, v3, M') => k39 v0 v1 v2 v3 M'
  | .inr (r) => some r
def pX18_work (M : FM) : (Nat × Int32 × Int32 × Int32 × FM) ⊕ (FM) → Prop
  | .inl (_, _, _, _, M') => OkV M M'
  | .inr (r) => OkV M r
theorem pX18_work_t {M M1 : FM} (e : Ext M M1) : ∀ y, pX18_work M1 y → pX18_work M y
  | .inl (_, _, _, _, _), h => ⟨h.1, ext_tr e h.2⟩
  | .inr (r), h => ⟨h.1, ext_tr e h.2⟩
noncomputable def GX18_work_210 (s0 : Nat) (s1 : Int32) (s2 : Int32) (M : FM) : (Nat × Int32 × Int32 × Int32 × FM) ⊕ (FM) :=
  let M1 : FM := fm_sI M 66 s0 0 (s1 ||| s2)
  (.inr M1)
theorem gX18_work_210 (k39 : Nat → Int32 → Int32 → Int32 → FM → Option (FM)) (s0 : Nat) (s1 : Int32) (s2 : Int32) (M : FM) (T : Ty M) (n_s0 : fm_is M 22 22 s0 = true) : gs (FX18_work_210 fN k39 s0 s1 s2 M) (GX18_work_210 s0 s1 s2 M) (kX18_work k39) (pX18_work M) := by
  delta FX18_work_210 BX18_work_210
  refine gs_c n_s0 ?_
  exact And.intro rfl (And.intro (And.intro T.1 (tyb_sI (f := 66) rfl T.2)) ((ext_dI (ext_r _))))
noncomputable def GX18_work_209 (s0 : Nat) (s1 : Int32) (M : FM) : (Nat × Int32 × Int32 × Int32 × FM) ⊕ (FM) :=
  GX18_work_210 s0 s1 (Int32.ofInt 0) M
theorem gX18_work_209 (k39 : Nat → Int32 → Int32 → Int32 → FM → Option (FM)) (s0 : Nat) (s1 : Int32) (M : FM) (T : Ty M) (n_s0 : fm_is M 22 22 s0 = true) : gs (FX18_work_209 fN k39 s0 s1 M) (GX18_work_209 s0 s1 M) (kX18_work k39) (pX18_work M) := by
  delta FX18_work_209 BX18_work_209
  exact gs_t (pX18_work_t (ext_r _)) (gX18_work_210 k39 _ _ _ _ ⟨T.1, T.2⟩ n_s0 )
noncomputable def GX18_work_183 (a0 : Nat) (a1 : Int32) (a2 : Int32) (a3 : Int32) (M : FM) : (Nat × Int32 × Int32 × Int32 × FM) ⊕ (FM) :=
  (.inl (a0, a1, a2, a3, M))
theorem gX18_work_183 (k39 : Nat → Int32 → Int32 → Int32 → FM → Option (FM)) (a0 : Nat) (a1 : Int32) (a2 : Int32) (a3 : Int32) (M : FM) (T : Ty M) : gs (FX18_work_183 fN k39 a0 a1 a2 a3 M) (GX18_work_183 a0 a1 a2 a3 M) (kX18_work k39) (pX18_work M) := by
  delta FX18_work_183 BX18_work_183
  exact And.intro rfl (And.intro (And.intro T.1 T.2) ((ext_r _)))
noncomputable def GX18_work_177 (a0 : Nat) (a1 : Int32) (a2 : Int32) (M : FM) : (Nat × Int32 × Int32 × Int32 × FM) ⊕ (FM) :=
  let M1 : FM := GX18_fail a0 M
  GX18_work_183 a0 a1 a2 (Int32.ofInt 0) M1
theorem gX18_work_177 (k39 : Nat → Int32 → Int32 → Int32 → FM → Option (FM)) (a0 : Nat) (a1 : Int32) (a2 : Int32) (M : FM) (T : Ty M) (n_a0 : fm_is M 22 22 a0 = true) : gs (FX18_work_177 fN k39 a0 a1 a2 M) (GX18_work_177 a0 a1 a2 M) (kX18_work k39) (pX18_work M) := by
  delta FX18_work_177 BX18_work_177
  refine gs_c n_a0 ?_
  refine gs_b (gX18_fail _ _ ⟨T.1, T.2⟩ n_a0 ) (fun K0 => ?_)
  exact gs_t (pX18_work_t K0.2) (gX18_work_183 k39 _ _ _ _ _ ⟨K0.1.1, K0.1.2⟩  )
noncomputable def GX18_work_158 (a0 : Nat) (a1 : Int32) (a2 : Int32) (a4 : Int32) (a5 : Int32) (s0 : Int32) (M : FM) : (Nat × Int32 × Int32 × Int32 × FM) ⊕ (FM) :=
  fi (a4 = 0) (
    GX18_work_177 a0 a1 a2 M) (
    fi (s0 = 0) (
      GX18_work_183 a0 a1 a2 s0 M) (
      let r1 : Int32 × FM := GX18_serve a0 a5 M
      fi (r1.1 = 0) (
        GX18_work_177 a0 a1 a2 r1.2) (
        GX18_work_183 a0 a1 a2 s0 r1.2)))
def HX18_work_158 (a0 : Nat) (a1 : Int32) (a2 : Int32) (a4 : Int32) (a5 : Int32) (s0 : Int32) (M : FM) : Prop := ((a4 = 0 → True) ∧ (¬ (a4 = 0) → ((s0 = 0 → True) ∧ (¬ (s0 = 0) → (HX18_serve a0 a5 M ∧ True)))))
theorem gX18_work_158 (k39 : Nat → Int32 → Int32 → Int32 → FM → Option (FM)) (a0 : Nat) (a1 : Int32) (a2 : Int32) (a4 : Int32) (a5 : Int32) (s0 : Int32) (M : FM) (T : Ty M) (n_a0 : fm_is M 22 22 a0 = true) (h : HX18_work_158 a0 a1 a2 a4 a5 s0 M) : gs (FX18_work_158 fN k39 a0 a1 a2 a4 a5 s0 M) (GX18_work_158 a0 a1 a2 a4 a5 s0 M) (kX18_work k39) (pX18_work M) := by
  delta FX18_work_158 BX18_work_158
  refine gs_fi (fun c0_0 => ?_) (fun c0_0 => ?_)
  · exact gs_t (pX18_work_t (ext_r _)) (gX18_work_177 k39 _ _ _ _ ⟨T.1, T.2⟩ n_a0 )
  · refine gs_fi (fun c1_0 => ?_) (fun c1_0 => ?_)
    · exact gs_t (pX18_work_t (ext_r _)) (gX18_work_183 k39 _ _ _ _ _ ⟨T.1, T.2⟩  )
    · refine gs_c n_a0 ?_
      refine gs_b (gX18_serve _ _ _ ⟨T.1, T.2⟩ n_a0 ((h.2 c0_0).2 c1_0).1) (fun K2 => ?_)
      refine gs_fi (fun c3_0 => ?_) (fun c3_0 => ?_)
      · have f4 := (ext_is K2.2.1 (Nat.zero_lt_succ _) n_a0)
        exact gs_t (pX18_work_t K2.2.1) (gX18_work_177 k39 _ _ _ _ ⟨K2.1.1, K2.1.2⟩ f4 )
      · exact gs_t (pX18_work_t K2.2.1) (gX18_work_183 k39 _ _ _ _ _ ⟨K2.1.1, K2.1.2⟩  )
noncomputable def GX18_work_157 (a0 : Nat) (a1 : Int32) (a2 : Int32) (a4 : Int32) (a5 : Int32) (M : FM) : (Nat × Int32 × Int32 × Int32 × FM) ⊕ (FM) :=
  GX18_work_158 a0 a1 a2 a4 a5 (Int32.ofInt 0) M
def HX18_work_157 (a0 : Nat) (a1 : Int32) (a2 : Int32) (a4 : Int32) (a5 : Int32) (M : FM) : Prop := HX18_work_158 a0 a1 a2 a4 a5 (Int32.ofInt 0) M
theorem gX18_work_157 (k39 : Nat → Int32 → Int32 → Int32 → FM → Option (FM)) (a0 : Nat) (a1 : Int32) (a2 : Int32) (a4 : Int32) (a5 : Int32) (M : FM) (T : Ty M) (n_a0 : fm_is M 22 22 a0 = true) (h : HX18_work_157 a0 a1 a2 a4 a5 M) : gs (FX18_work_157 fN k39 a0 a1 a2 a4 a5 M) (GX18_work_157 a0 a1 a2 a4 a5 M) (kX18_work k39) (pX18_work M) := by
  delta FX18_work_157 BX18_work_157
  exact gs_t (pX18_work_t (ext_r _)) (gX18_work_158 k39 _ _ _ _ _ _ _ ⟨T.1, T.2⟩ n_a0 h)
noncomputable def GX18_work_130 (a0 : Nat) (a1 : Int32) (a2 : Int32) (a4 : Int32) (s0 : Int32) (M : FM) : (Nat × Int32 × Int32 × Int32 × FM) ⊕ (FM) :=
  fi (a4 = 0) (
    GX18_work_157 a0 a1 a2 a4 s0 M) (
    fi (s0 ≤ 0) (
      GX18_work_157 a0 a1 a2 a4 s0 M) (
      fi ((Int32.ofInt 64) ≤ ((M.1 67 a0 0) - a1)) (
        GX18_work_157 a0 a1 a2 a4 s0 M) (
        GX18_work_158 a0 a1 a2 a4 s0 (Int32.ofInt 1) M)))
def HX18_work_130 (a0 : Nat) (a1 : Int32) (a2 : Int32) (a4 : Int32) (s0 : Int32) (M : FM) : Prop := ((a4 = 0 → HX18_work_157 a0 a1 a2 a4 s0 M) ∧ (¬ (a4 = 0) → ((s0 ≤ 0 → HX18_work_157 a0 a1 a2 a4 s0 M) ∧ (¬ (s0 ≤ 0) → (((Int32.ofInt 64) ≤ ((M.1 67 a0 0) - a1) → HX18_work_157 a0 a1 a2 a4 s0 M) ∧ (¬ ((Int32.ofInt 64) ≤ ((M.1 67 a0 0) - a1)) → HX18_work_158 a0 a1 a2 a4 s0 (Int32.ofInt 1) M))))))
theorem gX18_work_130 (k39 : Nat → Int32 → Int32 → Int32 → FM → Option (FM)) (a0 : Nat) (a1 : Int32) (a2 : Int32) (a4 : Int32) (s0 : Int32) (M : FM) (T : Ty M) (n_a0 : fm_is M 22 22 a0 = true) (h : HX18_work_130 a0 a1 a2 a4 s0 M) : gs (FX18_work_130 fN k39 a0 a1 a2 a4 s0 M) (GX18_work_130 a0 a1 a2 a4 s0 M) (kX18_work k39) (pX18_work M) := by
  delta FX18_work_130 BX18_work_130
  refine gs_fi (fun c0_0 => ?_) (fun c0_0 => ?_)
  · exact gs_t (pX18_work_t (ext_r _)) (gX18_work_157 k39 _ _ _ _ _ _ ⟨T.1, T.2⟩ n_a0 (h.1 c0_0))
  · refine gs_fi (fun c1_0 => ?_) (fun c1_0 => ?_)
    · exact gs_t (pX18_work_t (ext_r _)) (gX18_work_157 k39 _ _ _ _ _ _ ⟨T.1, T.2⟩ n_a0 ((h.2 c0_0).1 c1_0))
    · refine gs_c n_a0 ?_
      refine gs_fi (fun c2_0 => ?_) (fun c2_0 => ?_)
      · exact gs_t (pX18_work_t (ext_r _)) (gX18_work_157 k39 _ _ _ _ _ _ ⟨T.1, T.2⟩ n_a0 (((h.2 c0_0).2 c1_0).1 c2_0))
      · exact gs_t (pX18_work_t (ext_r _)) (gX18_work_158 k39 _ _ _ _ _ _ _ ⟨T.1, T.2⟩ n_a0 (((h.2 c0_0).2 c1_0).2 c2_0))
noncomputable def GX18_work_89 (a0 : Nat) (a1 : Int32) (a4 : Int32) (s0 : Int32) (M : FM) : (Nat × Int32 × Int32 × Int32 × FM) ⊕ (FM) :=
  fi (a4 = 0) (
    GX18_work_130 a0 a1 s0 a4 (Int32.ofInt 0) M) (
    let x1 : Nat := (M.2.2 60 a0 0)
    let r2 : Int64 × FM := GX107_number (M.2.2 58 a0 0) ((M.2.1 74 x1 0) + (Int64.ofInt 2)) (Int32.ofInt 2) M
    let x3 : Nat := (r2.2.2.2 60 a0 0)
    GX18_work_130 a0 a1 s0 a4 ((r2.1.toInt32 - (r2.2.1 76 x3 0)) &&& (Int32.ofInt 65535)) r2.2)
def HX18_work_89 (a0 : Nat) (a1 : Int32) (a4 : Int32) (s0 : Int32) (M : FM) : Prop := ((a4 = 0 → HX18_work_130 a0 a1 s0 a4 (Int32.ofInt 0) M) ∧ (¬ (a4 = 0) → let x1 : Nat := (M.2.2 60 a0 0); (HX107_number (M.2.2 58 a0 0) ((M.2.1 74 x1 0) + (Int64.ofInt 2)) (Int32.ofInt 2) M ∧ let r2 : Int64 × FM := GX107_number (M.2.2 58 a0 0) ((M.2.1 74 x1 0) + (Int64.ofInt 2)) (Int32.ofInt 2) M; let x3 : Nat := (r2.2.2.2 60 a0 0); HX18_work_130 a0 a1 s0 a4 ((r2.1.toInt32 - (r2.2.1 76 x3 0)) &&& (Int32.ofInt 65535)) r2.2)))
theorem gX18_work_89 (k39 : Nat → Int32 → Int32 → Int32 → FM → Option (FM)) (a0 : Nat) (a1 : Int32) (a4 : Int32) (s0 : Int32) (M : FM) (T : Ty M) (n_a0 : fm_is M 22 22 a0 = true) (h : HX18_work_89 a0 a1 a4 s0 M) : gs (FX18_work_89 fN k39 a0 a1 a4 s0 M) (GX18_work_89 a0 a1 a4 s0 M) (kX18_work k39) (pX18_work M) := by
  delta FX18_work_89 BX18_work_89
  refine gs_fi (fun c0_0 => ?_) (fun c0_0 => ?_)
  · exact gs_t (pX18_work_t (ext_r _)) (gX18_work_130 k39 _ _ _ _ _ _ ⟨T.1, T.2⟩ n_a0 (h.1 c0_0))
  · refine gs_c n_a0 ?_
    refine gs_c n_a0 ?_
    have f1 := (tN_60 T.1 n_a0)
    refine gs_c f1 ?_
    refine gs_b (gX107_number _ _ _ _ (h.2 c0_0).1) (fun K2 => ?_)
    have f3 := (ext_is K2.2 (Nat.zero_lt_succ _) n_a0)
    refine gs_c f3 ?_
    have f4 := (tN_60 K2.1.1 (ext_is K2.2 (Nat.zero_lt_succ _) n_a0))
    refine gs_c f4 ?_
    have f5 := (ext_is K2.2 (Nat.zero_lt_succ _) n_a0)
    exact gs_t (pX18_work_t K2.2) (gX18_work_130 k39 _ _ _ _ _ _ ⟨K2.1.1, K2.1.2⟩ f5 (h.2 c0_0).2)
noncomputable def GX18_work_29 (M : FM) : (Nat × Int32 × Int32 × Int32 × FM) ⊕ (FM) :=
  (.inr M)
theorem gX18_work_29 (k39 : Nat → Int32 → Int32 → Int32 → FM → Option (FM)) (M : FM) (T : Ty M) : gs (FX18_work_29 fN k39 M) (GX18_work_29 M) (kX18_work k39) (pX18_work M) := by
  delta FX18_work_29 BX18_work_29
  exact And.intro rfl (And.intro (And.intro T.1 T.2) ((ext_r _)))
noncomputable def GX18_work_0 (a0 : Nat) (M : FM) : (Nat × Int32 × Int32 × Int32 × FM) ⊕ (FM) :=
  fi (((M.1 65 a0 0) &&& (Int32.ofInt 4)) = 0) (
    GX18_work_29 M) (
    fi (((M.1 65 a0 0) &&& (Int32.ofInt 64)) = 0) (
      let x1 : Nat := (M.2.2 60 a0 0)
      fi ((M.1 72 x1 0) = 0) (
        GX18_work_29 M) (
        let x2 : Int32 := (M.1 67 a0 0)
        (.inl (a0, x2, (Int32.ofInt 0), (Int32.ofInt 1), M)))) (
      GX18_work_29 M))
theorem gX18_work_0 (k39 : Nat → Int32 → Int32 → Int32 → FM → Option (FM)) (a0 : Nat) (M : FM) (T : Ty M) (n_a0 : fm_is M 22 22 a0 = true) : gs (FX18_work_0 fN k39 a0 M) (GX18_work_0 a0 M) (kX18_work k39) (pX18_work M) := by
  delta FX18_work_0 BX18_work_0
  refine gs_c n_a0 ?_
  refine gs_fi (fun c0_0 => ?_) (fun c0_0 => ?_)
  · exact gs_t (pX18_work_t (ext_r _)) (gX18_work_29 k39  _ ⟨T.1, T.2⟩  )
  · refine gs_c n_a0 ?_
    refine gs_fi (fun c1_0 => ?_) (fun c1_0 => ?_)
    · refine gs_c n_a0 ?_
      have f2 := (tN_60 T.1 n_a0)
      refine gs_c f2 ?_
      refine gs_fi (fun c3_0 => ?_) (fun c3_0 => ?_)
      · exact gs_t (pX18_work_t (ext_r _)) (gX18_work_29 k39  _ ⟨T.1, T.2⟩  )
      · refine gs_c n_a0 ?_
        exact And.intro rfl (And.intro (And.intro T.1 T.2) ((ext_r _)))
    · exact gs_t (pX18_work_t (ext_r _)) (gX18_work_29 k39  _ ⟨T.1, T.2⟩  )
noncomputable def GX18_work_39 (a0 : Nat) (a1 : Int32) (a2 : Int32) (a3 : Int32) (M : FM) : (Nat × Int32 × Int32 × Int32 × FM) ⊕ (FM) :=
  fi (a3 = 0) (
    fi ((M.1 67 a0 0) = a1) (
      GX18_work_209 a0 (M.1 66 a0 0) M) (
      fi ((a2 &&& (Int32.ofInt 1)) = 0) (
        GX18_work_210 a0 (M.1 66 a0 0) (Int32.ofInt 1) M) (
        GX18_work_209 a0 (M.1 66 a0 0) M))) (
    let x1 : Nat := (M.2.2 60 a0 0)
    let x2 : Nat := (M.2.2 58 a0 0)
    let r3 : Int32 × FM := GX19_has x2 (M.2.1 74 x1 0) (Int64.ofInt 4) M
    fi (r3.1 = 0) (
      GX18_work_89 a0 a1 r3.1 a2 r3.2) (
      let x4 : Nat := (r3.2.2.2 60 a0 0)
      let r5 : Int64 × FM := GX107_number (r3.2.2.2 58 a0 0) (r3.2.2.1 74 x4 0) (Int32.ofInt 2) r3.2
      GX18_work_89 a0 a1 r3.1 r5.1.toInt32 r5.2))
def HX18_work_39 (a0 : Nat) (a1 : Int32) (a2 : Int32) (a3 : Int32) (M : FM) : Prop := ((a3 = 0 → True) ∧ (¬ (a3 = 0) → let x1 : Nat := (M.2.2 60 a0 0); let x2 : Nat := (M.2.2 58 a0 0); let r3 : Int32 × FM := GX19_has x2 (M.2.1 74 x1 0) (Int64.ofInt 4) M; ((r3.1 = 0 → HX18_work_89 a0 a1 r3.1 a2 r3.2) ∧ (¬ (r3.1 = 0) → let x4 : Nat := (r3.2.2.2 60 a0 0); (HX107_number (r3.2.2.2 58 a0 0) (r3.2.2.1 74 x4 0) (Int32.ofInt 2) r3.2 ∧ let r5 : Int64 × FM := GX107_number (r3.2.2.2 58 a0 0) (r3.2.2.1 74 x4 0) (Int32.ofInt 2) r3.2; HX18_work_89 a0 a1 r3.1 r5.1.toInt32 r5.2)))))
theorem gX18_work_39 (k39 : Nat → Int32 → Int32 → Int32 → FM → Option (FM)) (a0 : Nat) (a1 : Int32) (a2 : Int32) (a3 : Int32) (M : FM) (T : Ty M) (n_a0 : fm_is M 22 22 a0 = true) (h : HX18_work_39 a0 a1 a2 a3 M) : gs (FX18_work_39 fN k39 a0 a1 a2 a3 M) (GX18_work_39 a0 a1 a2 a3 M) (kX18_work k39) (pX18_work M) := by
  delta FX18_work_39 BX18_work_39
  refine gs_fi (fun c0_0 => ?_) (fun c0_0 => ?_)
  · refine gs_c n_a0 ?_
    refine gs_c n_a0 ?_
    refine gs_fi (fun c1_0 => ?_) (fun c1_0 => ?_)
    · exact gs_t (pX18_work_t (ext_r _)) (gX18_work_209 k39 _ _ _ ⟨T.1, T.2⟩ n_a0 )
    · refine gs_fi (fun c2_0 => ?_) (fun c2_0 => ?_)
      · exact gs_t (pX18_work_t (ext_r _)) (gX18_work_210 k39 _ _ _ _ ⟨T.1, T.2⟩ n_a0 )
      · exact gs_t (pX18_work_t (ext_r _)) (gX18_work_209 k39 _ _ _ ⟨T.1, T.2⟩ n_a0 )
  · refine gs_c n_a0 ?_
    refine gs_c n_a0 ?_
    have f3 := (tN_60 T.1 n_a0)
    refine gs_c f3 ?_
    have f4 := (tN_58 T.1 n_a0)
    refine gs_kb (gk_fi (gk_b _ _) gk_0) (gd_c f4 (gX19_has _ _ _ _ ⟨T.1, T.2⟩ f4 )) (fun K5 => ?_)
    refine gs_fi (fun c6_0 => ?_) (fun c6_0 => ?_)
    · have f7 := (ext_is K5.2.1 (Nat.zero_lt_succ _) n_a0)
      exact gs_t (pX18_work_t K5.2.1) (gX18_work_89 k39 _ _ _ _ _ ⟨K5.1.1, K5.1.2⟩ f7 ((h.2 c0_0).1 c6_0))
    · have f8 := (ext_is K5.2.1 (Nat.zero_lt_succ _) n_a0)
      refine gs_c f8 ?_
      have f9 := (ext_is K5.2.1 (Nat.zero_lt_succ _) n_a0)
      refine gs_c f9 ?_
      have f10 := (tN_60 K5.1.1 (ext_is K5.2.1 (Nat.zero_lt_succ _) n_a0))
      refine gs_c f10 ?_
      refine gs_b (gX107_number _ _ _ _ ((h.2 c0_0).2 c6_0).1) (fun K11 => ?_)
      have f12 := (ext_is K11.2 (Nat.zero_lt_succ _) (ext_is K5.2.1 (Nat.zero_lt_succ _) n_a0))
      exact gs_t (pX18_work_t (ext_tr K5.2.1 K11.2)) (gX18_work_89 k39 _ _ _ _ _ ⟨K11.1.1, K11.1.2⟩ f12 ((h.2 c0_0).2 c6_0).2)
noncomputable def GX18_work (a0 : Nat) (M : FM) : FM := (FX18_work fN a0 M).getD M
def HX18_work (a0 : Nat) (M : FM) : Prop := ∃ r, FX18_work fN a0 M = some r ∧ OkV M r
theorem gX18_work (a0 : Nat) (M : FM) (h : HX18_work a0 M) : gd (FX18_work fN a0 M) (GX18_work a0 M) (OkV M) := gd_op h
noncomputable def GX20_half_36 (s0 : Int64) (M : FM) : Int64 × FM :=
  (s0, M)
theorem gX20_half_36 (s0 : Int64) (M : FM) (T : Ty M) : gd (FX20_half_36 s0 M) (GX20_half_36 s0 M) (OkR M) := by
  delta FX20_half_36 BX20_half_36
  exact ⟨rfl, ⟨T.1, T.2⟩, (ext_r _)⟩
noncomputable def GX20_half_0 (a0 : Int64) (a2 : Int32) (a3 : Int32) (M : FM) : Int64 × FM :=
  let x1 : Int64 := (a3.toInt64 &&& (Int64.ofInt 4294967295))
  fi (a2 = 0) (
    GX20_half_36 (((a0.toUInt64 >>> ((Int32.ofInt 32).toInt64.toUInt64 &&& Int64.toUInt64 63)).toInt64 <<< ((Int32.ofInt 32).toInt64 &&& 63)) ||| x1) M) (
    GX20_half_36 ((a0 &&& (Int64.ofInt 4294967295)) ||| (x1 <<< ((Int32.ofInt 32).toInt64 &&& 63))) M)
theorem gX20_half_0 (a0 : Int64) (a2 : Int32) (a3 : Int32) (M : FM) (T : Ty M) : gd (FX20_half_0 a0 a2 a3 M) (GX20_half_0 a0 a2 a3 M) (OkR M) := by
  delta FX20_half_0 BX20_half_0
  refine gd_fi (fun c0_0 => ?_) (fun c0_0 => ?_)
  · exact gd_tR (ext_r _) (gX20_half_36 _ _ ⟨T.1, T.2⟩  )
  · exact gd_tR (ext_r _) (gX20_half_36 _ _ ⟨T.1, T.2⟩  )
noncomputable def GX20_half (a0 : Int64) (a2 : Int32) (a3 : Int32) (M : FM) : Int64 × FM := GX20_half_0 a0 a2 a3 M
theorem gX20_half (a0 : Int64) (a2 : Int32) (a3 : Int32) (M : FM) (T : Ty M) : gd (FX20_half a0 a2 a3 M) (GX20_half a0 a2 a3 M) (OkR M) := gX20_half_0 a0 a2 a3 M T 
