/-! the law: its switch, case by case, printed by gen/lw.py -/
set_option maxRecDepth 100000
noncomputable def LC_0 (k33 : Nat → Nat → Nat → Nat → Int32 → FM → Option (Int32 × FM)) (a0 : Nat) (a1 : Nat) (a2 : Nat) (a3 : Nat) (a4 : Int32) (M : FM) : Option (Int32 × FM) :=

      let x2 : Int32 := (a4 + (Int32.ofInt 1))
      fi (fm_is M 906 906 a0 = true ∧ fm_in M a0 x2 = true) (
      let x3 : Int32 := (a4 + (Int32.ofInt 2))
      fi (fm_is M 906 906 a0 = true ∧ fm_in M a0 x3 = true) (
      let x4 : Int32 := (a4 + (Int32.ofInt 3))
      fi (fm_is M 906 906 a0 = true ∧ fm_in M a0 x4 = true) (
      let x5 : Int32 := (a4 + (Int32.ofInt 4))
      fi (fm_is M 906 906 a0 = true ∧ fm_in M a0 x5 = true) (
      let x6 : Int32 := (a4 + (Int32.ofInt 5))
      fi (fm_is M 906 906 a0 = true ∧ fm_in M a0 x6 = true) (
      ((Fh_law_feed fN) a1 (M.1 3 a0 x2.toNatClampNeg) (M.1 3 a0 x3.toNatClampNeg) (M.1 3 a0 x4.toNatClampNeg) (M.1 3 a0 x5.toNatClampNeg) (M.1 3 a0 x6.toNatClampNeg) a3 M).bind fun r7 =>
      let x8 : Int32 := (a4 + (Int32.ofInt 1))
      fi (fm_is r7.2 906 906 a0 = true ∧ fm_in r7.2 a0 x8 = true) (
      let x9 : Int32 := (a4 + (Int32.ofInt 2))
      fi (fm_is r7.2 906 906 a0 = true ∧ fm_in r7.2 a0 x9 = true) (
      let x10 : Int32 := (a4 + (Int32.ofInt 3))
      fi (fm_is r7.2 906 906 a0 = true ∧ fm_in r7.2 a0 x10 = true) (
      let x11 : Int32 := (a4 + (Int32.ofInt 4))
      fi (fm_is r7.2 906 906 a0 = true ∧ fm_in r7.2 a0 x11 = true) (
      let x12 : Int32 := (a4 + (Int32.ofInt 5))
      fi (fm_is r7.2 906 906 a0 = true ∧ fm_in r7.2 a0 x12 = true) (
      fi (fm_is r7.2 92 92 a2 = true) (
      ((FX92_feed fN) a2 (r7.2.1 3 a0 x8.toNatClampNeg) (r7.2.1 3 a0 x9.toNatClampNeg) (r7.2.1 3 a0 x10.toNatClampNeg) (r7.2.1 3 a0 x11.toNatClampNeg) (r7.2.1 3 a0 x12.toNatClampNeg) r7.2).bind fun r13 =>
      fi (fm_is r13.2 92 92 a2 = true) (
      (FX92_thrown a2 r13.2).bind fun r14 =>
      fi (r14.1 = r7.1) (
        fi (r7.1 = 0) (
          fi (fm_is r14.2 902 902 a3 = true ∧ fm_in r14.2 a3 (Int32.ofInt 0) = true) (
          fi ((lg_cmp (r14.2.2.1 3 a3 (Int32.ofInt 0).toNatClampNeg) r13.1.toInt64) = 0) (
            (FL_law_249 fN k33) a0 a1 a2 a3 a4 r14.2) (
            fi ((Int32.ofInt 0) = 0 ∨ (Int32.ofInt 0) = 1) (some ((Int32.ofInt 0), r14.2)) none)) none) (
          (FL_law_249 fN k33) a0 a1 a2 a3 a4 r14.2)) (
        fi ((Int32.ofInt 0) = 0 ∨ (Int32.ofInt 0) = 1) (some ((Int32.ofInt 0), r14.2)) none)) none) none) none) none) none) none) none) none) none) none) none) none
noncomputable def LC_1 (k33 : Nat → Nat → Nat → Nat → Int32 → FM → Option (Int32 × FM)) (a0 : Nat) (a1 : Nat) (a2 : Nat) (a3 : Nat) (a4 : Int32) (M : FM) : Option (Int32 × FM) :=

      let x15 : Int32 := (a4 + (Int32.ofInt 1))
      fi (fm_is M 906 906 a0 = true ∧ fm_in M a0 x15 = true) (
      ((Fh_law_end fN) a1 (M.1 3 a0 x15.toNatClampNeg) M).bind fun r16 =>
      let x17 : Int32 := (a4 + (Int32.ofInt 1))
      fi (fm_is r16.2 906 906 a0 = true ∧ fm_in r16.2 a0 x17 = true) (
      fi (fm_is r16.2 92 92 a2 = true) (
      (FX92_end a2 (r16.2.1 3 a0 x17.toNatClampNeg) r16.2).bind fun M18 =>
      fi (fm_is M18 92 92 a2 = true) (
      (FX92_thrown a2 M18).bind fun r19 =>
      fi (r19.1 = r16.1) (
        (FL_law_1194 fN k33) a0 a1 a2 a3 a4 r19.2) (
        fi ((Int32.ofInt 0) = 0 ∨ (Int32.ofInt 0) = 1) (some ((Int32.ofInt 0), r19.2)) none)) none) none) none) none
noncomputable def LC_2 (k33 : Nat → Nat → Nat → Nat → Int32 → FM → Option (Int32 × FM)) (a0 : Nat) (a1 : Nat) (a2 : Nat) (a3 : Nat) (a4 : Int32) (M : FM) : Option (Int32 × FM) :=

      let x20 : Int32 := (a4 + (Int32.ofInt 1))
      fi (fm_is M 906 906 a0 = true ∧ fm_in M a0 x20 = true) (
      let x21 : Int32 := (a4 + (Int32.ofInt 2))
      fi (fm_is M 906 906 a0 = true ∧ fm_in M a0 x21 = true) (
      let x22 : Int32 := (a4 + (Int32.ofInt 3))
      fi (fm_is M 906 906 a0 = true ∧ fm_in M a0 x22 = true) (
      ((Fh_law_load fN) a1 (M.1 3 a0 x20.toNatClampNeg) (((M.1 3 a0 x21.toNatClampNeg).toInt64 <<< ((Int32.ofInt 32).toInt64 &&& 63)) ||| ((M.1 3 a0 x22.toNatClampNeg).toInt64 &&& (Int64.ofInt 4294967295))) a3 M).bind fun r23 =>
      let x24 : Int32 := (a4 + (Int32.ofInt 1))
      fi (fm_is r23.2 906 906 a0 = true ∧ fm_in r23.2 a0 x24 = true) (
      let x25 : Int32 := (a4 + (Int32.ofInt 2))
      fi (fm_is r23.2 906 906 a0 = true ∧ fm_in r23.2 a0 x25 = true) (
      let x26 : Int32 := (a4 + (Int32.ofInt 3))
      fi (fm_is r23.2 906 906 a0 = true ∧ fm_in r23.2 a0 x26 = true) (
      fi (fm_is r23.2 92 92 a2 = true) (
      ((FX92_load fN) a2 (r23.2.1 3 a0 x24.toNatClampNeg) (((r23.2.1 3 a0 x25.toNatClampNeg).toInt64 <<< ((Int32.ofInt 32).toInt64 &&& 63)) ||| ((r23.2.1 3 a0 x26.toNatClampNeg).toInt64 &&& (Int64.ofInt 4294967295))) r23.2).bind fun r27 =>
      fi (fm_is r27.2 92 92 a2 = true) (
      (FX92_thrown a2 r27.2).bind fun r28 =>
      fi (r28.1 = r23.1) (
        fi (r23.1 = 0) (
          fi (fm_is r28.2 902 902 a3 = true ∧ fm_in r28.2 a3 (Int32.ofInt 0) = true) (
          fi ((lg_cmp (r28.2.2.1 3 a3 (Int32.ofInt 0).toNatClampNeg) r27.1.toInt64) = 0) (
            (FL_law_385 fN k33) a0 a1 a2 a3 a4 r28.2) (
            fi ((Int32.ofInt 0) = 0 ∨ (Int32.ofInt 0) = 1) (some ((Int32.ofInt 0), r28.2)) none)) none) (
          (FL_law_385 fN k33) a0 a1 a2 a3 a4 r28.2)) (
        fi ((Int32.ofInt 0) = 0 ∨ (Int32.ofInt 0) = 1) (some ((Int32.ofInt 0), r28.2)) none)) none) none) none) none) none) none) none) none
noncomputable def LC_3 (k33 : Nat → Nat → Nat → Nat → Int32 → FM → Option (Int32 × FM)) (a0 : Nat) (a1 : Nat) (a2 : Nat) (a3 : Nat) (a4 : Int32) (M : FM) : Option (Int32 × FM) :=

      fi (fm_is M 10 10 a1 = true) (
      ((FX1_start fN) a1 M).bind fun r29 =>
      fi (fm_is r29.2 92 92 a2 = true) (
      ((FX92_start fN) a2 r29.2).bind fun r30 =>
      fi (r29.1 = r30.1) (
        (FL_law_1194 fN k33) a0 a1 a2 a3 a4 r30.2) (
        fi ((Int32.ofInt 0) = 0 ∨ (Int32.ofInt 0) = 1) (some ((Int32.ofInt 0), r30.2)) none)) none) none
noncomputable def LC_4 (k33 : Nat → Nat → Nat → Nat → Int32 → FM → Option (Int32 × FM)) (a0 : Nat) (a1 : Nat) (a2 : Nat) (a3 : Nat) (a4 : Int32) (M : FM) : Option (Int32 × FM) :=

      let x31 : Int32 := (a4 + (Int32.ofInt 1))
      fi (fm_is M 906 906 a0 = true ∧ fm_in M a0 x31 = true) (
      ((Fh_law_run fN) a1 (M.1 3 a0 x31.toNatClampNeg) a3 M).bind fun r32 =>
      let x33 : Int32 := (a4 + (Int32.ofInt 1))
      fi (fm_is r32.2 906 906 a0 = true ∧ fm_in r32.2 a0 x33 = true) (
      fi (fm_is r32.2 92 92 a2 = true) (
      ((FX92_run fN) a2 (r32.2.1 3 a0 x33.toNatClampNeg) r32.2).bind fun r34 =>
      fi (fm_is r34.2 92 92 a2 = true) (
      (FX92_thrown a2 r34.2).bind fun r35 =>
      fi (r35.1 = r32.1) (
        fi (r32.1 = 0) (
          fi (fm_is r35.2 902 902 a3 = true ∧ fm_in r35.2 a3 (Int32.ofInt 0) = true) (
          fi ((lg_cmp (r35.2.2.1 3 a3 (Int32.ofInt 0).toNatClampNeg) r34.1.toInt64) = 0) (
            (FL_law_454 fN k33) a0 a1 a2 a3 a4 r35.2) (
            fi ((Int32.ofInt 0) = 0 ∨ (Int32.ofInt 0) = 1) (some ((Int32.ofInt 0), r35.2)) none)) none) (
          (FL_law_454 fN k33) a0 a1 a2 a3 a4 r35.2)) (
        fi ((Int32.ofInt 0) = 0 ∨ (Int32.ofInt 0) = 1) (some ((Int32.ofInt 0), r35.2)) none)) none) none) none) none
noncomputable def LC_5 (k33 : Nat → Nat → Nat → Nat → Int32 → FM → Option (Int32 × FM)) (a0 : Nat) (a1 : Nat) (a2 : Nat) (a3 : Nat) (a4 : Int32) (M : FM) : Option (Int32 × FM) :=

      fi (fm_is M 10 10 a1 = true) (
      (FX1_code a1 M).bind fun r36 =>
      fi (fm_is r36.2 92 92 a2 = true) (
      (FX92_code a2 r36.2).bind fun r37 =>
      fi (r36.1 = r37.1) (
        (FL_law_1194 fN k33) a0 a1 a2 a3 a4 r37.2) (
        fi ((Int32.ofInt 0) = 0 ∨ (Int32.ofInt 0) = 1) (some ((Int32.ofInt 0), r37.2)) none)) none) none
noncomputable def LC_6 (k33 : Nat → Nat → Nat → Nat → Int32 → FM → Option (Int32 × FM)) (a0 : Nat) (a1 : Nat) (a2 : Nat) (a3 : Nat) (a4 : Int32) (M : FM) : Option (Int32 × FM) :=

      fi (fm_is M 10 10 a1 = true) (
      (FX1_processors a1 M).bind fun r38 =>
      fi (fm_is r38.2 92 92 a2 = true) (
      (FX92_processors a2 r38.2).bind fun r39 =>
      fi (r38.1 = r39.1) (
        (FL_law_1194 fN k33) a0 a1 a2 a3 a4 r39.2) (
        fi ((Int32.ofInt 0) = 0 ∨ (Int32.ofInt 0) = 1) (some ((Int32.ofInt 0), r39.2)) none)) none) none
noncomputable def LC_7 (k33 : Nat → Nat → Nat → Nat → Int32 → FM → Option (Int32 × FM)) (a0 : Nat) (a1 : Nat) (a2 : Nat) (a3 : Nat) (a4 : Int32) (M : FM) : Option (Int32 × FM) :=

      let x40 : Int32 := (a4 + (Int32.ofInt 1))
      fi (fm_is M 906 906 a0 = true ∧ fm_in M a0 x40 = true) (
      ((Fh_law_counter fN) a1 (M.1 3 a0 x40.toNatClampNeg) a3 M).bind fun r41 =>
      let x42 : Int32 := (a4 + (Int32.ofInt 1))
      fi (fm_is r41.2 906 906 a0 = true ∧ fm_in r41.2 a0 x42 = true) (
      fi (fm_is r41.2 92 92 a2 = true) (
      (FX92_counter a2 (r41.2.1 3 a0 x42.toNatClampNeg) r41.2).bind fun r43 =>
      fi (fm_is r43.2 92 92 a2 = true) (
      (FX92_thrown a2 r43.2).bind fun r44 =>
      fi (r44.1 = r41.1) (
        fi (r41.1 = 0) (
          fi (fm_is r44.2 902 902 a3 = true ∧ fm_in r44.2 a3 (Int32.ofInt 0) = true) (
          fi ((lg_cmp (r44.2.2.1 3 a3 (Int32.ofInt 0).toNatClampNeg) r43.1) = 0) (
            (FL_law_535 fN k33) a0 a1 a2 a3 a4 r44.2) (
            fi ((Int32.ofInt 0) = 0 ∨ (Int32.ofInt 0) = 1) (some ((Int32.ofInt 0), r44.2)) none)) none) (
          (FL_law_535 fN k33) a0 a1 a2 a3 a4 r44.2)) (
        fi ((Int32.ofInt 0) = 0 ∨ (Int32.ofInt 0) = 1) (some ((Int32.ofInt 0), r44.2)) none)) none) none) none) none
noncomputable def LC_8 (k33 : Nat → Nat → Nat → Nat → Int32 → FM → Option (Int32 × FM)) (a0 : Nat) (a1 : Nat) (a2 : Nat) (a3 : Nat) (a4 : Int32) (M : FM) : Option (Int32 × FM) :=

      let x45 : Int32 := (a4 + (Int32.ofInt 1))
      fi (fm_is M 906 906 a0 = true ∧ fm_in M a0 x45 = true) (
      let x46 : Int32 := (a4 + (Int32.ofInt 2))
      fi (fm_is M 906 906 a0 = true ∧ fm_in M a0 x46 = true) (
      ((Fh_law_register fN) a1 (M.1 3 a0 x45.toNatClampNeg) (M.1 3 a0 x46.toNatClampNeg) a3 M).bind fun r47 =>
      let x48 : Int32 := (a4 + (Int32.ofInt 1))
      fi (fm_is r47.2 906 906 a0 = true ∧ fm_in r47.2 a0 x48 = true) (
      let x49 : Int32 := (a4 + (Int32.ofInt 2))
      fi (fm_is r47.2 906 906 a0 = true ∧ fm_in r47.2 a0 x49 = true) (
      fi (fm_is r47.2 92 92 a2 = true) (
      (FX92_register a2 (r47.2.1 3 a0 x48.toNatClampNeg) (r47.2.1 3 a0 x49.toNatClampNeg) r47.2).bind fun r50 =>
      fi (fm_is r50.2 92 92 a2 = true) (
      (FX92_thrown a2 r50.2).bind fun r51 =>
      fi (r51.1 = r47.1) (
        fi (r47.1 = 0) (
          fi (fm_is r51.2 902 902 a3 = true ∧ fm_in r51.2 a3 (Int32.ofInt 0) = true) (
          fi ((lg_cmp (r51.2.2.1 3 a3 (Int32.ofInt 0).toNatClampNeg) r50.1) = 0) (
            (FL_law_602 fN k33) a0 a1 a2 a3 a4 r51.2) (
            fi ((Int32.ofInt 0) = 0 ∨ (Int32.ofInt 0) = 1) (some ((Int32.ofInt 0), r51.2)) none)) none) (
          (FL_law_602 fN k33) a0 a1 a2 a3 a4 r51.2)) (
        fi ((Int32.ofInt 0) = 0 ∨ (Int32.ofInt 0) = 1) (some ((Int32.ofInt 0), r51.2)) none)) none) none) none) none) none) none
noncomputable def LC_9 (k33 : Nat → Nat → Nat → Nat → Int32 → FM → Option (Int32 × FM)) (a0 : Nat) (a1 : Nat) (a2 : Nat) (a3 : Nat) (a4 : Int32) (M : FM) : Option (Int32 × FM) :=

      let x52 : Int32 := (a4 + (Int32.ofInt 1))
      fi (fm_is M 906 906 a0 = true ∧ fm_in M a0 x52 = true) (
      let x53 : Int32 := (a4 + (Int32.ofInt 2))
      fi (fm_is M 906 906 a0 = true ∧ fm_in M a0 x53 = true) (
      ((Fh_law_floating fN) a1 (M.1 3 a0 x52.toNatClampNeg) (M.1 3 a0 x53.toNatClampNeg) a3 M).bind fun r54 =>
      let x55 : Int32 := (a4 + (Int32.ofInt 1))
      fi (fm_is r54.2 906 906 a0 = true ∧ fm_in r54.2 a0 x55 = true) (
      let x56 : Int32 := (a4 + (Int32.ofInt 2))
      fi (fm_is r54.2 906 906 a0 = true ∧ fm_in r54.2 a0 x56 = true) (
      fi (fm_is r54.2 92 92 a2 = true) (
      (FX92_floating_2 a2 (r54.2.1 3 a0 x55.toNatClampNeg) (r54.2.1 3 a0 x56.toNatClampNeg) r54.2).bind fun r57 =>
      fi (fm_is r57.2 92 92 a2 = true) (
      (FX92_thrown a2 r57.2).bind fun r58 =>
      fi (r58.1 = r54.1) (
        fi (r54.1 = 0) (
          fi (fm_is r58.2 902 902 a3 = true ∧ fm_in r58.2 a3 (Int32.ofInt 0) = true) (
          fi ((lg_cmp (r58.2.2.1 3 a3 (Int32.ofInt 0).toNatClampNeg) r57.1) = 0) (
            (FL_law_669 fN k33) a0 a1 a2 a3 a4 r58.2) (
            fi ((Int32.ofInt 0) = 0 ∨ (Int32.ofInt 0) = 1) (some ((Int32.ofInt 0), r58.2)) none)) none) (
          (FL_law_669 fN k33) a0 a1 a2 a3 a4 r58.2)) (
        fi ((Int32.ofInt 0) = 0 ∨ (Int32.ofInt 0) = 1) (some ((Int32.ofInt 0), r58.2)) none)) none) none) none) none) none) none
noncomputable def LC_10 (k33 : Nat → Nat → Nat → Nat → Int32 → FM → Option (Int32 × FM)) (a0 : Nat) (a1 : Nat) (a2 : Nat) (a3 : Nat) (a4 : Int32) (M : FM) : Option (Int32 × FM) :=

      let x59 : Int32 := (a4 + (Int32.ofInt 1))
      fi (fm_is M 906 906 a0 = true ∧ fm_in M a0 x59 = true) (
      let x60 : Int32 := (a4 + (Int32.ofInt 2))
      fi (fm_is M 906 906 a0 = true ∧ fm_in M a0 x60 = true) (
      ((Fh_law_control fN) a1 (M.1 3 a0 x59.toNatClampNeg) (M.1 3 a0 x60.toNatClampNeg) a3 M).bind fun r61 =>
      let x62 : Int32 := (a4 + (Int32.ofInt 1))
      fi (fm_is r61.2 906 906 a0 = true ∧ fm_in r61.2 a0 x62 = true) (
      let x63 : Int32 := (a4 + (Int32.ofInt 2))
      fi (fm_is r61.2 906 906 a0 = true ∧ fm_in r61.2 a0 x63 = true) (
      fi (fm_is r61.2 92 92 a2 = true) (
      ((FX92_control fN) a2 (r61.2.1 3 a0 x62.toNatClampNeg) (r61.2.1 3 a0 x63.toNatClampNeg) r61.2).bind fun r64 =>
      fi (fm_is r64.2 92 92 a2 = true) (
      (FX92_thrown a2 r64.2).bind fun r65 =>
      fi (r65.1 = r61.1) (
        fi (r61.1 = 0) (
          fi (fm_is r65.2 902 902 a3 = true ∧ fm_in r65.2 a3 (Int32.ofInt 0) = true) (
          fi ((lg_cmp (r65.2.2.1 3 a3 (Int32.ofInt 0).toNatClampNeg) r64.1) = 0) (
            (FL_law_736 fN k33) a0 a1 a2 a3 a4 r65.2) (
            fi ((Int32.ofInt 0) = 0 ∨ (Int32.ofInt 0) = 1) (some ((Int32.ofInt 0), r65.2)) none)) none) (
          (FL_law_736 fN k33) a0 a1 a2 a3 a4 r65.2)) (
        fi ((Int32.ofInt 0) = 0 ∨ (Int32.ofInt 0) = 1) (some ((Int32.ofInt 0), r65.2)) none)) none) none) none) none) none) none
noncomputable def LC_11 (k33 : Nat → Nat → Nat → Nat → Int32 → FM → Option (Int32 × FM)) (a0 : Nat) (a1 : Nat) (a2 : Nat) (a3 : Nat) (a4 : Int32) (M : FM) : Option (Int32 × FM) :=

      let x66 : Int32 := (a4 + (Int32.ofInt 1))
      fi (fm_is M 906 906 a0 = true ∧ fm_in M a0 x66 = true) (
      ((Fh_law_mode fN) a1 (M.1 3 a0 x66.toNatClampNeg) a3 M).bind fun r67 =>
      let x68 : Int32 := (a4 + (Int32.ofInt 1))
      fi (fm_is r67.2 906 906 a0 = true ∧ fm_in r67.2 a0 x68 = true) (
      fi (fm_is r67.2 92 92 a2 = true) (
      (FX92_mode a2 (r67.2.1 3 a0 x68.toNatClampNeg) r67.2).bind fun r69 =>
      fi (fm_is r69.2 92 92 a2 = true) (
      (FX92_thrown a2 r69.2).bind fun r70 =>
      fi (r70.1 = r67.1) (
        fi (r67.1 = 0) (
          fi (fm_is r70.2 902 902 a3 = true ∧ fm_in r70.2 a3 (Int32.ofInt 0) = true) (
          fi ((lg_cmp (r70.2.2.1 3 a3 (Int32.ofInt 0).toNatClampNeg) r69.1.toInt64) = 0) (
            (FL_law_792 fN k33) a0 a1 a2 a3 a4 r70.2) (
            fi ((Int32.ofInt 0) = 0 ∨ (Int32.ofInt 0) = 1) (some ((Int32.ofInt 0), r70.2)) none)) none) (
          (FL_law_792 fN k33) a0 a1 a2 a3 a4 r70.2)) (
        fi ((Int32.ofInt 0) = 0 ∨ (Int32.ofInt 0) = 1) (some ((Int32.ofInt 0), r70.2)) none)) none) none) none) none
noncomputable def LC_12 (k33 : Nat → Nat → Nat → Nat → Int32 → FM → Option (Int32 × FM)) (a0 : Nat) (a1 : Nat) (a2 : Nat) (a3 : Nat) (a4 : Int32) (M : FM) : Option (Int32 × FM) :=

      let x71 : Int32 := (a4 + (Int32.ofInt 1))
      fi (fm_is M 906 906 a0 = true ∧ fm_in M a0 x71 = true) (
      let x72 : Int32 := (a4 + (Int32.ofInt 2))
      fi (fm_is M 906 906 a0 = true ∧ fm_in M a0 x72 = true) (
      ((Fh_law_word fN) a1 (((M.1 3 a0 x71.toNatClampNeg).toInt64 <<< ((Int32.ofInt 32).toInt64 &&& 63)) ||| ((M.1 3 a0 x72.toNatClampNeg).toInt64 &&& (Int64.ofInt 4294967295))) a3 M).bind fun r73 =>
      let x74 : Int32 := (a4 + (Int32.ofInt 1))
      fi (fm_is r73.2 906 906 a0 = true ∧ fm_in r73.2 a0 x74 = true) (
      let x75 : Int32 := (a4 + (Int32.ofInt 2))
      fi (fm_is r73.2 906 906 a0 = true ∧ fm_in r73.2 a0 x75 = true) (
      fi (fm_is r73.2 92 92 a2 = true) (
      ((FX92_word fN) a2 (((r73.2.1 3 a0 x74.toNatClampNeg).toInt64 <<< ((Int32.ofInt 32).toInt64 &&& 63)) ||| ((r73.2.1 3 a0 x75.toNatClampNeg).toInt64 &&& (Int64.ofInt 4294967295))) r73.2).bind fun r76 =>
      fi (fm_is r76.2 92 92 a2 = true) (
      (FX92_thrown a2 r76.2).bind fun r77 =>
      fi (r77.1 = r73.1) (
        fi (r73.1 = 0) (
          fi (fm_is r77.2 902 902 a3 = true ∧ fm_in r77.2 a3 (Int32.ofInt 0) = true) (
          fi ((lg_cmp (r77.2.2.1 3 a3 (Int32.ofInt 0).toNatClampNeg) r76.1) = 0) (
            (FL_law_879 fN k33) a0 a1 a2 a3 a4 r77.2) (
            fi ((Int32.ofInt 0) = 0 ∨ (Int32.ofInt 0) = 1) (some ((Int32.ofInt 0), r77.2)) none)) none) (
          (FL_law_879 fN k33) a0 a1 a2 a3 a4 r77.2)) (
        fi ((Int32.ofInt 0) = 0 ∨ (Int32.ofInt 0) = 1) (some ((Int32.ofInt 0), r77.2)) none)) none) none) none) none) none) none
noncomputable def LC_13 (k33 : Nat → Nat → Nat → Nat → Int32 → FM → Option (Int32 × FM)) (a0 : Nat) (a1 : Nat) (a2 : Nat) (a3 : Nat) (a4 : Int32) (M : FM) : Option (Int32 × FM) :=

      let x78 : Int32 := (a4 + (Int32.ofInt 1))
      fi (fm_is M 906 906 a0 = true ∧ fm_in M a0 x78 = true) (
      let x79 : Int32 := (a4 + (Int32.ofInt 2))
      fi (fm_is M 906 906 a0 = true ∧ fm_in M a0 x79 = true) (
      let x80 : Int32 := (a4 + (Int32.ofInt 3))
      fi (fm_is M 906 906 a0 = true ∧ fm_in M a0 x80 = true) (
      let x81 : Int32 := (a4 + (Int32.ofInt 4))
      fi (fm_is M 906 906 a0 = true ∧ fm_in M a0 x81 = true) (
      ((Fh_law_sum fN) a1 (((M.1 3 a0 x78.toNatClampNeg).toInt64 <<< ((Int32.ofInt 32).toInt64 &&& 63)) ||| ((M.1 3 a0 x79.toNatClampNeg).toInt64 &&& (Int64.ofInt 4294967295))) (((M.1 3 a0 x80.toNatClampNeg).toInt64 <<< ((Int32.ofInt 32).toInt64 &&& 63)) ||| ((M.1 3 a0 x81.toNatClampNeg).toInt64 &&& (Int64.ofInt 4294967295))) a3 M).bind fun r82 =>
      let x83 : Int32 := (a4 + (Int32.ofInt 1))
      fi (fm_is r82.2 906 906 a0 = true ∧ fm_in r82.2 a0 x83 = true) (
      let x84 : Int32 := (a4 + (Int32.ofInt 2))
      fi (fm_is r82.2 906 906 a0 = true ∧ fm_in r82.2 a0 x84 = true) (
      let x85 : Int32 := (a4 + (Int32.ofInt 3))
      fi (fm_is r82.2 906 906 a0 = true ∧ fm_in r82.2 a0 x85 = true) (
      let x86 : Int32 := (a4 + (Int32.ofInt 4))
      fi (fm_is r82.2 906 906 a0 = true ∧ fm_in r82.2 a0 x86 = true) (
      fi (fm_is r82.2 92 92 a2 = true) (
      ((FX92_sum fN) a2 (((r82.2.1 3 a0 x83.toNatClampNeg).toInt64 <<< ((Int32.ofInt 32).toInt64 &&& 63)) ||| ((r82.2.1 3 a0 x84.toNatClampNeg).toInt64 &&& (Int64.ofInt 4294967295))) (((r82.2.1 3 a0 x85.toNatClampNeg).toInt64 <<< ((Int32.ofInt 32).toInt64 &&& 63)) ||| ((r82.2.1 3 a0 x86.toNatClampNeg).toInt64 &&& (Int64.ofInt 4294967295))) r82.2).bind fun r87 =>
      fi (fm_is r87.2 92 92 a2 = true) (
      (FX92_thrown a2 r87.2).bind fun r88 =>
      fi (r88.1 = r82.1) (
        fi (r82.1 = 0) (
          fi (fm_is r88.2 902 902 a3 = true ∧ fm_in r88.2 a3 (Int32.ofInt 0) = true) (
          fi ((lg_cmp (r88.2.2.1 3 a3 (Int32.ofInt 0).toNatClampNeg) r87.1) = 0) (
            (FL_law_1010 fN k33) a0 a1 a2 a3 a4 r88.2) (
            fi ((Int32.ofInt 0) = 0 ∨ (Int32.ofInt 0) = 1) (some ((Int32.ofInt 0), r88.2)) none)) none) (
          (FL_law_1010 fN k33) a0 a1 a2 a3 a4 r88.2)) (
        fi ((Int32.ofInt 0) = 0 ∨ (Int32.ofInt 0) = 1) (some ((Int32.ofInt 0), r88.2)) none)) none) none) none) none) none) none) none) none) none) none
noncomputable def LC_14 (k33 : Nat → Nat → Nat → Nat → Int32 → FM → Option (Int32 × FM)) (a0 : Nat) (a1 : Nat) (a2 : Nat) (a3 : Nat) (a4 : Int32) (M : FM) : Option (Int32 × FM) :=

      let x89 : Int32 := (a4 + (Int32.ofInt 1))
      fi (fm_is M 906 906 a0 = true ∧ fm_in M a0 x89 = true) (
      ((Fh_law_disk fN) a1 (M.1 3 a0 x89.toNatClampNeg) a3 M).bind fun r90 =>
      let x91 : Int32 := (a4 + (Int32.ofInt 1))
      fi (fm_is r90.2 906 906 a0 = true ∧ fm_in r90.2 a0 x91 = true) (
      fi (fm_is r90.2 92 92 a2 = true) (
      (FX92_disk a2 (r90.2.1 3 a0 x91.toNatClampNeg) r90.2).bind fun r92 =>
      fi (fm_is r92.2 92 92 a2 = true) (
      (FX92_thrown a2 r92.2).bind fun r93 =>
      fi (r93.1 = r90.1) (
        fi (r90.1 = 0) (
          fi (fm_is r93.2 902 902 a3 = true ∧ fm_in r93.2 a3 (Int32.ofInt 0) = true) (
          fi ((lg_cmp (r93.2.2.1 3 a3 (Int32.ofInt 0).toNatClampNeg) r92.1.toInt64) = 0) (
            (FL_law_1066 fN k33) a0 a1 a2 a3 a4 r93.2) (
            fi ((Int32.ofInt 0) = 0 ∨ (Int32.ofInt 0) = 1) (some ((Int32.ofInt 0), r93.2)) none)) none) (
          (FL_law_1066 fN k33) a0 a1 a2 a3 a4 r93.2)) (
        fi ((Int32.ofInt 0) = 0 ∨ (Int32.ofInt 0) = 1) (some ((Int32.ofInt 0), r93.2)) none)) none) none) none) none
noncomputable def LC_15 (k33 : Nat → Nat → Nat → Nat → Int32 → FM → Option (Int32 × FM)) (a0 : Nat) (a1 : Nat) (a2 : Nat) (a3 : Nat) (a4 : Int32) (M : FM) : Option (Int32 × FM) :=

      fi (fm_is M 10 10 a1 = true) (
      (FX1_sent a1 M).bind fun r94 =>
      fi (fm_is r94.2 92 92 a2 = true) (
      (FX92_sent a2 r94.2).bind fun r95 =>
      fi ((lg_cmp r94.1 r95.1) = 0) (
        (FL_law_1194 fN k33) a0 a1 a2 a3 a4 r95.2) (
        fi ((Int32.ofInt 0) = 0 ∨ (Int32.ofInt 0) = 1) (some ((Int32.ofInt 0), r95.2)) none)) none) none
noncomputable def LC_16 (k33 : Nat → Nat → Nat → Nat → Int32 → FM → Option (Int32 × FM)) (a0 : Nat) (a1 : Nat) (a2 : Nat) (a3 : Nat) (a4 : Int32) (M : FM) : Option (Int32 × FM) :=

      let x96 : Int32 := (a4 + (Int32.ofInt 1))
      fi (fm_is M 906 906 a0 = true ∧ fm_in M a0 x96 = true) (
      let x97 : Int32 := (a4 + (Int32.ofInt 2))
      fi (fm_is M 906 906 a0 = true ∧ fm_in M a0 x97 = true) (
      fi (fm_is M 10 10 a1 = true) (
      (FX1_out a1 (((M.1 3 a0 x96.toNatClampNeg).toInt64 <<< ((Int32.ofInt 32).toInt64 &&& 63)) ||| ((M.1 3 a0 x97.toNatClampNeg).toInt64 &&& (Int64.ofInt 4294967295))) M).bind fun r98 =>
      let x99 : Int32 := (a4 + (Int32.ofInt 1))
      fi (fm_is r98.2 906 906 a0 = true ∧ fm_in r98.2 a0 x99 = true) (
      let x100 : Int32 := (a4 + (Int32.ofInt 2))
      fi (fm_is r98.2 906 906 a0 = true ∧ fm_in r98.2 a0 x100 = true) (
      fi (fm_is r98.2 92 92 a2 = true) (
      (FX92_out a2 (((r98.2.1 3 a0 x99.toNatClampNeg).toInt64 <<< ((Int32.ofInt 32).toInt64 &&& 63)) ||| ((r98.2.1 3 a0 x100.toNatClampNeg).toInt64 &&& (Int64.ofInt 4294967295))) r98.2).bind fun r101 =>
      fi (r98.1 = r101.1) (
        (FL_law_1194 fN k33) a0 a1 a2 a3 a4 r101.2) (
        fi ((Int32.ofInt 0) = 0 ∨ (Int32.ofInt 0) = 1) (some ((Int32.ofInt 0), r101.2)) none)) none) none) none) none) none) none
noncomputable def LC_17 (k33 : Nat → Nat → Nat → Nat → Int32 → FM → Option (Int32 × FM)) (a0 : Nat) (a1 : Nat) (a2 : Nat) (a3 : Nat) (a4 : Int32) (M : FM) : Option (Int32 × FM) :=

      fi (fm_is M 10 10 a1 = true) (
      (FX1_waiting a1 M).bind fun r102 =>
      fi (fm_is r102.2 92 92 a2 = true) (
      (FX92_waiting a2 r102.2).bind fun r103 =>
      fi (r102.1 = r103.1) (
        (FL_law_1194 fN k33) a0 a1 a2 a3 a4 r103.2) (
        fi ((Int32.ofInt 0) = 0 ∨ (Int32.ofInt 0) = 1) (some ((Int32.ofInt 0), r103.2)) none)) none) none
noncomputable def LC_18 (k33 : Nat → Nat → Nat → Nat → Int32 → FM → Option (Int32 × FM)) (a0 : Nat) (a1 : Nat) (a2 : Nat) (a3 : Nat) (a4 : Int32) (M : FM) : Option (Int32 × FM) :=

      fi (fm_is M 10 10 a1 = true) (
      (FX1_changed a1 M).bind fun r104 =>
      fi (fm_is r104.2 92 92 a2 = true) (
      (FX92_changed a2 r104.2).bind fun r105 =>
      fi (r104.1 = r105.1) (
        (FL_law_1194 fN k33) a0 a1 a2 a3 a4 r105.2) (
        fi ((Int32.ofInt 0) = 0 ∨ (Int32.ofInt 0) = 1) (some ((Int32.ofInt 0), r105.2)) none)) none) none
noncomputable def LC_19 (k33 : Nat → Nat → Nat → Nat → Int32 → FM → Option (Int32 × FM)) (a0 : Nat) (a1 : Nat) (a2 : Nat) (a3 : Nat) (a4 : Int32) (M : FM) : Option (Int32 × FM) :=

      fi (fm_is M 10 10 a1 = true) (
      (FX1_time a1 M).bind fun r106 =>
      fi (fm_is r106.2 92 92 a2 = true) (
      (FX92_time a2 r106.2).bind fun r107 =>
      fi ((lg_cmp r106.1 r107.1) = 0) (
        (FL_law_1194 fN k33) a0 a1 a2 a3 a4 r107.2) (
        fi ((Int32.ofInt 0) = 0 ∨ (Int32.ofInt 0) = 1) (some ((Int32.ofInt 0), r107.2)) none)) none) none
noncomputable def LC_20 (k33 : Nat → Nat → Nat → Nat → Int32 → FM → Option (Int32 × FM)) (a0 : Nat) (a1 : Nat) (a2 : Nat) (a3 : Nat) (a4 : Int32) (M : FM) : Option (Int32 × FM) :=

      fi (fm_is M 10 10 a1 = true) (
      (FX1_breaches a1 M).bind fun r108 =>
      fi (fm_is r108.2 92 92 a2 = true) (
      (FX92_breaches a2 r108.2).bind fun r109 =>
      fi ((lg_cmp r108.1 r109.1) = 0) (
        (FL_law_1194 fN k33) a0 a1 a2 a3 a4 r109.2) (
        fi ((Int32.ofInt 0) = 0 ∨ (Int32.ofInt 0) = 1) (some ((Int32.ofInt 0), r109.2)) none)) none) none
theorem lw_33 (k33 : Nat → Nat → Nat → Nat → Int32 → FM → Option (Int32 × FM)) (a0 : Nat) (a1 : Nat) (a2 : Nat) (a3 : Nat) (a4 : Int32) (M : FM) : FL_law_33 fN k33 a0 a1 a2 a3 a4 M = fi (fm_is M 901 990 a0 = true) (fi (((Int32.ofNat (M.2.2 1 a0 0)) - (Int32.ofInt 6)) < a4) (fi ((Int32.ofInt 1) = 0 ∨ (Int32.ofInt 1) = 1) (some ((Int32.ofInt 1), M)) none) (fi (fm_is M 906 906 a0 = true ∧ fm_in M a0 a4 = true) (fi ((M.1 3 a0 a4.toNatClampNeg) &&& (Int32.ofInt 31) = Int32.ofInt 0) (LC_0 k33 a0 a1 a2 a3 a4 M) (fi ((M.1 3 a0 a4.toNatClampNeg) &&& (Int32.ofInt 31) = Int32.ofInt 1) (LC_1 k33 a0 a1 a2 a3 a4 M) (fi ((M.1 3 a0 a4.toNatClampNeg) &&& (Int32.ofInt 31) = Int32.ofInt 2) (LC_2 k33 a0 a1 a2 a3 a4 M) (fi ((M.1 3 a0 a4.toNatClampNeg) &&& (Int32.ofInt 31) = Int32.ofInt 3) (LC_3 k33 a0 a1 a2 a3 a4 M) (fi ((M.1 3 a0 a4.toNatClampNeg) &&& (Int32.ofInt 31) = Int32.ofInt 4) (LC_4 k33 a0 a1 a2 a3 a4 M) (fi ((M.1 3 a0 a4.toNatClampNeg) &&& (Int32.ofInt 31) = Int32.ofInt 5) (LC_5 k33 a0 a1 a2 a3 a4 M) (fi ((M.1 3 a0 a4.toNatClampNeg) &&& (Int32.ofInt 31) = Int32.ofInt 6) (LC_6 k33 a0 a1 a2 a3 a4 M) (fi ((M.1 3 a0 a4.toNatClampNeg) &&& (Int32.ofInt 31) = Int32.ofInt 7) (LC_7 k33 a0 a1 a2 a3 a4 M) (fi ((M.1 3 a0 a4.toNatClampNeg) &&& (Int32.ofInt 31) = Int32.ofInt 8) (LC_8 k33 a0 a1 a2 a3 a4 M) (fi ((M.1 3 a0 a4.toNatClampNeg) &&& (Int32.ofInt 31) = Int32.ofInt 9) (LC_9 k33 a0 a1 a2 a3 a4 M) (fi ((M.1 3 a0 a4.toNatClampNeg) &&& (Int32.ofInt 31) = Int32.ofInt 10) (LC_10 k33 a0 a1 a2 a3 a4 M) (fi ((M.1 3 a0 a4.toNatClampNeg) &&& (Int32.ofInt 31) = Int32.ofInt 11) (LC_11 k33 a0 a1 a2 a3 a4 M) (fi ((M.1 3 a0 a4.toNatClampNeg) &&& (Int32.ofInt 31) = Int32.ofInt 12) (LC_12 k33 a0 a1 a2 a3 a4 M) (fi ((M.1 3 a0 a4.toNatClampNeg) &&& (Int32.ofInt 31) = Int32.ofInt 13) (LC_13 k33 a0 a1 a2 a3 a4 M) (fi ((M.1 3 a0 a4.toNatClampNeg) &&& (Int32.ofInt 31) = Int32.ofInt 14) (LC_14 k33 a0 a1 a2 a3 a4 M) (fi ((M.1 3 a0 a4.toNatClampNeg) &&& (Int32.ofInt 31) = Int32.ofInt 15) (LC_15 k33 a0 a1 a2 a3 a4 M) (fi ((M.1 3 a0 a4.toNatClampNeg) &&& (Int32.ofInt 31) = Int32.ofInt 16) (LC_16 k33 a0 a1 a2 a3 a4 M) (fi ((M.1 3 a0 a4.toNatClampNeg) &&& (Int32.ofInt 31) = Int32.ofInt 17) (LC_17 k33 a0 a1 a2 a3 a4 M) (fi ((M.1 3 a0 a4.toNatClampNeg) &&& (Int32.ofInt 31) = Int32.ofInt 18) (LC_18 k33 a0 a1 a2 a3 a4 M) (fi ((M.1 3 a0 a4.toNatClampNeg) &&& (Int32.ofInt 31) = Int32.ofInt 19) (LC_19 k33 a0 a1 a2 a3 a4 M) (fi ((M.1 3 a0 a4.toNatClampNeg) &&& (Int32.ofInt 31) = Int32.ofInt 20) (LC_20 k33 a0 a1 a2 a3 a4 M) ((FL_law_1194 fN k33) a0 a1 a2 a3 a4 M)))))))))))))))))))))) none)) none := by rfl
