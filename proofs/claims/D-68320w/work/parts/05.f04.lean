/-! functions of methods, printed by gen/defs.py -/
set_option maxRecDepth 100000
/-! BoardMachine$Floats$Format.quiet()J -/
noncomputable def BX61_quiet_0 (f0 : Nat → FM → Option (Int64 × FM)) (a0 : Nat) (M : FM) : Option (Int64 × FM) :=
  fi (fm_is M 33 33 a0 = true) (
  (f0 a0 M).bind fun r1 =>
  fi (fm_is r1.2 33 33 a0 = true) (
  some ((r1.1 ||| ((Int64.ofInt 1) <<< (((r1.2.1 109 a0 0) - (Int32.ofInt 1)).toInt64 &&& 63))), r1.2)) none) none
noncomputable def FX61_quiet_0 (a0 : Nat) (M : FM) : Option (Int64 × FM) := BX61_quiet_0 FX61_top a0 M
noncomputable def FX61_quiet (a0 : Nat) (M : FM) : Option (Int64 × FM) := FX61_quiet_0 a0 M
/-! BoardMachine$Floats$FloatUnit.read(ILBoardMachine$Floats$Format;)J -/
noncomputable def BX59_read_42 (s0 : Int64) (M : FM) : Option (Int64 × FM) :=
  some (s0, M)
noncomputable def FX59_read_42 (s0 : Int64) (M : FM) : Option (Int64 × FM) := BX59_read_42 s0 M
noncomputable def BX59_read_0 (f0 : Nat → FM → Option (Int32 × FM)) (f1 : Nat → FM → Option (Int64 × FM)) (g42 : Int64 → FM → Option (Int64 × FM)) (a0 : Nat) (a1 : Int32) (a2 : Nat) (M : FM) : Option (Int64 × FM) :=
  fi (fm_is M 32 32 a0 = true) (
  let x1 : Nat := (M.2.2 93 a0 0)
  fi (fm_is M 902 902 x1 = true ∧ fm_in M x1 a1 = true) (
  let x2 : Int64 := (M.2.1 3 x1 a1.toNatClampNeg)
  (f0 a2 M).bind fun r3 =>
  fi (r3.1 = 0) (
    fi ((lg_cmp (x2 &&& (Int64.ofInt (-4294967296))) (Int64.ofInt (-4294967296))) = 0) (
      g42 (x2 &&& (Int64.ofInt 4294967295)) r3.2) (
      fi (fm_is r3.2 33 33 a2 = true) (
      (f1 a2 r3.2).bind fun r4 =>
      g42 r4.1 r4.2) none)) (
    g42 x2 r3.2)) none) none
noncomputable def FX59_read_0 (a0 : Nat) (a1 : Int32) (a2 : Nat) (M : FM) : Option (Int64 × FM) := BX59_read_0 FX59_isDouble FX61_quiet FX59_read_42 a0 a1 a2 M
noncomputable def FX59_read (a0 : Nat) (a1 : Int32) (a2 : Nat) (M : FM) : Option (Int64 × FM) := FX59_read_0 a0 a1 a2 M
/-! BoardMachine$Floats$Format.hasSign(J)Z -/
noncomputable def BX61_hasSign_18 (s0 : Int32) (M : FM) : Option (Int32 × FM) :=
  fi (s0 = 0 ∨ s0 = 1) (some (s0, M)) none
noncomputable def FX61_hasSign_18 (s0 : Int32) (M : FM) : Option (Int32 × FM) := BX61_hasSign_18 s0 M
noncomputable def BX61_hasSign_0 (g18 : Int32 → FM → Option (Int32 × FM)) (a0 : Nat) (a1 : Int64) (M : FM) : Option (Int32 × FM) :=
  fi (fm_is M 33 33 a0 = true) (
  fi ((lg_cmp ((a1.toUInt64 >>> ((M.1 111 a0 0).toInt64.toUInt64 &&& Int64.toUInt64 63)).toInt64 &&& (Int64.ofInt 1)) (Int64.ofInt 1)) = 0) (
    g18 (Int32.ofInt 1) M) (
    g18 (Int32.ofInt 0) M)) none
noncomputable def FX61_hasSign_0 (a0 : Nat) (a1 : Int64) (M : FM) : Option (Int32 × FM) := BX61_hasSign_0 FX61_hasSign_18 a0 a1 M
noncomputable def FX61_hasSign (a0 : Nat) (a1 : Int64) (M : FM) : Option (Int32 × FM) := FX61_hasSign_0 a0 a1 M
/-! BoardMachine$Floats$Format.sign(Z)J -/
noncomputable def BX61_sign_14 (s0 : Int64) (M : FM) : Option (Int64 × FM) :=
  some (s0, M)
noncomputable def FX61_sign_14 (s0 : Int64) (M : FM) : Option (Int64 × FM) := BX61_sign_14 s0 M
noncomputable def BX61_sign_0 (g14 : Int64 → FM → Option (Int64 × FM)) (a0 : Nat) (a1 : Int32) (M : FM) : Option (Int64 × FM) :=
  fi (a1 = 0) (
    g14 (Int64.ofInt 0) M) (
    fi (fm_is M 33 33 a0 = true) (
    g14 ((Int64.ofInt 1) <<< ((M.1 111 a0 0).toInt64 &&& 63)) M) none)
noncomputable def FX61_sign_0 (a0 : Nat) (a1 : Int32) (M : FM) : Option (Int64 × FM) := BX61_sign_0 FX61_sign_14 a0 a1 M
noncomputable def FX61_sign (a0 : Nat) (a1 : Int32) (M : FM) : Option (Int64 × FM) := FX61_sign_0 a0 a1 M
/-! BoardMachine$Floats$FloatUnit.write(ILBoardMachine$Floats$Format;J)I -/
noncomputable def BX59_write_27 (a0 : Nat) (s0 : Nat) (s1 : Int32) (s2 : Int64) (M : FM) : Option (Int32 × FM) :=
  fi (fm_is M 902 902 s0 = true ∧ fm_in M s0 s1 = true) (
  let M1 : FM := fm_sL M 3 s0 s1.toNatClampNeg s2
  fi (fm_is M1 32 32 a0 = true) (
  fi ((Int32.ofInt 1) = 0 ∨ (Int32.ofInt 1) = 1) (
  let M2 : FM := fm_sI M1 96 a0 0 (Int32.ofInt 1)
  some ((Int32.ofInt 0), M2)) none) none) none
noncomputable def FX59_write_27 (a0 : Nat) (s0 : Nat) (s1 : Int32) (s2 : Int64) (M : FM) : Option (Int32 × FM) := BX59_write_27 a0 s0 s1 s2 M
noncomputable def BX59_write_0 (f0 : Int32 → Int32 → Int32 → FM → Option (Int32 × FM)) (f1 : Nat → FM → Option (Int32 × FM)) (g27 : Nat → Nat → Int32 → Int64 → FM → Option (Int32 × FM)) (a0 : Nat) (a1 : Int32) (a2 : Nat) (a3 : Int64) (M : FM) : Option (Int32 × FM) :=
  fi (fm_is M 32 32 a0 = true) (
  (f0 a1 (Int32.ofInt 7) (Int32.ofInt 5) M).bind fun r1 =>
  (f1 a2 r1.2).bind fun r2 =>
  fi (r2.1 = 0) (
    g27 a0 (M.2.2 93 a0 0) r1.1 (a3 ||| (Int64.ofInt (-4294967296))) r2.2) (
    g27 a0 (M.2.2 93 a0 0) r1.1 a3 r2.2)) none
noncomputable def FX59_write_0 (a0 : Nat) (a1 : Int32) (a2 : Nat) (a3 : Int64) (M : FM) : Option (Int32 × FM) := BX59_write_0 FX59_part FX59_isDouble FX59_write_27 a0 a1 a2 a3 M
noncomputable def FX59_write (a0 : Nat) (a1 : Int32) (a2 : Nat) (a3 : Int64) (M : FM) : Option (Int32 × FM) := FX59_write_0 a0 a1 a2 a3 M
/-! BoardMachine$Floats$FloatUnit.changeSign(ILBoardMachine$Floats$Format;)I -/
noncomputable def BX59_changeSign_92 (f3 : Nat → Int32 → FM → Option (Int64 × FM)) (f4 : Nat → Int32 → Nat → Int64 → FM → Option (Int32 × FM)) (a0 : Nat) (a1 : Int32) (a2 : Nat) (a3 : Int64) (s0 : Int32) (M : FM) : Option (Int32 × FM) :=
  fi (fm_is M 33 33 a2 = true) (
  (f3 a2 (Int32.ofInt 1) M).bind fun r1 =>
  fi (fm_is r1.2 33 33 a2 = true) (
  (f3 a2 s0 r1.2).bind fun r2 =>
  fi (fm_is r2.2 32 32 a0 = true) (
  (f4 a0 a1 a2 ((a3 &&& (r1.1 ^^^ (Int64.ofInt (-1)))) ||| r2.1) r2.2).bind fun r3 =>
  some (r3.1, r3.2)) none) none) none
noncomputable def FX59_changeSign_92 (a0 : Nat) (a1 : Int32) (a2 : Nat) (a3 : Int64) (s0 : Int32) (M : FM) : Option (Int32 × FM) := BX59_changeSign_92 FX61_sign FX59_write a0 a1 a2 a3 s0 M
noncomputable def BX59_changeSign_0 (f0 : Int32 → Int32 → Int32 → FM → Option (Int32 × FM)) (f1 : Nat → Int32 → Nat → FM → Option (Int64 × FM)) (f2 : Nat → Int64 → FM → Option (Int32 × FM)) (g92 : Nat → Int32 → Nat → Int64 → Int32 → FM → Option (Int32 × FM)) (a0 : Nat) (a1 : Int32) (a2 : Nat) (M : FM) : Option (Int32 × FM) :=
  (f0 a1 (Int32.ofInt 15) (Int32.ofInt 5) M).bind fun r1 =>
  fi (fm_is r1.2 32 32 a0 = true) (
  (f1 a0 r1.1 a2 r1.2).bind fun r2 =>
  (f0 a1 (Int32.ofInt 20) (Int32.ofInt 5) r2.2).bind fun r3 =>
  fi (fm_is r3.2 32 32 a0 = true) (
  (f1 a0 r3.1 a2 r3.2).bind fun r4 =>
  fi (fm_is r4.2 33 33 a2 = true) (
  (f2 a2 r4.1 r4.2).bind fun r5 =>
  (f0 a1 (Int32.ofInt 12) (Int32.ofInt 3) r5.2).bind fun r6 =>
  fi (r6.1 ≤ (Int32.ofInt 2)) (
    fi (r6.1 = 0) (
      g92 a0 a1 a2 r2.1 r5.1 r6.2) (
      fi (r6.1 = (Int32.ofInt 1)) (
        fi (r5.1 = 0) (
          g92 a0 a1 a2 r2.1 (Int32.ofInt 1) r6.2) (
          g92 a0 a1 a2 r2.1 (Int32.ofInt 0) r6.2)) (
        fi (fm_is r6.2 33 33 a2 = true) (
        (f2 a2 r2.1 r6.2).bind fun r7 =>
        fi (r5.1 = r7.1) (
          g92 a0 a1 a2 r2.1 (Int32.ofInt 0) r7.2) (
          g92 a0 a1 a2 r2.1 (Int32.ofInt 1) r7.2)) none))) (
    some ((Int32.ofInt (-1)), r6.2))) none) none) none
noncomputable def FX59_changeSign_0 (a0 : Nat) (a1 : Int32) (a2 : Nat) (M : FM) : Option (Int32 × FM) := BX59_changeSign_0 FX59_part FX59_read FX61_hasSign FX59_changeSign_92 a0 a1 a2 M
noncomputable def FX59_changeSign (a0 : Nat) (a1 : Int32) (a2 : Nat) (M : FM) : Option (Int32 × FM) := FX59_changeSign_0 a0 a1 a2 M
/-! BoardMachine$Floats$Taken.become(LBoardMachine$Floats$Sort;Z)V -/
noncomputable def BX71_become_0 (a0 : Nat) (a1 : Nat) (a2 : Int32) (M : FM) : Option (FM) :=
  fi (fm_is M 39 39 a0 = true) (
  let M1 : FM := fm_sR M 114 a0 0 a1
  fi (fm_is M1 39 39 a0 = true) (
  fi (a2 = 0 ∨ a2 = 1) (
  let M2 : FM := fm_sI M1 115 a0 0 a2
  some M2) none) none) none
noncomputable def FX71_become_0 (a0 : Nat) (a1 : Nat) (a2 : Int32) (M : FM) : Option (FM) := BX71_become_0 a0 a1 a2 M
noncomputable def FX71_become (a0 : Nat) (a1 : Nat) (a2 : Int32) (M : FM) : Option (FM) := FX71_become_0 a0 a1 a2 M
/-! BoardMachine$Floats$Wide.set(J)V -/
noncomputable def BX62_set_0 (a0 : Nat) (a1 : Int64) (M : FM) : Option (FM) :=
  fi (fm_is M 40 40 a0 = true) (
  let M1 : FM := fm_sL M 119 a0 0 (Int64.ofInt 0)
  fi (fm_is M1 40 40 a0 = true) (
  let M2 : FM := fm_sL M1 120 a0 0 a1
  some M2) none) none
noncomputable def FX62_set_0 (a0 : Nat) (a1 : Int64) (M : FM) : Option (FM) := BX62_set_0 a0 a1 M
noncomputable def FX62_set (a0 : Nat) (a1 : Int64) (M : FM) : Option (FM) := FX62_set_0 a0 a1 M
/-! BoardMachine$Floats$Taken.number(ZJI)V -/
noncomputable def BX71_number_16 (f0 : Nat → Nat → Int32 → FM → Option (FM)) (f1 : Nat → Int64 → FM → Option (FM)) (a0 : Nat) (a1 : Int32) (a2 : Int64) (a4 : Int32) (s0 : Nat) (s1 : Nat) (M : FM) : Option (FM) :=
  fi (fm_is M 39 39 s0 = true) (
  (f0 s0 s1 a1 M).bind fun M1 =>
  fi (fm_is M1 39 39 a0 = true) (
  let x2 : Nat := (M1.2.2 117 a0 0)
  fi (fm_is M1 40 40 x2 = true) (
  (f1 x2 a2 M1).bind fun M3 =>
  fi (fm_is M3 39 39 a0 = true) (
  let M4 : FM := fm_sI M3 116 a0 0 a4
  some M4) none) none) none) none
noncomputable def FX71_number_16 (a0 : Nat) (a1 : Int32) (a2 : Int64) (a4 : Int32) (s0 : Nat) (s1 : Nat) (M : FM) : Option (FM) := BX71_number_16 FX71_become FX62_set a0 a1 a2 a4 s0 s1 M
noncomputable def BX71_number_0 (g16 : Nat → Int32 → Int64 → Int32 → Nat → Nat → FM → Option (FM)) (a0 : Nat) (a1 : Int32) (a2 : Int64) (a4 : Int32) (M : FM) : Option (FM) :=
  fi ((lg_cmp a2 (Int64.ofInt 0)) = 0) (
    g16 a0 a1 a2 a4 a0 6 M) (
    g16 a0 a1 a2 a4 a0 7 M)
noncomputable def FX71_number_0 (a0 : Nat) (a1 : Int32) (a2 : Int64) (a4 : Int32) (M : FM) : Option (FM) := BX71_number_0 FX71_number_16 a0 a1 a2 a4 M
noncomputable def FX71_number (a0 : Nat) (a1 : Int32) (a2 : Int64) (a4 : Int32) (M : FM) : Option (FM) := FX71_number_0 a0 a1 a2 a4 M
/-! BoardMachine$Floats$Format.take(JLBoardMachine$Floats$Taken;)V -/
noncomputable def BX61_take_158 (M : FM) : Option (FM) :=
  some M
noncomputable def FX61_take_158 (M : FM) : Option (FM) := BX61_take_158 M
noncomputable def BX61_take_145 (f1 : Nat → Int32 → Int64 → Int32 → FM → Option (FM)) (g158 : FM → Option (FM)) (a0 : Nat) (s0 : Nat) (s1 : Int32) (s2 : Int64) (s3 : Int32) (M : FM) : Option (FM) :=
  fi (fm_is M 33 33 a0 = true) (
  fi (fm_is M 33 33 a0 = true) (
  fi (fm_is M 39 39 s0 = true) (
  (f1 s0 s1 s2 ((s3 - (M.1 110 a0 0)) - (M.1 109 a0 0)) M).bind fun M1 =>
  g158 M1) none) none) none
noncomputable def FX61_take_145 (a0 : Nat) (s0 : Nat) (s1 : Int32) (s2 : Int64) (s3 : Int32) (M : FM) : Option (FM) := BX61_take_145 FX71_number FX61_take_158 a0 s0 s1 s2 s3 M
noncomputable def BX61_take_134 (g145 : Nat → Nat → Int32 → Int64 → Int32 → FM → Option (FM)) (a0 : Nat) (a6 : Int32) (s0 : Nat) (s1 : Int32) (s2 : Int64) (M : FM) : Option (FM) :=
  fi (a6 = 0) (
    g145 a0 s0 s1 s2 (Int32.ofInt 1) M) (
    g145 a0 s0 s1 s2 a6 M)
noncomputable def FX61_take_134 (a0 : Nat) (a6 : Int32) (s0 : Nat) (s1 : Int32) (s2 : Int64) (M : FM) : Option (FM) := BX61_take_134 FX61_take_145 a0 a6 s0 s1 s2 M
noncomputable def BX61_take_104 (f2 : Nat → Nat → Int32 → FM → Option (FM)) (g158 : FM → Option (FM)) (a7 : Int32) (s0 : Nat) (s1 : Nat) (M : FM) : Option (FM) :=
  fi (fm_is M 39 39 s0 = true) (
  (f2 s0 s1 a7 M).bind fun M1 =>
  g158 M1) none
noncomputable def FX61_take_104 (a7 : Int32) (s0 : Nat) (s1 : Nat) (M : FM) : Option (FM) := BX61_take_104 FX71_become FX61_take_158 a7 s0 s1 M
noncomputable def BX61_take_74 (g104 : Int32 → Nat → Nat → FM → Option (FM)) (a3 : Nat) (a4 : Int64) (a7 : Int32) (s0 : Int32) (M : FM) : Option (FM) :=
  fi ((lg_cmp a4 (Int64.ofInt 0)) = 0) (
    g104 a7 a3 8 M) (
    fi (s0 = 0) (
      g104 a7 a3 10 M) (
      g104 a7 a3 9 M))
noncomputable def FX61_take_74 (a3 : Nat) (a4 : Int64) (a7 : Int32) (s0 : Int32) (M : FM) : Option (FM) := BX61_take_74 FX61_take_104 a3 a4 a7 s0 M
noncomputable def BX61_take_0 (f0 : Nat → Int64 → FM → Option (Int32 × FM)) (g74 : Nat → Int64 → Int32 → Int32 → FM → Option (FM)) (g134 : Nat → Int32 → Nat → Int32 → Int64 → FM → Option (FM)) (a0 : Nat) (a1 : Int64) (a3 : Nat) (M : FM) : Option (FM) :=
  fi (fm_is M 33 33 a0 = true) (
  let x1 : Int64 := (a1 &&& (((Int64.ofInt 1) <<< ((M.1 109 a0 0).toInt64 &&& 63)) - (Int64.ofInt 1)))
  fi (fm_is M 33 33 a0 = true) (
  fi (fm_is M 33 33 a0 = true) (
  let x2 : Int32 := (((a1.toUInt64 >>> ((M.1 109 a0 0).toInt64.toUInt64 &&& Int64.toUInt64 63)).toInt64).toInt32 &&& (((Int32.ofInt 2) * (M.1 110 a0 0)) + (Int32.ofInt 1)))
  fi (fm_is M 33 33 a0 = true) (
  (f0 a0 a1 M).bind fun r3 =>
  fi (fm_is r3.2 39 39 a3 = true) (
  let M4 : FM := fm_sL r3.2 118 a3 0 a1
  fi (fm_is M4 33 33 a0 = true) (
  fi (x2 = (((Int32.ofInt 2) * (M4.1 110 a0 0)) + (Int32.ofInt 1))) (
    fi (fm_is M4 33 33 a0 = true) (
    fi ((lg_cmp ((x1.toUInt64 >>> (((M4.1 109 a0 0) - (Int32.ofInt 1)).toInt64.toUInt64 &&& Int64.toUInt64 63)).toInt64) (Int64.ofInt 1)) = 0) (
      g74 a3 x1 r3.1 (Int32.ofInt 1) M4) (
      g74 a3 x1 r3.1 (Int32.ofInt 0) M4)) none) (
    fi (x2 = 0) (
      g134 a0 x2 a3 r3.1 x1 M4) (
      fi (fm_is M4 33 33 a0 = true) (
      g134 a0 x2 a3 r3.1 (((Int64.ofInt 1) <<< ((M4.1 109 a0 0).toInt64 &&& 63)) ||| x1) M4) none))) none) none) none) none) none) none
noncomputable def FX61_take_0 (a0 : Nat) (a1 : Int64) (a3 : Nat) (M : FM) : Option (FM) := BX61_take_0 FX61_hasSign FX61_take_74 FX61_take_134 a0 a1 a3 M
noncomputable def FX61_take (a0 : Nat) (a1 : Int64) (a3 : Nat) (M : FM) : Option (FM) := FX61_take_0 a0 a1 a3 M
/-! BoardMachine$Floats$FloatUnit.take(ILBoardMachine$Floats$Format;LBoardMachine$Floats$Taken;)V -/
noncomputable def BX59_take_0 (f0 : Nat → Int32 → Nat → FM → Option (Int64 × FM)) (f1 : Nat → Int64 → Nat → FM → Option (FM)) (a0 : Nat) (a1 : Int32) (a2 : Nat) (a3 : Nat) (M : FM) : Option (FM) :=
  fi (fm_is M 32 32 a0 = true) (
  (f0 a0 a1 a2 M).bind fun r1 =>
  fi (fm_is r1.2 33 33 a2 = true) (
  (f1 a2 r1.1 a3 r1.2).bind fun M2 =>
  some M2) none) none
noncomputable def FX59_take_0 (a0 : Nat) (a1 : Int32) (a2 : Nat) (a3 : Nat) (M : FM) : Option (FM) := BX59_take_0 FX59_read FX61_take a0 a1 a2 a3 M
noncomputable def FX59_take (a0 : Nat) (a1 : Int32) (a2 : Nat) (a3 : Nat) (M : FM) : Option (FM) := FX59_take_0 a0 a1 a2 a3 M
/-! BoardMachine$Floats$Sort.isNone()Z -/
noncomputable def BX72_isNone_19 (s0 : Int32) (M : FM) : Option (Int32 × FM) :=
  fi (s0 = 0 ∨ s0 = 1) (some (s0, M)) none
noncomputable def FX72_isNone_19 (s0 : Int32) (M : FM) : Option (Int32 × FM) := BX72_isNone_19 s0 M
noncomputable def BX72_isNone_14 (g19 : Int32 → FM → Option (Int32 × FM)) (M : FM) : Option (Int32 × FM) :=
  g19 (Int32.ofInt 1) M
noncomputable def FX72_isNone_14 (M : FM) : Option (Int32 × FM) := BX72_isNone_14 FX72_isNone_19 M
noncomputable def BX72_isNone_0 (g14 : FM → Option (Int32 × FM)) (g19 : Int32 → FM → Option (Int32 × FM)) (a0 : Nat) (M : FM) : Option (Int32 × FM) :=
  fi (a0 < 42 ∧ 9 < 42 ∨ 1000 ≤ a0 ∨ 1000 ≤ 9)
  (fi (a0 = 9) (
    g14 M) (
    fi (a0 < 42 ∧ 10 < 42 ∨ 1000 ≤ a0 ∨ 1000 ≤ 10)
    (fi (a0 = 10) (
      g14 M) (
      g19 (Int32.ofInt 0) M)) none)) none
noncomputable def FX72_isNone_0 (a0 : Nat) (M : FM) : Option (Int32 × FM) := BX72_isNone_0 FX72_isNone_14 FX72_isNone_19 a0 M
noncomputable def FX72_isNone (a0 : Nat) (M : FM) : Option (Int32 × FM) := FX72_isNone_0 a0 M
/-! BoardMachine$Floats$Taken.is(LBoardMachine$Floats$Sort;)Z -/
noncomputable def BX71_is_13 (s0 : Int32) (M : FM) : Option (Int32 × FM) :=
  fi (s0 = 0 ∨ s0 = 1) (some (s0, M)) none
noncomputable def FX71_is_13 (s0 : Int32) (M : FM) : Option (Int32 × FM) := BX71_is_13 s0 M
noncomputable def BX71_is_0 (g13 : Int32 → FM → Option (Int32 × FM)) (a0 : Nat) (a1 : Nat) (M : FM) : Option (Int32 × FM) :=
  fi (fm_is M 39 39 a0 = true) (
  let x1 : Nat := (M.2.2 114 a0 0)
  fi (x1 < 42 ∧ a1 < 42 ∨ 1000 ≤ x1 ∨ 1000 ≤ a1)
  (fi (x1 = a1) (
    g13 (Int32.ofInt 1) M) (
    g13 (Int32.ofInt 0) M)) none) none
noncomputable def FX71_is_0 (a0 : Nat) (a1 : Nat) (M : FM) : Option (Int32 × FM) := BX71_is_0 FX71_is_13 a0 a1 M
noncomputable def FX71_is (a0 : Nat) (a1 : Nat) (M : FM) : Option (Int32 × FM) := FX71_is_0 a0 a1 M
/-! BoardMachine$Floats$Flags.raise(I)V -/
noncomputable def BX60_raise_24 (s0 : Nat) (s1 : Int32) (s2 : Int32) (M : FM) : Option (FM) :=
  let x1 : Int32 := (s1 ||| s2)
  fi (fm_is M 31 31 s0 = true) (
  fi (x1 = 0 ∨ x1 = 1) (
  let M2 : FM := fm_sI M 92 s0 0 x1
  some M2) none) none
noncomputable def FX60_raise_24 (s0 : Nat) (s1 : Int32) (s2 : Int32) (M : FM) : Option (FM) := BX60_raise_24 s0 s1 s2 M
noncomputable def BX60_raise_0 (g24 : Nat → Int32 → Int32 → FM → Option (FM)) (a0 : Nat) (a1 : Int32) (M : FM) : Option (FM) :=
  fi (fm_is M 31 31 a0 = true) (
  fi (fm_is M 31 31 a0 = true) (
  let M1 : FM := fm_sI M 91 a0 0 ((M.1 91 a0 0) ||| a1)
  fi (fm_is M1 31 31 a0 = true) (
  fi (a1 = 0) (
    g24 a0 (M1.1 92 a0 0) (Int32.ofInt 0) M1) (
    g24 a0 (M1.1 92 a0 0) (Int32.ofInt 1) M1)) none) none) none
noncomputable def FX60_raise_0 (a0 : Nat) (a1 : Int32) (M : FM) : Option (FM) := BX60_raise_0 FX60_raise_24 a0 a1 M
noncomputable def FX60_raise (a0 : Nat) (a1 : Int32) (M : FM) : Option (FM) := FX60_raise_0 a0 a1 M
/-! BoardMachine$Floats.lengthOf(J)I -/
noncomputable def BX108_lengthOf_59 (s0 : Int32) (M : FM) : Option (Int32 × FM) :=
  some (s0, M)
noncomputable def FX108_lengthOf_59 (n : Nat) (k9 : Int64 → Int32 → Int32 → FM → Option (Int32 × FM)) (s0 : Int32) (M : FM) : Option (Int32 × FM) := BX108_lengthOf_59 s0 M
noncomputable def BX108_lengthOf_35 (k9 : Int64 → Int32 → Int32 → FM → Option (Int32 × FM)) (a2 : Int64) (a4 : Int32) (a5 : Int32) (M : FM) : Option (Int32 × FM) :=
  let x1 : Int32 := (a5 >>> ((Int32.ofInt 1) &&& 31))
  k9 a2 a4 x1 M
noncomputable def FX108_lengthOf_35 (n : Nat) (k9 : Int64 → Int32 → Int32 → FM → Option (Int32 × FM)) (a2 : Int64) (a4 : Int32) (a5 : Int32) (M : FM) : Option (Int32 × FM) := BX108_lengthOf_35 k9 a2 a4 a5 M
noncomputable def BX108_lengthOf_9 (g35 : Int64 → Int32 → Int32 → FM → Option (Int32 × FM)) (g59 : Int32 → FM → Option (Int32 × FM)) (a2 : Int64) (a4 : Int32) (a5 : Int32) (M : FM) : Option (Int32 × FM) :=
  fi (a5 ≤ 0) (
    fi ((lg_cmp a2 (Int64.ofInt 0)) = 0) (
      g59 a4 M) (
      g59 (a4 + (Int32.ofInt 1)) M)) (
    fi ((lg_cmp ((a2.toUInt64 >>> (a5.toInt64.toUInt64 &&& Int64.toUInt64 63)).toInt64) (Int64.ofInt 0)) = 0) (
      g35 a2 a4 a5 M) (
      let x1 : Int64 := (a2.toUInt64 >>> (a5.toInt64.toUInt64 &&& Int64.toUInt64 63)).toInt64
      let x2 : Int32 := (a4 + a5)
      g35 x1 x2 a5 M))
noncomputable def FX108_lengthOf_9 (n : Nat) (k9 : Int64 → Int32 → Int32 → FM → Option (Int32 × FM)) (a2 : Int64) (a4 : Int32) (a5 : Int32) (M : FM) : Option (Int32 × FM) := BX108_lengthOf_9 (FX108_lengthOf_35 n k9) (FX108_lengthOf_59 n k9) a2 a4 a5 M
noncomputable def BX108_lengthOf_0 (k9 : Int64 → Int32 → Int32 → FM → Option (Int32 × FM)) (a0 : Int64) (M : FM) : Option (Int32 × FM) :=
  k9 a0 (Int32.ofInt 0) (Int32.ofInt 32) M
noncomputable def FX108_lengthOf_0 (n : Nat) (k9 : Int64 → Int32 → Int32 → FM → Option (Int32 × FM)) (a0 : Int64) (M : FM) : Option (Int32 × FM) := BX108_lengthOf_0 k9 a0 M
noncomputable def FX108_lengthOf_L9 (n : Nat) : Nat → Int64 → Int32 → Int32 → FM → Option (Int32 × FM)
  | 0 => fun _ _ _ _ => none
  | j + 1 => FX108_lengthOf_9 n (FX108_lengthOf_L9 n j)
noncomputable def FX108_lengthOf (n : Nat) (a0 : Int64) (M : FM) : Option (Int32 × FM) := FX108_lengthOf_0 n (FX108_lengthOf_L9 n n) a0 M
/-! BoardMachine$Floats$Wide.length()I -/
noncomputable def BX62_length_29 (s0 : Int32) (M : FM) : Option (Int32 × FM) :=
  some (s0, M)
noncomputable def FX62_length_29 (n : Nat) (s0 : Int32) (M : FM) : Option (Int32 × FM) := BX62_length_29 s0 M
noncomputable def BX62_length_0 (f0 : Int64 → FM → Option (Int32 × FM)) (g29 : Int32 → FM → Option (Int32 × FM)) (a0 : Nat) (M : FM) : Option (Int32 × FM) :=
  fi (fm_is M 40 40 a0 = true) (
  fi ((lg_cmp (M.2.1 119 a0 0) (Int64.ofInt 0)) = 0) (
    fi (fm_is M 40 40 a0 = true) (
    (f0 (M.2.1 120 a0 0) M).bind fun r1 =>
    g29 r1.1 r1.2) none) (
    fi (fm_is M 40 40 a0 = true) (
    (f0 (M.2.1 119 a0 0) M).bind fun r2 =>
    g29 ((Int32.ofInt 64) + r2.1) r2.2) none)) none
noncomputable def FX62_length_0 (n : Nat) (a0 : Nat) (M : FM) : Option (Int32 × FM) := BX62_length_0 (FX108_lengthOf n) (FX62_length_29 n ) a0 M
noncomputable def FX62_length (n : Nat) (a0 : Nat) (M : FM) : Option (Int32 × FM) := FX62_length_0 n a0 M
/-! BoardMachine$Floats$Wide.left(I)V -/
noncomputable def BX62_left_61 (M : FM) : Option (FM) :=
  some M
noncomputable def FX62_left_61 (M : FM) : Option (FM) := BX62_left_61 M
noncomputable def BX62_left_0 (g61 : FM → Option (FM)) (a0 : Nat) (a1 : Int32) (M : FM) : Option (FM) :=
  fi (a1 ≤ (Int32.ofInt 63)) (
    fi (a1 ≤ 0) (
      g61 M) (
      fi (fm_is M 40 40 a0 = true) (
      fi (fm_is M 40 40 a0 = true) (
      fi (fm_is M 40 40 a0 = true) (
      let M1 : FM := fm_sL M 119 a0 0 (((M.2.1 119 a0 0) <<< (a1.toInt64 &&& 63)) ||| ((M.2.1 120 a0 0).toUInt64 >>> (((Int32.ofInt 64) - a1).toInt64.toUInt64 &&& Int64.toUInt64 63)).toInt64)
      fi (fm_is M1 40 40 a0 = true) (
      fi (fm_is M1 40 40 a0 = true) (
      let M2 : FM := fm_sL M1 120 a0 0 ((M1.2.1 120 a0 0) <<< (a1.toInt64 &&& 63))
      g61 M2) none) none) none) none) none)) (
    fi (fm_is M 40 40 a0 = true) (
    fi (fm_is M 40 40 a0 = true) (
    let M3 : FM := fm_sL M 119 a0 0 ((M.2.1 120 a0 0) <<< ((a1 - (Int32.ofInt 64)).toInt64 &&& 63))
    fi (fm_is M3 40 40 a0 = true) (
    let M4 : FM := fm_sL M3 120 a0 0 (Int64.ofInt 0)
    g61 M4) none) none) none)
noncomputable def FX62_left_0 (a0 : Nat) (a1 : Int32) (M : FM) : Option (FM) := BX62_left_0 FX62_left_61 a0 a1 M
noncomputable def FX62_left (a0 : Nat) (a1 : Int32) (M : FM) : Option (FM) := FX62_left_0 a0 a1 M
/-! BoardMachine$Floats$Taken.lift(I)V -/
noncomputable def BX71_lift_0 (f0 : Nat → FM → Option (Int32 × FM)) (f1 : Nat → Int32 → FM → Option (FM)) (a0 : Nat) (a1 : Int32) (M : FM) : Option (FM) :=
  fi (fm_is M 39 39 a0 = true) (
  let x1 : Nat := (M.2.2 117 a0 0)
  fi (fm_is M 40 40 x1 = true) (
  (f0 x1 M).bind fun r2 =>
  let x3 : Int32 := ((a1 + (Int32.ofInt 1)) - r2.1)
  fi (fm_is r2.2 39 39 a0 = true) (
  let x4 : Nat := (r2.2.2.2 117 a0 0)
  fi (fm_is r2.2 40 40 x4 = true) (
  (f1 x4 x3 r2.2).bind fun M5 =>
  fi (fm_is M5 39 39 a0 = true) (
  fi (fm_is M5 39 39 a0 = true) (
  let M6 : FM := fm_sI M5 116 a0 0 ((M5.1 116 a0 0) - x3)
  some M6) none) none) none) none) none) none
noncomputable def FX71_lift_0 (n : Nat) (a0 : Nat) (a1 : Int32) (M : FM) : Option (FM) := BX71_lift_0 (FX62_length n) FX62_left a0 a1 M
noncomputable def FX71_lift (n : Nat) (a0 : Nat) (a1 : Int32) (M : FM) : Option (FM) := FX71_lift_0 n a0 a1 M
/-! BoardMachine$Floats.isLess(JJ)Z -/
noncomputable def BX108_isLess_19 (s0 : Int32) (M : FM) : Option (Int32 × FM) :=
  fi (s0 = 0 ∨ s0 = 1) (some (s0, M)) none
noncomputable def FX108_isLess_19 (s0 : Int32) (M : FM) : Option (Int32 × FM) := BX108_isLess_19 s0 M
noncomputable def BX108_isLess_0 (g19 : Int32 → FM → Option (Int32 × FM)) (a0 : Int64) (a2 : Int64) (M : FM) : Option (Int32 × FM) :=
  fi (0 ≤ (lg_cmp (a0 + (Int64.ofInt (-9223372036854775808))) (a2 + (Int64.ofInt (-9223372036854775808))))) (
    g19 (Int32.ofInt 0) M) (
    g19 (Int32.ofInt 1) M)
noncomputable def FX108_isLess_0 (a0 : Int64) (a2 : Int64) (M : FM) : Option (Int32 × FM) := BX108_isLess_0 FX108_isLess_19 a0 a2 M
noncomputable def FX108_isLess (a0 : Int64) (a2 : Int64) (M : FM) : Option (Int32 × FM) := FX108_isLess_0 a0 a2 M
/-! BoardMachine$Floats$Wide.isBelow(LBoardMachine$Floats$Wide;)Z -/
noncomputable def BX62_isBelow_37 (s0 : Int32) (M : FM) : Option (Int32 × FM) :=
  fi (s0 = 0 ∨ s0 = 1) (some (s0, M)) none
noncomputable def FX62_isBelow_37 (s0 : Int32) (M : FM) : Option (Int32 × FM) := BX62_isBelow_37 s0 M
noncomputable def BX62_isBelow_0 (f0 : Int64 → Int64 → FM → Option (Int32 × FM)) (g37 : Int32 → FM → Option (Int32 × FM)) (a0 : Nat) (a1 : Nat) (M : FM) : Option (Int32 × FM) :=
  fi (fm_is M 40 40 a0 = true) (
  fi (fm_is M 40 40 a1 = true) (
  fi ((lg_cmp (M.2.1 119 a0 0) (M.2.1 119 a1 0)) = 0) (
    fi (fm_is M 40 40 a0 = true) (
    fi (fm_is M 40 40 a1 = true) (
    (f0 (M.2.1 120 a0 0) (M.2.1 120 a1 0) M).bind fun r1 =>
    g37 r1.1 r1.2) none) none) (
    fi (fm_is M 40 40 a0 = true) (
    fi (fm_is M 40 40 a1 = true) (
    (f0 (M.2.1 119 a0 0) (M.2.1 119 a1 0) M).bind fun r2 =>
    g37 r2.1 r2.2) none) none)) none) none
noncomputable def FX62_isBelow_0 (a0 : Nat) (a1 : Nat) (M : FM) : Option (Int32 × FM) := BX62_isBelow_0 FX108_isLess FX62_isBelow_37 a0 a1 M
noncomputable def FX62_isBelow (a0 : Nat) (a1 : Nat) (M : FM) : Option (Int32 × FM) := FX62_isBelow_0 a0 a1 M
/-! BoardMachine$Floats$Taken.compareSize(LBoardMachine$Floats$Taken;)I -/
noncomputable def BX71_compareSize_128 (s0 : Int32) (M : FM) : Option (Int32 × FM) :=
  some (s0, M)
noncomputable def FX71_compareSize_128 (n : Nat) (s0 : Int32) (M : FM) : Option (Int32 × FM) := BX71_compareSize_128 s0 M
noncomputable def BX71_compareSize_90 (s0 : Int32) (M : FM) : Option (Int32 × FM) :=
  some (s0, M)
noncomputable def FX71_compareSize_90 (n : Nat) (s0 : Int32) (M : FM) : Option (Int32 × FM) := BX71_compareSize_90 s0 M
noncomputable def BX71_compareSize_50 (s0 : Int32) (M : FM) : Option (Int32 × FM) :=
  some (s0, M)
noncomputable def FX71_compareSize_50 (n : Nat) (s0 : Int32) (M : FM) : Option (Int32 × FM) := BX71_compareSize_50 s0 M
noncomputable def BX71_compareSize_20 (f0 : Nat → Nat → FM → Option (Int32 × FM)) (g50 : Int32 → FM → Option (Int32 × FM)) (a0 : Nat) (a1 : Nat) (M : FM) : Option (Int32 × FM) :=
  fi (fm_is M 39 39 a0 = true) (
  fi (fm_is M 39 39 a1 = true) (
  let x1 : Nat := (M.2.2 114 a0 0)
  let x2 : Nat := (M.2.2 114 a1 0)
  fi (x1 < 42 ∧ x2 < 42 ∨ 1000 ≤ x1 ∨ 1000 ≤ x2)
  (fi (x1 = x2) (
    g50 (Int32.ofInt 0) M) (
    fi (fm_is M 39 39 a0 = true) (
    (f0 a0 8 M).bind fun r3 =>
    fi (r3.1 = 0) (
      g50 (Int32.ofInt (-1)) r3.2) (
      g50 (Int32.ofInt 1) r3.2)) none)) none) none) none
noncomputable def FX71_compareSize_20 (n : Nat) (a0 : Nat) (a1 : Nat) (M : FM) : Option (Int32 × FM) := BX71_compareSize_20 FX71_is (FX71_compareSize_50 n ) a0 a1 M
noncomputable def BX71_compareSize_0 (f0 : Nat → Nat → FM → Option (Int32 × FM)) (f1 : Nat → Int32 → FM → Option (FM)) (f2 : Nat → Nat → FM → Option (Int32 × FM)) (g20 : Nat → Nat → FM → Option (Int32 × FM)) (g90 : Int32 → FM → Option (Int32 × FM)) (g128 : Int32 → FM → Option (Int32 × FM)) (a0 : Nat) (a1 : Nat) (M : FM) : Option (Int32 × FM) :=
  fi (fm_is M 39 39 a0 = true) (
  (f0 a0 8 M).bind fun r1 =>
  fi (r1.1 = 0) (
    fi (fm_is r1.2 39 39 a1 = true) (
    (f0 a1 8 r1.2).bind fun r2 =>
    fi (r2.1 = 0) (
      fi (fm_is r2.2 39 39 a0 = true) (
      (f1 a0 (Int32.ofInt 61) r2.2).bind fun M3 =>
      fi (fm_is M3 39 39 a1 = true) (
      (f1 a1 (Int32.ofInt 61) M3).bind fun M4 =>
      fi (fm_is M4 39 39 a0 = true) (
      fi (fm_is M4 39 39 a1 = true) (
      fi ((M4.1 116 a0 0) = (M4.1 116 a1 0)) (
        fi (fm_is M4 39 39 a0 = true) (
        fi (fm_is M4 39 39 a1 = true) (
        let x5 : Nat := (M4.2.2 117 a0 0)
        fi (fm_is M4 40 40 x5 = true) (
        (f2 x5 (M4.2.2 117 a1 0) M4).bind fun r6 =>
        fi (r6.1 = 0) (
          fi (fm_is r6.2 39 39 a1 = true) (
          fi (fm_is r6.2 39 39 a0 = true) (
          let x7 : Nat := (r6.2.2.2 117 a1 0)
          fi (fm_is r6.2 40 40 x7 = true) (
          (f2 x7 (r6.2.2.2 117 a0 0) r6.2).bind fun r8 =>
          fi (r8.1 = 0) (
            g128 (Int32.ofInt 0) r8.2) (
            g128 (Int32.ofInt 1) r8.2)) none) none) none) (
          g128 (Int32.ofInt (-1)) r6.2)) none) none) none) (
        fi (fm_is M4 39 39 a0 = true) (
        fi (fm_is M4 39 39 a1 = true) (
        fi ((M4.1 116 a1 0) ≤ (M4.1 116 a0 0)) (
          g90 (Int32.ofInt 1) M4) (
          g90 (Int32.ofInt (-1)) M4)) none) none)) none) none) none) none) (
      g20 a0 a1 r2.2)) none) (
    g20 a0 a1 r1.2)) none
noncomputable def FX71_compareSize_0 (n : Nat) (a0 : Nat) (a1 : Nat) (M : FM) : Option (Int32 × FM) := BX71_compareSize_0 FX71_is (FX71_lift n) FX62_isBelow (FX71_compareSize_20 n ) (FX71_compareSize_90 n ) (FX71_compareSize_128 n ) a0 a1 M
noncomputable def FX71_compareSize (n : Nat) (a0 : Nat) (a1 : Nat) (M : FM) : Option (Int32 × FM) := FX71_compareSize_0 n a0 a1 M
/-! BoardMachine$Floats$Taken.compare(LBoardMachine$Floats$Taken;)I -/
noncomputable def BX71_compare_115 (s0 : Int32) (M : FM) : Option (Int32 × FM) :=
  some (s0, M)
noncomputable def FX71_compare_115 (n : Nat) (s0 : Int32) (M : FM) : Option (Int32 × FM) := BX71_compare_115 s0 M
noncomputable def BX71_compare_95 (s0 : Int32) (M : FM) : Option (Int32 × FM) :=
  some (s0, M)
noncomputable def FX71_compare_95 (n : Nat) (s0 : Int32) (M : FM) : Option (Int32 × FM) := BX71_compare_95 s0 M
noncomputable def BX71_compare_94 (g95 : Int32 → FM → Option (Int32 × FM)) (M : FM) : Option (Int32 × FM) :=
  g95 (Int32.ofInt 1) M
noncomputable def FX71_compare_94 (n : Nat) (M : FM) : Option (Int32 × FM) := BX71_compare_94 (FX71_compare_95 n ) M
noncomputable def BX71_compare_90 (g95 : Int32 → FM → Option (Int32 × FM)) (M : FM) : Option (Int32 × FM) :=
  g95 (Int32.ofInt (-1)) M
noncomputable def FX71_compare_90 (n : Nat) (M : FM) : Option (Int32 × FM) := BX71_compare_90 (FX71_compare_95 n ) M
noncomputable def BX71_compare_63 (f0 : Nat → Nat → FM → Option (Int32 × FM)) (g90 : FM → Option (Int32 × FM)) (g94 : FM → Option (Int32 × FM)) (a0 : Nat) (a1 : Nat) (M : FM) : Option (Int32 × FM) :=
  fi (fm_is M 39 39 a0 = true) (
  (f0 a0 6 M).bind fun r1 =>
  fi (r1.1 = 0) (
    fi (fm_is r1.2 39 39 a0 = true) (
    fi ((r1.2.1 115 a0 0) = 0) (
      g94 r1.2) (
      g90 r1.2)) none) (
    fi (fm_is r1.2 39 39 a1 = true) (
    fi ((r1.2.1 115 a1 0) = 0) (
      g90 r1.2) (
      g94 r1.2)) none)) none
noncomputable def FX71_compare_63 (n : Nat) (a0 : Nat) (a1 : Nat) (M : FM) : Option (Int32 × FM) := BX71_compare_63 FX71_is (FX71_compare_90 n ) (FX71_compare_94 n ) a0 a1 M
noncomputable def BX71_compare_25 (f0 : Nat → Nat → FM → Option (Int32 × FM)) (f1 : Nat → Nat → FM → Option (Int32 × FM)) (g63 : Nat → Nat → FM → Option (Int32 × FM)) (g115 : Int32 → FM → Option (Int32 × FM)) (a0 : Nat) (a1 : Nat) (s0 : Int32) (M : FM) : Option (Int32 × FM) :=
  fi (s0 = 0) (
    fi (fm_is M 39 39 a0 = true) (
    (f0 a0 6 M).bind fun r1 =>
    fi (r1.1 = 0) (
      fi (fm_is r1.2 39 39 a1 = true) (
      (f0 a1 6 r1.2).bind fun r2 =>
      fi (r2.1 = 0) (
        fi (fm_is r2.2 39 39 a0 = true) (
        fi (fm_is r2.2 39 39 a1 = true) (
        fi ((r2.2.1 115 a0 0) = (r2.2.1 115 a1 0)) (
          fi (fm_is r2.2 39 39 a0 = true) (
          (f1 a0 a1 r2.2).bind fun r3 =>
          fi (fm_is r3.2 39 39 a0 = true) (
          fi ((r3.2.1 115 a0 0) = 0) (
            g115 r3.1 r3.2) (
            g115 (-r3.1) r3.2)) none) none) (
          g63 a0 a1 r2.2)) none) none) (
        g63 a0 a1 r2.2)) none) (
      g63 a0 a1 r1.2)) none) (
    some ((Int32.ofInt 0), M))
noncomputable def FX71_compare_25 (n : Nat) (a0 : Nat) (a1 : Nat) (s0 : Int32) (M : FM) : Option (Int32 × FM) := BX71_compare_25 FX71_is (FX71_compareSize n) (FX71_compare_63 n ) (FX71_compare_115 n ) a0 a1 s0 M
noncomputable def BX71_compare_24 (g25 : Nat → Nat → Int32 → FM → Option (Int32 × FM)) (a0 : Nat) (a1 : Nat) (M : FM) : Option (Int32 × FM) :=
  g25 a0 a1 (Int32.ofInt 0) M
noncomputable def FX71_compare_24 (n : Nat) (a0 : Nat) (a1 : Nat) (M : FM) : Option (Int32 × FM) := BX71_compare_24 (FX71_compare_25 n ) a0 a1 M
noncomputable def BX71_compare_0 (f0 : Nat → Nat → FM → Option (Int32 × FM)) (g24 : Nat → Nat → FM → Option (Int32 × FM)) (g25 : Nat → Nat → Int32 → FM → Option (Int32 × FM)) (a0 : Nat) (a1 : Nat) (M : FM) : Option (Int32 × FM) :=
  fi (fm_is M 39 39 a0 = true) (
  (f0 a0 6 M).bind fun r1 =>
  fi (r1.1 = 0) (
    g24 a0 a1 r1.2) (
    fi (fm_is r1.2 39 39 a1 = true) (
    (f0 a1 6 r1.2).bind fun r2 =>
    fi (r2.1 = 0) (
      g24 a0 a1 r2.2) (
      g25 a0 a1 (Int32.ofInt 1) r2.2)) none)) none
noncomputable def FX71_compare_0 (n : Nat) (a0 : Nat) (a1 : Nat) (M : FM) : Option (Int32 × FM) := BX71_compare_0 FX71_is (FX71_compare_24 n ) (FX71_compare_25 n ) a0 a1 M
noncomputable def FX71_compare (n : Nat) (a0 : Nat) (a1 : Nat) (M : FM) : Option (Int32 × FM) := FX71_compare_0 n a0 a1 M
/-! BoardMachine$Floats$FloatUnit.choose(ILBoardMachine$Floats$Format;)I -/
noncomputable def BX59_choose_240 (f7 : Nat → Int32 → Nat → Int64 → FM → Option (Int32 × FM)) (s0 : Nat) (s1 : Int32) (s2 : Nat) (s3 : Int64) (M : FM) : Option (Int32 × FM) :=
  fi (fm_is M 32 32 s0 = true) (
  (f7 s0 s1 s2 s3 M).bind fun r1 =>
  some (r1.1, r1.2)) none
noncomputable def FX59_choose_240 (n : Nat) (s0 : Nat) (s1 : Int32) (s2 : Nat) (s3 : Int64) (M : FM) : Option (Int32 × FM) := BX59_choose_240 FX59_write s0 s1 s2 s3 M
noncomputable def BX59_choose_220 (g240 : Nat → Int32 → Nat → Int64 → FM → Option (Int32 × FM)) (a0 : Nat) (s0 : Nat) (s1 : Int32) (s2 : Nat) (s3 : Int32) (s4 : Int32) (M : FM) : Option (Int32 × FM) :=
  fi (s3 = s4) (
    fi (fm_is M 32 32 a0 = true) (
    let x1 : Nat := (M.2.2 105 a0 0)
    fi (fm_is M 39 39 x1 = true) (
    g240 s0 s1 s2 (M.2.1 118 x1 0) M) none) none) (
    fi (fm_is M 32 32 a0 = true) (
    let x2 : Nat := (M.2.2 106 a0 0)
    fi (fm_is M 39 39 x2 = true) (
    g240 s0 s1 s2 (M.2.1 118 x2 0) M) none) none)
noncomputable def FX59_choose_220 (n : Nat) (a0 : Nat) (s0 : Nat) (s1 : Int32) (s2 : Nat) (s3 : Int32) (s4 : Int32) (M : FM) : Option (Int32 × FM) := BX59_choose_220 (FX59_choose_240 n ) a0 s0 s1 s2 s3 s4 M
noncomputable def BX59_choose_204 (g220 : Nat → Nat → Int32 → Nat → Int32 → Int32 → FM → Option (Int32 × FM)) (a0 : Nat) (a1 : Int32) (a2 : Nat) (a3 : Int32) (s0 : Int32) (M : FM) : Option (Int32 × FM) :=
  fi (a3 = 0) (
    g220 a0 a0 a1 a2 s0 (Int32.ofInt 1) M) (
    g220 a0 a0 a1 a2 s0 (Int32.ofInt 0) M)
noncomputable def FX59_choose_204 (n : Nat) (a0 : Nat) (a1 : Int32) (a2 : Nat) (a3 : Int32) (s0 : Int32) (M : FM) : Option (Int32 × FM) := BX59_choose_204 (FX59_choose_220 n ) a0 a1 a2 a3 s0 M
noncomputable def BX59_choose_162 (f7 : Nat → Int32 → Nat → Int64 → FM → Option (Int32 × FM)) (s0 : Nat) (s1 : Int32) (s2 : Nat) (s3 : Int64) (M : FM) : Option (Int32 × FM) :=
  fi (fm_is M 32 32 s0 = true) (
  (f7 s0 s1 s2 s3 M).bind fun r1 =>
  some (r1.1, r1.2)) none
noncomputable def FX59_choose_162 (n : Nat) (s0 : Nat) (s1 : Int32) (s2 : Nat) (s3 : Int64) (M : FM) : Option (Int32 × FM) := BX59_choose_162 FX59_write s0 s1 s2 s3 M
noncomputable def BX59_choose_140 (g162 : Nat → Int32 → Nat → Int64 → FM → Option (Int32 × FM)) (a0 : Nat) (a4 : Int32) (s0 : Nat) (s1 : Int32) (s2 : Nat) (M : FM) : Option (Int32 × FM) :=
  fi (a4 = 0) (
    fi (fm_is M 32 32 a0 = true) (
    let x1 : Nat := (M.2.2 105 a0 0)
    fi (fm_is M 39 39 x1 = true) (
    g162 s0 s1 s2 (M.2.1 118 x1 0) M) none) none) (
    fi (fm_is M 32 32 a0 = true) (
    let x2 : Nat := (M.2.2 106 a0 0)
    fi (fm_is M 39 39 x2 = true) (
    g162 s0 s1 s2 (M.2.1 118 x2 0) M) none) none)
noncomputable def FX59_choose_140 (n : Nat) (a0 : Nat) (a4 : Int32) (s0 : Nat) (s1 : Int32) (s2 : Nat) (M : FM) : Option (Int32 × FM) := BX59_choose_140 (FX59_choose_162 n ) a0 a4 s0 s1 s2 M
noncomputable def BX59_choose_120 (f6 : Nat → FM → Option (Int64 × FM)) (g140 : Nat → Int32 → Nat → Int32 → Nat → FM → Option (Int32 × FM)) (g162 : Nat → Int32 → Nat → Int64 → FM → Option (Int32 × FM)) (a0 : Nat) (a1 : Int32) (a2 : Nat) (a4 : Int32) (a5 : Int32) (M : FM) : Option (Int32 × FM) :=
  fi (a4 = 0) (
    g140 a0 a4 a0 a1 a2 M) (
    fi (a5 = 0) (
      g140 a0 a4 a0 a1 a2 M) (
      fi (fm_is M 33 33 a2 = true) (
      (f6 a2 M).bind fun r1 =>
      g162 a0 a1 a2 r1.1 r1.2) none))
noncomputable def FX59_choose_120 (n : Nat) (a0 : Nat) (a1 : Int32) (a2 : Nat) (a4 : Int32) (a5 : Int32) (M : FM) : Option (Int32 × FM) := BX59_choose_120 FX61_quiet (FX59_choose_140 n ) (FX59_choose_162 n ) a0 a1 a2 a4 a5 M
noncomputable def BX59_choose_107 (f4 : Nat → Int32 → FM → Option (FM)) (f5 : Nat → Nat → FM → Option (Int32 × FM)) (g120 : Nat → Int32 → Nat → Int32 → Int32 → FM → Option (Int32 × FM)) (g204 : Nat → Int32 → Nat → Int32 → Int32 → FM → Option (Int32 × FM)) (a0 : Nat) (a1 : Int32) (a2 : Nat) (a3 : Int32) (a4 : Int32) (a5 : Int32) (s0 : Nat) (s1 : Int32) (M : FM) : Option (Int32 × FM) :=
  fi (fm_is M 31 31 s0 = true) (
  (f4 s0 s1 M).bind fun M1 =>
  fi (a4 = 0) (
    fi (a5 = 0) (
      fi (fm_is M1 32 32 a0 = true) (
      fi (fm_is M1 32 32 a0 = true) (
      let x2 : Nat := (M1.2.2 105 a0 0)
      fi (fm_is M1 39 39 x2 = true) (
      (f5 x2 (M1.2.2 106 a0 0) M1).bind fun r3 =>
      fi (r3.1 = 0) (
        fi (fm_is r3.2 32 32 a0 = true) (
        let x4 : Nat := (r3.2.2.2 105 a0 0)
        fi (fm_is r3.2 39 39 x4 = true) (
        g204 a0 a1 a2 a3 (r3.2.1 115 x4 0) r3.2) none) none) (
        fi (0 ≤ r3.1) (
          g204 a0 a1 a2 a3 (Int32.ofInt 0) r3.2) (
          g204 a0 a1 a2 a3 (Int32.ofInt 1) r3.2))) none) none) none) (
      g120 a0 a1 a2 a4 a5 M1)) (
    g120 a0 a1 a2 a4 a5 M1)) none
noncomputable def FX59_choose_107 (n : Nat) (a0 : Nat) (a1 : Int32) (a2 : Nat) (a3 : Int32) (a4 : Int32) (a5 : Int32) (s0 : Nat) (s1 : Int32) (M : FM) : Option (Int32 × FM) := BX59_choose_107 FX60_raise (FX71_compare n) (FX59_choose_120 n ) (FX59_choose_204 n ) a0 a1 a2 a3 a4 a5 s0 s1 M
noncomputable def BX59_choose_101 (g107 : Nat → Int32 → Nat → Int32 → Int32 → Int32 → Nat → Int32 → FM → Option (Int32 × FM)) (a0 : Nat) (a1 : Int32) (a2 : Nat) (a3 : Int32) (a4 : Int32) (a5 : Int32) (s0 : Nat) (M : FM) : Option (Int32 × FM) :=
  g107 a0 a1 a2 a3 a4 a5 s0 (Int32.ofInt 16) M
noncomputable def FX59_choose_101 (n : Nat) (a0 : Nat) (a1 : Int32) (a2 : Nat) (a3 : Int32) (a4 : Int32) (a5 : Int32) (s0 : Nat) (M : FM) : Option (Int32 × FM) := BX59_choose_101 (FX59_choose_107 n ) a0 a1 a2 a3 a4 a5 s0 M
noncomputable def BX59_choose_0 (f0 : Int32 → Int32 → Int32 → FM → Option (Int32 × FM)) (f1 : Nat → Int32 → Nat → Nat → FM → Option (FM)) (f2 : Nat → FM → Option (Int32 × FM)) (f3 : Nat → Nat → FM → Option (Int32 × FM)) (g101 : Nat → Int32 → Nat → Int32 → Int32 → Int32 → Nat → FM → Option (Int32 × FM)) (g107 : Nat → Int32 → Nat → Int32 → Int32 → Int32 → Nat → Int32 → FM → Option (Int32 × FM)) (a0 : Nat) (a1 : Int32) (a2 : Nat) (M : FM) : Option (Int32 × FM) :=
  (f0 a1 (Int32.ofInt 12) (Int32.ofInt 3) M).bind fun r1 =>
  fi (r1.1 ≤ (Int32.ofInt 1)) (
    (f0 a1 (Int32.ofInt 15) (Int32.ofInt 5) r1.2).bind fun r2 =>
    fi (fm_is r2.2 32 32 a0 = true) (
    fi (fm_is r2.2 32 32 a0 = true) (
    (f1 a0 r2.1 a2 (r2.2.2.2 105 a0 0) r2.2).bind fun M3 =>
    (f0 a1 (Int32.ofInt 20) (Int32.ofInt 5) M3).bind fun r4 =>
    fi (fm_is r4.2 32 32 a0 = true) (
    fi (fm_is r4.2 32 32 a0 = true) (
    (f1 a0 r4.1 a2 (r4.2.2.2 106 a0 0) r4.2).bind fun M5 =>
    fi (fm_is M5 32 32 a0 = true) (
    let x6 : Nat := (M5.2.2 105 a0 0)
    fi (fm_is M5 39 39 x6 = true) (
    let x7 : Nat := (M5.2.2 114 x6 0)
    fi (fm_is M5 2 2 x7 = true) (
    (f2 x7 M5).bind fun r8 =>
    fi (fm_is r8.2 32 32 a0 = true) (
    let x9 : Nat := (r8.2.2.2 106 a0 0)
    fi (fm_is r8.2 39 39 x9 = true) (
    let x10 : Nat := (r8.2.2.2 114 x9 0)
    fi (fm_is r8.2 2 2 x10 = true) (
    (f2 x10 r8.2).bind fun r11 =>
    fi (fm_is r11.2 32 32 a0 = true) (
    fi (fm_is r11.2 32 32 a0 = true) (
    let x12 : Nat := (r11.2.2.2 105 a0 0)
    fi (fm_is r11.2 39 39 x12 = true) (
    (f3 x12 10 r11.2).bind fun r13 =>
    fi (r13.1 = 0) (
      fi (fm_is r13.2 32 32 a0 = true) (
      let x14 : Nat := (r13.2.2.2 106 a0 0)
      fi (fm_is r13.2 39 39 x14 = true) (
      (f3 x14 10 r13.2).bind fun r15 =>
      fi (r15.1 = 0) (
        g107 a0 a1 a2 r1.1 r8.1 r11.1 (r11.2.2.2 94 a0 0) (Int32.ofInt 0) r15.2) (
        g101 a0 a1 a2 r1.1 r8.1 r11.1 (r11.2.2.2 94 a0 0) r15.2)) none) none) (
      g101 a0 a1 a2 r1.1 r8.1 r11.1 (r11.2.2.2 94 a0 0) r13.2)) none) none) none) none) none) none) none) none) none) none) none) none) none) (
    some ((Int32.ofInt (-1)), r1.2))
noncomputable def FX59_choose_0 (n : Nat) (a0 : Nat) (a1 : Int32) (a2 : Nat) (M : FM) : Option (Int32 × FM) := BX59_choose_0 FX59_part FX59_take FX72_isNone FX71_is (FX59_choose_101 n ) (FX59_choose_107 n ) a0 a1 a2 M
noncomputable def FX59_choose (n : Nat) (a0 : Nat) (a1 : Int32) (a2 : Nat) (M : FM) : Option (Int32 × FM) := FX59_choose_0 n a0 a1 a2 M
/-! BoardMachine$Floats$FloatUnit.give(J)I -/
noncomputable def BX59_give_0 (a0 : Nat) (a1 : Int64) (M : FM) : Option (Int32 × FM) :=
  fi (fm_is M 32 32 a0 = true) (
  let M1 : FM := fm_sL M 97 a0 0 a1
  some ((Int32.ofInt 1), M1)) none
noncomputable def FX59_give_0 (a0 : Nat) (a1 : Int64) (M : FM) : Option (Int32 × FM) := BX59_give_0 a0 a1 M
noncomputable def FX59_give (a0 : Nat) (a1 : Int64) (M : FM) : Option (Int32 × FM) := FX59_give_0 a0 a1 M
/-! BoardMachine$Floats$FloatUnit.compare(ILBoardMachine$Floats$Format;)I -/
noncomputable def BX59_compare_184 (f6 : Nat → Int64 → FM → Option (Int32 × FM)) (s0 : Nat) (s1 : Int64) (M : FM) : Option (Int32 × FM) :=
  fi (fm_is M 32 32 s0 = true) (
  (f6 s0 s1 M).bind fun r1 =>
  some (r1.1, r1.2)) none
noncomputable def FX59_compare_184 (n : Nat) (s0 : Nat) (s1 : Int64) (M : FM) : Option (Int32 × FM) := BX59_compare_184 FX59_give s0 s1 M
noncomputable def BX59_compare_183 (g184 : Nat → Int64 → FM → Option (Int32 × FM)) (s0 : Nat) (M : FM) : Option (Int32 × FM) :=
  g184 s0 (Int64.ofInt 0) M
noncomputable def FX59_compare_183 (n : Nat) (s0 : Nat) (M : FM) : Option (Int32 × FM) := BX59_compare_183 (FX59_compare_184 n ) s0 M
noncomputable def BX59_compare_179 (g184 : Nat → Int64 → FM → Option (Int32 × FM)) (s0 : Nat) (M : FM) : Option (Int32 × FM) :=
  g184 s0 (Int64.ofInt 1) M
noncomputable def FX59_compare_179 (n : Nat) (s0 : Nat) (M : FM) : Option (Int32 × FM) := BX59_compare_179 (FX59_compare_184 n ) s0 M
noncomputable def BX59_compare_126 (f5 : Nat → Int32 → FM → Option (FM)) (f6 : Nat → Int64 → FM → Option (Int32 × FM)) (a0 : Nat) (s0 : Nat) (s1 : Int32) (M : FM) : Option (Int32 × FM) :=
  fi (fm_is M 31 31 s0 = true) (
  (f5 s0 s1 M).bind fun M1 =>
  fi (fm_is M1 32 32 a0 = true) (
  (f6 a0 (Int64.ofInt 0) M1).bind fun r2 =>
  some (r2.1, r2.2)) none) none
noncomputable def FX59_compare_126 (n : Nat) (a0 : Nat) (s0 : Nat) (s1 : Int32) (M : FM) : Option (Int32 × FM) := BX59_compare_126 FX60_raise FX59_give a0 s0 s1 M
noncomputable def BX59_compare_109 (g126 : Nat → Nat → Int32 → FM → Option (Int32 × FM)) (a0 : Nat) (s0 : Int32) (M : FM) : Option (Int32 × FM) :=
  fi (fm_is M 32 32 a0 = true) (
  fi (s0 = 0) (
    g126 a0 (M.2.2 94 a0 0) (Int32.ofInt 0) M) (
    g126 a0 (M.2.2 94 a0 0) (Int32.ofInt 16) M)) none
noncomputable def FX59_compare_109 (n : Nat) (a0 : Nat) (s0 : Int32) (M : FM) : Option (Int32 × FM) := BX59_compare_109 (FX59_compare_126 n ) a0 s0 M
noncomputable def BX59_compare_104 (g109 : Nat → Int32 → FM → Option (Int32 × FM)) (a0 : Nat) (M : FM) : Option (Int32 × FM) :=
  g109 a0 (Int32.ofInt 1) M
noncomputable def FX59_compare_104 (n : Nat) (a0 : Nat) (M : FM) : Option (Int32 × FM) := BX59_compare_104 (FX59_compare_109 n ) a0 M
noncomputable def BX59_compare_73 (f3 : Nat → Nat → FM → Option (Int32 × FM)) (g104 : Nat → FM → Option (Int32 × FM)) (g109 : Nat → Int32 → FM → Option (Int32 × FM)) (a0 : Nat) (a3 : Int32) (M : FM) : Option (Int32 × FM) :=
  fi (a3 < (Int32.ofInt 2)) (
    g104 a0 M) (
    fi (fm_is M 32 32 a0 = true) (
    let x1 : Nat := (M.2.2 105 a0 0)
    fi (fm_is M 39 39 x1 = true) (
    (f3 x1 10 M).bind fun r2 =>
    fi (r2.1 = 0) (
      fi (fm_is r2.2 32 32 a0 = true) (
      let x3 : Nat := (r2.2.2.2 106 a0 0)
      fi (fm_is r2.2 39 39 x3 = true) (
      (f3 x3 10 r2.2).bind fun r4 =>
      fi (r4.1 = 0) (
        g109 a0 (Int32.ofInt 0) r4.2) (
        g104 a0 r4.2)) none) none) (
      g104 a0 r2.2)) none) none)
noncomputable def FX59_compare_73 (n : Nat) (a0 : Nat) (a3 : Int32) (M : FM) : Option (Int32 × FM) := BX59_compare_73 FX71_is (FX59_compare_104 n ) (FX59_compare_109 n ) a0 a3 M
noncomputable def BX59_compare_0 (f0 : Int32 → Int32 → Int32 → FM → Option (Int32 × FM)) (f1 : Nat → Int32 → Nat → Nat → FM → Option (FM)) (f2 : Nat → FM → Option (Int32 × FM)) (f4 : Nat → Nat → FM → Option (Int32 × FM)) (g73 : Nat → Int32 → FM → Option (Int32 × FM)) (g179 : Nat → FM → Option (Int32 × FM)) (g183 : Nat → FM → Option (Int32 × FM)) (a0 : Nat) (a1 : Int32) (a2 : Nat) (M : FM) : Option (Int32 × FM) :=
  (f0 a1 (Int32.ofInt 12) (Int32.ofInt 3) M).bind fun r1 =>
  fi (r1.1 ≤ (Int32.ofInt 2)) (
    (f0 a1 (Int32.ofInt 15) (Int32.ofInt 5) r1.2).bind fun r2 =>
    fi (fm_is r2.2 32 32 a0 = true) (
    fi (fm_is r2.2 32 32 a0 = true) (
    (f1 a0 r2.1 a2 (r2.2.2.2 105 a0 0) r2.2).bind fun M3 =>
    (f0 a1 (Int32.ofInt 20) (Int32.ofInt 5) M3).bind fun r4 =>
    fi (fm_is r4.2 32 32 a0 = true) (
    fi (fm_is r4.2 32 32 a0 = true) (
    (f1 a0 r4.1 a2 (r4.2.2.2 106 a0 0) r4.2).bind fun M5 =>
    fi (fm_is M5 32 32 a0 = true) (
    let x6 : Nat := (M5.2.2 105 a0 0)
    fi (fm_is M5 39 39 x6 = true) (
    let x7 : Nat := (M5.2.2 114 x6 0)
    fi (fm_is M5 2 2 x7 = true) (
    (f2 x7 M5).bind fun r8 =>
    fi (r8.1 = 0) (
      fi (fm_is r8.2 32 32 a0 = true) (
      let x9 : Nat := (r8.2.2.2 106 a0 0)
      fi (fm_is r8.2 39 39 x9 = true) (
      let x10 : Nat := (r8.2.2.2 114 x9 0)
      fi (fm_is r8.2 2 2 x10 = true) (
      (f2 x10 r8.2).bind fun r11 =>
      fi (r11.1 = 0) (
        fi (fm_is r11.2 32 32 a0 = true) (
        fi (fm_is r11.2 32 32 a0 = true) (
        let x12 : Nat := (r11.2.2.2 105 a0 0)
        fi (fm_is r11.2 39 39 x12 = true) (
        (f4 x12 (r11.2.2.2 106 a0 0) r11.2).bind fun r13 =>
        fi (r1.1 = 0) (
          fi (0 < r13.1) (
            g183 a0 r13.2) (
            g179 a0 r13.2)) (
          fi (r1.1 = (Int32.ofInt 1)) (
            fi (0 ≤ r13.1) (
              g183 a0 r13.2) (
              g179 a0 r13.2)) (
            fi (r13.1 = 0) (
              g179 a0 r13.2) (
              g183 a0 r13.2)))) none) none) none) (
        g73 a0 r1.1 r11.2)) none) none) none) (
      g73 a0 r1.1 r8.2)) none) none) none) none) none) none) none) (
    some ((Int32.ofInt (-1)), r1.2))
noncomputable def FX59_compare_0 (n : Nat) (a0 : Nat) (a1 : Int32) (a2 : Nat) (M : FM) : Option (Int32 × FM) := BX59_compare_0 FX59_part FX59_take FX72_isNone (FX71_compare n) (FX59_compare_73 n ) (FX59_compare_179 n ) (FX59_compare_183 n ) a0 a1 a2 M
noncomputable def FX59_compare (n : Nat) (a0 : Nat) (a1 : Int32) (a2 : Nat) (M : FM) : Option (Int32 × FM) := FX59_compare_0 n a0 a1 a2 M
/-! BoardMachine$Floats$Format.isSmall(J)Z -/
noncomputable def BX61_isSmall_16 (s0 : Int32) (M : FM) : Option (Int32 × FM) :=
  fi (s0 = 0 ∨ s0 = 1) (some (s0, M)) none
noncomputable def FX61_isSmall_16 (s0 : Int32) (M : FM) : Option (Int32 × FM) := BX61_isSmall_16 s0 M
noncomputable def BX61_isSmall_0 (f0 : Nat → FM → Option (Int64 × FM)) (g16 : Int32 → FM → Option (Int32 × FM)) (a0 : Nat) (a1 : Int64) (M : FM) : Option (Int32 × FM) :=
  fi (fm_is M 33 33 a0 = true) (
  (f0 a0 M).bind fun r1 =>
  fi ((lg_cmp (a1 &&& r1.1) (Int64.ofInt 0)) = 0) (
    g16 (Int32.ofInt 1) r1.2) (
    g16 (Int32.ofInt 0) r1.2)) none
noncomputable def FX61_isSmall_0 (a0 : Nat) (a1 : Int64) (M : FM) : Option (Int32 × FM) := BX61_isSmall_0 FX61_top FX61_isSmall_16 a0 a1 M
noncomputable def FX61_isSmall (a0 : Nat) (a1 : Int64) (M : FM) : Option (Int32 × FM) := FX61_isSmall_0 a0 a1 M
/-! BoardMachine$Floats$FloatUnit.classOf(LBoardMachine$Floats$Taken;LBoardMachine$Floats$Format;)I -/
noncomputable def BX59_classOf_90 (s0 : Int32) (M : FM) : Option (Int32 × FM) :=
  some (s0, M)
noncomputable def FX59_classOf_90 (s0 : Int32) (M : FM) : Option (Int32 × FM) := BX59_classOf_90 s0 M
noncomputable def BX59_classOf_74 (g90 : Int32 → FM → Option (Int32 × FM)) (a0 : Nat) (s0 : Int32) (M : FM) : Option (Int32 × FM) :=
  fi (fm_is M 39 39 a0 = true) (
  fi ((M.1 115 a0 0) = 0) (
    g90 s0 M) (
    g90 ((Int32.ofInt 7) - s0) M)) none
noncomputable def FX59_classOf_74 (a0 : Nat) (s0 : Int32) (M : FM) : Option (Int32 × FM) := BX59_classOf_74 FX59_classOf_90 a0 s0 M
noncomputable def BX59_classOf_27 (s0 : Int32) (M : FM) : Option (Int32 × FM) :=
  some (s0, M)
noncomputable def FX59_classOf_27 (s0 : Int32) (M : FM) : Option (Int32 × FM) := BX59_classOf_27 s0 M
noncomputable def BX59_classOf_0 (f0 : Nat → FM → Option (Int32 × FM)) (f1 : Nat → Nat → FM → Option (Int32 × FM)) (f2 : Nat → Int64 → FM → Option (Int32 × FM)) (g27 : Int32 → FM → Option (Int32 × FM)) (g74 : Nat → Int32 → FM → Option (Int32 × FM)) (a0 : Nat) (a1 : Nat) (M : FM) : Option (Int32 × FM) :=
  fi (fm_is M 39 39 a0 = true) (
  let x1 : Nat := (M.2.2 114 a0 0)
  fi (fm_is M 2 2 x1 = true) (
  (f0 x1 M).bind fun r2 =>
  fi (r2.1 = 0) (
    fi (fm_is r2.2 39 39 a0 = true) (
    (f1 a0 8 r2.2).bind fun r3 =>
    fi (r3.1 = 0) (
      fi (fm_is r3.2 39 39 a0 = true) (
      (f1 a0 6 r3.2).bind fun r4 =>
      fi (r4.1 = 0) (
        fi (fm_is r4.2 39 39 a0 = true) (
        fi (fm_is r4.2 33 33 a1 = true) (
        (f2 a1 (r4.2.2.1 118 a0 0) r4.2).bind fun r5 =>
        fi (r5.1 = 0) (
          g74 a0 (Int32.ofInt 6) r5.2) (
          g74 a0 (Int32.ofInt 5) r5.2)) none) none) (
        g74 a0 (Int32.ofInt 4) r4.2)) none) (
      g74 a0 (Int32.ofInt 7) r3.2)) none) (
    fi (fm_is r2.2 39 39 a0 = true) (
    (f1 a0 10 r2.2).bind fun r6 =>
    fi (r6.1 = 0) (
      g27 (Int32.ofInt 9) r6.2) (
      g27 (Int32.ofInt 8) r6.2)) none)) none) none
noncomputable def FX59_classOf_0 (a0 : Nat) (a1 : Nat) (M : FM) : Option (Int32 × FM) := BX59_classOf_0 FX72_isNone FX71_is FX61_isSmall FX59_classOf_27 FX59_classOf_74 a0 a1 M
noncomputable def FX59_classOf (a0 : Nat) (a1 : Nat) (M : FM) : Option (Int32 × FM) := FX59_classOf_0 a0 a1 M
/-! BoardMachine$Floats$FloatUnit.look(ILBoardMachine$Floats$Format;)I -/
noncomputable def BX59_look_65 (f3 : Nat → Int64 → FM → Option (Int32 × FM)) (s0 : Nat) (s1 : Int64) (M : FM) : Option (Int32 × FM) :=
  fi (fm_is M 32 32 s0 = true) (
  (f3 s0 s1 M).bind fun r1 =>
  some (r1.1, r1.2)) none
noncomputable def FX59_look_65 (s0 : Nat) (s1 : Int64) (M : FM) : Option (Int32 × FM) := BX59_look_65 FX59_give s0 s1 M
noncomputable def BX59_look_0 (f0 : Int32 → Int32 → Int32 → FM → Option (Int32 × FM)) (f1 : Nat → FM → Option (Int32 × FM)) (f2 : Nat → Int32 → Nat → Nat → FM → Option (FM)) (f3 : Nat → Int64 → FM → Option (Int32 × FM)) (f4 : Nat → Nat → FM → Option (Int32 × FM)) (g65 : Nat → Int64 → FM → Option (Int32 × FM)) (a0 : Nat) (a1 : Int32) (a2 : Nat) (M : FM) : Option (Int32 × FM) :=
  (f0 a1 (Int32.ofInt 15) (Int32.ofInt 5) M).bind fun r1 =>
  (f0 a1 (Int32.ofInt 12) (Int32.ofInt 3) r1.2).bind fun r2 =>
  fi (r2.1 = (Int32.ofInt 0)) (
    (f1 a2 r2.2).bind fun r3 =>
    fi (r3.1 = 0) (
      fi (fm_is r3.2 32 32 a0 = true) (
      let x4 : Nat := (r3.2.2.2 93 a0 0)
      fi (fm_is r3.2 902 902 x4 = true ∧ fm_in r3.2 x4 r1.1 = true) (
      g65 a0 (((r3.2.2.1 3 x4 r1.1.toNatClampNeg).toInt32).toInt64) r3.2) none) none) (
      fi (fm_is r3.2 32 32 a0 = true) (
      let x5 : Nat := (r3.2.2.2 93 a0 0)
      fi (fm_is r3.2 902 902 x5 = true ∧ fm_in r3.2 x5 r1.1 = true) (
      g65 a0 (r3.2.2.1 3 x5 r1.1.toNatClampNeg) r3.2) none) none)) (
  fi (r2.1 = (Int32.ofInt 1)) (
    fi (fm_is r2.2 32 32 a0 = true) (
    fi (fm_is r2.2 32 32 a0 = true) (
    (f2 a0 r1.1 a2 (r2.2.2.2 105 a0 0) r2.2).bind fun M6 =>
    fi (fm_is M6 32 32 a0 = true) (
    (f4 (M6.2.2 105 a0 0) a2 M6).bind fun r7 =>
    fi (fm_is r7.2 32 32 a0 = true) (
    (f3 a0 ((Int64.ofInt 1) <<< (r7.1.toInt64 &&& 63)) r7.2).bind fun r8 =>
    some (r8.1, r8.2)) none) none) none) none) (
  some ((Int32.ofInt (-1)), r2.2)))
noncomputable def FX59_look_0 (a0 : Nat) (a1 : Int32) (a2 : Nat) (M : FM) : Option (Int32 × FM) := BX59_look_0 FX59_part FX59_isDouble FX59_take FX59_give FX59_classOf FX59_look_65 a0 a1 a2 M
noncomputable def FX59_look (a0 : Nat) (a1 : Int32) (a2 : Nat) (M : FM) : Option (Int32 × FM) := FX59_look_0 a0 a1 a2 M
/-! BoardMachine$Floats$Operation.none(LBoardMachine$Floats$Taken;)V -/
noncomputable def BX65_none_0 (f0 : Nat → Nat → Int32 → FM → Option (FM)) (a0 : Nat) (M : FM) : Option (FM) :=
  fi (fm_is M 39 39 a0 = true) (
  (f0 a0 9 (Int32.ofInt 0) M).bind fun M1 =>
  some M1) none
noncomputable def FX65_none_0 (a0 : Nat) (M : FM) : Option (FM) := BX65_none_0 FX71_become a0 M
noncomputable def FX65_none (a0 : Nat) (M : FM) : Option (FM) := FX65_none_0 a0 M
/-! BoardMachine$Floats$Operation.isNone(LBoardMachine$Floats$Taken;LBoardMachine$Floats$Taken;LBoardMachine$Floats$Flags;LBoardMachine$Floats$Taken;)Z -/
noncomputable def BX65_isNone_66 (a4 : Int32) (M : FM) : Option (Int32 × FM) :=
  fi (a4 = 0 ∨ a4 = 1) (some (a4, M)) none
noncomputable def FX65_isNone_66 (a4 : Int32) (M : FM) : Option (Int32 × FM) := BX65_isNone_66 a4 M
noncomputable def BX65_isNone_59 (f2 : Nat → Int32 → FM → Option (FM)) (f3 : Nat → FM → Option (FM)) (g66 : Int32 → FM → Option (Int32 × FM)) (a3 : Nat) (a4 : Int32) (s0 : Nat) (s1 : Int32) (M : FM) : Option (Int32 × FM) :=
  fi (fm_is M 31 31 s0 = true) (
  (f2 s0 s1 M).bind fun M1 =>
  (f3 a3 M1).bind fun M2 =>
  g66 a4 M2) none
noncomputable def FX65_isNone_59 (a3 : Nat) (a4 : Int32) (s0 : Nat) (s1 : Int32) (M : FM) : Option (Int32 × FM) := BX65_isNone_59 FX60_raise FX65_none FX65_isNone_66 a3 a4 s0 s1 M
noncomputable def BX65_isNone_53 (g59 : Nat → Int32 → Nat → Int32 → FM → Option (Int32 × FM)) (a3 : Nat) (a4 : Int32) (s0 : Nat) (M : FM) : Option (Int32 × FM) :=
  g59 a3 a4 s0 (Int32.ofInt 16) M
noncomputable def FX65_isNone_53 (a3 : Nat) (a4 : Int32) (s0 : Nat) (M : FM) : Option (Int32 × FM) := BX65_isNone_53 FX65_isNone_59 a3 a4 s0 M
noncomputable def BX65_isNone_25 (f1 : Nat → Nat → FM → Option (Int32 × FM)) (g53 : Nat → Int32 → Nat → FM → Option (Int32 × FM)) (g59 : Nat → Int32 → Nat → Int32 → FM → Option (Int32 × FM)) (g66 : Int32 → FM → Option (Int32 × FM)) (a0 : Nat) (a1 : Nat) (a2 : Nat) (a3 : Nat) (s0 : Int32) (M : FM) : Option (Int32 × FM) :=
  fi (s0 = 0) (
    g66 s0 M) (
    fi (fm_is M 39 39 a0 = true) (
    (f1 a0 10 M).bind fun r1 =>
    fi (r1.1 = 0) (
      fi (fm_is r1.2 39 39 a1 = true) (
      (f1 a1 10 r1.2).bind fun r2 =>
      fi (r2.1 = 0) (
        g59 a3 s0 a2 (Int32.ofInt 0) r2.2) (
        g53 a3 s0 a2 r2.2)) none) (
      g53 a3 s0 a2 r1.2)) none)
noncomputable def FX65_isNone_25 (a0 : Nat) (a1 : Nat) (a2 : Nat) (a3 : Nat) (s0 : Int32) (M : FM) : Option (Int32 × FM) := BX65_isNone_25 FX71_is FX65_isNone_53 FX65_isNone_59 FX65_isNone_66 a0 a1 a2 a3 s0 M
noncomputable def BX65_isNone_20 (g25 : Nat → Nat → Nat → Nat → Int32 → FM → Option (Int32 × FM)) (a0 : Nat) (a1 : Nat) (a2 : Nat) (a3 : Nat) (M : FM) : Option (Int32 × FM) :=
  g25 a0 a1 a2 a3 (Int32.ofInt 1) M
noncomputable def FX65_isNone_20 (a0 : Nat) (a1 : Nat) (a2 : Nat) (a3 : Nat) (M : FM) : Option (Int32 × FM) := BX65_isNone_20 FX65_isNone_25 a0 a1 a2 a3 M
noncomputable def BX65_isNone_0 (f0 : Nat → FM → Option (Int32 × FM)) (g20 : Nat → Nat → Nat → Nat → FM → Option (Int32 × FM)) (g25 : Nat → Nat → Nat → Nat → Int32 → FM → Option (Int32 × FM)) (a0 : Nat) (a1 : Nat) (a2 : Nat) (a3 : Nat) (M : FM) : Option (Int32 × FM) :=
  fi (fm_is M 39 39 a0 = true) (
  let x1 : Nat := (M.2.2 114 a0 0)
  fi (fm_is M 2 2 x1 = true) (
  (f0 x1 M).bind fun r2 =>
  fi (r2.1 = 0) (
    fi (fm_is r2.2 39 39 a1 = true) (
    let x3 : Nat := (r2.2.2.2 114 a1 0)
    fi (fm_is r2.2 2 2 x3 = true) (
    (f0 x3 r2.2).bind fun r4 =>
    fi (r4.1 = 0) (
      g25 a0 a1 a2 a3 (Int32.ofInt 0) r4.2) (
      g20 a0 a1 a2 a3 r4.2)) none) none) (
    g20 a0 a1 a2 a3 r2.2)) none) none
noncomputable def FX65_isNone_0 (a0 : Nat) (a1 : Nat) (a2 : Nat) (a3 : Nat) (M : FM) : Option (Int32 × FM) := BX65_isNone_0 FX72_isNone FX65_isNone_20 FX65_isNone_25 a0 a1 a2 a3 M
noncomputable def FX65_isNone (a0 : Nat) (a1 : Nat) (a2 : Nat) (a3 : Nat) (M : FM) : Option (Int32 × FM) := FX65_isNone_0 a0 a1 a2 a3 M
/-! BoardMachine$Floats$Operation.refuse(LBoardMachine$Floats$Flags;LBoardMachine$Floats$Taken;)V -/
noncomputable def BX65_refuse_0 (f0 : Nat → Int32 → FM → Option (FM)) (f1 : Nat → FM → Option (FM)) (a0 : Nat) (a1 : Nat) (M : FM) : Option (FM) :=
  fi (fm_is M 31 31 a0 = true) (
  (f0 a0 (Int32.ofInt 16) M).bind fun M1 =>
  (f1 a1 M1).bind fun M2 =>
  some M2) none
noncomputable def FX65_refuse_0 (a0 : Nat) (a1 : Nat) (M : FM) : Option (FM) := BX65_refuse_0 FX60_raise FX65_none a0 a1 M
noncomputable def FX65_refuse (a0 : Nat) (a1 : Nat) (M : FM) : Option (FM) := FX65_refuse_0 a0 a1 M
/-! BoardMachine$Floats$Wide.multiply(JJ)V -/
noncomputable def BX62_multiply_0 (a0 : Nat) (a1 : Int64) (a3 : Int64) (M : FM) : Option (FM) :=
  let x1 : Int64 := ((a1 &&& (Int64.ofInt 4294967295)) * (a3 &&& (Int64.ofInt 4294967295)))
  let x2 : Int64 := (((a1.toUInt64 >>> ((Int32.ofInt 32).toInt64.toUInt64 &&& Int64.toUInt64 63)).toInt64 * (a3 &&& (Int64.ofInt 4294967295))) + (x1.toUInt64 >>> ((Int32.ofInt 32).toInt64.toUInt64 &&& Int64.toUInt64 63)).toInt64)
  let x3 : Int64 := (((a1 &&& (Int64.ofInt 4294967295)) * (a3.toUInt64 >>> ((Int32.ofInt 32).toInt64.toUInt64 &&& Int64.toUInt64 63)).toInt64) + (x2 &&& (Int64.ofInt 4294967295)))
  fi (fm_is M 40 40 a0 = true) (
  let M4 : FM := fm_sL M 120 a0 0 ((x3 <<< ((Int32.ofInt 32).toInt64 &&& 63)) ||| (x1 &&& (Int64.ofInt 4294967295)))
  fi (fm_is M4 40 40 a0 = true) (
  let M5 : FM := fm_sL M4 119 a0 0 ((((a1.toUInt64 >>> ((Int32.ofInt 32).toInt64.toUInt64 &&& Int64.toUInt64 63)).toInt64 * (a3.toUInt64 >>> ((Int32.ofInt 32).toInt64.toUInt64 &&& Int64.toUInt64 63)).toInt64) + (x2.toUInt64 >>> ((Int32.ofInt 32).toInt64.toUInt64 &&& Int64.toUInt64 63)).toInt64) + (x3.toUInt64 >>> ((Int32.ofInt 32).toInt64.toUInt64 &&& Int64.toUInt64 63)).toInt64)
  some M5) none) none
noncomputable def FX62_multiply_0 (a0 : Nat) (a1 : Int64) (a3 : Int64) (M : FM) : Option (FM) := BX62_multiply_0 a0 a1 a3 M
noncomputable def FX62_multiply (a0 : Nat) (a1 : Int64) (a3 : Int64) (M : FM) : Option (FM) := FX62_multiply_0 a0 a1 a3 M
/-! BoardMachine$Floats$Product.work(LBoardMachine$Floats$Taken;LBoardMachine$Floats$Taken;LBoardMachine$Floats$Mode;LBoardMachine$Floats$Flags;LBoardMachine$Floats$Taken;)V -/
noncomputable def BX67_work_173 (M : FM) : Option (FM) :=
  some M
noncomputable def FX67_work_173 (M : FM) : Option (FM) := BX67_work_173 M
noncomputable def BX67_work_168 (f2 : Nat → Nat → Int32 → FM → Option (FM)) (g173 : FM → Option (FM)) (a6 : Int32) (s0 : Nat) (s1 : Nat) (M : FM) : Option (FM) :=
  fi (fm_is M 39 39 s0 = true) (
  (f2 s0 s1 a6 M).bind fun M1 =>
  g173 M1) none
noncomputable def FX67_work_168 (a6 : Int32) (s0 : Nat) (s1 : Nat) (M : FM) : Option (FM) := BX67_work_168 FX71_become FX67_work_173 a6 s0 s1 M
noncomputable def BX67_work_159 (g168 : Int32 → Nat → Nat → FM → Option (FM)) (a6 : Int32) (s0 : Nat) (M : FM) : Option (FM) :=
  g168 a6 s0 8 M
noncomputable def FX67_work_159 (a6 : Int32) (s0 : Nat) (M : FM) : Option (FM) := BX67_work_159 FX67_work_168 a6 s0 M
noncomputable def BX67_work_137 (f0 : Nat → Nat → FM → Option (Int32 × FM)) (g159 : Int32 → Nat → FM → Option (FM)) (g168 : Int32 → Nat → Nat → FM → Option (FM)) (a1 : Nat) (a2 : Nat) (a5 : Nat) (a6 : Int32) (M : FM) : Option (FM) :=
  fi (fm_is M 39 39 a1 = true) (
  (f0 a1 8 M).bind fun r1 =>
  fi (r1.1 = 0) (
    fi (fm_is r1.2 39 39 a2 = true) (
    (f0 a2 8 r1.2).bind fun r2 =>
    fi (r2.1 = 0) (
      g168 a6 a5 6 r2.2) (
      g159 a6 a5 r2.2)) none) (
    g159 a6 a5 r1.2)) none
noncomputable def FX67_work_137 (a1 : Nat) (a2 : Nat) (a5 : Nat) (a6 : Int32) (M : FM) : Option (FM) := BX67_work_137 FX71_is FX67_work_159 FX67_work_168 a1 a2 a5 a6 M
noncomputable def BX67_work_68 (f0 : Nat → Nat → FM → Option (Int32 × FM)) (f2 : Nat → Nat → Int32 → FM → Option (FM)) (f3 : Nat → Int64 → Int64 → FM → Option (FM)) (g137 : Nat → Nat → Nat → Int32 → FM → Option (FM)) (g173 : FM → Option (FM)) (a1 : Nat) (a2 : Nat) (a5 : Nat) (a6 : Int32) (M : FM) : Option (FM) :=
  fi (fm_is M 39 39 a1 = true) (
  (f0 a1 7 M).bind fun r1 =>
  fi (r1.1 = 0) (
    g137 a1 a2 a5 a6 r1.2) (
    fi (fm_is r1.2 39 39 a2 = true) (
    (f0 a2 7 r1.2).bind fun r2 =>
    fi (r2.1 = 0) (
      g137 a1 a2 a5 a6 r2.2) (
      fi (fm_is r2.2 39 39 a5 = true) (
      (f2 a5 7 a6 r2.2).bind fun M3 =>
      fi (fm_is M3 39 39 a5 = true) (
      fi (fm_is M3 39 39 a1 = true) (
      let x4 : Nat := (M3.2.2 117 a1 0)
      fi (fm_is M3 40 40 x4 = true) (
      fi (fm_is M3 39 39 a2 = true) (
      let x5 : Nat := (M3.2.2 117 a2 0)
      fi (fm_is M3 40 40 x5 = true) (
      let x6 : Nat := (M3.2.2 117 a5 0)
      fi (fm_is M3 40 40 x6 = true) (
      (f3 x6 (M3.2.1 120 x4 0) (M3.2.1 120 x5 0) M3).bind fun M7 =>
      fi (fm_is M7 39 39 a1 = true) (
      fi (fm_is M7 39 39 a2 = true) (
      fi (fm_is M7 39 39 a5 = true) (
      let M8 : FM := fm_sI M7 116 a5 0 ((M7.1 116 a1 0) + (M7.1 116 a2 0))
      g173 M8) none) none) none) none) none) none) none) none) none) none)) none)) none
noncomputable def FX67_work_68 (a1 : Nat) (a2 : Nat) (a5 : Nat) (a6 : Int32) (M : FM) : Option (FM) := BX67_work_68 FX71_is FX71_become FX62_multiply FX67_work_137 FX67_work_173 a1 a2 a5 a6 M
noncomputable def BX67_work_58 (f1 : Nat → Nat → FM → Option (FM)) (g173 : FM → Option (FM)) (a4 : Nat) (a5 : Nat) (M : FM) : Option (FM) :=
  (f1 a4 a5 M).bind fun M1 =>
  g173 M1
noncomputable def FX67_work_58 (a4 : Nat) (a5 : Nat) (M : FM) : Option (FM) := BX67_work_58 FX65_refuse FX67_work_173 a4 a5 M
noncomputable def BX67_work_38 (f0 : Nat → Nat → FM → Option (Int32 × FM)) (g58 : Nat → Nat → FM → Option (FM)) (g68 : Nat → Nat → Nat → Int32 → FM → Option (FM)) (a1 : Nat) (a2 : Nat) (a4 : Nat) (a5 : Nat) (a6 : Int32) (M : FM) : Option (FM) :=
  fi (fm_is M 39 39 a1 = true) (
  (f0 a1 6 M).bind fun r1 =>
  fi (r1.1 = 0) (
    g68 a1 a2 a5 a6 r1.2) (
    fi (fm_is r1.2 39 39 a2 = true) (
    (f0 a2 8 r1.2).bind fun r2 =>
    fi (r2.1 = 0) (
      g68 a1 a2 a5 a6 r2.2) (
      g58 a4 a5 r2.2)) none)) none
noncomputable def FX67_work_38 (a1 : Nat) (a2 : Nat) (a4 : Nat) (a5 : Nat) (a6 : Int32) (M : FM) : Option (FM) := BX67_work_38 FX71_is FX67_work_58 FX67_work_68 a1 a2 a4 a5 a6 M
noncomputable def BX67_work_16 (f0 : Nat → Nat → FM → Option (Int32 × FM)) (g38 : Nat → Nat → Nat → Nat → Int32 → FM → Option (FM)) (g58 : Nat → Nat → FM → Option (FM)) (a1 : Nat) (a2 : Nat) (a4 : Nat) (a5 : Nat) (s0 : Int32) (M : FM) : Option (FM) :=
  fi (fm_is M 39 39 a1 = true) (
  (f0 a1 8 M).bind fun r1 =>
  fi (r1.1 = 0) (
    g38 a1 a2 a4 a5 s0 r1.2) (
    fi (fm_is r1.2 39 39 a2 = true) (
    (f0 a2 6 r1.2).bind fun r2 =>
    fi (r2.1 = 0) (
      g38 a1 a2 a4 a5 s0 r2.2) (
      g58 a4 a5 r2.2)) none)) none
noncomputable def FX67_work_16 (a1 : Nat) (a2 : Nat) (a4 : Nat) (a5 : Nat) (s0 : Int32) (M : FM) : Option (FM) := BX67_work_16 FX71_is FX67_work_38 FX67_work_58 a1 a2 a4 a5 s0 M
noncomputable def BX67_work_0 (g16 : Nat → Nat → Nat → Nat → Int32 → FM → Option (FM)) (a0 : Nat) (a1 : Nat) (a2 : Nat) (a3 : Nat) (a4 : Nat) (a5 : Nat) (M : FM) : Option (FM) :=
  fi (fm_is M 39 39 a1 = true) (
  fi (fm_is M 39 39 a2 = true) (
  fi ((M.1 115 a1 0) = (M.1 115 a2 0)) (
    g16 a1 a2 a4 a5 (Int32.ofInt 0) M) (
    g16 a1 a2 a4 a5 (Int32.ofInt 1) M)) none) none
noncomputable def FX67_work_0 (a0 : Nat) (a1 : Nat) (a2 : Nat) (a3 : Nat) (a4 : Nat) (a5 : Nat) (M : FM) : Option (FM) := BX67_work_0 FX67_work_16 a0 a1 a2 a3 a4 a5 M
noncomputable def FX67_work (a0 : Nat) (a1 : Nat) (a2 : Nat) (a3 : Nat) (a4 : Nat) (a5 : Nat) (M : FM) : Option (FM) := FX67_work_0 a0 a1 a2 a3 a4 a5 M
/-! BoardMachine$Floats$Quotient.divide(LBoardMachine$Floats$Taken;LBoardMachine$Floats$Taken;LBoardMachine$Floats$Taken;)V -/
noncomputable def BX68_divide_99 (f1 : Nat → Int64 → FM → Option (FM)) (a0 : Nat) (a1 : Nat) (a2 : Nat) (s0 : Nat) (s1 : Int64) (s2 : Int64) (M : FM) : Option (FM) :=
  fi (fm_is M 40 40 s0 = true) (
  (f1 s0 (s1 ||| s2) M).bind fun M1 =>
  fi (fm_is M1 39 39 a0 = true) (
  fi (fm_is M1 39 39 a1 = true) (
  fi (fm_is M1 39 39 a2 = true) (
  let M2 : FM := fm_sI M1 116 a2 0 (((M1.1 116 a0 0) - (M1.1 116 a1 0)) - (Int32.ofInt 61))
  some M2) none) none) none) none
noncomputable def FX68_divide_99 (n : Nat) (k35 : Nat → Nat → Nat → Int64 → Int64 → Int64 → Int32 → FM → Option (FM)) (a0 : Nat) (a1 : Nat) (a2 : Nat) (s0 : Nat) (s1 : Int64) (s2 : Int64) (M : FM) : Option (FM) := BX68_divide_99 FX62_set a0 a1 a2 s0 s1 s2 M
noncomputable def BX68_divide_67 (k35 : Nat → Nat → Nat → Int64 → Int64 → Int64 → Int32 → FM → Option (FM)) (a0 : Nat) (a1 : Nat) (a2 : Nat) (a3 : Int64) (a5 : Int64) (a7 : Int64) (a9 : Int32) (M : FM) : Option (FM) :=
  let x1 : Int64 := (a5 <<< ((Int32.ofInt 1).toInt64 &&& 63))
  let x2 : Int32 := a9 + (Int32.ofInt 1)
  k35 a0 a1 a2 a3 x1 a7 x2 M
noncomputable def FX68_divide_67 (n : Nat) (k35 : Nat → Nat → Nat → Int64 → Int64 → Int64 → Int32 → FM → Option (FM)) (a0 : Nat) (a1 : Nat) (a2 : Nat) (a3 : Int64) (a5 : Int64) (a7 : Int64) (a9 : Int32) (M : FM) : Option (FM) := BX68_divide_67 k35 a0 a1 a2 a3 a5 a7 a9 M
noncomputable def BX68_divide_35 (g67 : Nat → Nat → Nat → Int64 → Int64 → Int64 → Int32 → FM → Option (FM)) (g99 : Nat → Nat → Nat → Nat → Int64 → Int64 → FM → Option (FM)) (a0 : Nat) (a1 : Nat) (a2 : Nat) (a3 : Int64) (a5 : Int64) (a7 : Int64) (a9 : Int32) (M : FM) : Option (FM) :=
  fi ((Int32.ofInt 61) ≤ a9) (
    fi (fm_is M 39 39 a2 = true) (
    fi ((lg_cmp a5 (Int64.ofInt 0)) = 0) (
      g99 a0 a1 a2 (M.2.2 117 a2 0) (a7 <<< ((Int32.ofInt 1).toInt64 &&& 63)) (Int64.ofInt 0) M) (
      g99 a0 a1 a2 (M.2.2 117 a2 0) (a7 <<< ((Int32.ofInt 1).toInt64 &&& 63)) (Int64.ofInt 1) M)) none) (
    let x1 : Int64 := (a7 <<< ((Int32.ofInt 1).toInt64 &&& 63))
    fi ((lg_cmp a5 a3) < 0) (
      g67 a0 a1 a2 a3 a5 x1 a9 M) (
      let x2 : Int64 := (a5 - a3)
      let x3 : Int64 := (x1 ||| (Int64.ofInt 1))
      g67 a0 a1 a2 a3 x2 x3 a9 M))
noncomputable def FX68_divide_35 (n : Nat) (k35 : Nat → Nat → Nat → Int64 → Int64 → Int64 → Int32 → FM → Option (FM)) (a0 : Nat) (a1 : Nat) (a2 : Nat) (a3 : Int64) (a5 : Int64) (a7 : Int64) (a9 : Int32) (M : FM) : Option (FM) := BX68_divide_35 (FX68_divide_67 n k35) (FX68_divide_99 n k35) a0 a1 a2 a3 a5 a7 a9 M
noncomputable def BX68_divide_0 (f0 : Nat → Int32 → FM → Option (FM)) (k35 : Nat → Nat → Nat → Int64 → Int64 → Int64 → Int32 → FM → Option (FM)) (a0 : Nat) (a1 : Nat) (a2 : Nat) (M : FM) : Option (FM) :=
  fi (fm_is M 39 39 a0 = true) (
  (f0 a0 (Int32.ofInt 61) M).bind fun M1 =>
  fi (fm_is M1 39 39 a1 = true) (
  (f0 a1 (Int32.ofInt 61) M1).bind fun M2 =>
  fi (fm_is M2 39 39 a1 = true) (
  let x3 : Nat := (M2.2.2 117 a1 0)
  fi (fm_is M2 40 40 x3 = true) (
  let x4 : Int64 := (M2.2.1 120 x3 0)
  fi (fm_is M2 39 39 a0 = true) (
  let x5 : Nat := (M2.2.2 117 a0 0)
  fi (fm_is M2 40 40 x5 = true) (
  let x6 : Int64 := (M2.2.1 120 x5 0)
  k35 a0 a1 a2 x4 x6 (Int64.ofInt 0) (Int32.ofInt 0) M2) none) none) none) none) none) none
noncomputable def FX68_divide_0 (n : Nat) (k35 : Nat → Nat → Nat → Int64 → Int64 → Int64 → Int32 → FM → Option (FM)) (a0 : Nat) (a1 : Nat) (a2 : Nat) (M : FM) : Option (FM) := BX68_divide_0 (FX71_lift n) k35 a0 a1 a2 M
noncomputable def FX68_divide_L35 (n : Nat) : Nat → Nat → Nat → Nat → Int64 → Int64 → Int64 → Int32 → FM → Option (FM)
  | 0 => fun _ _ _ _ _ _ _ _ => none
  | j + 1 => FX68_divide_35 n (FX68_divide_L35 n j)
noncomputable def FX68_divide (n : Nat) (a0 : Nat) (a1 : Nat) (a2 : Nat) (M : FM) : Option (FM) := FX68_divide_0 n (FX68_divide_L35 n n) a0 a1 a2 M
/-! BoardMachine$Floats$Quotient.work(LBoardMachine$Floats$Taken;LBoardMachine$Floats$Taken;LBoardMachine$Floats$Mode;LBoardMachine$Floats$Flags;LBoardMachine$Floats$Taken;)V -/
noncomputable def BX68_work_156 (M : FM) : Option (FM) :=
  some M
noncomputable def FX68_work_156 (n : Nat) (M : FM) : Option (FM) := BX68_work_156 M
noncomputable def BX68_work_151 (f4 : Nat → Nat → Int32 → FM → Option (FM)) (g156 : FM → Option (FM)) (a6 : Int32) (s0 : Nat) (s1 : Nat) (M : FM) : Option (FM) :=
  fi (fm_is M 39 39 s0 = true) (
  (f4 s0 s1 a6 M).bind fun M1 =>
  g156 M1) none
noncomputable def FX68_work_151 (n : Nat) (a6 : Int32) (s0 : Nat) (s1 : Nat) (M : FM) : Option (FM) := BX68_work_151 FX71_become (FX68_work_156 n ) a6 s0 s1 M
noncomputable def BX68_work_142 (g151 : Int32 → Nat → Nat → FM → Option (FM)) (a6 : Int32) (s0 : Nat) (M : FM) : Option (FM) :=
  g151 a6 s0 8 M
noncomputable def FX68_work_142 (n : Nat) (a6 : Int32) (s0 : Nat) (M : FM) : Option (FM) := BX68_work_142 (FX68_work_151 n ) a6 s0 M
noncomputable def BX68_work_117 (f0 : Nat → Nat → FM → Option (Int32 × FM)) (f2 : Nat → Int32 → FM → Option (FM)) (g142 : Int32 → Nat → FM → Option (FM)) (g151 : Int32 → Nat → Nat → FM → Option (FM)) (a1 : Nat) (a2 : Nat) (a5 : Nat) (a6 : Int32) (s0 : Nat) (s1 : Int32) (M : FM) : Option (FM) :=
  fi (fm_is M 31 31 s0 = true) (
  (f2 s0 s1 M).bind fun M1 =>
  fi (fm_is M1 39 39 a1 = true) (
  (f0 a1 8 M1).bind fun r2 =>
  fi (r2.1 = 0) (
    fi (fm_is r2.2 39 39 a2 = true) (
    (f0 a2 6 r2.2).bind fun r3 =>
    fi (r3.1 = 0) (
      g151 a6 a5 6 r3.2) (
      g142 a6 a5 r3.2)) none) (
    g142 a6 a5 r2.2)) none) none
noncomputable def FX68_work_117 (n : Nat) (a1 : Nat) (a2 : Nat) (a5 : Nat) (a6 : Int32) (s0 : Nat) (s1 : Int32) (M : FM) : Option (FM) := BX68_work_117 FX71_is FX60_raise (FX68_work_142 n ) (FX68_work_151 n ) a1 a2 a5 a6 s0 s1 M
noncomputable def BX68_work_116 (g117 : Nat → Nat → Nat → Int32 → Nat → Int32 → FM → Option (FM)) (a1 : Nat) (a2 : Nat) (a5 : Nat) (a6 : Int32) (s0 : Nat) (M : FM) : Option (FM) :=
  g117 a1 a2 a5 a6 s0 (Int32.ofInt 0) M
noncomputable def FX68_work_116 (n : Nat) (a1 : Nat) (a2 : Nat) (a5 : Nat) (a6 : Int32) (s0 : Nat) (M : FM) : Option (FM) := BX68_work_116 (FX68_work_117 n ) a1 a2 a5 a6 s0 M
noncomputable def BX68_work_89 (f0 : Nat → Nat → FM → Option (Int32 × FM)) (g116 : Nat → Nat → Nat → Int32 → Nat → FM → Option (FM)) (g117 : Nat → Nat → Nat → Int32 → Nat → Int32 → FM → Option (FM)) (a1 : Nat) (a2 : Nat) (a4 : Nat) (a5 : Nat) (a6 : Int32) (M : FM) : Option (FM) :=
  fi (fm_is M 39 39 a1 = true) (
  (f0 a1 7 M).bind fun r1 =>
  fi (r1.1 = 0) (
    g116 a1 a2 a5 a6 a4 r1.2) (
    fi (fm_is r1.2 39 39 a2 = true) (
    (f0 a2 6 r1.2).bind fun r2 =>
    fi (r2.1 = 0) (
      g116 a1 a2 a5 a6 a4 r2.2) (
      g117 a1 a2 a5 a6 a4 (Int32.ofInt 8) r2.2)) none)) none
noncomputable def FX68_work_89 (n : Nat) (a1 : Nat) (a2 : Nat) (a4 : Nat) (a5 : Nat) (a6 : Int32) (M : FM) : Option (FM) := BX68_work_89 FX71_is (FX68_work_116 n ) (FX68_work_117 n ) a1 a2 a4 a5 a6 M
noncomputable def BX68_work_49 (f0 : Nat → Nat → FM → Option (Int32 × FM)) (f3 : Nat → Nat → Nat → FM → Option (FM)) (f4 : Nat → Nat → Int32 → FM → Option (FM)) (g89 : Nat → Nat → Nat → Nat → Int32 → FM → Option (FM)) (g156 : FM → Option (FM)) (a1 : Nat) (a2 : Nat) (a4 : Nat) (a5 : Nat) (a6 : Int32) (M : FM) : Option (FM) :=
  fi (fm_is M 39 39 a1 = true) (
  (f0 a1 7 M).bind fun r1 =>
  fi (r1.1 = 0) (
    g89 a1 a2 a4 a5 a6 r1.2) (
    fi (fm_is r1.2 39 39 a2 = true) (
    (f0 a2 7 r1.2).bind fun r2 =>
    fi (r2.1 = 0) (
      g89 a1 a2 a4 a5 a6 r2.2) (
      (f3 a1 a2 a5 r2.2).bind fun M3 =>
      fi (fm_is M3 39 39 a5 = true) (
      (f4 a5 7 a6 M3).bind fun M4 =>
      g156 M4) none)) none)) none
noncomputable def FX68_work_49 (n : Nat) (a1 : Nat) (a2 : Nat) (a4 : Nat) (a5 : Nat) (a6 : Int32) (M : FM) : Option (FM) := BX68_work_49 FX71_is (FX68_divide n) FX71_become (FX68_work_89 n ) (FX68_work_156 n ) a1 a2 a4 a5 a6 M
noncomputable def BX68_work_16 (f0 : Nat → Nat → FM → Option (Int32 × FM)) (f1 : Nat → Nat → FM → Option (FM)) (g49 : Nat → Nat → Nat → Nat → Int32 → FM → Option (FM)) (g156 : FM → Option (FM)) (a1 : Nat) (a2 : Nat) (a4 : Nat) (a5 : Nat) (s0 : Int32) (M : FM) : Option (FM) :=
  fi (fm_is M 39 39 a1 = true) (
  fi (fm_is M 39 39 a2 = true) (
  let x1 : Nat := (M.2.2 114 a1 0)
  let x2 : Nat := (M.2.2 114 a2 0)
  fi (x1 < 42 ∧ x2 < 42 ∨ 1000 ≤ x1 ∨ 1000 ≤ x2)
  (fi (x1 = x2) (
    fi (fm_is M 39 39 a1 = true) (
    (f0 a1 7 M).bind fun r3 =>
    fi (r3.1 = 0) (
      (f1 a4 a5 r3.2).bind fun M4 =>
      g156 M4) (
      g49 a1 a2 a4 a5 s0 r3.2)) none) (
    g49 a1 a2 a4 a5 s0 M)) none) none) none
noncomputable def FX68_work_16 (n : Nat) (a1 : Nat) (a2 : Nat) (a4 : Nat) (a5 : Nat) (s0 : Int32) (M : FM) : Option (FM) := BX68_work_16 FX71_is FX65_refuse (FX68_work_49 n ) (FX68_work_156 n ) a1 a2 a4 a5 s0 M
noncomputable def BX68_work_0 (g16 : Nat → Nat → Nat → Nat → Int32 → FM → Option (FM)) (a0 : Nat) (a1 : Nat) (a2 : Nat) (a3 : Nat) (a4 : Nat) (a5 : Nat) (M : FM) : Option (FM) :=
  fi (fm_is M 39 39 a1 = true) (
  fi (fm_is M 39 39 a2 = true) (
  fi ((M.1 115 a1 0) = (M.1 115 a2 0)) (
    g16 a1 a2 a4 a5 (Int32.ofInt 0) M) (
    g16 a1 a2 a4 a5 (Int32.ofInt 1) M)) none) none
noncomputable def FX68_work_0 (n : Nat) (a0 : Nat) (a1 : Nat) (a2 : Nat) (a3 : Nat) (a4 : Nat) (a5 : Nat) (M : FM) : Option (FM) := BX68_work_0 (FX68_work_16 n ) a0 a1 a2 a3 a4 a5 M
noncomputable def FX68_work (n : Nat) (a0 : Nat) (a1 : Nat) (a2 : Nat) (a3 : Nat) (a4 : Nat) (a5 : Nat) (M : FM) : Option (FM) := FX68_work_0 n a0 a1 a2 a3 a4 a5 M
/-! BoardMachine$Floats$Root.dig(LBoardMachine$Floats$Taken;LBoardMachine$Floats$Taken;)V -/
noncomputable def BX69_dig_152 (f2 : Nat → Int64 → FM → Option (FM)) (a0 : Nat) (a1 : Nat) (s0 : Nat) (s1 : Int64) (s2 : Int64) (M : FM) : Option (FM) :=
  fi (fm_is M 40 40 s0 = true) (
  (f2 s0 (s1 ||| s2) M).bind fun M1 =>
  fi (fm_is M1 39 39 a0 = true) (
  fi (fm_is M1 39 39 a1 = true) (
  let M2 : FM := fm_sI M1 116 a1 0 ((((M1.1 116 a0 0) - (Int32.ofInt 52)) >>> ((Int32.ofInt 1) &&& 31)) - (Int32.ofInt 1))
  some M2) none) none) none
noncomputable def FX69_dig_152 (n : Nat) (k51 : Nat → Nat → Int64 → Int64 → Int64 → Int32 → FM → Option (FM)) (a0 : Nat) (a1 : Nat) (s0 : Nat) (s1 : Int64) (s2 : Int64) (M : FM) : Option (FM) := BX69_dig_152 FX62_set a0 a1 s0 s1 s2 M
noncomputable def BX69_dig_126 (k51 : Nat → Nat → Int64 → Int64 → Int64 → Int32 → FM → Option (FM)) (a0 : Nat) (a1 : Nat) (a2 : Int64) (a4 : Int64) (a6 : Int64) (a8 : Int32) (M : FM) : Option (FM) :=
  let x1 : Int32 := a8 + (Int32.ofInt 1)
  k51 a0 a1 a2 a4 a6 x1 M
noncomputable def FX69_dig_126 (n : Nat) (k51 : Nat → Nat → Int64 → Int64 → Int64 → Int32 → FM → Option (FM)) (a0 : Nat) (a1 : Nat) (a2 : Int64) (a4 : Int64) (a6 : Int64) (a8 : Int32) (M : FM) : Option (FM) := BX69_dig_126 k51 a0 a1 a2 a4 a6 a8 M
noncomputable def BX69_dig_88 (g126 : Nat → Nat → Int64 → Int64 → Int64 → Int32 → FM → Option (FM)) (a0 : Nat) (a1 : Nat) (a2 : Int64) (a6 : Int64) (a8 : Int32) (s0 : Int64) (s1 : Int64) (M : FM) : Option (FM) :=
  let x1 : Int64 := (s0 ||| s1)
  let x2 : Int64 := ((a6 <<< ((Int32.ofInt 2).toInt64 &&& 63)) ||| (Int64.ofInt 1))
  let x3 : Int64 := (a6 <<< ((Int32.ofInt 1).toInt64 &&& 63))
  fi ((lg_cmp x1 x2) < 0) (
    g126 a0 a1 a2 x1 x3 a8 M) (
    let x4 : Int64 := (x1 - x2)
    let x5 : Int64 := (x3 ||| (Int64.ofInt 1))
    g126 a0 a1 a2 x4 x5 a8 M)
noncomputable def FX69_dig_88 (n : Nat) (k51 : Nat → Nat → Int64 → Int64 → Int64 → Int32 → FM → Option (FM)) (a0 : Nat) (a1 : Nat) (a2 : Int64) (a6 : Int64) (a8 : Int32) (s0 : Int64) (s1 : Int64) (M : FM) : Option (FM) := BX69_dig_88 (FX69_dig_126 n k51) a0 a1 a2 a6 a8 s0 s1 M
noncomputable def BX69_dig_51 (g88 : Nat → Nat → Int64 → Int64 → Int32 → Int64 → Int64 → FM → Option (FM)) (g152 : Nat → Nat → Nat → Int64 → Int64 → FM → Option (FM)) (a0 : Nat) (a1 : Nat) (a2 : Int64) (a4 : Int64) (a6 : Int64) (a8 : Int32) (M : FM) : Option (FM) :=
  fi ((Int32.ofInt 58) ≤ a8) (
    fi (fm_is M 39 39 a1 = true) (
    fi ((lg_cmp a4 (Int64.ofInt 0)) = 0) (
      g152 a0 a1 (M.2.2 117 a1 0) (a6 <<< ((Int32.ofInt 1).toInt64 &&& 63)) (Int64.ofInt 0) M) (
      g152 a0 a1 (M.2.2 117 a1 0) (a6 <<< ((Int32.ofInt 1).toInt64 &&& 63)) (Int64.ofInt 1) M)) none) (
    let x1 : Int32 := ((Int32.ofInt 62) - ((Int32.ofInt 2) * a8))
    fi (x1 < 0) (
      g88 a0 a1 a2 a6 a8 (a4 <<< ((Int32.ofInt 2).toInt64 &&& 63)) (Int64.ofInt 0) M) (
      g88 a0 a1 a2 a6 a8 (a4 <<< ((Int32.ofInt 2).toInt64 &&& 63)) ((a2.toUInt64 >>> (x1.toInt64.toUInt64 &&& Int64.toUInt64 63)).toInt64 &&& (Int64.ofInt 3)) M))
noncomputable def FX69_dig_51 (n : Nat) (k51 : Nat → Nat → Int64 → Int64 → Int64 → Int32 → FM → Option (FM)) (a0 : Nat) (a1 : Nat) (a2 : Int64) (a4 : Int64) (a6 : Int64) (a8 : Int32) (M : FM) : Option (FM) := BX69_dig_51 (FX69_dig_88 n k51) (FX69_dig_152 n k51) a0 a1 a2 a4 a6 a8 M
noncomputable def BX69_dig_34 (k51 : Nat → Nat → Int64 → Int64 → Int64 → Int32 → FM → Option (FM)) (a0 : Nat) (a1 : Nat) (M : FM) : Option (FM) :=
  fi (fm_is M 39 39 a0 = true) (
  let x1 : Nat := (M.2.2 117 a0 0)
  fi (fm_is M 40 40 x1 = true) (
  let x2 : Int64 := (M.2.1 120 x1 0)
  k51 a0 a1 x2 (Int64.ofInt 0) (Int64.ofInt 0) (Int32.ofInt 0) M) none) none
noncomputable def FX69_dig_34 (n : Nat) (k51 : Nat → Nat → Int64 → Int64 → Int64 → Int32 → FM → Option (FM)) (a0 : Nat) (a1 : Nat) (M : FM) : Option (FM) := BX69_dig_34 k51 a0 a1 M
noncomputable def BX69_dig_0 (f0 : Nat → Int32 → FM → Option (FM)) (f1 : Nat → Int32 → FM → Option (FM)) (g34 : Nat → Nat → FM → Option (FM)) (a0 : Nat) (a1 : Nat) (M : FM) : Option (FM) :=
  fi (fm_is M 39 39 a0 = true) (
  (f0 a0 (Int32.ofInt 61) M).bind fun M1 =>
  fi (fm_is M1 39 39 a0 = true) (
  fi (((M1.1 116 a0 0) &&& (Int32.ofInt 1)) = (Int32.ofInt 1)) (
    fi (fm_is M1 39 39 a0 = true) (
    let x2 : Nat := (M1.2.2 117 a0 0)
    fi (fm_is M1 40 40 x2 = true) (
    (f1 x2 (Int32.ofInt 1) M1).bind fun M3 =>
    fi (fm_is M3 39 39 a0 = true) (
    fi (fm_is M3 39 39 a0 = true) (
    let M4 : FM := fm_sI M3 116 a0 0 ((M3.1 116 a0 0) - (Int32.ofInt 1))
    g34 a0 a1 M4) none) none) none) none) (
    g34 a0 a1 M1)) none) none
noncomputable def FX69_dig_0 (n : Nat) (k51 : Nat → Nat → Int64 → Int64 → Int64 → Int32 → FM → Option (FM)) (a0 : Nat) (a1 : Nat) (M : FM) : Option (FM) := BX69_dig_0 (FX71_lift n) FX62_left (FX69_dig_34 n k51) a0 a1 M
noncomputable def FX69_dig_L51 (n : Nat) : Nat → Nat → Nat → Int64 → Int64 → Int64 → Int32 → FM → Option (FM)
  | 0 => fun _ _ _ _ _ _ _ => none
  | j + 1 => FX69_dig_51 n (FX69_dig_L51 n j)
noncomputable def FX69_dig (n : Nat) (a0 : Nat) (a1 : Nat) (M : FM) : Option (FM) := FX69_dig_0 n (FX69_dig_L51 n n) a0 a1 M
/-! BoardMachine$Floats$Root.work(LBoardMachine$Floats$Taken;LBoardMachine$Floats$Taken;LBoardMachine$Floats$Mode;LBoardMachine$Floats$Flags;LBoardMachine$Floats$Taken;)V -/
noncomputable def BX69_work_68 (M : FM) : Option (FM) :=
  some M
noncomputable def FX69_work_68 (n : Nat) (M : FM) : Option (FM) := BX69_work_68 M
noncomputable def BX69_work_27 (f0 : Nat → Nat → FM → Option (Int32 × FM)) (f2 : Nat → Nat → Int32 → FM → Option (FM)) (f3 : Nat → Nat → FM → Option (FM)) (g68 : FM → Option (FM)) (a1 : Nat) (a5 : Nat) (M : FM) : Option (FM) :=
  fi (fm_is M 39 39 a1 = true) (
  (f0 a1 7 M).bind fun r1 =>
  fi (r1.1 = 0) (
    fi (fm_is r1.2 39 39 a1 = true) (
    fi (fm_is r1.2 39 39 a1 = true) (
    fi (fm_is r1.2 39 39 a5 = true) (
    (f2 a5 (r1.2.2.2 114 a1 0) (r1.2.1 115 a1 0) r1.2).bind fun M2 =>
    g68 M2) none) none) none) (
    fi (fm_is r1.2 39 39 a5 = true) (
    (f2 a5 7 (Int32.ofInt 0) r1.2).bind fun M3 =>
    (f3 a1 a5 M3).bind fun M4 =>
    g68 M4) none)) none
noncomputable def FX69_work_27 (n : Nat) (a1 : Nat) (a5 : Nat) (M : FM) : Option (FM) := BX69_work_27 FX71_is FX71_become (FX69_dig n) (FX69_work_68 n ) a1 a5 M
noncomputable def BX69_work_0 (f0 : Nat → Nat → FM → Option (Int32 × FM)) (f1 : Nat → Nat → FM → Option (FM)) (g27 : Nat → Nat → FM → Option (FM)) (g68 : FM → Option (FM)) (a0 : Nat) (a1 : Nat) (a2 : Nat) (a3 : Nat) (a4 : Nat) (a5 : Nat) (M : FM) : Option (FM) :=
  fi (fm_is M 39 39 a1 = true) (
  fi ((M.1 115 a1 0) = 0) (
    g27 a1 a5 M) (
    fi (fm_is M 39 39 a1 = true) (
    (f0 a1 6 M).bind fun r1 =>
    fi (r1.1 = 0) (
      (f1 a4 a5 r1.2).bind fun M2 =>
      g68 M2) (
      g27 a1 a5 r1.2)) none)) none
noncomputable def FX69_work_0 (n : Nat) (a0 : Nat) (a1 : Nat) (a2 : Nat) (a3 : Nat) (a4 : Nat) (a5 : Nat) (M : FM) : Option (FM) := BX69_work_0 FX71_is FX65_refuse (FX69_work_27 n ) (FX69_work_68 n ) a0 a1 a2 a3 a4 a5 M
noncomputable def FX69_work (n : Nat) (a0 : Nat) (a1 : Nat) (a2 : Nat) (a3 : Nat) (a4 : Nat) (a5 : Nat) (M : FM) : Option (FM) := FX69_work_0 n a0 a1 a2 a3 a4 a5 M
/-! BoardMachine$Floats$Wide.copy(LBoardMachine$Floats$Wide;)V -/
noncomputable def BX62_copy_0 (a0 : Nat) (a1 : Nat) (M : FM) : Option (FM) :=
  fi (fm_is M 40 40 a1 = true) (
  fi (fm_is M 40 40 a0 = true) (
  let M1 : FM := fm_sL M 119 a0 0 (M.2.1 119 a1 0)
  fi (fm_is M1 40 40 a1 = true) (
  fi (fm_is M1 40 40 a0 = true) (
  let M2 : FM := fm_sL M1 120 a0 0 (M1.2.1 120 a1 0)
  some M2) none) none) none) none
noncomputable def FX62_copy_0 (a0 : Nat) (a1 : Nat) (M : FM) : Option (FM) := BX62_copy_0 a0 a1 M
noncomputable def FX62_copy (a0 : Nat) (a1 : Nat) (M : FM) : Option (FM) := FX62_copy_0 a0 a1 M
/-! BoardMachine$Floats$Taken.copy(LBoardMachine$Floats$Taken;)V -/
noncomputable def BX71_copy_0 (f0 : Nat → Nat → Int32 → FM → Option (FM)) (f1 : Nat → Nat → FM → Option (FM)) (a0 : Nat) (a1 : Nat) (M : FM) : Option (FM) :=
  fi (fm_is M 39 39 a1 = true) (
  fi (fm_is M 39 39 a1 = true) (
  fi (fm_is M 39 39 a0 = true) (
  (f0 a0 (M.2.2 114 a1 0) (M.1 115 a1 0) M).bind fun M1 =>
  fi (fm_is M1 39 39 a1 = true) (
  fi (fm_is M1 39 39 a0 = true) (
  let M2 : FM := fm_sI M1 116 a0 0 (M1.1 116 a1 0)
  fi (fm_is M2 39 39 a0 = true) (
  fi (fm_is M2 39 39 a1 = true) (
  let x3 : Nat := (M2.2.2 117 a0 0)
  fi (fm_is M2 40 40 x3 = true) (
  (f1 x3 (M2.2.2 117 a1 0) M2).bind fun M4 =>
  some M4) none) none) none) none) none) none) none) none
noncomputable def FX71_copy_0 (a0 : Nat) (a1 : Nat) (M : FM) : Option (FM) := BX71_copy_0 FX71_become FX62_copy a0 a1 M
noncomputable def FX71_copy (a0 : Nat) (a1 : Nat) (M : FM) : Option (FM) := FX71_copy_0 a0 a1 M
/-! BoardMachine$Floats$Same.work(LBoardMachine$Floats$Taken;LBoardMachine$Floats$Taken;LBoardMachine$Floats$Mode;LBoardMachine$Floats$Flags;LBoardMachine$Floats$Taken;)V -/
noncomputable def BX70_work_0 (f0 : Nat → Nat → FM → Option (FM)) (a0 : Nat) (a1 : Nat) (a2 : Nat) (a3 : Nat) (a4 : Nat) (a5 : Nat) (M : FM) : Option (FM) :=
  fi (fm_is M 39 39 a5 = true) (
  (f0 a5 a1 M).bind fun M1 =>
  some M1) none
noncomputable def FX70_work_0 (a0 : Nat) (a1 : Nat) (a2 : Nat) (a3 : Nat) (a4 : Nat) (a5 : Nat) (M : FM) : Option (FM) := BX70_work_0 FX71_copy a0 a1 a2 a3 a4 a5 M
noncomputable def FX70_work (a0 : Nat) (a1 : Nat) (a2 : Nat) (a3 : Nat) (a4 : Nat) (a5 : Nat) (M : FM) : Option (FM) := FX70_work_0 a0 a1 a2 a3 a4 a5 M
/-! BoardMachine$Floats$Wide.isZero()Z -/
noncomputable def BX62_isZero_19 (s0 : Int32) (M : FM) : Option (Int32 × FM) :=
  fi (s0 = 0 ∨ s0 = 1) (some (s0, M)) none
noncomputable def FX62_isZero_19 (s0 : Int32) (M : FM) : Option (Int32 × FM) := BX62_isZero_19 s0 M
noncomputable def BX62_isZero_0 (g19 : Int32 → FM → Option (Int32 × FM)) (a0 : Nat) (M : FM) : Option (Int32 × FM) :=
  fi (fm_is M 40 40 a0 = true) (
  fi (fm_is M 40 40 a0 = true) (
  fi ((lg_cmp ((M.2.1 119 a0 0) ||| (M.2.1 120 a0 0)) (Int64.ofInt 0)) = 0) (
    g19 (Int32.ofInt 1) M) (
    g19 (Int32.ofInt 0) M)) none) none
noncomputable def FX62_isZero_0 (a0 : Nat) (M : FM) : Option (Int32 × FM) := BX62_isZero_0 FX62_isZero_19 a0 M
noncomputable def FX62_isZero (a0 : Nat) (M : FM) : Option (Int32 × FM) := FX62_isZero_0 a0 M
/-! BoardMachine$Floats$Wide.right(I)V -/
noncomputable def BX62_right_61 (M : FM) : Option (FM) :=
  some M
noncomputable def FX62_right_61 (M : FM) : Option (FM) := BX62_right_61 M
noncomputable def BX62_right_0 (g61 : FM → Option (FM)) (a0 : Nat) (a1 : Int32) (M : FM) : Option (FM) :=
  fi (a1 ≤ (Int32.ofInt 63)) (
    fi (a1 ≤ 0) (
      g61 M) (
      fi (fm_is M 40 40 a0 = true) (
      fi (fm_is M 40 40 a0 = true) (
      fi (fm_is M 40 40 a0 = true) (
      let M1 : FM := fm_sL M 120 a0 0 (((M.2.1 120 a0 0).toUInt64 >>> (a1.toInt64.toUInt64 &&& Int64.toUInt64 63)).toInt64 ||| ((M.2.1 119 a0 0) <<< (((Int32.ofInt 64) - a1).toInt64 &&& 63)))
      fi (fm_is M1 40 40 a0 = true) (
      fi (fm_is M1 40 40 a0 = true) (
      let M2 : FM := fm_sL M1 119 a0 0 (((M1.2.1 119 a0 0).toUInt64 >>> (a1.toInt64.toUInt64 &&& Int64.toUInt64 63)).toInt64)
      g61 M2) none) none) none) none) none)) (
    fi (fm_is M 40 40 a0 = true) (
    fi (fm_is M 40 40 a0 = true) (
    let M3 : FM := fm_sL M 120 a0 0 (((M.2.1 119 a0 0).toUInt64 >>> ((a1 - (Int32.ofInt 64)).toInt64.toUInt64 &&& Int64.toUInt64 63)).toInt64)
    fi (fm_is M3 40 40 a0 = true) (
    let M4 : FM := fm_sL M3 119 a0 0 (Int64.ofInt 0)
    g61 M4) none) none) none)
noncomputable def FX62_right_0 (a0 : Nat) (a1 : Int32) (M : FM) : Option (FM) := BX62_right_0 FX62_right_61 a0 a1 M
noncomputable def FX62_right (a0 : Nat) (a1 : Int32) (M : FM) : Option (FM) := FX62_right_0 a0 a1 M
/-! BoardMachine$Floats$Wide.jam(I)V -/
noncomputable def BX62_jam_124 (s0 : Nat) (s1 : Int64) (s2 : Int64) (M : FM) : Option (FM) :=
  fi (fm_is M 40 40 s0 = true) (
  let M1 : FM := fm_sL M 120 s0 0 (s1 ||| s2)
  some M1) none
noncomputable def FX62_jam_124 (s0 : Nat) (s1 : Int64) (s2 : Int64) (M : FM) : Option (FM) := BX62_jam_124 s0 s1 s2 M
noncomputable def BX62_jam_110 (g124 : Nat → Int64 → Int64 → FM → Option (FM)) (a0 : Nat) (a2 : Int32) (M : FM) : Option (FM) :=
  fi (fm_is M 40 40 a0 = true) (
  fi (a2 = 0) (
    g124 a0 (M.2.1 120 a0 0) (Int64.ofInt 0) M) (
    g124 a0 (M.2.1 120 a0 0) (Int64.ofInt 1) M)) none
noncomputable def FX62_jam_110 (a0 : Nat) (a2 : Int32) (M : FM) : Option (FM) := BX62_jam_110 FX62_jam_124 a0 a2 M
noncomputable def BX62_jam_90 (f1 : Nat → Int64 → FM → Option (FM)) (f2 : Nat → Int32 → FM → Option (FM)) (g110 : Nat → Int32 → FM → Option (FM)) (a0 : Nat) (a1 : Int32) (s0 : Int32) (M : FM) : Option (FM) :=
  fi (a1 ≤ (Int32.ofInt 127)) (
    fi (fm_is M 40 40 a0 = true) (
    (f2 a0 a1 M).bind fun M1 =>
    g110 a0 s0 M1) none) (
    fi (fm_is M 40 40 a0 = true) (
    (f1 a0 (Int64.ofInt 0) M).bind fun M2 =>
    g110 a0 s0 M2) none)
noncomputable def FX62_jam_90 (a0 : Nat) (a1 : Int32) (s0 : Int32) (M : FM) : Option (FM) := BX62_jam_90 FX62_set FX62_right FX62_jam_110 a0 a1 s0 M
noncomputable def BX62_jam_67 (g90 : Nat → Int32 → Int32 → FM → Option (FM)) (a0 : Nat) (a1 : Int32) (M : FM) : Option (FM) :=
  g90 a0 a1 (Int32.ofInt 0) M
noncomputable def FX62_jam_67 (a0 : Nat) (a1 : Int32) (M : FM) : Option (FM) := BX62_jam_67 FX62_jam_90 a0 a1 M
noncomputable def BX62_jam_63 (g90 : Nat → Int32 → Int32 → FM → Option (FM)) (a0 : Nat) (a1 : Int32) (M : FM) : Option (FM) :=
  g90 a0 a1 (Int32.ofInt 1) M
noncomputable def FX62_jam_63 (a0 : Nat) (a1 : Int32) (M : FM) : Option (FM) := BX62_jam_63 FX62_jam_90 a0 a1 M
noncomputable def BX62_jam_0 (f0 : Nat → FM → Option (Int32 × FM)) (g63 : Nat → Int32 → FM → Option (FM)) (g67 : Nat → Int32 → FM → Option (FM)) (g90 : Nat → Int32 → Int32 → FM → Option (FM)) (a0 : Nat) (a1 : Int32) (M : FM) : Option (FM) :=
  fi ((Int32.ofInt 1) ≤ a1) (
    fi (a1 ≤ (Int32.ofInt 127)) (
      fi (a1 ≤ (Int32.ofInt 63)) (
        fi (fm_is M 40 40 a0 = true) (
        fi ((lg_cmp ((M.2.1 120 a0 0) <<< (((Int32.ofInt 64) - a1).toInt64 &&& 63)) (Int64.ofInt 0)) = 0) (
          g90 a0 a1 (Int32.ofInt 0) M) (
          g90 a0 a1 (Int32.ofInt 1) M)) none) (
        fi (fm_is M 40 40 a0 = true) (
        fi ((lg_cmp (M.2.1 120 a0 0) (Int64.ofInt 0)) = 0) (
          fi (a1 ≤ (Int32.ofInt 64)) (
            g67 a0 a1 M) (
            fi (fm_is M 40 40 a0 = true) (
            fi ((lg_cmp ((M.2.1 119 a0 0) <<< (((Int32.ofInt 128) - a1).toInt64 &&& 63)) (Int64.ofInt 0)) = 0) (
              g67 a0 a1 M) (
              g63 a0 a1 M)) none)) (
          g63 a0 a1 M)) none)) (
      fi (fm_is M 40 40 a0 = true) (
      (f0 a0 M).bind fun r1 =>
      fi (r1.1 = 0) (
        g90 a0 a1 (Int32.ofInt 1) r1.2) (
        g90 a0 a1 (Int32.ofInt 0) r1.2)) none)) (
    some M)
noncomputable def FX62_jam_0 (a0 : Nat) (a1 : Int32) (M : FM) : Option (FM) := BX62_jam_0 FX62_isZero FX62_jam_63 FX62_jam_67 FX62_jam_90 a0 a1 M
noncomputable def FX62_jam (a0 : Nat) (a1 : Int32) (M : FM) : Option (FM) := FX62_jam_0 a0 a1 M
/-! BoardMachine$Floats$Wide.add(LBoardMachine$Floats$Wide;)V -/
noncomputable def BX62_add_41 (s0 : Nat) (s1 : Int64) (s2 : Int64) (s3 : Int64) (M : FM) : Option (FM) :=
  fi (fm_is M 40 40 s0 = true) (
  let M1 : FM := fm_sL M 119 s0 0 (s1 + (s2 + s3))
  some M1) none
noncomputable def FX62_add_41 (s0 : Nat) (s1 : Int64) (s2 : Int64) (s3 : Int64) (M : FM) : Option (FM) := BX62_add_41 s0 s1 s2 s3 M
noncomputable def BX62_add_0 (f0 : Int64 → Int64 → FM → Option (Int32 × FM)) (g41 : Nat → Int64 → Int64 → Int64 → FM → Option (FM)) (a0 : Nat) (a1 : Nat) (M : FM) : Option (FM) :=
  fi (fm_is M 40 40 a0 = true) (
  fi (fm_is M 40 40 a1 = true) (
  fi (fm_is M 40 40 a0 = true) (
  let M1 : FM := fm_sL M 120 a0 0 ((M.2.1 120 a0 0) + (M.2.1 120 a1 0))
  fi (fm_is M1 40 40 a0 = true) (
  fi (fm_is M1 40 40 a1 = true) (
  fi (fm_is M1 40 40 a0 = true) (
  fi (fm_is M1 40 40 a1 = true) (
  (f0 (M1.2.1 120 a0 0) (M1.2.1 120 a1 0) M1).bind fun r2 =>
  fi (r2.1 = 0) (
    g41 a0 (M1.2.1 119 a0 0) (M1.2.1 119 a1 0) (Int64.ofInt 0) r2.2) (
    g41 a0 (M1.2.1 119 a0 0) (M1.2.1 119 a1 0) (Int64.ofInt 1) r2.2)) none) none) none) none) none) none) none
noncomputable def FX62_add_0 (a0 : Nat) (a1 : Nat) (M : FM) : Option (FM) := BX62_add_0 FX108_isLess FX62_add_41 a0 a1 M
noncomputable def FX62_add (a0 : Nat) (a1 : Nat) (M : FM) : Option (FM) := FX62_add_0 a0 a1 M
/-! BoardMachine$Floats$Wide.subtract(LBoardMachine$Floats$Wide;)V -/
noncomputable def BX62_subtract_28 (a0 : Nat) (a1 : Nat) (s0 : Nat) (s1 : Int64) (s2 : Int64) (s3 : Int64) (M : FM) : Option (FM) :=
  fi (fm_is M 40 40 s0 = true) (
  let M1 : FM := fm_sL M 119 s0 0 (s1 - (s2 + s3))
  fi (fm_is M1 40 40 a0 = true) (
  fi (fm_is M1 40 40 a1 = true) (
  fi (fm_is M1 40 40 a0 = true) (
  let M2 : FM := fm_sL M1 120 a0 0 ((M1.2.1 120 a0 0) - (M1.2.1 120 a1 0))
  some M2) none) none) none) none
noncomputable def FX62_subtract_28 (a0 : Nat) (a1 : Nat) (s0 : Nat) (s1 : Int64) (s2 : Int64) (s3 : Int64) (M : FM) : Option (FM) := BX62_subtract_28 a0 a1 s0 s1 s2 s3 M
noncomputable def BX62_subtract_0 (f0 : Int64 → Int64 → FM → Option (Int32 × FM)) (g28 : Nat → Nat → Nat → Int64 → Int64 → Int64 → FM → Option (FM)) (a0 : Nat) (a1 : Nat) (M : FM) : Option (FM) :=
  fi (fm_is M 40 40 a0 = true) (
  fi (fm_is M 40 40 a1 = true) (
  fi (fm_is M 40 40 a0 = true) (
  fi (fm_is M 40 40 a1 = true) (
  (f0 (M.2.1 120 a0 0) (M.2.1 120 a1 0) M).bind fun r1 =>
  fi (r1.1 = 0) (
    g28 a0 a1 a0 (M.2.1 119 a0 0) (M.2.1 119 a1 0) (Int64.ofInt 0) r1.2) (
    g28 a0 a1 a0 (M.2.1 119 a0 0) (M.2.1 119 a1 0) (Int64.ofInt 1) r1.2)) none) none) none) none
noncomputable def FX62_subtract_0 (a0 : Nat) (a1 : Nat) (M : FM) : Option (FM) := BX62_subtract_0 FX108_isLess FX62_subtract_28 a0 a1 M
noncomputable def FX62_subtract (a0 : Nat) (a1 : Nat) (M : FM) : Option (FM) := FX62_subtract_0 a0 a1 M
/-! BoardMachine$Floats$Sum.lay(LBoardMachine$Floats$Taken;LBoardMachine$Floats$Taken;LBoardMachine$Floats$Mode;LBoardMachine$Floats$Taken;)V -/
noncomputable def BX66_lay_169 (M : FM) : Option (FM) :=
  some M
noncomputable def FX66_lay_169 (n : Nat) (M : FM) : Option (FM) := BX66_lay_169 M
noncomputable def BX66_lay_166 (f7 : Nat → Nat → Int32 → FM → Option (FM)) (g169 : FM → Option (FM)) (s0 : Nat) (s1 : Nat) (s2 : Int32) (M : FM) : Option (FM) :=
  fi (fm_is M 39 39 s0 = true) (
  (f7 s0 s1 s2 M).bind fun M1 =>
  g169 M1) none
noncomputable def FX66_lay_166 (n : Nat) (s0 : Nat) (s1 : Nat) (s2 : Int32) (M : FM) : Option (FM) := BX66_lay_166 FX71_become (FX66_lay_169 n ) s0 s1 s2 M
noncomputable def BX66_lay_77 (f2 : Nat → Int32 → FM → Option (FM)) (f3 : Nat → Nat → FM → Option (FM)) (f4 : Nat → Nat → FM → Option (FM)) (f5 : Nat → Nat → FM → Option (FM)) (f6 : Nat → FM → Option (Int32 × FM)) (g166 : Nat → Nat → Int32 → FM → Option (FM)) (g169 : FM → Option (FM)) (a0 : Nat) (a1 : Nat) (a2 : Nat) (a3 : Nat) (a5 : Nat) (s0 : Nat) (M : FM) : Option (FM) :=
  fi (fm_is M 39 39 s0 = true) (
  fi (fm_is M 39 39 a5 = true) (
  fi (fm_is M 39 39 s0 = true) (
  let x1 : Nat := (M.2.2 117 s0 0)
  fi (fm_is M 40 40 x1 = true) (
  (f2 x1 ((M.1 116 a5 0) - (M.1 116 s0 0)) M).bind fun M2 =>
  fi (fm_is M2 39 39 a3 = true) (
  (f3 a3 a5 M2).bind fun M3 =>
  fi (fm_is M3 39 39 a0 = true) (
  fi (fm_is M3 39 39 a1 = true) (
  fi ((M3.1 115 a0 0) = (M3.1 115 a1 0)) (
    fi (fm_is M3 39 39 a3 = true) (
    fi (fm_is M3 39 39 s0 = true) (
    let x4 : Nat := (M3.2.2 117 a3 0)
    fi (fm_is M3 40 40 x4 = true) (
    (f4 x4 (M3.2.2 117 s0 0) M3).bind fun M5 =>
    some M5) none) none) none) (
    fi (fm_is M3 39 39 a3 = true) (
    fi (fm_is M3 39 39 s0 = true) (
    let x6 : Nat := (M3.2.2 117 a3 0)
    fi (fm_is M3 40 40 x6 = true) (
    (f5 x6 (M3.2.2 117 s0 0) M3).bind fun M7 =>
    fi (fm_is M7 39 39 a3 = true) (
    let x8 : Nat := (M7.2.2 117 a3 0)
    fi (fm_is M7 40 40 x8 = true) (
    (f6 x8 M7).bind fun r9 =>
    fi (r9.1 = 0) (
      g169 r9.2) (
      fi (a2 < 42 ∧ 3 < 42 ∨ 1000 ≤ a2 ∨ 1000 ≤ 3)
      (fi (a2 = 3) (
        g166 a3 6 (Int32.ofInt 1) r9.2) (
        g166 a3 6 (Int32.ofInt 0) r9.2)) none)) none) none) none) none) none)) none) none) none) none) none) none) none
noncomputable def FX66_lay_77 (n : Nat) (a0 : Nat) (a1 : Nat) (a2 : Nat) (a3 : Nat) (a5 : Nat) (s0 : Nat) (M : FM) : Option (FM) := BX66_lay_77 FX62_jam FX71_copy FX62_add FX62_subtract FX62_isZero (FX66_lay_166 n ) (FX66_lay_169 n ) a0 a1 a2 a3 a5 s0 M
noncomputable def BX66_lay_65 (g77 : Nat → Nat → Nat → Nat → Nat → Nat → FM → Option (FM)) (a0 : Nat) (a1 : Nat) (a2 : Nat) (a3 : Nat) (a4 : Int32) (s0 : Nat) (M : FM) : Option (FM) :=
  fi (a4 = 0) (
    g77 a0 a1 a2 a3 s0 a1 M) (
    g77 a0 a1 a2 a3 s0 a0 M)
noncomputable def FX66_lay_65 (n : Nat) (a0 : Nat) (a1 : Nat) (a2 : Nat) (a3 : Nat) (a4 : Int32) (s0 : Nat) (M : FM) : Option (FM) := BX66_lay_65 (FX66_lay_77 n ) a0 a1 a2 a3 a4 s0 M
noncomputable def BX66_lay_53 (g65 : Nat → Nat → Nat → Nat → Int32 → Nat → FM → Option (FM)) (a0 : Nat) (a1 : Nat) (a2 : Nat) (a3 : Nat) (s0 : Int32) (M : FM) : Option (FM) :=
  fi (s0 = 0) (
    g65 a0 a1 a2 a3 s0 a0 M) (
    g65 a0 a1 a2 a3 s0 a1 M)
noncomputable def FX66_lay_53 (n : Nat) (a0 : Nat) (a1 : Nat) (a2 : Nat) (a3 : Nat) (s0 : Int32) (M : FM) : Option (FM) := BX66_lay_53 (FX66_lay_65 n ) a0 a1 a2 a3 s0 M
noncomputable def BX66_lay_52 (g53 : Nat → Nat → Nat → Nat → Int32 → FM → Option (FM)) (a0 : Nat) (a1 : Nat) (a2 : Nat) (a3 : Nat) (M : FM) : Option (FM) :=
  g53 a0 a1 a2 a3 (Int32.ofInt 0) M
noncomputable def FX66_lay_52 (n : Nat) (a0 : Nat) (a1 : Nat) (a2 : Nat) (a3 : Nat) (M : FM) : Option (FM) := BX66_lay_52 (FX66_lay_53 n ) a0 a1 a2 a3 M
noncomputable def BX66_lay_48 (g53 : Nat → Nat → Nat → Nat → Int32 → FM → Option (FM)) (a0 : Nat) (a1 : Nat) (a2 : Nat) (a3 : Nat) (M : FM) : Option (FM) :=
  g53 a0 a1 a2 a3 (Int32.ofInt 1) M
noncomputable def FX66_lay_48 (n : Nat) (a0 : Nat) (a1 : Nat) (a2 : Nat) (a3 : Nat) (M : FM) : Option (FM) := BX66_lay_48 (FX66_lay_53 n ) a0 a1 a2 a3 M
noncomputable def BX66_lay_0 (f0 : Nat → Int32 → FM → Option (FM)) (f1 : Nat → Nat → FM → Option (Int32 × FM)) (g48 : Nat → Nat → Nat → Nat → FM → Option (FM)) (g52 : Nat → Nat → Nat → Nat → FM → Option (FM)) (a0 : Nat) (a1 : Nat) (a2 : Nat) (a3 : Nat) (M : FM) : Option (FM) :=
  fi (fm_is M 39 39 a0 = true) (
  (f0 a0 (Int32.ofInt 125) M).bind fun M1 =>
  fi (fm_is M1 39 39 a1 = true) (
  (f0 a1 (Int32.ofInt 125) M1).bind fun M2 =>
  fi (fm_is M2 39 39 a0 = true) (
  fi (fm_is M2 39 39 a1 = true) (
  fi ((M2.1 116 a0 0) < (M2.1 116 a1 0)) (
    g48 a0 a1 a2 a3 M2) (
    fi (fm_is M2 39 39 a0 = true) (
    fi (fm_is M2 39 39 a1 = true) (
    fi ((M2.1 116 a0 0) = (M2.1 116 a1 0)) (
      fi (fm_is M2 39 39 a0 = true) (
      fi (fm_is M2 39 39 a1 = true) (
      let x3 : Nat := (M2.2.2 117 a0 0)
      fi (fm_is M2 40 40 x3 = true) (
      (f1 x3 (M2.2.2 117 a1 0) M2).bind fun r4 =>
      fi (r4.1 = 0) (
        g52 a0 a1 a2 a3 r4.2) (
        g48 a0 a1 a2 a3 r4.2)) none) none) none) (
      g52 a0 a1 a2 a3 M2)) none) none)) none) none) none) none
noncomputable def FX66_lay_0 (n : Nat) (a0 : Nat) (a1 : Nat) (a2 : Nat) (a3 : Nat) (M : FM) : Option (FM) := BX66_lay_0 (FX71_lift n) FX62_isBelow (FX66_lay_48 n ) (FX66_lay_52 n ) a0 a1 a2 a3 M
noncomputable def FX66_lay (n : Nat) (a0 : Nat) (a1 : Nat) (a2 : Nat) (a3 : Nat) (M : FM) : Option (FM) := FX66_lay_0 n a0 a1 a2 a3 M
/-! BoardMachine$Floats$Sum.add(LBoardMachine$Floats$Taken;LBoardMachine$Floats$Taken;LBoardMachine$Floats$Mode;LBoardMachine$Floats$Flags;LBoardMachine$Floats$Taken;)V -/
noncomputable def BX66_add_204 (M : FM) : Option (FM) :=
  some M
noncomputable def FX66_add_204 (n : Nat) (M : FM) : Option (FM) := BX66_add_204 M
noncomputable def BX66_add_190 (f3 : Nat → Nat → FM → Option (FM)) (g204 : FM → Option (FM)) (s0 : Nat) (s1 : Nat) (M : FM) : Option (FM) :=
  fi (fm_is M 39 39 s0 = true) (
  (f3 s0 s1 M).bind fun M1 =>
  g204 M1) none
noncomputable def FX66_add_190 (n : Nat) (s0 : Nat) (s1 : Nat) (M : FM) : Option (FM) := BX66_add_190 FX71_copy (FX66_add_204 n ) s0 s1 M
noncomputable def BX66_add_173 (f0 : Nat → Nat → FM → Option (Int32 × FM)) (g190 : Nat → Nat → FM → Option (FM)) (a0 : Nat) (a1 : Nat) (a4 : Nat) (M : FM) : Option (FM) :=
  fi (fm_is M 39 39 a0 = true) (
  (f0 a0 6 M).bind fun r1 =>
  fi (r1.1 = 0) (
    g190 a4 a0 r1.2) (
    g190 a4 a1 r1.2)) none
noncomputable def FX66_add_173 (n : Nat) (a0 : Nat) (a1 : Nat) (a4 : Nat) (M : FM) : Option (FM) := BX66_add_173 FX71_is (FX66_add_190 n ) a0 a1 a4 M
noncomputable def BX66_add_153 (f0 : Nat → Nat → FM → Option (Int32 × FM)) (f4 : Nat → Nat → Nat → Nat → FM → Option (FM)) (g173 : Nat → Nat → Nat → FM → Option (FM)) (g204 : FM → Option (FM)) (a0 : Nat) (a1 : Nat) (a2 : Nat) (a4 : Nat) (M : FM) : Option (FM) :=
  fi (fm_is M 39 39 a0 = true) (
  (f0 a0 6 M).bind fun r1 =>
  fi (r1.1 = 0) (
    fi (fm_is r1.2 39 39 a1 = true) (
    (f0 a1 6 r1.2).bind fun r2 =>
    fi (r2.1 = 0) (
      (f4 a0 a1 a2 a4 r2.2).bind fun M3 =>
      g204 M3) (
      g173 a0 a1 a4 r2.2)) none) (
    g173 a0 a1 a4 r1.2)) none
noncomputable def FX66_add_153 (n : Nat) (a0 : Nat) (a1 : Nat) (a2 : Nat) (a4 : Nat) (M : FM) : Option (FM) := BX66_add_153 FX71_is (FX66_lay n) (FX66_add_173 n ) (FX66_add_204 n ) a0 a1 a2 a4 M
noncomputable def BX66_add_147 (f2 : Nat → Nat → Int32 → FM → Option (FM)) (g204 : FM → Option (FM)) (s0 : Nat) (s1 : Nat) (s2 : Int32) (M : FM) : Option (FM) :=
  fi (fm_is M 39 39 s0 = true) (
  (f2 s0 s1 s2 M).bind fun M1 =>
  g204 M1) none
noncomputable def FX66_add_147 (n : Nat) (s0 : Nat) (s1 : Nat) (s2 : Int32) (M : FM) : Option (FM) := BX66_add_147 FX71_become (FX66_add_204 n ) s0 s1 s2 M
noncomputable def BX66_add_86 (f2 : Nat → Nat → Int32 → FM → Option (FM)) (g204 : FM → Option (FM)) (s0 : Nat) (s1 : Nat) (s2 : Int32) (M : FM) : Option (FM) :=
  fi (fm_is M 39 39 s0 = true) (
  (f2 s0 s1 s2 M).bind fun M1 =>
  g204 M1) none
noncomputable def FX66_add_86 (n : Nat) (s0 : Nat) (s1 : Nat) (s2 : Int32) (M : FM) : Option (FM) := BX66_add_86 FX71_become (FX66_add_204 n ) s0 s1 s2 M
noncomputable def BX66_add_60 (f0 : Nat → Nat → FM → Option (Int32 × FM)) (g86 : Nat → Nat → Int32 → FM → Option (FM)) (a0 : Nat) (a1 : Nat) (a4 : Nat) (M : FM) : Option (FM) :=
  fi (fm_is M 39 39 a0 = true) (
  (f0 a0 8 M).bind fun r1 =>
  fi (r1.1 = 0) (
    fi (fm_is r1.2 39 39 a1 = true) (
    g86 a4 8 (r1.2.1 115 a1 0) r1.2) none) (
    fi (fm_is r1.2 39 39 a0 = true) (
    g86 a4 8 (r1.2.1 115 a0 0) r1.2) none)) none
noncomputable def FX66_add_60 (n : Nat) (a0 : Nat) (a1 : Nat) (a4 : Nat) (M : FM) : Option (FM) := BX66_add_60 FX71_is (FX66_add_86 n ) a0 a1 a4 M
noncomputable def BX66_add_40 (f0 : Nat → Nat → FM → Option (Int32 × FM)) (g60 : Nat → Nat → Nat → FM → Option (FM)) (g147 : Nat → Nat → Int32 → FM → Option (FM)) (g153 : Nat → Nat → Nat → Nat → FM → Option (FM)) (a0 : Nat) (a1 : Nat) (a2 : Nat) (a4 : Nat) (M : FM) : Option (FM) :=
  fi (fm_is M 39 39 a0 = true) (
  (f0 a0 8 M).bind fun r1 =>
  fi (r1.1 = 0) (
    fi (fm_is r1.2 39 39 a1 = true) (
    (f0 a1 8 r1.2).bind fun r2 =>
    fi (r2.1 = 0) (
      fi (fm_is r2.2 39 39 a0 = true) (
      (f0 a0 6 r2.2).bind fun r3 =>
      fi (r3.1 = 0) (
        g153 a0 a1 a2 a4 r3.2) (
        fi (fm_is r3.2 39 39 a1 = true) (
        (f0 a1 6 r3.2).bind fun r4 =>
        fi (r4.1 = 0) (
          g153 a0 a1 a2 a4 r4.2) (
          fi (fm_is r4.2 39 39 a0 = true) (
          fi (fm_is r4.2 39 39 a1 = true) (
          fi ((r4.2.1 115 a0 0) = (r4.2.1 115 a1 0)) (
            fi (fm_is r4.2 39 39 a0 = true) (
            g147 a4 6 (r4.2.1 115 a0 0) r4.2) none) (
            fi (a2 < 42 ∧ 3 < 42 ∨ 1000 ≤ a2 ∨ 1000 ≤ 3)
            (fi (a2 = 3) (
              g147 a4 6 (Int32.ofInt 1) r4.2) (
              g147 a4 6 (Int32.ofInt 0) r4.2)) none)) none) none)) none)) none) (
      g60 a0 a1 a4 r2.2)) none) (
    g60 a0 a1 a4 r1.2)) none
noncomputable def FX66_add_40 (n : Nat) (a0 : Nat) (a1 : Nat) (a2 : Nat) (a4 : Nat) (M : FM) : Option (FM) := BX66_add_40 FX71_is (FX66_add_60 n ) (FX66_add_147 n ) (FX66_add_153 n ) a0 a1 a2 a4 M
noncomputable def BX66_add_0 (f0 : Nat → Nat → FM → Option (Int32 × FM)) (f1 : Nat → Nat → FM → Option (FM)) (g40 : Nat → Nat → Nat → Nat → FM → Option (FM)) (g204 : FM → Option (FM)) (a0 : Nat) (a1 : Nat) (a2 : Nat) (a3 : Nat) (a4 : Nat) (M : FM) : Option (FM) :=
  fi (fm_is M 39 39 a0 = true) (
  (f0 a0 8 M).bind fun r1 =>
  fi (r1.1 = 0) (
    g40 a0 a1 a2 a4 r1.2) (
    fi (fm_is r1.2 39 39 a1 = true) (
    (f0 a1 8 r1.2).bind fun r2 =>
    fi (r2.1 = 0) (
      g40 a0 a1 a2 a4 r2.2) (
      fi (fm_is r2.2 39 39 a0 = true) (
      fi (fm_is r2.2 39 39 a1 = true) (
      fi ((r2.2.1 115 a0 0) = (r2.2.1 115 a1 0)) (
        g40 a0 a1 a2 a4 r2.2) (
        (f1 a3 a4 r2.2).bind fun M3 =>
        g204 M3)) none) none)) none)) none
noncomputable def FX66_add_0 (n : Nat) (a0 : Nat) (a1 : Nat) (a2 : Nat) (a3 : Nat) (a4 : Nat) (M : FM) : Option (FM) := BX66_add_0 FX71_is FX65_refuse (FX66_add_40 n ) (FX66_add_204 n ) a0 a1 a2 a3 a4 M
noncomputable def FX66_add (n : Nat) (a0 : Nat) (a1 : Nat) (a2 : Nat) (a3 : Nat) (a4 : Nat) (M : FM) : Option (FM) := FX66_add_0 n a0 a1 a2 a3 a4 M
/-! BoardMachine$Floats$Sum.work(LBoardMachine$Floats$Taken;LBoardMachine$Floats$Taken;LBoardMachine$Floats$Mode;LBoardMachine$Floats$Flags;LBoardMachine$Floats$Taken;)V -/
noncomputable def BX66_work_0 (f0 : Nat → Nat → Nat → Nat → Nat → FM → Option (FM)) (a0 : Nat) (a1 : Nat) (a2 : Nat) (a3 : Nat) (a4 : Nat) (a5 : Nat) (M : FM) : Option (FM) :=
  fi (fm_is M 39 39 a2 = true) (
  fi (fm_is M 38 38 a0 = true) (
  let x1 : Int32 := ((M.1 115 a2 0) ^^^ (M.1 113 a0 0))
  fi (fm_is M 39 39 a2 = true) (
  fi (x1 = 0 ∨ x1 = 1) (
  let M2 : FM := fm_sI M 115 a2 0 x1
  (f0 a1 a2 a3 a4 a5 M2).bind fun M3 =>
  some M3) none) none) none) none
noncomputable def FX66_work_0 (n : Nat) (a0 : Nat) (a1 : Nat) (a2 : Nat) (a3 : Nat) (a4 : Nat) (a5 : Nat) (M : FM) : Option (FM) := BX66_work_0 (FX66_add n) a0 a1 a2 a3 a4 a5 M
noncomputable def FX66_work (n : Nat) (a0 : Nat) (a1 : Nat) (a2 : Nat) (a3 : Nat) (a4 : Nat) (a5 : Nat) (M : FM) : Option (FM) := FX66_work_0 n a0 a1 a2 a3 a4 a5 M
/-! BoardMachine$Floats$Operation.run(LBoardMachine$Floats$Taken;LBoardMachine$Floats$Taken;LBoardMachine$Floats$Mode;LBoardMachine$Floats$Flags;LBoardMachine$Floats$Taken;)V -/
noncomputable def BX65_run_23 (M : FM) : Option (FM) :=
  some M
noncomputable def FX65_run_23 (n : Nat) (M : FM) : Option (FM) := BX65_run_23 M
noncomputable def BX65_run_0 (f0 : Nat → Nat → Nat → Nat → FM → Option (Int32 × FM)) (f1 : Nat → Nat → Nat → Nat → Nat → Nat → FM → Option (FM)) (f2 : Nat → Nat → Nat → Nat → Nat → Nat → FM → Option (FM)) (f3 : Nat → Nat → Nat → Nat → Nat → Nat → FM → Option (FM)) (f4 : Nat → Nat → Nat → Nat → Nat → Nat → FM → Option (FM)) (f5 : Nat → Nat → Nat → Nat → Nat → Nat → FM → Option (FM)) (g23 : FM → Option (FM)) (a0 : Nat) (a1 : Nat) (a2 : Nat) (a3 : Nat) (a4 : Nat) (a5 : Nat) (M : FM) : Option (FM) :=
  (f0 a1 a2 a4 a5 M).bind fun r1 =>
  fi (r1.1 = 0) (
    fi (fm_is r1.2 34 34 a0 = true) (
    (f1 a0 a1 a2 a3 a4 a5 r1.2).bind fun M2 =>
    g23 M2) (fi (fm_is r1.2 35 35 a0 = true) (
    (f2 a0 a1 a2 a3 a4 a5 r1.2).bind fun M3 =>
    g23 M3) (fi (fm_is r1.2 36 36 a0 = true) (
    (f3 a0 a1 a2 a3 a4 a5 r1.2).bind fun M4 =>
    g23 M4) (fi (fm_is r1.2 37 37 a0 = true) (
    (f4 a0 a1 a2 a3 a4 a5 r1.2).bind fun M5 =>
    g23 M5) (fi (fm_is r1.2 38 38 a0 = true) (
    (f5 a0 a1 a2 a3 a4 a5 r1.2).bind fun M6 =>
    g23 M6) (none)))))) (
    g23 r1.2)
noncomputable def FX65_run_0 (n : Nat) (a0 : Nat) (a1 : Nat) (a2 : Nat) (a3 : Nat) (a4 : Nat) (a5 : Nat) (M : FM) : Option (FM) := BX65_run_0 FX65_isNone FX67_work (FX68_work n) (FX69_work n) FX70_work (FX66_work n) (FX65_run_23 n ) a0 a1 a2 a3 a4 a5 M
noncomputable def FX65_run (n : Nat) (a0 : Nat) (a1 : Nat) (a2 : Nat) (a3 : Nat) (a4 : Nat) (a5 : Nat) (M : FM) : Option (FM) := FX65_run_0 n a0 a1 a2 a3 a4 a5 M
/-! BoardMachine$Floats$Format.infinite(Z)J -/
noncomputable def BX61_infinite_0 (f0 : Nat → Int32 → FM → Option (Int64 × FM)) (f1 : Nat → FM → Option (Int64 × FM)) (a0 : Nat) (a1 : Int32) (M : FM) : Option (Int64 × FM) :=
  fi (fm_is M 33 33 a0 = true) (
  (f0 a0 a1 M).bind fun r1 =>
  fi (fm_is r1.2 33 33 a0 = true) (
  (f1 a0 r1.2).bind fun r2 =>
  some ((r1.1 ||| r2.1), r2.2)) none) none
noncomputable def FX61_infinite_0 (a0 : Nat) (a1 : Int32) (M : FM) : Option (Int64 × FM) := BX61_infinite_0 FX61_sign FX61_top a0 a1 M
noncomputable def FX61_infinite (a0 : Nat) (a1 : Int32) (M : FM) : Option (Int64 × FM) := FX61_infinite_0 a0 a1 M
/-! java/lang/Math.max(II)I -/
noncomputable def BJ5_max_10 (s0 : Int32) (M : FM) : Option (Int32 × FM) :=
  some (s0, M)
noncomputable def FJ5_max_10 (s0 : Int32) (M : FM) : Option (Int32 × FM) := BJ5_max_10 s0 M
noncomputable def BJ5_max_0 (g10 : Int32 → FM → Option (Int32 × FM)) (a0 : Int32) (a1 : Int32) (M : FM) : Option (Int32 × FM) :=
  fi (a0 < a1) (
    g10 a1 M) (
    g10 a0 M)
noncomputable def FJ5_max_0 (a0 : Int32) (a1 : Int32) (M : FM) : Option (Int32 × FM) := BJ5_max_0 FJ5_max_10 a0 a1 M
noncomputable def FJ5_max (a0 : Int32) (a1 : Int32) (M : FM) : Option (Int32 × FM) := FJ5_max_0 a0 a1 M
/-! BoardMachine$Floats$Wide.cut(I)I -/
noncomputable def BX62_cut_33 (f2 : Nat → Int32 → FM → Option (FM)) (a0 : Nat) (M : FM) : Option (Int32 × FM) :=
  fi (fm_is M 40 40 a0 = true) (
  let x1 : Int32 := ((M.2.1 120 a0 0) &&& (Int64.ofInt 3)).toInt32
  fi (fm_is M 40 40 a0 = true) (
  (f2 a0 (Int32.ofInt 2) M).bind fun M2 =>
  some (x1, M2)) none) none
noncomputable def FX62_cut_33 (a0 : Nat) (M : FM) : Option (Int32 × FM) := BX62_cut_33 FX62_right a0 M
noncomputable def BX62_cut_0 (f0 : Nat → Int32 → FM → Option (FM)) (f1 : Nat → Int32 → FM → Option (FM)) (g33 : Nat → FM → Option (Int32 × FM)) (a0 : Nat) (a1 : Int32) (M : FM) : Option (Int32 × FM) :=
  fi ((Int32.ofInt 1) ≤ a1) (
    fi (a1 = (Int32.ofInt 1)) (
      fi (fm_is M 40 40 a0 = true) (
      (f0 a0 (Int32.ofInt 1) M).bind fun M1 =>
      g33 a0 M1) none) (
      fi (fm_is M 40 40 a0 = true) (
      (f1 a0 (a1 - (Int32.ofInt 2)) M).bind fun M2 =>
      g33 a0 M2) none)) (
    fi (fm_is M 40 40 a0 = true) (
    (f0 a0 (-a1) M).bind fun M3 =>
    some ((Int32.ofInt 0), M3)) none)
noncomputable def FX62_cut_0 (a0 : Nat) (a1 : Int32) (M : FM) : Option (Int32 × FM) := BX62_cut_0 FX62_left FX62_jam FX62_cut_33 a0 a1 M
noncomputable def FX62_cut (a0 : Nat) (a1 : Int32) (M : FM) : Option (Int32 × FM) := FX62_cut_0 a0 a1 M
/-! BoardMachine$Floats$Wide.isOdd()Z -/
noncomputable def BX62_isOdd_16 (s0 : Int32) (M : FM) : Option (Int32 × FM) :=
  fi (s0 = 0 ∨ s0 = 1) (some (s0, M)) none
noncomputable def FX62_isOdd_16 (s0 : Int32) (M : FM) : Option (Int32 × FM) := BX62_isOdd_16 s0 M
noncomputable def BX62_isOdd_0 (g16 : Int32 → FM → Option (Int32 × FM)) (a0 : Nat) (M : FM) : Option (Int32 × FM) :=
  fi (fm_is M 40 40 a0 = true) (
  fi ((lg_cmp ((M.2.1 120 a0 0) &&& (Int64.ofInt 1)) (Int64.ofInt 1)) = 0) (
    g16 (Int32.ofInt 1) M) (
    g16 (Int32.ofInt 0) M)) none
noncomputable def FX62_isOdd_0 (a0 : Nat) (M : FM) : Option (Int32 × FM) := BX62_isOdd_0 FX62_isOdd_16 a0 M
noncomputable def FX62_isOdd (a0 : Nat) (M : FM) : Option (Int32 × FM) := FX62_isOdd_0 a0 M
/-! BoardMachine$Floats$Mode.grows(ZZI)Z -/
noncomputable def BX63_grows_99 (M : FM) : Option (Int32 × FM) :=
  fi ((Int32.ofInt 0) = 0 ∨ (Int32.ofInt 0) = 1) (some ((Int32.ofInt 0), M)) none
noncomputable def FX63_grows_99 (M : FM) : Option (Int32 × FM) := BX63_grows_99 M
noncomputable def BX63_grows_98 (s0 : Int32) (M : FM) : Option (Int32 × FM) :=
  fi (s0 = 0 ∨ s0 = 1) (some (s0, M)) none
noncomputable def FX63_grows_98 (s0 : Int32) (M : FM) : Option (Int32 × FM) := BX63_grows_98 s0 M
noncomputable def BX63_grows_87 (s0 : Int32) (M : FM) : Option (Int32 × FM) :=
  fi (s0 = 0 ∨ s0 = 1) (some (s0, M)) none
noncomputable def FX63_grows_87 (s0 : Int32) (M : FM) : Option (Int32 × FM) := BX63_grows_87 s0 M
noncomputable def BX63_grows_86 (g87 : Int32 → FM → Option (Int32 × FM)) (M : FM) : Option (Int32 × FM) :=
  g87 (Int32.ofInt 0) M
noncomputable def FX63_grows_86 (M : FM) : Option (Int32 × FM) := BX63_grows_86 FX63_grows_87 M
noncomputable def BX63_grows_73 (s0 : Int32) (M : FM) : Option (Int32 × FM) :=
  fi (s0 = 0 ∨ s0 = 1) (some (s0, M)) none
noncomputable def FX63_grows_73 (s0 : Int32) (M : FM) : Option (Int32 × FM) := BX63_grows_73 s0 M
noncomputable def BX63_grows_72 (g73 : Int32 → FM → Option (Int32 × FM)) (M : FM) : Option (Int32 × FM) :=
  g73 (Int32.ofInt 0) M
noncomputable def FX63_grows_72 (M : FM) : Option (Int32 × FM) := BX63_grows_72 FX63_grows_73 M
noncomputable def BX63_grows_59 (s0 : Int32) (M : FM) : Option (Int32 × FM) :=
  fi (s0 = 0 ∨ s0 = 1) (some (s0, M)) none
noncomputable def FX63_grows_59 (s0 : Int32) (M : FM) : Option (Int32 × FM) := BX63_grows_59 s0 M
noncomputable def BX63_grows_58 (g59 : Int32 → FM → Option (Int32 × FM)) (M : FM) : Option (Int32 × FM) :=
  g59 (Int32.ofInt 0) M
noncomputable def FX63_grows_58 (M : FM) : Option (Int32 × FM) := BX63_grows_58 FX63_grows_59 M
noncomputable def BX63_grows_54 (g59 : Int32 → FM → Option (Int32 × FM)) (M : FM) : Option (Int32 × FM) :=
  g59 (Int32.ofInt 1) M
noncomputable def FX63_grows_54 (M : FM) : Option (Int32 × FM) := BX63_grows_54 FX63_grows_59 M
noncomputable def BX63_grows_0 (f0 : Nat → FM → Option (Int32 × FM)) (g54 : FM → Option (Int32 × FM)) (g58 : FM → Option (Int32 × FM)) (g72 : FM → Option (Int32 × FM)) (g73 : Int32 → FM → Option (Int32 × FM)) (g86 : FM → Option (Int32 × FM)) (g87 : Int32 → FM → Option (Int32 × FM)) (g98 : Int32 → FM → Option (Int32 × FM)) (g99 : FM → Option (Int32 × FM)) (a0 : Nat) (a1 : Int32) (a2 : Int32) (a3 : Int32) (M : FM) : Option (Int32 × FM) :=
  fi (fm_is M 1 1 a0 = true) (
  (f0 a0 M).bind fun r1 =>
  fi (r1.1 = (Int32.ofInt 0)) (
    fi (a3 = (Int32.ofInt 3)) (
      g54 r1.2) (
      fi (a3 = (Int32.ofInt 2)) (
        fi (a2 = 0) (
          g58 r1.2) (
          g54 r1.2)) (
        g58 r1.2))) (
  fi (r1.1 = (Int32.ofInt 1)) (
    g99 r1.2) (
  fi (r1.1 = (Int32.ofInt 2)) (
    fi (a1 = 0) (
      g72 r1.2) (
      fi (a3 ≤ 0) (
        g72 r1.2) (
        g73 (Int32.ofInt 1) r1.2))) (
  fi (r1.1 = (Int32.ofInt 3)) (
    fi (a1 = 0) (
      fi (a3 ≤ 0) (
        g86 r1.2) (
        g87 (Int32.ofInt 1) r1.2)) (
      g86 r1.2)) (
  fi (r1.1 = (Int32.ofInt 4)) (
    fi (a3 ≤ (Int32.ofInt 1)) (
      g98 (Int32.ofInt 0) r1.2) (
      g98 (Int32.ofInt 1) r1.2)) (
  g99 r1.2)))))) none
noncomputable def FX63_grows_0 (a0 : Nat) (a1 : Int32) (a2 : Int32) (a3 : Int32) (M : FM) : Option (Int32 × FM) := BX63_grows_0 FJ0_ordinal FX63_grows_54 FX63_grows_58 FX63_grows_72 FX63_grows_73 FX63_grows_86 FX63_grows_87 FX63_grows_98 FX63_grows_99 a0 a1 a2 a3 M
noncomputable def FX63_grows (a0 : Nat) (a1 : Int32) (a2 : Int32) (a3 : Int32) (M : FM) : Option (Int32 × FM) := FX63_grows_0 a0 a1 a2 a3 M
/-! BoardMachine$Floats$Wide.grow()V -/
noncomputable def BX62_grow_29 (s0 : Nat) (s1 : Int64) (s2 : Int64) (M : FM) : Option (FM) :=
  fi (fm_is M 40 40 s0 = true) (
  let M1 : FM := fm_sL M 119 s0 0 (s1 + s2)
  some M1) none
noncomputable def FX62_grow_29 (s0 : Nat) (s1 : Int64) (s2 : Int64) (M : FM) : Option (FM) := BX62_grow_29 s0 s1 s2 M
noncomputable def BX62_grow_0 (g29 : Nat → Int64 → Int64 → FM → Option (FM)) (a0 : Nat) (M : FM) : Option (FM) :=
  fi (fm_is M 40 40 a0 = true) (
  fi (fm_is M 40 40 a0 = true) (
  let M1 : FM := fm_sL M 120 a0 0 ((M.2.1 120 a0 0) + (Int64.ofInt 1))
  fi (fm_is M1 40 40 a0 = true) (
  fi (fm_is M1 40 40 a0 = true) (
  fi ((lg_cmp (M1.2.1 120 a0 0) (Int64.ofInt 0)) = 0) (
    g29 a0 (M1.2.1 119 a0 0) (Int64.ofInt 1) M1) (
    g29 a0 (M1.2.1 119 a0 0) (Int64.ofInt 0) M1)) none) none) none) none
noncomputable def FX62_grow_0 (a0 : Nat) (M : FM) : Option (FM) := BX62_grow_0 FX62_grow_29 a0 M
noncomputable def FX62_grow (a0 : Nat) (M : FM) : Option (FM) := FX62_grow_0 a0 M
/-! BoardMachine$Floats$Format.reaches(LBoardMachine$Floats$Taken;LBoardMachine$Floats$Mode;I)Z -/
noncomputable def BX61_reaches_90 (s0 : Int32) (M : FM) : Option (Int32 × FM) :=
  fi (s0 = 0 ∨ s0 = 1) (some (s0, M)) none
noncomputable def FX61_reaches_90 (n : Nat) (s0 : Int32) (M : FM) : Option (Int32 × FM) := BX61_reaches_90 s0 M
noncomputable def BX61_reaches_69 (f5 : Nat → FM → Option (Int32 × FM)) (g90 : Int32 → FM → Option (Int32 × FM)) (a0 : Nat) (M : FM) : Option (Int32 × FM) :=
  fi (fm_is M 33 33 a0 = true) (
  let x1 : Nat := (M.2.2 112 a0 0)
  fi (fm_is M 40 40 x1 = true) (
  (f5 x1 M).bind fun r2 =>
  fi (fm_is r2.2 33 33 a0 = true) (
  fi (r2.1 ≤ ((r2.2.1 109 a0 0) + (Int32.ofInt 1))) (
    g90 (Int32.ofInt 0) r2.2) (
    g90 (Int32.ofInt 1) r2.2)) none) none) none
noncomputable def FX61_reaches_69 (n : Nat) (a0 : Nat) (M : FM) : Option (Int32 × FM) := BX61_reaches_69 (FX62_length n) (FX61_reaches_90 n ) a0 M
noncomputable def BX61_reaches_0 (f0 : Nat → Nat → FM → Option (FM)) (f1 : Nat → Int32 → FM → Option (Int32 × FM)) (f2 : Nat → FM → Option (Int32 × FM)) (f3 : Nat → Int32 → Int32 → Int32 → FM → Option (Int32 × FM)) (f4 : Nat → FM → Option (FM)) (g69 : Nat → FM → Option (Int32 × FM)) (a0 : Nat) (a1 : Nat) (a2 : Nat) (a3 : Int32) (M : FM) : Option (Int32 × FM) :=
  fi (fm_is M 33 33 a0 = true) (
  fi (a3 = (-(M.1 110 a0 0))) (
    fi (fm_is M 33 33 a0 = true) (
    fi (fm_is M 39 39 a1 = true) (
    let x1 : Nat := (M.2.2 112 a0 0)
    fi (fm_is M 40 40 x1 = true) (
    (f0 x1 (M.2.2 117 a1 0) M).bind fun M2 =>
    fi (fm_is M2 33 33 a0 = true) (
    fi (fm_is M2 33 33 a0 = true) (
    fi (fm_is M2 39 39 a1 = true) (
    let x3 : Nat := (M2.2.2 112 a0 0)
    fi (fm_is M2 40 40 x3 = true) (
    (f1 x3 ((a3 - (M2.1 109 a0 0)) - (M2.1 116 a1 0)) M2).bind fun r4 =>
    fi (fm_is r4.2 39 39 a1 = true) (
    fi (fm_is r4.2 33 33 a0 = true) (
    let x5 : Nat := (r4.2.2.2 112 a0 0)
    fi (fm_is r4.2 40 40 x5 = true) (
    (f2 x5 r4.2).bind fun r6 =>
    fi (fm_is r6.2 1 1 a2 = true) (
    (f3 a2 (r4.2.1 115 a1 0) r6.1 r4.1 r6.2).bind fun r7 =>
    fi (r7.1 = 0) (
      g69 a0 r7.2) (
      fi (fm_is r7.2 33 33 a0 = true) (
      let x8 : Nat := (r7.2.2.2 112 a0 0)
      fi (fm_is r7.2 40 40 x8 = true) (
      (f4 x8 r7.2).bind fun M9 =>
      g69 a0 M9) none) none)) none) none) none) none) none) none) none) none) none) none) none) (
    fi ((Int32.ofInt 0) = 0 ∨ (Int32.ofInt 0) = 1) (some ((Int32.ofInt 0), M)) none)) none
noncomputable def FX61_reaches_0 (n : Nat) (a0 : Nat) (a1 : Nat) (a2 : Nat) (a3 : Int32) (M : FM) : Option (Int32 × FM) := BX61_reaches_0 FX62_copy FX62_cut FX62_isOdd FX63_grows FX62_grow (FX61_reaches_69 n ) a0 a1 a2 a3 M
noncomputable def FX61_reaches (n : Nat) (a0 : Nat) (a1 : Nat) (a2 : Nat) (a3 : Int32) (M : FM) : Option (Int32 × FM) := FX61_reaches_0 n a0 a1 a2 a3 M
/-! BoardMachine$Floats$Mode.leaps(Z)Z -/
noncomputable def BX63_leaps_36 (s0 : Int32) (M : FM) : Option (Int32 × FM) :=
  fi (s0 = 0 ∨ s0 = 1) (some (s0, M)) none
noncomputable def FX63_leaps_36 (s0 : Int32) (M : FM) : Option (Int32 × FM) := BX63_leaps_36 s0 M
noncomputable def BX63_leaps_31 (g36 : Int32 → FM → Option (Int32 × FM)) (M : FM) : Option (Int32 × FM) :=
  g36 (Int32.ofInt 1) M
noncomputable def FX63_leaps_31 (M : FM) : Option (Int32 × FM) := BX63_leaps_31 FX63_leaps_36 M
noncomputable def BX63_leaps_28 (g31 : FM → Option (Int32 × FM)) (g36 : Int32 → FM → Option (Int32 × FM)) (s0 : Nat) (s1 : Nat) (M : FM) : Option (Int32 × FM) :=
  fi (s0 < 42 ∧ s1 < 42 ∨ 1000 ≤ s0 ∨ 1000 ≤ s1)
  (fi (s0 = s1) (
    g31 M) (
    g36 (Int32.ofInt 0) M)) none
noncomputable def FX63_leaps_28 (s0 : Nat) (s1 : Nat) (M : FM) : Option (Int32 × FM) := BX63_leaps_28 FX63_leaps_31 FX63_leaps_36 s0 s1 M
noncomputable def BX63_leaps_0 (g28 : Nat → Nat → FM → Option (Int32 × FM)) (g31 : FM → Option (Int32 × FM)) (a0 : Nat) (a1 : Int32) (M : FM) : Option (Int32 × FM) :=
  fi (a0 < 42 ∧ 1 < 42 ∨ 1000 ≤ a0 ∨ 1000 ≤ 1)
  (fi (a0 = 1) (
    g31 M) (
    fi (a0 < 42 ∧ 5 < 42 ∨ 1000 ≤ a0 ∨ 1000 ≤ 5)
    (fi (a0 = 5) (
      g31 M) (
      fi (a1 = 0) (
        g28 a0 4 M) (
        g28 a0 3 M))) none)) none
noncomputable def FX63_leaps_0 (a0 : Nat) (a1 : Int32) (M : FM) : Option (Int32 × FM) := BX63_leaps_0 FX63_leaps_28 FX63_leaps_31 a0 a1 M
noncomputable def FX63_leaps (a0 : Nat) (a1 : Int32) (M : FM) : Option (Int32 × FM) := FX63_leaps_0 a0 a1 M
/-! BoardMachine$Floats$Format.round(LBoardMachine$Floats$Taken;LBoardMachine$Floats$Mode;LBoardMachine$Floats$Flags;)J -/
noncomputable def BX61_round_252 (f10 : Nat → Int32 → FM → Option (Int64 × FM)) (a0 : Nat) (a1 : Nat) (a8 : Int64) (s0 : Int64) (M : FM) : Option (Int64 × FM) :=
  fi (fm_is M 39 39 a1 = true) (
  fi (fm_is M 33 33 a0 = true) (
  (f10 a0 (M.1 115 a1 0) M).bind fun r1 =>
  fi (fm_is r1.2 33 33 a0 = true) (
  fi (fm_is r1.2 33 33 a0 = true) (
  some (((r1.1 ||| (s0 <<< ((r1.2.1 109 a0 0).toInt64 &&& 63))) ||| (a8 &&& (((Int64.ofInt 1) <<< ((r1.2.1 109 a0 0).toInt64 &&& 63)) - (Int64.ofInt 1)))), r1.2)) none) none) none) none
noncomputable def FX61_round_252 (n : Nat) (a0 : Nat) (a1 : Nat) (a8 : Int64) (s0 : Int64) (M : FM) : Option (Int64 × FM) := BX61_round_252 FX61_sign a0 a1 a8 s0 M
noncomputable def BX61_round_211 (f7 : Nat → Int32 → FM → Option (FM)) (g252 : Nat → Nat → Int64 → Int64 → FM → Option (Int64 × FM)) (a0 : Nat) (a1 : Nat) (a5 : Int32) (s0 : Nat) (s1 : Int32) (M : FM) : Option (Int64 × FM) :=
  fi (fm_is M 31 31 s0 = true) (
  (f7 s0 s1 M).bind fun M1 =>
  fi (fm_is M1 39 39 a1 = true) (
  let x2 : Nat := (M1.2.2 117 a1 0)
  fi (fm_is M1 40 40 x2 = true) (
  let x3 : Int64 := (M1.2.1 120 x2 0)
  fi (fm_is M1 33 33 a0 = true) (
  fi ((lg_cmp ((x3.toUInt64 >>> ((M1.1 109 a0 0).toInt64.toUInt64 &&& Int64.toUInt64 63)).toInt64) (Int64.ofInt 0)) = 0) (
    g252 a0 a1 x3 (Int64.ofInt 0) M1) (
    fi (fm_is M1 33 33 a0 = true) (
    fi (fm_is M1 33 33 a0 = true) (
    g252 a0 a1 x3 (((a5 + (M1.1 109 a0 0)) + (M1.1 110 a0 0)).toInt64) M1) none) none)) none) none) none) none
noncomputable def FX61_round_211 (n : Nat) (a0 : Nat) (a1 : Nat) (a5 : Int32) (s0 : Nat) (s1 : Int32) (M : FM) : Option (Int64 × FM) := BX61_round_211 FX60_raise (FX61_round_252 n ) a0 a1 a5 s0 s1 M
noncomputable def BX61_round_190 (s0 : Int64) (M : FM) : Option (Int64 × FM) :=
  some (s0, M)
noncomputable def FX61_round_190 (n : Nat) (s0 : Int64) (M : FM) : Option (Int64 × FM) := BX61_round_190 s0 M
noncomputable def BX61_round_134 (f7 : Nat → Int32 → FM → Option (FM)) (f8 : Nat → Int32 → FM → Option (Int32 × FM)) (f9 : Nat → Int32 → FM → Option (Int64 × FM)) (f10 : Nat → Int32 → FM → Option (Int64 × FM)) (f11 : Nat → FM → Option (Int64 × FM)) (g190 : Int64 → FM → Option (Int64 × FM)) (g211 : Nat → Nat → Int32 → Nat → Int32 → FM → Option (Int64 × FM)) (a0 : Nat) (a1 : Nat) (a2 : Nat) (a3 : Nat) (a5 : Int32) (a6 : Int32) (a7 : Int32) (M : FM) : Option (Int64 × FM) :=
  fi (fm_is M 33 33 a0 = true) (
  fi (fm_is M 33 33 a0 = true) (
  fi ((a5 + (M.1 109 a0 0)) ≤ (M.1 110 a0 0)) (
    fi (a7 = 0) (
      g211 a0 a1 a5 a3 (Int32.ofInt 0) M) (
      fi (a6 = 0) (
        g211 a0 a1 a5 a3 (Int32.ofInt 1) M) (
        g211 a0 a1 a5 a3 (Int32.ofInt 3) M))) (
    fi (fm_is M 31 31 a3 = true) (
    (f7 a3 (Int32.ofInt 5) M).bind fun M1 =>
    fi (fm_is M1 39 39 a1 = true) (
    fi (fm_is M1 1 1 a2 = true) (
    (f8 a2 (M1.1 115 a1 0) M1).bind fun r2 =>
    fi (r2.1 = 0) (
      fi (fm_is r2.2 39 39 a1 = true) (
      fi (fm_is r2.2 33 33 a0 = true) (
      (f10 a0 (r2.2.1 115 a1 0) r2.2).bind fun r3 =>
      fi (fm_is r3.2 33 33 a0 = true) (
      (f11 a0 r3.2).bind fun r4 =>
      g190 (r3.1 ||| (r4.1 - (Int64.ofInt 1))) r4.2) none) none) none) (
      fi (fm_is r2.2 39 39 a1 = true) (
      fi (fm_is r2.2 33 33 a0 = true) (
      (f9 a0 (r2.2.1 115 a1 0) r2.2).bind fun r5 =>
      g190 r5.1 r5.2) none) none)) none) none) none)) none) none
noncomputable def FX61_round_134 (n : Nat) (a0 : Nat) (a1 : Nat) (a2 : Nat) (a3 : Nat) (a5 : Int32) (a6 : Int32) (a7 : Int32) (M : FM) : Option (Int64 × FM) := BX61_round_134 FX60_raise FX63_leaps FX61_infinite FX61_sign FX61_top (FX61_round_190 n ) (FX61_round_211 n ) a0 a1 a2 a3 a5 a6 a7 M
noncomputable def BX61_round_106 (f0 : Nat → FM → Option (Int32 × FM)) (f3 : Nat → Int32 → FM → Option (Int32 × FM)) (g134 : Nat → Nat → Nat → Nat → Int32 → Int32 → Int32 → FM → Option (Int64 × FM)) (a0 : Nat) (a1 : Nat) (a2 : Nat) (a3 : Nat) (a5 : Int32) (a6 : Int32) (a7 : Int32) (M : FM) : Option (Int64 × FM) :=
  fi (fm_is M 39 39 a1 = true) (
  let x1 : Nat := (M.2.2 117 a1 0)
  fi (fm_is M 40 40 x1 = true) (
  (f0 x1 M).bind fun r2 =>
  fi (fm_is r2.2 33 33 a0 = true) (
  fi (r2.1 ≤ ((r2.2.1 109 a0 0) + (Int32.ofInt 1))) (
    g134 a0 a1 a2 a3 a5 a6 a7 r2.2) (
    fi (fm_is r2.2 39 39 a1 = true) (
    let x3 : Nat := (r2.2.2.2 117 a1 0)
    fi (fm_is r2.2 40 40 x3 = true) (
    (f3 x3 (Int32.ofInt 1) r2.2).bind fun r4 =>
    let x5 : Int32 := a5 + (Int32.ofInt 1)
    g134 a0 a1 a2 a3 x5 a6 a7 r4.2) none) none)) none) none) none
noncomputable def FX61_round_106 (n : Nat) (a0 : Nat) (a1 : Nat) (a2 : Nat) (a3 : Nat) (a5 : Int32) (a6 : Int32) (a7 : Int32) (M : FM) : Option (Int64 × FM) := BX61_round_106 (FX62_length n) FX62_cut (FX61_round_134 n ) a0 a1 a2 a3 a5 a6 a7 M
noncomputable def BX61_round_61 (f3 : Nat → Int32 → FM → Option (Int32 × FM)) (f4 : Nat → FM → Option (Int32 × FM)) (f5 : Nat → Int32 → Int32 → Int32 → FM → Option (Int32 × FM)) (f6 : Nat → FM → Option (FM)) (g106 : Nat → Nat → Nat → Nat → Int32 → Int32 → Int32 → FM → Option (Int64 × FM)) (a0 : Nat) (a1 : Nat) (a2 : Nat) (a3 : Nat) (a5 : Int32) (s0 : Int32) (M : FM) : Option (Int64 × FM) :=
  fi (fm_is M 39 39 a1 = true) (
  fi (fm_is M 39 39 a1 = true) (
  let x1 : Nat := (M.2.2 117 a1 0)
  fi (fm_is M 40 40 x1 = true) (
  (f3 x1 (a5 - (M.1 116 a1 0)) M).bind fun r2 =>
  fi (fm_is r2.2 39 39 a1 = true) (
  fi (fm_is r2.2 39 39 a1 = true) (
  let x3 : Nat := (r2.2.2.2 117 a1 0)
  fi (fm_is r2.2 40 40 x3 = true) (
  (f4 x3 r2.2).bind fun r4 =>
  fi (fm_is r4.2 1 1 a2 = true) (
  (f5 a2 (r2.2.1 115 a1 0) r4.1 r2.1 r4.2).bind fun r5 =>
  fi (r5.1 = 0) (
    g106 a0 a1 a2 a3 a5 s0 r2.1 r5.2) (
    fi (fm_is r5.2 39 39 a1 = true) (
    let x6 : Nat := (r5.2.2.2 117 a1 0)
    fi (fm_is r5.2 40 40 x6 = true) (
    (f6 x6 r5.2).bind fun M7 =>
    g106 a0 a1 a2 a3 a5 s0 r2.1 M7) none) none)) none) none) none) none) none) none) none
noncomputable def FX61_round_61 (n : Nat) (a0 : Nat) (a1 : Nat) (a2 : Nat) (a3 : Nat) (a5 : Int32) (s0 : Int32) (M : FM) : Option (Int64 × FM) := BX61_round_61 FX62_cut FX62_isOdd FX63_grows FX62_grow (FX61_round_106 n ) a0 a1 a2 a3 a5 s0 M
noncomputable def BX61_round_60 (g61 : Nat → Nat → Nat → Nat → Int32 → Int32 → FM → Option (Int64 × FM)) (a0 : Nat) (a1 : Nat) (a2 : Nat) (a3 : Nat) (a5 : Int32) (M : FM) : Option (Int64 × FM) :=
  g61 a0 a1 a2 a3 a5 (Int32.ofInt 0) M
noncomputable def FX61_round_60 (n : Nat) (a0 : Nat) (a1 : Nat) (a2 : Nat) (a3 : Nat) (a5 : Int32) (M : FM) : Option (Int64 × FM) := BX61_round_60 (FX61_round_61 n ) a0 a1 a2 a3 a5 M
noncomputable def BX61_round_0 (f0 : Nat → FM → Option (Int32 × FM)) (f1 : Int32 → Int32 → FM → Option (Int32 × FM)) (f2 : Nat → Nat → Nat → Int32 → FM → Option (Int32 × FM)) (g60 : Nat → Nat → Nat → Nat → Int32 → FM → Option (Int64 × FM)) (g61 : Nat → Nat → Nat → Nat → Int32 → Int32 → FM → Option (Int64 × FM)) (a0 : Nat) (a1 : Nat) (a2 : Nat) (a3 : Nat) (M : FM) : Option (Int64 × FM) :=
  fi (fm_is M 39 39 a1 = true) (
  fi (fm_is M 39 39 a1 = true) (
  let x1 : Nat := (M.2.2 117 a1 0)
  fi (fm_is M 40 40 x1 = true) (
  (f0 x1 M).bind fun r2 =>
  let x3 : Int32 := (((M.1 116 a1 0) + r2.1) - (Int32.ofInt 1))
  fi (fm_is r2.2 33 33 a0 = true) (
  (f1 x3 ((Int32.ofInt 1) - (r2.2.1 110 a0 0)) r2.2).bind fun r4 =>
  fi (fm_is r4.2 33 33 a0 = true) (
  let x5 : Int32 := (r4.1 - (r4.2.1 109 a0 0))
  fi (fm_is r4.2 33 33 a0 = true) (
  fi (((Int32.ofInt 1) - (r4.2.1 110 a0 0)) ≤ x3) (
    g60 a0 a1 a2 a3 x5 r4.2) (
    fi (fm_is r4.2 33 33 a0 = true) (
    (f2 a0 a1 a2 x3 r4.2).bind fun r6 =>
    fi (r6.1 = 0) (
      g61 a0 a1 a2 a3 x5 (Int32.ofInt 1) r6.2) (
      g60 a0 a1 a2 a3 x5 r6.2)) none)) none) none) none) none) none) none
noncomputable def FX61_round_0 (n : Nat) (a0 : Nat) (a1 : Nat) (a2 : Nat) (a3 : Nat) (M : FM) : Option (Int64 × FM) := BX61_round_0 (FX62_length n) FJ5_max (FX61_reaches n) (FX61_round_60 n ) (FX61_round_61 n ) a0 a1 a2 a3 M
noncomputable def FX61_round (n : Nat) (a0 : Nat) (a1 : Nat) (a2 : Nat) (a3 : Nat) (M : FM) : Option (Int64 × FM) := FX61_round_0 n a0 a1 a2 a3 M
/-! BoardMachine$Floats$Format.put(LBoardMachine$Floats$Taken;LBoardMachine$Floats$Mode;LBoardMachine$Floats$Flags;)J -/
noncomputable def BX61_put_0 (f0 : Nat → FM → Option (Int32 × FM)) (f1 : Nat → FM → Option (Int64 × FM)) (f2 : Nat → Int32 → FM → Option (Int64 × FM)) (f3 : Nat → Int32 → FM → Option (Int64 × FM)) (f4 : Nat → Nat → Nat → Nat → FM → Option (Int64 × FM)) (a0 : Nat) (a1 : Nat) (a2 : Nat) (a3 : Nat) (M : FM) : Option (Int64 × FM) :=
  fi (fm_is M 39 39 a1 = true) (
  let x1 : Nat := (M.2.2 114 a1 0)
  fi (fm_is M 2 2 x1 = true) (
  (f0 x1 M).bind fun r2 =>
  fi (r2.1 = (Int32.ofInt 0)) (
    fi (fm_is r2.2 39 39 a1 = true) (
    fi (fm_is r2.2 33 33 a0 = true) (
    (f2 a0 (r2.2.1 115 a1 0) r2.2).bind fun r3 =>
    some (r3.1, r3.2)) none) none) (
  fi (r2.1 = (Int32.ofInt 1)) (
    fi (fm_is r2.2 33 33 a0 = true) (
    (f4 a0 a1 a2 a3 r2.2).bind fun r4 =>
    some (r4.1, r4.2)) none) (
  fi (r2.1 = (Int32.ofInt 2)) (
    fi (fm_is r2.2 39 39 a1 = true) (
    fi (fm_is r2.2 33 33 a0 = true) (
    (f3 a0 (r2.2.1 115 a1 0) r2.2).bind fun r5 =>
    some (r5.1, r5.2)) none) none) (
  fi (fm_is r2.2 33 33 a0 = true) (
    (f1 a0 r2.2).bind fun r6 =>
    some (r6.1, r6.2)) none)))) none) none
noncomputable def FX61_put_0 (n : Nat) (a0 : Nat) (a1 : Nat) (a2 : Nat) (a3 : Nat) (M : FM) : Option (Int64 × FM) := BX61_put_0 FJ0_ordinal FX61_quiet FX61_sign FX61_infinite (FX61_round n) a0 a1 a2 a3 M
noncomputable def FX61_put (n : Nat) (a0 : Nat) (a1 : Nat) (a2 : Nat) (a3 : Nat) (M : FM) : Option (Int64 × FM) := FX61_put_0 n a0 a1 a2 a3 M
/-! BoardMachine$Floats$FloatUnit.reckon(ILBoardMachine$Floats$Format;LBoardMachine$Floats$Mode;)I -/
noncomputable def BX59_reckon_105 (f3 : Nat → Nat → Nat → Nat → FM → Option (Int64 × FM)) (f4 : Nat → Int32 → Nat → Int64 → FM → Option (Int32 × FM)) (a0 : Nat) (a1 : Int32) (a2 : Nat) (a3 : Nat) (M : FM) : Option (Int32 × FM) :=
  fi (fm_is M 32 32 a0 = true) (
  fi (fm_is M 32 32 a0 = true) (
  fi (fm_is M 33 33 a2 = true) (
  (f3 a2 (M.2.2 108 a0 0) a3 (M.2.2 94 a0 0) M).bind fun r1 =>
  fi (fm_is r1.2 32 32 a0 = true) (
  (f4 a0 a1 a2 r1.1 r1.2).bind fun r2 =>
  some (r2.1, r2.2)) none) none) none) none
noncomputable def FX59_reckon_105 (n : Nat) (a0 : Nat) (a1 : Int32) (a2 : Nat) (a3 : Nat) (M : FM) : Option (Int32 × FM) := BX59_reckon_105 (FX61_put n) FX59_write a0 a1 a2 a3 M
noncomputable def BX59_reckon_0 (f0 : Int32 → Int32 → Int32 → FM → Option (Int32 × FM)) (f1 : Nat → Int32 → Nat → Nat → FM → Option (FM)) (f2 : Nat → Nat → Nat → Nat → Nat → Nat → FM → Option (FM)) (g105 : Nat → Int32 → Nat → Nat → FM → Option (Int32 × FM)) (a0 : Nat) (a1 : Int32) (a2 : Nat) (a3 : Nat) (M : FM) : Option (Int32 × FM) :=
  (f0 a1 (Int32.ofInt 27) (Int32.ofInt 5) M).bind fun r1 =>
  (f0 a1 (Int32.ofInt 15) (Int32.ofInt 5) r1.2).bind fun r2 =>
  fi (fm_is r2.2 32 32 a0 = true) (
  fi (fm_is r2.2 32 32 a0 = true) (
  (f1 a0 r2.1 a2 (r2.2.2.2 105 a0 0) r2.2).bind fun M3 =>
  fi (fm_is M3 32 32 a0 = true) (
  let x4 : Nat := (M3.2.2 101 a0 0)
  fi (fm_is M3 901 990 x4 = true) (
  fi ((Int32.ofNat (M3.2.2 1 x4 0)) ≤ r1.1) (
    fi (fm_is M3 32 32 a0 = true) (
    fi (fm_is M3 32 32 a0 = true) (
    fi (fm_is M3 32 32 a0 = true) (
    fi (fm_is M3 32 32 a0 = true) (
    fi (fm_is M3 32 32 a0 = true) (
    let x5 : Nat := (M3.2.2 103 a0 0)
    fi (fm_is M3 34 38 x5 = true) (
    (f2 x5 (M3.2.2 105 a0 0) (M3.2.2 105 a0 0) a3 (M3.2.2 94 a0 0) (M3.2.2 108 a0 0) M3).bind fun M6 =>
    g105 a0 a1 a2 a3 M6) none) none) none) none) none) none) (
    (f0 a1 (Int32.ofInt 20) (Int32.ofInt 5) M3).bind fun r7 =>
    fi (fm_is r7.2 32 32 a0 = true) (
    fi (fm_is r7.2 32 32 a0 = true) (
    (f1 a0 r7.1 a2 (r7.2.2.2 106 a0 0) r7.2).bind fun M8 =>
    fi (fm_is M8 32 32 a0 = true) (
    let x9 : Nat := (M8.2.2 101 a0 0)
    fi (fm_is M8 910 990 x9 = true ∧ fm_in M8 x9 r1.1 = true) (
    fi (fm_is M8 32 32 a0 = true) (
    fi (fm_is M8 32 32 a0 = true) (
    fi (fm_is M8 32 32 a0 = true) (
    fi (fm_is M8 32 32 a0 = true) (
    let x10 : Nat := (M8.2.2 3 x9 r1.1.toNatClampNeg)
    fi (fm_is M8 34 38 x10 = true) (
    (f2 x10 (M8.2.2 105 a0 0) (M8.2.2 106 a0 0) a3 (M8.2.2 94 a0 0) (M8.2.2 108 a0 0) M8).bind fun M11 =>
    g105 a0 a1 a2 a3 M11) none) none) none) none) none) none) none) none) none)) none) none) none) none
noncomputable def FX59_reckon_0 (n : Nat) (a0 : Nat) (a1 : Int32) (a2 : Nat) (a3 : Nat) (M : FM) : Option (Int32 × FM) := BX59_reckon_0 FX59_part FX59_take (FX65_run n) (FX59_reckon_105 n ) a0 a1 a2 a3 M
noncomputable def FX59_reckon (n : Nat) (a0 : Nat) (a1 : Int32) (a2 : Nat) (a3 : Nat) (M : FM) : Option (Int32 × FM) := FX59_reckon_0 n a0 a1 a2 a3 M
/-! BoardMachine$Floats$Whole.take(JLBoardMachine$Floats$Taken;)V -/
noncomputable def BX64_take_70 (f0 : Nat → Int32 → Int64 → Int32 → FM → Option (FM)) (s0 : Nat) (s1 : Int32) (s2 : Int64) (M : FM) : Option (FM) :=
  fi (fm_is M 39 39 s0 = true) (
  (f0 s0 s1 s2 (Int32.ofInt 0) M).bind fun M1 =>
  some M1) none
noncomputable def FX64_take_70 (s0 : Nat) (s1 : Int32) (s2 : Int64) (M : FM) : Option (FM) := BX64_take_70 FX71_number s0 s1 s2 M
noncomputable def BX64_take_52 (g70 : Nat → Int32 → Int64 → FM → Option (FM)) (a3 : Nat) (a4 : Int64) (s0 : Int32) (M : FM) : Option (FM) :=
  fi (s0 = 0) (
    g70 a3 s0 a4 M) (
    g70 a3 s0 (-a4) M)
noncomputable def FX64_take_52 (a3 : Nat) (a4 : Int64) (s0 : Int32) (M : FM) : Option (FM) := BX64_take_52 FX64_take_70 a3 a4 s0 M
noncomputable def BX64_take_51 (g52 : Nat → Int64 → Int32 → FM → Option (FM)) (a3 : Nat) (a4 : Int64) (M : FM) : Option (FM) :=
  g52 a3 a4 (Int32.ofInt 0) M
noncomputable def FX64_take_51 (a3 : Nat) (a4 : Int64) (M : FM) : Option (FM) := BX64_take_51 FX64_take_52 a3 a4 M
noncomputable def BX64_take_31 (g51 : Nat → Int64 → FM → Option (FM)) (g52 : Nat → Int64 → Int32 → FM → Option (FM)) (a0 : Nat) (a3 : Nat) (s0 : Int64) (M : FM) : Option (FM) :=
  fi (fm_is M 3 3 a0 = true) (
  fi ((M.1 12 a0 0) = 0) (
    g51 a3 s0 M) (
    fi (0 ≤ (lg_cmp s0 (Int64.ofInt 0))) (
      g51 a3 s0 M) (
      g52 a3 s0 (Int32.ofInt 1) M))) none
noncomputable def FX64_take_31 (a0 : Nat) (a3 : Nat) (s0 : Int64) (M : FM) : Option (FM) := BX64_take_31 FX64_take_51 FX64_take_52 a0 a3 s0 M
noncomputable def BX64_take_0 (g31 : Nat → Nat → Int64 → FM → Option (FM)) (a0 : Nat) (a1 : Int64) (a3 : Nat) (M : FM) : Option (FM) :=
  fi (fm_is M 3 3 a0 = true) (
  fi ((M.1 11 a0 0) = (Int32.ofInt 64)) (
    g31 a0 a3 a1 M) (
    fi (fm_is M 3 3 a0 = true) (
    fi ((M.1 12 a0 0) = 0) (
      g31 a0 a3 (a1 &&& (Int64.ofInt 4294967295)) M) (
      g31 a0 a3 a1.toInt32.toInt64 M)) none)) none
noncomputable def FX64_take_0 (a0 : Nat) (a1 : Int64) (a3 : Nat) (M : FM) : Option (FM) := BX64_take_0 FX64_take_31 a0 a1 a3 M
noncomputable def FX64_take (a0 : Nat) (a1 : Int64) (a3 : Nat) (M : FM) : Option (FM) := FX64_take_0 a0 a1 a3 M
/-! BoardMachine$Floats$Whole.limit(Z)J -/
noncomputable def BX64_limit_43 (s0 : Int64) (M : FM) : Option (Int64 × FM) :=
  some (s0, M)
noncomputable def FX64_limit_43 (s0 : Int64) (M : FM) : Option (Int64 × FM) := BX64_limit_43 s0 M
noncomputable def BX64_limit_0 (g43 : Int64 → FM → Option (Int64 × FM)) (a0 : Nat) (a1 : Int32) (M : FM) : Option (Int64 × FM) :=
  fi (fm_is M 3 3 a0 = true) (
  let x1 : Int64 := ((Int64.ofInt 1) <<< (((M.1 11 a0 0) - (Int32.ofInt 1)).toInt64 &&& 63))
  fi (fm_is M 3 3 a0 = true) (
  fi ((M.1 12 a0 0) = 0) (
    fi (a1 = 0) (
      g43 ((x1 - (Int64.ofInt 1)) + x1) M) (
      g43 (Int64.ofInt 0) M)) (
    fi (a1 = 0) (
      g43 (x1 - (Int64.ofInt 1)) M) (
      g43 x1 M))) none) none
noncomputable def FX64_limit_0 (a0 : Nat) (a1 : Int32) (M : FM) : Option (Int64 × FM) := BX64_limit_0 FX64_limit_43 a0 a1 M
noncomputable def FX64_limit (a0 : Nat) (a1 : Int32) (M : FM) : Option (Int64 × FM) := FX64_limit_0 a0 a1 M
/-! BoardMachine$Floats$Whole.told(JZ)J -/
noncomputable def BX64_told_30 (s0 : Int64) (M : FM) : Option (Int64 × FM) :=
  some (s0, M)
noncomputable def FX64_told_30 (s0 : Int64) (M : FM) : Option (Int64 × FM) := BX64_told_30 s0 M
noncomputable def BX64_told_10 (g30 : Int64 → FM → Option (Int64 × FM)) (a0 : Nat) (s0 : Int64) (M : FM) : Option (Int64 × FM) :=
  fi (fm_is M 3 3 a0 = true) (
  fi ((M.1 11 a0 0) = (Int32.ofInt 32)) (
    g30 s0.toInt32.toInt64 M) (
    g30 s0 M)) none
noncomputable def FX64_told_10 (a0 : Nat) (s0 : Int64) (M : FM) : Option (Int64 × FM) := BX64_told_10 FX64_told_30 a0 s0 M
noncomputable def BX64_told_0 (g10 : Nat → Int64 → FM → Option (Int64 × FM)) (a0 : Nat) (a1 : Int64) (a3 : Int32) (M : FM) : Option (Int64 × FM) :=
  fi (a3 = 0) (
    g10 a0 a1 M) (
    g10 a0 (-a1) M)
noncomputable def FX64_told_0 (a0 : Nat) (a1 : Int64) (a3 : Int32) (M : FM) : Option (Int64 × FM) := BX64_told_0 FX64_told_10 a0 a1 a3 M
noncomputable def FX64_told (a0 : Nat) (a1 : Int64) (a3 : Int32) (M : FM) : Option (Int64 × FM) := FX64_told_0 a0 a1 a3 M
/-! BoardMachine$Floats$Whole.round(LBoardMachine$Floats$Taken;LBoardMachine$Floats$Mode;LBoardMachine$Floats$Flags;)J -/
noncomputable def BX64_round_191 (f5 : Nat → Int32 → FM → Option (FM)) (f6 : Nat → Int64 → Int32 → FM → Option (Int64 × FM)) (a0 : Nat) (a1 : Nat) (a5 : Int32) (s0 : Nat) (s1 : Int32) (M : FM) : Option (Int64 × FM) :=
  fi (fm_is M 31 31 s0 = true) (
  (f5 s0 s1 M).bind fun M1 =>
  fi (fm_is M1 39 39 a1 = true) (
  let x2 : Nat := (M1.2.2 117 a1 0)
  fi (fm_is M1 40 40 x2 = true) (
  fi (fm_is M1 3 3 a0 = true) (
  (f6 a0 (M1.2.1 120 x2 0) a5 M1).bind fun r3 =>
  some (r3.1, r3.2)) none) none) none) none
noncomputable def FX64_round_191 (n : Nat) (a0 : Nat) (a1 : Nat) (a5 : Int32) (s0 : Nat) (s1 : Int32) (M : FM) : Option (Int64 × FM) := BX64_round_191 FX60_raise FX64_told a0 a1 a5 s0 s1 M
noncomputable def BX64_round_165 (f5 : Nat → Int32 → FM → Option (FM)) (f6 : Nat → Int64 → Int32 → FM → Option (Int64 × FM)) (a0 : Nat) (a3 : Nat) (a5 : Int32) (a7 : Int64) (M : FM) : Option (Int64 × FM) :=
  fi (fm_is M 31 31 a3 = true) (
  (f5 a3 (Int32.ofInt 16) M).bind fun M1 =>
  fi (fm_is M1 3 3 a0 = true) (
  (f6 a0 a7 a5 M1).bind fun r2 =>
  some (r2.1, r2.2)) none) none
noncomputable def FX64_round_165 (n : Nat) (a0 : Nat) (a3 : Nat) (a5 : Int32) (a7 : Int64) (M : FM) : Option (Int64 × FM) := BX64_round_165 FX60_raise FX64_told a0 a3 a5 a7 M
noncomputable def BX64_round_125 (f3 : Nat → Int32 → FM → Option (Int64 × FM)) (f9 : Int64 → Int64 → FM → Option (Int32 × FM)) (g165 : Nat → Nat → Int32 → Int64 → FM → Option (Int64 × FM)) (g191 : Nat → Nat → Int32 → Nat → Int32 → FM → Option (Int64 × FM)) (a0 : Nat) (a1 : Nat) (a3 : Nat) (a4 : Int32) (a5 : Int32) (a6 : Int32) (M : FM) : Option (Int64 × FM) :=
  fi (fm_is M 3 3 a0 = true) (
  (f3 a0 a5 M).bind fun r1 =>
  fi (a4 = 0) (
    fi (fm_is r1.2 39 39 a1 = true) (
    let x2 : Nat := (r1.2.2.2 117 a1 0)
    fi (fm_is r1.2 40 40 x2 = true) (
    fi ((lg_cmp (r1.2.2.1 119 x2 0) (Int64.ofInt 0)) = 0) (
      fi (fm_is r1.2 39 39 a1 = true) (
      let x3 : Nat := (r1.2.2.2 117 a1 0)
      fi (fm_is r1.2 40 40 x3 = true) (
      (f9 r1.1 (r1.2.2.1 120 x3 0) r1.2).bind fun r4 =>
      fi (r4.1 = 0) (
        fi (a6 = 0) (
          g191 a0 a1 a5 a3 (Int32.ofInt 0) r4.2) (
          g191 a0 a1 a5 a3 (Int32.ofInt 1) r4.2)) (
        g165 a0 a3 a5 r1.1 r4.2)) none) none) (
      g165 a0 a3 a5 r1.1 r1.2)) none) none) (
    g165 a0 a3 a5 r1.1 r1.2)) none
noncomputable def FX64_round_125 (n : Nat) (a0 : Nat) (a1 : Nat) (a3 : Nat) (a4 : Int32) (a5 : Int32) (a6 : Int32) (M : FM) : Option (Int64 × FM) := BX64_round_125 FX64_limit FX108_isLess (FX64_round_165 n ) (FX64_round_191 n ) a0 a1 a3 a4 a5 a6 M
noncomputable def BX64_round_66 (f0 : Nat → Nat → FM → Option (Int32 × FM)) (f4 : Nat → Int32 → FM → Option (Int32 × FM)) (f7 : Nat → FM → Option (Int32 × FM)) (f8 : Nat → Int32 → Int32 → Int32 → FM → Option (Int32 × FM)) (f10 : Nat → FM → Option (FM)) (g125 : Nat → Nat → Nat → Int32 → Int32 → Int32 → FM → Option (Int64 × FM)) (a0 : Nat) (a1 : Nat) (a2 : Nat) (a3 : Nat) (a4 : Int32) (s0 : Int32) (M : FM) : Option (Int64 × FM) :=
  fi (fm_is M 39 39 a1 = true) (
  (f0 a1 7 M).bind fun r1 =>
  fi (r1.1 = 0) (
    g125 a0 a1 a3 a4 s0 (Int32.ofInt 0) r1.2) (
    fi (a4 = 0) (
      fi (fm_is r1.2 39 39 a1 = true) (
      fi (fm_is r1.2 39 39 a1 = true) (
      let x2 : Nat := (r1.2.2.2 117 a1 0)
      fi (fm_is r1.2 40 40 x2 = true) (
      (f4 x2 (-(r1.2.1 116 a1 0)) r1.2).bind fun r3 =>
      fi (fm_is r3.2 39 39 a1 = true) (
      let x4 : Nat := (r3.2.2.2 117 a1 0)
      fi (fm_is r3.2 40 40 x4 = true) (
      (f7 x4 r3.2).bind fun r5 =>
      fi (fm_is r5.2 1 1 a2 = true) (
      (f8 a2 s0 r5.1 r3.1 r5.2).bind fun r6 =>
      fi (r6.1 = 0) (
        g125 a0 a1 a3 a4 s0 r3.1 r6.2) (
        fi (fm_is r6.2 39 39 a1 = true) (
        let x7 : Nat := (r6.2.2.2 117 a1 0)
        fi (fm_is r6.2 40 40 x7 = true) (
        (f10 x7 r6.2).bind fun M8 =>
        g125 a0 a1 a3 a4 s0 r3.1 M8) none) none)) none) none) none) none) none) none) (
      g125 a0 a1 a3 a4 s0 (Int32.ofInt 0) r1.2))) none
noncomputable def FX64_round_66 (n : Nat) (a0 : Nat) (a1 : Nat) (a2 : Nat) (a3 : Nat) (a4 : Int32) (s0 : Int32) (M : FM) : Option (Int64 × FM) := BX64_round_66 FX71_is FX62_cut FX62_isOdd FX63_grows FX62_grow (FX64_round_125 n ) a0 a1 a2 a3 a4 s0 M
noncomputable def BX64_round_65 (g66 : Nat → Nat → Nat → Nat → Int32 → Int32 → FM → Option (Int64 × FM)) (a0 : Nat) (a1 : Nat) (a2 : Nat) (a3 : Nat) (a4 : Int32) (M : FM) : Option (Int64 × FM) :=
  g66 a0 a1 a2 a3 a4 (Int32.ofInt 0) M
noncomputable def FX64_round_65 (n : Nat) (a0 : Nat) (a1 : Nat) (a2 : Nat) (a3 : Nat) (a4 : Int32) (M : FM) : Option (Int64 × FM) := BX64_round_65 (FX64_round_66 n ) a0 a1 a2 a3 a4 M
noncomputable def BX64_round_42 (f1 : Nat → FM → Option (Int32 × FM)) (g65 : Nat → Nat → Nat → Nat → Int32 → FM → Option (Int64 × FM)) (g66 : Nat → Nat → Nat → Nat → Int32 → Int32 → FM → Option (Int64 × FM)) (a0 : Nat) (a1 : Nat) (a2 : Nat) (a3 : Nat) (s0 : Int32) (M : FM) : Option (Int64 × FM) :=
  fi (fm_is M 39 39 a1 = true) (
  fi ((M.1 115 a1 0) = 0) (
    g65 a0 a1 a2 a3 s0 M) (
    fi (fm_is M 39 39 a1 = true) (
    let x1 : Nat := (M.2.2 114 a1 0)
    fi (fm_is M 2 2 x1 = true) (
    (f1 x1 M).bind fun r2 =>
    fi (r2.1 = 0) (
      g66 a0 a1 a2 a3 s0 (Int32.ofInt 1) r2.2) (
      g65 a0 a1 a2 a3 s0 r2.2)) none) none)) none
noncomputable def FX64_round_42 (n : Nat) (a0 : Nat) (a1 : Nat) (a2 : Nat) (a3 : Nat) (s0 : Int32) (M : FM) : Option (Int64 × FM) := BX64_round_42 FX72_isNone (FX64_round_65 n ) (FX64_round_66 n ) a0 a1 a2 a3 s0 M
noncomputable def BX64_round_41 (g42 : Nat → Nat → Nat → Nat → Int32 → FM → Option (Int64 × FM)) (a0 : Nat) (a1 : Nat) (a2 : Nat) (a3 : Nat) (M : FM) : Option (Int64 × FM) :=
  g42 a0 a1 a2 a3 (Int32.ofInt 0) M
noncomputable def FX64_round_41 (n : Nat) (a0 : Nat) (a1 : Nat) (a2 : Nat) (a3 : Nat) (M : FM) : Option (Int64 × FM) := BX64_round_41 (FX64_round_42 n ) a0 a1 a2 a3 M
noncomputable def BX64_round_37 (g42 : Nat → Nat → Nat → Nat → Int32 → FM → Option (Int64 × FM)) (a0 : Nat) (a1 : Nat) (a2 : Nat) (a3 : Nat) (M : FM) : Option (Int64 × FM) :=
  g42 a0 a1 a2 a3 (Int32.ofInt 1) M
noncomputable def FX64_round_37 (n : Nat) (a0 : Nat) (a1 : Nat) (a2 : Nat) (a3 : Nat) (M : FM) : Option (Int64 × FM) := BX64_round_37 (FX64_round_42 n ) a0 a1 a2 a3 M
noncomputable def BX64_round_0 (f0 : Nat → Nat → FM → Option (Int32 × FM)) (f2 : Nat → FM → Option (Int32 × FM)) (g37 : Nat → Nat → Nat → Nat → FM → Option (Int64 × FM)) (g41 : Nat → Nat → Nat → Nat → FM → Option (Int64 × FM)) (a0 : Nat) (a1 : Nat) (a2 : Nat) (a3 : Nat) (M : FM) : Option (Int64 × FM) :=
  fi (fm_is M 39 39 a1 = true) (
  (f0 a1 6 M).bind fun r1 =>
  fi (r1.1 = 0) (
    fi (fm_is r1.2 39 39 a1 = true) (
    (f0 a1 7 r1.2).bind fun r2 =>
    fi (r2.1 = 0) (
      g37 a0 a1 a2 a3 r2.2) (
      fi (fm_is r2.2 39 39 a1 = true) (
      fi (fm_is r2.2 39 39 a1 = true) (
      let x3 : Nat := (r2.2.2.2 117 a1 0)
      fi (fm_is r2.2 40 40 x3 = true) (
      (f2 x3 r2.2).bind fun r4 =>
      fi (((r2.2.1 116 a1 0) + r4.1) ≤ (Int32.ofInt 65)) (
        g41 a0 a1 a2 a3 r4.2) (
        g37 a0 a1 a2 a3 r4.2)) none) none) none)) none) (
    g41 a0 a1 a2 a3 r1.2)) none
noncomputable def FX64_round_0 (n : Nat) (a0 : Nat) (a1 : Nat) (a2 : Nat) (a3 : Nat) (M : FM) : Option (Int64 × FM) := BX64_round_0 FX71_is (FX62_length n) (FX64_round_37 n ) (FX64_round_41 n ) a0 a1 a2 a3 M
noncomputable def FX64_round (n : Nat) (a0 : Nat) (a1 : Nat) (a2 : Nat) (a3 : Nat) (M : FM) : Option (Int64 × FM) := FX64_round_0 n a0 a1 a2 a3 M
/-! BoardMachine$Floats$FloatUnit.convert(ILBoardMachine$Floats$Format;LBoardMachine$Floats$Mode;J)I -/
noncomputable def BX59_convert_69 (M : FM) : Option (Int32 × FM) :=
  some ((Int32.ofInt (-1)), M)
noncomputable def FX59_convert_69 (n : Nat) (M : FM) : Option (Int32 × FM) := BX59_convert_69 M
noncomputable def BX59_convert_0 (f0 : Int32 → Int32 → Int32 → FM → Option (Int32 × FM)) (f1 : Nat → Int64 → Nat → FM → Option (FM)) (f2 : Nat → Int32 → Nat → Nat → FM → Option (FM)) (f3 : Nat → Nat → Nat → Nat → FM → Option (Int64 × FM)) (f4 : Nat → Int32 → Nat → Int64 → FM → Option (Int32 × FM)) (f5 : Nat → Nat → Nat → Nat → FM → Option (Int64 × FM)) (f6 : Nat → Int64 → FM → Option (Int32 × FM)) (f7 : Nat → Nat → Nat → Nat → Nat → Nat → FM → Option (FM)) (g69 : FM → Option (Int32 × FM)) (a0 : Nat) (a1 : Int32) (a2 : Nat) (a3 : Nat) (a4 : Int64) (M : FM) : Option (Int32 × FM) :=
  (f0 a1 (Int32.ofInt 20) (Int32.ofInt 5) M).bind fun r1 =>
  (f0 a1 (Int32.ofInt 27) (Int32.ofInt 5) r1.2).bind fun r2 =>
  fi (r2.1 = (Int32.ofInt 8)) (
    fi ((Int32.ofInt 1) < r1.1) (
      g69 r2.2) (
      fi (fm_is r2.2 32 32 a0 = true) (
      let x3 : Nat := (r2.2.2.2 98 a0 0)
      fi (fm_is r2.2 910 990 x3 = true ∧ fm_in r2.2 x3 r1.1 = true) (
      let x4 : Nat := (r2.2.2.2 3 x3 r1.1.toNatClampNeg)
      fi (x4 < 42 ∧ a2 < 42 ∨ 1000 ≤ x4 ∨ 1000 ≤ a2)
      (fi (x4 = a2) (
        g69 r2.2) (
        (f0 a1 (Int32.ofInt 15) (Int32.ofInt 5) r2.2).bind fun r5 =>
        fi (fm_is r5.2 32 32 a0 = true) (
        let x6 : Nat := (r5.2.2.2 98 a0 0)
        fi (fm_is r5.2 910 990 x6 = true ∧ fm_in r5.2 x6 r1.1 = true) (
        fi (fm_is r5.2 32 32 a0 = true) (
        fi (fm_is r5.2 32 32 a0 = true) (
        (f2 a0 r5.1 (r5.2.2.2 3 x6 r1.1.toNatClampNeg) (r5.2.2.2 105 a0 0) r5.2).bind fun M7 =>
        fi (fm_is M7 32 32 a0 = true) (
        fi (fm_is M7 32 32 a0 = true) (
        fi (fm_is M7 32 32 a0 = true) (
        fi (fm_is M7 32 32 a0 = true) (
        fi (fm_is M7 32 32 a0 = true) (
        let x8 : Nat := (M7.2.2 104 a0 0)
        fi (fm_is M7 34 38 x8 = true) (
        (f7 x8 (M7.2.2 105 a0 0) (M7.2.2 105 a0 0) a3 (M7.2.2 94 a0 0) (M7.2.2 108 a0 0) M7).bind fun M9 =>
        fi (fm_is M9 32 32 a0 = true) (
        fi (fm_is M9 32 32 a0 = true) (
        fi (fm_is M9 33 33 a2 = true) (
        (f3 a2 (M9.2.2 108 a0 0) a3 (M9.2.2 94 a0 0) M9).bind fun r10 =>
        fi (fm_is r10.2 32 32 a0 = true) (
        (f4 a0 a1 a2 r10.1 r10.2).bind fun r11 =>
        some (r11.1, r11.2)) none) none) none) none) none) none) none) none) none) none) none) none) none) none)) none) none) none)) (
  fi (r2.1 = (Int32.ofInt 24)) (
    fi (fm_is r2.2 32 32 a0 = true) (
    let x12 : Nat := (r2.2.2.2 100 a0 0)
    fi (fm_is r2.2 901 990 x12 = true) (
    fi (r1.1 < (Int32.ofNat (r2.2.2.2 1 x12 0))) (
      (f0 a1 (Int32.ofInt 15) (Int32.ofInt 5) r2.2).bind fun r13 =>
      fi (fm_is r13.2 32 32 a0 = true) (
      fi (fm_is r13.2 32 32 a0 = true) (
      (f2 a0 r13.1 a2 (r13.2.2.2 105 a0 0) r13.2).bind fun M14 =>
      fi (fm_is M14 32 32 a0 = true) (
      let x15 : Nat := (M14.2.2 100 a0 0)
      fi (fm_is M14 910 990 x15 = true ∧ fm_in M14 x15 r1.1 = true) (
      fi (fm_is M14 32 32 a0 = true) (
      fi (fm_is M14 32 32 a0 = true) (
      let x16 : Nat := (M14.2.2 3 x15 r1.1.toNatClampNeg)
      fi (fm_is M14 3 3 x16 = true) (
      (f5 x16 (M14.2.2 105 a0 0) a3 (M14.2.2 94 a0 0) M14).bind fun r17 =>
      fi (fm_is r17.2 32 32 a0 = true) (
      (f6 a0 r17.1 r17.2).bind fun r18 =>
      some (r18.1, r18.2)) none) none) none) none) none) none) none) none) (
      some ((Int32.ofInt (-1)), r2.2))) none) none) (
  fi (r2.1 = (Int32.ofInt 26)) (
    fi (fm_is r2.2 32 32 a0 = true) (
    let x19 : Nat := (r2.2.2.2 100 a0 0)
    fi (fm_is r2.2 901 990 x19 = true) (
    fi (r1.1 < (Int32.ofNat (r2.2.2.2 1 x19 0))) (
      fi (fm_is r2.2 32 32 a0 = true) (
      let x20 : Nat := (r2.2.2.2 100 a0 0)
      fi (fm_is r2.2 910 990 x20 = true ∧ fm_in r2.2 x20 r1.1 = true) (
      fi (fm_is r2.2 32 32 a0 = true) (
      let x21 : Nat := (r2.2.2.2 3 x20 r1.1.toNatClampNeg)
      fi (fm_is r2.2 3 3 x21 = true) (
      (f1 x21 a4 (r2.2.2.2 105 a0 0) r2.2).bind fun M22 =>
      fi (fm_is M22 32 32 a0 = true) (
      fi (fm_is M22 32 32 a0 = true) (
      fi (fm_is M22 33 33 a2 = true) (
      (f3 a2 (M22.2.2 105 a0 0) a3 (M22.2.2 94 a0 0) M22).bind fun r23 =>
      fi (fm_is r23.2 32 32 a0 = true) (
      (f4 a0 a1 a2 r23.1 r23.2).bind fun r24 =>
      some (r24.1, r24.2)) none) none) none) none) none) none) none) none) (
      some ((Int32.ofInt (-1)), r2.2))) none) none) (
  some ((Int32.ofInt (-1)), r2.2))))
noncomputable def FX59_convert_0 (n : Nat) (a0 : Nat) (a1 : Int32) (a2 : Nat) (a3 : Nat) (a4 : Int64) (M : FM) : Option (Int32 × FM) := BX59_convert_0 FX59_part FX64_take FX59_take (FX61_put n) FX59_write (FX64_round n) FX59_give (FX65_run n) (FX59_convert_69 n ) a0 a1 a2 a3 a4 M
noncomputable def FX59_convert (n : Nat) (a0 : Nat) (a1 : Int32) (a2 : Nat) (a3 : Nat) (a4 : Int64) (M : FM) : Option (Int32 × FM) := FX59_convert_0 n a0 a1 a2 a3 a4 M
/-! BoardMachine$Floats$FloatUnit.operate(ILBoardMachine$Floats$Format;J)I -/
noncomputable def BX59_operate_209 (s0 : Int32) (M : FM) : Option (Int32 × FM) :=
  some (s0, M)
noncomputable def FX59_operate_209 (n : Nat) (s0 : Int32) (M : FM) : Option (Int32 × FM) := BX59_operate_209 s0 M
noncomputable def BX59_operate_200 (f9 : Nat → Int32 → Nat → Nat → Int64 → FM → Option (Int32 × FM)) (g209 : Int32 → FM → Option (Int32 × FM)) (a0 : Nat) (a1 : Int32) (a2 : Nat) (a3 : Int64) (a7 : Nat) (M : FM) : Option (Int32 × FM) :=
  fi (fm_is M 32 32 a0 = true) (
  (f9 a0 a1 a2 a7 a3 M).bind fun r1 =>
  g209 r1.1 r1.2) none
noncomputable def FX59_operate_200 (n : Nat) (a0 : Nat) (a1 : Int32) (a2 : Nat) (a3 : Int64) (a7 : Nat) (M : FM) : Option (Int32 × FM) := BX59_operate_200 (FX59_convert n) (FX59_operate_209 n ) a0 a1 a2 a3 a7 M
noncomputable def BX59_operate_189 (f7 : Nat → Int32 → Nat → Nat → FM → Option (Int32 × FM)) (g209 : Int32 → FM → Option (Int32 × FM)) (a0 : Nat) (a1 : Int32) (a2 : Nat) (a7 : Nat) (M : FM) : Option (Int32 × FM) :=
  fi (fm_is M 32 32 a0 = true) (
  (f7 a0 a1 a2 a7 M).bind fun r1 =>
  g209 r1.1 r1.2) none
noncomputable def FX59_operate_189 (n : Nat) (a0 : Nat) (a1 : Int32) (a2 : Nat) (a7 : Nat) (M : FM) : Option (Int32 × FM) := BX59_operate_189 (FX59_reckon n) (FX59_operate_209 n ) a0 a1 a2 a7 M
noncomputable def BX59_operate_150 (s0 : Int32) (M : FM) : Option (Int32 × FM) :=
  some (s0, M)
noncomputable def FX59_operate_150 (n : Nat) (s0 : Int32) (M : FM) : Option (Int32 × FM) := BX59_operate_150 s0 M
noncomputable def BX59_operate_149 (g150 : Int32 → FM → Option (Int32 × FM)) (M : FM) : Option (Int32 × FM) :=
  g150 (Int32.ofInt (-1)) M
noncomputable def FX59_operate_149 (n : Nat) (M : FM) : Option (Int32 × FM) := BX59_operate_149 (FX59_operate_150 n ) M
noncomputable def BX59_operate_143 (f8 : Nat → Int32 → Nat → Int64 → FM → Option (Int32 × FM)) (g150 : Int32 → FM → Option (Int32 × FM)) (s0 : Nat) (s1 : Int32) (s2 : Nat) (s3 : Int64) (M : FM) : Option (Int32 × FM) :=
  fi (fm_is M 32 32 s0 = true) (
  (f8 s0 s1 s2 s3 M).bind fun r1 =>
  g150 r1.1 r1.2) none
noncomputable def FX59_operate_143 (n : Nat) (s0 : Nat) (s1 : Int32) (s2 : Nat) (s3 : Int64) (M : FM) : Option (Int32 × FM) := BX59_operate_143 FX59_write (FX59_operate_150 n ) s0 s1 s2 s3 M
noncomputable def BX59_operate_108 (s0 : Int32) (M : FM) : Option (Int32 × FM) :=
  some (s0, M)
noncomputable def FX59_operate_108 (n : Nat) (s0 : Int32) (M : FM) : Option (Int32 × FM) := BX59_operate_108 s0 M
noncomputable def BX59_operate_0 (f0 : Int32 → Int32 → Int32 → FM → Option (Int32 × FM)) (f1 : Nat → Int32 → FM → Option (Nat × FM)) (f2 : Nat → Int32 → Nat → FM → Option (Int32 × FM)) (f3 : Nat → Int32 → Nat → FM → Option (Int32 × FM)) (f4 : Nat → Int32 → Nat → FM → Option (Int32 × FM)) (f5 : Nat → Int32 → Nat → FM → Option (Int32 × FM)) (f6 : Nat → FM → Option (Int32 × FM)) (g108 : Int32 → FM → Option (Int32 × FM)) (g143 : Nat → Int32 → Nat → Int64 → FM → Option (Int32 × FM)) (g149 : FM → Option (Int32 × FM)) (g189 : Nat → Int32 → Nat → Nat → FM → Option (Int32 × FM)) (g200 : Nat → Int32 → Nat → Int64 → Nat → FM → Option (Int32 × FM)) (g209 : Int32 → FM → Option (Int32 × FM)) (a0 : Nat) (a1 : Int32) (a2 : Nat) (a3 : Int64) (M : FM) : Option (Int32 × FM) :=
  (f0 a1 (Int32.ofInt 27) (Int32.ofInt 5) M).bind fun r1 =>
  (f0 a1 (Int32.ofInt 20) (Int32.ofInt 5) r1.2).bind fun r2 =>
  fi (r1.1 = (Int32.ofInt 4)) (
    fi (fm_is r2.2 32 32 a0 = true) (
    (f2 a0 a1 a2 r2.2).bind fun r3 =>
    some (r3.1, r3.2)) none) (
  fi (r1.1 = (Int32.ofInt 5)) (
    fi (fm_is r2.2 32 32 a0 = true) (
    (f3 a0 a1 a2 r2.2).bind fun r4 =>
    some (r4.1, r4.2)) none) (
  fi (r1.1 = (Int32.ofInt 20)) (
    fi (fm_is r2.2 32 32 a0 = true) (
    (f4 a0 a1 a2 r2.2).bind fun r5 =>
    some (r5.1, r5.2)) none) (
  fi (r1.1 = (Int32.ofInt 28)) (
    fi (r2.1 = 0) (
      fi (fm_is r2.2 32 32 a0 = true) (
      (f5 a0 a1 a2 r2.2).bind fun r6 =>
      g108 r6.1 r6.2) none) (
      g108 (Int32.ofInt (-1)) r2.2)) (
  fi (r1.1 = (Int32.ofInt 30)) (
    fi (r2.1 = 0) (
      (f0 a1 (Int32.ofInt 12) (Int32.ofInt 3) r2.2).bind fun r7 =>
      fi (r7.1 = 0) (
        (f6 a2 r7.2).bind fun r8 =>
        fi (r8.1 = 0) (
          g143 a0 a1 a2 (a3 &&& (Int64.ofInt 4294967295)) r8.2) (
          g143 a0 a1 a2 a3 r8.2)) (
        g149 r7.2)) (
      g149 r2.2)) (
  fi (fm_is r2.2 32 32 a0 = true) (
    (f1 a0 a1 r2.2).bind fun r9 =>
    fi (r9.1 = 0) (
      g209 (Int32.ofInt (-1)) r9.2) (
      fi (fm_is r9.2 32 32 a0 = true) (
      let x10 : Nat := (r9.2.2.2 101 a0 0)
      fi (fm_is r9.2 901 990 x10 = true) (
      fi (r1.1 < (Int32.ofNat (r9.2.2.2 1 x10 0))) (
        g189 a0 a1 a2 r9.1 r9.2) (
        fi (r1.1 = (Int32.ofInt 11)) (
          fi (r2.1 = 0) (
            g189 a0 a1 a2 r9.1 r9.2) (
            g200 a0 a1 a2 a3 r9.1 r9.2)) (
          g200 a0 a1 a2 a3 r9.1 r9.2))) none) none)) none)))))
noncomputable def FX59_operate_0 (n : Nat) (a0 : Nat) (a1 : Int32) (a2 : Nat) (a3 : Int64) (M : FM) : Option (Int32 × FM) := BX59_operate_0 FX59_part FX59_modeOf FX59_changeSign (FX59_choose n) (FX59_compare n) FX59_look FX59_isDouble (FX59_operate_108 n ) (FX59_operate_143 n ) (FX59_operate_149 n ) (FX59_operate_189 n ) (FX59_operate_200 n ) (FX59_operate_209 n ) a0 a1 a2 a3 M
noncomputable def FX59_operate (n : Nat) (a0 : Nat) (a1 : Int32) (a2 : Nat) (a3 : Int64) (M : FM) : Option (Int32 × FM) := FX59_operate_0 n a0 a1 a2 a3 M
/-! BoardMachine$Floats$FloatUnit.fuse(ILBoardMachine$Floats$Format;I)I -/
noncomputable def BX59_fuse_143 (f3 : Nat → Nat → Nat → Nat → Nat → Nat → FM → Option (FM)) (f5 : Nat → Nat → Nat → Nat → FM → Option (Int64 × FM)) (f6 : Nat → Int32 → Nat → Int64 → FM → Option (Int32 × FM)) (a0 : Nat) (a1 : Int32) (a2 : Nat) (a4 : Nat) (s0 : Nat) (s1 : Int32) (s2 : Int32) (M : FM) : Option (Int32 × FM) :=
  let x1 : Int32 := (s1 ^^^ s2)
  fi (fm_is M 39 39 s0 = true) (
  fi (x1 = 0 ∨ x1 = 1) (
  let M2 : FM := fm_sI M 115 s0 0 x1
  fi (fm_is M2 32 32 a0 = true) (
  let x3 : Nat := (M2.2.2 101 a0 0)
  fi (fm_is M2 910 990 x3 = true ∧ fm_in M2 x3 (Int32.ofInt 0) = true) (
  fi (fm_is M2 32 32 a0 = true) (
  fi (fm_is M2 32 32 a0 = true) (
  fi (fm_is M2 32 32 a0 = true) (
  fi (fm_is M2 32 32 a0 = true) (
  let x4 : Nat := (M2.2.2 3 x3 (Int32.ofInt 0).toNatClampNeg)
  fi (fm_is M2 34 38 x4 = true) (
  (f3 x4 (M2.2.2 105 a0 0) (M2.2.2 107 a0 0) a4 (M2.2.2 94 a0 0) (M2.2.2 108 a0 0) M2).bind fun M5 =>
  fi (fm_is M5 32 32 a0 = true) (
  fi (fm_is M5 32 32 a0 = true) (
  fi (fm_is M5 33 33 a2 = true) (
  (f5 a2 (M5.2.2 108 a0 0) a4 (M5.2.2 94 a0 0) M5).bind fun r6 =>
  fi (fm_is r6.2 32 32 a0 = true) (
  (f6 a0 a1 a2 r6.1 r6.2).bind fun r7 =>
  some (r7.1, r7.2)) none) none) none) none) none) none) none) none) none) none) none) none) none
noncomputable def FX59_fuse_143 (n : Nat) (a0 : Nat) (a1 : Int32) (a2 : Nat) (a4 : Nat) (s0 : Nat) (s1 : Int32) (s2 : Int32) (M : FM) : Option (Int32 × FM) := BX59_fuse_143 (FX65_run n) (FX61_put n) FX59_write a0 a1 a2 a4 s0 s1 s2 M
noncomputable def BX59_fuse_138 (g143 : Nat → Int32 → Nat → Nat → Nat → Int32 → Int32 → FM → Option (Int32 × FM)) (a0 : Nat) (a1 : Int32) (a2 : Nat) (a4 : Nat) (s0 : Nat) (s1 : Int32) (M : FM) : Option (Int32 × FM) :=
  g143 a0 a1 a2 a4 s0 s1 (Int32.ofInt 1) M
noncomputable def FX59_fuse_138 (n : Nat) (a0 : Nat) (a1 : Int32) (a2 : Nat) (a4 : Nat) (s0 : Nat) (s1 : Int32) (M : FM) : Option (Int32 × FM) := BX59_fuse_138 (FX59_fuse_143 n ) a0 a1 a2 a4 s0 s1 M
noncomputable def BX59_fuse_116 (g138 : Nat → Int32 → Nat → Nat → Nat → Int32 → FM → Option (Int32 × FM)) (g143 : Nat → Int32 → Nat → Nat → Nat → Int32 → Int32 → FM → Option (Int32 × FM)) (a0 : Nat) (a1 : Int32) (a2 : Nat) (a3 : Int32) (a4 : Nat) (s0 : Nat) (s1 : Int32) (s2 : Int32) (M : FM) : Option (Int32 × FM) :=
  let x1 : Int32 := (s1 ^^^ s2)
  fi (fm_is M 39 39 s0 = true) (
  fi (x1 = 0 ∨ x1 = 1) (
  let M2 : FM := fm_sI M 115 s0 0 x1
  fi (fm_is M2 32 32 a0 = true) (
  let x3 : Nat := (M2.2.2 107 a0 0)
  fi (fm_is M2 39 39 x3 = true) (
  fi (a3 = (Int32.ofInt 1)) (
    g138 a0 a1 a2 a4 x3 (M2.1 115 x3 0) M2) (
    fi (a3 = (Int32.ofInt 3)) (
      g138 a0 a1 a2 a4 x3 (M2.1 115 x3 0) M2) (
      g143 a0 a1 a2 a4 x3 (M2.1 115 x3 0) (Int32.ofInt 0) M2))) none) none) none) none
noncomputable def FX59_fuse_116 (n : Nat) (a0 : Nat) (a1 : Int32) (a2 : Nat) (a3 : Int32) (a4 : Nat) (s0 : Nat) (s1 : Int32) (s2 : Int32) (M : FM) : Option (Int32 × FM) := BX59_fuse_116 (FX59_fuse_138 n ) (FX59_fuse_143 n ) a0 a1 a2 a3 a4 s0 s1 s2 M
noncomputable def BX59_fuse_0 (f0 : Nat → Int32 → FM → Option (Nat × FM)) (f1 : Int32 → Int32 → Int32 → FM → Option (Int32 × FM)) (f2 : Nat → Int32 → Nat → Nat → FM → Option (FM)) (f3 : Nat → Nat → Nat → Nat → Nat → Nat → FM → Option (FM)) (f4 : Nat → Nat → FM → Option (FM)) (g116 : Nat → Int32 → Nat → Int32 → Nat → Nat → Int32 → Int32 → FM → Option (Int32 × FM)) (a0 : Nat) (a1 : Int32) (a2 : Nat) (a3 : Int32) (M : FM) : Option (Int32 × FM) :=
  fi (fm_is M 32 32 a0 = true) (
  (f0 a0 a1 M).bind fun r1 =>
  fi (r1.1 = 0) (
    some ((Int32.ofInt (-1)), r1.2)) (
    (f1 a1 (Int32.ofInt 15) (Int32.ofInt 5) r1.2).bind fun r2 =>
    fi (fm_is r2.2 32 32 a0 = true) (
    fi (fm_is r2.2 32 32 a0 = true) (
    (f2 a0 r2.1 a2 (r2.2.2.2 105 a0 0) r2.2).bind fun M3 =>
    (f1 a1 (Int32.ofInt 20) (Int32.ofInt 5) M3).bind fun r4 =>
    fi (fm_is r4.2 32 32 a0 = true) (
    fi (fm_is r4.2 32 32 a0 = true) (
    (f2 a0 r4.1 a2 (r4.2.2.2 106 a0 0) r4.2).bind fun M5 =>
    (f1 a1 (Int32.ofInt 27) (Int32.ofInt 5) M5).bind fun r6 =>
    fi (fm_is r6.2 32 32 a0 = true) (
    fi (fm_is r6.2 32 32 a0 = true) (
    (f2 a0 r6.1 a2 (r6.2.2.2 107 a0 0) r6.2).bind fun M7 =>
    fi (fm_is M7 32 32 a0 = true) (
    fi (fm_is M7 32 32 a0 = true) (
    fi (fm_is M7 32 32 a0 = true) (
    fi (fm_is M7 32 32 a0 = true) (
    fi (fm_is M7 32 32 a0 = true) (
    let x8 : Nat := (M7.2.2 102 a0 0)
    fi (fm_is M7 34 38 x8 = true) (
    (f3 x8 (M7.2.2 105 a0 0) (M7.2.2 106 a0 0) r1.1 (M7.2.2 94 a0 0) (M7.2.2 108 a0 0) M7).bind fun M9 =>
    fi (fm_is M9 32 32 a0 = true) (
    fi (fm_is M9 32 32 a0 = true) (
    let x10 : Nat := (M9.2.2 105 a0 0)
    fi (fm_is M9 39 39 x10 = true) (
    (f4 x10 (M9.2.2 108 a0 0) M9).bind fun M11 =>
    fi (fm_is M11 32 32 a0 = true) (
    let x12 : Nat := (M11.2.2 105 a0 0)
    fi (fm_is M11 39 39 x12 = true) (
    fi (a3 ≤ (Int32.ofInt 1)) (
      g116 a0 a1 a2 a3 r1.1 x12 (M11.1 115 x12 0) (Int32.ofInt 0) M11) (
      g116 a0 a1 a2 a3 r1.1 x12 (M11.1 115 x12 0) (Int32.ofInt 1) M11)) none) none) none) none) none) none) none) none) none) none) none) none) none) none) none) none) none)) none
noncomputable def FX59_fuse_0 (n : Nat) (a0 : Nat) (a1 : Int32) (a2 : Nat) (a3 : Int32) (M : FM) : Option (Int32 × FM) := BX59_fuse_0 FX59_modeOf FX59_part FX59_take (FX65_run n) FX71_copy (FX59_fuse_116 n ) a0 a1 a2 a3 M
noncomputable def FX59_fuse (n : Nat) (a0 : Nat) (a1 : Int32) (a2 : Nat) (a3 : Int32) (M : FM) : Option (Int32 × FM) := FX59_fuse_0 n a0 a1 a2 a3 M
/-! BoardMachine$Floats$FloatUnit.run(IJ)I -/
noncomputable def BX59_run_92 (s0 : Int32) (M : FM) : Option (Int32 × FM) :=
  some (s0, M)
noncomputable def FX59_run_92 (n : Nat) (s0 : Int32) (M : FM) : Option (Int32 × FM) := BX59_run_92 s0 M
noncomputable def BX59_run_91 (g92 : Int32 → FM → Option (Int32 × FM)) (M : FM) : Option (Int32 × FM) :=
  g92 (Int32.ofInt (-1)) M
noncomputable def FX59_run_91 (n : Nat) (M : FM) : Option (Int32 × FM) := BX59_run_91 (FX59_run_92 n ) M
noncomputable def BX59_run_0 (f0 : Int32 → Int32 → Int32 → FM → Option (Int32 × FM)) (f1 : Nat → Int32 → Nat → Int64 → FM → Option (Int32 × FM)) (f2 : Nat → Int32 → Nat → Int32 → FM → Option (Int32 × FM)) (g91 : FM → Option (Int32 × FM)) (g92 : Int32 → FM → Option (Int32 × FM)) (a0 : Nat) (a1 : Int32) (a2 : Int64) (M : FM) : Option (Int32 × FM) :=
  (f0 a1 (Int32.ofInt 0) (Int32.ofInt 7) M).bind fun r1 =>
  (f0 a1 (Int32.ofInt 25) (Int32.ofInt 2) r1.2).bind fun r2 =>
  fi (r2.1 ≤ (Int32.ofInt 1)) (
    fi (r1.1 = (Int32.ofInt 83)) (
      fi (fm_is r2.2 32 32 a0 = true) (
      let x3 : Nat := (r2.2.2.2 98 a0 0)
      fi (fm_is r2.2 910 990 x3 = true ∧ fm_in r2.2 x3 r2.1 = true) (
      fi (fm_is r2.2 32 32 a0 = true) (
      (f1 a0 a1 (r2.2.2.2 3 x3 r2.1.toNatClampNeg) a2 r2.2).bind fun r4 =>
      some (r4.1, r4.2)) none) none) none) (
      fi (r1.1 < (Int32.ofInt 67)) (
        g91 r2.2) (
        fi ((Int32.ofInt 79) < r1.1) (
          g91 r2.2) (
          fi ((r1.1 &&& (Int32.ofInt 3)) = (Int32.ofInt 3)) (
            fi (fm_is r2.2 32 32 a0 = true) (
            let x5 : Nat := (r2.2.2.2 98 a0 0)
            fi (fm_is r2.2 910 990 x5 = true ∧ fm_in r2.2 x5 r2.1 = true) (
            fi (fm_is r2.2 32 32 a0 = true) (
            (f2 a0 a1 (r2.2.2.2 3 x5 r2.1.toNatClampNeg) ((r1.1 - (Int32.ofInt 67)) >>> ((Int32.ofInt 2) &&& 31)) r2.2).bind fun r6 =>
            g92 r6.1 r6.2) none) none) none) (
            g91 r2.2))))) (
    some ((Int32.ofInt (-1)), r2.2))
noncomputable def FX59_run_0 (n : Nat) (a0 : Nat) (a1 : Int32) (a2 : Int64) (M : FM) : Option (Int32 × FM) := BX59_run_0 FX59_part (FX59_operate n) (FX59_fuse n) (FX59_run_91 n ) (FX59_run_92 n ) a0 a1 a2 M
noncomputable def FX59_run (n : Nat) (a0 : Nat) (a1 : Int32) (a2 : Int64) (M : FM) : Option (Int32 × FM) := FX59_run_0 n a0 a1 a2 M
/-! BoardMachine$Processor.floating()Z -/
noncomputable def BX46_floating_140 (a2 : Int32) (M : FM) : Option (Int32 × FM) :=
  fi (a2 = 0 ∨ a2 = 1) (some (a2, M)) none
noncomputable def FX46_floating_140 (n : Nat) (a2 : Int32) (M : FM) : Option (Int32 × FM) := BX46_floating_140 a2 M
noncomputable def BX46_floating_110 (f5 : Nat → FM → Option (Int32 × FM)) (f7 : Nat → Int32 → Int32 → FM → Option (FM)) (f8 : Nat → FM → Option (FM)) (g140 : Int32 → FM → Option (Int32 × FM)) (a0 : Nat) (a2 : Int32) (M : FM) : Option (Int32 × FM) :=
  fi (fm_is M 75 75 a0 = true) (
  let x1 : Nat := (M.2.2 212 a0 0)
  fi (fm_is M 32 32 x1 = true) (
  (f5 x1 M).bind fun r2 =>
  fi (r2.1 = 0) (
    g140 a2 r2.2) (
    fi (fm_is r2.2 75 75 a0 = true) (
    let x3 : Nat := (r2.2.2.2 213 a0 0)
    fi (fm_is r2.2 12 12 x3 = true) (
    let x4 : Nat := (r2.2.2.2 27 x3 0)
    fi (fm_is r2.2 16 16 x4 = true) (
    (f7 x4 (Int32.ofInt 13) (Int32.ofInt 3) r2.2).bind fun M5 =>
    fi (fm_is M5 75 75 a0 = true) (
    let x6 : Nat := (M5.2.2 212 a0 0)
    fi (fm_is M5 32 32 x6 = true) (
    (f8 x6 M5).bind fun M7 =>
    g140 a2 M7) none) none) none) none) none)) none) none
noncomputable def FX46_floating_110 (n : Nat) (a0 : Nat) (a2 : Int32) (M : FM) : Option (Int32 × FM) := BX46_floating_110 FX59_isWritten FX78_putTwo FX59_calm (FX46_floating_140 n ) a0 a2 M
noncomputable def BX46_floating_97 (f9 : Nat → Int32 → Int64 → FM → Option (Int32 × FM)) (g110 : Nat → Int32 → FM → Option (Int32 × FM)) (a0 : Nat) (s0 : Nat) (s1 : Int32) (M : FM) : Option (Int32 × FM) :=
  fi (fm_is M 75 75 a0 = true) (
  let x1 : Nat := (M.2.2 212 a0 0)
  fi (fm_is M 32 32 x1 = true) (
  fi (fm_is M 63 63 s0 = true) (
  (f9 s0 s1 (M.2.1 97 x1 0) M).bind fun r2 =>
  g110 a0 (Int32.ofInt 1) r2.2) none) none) none
noncomputable def FX46_floating_97 (n : Nat) (a0 : Nat) (s0 : Nat) (s1 : Int32) (M : FM) : Option (Int32 × FM) := BX46_floating_97 FX47_finish (FX46_floating_110 n ) a0 s0 s1 M
noncomputable def BX46_floating_0 (f0 : Nat → FM → Option (Int32 × FM)) (f1 : Nat → FM → Option (Int32 × FM)) (f2 : Nat → Int32 → FM → Option (Int64 × FM)) (f3 : Nat → FM → Option (Int32 × FM)) (f4 : Nat → FM → Option (Int32 × FM)) (f6 : Nat → Int32 → Int64 → FM → Option (Int32 × FM)) (g97 : Nat → Nat → Int32 → FM → Option (Int32 × FM)) (g110 : Nat → Int32 → FM → Option (Int32 × FM)) (a0 : Nat) (M : FM) : Option (Int32 × FM) :=
  fi (fm_is M 75 75 a0 = true) (
  let x1 : Nat := (M.2.2 213 a0 0)
  fi (fm_is M 12 12 x1 = true) (
  (f0 x1 M).bind fun r2 =>
  fi (r2.1 = 0) (
    fi (fm_is r2.2 75 75 a0 = true) (
    (f1 a0 r2.2).bind fun r3 =>
    fi (r3.1 = 0 ∨ r3.1 = 1) (some (r3.1, r3.2)) none) none) (
    fi (fm_is r2.2 75 75 a0 = true) (
    let x4 : Nat := (r2.2.2.2 211 a0 0)
    fi (fm_is r2.2 63 63 x4 = true) (
    (f2 x4 (Int32.ofInt 3) r2.2).bind fun r5 =>
    let x6 : Int32 := r5.1.toInt32
    fi (x6 = (Int32.ofInt 7)) (
      fi (fm_is r5.2 75 75 a0 = true) (
      (f3 a0 r5.2).bind fun r7 =>
      g110 a0 r7.1 r7.2) none) (
      fi (x6 = (Int32.ofInt 39)) (
        fi (fm_is r5.2 75 75 a0 = true) (
        (f4 a0 r5.2).bind fun r8 =>
        g110 a0 r8.1 r8.2) none) (
        fi (fm_is r5.2 75 75 a0 = true) (
        fi (fm_is r5.2 75 75 a0 = true) (
        fi (fm_is r5.2 75 75 a0 = true) (
        let x9 : Nat := (r5.2.2.2 211 a0 0)
        fi (fm_is r5.2 63 63 x9 = true) (
        (f2 x9 (Int32.ofInt 2) r5.2).bind fun r10 =>
        let x11 : Nat := (r5.2.2.2 212 a0 0)
        fi (fm_is r10.2 32 32 x11 = true) (
        (f6 x11 (r5.2.1 219 a0 0) r10.1 r10.2).bind fun r12 =>
        fi (r12.1 = (Int32.ofInt (-1))) (
          fi (fm_is r12.2 75 75 a0 = true) (
          (f1 a0 r12.2).bind fun r13 =>
          fi (r13.1 = 0 ∨ r13.1 = 1) (some (r13.1, r13.2)) none) none) (
          fi (fm_is r12.2 75 75 a0 = true) (
          fi (r12.1 = (Int32.ofInt 1)) (
            g97 a0 (r12.2.2.2 211 a0 0) (Int32.ofInt 1) r12.2) (
            g97 a0 (r12.2.2.2 211 a0 0) (Int32.ofInt 0) r12.2)) none)) none) none) none) none) none))) none) none)) none) none
noncomputable def FX46_floating_0 (n : Nat) (a0 : Nat) (M : FM) : Option (Int32 × FM) := BX46_floating_0 FX74_floats FX46_illegal FX47_wanted (FX46_floatLoad n) (FX46_floatStore n) (FX59_run n) (FX46_floating_97 n ) (FX46_floating_110 n ) a0 M
noncomputable def FX46_floating (n : Nat) (a0 : Nat) (M : FM) : Option (Int32 × FM) := FX46_floating_0 n a0 M
/-! BoardMachine$Controls$ControlUnit.backFromMachine()V -/
noncomputable def BX74_backFromMachine_0 (f0 : Nat → Int32 → FM → Option (Int32 × FM)) (f1 : Nat → Int32 → Int32 → FM → Option (FM)) (f2 : Nat → Int32 → FM → Option (Int32 × FM)) (f3 : Nat → Int32 → Int32 → FM → Option (FM)) (f4 : Nat → FM → Option (Int64 × FM)) (f5 : Nat → FM → Option (Int64 × FM)) (f6 : Nat → FM → Option (Int64 × FM)) (a0 : Nat) (M : FM) : Option (FM) :=
  fi (fm_is M 12 12 a0 = true) (
  fi (fm_is M 12 12 a0 = true) (
  let x1 : Nat := (M.2.2 27 a0 0)
  fi (fm_is M 16 16 x1 = true) (
  (f0 x1 (Int32.ofInt 7) M).bind fun r2 =>
  let x3 : Nat := (M.2.2 27 a0 0)
  fi (fm_is r2.2 16 16 x3 = true) (
  (f1 x3 (Int32.ofInt 3) r2.1 r2.2).bind fun M4 =>
  fi (fm_is M4 12 12 a0 = true) (
  let x5 : Nat := (M4.2.2 27 a0 0)
  fi (fm_is M4 16 16 x5 = true) (
  (f1 x5 (Int32.ofInt 7) (Int32.ofInt 1) M4).bind fun M6 =>
  fi (fm_is M6 12 12 a0 = true) (
  let x7 : Nat := (M6.2.2 27 a0 0)
  fi (fm_is M6 16 16 x7 = true) (
  (f2 x7 (Int32.ofInt 11) M6).bind fun r8 =>
  fi (fm_is r8.2 12 12 a0 = true) (
  let M9 : FM := fm_sI r8.2 37 a0 0 r8.1
  fi (fm_is M9 12 12 a0 = true) (
  let x10 : Nat := (M9.2.2 27 a0 0)
  fi (fm_is M9 16 16 x10 = true) (
  (f3 x10 (Int32.ofInt 11) (Int32.ofInt 0) M9).bind fun M11 =>
  fi (fm_is M11 12 12 a0 = true) (
  let x12 : Nat := (M11.2.2 32 a0 0)
  fi (fm_is M11 20 20 x12 = true) (
  let x13 : Nat := (M11.2.2 51 x12 0)
  fi (fm_is M11 14 14 x13 = true) (
  (f4 x13 M11).bind fun r14 =>
  fi (fm_is r14.2 12 12 a0 = true) (
  let M15 : FM := fm_sL r14.2 39 a0 0 r14.1
  some M15) none) (fi (fm_is M11 15 15 x13 = true) (
  (f5 x13 M11).bind fun r16 =>
  fi (fm_is r16.2 12 12 a0 = true) (
  let M17 : FM := fm_sL r16.2 39 a0 0 r16.1
  some M17) none) (fi (fm_is M11 16 16 x13 = true) (
  (f6 x13 M11).bind fun r18 =>
  fi (fm_is r18.2 12 12 a0 = true) (
  let M19 : FM := fm_sL r18.2 39 a0 0 r18.1
  some M19) none) (fi (fm_is M11 17 17 x13 = true) (
  (f4 x13 M11).bind fun r20 =>
  fi (fm_is r20.2 12 12 a0 = true) (
  let M21 : FM := fm_sL r20.2 39 a0 0 r20.1
  some M21) none) (none))))) none) none) none) none) none) none) none) none) none) none) none) none) none
noncomputable def FX74_backFromMachine_0 (a0 : Nat) (M : FM) : Option (FM) := BX74_backFromMachine_0 FX78_has FX78_put FX78_two FX78_putTwo FX77_show FX79_show FX78_show a0 M
noncomputable def FX74_backFromMachine (a0 : Nat) (M : FM) : Option (FM) := FX74_backFromMachine_0 a0 M
/-! BoardMachine$Controls$ControlUnit.backFromSupervisor()V -/
noncomputable def BX74_backFromSupervisor_43 (f1 : Nat → Int32 → Int32 → FM → Option (FM)) (f2 : Nat → FM → Option (Int64 × FM)) (f3 : Nat → FM → Option (Int64 × FM)) (f4 : Nat → FM → Option (Int64 × FM)) (a0 : Nat) (s0 : Nat) (s1 : Int32) (M : FM) : Option (FM) :=
  fi (fm_is M 12 12 s0 = true) (
  let M1 : FM := fm_sI M 37 s0 0 s1
  fi (fm_is M1 12 12 a0 = true) (
  let x2 : Nat := (M1.2.2 27 a0 0)
  fi (fm_is M1 16 16 x2 = true) (
  (f1 x2 (Int32.ofInt 8) (Int32.ofInt 0) M1).bind fun M3 =>
  fi (fm_is M3 12 12 a0 = true) (
  let x4 : Nat := (M3.2.2 33 a0 0)
  fi (fm_is M3 20 20 x4 = true) (
  let x5 : Nat := (M3.2.2 51 x4 0)
  fi (fm_is M3 14 14 x5 = true) (
  (f2 x5 M3).bind fun r6 =>
  fi (fm_is r6.2 12 12 a0 = true) (
  let M7 : FM := fm_sL r6.2 39 a0 0 r6.1
  some M7) none) (fi (fm_is M3 15 15 x5 = true) (
  (f3 x5 M3).bind fun r8 =>
  fi (fm_is r8.2 12 12 a0 = true) (
  let M9 : FM := fm_sL r8.2 39 a0 0 r8.1
  some M9) none) (fi (fm_is M3 16 16 x5 = true) (
  (f4 x5 M3).bind fun r10 =>
  fi (fm_is r10.2 12 12 a0 = true) (
  let M11 : FM := fm_sL r10.2 39 a0 0 r10.1
  some M11) none) (fi (fm_is M3 17 17 x5 = true) (
  (f2 x5 M3).bind fun r12 =>
  fi (fm_is r12.2 12 12 a0 = true) (
  let M13 : FM := fm_sL r12.2 39 a0 0 r12.1
  some M13) none) (none))))) none) none) none) none) none
noncomputable def FX74_backFromSupervisor_43 (a0 : Nat) (s0 : Nat) (s1 : Int32) (M : FM) : Option (FM) := BX74_backFromSupervisor_43 FX78_put FX77_show FX79_show FX78_show a0 s0 s1 M
noncomputable def BX74_backFromSupervisor_0 (f0 : Nat → Int32 → FM → Option (Int32 × FM)) (f1 : Nat → Int32 → Int32 → FM → Option (FM)) (g43 : Nat → Nat → Int32 → FM → Option (FM)) (a0 : Nat) (M : FM) : Option (FM) :=
  fi (fm_is M 12 12 a0 = true) (
  fi (fm_is M 12 12 a0 = true) (
  let x1 : Nat := (M.2.2 27 a0 0)
  fi (fm_is M 16 16 x1 = true) (
  (f0 x1 (Int32.ofInt 5) M).bind fun r2 =>
  let x3 : Nat := (M.2.2 27 a0 0)
  fi (fm_is r2.2 16 16 x3 = true) (
  (f1 x3 (Int32.ofInt 1) r2.1 r2.2).bind fun M4 =>
  fi (fm_is M4 12 12 a0 = true) (
  let x5 : Nat := (M4.2.2 27 a0 0)
  fi (fm_is M4 16 16 x5 = true) (
  (f1 x5 (Int32.ofInt 5) (Int32.ofInt 1) M4).bind fun M6 =>
  fi (fm_is M6 12 12 a0 = true) (
  let x7 : Nat := (M6.2.2 27 a0 0)
  fi (fm_is M6 16 16 x7 = true) (
  (f0 x7 (Int32.ofInt 8) M6).bind fun r8 =>
  fi (r8.1 = 0) (
    g43 a0 a0 (Int32.ofInt 0) r8.2) (
    g43 a0 a0 (Int32.ofInt 1) r8.2)) none) none) none) none) none) none) none) none
noncomputable def FX74_backFromSupervisor_0 (a0 : Nat) (M : FM) : Option (FM) := BX74_backFromSupervisor_0 FX78_has FX78_put FX74_backFromSupervisor_43 a0 M
noncomputable def FX74_backFromSupervisor (a0 : Nat) (M : FM) : Option (FM) := FX74_backFromSupervisor_0 a0 M
/-! BoardMachine$Controls$ControlUnit.back(Z)Z -/
noncomputable def BX74_back_66 (M : FM) : Option (Int32 × FM) :=
  fi ((Int32.ofInt 1) = 0 ∨ (Int32.ofInt 1) = 1) (some ((Int32.ofInt 1), M)) none
noncomputable def FX74_back_66 (M : FM) : Option (Int32 × FM) := BX74_back_66 M
noncomputable def BX74_back_48 (f3 : Nat → Int32 → Int32 → FM → Option (FM)) (g66 : FM → Option (Int32 × FM)) (a0 : Nat) (M : FM) : Option (Int32 × FM) :=
  fi (fm_is M 12 12 a0 = true) (
  fi ((M.1 37 a0 0) = (Int32.ofInt 3)) (
    g66 M) (
    fi (fm_is M 12 12 a0 = true) (
    let x1 : Nat := (M.2.2 27 a0 0)
    fi (fm_is M 16 16 x1 = true) (
    (f3 x1 (Int32.ofInt 17) (Int32.ofInt 0) M).bind fun M2 =>
    g66 M2) none) none)) none
noncomputable def FX74_back_48 (a0 : Nat) (M : FM) : Option (Int32 × FM) := BX74_back_48 FX78_put FX74_back_66 a0 M
noncomputable def BX74_back_33 (f0 : Nat → FM → Option (FM)) (f1 : Nat → FM → Option (FM)) (g48 : Nat → FM → Option (Int32 × FM)) (a0 : Nat) (a1 : Int32) (M : FM) : Option (Int32 × FM) :=
  fi (a1 = 0) (
    fi (fm_is M 12 12 a0 = true) (
    (f1 a0 M).bind fun M1 =>
    g48 a0 M1) none) (
    fi (fm_is M 12 12 a0 = true) (
    (f0 a0 M).bind fun M2 =>
    g48 a0 M2) none)
noncomputable def FX74_back_33 (a0 : Nat) (a1 : Int32) (M : FM) : Option (Int32 × FM) := BX74_back_33 FX74_backFromMachine FX74_backFromSupervisor FX74_back_48 a0 a1 M
noncomputable def BX74_back_31 (M : FM) : Option (Int32 × FM) :=
  fi ((Int32.ofInt 0) = 0 ∨ (Int32.ofInt 0) = 1) (some ((Int32.ofInt 0), M)) none
noncomputable def FX74_back_31 (M : FM) : Option (Int32 × FM) := BX74_back_31 M
noncomputable def BX74_back_0 (f2 : Nat → Int32 → FM → Option (Int32 × FM)) (g31 : FM → Option (Int32 × FM)) (g33 : Nat → Int32 → FM → Option (Int32 × FM)) (a0 : Nat) (a1 : Int32) (M : FM) : Option (Int32 × FM) :=
  fi (fm_is M 12 12 a0 = true) (
  fi ((M.1 37 a0 0) = (Int32.ofInt 3)) (
    g33 a0 a1 M) (
    fi (a1 = 0) (
      fi (fm_is M 12 12 a0 = true) (
      fi ((M.1 37 a0 0) = 0) (
        g31 M) (
        fi (fm_is M 12 12 a0 = true) (
        let x1 : Nat := (M.2.2 27 a0 0)
        fi (fm_is M 16 16 x1 = true) (
        (f2 x1 (Int32.ofInt 22) M).bind fun r2 =>
        fi (r2.1 = 0) (
          g33 a0 a1 r2.2) (
          g31 r2.2)) none) none)) none) (
      g31 M))) none
noncomputable def FX74_back_0 (a0 : Nat) (a1 : Int32) (M : FM) : Option (Int32 × FM) := BX74_back_0 FX78_has FX74_back_31 FX74_back_33 a0 a1 M
noncomputable def FX74_back (a0 : Nat) (a1 : Int32) (M : FM) : Option (Int32 × FM) := FX74_back_0 a0 a1 M
/-! BoardMachine$Processor.back(Z)Z -/
noncomputable def BX46_back_0 (f0 : Nat → Int32 → FM → Option (Int32 × FM)) (f1 : Nat → FM → Option (Int32 × FM)) (f2 : Nat → Int64 → FM → Option (FM)) (a0 : Nat) (a1 : Int32) (M : FM) : Option (Int32 × FM) :=
  fi (fm_is M 75 75 a0 = true) (
  let x1 : Nat := (M.2.2 213 a0 0)
  fi (fm_is M 12 12 x1 = true) (
  (f0 x1 a1 M).bind fun r2 =>
  fi (r2.1 = 0) (
    fi (fm_is r2.2 75 75 a0 = true) (
    (f1 a0 r2.2).bind fun r3 =>
    fi (r3.1 = 0 ∨ r3.1 = 1) (some (r3.1, r3.2)) none) none) (
    fi (fm_is r2.2 75 75 a0 = true) (
    fi (fm_is r2.2 75 75 a0 = true) (
    let x4 : Nat := (r2.2.2.2 213 a0 0)
    fi (fm_is r2.2 12 12 x4 = true) (
    let x5 : Nat := (r2.2.2.2 211 a0 0)
    fi (fm_is r2.2 63 63 x5 = true) (
    (f2 x5 (r2.2.2.1 39 x4 0) r2.2).bind fun M6 =>
    fi ((Int32.ofInt 1) = 0 ∨ (Int32.ofInt 1) = 1) (some ((Int32.ofInt 1), M6)) none) none) none) none) none)) none) none
noncomputable def FX46_back_0 (a0 : Nat) (a1 : Int32) (M : FM) : Option (Int32 × FM) := BX46_back_0 FX74_back FX46_illegal FX47_jump a0 a1 M
noncomputable def FX46_back (a0 : Nat) (a1 : Int32) (M : FM) : Option (Int32 × FM) := FX46_back_0 a0 a1 M
/-! BoardMachine$Controls$ControlUnit.allowed(I)Z -/
noncomputable def BX74_allowed_42 (s0 : Int32) (M : FM) : Option (Int32 × FM) :=
  fi (s0 = 0 ∨ s0 = 1) (some (s0, M)) none
noncomputable def FX74_allowed_42 (s0 : Int32) (M : FM) : Option (Int32 × FM) := BX74_allowed_42 s0 M
noncomputable def BX74_allowed_41 (g42 : Int32 → FM → Option (Int32 × FM)) (M : FM) : Option (Int32 × FM) :=
  g42 (Int32.ofInt 0) M
noncomputable def FX74_allowed_41 (M : FM) : Option (Int32 × FM) := BX74_allowed_41 FX74_allowed_42 M
noncomputable def BX74_allowed_37 (g42 : Int32 → FM → Option (Int32 × FM)) (M : FM) : Option (Int32 × FM) :=
  g42 (Int32.ofInt 1) M
noncomputable def FX74_allowed_37 (M : FM) : Option (Int32 × FM) := BX74_allowed_37 FX74_allowed_42 M
noncomputable def BX74_allowed_31 (f0 : Nat → Int32 → FM → Option (Int32 × FM)) (g37 : FM → Option (Int32 × FM)) (g41 : FM → Option (Int32 × FM)) (s0 : Nat) (s1 : Int32) (M : FM) : Option (Int32 × FM) :=
  fi (fm_is M 16 16 s0 = true) (
  (f0 s0 s1 M).bind fun r1 =>
  fi (r1.1 = 0) (
    g37 r1.2) (
    g41 r1.2)) none
noncomputable def FX74_allowed_31 (s0 : Nat) (s1 : Int32) (M : FM) : Option (Int32 × FM) := BX74_allowed_31 FX78_has FX74_allowed_37 FX74_allowed_41 s0 s1 M
noncomputable def BX74_allowed_0 (g31 : Nat → Int32 → FM → Option (Int32 × FM)) (g37 : FM → Option (Int32 × FM)) (g41 : FM → Option (Int32 × FM)) (a0 : Nat) (a1 : Int32) (M : FM) : Option (Int32 × FM) :=
  fi (fm_is M 12 12 a0 = true) (
  fi ((M.1 37 a0 0) = (Int32.ofInt 3)) (
    g37 M) (
    fi (fm_is M 12 12 a0 = true) (
    fi ((M.1 37 a0 0) = (Int32.ofInt 1)) (
      fi (fm_is M 12 12 a0 = true) (
      fi (a1 = 0) (
        g31 (M.2.2 27 a0 0) (Int32.ofInt 21) M) (
        g31 (M.2.2 27 a0 0) (Int32.ofInt 20) M)) none) (
      g41 M)) none)) none
noncomputable def FX74_allowed_0 (a0 : Nat) (a1 : Int32) (M : FM) : Option (Int32 × FM) := BX74_allowed_0 FX74_allowed_31 FX74_allowed_37 FX74_allowed_41 a0 a1 M
noncomputable def FX74_allowed (a0 : Nat) (a1 : Int32) (M : FM) : Option (Int32 × FM) := FX74_allowed_0 a0 a1 M
/-! BoardMachine$Processor.idle(Z)Z -/
noncomputable def BX46_idle_13 (f0 : Nat → Int32 → FM → Option (Int32 × FM)) (f1 : Nat → FM → Option (Int32 × FM)) (f2 : Nat → Int32 → Int64 → FM → Option (Int32 × FM)) (a0 : Nat) (a1 : Int32) (s0 : Nat) (s1 : Int32) (M : FM) : Option (Int32 × FM) :=
  fi (fm_is M 12 12 s0 = true) (
  (f0 s0 s1 M).bind fun r1 =>
  fi (r1.1 = 0) (
    fi (fm_is r1.2 75 75 a0 = true) (
    (f1 a0 r1.2).bind fun r2 =>
    fi (r2.1 = 0 ∨ r2.1 = 1) (some (r2.1, r2.2)) none) none) (
    fi (fm_is r1.2 75 75 a0 = true) (
    fi (a1 = 0 ∨ a1 = 1) (
    let M3 : FM := fm_sI r1.2 218 a0 0 a1
    fi (fm_is M3 75 75 a0 = true) (
    let x4 : Nat := (M3.2.2 211 a0 0)
    fi (fm_is M3 63 63 x4 = true) (
    (f2 x4 (Int32.ofInt 0) (Int64.ofInt 0) M3).bind fun r5 =>
    fi ((Int32.ofInt 1) = 0 ∨ (Int32.ofInt 1) = 1) (some ((Int32.ofInt 1), r5.2)) none) none) none) none) none)) none
noncomputable def FX46_idle_13 (a0 : Nat) (a1 : Int32) (s0 : Nat) (s1 : Int32) (M : FM) : Option (Int32 × FM) := BX46_idle_13 FX74_allowed FX46_illegal FX47_finish a0 a1 s0 s1 M
noncomputable def BX46_idle_0 (g13 : Nat → Int32 → Nat → Int32 → FM → Option (Int32 × FM)) (a0 : Nat) (a1 : Int32) (M : FM) : Option (Int32 × FM) :=
  fi (fm_is M 75 75 a0 = true) (
  fi (a1 = 0) (
    g13 a0 a1 (M.2.2 213 a0 0) (Int32.ofInt 1) M) (
    g13 a0 a1 (M.2.2 213 a0 0) (Int32.ofInt 0) M)) none
noncomputable def FX46_idle_0 (a0 : Nat) (a1 : Int32) (M : FM) : Option (Int32 × FM) := BX46_idle_0 FX46_idle_13 a0 a1 M
noncomputable def FX46_idle (a0 : Nat) (a1 : Int32) (M : FM) : Option (Int32 × FM) := FX46_idle_0 a0 a1 M
/-! BoardMachine$Processor.system(I)Z -/
noncomputable def BX46_system_65 (f0 : Nat → FM → Option (Int32 × FM)) (f1 : Nat → Int32 → FM → Option (Int32 × FM)) (f2 : Nat → Int32 → FM → Option (Int32 × FM)) (f3 : Nat → FM → Option (Int64 × FM)) (f4 : Nat → Int32 → Int64 → FM → Option (Int32 × FM)) (a0 : Nat) (a1 : Int32) (a2 : Int32) (M : FM) : Option (Int32 × FM) :=
  fi (a2 = 0) (
    fi (fm_is M 75 75 a0 = true) (
    (f0 a0 M).bind fun r1 =>
    fi (r1.1 = 0 ∨ r1.1 = 1) (some (r1.1, r1.2)) none) none) (
    fi (a1 = (Int32.ofInt 0)) (
      fi (fm_is M 75 75 a0 = true) (
      let x2 : Nat := (M.2.2 213 a0 0)
      fi (fm_is M 12 12 x2 = true) (
      fi (fm_is M 75 75 a0 = true) (
      (f4 a0 ((Int32.ofInt 8) + (M.1 37 x2 0)) (Int64.ofInt 0) M).bind fun r3 =>
      fi (r3.1 = 0 ∨ r3.1 = 1) (some (r3.1, r3.2)) none) none) none) none) (
    fi (a1 = (Int32.ofInt 1)) (
      fi (fm_is M 75 75 a0 = true) (
      (f3 a0 M).bind fun r4 =>
      fi (fm_is r4.2 75 75 a0 = true) (
      (f4 a0 (Int32.ofInt 3) r4.1 r4.2).bind fun r5 =>
      fi (r5.1 = 0 ∨ r5.1 = 1) (some (r5.1, r5.2)) none) none) none) (
    fi (a1 = (Int32.ofInt 258)) (
      fi (fm_is M 75 75 a0 = true) (
      (f1 a0 (Int32.ofInt 0) M).bind fun r6 =>
      fi (r6.1 = 0 ∨ r6.1 = 1) (some (r6.1, r6.2)) none) none) (
    fi (a1 = (Int32.ofInt 261)) (
      fi (fm_is M 75 75 a0 = true) (
      (f2 a0 (Int32.ofInt 1) M).bind fun r7 =>
      fi (r7.1 = 0 ∨ r7.1 = 1) (some (r7.1, r7.2)) none) none) (
    fi (a1 = (Int32.ofInt 770)) (
      fi (fm_is M 75 75 a0 = true) (
      (f1 a0 (Int32.ofInt 1) M).bind fun r8 =>
      fi (r8.1 = 0 ∨ r8.1 = 1) (some (r8.1, r8.2)) none) none) (
    fi (fm_is M 75 75 a0 = true) (
      (f0 a0 M).bind fun r9 =>
      fi (r9.1 = 0 ∨ r9.1 = 1) (some (r9.1, r9.2)) none) none))))))
noncomputable def FX46_system_65 (a0 : Nat) (a1 : Int32) (a2 : Int32) (M : FM) : Option (Int32 × FM) := BX46_system_65 FX46_illegal FX46_back FX46_idle FX46_counter FX46_raise a0 a1 a2 M
noncomputable def BX46_system_31 (f2 : Nat → Int32 → FM → Option (Int32 × FM)) (g65 : Nat → Int32 → Int32 → FM → Option (Int32 × FM)) (a0 : Nat) (a1 : Int32) (s0 : Int32) (M : FM) : Option (Int32 × FM) :=
  fi (a1 < (Int32.ofInt 288)) (
    g65 a0 a1 s0 M) (
    fi ((Int32.ofInt 320) ≤ a1) (
      g65 a0 a1 s0 M) (
      fi (fm_is M 75 75 a0 = true) (
      fi ((((M.1 219 a0 0).toUInt32 >>> ((Int32.ofInt 7).toUInt32 &&& Int32.toUInt32 31)).toInt32 &&& (Int32.ofInt 31)) = 0) (
        fi (fm_is M 75 75 a0 = true) (
        (f2 a0 (Int32.ofInt 0) M).bind fun r1 =>
        fi (r1.1 = 0 ∨ r1.1 = 1) (some (r1.1, r1.2)) none) none) (
        g65 a0 a1 s0 M)) none))
noncomputable def FX46_system_31 (a0 : Nat) (a1 : Int32) (s0 : Int32) (M : FM) : Option (Int32 × FM) := BX46_system_31 FX46_idle FX46_system_65 a0 a1 s0 M
noncomputable def BX46_system_30 (g31 : Nat → Int32 → Int32 → FM → Option (Int32 × FM)) (a0 : Nat) (a1 : Int32) (M : FM) : Option (Int32 × FM) :=
  g31 a0 a1 (Int32.ofInt 0) M
noncomputable def FX46_system_30 (a0 : Nat) (a1 : Int32) (M : FM) : Option (Int32 × FM) := BX46_system_30 FX46_system_31 a0 a1 M
noncomputable def BX46_system_0 (g30 : Nat → Int32 → FM → Option (Int32 × FM)) (g31 : Nat → Int32 → Int32 → FM → Option (Int32 × FM)) (a0 : Nat) (a1 : Int32) (M : FM) : Option (Int32 × FM) :=
  fi (fm_is M 75 75 a0 = true) (
  fi ((((M.1 219 a0 0).toUInt32 >>> ((Int32.ofInt 15).toUInt32 &&& Int32.toUInt32 31)).toInt32 &&& (Int32.ofInt 31)) = 0) (
    fi (fm_is M 75 75 a0 = true) (
    fi ((((M.1 219 a0 0).toUInt32 >>> ((Int32.ofInt 7).toUInt32 &&& Int32.toUInt32 31)).toInt32 &&& (Int32.ofInt 31)) = 0) (
      g31 a0 a1 (Int32.ofInt 1) M) (
      g30 a0 a1 M)) none) (
    g30 a0 a1 M)) none
noncomputable def FX46_system_0 (a0 : Nat) (a1 : Int32) (M : FM) : Option (Int32 × FM) := BX46_system_0 FX46_system_30 FX46_system_31 a0 a1 M
noncomputable def FX46_system (a0 : Nat) (a1 : Int32) (M : FM) : Option (Int32 × FM) := FX46_system_0 a0 a1 M
/-! BoardMachine$Controls$ControlUnit.mayCount(I)Z -/
noncomputable def BX74_mayCount_68 (s0 : Int32) (M : FM) : Option (Int32 × FM) :=
  fi (s0 = 0 ∨ s0 = 1) (some (s0, M)) none
noncomputable def FX74_mayCount_68 (s0 : Int32) (M : FM) : Option (Int32 × FM) := BX74_mayCount_68 s0 M
noncomputable def BX74_mayCount_67 (g68 : Int32 → FM → Option (Int32 × FM)) (M : FM) : Option (Int32 × FM) :=
  g68 (Int32.ofInt 0) M
noncomputable def FX74_mayCount_67 (M : FM) : Option (Int32 × FM) := BX74_mayCount_67 FX74_mayCount_68 M
noncomputable def BX74_mayCount_63 (g68 : Int32 → FM → Option (Int32 × FM)) (M : FM) : Option (Int32 × FM) :=
  g68 (Int32.ofInt 1) M
noncomputable def FX74_mayCount_63 (M : FM) : Option (Int32 × FM) := BX74_mayCount_63 FX74_mayCount_68 M
noncomputable def BX74_mayCount_32 (f0 : Nat → FM → Option (Int64 × FM)) (f1 : Nat → FM → Option (Int64 × FM)) (f2 : Nat → FM → Option (Int64 × FM)) (g63 : FM → Option (Int32 × FM)) (g67 : FM → Option (Int32 × FM)) (a0 : Nat) (a1 : Int32) (s0 : Int32) (M : FM) : Option (Int32 × FM) :=
  fi (s0 = 0) (
    g67 M) (
    fi (fm_is M 12 12 a0 = true) (
    fi ((M.1 37 a0 0) = 0) (
      fi (fm_is M 12 12 a0 = true) (
      let x1 : Nat := (M.2.2 33 a0 0)
      fi (fm_is M 20 20 x1 = true) (
      let x2 : Nat := (M.2.2 54 x1 0)
      fi (fm_is M 14 14 x2 = true) (
      (f0 x2 M).bind fun r3 =>
      fi ((lg_cmp ((r3.1 >>> (a1.toInt64 &&& 63)) &&& (Int64.ofInt 1)) (Int64.ofInt 1)) = 0) (
        g63 r3.2) (
        g67 r3.2)) (fi (fm_is M 15 15 x2 = true) (
      (f1 x2 M).bind fun r4 =>
      fi ((lg_cmp ((r4.1 >>> (a1.toInt64 &&& 63)) &&& (Int64.ofInt 1)) (Int64.ofInt 1)) = 0) (
        g63 r4.2) (
        g67 r4.2)) (fi (fm_is M 16 16 x2 = true) (
      (f2 x2 M).bind fun r5 =>
      fi ((lg_cmp ((r5.1 >>> (a1.toInt64 &&& 63)) &&& (Int64.ofInt 1)) (Int64.ofInt 1)) = 0) (
        g63 r5.2) (
        g67 r5.2)) (fi (fm_is M 17 17 x2 = true) (
      (f0 x2 M).bind fun r6 =>
      fi ((lg_cmp ((r6.1 >>> (a1.toInt64 &&& 63)) &&& (Int64.ofInt 1)) (Int64.ofInt 1)) = 0) (
        g63 r6.2) (
        g67 r6.2)) (none))))) none) none) (
      g63 M)) none)
noncomputable def FX74_mayCount_32 (a0 : Nat) (a1 : Int32) (s0 : Int32) (M : FM) : Option (Int32 × FM) := BX74_mayCount_32 FX77_show FX79_show FX78_show FX74_mayCount_63 FX74_mayCount_67 a0 a1 s0 M
noncomputable def BX74_mayCount_27 (g32 : Nat → Int32 → Int32 → FM → Option (Int32 × FM)) (a0 : Nat) (a1 : Int32) (M : FM) : Option (Int32 × FM) :=
  g32 a0 a1 (Int32.ofInt 1) M
noncomputable def FX74_mayCount_27 (a0 : Nat) (a1 : Int32) (M : FM) : Option (Int32 × FM) := BX74_mayCount_27 FX74_mayCount_32 a0 a1 M
noncomputable def BX74_mayCount_0 (f0 : Nat → FM → Option (Int64 × FM)) (f1 : Nat → FM → Option (Int64 × FM)) (f2 : Nat → FM → Option (Int64 × FM)) (g27 : Nat → Int32 → FM → Option (Int32 × FM)) (g32 : Nat → Int32 → Int32 → FM → Option (Int32 × FM)) (a0 : Nat) (a1 : Int32) (M : FM) : Option (Int32 × FM) :=
  fi (fm_is M 12 12 a0 = true) (
  fi ((M.1 37 a0 0) = (Int32.ofInt 3)) (
    g27 a0 a1 M) (
    fi (fm_is M 12 12 a0 = true) (
    let x1 : Nat := (M.2.2 32 a0 0)
    fi (fm_is M 20 20 x1 = true) (
    let x2 : Nat := (M.2.2 54 x1 0)
    fi (fm_is M 14 14 x2 = true) (
    (f0 x2 M).bind fun r3 =>
    fi ((lg_cmp ((r3.1 >>> (a1.toInt64 &&& 63)) &&& (Int64.ofInt 1)) (Int64.ofInt 1)) = 0) (
      g27 a0 a1 r3.2) (
      g32 a0 a1 (Int32.ofInt 0) r3.2)) (fi (fm_is M 15 15 x2 = true) (
    (f1 x2 M).bind fun r4 =>
    fi ((lg_cmp ((r4.1 >>> (a1.toInt64 &&& 63)) &&& (Int64.ofInt 1)) (Int64.ofInt 1)) = 0) (
      g27 a0 a1 r4.2) (
      g32 a0 a1 (Int32.ofInt 0) r4.2)) (fi (fm_is M 16 16 x2 = true) (
    (f2 x2 M).bind fun r5 =>
    fi ((lg_cmp ((r5.1 >>> (a1.toInt64 &&& 63)) &&& (Int64.ofInt 1)) (Int64.ofInt 1)) = 0) (
      g27 a0 a1 r5.2) (
      g32 a0 a1 (Int32.ofInt 0) r5.2)) (fi (fm_is M 17 17 x2 = true) (
    (f0 x2 M).bind fun r6 =>
    fi ((lg_cmp ((r6.1 >>> (a1.toInt64 &&& 63)) &&& (Int64.ofInt 1)) (Int64.ofInt 1)) = 0) (
      g27 a0 a1 r6.2) (
      g32 a0 a1 (Int32.ofInt 0) r6.2)) (none))))) none) none)) none
noncomputable def FX74_mayCount_0 (a0 : Nat) (a1 : Int32) (M : FM) : Option (Int32 × FM) := BX74_mayCount_0 FX77_show FX79_show FX78_show FX74_mayCount_27 FX74_mayCount_32 a0 a1 M
noncomputable def FX74_mayCount (a0 : Nat) (a1 : Int32) (M : FM) : Option (Int32 × FM) := FX74_mayCount_0 a0 a1 M
/-! BoardMachine$Controls$ControlUnit.isIllegal(IZ)Z -/
noncomputable def BX74_isIllegal_160 (s0 : Int32) (M : FM) : Option (Int32 × FM) :=
  fi (s0 = 0 ∨ s0 = 1) (some (s0, M)) none
noncomputable def FX74_isIllegal_160 (s0 : Int32) (M : FM) : Option (Int32 × FM) := BX74_isIllegal_160 s0 M
noncomputable def BX74_isIllegal_155 (g160 : Int32 → FM → Option (Int32 × FM)) (M : FM) : Option (Int32 × FM) :=
  g160 (Int32.ofInt 1) M
noncomputable def FX74_isIllegal_155 (M : FM) : Option (Int32 × FM) := BX74_isIllegal_155 FX74_isIllegal_160 M
noncomputable def BX74_isIllegal_120 (g155 : FM → Option (Int32 × FM)) (g160 : Int32 → FM → Option (Int32 × FM)) (a0 : Nat) (a1 : Int32) (a3 : Int32) (a4 : Int32) (a5 : Int32) (a6 : Int32) (s0 : Int32) (M : FM) : Option (Int32 × FM) :=
  fi (fm_is M 12 12 a0 = true) (
  let x1 : Nat := (M.2.2 25 a0 0)
  fi (fm_is M 910 990 x1 = true ∧ fm_in M x1 a1 = true) (
  fi ((M.2.2 3 x1 a1.toNatClampNeg) = 0) (
    g155 M) (
    fi (a3 = 0) (
      fi (a4 = 0) (
        fi (a5 = 0) (
          fi (a6 = 0) (
            fi (s0 = 0) (
              g160 (Int32.ofInt 0) M) (
              g155 M)) (
            g155 M)) (
          g155 M)) (
        g155 M)) (
      g155 M))) none) none
noncomputable def FX74_isIllegal_120 (a0 : Nat) (a1 : Int32) (a3 : Int32) (a4 : Int32) (a5 : Int32) (a6 : Int32) (s0 : Int32) (M : FM) : Option (Int32 × FM) := BX74_isIllegal_120 FX74_isIllegal_155 FX74_isIllegal_160 a0 a1 a3 a4 a5 a6 s0 M
noncomputable def BX74_isIllegal_119 (g120 : Nat → Int32 → Int32 → Int32 → Int32 → Int32 → Int32 → FM → Option (Int32 × FM)) (a0 : Nat) (a1 : Int32) (a3 : Int32) (a4 : Int32) (a5 : Int32) (a6 : Int32) (M : FM) : Option (Int32 × FM) :=
  g120 a0 a1 a3 a4 a5 a6 (Int32.ofInt 0) M
noncomputable def FX74_isIllegal_119 (a0 : Nat) (a1 : Int32) (a3 : Int32) (a4 : Int32) (a5 : Int32) (a6 : Int32) (M : FM) : Option (Int32 × FM) := BX74_isIllegal_119 FX74_isIllegal_120 a0 a1 a3 a4 a5 a6 M
noncomputable def BX74_isIllegal_89 (f2 : Nat → Int32 → FM → Option (Int32 × FM)) (g119 : Nat → Int32 → Int32 → Int32 → Int32 → Int32 → FM → Option (Int32 × FM)) (g120 : Nat → Int32 → Int32 → Int32 → Int32 → Int32 → Int32 → FM → Option (Int32 × FM)) (a0 : Nat) (a1 : Int32) (a3 : Int32) (a4 : Int32) (a5 : Int32) (s0 : Int32) (M : FM) : Option (Int32 × FM) :=
  fi (a1 < (Int32.ofInt 3072)) (
    g119 a0 a1 a3 a4 a5 s0 M) (
    fi ((Int32.ofInt 3074) < a1) (
      g119 a0 a1 a3 a4 a5 s0 M) (
      fi (fm_is M 12 12 a0 = true) (
      (f2 a0 (a1 &&& (Int32.ofInt 3)) M).bind fun r1 =>
      fi (r1.1 = 0) (
        g120 a0 a1 a3 a4 a5 s0 (Int32.ofInt 1) r1.2) (
        g119 a0 a1 a3 a4 a5 s0 r1.2)) none))
noncomputable def FX74_isIllegal_89 (a0 : Nat) (a1 : Int32) (a3 : Int32) (a4 : Int32) (a5 : Int32) (s0 : Int32) (M : FM) : Option (Int32 × FM) := BX74_isIllegal_89 FX74_mayCount FX74_isIllegal_119 FX74_isIllegal_120 a0 a1 a3 a4 a5 s0 M
noncomputable def BX74_isIllegal_88 (g89 : Nat → Int32 → Int32 → Int32 → Int32 → Int32 → FM → Option (Int32 × FM)) (a0 : Nat) (a1 : Int32) (a3 : Int32) (a4 : Int32) (a5 : Int32) (M : FM) : Option (Int32 × FM) :=
  g89 a0 a1 a3 a4 a5 (Int32.ofInt 0) M
noncomputable def FX74_isIllegal_88 (a0 : Nat) (a1 : Int32) (a3 : Int32) (a4 : Int32) (a5 : Int32) (M : FM) : Option (Int32 × FM) := BX74_isIllegal_88 FX74_isIllegal_89 a0 a1 a3 a4 a5 M
noncomputable def BX74_isIllegal_70 (f0 : Nat → FM → Option (Int32 × FM)) (g88 : Nat → Int32 → Int32 → Int32 → Int32 → FM → Option (Int32 × FM)) (g89 : Nat → Int32 → Int32 → Int32 → Int32 → Int32 → FM → Option (Int32 × FM)) (a0 : Nat) (a1 : Int32) (a3 : Int32) (a4 : Int32) (s0 : Int32) (M : FM) : Option (Int32 × FM) :=
  fi ((Int32.ofInt 4) ≤ a1) (
    g88 a0 a1 a3 a4 s0 M) (
    fi (fm_is M 12 12 a0 = true) (
    (f0 a0 M).bind fun r1 =>
    fi (r1.1 = 0) (
      g89 a0 a1 a3 a4 s0 (Int32.ofInt 1) r1.2) (
      g88 a0 a1 a3 a4 s0 r1.2)) none)
noncomputable def FX74_isIllegal_70 (a0 : Nat) (a1 : Int32) (a3 : Int32) (a4 : Int32) (s0 : Int32) (M : FM) : Option (Int32 × FM) := BX74_isIllegal_70 FX74_floats FX74_isIllegal_88 FX74_isIllegal_89 a0 a1 a3 a4 s0 M
noncomputable def BX74_isIllegal_69 (g70 : Nat → Int32 → Int32 → Int32 → Int32 → FM → Option (Int32 × FM)) (a0 : Nat) (a1 : Int32) (a3 : Int32) (a4 : Int32) (M : FM) : Option (Int32 × FM) :=
  g70 a0 a1 a3 a4 (Int32.ofInt 0) M
noncomputable def FX74_isIllegal_69 (a0 : Nat) (a1 : Int32) (a3 : Int32) (a4 : Int32) (M : FM) : Option (Int32 × FM) := BX74_isIllegal_69 FX74_isIllegal_70 a0 a1 a3 a4 M
noncomputable def BX74_isIllegal_36 (f1 : Nat → Int32 → FM → Option (Int32 × FM)) (g69 : Nat → Int32 → Int32 → Int32 → FM → Option (Int32 × FM)) (g70 : Nat → Int32 → Int32 → Int32 → Int32 → FM → Option (Int32 × FM)) (a0 : Nat) (a1 : Int32) (a3 : Int32) (s0 : Int32) (M : FM) : Option (Int32 × FM) :=
  fi (a1 = (Int32.ofInt 384)) (
    fi (fm_is M 12 12 a0 = true) (
    fi ((M.1 37 a0 0) = (Int32.ofInt 1)) (
      fi (fm_is M 12 12 a0 = true) (
      let x1 : Nat := (M.2.2 27 a0 0)
      fi (fm_is M 16 16 x1 = true) (
      (f1 x1 (Int32.ofInt 20) M).bind fun r2 =>
      fi (r2.1 = 0) (
        g69 a0 a1 a3 s0 r2.2) (
        g70 a0 a1 a3 s0 (Int32.ofInt 1) r2.2)) none) none) (
      g69 a0 a1 a3 s0 M)) none) (
    g69 a0 a1 a3 s0 M)
noncomputable def FX74_isIllegal_36 (a0 : Nat) (a1 : Int32) (a3 : Int32) (s0 : Int32) (M : FM) : Option (Int32 × FM) := BX74_isIllegal_36 FX78_has FX74_isIllegal_69 FX74_isIllegal_70 a0 a1 a3 s0 M
noncomputable def BX74_isIllegal_35 (g36 : Nat → Int32 → Int32 → Int32 → FM → Option (Int32 × FM)) (a0 : Nat) (a1 : Int32) (a3 : Int32) (M : FM) : Option (Int32 × FM) :=
  g36 a0 a1 a3 (Int32.ofInt 0) M
noncomputable def FX74_isIllegal_35 (a0 : Nat) (a1 : Int32) (a3 : Int32) (M : FM) : Option (Int32 × FM) := BX74_isIllegal_35 FX74_isIllegal_36 a0 a1 a3 M
noncomputable def BX74_isIllegal_18 (g35 : Nat → Int32 → Int32 → FM → Option (Int32 × FM)) (g36 : Nat → Int32 → Int32 → Int32 → FM → Option (Int32 × FM)) (a0 : Nat) (a1 : Int32) (a2 : Int32) (s0 : Int32) (M : FM) : Option (Int32 × FM) :=
  fi (a2 = 0) (
    g35 a0 a1 s0 M) (
    fi ((a1 >>> ((Int32.ofInt 10) &&& 31)) = (Int32.ofInt 3)) (
      g36 a0 a1 s0 (Int32.ofInt 1) M) (
      g35 a0 a1 s0 M))
noncomputable def FX74_isIllegal_18 (a0 : Nat) (a1 : Int32) (a2 : Int32) (s0 : Int32) (M : FM) : Option (Int32 × FM) := BX74_isIllegal_18 FX74_isIllegal_35 FX74_isIllegal_36 a0 a1 a2 s0 M
noncomputable def BX74_isIllegal_0 (g18 : Nat → Int32 → Int32 → Int32 → FM → Option (Int32 × FM)) (a0 : Nat) (a1 : Int32) (a2 : Int32) (M : FM) : Option (Int32 × FM) :=
  fi (fm_is M 12 12 a0 = true) (
  fi (((a1 >>> ((Int32.ofInt 8) &&& 31)) &&& (Int32.ofInt 3)) ≤ (M.1 37 a0 0)) (
    g18 a0 a1 a2 (Int32.ofInt 0) M) (
    g18 a0 a1 a2 (Int32.ofInt 1) M)) none
noncomputable def FX74_isIllegal_0 (a0 : Nat) (a1 : Int32) (a2 : Int32) (M : FM) : Option (Int32 × FM) := BX74_isIllegal_0 FX74_isIllegal_18 a0 a1 a2 M
noncomputable def FX74_isIllegal (a0 : Nat) (a1 : Int32) (a2 : Int32) (M : FM) : Option (Int32 × FM) := FX74_isIllegal_0 a0 a1 a2 M
/-! BoardMachine$Controls$Constant.show()J -/
noncomputable def BX76_show_0 (a0 : Nat) (M : FM) : Option (Int64 × FM) :=
  fi (fm_is M 13 13 a0 = true) (
  some ((M.2.1 40 a0 0), M)) none
noncomputable def FX76_show_0 (a0 : Nat) (M : FM) : Option (Int64 × FM) := BX76_show_0 a0 M
noncomputable def FX76_show (a0 : Nat) (M : FM) : Option (Int64 × FM) := FX76_show_0 a0 M
/-! BoardMachine$Controls$Shadow.show()J -/
noncomputable def BX83_show_0 (f0 : Nat → FM → Option (Int64 × FM)) (f1 : Nat → FM → Option (Int64 × FM)) (f2 : Nat → FM → Option (Int64 × FM)) (f3 : Nat → FM → Option (Int64 × FM)) (a0 : Nat) (M : FM) : Option (Int64 × FM) :=
  fi (fm_is M 18 18 a0 = true) (
  let x1 : Nat := (M.2.2 44 a0 0)
  fi (fm_is M 13 13 x1 = true) (
  (f0 x1 M).bind fun r2 =>
  some (r2.1, r2.2)) (fi (fm_is M 14 14 x1 = true) (
  (f1 x1 M).bind fun r3 =>
  some (r3.1, r3.2)) (fi (fm_is M 15 15 x1 = true) (
  (f2 x1 M).bind fun r4 =>
  some (r4.1, r4.2)) (fi (fm_is M 16 16 x1 = true) (
  (f3 x1 M).bind fun r5 =>
  some (r5.1, r5.2)) (fi (fm_is M 17 17 x1 = true) (
  (f1 x1 M).bind fun r6 =>
  some (r6.1, r6.2)) (none)))))) none
noncomputable def FX83_show_0 (a0 : Nat) (M : FM) : Option (Int64 × FM) := BX83_show_0 FX76_show FX77_show FX79_show FX78_show a0 M
noncomputable def FX83_show (a0 : Nat) (M : FM) : Option (Int64 × FM) := FX83_show_0 a0 M
/-! BoardMachine$Controls$Window.show()J -/
noncomputable def BX81_show_0 (f0 : Nat → FM → Option (Int64 × FM)) (f1 : Nat → FM → Option (Int64 × FM)) (f2 : Nat → FM → Option (Int64 × FM)) (f3 : Nat → FM → Option (Int64 × FM)) (a0 : Nat) (M : FM) : Option (Int64 × FM) :=
  fi (fm_is M 19 19 a0 = true) (
  let x1 : Nat := (M.2.2 45 a0 0)
  fi (fm_is M 14 14 x1 = true) (
  (f0 x1 M).bind fun r2 =>
  fi (fm_is r2.2 19 19 a0 = true) (
  let x3 : Nat := (r2.2.2.2 46 a0 0)
  fi (fm_is r2.2 13 13 x3 = true) (
  (f3 x3 r2.2).bind fun r4 =>
  fi (fm_is r4.2 19 19 a0 = true) (
  some ((r2.1 &&& (r4.1 ||| (r4.2.2.1 48 a0 0))), r4.2)) none) (fi (fm_is r2.2 14 14 x3 = true) (
  (f0 x3 r2.2).bind fun r5 =>
  fi (fm_is r5.2 19 19 a0 = true) (
  some ((r2.1 &&& (r5.1 ||| (r5.2.2.1 48 a0 0))), r5.2)) none) (fi (fm_is r2.2 15 15 x3 = true) (
  (f1 x3 r2.2).bind fun r6 =>
  fi (fm_is r6.2 19 19 a0 = true) (
  some ((r2.1 &&& (r6.1 ||| (r6.2.2.1 48 a0 0))), r6.2)) none) (fi (fm_is r2.2 16 16 x3 = true) (
  (f2 x3 r2.2).bind fun r7 =>
  fi (fm_is r7.2 19 19 a0 = true) (
  some ((r2.1 &&& (r7.1 ||| (r7.2.2.1 48 a0 0))), r7.2)) none) (fi (fm_is r2.2 17 17 x3 = true) (
  (f0 x3 r2.2).bind fun r8 =>
  fi (fm_is r8.2 19 19 a0 = true) (
  some ((r2.1 &&& (r8.1 ||| (r8.2.2.1 48 a0 0))), r8.2)) none) (none)))))) none) (fi (fm_is M 15 15 x1 = true) (
  (f1 x1 M).bind fun r9 =>
  fi (fm_is r9.2 19 19 a0 = true) (
  let x10 : Nat := (r9.2.2.2 46 a0 0)
  fi (fm_is r9.2 13 13 x10 = true) (
  (f3 x10 r9.2).bind fun r11 =>
  fi (fm_is r11.2 19 19 a0 = true) (
  some ((r9.1 &&& (r11.1 ||| (r11.2.2.1 48 a0 0))), r11.2)) none) (fi (fm_is r9.2 14 14 x10 = true) (
  (f0 x10 r9.2).bind fun r12 =>
  fi (fm_is r12.2 19 19 a0 = true) (
  some ((r9.1 &&& (r12.1 ||| (r12.2.2.1 48 a0 0))), r12.2)) none) (fi (fm_is r9.2 15 15 x10 = true) (
  (f1 x10 r9.2).bind fun r13 =>
  fi (fm_is r13.2 19 19 a0 = true) (
  some ((r9.1 &&& (r13.1 ||| (r13.2.2.1 48 a0 0))), r13.2)) none) (fi (fm_is r9.2 16 16 x10 = true) (
  (f2 x10 r9.2).bind fun r14 =>
  fi (fm_is r14.2 19 19 a0 = true) (
  some ((r9.1 &&& (r14.1 ||| (r14.2.2.1 48 a0 0))), r14.2)) none) (fi (fm_is r9.2 17 17 x10 = true) (
  (f0 x10 r9.2).bind fun r15 =>
  fi (fm_is r15.2 19 19 a0 = true) (
  some ((r9.1 &&& (r15.1 ||| (r15.2.2.1 48 a0 0))), r15.2)) none) (none)))))) none) (fi (fm_is M 16 16 x1 = true) (
  (f2 x1 M).bind fun r16 =>
  fi (fm_is r16.2 19 19 a0 = true) (
  let x17 : Nat := (r16.2.2.2 46 a0 0)
  fi (fm_is r16.2 13 13 x17 = true) (
  (f3 x17 r16.2).bind fun r18 =>
  fi (fm_is r18.2 19 19 a0 = true) (
  some ((r16.1 &&& (r18.1 ||| (r18.2.2.1 48 a0 0))), r18.2)) none) (fi (fm_is r16.2 14 14 x17 = true) (
  (f0 x17 r16.2).bind fun r19 =>
  fi (fm_is r19.2 19 19 a0 = true) (
  some ((r16.1 &&& (r19.1 ||| (r19.2.2.1 48 a0 0))), r19.2)) none) (fi (fm_is r16.2 15 15 x17 = true) (
  (f1 x17 r16.2).bind fun r20 =>
  fi (fm_is r20.2 19 19 a0 = true) (
  some ((r16.1 &&& (r20.1 ||| (r20.2.2.1 48 a0 0))), r20.2)) none) (fi (fm_is r16.2 16 16 x17 = true) (
  (f2 x17 r16.2).bind fun r21 =>
  fi (fm_is r21.2 19 19 a0 = true) (
  some ((r16.1 &&& (r21.1 ||| (r21.2.2.1 48 a0 0))), r21.2)) none) (fi (fm_is r16.2 17 17 x17 = true) (
  (f0 x17 r16.2).bind fun r22 =>
  fi (fm_is r22.2 19 19 a0 = true) (
  some ((r16.1 &&& (r22.1 ||| (r22.2.2.1 48 a0 0))), r22.2)) none) (none)))))) none) (fi (fm_is M 17 17 x1 = true) (
  (f0 x1 M).bind fun r23 =>
  fi (fm_is r23.2 19 19 a0 = true) (
  let x24 : Nat := (r23.2.2.2 46 a0 0)
  fi (fm_is r23.2 13 13 x24 = true) (
  (f3 x24 r23.2).bind fun r25 =>
  fi (fm_is r25.2 19 19 a0 = true) (
  some ((r23.1 &&& (r25.1 ||| (r25.2.2.1 48 a0 0))), r25.2)) none) (fi (fm_is r23.2 14 14 x24 = true) (
  (f0 x24 r23.2).bind fun r26 =>
  fi (fm_is r26.2 19 19 a0 = true) (
  some ((r23.1 &&& (r26.1 ||| (r26.2.2.1 48 a0 0))), r26.2)) none) (fi (fm_is r23.2 15 15 x24 = true) (
  (f1 x24 r23.2).bind fun r27 =>
  fi (fm_is r27.2 19 19 a0 = true) (
  some ((r23.1 &&& (r27.1 ||| (r27.2.2.1 48 a0 0))), r27.2)) none) (fi (fm_is r23.2 16 16 x24 = true) (
  (f2 x24 r23.2).bind fun r28 =>
  fi (fm_is r28.2 19 19 a0 = true) (
  some ((r23.1 &&& (r28.1 ||| (r28.2.2.1 48 a0 0))), r28.2)) none) (fi (fm_is r23.2 17 17 x24 = true) (
  (f0 x24 r23.2).bind fun r29 =>
  fi (fm_is r29.2 19 19 a0 = true) (
  some ((r23.1 &&& (r29.1 ||| (r29.2.2.1 48 a0 0))), r29.2)) none) (none)))))) none) (none))))) none
noncomputable def FX81_show_0 (a0 : Nat) (M : FM) : Option (Int64 × FM) := BX81_show_0 FX77_show FX79_show FX78_show FX76_show a0 M
noncomputable def FX81_show (a0 : Nat) (M : FM) : Option (Int64 × FM) := FX81_show_0 a0 M
/-! BoardMachine$Controls$Constant.write(J)V -/
noncomputable def BX76_write_0 (a0 : Nat) (a1 : Int64) (M : FM) : Option (FM) :=
  some M
noncomputable def FX76_write_0 (a0 : Nat) (a1 : Int64) (M : FM) : Option (FM) := BX76_write_0 a0 a1 M
noncomputable def FX76_write (a0 : Nat) (a1 : Int64) (M : FM) : Option (FM) := FX76_write_0 a0 a1 M
/-! BoardMachine$Controls$Shadow.write(J)V -/
noncomputable def BX83_write_0 (a0 : Nat) (a1 : Int64) (M : FM) : Option (FM) :=
  some M
noncomputable def FX83_write_0 (a0 : Nat) (a1 : Int64) (M : FM) : Option (FM) := BX83_write_0 a0 a1 M
noncomputable def FX83_write (a0 : Nat) (a1 : Int64) (M : FM) : Option (FM) := FX83_write_0 a0 a1 M
/-! BoardMachine$Controls$Window.write(J)V -/
noncomputable def BX81_write_0 (f0 : Nat → FM → Option (Int64 × FM)) (f1 : Nat → FM → Option (Int64 × FM)) (f2 : Nat → FM → Option (Int64 × FM)) (f3 : Nat → FM → Option (Int64 × FM)) (a0 : Nat) (a1 : Int64) (M : FM) : Option (FM) :=
  fi (fm_is M 19 19 a0 = true) (
  let x1 : Nat := (M.2.2 46 a0 0)
  fi (fm_is M 13 13 x1 = true) (
  (f0 x1 M).bind fun r2 =>
  fi (fm_is r2.2 19 19 a0 = true) (
  let x3 : Int64 := (r2.1 &&& (r2.2.2.1 47 a0 0))
  fi (fm_is r2.2 19 19 a0 = true) (
  fi (fm_is r2.2 19 19 a0 = true) (
  let x4 : Nat := (r2.2.2.2 45 a0 0)
  fi (fm_is r2.2 14 17 x4 = true) (
  let x5 : Nat := (r2.2.2.2 45 a0 0)
  fi (fm_is r2.2 14 17 x5 = true) (
  let M6 : FM := fm_sL r2.2 41 x5 0 (((r2.2.2.1 41 x4 0) &&& (x3 ^^^ (Int64.ofInt (-1)))) ||| (a1 &&& x3))
  some M6) none) none) none) none) none) (fi (fm_is M 14 14 x1 = true) (
  (f1 x1 M).bind fun r7 =>
  fi (fm_is r7.2 19 19 a0 = true) (
  let x8 : Int64 := (r7.1 &&& (r7.2.2.1 47 a0 0))
  fi (fm_is r7.2 19 19 a0 = true) (
  fi (fm_is r7.2 19 19 a0 = true) (
  let x9 : Nat := (r7.2.2.2 45 a0 0)
  fi (fm_is r7.2 14 17 x9 = true) (
  let x10 : Nat := (r7.2.2.2 45 a0 0)
  fi (fm_is r7.2 14 17 x10 = true) (
  let M11 : FM := fm_sL r7.2 41 x10 0 (((r7.2.2.1 41 x9 0) &&& (x8 ^^^ (Int64.ofInt (-1)))) ||| (a1 &&& x8))
  some M11) none) none) none) none) none) (fi (fm_is M 15 15 x1 = true) (
  (f2 x1 M).bind fun r12 =>
  fi (fm_is r12.2 19 19 a0 = true) (
  let x13 : Int64 := (r12.1 &&& (r12.2.2.1 47 a0 0))
  fi (fm_is r12.2 19 19 a0 = true) (
  fi (fm_is r12.2 19 19 a0 = true) (
  let x14 : Nat := (r12.2.2.2 45 a0 0)
  fi (fm_is r12.2 14 17 x14 = true) (
  let x15 : Nat := (r12.2.2.2 45 a0 0)
  fi (fm_is r12.2 14 17 x15 = true) (
  let M16 : FM := fm_sL r12.2 41 x15 0 (((r12.2.2.1 41 x14 0) &&& (x13 ^^^ (Int64.ofInt (-1)))) ||| (a1 &&& x13))
  some M16) none) none) none) none) none) (fi (fm_is M 16 16 x1 = true) (
  (f3 x1 M).bind fun r17 =>
  fi (fm_is r17.2 19 19 a0 = true) (
  let x18 : Int64 := (r17.1 &&& (r17.2.2.1 47 a0 0))
  fi (fm_is r17.2 19 19 a0 = true) (
  fi (fm_is r17.2 19 19 a0 = true) (
  let x19 : Nat := (r17.2.2.2 45 a0 0)
  fi (fm_is r17.2 14 17 x19 = true) (
  let x20 : Nat := (r17.2.2.2 45 a0 0)
  fi (fm_is r17.2 14 17 x20 = true) (
  let M21 : FM := fm_sL r17.2 41 x20 0 (((r17.2.2.1 41 x19 0) &&& (x18 ^^^ (Int64.ofInt (-1)))) ||| (a1 &&& x18))
  some M21) none) none) none) none) none) (fi (fm_is M 17 17 x1 = true) (
  (f1 x1 M).bind fun r22 =>
  fi (fm_is r22.2 19 19 a0 = true) (
  let x23 : Int64 := (r22.1 &&& (r22.2.2.1 47 a0 0))
  fi (fm_is r22.2 19 19 a0 = true) (
  fi (fm_is r22.2 19 19 a0 = true) (
  let x24 : Nat := (r22.2.2.2 45 a0 0)
  fi (fm_is r22.2 14 17 x24 = true) (
  let x25 : Nat := (r22.2.2.2 45 a0 0)
  fi (fm_is r22.2 14 17 x25 = true) (
  let M26 : FM := fm_sL r22.2 41 x25 0 (((r22.2.2.1 41 x24 0) &&& (x23 ^^^ (Int64.ofInt (-1)))) ||| (a1 &&& x23))
  some M26) none) none) none) none) none) (none)))))) none
noncomputable def FX81_write_0 (a0 : Nat) (a1 : Int64) (M : FM) : Option (FM) := BX81_write_0 FX76_show FX77_show FX79_show FX78_show a0 a1 M
noncomputable def FX81_write (a0 : Nat) (a1 : Int64) (M : FM) : Option (FM) := FX81_write_0 a0 a1 M
