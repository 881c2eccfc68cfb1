/-! functions of methods, printed by gen/defs.py -/
set_option maxRecDepth 100000
/-! BoardMachine$Integers$Fence.run(LBoardMachine$Integers$Registers;LBoardMachine$Integers$Decoded;I)I -/
noncomputable def BX52_run_0 (a0 : Nat) (a1 : Nat) (a2 : Nat) (a3 : Int32) (M : FM) : Option (Int32 × FM) :=
  fi (fm_is M 64 64 a1 = true) (
  fi (fm_is M 64 64 a1 = true) (
  let M1 : FM := fm_sL M 179 a1 0 ((M.2.1 179 a1 0) + a3.toInt64)
  some ((Int32.ofInt 1), M1)) none) none
noncomputable def FX52_run_0 (a0 : Nat) (a1 : Nat) (a2 : Nat) (a3 : Int32) (M : FM) : Option (Int32 × FM) := BX52_run_0 a0 a1 a2 a3 M
noncomputable def FX52_run (a0 : Nat) (a1 : Nat) (a2 : Nat) (a3 : Int32) (M : FM) : Option (Int32 × FM) := FX52_run_0 a0 a1 a2 a3 M
/-! BoardMachine$Integers$Foreign.run(LBoardMachine$Integers$Registers;LBoardMachine$Integers$Decoded;I)I -/
noncomputable def BX58_run_0 (a0 : Nat) (a1 : Nat) (a2 : Nat) (a3 : Int32) (M : FM) : Option (Int32 × FM) :=
  fi (fm_is M 61 61 a2 = true) (
  some ((M.1 158 a2 0), M)) none
noncomputable def FX58_run_0 (a0 : Nat) (a1 : Nat) (a2 : Nat) (a3 : Int32) (M : FM) : Option (Int32 × FM) := BX58_run_0 a0 a1 a2 a3 M
noncomputable def FX58_run (a0 : Nat) (a1 : Nat) (a2 : Nat) (a3 : Int32) (M : FM) : Option (Int32 × FM) := FX58_run_0 a0 a1 a2 a3 M
/-! BoardMachine$Integers$Illegal.run(LBoardMachine$Integers$Registers;LBoardMachine$Integers$Decoded;I)I -/
noncomputable def BX51_run_0 (a0 : Nat) (a1 : Nat) (a2 : Nat) (a3 : Int32) (M : FM) : Option (Int32 × FM) :=
  some ((Int32.ofInt (-1)), M)
noncomputable def FX51_run_0 (a0 : Nat) (a1 : Nat) (a2 : Nat) (a3 : Int32) (M : FM) : Option (Int32 × FM) := BX51_run_0 a0 a1 a2 a3 M
noncomputable def FX51_run (a0 : Nat) (a1 : Nat) (a2 : Nat) (a3 : Int32) (M : FM) : Option (Int32 × FM) := FX51_run_0 a0 a1 a2 a3 M
/-! BoardMachine$Integers$Jump.run(LBoardMachine$Integers$Registers;LBoardMachine$Integers$Decoded;I)I -/
noncomputable def BX54_run_37 (f0 : Nat → Int32 → Int64 → FM → Option (FM)) (a1 : Nat) (a2 : Nat) (a3 : Int32) (s0 : Int64) (M : FM) : Option (Int32 × FM) :=
  fi (fm_is M 61 61 a2 = true) (
  fi (fm_is M 64 64 a1 = true) (
  fi (fm_is M 64 64 a1 = true) (
  (f0 a1 (M.1 151 a2 0) ((M.2.1 179 a1 0) + a3.toInt64) M).bind fun M1 =>
  fi (fm_is M1 64 64 a1 = true) (
  let M2 : FM := fm_sL M1 179 a1 0 s0
  some ((Int32.ofInt 0), M2)) none) none) none) none
noncomputable def FX54_run_37 (a1 : Nat) (a2 : Nat) (a3 : Int32) (s0 : Int64) (M : FM) : Option (Int32 × FM) := BX54_run_37 FX48_set a1 a2 a3 s0 M
noncomputable def BX54_run_0 (g37 : Nat → Nat → Int32 → Int64 → FM → Option (Int32 × FM)) (a0 : Nat) (a1 : Nat) (a2 : Nat) (a3 : Int32) (M : FM) : Option (Int32 × FM) :=
  fi (fm_is M 59 59 a0 = true) (
  fi ((M.1 147 a0 0) = 0) (
    fi (fm_is M 64 64 a1 = true) (
    fi (fm_is M 61 61 a2 = true) (
    g37 a1 a2 a3 ((M.2.1 179 a1 0) + (M.2.1 154 a2 0)) M) none) none) (
    fi (fm_is M 64 64 a1 = true) (
    fi (fm_is M 61 61 a2 = true) (
    let x1 : Int32 := (M.1 152 a2 0)
    let x2 : Nat := (M.2.2 178 a1 0)
    fi (fm_is M 902 902 x2 = true ∧ fm_in M x2 x1 = true) (
    fi (fm_is M 61 61 a2 = true) (
    g37 a1 a2 a3 (((M.2.1 3 x2 x1.toNatClampNeg) + (M.2.1 154 a2 0)) &&& (Int64.ofInt (-2))) M) none) none) none) none)) none
noncomputable def FX54_run_0 (a0 : Nat) (a1 : Nat) (a2 : Nat) (a3 : Int32) (M : FM) : Option (Int32 × FM) := BX54_run_0 FX54_run_37 a0 a1 a2 a3 M
noncomputable def FX54_run (a0 : Nat) (a1 : Nat) (a2 : Nat) (a3 : Int32) (M : FM) : Option (Int32 × FM) := FX54_run_0 a0 a1 a2 a3 M
/-! BoardMachine$Integers$Upper.run(LBoardMachine$Integers$Registers;LBoardMachine$Integers$Decoded;I)I -/
noncomputable def BX53_run_24 (f0 : Nat → Int32 → Int64 → FM → Option (FM)) (a1 : Nat) (a3 : Int32) (s0 : Nat) (s1 : Int32) (s2 : Int64) (s3 : Int64) (M : FM) : Option (Int32 × FM) :=
  fi (fm_is M 64 64 s0 = true) (
  (f0 s0 s1 (s2 + s3) M).bind fun M1 =>
  fi (fm_is M1 64 64 a1 = true) (
  fi (fm_is M1 64 64 a1 = true) (
  let M2 : FM := fm_sL M1 179 a1 0 ((M1.2.1 179 a1 0) + a3.toInt64)
  some ((Int32.ofInt 0), M2)) none) none) none
noncomputable def FX53_run_24 (a1 : Nat) (a3 : Int32) (s0 : Nat) (s1 : Int32) (s2 : Int64) (s3 : Int64) (M : FM) : Option (Int32 × FM) := BX53_run_24 FX48_set a1 a3 s0 s1 s2 s3 M
noncomputable def BX53_run_0 (g24 : Nat → Int32 → Nat → Int32 → Int64 → Int64 → FM → Option (Int32 × FM)) (a0 : Nat) (a1 : Nat) (a2 : Nat) (a3 : Int32) (M : FM) : Option (Int32 × FM) :=
  fi (fm_is M 61 61 a2 = true) (
  fi (fm_is M 61 61 a2 = true) (
  fi (fm_is M 60 60 a0 = true) (
  fi ((M.1 148 a0 0) = 0) (
    g24 a1 a3 a1 (M.1 151 a2 0) (M.2.1 154 a2 0) (Int64.ofInt 0) M) (
    fi (fm_is M 64 64 a1 = true) (
    g24 a1 a3 a1 (M.1 151 a2 0) (M.2.1 154 a2 0) (M.2.1 179 a1 0) M) none)) none) none) none
noncomputable def FX53_run_0 (a0 : Nat) (a1 : Nat) (a2 : Nat) (a3 : Int32) (M : FM) : Option (Int32 × FM) := BX53_run_0 FX53_run_24 a0 a1 a2 a3 M
noncomputable def FX53_run (a0 : Nat) (a1 : Nat) (a2 : Nat) (a3 : Int32) (M : FM) : Option (Int32 × FM) := FX53_run_0 a0 a1 a2 a3 M
/-! BoardMachine$Integers$Access.wanted(LBoardMachine$Integers$Registers;LBoardMachine$Integers$Decoded;I)J -/
noncomputable def BX57_wanted_82 (s0 : Int64) (M : FM) : Option (Int64 × FM) :=
  some (s0, M)
noncomputable def FX57_wanted_82 (s0 : Int64) (M : FM) : Option (Int64 × FM) := BX57_wanted_82 s0 M
noncomputable def BX57_wanted_69 (g82 : Int64 → FM → Option (Int64 × FM)) (a1 : Nat) (a2 : Nat) (M : FM) : Option (Int64 × FM) :=
  fi (fm_is M 64 64 a1 = true) (
  fi (fm_is M 61 61 a2 = true) (
  let x1 : Int32 := (M.1 153 a2 0)
  let x2 : Nat := (M.2.2 178 a1 0)
  fi (fm_is M 902 902 x2 = true ∧ fm_in M x2 x1 = true) (
  g82 (M.2.1 3 x2 x1.toNatClampNeg) M) none) none) none
noncomputable def FX57_wanted_69 (a1 : Nat) (a2 : Nat) (M : FM) : Option (Int64 × FM) := BX57_wanted_69 FX57_wanted_82 a1 a2 M
noncomputable def BX57_wanted_0 (g69 : Nat → Nat → FM → Option (Int64 × FM)) (g82 : Int64 → FM → Option (Int64 × FM)) (a0 : Nat) (a1 : Nat) (a2 : Nat) (a3 : Int32) (M : FM) : Option (Int64 × FM) :=
  fi (a3 = (Int32.ofInt 0)) (
    fi (fm_is M 64 64 a1 = true) (
    fi (fm_is M 61 61 a2 = true) (
    let x1 : Int32 := (M.1 152 a2 0)
    let x2 : Nat := (M.2.2 178 a1 0)
    fi (fm_is M 902 902 x2 = true ∧ fm_in M x2 x1 = true) (
    fi (fm_is M 61 61 a2 = true) (
    some (((M.2.1 3 x2 x1.toNatClampNeg) + (M.2.1 154 a2 0)), M)) none) none) none) none) (
  fi (a3 = (Int32.ofInt 1)) (
    fi (fm_is M 61 61 a2 = true) (
    some ((M.1 159 a2 0).toInt64, M)) none) (
  fi (a3 = (Int32.ofInt 2)) (
    fi (fm_is M 61 61 a2 = true) (
    fi ((M.1 158 a2 0) = (Int32.ofInt 3)) (
      g69 a1 a2 M) (
      fi (fm_is M 61 61 a2 = true) (
      fi ((M.1 158 a2 0) = (Int32.ofInt 4)) (
        g69 a1 a2 M) (
        g82 (Int64.ofInt 0) M)) none)) none) (
  fi (a3 = (Int32.ofInt 3)) (
    fi (fm_is M 61 61 a2 = true) (
    some ((M.1 160 a2 0).toInt64, M)) none) (
  fi (fm_is M 61 61 a2 = true) (
    some ((M.1 151 a2 0).toInt64, M)) none))))
noncomputable def FX57_wanted_0 (a0 : Nat) (a1 : Nat) (a2 : Nat) (a3 : Int32) (M : FM) : Option (Int64 × FM) := BX57_wanted_0 FX57_wanted_69 FX57_wanted_82 a0 a1 a2 a3 M
noncomputable def FX57_wanted (a0 : Nat) (a1 : Nat) (a2 : Nat) (a3 : Int32) (M : FM) : Option (Int64 × FM) := FX57_wanted_0 a0 a1 a2 a3 M
/-! BoardMachine$Integers$Action.wanted(LBoardMachine$Integers$Registers;LBoardMachine$Integers$Decoded;I)J -/
noncomputable def BX50_wanted_0 (a0 : Nat) (a1 : Nat) (a2 : Nat) (a3 : Int32) (M : FM) : Option (Int64 × FM) :=
  some ((Int64.ofInt (-1)), M)
noncomputable def FX50_wanted_0 (a0 : Nat) (a1 : Nat) (a2 : Nat) (a3 : Int32) (M : FM) : Option (Int64 × FM) := BX50_wanted_0 a0 a1 a2 a3 M
noncomputable def FX50_wanted (a0 : Nat) (a1 : Nat) (a2 : Nat) (a3 : Int32) (M : FM) : Option (Int64 × FM) := FX50_wanted_0 a0 a1 a2 a3 M
/-! BoardMachine$Integers$Foreign.wanted(LBoardMachine$Integers$Registers;LBoardMachine$Integers$Decoded;I)J -/
noncomputable def BX58_wanted_63 (s0 : Int64) (M : FM) : Option (Int64 × FM) :=
  some (s0, M)
noncomputable def FX58_wanted_63 (s0 : Int64) (M : FM) : Option (Int64 × FM) := BX58_wanted_63 s0 M
noncomputable def BX58_wanted_0 (g63 : Int64 → FM → Option (Int64 × FM)) (a0 : Nat) (a1 : Nat) (a2 : Nat) (a3 : Int32) (M : FM) : Option (Int64 × FM) :=
  fi (a3 = (Int32.ofInt 0)) (
    fi (fm_is M 61 61 a2 = true) (
    some ((M.2.1 154 a2 0), M)) none) (
  fi (a3 = (Int32.ofInt 1)) (
    some ((Int64.ofInt 0), M)) (
  fi (a3 = (Int32.ofInt 2)) (
    fi (fm_is M 61 61 a2 = true) (
    fi ((M.1 156 a2 0) = 0) (
      fi (fm_is M 61 61 a2 = true) (
      g63 ((M.1 152 a2 0).toInt64) M) none) (
      fi (fm_is M 64 64 a1 = true) (
      fi (fm_is M 61 61 a2 = true) (
      let x1 : Int32 := (M.1 152 a2 0)
      let x2 : Nat := (M.2.2 178 a1 0)
      fi (fm_is M 902 902 x2 = true ∧ fm_in M x2 x1 = true) (
      g63 (M.2.1 3 x2 x1.toNatClampNeg) M) none) none) none)) none) (
  fi (a3 = (Int32.ofInt 3)) (
    fi (fm_is M 61 61 a2 = true) (
    some ((M.1 160 a2 0).toInt64, M)) none) (
  fi (fm_is M 61 61 a2 = true) (
    some ((M.1 151 a2 0).toInt64, M)) none))))
noncomputable def FX58_wanted_0 (a0 : Nat) (a1 : Nat) (a2 : Nat) (a3 : Int32) (M : FM) : Option (Int64 × FM) := BX58_wanted_0 FX58_wanted_63 a0 a1 a2 a3 M
noncomputable def FX58_wanted (a0 : Nat) (a1 : Nat) (a2 : Nat) (a3 : Int32) (M : FM) : Option (Int64 × FM) := FX58_wanted_0 a0 a1 a2 a3 M
/-! BoardMachine$Integers$IntegerUnit.run(II)I -/
noncomputable def BX47_run_96 (a4 : Int32) (M : FM) : Option (Int32 × FM) :=
  some (a4, M)
noncomputable def FX47_run_96 (n : Nat) (k45 : Nat → Nat → Int32 → Int32 → FM → Option (Int32 × FM)) (a4 : Int32) (M : FM) : Option (Int32 × FM) := BX47_run_96 a4 M
noncomputable def BX47_run_45 (f9 : Nat → Nat → Nat → Int32 → FM → Option (Int64 × FM)) (f10 : Nat → Nat → Nat → Int32 → FM → Option (Int64 × FM)) (f11 : Nat → Nat → Nat → Int32 → FM → Option (Int64 × FM)) (g96 : Int32 → FM → Option (Int32 × FM)) (k45 : Nat → Nat → Int32 → Int32 → FM → Option (Int32 × FM)) (a0 : Nat) (a3 : Nat) (a4 : Int32) (a5 : Int32) (M : FM) : Option (Int32 × FM) :=
  fi ((Int32.ofInt 5) ≤ a5) (
    g96 a4 M) (
    fi (fm_is M 63 63 a0 = true) (
    fi (fm_is M 61 61 a3 = true) (
    fi (fm_is M 63 63 a0 = true) (
    let x1 : Nat := (M.2.2 149 a3 0)
    fi (fm_is M 53 53 x1 = true) (
    (f9 x1 (M.2.2 171 a0 0) a3 a5 M).bind fun r2 =>
    let x3 : Nat := (M.2.2 175 a0 0)
    fi (fm_is r2.2 902 902 x3 = true ∧ fm_in r2.2 x3 a5 = true) (
    let M4 : FM := fm_sL r2.2 3 x3 a5.toNatClampNeg r2.1
    let x5 : Int32 := a5 + (Int32.ofInt 1)
    k45 a0 a3 a4 x5 M4) none) (fi (fm_is M 54 54 x1 = true) (
    (f10 x1 (M.2.2 171 a0 0) a3 a5 M).bind fun r6 =>
    let x7 : Nat := (M.2.2 175 a0 0)
    fi (fm_is r6.2 902 902 x7 = true ∧ fm_in r6.2 x7 a5 = true) (
    let M8 : FM := fm_sL r6.2 3 x7 a5.toNatClampNeg r6.1
    let x9 : Int32 := a5 + (Int32.ofInt 1)
    k45 a0 a3 a4 x9 M8) none) (fi (fm_is M 55 55 x1 = true) (
    (f10 x1 (M.2.2 171 a0 0) a3 a5 M).bind fun r10 =>
    let x11 : Nat := (M.2.2 175 a0 0)
    fi (fm_is r10.2 902 902 x11 = true ∧ fm_in r10.2 x11 a5 = true) (
    let M12 : FM := fm_sL r10.2 3 x11 a5.toNatClampNeg r10.1
    let x13 : Int32 := a5 + (Int32.ofInt 1)
    k45 a0 a3 a4 x13 M12) none) (fi (fm_is M 56 56 x1 = true) (
    (f10 x1 (M.2.2 171 a0 0) a3 a5 M).bind fun r14 =>
    let x15 : Nat := (M.2.2 175 a0 0)
    fi (fm_is r14.2 902 902 x15 = true ∧ fm_in r14.2 x15 a5 = true) (
    let M16 : FM := fm_sL r14.2 3 x15 a5.toNatClampNeg r14.1
    let x17 : Int32 := a5 + (Int32.ofInt 1)
    k45 a0 a3 a4 x17 M16) none) (fi (fm_is M 57 57 x1 = true) (
    (f11 x1 (M.2.2 171 a0 0) a3 a5 M).bind fun r18 =>
    let x19 : Nat := (M.2.2 175 a0 0)
    fi (fm_is r18.2 902 902 x19 = true ∧ fm_in r18.2 x19 a5 = true) (
    let M20 : FM := fm_sL r18.2 3 x19 a5.toNatClampNeg r18.1
    let x21 : Int32 := a5 + (Int32.ofInt 1)
    k45 a0 a3 a4 x21 M20) none) (fi (fm_is M 58 58 x1 = true) (
    (f10 x1 (M.2.2 171 a0 0) a3 a5 M).bind fun r22 =>
    let x23 : Nat := (M.2.2 175 a0 0)
    fi (fm_is r22.2 902 902 x23 = true ∧ fm_in r22.2 x23 a5 = true) (
    let M24 : FM := fm_sL r22.2 3 x23 a5.toNatClampNeg r22.1
    let x25 : Int32 := a5 + (Int32.ofInt 1)
    k45 a0 a3 a4 x25 M24) none) (fi (fm_is M 59 59 x1 = true) (
    (f10 x1 (M.2.2 171 a0 0) a3 a5 M).bind fun r26 =>
    let x27 : Nat := (M.2.2 175 a0 0)
    fi (fm_is r26.2 902 902 x27 = true ∧ fm_in r26.2 x27 a5 = true) (
    let M28 : FM := fm_sL r26.2 3 x27 a5.toNatClampNeg r26.1
    let x29 : Int32 := a5 + (Int32.ofInt 1)
    k45 a0 a3 a4 x29 M28) none) (fi (fm_is M 60 60 x1 = true) (
    (f10 x1 (M.2.2 171 a0 0) a3 a5 M).bind fun r30 =>
    let x31 : Nat := (M.2.2 175 a0 0)
    fi (fm_is r30.2 902 902 x31 = true ∧ fm_in r30.2 x31 a5 = true) (
    let M32 : FM := fm_sL r30.2 3 x31 a5.toNatClampNeg r30.1
    let x33 : Int32 := a5 + (Int32.ofInt 1)
    k45 a0 a3 a4 x33 M32) none) (none))))))))) none) none) none)
noncomputable def FX47_run_45 (n : Nat) (k45 : Nat → Nat → Int32 → Int32 → FM → Option (Int32 × FM)) (a0 : Nat) (a3 : Nat) (a4 : Int32) (a5 : Int32) (M : FM) : Option (Int32 × FM) := BX47_run_45 FX57_wanted FX50_wanted FX58_wanted (FX47_run_96 n k45) k45 a0 a3 a4 a5 M
noncomputable def BX47_run_0 (f0 : Nat → Int32 → FM → Option (Nat × FM)) (f1 : Nat → Nat → Nat → Int32 → FM → Option (Int32 × FM)) (f2 : Nat → Nat → Nat → Int32 → FM → Option (Int32 × FM)) (f3 : Nat → Nat → Nat → Int32 → FM → Option (Int32 × FM)) (f4 : Nat → Nat → Nat → Int32 → FM → Option (Int32 × FM)) (f5 : Nat → Nat → Nat → Int32 → FM → Option (Int32 × FM)) (f6 : Nat → Nat → Nat → Int32 → FM → Option (Int32 × FM)) (f7 : Nat → Nat → Nat → Int32 → FM → Option (Int32 × FM)) (f8 : Nat → Nat → Nat → Int32 → FM → Option (Int32 × FM)) (g96 : Int32 → FM → Option (Int32 × FM)) (k45 : Nat → Nat → Int32 → Int32 → FM → Option (Int32 × FM)) (a0 : Nat) (a1 : Int32) (a2 : Int32) (M : FM) : Option (Int32 × FM) :=
  fi (fm_is M 63 63 a0 = true) (
  (f0 a0 a1 M).bind fun r1 =>
  fi (fm_is r1.2 63 63 a0 = true) (
  let M2 : FM := fm_sR r1.2 174 a0 0 0
  fi (fm_is M2 61 61 r1.1 = true) (
  fi (fm_is M2 63 63 a0 = true) (
  let x3 : Nat := (M2.2.2 149 r1.1 0)
  fi (fm_is M2 53 53 x3 = true) (
  (f1 x3 (M2.2.2 171 a0 0) r1.1 a2 M2).bind fun r4 =>
  fi (r4.1 ≤ (Int32.ofInt 1)) (
    fi (r4.1 < 0) (
      g96 r4.1 r4.2) (
      fi (fm_is r4.2 63 63 a0 = true) (
      fi (fm_is r4.2 63 63 a0 = true) (
      let M5 : FM := fm_sL r4.2 177 a0 0 ((r4.2.2.1 177 a0 0) + (Int64.ofInt 1))
      g96 r4.1 M5) none) none)) (
    fi (fm_is r4.2 63 63 a0 = true) (
    let M6 : FM := fm_sR r4.2 174 a0 0 r1.1
    fi (fm_is M6 63 63 a0 = true) (
    let M7 : FM := fm_sI M6 176 a0 0 a2
    k45 a0 r1.1 r4.1 (Int32.ofInt 0) M7) none) none)) (fi (fm_is M2 54 54 x3 = true) (
  (f2 x3 (M2.2.2 171 a0 0) r1.1 a2 M2).bind fun r8 =>
  fi (r8.1 ≤ (Int32.ofInt 1)) (
    fi (r8.1 < 0) (
      g96 r8.1 r8.2) (
      fi (fm_is r8.2 63 63 a0 = true) (
      fi (fm_is r8.2 63 63 a0 = true) (
      let M9 : FM := fm_sL r8.2 177 a0 0 ((r8.2.2.1 177 a0 0) + (Int64.ofInt 1))
      g96 r8.1 M9) none) none)) (
    fi (fm_is r8.2 63 63 a0 = true) (
    let M10 : FM := fm_sR r8.2 174 a0 0 r1.1
    fi (fm_is M10 63 63 a0 = true) (
    let M11 : FM := fm_sI M10 176 a0 0 a2
    k45 a0 r1.1 r8.1 (Int32.ofInt 0) M11) none) none)) (fi (fm_is M2 55 55 x3 = true) (
  (f3 x3 (M2.2.2 171 a0 0) r1.1 a2 M2).bind fun r12 =>
  fi (r12.1 ≤ (Int32.ofInt 1)) (
    fi (r12.1 < 0) (
      g96 r12.1 r12.2) (
      fi (fm_is r12.2 63 63 a0 = true) (
      fi (fm_is r12.2 63 63 a0 = true) (
      let M13 : FM := fm_sL r12.2 177 a0 0 ((r12.2.2.1 177 a0 0) + (Int64.ofInt 1))
      g96 r12.1 M13) none) none)) (
    fi (fm_is r12.2 63 63 a0 = true) (
    let M14 : FM := fm_sR r12.2 174 a0 0 r1.1
    fi (fm_is M14 63 63 a0 = true) (
    let M15 : FM := fm_sI M14 176 a0 0 a2
    k45 a0 r1.1 r12.1 (Int32.ofInt 0) M15) none) none)) (fi (fm_is M2 56 56 x3 = true) (
  (f4 x3 (M2.2.2 171 a0 0) r1.1 a2 M2).bind fun r16 =>
  fi (r16.1 ≤ (Int32.ofInt 1)) (
    fi (r16.1 < 0) (
      g96 r16.1 r16.2) (
      fi (fm_is r16.2 63 63 a0 = true) (
      fi (fm_is r16.2 63 63 a0 = true) (
      let M17 : FM := fm_sL r16.2 177 a0 0 ((r16.2.2.1 177 a0 0) + (Int64.ofInt 1))
      g96 r16.1 M17) none) none)) (
    fi (fm_is r16.2 63 63 a0 = true) (
    let M18 : FM := fm_sR r16.2 174 a0 0 r1.1
    fi (fm_is M18 63 63 a0 = true) (
    let M19 : FM := fm_sI M18 176 a0 0 a2
    k45 a0 r1.1 r16.1 (Int32.ofInt 0) M19) none) none)) (fi (fm_is M2 57 57 x3 = true) (
  (f5 x3 (M2.2.2 171 a0 0) r1.1 a2 M2).bind fun r20 =>
  fi (r20.1 ≤ (Int32.ofInt 1)) (
    fi (r20.1 < 0) (
      g96 r20.1 r20.2) (
      fi (fm_is r20.2 63 63 a0 = true) (
      fi (fm_is r20.2 63 63 a0 = true) (
      let M21 : FM := fm_sL r20.2 177 a0 0 ((r20.2.2.1 177 a0 0) + (Int64.ofInt 1))
      g96 r20.1 M21) none) none)) (
    fi (fm_is r20.2 63 63 a0 = true) (
    let M22 : FM := fm_sR r20.2 174 a0 0 r1.1
    fi (fm_is M22 63 63 a0 = true) (
    let M23 : FM := fm_sI M22 176 a0 0 a2
    k45 a0 r1.1 r20.1 (Int32.ofInt 0) M23) none) none)) (fi (fm_is M2 58 58 x3 = true) (
  (f6 x3 (M2.2.2 171 a0 0) r1.1 a2 M2).bind fun r24 =>
  fi (r24.1 ≤ (Int32.ofInt 1)) (
    fi (r24.1 < 0) (
      g96 r24.1 r24.2) (
      fi (fm_is r24.2 63 63 a0 = true) (
      fi (fm_is r24.2 63 63 a0 = true) (
      let M25 : FM := fm_sL r24.2 177 a0 0 ((r24.2.2.1 177 a0 0) + (Int64.ofInt 1))
      g96 r24.1 M25) none) none)) (
    fi (fm_is r24.2 63 63 a0 = true) (
    let M26 : FM := fm_sR r24.2 174 a0 0 r1.1
    fi (fm_is M26 63 63 a0 = true) (
    let M27 : FM := fm_sI M26 176 a0 0 a2
    k45 a0 r1.1 r24.1 (Int32.ofInt 0) M27) none) none)) (fi (fm_is M2 59 59 x3 = true) (
  (f7 x3 (M2.2.2 171 a0 0) r1.1 a2 M2).bind fun r28 =>
  fi (r28.1 ≤ (Int32.ofInt 1)) (
    fi (r28.1 < 0) (
      g96 r28.1 r28.2) (
      fi (fm_is r28.2 63 63 a0 = true) (
      fi (fm_is r28.2 63 63 a0 = true) (
      let M29 : FM := fm_sL r28.2 177 a0 0 ((r28.2.2.1 177 a0 0) + (Int64.ofInt 1))
      g96 r28.1 M29) none) none)) (
    fi (fm_is r28.2 63 63 a0 = true) (
    let M30 : FM := fm_sR r28.2 174 a0 0 r1.1
    fi (fm_is M30 63 63 a0 = true) (
    let M31 : FM := fm_sI M30 176 a0 0 a2
    k45 a0 r1.1 r28.1 (Int32.ofInt 0) M31) none) none)) (fi (fm_is M2 60 60 x3 = true) (
  (f8 x3 (M2.2.2 171 a0 0) r1.1 a2 M2).bind fun r32 =>
  fi (r32.1 ≤ (Int32.ofInt 1)) (
    fi (r32.1 < 0) (
      g96 r32.1 r32.2) (
      fi (fm_is r32.2 63 63 a0 = true) (
      fi (fm_is r32.2 63 63 a0 = true) (
      let M33 : FM := fm_sL r32.2 177 a0 0 ((r32.2.2.1 177 a0 0) + (Int64.ofInt 1))
      g96 r32.1 M33) none) none)) (
    fi (fm_is r32.2 63 63 a0 = true) (
    let M34 : FM := fm_sR r32.2 174 a0 0 r1.1
    fi (fm_is M34 63 63 a0 = true) (
    let M35 : FM := fm_sI M34 176 a0 0 a2
    k45 a0 r1.1 r32.1 (Int32.ofInt 0) M35) none) none)) (none))))))))) none) none) none) none
noncomputable def FX47_run_0 (n : Nat) (k45 : Nat → Nat → Int32 → Int32 → FM → Option (Int32 × FM)) (a0 : Nat) (a1 : Int32) (a2 : Int32) (M : FM) : Option (Int32 × FM) := BX47_run_0 FX47_find FX57_run FX55_run FX56_run FX52_run FX58_run FX51_run FX54_run FX53_run (FX47_run_96 n k45) k45 a0 a1 a2 M
noncomputable def FX47_run_L45 (n : Nat) : Nat → Nat → Nat → Int32 → Int32 → FM → Option (Int32 × FM)
  | 0 => fun _ _ _ _ _ => none
  | j + 1 => FX47_run_45 n (FX47_run_L45 n j)
noncomputable def FX47_run (n : Nat) (a0 : Nat) (a1 : Int32) (a2 : Int32) (M : FM) : Option (Int32 × FM) := FX47_run_0 n (FX47_run_L45 n n) a0 a1 a2 M
/-! BoardMachine$Integers$IntegerUnit.wanted(I)J -/
noncomputable def BX47_wanted_19 (s0 : Int64) (M : FM) : Option (Int64 × FM) :=
  some (s0, M)
noncomputable def FX47_wanted_19 (s0 : Int64) (M : FM) : Option (Int64 × FM) := BX47_wanted_19 s0 M
noncomputable def BX47_wanted_0 (g19 : Int64 → FM → Option (Int64 × FM)) (a0 : Nat) (a1 : Int32) (M : FM) : Option (Int64 × FM) :=
  fi (fm_is M 63 63 a0 = true) (
  fi ((M.2.2 174 a0 0) = 0) (
    g19 (Int64.ofInt (-1)) M) (
    fi (fm_is M 63 63 a0 = true) (
    let x1 : Nat := (M.2.2 175 a0 0)
    fi (fm_is M 902 902 x1 = true ∧ fm_in M x1 a1 = true) (
    g19 (M.2.1 3 x1 a1.toNatClampNeg) M) none) none)) none
noncomputable def FX47_wanted_0 (a0 : Nat) (a1 : Int32) (M : FM) : Option (Int64 × FM) := BX47_wanted_0 FX47_wanted_19 a0 a1 M
noncomputable def FX47_wanted (a0 : Nat) (a1 : Int32) (M : FM) : Option (Int64 × FM) := FX47_wanted_0 a0 a1 M
/-! BoardMachine$Processor.dataMode()I -/
noncomputable def BX46_dataMode_37 (s0 : Int32) (M : FM) : Option (Int32 × FM) :=
  some (s0, M)
noncomputable def FX46_dataMode_37 (s0 : Int32) (M : FM) : Option (Int32 × FM) := BX46_dataMode_37 s0 M
noncomputable def BX46_dataMode_0 (f0 : Nat → Int32 → FM → Option (Int32 × FM)) (f1 : Nat → Int32 → FM → Option (Int32 × FM)) (g37 : Int32 → FM → Option (Int32 × FM)) (a0 : Nat) (M : FM) : Option (Int32 × FM) :=
  fi (fm_is M 75 75 a0 = true) (
  let x1 : Nat := (M.2.2 213 a0 0)
  fi (fm_is M 12 12 x1 = true) (
  let x2 : Nat := (M.2.2 27 x1 0)
  fi (fm_is M 16 16 x2 = true) (
  (f0 x2 (Int32.ofInt 17) M).bind fun r3 =>
  fi (r3.1 = 0) (
    fi (fm_is r3.2 75 75 a0 = true) (
    let x4 : Nat := (r3.2.2.2 213 a0 0)
    fi (fm_is r3.2 12 12 x4 = true) (
    g37 (r3.2.1 37 x4 0) r3.2) none) none) (
    fi (fm_is r3.2 75 75 a0 = true) (
    let x5 : Nat := (r3.2.2.2 213 a0 0)
    fi (fm_is r3.2 12 12 x5 = true) (
    let x6 : Nat := (r3.2.2.2 27 x5 0)
    fi (fm_is r3.2 16 16 x6 = true) (
    (f1 x6 (Int32.ofInt 11) r3.2).bind fun r7 =>
    g37 r7.1 r7.2) none) none) none)) none) none) none
noncomputable def FX46_dataMode_0 (a0 : Nat) (M : FM) : Option (Int32 × FM) := BX46_dataMode_0 FX78_has FX78_two FX46_dataMode_37 a0 M
noncomputable def FX46_dataMode (a0 : Nat) (M : FM) : Option (Int32 × FM) := FX46_dataMode_0 a0 M
/-! BoardMachine$Window.has(JI)Z -/
noncomputable def BX29_has_31 (s0 : Int32) (M : FM) : Option (Int32 × FM) :=
  fi (s0 = 0 ∨ s0 = 1) (some (s0, M)) none
noncomputable def FX29_has_31 (s0 : Int32) (M : FM) : Option (Int32 × FM) := BX29_has_31 s0 M
noncomputable def BX29_has_30 (g31 : Int32 → FM → Option (Int32 × FM)) (M : FM) : Option (Int32 × FM) :=
  g31 (Int32.ofInt 0) M
noncomputable def FX29_has_30 (M : FM) : Option (Int32 × FM) := BX29_has_30 FX29_has_31 M
noncomputable def BX29_has_0 (g30 : FM → Option (Int32 × FM)) (g31 : Int32 → FM → Option (Int32 × FM)) (a0 : Nat) (a1 : Int64) (a3 : Int32) (M : FM) : Option (Int32 × FM) :=
  fi (fm_is M 6 6 a0 = true) (
  fi ((lg_cmp a1 (M.2.1 13 a0 0)) < 0) (
    g30 M) (
    fi (fm_is M 6 6 a0 = true) (
    fi (fm_is M 6 6 a0 = true) (
    fi (0 < (lg_cmp a1 (((M.2.1 13 a0 0) + (M.2.1 14 a0 0)) - a3.toInt64))) (
      g30 M) (
      g31 (Int32.ofInt 1) M)) none) none)) none
noncomputable def FX29_has_0 (a0 : Nat) (a1 : Int64) (a3 : Int32) (M : FM) : Option (Int32 × FM) := BX29_has_0 FX29_has_30 FX29_has_31 a0 a1 a3 M
noncomputable def FX29_has (a0 : Nat) (a1 : Int64) (a3 : Int32) (M : FM) : Option (Int32 × FM) := FX29_has_0 a0 a1 a3 M
/-! BoardMachine$Board.find(JI)LBoardMachine$Window; -/
noncomputable def BX10_find_14 (f0 : Nat → Int64 → Int32 → FM → Option (Int32 × FM)) (k14 : Int64 → Int32 → Nat → Int32 → Int32 → FM → Option (Nat × FM)) (a1 : Int64) (a3 : Int32) (a4 : Nat) (a5 : Int32) (a6 : Int32) (M : FM) : Option (Nat × FM) :=
  fi (a5 ≤ a6) (
    some (0, M)) (
    fi (fm_is M 910 990 a4 = true ∧ fm_in M a4 a6 = true) (
    let x1 : Nat := (M.2.2 3 a4 a6.toNatClampNeg)
    fi (fm_is M 6 6 x1 = true) (
    (f0 x1 a1 a3 M).bind fun r2 =>
    fi (r2.1 = 0) (
      let x3 : Int32 := a6 + (Int32.ofInt 1)
      k14 a1 a3 a4 a5 x3 r2.2) (
      some (x1, r2.2))) none) none)
noncomputable def FX10_find_14 (n : Nat) (k14 : Int64 → Int32 → Nat → Int32 → Int32 → FM → Option (Nat × FM)) (a1 : Int64) (a3 : Int32) (a4 : Nat) (a5 : Int32) (a6 : Int32) (M : FM) : Option (Nat × FM) := BX10_find_14 FX29_has k14 a1 a3 a4 a5 a6 M
noncomputable def BX10_find_0 (k14 : Int64 → Int32 → Nat → Int32 → Int32 → FM → Option (Nat × FM)) (a0 : Nat) (a1 : Int64) (a3 : Int32) (M : FM) : Option (Nat × FM) :=
  fi (fm_is M 11 11 a0 = true) (
  let x1 : Nat := (M.2.2 21 a0 0)
  fi (fm_is M 901 990 x1 = true) (
  let x2 : Int32 := (Int32.ofNat (M.2.2 1 x1 0))
  k14 a1 a3 x1 x2 (Int32.ofInt 0) M) none) none
noncomputable def FX10_find_0 (n : Nat) (k14 : Int64 → Int32 → Nat → Int32 → Int32 → FM → Option (Nat × FM)) (a0 : Nat) (a1 : Int64) (a3 : Int32) (M : FM) : Option (Nat × FM) := BX10_find_0 k14 a0 a1 a3 M
noncomputable def FX10_find_L14 (n : Nat) : Nat → Int64 → Int32 → Nat → Int32 → Int32 → FM → Option (Nat × FM)
  | 0 => fun _ _ _ _ _ _ => none
  | j + 1 => FX10_find_14 n (FX10_find_L14 n j)
noncomputable def FX10_find (n : Nat) (a0 : Nat) (a1 : Int64) (a3 : Int32) (M : FM) : Option (Nat × FM) := FX10_find_0 n (FX10_find_L14 n n) a0 a1 a3 M
/-! BoardMachine$Processor.locate(JII)Z -/
noncomputable def BX46_locate_307 (M : FM) : Option (Int32 × FM) :=
  fi ((Int32.ofInt 1) = 0 ∨ (Int32.ofInt 1) = 1) (some ((Int32.ofInt 1), M)) none
noncomputable def FX46_locate_307 (n : Nat) (k90 : Nat → Int64 → Int32 → Int32 → Int32 → Int32 → Int32 → Int32 → FM → Option (Int32 × FM)) (k237 : Nat → Int64 → Int32 → Int32 → Int32 → Int32 → FM → Option (Int32 × FM)) (M : FM) : Option (Int32 × FM) := BX46_locate_307 M
noncomputable def BX46_locate_292 (f4 : Nat → Int32 → Int64 → FM → Option (Int32 × FM)) (a1 : Int64) (a8 : Int32) (s0 : Nat) (s1 : Int32) (M : FM) : Option (Int32 × FM) :=
  fi (fm_is M 75 75 s0 = true) (
  (f4 s0 s1 (a1 + a8.toInt64) M).bind fun r1 =>
  fi (r1.1 = 0 ∨ r1.1 = 1) (some (r1.1, r1.2)) none) none
noncomputable def FX46_locate_292 (n : Nat) (k90 : Nat → Int64 → Int32 → Int32 → Int32 → Int32 → Int32 → Int32 → FM → Option (Int32 × FM)) (k237 : Nat → Int64 → Int32 → Int32 → Int32 → Int32 → FM → Option (Int32 × FM)) (a1 : Int64) (a8 : Int32) (s0 : Nat) (s1 : Int32) (M : FM) : Option (Int32 × FM) := BX46_locate_292 FX46_raise a1 a8 s0 s1 M
noncomputable def BX46_locate_237 (f2 : Nat → Int64 → Int64 → FM → Option (Int32 × FM)) (g292 : Int64 → Int32 → Nat → Int32 → FM → Option (Int32 × FM)) (g307 : FM → Option (Int32 × FM)) (k237 : Nat → Int64 → Int32 → Int32 → Int32 → Int32 → FM → Option (Int32 × FM)) (a0 : Nat) (a1 : Int64) (a3 : Int32) (a6 : Int32) (a7 : Int32) (a8 : Int32) (M : FM) : Option (Int32 × FM) :=
  fi (a6 ≤ a8) (
    g307 M) (
    fi (fm_is M 75 75 a0 = true) (
    let x1 : Nat := (M.2.2 217 a0 0)
    fi (fm_is M 41 41 x1 = true) (
    fi ((M.2.2 124 x1 0) = 0) (
      fi (fm_is M 75 75 a0 = true) (
      let x2 : Nat := (M.2.2 210 a0 0)
      fi (fm_is M 11 11 x2 = true) (
      fi (fm_is M 75 75 a0 = true) (
      let x3 : Nat := (M.2.2 217 a0 0)
      fi (fm_is M 41 41 x3 = true) (
      let x4 : Nat := (M.2.2 121 x3 0)
      fi (fm_is M 902 902 x4 = true ∧ fm_in M x4 a8 = true) (
      let x5 : Nat := (M.2.2 18 x2 0)
      fi (fm_is M 73 73 x5 = true) (
      (f2 x5 (M.2.1 3 x4 a8.toNatClampNeg) a7.toInt64 M).bind fun r6 =>
      fi (r6.1 = 0) (
        fi (a3 = (Int32.ofInt 1)) (
          g292 a1 a8 a0 (Int32.ofInt 5) r6.2) (
          g292 a1 a8 a0 (Int32.ofInt 7) r6.2)) (
        let x7 : Int32 := a8 + (Int32.ofInt 1)
        k237 a0 a1 a3 a6 a7 x7 r6.2)) none) none) none) none) none) none) (
      g307 M)) none) none)
noncomputable def FX46_locate_237 (n : Nat) (k90 : Nat → Int64 → Int32 → Int32 → Int32 → Int32 → Int32 → Int32 → FM → Option (Int32 × FM)) (k237 : Nat → Int64 → Int32 → Int32 → Int32 → Int32 → FM → Option (Int32 × FM)) (a0 : Nat) (a1 : Int64) (a3 : Int32) (a6 : Int32) (a7 : Int32) (a8 : Int32) (M : FM) : Option (Int32 × FM) := BX46_locate_237 FX11_has (FX46_locate_292 n k90 k237) (FX46_locate_307 n k90 k237) k237 a0 a1 a3 a6 a7 a8 M
noncomputable def BX46_locate_234 (k237 : Nat → Int64 → Int32 → Int32 → Int32 → Int32 → FM → Option (Int32 × FM)) (a0 : Nat) (a1 : Int64) (a3 : Int32) (a6 : Int32) (a7 : Int32) (M : FM) : Option (Int32 × FM) :=
  k237 a0 a1 a3 a6 a7 (Int32.ofInt 0) M
noncomputable def FX46_locate_234 (n : Nat) (k90 : Nat → Int64 → Int32 → Int32 → Int32 → Int32 → Int32 → Int32 → FM → Option (Int32 × FM)) (k237 : Nat → Int64 → Int32 → Int32 → Int32 → Int32 → FM → Option (Int32 × FM)) (a0 : Nat) (a1 : Int64) (a3 : Int32) (a6 : Int32) (a7 : Int32) (M : FM) : Option (Int32 × FM) := BX46_locate_234 k237 a0 a1 a3 a6 a7 M
noncomputable def BX46_locate_90 (f1 : Nat → Int64 → Int32 → Int32 → Int32 → FM → Option (Int64 × FM)) (f2 : Nat → Int64 → Int64 → FM → Option (Int32 × FM)) (f3 : Nat → Int64 → Int32 → FM → Option (Nat × FM)) (f4 : Nat → Int32 → Int64 → FM → Option (Int32 × FM)) (g234 : Nat → Int64 → Int32 → Int32 → Int32 → FM → Option (Int32 × FM)) (k90 : Nat → Int64 → Int32 → Int32 → Int32 → Int32 → Int32 → Int32 → FM → Option (Int32 × FM)) (a0 : Nat) (a1 : Int64) (a3 : Int32) (a4 : Int32) (a5 : Int32) (a6 : Int32) (a7 : Int32) (a8 : Int32) (M : FM) : Option (Int32 × FM) :=
  fi (a6 ≤ a8) (
    fi (fm_is M 75 75 a0 = true) (
    let x1 : Nat := (M.2.2 217 a0 0)
    fi (fm_is M 41 41 x1 = true) (
    fi ((M.1 123 x1 0) = 0) (
      g234 a0 a1 a3 a6 a7 M) (
      fi (fm_is M 75 75 a0 = true) (
      let x2 : Nat := (M.2.2 210 a0 0)
      fi (fm_is M 11 11 x2 = true) (
      fi (fm_is M 75 75 a0 = true) (
      let x3 : Nat := (M.2.2 217 a0 0)
      fi (fm_is M 41 41 x3 = true) (
      let x4 : Nat := (M.2.2 121 x3 0)
      fi (fm_is M 902 902 x4 = true ∧ fm_in M x4 (Int32.ofInt 0) = true) (
      let x5 : Nat := (M.2.2 18 x2 0)
      fi (fm_is M 73 73 x5 = true) (
      (f2 x5 (M.2.1 3 x4 (Int32.ofInt 0).toNatClampNeg) a4.toInt64 M).bind fun r6 =>
      fi (r6.1 = 0) (
        let x7 : Int64 := a4.toInt64
        fi (x7 = 0) none (
        fi ((lg_cmp (a1 - a1 / x7 * x7) (Int64.ofInt 0)) = 0) (
          fi (fm_is r6.2 75 75 a0 = true) (
          fi (fm_is r6.2 75 75 a0 = true) (
          fi (fm_is r6.2 75 75 a0 = true) (
          let x8 : Nat := (r6.2.2.2 217 a0 0)
          fi (fm_is r6.2 41 41 x8 = true) (
          let x9 : Nat := (r6.2.2.2 121 x8 0)
          fi (fm_is r6.2 902 902 x9 = true ∧ fm_in r6.2 x9 (Int32.ofInt 0) = true) (
          let x10 : Nat := (r6.2.2.2 210 a0 0)
          fi (fm_is r6.2 11 11 x10 = true) (
          (f3 x10 (r6.2.2.1 3 x9 (Int32.ofInt 0).toNatClampNeg) a4 r6.2).bind fun r11 =>
          let x12 : Nat := (r6.2.2.2 217 a0 0)
          fi (fm_is r11.2 41 41 x12 = true) (
          let M13 : FM := fm_sR r11.2 124 x12 0 r11.1
          g234 a0 a1 a3 a6 a7 M13) none) none) none) none) none) none) none) (
          g234 a0 a1 a3 a6 a7 r6.2))) (
        g234 a0 a1 a3 a6 a7 r6.2)) none) none) none) none) none) none)) none) none) (
    fi (fm_is M 75 75 a0 = true) (
    let x14 : Nat := (M.2.2 217 a0 0)
    fi (fm_is M 41 41 x14 = true) (
    fi (fm_is M 75 75 a0 = true) (
    (f1 a0 (a1 + a8.toInt64) a3 a5 a7 M).bind fun r15 =>
    let x16 : Nat := (M.2.2 121 x14 0)
    fi (fm_is r15.2 902 902 x16 = true ∧ fm_in r15.2 x16 a8 = true) (
    let M17 : FM := fm_sL r15.2 3 x16 a8.toNatClampNeg r15.1
    fi (fm_is M17 75 75 a0 = true) (
    let x18 : Nat := (M17.2.2 217 a0 0)
    fi (fm_is M17 41 41 x18 = true) (
    let x19 : Nat := (M17.2.2 121 x18 0)
    fi (fm_is M17 902 902 x19 = true ∧ fm_in M17 x19 a8 = true) (
    fi (0 ≤ (lg_cmp (M17.2.1 3 x19 a8.toNatClampNeg) (Int64.ofInt 0))) (
      let x20 : Int32 := a8 + (Int32.ofInt 1)
      k90 a0 a1 a3 a4 a5 a6 a7 x20 M17) (
      fi (fm_is M17 75 75 a0 = true) (
      let x21 : Nat := (M17.2.2 217 a0 0)
      fi (fm_is M17 41 41 x21 = true) (
      let x22 : Nat := (M17.2.2 121 x21 0)
      fi (fm_is M17 902 902 x22 = true ∧ fm_in M17 x22 a8 = true) (
      fi (fm_is M17 75 75 a0 = true) (
      (f4 a0 ((-(M17.2.1 3 x22 a8.toNatClampNeg)).toInt32) (a1 + a8.toInt64) M17).bind fun r23 =>
      fi (r23.1 = 0 ∨ r23.1 = 1) (some (r23.1, r23.2)) none) none) none) none) none)) none) none) none) none) none) none) none)
noncomputable def FX46_locate_90 (n : Nat) (k90 : Nat → Int64 → Int32 → Int32 → Int32 → Int32 → Int32 → Int32 → FM → Option (Int32 × FM)) (k237 : Nat → Int64 → Int32 → Int32 → Int32 → Int32 → FM → Option (Int32 × FM)) (a0 : Nat) (a1 : Int64) (a3 : Int32) (a4 : Int32) (a5 : Int32) (a6 : Int32) (a7 : Int32) (a8 : Int32) (M : FM) : Option (Int32 × FM) := BX46_locate_90 (FX46_find n) FX11_has (FX10_find n) FX46_raise (FX46_locate_234 n k90 k237) k90 a0 a1 a3 a4 a5 a6 a7 a8 M
noncomputable def BX46_locate_85 (k90 : Nat → Int64 → Int32 → Int32 → Int32 → Int32 → Int32 → Int32 → FM → Option (Int32 × FM)) (a0 : Nat) (a1 : Int64) (a3 : Int32) (a4 : Int32) (a5 : Int32) (a6 : Int32) (s0 : Int32) (M : FM) : Option (Int32 × FM) :=
  k90 a0 a1 a3 a4 a5 a6 s0 (Int32.ofInt 0) M
noncomputable def FX46_locate_85 (n : Nat) (k90 : Nat → Int64 → Int32 → Int32 → Int32 → Int32 → Int32 → Int32 → FM → Option (Int32 × FM)) (k237 : Nat → Int64 → Int32 → Int32 → Int32 → Int32 → FM → Option (Int32 × FM)) (a0 : Nat) (a1 : Int64) (a3 : Int32) (a4 : Int32) (a5 : Int32) (a6 : Int32) (s0 : Int32) (M : FM) : Option (Int32 × FM) := BX46_locate_85 k90 a0 a1 a3 a4 a5 a6 s0 M
noncomputable def BX46_locate_67 (g85 : Nat → Int64 → Int32 → Int32 → Int32 → Int32 → Int32 → FM → Option (Int32 × FM)) (a0 : Nat) (a1 : Int64) (a3 : Int32) (a4 : Int32) (a5 : Int32) (s0 : Int32) (M : FM) : Option (Int32 × FM) :=
  fi (fm_is M 75 75 a0 = true) (
  let x1 : Nat := (M.2.2 217 a0 0)
  fi (fm_is M 41 41 x1 = true) (
  fi ((M.1 123 x1 0) = 0) (
    g85 a0 a1 a3 a4 a5 s0 (Int32.ofInt 1) M) (
    g85 a0 a1 a3 a4 a5 s0 a4 M)) none) none
noncomputable def FX46_locate_67 (n : Nat) (k90 : Nat → Int64 → Int32 → Int32 → Int32 → Int32 → Int32 → Int32 → FM → Option (Int32 × FM)) (k237 : Nat → Int64 → Int32 → Int32 → Int32 → Int32 → FM → Option (Int32 × FM)) (a0 : Nat) (a1 : Int64) (a3 : Int32) (a4 : Int32) (a5 : Int32) (s0 : Int32) (M : FM) : Option (Int32 × FM) := BX46_locate_67 (FX46_locate_85 n k90 k237) a0 a1 a3 a4 a5 s0 M
noncomputable def BX46_locate_48 (g67 : Nat → Int64 → Int32 → Int32 → Int32 → Int32 → FM → Option (Int32 × FM)) (a0 : Nat) (a1 : Int64) (a3 : Int32) (a4 : Int32) (a5 : Int32) (s0 : Nat) (s1 : Int32) (M : FM) : Option (Int32 × FM) :=
  fi (fm_is M 41 41 s0 = true) (
  fi (s1 = 0 ∨ s1 = 1) (
  let M1 : FM := fm_sI M 123 s0 0 s1
  fi (fm_is M1 75 75 a0 = true) (
  let x2 : Nat := (M1.2.2 217 a0 0)
  fi (fm_is M1 41 41 x2 = true) (
  fi ((M1.1 123 x2 0) = 0) (
    g67 a0 a1 a3 a4 a5 a4 M1) (
    g67 a0 a1 a3 a4 a5 (Int32.ofInt 1) M1)) none) none) none) none
noncomputable def FX46_locate_48 (n : Nat) (k90 : Nat → Int64 → Int32 → Int32 → Int32 → Int32 → Int32 → Int32 → FM → Option (Int32 × FM)) (k237 : Nat → Int64 → Int32 → Int32 → Int32 → Int32 → FM → Option (Int32 × FM)) (a0 : Nat) (a1 : Int64) (a3 : Int32) (a4 : Int32) (a5 : Int32) (s0 : Nat) (s1 : Int32) (M : FM) : Option (Int32 × FM) := BX46_locate_48 (FX46_locate_67 n k90 k237) a0 a1 a3 a4 a5 s0 s1 M
noncomputable def BX46_locate_0 (f0 : Nat → FM → Option (Int32 × FM)) (g48 : Nat → Int64 → Int32 → Int32 → Int32 → Nat → Int32 → FM → Option (Int32 × FM)) (a0 : Nat) (a1 : Int64) (a3 : Int32) (a4 : Int32) (M : FM) : Option (Int32 × FM) :=
  fi (fm_is M 75 75 a0 = true) (
  (f0 a0 M).bind fun r1 =>
  fi (fm_is r1.2 75 75 a0 = true) (
  let x2 : Nat := (r1.2.2.2 217 a0 0)
  fi (fm_is r1.2 41 41 x2 = true) (
  let M3 : FM := fm_sI r1.2 122 x2 0 a4
  fi (fm_is M3 75 75 a0 = true) (
  let x4 : Nat := (M3.2.2 217 a0 0)
  fi (fm_is M3 41 41 x4 = true) (
  let M5 : FM := fm_sR M3 124 x4 0 0
  fi (fm_is M5 75 75 a0 = true) (
  fi (0 < (lg_cmp ((a1 &&& (Int64.ofInt 4095)) + a4.toInt64) (Int64.ofInt 4096))) (
    g48 a0 a1 a3 a4 r1.1 (M5.2.2 217 a0 0) (Int32.ofInt 0) M5) (
    g48 a0 a1 a3 a4 r1.1 (M5.2.2 217 a0 0) (Int32.ofInt 1) M5)) none) none) none) none) none) none
noncomputable def FX46_locate_0 (n : Nat) (k90 : Nat → Int64 → Int32 → Int32 → Int32 → Int32 → Int32 → Int32 → FM → Option (Int32 × FM)) (k237 : Nat → Int64 → Int32 → Int32 → Int32 → Int32 → FM → Option (Int32 × FM)) (a0 : Nat) (a1 : Int64) (a3 : Int32) (a4 : Int32) (M : FM) : Option (Int32 × FM) := BX46_locate_0 FX46_dataMode (FX46_locate_48 n k90 k237) a0 a1 a3 a4 M
noncomputable def FX46_locate_L (n : Nat) : Nat → (Nat → Int64 → Int32 → Int32 → Int32 → Int32 → Int32 → Int32 → FM → Option (Int32 × FM)) × (Nat → Int64 → Int32 → Int32 → Int32 → Int32 → FM → Option (Int32 × FM))
  | 0 => (fun _ _ _ _ _ _ _ _ _ => none, fun _ _ _ _ _ _ _ => none)
  | j + 1 => (FX46_locate_90 n (FX46_locate_L n j).1 (FX46_locate_L n j).2, FX46_locate_237 n (FX46_locate_L n j).1 (FX46_locate_L n j).2)
noncomputable def FX46_locate (n : Nat) (a0 : Nat) (a1 : Int64) (a3 : Int32) (a4 : Int32) (M : FM) : Option (Int32 × FM) := FX46_locate_0 n (FX46_locate_L n n).1 (FX46_locate_L n n).2 a0 a1 a3 a4 M
/-! BoardMachine$Board.isRegister(JI)Z -/
noncomputable def BX10_isRegister_28 (s0 : Int32) (M : FM) : Option (Int32 × FM) :=
  fi (s0 = 0 ∨ s0 = 1) (some (s0, M)) none
noncomputable def FX10_isRegister_28 (s0 : Int32) (M : FM) : Option (Int32 × FM) := BX10_isRegister_28 s0 M
noncomputable def BX10_isRegister_27 (g28 : Int32 → FM → Option (Int32 × FM)) (M : FM) : Option (Int32 × FM) :=
  g28 (Int32.ofInt 0) M
noncomputable def FX10_isRegister_27 (M : FM) : Option (Int32 × FM) := BX10_isRegister_27 FX10_isRegister_28 M
noncomputable def BX10_isRegister_0 (g27 : FM → Option (Int32 × FM)) (g28 : Int32 → FM → Option (Int32 × FM)) (a0 : Int64) (a2 : Int32) (M : FM) : Option (Int32 × FM) :=
  fi (a2 = (Int32.ofInt 4)) (
    fi ((lg_cmp (a0 &&& (Int64.ofInt 3)) (Int64.ofInt 0)) = 0) (
      fi (0 ≤ (lg_cmp a0 (Int64.ofInt 512))) (
        g27 M) (
        g28 (Int32.ofInt 1) M)) (
      g27 M)) (
    g27 M)
noncomputable def FX10_isRegister_0 (a0 : Int64) (a2 : Int32) (M : FM) : Option (Int32 × FM) := BX10_isRegister_0 FX10_isRegister_27 FX10_isRegister_28 a0 a2 M
noncomputable def FX10_isRegister (a0 : Int64) (a2 : Int32) (M : FM) : Option (Int32 × FM) := FX10_isRegister_0 a0 a2 M
/-! BoardMachine$Signals$Controller.contextAt(JIII)I -/
noncomputable def BX33_contextAt_62 (s0 : Int32) (M : FM) : Option (Int32 × FM) :=
  some (s0, M)
noncomputable def FX33_contextAt_62 (s0 : Int32) (M : FM) : Option (Int32 × FM) := BX33_contextAt_62 s0 M
noncomputable def BX33_contextAt_48 (g62 : Int32 → FM → Option (Int32 × FM)) (a6 : Int64) (s0 : Int32) (M : FM) : Option (Int32 × FM) :=
  fi (s0 = 0) (
    g62 (Int32.ofInt (-1)) M) (
    g62 a6.toInt32 M)
noncomputable def FX33_contextAt_48 (a6 : Int64) (s0 : Int32) (M : FM) : Option (Int32 × FM) := BX33_contextAt_48 FX33_contextAt_62 a6 s0 M
noncomputable def BX33_contextAt_47 (g48 : Int64 → Int32 → FM → Option (Int32 × FM)) (a6 : Int64) (M : FM) : Option (Int32 × FM) :=
  g48 a6 (Int32.ofInt 0) M
noncomputable def FX33_contextAt_47 (a6 : Int64) (M : FM) : Option (Int32 × FM) := BX33_contextAt_47 FX33_contextAt_48 a6 M
noncomputable def BX33_contextAt_0 (g47 : Int64 → FM → Option (Int32 × FM)) (g48 : Int64 → Int32 → FM → Option (Int32 × FM)) (a0 : Nat) (a1 : Int64) (a3 : Int32) (a4 : Int32) (a5 : Int32) (M : FM) : Option (Int32 × FM) :=
  let x1 : Int64 := a4.toInt64
  fi (x1 = 0) none (
  let x2 : Int64 := ((a1 - a3.toInt64) / x1)
  fi ((lg_cmp a1 a3.toInt64) < 0) (
    g47 x2 M) (
    let x3 : Int64 := a4.toInt64
    let x4 : Int64 := (a1 - a3.toInt64)
    fi (x3 = 0) none (
    fi ((lg_cmp (x4 - x4 / x3 * x3) a5.toInt64) = 0) (
      fi (fm_is M 77 77 a0 = true) (
      fi (0 ≤ (lg_cmp x2 ((M.1 223 a0 0).toInt64))) (
        g47 x2 M) (
        g48 x2 (Int32.ofInt 1) M)) none) (
      g47 x2 M))))
noncomputable def FX33_contextAt_0 (a0 : Nat) (a1 : Int64) (a3 : Int32) (a4 : Int32) (a5 : Int32) (M : FM) : Option (Int32 × FM) := BX33_contextAt_0 FX33_contextAt_47 FX33_contextAt_48 a0 a1 a3 a4 a5 M
noncomputable def FX33_contextAt (a0 : Nat) (a1 : Int64) (a3 : Int32) (a4 : Int32) (a5 : Int32) (M : FM) : Option (Int32 × FM) := FX33_contextAt_0 a0 a1 a3 a4 a5 M
/-! BoardMachine$Signals$Controller.claim(I)I -/
noncomputable def BX33_claim_47 (a2 : Int32) (M : FM) : Option (Int32 × FM) :=
  some (a2, M)
noncomputable def FX33_claim_47 (n : Nat) (a2 : Int32) (M : FM) : Option (Int32 × FM) := BX33_claim_47 a2 M
noncomputable def BX33_claim_0 (f0 : Nat → Int32 → Int32 → FM → Option (Int32 × FM)) (g47 : Int32 → FM → Option (Int32 × FM)) (a0 : Nat) (a1 : Int32) (M : FM) : Option (Int32 × FM) :=
  fi (fm_is M 77 77 a0 = true) (
  fi (fm_is M 77 77 a0 = true) (
  let x1 : Nat := (M.2.2 225 a0 0)
  fi (fm_is M 901 901 x1 = true ∧ fm_in M x1 a1 = true) (
  fi (fm_is M 77 77 a0 = true) (
  (f0 a0 ((M.1 228 a0 0) &&& (M.1 3 x1 a1.toNatClampNeg)) (Int32.ofInt 0) M).bind fun r2 =>
  fi (r2.1 ≤ 0) (
    g47 r2.1 r2.2) (
    fi (fm_is r2.2 77 77 a0 = true) (
    fi (fm_is r2.2 77 77 a0 = true) (
    let M3 : FM := fm_sI r2.2 228 a0 0 ((r2.2.1 228 a0 0) &&& (((Int32.ofInt 1) <<< (r2.1 &&& 31)) ^^^ (Int32.ofInt (-1))))
    fi (fm_is M3 77 77 a0 = true) (
    fi (fm_is M3 77 77 a0 = true) (
    let M4 : FM := fm_sI M3 229 a0 0 ((M3.1 229 a0 0) ||| ((Int32.ofInt 1) <<< (r2.1 &&& 31)))
    g47 r2.1 M4) none) none) none) none)) none) none) none) none
noncomputable def FX33_claim_0 (n : Nat) (a0 : Nat) (a1 : Int32) (M : FM) : Option (Int32 × FM) := BX33_claim_0 (FX33_best n) (FX33_claim_47 n ) a0 a1 M
noncomputable def FX33_claim (n : Nat) (a0 : Nat) (a1 : Int32) (M : FM) : Option (Int32 × FM) := FX33_claim_0 n a0 a1 M
/-! BoardMachine$Signals$Controller.read(JI)J -/
noncomputable def BX33_read_144 (s0 : Int64) (M : FM) : Option (Int64 × FM) :=
  some (s0, M)
noncomputable def FX33_read_144 (n : Nat) (s0 : Int64) (M : FM) : Option (Int64 × FM) := BX33_read_144 s0 M
noncomputable def BX33_read_15 (M : FM) : Option (Int64 × FM) :=
  some ((Int64.ofInt 0), M)
noncomputable def FX33_read_15 (n : Nat) (M : FM) : Option (Int64 × FM) := BX33_read_15 M
noncomputable def BX33_read_0 (f0 : Nat → Int64 → Int32 → Int32 → Int32 → FM → Option (Int32 × FM)) (f1 : Nat → Int32 → FM → Option (Int32 × FM)) (g15 : FM → Option (Int64 × FM)) (g144 : Int64 → FM → Option (Int64 × FM)) (a0 : Nat) (a1 : Int64) (a3 : Int32) (M : FM) : Option (Int64 × FM) :=
  fi (a3 = (Int32.ofInt 4)) (
    fi ((lg_cmp (a1 &&& (Int64.ofInt 3)) (Int64.ofInt 0)) = 0) (
      fi (fm_is M 77 77 a0 = true) (
      (f0 a0 a1 (Int32.ofInt 8192) (Int32.ofInt 128) (Int32.ofInt 0) M).bind fun r1 =>
      fi (fm_is r1.2 77 77 a0 = true) (
      (f0 a0 a1 (Int32.ofInt 2097152) (Int32.ofInt 4096) (Int32.ofInt 0) r1.2).bind fun r2 =>
      fi (fm_is r2.2 77 77 a0 = true) (
      (f0 a0 a1 (Int32.ofInt 2097152) (Int32.ofInt 4096) (Int32.ofInt 4) r2.2).bind fun r3 =>
      fi (0 ≤ (lg_cmp a1 (Int64.ofInt 128))) (
        fi ((lg_cmp a1 (Int64.ofInt 4096)) = 0) (
          fi (fm_is r3.2 77 77 a0 = true) (
          some (((r3.2.1 228 a0 0).toInt64 &&& (Int64.ofInt 4294967295)), r3.2)) none) (
          fi (r1.1 < 0) (
            fi (r2.1 < 0) (
              fi (r3.1 < 0) (
                g144 (Int64.ofInt 0) r3.2) (
                fi (fm_is r3.2 77 77 a0 = true) (
                (f1 a0 r3.1 r3.2).bind fun r4 =>
                g144 r4.1.toInt64 r4.2) none)) (
              fi (fm_is r3.2 77 77 a0 = true) (
              let x5 : Nat := (r3.2.2.2 226 a0 0)
              fi (fm_is r3.2 901 901 x5 = true ∧ fm_in r3.2 x5 r2.1 = true) (
              g144 ((r3.2.1 3 x5 r2.1.toNatClampNeg).toInt64) r3.2) none) none)) (
            fi (fm_is r3.2 77 77 a0 = true) (
            let x6 : Nat := (r3.2.2.2 225 a0 0)
            fi (fm_is r3.2 901 901 x6 = true ∧ fm_in r3.2 x6 r1.1 = true) (
            some (((r3.2.1 3 x6 r1.1.toNatClampNeg).toInt64 &&& (Int64.ofInt 4294967295)), r3.2)) none) none))) (
        fi (fm_is r3.2 77 77 a0 = true) (
        let x7 : Int32 := (a1 >>> ((Int32.ofInt 2).toInt64 &&& 63)).toInt32
        let x8 : Nat := (r3.2.2.2 224 a0 0)
        fi (fm_is r3.2 901 901 x8 = true ∧ fm_in r3.2 x8 x7 = true) (
        some ((r3.2.1 3 x8 x7.toNatClampNeg).toInt64, r3.2)) none) none)) none) none) none) (
      g15 M)) (
    g15 M)
noncomputable def FX33_read_0 (n : Nat) (a0 : Nat) (a1 : Int64) (a3 : Int32) (M : FM) : Option (Int64 × FM) := BX33_read_0 FX33_contextAt (FX33_claim n) (FX33_read_15 n ) (FX33_read_144 n ) a0 a1 a3 M
noncomputable def FX33_read (n : Nat) (a0 : Nat) (a1 : Int64) (a3 : Int32) (M : FM) : Option (Int64 × FM) := FX33_read_0 n a0 a1 a3 M
/-! BoardMachine$Signals$Serial.has(II)Z -/
noncomputable def BX31_has_19 (s0 : Int32) (M : FM) : Option (Int32 × FM) :=
  fi (s0 = 0 ∨ s0 = 1) (some (s0, M)) none
noncomputable def FX31_has_19 (s0 : Int32) (M : FM) : Option (Int32 × FM) := BX31_has_19 s0 M
noncomputable def BX31_has_0 (g19 : Int32 → FM → Option (Int32 × FM)) (a0 : Nat) (a1 : Int32) (a2 : Int32) (M : FM) : Option (Int32 × FM) :=
  fi (fm_is M 78 78 a0 = true) (
  let x1 : Nat := (M.2.2 235 a0 0)
  fi (fm_is M 901 901 x1 = true ∧ fm_in M x1 a1 = true) (
  fi ((((M.1 3 x1 a1.toNatClampNeg) >>> (a2 &&& 31)) &&& (Int32.ofInt 1)) = (Int32.ofInt 1)) (
    g19 (Int32.ofInt 1) M) (
    g19 (Int32.ofInt 0) M)) none) none
noncomputable def FX31_has_0 (a0 : Nat) (a1 : Int32) (a2 : Int32) (M : FM) : Option (Int32 × FM) := BX31_has_0 FX31_has_19 a0 a1 a2 M
noncomputable def FX31_has (a0 : Nat) (a1 : Int32) (a2 : Int32) (M : FM) : Option (Int32 × FM) := FX31_has_0 a0 a1 a2 M
/-! BoardMachine$Signals$Serial.take()I -/
noncomputable def BX31_take_0 (a0 : Nat) (M : FM) : Option (Int32 × FM) :=
  fi (fm_is M 78 78 a0 = true) (
  fi ((M.1 232 a0 0) = 0) (
    some ((Int32.ofInt 0), M)) (
    fi (fm_is M 78 78 a0 = true) (
    fi (fm_is M 78 78 a0 = true) (
    let x1 : Int32 := (M.1 231 a0 0)
    let x2 : Nat := (M.2.2 230 a0 0)
    fi (fm_is M 901 901 x2 = true ∧ fm_in M x2 x1 = true) (
    let x3 : Int32 := (M.1 3 x2 x1.toNatClampNeg)
    fi (fm_is M 78 78 a0 = true) (
    let x4 : Int32 := ((M.1 231 a0 0) + (Int32.ofInt 1))
    fi ((Int32.ofInt 16) = 0) none (
    fi (fm_is M 78 78 a0 = true) (
    let M5 : FM := fm_sI M 231 a0 0 (x4 - x4 / (Int32.ofInt 16) * (Int32.ofInt 16))
    fi (fm_is M5 78 78 a0 = true) (
    fi (fm_is M5 78 78 a0 = true) (
    let M6 : FM := fm_sI M5 232 a0 0 ((M5.1 232 a0 0) - (Int32.ofInt 1))
    some (x3, M6)) none) none) none)) none) none) none) none)) none
noncomputable def FX31_take_0 (a0 : Nat) (M : FM) : Option (Int32 × FM) := BX31_take_0 a0 M
noncomputable def FX31_take (a0 : Nat) (M : FM) : Option (Int32 × FM) := FX31_take_0 a0 M
/-! BoardMachine$Signals$Serial.cause()I -/
noncomputable def BX31_cause_58 (s0 : Int32) (M : FM) : Option (Int32 × FM) :=
  some (s0, M)
noncomputable def FX31_cause_58 (s0 : Int32) (M : FM) : Option (Int32 × FM) := BX31_cause_58 s0 M
noncomputable def BX31_cause_57 (g58 : Int32 → FM → Option (Int32 × FM)) (M : FM) : Option (Int32 × FM) :=
  g58 (Int32.ofInt 1) M
noncomputable def FX31_cause_57 (M : FM) : Option (Int32 × FM) := BX31_cause_57 FX31_cause_58 M
noncomputable def BX31_cause_37 (f0 : Nat → Int32 → Int32 → FM → Option (Int32 × FM)) (g57 : FM → Option (Int32 × FM)) (g58 : Int32 → FM → Option (Int32 × FM)) (a0 : Nat) (M : FM) : Option (Int32 × FM) :=
  fi (fm_is M 78 78 a0 = true) (
  (f0 a0 (Int32.ofInt 1) (Int32.ofInt 1) M).bind fun r1 =>
  fi (r1.1 = 0) (
    g57 r1.2) (
    fi (fm_is r1.2 78 78 a0 = true) (
    fi ((r1.2.1 238 a0 0) = 0) (
      g57 r1.2) (
      g58 (Int32.ofInt 2) r1.2)) none)) none
noncomputable def FX31_cause_37 (a0 : Nat) (M : FM) : Option (Int32 × FM) := BX31_cause_37 FX31_has FX31_cause_57 FX31_cause_58 a0 M
noncomputable def BX31_cause_19 (f0 : Nat → Int32 → Int32 → FM → Option (Int32 × FM)) (g37 : Nat → FM → Option (Int32 × FM)) (a0 : Nat) (M : FM) : Option (Int32 × FM) :=
  fi (fm_is M 78 78 a0 = true) (
  (f0 a0 (Int32.ofInt 1) (Int32.ofInt 0) M).bind fun r1 =>
  fi (r1.1 = 0) (
    g37 a0 r1.2) (
    fi (fm_is r1.2 78 78 a0 = true) (
    fi ((r1.2.1 232 a0 0) ≤ 0) (
      g37 a0 r1.2) (
      some ((Int32.ofInt 4), r1.2))) none)) none
noncomputable def FX31_cause_19 (a0 : Nat) (M : FM) : Option (Int32 × FM) := BX31_cause_19 FX31_has FX31_cause_37 a0 M
noncomputable def BX31_cause_0 (f0 : Nat → Int32 → Int32 → FM → Option (Int32 × FM)) (g19 : Nat → FM → Option (Int32 × FM)) (a0 : Nat) (M : FM) : Option (Int32 × FM) :=
  fi (fm_is M 78 78 a0 = true) (
  (f0 a0 (Int32.ofInt 1) (Int32.ofInt 2) M).bind fun r1 =>
  fi (r1.1 = 0) (
    g19 a0 r1.2) (
    fi (fm_is r1.2 78 78 a0 = true) (
    fi ((r1.2.1 237 a0 0) = 0) (
      g19 a0 r1.2) (
      some ((Int32.ofInt 6), r1.2))) none)) none
noncomputable def FX31_cause_0 (a0 : Nat) (M : FM) : Option (Int32 × FM) := BX31_cause_0 FX31_has FX31_cause_19 a0 M
noncomputable def FX31_cause (a0 : Nat) (M : FM) : Option (Int32 × FM) := FX31_cause_0 a0 M
/-! BoardMachine$Signals$Serial.readCause()I -/
noncomputable def BX31_readCause_40 (s0 : Int32) (M : FM) : Option (Int32 × FM) :=
  some (s0, M)
noncomputable def FX31_readCause_40 (s0 : Int32) (M : FM) : Option (Int32 × FM) := BX31_readCause_40 s0 M
noncomputable def BX31_readCause_20 (g40 : Int32 → FM → Option (Int32 × FM)) (a0 : Nat) (a1 : Int32) (s0 : Nat) (s1 : Int32) (s2 : Int32) (M : FM) : Option (Int32 × FM) :=
  let x1 : Int32 := (s1 &&& s2)
  fi (fm_is M 78 78 s0 = true) (
  fi (x1 = 0 ∨ x1 = 1) (
  let M2 : FM := fm_sI M 238 s0 0 x1
  fi (fm_is M2 78 78 a0 = true) (
  fi ((M2.1 236 a0 0) = 0) (
    g40 a1 M2) (
    g40 (a1 ||| (Int32.ofInt 192)) M2)) none) none) none
noncomputable def FX31_readCause_20 (a0 : Nat) (a1 : Int32) (s0 : Nat) (s1 : Int32) (s2 : Int32) (M : FM) : Option (Int32 × FM) := BX31_readCause_20 FX31_readCause_40 a0 a1 s0 s1 s2 M
noncomputable def BX31_readCause_0 (f0 : Nat → FM → Option (Int32 × FM)) (g20 : Nat → Int32 → Nat → Int32 → Int32 → FM → Option (Int32 × FM)) (a0 : Nat) (M : FM) : Option (Int32 × FM) :=
  fi (fm_is M 78 78 a0 = true) (
  (f0 a0 M).bind fun r1 =>
  fi (fm_is r1.2 78 78 a0 = true) (
  fi (r1.1 = (Int32.ofInt 2)) (
    g20 a0 r1.1 a0 (r1.2.1 238 a0 0) (Int32.ofInt 0) r1.2) (
    g20 a0 r1.1 a0 (r1.2.1 238 a0 0) (Int32.ofInt 1) r1.2)) none) none
noncomputable def FX31_readCause_0 (a0 : Nat) (M : FM) : Option (Int32 × FM) := BX31_readCause_0 FX31_cause FX31_readCause_20 a0 M
noncomputable def FX31_readCause (a0 : Nat) (M : FM) : Option (Int32 × FM) := FX31_readCause_0 a0 M
/-! BoardMachine$Signals$Serial.readStatus()I -/
noncomputable def BX31_readStatus_27 (a0 : Nat) (s0 : Int32) (s1 : Int32) (M : FM) : Option (Int32 × FM) :=
  let x1 : Int32 := (s0 ||| s1)
  fi (fm_is M 78 78 a0 = true) (
  fi ((Int32.ofInt 0) = 0 ∨ (Int32.ofInt 0) = 1) (
  let M2 : FM := fm_sI M 237 a0 0 (Int32.ofInt 0)
  some (x1, M2)) none) none
noncomputable def FX31_readStatus_27 (a0 : Nat) (s0 : Int32) (s1 : Int32) (M : FM) : Option (Int32 × FM) := BX31_readStatus_27 a0 s0 s1 M
noncomputable def BX31_readStatus_14 (g27 : Nat → Int32 → Int32 → FM → Option (Int32 × FM)) (a0 : Nat) (s0 : Int32) (s1 : Int32) (M : FM) : Option (Int32 × FM) :=
  fi (fm_is M 78 78 a0 = true) (
  fi ((M.1 237 a0 0) = 0) (
    g27 a0 (s0 ||| s1) (Int32.ofInt 0) M) (
    g27 a0 (s0 ||| s1) (Int32.ofInt 2) M)) none
noncomputable def FX31_readStatus_14 (a0 : Nat) (s0 : Int32) (s1 : Int32) (M : FM) : Option (Int32 × FM) := BX31_readStatus_14 FX31_readStatus_27 a0 s0 s1 M
noncomputable def BX31_readStatus_0 (g14 : Nat → Int32 → Int32 → FM → Option (Int32 × FM)) (a0 : Nat) (M : FM) : Option (Int32 × FM) :=
  fi (fm_is M 78 78 a0 = true) (
  fi ((M.1 232 a0 0) ≤ 0) (
    g14 a0 (Int32.ofInt 96) (Int32.ofInt 0) M) (
    g14 a0 (Int32.ofInt 96) (Int32.ofInt 1) M)) none
noncomputable def FX31_readStatus_0 (a0 : Nat) (M : FM) : Option (Int32 × FM) := BX31_readStatus_0 FX31_readStatus_14 a0 M
noncomputable def FX31_readStatus (a0 : Nat) (M : FM) : Option (Int32 × FM) := FX31_readStatus_0 a0 M
/-! BoardMachine$Signals$Serial.modem()I -/
noncomputable def BX31_modem_46 (s0 : Int32) (M : FM) : Option (Int32 × FM) :=
  some (s0, M)
noncomputable def FX31_modem_46 (s0 : Int32) (M : FM) : Option (Int32 × FM) := BX31_modem_46 s0 M
noncomputable def BX31_modem_0 (f0 : Nat → Int32 → Int32 → FM → Option (Int32 × FM)) (g46 : Int32 → FM → Option (Int32 × FM)) (a0 : Nat) (M : FM) : Option (Int32 × FM) :=
  fi (fm_is M 78 78 a0 = true) (
  let x1 : Nat := (M.2.2 235 a0 0)
  fi (fm_is M 901 901 x1 = true ∧ fm_in M x1 (Int32.ofInt 4) = true) (
  let x2 : Int32 := (M.1 3 x1 (Int32.ofInt 4).toNatClampNeg)
  fi (fm_is M 78 78 a0 = true) (
  (f0 a0 (Int32.ofInt 4) (Int32.ofInt 4) M).bind fun r3 =>
  fi (r3.1 = 0) (
    g46 (Int32.ofInt 176) r3.2) (
    g46 (((((x2 &&& (Int32.ofInt 2)) <<< ((Int32.ofInt 3) &&& 31)) ||| ((x2 &&& (Int32.ofInt 1)) <<< ((Int32.ofInt 5) &&& 31))) ||| ((x2 &&& (Int32.ofInt 4)) <<< ((Int32.ofInt 4) &&& 31))) ||| ((x2 &&& (Int32.ofInt 8)) <<< ((Int32.ofInt 4) &&& 31))) r3.2)) none) none) none
noncomputable def FX31_modem_0 (a0 : Nat) (M : FM) : Option (Int32 × FM) := BX31_modem_0 FX31_has FX31_modem_46 a0 M
noncomputable def FX31_modem (a0 : Nat) (M : FM) : Option (Int32 × FM) := FX31_modem_0 a0 M
/-! BoardMachine$Signals$Serial.read(JI)J -/
noncomputable def BX31_read_116 (a0 : Nat) (a4 : Int32) (M : FM) : Option (Int64 × FM) :=
  fi (fm_is M 78 78 a0 = true) (
  let x1 : Nat := (M.2.2 235 a0 0)
  fi (fm_is M 901 901 x1 = true ∧ fm_in M x1 a4 = true) (
  some ((M.1 3 x1 a4.toNatClampNeg).toInt64, M)) none) none
noncomputable def FX31_read_116 (a0 : Nat) (a4 : Int32) (M : FM) : Option (Int64 × FM) := BX31_read_116 a0 a4 M
noncomputable def BX31_read_47 (f1 : Nat → FM → Option (Int32 × FM)) (f2 : Nat → FM → Option (Int32 × FM)) (f3 : Nat → FM → Option (Int32 × FM)) (f4 : Nat → FM → Option (Int32 × FM)) (g116 : Nat → Int32 → FM → Option (Int64 × FM)) (a0 : Nat) (a4 : Int32) (M : FM) : Option (Int64 × FM) :=
  fi (a4 = (Int32.ofInt 0)) (
    fi (fm_is M 78 78 a0 = true) (
    (f1 a0 M).bind fun r1 =>
    some (r1.1.toInt64, r1.2)) none) (
  fi (a4 = (Int32.ofInt 1)) (
    g116 a0 a4 M) (
  fi (a4 = (Int32.ofInt 2)) (
    fi (fm_is M 78 78 a0 = true) (
    (f2 a0 M).bind fun r2 =>
    some (r2.1.toInt64, r2.2)) none) (
  fi (a4 = (Int32.ofInt 3)) (
    g116 a0 a4 M) (
  fi (a4 = (Int32.ofInt 4)) (
    g116 a0 a4 M) (
  fi (a4 = (Int32.ofInt 5)) (
    fi (fm_is M 78 78 a0 = true) (
    (f3 a0 M).bind fun r3 =>
    some (r3.1.toInt64, r3.2)) none) (
  fi (a4 = (Int32.ofInt 6)) (
    fi (fm_is M 78 78 a0 = true) (
    (f4 a0 M).bind fun r4 =>
    some (r4.1.toInt64, r4.2)) none) (
  g116 a0 a4 M)))))))
noncomputable def FX31_read_47 (a0 : Nat) (a4 : Int32) (M : FM) : Option (Int64 × FM) := BX31_read_47 FX31_take FX31_readCause FX31_readStatus FX31_modem FX31_read_116 a0 a4 M
noncomputable def BX31_read_13 (M : FM) : Option (Int64 × FM) :=
  some ((Int64.ofInt 0), M)
noncomputable def FX31_read_13 (M : FM) : Option (Int64 × FM) := BX31_read_13 M
noncomputable def BX31_read_0 (f0 : Nat → Int32 → Int32 → FM → Option (Int32 × FM)) (g13 : FM → Option (Int64 × FM)) (g47 : Nat → Int32 → FM → Option (Int64 × FM)) (a0 : Nat) (a1 : Int64) (a3 : Int32) (M : FM) : Option (Int64 × FM) :=
  fi (a3 = (Int32.ofInt 1)) (
    fi ((lg_cmp a1 (Int64.ofInt 7)) ≤ 0) (
      let x1 : Int32 := a1.toInt32
      fi ((Int32.ofInt 2) ≤ x1) (
        g47 a0 x1 M) (
        fi (fm_is M 78 78 a0 = true) (
        (f0 a0 (Int32.ofInt 3) (Int32.ofInt 7) M).bind fun r2 =>
        fi (r2.1 = 0) (
          g47 a0 x1 r2.2) (
          fi (fm_is r2.2 78 78 a0 = true) (
          let x3 : Int32 := ((Int32.ofInt 8) + x1)
          let x4 : Nat := (r2.2.2.2 235 a0 0)
          fi (fm_is r2.2 901 901 x4 = true ∧ fm_in r2.2 x4 x3 = true) (
          some ((r2.2.1 3 x4 x3.toNatClampNeg).toInt64, r2.2)) none) none)) none)) (
      g13 M)) (
    g13 M)
noncomputable def FX31_read_0 (a0 : Nat) (a1 : Int64) (a3 : Int32) (M : FM) : Option (Int64 × FM) := BX31_read_0 FX31_has FX31_read_13 FX31_read_47 a0 a1 a3 M
noncomputable def FX31_read (a0 : Nat) (a1 : Int64) (a3 : Int32) (M : FM) : Option (Int64 × FM) := FX31_read_0 a0 a1 a3 M
/-! BoardMachine$Signals$Timer.find(J)I -/
noncomputable def BX32_find_48 (s0 : Int32) (M : FM) : Option (Int32 × FM) :=
  some (s0, M)
noncomputable def FX32_find_48 (s0 : Int32) (M : FM) : Option (Int32 × FM) := BX32_find_48 s0 M
noncomputable def BX32_find_47 (g48 : Int32 → FM → Option (Int32 × FM)) (M : FM) : Option (Int32 × FM) :=
  g48 (Int32.ofInt (-1)) M
noncomputable def FX32_find_47 (M : FM) : Option (Int32 × FM) := BX32_find_47 FX32_find_48 M
noncomputable def BX32_find_18 (g47 : FM → Option (Int32 × FM)) (g48 : Int32 → FM → Option (Int32 × FM)) (a0 : Nat) (a1 : Int64) (M : FM) : Option (Int32 × FM) :=
  let x1 : Int64 := ((a1 - (Int64.ofInt 16384)) >>> ((Int32.ofInt 3).toInt64 &&& 63))
  fi ((lg_cmp x1 (Int64.ofInt 0)) < 0) (
    g47 M) (
    fi (fm_is M 80 80 a0 = true) (
    fi (0 ≤ (lg_cmp x1 ((M.1 244 a0 0).toInt64))) (
      g47 M) (
      g48 x1.toInt32 M)) none)
noncomputable def FX32_find_18 (a0 : Nat) (a1 : Int64) (M : FM) : Option (Int32 × FM) := BX32_find_18 FX32_find_47 FX32_find_48 a0 a1 M
noncomputable def BX32_find_0 (g18 : Nat → Int64 → FM → Option (Int32 × FM)) (a0 : Nat) (a1 : Int64) (M : FM) : Option (Int32 × FM) :=
  fi ((lg_cmp a1 (Int64.ofInt 49144)) < 0) (
    g18 a0 a1 M) (
    fi (0 ≤ (lg_cmp a1 (Int64.ofInt 49152))) (
      g18 a0 a1 M) (
      some ((Int32.ofInt 4), M)))
noncomputable def FX32_find_0 (a0 : Nat) (a1 : Int64) (M : FM) : Option (Int32 × FM) := BX32_find_0 FX32_find_18 a0 a1 M
noncomputable def FX32_find (a0 : Nat) (a1 : Int64) (M : FM) : Option (Int32 × FM) := FX32_find_0 a0 a1 M
/-! BoardMachine$Signals$Timer.isWhole(JI)Z -/
noncomputable def BX32_isWhole_21 (s0 : Int32) (M : FM) : Option (Int32 × FM) :=
  fi (s0 = 0 ∨ s0 = 1) (some (s0, M)) none
noncomputable def FX32_isWhole_21 (s0 : Int32) (M : FM) : Option (Int32 × FM) := BX32_isWhole_21 s0 M
noncomputable def BX32_isWhole_20 (g21 : Int32 → FM → Option (Int32 × FM)) (M : FM) : Option (Int32 × FM) :=
  g21 (Int32.ofInt 0) M
noncomputable def FX32_isWhole_20 (M : FM) : Option (Int32 × FM) := BX32_isWhole_20 FX32_isWhole_21 M
noncomputable def BX32_isWhole_0 (g20 : FM → Option (Int32 × FM)) (g21 : Int32 → FM → Option (Int32 × FM)) (a0 : Nat) (a1 : Int64) (a3 : Int32) (M : FM) : Option (Int32 × FM) :=
  fi (a3 = (Int32.ofInt 8)) (
    fi ((lg_cmp (a1 &&& (Int64.ofInt 7)) (Int64.ofInt 0)) = 0) (
      g21 (Int32.ofInt 1) M) (
      g20 M)) (
    g20 M)
noncomputable def FX32_isWhole_0 (a0 : Nat) (a1 : Int64) (a3 : Int32) (M : FM) : Option (Int32 × FM) := BX32_isWhole_0 FX32_isWhole_20 FX32_isWhole_21 a0 a1 a3 M
noncomputable def FX32_isWhole (a0 : Nat) (a1 : Int64) (a3 : Int32) (M : FM) : Option (Int32 × FM) := FX32_isWhole_0 a0 a1 a3 M
/-! BoardMachine$Signals$Timer.isHalf(JI)Z -/
noncomputable def BX32_isHalf_20 (s0 : Int32) (M : FM) : Option (Int32 × FM) :=
  fi (s0 = 0 ∨ s0 = 1) (some (s0, M)) none
noncomputable def FX32_isHalf_20 (s0 : Int32) (M : FM) : Option (Int32 × FM) := BX32_isHalf_20 s0 M
noncomputable def BX32_isHalf_19 (g20 : Int32 → FM → Option (Int32 × FM)) (M : FM) : Option (Int32 × FM) :=
  g20 (Int32.ofInt 0) M
noncomputable def FX32_isHalf_19 (M : FM) : Option (Int32 × FM) := BX32_isHalf_19 FX32_isHalf_20 M
noncomputable def BX32_isHalf_0 (g19 : FM → Option (Int32 × FM)) (g20 : Int32 → FM → Option (Int32 × FM)) (a0 : Nat) (a1 : Int64) (a3 : Int32) (M : FM) : Option (Int32 × FM) :=
  fi (a3 = (Int32.ofInt 4)) (
    fi ((lg_cmp (a1 &&& (Int64.ofInt 3)) (Int64.ofInt 0)) = 0) (
      g20 (Int32.ofInt 1) M) (
      g19 M)) (
    g19 M)
noncomputable def FX32_isHalf_0 (a0 : Nat) (a1 : Int64) (a3 : Int32) (M : FM) : Option (Int32 × FM) := BX32_isHalf_0 FX32_isHalf_19 FX32_isHalf_20 a0 a1 a3 M
noncomputable def FX32_isHalf (a0 : Nat) (a1 : Int64) (a3 : Int32) (M : FM) : Option (Int32 × FM) := FX32_isHalf_0 a0 a1 a3 M
/-! BoardMachine$Signals$Timer.read(JI)J -/
noncomputable def BX32_read_120 (s0 : Int64) (M : FM) : Option (Int64 × FM) :=
  some (s0, M)
noncomputable def FX32_read_120 (s0 : Int64) (M : FM) : Option (Int64 × FM) := BX32_read_120 s0 M
noncomputable def BX32_read_119 (g120 : Int64 → FM → Option (Int64 × FM)) (M : FM) : Option (Int64 × FM) :=
  g120 (Int64.ofInt 0) M
noncomputable def FX32_read_119 (M : FM) : Option (Int64 × FM) := BX32_read_119 FX32_read_120 M
noncomputable def BX32_read_78 (f2 : Nat → Int64 → Int32 → FM → Option (Int32 × FM)) (g119 : FM → Option (Int64 × FM)) (g120 : Int64 → FM → Option (Int64 × FM)) (a0 : Nat) (a1 : Int64) (a3 : Int32) (a4 : Int32) (M : FM) : Option (Int64 × FM) :=
  fi (0 ≤ a4) (
    g119 M) (
    fi (fm_is M 80 80 a0 = true) (
    (f2 a0 a1 a3 M).bind fun r1 =>
    fi (r1.1 = 0) (
      g119 r1.2) (
      fi (fm_is r1.2 80 80 a0 = true) (
      fi (0 ≤ (lg_cmp a1 ((Int64.ofInt 4) * (r1.2.1 244 a0 0).toInt64))) (
        g119 r1.2) (
        fi (fm_is r1.2 80 80 a0 = true) (
        let x2 : Int32 := (a1 >>> ((Int32.ofInt 2).toInt64 &&& 63)).toInt32
        let x3 : Nat := (r1.2.2.2 245 a0 0)
        fi (fm_is r1.2 901 901 x3 = true ∧ fm_in r1.2 x3 x2 = true) (
        g120 ((r1.2.1 3 x3 x2.toNatClampNeg).toInt64) r1.2) none) none)) none)) none)
noncomputable def FX32_read_78 (a0 : Nat) (a1 : Int64) (a3 : Int32) (a4 : Int32) (M : FM) : Option (Int64 × FM) := BX32_read_78 FX32_isHalf FX32_read_119 FX32_read_120 a0 a1 a3 a4 M
noncomputable def BX32_read_77 (s0 : Int64) (M : FM) : Option (Int64 × FM) :=
  some (s0, M)
noncomputable def FX32_read_77 (s0 : Int64) (M : FM) : Option (Int64 × FM) := BX32_read_77 s0 M
noncomputable def BX32_read_29 (f2 : Nat → Int64 → Int32 → FM → Option (Int32 × FM)) (g77 : Int64 → FM → Option (Int64 × FM)) (g78 : Nat → Int64 → Int32 → Int32 → FM → Option (Int64 × FM)) (a0 : Nat) (a1 : Int64) (a3 : Int32) (a4 : Int32) (M : FM) : Option (Int64 × FM) :=
  fi (a4 < 0) (
    g78 a0 a1 a3 a4 M) (
    fi (fm_is M 80 80 a0 = true) (
    (f2 a0 a1 a3 M).bind fun r1 =>
    fi (r1.1 = 0) (
      g78 a0 a1 a3 a4 r1.2) (
      fi ((lg_cmp (a1 &&& (Int64.ofInt 4)) (Int64.ofInt 0)) = 0) (
        fi (fm_is r1.2 80 80 a0 = true) (
        let x2 : Nat := (r1.2.2.2 246 a0 0)
        fi (fm_is r1.2 902 902 x2 = true ∧ fm_in r1.2 x2 a4 = true) (
        g77 ((r1.2.2.1 3 x2 a4.toNatClampNeg) &&& (Int64.ofInt 4294967295)) r1.2) none) none) (
        fi (fm_is r1.2 80 80 a0 = true) (
        let x3 : Nat := (r1.2.2.2 246 a0 0)
        fi (fm_is r1.2 902 902 x3 = true ∧ fm_in r1.2 x3 a4 = true) (
        g77 (((r1.2.2.1 3 x3 a4.toNatClampNeg).toUInt64 >>> ((Int32.ofInt 32).toInt64.toUInt64 &&& Int64.toUInt64 63)).toInt64) r1.2) none) none))) none)
noncomputable def FX32_read_29 (a0 : Nat) (a1 : Int64) (a3 : Int32) (a4 : Int32) (M : FM) : Option (Int64 × FM) := BX32_read_29 FX32_isHalf FX32_read_77 FX32_read_78 a0 a1 a3 a4 M
noncomputable def BX32_read_0 (f0 : Nat → Int64 → FM → Option (Int32 × FM)) (f1 : Nat → Int64 → Int32 → FM → Option (Int32 × FM)) (g29 : Nat → Int64 → Int32 → Int32 → FM → Option (Int64 × FM)) (a0 : Nat) (a1 : Int64) (a3 : Int32) (M : FM) : Option (Int64 × FM) :=
  fi (fm_is M 80 80 a0 = true) (
  (f0 a0 a1 M).bind fun r1 =>
  fi (r1.1 < 0) (
    g29 a0 a1 a3 r1.1 r1.2) (
    fi (fm_is r1.2 80 80 a0 = true) (
    (f1 a0 a1 a3 r1.2).bind fun r2 =>
    fi (r2.1 = 0) (
      g29 a0 a1 a3 r1.1 r2.2) (
      fi (fm_is r2.2 80 80 a0 = true) (
      let x3 : Nat := (r2.2.2.2 246 a0 0)
      fi (fm_is r2.2 902 902 x3 = true ∧ fm_in r2.2 x3 r1.1 = true) (
      some ((r2.2.2.1 3 x3 r1.1.toNatClampNeg), r2.2)) none) none)) none)) none
noncomputable def FX32_read_0 (a0 : Nat) (a1 : Int64) (a3 : Int32) (M : FM) : Option (Int64 × FM) := BX32_read_0 FX32_find FX32_isWhole FX32_read_29 a0 a1 a3 M
noncomputable def FX32_read (a0 : Nat) (a1 : Int64) (a3 : Int32) (M : FM) : Option (Int64 × FM) := FX32_read_0 a0 a1 a3 M
/-! BoardMachine$Signals$Controller.look()V -/
noncomputable def BX33_look_0 (a0 : Nat) (M : FM) : Option (FM) :=
  fi (fm_is M 77 77 a0 = true) (
  fi (fm_is M 77 77 a0 = true) (
  fi (fm_is M 77 77 a0 = true) (
  fi (fm_is M 77 77 a0 = true) (
  let M1 : FM := fm_sI M 228 a0 0 ((M.1 228 a0 0) ||| ((M.1 227 a0 0) &&& ((M.1 229 a0 0) ^^^ (Int32.ofInt (-1)))))
  some M1) none) none) none) none
noncomputable def FX33_look_0 (a0 : Nat) (M : FM) : Option (FM) := BX33_look_0 a0 M
noncomputable def FX33_look (a0 : Nat) (M : FM) : Option (FM) := FX33_look_0 a0 M
/-! BoardMachine$Signals$Controller.signal(IZ)V -/
noncomputable def BX33_signal_26 (f0 : Nat → FM → Option (FM)) (a0 : Nat) (s0 : Nat) (s1 : Int32) (M : FM) : Option (FM) :=
  fi (fm_is M 77 77 s0 = true) (
  let M1 : FM := fm_sI M 227 s0 0 s1
  fi (fm_is M1 77 77 a0 = true) (
  (f0 a0 M1).bind fun M2 =>
  some M2) none) none
noncomputable def FX33_signal_26 (a0 : Nat) (s0 : Nat) (s1 : Int32) (M : FM) : Option (FM) := BX33_signal_26 FX33_look a0 s0 s1 M
noncomputable def BX33_signal_0 (g26 : Nat → Nat → Int32 → FM → Option (FM)) (a0 : Nat) (a1 : Int32) (a2 : Int32) (M : FM) : Option (FM) :=
  fi (a2 = 0) (
    fi (fm_is M 77 77 a0 = true) (
    g26 a0 a0 ((M.1 227 a0 0) &&& (((Int32.ofInt 1) <<< (a1 &&& 31)) ^^^ (Int32.ofInt (-1)))) M) none) (
    fi (fm_is M 77 77 a0 = true) (
    g26 a0 a0 ((M.1 227 a0 0) ||| ((Int32.ofInt 1) <<< (a1 &&& 31))) M) none)
noncomputable def FX33_signal_0 (a0 : Nat) (a1 : Int32) (a2 : Int32) (M : FM) : Option (FM) := BX33_signal_0 FX33_signal_26 a0 a1 a2 M
noncomputable def FX33_signal (a0 : Nat) (a1 : Int32) (a2 : Int32) (M : FM) : Option (FM) := FX33_signal_0 a0 a1 a2 M
/-! BoardMachine$Signals$SignalUnit.look()V -/
noncomputable def BX30_look_22 (f1 : Nat → Int32 → Int32 → FM → Option (FM)) (s0 : Nat) (s1 : Int32) (s2 : Int32) (M : FM) : Option (FM) :=
  fi (fm_is M 77 77 s0 = true) (
  (f1 s0 s1 s2 M).bind fun M1 =>
  some M1) none
noncomputable def FX30_look_22 (s0 : Nat) (s1 : Int32) (s2 : Int32) (M : FM) : Option (FM) := BX30_look_22 FX33_signal s0 s1 s2 M
noncomputable def BX30_look_0 (f0 : Nat → FM → Option (Int32 × FM)) (g22 : Nat → Int32 → Int32 → FM → Option (FM)) (a0 : Nat) (M : FM) : Option (FM) :=
  fi (fm_is M 79 79 a0 = true) (
  fi (fm_is M 79 79 a0 = true) (
  let x1 : Nat := (M.2.2 242 a0 0)
  fi (fm_is M 78 78 x1 = true) (
  (f0 x1 M).bind fun r2 =>
  fi (r2.1 = (Int32.ofInt 1)) (
    g22 (M.2.2 241 a0 0) (Int32.ofInt 10) (Int32.ofInt 0) r2.2) (
    g22 (M.2.2 241 a0 0) (Int32.ofInt 10) (Int32.ofInt 1) r2.2)) none) none) none
noncomputable def FX30_look_0 (a0 : Nat) (M : FM) : Option (FM) := BX30_look_0 FX31_cause FX30_look_22 a0 M
noncomputable def FX30_look (a0 : Nat) (M : FM) : Option (FM) := FX30_look_0 a0 M
/-! BoardMachine$Signals$SignalUnit.read(IJI)J -/
noncomputable def BX30_read_0 (f0 : Nat → Int64 → Int32 → FM → Option (Int64 × FM)) (f1 : Nat → Int64 → Int32 → FM → Option (Int64 × FM)) (f2 : Nat → Int64 → Int32 → FM → Option (Int64 × FM)) (f3 : Nat → FM → Option (FM)) (a0 : Nat) (a1 : Int32) (a2 : Int64) (a4 : Int32) (M : FM) : Option (Int64 × FM) :=
  fi (fm_is M 79 79 a0 = true) (
  let x1 : Nat := (M.2.2 243 a0 0)
  fi (fm_is M 910 990 x1 = true ∧ fm_in M x1 a1 = true) (
  let x2 : Nat := (M.2.2 3 x1 a1.toNatClampNeg)
  fi (fm_is M 77 77 x2 = true) (
  (f0 x2 a2 a4 M).bind fun r3 =>
  fi (fm_is r3.2 79 79 a0 = true) (
  (f3 a0 r3.2).bind fun M4 =>
  some (r3.1, M4)) none) (fi (fm_is M 78 78 x2 = true) (
  (f1 x2 a2 a4 M).bind fun r5 =>
  fi (fm_is r5.2 79 79 a0 = true) (
  (f3 a0 r5.2).bind fun M6 =>
  some (r5.1, M6)) none) (fi (fm_is M 80 80 x2 = true) (
  (f2 x2 a2 a4 M).bind fun r7 =>
  fi (fm_is r7.2 79 79 a0 = true) (
  (f3 a0 r7.2).bind fun M8 =>
  some (r7.1, M8)) none) (none)))) none) none
noncomputable def FX30_read_0 (n : Nat) (a0 : Nat) (a1 : Int32) (a2 : Int64) (a4 : Int32) (M : FM) : Option (Int64 × FM) := BX30_read_0 (FX33_read n) FX31_read FX32_read FX30_look a0 a1 a2 a4 M
noncomputable def FX30_read (n : Nat) (a0 : Nat) (a1 : Int32) (a2 : Int64) (a4 : Int32) (M : FM) : Option (Int64 × FM) := FX30_read_0 n a0 a1 a2 a4 M
/-! BoardMachine$Disks$Device.read(I)I -/
noncomputable def BX18_read_152 (s0 : Int32) (M : FM) : Option (Int32 × FM) :=
  some (s0, M)
noncomputable def FX18_read_152 (s0 : Int32) (M : FM) : Option (Int32 × FM) := BX18_read_152 s0 M
noncomputable def BX18_read_151 (g152 : Int32 → FM → Option (Int32 × FM)) (M : FM) : Option (Int32 × FM) :=
  g152 (Int32.ofInt 0) M
noncomputable def FX18_read_151 (M : FM) : Option (Int32 × FM) := BX18_read_151 FX18_read_152 M
noncomputable def BX18_read_129 (s0 : Int32) (M : FM) : Option (Int32 × FM) :=
  some (s0, M)
noncomputable def FX18_read_129 (s0 : Int32) (M : FM) : Option (Int32 × FM) := BX18_read_129 s0 M
noncomputable def BX18_read_115 (s0 : Int32) (M : FM) : Option (Int32 × FM) :=
  some (s0, M)
noncomputable def FX18_read_115 (s0 : Int32) (M : FM) : Option (Int32 × FM) := BX18_read_115 s0 M
noncomputable def BX18_read_87 (M : FM) : Option (Int32 × FM) :=
  some ((Int32.ofInt 2), M)
noncomputable def FX18_read_87 (M : FM) : Option (Int32 × FM) := BX18_read_87 M
noncomputable def BX18_read_0 (g87 : FM → Option (Int32 × FM)) (g115 : Int32 → FM → Option (Int32 × FM)) (g129 : Int32 → FM → Option (Int32 × FM)) (g151 : FM → Option (Int32 × FM)) (g152 : Int32 → FM → Option (Int32 × FM)) (a0 : Nat) (a1 : Int32) (M : FM) : Option (Int32 × FM) :=
  fi (a1 = (Int32.ofInt 0)) (
    some ((Int32.ofInt 1953655158), M)) (
  fi (a1 = (Int32.ofInt 4)) (
    g87 M) (
  fi (a1 = (Int32.ofInt 8)) (
    g87 M) (
  fi (a1 = (Int32.ofInt 16)) (
    fi (fm_is M 22 22 a0 = true) (
    fi ((M.1 63 a0 0) = 0) (
      g115 (Int32.ofInt 512) M) (
      fi (fm_is M 22 22 a0 = true) (
      fi ((M.1 63 a0 0) = (Int32.ofInt 1)) (
        g115 (Int32.ofInt 1) M) (
        g115 (Int32.ofInt 0) M)) none)) none) (
  fi (a1 = (Int32.ofInt 52)) (
    fi (fm_is M 22 22 a0 = true) (
    fi ((M.1 64 a0 0) = 0) (
      g129 (Int32.ofInt 16) M) (
      g129 (Int32.ofInt 0) M)) none) (
  fi (a1 = (Int32.ofInt 68)) (
    fi (fm_is M 22 22 a0 = true) (
    fi ((M.1 64 a0 0) = 0) (
      fi (fm_is M 22 22 a0 = true) (
      let x1 : Nat := (M.2.2 60 a0 0)
      fi (fm_is M 28 28 x1 = true) (
      fi ((M.1 72 x1 0) = 0) (
        g151 M) (
        g152 (Int32.ofInt 1) M)) none) none) (
      g151 M)) none) (
  fi (a1 = (Int32.ofInt 96)) (
    fi (fm_is M 22 22 a0 = true) (
    some ((M.1 66 a0 0), M)) none) (
  fi (a1 = (Int32.ofInt 112)) (
    fi (fm_is M 22 22 a0 = true) (
    some ((M.1 65 a0 0), M)) none) (
  fi (a1 = (Int32.ofInt 256)) (
    fi (fm_is M 22 22 a0 = true) (
    let x2 : Nat := (M.2.2 59 a0 0)
    fi (fm_is M 23 23 x2 = true) (
    some ((M.1 68 x2 0), M)) none) none) (
  some ((Int32.ofInt 0), M))))))))))
noncomputable def FX18_read_0 (a0 : Nat) (a1 : Int32) (M : FM) : Option (Int32 × FM) := BX18_read_0 FX18_read_87 FX18_read_115 FX18_read_129 FX18_read_151 FX18_read_152 a0 a1 M
noncomputable def FX18_read (a0 : Nat) (a1 : Int32) (M : FM) : Option (Int32 × FM) := FX18_read_0 a0 a1 M
/-! BoardMachine$Board.read(LBoardMachine$Window;JI)J -/
noncomputable def BX10_read_112 (s0 : Int64) (M : FM) : Option (Int64 × FM) :=
  some (s0, M)
noncomputable def FX10_read_112 (n : Nat) (s0 : Int64) (M : FM) : Option (Int64 × FM) := BX10_read_112 s0 M
noncomputable def BX10_read_0 (f0 : Nat → FM → Option (Int32 × FM)) (f1 : Int64 → Int32 → FM → Option (Int32 × FM)) (f2 : Nat → Int32 → Int64 → Int32 → FM → Option (Int64 × FM)) (f3 : Nat → Int32 → FM → Option (Int32 × FM)) (g112 : Int64 → FM → Option (Int64 × FM)) (a0 : Nat) (a1 : Nat) (a2 : Int64) (a4 : Int32) (M : FM) : Option (Int64 × FM) :=
  fi (fm_is M 6 6 a1 = true) (
  let x1 : Int64 := (a2 - (M.2.1 13 a1 0))
  fi (fm_is M 6 6 a1 = true) (
  (f0 a1 M).bind fun r2 =>
  fi (r2.1 = (Int32.ofInt 1)) (
    fi (fm_is r2.2 11 11 a0 = true) (
    let x3 : Nat := (r2.2.2.2 19 a0 0)
    fi (fm_is r2.2 79 79 x3 = true) (
    (f2 x3 (Int32.ofInt 0) x1 a4 r2.2).bind fun r4 =>
    some (r4.1, r4.2)) none) none) (
  fi (r2.1 = (Int32.ofInt 2)) (
    fi (fm_is r2.2 11 11 a0 = true) (
    let x5 : Nat := (r2.2.2.2 19 a0 0)
    fi (fm_is r2.2 79 79 x5 = true) (
    (f2 x5 (Int32.ofInt 1) x1 a4 r2.2).bind fun r6 =>
    some (r6.1, r6.2)) none) none) (
  fi (r2.1 = (Int32.ofInt 3)) (
    fi (fm_is r2.2 11 11 a0 = true) (
    let x7 : Nat := (r2.2.2.2 19 a0 0)
    fi (fm_is r2.2 79 79 x7 = true) (
    (f2 x7 (Int32.ofInt 2) x1 a4 r2.2).bind fun r8 =>
    some (r8.1, r8.2)) none) none) (
  fi (r2.1 = (Int32.ofInt 4)) (
    (f1 x1 a4 r2.2).bind fun r9 =>
    fi (r9.1 = 0) (
      g112 (Int64.ofInt 0) r9.2) (
      fi (fm_is r9.2 11 11 a0 = true) (
      let x10 : Nat := (r9.2.2.2 20 a0 0)
      fi (fm_is r9.2 22 22 x10 = true) (
      (f3 x10 x1.toInt32 r9.2).bind fun r11 =>
      g112 (r11.1.toInt64 &&& (Int64.ofInt 4294967295)) r11.2) none) none)) (
  some ((Int64.ofInt 0), r2.2)))))) none) none
noncomputable def FX10_read_0 (n : Nat) (a0 : Nat) (a1 : Nat) (a2 : Int64) (a4 : Int32) (M : FM) : Option (Int64 × FM) := BX10_read_0 FJ0_ordinal FX10_isRegister (FX30_read n) FX18_read (FX10_read_112 n ) a0 a1 a2 a4 M
noncomputable def FX10_read (n : Nat) (a0 : Nat) (a1 : Nat) (a2 : Int64) (a4 : Int32) (M : FM) : Option (Int64 × FM) := FX10_read_0 n a0 a1 a2 a4 M
/-! BoardMachine$Found.load(LBoardMachine$Board;)J -/
noncomputable def BX73_load_61 (f1 : Nat → Int64 → Int32 → FM → Option (Int64 × FM)) (k61 : Nat → Nat → Int64 → Int32 → FM → Option (Int64 × FM)) (a0 : Nat) (a1 : Nat) (a2 : Int64) (a4 : Int32) (M : FM) : Option (Int64 × FM) :=
  fi (a4 < 0) (
    some (a2, M)) (
    fi (fm_is M 11 11 a1 = true) (
    fi (fm_is M 41 41 a0 = true) (
    let x1 : Nat := (M.2.2 121 a0 0)
    fi (fm_is M 902 902 x1 = true ∧ fm_in M x1 a4 = true) (
    let x2 : Nat := (M.2.2 18 a1 0)
    fi (fm_is M 73 73 x2 = true) (
    (f1 x2 (M.2.1 3 x1 a4.toNatClampNeg) (Int32.ofInt 1) M).bind fun r3 =>
    let x4 : Int64 := ((a2 <<< ((Int32.ofInt 8).toInt64 &&& 63)) ||| r3.1)
    let x5 : Int32 := a4 + (Int32.ofInt (-1))
    k61 a0 a1 x4 x5 r3.2) none) none) none) none)
noncomputable def FX73_load_61 (n : Nat) (k61 : Nat → Nat → Int64 → Int32 → FM → Option (Int64 × FM)) (a0 : Nat) (a1 : Nat) (a2 : Int64) (a4 : Int32) (M : FM) : Option (Int64 × FM) := BX73_load_61 FX11_load k61 a0 a1 a2 a4 M
noncomputable def BX73_load_0 (f0 : Nat → Nat → Int64 → Int32 → FM → Option (Int64 × FM)) (f1 : Nat → Int64 → Int32 → FM → Option (Int64 × FM)) (k61 : Nat → Nat → Int64 → Int32 → FM → Option (Int64 × FM)) (a0 : Nat) (a1 : Nat) (M : FM) : Option (Int64 × FM) :=
  fi (fm_is M 41 41 a0 = true) (
  fi ((M.2.2 124 a0 0) = 0) (
    fi (fm_is M 41 41 a0 = true) (
    fi ((M.1 123 a0 0) = 0) (
      fi (fm_is M 41 41 a0 = true) (
      let x1 : Int32 := ((M.1 122 a0 0) - (Int32.ofInt 1))
      k61 a0 a1 (Int64.ofInt 0) x1 M) none) (
      fi (fm_is M 11 11 a1 = true) (
      fi (fm_is M 41 41 a0 = true) (
      let x2 : Nat := (M.2.2 121 a0 0)
      fi (fm_is M 902 902 x2 = true ∧ fm_in M x2 (Int32.ofInt 0) = true) (
      fi (fm_is M 41 41 a0 = true) (
      let x3 : Nat := (M.2.2 18 a1 0)
      fi (fm_is M 73 73 x3 = true) (
      (f1 x3 (M.2.1 3 x2 (Int32.ofInt 0).toNatClampNeg) (M.1 122 a0 0) M).bind fun r4 =>
      some (r4.1, r4.2)) none) none) none) none) none)) none) (
    fi (fm_is M 41 41 a0 = true) (
    fi (fm_is M 41 41 a0 = true) (
    let x5 : Nat := (M.2.2 121 a0 0)
    fi (fm_is M 902 902 x5 = true ∧ fm_in M x5 (Int32.ofInt 0) = true) (
    fi (fm_is M 41 41 a0 = true) (
    fi (fm_is M 11 11 a1 = true) (
    (f0 a1 (M.2.2 124 a0 0) (M.2.1 3 x5 (Int32.ofInt 0).toNatClampNeg) (M.1 122 a0 0) M).bind fun r6 =>
    some (r6.1, r6.2)) none) none) none) none) none)) none
noncomputable def FX73_load_0 (n : Nat) (k61 : Nat → Nat → Int64 → Int32 → FM → Option (Int64 × FM)) (a0 : Nat) (a1 : Nat) (M : FM) : Option (Int64 × FM) := BX73_load_0 (FX10_read n) FX11_load k61 a0 a1 M
noncomputable def FX73_load_L61 (n : Nat) : Nat → Nat → Nat → Int64 → Int32 → FM → Option (Int64 × FM)
  | 0 => fun _ _ _ _ _ => none
  | j + 1 => FX73_load_61 n (FX73_load_L61 n j)
noncomputable def FX73_load (n : Nat) (a0 : Nat) (a1 : Nat) (M : FM) : Option (Int64 × FM) := FX73_load_0 n (FX73_load_L61 n n) a0 a1 M
/-! BoardMachine$Integers$Access.finish(LBoardMachine$Integers$Registers;LBoardMachine$Integers$Decoded;J)V -/
noncomputable def BX57_finish_74 (f0 : Nat → Int32 → Int64 → FM → Option (FM)) (s0 : Nat) (s1 : Int32) (s2 : Int64) (M : FM) : Option (FM) :=
  fi (fm_is M 64 64 s0 = true) (
  (f0 s0 s1 s2 M).bind fun M1 =>
  some M1) none
noncomputable def FX57_finish_74 (s0 : Nat) (s1 : Int32) (s2 : Int64) (M : FM) : Option (FM) := BX57_finish_74 FX48_set s0 s1 s2 M
noncomputable def BX57_finish_33 (g74 : Nat → Int32 → Int64 → FM → Option (FM)) (a1 : Nat) (a2 : Nat) (a3 : Int64) (a5 : Int32) (s0 : Int32) (M : FM) : Option (FM) :=
  fi (fm_is M 61 61 a2 = true) (
  fi (fm_is M 61 61 a2 = true) (
  fi ((M.1 158 a2 0) = (Int32.ofInt 5)) (
    g74 a1 (M.1 151 a2 0) a3 M) (
    fi (s0 = 0) (
      g74 a1 (M.1 151 a2 0) ((a3 <<< (a5.toInt64 &&& 63)) >>> (a5.toInt64 &&& 63)) M) (
      g74 a1 (M.1 151 a2 0) (((a3 <<< (a5.toInt64 &&& 63)).toUInt64 >>> (a5.toInt64.toUInt64 &&& Int64.toUInt64 63)).toInt64) M))) none) none
noncomputable def FX57_finish_33 (a1 : Nat) (a2 : Nat) (a3 : Int64) (a5 : Int32) (s0 : Int32) (M : FM) : Option (FM) := BX57_finish_33 FX57_finish_74 a1 a2 a3 a5 s0 M
noncomputable def BX57_finish_32 (g33 : Nat → Nat → Int64 → Int32 → Int32 → FM → Option (FM)) (a1 : Nat) (a2 : Nat) (a3 : Int64) (a5 : Int32) (M : FM) : Option (FM) :=
  g33 a1 a2 a3 a5 (Int32.ofInt 0) M
noncomputable def FX57_finish_32 (a1 : Nat) (a2 : Nat) (a3 : Int64) (a5 : Int32) (M : FM) : Option (FM) := BX57_finish_32 FX57_finish_33 a1 a2 a3 a5 M
noncomputable def BX57_finish_0 (g32 : Nat → Nat → Int64 → Int32 → FM → Option (FM)) (g33 : Nat → Nat → Int64 → Int32 → Int32 → FM → Option (FM)) (a0 : Nat) (a1 : Nat) (a2 : Nat) (a3 : Int64) (M : FM) : Option (FM) :=
  fi (fm_is M 61 61 a2 = true) (
  let x1 : Int32 := ((Int32.ofInt 64) - ((Int32.ofInt 8) * (M.1 159 a2 0)))
  fi (fm_is M 61 61 a2 = true) (
  fi ((M.1 158 a2 0) = (Int32.ofInt 2)) (
    fi (fm_is M 61 61 a2 = true) (
    fi ((M.1 160 a2 0) = (Int32.ofInt 1)) (
      g33 a1 a2 a3 x1 (Int32.ofInt 1) M) (
      g32 a1 a2 a3 x1 M)) none) (
    g32 a1 a2 a3 x1 M)) none) none
noncomputable def FX57_finish_0 (a0 : Nat) (a1 : Nat) (a2 : Nat) (a3 : Int64) (M : FM) : Option (FM) := BX57_finish_0 FX57_finish_32 FX57_finish_33 a0 a1 a2 a3 M
noncomputable def FX57_finish (a0 : Nat) (a1 : Nat) (a2 : Nat) (a3 : Int64) (M : FM) : Option (FM) := FX57_finish_0 a0 a1 a2 a3 M
/-! BoardMachine$Integers$Action.finish(LBoardMachine$Integers$Registers;LBoardMachine$Integers$Decoded;J)V -/
noncomputable def BX50_finish_0 (f0 : Nat → Int32 → Int64 → FM → Option (FM)) (a0 : Nat) (a1 : Nat) (a2 : Nat) (a3 : Int64) (M : FM) : Option (FM) :=
  fi (fm_is M 61 61 a2 = true) (
  fi (fm_is M 64 64 a1 = true) (
  (f0 a1 (M.1 151 a2 0) a3 M).bind fun M1 =>
  some M1) none) none
noncomputable def FX50_finish_0 (a0 : Nat) (a1 : Nat) (a2 : Nat) (a3 : Int64) (M : FM) : Option (FM) := BX50_finish_0 FX48_set a0 a1 a2 a3 M
noncomputable def FX50_finish (a0 : Nat) (a1 : Nat) (a2 : Nat) (a3 : Int64) (M : FM) : Option (FM) := FX50_finish_0 a0 a1 a2 a3 M
/-! BoardMachine$Integers$IntegerUnit.finish(ZJ)I -/
noncomputable def BX47_finish_25 (a0 : Nat) (a4 : Nat) (M : FM) : Option (Int32 × FM) :=
  fi (fm_is M 63 63 a0 = true) (
  let x1 : Nat := (M.2.2 171 a0 0)
  fi (fm_is M 64 64 x1 = true) (
  fi (fm_is M 63 63 a0 = true) (
  fi (fm_is M 64 64 x1 = true) (
  let M2 : FM := fm_sL M 179 x1 0 ((M.2.1 179 x1 0) + (M.1 176 a0 0).toInt64)
  fi (fm_is M2 63 63 a0 = true) (
  let M3 : FM := fm_sR M2 174 a0 0 0
  fi (fm_is M3 63 63 a0 = true) (
  fi (fm_is M3 63 63 a0 = true) (
  let M4 : FM := fm_sL M3 177 a0 0 ((M3.2.1 177 a0 0) + (Int64.ofInt 1))
  fi (fm_is M4 61 61 a4 = true) (
  some ((M4.1 158 a4 0), M4)) none) none) none) none) none) none) none) none
noncomputable def FX47_finish_25 (a0 : Nat) (a4 : Nat) (M : FM) : Option (Int32 × FM) := BX47_finish_25 a0 a4 M
noncomputable def BX47_finish_0 (f0 : Nat → Nat → Nat → Int64 → FM → Option (FM)) (f1 : Nat → Nat → Nat → Int64 → FM → Option (FM)) (g25 : Nat → Nat → FM → Option (Int32 × FM)) (a0 : Nat) (a1 : Int32) (a2 : Int64) (M : FM) : Option (Int32 × FM) :=
  fi (fm_is M 63 63 a0 = true) (
  let x1 : Nat := (M.2.2 174 a0 0)
  fi (a1 = 0) (
    g25 a0 x1 M) (
    fi (fm_is M 61 61 x1 = true) (
    fi (fm_is M 63 63 a0 = true) (
    let x2 : Nat := (M.2.2 149 x1 0)
    fi (fm_is M 53 53 x2 = true) (
    (f0 x2 (M.2.2 171 a0 0) x1 a2 M).bind fun M3 =>
    g25 a0 x1 M3) (fi (fm_is M 54 54 x2 = true) (
    (f1 x2 (M.2.2 171 a0 0) x1 a2 M).bind fun M4 =>
    g25 a0 x1 M4) (fi (fm_is M 55 55 x2 = true) (
    (f1 x2 (M.2.2 171 a0 0) x1 a2 M).bind fun M5 =>
    g25 a0 x1 M5) (fi (fm_is M 56 56 x2 = true) (
    (f1 x2 (M.2.2 171 a0 0) x1 a2 M).bind fun M6 =>
    g25 a0 x1 M6) (fi (fm_is M 57 57 x2 = true) (
    (f1 x2 (M.2.2 171 a0 0) x1 a2 M).bind fun M7 =>
    g25 a0 x1 M7) (fi (fm_is M 58 58 x2 = true) (
    (f1 x2 (M.2.2 171 a0 0) x1 a2 M).bind fun M8 =>
    g25 a0 x1 M8) (fi (fm_is M 59 59 x2 = true) (
    (f1 x2 (M.2.2 171 a0 0) x1 a2 M).bind fun M9 =>
    g25 a0 x1 M9) (fi (fm_is M 60 60 x2 = true) (
    (f1 x2 (M.2.2 171 a0 0) x1 a2 M).bind fun M10 =>
    g25 a0 x1 M10) (none))))))))) none) none)) none
noncomputable def FX47_finish_0 (a0 : Nat) (a1 : Int32) (a2 : Int64) (M : FM) : Option (Int32 × FM) := BX47_finish_0 FX57_finish FX50_finish FX47_finish_25 a0 a1 a2 M
noncomputable def FX47_finish (a0 : Nat) (a1 : Int32) (a2 : Int64) (M : FM) : Option (Int32 × FM) := FX47_finish_0 a0 a1 a2 M
/-! BoardMachine$Processor.load()Z -/
noncomputable def BX46_load_0 (f0 : Nat → Int32 → FM → Option (Int64 × FM)) (f1 : Nat → Int64 → Int32 → Int32 → FM → Option (Int32 × FM)) (f2 : Nat → Nat → FM → Option (Int64 × FM)) (f3 : Nat → Int32 → Int64 → FM → Option (Int32 × FM)) (a0 : Nat) (M : FM) : Option (Int32 × FM) :=
  fi (fm_is M 75 75 a0 = true) (
  let x1 : Nat := (M.2.2 211 a0 0)
  fi (fm_is M 63 63 x1 = true) (
  (f0 x1 (Int32.ofInt 0) M).bind fun r2 =>
  fi (fm_is r2.2 75 75 a0 = true) (
  let x3 : Nat := (r2.2.2.2 211 a0 0)
  fi (fm_is r2.2 63 63 x3 = true) (
  (f0 x3 (Int32.ofInt 1) r2.2).bind fun r4 =>
  fi (fm_is r4.2 75 75 a0 = true) (
  (f1 a0 r2.1 (Int32.ofInt 1) r4.1.toInt32 r4.2).bind fun r5 =>
  fi (r5.1 = 0) (
    fi ((Int32.ofInt 0) = 0 ∨ (Int32.ofInt 0) = 1) (some ((Int32.ofInt 0), r5.2)) none) (
    fi (fm_is r5.2 75 75 a0 = true) (
    fi (fm_is r5.2 75 75 a0 = true) (
    fi (fm_is r5.2 75 75 a0 = true) (
    let x6 : Nat := (r5.2.2.2 217 a0 0)
    fi (fm_is r5.2 41 41 x6 = true) (
    (f2 x6 (r5.2.2.2 210 a0 0) r5.2).bind fun r7 =>
    let x8 : Nat := (r5.2.2.2 211 a0 0)
    fi (fm_is r7.2 63 63 x8 = true) (
    (f3 x8 (Int32.ofInt 1) r7.1 r7.2).bind fun r9 =>
    fi ((Int32.ofInt 1) = 0 ∨ (Int32.ofInt 1) = 1) (some ((Int32.ofInt 1), r9.2)) none) none) none) none) none) none)) none) none) none) none) none
noncomputable def FX46_load_0 (n : Nat) (a0 : Nat) (M : FM) : Option (Int32 × FM) := BX46_load_0 FX47_wanted (FX46_locate n) (FX73_load n) FX47_finish a0 M
noncomputable def FX46_load (n : Nat) (a0 : Nat) (M : FM) : Option (Int32 × FM) := FX46_load_0 n a0 M
/-! BoardMachine$Signals$Controller.complete(IJ)V -/
noncomputable def BX33_complete_48 (M : FM) : Option (FM) :=
  some M
noncomputable def FX33_complete_48 (M : FM) : Option (FM) := BX33_complete_48 M
noncomputable def BX33_complete_0 (f0 : Nat → FM → Option (FM)) (g48 : FM → Option (FM)) (a0 : Nat) (a1 : Int32) (a2 : Int64) (M : FM) : Option (FM) :=
  fi ((lg_cmp a2 (Int64.ofInt 0)) ≤ 0) (
    g48 M) (
    fi (0 ≤ (lg_cmp a2 (Int64.ofInt 32))) (
      g48 M) (
      fi (fm_is M 77 77 a0 = true) (
      let x1 : Nat := (M.2.2 225 a0 0)
      fi (fm_is M 901 901 x1 = true ∧ fm_in M x1 a1 = true) (
      fi ((((M.1 3 x1 a1.toNatClampNeg) >>> (a2.toInt32 &&& 31)) &&& (Int32.ofInt 1)) = (Int32.ofInt 1)) (
        fi (fm_is M 77 77 a0 = true) (
        fi (fm_is M 77 77 a0 = true) (
        let M2 : FM := fm_sI M 229 a0 0 ((M.1 229 a0 0) &&& (((Int32.ofInt 1) <<< (a2.toInt32 &&& 31)) ^^^ (Int32.ofInt (-1))))
        fi (fm_is M2 77 77 a0 = true) (
        (f0 a0 M2).bind fun M3 =>
        g48 M3) none) none) none) (
        g48 M)) none) none))
noncomputable def FX33_complete_0 (a0 : Nat) (a1 : Int32) (a2 : Int64) (M : FM) : Option (FM) := BX33_complete_0 FX33_look FX33_complete_48 a0 a1 a2 M
noncomputable def FX33_complete (a0 : Nat) (a1 : Int32) (a2 : Int64) (M : FM) : Option (FM) := FX33_complete_0 a0 a1 a2 M
/-! BoardMachine$Signals$Controller.write(JIJ)V -/
noncomputable def BX33_write_147 (M : FM) : Option (FM) :=
  some M
noncomputable def FX33_write_147 (M : FM) : Option (FM) := BX33_write_147 M
noncomputable def BX33_write_88 (f1 : Nat → Int32 → Int64 → FM → Option (FM)) (g147 : FM → Option (FM)) (a0 : Nat) (a4 : Int64) (a6 : Int32) (a7 : Int32) (a8 : Int32) (M : FM) : Option (FM) :=
  fi (a6 < 0) (
    fi (a7 < 0) (
      fi (a8 < 0) (
        g147 M) (
        fi (fm_is M 77 77 a0 = true) (
        (f1 a0 a8 (a4 &&& (Int64.ofInt 4294967295)) M).bind fun M1 =>
        g147 M1) none)) (
      fi (fm_is M 77 77 a0 = true) (
      let x2 : Nat := (M.2.2 226 a0 0)
      fi (fm_is M 901 901 x2 = true ∧ fm_in M x2 a7 = true) (
      let M3 : FM := fm_sI M 3 x2 a7.toNatClampNeg (a4.toInt32 &&& (Int32.ofInt 7))
      g147 M3) none) none)) (
    fi (fm_is M 77 77 a0 = true) (
    let x4 : Nat := (M.2.2 225 a0 0)
    fi (fm_is M 901 901 x4 = true ∧ fm_in M x4 a6 = true) (
    let M5 : FM := fm_sI M 3 x4 a6.toNatClampNeg (a4.toInt32 &&& (Int32.ofInt (-2)))
    g147 M5) none) none)
noncomputable def FX33_write_88 (a0 : Nat) (a4 : Int64) (a6 : Int32) (a7 : Int32) (a8 : Int32) (M : FM) : Option (FM) := BX33_write_88 FX33_complete FX33_write_147 a0 a4 a6 a7 a8 M
noncomputable def BX33_write_15 (M : FM) : Option (FM) :=
  some M
noncomputable def FX33_write_15 (M : FM) : Option (FM) := BX33_write_15 M
noncomputable def BX33_write_0 (f0 : Nat → Int64 → Int32 → Int32 → Int32 → FM → Option (Int32 × FM)) (g15 : FM → Option (FM)) (g88 : Nat → Int64 → Int32 → Int32 → Int32 → FM → Option (FM)) (g147 : FM → Option (FM)) (a0 : Nat) (a1 : Int64) (a3 : Int32) (a4 : Int64) (M : FM) : Option (FM) :=
  fi (a3 = (Int32.ofInt 4)) (
    fi ((lg_cmp (a1 &&& (Int64.ofInt 3)) (Int64.ofInt 0)) = 0) (
      fi (fm_is M 77 77 a0 = true) (
      (f0 a0 a1 (Int32.ofInt 8192) (Int32.ofInt 128) (Int32.ofInt 0) M).bind fun r1 =>
      fi (fm_is r1.2 77 77 a0 = true) (
      (f0 a0 a1 (Int32.ofInt 2097152) (Int32.ofInt 4096) (Int32.ofInt 0) r1.2).bind fun r2 =>
      fi (fm_is r2.2 77 77 a0 = true) (
      (f0 a0 a1 (Int32.ofInt 2097152) (Int32.ofInt 4096) (Int32.ofInt 4) r2.2).bind fun r3 =>
      fi ((lg_cmp a1 (Int64.ofInt 0)) ≤ 0) (
        g88 a0 a4 r1.1 r2.1 r3.1 r3.2) (
        fi (0 ≤ (lg_cmp a1 (Int64.ofInt 128))) (
          g88 a0 a4 r1.1 r2.1 r3.1 r3.2) (
          fi (fm_is r3.2 77 77 a0 = true) (
          let x4 : Int32 := (a1 >>> ((Int32.ofInt 2).toInt64 &&& 63)).toInt32
          let x5 : Nat := (r3.2.2.2 224 a0 0)
          fi (fm_is r3.2 901 901 x5 = true ∧ fm_in r3.2 x5 x4 = true) (
          let M6 : FM := fm_sI r3.2 3 x5 x4.toNatClampNeg (a4.toInt32 &&& (Int32.ofInt 7))
          g147 M6) none) none))) none) none) none) (
      g15 M)) (
    g15 M)
noncomputable def FX33_write_0 (a0 : Nat) (a1 : Int64) (a3 : Int32) (a4 : Int64) (M : FM) : Option (FM) := BX33_write_0 FX33_contextAt FX33_write_15 FX33_write_88 FX33_write_147 a0 a1 a3 a4 M
noncomputable def FX33_write (a0 : Nat) (a1 : Int64) (a3 : Int32) (a4 : Int64) (M : FM) : Option (FM) := FX33_write_0 a0 a1 a3 a4 M
/-! BoardMachine$Signals$Serial.room()I -/
noncomputable def BX31_room_13 (a0 : Nat) (s0 : Int32) (M : FM) : Option (Int32 × FM) :=
  fi (fm_is M 78 78 a0 = true) (
  some ((s0 - (M.1 232 a0 0)), M)) none
noncomputable def FX31_room_13 (a0 : Nat) (s0 : Int32) (M : FM) : Option (Int32 × FM) := BX31_room_13 a0 s0 M
noncomputable def BX31_room_0 (g13 : Nat → Int32 → FM → Option (Int32 × FM)) (a0 : Nat) (M : FM) : Option (Int32 × FM) :=
  fi (fm_is M 78 78 a0 = true) (
  fi ((M.1 236 a0 0) = 0) (
    g13 a0 (Int32.ofInt 1) M) (
    g13 a0 (Int32.ofInt 16) M)) none
noncomputable def FX31_room_0 (a0 : Nat) (M : FM) : Option (Int32 × FM) := BX31_room_0 FX31_room_13 a0 M
noncomputable def FX31_room (a0 : Nat) (M : FM) : Option (Int32 × FM) := FX31_room_0 a0 M
/-! BoardMachine$Signals$Serial.come(I)Z -/
noncomputable def BX31_come_57 (a2 : Int32) (M : FM) : Option (Int32 × FM) :=
  fi (a2 = 0 ∨ a2 = 1) (some (a2, M)) none
noncomputable def FX31_come_57 (a2 : Int32) (M : FM) : Option (Int32 × FM) := BX31_come_57 a2 M
noncomputable def BX31_come_12 (g57 : Int32 → FM → Option (Int32 × FM)) (a0 : Nat) (a1 : Int32) (s0 : Int32) (M : FM) : Option (Int32 × FM) :=
  fi (s0 = 0) (
    fi (fm_is M 78 78 a0 = true) (
    fi ((Int32.ofInt 1) = 0 ∨ (Int32.ofInt 1) = 1) (
    let M1 : FM := fm_sI M 237 a0 0 (Int32.ofInt 1)
    g57 s0 M1) none) none) (
    fi (fm_is M 78 78 a0 = true) (
    fi (fm_is M 78 78 a0 = true) (
    fi (fm_is M 78 78 a0 = true) (
    let x2 : Int32 := ((M.1 231 a0 0) + (M.1 232 a0 0))
    fi ((Int32.ofInt 16) = 0) none (
    let x3 : Int32 := (x2 - x2 / (Int32.ofInt 16) * (Int32.ofInt 16))
    let x4 : Nat := (M.2.2 230 a0 0)
    fi (fm_is M 901 901 x4 = true ∧ fm_in M x4 x3 = true) (
    let M5 : FM := fm_sI M 3 x4 x3.toNatClampNeg (a1 &&& (Int32.ofInt 255))
    fi (fm_is M5 78 78 a0 = true) (
    fi (fm_is M5 78 78 a0 = true) (
    let M6 : FM := fm_sI M5 232 a0 0 ((M5.1 232 a0 0) + (Int32.ofInt 1))
    g57 s0 M6) none) none) none)) none) none) none)
noncomputable def FX31_come_12 (a0 : Nat) (a1 : Int32) (s0 : Int32) (M : FM) : Option (Int32 × FM) := BX31_come_12 FX31_come_57 a0 a1 s0 M
noncomputable def BX31_come_0 (f0 : Nat → FM → Option (Int32 × FM)) (g12 : Nat → Int32 → Int32 → FM → Option (Int32 × FM)) (a0 : Nat) (a1 : Int32) (M : FM) : Option (Int32 × FM) :=
  fi (fm_is M 78 78 a0 = true) (
  (f0 a0 M).bind fun r1 =>
  fi (r1.1 ≤ 0) (
    g12 a0 a1 (Int32.ofInt 0) r1.2) (
    g12 a0 a1 (Int32.ofInt 1) r1.2)) none
noncomputable def FX31_come_0 (a0 : Nat) (a1 : Int32) (M : FM) : Option (Int32 × FM) := BX31_come_0 FX31_room FX31_come_12 a0 a1 M
noncomputable def FX31_come (a0 : Nat) (a1 : Int32) (M : FM) : Option (Int32 × FM) := FX31_come_0 a0 a1 M
/-! BoardMachine$Signals$Serial.send(I)V -/
noncomputable def BX31_send_44 (a0 : Nat) (M : FM) : Option (FM) :=
  fi (fm_is M 78 78 a0 = true) (
  fi ((Int32.ofInt 1) = 0 ∨ (Int32.ofInt 1) = 1) (
  let M1 : FM := fm_sI M 238 a0 0 (Int32.ofInt 1)
  some M1) none) none
noncomputable def FX31_send_44 (a0 : Nat) (M : FM) : Option (FM) := BX31_send_44 a0 M
noncomputable def BX31_send_0 (f0 : Nat → Int32 → Int32 → FM → Option (Int32 × FM)) (f1 : Nat → Int32 → FM → Option (Int32 × FM)) (g44 : Nat → FM → Option (FM)) (a0 : Nat) (a1 : Int32) (M : FM) : Option (FM) :=
  fi (fm_is M 78 78 a0 = true) (
  (f0 a0 (Int32.ofInt 4) (Int32.ofInt 4) M).bind fun r1 =>
  fi (r1.1 = 0) (
    fi (fm_is r1.2 78 78 a0 = true) (
    fi (fm_is r1.2 78 78 a0 = true) (
    let x2 : Int64 := (r1.2.2.1 234 a0 0)
    fi ((Int64.ofInt 4096) = 0) none (
    let x3 : Int32 := (x2 - x2 / (Int64.ofInt 4096) * (Int64.ofInt 4096)).toInt32
    let x4 : Nat := (r1.2.2.2 233 a0 0)
    fi (fm_is r1.2 903 903 x4 = true ∧ fm_in r1.2 x4 x3 = true) (
    let M5 : FM := fm_sI r1.2 3 x4 x3.toNatClampNeg a1.toInt8.toInt32.toInt8.toInt32
    fi (fm_is M5 78 78 a0 = true) (
    fi (fm_is M5 78 78 a0 = true) (
    let M6 : FM := fm_sL M5 234 a0 0 ((M5.2.1 234 a0 0) + (Int64.ofInt 1))
    g44 a0 M6) none) none) none)) none) none) (
    fi (fm_is r1.2 78 78 a0 = true) (
    (f1 a0 a1 r1.2).bind fun r7 =>
    g44 a0 r7.2) none)) none
noncomputable def FX31_send_0 (a0 : Nat) (a1 : Int32) (M : FM) : Option (FM) := BX31_send_0 FX31_has FX31_come FX31_send_44 a0 a1 M
noncomputable def FX31_send (a0 : Nat) (a1 : Int32) (M : FM) : Option (FM) := FX31_send_0 a0 a1 M
/-! BoardMachine$Signals$Serial.queue(I)V -/
noncomputable def BX31_queue_33 (a0 : Nat) (a2 : Int32) (M : FM) : Option (FM) :=
  fi (fm_is M 78 78 a0 = true) (
  fi (a2 = 0 ∨ a2 = 1) (
  let M1 : FM := fm_sI M 236 a0 0 a2
  some M1) none) none
noncomputable def FX31_queue_33 (a0 : Nat) (a2 : Int32) (M : FM) : Option (FM) := BX31_queue_33 a0 a2 M
noncomputable def BX31_queue_28 (g33 : Nat → Int32 → FM → Option (FM)) (a0 : Nat) (a2 : Int32) (M : FM) : Option (FM) :=
  fi (fm_is M 78 78 a0 = true) (
  let M1 : FM := fm_sI M 232 a0 0 (Int32.ofInt 0)
  g33 a0 a2 M1) none
noncomputable def FX31_queue_28 (a0 : Nat) (a2 : Int32) (M : FM) : Option (FM) := BX31_queue_28 FX31_queue_33 a0 a2 M
noncomputable def BX31_queue_12 (g28 : Nat → Int32 → FM → Option (FM)) (g33 : Nat → Int32 → FM → Option (FM)) (a0 : Nat) (a1 : Int32) (s0 : Int32) (M : FM) : Option (FM) :=
  fi (fm_is M 78 78 a0 = true) (
  fi (s0 = (M.1 236 a0 0)) (
    fi ((a1 &&& (Int32.ofInt 2)) = (Int32.ofInt 2)) (
      g28 a0 s0 M) (
      g33 a0 s0 M)) (
    g28 a0 s0 M)) none
noncomputable def FX31_queue_12 (a0 : Nat) (a1 : Int32) (s0 : Int32) (M : FM) : Option (FM) := BX31_queue_12 FX31_queue_28 FX31_queue_33 a0 a1 s0 M
noncomputable def BX31_queue_0 (g12 : Nat → Int32 → Int32 → FM → Option (FM)) (a0 : Nat) (a1 : Int32) (M : FM) : Option (FM) :=
  fi ((a1 &&& (Int32.ofInt 1)) = (Int32.ofInt 1)) (
    g12 a0 a1 (Int32.ofInt 1) M) (
    g12 a0 a1 (Int32.ofInt 0) M)
noncomputable def FX31_queue_0 (a0 : Nat) (a1 : Int32) (M : FM) : Option (FM) := BX31_queue_0 FX31_queue_12 a0 a1 M
noncomputable def FX31_queue (a0 : Nat) (a1 : Int32) (M : FM) : Option (FM) := FX31_queue_0 a0 a1 M
/-! BoardMachine$Signals$Serial.write(JIJ)V -/
noncomputable def BX31_write_193 (M : FM) : Option (FM) :=
  some M
noncomputable def FX31_write_193 (M : FM) : Option (FM) := BX31_write_193 M
noncomputable def BX31_write_181 (g193 : FM → Option (FM)) (a0 : Nat) (a6 : Int32) (a7 : Int32) (M : FM) : Option (FM) :=
  fi (fm_is M 78 78 a0 = true) (
  let x1 : Nat := (M.2.2 235 a0 0)
  fi (fm_is M 901 901 x1 = true ∧ fm_in M x1 a6 = true) (
  let M2 : FM := fm_sI M 3 x1 a6.toNatClampNeg a7
  g193 M2) none) none
noncomputable def FX31_write_181 (a0 : Nat) (a6 : Int32) (a7 : Int32) (M : FM) : Option (FM) := BX31_write_181 FX31_write_193 a0 a6 a7 M
noncomputable def BX31_write_140 (g193 : FM → Option (FM)) (a0 : Nat) (a7 : Int32) (s0 : Nat) (s1 : Int32) (s2 : Int32) (M : FM) : Option (FM) :=
  let x1 : Int32 := (s1 ||| s2)
  fi (fm_is M 78 78 s0 = true) (
  fi (x1 = 0 ∨ x1 = 1) (
  let M2 : FM := fm_sI M 238 s0 0 x1
  fi (fm_is M2 78 78 a0 = true) (
  let x3 : Nat := (M2.2.2 235 a0 0)
  fi (fm_is M2 901 901 x3 = true ∧ fm_in M2 x3 (Int32.ofInt 1) = true) (
  let M4 : FM := fm_sI M2 3 x3 (Int32.ofInt 1).toNatClampNeg (a7 &&& (Int32.ofInt 15))
  g193 M4) none) none) none) none
noncomputable def FX31_write_140 (a0 : Nat) (a7 : Int32) (s0 : Nat) (s1 : Int32) (s2 : Int32) (M : FM) : Option (FM) := BX31_write_140 FX31_write_193 a0 a7 s0 s1 s2 M
noncomputable def BX31_write_139 (g140 : Nat → Int32 → Nat → Int32 → Int32 → FM → Option (FM)) (a0 : Nat) (a7 : Int32) (s0 : Nat) (s1 : Int32) (M : FM) : Option (FM) :=
  g140 a0 a7 s0 s1 (Int32.ofInt 0) M
noncomputable def FX31_write_139 (a0 : Nat) (a7 : Int32) (s0 : Nat) (s1 : Int32) (M : FM) : Option (FM) := BX31_write_139 FX31_write_140 a0 a7 s0 s1 M
noncomputable def BX31_write_56 (f0 : Nat → Int32 → Int32 → FM → Option (Int32 × FM)) (f1 : Nat → Int32 → FM → Option (FM)) (f2 : Nat → Int32 → FM → Option (FM)) (g139 : Nat → Int32 → Nat → Int32 → FM → Option (FM)) (g140 : Nat → Int32 → Nat → Int32 → Int32 → FM → Option (FM)) (g181 : Nat → Int32 → Int32 → FM → Option (FM)) (g193 : FM → Option (FM)) (a0 : Nat) (a6 : Int32) (a7 : Int32) (M : FM) : Option (FM) :=
  fi (a6 = (Int32.ofInt 0)) (
    fi (fm_is M 78 78 a0 = true) (
    (f1 a0 a7 M).bind fun M1 =>
    g193 M1) none) (
  fi (a6 = (Int32.ofInt 1)) (
    fi (fm_is M 78 78 a0 = true) (
    fi (fm_is M 78 78 a0 = true) (
    (f0 a0 (Int32.ofInt 1) (Int32.ofInt 1) M).bind fun r2 =>
    fi (r2.1 = 0) (
      fi ((a7 &&& (Int32.ofInt 2)) = (Int32.ofInt 2)) (
        g140 a0 a7 a0 (M.1 238 a0 0) (Int32.ofInt 1) r2.2) (
        g139 a0 a7 a0 (M.1 238 a0 0) r2.2)) (
      g139 a0 a7 a0 (M.1 238 a0 0) r2.2)) none) none) (
  fi (a6 = (Int32.ofInt 2)) (
    fi (fm_is M 78 78 a0 = true) (
    (f2 a0 a7 M).bind fun M3 =>
    g193 M3) none) (
  fi (a6 = (Int32.ofInt 3)) (
    g181 a0 a6 a7 M) (
  fi (a6 = (Int32.ofInt 4)) (
    fi (fm_is M 78 78 a0 = true) (
    let x4 : Nat := (M.2.2 235 a0 0)
    fi (fm_is M 901 901 x4 = true ∧ fm_in M x4 (Int32.ofInt 4) = true) (
    let M5 : FM := fm_sI M 3 x4 (Int32.ofInt 4).toNatClampNeg (a7 &&& (Int32.ofInt 31))
    g193 M5) none) none) (
  fi (a6 = (Int32.ofInt 5)) (
    g193 M) (
  fi (a6 = (Int32.ofInt 6)) (
    g193 M) (
  fi (a6 = (Int32.ofInt 7)) (
    g181 a0 a6 a7 M) (
  g193 M))))))))
noncomputable def FX31_write_56 (a0 : Nat) (a6 : Int32) (a7 : Int32) (M : FM) : Option (FM) := BX31_write_56 FX31_has FX31_send FX31_queue FX31_write_139 FX31_write_140 FX31_write_181 FX31_write_193 a0 a6 a7 M
noncomputable def BX31_write_13 (M : FM) : Option (FM) :=
  some M
noncomputable def FX31_write_13 (M : FM) : Option (FM) := BX31_write_13 M
noncomputable def BX31_write_0 (f0 : Nat → Int32 → Int32 → FM → Option (Int32 × FM)) (g13 : FM → Option (FM)) (g56 : Nat → Int32 → Int32 → FM → Option (FM)) (a0 : Nat) (a1 : Int64) (a3 : Int32) (a4 : Int64) (M : FM) : Option (FM) :=
  fi (a3 = (Int32.ofInt 1)) (
    fi ((lg_cmp a1 (Int64.ofInt 7)) ≤ 0) (
      let x1 : Int32 := a1.toInt32
      let x2 : Int32 := (a4.toInt32 &&& (Int32.ofInt 255))
      fi ((Int32.ofInt 2) ≤ x1) (
        g56 a0 x1 x2 M) (
        fi (fm_is M 78 78 a0 = true) (
        (f0 a0 (Int32.ofInt 3) (Int32.ofInt 7) M).bind fun r3 =>
        fi (r3.1 = 0) (
          g56 a0 x1 x2 r3.2) (
          fi (fm_is r3.2 78 78 a0 = true) (
          let x4 : Int32 := ((Int32.ofInt 8) + x1)
          let x5 : Nat := (r3.2.2.2 235 a0 0)
          fi (fm_is r3.2 901 901 x5 = true ∧ fm_in r3.2 x5 x4 = true) (
          let M6 : FM := fm_sI r3.2 3 x5 x4.toNatClampNeg x2
          some M6) none) none)) none)) (
      g13 M)) (
    g13 M)
noncomputable def FX31_write_0 (a0 : Nat) (a1 : Int64) (a3 : Int32) (a4 : Int64) (M : FM) : Option (FM) := BX31_write_0 FX31_has FX31_write_13 FX31_write_56 a0 a1 a3 a4 M
noncomputable def FX31_write (a0 : Nat) (a1 : Int64) (a3 : Int32) (a4 : Int64) (M : FM) : Option (FM) := FX31_write_0 a0 a1 a3 a4 M
/-! BoardMachine$Signals$Timer.write(JIJ)V -/
noncomputable def BX32_write_154 (M : FM) : Option (FM) :=
  some M
noncomputable def FX32_write_154 (M : FM) : Option (FM) := BX32_write_154 M
noncomputable def BX32_write_117 (f2 : Nat → Int64 → Int32 → FM → Option (Int32 × FM)) (g154 : FM → Option (FM)) (a0 : Nat) (a1 : Int64) (a3 : Int32) (a4 : Int64) (M : FM) : Option (FM) :=
  fi (fm_is M 80 80 a0 = true) (
  (f2 a0 a1 a3 M).bind fun r1 =>
  fi (r1.1 = 0) (
    g154 r1.2) (
    fi (fm_is r1.2 80 80 a0 = true) (
    fi (0 ≤ (lg_cmp a1 ((Int64.ofInt 4) * (r1.2.1 244 a0 0).toInt64))) (
      g154 r1.2) (
      fi (fm_is r1.2 80 80 a0 = true) (
      let x2 : Int32 := (a1 >>> ((Int32.ofInt 2).toInt64 &&& 63)).toInt32
      let x3 : Nat := (r1.2.2.2 245 a0 0)
      fi (fm_is r1.2 901 901 x3 = true ∧ fm_in r1.2 x3 x2 = true) (
      let M4 : FM := fm_sI r1.2 3 x3 x2.toNatClampNeg (a4.toInt32 &&& (Int32.ofInt 1))
      g154 M4) none) none)) none)) none
noncomputable def FX32_write_117 (a0 : Nat) (a1 : Int64) (a3 : Int32) (a4 : Int64) (M : FM) : Option (FM) := BX32_write_117 FX32_isHalf FX32_write_154 a0 a1 a3 a4 M
noncomputable def BX32_write_113 (g154 : FM → Option (FM)) (s0 : Nat) (s1 : Int32) (s2 : Int64) (M : FM) : Option (FM) :=
  fi (fm_is M 902 902 s0 = true ∧ fm_in M s0 s1 = true) (
  let M1 : FM := fm_sL M 3 s0 s1.toNatClampNeg s2
  g154 M1) none
noncomputable def FX32_write_113 (s0 : Nat) (s1 : Int32) (s2 : Int64) (M : FM) : Option (FM) := BX32_write_113 FX32_write_154 s0 s1 s2 M
noncomputable def BX32_write_62 (g113 : Nat → Int32 → Int64 → FM → Option (FM)) (a0 : Nat) (a4 : Int64) (a6 : Int32) (s0 : Int32) (M : FM) : Option (FM) :=
  fi (fm_is M 80 80 a0 = true) (
  fi (s0 = 0) (
    fi (fm_is M 80 80 a0 = true) (
    let x1 : Nat := (M.2.2 246 a0 0)
    fi (fm_is M 902 902 x1 = true ∧ fm_in M x1 a6 = true) (
    g113 (M.2.2 246 a0 0) a6 (((M.2.1 3 x1 a6.toNatClampNeg) &&& (Int64.ofInt 4294967295)) ||| (a4 <<< ((Int32.ofInt 32).toInt64 &&& 63))) M) none) none) (
    fi (fm_is M 80 80 a0 = true) (
    let x2 : Nat := (M.2.2 246 a0 0)
    fi (fm_is M 902 902 x2 = true ∧ fm_in M x2 a6 = true) (
    g113 (M.2.2 246 a0 0) a6 (((M.2.1 3 x2 a6.toNatClampNeg) &&& (Int64.ofInt (-4294967296))) ||| (a4 &&& (Int64.ofInt 4294967295))) M) none) none)) none
noncomputable def FX32_write_62 (a0 : Nat) (a4 : Int64) (a6 : Int32) (s0 : Int32) (M : FM) : Option (FM) := BX32_write_62 FX32_write_113 a0 a4 a6 s0 M
noncomputable def BX32_write_33 (f2 : Nat → Int64 → Int32 → FM → Option (Int32 × FM)) (g62 : Nat → Int64 → Int32 → Int32 → FM → Option (FM)) (g117 : Nat → Int64 → Int32 → Int64 → FM → Option (FM)) (a0 : Nat) (a1 : Int64) (a3 : Int32) (a4 : Int64) (a6 : Int32) (M : FM) : Option (FM) :=
  fi (a6 < 0) (
    g117 a0 a1 a3 a4 M) (
    fi (fm_is M 80 80 a0 = true) (
    (f2 a0 a1 a3 M).bind fun r1 =>
    fi (r1.1 = 0) (
      g117 a0 a1 a3 a4 r1.2) (
      fi ((lg_cmp (a1 &&& (Int64.ofInt 4)) (Int64.ofInt 0)) = 0) (
        g62 a0 a4 a6 (Int32.ofInt 1) r1.2) (
        g62 a0 a4 a6 (Int32.ofInt 0) r1.2))) none)
noncomputable def FX32_write_33 (a0 : Nat) (a1 : Int64) (a3 : Int32) (a4 : Int64) (a6 : Int32) (M : FM) : Option (FM) := BX32_write_33 FX32_isHalf FX32_write_62 FX32_write_117 a0 a1 a3 a4 a6 M
noncomputable def BX32_write_0 (f0 : Nat → Int64 → FM → Option (Int32 × FM)) (f1 : Nat → Int64 → Int32 → FM → Option (Int32 × FM)) (g33 : Nat → Int64 → Int32 → Int64 → Int32 → FM → Option (FM)) (g154 : FM → Option (FM)) (a0 : Nat) (a1 : Int64) (a3 : Int32) (a4 : Int64) (M : FM) : Option (FM) :=
  fi (fm_is M 80 80 a0 = true) (
  (f0 a0 a1 M).bind fun r1 =>
  fi (r1.1 < 0) (
    g33 a0 a1 a3 a4 r1.1 r1.2) (
    fi (fm_is r1.2 80 80 a0 = true) (
    (f1 a0 a1 a3 r1.2).bind fun r2 =>
    fi (r2.1 = 0) (
      g33 a0 a1 a3 a4 r1.1 r2.2) (
      fi (fm_is r2.2 80 80 a0 = true) (
      let x3 : Nat := (r2.2.2.2 246 a0 0)
      fi (fm_is r2.2 902 902 x3 = true ∧ fm_in r2.2 x3 r1.1 = true) (
      let M4 : FM := fm_sL r2.2 3 x3 r1.1.toNatClampNeg a4
      g154 M4) none) none)) none)) none
noncomputable def FX32_write_0 (a0 : Nat) (a1 : Int64) (a3 : Int32) (a4 : Int64) (M : FM) : Option (FM) := BX32_write_0 FX32_find FX32_isWhole FX32_write_33 FX32_write_154 a0 a1 a3 a4 M
noncomputable def FX32_write (a0 : Nat) (a1 : Int64) (a3 : Int32) (a4 : Int64) (M : FM) : Option (FM) := FX32_write_0 a0 a1 a3 a4 M
/-! BoardMachine$Signals$SignalUnit.write(IJIJ)V -/
noncomputable def BX30_write_0 (f0 : Nat → Int64 → Int32 → Int64 → FM → Option (FM)) (f1 : Nat → Int64 → Int32 → Int64 → FM → Option (FM)) (f2 : Nat → Int64 → Int32 → Int64 → FM → Option (FM)) (f3 : Nat → FM → Option (FM)) (a0 : Nat) (a1 : Int32) (a2 : Int64) (a4 : Int32) (a5 : Int64) (M : FM) : Option (FM) :=
  fi (fm_is M 79 79 a0 = true) (
  let x1 : Nat := (M.2.2 243 a0 0)
  fi (fm_is M 910 990 x1 = true ∧ fm_in M x1 a1 = true) (
  let x2 : Nat := (M.2.2 3 x1 a1.toNatClampNeg)
  fi (fm_is M 77 77 x2 = true) (
  (f0 x2 a2 a4 a5 M).bind fun M3 =>
  fi (fm_is M3 79 79 a0 = true) (
  (f3 a0 M3).bind fun M4 =>
  some M4) none) (fi (fm_is M 78 78 x2 = true) (
  (f1 x2 a2 a4 a5 M).bind fun M5 =>
  fi (fm_is M5 79 79 a0 = true) (
  (f3 a0 M5).bind fun M6 =>
  some M6) none) (fi (fm_is M 80 80 x2 = true) (
  (f2 x2 a2 a4 a5 M).bind fun M7 =>
  fi (fm_is M7 79 79 a0 = true) (
  (f3 a0 M7).bind fun M8 =>
  some M8) none) (none)))) none) none
noncomputable def FX30_write_0 (a0 : Nat) (a1 : Int32) (a2 : Int64) (a4 : Int32) (a5 : Int64) (M : FM) : Option (FM) := BX30_write_0 FX33_write FX31_write FX32_write FX30_look a0 a1 a2 a4 a5 M
noncomputable def FX30_write (a0 : Nat) (a1 : Int32) (a2 : Int64) (a4 : Int32) (a5 : Int64) (M : FM) : Option (FM) := FX30_write_0 a0 a1 a2 a4 a5 M
/-! BoardMachine$Board.end(I)V -/
noncomputable def BX10_end_43 (M : FM) : Option (FM) :=
  some M
noncomputable def FX10_end_43 (M : FM) : Option (FM) := BX10_end_43 M
noncomputable def BX10_end_40 (g43 : FM → Option (FM)) (s0 : Nat) (s1 : Int32) (M : FM) : Option (FM) :=
  fi (fm_is M 11 11 s0 = true) (
  let M1 : FM := fm_sI M 23 s0 0 s1
  g43 M1) none
noncomputable def FX10_end_40 (s0 : Nat) (s1 : Int32) (M : FM) : Option (FM) := BX10_end_40 FX10_end_43 s0 s1 M
noncomputable def BX10_end_19 (g40 : Nat → Int32 → FM → Option (FM)) (a0 : Nat) (a1 : Int32) (a2 : Int32) (M : FM) : Option (FM) :=
  fi (fm_is M 11 11 a0 = true) (
  fi ((Int32.ofInt 1) = 0 ∨ (Int32.ofInt 1) = 1) (
  let M1 : FM := fm_sI M 22 a0 0 (Int32.ofInt 1)
  fi (a2 = (Int32.ofInt 21845)) (
    g40 a0 (Int32.ofInt 0) M1) (
    g40 a0 ((a1.toUInt32 >>> ((Int32.ofInt 16).toUInt32 &&& Int32.toUInt32 31)).toInt32) M1)) none) none
noncomputable def FX10_end_19 (a0 : Nat) (a1 : Int32) (a2 : Int32) (M : FM) : Option (FM) := BX10_end_19 FX10_end_40 a0 a1 a2 M
noncomputable def BX10_end_0 (g19 : Nat → Int32 → Int32 → FM → Option (FM)) (g43 : FM → Option (FM)) (a0 : Nat) (a1 : Int32) (M : FM) : Option (FM) :=
  let x1 : Int32 := (a1 &&& (Int32.ofInt 65535))
  fi (x1 = (Int32.ofInt 21845)) (
    g19 a0 a1 x1 M) (
    fi (x1 = (Int32.ofInt 13107)) (
      g19 a0 a1 x1 M) (
      g43 M))
noncomputable def FX10_end_0 (a0 : Nat) (a1 : Int32) (M : FM) : Option (FM) := BX10_end_0 FX10_end_19 FX10_end_43 a0 a1 M
noncomputable def FX10_end (a0 : Nat) (a1 : Int32) (M : FM) : Option (FM) := FX10_end_0 a0 a1 M
/-! BoardMachine$Disks$Queue.reset()V -/
noncomputable def BX20_reset_0 (a0 : Nat) (M : FM) : Option (FM) :=
  fi (fm_is M 28 28 a0 = true) (
  let M1 : FM := fm_sI M 71 a0 0 (Int32.ofInt 16)
  fi (fm_is M1 28 28 a0 = true) (
  fi ((Int32.ofInt 0) = 0 ∨ (Int32.ofInt 0) = 1) (
  let M2 : FM := fm_sI M1 72 a0 0 (Int32.ofInt 0)
  fi (fm_is M2 28 28 a0 = true) (
  let M3 : FM := fm_sL M2 73 a0 0 (Int64.ofInt 0)
  fi (fm_is M3 28 28 a0 = true) (
  let M4 : FM := fm_sL M3 74 a0 0 (Int64.ofInt 0)
  fi (fm_is M4 28 28 a0 = true) (
  let M5 : FM := fm_sL M4 75 a0 0 (Int64.ofInt 0)
  fi (fm_is M5 28 28 a0 = true) (
  let M6 : FM := fm_sI M5 76 a0 0 (Int32.ofInt 0)
  fi (fm_is M6 28 28 a0 = true) (
  let M7 : FM := fm_sI M6 77 a0 0 (Int32.ofInt 0)
  some M7) none) none) none) none) none) none) none) none
noncomputable def FX20_reset_0 (a0 : Nat) (M : FM) : Option (FM) := BX20_reset_0 a0 M
noncomputable def FX20_reset (a0 : Nat) (M : FM) : Option (FM) := FX20_reset_0 a0 M
/-! BoardMachine$Disks$Device.become(I)V -/
noncomputable def BX18_become_51 (M : FM) : Option (FM) :=
  some M
noncomputable def FX18_become_51 (M : FM) : Option (FM) := BX18_become_51 M
noncomputable def BX18_become_0 (f0 : Nat → FM → Option (FM)) (g51 : FM → Option (FM)) (a0 : Nat) (a1 : Int32) (M : FM) : Option (FM) :=
  fi (a1 = 0) (
    fi (fm_is M 22 22 a0 = true) (
    let x1 : Nat := (M.2.2 60 a0 0)
    fi (fm_is M 28 28 x1 = true) (
    (f0 x1 M).bind fun M2 =>
    fi (fm_is M2 22 22 a0 = true) (
    let M3 : FM := fm_sI M2 63 a0 0 (Int32.ofInt 0)
    fi (fm_is M3 22 22 a0 = true) (
    let M4 : FM := fm_sI M3 64 a0 0 (Int32.ofInt 0)
    fi (fm_is M4 22 22 a0 = true) (
    let M5 : FM := fm_sI M4 65 a0 0 (Int32.ofInt 0)
    fi (fm_is M5 22 22 a0 = true) (
    let M6 : FM := fm_sI M5 66 a0 0 (Int32.ofInt 0)
    g51 M6) none) none) none) none) none) none) (
    fi (fm_is M 22 22 a0 = true) (
    fi (fm_is M 22 22 a0 = true) (
    let M7 : FM := fm_sI M 65 a0 0 ((a1 &&& (Int32.ofInt 255)) ||| ((M.1 65 a0 0) &&& (Int32.ofInt 64)))
    g51 M7) none) none)
noncomputable def FX18_become_0 (a0 : Nat) (a1 : Int32) (M : FM) : Option (FM) := BX18_become_0 FX20_reset FX18_become_51 a0 a1 M
noncomputable def FX18_become (a0 : Nat) (a1 : Int32) (M : FM) : Option (FM) := FX18_become_0 a0 a1 M
/-! BoardMachine$QueueBytes.has(JJ)Z -/
noncomputable def BX19_has_0 (f0 : Nat → Int64 → Int64 → FM → Option (Int32 × FM)) (a0 : Nat) (a1 : Int64) (a3 : Int64) (M : FM) : Option (Int32 × FM) :=
  fi (fm_is M 76 76 a0 = true) (
  let x1 : Nat := (M.2.2 222 a0 0)
  fi (fm_is M 73 73 x1 = true) (
  (f0 x1 a1 a3 M).bind fun r2 =>
  fi (r2.1 = 0 ∨ r2.1 = 1) (some (r2.1, r2.2)) none) none) none
noncomputable def FX19_has_0 (a0 : Nat) (a1 : Int64) (a3 : Int64) (M : FM) : Option (Int32 × FM) := BX19_has_0 FX11_has a0 a1 a3 M
noncomputable def FX19_has (a0 : Nat) (a1 : Int64) (a3 : Int64) (M : FM) : Option (Int32 × FM) := FX19_has_0 a0 a1 a3 M
/-! BoardMachine$QueueBytes.get(J)I -/
noncomputable def BX19_get_0 (f0 : Nat → Int64 → Int32 → FM → Option (Int64 × FM)) (a0 : Nat) (a1 : Int64) (M : FM) : Option (Int32 × FM) :=
  fi (fm_is M 76 76 a0 = true) (
  let x1 : Nat := (M.2.2 222 a0 0)
  fi (fm_is M 73 73 x1 = true) (
  (f0 x1 a1 (Int32.ofInt 1) M).bind fun r2 =>
  some (r2.1.toInt32, r2.2)) none) none
noncomputable def FX19_get_0 (a0 : Nat) (a1 : Int64) (M : FM) : Option (Int32 × FM) := BX19_get_0 FX11_load a0 a1 M
noncomputable def FX19_get (a0 : Nat) (a1 : Int64) (M : FM) : Option (Int32 × FM) := FX19_get_0 a0 a1 M
/-! BoardMachine$Disks.number(LBoardMachine$Disks$Bytes;JI)J -/
noncomputable def BX107_number_8 (f0 : Nat → Int64 → FM → Option (Int32 × FM)) (k8 : Nat → Int64 → Int64 → Int32 → FM → Option (Int64 × FM)) (a0 : Nat) (a1 : Int64) (a4 : Int64) (a6 : Int32) (M : FM) : Option (Int64 × FM) :=
  fi (a6 < 0) (
    some (a4, M)) (
    fi (fm_is M 76 76 a0 = true) (
    (f0 a0 (a1 + a6.toInt64) M).bind fun r1 =>
    let x2 : Int64 := ((a4 <<< ((Int32.ofInt 8).toInt64 &&& 63)) ||| r1.1.toInt64)
    let x3 : Int32 := a6 + (Int32.ofInt (-1))
    k8 a0 a1 x2 x3 r1.2) (none))
noncomputable def FX107_number_8 (n : Nat) (k8 : Nat → Int64 → Int64 → Int32 → FM → Option (Int64 × FM)) (a0 : Nat) (a1 : Int64) (a4 : Int64) (a6 : Int32) (M : FM) : Option (Int64 × FM) := BX107_number_8 FX19_get k8 a0 a1 a4 a6 M
noncomputable def BX107_number_0 (k8 : Nat → Int64 → Int64 → Int32 → FM → Option (Int64 × FM)) (a0 : Nat) (a1 : Int64) (a3 : Int32) (M : FM) : Option (Int64 × FM) :=
  let x1 : Int32 := (a3 - (Int32.ofInt 1))
  k8 a0 a1 (Int64.ofInt 0) x1 M
noncomputable def FX107_number_0 (n : Nat) (k8 : Nat → Int64 → Int64 → Int32 → FM → Option (Int64 × FM)) (a0 : Nat) (a1 : Int64) (a3 : Int32) (M : FM) : Option (Int64 × FM) := BX107_number_0 k8 a0 a1 a3 M
noncomputable def FX107_number_L8 (n : Nat) : Nat → Nat → Int64 → Int64 → Int32 → FM → Option (Int64 × FM)
  | 0 => fun _ _ _ _ _ => none
  | j + 1 => FX107_number_8 n (FX107_number_L8 n j)
noncomputable def FX107_number (n : Nat) (a0 : Nat) (a1 : Int64) (a3 : Int32) (M : FM) : Option (Int64 × FM) := FX107_number_0 n (FX107_number_L8 n n) a0 a1 a3 M
/-! BoardMachine$Disks$Device.fail()V -/
noncomputable def BX18_fail_0 (a0 : Nat) (M : FM) : Option (FM) :=
  fi (fm_is M 22 22 a0 = true) (
  fi (fm_is M 22 22 a0 = true) (
  let M1 : FM := fm_sI M 65 a0 0 ((M.1 65 a0 0) ||| (Int32.ofInt 64))
  fi (fm_is M1 22 22 a0 = true) (
  fi (fm_is M1 22 22 a0 = true) (
  let M2 : FM := fm_sI M1 66 a0 0 ((M1.1 66 a0 0) ||| (Int32.ofInt 2))
  some M2) none) none) none) none
noncomputable def FX18_fail_0 (a0 : Nat) (M : FM) : Option (FM) := BX18_fail_0 a0 M
noncomputable def FX18_fail (a0 : Nat) (M : FM) : Option (FM) := FX18_fail_0 a0 M
/-! BoardMachine$Disks$Queue.offer()J -/
noncomputable def BX20_offer_0 (a0 : Nat) (M : FM) : Option (Int64 × FM) :=
  fi (fm_is M 28 28 a0 = true) (
  fi (fm_is M 28 28 a0 = true) (
  fi (fm_is M 28 28 a0 = true) (
  let x1 : Int32 := (M.1 71 a0 0)
  let x2 : Int32 := (M.1 76 a0 0)
  fi (x1 = 0) none (
  some ((((M.2.1 74 a0 0) + (Int64.ofInt 4)) + ((Int64.ofInt 2) * (x2 - x2 / x1 * x1).toInt64)), M))) none) none) none
noncomputable def FX20_offer_0 (a0 : Nat) (M : FM) : Option (Int64 × FM) := BX20_offer_0 a0 M
noncomputable def FX20_offer (a0 : Nat) (M : FM) : Option (Int64 × FM) := FX20_offer_0 a0 M
/-! BoardMachine$Disks$Stretch.clear()V -/
noncomputable def BX22_clear_0 (a0 : Nat) (M : FM) : Option (FM) :=
  fi (fm_is M 30 30 a0 = true) (
  let M1 : FM := fm_sI M 87 a0 0 (Int32.ofInt 0)
  fi (fm_is M1 30 30 a0 = true) (
  let M2 : FM := fm_sL M1 88 a0 0 (Int64.ofInt 0)
  fi (fm_is M2 30 30 a0 = true) (
  let M3 : FM := fm_sI M2 89 a0 0 (Int32.ofInt 0)
  fi (fm_is M3 30 30 a0 = true) (
  let M4 : FM := fm_sL M3 90 a0 0 (Int64.ofInt 0)
  some M4) none) none) none) none
noncomputable def FX22_clear_0 (a0 : Nat) (M : FM) : Option (FM) := BX22_clear_0 a0 M
noncomputable def FX22_clear (a0 : Nat) (M : FM) : Option (FM) := FX22_clear_0 a0 M
/-! BoardMachine$Disks$Queue.answer()J -/
noncomputable def BX20_answer_0 (a0 : Nat) (M : FM) : Option (Int64 × FM) :=
  fi (fm_is M 28 28 a0 = true) (
  fi (fm_is M 28 28 a0 = true) (
  fi (fm_is M 28 28 a0 = true) (
  let x1 : Int32 := (M.1 71 a0 0)
  let x2 : Int32 := (M.1 77 a0 0)
  fi (x1 = 0) none (
  some ((((M.2.1 75 a0 0) + (Int64.ofInt 4)) + ((Int64.ofInt 8) * (x2 - x2 / x1 * x1).toInt64)), M))) none) none) none
noncomputable def FX20_answer_0 (a0 : Nat) (M : FM) : Option (Int64 × FM) := BX20_answer_0 a0 M
noncomputable def FX20_answer (a0 : Nat) (M : FM) : Option (Int64 × FM) := FX20_answer_0 a0 M
/-! BoardMachine$Disks$Stretch.add(JJ)V -/
noncomputable def BX22_add_0 (a0 : Nat) (a1 : Int64) (a3 : Int64) (M : FM) : Option (FM) :=
  fi (fm_is M 30 30 a0 = true) (
  fi (fm_is M 30 30 a0 = true) (
  let x1 : Int32 := (M.1 87 a0 0)
  let x2 : Nat := (M.2.2 85 a0 0)
  fi (fm_is M 902 902 x2 = true ∧ fm_in M x2 x1 = true) (
  let M3 : FM := fm_sL M 3 x2 x1.toNatClampNeg a1
  fi (fm_is M3 30 30 a0 = true) (
  fi (fm_is M3 30 30 a0 = true) (
  let x4 : Int32 := (M3.1 87 a0 0)
  let x5 : Nat := (M3.2.2 86 a0 0)
  fi (fm_is M3 902 902 x5 = true ∧ fm_in M3 x5 x4 = true) (
  let M6 : FM := fm_sL M3 3 x5 x4.toNatClampNeg a3
  fi (fm_is M6 30 30 a0 = true) (
  fi (fm_is M6 30 30 a0 = true) (
  let M7 : FM := fm_sI M6 87 a0 0 ((M6.1 87 a0 0) + (Int32.ofInt 1))
  fi (fm_is M7 30 30 a0 = true) (
  fi (fm_is M7 30 30 a0 = true) (
  let M8 : FM := fm_sL M7 88 a0 0 ((M7.2.1 88 a0 0) + a3)
  some M8) none) none) none) none) none) none) none) none) none) none
noncomputable def FX22_add_0 (a0 : Nat) (a1 : Int64) (a3 : Int64) (M : FM) : Option (FM) := BX22_add_0 a0 a1 a3 M
noncomputable def FX22_add (a0 : Nat) (a1 : Int64) (a3 : Int64) (M : FM) : Option (FM) := FX22_add_0 a0 a1 a3 M
/-! BoardMachine$Disks$Queue.gather(LBoardMachine$Disks$Bytes;ILBoardMachine$Disks$Request;)Z -/
noncomputable def BX20_gather_380 (s0 : Int32) (M : FM) : Option (Int32 × FM) :=
  fi (s0 = 0 ∨ s0 = 1) (some (s0, M)) none
noncomputable def FX20_gather_380 (n : Nat) (k34 : Nat → Nat → Nat → Int32 → Int32 → Int32 → Int32 → Int64 → FM → Option (Int32 × FM)) (s0 : Int32) (M : FM) : Option (Int32 × FM) := BX20_gather_380 s0 M
noncomputable def BX20_gather_379 (g380 : Int32 → FM → Option (Int32 × FM)) (M : FM) : Option (Int32 × FM) :=
  g380 (Int32.ofInt 0) M
noncomputable def FX20_gather_379 (n : Nat) (k34 : Nat → Nat → Nat → Int32 → Int32 → Int32 → Int32 → Int64 → FM → Option (Int32 × FM)) (M : FM) : Option (Int32 × FM) := BX20_gather_379 (FX20_gather_380 n k34) M
noncomputable def BX20_gather_305 (f3 : Nat → Int64 → Int32 → FM → Option (Int64 × FM)) (k34 : Nat → Nat → Nat → Int32 → Int32 → Int32 → Int32 → Int64 → FM → Option (Int32 × FM)) (a0 : Nat) (a1 : Nat) (a3 : Nat) (a5 : Int32) (a7 : Int32) (a8 : Int64) (a10 : Int64) (s0 : Int32) (M : FM) : Option (Int32 × FM) :=
  (f3 a1 (a10 + (Int64.ofInt 14)) (Int32.ofInt 2) M).bind fun r1 =>
  let x2 : Int32 := r1.1.toInt32
  let x3 : Int32 := a5 + (Int32.ofInt 1)
  k34 a0 a1 a3 x2 x3 s0 a7 a8 r1.2
noncomputable def FX20_gather_305 (n : Nat) (k34 : Nat → Nat → Nat → Int32 → Int32 → Int32 → Int32 → Int64 → FM → Option (Int32 × FM)) (a0 : Nat) (a1 : Nat) (a3 : Nat) (a5 : Int32) (a7 : Int32) (a8 : Int64) (a10 : Int64) (s0 : Int32) (M : FM) : Option (Int32 × FM) := BX20_gather_305 (FX107_number n) k34 a0 a1 a3 a5 a7 a8 a10 s0 M
noncomputable def BX20_gather_274 (g305 : Nat → Nat → Nat → Int32 → Int32 → Int64 → Int64 → Int32 → FM → Option (Int32 × FM)) (a0 : Nat) (a1 : Nat) (a3 : Nat) (a5 : Int32) (a10 : Int64) (a12 : Int64) (a14 : Int64) (a16 : Int32) (a17 : Int32) (M : FM) : Option (Int32 × FM) :=
  fi (fm_is M 29 29 a3 = true) (
  let M1 : FM := fm_sL M 83 a3 0 ((a12 + a14) - (Int64.ofInt 1))
  fi ((a16 &&& (Int32.ofInt 1)) = 0) (
    g305 a0 a1 a3 a5 a17 a14 a10 (Int32.ofInt 0) M1) (
    g305 a0 a1 a3 a5 a17 a14 a10 (Int32.ofInt 1) M1)) none
noncomputable def FX20_gather_274 (n : Nat) (k34 : Nat → Nat → Nat → Int32 → Int32 → Int32 → Int32 → Int64 → FM → Option (Int32 × FM)) (a0 : Nat) (a1 : Nat) (a3 : Nat) (a5 : Int32) (a10 : Int64) (a12 : Int64) (a14 : Int64) (a16 : Int32) (a17 : Int32) (M : FM) : Option (Int32 × FM) := BX20_gather_274 (FX20_gather_305 n k34) a0 a1 a3 a5 a10 a12 a14 a16 a17 M
noncomputable def BX20_gather_208 (f3 : Nat → Int64 → Int32 → FM → Option (Int64 × FM)) (f4 : Nat → Int64 → Int64 → FM → Option (FM)) (g274 : Nat → Nat → Nat → Int32 → Int64 → Int64 → Int64 → Int32 → Int32 → FM → Option (Int32 × FM)) (a0 : Nat) (a1 : Nat) (a3 : Nat) (a5 : Int32) (a10 : Int64) (a12 : Int64) (a14 : Int64) (a16 : Int32) (a17 : Int32) (M : FM) : Option (Int32 × FM) :=
  fi (a5 = 0) (
    (f3 a1 a12 (Int32.ofInt 4) M).bind fun r1 =>
    fi (fm_is r1.2 29 29 a3 = true) (
    let M2 : FM := fm_sI r1.2 81 a3 0 r1.1.toInt32
    (f3 a1 (a12 + (Int64.ofInt 8)) (Int32.ofInt 8) M2).bind fun r3 =>
    fi (fm_is r3.2 29 29 a3 = true) (
    let M4 : FM := fm_sL r3.2 82 a3 0 r3.1
    g274 a0 a1 a3 a5 a10 a12 a14 a16 a17 M4) none) none) (
    fi (a17 = 0) (
      fi (fm_is M 29 29 a3 = true) (
      let x5 : Nat := (M.2.2 78 a3 0)
      fi (fm_is M 30 30 x5 = true) (
      (f4 x5 a12 a14 M).bind fun M6 =>
      g274 a0 a1 a3 a5 a10 a12 a14 a16 a17 M6) none) none) (
      fi (fm_is M 29 29 a3 = true) (
      let x7 : Nat := (M.2.2 79 a3 0)
      fi (fm_is M 30 30 x7 = true) (
      (f4 x7 a12 a14 M).bind fun M8 =>
      g274 a0 a1 a3 a5 a10 a12 a14 a16 a17 M8) none) none))
noncomputable def FX20_gather_208 (n : Nat) (k34 : Nat → Nat → Nat → Int32 → Int32 → Int32 → Int32 → Int64 → FM → Option (Int32 × FM)) (a0 : Nat) (a1 : Nat) (a3 : Nat) (a5 : Int32) (a10 : Int64) (a12 : Int64) (a14 : Int64) (a16 : Int32) (a17 : Int32) (M : FM) : Option (Int32 × FM) := BX20_gather_208 (FX107_number n) FX22_add (FX20_gather_274 n k34) a0 a1 a3 a5 a10 a12 a14 a16 a17 M
noncomputable def BX20_gather_206 (M : FM) : Option (Int32 × FM) :=
  fi ((Int32.ofInt 0) = 0 ∨ (Int32.ofInt 0) = 1) (some ((Int32.ofInt 0), M)) none
noncomputable def FX20_gather_206 (n : Nat) (k34 : Nat → Nat → Nat → Int32 → Int32 → Int32 → Int32 → Int64 → FM → Option (Int32 × FM)) (M : FM) : Option (Int32 × FM) := BX20_gather_206 M
noncomputable def BX20_gather_179 (f2 : Nat → Int64 → Int64 → FM → Option (Int32 × FM)) (g206 : FM → Option (Int32 × FM)) (g208 : Nat → Nat → Nat → Int32 → Int64 → Int64 → Int64 → Int32 → Int32 → FM → Option (Int32 × FM)) (a0 : Nat) (a1 : Nat) (a3 : Nat) (a5 : Int32) (a10 : Int64) (a12 : Int64) (a14 : Int64) (a16 : Int32) (a17 : Int32) (s0 : Int32) (M : FM) : Option (Int32 × FM) :=
  fi (s0 = 0) (
    fi ((lg_cmp a14 (Int64.ofInt 0)) ≤ 0) (
      g208 a0 a1 a3 a5 a10 a12 a14 a16 a17 M) (
      fi (fm_is M 76 76 a1 = true) (
      (f2 a1 a12 a14 M).bind fun r1 =>
      fi (r1.1 = 0) (
        g206 r1.2) (
        g208 a0 a1 a3 a5 a10 a12 a14 a16 a17 r1.2)) (none))) (
    g206 M)
noncomputable def FX20_gather_179 (n : Nat) (k34 : Nat → Nat → Nat → Int32 → Int32 → Int32 → Int32 → Int64 → FM → Option (Int32 × FM)) (a0 : Nat) (a1 : Nat) (a3 : Nat) (a5 : Int32) (a10 : Int64) (a12 : Int64) (a14 : Int64) (a16 : Int32) (a17 : Int32) (s0 : Int32) (M : FM) : Option (Int32 × FM) := BX20_gather_179 FX19_has (FX20_gather_206 n k34) (FX20_gather_208 n k34) a0 a1 a3 a5 a10 a12 a14 a16 a17 s0 M
noncomputable def BX20_gather_178 (g179 : Nat → Nat → Nat → Int32 → Int64 → Int64 → Int64 → Int32 → Int32 → Int32 → FM → Option (Int32 × FM)) (a0 : Nat) (a1 : Nat) (a3 : Nat) (a5 : Int32) (a10 : Int64) (a12 : Int64) (a14 : Int64) (a16 : Int32) (a17 : Int32) (M : FM) : Option (Int32 × FM) :=
  g179 a0 a1 a3 a5 a10 a12 a14 a16 a17 (Int32.ofInt 0) M
noncomputable def FX20_gather_178 (n : Nat) (k34 : Nat → Nat → Nat → Int32 → Int32 → Int32 → Int32 → Int64 → FM → Option (Int32 × FM)) (a0 : Nat) (a1 : Nat) (a3 : Nat) (a5 : Int32) (a10 : Int64) (a12 : Int64) (a14 : Int64) (a16 : Int32) (a17 : Int32) (M : FM) : Option (Int32 × FM) := BX20_gather_178 (FX20_gather_179 n k34) a0 a1 a3 a5 a10 a12 a14 a16 a17 M
noncomputable def BX20_gather_174 (g179 : Nat → Nat → Nat → Int32 → Int64 → Int64 → Int64 → Int32 → Int32 → Int32 → FM → Option (Int32 × FM)) (a0 : Nat) (a1 : Nat) (a3 : Nat) (a5 : Int32) (a10 : Int64) (a12 : Int64) (a14 : Int64) (a16 : Int32) (a17 : Int32) (M : FM) : Option (Int32 × FM) :=
  g179 a0 a1 a3 a5 a10 a12 a14 a16 a17 (Int32.ofInt 1) M
noncomputable def FX20_gather_174 (n : Nat) (k34 : Nat → Nat → Nat → Int32 → Int32 → Int32 → Int32 → Int64 → FM → Option (Int32 × FM)) (a0 : Nat) (a1 : Nat) (a3 : Nat) (a5 : Int32) (a10 : Int64) (a12 : Int64) (a14 : Int64) (a16 : Int32) (a17 : Int32) (M : FM) : Option (Int32 × FM) := BX20_gather_174 (FX20_gather_179 n k34) a0 a1 a3 a5 a10 a12 a14 a16 a17 M
noncomputable def BX20_gather_155 (g174 : Nat → Nat → Nat → Int32 → Int64 → Int64 → Int64 → Int32 → Int32 → FM → Option (Int32 × FM)) (g178 : Nat → Nat → Nat → Int32 → Int64 → Int64 → Int64 → Int32 → Int32 → FM → Option (Int32 × FM)) (a0 : Nat) (a1 : Nat) (a3 : Nat) (a5 : Int32) (a10 : Int64) (a12 : Int64) (a14 : Int64) (a16 : Int32) (a17 : Int32) (M : FM) : Option (Int32 × FM) :=
  fi (a5 = 0) (
    fi (a17 = 0) (
      fi (0 ≤ (lg_cmp a14 (Int64.ofInt 16))) (
        g178 a0 a1 a3 a5 a10 a12 a14 a16 a17 M) (
        g174 a0 a1 a3 a5 a10 a12 a14 a16 a17 M)) (
      g174 a0 a1 a3 a5 a10 a12 a14 a16 a17 M)) (
    g178 a0 a1 a3 a5 a10 a12 a14 a16 a17 M)
noncomputable def FX20_gather_155 (n : Nat) (k34 : Nat → Nat → Nat → Int32 → Int32 → Int32 → Int32 → Int64 → FM → Option (Int32 × FM)) (a0 : Nat) (a1 : Nat) (a3 : Nat) (a5 : Int32) (a10 : Int64) (a12 : Int64) (a14 : Int64) (a16 : Int32) (a17 : Int32) (M : FM) : Option (Int32 × FM) := BX20_gather_155 (FX20_gather_174 n k34) (FX20_gather_178 n k34) a0 a1 a3 a5 a10 a12 a14 a16 a17 M
noncomputable def BX20_gather_136 (g155 : Nat → Nat → Nat → Int32 → Int64 → Int64 → Int64 → Int32 → Int32 → FM → Option (Int32 × FM)) (g174 : Nat → Nat → Nat → Int32 → Int64 → Int64 → Int64 → Int32 → Int32 → FM → Option (Int32 × FM)) (a0 : Nat) (a1 : Nat) (a3 : Nat) (a5 : Int32) (a7 : Int32) (a10 : Int64) (a12 : Int64) (a14 : Int64) (a16 : Int32) (s0 : Int32) (M : FM) : Option (Int32 × FM) :=
  fi ((a16 &&& (Int32.ofInt 4)) = 0) (
    fi (a7 = 0) (
      g155 a0 a1 a3 a5 a10 a12 a14 a16 s0 M) (
      fi (s0 = 0) (
        g174 a0 a1 a3 a5 a10 a12 a14 a16 s0 M) (
        g155 a0 a1 a3 a5 a10 a12 a14 a16 s0 M))) (
    g174 a0 a1 a3 a5 a10 a12 a14 a16 s0 M)
noncomputable def FX20_gather_136 (n : Nat) (k34 : Nat → Nat → Nat → Int32 → Int32 → Int32 → Int32 → Int64 → FM → Option (Int32 × FM)) (a0 : Nat) (a1 : Nat) (a3 : Nat) (a5 : Int32) (a7 : Int32) (a10 : Int64) (a12 : Int64) (a14 : Int64) (a16 : Int32) (s0 : Int32) (M : FM) : Option (Int32 × FM) := BX20_gather_136 (FX20_gather_155 n k34) (FX20_gather_174 n k34) a0 a1 a3 a5 a7 a10 a12 a14 a16 s0 M
noncomputable def BX20_gather_85 (M : FM) : Option (Int32 × FM) :=
  fi ((Int32.ofInt 0) = 0 ∨ (Int32.ofInt 0) = 1) (some ((Int32.ofInt 0), M)) none
noncomputable def FX20_gather_85 (n : Nat) (k34 : Nat → Nat → Nat → Int32 → Int32 → Int32 → Int32 → Int64 → FM → Option (Int32 × FM)) (M : FM) : Option (Int32 × FM) := BX20_gather_85 M
noncomputable def BX20_gather_34 (f1 : Nat → FM → Option (Int64 × FM)) (f2 : Nat → Int64 → Int64 → FM → Option (Int32 × FM)) (f3 : Nat → Int64 → Int32 → FM → Option (Int64 × FM)) (g85 : FM → Option (Int32 × FM)) (g136 : Nat → Nat → Nat → Int32 → Int32 → Int64 → Int64 → Int64 → Int32 → Int32 → FM → Option (Int32 × FM)) (g379 : FM → Option (Int32 × FM)) (g380 : Int32 → FM → Option (Int32 × FM)) (a0 : Nat) (a1 : Nat) (a3 : Nat) (a4 : Int32) (a5 : Int32) (a6 : Int32) (a7 : Int32) (a8 : Int64) (M : FM) : Option (Int32 × FM) :=
  fi (a6 = 0) (
    fi (a7 = 0) (
      g379 M) (
      fi ((lg_cmp a8 (Int64.ofInt 0)) ≤ 0) (
        g379 M) (
        fi (fm_is M 28 28 a0 = true) (
        (f1 a0 M).bind fun r1 =>
        fi (fm_is r1.2 76 76 a1 = true) (
        (f2 a1 r1.1 (Int64.ofInt 8) r1.2).bind fun r2 =>
        fi (r2.1 = 0) (
          g379 r2.2) (
          fi (fm_is r2.2 28 28 a0 = true) (
          fi (fm_is r2.2 76 76 a1 = true) (
          (f2 a1 ((r2.2.2.1 75 a0 0) + (Int64.ofInt 2)) (Int64.ofInt 2) r2.2).bind fun r3 =>
          fi (r3.1 = 0) (
            g379 r3.2) (
            g380 (Int32.ofInt 1) r3.2)) (none)) none)) (none)) none))) (
    fi (fm_is M 28 28 a0 = true) (
    let x4 : Int64 := ((M.2.1 73 a0 0) + ((Int64.ofInt 16) * a4.toInt64))
    fi (fm_is M 28 28 a0 = true) (
    fi ((M.1 71 a0 0) ≤ a4) (
      g85 M) (
      fi (fm_is M 28 28 a0 = true) (
      fi (a5 = (M.1 71 a0 0)) (
        g85 M) (
        fi (fm_is M 76 76 a1 = true) (
        (f2 a1 x4 (Int64.ofInt 16) M).bind fun r5 =>
        fi (r5.1 = 0) (
          g85 r5.2) (
          (f3 a1 x4 (Int32.ofInt 8) r5.2).bind fun r6 =>
          (f3 a1 (x4 + (Int64.ofInt 8)) (Int32.ofInt 4) r6.2).bind fun r7 =>
          (f3 a1 (x4 + (Int64.ofInt 12)) (Int32.ofInt 2) r7.2).bind fun r8 =>
          let x9 : Int32 := r8.1.toInt32
          fi ((x9 &&& (Int32.ofInt 2)) = 0) (
            g136 a0 a1 a3 a5 a7 x4 r6.1 r7.1 x9 (Int32.ofInt 0) r8.2) (
            g136 a0 a1 a3 a5 a7 x4 r6.1 r7.1 x9 (Int32.ofInt 1) r8.2))) (none))) none)) none) none)
noncomputable def FX20_gather_34 (n : Nat) (k34 : Nat → Nat → Nat → Int32 → Int32 → Int32 → Int32 → Int64 → FM → Option (Int32 × FM)) (a0 : Nat) (a1 : Nat) (a3 : Nat) (a4 : Int32) (a5 : Int32) (a6 : Int32) (a7 : Int32) (a8 : Int64) (M : FM) : Option (Int32 × FM) := BX20_gather_34 FX20_answer FX19_has (FX107_number n) (FX20_gather_85 n k34) (FX20_gather_136 n k34) (FX20_gather_379 n k34) (FX20_gather_380 n k34) a0 a1 a3 a4 a5 a6 a7 a8 M
noncomputable def BX20_gather_0 (f0 : Nat → FM → Option (FM)) (k34 : Nat → Nat → Nat → Int32 → Int32 → Int32 → Int32 → Int64 → FM → Option (Int32 × FM)) (a0 : Nat) (a1 : Nat) (a2 : Int32) (a3 : Nat) (M : FM) : Option (Int32 × FM) :=
  fi (fm_is M 29 29 a3 = true) (
  let x1 : Nat := (M.2.2 78 a3 0)
  fi (fm_is M 30 30 x1 = true) (
  (f0 x1 M).bind fun M2 =>
  fi (fm_is M2 29 29 a3 = true) (
  let x3 : Nat := (M2.2.2 79 a3 0)
  fi (fm_is M2 30 30 x3 = true) (
  (f0 x3 M2).bind fun M4 =>
  fi (fm_is M4 29 29 a3 = true) (
  let M5 : FM := fm_sI M4 80 a3 0 a2
  k34 a0 a1 a3 a2 (Int32.ofInt 0) (Int32.ofInt 1) (Int32.ofInt 0) (Int64.ofInt 0) M5) none) none) none) none) none
noncomputable def FX20_gather_0 (n : Nat) (k34 : Nat → Nat → Nat → Int32 → Int32 → Int32 → Int32 → Int64 → FM → Option (Int32 × FM)) (a0 : Nat) (a1 : Nat) (a2 : Int32) (a3 : Nat) (M : FM) : Option (Int32 × FM) := BX20_gather_0 FX22_clear k34 a0 a1 a2 a3 M
noncomputable def FX20_gather_L34 (n : Nat) : Nat → Nat → Nat → Nat → Int32 → Int32 → Int32 → Int32 → Int64 → FM → Option (Int32 × FM)
  | 0 => fun _ _ _ _ _ _ _ _ _ => none
  | j + 1 => FX20_gather_34 n (FX20_gather_L34 n j)
noncomputable def FX20_gather (n : Nat) (a0 : Nat) (a1 : Nat) (a2 : Int32) (a3 : Nat) (M : FM) : Option (Int32 × FM) := FX20_gather_0 n (FX20_gather_L34 n n) a0 a1 a2 a3 M
/-! BoardMachine$Disks$Flushing.run(LBoardMachine$Disks$Request;LBoardMachine$Disks$Disk;LBoardMachine$Disks$Bytes;)I -/
noncomputable def BX27_run_0 (a0 : Nat) (a1 : Nat) (a2 : Nat) (a3 : Nat) (M : FM) : Option (Int32 × FM) :=
  some ((Int32.ofInt 0), M)
noncomputable def FX27_run_0 (a0 : Nat) (a1 : Nat) (a2 : Nat) (a3 : Nat) (M : FM) : Option (Int32 × FM) := BX27_run_0 a0 a1 a2 a3 M
noncomputable def FX27_run (a0 : Nat) (a1 : Nat) (a2 : Nat) (a3 : Nat) (M : FM) : Option (Int32 × FM) := FX27_run_0 a0 a1 a2 a3 M
/-! java/lang/Math.min(JJ)J -/
noncomputable def BJ5_min_2_11 (s0 : Int64) (M : FM) : Option (Int64 × FM) :=
  some (s0, M)
noncomputable def FJ5_min_2_11 (s0 : Int64) (M : FM) : Option (Int64 × FM) := BJ5_min_2_11 s0 M
noncomputable def BJ5_min_2_0 (g11 : Int64 → FM → Option (Int64 × FM)) (a0 : Int64) (a2 : Int64) (M : FM) : Option (Int64 × FM) :=
  fi (0 < (lg_cmp a0 a2)) (
    g11 a2 M) (
    g11 a0 M)
noncomputable def FJ5_min_2_0 (a0 : Int64) (a2 : Int64) (M : FM) : Option (Int64 × FM) := BJ5_min_2_0 FJ5_min_2_11 a0 a2 M
noncomputable def FJ5_min_2 (a0 : Int64) (a2 : Int64) (M : FM) : Option (Int64 × FM) := FJ5_min_2_0 a0 a2 M
/-! BoardMachine$Disks$Stretch.next()J -/
noncomputable def BX22_next_0 (k0 : Nat → FM → Option (Int64 × FM)) (a0 : Nat) (M : FM) : Option (Int64 × FM) :=
  fi (fm_is M 30 30 a0 = true) (
  fi (fm_is M 30 30 a0 = true) (
  fi (fm_is M 30 30 a0 = true) (
  let x1 : Int32 := (M.1 89 a0 0)
  let x2 : Nat := (M.2.2 86 a0 0)
  fi (fm_is M 902 902 x2 = true ∧ fm_in M x2 x1 = true) (
  fi ((lg_cmp (M.2.1 90 a0 0) (M.2.1 3 x2 x1.toNatClampNeg)) = 0) (
    fi (fm_is M 30 30 a0 = true) (
    fi (fm_is M 30 30 a0 = true) (
    let M3 : FM := fm_sI M 89 a0 0 ((M.1 89 a0 0) + (Int32.ofInt 1))
    fi (fm_is M3 30 30 a0 = true) (
    let M4 : FM := fm_sL M3 90 a0 0 (Int64.ofInt 0)
    k0 a0 M4) none) none) none) (
    fi (fm_is M 30 30 a0 = true) (
    fi (fm_is M 30 30 a0 = true) (
    let x5 : Int32 := (M.1 89 a0 0)
    let x6 : Nat := (M.2.2 85 a0 0)
    fi (fm_is M 902 902 x6 = true ∧ fm_in M x6 x5 = true) (
    fi (fm_is M 30 30 a0 = true) (
    let x7 : Int64 := (M.2.1 90 a0 0)
    fi (fm_is M 30 30 a0 = true) (
    let M8 : FM := fm_sL M 90 a0 0 (x7 + (Int64.ofInt 1))
    some (((M.2.1 3 x6 x5.toNatClampNeg) + x7), M8)) none) none) none) none) none)) none) none) none) none
noncomputable def FX22_next_0 (n : Nat) (k0 : Nat → FM → Option (Int64 × FM)) (a0 : Nat) (M : FM) : Option (Int64 × FM) := BX22_next_0 k0 a0 M
noncomputable def FX22_next_L0 (n : Nat) : Nat → Nat → FM → Option (Int64 × FM)
  | 0 => fun _ _ => none
  | j + 1 => FX22_next_0 n (FX22_next_L0 n j)
noncomputable def FX22_next (n : Nat) (a0 : Nat) (M : FM) : Option (Int64 × FM) := FX22_next_L0 n n a0 M
/-! BoardMachine$QueueBytes.put(JI)V -/
noncomputable def BX19_put_0 (f0 : Nat → Int64 → Int32 → Int64 → FM → Option (FM)) (a0 : Nat) (a1 : Int64) (a3 : Int32) (M : FM) : Option (FM) :=
  fi (fm_is M 76 76 a0 = true) (
  let x1 : Nat := (M.2.2 222 a0 0)
  fi (fm_is M 73 73 x1 = true) (
  (f0 x1 a1 (Int32.ofInt 1) a3.toInt64 M).bind fun M2 =>
  some M2) none) none
noncomputable def FX19_put_0 (n : Nat) (a0 : Nat) (a1 : Int64) (a3 : Int32) (M : FM) : Option (FM) := BX19_put_0 (FX11_store n) a0 a1 a3 M
noncomputable def FX19_put (n : Nat) (a0 : Nat) (a1 : Int64) (a3 : Int32) (M : FM) : Option (FM) := FX19_put_0 n a0 a1 a3 M
/-! BoardMachine$Disks$Naming.run(LBoardMachine$Disks$Request;LBoardMachine$Disks$Disk;LBoardMachine$Disks$Bytes;)I -/
noncomputable def BX28_run_58 (f3 : Nat → Int64 → Int32 → FM → Option (FM)) (k20 : Nat → Nat → Int64 → Int32 → FM → Option (Int32 × FM)) (a1 : Nat) (a3 : Nat) (a4 : Int64) (a6 : Int32) (s0 : Nat) (s1 : Int64) (s2 : Int32) (M : FM) : Option (Int32 × FM) :=
  fi (fm_is M 76 76 s0 = true) (
  (f3 s0 s1 s2 M).bind fun M1 =>
  let x2 : Int32 := a6 + (Int32.ofInt 1)
  k20 a1 a3 a4 x2 M1) (none)
noncomputable def FX28_run_58 (n : Nat) (k20 : Nat → Nat → Int64 → Int32 → FM → Option (Int32 × FM)) (a1 : Nat) (a3 : Nat) (a4 : Int64) (a6 : Int32) (s0 : Nat) (s1 : Int64) (s2 : Int32) (M : FM) : Option (Int32 × FM) := BX28_run_58 (FX19_put n) k20 a1 a3 a4 a6 s0 s1 s2 M
noncomputable def BX28_run_20 (f1 : Nat → FM → Option (Int64 × FM)) (f2 : Nat → FM → Option (Int32 × FM)) (f4 : Nat → Int32 → FM → Option (Int32 × FM)) (g58 : Nat → Nat → Int64 → Int32 → Nat → Int64 → Int32 → FM → Option (Int32 × FM)) (a1 : Nat) (a3 : Nat) (a4 : Int64) (a6 : Int32) (M : FM) : Option (Int32 × FM) :=
  fi (0 ≤ (lg_cmp a6.toInt64 a4)) (
    fi (fm_is M 29 29 a1 = true) (
    fi (fm_is M 29 29 a1 = true) (
    let M1 : FM := fm_sL M 84 a1 0 ((M.2.1 84 a1 0) + a4)
    some ((Int32.ofInt 0), M1)) none) none) (
    fi (fm_is M 29 29 a1 = true) (
    let x2 : Nat := (M.2.2 79 a1 0)
    fi (fm_is M 30 30 x2 = true) (
    (f1 x2 M).bind fun r3 =>
    fi (fm_is r3.2 7 7 105 = true) (
    (f2 105 r3.2).bind fun r4 =>
    fi (r4.1 ≤ a6) (
      g58 a1 a3 a4 a6 a3 r3.1 (Int32.ofInt 0) r4.2) (
      fi (fm_is r4.2 7 7 105 = true) (
      (f4 105 a6 r4.2).bind fun r5 =>
      g58 a1 a3 a4 a6 a3 r3.1 r5.1 r5.2) none)) none) none) none)
noncomputable def FX28_run_20 (n : Nat) (k20 : Nat → Nat → Int64 → Int32 → FM → Option (Int32 × FM)) (a1 : Nat) (a3 : Nat) (a4 : Int64) (a6 : Int32) (M : FM) : Option (Int32 × FM) := BX28_run_20 (FX22_next n) FJ1_length FJ1_charAt (FX28_run_58 n k20) a1 a3 a4 a6 M
noncomputable def BX28_run_0 (f0 : Int64 → Int64 → FM → Option (Int64 × FM)) (k20 : Nat → Nat → Int64 → Int32 → FM → Option (Int32 × FM)) (a0 : Nat) (a1 : Nat) (a2 : Nat) (a3 : Nat) (M : FM) : Option (Int32 × FM) :=
  fi (fm_is M 29 29 a1 = true) (
  let x1 : Nat := (M.2.2 79 a1 0)
  fi (fm_is M 30 30 x1 = true) (
  (f0 (Int64.ofInt 20) ((M.2.1 88 x1 0) - (Int64.ofInt 1)) M).bind fun r2 =>
  k20 a1 a3 r2.1 (Int32.ofInt 0) r2.2) none) none
noncomputable def FX28_run_0 (n : Nat) (k20 : Nat → Nat → Int64 → Int32 → FM → Option (Int32 × FM)) (a0 : Nat) (a1 : Nat) (a2 : Nat) (a3 : Nat) (M : FM) : Option (Int32 × FM) := BX28_run_0 FJ5_min_2 k20 a0 a1 a2 a3 M
noncomputable def FX28_run_L20 (n : Nat) : Nat → Nat → Nat → Int64 → Int32 → FM → Option (Int32 × FM)
  | 0 => fun _ _ _ _ _ => none
  | j + 1 => FX28_run_20 n (FX28_run_L20 n j)
noncomputable def FX28_run (n : Nat) (a0 : Nat) (a1 : Nat) (a2 : Nat) (a3 : Nat) (M : FM) : Option (Int32 × FM) := FX28_run_0 n (FX28_run_L20 n n) a0 a1 a2 a3 M
/-! BoardMachine$Disks$Disk.has(JJ)Z -/
noncomputable def BX23_has_51 (s0 : Int32) (M : FM) : Option (Int32 × FM) :=
  fi (s0 = 0 ∨ s0 = 1) (some (s0, M)) none
noncomputable def FX23_has_51 (s0 : Int32) (M : FM) : Option (Int32 × FM) := BX23_has_51 s0 M
noncomputable def BX23_has_50 (g51 : Int32 → FM → Option (Int32 × FM)) (M : FM) : Option (Int32 × FM) :=
  g51 (Int32.ofInt 0) M
noncomputable def FX23_has_50 (M : FM) : Option (Int32 × FM) := BX23_has_50 FX23_has_51 M
noncomputable def BX23_has_0 (g50 : FM → Option (Int32 × FM)) (g51 : Int32 → FM → Option (Int32 × FM)) (a0 : Nat) (a1 : Int64) (a3 : Int64) (M : FM) : Option (Int32 × FM) :=
  fi ((lg_cmp a3 (Int64.ofInt 0)) ≤ 0) (
    g50 M) (
    fi (0 < (lg_cmp a3 (Int64.ofInt 32768))) (
      g50 M) (
      fi ((Int64.ofInt 512) = 0) none (
      fi ((lg_cmp (a3 - a3 / (Int64.ofInt 512) * (Int64.ofInt 512)) (Int64.ofInt 0)) = 0) (
        fi ((lg_cmp a1 (Int64.ofInt 0)) < 0) (
          g50 M) (
          fi (fm_is M 23 23 a0 = true) (
          fi ((Int64.ofInt 512) = 0) none (
          fi (0 < (lg_cmp a1 ((M.1 68 a0 0).toInt64 - (a3 / (Int64.ofInt 512))))) (
            g50 M) (
            g51 (Int32.ofInt 1) M))) none)) (
        g50 M))))
noncomputable def FX23_has_0 (a0 : Nat) (a1 : Int64) (a3 : Int64) (M : FM) : Option (Int32 × FM) := BX23_has_0 FX23_has_50 FX23_has_51 a0 a1 a3 M
noncomputable def FX23_has (a0 : Nat) (a1 : Int64) (a3 : Int64) (M : FM) : Option (Int32 × FM) := FX23_has_0 a0 a1 a3 M
/-! BoardMachine$Disks$Disk.get(I)I -/
noncomputable def BX23_get_0 (a0 : Nat) (a1 : Int32) (M : FM) : Option (Int32 × FM) :=
  fi (fm_is M 23 23 a0 = true) (
  let x1 : Int32 := (a1 >>> ((Int32.ofInt 3) &&& 31))
  let x2 : Nat := (M.2.2 69 a0 0)
  fi (fm_is M 902 902 x2 = true ∧ fm_in M x2 x1 = true) (
  some (((((M.2.1 3 x2 x1.toNatClampNeg).toUInt64 >>> (((Int32.ofInt 8) * (a1 &&& (Int32.ofInt 7))).toInt64.toUInt64 &&& Int64.toUInt64 63)).toInt64).toInt32 &&& (Int32.ofInt 255)), M)) none) none
noncomputable def FX23_get_0 (a0 : Nat) (a1 : Int32) (M : FM) : Option (Int32 × FM) := BX23_get_0 a0 a1 M
noncomputable def FX23_get (a0 : Nat) (a1 : Int32) (M : FM) : Option (Int32 × FM) := FX23_get_0 a0 a1 M
/-! BoardMachine$Disks$Reading.run(LBoardMachine$Disks$Request;LBoardMachine$Disks$Disk;LBoardMachine$Disks$Bytes;)I -/
noncomputable def BX25_run_40 (f1 : Nat → FM → Option (Int64 × FM)) (f2 : Nat → Int32 → FM → Option (Int32 × FM)) (f3 : Nat → Int64 → Int32 → FM → Option (FM)) (k40 : Nat → Nat → Nat → Int64 → Int32 → Int32 → FM → Option (Int32 × FM)) (a1 : Nat) (a2 : Nat) (a3 : Nat) (a4 : Int64) (a6 : Int32) (a7 : Int32) (M : FM) : Option (Int32 × FM) :=
  fi (0 ≤ (lg_cmp a7.toInt64 a4)) (
    fi (fm_is M 29 29 a1 = true) (
    fi (fm_is M 29 29 a1 = true) (
    let M1 : FM := fm_sL M 84 a1 0 ((M.2.1 84 a1 0) + a4)
    some ((Int32.ofInt 0), M1)) none) none) (
    fi (fm_is M 29 29 a1 = true) (
    let x2 : Nat := (M.2.2 79 a1 0)
    fi (fm_is M 30 30 x2 = true) (
    (f1 x2 M).bind fun r3 =>
    fi (fm_is r3.2 23 23 a2 = true) (
    (f2 a2 (a6 + a7) r3.2).bind fun r4 =>
    fi (fm_is r4.2 76 76 a3 = true) (
    (f3 a3 r3.1 r4.1 r4.2).bind fun M5 =>
    let x6 : Int32 := a7 + (Int32.ofInt 1)
    k40 a1 a2 a3 a4 a6 x6 M5) (none)) none) none) none)
noncomputable def FX25_run_40 (n : Nat) (k40 : Nat → Nat → Nat → Int64 → Int32 → Int32 → FM → Option (Int32 × FM)) (a1 : Nat) (a2 : Nat) (a3 : Nat) (a4 : Int64) (a6 : Int32) (a7 : Int32) (M : FM) : Option (Int32 × FM) := BX25_run_40 (FX22_next n) FX23_get (FX19_put n) k40 a1 a2 a3 a4 a6 a7 M
noncomputable def BX25_run_0 (f0 : Nat → Int64 → Int64 → FM → Option (Int32 × FM)) (k40 : Nat → Nat → Nat → Int64 → Int32 → Int32 → FM → Option (Int32 × FM)) (a0 : Nat) (a1 : Nat) (a2 : Nat) (a3 : Nat) (M : FM) : Option (Int32 × FM) :=
  fi (fm_is M 29 29 a1 = true) (
  let x1 : Nat := (M.2.2 79 a1 0)
  fi (fm_is M 30 30 x1 = true) (
  let x2 : Int64 := ((M.2.1 88 x1 0) - (Int64.ofInt 1))
  fi (fm_is M 29 29 a1 = true) (
  fi (fm_is M 23 23 a2 = true) (
  (f0 a2 (M.2.1 82 a1 0) x2 M).bind fun r3 =>
  fi (r3.1 = 0) (
    some ((Int32.ofInt 1), r3.2)) (
    fi (fm_is r3.2 29 29 a1 = true) (
    let x4 : Int32 := ((r3.2.2.1 82 a1 0).toInt32 * (Int32.ofInt 512))
    k40 a1 a2 a3 x2 x4 (Int32.ofInt 0) r3.2) none)) none) none) none) none
noncomputable def FX25_run_0 (n : Nat) (k40 : Nat → Nat → Nat → Int64 → Int32 → Int32 → FM → Option (Int32 × FM)) (a0 : Nat) (a1 : Nat) (a2 : Nat) (a3 : Nat) (M : FM) : Option (Int32 × FM) := BX25_run_0 FX23_has k40 a0 a1 a2 a3 M
noncomputable def FX25_run_L40 (n : Nat) : Nat → Nat → Nat → Nat → Int64 → Int32 → Int32 → FM → Option (Int32 × FM)
  | 0 => fun _ _ _ _ _ _ _ => none
  | j + 1 => FX25_run_40 n (FX25_run_L40 n j)
noncomputable def FX25_run (n : Nat) (a0 : Nat) (a1 : Nat) (a2 : Nat) (a3 : Nat) (M : FM) : Option (Int32 × FM) := FX25_run_0 n (FX25_run_L40 n n) a0 a1 a2 a3 M
/-! BoardMachine$Disks$Disk.put(II)V -/
noncomputable def BX23_put_0 (a0 : Nat) (a1 : Int32) (a2 : Int32) (M : FM) : Option (FM) :=
  let x1 : Int32 := ((Int32.ofInt 8) * (a1 &&& (Int32.ofInt 7)))
  fi (fm_is M 23 23 a0 = true) (
  fi (fm_is M 23 23 a0 = true) (
  let x2 : Int32 := (a1 >>> ((Int32.ofInt 3) &&& 31))
  let x3 : Nat := (M.2.2 69 a0 0)
  fi (fm_is M 902 902 x3 = true ∧ fm_in M x3 x2 = true) (
  let x4 : Int32 := (a1 >>> ((Int32.ofInt 3) &&& 31))
  let x5 : Nat := (M.2.2 69 a0 0)
  fi (fm_is M 902 902 x5 = true ∧ fm_in M x5 x4 = true) (
  let M6 : FM := fm_sL M 3 x5 x4.toNatClampNeg (((M.2.1 3 x3 x2.toNatClampNeg) &&& (((Int64.ofInt 255) <<< (x1.toInt64 &&& 63)) ^^^ (Int64.ofInt (-1)))) ||| ((a2.toInt64 &&& (Int64.ofInt 255)) <<< (x1.toInt64 &&& 63)))
  some M6) none) none) none) none
noncomputable def FX23_put_0 (a0 : Nat) (a1 : Int32) (a2 : Int32) (M : FM) : Option (FM) := BX23_put_0 a0 a1 a2 M
noncomputable def FX23_put (a0 : Nat) (a1 : Int32) (a2 : Int32) (M : FM) : Option (FM) := FX23_put_0 a0 a1 a2 M
/-! BoardMachine$Disks$Writing.run(LBoardMachine$Disks$Request;LBoardMachine$Disks$Disk;LBoardMachine$Disks$Bytes;)I -/
noncomputable def BX26_run_38 (f1 : Nat → FM → Option (Int64 × FM)) (f2 : Nat → Int64 → FM → Option (Int32 × FM)) (f3 : Nat → Int32 → Int32 → FM → Option (FM)) (k38 : Nat → Nat → Nat → Int64 → Int32 → Int32 → FM → Option (Int32 × FM)) (a1 : Nat) (a2 : Nat) (a3 : Nat) (a4 : Int64) (a6 : Int32) (a7 : Int32) (M : FM) : Option (Int32 × FM) :=
  fi (0 ≤ (lg_cmp a7.toInt64 a4)) (
    fi (fm_is M 23 23 a2 = true) (
    fi ((Int32.ofInt 512) = 0) none (
    fi (fm_is M 23 23 a2 = true) (
    let M1 : FM := fm_sI M 70 a2 0 ((M.1 70 a2 0) + (a4.toInt32 / (Int32.ofInt 512)))
    some ((Int32.ofInt 0), M1)) none)) none) (
    fi (fm_is M 29 29 a1 = true) (
    let x2 : Nat := (M.2.2 78 a1 0)
    fi (fm_is M 30 30 x2 = true) (
    (f1 x2 M).bind fun r3 =>
    fi (fm_is r3.2 76 76 a3 = true) (
    (f2 a3 r3.1 r3.2).bind fun r4 =>
    fi (fm_is r4.2 23 23 a2 = true) (
    (f3 a2 (a6 + a7) r4.1 r4.2).bind fun M5 =>
    let x6 : Int32 := a7 + (Int32.ofInt 1)
    k38 a1 a2 a3 a4 a6 x6 M5) none) (none)) none) none)
noncomputable def FX26_run_38 (n : Nat) (k38 : Nat → Nat → Nat → Int64 → Int32 → Int32 → FM → Option (Int32 × FM)) (a1 : Nat) (a2 : Nat) (a3 : Nat) (a4 : Int64) (a6 : Int32) (a7 : Int32) (M : FM) : Option (Int32 × FM) := BX26_run_38 (FX22_next n) FX19_get FX23_put k38 a1 a2 a3 a4 a6 a7 M
noncomputable def BX26_run_0 (f0 : Nat → Int64 → Int64 → FM → Option (Int32 × FM)) (k38 : Nat → Nat → Nat → Int64 → Int32 → Int32 → FM → Option (Int32 × FM)) (a0 : Nat) (a1 : Nat) (a2 : Nat) (a3 : Nat) (M : FM) : Option (Int32 × FM) :=
  fi (fm_is M 29 29 a1 = true) (
  let x1 : Nat := (M.2.2 78 a1 0)
  fi (fm_is M 30 30 x1 = true) (
  let x2 : Int64 := (M.2.1 88 x1 0)
  fi (fm_is M 29 29 a1 = true) (
  fi (fm_is M 23 23 a2 = true) (
  (f0 a2 (M.2.1 82 a1 0) x2 M).bind fun r3 =>
  fi (r3.1 = 0) (
    some ((Int32.ofInt 1), r3.2)) (
    fi (fm_is r3.2 29 29 a1 = true) (
    let x4 : Int32 := ((r3.2.2.1 82 a1 0).toInt32 * (Int32.ofInt 512))
    k38 a1 a2 a3 x2 x4 (Int32.ofInt 0) r3.2) none)) none) none) none) none
noncomputable def FX26_run_0 (n : Nat) (k38 : Nat → Nat → Nat → Int64 → Int32 → Int32 → FM → Option (Int32 × FM)) (a0 : Nat) (a1 : Nat) (a2 : Nat) (a3 : Nat) (M : FM) : Option (Int32 × FM) := BX26_run_0 FX23_has k38 a0 a1 a2 a3 M
noncomputable def FX26_run_L38 (n : Nat) : Nat → Nat → Nat → Nat → Int64 → Int32 → Int32 → FM → Option (Int32 × FM)
  | 0 => fun _ _ _ _ _ _ _ => none
  | j + 1 => FX26_run_38 n (FX26_run_L38 n j)
noncomputable def FX26_run (n : Nat) (a0 : Nat) (a1 : Nat) (a2 : Nat) (a3 : Nat) (M : FM) : Option (Int32 × FM) := FX26_run_0 n (FX26_run_L38 n n) a0 a1 a2 a3 M
/-! BoardMachine$Disks.putNumber(LBoardMachine$Disks$Bytes;JIJ)V -/
noncomputable def BX107_putNumber_3 (f0 : Nat → Int64 → Int32 → FM → Option (FM)) (k3 : Nat → Int64 → Int32 → Int64 → Int32 → FM → Option (FM)) (a0 : Nat) (a1 : Int64) (a3 : Int32) (a4 : Int64) (a6 : Int32) (M : FM) : Option (FM) :=
  fi (a3 ≤ a6) (
    some M) (
    fi (fm_is M 76 76 a0 = true) (
    (f0 a0 (a1 + a6.toInt64) (((a4.toUInt64 >>> (((Int32.ofInt 8) * a6).toInt64.toUInt64 &&& Int64.toUInt64 63)).toInt64).toInt32 &&& (Int32.ofInt 255)) M).bind fun M1 =>
    let x2 : Int32 := a6 + (Int32.ofInt 1)
    k3 a0 a1 a3 a4 x2 M1) (none))
noncomputable def FX107_putNumber_3 (n : Nat) (k3 : Nat → Int64 → Int32 → Int64 → Int32 → FM → Option (FM)) (a0 : Nat) (a1 : Int64) (a3 : Int32) (a4 : Int64) (a6 : Int32) (M : FM) : Option (FM) := BX107_putNumber_3 (FX19_put n) k3 a0 a1 a3 a4 a6 M
noncomputable def BX107_putNumber_0 (k3 : Nat → Int64 → Int32 → Int64 → Int32 → FM → Option (FM)) (a0 : Nat) (a1 : Int64) (a3 : Int32) (a4 : Int64) (M : FM) : Option (FM) :=
  k3 a0 a1 a3 a4 (Int32.ofInt 0) M
noncomputable def FX107_putNumber_0 (n : Nat) (k3 : Nat → Int64 → Int32 → Int64 → Int32 → FM → Option (FM)) (a0 : Nat) (a1 : Int64) (a3 : Int32) (a4 : Int64) (M : FM) : Option (FM) := BX107_putNumber_0 k3 a0 a1 a3 a4 M
noncomputable def FX107_putNumber_L3 (n : Nat) : Nat → Nat → Int64 → Int32 → Int64 → Int32 → FM → Option (FM)
  | 0 => fun _ _ _ _ _ _ => none
  | j + 1 => FX107_putNumber_3 n (FX107_putNumber_L3 n j)
noncomputable def FX107_putNumber (n : Nat) (a0 : Nat) (a1 : Int64) (a3 : Int32) (a4 : Int64) (M : FM) : Option (FM) := FX107_putNumber_0 n (FX107_putNumber_L3 n n) a0 a1 a3 a4 M
/-! BoardMachine$Disks$Device.serve(I)Z -/
noncomputable def BX18_serve_132 (f8 : Nat → Int64 → Int32 → FM → Option (FM)) (f9 : Nat → FM → Option (Int64 × FM)) (f10 : Nat → Int64 → Int32 → Int64 → FM → Option (FM)) (a0 : Nat) (a2 : Nat) (s0 : Int32) (M : FM) : Option (Int32 × FM) :=
  fi (fm_is M 22 22 a0 = true) (
  fi (fm_is M 29 29 a2 = true) (
  let x1 : Nat := (M.2.2 58 a0 0)
  fi (fm_is M 76 76 x1 = true) (
  (f8 x1 (M.2.1 83 a2 0) s0 M).bind fun M2 =>
  fi (fm_is M2 22 22 a0 = true) (
  fi (fm_is M2 22 22 a0 = true) (
  let x3 : Nat := (M2.2.2 60 a0 0)
  fi (fm_is M2 28 28 x3 = true) (
  (f9 x3 M2).bind fun r4 =>
  fi (fm_is r4.2 29 29 a2 = true) (
  (f10 (M2.2.2 58 a0 0) r4.1 (Int32.ofInt 4) ((r4.2.1 80 a2 0).toInt64) r4.2).bind fun M5 =>
  fi (fm_is M5 22 22 a0 = true) (
  fi (fm_is M5 22 22 a0 = true) (
  let x6 : Nat := (M5.2.2 60 a0 0)
  fi (fm_is M5 28 28 x6 = true) (
  (f9 x6 M5).bind fun r7 =>
  fi (fm_is r7.2 29 29 a2 = true) (
  (f10 (M5.2.2 58 a0 0) (r7.1 + (Int64.ofInt 4)) (Int32.ofInt 4) (r7.2.2.1 84 a2 0) r7.2).bind fun M8 =>
  fi (fm_is M8 22 22 a0 = true) (
  fi (fm_is M8 22 22 a0 = true) (
  let x9 : Nat := (M8.2.2 60 a0 0)
  fi (fm_is M8 28 28 x9 = true) (
  let x10 : Nat := (M8.2.2 60 a0 0)
  fi (fm_is M8 28 28 x10 = true) (
  let M11 : FM := fm_sI M8 76 x10 0 (((M8.1 76 x9 0) + (Int32.ofInt 1)) &&& (Int32.ofInt 65535))
  fi (fm_is M11 22 22 a0 = true) (
  fi (fm_is M11 22 22 a0 = true) (
  let x12 : Nat := (M11.2.2 60 a0 0)
  fi (fm_is M11 28 28 x12 = true) (
  let x13 : Nat := (M11.2.2 60 a0 0)
  fi (fm_is M11 28 28 x13 = true) (
  let M14 : FM := fm_sI M11 77 x13 0 (((M11.1 77 x12 0) + (Int32.ofInt 1)) &&& (Int32.ofInt 65535))
  fi (fm_is M14 22 22 a0 = true) (
  fi (fm_is M14 22 22 a0 = true) (
  let x15 : Nat := (M14.2.2 60 a0 0)
  fi (fm_is M14 28 28 x15 = true) (
  fi (fm_is M14 22 22 a0 = true) (
  let x16 : Nat := (M14.2.2 60 a0 0)
  fi (fm_is M14 28 28 x16 = true) (
  (f10 (M14.2.2 58 a0 0) ((M14.2.1 75 x15 0) + (Int64.ofInt 2)) (Int32.ofInt 2) ((M14.1 77 x16 0).toInt64) M14).bind fun M17 =>
  fi (fm_is M17 22 22 a0 = true) (
  fi (fm_is M17 22 22 a0 = true) (
  let M18 : FM := fm_sI M17 67 a0 0 ((M17.1 67 a0 0) + (Int32.ofInt 1))
  fi ((Int32.ofInt 1) = 0 ∨ (Int32.ofInt 1) = 1) (some ((Int32.ofInt 1), M18)) none) none) none) none) none) none) none) none) none) none) none) none) none) none) none) none) none) none) none) none) none) none) none) none) (none)) none) none
noncomputable def FX18_serve_132 (n : Nat) (a0 : Nat) (a2 : Nat) (s0 : Int32) (M : FM) : Option (Int32 × FM) := BX18_serve_132 (FX19_put n) FX20_answer (FX107_putNumber n) a0 a2 s0 M
noncomputable def BX18_serve_105 (f4 : Nat → Nat → Nat → Nat → FM → Option (Int32 × FM)) (f5 : Nat → Nat → Nat → Nat → FM → Option (Int32 × FM)) (f6 : Nat → Nat → Nat → Nat → FM → Option (Int32 × FM)) (f7 : Nat → Nat → Nat → Nat → FM → Option (Int32 × FM)) (g132 : Nat → Nat → Int32 → FM → Option (Int32 × FM)) (a0 : Nat) (a2 : Nat) (s0 : Nat) (M : FM) : Option (Int32 × FM) :=
  fi (fm_is M 29 29 a2 = true) (
  let M1 : FM := fm_sL M 84 a2 0 (Int64.ofInt 1)
  fi (s0 = 0) (
    g132 a0 a2 (Int32.ofInt 2) M1) (
    fi (fm_is M1 22 22 a0 = true) (
    fi (fm_is M1 22 22 a0 = true) (
    fi (fm_is M1 24 24 s0 = true) (
    (f4 s0 a2 (M1.2.2 59 a0 0) (M1.2.2 58 a0 0) M1).bind fun r2 =>
    g132 a0 a2 r2.1 r2.2) (fi (fm_is M1 25 25 s0 = true) (
    (f5 s0 a2 (M1.2.2 59 a0 0) (M1.2.2 58 a0 0) M1).bind fun r3 =>
    g132 a0 a2 r3.1 r3.2) (fi (fm_is M1 26 26 s0 = true) (
    (f6 s0 a2 (M1.2.2 59 a0 0) (M1.2.2 58 a0 0) M1).bind fun r4 =>
    g132 a0 a2 r4.1 r4.2) (fi (fm_is M1 27 27 s0 = true) (
    (f7 s0 a2 (M1.2.2 59 a0 0) (M1.2.2 58 a0 0) M1).bind fun r5 =>
    g132 a0 a2 r5.1 r5.2) (none))))) none) none)) none
noncomputable def FX18_serve_105 (n : Nat) (a0 : Nat) (a2 : Nat) (s0 : Nat) (M : FM) : Option (Int32 × FM) := BX18_serve_105 FX27_run (FX28_run n) (FX25_run n) (FX26_run n) (FX18_serve_132 n ) a0 a2 s0 M
noncomputable def BX18_serve_104 (g105 : Nat → Nat → Nat → FM → Option (Int32 × FM)) (a0 : Nat) (a2 : Nat) (M : FM) : Option (Int32 × FM) :=
  g105 a0 a2 0 M
noncomputable def FX18_serve_104 (n : Nat) (a0 : Nat) (a2 : Nat) (M : FM) : Option (Int32 × FM) := BX18_serve_104 (FX18_serve_105 n ) a0 a2 M
noncomputable def BX18_serve_33 (M : FM) : Option (Int32 × FM) :=
  fi ((Int32.ofInt 0) = 0 ∨ (Int32.ofInt 0) = 1) (some ((Int32.ofInt 0), M)) none
noncomputable def FX18_serve_33 (n : Nat) (M : FM) : Option (Int32 × FM) := BX18_serve_33 M
noncomputable def BX18_serve_0 (f0 : Nat → FM → Option (Int64 × FM)) (f1 : Nat → Int64 → Int64 → FM → Option (Int32 × FM)) (f2 : Nat → Int64 → Int32 → FM → Option (Int64 × FM)) (f3 : Nat → Nat → Int32 → Nat → FM → Option (Int32 × FM)) (g33 : FM → Option (Int32 × FM)) (g104 : Nat → Nat → FM → Option (Int32 × FM)) (g105 : Nat → Nat → Nat → FM → Option (Int32 × FM)) (a0 : Nat) (a1 : Int32) (M : FM) : Option (Int32 × FM) :=
  fi (fm_is M 22 22 a0 = true) (
  let x1 : Nat := (M.2.2 60 a0 0)
  fi (fm_is M 28 28 x1 = true) (
  fi ((M.1 71 x1 0) < a1) (
    g33 M) (
    fi (fm_is M 22 22 a0 = true) (
    fi (fm_is M 22 22 a0 = true) (
    let x2 : Nat := (M.2.2 60 a0 0)
    fi (fm_is M 28 28 x2 = true) (
    (f0 x2 M).bind fun r3 =>
    let x4 : Nat := (M.2.2 58 a0 0)
    fi (fm_is r3.2 76 76 x4 = true) (
    (f1 x4 r3.1 (Int64.ofInt 2) r3.2).bind fun r5 =>
    fi (r5.1 = 0) (
      g33 r5.2) (
      fi (fm_is r5.2 22 22 a0 = true) (
      let x6 : Nat := (r5.2.2.2 61 a0 0)
      fi (fm_is r5.2 22 22 a0 = true) (
      fi (fm_is r5.2 22 22 a0 = true) (
      fi (fm_is r5.2 22 22 a0 = true) (
      fi (fm_is r5.2 22 22 a0 = true) (
      let x7 : Nat := (r5.2.2.2 60 a0 0)
      fi (fm_is r5.2 28 28 x7 = true) (
      (f0 x7 r5.2).bind fun r8 =>
      (f2 (r5.2.2.2 58 a0 0) r8.1 (Int32.ofInt 2) r8.2).bind fun r9 =>
      let x10 : Nat := (r5.2.2.2 60 a0 0)
      fi (fm_is r9.2 28 28 x10 = true) (
      (f3 x10 (r5.2.2.2 58 a0 0) r9.1.toInt32 x6 r9.2).bind fun r11 =>
      fi (r11.1 = 0) (
        fi ((Int32.ofInt 0) = 0 ∨ (Int32.ofInt 0) = 1) (some ((Int32.ofInt 0), r11.2)) none) (
        fi (fm_is r11.2 29 29 x6 = true) (
        fi ((r11.2.1 81 x6 0) < 0) (
          g104 a0 x6 r11.2) (
          fi (fm_is r11.2 29 29 x6 = true) (
          fi (fm_is r11.2 22 22 a0 = true) (
          let x12 : Nat := (r11.2.2.2 62 a0 0)
          fi (fm_is r11.2 901 990 x12 = true) (
          fi ((Int32.ofNat (r11.2.2.2 1 x12 0)) ≤ (r11.2.1 81 x6 0)) (
            g104 a0 x6 r11.2) (
            fi (fm_is r11.2 22 22 a0 = true) (
            fi (fm_is r11.2 29 29 x6 = true) (
            let x13 : Int32 := (r11.2.1 81 x6 0)
            let x14 : Nat := (r11.2.2.2 62 a0 0)
            fi (fm_is r11.2 910 990 x14 = true ∧ fm_in r11.2 x14 x13 = true) (
            g105 a0 x6 (r11.2.2.2 3 x14 x13.toNatClampNeg) r11.2) none) none) none)) none) none) none)) none)) none) none) none) none) none) none) none)) (none)) none) none) none)) none) none
noncomputable def FX18_serve_0 (n : Nat) (a0 : Nat) (a1 : Int32) (M : FM) : Option (Int32 × FM) := BX18_serve_0 FX20_offer FX19_has (FX107_number n) (FX20_gather n) (FX18_serve_33 n ) (FX18_serve_104 n ) (FX18_serve_105 n ) a0 a1 M
noncomputable def FX18_serve (n : Nat) (a0 : Nat) (a1 : Int32) (M : FM) : Option (Int32 × FM) := FX18_serve_0 n a0 a1 M
/-! BoardMachine$Disks$Device.work()V -/
noncomputable def BX18_work_210 (s0 : Nat) (s1 : Int32) (s2 : Int32) (M : FM) : Option (FM) :=
  fi (fm_is M 22 22 s0 = true) (
  let M1 : FM := fm_sI M 66 s0 0 (s1 ||| s2)
  some M1) none
noncomputable def FX18_work_210 (n : Nat) (k39 : Nat → Int32 → Int32 → Int32 → FM → Option (FM)) (s0 : Nat) (s1 : Int32) (s2 : Int32) (M : FM) : Option (FM) := BX18_work_210 s0 s1 s2 M
noncomputable def BX18_work_209 (g210 : Nat → Int32 → Int32 → FM → Option (FM)) (s0 : Nat) (s1 : Int32) (M : FM) : Option (FM) :=
  g210 s0 s1 (Int32.ofInt 0) M
noncomputable def FX18_work_209 (n : Nat) (k39 : Nat → Int32 → Int32 → Int32 → FM → Option (FM)) (s0 : Nat) (s1 : Int32) (M : FM) : Option (FM) := BX18_work_209 (FX18_work_210 n k39) s0 s1 M
noncomputable def BX18_work_183 (k39 : Nat → Int32 → Int32 → Int32 → FM → Option (FM)) (a0 : Nat) (a1 : Int32) (a2 : Int32) (a3 : Int32) (M : FM) : Option (FM) :=
  k39 a0 a1 a2 a3 M
noncomputable def FX18_work_183 (n : Nat) (k39 : Nat → Int32 → Int32 → Int32 → FM → Option (FM)) (a0 : Nat) (a1 : Int32) (a2 : Int32) (a3 : Int32) (M : FM) : Option (FM) := BX18_work_183 k39 a0 a1 a2 a3 M
noncomputable def BX18_work_177 (f2 : Nat → FM → Option (FM)) (g183 : Nat → Int32 → Int32 → Int32 → FM → Option (FM)) (a0 : Nat) (a1 : Int32) (a2 : Int32) (M : FM) : Option (FM) :=
  fi (fm_is M 22 22 a0 = true) (
  (f2 a0 M).bind fun M1 =>
  g183 a0 a1 a2 (Int32.ofInt 0) M1) none
noncomputable def FX18_work_177 (n : Nat) (k39 : Nat → Int32 → Int32 → Int32 → FM → Option (FM)) (a0 : Nat) (a1 : Int32) (a2 : Int32) (M : FM) : Option (FM) := BX18_work_177 FX18_fail (FX18_work_183 n k39) a0 a1 a2 M
noncomputable def BX18_work_158 (f3 : Nat → Int32 → FM → Option (Int32 × FM)) (g177 : Nat → Int32 → Int32 → FM → Option (FM)) (g183 : Nat → Int32 → Int32 → Int32 → FM → Option (FM)) (a0 : Nat) (a1 : Int32) (a2 : Int32) (a4 : Int32) (a5 : Int32) (s0 : Int32) (M : FM) : Option (FM) :=
  fi (a4 = 0) (
    g177 a0 a1 a2 M) (
    fi (s0 = 0) (
      g183 a0 a1 a2 s0 M) (
      fi (fm_is M 22 22 a0 = true) (
      (f3 a0 a5 M).bind fun r1 =>
      fi (r1.1 = 0) (
        g177 a0 a1 a2 r1.2) (
        g183 a0 a1 a2 s0 r1.2)) none))
noncomputable def FX18_work_158 (n : Nat) (k39 : Nat → Int32 → Int32 → Int32 → FM → Option (FM)) (a0 : Nat) (a1 : Int32) (a2 : Int32) (a4 : Int32) (a5 : Int32) (s0 : Int32) (M : FM) : Option (FM) := BX18_work_158 (FX18_serve n) (FX18_work_177 n k39) (FX18_work_183 n k39) a0 a1 a2 a4 a5 s0 M
noncomputable def BX18_work_157 (g158 : Nat → Int32 → Int32 → Int32 → Int32 → Int32 → FM → Option (FM)) (a0 : Nat) (a1 : Int32) (a2 : Int32) (a4 : Int32) (a5 : Int32) (M : FM) : Option (FM) :=
  g158 a0 a1 a2 a4 a5 (Int32.ofInt 0) M
noncomputable def FX18_work_157 (n : Nat) (k39 : Nat → Int32 → Int32 → Int32 → FM → Option (FM)) (a0 : Nat) (a1 : Int32) (a2 : Int32) (a4 : Int32) (a5 : Int32) (M : FM) : Option (FM) := BX18_work_157 (FX18_work_158 n k39) a0 a1 a2 a4 a5 M
noncomputable def BX18_work_130 (g157 : Nat → Int32 → Int32 → Int32 → Int32 → FM → Option (FM)) (g158 : Nat → Int32 → Int32 → Int32 → Int32 → Int32 → FM → Option (FM)) (a0 : Nat) (a1 : Int32) (a2 : Int32) (a4 : Int32) (s0 : Int32) (M : FM) : Option (FM) :=
  fi (a4 = 0) (
    g157 a0 a1 a2 a4 s0 M) (
    fi (s0 ≤ 0) (
      g157 a0 a1 a2 a4 s0 M) (
      fi (fm_is M 22 22 a0 = true) (
      fi ((Int32.ofInt 64) ≤ ((M.1 67 a0 0) - a1)) (
        g157 a0 a1 a2 a4 s0 M) (
        g158 a0 a1 a2 a4 s0 (Int32.ofInt 1) M)) none))
noncomputable def FX18_work_130 (n : Nat) (k39 : Nat → Int32 → Int32 → Int32 → FM → Option (FM)) (a0 : Nat) (a1 : Int32) (a2 : Int32) (a4 : Int32) (s0 : Int32) (M : FM) : Option (FM) := BX18_work_130 (FX18_work_157 n k39) (FX18_work_158 n k39) a0 a1 a2 a4 s0 M
noncomputable def BX18_work_89 (f1 : Nat → Int64 → Int32 → FM → Option (Int64 × FM)) (g130 : Nat → Int32 → Int32 → Int32 → Int32 → FM → Option (FM)) (a0 : Nat) (a1 : Int32) (a4 : Int32) (s0 : Int32) (M : FM) : Option (FM) :=
  fi (a4 = 0) (
    g130 a0 a1 s0 a4 (Int32.ofInt 0) M) (
    fi (fm_is M 22 22 a0 = true) (
    fi (fm_is M 22 22 a0 = true) (
    let x1 : Nat := (M.2.2 60 a0 0)
    fi (fm_is M 28 28 x1 = true) (
    (f1 (M.2.2 58 a0 0) ((M.2.1 74 x1 0) + (Int64.ofInt 2)) (Int32.ofInt 2) M).bind fun r2 =>
    fi (fm_is r2.2 22 22 a0 = true) (
    let x3 : Nat := (r2.2.2.2 60 a0 0)
    fi (fm_is r2.2 28 28 x3 = true) (
    g130 a0 a1 s0 a4 ((r2.1.toInt32 - (r2.2.1 76 x3 0)) &&& (Int32.ofInt 65535)) r2.2) none) none) none) none) none)
noncomputable def FX18_work_89 (n : Nat) (k39 : Nat → Int32 → Int32 → Int32 → FM → Option (FM)) (a0 : Nat) (a1 : Int32) (a4 : Int32) (s0 : Int32) (M : FM) : Option (FM) := BX18_work_89 (FX107_number n) (FX18_work_130 n k39) a0 a1 a4 s0 M
noncomputable def BX18_work_39 (f0 : Nat → Int64 → Int64 → FM → Option (Int32 × FM)) (f1 : Nat → Int64 → Int32 → FM → Option (Int64 × FM)) (g89 : Nat → Int32 → Int32 → Int32 → FM → Option (FM)) (g209 : Nat → Int32 → FM → Option (FM)) (g210 : Nat → Int32 → Int32 → FM → Option (FM)) (a0 : Nat) (a1 : Int32) (a2 : Int32) (a3 : Int32) (M : FM) : Option (FM) :=
  fi (a3 = 0) (
    fi (fm_is M 22 22 a0 = true) (
    fi (fm_is M 22 22 a0 = true) (
    fi ((M.1 67 a0 0) = a1) (
      g209 a0 (M.1 66 a0 0) M) (
      fi ((a2 &&& (Int32.ofInt 1)) = 0) (
        g210 a0 (M.1 66 a0 0) (Int32.ofInt 1) M) (
        g209 a0 (M.1 66 a0 0) M))) none) none) (
    fi (fm_is M 22 22 a0 = true) (
    fi (fm_is M 22 22 a0 = true) (
    let x1 : Nat := (M.2.2 60 a0 0)
    fi (fm_is M 28 28 x1 = true) (
    let x2 : Nat := (M.2.2 58 a0 0)
    fi (fm_is M 76 76 x2 = true) (
    (f0 x2 (M.2.1 74 x1 0) (Int64.ofInt 4) M).bind fun r3 =>
    fi (r3.1 = 0) (
      g89 a0 a1 r3.1 a2 r3.2) (
      fi (fm_is r3.2 22 22 a0 = true) (
      fi (fm_is r3.2 22 22 a0 = true) (
      let x4 : Nat := (r3.2.2.2 60 a0 0)
      fi (fm_is r3.2 28 28 x4 = true) (
      (f1 (r3.2.2.2 58 a0 0) (r3.2.2.1 74 x4 0) (Int32.ofInt 2) r3.2).bind fun r5 =>
      g89 a0 a1 r3.1 r5.1.toInt32 r5.2) none) none) none)) (none)) none) none) none)
noncomputable def FX18_work_39 (n : Nat) (k39 : Nat → Int32 → Int32 → Int32 → FM → Option (FM)) (a0 : Nat) (a1 : Int32) (a2 : Int32) (a3 : Int32) (M : FM) : Option (FM) := BX18_work_39 FX19_has (FX107_number n) (FX18_work_89 n k39) (FX18_work_209 n k39) (FX18_work_210 n k39) a0 a1 a2 a3 M
noncomputable def BX18_work_29 (M : FM) : Option (FM) :=
  some M
noncomputable def FX18_work_29 (n : Nat) (k39 : Nat → Int32 → Int32 → Int32 → FM → Option (FM)) (M : FM) : Option (FM) := BX18_work_29 M
noncomputable def BX18_work_0 (g29 : FM → Option (FM)) (k39 : Nat → Int32 → Int32 → Int32 → FM → Option (FM)) (a0 : Nat) (M : FM) : Option (FM) :=
  fi (fm_is M 22 22 a0 = true) (
  fi (((M.1 65 a0 0) &&& (Int32.ofInt 4)) = 0) (
    g29 M) (
    fi (fm_is M 22 22 a0 = true) (
    fi (((M.1 65 a0 0) &&& (Int32.ofInt 64)) = 0) (
      fi (fm_is M 22 22 a0 = true) (
      let x1 : Nat := (M.2.2 60 a0 0)
      fi (fm_is M 28 28 x1 = true) (
      fi ((M.1 72 x1 0) = 0) (
        g29 M) (
        fi (fm_is M 22 22 a0 = true) (
        let x2 : Int32 := (M.1 67 a0 0)
        k39 a0 x2 (Int32.ofInt 0) (Int32.ofInt 1) M) none)) none) none) (
      g29 M)) none)) none
noncomputable def FX18_work_0 (n : Nat) (k39 : Nat → Int32 → Int32 → Int32 → FM → Option (FM)) (a0 : Nat) (M : FM) : Option (FM) := BX18_work_0 (FX18_work_29 n k39) k39 a0 M
noncomputable def FX18_work_L39 (n : Nat) : Nat → Nat → Int32 → Int32 → Int32 → FM → Option (FM)
  | 0 => fun _ _ _ _ _ => none
  | j + 1 => FX18_work_39 n (FX18_work_L39 n j)
noncomputable def FX18_work (n : Nat) (a0 : Nat) (M : FM) : Option (FM) := FX18_work_0 n (FX18_work_L39 n n) a0 M
/-! BoardMachine$Disks$Queue.half(JZI)J -/
noncomputable def BX20_half_36 (s0 : Int64) (M : FM) : Option (Int64 × FM) :=
  some (s0, M)
noncomputable def FX20_half_36 (s0 : Int64) (M : FM) : Option (Int64 × FM) := BX20_half_36 s0 M
noncomputable def BX20_half_0 (g36 : Int64 → FM → Option (Int64 × FM)) (a0 : Int64) (a2 : Int32) (a3 : Int32) (M : FM) : Option (Int64 × FM) :=
  let x1 : Int64 := (a3.toInt64 &&& (Int64.ofInt 4294967295))
  fi (a2 = 0) (
    g36 (((a0.toUInt64 >>> ((Int32.ofInt 32).toInt64.toUInt64 &&& Int64.toUInt64 63)).toInt64 <<< ((Int32.ofInt 32).toInt64 &&& 63)) ||| x1) M) (
    g36 ((a0 &&& (Int64.ofInt 4294967295)) ||| (x1 <<< ((Int32.ofInt 32).toInt64 &&& 63))) M)
noncomputable def FX20_half_0 (a0 : Int64) (a2 : Int32) (a3 : Int32) (M : FM) : Option (Int64 × FM) := BX20_half_0 FX20_half_36 a0 a2 a3 M
noncomputable def FX20_half (a0 : Int64) (a2 : Int32) (a3 : Int32) (M : FM) : Option (Int64 × FM) := FX20_half_0 a0 a2 a3 M
/-! BoardMachine$Disks$Queue.place(IZI)V -/
noncomputable def BX20_place_54 (M : FM) : Option (FM) :=
  some M
noncomputable def FX20_place_54 (M : FM) : Option (FM) := BX20_place_54 M
noncomputable def BX20_place_0 (f0 : Int64 → Int32 → Int32 → FM → Option (Int64 × FM)) (g54 : FM → Option (FM)) (a0 : Nat) (a1 : Int32) (a2 : Int32) (a3 : Int32) (M : FM) : Option (FM) :=
  fi (a1 = 0) (
    fi (fm_is M 28 28 a0 = true) (
    (f0 (M.2.1 73 a0 0) a2 a3 M).bind fun r1 =>
    fi (fm_is r1.2 28 28 a0 = true) (
    let M2 : FM := fm_sL r1.2 73 a0 0 r1.1
    g54 M2) none) none) (
    fi (a1 = (Int32.ofInt 1)) (
      fi (fm_is M 28 28 a0 = true) (
      (f0 (M.2.1 74 a0 0) a2 a3 M).bind fun r3 =>
      fi (fm_is r3.2 28 28 a0 = true) (
      let M4 : FM := fm_sL r3.2 74 a0 0 r3.1
      g54 M4) none) none) (
      fi (fm_is M 28 28 a0 = true) (
      (f0 (M.2.1 75 a0 0) a2 a3 M).bind fun r5 =>
      fi (fm_is r5.2 28 28 a0 = true) (
      let M6 : FM := fm_sL r5.2 75 a0 0 r5.1
      g54 M6) none) none))
noncomputable def FX20_place_0 (a0 : Nat) (a1 : Int32) (a2 : Int32) (a3 : Int32) (M : FM) : Option (FM) := BX20_place_0 FX20_half FX20_place_54 a0 a1 a2 a3 M
noncomputable def FX20_place (a0 : Nat) (a1 : Int32) (a2 : Int32) (a3 : Int32) (M : FM) : Option (FM) := FX20_place_0 a0 a1 a2 a3 M
/-! BoardMachine$Disks$Device.writeQueue(II)V -/
noncomputable def BX18_writeQueue_131 (M : FM) : Option (FM) :=
  some M
noncomputable def FX18_writeQueue_131 (M : FM) : Option (FM) := BX18_writeQueue_131 M
noncomputable def BX18_writeQueue_127 (f0 : Nat → Int32 → Int32 → Int32 → FM → Option (FM)) (g131 : FM → Option (FM)) (a2 : Int32) (s0 : Nat) (s1 : Int32) (s2 : Int32) (M : FM) : Option (FM) :=
  fi (fm_is M 28 28 s0 = true) (
  (f0 s0 s1 s2 a2 M).bind fun M1 =>
  g131 M1) none
noncomputable def FX18_writeQueue_127 (a2 : Int32) (s0 : Nat) (s1 : Int32) (s2 : Int32) (M : FM) : Option (FM) := BX18_writeQueue_127 FX20_place FX18_writeQueue_131 a2 s0 s1 s2 M
noncomputable def BX18_writeQueue_78 (g131 : FM → Option (FM)) (s0 : Nat) (s1 : Int32) (M : FM) : Option (FM) :=
  fi (fm_is M 28 28 s0 = true) (
  let M1 : FM := fm_sI M 71 s0 0 s1
  g131 M1) none
noncomputable def FX18_writeQueue_78 (s0 : Nat) (s1 : Int32) (M : FM) : Option (FM) := BX18_writeQueue_78 FX18_writeQueue_131 s0 s1 M
noncomputable def BX18_writeQueue_71 (g78 : Nat → Int32 → FM → Option (FM)) (a0 : Nat) (s0 : Nat) (M : FM) : Option (FM) :=
  fi (fm_is M 22 22 a0 = true) (
  let x1 : Nat := (M.2.2 60 a0 0)
  fi (fm_is M 28 28 x1 = true) (
  g78 s0 (M.1 71 x1 0) M) none) none
noncomputable def FX18_writeQueue_71 (a0 : Nat) (s0 : Nat) (M : FM) : Option (FM) := BX18_writeQueue_71 FX18_writeQueue_78 a0 s0 M
noncomputable def BX18_writeQueue_22 (g131 : FM → Option (FM)) (s0 : Nat) (s1 : Int32) (M : FM) : Option (FM) :=
  fi (fm_is M 28 28 s0 = true) (
  fi (s1 = 0 ∨ s1 = 1) (
  let M1 : FM := fm_sI M 72 s0 0 s1
  g131 M1) none) none
noncomputable def FX18_writeQueue_22 (s0 : Nat) (s1 : Int32) (M : FM) : Option (FM) := BX18_writeQueue_22 FX18_writeQueue_131 s0 s1 M
noncomputable def BX18_writeQueue_0 (g22 : Nat → Int32 → FM → Option (FM)) (g71 : Nat → Nat → FM → Option (FM)) (g78 : Nat → Int32 → FM → Option (FM)) (g127 : Int32 → Nat → Int32 → Int32 → FM → Option (FM)) (g131 : FM → Option (FM)) (a0 : Nat) (a1 : Int32) (a2 : Int32) (M : FM) : Option (FM) :=
  fi (a1 = (Int32.ofInt 68)) (
    fi (fm_is M 22 22 a0 = true) (
    fi ((a2 &&& (Int32.ofInt 1)) = (Int32.ofInt 1)) (
      g22 (M.2.2 60 a0 0) (Int32.ofInt 1) M) (
      g22 (M.2.2 60 a0 0) (Int32.ofInt 0) M)) none) (
    fi (fm_is M 22 22 a0 = true) (
    let x1 : Nat := (M.2.2 60 a0 0)
    fi (fm_is M 28 28 x1 = true) (
    fi ((M.1 72 x1 0) = 0) (
      fi (a1 = (Int32.ofInt 56)) (
        fi (fm_is M 22 22 a0 = true) (
        fi (a2 ≤ 0) (
          g71 a0 (M.2.2 60 a0 0) M) (
          fi ((Int32.ofInt 16) < a2) (
            g71 a0 (M.2.2 60 a0 0) M) (
            fi ((a2 &&& (a2 - (Int32.ofInt 1))) = 0) (
              g78 (M.2.2 60 a0 0) a2 M) (
              g71 a0 (M.2.2 60 a0 0) M)))) none) (
        fi (a1 < (Int32.ofInt 128)) (
          g131 M) (
          fi ((Int32.ofInt 168) ≤ a1) (
            g131 M) (
            fi ((a1 &&& (Int32.ofInt 8)) = 0) (
              fi (fm_is M 22 22 a0 = true) (
              fi ((a1 &&& (Int32.ofInt 4)) = 0) (
                g127 a2 (M.2.2 60 a0 0) ((a1 - (Int32.ofInt 128)) >>> ((Int32.ofInt 4) &&& 31)) (Int32.ofInt 0) M) (
                g127 a2 (M.2.2 60 a0 0) ((a1 - (Int32.ofInt 128)) >>> ((Int32.ofInt 4) &&& 31)) (Int32.ofInt 1) M)) none) (
              g131 M))))) (
      some M)) none) none)
noncomputable def FX18_writeQueue_0 (a0 : Nat) (a1 : Int32) (a2 : Int32) (M : FM) : Option (FM) := BX18_writeQueue_0 FX18_writeQueue_22 FX18_writeQueue_71 FX18_writeQueue_78 FX18_writeQueue_127 FX18_writeQueue_131 a0 a1 a2 M
noncomputable def FX18_writeQueue (a0 : Nat) (a1 : Int32) (a2 : Int32) (M : FM) : Option (FM) := FX18_writeQueue_0 a0 a1 a2 M
/-! BoardMachine$Disks$Device.write(II)V -/
noncomputable def BX18_write_115 (M : FM) : Option (FM) :=
  some M
noncomputable def FX18_write_115 (n : Nat) (M : FM) : Option (FM) := BX18_write_115 M
noncomputable def BX18_write_0 (f0 : Nat → Int32 → FM → Option (FM)) (f1 : Nat → FM → Option (FM)) (f2 : Nat → Int32 → Int32 → FM → Option (FM)) (g115 : FM → Option (FM)) (a0 : Nat) (a1 : Int32) (a2 : Int32) (M : FM) : Option (FM) :=
  fi (a1 = (Int32.ofInt 20)) (
    fi (fm_is M 22 22 a0 = true) (
    let M1 : FM := fm_sI M 63 a0 0 a2
    g115 M1) none) (
  fi (a1 = (Int32.ofInt 48)) (
    fi (fm_is M 22 22 a0 = true) (
    let M2 : FM := fm_sI M 64 a0 0 a2
    g115 M2) none) (
  fi (a1 = (Int32.ofInt 80)) (
    fi (a2 = 0) (
      fi (fm_is M 22 22 a0 = true) (
      (f1 a0 M).bind fun M3 =>
      g115 M3) none) (
      g115 M)) (
  fi (a1 = (Int32.ofInt 100)) (
    fi (fm_is M 22 22 a0 = true) (
    fi (fm_is M 22 22 a0 = true) (
    let M4 : FM := fm_sI M 66 a0 0 ((M.1 66 a0 0) &&& (a2 ^^^ (Int32.ofInt (-1))))
    g115 M4) none) none) (
  fi (a1 = (Int32.ofInt 112)) (
    fi (fm_is M 22 22 a0 = true) (
    (f0 a0 a2 M).bind fun M5 =>
    g115 M5) none) (
  fi (fm_is M 22 22 a0 = true) (
    fi ((M.1 64 a0 0) = 0) (
      fi (fm_is M 22 22 a0 = true) (
      (f2 a0 a1 a2 M).bind fun M6 =>
      g115 M6) none) (
      g115 M)) none)))))
noncomputable def FX18_write_0 (n : Nat) (a0 : Nat) (a1 : Int32) (a2 : Int32) (M : FM) : Option (FM) := BX18_write_0 FX18_become (FX18_work n) FX18_writeQueue (FX18_write_115 n ) a0 a1 a2 M
noncomputable def FX18_write (n : Nat) (a0 : Nat) (a1 : Int32) (a2 : Int32) (M : FM) : Option (FM) := FX18_write_0 n a0 a1 a2 M
/-! BoardMachine$Board.write(LBoardMachine$Window;JIJ)V -/
noncomputable def BX10_write_167 (M : FM) : Option (FM) :=
  some M
noncomputable def FX10_write_167 (n : Nat) (M : FM) : Option (FM) := BX10_write_167 M
noncomputable def BX10_write_141 (f5 : Nat → Int32 → Int32 → FM → Option (FM)) (g167 : FM → Option (FM)) (s0 : Nat) (s1 : Int32) (s2 : Int32) (M : FM) : Option (FM) :=
  fi (fm_is M 77 77 s0 = true) (
  (f5 s0 s1 s2 M).bind fun M1 =>
  g167 M1) none
noncomputable def FX10_write_141 (n : Nat) (s0 : Nat) (s1 : Int32) (s2 : Int32) (M : FM) : Option (FM) := BX10_write_141 FX33_signal (FX10_write_167 n ) s0 s1 s2 M
noncomputable def BX10_write_0 (f0 : Nat → FM → Option (Int32 × FM)) (f1 : Int64 → Int32 → FM → Option (Int32 × FM)) (f2 : Nat → Int32 → Int64 → Int32 → Int64 → FM → Option (FM)) (f3 : Nat → Int32 → FM → Option (FM)) (f4 : Nat → Int32 → Int32 → FM → Option (FM)) (g141 : Nat → Int32 → Int32 → FM → Option (FM)) (g167 : FM → Option (FM)) (a0 : Nat) (a1 : Nat) (a2 : Int64) (a4 : Int32) (a5 : Int64) (M : FM) : Option (FM) :=
  fi (fm_is M 6 6 a1 = true) (
  let x1 : Int64 := (a2 - (M.2.1 13 a1 0))
  fi (fm_is M 6 6 a1 = true) (
  (f0 a1 M).bind fun r2 =>
  fi (r2.1 = (Int32.ofInt 1)) (
    fi (fm_is r2.2 11 11 a0 = true) (
    let x3 : Nat := (r2.2.2.2 19 a0 0)
    fi (fm_is r2.2 79 79 x3 = true) (
    (f2 x3 (Int32.ofInt 0) x1 a4 a5 r2.2).bind fun M4 =>
    g167 M4) none) none) (
  fi (r2.1 = (Int32.ofInt 2)) (
    fi (fm_is r2.2 11 11 a0 = true) (
    let x5 : Nat := (r2.2.2.2 19 a0 0)
    fi (fm_is r2.2 79 79 x5 = true) (
    (f2 x5 (Int32.ofInt 1) x1 a4 a5 r2.2).bind fun M6 =>
    g167 M6) none) none) (
  fi (r2.1 = (Int32.ofInt 3)) (
    fi (fm_is r2.2 11 11 a0 = true) (
    let x7 : Nat := (r2.2.2.2 19 a0 0)
    fi (fm_is r2.2 79 79 x7 = true) (
    (f2 x7 (Int32.ofInt 2) x1 a4 a5 r2.2).bind fun M8 =>
    g167 M8) none) none) (
  fi (r2.1 = (Int32.ofInt 4)) (
    (f1 x1 a4 r2.2).bind fun r9 =>
    fi (r9.1 = 0) (
      g167 r9.2) (
      fi (fm_is r9.2 11 11 a0 = true) (
      let x10 : Nat := (r9.2.2.2 20 a0 0)
      fi (fm_is r9.2 22 22 x10 = true) (
      (f4 x10 x1.toInt32 a5.toInt32 r9.2).bind fun M11 =>
      fi (fm_is M11 11 11 a0 = true) (
      let x12 : Nat := (M11.2.2 19 a0 0)
      fi (fm_is M11 79 79 x12 = true) (
      fi (fm_is M11 11 11 a0 = true) (
      let x13 : Nat := (M11.2.2 20 a0 0)
      fi (fm_is M11 22 22 x13 = true) (
      fi ((M11.1 66 x13 0) = 0) (
        g141 (M11.2.2 241 x12 0) (Int32.ofInt 1) (Int32.ofInt 0) M11) (
        g141 (M11.2.2 241 x12 0) (Int32.ofInt 1) (Int32.ofInt 1) M11)) none) none) none) none) none) none)) (
  fi ((lg_cmp x1 (Int64.ofInt 0)) = 0) (
      fi (a4 = (Int32.ofInt 4)) (
        fi (fm_is r2.2 11 11 a0 = true) (
        (f3 a0 a5.toInt32 r2.2).bind fun M14 =>
        g167 M14) none) (
        g167 r2.2)) (
      g167 r2.2)))))) none) none
noncomputable def FX10_write_0 (n : Nat) (a0 : Nat) (a1 : Nat) (a2 : Int64) (a4 : Int32) (a5 : Int64) (M : FM) : Option (FM) := BX10_write_0 FJ0_ordinal FX10_isRegister FX30_write FX10_end (FX18_write n) (FX10_write_141 n ) (FX10_write_167 n ) a0 a1 a2 a4 a5 M
noncomputable def FX10_write (n : Nat) (a0 : Nat) (a1 : Nat) (a2 : Int64) (a4 : Int32) (a5 : Int64) (M : FM) : Option (FM) := FX10_write_0 n a0 a1 a2 a4 a5 M
/-! BoardMachine$Found.store(LBoardMachine$Board;J)V -/
noncomputable def BX73_store_97 (M : FM) : Option (FM) :=
  some M
noncomputable def FX73_store_97 (n : Nat) (k60 : Nat → Nat → Int64 → Int32 → FM → Option (FM)) (M : FM) : Option (FM) := BX73_store_97 M
noncomputable def BX73_store_60 (f1 : Nat → Int64 → Int32 → Int64 → FM → Option (FM)) (g97 : FM → Option (FM)) (k60 : Nat → Nat → Int64 → Int32 → FM → Option (FM)) (a0 : Nat) (a1 : Nat) (a2 : Int64) (a4 : Int32) (M : FM) : Option (FM) :=
  fi (fm_is M 41 41 a0 = true) (
  fi ((M.1 122 a0 0) ≤ a4) (
    g97 M) (
    fi (fm_is M 11 11 a1 = true) (
    fi (fm_is M 41 41 a0 = true) (
    let x1 : Nat := (M.2.2 121 a0 0)
    fi (fm_is M 902 902 x1 = true ∧ fm_in M x1 a4 = true) (
    let x2 : Nat := (M.2.2 18 a1 0)
    fi (fm_is M 73 73 x2 = true) (
    (f1 x2 (M.2.1 3 x1 a4.toNatClampNeg) (Int32.ofInt 1) ((a2.toUInt64 >>> (((Int32.ofInt 8) * a4).toInt64.toUInt64 &&& Int64.toUInt64 63)).toInt64) M).bind fun M3 =>
    let x4 : Int32 := a4 + (Int32.ofInt 1)
    k60 a0 a1 a2 x4 M3) none) none) none) none)) none
noncomputable def FX73_store_60 (n : Nat) (k60 : Nat → Nat → Int64 → Int32 → FM → Option (FM)) (a0 : Nat) (a1 : Nat) (a2 : Int64) (a4 : Int32) (M : FM) : Option (FM) := BX73_store_60 (FX11_store n) (FX73_store_97 n k60) k60 a0 a1 a2 a4 M
noncomputable def BX73_store_0 (f0 : Nat → Nat → Int64 → Int32 → Int64 → FM → Option (FM)) (f1 : Nat → Int64 → Int32 → Int64 → FM → Option (FM)) (g97 : FM → Option (FM)) (k60 : Nat → Nat → Int64 → Int32 → FM → Option (FM)) (a0 : Nat) (a1 : Nat) (a2 : Int64) (M : FM) : Option (FM) :=
  fi (fm_is M 41 41 a0 = true) (
  fi ((M.2.2 124 a0 0) = 0) (
    fi (fm_is M 41 41 a0 = true) (
    fi ((M.1 123 a0 0) = 0) (
      k60 a0 a1 a2 (Int32.ofInt 0) M) (
      fi (fm_is M 11 11 a1 = true) (
      fi (fm_is M 41 41 a0 = true) (
      let x1 : Nat := (M.2.2 121 a0 0)
      fi (fm_is M 902 902 x1 = true ∧ fm_in M x1 (Int32.ofInt 0) = true) (
      fi (fm_is M 41 41 a0 = true) (
      let x2 : Nat := (M.2.2 18 a1 0)
      fi (fm_is M 73 73 x2 = true) (
      (f1 x2 (M.2.1 3 x1 (Int32.ofInt 0).toNatClampNeg) (M.1 122 a0 0) a2 M).bind fun M3 =>
      g97 M3) none) none) none) none) none)) none) (
    fi (fm_is M 41 41 a0 = true) (
    fi (fm_is M 41 41 a0 = true) (
    let x4 : Nat := (M.2.2 121 a0 0)
    fi (fm_is M 902 902 x4 = true ∧ fm_in M x4 (Int32.ofInt 0) = true) (
    fi (fm_is M 41 41 a0 = true) (
    fi (fm_is M 11 11 a1 = true) (
    (f0 a1 (M.2.2 124 a0 0) (M.2.1 3 x4 (Int32.ofInt 0).toNatClampNeg) (M.1 122 a0 0) a2 M).bind fun M5 =>
    g97 M5) none) none) none) none) none)) none
noncomputable def FX73_store_0 (n : Nat) (k60 : Nat → Nat → Int64 → Int32 → FM → Option (FM)) (a0 : Nat) (a1 : Nat) (a2 : Int64) (M : FM) : Option (FM) := BX73_store_0 (FX10_write n) (FX11_store n) (FX73_store_97 n k60) k60 a0 a1 a2 M
noncomputable def FX73_store_L60 (n : Nat) : Nat → Nat → Nat → Int64 → Int32 → FM → Option (FM)
  | 0 => fun _ _ _ _ _ => none
  | j + 1 => FX73_store_60 n (FX73_store_L60 n j)
noncomputable def FX73_store (n : Nat) (a0 : Nat) (a1 : Nat) (a2 : Int64) (M : FM) : Option (FM) := FX73_store_0 n (FX73_store_L60 n n) a0 a1 a2 M
/-! BoardMachine$Processor.store()Z -/
noncomputable def BX46_store_0 (f0 : Nat → Int32 → FM → Option (Int64 × FM)) (f1 : Nat → Int64 → Int32 → Int32 → FM → Option (Int32 × FM)) (f2 : Nat → Nat → Int64 → FM → Option (FM)) (f3 : Nat → Int32 → Int64 → FM → Option (Int32 × FM)) (a0 : Nat) (M : FM) : Option (Int32 × FM) :=
  fi (fm_is M 75 75 a0 = true) (
  let x1 : Nat := (M.2.2 211 a0 0)
  fi (fm_is M 63 63 x1 = true) (
  (f0 x1 (Int32.ofInt 0) M).bind fun r2 =>
  fi (fm_is r2.2 75 75 a0 = true) (
  let x3 : Nat := (r2.2.2.2 211 a0 0)
  fi (fm_is r2.2 63 63 x3 = true) (
  (f0 x3 (Int32.ofInt 1) r2.2).bind fun r4 =>
  fi (fm_is r4.2 75 75 a0 = true) (
  (f1 a0 r2.1 (Int32.ofInt 2) r4.1.toInt32 r4.2).bind fun r5 =>
  fi (r5.1 = 0) (
    fi ((Int32.ofInt 0) = 0 ∨ (Int32.ofInt 0) = 1) (some ((Int32.ofInt 0), r5.2)) none) (
    fi (fm_is r5.2 75 75 a0 = true) (
    fi (fm_is r5.2 75 75 a0 = true) (
    fi (fm_is r5.2 75 75 a0 = true) (
    let x6 : Nat := (r5.2.2.2 211 a0 0)
    fi (fm_is r5.2 63 63 x6 = true) (
    (f0 x6 (Int32.ofInt 2) r5.2).bind fun r7 =>
    let x8 : Nat := (r5.2.2.2 217 a0 0)
    fi (fm_is r7.2 41 41 x8 = true) (
    (f2 x8 (r5.2.2.2 210 a0 0) r7.1 r7.2).bind fun M9 =>
    fi (fm_is M9 75 75 a0 = true) (
    let x10 : Nat := (M9.2.2 211 a0 0)
    fi (fm_is M9 63 63 x10 = true) (
    (f3 x10 (Int32.ofInt 0) (Int64.ofInt 0) M9).bind fun r11 =>
    fi ((Int32.ofInt 1) = 0 ∨ (Int32.ofInt 1) = 1) (some ((Int32.ofInt 1), r11.2)) none) none) none) none) none) none) none) none)) none) none) none) none) none
noncomputable def FX46_store_0 (n : Nat) (a0 : Nat) (M : FM) : Option (Int32 × FM) := BX46_store_0 FX47_wanted (FX46_locate n) (FX73_store n) FX47_finish a0 M
noncomputable def FX46_store (n : Nat) (a0 : Nat) (M : FM) : Option (Int32 × FM) := FX46_store_0 n a0 M
/-! BoardMachine$Memories$Ram.signed(JI)J -/
noncomputable def BX11_signed_12 (s0 : Int64) (M : FM) : Option (Int64 × FM) :=
  some (s0, M)
noncomputable def FX11_signed_12 (s0 : Int64) (M : FM) : Option (Int64 × FM) := BX11_signed_12 s0 M
noncomputable def BX11_signed_0 (g12 : Int64 → FM → Option (Int64 × FM)) (a0 : Int64) (a2 : Int32) (M : FM) : Option (Int64 × FM) :=
  fi (a2 = (Int32.ofInt 4)) (
    g12 a0.toInt32.toInt64 M) (
    g12 a0 M)
noncomputable def FX11_signed_0 (a0 : Int64) (a2 : Int32) (M : FM) : Option (Int64 × FM) := BX11_signed_0 FX11_signed_12 a0 a2 M
noncomputable def FX11_signed (a0 : Int64) (a2 : Int32) (M : FM) : Option (Int64 × FM) := FX11_signed_0 a0 a2 M
/-! BoardMachine$Memories$Reservation.make(JI)V -/
noncomputable def BX12_make_0 (a0 : Nat) (a1 : Int64) (a3 : Int32) (M : FM) : Option (FM) :=
  fi (fm_is M 74 74 a0 = true) (
  let M1 : FM := fm_sL M 207 a0 0 a1
  fi (fm_is M1 74 74 a0 = true) (
  let M2 : FM := fm_sI M1 208 a0 0 a3
  some M2) none) none
noncomputable def FX12_make_0 (a0 : Nat) (a1 : Int64) (a3 : Int32) (M : FM) : Option (FM) := BX12_make_0 a0 a1 a3 M
noncomputable def FX12_make (a0 : Nat) (a1 : Int64) (a3 : Int32) (M : FM) : Option (FM) := FX12_make_0 a0 a1 a3 M
/-! BoardMachine$Memories$Reservation.is(JI)Z -/
noncomputable def BX12_is_22 (s0 : Int32) (M : FM) : Option (Int32 × FM) :=
  fi (s0 = 0 ∨ s0 = 1) (some (s0, M)) none
noncomputable def FX12_is_22 (s0 : Int32) (M : FM) : Option (Int32 × FM) := BX12_is_22 s0 M
noncomputable def BX12_is_21 (g22 : Int32 → FM → Option (Int32 × FM)) (M : FM) : Option (Int32 × FM) :=
  g22 (Int32.ofInt 0) M
noncomputable def FX12_is_21 (M : FM) : Option (Int32 × FM) := BX12_is_21 FX12_is_22 M
noncomputable def BX12_is_0 (g21 : FM → Option (Int32 × FM)) (g22 : Int32 → FM → Option (Int32 × FM)) (a0 : Nat) (a1 : Int64) (a3 : Int32) (M : FM) : Option (Int32 × FM) :=
  fi (fm_is M 74 74 a0 = true) (
  fi ((M.1 208 a0 0) = a3) (
    fi (fm_is M 74 74 a0 = true) (
    fi ((lg_cmp (M.2.1 207 a0 0) a1) = 0) (
      g22 (Int32.ofInt 1) M) (
      g21 M)) none) (
    g21 M)) none
noncomputable def FX12_is_0 (a0 : Nat) (a1 : Int64) (a3 : Int32) (M : FM) : Option (Int32 × FM) := BX12_is_0 FX12_is_21 FX12_is_22 a0 a1 a3 M
noncomputable def FX12_is (a0 : Nat) (a1 : Int64) (a3 : Int32) (M : FM) : Option (Int32 × FM) := FX12_is_0 a0 a1 a3 M
/-! BoardMachine$Memories$Bits.part(IJ)J -/
noncomputable def BX16_part_16 (s0 : Int64) (M : FM) : Option (Int64 × FM) :=
  some (s0, M)
noncomputable def FX16_part_16 (s0 : Int64) (M : FM) : Option (Int64 × FM) := BX16_part_16 s0 M
noncomputable def BX16_part_0 (g16 : Int64 → FM → Option (Int64 × FM)) (a0 : Nat) (a1 : Int32) (a2 : Int64) (M : FM) : Option (Int64 × FM) :=
  fi (fm_is M 68 68 a0 = true) (
  fi ((((M.1 198 a0 0) >>> (a1 &&& 31)) &&& (Int32.ofInt 1)) = 0) (
    g16 (Int64.ofInt 0) M) (
    g16 a2 M)) none
noncomputable def FX16_part_0 (a0 : Nat) (a1 : Int32) (a2 : Int64) (M : FM) : Option (Int64 × FM) := BX16_part_0 FX16_part_16 a0 a1 a2 M
noncomputable def FX16_part (a0 : Nat) (a1 : Int32) (a2 : Int64) (M : FM) : Option (Int64 × FM) := FX16_part_0 a0 a1 a2 M
/-! BoardMachine$Memories$Bits.of(JJ)J -/
noncomputable def BX16_of_0 (f0 : Nat → Int32 → Int64 → FM → Option (Int64 × FM)) (a0 : Nat) (a1 : Int64) (a3 : Int64) (M : FM) : Option (Int64 × FM) :=
  fi (fm_is M 68 68 a0 = true) (
  (f0 a0 (Int32.ofInt 0) ((a1 ^^^ (Int64.ofInt (-1))) &&& (a3 ^^^ (Int64.ofInt (-1)))) M).bind fun r1 =>
  fi (fm_is r1.2 68 68 a0 = true) (
  (f0 a0 (Int32.ofInt 1) ((a1 ^^^ (Int64.ofInt (-1))) &&& a3) r1.2).bind fun r2 =>
  fi (fm_is r2.2 68 68 a0 = true) (
  (f0 a0 (Int32.ofInt 2) (a1 &&& (a3 ^^^ (Int64.ofInt (-1)))) r2.2).bind fun r3 =>
  fi (fm_is r3.2 68 68 a0 = true) (
  (f0 a0 (Int32.ofInt 3) (a1 &&& a3) r3.2).bind fun r4 =>
  some ((((r1.1 ||| r2.1) ||| r3.1) ||| r4.1), r4.2)) none) none) none) none
noncomputable def FX16_of_0 (a0 : Nat) (a1 : Int64) (a3 : Int64) (M : FM) : Option (Int64 × FM) := BX16_of_0 FX16_part a0 a1 a3 M
noncomputable def FX16_of (a0 : Nat) (a1 : Int64) (a3 : Int64) (M : FM) : Option (Int64 × FM) := FX16_of_0 a0 a1 a3 M
/-! BoardMachine$Memories$Extreme.of(JJ)J -/
noncomputable def BX17_of_33 (s0 : Int64) (M : FM) : Option (Int64 × FM) :=
  some (s0, M)
noncomputable def FX17_of_33 (s0 : Int64) (M : FM) : Option (Int64 × FM) := BX17_of_33 s0 M
noncomputable def BX17_of_21 (g33 : Int64 → FM → Option (Int64 × FM)) (a0 : Nat) (a1 : Int64) (a3 : Int64) (s0 : Int32) (M : FM) : Option (Int64 × FM) :=
  fi (fm_is M 69 69 a0 = true) (
  fi (s0 = (M.1 199 a0 0)) (
    g33 a1 M) (
    g33 a3 M)) none
noncomputable def FX17_of_21 (a0 : Nat) (a1 : Int64) (a3 : Int64) (s0 : Int32) (M : FM) : Option (Int64 × FM) := BX17_of_21 FX17_of_33 a0 a1 a3 s0 M
noncomputable def BX17_of_0 (g21 : Nat → Int64 → Int64 → Int32 → FM → Option (Int64 × FM)) (a0 : Nat) (a1 : Int64) (a3 : Int64) (M : FM) : Option (Int64 × FM) :=
  fi (fm_is M 69 69 a0 = true) (
  fi (fm_is M 69 69 a0 = true) (
  fi (0 ≤ (lg_cmp (a1 + (M.2.1 200 a0 0)) (a3 + (M.2.1 200 a0 0)))) (
    g21 a0 a1 a3 (Int32.ofInt 0) M) (
    g21 a0 a1 a3 (Int32.ofInt 1) M)) none) none
noncomputable def FX17_of_0 (a0 : Nat) (a1 : Int64) (a3 : Int64) (M : FM) : Option (Int64 × FM) := BX17_of_0 FX17_of_21 a0 a1 a3 M
noncomputable def FX17_of (a0 : Nat) (a1 : Int64) (a3 : Int64) (M : FM) : Option (Int64 × FM) := FX17_of_0 a0 a1 a3 M
/-! BoardMachine$Memories$Sum.of(JJ)J -/
noncomputable def BX14_of_0 (a0 : Nat) (a1 : Int64) (a3 : Int64) (M : FM) : Option (Int64 × FM) :=
  some ((a1 + a3), M)
noncomputable def FX14_of_0 (a0 : Nat) (a1 : Int64) (a3 : Int64) (M : FM) : Option (Int64 × FM) := BX14_of_0 a0 a1 a3 M
noncomputable def FX14_of (a0 : Nat) (a1 : Int64) (a3 : Int64) (M : FM) : Option (Int64 × FM) := FX14_of_0 a0 a1 a3 M
/-! BoardMachine$Memories$Swap.of(JJ)J -/
noncomputable def BX15_of_0 (a0 : Nat) (a1 : Int64) (a3 : Int64) (M : FM) : Option (Int64 × FM) :=
  some (a3, M)
noncomputable def FX15_of_0 (a0 : Nat) (a1 : Int64) (a3 : Int64) (M : FM) : Option (Int64 × FM) := BX15_of_0 a0 a1 a3 M
noncomputable def FX15_of (a0 : Nat) (a1 : Int64) (a3 : Int64) (M : FM) : Option (Int64 × FM) := FX15_of_0 a0 a1 a3 M
/-! BoardMachine$Memories$Ram.atomic(IIJIJ)J -/
noncomputable def BX11_atomic_83 (s0 : Int64) (M : FM) : Option (Int64 × FM) :=
  some (s0, M)
noncomputable def FX11_atomic_83 (n : Nat) (s0 : Int64) (M : FM) : Option (Int64 × FM) := BX11_atomic_83 s0 M
noncomputable def BX11_atomic_73 (g83 : Int64 → FM → Option (Int64 × FM)) (a11 : Int32) (M : FM) : Option (Int64 × FM) :=
  fi (a11 = 0) (
    g83 (Int64.ofInt 1) M) (
    g83 (Int64.ofInt 0) M)
noncomputable def FX11_atomic_73 (n : Nat) (a11 : Int32) (M : FM) : Option (Int64 × FM) := BX11_atomic_73 (FX11_atomic_83 n ) a11 M
noncomputable def BX11_atomic_0 (f0 : Nat → Int64 → Int32 → FM → Option (Int64 × FM)) (f1 : Int64 → Int32 → FM → Option (Int64 × FM)) (f2 : Nat → Int64 → Int32 → FM → Option (FM)) (f3 : Nat → Int64 → Int32 → FM → Option (Int32 × FM)) (f4 : Nat → FM → Option (Int32 × FM)) (f5 : Nat → Int64 → Int64 → FM → Option (Int64 × FM)) (f6 : Nat → Int64 → Int64 → FM → Option (Int64 × FM)) (f7 : Nat → Int64 → Int64 → FM → Option (Int64 × FM)) (f8 : Nat → Int64 → Int64 → FM → Option (Int64 × FM)) (f9 : Nat → Int64 → Int32 → Int64 → FM → Option (FM)) (g73 : Int32 → FM → Option (Int64 × FM)) (a0 : Nat) (a1 : Int32) (a2 : Int32) (a3 : Int64) (a5 : Int32) (a6 : Int64) (M : FM) : Option (Int64 × FM) :=
  fi (fm_is M 73 73 a0 = true) (
  let x1 : Nat := (M.2.2 205 a0 0)
  fi (fm_is M 910 990 x1 = true ∧ fm_in M x1 a1 = true) (
  let x2 : Nat := (M.2.2 3 x1 a1.toNatClampNeg)
  fi (fm_is M 73 73 a0 = true) (
  (f0 a0 a3 a5 M).bind fun r3 =>
  (f1 r3.1 a5 r3.2).bind fun r4 =>
  fi (a2 = (Int32.ofInt 2)) (
    fi (fm_is r4.2 74 74 x2 = true) (
    (f2 x2 a3 a5 r4.2).bind fun M5 =>
    some (r4.1, M5)) none) (
    fi (a2 = (Int32.ofInt 3)) (
      fi (fm_is r4.2 74 74 x2 = true) (
      (f3 x2 a3 a5 r4.2).bind fun r6 =>
      fi (fm_is r6.2 74 74 x2 = true) (
      (f4 x2 r6.2).bind fun r7 =>
      fi (r6.1 = 0) (
        g73 r6.1 r7.2) (
        fi (fm_is r7.2 73 73 a0 = true) (
        (f9 a0 a3 a5 a6 r7.2).bind fun M8 =>
        g73 r6.1 M8) none)) none) none) (
      fi (fm_is r4.2 73 73 a0 = true) (
      let x9 : Nat := (r4.2.2.2 206 a0 0)
      fi (fm_is r4.2 910 990 x9 = true ∧ fm_in r4.2 x9 a2 = true) (
      (f1 a6 a5 r4.2).bind fun r10 =>
      let x11 : Nat := (r4.2.2.2 3 x9 a2.toNatClampNeg)
      fi (fm_is r10.2 68 68 x11 = true) (
      (f5 x11 r4.1 r10.1 r10.2).bind fun r12 =>
      fi (fm_is r12.2 73 73 a0 = true) (
      (f9 a0 a3 a5 r12.1 r12.2).bind fun M13 =>
      some (r4.1, M13)) none) (fi (fm_is r10.2 69 69 x11 = true) (
      (f6 x11 r4.1 r10.1 r10.2).bind fun r14 =>
      fi (fm_is r14.2 73 73 a0 = true) (
      (f9 a0 a3 a5 r14.1 r14.2).bind fun M15 =>
      some (r4.1, M15)) none) (fi (fm_is r10.2 70 70 x11 = true) (
      (f7 x11 r4.1 r10.1 r10.2).bind fun r16 =>
      fi (fm_is r16.2 73 73 a0 = true) (
      (f9 a0 a3 a5 r16.1 r16.2).bind fun M17 =>
      some (r4.1, M17)) none) (fi (fm_is r10.2 71 71 x11 = true) (
      (f8 x11 r4.1 r10.1 r10.2).bind fun r18 =>
      fi (fm_is r18.2 73 73 a0 = true) (
      (f9 a0 a3 a5 r18.1 r18.2).bind fun M19 =>
      some (r4.1, M19)) none) (none))))) none) none))) none) none) none
noncomputable def FX11_atomic_0 (n : Nat) (a0 : Nat) (a1 : Int32) (a2 : Int32) (a3 : Int64) (a5 : Int32) (a6 : Int64) (M : FM) : Option (Int64 × FM) := BX11_atomic_0 FX11_load FX11_signed FX12_make FX12_is FX12_drop FX16_of FX17_of FX14_of FX15_of (FX11_store n) (FX11_atomic_73 n ) a0 a1 a2 a3 a5 a6 M
noncomputable def FX11_atomic (n : Nat) (a0 : Nat) (a1 : Int32) (a2 : Int32) (a3 : Int64) (a5 : Int32) (a6 : Int64) (M : FM) : Option (Int64 × FM) := FX11_atomic_0 n a0 a1 a2 a3 a5 a6 M
/-! BoardMachine$Processor.atomic()Z -/
noncomputable def BX46_atomic_131 (f2 : Nat → Int32 → Int64 → FM → Option (Int32 × FM)) (a1 : Int64) (s0 : Nat) (s1 : Int32) (M : FM) : Option (Int32 × FM) :=
  fi (fm_is M 75 75 s0 = true) (
  (f2 s0 s1 a1 M).bind fun r1 =>
  fi (r1.1 = 0 ∨ r1.1 = 1) (some (r1.1, r1.2)) none) none
noncomputable def FX46_atomic_131 (n : Nat) (a1 : Int64) (s0 : Nat) (s1 : Int32) (M : FM) : Option (Int32 × FM) := BX46_atomic_131 FX46_raise a1 s0 s1 M
noncomputable def BX46_atomic_65 (f2 : Nat → Int32 → Int64 → FM → Option (Int32 × FM)) (a1 : Int64) (s0 : Nat) (s1 : Int32) (M : FM) : Option (Int32 × FM) :=
  fi (fm_is M 75 75 s0 = true) (
  (f2 s0 s1 a1 M).bind fun r1 =>
  fi (r1.1 = 0 ∨ r1.1 = 1) (some (r1.1, r1.2)) none) none
noncomputable def FX46_atomic_65 (n : Nat) (a1 : Int64) (s0 : Nat) (s1 : Int32) (M : FM) : Option (Int32 × FM) := BX46_atomic_65 FX46_raise a1 s0 s1 M
noncomputable def BX46_atomic_41 (f0 : Nat → Int32 → FM → Option (Int64 × FM)) (f1 : Nat → FM → Option (Int32 × FM)) (f2 : Nat → Int32 → Int64 → FM → Option (Int32 × FM)) (f3 : Nat → Int64 → Int32 → Int32 → Int32 → FM → Option (Int64 × FM)) (f4 : Nat → Int64 → Int64 → FM → Option (Int32 × FM)) (f5 : Nat → Int32 → Int32 → Int64 → Int32 → Int64 → FM → Option (Int64 × FM)) (f6 : Nat → Int32 → Int64 → FM → Option (Int32 × FM)) (g65 : Int64 → Nat → Int32 → FM → Option (Int32 × FM)) (g131 : Int64 → Nat → Int32 → FM → Option (Int32 × FM)) (a0 : Nat) (a1 : Int64) (a3 : Int32) (a4 : Int32) (s0 : Int32) (M : FM) : Option (Int32 × FM) :=
  let x1 : Int64 := a3.toInt64
  fi (x1 = 0) none (
  fi ((lg_cmp (a1 - a1 / x1 * x1) (Int64.ofInt 0)) = 0) (
    fi (fm_is M 75 75 a0 = true) (
    (f1 a0 M).bind fun r2 =>
    fi (fm_is r2.2 75 75 a0 = true) (
    (f3 a0 a1 s0 r2.1 a3 r2.2).bind fun r3 =>
    fi (0 ≤ (lg_cmp r3.1 (Int64.ofInt 0))) (
      fi (fm_is r3.2 75 75 a0 = true) (
      let x4 : Nat := (r3.2.2.2 210 a0 0)
      fi (fm_is r3.2 11 11 x4 = true) (
      let x5 : Nat := (r3.2.2.2 18 x4 0)
      fi (fm_is r3.2 73 73 x5 = true) (
      (f4 x5 r3.1 a3.toInt64 r3.2).bind fun r6 =>
      fi (r6.1 = 0) (
        fi (s0 = (Int32.ofInt 1)) (
          g131 a1 a0 (Int32.ofInt 5) r6.2) (
          g131 a1 a0 (Int32.ofInt 7) r6.2)) (
        fi (fm_is r6.2 75 75 a0 = true) (
        fi (fm_is r6.2 75 75 a0 = true) (
        let x7 : Nat := (r6.2.2.2 210 a0 0)
        fi (fm_is r6.2 11 11 x7 = true) (
        fi (fm_is r6.2 75 75 a0 = true) (
        fi (fm_is r6.2 75 75 a0 = true) (
        let x8 : Nat := (r6.2.2.2 211 a0 0)
        fi (fm_is r6.2 63 63 x8 = true) (
        (f0 x8 (Int32.ofInt 2) r6.2).bind fun r9 =>
        let x10 : Nat := (r6.2.2.2 18 x7 0)
        fi (fm_is r9.2 73 73 x10 = true) (
        (f5 x10 (r6.2.1 209 a0 0) a4 r3.1 a3 r9.1 r9.2).bind fun r11 =>
        let x12 : Nat := (r6.2.2.2 211 a0 0)
        fi (fm_is r11.2 63 63 x12 = true) (
        (f6 x12 (Int32.ofInt 1) r11.1 r11.2).bind fun r13 =>
        fi ((Int32.ofInt 1) = 0 ∨ (Int32.ofInt 1) = 1) (some ((Int32.ofInt 1), r13.2)) none) none) none) none) none) none) none) none) none)) none) none) none) (
      fi (fm_is r3.2 75 75 a0 = true) (
      (f2 a0 ((-r3.1).toInt32) a1 r3.2).bind fun r14 =>
      fi (r14.1 = 0 ∨ r14.1 = 1) (some (r14.1, r14.2)) none) none)) none) none) (
    fi (s0 = (Int32.ofInt 1)) (
      g65 a1 a0 (Int32.ofInt 4) M) (
      g65 a1 a0 (Int32.ofInt 6) M)))
noncomputable def FX46_atomic_41 (n : Nat) (a0 : Nat) (a1 : Int64) (a3 : Int32) (a4 : Int32) (s0 : Int32) (M : FM) : Option (Int32 × FM) := BX46_atomic_41 FX47_wanted FX46_dataMode FX46_raise (FX46_find n) FX11_has (FX11_atomic n) FX47_finish (FX46_atomic_65 n ) (FX46_atomic_131 n ) a0 a1 a3 a4 s0 M
noncomputable def BX46_atomic_0 (f0 : Nat → Int32 → FM → Option (Int64 × FM)) (g41 : Nat → Int64 → Int32 → Int32 → Int32 → FM → Option (Int32 × FM)) (a0 : Nat) (M : FM) : Option (Int32 × FM) :=
  fi (fm_is M 75 75 a0 = true) (
  let x1 : Nat := (M.2.2 211 a0 0)
  fi (fm_is M 63 63 x1 = true) (
  (f0 x1 (Int32.ofInt 0) M).bind fun r2 =>
  fi (fm_is r2.2 75 75 a0 = true) (
  let x3 : Nat := (r2.2.2.2 211 a0 0)
  fi (fm_is r2.2 63 63 x3 = true) (
  (f0 x3 (Int32.ofInt 1) r2.2).bind fun r4 =>
  let x5 : Int32 := r4.1.toInt32
  fi (fm_is r4.2 75 75 a0 = true) (
  let x6 : Nat := (r4.2.2.2 211 a0 0)
  fi (fm_is r4.2 63 63 x6 = true) (
  (f0 x6 (Int32.ofInt 3) r4.2).bind fun r7 =>
  let x8 : Int32 := r7.1.toInt32
  fi (x8 = (Int32.ofInt 2)) (
    g41 a0 r2.1 x5 x8 (Int32.ofInt 1) r7.2) (
    g41 a0 r2.1 x5 x8 (Int32.ofInt 2) r7.2)) none) none) none) none) none) none
noncomputable def FX46_atomic_0 (n : Nat) (a0 : Nat) (M : FM) : Option (Int32 × FM) := BX46_atomic_0 FX47_wanted (FX46_atomic_41 n ) a0 M
noncomputable def FX46_atomic (n : Nat) (a0 : Nat) (M : FM) : Option (Int32 × FM) := FX46_atomic_0 n a0 M
/-! BoardMachine$Controls$ControlUnit.floats()Z -/
noncomputable def BX74_floats_17 (s0 : Int32) (M : FM) : Option (Int32 × FM) :=
  fi (s0 = 0 ∨ s0 = 1) (some (s0, M)) none
noncomputable def FX74_floats_17 (s0 : Int32) (M : FM) : Option (Int32 × FM) := BX74_floats_17 s0 M
noncomputable def BX74_floats_0 (f0 : Nat → Int32 → FM → Option (Int32 × FM)) (g17 : Int32 → FM → Option (Int32 × FM)) (a0 : Nat) (M : FM) : Option (Int32 × FM) :=
  fi (fm_is M 12 12 a0 = true) (
  let x1 : Nat := (M.2.2 27 a0 0)
  fi (fm_is M 16 16 x1 = true) (
  (f0 x1 (Int32.ofInt 13) M).bind fun r2 =>
  fi (r2.1 = 0) (
    g17 (Int32.ofInt 0) r2.2) (
    g17 (Int32.ofInt 1) r2.2)) none) none
noncomputable def FX74_floats_0 (a0 : Nat) (M : FM) : Option (Int32 × FM) := BX74_floats_0 FX78_two FX74_floats_17 a0 M
noncomputable def FX74_floats (a0 : Nat) (M : FM) : Option (Int32 × FM) := FX74_floats_0 a0 M
/-! BoardMachine$Floats$FloatUnit.set(IJ)V -/
noncomputable def BX59_set_0 (a0 : Nat) (a1 : Int32) (a2 : Int64) (M : FM) : Option (FM) :=
  fi (fm_is M 32 32 a0 = true) (
  let x1 : Nat := (M.2.2 93 a0 0)
  fi (fm_is M 902 902 x1 = true ∧ fm_in M x1 a1 = true) (
  let M2 : FM := fm_sL M 3 x1 a1.toNatClampNeg a2
  fi (fm_is M2 32 32 a0 = true) (
  fi ((Int32.ofInt 1) = 0 ∨ (Int32.ofInt 1) = 1) (
  let M3 : FM := fm_sI M2 96 a0 0 (Int32.ofInt 1)
  some M3) none) none) none) none
noncomputable def FX59_set_0 (a0 : Nat) (a1 : Int32) (a2 : Int64) (M : FM) : Option (FM) := BX59_set_0 a0 a1 a2 M
noncomputable def FX59_set (a0 : Nat) (a1 : Int32) (a2 : Int64) (M : FM) : Option (FM) := FX59_set_0 a0 a1 a2 M
/-! BoardMachine$Processor.floatLoad()Z -/
noncomputable def BX46_floatLoad_68 (f3 : Nat → Int32 → Int64 → FM → Option (FM)) (f4 : Nat → Int32 → Int64 → FM → Option (Int32 × FM)) (a0 : Nat) (s0 : Nat) (s1 : Int32) (s2 : Int64) (M : FM) : Option (Int32 × FM) :=
  fi (fm_is M 32 32 s0 = true) (
  (f3 s0 s1 s2 M).bind fun M1 =>
  fi (fm_is M1 75 75 a0 = true) (
  let x2 : Nat := (M1.2.2 211 a0 0)
  fi (fm_is M1 63 63 x2 = true) (
  (f4 x2 (Int32.ofInt 0) (Int64.ofInt 0) M1).bind fun r3 =>
  fi ((Int32.ofInt 1) = 0 ∨ (Int32.ofInt 1) = 1) (some ((Int32.ofInt 1), r3.2)) none) none) none) none
noncomputable def FX46_floatLoad_68 (n : Nat) (a0 : Nat) (s0 : Nat) (s1 : Int32) (s2 : Int64) (M : FM) : Option (Int32 × FM) := BX46_floatLoad_68 FX59_set FX47_finish a0 s0 s1 s2 M
noncomputable def BX46_floatLoad_0 (f0 : Nat → Int32 → FM → Option (Int64 × FM)) (f1 : Nat → Int64 → Int32 → Int32 → FM → Option (Int32 × FM)) (f2 : Nat → Nat → FM → Option (Int64 × FM)) (g68 : Nat → Nat → Int32 → Int64 → FM → Option (Int32 × FM)) (a0 : Nat) (M : FM) : Option (Int32 × FM) :=
  fi (fm_is M 75 75 a0 = true) (
  let x1 : Nat := (M.2.2 211 a0 0)
  fi (fm_is M 63 63 x1 = true) (
  (f0 x1 (Int32.ofInt 1) M).bind fun r2 =>
  let x3 : Int32 := r2.1.toInt32
  fi (fm_is r2.2 75 75 a0 = true) (
  let x4 : Nat := (r2.2.2.2 211 a0 0)
  fi (fm_is r2.2 63 63 x4 = true) (
  (f0 x4 (Int32.ofInt 0) r2.2).bind fun r5 =>
  fi (fm_is r5.2 75 75 a0 = true) (
  (f1 a0 r5.1 (Int32.ofInt 1) x3 r5.2).bind fun r6 =>
  fi (r6.1 = 0) (
    fi ((Int32.ofInt 0) = 0 ∨ (Int32.ofInt 0) = 1) (some ((Int32.ofInt 0), r6.2)) none) (
    fi (fm_is r6.2 75 75 a0 = true) (
    fi (fm_is r6.2 75 75 a0 = true) (
    let x7 : Nat := (r6.2.2.2 217 a0 0)
    fi (fm_is r6.2 41 41 x7 = true) (
    (f2 x7 (r6.2.2.2 210 a0 0) r6.2).bind fun r8 =>
    fi (fm_is r8.2 75 75 a0 = true) (
    fi (fm_is r8.2 75 75 a0 = true) (
    let x9 : Nat := (r8.2.2.2 211 a0 0)
    fi (fm_is r8.2 63 63 x9 = true) (
    (f0 x9 (Int32.ofInt 4) r8.2).bind fun r10 =>
    fi (x3 = (Int32.ofInt 4)) (
      g68 a0 (r8.2.2.2 212 a0 0) r10.1.toInt32 (r8.1 ||| (Int64.ofInt (-4294967296))) r10.2) (
      g68 a0 (r8.2.2.2 212 a0 0) r10.1.toInt32 r8.1 r10.2)) none) none) none) none) none) none)) none) none) none) none) none
noncomputable def FX46_floatLoad_0 (n : Nat) (a0 : Nat) (M : FM) : Option (Int32 × FM) := BX46_floatLoad_0 FX47_wanted (FX46_locate n) (FX73_load n) (FX46_floatLoad_68 n ) a0 M
noncomputable def FX46_floatLoad (n : Nat) (a0 : Nat) (M : FM) : Option (Int32 × FM) := FX46_floatLoad_0 n a0 M
/-! BoardMachine$Processor.floatStore()Z -/
noncomputable def BX46_floatStore_0 (f0 : Nat → Int32 → FM → Option (Int64 × FM)) (f1 : Nat → Int64 → Int32 → Int32 → FM → Option (Int32 × FM)) (f2 : Nat → Nat → Int64 → FM → Option (FM)) (f3 : Nat → Int32 → Int64 → FM → Option (Int32 × FM)) (a0 : Nat) (M : FM) : Option (Int32 × FM) :=
  fi (fm_is M 75 75 a0 = true) (
  let x1 : Nat := (M.2.2 211 a0 0)
  fi (fm_is M 63 63 x1 = true) (
  (f0 x1 (Int32.ofInt 0) M).bind fun r2 =>
  fi (fm_is r2.2 75 75 a0 = true) (
  let x3 : Nat := (r2.2.2.2 211 a0 0)
  fi (fm_is r2.2 63 63 x3 = true) (
  (f0 x3 (Int32.ofInt 1) r2.2).bind fun r4 =>
  fi (fm_is r4.2 75 75 a0 = true) (
  (f1 a0 r2.1 (Int32.ofInt 2) r4.1.toInt32 r4.2).bind fun r5 =>
  fi (r5.1 = 0) (
    fi ((Int32.ofInt 0) = 0 ∨ (Int32.ofInt 0) = 1) (some ((Int32.ofInt 0), r5.2)) none) (
    fi (fm_is r5.2 75 75 a0 = true) (
    fi (fm_is r5.2 75 75 a0 = true) (
    fi (fm_is r5.2 75 75 a0 = true) (
    let x6 : Nat := (r5.2.2.2 212 a0 0)
    fi (fm_is r5.2 32 32 x6 = true) (
    fi (fm_is r5.2 75 75 a0 = true) (
    let x7 : Int32 := (((r5.2.1 219 a0 0).toUInt32 >>> ((Int32.ofInt 20).toUInt32 &&& Int32.toUInt32 31)).toInt32 &&& (Int32.ofInt 31))
    let x8 : Nat := (r5.2.2.2 93 x6 0)
    fi (fm_is r5.2 902 902 x8 = true ∧ fm_in r5.2 x8 x7 = true) (
    let x9 : Nat := (r5.2.2.2 217 a0 0)
    fi (fm_is r5.2 41 41 x9 = true) (
    (f2 x9 (r5.2.2.2 210 a0 0) (r5.2.2.1 3 x8 x7.toNatClampNeg) r5.2).bind fun M10 =>
    fi (fm_is M10 75 75 a0 = true) (
    let x11 : Nat := (M10.2.2 211 a0 0)
    fi (fm_is M10 63 63 x11 = true) (
    (f3 x11 (Int32.ofInt 0) (Int64.ofInt 0) M10).bind fun r12 =>
    fi ((Int32.ofInt 1) = 0 ∨ (Int32.ofInt 1) = 1) (some ((Int32.ofInt 1), r12.2)) none) none) none) none) none) none) none) none) none) none)) none) none) none) none) none
noncomputable def FX46_floatStore_0 (n : Nat) (a0 : Nat) (M : FM) : Option (Int32 × FM) := BX46_floatStore_0 FX47_wanted (FX46_locate n) (FX73_store n) FX47_finish a0 M
noncomputable def FX46_floatStore (n : Nat) (a0 : Nat) (M : FM) : Option (Int32 × FM) := FX46_floatStore_0 n a0 M
/-! BoardMachine$Floats$FloatUnit.isWritten()Z -/
noncomputable def BX59_isWritten_22 (s0 : Int32) (M : FM) : Option (Int32 × FM) :=
  fi (s0 = 0 ∨ s0 = 1) (some (s0, M)) none
noncomputable def FX59_isWritten_22 (s0 : Int32) (M : FM) : Option (Int32 × FM) := BX59_isWritten_22 s0 M
noncomputable def BX59_isWritten_17 (g22 : Int32 → FM → Option (Int32 × FM)) (M : FM) : Option (Int32 × FM) :=
  g22 (Int32.ofInt 1) M
noncomputable def FX59_isWritten_17 (M : FM) : Option (Int32 × FM) := BX59_isWritten_17 FX59_isWritten_22 M
noncomputable def BX59_isWritten_0 (g17 : FM → Option (Int32 × FM)) (g22 : Int32 → FM → Option (Int32 × FM)) (a0 : Nat) (M : FM) : Option (Int32 × FM) :=
  fi (fm_is M 32 32 a0 = true) (
  fi ((M.1 96 a0 0) = 0) (
    fi (fm_is M 32 32 a0 = true) (
    let x1 : Nat := (M.2.2 94 a0 0)
    fi (fm_is M 31 31 x1 = true) (
    fi ((M.1 92 x1 0) = 0) (
      g22 (Int32.ofInt 0) M) (
      g17 M)) none) none) (
    g17 M)) none
noncomputable def FX59_isWritten_0 (a0 : Nat) (M : FM) : Option (Int32 × FM) := BX59_isWritten_0 FX59_isWritten_17 FX59_isWritten_22 a0 M
noncomputable def FX59_isWritten (a0 : Nat) (M : FM) : Option (Int32 × FM) := FX59_isWritten_0 a0 M
/-! BoardMachine$Floats$FloatUnit.part(III)I -/
noncomputable def BX59_part_0 (a0 : Int32) (a1 : Int32) (a2 : Int32) (M : FM) : Option (Int32 × FM) :=
  some (((a0.toUInt32 >>> (a1.toUInt32 &&& Int32.toUInt32 31)).toInt32 &&& (((Int32.ofInt 1) <<< (a2 &&& 31)) - (Int32.ofInt 1))), M)
noncomputable def FX59_part_0 (a0 : Int32) (a1 : Int32) (a2 : Int32) (M : FM) : Option (Int32 × FM) := BX59_part_0 a0 a1 a2 M
noncomputable def FX59_part (a0 : Int32) (a1 : Int32) (a2 : Int32) (M : FM) : Option (Int32 × FM) := FX59_part_0 a0 a1 a2 M
/-! BoardMachine$Floats$FloatUnit.modeOf(I)LBoardMachine$Floats$Mode; -/
noncomputable def BX59_modeOf_42 (s0 : Nat) (M : FM) : Option (Nat × FM) :=
  some (s0, M)
noncomputable def FX59_modeOf_42 (s0 : Nat) (M : FM) : Option (Nat × FM) := BX59_modeOf_42 s0 M
noncomputable def BX59_modeOf_22 (g42 : Nat → FM → Option (Nat × FM)) (a0 : Nat) (s0 : Int32) (M : FM) : Option (Nat × FM) :=
  fi (fm_is M 32 32 a0 = true) (
  let x1 : Nat := (M.2.2 99 a0 0)
  fi (fm_is M 901 990 x1 = true) (
  fi ((Int32.ofNat (M.2.2 1 x1 0)) ≤ s0) (
    g42 0 M) (
    fi (fm_is M 32 32 a0 = true) (
    let x2 : Nat := (M.2.2 99 a0 0)
    fi (fm_is M 910 990 x2 = true ∧ fm_in M x2 s0 = true) (
    g42 (M.2.2 3 x2 s0.toNatClampNeg) M) none) none)) none) none
noncomputable def FX59_modeOf_22 (a0 : Nat) (s0 : Int32) (M : FM) : Option (Nat × FM) := BX59_modeOf_22 FX59_modeOf_42 a0 s0 M
noncomputable def BX59_modeOf_0 (f0 : Int32 → Int32 → Int32 → FM → Option (Int32 × FM)) (g22 : Nat → Int32 → FM → Option (Nat × FM)) (a0 : Nat) (a1 : Int32) (M : FM) : Option (Nat × FM) :=
  (f0 a1 (Int32.ofInt 12) (Int32.ofInt 3) M).bind fun r1 =>
  fi (r1.1 = (Int32.ofInt 7)) (
    fi (fm_is r1.2 32 32 a0 = true) (
    g22 a0 (r1.2.1 95 a0 0) r1.2) none) (
    g22 a0 r1.1 r1.2)
noncomputable def FX59_modeOf_0 (a0 : Nat) (a1 : Int32) (M : FM) : Option (Nat × FM) := BX59_modeOf_0 FX59_part FX59_modeOf_22 a0 a1 M
noncomputable def FX59_modeOf (a0 : Nat) (a1 : Int32) (M : FM) : Option (Nat × FM) := FX59_modeOf_0 a0 a1 M
/-! BoardMachine$Floats$FloatUnit.isDouble(LBoardMachine$Floats$Format;)Z -/
noncomputable def BX59_isDouble_14 (s0 : Int32) (M : FM) : Option (Int32 × FM) :=
  fi (s0 = 0 ∨ s0 = 1) (some (s0, M)) none
noncomputable def FX59_isDouble_14 (s0 : Int32) (M : FM) : Option (Int32 × FM) := BX59_isDouble_14 s0 M
noncomputable def BX59_isDouble_0 (g14 : Int32 → FM → Option (Int32 × FM)) (a0 : Nat) (M : FM) : Option (Int32 × FM) :=
  fi (fm_is M 33 33 a0 = true) (
  fi ((M.1 111 a0 0) = (Int32.ofInt 63)) (
    g14 (Int32.ofInt 1) M) (
    g14 (Int32.ofInt 0) M)) none
noncomputable def FX59_isDouble_0 (a0 : Nat) (M : FM) : Option (Int32 × FM) := BX59_isDouble_0 FX59_isDouble_14 a0 M
noncomputable def FX59_isDouble (a0 : Nat) (M : FM) : Option (Int32 × FM) := FX59_isDouble_0 a0 M
/-! BoardMachine$Floats$Format.top()J -/
noncomputable def BX61_top_0 (a0 : Nat) (M : FM) : Option (Int64 × FM) :=
  fi (fm_is M 33 33 a0 = true) (
  fi (fm_is M 33 33 a0 = true) (
  some (((((Int64.ofInt 2) * (M.1 110 a0 0).toInt64) + (Int64.ofInt 1)) <<< ((M.1 109 a0 0).toInt64 &&& 63)), M)) none) none
noncomputable def FX61_top_0 (a0 : Nat) (M : FM) : Option (Int64 × FM) := BX61_top_0 a0 M
noncomputable def FX61_top (a0 : Nat) (M : FM) : Option (Int64 × FM) := FX61_top_0 a0 M
