/-! functions of methods, printed by gen/defs.py -/
set_option maxRecDepth 100000
/-! BoardMachine$Walks$Translator.find(JIII)J -/
noncomputable def BX84_find_90 (s0 : Int64) (M : FM) : Option (Int64 × FM) :=
  some (s0, M)
noncomputable def FX84_find_90 (n : Nat) (s0 : Int64) (M : FM) : Option (Int64 × FM) := BX84_find_90 s0 M
noncomputable def BX84_find_79 (g90 : Int64 → FM → Option (Int64 × FM)) (a6 : Int64) (M : FM) : Option (Int64 × FM) :=
  g90 a6 M
noncomputable def FX84_find_79 (n : Nat) (a6 : Int64) (M : FM) : Option (Int64 × FM) := BX84_find_79 (FX84_find_90 n ) a6 M
noncomputable def BX84_find_55 (f1 : Nat → Int32 → Int32 → FM → Option (Int64 × FM)) (f3 : Nat → Int64 → Int32 → Int32 → Int32 → FM → Option (Int32 × FM)) (g79 : Int64 → FM → Option (Int64 × FM)) (g90 : Int64 → FM → Option (Int64 × FM)) (a0 : Nat) (a3 : Int32) (a4 : Int32) (a5 : Int32) (a6 : Int64) (M : FM) : Option (Int64 × FM) :=
  fi ((lg_cmp a6 (Int64.ofInt 0)) < 0) (
    g79 a6 M) (
    fi (fm_is M 91 91 a0 = true) (
    let x1 : Nat := (M.2.2 288 a0 0)
    fi (fm_is M 90 90 x1 = true) (
    (f3 x1 a6 a5 a3 a4 M).bind fun r2 =>
    fi (r2.1 = 0) (
      fi (fm_is r2.2 91 91 a0 = true) (
      (f1 a0 a3 (Int32.ofInt 0) r2.2).bind fun r3 =>
      g90 r3.1 r3.2) none) (
      g79 a6 r2.2)) none) none)
noncomputable def FX84_find_55 (n : Nat) (a0 : Nat) (a3 : Int32) (a4 : Int32) (a5 : Int32) (a6 : Int64) (M : FM) : Option (Int64 × FM) := BX84_find_55 FX84_fault (FX86_let n) (FX84_find_79 n ) (FX84_find_90 n ) a0 a3 a4 a5 a6 M
noncomputable def BX84_find_40 (g55 : Nat → Int32 → Int32 → Int32 → Int64 → FM → Option (Int64 × FM)) (a0 : Nat) (a3 : Int32) (a4 : Int32) (a5 : Int32) (s0 : Int64) (M : FM) : Option (Int64 × FM) :=
  g55 a0 a3 a4 a5 s0 M
noncomputable def FX84_find_40 (n : Nat) (a0 : Nat) (a3 : Int32) (a4 : Int32) (a5 : Int32) (s0 : Int64) (M : FM) : Option (Int64 × FM) := BX84_find_40 (FX84_find_55 n ) a0 a3 a4 a5 s0 M
noncomputable def BX84_find_21 (f1 : Nat → Int32 → Int32 → FM → Option (Int64 × FM)) (g40 : Nat → Int32 → Int32 → Int32 → Int64 → FM → Option (Int64 × FM)) (a0 : Nat) (a1 : Int64) (a3 : Int32) (a4 : Int32) (a5 : Int32) (M : FM) : Option (Int64 × FM) :=
  fi ((lg_cmp ((a1.toUInt64 >>> ((Int32.ofInt 56).toInt64.toUInt64 &&& Int64.toUInt64 63)).toInt64) (Int64.ofInt 0)) = 0) (
    g40 a0 a3 a4 a5 a1 M) (
    fi (fm_is M 91 91 a0 = true) (
    (f1 a0 a3 (Int32.ofInt 0) M).bind fun r1 =>
    g40 a0 a3 a4 a5 r1.1 r1.2) none)
noncomputable def FX84_find_21 (n : Nat) (a0 : Nat) (a1 : Int64) (a3 : Int32) (a4 : Int32) (a5 : Int32) (M : FM) : Option (Int64 × FM) := BX84_find_21 FX84_fault (FX84_find_40 n ) a0 a1 a3 a4 a5 M
noncomputable def BX84_find_0 (f0 : Int64 → Int32 → Int32 → FM → Option (Int64 × FM)) (f2 : Nat → Int64 → Int32 → Int32 → FM → Option (Int64 × FM)) (g21 : Nat → Int64 → Int32 → Int32 → Int32 → FM → Option (Int64 × FM)) (g55 : Nat → Int32 → Int32 → Int32 → Int64 → FM → Option (Int64 × FM)) (a0 : Nat) (a1 : Int64) (a3 : Int32) (a4 : Int32) (a5 : Int32) (M : FM) : Option (Int64 × FM) :=
  fi (a4 = (Int32.ofInt 3)) (
    g21 a0 a1 a3 a4 a5 M) (
    fi (fm_is M 91 91 a0 = true) (
    (f0 (M.2.1 289 a0 0) (Int32.ofInt 60) (Int32.ofInt 4) M).bind fun r1 =>
    fi ((lg_cmp r1.1 (Int64.ofInt 0)) = 0) (
      g21 a0 a1 a3 a4 a5 r1.2) (
      fi (fm_is r1.2 91 91 a0 = true) (
      (f2 a0 a1 a3 a4 r1.2).bind fun r2 =>
      g55 a0 a3 a4 a5 r2.1 r2.2) none)) none)
noncomputable def FX84_find_0 (n : Nat) (a0 : Nat) (a1 : Int64) (a3 : Int32) (a4 : Int32) (a5 : Int32) (M : FM) : Option (Int64 × FM) := BX84_find_0 FX102_bits (FX84_translate n) (FX84_find_21 n ) (FX84_find_55 n ) a0 a1 a3 a4 a5 M
noncomputable def FX84_find (n : Nat) (a0 : Nat) (a1 : Int64) (a3 : Int32) (a4 : Int32) (a5 : Int32) (M : FM) : Option (Int64 × FM) := FX84_find_0 n a0 a1 a3 a4 a5 M
/-! BoardMachine$Processor.find(JIII)J -/
noncomputable def BX46_find_0 (f0 : Nat → FM → Option (Nat × FM)) (f1 : Nat → Int64 → Int32 → Int32 → Int32 → FM → Option (Int64 × FM)) (a0 : Nat) (a1 : Int64) (a3 : Int32) (a4 : Int32) (a5 : Int32) (M : FM) : Option (Int64 × FM) :=
  fi (fm_is M 75 75 a0 = true) (
  fi (fm_is M 75 75 a0 = true) (
  (f0 a0 M).bind fun r1 =>
  fi (fm_is r1.2 14 17 r1.1 = true) (
  let x2 : Nat := (M.2.2 214 a0 0)
  fi (fm_is r1.2 91 91 x2 = true) (
  let M3 : FM := fm_sL r1.2 289 x2 0 (r1.2.2.1 41 r1.1 0)
  fi (fm_is M3 75 75 a0 = true) (
  fi (fm_is M3 75 75 a0 = true) (
  let x4 : Nat := (M3.2.2 213 a0 0)
  fi (fm_is M3 12 12 x4 = true) (
  let x5 : Nat := (M3.2.2 27 x4 0)
  fi (fm_is M3 16 16 x5 = true) (
  let x6 : Nat := (M3.2.2 214 a0 0)
  fi (fm_is M3 91 91 x6 = true) (
  let M7 : FM := fm_sI M3 290 x6 0 (((M3.2.1 41 x5 0) >>> ((Int32.ofInt 18).toInt64 &&& 63)).toInt32 &&& (Int32.ofInt 3))
  fi (fm_is M7 75 75 a0 = true) (
  let x8 : Nat := (M7.2.2 214 a0 0)
  fi (fm_is M7 91 91 x8 = true) (
  (f1 x8 a1 a3 a4 a5 M7).bind fun r9 =>
  some (r9.1, r9.2)) none) none) none) none) none) none) none) none) none) none) none
noncomputable def FX46_find_0 (n : Nat) (a0 : Nat) (a1 : Int64) (a3 : Int32) (a4 : Int32) (a5 : Int32) (M : FM) : Option (Int64 × FM) := BX46_find_0 FX46_table (FX84_find n) a0 a1 a3 a4 a5 M
noncomputable def FX46_find (n : Nat) (a0 : Nat) (a1 : Int64) (a3 : Int32) (a4 : Int32) (a5 : Int32) (M : FM) : Option (Int64 × FM) := FX46_find_0 n a0 a1 a3 a4 a5 M
/-! BoardMachine$Controls$Masked.write(J)V -/
noncomputable def BX77_write_0 (a0 : Nat) (a1 : Int64) (M : FM) : Option (FM) :=
  fi (fm_is M 14 17 a0 = true) (
  fi (fm_is M 14 17 a0 = true) (
  fi (fm_is M 14 17 a0 = true) (
  fi (fm_is M 14 17 a0 = true) (
  let M1 : FM := fm_sL M 41 a0 0 (((M.2.1 41 a0 0) &&& ((M.2.1 42 a0 0) ^^^ (Int64.ofInt (-1)))) ||| (a1 &&& (M.2.1 42 a0 0)))
  some M1) none) none) none) none
noncomputable def FX77_write_0 (a0 : Nat) (a1 : Int64) (M : FM) : Option (FM) := BX77_write_0 a0 a1 M
noncomputable def FX77_write (a0 : Nat) (a1 : Int64) (M : FM) : Option (FM) := FX77_write_0 a0 a1 M
/-! BoardMachine$Controls$Status.putTwo(II)V -/
noncomputable def BX78_putTwo_0 (a0 : Nat) (a1 : Int32) (a2 : Int32) (M : FM) : Option (FM) :=
  fi (fm_is M 16 16 a0 = true) (
  fi (fm_is M 16 16 a0 = true) (
  let M1 : FM := fm_sL M 41 a0 0 (((M.2.1 41 a0 0) &&& (((Int64.ofInt 3) <<< (a1.toInt64 &&& 63)) ^^^ (Int64.ofInt (-1)))) ||| (a2.toInt64 <<< (a1.toInt64 &&& 63)))
  some M1) none) none
noncomputable def FX78_putTwo_0 (a0 : Nat) (a1 : Int32) (a2 : Int32) (M : FM) : Option (FM) := BX78_putTwo_0 a0 a1 a2 M
noncomputable def FX78_putTwo (a0 : Nat) (a1 : Int32) (a2 : Int32) (M : FM) : Option (FM) := FX78_putTwo_0 a0 a1 a2 M
/-! BoardMachine$Controls$Status.write(J)V -/
noncomputable def BX78_write_29 (M : FM) : Option (FM) :=
  some M
noncomputable def FX78_write_29 (M : FM) : Option (FM) := BX78_write_29 M
noncomputable def BX78_write_0 (f0 : Nat → Int32 → FM → Option (Int32 × FM)) (f1 : Nat → Int64 → FM → Option (FM)) (f2 : Nat → Int32 → Int32 → FM → Option (FM)) (g29 : FM → Option (FM)) (a0 : Nat) (a1 : Int64) (M : FM) : Option (FM) :=
  fi (fm_is M 16 16 a0 = true) (
  (f0 a0 (Int32.ofInt 11) M).bind fun r1 =>
  fi (fm_is r1.2 16 16 a0 = true) (
  (f1 a0 a1 r1.2).bind fun M2 =>
  fi (fm_is M2 16 16 a0 = true) (
  (f0 a0 (Int32.ofInt 11) M2).bind fun r3 =>
  fi (r3.1 = (Int32.ofInt 2)) (
    fi (fm_is r3.2 16 16 a0 = true) (
    (f2 a0 (Int32.ofInt 11) r1.1 r3.2).bind fun M4 =>
    g29 M4) none) (
    g29 r3.2)) none) none) none
noncomputable def FX78_write_0 (a0 : Nat) (a1 : Int64) (M : FM) : Option (FM) := BX78_write_0 FX78_two FX77_write FX78_putTwo FX78_write_29 a0 a1 M
noncomputable def FX78_write (a0 : Nat) (a1 : Int64) (M : FM) : Option (FM) := FX78_write_0 a0 a1 M
/-! BoardMachine$Controls$TableRegister.write(J)V -/
noncomputable def BX82_write_27 (M : FM) : Option (FM) :=
  some M
noncomputable def FX82_write_27 (M : FM) : Option (FM) := BX82_write_27 M
noncomputable def BX82_write_22 (f0 : Nat → Int64 → FM → Option (FM)) (g27 : FM → Option (FM)) (a0 : Nat) (a1 : Int64) (M : FM) : Option (FM) :=
  fi (fm_is M 17 17 a0 = true) (
  (f0 a0 a1 M).bind fun M1 =>
  g27 M1) none
noncomputable def FX82_write_22 (a0 : Nat) (a1 : Int64) (M : FM) : Option (FM) := BX82_write_22 FX77_write FX82_write_27 a0 a1 M
noncomputable def BX82_write_0 (g22 : Nat → Int64 → FM → Option (FM)) (g27 : FM → Option (FM)) (a0 : Nat) (a1 : Int64) (M : FM) : Option (FM) :=
  let x1 : Int32 := ((a1.toUInt64 >>> ((Int32.ofInt 60).toInt64.toUInt64 &&& Int64.toUInt64 63)).toInt64).toInt32
  fi (x1 = 0) (
    g22 a0 a1 M) (
    fi (x1 = (Int32.ofInt 8)) (
      g22 a0 a1 M) (
      fi (x1 = (Int32.ofInt 9)) (
        g22 a0 a1 M) (
        g27 M)))
noncomputable def FX82_write_0 (a0 : Nat) (a1 : Int64) (M : FM) : Option (FM) := BX82_write_0 FX82_write_22 FX82_write_27 a0 a1 M
noncomputable def FX82_write (a0 : Nat) (a1 : Int64) (M : FM) : Option (FM) := FX82_write_0 a0 a1 M
/-! BoardMachine$Controls$TrapBank.take(ZIJJ)J -/
noncomputable def BX80_take_84 (s0 : Int64) (M : FM) : Option (Int64 × FM) :=
  some (s0, M)
noncomputable def FX80_take_84 (s0 : Int64) (M : FM) : Option (Int64 × FM) := BX80_take_84 s0 M
noncomputable def BX80_take_82 (g84 : Int64 → FM → Option (Int64 × FM)) (a7 : Int64) (M : FM) : Option (Int64 × FM) :=
  g84 a7 M
noncomputable def FX80_take_82 (a7 : Int64) (M : FM) : Option (Int64 × FM) := BX80_take_82 FX80_take_84 a7 M
noncomputable def BX80_take_28 (f0 : Nat → Int64 → FM → Option (FM)) (f1 : Nat → Int64 → FM → Option (FM)) (f2 : Nat → Int64 → FM → Option (FM)) (f3 : Nat → FM → Option (Int64 × FM)) (f4 : Nat → FM → Option (Int64 × FM)) (f5 : Nat → FM → Option (Int64 × FM)) (g82 : Int64 → FM → Option (Int64 × FM)) (g84 : Int64 → FM → Option (Int64 × FM)) (a0 : Nat) (a1 : Int32) (a2 : Int32) (a3 : Int64) (s0 : Nat) (s1 : Int64) (M : FM) : Option (Int64 × FM) :=
  fi (fm_is M 14 14 s0 = true) (
  (f0 s0 s1 M).bind fun M1 =>
  fi (fm_is M1 20 20 a0 = true) (
  let x2 : Nat := (M1.2.2 53 a0 0)
  fi (fm_is M1 14 14 x2 = true) (
  (f0 x2 a3 M1).bind fun M3 =>
  fi (fm_is M3 20 20 a0 = true) (
  let x4 : Nat := (M3.2.2 49 a0 0)
  fi (fm_is M3 14 14 x4 = true) (
  (f3 x4 M3).bind fun r5 =>
  let x6 : Int64 := (r5.1 &&& (Int64.ofInt (-4)))
  fi (a1 = 0) (
    g82 x6 r5.2) (
    fi (fm_is r5.2 20 20 a0 = true) (
    let x7 : Nat := (r5.2.2.2 49 a0 0)
    fi (fm_is r5.2 14 14 x7 = true) (
    (f3 x7 r5.2).bind fun r8 =>
    fi ((lg_cmp (r8.1 &&& (Int64.ofInt 1)) (Int64.ofInt 1)) = 0) (
      g84 (x6 + ((Int64.ofInt 4) * a2.toInt64)) r8.2) (
      g82 x6 r8.2)) (fi (fm_is r5.2 15 15 x7 = true) (
    (f4 x7 r5.2).bind fun r9 =>
    fi ((lg_cmp (r9.1 &&& (Int64.ofInt 1)) (Int64.ofInt 1)) = 0) (
      g84 (x6 + ((Int64.ofInt 4) * a2.toInt64)) r9.2) (
      g82 x6 r9.2)) (fi (fm_is r5.2 16 16 x7 = true) (
    (f5 x7 r5.2).bind fun r10 =>
    fi ((lg_cmp (r10.1 &&& (Int64.ofInt 1)) (Int64.ofInt 1)) = 0) (
      g84 (x6 + ((Int64.ofInt 4) * a2.toInt64)) r10.2) (
      g82 x6 r10.2)) (fi (fm_is r5.2 17 17 x7 = true) (
    (f3 x7 r5.2).bind fun r11 =>
    fi ((lg_cmp (r11.1 &&& (Int64.ofInt 1)) (Int64.ofInt 1)) = 0) (
      g84 (x6 + ((Int64.ofInt 4) * a2.toInt64)) r11.2) (
      g82 x6 r11.2)) (none))))) none)) (fi (fm_is M3 15 15 x4 = true) (
  (f4 x4 M3).bind fun r12 =>
  let x13 : Int64 := (r12.1 &&& (Int64.ofInt (-4)))
  fi (a1 = 0) (
    g82 x13 r12.2) (
    fi (fm_is r12.2 20 20 a0 = true) (
    let x14 : Nat := (r12.2.2.2 49 a0 0)
    fi (fm_is r12.2 14 14 x14 = true) (
    (f3 x14 r12.2).bind fun r15 =>
    fi ((lg_cmp (r15.1 &&& (Int64.ofInt 1)) (Int64.ofInt 1)) = 0) (
      g84 (x13 + ((Int64.ofInt 4) * a2.toInt64)) r15.2) (
      g82 x13 r15.2)) (fi (fm_is r12.2 15 15 x14 = true) (
    (f4 x14 r12.2).bind fun r16 =>
    fi ((lg_cmp (r16.1 &&& (Int64.ofInt 1)) (Int64.ofInt 1)) = 0) (
      g84 (x13 + ((Int64.ofInt 4) * a2.toInt64)) r16.2) (
      g82 x13 r16.2)) (fi (fm_is r12.2 16 16 x14 = true) (
    (f5 x14 r12.2).bind fun r17 =>
    fi ((lg_cmp (r17.1 &&& (Int64.ofInt 1)) (Int64.ofInt 1)) = 0) (
      g84 (x13 + ((Int64.ofInt 4) * a2.toInt64)) r17.2) (
      g82 x13 r17.2)) (fi (fm_is r12.2 17 17 x14 = true) (
    (f3 x14 r12.2).bind fun r18 =>
    fi ((lg_cmp (r18.1 &&& (Int64.ofInt 1)) (Int64.ofInt 1)) = 0) (
      g84 (x13 + ((Int64.ofInt 4) * a2.toInt64)) r18.2) (
      g82 x13 r18.2)) (none))))) none)) (fi (fm_is M3 16 16 x4 = true) (
  (f5 x4 M3).bind fun r19 =>
  let x20 : Int64 := (r19.1 &&& (Int64.ofInt (-4)))
  fi (a1 = 0) (
    g82 x20 r19.2) (
    fi (fm_is r19.2 20 20 a0 = true) (
    let x21 : Nat := (r19.2.2.2 49 a0 0)
    fi (fm_is r19.2 14 14 x21 = true) (
    (f3 x21 r19.2).bind fun r22 =>
    fi ((lg_cmp (r22.1 &&& (Int64.ofInt 1)) (Int64.ofInt 1)) = 0) (
      g84 (x20 + ((Int64.ofInt 4) * a2.toInt64)) r22.2) (
      g82 x20 r22.2)) (fi (fm_is r19.2 15 15 x21 = true) (
    (f4 x21 r19.2).bind fun r23 =>
    fi ((lg_cmp (r23.1 &&& (Int64.ofInt 1)) (Int64.ofInt 1)) = 0) (
      g84 (x20 + ((Int64.ofInt 4) * a2.toInt64)) r23.2) (
      g82 x20 r23.2)) (fi (fm_is r19.2 16 16 x21 = true) (
    (f5 x21 r19.2).bind fun r24 =>
    fi ((lg_cmp (r24.1 &&& (Int64.ofInt 1)) (Int64.ofInt 1)) = 0) (
      g84 (x20 + ((Int64.ofInt 4) * a2.toInt64)) r24.2) (
      g82 x20 r24.2)) (fi (fm_is r19.2 17 17 x21 = true) (
    (f3 x21 r19.2).bind fun r25 =>
    fi ((lg_cmp (r25.1 &&& (Int64.ofInt 1)) (Int64.ofInt 1)) = 0) (
      g84 (x20 + ((Int64.ofInt 4) * a2.toInt64)) r25.2) (
      g82 x20 r25.2)) (none))))) none)) (fi (fm_is M3 17 17 x4 = true) (
  (f3 x4 M3).bind fun r26 =>
  let x27 : Int64 := (r26.1 &&& (Int64.ofInt (-4)))
  fi (a1 = 0) (
    g82 x27 r26.2) (
    fi (fm_is r26.2 20 20 a0 = true) (
    let x28 : Nat := (r26.2.2.2 49 a0 0)
    fi (fm_is r26.2 14 14 x28 = true) (
    (f3 x28 r26.2).bind fun r29 =>
    fi ((lg_cmp (r29.1 &&& (Int64.ofInt 1)) (Int64.ofInt 1)) = 0) (
      g84 (x27 + ((Int64.ofInt 4) * a2.toInt64)) r29.2) (
      g82 x27 r29.2)) (fi (fm_is r26.2 15 15 x28 = true) (
    (f4 x28 r26.2).bind fun r30 =>
    fi ((lg_cmp (r30.1 &&& (Int64.ofInt 1)) (Int64.ofInt 1)) = 0) (
      g84 (x27 + ((Int64.ofInt 4) * a2.toInt64)) r30.2) (
      g82 x27 r30.2)) (fi (fm_is r26.2 16 16 x28 = true) (
    (f5 x28 r26.2).bind fun r31 =>
    fi ((lg_cmp (r31.1 &&& (Int64.ofInt 1)) (Int64.ofInt 1)) = 0) (
      g84 (x27 + ((Int64.ofInt 4) * a2.toInt64)) r31.2) (
      g82 x27 r31.2)) (fi (fm_is r26.2 17 17 x28 = true) (
    (f3 x28 r26.2).bind fun r32 =>
    fi ((lg_cmp (r32.1 &&& (Int64.ofInt 1)) (Int64.ofInt 1)) = 0) (
      g84 (x27 + ((Int64.ofInt 4) * a2.toInt64)) r32.2) (
      g82 x27 r32.2)) (none))))) none)) (none))))) none) (fi (fm_is M1 15 15 x2 = true) (
  (f0 x2 a3 M1).bind fun M33 =>
  fi (fm_is M33 20 20 a0 = true) (
  let x34 : Nat := (M33.2.2 49 a0 0)
  fi (fm_is M33 14 14 x34 = true) (
  (f3 x34 M33).bind fun r35 =>
  let x36 : Int64 := (r35.1 &&& (Int64.ofInt (-4)))
  fi (a1 = 0) (
    g82 x36 r35.2) (
    fi (fm_is r35.2 20 20 a0 = true) (
    let x37 : Nat := (r35.2.2.2 49 a0 0)
    fi (fm_is r35.2 14 14 x37 = true) (
    (f3 x37 r35.2).bind fun r38 =>
    fi ((lg_cmp (r38.1 &&& (Int64.ofInt 1)) (Int64.ofInt 1)) = 0) (
      g84 (x36 + ((Int64.ofInt 4) * a2.toInt64)) r38.2) (
      g82 x36 r38.2)) (fi (fm_is r35.2 15 15 x37 = true) (
    (f4 x37 r35.2).bind fun r39 =>
    fi ((lg_cmp (r39.1 &&& (Int64.ofInt 1)) (Int64.ofInt 1)) = 0) (
      g84 (x36 + ((Int64.ofInt 4) * a2.toInt64)) r39.2) (
      g82 x36 r39.2)) (fi (fm_is r35.2 16 16 x37 = true) (
    (f5 x37 r35.2).bind fun r40 =>
    fi ((lg_cmp (r40.1 &&& (Int64.ofInt 1)) (Int64.ofInt 1)) = 0) (
      g84 (x36 + ((Int64.ofInt 4) * a2.toInt64)) r40.2) (
      g82 x36 r40.2)) (fi (fm_is r35.2 17 17 x37 = true) (
    (f3 x37 r35.2).bind fun r41 =>
    fi ((lg_cmp (r41.1 &&& (Int64.ofInt 1)) (Int64.ofInt 1)) = 0) (
      g84 (x36 + ((Int64.ofInt 4) * a2.toInt64)) r41.2) (
      g82 x36 r41.2)) (none))))) none)) (fi (fm_is M33 15 15 x34 = true) (
  (f4 x34 M33).bind fun r42 =>
  let x43 : Int64 := (r42.1 &&& (Int64.ofInt (-4)))
  fi (a1 = 0) (
    g82 x43 r42.2) (
    fi (fm_is r42.2 20 20 a0 = true) (
    let x44 : Nat := (r42.2.2.2 49 a0 0)
    fi (fm_is r42.2 14 14 x44 = true) (
    (f3 x44 r42.2).bind fun r45 =>
    fi ((lg_cmp (r45.1 &&& (Int64.ofInt 1)) (Int64.ofInt 1)) = 0) (
      g84 (x43 + ((Int64.ofInt 4) * a2.toInt64)) r45.2) (
      g82 x43 r45.2)) (fi (fm_is r42.2 15 15 x44 = true) (
    (f4 x44 r42.2).bind fun r46 =>
    fi ((lg_cmp (r46.1 &&& (Int64.ofInt 1)) (Int64.ofInt 1)) = 0) (
      g84 (x43 + ((Int64.ofInt 4) * a2.toInt64)) r46.2) (
      g82 x43 r46.2)) (fi (fm_is r42.2 16 16 x44 = true) (
    (f5 x44 r42.2).bind fun r47 =>
    fi ((lg_cmp (r47.1 &&& (Int64.ofInt 1)) (Int64.ofInt 1)) = 0) (
      g84 (x43 + ((Int64.ofInt 4) * a2.toInt64)) r47.2) (
      g82 x43 r47.2)) (fi (fm_is r42.2 17 17 x44 = true) (
    (f3 x44 r42.2).bind fun r48 =>
    fi ((lg_cmp (r48.1 &&& (Int64.ofInt 1)) (Int64.ofInt 1)) = 0) (
      g84 (x43 + ((Int64.ofInt 4) * a2.toInt64)) r48.2) (
      g82 x43 r48.2)) (none))))) none)) (fi (fm_is M33 16 16 x34 = true) (
  (f5 x34 M33).bind fun r49 =>
  let x50 : Int64 := (r49.1 &&& (Int64.ofInt (-4)))
  fi (a1 = 0) (
    g82 x50 r49.2) (
    fi (fm_is r49.2 20 20 a0 = true) (
    let x51 : Nat := (r49.2.2.2 49 a0 0)
    fi (fm_is r49.2 14 14 x51 = true) (
    (f3 x51 r49.2).bind fun r52 =>
    fi ((lg_cmp (r52.1 &&& (Int64.ofInt 1)) (Int64.ofInt 1)) = 0) (
      g84 (x50 + ((Int64.ofInt 4) * a2.toInt64)) r52.2) (
      g82 x50 r52.2)) (fi (fm_is r49.2 15 15 x51 = true) (
    (f4 x51 r49.2).bind fun r53 =>
    fi ((lg_cmp (r53.1 &&& (Int64.ofInt 1)) (Int64.ofInt 1)) = 0) (
      g84 (x50 + ((Int64.ofInt 4) * a2.toInt64)) r53.2) (
      g82 x50 r53.2)) (fi (fm_is r49.2 16 16 x51 = true) (
    (f5 x51 r49.2).bind fun r54 =>
    fi ((lg_cmp (r54.1 &&& (Int64.ofInt 1)) (Int64.ofInt 1)) = 0) (
      g84 (x50 + ((Int64.ofInt 4) * a2.toInt64)) r54.2) (
      g82 x50 r54.2)) (fi (fm_is r49.2 17 17 x51 = true) (
    (f3 x51 r49.2).bind fun r55 =>
    fi ((lg_cmp (r55.1 &&& (Int64.ofInt 1)) (Int64.ofInt 1)) = 0) (
      g84 (x50 + ((Int64.ofInt 4) * a2.toInt64)) r55.2) (
      g82 x50 r55.2)) (none))))) none)) (fi (fm_is M33 17 17 x34 = true) (
  (f3 x34 M33).bind fun r56 =>
  let x57 : Int64 := (r56.1 &&& (Int64.ofInt (-4)))
  fi (a1 = 0) (
    g82 x57 r56.2) (
    fi (fm_is r56.2 20 20 a0 = true) (
    let x58 : Nat := (r56.2.2.2 49 a0 0)
    fi (fm_is r56.2 14 14 x58 = true) (
    (f3 x58 r56.2).bind fun r59 =>
    fi ((lg_cmp (r59.1 &&& (Int64.ofInt 1)) (Int64.ofInt 1)) = 0) (
      g84 (x57 + ((Int64.ofInt 4) * a2.toInt64)) r59.2) (
      g82 x57 r59.2)) (fi (fm_is r56.2 15 15 x58 = true) (
    (f4 x58 r56.2).bind fun r60 =>
    fi ((lg_cmp (r60.1 &&& (Int64.ofInt 1)) (Int64.ofInt 1)) = 0) (
      g84 (x57 + ((Int64.ofInt 4) * a2.toInt64)) r60.2) (
      g82 x57 r60.2)) (fi (fm_is r56.2 16 16 x58 = true) (
    (f5 x58 r56.2).bind fun r61 =>
    fi ((lg_cmp (r61.1 &&& (Int64.ofInt 1)) (Int64.ofInt 1)) = 0) (
      g84 (x57 + ((Int64.ofInt 4) * a2.toInt64)) r61.2) (
      g82 x57 r61.2)) (fi (fm_is r56.2 17 17 x58 = true) (
    (f3 x58 r56.2).bind fun r62 =>
    fi ((lg_cmp (r62.1 &&& (Int64.ofInt 1)) (Int64.ofInt 1)) = 0) (
      g84 (x57 + ((Int64.ofInt 4) * a2.toInt64)) r62.2) (
      g82 x57 r62.2)) (none))))) none)) (none))))) none) (fi (fm_is M1 16 16 x2 = true) (
  (f1 x2 a3 M1).bind fun M63 =>
  fi (fm_is M63 20 20 a0 = true) (
  let x64 : Nat := (M63.2.2 49 a0 0)
  fi (fm_is M63 14 14 x64 = true) (
  (f3 x64 M63).bind fun r65 =>
  let x66 : Int64 := (r65.1 &&& (Int64.ofInt (-4)))
  fi (a1 = 0) (
    g82 x66 r65.2) (
    fi (fm_is r65.2 20 20 a0 = true) (
    let x67 : Nat := (r65.2.2.2 49 a0 0)
    fi (fm_is r65.2 14 14 x67 = true) (
    (f3 x67 r65.2).bind fun r68 =>
    fi ((lg_cmp (r68.1 &&& (Int64.ofInt 1)) (Int64.ofInt 1)) = 0) (
      g84 (x66 + ((Int64.ofInt 4) * a2.toInt64)) r68.2) (
      g82 x66 r68.2)) (fi (fm_is r65.2 15 15 x67 = true) (
    (f4 x67 r65.2).bind fun r69 =>
    fi ((lg_cmp (r69.1 &&& (Int64.ofInt 1)) (Int64.ofInt 1)) = 0) (
      g84 (x66 + ((Int64.ofInt 4) * a2.toInt64)) r69.2) (
      g82 x66 r69.2)) (fi (fm_is r65.2 16 16 x67 = true) (
    (f5 x67 r65.2).bind fun r70 =>
    fi ((lg_cmp (r70.1 &&& (Int64.ofInt 1)) (Int64.ofInt 1)) = 0) (
      g84 (x66 + ((Int64.ofInt 4) * a2.toInt64)) r70.2) (
      g82 x66 r70.2)) (fi (fm_is r65.2 17 17 x67 = true) (
    (f3 x67 r65.2).bind fun r71 =>
    fi ((lg_cmp (r71.1 &&& (Int64.ofInt 1)) (Int64.ofInt 1)) = 0) (
      g84 (x66 + ((Int64.ofInt 4) * a2.toInt64)) r71.2) (
      g82 x66 r71.2)) (none))))) none)) (fi (fm_is M63 15 15 x64 = true) (
  (f4 x64 M63).bind fun r72 =>
  let x73 : Int64 := (r72.1 &&& (Int64.ofInt (-4)))
  fi (a1 = 0) (
    g82 x73 r72.2) (
    fi (fm_is r72.2 20 20 a0 = true) (
    let x74 : Nat := (r72.2.2.2 49 a0 0)
    fi (fm_is r72.2 14 14 x74 = true) (
    (f3 x74 r72.2).bind fun r75 =>
    fi ((lg_cmp (r75.1 &&& (Int64.ofInt 1)) (Int64.ofInt 1)) = 0) (
      g84 (x73 + ((Int64.ofInt 4) * a2.toInt64)) r75.2) (
      g82 x73 r75.2)) (fi (fm_is r72.2 15 15 x74 = true) (
    (f4 x74 r72.2).bind fun r76 =>
    fi ((lg_cmp (r76.1 &&& (Int64.ofInt 1)) (Int64.ofInt 1)) = 0) (
      g84 (x73 + ((Int64.ofInt 4) * a2.toInt64)) r76.2) (
      g82 x73 r76.2)) (fi (fm_is r72.2 16 16 x74 = true) (
    (f5 x74 r72.2).bind fun r77 =>
    fi ((lg_cmp (r77.1 &&& (Int64.ofInt 1)) (Int64.ofInt 1)) = 0) (
      g84 (x73 + ((Int64.ofInt 4) * a2.toInt64)) r77.2) (
      g82 x73 r77.2)) (fi (fm_is r72.2 17 17 x74 = true) (
    (f3 x74 r72.2).bind fun r78 =>
    fi ((lg_cmp (r78.1 &&& (Int64.ofInt 1)) (Int64.ofInt 1)) = 0) (
      g84 (x73 + ((Int64.ofInt 4) * a2.toInt64)) r78.2) (
      g82 x73 r78.2)) (none))))) none)) (fi (fm_is M63 16 16 x64 = true) (
  (f5 x64 M63).bind fun r79 =>
  let x80 : Int64 := (r79.1 &&& (Int64.ofInt (-4)))
  fi (a1 = 0) (
    g82 x80 r79.2) (
    fi (fm_is r79.2 20 20 a0 = true) (
    let x81 : Nat := (r79.2.2.2 49 a0 0)
    fi (fm_is r79.2 14 14 x81 = true) (
    (f3 x81 r79.2).bind fun r82 =>
    fi ((lg_cmp (r82.1 &&& (Int64.ofInt 1)) (Int64.ofInt 1)) = 0) (
      g84 (x80 + ((Int64.ofInt 4) * a2.toInt64)) r82.2) (
      g82 x80 r82.2)) (fi (fm_is r79.2 15 15 x81 = true) (
    (f4 x81 r79.2).bind fun r83 =>
    fi ((lg_cmp (r83.1 &&& (Int64.ofInt 1)) (Int64.ofInt 1)) = 0) (
      g84 (x80 + ((Int64.ofInt 4) * a2.toInt64)) r83.2) (
      g82 x80 r83.2)) (fi (fm_is r79.2 16 16 x81 = true) (
    (f5 x81 r79.2).bind fun r84 =>
    fi ((lg_cmp (r84.1 &&& (Int64.ofInt 1)) (Int64.ofInt 1)) = 0) (
      g84 (x80 + ((Int64.ofInt 4) * a2.toInt64)) r84.2) (
      g82 x80 r84.2)) (fi (fm_is r79.2 17 17 x81 = true) (
    (f3 x81 r79.2).bind fun r85 =>
    fi ((lg_cmp (r85.1 &&& (Int64.ofInt 1)) (Int64.ofInt 1)) = 0) (
      g84 (x80 + ((Int64.ofInt 4) * a2.toInt64)) r85.2) (
      g82 x80 r85.2)) (none))))) none)) (fi (fm_is M63 17 17 x64 = true) (
  (f3 x64 M63).bind fun r86 =>
  let x87 : Int64 := (r86.1 &&& (Int64.ofInt (-4)))
  fi (a1 = 0) (
    g82 x87 r86.2) (
    fi (fm_is r86.2 20 20 a0 = true) (
    let x88 : Nat := (r86.2.2.2 49 a0 0)
    fi (fm_is r86.2 14 14 x88 = true) (
    (f3 x88 r86.2).bind fun r89 =>
    fi ((lg_cmp (r89.1 &&& (Int64.ofInt 1)) (Int64.ofInt 1)) = 0) (
      g84 (x87 + ((Int64.ofInt 4) * a2.toInt64)) r89.2) (
      g82 x87 r89.2)) (fi (fm_is r86.2 15 15 x88 = true) (
    (f4 x88 r86.2).bind fun r90 =>
    fi ((lg_cmp (r90.1 &&& (Int64.ofInt 1)) (Int64.ofInt 1)) = 0) (
      g84 (x87 + ((Int64.ofInt 4) * a2.toInt64)) r90.2) (
      g82 x87 r90.2)) (fi (fm_is r86.2 16 16 x88 = true) (
    (f5 x88 r86.2).bind fun r91 =>
    fi ((lg_cmp (r91.1 &&& (Int64.ofInt 1)) (Int64.ofInt 1)) = 0) (
      g84 (x87 + ((Int64.ofInt 4) * a2.toInt64)) r91.2) (
      g82 x87 r91.2)) (fi (fm_is r86.2 17 17 x88 = true) (
    (f3 x88 r86.2).bind fun r92 =>
    fi ((lg_cmp (r92.1 &&& (Int64.ofInt 1)) (Int64.ofInt 1)) = 0) (
      g84 (x87 + ((Int64.ofInt 4) * a2.toInt64)) r92.2) (
      g82 x87 r92.2)) (none))))) none)) (none))))) none) (fi (fm_is M1 17 17 x2 = true) (
  (f2 x2 a3 M1).bind fun M93 =>
  fi (fm_is M93 20 20 a0 = true) (
  let x94 : Nat := (M93.2.2 49 a0 0)
  fi (fm_is M93 14 14 x94 = true) (
  (f3 x94 M93).bind fun r95 =>
  let x96 : Int64 := (r95.1 &&& (Int64.ofInt (-4)))
  fi (a1 = 0) (
    g82 x96 r95.2) (
    fi (fm_is r95.2 20 20 a0 = true) (
    let x97 : Nat := (r95.2.2.2 49 a0 0)
    fi (fm_is r95.2 14 14 x97 = true) (
    (f3 x97 r95.2).bind fun r98 =>
    fi ((lg_cmp (r98.1 &&& (Int64.ofInt 1)) (Int64.ofInt 1)) = 0) (
      g84 (x96 + ((Int64.ofInt 4) * a2.toInt64)) r98.2) (
      g82 x96 r98.2)) (fi (fm_is r95.2 15 15 x97 = true) (
    (f4 x97 r95.2).bind fun r99 =>
    fi ((lg_cmp (r99.1 &&& (Int64.ofInt 1)) (Int64.ofInt 1)) = 0) (
      g84 (x96 + ((Int64.ofInt 4) * a2.toInt64)) r99.2) (
      g82 x96 r99.2)) (fi (fm_is r95.2 16 16 x97 = true) (
    (f5 x97 r95.2).bind fun r100 =>
    fi ((lg_cmp (r100.1 &&& (Int64.ofInt 1)) (Int64.ofInt 1)) = 0) (
      g84 (x96 + ((Int64.ofInt 4) * a2.toInt64)) r100.2) (
      g82 x96 r100.2)) (fi (fm_is r95.2 17 17 x97 = true) (
    (f3 x97 r95.2).bind fun r101 =>
    fi ((lg_cmp (r101.1 &&& (Int64.ofInt 1)) (Int64.ofInt 1)) = 0) (
      g84 (x96 + ((Int64.ofInt 4) * a2.toInt64)) r101.2) (
      g82 x96 r101.2)) (none))))) none)) (fi (fm_is M93 15 15 x94 = true) (
  (f4 x94 M93).bind fun r102 =>
  let x103 : Int64 := (r102.1 &&& (Int64.ofInt (-4)))
  fi (a1 = 0) (
    g82 x103 r102.2) (
    fi (fm_is r102.2 20 20 a0 = true) (
    let x104 : Nat := (r102.2.2.2 49 a0 0)
    fi (fm_is r102.2 14 14 x104 = true) (
    (f3 x104 r102.2).bind fun r105 =>
    fi ((lg_cmp (r105.1 &&& (Int64.ofInt 1)) (Int64.ofInt 1)) = 0) (
      g84 (x103 + ((Int64.ofInt 4) * a2.toInt64)) r105.2) (
      g82 x103 r105.2)) (fi (fm_is r102.2 15 15 x104 = true) (
    (f4 x104 r102.2).bind fun r106 =>
    fi ((lg_cmp (r106.1 &&& (Int64.ofInt 1)) (Int64.ofInt 1)) = 0) (
      g84 (x103 + ((Int64.ofInt 4) * a2.toInt64)) r106.2) (
      g82 x103 r106.2)) (fi (fm_is r102.2 16 16 x104 = true) (
    (f5 x104 r102.2).bind fun r107 =>
    fi ((lg_cmp (r107.1 &&& (Int64.ofInt 1)) (Int64.ofInt 1)) = 0) (
      g84 (x103 + ((Int64.ofInt 4) * a2.toInt64)) r107.2) (
      g82 x103 r107.2)) (fi (fm_is r102.2 17 17 x104 = true) (
    (f3 x104 r102.2).bind fun r108 =>
    fi ((lg_cmp (r108.1 &&& (Int64.ofInt 1)) (Int64.ofInt 1)) = 0) (
      g84 (x103 + ((Int64.ofInt 4) * a2.toInt64)) r108.2) (
      g82 x103 r108.2)) (none))))) none)) (fi (fm_is M93 16 16 x94 = true) (
  (f5 x94 M93).bind fun r109 =>
  let x110 : Int64 := (r109.1 &&& (Int64.ofInt (-4)))
  fi (a1 = 0) (
    g82 x110 r109.2) (
    fi (fm_is r109.2 20 20 a0 = true) (
    let x111 : Nat := (r109.2.2.2 49 a0 0)
    fi (fm_is r109.2 14 14 x111 = true) (
    (f3 x111 r109.2).bind fun r112 =>
    fi ((lg_cmp (r112.1 &&& (Int64.ofInt 1)) (Int64.ofInt 1)) = 0) (
      g84 (x110 + ((Int64.ofInt 4) * a2.toInt64)) r112.2) (
      g82 x110 r112.2)) (fi (fm_is r109.2 15 15 x111 = true) (
    (f4 x111 r109.2).bind fun r113 =>
    fi ((lg_cmp (r113.1 &&& (Int64.ofInt 1)) (Int64.ofInt 1)) = 0) (
      g84 (x110 + ((Int64.ofInt 4) * a2.toInt64)) r113.2) (
      g82 x110 r113.2)) (fi (fm_is r109.2 16 16 x111 = true) (
    (f5 x111 r109.2).bind fun r114 =>
    fi ((lg_cmp (r114.1 &&& (Int64.ofInt 1)) (Int64.ofInt 1)) = 0) (
      g84 (x110 + ((Int64.ofInt 4) * a2.toInt64)) r114.2) (
      g82 x110 r114.2)) (fi (fm_is r109.2 17 17 x111 = true) (
    (f3 x111 r109.2).bind fun r115 =>
    fi ((lg_cmp (r115.1 &&& (Int64.ofInt 1)) (Int64.ofInt 1)) = 0) (
      g84 (x110 + ((Int64.ofInt 4) * a2.toInt64)) r115.2) (
      g82 x110 r115.2)) (none))))) none)) (fi (fm_is M93 17 17 x94 = true) (
  (f3 x94 M93).bind fun r116 =>
  let x117 : Int64 := (r116.1 &&& (Int64.ofInt (-4)))
  fi (a1 = 0) (
    g82 x117 r116.2) (
    fi (fm_is r116.2 20 20 a0 = true) (
    let x118 : Nat := (r116.2.2.2 49 a0 0)
    fi (fm_is r116.2 14 14 x118 = true) (
    (f3 x118 r116.2).bind fun r119 =>
    fi ((lg_cmp (r119.1 &&& (Int64.ofInt 1)) (Int64.ofInt 1)) = 0) (
      g84 (x117 + ((Int64.ofInt 4) * a2.toInt64)) r119.2) (
      g82 x117 r119.2)) (fi (fm_is r116.2 15 15 x118 = true) (
    (f4 x118 r116.2).bind fun r120 =>
    fi ((lg_cmp (r120.1 &&& (Int64.ofInt 1)) (Int64.ofInt 1)) = 0) (
      g84 (x117 + ((Int64.ofInt 4) * a2.toInt64)) r120.2) (
      g82 x117 r120.2)) (fi (fm_is r116.2 16 16 x118 = true) (
    (f5 x118 r116.2).bind fun r121 =>
    fi ((lg_cmp (r121.1 &&& (Int64.ofInt 1)) (Int64.ofInt 1)) = 0) (
      g84 (x117 + ((Int64.ofInt 4) * a2.toInt64)) r121.2) (
      g82 x117 r121.2)) (fi (fm_is r116.2 17 17 x118 = true) (
    (f3 x118 r116.2).bind fun r122 =>
    fi ((lg_cmp (r122.1 &&& (Int64.ofInt 1)) (Int64.ofInt 1)) = 0) (
      g84 (x117 + ((Int64.ofInt 4) * a2.toInt64)) r122.2) (
      g82 x117 r122.2)) (none))))) none)) (none))))) none) (none))))) none) (fi (fm_is M 15 15 s0 = true) (
  (f0 s0 s1 M).bind fun M123 =>
  fi (fm_is M123 20 20 a0 = true) (
  let x124 : Nat := (M123.2.2 53 a0 0)
  fi (fm_is M123 14 14 x124 = true) (
  (f0 x124 a3 M123).bind fun M125 =>
  fi (fm_is M125 20 20 a0 = true) (
  let x126 : Nat := (M125.2.2 49 a0 0)
  fi (fm_is M125 14 14 x126 = true) (
  (f3 x126 M125).bind fun r127 =>
  let x128 : Int64 := (r127.1 &&& (Int64.ofInt (-4)))
  fi (a1 = 0) (
    g82 x128 r127.2) (
    fi (fm_is r127.2 20 20 a0 = true) (
    let x129 : Nat := (r127.2.2.2 49 a0 0)
    fi (fm_is r127.2 14 14 x129 = true) (
    (f3 x129 r127.2).bind fun r130 =>
    fi ((lg_cmp (r130.1 &&& (Int64.ofInt 1)) (Int64.ofInt 1)) = 0) (
      g84 (x128 + ((Int64.ofInt 4) * a2.toInt64)) r130.2) (
      g82 x128 r130.2)) (fi (fm_is r127.2 15 15 x129 = true) (
    (f4 x129 r127.2).bind fun r131 =>
    fi ((lg_cmp (r131.1 &&& (Int64.ofInt 1)) (Int64.ofInt 1)) = 0) (
      g84 (x128 + ((Int64.ofInt 4) * a2.toInt64)) r131.2) (
      g82 x128 r131.2)) (fi (fm_is r127.2 16 16 x129 = true) (
    (f5 x129 r127.2).bind fun r132 =>
    fi ((lg_cmp (r132.1 &&& (Int64.ofInt 1)) (Int64.ofInt 1)) = 0) (
      g84 (x128 + ((Int64.ofInt 4) * a2.toInt64)) r132.2) (
      g82 x128 r132.2)) (fi (fm_is r127.2 17 17 x129 = true) (
    (f3 x129 r127.2).bind fun r133 =>
    fi ((lg_cmp (r133.1 &&& (Int64.ofInt 1)) (Int64.ofInt 1)) = 0) (
      g84 (x128 + ((Int64.ofInt 4) * a2.toInt64)) r133.2) (
      g82 x128 r133.2)) (none))))) none)) (fi (fm_is M125 15 15 x126 = true) (
  (f4 x126 M125).bind fun r134 =>
  let x135 : Int64 := (r134.1 &&& (Int64.ofInt (-4)))
  fi (a1 = 0) (
    g82 x135 r134.2) (
    fi (fm_is r134.2 20 20 a0 = true) (
    let x136 : Nat := (r134.2.2.2 49 a0 0)
    fi (fm_is r134.2 14 14 x136 = true) (
    (f3 x136 r134.2).bind fun r137 =>
    fi ((lg_cmp (r137.1 &&& (Int64.ofInt 1)) (Int64.ofInt 1)) = 0) (
      g84 (x135 + ((Int64.ofInt 4) * a2.toInt64)) r137.2) (
      g82 x135 r137.2)) (fi (fm_is r134.2 15 15 x136 = true) (
    (f4 x136 r134.2).bind fun r138 =>
    fi ((lg_cmp (r138.1 &&& (Int64.ofInt 1)) (Int64.ofInt 1)) = 0) (
      g84 (x135 + ((Int64.ofInt 4) * a2.toInt64)) r138.2) (
      g82 x135 r138.2)) (fi (fm_is r134.2 16 16 x136 = true) (
    (f5 x136 r134.2).bind fun r139 =>
    fi ((lg_cmp (r139.1 &&& (Int64.ofInt 1)) (Int64.ofInt 1)) = 0) (
      g84 (x135 + ((Int64.ofInt 4) * a2.toInt64)) r139.2) (
      g82 x135 r139.2)) (fi (fm_is r134.2 17 17 x136 = true) (
    (f3 x136 r134.2).bind fun r140 =>
    fi ((lg_cmp (r140.1 &&& (Int64.ofInt 1)) (Int64.ofInt 1)) = 0) (
      g84 (x135 + ((Int64.ofInt 4) * a2.toInt64)) r140.2) (
      g82 x135 r140.2)) (none))))) none)) (fi (fm_is M125 16 16 x126 = true) (
  (f5 x126 M125).bind fun r141 =>
  let x142 : Int64 := (r141.1 &&& (Int64.ofInt (-4)))
  fi (a1 = 0) (
    g82 x142 r141.2) (
    fi (fm_is r141.2 20 20 a0 = true) (
    let x143 : Nat := (r141.2.2.2 49 a0 0)
    fi (fm_is r141.2 14 14 x143 = true) (
    (f3 x143 r141.2).bind fun r144 =>
    fi ((lg_cmp (r144.1 &&& (Int64.ofInt 1)) (Int64.ofInt 1)) = 0) (
      g84 (x142 + ((Int64.ofInt 4) * a2.toInt64)) r144.2) (
      g82 x142 r144.2)) (fi (fm_is r141.2 15 15 x143 = true) (
    (f4 x143 r141.2).bind fun r145 =>
    fi ((lg_cmp (r145.1 &&& (Int64.ofInt 1)) (Int64.ofInt 1)) = 0) (
      g84 (x142 + ((Int64.ofInt 4) * a2.toInt64)) r145.2) (
      g82 x142 r145.2)) (fi (fm_is r141.2 16 16 x143 = true) (
    (f5 x143 r141.2).bind fun r146 =>
    fi ((lg_cmp (r146.1 &&& (Int64.ofInt 1)) (Int64.ofInt 1)) = 0) (
      g84 (x142 + ((Int64.ofInt 4) * a2.toInt64)) r146.2) (
      g82 x142 r146.2)) (fi (fm_is r141.2 17 17 x143 = true) (
    (f3 x143 r141.2).bind fun r147 =>
    fi ((lg_cmp (r147.1 &&& (Int64.ofInt 1)) (Int64.ofInt 1)) = 0) (
      g84 (x142 + ((Int64.ofInt 4) * a2.toInt64)) r147.2) (
      g82 x142 r147.2)) (none))))) none)) (fi (fm_is M125 17 17 x126 = true) (
  (f3 x126 M125).bind fun r148 =>
  let x149 : Int64 := (r148.1 &&& (Int64.ofInt (-4)))
  fi (a1 = 0) (
    g82 x149 r148.2) (
    fi (fm_is r148.2 20 20 a0 = true) (
    let x150 : Nat := (r148.2.2.2 49 a0 0)
    fi (fm_is r148.2 14 14 x150 = true) (
    (f3 x150 r148.2).bind fun r151 =>
    fi ((lg_cmp (r151.1 &&& (Int64.ofInt 1)) (Int64.ofInt 1)) = 0) (
      g84 (x149 + ((Int64.ofInt 4) * a2.toInt64)) r151.2) (
      g82 x149 r151.2)) (fi (fm_is r148.2 15 15 x150 = true) (
    (f4 x150 r148.2).bind fun r152 =>
    fi ((lg_cmp (r152.1 &&& (Int64.ofInt 1)) (Int64.ofInt 1)) = 0) (
      g84 (x149 + ((Int64.ofInt 4) * a2.toInt64)) r152.2) (
      g82 x149 r152.2)) (fi (fm_is r148.2 16 16 x150 = true) (
    (f5 x150 r148.2).bind fun r153 =>
    fi ((lg_cmp (r153.1 &&& (Int64.ofInt 1)) (Int64.ofInt 1)) = 0) (
      g84 (x149 + ((Int64.ofInt 4) * a2.toInt64)) r153.2) (
      g82 x149 r153.2)) (fi (fm_is r148.2 17 17 x150 = true) (
    (f3 x150 r148.2).bind fun r154 =>
    fi ((lg_cmp (r154.1 &&& (Int64.ofInt 1)) (Int64.ofInt 1)) = 0) (
      g84 (x149 + ((Int64.ofInt 4) * a2.toInt64)) r154.2) (
      g82 x149 r154.2)) (none))))) none)) (none))))) none) (fi (fm_is M123 15 15 x124 = true) (
  (f0 x124 a3 M123).bind fun M155 =>
  fi (fm_is M155 20 20 a0 = true) (
  let x156 : Nat := (M155.2.2 49 a0 0)
  fi (fm_is M155 14 14 x156 = true) (
  (f3 x156 M155).bind fun r157 =>
  let x158 : Int64 := (r157.1 &&& (Int64.ofInt (-4)))
  fi (a1 = 0) (
    g82 x158 r157.2) (
    fi (fm_is r157.2 20 20 a0 = true) (
    let x159 : Nat := (r157.2.2.2 49 a0 0)
    fi (fm_is r157.2 14 14 x159 = true) (
    (f3 x159 r157.2).bind fun r160 =>
    fi ((lg_cmp (r160.1 &&& (Int64.ofInt 1)) (Int64.ofInt 1)) = 0) (
      g84 (x158 + ((Int64.ofInt 4) * a2.toInt64)) r160.2) (
      g82 x158 r160.2)) (fi (fm_is r157.2 15 15 x159 = true) (
    (f4 x159 r157.2).bind fun r161 =>
    fi ((lg_cmp (r161.1 &&& (Int64.ofInt 1)) (Int64.ofInt 1)) = 0) (
      g84 (x158 + ((Int64.ofInt 4) * a2.toInt64)) r161.2) (
      g82 x158 r161.2)) (fi (fm_is r157.2 16 16 x159 = true) (
    (f5 x159 r157.2).bind fun r162 =>
    fi ((lg_cmp (r162.1 &&& (Int64.ofInt 1)) (Int64.ofInt 1)) = 0) (
      g84 (x158 + ((Int64.ofInt 4) * a2.toInt64)) r162.2) (
      g82 x158 r162.2)) (fi (fm_is r157.2 17 17 x159 = true) (
    (f3 x159 r157.2).bind fun r163 =>
    fi ((lg_cmp (r163.1 &&& (Int64.ofInt 1)) (Int64.ofInt 1)) = 0) (
      g84 (x158 + ((Int64.ofInt 4) * a2.toInt64)) r163.2) (
      g82 x158 r163.2)) (none))))) none)) (fi (fm_is M155 15 15 x156 = true) (
  (f4 x156 M155).bind fun r164 =>
  let x165 : Int64 := (r164.1 &&& (Int64.ofInt (-4)))
  fi (a1 = 0) (
    g82 x165 r164.2) (
    fi (fm_is r164.2 20 20 a0 = true) (
    let x166 : Nat := (r164.2.2.2 49 a0 0)
    fi (fm_is r164.2 14 14 x166 = true) (
    (f3 x166 r164.2).bind fun r167 =>
    fi ((lg_cmp (r167.1 &&& (Int64.ofInt 1)) (Int64.ofInt 1)) = 0) (
      g84 (x165 + ((Int64.ofInt 4) * a2.toInt64)) r167.2) (
      g82 x165 r167.2)) (fi (fm_is r164.2 15 15 x166 = true) (
    (f4 x166 r164.2).bind fun r168 =>
    fi ((lg_cmp (r168.1 &&& (Int64.ofInt 1)) (Int64.ofInt 1)) = 0) (
      g84 (x165 + ((Int64.ofInt 4) * a2.toInt64)) r168.2) (
      g82 x165 r168.2)) (fi (fm_is r164.2 16 16 x166 = true) (
    (f5 x166 r164.2).bind fun r169 =>
    fi ((lg_cmp (r169.1 &&& (Int64.ofInt 1)) (Int64.ofInt 1)) = 0) (
      g84 (x165 + ((Int64.ofInt 4) * a2.toInt64)) r169.2) (
      g82 x165 r169.2)) (fi (fm_is r164.2 17 17 x166 = true) (
    (f3 x166 r164.2).bind fun r170 =>
    fi ((lg_cmp (r170.1 &&& (Int64.ofInt 1)) (Int64.ofInt 1)) = 0) (
      g84 (x165 + ((Int64.ofInt 4) * a2.toInt64)) r170.2) (
      g82 x165 r170.2)) (none))))) none)) (fi (fm_is M155 16 16 x156 = true) (
  (f5 x156 M155).bind fun r171 =>
  let x172 : Int64 := (r171.1 &&& (Int64.ofInt (-4)))
  fi (a1 = 0) (
    g82 x172 r171.2) (
    fi (fm_is r171.2 20 20 a0 = true) (
    let x173 : Nat := (r171.2.2.2 49 a0 0)
    fi (fm_is r171.2 14 14 x173 = true) (
    (f3 x173 r171.2).bind fun r174 =>
    fi ((lg_cmp (r174.1 &&& (Int64.ofInt 1)) (Int64.ofInt 1)) = 0) (
      g84 (x172 + ((Int64.ofInt 4) * a2.toInt64)) r174.2) (
      g82 x172 r174.2)) (fi (fm_is r171.2 15 15 x173 = true) (
    (f4 x173 r171.2).bind fun r175 =>
    fi ((lg_cmp (r175.1 &&& (Int64.ofInt 1)) (Int64.ofInt 1)) = 0) (
      g84 (x172 + ((Int64.ofInt 4) * a2.toInt64)) r175.2) (
      g82 x172 r175.2)) (fi (fm_is r171.2 16 16 x173 = true) (
    (f5 x173 r171.2).bind fun r176 =>
    fi ((lg_cmp (r176.1 &&& (Int64.ofInt 1)) (Int64.ofInt 1)) = 0) (
      g84 (x172 + ((Int64.ofInt 4) * a2.toInt64)) r176.2) (
      g82 x172 r176.2)) (fi (fm_is r171.2 17 17 x173 = true) (
    (f3 x173 r171.2).bind fun r177 =>
    fi ((lg_cmp (r177.1 &&& (Int64.ofInt 1)) (Int64.ofInt 1)) = 0) (
      g84 (x172 + ((Int64.ofInt 4) * a2.toInt64)) r177.2) (
      g82 x172 r177.2)) (none))))) none)) (fi (fm_is M155 17 17 x156 = true) (
  (f3 x156 M155).bind fun r178 =>
  let x179 : Int64 := (r178.1 &&& (Int64.ofInt (-4)))
  fi (a1 = 0) (
    g82 x179 r178.2) (
    fi (fm_is r178.2 20 20 a0 = true) (
    let x180 : Nat := (r178.2.2.2 49 a0 0)
    fi (fm_is r178.2 14 14 x180 = true) (
    (f3 x180 r178.2).bind fun r181 =>
    fi ((lg_cmp (r181.1 &&& (Int64.ofInt 1)) (Int64.ofInt 1)) = 0) (
      g84 (x179 + ((Int64.ofInt 4) * a2.toInt64)) r181.2) (
      g82 x179 r181.2)) (fi (fm_is r178.2 15 15 x180 = true) (
    (f4 x180 r178.2).bind fun r182 =>
    fi ((lg_cmp (r182.1 &&& (Int64.ofInt 1)) (Int64.ofInt 1)) = 0) (
      g84 (x179 + ((Int64.ofInt 4) * a2.toInt64)) r182.2) (
      g82 x179 r182.2)) (fi (fm_is r178.2 16 16 x180 = true) (
    (f5 x180 r178.2).bind fun r183 =>
    fi ((lg_cmp (r183.1 &&& (Int64.ofInt 1)) (Int64.ofInt 1)) = 0) (
      g84 (x179 + ((Int64.ofInt 4) * a2.toInt64)) r183.2) (
      g82 x179 r183.2)) (fi (fm_is r178.2 17 17 x180 = true) (
    (f3 x180 r178.2).bind fun r184 =>
    fi ((lg_cmp (r184.1 &&& (Int64.ofInt 1)) (Int64.ofInt 1)) = 0) (
      g84 (x179 + ((Int64.ofInt 4) * a2.toInt64)) r184.2) (
      g82 x179 r184.2)) (none))))) none)) (none))))) none) (fi (fm_is M123 16 16 x124 = true) (
  (f1 x124 a3 M123).bind fun M185 =>
  fi (fm_is M185 20 20 a0 = true) (
  let x186 : Nat := (M185.2.2 49 a0 0)
  fi (fm_is M185 14 14 x186 = true) (
  (f3 x186 M185).bind fun r187 =>
  let x188 : Int64 := (r187.1 &&& (Int64.ofInt (-4)))
  fi (a1 = 0) (
    g82 x188 r187.2) (
    fi (fm_is r187.2 20 20 a0 = true) (
    let x189 : Nat := (r187.2.2.2 49 a0 0)
    fi (fm_is r187.2 14 14 x189 = true) (
    (f3 x189 r187.2).bind fun r190 =>
    fi ((lg_cmp (r190.1 &&& (Int64.ofInt 1)) (Int64.ofInt 1)) = 0) (
      g84 (x188 + ((Int64.ofInt 4) * a2.toInt64)) r190.2) (
      g82 x188 r190.2)) (fi (fm_is r187.2 15 15 x189 = true) (
    (f4 x189 r187.2).bind fun r191 =>
    fi ((lg_cmp (r191.1 &&& (Int64.ofInt 1)) (Int64.ofInt 1)) = 0) (
      g84 (x188 + ((Int64.ofInt 4) * a2.toInt64)) r191.2) (
      g82 x188 r191.2)) (fi (fm_is r187.2 16 16 x189 = true) (
    (f5 x189 r187.2).bind fun r192 =>
    fi ((lg_cmp (r192.1 &&& (Int64.ofInt 1)) (Int64.ofInt 1)) = 0) (
      g84 (x188 + ((Int64.ofInt 4) * a2.toInt64)) r192.2) (
      g82 x188 r192.2)) (fi (fm_is r187.2 17 17 x189 = true) (
    (f3 x189 r187.2).bind fun r193 =>
    fi ((lg_cmp (r193.1 &&& (Int64.ofInt 1)) (Int64.ofInt 1)) = 0) (
      g84 (x188 + ((Int64.ofInt 4) * a2.toInt64)) r193.2) (
      g82 x188 r193.2)) (none))))) none)) (fi (fm_is M185 15 15 x186 = true) (
  (f4 x186 M185).bind fun r194 =>
  let x195 : Int64 := (r194.1 &&& (Int64.ofInt (-4)))
  fi (a1 = 0) (
    g82 x195 r194.2) (
    fi (fm_is r194.2 20 20 a0 = true) (
    let x196 : Nat := (r194.2.2.2 49 a0 0)
    fi (fm_is r194.2 14 14 x196 = true) (
    (f3 x196 r194.2).bind fun r197 =>
    fi ((lg_cmp (r197.1 &&& (Int64.ofInt 1)) (Int64.ofInt 1)) = 0) (
      g84 (x195 + ((Int64.ofInt 4) * a2.toInt64)) r197.2) (
      g82 x195 r197.2)) (fi (fm_is r194.2 15 15 x196 = true) (
    (f4 x196 r194.2).bind fun r198 =>
    fi ((lg_cmp (r198.1 &&& (Int64.ofInt 1)) (Int64.ofInt 1)) = 0) (
      g84 (x195 + ((Int64.ofInt 4) * a2.toInt64)) r198.2) (
      g82 x195 r198.2)) (fi (fm_is r194.2 16 16 x196 = true) (
    (f5 x196 r194.2).bind fun r199 =>
    fi ((lg_cmp (r199.1 &&& (Int64.ofInt 1)) (Int64.ofInt 1)) = 0) (
      g84 (x195 + ((Int64.ofInt 4) * a2.toInt64)) r199.2) (
      g82 x195 r199.2)) (fi (fm_is r194.2 17 17 x196 = true) (
    (f3 x196 r194.2).bind fun r200 =>
    fi ((lg_cmp (r200.1 &&& (Int64.ofInt 1)) (Int64.ofInt 1)) = 0) (
      g84 (x195 + ((Int64.ofInt 4) * a2.toInt64)) r200.2) (
      g82 x195 r200.2)) (none))))) none)) (fi (fm_is M185 16 16 x186 = true) (
  (f5 x186 M185).bind fun r201 =>
  let x202 : Int64 := (r201.1 &&& (Int64.ofInt (-4)))
  fi (a1 = 0) (
    g82 x202 r201.2) (
    fi (fm_is r201.2 20 20 a0 = true) (
    let x203 : Nat := (r201.2.2.2 49 a0 0)
    fi (fm_is r201.2 14 14 x203 = true) (
    (f3 x203 r201.2).bind fun r204 =>
    fi ((lg_cmp (r204.1 &&& (Int64.ofInt 1)) (Int64.ofInt 1)) = 0) (
      g84 (x202 + ((Int64.ofInt 4) * a2.toInt64)) r204.2) (
      g82 x202 r204.2)) (fi (fm_is r201.2 15 15 x203 = true) (
    (f4 x203 r201.2).bind fun r205 =>
    fi ((lg_cmp (r205.1 &&& (Int64.ofInt 1)) (Int64.ofInt 1)) = 0) (
      g84 (x202 + ((Int64.ofInt 4) * a2.toInt64)) r205.2) (
      g82 x202 r205.2)) (fi (fm_is r201.2 16 16 x203 = true) (
    (f5 x203 r201.2).bind fun r206 =>
    fi ((lg_cmp (r206.1 &&& (Int64.ofInt 1)) (Int64.ofInt 1)) = 0) (
      g84 (x202 + ((Int64.ofInt 4) * a2.toInt64)) r206.2) (
      g82 x202 r206.2)) (fi (fm_is r201.2 17 17 x203 = true) (
    (f3 x203 r201.2).bind fun r207 =>
    fi ((lg_cmp (r207.1 &&& (Int64.ofInt 1)) (Int64.ofInt 1)) = 0) (
      g84 (x202 + ((Int64.ofInt 4) * a2.toInt64)) r207.2) (
      g82 x202 r207.2)) (none))))) none)) (fi (fm_is M185 17 17 x186 = true) (
  (f3 x186 M185).bind fun r208 =>
  let x209 : Int64 := (r208.1 &&& (Int64.ofInt (-4)))
  fi (a1 = 0) (
    g82 x209 r208.2) (
    fi (fm_is r208.2 20 20 a0 = true) (
    let x210 : Nat := (r208.2.2.2 49 a0 0)
    fi (fm_is r208.2 14 14 x210 = true) (
    (f3 x210 r208.2).bind fun r211 =>
    fi ((lg_cmp (r211.1 &&& (Int64.ofInt 1)) (Int64.ofInt 1)) = 0) (
      g84 (x209 + ((Int64.ofInt 4) * a2.toInt64)) r211.2) (
      g82 x209 r211.2)) (fi (fm_is r208.2 15 15 x210 = true) (
    (f4 x210 r208.2).bind fun r212 =>
    fi ((lg_cmp (r212.1 &&& (Int64.ofInt 1)) (Int64.ofInt 1)) = 0) (
      g84 (x209 + ((Int64.ofInt 4) * a2.toInt64)) r212.2) (
      g82 x209 r212.2)) (fi (fm_is r208.2 16 16 x210 = true) (
    (f5 x210 r208.2).bind fun r213 =>
    fi ((lg_cmp (r213.1 &&& (Int64.ofInt 1)) (Int64.ofInt 1)) = 0) (
      g84 (x209 + ((Int64.ofInt 4) * a2.toInt64)) r213.2) (
      g82 x209 r213.2)) (fi (fm_is r208.2 17 17 x210 = true) (
    (f3 x210 r208.2).bind fun r214 =>
    fi ((lg_cmp (r214.1 &&& (Int64.ofInt 1)) (Int64.ofInt 1)) = 0) (
      g84 (x209 + ((Int64.ofInt 4) * a2.toInt64)) r214.2) (
      g82 x209 r214.2)) (none))))) none)) (none))))) none) (fi (fm_is M123 17 17 x124 = true) (
  (f2 x124 a3 M123).bind fun M215 =>
  fi (fm_is M215 20 20 a0 = true) (
  let x216 : Nat := (M215.2.2 49 a0 0)
  fi (fm_is M215 14 14 x216 = true) (
  (f3 x216 M215).bind fun r217 =>
  let x218 : Int64 := (r217.1 &&& (Int64.ofInt (-4)))
  fi (a1 = 0) (
    g82 x218 r217.2) (
    fi (fm_is r217.2 20 20 a0 = true) (
    let x219 : Nat := (r217.2.2.2 49 a0 0)
    fi (fm_is r217.2 14 14 x219 = true) (
    (f3 x219 r217.2).bind fun r220 =>
    fi ((lg_cmp (r220.1 &&& (Int64.ofInt 1)) (Int64.ofInt 1)) = 0) (
      g84 (x218 + ((Int64.ofInt 4) * a2.toInt64)) r220.2) (
      g82 x218 r220.2)) (fi (fm_is r217.2 15 15 x219 = true) (
    (f4 x219 r217.2).bind fun r221 =>
    fi ((lg_cmp (r221.1 &&& (Int64.ofInt 1)) (Int64.ofInt 1)) = 0) (
      g84 (x218 + ((Int64.ofInt 4) * a2.toInt64)) r221.2) (
      g82 x218 r221.2)) (fi (fm_is r217.2 16 16 x219 = true) (
    (f5 x219 r217.2).bind fun r222 =>
    fi ((lg_cmp (r222.1 &&& (Int64.ofInt 1)) (Int64.ofInt 1)) = 0) (
      g84 (x218 + ((Int64.ofInt 4) * a2.toInt64)) r222.2) (
      g82 x218 r222.2)) (fi (fm_is r217.2 17 17 x219 = true) (
    (f3 x219 r217.2).bind fun r223 =>
    fi ((lg_cmp (r223.1 &&& (Int64.ofInt 1)) (Int64.ofInt 1)) = 0) (
      g84 (x218 + ((Int64.ofInt 4) * a2.toInt64)) r223.2) (
      g82 x218 r223.2)) (none))))) none)) (fi (fm_is M215 15 15 x216 = true) (
  (f4 x216 M215).bind fun r224 =>
  let x225 : Int64 := (r224.1 &&& (Int64.ofInt (-4)))
  fi (a1 = 0) (
    g82 x225 r224.2) (
    fi (fm_is r224.2 20 20 a0 = true) (
    let x226 : Nat := (r224.2.2.2 49 a0 0)
    fi (fm_is r224.2 14 14 x226 = true) (
    (f3 x226 r224.2).bind fun r227 =>
    fi ((lg_cmp (r227.1 &&& (Int64.ofInt 1)) (Int64.ofInt 1)) = 0) (
      g84 (x225 + ((Int64.ofInt 4) * a2.toInt64)) r227.2) (
      g82 x225 r227.2)) (fi (fm_is r224.2 15 15 x226 = true) (
    (f4 x226 r224.2).bind fun r228 =>
    fi ((lg_cmp (r228.1 &&& (Int64.ofInt 1)) (Int64.ofInt 1)) = 0) (
      g84 (x225 + ((Int64.ofInt 4) * a2.toInt64)) r228.2) (
      g82 x225 r228.2)) (fi (fm_is r224.2 16 16 x226 = true) (
    (f5 x226 r224.2).bind fun r229 =>
    fi ((lg_cmp (r229.1 &&& (Int64.ofInt 1)) (Int64.ofInt 1)) = 0) (
      g84 (x225 + ((Int64.ofInt 4) * a2.toInt64)) r229.2) (
      g82 x225 r229.2)) (fi (fm_is r224.2 17 17 x226 = true) (
    (f3 x226 r224.2).bind fun r230 =>
    fi ((lg_cmp (r230.1 &&& (Int64.ofInt 1)) (Int64.ofInt 1)) = 0) (
      g84 (x225 + ((Int64.ofInt 4) * a2.toInt64)) r230.2) (
      g82 x225 r230.2)) (none))))) none)) (fi (fm_is M215 16 16 x216 = true) (
  (f5 x216 M215).bind fun r231 =>
  let x232 : Int64 := (r231.1 &&& (Int64.ofInt (-4)))
  fi (a1 = 0) (
    g82 x232 r231.2) (
    fi (fm_is r231.2 20 20 a0 = true) (
    let x233 : Nat := (r231.2.2.2 49 a0 0)
    fi (fm_is r231.2 14 14 x233 = true) (
    (f3 x233 r231.2).bind fun r234 =>
    fi ((lg_cmp (r234.1 &&& (Int64.ofInt 1)) (Int64.ofInt 1)) = 0) (
      g84 (x232 + ((Int64.ofInt 4) * a2.toInt64)) r234.2) (
      g82 x232 r234.2)) (fi (fm_is r231.2 15 15 x233 = true) (
    (f4 x233 r231.2).bind fun r235 =>
    fi ((lg_cmp (r235.1 &&& (Int64.ofInt 1)) (Int64.ofInt 1)) = 0) (
      g84 (x232 + ((Int64.ofInt 4) * a2.toInt64)) r235.2) (
      g82 x232 r235.2)) (fi (fm_is r231.2 16 16 x233 = true) (
    (f5 x233 r231.2).bind fun r236 =>
    fi ((lg_cmp (r236.1 &&& (Int64.ofInt 1)) (Int64.ofInt 1)) = 0) (
      g84 (x232 + ((Int64.ofInt 4) * a2.toInt64)) r236.2) (
      g82 x232 r236.2)) (fi (fm_is r231.2 17 17 x233 = true) (
    (f3 x233 r231.2).bind fun r237 =>
    fi ((lg_cmp (r237.1 &&& (Int64.ofInt 1)) (Int64.ofInt 1)) = 0) (
      g84 (x232 + ((Int64.ofInt 4) * a2.toInt64)) r237.2) (
      g82 x232 r237.2)) (none))))) none)) (fi (fm_is M215 17 17 x216 = true) (
  (f3 x216 M215).bind fun r238 =>
  let x239 : Int64 := (r238.1 &&& (Int64.ofInt (-4)))
  fi (a1 = 0) (
    g82 x239 r238.2) (
    fi (fm_is r238.2 20 20 a0 = true) (
    let x240 : Nat := (r238.2.2.2 49 a0 0)
    fi (fm_is r238.2 14 14 x240 = true) (
    (f3 x240 r238.2).bind fun r241 =>
    fi ((lg_cmp (r241.1 &&& (Int64.ofInt 1)) (Int64.ofInt 1)) = 0) (
      g84 (x239 + ((Int64.ofInt 4) * a2.toInt64)) r241.2) (
      g82 x239 r241.2)) (fi (fm_is r238.2 15 15 x240 = true) (
    (f4 x240 r238.2).bind fun r242 =>
    fi ((lg_cmp (r242.1 &&& (Int64.ofInt 1)) (Int64.ofInt 1)) = 0) (
      g84 (x239 + ((Int64.ofInt 4) * a2.toInt64)) r242.2) (
      g82 x239 r242.2)) (fi (fm_is r238.2 16 16 x240 = true) (
    (f5 x240 r238.2).bind fun r243 =>
    fi ((lg_cmp (r243.1 &&& (Int64.ofInt 1)) (Int64.ofInt 1)) = 0) (
      g84 (x239 + ((Int64.ofInt 4) * a2.toInt64)) r243.2) (
      g82 x239 r243.2)) (fi (fm_is r238.2 17 17 x240 = true) (
    (f3 x240 r238.2).bind fun r244 =>
    fi ((lg_cmp (r244.1 &&& (Int64.ofInt 1)) (Int64.ofInt 1)) = 0) (
      g84 (x239 + ((Int64.ofInt 4) * a2.toInt64)) r244.2) (
      g82 x239 r244.2)) (none))))) none)) (none))))) none) (none))))) none) (fi (fm_is M 16 16 s0 = true) (
  (f1 s0 s1 M).bind fun M245 =>
  fi (fm_is M245 20 20 a0 = true) (
  let x246 : Nat := (M245.2.2 53 a0 0)
  fi (fm_is M245 14 14 x246 = true) (
  (f0 x246 a3 M245).bind fun M247 =>
  fi (fm_is M247 20 20 a0 = true) (
  let x248 : Nat := (M247.2.2 49 a0 0)
  fi (fm_is M247 14 14 x248 = true) (
  (f3 x248 M247).bind fun r249 =>
  let x250 : Int64 := (r249.1 &&& (Int64.ofInt (-4)))
  fi (a1 = 0) (
    g82 x250 r249.2) (
    fi (fm_is r249.2 20 20 a0 = true) (
    let x251 : Nat := (r249.2.2.2 49 a0 0)
    fi (fm_is r249.2 14 14 x251 = true) (
    (f3 x251 r249.2).bind fun r252 =>
    fi ((lg_cmp (r252.1 &&& (Int64.ofInt 1)) (Int64.ofInt 1)) = 0) (
      g84 (x250 + ((Int64.ofInt 4) * a2.toInt64)) r252.2) (
      g82 x250 r252.2)) (fi (fm_is r249.2 15 15 x251 = true) (
    (f4 x251 r249.2).bind fun r253 =>
    fi ((lg_cmp (r253.1 &&& (Int64.ofInt 1)) (Int64.ofInt 1)) = 0) (
      g84 (x250 + ((Int64.ofInt 4) * a2.toInt64)) r253.2) (
      g82 x250 r253.2)) (fi (fm_is r249.2 16 16 x251 = true) (
    (f5 x251 r249.2).bind fun r254 =>
    fi ((lg_cmp (r254.1 &&& (Int64.ofInt 1)) (Int64.ofInt 1)) = 0) (
      g84 (x250 + ((Int64.ofInt 4) * a2.toInt64)) r254.2) (
      g82 x250 r254.2)) (fi (fm_is r249.2 17 17 x251 = true) (
    (f3 x251 r249.2).bind fun r255 =>
    fi ((lg_cmp (r255.1 &&& (Int64.ofInt 1)) (Int64.ofInt 1)) = 0) (
      g84 (x250 + ((Int64.ofInt 4) * a2.toInt64)) r255.2) (
      g82 x250 r255.2)) (none))))) none)) (fi (fm_is M247 15 15 x248 = true) (
  (f4 x248 M247).bind fun r256 =>
  let x257 : Int64 := (r256.1 &&& (Int64.ofInt (-4)))
  fi (a1 = 0) (
    g82 x257 r256.2) (
    fi (fm_is r256.2 20 20 a0 = true) (
    let x258 : Nat := (r256.2.2.2 49 a0 0)
    fi (fm_is r256.2 14 14 x258 = true) (
    (f3 x258 r256.2).bind fun r259 =>
    fi ((lg_cmp (r259.1 &&& (Int64.ofInt 1)) (Int64.ofInt 1)) = 0) (
      g84 (x257 + ((Int64.ofInt 4) * a2.toInt64)) r259.2) (
      g82 x257 r259.2)) (fi (fm_is r256.2 15 15 x258 = true) (
    (f4 x258 r256.2).bind fun r260 =>
    fi ((lg_cmp (r260.1 &&& (Int64.ofInt 1)) (Int64.ofInt 1)) = 0) (
      g84 (x257 + ((Int64.ofInt 4) * a2.toInt64)) r260.2) (
      g82 x257 r260.2)) (fi (fm_is r256.2 16 16 x258 = true) (
    (f5 x258 r256.2).bind fun r261 =>
    fi ((lg_cmp (r261.1 &&& (Int64.ofInt 1)) (Int64.ofInt 1)) = 0) (
      g84 (x257 + ((Int64.ofInt 4) * a2.toInt64)) r261.2) (
      g82 x257 r261.2)) (fi (fm_is r256.2 17 17 x258 = true) (
    (f3 x258 r256.2).bind fun r262 =>
    fi ((lg_cmp (r262.1 &&& (Int64.ofInt 1)) (Int64.ofInt 1)) = 0) (
      g84 (x257 + ((Int64.ofInt 4) * a2.toInt64)) r262.2) (
      g82 x257 r262.2)) (none))))) none)) (fi (fm_is M247 16 16 x248 = true) (
  (f5 x248 M247).bind fun r263 =>
  let x264 : Int64 := (r263.1 &&& (Int64.ofInt (-4)))
  fi (a1 = 0) (
    g82 x264 r263.2) (
    fi (fm_is r263.2 20 20 a0 = true) (
    let x265 : Nat := (r263.2.2.2 49 a0 0)
    fi (fm_is r263.2 14 14 x265 = true) (
    (f3 x265 r263.2).bind fun r266 =>
    fi ((lg_cmp (r266.1 &&& (Int64.ofInt 1)) (Int64.ofInt 1)) = 0) (
      g84 (x264 + ((Int64.ofInt 4) * a2.toInt64)) r266.2) (
      g82 x264 r266.2)) (fi (fm_is r263.2 15 15 x265 = true) (
    (f4 x265 r263.2).bind fun r267 =>
    fi ((lg_cmp (r267.1 &&& (Int64.ofInt 1)) (Int64.ofInt 1)) = 0) (
      g84 (x264 + ((Int64.ofInt 4) * a2.toInt64)) r267.2) (
      g82 x264 r267.2)) (fi (fm_is r263.2 16 16 x265 = true) (
    (f5 x265 r263.2).bind fun r268 =>
    fi ((lg_cmp (r268.1 &&& (Int64.ofInt 1)) (Int64.ofInt 1)) = 0) (
      g84 (x264 + ((Int64.ofInt 4) * a2.toInt64)) r268.2) (
      g82 x264 r268.2)) (fi (fm_is r263.2 17 17 x265 = true) (
    (f3 x265 r263.2).bind fun r269 =>
    fi ((lg_cmp (r269.1 &&& (Int64.ofInt 1)) (Int64.ofInt 1)) = 0) (
      g84 (x264 + ((Int64.ofInt 4) * a2.toInt64)) r269.2) (
      g82 x264 r269.2)) (none))))) none)) (fi (fm_is M247 17 17 x248 = true) (
  (f3 x248 M247).bind fun r270 =>
  let x271 : Int64 := (r270.1 &&& (Int64.ofInt (-4)))
  fi (a1 = 0) (
    g82 x271 r270.2) (
    fi (fm_is r270.2 20 20 a0 = true) (
    let x272 : Nat := (r270.2.2.2 49 a0 0)
    fi (fm_is r270.2 14 14 x272 = true) (
    (f3 x272 r270.2).bind fun r273 =>
    fi ((lg_cmp (r273.1 &&& (Int64.ofInt 1)) (Int64.ofInt 1)) = 0) (
      g84 (x271 + ((Int64.ofInt 4) * a2.toInt64)) r273.2) (
      g82 x271 r273.2)) (fi (fm_is r270.2 15 15 x272 = true) (
    (f4 x272 r270.2).bind fun r274 =>
    fi ((lg_cmp (r274.1 &&& (Int64.ofInt 1)) (Int64.ofInt 1)) = 0) (
      g84 (x271 + ((Int64.ofInt 4) * a2.toInt64)) r274.2) (
      g82 x271 r274.2)) (fi (fm_is r270.2 16 16 x272 = true) (
    (f5 x272 r270.2).bind fun r275 =>
    fi ((lg_cmp (r275.1 &&& (Int64.ofInt 1)) (Int64.ofInt 1)) = 0) (
      g84 (x271 + ((Int64.ofInt 4) * a2.toInt64)) r275.2) (
      g82 x271 r275.2)) (fi (fm_is r270.2 17 17 x272 = true) (
    (f3 x272 r270.2).bind fun r276 =>
    fi ((lg_cmp (r276.1 &&& (Int64.ofInt 1)) (Int64.ofInt 1)) = 0) (
      g84 (x271 + ((Int64.ofInt 4) * a2.toInt64)) r276.2) (
      g82 x271 r276.2)) (none))))) none)) (none))))) none) (fi (fm_is M245 15 15 x246 = true) (
  (f0 x246 a3 M245).bind fun M277 =>
  fi (fm_is M277 20 20 a0 = true) (
  let x278 : Nat := (M277.2.2 49 a0 0)
  fi (fm_is M277 14 14 x278 = true) (
  (f3 x278 M277).bind fun r279 =>
  let x280 : Int64 := (r279.1 &&& (Int64.ofInt (-4)))
  fi (a1 = 0) (
    g82 x280 r279.2) (
    fi (fm_is r279.2 20 20 a0 = true) (
    let x281 : Nat := (r279.2.2.2 49 a0 0)
    fi (fm_is r279.2 14 14 x281 = true) (
    (f3 x281 r279.2).bind fun r282 =>
    fi ((lg_cmp (r282.1 &&& (Int64.ofInt 1)) (Int64.ofInt 1)) = 0) (
      g84 (x280 + ((Int64.ofInt 4) * a2.toInt64)) r282.2) (
      g82 x280 r282.2)) (fi (fm_is r279.2 15 15 x281 = true) (
    (f4 x281 r279.2).bind fun r283 =>
    fi ((lg_cmp (r283.1 &&& (Int64.ofInt 1)) (Int64.ofInt 1)) = 0) (
      g84 (x280 + ((Int64.ofInt 4) * a2.toInt64)) r283.2) (
      g82 x280 r283.2)) (fi (fm_is r279.2 16 16 x281 = true) (
    (f5 x281 r279.2).bind fun r284 =>
    fi ((lg_cmp (r284.1 &&& (Int64.ofInt 1)) (Int64.ofInt 1)) = 0) (
      g84 (x280 + ((Int64.ofInt 4) * a2.toInt64)) r284.2) (
      g82 x280 r284.2)) (fi (fm_is r279.2 17 17 x281 = true) (
    (f3 x281 r279.2).bind fun r285 =>
    fi ((lg_cmp (r285.1 &&& (Int64.ofInt 1)) (Int64.ofInt 1)) = 0) (
      g84 (x280 + ((Int64.ofInt 4) * a2.toInt64)) r285.2) (
      g82 x280 r285.2)) (none))))) none)) (fi (fm_is M277 15 15 x278 = true) (
  (f4 x278 M277).bind fun r286 =>
  let x287 : Int64 := (r286.1 &&& (Int64.ofInt (-4)))
  fi (a1 = 0) (
    g82 x287 r286.2) (
    fi (fm_is r286.2 20 20 a0 = true) (
    let x288 : Nat := (r286.2.2.2 49 a0 0)
    fi (fm_is r286.2 14 14 x288 = true) (
    (f3 x288 r286.2).bind fun r289 =>
    fi ((lg_cmp (r289.1 &&& (Int64.ofInt 1)) (Int64.ofInt 1)) = 0) (
      g84 (x287 + ((Int64.ofInt 4) * a2.toInt64)) r289.2) (
      g82 x287 r289.2)) (fi (fm_is r286.2 15 15 x288 = true) (
    (f4 x288 r286.2).bind fun r290 =>
    fi ((lg_cmp (r290.1 &&& (Int64.ofInt 1)) (Int64.ofInt 1)) = 0) (
      g84 (x287 + ((Int64.ofInt 4) * a2.toInt64)) r290.2) (
      g82 x287 r290.2)) (fi (fm_is r286.2 16 16 x288 = true) (
    (f5 x288 r286.2).bind fun r291 =>
    fi ((lg_cmp (r291.1 &&& (Int64.ofInt 1)) (Int64.ofInt 1)) = 0) (
      g84 (x287 + ((Int64.ofInt 4) * a2.toInt64)) r291.2) (
      g82 x287 r291.2)) (fi (fm_is r286.2 17 17 x288 = true) (
    (f3 x288 r286.2).bind fun r292 =>
    fi ((lg_cmp (r292.1 &&& (Int64.ofInt 1)) (Int64.ofInt 1)) = 0) (
      g84 (x287 + ((Int64.ofInt 4) * a2.toInt64)) r292.2) (
      g82 x287 r292.2)) (none))))) none)) (fi (fm_is M277 16 16 x278 = true) (
  (f5 x278 M277).bind fun r293 =>
  let x294 : Int64 := (r293.1 &&& (Int64.ofInt (-4)))
  fi (a1 = 0) (
    g82 x294 r293.2) (
    fi (fm_is r293.2 20 20 a0 = true) (
    let x295 : Nat := (r293.2.2.2 49 a0 0)
    fi (fm_is r293.2 14 14 x295 = true) (
    (f3 x295 r293.2).bind fun r296 =>
    fi ((lg_cmp (r296.1 &&& (Int64.ofInt 1)) (Int64.ofInt 1)) = 0) (
      g84 (x294 + ((Int64.ofInt 4) * a2.toInt64)) r296.2) (
      g82 x294 r296.2)) (fi (fm_is r293.2 15 15 x295 = true) (
    (f4 x295 r293.2).bind fun r297 =>
    fi ((lg_cmp (r297.1 &&& (Int64.ofInt 1)) (Int64.ofInt 1)) = 0) (
      g84 (x294 + ((Int64.ofInt 4) * a2.toInt64)) r297.2) (
      g82 x294 r297.2)) (fi (fm_is r293.2 16 16 x295 = true) (
    (f5 x295 r293.2).bind fun r298 =>
    fi ((lg_cmp (r298.1 &&& (Int64.ofInt 1)) (Int64.ofInt 1)) = 0) (
      g84 (x294 + ((Int64.ofInt 4) * a2.toInt64)) r298.2) (
      g82 x294 r298.2)) (fi (fm_is r293.2 17 17 x295 = true) (
    (f3 x295 r293.2).bind fun r299 =>
    fi ((lg_cmp (r299.1 &&& (Int64.ofInt 1)) (Int64.ofInt 1)) = 0) (
      g84 (x294 + ((Int64.ofInt 4) * a2.toInt64)) r299.2) (
      g82 x294 r299.2)) (none))))) none)) (fi (fm_is M277 17 17 x278 = true) (
  (f3 x278 M277).bind fun r300 =>
  let x301 : Int64 := (r300.1 &&& (Int64.ofInt (-4)))
  fi (a1 = 0) (
    g82 x301 r300.2) (
    fi (fm_is r300.2 20 20 a0 = true) (
    let x302 : Nat := (r300.2.2.2 49 a0 0)
    fi (fm_is r300.2 14 14 x302 = true) (
    (f3 x302 r300.2).bind fun r303 =>
    fi ((lg_cmp (r303.1 &&& (Int64.ofInt 1)) (Int64.ofInt 1)) = 0) (
      g84 (x301 + ((Int64.ofInt 4) * a2.toInt64)) r303.2) (
      g82 x301 r303.2)) (fi (fm_is r300.2 15 15 x302 = true) (
    (f4 x302 r300.2).bind fun r304 =>
    fi ((lg_cmp (r304.1 &&& (Int64.ofInt 1)) (Int64.ofInt 1)) = 0) (
      g84 (x301 + ((Int64.ofInt 4) * a2.toInt64)) r304.2) (
      g82 x301 r304.2)) (fi (fm_is r300.2 16 16 x302 = true) (
    (f5 x302 r300.2).bind fun r305 =>
    fi ((lg_cmp (r305.1 &&& (Int64.ofInt 1)) (Int64.ofInt 1)) = 0) (
      g84 (x301 + ((Int64.ofInt 4) * a2.toInt64)) r305.2) (
      g82 x301 r305.2)) (fi (fm_is r300.2 17 17 x302 = true) (
    (f3 x302 r300.2).bind fun r306 =>
    fi ((lg_cmp (r306.1 &&& (Int64.ofInt 1)) (Int64.ofInt 1)) = 0) (
      g84 (x301 + ((Int64.ofInt 4) * a2.toInt64)) r306.2) (
      g82 x301 r306.2)) (none))))) none)) (none))))) none) (fi (fm_is M245 16 16 x246 = true) (
  (f1 x246 a3 M245).bind fun M307 =>
  fi (fm_is M307 20 20 a0 = true) (
  let x308 : Nat := (M307.2.2 49 a0 0)
  fi (fm_is M307 14 14 x308 = true) (
  (f3 x308 M307).bind fun r309 =>
  let x310 : Int64 := (r309.1 &&& (Int64.ofInt (-4)))
  fi (a1 = 0) (
    g82 x310 r309.2) (
    fi (fm_is r309.2 20 20 a0 = true) (
    let x311 : Nat := (r309.2.2.2 49 a0 0)
    fi (fm_is r309.2 14 14 x311 = true) (
    (f3 x311 r309.2).bind fun r312 =>
    fi ((lg_cmp (r312.1 &&& (Int64.ofInt 1)) (Int64.ofInt 1)) = 0) (
      g84 (x310 + ((Int64.ofInt 4) * a2.toInt64)) r312.2) (
      g82 x310 r312.2)) (fi (fm_is r309.2 15 15 x311 = true) (
    (f4 x311 r309.2).bind fun r313 =>
    fi ((lg_cmp (r313.1 &&& (Int64.ofInt 1)) (Int64.ofInt 1)) = 0) (
      g84 (x310 + ((Int64.ofInt 4) * a2.toInt64)) r313.2) (
      g82 x310 r313.2)) (fi (fm_is r309.2 16 16 x311 = true) (
    (f5 x311 r309.2).bind fun r314 =>
    fi ((lg_cmp (r314.1 &&& (Int64.ofInt 1)) (Int64.ofInt 1)) = 0) (
      g84 (x310 + ((Int64.ofInt 4) * a2.toInt64)) r314.2) (
      g82 x310 r314.2)) (fi (fm_is r309.2 17 17 x311 = true) (
    (f3 x311 r309.2).bind fun r315 =>
    fi ((lg_cmp (r315.1 &&& (Int64.ofInt 1)) (Int64.ofInt 1)) = 0) (
      g84 (x310 + ((Int64.ofInt 4) * a2.toInt64)) r315.2) (
      g82 x310 r315.2)) (none))))) none)) (fi (fm_is M307 15 15 x308 = true) (
  (f4 x308 M307).bind fun r316 =>
  let x317 : Int64 := (r316.1 &&& (Int64.ofInt (-4)))
  fi (a1 = 0) (
    g82 x317 r316.2) (
    fi (fm_is r316.2 20 20 a0 = true) (
    let x318 : Nat := (r316.2.2.2 49 a0 0)
    fi (fm_is r316.2 14 14 x318 = true) (
    (f3 x318 r316.2).bind fun r319 =>
    fi ((lg_cmp (r319.1 &&& (Int64.ofInt 1)) (Int64.ofInt 1)) = 0) (
      g84 (x317 + ((Int64.ofInt 4) * a2.toInt64)) r319.2) (
      g82 x317 r319.2)) (fi (fm_is r316.2 15 15 x318 = true) (
    (f4 x318 r316.2).bind fun r320 =>
    fi ((lg_cmp (r320.1 &&& (Int64.ofInt 1)) (Int64.ofInt 1)) = 0) (
      g84 (x317 + ((Int64.ofInt 4) * a2.toInt64)) r320.2) (
      g82 x317 r320.2)) (fi (fm_is r316.2 16 16 x318 = true) (
    (f5 x318 r316.2).bind fun r321 =>
    fi ((lg_cmp (r321.1 &&& (Int64.ofInt 1)) (Int64.ofInt 1)) = 0) (
      g84 (x317 + ((Int64.ofInt 4) * a2.toInt64)) r321.2) (
      g82 x317 r321.2)) (fi (fm_is r316.2 17 17 x318 = true) (
    (f3 x318 r316.2).bind fun r322 =>
    fi ((lg_cmp (r322.1 &&& (Int64.ofInt 1)) (Int64.ofInt 1)) = 0) (
      g84 (x317 + ((Int64.ofInt 4) * a2.toInt64)) r322.2) (
      g82 x317 r322.2)) (none))))) none)) (fi (fm_is M307 16 16 x308 = true) (
  (f5 x308 M307).bind fun r323 =>
  let x324 : Int64 := (r323.1 &&& (Int64.ofInt (-4)))
  fi (a1 = 0) (
    g82 x324 r323.2) (
    fi (fm_is r323.2 20 20 a0 = true) (
    let x325 : Nat := (r323.2.2.2 49 a0 0)
    fi (fm_is r323.2 14 14 x325 = true) (
    (f3 x325 r323.2).bind fun r326 =>
    fi ((lg_cmp (r326.1 &&& (Int64.ofInt 1)) (Int64.ofInt 1)) = 0) (
      g84 (x324 + ((Int64.ofInt 4) * a2.toInt64)) r326.2) (
      g82 x324 r326.2)) (fi (fm_is r323.2 15 15 x325 = true) (
    (f4 x325 r323.2).bind fun r327 =>
    fi ((lg_cmp (r327.1 &&& (Int64.ofInt 1)) (Int64.ofInt 1)) = 0) (
      g84 (x324 + ((Int64.ofInt 4) * a2.toInt64)) r327.2) (
      g82 x324 r327.2)) (fi (fm_is r323.2 16 16 x325 = true) (
    (f5 x325 r323.2).bind fun r328 =>
    fi ((lg_cmp (r328.1 &&& (Int64.ofInt 1)) (Int64.ofInt 1)) = 0) (
      g84 (x324 + ((Int64.ofInt 4) * a2.toInt64)) r328.2) (
      g82 x324 r328.2)) (fi (fm_is r323.2 17 17 x325 = true) (
    (f3 x325 r323.2).bind fun r329 =>
    fi ((lg_cmp (r329.1 &&& (Int64.ofInt 1)) (Int64.ofInt 1)) = 0) (
      g84 (x324 + ((Int64.ofInt 4) * a2.toInt64)) r329.2) (
      g82 x324 r329.2)) (none))))) none)) (fi (fm_is M307 17 17 x308 = true) (
  (f3 x308 M307).bind fun r330 =>
  let x331 : Int64 := (r330.1 &&& (Int64.ofInt (-4)))
  fi (a1 = 0) (
    g82 x331 r330.2) (
    fi (fm_is r330.2 20 20 a0 = true) (
    let x332 : Nat := (r330.2.2.2 49 a0 0)
    fi (fm_is r330.2 14 14 x332 = true) (
    (f3 x332 r330.2).bind fun r333 =>
    fi ((lg_cmp (r333.1 &&& (Int64.ofInt 1)) (Int64.ofInt 1)) = 0) (
      g84 (x331 + ((Int64.ofInt 4) * a2.toInt64)) r333.2) (
      g82 x331 r333.2)) (fi (fm_is r330.2 15 15 x332 = true) (
    (f4 x332 r330.2).bind fun r334 =>
    fi ((lg_cmp (r334.1 &&& (Int64.ofInt 1)) (Int64.ofInt 1)) = 0) (
      g84 (x331 + ((Int64.ofInt 4) * a2.toInt64)) r334.2) (
      g82 x331 r334.2)) (fi (fm_is r330.2 16 16 x332 = true) (
    (f5 x332 r330.2).bind fun r335 =>
    fi ((lg_cmp (r335.1 &&& (Int64.ofInt 1)) (Int64.ofInt 1)) = 0) (
      g84 (x331 + ((Int64.ofInt 4) * a2.toInt64)) r335.2) (
      g82 x331 r335.2)) (fi (fm_is r330.2 17 17 x332 = true) (
    (f3 x332 r330.2).bind fun r336 =>
    fi ((lg_cmp (r336.1 &&& (Int64.ofInt 1)) (Int64.ofInt 1)) = 0) (
      g84 (x331 + ((Int64.ofInt 4) * a2.toInt64)) r336.2) (
      g82 x331 r336.2)) (none))))) none)) (none))))) none) (fi (fm_is M245 17 17 x246 = true) (
  (f2 x246 a3 M245).bind fun M337 =>
  fi (fm_is M337 20 20 a0 = true) (
  let x338 : Nat := (M337.2.2 49 a0 0)
  fi (fm_is M337 14 14 x338 = true) (
  (f3 x338 M337).bind fun r339 =>
  let x340 : Int64 := (r339.1 &&& (Int64.ofInt (-4)))
  fi (a1 = 0) (
    g82 x340 r339.2) (
    fi (fm_is r339.2 20 20 a0 = true) (
    let x341 : Nat := (r339.2.2.2 49 a0 0)
    fi (fm_is r339.2 14 14 x341 = true) (
    (f3 x341 r339.2).bind fun r342 =>
    fi ((lg_cmp (r342.1 &&& (Int64.ofInt 1)) (Int64.ofInt 1)) = 0) (
      g84 (x340 + ((Int64.ofInt 4) * a2.toInt64)) r342.2) (
      g82 x340 r342.2)) (fi (fm_is r339.2 15 15 x341 = true) (
    (f4 x341 r339.2).bind fun r343 =>
    fi ((lg_cmp (r343.1 &&& (Int64.ofInt 1)) (Int64.ofInt 1)) = 0) (
      g84 (x340 + ((Int64.ofInt 4) * a2.toInt64)) r343.2) (
      g82 x340 r343.2)) (fi (fm_is r339.2 16 16 x341 = true) (
    (f5 x341 r339.2).bind fun r344 =>
    fi ((lg_cmp (r344.1 &&& (Int64.ofInt 1)) (Int64.ofInt 1)) = 0) (
      g84 (x340 + ((Int64.ofInt 4) * a2.toInt64)) r344.2) (
      g82 x340 r344.2)) (fi (fm_is r339.2 17 17 x341 = true) (
    (f3 x341 r339.2).bind fun r345 =>
    fi ((lg_cmp (r345.1 &&& (Int64.ofInt 1)) (Int64.ofInt 1)) = 0) (
      g84 (x340 + ((Int64.ofInt 4) * a2.toInt64)) r345.2) (
      g82 x340 r345.2)) (none))))) none)) (fi (fm_is M337 15 15 x338 = true) (
  (f4 x338 M337).bind fun r346 =>
  let x347 : Int64 := (r346.1 &&& (Int64.ofInt (-4)))
  fi (a1 = 0) (
    g82 x347 r346.2) (
    fi (fm_is r346.2 20 20 a0 = true) (
    let x348 : Nat := (r346.2.2.2 49 a0 0)
    fi (fm_is r346.2 14 14 x348 = true) (
    (f3 x348 r346.2).bind fun r349 =>
    fi ((lg_cmp (r349.1 &&& (Int64.ofInt 1)) (Int64.ofInt 1)) = 0) (
      g84 (x347 + ((Int64.ofInt 4) * a2.toInt64)) r349.2) (
      g82 x347 r349.2)) (fi (fm_is r346.2 15 15 x348 = true) (
    (f4 x348 r346.2).bind fun r350 =>
    fi ((lg_cmp (r350.1 &&& (Int64.ofInt 1)) (Int64.ofInt 1)) = 0) (
      g84 (x347 + ((Int64.ofInt 4) * a2.toInt64)) r350.2) (
      g82 x347 r350.2)) (fi (fm_is r346.2 16 16 x348 = true) (
    (f5 x348 r346.2).bind fun r351 =>
    fi ((lg_cmp (r351.1 &&& (Int64.ofInt 1)) (Int64.ofInt 1)) = 0) (
      g84 (x347 + ((Int64.ofInt 4) * a2.toInt64)) r351.2) (
      g82 x347 r351.2)) (fi (fm_is r346.2 17 17 x348 = true) (
    (f3 x348 r346.2).bind fun r352 =>
    fi ((lg_cmp (r352.1 &&& (Int64.ofInt 1)) (Int64.ofInt 1)) = 0) (
      g84 (x347 + ((Int64.ofInt 4) * a2.toInt64)) r352.2) (
      g82 x347 r352.2)) (none))))) none)) (fi (fm_is M337 16 16 x338 = true) (
  (f5 x338 M337).bind fun r353 =>
  let x354 : Int64 := (r353.1 &&& (Int64.ofInt (-4)))
  fi (a1 = 0) (
    g82 x354 r353.2) (
    fi (fm_is r353.2 20 20 a0 = true) (
    let x355 : Nat := (r353.2.2.2 49 a0 0)
    fi (fm_is r353.2 14 14 x355 = true) (
    (f3 x355 r353.2).bind fun r356 =>
    fi ((lg_cmp (r356.1 &&& (Int64.ofInt 1)) (Int64.ofInt 1)) = 0) (
      g84 (x354 + ((Int64.ofInt 4) * a2.toInt64)) r356.2) (
      g82 x354 r356.2)) (fi (fm_is r353.2 15 15 x355 = true) (
    (f4 x355 r353.2).bind fun r357 =>
    fi ((lg_cmp (r357.1 &&& (Int64.ofInt 1)) (Int64.ofInt 1)) = 0) (
      g84 (x354 + ((Int64.ofInt 4) * a2.toInt64)) r357.2) (
      g82 x354 r357.2)) (fi (fm_is r353.2 16 16 x355 = true) (
    (f5 x355 r353.2).bind fun r358 =>
    fi ((lg_cmp (r358.1 &&& (Int64.ofInt 1)) (Int64.ofInt 1)) = 0) (
      g84 (x354 + ((Int64.ofInt 4) * a2.toInt64)) r358.2) (
      g82 x354 r358.2)) (fi (fm_is r353.2 17 17 x355 = true) (
    (f3 x355 r353.2).bind fun r359 =>
    fi ((lg_cmp (r359.1 &&& (Int64.ofInt 1)) (Int64.ofInt 1)) = 0) (
      g84 (x354 + ((Int64.ofInt 4) * a2.toInt64)) r359.2) (
      g82 x354 r359.2)) (none))))) none)) (fi (fm_is M337 17 17 x338 = true) (
  (f3 x338 M337).bind fun r360 =>
  let x361 : Int64 := (r360.1 &&& (Int64.ofInt (-4)))
  fi (a1 = 0) (
    g82 x361 r360.2) (
    fi (fm_is r360.2 20 20 a0 = true) (
    let x362 : Nat := (r360.2.2.2 49 a0 0)
    fi (fm_is r360.2 14 14 x362 = true) (
    (f3 x362 r360.2).bind fun r363 =>
    fi ((lg_cmp (r363.1 &&& (Int64.ofInt 1)) (Int64.ofInt 1)) = 0) (
      g84 (x361 + ((Int64.ofInt 4) * a2.toInt64)) r363.2) (
      g82 x361 r363.2)) (fi (fm_is r360.2 15 15 x362 = true) (
    (f4 x362 r360.2).bind fun r364 =>
    fi ((lg_cmp (r364.1 &&& (Int64.ofInt 1)) (Int64.ofInt 1)) = 0) (
      g84 (x361 + ((Int64.ofInt 4) * a2.toInt64)) r364.2) (
      g82 x361 r364.2)) (fi (fm_is r360.2 16 16 x362 = true) (
    (f5 x362 r360.2).bind fun r365 =>
    fi ((lg_cmp (r365.1 &&& (Int64.ofInt 1)) (Int64.ofInt 1)) = 0) (
      g84 (x361 + ((Int64.ofInt 4) * a2.toInt64)) r365.2) (
      g82 x361 r365.2)) (fi (fm_is r360.2 17 17 x362 = true) (
    (f3 x362 r360.2).bind fun r366 =>
    fi ((lg_cmp (r366.1 &&& (Int64.ofInt 1)) (Int64.ofInt 1)) = 0) (
      g84 (x361 + ((Int64.ofInt 4) * a2.toInt64)) r366.2) (
      g82 x361 r366.2)) (none))))) none)) (none))))) none) (none))))) none) (fi (fm_is M 17 17 s0 = true) (
  (f2 s0 s1 M).bind fun M367 =>
  fi (fm_is M367 20 20 a0 = true) (
  let x368 : Nat := (M367.2.2 53 a0 0)
  fi (fm_is M367 14 14 x368 = true) (
  (f0 x368 a3 M367).bind fun M369 =>
  fi (fm_is M369 20 20 a0 = true) (
  let x370 : Nat := (M369.2.2 49 a0 0)
  fi (fm_is M369 14 14 x370 = true) (
  (f3 x370 M369).bind fun r371 =>
  let x372 : Int64 := (r371.1 &&& (Int64.ofInt (-4)))
  fi (a1 = 0) (
    g82 x372 r371.2) (
    fi (fm_is r371.2 20 20 a0 = true) (
    let x373 : Nat := (r371.2.2.2 49 a0 0)
    fi (fm_is r371.2 14 14 x373 = true) (
    (f3 x373 r371.2).bind fun r374 =>
    fi ((lg_cmp (r374.1 &&& (Int64.ofInt 1)) (Int64.ofInt 1)) = 0) (
      g84 (x372 + ((Int64.ofInt 4) * a2.toInt64)) r374.2) (
      g82 x372 r374.2)) (fi (fm_is r371.2 15 15 x373 = true) (
    (f4 x373 r371.2).bind fun r375 =>
    fi ((lg_cmp (r375.1 &&& (Int64.ofInt 1)) (Int64.ofInt 1)) = 0) (
      g84 (x372 + ((Int64.ofInt 4) * a2.toInt64)) r375.2) (
      g82 x372 r375.2)) (fi (fm_is r371.2 16 16 x373 = true) (
    (f5 x373 r371.2).bind fun r376 =>
    fi ((lg_cmp (r376.1 &&& (Int64.ofInt 1)) (Int64.ofInt 1)) = 0) (
      g84 (x372 + ((Int64.ofInt 4) * a2.toInt64)) r376.2) (
      g82 x372 r376.2)) (fi (fm_is r371.2 17 17 x373 = true) (
    (f3 x373 r371.2).bind fun r377 =>
    fi ((lg_cmp (r377.1 &&& (Int64.ofInt 1)) (Int64.ofInt 1)) = 0) (
      g84 (x372 + ((Int64.ofInt 4) * a2.toInt64)) r377.2) (
      g82 x372 r377.2)) (none))))) none)) (fi (fm_is M369 15 15 x370 = true) (
  (f4 x370 M369).bind fun r378 =>
  let x379 : Int64 := (r378.1 &&& (Int64.ofInt (-4)))
  fi (a1 = 0) (
    g82 x379 r378.2) (
    fi (fm_is r378.2 20 20 a0 = true) (
    let x380 : Nat := (r378.2.2.2 49 a0 0)
    fi (fm_is r378.2 14 14 x380 = true) (
    (f3 x380 r378.2).bind fun r381 =>
    fi ((lg_cmp (r381.1 &&& (Int64.ofInt 1)) (Int64.ofInt 1)) = 0) (
      g84 (x379 + ((Int64.ofInt 4) * a2.toInt64)) r381.2) (
      g82 x379 r381.2)) (fi (fm_is r378.2 15 15 x380 = true) (
    (f4 x380 r378.2).bind fun r382 =>
    fi ((lg_cmp (r382.1 &&& (Int64.ofInt 1)) (Int64.ofInt 1)) = 0) (
      g84 (x379 + ((Int64.ofInt 4) * a2.toInt64)) r382.2) (
      g82 x379 r382.2)) (fi (fm_is r378.2 16 16 x380 = true) (
    (f5 x380 r378.2).bind fun r383 =>
    fi ((lg_cmp (r383.1 &&& (Int64.ofInt 1)) (Int64.ofInt 1)) = 0) (
      g84 (x379 + ((Int64.ofInt 4) * a2.toInt64)) r383.2) (
      g82 x379 r383.2)) (fi (fm_is r378.2 17 17 x380 = true) (
    (f3 x380 r378.2).bind fun r384 =>
    fi ((lg_cmp (r384.1 &&& (Int64.ofInt 1)) (Int64.ofInt 1)) = 0) (
      g84 (x379 + ((Int64.ofInt 4) * a2.toInt64)) r384.2) (
      g82 x379 r384.2)) (none))))) none)) (fi (fm_is M369 16 16 x370 = true) (
  (f5 x370 M369).bind fun r385 =>
  let x386 : Int64 := (r385.1 &&& (Int64.ofInt (-4)))
  fi (a1 = 0) (
    g82 x386 r385.2) (
    fi (fm_is r385.2 20 20 a0 = true) (
    let x387 : Nat := (r385.2.2.2 49 a0 0)
    fi (fm_is r385.2 14 14 x387 = true) (
    (f3 x387 r385.2).bind fun r388 =>
    fi ((lg_cmp (r388.1 &&& (Int64.ofInt 1)) (Int64.ofInt 1)) = 0) (
      g84 (x386 + ((Int64.ofInt 4) * a2.toInt64)) r388.2) (
      g82 x386 r388.2)) (fi (fm_is r385.2 15 15 x387 = true) (
    (f4 x387 r385.2).bind fun r389 =>
    fi ((lg_cmp (r389.1 &&& (Int64.ofInt 1)) (Int64.ofInt 1)) = 0) (
      g84 (x386 + ((Int64.ofInt 4) * a2.toInt64)) r389.2) (
      g82 x386 r389.2)) (fi (fm_is r385.2 16 16 x387 = true) (
    (f5 x387 r385.2).bind fun r390 =>
    fi ((lg_cmp (r390.1 &&& (Int64.ofInt 1)) (Int64.ofInt 1)) = 0) (
      g84 (x386 + ((Int64.ofInt 4) * a2.toInt64)) r390.2) (
      g82 x386 r390.2)) (fi (fm_is r385.2 17 17 x387 = true) (
    (f3 x387 r385.2).bind fun r391 =>
    fi ((lg_cmp (r391.1 &&& (Int64.ofInt 1)) (Int64.ofInt 1)) = 0) (
      g84 (x386 + ((Int64.ofInt 4) * a2.toInt64)) r391.2) (
      g82 x386 r391.2)) (none))))) none)) (fi (fm_is M369 17 17 x370 = true) (
  (f3 x370 M369).bind fun r392 =>
  let x393 : Int64 := (r392.1 &&& (Int64.ofInt (-4)))
  fi (a1 = 0) (
    g82 x393 r392.2) (
    fi (fm_is r392.2 20 20 a0 = true) (
    let x394 : Nat := (r392.2.2.2 49 a0 0)
    fi (fm_is r392.2 14 14 x394 = true) (
    (f3 x394 r392.2).bind fun r395 =>
    fi ((lg_cmp (r395.1 &&& (Int64.ofInt 1)) (Int64.ofInt 1)) = 0) (
      g84 (x393 + ((Int64.ofInt 4) * a2.toInt64)) r395.2) (
      g82 x393 r395.2)) (fi (fm_is r392.2 15 15 x394 = true) (
    (f4 x394 r392.2).bind fun r396 =>
    fi ((lg_cmp (r396.1 &&& (Int64.ofInt 1)) (Int64.ofInt 1)) = 0) (
      g84 (x393 + ((Int64.ofInt 4) * a2.toInt64)) r396.2) (
      g82 x393 r396.2)) (fi (fm_is r392.2 16 16 x394 = true) (
    (f5 x394 r392.2).bind fun r397 =>
    fi ((lg_cmp (r397.1 &&& (Int64.ofInt 1)) (Int64.ofInt 1)) = 0) (
      g84 (x393 + ((Int64.ofInt 4) * a2.toInt64)) r397.2) (
      g82 x393 r397.2)) (fi (fm_is r392.2 17 17 x394 = true) (
    (f3 x394 r392.2).bind fun r398 =>
    fi ((lg_cmp (r398.1 &&& (Int64.ofInt 1)) (Int64.ofInt 1)) = 0) (
      g84 (x393 + ((Int64.ofInt 4) * a2.toInt64)) r398.2) (
      g82 x393 r398.2)) (none))))) none)) (none))))) none) (fi (fm_is M367 15 15 x368 = true) (
  (f0 x368 a3 M367).bind fun M399 =>
  fi (fm_is M399 20 20 a0 = true) (
  let x400 : Nat := (M399.2.2 49 a0 0)
  fi (fm_is M399 14 14 x400 = true) (
  (f3 x400 M399).bind fun r401 =>
  let x402 : Int64 := (r401.1 &&& (Int64.ofInt (-4)))
  fi (a1 = 0) (
    g82 x402 r401.2) (
    fi (fm_is r401.2 20 20 a0 = true) (
    let x403 : Nat := (r401.2.2.2 49 a0 0)
    fi (fm_is r401.2 14 14 x403 = true) (
    (f3 x403 r401.2).bind fun r404 =>
    fi ((lg_cmp (r404.1 &&& (Int64.ofInt 1)) (Int64.ofInt 1)) = 0) (
      g84 (x402 + ((Int64.ofInt 4) * a2.toInt64)) r404.2) (
      g82 x402 r404.2)) (fi (fm_is r401.2 15 15 x403 = true) (
    (f4 x403 r401.2).bind fun r405 =>
    fi ((lg_cmp (r405.1 &&& (Int64.ofInt 1)) (Int64.ofInt 1)) = 0) (
      g84 (x402 + ((Int64.ofInt 4) * a2.toInt64)) r405.2) (
      g82 x402 r405.2)) (fi (fm_is r401.2 16 16 x403 = true) (
    (f5 x403 r401.2).bind fun r406 =>
    fi ((lg_cmp (r406.1 &&& (Int64.ofInt 1)) (Int64.ofInt 1)) = 0) (
      g84 (x402 + ((Int64.ofInt 4) * a2.toInt64)) r406.2) (
      g82 x402 r406.2)) (fi (fm_is r401.2 17 17 x403 = true) (
    (f3 x403 r401.2).bind fun r407 =>
    fi ((lg_cmp (r407.1 &&& (Int64.ofInt 1)) (Int64.ofInt 1)) = 0) (
      g84 (x402 + ((Int64.ofInt 4) * a2.toInt64)) r407.2) (
      g82 x402 r407.2)) (none))))) none)) (fi (fm_is M399 15 15 x400 = true) (
  (f4 x400 M399).bind fun r408 =>
  let x409 : Int64 := (r408.1 &&& (Int64.ofInt (-4)))
  fi (a1 = 0) (
    g82 x409 r408.2) (
    fi (fm_is r408.2 20 20 a0 = true) (
    let x410 : Nat := (r408.2.2.2 49 a0 0)
    fi (fm_is r408.2 14 14 x410 = true) (
    (f3 x410 r408.2).bind fun r411 =>
    fi ((lg_cmp (r411.1 &&& (Int64.ofInt 1)) (Int64.ofInt 1)) = 0) (
      g84 (x409 + ((Int64.ofInt 4) * a2.toInt64)) r411.2) (
      g82 x409 r411.2)) (fi (fm_is r408.2 15 15 x410 = true) (
    (f4 x410 r408.2).bind fun r412 =>
    fi ((lg_cmp (r412.1 &&& (Int64.ofInt 1)) (Int64.ofInt 1)) = 0) (
      g84 (x409 + ((Int64.ofInt 4) * a2.toInt64)) r412.2) (
      g82 x409 r412.2)) (fi (fm_is r408.2 16 16 x410 = true) (
    (f5 x410 r408.2).bind fun r413 =>
    fi ((lg_cmp (r413.1 &&& (Int64.ofInt 1)) (Int64.ofInt 1)) = 0) (
      g84 (x409 + ((Int64.ofInt 4) * a2.toInt64)) r413.2) (
      g82 x409 r413.2)) (fi (fm_is r408.2 17 17 x410 = true) (
    (f3 x410 r408.2).bind fun r414 =>
    fi ((lg_cmp (r414.1 &&& (Int64.ofInt 1)) (Int64.ofInt 1)) = 0) (
      g84 (x409 + ((Int64.ofInt 4) * a2.toInt64)) r414.2) (
      g82 x409 r414.2)) (none))))) none)) (fi (fm_is M399 16 16 x400 = true) (
  (f5 x400 M399).bind fun r415 =>
  let x416 : Int64 := (r415.1 &&& (Int64.ofInt (-4)))
  fi (a1 = 0) (
    g82 x416 r415.2) (
    fi (fm_is r415.2 20 20 a0 = true) (
    let x417 : Nat := (r415.2.2.2 49 a0 0)
    fi (fm_is r415.2 14 14 x417 = true) (
    (f3 x417 r415.2).bind fun r418 =>
    fi ((lg_cmp (r418.1 &&& (Int64.ofInt 1)) (Int64.ofInt 1)) = 0) (
      g84 (x416 + ((Int64.ofInt 4) * a2.toInt64)) r418.2) (
      g82 x416 r418.2)) (fi (fm_is r415.2 15 15 x417 = true) (
    (f4 x417 r415.2).bind fun r419 =>
    fi ((lg_cmp (r419.1 &&& (Int64.ofInt 1)) (Int64.ofInt 1)) = 0) (
      g84 (x416 + ((Int64.ofInt 4) * a2.toInt64)) r419.2) (
      g82 x416 r419.2)) (fi (fm_is r415.2 16 16 x417 = true) (
    (f5 x417 r415.2).bind fun r420 =>
    fi ((lg_cmp (r420.1 &&& (Int64.ofInt 1)) (Int64.ofInt 1)) = 0) (
      g84 (x416 + ((Int64.ofInt 4) * a2.toInt64)) r420.2) (
      g82 x416 r420.2)) (fi (fm_is r415.2 17 17 x417 = true) (
    (f3 x417 r415.2).bind fun r421 =>
    fi ((lg_cmp (r421.1 &&& (Int64.ofInt 1)) (Int64.ofInt 1)) = 0) (
      g84 (x416 + ((Int64.ofInt 4) * a2.toInt64)) r421.2) (
      g82 x416 r421.2)) (none))))) none)) (fi (fm_is M399 17 17 x400 = true) (
  (f3 x400 M399).bind fun r422 =>
  let x423 : Int64 := (r422.1 &&& (Int64.ofInt (-4)))
  fi (a1 = 0) (
    g82 x423 r422.2) (
    fi (fm_is r422.2 20 20 a0 = true) (
    let x424 : Nat := (r422.2.2.2 49 a0 0)
    fi (fm_is r422.2 14 14 x424 = true) (
    (f3 x424 r422.2).bind fun r425 =>
    fi ((lg_cmp (r425.1 &&& (Int64.ofInt 1)) (Int64.ofInt 1)) = 0) (
      g84 (x423 + ((Int64.ofInt 4) * a2.toInt64)) r425.2) (
      g82 x423 r425.2)) (fi (fm_is r422.2 15 15 x424 = true) (
    (f4 x424 r422.2).bind fun r426 =>
    fi ((lg_cmp (r426.1 &&& (Int64.ofInt 1)) (Int64.ofInt 1)) = 0) (
      g84 (x423 + ((Int64.ofInt 4) * a2.toInt64)) r426.2) (
      g82 x423 r426.2)) (fi (fm_is r422.2 16 16 x424 = true) (
    (f5 x424 r422.2).bind fun r427 =>
    fi ((lg_cmp (r427.1 &&& (Int64.ofInt 1)) (Int64.ofInt 1)) = 0) (
      g84 (x423 + ((Int64.ofInt 4) * a2.toInt64)) r427.2) (
      g82 x423 r427.2)) (fi (fm_is r422.2 17 17 x424 = true) (
    (f3 x424 r422.2).bind fun r428 =>
    fi ((lg_cmp (r428.1 &&& (Int64.ofInt 1)) (Int64.ofInt 1)) = 0) (
      g84 (x423 + ((Int64.ofInt 4) * a2.toInt64)) r428.2) (
      g82 x423 r428.2)) (none))))) none)) (none))))) none) (fi (fm_is M367 16 16 x368 = true) (
  (f1 x368 a3 M367).bind fun M429 =>
  fi (fm_is M429 20 20 a0 = true) (
  let x430 : Nat := (M429.2.2 49 a0 0)
  fi (fm_is M429 14 14 x430 = true) (
  (f3 x430 M429).bind fun r431 =>
  let x432 : Int64 := (r431.1 &&& (Int64.ofInt (-4)))
  fi (a1 = 0) (
    g82 x432 r431.2) (
    fi (fm_is r431.2 20 20 a0 = true) (
    let x433 : Nat := (r431.2.2.2 49 a0 0)
    fi (fm_is r431.2 14 14 x433 = true) (
    (f3 x433 r431.2).bind fun r434 =>
    fi ((lg_cmp (r434.1 &&& (Int64.ofInt 1)) (Int64.ofInt 1)) = 0) (
      g84 (x432 + ((Int64.ofInt 4) * a2.toInt64)) r434.2) (
      g82 x432 r434.2)) (fi (fm_is r431.2 15 15 x433 = true) (
    (f4 x433 r431.2).bind fun r435 =>
    fi ((lg_cmp (r435.1 &&& (Int64.ofInt 1)) (Int64.ofInt 1)) = 0) (
      g84 (x432 + ((Int64.ofInt 4) * a2.toInt64)) r435.2) (
      g82 x432 r435.2)) (fi (fm_is r431.2 16 16 x433 = true) (
    (f5 x433 r431.2).bind fun r436 =>
    fi ((lg_cmp (r436.1 &&& (Int64.ofInt 1)) (Int64.ofInt 1)) = 0) (
      g84 (x432 + ((Int64.ofInt 4) * a2.toInt64)) r436.2) (
      g82 x432 r436.2)) (fi (fm_is r431.2 17 17 x433 = true) (
    (f3 x433 r431.2).bind fun r437 =>
    fi ((lg_cmp (r437.1 &&& (Int64.ofInt 1)) (Int64.ofInt 1)) = 0) (
      g84 (x432 + ((Int64.ofInt 4) * a2.toInt64)) r437.2) (
      g82 x432 r437.2)) (none))))) none)) (fi (fm_is M429 15 15 x430 = true) (
  (f4 x430 M429).bind fun r438 =>
  let x439 : Int64 := (r438.1 &&& (Int64.ofInt (-4)))
  fi (a1 = 0) (
    g82 x439 r438.2) (
    fi (fm_is r438.2 20 20 a0 = true) (
    let x440 : Nat := (r438.2.2.2 49 a0 0)
    fi (fm_is r438.2 14 14 x440 = true) (
    (f3 x440 r438.2).bind fun r441 =>
    fi ((lg_cmp (r441.1 &&& (Int64.ofInt 1)) (Int64.ofInt 1)) = 0) (
      g84 (x439 + ((Int64.ofInt 4) * a2.toInt64)) r441.2) (
      g82 x439 r441.2)) (fi (fm_is r438.2 15 15 x440 = true) (
    (f4 x440 r438.2).bind fun r442 =>
    fi ((lg_cmp (r442.1 &&& (Int64.ofInt 1)) (Int64.ofInt 1)) = 0) (
      g84 (x439 + ((Int64.ofInt 4) * a2.toInt64)) r442.2) (
      g82 x439 r442.2)) (fi (fm_is r438.2 16 16 x440 = true) (
    (f5 x440 r438.2).bind fun r443 =>
    fi ((lg_cmp (r443.1 &&& (Int64.ofInt 1)) (Int64.ofInt 1)) = 0) (
      g84 (x439 + ((Int64.ofInt 4) * a2.toInt64)) r443.2) (
      g82 x439 r443.2)) (fi (fm_is r438.2 17 17 x440 = true) (
    (f3 x440 r438.2).bind fun r444 =>
    fi ((lg_cmp (r444.1 &&& (Int64.ofInt 1)) (Int64.ofInt 1)) = 0) (
      g84 (x439 + ((Int64.ofInt 4) * a2.toInt64)) r444.2) (
      g82 x439 r444.2)) (none))))) none)) (fi (fm_is M429 16 16 x430 = true) (
  (f5 x430 M429).bind fun r445 =>
  let x446 : Int64 := (r445.1 &&& (Int64.ofInt (-4)))
  fi (a1 = 0) (
    g82 x446 r445.2) (
    fi (fm_is r445.2 20 20 a0 = true) (
    let x447 : Nat := (r445.2.2.2 49 a0 0)
    fi (fm_is r445.2 14 14 x447 = true) (
    (f3 x447 r445.2).bind fun r448 =>
    fi ((lg_cmp (r448.1 &&& (Int64.ofInt 1)) (Int64.ofInt 1)) = 0) (
      g84 (x446 + ((Int64.ofInt 4) * a2.toInt64)) r448.2) (
      g82 x446 r448.2)) (fi (fm_is r445.2 15 15 x447 = true) (
    (f4 x447 r445.2).bind fun r449 =>
    fi ((lg_cmp (r449.1 &&& (Int64.ofInt 1)) (Int64.ofInt 1)) = 0) (
      g84 (x446 + ((Int64.ofInt 4) * a2.toInt64)) r449.2) (
      g82 x446 r449.2)) (fi (fm_is r445.2 16 16 x447 = true) (
    (f5 x447 r445.2).bind fun r450 =>
    fi ((lg_cmp (r450.1 &&& (Int64.ofInt 1)) (Int64.ofInt 1)) = 0) (
      g84 (x446 + ((Int64.ofInt 4) * a2.toInt64)) r450.2) (
      g82 x446 r450.2)) (fi (fm_is r445.2 17 17 x447 = true) (
    (f3 x447 r445.2).bind fun r451 =>
    fi ((lg_cmp (r451.1 &&& (Int64.ofInt 1)) (Int64.ofInt 1)) = 0) (
      g84 (x446 + ((Int64.ofInt 4) * a2.toInt64)) r451.2) (
      g82 x446 r451.2)) (none))))) none)) (fi (fm_is M429 17 17 x430 = true) (
  (f3 x430 M429).bind fun r452 =>
  let x453 : Int64 := (r452.1 &&& (Int64.ofInt (-4)))
  fi (a1 = 0) (
    g82 x453 r452.2) (
    fi (fm_is r452.2 20 20 a0 = true) (
    let x454 : Nat := (r452.2.2.2 49 a0 0)
    fi (fm_is r452.2 14 14 x454 = true) (
    (f3 x454 r452.2).bind fun r455 =>
    fi ((lg_cmp (r455.1 &&& (Int64.ofInt 1)) (Int64.ofInt 1)) = 0) (
      g84 (x453 + ((Int64.ofInt 4) * a2.toInt64)) r455.2) (
      g82 x453 r455.2)) (fi (fm_is r452.2 15 15 x454 = true) (
    (f4 x454 r452.2).bind fun r456 =>
    fi ((lg_cmp (r456.1 &&& (Int64.ofInt 1)) (Int64.ofInt 1)) = 0) (
      g84 (x453 + ((Int64.ofInt 4) * a2.toInt64)) r456.2) (
      g82 x453 r456.2)) (fi (fm_is r452.2 16 16 x454 = true) (
    (f5 x454 r452.2).bind fun r457 =>
    fi ((lg_cmp (r457.1 &&& (Int64.ofInt 1)) (Int64.ofInt 1)) = 0) (
      g84 (x453 + ((Int64.ofInt 4) * a2.toInt64)) r457.2) (
      g82 x453 r457.2)) (fi (fm_is r452.2 17 17 x454 = true) (
    (f3 x454 r452.2).bind fun r458 =>
    fi ((lg_cmp (r458.1 &&& (Int64.ofInt 1)) (Int64.ofInt 1)) = 0) (
      g84 (x453 + ((Int64.ofInt 4) * a2.toInt64)) r458.2) (
      g82 x453 r458.2)) (none))))) none)) (none))))) none) (fi (fm_is M367 17 17 x368 = true) (
  (f2 x368 a3 M367).bind fun M459 =>
  fi (fm_is M459 20 20 a0 = true) (
  let x460 : Nat := (M459.2.2 49 a0 0)
  fi (fm_is M459 14 14 x460 = true) (
  (f3 x460 M459).bind fun r461 =>
  let x462 : Int64 := (r461.1 &&& (Int64.ofInt (-4)))
  fi (a1 = 0) (
    g82 x462 r461.2) (
    fi (fm_is r461.2 20 20 a0 = true) (
    let x463 : Nat := (r461.2.2.2 49 a0 0)
    fi (fm_is r461.2 14 14 x463 = true) (
    (f3 x463 r461.2).bind fun r464 =>
    fi ((lg_cmp (r464.1 &&& (Int64.ofInt 1)) (Int64.ofInt 1)) = 0) (
      g84 (x462 + ((Int64.ofInt 4) * a2.toInt64)) r464.2) (
      g82 x462 r464.2)) (fi (fm_is r461.2 15 15 x463 = true) (
    (f4 x463 r461.2).bind fun r465 =>
    fi ((lg_cmp (r465.1 &&& (Int64.ofInt 1)) (Int64.ofInt 1)) = 0) (
      g84 (x462 + ((Int64.ofInt 4) * a2.toInt64)) r465.2) (
      g82 x462 r465.2)) (fi (fm_is r461.2 16 16 x463 = true) (
    (f5 x463 r461.2).bind fun r466 =>
    fi ((lg_cmp (r466.1 &&& (Int64.ofInt 1)) (Int64.ofInt 1)) = 0) (
      g84 (x462 + ((Int64.ofInt 4) * a2.toInt64)) r466.2) (
      g82 x462 r466.2)) (fi (fm_is r461.2 17 17 x463 = true) (
    (f3 x463 r461.2).bind fun r467 =>
    fi ((lg_cmp (r467.1 &&& (Int64.ofInt 1)) (Int64.ofInt 1)) = 0) (
      g84 (x462 + ((Int64.ofInt 4) * a2.toInt64)) r467.2) (
      g82 x462 r467.2)) (none))))) none)) (fi (fm_is M459 15 15 x460 = true) (
  (f4 x460 M459).bind fun r468 =>
  let x469 : Int64 := (r468.1 &&& (Int64.ofInt (-4)))
  fi (a1 = 0) (
    g82 x469 r468.2) (
    fi (fm_is r468.2 20 20 a0 = true) (
    let x470 : Nat := (r468.2.2.2 49 a0 0)
    fi (fm_is r468.2 14 14 x470 = true) (
    (f3 x470 r468.2).bind fun r471 =>
    fi ((lg_cmp (r471.1 &&& (Int64.ofInt 1)) (Int64.ofInt 1)) = 0) (
      g84 (x469 + ((Int64.ofInt 4) * a2.toInt64)) r471.2) (
      g82 x469 r471.2)) (fi (fm_is r468.2 15 15 x470 = true) (
    (f4 x470 r468.2).bind fun r472 =>
    fi ((lg_cmp (r472.1 &&& (Int64.ofInt 1)) (Int64.ofInt 1)) = 0) (
      g84 (x469 + ((Int64.ofInt 4) * a2.toInt64)) r472.2) (
      g82 x469 r472.2)) (fi (fm_is r468.2 16 16 x470 = true) (
    (f5 x470 r468.2).bind fun r473 =>
    fi ((lg_cmp (r473.1 &&& (Int64.ofInt 1)) (Int64.ofInt 1)) = 0) (
      g84 (x469 + ((Int64.ofInt 4) * a2.toInt64)) r473.2) (
      g82 x469 r473.2)) (fi (fm_is r468.2 17 17 x470 = true) (
    (f3 x470 r468.2).bind fun r474 =>
    fi ((lg_cmp (r474.1 &&& (Int64.ofInt 1)) (Int64.ofInt 1)) = 0) (
      g84 (x469 + ((Int64.ofInt 4) * a2.toInt64)) r474.2) (
      g82 x469 r474.2)) (none))))) none)) (fi (fm_is M459 16 16 x460 = true) (
  (f5 x460 M459).bind fun r475 =>
  let x476 : Int64 := (r475.1 &&& (Int64.ofInt (-4)))
  fi (a1 = 0) (
    g82 x476 r475.2) (
    fi (fm_is r475.2 20 20 a0 = true) (
    let x477 : Nat := (r475.2.2.2 49 a0 0)
    fi (fm_is r475.2 14 14 x477 = true) (
    (f3 x477 r475.2).bind fun r478 =>
    fi ((lg_cmp (r478.1 &&& (Int64.ofInt 1)) (Int64.ofInt 1)) = 0) (
      g84 (x476 + ((Int64.ofInt 4) * a2.toInt64)) r478.2) (
      g82 x476 r478.2)) (fi (fm_is r475.2 15 15 x477 = true) (
    (f4 x477 r475.2).bind fun r479 =>
    fi ((lg_cmp (r479.1 &&& (Int64.ofInt 1)) (Int64.ofInt 1)) = 0) (
      g84 (x476 + ((Int64.ofInt 4) * a2.toInt64)) r479.2) (
      g82 x476 r479.2)) (fi (fm_is r475.2 16 16 x477 = true) (
    (f5 x477 r475.2).bind fun r480 =>
    fi ((lg_cmp (r480.1 &&& (Int64.ofInt 1)) (Int64.ofInt 1)) = 0) (
      g84 (x476 + ((Int64.ofInt 4) * a2.toInt64)) r480.2) (
      g82 x476 r480.2)) (fi (fm_is r475.2 17 17 x477 = true) (
    (f3 x477 r475.2).bind fun r481 =>
    fi ((lg_cmp (r481.1 &&& (Int64.ofInt 1)) (Int64.ofInt 1)) = 0) (
      g84 (x476 + ((Int64.ofInt 4) * a2.toInt64)) r481.2) (
      g82 x476 r481.2)) (none))))) none)) (fi (fm_is M459 17 17 x460 = true) (
  (f3 x460 M459).bind fun r482 =>
  let x483 : Int64 := (r482.1 &&& (Int64.ofInt (-4)))
  fi (a1 = 0) (
    g82 x483 r482.2) (
    fi (fm_is r482.2 20 20 a0 = true) (
    let x484 : Nat := (r482.2.2.2 49 a0 0)
    fi (fm_is r482.2 14 14 x484 = true) (
    (f3 x484 r482.2).bind fun r485 =>
    fi ((lg_cmp (r485.1 &&& (Int64.ofInt 1)) (Int64.ofInt 1)) = 0) (
      g84 (x483 + ((Int64.ofInt 4) * a2.toInt64)) r485.2) (
      g82 x483 r485.2)) (fi (fm_is r482.2 15 15 x484 = true) (
    (f4 x484 r482.2).bind fun r486 =>
    fi ((lg_cmp (r486.1 &&& (Int64.ofInt 1)) (Int64.ofInt 1)) = 0) (
      g84 (x483 + ((Int64.ofInt 4) * a2.toInt64)) r486.2) (
      g82 x483 r486.2)) (fi (fm_is r482.2 16 16 x484 = true) (
    (f5 x484 r482.2).bind fun r487 =>
    fi ((lg_cmp (r487.1 &&& (Int64.ofInt 1)) (Int64.ofInt 1)) = 0) (
      g84 (x483 + ((Int64.ofInt 4) * a2.toInt64)) r487.2) (
      g82 x483 r487.2)) (fi (fm_is r482.2 17 17 x484 = true) (
    (f3 x484 r482.2).bind fun r488 =>
    fi ((lg_cmp (r488.1 &&& (Int64.ofInt 1)) (Int64.ofInt 1)) = 0) (
      g84 (x483 + ((Int64.ofInt 4) * a2.toInt64)) r488.2) (
      g82 x483 r488.2)) (none))))) none)) (none))))) none) (none))))) none) (none))))
noncomputable def FX80_take_28 (a0 : Nat) (a1 : Int32) (a2 : Int32) (a3 : Int64) (s0 : Nat) (s1 : Int64) (M : FM) : Option (Int64 × FM) := BX80_take_28 FX77_write FX78_write FX82_write FX77_show FX79_show FX78_show FX80_take_82 FX80_take_84 a0 a1 a2 a3 s0 s1 M
noncomputable def BX80_take_0 (f0 : Nat → Int64 → FM → Option (FM)) (f1 : Nat → Int64 → FM → Option (FM)) (f2 : Nat → Int64 → FM → Option (FM)) (g28 : Nat → Int32 → Int32 → Int64 → Nat → Int64 → FM → Option (Int64 × FM)) (a0 : Nat) (a1 : Int32) (a2 : Int32) (a3 : Int64) (a5 : Int64) (M : FM) : Option (Int64 × FM) :=
  fi (fm_is M 20 20 a0 = true) (
  let x1 : Nat := (M.2.2 51 a0 0)
  fi (fm_is M 14 14 x1 = true) (
  (f0 x1 a5 M).bind fun M2 =>
  fi (fm_is M2 20 20 a0 = true) (
  fi (a1 = 0) (
    g28 a0 a1 a2 a3 (M2.2.2 52 a0 0) a2.toInt64 M2) (
    g28 a0 a1 a2 a3 (M2.2.2 52 a0 0) (a2.toInt64 ||| (Int64.ofInt (-9223372036854775808))) M2)) none) (fi (fm_is M 15 15 x1 = true) (
  (f0 x1 a5 M).bind fun M3 =>
  fi (fm_is M3 20 20 a0 = true) (
  fi (a1 = 0) (
    g28 a0 a1 a2 a3 (M3.2.2 52 a0 0) a2.toInt64 M3) (
    g28 a0 a1 a2 a3 (M3.2.2 52 a0 0) (a2.toInt64 ||| (Int64.ofInt (-9223372036854775808))) M3)) none) (fi (fm_is M 16 16 x1 = true) (
  (f1 x1 a5 M).bind fun M4 =>
  fi (fm_is M4 20 20 a0 = true) (
  fi (a1 = 0) (
    g28 a0 a1 a2 a3 (M4.2.2 52 a0 0) a2.toInt64 M4) (
    g28 a0 a1 a2 a3 (M4.2.2 52 a0 0) (a2.toInt64 ||| (Int64.ofInt (-9223372036854775808))) M4)) none) (fi (fm_is M 17 17 x1 = true) (
  (f2 x1 a5 M).bind fun M5 =>
  fi (fm_is M5 20 20 a0 = true) (
  fi (a1 = 0) (
    g28 a0 a1 a2 a3 (M5.2.2 52 a0 0) a2.toInt64 M5) (
    g28 a0 a1 a2 a3 (M5.2.2 52 a0 0) (a2.toInt64 ||| (Int64.ofInt (-9223372036854775808))) M5)) none) (none))))) none
noncomputable def FX80_take_0 (a0 : Nat) (a1 : Int32) (a2 : Int32) (a3 : Int64) (a5 : Int64) (M : FM) : Option (Int64 × FM) := BX80_take_0 FX77_write FX78_write FX82_write FX80_take_28 a0 a1 a2 a3 a5 M
noncomputable def FX80_take (a0 : Nat) (a1 : Int32) (a2 : Int32) (a3 : Int64) (a5 : Int64) (M : FM) : Option (Int64 × FM) := FX80_take_0 a0 a1 a2 a3 a5 M
/-! BoardMachine$Controls$Status.put(IZ)V -/
noncomputable def BX78_put_28 (s0 : Nat) (s1 : Int64) (M : FM) : Option (FM) :=
  fi (fm_is M 16 16 s0 = true) (
  let M1 : FM := fm_sL M 41 s0 0 s1
  some M1) none
noncomputable def FX78_put_28 (s0 : Nat) (s1 : Int64) (M : FM) : Option (FM) := BX78_put_28 s0 s1 M
noncomputable def BX78_put_0 (g28 : Nat → Int64 → FM → Option (FM)) (a0 : Nat) (a1 : Int32) (a2 : Int32) (M : FM) : Option (FM) :=
  fi (a2 = 0) (
    fi (fm_is M 16 16 a0 = true) (
    g28 a0 ((M.2.1 41 a0 0) &&& (((Int64.ofInt 1) <<< (a1.toInt64 &&& 63)) ^^^ (Int64.ofInt (-1)))) M) none) (
    fi (fm_is M 16 16 a0 = true) (
    g28 a0 ((M.2.1 41 a0 0) ||| ((Int64.ofInt 1) <<< (a1.toInt64 &&& 63))) M) none)
noncomputable def FX78_put_0 (a0 : Nat) (a1 : Int32) (a2 : Int32) (M : FM) : Option (FM) := BX78_put_0 FX78_put_28 a0 a1 a2 M
noncomputable def FX78_put (a0 : Nat) (a1 : Int32) (a2 : Int32) (M : FM) : Option (FM) := FX78_put_0 a0 a1 a2 M
/-! BoardMachine$Controls$ControlUnit.trap(ZIJJ)J -/
noncomputable def BX74_trap_173 (a0 : Nat) (M : FM) : Option (Int64 × FM) :=
  fi (fm_is M 12 12 a0 = true) (
  some ((M.2.1 39 a0 0), M)) none
noncomputable def FX74_trap_173 (a0 : Nat) (M : FM) : Option (Int64 × FM) := BX74_trap_173 a0 M
noncomputable def BX74_trap_113 (f3 : Nat → Int32 → Int32 → Int64 → Int64 → FM → Option (Int64 × FM)) (f4 : Nat → Int32 → Int32 → FM → Option (FM)) (f5 : Nat → Int32 → FM → Option (Int32 × FM)) (f6 : Nat → Int32 → Int32 → FM → Option (FM)) (g173 : Nat → FM → Option (Int64 × FM)) (a0 : Nat) (a1 : Int32) (a2 : Int32) (a3 : Int64) (a5 : Int64) (M : FM) : Option (Int64 × FM) :=
  fi (fm_is M 12 12 a0 = true) (
  let x1 : Nat := (M.2.2 32 a0 0)
  fi (fm_is M 20 20 x1 = true) (
  (f3 x1 a1 a2 a3 a5 M).bind fun r2 =>
  fi (fm_is r2.2 12 12 a0 = true) (
  let M3 : FM := fm_sL r2.2 39 a0 0 r2.1
  fi (fm_is M3 12 12 a0 = true) (
  fi (fm_is M3 12 12 a0 = true) (
  let x4 : Nat := (M3.2.2 27 a0 0)
  fi (fm_is M3 16 16 x4 = true) (
  (f4 x4 (Int32.ofInt 11) (M3.1 37 a0 0) M3).bind fun M5 =>
  fi (fm_is M5 12 12 a0 = true) (
  fi (fm_is M5 12 12 a0 = true) (
  let x6 : Nat := (M5.2.2 27 a0 0)
  fi (fm_is M5 16 16 x6 = true) (
  (f5 x6 (Int32.ofInt 3) M5).bind fun r7 =>
  let x8 : Nat := (M5.2.2 27 a0 0)
  fi (fm_is r7.2 16 16 x8 = true) (
  (f6 x8 (Int32.ofInt 7) r7.1 r7.2).bind fun M9 =>
  fi (fm_is M9 12 12 a0 = true) (
  let x10 : Nat := (M9.2.2 27 a0 0)
  fi (fm_is M9 16 16 x10 = true) (
  (f6 x10 (Int32.ofInt 3) (Int32.ofInt 0) M9).bind fun M11 =>
  fi (fm_is M11 12 12 a0 = true) (
  let M12 : FM := fm_sI M11 37 a0 0 (Int32.ofInt 3)
  g173 a0 M12) none) none) none) none) none) none) none) none) none) none) none) none) none
noncomputable def FX74_trap_113 (a0 : Nat) (a1 : Int32) (a2 : Int32) (a3 : Int64) (a5 : Int64) (M : FM) : Option (Int64 × FM) := BX74_trap_113 FX80_take FX78_putTwo FX78_has FX78_put FX74_trap_173 a0 a1 a2 a3 a5 M
noncomputable def BX74_trap_77 (f5 : Nat → Int32 → FM → Option (Int32 × FM)) (f6 : Nat → Int32 → Int32 → FM → Option (FM)) (g173 : Nat → FM → Option (Int64 × FM)) (a0 : Nat) (s0 : Nat) (s1 : Int32) (s2 : Int32) (M : FM) : Option (Int64 × FM) :=
  fi (fm_is M 16 16 s0 = true) (
  (f6 s0 s1 s2 M).bind fun M1 =>
  fi (fm_is M1 12 12 a0 = true) (
  fi (fm_is M1 12 12 a0 = true) (
  let x2 : Nat := (M1.2.2 27 a0 0)
  fi (fm_is M1 16 16 x2 = true) (
  (f5 x2 (Int32.ofInt 1) M1).bind fun r3 =>
  let x4 : Nat := (M1.2.2 27 a0 0)
  fi (fm_is r3.2 16 16 x4 = true) (
  (f6 x4 (Int32.ofInt 5) r3.1 r3.2).bind fun M5 =>
  fi (fm_is M5 12 12 a0 = true) (
  let x6 : Nat := (M5.2.2 27 a0 0)
  fi (fm_is M5 16 16 x6 = true) (
  (f6 x6 (Int32.ofInt 1) (Int32.ofInt 0) M5).bind fun M7 =>
  fi (fm_is M7 12 12 a0 = true) (
  let M8 : FM := fm_sI M7 37 a0 0 (Int32.ofInt 1)
  g173 a0 M8) none) none) none) none) none) none) none) none
noncomputable def FX74_trap_77 (a0 : Nat) (s0 : Nat) (s1 : Int32) (s2 : Int32) (M : FM) : Option (Int64 × FM) := BX74_trap_77 FX78_has FX78_put FX74_trap_173 a0 s0 s1 s2 M
noncomputable def BX74_trap_21 (f3 : Nat → Int32 → Int32 → Int64 → Int64 → FM → Option (Int64 × FM)) (g77 : Nat → Nat → Int32 → Int32 → FM → Option (Int64 × FM)) (g113 : Nat → Int32 → Int32 → Int64 → Int64 → FM → Option (Int64 × FM)) (a0 : Nat) (a1 : Int32) (a2 : Int32) (a3 : Int64) (a5 : Int64) (s0 : Int64) (M : FM) : Option (Int64 × FM) :=
  fi (fm_is M 12 12 a0 = true) (
  fi ((M.1 37 a0 0) = (Int32.ofInt 3)) (
    g113 a0 a1 a2 a3 a5 M) (
    fi ((lg_cmp ((s0 >>> (a2.toInt64 &&& 63)) &&& (Int64.ofInt 1)) (Int64.ofInt 1)) = 0) (
      fi (fm_is M 12 12 a0 = true) (
      let x1 : Nat := (M.2.2 33 a0 0)
      fi (fm_is M 20 20 x1 = true) (
      (f3 x1 a1 a2 a3 a5 M).bind fun r2 =>
      fi (fm_is r2.2 12 12 a0 = true) (
      let M3 : FM := fm_sL r2.2 39 a0 0 r2.1
      fi (fm_is M3 12 12 a0 = true) (
      fi (fm_is M3 12 12 a0 = true) (
      fi ((M3.1 37 a0 0) = (Int32.ofInt 1)) (
        g77 a0 (M3.2.2 27 a0 0) (Int32.ofInt 8) (Int32.ofInt 1) M3) (
        g77 a0 (M3.2.2 27 a0 0) (Int32.ofInt 8) (Int32.ofInt 0) M3)) none) none) none) none) none) (
      g113 a0 a1 a2 a3 a5 M))) none
noncomputable def FX74_trap_21 (a0 : Nat) (a1 : Int32) (a2 : Int32) (a3 : Int64) (a5 : Int64) (s0 : Int64) (M : FM) : Option (Int64 × FM) := BX74_trap_21 FX80_take FX74_trap_77 FX74_trap_113 a0 a1 a2 a3 a5 s0 M
noncomputable def BX74_trap_0 (f0 : Nat → FM → Option (Int64 × FM)) (f1 : Nat → FM → Option (Int64 × FM)) (f2 : Nat → FM → Option (Int64 × FM)) (g21 : Nat → Int32 → Int32 → Int64 → Int64 → Int64 → FM → Option (Int64 × FM)) (a0 : Nat) (a1 : Int32) (a2 : Int32) (a3 : Int64) (a5 : Int64) (M : FM) : Option (Int64 × FM) :=
  fi (a1 = 0) (
    fi (fm_is M 12 12 a0 = true) (
    let x1 : Nat := (M.2.2 28 a0 0)
    fi (fm_is M 14 14 x1 = true) (
    (f0 x1 M).bind fun r2 =>
    g21 a0 a1 a2 a3 a5 r2.1 r2.2) (fi (fm_is M 15 15 x1 = true) (
    (f1 x1 M).bind fun r3 =>
    g21 a0 a1 a2 a3 a5 r3.1 r3.2) (fi (fm_is M 16 16 x1 = true) (
    (f2 x1 M).bind fun r4 =>
    g21 a0 a1 a2 a3 a5 r4.1 r4.2) (fi (fm_is M 17 17 x1 = true) (
    (f0 x1 M).bind fun r5 =>
    g21 a0 a1 a2 a3 a5 r5.1 r5.2) (none))))) none) (
    fi (fm_is M 12 12 a0 = true) (
    let x6 : Nat := (M.2.2 29 a0 0)
    fi (fm_is M 14 14 x6 = true) (
    (f0 x6 M).bind fun r7 =>
    g21 a0 a1 a2 a3 a5 r7.1 r7.2) (fi (fm_is M 15 15 x6 = true) (
    (f1 x6 M).bind fun r8 =>
    g21 a0 a1 a2 a3 a5 r8.1 r8.2) (fi (fm_is M 16 16 x6 = true) (
    (f2 x6 M).bind fun r9 =>
    g21 a0 a1 a2 a3 a5 r9.1 r9.2) (fi (fm_is M 17 17 x6 = true) (
    (f0 x6 M).bind fun r10 =>
    g21 a0 a1 a2 a3 a5 r10.1 r10.2) (none))))) none)
noncomputable def FX74_trap_0 (a0 : Nat) (a1 : Int32) (a2 : Int32) (a3 : Int64) (a5 : Int64) (M : FM) : Option (Int64 × FM) := BX74_trap_0 FX77_show FX79_show FX78_show FX74_trap_21 a0 a1 a2 a3 a5 M
noncomputable def FX74_trap (a0 : Nat) (a1 : Int32) (a2 : Int32) (a3 : Int64) (a5 : Int64) (M : FM) : Option (Int64 × FM) := FX74_trap_0 a0 a1 a2 a3 a5 M
/-! BoardMachine$Processor.raise(IJ)Z -/
noncomputable def BX46_raise_0 (f0 : Nat → FM → Option (Int64 × FM)) (f1 : Nat → Int32 → Int32 → Int64 → Int64 → FM → Option (Int64 × FM)) (f2 : Nat → Int64 → FM → Option (FM)) (a0 : Nat) (a1 : Int32) (a2 : Int64) (M : FM) : Option (Int32 × FM) :=
  fi (fm_is M 75 75 a0 = true) (
  fi (fm_is M 75 75 a0 = true) (
  fi (fm_is M 75 75 a0 = true) (
  (f0 a0 M).bind fun r1 =>
  let x2 : Nat := (M.2.2 213 a0 0)
  fi (fm_is r1.2 12 12 x2 = true) (
  (f1 x2 (Int32.ofInt 0) a1 a2 r1.1 r1.2).bind fun r3 =>
  let x4 : Nat := (M.2.2 211 a0 0)
  fi (fm_is r3.2 63 63 x4 = true) (
  (f2 x4 r3.1 r3.2).bind fun M5 =>
  fi ((Int32.ofInt 0) = 0 ∨ (Int32.ofInt 0) = 1) (some ((Int32.ofInt 0), M5)) none) none) none) none) none) none
noncomputable def FX46_raise_0 (a0 : Nat) (a1 : Int32) (a2 : Int64) (M : FM) : Option (Int32 × FM) := BX46_raise_0 FX46_counter FX74_trap FX47_jump a0 a1 a2 M
noncomputable def FX46_raise (a0 : Nat) (a1 : Int32) (a2 : Int64) (M : FM) : Option (Int32 × FM) := FX46_raise_0 a0 a1 a2 M
/-! BoardMachine$Processor.half(I)J -/
noncomputable def BX46_half_65 (f3 : Nat → Int32 → Int64 → FM → Option (Int32 × FM)) (a2 : Int64) (s0 : Nat) (s1 : Int32) (M : FM) : Option (Int64 × FM) :=
  fi (fm_is M 75 75 s0 = true) (
  (f3 s0 s1 a2 M).bind fun r1 =>
  some ((Int64.ofInt (-1)), r1.2)) none
noncomputable def FX46_half_65 (n : Nat) (a2 : Int64) (s0 : Nat) (s1 : Int32) (M : FM) : Option (Int64 × FM) := BX46_half_65 FX46_raise a2 s0 s1 M
noncomputable def BX46_half_49 (g65 : Int64 → Nat → Int32 → FM → Option (Int64 × FM)) (a0 : Nat) (a2 : Int64) (a4 : Int64) (M : FM) : Option (Int64 × FM) :=
  fi (0 ≤ (lg_cmp a4 (Int64.ofInt 0))) (
    g65 a2 a0 (Int32.ofInt 1) M) (
    g65 a2 a0 ((-a4).toInt32) M)
noncomputable def FX46_half_49 (n : Nat) (a0 : Nat) (a2 : Int64) (a4 : Int64) (M : FM) : Option (Int64 × FM) := BX46_half_49 (FX46_half_65 n ) a0 a2 a4 M
noncomputable def BX46_half_0 (f0 : Nat → FM → Option (Int64 × FM)) (f1 : Nat → Int64 → Int32 → Int32 → Int32 → FM → Option (Int64 × FM)) (f2 : Nat → Int64 → Int64 → FM → Option (Int32 × FM)) (g49 : Nat → Int64 → Int64 → FM → Option (Int64 × FM)) (a0 : Nat) (a1 : Int32) (M : FM) : Option (Int64 × FM) :=
  fi (fm_is M 75 75 a0 = true) (
  (f0 a0 M).bind fun r1 =>
  let x2 : Int64 := (r1.1 + a1.toInt64)
  fi (fm_is r1.2 75 75 a0 = true) (
  let x3 : Nat := (r1.2.2.2 213 a0 0)
  fi (fm_is r1.2 12 12 x3 = true) (
  fi (fm_is r1.2 75 75 a0 = true) (
  (f1 a0 x2 (Int32.ofInt 0) (r1.2.1 37 x3 0) (Int32.ofInt 2) r1.2).bind fun r4 =>
  fi ((lg_cmp r4.1 (Int64.ofInt 0)) < 0) (
    g49 a0 x2 r4.1 r4.2) (
    fi (fm_is r4.2 75 75 a0 = true) (
    let x5 : Nat := (r4.2.2.2 210 a0 0)
    fi (fm_is r4.2 11 11 x5 = true) (
    let x6 : Nat := (r4.2.2.2 18 x5 0)
    fi (fm_is r4.2 73 73 x6 = true) (
    (f2 x6 r4.1 (Int64.ofInt 2) r4.2).bind fun r7 =>
    fi (r7.1 = 0) (
      g49 a0 x2 r4.1 r7.2) (
      some (r4.1, r7.2))) none) none) none)) none) none) none) none
noncomputable def FX46_half_0 (n : Nat) (a0 : Nat) (a1 : Int32) (M : FM) : Option (Int64 × FM) := BX46_half_0 FX46_counter (FX46_find n) FX11_has (FX46_half_49 n ) a0 a1 M
noncomputable def FX46_half (n : Nat) (a0 : Nat) (a1 : Int32) (M : FM) : Option (Int64 × FM) := FX46_half_0 n a0 a1 M
/-! BoardMachine$Halves$Words.bits(III)I -/
noncomputable def BX103_bits_0 (a0 : Int32) (a1 : Int32) (a2 : Int32) (M : FM) : Option (Int32 × FM) :=
  some (((a0 <<< (((Int32.ofInt 31) - a1) &&& 31)).toUInt32 >>> ((((Int32.ofInt 31) - a1) + a2).toUInt32 &&& Int32.toUInt32 31)).toInt32, M)
noncomputable def FX103_bits_0 (a0 : Int32) (a1 : Int32) (a2 : Int32) (M : FM) : Option (Int32 × FM) := BX103_bits_0 a0 a1 a2 M
noncomputable def FX103_bits (a0 : Int32) (a1 : Int32) (a2 : Int32) (M : FM) : Option (Int32 × FM) := FX103_bits_0 a0 a1 a2 M
/-! BoardMachine$Halves$Layout.read(I)I -/
noncomputable def BX35_read_86 (s0 : Int32) (M : FM) : Option (Int32 × FM) :=
  some (s0, M)
noncomputable def FX35_read_86 (n : Nat) (k4 : Nat → Int32 → Int32 → Int32 → FM → Option (Int32 × FM)) (s0 : Int32) (M : FM) : Option (Int32 × FM) := BX35_read_86 s0 M
noncomputable def BX35_read_4 (f0 : Int32 → Int32 → Int32 → FM → Option (Int32 × FM)) (g86 : Int32 → FM → Option (Int32 × FM)) (k4 : Nat → Int32 → Int32 → Int32 → FM → Option (Int32 × FM)) (a0 : Nat) (a1 : Int32) (a2 : Int32) (a3 : Int32) (M : FM) : Option (Int32 × FM) :=
  fi (fm_is M 42 42 a0 = true) (
  let x1 : Nat := (M.2.2 125 a0 0)
  fi (fm_is M 901 990 x1 = true) (
  fi ((Int32.ofNat (M.2.2 1 x1 0)) ≤ a3) (
    fi (fm_is M 42 42 a0 = true) (
    fi ((M.1 126 a0 0) = 0) (
      g86 a2 M) (
      fi (fm_is M 42 42 a0 = true) (
      fi (fm_is M 42 42 a0 = true) (
      g86 ((a2 <<< (((Int32.ofInt 31) - (M.1 126 a0 0)) &&& 31)) >>> (((Int32.ofInt 31) - (M.1 126 a0 0)) &&& 31)) M) none) none)) none) (
    fi (fm_is M 42 42 a0 = true) (
    let x2 : Nat := (M.2.2 125 a0 0)
    fi (fm_is M 901 901 x2 = true ∧ fm_in M x2 a3 = true) (
    fi (fm_is M 42 42 a0 = true) (
    let x3 : Int32 := (a3 + (Int32.ofInt 2))
    let x4 : Nat := (M.2.2 125 a0 0)
    fi (fm_is M 901 901 x4 = true ∧ fm_in M x4 x3 = true) (
    fi (fm_is M 42 42 a0 = true) (
    let x5 : Nat := (M.2.2 125 a0 0)
    fi (fm_is M 901 901 x5 = true ∧ fm_in M x5 a3 = true) (
    (f0 a1 (((M.1 3 x2 a3.toNatClampNeg) + (M.1 3 x4 x3.toNatClampNeg)) - (Int32.ofInt 1)) (M.1 3 x5 a3.toNatClampNeg) M).bind fun r6 =>
    fi (fm_is r6.2 42 42 a0 = true) (
    let x7 : Int32 := (a3 + (Int32.ofInt 1))
    let x8 : Nat := (r6.2.2.2 125 a0 0)
    fi (fm_is r6.2 901 901 x8 = true ∧ fm_in r6.2 x8 x7 = true) (
    let x9 : Int32 := (a2 ||| (r6.1 <<< ((r6.2.1 3 x8 x7.toNatClampNeg) &&& 31)))
    let x10 : Int32 := a3 + (Int32.ofInt 3)
    k4 a0 a1 x9 x10 r6.2) none) none) none) none) none) none) none) none)) none) none
noncomputable def FX35_read_4 (n : Nat) (k4 : Nat → Int32 → Int32 → Int32 → FM → Option (Int32 × FM)) (a0 : Nat) (a1 : Int32) (a2 : Int32) (a3 : Int32) (M : FM) : Option (Int32 × FM) := BX35_read_4 FX103_bits (FX35_read_86 n k4) k4 a0 a1 a2 a3 M
noncomputable def BX35_read_0 (k4 : Nat → Int32 → Int32 → Int32 → FM → Option (Int32 × FM)) (a0 : Nat) (a1 : Int32) (M : FM) : Option (Int32 × FM) :=
  k4 a0 a1 (Int32.ofInt 0) (Int32.ofInt 0) M
noncomputable def FX35_read_0 (n : Nat) (k4 : Nat → Int32 → Int32 → Int32 → FM → Option (Int32 × FM)) (a0 : Nat) (a1 : Int32) (M : FM) : Option (Int32 × FM) := BX35_read_0 k4 a0 a1 M
noncomputable def FX35_read_L4 (n : Nat) : Nat → Nat → Int32 → Int32 → Int32 → FM → Option (Int32 × FM)
  | 0 => fun _ _ _ _ _ => none
  | j + 1 => FX35_read_4 n (FX35_read_L4 n j)
noncomputable def FX35_read (n : Nat) (a0 : Nat) (a1 : Int32) (M : FM) : Option (Int32 × FM) := FX35_read_0 n (FX35_read_L4 n n) a0 a1 M
/-! BoardMachine$Halves$Line.s(I)I -/
noncomputable def BX36_s_0 (f0 : Int32 → Int32 → Int32 → FM → Option (Int32 × FM)) (a0 : Int32) (M : FM) : Option (Int32 × FM) :=
  (f0 a0 (Int32.ofInt 4) (Int32.ofInt 2) M).bind fun r1 =>
  some (((Int32.ofInt 8) + r1.1), r1.2)
noncomputable def FX36_s_0 (a0 : Int32) (M : FM) : Option (Int32 × FM) := BX36_s_0 FX103_bits a0 M
noncomputable def FX36_s (a0 : Int32) (M : FM) : Option (Int32 × FM) := FX36_s_0 a0 M
/-! BoardMachine$Halves$Line.p(I)I -/
noncomputable def BX36_p_0 (f0 : Int32 → Int32 → Int32 → FM → Option (Int32 × FM)) (a0 : Int32) (M : FM) : Option (Int32 × FM) :=
  (f0 a0 (Int32.ofInt 9) (Int32.ofInt 7) M).bind fun r1 =>
  some (((Int32.ofInt 8) + r1.1), r1.2)
noncomputable def FX36_p_0 (a0 : Int32) (M : FM) : Option (Int32 × FM) := BX36_p_0 FX103_bits a0 M
noncomputable def FX36_p (a0 : Int32) (M : FM) : Option (Int32 × FM) := FX36_p_0 a0 M
/-! BoardMachine$Halves$Words.ofS(IIIII)I -/
noncomputable def BX103_ofS_0 (f0 : Int32 → Int32 → Int32 → FM → Option (Int32 × FM)) (a0 : Int32) (a1 : Int32) (a2 : Int32) (a3 : Int32) (a4 : Int32) (M : FM) : Option (Int32 × FM) :=
  (f0 a4 (Int32.ofInt 4) (Int32.ofInt 0) M).bind fun r1 =>
  (f0 a4 (Int32.ofInt 11) (Int32.ofInt 5) r1.2).bind fun r2 =>
  some ((((((a0 ||| (r1.1 <<< ((Int32.ofInt 7) &&& 31))) ||| (a1 <<< ((Int32.ofInt 12) &&& 31))) ||| (a2 <<< ((Int32.ofInt 15) &&& 31))) ||| (a3 <<< ((Int32.ofInt 20) &&& 31))) ||| (r2.1 <<< ((Int32.ofInt 25) &&& 31))), r2.2)
noncomputable def FX103_ofS_0 (a0 : Int32) (a1 : Int32) (a2 : Int32) (a3 : Int32) (a4 : Int32) (M : FM) : Option (Int32 × FM) := BX103_ofS_0 FX103_bits a0 a1 a2 a3 a4 M
noncomputable def FX103_ofS (a0 : Int32) (a1 : Int32) (a2 : Int32) (a3 : Int32) (a4 : Int32) (M : FM) : Option (Int32 × FM) := FX103_ofS_0 a0 a1 a2 a3 a4 M
/-! BoardMachine$Halves$Words.ofI(IIIII)I -/
noncomputable def BX103_ofI_0 (a0 : Int32) (a1 : Int32) (a2 : Int32) (a3 : Int32) (a4 : Int32) (M : FM) : Option (Int32 × FM) :=
  some (((((a0 ||| (a1 <<< ((Int32.ofInt 7) &&& 31))) ||| (a2 <<< ((Int32.ofInt 12) &&& 31))) ||| (a3 <<< ((Int32.ofInt 15) &&& 31))) ||| (a4 <<< ((Int32.ofInt 20) &&& 31))), M)
noncomputable def FX103_ofI_0 (a0 : Int32) (a1 : Int32) (a2 : Int32) (a3 : Int32) (a4 : Int32) (M : FM) : Option (Int32 × FM) := BX103_ofI_0 a0 a1 a2 a3 a4 M
noncomputable def FX103_ofI (a0 : Int32) (a1 : Int32) (a2 : Int32) (a3 : Int32) (a4 : Int32) (M : FM) : Option (Int32 × FM) := FX103_ofI_0 a0 a1 a2 a3 a4 M
/-! BoardMachine$Halves$Access.make(I)I -/
noncomputable def BX38_make_59 (s0 : Int32) (M : FM) : Option (Int32 × FM) :=
  some (s0, M)
noncomputable def FX38_make_59 (n : Nat) (s0 : Int32) (M : FM) : Option (Int32 × FM) := BX38_make_59 s0 M
noncomputable def BX38_make_0 (f0 : Nat → Int32 → FM → Option (Int32 × FM)) (f1 : Int32 → FM → Option (Int32 × FM)) (f2 : Int32 → FM → Option (Int32 × FM)) (f3 : Int32 → Int32 → Int32 → Int32 → Int32 → FM → Option (Int32 × FM)) (f4 : Int32 → Int32 → Int32 → Int32 → Int32 → FM → Option (Int32 × FM)) (g59 : Int32 → FM → Option (Int32 × FM)) (a0 : Nat) (a1 : Int32) (M : FM) : Option (Int32 × FM) :=
  fi (fm_is M 43 43 a0 = true) (
  let x1 : Nat := (M.2.2 129 a0 0)
  fi (fm_is M 42 42 x1 = true) (
  (f0 x1 a1 M).bind fun r2 =>
  fi (fm_is r2.2 43 43 a0 = true) (
  fi ((r2.2.1 132 a0 0) = 0) (
    fi (fm_is r2.2 43 43 a0 = true) (
    (f1 a1 r2.2).bind fun r3 =>
    fi (fm_is r3.2 43 43 a0 = true) (
    (f2 a1 r3.2).bind fun r4 =>
    (f4 (r2.2.1 130 a0 0) r3.1 (r3.2.1 131 a0 0) r4.1 r2.1 r4.2).bind fun r5 =>
    g59 r5.1 r5.2) none) none) (
    fi (fm_is r2.2 43 43 a0 = true) (
    fi (fm_is r2.2 43 43 a0 = true) (
    (f2 a1 r2.2).bind fun r6 =>
    (f1 a1 r6.2).bind fun r7 =>
    (f3 (r2.2.1 130 a0 0) (r2.2.1 131 a0 0) r6.1 r7.1 r2.1 r7.2).bind fun r8 =>
    g59 r8.1 r8.2) none) none)) none) none) none
noncomputable def FX38_make_0 (n : Nat) (a0 : Nat) (a1 : Int32) (M : FM) : Option (Int32 × FM) := BX38_make_0 (FX35_read n) FX36_s FX36_p FX103_ofS FX103_ofI (FX38_make_59 n ) a0 a1 M
noncomputable def FX38_make (n : Nat) (a0 : Nat) (a1 : Int32) (M : FM) : Option (Int32 × FM) := FX38_make_0 n a0 a1 M
/-! BoardMachine$Halves$Words.ofB(IIII)I -/
noncomputable def BX103_ofB_0 (f0 : Int32 → Int32 → Int32 → FM → Option (Int32 × FM)) (a0 : Int32) (a1 : Int32) (a2 : Int32) (a3 : Int32) (M : FM) : Option (Int32 × FM) :=
  (f0 a3 (Int32.ofInt 11) (Int32.ofInt 11) M).bind fun r1 =>
  (f0 a3 (Int32.ofInt 4) (Int32.ofInt 1) r1.2).bind fun r2 =>
  (f0 a3 (Int32.ofInt 10) (Int32.ofInt 5) r2.2).bind fun r3 =>
  (f0 a3 (Int32.ofInt 12) (Int32.ofInt 12) r3.2).bind fun r4 =>
  some (((((((((Int32.ofInt 99) ||| (r1.1 <<< ((Int32.ofInt 7) &&& 31))) ||| (r2.1 <<< ((Int32.ofInt 8) &&& 31))) ||| (a0 <<< ((Int32.ofInt 12) &&& 31))) ||| (a1 <<< ((Int32.ofInt 15) &&& 31))) ||| (a2 <<< ((Int32.ofInt 20) &&& 31))) ||| (r3.1 <<< ((Int32.ofInt 25) &&& 31))) ||| (r4.1 <<< ((Int32.ofInt 31) &&& 31))), r4.2)
noncomputable def FX103_ofB_0 (a0 : Int32) (a1 : Int32) (a2 : Int32) (a3 : Int32) (M : FM) : Option (Int32 × FM) := BX103_ofB_0 FX103_bits a0 a1 a2 a3 M
noncomputable def FX103_ofB (a0 : Int32) (a1 : Int32) (a2 : Int32) (a3 : Int32) (M : FM) : Option (Int32 × FM) := FX103_ofB_0 a0 a1 a2 a3 M
/-! BoardMachine$Halves$Branch.make(I)I -/
noncomputable def BX43_make_0 (f0 : Int32 → FM → Option (Int32 × FM)) (f1 : Nat → Int32 → FM → Option (Int32 × FM)) (f2 : Int32 → Int32 → Int32 → Int32 → FM → Option (Int32 × FM)) (a0 : Nat) (a1 : Int32) (M : FM) : Option (Int32 × FM) :=
  fi (fm_is M 44 44 a0 = true) (
  (f0 a1 M).bind fun r1 =>
  fi (fm_is r1.2 44 44 a0 = true) (
  let x2 : Nat := (r1.2.2.2 129 a0 0)
  fi (fm_is r1.2 42 42 x2 = true) (
  (f1 x2 a1 r1.2).bind fun r3 =>
  (f2 ((M.1 128 a0 0) - (Int32.ofInt 6)) r1.1 (Int32.ofInt 0) r3.1 r3.2).bind fun r4 =>
  some (r4.1, r4.2)) none) none) none
noncomputable def FX43_make_0 (n : Nat) (a0 : Nat) (a1 : Int32) (M : FM) : Option (Int32 × FM) := BX43_make_0 FX36_p (FX35_read n) FX103_ofB a0 a1 M
noncomputable def FX43_make (n : Nat) (a0 : Nat) (a1 : Int32) (M : FM) : Option (Int32 × FM) := FX43_make_0 n a0 a1 M
/-! BoardMachine$Halves$Line.r(I)I -/
noncomputable def BX36_r_0 (f0 : Int32 → Int32 → Int32 → FM → Option (Int32 × FM)) (a0 : Int32) (M : FM) : Option (Int32 × FM) :=
  (f0 a0 (Int32.ofInt 11) (Int32.ofInt 7) M).bind fun r1 =>
  some (r1.1, r1.2)
noncomputable def FX36_r_0 (a0 : Int32) (M : FM) : Option (Int32 × FM) := BX36_r_0 FX103_bits a0 M
noncomputable def FX36_r (a0 : Int32) (M : FM) : Option (Int32 × FM) := FX36_r_0 a0 M
/-! BoardMachine$Halves$Immediate.make(I)I -/
noncomputable def BX39_make_58 (s0 : Int32) (M : FM) : Option (Int32 × FM) :=
  some (s0, M)
noncomputable def FX39_make_58 (n : Nat) (s0 : Int32) (M : FM) : Option (Int32 × FM) := BX39_make_58 s0 M
noncomputable def BX39_make_47 (f1 : Nat → Int32 → FM → Option (Int32 × FM)) (f2 : Int32 → Int32 → Int32 → Int32 → Int32 → FM → Option (Int32 × FM)) (g58 : Int32 → FM → Option (Int32 × FM)) (a0 : Nat) (a1 : Int32) (s0 : Int32) (s1 : Int32) (s2 : Int32) (s3 : Int32) (M : FM) : Option (Int32 × FM) :=
  fi (fm_is M 45 45 a0 = true) (
  let x1 : Nat := (M.2.2 129 a0 0)
  fi (fm_is M 42 42 x1 = true) (
  (f1 x1 a1 M).bind fun r2 =>
  (f2 s0 s1 s2 s3 r2.1 r2.2).bind fun r3 =>
  g58 r3.1 r3.2) none) none
noncomputable def FX39_make_47 (n : Nat) (a0 : Nat) (a1 : Int32) (s0 : Int32) (s1 : Int32) (s2 : Int32) (s3 : Int32) (M : FM) : Option (Int32 × FM) := BX39_make_47 (FX35_read n) FX103_ofI (FX39_make_58 n ) a0 a1 s0 s1 s2 s3 M
noncomputable def BX39_make_20 (f0 : Int32 → FM → Option (Int32 × FM)) (g47 : Nat → Int32 → Int32 → Int32 → Int32 → Int32 → FM → Option (Int32 × FM)) (a0 : Nat) (a1 : Int32) (M : FM) : Option (Int32 × FM) :=
  fi (fm_is M 45 45 a0 = true) (
  (f0 a1 M).bind fun r1 =>
  fi (fm_is r1.2 45 45 a0 = true) (
  fi (fm_is r1.2 45 45 a0 = true) (
  fi ((r1.2.1 135 a0 0) = 0) (
    (f0 a1 r1.2).bind fun r2 =>
    g47 a0 a1 (M.1 133 a0 0) r1.1 (r1.2.1 134 a0 0) r2.1 r2.2) (
    g47 a0 a1 (M.1 133 a0 0) r1.1 (r1.2.1 134 a0 0) (Int32.ofInt 0) r1.2)) none) none) none
noncomputable def FX39_make_20 (n : Nat) (a0 : Nat) (a1 : Int32) (M : FM) : Option (Int32 × FM) := BX39_make_20 FX36_r (FX39_make_47 n ) a0 a1 M
noncomputable def BX39_make_0 (f0 : Int32 → FM → Option (Int32 × FM)) (g20 : Nat → Int32 → FM → Option (Int32 × FM)) (g58 : Int32 → FM → Option (Int32 × FM)) (a0 : Nat) (a1 : Int32) (M : FM) : Option (Int32 × FM) :=
  fi (fm_is M 45 45 a0 = true) (
  fi ((M.1 133 a0 0) = (Int32.ofInt 27)) (
    (f0 a1 M).bind fun r1 =>
    fi (r1.1 = 0) (
      g58 (Int32.ofInt 0) r1.2) (
      g20 a0 a1 r1.2)) (
    g20 a0 a1 M)) none
noncomputable def FX39_make_0 (n : Nat) (a0 : Nat) (a1 : Int32) (M : FM) : Option (Int32 × FM) := BX39_make_0 FX36_r (FX39_make_20 n ) (FX39_make_58 n ) a0 a1 M
noncomputable def FX39_make (n : Nat) (a0 : Nat) (a1 : Int32) (M : FM) : Option (Int32 × FM) := FX39_make_0 n a0 a1 M
/-! BoardMachine$Halves$Words.ofJ(II)I -/
noncomputable def BX103_ofJ_0 (f0 : Int32 → Int32 → Int32 → FM → Option (Int32 × FM)) (a0 : Int32) (a1 : Int32) (M : FM) : Option (Int32 × FM) :=
  (f0 a1 (Int32.ofInt 19) (Int32.ofInt 12) M).bind fun r1 =>
  (f0 a1 (Int32.ofInt 11) (Int32.ofInt 11) r1.2).bind fun r2 =>
  (f0 a1 (Int32.ofInt 10) (Int32.ofInt 1) r2.2).bind fun r3 =>
  (f0 a1 (Int32.ofInt 20) (Int32.ofInt 20) r3.2).bind fun r4 =>
  some (((((((Int32.ofInt 111) ||| (a0 <<< ((Int32.ofInt 7) &&& 31))) ||| (r1.1 <<< ((Int32.ofInt 12) &&& 31))) ||| (r2.1 <<< ((Int32.ofInt 20) &&& 31))) ||| (r3.1 <<< ((Int32.ofInt 21) &&& 31))) ||| (r4.1 <<< ((Int32.ofInt 31) &&& 31))), r4.2)
noncomputable def FX103_ofJ_0 (a0 : Int32) (a1 : Int32) (M : FM) : Option (Int32 × FM) := BX103_ofJ_0 FX103_bits a0 a1 M
noncomputable def FX103_ofJ (a0 : Int32) (a1 : Int32) (M : FM) : Option (Int32 × FM) := FX103_ofJ_0 a0 a1 M
/-! BoardMachine$Halves$Jump.make(I)I -/
noncomputable def BX42_make_0 (f0 : Nat → Int32 → FM → Option (Int32 × FM)) (f1 : Int32 → Int32 → FM → Option (Int32 × FM)) (a0 : Nat) (a1 : Int32) (M : FM) : Option (Int32 × FM) :=
  fi (fm_is M 46 46 a0 = true) (
  let x1 : Nat := (M.2.2 129 a0 0)
  fi (fm_is M 42 42 x1 = true) (
  (f0 x1 a1 M).bind fun r2 =>
  (f1 (Int32.ofInt 0) r2.1 r2.2).bind fun r3 =>
  some (r3.1, r3.2)) none) none
noncomputable def FX42_make_0 (n : Nat) (a0 : Nat) (a1 : Int32) (M : FM) : Option (Int32 × FM) := BX42_make_0 (FX35_read n) FX103_ofJ a0 a1 M
noncomputable def FX42_make (n : Nat) (a0 : Nat) (a1 : Int32) (M : FM) : Option (Int32 × FM) := FX42_make_0 n a0 a1 M
/-! BoardMachine$Halves$Words.ofR(IIIIII)I -/
noncomputable def BX103_ofR_0 (a0 : Int32) (a1 : Int32) (a2 : Int32) (a3 : Int32) (a4 : Int32) (a5 : Int32) (M : FM) : Option (Int32 × FM) :=
  some ((((((a0 ||| (a1 <<< ((Int32.ofInt 7) &&& 31))) ||| (a2 <<< ((Int32.ofInt 12) &&& 31))) ||| (a3 <<< ((Int32.ofInt 15) &&& 31))) ||| (a4 <<< ((Int32.ofInt 20) &&& 31))) ||| (a5 <<< ((Int32.ofInt 25) &&& 31))), M)
noncomputable def FX103_ofR_0 (a0 : Int32) (a1 : Int32) (a2 : Int32) (a3 : Int32) (a4 : Int32) (a5 : Int32) (M : FM) : Option (Int32 × FM) := BX103_ofR_0 a0 a1 a2 a3 a4 a5 M
noncomputable def FX103_ofR (a0 : Int32) (a1 : Int32) (a2 : Int32) (a3 : Int32) (a4 : Int32) (a5 : Int32) (M : FM) : Option (Int32 × FM) := FX103_ofR_0 a0 a1 a2 a3 a4 a5 M
/-! BoardMachine$Halves$Reckoning.make(I)I -/
noncomputable def BX41_make_143 (s0 : Int32) (M : FM) : Option (Int32 × FM) :=
  some (s0, M)
noncomputable def FX41_make_143 (n : Nat) (s0 : Int32) (M : FM) : Option (Int32 × FM) := BX41_make_143 s0 M
noncomputable def BX41_make_0 (f0 : Int32 → Int32 → Int32 → FM → Option (Int32 × FM)) (f1 : Int32 → FM → Option (Int32 × FM)) (f2 : Nat → Int32 → FM → Option (Int32 × FM)) (f3 : Int32 → Int32 → Int32 → Int32 → Int32 → FM → Option (Int32 × FM)) (f4 : Int32 → FM → Option (Int32 × FM)) (f5 : Int32 → Int32 → Int32 → Int32 → Int32 → Int32 → FM → Option (Int32 × FM)) (g143 : Int32 → FM → Option (Int32 × FM)) (a0 : Nat) (a1 : Int32) (M : FM) : Option (Int32 × FM) :=
  (f0 a1 (Int32.ofInt 11) (Int32.ofInt 10) M).bind fun r1 =>
  fi ((Int32.ofInt 2) ≤ r1.1) (
    fi (r1.1 = (Int32.ofInt 2)) (
      (f1 a1 r1.2).bind fun r2 =>
      (f1 a1 r2.2).bind fun r3 =>
      fi (fm_is r3.2 47 47 a0 = true) (
      let x4 : Nat := (r3.2.2.2 137 a0 0)
      fi (fm_is r3.2 42 42 x4 = true) (
      (f2 x4 a1 r3.2).bind fun r5 =>
      (f3 (Int32.ofInt 19) r2.1 (Int32.ofInt 7) r3.1 r5.1 r5.2).bind fun r6 =>
      some (r6.1, r6.2)) none) none) (
      (f0 a1 (Int32.ofInt 12) (Int32.ofInt 12) r1.2).bind fun r7 =>
      (f0 a1 (Int32.ofInt 6) (Int32.ofInt 5) r7.2).bind fun r8 =>
      let x9 : Int32 := ((Int32.ofInt 3) * (((Int32.ofInt 4) * r7.1) + r8.1))
      fi (fm_is r8.2 47 47 a0 = true) (
      let x10 : Nat := (r8.2.2.2 136 a0 0)
      fi (fm_is r8.2 901 990 x10 = true) (
      fi (x9 < (Int32.ofNat (r8.2.2.2 1 x10 0))) (
        fi (fm_is r8.2 47 47 a0 = true) (
        let x11 : Nat := (r8.2.2.2 136 a0 0)
        fi (fm_is r8.2 901 901 x11 = true ∧ fm_in r8.2 x11 x9 = true) (
        (f1 a1 r8.2).bind fun r12 =>
        fi (fm_is r12.2 47 47 a0 = true) (
        let x13 : Int32 := (x9 + (Int32.ofInt 1))
        let x14 : Nat := (r12.2.2.2 136 a0 0)
        fi (fm_is r12.2 901 901 x14 = true ∧ fm_in r12.2 x14 x13 = true) (
        (f1 a1 r12.2).bind fun r15 =>
        (f4 a1 r15.2).bind fun r16 =>
        fi (fm_is r16.2 47 47 a0 = true) (
        let x17 : Int32 := (x9 + (Int32.ofInt 2))
        let x18 : Nat := (r16.2.2.2 136 a0 0)
        fi (fm_is r16.2 901 901 x18 = true ∧ fm_in r16.2 x18 x17 = true) (
        (f5 (r8.2.1 3 x11 x9.toNatClampNeg) r12.1 (r12.2.1 3 x14 x13.toNatClampNeg) r15.1 r16.1 (r16.2.1 3 x18 x17.toNatClampNeg) r16.2).bind fun r19 =>
        g143 r19.1 r19.2) none) none) none) none) none) none) (
        g143 (Int32.ofInt 0) r8.2)) none) none)) (
    (f1 a1 r1.2).bind fun r20 =>
    (f1 a1 r20.2).bind fun r21 =>
    fi (fm_is r21.2 47 47 a0 = true) (
    let x22 : Nat := (r21.2.2.2 129 a0 0)
    fi (fm_is r21.2 42 42 x22 = true) (
    (f2 x22 a1 r21.2).bind fun r23 =>
    (f3 (Int32.ofInt 19) r20.1 (Int32.ofInt 5) r21.1 (r23.1 + ((Int32.ofInt 1024) * r1.1)) r23.2).bind fun r24 =>
    some (r24.1, r24.2)) none) none)
noncomputable def FX41_make_0 (n : Nat) (a0 : Nat) (a1 : Int32) (M : FM) : Option (Int32 × FM) := BX41_make_0 FX103_bits FX36_p (FX35_read n) FX103_ofI FX36_s FX103_ofR (FX41_make_143 n ) a0 a1 M
noncomputable def FX41_make (n : Nat) (a0 : Nat) (a1 : Int32) (M : FM) : Option (Int32 × FM) := FX41_make_0 n a0 a1 M
/-! BoardMachine$Halves$Line.q(I)I -/
noncomputable def BX36_q_0 (f0 : Int32 → Int32 → Int32 → FM → Option (Int32 × FM)) (a0 : Int32) (M : FM) : Option (Int32 × FM) :=
  (f0 a0 (Int32.ofInt 6) (Int32.ofInt 2) M).bind fun r1 =>
  some (r1.1, r1.2)
noncomputable def FX36_q_0 (a0 : Int32) (M : FM) : Option (Int32 × FM) := BX36_q_0 FX103_bits a0 M
noncomputable def FX36_q (a0 : Int32) (M : FM) : Option (Int32 × FM) := FX36_q_0 a0 M
/-! BoardMachine$Halves$StackAccess.make(I)I -/
noncomputable def BX44_make_70 (s0 : Int32) (M : FM) : Option (Int32 × FM) :=
  some (s0, M)
noncomputable def FX44_make_70 (n : Nat) (s0 : Int32) (M : FM) : Option (Int32 × FM) := BX44_make_70 s0 M
noncomputable def BX44_make_53 (f1 : Int32 → FM → Option (Int32 × FM)) (f4 : Int32 → Int32 → Int32 → Int32 → Int32 → FM → Option (Int32 × FM)) (g70 : Int32 → FM → Option (Int32 × FM)) (a0 : Nat) (a1 : Int32) (a2 : Int32) (M : FM) : Option (Int32 × FM) :=
  fi (fm_is M 48 48 a0 = true) (
  (f1 a1 M).bind fun r1 =>
  fi (fm_is r1.2 48 48 a0 = true) (
  (f4 (M.1 138 a0 0) r1.1 (r1.2.1 139 a0 0) (Int32.ofInt 2) a2 r1.2).bind fun r2 =>
  g70 r2.1 r2.2) none) none
noncomputable def FX44_make_53 (n : Nat) (a0 : Nat) (a1 : Int32) (a2 : Int32) (M : FM) : Option (Int32 × FM) := BX44_make_53 FX36_r FX103_ofI (FX44_make_70 n ) a0 a1 a2 M
noncomputable def BX44_make_0 (f0 : Nat → Int32 → FM → Option (Int32 × FM)) (f1 : Int32 → FM → Option (Int32 × FM)) (f2 : Int32 → FM → Option (Int32 × FM)) (f3 : Int32 → Int32 → Int32 → Int32 → Int32 → FM → Option (Int32 × FM)) (g53 : Nat → Int32 → Int32 → FM → Option (Int32 × FM)) (g70 : Int32 → FM → Option (Int32 × FM)) (a0 : Nat) (a1 : Int32) (M : FM) : Option (Int32 × FM) :=
  fi (fm_is M 48 48 a0 = true) (
  let x1 : Nat := (M.2.2 129 a0 0)
  fi (fm_is M 42 42 x1 = true) (
  (f0 x1 a1 M).bind fun r2 =>
  fi (fm_is r2.2 48 48 a0 = true) (
  fi ((r2.2.1 140 a0 0) = 0) (
    fi (fm_is r2.2 48 48 a0 = true) (
    fi ((r2.2.1 138 a0 0) = (Int32.ofInt 3)) (
      (f1 a1 r2.2).bind fun r3 =>
      fi (r3.1 = 0) (
        g70 (Int32.ofInt 0) r3.2) (
        g53 a0 a1 r2.1 r3.2)) (
      g53 a0 a1 r2.1 r2.2)) none) (
    fi (fm_is r2.2 48 48 a0 = true) (
    fi (fm_is r2.2 48 48 a0 = true) (
    (f2 a1 r2.2).bind fun r4 =>
    (f3 (r2.2.1 138 a0 0) (r2.2.1 139 a0 0) (Int32.ofInt 2) r4.1 r2.1 r4.2).bind fun r5 =>
    some (r5.1, r5.2)) none) none)) none) none) none
noncomputable def FX44_make_0 (n : Nat) (a0 : Nat) (a1 : Int32) (M : FM) : Option (Int32 × FM) := BX44_make_0 (FX35_read n) FX36_r FX36_q FX103_ofS (FX44_make_53 n ) (FX44_make_70 n ) a0 a1 M
noncomputable def FX44_make (n : Nat) (a0 : Nat) (a1 : Int32) (M : FM) : Option (Int32 × FM) := FX44_make_0 n a0 a1 M
/-! BoardMachine$Halves$Words.ofU(III)I -/
noncomputable def BX103_ofU_0 (a0 : Int32) (a1 : Int32) (a2 : Int32) (M : FM) : Option (Int32 × FM) :=
  some (((a0 ||| (a1 <<< ((Int32.ofInt 7) &&& 31))) ||| (a2 &&& (Int32.ofInt (-4096)))), M)
noncomputable def FX103_ofU_0 (a0 : Int32) (a1 : Int32) (a2 : Int32) (M : FM) : Option (Int32 × FM) := BX103_ofU_0 a0 a1 a2 M
noncomputable def FX103_ofU (a0 : Int32) (a1 : Int32) (a2 : Int32) (M : FM) : Option (Int32 × FM) := FX103_ofU_0 a0 a1 a2 M
/-! BoardMachine$Halves$StackOrUpper.make(I)I -/
noncomputable def BX40_make_65 (s0 : Int32) (M : FM) : Option (Int32 × FM) :=
  some (s0, M)
noncomputable def FX40_make_65 (n : Nat) (s0 : Int32) (M : FM) : Option (Int32 × FM) := BX40_make_65 s0 M
noncomputable def BX40_make_34 (s0 : Int32) (M : FM) : Option (Int32 × FM) :=
  some (s0, M)
noncomputable def FX40_make_34 (n : Nat) (s0 : Int32) (M : FM) : Option (Int32 × FM) := BX40_make_34 s0 M
noncomputable def BX40_make_0 (f0 : Int32 → FM → Option (Int32 × FM)) (f1 : Nat → Int32 → FM → Option (Int32 × FM)) (f2 : Int32 → Int32 → Int32 → Int32 → Int32 → FM → Option (Int32 × FM)) (f3 : Int32 → Int32 → Int32 → FM → Option (Int32 × FM)) (g34 : Int32 → FM → Option (Int32 × FM)) (g65 : Int32 → FM → Option (Int32 × FM)) (a0 : Nat) (a1 : Int32) (M : FM) : Option (Int32 × FM) :=
  (f0 a1 M).bind fun r1 =>
  fi (r1.1 = (Int32.ofInt 2)) (
    fi (fm_is r1.2 49 49 a0 = true) (
    let x2 : Nat := (r1.2.2.2 129 a0 0)
    fi (fm_is r1.2 42 42 x2 = true) (
    (f1 x2 a1 r1.2).bind fun r3 =>
    fi (r3.1 = 0) (
      g34 (Int32.ofInt 0) r3.2) (
      (f2 (Int32.ofInt 19) (Int32.ofInt 2) (Int32.ofInt 0) (Int32.ofInt 2) r3.1 r3.2).bind fun r4 =>
      g34 r4.1 r4.2)) none) none) (
    fi (fm_is r1.2 49 49 a0 = true) (
    let x5 : Nat := (r1.2.2.2 141 a0 0)
    fi (fm_is r1.2 42 42 x5 = true) (
    (f1 x5 a1 r1.2).bind fun r6 =>
    fi (r6.1 = 0) (
      g65 (Int32.ofInt 0) r6.2) (
      (f0 a1 r6.2).bind fun r7 =>
      (f3 (Int32.ofInt 55) r7.1 (r6.1 <<< ((Int32.ofInt 12) &&& 31)) r7.2).bind fun r8 =>
      g65 r8.1 r8.2)) none) none)
noncomputable def FX40_make_0 (n : Nat) (a0 : Nat) (a1 : Int32) (M : FM) : Option (Int32 × FM) := BX40_make_0 FX36_r (FX35_read n) FX103_ofI FX103_ofU (FX40_make_34 n ) (FX40_make_65 n ) a0 a1 M
noncomputable def FX40_make (n : Nat) (a0 : Nat) (a1 : Int32) (M : FM) : Option (Int32 × FM) := FX40_make_0 n a0 a1 M
/-! BoardMachine$Halves$StackPlace.make(I)I -/
noncomputable def BX37_make_29 (s0 : Int32) (M : FM) : Option (Int32 × FM) :=
  some (s0, M)
noncomputable def FX37_make_29 (n : Nat) (s0 : Int32) (M : FM) : Option (Int32 × FM) := BX37_make_29 s0 M
noncomputable def BX37_make_0 (f0 : Nat → Int32 → FM → Option (Int32 × FM)) (f1 : Int32 → FM → Option (Int32 × FM)) (f2 : Int32 → Int32 → Int32 → Int32 → Int32 → FM → Option (Int32 × FM)) (g29 : Int32 → FM → Option (Int32 × FM)) (a0 : Nat) (a1 : Int32) (M : FM) : Option (Int32 × FM) :=
  fi (fm_is M 50 50 a0 = true) (
  let x1 : Nat := (M.2.2 129 a0 0)
  fi (fm_is M 42 42 x1 = true) (
  (f0 x1 a1 M).bind fun r2 =>
  fi (r2.1 = 0) (
    g29 (Int32.ofInt 0) r2.2) (
    (f1 a1 r2.2).bind fun r3 =>
    (f2 (Int32.ofInt 19) r3.1 (Int32.ofInt 0) (Int32.ofInt 2) r2.1 r3.2).bind fun r4 =>
    g29 r4.1 r4.2)) none) none
noncomputable def FX37_make_0 (n : Nat) (a0 : Nat) (a1 : Int32) (M : FM) : Option (Int32 × FM) := BX37_make_0 (FX35_read n) FX36_s FX103_ofI (FX37_make_29 n ) a0 a1 M
noncomputable def FX37_make (n : Nat) (a0 : Nat) (a1 : Int32) (M : FM) : Option (Int32 × FM) := FX37_make_0 n a0 a1 M
/-! BoardMachine$Halves$Whole.make(I)I -/
noncomputable def BX45_make_82 (f2 : Int32 → FM → Option (Int32 × FM)) (f4 : Int32 → Int32 → Int32 → Int32 → Int32 → FM → Option (Int32 × FM)) (a1 : Int32) (s0 : Int32) (s1 : Int32) (M : FM) : Option (Int32 × FM) :=
  (f2 a1 M).bind fun r1 =>
  (f4 s0 s1 (Int32.ofInt 0) r1.1 (Int32.ofInt 0) r1.2).bind fun r2 =>
  some (r2.1, r2.2)
noncomputable def FX45_make_82 (a1 : Int32) (s0 : Int32) (s1 : Int32) (M : FM) : Option (Int32 × FM) := BX45_make_82 FX36_r FX103_ofI a1 s0 s1 M
noncomputable def BX45_make_70 (s0 : Int32) (M : FM) : Option (Int32 × FM) :=
  some (s0, M)
noncomputable def FX45_make_70 (s0 : Int32) (M : FM) : Option (Int32 × FM) := BX45_make_70 s0 M
noncomputable def BX45_make_44 (f1 : Int32 → FM → Option (Int32 × FM)) (f3 : Int32 → Int32 → Int32 → Int32 → Int32 → Int32 → FM → Option (Int32 × FM)) (a1 : Int32) (s0 : Int32) (s1 : Int32) (s2 : Int32) (s3 : Int32) (M : FM) : Option (Int32 × FM) :=
  (f1 a1 M).bind fun r1 =>
  (f3 s0 s1 s2 s3 r1.1 (Int32.ofInt 0) r1.2).bind fun r2 =>
  some (r2.1, r2.2)
noncomputable def FX45_make_44 (a1 : Int32) (s0 : Int32) (s1 : Int32) (s2 : Int32) (s3 : Int32) (M : FM) : Option (Int32 × FM) := BX45_make_44 FX36_q FX103_ofR a1 s0 s1 s2 s3 M
noncomputable def BX45_make_17 (f1 : Int32 → FM → Option (Int32 × FM)) (f2 : Int32 → FM → Option (Int32 × FM)) (g44 : Int32 → Int32 → Int32 → Int32 → Int32 → FM → Option (Int32 × FM)) (g70 : Int32 → FM → Option (Int32 × FM)) (g82 : Int32 → Int32 → Int32 → FM → Option (Int32 × FM)) (a1 : Int32) (s0 : Int32) (M : FM) : Option (Int32 × FM) :=
  (f1 a1 M).bind fun r1 =>
  fi (r1.1 = 0) (
    (f2 a1 r1.2).bind fun r2 =>
    fi (r2.1 = 0) (
      fi (s0 = 0) (
        g70 (Int32.ofInt 0) r2.2) (
        g70 (Int32.ofInt 1048691) r2.2)) (
      fi (s0 = 0) (
        g82 a1 (Int32.ofInt 103) (Int32.ofInt 0) r2.2) (
        g82 a1 (Int32.ofInt 103) (Int32.ofInt 1) r2.2))) (
    (f2 a1 r1.2).bind fun r3 =>
    fi (s0 = 0) (
      g44 a1 (Int32.ofInt 51) r3.1 (Int32.ofInt 0) (Int32.ofInt 0) r3.2) (
      (f2 a1 r3.2).bind fun r4 =>
      g44 a1 (Int32.ofInt 51) r3.1 (Int32.ofInt 0) r4.1 r4.2))
noncomputable def FX45_make_17 (a1 : Int32) (s0 : Int32) (M : FM) : Option (Int32 × FM) := BX45_make_17 FX36_q FX36_r FX45_make_44 FX45_make_70 FX45_make_82 a1 s0 M
noncomputable def BX45_make_0 (f0 : Int32 → Int32 → Int32 → FM → Option (Int32 × FM)) (g17 : Int32 → Int32 → FM → Option (Int32 × FM)) (a0 : Nat) (a1 : Int32) (M : FM) : Option (Int32 × FM) :=
  (f0 a1 (Int32.ofInt 12) (Int32.ofInt 12) M).bind fun r1 =>
  fi (r1.1 = (Int32.ofInt 1)) (
    g17 a1 (Int32.ofInt 1) r1.2) (
    g17 a1 (Int32.ofInt 0) r1.2)
noncomputable def FX45_make_0 (a0 : Nat) (a1 : Int32) (M : FM) : Option (Int32 × FM) := BX45_make_0 FX103_bits FX45_make_17 a0 a1 M
noncomputable def FX45_make (a0 : Nat) (a1 : Int32) (M : FM) : Option (Int32 × FM) := FX45_make_0 a0 a1 M
/-! BoardMachine$Halves$ShortUnit.expand(I)I -/
noncomputable def BX34_expand_41 (s0 : Int32) (M : FM) : Option (Int32 × FM) :=
  some (s0, M)
noncomputable def FX34_expand_41 (n : Nat) (s0 : Int32) (M : FM) : Option (Int32 × FM) := BX34_expand_41 s0 M
noncomputable def BX34_expand_27 (f0 : Nat → Int32 → FM → Option (Int32 × FM)) (f1 : Nat → Int32 → FM → Option (Int32 × FM)) (f2 : Nat → Int32 → FM → Option (Int32 × FM)) (f3 : Nat → Int32 → FM → Option (Int32 × FM)) (f4 : Nat → Int32 → FM → Option (Int32 × FM)) (f5 : Nat → Int32 → FM → Option (Int32 × FM)) (f6 : Nat → Int32 → FM → Option (Int32 × FM)) (f7 : Nat → Int32 → FM → Option (Int32 × FM)) (f8 : Nat → Int32 → FM → Option (Int32 × FM)) (g41 : Int32 → FM → Option (Int32 × FM)) (a1 : Int32) (s0 : Nat) (M : FM) : Option (Int32 × FM) :=
  fi (s0 = 0) (
    g41 (Int32.ofInt 0) M) (
    fi (fm_is M 43 43 s0 = true) (
    (f0 s0 a1 M).bind fun r1 =>
    g41 r1.1 r1.2) (fi (fm_is M 44 44 s0 = true) (
    (f1 s0 a1 M).bind fun r2 =>
    g41 r2.1 r2.2) (fi (fm_is M 45 45 s0 = true) (
    (f2 s0 a1 M).bind fun r3 =>
    g41 r3.1 r3.2) (fi (fm_is M 46 46 s0 = true) (
    (f3 s0 a1 M).bind fun r4 =>
    g41 r4.1 r4.2) (fi (fm_is M 47 47 s0 = true) (
    (f4 s0 a1 M).bind fun r5 =>
    g41 r5.1 r5.2) (fi (fm_is M 48 48 s0 = true) (
    (f5 s0 a1 M).bind fun r6 =>
    g41 r6.1 r6.2) (fi (fm_is M 49 49 s0 = true) (
    (f6 s0 a1 M).bind fun r7 =>
    g41 r7.1 r7.2) (fi (fm_is M 50 50 s0 = true) (
    (f7 s0 a1 M).bind fun r8 =>
    g41 r8.1 r8.2) (fi (fm_is M 51 51 s0 = true) (
    (f8 s0 a1 M).bind fun r9 =>
    g41 r9.1 r9.2) (none))))))))))
noncomputable def FX34_expand_27 (n : Nat) (a1 : Int32) (s0 : Nat) (M : FM) : Option (Int32 × FM) := BX34_expand_27 (FX38_make n) (FX43_make n) (FX39_make n) (FX42_make n) (FX41_make n) (FX44_make n) (FX40_make n) (FX37_make n) FX45_make (FX34_expand_41 n ) a1 s0 M
noncomputable def BX34_expand_0 (g27 : Int32 → Nat → FM → Option (Int32 × FM)) (a0 : Nat) (a1 : Int32) (M : FM) : Option (Int32 × FM) :=
  let x1 : Int32 := (a1 &&& (Int32.ofInt 3))
  fi (x1 = (Int32.ofInt 3)) (
    g27 a1 0 M) (
    fi (fm_is M 52 52 a0 = true) (
    let x2 : Int32 := (((Int32.ofInt 8) * x1) + (a1 >>> ((Int32.ofInt 13) &&& 31)))
    let x3 : Nat := (M.2.2 142 a0 0)
    fi (fm_is M 910 990 x3 = true ∧ fm_in M x3 x2 = true) (
    g27 a1 (M.2.2 3 x3 x2.toNatClampNeg) M) none) none)
noncomputable def FX34_expand_0 (n : Nat) (a0 : Nat) (a1 : Int32) (M : FM) : Option (Int32 × FM) := BX34_expand_0 (FX34_expand_27 n ) a0 a1 M
noncomputable def FX34_expand (n : Nat) (a0 : Nat) (a1 : Int32) (M : FM) : Option (Int32 × FM) := FX34_expand_0 n a0 a1 M
/-! BoardMachine$Processor.keep(LBoardMachine$Kept;JIII)V -/
noncomputable def BX46_keep_22 (f0 : Int64 → FM → Option (Int32 × FM)) (a0 : Nat) (a1 : Nat) (a2 : Int64) (a4 : Int32) (a5 : Int32) (a6 : Int32) (s0 : Nat) (s1 : Int32) (M : FM) : Option (FM) :=
  fi (fm_is M 65 65 s0 = true) (
  fi (s1 = 0 ∨ s1 = 1) (
  let M1 : FM := fm_sI M 180 s0 0 s1
  fi (fm_is M1 65 65 a1 = true) (
  let M2 : FM := fm_sL M1 181 a1 0 a2
  fi (fm_is M2 75 75 a0 = true) (
  let x3 : Nat := (M2.2.2 210 a0 0)
  fi (fm_is M2 11 11 x3 = true) (
  let x4 : Nat := (M2.2.2 18 x3 0)
  fi (fm_is M2 73 73 x4 = true) (
  (f0 a2 M2).bind fun r5 =>
  let x6 : Nat := (M2.2.2 204 x4 0)
  fi (fm_is r5.2 902 902 x6 = true ∧ fm_in r5.2 x6 r5.1 = true) (
  fi (fm_is r5.2 65 65 a1 = true) (
  let M7 : FM := fm_sL r5.2 182 a1 0 (r5.2.2.1 3 x6 r5.1.toNatClampNeg)
  fi (fm_is M7 65 65 a1 = true) (
  let M8 : FM := fm_sI M7 183 a1 0 a4
  fi (fm_is M8 65 65 a1 = true) (
  let M9 : FM := fm_sI M8 185 a1 0 a5
  fi (fm_is M9 65 65 a1 = true) (
  let M10 : FM := fm_sI M9 184 a1 0 a6
  some M10) none) none) none) none) none) none) none) none) none) none) none
noncomputable def FX46_keep_22 (a0 : Nat) (a1 : Nat) (a2 : Int64) (a4 : Int32) (a5 : Int32) (a6 : Int32) (s0 : Nat) (s1 : Int32) (M : FM) : Option (FM) := BX46_keep_22 FX11_pageOf a0 a1 a2 a4 a5 a6 s0 s1 M
noncomputable def BX46_keep_0 (g22 : Nat → Nat → Int64 → Int32 → Int32 → Int32 → Nat → Int32 → FM → Option (FM)) (a0 : Nat) (a1 : Nat) (a2 : Int64) (a4 : Int32) (a5 : Int32) (a6 : Int32) (M : FM) : Option (FM) :=
  fi (0 < (lg_cmp ((a2 &&& (Int64.ofInt 4095)) + a6.toInt64) (Int64.ofInt 4096))) (
    g22 a0 a1 a2 a4 a5 a6 a1 (Int32.ofInt 0) M) (
    g22 a0 a1 a2 a4 a5 a6 a1 (Int32.ofInt 1) M)
noncomputable def FX46_keep_0 (a0 : Nat) (a1 : Nat) (a2 : Int64) (a4 : Int32) (a5 : Int32) (a6 : Int32) (M : FM) : Option (FM) := BX46_keep_0 FX46_keep_22 a0 a1 a2 a4 a5 a6 M
noncomputable def FX46_keep (a0 : Nat) (a1 : Nat) (a2 : Int64) (a4 : Int32) (a5 : Int32) (a6 : Int32) (M : FM) : Option (FM) := FX46_keep_0 a0 a1 a2 a4 a5 a6 M
/-! BoardMachine$Processor.fetch()Z -/
noncomputable def BX46_fetch_265 (a0 : Nat) (a3 : Nat) (M : FM) : Option (Int32 × FM) :=
  fi (fm_is M 65 65 a3 = true) (
  fi (fm_is M 75 75 a0 = true) (
  let M1 : FM := fm_sI M 219 a0 0 (M.1 183 a3 0)
  fi (fm_is M1 65 65 a3 = true) (
  fi (fm_is M1 75 75 a0 = true) (
  let M2 : FM := fm_sI M1 220 a0 0 (M1.1 185 a3 0)
  fi ((Int32.ofInt 1) = 0 ∨ (Int32.ofInt 1) = 1) (some ((Int32.ofInt 1), M2)) none) none) none) none) none
noncomputable def FX46_fetch_265 (n : Nat) (a0 : Nat) (a3 : Nat) (M : FM) : Option (Int32 × FM) := BX46_fetch_265 a0 a3 M
noncomputable def BX46_fetch_261 (g265 : Nat → Nat → FM → Option (Int32 × FM)) (a0 : Nat) (a3 : Nat) (s0 : Nat) (s1 : Int32) (s2 : Int32) (M : FM) : Option (Int32 × FM) :=
  let x1 : Int32 := (s1 &&& s2)
  fi (fm_is M 65 65 s0 = true) (
  fi (x1 = 0 ∨ x1 = 1) (
  let M2 : FM := fm_sI M 180 s0 0 x1
  g265 a0 a3 M2) none) none
noncomputable def FX46_fetch_261 (n : Nat) (a0 : Nat) (a3 : Nat) (s0 : Nat) (s1 : Int32) (s2 : Int32) (M : FM) : Option (Int32 × FM) := BX46_fetch_261 (FX46_fetch_265 n ) a0 a3 s0 s1 s2 M
noncomputable def BX46_fetch_209 (f1 : Nat → Int64 → Int32 → FM → Option (Int64 × FM)) (f4 : Nat → Nat → Int64 → Int32 → Int32 → Int32 → FM → Option (FM)) (g261 : Nat → Nat → Nat → Int32 → Int32 → FM → Option (Int32 × FM)) (a0 : Nat) (a1 : Int64) (a3 : Nat) (a4 : Int64) (s0 : Int32) (M : FM) : Option (Int32 × FM) :=
  fi (fm_is M 75 75 a0 = true) (
  let x1 : Nat := (M.2.2 210 a0 0)
  fi (fm_is M 11 11 x1 = true) (
  let x2 : Nat := (M.2.2 18 x1 0)
  fi (fm_is M 73 73 x2 = true) (
  (f1 x2 a4 (Int32.ofInt 2) M).bind fun r3 =>
  let x4 : Int32 := (s0 ||| (r3.1.toInt32 <<< ((Int32.ofInt 16) &&& 31)))
  fi (fm_is r3.2 75 75 a0 = true) (
  (f4 a0 a3 a1 x4 x4 (Int32.ofInt 4) r3.2).bind fun M5 =>
  fi (fm_is M5 65 65 a3 = true) (
  fi ((lg_cmp a4 (a1 + (Int64.ofInt 2))) = 0) (
    g261 a0 a3 a3 (M5.1 180 a3 0) (Int32.ofInt 1) M5) (
    g261 a0 a3 a3 (M5.1 180 a3 0) (Int32.ofInt 0) M5)) none) none) none) none) none
noncomputable def FX46_fetch_209 (n : Nat) (a0 : Nat) (a1 : Int64) (a3 : Nat) (a4 : Int64) (s0 : Int32) (M : FM) : Option (Int32 × FM) := BX46_fetch_209 FX11_load FX46_keep (FX46_fetch_261 n ) a0 a1 a3 a4 s0 M
noncomputable def BX46_fetch_182 (f1 : Nat → Int64 → Int32 → FM → Option (Int64 × FM)) (g209 : Nat → Int64 → Nat → Int64 → Int32 → FM → Option (Int32 × FM)) (a0 : Nat) (a1 : Int64) (a3 : Nat) (a4 : Int64) (M : FM) : Option (Int32 × FM) :=
  fi (fm_is M 65 65 a3 = true) (
  fi ((M.1 180 a3 0) = 0) (
    fi (fm_is M 65 65 a3 = true) (
    g209 a0 a1 a3 a4 (M.1 185 a3 0) M) none) (
    fi (fm_is M 75 75 a0 = true) (
    let x1 : Nat := (M.2.2 210 a0 0)
    fi (fm_is M 11 11 x1 = true) (
    let x2 : Nat := (M.2.2 18 x1 0)
    fi (fm_is M 73 73 x2 = true) (
    (f1 x2 a1 (Int32.ofInt 2) M).bind fun r3 =>
    g209 a0 a1 a3 a4 r3.1.toInt32 r3.2) none) none) none)) none
noncomputable def FX46_fetch_182 (n : Nat) (a0 : Nat) (a1 : Int64) (a3 : Nat) (a4 : Int64) (M : FM) : Option (Int32 × FM) := BX46_fetch_182 FX11_load (FX46_fetch_209 n ) a0 a1 a3 a4 M
noncomputable def BX46_fetch_127 (f0 : Nat → Int32 → FM → Option (Int64 × FM)) (g182 : Nat → Int64 → Nat → Int64 → FM → Option (Int32 × FM)) (g265 : Nat → Nat → FM → Option (Int32 × FM)) (a0 : Nat) (a1 : Int64) (a3 : Nat) (M : FM) : Option (Int32 × FM) :=
  fi (fm_is M 65 65 a3 = true) (
  fi (fm_is M 75 75 a0 = true) (
  let M1 : FM := fm_sI M 221 a0 0 (M.1 184 a3 0)
  fi (fm_is M1 75 75 a0 = true) (
  fi ((M1.1 221 a0 0) = (Int32.ofInt 4)) (
    fi (fm_is M1 75 75 a0 = true) (
    (f0 a0 (Int32.ofInt 2) M1).bind fun r2 =>
    fi (0 ≤ (lg_cmp r2.1 (Int64.ofInt 0))) (
      fi (fm_is r2.2 65 65 a3 = true) (
      fi ((r2.2.1 180 a3 0) = 0) (
        g182 a0 a1 a3 r2.1 r2.2) (
        fi ((lg_cmp r2.1 (a1 + (Int64.ofInt 2))) = 0) (
          g265 a0 a3 r2.2) (
          g182 a0 a1 a3 r2.1 r2.2))) none) (
      fi (fm_is r2.2 65 65 a3 = true) (
      fi ((Int32.ofInt 0) = 0 ∨ (Int32.ofInt 0) = 1) (
      let M3 : FM := fm_sI r2.2 180 a3 0 (Int32.ofInt 0)
      fi ((Int32.ofInt 0) = 0 ∨ (Int32.ofInt 0) = 1) (some ((Int32.ofInt 0), M3)) none) none) none)) none) (
    g265 a0 a3 M1)) none) none) none
noncomputable def FX46_fetch_127 (n : Nat) (a0 : Nat) (a1 : Int64) (a3 : Nat) (M : FM) : Option (Int32 × FM) := BX46_fetch_127 (FX46_half n) (FX46_fetch_182 n ) (FX46_fetch_265 n ) a0 a1 a3 M
noncomputable def BX46_fetch_67 (f1 : Nat → Int64 → Int32 → FM → Option (Int64 × FM)) (f3 : Nat → Int32 → FM → Option (Int32 × FM)) (f4 : Nat → Nat → Int64 → Int32 → Int32 → Int32 → FM → Option (FM)) (g127 : Nat → Int64 → Nat → FM → Option (Int32 × FM)) (a0 : Nat) (a1 : Int64) (a3 : Nat) (M : FM) : Option (Int32 × FM) :=
  fi (fm_is M 65 65 a3 = true) (
  fi ((Int32.ofInt 0) = 0 ∨ (Int32.ofInt 0) = 1) (
  let M1 : FM := fm_sI M 180 a3 0 (Int32.ofInt 0)
  fi (fm_is M1 75 75 a0 = true) (
  let x2 : Nat := (M1.2.2 210 a0 0)
  fi (fm_is M1 11 11 x2 = true) (
  let x3 : Nat := (M1.2.2 18 x2 0)
  fi (fm_is M1 73 73 x3 = true) (
  (f1 x3 a1 (Int32.ofInt 2) M1).bind fun r4 =>
  let x5 : Int32 := r4.1.toInt32
  fi ((x5 &&& (Int32.ofInt 3)) = (Int32.ofInt 3)) (
    fi (fm_is r4.2 65 65 a3 = true) (
    let M6 : FM := fm_sI r4.2 184 a3 0 (Int32.ofInt 4)
    fi (fm_is M6 65 65 a3 = true) (
    let M7 : FM := fm_sI M6 185 a3 0 x5
    g127 a0 a1 a3 M7) none) none) (
    fi (fm_is r4.2 75 75 a0 = true) (
    let x8 : Nat := (r4.2.2.2 215 a0 0)
    fi (fm_is r4.2 52 52 x8 = true) (
    (f3 x8 x5 r4.2).bind fun r9 =>
    fi (fm_is r9.2 75 75 a0 = true) (
    (f4 a0 a3 a1 r9.1 x5 (Int32.ofInt 2) r9.2).bind fun M10 =>
    g127 a0 a1 a3 M10) none) none) none)) none) none) none) none) none
noncomputable def FX46_fetch_67 (n : Nat) (a0 : Nat) (a1 : Int64) (a3 : Nat) (M : FM) : Option (Int32 × FM) := BX46_fetch_67 FX11_load (FX34_expand n) FX46_keep (FX46_fetch_127 n ) a0 a1 a3 M
noncomputable def BX46_fetch_0 (f0 : Nat → Int32 → FM → Option (Int64 × FM)) (f2 : Int64 → FM → Option (Int32 × FM)) (g67 : Nat → Int64 → Nat → FM → Option (Int32 × FM)) (g127 : Nat → Int64 → Nat → FM → Option (Int32 × FM)) (a0 : Nat) (M : FM) : Option (Int32 × FM) :=
  fi (fm_is M 75 75 a0 = true) (
  (f0 a0 (Int32.ofInt 0) M).bind fun r1 =>
  fi (0 ≤ (lg_cmp r1.1 (Int64.ofInt 0))) (
    fi (fm_is r1.2 75 75 a0 = true) (
    let x2 : Int32 := ((r1.1 >>> ((Int32.ofInt 1).toInt64 &&& 63)).toInt32 &&& (Int32.ofInt 511))
    let x3 : Nat := (r1.2.2.2 216 a0 0)
    fi (fm_is r1.2 910 990 x3 = true ∧ fm_in r1.2 x3 x2 = true) (
    let x4 : Nat := (r1.2.2.2 3 x3 x2.toNatClampNeg)
    fi (fm_is r1.2 65 65 x4 = true) (
    fi ((r1.2.1 180 x4 0) = 0) (
      g67 a0 r1.1 x4 r1.2) (
      fi (fm_is r1.2 65 65 x4 = true) (
      fi ((lg_cmp (r1.2.2.1 181 x4 0) r1.1) = 0) (
        fi (fm_is r1.2 65 65 x4 = true) (
        fi (fm_is r1.2 75 75 a0 = true) (
        let x5 : Nat := (r1.2.2.2 210 a0 0)
        fi (fm_is r1.2 11 11 x5 = true) (
        let x6 : Nat := (r1.2.2.2 18 x5 0)
        fi (fm_is r1.2 73 73 x6 = true) (
        (f2 r1.1 r1.2).bind fun r7 =>
        let x8 : Nat := (r1.2.2.2 204 x6 0)
        fi (fm_is r7.2 902 902 x8 = true ∧ fm_in r7.2 x8 r7.1 = true) (
        fi ((lg_cmp (r1.2.2.1 182 x4 0) (r7.2.2.1 3 x8 r7.1.toNatClampNeg)) = 0) (
          g127 a0 r1.1 x4 r7.2) (
          g67 a0 r1.1 x4 r7.2)) none) none) none) none) none) (
        g67 a0 r1.1 x4 r1.2)) none)) none) none) none) (
    fi ((Int32.ofInt 0) = 0 ∨ (Int32.ofInt 0) = 1) (some ((Int32.ofInt 0), r1.2)) none)) none
noncomputable def FX46_fetch_0 (n : Nat) (a0 : Nat) (M : FM) : Option (Int32 × FM) := BX46_fetch_0 (FX46_half n) FX11_pageOf (FX46_fetch_67 n ) (FX46_fetch_127 n ) a0 M
noncomputable def FX46_fetch (n : Nat) (a0 : Nat) (M : FM) : Option (Int32 × FM) := FX46_fetch_0 n a0 M
/-! BoardMachine$Processor.illegal()Z -/
noncomputable def BX46_illegal_24 (f0 : Nat → Int32 → Int64 → FM → Option (Int32 × FM)) (s0 : Nat) (s1 : Int32) (s2 : Int64) (s3 : Int64) (M : FM) : Option (Int32 × FM) :=
  fi (fm_is M 75 75 s0 = true) (
  (f0 s0 s1 (s2 &&& s3) M).bind fun r1 =>
  fi (r1.1 = 0 ∨ r1.1 = 1) (some (r1.1, r1.2)) none) none
noncomputable def FX46_illegal_24 (s0 : Nat) (s1 : Int32) (s2 : Int64) (s3 : Int64) (M : FM) : Option (Int32 × FM) := BX46_illegal_24 FX46_raise s0 s1 s2 s3 M
noncomputable def BX46_illegal_0 (g24 : Nat → Int32 → Int64 → Int64 → FM → Option (Int32 × FM)) (a0 : Nat) (M : FM) : Option (Int32 × FM) :=
  fi (fm_is M 75 75 a0 = true) (
  fi (fm_is M 75 75 a0 = true) (
  fi ((M.1 221 a0 0) = (Int32.ofInt 2)) (
    g24 a0 (Int32.ofInt 2) ((M.1 220 a0 0).toInt64) (Int64.ofInt 65535) M) (
    g24 a0 (Int32.ofInt 2) ((M.1 220 a0 0).toInt64) (Int64.ofInt 4294967295) M)) none) none
noncomputable def FX46_illegal_0 (a0 : Nat) (M : FM) : Option (Int32 × FM) := BX46_illegal_0 FX46_illegal_24 a0 M
noncomputable def FX46_illegal (a0 : Nat) (M : FM) : Option (Int32 × FM) := FX46_illegal_0 a0 M
/-! BoardMachine$Integers$Decoded.<init>()V -/
noncomputable def BX104_init_0 (a0 : Nat) (M : FM) : Option (FM) :=
  fi (a0 = 0) none (
  some M)
noncomputable def FX104_init_0 (a0 : Nat) (M : FM) : Option (FM) := BX104_init_0 a0 M
noncomputable def FX104_init (a0 : Nat) (M : FM) : Option (FM) := FX104_init_0 a0 M
/-! BoardMachine$Integers$Fields.bits(III)I -/
noncomputable def BX105_bits_0 (a0 : Int32) (a1 : Int32) (a2 : Int32) (M : FM) : Option (Int32 × FM) :=
  some (((a0 <<< (((Int32.ofInt 31) - a1) &&& 31)).toUInt32 >>> ((((Int32.ofInt 31) - a1) + a2).toUInt32 &&& Int32.toUInt32 31)).toInt32, M)
noncomputable def FX105_bits_0 (a0 : Int32) (a1 : Int32) (a2 : Int32) (M : FM) : Option (Int32 × FM) := BX105_bits_0 a0 a1 a2 M
noncomputable def FX105_bits (a0 : Int32) (a1 : Int32) (a2 : Int32) (M : FM) : Option (Int32 × FM) := FX105_bits_0 a0 a1 a2 M
/-! BoardMachine$Integers$Decoder.access(LBoardMachine$Integers$Decoded;ZIJII)LBoardMachine$Integers$Action; -/
noncomputable def BX49_access_38 (s0 : Nat) (M : FM) : Option (Nat × FM) :=
  some (s0, M)
noncomputable def FX49_access_38 (s0 : Nat) (M : FM) : Option (Nat × FM) := BX49_access_38 s0 M
noncomputable def BX49_access_0 (g38 : Nat → FM → Option (Nat × FM)) (a0 : Nat) (a1 : Nat) (a2 : Int32) (a3 : Int32) (a4 : Int64) (a6 : Int32) (a7 : Int32) (M : FM) : Option (Nat × FM) :=
  fi (fm_is M 61 61 a1 = true) (
  let M1 : FM := fm_sI M 158 a1 0 a3
  fi (fm_is M1 61 61 a1 = true) (
  let M2 : FM := fm_sL M1 154 a1 0 a4
  fi (fm_is M2 61 61 a1 = true) (
  let M3 : FM := fm_sI M2 159 a1 0 a6
  fi (fm_is M3 61 61 a1 = true) (
  let M4 : FM := fm_sI M3 160 a1 0 a7
  fi (a2 = 0) (
    fi (fm_is M4 62 62 a0 = true) (
    g38 (M4.2.2 161 a0 0) M4) none) (
    fi (fm_is M4 62 62 a0 = true) (
    g38 (M4.2.2 169 a0 0) M4) none)) none) none) none) none
noncomputable def FX49_access_0 (a0 : Nat) (a1 : Nat) (a2 : Int32) (a3 : Int32) (a4 : Int64) (a6 : Int32) (a7 : Int32) (M : FM) : Option (Nat × FM) := BX49_access_0 FX49_access_38 a0 a1 a2 a3 a4 a6 a7 M
noncomputable def FX49_access (a0 : Nat) (a1 : Nat) (a2 : Int32) (a3 : Int32) (a4 : Int64) (a6 : Int32) (a7 : Int32) (M : FM) : Option (Nat × FM) := FX49_access_0 a0 a1 a2 a3 a4 a6 a7 M
/-! BoardMachine$Integers$Decoder.atomic(LBoardMachine$Integers$Decoded;I)LBoardMachine$Integers$Action; -/
noncomputable def BX49_atomic_50 (f1 : Nat → Nat → Int32 → Int32 → Int64 → Int32 → Int32 → FM → Option (Nat × FM)) (a0 : Nat) (a1 : Nat) (a2 : Int32) (a3 : Int32) (s0 : Int32) (M : FM) : Option (Nat × FM) :=
  fi (fm_is M 62 62 a0 = true) (
  (f1 a0 a1 s0 (Int32.ofInt 4) (Int64.ofInt 0) ((Int32.ofInt 1) <<< (a2 &&& 31)) a3 M).bind fun r1 =>
  some (r1.1, r1.2)) none
noncomputable def FX49_atomic_50 (a0 : Nat) (a1 : Nat) (a2 : Int32) (a3 : Int32) (s0 : Int32) (M : FM) : Option (Nat × FM) := BX49_atomic_50 FX49_access a0 a1 a2 a3 s0 M
noncomputable def BX49_atomic_49 (g50 : Nat → Nat → Int32 → Int32 → Int32 → FM → Option (Nat × FM)) (a0 : Nat) (a1 : Nat) (a2 : Int32) (a3 : Int32) (M : FM) : Option (Nat × FM) :=
  g50 a0 a1 a2 a3 (Int32.ofInt 0) M
noncomputable def FX49_atomic_49 (a0 : Nat) (a1 : Nat) (a2 : Int32) (a3 : Int32) (M : FM) : Option (Nat × FM) := BX49_atomic_49 FX49_atomic_50 a0 a1 a2 a3 M
noncomputable def BX49_atomic_45 (g50 : Nat → Nat → Int32 → Int32 → Int32 → FM → Option (Nat × FM)) (a0 : Nat) (a1 : Nat) (a2 : Int32) (a3 : Int32) (M : FM) : Option (Nat × FM) :=
  g50 a0 a1 a2 a3 (Int32.ofInt 1) M
noncomputable def FX49_atomic_45 (a0 : Nat) (a1 : Nat) (a2 : Int32) (a3 : Int32) (M : FM) : Option (Nat × FM) := BX49_atomic_45 FX49_atomic_50 a0 a1 a2 a3 M
noncomputable def BX49_atomic_33 (g45 : Nat → Nat → Int32 → Int32 → FM → Option (Nat × FM)) (g49 : Nat → Nat → Int32 → Int32 → FM → Option (Nat × FM)) (a0 : Nat) (a1 : Nat) (a2 : Int32) (a3 : Int32) (M : FM) : Option (Nat × FM) :=
  fi (a3 = (Int32.ofInt 2)) (
    fi (fm_is M 61 61 a1 = true) (
    fi ((M.1 153 a1 0) = 0) (
      g45 a0 a1 a2 a3 M) (
      g49 a0 a1 a2 a3 M)) none) (
    g45 a0 a1 a2 a3 M)
noncomputable def FX49_atomic_33 (a0 : Nat) (a1 : Nat) (a2 : Int32) (a3 : Int32) (M : FM) : Option (Nat × FM) := BX49_atomic_33 FX49_atomic_45 FX49_atomic_49 a0 a1 a2 a3 M
noncomputable def BX49_atomic_22 (g33 : Nat → Nat → Int32 → Int32 → FM → Option (Nat × FM)) (g49 : Nat → Nat → Int32 → Int32 → FM → Option (Nat × FM)) (a0 : Nat) (a1 : Nat) (a2 : Int32) (a3 : Int32) (M : FM) : Option (Nat × FM) :=
  fi (a3 < (Int32.ofInt 4)) (
    g33 a0 a1 a2 a3 M) (
    fi ((a3 &&& (Int32.ofInt 3)) = 0) (
      g33 a0 a1 a2 a3 M) (
      g49 a0 a1 a2 a3 M))
noncomputable def FX49_atomic_22 (a0 : Nat) (a1 : Nat) (a2 : Int32) (a3 : Int32) (M : FM) : Option (Nat × FM) := BX49_atomic_22 FX49_atomic_33 FX49_atomic_49 a0 a1 a2 a3 M
noncomputable def BX49_atomic_0 (f0 : Int32 → Int32 → Int32 → FM → Option (Int32 × FM)) (g22 : Nat → Nat → Int32 → Int32 → FM → Option (Nat × FM)) (g49 : Nat → Nat → Int32 → Int32 → FM → Option (Nat × FM)) (a0 : Nat) (a1 : Nat) (a2 : Int32) (M : FM) : Option (Nat × FM) :=
  fi (fm_is M 61 61 a1 = true) (
  (f0 (M.1 150 a1 0) (Int32.ofInt 31) (Int32.ofInt 27) M).bind fun r1 =>
  fi (a2 = (Int32.ofInt 2)) (
    g22 a0 a1 a2 r1.1 r1.2) (
    fi (a2 = (Int32.ofInt 3)) (
      g22 a0 a1 a2 r1.1 r1.2) (
      g49 a0 a1 a2 r1.1 r1.2))) none
noncomputable def FX49_atomic_0 (a0 : Nat) (a1 : Nat) (a2 : Int32) (M : FM) : Option (Nat × FM) := BX49_atomic_0 FX105_bits FX49_atomic_22 FX49_atomic_49 a0 a1 a2 M
noncomputable def FX49_atomic (a0 : Nat) (a1 : Nat) (a2 : Int32) (M : FM) : Option (Nat × FM) := FX49_atomic_0 a0 a1 a2 M
/-! BoardMachine$Integers$Fields.immediateB(I)J -/
noncomputable def BX105_immediateB_0 (f0 : Int32 → Int32 → Int32 → FM → Option (Int32 × FM)) (a0 : Int32) (M : FM) : Option (Int64 × FM) :=
  (f0 a0 (Int32.ofInt 7) (Int32.ofInt 7) M).bind fun r1 =>
  (f0 a0 (Int32.ofInt 30) (Int32.ofInt 25) r1.2).bind fun r2 =>
  (f0 a0 (Int32.ofInt 11) (Int32.ofInt 8) r2.2).bind fun r3 =>
  some ((((((a0 >>> ((Int32.ofInt 31) &&& 31)) <<< ((Int32.ofInt 12) &&& 31)) ||| (r1.1 <<< ((Int32.ofInt 11) &&& 31))) ||| (r2.1 <<< ((Int32.ofInt 5) &&& 31))) ||| (r3.1 <<< ((Int32.ofInt 1) &&& 31))).toInt64, r3.2)
noncomputable def FX105_immediateB_0 (a0 : Int32) (M : FM) : Option (Int64 × FM) := BX105_immediateB_0 FX105_bits a0 M
noncomputable def FX105_immediateB (a0 : Int32) (M : FM) : Option (Int64 × FM) := FX105_immediateB_0 a0 M
/-! BoardMachine$Integers$Decoder.branch(LBoardMachine$Integers$Decoded;I)LBoardMachine$Integers$Action; -/
noncomputable def BX49_branch_37 (s0 : Nat) (M : FM) : Option (Nat × FM) :=
  some (s0, M)
noncomputable def FX49_branch_37 (s0 : Nat) (M : FM) : Option (Nat × FM) := BX49_branch_37 s0 M
noncomputable def BX49_branch_26 (g37 : Nat → FM → Option (Nat × FM)) (a0 : Nat) (M : FM) : Option (Nat × FM) :=
  fi (fm_is M 62 62 a0 = true) (
  g37 (M.2.2 161 a0 0) M) none
noncomputable def FX49_branch_26 (a0 : Nat) (M : FM) : Option (Nat × FM) := BX49_branch_26 FX49_branch_37 a0 M
noncomputable def BX49_branch_0 (f0 : Int32 → FM → Option (Int64 × FM)) (g26 : Nat → FM → Option (Nat × FM)) (g37 : Nat → FM → Option (Nat × FM)) (a0 : Nat) (a1 : Nat) (a2 : Int32) (M : FM) : Option (Nat × FM) :=
  fi (fm_is M 61 61 a1 = true) (
  (f0 (M.1 150 a1 0) M).bind fun r1 =>
  fi (fm_is r1.2 61 61 a1 = true) (
  let M2 : FM := fm_sL r1.2 154 a1 0 r1.1
  fi (fm_is M2 61 61 a1 = true) (
  let M3 : FM := fm_sI M2 160 a1 0 a2
  fi (a2 = (Int32.ofInt 2)) (
    g26 a0 M3) (
    fi (a2 = (Int32.ofInt 3)) (
      g26 a0 M3) (
      fi (fm_is M3 62 62 a0 = true) (
      g37 (M3.2.2 167 a0 0) M3) none))) none) none) none
noncomputable def FX49_branch_0 (a0 : Nat) (a1 : Nat) (a2 : Int32) (M : FM) : Option (Nat × FM) := BX49_branch_0 FX105_immediateB FX49_branch_26 FX49_branch_37 a0 a1 a2 M
noncomputable def FX49_branch (a0 : Nat) (a1 : Nat) (a2 : Int32) (M : FM) : Option (Nat × FM) := FX49_branch_0 a0 a1 a2 M
/-! BoardMachine$Integers$Decoder.plain(I)LBoardMachine$Integers$Sum; -/
noncomputable def BX49_plain_0 (a0 : Int32) (M : FM) : Option (Nat × FM) :=
  fi (a0 = (Int32.ofInt 0)) (
    some (15, M)) (
  fi (a0 = (Int32.ofInt 1)) (
    some (17, M)) (
  fi (a0 = (Int32.ofInt 2)) (
    some (18, M)) (
  fi (a0 = (Int32.ofInt 3)) (
    some (19, M)) (
  fi (a0 = (Int32.ofInt 4)) (
    some (20, M)) (
  fi (a0 = (Int32.ofInt 5)) (
    some (21, M)) (
  fi (a0 = (Int32.ofInt 6)) (
    some (23, M)) (
  some (24, M))))))))
noncomputable def FX49_plain_0 (a0 : Int32) (M : FM) : Option (Nat × FM) := BX49_plain_0 a0 M
noncomputable def FX49_plain (a0 : Int32) (M : FM) : Option (Nat × FM) := FX49_plain_0 a0 M
/-! BoardMachine$Integers$Fields.immediateI(I)J -/
noncomputable def BX105_immediateI_0 (a0 : Int32) (M : FM) : Option (Int64 × FM) :=
  some ((a0 >>> ((Int32.ofInt 20) &&& 31)).toInt64, M)
noncomputable def FX105_immediateI_0 (a0 : Int32) (M : FM) : Option (Int64 × FM) := BX105_immediateI_0 a0 M
noncomputable def FX105_immediateI (a0 : Int32) (M : FM) : Option (Int64 × FM) := FX105_immediateI_0 a0 M
/-! BoardMachine$Integers$Decoder.compute(LBoardMachine$Integers$Decoded;LBoardMachine$Integers$Sum;ZZJ)LBoardMachine$Integers$Action; -/
noncomputable def BX49_compute_37 (s0 : Nat) (M : FM) : Option (Nat × FM) :=
  some (s0, M)
noncomputable def FX49_compute_37 (s0 : Nat) (M : FM) : Option (Nat × FM) := BX49_compute_37 s0 M
noncomputable def BX49_compute_0 (g37 : Nat → FM → Option (Nat × FM)) (a0 : Nat) (a1 : Nat) (a2 : Nat) (a3 : Int32) (a4 : Int32) (a5 : Int64) (M : FM) : Option (Nat × FM) :=
  fi (fm_is M 61 61 a1 = true) (
  let M1 : FM := fm_sR M 155 a1 0 a2
  fi (fm_is M1 61 61 a1 = true) (
  fi (a3 = 0 ∨ a3 = 1) (
  let M2 : FM := fm_sI M1 156 a1 0 a3
  fi (fm_is M2 61 61 a1 = true) (
  fi (a4 = 0 ∨ a4 = 1) (
  let M3 : FM := fm_sI M2 157 a1 0 a4
  fi (fm_is M3 61 61 a1 = true) (
  let M4 : FM := fm_sL M3 154 a1 0 a5
  fi (a2 = 0) (
    fi (fm_is M4 62 62 a0 = true) (
    g37 (M4.2.2 161 a0 0) M4) none) (
    fi (fm_is M4 62 62 a0 = true) (
    g37 (M4.2.2 168 a0 0) M4) none)) none) none) none) none) none) none
noncomputable def FX49_compute_0 (a0 : Nat) (a1 : Nat) (a2 : Nat) (a3 : Int32) (a4 : Int32) (a5 : Int64) (M : FM) : Option (Nat × FM) := BX49_compute_0 FX49_compute_37 a0 a1 a2 a3 a4 a5 M
noncomputable def FX49_compute (a0 : Nat) (a1 : Nat) (a2 : Nat) (a3 : Int32) (a4 : Int32) (a5 : Int64) (M : FM) : Option (Nat × FM) := FX49_compute_0 a0 a1 a2 a3 a4 a5 M
/-! BoardMachine$Integers$Decoder.product(I)LBoardMachine$Integers$Sum; -/
noncomputable def BX49_product_0 (a0 : Int32) (M : FM) : Option (Nat × FM) :=
  fi (a0 = (Int32.ofInt 0)) (
    some (25, M)) (
  fi (a0 = (Int32.ofInt 1)) (
    some (26, M)) (
  fi (a0 = (Int32.ofInt 2)) (
    some (27, M)) (
  fi (a0 = (Int32.ofInt 3)) (
    some (28, M)) (
  fi (a0 = (Int32.ofInt 4)) (
    some (29, M)) (
  fi (a0 = (Int32.ofInt 5)) (
    some (30, M)) (
  fi (a0 = (Int32.ofInt 6)) (
    some (31, M)) (
  some (32, M))))))))
noncomputable def FX49_product_0 (a0 : Int32) (M : FM) : Option (Nat × FM) := BX49_product_0 a0 M
noncomputable def FX49_product (a0 : Int32) (M : FM) : Option (Nat × FM) := FX49_product_0 a0 M
/-! BoardMachine$Integers$Decoder.byField(II)LBoardMachine$Integers$Sum; -/
noncomputable def BX49_byField_53 (s0 : Nat) (M : FM) : Option (Nat × FM) :=
  some (s0, M)
noncomputable def FX49_byField_53 (s0 : Nat) (M : FM) : Option (Nat × FM) := BX49_byField_53 s0 M
noncomputable def BX49_byField_52 (g53 : Nat → FM → Option (Nat × FM)) (M : FM) : Option (Nat × FM) :=
  g53 0 M
noncomputable def FX49_byField_52 (M : FM) : Option (Nat × FM) := BX49_byField_52 FX49_byField_53 M
noncomputable def BX49_byField_35 (g52 : FM → Option (Nat × FM)) (g53 : Nat → FM → Option (Nat × FM)) (a0 : Int32) (a1 : Int32) (M : FM) : Option (Nat × FM) :=
  fi (a1 = (Int32.ofInt 32)) (
    fi (a0 = (Int32.ofInt 5)) (
      g53 22 M) (
      g52 M)) (
    g52 M)
noncomputable def FX49_byField_35 (a0 : Int32) (a1 : Int32) (M : FM) : Option (Nat × FM) := BX49_byField_35 FX49_byField_52 FX49_byField_53 a0 a1 M
noncomputable def BX49_byField_0 (f0 : Int32 → FM → Option (Nat × FM)) (f1 : Int32 → FM → Option (Nat × FM)) (g35 : Int32 → Int32 → FM → Option (Nat × FM)) (g53 : Nat → FM → Option (Nat × FM)) (a0 : Int32) (a1 : Int32) (M : FM) : Option (Nat × FM) :=
  fi (a1 = 0) (
    (f0 a0 M).bind fun r1 =>
    some (r1.1, r1.2)) (
    fi (a1 = (Int32.ofInt 1)) (
      (f1 a0 M).bind fun r2 =>
      some (r2.1, r2.2)) (
      fi (a1 = (Int32.ofInt 32)) (
        fi (a0 = 0) (
          g53 16 M) (
          g35 a0 a1 M)) (
        g35 a0 a1 M)))
noncomputable def FX49_byField_0 (a0 : Int32) (a1 : Int32) (M : FM) : Option (Nat × FM) := BX49_byField_0 FX49_plain FX49_product FX49_byField_35 FX49_byField_53 a0 a1 M
noncomputable def FX49_byField (a0 : Int32) (a1 : Int32) (M : FM) : Option (Nat × FM) := FX49_byField_0 a0 a1 M
/-! BoardMachine$Integers$Decoder.immediate(LBoardMachine$Integers$Decoded;IZ)LBoardMachine$Integers$Action; -/
noncomputable def BX49_immediate_156 (f3 : Nat → Nat → Nat → Int32 → Int32 → Int64 → FM → Option (Nat × FM)) (s0 : Nat) (s1 : Nat) (s2 : Nat) (s3 : Int32) (s4 : Int32) (s5 : Int64) (M : FM) : Option (Nat × FM) :=
  fi (fm_is M 62 62 s0 = true) (
  (f3 s0 s1 s2 s3 s4 s5 M).bind fun r1 =>
  some (r1.1, r1.2)) none
noncomputable def FX49_immediate_156 (s0 : Nat) (s1 : Nat) (s2 : Nat) (s3 : Int32) (s4 : Int32) (s5 : Int64) (M : FM) : Option (Nat × FM) := BX49_immediate_156 FX49_compute s0 s1 s2 s3 s4 s5 M
noncomputable def BX49_immediate_127 (f1 : Int32 → Int32 → Int32 → FM → Option (Int32 × FM)) (g156 : Nat → Nat → Nat → Int32 → Int32 → Int64 → FM → Option (Nat × FM)) (a3 : Int32) (a4 : Int32) (s0 : Nat) (s1 : Nat) (s2 : Nat) (M : FM) : Option (Nat × FM) :=
  fi (a3 = 0) (
    (f1 a4 (Int32.ofInt 25) (Int32.ofInt 20) M).bind fun r1 =>
    g156 s0 s1 s2 (Int32.ofInt 0) a3 r1.1.toInt64 r1.2) (
    (f1 a4 (Int32.ofInt 24) (Int32.ofInt 20) M).bind fun r2 =>
    g156 s0 s1 s2 (Int32.ofInt 0) a3 r2.1.toInt64 r2.2)
noncomputable def FX49_immediate_127 (a3 : Int32) (a4 : Int32) (s0 : Nat) (s1 : Nat) (s2 : Nat) (M : FM) : Option (Nat × FM) := BX49_immediate_127 FX105_bits FX49_immediate_156 a3 a4 s0 s1 s2 M
noncomputable def BX49_immediate_108 (f4 : Int32 → Int32 → FM → Option (Nat × FM)) (g127 : Int32 → Int32 → Nat → Nat → Nat → FM → Option (Nat × FM)) (a0 : Nat) (a1 : Nat) (a2 : Int32) (a3 : Int32) (a4 : Int32) (a6 : Int32) (s0 : Int32) (M : FM) : Option (Nat × FM) :=
  fi (s0 = 0) (
    g127 a3 a4 a0 a1 0 M) (
    (f4 a2 a6 M).bind fun r1 =>
    g127 a3 a4 a0 a1 r1.1 r1.2)
noncomputable def FX49_immediate_108 (a0 : Nat) (a1 : Nat) (a2 : Int32) (a3 : Int32) (a4 : Int32) (a6 : Int32) (s0 : Int32) (M : FM) : Option (Nat × FM) := BX49_immediate_108 FX49_byField FX49_immediate_127 a0 a1 a2 a3 a4 a6 s0 M
noncomputable def BX49_immediate_107 (g108 : Nat → Nat → Int32 → Int32 → Int32 → Int32 → Int32 → FM → Option (Nat × FM)) (a0 : Nat) (a1 : Nat) (a2 : Int32) (a3 : Int32) (a4 : Int32) (a6 : Int32) (M : FM) : Option (Nat × FM) :=
  g108 a0 a1 a2 a3 a4 a6 (Int32.ofInt 0) M
noncomputable def FX49_immediate_107 (a0 : Nat) (a1 : Nat) (a2 : Int32) (a3 : Int32) (a4 : Int32) (a6 : Int32) (M : FM) : Option (Nat × FM) := BX49_immediate_107 FX49_immediate_108 a0 a1 a2 a3 a4 a6 M
noncomputable def BX49_immediate_103 (g108 : Nat → Nat → Int32 → Int32 → Int32 → Int32 → Int32 → FM → Option (Nat × FM)) (a0 : Nat) (a1 : Nat) (a2 : Int32) (a3 : Int32) (a4 : Int32) (a6 : Int32) (M : FM) : Option (Nat × FM) :=
  g108 a0 a1 a2 a3 a4 a6 (Int32.ofInt 1) M
noncomputable def FX49_immediate_103 (a0 : Nat) (a1 : Nat) (a2 : Int32) (a3 : Int32) (a4 : Int32) (a6 : Int32) (M : FM) : Option (Nat × FM) := BX49_immediate_103 FX49_immediate_108 a0 a1 a2 a3 a4 a6 M
noncomputable def BX49_immediate_84 (g103 : Nat → Nat → Int32 → Int32 → Int32 → Int32 → FM → Option (Nat × FM)) (g107 : Nat → Nat → Int32 → Int32 → Int32 → Int32 → FM → Option (Nat × FM)) (a0 : Nat) (a1 : Nat) (a2 : Int32) (a3 : Int32) (a4 : Int32) (s0 : Int32) (M : FM) : Option (Nat × FM) :=
  fi (s0 = 0) (
    g103 a0 a1 a2 a3 a4 s0 M) (
    fi (s0 = (Int32.ofInt 32)) (
      fi (a2 = (Int32.ofInt 5)) (
        g103 a0 a1 a2 a3 a4 s0 M) (
        g107 a0 a1 a2 a3 a4 s0 M)) (
      g107 a0 a1 a2 a3 a4 s0 M))
noncomputable def FX49_immediate_84 (a0 : Nat) (a1 : Nat) (a2 : Int32) (a3 : Int32) (a4 : Int32) (s0 : Int32) (M : FM) : Option (Nat × FM) := BX49_immediate_84 FX49_immediate_103 FX49_immediate_107 a0 a1 a2 a3 a4 s0 M
noncomputable def BX49_immediate_46 (f2 : Int32 → FM → Option (Int64 × FM)) (f3 : Nat → Nat → Nat → Int32 → Int32 → Int64 → FM → Option (Nat × FM)) (a3 : Int32) (a4 : Int32) (s0 : Nat) (s1 : Nat) (s2 : Nat) (M : FM) : Option (Nat × FM) :=
  (f2 a4 M).bind fun r1 =>
  fi (fm_is r1.2 62 62 s0 = true) (
  (f3 s0 s1 s2 (Int32.ofInt 0) a3 r1.1 r1.2).bind fun r2 =>
  some (r2.1, r2.2)) none
noncomputable def FX49_immediate_46 (a3 : Int32) (a4 : Int32) (s0 : Nat) (s1 : Nat) (s2 : Nat) (M : FM) : Option (Nat × FM) := BX49_immediate_46 FX105_immediateI FX49_compute a3 a4 s0 s1 s2 M
noncomputable def BX49_immediate_42 (f0 : Int32 → FM → Option (Nat × FM)) (g46 : Int32 → Int32 → Nat → Nat → Nat → FM → Option (Nat × FM)) (a2 : Int32) (a3 : Int32) (a4 : Int32) (s0 : Nat) (s1 : Nat) (M : FM) : Option (Nat × FM) :=
  (f0 a2 M).bind fun r1 =>
  g46 a3 a4 s0 s1 r1.1 r1.2
noncomputable def FX49_immediate_42 (a2 : Int32) (a3 : Int32) (a4 : Int32) (s0 : Nat) (s1 : Nat) (M : FM) : Option (Nat × FM) := BX49_immediate_42 FX49_plain FX49_immediate_46 a2 a3 a4 s0 s1 M
noncomputable def BX49_immediate_21 (f1 : Int32 → Int32 → Int32 → FM → Option (Int32 × FM)) (g42 : Int32 → Int32 → Int32 → Nat → Nat → FM → Option (Nat × FM)) (g46 : Int32 → Int32 → Nat → Nat → Nat → FM → Option (Nat × FM)) (g84 : Nat → Nat → Int32 → Int32 → Int32 → Int32 → FM → Option (Nat × FM)) (a0 : Nat) (a1 : Nat) (a2 : Int32) (a3 : Int32) (a4 : Int32) (s0 : Int32) (M : FM) : Option (Nat × FM) :=
  fi (s0 = 0) (
    fi (a3 = 0) (
      g42 a2 a3 a4 a0 a1 M) (
      fi (a2 ≤ 0) (
        g42 a2 a3 a4 a0 a1 M) (
        g46 a3 a4 a0 a1 0 M))) (
    fi (a3 = 0) (
      (f1 a4 (Int32.ofInt 31) (Int32.ofInt 26) M).bind fun r1 =>
      g84 a0 a1 a2 a3 a4 (r1.1 <<< ((Int32.ofInt 1) &&& 31)) r1.2) (
      (f1 a4 (Int32.ofInt 31) (Int32.ofInt 25) M).bind fun r2 =>
      g84 a0 a1 a2 a3 a4 r2.1 r2.2))
noncomputable def FX49_immediate_21 (a0 : Nat) (a1 : Nat) (a2 : Int32) (a3 : Int32) (a4 : Int32) (s0 : Int32) (M : FM) : Option (Nat × FM) := BX49_immediate_21 FX105_bits FX49_immediate_42 FX49_immediate_46 FX49_immediate_84 a0 a1 a2 a3 a4 s0 M
noncomputable def BX49_immediate_16 (g21 : Nat → Nat → Int32 → Int32 → Int32 → Int32 → FM → Option (Nat × FM)) (a0 : Nat) (a1 : Nat) (a2 : Int32) (a3 : Int32) (a4 : Int32) (M : FM) : Option (Nat × FM) :=
  g21 a0 a1 a2 a3 a4 (Int32.ofInt 1) M
noncomputable def FX49_immediate_16 (a0 : Nat) (a1 : Nat) (a2 : Int32) (a3 : Int32) (a4 : Int32) (M : FM) : Option (Nat × FM) := BX49_immediate_16 FX49_immediate_21 a0 a1 a2 a3 a4 M
noncomputable def BX49_immediate_0 (g16 : Nat → Nat → Int32 → Int32 → Int32 → FM → Option (Nat × FM)) (g21 : Nat → Nat → Int32 → Int32 → Int32 → Int32 → FM → Option (Nat × FM)) (a0 : Nat) (a1 : Nat) (a2 : Int32) (a3 : Int32) (M : FM) : Option (Nat × FM) :=
  fi (fm_is M 61 61 a1 = true) (
  let x1 : Int32 := (M.1 150 a1 0)
  fi (a2 = (Int32.ofInt 1)) (
    g16 a0 a1 a2 a3 x1 M) (
    fi (a2 = (Int32.ofInt 5)) (
      g16 a0 a1 a2 a3 x1 M) (
      g21 a0 a1 a2 a3 x1 (Int32.ofInt 0) M))) none
noncomputable def FX49_immediate_0 (a0 : Nat) (a1 : Nat) (a2 : Int32) (a3 : Int32) (M : FM) : Option (Nat × FM) := BX49_immediate_0 FX49_immediate_16 FX49_immediate_21 a0 a1 a2 a3 M
noncomputable def FX49_immediate (a0 : Nat) (a1 : Nat) (a2 : Int32) (a3 : Int32) (M : FM) : Option (Nat × FM) := FX49_immediate_0 a0 a1 a2 a3 M
/-! BoardMachine$Integers$Decoder.registers(LBoardMachine$Integers$Decoded;IZ)LBoardMachine$Integers$Action; -/
noncomputable def BX49_registers_75 (f2 : Nat → Nat → Nat → Int32 → Int32 → Int64 → FM → Option (Nat × FM)) (a3 : Int32) (s0 : Nat) (s1 : Nat) (s2 : Nat) (M : FM) : Option (Nat × FM) :=
  fi (fm_is M 62 62 s0 = true) (
  (f2 s0 s1 s2 (Int32.ofInt 1) a3 (Int64.ofInt 0) M).bind fun r1 =>
  some (r1.1, r1.2)) none
noncomputable def FX49_registers_75 (a3 : Int32) (s0 : Nat) (s1 : Nat) (s2 : Nat) (M : FM) : Option (Nat × FM) := BX49_registers_75 FX49_compute a3 s0 s1 s2 M
noncomputable def BX49_registers_56 (f1 : Int32 → Int32 → FM → Option (Nat × FM)) (g75 : Int32 → Nat → Nat → Nat → FM → Option (Nat × FM)) (a0 : Nat) (a1 : Nat) (a2 : Int32) (a3 : Int32) (a4 : Int32) (s0 : Int32) (M : FM) : Option (Nat × FM) :=
  fi (s0 = 0) (
    (f1 a2 a4 M).bind fun r1 =>
    g75 a3 a0 a1 r1.1 r1.2) (
    g75 a3 a0 a1 0 M)
noncomputable def FX49_registers_56 (a0 : Nat) (a1 : Nat) (a2 : Int32) (a3 : Int32) (a4 : Int32) (s0 : Int32) (M : FM) : Option (Nat × FM) := BX49_registers_56 FX49_byField FX49_registers_75 a0 a1 a2 a3 a4 s0 M
noncomputable def BX49_registers_55 (g56 : Nat → Nat → Int32 → Int32 → Int32 → Int32 → FM → Option (Nat × FM)) (a0 : Nat) (a1 : Nat) (a2 : Int32) (a3 : Int32) (a4 : Int32) (M : FM) : Option (Nat × FM) :=
  g56 a0 a1 a2 a3 a4 (Int32.ofInt 0) M
noncomputable def FX49_registers_55 (a0 : Nat) (a1 : Nat) (a2 : Int32) (a3 : Int32) (a4 : Int32) (M : FM) : Option (Nat × FM) := BX49_registers_55 FX49_registers_56 a0 a1 a2 a3 a4 M
noncomputable def BX49_registers_51 (g56 : Nat → Nat → Int32 → Int32 → Int32 → Int32 → FM → Option (Nat × FM)) (a0 : Nat) (a1 : Nat) (a2 : Int32) (a3 : Int32) (a4 : Int32) (M : FM) : Option (Nat × FM) :=
  g56 a0 a1 a2 a3 a4 (Int32.ofInt 1) M
noncomputable def FX49_registers_51 (a0 : Nat) (a1 : Nat) (a2 : Int32) (a3 : Int32) (a4 : Int32) (M : FM) : Option (Nat × FM) := BX49_registers_51 FX49_registers_56 a0 a1 a2 a3 a4 M
noncomputable def BX49_registers_36 (g51 : Nat → Nat → Int32 → Int32 → Int32 → FM → Option (Nat × FM)) (g55 : Nat → Nat → Int32 → Int32 → Int32 → FM → Option (Nat × FM)) (a0 : Nat) (a1 : Nat) (a2 : Int32) (a3 : Int32) (a4 : Int32) (M : FM) : Option (Nat × FM) :=
  fi (a4 = (Int32.ofInt 1)) (
    fi (a2 ≤ 0) (
      g55 a0 a1 a2 a3 a4 M) (
      fi ((Int32.ofInt 4) ≤ a2) (
        g55 a0 a1 a2 a3 a4 M) (
        g51 a0 a1 a2 a3 a4 M))) (
    g55 a0 a1 a2 a3 a4 M)
noncomputable def FX49_registers_36 (a0 : Nat) (a1 : Nat) (a2 : Int32) (a3 : Int32) (a4 : Int32) (M : FM) : Option (Nat × FM) := BX49_registers_36 FX49_registers_51 FX49_registers_55 a0 a1 a2 a3 a4 M
noncomputable def BX49_registers_0 (f0 : Int32 → Int32 → Int32 → FM → Option (Int32 × FM)) (g36 : Nat → Nat → Int32 → Int32 → Int32 → FM → Option (Nat × FM)) (g51 : Nat → Nat → Int32 → Int32 → Int32 → FM → Option (Nat × FM)) (g55 : Nat → Nat → Int32 → Int32 → Int32 → FM → Option (Nat × FM)) (a0 : Nat) (a1 : Nat) (a2 : Int32) (a3 : Int32) (M : FM) : Option (Nat × FM) :=
  fi (fm_is M 61 61 a1 = true) (
  (f0 (M.1 150 a1 0) (Int32.ofInt 31) (Int32.ofInt 25) M).bind fun r1 =>
  fi (a3 = 0) (
    g55 a0 a1 a2 a3 r1.1 r1.2) (
    fi (r1.1 = 0) (
      fi (a2 = 0) (
        g36 a0 a1 a2 a3 r1.1 r1.2) (
        fi (a2 = (Int32.ofInt 1)) (
          g36 a0 a1 a2 a3 r1.1 r1.2) (
          fi (a2 = (Int32.ofInt 5)) (
            g36 a0 a1 a2 a3 r1.1 r1.2) (
            g51 a0 a1 a2 a3 r1.1 r1.2)))) (
      g36 a0 a1 a2 a3 r1.1 r1.2))) none
noncomputable def FX49_registers_0 (a0 : Nat) (a1 : Nat) (a2 : Int32) (a3 : Int32) (M : FM) : Option (Nat × FM) := BX49_registers_0 FX105_bits FX49_registers_36 FX49_registers_51 FX49_registers_55 a0 a1 a2 a3 M
noncomputable def FX49_registers (a0 : Nat) (a1 : Nat) (a2 : Int32) (a3 : Int32) (M : FM) : Option (Nat × FM) := FX49_registers_0 a0 a1 a2 a3 M
/-! BoardMachine$Integers$Fields.immediateU(I)J -/
noncomputable def BX105_immediateU_0 (a0 : Int32) (M : FM) : Option (Int64 × FM) :=
  some ((a0 &&& (Int32.ofInt (-4096))).toInt64, M)
noncomputable def FX105_immediateU_0 (a0 : Int32) (M : FM) : Option (Int64 × FM) := BX105_immediateU_0 a0 M
noncomputable def FX105_immediateU (a0 : Int32) (M : FM) : Option (Int64 × FM) := FX105_immediateU_0 a0 M
/-! BoardMachine$Integers$Fields.immediateJ(I)J -/
noncomputable def BX105_immediateJ_0 (f0 : Int32 → Int32 → Int32 → FM → Option (Int32 × FM)) (a0 : Int32) (M : FM) : Option (Int64 × FM) :=
  (f0 a0 (Int32.ofInt 19) (Int32.ofInt 12) M).bind fun r1 =>
  (f0 a0 (Int32.ofInt 20) (Int32.ofInt 20) r1.2).bind fun r2 =>
  (f0 a0 (Int32.ofInt 30) (Int32.ofInt 21) r2.2).bind fun r3 =>
  some ((((((a0 >>> ((Int32.ofInt 31) &&& 31)) <<< ((Int32.ofInt 20) &&& 31)) ||| (r1.1 <<< ((Int32.ofInt 12) &&& 31))) ||| (r2.1 <<< ((Int32.ofInt 11) &&& 31))) ||| (r3.1 <<< ((Int32.ofInt 1) &&& 31))).toInt64, r3.2)
noncomputable def FX105_immediateJ_0 (a0 : Int32) (M : FM) : Option (Int64 × FM) := BX105_immediateJ_0 FX105_bits a0 M
noncomputable def FX105_immediateJ (a0 : Int32) (M : FM) : Option (Int64 × FM) := FX105_immediateJ_0 a0 M
/-! BoardMachine$Integers$Decoder.jump(LBoardMachine$Integers$Decoded;LBoardMachine$Integers$Action;J)LBoardMachine$Integers$Action; -/
noncomputable def BX49_jump_0 (a0 : Nat) (a1 : Nat) (a2 : Nat) (a3 : Int64) (M : FM) : Option (Nat × FM) :=
  fi (fm_is M 61 61 a1 = true) (
  let M1 : FM := fm_sL M 154 a1 0 a3
  some (a2, M1)) none
noncomputable def FX49_jump_0 (a0 : Nat) (a1 : Nat) (a2 : Nat) (a3 : Int64) (M : FM) : Option (Nat × FM) := BX49_jump_0 a0 a1 a2 a3 M
noncomputable def FX49_jump (a0 : Nat) (a1 : Nat) (a2 : Nat) (a3 : Int64) (M : FM) : Option (Nat × FM) := FX49_jump_0 a0 a1 a2 a3 M
/-! BoardMachine$Integers$Decoder.foreign(LBoardMachine$Integers$Decoded;ZIIZI)LBoardMachine$Integers$Action; -/
noncomputable def BX49_foreign_39 (s0 : Nat) (M : FM) : Option (Nat × FM) :=
  some (s0, M)
noncomputable def FX49_foreign_39 (s0 : Nat) (M : FM) : Option (Nat × FM) := BX49_foreign_39 s0 M
noncomputable def BX49_foreign_0 (g39 : Nat → FM → Option (Nat × FM)) (a0 : Nat) (a1 : Nat) (a2 : Int32) (a3 : Int32) (a4 : Int32) (a5 : Int32) (a6 : Int32) (M : FM) : Option (Nat × FM) :=
  fi (fm_is M 61 61 a1 = true) (
  let M1 : FM := fm_sI M 158 a1 0 a3
  fi (fm_is M1 61 61 a1 = true) (
  let M2 : FM := fm_sL M1 154 a1 0 a4.toInt64
  fi (fm_is M2 61 61 a1 = true) (
  fi (a5 = 0 ∨ a5 = 1) (
  let M3 : FM := fm_sI M2 156 a1 0 a5
  fi (fm_is M3 61 61 a1 = true) (
  let M4 : FM := fm_sI M3 160 a1 0 a6
  fi (a2 = 0) (
    fi (fm_is M4 62 62 a0 = true) (
    g39 (M4.2.2 161 a0 0) M4) none) (
    fi (fm_is M4 62 62 a0 = true) (
    g39 (M4.2.2 170 a0 0) M4) none)) none) none) none) none) none
noncomputable def FX49_foreign_0 (a0 : Nat) (a1 : Nat) (a2 : Int32) (a3 : Int32) (a4 : Int32) (a5 : Int32) (a6 : Int32) (M : FM) : Option (Nat × FM) := BX49_foreign_0 FX49_foreign_39 a0 a1 a2 a3 a4 a5 a6 M
noncomputable def FX49_foreign (a0 : Nat) (a1 : Nat) (a2 : Int32) (a3 : Int32) (a4 : Int32) (a5 : Int32) (a6 : Int32) (M : FM) : Option (Nat × FM) := FX49_foreign_0 a0 a1 a2 a3 a4 a5 a6 M
/-! BoardMachine$Integers$Fields.immediateS(I)J -/
noncomputable def BX105_immediateS_0 (f0 : Int32 → Int32 → Int32 → FM → Option (Int32 × FM)) (a0 : Int32) (M : FM) : Option (Int64 × FM) :=
  (f0 a0 (Int32.ofInt 11) (Int32.ofInt 7) M).bind fun r1 =>
  some ((((a0 >>> ((Int32.ofInt 25) &&& 31)) <<< ((Int32.ofInt 5) &&& 31)) ||| r1.1).toInt64, r1.2)
noncomputable def FX105_immediateS_0 (a0 : Int32) (M : FM) : Option (Int64 × FM) := BX105_immediateS_0 FX105_bits a0 M
noncomputable def FX105_immediateS (a0 : Int32) (M : FM) : Option (Int64 × FM) := FX105_immediateS_0 a0 M
/-! BoardMachine$Integers$Decoder.store(LBoardMachine$Integers$Decoded;ZIII)LBoardMachine$Integers$Action; -/
noncomputable def BX49_store_0 (f0 : Int32 → FM → Option (Int64 × FM)) (f1 : Nat → Nat → Int32 → Int32 → Int64 → Int32 → Int32 → FM → Option (Nat × FM)) (a0 : Nat) (a1 : Nat) (a2 : Int32) (a3 : Int32) (a4 : Int32) (a5 : Int32) (M : FM) : Option (Nat × FM) :=
  fi (fm_is M 61 61 a1 = true) (
  let M1 : FM := fm_sI M 151 a1 0 (Int32.ofInt 0)
  fi (fm_is M1 61 61 a1 = true) (
  (f0 (M1.1 150 a1 0) M1).bind fun r2 =>
  fi (fm_is r2.2 62 62 a0 = true) (
  (f1 a0 a1 a2 a3 r2.1 a4 a5 r2.2).bind fun r3 =>
  some (r3.1, r3.2)) none) none) none
noncomputable def FX49_store_0 (a0 : Nat) (a1 : Nat) (a2 : Int32) (a3 : Int32) (a4 : Int32) (a5 : Int32) (M : FM) : Option (Nat × FM) := BX49_store_0 FX105_immediateS FX49_access a0 a1 a2 a3 a4 a5 M
noncomputable def FX49_store (a0 : Nat) (a1 : Nat) (a2 : Int32) (a3 : Int32) (a4 : Int32) (a5 : Int32) (M : FM) : Option (Nat × FM) := FX49_store_0 a0 a1 a2 a3 a4 a5 M
/-! BoardMachine$Integers$Decoder.find(LBoardMachine$Integers$Decoded;II)LBoardMachine$Integers$Action; -/
noncomputable def BX49_find_465 (f8 : Nat → Nat → Int32 → Int32 → Int32 → Int32 → Int32 → FM → Option (Nat × FM)) (a3 : Int32) (s0 : Nat) (s1 : Nat) (s2 : Int32) (s3 : Int32) (s4 : Int32) (s5 : Int32) (M : FM) : Option (Nat × FM) :=
  fi (fm_is M 62 62 s0 = true) (
  (f8 s0 s1 s2 s3 s4 s5 a3 M).bind fun r1 =>
  some (r1.1, r1.2)) none
noncomputable def FX49_find_465 (a3 : Int32) (s0 : Nat) (s1 : Nat) (s2 : Int32) (s3 : Int32) (s4 : Int32) (s5 : Int32) (M : FM) : Option (Nat × FM) := BX49_find_465 FX49_foreign a3 s0 s1 s2 s3 s4 s5 M
noncomputable def BX49_find_444 (f11 : Int32 → Int32 → Int32 → FM → Option (Int32 × FM)) (g465 : Int32 → Nat → Nat → Int32 → Int32 → Int32 → Int32 → FM → Option (Nat × FM)) (a3 : Int32) (a5 : Int32) (s0 : Nat) (s1 : Nat) (s2 : Int32) (M : FM) : Option (Nat × FM) :=
  (f11 a5 (Int32.ofInt 31) (Int32.ofInt 20) M).bind fun r1 =>
  fi ((Int32.ofInt 4) ≤ a3) (
    g465 a3 s0 s1 s2 (Int32.ofInt 6) r1.1 (Int32.ofInt 0) r1.2) (
    g465 a3 s0 s1 s2 (Int32.ofInt 6) r1.1 (Int32.ofInt 1) r1.2)
noncomputable def FX49_find_444 (a3 : Int32) (a5 : Int32) (s0 : Nat) (s1 : Nat) (s2 : Int32) (M : FM) : Option (Nat × FM) := BX49_find_444 FX105_bits FX49_find_465 a3 a5 s0 s1 s2 M
noncomputable def BX49_find_421 (f8 : Nat → Nat → Int32 → Int32 → Int32 → Int32 → Int32 → FM → Option (Nat × FM)) (a0 : Nat) (a1 : Nat) (a2 : Int32) (M : FM) : Option (Nat × FM) :=
  fi (fm_is M 62 62 a0 = true) (
  (f8 a0 a1 (Int32.ofInt 1) (Int32.ofInt 5) (Int32.ofInt 0) (Int32.ofInt 1) a2 M).bind fun r1 =>
  some (r1.1, r1.2)) none
noncomputable def FX49_find_421 (a0 : Nat) (a1 : Nat) (a2 : Int32) (M : FM) : Option (Nat × FM) := BX49_find_421 FX49_foreign a0 a1 a2 M
noncomputable def BX49_find_374 (f9 : Nat → Nat → Int32 → Int32 → Int32 → Int32 → FM → Option (Nat × FM)) (a3 : Int32) (s0 : Nat) (s1 : Nat) (s2 : Int32) (M : FM) : Option (Nat × FM) :=
  fi (fm_is M 62 62 s0 = true) (
  (f9 s0 s1 s2 (Int32.ofInt 3) ((Int32.ofInt 1) <<< (a3 &&& 31)) (Int32.ofInt 0) M).bind fun r1 =>
  some (r1.1, r1.2)) none
noncomputable def FX49_find_374 (a3 : Int32) (s0 : Nat) (s1 : Nat) (s2 : Int32) (M : FM) : Option (Nat × FM) := BX49_find_374 FX49_store a3 s0 s1 s2 M
noncomputable def BX49_find_344 (f4 : Int32 → FM → Option (Int64 × FM)) (f10 : Nat → Nat → Int32 → Int32 → Int64 → Int32 → Int32 → FM → Option (Nat × FM)) (a3 : Int32) (a5 : Int32) (s0 : Nat) (s1 : Nat) (s2 : Int32) (M : FM) : Option (Nat × FM) :=
  (f4 a5 M).bind fun r1 =>
  fi (fm_is r1.2 62 62 s0 = true) (
  (f10 s0 s1 s2 (Int32.ofInt 2) r1.1 ((Int32.ofInt 1) <<< ((a3 &&& (Int32.ofInt 3)) &&& 31)) (a3 >>> ((Int32.ofInt 2) &&& 31)) r1.2).bind fun r2 =>
  some (r2.1, r2.2)) none
noncomputable def FX49_find_344 (a3 : Int32) (a5 : Int32) (s0 : Nat) (s1 : Nat) (s2 : Int32) (M : FM) : Option (Nat × FM) := BX49_find_344 FX105_immediateI FX49_access a3 a5 s0 s1 s2 M
noncomputable def BX49_find_330 (s0 : Nat) (M : FM) : Option (Nat × FM) :=
  some (s0, M)
noncomputable def FX49_find_330 (s0 : Nat) (M : FM) : Option (Nat × FM) := BX49_find_330 s0 M
noncomputable def BX49_find_266 (f4 : Int32 → FM → Option (Int64 × FM)) (f7 : Nat → Nat → Nat → Int64 → FM → Option (Nat × FM)) (a5 : Int32) (s0 : Nat) (s1 : Nat) (s2 : Nat) (M : FM) : Option (Nat × FM) :=
  (f4 a5 M).bind fun r1 =>
  fi (fm_is r1.2 62 62 s0 = true) (
  (f7 s0 s1 s2 r1.1 r1.2).bind fun r2 =>
  some (r2.1, r2.2)) none
noncomputable def FX49_find_266 (a5 : Int32) (s0 : Nat) (s1 : Nat) (s2 : Nat) (M : FM) : Option (Nat × FM) := BX49_find_266 FX105_immediateI FX49_jump a5 s0 s1 s2 M
noncomputable def BX49_find_15 (f0 : Nat → Nat → Int32 → FM → Option (Nat × FM)) (f1 : Nat → Nat → Int32 → FM → Option (Nat × FM)) (f2 : Nat → Nat → Int32 → Int32 → FM → Option (Nat × FM)) (f3 : Nat → Nat → Int32 → Int32 → FM → Option (Nat × FM)) (f4 : Int32 → FM → Option (Int64 × FM)) (f5 : Int32 → FM → Option (Int64 × FM)) (f6 : Int32 → FM → Option (Int64 × FM)) (f7 : Nat → Nat → Nat → Int64 → FM → Option (Nat × FM)) (f9 : Nat → Nat → Int32 → Int32 → Int32 → Int32 → FM → Option (Nat × FM)) (f10 : Nat → Nat → Int32 → Int32 → Int64 → Int32 → Int32 → FM → Option (Nat × FM)) (g266 : Int32 → Nat → Nat → Nat → FM → Option (Nat × FM)) (g330 : Nat → FM → Option (Nat × FM)) (g344 : Int32 → Int32 → Nat → Nat → Int32 → FM → Option (Nat × FM)) (g374 : Int32 → Nat → Nat → Int32 → FM → Option (Nat × FM)) (g421 : Nat → Nat → Int32 → FM → Option (Nat × FM)) (g444 : Int32 → Int32 → Nat → Nat → Int32 → FM → Option (Nat × FM)) (a0 : Nat) (a1 : Nat) (a2 : Int32) (a3 : Int32) (s0 : Int32) (M : FM) : Option (Nat × FM) :=
  fi (fm_is M 61 61 a1 = true) (
  let x1 : Int32 := (M.1 150 a1 0)
  fi (a2 = (Int32.ofInt 3)) (
    fi ((Int32.ofInt 7) ≤ a3) (
      g344 a3 x1 a0 a1 (Int32.ofInt 0) M) (
      g344 a3 x1 a0 a1 (Int32.ofInt 1) M)) (
  fi (a2 = (Int32.ofInt 7)) (
    (f4 x1 M).bind fun r2 =>
    fi (fm_is r2.2 62 62 a0 = true) (
    (f10 a0 a1 s0 (Int32.ofInt 5) r2.1 ((Int32.ofInt 1) <<< (a3 &&& 31)) a2 r2.2).bind fun r3 =>
    some (r3.1, r3.2)) none) (
  fi (a2 = (Int32.ofInt 15)) (
    fi ((Int32.ofInt 2) ≤ a3) (
      fi (fm_is M 62 62 a0 = true) (
      g330 (M.2.2 161 a0 0) M) none) (
      fi (fm_is M 62 62 a0 = true) (
      g330 (M.2.2 162 a0 0) M) none)) (
  fi (a2 = (Int32.ofInt 19)) (
    fi (fm_is M 62 62 a0 = true) (
    (f2 a0 a1 a3 (Int32.ofInt 0) M).bind fun r4 =>
    some (r4.1, r4.2)) none) (
  fi (a2 = (Int32.ofInt 23)) (
    fi (fm_is M 62 62 a0 = true) (
    (f5 x1 M).bind fun r5 =>
    fi (fm_is r5.2 62 62 a0 = true) (
    (f7 a0 a1 (M.2.2 164 a0 0) r5.1 r5.2).bind fun r6 =>
    some (r6.1, r6.2)) none) none) (
  fi (a2 = (Int32.ofInt 27)) (
    fi (fm_is M 62 62 a0 = true) (
    (f2 a0 a1 a3 (Int32.ofInt 1) M).bind fun r7 =>
    some (r7.1, r7.2)) none) (
  fi (a2 = (Int32.ofInt 35)) (
    fi ((Int32.ofInt 4) ≤ a3) (
      g374 a3 a0 a1 (Int32.ofInt 0) M) (
      g374 a3 a0 a1 (Int32.ofInt 1) M)) (
  fi (a2 = (Int32.ofInt 39)) (
    fi (fm_is M 62 62 a0 = true) (
    (f9 a0 a1 s0 (Int32.ofInt 5) ((Int32.ofInt 1) <<< (a3 &&& 31)) a2 M).bind fun r8 =>
    some (r8.1, r8.2)) none) (
  fi (a2 = (Int32.ofInt 47)) (
    fi (fm_is M 62 62 a0 = true) (
    (f0 a0 a1 a3 M).bind fun r9 =>
    some (r9.1, r9.2)) none) (
  fi (a2 = (Int32.ofInt 51)) (
    fi (fm_is M 62 62 a0 = true) (
    (f3 a0 a1 a3 (Int32.ofInt 0) M).bind fun r10 =>
    some (r10.1, r10.2)) none) (
  fi (a2 = (Int32.ofInt 55)) (
    fi (fm_is M 62 62 a0 = true) (
    (f5 x1 M).bind fun r11 =>
    fi (fm_is r11.2 62 62 a0 = true) (
    (f7 a0 a1 (M.2.2 163 a0 0) r11.1 r11.2).bind fun r12 =>
    some (r12.1, r12.2)) none) none) (
  fi (a2 = (Int32.ofInt 59)) (
    fi (fm_is M 62 62 a0 = true) (
    (f3 a0 a1 a3 (Int32.ofInt 1) M).bind fun r13 =>
    some (r13.1, r13.2)) none) (
  fi (a2 = (Int32.ofInt 67)) (
    g421 a0 a1 a2 M) (
  fi (a2 = (Int32.ofInt 71)) (
    g421 a0 a1 a2 M) (
  fi (a2 = (Int32.ofInt 75)) (
    g421 a0 a1 a2 M) (
  fi (a2 = (Int32.ofInt 79)) (
    g421 a0 a1 a2 M) (
  fi (a2 = (Int32.ofInt 83)) (
    g421 a0 a1 a2 M) (
  fi (a2 = (Int32.ofInt 99)) (
    fi (fm_is M 62 62 a0 = true) (
    (f1 a0 a1 a3 M).bind fun r14 =>
    some (r14.1, r14.2)) none) (
  fi (a2 = (Int32.ofInt 103)) (
    fi (a3 = 0) (
      fi (fm_is M 62 62 a0 = true) (
      g266 x1 a0 a1 (M.2.2 166 a0 0) M) none) (
      fi (fm_is M 62 62 a0 = true) (
      g266 x1 a0 a1 (M.2.2 161 a0 0) M) none)) (
  fi (a2 = (Int32.ofInt 111)) (
    fi (fm_is M 62 62 a0 = true) (
    (f6 x1 M).bind fun r15 =>
    fi (fm_is r15.2 62 62 a0 = true) (
    (f7 a0 a1 (M.2.2 165 a0 0) r15.1 r15.2).bind fun r16 =>
    some (r16.1, r16.2)) none) none) (
  fi (a2 = (Int32.ofInt 115)) (
    fi (a3 = (Int32.ofInt 4)) (
      g444 a3 x1 a0 a1 (Int32.ofInt 0) M) (
      g444 a3 x1 a0 a1 (Int32.ofInt 1) M)) (
  fi (fm_is M 62 62 a0 = true) (
    some ((M.2.2 161 a0 0), M)) none)))))))))))))))))))))) none
noncomputable def FX49_find_15 (a0 : Nat) (a1 : Nat) (a2 : Int32) (a3 : Int32) (s0 : Int32) (M : FM) : Option (Nat × FM) := BX49_find_15 FX49_atomic FX49_branch FX49_immediate FX49_registers FX105_immediateI FX105_immediateU FX105_immediateJ FX49_jump FX49_store FX49_access FX49_find_266 FX49_find_330 FX49_find_344 FX49_find_374 FX49_find_421 FX49_find_444 a0 a1 a2 a3 s0 M
noncomputable def BX49_find_10 (g15 : Nat → Nat → Int32 → Int32 → Int32 → FM → Option (Nat × FM)) (a0 : Nat) (a1 : Nat) (a2 : Int32) (a3 : Int32) (M : FM) : Option (Nat × FM) :=
  g15 a0 a1 a2 a3 (Int32.ofInt 1) M
noncomputable def FX49_find_10 (a0 : Nat) (a1 : Nat) (a2 : Int32) (a3 : Int32) (M : FM) : Option (Nat × FM) := BX49_find_10 FX49_find_15 a0 a1 a2 a3 M
noncomputable def BX49_find_0 (g10 : Nat → Nat → Int32 → Int32 → FM → Option (Nat × FM)) (g15 : Nat → Nat → Int32 → Int32 → Int32 → FM → Option (Nat × FM)) (a0 : Nat) (a1 : Nat) (a2 : Int32) (a3 : Int32) (M : FM) : Option (Nat × FM) :=
  fi (a3 = (Int32.ofInt 2)) (
    g10 a0 a1 a2 a3 M) (
    fi (a3 = (Int32.ofInt 3)) (
      g10 a0 a1 a2 a3 M) (
      g15 a0 a1 a2 a3 (Int32.ofInt 0) M))
noncomputable def FX49_find_0 (a0 : Nat) (a1 : Nat) (a2 : Int32) (a3 : Int32) (M : FM) : Option (Nat × FM) := BX49_find_0 FX49_find_10 FX49_find_15 a0 a1 a2 a3 M
noncomputable def FX49_find (a0 : Nat) (a1 : Nat) (a2 : Int32) (a3 : Int32) (M : FM) : Option (Nat × FM) := FX49_find_0 a0 a1 a2 a3 M
/-! BoardMachine$Integers$Decoder.read(ILBoardMachine$Integers$Decoded;)V -/
noncomputable def BX49_read_0 (f0 : Int32 → Int32 → Int32 → FM → Option (Int32 × FM)) (f1 : Nat → Nat → Int32 → Int32 → FM → Option (Nat × FM)) (a0 : Nat) (a1 : Int32) (a2 : Nat) (M : FM) : Option (FM) :=
  fi (fm_is M 61 61 a2 = true) (
  let M1 : FM := fm_sI M 150 a2 0 a1
  (f0 a1 (Int32.ofInt 11) (Int32.ofInt 7) M1).bind fun r2 =>
  fi (fm_is r2.2 61 61 a2 = true) (
  let M3 : FM := fm_sI r2.2 151 a2 0 r2.1
  (f0 a1 (Int32.ofInt 19) (Int32.ofInt 15) M3).bind fun r4 =>
  fi (fm_is r4.2 61 61 a2 = true) (
  let M5 : FM := fm_sI r4.2 152 a2 0 r4.1
  (f0 a1 (Int32.ofInt 24) (Int32.ofInt 20) M5).bind fun r6 =>
  fi (fm_is r6.2 61 61 a2 = true) (
  let M7 : FM := fm_sI r6.2 153 a2 0 r6.1
  (f0 a1 (Int32.ofInt 6) (Int32.ofInt 0) M7).bind fun r8 =>
  (f0 a1 (Int32.ofInt 14) (Int32.ofInt 12) r8.2).bind fun r9 =>
  fi (fm_is r9.2 62 62 a0 = true) (
  (f1 a0 a2 r8.1 r9.1 r9.2).bind fun r10 =>
  fi (fm_is r10.2 61 61 a2 = true) (
  let M11 : FM := fm_sR r10.2 149 a2 0 r10.1
  some M11) none) none) none) none) none) none
noncomputable def FX49_read_0 (a0 : Nat) (a1 : Int32) (a2 : Nat) (M : FM) : Option (FM) := BX49_read_0 FX105_bits FX49_find a0 a1 a2 M
noncomputable def FX49_read (a0 : Nat) (a1 : Int32) (a2 : Nat) (M : FM) : Option (FM) := FX49_read_0 a0 a1 a2 M
/-! BoardMachine$Integers$IntegerUnit.find(I)LBoardMachine$Integers$Decoded; -/
noncomputable def BX47_find_86 (a0 : Nat) (a2 : Int32) (M : FM) : Option (Nat × FM) :=
  fi (fm_is M 63 63 a0 = true) (
  let x1 : Nat := (M.2.2 173 a0 0)
  fi (fm_is M 910 990 x1 = true ∧ fm_in M x1 a2 = true) (
  some ((M.2.2 3 x1 a2.toNatClampNeg), M)) none) none
noncomputable def FX47_find_86 (a0 : Nat) (a2 : Int32) (M : FM) : Option (Nat × FM) := BX47_find_86 a0 a2 M
noncomputable def BX47_find_0 (f0 : Nat → FM → Option (FM)) (f1 : Nat → Int32 → Nat → FM → Option (FM)) (g86 : Nat → Int32 → FM → Option (Nat × FM)) (a0 : Nat) (a1 : Int32) (M : FM) : Option (Nat × FM) :=
  let x1 : Int32 := ((((a1 ^^^ (a1.toUInt32 >>> ((Int32.ofInt 7).toUInt32 &&& Int32.toUInt32 31)).toInt32) ^^^ (a1.toUInt32 >>> ((Int32.ofInt 15).toUInt32 &&& Int32.toUInt32 31)).toInt32) ^^^ (a1.toUInt32 >>> ((Int32.ofInt 23).toUInt32 &&& Int32.toUInt32 31)).toInt32) &&& (Int32.ofInt 63))
  fi (fm_is M 63 63 a0 = true) (
  let x2 : Nat := (M.2.2 173 a0 0)
  fi (fm_is M 910 990 x2 = true ∧ fm_in M x2 x1 = true) (
  fi ((M.2.2 3 x2 x1.toNatClampNeg) = 0) (
    fi (fm_is M 63 63 a0 = true) (
    let x4 : Nat := fm_nx M
    let M3 : FM := fm_new M 61 12
    fi (fm_is M3 61 61 x4 = true) (
    (f0 x4 M3).bind fun M5 =>
    let x6 : Nat := (M.2.2 173 a0 0)
    fi (fm_is M5 917 917 x6 = true ∧ fm_in M5 x6 x1 = true) (
    fi (fm_is M5 61 61 x4 = true) (
    let M7 : FM := fm_sR M5 3 x6 x1.toNatClampNeg x4
    fi (fm_is M7 63 63 a0 = true) (
    fi (fm_is M7 63 63 a0 = true) (
    let x8 : Nat := (M7.2.2 173 a0 0)
    fi (fm_is M7 910 990 x8 = true ∧ fm_in M7 x8 x1 = true) (
    let x9 : Nat := (M7.2.2 172 a0 0)
    fi (fm_is M7 62 62 x9 = true) (
    (f1 x9 a1 (M7.2.2 3 x8 x1.toNatClampNeg) M7).bind fun M10 =>
    g86 a0 x1 M10) none) none) none) none) none) none) none) none) (
    fi (fm_is M 63 63 a0 = true) (
    let x11 : Nat := (M.2.2 173 a0 0)
    fi (fm_is M 910 990 x11 = true ∧ fm_in M x11 x1 = true) (
    let x12 : Nat := (M.2.2 3 x11 x1.toNatClampNeg)
    fi (fm_is M 61 61 x12 = true) (
    fi ((M.1 150 x12 0) = a1) (
      g86 a0 x1 M) (
      fi (fm_is M 63 63 a0 = true) (
      fi (fm_is M 63 63 a0 = true) (
      let x13 : Nat := (M.2.2 173 a0 0)
      fi (fm_is M 910 990 x13 = true ∧ fm_in M x13 x1 = true) (
      let x14 : Nat := (M.2.2 172 a0 0)
      fi (fm_is M 62 62 x14 = true) (
      (f1 x14 a1 (M.2.2 3 x13 x1.toNatClampNeg) M).bind fun M15 =>
      g86 a0 x1 M15) none) none) none) none)) none) none) none)) none) none
noncomputable def FX47_find_0 (a0 : Nat) (a1 : Int32) (M : FM) : Option (Nat × FM) := BX47_find_0 FX104_init FX49_read FX47_find_86 a0 a1 M
noncomputable def FX47_find (a0 : Nat) (a1 : Int32) (M : FM) : Option (Nat × FM) := FX47_find_0 a0 a1 M
/-! BoardMachine$Integers$Access.run(LBoardMachine$Integers$Registers;LBoardMachine$Integers$Decoded;I)I -/
noncomputable def BX57_run_0 (a0 : Nat) (a1 : Nat) (a2 : Nat) (a3 : Int32) (M : FM) : Option (Int32 × FM) :=
  fi (fm_is M 61 61 a2 = true) (
  some ((M.1 158 a2 0), M)) none
noncomputable def FX57_run_0 (a0 : Nat) (a1 : Nat) (a2 : Nat) (a3 : Int32) (M : FM) : Option (Int32 × FM) := BX57_run_0 a0 a1 a2 a3 M
noncomputable def FX57_run (a0 : Nat) (a1 : Nat) (a2 : Nat) (a3 : Int32) (M : FM) : Option (Int32 × FM) := FX57_run_0 a0 a1 a2 a3 M
/-! BoardMachine$Integers$Arithmetic.isBelow(JJ)Z -/
noncomputable def BX106_isBelow_19 (s0 : Int32) (M : FM) : Option (Int32 × FM) :=
  fi (s0 = 0 ∨ s0 = 1) (some (s0, M)) none
noncomputable def FX106_isBelow_19 (s0 : Int32) (M : FM) : Option (Int32 × FM) := BX106_isBelow_19 s0 M
noncomputable def BX106_isBelow_0 (g19 : Int32 → FM → Option (Int32 × FM)) (a0 : Int64) (a2 : Int64) (M : FM) : Option (Int32 × FM) :=
  fi (0 ≤ (lg_cmp (a0 ^^^ (Int64.ofInt (-9223372036854775808))) (a2 ^^^ (Int64.ofInt (-9223372036854775808))))) (
    g19 (Int32.ofInt 0) M) (
    g19 (Int32.ofInt 1) M)
noncomputable def FX106_isBelow_0 (a0 : Int64) (a2 : Int64) (M : FM) : Option (Int32 × FM) := BX106_isBelow_0 FX106_isBelow_19 a0 a2 M
noncomputable def FX106_isBelow (a0 : Int64) (a2 : Int64) (M : FM) : Option (Int32 × FM) := FX106_isBelow_0 a0 a2 M
/-! BoardMachine$Integers$Branch.run(LBoardMachine$Integers$Registers;LBoardMachine$Integers$Decoded;I)I -/
noncomputable def BX55_run_114 (s0 : Nat) (s1 : Int64) (s2 : Int64) (M : FM) : Option (Int32 × FM) :=
  fi (fm_is M 64 64 s0 = true) (
  let M1 : FM := fm_sL M 179 s0 0 (s1 + s2)
  some ((Int32.ofInt 0), M1)) none
noncomputable def FX55_run_114 (s0 : Nat) (s1 : Int64) (s2 : Int64) (M : FM) : Option (Int32 × FM) := BX55_run_114 s0 s1 s2 M
noncomputable def BX55_run_102 (g114 : Nat → Int64 → Int64 → FM → Option (Int32 × FM)) (a2 : Nat) (a3 : Int32) (s0 : Nat) (s1 : Int64) (s2 : Int32) (s3 : Int32) (M : FM) : Option (Int32 × FM) :=
  fi (s2 = s3) (
    g114 s0 s1 a3.toInt64 M) (
    fi (fm_is M 61 61 a2 = true) (
    g114 s0 s1 (M.2.1 154 a2 0) M) none)
noncomputable def FX55_run_102 (a2 : Nat) (a3 : Int32) (s0 : Nat) (s1 : Int64) (s2 : Int32) (s3 : Int32) (M : FM) : Option (Int32 × FM) := BX55_run_102 FX55_run_114 a2 a3 s0 s1 s2 s3 M
noncomputable def BX55_run_78 (g102 : Nat → Int32 → Nat → Int64 → Int32 → Int32 → FM → Option (Int32 × FM)) (a1 : Nat) (a2 : Nat) (a3 : Int32) (s0 : Int32) (M : FM) : Option (Int32 × FM) :=
  fi (fm_is M 64 64 a1 = true) (
  fi (fm_is M 61 61 a2 = true) (
  fi (((M.1 160 a2 0) &&& (Int32.ofInt 1)) = (Int32.ofInt 1)) (
    g102 a2 a3 a1 (M.2.1 179 a1 0) s0 (Int32.ofInt 1) M) (
    g102 a2 a3 a1 (M.2.1 179 a1 0) s0 (Int32.ofInt 0) M)) none) none
noncomputable def FX55_run_78 (a1 : Nat) (a2 : Nat) (a3 : Int32) (s0 : Int32) (M : FM) : Option (Int32 × FM) := BX55_run_78 FX55_run_102 a1 a2 a3 s0 M
noncomputable def BX55_run_0 (f0 : Int64 → Int64 → FM → Option (Int32 × FM)) (g78 : Nat → Nat → Int32 → Int32 → FM → Option (Int32 × FM)) (a0 : Nat) (a1 : Nat) (a2 : Nat) (a3 : Int32) (M : FM) : Option (Int32 × FM) :=
  fi (fm_is M 64 64 a1 = true) (
  fi (fm_is M 61 61 a2 = true) (
  let x1 : Int32 := (M.1 152 a2 0)
  let x2 : Nat := (M.2.2 178 a1 0)
  fi (fm_is M 902 902 x2 = true ∧ fm_in M x2 x1 = true) (
  let x3 : Int64 := (M.2.1 3 x2 x1.toNatClampNeg)
  fi (fm_is M 64 64 a1 = true) (
  fi (fm_is M 61 61 a2 = true) (
  let x4 : Int32 := (M.1 153 a2 0)
  let x5 : Nat := (M.2.2 178 a1 0)
  fi (fm_is M 902 902 x5 = true ∧ fm_in M x5 x4 = true) (
  let x6 : Int64 := (M.2.1 3 x5 x4.toNatClampNeg)
  fi (fm_is M 61 61 a2 = true) (
  fi ((Int32.ofInt 2) ≤ (M.1 160 a2 0)) (
    fi (fm_is M 61 61 a2 = true) (
    fi ((Int32.ofInt 6) ≤ (M.1 160 a2 0)) (
      (f0 x3 x6 M).bind fun r7 =>
      g78 a1 a2 a3 r7.1 r7.2) (
      fi (0 ≤ (lg_cmp x3 x6)) (
        g78 a1 a2 a3 (Int32.ofInt 0) M) (
        g78 a1 a2 a3 (Int32.ofInt 1) M))) none) (
    fi ((lg_cmp x3 x6) = 0) (
      g78 a1 a2 a3 (Int32.ofInt 1) M) (
      g78 a1 a2 a3 (Int32.ofInt 0) M))) none) none) none) none) none) none) none
noncomputable def FX55_run_0 (a0 : Nat) (a1 : Nat) (a2 : Nat) (a3 : Int32) (M : FM) : Option (Int32 × FM) := BX55_run_0 FX106_isBelow FX55_run_78 a0 a1 a2 a3 M
noncomputable def FX55_run (a0 : Nat) (a1 : Nat) (a2 : Nat) (a3 : Int32) (M : FM) : Option (Int32 × FM) := FX55_run_0 a0 a1 a2 a3 M
/-! BoardMachine$Integers$Arithmetic.upper(JJ)J -/
noncomputable def BX106_upper_0 (a0 : Int64) (a2 : Int64) (M : FM) : Option (Int64 × FM) :=
  let x1 : Int64 := (a0.toUInt64 >>> ((Int32.ofInt 32).toInt64.toUInt64 &&& Int64.toUInt64 63)).toInt64
  let x2 : Int64 := (a0 &&& (Int64.ofInt 4294967295))
  let x3 : Int64 := (a2.toUInt64 >>> ((Int32.ofInt 32).toInt64.toUInt64 &&& Int64.toUInt64 63)).toInt64
  let x4 : Int64 := (a2 &&& (Int64.ofInt 4294967295))
  let x5 : Int64 := (x2 * x4)
  let x6 : Int64 := ((x1 * x4) + (x5.toUInt64 >>> ((Int32.ofInt 32).toInt64.toUInt64 &&& Int64.toUInt64 63)).toInt64)
  let x7 : Int64 := ((x2 * x3) + (x6 &&& (Int64.ofInt 4294967295)))
  some ((((x1 * x3) + (x6.toUInt64 >>> ((Int32.ofInt 32).toInt64.toUInt64 &&& Int64.toUInt64 63)).toInt64) + (x7.toUInt64 >>> ((Int32.ofInt 32).toInt64.toUInt64 &&& Int64.toUInt64 63)).toInt64), M)
noncomputable def FX106_upper_0 (a0 : Int64) (a2 : Int64) (M : FM) : Option (Int64 × FM) := BX106_upper_0 a0 a2 M
noncomputable def FX106_upper (a0 : Int64) (a2 : Int64) (M : FM) : Option (Int64 × FM) := FX106_upper_0 a0 a2 M
/-! BoardMachine$Integers$Arithmetic.divided(JJ)J -/
noncomputable def BX106_divided_28 (s0 : Int64) (M : FM) : Option (Int64 × FM) :=
  some (s0, M)
noncomputable def FX106_divided_28 (s0 : Int64) (M : FM) : Option (Int64 × FM) := BX106_divided_28 s0 M
noncomputable def BX106_divided_0 (g28 : Int64 → FM → Option (Int64 × FM)) (a0 : Int64) (a2 : Int64) (M : FM) : Option (Int64 × FM) :=
  fi ((lg_cmp a2 (Int64.ofInt 0)) = 0) (
    g28 (Int64.ofInt (-1)) M) (
    fi ((lg_cmp a2 (Int64.ofInt (-1))) = 0) (
      g28 (-a0) M) (
      fi (a2 = 0) none (
      g28 (a0 / a2) M)))
noncomputable def FX106_divided_0 (a0 : Int64) (a2 : Int64) (M : FM) : Option (Int64 × FM) := BX106_divided_0 FX106_divided_28 a0 a2 M
noncomputable def FX106_divided (a0 : Int64) (a2 : Int64) (M : FM) : Option (Int64 × FM) := FX106_divided_0 a0 a2 M
/-! BoardMachine$Integers$Arithmetic.rest(JJ)J -/
noncomputable def BX106_rest_25 (s0 : Int64) (M : FM) : Option (Int64 × FM) :=
  some (s0, M)
noncomputable def FX106_rest_25 (s0 : Int64) (M : FM) : Option (Int64 × FM) := BX106_rest_25 s0 M
noncomputable def BX106_rest_0 (g25 : Int64 → FM → Option (Int64 × FM)) (a0 : Int64) (a2 : Int64) (M : FM) : Option (Int64 × FM) :=
  fi ((lg_cmp a2 (Int64.ofInt 0)) = 0) (
    g25 a0 M) (
    fi ((lg_cmp a2 (Int64.ofInt (-1))) = 0) (
      g25 (Int64.ofInt 0) M) (
      fi (a2 = 0) none (
      g25 (a0 - a0 / a2 * a2) M)))
noncomputable def FX106_rest_0 (a0 : Int64) (a2 : Int64) (M : FM) : Option (Int64 × FM) := BX106_rest_0 FX106_rest_25 a0 a2 M
noncomputable def FX106_rest (a0 : Int64) (a2 : Int64) (M : FM) : Option (Int64 × FM) := FX106_rest_0 a0 a2 M
/-! BoardMachine$Integers$Arithmetic.quotient(JJ)J -/
noncomputable def BX106_quotient_51 (s0 : Int64) (M : FM) : Option (Int64 × FM) :=
  some (s0, M)
noncomputable def FX106_quotient_51 (s0 : Int64) (M : FM) : Option (Int64 × FM) := BX106_quotient_51 s0 M
noncomputable def BX106_quotient_19 (s0 : Int64) (M : FM) : Option (Int64 × FM) :=
  some (s0, M)
noncomputable def FX106_quotient_19 (s0 : Int64) (M : FM) : Option (Int64 × FM) := BX106_quotient_19 s0 M
noncomputable def BX106_quotient_0 (f0 : Int64 → Int64 → FM → Option (Int32 × FM)) (g19 : Int64 → FM → Option (Int64 × FM)) (g51 : Int64 → FM → Option (Int64 × FM)) (a0 : Int64) (a2 : Int64) (M : FM) : Option (Int64 × FM) :=
  fi (0 ≤ (lg_cmp a2 (Int64.ofInt 0))) (
    fi (a2 = 0) none (
    let x1 : Int64 := (((a0.toUInt64 >>> ((Int32.ofInt 1).toInt64.toUInt64 &&& Int64.toUInt64 63)).toInt64 / a2) <<< ((Int32.ofInt 1).toInt64 &&& 63))
    (f0 (a0 - (x1 * a2)) a2 M).bind fun r2 =>
    fi (r2.1 = 0) (
      g51 (x1 + (Int64.ofInt 1)) r2.2) (
      g51 x1 r2.2))) (
    (f0 a0 a2 M).bind fun r3 =>
    fi (r3.1 = 0) (
      g19 (Int64.ofInt 1) r3.2) (
      g19 (Int64.ofInt 0) r3.2))
noncomputable def FX106_quotient_0 (a0 : Int64) (a2 : Int64) (M : FM) : Option (Int64 × FM) := BX106_quotient_0 FX106_isBelow FX106_quotient_19 FX106_quotient_51 a0 a2 M
noncomputable def FX106_quotient (a0 : Int64) (a2 : Int64) (M : FM) : Option (Int64 × FM) := FX106_quotient_0 a0 a2 M
/-! BoardMachine$Integers$Arithmetic.reckon(LBoardMachine$Integers$Sum;JJ)J -/
noncomputable def BX106_reckon_256 (s0 : Int64) (M : FM) : Option (Int64 × FM) :=
  some (s0, M)
noncomputable def FX106_reckon_256 (s0 : Int64) (M : FM) : Option (Int64 × FM) := BX106_reckon_256 s0 M
noncomputable def BX106_reckon_230 (s0 : Int64) (M : FM) : Option (Int64 × FM) :=
  some (s0, M)
noncomputable def FX106_reckon_230 (s0 : Int64) (M : FM) : Option (Int64 × FM) := BX106_reckon_230 s0 M
noncomputable def BX106_reckon_199 (s0 : Int64) (s1 : Int64) (M : FM) : Option (Int64 × FM) :=
  some ((s0 - s1), M)
noncomputable def FX106_reckon_199 (s0 : Int64) (s1 : Int64) (M : FM) : Option (Int64 × FM) := BX106_reckon_199 s0 s1 M
noncomputable def BX106_reckon_181 (s0 : Int64) (s1 : Int64) (M : FM) : Option (Int64 × FM) :=
  some ((s0 - s1), M)
noncomputable def FX106_reckon_181 (s0 : Int64) (s1 : Int64) (M : FM) : Option (Int64 × FM) := BX106_reckon_181 s0 s1 M
noncomputable def BX106_reckon_169 (g181 : Int64 → Int64 → FM → Option (Int64 × FM)) (a1 : Int64) (a3 : Int64) (s0 : Int64) (s1 : Int64) (M : FM) : Option (Int64 × FM) :=
  fi (0 ≤ (lg_cmp a3 (Int64.ofInt 0))) (
    g181 (s0 - s1) (Int64.ofInt 0) M) (
    g181 (s0 - s1) a1 M)
noncomputable def FX106_reckon_169 (a1 : Int64) (a3 : Int64) (s0 : Int64) (s1 : Int64) (M : FM) : Option (Int64 × FM) := BX106_reckon_169 FX106_reckon_181 a1 a3 s0 s1 M
noncomputable def BX106_reckon_126 (s0 : Int64) (M : FM) : Option (Int64 × FM) :=
  some (s0, M)
noncomputable def FX106_reckon_126 (s0 : Int64) (M : FM) : Option (Int64 × FM) := BX106_reckon_126 s0 M
noncomputable def BX106_reckon_112 (s0 : Int64) (M : FM) : Option (Int64 × FM) :=
  some (s0, M)
noncomputable def FX106_reckon_112 (s0 : Int64) (M : FM) : Option (Int64 × FM) := BX106_reckon_112 s0 M
noncomputable def BX106_reckon_0 (f0 : Nat → FM → Option (Int32 × FM)) (f1 : Int64 → Int64 → FM → Option (Int32 × FM)) (f2 : Int64 → Int64 → FM → Option (Int64 × FM)) (f3 : Int64 → Int64 → FM → Option (Int64 × FM)) (f4 : Int64 → Int64 → FM → Option (Int64 × FM)) (f5 : Int64 → Int64 → FM → Option (Int64 × FM)) (g112 : Int64 → FM → Option (Int64 × FM)) (g126 : Int64 → FM → Option (Int64 × FM)) (g169 : Int64 → Int64 → Int64 → Int64 → FM → Option (Int64 × FM)) (g199 : Int64 → Int64 → FM → Option (Int64 × FM)) (g230 : Int64 → FM → Option (Int64 × FM)) (g256 : Int64 → FM → Option (Int64 × FM)) (a0 : Nat) (a1 : Int64) (a3 : Int64) (M : FM) : Option (Int64 × FM) :=
  fi (fm_is M 4 4 a0 = true) (
  (f0 a0 M).bind fun r1 =>
  fi (r1.1 = (Int32.ofInt 0)) (
    some ((a1 + a3), r1.2)) (
  fi (r1.1 = (Int32.ofInt 1)) (
    some ((a1 - a3), r1.2)) (
  fi (r1.1 = (Int32.ofInt 2)) (
    some ((a1 <<< (a3.toInt32.toInt64 &&& 63)), r1.2)) (
  fi (r1.1 = (Int32.ofInt 3)) (
    fi (0 ≤ (lg_cmp a1 a3)) (
      g112 (Int64.ofInt 0) r1.2) (
      g112 (Int64.ofInt 1) r1.2)) (
  fi (r1.1 = (Int32.ofInt 4)) (
    (f1 a1 a3 r1.2).bind fun r2 =>
    fi (r2.1 = 0) (
      g126 (Int64.ofInt 0) r2.2) (
      g126 (Int64.ofInt 1) r2.2)) (
  fi (r1.1 = (Int32.ofInt 5)) (
    some ((a1 ^^^ a3), r1.2)) (
  fi (r1.1 = (Int32.ofInt 6)) (
    some ((a1.toUInt64 >>> (a3.toInt32.toInt64.toUInt64 &&& Int64.toUInt64 63)).toInt64, r1.2)) (
  fi (r1.1 = (Int32.ofInt 7)) (
    some ((a1 >>> (a3.toInt32.toInt64 &&& 63)), r1.2)) (
  fi (r1.1 = (Int32.ofInt 8)) (
    some ((a1 ||| a3), r1.2)) (
  fi (r1.1 = (Int32.ofInt 9)) (
    some ((a1 &&& a3), r1.2)) (
  fi (r1.1 = (Int32.ofInt 10)) (
    some ((a1 * a3), r1.2)) (
  fi (r1.1 = (Int32.ofInt 11)) (
    (f2 a1 a3 r1.2).bind fun r3 =>
    fi (0 ≤ (lg_cmp a1 (Int64.ofInt 0))) (
      g169 a1 a3 r3.1 (Int64.ofInt 0) r3.2) (
      g169 a1 a3 r3.1 a3 r3.2)) (
  fi (r1.1 = (Int32.ofInt 12)) (
    (f2 a1 a3 r1.2).bind fun r4 =>
    fi (0 ≤ (lg_cmp a1 (Int64.ofInt 0))) (
      g199 r4.1 (Int64.ofInt 0) r4.2) (
      g199 r4.1 a3 r4.2)) (
  fi (r1.1 = (Int32.ofInt 13)) (
    (f2 a1 a3 r1.2).bind fun r5 =>
    some (r5.1, r5.2)) (
  fi (r1.1 = (Int32.ofInt 14)) (
    (f3 a1 a3 r1.2).bind fun r6 =>
    some (r6.1, r6.2)) (
  fi (r1.1 = (Int32.ofInt 15)) (
    fi ((lg_cmp a3 (Int64.ofInt 0)) = 0) (
      g230 (Int64.ofInt (-1)) r1.2) (
      (f5 a1 a3 r1.2).bind fun r7 =>
      g230 r7.1 r7.2)) (
  fi (r1.1 = (Int32.ofInt 16)) (
    (f4 a1 a3 r1.2).bind fun r8 =>
    some (r8.1, r8.2)) (
  fi ((lg_cmp a3 (Int64.ofInt 0)) = 0) (
      g256 a1 r1.2) (
      (f5 a1 a3 r1.2).bind fun r9 =>
      g256 (a1 - (r9.1 * a3)) r9.2))))))))))))))))))) none
noncomputable def FX106_reckon_0 (a0 : Nat) (a1 : Int64) (a3 : Int64) (M : FM) : Option (Int64 × FM) := BX106_reckon_0 FJ0_ordinal FX106_isBelow FX106_upper FX106_divided FX106_rest FX106_quotient FX106_reckon_112 FX106_reckon_126 FX106_reckon_169 FX106_reckon_199 FX106_reckon_230 FX106_reckon_256 a0 a1 a3 M
noncomputable def FX106_reckon (a0 : Nat) (a1 : Int64) (a3 : Int64) (M : FM) : Option (Int64 × FM) := FX106_reckon_0 a0 a1 a3 M
/-! BoardMachine$Integers$Arithmetic.reckonInt(LBoardMachine$Integers$Sum;II)J -/
noncomputable def BX106_reckonInt_71 (f1 : Nat → Int64 → Int64 → FM → Option (Int64 × FM)) (a0 : Nat) (a1 : Int32) (a2 : Int32) (M : FM) : Option (Int64 × FM) :=
  (f1 a0 (a1.toInt64 &&& (Int64.ofInt 4294967295)) (a2.toInt64 &&& (Int64.ofInt 4294967295)) M).bind fun r1 =>
  some (r1.1.toInt32.toInt64, r1.2)
noncomputable def FX106_reckonInt_71 (a0 : Nat) (a1 : Int32) (a2 : Int32) (M : FM) : Option (Int64 × FM) := BX106_reckonInt_71 FX106_reckon a0 a1 a2 M
noncomputable def BX106_reckonInt_0 (f0 : Nat → FM → Option (Int32 × FM)) (f1 : Nat → Int64 → Int64 → FM → Option (Int64 × FM)) (g71 : Nat → Int32 → Int32 → FM → Option (Int64 × FM)) (a0 : Nat) (a1 : Int32) (a2 : Int32) (M : FM) : Option (Int64 × FM) :=
  fi (fm_is M 4 4 a0 = true) (
  (f0 a0 M).bind fun r1 =>
  fi (r1.1 = (Int32.ofInt 2)) (
    some ((a1 <<< (a2 &&& 31)).toInt64, r1.2)) (
  fi (r1.1 = (Int32.ofInt 6)) (
    some (((a1.toUInt32 >>> (a2.toUInt32 &&& Int32.toUInt32 31)).toInt32).toInt64, r1.2)) (
  fi (r1.1 = (Int32.ofInt 7)) (
    some ((a1 >>> (a2 &&& 31)).toInt64, r1.2)) (
  fi (r1.1 = (Int32.ofInt 15)) (
    g71 a0 a1 a2 r1.2) (
  fi (r1.1 = (Int32.ofInt 17)) (
    g71 a0 a1 a2 r1.2) (
  (f1 a0 a1.toInt64 a2.toInt64 r1.2).bind fun r2 =>
    some (r2.1.toInt32.toInt64, r2.2))))))) none
noncomputable def FX106_reckonInt_0 (a0 : Nat) (a1 : Int32) (a2 : Int32) (M : FM) : Option (Int64 × FM) := BX106_reckonInt_0 FJ0_ordinal FX106_reckon FX106_reckonInt_71 a0 a1 a2 M
noncomputable def FX106_reckonInt (a0 : Nat) (a1 : Int32) (a2 : Int32) (M : FM) : Option (Int64 × FM) := FX106_reckonInt_0 a0 a1 a2 M
/-! BoardMachine$Integers$Compute.run(LBoardMachine$Integers$Registers;LBoardMachine$Integers$Decoded;I)I -/
noncomputable def BX56_run_75 (f1 : Nat → Int32 → Int64 → FM → Option (FM)) (a1 : Nat) (a3 : Int32) (s0 : Nat) (s1 : Int32) (s2 : Int64) (M : FM) : Option (Int32 × FM) :=
  fi (fm_is M 64 64 s0 = true) (
  (f1 s0 s1 s2 M).bind fun M1 =>
  fi (fm_is M1 64 64 a1 = true) (
  fi (fm_is M1 64 64 a1 = true) (
  let M2 : FM := fm_sL M1 179 a1 0 ((M1.2.1 179 a1 0) + a3.toInt64)
  some ((Int32.ofInt 0), M2)) none) none) none
noncomputable def FX56_run_75 (a1 : Nat) (a3 : Int32) (s0 : Nat) (s1 : Int32) (s2 : Int64) (M : FM) : Option (Int32 × FM) := BX56_run_75 FX48_set a1 a3 s0 s1 s2 M
noncomputable def BX56_run_34 (f0 : Nat → Int64 → Int64 → FM → Option (Int64 × FM)) (f2 : Nat → Int32 → Int32 → FM → Option (Int64 × FM)) (g75 : Nat → Int32 → Nat → Int32 → Int64 → FM → Option (Int32 × FM)) (a1 : Nat) (a2 : Nat) (a3 : Int32) (a4 : Int64) (s0 : Int64) (M : FM) : Option (Int32 × FM) :=
  fi (fm_is M 61 61 a2 = true) (
  fi (fm_is M 61 61 a2 = true) (
  fi ((M.1 157 a2 0) = 0) (
    fi (fm_is M 61 61 a2 = true) (
    (f0 (M.2.2 155 a2 0) a4 s0 M).bind fun r1 =>
    g75 a1 a3 a1 (M.1 151 a2 0) r1.1 r1.2) none) (
    fi (fm_is M 61 61 a2 = true) (
    (f2 (M.2.2 155 a2 0) a4.toInt32 s0.toInt32 M).bind fun r2 =>
    g75 a1 a3 a1 (M.1 151 a2 0) r2.1 r2.2) none)) none) none
noncomputable def FX56_run_34 (a1 : Nat) (a2 : Nat) (a3 : Int32) (a4 : Int64) (s0 : Int64) (M : FM) : Option (Int32 × FM) := BX56_run_34 FX106_reckon FX106_reckonInt FX56_run_75 a1 a2 a3 a4 s0 M
noncomputable def BX56_run_0 (g34 : Nat → Nat → Int32 → Int64 → Int64 → FM → Option (Int32 × FM)) (a0 : Nat) (a1 : Nat) (a2 : Nat) (a3 : Int32) (M : FM) : Option (Int32 × FM) :=
  fi (fm_is M 64 64 a1 = true) (
  fi (fm_is M 61 61 a2 = true) (
  let x1 : Int32 := (M.1 152 a2 0)
  let x2 : Nat := (M.2.2 178 a1 0)
  fi (fm_is M 902 902 x2 = true ∧ fm_in M x2 x1 = true) (
  let x3 : Int64 := (M.2.1 3 x2 x1.toNatClampNeg)
  fi (fm_is M 61 61 a2 = true) (
  fi ((M.1 156 a2 0) = 0) (
    fi (fm_is M 61 61 a2 = true) (
    g34 a1 a2 a3 x3 (M.2.1 154 a2 0) M) none) (
    fi (fm_is M 64 64 a1 = true) (
    fi (fm_is M 61 61 a2 = true) (
    let x4 : Int32 := (M.1 153 a2 0)
    let x5 : Nat := (M.2.2 178 a1 0)
    fi (fm_is M 902 902 x5 = true ∧ fm_in M x5 x4 = true) (
    g34 a1 a2 a3 x3 (M.2.1 3 x5 x4.toNatClampNeg) M) none) none) none)) none) none) none) none
noncomputable def FX56_run_0 (a0 : Nat) (a1 : Nat) (a2 : Nat) (a3 : Int32) (M : FM) : Option (Int32 × FM) := BX56_run_0 FX56_run_34 a0 a1 a2 a3 M
noncomputable def FX56_run (a0 : Nat) (a1 : Nat) (a2 : Nat) (a3 : Int32) (M : FM) : Option (Int32 × FM) := FX56_run_0 a0 a1 a2 a3 M
