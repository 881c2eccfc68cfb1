/-! functions of methods, printed by gen/defs.py -/
set_option maxRecDepth 100000
/-! BoardMachineModel$Halves.quadrant1()I -/
noncomputable def BX94_quadrant1_149 (s0 : Int32) (M : FM) : Option (Int32 × FM) :=
  some (s0, M)
noncomputable def FX94_quadrant1_149 (n : Nat) (s0 : Int32) (M : FM) : Option (Int32 × FM) := BX94_quadrant1_149 s0 M
noncomputable def BX94_quadrant1_0 (f0 : Nat → Int32 → Int32 → FM → Option (Int32 × FM)) (f1 : Nat → FM → Option (Int32 × FM)) (f2 : Nat → Int32 → FM → Option (Int32 × FM)) (f3 : Nat → FM → Option (Int32 × FM)) (f4 : Int32 → Int32 → Int32 → Int32 → Int32 → FM → Option (Int32 × FM)) (f5 : Int32 → Int32 → Int32 → FM → Option (Int32 × FM)) (f6 : Int32 → FM → Option (Int32 × FM)) (g149 : Int32 → FM → Option (Int32 × FM)) (a0 : Nat) (M : FM) : Option (Int32 × FM) :=
  fi (fm_is M 97 97 a0 = true) (
  (f0 a0 (Int32.ofInt 11) (Int32.ofInt 7) M).bind fun r1 =>
  fi (fm_is r1.2 97 97 a0 = true) (
  (f0 a0 (Int32.ofInt 6) (Int32.ofInt 5) r1.2).bind fun r2 =>
  fi (fm_is r2.2 97 97 a0 = true) (
  (f0 a0 (Int32.ofInt 2) (Int32.ofInt 2) r2.2).bind fun r3 =>
  fi (fm_is r3.2 97 97 a0 = true) (
  (f0 a0 (Int32.ofInt 11) (Int32.ofInt 10) r3.2).bind fun r4 =>
  fi (fm_is r4.2 97 97 a0 = true) (
  (f0 a0 (Int32.ofInt 4) (Int32.ofInt 3) r4.2).bind fun r5 =>
  fi (fm_is r5.2 97 97 a0 = true) (
  (f0 a0 (Int32.ofInt 12) (Int32.ofInt 12) r5.2).bind fun r6 =>
  let x7 : Int32 := ((((((Int32.ofInt 64) * r2.1) + ((Int32.ofInt 32) * r3.1)) + ((Int32.ofInt 8) * r4.1)) + ((Int32.ofInt 2) * r5.1)) - ((Int32.ofInt 256) * r6.1))
  fi (fm_is r6.2 97 97 a0 = true) (
  (f0 a0 (Int32.ofInt 15) (Int32.ofInt 13) r6.2).bind fun r8 =>
  fi (r8.1 = (Int32.ofInt 0)) (
    fi (fm_is r8.2 97 97 a0 = true) (
    (f3 a0 r8.2).bind fun r9 =>
    (f4 (Int32.ofInt 19) r1.1 (Int32.ofInt 0) r1.1 r9.1 r9.2).bind fun r10 =>
    some (r10.1, r10.2)) none) (
  fi (r8.1 = (Int32.ofInt 1)) (
    fi (r1.1 = 0) (
      g149 (Int32.ofInt 0) r8.2) (
      fi (fm_is r8.2 97 97 a0 = true) (
      (f3 a0 r8.2).bind fun r11 =>
      (f4 (Int32.ofInt 27) r1.1 (Int32.ofInt 0) r1.1 r11.1 r11.2).bind fun r12 =>
      g149 r12.1 r12.2) none)) (
  fi (r8.1 = (Int32.ofInt 2)) (
    fi (fm_is r8.2 97 97 a0 = true) (
    (f3 a0 r8.2).bind fun r13 =>
    (f4 (Int32.ofInt 19) r1.1 (Int32.ofInt 0) (Int32.ofInt 0) r13.1 r13.2).bind fun r14 =>
    some (r14.1, r14.2)) none) (
  fi (r8.1 = (Int32.ofInt 3)) (
    fi (fm_is r8.2 97 97 a0 = true) (
    (f2 a0 r1.1 r8.2).bind fun r15 =>
    some (r15.1, r15.2)) none) (
  fi (r8.1 = (Int32.ofInt 4)) (
    fi (fm_is r8.2 97 97 a0 = true) (
    (f1 a0 r8.2).bind fun r16 =>
    some (r16.1, r16.2)) none) (
  fi (r8.1 = (Int32.ofInt 5)) (
    fi (fm_is r8.2 97 97 a0 = true) (
    (f0 a0 (Int32.ofInt 8) (Int32.ofInt 8) r8.2).bind fun r17 =>
    fi (fm_is r17.2 97 97 a0 = true) (
    (f0 a0 (Int32.ofInt 10) (Int32.ofInt 9) r17.2).bind fun r18 =>
    fi (fm_is r18.2 97 97 a0 = true) (
    (f0 a0 (Int32.ofInt 6) (Int32.ofInt 6) r18.2).bind fun r19 =>
    fi (fm_is r19.2 97 97 a0 = true) (
    (f0 a0 (Int32.ofInt 7) (Int32.ofInt 7) r19.2).bind fun r20 =>
    fi (fm_is r20.2 97 97 a0 = true) (
    (f0 a0 (Int32.ofInt 2) (Int32.ofInt 2) r20.2).bind fun r21 =>
    fi (fm_is r21.2 97 97 a0 = true) (
    (f0 a0 (Int32.ofInt 11) (Int32.ofInt 11) r21.2).bind fun r22 =>
    fi (fm_is r22.2 97 97 a0 = true) (
    (f0 a0 (Int32.ofInt 5) (Int32.ofInt 3) r22.2).bind fun r23 =>
    fi (fm_is r23.2 97 97 a0 = true) (
    (f0 a0 (Int32.ofInt 12) (Int32.ofInt 12) r23.2).bind fun r24 =>
    (f6 (((((((((Int32.ofInt 1024) * r17.1) + ((Int32.ofInt 256) * r18.1)) + ((Int32.ofInt 128) * r19.1)) + ((Int32.ofInt 64) * r20.1)) + ((Int32.ofInt 32) * r21.1)) + ((Int32.ofInt 16) * r22.1)) + ((Int32.ofInt 2) * r23.1)) - ((Int32.ofInt 2048) * r24.1)) r24.2).bind fun r25 =>
    some (r25.1, r25.2)) none) none) none) none) none) none) none) none) (
  fi (r8.1 = (Int32.ofInt 6)) (
    fi (fm_is r8.2 97 97 a0 = true) (
    (f0 a0 (Int32.ofInt 9) (Int32.ofInt 7) r8.2).bind fun r26 =>
    (f5 (Int32.ofInt 0) ((Int32.ofInt 8) + r26.1) x7 r26.2).bind fun r27 =>
    some (r27.1, r27.2)) none) (
  fi (fm_is r8.2 97 97 a0 = true) (
    (f0 a0 (Int32.ofInt 9) (Int32.ofInt 7) r8.2).bind fun r28 =>
    (f5 (Int32.ofInt 1) ((Int32.ofInt 8) + r28.1) x7 r28.2).bind fun r29 =>
    some (r29.1, r29.2)) none)))))))) none) none) none) none) none) none) none
noncomputable def FX94_quadrant1_0 (n : Nat) (a0 : Nat) (M : FM) : Option (Int32 × FM) := BX94_quadrant1_0 (FX94_bits n) (FX94_arithmetic n) (FX94_upper n) (FX94_signed n) FX94_wordI (FX94_wordB n) (FX94_wordJ n) (FX94_quadrant1_149 n ) a0 M
noncomputable def FX94_quadrant1 (n : Nat) (a0 : Nat) (M : FM) : Option (Int32 × FM) := FX94_quadrant1_0 n a0 M
/-! BoardMachineModel$Halves.jumps(II)I -/
noncomputable def BX94_jumps_83 (f2 : Int32 → Int32 → Int32 → Int32 → Int32 → Int32 → FM → Option (Int32 × FM)) (a2 : Int32) (s0 : Int32) (s1 : Int32) (s2 : Int32) (s3 : Int32) (M : FM) : Option (Int32 × FM) :=
  (f2 s0 s1 s2 s3 a2 (Int32.ofInt 0) M).bind fun r1 =>
  some (r1.1, r1.2)
noncomputable def FX94_jumps_83 (n : Nat) (a2 : Int32) (s0 : Int32) (s1 : Int32) (s2 : Int32) (s3 : Int32) (M : FM) : Option (Int32 × FM) := BX94_jumps_83 FX94_wordR a2 s0 s1 s2 s3 M
noncomputable def BX94_jumps_62 (s0 : Int32) (M : FM) : Option (Int32 × FM) :=
  some (s0, M)
noncomputable def FX94_jumps_62 (n : Nat) (s0 : Int32) (M : FM) : Option (Int32 × FM) := BX94_jumps_62 s0 M
noncomputable def BX94_jumps_33 (f0 : Nat → Int32 → Int32 → FM → Option (Int32 × FM)) (f1 : Int32 → Int32 → Int32 → Int32 → Int32 → FM → Option (Int32 × FM)) (g62 : Int32 → FM → Option (Int32 × FM)) (g83 : Int32 → Int32 → Int32 → Int32 → Int32 → FM → Option (Int32 × FM)) (a0 : Nat) (a1 : Int32) (a2 : Int32) (M : FM) : Option (Int32 × FM) :=
  fi (a2 = 0) (
    fi (a1 = 0) (
      (f1 (Int32.ofInt 115) (Int32.ofInt 0) (Int32.ofInt 0) (Int32.ofInt 0) (Int32.ofInt 1) M).bind fun r1 =>
      g62 r1.1 r1.2) (
      (f1 (Int32.ofInt 103) (Int32.ofInt 1) (Int32.ofInt 0) a1 (Int32.ofInt 0) M).bind fun r2 =>
      g62 r2.1 r2.2)) (
    fi (fm_is M 97 97 a0 = true) (
    (f0 a0 (Int32.ofInt 12) (Int32.ofInt 12) M).bind fun r3 =>
    fi (r3.1 = 0) (
      g83 a2 (Int32.ofInt 51) a1 (Int32.ofInt 0) (Int32.ofInt 0) r3.2) (
      g83 a2 (Int32.ofInt 51) a1 (Int32.ofInt 0) a1 r3.2)) none)
noncomputable def FX94_jumps_33 (n : Nat) (a0 : Nat) (a1 : Int32) (a2 : Int32) (M : FM) : Option (Int32 × FM) := BX94_jumps_33 (FX94_bits n) FX94_wordI (FX94_jumps_62 n ) (FX94_jumps_83 n ) a0 a1 a2 M
noncomputable def BX94_jumps_32 (s0 : Int32) (M : FM) : Option (Int32 × FM) :=
  some (s0, M)
noncomputable def FX94_jumps_32 (n : Nat) (s0 : Int32) (M : FM) : Option (Int32 × FM) := BX94_jumps_32 s0 M
noncomputable def BX94_jumps_0 (f0 : Nat → Int32 → Int32 → FM → Option (Int32 × FM)) (f1 : Int32 → Int32 → Int32 → Int32 → Int32 → FM → Option (Int32 × FM)) (g32 : Int32 → FM → Option (Int32 × FM)) (g33 : Nat → Int32 → Int32 → FM → Option (Int32 × FM)) (a0 : Nat) (a1 : Int32) (a2 : Int32) (M : FM) : Option (Int32 × FM) :=
  fi (a2 = 0) (
    fi (fm_is M 97 97 a0 = true) (
    (f0 a0 (Int32.ofInt 12) (Int32.ofInt 12) M).bind fun r1 =>
    fi (r1.1 = 0) (
      fi (a1 = 0) (
        g32 (Int32.ofInt 0) r1.2) (
        (f1 (Int32.ofInt 103) (Int32.ofInt 0) (Int32.ofInt 0) a1 (Int32.ofInt 0) r1.2).bind fun r2 =>
        g32 r2.1 r2.2)) (
      g33 a0 a1 a2 r1.2)) none) (
    g33 a0 a1 a2 M)
noncomputable def FX94_jumps_0 (n : Nat) (a0 : Nat) (a1 : Int32) (a2 : Int32) (M : FM) : Option (Int32 × FM) := BX94_jumps_0 (FX94_bits n) FX94_wordI (FX94_jumps_32 n ) (FX94_jumps_33 n ) a0 a1 a2 M
noncomputable def FX94_jumps (n : Nat) (a0 : Nat) (a1 : Int32) (a2 : Int32) (M : FM) : Option (Int32 × FM) := FX94_jumps_0 n a0 a1 a2 M
/-! BoardMachineModel$Halves.quadrant2()I -/
noncomputable def BX94_quadrant2_210 (s0 : Int32) (M : FM) : Option (Int32 × FM) :=
  some (s0, M)
noncomputable def FX94_quadrant2_210 (n : Nat) (s0 : Int32) (M : FM) : Option (Int32 × FM) := BX94_quadrant2_210 s0 M
noncomputable def BX94_quadrant2_193 (s0 : Int32) (M : FM) : Option (Int32 × FM) :=
  some (s0, M)
noncomputable def FX94_quadrant2_193 (n : Nat) (s0 : Int32) (M : FM) : Option (Int32 × FM) := BX94_quadrant2_193 s0 M
noncomputable def BX94_quadrant2_0 (f0 : Nat → Int32 → Int32 → FM → Option (Int32 × FM)) (f1 : Nat → Int32 → Int32 → FM → Option (Int32 × FM)) (f2 : Int32 → Int32 → Int32 → Int32 → Int32 → FM → Option (Int32 × FM)) (f3 : Nat → FM → Option (Int32 × FM)) (f4 : Int32 → Int32 → Int32 → Int32 → Int32 → FM → Option (Int32 × FM)) (g193 : Int32 → FM → Option (Int32 × FM)) (g210 : Int32 → FM → Option (Int32 × FM)) (a0 : Nat) (M : FM) : Option (Int32 × FM) :=
  fi (fm_is M 97 97 a0 = true) (
  (f0 a0 (Int32.ofInt 11) (Int32.ofInt 7) M).bind fun r1 =>
  fi (fm_is r1.2 97 97 a0 = true) (
  (f0 a0 (Int32.ofInt 6) (Int32.ofInt 2) r1.2).bind fun r2 =>
  fi (fm_is r2.2 97 97 a0 = true) (
  (f0 a0 (Int32.ofInt 4) (Int32.ofInt 2) r2.2).bind fun r3 =>
  fi (fm_is r3.2 97 97 a0 = true) (
  (f0 a0 (Int32.ofInt 12) (Int32.ofInt 12) r3.2).bind fun r4 =>
  fi (fm_is r4.2 97 97 a0 = true) (
  (f0 a0 (Int32.ofInt 6) (Int32.ofInt 5) r4.2).bind fun r5 =>
  let x6 : Int32 := ((((Int32.ofInt 64) * r3.1) + ((Int32.ofInt 32) * r4.1)) + ((Int32.ofInt 8) * r5.1))
  fi (fm_is r5.2 97 97 a0 = true) (
  (f0 a0 (Int32.ofInt 9) (Int32.ofInt 7) r5.2).bind fun r7 =>
  fi (fm_is r7.2 97 97 a0 = true) (
  (f0 a0 (Int32.ofInt 12) (Int32.ofInt 10) r7.2).bind fun r8 =>
  let x9 : Int32 := (((Int32.ofInt 64) * r7.1) + ((Int32.ofInt 8) * r8.1))
  fi (fm_is r8.2 97 97 a0 = true) (
  (f0 a0 (Int32.ofInt 15) (Int32.ofInt 13) r8.2).bind fun r10 =>
  fi (r10.1 = (Int32.ofInt 0)) (
    fi (fm_is r10.2 97 97 a0 = true) (
    (f3 a0 r10.2).bind fun r11 =>
    (f4 (Int32.ofInt 19) r1.1 (Int32.ofInt 1) r1.1 r11.1 r11.2).bind fun r12 =>
    some (r12.1, r12.2)) none) (
  fi (r10.1 = (Int32.ofInt 1)) (
    (f4 (Int32.ofInt 7) r1.1 (Int32.ofInt 3) (Int32.ofInt 2) x6 r10.2).bind fun r13 =>
    some (r13.1, r13.2)) (
  fi (r10.1 = (Int32.ofInt 2)) (
    fi (r1.1 = 0) (
      g193 (Int32.ofInt 0) r10.2) (
      fi (fm_is r10.2 97 97 a0 = true) (
      (f0 a0 (Int32.ofInt 3) (Int32.ofInt 2) r10.2).bind fun r14 =>
      fi (fm_is r14.2 97 97 a0 = true) (
      (f0 a0 (Int32.ofInt 12) (Int32.ofInt 12) r14.2).bind fun r15 =>
      fi (fm_is r15.2 97 97 a0 = true) (
      (f0 a0 (Int32.ofInt 6) (Int32.ofInt 4) r15.2).bind fun r16 =>
      (f4 (Int32.ofInt 3) r1.1 (Int32.ofInt 2) (Int32.ofInt 2) ((((Int32.ofInt 64) * r14.1) + ((Int32.ofInt 32) * r15.1)) + ((Int32.ofInt 4) * r16.1)) r16.2).bind fun r17 =>
      g193 r17.1 r17.2) none) none) none)) (
  fi (r10.1 = (Int32.ofInt 3)) (
    fi (r1.1 = 0) (
      g210 (Int32.ofInt 0) r10.2) (
      (f4 (Int32.ofInt 3) r1.1 (Int32.ofInt 3) (Int32.ofInt 2) x6 r10.2).bind fun r18 =>
      g210 r18.1 r18.2)) (
  fi (r10.1 = (Int32.ofInt 4)) (
    fi (fm_is r10.2 97 97 a0 = true) (
    (f1 a0 r1.1 r2.1 r10.2).bind fun r19 =>
    some (r19.1, r19.2)) none) (
  fi (r10.1 = (Int32.ofInt 5)) (
    (f2 (Int32.ofInt 39) (Int32.ofInt 3) (Int32.ofInt 2) r2.1 x9 r10.2).bind fun r20 =>
    some (r20.1, r20.2)) (
  fi (r10.1 = (Int32.ofInt 6)) (
    fi (fm_is r10.2 97 97 a0 = true) (
    (f0 a0 (Int32.ofInt 8) (Int32.ofInt 7) r10.2).bind fun r21 =>
    fi (fm_is r21.2 97 97 a0 = true) (
    (f0 a0 (Int32.ofInt 12) (Int32.ofInt 9) r21.2).bind fun r22 =>
    (f2 (Int32.ofInt 35) (Int32.ofInt 2) (Int32.ofInt 2) r2.1 (((Int32.ofInt 64) * r21.1) + ((Int32.ofInt 4) * r22.1)) r22.2).bind fun r23 =>
    some (r23.1, r23.2)) none) none) (
  (f2 (Int32.ofInt 35) (Int32.ofInt 3) (Int32.ofInt 2) r2.1 x9 r10.2).bind fun r24 =>
    some (r24.1, r24.2))))))))) none) none) none) none) none) none) none) none
noncomputable def FX94_quadrant2_0 (n : Nat) (a0 : Nat) (M : FM) : Option (Int32 × FM) := BX94_quadrant2_0 (FX94_bits n) (FX94_jumps n) FX94_wordS (FX94_plain n) FX94_wordI (FX94_quadrant2_193 n ) (FX94_quadrant2_210 n ) a0 M
noncomputable def FX94_quadrant2 (n : Nat) (a0 : Nat) (M : FM) : Option (Int32 × FM) := FX94_quadrant2_0 n a0 M
/-! BoardMachineModel$Halves.wordOf(I)I -/
noncomputable def BX94_wordOf_0 (f0 : Nat → FM → Option (Int32 × FM)) (f1 : Nat → FM → Option (Int32 × FM)) (f2 : Nat → FM → Option (Int32 × FM)) (a0 : Nat) (a1 : Int32) (M : FM) : Option (Int32 × FM) :=
  fi (fm_is M 97 97 a0 = true) (
  let M1 : FM := fm_sI M 387 a0 0 a1
  let x2 : Int32 := (a1 &&& (Int32.ofInt 3))
  fi (x2 = (Int32.ofInt 0)) (
    fi (fm_is M1 97 97 a0 = true) (
    (f0 a0 M1).bind fun r3 =>
    some (r3.1, r3.2)) none) (
  fi (x2 = (Int32.ofInt 1)) (
    fi (fm_is M1 97 97 a0 = true) (
    (f1 a0 M1).bind fun r4 =>
    some (r4.1, r4.2)) none) (
  fi (x2 = (Int32.ofInt 2)) (
    fi (fm_is M1 97 97 a0 = true) (
    (f2 a0 M1).bind fun r5 =>
    some (r5.1, r5.2)) none) (
  some ((Int32.ofInt 0), M1))))) none
noncomputable def FX94_wordOf_0 (n : Nat) (a0 : Nat) (a1 : Int32) (M : FM) : Option (Int32 × FM) := BX94_wordOf_0 (FX94_quadrant0 n) (FX94_quadrant1 n) (FX94_quadrant2 n) a0 a1 M
noncomputable def FX94_wordOf (n : Nat) (a0 : Nat) (a1 : Int32) (M : FM) : Option (Int32 × FM) := FX94_wordOf_0 n a0 a1 M
/-! BoardMachineModel$Halves.expand(I)I -/
noncomputable def BX94_expand_35 (s0 : Int32) (M : FM) : Option (Int32 × FM) :=
  some (s0, M)
noncomputable def FX94_expand_35 (n : Nat) (s0 : Int32) (M : FM) : Option (Int32 × FM) := BX94_expand_35 s0 M
noncomputable def BX94_expand_16 (f0 : Nat → Int32 → FM → Option (Int32 × FM)) (g35 : Int32 → FM → Option (Int32 × FM)) (a0 : Nat) (a1 : Int32) (s0 : Nat) (s1 : Int32) (M : FM) : Option (Int32 × FM) :=
  fi (fm_is M 97 97 s0 = true) (
  let M1 : FM := fm_sI M 386 s0 0 s1
  fi (fm_is M1 97 97 a0 = true) (
  fi ((M1.1 386 a0 0) ≤ 0) (
    fi (fm_is M1 97 97 a0 = true) (
    (f0 a0 a1 M1).bind fun r2 =>
    g35 r2.1 r2.2) none) (
    g35 (Int32.ofInt 0) M1)) none) none
noncomputable def FX94_expand_16 (n : Nat) (a0 : Nat) (a1 : Int32) (s0 : Nat) (s1 : Int32) (M : FM) : Option (Int32 × FM) := BX94_expand_16 (FX94_wordOf n) (FX94_expand_35 n ) a0 a1 s0 s1 M
noncomputable def BX94_expand_11 (g16 : Nat → Int32 → Nat → Int32 → FM → Option (Int32 × FM)) (a0 : Nat) (a1 : Int32) (s0 : Nat) (M : FM) : Option (Int32 × FM) :=
  g16 a0 a1 s0 (Int32.ofInt 1) M
noncomputable def FX94_expand_11 (n : Nat) (a0 : Nat) (a1 : Int32) (s0 : Nat) (M : FM) : Option (Int32 × FM) := BX94_expand_11 (FX94_expand_16 n ) a0 a1 s0 M
noncomputable def BX94_expand_0 (g11 : Nat → Int32 → Nat → FM → Option (Int32 × FM)) (g16 : Nat → Int32 → Nat → Int32 → FM → Option (Int32 × FM)) (a0 : Nat) (a1 : Int32) (M : FM) : Option (Int32 × FM) :=
  fi (a1 < 0) (
    g11 a0 a1 a0 M) (
    fi (a1 ≤ (Int32.ofInt 65535)) (
      g16 a0 a1 a0 (Int32.ofInt 0) M) (
      g11 a0 a1 a0 M))
noncomputable def FX94_expand_0 (n : Nat) (a0 : Nat) (a1 : Int32) (M : FM) : Option (Int32 × FM) := BX94_expand_0 (FX94_expand_11 n ) (FX94_expand_16 n ) a0 a1 M
noncomputable def FX94_expand (n : Nat) (a0 : Nat) (a1 : Int32) (M : FM) : Option (Int32 × FM) := FX94_expand_0 n a0 a1 M
/-! BoardMachineModel.illegal()Z -/
noncomputable def BX92_illegal_0 (f0 : Nat → Int32 → Int64 → FM → Option (Int32 × FM)) (a0 : Nat) (M : FM) : Option (Int32 × FM) :=
  fi (fm_is M 92 92 a0 = true) (
  fi (fm_is M 92 92 a0 = true) (
  (f0 a0 (Int32.ofInt 2) (M.2.1 319 a0 0) M).bind fun r1 =>
  fi (r1.1 = 0 ∨ r1.1 = 1) (some (r1.1, r1.2)) none) none) none
noncomputable def FX92_illegal_0 (a0 : Nat) (M : FM) : Option (Int32 × FM) := BX92_illegal_0 FX92_fail a0 M
noncomputable def FX92_illegal (a0 : Nat) (M : FM) : Option (Int32 × FM) := FX92_illegal_0 a0 M
/-! BoardMachineModel.fetch(I)Z -/
noncomputable def BX92_fetch_77 (s0 : Int32) (M : FM) : Option (Int32 × FM) :=
  fi (s0 = 0 ∨ s0 = 1) (some (s0, M)) none
noncomputable def FX92_fetch_77 (n : Nat) (s0 : Int32) (M : FM) : Option (Int32 × FM) := BX92_fetch_77 s0 M
noncomputable def BX92_fetch_72 (g77 : Int32 → FM → Option (Int32 × FM)) (M : FM) : Option (Int32 × FM) :=
  g77 (Int32.ofInt 1) M
noncomputable def FX92_fetch_72 (n : Nat) (M : FM) : Option (Int32 × FM) := BX92_fetch_72 (FX92_fetch_77 n ) M
noncomputable def BX92_fetch_0 (f0 : Nat → FM → Option (Int64 × FM)) (f1 : Nat → Int32 → Int64 → FM → Option (Int32 × FM)) (f2 : Nat → Int32 → FM → Option (Int32 × FM)) (f3 : Nat → FM → Option (Int32 × FM)) (g72 : FM → Option (Int32 × FM)) (g77 : Int32 → FM → Option (Int32 × FM)) (a0 : Nat) (a1 : Int32) (M : FM) : Option (Int32 × FM) :=
  fi (fm_is M 92 92 a0 = true) (
  let x1 : Nat := (M.2.2 303 a0 0)
  fi (fm_is M 910 990 x1 = true ∧ fm_in M x1 a1 = true) (
  let x2 : Nat := (M.2.2 3 x1 a1.toNatClampNeg)
  fi (fm_is M 94 94 x2 = true) (
  (f0 x2 M).bind fun r3 =>
  fi (fm_is r3.2 92 92 a0 = true) (
  (f1 a0 a1 r3.1 r3.2).bind fun r4 =>
  fi (0 ≤ r4.1) (
    fi (fm_is r4.2 92 92 a0 = true) (
    let M5 : FM := fm_sL r4.2 319 a0 0 r4.1.toInt64
    fi (fm_is M5 92 92 a0 = true) (
    let M6 : FM := fm_sI M5 318 a0 0 (Int32.ofInt 2)
    fi ((r4.1 &&& (Int32.ofInt 3)) = (Int32.ofInt 3)) (
      fi (fm_is M6 92 92 a0 = true) (
      (f1 a0 a1 (r3.1 + (Int64.ofInt 2)) M6).bind fun r7 =>
      fi (0 ≤ r7.1) (
        fi (fm_is r7.2 92 92 a0 = true) (
        let M8 : FM := fm_sI r7.2 318 a0 0 (Int32.ofInt 4)
        fi (fm_is M8 92 92 a0 = true) (
        let M9 : FM := fm_sI M8 317 a0 0 ((r7.1 <<< ((Int32.ofInt 16) &&& 31)) ||| r4.1)
        fi (fm_is M9 92 92 a0 = true) (
        fi (fm_is M9 92 92 a0 = true) (
        let M10 : FM := fm_sL M9 319 a0 0 ((M9.1 317 a0 0).toInt64 &&& (Int64.ofInt 4294967295))
        fi ((Int32.ofInt 1) = 0 ∨ (Int32.ofInt 1) = 1) (some ((Int32.ofInt 1), M10)) none) none) none) none) none) (
        fi ((Int32.ofInt 0) = 0 ∨ (Int32.ofInt 0) = 1) (some ((Int32.ofInt 0), r7.2)) none)) none) (
      fi (fm_is M6 92 92 a0 = true) (
      let x11 : Nat := (M6.2.2 299 a0 0)
      fi (fm_is M6 97 97 x11 = true) (
      (f2 x11 r4.1 M6).bind fun r12 =>
      fi (fm_is r12.2 92 92 a0 = true) (
      let M13 : FM := fm_sI r12.2 317 a0 0 r12.1
      fi (fm_is M13 92 92 a0 = true) (
      fi ((M13.1 317 a0 0) = 0) (
        fi (fm_is M13 92 92 a0 = true) (
        (f3 a0 M13).bind fun r14 =>
        fi (r14.1 = 0) (
          g77 (Int32.ofInt 0) r14.2) (
          g72 r14.2)) none) (
        g72 M13)) none) none) none) none)) none) none) (
    fi ((Int32.ofInt 0) = 0 ∨ (Int32.ofInt 0) = 1) (some ((Int32.ofInt 0), r4.2)) none)) none) none) none) none
noncomputable def FX92_fetch_0 (n : Nat) (a0 : Nat) (a1 : Int32) (M : FM) : Option (Int32 × FM) := BX92_fetch_0 FX98_counter (FX92_half n) (FX94_expand n) FX92_illegal (FX92_fetch_72 n ) (FX92_fetch_77 n ) a0 a1 M
noncomputable def FX92_fetch (n : Nat) (a0 : Nat) (a1 : Int32) (M : FM) : Option (Int32 × FM) := FX92_fetch_0 n a0 a1 M
/-! BoardMachineModel$Core.bits(II)I -/
noncomputable def BX98_bits_5 (k5 : Nat → Int32 → Int32 → Int32 → FM → Option (Int32 × FM)) (a0 : Nat) (a2 : Int32) (a3 : Int32) (a4 : Int32) (M : FM) : Option (Int32 × FM) :=
  fi (a4 < a2) (
    some (a3, M)) (
    fi (fm_is M 94 94 a0 = true) (
    let x1 : Int32 := (((Int32.ofInt 2) * a3) + (((M.1 349 a0 0) >>> (a4 &&& 31)) &&& (Int32.ofInt 1)))
    let x2 : Int32 := a4 + (Int32.ofInt (-1))
    k5 a0 a2 x1 x2 M) none)
noncomputable def FX98_bits_5 (n : Nat) (k5 : Nat → Int32 → Int32 → Int32 → FM → Option (Int32 × FM)) (a0 : Nat) (a2 : Int32) (a3 : Int32) (a4 : Int32) (M : FM) : Option (Int32 × FM) := BX98_bits_5 k5 a0 a2 a3 a4 M
noncomputable def BX98_bits_0 (k5 : Nat → Int32 → Int32 → Int32 → FM → Option (Int32 × FM)) (a0 : Nat) (a1 : Int32) (a2 : Int32) (M : FM) : Option (Int32 × FM) :=
  k5 a0 a2 (Int32.ofInt 0) a1 M
noncomputable def FX98_bits_0 (n : Nat) (k5 : Nat → Int32 → Int32 → Int32 → FM → Option (Int32 × FM)) (a0 : Nat) (a1 : Int32) (a2 : Int32) (M : FM) : Option (Int32 × FM) := BX98_bits_0 k5 a0 a1 a2 M
noncomputable def FX98_bits_L5 (n : Nat) : Nat → Nat → Int32 → Int32 → Int32 → FM → Option (Int32 × FM)
  | 0 => fun _ _ _ _ _ => none
  | j + 1 => FX98_bits_5 n (FX98_bits_L5 n j)
noncomputable def FX98_bits (n : Nat) (a0 : Nat) (a1 : Int32) (a2 : Int32) (M : FM) : Option (Int32 × FM) := FX98_bits_0 n (FX98_bits_L5 n n) a0 a1 a2 M
/-! BoardMachineModel$Core.isLess(JJ)Z -/
noncomputable def BX98_isLess_50 (s0 : Int32) (M : FM) : Option (Int32 × FM) :=
  fi (s0 = 0 ∨ s0 = 1) (some (s0, M)) none
noncomputable def FX98_isLess_50 (s0 : Int32) (M : FM) : Option (Int32 × FM) := BX98_isLess_50 s0 M
noncomputable def BX98_isLess_22 (g50 : Int32 → FM → Option (Int32 × FM)) (a0 : Int64) (a2 : Int64) (s0 : Int32) (s1 : Int32) (M : FM) : Option (Int32 × FM) :=
  fi (s0 = s1) (
    fi (0 ≤ (lg_cmp a0 a2)) (
      g50 (Int32.ofInt 0) M) (
      g50 (Int32.ofInt 1) M)) (
    fi (0 ≤ (lg_cmp a2 (Int64.ofInt 0))) (
      g50 (Int32.ofInt 0) M) (
      g50 (Int32.ofInt 1) M))
noncomputable def FX98_isLess_22 (a0 : Int64) (a2 : Int64) (s0 : Int32) (s1 : Int32) (M : FM) : Option (Int32 × FM) := BX98_isLess_22 FX98_isLess_50 a0 a2 s0 s1 M
noncomputable def BX98_isLess_11 (g22 : Int64 → Int64 → Int32 → Int32 → FM → Option (Int32 × FM)) (a0 : Int64) (a2 : Int64) (s0 : Int32) (M : FM) : Option (Int32 × FM) :=
  fi (0 ≤ (lg_cmp a2 (Int64.ofInt 0))) (
    g22 a0 a2 s0 (Int32.ofInt 0) M) (
    g22 a0 a2 s0 (Int32.ofInt 1) M)
noncomputable def FX98_isLess_11 (a0 : Int64) (a2 : Int64) (s0 : Int32) (M : FM) : Option (Int32 × FM) := BX98_isLess_11 FX98_isLess_22 a0 a2 s0 M
noncomputable def BX98_isLess_0 (g11 : Int64 → Int64 → Int32 → FM → Option (Int32 × FM)) (a0 : Int64) (a2 : Int64) (M : FM) : Option (Int32 × FM) :=
  fi (0 ≤ (lg_cmp a0 (Int64.ofInt 0))) (
    g11 a0 a2 (Int32.ofInt 0) M) (
    g11 a0 a2 (Int32.ofInt 1) M)
noncomputable def FX98_isLess_0 (a0 : Int64) (a2 : Int64) (M : FM) : Option (Int32 × FM) := BX98_isLess_0 FX98_isLess_11 a0 a2 M
noncomputable def FX98_isLess (a0 : Int64) (a2 : Int64) (M : FM) : Option (Int32 × FM) := FX98_isLess_0 a0 a2 M
/-! BoardMachineModel$Core.sign(J)J -/
noncomputable def BX98_sign_13 (s0 : Int64) (M : FM) : Option (Int64 × FM) :=
  some (s0, M)
noncomputable def FX98_sign_13 (s0 : Int64) (M : FM) : Option (Int64 × FM) := BX98_sign_13 s0 M
noncomputable def BX98_sign_0 (g13 : Int64 → FM → Option (Int64 × FM)) (a0 : Nat) (a1 : Int64) (M : FM) : Option (Int64 × FM) :=
  fi (fm_is M 94 94 a0 = true) (
  fi (0 ≤ (M.1 349 a0 0)) (
    g13 (Int64.ofInt 0) M) (
    g13 (-a1) M)) none
noncomputable def FX98_sign_0 (a0 : Nat) (a1 : Int64) (M : FM) : Option (Int64 × FM) := BX98_sign_0 FX98_sign_13 a0 a1 M
noncomputable def FX98_sign (a0 : Nat) (a1 : Int64) (M : FM) : Option (Int64 × FM) := FX98_sign_0 a0 a1 M
/-! BoardMachineModel$Core.immediateB()J -/
noncomputable def BX98_immediateB_0 (f0 : Nat → Int64 → FM → Option (Int64 × FM)) (f1 : Nat → Int32 → Int32 → FM → Option (Int32 × FM)) (a0 : Nat) (M : FM) : Option (Int64 × FM) :=
  fi (fm_is M 94 94 a0 = true) (
  (f0 a0 (Int64.ofInt 4096) M).bind fun r1 =>
  fi (fm_is r1.2 94 94 a0 = true) (
  (f1 a0 (Int32.ofInt 7) (Int32.ofInt 7) r1.2).bind fun r2 =>
  fi (fm_is r2.2 94 94 a0 = true) (
  (f1 a0 (Int32.ofInt 30) (Int32.ofInt 25) r2.2).bind fun r3 =>
  fi (fm_is r3.2 94 94 a0 = true) (
  (f1 a0 (Int32.ofInt 11) (Int32.ofInt 8) r3.2).bind fun r4 =>
  some ((((r1.1 + ((Int32.ofInt 2048) * r2.1).toInt64) + ((Int32.ofInt 32) * r3.1).toInt64) + ((Int32.ofInt 2) * r4.1).toInt64), r4.2)) none) none) none) none
noncomputable def FX98_immediateB_0 (n : Nat) (a0 : Nat) (M : FM) : Option (Int64 × FM) := BX98_immediateB_0 FX98_sign (FX98_bits n) a0 M
noncomputable def FX98_immediateB (n : Nat) (a0 : Nat) (M : FM) : Option (Int64 × FM) := FX98_immediateB_0 n a0 M
/-! BoardMachineModel$Core.go(J)I -/
noncomputable def BX98_go_0 (a0 : Nat) (a1 : Int64) (M : FM) : Option (Int32 × FM) :=
  fi (fm_is M 94 94 a0 = true) (
  let M1 : FM := fm_sL M 347 a0 0 a1
  fi (fm_is M1 94 94 a0 = true) (
  fi (fm_is M1 94 94 a0 = true) (
  let M2 : FM := fm_sL M1 348 a0 0 ((M1.2.1 348 a0 0) + (Int64.ofInt 1))
  some ((Int32.ofInt 0), M2)) none) none) none
noncomputable def FX98_go_0 (a0 : Nat) (a1 : Int64) (M : FM) : Option (Int32 × FM) := BX98_go_0 a0 a1 M
noncomputable def FX98_go (a0 : Nat) (a1 : Int64) (M : FM) : Option (Int32 × FM) := FX98_go_0 a0 a1 M
/-! BoardMachineModel$Core.branch(I)I -/
noncomputable def BX98_branch_132 (f2 : Nat → Int64 → FM → Option (Int32 × FM)) (s0 : Nat) (s1 : Int64) (M : FM) : Option (Int32 × FM) :=
  fi (fm_is M 94 94 s0 = true) (
  (f2 s0 s1 M).bind fun r1 =>
  some (r1.1, r1.2)) none
noncomputable def FX98_branch_132 (n : Nat) (s0 : Nat) (s1 : Int64) (M : FM) : Option (Int32 × FM) := BX98_branch_132 FX98_go s0 s1 M
noncomputable def BX98_branch_104 (f1 : Nat → FM → Option (Int64 × FM)) (g132 : Nat → Int64 → FM → Option (Int32 × FM)) (a0 : Nat) (s0 : Int32) (M : FM) : Option (Int32 × FM) :=
  fi (s0 = 0) (
    fi (fm_is M 94 94 a0 = true) (
    fi (fm_is M 94 94 a0 = true) (
    g132 a0 ((M.2.1 347 a0 0) + (M.1 350 a0 0).toInt64) M) none) none) (
    fi (fm_is M 94 94 a0 = true) (
    fi (fm_is M 94 94 a0 = true) (
    (f1 a0 M).bind fun r1 =>
    g132 a0 ((M.2.1 347 a0 0) + r1.1) r1.2) none) none)
noncomputable def FX98_branch_104 (n : Nat) (a0 : Nat) (s0 : Int32) (M : FM) : Option (Int32 × FM) := BX98_branch_104 (FX98_immediateB n) (FX98_branch_132 n ) a0 s0 M
noncomputable def BX98_branch_96 (g104 : Nat → Int32 → FM → Option (Int32 × FM)) (a0 : Nat) (s0 : Int32) (s1 : Int32) (M : FM) : Option (Int32 × FM) :=
  fi (s0 = s1) (
    g104 a0 (Int32.ofInt 1) M) (
    g104 a0 (Int32.ofInt 0) M)
noncomputable def FX98_branch_96 (n : Nat) (a0 : Nat) (s0 : Int32) (s1 : Int32) (M : FM) : Option (Int32 × FM) := BX98_branch_96 (FX98_branch_104 n ) a0 s0 s1 M
noncomputable def BX98_branch_91 (g96 : Nat → Int32 → Int32 → FM → Option (Int32 × FM)) (a0 : Nat) (s0 : Int32) (M : FM) : Option (Int32 × FM) :=
  g96 a0 s0 (Int32.ofInt 1) M
noncomputable def FX98_branch_91 (n : Nat) (a0 : Nat) (s0 : Int32) (M : FM) : Option (Int32 × FM) := BX98_branch_91 (FX98_branch_96 n ) a0 s0 M
noncomputable def BX98_branch_74 (g91 : Nat → Int32 → FM → Option (Int32 × FM)) (g96 : Nat → Int32 → Int32 → FM → Option (Int32 × FM)) (a0 : Nat) (a1 : Int32) (s0 : Int32) (M : FM) : Option (Int32 × FM) :=
  fi (a1 = 0) (
    g91 a0 s0 M) (
    fi (a1 = (Int32.ofInt 4)) (
      g91 a0 s0 M) (
      fi (a1 = (Int32.ofInt 6)) (
        g91 a0 s0 M) (
        g96 a0 s0 (Int32.ofInt 0) M)))
noncomputable def FX98_branch_74 (n : Nat) (a0 : Nat) (a1 : Int32) (s0 : Int32) (M : FM) : Option (Int32 × FM) := BX98_branch_74 (FX98_branch_91 n ) (FX98_branch_96 n ) a0 a1 s0 M
noncomputable def BX98_branch_10 (M : FM) : Option (Int32 × FM) :=
  some ((Int32.ofInt (-1)), M)
noncomputable def FX98_branch_10 (n : Nat) (M : FM) : Option (Int32 × FM) := BX98_branch_10 M
noncomputable def BX98_branch_0 (f0 : Int64 → Int64 → FM → Option (Int32 × FM)) (g10 : FM → Option (Int32 × FM)) (g74 : Nat → Int32 → Int32 → FM → Option (Int32 × FM)) (a0 : Nat) (a1 : Int32) (M : FM) : Option (Int32 × FM) :=
  fi (a1 = (Int32.ofInt 2)) (
    g10 M) (
    fi (a1 = (Int32.ofInt 3)) (
      g10 M) (
      fi ((Int32.ofInt 2) ≤ a1) (
        fi ((Int32.ofInt 6) ≤ a1) (
          fi (fm_is M 94 94 a0 = true) (
          fi (fm_is M 94 94 a0 = true) (
          (f0 (M.2.1 351 a0 0) (M.2.1 352 a0 0) M).bind fun r1 =>
          g74 a0 a1 r1.1 r1.2) none) none) (
          fi (fm_is M 94 94 a0 = true) (
          fi (fm_is M 94 94 a0 = true) (
          fi (0 ≤ (lg_cmp (M.2.1 351 a0 0) (M.2.1 352 a0 0))) (
            g74 a0 a1 (Int32.ofInt 0) M) (
            g74 a0 a1 (Int32.ofInt 1) M)) none) none)) (
        fi (fm_is M 94 94 a0 = true) (
        fi (fm_is M 94 94 a0 = true) (
        fi ((lg_cmp (M.2.1 351 a0 0) (M.2.1 352 a0 0)) = 0) (
          g74 a0 a1 (Int32.ofInt 1) M) (
          g74 a0 a1 (Int32.ofInt 0) M)) none) none)))
noncomputable def FX98_branch_0 (n : Nat) (a0 : Nat) (a1 : Int32) (M : FM) : Option (Int32 × FM) := BX98_branch_0 FX98_isLess (FX98_branch_10 n ) (FX98_branch_74 n ) a0 a1 M
noncomputable def FX98_branch (n : Nat) (a0 : Nat) (a1 : Int32) (M : FM) : Option (Int32 × FM) := FX98_branch_0 n a0 a1 M
/-! BoardMachineModel$Core.immediateI()J -/
noncomputable def BX98_immediateI_0 (f0 : Nat → Int64 → FM → Option (Int64 × FM)) (f1 : Nat → Int32 → Int32 → FM → Option (Int32 × FM)) (a0 : Nat) (M : FM) : Option (Int64 × FM) :=
  fi (fm_is M 94 94 a0 = true) (
  (f0 a0 (Int64.ofInt 2048) M).bind fun r1 =>
  fi (fm_is r1.2 94 94 a0 = true) (
  (f1 a0 (Int32.ofInt 30) (Int32.ofInt 20) r1.2).bind fun r2 =>
  some ((r1.1 + r2.1.toInt64), r2.2)) none) none
noncomputable def FX98_immediateI_0 (n : Nat) (a0 : Nat) (M : FM) : Option (Int64 × FM) := BX98_immediateI_0 FX98_sign (FX98_bits n) a0 M
noncomputable def FX98_immediateI (n : Nat) (a0 : Nat) (M : FM) : Option (Int64 × FM) := FX98_immediateI_0 n a0 M
/-! BoardMachineModel$Core.truth(Z)J -/
noncomputable def BX98_truth_9 (s0 : Int64) (M : FM) : Option (Int64 × FM) :=
  some (s0, M)
noncomputable def FX98_truth_9 (s0 : Int64) (M : FM) : Option (Int64 × FM) := BX98_truth_9 s0 M
noncomputable def BX98_truth_0 (g9 : Int64 → FM → Option (Int64 × FM)) (a0 : Int32) (M : FM) : Option (Int64 × FM) :=
  fi (a0 = 0) (
    g9 (Int64.ofInt 0) M) (
    g9 (Int64.ofInt 1) M)
noncomputable def FX98_truth_0 (a0 : Int32) (M : FM) : Option (Int64 × FM) := BX98_truth_0 FX98_truth_9 a0 M
noncomputable def FX98_truth (a0 : Int32) (M : FM) : Option (Int64 × FM) := FX98_truth_0 a0 M
/-! BoardMachineModel$Core.plain(IJJI)J -/
noncomputable def BX98_plain_64 (f1 : Int32 → FM → Option (Int64 × FM)) (s0 : Int32) (M : FM) : Option (Int64 × FM) :=
  (f1 s0 M).bind fun r1 =>
  some (r1.1, r1.2)
noncomputable def FX98_plain_64 (s0 : Int32) (M : FM) : Option (Int64 × FM) := BX98_plain_64 FX98_truth s0 M
noncomputable def BX98_plain_0 (f0 : Int64 → Int64 → FM → Option (Int32 × FM)) (f1 : Int32 → FM → Option (Int64 × FM)) (g64 : Int32 → FM → Option (Int64 × FM)) (a0 : Int32) (a1 : Int64) (a3 : Int64) (a5 : Int32) (M : FM) : Option (Int64 × FM) :=
  fi (a0 = (Int32.ofInt 0)) (
    some ((a1 + a3), M)) (
  fi (a0 = (Int32.ofInt 1)) (
    some ((a1 <<< (a5.toInt64 &&& 63)), M)) (
  fi (a0 = (Int32.ofInt 2)) (
    fi (0 ≤ (lg_cmp a1 a3)) (
      g64 (Int32.ofInt 0) M) (
      g64 (Int32.ofInt 1) M)) (
  fi (a0 = (Int32.ofInt 3)) (
    (f0 a1 a3 M).bind fun r1 =>
    (f1 r1.1 r1.2).bind fun r2 =>
    some (r2.1, r2.2)) (
  fi (a0 = (Int32.ofInt 4)) (
    some ((a1 ^^^ a3), M)) (
  fi (a0 = (Int32.ofInt 5)) (
    some ((a1.toUInt64 >>> (a5.toInt64.toUInt64 &&& Int64.toUInt64 63)).toInt64, M)) (
  fi (a0 = (Int32.ofInt 6)) (
    some ((a1 ||| a3), M)) (
  some ((a1 &&& a3), M))))))))
noncomputable def FX98_plain_0 (a0 : Int32) (a1 : Int64) (a3 : Int64) (a5 : Int32) (M : FM) : Option (Int64 × FM) := BX98_plain_0 FX98_isLess FX98_truth FX98_plain_64 a0 a1 a3 a5 M
noncomputable def FX98_plain (a0 : Int32) (a1 : Int64) (a3 : Int64) (a5 : Int32) (M : FM) : Option (Int64 × FM) := FX98_plain_0 a0 a1 a3 a5 M
/-! BoardMachineModel$Core.done(IJ)I -/
noncomputable def BX98_done_0 (f0 : Nat → Int32 → Int64 → FM → Option (FM)) (a0 : Nat) (a1 : Int32) (a2 : Int64) (M : FM) : Option (Int32 × FM) :=
  fi (fm_is M 94 94 a0 = true) (
  (f0 a0 a1 a2 M).bind fun M1 =>
  fi (fm_is M1 94 94 a0 = true) (
  fi (fm_is M1 94 94 a0 = true) (
  fi (fm_is M1 94 94 a0 = true) (
  let M2 : FM := fm_sL M1 347 a0 0 ((M1.2.1 347 a0 0) + (M1.1 350 a0 0).toInt64)
  fi (fm_is M2 94 94 a0 = true) (
  fi (fm_is M2 94 94 a0 = true) (
  let M3 : FM := fm_sL M2 348 a0 0 ((M2.2.1 348 a0 0) + (Int64.ofInt 1))
  some ((Int32.ofInt 0), M3)) none) none) none) none) none) none
noncomputable def FX98_done_0 (a0 : Nat) (a1 : Int32) (a2 : Int64) (M : FM) : Option (Int32 × FM) := BX98_done_0 FX98_put a0 a1 a2 M
noncomputable def FX98_done (a0 : Nat) (a1 : Int32) (a2 : Int64) (M : FM) : Option (Int32 × FM) := FX98_done_0 a0 a1 a2 M
/-! BoardMachineModel$Core.withImmediate(II)I -/
noncomputable def BX98_withImmediate_82 (f3 : Nat → Int32 → Int64 → FM → Option (Int32 × FM)) (s0 : Nat) (s1 : Int32) (s2 : Int64) (M : FM) : Option (Int32 × FM) :=
  fi (fm_is M 94 94 s0 = true) (
  (f3 s0 s1 s2 M).bind fun r1 =>
  some (r1.1, r1.2)) none
noncomputable def FX98_withImmediate_82 (n : Nat) (s0 : Nat) (s1 : Int32) (s2 : Int64) (M : FM) : Option (Int32 × FM) := BX98_withImmediate_82 FX98_done s0 s1 s2 M
noncomputable def BX98_withImmediate_68 (f1 : Nat → FM → Option (Int64 × FM)) (f2 : Int32 → Int64 → Int64 → Int32 → FM → Option (Int64 × FM)) (g82 : Nat → Int32 → Int64 → FM → Option (Int32 × FM)) (a0 : Nat) (a2 : Int32) (a4 : Int32) (s0 : Nat) (s1 : Int32) (M : FM) : Option (Int32 × FM) :=
  fi (fm_is M 94 94 a0 = true) (
  fi (fm_is M 94 94 a0 = true) (
  (f1 a0 M).bind fun r1 =>
  (f2 a2 (M.2.1 351 a0 0) r1.1 a4 r1.2).bind fun r2 =>
  g82 s0 s1 r2.1 r2.2) none) none
noncomputable def FX98_withImmediate_68 (n : Nat) (a0 : Nat) (a2 : Int32) (a4 : Int32) (s0 : Nat) (s1 : Int32) (M : FM) : Option (Int32 × FM) := BX98_withImmediate_68 (FX98_immediateI n) FX98_plain (FX98_withImmediate_82 n ) a0 a2 a4 s0 s1 M
noncomputable def BX98_withImmediate_35 (f0 : Nat → Int32 → Int32 → FM → Option (Int32 × FM)) (g68 : Nat → Int32 → Int32 → Nat → Int32 → FM → Option (Int32 × FM)) (g82 : Nat → Int32 → Int64 → FM → Option (Int32 × FM)) (a0 : Nat) (a1 : Int32) (a2 : Int32) (a3 : Int32) (M : FM) : Option (Int32 × FM) :=
  fi (fm_is M 94 94 a0 = true) (
  (f0 a0 (Int32.ofInt 25) (Int32.ofInt 20) M).bind fun r1 =>
  fi (a2 = (Int32.ofInt 5)) (
    fi (a3 = (Int32.ofInt 16)) (
      fi (fm_is r1.2 94 94 a0 = true) (
      g82 a0 a1 ((r1.2.2.1 351 a0 0) >>> (r1.1.toInt64 &&& 63)) r1.2) none) (
      g68 a0 a2 r1.1 a0 a1 r1.2)) (
    g68 a0 a2 r1.1 a0 a1 r1.2)) none
noncomputable def FX98_withImmediate_35 (n : Nat) (a0 : Nat) (a1 : Int32) (a2 : Int32) (a3 : Int32) (M : FM) : Option (Int32 × FM) := BX98_withImmediate_35 (FX98_bits n) (FX98_withImmediate_68 n ) (FX98_withImmediate_82 n ) a0 a1 a2 a3 M
noncomputable def BX98_withImmediate_33 (M : FM) : Option (Int32 × FM) :=
  some ((Int32.ofInt (-1)), M)
noncomputable def FX98_withImmediate_33 (n : Nat) (M : FM) : Option (Int32 × FM) := BX98_withImmediate_33 M
noncomputable def BX98_withImmediate_18 (g33 : FM → Option (Int32 × FM)) (g35 : Nat → Int32 → Int32 → Int32 → FM → Option (Int32 × FM)) (a0 : Nat) (a1 : Int32) (a2 : Int32) (a3 : Int32) (M : FM) : Option (Int32 × FM) :=
  fi (a2 = (Int32.ofInt 5)) (
    fi (a3 = 0) (
      g35 a0 a1 a2 a3 M) (
      fi (a3 = (Int32.ofInt 16)) (
        g35 a0 a1 a2 a3 M) (
        g33 M))) (
    g35 a0 a1 a2 a3 M)
noncomputable def FX98_withImmediate_18 (n : Nat) (a0 : Nat) (a1 : Int32) (a2 : Int32) (a3 : Int32) (M : FM) : Option (Int32 × FM) := BX98_withImmediate_18 (FX98_withImmediate_33 n ) (FX98_withImmediate_35 n ) a0 a1 a2 a3 M
noncomputable def BX98_withImmediate_0 (f0 : Nat → Int32 → Int32 → FM → Option (Int32 × FM)) (g18 : Nat → Int32 → Int32 → Int32 → FM → Option (Int32 × FM)) (g33 : FM → Option (Int32 × FM)) (a0 : Nat) (a1 : Int32) (a2 : Int32) (M : FM) : Option (Int32 × FM) :=
  fi (fm_is M 94 94 a0 = true) (
  (f0 a0 (Int32.ofInt 31) (Int32.ofInt 26) M).bind fun r1 =>
  fi (a2 = (Int32.ofInt 1)) (
    fi (r1.1 = 0) (
      g18 a0 a1 a2 r1.1 r1.2) (
      g33 r1.2)) (
    g18 a0 a1 a2 r1.1 r1.2)) none
noncomputable def FX98_withImmediate_0 (n : Nat) (a0 : Nat) (a1 : Int32) (a2 : Int32) (M : FM) : Option (Int32 × FM) := BX98_withImmediate_0 (FX98_bits n) (FX98_withImmediate_18 n ) (FX98_withImmediate_33 n ) a0 a1 a2 M
noncomputable def FX98_withImmediate (n : Nat) (a0 : Nat) (a1 : Int32) (a2 : Int32) (M : FM) : Option (Int32 × FM) := FX98_withImmediate_0 n a0 a1 a2 M
/-! BoardMachineModel$Core.immediateU()J -/
noncomputable def BX98_immediateU_0 (f0 : Nat → Int64 → FM → Option (Int64 × FM)) (f1 : Nat → Int32 → Int32 → FM → Option (Int32 × FM)) (a0 : Nat) (M : FM) : Option (Int64 × FM) :=
  fi (fm_is M 94 94 a0 = true) (
  (f0 a0 (Int64.ofInt 2147483648) M).bind fun r1 =>
  fi (fm_is r1.2 94 94 a0 = true) (
  (f1 a0 (Int32.ofInt 30) (Int32.ofInt 12) r1.2).bind fun r2 =>
  some ((r1.1 + ((Int64.ofInt 4096) * r2.1.toInt64)), r2.2)) none) none
noncomputable def FX98_immediateU_0 (n : Nat) (a0 : Nat) (M : FM) : Option (Int64 × FM) := BX98_immediateU_0 FX98_sign (FX98_bits n) a0 M
noncomputable def FX98_immediateU (n : Nat) (a0 : Nat) (M : FM) : Option (Int64 × FM) := FX98_immediateU_0 n a0 M
/-! BoardMachineModel$Core.power(I)J -/
noncomputable def BX98_power_33 (s0 : Int64) (M : FM) : Option (Int64 × FM) :=
  some (s0, M)
noncomputable def FX98_power_33 (s0 : Int64) (M : FM) : Option (Int64 × FM) := BX98_power_33 s0 M
noncomputable def BX98_power_0 (g33 : Int64 → FM → Option (Int64 × FM)) (a0 : Int32) (M : FM) : Option (Int64 × FM) :=
  fi (a0 = 0) (
    g33 (Int64.ofInt 1) M) (
    fi (a0 = (Int32.ofInt 1)) (
      g33 (Int64.ofInt 2) M) (
      fi (a0 = (Int32.ofInt 2)) (
        g33 (Int64.ofInt 4) M) (
        g33 (Int64.ofInt 8) M)))
noncomputable def FX98_power_0 (a0 : Int32) (M : FM) : Option (Int64 × FM) := BX98_power_0 FX98_power_33 a0 M
noncomputable def FX98_power (a0 : Int32) (M : FM) : Option (Int64 × FM) := FX98_power_0 a0 M
/-! BoardMachineModel$Core.want(IJJJJI)I -/
noncomputable def BX98_want_0 (a0 : Nat) (a1 : Int32) (a2 : Int64) (a4 : Int64) (a6 : Int64) (a8 : Int64) (a10 : Int32) (M : FM) : Option (Int32 × FM) :=
  fi (fm_is M 94 94 a0 = true) (
  let M1 : FM := fm_sI M 353 a0 0 a1
  fi (fm_is M1 94 94 a0 = true) (
  fi (fm_is M1 94 94 a0 = true) (
  let M2 : FM := fm_sI M1 354 a0 0 (M1.1 350 a0 0)
  fi (fm_is M2 94 94 a0 = true) (
  let x3 : Nat := (M2.2.2 355 a0 0)
  fi (fm_is M2 902 902 x3 = true ∧ fm_in M2 x3 (Int32.ofInt 0) = true) (
  let M4 : FM := fm_sL M2 3 x3 (Int32.ofInt 0).toNatClampNeg a2
  fi (fm_is M4 94 94 a0 = true) (
  let x5 : Nat := (M4.2.2 355 a0 0)
  fi (fm_is M4 902 902 x5 = true ∧ fm_in M4 x5 (Int32.ofInt 1) = true) (
  let M6 : FM := fm_sL M4 3 x5 (Int32.ofInt 1).toNatClampNeg a4
  fi (fm_is M6 94 94 a0 = true) (
  let x7 : Nat := (M6.2.2 355 a0 0)
  fi (fm_is M6 902 902 x7 = true ∧ fm_in M6 x7 (Int32.ofInt 2) = true) (
  let M8 : FM := fm_sL M6 3 x7 (Int32.ofInt 2).toNatClampNeg a6
  fi (fm_is M8 94 94 a0 = true) (
  let x9 : Nat := (M8.2.2 355 a0 0)
  fi (fm_is M8 902 902 x9 = true ∧ fm_in M8 x9 (Int32.ofInt 3) = true) (
  let M10 : FM := fm_sL M8 3 x9 (Int32.ofInt 3).toNatClampNeg a8
  fi (fm_is M10 94 94 a0 = true) (
  let x11 : Nat := (M10.2.2 355 a0 0)
  fi (fm_is M10 902 902 x11 = true ∧ fm_in M10 x11 (Int32.ofInt 4) = true) (
  let M12 : FM := fm_sL M10 3 x11 (Int32.ofInt 4).toNatClampNeg a10.toInt64
  some (a1, M12)) none) none) none) none) none) none) none) none) none) none) none) none) none
noncomputable def FX98_want_0 (a0 : Nat) (a1 : Int32) (a2 : Int64) (a4 : Int64) (a6 : Int64) (a8 : Int64) (a10 : Int32) (M : FM) : Option (Int32 × FM) := BX98_want_0 a0 a1 a2 a4 a6 a8 a10 M
noncomputable def FX98_want (a0 : Nat) (a1 : Int32) (a2 : Int64) (a4 : Int64) (a6 : Int64) (a8 : Int64) (a10 : Int32) (M : FM) : Option (Int32 × FM) := FX98_want_0 a0 a1 a2 a4 a6 a8 a10 M
/-! BoardMachineModel$Core.atomic(II)I -/
noncomputable def BX98_atomic_96 (s0 : Int32) (M : FM) : Option (Int32 × FM) :=
  some (s0, M)
noncomputable def FX98_atomic_96 (n : Nat) (s0 : Int32) (M : FM) : Option (Int32 × FM) := BX98_atomic_96 s0 M
noncomputable def BX98_atomic_95 (g96 : Int32 → FM → Option (Int32 × FM)) (M : FM) : Option (Int32 × FM) :=
  g96 (Int32.ofInt (-1)) M
noncomputable def FX98_atomic_95 (n : Nat) (M : FM) : Option (Int32 × FM) := BX98_atomic_95 (FX98_atomic_96 n ) M
noncomputable def BX98_atomic_72 (f1 : Int32 → FM → Option (Int64 × FM)) (f2 : Nat → Int32 → Int64 → Int64 → Int64 → Int64 → Int32 → FM → Option (Int32 × FM)) (g96 : Int32 → FM → Option (Int32 × FM)) (a0 : Nat) (a1 : Int32) (a2 : Int32) (a3 : Int32) (M : FM) : Option (Int32 × FM) :=
  fi (fm_is M 94 94 a0 = true) (
  (f1 a2 M).bind fun r1 =>
  fi (fm_is r1.2 94 94 a0 = true) (
  fi (fm_is r1.2 94 94 a0 = true) (
  (f2 a0 (Int32.ofInt 4) (M.2.1 351 a0 0) r1.1 (r1.2.2.1 352 a0 0) a3.toInt64 a1 r1.2).bind fun r2 =>
  g96 r2.1 r2.2) none) none) none
noncomputable def FX98_atomic_72 (n : Nat) (a0 : Nat) (a1 : Int32) (a2 : Int32) (a3 : Int32) (M : FM) : Option (Int32 × FM) := BX98_atomic_72 FX98_power FX98_want (FX98_atomic_96 n ) a0 a1 a2 a3 M
noncomputable def BX98_atomic_55 (g72 : Nat → Int32 → Int32 → Int32 → FM → Option (Int32 × FM)) (g95 : FM → Option (Int32 × FM)) (a0 : Nat) (a1 : Int32) (a2 : Int32) (a3 : Int32) (s0 : Int32) (M : FM) : Option (Int32 × FM) :=
  fi (s0 = 0) (
    g95 M) (
    fi (a2 = (Int32.ofInt 2)) (
      g72 a0 a1 a2 a3 M) (
      fi (a2 = (Int32.ofInt 3)) (
        g72 a0 a1 a2 a3 M) (
        g95 M)))
noncomputable def FX98_atomic_55 (n : Nat) (a0 : Nat) (a1 : Int32) (a2 : Int32) (a3 : Int32) (s0 : Int32) (M : FM) : Option (Int32 × FM) := BX98_atomic_55 (FX98_atomic_72 n ) (FX98_atomic_95 n ) a0 a1 a2 a3 s0 M
noncomputable def BX98_atomic_54 (g55 : Nat → Int32 → Int32 → Int32 → Int32 → FM → Option (Int32 × FM)) (a0 : Nat) (a1 : Int32) (a2 : Int32) (a3 : Int32) (M : FM) : Option (Int32 × FM) :=
  g55 a0 a1 a2 a3 (Int32.ofInt 0) M
noncomputable def FX98_atomic_54 (n : Nat) (a0 : Nat) (a1 : Int32) (a2 : Int32) (a3 : Int32) (M : FM) : Option (Int32 × FM) := BX98_atomic_54 (FX98_atomic_55 n ) a0 a1 a2 a3 M
noncomputable def BX98_atomic_30 (g55 : Nat → Int32 → Int32 → Int32 → Int32 → FM → Option (Int32 × FM)) (a0 : Nat) (a1 : Int32) (a2 : Int32) (a3 : Int32) (M : FM) : Option (Int32 × FM) :=
  g55 a0 a1 a2 a3 (Int32.ofInt 1) M
noncomputable def FX98_atomic_30 (n : Nat) (a0 : Nat) (a1 : Int32) (a2 : Int32) (a3 : Int32) (M : FM) : Option (Int32 × FM) := BX98_atomic_30 (FX98_atomic_55 n ) a0 a1 a2 a3 M
noncomputable def BX98_atomic_0 (f0 : Nat → Int32 → Int32 → FM → Option (Int32 × FM)) (g30 : Nat → Int32 → Int32 → Int32 → FM → Option (Int32 × FM)) (g54 : Nat → Int32 → Int32 → Int32 → FM → Option (Int32 × FM)) (g55 : Nat → Int32 → Int32 → Int32 → Int32 → FM → Option (Int32 × FM)) (a0 : Nat) (a1 : Int32) (a2 : Int32) (M : FM) : Option (Int32 × FM) :=
  fi (fm_is M 94 94 a0 = true) (
  (f0 a0 (Int32.ofInt 31) (Int32.ofInt 27) M).bind fun r1 =>
  fi ((Int32.ofInt 5) ≤ r1.1) (
    fi ((Int32.ofInt 4) = 0) none (
    fi ((r1.1 - r1.1 / (Int32.ofInt 4) * (Int32.ofInt 4)) = 0) (
      fi ((Int32.ofInt 29) ≤ r1.1) (
        g54 a0 a1 a2 r1.1 r1.2) (
        g55 a0 a1 a2 r1.1 (Int32.ofInt 1) r1.2)) (
      g54 a0 a1 a2 r1.1 r1.2))) (
    fi (r1.1 = (Int32.ofInt 2)) (
      fi (fm_is r1.2 94 94 a0 = true) (
      (f0 a0 (Int32.ofInt 24) (Int32.ofInt 20) r1.2).bind fun r2 =>
      fi (r2.1 = 0) (
        g30 a0 a1 a2 r1.1 r2.2) (
        g55 a0 a1 a2 r1.1 (Int32.ofInt 0) r2.2)) none) (
      g30 a0 a1 a2 r1.1 r1.2))) none
noncomputable def FX98_atomic_0 (n : Nat) (a0 : Nat) (a1 : Int32) (a2 : Int32) (M : FM) : Option (Int32 × FM) := BX98_atomic_0 (FX98_bits n) (FX98_atomic_30 n ) (FX98_atomic_54 n ) (FX98_atomic_55 n ) a0 a1 a2 M
noncomputable def FX98_atomic (n : Nat) (a0 : Nat) (a1 : Int32) (a2 : Int32) (M : FM) : Option (Int32 × FM) := FX98_atomic_0 n a0 a1 a2 M
/-! BoardMachineModel$Core.control(II)I -/
noncomputable def BX98_control_41 (f1 : Nat → Int32 → Int64 → Int64 → Int64 → Int64 → Int32 → FM → Option (Int32 × FM)) (a1 : Int32) (a2 : Int32) (s0 : Nat) (s1 : Int32) (s2 : Int64) (s3 : Int64) (s4 : Int64) (M : FM) : Option (Int32 × FM) :=
  fi (fm_is M 94 94 s0 = true) (
  (f1 s0 s1 s2 s3 s4 a2.toInt64 a1 M).bind fun r1 =>
  some (r1.1, r1.2)) none
noncomputable def FX98_control_41 (n : Nat) (a1 : Int32) (a2 : Int32) (s0 : Nat) (s1 : Int32) (s2 : Int64) (s3 : Int64) (s4 : Int64) (M : FM) : Option (Int32 × FM) := BX98_control_41 FX98_want a1 a2 s0 s1 s2 s3 s4 M
noncomputable def BX98_control_0 (f0 : Nat → Int32 → Int32 → FM → Option (Int32 × FM)) (g41 : Int32 → Int32 → Nat → Int32 → Int64 → Int64 → Int64 → FM → Option (Int32 × FM)) (a0 : Nat) (a1 : Int32) (a2 : Int32) (M : FM) : Option (Int32 × FM) :=
  fi (a2 = (Int32.ofInt 4)) (
    some ((Int32.ofInt (-1)), M)) (
    fi (fm_is M 94 94 a0 = true) (
    (f0 a0 (Int32.ofInt 31) (Int32.ofInt 20) M).bind fun r1 =>
    fi (a2 ≤ (Int32.ofInt 4)) (
      fi (fm_is r1.2 94 94 a0 = true) (
      g41 a1 a2 a0 (Int32.ofInt 6) r1.1.toInt64 (Int64.ofInt 0) (r1.2.2.1 351 a0 0) r1.2) none) (
      fi (fm_is r1.2 94 94 a0 = true) (
      (f0 a0 (Int32.ofInt 19) (Int32.ofInt 15) r1.2).bind fun r2 =>
      g41 a1 a2 a0 (Int32.ofInt 6) r1.1.toInt64 (Int64.ofInt 0) r2.1.toInt64 r2.2) none)) none)
noncomputable def FX98_control_0 (n : Nat) (a0 : Nat) (a1 : Int32) (a2 : Int32) (M : FM) : Option (Int32 × FM) := BX98_control_0 (FX98_bits n) (FX98_control_41 n ) a0 a1 a2 M
noncomputable def FX98_control (n : Nat) (a0 : Nat) (a1 : Int32) (a2 : Int32) (M : FM) : Option (Int32 × FM) := FX98_control_0 n a0 a1 a2 M
/-! BoardMachineModel$Core.immediateS()J -/
noncomputable def BX98_immediateS_0 (f0 : Nat → Int64 → FM → Option (Int64 × FM)) (f1 : Nat → Int32 → Int32 → FM → Option (Int32 × FM)) (a0 : Nat) (M : FM) : Option (Int64 × FM) :=
  fi (fm_is M 94 94 a0 = true) (
  (f0 a0 (Int64.ofInt 2048) M).bind fun r1 =>
  fi (fm_is r1.2 94 94 a0 = true) (
  (f1 a0 (Int32.ofInt 30) (Int32.ofInt 25) r1.2).bind fun r2 =>
  fi (fm_is r2.2 94 94 a0 = true) (
  (f1 a0 (Int32.ofInt 11) (Int32.ofInt 7) r2.2).bind fun r3 =>
  some (((r1.1 + ((Int32.ofInt 32) * r2.1).toInt64) + r3.1.toInt64), r3.2)) none) none) none
noncomputable def FX98_immediateS_0 (n : Nat) (a0 : Nat) (M : FM) : Option (Int64 × FM) := BX98_immediateS_0 FX98_sign (FX98_bits n) a0 M
noncomputable def FX98_immediateS (n : Nat) (a0 : Nat) (M : FM) : Option (Int64 × FM) := FX98_immediateS_0 n a0 M
/-! BoardMachineModel$Core.others(III)I -/
noncomputable def BX98_others_286 (f5 : Nat → Int32 → Int64 → Int64 → Int64 → Int64 → Int32 → FM → Option (Int32 × FM)) (a0 : Nat) (a1 : Int32) (a2 : Int32) (M : FM) : Option (Int32 × FM) :=
  fi (fm_is M 94 94 a0 = true) (
  fi (fm_is M 94 94 a0 = true) (
  (f5 a0 (Int32.ofInt 5) (Int64.ofInt 0) (Int64.ofInt 0) (M.2.1 351 a0 0) a1.toInt64 a2 M).bind fun r1 =>
  some (r1.1, r1.2)) none) none
noncomputable def FX98_others_286 (n : Nat) (a0 : Nat) (a1 : Int32) (a2 : Int32) (M : FM) : Option (Int32 × FM) := BX98_others_286 FX98_want a0 a1 a2 M
noncomputable def BX98_others_285 (s0 : Int32) (M : FM) : Option (Int32 × FM) :=
  some (s0, M)
noncomputable def FX98_others_285 (n : Nat) (s0 : Int32) (M : FM) : Option (Int32 × FM) := BX98_others_285 s0 M
noncomputable def BX98_others_258 (f4 : Nat → FM → Option (Int64 × FM)) (f5 : Nat → Int32 → Int64 → Int64 → Int64 → Int64 → Int32 → FM → Option (Int32 × FM)) (f6 : Int32 → FM → Option (Int64 × FM)) (g285 : Int32 → FM → Option (Int32 × FM)) (a0 : Nat) (a3 : Int32) (M : FM) : Option (Int32 × FM) :=
  fi (fm_is M 94 94 a0 = true) (
  fi (fm_is M 94 94 a0 = true) (
  (f4 a0 M).bind fun r1 =>
  (f6 a3 r1.2).bind fun r2 =>
  fi (fm_is r2.2 94 94 a0 = true) (
  (f5 a0 (Int32.ofInt 5) ((M.2.1 351 a0 0) + r1.1) r2.1 (Int64.ofInt 0) (Int64.ofInt 39) (Int32.ofInt 0) r2.2).bind fun r3 =>
  g285 r3.1 r3.2) none) none) none
noncomputable def FX98_others_258 (n : Nat) (a0 : Nat) (a3 : Int32) (M : FM) : Option (Int32 × FM) := BX98_others_258 (FX98_immediateS n) FX98_want FX98_power (FX98_others_285 n ) a0 a3 M
noncomputable def BX98_others_247 (s0 : Int32) (M : FM) : Option (Int32 × FM) :=
  some (s0, M)
noncomputable def FX98_others_247 (n : Nat) (s0 : Int32) (M : FM) : Option (Int32 × FM) := BX98_others_247 s0 M
noncomputable def BX98_others_220 (f3 : Nat → FM → Option (Int64 × FM)) (f5 : Nat → Int32 → Int64 → Int64 → Int64 → Int64 → Int32 → FM → Option (Int32 × FM)) (f6 : Int32 → FM → Option (Int64 × FM)) (g247 : Int32 → FM → Option (Int32 × FM)) (a0 : Nat) (a2 : Int32) (a3 : Int32) (M : FM) : Option (Int32 × FM) :=
  fi (fm_is M 94 94 a0 = true) (
  fi (fm_is M 94 94 a0 = true) (
  (f3 a0 M).bind fun r1 =>
  (f6 a3 r1.2).bind fun r2 =>
  fi (fm_is r2.2 94 94 a0 = true) (
  (f5 a0 (Int32.ofInt 5) ((M.2.1 351 a0 0) + r1.1) r2.1 (Int64.ofInt 0) (Int64.ofInt 7) a2 r2.2).bind fun r3 =>
  g247 r3.1 r3.2) none) none) none
noncomputable def FX98_others_220 (n : Nat) (a0 : Nat) (a2 : Int32) (a3 : Int32) (M : FM) : Option (Int32 × FM) := BX98_others_220 (FX98_immediateI n) FX98_want FX98_power (FX98_others_247 n ) a0 a2 a3 M
noncomputable def BX98_others_202 (s0 : Int32) (M : FM) : Option (Int32 × FM) :=
  some (s0, M)
noncomputable def FX98_others_202 (n : Nat) (s0 : Int32) (M : FM) : Option (Int32 × FM) := BX98_others_202 s0 M
noncomputable def BX98_others_168 (s0 : Int32) (M : FM) : Option (Int32 × FM) :=
  some (s0, M)
noncomputable def FX98_others_168 (n : Nat) (s0 : Int32) (M : FM) : Option (Int32 × FM) := BX98_others_168 s0 M
noncomputable def BX98_others_160 (f5 : Nat → Int32 → Int64 → Int64 → Int64 → Int64 → Int32 → FM → Option (Int32 × FM)) (g168 : Int32 → FM → Option (Int32 × FM)) (a2 : Int32) (s0 : Nat) (s1 : Int32) (s2 : Int64) (s3 : Int64) (s4 : Int64) (s5 : Int64) (M : FM) : Option (Int32 × FM) :=
  fi (fm_is M 94 94 s0 = true) (
  (f5 s0 s1 s2 s3 s4 s5 a2 M).bind fun r1 =>
  g168 r1.1 r1.2) none
noncomputable def FX98_others_160 (n : Nat) (a2 : Int32) (s0 : Nat) (s1 : Int32) (s2 : Int64) (s3 : Int64) (s4 : Int64) (s5 : Int64) (M : FM) : Option (Int32 × FM) := BX98_others_160 FX98_want (FX98_others_168 n ) a2 s0 s1 s2 s3 s4 s5 M
noncomputable def BX98_others_125 (s0 : Int32) (M : FM) : Option (Int32 × FM) :=
  some (s0, M)
noncomputable def FX98_others_125 (n : Nat) (s0 : Int32) (M : FM) : Option (Int32 × FM) := BX98_others_125 s0 M
noncomputable def BX98_others_0 (f0 : Nat → Int32 → Int32 → FM → Option (Int32 × FM)) (f1 : Nat → Int32 → Int32 → FM → Option (Int32 × FM)) (f2 : Nat → Int32 → Int64 → FM → Option (Int32 × FM)) (f3 : Nat → FM → Option (Int64 × FM)) (f4 : Nat → FM → Option (Int64 × FM)) (f5 : Nat → Int32 → Int64 → Int64 → Int64 → Int64 → Int32 → FM → Option (Int32 × FM)) (f6 : Int32 → FM → Option (Int64 × FM)) (g125 : Int32 → FM → Option (Int32 × FM)) (g160 : Int32 → Nat → Int32 → Int64 → Int64 → Int64 → Int64 → FM → Option (Int32 × FM)) (g168 : Int32 → FM → Option (Int32 × FM)) (g202 : Int32 → FM → Option (Int32 × FM)) (g220 : Nat → Int32 → Int32 → FM → Option (Int32 × FM)) (g247 : Int32 → FM → Option (Int32 × FM)) (g258 : Nat → Int32 → FM → Option (Int32 × FM)) (g285 : Int32 → FM → Option (Int32 × FM)) (g286 : Nat → Int32 → Int32 → FM → Option (Int32 × FM)) (a0 : Nat) (a1 : Int32) (a2 : Int32) (a3 : Int32) (M : FM) : Option (Int32 × FM) :=
  fi (a1 = (Int32.ofInt 3)) (
    fi ((Int32.ofInt 7) ≤ a3) (
      g168 (Int32.ofInt (-1)) M) (
      fi (fm_is M 94 94 a0 = true) (
      fi (fm_is M 94 94 a0 = true) (
      (f3 a0 M).bind fun r1 =>
      fi ((Int32.ofInt 4) = 0) none (
      (f6 (a3 - a3 / (Int32.ofInt 4) * (Int32.ofInt 4)) r1.2).bind fun r2 =>
      fi (a3 ≤ (Int32.ofInt 3)) (
        g160 a2 a0 (Int32.ofInt 2) ((M.2.1 351 a0 0) + r1.1) r2.1 (Int64.ofInt 0) (Int64.ofInt 0) r2.2) (
        g160 a2 a0 (Int32.ofInt 2) ((M.2.1 351 a0 0) + r1.1) r2.1 (Int64.ofInt 0) (Int64.ofInt 1) r2.2))) none) none)) (
  fi (a1 = (Int32.ofInt 7)) (
    fi (a3 = (Int32.ofInt 2)) (
      g220 a0 a2 a3 M) (
      fi (a3 = (Int32.ofInt 3)) (
        g220 a0 a2 a3 M) (
        g247 (Int32.ofInt (-1)) M))) (
  fi (a1 = (Int32.ofInt 15)) (
    fi ((Int32.ofInt 2) ≤ a3) (
      g125 (Int32.ofInt (-1)) M) (
      fi (fm_is M 94 94 a0 = true) (
      (f2 a0 (Int32.ofInt 0) (Int64.ofInt 0) M).bind fun r3 =>
      g125 (r3.1 + (Int32.ofInt 1)) r3.2) none)) (
  fi (a1 = (Int32.ofInt 35)) (
    fi ((Int32.ofInt 4) ≤ a3) (
      g202 (Int32.ofInt (-1)) M) (
      fi (fm_is M 94 94 a0 = true) (
      fi (fm_is M 94 94 a0 = true) (
      (f4 a0 M).bind fun r4 =>
      (f6 a3 r4.2).bind fun r5 =>
      fi (fm_is r5.2 94 94 a0 = true) (
      fi (fm_is r5.2 94 94 a0 = true) (
      (f5 a0 (Int32.ofInt 3) ((M.2.1 351 a0 0) + r4.1) r5.1 (r5.2.2.1 352 a0 0) (Int64.ofInt 0) (Int32.ofInt 0) r5.2).bind fun r6 =>
      g202 r6.1 r6.2) none) none) none) none)) (
  fi (a1 = (Int32.ofInt 39)) (
    fi (a3 = (Int32.ofInt 2)) (
      g258 a0 a3 M) (
      fi (a3 = (Int32.ofInt 3)) (
        g258 a0 a3 M) (
        g285 (Int32.ofInt (-1)) M))) (
  fi (a1 = (Int32.ofInt 47)) (
    fi (fm_is M 94 94 a0 = true) (
    (f0 a0 a2 a3 M).bind fun r7 =>
    some (r7.1, r7.2)) none) (
  fi (a1 = (Int32.ofInt 67)) (
    g286 a0 a1 a2 M) (
  fi (a1 = (Int32.ofInt 71)) (
    g286 a0 a1 a2 M) (
  fi (a1 = (Int32.ofInt 75)) (
    g286 a0 a1 a2 M) (
  fi (a1 = (Int32.ofInt 79)) (
    g286 a0 a1 a2 M) (
  fi (a1 = (Int32.ofInt 83)) (
    g286 a0 a1 a2 M) (
  fi (a1 = (Int32.ofInt 115)) (
    fi (fm_is M 94 94 a0 = true) (
    (f1 a0 a2 a3 M).bind fun r8 =>
    some (r8.1, r8.2)) none) (
  some ((Int32.ofInt (-1)), M)))))))))))))
noncomputable def FX98_others_0 (n : Nat) (a0 : Nat) (a1 : Int32) (a2 : Int32) (a3 : Int32) (M : FM) : Option (Int32 × FM) := BX98_others_0 (FX98_atomic n) (FX98_control n) FX98_done (FX98_immediateI n) (FX98_immediateS n) FX98_want FX98_power (FX98_others_125 n ) (FX98_others_160 n ) (FX98_others_168 n ) (FX98_others_202 n ) (FX98_others_220 n ) (FX98_others_247 n ) (FX98_others_258 n ) (FX98_others_285 n ) (FX98_others_286 n ) a0 a1 a2 a3 M
noncomputable def FX98_others (n : Nat) (a0 : Nat) (a1 : Int32) (a2 : Int32) (a3 : Int32) (M : FM) : Option (Int32 × FM) := FX98_others_0 n a0 a1 a2 a3 M
/-! BoardMachineModel$Core.intImmediate(III)I -/
noncomputable def BX98_intImmediate_99 (f2 : Nat → Int32 → Int64 → FM → Option (Int32 × FM)) (s0 : Nat) (s1 : Int32) (s2 : Int64) (M : FM) : Option (Int32 × FM) :=
  fi (fm_is M 94 94 s0 = true) (
  (f2 s0 s1 s2 M).bind fun r1 =>
  some (r1.1, r1.2)) none
noncomputable def FX98_intImmediate_99 (n : Nat) (s0 : Nat) (s1 : Int32) (s2 : Int64) (M : FM) : Option (Int32 × FM) := BX98_intImmediate_99 FX98_done s0 s1 s2 M
noncomputable def BX98_intImmediate_72 (g99 : Nat → Int32 → Int64 → FM → Option (Int32 × FM)) (a0 : Nat) (a1 : Int32) (a3 : Int32) (a4 : Int32) (M : FM) : Option (Int32 × FM) :=
  fi (a3 = 0) (
    fi (fm_is M 94 94 a0 = true) (
    g99 a0 a1 (((((M.2.1 351 a0 0).toInt32).toUInt32 >>> (a4.toUInt32 &&& Int32.toUInt32 31)).toInt32).toInt64) M) none) (
    fi (fm_is M 94 94 a0 = true) (
    g99 a0 a1 (((M.2.1 351 a0 0).toInt32 >>> (a4 &&& 31)).toInt64) M) none)
noncomputable def FX98_intImmediate_72 (n : Nat) (a0 : Nat) (a1 : Int32) (a3 : Int32) (a4 : Int32) (M : FM) : Option (Int32 × FM) := BX98_intImmediate_72 (FX98_intImmediate_99 n ) a0 a1 a3 a4 M
noncomputable def BX98_intImmediate_70 (M : FM) : Option (Int32 × FM) :=
  some ((Int32.ofInt (-1)), M)
noncomputable def FX98_intImmediate_70 (n : Nat) (M : FM) : Option (Int32 × FM) := BX98_intImmediate_70 M
noncomputable def BX98_intImmediate_55 (g70 : FM → Option (Int32 × FM)) (g72 : Nat → Int32 → Int32 → Int32 → FM → Option (Int32 × FM)) (a0 : Nat) (a1 : Int32) (a2 : Int32) (a3 : Int32) (a4 : Int32) (M : FM) : Option (Int32 × FM) :=
  fi (a2 = (Int32.ofInt 5)) (
    fi (a3 = 0) (
      g72 a0 a1 a3 a4 M) (
      fi (a3 = (Int32.ofInt 32)) (
        g72 a0 a1 a3 a4 M) (
        g70 M))) (
    g70 M)
noncomputable def FX98_intImmediate_55 (n : Nat) (a0 : Nat) (a1 : Int32) (a2 : Int32) (a3 : Int32) (a4 : Int32) (M : FM) : Option (Int32 × FM) := BX98_intImmediate_55 (FX98_intImmediate_70 n ) (FX98_intImmediate_72 n ) a0 a1 a2 a3 a4 M
noncomputable def BX98_intImmediate_0 (f0 : Nat → Int32 → Int32 → FM → Option (Int32 × FM)) (f1 : Nat → FM → Option (Int64 × FM)) (f2 : Nat → Int32 → Int64 → FM → Option (Int32 × FM)) (g55 : Nat → Int32 → Int32 → Int32 → Int32 → FM → Option (Int32 × FM)) (a0 : Nat) (a1 : Int32) (a2 : Int32) (a3 : Int32) (M : FM) : Option (Int32 × FM) :=
  fi (fm_is M 94 94 a0 = true) (
  (f0 a0 (Int32.ofInt 24) (Int32.ofInt 20) M).bind fun r1 =>
  fi (a2 = 0) (
    fi (fm_is r1.2 94 94 a0 = true) (
    fi (fm_is r1.2 94 94 a0 = true) (
    (f1 a0 r1.2).bind fun r2 =>
    fi (fm_is r2.2 94 94 a0 = true) (
    (f2 a0 a1 ((((r1.2.2.1 351 a0 0) + r2.1).toInt32).toInt64) r2.2).bind fun r3 =>
    some (r3.1, r3.2)) none) none) none) (
    fi (a2 = (Int32.ofInt 1)) (
      fi (a3 = 0) (
        fi (fm_is r1.2 94 94 a0 = true) (
        fi (fm_is r1.2 94 94 a0 = true) (
        (f2 a0 a1 ((((r1.2.2.1 351 a0 0) <<< (r1.1.toInt64 &&& 63)).toInt32).toInt64) r1.2).bind fun r4 =>
        some (r4.1, r4.2)) none) none) (
        g55 a0 a1 a2 a3 r1.1 r1.2)) (
      g55 a0 a1 a2 a3 r1.1 r1.2))) none
noncomputable def FX98_intImmediate_0 (n : Nat) (a0 : Nat) (a1 : Int32) (a2 : Int32) (a3 : Int32) (M : FM) : Option (Int32 × FM) := BX98_intImmediate_0 (FX98_bits n) (FX98_immediateI n) FX98_done (FX98_intImmediate_55 n ) a0 a1 a2 a3 M
noncomputable def FX98_intImmediate (n : Nat) (a0 : Nat) (a1 : Int32) (a2 : Int32) (a3 : Int32) (M : FM) : Option (Int32 × FM) := FX98_intImmediate_0 n a0 a1 a2 a3 M
/-! BoardMachineModel$Core.upper(JJ)J -/
noncomputable def BX98_upper_86 (k10 : Int64 → Int64 → Int64 → Int64 → Int32 → FM → Option (Int64 × FM)) (a0 : Int64) (a2 : Int64) (a4 : Int64) (a6 : Int64) (a8 : Int32) (M : FM) : Option (Int64 × FM) :=
  let x1 : Int32 := a8 + (Int32.ofInt (-1))
  k10 a0 a2 a4 a6 x1 M
noncomputable def FX98_upper_86 (n : Nat) (k10 : Int64 → Int64 → Int64 → Int64 → Int32 → FM → Option (Int64 × FM)) (a0 : Int64) (a2 : Int64) (a4 : Int64) (a6 : Int64) (a8 : Int32) (M : FM) : Option (Int64 × FM) := BX98_upper_86 k10 a0 a2 a4 a6 a8 M
noncomputable def BX98_upper_80 (g86 : Int64 → Int64 → Int64 → Int64 → Int32 → FM → Option (Int64 × FM)) (a0 : Int64) (a2 : Int64) (a8 : Int32) (a9 : Int64) (s0 : Int64) (M : FM) : Option (Int64 × FM) :=
  g86 a0 a2 s0 a9 a8 M
noncomputable def FX98_upper_80 (n : Nat) (k10 : Int64 → Int64 → Int64 → Int64 → Int32 → FM → Option (Int64 × FM)) (a0 : Int64) (a2 : Int64) (a8 : Int32) (a9 : Int64) (s0 : Int64) (M : FM) : Option (Int64 × FM) := BX98_upper_80 (FX98_upper_86 n k10) a0 a2 a8 a9 s0 M
noncomputable def BX98_upper_33 (f0 : Int64 → Int64 → FM → Option (Int32 × FM)) (g80 : Int64 → Int64 → Int32 → Int64 → Int64 → FM → Option (Int64 × FM)) (g86 : Int64 → Int64 → Int64 → Int64 → Int32 → FM → Option (Int64 × FM)) (a0 : Int64) (a2 : Int64) (a6 : Int64) (a8 : Int32) (s0 : Int64) (s1 : Int64) (M : FM) : Option (Int64 × FM) :=
  let x1 : Int64 := (s0 + s1)
  let x2 : Int64 := ((Int64.ofInt 2) * a6)
  fi ((lg_cmp ((a2 >>> (a8.toInt64 &&& 63)) &&& (Int64.ofInt 1)) (Int64.ofInt 1)) = 0) (
    let x3 : Int64 := (x2 + a0)
    (f0 x3 x2 M).bind fun r4 =>
    fi (r4.1 = 0) (
      g80 a0 a2 a8 x3 x1 r4.2) (
      g80 a0 a2 a8 x3 (x1 + (Int64.ofInt 1)) r4.2)) (
    g86 a0 a2 x1 x2 a8 M)
noncomputable def FX98_upper_33 (n : Nat) (k10 : Int64 → Int64 → Int64 → Int64 → Int32 → FM → Option (Int64 × FM)) (a0 : Int64) (a2 : Int64) (a6 : Int64) (a8 : Int32) (s0 : Int64) (s1 : Int64) (M : FM) : Option (Int64 × FM) := BX98_upper_33 FX98_isLess (FX98_upper_80 n k10) (FX98_upper_86 n k10) a0 a2 a6 a8 s0 s1 M
noncomputable def BX98_upper_10 (g33 : Int64 → Int64 → Int64 → Int32 → Int64 → Int64 → FM → Option (Int64 × FM)) (a0 : Int64) (a2 : Int64) (a4 : Int64) (a6 : Int64) (a8 : Int32) (M : FM) : Option (Int64 × FM) :=
  fi (a8 < 0) (
    some (a4, M)) (
    fi (0 ≤ (lg_cmp a6 (Int64.ofInt 0))) (
      g33 a0 a2 a6 a8 ((Int64.ofInt 2) * a4) (Int64.ofInt 0) M) (
      g33 a0 a2 a6 a8 ((Int64.ofInt 2) * a4) (Int64.ofInt 1) M))
noncomputable def FX98_upper_10 (n : Nat) (k10 : Int64 → Int64 → Int64 → Int64 → Int32 → FM → Option (Int64 × FM)) (a0 : Int64) (a2 : Int64) (a4 : Int64) (a6 : Int64) (a8 : Int32) (M : FM) : Option (Int64 × FM) := BX98_upper_10 (FX98_upper_33 n k10) a0 a2 a4 a6 a8 M
noncomputable def BX98_upper_0 (k10 : Int64 → Int64 → Int64 → Int64 → Int32 → FM → Option (Int64 × FM)) (a0 : Int64) (a2 : Int64) (M : FM) : Option (Int64 × FM) :=
  k10 a0 a2 (Int64.ofInt 0) (Int64.ofInt 0) (Int32.ofInt 63) M
noncomputable def FX98_upper_0 (n : Nat) (k10 : Int64 → Int64 → Int64 → Int64 → Int32 → FM → Option (Int64 × FM)) (a0 : Int64) (a2 : Int64) (M : FM) : Option (Int64 × FM) := BX98_upper_0 k10 a0 a2 M
noncomputable def FX98_upper_L10 (n : Nat) : Nat → Int64 → Int64 → Int64 → Int64 → Int32 → FM → Option (Int64 × FM)
  | 0 => fun _ _ _ _ _ _ => none
  | j + 1 => FX98_upper_10 n (FX98_upper_L10 n j)
noncomputable def FX98_upper (n : Nat) (a0 : Int64) (a2 : Int64) (M : FM) : Option (Int64 × FM) := FX98_upper_0 n (FX98_upper_L10 n n) a0 a2 M
/-! BoardMachineModel$Core.divide(JJ)V -/
noncomputable def BX98_divide_102 (k14 : Nat → Int64 → Int64 → Int32 → FM → Option (FM)) (a0 : Nat) (a1 : Int64) (a3 : Int64) (a5 : Int32) (M : FM) : Option (FM) :=
  let x1 : Int32 := a5 + (Int32.ofInt (-1))
  k14 a0 a1 a3 x1 M
noncomputable def FX98_divide_102 (n : Nat) (k14 : Nat → Int64 → Int64 → Int32 → FM → Option (FM)) (a0 : Nat) (a1 : Int64) (a3 : Int64) (a5 : Int32) (M : FM) : Option (FM) := BX98_divide_102 k14 a0 a1 a3 a5 M
noncomputable def BX98_divide_82 (g102 : Nat → Int64 → Int64 → Int32 → FM → Option (FM)) (a0 : Nat) (a1 : Int64) (a3 : Int64) (a5 : Int32) (M : FM) : Option (FM) :=
  fi (fm_is M 94 94 a0 = true) (
  fi (fm_is M 94 94 a0 = true) (
  let M1 : FM := fm_sL M 357 a0 0 ((M.2.1 357 a0 0) - a3)
  fi (fm_is M1 94 94 a0 = true) (
  fi (fm_is M1 94 94 a0 = true) (
  let M2 : FM := fm_sL M1 356 a0 0 ((M1.2.1 356 a0 0) + (Int64.ofInt 1))
  g102 a0 a1 a3 a5 M2) none) none) none) none
noncomputable def FX98_divide_82 (n : Nat) (k14 : Nat → Int64 → Int64 → Int32 → FM → Option (FM)) (a0 : Nat) (a1 : Int64) (a3 : Int64) (a5 : Int32) (M : FM) : Option (FM) := BX98_divide_82 (FX98_divide_102 n k14) a0 a1 a3 a5 M
noncomputable def BX98_divide_33 (f0 : Int64 → Int64 → FM → Option (Int32 × FM)) (g82 : Nat → Int64 → Int64 → Int32 → FM → Option (FM)) (g102 : Nat → Int64 → Int64 → Int32 → FM → Option (FM)) (a0 : Nat) (a1 : Int64) (a3 : Int64) (a5 : Int32) (s0 : Int32) (M : FM) : Option (FM) :=
  fi (fm_is M 94 94 a0 = true) (
  fi (fm_is M 94 94 a0 = true) (
  let M1 : FM := fm_sL M 357 a0 0 (((Int64.ofInt 2) * (M.2.1 357 a0 0)) + ((a1 >>> (a5.toInt64 &&& 63)) &&& (Int64.ofInt 1)))
  fi (fm_is M1 94 94 a0 = true) (
  fi (fm_is M1 94 94 a0 = true) (
  let M2 : FM := fm_sL M1 356 a0 0 ((Int64.ofInt 2) * (M1.2.1 356 a0 0))
  fi (s0 = 0) (
    fi (fm_is M2 94 94 a0 = true) (
    (f0 (M2.2.1 357 a0 0) a3 M2).bind fun r3 =>
    fi (r3.1 = 0) (
      g82 a0 a1 a3 a5 r3.2) (
      g102 a0 a1 a3 a5 r3.2)) none) (
    g82 a0 a1 a3 a5 M2)) none) none) none) none
noncomputable def FX98_divide_33 (n : Nat) (k14 : Nat → Int64 → Int64 → Int32 → FM → Option (FM)) (a0 : Nat) (a1 : Int64) (a3 : Int64) (a5 : Int32) (s0 : Int32) (M : FM) : Option (FM) := BX98_divide_33 FX98_isLess (FX98_divide_82 n k14) (FX98_divide_102 n k14) a0 a1 a3 a5 s0 M
noncomputable def BX98_divide_14 (g33 : Nat → Int64 → Int64 → Int32 → Int32 → FM → Option (FM)) (a0 : Nat) (a1 : Int64) (a3 : Int64) (a5 : Int32) (M : FM) : Option (FM) :=
  fi (a5 < 0) (
    some M) (
    fi (fm_is M 94 94 a0 = true) (
    fi (0 ≤ (lg_cmp (M.2.1 357 a0 0) (Int64.ofInt 0))) (
      g33 a0 a1 a3 a5 (Int32.ofInt 0) M) (
      g33 a0 a1 a3 a5 (Int32.ofInt 1) M)) none)
noncomputable def FX98_divide_14 (n : Nat) (k14 : Nat → Int64 → Int64 → Int32 → FM → Option (FM)) (a0 : Nat) (a1 : Int64) (a3 : Int64) (a5 : Int32) (M : FM) : Option (FM) := BX98_divide_14 (FX98_divide_33 n k14) a0 a1 a3 a5 M
noncomputable def BX98_divide_0 (k14 : Nat → Int64 → Int64 → Int32 → FM → Option (FM)) (a0 : Nat) (a1 : Int64) (a3 : Int64) (M : FM) : Option (FM) :=
  fi (fm_is M 94 94 a0 = true) (
  let M1 : FM := fm_sL M 356 a0 0 (Int64.ofInt 0)
  fi (fm_is M1 94 94 a0 = true) (
  let M2 : FM := fm_sL M1 357 a0 0 (Int64.ofInt 0)
  k14 a0 a1 a3 (Int32.ofInt 63) M2) none) none
noncomputable def FX98_divide_0 (n : Nat) (k14 : Nat → Int64 → Int64 → Int32 → FM → Option (FM)) (a0 : Nat) (a1 : Int64) (a3 : Int64) (M : FM) : Option (FM) := BX98_divide_0 k14 a0 a1 a3 M
noncomputable def FX98_divide_L14 (n : Nat) : Nat → Nat → Int64 → Int64 → Int32 → FM → Option (FM)
  | 0 => fun _ _ _ _ _ => none
  | j + 1 => FX98_divide_14 n (FX98_divide_L14 n j)
noncomputable def FX98_divide (n : Nat) (a0 : Nat) (a1 : Int64) (a3 : Int64) (M : FM) : Option (FM) := FX98_divide_0 n (FX98_divide_L14 n n) a0 a1 a3 M
/-! BoardMachineModel$Core.divideAll(JJZ)V -/
noncomputable def BX98_divideAll_122 (s0 : Nat) (s1 : Int64) (M : FM) : Option (FM) :=
  fi (fm_is M 94 94 s0 = true) (
  let M1 : FM := fm_sL M 357 s0 0 s1
  some M1) none
noncomputable def FX98_divideAll_122 (n : Nat) (s0 : Nat) (s1 : Int64) (M : FM) : Option (FM) := BX98_divideAll_122 s0 s1 M
noncomputable def BX98_divideAll_101 (g122 : Nat → Int64 → FM → Option (FM)) (a0 : Nat) (a6 : Int32) (s0 : Nat) (s1 : Int64) (M : FM) : Option (FM) :=
  fi (fm_is M 94 94 s0 = true) (
  let M1 : FM := fm_sL M 356 s0 0 s1
  fi (a6 = 0) (
    fi (fm_is M1 94 94 a0 = true) (
    g122 a0 (M1.2.1 357 a0 0) M1) none) (
    fi (fm_is M1 94 94 a0 = true) (
    g122 a0 (-(M1.2.1 357 a0 0)) M1) none)) none
noncomputable def FX98_divideAll_101 (n : Nat) (a0 : Nat) (a6 : Int32) (s0 : Nat) (s1 : Int64) (M : FM) : Option (FM) := BX98_divideAll_101 (FX98_divideAll_122 n ) a0 a6 s0 s1 M
noncomputable def BX98_divideAll_78 (f0 : Nat → Int64 → Int64 → FM → Option (FM)) (g101 : Nat → Int32 → Nat → Int64 → FM → Option (FM)) (a0 : Nat) (a6 : Int32) (a7 : Int32) (s0 : Nat) (s1 : Int64) (s2 : Int64) (M : FM) : Option (FM) :=
  fi (fm_is M 94 94 s0 = true) (
  (f0 s0 s1 s2 M).bind fun M1 =>
  fi (a6 = a7) (
    fi (fm_is M1 94 94 a0 = true) (
    g101 a0 a6 a0 (M1.2.1 356 a0 0) M1) none) (
    fi (fm_is M1 94 94 a0 = true) (
    g101 a0 a6 a0 (-(M1.2.1 356 a0 0)) M1) none)) none
noncomputable def FX98_divideAll_78 (n : Nat) (a0 : Nat) (a6 : Int32) (a7 : Int32) (s0 : Nat) (s1 : Int64) (s2 : Int64) (M : FM) : Option (FM) := BX98_divideAll_78 (FX98_divide n) (FX98_divideAll_101 n ) a0 a6 a7 s0 s1 s2 M
noncomputable def BX98_divideAll_67 (g78 : Nat → Int32 → Int32 → Nat → Int64 → Int64 → FM → Option (FM)) (a0 : Nat) (a3 : Int64) (a6 : Int32) (a7 : Int32) (s0 : Nat) (s1 : Int64) (M : FM) : Option (FM) :=
  fi (a7 = 0) (
    g78 a0 a6 a7 s0 s1 a3 M) (
    g78 a0 a6 a7 s0 s1 (-a3) M)
noncomputable def FX98_divideAll_67 (n : Nat) (a0 : Nat) (a3 : Int64) (a6 : Int32) (a7 : Int32) (s0 : Nat) (s1 : Int64) (M : FM) : Option (FM) := BX98_divideAll_67 (FX98_divideAll_78 n ) a0 a3 a6 a7 s0 s1 M
noncomputable def BX98_divideAll_53 (g67 : Nat → Int64 → Int32 → Int32 → Nat → Int64 → FM → Option (FM)) (a0 : Nat) (a1 : Int64) (a3 : Int64) (a6 : Int32) (s0 : Int32) (M : FM) : Option (FM) :=
  fi (a6 = 0) (
    g67 a0 a3 a6 s0 a0 a1 M) (
    g67 a0 a3 a6 s0 a0 (-a1) M)
noncomputable def FX98_divideAll_53 (n : Nat) (a0 : Nat) (a1 : Int64) (a3 : Int64) (a6 : Int32) (s0 : Int32) (M : FM) : Option (FM) := BX98_divideAll_53 (FX98_divideAll_67 n ) a0 a1 a3 a6 s0 M
noncomputable def BX98_divideAll_52 (g53 : Nat → Int64 → Int64 → Int32 → Int32 → FM → Option (FM)) (a0 : Nat) (a1 : Int64) (a3 : Int64) (a6 : Int32) (M : FM) : Option (FM) :=
  g53 a0 a1 a3 a6 (Int32.ofInt 0) M
noncomputable def FX98_divideAll_52 (n : Nat) (a0 : Nat) (a1 : Int64) (a3 : Int64) (a6 : Int32) (M : FM) : Option (FM) := BX98_divideAll_52 (FX98_divideAll_53 n ) a0 a1 a3 a6 M
noncomputable def BX98_divideAll_35 (g52 : Nat → Int64 → Int64 → Int32 → FM → Option (FM)) (g53 : Nat → Int64 → Int64 → Int32 → Int32 → FM → Option (FM)) (a0 : Nat) (a1 : Int64) (a3 : Int64) (a5 : Int32) (s0 : Int32) (M : FM) : Option (FM) :=
  fi (a5 = 0) (
    g52 a0 a1 a3 s0 M) (
    fi (0 ≤ (lg_cmp a3 (Int64.ofInt 0))) (
      g52 a0 a1 a3 s0 M) (
      g53 a0 a1 a3 s0 (Int32.ofInt 1) M))
noncomputable def FX98_divideAll_35 (n : Nat) (a0 : Nat) (a1 : Int64) (a3 : Int64) (a5 : Int32) (s0 : Int32) (M : FM) : Option (FM) := BX98_divideAll_35 (FX98_divideAll_52 n ) (FX98_divideAll_53 n ) a0 a1 a3 a5 s0 M
noncomputable def BX98_divideAll_34 (g35 : Nat → Int64 → Int64 → Int32 → Int32 → FM → Option (FM)) (a0 : Nat) (a1 : Int64) (a3 : Int64) (a5 : Int32) (M : FM) : Option (FM) :=
  g35 a0 a1 a3 a5 (Int32.ofInt 0) M
noncomputable def FX98_divideAll_34 (n : Nat) (a0 : Nat) (a1 : Int64) (a3 : Int64) (a5 : Int32) (M : FM) : Option (FM) := BX98_divideAll_34 (FX98_divideAll_35 n ) a0 a1 a3 a5 M
noncomputable def BX98_divideAll_0 (g34 : Nat → Int64 → Int64 → Int32 → FM → Option (FM)) (g35 : Nat → Int64 → Int64 → Int32 → Int32 → FM → Option (FM)) (a0 : Nat) (a1 : Int64) (a3 : Int64) (a5 : Int32) (M : FM) : Option (FM) :=
  fi ((lg_cmp a3 (Int64.ofInt 0)) = 0) (
    fi (fm_is M 94 94 a0 = true) (
    let M1 : FM := fm_sL M 356 a0 0 (Int64.ofInt (-1))
    fi (fm_is M1 94 94 a0 = true) (
    let M2 : FM := fm_sL M1 357 a0 0 a1
    some M2) none) none) (
    fi (a5 = 0) (
      g34 a0 a1 a3 a5 M) (
      fi (0 ≤ (lg_cmp a1 (Int64.ofInt 0))) (
        g34 a0 a1 a3 a5 M) (
        g35 a0 a1 a3 a5 (Int32.ofInt 1) M)))
noncomputable def FX98_divideAll_0 (n : Nat) (a0 : Nat) (a1 : Int64) (a3 : Int64) (a5 : Int32) (M : FM) : Option (FM) := BX98_divideAll_0 (FX98_divideAll_34 n ) (FX98_divideAll_35 n ) a0 a1 a3 a5 M
noncomputable def FX98_divideAll (n : Nat) (a0 : Nat) (a1 : Int64) (a3 : Int64) (a5 : Int32) (M : FM) : Option (FM) := FX98_divideAll_0 n a0 a1 a3 a5 M
/-! BoardMachineModel$Core.product(I)J -/
noncomputable def BX98_product_177 (s0 : Int64) (M : FM) : Option (Int64 × FM) :=
  some (s0, M)
noncomputable def FX98_product_177 (n : Nat) (s0 : Int64) (M : FM) : Option (Int64 × FM) := BX98_product_177 s0 M
noncomputable def BX98_product_157 (f1 : Nat → Int64 → Int64 → Int32 → FM → Option (FM)) (g177 : Int64 → FM → Option (Int64 × FM)) (a0 : Nat) (a1 : Int32) (s0 : Nat) (s1 : Int64) (s2 : Int64) (s3 : Int32) (M : FM) : Option (Int64 × FM) :=
  fi (fm_is M 94 94 s0 = true) (
  (f1 s0 s1 s2 s3 M).bind fun M1 =>
  fi ((Int32.ofInt 6) ≤ a1) (
    fi (fm_is M1 94 94 a0 = true) (
    g177 (M1.2.1 357 a0 0) M1) none) (
    fi (fm_is M1 94 94 a0 = true) (
    g177 (M1.2.1 356 a0 0) M1) none)) none
noncomputable def FX98_product_157 (n : Nat) (a0 : Nat) (a1 : Int32) (s0 : Nat) (s1 : Int64) (s2 : Int64) (s3 : Int32) (M : FM) : Option (Int64 × FM) := BX98_product_157 (FX98_divideAll n) (FX98_product_177 n ) a0 a1 s0 s1 s2 s3 M
noncomputable def BX98_product_152 (g157 : Nat → Int32 → Nat → Int64 → Int64 → Int32 → FM → Option (Int64 × FM)) (a0 : Nat) (a1 : Int32) (s0 : Nat) (s1 : Int64) (s2 : Int64) (M : FM) : Option (Int64 × FM) :=
  g157 a0 a1 s0 s1 s2 (Int32.ofInt 1) M
noncomputable def FX98_product_152 (n : Nat) (a0 : Nat) (a1 : Int32) (s0 : Nat) (s1 : Int64) (s2 : Int64) (M : FM) : Option (Int64 × FM) := BX98_product_152 (FX98_product_157 n ) a0 a1 s0 s1 s2 M
noncomputable def BX98_product_118 (s0 : Int64) (s1 : Int64) (M : FM) : Option (Int64 × FM) :=
  some ((s0 - s1), M)
noncomputable def FX98_product_118 (n : Nat) (s0 : Int64) (s1 : Int64) (M : FM) : Option (Int64 × FM) := BX98_product_118 s0 s1 M
noncomputable def BX98_product_88 (s0 : Int64) (s1 : Int64) (M : FM) : Option (Int64 × FM) :=
  some ((s0 - s1), M)
noncomputable def FX98_product_88 (n : Nat) (s0 : Int64) (s1 : Int64) (M : FM) : Option (Int64 × FM) := BX98_product_88 s0 s1 M
noncomputable def BX98_product_70 (g88 : Int64 → Int64 → FM → Option (Int64 × FM)) (a0 : Nat) (s0 : Int64) (s1 : Int64) (M : FM) : Option (Int64 × FM) :=
  fi (fm_is M 94 94 a0 = true) (
  fi (0 ≤ (lg_cmp (M.2.1 352 a0 0) (Int64.ofInt 0))) (
    g88 (s0 - s1) (Int64.ofInt 0) M) (
    fi (fm_is M 94 94 a0 = true) (
    g88 (s0 - s1) (M.2.1 351 a0 0) M) none)) none
noncomputable def FX98_product_70 (n : Nat) (a0 : Nat) (s0 : Int64) (s1 : Int64) (M : FM) : Option (Int64 × FM) := BX98_product_70 (FX98_product_88 n ) a0 s0 s1 M
noncomputable def BX98_product_0 (f0 : Int64 → Int64 → FM → Option (Int64 × FM)) (g70 : Nat → Int64 → Int64 → FM → Option (Int64 × FM)) (g118 : Int64 → Int64 → FM → Option (Int64 × FM)) (g152 : Nat → Int32 → Nat → Int64 → Int64 → FM → Option (Int64 × FM)) (g157 : Nat → Int32 → Nat → Int64 → Int64 → Int32 → FM → Option (Int64 × FM)) (a0 : Nat) (a1 : Int32) (M : FM) : Option (Int64 × FM) :=
  fi (a1 = (Int32.ofInt 0)) (
    fi (fm_is M 94 94 a0 = true) (
    fi (fm_is M 94 94 a0 = true) (
    some (((M.2.1 351 a0 0) * (M.2.1 352 a0 0)), M)) none) none) (
  fi (a1 = (Int32.ofInt 1)) (
    fi (fm_is M 94 94 a0 = true) (
    fi (fm_is M 94 94 a0 = true) (
    (f0 (M.2.1 351 a0 0) (M.2.1 352 a0 0) M).bind fun r1 =>
    fi (fm_is r1.2 94 94 a0 = true) (
    fi (0 ≤ (lg_cmp (r1.2.2.1 351 a0 0) (Int64.ofInt 0))) (
      g70 a0 r1.1 (Int64.ofInt 0) r1.2) (
      fi (fm_is r1.2 94 94 a0 = true) (
      g70 a0 r1.1 (r1.2.2.1 352 a0 0) r1.2) none)) none) none) none) (
  fi (a1 = (Int32.ofInt 2)) (
    fi (fm_is M 94 94 a0 = true) (
    fi (fm_is M 94 94 a0 = true) (
    (f0 (M.2.1 351 a0 0) (M.2.1 352 a0 0) M).bind fun r2 =>
    fi (fm_is r2.2 94 94 a0 = true) (
    fi (0 ≤ (lg_cmp (r2.2.2.1 351 a0 0) (Int64.ofInt 0))) (
      g118 r2.1 (Int64.ofInt 0) r2.2) (
      fi (fm_is r2.2 94 94 a0 = true) (
      g118 r2.1 (r2.2.2.1 352 a0 0) r2.2) none)) none) none) none) (
  fi (a1 = (Int32.ofInt 3)) (
    fi (fm_is M 94 94 a0 = true) (
    fi (fm_is M 94 94 a0 = true) (
    (f0 (M.2.1 351 a0 0) (M.2.1 352 a0 0) M).bind fun r3 =>
    some (r3.1, r3.2)) none) none) (
  fi (fm_is M 94 94 a0 = true) (
    fi (fm_is M 94 94 a0 = true) (
    fi (a1 = (Int32.ofInt 4)) (
      g152 a0 a1 a0 (M.2.1 351 a0 0) (M.2.1 352 a0 0) M) (
      fi (a1 = (Int32.ofInt 6)) (
        g152 a0 a1 a0 (M.2.1 351 a0 0) (M.2.1 352 a0 0) M) (
        g157 a0 a1 a0 (M.2.1 351 a0 0) (M.2.1 352 a0 0) (Int32.ofInt 0) M))) none) none))))
noncomputable def FX98_product_0 (n : Nat) (a0 : Nat) (a1 : Int32) (M : FM) : Option (Int64 × FM) := BX98_product_0 (FX98_upper n) (FX98_product_70 n ) (FX98_product_118 n ) (FX98_product_152 n ) (FX98_product_157 n ) a0 a1 M
noncomputable def FX98_product (n : Nat) (a0 : Nat) (a1 : Int32) (M : FM) : Option (Int64 × FM) := FX98_product_0 n a0 a1 M
/-! BoardMachineModel$Core.withRegister(III)I -/
noncomputable def BX98_withRegister_98 (s0 : Int32) (M : FM) : Option (Int32 × FM) :=
  some (s0, M)
noncomputable def FX98_withRegister_98 (n : Nat) (s0 : Int32) (M : FM) : Option (Int32 × FM) := BX98_withRegister_98 s0 M
noncomputable def BX98_withRegister_79 (f1 : Nat → Int32 → Int64 → FM → Option (Int32 × FM)) (f2 : Nat → Int32 → FM → Option (Int64 × FM)) (g98 : Int32 → FM → Option (Int32 × FM)) (a0 : Nat) (a1 : Int32) (a2 : Int32) (a3 : Int32) (M : FM) : Option (Int32 × FM) :=
  fi (a3 = (Int32.ofInt 1)) (
    fi (fm_is M 94 94 a0 = true) (
    (f2 a0 a2 M).bind fun r1 =>
    fi (fm_is r1.2 94 94 a0 = true) (
    (f1 a0 a1 r1.1 r1.2).bind fun r2 =>
    g98 r2.1 r2.2) none) none) (
    g98 (Int32.ofInt (-1)) M)
noncomputable def FX98_withRegister_79 (n : Nat) (a0 : Nat) (a1 : Int32) (a2 : Int32) (a3 : Int32) (M : FM) : Option (Int32 × FM) := BX98_withRegister_79 FX98_done (FX98_product n) (FX98_withRegister_98 n ) a0 a1 a2 a3 M
noncomputable def BX98_withRegister_75 (f1 : Nat → Int32 → Int64 → FM → Option (Int32 × FM)) (s0 : Nat) (s1 : Int32) (s2 : Int64) (M : FM) : Option (Int32 × FM) :=
  fi (fm_is M 94 94 s0 = true) (
  (f1 s0 s1 s2 M).bind fun r1 =>
  some (r1.1, r1.2)) none
noncomputable def FX98_withRegister_75 (n : Nat) (s0 : Nat) (s1 : Int32) (s2 : Int64) (M : FM) : Option (Int32 × FM) := BX98_withRegister_75 FX98_done s0 s1 s2 M
noncomputable def BX98_withRegister_50 (g75 : Nat → Int32 → Int64 → FM → Option (Int32 × FM)) (a0 : Nat) (a1 : Int32) (a2 : Int32) (a4 : Int32) (M : FM) : Option (Int32 × FM) :=
  fi (a2 = 0) (
    fi (fm_is M 94 94 a0 = true) (
    fi (fm_is M 94 94 a0 = true) (
    g75 a0 a1 ((M.2.1 351 a0 0) - (M.2.1 352 a0 0)) M) none) none) (
    fi (fm_is M 94 94 a0 = true) (
    g75 a0 a1 ((M.2.1 351 a0 0) >>> (a4.toInt64 &&& 63)) M) none)
noncomputable def FX98_withRegister_50 (n : Nat) (a0 : Nat) (a1 : Int32) (a2 : Int32) (a4 : Int32) (M : FM) : Option (Int32 × FM) := BX98_withRegister_50 (FX98_withRegister_75 n ) a0 a1 a2 a4 M
noncomputable def BX98_withRegister_0 (f0 : Int32 → Int64 → Int64 → Int32 → FM → Option (Int64 × FM)) (f1 : Nat → Int32 → Int64 → FM → Option (Int32 × FM)) (g50 : Nat → Int32 → Int32 → Int32 → FM → Option (Int32 × FM)) (g79 : Nat → Int32 → Int32 → Int32 → FM → Option (Int32 × FM)) (a0 : Nat) (a1 : Int32) (a2 : Int32) (a3 : Int32) (M : FM) : Option (Int32 × FM) :=
  fi (fm_is M 94 94 a0 = true) (
  let x1 : Int32 := ((M.2.1 352 a0 0) &&& (Int64.ofInt 63)).toInt32
  fi (a3 = 0) (
    fi (fm_is M 94 94 a0 = true) (
    fi (fm_is M 94 94 a0 = true) (
    (f0 a2 (M.2.1 351 a0 0) (M.2.1 352 a0 0) x1 M).bind fun r2 =>
    fi (fm_is r2.2 94 94 a0 = true) (
    (f1 a0 a1 r2.1 r2.2).bind fun r3 =>
    some (r3.1, r3.2)) none) none) none) (
    fi (a3 = (Int32.ofInt 32)) (
      fi (a2 = 0) (
        g50 a0 a1 a2 x1 M) (
        fi (a2 = (Int32.ofInt 5)) (
          g50 a0 a1 a2 x1 M) (
          g79 a0 a1 a2 a3 M))) (
      g79 a0 a1 a2 a3 M))) none
noncomputable def FX98_withRegister_0 (n : Nat) (a0 : Nat) (a1 : Int32) (a2 : Int32) (a3 : Int32) (M : FM) : Option (Int32 × FM) := BX98_withRegister_0 FX98_plain FX98_done (FX98_withRegister_50 n ) (FX98_withRegister_79 n ) a0 a1 a2 a3 M
noncomputable def FX98_withRegister (n : Nat) (a0 : Nat) (a1 : Int32) (a2 : Int32) (a3 : Int32) (M : FM) : Option (Int32 × FM) := FX98_withRegister_0 n a0 a1 a2 a3 M
/-! BoardMachineModel$Core.intProduct(II)I -/
noncomputable def BX98_intProduct_111 (f0 : Nat → Int32 → Int64 → FM → Option (Int32 × FM)) (s0 : Nat) (s1 : Int32) (s2 : Int64) (M : FM) : Option (Int32 × FM) :=
  fi (fm_is M 94 94 s0 = true) (
  (f0 s0 s1 s2.toInt32.toInt64 M).bind fun r1 =>
  some (r1.1, r1.2)) none
noncomputable def FX98_intProduct_111 (n : Nat) (s0 : Nat) (s1 : Int32) (s2 : Int64) (M : FM) : Option (Int32 × FM) := BX98_intProduct_111 FX98_done s0 s1 s2 M
noncomputable def BX98_intProduct_88 (f1 : Nat → Int64 → Int64 → Int32 → FM → Option (FM)) (g111 : Nat → Int32 → Int64 → FM → Option (Int32 × FM)) (a0 : Nat) (a1 : Int32) (a2 : Int32) (a3 : Int32) (s0 : Nat) (s1 : Int64) (s2 : Int64) (M : FM) : Option (Int32 × FM) :=
  fi (fm_is M 94 94 s0 = true) (
  (f1 s0 s1 s2 a3 M).bind fun M1 =>
  fi ((Int32.ofInt 6) ≤ a2) (
    fi (fm_is M1 94 94 a0 = true) (
    g111 a0 a1 (M1.2.1 357 a0 0) M1) none) (
    fi (fm_is M1 94 94 a0 = true) (
    g111 a0 a1 (M1.2.1 356 a0 0) M1) none)) none
noncomputable def FX98_intProduct_88 (n : Nat) (a0 : Nat) (a1 : Int32) (a2 : Int32) (a3 : Int32) (s0 : Nat) (s1 : Int64) (s2 : Int64) (M : FM) : Option (Int32 × FM) := BX98_intProduct_88 (FX98_divideAll n) (FX98_intProduct_111 n ) a0 a1 a2 a3 s0 s1 s2 M
noncomputable def BX98_intProduct_67 (g88 : Nat → Int32 → Int32 → Int32 → Nat → Int64 → Int64 → FM → Option (Int32 × FM)) (a0 : Nat) (a1 : Int32) (a2 : Int32) (a3 : Int32) (s0 : Nat) (s1 : Int64) (M : FM) : Option (Int32 × FM) :=
  fi (a3 = 0) (
    fi (fm_is M 94 94 a0 = true) (
    g88 a0 a1 a2 a3 s0 s1 ((M.2.1 352 a0 0) &&& (Int64.ofInt 4294967295)) M) none) (
    fi (fm_is M 94 94 a0 = true) (
    g88 a0 a1 a2 a3 s0 s1 (((M.2.1 352 a0 0).toInt32).toInt64) M) none)
noncomputable def FX98_intProduct_67 (n : Nat) (a0 : Nat) (a1 : Int32) (a2 : Int32) (a3 : Int32) (s0 : Nat) (s1 : Int64) (M : FM) : Option (Int32 × FM) := BX98_intProduct_67 (FX98_intProduct_88 n ) a0 a1 a2 a3 s0 s1 M
noncomputable def BX98_intProduct_44 (g67 : Nat → Int32 → Int32 → Int32 → Nat → Int64 → FM → Option (Int32 × FM)) (a0 : Nat) (a1 : Int32) (a2 : Int32) (s0 : Int32) (M : FM) : Option (Int32 × FM) :=
  fi (s0 = 0) (
    fi (fm_is M 94 94 a0 = true) (
    g67 a0 a1 a2 s0 a0 ((M.2.1 351 a0 0) &&& (Int64.ofInt 4294967295)) M) none) (
    fi (fm_is M 94 94 a0 = true) (
    g67 a0 a1 a2 s0 a0 (((M.2.1 351 a0 0).toInt32).toInt64) M) none)
noncomputable def FX98_intProduct_44 (n : Nat) (a0 : Nat) (a1 : Int32) (a2 : Int32) (s0 : Int32) (M : FM) : Option (Int32 × FM) := BX98_intProduct_44 (FX98_intProduct_67 n ) a0 a1 a2 s0 M
noncomputable def BX98_intProduct_39 (g44 : Nat → Int32 → Int32 → Int32 → FM → Option (Int32 × FM)) (a0 : Nat) (a1 : Int32) (a2 : Int32) (M : FM) : Option (Int32 × FM) :=
  g44 a0 a1 a2 (Int32.ofInt 1) M
noncomputable def FX98_intProduct_39 (n : Nat) (a0 : Nat) (a1 : Int32) (a2 : Int32) (M : FM) : Option (Int32 × FM) := BX98_intProduct_39 (FX98_intProduct_44 n ) a0 a1 a2 M
noncomputable def BX98_intProduct_0 (f0 : Nat → Int32 → Int64 → FM → Option (Int32 × FM)) (g39 : Nat → Int32 → Int32 → FM → Option (Int32 × FM)) (g44 : Nat → Int32 → Int32 → Int32 → FM → Option (Int32 × FM)) (a0 : Nat) (a1 : Int32) (a2 : Int32) (M : FM) : Option (Int32 × FM) :=
  fi (a2 = 0) (
    fi (fm_is M 94 94 a0 = true) (
    fi (fm_is M 94 94 a0 = true) (
    fi (fm_is M 94 94 a0 = true) (
    (f0 a0 a1 ((((M.2.1 351 a0 0) * (M.2.1 352 a0 0)).toInt32).toInt64) M).bind fun r1 =>
    some (r1.1, r1.2)) none) none) none) (
    fi ((Int32.ofInt 4) ≤ a2) (
      fi (a2 = (Int32.ofInt 4)) (
        g39 a0 a1 a2 M) (
        fi (a2 = (Int32.ofInt 6)) (
          g39 a0 a1 a2 M) (
          g44 a0 a1 a2 (Int32.ofInt 0) M))) (
      some ((Int32.ofInt (-1)), M)))
noncomputable def FX98_intProduct_0 (n : Nat) (a0 : Nat) (a1 : Int32) (a2 : Int32) (M : FM) : Option (Int32 × FM) := BX98_intProduct_0 FX98_done (FX98_intProduct_39 n ) (FX98_intProduct_44 n ) a0 a1 a2 M
noncomputable def FX98_intProduct (n : Nat) (a0 : Nat) (a1 : Int32) (a2 : Int32) (M : FM) : Option (Int32 × FM) := FX98_intProduct_0 n a0 a1 a2 M
/-! BoardMachineModel$Core.intRegister(III)I -/
noncomputable def BX98_intRegister_142 (s0 : Int32) (M : FM) : Option (Int32 × FM) :=
  some (s0, M)
noncomputable def FX98_intRegister_142 (n : Nat) (s0 : Int32) (M : FM) : Option (Int32 × FM) := BX98_intRegister_142 s0 M
noncomputable def BX98_intRegister_141 (g142 : Int32 → FM → Option (Int32 × FM)) (M : FM) : Option (Int32 × FM) :=
  g142 (Int32.ofInt (-1)) M
noncomputable def FX98_intRegister_141 (n : Nat) (M : FM) : Option (Int32 × FM) := BX98_intRegister_141 (FX98_intRegister_142 n ) M
noncomputable def BX98_intRegister_135 (f1 : Nat → Int32 → Int64 → FM → Option (Int32 × FM)) (g142 : Int32 → FM → Option (Int32 × FM)) (s0 : Nat) (s1 : Int32) (s2 : Int64) (M : FM) : Option (Int32 × FM) :=
  fi (fm_is M 94 94 s0 = true) (
  (f1 s0 s1 s2 M).bind fun r1 =>
  g142 r1.1 r1.2) none
noncomputable def FX98_intRegister_135 (n : Nat) (s0 : Nat) (s1 : Int32) (s2 : Int64) (M : FM) : Option (Int32 × FM) := BX98_intRegister_135 FX98_done (FX98_intRegister_142 n ) s0 s1 s2 M
noncomputable def BX98_intRegister_106 (g135 : Nat → Int32 → Int64 → FM → Option (Int32 × FM)) (a0 : Nat) (a1 : Int32) (a2 : Int32) (a4 : Int32) (M : FM) : Option (Int32 × FM) :=
  fi (a2 = 0) (
    fi (fm_is M 94 94 a0 = true) (
    fi (fm_is M 94 94 a0 = true) (
    g135 a0 a1 ((((M.2.1 351 a0 0) - (M.2.1 352 a0 0)).toInt32).toInt64) M) none) none) (
    fi (fm_is M 94 94 a0 = true) (
    g135 a0 a1 (((M.2.1 351 a0 0).toInt32 >>> (a4 &&& 31)).toInt64) M) none)
noncomputable def FX98_intRegister_106 (n : Nat) (a0 : Nat) (a1 : Int32) (a2 : Int32) (a4 : Int32) (M : FM) : Option (Int32 × FM) := BX98_intRegister_106 (FX98_intRegister_135 n ) a0 a1 a2 a4 M
noncomputable def BX98_intRegister_91 (g106 : Nat → Int32 → Int32 → Int32 → FM → Option (Int32 × FM)) (g141 : FM → Option (Int32 × FM)) (a0 : Nat) (a1 : Int32) (a2 : Int32) (a3 : Int32) (a4 : Int32) (M : FM) : Option (Int32 × FM) :=
  fi (a3 = (Int32.ofInt 32)) (
    fi (a2 = 0) (
      g106 a0 a1 a2 a4 M) (
      fi (a2 = (Int32.ofInt 5)) (
        g106 a0 a1 a2 a4 M) (
        g141 M))) (
    g141 M)
noncomputable def FX98_intRegister_91 (n : Nat) (a0 : Nat) (a1 : Int32) (a2 : Int32) (a3 : Int32) (a4 : Int32) (M : FM) : Option (Int32 × FM) := BX98_intRegister_91 (FX98_intRegister_106 n ) (FX98_intRegister_141 n ) a0 a1 a2 a3 a4 M
noncomputable def BX98_intRegister_87 (f1 : Nat → Int32 → Int64 → FM → Option (Int32 × FM)) (s0 : Nat) (s1 : Int32) (s2 : Int64) (M : FM) : Option (Int32 × FM) :=
  fi (fm_is M 94 94 s0 = true) (
  (f1 s0 s1 s2 M).bind fun r1 =>
  some (r1.1, r1.2)) none
noncomputable def FX98_intRegister_87 (n : Nat) (s0 : Nat) (s1 : Int32) (s2 : Int64) (M : FM) : Option (Int32 × FM) := BX98_intRegister_87 FX98_done s0 s1 s2 M
noncomputable def BX98_intRegister_41 (g87 : Nat → Int32 → Int64 → FM → Option (Int32 × FM)) (a0 : Nat) (a1 : Int32) (a2 : Int32) (a4 : Int32) (M : FM) : Option (Int32 × FM) :=
  fi (a2 = 0) (
    fi (fm_is M 94 94 a0 = true) (
    fi (fm_is M 94 94 a0 = true) (
    g87 a0 a1 ((((M.2.1 351 a0 0) + (M.2.1 352 a0 0)).toInt32).toInt64) M) none) none) (
    fi (a2 = (Int32.ofInt 1)) (
      fi (fm_is M 94 94 a0 = true) (
      g87 a0 a1 (((M.2.1 351 a0 0).toInt32 <<< (a4 &&& 31)).toInt64) M) none) (
      fi (fm_is M 94 94 a0 = true) (
      g87 a0 a1 (((((M.2.1 351 a0 0).toInt32).toUInt32 >>> (a4.toUInt32 &&& Int32.toUInt32 31)).toInt32).toInt64) M) none))
noncomputable def FX98_intRegister_41 (n : Nat) (a0 : Nat) (a1 : Int32) (a2 : Int32) (a4 : Int32) (M : FM) : Option (Int32 × FM) := BX98_intRegister_41 (FX98_intRegister_87 n ) a0 a1 a2 a4 M
noncomputable def BX98_intRegister_0 (f0 : Nat → Int32 → Int32 → FM → Option (Int32 × FM)) (g41 : Nat → Int32 → Int32 → Int32 → FM → Option (Int32 × FM)) (g91 : Nat → Int32 → Int32 → Int32 → Int32 → FM → Option (Int32 × FM)) (a0 : Nat) (a1 : Int32) (a2 : Int32) (a3 : Int32) (M : FM) : Option (Int32 × FM) :=
  fi (fm_is M 94 94 a0 = true) (
  let x1 : Int32 := ((M.2.1 352 a0 0) &&& (Int64.ofInt 31)).toInt32
  fi (a3 = (Int32.ofInt 1)) (
    fi (fm_is M 94 94 a0 = true) (
    (f0 a0 a1 a2 M).bind fun r2 =>
    some (r2.1, r2.2)) none) (
    fi (a3 = 0) (
      fi (a2 = 0) (
        g41 a0 a1 a2 x1 M) (
        fi (a2 = (Int32.ofInt 1)) (
          g41 a0 a1 a2 x1 M) (
          fi (a2 = (Int32.ofInt 5)) (
            g41 a0 a1 a2 x1 M) (
            g91 a0 a1 a2 a3 x1 M)))) (
      g91 a0 a1 a2 a3 x1 M))) none
noncomputable def FX98_intRegister_0 (n : Nat) (a0 : Nat) (a1 : Int32) (a2 : Int32) (a3 : Int32) (M : FM) : Option (Int32 × FM) := BX98_intRegister_0 (FX98_intProduct n) (FX98_intRegister_41 n ) (FX98_intRegister_91 n ) a0 a1 a2 a3 M
noncomputable def FX98_intRegister (n : Nat) (a0 : Nat) (a1 : Int32) (a2 : Int32) (a3 : Int32) (M : FM) : Option (Int32 × FM) := FX98_intRegister_0 n a0 a1 a2 a3 M
/-! BoardMachineModel$Core.immediateJ()J -/
noncomputable def BX98_immediateJ_0 (f0 : Nat → Int64 → FM → Option (Int64 × FM)) (f1 : Nat → Int32 → Int32 → FM → Option (Int32 × FM)) (a0 : Nat) (M : FM) : Option (Int64 × FM) :=
  fi (fm_is M 94 94 a0 = true) (
  (f0 a0 (Int64.ofInt 1048576) M).bind fun r1 =>
  fi (fm_is r1.2 94 94 a0 = true) (
  (f1 a0 (Int32.ofInt 19) (Int32.ofInt 12) r1.2).bind fun r2 =>
  fi (fm_is r2.2 94 94 a0 = true) (
  (f1 a0 (Int32.ofInt 20) (Int32.ofInt 20) r2.2).bind fun r3 =>
  fi (fm_is r3.2 94 94 a0 = true) (
  (f1 a0 (Int32.ofInt 30) (Int32.ofInt 21) r3.2).bind fun r4 =>
  some ((((r1.1 + ((Int32.ofInt 4096) * r2.1).toInt64) + ((Int32.ofInt 2048) * r3.1).toInt64) + ((Int32.ofInt 2) * r4.1).toInt64), r4.2)) none) none) none) none
noncomputable def FX98_immediateJ_0 (n : Nat) (a0 : Nat) (M : FM) : Option (Int64 × FM) := BX98_immediateJ_0 FX98_sign (FX98_bits n) a0 M
noncomputable def FX98_immediateJ (n : Nat) (a0 : Nat) (M : FM) : Option (Int64 × FM) := FX98_immediateJ_0 n a0 M
/-! BoardMachineModel$Core.run(II)I -/
noncomputable def BX98_run_16 (f0 : Nat → Int32 → Int32 → FM → Option (Int32 × FM)) (f1 : Nat → Int32 → FM → Option (Int32 × FM)) (f2 : Nat → Int32 → Int32 → FM → Option (Int32 × FM)) (f3 : Nat → FM → Option (Int64 × FM)) (f4 : Nat → Int32 → Int64 → FM → Option (FM)) (f5 : Nat → Int32 → Int32 → Int32 → FM → Option (Int32 × FM)) (f6 : Nat → Int32 → Int32 → Int32 → FM → Option (Int32 × FM)) (f7 : Nat → Int32 → Int32 → Int32 → FM → Option (Int32 × FM)) (f8 : Nat → Int32 → Int64 → FM → Option (Int32 × FM)) (f9 : Nat → Int32 → Int32 → Int32 → FM → Option (Int32 × FM)) (f10 : Nat → FM → Option (Int64 × FM)) (f11 : Nat → FM → Option (Int64 × FM)) (f12 : Nat → Int64 → FM → Option (Int32 × FM)) (a0 : Nat) (a1 : Int32) (a2 : Int32) (s0 : Nat) (s1 : Int32) (M : FM) : Option (Int32 × FM) :=
  fi (fm_is M 94 94 s0 = true) (
  let M1 : FM := fm_sI M 345 s0 0 s1
  fi (fm_is M1 94 94 a0 = true) (
  fi ((M1.1 345 a0 0) ≤ 0) (
    fi (fm_is M1 94 94 a0 = true) (
    let M2 : FM := fm_sI M1 349 a0 0 a1
    fi (fm_is M2 94 94 a0 = true) (
    let M3 : FM := fm_sI M2 350 a0 0 a2
    fi (fm_is M3 94 94 a0 = true) (
    let M4 : FM := fm_sI M3 353 a0 0 (Int32.ofInt (-1))
    fi (fm_is M4 94 94 a0 = true) (
    (f0 a0 (Int32.ofInt 6) (Int32.ofInt 0) M4).bind fun r5 =>
    fi (fm_is r5.2 94 94 a0 = true) (
    (f0 a0 (Int32.ofInt 11) (Int32.ofInt 7) r5.2).bind fun r6 =>
    fi (fm_is r6.2 94 94 a0 = true) (
    (f0 a0 (Int32.ofInt 14) (Int32.ofInt 12) r6.2).bind fun r7 =>
    fi (fm_is r7.2 94 94 a0 = true) (
    (f0 a0 (Int32.ofInt 31) (Int32.ofInt 25) r7.2).bind fun r8 =>
    fi (fm_is r8.2 94 94 a0 = true) (
    fi (fm_is r8.2 94 94 a0 = true) (
    (f0 a0 (Int32.ofInt 19) (Int32.ofInt 15) r8.2).bind fun r9 =>
    let x10 : Nat := (r8.2.2.2 346 a0 0)
    fi (fm_is r9.2 902 902 x10 = true ∧ fm_in r9.2 x10 r9.1 = true) (
    fi (fm_is r9.2 94 94 a0 = true) (
    let M11 : FM := fm_sL r9.2 351 a0 0 (r9.2.2.1 3 x10 r9.1.toNatClampNeg)
    fi (fm_is M11 94 94 a0 = true) (
    fi (fm_is M11 94 94 a0 = true) (
    (f0 a0 (Int32.ofInt 24) (Int32.ofInt 20) M11).bind fun r12 =>
    let x13 : Nat := (M11.2.2 346 a0 0)
    fi (fm_is r12.2 902 902 x13 = true ∧ fm_in r12.2 x13 r12.1 = true) (
    fi (fm_is r12.2 94 94 a0 = true) (
    let M14 : FM := fm_sL r12.2 352 a0 0 (r12.2.2.1 3 x13 r12.1.toNatClampNeg)
    fi (fm_is M14 94 94 a0 = true) (
    fi (fm_is M14 94 94 a0 = true) (
    let x15 : Int64 := ((M14.2.1 347 a0 0) + (M14.1 350 a0 0).toInt64)
    fi (r5.1 = (Int32.ofInt 19)) (
      fi (fm_is M14 94 94 a0 = true) (
      (f2 a0 r6.1 r7.1 M14).bind fun r16 =>
      some (r16.1, r16.2)) none) (
    fi (r5.1 = (Int32.ofInt 23)) (
      fi (fm_is M14 94 94 a0 = true) (
      fi (fm_is M14 94 94 a0 = true) (
      (f3 a0 M14).bind fun r17 =>
      fi (fm_is r17.2 94 94 a0 = true) (
      (f8 a0 r6.1 ((M14.2.1 347 a0 0) + r17.1) r17.2).bind fun r18 =>
      some (r18.1, r18.2)) none) none) none) (
    fi (r5.1 = (Int32.ofInt 27)) (
      fi (fm_is M14 94 94 a0 = true) (
      (f6 a0 r6.1 r7.1 r8.1 M14).bind fun r19 =>
      some (r19.1, r19.2)) none) (
    fi (r5.1 = (Int32.ofInt 51)) (
      fi (fm_is M14 94 94 a0 = true) (
      (f7 a0 r6.1 r7.1 r8.1 M14).bind fun r20 =>
      some (r20.1, r20.2)) none) (
    fi (r5.1 = (Int32.ofInt 55)) (
      fi (fm_is M14 94 94 a0 = true) (
      (f3 a0 M14).bind fun r21 =>
      fi (fm_is r21.2 94 94 a0 = true) (
      (f8 a0 r6.1 r21.1 r21.2).bind fun r22 =>
      some (r22.1, r22.2)) none) none) (
    fi (r5.1 = (Int32.ofInt 59)) (
      fi (fm_is M14 94 94 a0 = true) (
      (f9 a0 r6.1 r7.1 r8.1 M14).bind fun r23 =>
      some (r23.1, r23.2)) none) (
    fi (r5.1 = (Int32.ofInt 99)) (
      fi (fm_is M14 94 94 a0 = true) (
      (f1 a0 r7.1 M14).bind fun r24 =>
      some (r24.1, r24.2)) none) (
    fi (r5.1 = (Int32.ofInt 103)) (
      fi (r7.1 = 0) (
        fi (fm_is M14 94 94 a0 = true) (
        (f4 a0 r6.1 x15 M14).bind fun M25 =>
        fi (fm_is M25 94 94 a0 = true) (
        fi (fm_is M25 94 94 a0 = true) (
        (f11 a0 M25).bind fun r26 =>
        fi (fm_is r26.2 94 94 a0 = true) (
        fi (fm_is r26.2 94 94 a0 = true) (
        (f11 a0 r26.2).bind fun r27 =>
        fi (fm_is r27.2 94 94 a0 = true) (
        (f12 a0 (((M25.2.1 351 a0 0) + r26.1) - (((r26.2.2.1 351 a0 0) + r27.1) &&& (Int64.ofInt 1))) r27.2).bind fun r28 =>
        some (r28.1, r28.2)) none) none) none) none) none) none) (
        some ((Int32.ofInt (-1)), M14))) (
    fi (r5.1 = (Int32.ofInt 111)) (
      fi (fm_is M14 94 94 a0 = true) (
      (f4 a0 r6.1 x15 M14).bind fun M29 =>
      fi (fm_is M29 94 94 a0 = true) (
      fi (fm_is M29 94 94 a0 = true) (
      (f10 a0 M29).bind fun r30 =>
      fi (fm_is r30.2 94 94 a0 = true) (
      (f12 a0 ((M29.2.1 347 a0 0) + r30.1) r30.2).bind fun r31 =>
      some (r31.1, r31.2)) none) none) none) none) (
    fi (fm_is M14 94 94 a0 = true) (
      (f5 a0 r5.1 r6.1 r7.1 M14).bind fun r32 =>
      some (r32.1, r32.2)) none)))))))))) none) none) none) none) none) none) none) none) none) none) none) none) none) none) none) none) none) (
    some ((Int32.ofInt 0), M1))) none) none
noncomputable def FX98_run_16 (n : Nat) (a0 : Nat) (a1 : Int32) (a2 : Int32) (s0 : Nat) (s1 : Int32) (M : FM) : Option (Int32 × FM) := BX98_run_16 (FX98_bits n) (FX98_branch n) (FX98_withImmediate n) (FX98_immediateU n) FX98_put (FX98_others n) (FX98_intImmediate n) (FX98_withRegister n) FX98_done (FX98_intRegister n) (FX98_immediateJ n) (FX98_immediateI n) FX98_go a0 a1 a2 s0 s1 M
noncomputable def BX98_run_11 (g16 : Nat → Int32 → Int32 → Nat → Int32 → FM → Option (Int32 × FM)) (a0 : Nat) (a1 : Int32) (a2 : Int32) (s0 : Nat) (M : FM) : Option (Int32 × FM) :=
  g16 a0 a1 a2 s0 (Int32.ofInt 0) M
noncomputable def FX98_run_11 (n : Nat) (a0 : Nat) (a1 : Int32) (a2 : Int32) (s0 : Nat) (M : FM) : Option (Int32 × FM) := BX98_run_11 (FX98_run_16 n ) a0 a1 a2 s0 M
noncomputable def BX98_run_0 (g11 : Nat → Int32 → Int32 → Nat → FM → Option (Int32 × FM)) (g16 : Nat → Int32 → Int32 → Nat → Int32 → FM → Option (Int32 × FM)) (a0 : Nat) (a1 : Int32) (a2 : Int32) (M : FM) : Option (Int32 × FM) :=
  fi (a2 = (Int32.ofInt 2)) (
    g11 a0 a1 a2 a0 M) (
    fi (a2 = (Int32.ofInt 4)) (
      g11 a0 a1 a2 a0 M) (
      g16 a0 a1 a2 a0 (Int32.ofInt 1) M))
noncomputable def FX98_run_0 (n : Nat) (a0 : Nat) (a1 : Int32) (a2 : Int32) (M : FM) : Option (Int32 × FM) := BX98_run_0 (FX98_run_11 n ) (FX98_run_16 n ) a0 a1 a2 M
noncomputable def FX98_run (n : Nat) (a0 : Nat) (a1 : Int32) (a2 : Int32) (M : FM) : Option (Int32 × FM) := FX98_run_0 n a0 a1 a2 M
/-! BoardMachineModel$Core.wanted(I)J -/
noncomputable def BX98_wanted_34 (s0 : Int64) (M : FM) : Option (Int64 × FM) :=
  some (s0, M)
noncomputable def FX98_wanted_34 (s0 : Int64) (M : FM) : Option (Int64 × FM) := BX98_wanted_34 s0 M
noncomputable def BX98_wanted_22 (g34 : Int64 → FM → Option (Int64 × FM)) (M : FM) : Option (Int64 × FM) :=
  g34 (Int64.ofInt (-1)) M
noncomputable def FX98_wanted_22 (M : FM) : Option (Int64 × FM) := BX98_wanted_22 FX98_wanted_34 M
noncomputable def BX98_wanted_0 (g22 : FM → Option (Int64 × FM)) (g34 : Int64 → FM → Option (Int64 × FM)) (a0 : Nat) (a1 : Int32) (M : FM) : Option (Int64 × FM) :=
  fi (fm_is M 94 94 a0 = true) (
  let M1 : FM := fm_sI M 345 a0 0 (Int32.ofInt 0)
  fi (fm_is M1 94 94 a0 = true) (
  fi ((M1.1 353 a0 0) = (Int32.ofInt (-1))) (
    g22 M1) (
    fi (a1 < 0) (
      g22 M1) (
      fi (a1 ≤ (Int32.ofInt 4)) (
        fi (fm_is M1 94 94 a0 = true) (
        let x2 : Nat := (M1.2.2 355 a0 0)
        fi (fm_is M1 902 902 x2 = true ∧ fm_in M1 x2 a1 = true) (
        g34 (M1.2.1 3 x2 a1.toNatClampNeg) M1) none) none) (
        g22 M1)))) none) none
noncomputable def FX98_wanted_0 (a0 : Nat) (a1 : Int32) (M : FM) : Option (Int64 × FM) := BX98_wanted_0 FX98_wanted_22 FX98_wanted_34 a0 a1 M
noncomputable def FX98_wanted (a0 : Nat) (a1 : Int32) (M : FM) : Option (Int64 × FM) := FX98_wanted_0 a0 a1 M
/-! BoardMachineModel$Desk.below()I -/
noncomputable def BX100_below_0 (f0 : Nat → Int32 → FM → Option (Int32 × FM)) (a0 : Nat) (M : FM) : Option (Int32 × FM) :=
  fi (fm_is M 95 95 a0 = true) (
  (f0 a0 (Int32.ofInt 11) M).bind fun r1 =>
  fi (fm_is r1.2 95 95 a0 = true) (
  (f0 a0 (Int32.ofInt 12) r1.2).bind fun r2 =>
  some ((r1.1 + ((Int32.ofInt 2) * r2.1)), r2.2)) none) none
noncomputable def FX100_below_0 (a0 : Nat) (M : FM) : Option (Int32 × FM) := BX100_below_0 FX100_status a0 M
noncomputable def FX100_below (a0 : Nat) (M : FM) : Option (Int32 × FM) := FX100_below_0 a0 M
/-! BoardMachineModel$Desk.dataMode()I -/
noncomputable def BX100_dataMode_26 (s0 : Int32) (M : FM) : Option (Int32 × FM) :=
  some (s0, M)
noncomputable def FX100_dataMode_26 (s0 : Int32) (M : FM) : Option (Int32 × FM) := BX100_dataMode_26 s0 M
noncomputable def BX100_dataMode_0 (f0 : Nat → Int32 → FM → Option (Int32 × FM)) (f1 : Nat → FM → Option (Int32 × FM)) (g26 : Int32 → FM → Option (Int32 × FM)) (a0 : Nat) (M : FM) : Option (Int32 × FM) :=
  fi (fm_is M 95 95 a0 = true) (
  let M1 : FM := fm_sI M 358 a0 0 (Int32.ofInt 0)
  fi (fm_is M1 95 95 a0 = true) (
  (f0 a0 (Int32.ofInt 17) M1).bind fun r2 =>
  fi (r2.1 = (Int32.ofInt 1)) (
    fi (fm_is r2.2 95 95 a0 = true) (
    (f1 a0 r2.2).bind fun r3 =>
    g26 r3.1 r3.2) none) (
    fi (fm_is r2.2 95 95 a0 = true) (
    g26 (r2.2.1 360 a0 0) r2.2) none)) none) none
noncomputable def FX100_dataMode_0 (a0 : Nat) (M : FM) : Option (Int32 × FM) := BX100_dataMode_0 FX100_status FX100_below FX100_dataMode_26 a0 M
noncomputable def FX100_dataMode (a0 : Nat) (M : FM) : Option (Int32 × FM) := FX100_dataMode_0 a0 M
/-! BoardMachineModel.baseOf(I)J -/
noncomputable def BX92_baseOf_46 (s0 : Int64) (M : FM) : Option (Int64 × FM) :=
  some (s0, M)
noncomputable def FX92_baseOf_46 (s0 : Int64) (M : FM) : Option (Int64 × FM) := BX92_baseOf_46 s0 M
noncomputable def BX92_baseOf_0 (g46 : Int64 → FM → Option (Int64 × FM)) (a0 : Int32) (M : FM) : Option (Int64 × FM) :=
  fi (a0 = 0) (
    g46 (Int64.ofInt 1048576) M) (
    fi (a0 = (Int32.ofInt 1)) (
      g46 (Int64.ofInt 33554432) M) (
      fi (a0 = (Int32.ofInt 2)) (
        g46 (Int64.ofInt 201326592) M) (
        fi (a0 = (Int32.ofInt 3)) (
          g46 (Int64.ofInt 268435456) M) (
          g46 (Int64.ofInt 268439552) M))))
noncomputable def FX92_baseOf_0 (a0 : Int32) (M : FM) : Option (Int64 × FM) := BX92_baseOf_0 FX92_baseOf_46 a0 M
noncomputable def FX92_baseOf (a0 : Int32) (M : FM) : Option (Int64 × FM) := FX92_baseOf_0 a0 M
/-! BoardMachineModel.windowOf(JI)I -/
noncomputable def BX92_windowOf_71 (k2 : Int64 → Int32 → Int32 → FM → Option (Int32 × FM)) (a0 : Int64) (a2 : Int32) (a3 : Int32) (M : FM) : Option (Int32 × FM) :=
  let x1 : Int32 := a3 + (Int32.ofInt 1)
  k2 a0 a2 x1 M
noncomputable def FX92_windowOf_71 (n : Nat) (k2 : Int64 → Int32 → Int32 → FM → Option (Int32 × FM)) (a0 : Int64) (a2 : Int32) (a3 : Int32) (M : FM) : Option (Int32 × FM) := BX92_windowOf_71 k2 a0 a2 a3 M
noncomputable def BX92_windowOf_64 (g71 : Int64 → Int32 → Int32 → FM → Option (Int32 × FM)) (a0 : Int64) (a2 : Int32) (a3 : Int32) (s0 : Int64) (s1 : Int64) (s2 : Int64) (M : FM) : Option (Int32 × FM) :=
  fi (0 < (lg_cmp s0 (s1 + s2))) (
    g71 a0 a2 a3 M) (
    some (a3, M))
noncomputable def FX92_windowOf_64 (n : Nat) (k2 : Int64 → Int32 → Int32 → FM → Option (Int32 × FM)) (a0 : Int64) (a2 : Int32) (a3 : Int32) (s0 : Int64) (s1 : Int64) (s2 : Int64) (M : FM) : Option (Int32 × FM) := BX92_windowOf_64 (FX92_windowOf_71 n k2) a0 a2 a3 s0 s1 s2 M
noncomputable def BX92_windowOf_33 (g64 : Int64 → Int32 → Int32 → Int64 → Int64 → Int64 → FM → Option (Int32 × FM)) (a0 : Int64) (a2 : Int32) (a3 : Int32) (s0 : Int64) (s1 : Int64) (M : FM) : Option (Int32 × FM) :=
  g64 a0 a2 a3 s0 s1 (Int64.ofInt 4096) M
noncomputable def FX92_windowOf_33 (n : Nat) (k2 : Int64 → Int32 → Int32 → FM → Option (Int32 × FM)) (a0 : Int64) (a2 : Int32) (a3 : Int32) (s0 : Int64) (s1 : Int64) (M : FM) : Option (Int32 × FM) := BX92_windowOf_33 (FX92_windowOf_64 n k2) a0 a2 a3 s0 s1 M
noncomputable def BX92_windowOf_2 (f0 : Int32 → FM → Option (Int64 × FM)) (g33 : Int64 → Int32 → Int32 → Int64 → Int64 → FM → Option (Int32 × FM)) (g64 : Int64 → Int32 → Int32 → Int64 → Int64 → Int64 → FM → Option (Int32 × FM)) (g71 : Int64 → Int32 → Int32 → FM → Option (Int32 × FM)) (a0 : Int64) (a2 : Int32) (a3 : Int32) (M : FM) : Option (Int32 × FM) :=
  fi ((Int32.ofInt 5) ≤ a3) (
    some ((Int32.ofInt (-1)), M)) (
    (f0 a3 M).bind fun r1 =>
    fi ((lg_cmp a0 r1.1) < 0) (
      g71 a0 a2 a3 r1.2) (
      (f0 a3 r1.2).bind fun r2 =>
      fi (a3 = 0) (
        g33 a0 a2 a3 (a0 + a2.toInt64) r2.1 r2.2) (
        fi (a3 = (Int32.ofInt 4)) (
          g33 a0 a2 a3 (a0 + a2.toInt64) r2.1 r2.2) (
          fi (a3 = (Int32.ofInt 1)) (
            g64 a0 a2 a3 (a0 + a2.toInt64) r2.1 (Int64.ofInt 65536) r2.2) (
            fi (a3 = (Int32.ofInt 2)) (
              g64 a0 a2 a3 (a0 + a2.toInt64) r2.1 (Int64.ofInt 4194304) r2.2) (
              g64 a0 a2 a3 (a0 + a2.toInt64) r2.1 (Int64.ofInt 256) r2.2))))))
noncomputable def FX92_windowOf_2 (n : Nat) (k2 : Int64 → Int32 → Int32 → FM → Option (Int32 × FM)) (a0 : Int64) (a2 : Int32) (a3 : Int32) (M : FM) : Option (Int32 × FM) := BX92_windowOf_2 FX92_baseOf (FX92_windowOf_33 n k2) (FX92_windowOf_64 n k2) (FX92_windowOf_71 n k2) a0 a2 a3 M
noncomputable def BX92_windowOf_0 (k2 : Int64 → Int32 → Int32 → FM → Option (Int32 × FM)) (a0 : Int64) (a2 : Int32) (M : FM) : Option (Int32 × FM) :=
  k2 a0 a2 (Int32.ofInt 0) M
noncomputable def FX92_windowOf_0 (n : Nat) (k2 : Int64 → Int32 → Int32 → FM → Option (Int32 × FM)) (a0 : Int64) (a2 : Int32) (M : FM) : Option (Int32 × FM) := BX92_windowOf_0 k2 a0 a2 M
noncomputable def FX92_windowOf_L2 (n : Nat) : Nat → Int64 → Int32 → Int32 → FM → Option (Int32 × FM)
  | 0 => fun _ _ _ _ => none
  | j + 1 => FX92_windowOf_2 n (FX92_windowOf_L2 n j)
noncomputable def FX92_windowOf (n : Nat) (a0 : Int64) (a2 : Int32) (M : FM) : Option (Int32 × FM) := FX92_windowOf_0 n (FX92_windowOf_L2 n n) a0 a2 M
/-! BoardMachineModel.finds(IJII)Z -/
noncomputable def BX92_finds_229 (f1 : Int64 → FM → Option (Int32 × FM)) (f5 : Nat → Int32 → Int64 → FM → Option (Int32 × FM)) (k229 : Nat → Int64 → Int32 → Int32 → Int32 → FM → Option (Int32 × FM)) (a0 : Nat) (a2 : Int64) (a4 : Int32) (a7 : Int32) (a9 : Int32) (M : FM) : Option (Int32 × FM) :=
  fi (a4 ≤ a9) (
    fi ((Int32.ofInt 1) = 0 ∨ (Int32.ofInt 1) = 1) (some ((Int32.ofInt 1), M)) none) (
    fi (fm_is M 92 92 a0 = true) (
    let x1 : Nat := (M.2.2 323 a0 0)
    fi (fm_is M 902 902 x1 = true ∧ fm_in M x1 a9 = true) (
    (f1 (M.2.1 3 x1 a9.toNatClampNeg) M).bind fun r2 =>
    fi (r2.1 = 0) (
      fi (fm_is r2.2 92 92 a0 = true) (
      (f5 a0 a7 (a2 + a9.toInt64) r2.2).bind fun r3 =>
      fi (r3.1 = 0 ∨ r3.1 = 1) (some (r3.1, r3.2)) none) none) (
      let x4 : Int32 := a9 + (Int32.ofInt 1)
      k229 a0 a2 a4 a7 x4 r2.2)) none) none)
noncomputable def FX92_finds_229 (n : Nat) (k68 : Nat → Int32 → Int64 → Int32 → Int32 → Int32 → Int32 → Int32 → Int32 → FM → Option (Int32 × FM)) (k229 : Nat → Int64 → Int32 → Int32 → Int32 → FM → Option (Int32 × FM)) (a0 : Nat) (a2 : Int64) (a4 : Int32) (a7 : Int32) (a9 : Int32) (M : FM) : Option (Int32 × FM) := BX92_finds_229 FX93_isByte FX92_fail k229 a0 a2 a4 a7 a9 M
noncomputable def BX92_finds_225 (s0 : Int32) (M : FM) : Option (Int32 × FM) :=
  fi (s0 = 0 ∨ s0 = 1) (some (s0, M)) none
noncomputable def FX92_finds_225 (n : Nat) (k68 : Nat → Int32 → Int64 → Int32 → Int32 → Int32 → Int32 → Int32 → Int32 → FM → Option (Int32 × FM)) (k229 : Nat → Int64 → Int32 → Int32 → Int32 → FM → Option (Int32 × FM)) (s0 : Int32) (M : FM) : Option (Int32 × FM) := BX92_finds_225 s0 M
noncomputable def BX92_finds_220 (g225 : Int32 → FM → Option (Int32 × FM)) (M : FM) : Option (Int32 × FM) :=
  g225 (Int32.ofInt 1) M
noncomputable def FX92_finds_220 (n : Nat) (k68 : Nat → Int32 → Int64 → Int32 → Int32 → Int32 → Int32 → Int32 → Int32 → FM → Option (Int32 × FM)) (k229 : Nat → Int64 → Int32 → Int32 → Int32 → FM → Option (Int32 × FM)) (M : FM) : Option (Int32 × FM) := BX92_finds_220 (FX92_finds_225 n k68 k229) M
noncomputable def BX92_finds_188 (f4 : Int64 → Int64 → FM → Option (Int32 × FM)) (f5 : Nat → Int32 → Int64 → FM → Option (Int32 × FM)) (g220 : FM → Option (Int32 × FM)) (g225 : Int32 → FM → Option (Int32 × FM)) (a0 : Nat) (a2 : Int64) (a4 : Int32) (a7 : Int32) (s0 : Int32) (M : FM) : Option (Int32 × FM) :=
  fi (fm_is M 92 92 a0 = true) (
  let x1 : Nat := (M.2.2 323 a0 0)
  fi (fm_is M 902 902 x1 = true ∧ fm_in M x1 (Int32.ofInt 0) = true) (
  (f4 (M.2.1 3 x1 (Int32.ofInt 0).toNatClampNeg) a4.toInt64 M).bind fun r2 =>
  fi (r2.1 = 0) (
    fi (s0 = 0) (
      fi (fm_is r2.2 92 92 a0 = true) (
      (f5 a0 a7 a2 r2.2).bind fun r3 =>
      fi (r3.1 = 0) (
        g225 (Int32.ofInt 0) r3.2) (
        g220 r3.2)) none) (
      g220 r2.2)) (
    g220 r2.2)) none) none
noncomputable def FX92_finds_188 (n : Nat) (k68 : Nat → Int32 → Int64 → Int32 → Int32 → Int32 → Int32 → Int32 → Int32 → FM → Option (Int32 × FM)) (k229 : Nat → Int64 → Int32 → Int32 → Int32 → FM → Option (Int32 × FM)) (a0 : Nat) (a2 : Int64) (a4 : Int32) (a7 : Int32) (s0 : Int32) (M : FM) : Option (Int32 × FM) := BX92_finds_188 FX93_areBytes FX92_fail (FX92_finds_220 n k68 k229) (FX92_finds_225 n k68 k229) a0 a2 a4 a7 s0 M
noncomputable def BX92_finds_187 (g188 : Nat → Int64 → Int32 → Int32 → Int32 → FM → Option (Int32 × FM)) (a0 : Nat) (a2 : Int64) (a4 : Int32) (a7 : Int32) (M : FM) : Option (Int32 × FM) :=
  g188 a0 a2 a4 a7 (Int32.ofInt 0) M
noncomputable def FX92_finds_187 (n : Nat) (k68 : Nat → Int32 → Int64 → Int32 → Int32 → Int32 → Int32 → Int32 → Int32 → FM → Option (Int32 × FM)) (k229 : Nat → Int64 → Int32 → Int32 → Int32 → FM → Option (Int32 × FM)) (a0 : Nat) (a2 : Int64) (a4 : Int32) (a7 : Int32) (M : FM) : Option (Int32 × FM) := BX92_finds_187 (FX92_finds_188 n k68 k229) a0 a2 a4 a7 M
noncomputable def BX92_finds_109 (f2 : Nat → Int64 → Int32 → Int32 → Int32 → FM → Option (Int64 × FM)) (f5 : Nat → Int32 → Int64 → FM → Option (Int32 × FM)) (k68 : Nat → Int32 → Int64 → Int32 → Int32 → Int32 → Int32 → Int32 → Int32 → FM → Option (Int32 × FM)) (a0 : Nat) (a1 : Int32) (a2 : Int64) (a4 : Int32) (a5 : Int32) (a6 : Int32) (a7 : Int32) (a8 : Int32) (a9 : Int32) (s0 : Nat) (s1 : Int32) (s2 : Nat) (s3 : Int64) (s4 : Int32) (s5 : Int32) (s6 : Int32) (M : FM) : Option (Int32 × FM) :=
  fi (fm_is M 101 101 s2 = true) (
  (f2 s2 s3 s4 s5 s6 M).bind fun r1 =>
  fi (fm_is r1.2 902 902 s0 = true ∧ fm_in r1.2 s0 s1 = true) (
  let M2 : FM := fm_sL r1.2 3 s0 s1.toNatClampNeg r1.1
  fi (fm_is M2 92 92 a0 = true) (
  let x3 : Nat := (M2.2.2 323 a0 0)
  fi (fm_is M2 902 902 x3 = true ∧ fm_in M2 x3 a9 = true) (
  fi (0 ≤ (lg_cmp (M2.2.1 3 x3 a9.toNatClampNeg) (Int64.ofInt 0))) (
    let x4 : Int32 := a9 + (Int32.ofInt 1)
    k68 a0 a1 a2 a4 a5 a6 a7 a8 x4 M2) (
    fi (fm_is M2 92 92 a0 = true) (
    let x5 : Nat := (M2.2.2 323 a0 0)
    fi (fm_is M2 902 902 x5 = true ∧ fm_in M2 x5 a9 = true) (
    fi (fm_is M2 92 92 a0 = true) (
    (f5 a0 ((-(M2.2.1 3 x5 a9.toNatClampNeg)).toInt32) (a2 + a9.toInt64) M2).bind fun r6 =>
    fi (r6.1 = 0 ∨ r6.1 = 1) (some (r6.1, r6.2)) none) none) none) none)) none) none) none) none
noncomputable def FX92_finds_109 (n : Nat) (k68 : Nat → Int32 → Int64 → Int32 → Int32 → Int32 → Int32 → Int32 → Int32 → FM → Option (Int32 × FM)) (k229 : Nat → Int64 → Int32 → Int32 → Int32 → FM → Option (Int32 × FM)) (a0 : Nat) (a1 : Int32) (a2 : Int64) (a4 : Int32) (a5 : Int32) (a6 : Int32) (a7 : Int32) (a8 : Int32) (a9 : Int32) (s0 : Nat) (s1 : Int32) (s2 : Nat) (s3 : Int64) (s4 : Int32) (s5 : Int32) (s6 : Int32) (M : FM) : Option (Int32 × FM) := BX92_finds_109 (FX101_find n) FX92_fail k68 a0 a1 a2 a4 a5 a6 a7 a8 a9 s0 s1 s2 s3 s4 s5 s6 M
noncomputable def BX92_finds_68 (f3 : Int64 → Int32 → FM → Option (Int32 × FM)) (g109 : Nat → Int32 → Int64 → Int32 → Int32 → Int32 → Int32 → Int32 → Int32 → Nat → Int32 → Nat → Int64 → Int32 → Int32 → Int32 → FM → Option (Int32 × FM)) (g187 : Nat → Int64 → Int32 → Int32 → FM → Option (Int32 × FM)) (g188 : Nat → Int64 → Int32 → Int32 → Int32 → FM → Option (Int32 × FM)) (k229 : Nat → Int64 → Int32 → Int32 → Int32 → FM → Option (Int32 × FM)) (a0 : Nat) (a1 : Int32) (a2 : Int64) (a4 : Int32) (a5 : Int32) (a6 : Int32) (a7 : Int32) (a8 : Int32) (a9 : Int32) (M : FM) : Option (Int32 × FM) :=
  fi (a8 ≤ a9) (
    fi (fm_is M 92 92 a0 = true) (
    fi ((M.1 322 a0 0) = 0) (
      k229 a0 a2 a4 a7 (Int32.ofInt 0) M) (
      fi ((lg_cmp (a2 &&& (a4.toInt64 - (Int64.ofInt 1))) (Int64.ofInt 0)) = 0) (
        fi (fm_is M 92 92 a0 = true) (
        let x1 : Nat := (M.2.2 323 a0 0)
        fi (fm_is M 902 902 x1 = true ∧ fm_in M x1 (Int32.ofInt 0) = true) (
        (f3 (M.2.1 3 x1 (Int32.ofInt 0).toNatClampNeg) a4 M).bind fun r2 =>
        fi (r2.1 < 0) (
          g187 a0 a2 a4 a7 r2.2) (
          g188 a0 a2 a4 a7 (Int32.ofInt 1) r2.2)) none) none) (
        g187 a0 a2 a4 a7 M))) none) (
    fi (fm_is M 92 92 a0 = true) (
    fi (fm_is M 92 92 a0 = true) (
    let x3 : Nat := (M.2.2 306 a0 0)
    fi (fm_is M 910 990 x3 = true ∧ fm_in M x3 a1 = true) (
    fi (fm_is M 92 92 a0 = true) (
    fi ((M.1 322 a0 0) = 0) (
      g109 a0 a1 a2 a4 a5 a6 a7 a8 a9 (M.2.2 323 a0 0) a9 (M.2.2 3 x3 a1.toNatClampNeg) (a2 + a9.toInt64) a5 a6 (Int32.ofInt 1) M) (
      g109 a0 a1 a2 a4 a5 a6 a7 a8 a9 (M.2.2 323 a0 0) a9 (M.2.2 3 x3 a1.toNatClampNeg) (a2 + a9.toInt64) a5 a6 a4 M)) none) none) none) none)
noncomputable def FX92_finds_68 (n : Nat) (k68 : Nat → Int32 → Int64 → Int32 → Int32 → Int32 → Int32 → Int32 → Int32 → FM → Option (Int32 × FM)) (k229 : Nat → Int64 → Int32 → Int32 → Int32 → FM → Option (Int32 × FM)) (a0 : Nat) (a1 : Int32) (a2 : Int64) (a4 : Int32) (a5 : Int32) (a6 : Int32) (a7 : Int32) (a8 : Int32) (a9 : Int32) (M : FM) : Option (Int32 × FM) := BX92_finds_68 (FX92_windowOf n) (FX92_finds_109 n k68 k229) (FX92_finds_187 n k68 k229) (FX92_finds_188 n k68 k229) k229 a0 a1 a2 a4 a5 a6 a7 a8 a9 M
noncomputable def BX92_finds_63 (k68 : Nat → Int32 → Int64 → Int32 → Int32 → Int32 → Int32 → Int32 → Int32 → FM → Option (Int32 × FM)) (a0 : Nat) (a1 : Int32) (a2 : Int64) (a4 : Int32) (a5 : Int32) (a6 : Int32) (a7 : Int32) (s0 : Int32) (M : FM) : Option (Int32 × FM) :=
  k68 a0 a1 a2 a4 a5 a6 a7 s0 (Int32.ofInt 0) M
noncomputable def FX92_finds_63 (n : Nat) (k68 : Nat → Int32 → Int64 → Int32 → Int32 → Int32 → Int32 → Int32 → Int32 → FM → Option (Int32 × FM)) (k229 : Nat → Int64 → Int32 → Int32 → Int32 → FM → Option (Int32 × FM)) (a0 : Nat) (a1 : Int32) (a2 : Int64) (a4 : Int32) (a5 : Int32) (a6 : Int32) (a7 : Int32) (s0 : Int32) (M : FM) : Option (Int32 × FM) := BX92_finds_63 k68 a0 a1 a2 a4 a5 a6 a7 s0 M
noncomputable def BX92_finds_47 (g63 : Nat → Int32 → Int64 → Int32 → Int32 → Int32 → Int32 → Int32 → FM → Option (Int32 × FM)) (a0 : Nat) (a1 : Int32) (a2 : Int64) (a4 : Int32) (a5 : Int32) (a6 : Int32) (a7 : Int32) (s0 : Nat) (s1 : Int32) (M : FM) : Option (Int32 × FM) :=
  fi (fm_is M 92 92 s0 = true) (
  fi (s1 = 0 ∨ s1 = 1) (
  let M1 : FM := fm_sI M 322 s0 0 s1
  fi (fm_is M1 92 92 a0 = true) (
  fi ((M1.1 322 a0 0) = 0) (
    g63 a0 a1 a2 a4 a5 a6 a7 a4 M1) (
    g63 a0 a1 a2 a4 a5 a6 a7 (Int32.ofInt 1) M1)) none) none) none
noncomputable def FX92_finds_47 (n : Nat) (k68 : Nat → Int32 → Int64 → Int32 → Int32 → Int32 → Int32 → Int32 → Int32 → FM → Option (Int32 × FM)) (k229 : Nat → Int64 → Int32 → Int32 → Int32 → FM → Option (Int32 × FM)) (a0 : Nat) (a1 : Int32) (a2 : Int64) (a4 : Int32) (a5 : Int32) (a6 : Int32) (a7 : Int32) (s0 : Nat) (s1 : Int32) (M : FM) : Option (Int32 × FM) := BX92_finds_47 (FX92_finds_63 n k68 k229) a0 a1 a2 a4 a5 a6 a7 s0 s1 M
noncomputable def BX92_finds_23 (g47 : Nat → Int32 → Int64 → Int32 → Int32 → Int32 → Int32 → Nat → Int32 → FM → Option (Int32 × FM)) (a0 : Nat) (a1 : Int32) (a2 : Int64) (a4 : Int32) (a5 : Int32) (a6 : Int32) (s0 : Int32) (M : FM) : Option (Int32 × FM) :=
  fi (0 < (lg_cmp ((a2 &&& (Int64.ofInt 4095)) + a4.toInt64) (Int64.ofInt 4096))) (
    g47 a0 a1 a2 a4 a5 a6 s0 a0 (Int32.ofInt 0) M) (
    g47 a0 a1 a2 a4 a5 a6 s0 a0 (Int32.ofInt 1) M)
noncomputable def FX92_finds_23 (n : Nat) (k68 : Nat → Int32 → Int64 → Int32 → Int32 → Int32 → Int32 → Int32 → Int32 → FM → Option (Int32 × FM)) (k229 : Nat → Int64 → Int32 → Int32 → Int32 → FM → Option (Int32 × FM)) (a0 : Nat) (a1 : Int32) (a2 : Int64) (a4 : Int32) (a5 : Int32) (a6 : Int32) (s0 : Int32) (M : FM) : Option (Int32 × FM) := BX92_finds_23 (FX92_finds_47 n k68 k229) a0 a1 a2 a4 a5 a6 s0 M
noncomputable def BX92_finds_0 (f0 : Nat → FM → Option (Int32 × FM)) (g23 : Nat → Int32 → Int64 → Int32 → Int32 → Int32 → Int32 → FM → Option (Int32 × FM)) (a0 : Nat) (a1 : Int32) (a2 : Int64) (a4 : Int32) (a5 : Int32) (M : FM) : Option (Int32 × FM) :=
  fi (fm_is M 92 92 a0 = true) (
  let x1 : Nat := (M.2.2 305 a0 0)
  fi (fm_is M 910 990 x1 = true ∧ fm_in M x1 a1 = true) (
  let x2 : Nat := (M.2.2 3 x1 a1.toNatClampNeg)
  fi (fm_is M 95 95 x2 = true) (
  (f0 x2 M).bind fun r3 =>
  fi (a5 = (Int32.ofInt 1)) (
    g23 a0 a1 a2 a4 a5 r3.1 (Int32.ofInt 5) r3.2) (
    g23 a0 a1 a2 a4 a5 r3.1 (Int32.ofInt 7) r3.2)) none) none) none
noncomputable def FX92_finds_0 (n : Nat) (k68 : Nat → Int32 → Int64 → Int32 → Int32 → Int32 → Int32 → Int32 → Int32 → FM → Option (Int32 × FM)) (k229 : Nat → Int64 → Int32 → Int32 → Int32 → FM → Option (Int32 × FM)) (a0 : Nat) (a1 : Int32) (a2 : Int64) (a4 : Int32) (a5 : Int32) (M : FM) : Option (Int32 × FM) := BX92_finds_0 FX100_dataMode (FX92_finds_23 n k68 k229) a0 a1 a2 a4 a5 M
noncomputable def FX92_finds_L (n : Nat) : Nat → (Nat → Int32 → Int64 → Int32 → Int32 → Int32 → Int32 → Int32 → Int32 → FM → Option (Int32 × FM)) × (Nat → Int64 → Int32 → Int32 → Int32 → FM → Option (Int32 × FM))
  | 0 => (fun _ _ _ _ _ _ _ _ _ _ => none, fun _ _ _ _ _ _ => none)
  | j + 1 => (FX92_finds_68 n (FX92_finds_L n j).1 (FX92_finds_L n j).2, FX92_finds_229 n (FX92_finds_L n j).1 (FX92_finds_L n j).2)
noncomputable def FX92_finds (n : Nat) (a0 : Nat) (a1 : Int32) (a2 : Int64) (a4 : Int32) (a5 : Int32) (M : FM) : Option (Int32 × FM) := FX92_finds_0 n (FX92_finds_L n n).1 (FX92_finds_L n n).2 a0 a1 a2 a4 a5 M
/-! BoardMachineModel$Walk.isOpen(J)Z -/
noncomputable def BX101_isOpen_38 (k2 : Nat → Int64 → Int32 → FM → Option (Int32 × FM)) (a0 : Nat) (a1 : Int64) (a3 : Int32) (M : FM) : Option (Int32 × FM) :=
  let x1 : Int32 := a3 + (Int32.ofInt 1)
  k2 a0 a1 x1 M
noncomputable def FX101_isOpen_38 (n : Nat) (k2 : Nat → Int64 → Int32 → FM → Option (Int32 × FM)) (a0 : Nat) (a1 : Int64) (a3 : Int32) (M : FM) : Option (Int32 × FM) := BX101_isOpen_38 k2 a0 a1 a3 M
noncomputable def BX101_isOpen_2 (f0 : Nat → Int32 → FM → Option (FM)) (f1 : Nat → Int32 → Int32 → FM → Option (Int32 × FM)) (g38 : Nat → Int64 → Int32 → FM → Option (Int32 × FM)) (a0 : Nat) (a1 : Int64) (a3 : Int32) (M : FM) : Option (Int32 × FM) :=
  fi ((Int32.ofInt 8) ≤ a3) (
    fi ((Int32.ofInt 0) = 0 ∨ (Int32.ofInt 0) = 1) (some ((Int32.ofInt 0), M)) none) (
    fi (fm_is M 101 101 a0 = true) (
    (f0 a0 a3 M).bind fun M1 =>
    fi (fm_is M1 101 101 a0 = true) (
    fi ((lg_cmp a1 (M1.2.1 429 a0 0)) < 0) (
      g38 a0 a1 a3 M1) (
      fi (fm_is M1 101 101 a0 = true) (
      fi (0 ≤ (lg_cmp a1 (M1.2.1 430 a0 0))) (
        g38 a0 a1 a3 M1) (
        fi (fm_is M1 101 101 a0 = true) (
        (f1 a0 a3 (Int32.ofInt 1) M1).bind fun r2 =>
        fi (r2.1 = 0 ∨ r2.1 = 1) (some (r2.1, r2.2)) none) none)) none)) none) none)
noncomputable def FX101_isOpen_2 (n : Nat) (k2 : Nat → Int64 → Int32 → FM → Option (Int32 × FM)) (a0 : Nat) (a1 : Int64) (a3 : Int32) (M : FM) : Option (Int32 × FM) := BX101_isOpen_2 (FX101_cover n) FX101_has (FX101_isOpen_38 n k2) a0 a1 a3 M
noncomputable def BX101_isOpen_0 (k2 : Nat → Int64 → Int32 → FM → Option (Int32 × FM)) (a0 : Nat) (a1 : Int64) (M : FM) : Option (Int32 × FM) :=
  k2 a0 a1 (Int32.ofInt 0) M
noncomputable def FX101_isOpen_0 (n : Nat) (k2 : Nat → Int64 → Int32 → FM → Option (Int32 × FM)) (a0 : Nat) (a1 : Int64) (M : FM) : Option (Int32 × FM) := BX101_isOpen_0 k2 a0 a1 M
noncomputable def FX101_isOpen_L2 (n : Nat) : Nat → Nat → Int64 → Int32 → FM → Option (Int32 × FM)
  | 0 => fun _ _ _ _ => none
  | j + 1 => FX101_isOpen_2 n (FX101_isOpen_L2 n j)
noncomputable def FX101_isOpen (n : Nat) (a0 : Nat) (a1 : Int64) (M : FM) : Option (Int32 × FM) := FX101_isOpen_0 n (FX101_isOpen_L2 n n) a0 a1 M
/-! BoardMachineModel.watch(II)V -/
noncomputable def BX92_watch_92 (M : FM) : Option (FM) :=
  some M
noncomputable def FX92_watch_92 (n : Nat) (k2 : Nat → Int32 → Int32 → Int32 → FM → Option (FM)) (M : FM) : Option (FM) := BX92_watch_92 M
noncomputable def BX92_watch_83 (k2 : Nat → Int32 → Int32 → Int32 → FM → Option (FM)) (a0 : Nat) (a1 : Int32) (a2 : Int32) (a3 : Int32) (s0 : Nat) (s1 : Int64) (M : FM) : Option (FM) :=
  fi (fm_is M 92 92 s0 = true) (
  let M1 : FM := fm_sL M 316 s0 0 s1
  let x2 : Int32 := a3 + (Int32.ofInt 1)
  k2 a0 a1 a2 x2 M1) none
noncomputable def FX92_watch_83 (n : Nat) (k2 : Nat → Int32 → Int32 → Int32 → FM → Option (FM)) (a0 : Nat) (a1 : Int32) (a2 : Int32) (a3 : Int32) (s0 : Nat) (s1 : Int64) (M : FM) : Option (FM) := BX92_watch_83 k2 a0 a1 a2 a3 s0 s1 M
noncomputable def BX92_watch_79 (g83 : Nat → Int32 → Int32 → Int32 → Nat → Int64 → FM → Option (FM)) (a0 : Nat) (a1 : Int32) (a2 : Int32) (a3 : Int32) (s0 : Nat) (M : FM) : Option (FM) :=
  fi (fm_is M 92 92 a0 = true) (
  g83 a0 a1 a2 a3 s0 (M.2.1 316 a0 0) M) none
noncomputable def FX92_watch_79 (n : Nat) (k2 : Nat → Int32 → Int32 → Int32 → FM → Option (FM)) (a0 : Nat) (a1 : Int32) (a2 : Int32) (a3 : Int32) (s0 : Nat) (M : FM) : Option (FM) := BX92_watch_79 (FX92_watch_83 n k2) a0 a1 a2 a3 s0 M
noncomputable def BX92_watch_45 (f1 : Int64 → FM → Option (Int32 × FM)) (f2 : Nat → Int64 → FM → Option (Int32 × FM)) (g79 : Nat → Int32 → Int32 → Int32 → Nat → FM → Option (FM)) (g83 : Nat → Int32 → Int32 → Int32 → Nat → Int64 → FM → Option (FM)) (a0 : Nat) (a1 : Int32) (a2 : Int32) (a3 : Int32) (s0 : Int64) (M : FM) : Option (FM) :=
  (f1 s0 M).bind fun r1 =>
  fi (r1.1 = 0) (
    g79 a0 a1 a2 a3 a0 r1.2) (
    fi (fm_is r1.2 92 92 a0 = true) (
    let x2 : Nat := (r1.2.2.2 306 a0 0)
    fi (fm_is r1.2 910 990 x2 = true ∧ fm_in r1.2 x2 a1 = true) (
    let x3 : Nat := (r1.2.2.2 3 x2 a1.toNatClampNeg)
    fi (fm_is r1.2 101 101 x3 = true) (
    (f2 x3 s0 r1.2).bind fun r4 =>
    fi (r4.1 = 0) (
      fi (fm_is r4.2 92 92 a0 = true) (
      g83 a0 a1 a2 a3 a0 ((r4.2.2.1 316 a0 0) + (Int64.ofInt 1)) r4.2) none) (
      g79 a0 a1 a2 a3 a0 r4.2)) none) none) none)
noncomputable def FX92_watch_45 (n : Nat) (k2 : Nat → Int32 → Int32 → Int32 → FM → Option (FM)) (a0 : Nat) (a1 : Int32) (a2 : Int32) (a3 : Int32) (s0 : Int64) (M : FM) : Option (FM) := BX92_watch_45 FX93_isByte (FX101_isOpen n) (FX92_watch_79 n k2) (FX92_watch_83 n k2) a0 a1 a2 a3 s0 M
noncomputable def BX92_watch_2 (f0 : Nat → FM → Option (Int32 × FM)) (g45 : Nat → Int32 → Int32 → Int32 → Int64 → FM → Option (FM)) (g92 : FM → Option (FM)) (a0 : Nat) (a1 : Int32) (a2 : Int32) (a3 : Int32) (M : FM) : Option (FM) :=
  fi (a2 ≤ a3) (
    g92 M) (
    fi (fm_is M 92 92 a0 = true) (
    let x1 : Nat := (M.2.2 305 a0 0)
    fi (fm_is M 910 990 x1 = true ∧ fm_in M x1 a1 = true) (
    let x2 : Nat := (M.2.2 3 x1 a1.toNatClampNeg)
    fi (fm_is M 95 95 x2 = true) (
    (f0 x2 M).bind fun r3 =>
    fi ((Int32.ofInt 3) ≤ r3.1) (
      g92 r3.2) (
      fi (fm_is r3.2 92 92 a0 = true) (
      fi ((r3.2.1 322 a0 0) = 0) (
        fi (fm_is r3.2 92 92 a0 = true) (
        let x4 : Nat := (r3.2.2.2 323 a0 0)
        fi (fm_is r3.2 902 902 x4 = true ∧ fm_in r3.2 x4 a3 = true) (
        g45 a0 a1 a2 a3 (r3.2.2.1 3 x4 a3.toNatClampNeg) r3.2) none) none) (
        fi (fm_is r3.2 92 92 a0 = true) (
        let x5 : Nat := (r3.2.2.2 323 a0 0)
        fi (fm_is r3.2 902 902 x5 = true ∧ fm_in r3.2 x5 (Int32.ofInt 0) = true) (
        g45 a0 a1 a2 a3 ((r3.2.2.1 3 x5 (Int32.ofInt 0).toNatClampNeg) + a3.toInt64) r3.2) none) none)) none)) none) none) none)
noncomputable def FX92_watch_2 (n : Nat) (k2 : Nat → Int32 → Int32 → Int32 → FM → Option (FM)) (a0 : Nat) (a1 : Int32) (a2 : Int32) (a3 : Int32) (M : FM) : Option (FM) := BX92_watch_2 FX100_dataMode (FX92_watch_45 n k2) (FX92_watch_92 n k2) a0 a1 a2 a3 M
noncomputable def BX92_watch_0 (k2 : Nat → Int32 → Int32 → Int32 → FM → Option (FM)) (a0 : Nat) (a1 : Int32) (a2 : Int32) (M : FM) : Option (FM) :=
  k2 a0 a1 a2 (Int32.ofInt 0) M
noncomputable def FX92_watch_0 (n : Nat) (k2 : Nat → Int32 → Int32 → Int32 → FM → Option (FM)) (a0 : Nat) (a1 : Int32) (a2 : Int32) (M : FM) : Option (FM) := BX92_watch_0 k2 a0 a1 a2 M
noncomputable def FX92_watch_L2 (n : Nat) : Nat → Nat → Int32 → Int32 → Int32 → FM → Option (FM)
  | 0 => fun _ _ _ _ _ => none
  | j + 1 => FX92_watch_2 n (FX92_watch_L2 n j)
noncomputable def FX92_watch (n : Nat) (a0 : Nat) (a1 : Int32) (a2 : Int32) (M : FM) : Option (FM) := FX92_watch_0 n (FX92_watch_L2 n n) a0 a1 a2 M
/-! BoardMachineModel.isDiskRegister(JI)Z -/
noncomputable def BX92_isDiskRegister_28 (s0 : Int32) (M : FM) : Option (Int32 × FM) :=
  fi (s0 = 0 ∨ s0 = 1) (some (s0, M)) none
noncomputable def FX92_isDiskRegister_28 (s0 : Int32) (M : FM) : Option (Int32 × FM) := BX92_isDiskRegister_28 s0 M
noncomputable def BX92_isDiskRegister_27 (g28 : Int32 → FM → Option (Int32 × FM)) (M : FM) : Option (Int32 × FM) :=
  g28 (Int32.ofInt 0) M
noncomputable def FX92_isDiskRegister_27 (M : FM) : Option (Int32 × FM) := BX92_isDiskRegister_27 FX92_isDiskRegister_28 M
noncomputable def BX92_isDiskRegister_0 (g27 : FM → Option (Int32 × FM)) (g28 : Int32 → FM → Option (Int32 × FM)) (a0 : Int64) (a2 : Int32) (M : FM) : Option (Int32 × FM) :=
  fi (a2 = (Int32.ofInt 4)) (
    fi ((Int64.ofInt 4) = 0) none (
    fi ((lg_cmp (a0 - a0 / (Int64.ofInt 4) * (Int64.ofInt 4)) (Int64.ofInt 0)) = 0) (
      fi (0 < (lg_cmp a0 (Int64.ofInt 508))) (
        g27 M) (
        g28 (Int32.ofInt 1) M)) (
      g27 M))) (
    g27 M)
noncomputable def FX92_isDiskRegister_0 (a0 : Int64) (a2 : Int32) (M : FM) : Option (Int32 × FM) := BX92_isDiskRegister_0 FX92_isDiskRegister_27 FX92_isDiskRegister_28 a0 a2 M
noncomputable def FX92_isDiskRegister (a0 : Int64) (a2 : Int32) (M : FM) : Option (Int32 × FM) := FX92_isDiskRegister_0 a0 a2 M
/-! BoardMachineModel$Signals.isProper(IJI)Z -/
noncomputable def BX96_isProper_41 (s0 : Int32) (M : FM) : Option (Int32 × FM) :=
  fi (s0 = 0 ∨ s0 = 1) (some (s0, M)) none
noncomputable def FX96_isProper_41 (s0 : Int32) (M : FM) : Option (Int32 × FM) := BX96_isProper_41 s0 M
noncomputable def BX96_isProper_40 (g41 : Int32 → FM → Option (Int32 × FM)) (M : FM) : Option (Int32 × FM) :=
  g41 (Int32.ofInt 0) M
noncomputable def FX96_isProper_40 (M : FM) : Option (Int32 × FM) := BX96_isProper_40 FX96_isProper_41 M
noncomputable def BX96_isProper_36 (g41 : Int32 → FM → Option (Int32 × FM)) (M : FM) : Option (Int32 × FM) :=
  g41 (Int32.ofInt 1) M
noncomputable def FX96_isProper_36 (M : FM) : Option (Int32 × FM) := BX96_isProper_36 FX96_isProper_41 M
noncomputable def BX96_isProper_0 (g36 : FM → Option (Int32 × FM)) (g40 : FM → Option (Int32 × FM)) (a0 : Int32) (a1 : Int64) (a3 : Int32) (M : FM) : Option (Int32 × FM) :=
  fi (a0 < 0) (
    g40 M) (
    fi ((Int32.ofInt 2) < a0) (
      g40 M) (
      fi ((lg_cmp a1 (Int64.ofInt 0)) < 0) (
        g40 M) (
        fi (a3 = (Int32.ofInt 1)) (
          g36 M) (
          fi (a3 = (Int32.ofInt 2)) (
            g36 M) (
            fi (a3 = (Int32.ofInt 4)) (
              g36 M) (
              fi (a3 = (Int32.ofInt 8)) (
                g36 M) (
                g40 M)))))))
noncomputable def FX96_isProper_0 (a0 : Int32) (a1 : Int64) (a3 : Int32) (M : FM) : Option (Int32 × FM) := BX96_isProper_0 FX96_isProper_36 FX96_isProper_40 a0 a1 a3 M
noncomputable def FX96_isProper (a0 : Int32) (a1 : Int64) (a3 : Int32) (M : FM) : Option (Int32 × FM) := FX96_isProper_0 a0 a1 a3 M
/-! BoardMachineModel$Signals.eightAt(J)I -/
noncomputable def BX96_eightAt_61 (s0 : Int32) (M : FM) : Option (Int32 × FM) :=
  some (s0, M)
noncomputable def FX96_eightAt_61 (s0 : Int32) (M : FM) : Option (Int32 × FM) := BX96_eightAt_61 s0 M
noncomputable def BX96_eightAt_60 (g61 : Int32 → FM → Option (Int32 × FM)) (M : FM) : Option (Int32 × FM) :=
  g61 (Int32.ofInt (-1)) M
noncomputable def FX96_eightAt_60 (M : FM) : Option (Int32 × FM) := BX96_eightAt_60 FX96_eightAt_61 M
noncomputable def BX96_eightAt_21 (g60 : FM → Option (Int32 × FM)) (g61 : Int32 → FM → Option (Int32 × FM)) (a0 : Nat) (a1 : Int64) (M : FM) : Option (Int32 × FM) :=
  fi ((lg_cmp a1 (Int64.ofInt 16384)) < 0) (
    g60 M) (
    fi (fm_is M 99 99 a0 = true) (
    fi (0 ≤ (lg_cmp a1 ((Int64.ofInt 16384) + ((Int64.ofInt 8) * (M.1 395 a0 0).toInt64)))) (
      g60 M) (
      fi ((Int64.ofInt 8) = 0) none (
      g61 (((a1 - (Int64.ofInt 16384)) / (Int64.ofInt 8)).toInt32) M))) none)
noncomputable def FX96_eightAt_21 (a0 : Nat) (a1 : Int64) (M : FM) : Option (Int32 × FM) := BX96_eightAt_21 FX96_eightAt_60 FX96_eightAt_61 a0 a1 M
noncomputable def BX96_eightAt_0 (g21 : Nat → Int64 → FM → Option (Int32 × FM)) (a0 : Nat) (a1 : Int64) (M : FM) : Option (Int32 × FM) :=
  fi ((lg_cmp a1 (Int64.ofInt 49144)) < 0) (
    g21 a0 a1 M) (
    fi (0 ≤ (lg_cmp a1 (Int64.ofInt 49152))) (
      g21 a0 a1 M) (
      fi (fm_is M 99 99 a0 = true) (
      some ((M.1 395 a0 0), M)) none))
noncomputable def FX96_eightAt_0 (a0 : Nat) (a1 : Int64) (M : FM) : Option (Int32 × FM) := BX96_eightAt_0 FX96_eightAt_21 a0 a1 M
noncomputable def FX96_eightAt (a0 : Nat) (a1 : Int64) (M : FM) : Option (Int32 × FM) := FX96_eightAt_0 a0 a1 M
/-! BoardMachineModel$Signals.eight(I)J -/
noncomputable def BX96_eight_21 (s0 : Int64) (M : FM) : Option (Int64 × FM) :=
  some (s0, M)
noncomputable def FX96_eight_21 (s0 : Int64) (M : FM) : Option (Int64 × FM) := BX96_eight_21 s0 M
noncomputable def BX96_eight_0 (g21 : Int64 → FM → Option (Int64 × FM)) (a0 : Nat) (a1 : Int32) (M : FM) : Option (Int64 × FM) :=
  fi (fm_is M 99 99 a0 = true) (
  fi (a1 = (M.1 395 a0 0)) (
    fi (fm_is M 99 99 a0 = true) (
    g21 (M.2.1 398 a0 0) M) none) (
    fi (fm_is M 99 99 a0 = true) (
    let x1 : Nat := (M.2.2 397 a0 0)
    fi (fm_is M 902 902 x1 = true ∧ fm_in M x1 a1 = true) (
    g21 (M.2.1 3 x1 a1.toNatClampNeg) M) none) none)) none
noncomputable def FX96_eight_0 (a0 : Nat) (a1 : Int32) (M : FM) : Option (Int64 × FM) := BX96_eight_0 FX96_eight_21 a0 a1 M
noncomputable def FX96_eight (a0 : Nat) (a1 : Int32) (M : FM) : Option (Int64 × FM) := FX96_eight_0 a0 a1 M
/-! BoardMachineModel$Signals.setEight(IJ)V -/
noncomputable def BX96_setEight_23 (M : FM) : Option (FM) :=
  some M
noncomputable def FX96_setEight_23 (M : FM) : Option (FM) := BX96_setEight_23 M
noncomputable def BX96_setEight_0 (g23 : FM → Option (FM)) (a0 : Nat) (a1 : Int32) (a2 : Int64) (M : FM) : Option (FM) :=
  fi (fm_is M 99 99 a0 = true) (
  fi (a1 = (M.1 395 a0 0)) (
    fi (fm_is M 99 99 a0 = true) (
    let M1 : FM := fm_sL M 398 a0 0 a2
    g23 M1) none) (
    fi (fm_is M 99 99 a0 = true) (
    let x2 : Nat := (M.2.2 397 a0 0)
    fi (fm_is M 902 902 x2 = true ∧ fm_in M x2 a1 = true) (
    let M3 : FM := fm_sL M 3 x2 a1.toNatClampNeg a2
    g23 M3) none) none)) none
noncomputable def FX96_setEight_0 (a0 : Nat) (a1 : Int32) (a2 : Int64) (M : FM) : Option (FM) := BX96_setEight_0 FX96_setEight_23 a0 a1 a2 M
noncomputable def FX96_setEight (a0 : Nat) (a1 : Int32) (a2 : Int64) (M : FM) : Option (FM) := FX96_setEight_0 a0 a1 a2 M
/-! BoardMachineModel$Signals.writeTimer(JIJ)V -/
noncomputable def BX96_writeTimer_163 (M : FM) : Option (FM) :=
  some M
noncomputable def FX96_writeTimer_163 (M : FM) : Option (FM) := BX96_writeTimer_163 M
noncomputable def BX96_writeTimer_80 (M : FM) : Option (FM) :=
  some M
noncomputable def FX96_writeTimer_80 (M : FM) : Option (FM) := BX96_writeTimer_80 M
noncomputable def BX96_writeTimer_54 (f0 : Nat → Int64 → FM → Option (Int32 × FM)) (f1 : Nat → Int32 → FM → Option (Int64 × FM)) (f2 : Nat → Int32 → Int64 → FM → Option (FM)) (g80 : FM → Option (FM)) (g163 : FM → Option (FM)) (a0 : Nat) (a1 : Int64) (a3 : Int32) (a4 : Int64) (M : FM) : Option (FM) :=
  fi (fm_is M 99 99 a0 = true) (
  (f0 a0 a1 M).bind fun r1 =>
  fi (r1.1 < 0) (
    g80 r1.2) (
    let x2 : Int64 := a3.toInt64
    fi (x2 = 0) none (
    fi ((lg_cmp (a1 - a1 / x2 * x2) (Int64.ofInt 0)) = 0) (
      fi ((Int32.ofInt 4) ≤ a3) (
        fi (fm_is r1.2 99 99 a0 = true) (
        (f1 a0 r1.1 r1.2).bind fun r3 =>
        let x4 : Int64 := (r3.1 &&& (Int64.ofInt 4294967295))
        fi (fm_is r3.2 99 99 a0 = true) (
        (f1 a0 r1.1 r3.2).bind fun r5 =>
        let x6 : Int64 := (r5.1 - x4)
        fi (a3 = (Int32.ofInt 8)) (
          fi (fm_is r5.2 99 99 a0 = true) (
          (f2 a0 r1.1 a4 r5.2).bind fun M7 =>
          g163 M7) none) (
          fi ((Int64.ofInt 8) = 0) none (
          fi ((lg_cmp (a1 - a1 / (Int64.ofInt 8) * (Int64.ofInt 8)) (Int64.ofInt 0)) = 0) (
            fi (fm_is r5.2 99 99 a0 = true) (
            (f2 a0 r1.1 (x6 + (a4 &&& (Int64.ofInt 4294967295))) r5.2).bind fun M8 =>
            g163 M8) none) (
            fi (fm_is r5.2 99 99 a0 = true) (
            (f2 a0 r1.1 (x4 + (a4 <<< ((Int32.ofInt 32).toInt64 &&& 63))) r5.2).bind fun M9 =>
            g163 M9) none)))) none) none) (
        g80 r1.2)) (
      g80 r1.2)))) none
noncomputable def FX96_writeTimer_54 (a0 : Nat) (a1 : Int64) (a3 : Int32) (a4 : Int64) (M : FM) : Option (FM) := BX96_writeTimer_54 FX96_eightAt FX96_eight FX96_setEight FX96_writeTimer_80 FX96_writeTimer_163 a0 a1 a3 a4 M
noncomputable def BX96_writeTimer_53 (g54 : Nat → Int64 → Int32 → Int64 → FM → Option (FM)) (a0 : Nat) (a1 : Int64) (a3 : Int32) (a4 : Int64) (s0 : Nat) (s1 : Int32) (s2 : Int32) (M : FM) : Option (FM) :=
  fi (fm_is M 904 904 s0 = true ∧ fm_in M s0 s1 = true) (
  let M1 : FM := fm_sI M 3 s0 s1.toNatClampNeg (s2 &&& 1)
  g54 a0 a1 a3 a4 M1) none
noncomputable def FX96_writeTimer_53 (a0 : Nat) (a1 : Int64) (a3 : Int32) (a4 : Int64) (s0 : Nat) (s1 : Int32) (s2 : Int32) (M : FM) : Option (FM) := BX96_writeTimer_53 FX96_writeTimer_54 a0 a1 a3 a4 s0 s1 s2 M
noncomputable def BX96_writeTimer_0 (g53 : Nat → Int64 → Int32 → Int64 → Nat → Int32 → Int32 → FM → Option (FM)) (g54 : Nat → Int64 → Int32 → Int64 → FM → Option (FM)) (a0 : Nat) (a1 : Int64) (a3 : Int32) (a4 : Int64) (M : FM) : Option (FM) :=
  fi (a3 = (Int32.ofInt 4)) (
    fi (fm_is M 99 99 a0 = true) (
    fi (0 ≤ (lg_cmp a1 ((Int64.ofInt 4) * (M.1 395 a0 0).toInt64))) (
      g54 a0 a1 a3 a4 M) (
      fi ((Int64.ofInt 4) = 0) none (
      fi ((lg_cmp (a1 - a1 / (Int64.ofInt 4) * (Int64.ofInt 4)) (Int64.ofInt 0)) = 0) (
        fi (fm_is M 99 99 a0 = true) (
        fi ((Int64.ofInt 4) = 0) none (
        fi ((lg_cmp (a4 &&& (Int64.ofInt 1)) (Int64.ofInt 1)) = 0) (
          g53 a0 a1 a3 a4 (M.2.2 396 a0 0) ((a1 / (Int64.ofInt 4)).toInt32) (Int32.ofInt 1) M) (
          g53 a0 a1 a3 a4 (M.2.2 396 a0 0) ((a1 / (Int64.ofInt 4)).toInt32) (Int32.ofInt 0) M))) none) (
        g54 a0 a1 a3 a4 M)))) none) (
    g54 a0 a1 a3 a4 M)
noncomputable def FX96_writeTimer_0 (a0 : Nat) (a1 : Int64) (a3 : Int32) (a4 : Int64) (M : FM) : Option (FM) := BX96_writeTimer_0 FX96_writeTimer_53 FX96_writeTimer_54 a0 a1 a3 a4 M
noncomputable def FX96_writeTimer (a0 : Nat) (a1 : Int64) (a3 : Int32) (a4 : Int64) (M : FM) : Option (FM) := FX96_writeTimer_0 a0 a1 a3 a4 M
/-! BoardMachineModel$Signals.hasBit(II)Z -/
noncomputable def BX96_hasBit_19 (s0 : Int32) (M : FM) : Option (Int32 × FM) :=
  fi (s0 = 0 ∨ s0 = 1) (some (s0, M)) none
noncomputable def FX96_hasBit_19 (s0 : Int32) (M : FM) : Option (Int32 × FM) := BX96_hasBit_19 s0 M
noncomputable def BX96_hasBit_0 (g19 : Int32 → FM → Option (Int32 × FM)) (a0 : Nat) (a1 : Int32) (a2 : Int32) (M : FM) : Option (Int32 × FM) :=
  fi (fm_is M 99 99 a0 = true) (
  let x1 : Nat := (M.2.2 405 a0 0)
  fi (fm_is M 901 901 x1 = true ∧ fm_in M x1 a1 = true) (
  fi ((((M.1 3 x1 a1.toNatClampNeg) >>> (a2 &&& 31)) &&& (Int32.ofInt 1)) = (Int32.ofInt 1)) (
    g19 (Int32.ofInt 1) M) (
    g19 (Int32.ofInt 0) M)) none) none
noncomputable def FX96_hasBit_0 (a0 : Nat) (a1 : Int32) (a2 : Int32) (M : FM) : Option (Int32 × FM) := BX96_hasBit_0 FX96_hasBit_19 a0 a1 a2 M
noncomputable def FX96_hasBit (a0 : Nat) (a1 : Int32) (a2 : Int32) (M : FM) : Option (Int32 × FM) := FX96_hasBit_0 a0 a1 a2 M
/-! BoardMachineModel$Signals.cause()I -/
noncomputable def BX96_cause_58 (s0 : Int32) (M : FM) : Option (Int32 × FM) :=
  some (s0, M)
noncomputable def FX96_cause_58 (s0 : Int32) (M : FM) : Option (Int32 × FM) := BX96_cause_58 s0 M
noncomputable def BX96_cause_57 (g58 : Int32 → FM → Option (Int32 × FM)) (M : FM) : Option (Int32 × FM) :=
  g58 (Int32.ofInt 1) M
noncomputable def FX96_cause_57 (M : FM) : Option (Int32 × FM) := BX96_cause_57 FX96_cause_58 M
noncomputable def BX96_cause_37 (f0 : Nat → Int32 → Int32 → FM → Option (Int32 × FM)) (g57 : FM → Option (Int32 × FM)) (g58 : Int32 → FM → Option (Int32 × FM)) (a0 : Nat) (M : FM) : Option (Int32 × FM) :=
  fi (fm_is M 99 99 a0 = true) (
  (f0 a0 (Int32.ofInt 1) (Int32.ofInt 1) M).bind fun r1 =>
  fi (r1.1 = 0) (
    g57 r1.2) (
    fi (fm_is r1.2 99 99 a0 = true) (
    fi ((r1.2.1 409 a0 0) = 0) (
      g57 r1.2) (
      g58 (Int32.ofInt 2) r1.2)) none)) none
noncomputable def FX96_cause_37 (a0 : Nat) (M : FM) : Option (Int32 × FM) := BX96_cause_37 FX96_hasBit FX96_cause_57 FX96_cause_58 a0 M
noncomputable def BX96_cause_19 (f0 : Nat → Int32 → Int32 → FM → Option (Int32 × FM)) (g37 : Nat → FM → Option (Int32 × FM)) (a0 : Nat) (M : FM) : Option (Int32 × FM) :=
  fi (fm_is M 99 99 a0 = true) (
  (f0 a0 (Int32.ofInt 1) (Int32.ofInt 0) M).bind fun r1 =>
  fi (r1.1 = 0) (
    g37 a0 r1.2) (
    fi (fm_is r1.2 99 99 a0 = true) (
    fi ((r1.2.1 411 a0 0) ≤ 0) (
      g37 a0 r1.2) (
      some ((Int32.ofInt 4), r1.2))) none)) none
noncomputable def FX96_cause_19 (a0 : Nat) (M : FM) : Option (Int32 × FM) := BX96_cause_19 FX96_hasBit FX96_cause_37 a0 M
noncomputable def BX96_cause_0 (f0 : Nat → Int32 → Int32 → FM → Option (Int32 × FM)) (g19 : Nat → FM → Option (Int32 × FM)) (a0 : Nat) (M : FM) : Option (Int32 × FM) :=
  fi (fm_is M 99 99 a0 = true) (
  (f0 a0 (Int32.ofInt 1) (Int32.ofInt 2) M).bind fun r1 =>
  fi (r1.1 = 0) (
    g19 a0 r1.2) (
    fi (fm_is r1.2 99 99 a0 = true) (
    fi ((r1.2.1 408 a0 0) = 0) (
      g19 a0 r1.2) (
      some ((Int32.ofInt 6), r1.2))) none)) none
noncomputable def FX96_cause_0 (a0 : Nat) (M : FM) : Option (Int32 × FM) := BX96_cause_0 FX96_hasBit FX96_cause_19 a0 M
noncomputable def FX96_cause (a0 : Nat) (M : FM) : Option (Int32 × FM) := FX96_cause_0 a0 M
/-! BoardMachineModel$Signals.settle()V -/
noncomputable def BX96_settle_65 (k22 : Nat → Int32 → FM → Option (FM)) (a0 : Nat) (a1 : Int32) (s0 : Nat) (s1 : Int32) (s2 : Int32) (M : FM) : Option (FM) :=
  fi (fm_is M 904 904 s0 = true ∧ fm_in M s0 s1 = true) (
  let M1 : FM := fm_sI M 3 s0 s1.toNatClampNeg (s2 &&& 1)
  let x2 : Int32 := a1 + (Int32.ofInt 1)
  k22 a0 x2 M1) none
noncomputable def FX96_settle_65 (n : Nat) (k22 : Nat → Int32 → FM → Option (FM)) (a0 : Nat) (a1 : Int32) (s0 : Nat) (s1 : Int32) (s2 : Int32) (M : FM) : Option (FM) := BX96_settle_65 k22 a0 a1 s0 s1 s2 M
noncomputable def BX96_settle_64 (g65 : Nat → Int32 → Nat → Int32 → Int32 → FM → Option (FM)) (a0 : Nat) (a1 : Int32) (s0 : Nat) (s1 : Int32) (M : FM) : Option (FM) :=
  g65 a0 a1 s0 s1 (Int32.ofInt 0) M
noncomputable def FX96_settle_64 (n : Nat) (k22 : Nat → Int32 → FM → Option (FM)) (a0 : Nat) (a1 : Int32) (s0 : Nat) (s1 : Int32) (M : FM) : Option (FM) := BX96_settle_64 (FX96_settle_65 n k22) a0 a1 s0 s1 M
noncomputable def BX96_settle_60 (g65 : Nat → Int32 → Nat → Int32 → Int32 → FM → Option (FM)) (a0 : Nat) (a1 : Int32) (s0 : Nat) (s1 : Int32) (M : FM) : Option (FM) :=
  g65 a0 a1 s0 s1 (Int32.ofInt 1) M
noncomputable def FX96_settle_60 (n : Nat) (k22 : Nat → Int32 → FM → Option (FM)) (a0 : Nat) (a1 : Int32) (s0 : Nat) (s1 : Int32) (M : FM) : Option (FM) := BX96_settle_60 (FX96_settle_65 n k22) a0 a1 s0 s1 M
noncomputable def BX96_settle_22 (g60 : Nat → Int32 → Nat → Int32 → FM → Option (FM)) (g64 : Nat → Int32 → Nat → Int32 → FM → Option (FM)) (a0 : Nat) (a1 : Int32) (M : FM) : Option (FM) :=
  fi ((Int32.ofInt 32) ≤ a1) (
    some M) (
    fi (fm_is M 99 99 a0 = true) (
    fi (fm_is M 99 99 a0 = true) (
    let x1 : Nat := (M.2.2 400 a0 0)
    fi (fm_is M 904 904 x1 = true ∧ fm_in M x1 a1 = true) (
    fi ((M.1 3 x1 a1.toNatClampNeg) = 0) (
      fi (fm_is M 99 99 a0 = true) (
      let x2 : Nat := (M.2.2 399 a0 0)
      fi (fm_is M 904 904 x2 = true ∧ fm_in M x2 a1 = true) (
      fi ((M.1 3 x2 a1.toNatClampNeg) = 0) (
        g64 a0 a1 (M.2.2 400 a0 0) a1 M) (
        fi (fm_is M 99 99 a0 = true) (
        let x3 : Nat := (M.2.2 401 a0 0)
        fi (fm_is M 904 904 x3 = true ∧ fm_in M x3 a1 = true) (
        fi ((M.1 3 x3 a1.toNatClampNeg) = 0) (
          g60 a0 a1 (M.2.2 400 a0 0) a1 M) (
          g64 a0 a1 (M.2.2 400 a0 0) a1 M)) none) none)) none) none) (
      g60 a0 a1 (M.2.2 400 a0 0) a1 M)) none) none) none)
noncomputable def FX96_settle_22 (n : Nat) (k22 : Nat → Int32 → FM → Option (FM)) (a0 : Nat) (a1 : Int32) (M : FM) : Option (FM) := BX96_settle_22 (FX96_settle_60 n k22) (FX96_settle_64 n k22) a0 a1 M
noncomputable def BX96_settle_19 (k22 : Nat → Int32 → FM → Option (FM)) (a0 : Nat) (s0 : Nat) (s1 : Int32) (s2 : Int32) (M : FM) : Option (FM) :=
  fi (fm_is M 904 904 s0 = true ∧ fm_in M s0 s1 = true) (
  let M1 : FM := fm_sI M 3 s0 s1.toNatClampNeg (s2 &&& 1)
  k22 a0 (Int32.ofInt 1) M1) none
noncomputable def FX96_settle_19 (n : Nat) (k22 : Nat → Int32 → FM → Option (FM)) (a0 : Nat) (s0 : Nat) (s1 : Int32) (s2 : Int32) (M : FM) : Option (FM) := BX96_settle_19 k22 a0 s0 s1 s2 M
noncomputable def BX96_settle_0 (f0 : Nat → FM → Option (Int32 × FM)) (g19 : Nat → Nat → Int32 → Int32 → FM → Option (FM)) (a0 : Nat) (M : FM) : Option (FM) :=
  fi (fm_is M 99 99 a0 = true) (
  fi (fm_is M 99 99 a0 = true) (
  (f0 a0 M).bind fun r1 =>
  fi (r1.1 = (Int32.ofInt 1)) (
    g19 a0 (M.2.2 399 a0 0) (Int32.ofInt 10) (Int32.ofInt 0) r1.2) (
    g19 a0 (M.2.2 399 a0 0) (Int32.ofInt 10) (Int32.ofInt 1) r1.2)) none) none
noncomputable def FX96_settle_0 (n : Nat) (k22 : Nat → Int32 → FM → Option (FM)) (a0 : Nat) (M : FM) : Option (FM) := BX96_settle_0 FX96_cause (FX96_settle_19 n k22) a0 M
noncomputable def FX96_settle_L22 (n : Nat) : Nat → Nat → Int32 → FM → Option (FM)
  | 0 => fun _ _ _ => none
  | j + 1 => FX96_settle_22 n (FX96_settle_L22 n j)
noncomputable def FX96_settle (n : Nat) (a0 : Nat) (M : FM) : Option (FM) := FX96_settle_0 n (FX96_settle_L22 n n) a0 M
/-! BoardMachineModel$Signals.contextAt(JJJ)I -/
noncomputable def BX96_contextAt_59 (s0 : Int32) (M : FM) : Option (Int32 × FM) :=
  some (s0, M)
noncomputable def FX96_contextAt_59 (s0 : Int32) (M : FM) : Option (Int32 × FM) := BX96_contextAt_59 s0 M
noncomputable def BX96_contextAt_41 (g59 : Int32 → FM → Option (Int32 × FM)) (a1 : Int64) (a3 : Int64) (a5 : Int64) (s0 : Int32) (M : FM) : Option (Int32 × FM) :=
  fi (s0 = 0) (
    g59 (Int32.ofInt (-1)) M) (
    fi (a5 = 0) none (
    g59 (((a1 - a3) / a5).toInt32) M))
noncomputable def FX96_contextAt_41 (a1 : Int64) (a3 : Int64) (a5 : Int64) (s0 : Int32) (M : FM) : Option (Int32 × FM) := BX96_contextAt_41 FX96_contextAt_59 a1 a3 a5 s0 M
noncomputable def BX96_contextAt_40 (g41 : Int64 → Int64 → Int64 → Int32 → FM → Option (Int32 × FM)) (a1 : Int64) (a3 : Int64) (a5 : Int64) (M : FM) : Option (Int32 × FM) :=
  g41 a1 a3 a5 (Int32.ofInt 0) M
noncomputable def FX96_contextAt_40 (a1 : Int64) (a3 : Int64) (a5 : Int64) (M : FM) : Option (Int32 × FM) := BX96_contextAt_40 FX96_contextAt_41 a1 a3 a5 M
noncomputable def BX96_contextAt_0 (g40 : Int64 → Int64 → Int64 → FM → Option (Int32 × FM)) (g41 : Int64 → Int64 → Int64 → Int32 → FM → Option (Int32 × FM)) (a0 : Nat) (a1 : Int64) (a3 : Int64) (a5 : Int64) (M : FM) : Option (Int32 × FM) :=
  fi ((lg_cmp a1 a3) < 0) (
    g40 a1 a3 a5 M) (
    let x1 : Int64 := (a1 - a3)
    fi (a5 = 0) none (
    fi ((lg_cmp (x1 - x1 / a5 * a5) (Int64.ofInt 0)) = 0) (
      fi (a5 = 0) none (
      fi (fm_is M 99 99 a0 = true) (
      fi (0 ≤ (lg_cmp ((a1 - a3) / a5) ((Int64.ofInt 2) * (M.1 395 a0 0).toInt64))) (
        g40 a1 a3 a5 M) (
        g41 a1 a3 a5 (Int32.ofInt 1) M)) none)) (
      g40 a1 a3 a5 M)))
noncomputable def FX96_contextAt_0 (a0 : Nat) (a1 : Int64) (a3 : Int64) (a5 : Int64) (M : FM) : Option (Int32 × FM) := BX96_contextAt_0 FX96_contextAt_40 FX96_contextAt_41 a0 a1 a3 a5 M
noncomputable def FX96_contextAt (a0 : Nat) (a1 : Int64) (a3 : Int64) (a5 : Int64) (M : FM) : Option (Int32 × FM) := FX96_contextAt_0 a0 a1 a3 a5 M
/-! BoardMachineModel$Signals.isSource(J)Z -/
noncomputable def BX96_isSource_19 (s0 : Int32) (M : FM) : Option (Int32 × FM) :=
  fi (s0 = 0 ∨ s0 = 1) (some (s0, M)) none
noncomputable def FX96_isSource_19 (s0 : Int32) (M : FM) : Option (Int32 × FM) := BX96_isSource_19 s0 M
noncomputable def BX96_isSource_18 (g19 : Int32 → FM → Option (Int32 × FM)) (M : FM) : Option (Int32 × FM) :=
  g19 (Int32.ofInt 0) M
noncomputable def FX96_isSource_18 (M : FM) : Option (Int32 × FM) := BX96_isSource_18 FX96_isSource_19 M
noncomputable def BX96_isSource_0 (g18 : FM → Option (Int32 × FM)) (g19 : Int32 → FM → Option (Int32 × FM)) (a0 : Int64) (M : FM) : Option (Int32 × FM) :=
  fi ((lg_cmp a0 (Int64.ofInt 0)) ≤ 0) (
    g18 M) (
    fi (0 ≤ (lg_cmp a0 (Int64.ofInt 32))) (
      g18 M) (
      g19 (Int32.ofInt 1) M))
noncomputable def FX96_isSource_0 (a0 : Int64) (M : FM) : Option (Int32 × FM) := BX96_isSource_0 FX96_isSource_18 FX96_isSource_19 a0 M
noncomputable def FX96_isSource (a0 : Int64) (M : FM) : Option (Int32 × FM) := FX96_isSource_0 a0 M
/-! BoardMachineModel$Signals.writeController(JJ)V -/
noncomputable def BX96_writeController_161 (M : FM) : Option (FM) :=
  some M
noncomputable def FX96_writeController_161 (M : FM) : Option (FM) := BX96_writeController_161 M
noncomputable def BX96_writeController_107 (f0 : Nat → Int64 → Int64 → Int64 → FM → Option (Int32 × FM)) (f1 : Int64 → FM → Option (Int32 × FM)) (f2 : Nat → Int32 → Int32 → FM → Option (Int32 × FM)) (g161 : FM → Option (FM)) (a0 : Nat) (a1 : Int64) (a3 : Int64) (M : FM) : Option (FM) :=
  fi (fm_is M 99 99 a0 = true) (
  (f0 a0 a1 (Int64.ofInt 2097156) (Int64.ofInt 4096) M).bind fun r1 =>
  let x2 : Int64 := (a3 &&& (Int64.ofInt 4294967295))
  fi (r1.1 < 0) (
    g161 r1.2) (
    (f1 x2 r1.2).bind fun r3 =>
    fi (r3.1 = 0) (
      g161 r3.2) (
      fi (fm_is r3.2 99 99 a0 = true) (
      (f2 a0 r1.1 x2.toInt32 r3.2).bind fun r4 =>
      fi (r4.1 = 0) (
        g161 r4.2) (
        fi (fm_is r4.2 99 99 a0 = true) (
        let x5 : Int32 := x2.toInt32
        let x6 : Nat := (r4.2.2.2 401 a0 0)
        fi (fm_is r4.2 904 904 x6 = true ∧ fm_in r4.2 x6 x5 = true) (
        let M7 : FM := fm_sI r4.2 3 x6 x5.toNatClampNeg ((Int32.ofInt 0) &&& 1)
        g161 M7) none) none)) none))) none
noncomputable def FX96_writeController_107 (a0 : Nat) (a1 : Int64) (a3 : Int64) (M : FM) : Option (FM) := BX96_writeController_107 FX96_contextAt FX96_isSource FX96_enables FX96_writeController_161 a0 a1 a3 M
noncomputable def BX96_writeController_76 (f0 : Nat → Int64 → Int64 → Int64 → FM → Option (Int32 × FM)) (g107 : Nat → Int64 → Int64 → FM → Option (FM)) (a0 : Nat) (a1 : Int64) (a3 : Int64) (M : FM) : Option (FM) :=
  fi (fm_is M 99 99 a0 = true) (
  (f0 a0 a1 (Int64.ofInt 2097152) (Int64.ofInt 4096) M).bind fun r1 =>
  fi (r1.1 < 0) (
    g107 a0 a1 a3 r1.2) (
    fi (fm_is r1.2 99 99 a0 = true) (
    let x2 : Nat := (r1.2.2.2 404 a0 0)
    fi (fm_is r1.2 901 901 x2 = true ∧ fm_in r1.2 x2 r1.1 = true) (
    let M3 : FM := fm_sI r1.2 3 x2 r1.1.toNatClampNeg ((a3 &&& (Int64.ofInt 7)).toInt32)
    g107 a0 a1 a3 M3) none) none)) none
noncomputable def FX96_writeController_76 (a0 : Nat) (a1 : Int64) (a3 : Int64) (M : FM) : Option (FM) := BX96_writeController_76 FX96_contextAt FX96_writeController_107 a0 a1 a3 M
noncomputable def BX96_writeController_46 (f0 : Nat → Int64 → Int64 → Int64 → FM → Option (Int32 × FM)) (g76 : Nat → Int64 → Int64 → FM → Option (FM)) (a0 : Nat) (a1 : Int64) (a3 : Int64) (M : FM) : Option (FM) :=
  fi (fm_is M 99 99 a0 = true) (
  (f0 a0 a1 (Int64.ofInt 8192) (Int64.ofInt 128) M).bind fun r1 =>
  fi (r1.1 < 0) (
    g76 a0 a1 a3 r1.2) (
    fi (fm_is r1.2 99 99 a0 = true) (
    let x2 : Nat := (r1.2.2.2 403 a0 0)
    fi (fm_is r1.2 901 901 x2 = true ∧ fm_in r1.2 x2 r1.1 = true) (
    let M3 : FM := fm_sI r1.2 3 x2 r1.1.toNatClampNeg (a3.toInt32 &&& (Int32.ofInt (-2)))
    g76 a0 a1 a3 M3) none) none)) none
noncomputable def FX96_writeController_46 (a0 : Nat) (a1 : Int64) (a3 : Int64) (M : FM) : Option (FM) := BX96_writeController_46 FX96_contextAt FX96_writeController_76 a0 a1 a3 M
noncomputable def BX96_writeController_0 (f1 : Int64 → FM → Option (Int32 × FM)) (g46 : Nat → Int64 → Int64 → FM → Option (FM)) (a0 : Nat) (a1 : Int64) (a3 : Int64) (M : FM) : Option (FM) :=
  fi (0 ≤ (lg_cmp a1 (Int64.ofInt 128))) (
    g46 a0 a1 a3 M) (
    fi ((Int64.ofInt 4) = 0) none (
    fi ((lg_cmp (a1 - a1 / (Int64.ofInt 4) * (Int64.ofInt 4)) (Int64.ofInt 0)) = 0) (
      fi ((Int64.ofInt 4) = 0) none (
      (f1 (a1 / (Int64.ofInt 4)) M).bind fun r1 =>
      fi (r1.1 = 0) (
        g46 a0 a1 a3 r1.2) (
        fi (fm_is r1.2 99 99 a0 = true) (
        fi ((Int64.ofInt 4) = 0) none (
        let x2 : Int32 := (a1 / (Int64.ofInt 4)).toInt32
        let x3 : Nat := (r1.2.2.2 402 a0 0)
        fi (fm_is r1.2 901 901 x3 = true ∧ fm_in r1.2 x3 x2 = true) (
        let M4 : FM := fm_sI r1.2 3 x3 x2.toNatClampNeg ((a3 &&& (Int64.ofInt 7)).toInt32)
        g46 a0 a1 a3 M4) none)) none))) (
      g46 a0 a1 a3 M)))
noncomputable def FX96_writeController_0 (a0 : Nat) (a1 : Int64) (a3 : Int64) (M : FM) : Option (FM) := BX96_writeController_0 FX96_isSource FX96_writeController_46 a0 a1 a3 M
noncomputable def FX96_writeController (a0 : Nat) (a1 : Int64) (a3 : Int64) (M : FM) : Option (FM) := FX96_writeController_0 a0 a1 a3 M
/-! BoardMachineModel$Signals.space()I -/
noncomputable def BX96_space_13 (a0 : Nat) (s0 : Int32) (M : FM) : Option (Int32 × FM) :=
  fi (fm_is M 99 99 a0 = true) (
  some ((s0 - (M.1 411 a0 0)), M)) none
noncomputable def FX96_space_13 (a0 : Nat) (s0 : Int32) (M : FM) : Option (Int32 × FM) := BX96_space_13 a0 s0 M
noncomputable def BX96_space_0 (g13 : Nat → Int32 → FM → Option (Int32 × FM)) (a0 : Nat) (M : FM) : Option (Int32 × FM) :=
  fi (fm_is M 99 99 a0 = true) (
  fi ((M.1 407 a0 0) = 0) (
    g13 a0 (Int32.ofInt 1) M) (
    g13 a0 (Int32.ofInt 16) M)) none
noncomputable def FX96_space_0 (a0 : Nat) (M : FM) : Option (Int32 × FM) := BX96_space_0 FX96_space_13 a0 M
noncomputable def FX96_space (a0 : Nat) (M : FM) : Option (Int32 × FM) := FX96_space_0 a0 M
/-! BoardMachineModel$Signals.takeIn(I)Z -/
noncomputable def BX96_takeIn_0 (f0 : Nat → FM → Option (Int32 × FM)) (a0 : Nat) (a1 : Int32) (M : FM) : Option (Int32 × FM) :=
  fi (fm_is M 99 99 a0 = true) (
  (f0 a0 M).bind fun r1 =>
  fi (r1.1 = 0) (
    fi (fm_is r1.2 99 99 a0 = true) (
    fi ((Int32.ofInt 1) = 0 ∨ (Int32.ofInt 1) = 1) (
    let M2 : FM := fm_sI r1.2 408 a0 0 (Int32.ofInt 1)
    fi ((Int32.ofInt 0) = 0 ∨ (Int32.ofInt 0) = 1) (some ((Int32.ofInt 0), M2)) none) none) none) (
    fi (fm_is r1.2 99 99 a0 = true) (
    fi (fm_is r1.2 99 99 a0 = true) (
    let x3 : Int32 := (r1.2.1 411 a0 0)
    let x4 : Nat := (r1.2.2.2 410 a0 0)
    fi (fm_is r1.2 901 901 x4 = true ∧ fm_in r1.2 x4 x3 = true) (
    let M5 : FM := fm_sI r1.2 3 x4 x3.toNatClampNeg (a1 &&& (Int32.ofInt 255))
    fi (fm_is M5 99 99 a0 = true) (
    fi (fm_is M5 99 99 a0 = true) (
    let M6 : FM := fm_sI M5 411 a0 0 ((M5.1 411 a0 0) + (Int32.ofInt 1))
    fi ((Int32.ofInt 1) = 0 ∨ (Int32.ofInt 1) = 1) (some ((Int32.ofInt 1), M6)) none) none) none) none) none) none)) none
noncomputable def FX96_takeIn_0 (a0 : Nat) (a1 : Int32) (M : FM) : Option (Int32 × FM) := BX96_takeIn_0 FX96_space a0 a1 M
noncomputable def FX96_takeIn (a0 : Nat) (a1 : Int32) (M : FM) : Option (Int32 × FM) := FX96_takeIn_0 a0 a1 M
/-! BoardMachineModel$Signals.send(I)V -/
noncomputable def BX96_send_61 (a0 : Nat) (M : FM) : Option (FM) :=
  fi (fm_is M 99 99 a0 = true) (
  fi ((Int32.ofInt 1) = 0 ∨ (Int32.ofInt 1) = 1) (
  let M1 : FM := fm_sI M 409 a0 0 (Int32.ofInt 1)
  some M1) none) none
noncomputable def FX96_send_61 (a0 : Nat) (M : FM) : Option (FM) := BX96_send_61 a0 M
noncomputable def BX96_send_30 (g61 : Nat → FM → Option (FM)) (a0 : Nat) (s0 : Nat) (s1 : Int32) (M : FM) : Option (FM) :=
  fi (fm_is M 99 99 s0 = true) (
  fi (s1 = 0 ∨ s1 = 1) (
  let M1 : FM := fm_sI M 408 s0 0 s1
  g61 a0 M1) none) none
noncomputable def FX96_send_30 (a0 : Nat) (s0 : Nat) (s1 : Int32) (M : FM) : Option (FM) := BX96_send_30 FX96_send_61 a0 s0 s1 M
noncomputable def BX96_send_25 (g30 : Nat → Nat → Int32 → FM → Option (FM)) (a0 : Nat) (s0 : Nat) (M : FM) : Option (FM) :=
  g30 a0 s0 (Int32.ofInt 1) M
noncomputable def FX96_send_25 (a0 : Nat) (s0 : Nat) (M : FM) : Option (FM) := BX96_send_25 FX96_send_30 a0 s0 M
noncomputable def BX96_send_0 (f0 : Nat → Int32 → Int32 → FM → Option (Int32 × FM)) (f1 : Nat → Int32 → FM → Option (Int32 × FM)) (g25 : Nat → Nat → FM → Option (FM)) (g30 : Nat → Nat → Int32 → FM → Option (FM)) (g61 : Nat → FM → Option (FM)) (a0 : Nat) (a1 : Int32) (M : FM) : Option (FM) :=
  fi (fm_is M 99 99 a0 = true) (
  (f0 a0 (Int32.ofInt 4) (Int32.ofInt 4) M).bind fun r1 =>
  fi (r1.1 = 0) (
    fi (fm_is r1.2 99 99 a0 = true) (
    fi (fm_is r1.2 99 99 a0 = true) (
    let x2 : Int64 := (r1.2.2.1 413 a0 0)
    fi ((Int64.ofInt 4096) = 0) none (
    let x3 : Int32 := (x2 - x2 / (Int64.ofInt 4096) * (Int64.ofInt 4096)).toInt32
    let x4 : Nat := (r1.2.2.2 412 a0 0)
    fi (fm_is r1.2 901 901 x4 = true ∧ fm_in r1.2 x4 x3 = true) (
    let M5 : FM := fm_sI r1.2 3 x4 x3.toNatClampNeg a1
    fi (fm_is M5 99 99 a0 = true) (
    fi (fm_is M5 99 99 a0 = true) (
    let M6 : FM := fm_sL M5 413 a0 0 ((M5.2.1 413 a0 0) + (Int64.ofInt 1))
    g61 a0 M6) none) none) none)) none) none) (
    fi (fm_is r1.2 99 99 a0 = true) (
    (f1 a0 a1 r1.2).bind fun r7 =>
    fi (r7.1 = 0) (
      g25 a0 a0 r7.2) (
      fi (fm_is r7.2 99 99 a0 = true) (
      fi ((r7.2.1 408 a0 0) = 0) (
        g30 a0 a0 (Int32.ofInt 0) r7.2) (
        g25 a0 a0 r7.2)) none)) none)) none
noncomputable def FX96_send_0 (a0 : Nat) (a1 : Int32) (M : FM) : Option (FM) := BX96_send_0 FX96_hasBit FX96_takeIn FX96_send_25 FX96_send_30 FX96_send_61 a0 a1 M
noncomputable def FX96_send (a0 : Nat) (a1 : Int32) (M : FM) : Option (FM) := FX96_send_0 a0 a1 M
/-! BoardMachineModel$Signals.writeSerial(II)V -/
noncomputable def BX96_writeSerial_215 (M : FM) : Option (FM) :=
  some M
noncomputable def FX96_writeSerial_215 (M : FM) : Option (FM) := BX96_writeSerial_215 M
noncomputable def BX96_writeSerial_208 (g215 : FM → Option (FM)) (a0 : Nat) (a1 : Int32) (a2 : Int32) (M : FM) : Option (FM) :=
  fi (fm_is M 99 99 a0 = true) (
  let x1 : Nat := (M.2.2 405 a0 0)
  fi (fm_is M 901 901 x1 = true ∧ fm_in M x1 a1 = true) (
  let M2 : FM := fm_sI M 3 x1 a1.toNatClampNeg a2
  g215 M2) none) none
noncomputable def FX96_writeSerial_208 (a0 : Nat) (a1 : Int32) (a2 : Int32) (M : FM) : Option (FM) := BX96_writeSerial_208 FX96_writeSerial_215 a0 a1 a2 M
noncomputable def BX96_writeSerial_205 (g215 : FM → Option (FM)) (M : FM) : Option (FM) :=
  g215 M
noncomputable def FX96_writeSerial_205 (M : FM) : Option (FM) := BX96_writeSerial_205 FX96_writeSerial_215 M
noncomputable def BX96_writeSerial_186 (g215 : FM → Option (FM)) (s0 : Nat) (s1 : Int32) (M : FM) : Option (FM) :=
  fi (fm_is M 99 99 s0 = true) (
  fi (s1 = 0 ∨ s1 = 1) (
  let M1 : FM := fm_sI M 407 s0 0 s1
  g215 M1) none) none
noncomputable def FX96_writeSerial_186 (s0 : Nat) (s1 : Int32) (M : FM) : Option (FM) := BX96_writeSerial_186 FX96_writeSerial_215 s0 s1 M
noncomputable def BX96_writeSerial_170 (g186 : Nat → Int32 → FM → Option (FM)) (a0 : Nat) (a2 : Int32) (s0 : Nat) (s1 : Int32) (M : FM) : Option (FM) :=
  fi (fm_is M 99 99 s0 = true) (
  let M1 : FM := fm_sI M 411 s0 0 s1
  fi ((a2 &&& (Int32.ofInt 1)) = (Int32.ofInt 1)) (
    g186 a0 (Int32.ofInt 1) M1) (
    g186 a0 (Int32.ofInt 0) M1)) none
noncomputable def FX96_writeSerial_170 (a0 : Nat) (a2 : Int32) (s0 : Nat) (s1 : Int32) (M : FM) : Option (FM) := BX96_writeSerial_170 FX96_writeSerial_186 a0 a2 s0 s1 M
noncomputable def BX96_writeSerial_162 (g170 : Nat → Int32 → Nat → Int32 → FM → Option (FM)) (a0 : Nat) (a2 : Int32) (s0 : Nat) (M : FM) : Option (FM) :=
  g170 a0 a2 s0 (Int32.ofInt 0) M
noncomputable def FX96_writeSerial_162 (a0 : Nat) (a2 : Int32) (s0 : Nat) (M : FM) : Option (FM) := BX96_writeSerial_162 FX96_writeSerial_170 a0 a2 s0 M
noncomputable def BX96_writeSerial_147 (g162 : Nat → Int32 → Nat → FM → Option (FM)) (g170 : Nat → Int32 → Nat → Int32 → FM → Option (FM)) (a0 : Nat) (a2 : Int32) (s0 : Int32) (M : FM) : Option (FM) :=
  fi (s0 = 0) (
    fi (((a2 >>> ((Int32.ofInt 1) &&& 31)) &&& (Int32.ofInt 1)) = (Int32.ofInt 1)) (
      g162 a0 a2 a0 M) (
      fi (fm_is M 99 99 a0 = true) (
      g170 a0 a2 a0 (M.1 411 a0 0) M) none)) (
    g162 a0 a2 a0 M)
noncomputable def FX96_writeSerial_147 (a0 : Nat) (a2 : Int32) (s0 : Int32) (M : FM) : Option (FM) := BX96_writeSerial_147 FX96_writeSerial_162 FX96_writeSerial_170 a0 a2 s0 M
noncomputable def BX96_writeSerial_139 (g147 : Nat → Int32 → Int32 → FM → Option (FM)) (a0 : Nat) (a2 : Int32) (s0 : Int32) (s1 : Int32) (M : FM) : Option (FM) :=
  fi (s0 = s1) (
    g147 a0 a2 (Int32.ofInt 0) M) (
    g147 a0 a2 (Int32.ofInt 1) M)
noncomputable def FX96_writeSerial_139 (a0 : Nat) (a2 : Int32) (s0 : Int32) (s1 : Int32) (M : FM) : Option (FM) := BX96_writeSerial_139 FX96_writeSerial_147 a0 a2 s0 s1 M
noncomputable def BX96_writeSerial_107 (g215 : FM → Option (FM)) (a0 : Nat) (a2 : Int32) (s0 : Nat) (s1 : Int32) (M : FM) : Option (FM) :=
  fi (fm_is M 99 99 s0 = true) (
  fi (s1 = 0 ∨ s1 = 1) (
  let M1 : FM := fm_sI M 409 s0 0 s1
  fi (fm_is M1 99 99 a0 = true) (
  let x2 : Nat := (M1.2.2 405 a0 0)
  fi (fm_is M1 901 901 x2 = true ∧ fm_in M1 x2 (Int32.ofInt 1) = true) (
  let M3 : FM := fm_sI M1 3 x2 (Int32.ofInt 1).toNatClampNeg (a2 &&& (Int32.ofInt 15))
  g215 M3) none) none) none) none
noncomputable def FX96_writeSerial_107 (a0 : Nat) (a2 : Int32) (s0 : Nat) (s1 : Int32) (M : FM) : Option (FM) := BX96_writeSerial_107 FX96_writeSerial_215 a0 a2 s0 s1 M
noncomputable def BX96_writeSerial_106 (g107 : Nat → Int32 → Nat → Int32 → FM → Option (FM)) (a0 : Nat) (a2 : Int32) (s0 : Nat) (M : FM) : Option (FM) :=
  g107 a0 a2 s0 (Int32.ofInt 0) M
noncomputable def FX96_writeSerial_106 (a0 : Nat) (a2 : Int32) (s0 : Nat) (M : FM) : Option (FM) := BX96_writeSerial_106 FX96_writeSerial_107 a0 a2 s0 M
noncomputable def BX96_writeSerial_102 (g107 : Nat → Int32 → Nat → Int32 → FM → Option (FM)) (a0 : Nat) (a2 : Int32) (s0 : Nat) (M : FM) : Option (FM) :=
  g107 a0 a2 s0 (Int32.ofInt 1) M
noncomputable def FX96_writeSerial_102 (a0 : Nat) (a2 : Int32) (s0 : Nat) (M : FM) : Option (FM) := BX96_writeSerial_102 FX96_writeSerial_107 a0 a2 s0 M
noncomputable def BX96_writeSerial_23 (f0 : Nat → Int32 → Int32 → FM → Option (Int32 × FM)) (f1 : Nat → Int32 → FM → Option (FM)) (g102 : Nat → Int32 → Nat → FM → Option (FM)) (g106 : Nat → Int32 → Nat → FM → Option (FM)) (g139 : Nat → Int32 → Int32 → Int32 → FM → Option (FM)) (g205 : FM → Option (FM)) (g208 : Nat → Int32 → Int32 → FM → Option (FM)) (g215 : FM → Option (FM)) (a0 : Nat) (a1 : Int32) (a2 : Int32) (M : FM) : Option (FM) :=
  fi (a1 = (Int32.ofInt 0)) (
    fi (fm_is M 99 99 a0 = true) (
    (f1 a0 a2 M).bind fun M1 =>
    g215 M1) none) (
  fi (a1 = (Int32.ofInt 1)) (
    fi (fm_is M 99 99 a0 = true) (
    fi ((M.1 409 a0 0) = 0) (
      fi (fm_is M 99 99 a0 = true) (
      (f0 a0 (Int32.ofInt 1) (Int32.ofInt 1) M).bind fun r2 =>
      fi (r2.1 = 0) (
        fi (((a2 >>> ((Int32.ofInt 1) &&& 31)) &&& (Int32.ofInt 1)) = (Int32.ofInt 1)) (
          g102 a0 a2 a0 r2.2) (
          g106 a0 a2 a0 r2.2)) (
        g106 a0 a2 a0 r2.2)) none) (
      g102 a0 a2 a0 M)) none) (
  fi (a1 = (Int32.ofInt 2)) (
    fi (fm_is M 99 99 a0 = true) (
    fi ((a2 &&& (Int32.ofInt 1)) = (Int32.ofInt 1)) (
      g139 a0 a2 (M.1 407 a0 0) (Int32.ofInt 1) M) (
      g139 a0 a2 (M.1 407 a0 0) (Int32.ofInt 0) M)) none) (
  fi (a1 = (Int32.ofInt 3)) (
    g208 a0 a1 a2 M) (
  fi (a1 = (Int32.ofInt 4)) (
    fi (fm_is M 99 99 a0 = true) (
    let x3 : Nat := (M.2.2 405 a0 0)
    fi (fm_is M 901 901 x3 = true ∧ fm_in M x3 (Int32.ofInt 4) = true) (
    let M4 : FM := fm_sI M 3 x3 (Int32.ofInt 4).toNatClampNeg (a2 &&& (Int32.ofInt 31))
    g215 M4) none) none) (
  fi (a1 = (Int32.ofInt 5)) (
    g205 M) (
  fi (a1 = (Int32.ofInt 6)) (
    g205 M) (
  g208 a0 a1 a2 M)))))))
noncomputable def FX96_writeSerial_23 (a0 : Nat) (a1 : Int32) (a2 : Int32) (M : FM) : Option (FM) := BX96_writeSerial_23 FX96_hasBit FX96_send FX96_writeSerial_102 FX96_writeSerial_106 FX96_writeSerial_139 FX96_writeSerial_205 FX96_writeSerial_208 FX96_writeSerial_215 a0 a1 a2 M
noncomputable def BX96_writeSerial_0 (f0 : Nat → Int32 → Int32 → FM → Option (Int32 × FM)) (g23 : Nat → Int32 → Int32 → FM → Option (FM)) (a0 : Nat) (a1 : Int32) (a2 : Int32) (M : FM) : Option (FM) :=
  fi ((Int32.ofInt 2) ≤ a1) (
    g23 a0 a1 a2 M) (
    fi (fm_is M 99 99 a0 = true) (
    (f0 a0 (Int32.ofInt 3) (Int32.ofInt 7) M).bind fun r1 =>
    fi (r1.1 = 0) (
      g23 a0 a1 a2 r1.2) (
      fi (fm_is r1.2 99 99 a0 = true) (
      let x2 : Nat := (r1.2.2.2 406 a0 0)
      fi (fm_is r1.2 901 901 x2 = true ∧ fm_in r1.2 x2 a1 = true) (
      let M3 : FM := fm_sI r1.2 3 x2 a1.toNatClampNeg a2
      some M3) none) none)) none)
noncomputable def FX96_writeSerial_0 (a0 : Nat) (a1 : Int32) (a2 : Int32) (M : FM) : Option (FM) := BX96_writeSerial_0 FX96_hasBit FX96_writeSerial_23 a0 a1 a2 M
noncomputable def FX96_writeSerial (a0 : Nat) (a1 : Int32) (a2 : Int32) (M : FM) : Option (FM) := FX96_writeSerial_0 a0 a1 a2 M
/-! BoardMachineModel$Signals.write(IJIJ)V -/
noncomputable def BX96_write_96 (f2 : Nat → FM → Option (FM)) (a0 : Nat) (M : FM) : Option (FM) :=
  fi (fm_is M 99 99 a0 = true) (
  (f2 a0 M).bind fun M1 =>
  some M1) none
noncomputable def FX96_write_96 (n : Nat) (a0 : Nat) (M : FM) : Option (FM) := BX96_write_96 (FX96_settle n) a0 M
noncomputable def BX96_write_64 (f4 : Nat → Int32 → Int32 → FM → Option (FM)) (g96 : Nat → FM → Option (FM)) (a0 : Nat) (a1 : Int32) (a2 : Int64) (a4 : Int32) (a5 : Int64) (M : FM) : Option (FM) :=
  fi (a1 = (Int32.ofInt 2)) (
    fi (a4 = (Int32.ofInt 1)) (
      fi (0 ≤ (lg_cmp a2 (Int64.ofInt 8))) (
        g96 a0 M) (
        fi (fm_is M 99 99 a0 = true) (
        (f4 a0 a2.toInt32 ((a5 &&& (Int64.ofInt 255)).toInt32) M).bind fun M1 =>
        g96 a0 M1) none)) (
      g96 a0 M)) (
    g96 a0 M)
noncomputable def FX96_write_64 (n : Nat) (a0 : Nat) (a1 : Int32) (a2 : Int64) (a4 : Int32) (a5 : Int64) (M : FM) : Option (FM) := BX96_write_64 FX96_writeSerial (FX96_write_96 n ) a0 a1 a2 a4 a5 M
noncomputable def BX96_write_16 (f1 : Nat → Int64 → Int32 → Int64 → FM → Option (FM)) (f3 : Nat → Int64 → Int64 → FM → Option (FM)) (g64 : Nat → Int32 → Int64 → Int32 → Int64 → FM → Option (FM)) (g96 : Nat → FM → Option (FM)) (a0 : Nat) (a1 : Int32) (a2 : Int64) (a4 : Int32) (a5 : Int64) (s0 : Nat) (s1 : Int32) (M : FM) : Option (FM) :=
  fi (fm_is M 99 99 s0 = true) (
  let M1 : FM := fm_sI M 394 s0 0 s1
  fi (fm_is M1 99 99 a0 = true) (
  fi ((M1.1 394 a0 0) ≤ 0) (
    fi (a1 = 0) (
      fi (fm_is M1 99 99 a0 = true) (
      (f1 a0 a2 a4 a5 M1).bind fun M2 =>
      g96 a0 M2) none) (
      fi (a1 = (Int32.ofInt 1)) (
        fi (a4 = (Int32.ofInt 4)) (
          fi (fm_is M1 99 99 a0 = true) (
          (f3 a0 a2 a5 M1).bind fun M3 =>
          g96 a0 M3) none) (
          g64 a0 a1 a2 a4 a5 M1)) (
        g64 a0 a1 a2 a4 a5 M1))) (
    some M1)) none) none
noncomputable def FX96_write_16 (n : Nat) (a0 : Nat) (a1 : Int32) (a2 : Int64) (a4 : Int32) (a5 : Int64) (s0 : Nat) (s1 : Int32) (M : FM) : Option (FM) := BX96_write_16 FX96_writeTimer FX96_writeController (FX96_write_64 n ) (FX96_write_96 n ) a0 a1 a2 a4 a5 s0 s1 M
noncomputable def BX96_write_0 (f0 : Int32 → Int64 → Int32 → FM → Option (Int32 × FM)) (g16 : Nat → Int32 → Int64 → Int32 → Int64 → Nat → Int32 → FM → Option (FM)) (a0 : Nat) (a1 : Int32) (a2 : Int64) (a4 : Int32) (a5 : Int64) (M : FM) : Option (FM) :=
  (f0 a1 a2 a4 M).bind fun r1 =>
  fi (r1.1 = 0) (
    g16 a0 a1 a2 a4 a5 a0 (Int32.ofInt 1) r1.2) (
    g16 a0 a1 a2 a4 a5 a0 (Int32.ofInt 0) r1.2)
noncomputable def FX96_write_0 (n : Nat) (a0 : Nat) (a1 : Int32) (a2 : Int64) (a4 : Int32) (a5 : Int64) (M : FM) : Option (FM) := BX96_write_0 FX96_isProper (FX96_write_16 n ) a0 a1 a2 a4 a5 M
noncomputable def FX96_write (n : Nat) (a0 : Nat) (a1 : Int32) (a2 : Int64) (a4 : Int32) (a5 : Int64) (M : FM) : Option (FM) := FX96_write_0 n a0 a1 a2 a4 a5 M
/-! BoardMachineModel$Block.noOffset(I)Z -/
noncomputable def BX95_noOffset_38 (s0 : Int32) (M : FM) : Option (Int32 × FM) :=
  fi (s0 = 0 ∨ s0 = 1) (some (s0, M)) none
noncomputable def FX95_noOffset_38 (s0 : Int32) (M : FM) : Option (Int32 × FM) := BX95_noOffset_38 s0 M
noncomputable def BX95_noOffset_23 (g38 : Int32 → FM → Option (Int32 × FM)) (a0 : Nat) (s0 : Nat) (s1 : Int32) (M : FM) : Option (Int32 × FM) :=
  fi (fm_is M 93 93 s0 = true) (
  let M1 : FM := fm_sI M 324 s0 0 s1
  fi (fm_is M1 93 93 a0 = true) (
  fi ((M1.1 324 a0 0) ≤ 0) (
    g38 (Int32.ofInt 0) M1) (
    g38 (Int32.ofInt 1) M1)) none) none
noncomputable def FX95_noOffset_23 (a0 : Nat) (s0 : Nat) (s1 : Int32) (M : FM) : Option (Int32 × FM) := BX95_noOffset_23 FX95_noOffset_38 a0 s0 s1 M
noncomputable def BX95_noOffset_18 (g23 : Nat → Nat → Int32 → FM → Option (Int32 × FM)) (a0 : Nat) (s0 : Nat) (M : FM) : Option (Int32 × FM) :=
  g23 a0 s0 (Int32.ofInt 1) M
noncomputable def FX95_noOffset_18 (a0 : Nat) (s0 : Nat) (M : FM) : Option (Int32 × FM) := BX95_noOffset_18 FX95_noOffset_23 a0 s0 M
noncomputable def BX95_noOffset_0 (g18 : Nat → Nat → FM → Option (Int32 × FM)) (g23 : Nat → Nat → Int32 → FM → Option (Int32 × FM)) (a0 : Nat) (a1 : Int32) (M : FM) : Option (Int32 × FM) :=
  fi (a1 < 0) (
    g18 a0 a0 M) (
    fi ((Int32.ofInt 508) < a1) (
      g18 a0 a0 M) (
      fi ((Int32.ofInt 4) = 0) none (
      fi ((a1 - a1 / (Int32.ofInt 4) * (Int32.ofInt 4)) = 0) (
        g23 a0 a0 (Int32.ofInt 0) M) (
        g18 a0 a0 M))))
noncomputable def FX95_noOffset_0 (a0 : Nat) (a1 : Int32) (M : FM) : Option (Int32 × FM) := BX95_noOffset_0 FX95_noOffset_18 FX95_noOffset_23 a0 a1 M
noncomputable def FX95_noOffset (a0 : Nat) (a1 : Int32) (M : FM) : Option (Int32 × FM) := FX95_noOffset_0 a0 a1 M
/-! BoardMachineModel$Block.setQueue(II)V -/
noncomputable def BX95_setQueue_161 (M : FM) : Option (FM) :=
  some M
noncomputable def FX95_setQueue_161 (M : FM) : Option (FM) := BX95_setQueue_161 M
noncomputable def BX95_setQueue_160 (g161 : FM → Option (FM)) (s0 : Nat) (s1 : Int32) (s2 : Int64) (M : FM) : Option (FM) :=
  fi (fm_is M 902 902 s0 = true ∧ fm_in M s0 s1 = true) (
  let M1 : FM := fm_sL M 3 s0 s1.toNatClampNeg s2
  g161 M1) none
noncomputable def FX95_setQueue_160 (s0 : Nat) (s1 : Int32) (s2 : Int64) (M : FM) : Option (FM) := BX95_setQueue_160 FX95_setQueue_161 s0 s1 s2 M
noncomputable def BX95_setQueue_87 (g161 : FM → Option (FM)) (s0 : Nat) (s1 : Int32) (M : FM) : Option (FM) :=
  fi (fm_is M 93 93 s0 = true) (
  fi (s1 = 0 ∨ s1 = 1) (
  let M1 : FM := fm_sI M 331 s0 0 s1
  g161 M1) none) none
noncomputable def FX95_setQueue_87 (s0 : Nat) (s1 : Int32) (M : FM) : Option (FM) := BX95_setQueue_87 FX95_setQueue_161 s0 s1 M
noncomputable def BX95_setQueue_63 (g161 : FM → Option (FM)) (s0 : Nat) (s1 : Int32) (M : FM) : Option (FM) :=
  fi (fm_is M 93 93 s0 = true) (
  let M1 : FM := fm_sI M 330 s0 0 s1
  g161 M1) none
noncomputable def FX95_setQueue_63 (s0 : Nat) (s1 : Int32) (M : FM) : Option (FM) := BX95_setQueue_63 FX95_setQueue_161 s0 s1 M
noncomputable def BX95_setQueue_55 (g63 : Nat → Int32 → FM → Option (FM)) (a2 : Int32) (s0 : Nat) (M : FM) : Option (FM) :=
  g63 s0 a2 M
noncomputable def FX95_setQueue_55 (a2 : Int32) (s0 : Nat) (M : FM) : Option (FM) := BX95_setQueue_55 FX95_setQueue_63 a2 s0 M
noncomputable def BX95_setQueue_21 (g55 : Int32 → Nat → FM → Option (FM)) (g63 : Nat → Int32 → FM → Option (FM)) (g87 : Nat → Int32 → FM → Option (FM)) (g160 : Nat → Int32 → Int64 → FM → Option (FM)) (a0 : Nat) (a1 : Int32) (a2 : Int32) (M : FM) : Option (FM) :=
  fi (a1 = (Int32.ofInt 56)) (
    fi (a2 = (Int32.ofInt 1)) (
      g55 a2 a0 M) (
      fi (a2 = (Int32.ofInt 2)) (
        g55 a2 a0 M) (
        fi (a2 = (Int32.ofInt 4)) (
          g55 a2 a0 M) (
          fi (a2 = (Int32.ofInt 8)) (
            g55 a2 a0 M) (
            fi (a2 = (Int32.ofInt 16)) (
              g55 a2 a0 M) (
              fi (fm_is M 93 93 a0 = true) (
              g63 a0 (M.1 330 a0 0) M) none)))))) (
    fi (a1 = (Int32.ofInt 68)) (
      fi ((Int32.ofInt 2) = 0) none (
      fi ((a2 - a2 / (Int32.ofInt 2) * (Int32.ofInt 2)) = 0) (
        g87 a0 (Int32.ofInt 0) M) (
        g87 a0 (Int32.ofInt 1) M))) (
      fi ((Int32.ofInt 16) = 0) none (
      let x1 : Int32 := ((a1 - (Int32.ofInt 128)) / (Int32.ofInt 16))
      fi (fm_is M 93 93 a0 = true) (
      let x2 : Nat := (M.2.2 334 a0 0)
      fi (fm_is M 902 902 x2 = true ∧ fm_in M x2 x1 = true) (
      let x3 : Int64 := ((M.2.1 3 x2 x1.toNatClampNeg) &&& (Int64.ofInt 4294967295))
      fi (fm_is M 93 93 a0 = true) (
      let x4 : Nat := (M.2.2 334 a0 0)
      fi (fm_is M 902 902 x4 = true ∧ fm_in M x4 x1 = true) (
      let x5 : Int64 := ((M.2.1 3 x4 x1.toNatClampNeg).toUInt64 >>> ((Int32.ofInt 32).toInt64.toUInt64 &&& Int64.toUInt64 63)).toInt64
      fi (fm_is M 93 93 a0 = true) (
      fi ((Int32.ofInt 8) = 0) none (
      fi ((a1 - a1 / (Int32.ofInt 8) * (Int32.ofInt 8)) = 0) (
        g160 (M.2.2 334 a0 0) x1 ((x5 <<< ((Int32.ofInt 32).toInt64 &&& 63)) ||| (a2.toInt64 &&& (Int64.ofInt 4294967295))) M) (
        g160 (M.2.2 334 a0 0) x1 ((a2.toInt64 <<< ((Int32.ofInt 32).toInt64 &&& 63)) ||| x3) M))) none) none) none) none) none)))
noncomputable def FX95_setQueue_21 (a0 : Nat) (a1 : Int32) (a2 : Int32) (M : FM) : Option (FM) := BX95_setQueue_21 FX95_setQueue_55 FX95_setQueue_63 FX95_setQueue_87 FX95_setQueue_160 a0 a1 a2 M
noncomputable def BX95_setQueue_20 (M : FM) : Option (FM) :=
  some M
noncomputable def FX95_setQueue_20 (M : FM) : Option (FM) := BX95_setQueue_20 M
noncomputable def BX95_setQueue_0 (g20 : FM → Option (FM)) (g21 : Nat → Int32 → Int32 → FM → Option (FM)) (a0 : Nat) (a1 : Int32) (a2 : Int32) (M : FM) : Option (FM) :=
  fi (fm_is M 93 93 a0 = true) (
  fi ((M.1 328 a0 0) = 0) (
    fi (fm_is M 93 93 a0 = true) (
    fi ((M.1 331 a0 0) = 0) (
      g21 a0 a1 a2 M) (
      fi (a1 = (Int32.ofInt 68)) (
        g21 a0 a1 a2 M) (
        g20 M))) none) (
    g20 M)) none
noncomputable def FX95_setQueue_0 (a0 : Nat) (a1 : Int32) (a2 : Int32) (M : FM) : Option (FM) := BX95_setQueue_0 FX95_setQueue_20 FX95_setQueue_21 a0 a1 a2 M
noncomputable def FX95_setQueue (a0 : Nat) (a1 : Int32) (a2 : Int32) (M : FM) : Option (FM) := FX95_setQueue_0 a0 a1 a2 M
/-! BoardMachineModel$Block.isThere(JJ)Z -/
noncomputable def BX95_isThere_19 (s0 : Int32) (M : FM) : Option (Int32 × FM) :=
  fi (s0 = 0 ∨ s0 = 1) (some (s0, M)) none
noncomputable def FX95_isThere_19 (s0 : Int32) (M : FM) : Option (Int32 × FM) := BX95_isThere_19 s0 M
noncomputable def BX95_isThere_14 (g19 : Int32 → FM → Option (Int32 × FM)) (M : FM) : Option (Int32 × FM) :=
  g19 (Int32.ofInt 1) M
noncomputable def FX95_isThere_14 (M : FM) : Option (Int32 × FM) := BX95_isThere_14 FX95_isThere_19 M
noncomputable def BX95_isThere_0 (f0 : Int64 → Int64 → FM → Option (Int32 × FM)) (g14 : FM → Option (Int32 × FM)) (g19 : Int32 → FM → Option (Int32 × FM)) (a0 : Int64) (a2 : Int64) (M : FM) : Option (Int32 × FM) :=
  fi ((lg_cmp a2 (Int64.ofInt 0)) = 0) (
    g14 M) (
    (f0 a0 a2 M).bind fun r1 =>
    fi (r1.1 = 0) (
      g19 (Int32.ofInt 0) r1.2) (
      g14 r1.2))
noncomputable def FX95_isThere_0 (a0 : Int64) (a2 : Int64) (M : FM) : Option (Int32 × FM) := BX95_isThere_0 FX93_areBytes FX95_isThere_14 FX95_isThere_19 a0 a2 M
noncomputable def FX95_isThere (a0 : Int64) (a2 : Int64) (M : FM) : Option (Int32 × FM) := FX95_isThere_0 a0 a2 M
/-! BoardMachineModel$Block.breakDown()V -/
noncomputable def BX95_breakDown_0 (a0 : Nat) (M : FM) : Option (FM) :=
  fi (fm_is M 93 93 a0 = true) (
  fi (fm_is M 93 93 a0 = true) (
  let M1 : FM := fm_sI M 333 a0 0 ((M.1 333 a0 0) ||| (Int32.ofInt 64))
  fi (fm_is M1 93 93 a0 = true) (
  fi (fm_is M1 93 93 a0 = true) (
  let M2 : FM := fm_sI M1 332 a0 0 ((M1.1 332 a0 0) ||| (Int32.ofInt 2))
  some M2) none) none) none) none
noncomputable def FX95_breakDown_0 (a0 : Nat) (M : FM) : Option (FM) := BX95_breakDown_0 a0 M
noncomputable def FX95_breakDown (a0 : Nat) (M : FM) : Option (FM) := FX95_breakDown_0 a0 M
/-! BoardMachineModel$Block.number(JI)J -/
noncomputable def BX95_number_8 (f0 : Nat → Int64 → FM → Option (Int32 × FM)) (k8 : Nat → Int64 → Int64 → Int32 → FM → Option (Int64 × FM)) (a0 : Nat) (a1 : Int64) (a4 : Int64) (a6 : Int32) (M : FM) : Option (Int64 × FM) :=
  fi (a6 < 0) (
    some (a4, M)) (
    fi (fm_is M 93 93 a0 = true) (
    let x1 : Nat := (M.2.2 326 a0 0)
    fi (fm_is M 98 98 x1 = true) (
    (f0 x1 (a1 + a6.toInt64) M).bind fun r2 =>
    let x3 : Int64 := (((Int64.ofInt 256) * a4) + r2.1.toInt64)
    let x4 : Int32 := a6 + (Int32.ofInt (-1))
    k8 a0 a1 x3 x4 r2.2) none) none)
noncomputable def FX95_number_8 (n : Nat) (k8 : Nat → Int64 → Int64 → Int32 → FM → Option (Int64 × FM)) (a0 : Nat) (a1 : Int64) (a4 : Int64) (a6 : Int32) (M : FM) : Option (Int64 × FM) := BX95_number_8 FX93_get k8 a0 a1 a4 a6 M
noncomputable def BX95_number_0 (k8 : Nat → Int64 → Int64 → Int32 → FM → Option (Int64 × FM)) (a0 : Nat) (a1 : Int64) (a3 : Int32) (M : FM) : Option (Int64 × FM) :=
  let x1 : Int32 := (a3 - (Int32.ofInt 1))
  k8 a0 a1 (Int64.ofInt 0) x1 M
noncomputable def FX95_number_0 (n : Nat) (k8 : Nat → Int64 → Int64 → Int32 → FM → Option (Int64 × FM)) (a0 : Nat) (a1 : Int64) (a3 : Int32) (M : FM) : Option (Int64 × FM) := BX95_number_0 k8 a0 a1 a3 M
noncomputable def FX95_number_L8 (n : Nat) : Nat → Nat → Int64 → Int64 → Int32 → FM → Option (Int64 × FM)
  | 0 => fun _ _ _ _ _ => none
  | j + 1 => FX95_number_8 n (FX95_number_L8 n j)
noncomputable def FX95_number (n : Nat) (a0 : Nat) (a1 : Int64) (a3 : Int32) (M : FM) : Option (Int64 × FM) := FX95_number_0 n (FX95_number_L8 n n) a0 a1 a3 M
/-! BoardMachineModel$Block.gather(I)Z -/
noncomputable def BX95_gather_306 (s0 : Int32) (M : FM) : Option (Int32 × FM) :=
  fi (s0 = 0 ∨ s0 = 1) (some (s0, M)) none
noncomputable def FX95_gather_306 (n : Nat) (k9 : Nat → Int32 → Int32 → FM → Option (Int32 × FM)) (s0 : Int32) (M : FM) : Option (Int32 × FM) := BX95_gather_306 s0 M
noncomputable def BX95_gather_305 (g306 : Int32 → FM → Option (Int32 × FM)) (M : FM) : Option (Int32 × FM) :=
  g306 (Int32.ofInt 0) M
noncomputable def FX95_gather_305 (n : Nat) (k9 : Nat → Int32 → Int32 → FM → Option (Int32 × FM)) (M : FM) : Option (Int32 × FM) := BX95_gather_305 (FX95_gather_306 n k9) M
noncomputable def BX95_gather_222 (f1 : Nat → Int64 → Int32 → FM → Option (Int64 × FM)) (k9 : Nat → Int32 → Int32 → FM → Option (Int32 × FM)) (a0 : Nat) (a4 : Int64) (s0 : Int32) (M : FM) : Option (Int32 × FM) :=
  fi (fm_is M 93 93 a0 = true) (
  (f1 a0 (a4 + (Int64.ofInt 14)) (Int32.ofInt 2) M).bind fun r1 =>
  let x2 : Int32 := r1.1.toInt32
  fi (fm_is r1.2 93 93 a0 = true) (
  fi (fm_is r1.2 93 93 a0 = true) (
  let M3 : FM := fm_sI r1.2 339 a0 0 ((r1.2.1 339 a0 0) + (Int32.ofInt 1))
  k9 a0 x2 s0 M3) none) none) none
noncomputable def FX95_gather_222 (n : Nat) (k9 : Nat → Int32 → Int32 → FM → Option (Int32 × FM)) (a0 : Nat) (a4 : Int64) (s0 : Int32) (M : FM) : Option (Int32 × FM) := BX95_gather_222 (FX95_number n) k9 a0 a4 s0 M
noncomputable def BX95_gather_208 (M : FM) : Option (Int32 × FM) :=
  fi ((Int32.ofInt 0) = 0 ∨ (Int32.ofInt 0) = 1) (some ((Int32.ofInt 0), M)) none
noncomputable def FX95_gather_208 (n : Nat) (k9 : Nat → Int32 → Int32 → FM → Option (Int32 × FM)) (M : FM) : Option (Int32 × FM) := BX95_gather_208 M
noncomputable def BX95_gather_170 (f0 : Int64 → Int64 → FM → Option (Int32 × FM)) (g208 : FM → Option (Int32 × FM)) (g222 : Nat → Int64 → Int32 → FM → Option (Int32 × FM)) (a0 : Nat) (a4 : Int64) (a6 : Int32) (s0 : Int32) (M : FM) : Option (Int32 × FM) :=
  fi ((a6 &&& (Int32.ofInt 4)) = 0) (
    fi (s0 = 0) (
      fi (fm_is M 93 93 a0 = true) (
      fi (fm_is M 93 93 a0 = true) (
      let x1 : Int32 := (M.1 339 a0 0)
      let x2 : Nat := (M.2.2 340 a0 0)
      fi (fm_is M 902 902 x2 = true ∧ fm_in M x2 x1 = true) (
      fi (fm_is M 93 93 a0 = true) (
      fi (fm_is M 93 93 a0 = true) (
      let x3 : Int32 := (M.1 339 a0 0)
      let x4 : Nat := (M.2.2 341 a0 0)
      fi (fm_is M 902 902 x4 = true ∧ fm_in M x4 x3 = true) (
      (f0 (M.2.1 3 x2 x1.toNatClampNeg) (M.2.1 3 x4 x3.toNatClampNeg) M).bind fun r5 =>
      fi (r5.1 = 0) (
        g208 r5.2) (
        fi ((a6 &&& (Int32.ofInt 1)) = 0) (
          g222 a0 a4 (Int32.ofInt 0) r5.2) (
          g222 a0 a4 (Int32.ofInt 1) r5.2))) none) none) none) none) none) none) (
      g208 M)) (
    g208 M)
noncomputable def FX95_gather_170 (n : Nat) (k9 : Nat → Int32 → Int32 → FM → Option (Int32 × FM)) (a0 : Nat) (a4 : Int64) (a6 : Int32) (s0 : Int32) (M : FM) : Option (Int32 × FM) := BX95_gather_170 FX95_isThere (FX95_gather_208 n k9) (FX95_gather_222 n k9) a0 a4 a6 s0 M
noncomputable def BX95_gather_169 (g170 : Nat → Int64 → Int32 → Int32 → FM → Option (Int32 × FM)) (a0 : Nat) (a4 : Int64) (a6 : Int32) (M : FM) : Option (Int32 × FM) :=
  g170 a0 a4 a6 (Int32.ofInt 0) M
noncomputable def FX95_gather_169 (n : Nat) (k9 : Nat → Int32 → Int32 → FM → Option (Int32 × FM)) (a0 : Nat) (a4 : Int64) (a6 : Int32) (M : FM) : Option (Int32 × FM) := BX95_gather_169 (FX95_gather_170 n k9) a0 a4 a6 M
noncomputable def BX95_gather_131 (g169 : Nat → Int64 → Int32 → FM → Option (Int32 × FM)) (g170 : Nat → Int64 → Int32 → Int32 → FM → Option (Int32 × FM)) (a0 : Nat) (a4 : Int64) (a6 : Int32) (s0 : Nat) (s1 : Int32) (s2 : Int32) (M : FM) : Option (Int32 × FM) :=
  fi (fm_is M 904 904 s0 = true ∧ fm_in M s0 s1 = true) (
  let M1 : FM := fm_sI M 3 s0 s1.toNatClampNeg (s2 &&& 1)
  fi (fm_is M1 93 93 a0 = true) (
  fi ((M1.1 339 a0 0) ≤ 0) (
    g169 a0 a4 a6 M1) (
    fi (fm_is M1 93 93 a0 = true) (
    fi (fm_is M1 93 93 a0 = true) (
    let x2 : Int32 := ((M1.1 339 a0 0) - (Int32.ofInt 1))
    let x3 : Nat := (M1.2.2 342 a0 0)
    fi (fm_is M1 904 904 x3 = true ∧ fm_in M1 x3 x2 = true) (
    fi ((M1.1 3 x3 x2.toNatClampNeg) = 0) (
      g169 a0 a4 a6 M1) (
      fi (fm_is M1 93 93 a0 = true) (
      fi (fm_is M1 93 93 a0 = true) (
      let x4 : Int32 := (M1.1 339 a0 0)
      let x5 : Nat := (M1.2.2 342 a0 0)
      fi (fm_is M1 904 904 x5 = true ∧ fm_in M1 x5 x4 = true) (
      fi ((M1.1 3 x5 x4.toNatClampNeg) = 0) (
        g170 a0 a4 a6 (Int32.ofInt 1) M1) (
        g169 a0 a4 a6 M1)) none) none) none)) none) none) none)) none) none
noncomputable def FX95_gather_131 (n : Nat) (k9 : Nat → Int32 → Int32 → FM → Option (Int32 × FM)) (a0 : Nat) (a4 : Int64) (a6 : Int32) (s0 : Nat) (s1 : Int32) (s2 : Int32) (M : FM) : Option (Int32 × FM) := BX95_gather_131 (FX95_gather_169 n k9) (FX95_gather_170 n k9) a0 a4 a6 s0 s1 s2 M
noncomputable def BX95_gather_58 (M : FM) : Option (Int32 × FM) :=
  fi ((Int32.ofInt 0) = 0 ∨ (Int32.ofInt 0) = 1) (some ((Int32.ofInt 0), M)) none
noncomputable def FX95_gather_58 (n : Nat) (k9 : Nat → Int32 → Int32 → FM → Option (Int32 × FM)) (M : FM) : Option (Int32 × FM) := BX95_gather_58 M
noncomputable def BX95_gather_9 (f0 : Int64 → Int64 → FM → Option (Int32 × FM)) (f1 : Nat → Int64 → Int32 → FM → Option (Int64 × FM)) (g58 : FM → Option (Int32 × FM)) (g131 : Nat → Int64 → Int32 → Nat → Int32 → Int32 → FM → Option (Int32 × FM)) (g305 : FM → Option (Int32 × FM)) (g306 : Int32 → FM → Option (Int32 × FM)) (a0 : Nat) (a2 : Int32) (a3 : Int32) (M : FM) : Option (Int32 × FM) :=
  fi (a3 = 0) (
    fi (fm_is M 93 93 a0 = true) (
    let x1 : Nat := (M.2.2 342 a0 0)
    fi (fm_is M 904 904 x1 = true ∧ fm_in M x1 (Int32.ofInt 0) = true) (
    fi ((M.1 3 x1 (Int32.ofInt 0).toNatClampNeg) = 0) (
      fi (fm_is M 93 93 a0 = true) (
      let x2 : Nat := (M.2.2 341 a0 0)
      fi (fm_is M 902 902 x2 = true ∧ fm_in M x2 (Int32.ofInt 0) = true) (
      fi ((lg_cmp (M.2.1 3 x2 (Int32.ofInt 0).toNatClampNeg) (Int64.ofInt 16)) < 0) (
        g305 M) (
        fi (fm_is M 93 93 a0 = true) (
        fi (fm_is M 93 93 a0 = true) (
        let x3 : Int32 := ((M.1 339 a0 0) - (Int32.ofInt 1))
        let x4 : Nat := (M.2.2 342 a0 0)
        fi (fm_is M 904 904 x4 = true ∧ fm_in M x4 x3 = true) (
        fi ((M.1 3 x4 x3.toNatClampNeg) = 0) (
          g305 M) (
          fi (fm_is M 93 93 a0 = true) (
          fi (fm_is M 93 93 a0 = true) (
          let x5 : Int32 := ((M.1 339 a0 0) - (Int32.ofInt 1))
          let x6 : Nat := (M.2.2 341 a0 0)
          fi (fm_is M 902 902 x6 = true ∧ fm_in M x6 x5 = true) (
          fi ((lg_cmp (M.2.1 3 x6 x5.toNatClampNeg) (Int64.ofInt 0)) ≤ 0) (
            g305 M) (
            g306 (Int32.ofInt 1) M)) none) none) none)) none) none) none)) none) none) (
      g305 M)) none) none) (
    fi (fm_is M 93 93 a0 = true) (
    let x7 : Nat := (M.2.2 334 a0 0)
    fi (fm_is M 902 902 x7 = true ∧ fm_in M x7 (Int32.ofInt 0) = true) (
    let x8 : Int64 := ((M.2.1 3 x7 (Int32.ofInt 0).toNatClampNeg) + ((Int64.ofInt 16) * a2.toInt64))
    fi (fm_is M 93 93 a0 = true) (
    fi ((M.1 330 a0 0) ≤ a2) (
      g58 M) (
      fi (fm_is M 93 93 a0 = true) (
      fi (fm_is M 93 93 a0 = true) (
      fi ((M.1 339 a0 0) = (M.1 330 a0 0)) (
        g58 M) (
        (f0 x8 (Int64.ofInt 16) M).bind fun r9 =>
        fi (r9.1 = 0) (
          g58 r9.2) (
          fi (fm_is r9.2 93 93 a0 = true) (
          (f1 a0 (x8 + (Int64.ofInt 12)) (Int32.ofInt 2) r9.2).bind fun r10 =>
          let x11 : Int32 := r10.1.toInt32
          fi (fm_is r10.2 93 93 a0 = true) (
          fi (fm_is r10.2 93 93 a0 = true) (
          fi (fm_is r10.2 93 93 a0 = true) (
          (f1 a0 x8 (Int32.ofInt 8) r10.2).bind fun r12 =>
          let x13 : Int32 := (r10.2.1 339 a0 0)
          let x14 : Nat := (r10.2.2.2 340 a0 0)
          fi (fm_is r12.2 902 902 x14 = true ∧ fm_in r12.2 x14 x13 = true) (
          let M15 : FM := fm_sL r12.2 3 x14 x13.toNatClampNeg r12.1
          fi (fm_is M15 93 93 a0 = true) (
          fi (fm_is M15 93 93 a0 = true) (
          fi (fm_is M15 93 93 a0 = true) (
          (f1 a0 (x8 + (Int64.ofInt 8)) (Int32.ofInt 4) M15).bind fun r16 =>
          let x17 : Int32 := (M15.1 339 a0 0)
          let x18 : Nat := (M15.2.2 341 a0 0)
          fi (fm_is r16.2 902 902 x18 = true ∧ fm_in r16.2 x18 x17 = true) (
          let M19 : FM := fm_sL r16.2 3 x18 x17.toNatClampNeg r16.1
          fi (fm_is M19 93 93 a0 = true) (
          fi (fm_is M19 93 93 a0 = true) (
          fi ((x11 &&& (Int32.ofInt 2)) = 0) (
            g131 a0 x8 x11 (M19.2.2 342 a0 0) (M19.1 339 a0 0) (Int32.ofInt 0) M19) (
            g131 a0 x8 x11 (M19.2.2 342 a0 0) (M19.1 339 a0 0) (Int32.ofInt 1) M19)) none) none) none) none) none) none) none) none) none) none) none))) none) none)) none) none) none)
noncomputable def FX95_gather_9 (n : Nat) (k9 : Nat → Int32 → Int32 → FM → Option (Int32 × FM)) (a0 : Nat) (a2 : Int32) (a3 : Int32) (M : FM) : Option (Int32 × FM) := BX95_gather_9 FX95_isThere (FX95_number n) (FX95_gather_58 n k9) (FX95_gather_131 n k9) (FX95_gather_305 n k9) (FX95_gather_306 n k9) a0 a2 a3 M
noncomputable def BX95_gather_0 (k9 : Nat → Int32 → Int32 → FM → Option (Int32 × FM)) (a0 : Nat) (a1 : Int32) (M : FM) : Option (Int32 × FM) :=
  fi (fm_is M 93 93 a0 = true) (
  let M1 : FM := fm_sI M 339 a0 0 (Int32.ofInt 0)
  k9 a0 a1 (Int32.ofInt 1) M1) none
noncomputable def FX95_gather_0 (n : Nat) (k9 : Nat → Int32 → Int32 → FM → Option (Int32 × FM)) (a0 : Nat) (a1 : Int32) (M : FM) : Option (Int32 × FM) := BX95_gather_0 k9 a0 a1 M
noncomputable def FX95_gather_L9 (n : Nat) : Nat → Nat → Int32 → Int32 → FM → Option (Int32 × FM)
  | 0 => fun _ _ _ _ => none
  | j + 1 => FX95_gather_9 n (FX95_gather_L9 n j)
noncomputable def FX95_gather (n : Nat) (a0 : Nat) (a1 : Int32) (M : FM) : Option (Int32 × FM) := FX95_gather_0 n (FX95_gather_L9 n n) a0 a1 M
/-! BoardMachineModel$Block.data(Z)J -/
noncomputable def BX95_data_48 (k15 : Nat → Int32 → Int64 → Int32 → FM → Option (Int64 × FM)) (a0 : Nat) (a1 : Int32) (a4 : Int32) (s0 : Int64) (M : FM) : Option (Int64 × FM) :=
  let x1 : Int32 := a4 + (Int32.ofInt 1)
  k15 a0 a1 s0 x1 M
noncomputable def FX95_data_48 (n : Nat) (k15 : Nat → Int32 → Int64 → Int32 → FM → Option (Int64 × FM)) (a0 : Nat) (a1 : Int32) (a4 : Int32) (s0 : Int64) (M : FM) : Option (Int64 × FM) := BX95_data_48 k15 a0 a1 a4 s0 M
noncomputable def BX95_data_15 (g48 : Nat → Int32 → Int32 → Int64 → FM → Option (Int64 × FM)) (a0 : Nat) (a1 : Int32) (a2 : Int64) (a4 : Int32) (M : FM) : Option (Int64 × FM) :=
  fi (fm_is M 93 93 a0 = true) (
  fi ((M.1 339 a0 0) ≤ a4) (
    some (a2, M)) (
    fi (fm_is M 93 93 a0 = true) (
    let x1 : Nat := (M.2.2 342 a0 0)
    fi (fm_is M 904 904 x1 = true ∧ fm_in M x1 a4 = true) (
    fi ((M.1 3 x1 a4.toNatClampNeg) = a1) (
      fi (fm_is M 93 93 a0 = true) (
      let x2 : Nat := (M.2.2 341 a0 0)
      fi (fm_is M 902 902 x2 = true ∧ fm_in M x2 a4 = true) (
      g48 a0 a1 a4 (a2 + (M.2.1 3 x2 a4.toNatClampNeg)) M) none) none) (
      g48 a0 a1 a4 a2 M)) none) none)) none
noncomputable def FX95_data_15 (n : Nat) (k15 : Nat → Int32 → Int64 → Int32 → FM → Option (Int64 × FM)) (a0 : Nat) (a1 : Int32) (a2 : Int64) (a4 : Int32) (M : FM) : Option (Int64 × FM) := BX95_data_15 (FX95_data_48 n k15) a0 a1 a2 a4 M
noncomputable def BX95_data_11 (k15 : Nat → Int32 → Int64 → Int32 → FM → Option (Int64 × FM)) (a0 : Nat) (a1 : Int32) (s0 : Int64) (M : FM) : Option (Int64 × FM) :=
  k15 a0 a1 s0 (Int32.ofInt 1) M
noncomputable def FX95_data_11 (n : Nat) (k15 : Nat → Int32 → Int64 → Int32 → FM → Option (Int64 × FM)) (a0 : Nat) (a1 : Int32) (s0 : Int64) (M : FM) : Option (Int64 × FM) := BX95_data_11 k15 a0 a1 s0 M
noncomputable def BX95_data_0 (g11 : Nat → Int32 → Int64 → FM → Option (Int64 × FM)) (a0 : Nat) (a1 : Int32) (M : FM) : Option (Int64 × FM) :=
  fi (a1 = 0) (
    g11 a0 a1 (Int64.ofInt 0) M) (
    g11 a0 a1 (Int64.ofInt (-1)) M)
noncomputable def FX95_data_0 (n : Nat) (k15 : Nat → Int32 → Int64 → Int32 → FM → Option (Int64 × FM)) (a0 : Nat) (a1 : Int32) (M : FM) : Option (Int64 × FM) := BX95_data_0 (FX95_data_11 n k15) a0 a1 M
noncomputable def FX95_data_L15 (n : Nat) : Nat → Nat → Int32 → Int64 → Int32 → FM → Option (Int64 × FM)
  | 0 => fun _ _ _ _ _ => none
  | j + 1 => FX95_data_15 n (FX95_data_L15 n j)
noncomputable def FX95_data (n : Nat) (a0 : Nat) (a1 : Int32) (M : FM) : Option (Int64 × FM) := FX95_data_0 n (FX95_data_L15 n n) a0 a1 M
/-! BoardMachineModel$Block.areSectors(JJ)Z -/
noncomputable def BX95_areSectors_61 (s0 : Int32) (M : FM) : Option (Int32 × FM) :=
  fi (s0 = 0 ∨ s0 = 1) (some (s0, M)) none
noncomputable def FX95_areSectors_61 (s0 : Int32) (M : FM) : Option (Int32 × FM) := BX95_areSectors_61 s0 M
noncomputable def BX95_areSectors_60 (g61 : Int32 → FM → Option (Int32 × FM)) (M : FM) : Option (Int32 × FM) :=
  g61 (Int32.ofInt 0) M
noncomputable def FX95_areSectors_60 (M : FM) : Option (Int32 × FM) := BX95_areSectors_60 FX95_areSectors_61 M
noncomputable def BX95_areSectors_0 (g60 : FM → Option (Int32 × FM)) (g61 : Int32 → FM → Option (Int32 × FM)) (a0 : Nat) (a1 : Int64) (a3 : Int64) (M : FM) : Option (Int32 × FM) :=
  fi ((lg_cmp a3 (Int64.ofInt 0)) ≤ 0) (
    g60 M) (
    fi (0 < (lg_cmp a3 (Int64.ofInt 32768))) (
      g60 M) (
      fi ((Int64.ofInt 512) = 0) none (
      fi ((lg_cmp (a3 - a3 / (Int64.ofInt 512) * (Int64.ofInt 512)) (Int64.ofInt 0)) = 0) (
        fi ((lg_cmp a1 (Int64.ofInt 0)) < 0) (
          g60 M) (
          fi (fm_is M 93 93 a0 = true) (
          fi (0 ≤ (lg_cmp a1 ((M.1 325 a0 0).toInt64))) (
            g60 M) (
            fi ((Int64.ofInt 512) = 0) none (
            fi (fm_is M 93 93 a0 = true) (
            fi (0 < (lg_cmp (a3 / (Int64.ofInt 512)) ((M.1 325 a0 0).toInt64 - a1))) (
              g60 M) (
              g61 (Int32.ofInt 1) M)) none))) none)) (
        g60 M))))
noncomputable def FX95_areSectors_0 (a0 : Nat) (a1 : Int64) (a3 : Int64) (M : FM) : Option (Int32 × FM) := BX95_areSectors_0 FX95_areSectors_60 FX95_areSectors_61 a0 a1 a3 M
noncomputable def FX95_areSectors (a0 : Nat) (a1 : Int64) (a3 : Int64) (M : FM) : Option (Int32 × FM) := FX95_areSectors_0 a0 a1 a3 M
/-! BoardMachineModel$Block.beginData(Z)V -/
noncomputable def BX95_beginData_10 (k10 : Nat → Int32 → FM → Option (FM)) (a0 : Nat) (a1 : Int32) (M : FM) : Option (FM) :=
  fi (fm_is M 93 93 a0 = true) (
  fi (fm_is M 93 93 a0 = true) (
  let x1 : Int32 := (M.1 343 a0 0)
  let x2 : Nat := (M.2.2 342 a0 0)
  fi (fm_is M 904 904 x2 = true ∧ fm_in M x2 x1 = true) (
  fi ((M.1 3 x2 x1.toNatClampNeg) = a1) (
    some M) (
    fi (fm_is M 93 93 a0 = true) (
    fi (fm_is M 93 93 a0 = true) (
    let M3 : FM := fm_sI M 343 a0 0 ((M.1 343 a0 0) + (Int32.ofInt 1))
    k10 a0 a1 M3) none) none)) none) none) none
noncomputable def FX95_beginData_10 (n : Nat) (k10 : Nat → Int32 → FM → Option (FM)) (a0 : Nat) (a1 : Int32) (M : FM) : Option (FM) := BX95_beginData_10 k10 a0 a1 M
noncomputable def BX95_beginData_0 (k10 : Nat → Int32 → FM → Option (FM)) (a0 : Nat) (a1 : Int32) (M : FM) : Option (FM) :=
  fi (fm_is M 93 93 a0 = true) (
  let M1 : FM := fm_sI M 343 a0 0 (Int32.ofInt 1)
  fi (fm_is M1 93 93 a0 = true) (
  let M2 : FM := fm_sL M1 344 a0 0 (Int64.ofInt 0)
  k10 a0 a1 M2) none) none
noncomputable def FX95_beginData_0 (n : Nat) (k10 : Nat → Int32 → FM → Option (FM)) (a0 : Nat) (a1 : Int32) (M : FM) : Option (FM) := BX95_beginData_0 k10 a0 a1 M
noncomputable def FX95_beginData_L10 (n : Nat) : Nat → Nat → Int32 → FM → Option (FM)
  | 0 => fun _ _ _ => none
  | j + 1 => FX95_beginData_10 n (FX95_beginData_L10 n j)
noncomputable def FX95_beginData (n : Nat) (a0 : Nat) (a1 : Int32) (M : FM) : Option (FM) := FX95_beginData_0 n (FX95_beginData_L10 n n) a0 a1 M
/-! BoardMachineModel$Block.nextByte()J -/
noncomputable def BX95_nextByte_0 (k0 : Nat → FM → Option (Int64 × FM)) (a0 : Nat) (M : FM) : Option (Int64 × FM) :=
  fi (fm_is M 93 93 a0 = true) (
  fi (fm_is M 93 93 a0 = true) (
  fi (fm_is M 93 93 a0 = true) (
  let x1 : Int32 := (M.1 343 a0 0)
  let x2 : Nat := (M.2.2 341 a0 0)
  fi (fm_is M 902 902 x2 = true ∧ fm_in M x2 x1 = true) (
  fi ((lg_cmp (M.2.1 344 a0 0) (M.2.1 3 x2 x1.toNatClampNeg)) = 0) (
    fi (fm_is M 93 93 a0 = true) (
    fi (fm_is M 93 93 a0 = true) (
    let M3 : FM := fm_sI M 343 a0 0 ((M.1 343 a0 0) + (Int32.ofInt 1))
    fi (fm_is M3 93 93 a0 = true) (
    let M4 : FM := fm_sL M3 344 a0 0 (Int64.ofInt 0)
    k0 a0 M4) none) none) none) (
    fi (fm_is M 93 93 a0 = true) (
    fi (fm_is M 93 93 a0 = true) (
    let M5 : FM := fm_sL M 344 a0 0 ((M.2.1 344 a0 0) + (Int64.ofInt 1))
    fi (fm_is M5 93 93 a0 = true) (
    fi (fm_is M5 93 93 a0 = true) (
    let x6 : Int32 := (M5.1 343 a0 0)
    let x7 : Nat := (M5.2.2 340 a0 0)
    fi (fm_is M5 902 902 x7 = true ∧ fm_in M5 x7 x6 = true) (
    fi (fm_is M5 93 93 a0 = true) (
    some ((((M5.2.1 3 x7 x6.toNatClampNeg) + (M5.2.1 344 a0 0)) - (Int64.ofInt 1)), M5)) none) none) none) none) none) none)) none) none) none) none
noncomputable def FX95_nextByte_0 (n : Nat) (k0 : Nat → FM → Option (Int64 × FM)) (a0 : Nat) (M : FM) : Option (Int64 × FM) := BX95_nextByte_0 k0 a0 M
noncomputable def FX95_nextByte_L0 (n : Nat) : Nat → Nat → FM → Option (Int64 × FM)
  | 0 => fun _ _ => none
  | j + 1 => FX95_nextByte_0 n (FX95_nextByte_L0 n j)
noncomputable def FX95_nextByte (n : Nat) (a0 : Nat) (M : FM) : Option (Int64 × FM) := FX95_nextByte_L0 n n a0 M
/-! BoardMachineModel$Block.byteOf([JI)I -/
noncomputable def BX95_byteOf_0 (a0 : Nat) (a1 : Int32) (M : FM) : Option (Int32 × FM) :=
  fi ((Int32.ofInt 8) = 0) none (
  let x1 : Int32 := (a1 / (Int32.ofInt 8))
  fi (fm_is M 902 902 a0 = true ∧ fm_in M a0 x1 = true) (
  fi ((Int32.ofInt 8) = 0) none (
  some (((((M.2.1 3 a0 x1.toNatClampNeg).toUInt64 >>> (((Int32.ofInt 8) * (a1 - a1 / (Int32.ofInt 8) * (Int32.ofInt 8))).toInt64.toUInt64 &&& Int64.toUInt64 63)).toInt64).toInt32 &&& (Int32.ofInt 255)), M))) none)
noncomputable def FX95_byteOf_0 (a0 : Nat) (a1 : Int32) (M : FM) : Option (Int32 × FM) := BX95_byteOf_0 a0 a1 M
noncomputable def FX95_byteOf (a0 : Nat) (a1 : Int32) (M : FM) : Option (Int32 × FM) := FX95_byteOf_0 a0 a1 M
/-! BoardMachineModel$Block.put(JIJ)V -/
noncomputable def BX95_put_3 (f0 : Nat → Int64 → Int32 → FM → Option (FM)) (k3 : Nat → Int64 → Int32 → Int64 → Int32 → FM → Option (FM)) (a0 : Nat) (a1 : Int64) (a3 : Int32) (a4 : Int64) (a6 : Int32) (M : FM) : Option (FM) :=
  fi (a3 ≤ a6) (
    some M) (
    fi (fm_is M 93 93 a0 = true) (
    let x1 : Nat := (M.2.2 326 a0 0)
    fi (fm_is M 98 98 x1 = true) (
    (f0 x1 (a1 + a6.toInt64) (((a4.toUInt64 >>> (((Int32.ofInt 8) * a6).toInt64.toUInt64 &&& Int64.toUInt64 63)).toInt64).toInt32) M).bind fun M2 =>
    let x3 : Int32 := a6 + (Int32.ofInt 1)
    k3 a0 a1 a3 a4 x3 M2) none) none)
noncomputable def FX95_put_3 (n : Nat) (k3 : Nat → Int64 → Int32 → Int64 → Int32 → FM → Option (FM)) (a0 : Nat) (a1 : Int64) (a3 : Int32) (a4 : Int64) (a6 : Int32) (M : FM) : Option (FM) := BX95_put_3 (FX93_put n) k3 a0 a1 a3 a4 a6 M
noncomputable def BX95_put_0 (k3 : Nat → Int64 → Int32 → Int64 → Int32 → FM → Option (FM)) (a0 : Nat) (a1 : Int64) (a3 : Int32) (a4 : Int64) (M : FM) : Option (FM) :=
  k3 a0 a1 a3 a4 (Int32.ofInt 0) M
noncomputable def FX95_put_0 (n : Nat) (k3 : Nat → Int64 → Int32 → Int64 → Int32 → FM → Option (FM)) (a0 : Nat) (a1 : Int64) (a3 : Int32) (a4 : Int64) (M : FM) : Option (FM) := BX95_put_0 k3 a0 a1 a3 a4 M
noncomputable def FX95_put_L3 (n : Nat) : Nat → Nat → Int64 → Int32 → Int64 → Int32 → FM → Option (FM)
  | 0 => fun _ _ _ _ _ _ => none
  | j + 1 => FX95_put_3 n (FX95_put_L3 n j)
noncomputable def FX95_put (n : Nat) (a0 : Nat) (a1 : Int64) (a3 : Int32) (a4 : Int64) (M : FM) : Option (FM) := FX95_put_0 n (FX95_put_L3 n n) a0 a1 a3 a4 M
/-! BoardMachineModel$Block.putByte([JII)V -/
noncomputable def BX95_putByte_0 (a0 : Nat) (a1 : Int32) (a2 : Int32) (M : FM) : Option (FM) :=
  fi ((Int32.ofInt 8) = 0) none (
  let x1 : Int32 := ((Int32.ofInt 8) * (a1 - a1 / (Int32.ofInt 8) * (Int32.ofInt 8)))
  fi ((Int32.ofInt 8) = 0) none (
  fi ((Int32.ofInt 8) = 0) none (
  let x2 : Int32 := (a1 / (Int32.ofInt 8))
  fi (fm_is M 902 902 a0 = true ∧ fm_in M a0 x2 = true) (
  let x3 : Int32 := (a1 / (Int32.ofInt 8))
  fi (fm_is M 902 902 a0 = true ∧ fm_in M a0 x3 = true) (
  let M4 : FM := fm_sL M 3 a0 x3.toNatClampNeg (((M.2.1 3 a0 x2.toNatClampNeg) &&& (((Int64.ofInt 255) <<< (x1.toInt64 &&& 63)) ^^^ (Int64.ofInt (-1)))) ||| ((a2.toInt64 &&& (Int64.ofInt 255)) <<< (x1.toInt64 &&& 63)))
  some M4) none) none)))
noncomputable def FX95_putByte_0 (a0 : Nat) (a1 : Int32) (a2 : Int32) (M : FM) : Option (FM) := BX95_putByte_0 a0 a1 a2 M
noncomputable def FX95_putByte (a0 : Nat) (a1 : Int32) (a2 : Int32) (M : FM) : Option (FM) := FX95_putByte_0 a0 a1 a2 M
/-! BoardMachineModel$Block.request()J -/
noncomputable def BX95_request_384 (f6 : Nat → Int64 → Int32 → Int64 → FM → Option (FM)) (a0 : Nat) (a9 : Int32) (a10 : Int64) (M : FM) : Option (Int64 × FM) :=
  fi (fm_is M 93 93 a0 = true) (
  fi (fm_is M 93 93 a0 = true) (
  let x1 : Int32 := ((M.1 339 a0 0) - (Int32.ofInt 1))
  let x2 : Nat := (M.2.2 340 a0 0)
  fi (fm_is M 902 902 x2 = true ∧ fm_in M x2 x1 = true) (
  fi (fm_is M 93 93 a0 = true) (
  fi (fm_is M 93 93 a0 = true) (
  let x3 : Int32 := ((M.1 339 a0 0) - (Int32.ofInt 1))
  let x4 : Nat := (M.2.2 341 a0 0)
  fi (fm_is M 902 902 x4 = true ∧ fm_in M x4 x3 = true) (
  fi (fm_is M 93 93 a0 = true) (
  (f6 a0 (((M.2.1 3 x2 x1.toNatClampNeg) + (M.2.1 3 x4 x3.toNatClampNeg)) - (Int64.ofInt 1)) (Int32.ofInt 1) a9.toInt64 M).bind fun M5 =>
  some ((a10 + (Int64.ofInt 1)), M5)) none) none) none) none) none) none) none
noncomputable def FX95_request_384 (n : Nat) (k93 : Nat → Int64 → Int32 → Int64 → Int64 → FM → Option (Int64 × FM)) (k175 : Nat → Int64 → Int64 → Int32 → Int64 → Int64 → FM → Option (Int64 × FM)) (k272 : Nat → Int32 → Int64 → Int64 → FM → Option (Int64 × FM)) (a0 : Nat) (a9 : Int32) (a10 : Int64) (M : FM) : Option (Int64 × FM) := BX95_request_384 (FX95_put n) a0 a9 a10 M
noncomputable def BX95_request_358 (f6 : Nat → Int64 → Int32 → Int64 → FM → Option (FM)) (k272 : Nat → Int32 → Int64 → Int64 → FM → Option (Int64 × FM)) (a0 : Nat) (a9 : Int32) (a10 : Int64) (a12 : Int64) (s0 : Nat) (s1 : Int64) (s2 : Int32) (s3 : Int64) (M : FM) : Option (Int64 × FM) :=
  fi (fm_is M 93 93 s0 = true) (
  (f6 s0 s1 s2 s3 M).bind fun M1 =>
  let x2 : Int64 := (a12 + (Int64.ofInt 1))
  k272 a0 a9 a10 x2 M1) none
noncomputable def FX95_request_358 (n : Nat) (k93 : Nat → Int64 → Int32 → Int64 → Int64 → FM → Option (Int64 × FM)) (k175 : Nat → Int64 → Int64 → Int32 → Int64 → Int64 → FM → Option (Int64 × FM)) (k272 : Nat → Int32 → Int64 → Int64 → FM → Option (Int64 × FM)) (a0 : Nat) (a9 : Int32) (a10 : Int64) (a12 : Int64) (s0 : Nat) (s1 : Int64) (s2 : Int32) (s3 : Int64) (M : FM) : Option (Int64 × FM) := BX95_request_358 (FX95_put n) k272 a0 a9 a10 a12 s0 s1 s2 s3 M
noncomputable def BX95_request_272 (f4 : Nat → FM → Option (Int64 × FM)) (g358 : Nat → Int32 → Int64 → Int64 → Nat → Int64 → Int32 → Int64 → FM → Option (Int64 × FM)) (g384 : Nat → Int32 → Int64 → FM → Option (Int64 × FM)) (a0 : Nat) (a9 : Int32) (a10 : Int64) (a12 : Int64) (M : FM) : Option (Int64 × FM) :=
  fi (0 ≤ (lg_cmp a12 a10)) (
    g384 a0 a9 a10 M) (
    fi (fm_is M 93 93 a0 = true) (
    (f4 a0 M).bind fun r1 =>
    fi ((lg_cmp a12 (Int64.ofInt 0)) = 0) (
      g358 a0 a9 a10 a12 a0 r1.1 (Int32.ofInt 1) (Int64.ofInt 98) r1.2) (
      fi ((lg_cmp a12 (Int64.ofInt 1)) = 0) (
        g358 a0 a9 a10 a12 a0 r1.1 (Int32.ofInt 1) (Int64.ofInt 108) r1.2) (
        fi ((lg_cmp a12 (Int64.ofInt 2)) = 0) (
          g358 a0 a9 a10 a12 a0 r1.1 (Int32.ofInt 1) (Int64.ofInt 111) r1.2) (
          fi ((lg_cmp a12 (Int64.ofInt 3)) = 0) (
            g358 a0 a9 a10 a12 a0 r1.1 (Int32.ofInt 1) (Int64.ofInt 99) r1.2) (
            fi ((lg_cmp a12 (Int64.ofInt 4)) = 0) (
              g358 a0 a9 a10 a12 a0 r1.1 (Int32.ofInt 1) (Int64.ofInt 107) r1.2) (
              g358 a0 a9 a10 a12 a0 r1.1 (Int32.ofInt 1) (Int64.ofInt 0) r1.2)))))) none)
noncomputable def FX95_request_272 (n : Nat) (k93 : Nat → Int64 → Int32 → Int64 → Int64 → FM → Option (Int64 × FM)) (k175 : Nat → Int64 → Int64 → Int32 → Int64 → Int64 → FM → Option (Int64 × FM)) (k272 : Nat → Int32 → Int64 → Int64 → FM → Option (Int64 × FM)) (a0 : Nat) (a9 : Int32) (a10 : Int64) (a12 : Int64) (M : FM) : Option (Int64 × FM) := BX95_request_272 (FX95_nextByte n) (FX95_request_358 n k93 k175 k272) (FX95_request_384 n k93 k175 k272) a0 a9 a10 a12 M
noncomputable def BX95_request_262 (f3 : Nat → Int32 → FM → Option (FM)) (k272 : Nat → Int32 → Int64 → Int64 → FM → Option (Int64 × FM)) (a0 : Nat) (a9 : Int32) (s0 : Int64) (M : FM) : Option (Int64 × FM) :=
  fi (fm_is M 93 93 a0 = true) (
  (f3 a0 (Int32.ofInt 1) M).bind fun M1 =>
  k272 a0 a9 s0 (Int64.ofInt 0) M1) none
noncomputable def FX95_request_262 (n : Nat) (k93 : Nat → Int64 → Int32 → Int64 → Int64 → FM → Option (Int64 × FM)) (k175 : Nat → Int64 → Int64 → Int32 → Int64 → Int64 → FM → Option (Int64 × FM)) (k272 : Nat → Int32 → Int64 → Int64 → FM → Option (Int64 × FM)) (a0 : Nat) (a9 : Int32) (s0 : Int64) (M : FM) : Option (Int64 × FM) := BX95_request_262 (FX95_beginData n) k272 a0 a9 s0 M
noncomputable def BX95_request_175 (f0 : Nat → Int64 → Int32 → FM → Option (Int64 × FM)) (f4 : Nat → FM → Option (Int64 × FM)) (f7 : Nat → Int32 → Int32 → FM → Option (FM)) (g384 : Nat → Int32 → Int64 → FM → Option (Int64 × FM)) (k175 : Nat → Int64 → Int64 → Int32 → Int64 → Int64 → FM → Option (Int64 × FM)) (a0 : Nat) (a3 : Int64) (a7 : Int64) (a9 : Int32) (a10 : Int64) (a12 : Int64) (M : FM) : Option (Int64 × FM) :=
  fi (0 ≤ (lg_cmp a12 a7)) (
    fi (fm_is M 93 93 a0 = true) (
    fi ((Int64.ofInt 512) = 0) none (
    fi (fm_is M 93 93 a0 = true) (
    let M1 : FM := fm_sI M 338 a0 0 ((M.1 338 a0 0) + (a7 / (Int64.ofInt 512)).toInt32)
    g384 a0 a9 a10 M1) none)) none) (
    fi (fm_is M 93 93 a0 = true) (
    fi (fm_is M 93 93 a0 = true) (
    (f4 a0 M).bind fun r2 =>
    fi (fm_is r2.2 93 93 a0 = true) (
    (f0 a0 r2.1 (Int32.ofInt 1) r2.2).bind fun r3 =>
    (f7 (M.2.2 327 a0 0) ((((Int64.ofInt 512) * a3) + a12).toInt32) r3.1.toInt32 r3.2).bind fun M4 =>
    let x5 : Int64 := (a12 + (Int64.ofInt 1))
    k175 a0 a3 a7 a9 a10 x5 M4) none) none) none)
noncomputable def FX95_request_175 (n : Nat) (k93 : Nat → Int64 → Int32 → Int64 → Int64 → FM → Option (Int64 × FM)) (k175 : Nat → Int64 → Int64 → Int32 → Int64 → Int64 → FM → Option (Int64 × FM)) (k272 : Nat → Int32 → Int64 → Int64 → FM → Option (Int64 × FM)) (a0 : Nat) (a3 : Int64) (a7 : Int64) (a9 : Int32) (a10 : Int64) (a12 : Int64) (M : FM) : Option (Int64 × FM) := BX95_request_175 (FX95_number n) (FX95_nextByte n) FX95_putByte (FX95_request_384 n k93 k175 k272) k175 a0 a3 a7 a9 a10 a12 M
noncomputable def BX95_request_160 (f3 : Nat → Int32 → FM → Option (FM)) (g384 : Nat → Int32 → Int64 → FM → Option (Int64 × FM)) (k175 : Nat → Int64 → Int64 → Int32 → Int64 → Int64 → FM → Option (Int64 × FM)) (a0 : Nat) (a3 : Int64) (a7 : Int64) (a10 : Int64) (s0 : Int32) (M : FM) : Option (Int64 × FM) :=
  fi (s0 = 0) (
    fi (fm_is M 93 93 a0 = true) (
    (f3 a0 (Int32.ofInt 0) M).bind fun M1 =>
    k175 a0 a3 a7 s0 a10 (Int64.ofInt 0) M1) none) (
    g384 a0 s0 a10 M)
noncomputable def FX95_request_160 (n : Nat) (k93 : Nat → Int64 → Int32 → Int64 → Int64 → FM → Option (Int64 × FM)) (k175 : Nat → Int64 → Int64 → Int32 → Int64 → Int64 → FM → Option (Int64 × FM)) (k272 : Nat → Int32 → Int64 → Int64 → FM → Option (Int64 × FM)) (a0 : Nat) (a3 : Int64) (a7 : Int64) (a10 : Int64) (s0 : Int32) (M : FM) : Option (Int64 × FM) := BX95_request_160 (FX95_beginData n) (FX95_request_384 n k93 k175 k272) k175 a0 a3 a7 a10 s0 M
noncomputable def BX95_request_93 (f4 : Nat → FM → Option (Int64 × FM)) (f5 : Nat → Int32 → FM → Option (Int32 × FM)) (f6 : Nat → Int64 → Int32 → Int64 → FM → Option (FM)) (g384 : Nat → Int32 → Int64 → FM → Option (Int64 × FM)) (k93 : Nat → Int64 → Int32 → Int64 → Int64 → FM → Option (Int64 × FM)) (a0 : Nat) (a3 : Int64) (a9 : Int32) (a10 : Int64) (a12 : Int64) (M : FM) : Option (Int64 × FM) :=
  fi (0 ≤ (lg_cmp a12 a10)) (
    g384 a0 a9 a10 M) (
    fi (fm_is M 93 93 a0 = true) (
    (f4 a0 M).bind fun r1 =>
    fi (fm_is r1.2 93 93 a0 = true) (
    (f5 (r1.2.2.2 327 a0 0) ((((Int64.ofInt 512) * a3) + a12).toInt32) r1.2).bind fun r2 =>
    fi (fm_is r2.2 93 93 a0 = true) (
    (f6 a0 r1.1 (Int32.ofInt 1) r2.1.toInt64 r2.2).bind fun M3 =>
    let x4 : Int64 := (a12 + (Int64.ofInt 1))
    k93 a0 a3 a9 a10 x4 M3) none) none) none)
noncomputable def FX95_request_93 (n : Nat) (k93 : Nat → Int64 → Int32 → Int64 → Int64 → FM → Option (Int64 × FM)) (k175 : Nat → Int64 → Int64 → Int32 → Int64 → Int64 → FM → Option (Int64 × FM)) (k272 : Nat → Int32 → Int64 → Int64 → FM → Option (Int64 × FM)) (a0 : Nat) (a3 : Int64) (a9 : Int32) (a10 : Int64) (a12 : Int64) (M : FM) : Option (Int64 × FM) := BX95_request_93 (FX95_nextByte n) FX95_byteOf (FX95_put n) (FX95_request_384 n k93 k175 k272) k93 a0 a3 a9 a10 a12 M
noncomputable def BX95_request_83 (f3 : Nat → Int32 → FM → Option (FM)) (k93 : Nat → Int64 → Int32 → Int64 → Int64 → FM → Option (Int64 × FM)) (a0 : Nat) (a3 : Int64) (a9 : Int32) (s0 : Int64) (M : FM) : Option (Int64 × FM) :=
  fi (fm_is M 93 93 a0 = true) (
  (f3 a0 (Int32.ofInt 1) M).bind fun M1 =>
  k93 a0 a3 a9 s0 (Int64.ofInt 0) M1) none
noncomputable def FX95_request_83 (n : Nat) (k93 : Nat → Int64 → Int32 → Int64 → Int64 → FM → Option (Int64 × FM)) (k175 : Nat → Int64 → Int64 → Int32 → Int64 → Int64 → FM → Option (Int64 × FM)) (k272 : Nat → Int32 → Int64 → Int64 → FM → Option (Int64 × FM)) (a0 : Nat) (a3 : Int64) (a9 : Int32) (s0 : Int64) (M : FM) : Option (Int64 × FM) := BX95_request_83 (FX95_beginData n) k93 a0 a3 a9 s0 M
noncomputable def BX95_request_70 (g83 : Nat → Int64 → Int32 → Int64 → FM → Option (Int64 × FM)) (a0 : Nat) (a3 : Int64) (a5 : Int64) (s0 : Int32) (M : FM) : Option (Int64 × FM) :=
  fi (s0 = 0) (
    g83 a0 a3 s0 a5 M) (
    g83 a0 a3 s0 (Int64.ofInt 0) M)
noncomputable def FX95_request_70 (n : Nat) (k93 : Nat → Int64 → Int32 → Int64 → Int64 → FM → Option (Int64 × FM)) (k175 : Nat → Int64 → Int64 → Int32 → Int64 → Int64 → FM → Option (Int64 × FM)) (k272 : Nat → Int32 → Int64 → Int64 → FM → Option (Int64 × FM)) (a0 : Nat) (a3 : Int64) (a5 : Int64) (s0 : Int32) (M : FM) : Option (Int64 × FM) := BX95_request_70 (FX95_request_83 n k93 k175 k272) a0 a3 a5 s0 M
noncomputable def BX95_request_0 (f0 : Nat → Int64 → Int32 → FM → Option (Int64 × FM)) (f1 : Nat → Int32 → FM → Option (Int64 × FM)) (f2 : Nat → Int64 → Int64 → FM → Option (Int32 × FM)) (g70 : Nat → Int64 → Int64 → Int32 → FM → Option (Int64 × FM)) (g160 : Nat → Int64 → Int64 → Int64 → Int32 → FM → Option (Int64 × FM)) (g262 : Nat → Int32 → Int64 → FM → Option (Int64 × FM)) (g384 : Nat → Int32 → Int64 → FM → Option (Int64 × FM)) (a0 : Nat) (M : FM) : Option (Int64 × FM) :=
  fi (fm_is M 93 93 a0 = true) (
  let x1 : Nat := (M.2.2 340 a0 0)
  fi (fm_is M 902 902 x1 = true ∧ fm_in M x1 (Int32.ofInt 0) = true) (
  fi (fm_is M 93 93 a0 = true) (
  (f0 a0 (M.2.1 3 x1 (Int32.ofInt 0).toNatClampNeg) (Int32.ofInt 4) M).bind fun r2 =>
  fi (fm_is r2.2 93 93 a0 = true) (
  let x3 : Nat := (r2.2.2.2 340 a0 0)
  fi (fm_is r2.2 902 902 x3 = true ∧ fm_in r2.2 x3 (Int32.ofInt 0) = true) (
  fi (fm_is r2.2 93 93 a0 = true) (
  (f0 a0 ((r2.2.2.1 3 x3 (Int32.ofInt 0).toNatClampNeg) + (Int64.ofInt 8)) (Int32.ofInt 8) r2.2).bind fun r4 =>
  fi (fm_is r4.2 93 93 a0 = true) (
  (f1 a0 (Int32.ofInt 1) r4.2).bind fun r5 =>
  fi (fm_is r5.2 93 93 a0 = true) (
  (f1 a0 (Int32.ofInt 0) r5.2).bind fun r6 =>
  fi ((lg_cmp r2.1 (Int64.ofInt 0)) = 0) (
    fi (fm_is r6.2 93 93 a0 = true) (
    (f2 a0 r4.1 r5.1 r6.2).bind fun r7 =>
    fi (r7.1 = 0) (
      g70 a0 r4.1 r5.1 (Int32.ofInt 1) r7.2) (
      g70 a0 r4.1 r5.1 (Int32.ofInt 0) r7.2)) none) (
    fi ((lg_cmp r2.1 (Int64.ofInt 1)) = 0) (
      fi (fm_is r6.2 93 93 a0 = true) (
      (f2 a0 r4.1 r6.1 r6.2).bind fun r8 =>
      fi (r8.1 = 0) (
        g160 a0 r4.1 r6.1 (Int64.ofInt 0) (Int32.ofInt 1) r8.2) (
        g160 a0 r4.1 r6.1 (Int64.ofInt 0) (Int32.ofInt 0) r8.2)) none) (
      fi ((lg_cmp r2.1 (Int64.ofInt 8)) = 0) (
        fi (0 ≤ (lg_cmp r5.1 (Int64.ofInt 20))) (
          g262 a0 (Int32.ofInt 0) (Int64.ofInt 20) r6.2) (
          g262 a0 (Int32.ofInt 0) r5.1 r6.2)) (
        fi ((lg_cmp r2.1 (Int64.ofInt 4)) = 0) (
          g384 a0 (Int32.ofInt 0) (Int64.ofInt 0) r6.2) (
          g384 a0 (Int32.ofInt 2) (Int64.ofInt 0) r6.2))))) none) none) none) none) none) none) none) none
noncomputable def FX95_request_0 (n : Nat) (k93 : Nat → Int64 → Int32 → Int64 → Int64 → FM → Option (Int64 × FM)) (k175 : Nat → Int64 → Int64 → Int32 → Int64 → Int64 → FM → Option (Int64 × FM)) (k272 : Nat → Int32 → Int64 → Int64 → FM → Option (Int64 × FM)) (a0 : Nat) (M : FM) : Option (Int64 × FM) := BX95_request_0 (FX95_number n) (FX95_data n) FX95_areSectors (FX95_request_70 n k93 k175 k272) (FX95_request_160 n k93 k175 k272) (FX95_request_262 n k93 k175 k272) (FX95_request_384 n k93 k175 k272) a0 M
noncomputable def FX95_request_L (n : Nat) : Nat → (Nat → Int64 → Int32 → Int64 → Int64 → FM → Option (Int64 × FM)) × (Nat → Int64 → Int64 → Int32 → Int64 → Int64 → FM → Option (Int64 × FM)) × (Nat → Int32 → Int64 → Int64 → FM → Option (Int64 × FM))
  | 0 => (fun _ _ _ _ _ _ => none, fun _ _ _ _ _ _ _ => none, fun _ _ _ _ _ => none)
  | j + 1 => (FX95_request_93 n (FX95_request_L n j).1 (FX95_request_L n j).2.1 (FX95_request_L n j).2.2, FX95_request_175 n (FX95_request_L n j).1 (FX95_request_L n j).2.1 (FX95_request_L n j).2.2, FX95_request_272 n (FX95_request_L n j).1 (FX95_request_L n j).2.1 (FX95_request_L n j).2.2)
noncomputable def FX95_request (n : Nat) (a0 : Nat) (M : FM) : Option (Int64 × FM) := FX95_request_0 n (FX95_request_L n n).1 (FX95_request_L n n).2.1 (FX95_request_L n n).2.2 a0 M
