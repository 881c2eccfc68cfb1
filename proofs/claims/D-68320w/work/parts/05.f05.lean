/-! functions of methods, printed by gen/defs.py -/
set_option maxRecDepth 100000
/-! BoardMachine$Controls$Register.base()J -/
noncomputable def BX75_base_0 (f0 : Nat → FM → Option (Int64 × FM)) (f1 : Nat → FM → Option (Int64 × FM)) (f2 : Nat → FM → Option (Int64 × FM)) (f3 : Nat → FM → Option (Int64 × FM)) (f4 : Nat → FM → Option (Int64 × FM)) (f5 : Nat → FM → Option (Int64 × FM)) (a0 : Nat) (M : FM) : Option (Int64 × FM) :=
  fi (fm_is M 13 13 a0 = true) (
  (f0 a0 M).bind fun r1 =>
  some (r1.1, r1.2)) (fi (fm_is M 14 14 a0 = true) (
  (f1 a0 M).bind fun r2 =>
  some (r2.1, r2.2)) (fi (fm_is M 15 15 a0 = true) (
  (f2 a0 M).bind fun r3 =>
  some (r3.1, r3.2)) (fi (fm_is M 16 16 a0 = true) (
  (f3 a0 M).bind fun r4 =>
  some (r4.1, r4.2)) (fi (fm_is M 17 17 a0 = true) (
  (f1 a0 M).bind fun r5 =>
  some (r5.1, r5.2)) (fi (fm_is M 18 18 a0 = true) (
  (f4 a0 M).bind fun r6 =>
  some (r6.1, r6.2)) (fi (fm_is M 19 19 a0 = true) (
  (f5 a0 M).bind fun r7 =>
  some (r7.1, r7.2)) (none)))))))
noncomputable def FX75_base_0 (a0 : Nat) (M : FM) : Option (Int64 × FM) := BX75_base_0 FX76_show FX77_show FX79_show FX78_show FX83_show FX81_show a0 M
noncomputable def FX75_base (a0 : Nat) (M : FM) : Option (Int64 × FM) := FX75_base_0 a0 M
/-! BoardMachine$Controls$Pending.base()J -/
noncomputable def BX79_base_0 (a0 : Nat) (M : FM) : Option (Int64 × FM) :=
  fi (fm_is M 15 15 a0 = true) (
  fi (fm_is M 15 15 a0 = true) (
  some (((M.2.1 41 a0 0) ||| ((M.2.1 43 a0 0) &&& (Int64.ofInt (-513)))), M)) none) none
noncomputable def FX79_base_0 (a0 : Nat) (M : FM) : Option (Int64 × FM) := BX79_base_0 a0 M
noncomputable def FX79_base (a0 : Nat) (M : FM) : Option (Int64 × FM) := FX79_base_0 a0 M
/-! BoardMachine$Controls$Register.access(IJ)V -/
noncomputable def BX75_access_34 (f0 : Nat → Int64 → FM → Option (FM)) (f1 : Nat → Int64 → FM → Option (FM)) (f2 : Nat → Int64 → FM → Option (FM)) (f3 : Nat → Int64 → FM → Option (FM)) (f4 : Nat → Int64 → FM → Option (FM)) (f5 : Nat → Int64 → FM → Option (FM)) (s0 : Nat) (s1 : Int64) (M : FM) : Option (FM) :=
  fi (fm_is M 13 13 s0 = true) (
  (f0 s0 s1 M).bind fun M1 =>
  some M1) (fi (fm_is M 14 14 s0 = true) (
  (f1 s0 s1 M).bind fun M2 =>
  some M2) (fi (fm_is M 15 15 s0 = true) (
  (f1 s0 s1 M).bind fun M3 =>
  some M3) (fi (fm_is M 16 16 s0 = true) (
  (f2 s0 s1 M).bind fun M4 =>
  some M4) (fi (fm_is M 17 17 s0 = true) (
  (f3 s0 s1 M).bind fun M5 =>
  some M5) (fi (fm_is M 18 18 s0 = true) (
  (f4 s0 s1 M).bind fun M6 =>
  some M6) (fi (fm_is M 19 19 s0 = true) (
  (f5 s0 s1 M).bind fun M7 =>
  some M7) (none)))))))
noncomputable def FX75_access_34 (s0 : Nat) (s1 : Int64) (M : FM) : Option (FM) := BX75_access_34 FX76_write FX77_write FX78_write FX82_write FX83_write FX81_write s0 s1 M
noncomputable def BX75_access_0 (f6 : Nat → FM → Option (Int64 × FM)) (f7 : Nat → FM → Option (Int64 × FM)) (g34 : Nat → Int64 → FM → Option (FM)) (a0 : Nat) (a1 : Int32) (a2 : Int64) (M : FM) : Option (FM) :=
  fi (a1 = (Int32.ofInt 1)) (
    g34 a0 a2 M) (
    fi (a1 = (Int32.ofInt 2)) (
      fi (fm_is M 13 13 a0 = true) (
      (f6 a0 M).bind fun r1 =>
      g34 a0 (r1.1 ||| a2) r1.2) (fi (fm_is M 14 14 a0 = true) (
      (f6 a0 M).bind fun r2 =>
      g34 a0 (r2.1 ||| a2) r2.2) (fi (fm_is M 15 15 a0 = true) (
      (f7 a0 M).bind fun r3 =>
      g34 a0 (r3.1 ||| a2) r3.2) (fi (fm_is M 16 16 a0 = true) (
      (f6 a0 M).bind fun r4 =>
      g34 a0 (r4.1 ||| a2) r4.2) (fi (fm_is M 17 17 a0 = true) (
      (f6 a0 M).bind fun r5 =>
      g34 a0 (r5.1 ||| a2) r5.2) (fi (fm_is M 18 18 a0 = true) (
      (f6 a0 M).bind fun r6 =>
      g34 a0 (r6.1 ||| a2) r6.2) (fi (fm_is M 19 19 a0 = true) (
      (f6 a0 M).bind fun r7 =>
      g34 a0 (r7.1 ||| a2) r7.2) (none)))))))) (
      fi (fm_is M 13 13 a0 = true) (
      (f6 a0 M).bind fun r8 =>
      g34 a0 (r8.1 &&& (a2 ^^^ (Int64.ofInt (-1)))) r8.2) (fi (fm_is M 14 14 a0 = true) (
      (f6 a0 M).bind fun r9 =>
      g34 a0 (r9.1 &&& (a2 ^^^ (Int64.ofInt (-1)))) r9.2) (fi (fm_is M 15 15 a0 = true) (
      (f7 a0 M).bind fun r10 =>
      g34 a0 (r10.1 &&& (a2 ^^^ (Int64.ofInt (-1)))) r10.2) (fi (fm_is M 16 16 a0 = true) (
      (f6 a0 M).bind fun r11 =>
      g34 a0 (r11.1 &&& (a2 ^^^ (Int64.ofInt (-1)))) r11.2) (fi (fm_is M 17 17 a0 = true) (
      (f6 a0 M).bind fun r12 =>
      g34 a0 (r12.1 &&& (a2 ^^^ (Int64.ofInt (-1)))) r12.2) (fi (fm_is M 18 18 a0 = true) (
      (f6 a0 M).bind fun r13 =>
      g34 a0 (r13.1 &&& (a2 ^^^ (Int64.ofInt (-1)))) r13.2) (fi (fm_is M 19 19 a0 = true) (
      (f6 a0 M).bind fun r14 =>
      g34 a0 (r14.1 &&& (a2 ^^^ (Int64.ofInt (-1)))) r14.2) (none)))))))))
noncomputable def FX75_access_0 (a0 : Nat) (a1 : Int32) (a2 : Int64) (M : FM) : Option (FM) := BX75_access_0 FX75_base FX79_base FX75_access_34 a0 a1 a2 M
noncomputable def FX75_access (a0 : Nat) (a1 : Int32) (a2 : Int64) (M : FM) : Option (FM) := FX75_access_0 a0 a1 a2 M
/-! BoardMachine$Controls$ControlUnit.access(IIZJ)I -/
noncomputable def BX74_access_70 (M : FM) : Option (Int32 × FM) :=
  some ((Int32.ofInt 0), M)
noncomputable def FX74_access_70 (M : FM) : Option (Int32 × FM) := BX74_access_70 M
noncomputable def BX74_access_47 (M : FM) : Option (Int32 × FM) :=
  some ((Int32.ofInt 1), M)
noncomputable def FX74_access_47 (M : FM) : Option (Int32 × FM) := BX74_access_47 M
noncomputable def BX74_access_0 (f0 : Nat → Int32 → Int32 → FM → Option (Int32 × FM)) (f1 : Nat → FM → Option (Int64 × FM)) (f2 : Nat → FM → Option (Int64 × FM)) (f3 : Nat → FM → Option (Int64 × FM)) (f4 : Nat → FM → Option (Int64 × FM)) (f5 : Nat → FM → Option (Int64 × FM)) (f6 : Nat → FM → Option (Int64 × FM)) (f7 : Nat → Int32 → Int32 → FM → Option (FM)) (f8 : Nat → Int32 → Int64 → FM → Option (FM)) (g47 : FM → Option (Int32 × FM)) (g70 : FM → Option (Int32 × FM)) (a0 : Nat) (a1 : Int32) (a2 : Int32) (a3 : Int32) (a4 : Int64) (M : FM) : Option (Int32 × FM) :=
  fi (fm_is M 12 12 a0 = true) (
  (f0 a0 a1 a3 M).bind fun r1 =>
  fi (r1.1 = 0) (
    fi (fm_is r1.2 12 12 a0 = true) (
    let x2 : Nat := (r1.2.2.2 25 a0 0)
    fi (fm_is r1.2 910 990 x2 = true ∧ fm_in r1.2 x2 a1 = true) (
    let x3 : Nat := (r1.2.2.2 3 x2 a1.toNatClampNeg)
    fi (fm_is r1.2 12 12 a0 = true) (
    let x4 : Nat := (r1.2.2.2 26 a0 0)
    fi (x3 < 42 ∧ x4 < 42 ∨ 1000 ≤ x3 ∨ 1000 ≤ x4)
    (fi (x3 = x4) (
      fi (a3 = 0) (
        g47 r1.2) (
        fi ((Int32.ofInt 4) ≤ a1) (
          g47 r1.2) (
          fi (fm_is r1.2 12 12 a0 = true) (
          let x5 : Nat := (r1.2.2.2 27 a0 0)
          fi (fm_is r1.2 16 16 x5 = true) (
          (f7 x5 (Int32.ofInt 13) (Int32.ofInt 3) r1.2).bind fun M6 =>
          g47 M6) none) none))) (
      fi (fm_is r1.2 13 13 x3 = true) (
      (f1 x3 r1.2).bind fun r7 =>
      fi (fm_is r7.2 12 12 a0 = true) (
      let M8 : FM := fm_sL r7.2 38 a0 0 r7.1
      fi (a3 = 0) (
        g70 M8) (
        fi (fm_is M8 13 19 x3 = true) (
        (f8 x3 a2 a4 M8).bind fun M9 =>
        g70 M9) none)) none) (fi (fm_is r1.2 14 14 x3 = true) (
      (f2 x3 r1.2).bind fun r10 =>
      fi (fm_is r10.2 12 12 a0 = true) (
      let M11 : FM := fm_sL r10.2 38 a0 0 r10.1
      fi (a3 = 0) (
        g70 M11) (
        fi (fm_is M11 13 19 x3 = true) (
        (f8 x3 a2 a4 M11).bind fun M12 =>
        g70 M12) none)) none) (fi (fm_is r1.2 15 15 x3 = true) (
      (f3 x3 r1.2).bind fun r13 =>
      fi (fm_is r13.2 12 12 a0 = true) (
      let M14 : FM := fm_sL r13.2 38 a0 0 r13.1
      fi (a3 = 0) (
        g70 M14) (
        fi (fm_is M14 13 19 x3 = true) (
        (f8 x3 a2 a4 M14).bind fun M15 =>
        g70 M15) none)) none) (fi (fm_is r1.2 16 16 x3 = true) (
      (f4 x3 r1.2).bind fun r16 =>
      fi (fm_is r16.2 12 12 a0 = true) (
      let M17 : FM := fm_sL r16.2 38 a0 0 r16.1
      fi (a3 = 0) (
        g70 M17) (
        fi (fm_is M17 13 19 x3 = true) (
        (f8 x3 a2 a4 M17).bind fun M18 =>
        g70 M18) none)) none) (fi (fm_is r1.2 17 17 x3 = true) (
      (f2 x3 r1.2).bind fun r19 =>
      fi (fm_is r19.2 12 12 a0 = true) (
      let M20 : FM := fm_sL r19.2 38 a0 0 r19.1
      fi (a3 = 0) (
        g70 M20) (
        fi (fm_is M20 13 19 x3 = true) (
        (f8 x3 a2 a4 M20).bind fun M21 =>
        g70 M21) none)) none) (fi (fm_is r1.2 18 18 x3 = true) (
      (f5 x3 r1.2).bind fun r22 =>
      fi (fm_is r22.2 12 12 a0 = true) (
      let M23 : FM := fm_sL r22.2 38 a0 0 r22.1
      fi (a3 = 0) (
        g70 M23) (
        fi (fm_is M23 13 19 x3 = true) (
        (f8 x3 a2 a4 M23).bind fun M24 =>
        g70 M24) none)) none) (fi (fm_is r1.2 19 19 x3 = true) (
      (f6 x3 r1.2).bind fun r25 =>
      fi (fm_is r25.2 12 12 a0 = true) (
      let M26 : FM := fm_sL r25.2 38 a0 0 r25.1
      fi (a3 = 0) (
        g70 M26) (
        fi (fm_is M26 13 19 x3 = true) (
        (f8 x3 a2 a4 M26).bind fun M27 =>
        g70 M27) none)) none) (none))))))))) none) none) none) none) (
    some ((Int32.ofInt 2), r1.2))) none
noncomputable def FX74_access_0 (a0 : Nat) (a1 : Int32) (a2 : Int32) (a3 : Int32) (a4 : Int64) (M : FM) : Option (Int32 × FM) := BX74_access_0 FX74_isIllegal FX76_show FX77_show FX79_show FX78_show FX83_show FX81_show FX78_putTwo FX75_access FX74_access_47 FX74_access_70 a0 a1 a2 a3 a4 M
noncomputable def FX74_access (a0 : Nat) (a1 : Int32) (a2 : Int32) (a3 : Int32) (a4 : Int64) (M : FM) : Option (Int32 × FM) := FX74_access_0 a0 a1 a2 a3 a4 M
/-! BoardMachine$Walks$Regions.configs()J -/
noncomputable def BX86_configs_5 (k5 : Nat → Int64 → Int32 → FM → Option (Int64 × FM)) (a0 : Nat) (a1 : Int64) (a3 : Int32) (M : FM) : Option (Int64 × FM) :=
  fi (a3 < 0) (
    some (a1, M)) (
    fi (fm_is M 90 90 a0 = true) (
    let x1 : Nat := (M.2.2 284 a0 0)
    fi (fm_is M 910 990 x1 = true ∧ fm_in M x1 a3 = true) (
    let x2 : Nat := (M.2.2 3 x1 a3.toNatClampNeg)
    fi (fm_is M 89 89 x2 = true) (
    let x3 : Int64 := ((a1 <<< ((Int32.ofInt 8).toInt64 &&& 63)) ||| (M.1 280 x2 0).toInt64)
    let x4 : Int32 := a3 + (Int32.ofInt (-1))
    k5 a0 x3 x4 M) none) none) none)
noncomputable def FX86_configs_5 (n : Nat) (k5 : Nat → Int64 → Int32 → FM → Option (Int64 × FM)) (a0 : Nat) (a1 : Int64) (a3 : Int32) (M : FM) : Option (Int64 × FM) := BX86_configs_5 k5 a0 a1 a3 M
noncomputable def BX86_configs_0 (k5 : Nat → Int64 → Int32 → FM → Option (Int64 × FM)) (a0 : Nat) (M : FM) : Option (Int64 × FM) :=
  k5 a0 (Int64.ofInt 0) (Int32.ofInt 7) M
noncomputable def FX86_configs_0 (n : Nat) (k5 : Nat → Int64 → Int32 → FM → Option (Int64 × FM)) (a0 : Nat) (M : FM) : Option (Int64 × FM) := BX86_configs_0 k5 a0 M
noncomputable def FX86_configs_L5 (n : Nat) : Nat → Nat → Int64 → Int32 → FM → Option (Int64 × FM)
  | 0 => fun _ _ _ _ => none
  | j + 1 => FX86_configs_5 n (FX86_configs_L5 n j)
noncomputable def FX86_configs (n : Nat) (a0 : Nat) (M : FM) : Option (Int64 × FM) := FX86_configs_0 n (FX86_configs_L5 n n) a0 M
/-! BoardMachine$Processor.elsewhere(I)J -/
noncomputable def BX46_elsewhere_109 (s0 : Int64) (M : FM) : Option (Int64 × FM) :=
  some (s0, M)
noncomputable def FX46_elsewhere_109 (n : Nat) (s0 : Int64) (M : FM) : Option (Int64 × FM) := BX46_elsewhere_109 s0 M
noncomputable def BX46_elsewhere_108 (g109 : Int64 → FM → Option (Int64 × FM)) (M : FM) : Option (Int64 × FM) :=
  g109 (Int64.ofInt 0) M
noncomputable def FX46_elsewhere_108 (n : Nat) (M : FM) : Option (Int64 × FM) := BX46_elsewhere_108 (FX46_elsewhere_109 n ) M
noncomputable def BX46_elsewhere_53 (s0 : Int64) (M : FM) : Option (Int64 × FM) :=
  some (s0, M)
noncomputable def FX46_elsewhere_53 (n : Nat) (s0 : Int64) (M : FM) : Option (Int64 × FM) := BX46_elsewhere_53 s0 M
noncomputable def BX46_elsewhere_0 (f0 : Nat → FM → Option (Int64 × FM)) (g53 : Int64 → FM → Option (Int64 × FM)) (g108 : FM → Option (Int64 × FM)) (g109 : Int64 → FM → Option (Int64 × FM)) (a0 : Nat) (a1 : Int32) (M : FM) : Option (Int64 × FM) :=
  fi ((Int32.ofInt 4) ≤ a1) (
    fi (a1 = (Int32.ofInt 928)) (
      fi (fm_is M 75 75 a0 = true) (
      let x1 : Nat := (M.2.2 214 a0 0)
      fi (fm_is M 91 91 x1 = true) (
      let x2 : Nat := (M.2.2 288 x1 0)
      fi (fm_is M 90 90 x2 = true) (
      (f0 x2 M).bind fun r3 =>
      some (r3.1, r3.2)) none) none) none) (
      fi (a1 < (Int32.ofInt 944)) (
        g108 M) (
        fi ((Int32.ofInt 952) ≤ a1) (
          g108 M) (
          fi (fm_is M 75 75 a0 = true) (
          let x4 : Nat := (M.2.2 214 a0 0)
          fi (fm_is M 91 91 x4 = true) (
          let x5 : Nat := (M.2.2 288 x4 0)
          fi (fm_is M 90 90 x5 = true) (
          let x6 : Int32 := (a1 - (Int32.ofInt 944))
          let x7 : Nat := (M.2.2 284 x5 0)
          fi (fm_is M 910 990 x7 = true ∧ fm_in M x7 x6 = true) (
          let x8 : Nat := (M.2.2 3 x7 x6.toNatClampNeg)
          fi (fm_is M 89 89 x8 = true) (
          g109 (M.2.1 281 x8 0) M) none) none) none) none) none)))) (
    fi (fm_is M 75 75 a0 = true) (
    let x9 : Nat := (M.2.2 212 a0 0)
    fi (fm_is M 32 32 x9 = true) (
    let x10 : Nat := (M.2.2 94 x9 0)
    fi (fm_is M 31 31 x10 = true) (
    fi (fm_is M 75 75 a0 = true) (
    let x11 : Nat := (M.2.2 212 a0 0)
    fi (fm_is M 32 32 x11 = true) (
    let x12 : Int32 := ((M.1 91 x10 0) ||| ((M.1 95 x11 0) <<< ((Int32.ofInt 5) &&& 31)))
    fi (a1 = (Int32.ofInt 1)) (
      g53 ((x12 &&& (Int32.ofInt 31)).toInt64) M) (
      fi (a1 = (Int32.ofInt 2)) (
        g53 ((x12 >>> ((Int32.ofInt 5) &&& 31)).toInt64) M) (
        g53 x12.toInt64 M))) none) none) none) none) none)
noncomputable def FX46_elsewhere_0 (n : Nat) (a0 : Nat) (a1 : Int32) (M : FM) : Option (Int64 × FM) := BX46_elsewhere_0 (FX86_configs n) (FX46_elsewhere_53 n ) (FX46_elsewhere_108 n ) (FX46_elsewhere_109 n ) a0 a1 M
noncomputable def FX46_elsewhere (n : Nat) (a0 : Nat) (a1 : Int32) (M : FM) : Option (Int64 × FM) := FX46_elsewhere_0 n a0 a1 M
/-! BoardMachine$Walks$Region.configure(I)V -/
noncomputable def BX87_configure_22 (s0 : Nat) (s1 : Int32) (M : FM) : Option (FM) :=
  fi (fm_is M 89 89 s0 = true) (
  let M1 : FM := fm_sI M 280 s0 0 s1
  some M1) none
noncomputable def FX87_configure_22 (s0 : Nat) (s1 : Int32) (M : FM) : Option (FM) := BX87_configure_22 s0 s1 M
noncomputable def BX87_configure_0 (g22 : Nat → Int32 → FM → Option (FM)) (a0 : Nat) (a1 : Int32) (M : FM) : Option (FM) :=
  let x1 : Int32 := (a1 &&& (Int32.ofInt 159))
  fi ((x1 &&& (Int32.ofInt 3)) = (Int32.ofInt 2)) (
    g22 a0 (x1 &&& (Int32.ofInt (-3))) M) (
    g22 a0 x1 M)
noncomputable def FX87_configure_0 (a0 : Nat) (a1 : Int32) (M : FM) : Option (FM) := BX87_configure_0 FX87_configure_22 a0 a1 M
noncomputable def FX87_configure (a0 : Nat) (a1 : Int32) (M : FM) : Option (FM) := FX87_configure_0 a0 a1 M
/-! BoardMachine$Walks$Regions.configure(J)V -/
noncomputable def BX86_configure_40 (k2 : Nat → Int64 → Int32 → FM → Option (FM)) (a0 : Nat) (a1 : Int64) (a3 : Int32) (M : FM) : Option (FM) :=
  let x1 : Int32 := a3 + (Int32.ofInt 1)
  k2 a0 a1 x1 M
noncomputable def FX86_configure_40 (n : Nat) (k2 : Nat → Int64 → Int32 → FM → Option (FM)) (a0 : Nat) (a1 : Int64) (a3 : Int32) (M : FM) : Option (FM) := BX86_configure_40 k2 a0 a1 a3 M
noncomputable def BX86_configure_2 (f0 : Nat → FM → Option (FM)) (f1 : Nat → FM → Option (Int32 × FM)) (f2 : Int64 → Int32 → Int32 → FM → Option (Int64 × FM)) (f3 : Nat → Int32 → FM → Option (FM)) (g40 : Nat → Int64 → Int32 → FM → Option (FM)) (a0 : Nat) (a1 : Int64) (a3 : Int32) (M : FM) : Option (FM) :=
  fi ((Int32.ofInt 8) ≤ a3) (
    fi (fm_is M 90 90 a0 = true) (
    (f0 a0 M).bind fun M1 =>
    some M1) none) (
    fi (fm_is M 90 90 a0 = true) (
    let x2 : Nat := (M.2.2 284 a0 0)
    fi (fm_is M 910 990 x2 = true ∧ fm_in M x2 a3 = true) (
    let x3 : Nat := (M.2.2 3 x2 a3.toNatClampNeg)
    fi (fm_is M 89 89 x3 = true) (
    (f1 x3 M).bind fun r4 =>
    fi (r4.1 = 0) (
      fi (fm_is r4.2 90 90 a0 = true) (
      let x5 : Nat := (r4.2.2.2 284 a0 0)
      fi (fm_is r4.2 910 990 x5 = true ∧ fm_in r4.2 x5 a3 = true) (
      (f2 a1 ((Int32.ofInt 8) * a3) (Int32.ofInt 8) r4.2).bind fun r6 =>
      let x7 : Nat := (r4.2.2.2 3 x5 a3.toNatClampNeg)
      fi (fm_is r6.2 89 89 x7 = true) (
      (f3 x7 r6.1.toInt32 r6.2).bind fun M8 =>
      g40 a0 a1 a3 M8) none) none) none) (
      g40 a0 a1 a3 r4.2)) none) none) none)
noncomputable def FX86_configure_2 (n : Nat) (k2 : Nat → Int64 → Int32 → FM → Option (FM)) (a0 : Nat) (a1 : Int64) (a3 : Int32) (M : FM) : Option (FM) := BX86_configure_2 (FX86_lay n) FX87_isLocked FX102_bits FX87_configure (FX86_configure_40 n k2) a0 a1 a3 M
noncomputable def BX86_configure_0 (k2 : Nat → Int64 → Int32 → FM → Option (FM)) (a0 : Nat) (a1 : Int64) (M : FM) : Option (FM) :=
  k2 a0 a1 (Int32.ofInt 0) M
noncomputable def FX86_configure_0 (n : Nat) (k2 : Nat → Int64 → Int32 → FM → Option (FM)) (a0 : Nat) (a1 : Int64) (M : FM) : Option (FM) := BX86_configure_0 k2 a0 a1 M
noncomputable def FX86_configure_L2 (n : Nat) : Nat → Nat → Int64 → Int32 → FM → Option (FM)
  | 0 => fun _ _ _ _ => none
  | j + 1 => FX86_configure_2 n (FX86_configure_L2 n j)
noncomputable def FX86_configure (n : Nat) (a0 : Nat) (a1 : Int64) (M : FM) : Option (FM) := FX86_configure_0 n (FX86_configure_L2 n n) a0 a1 M
/-! BoardMachine$Walks$Regions.number(IJ)V -/
noncomputable def BX86_number_83 (M : FM) : Option (FM) :=
  some M
noncomputable def FX86_number_83 (n : Nat) (M : FM) : Option (FM) := BX86_number_83 M
noncomputable def BX86_number_44 (f0 : Nat → FM → Option (Int32 × FM)) (f2 : Int64 → Int32 → Int32 → FM → Option (Int64 × FM)) (f3 : Nat → FM → Option (FM)) (g83 : FM → Option (FM)) (a0 : Nat) (a1 : Int32) (a2 : Int64) (s0 : Int32) (M : FM) : Option (FM) :=
  fi (fm_is M 90 90 a0 = true) (
  let x1 : Nat := (M.2.2 284 a0 0)
  fi (fm_is M 910 990 x1 = true ∧ fm_in M x1 a1 = true) (
  let x2 : Nat := (M.2.2 3 x1 a1.toNatClampNeg)
  fi (fm_is M 89 89 x2 = true) (
  (f0 x2 M).bind fun r3 =>
  fi (r3.1 = 0) (
    fi (s0 = 0) (
      fi (fm_is r3.2 90 90 a0 = true) (
      let x4 : Nat := (r3.2.2.2 284 a0 0)
      fi (fm_is r3.2 910 990 x4 = true ∧ fm_in r3.2 x4 a1 = true) (
      (f2 a2 (Int32.ofInt 0) (Int32.ofInt 54) r3.2).bind fun r5 =>
      let x6 : Nat := (r3.2.2.2 3 x4 a1.toNatClampNeg)
      fi (fm_is r5.2 89 89 x6 = true) (
      let M7 : FM := fm_sL r5.2 281 x6 0 r5.1
      fi (fm_is M7 90 90 a0 = true) (
      (f3 a0 M7).bind fun M8 =>
      g83 M8) none) none) none) none) (
      g83 r3.2)) (
    g83 r3.2)) none) none) none
noncomputable def FX86_number_44 (n : Nat) (a0 : Nat) (a1 : Int32) (a2 : Int64) (s0 : Int32) (M : FM) : Option (FM) := BX86_number_44 FX87_isLocked FX102_bits (FX86_lay n) (FX86_number_83 n ) a0 a1 a2 s0 M
noncomputable def BX86_number_43 (g44 : Nat → Int32 → Int64 → Int32 → FM → Option (FM)) (a0 : Nat) (a1 : Int32) (a2 : Int64) (M : FM) : Option (FM) :=
  g44 a0 a1 a2 (Int32.ofInt 0) M
noncomputable def FX86_number_43 (n : Nat) (a0 : Nat) (a1 : Int32) (a2 : Int64) (M : FM) : Option (FM) := BX86_number_43 (FX86_number_44 n ) a0 a1 a2 M
noncomputable def BX86_number_0 (f0 : Nat → FM → Option (Int32 × FM)) (f1 : Nat → FM → Option (Nat × FM)) (g43 : Nat → Int32 → Int64 → FM → Option (FM)) (g44 : Nat → Int32 → Int64 → Int32 → FM → Option (FM)) (a0 : Nat) (a1 : Int32) (a2 : Int64) (M : FM) : Option (FM) :=
  fi ((Int32.ofInt 8) ≤ (a1 + (Int32.ofInt 1))) (
    g43 a0 a1 a2 M) (
    fi (fm_is M 90 90 a0 = true) (
    let x1 : Int32 := (a1 + (Int32.ofInt 1))
    let x2 : Nat := (M.2.2 284 a0 0)
    fi (fm_is M 910 990 x2 = true ∧ fm_in M x2 x1 = true) (
    let x3 : Nat := (M.2.2 3 x2 x1.toNatClampNeg)
    fi (fm_is M 89 89 x3 = true) (
    (f0 x3 M).bind fun r4 =>
    fi (r4.1 = 0) (
      g43 a0 a1 a2 r4.2) (
      fi (fm_is r4.2 90 90 a0 = true) (
      let x5 : Int32 := (a1 + (Int32.ofInt 1))
      let x6 : Nat := (r4.2.2.2 284 a0 0)
      fi (fm_is r4.2 910 990 x6 = true ∧ fm_in r4.2 x6 x5 = true) (
      let x7 : Nat := (r4.2.2.2 3 x6 x5.toNatClampNeg)
      fi (fm_is r4.2 89 89 x7 = true) (
      (f1 x7 r4.2).bind fun r8 =>
      fi (r8.1 < 42 ∧ 34 < 42 ∨ 1000 ≤ r8.1 ∨ 1000 ≤ 34)
      (fi (r8.1 = 34) (
        g44 a0 a1 a2 (Int32.ofInt 1) r8.2) (
        g43 a0 a1 a2 r8.2)) none) none) none) none)) none) none) none)
noncomputable def FX86_number_0 (n : Nat) (a0 : Nat) (a1 : Int32) (a2 : Int64) (M : FM) : Option (FM) := BX86_number_0 FX87_isLocked FX87_span (FX86_number_43 n ) (FX86_number_44 n ) a0 a1 a2 M
noncomputable def FX86_number (n : Nat) (a0 : Nat) (a1 : Int32) (a2 : Int64) (M : FM) : Option (FM) := FX86_number_0 n a0 a1 a2 M
/-! BoardMachine$Processor.putElsewhere(IJ)V -/
noncomputable def BX46_putElsewhere_105 (M : FM) : Option (FM) :=
  some M
noncomputable def FX46_putElsewhere_105 (n : Nat) (M : FM) : Option (FM) := BX46_putElsewhere_105 M
noncomputable def BX46_putElsewhere_98 (f3 : Nat → FM → Option (FM)) (g105 : FM → Option (FM)) (a0 : Nat) (M : FM) : Option (FM) :=
  fi (fm_is M 75 75 a0 = true) (
  let x1 : Nat := (M.2.2 212 a0 0)
  fi (fm_is M 32 32 x1 = true) (
  (f3 x1 M).bind fun M2 =>
  g105 M2) none) none
noncomputable def FX46_putElsewhere_98 (n : Nat) (a0 : Nat) (M : FM) : Option (FM) := BX46_putElsewhere_98 FX59_calm (FX46_putElsewhere_105 n ) a0 M
noncomputable def BX46_putElsewhere_94 (f4 : Nat → Int32 → FM → Option (FM)) (g98 : Nat → FM → Option (FM)) (a0 : Nat) (s0 : Nat) (s1 : Int64) (M : FM) : Option (FM) :=
  fi (fm_is M 32 32 s0 = true) (
  (f4 s0 s1.toInt32 M).bind fun M1 =>
  g98 a0 M1) none
noncomputable def FX46_putElsewhere_94 (n : Nat) (a0 : Nat) (s0 : Nat) (s1 : Int64) (M : FM) : Option (FM) := BX46_putElsewhere_94 FX59_putMode (FX46_putElsewhere_98 n ) a0 s0 s1 M
noncomputable def BX46_putElsewhere_73 (g94 : Nat → Nat → Int64 → FM → Option (FM)) (g98 : Nat → FM → Option (FM)) (a0 : Nat) (a1 : Int32) (a2 : Int64) (M : FM) : Option (FM) :=
  fi (a1 = (Int32.ofInt 1)) (
    g98 a0 M) (
    fi (fm_is M 75 75 a0 = true) (
    fi (a1 = (Int32.ofInt 2)) (
      g94 a0 (M.2.2 212 a0 0) a2 M) (
      g94 a0 (M.2.2 212 a0 0) (a2 >>> ((Int32.ofInt 5).toInt64 &&& 63)) M)) none)
noncomputable def FX46_putElsewhere_73 (n : Nat) (a0 : Nat) (a1 : Int32) (a2 : Int64) (M : FM) : Option (FM) := BX46_putElsewhere_73 (FX46_putElsewhere_94 n ) (FX46_putElsewhere_98 n ) a0 a1 a2 M
noncomputable def BX46_putElsewhere_54 (f2 : Nat → Int32 → FM → Option (FM)) (g73 : Nat → Int32 → Int64 → FM → Option (FM)) (g105 : FM → Option (FM)) (a0 : Nat) (a1 : Int32) (a2 : Int64) (M : FM) : Option (FM) :=
  fi ((Int32.ofInt 4) ≤ a1) (
    g105 M) (
    fi (a1 = (Int32.ofInt 2)) (
      g73 a0 a1 a2 M) (
      fi (fm_is M 75 75 a0 = true) (
      let x1 : Nat := (M.2.2 212 a0 0)
      fi (fm_is M 32 32 x1 = true) (
      (f2 x1 a2.toInt32 M).bind fun M2 =>
      g73 a0 a1 a2 M2) none) none))
noncomputable def FX46_putElsewhere_54 (n : Nat) (a0 : Nat) (a1 : Int32) (a2 : Int64) (M : FM) : Option (FM) := BX46_putElsewhere_54 FX59_putFlags (FX46_putElsewhere_73 n ) (FX46_putElsewhere_105 n ) a0 a1 a2 M
noncomputable def BX46_putElsewhere_0 (f0 : Nat → Int64 → FM → Option (FM)) (f1 : Nat → Int32 → Int64 → FM → Option (FM)) (g54 : Nat → Int32 → Int64 → FM → Option (FM)) (g105 : FM → Option (FM)) (a0 : Nat) (a1 : Int32) (a2 : Int64) (M : FM) : Option (FM) :=
  fi (a1 = (Int32.ofInt 928)) (
    fi (fm_is M 75 75 a0 = true) (
    let x1 : Nat := (M.2.2 214 a0 0)
    fi (fm_is M 91 91 x1 = true) (
    let x2 : Nat := (M.2.2 288 x1 0)
    fi (fm_is M 90 90 x2 = true) (
    (f0 x2 a2 M).bind fun M3 =>
    g105 M3) none) none) none) (
    fi (a1 < (Int32.ofInt 944)) (
      g54 a0 a1 a2 M) (
      fi ((Int32.ofInt 952) ≤ a1) (
        g54 a0 a1 a2 M) (
        fi (fm_is M 75 75 a0 = true) (
        let x4 : Nat := (M.2.2 214 a0 0)
        fi (fm_is M 91 91 x4 = true) (
        let x5 : Nat := (M.2.2 288 x4 0)
        fi (fm_is M 90 90 x5 = true) (
        (f1 x5 (a1 - (Int32.ofInt 944)) a2 M).bind fun M6 =>
        g105 M6) none) none) none)))
noncomputable def FX46_putElsewhere_0 (n : Nat) (a0 : Nat) (a1 : Int32) (a2 : Int64) (M : FM) : Option (FM) := BX46_putElsewhere_0 (FX86_configure n) (FX86_number n) (FX46_putElsewhere_54 n ) (FX46_putElsewhere_105 n ) a0 a1 a2 M
noncomputable def FX46_putElsewhere (n : Nat) (a0 : Nat) (a1 : Int32) (a2 : Int64) (M : FM) : Option (FM) := FX46_putElsewhere_0 n a0 a1 a2 M
/-! BoardMachine$Processor.access(IIJ)Z -/
noncomputable def BX46_access_111 (f3 : Nat → Int32 → Int64 → FM → Option (Int32 × FM)) (a0 : Nat) (a7 : Int64) (M : FM) : Option (Int32 × FM) :=
  fi (fm_is M 75 75 a0 = true) (
  let x1 : Nat := (M.2.2 211 a0 0)
  fi (fm_is M 63 63 x1 = true) (
  (f3 x1 (Int32.ofInt 1) a7 M).bind fun r2 =>
  fi ((Int32.ofInt 1) = 0 ∨ (Int32.ofInt 1) = 1) (some ((Int32.ofInt 1), r2.2)) none) none) none
noncomputable def FX46_access_111 (n : Nat) (a0 : Nat) (a7 : Int64) (M : FM) : Option (Int32 × FM) := BX46_access_111 FX47_finish a0 a7 M
noncomputable def BX46_access_108 (f4 : Nat → Int32 → Int64 → FM → Option (FM)) (g111 : Nat → Int64 → FM → Option (Int32 × FM)) (a0 : Nat) (a7 : Int64) (s0 : Nat) (s1 : Int32) (s2 : Int64) (M : FM) : Option (Int32 × FM) :=
  fi (fm_is M 75 75 s0 = true) (
  (f4 s0 s1 s2 M).bind fun M1 =>
  g111 a0 a7 M1) none
noncomputable def FX46_access_108 (n : Nat) (a0 : Nat) (a7 : Int64) (s0 : Nat) (s1 : Int32) (s2 : Int64) (M : FM) : Option (Int32 × FM) := BX46_access_108 (FX46_putElsewhere n) (FX46_access_111 n ) a0 a7 s0 s1 s2 M
noncomputable def BX46_access_23 (f0 : Nat → Int32 → Int32 → Int32 → Int64 → FM → Option (Int32 × FM)) (f1 : Nat → FM → Option (Int32 × FM)) (f2 : Nat → Int32 → FM → Option (Int64 × FM)) (g108 : Nat → Int64 → Nat → Int32 → Int64 → FM → Option (Int32 × FM)) (g111 : Nat → Int64 → FM → Option (Int32 × FM)) (a0 : Nat) (a1 : Int32) (a2 : Int32) (a3 : Int64) (s0 : Int32) (M : FM) : Option (Int32 × FM) :=
  fi (fm_is M 75 75 a0 = true) (
  let x1 : Nat := (M.2.2 213 a0 0)
  fi (fm_is M 12 12 x1 = true) (
  (f0 x1 a1 a2 s0 a3 M).bind fun r2 =>
  fi (r2.1 = (Int32.ofInt 2)) (
    fi (fm_is r2.2 75 75 a0 = true) (
    (f1 a0 r2.2).bind fun r3 =>
    fi (r3.1 = 0 ∨ r3.1 = 1) (some (r3.1, r3.2)) none) none) (
    fi (fm_is r2.2 75 75 a0 = true) (
    let x4 : Nat := (r2.2.2.2 213 a0 0)
    fi (fm_is r2.2 12 12 x4 = true) (
    let x5 : Int64 := (r2.2.2.1 38 x4 0)
    fi (r2.1 = (Int32.ofInt 1)) (
      fi (fm_is r2.2 75 75 a0 = true) (
      (f2 a0 a1 r2.2).bind fun r6 =>
      fi (s0 = 0) (
        g111 a0 r6.1 r6.2) (
        fi (a2 = (Int32.ofInt 1)) (
          g108 a0 r6.1 a0 a1 a3 r6.2) (
          fi (a2 = (Int32.ofInt 2)) (
            g108 a0 r6.1 a0 a1 (r6.1 ||| a3) r6.2) (
            g108 a0 r6.1 a0 a1 (r6.1 &&& (a3 ^^^ (Int64.ofInt (-1)))) r6.2)))) none) (
      g111 a0 x5 r2.2)) none) none)) none) none
noncomputable def FX46_access_23 (n : Nat) (a0 : Nat) (a1 : Int32) (a2 : Int32) (a3 : Int64) (s0 : Int32) (M : FM) : Option (Int32 × FM) := BX46_access_23 FX74_access FX46_illegal (FX46_elsewhere n) (FX46_access_108 n ) (FX46_access_111 n ) a0 a1 a2 a3 s0 M
noncomputable def BX46_access_18 (g23 : Nat → Int32 → Int32 → Int64 → Int32 → FM → Option (Int32 × FM)) (a0 : Nat) (a1 : Int32) (a2 : Int32) (a3 : Int64) (M : FM) : Option (Int32 × FM) :=
  g23 a0 a1 a2 a3 (Int32.ofInt 1) M
noncomputable def FX46_access_18 (n : Nat) (a0 : Nat) (a1 : Int32) (a2 : Int32) (a3 : Int64) (M : FM) : Option (Int32 × FM) := BX46_access_18 (FX46_access_23 n ) a0 a1 a2 a3 M
noncomputable def BX46_access_0 (g18 : Nat → Int32 → Int32 → Int64 → FM → Option (Int32 × FM)) (g23 : Nat → Int32 → Int32 → Int64 → Int32 → FM → Option (Int32 × FM)) (a0 : Nat) (a1 : Int32) (a2 : Int32) (a3 : Int64) (M : FM) : Option (Int32 × FM) :=
  fi (a2 = (Int32.ofInt 1)) (
    g18 a0 a1 a2 a3 M) (
    fi (fm_is M 75 75 a0 = true) (
    fi ((((M.1 219 a0 0).toUInt32 >>> ((Int32.ofInt 15).toUInt32 &&& Int32.toUInt32 31)).toInt32 &&& (Int32.ofInt 31)) = 0) (
      g23 a0 a1 a2 a3 (Int32.ofInt 0) M) (
      g18 a0 a1 a2 a3 M)) none)
noncomputable def FX46_access_0 (n : Nat) (a0 : Nat) (a1 : Int32) (a2 : Int32) (a3 : Int64) (M : FM) : Option (Int32 × FM) := BX46_access_0 (FX46_access_18 n ) (FX46_access_23 n ) a0 a1 a2 a3 M
noncomputable def FX46_access (n : Nat) (a0 : Nat) (a1 : Int32) (a2 : Int32) (a3 : Int64) (M : FM) : Option (Int32 × FM) := FX46_access_0 n a0 a1 a2 a3 M
/-! BoardMachine$Processor.control()Z -/
noncomputable def BX46_control_48 (s0 : Int32) (M : FM) : Option (Int32 × FM) :=
  fi (s0 = 0 ∨ s0 = 1) (some (s0, M)) none
noncomputable def FX46_control_48 (n : Nat) (s0 : Int32) (M : FM) : Option (Int32 × FM) := BX46_control_48 s0 M
noncomputable def BX46_control_0 (f0 : Nat → Int32 → FM → Option (Int64 × FM)) (f1 : Nat → Int32 → FM → Option (Int32 × FM)) (f2 : Nat → Int32 → Int32 → Int64 → FM → Option (Int32 × FM)) (g48 : Int32 → FM → Option (Int32 × FM)) (a0 : Nat) (M : FM) : Option (Int32 × FM) :=
  fi (fm_is M 75 75 a0 = true) (
  let x1 : Nat := (M.2.2 211 a0 0)
  fi (fm_is M 63 63 x1 = true) (
  (f0 x1 (Int32.ofInt 0) M).bind fun r2 =>
  let x3 : Int32 := r2.1.toInt32
  fi (fm_is r2.2 75 75 a0 = true) (
  let x4 : Nat := (r2.2.2.2 211 a0 0)
  fi (fm_is r2.2 63 63 x4 = true) (
  (f0 x4 (Int32.ofInt 3) r2.2).bind fun r5 =>
  let x6 : Int32 := r5.1.toInt32
  fi (x6 = 0) (
    fi (fm_is r5.2 75 75 a0 = true) (
    (f1 a0 x3 r5.2).bind fun r7 =>
    g48 r7.1 r7.2) none) (
    fi (fm_is r5.2 75 75 a0 = true) (
    let x8 : Nat := (r5.2.2.2 211 a0 0)
    fi (fm_is r5.2 63 63 x8 = true) (
    (f0 x8 (Int32.ofInt 2) r5.2).bind fun r9 =>
    fi (fm_is r9.2 75 75 a0 = true) (
    (f2 a0 x3 (x6 &&& (Int32.ofInt 3)) r9.1 r9.2).bind fun r10 =>
    g48 r10.1 r10.2) none) none) none)) none) none) none) none
noncomputable def FX46_control_0 (n : Nat) (a0 : Nat) (M : FM) : Option (Int32 × FM) := BX46_control_0 FX47_wanted FX46_system (FX46_access n) (FX46_control_48 n ) a0 M
noncomputable def FX46_control (n : Nat) (a0 : Nat) (M : FM) : Option (Int32 × FM) := FX46_control_0 n a0 M
/-! BoardMachine$Processor.execute()Z -/
noncomputable def BX46_execute_110 (M : FM) : Option (Int32 × FM) :=
  fi ((Int32.ofInt 1) = 0 ∨ (Int32.ofInt 1) = 1) (some ((Int32.ofInt 1), M)) none
noncomputable def FX46_execute_110 (n : Nat) (M : FM) : Option (Int32 × FM) := BX46_execute_110 M
noncomputable def BX46_execute_20 (f0 : Nat → FM → Option (Int32 × FM)) (f1 : Nat → Int32 → Int32 → FM → Option (Int32 × FM)) (f2 : Nat → FM → Option (Int32 × FM)) (f3 : Nat → FM → Option (Int32 × FM)) (f4 : Nat → FM → Option (Int32 × FM)) (f5 : Nat → FM → Option (Int32 × FM)) (f6 : Nat → FM → Option (Int32 × FM)) (g110 : FM → Option (Int32 × FM)) (a0 : Nat) (M : FM) : Option (Int32 × FM) :=
  fi (fm_is M 75 75 a0 = true) (
  fi (fm_is M 75 75 a0 = true) (
  fi (fm_is M 75 75 a0 = true) (
  let x1 : Nat := (M.2.2 211 a0 0)
  fi (fm_is M 63 63 x1 = true) (
  (f1 x1 (M.1 219 a0 0) (M.1 221 a0 0) M).bind fun r2 =>
  fi (r2.1 = (Int32.ofInt (-1))) (
    fi (fm_is r2.2 75 75 a0 = true) (
    (f0 a0 r2.2).bind fun r3 =>
    fi (r3.1 = 0 ∨ r3.1 = 1) (some (r3.1, r3.2)) none) none) (
  fi (r2.1 = (Int32.ofInt 0)) (
    g110 r2.2) (
  fi (r2.1 = (Int32.ofInt 1)) (
    g110 r2.2) (
  fi (r2.1 = (Int32.ofInt 2)) (
    fi (fm_is r2.2 75 75 a0 = true) (
    (f2 a0 r2.2).bind fun r4 =>
    fi (r4.1 = 0 ∨ r4.1 = 1) (some (r4.1, r4.2)) none) none) (
  fi (r2.1 = (Int32.ofInt 3)) (
    fi (fm_is r2.2 75 75 a0 = true) (
    (f3 a0 r2.2).bind fun r5 =>
    fi (r5.1 = 0 ∨ r5.1 = 1) (some (r5.1, r5.2)) none) none) (
  fi (r2.1 = (Int32.ofInt 4)) (
    fi (fm_is r2.2 75 75 a0 = true) (
    (f4 a0 r2.2).bind fun r6 =>
    fi (r6.1 = 0 ∨ r6.1 = 1) (some (r6.1, r6.2)) none) none) (
  fi (r2.1 = (Int32.ofInt 5)) (
    fi (fm_is r2.2 75 75 a0 = true) (
    (f5 a0 r2.2).bind fun r7 =>
    fi (r7.1 = 0 ∨ r7.1 = 1) (some (r7.1, r7.2)) none) none) (
  fi (r2.1 = (Int32.ofInt 6)) (
    fi (fm_is r2.2 75 75 a0 = true) (
    (f6 a0 r2.2).bind fun r8 =>
    fi (r8.1 = 0 ∨ r8.1 = 1) (some (r8.1, r8.2)) none) none) (
  g110 r2.2))))))))) none) none) none) none
noncomputable def FX46_execute_20 (n : Nat) (a0 : Nat) (M : FM) : Option (Int32 × FM) := BX46_execute_20 FX46_illegal (FX47_run n) (FX46_load n) (FX46_store n) (FX46_atomic n) (FX46_floating n) (FX46_control n) (FX46_execute_110 n ) a0 M
noncomputable def BX46_execute_0 (f0 : Nat → FM → Option (Int32 × FM)) (g20 : Nat → FM → Option (Int32 × FM)) (a0 : Nat) (M : FM) : Option (Int32 × FM) :=
  fi (fm_is M 75 75 a0 = true) (
  fi ((M.1 221 a0 0) = (Int32.ofInt 2)) (
    fi (fm_is M 75 75 a0 = true) (
    fi ((M.1 219 a0 0) = 0) (
      fi (fm_is M 75 75 a0 = true) (
      (f0 a0 M).bind fun r1 =>
      fi (r1.1 = 0 ∨ r1.1 = 1) (some (r1.1, r1.2)) none) none) (
      g20 a0 M)) none) (
    g20 a0 M)) none
noncomputable def FX46_execute_0 (n : Nat) (a0 : Nat) (M : FM) : Option (Int32 × FM) := BX46_execute_0 FX46_illegal (FX46_execute_20 n ) a0 M
noncomputable def FX46_execute (n : Nat) (a0 : Nat) (M : FM) : Option (Int32 × FM) := FX46_execute_0 n a0 M
/-! BoardMachine$Processor.step()V -/
noncomputable def BX46_step_95 (M : FM) : Option (FM) :=
  some M
noncomputable def FX46_step_95 (n : Nat) (M : FM) : Option (FM) := BX46_step_95 M
noncomputable def BX46_step_24 (f2 : Nat → FM → Option (Int32 × FM)) (f3 : Nat → FM → Option (Int32 × FM)) (f4 : Nat → FM → Option (Int32 × FM)) (f5 : Nat → FM → Option (Int64 × FM)) (f6 : Nat → Int32 → Int32 → Int64 → Int64 → FM → Option (Int64 × FM)) (f7 : Nat → Int64 → FM → Option (FM)) (g95 : FM → Option (FM)) (a0 : Nat) (M : FM) : Option (FM) :=
  fi (fm_is M 75 75 a0 = true) (
  fi ((Int32.ofInt 0) = 0 ∨ (Int32.ofInt 0) = 1) (
  let M1 : FM := fm_sI M 218 a0 0 (Int32.ofInt 0)
  fi (fm_is M1 75 75 a0 = true) (
  let x2 : Nat := (M1.2.2 213 a0 0)
  fi (fm_is M1 12 12 x2 = true) (
  (f2 x2 M1).bind fun r3 =>
  fi (r3.1 < 0) (
    fi (fm_is r3.2 75 75 a0 = true) (
    (f3 a0 r3.2).bind fun r4 =>
    fi (r4.1 = 0) (
      g95 r4.2) (
      fi (fm_is r4.2 75 75 a0 = true) (
      (f4 a0 r4.2).bind fun r5 =>
      fi (r5.1 = 0) (
        g95 r5.2) (
        fi (fm_is r5.2 75 75 a0 = true) (
        let x6 : Nat := (r5.2.2.2 213 a0 0)
        fi (fm_is r5.2 12 12 x6 = true) (
        let x7 : Nat := (r5.2.2.2 35 x6 0)
        fi (fm_is r5.2 14 17 x7 = true) (
        fi (fm_is r5.2 14 17 x7 = true) (
        let M8 : FM := fm_sL r5.2 41 x7 0 ((r5.2.2.1 41 x7 0) + (Int64.ofInt 1))
        g95 M8) none) none) none) none)) none)) none) (
    fi (fm_is r3.2 75 75 a0 = true) (
    fi (fm_is r3.2 75 75 a0 = true) (
    fi (fm_is r3.2 75 75 a0 = true) (
    (f5 a0 r3.2).bind fun r9 =>
    let x10 : Nat := (r3.2.2.2 213 a0 0)
    fi (fm_is r9.2 12 12 x10 = true) (
    (f6 x10 (Int32.ofInt 1) r3.1 (Int64.ofInt 0) r9.1 r9.2).bind fun r11 =>
    let x12 : Nat := (r3.2.2.2 211 a0 0)
    fi (fm_is r11.2 63 63 x12 = true) (
    (f7 x12 r11.1 r11.2).bind fun M13 =>
    g95 M13) none) none) none) none) none)) none) none) none) none
noncomputable def FX46_step_24 (n : Nat) (a0 : Nat) (M : FM) : Option (FM) := BX46_step_24 (FX74_taken n) (FX46_fetch n) (FX46_execute n) FX46_counter FX74_trap FX47_jump (FX46_step_95 n ) a0 M
noncomputable def BX46_step_0 (f0 : Nat → FM → Option (FM)) (f1 : Nat → FM → Option (Int64 × FM)) (g24 : Nat → FM → Option (FM)) (a0 : Nat) (M : FM) : Option (FM) :=
  fi (fm_is M 75 75 a0 = true) (
  (f0 a0 M).bind fun M1 =>
  fi (fm_is M1 75 75 a0 = true) (
  fi ((M1.1 218 a0 0) = 0) (
    g24 a0 M1) (
    fi (fm_is M1 75 75 a0 = true) (
    let x2 : Nat := (M1.2.2 213 a0 0)
    fi (fm_is M1 12 12 x2 = true) (
    (f1 x2 M1).bind fun r3 =>
    fi ((lg_cmp r3.1 (Int64.ofInt 0)) = 0) (
      some r3.2) (
      g24 a0 r3.2)) none) none)) none) none
noncomputable def FX46_step_0 (n : Nat) (a0 : Nat) (M : FM) : Option (FM) := BX46_step_0 (FX46_look n) FX74_waiting (FX46_step_24 n ) a0 M
noncomputable def FX46_step (n : Nat) (a0 : Nat) (M : FM) : Option (FM) := FX46_step_0 n a0 M
/-! BoardMachine$Signals$SignalUnit.come(I)Z -/
noncomputable def BX30_come_0 (f0 : Nat → Int32 → FM → Option (Int32 × FM)) (f1 : Nat → FM → Option (FM)) (a0 : Nat) (a1 : Int32) (M : FM) : Option (Int32 × FM) :=
  fi (fm_is M 79 79 a0 = true) (
  let x1 : Nat := (M.2.2 242 a0 0)
  fi (fm_is M 78 78 x1 = true) (
  (f0 x1 a1 M).bind fun r2 =>
  fi (fm_is r2.2 79 79 a0 = true) (
  (f1 a0 r2.2).bind fun M3 =>
  fi (r2.1 = 0 ∨ r2.1 = 1) (some (r2.1, M3)) none) none) none) none
noncomputable def FX30_come_0 (a0 : Nat) (a1 : Int32) (M : FM) : Option (Int32 × FM) := BX30_come_0 FX31_come FX30_look a0 a1 M
noncomputable def FX30_come (a0 : Nat) (a1 : Int32) (M : FM) : Option (Int32 × FM) := FX30_come_0 a0 a1 M
/-! BoardMachine$Machine.come()V -/
noncomputable def BX2_come_66 (M : FM) : Option (FM) :=
  some M
noncomputable def FX2_come_66 (M : FM) : Option (FM) := BX2_come_66 M
noncomputable def BX2_come_0 (f0 : Nat → FM → Option (Int32 × FM)) (f1 : Nat → Int32 → FM → Option (Int32 × FM)) (g66 : FM → Option (FM)) (a0 : Nat) (M : FM) : Option (FM) :=
  fi (fm_is M 67 67 a0 = true) (
  fi ((M.1 196 a0 0) ≤ 0) (
    g66 M) (
    fi (fm_is M 67 67 a0 = true) (
    let x1 : Nat := (M.2.2 189 a0 0)
    fi (fm_is M 11 11 x1 = true) (
    let x2 : Nat := (M.2.2 19 x1 0)
    fi (fm_is M 79 79 x2 = true) (
    let x3 : Nat := (M.2.2 242 x2 0)
    fi (fm_is M 78 78 x3 = true) (
    (f0 x3 M).bind fun r4 =>
    fi (r4.1 ≤ 0) (
      g66 r4.2) (
      fi (fm_is r4.2 67 67 a0 = true) (
      let x5 : Nat := (r4.2.2.2 189 a0 0)
      fi (fm_is r4.2 11 11 x5 = true) (
      fi (fm_is r4.2 67 67 a0 = true) (
      fi (fm_is r4.2 67 67 a0 = true) (
      let x6 : Int32 := (r4.2.1 195 a0 0)
      let x7 : Nat := (r4.2.2.2 194 a0 0)
      fi (fm_is r4.2 903 903 x7 = true ∧ fm_in r4.2 x7 x6 = true) (
      let x8 : Nat := (r4.2.2.2 19 x5 0)
      fi (fm_is r4.2 79 79 x8 = true) (
      (f1 x8 (r4.2.1 3 x7 x6.toNatClampNeg) r4.2).bind fun r9 =>
      fi (fm_is r9.2 67 67 a0 = true) (
      let x10 : Int32 := ((r9.2.1 195 a0 0) + (Int32.ofInt 1))
      fi ((Int32.ofInt 65536) = 0) none (
      fi (fm_is r9.2 67 67 a0 = true) (
      let M11 : FM := fm_sI r9.2 195 a0 0 (x10 - x10 / (Int32.ofInt 65536) * (Int32.ofInt 65536))
      fi (fm_is M11 67 67 a0 = true) (
      fi (fm_is M11 67 67 a0 = true) (
      let M12 : FM := fm_sI M11 196 a0 0 ((M11.1 196 a0 0) - (Int32.ofInt 1))
      g66 M12) none) none) none)) none) none) none) none) none) none) none)) none) none) none) none)) none
noncomputable def FX2_come_0 (a0 : Nat) (M : FM) : Option (FM) := BX2_come_0 FX31_room FX30_come FX2_come_66 a0 M
noncomputable def FX2_come (a0 : Nat) (M : FM) : Option (FM) := FX2_come_0 a0 M
/-! BoardMachine$Board.pass()V -/
noncomputable def BX10_pass_0 (a0 : Nat) (M : FM) : Option (FM) :=
  fi (fm_is M 11 11 a0 = true) (
  let x1 : Nat := (M.2.2 19 a0 0)
  fi (fm_is M 79 79 x1 = true) (
  let x2 : Nat := (M.2.2 240 x1 0)
  fi (fm_is M 80 80 x2 = true) (
  let x3 : Nat := (M.2.2 246 x2 0)
  fi (fm_is M 902 902 x3 = true ∧ fm_in M x3 (Int32.ofInt 4) = true) (
  fi (fm_is M 902 902 x3 = true ∧ fm_in M x3 (Int32.ofInt 4) = true) (
  let M4 : FM := fm_sL M 3 x3 (Int32.ofInt 4).toNatClampNeg ((M.2.1 3 x3 (Int32.ofInt 4).toNatClampNeg) + (Int64.ofInt 1))
  some M4) none) none) none) none) none
noncomputable def FX10_pass_0 (a0 : Nat) (M : FM) : Option (FM) := BX10_pass_0 a0 M
noncomputable def FX10_pass (a0 : Nat) (M : FM) : Option (FM) := FX10_pass_0 a0 M
/-! BoardMachine$Machine.round()V -/
noncomputable def BX2_round_120 (M : FM) : Option (FM) :=
  some M
noncomputable def FX2_round_120 (n : Nat) (k2 : Nat → Int32 → FM → Option (FM)) (k56 : Nat → Nat → Int32 → Int32 → FM → Option (FM)) (M : FM) : Option (FM) := BX2_round_120 M
noncomputable def BX2_round_116 (f1 : Nat → FM → Option (FM)) (g120 : FM → Option (FM)) (a0 : Nat) (M : FM) : Option (FM) :=
  fi (fm_is M 67 67 a0 = true) (
  (f1 a0 M).bind fun M1 =>
  g120 M1) none
noncomputable def FX2_round_116 (n : Nat) (k2 : Nat → Int32 → FM → Option (FM)) (k56 : Nat → Nat → Int32 → Int32 → FM → Option (FM)) (a0 : Nat) (M : FM) : Option (FM) := BX2_round_116 FX2_come (FX2_round_120 n k2 k56) a0 M
noncomputable def BX2_round_56 (f2 : Nat → FM → Option (FM)) (g116 : Nat → FM → Option (FM)) (k56 : Nat → Nat → Int32 → Int32 → FM → Option (FM)) (a0 : Nat) (a1 : Nat) (a2 : Int32) (a3 : Int32) (M : FM) : Option (FM) :=
  fi (a2 ≤ a3) (
    fi (fm_is M 67 67 a0 = true) (
    let x1 : Int32 := ((M.1 197 a0 0) + (Int32.ofInt 1))
    fi ((Int32.ofInt 10) = 0) none (
    fi (fm_is M 67 67 a0 = true) (
    let M2 : FM := fm_sI M 197 a0 0 (x1 - x1 / (Int32.ofInt 10) * (Int32.ofInt 10))
    fi (fm_is M2 67 67 a0 = true) (
    fi ((M2.1 197 a0 0) = 0) (
      fi (fm_is M2 67 67 a0 = true) (
      let x3 : Nat := (M2.2.2 189 a0 0)
      fi (fm_is M2 11 11 x3 = true) (
      (f2 x3 M2).bind fun M4 =>
      g116 a0 M4) none) none) (
      g116 a0 M2)) none) none)) none) (
    fi (fm_is M 910 990 a1 = true ∧ fm_in M a1 a3 = true) (
    let x5 : Nat := (M.2.2 3 a1 a3.toNatClampNeg)
    fi (fm_is M 75 75 x5 = true) (
    let x6 : Nat := (M.2.2 213 x5 0)
    fi (fm_is M 12 12 x6 = true) (
    let x7 : Nat := (M.2.2 34 x6 0)
    fi (fm_is M 14 17 x7 = true) (
    fi (fm_is M 14 17 x7 = true) (
    let M8 : FM := fm_sL M 41 x7 0 ((M.2.1 41 x7 0) + (Int64.ofInt 1))
    let x9 : Int32 := a3 + (Int32.ofInt 1)
    k56 a0 a1 a2 x9 M8) none) none) none) none) none)
noncomputable def FX2_round_56 (n : Nat) (k2 : Nat → Int32 → FM → Option (FM)) (k56 : Nat → Nat → Int32 → Int32 → FM → Option (FM)) (a0 : Nat) (a1 : Nat) (a2 : Int32) (a3 : Int32) (M : FM) : Option (FM) := BX2_round_56 FX10_pass (FX2_round_116 n k2 k56) k56 a0 a1 a2 a3 M
noncomputable def BX2_round_36 (g120 : FM → Option (FM)) (k56 : Nat → Nat → Int32 → Int32 → FM → Option (FM)) (a0 : Nat) (M : FM) : Option (FM) :=
  fi (fm_is M 67 67 a0 = true) (
  let x1 : Nat := (M.2.2 189 a0 0)
  fi (fm_is M 11 11 x1 = true) (
  fi ((M.1 22 x1 0) = 0) (
    fi (fm_is M 67 67 a0 = true) (
    let x2 : Nat := (M.2.2 190 a0 0)
    fi (fm_is M 901 990 x2 = true) (
    let x3 : Int32 := (Int32.ofNat (M.2.2 1 x2 0))
    k56 a0 x2 x3 (Int32.ofInt 0) M) none) none) (
    g120 M)) none) none
noncomputable def FX2_round_36 (n : Nat) (k2 : Nat → Int32 → FM → Option (FM)) (k56 : Nat → Nat → Int32 → Int32 → FM → Option (FM)) (a0 : Nat) (M : FM) : Option (FM) := BX2_round_36 (FX2_round_120 n k2 k56) k56 a0 M
noncomputable def BX2_round_2 (f0 : Nat → FM → Option (FM)) (g36 : Nat → FM → Option (FM)) (k2 : Nat → Int32 → FM → Option (FM)) (a0 : Nat) (a1 : Int32) (M : FM) : Option (FM) :=
  fi (fm_is M 67 67 a0 = true) (
  let x1 : Nat := (M.2.2 190 a0 0)
  fi (fm_is M 901 990 x1 = true) (
  fi ((Int32.ofNat (M.2.2 1 x1 0)) ≤ a1) (
    g36 a0 M) (
    fi (fm_is M 67 67 a0 = true) (
    let x2 : Nat := (M.2.2 189 a0 0)
    fi (fm_is M 11 11 x2 = true) (
    fi ((M.1 22 x2 0) = 0) (
      fi (fm_is M 67 67 a0 = true) (
      let x3 : Nat := (M.2.2 190 a0 0)
      fi (fm_is M 910 990 x3 = true ∧ fm_in M x3 a1 = true) (
      let x4 : Nat := (M.2.2 3 x3 a1.toNatClampNeg)
      fi (fm_is M 75 75 x4 = true) (
      (f0 x4 M).bind fun M5 =>
      let x6 : Int32 := a1 + (Int32.ofInt 1)
      k2 a0 x6 M5) none) none) none) (
      g36 a0 M)) none) none)) none) none
noncomputable def FX2_round_2 (n : Nat) (k2 : Nat → Int32 → FM → Option (FM)) (k56 : Nat → Nat → Int32 → Int32 → FM → Option (FM)) (a0 : Nat) (a1 : Int32) (M : FM) : Option (FM) := BX2_round_2 (FX46_step n) (FX2_round_36 n k2 k56) k2 a0 a1 M
noncomputable def BX2_round_0 (k2 : Nat → Int32 → FM → Option (FM)) (a0 : Nat) (M : FM) : Option (FM) :=
  k2 a0 (Int32.ofInt 0) M
noncomputable def FX2_round_0 (n : Nat) (k2 : Nat → Int32 → FM → Option (FM)) (k56 : Nat → Nat → Int32 → Int32 → FM → Option (FM)) (a0 : Nat) (M : FM) : Option (FM) := BX2_round_0 k2 a0 M
noncomputable def FX2_round_L (n : Nat) : Nat → (Nat → Int32 → FM → Option (FM)) × (Nat → Nat → Int32 → Int32 → FM → Option (FM))
  | 0 => (fun _ _ _ => none, fun _ _ _ _ _ => none)
  | j + 1 => (FX2_round_2 n (FX2_round_L n j).1 (FX2_round_L n j).2, FX2_round_56 n (FX2_round_L n j).1 (FX2_round_L n j).2)
noncomputable def FX2_round (n : Nat) (a0 : Nat) (M : FM) : Option (FM) := FX2_round_0 n (FX2_round_L n n).1 (FX2_round_L n n).2 a0 M
/-! BoardMachine$Machine.run(I)I -/
noncomputable def BX2_run_27 (a2 : Int32) (M : FM) : Option (Int32 × FM) :=
  some (a2, M)
noncomputable def FX2_run_27 (n : Nat) (k2 : Nat → Int32 → Int32 → FM → Option (Int32 × FM)) (a2 : Int32) (M : FM) : Option (Int32 × FM) := BX2_run_27 a2 M
noncomputable def BX2_run_2 (f0 : Nat → FM → Option (FM)) (g27 : Int32 → FM → Option (Int32 × FM)) (k2 : Nat → Int32 → Int32 → FM → Option (Int32 × FM)) (a0 : Nat) (a1 : Int32) (a2 : Int32) (M : FM) : Option (Int32 × FM) :=
  fi (a1 ≤ a2) (
    g27 a2 M) (
    fi (fm_is M 67 67 a0 = true) (
    let x1 : Nat := (M.2.2 189 a0 0)
    fi (fm_is M 11 11 x1 = true) (
    fi ((M.1 22 x1 0) = 0) (
      fi (fm_is M 67 67 a0 = true) (
      (f0 a0 M).bind fun M2 =>
      let x3 : Int32 := a2 + (Int32.ofInt 1)
      k2 a0 a1 x3 M2) none) (
      g27 a2 M)) none) none)
noncomputable def FX2_run_2 (n : Nat) (k2 : Nat → Int32 → Int32 → FM → Option (Int32 × FM)) (a0 : Nat) (a1 : Int32) (a2 : Int32) (M : FM) : Option (Int32 × FM) := BX2_run_2 (FX2_round n) (FX2_run_27 n k2) k2 a0 a1 a2 M
noncomputable def BX2_run_0 (k2 : Nat → Int32 → Int32 → FM → Option (Int32 × FM)) (a0 : Nat) (a1 : Int32) (M : FM) : Option (Int32 × FM) :=
  k2 a0 a1 (Int32.ofInt 0) M
noncomputable def FX2_run_0 (n : Nat) (k2 : Nat → Int32 → Int32 → FM → Option (Int32 × FM)) (a0 : Nat) (a1 : Int32) (M : FM) : Option (Int32 × FM) := BX2_run_0 k2 a0 a1 M
noncomputable def FX2_run_L2 (n : Nat) : Nat → Nat → Int32 → Int32 → FM → Option (Int32 × FM)
  | 0 => fun _ _ _ _ => none
  | j + 1 => FX2_run_2 n (FX2_run_L2 n j)
noncomputable def FX2_run (n : Nat) (a0 : Nat) (a1 : Int32) (M : FM) : Option (Int32 × FM) := FX2_run_0 n (FX2_run_L2 n n) a0 a1 M
/-! BoardMachine.run(I)I -/
noncomputable def BX1_run_16 (f0 : Int32 → FM → Option (FM)) (f1 : Nat → Int32 → FM → Option (Int32 × FM)) (a0 : Nat) (a1 : Int32) (s0 : Int32) (M : FM) : Option (Int32 × FM) :=
  (f0 s0 M).bind fun M1 =>
  fi (fm_is M1 10 10 a0 = true) (
  let x2 : Nat := (M1.2.2 17 a0 0)
  fi (fm_is M1 67 67 x2 = true) (
  (f1 x2 a1 M1).bind fun r3 =>
  some (r3.1, r3.2)) none) none
noncomputable def FX1_run_16 (n : Nat) (a0 : Nat) (a1 : Int32) (s0 : Int32) (M : FM) : Option (Int32 × FM) := BX1_run_16 FX1_proper (FX2_run n) a0 a1 s0 M
noncomputable def BX1_run_15 (g16 : Nat → Int32 → Int32 → FM → Option (Int32 × FM)) (a0 : Nat) (a1 : Int32) (M : FM) : Option (Int32 × FM) :=
  g16 a0 a1 (Int32.ofInt 0) M
noncomputable def FX1_run_15 (n : Nat) (a0 : Nat) (a1 : Int32) (M : FM) : Option (Int32 × FM) := BX1_run_15 (FX1_run_16 n ) a0 a1 M
noncomputable def BX1_run_0 (g15 : Nat → Int32 → FM → Option (Int32 × FM)) (g16 : Nat → Int32 → Int32 → FM → Option (Int32 × FM)) (a0 : Nat) (a1 : Int32) (M : FM) : Option (Int32 × FM) :=
  fi (a1 < 0) (
    g15 a0 a1 M) (
    fi ((Int32.ofInt 10000) < a1) (
      g15 a0 a1 M) (
      g16 a0 a1 (Int32.ofInt 1) M))
noncomputable def FX1_run_0 (n : Nat) (a0 : Nat) (a1 : Int32) (M : FM) : Option (Int32 × FM) := BX1_run_0 (FX1_run_15 n ) (FX1_run_16 n ) a0 a1 M
noncomputable def FX1_run (n : Nat) (a0 : Nat) (a1 : Int32) (M : FM) : Option (Int32 × FM) := FX1_run_0 n a0 a1 M
noncomputable def TX1_run (n : Nat) (a0 : Nat) (a1 : Int32) (M : FM) : Option (Nat × FM) :=
  fi (a1 < 0) (
    (TX1_proper n (Int32.ofInt 0) M).or ((FX1_proper (Int32.ofInt 0) M).bind fun M1 =>
    none)) (
    fi ((Int32.ofInt 10000) < a1) (
      (TX1_proper n (Int32.ofInt 0) M).or ((FX1_proper (Int32.ofInt 0) M).bind fun M2 =>
      none)) (
      (TX1_proper n (Int32.ofInt 1) M).or ((FX1_proper (Int32.ofInt 1) M).bind fun M3 =>
      none)))
/-! BoardMachineLaw.run(LBoardMachine;I[J)I -/
noncomputable def BX0_run_0 (f0 : Nat → Int32 → FM → Option (Int32 × FM)) (a0 : Nat) (a1 : Int32) (a2 : Nat) (M : FM) : Option (Int32 × FM) :=
  fi (fm_is M 10 10 a0 = true) (
  (f0 a0 a1 M).bind fun r1 =>
  fi (fm_is r1.2 902 902 a2 = true ∧ fm_in r1.2 a2 (Int32.ofInt 0) = true) (
  let M2 : FM := fm_sL r1.2 3 a2 (Int32.ofInt 0).toNatClampNeg r1.1.toInt64
  some ((Int32.ofInt 0), M2)) none) none
noncomputable def FX0_run_0 (n : Nat) (a0 : Nat) (a1 : Int32) (a2 : Nat) (M : FM) : Option (Int32 × FM) := BX0_run_0 (FX1_run n) a0 a1 a2 M
noncomputable def FX0_run (n : Nat) (a0 : Nat) (a1 : Int32) (a2 : Nat) (M : FM) : Option (Int32 × FM) := FX0_run_0 n a0 a1 a2 M
noncomputable def Fh_law_run (n : Nat) (a0 : Nat) (a1 : Int32) (a2 : Nat) (M : FM) : Option (Int32 × FM) := (FX0_run n a0 a1 a2 M).or ((TX1_run n a0 a1 M).bind fun q => fi (q.1 = 102) (some ((Int32.ofInt 1), q.2)) none)
/-! BoardMachine.there(Z)V -/
noncomputable def BX1_there_0 (a0 : Int32) (M : FM) : Option (FM) :=
  fi (a0 = 0) (
    none) (
    some M)
noncomputable def FX1_there_0 (a0 : Int32) (M : FM) : Option (FM) := BX1_there_0 a0 M
noncomputable def FX1_there (a0 : Int32) (M : FM) : Option (FM) := FX1_there_0 a0 M
noncomputable def TX1_there (n : Nat) (a0 : Int32) (M : FM) : Option (Nat × FM) :=
  fi (a0 = 0) (
    some (104, fm_exc M)) (
    none)
/-! BoardMachine.at(I)LBoardMachine$Processor; -/
noncomputable def BX1_at_21 (f0 : Int32 → FM → Option (FM)) (a0 : Nat) (a1 : Int32) (s0 : Int32) (M : FM) : Option (Nat × FM) :=
  (f0 s0 M).bind fun M1 =>
  fi (fm_is M1 10 10 a0 = true) (
  let x2 : Nat := (M1.2.2 17 a0 0)
  fi (fm_is M1 67 67 x2 = true) (
  let x3 : Nat := (M1.2.2 190 x2 0)
  fi (fm_is M1 910 990 x3 = true ∧ fm_in M1 x3 a1 = true) (
  some ((M1.2.2 3 x3 a1.toNatClampNeg), M1)) none) none) none
noncomputable def FX1_at_21 (a0 : Nat) (a1 : Int32) (s0 : Int32) (M : FM) : Option (Nat × FM) := BX1_at_21 FX1_there a0 a1 s0 M
noncomputable def BX1_at_20 (g21 : Nat → Int32 → Int32 → FM → Option (Nat × FM)) (a0 : Nat) (a1 : Int32) (M : FM) : Option (Nat × FM) :=
  g21 a0 a1 (Int32.ofInt 0) M
noncomputable def FX1_at_20 (a0 : Nat) (a1 : Int32) (M : FM) : Option (Nat × FM) := BX1_at_20 FX1_at_21 a0 a1 M
noncomputable def BX1_at_0 (g20 : Nat → Int32 → FM → Option (Nat × FM)) (g21 : Nat → Int32 → Int32 → FM → Option (Nat × FM)) (a0 : Nat) (a1 : Int32) (M : FM) : Option (Nat × FM) :=
  fi (a1 < 0) (
    g20 a0 a1 M) (
    fi (fm_is M 10 10 a0 = true) (
    let x1 : Nat := (M.2.2 17 a0 0)
    fi (fm_is M 67 67 x1 = true) (
    let x2 : Nat := (M.2.2 190 x1 0)
    fi (fm_is M 901 990 x2 = true) (
    fi ((Int32.ofNat (M.2.2 1 x2 0)) ≤ a1) (
      g20 a0 a1 M) (
      g21 a0 a1 (Int32.ofInt 1) M)) none) none) none)
noncomputable def FX1_at_0 (a0 : Nat) (a1 : Int32) (M : FM) : Option (Nat × FM) := BX1_at_0 FX1_at_20 FX1_at_21 a0 a1 M
noncomputable def FX1_at (a0 : Nat) (a1 : Int32) (M : FM) : Option (Nat × FM) := FX1_at_0 a0 a1 M
noncomputable def TX1_at (n : Nat) (a0 : Nat) (a1 : Int32) (M : FM) : Option (Nat × FM) :=
  fi (a1 < 0) (
    (TX1_there n (Int32.ofInt 0) M).or ((FX1_there (Int32.ofInt 0) M).bind fun M1 =>
    none)) (
    fi (fm_is M 10 10 a0 = true) (
    let x2 : Nat := (M.2.2 17 a0 0)
    fi (fm_is M 67 67 x2 = true) (
    let x3 : Nat := (M.2.2 190 x2 0)
    fi (fm_is M 901 990 x3 = true) (
    fi ((Int32.ofNat (M.2.2 1 x3 0)) ≤ a1) (
      (TX1_there n (Int32.ofInt 0) M).or ((FX1_there (Int32.ofInt 0) M).bind fun M4 =>
      none)) (
      (TX1_there n (Int32.ofInt 1) M).or ((FX1_there (Int32.ofInt 1) M).bind fun M5 =>
      none))) none) none) none)
/-! BoardMachine.counter(I)J -/
noncomputable def BX1_counter_0 (f0 : Nat → Int32 → FM → Option (Nat × FM)) (f1 : Nat → FM → Option (Int64 × FM)) (a0 : Nat) (a1 : Int32) (M : FM) : Option (Int64 × FM) :=
  fi (fm_is M 10 10 a0 = true) (
  (f0 a0 a1 M).bind fun r1 =>
  fi (fm_is r1.2 75 75 r1.1 = true) (
  (f1 r1.1 r1.2).bind fun r2 =>
  some (r2.1, r2.2)) none) none
noncomputable def FX1_counter_0 (a0 : Nat) (a1 : Int32) (M : FM) : Option (Int64 × FM) := BX1_counter_0 FX1_at FX46_counter a0 a1 M
noncomputable def FX1_counter (a0 : Nat) (a1 : Int32) (M : FM) : Option (Int64 × FM) := FX1_counter_0 a0 a1 M
noncomputable def TX1_counter (n : Nat) (a0 : Nat) (a1 : Int32) (M : FM) : Option (Nat × FM) :=
  fi (fm_is M 10 10 a0 = true) (
  (TX1_at n a0 a1 M).or ((FX1_at a0 a1 M).bind fun r1 =>
  none)) none
/-! BoardMachineLaw.counter(LBoardMachine;I[J)I -/
noncomputable def BX0_counter_0 (f0 : Nat → Int32 → FM → Option (Int64 × FM)) (a0 : Nat) (a1 : Int32) (a2 : Nat) (M : FM) : Option (Int32 × FM) :=
  fi (fm_is M 10 10 a0 = true) (
  (f0 a0 a1 M).bind fun r1 =>
  fi (fm_is r1.2 902 902 a2 = true ∧ fm_in r1.2 a2 (Int32.ofInt 0) = true) (
  let M2 : FM := fm_sL r1.2 3 a2 (Int32.ofInt 0).toNatClampNeg r1.1
  some ((Int32.ofInt 0), M2)) none) none
noncomputable def FX0_counter_0 (a0 : Nat) (a1 : Int32) (a2 : Nat) (M : FM) : Option (Int32 × FM) := BX0_counter_0 FX1_counter a0 a1 a2 M
noncomputable def FX0_counter (a0 : Nat) (a1 : Int32) (a2 : Nat) (M : FM) : Option (Int32 × FM) := FX0_counter_0 a0 a1 a2 M
noncomputable def Fh_law_counter (n : Nat) (a0 : Nat) (a1 : Int32) (a2 : Nat) (M : FM) : Option (Int32 × FM) := (FX0_counter a0 a1 a2 M).or ((TX1_counter n a0 a1 M).bind fun q => fi (q.1 = 104) (some ((Int32.ofInt 1), q.2)) none)
/-! BoardMachine.mode(I)I -/
noncomputable def BX1_mode_25 (s0 : Int32) (s1 : Int32) (M : FM) : Option (Int32 × FM) :=
  some ((s0 + s1), M)
noncomputable def FX1_mode_25 (s0 : Int32) (s1 : Int32) (M : FM) : Option (Int32 × FM) := BX1_mode_25 s0 s1 M
noncomputable def BX1_mode_0 (f0 : Nat → Int32 → FM → Option (Nat × FM)) (g25 : Int32 → Int32 → FM → Option (Int32 × FM)) (a0 : Nat) (a1 : Int32) (M : FM) : Option (Int32 × FM) :=
  fi (fm_is M 10 10 a0 = true) (
  (f0 a0 a1 M).bind fun r1 =>
  fi (fm_is r1.2 75 75 r1.1 = true) (
  let x2 : Nat := (r1.2.2.2 213 r1.1 0)
  fi (fm_is r1.2 12 12 x2 = true) (
  fi (fm_is r1.2 75 75 r1.1 = true) (
  fi ((r1.2.1 218 r1.1 0) = 0) (
    g25 (r1.2.1 37 x2 0) (Int32.ofInt 0) r1.2) (
    g25 (r1.2.1 37 x2 0) (Int32.ofInt 4) r1.2)) none) none) none) none
noncomputable def FX1_mode_0 (a0 : Nat) (a1 : Int32) (M : FM) : Option (Int32 × FM) := BX1_mode_0 FX1_at FX1_mode_25 a0 a1 M
noncomputable def FX1_mode (a0 : Nat) (a1 : Int32) (M : FM) : Option (Int32 × FM) := FX1_mode_0 a0 a1 M
noncomputable def TX1_mode (n : Nat) (a0 : Nat) (a1 : Int32) (M : FM) : Option (Nat × FM) :=
  fi (fm_is M 10 10 a0 = true) (
  (TX1_at n a0 a1 M).or ((FX1_at a0 a1 M).bind fun r1 =>
  none)) none
/-! BoardMachineLaw.mode(LBoardMachine;I[J)I -/
noncomputable def BX0_mode_0 (f0 : Nat → Int32 → FM → Option (Int32 × FM)) (a0 : Nat) (a1 : Int32) (a2 : Nat) (M : FM) : Option (Int32 × FM) :=
  fi (fm_is M 10 10 a0 = true) (
  (f0 a0 a1 M).bind fun r1 =>
  fi (fm_is r1.2 902 902 a2 = true ∧ fm_in r1.2 a2 (Int32.ofInt 0) = true) (
  let M2 : FM := fm_sL r1.2 3 a2 (Int32.ofInt 0).toNatClampNeg r1.1.toInt64
  some ((Int32.ofInt 0), M2)) none) none
noncomputable def FX0_mode_0 (a0 : Nat) (a1 : Int32) (a2 : Nat) (M : FM) : Option (Int32 × FM) := BX0_mode_0 FX1_mode a0 a1 a2 M
noncomputable def FX0_mode (a0 : Nat) (a1 : Int32) (a2 : Nat) (M : FM) : Option (Int32 × FM) := FX0_mode_0 a0 a1 a2 M
noncomputable def Fh_law_mode (n : Nat) (a0 : Nat) (a1 : Int32) (a2 : Nat) (M : FM) : Option (Int32 × FM) := (FX0_mode a0 a1 a2 M).or ((TX1_mode n a0 a1 M).bind fun q => fi (q.1 = 104) (some ((Int32.ofInt 1), q.2)) none)
/-! BoardMachine$Disks$Disk.isPlace(I)Z -/
noncomputable def BX23_isPlace_21 (s0 : Int32) (M : FM) : Option (Int32 × FM) :=
  fi (s0 = 0 ∨ s0 = 1) (some (s0, M)) none
noncomputable def FX23_isPlace_21 (s0 : Int32) (M : FM) : Option (Int32 × FM) := BX23_isPlace_21 s0 M
noncomputable def BX23_isPlace_20 (g21 : Int32 → FM → Option (Int32 × FM)) (M : FM) : Option (Int32 × FM) :=
  g21 (Int32.ofInt 0) M
noncomputable def FX23_isPlace_20 (M : FM) : Option (Int32 × FM) := BX23_isPlace_20 FX23_isPlace_21 M
noncomputable def BX23_isPlace_0 (g20 : FM → Option (Int32 × FM)) (g21 : Int32 → FM → Option (Int32 × FM)) (a0 : Nat) (a1 : Int32) (M : FM) : Option (Int32 × FM) :=
  fi (a1 < 0) (
    g20 M) (
    fi (fm_is M 23 23 a0 = true) (
    fi (((Int32.ofInt 512) * (M.1 68 a0 0)) ≤ a1) (
      g20 M) (
      g21 (Int32.ofInt 1) M)) none)
noncomputable def FX23_isPlace_0 (a0 : Nat) (a1 : Int32) (M : FM) : Option (Int32 × FM) := BX23_isPlace_0 FX23_isPlace_20 FX23_isPlace_21 a0 a1 M
noncomputable def FX23_isPlace (a0 : Nat) (a1 : Int32) (M : FM) : Option (Int32 × FM) := FX23_isPlace_0 a0 a1 M
/-! BoardMachine.disk(I)I -/
noncomputable def BX1_disk_0 (f0 : Nat → Int32 → FM → Option (Int32 × FM)) (f1 : Int32 → FM → Option (FM)) (f2 : Nat → Int32 → FM → Option (Int32 × FM)) (a0 : Nat) (a1 : Int32) (M : FM) : Option (Int32 × FM) :=
  fi (fm_is M 10 10 a0 = true) (
  let x1 : Nat := (M.2.2 17 a0 0)
  fi (fm_is M 67 67 x1 = true) (
  let x2 : Nat := (M.2.2 189 x1 0)
  fi (fm_is M 11 11 x2 = true) (
  let x3 : Nat := (M.2.2 20 x2 0)
  fi (fm_is M 22 22 x3 = true) (
  let x4 : Nat := (M.2.2 59 x3 0)
  fi (fm_is M 23 23 x4 = true) (
  (f0 x4 a1 M).bind fun r5 =>
  (f1 r5.1 r5.2).bind fun M6 =>
  fi (fm_is M6 10 10 a0 = true) (
  let x7 : Nat := (M6.2.2 17 a0 0)
  fi (fm_is M6 67 67 x7 = true) (
  let x8 : Nat := (M6.2.2 189 x7 0)
  fi (fm_is M6 11 11 x8 = true) (
  let x9 : Nat := (M6.2.2 20 x8 0)
  fi (fm_is M6 22 22 x9 = true) (
  let x10 : Nat := (M6.2.2 59 x9 0)
  fi (fm_is M6 23 23 x10 = true) (
  (f2 x10 a1 M6).bind fun r11 =>
  some (r11.1, r11.2)) none) none) none) none) none) none) none) none) none) none
noncomputable def FX1_disk_0 (a0 : Nat) (a1 : Int32) (M : FM) : Option (Int32 × FM) := BX1_disk_0 FX23_isPlace FX1_there FX23_get a0 a1 M
noncomputable def FX1_disk (a0 : Nat) (a1 : Int32) (M : FM) : Option (Int32 × FM) := FX1_disk_0 a0 a1 M
noncomputable def TX1_disk (n : Nat) (a0 : Nat) (a1 : Int32) (M : FM) : Option (Nat × FM) :=
  fi (fm_is M 10 10 a0 = true) (
  let x1 : Nat := (M.2.2 17 a0 0)
  fi (fm_is M 67 67 x1 = true) (
  let x2 : Nat := (M.2.2 189 x1 0)
  fi (fm_is M 11 11 x2 = true) (
  let x3 : Nat := (M.2.2 20 x2 0)
  fi (fm_is M 22 22 x3 = true) (
  let x4 : Nat := (M.2.2 59 x3 0)
  fi (fm_is M 23 23 x4 = true) (
  (FX23_isPlace x4 a1 M).bind fun r5 =>
  (TX1_there n r5.1 r5.2).or ((FX1_there r5.1 r5.2).bind fun M6 =>
  none)) none) none) none) none) none
/-! BoardMachineLaw.disk(LBoardMachine;I[J)I -/
noncomputable def BX0_disk_0 (f0 : Nat → Int32 → FM → Option (Int32 × FM)) (a0 : Nat) (a1 : Int32) (a2 : Nat) (M : FM) : Option (Int32 × FM) :=
  fi (fm_is M 10 10 a0 = true) (
  (f0 a0 a1 M).bind fun r1 =>
  fi (fm_is r1.2 902 902 a2 = true ∧ fm_in r1.2 a2 (Int32.ofInt 0) = true) (
  let M2 : FM := fm_sL r1.2 3 a2 (Int32.ofInt 0).toNatClampNeg r1.1.toInt64
  some ((Int32.ofInt 0), M2)) none) none
noncomputable def FX0_disk_0 (a0 : Nat) (a1 : Int32) (a2 : Nat) (M : FM) : Option (Int32 × FM) := BX0_disk_0 FX1_disk a0 a1 a2 M
noncomputable def FX0_disk (a0 : Nat) (a1 : Int32) (a2 : Nat) (M : FM) : Option (Int32 × FM) := FX0_disk_0 a0 a1 a2 M
noncomputable def Fh_law_disk (n : Nat) (a0 : Nat) (a1 : Int32) (a2 : Nat) (M : FM) : Option (Int32 × FM) := (FX0_disk a0 a1 a2 M).or ((TX1_disk n a0 a1 M).bind fun q => fi (q.1 = 104) (some ((Int32.ofInt 1), q.2)) none)
/-! BoardMachine.register(II)J -/
noncomputable def BX1_register_21 (f1 : Int32 → FM → Option (FM)) (a2 : Int32) (a3 : Nat) (s0 : Int32) (M : FM) : Option (Int64 × FM) :=
  (f1 s0 M).bind fun M1 =>
  fi (fm_is M1 75 75 a3 = true) (
  let x2 : Nat := (M1.2.2 211 a3 0)
  fi (fm_is M1 63 63 x2 = true) (
  let x3 : Nat := (M1.2.2 171 x2 0)
  fi (fm_is M1 64 64 x3 = true) (
  let x4 : Nat := (M1.2.2 178 x3 0)
  fi (fm_is M1 902 902 x4 = true ∧ fm_in M1 x4 a2 = true) (
  some ((M1.2.1 3 x4 a2.toNatClampNeg), M1)) none) none) none) none
noncomputable def FX1_register_21 (a2 : Int32) (a3 : Nat) (s0 : Int32) (M : FM) : Option (Int64 × FM) := BX1_register_21 FX1_there a2 a3 s0 M
noncomputable def BX1_register_20 (g21 : Int32 → Nat → Int32 → FM → Option (Int64 × FM)) (a2 : Int32) (a3 : Nat) (M : FM) : Option (Int64 × FM) :=
  g21 a2 a3 (Int32.ofInt 0) M
noncomputable def FX1_register_20 (a2 : Int32) (a3 : Nat) (M : FM) : Option (Int64 × FM) := BX1_register_20 FX1_register_21 a2 a3 M
noncomputable def BX1_register_0 (f0 : Nat → Int32 → FM → Option (Nat × FM)) (g20 : Int32 → Nat → FM → Option (Int64 × FM)) (g21 : Int32 → Nat → Int32 → FM → Option (Int64 × FM)) (a0 : Nat) (a1 : Int32) (a2 : Int32) (M : FM) : Option (Int64 × FM) :=
  fi (fm_is M 10 10 a0 = true) (
  (f0 a0 a1 M).bind fun r1 =>
  fi (a2 < 0) (
    g20 a2 r1.1 r1.2) (
    fi ((Int32.ofInt 32) ≤ a2) (
      g20 a2 r1.1 r1.2) (
      g21 a2 r1.1 (Int32.ofInt 1) r1.2))) none
noncomputable def FX1_register_0 (a0 : Nat) (a1 : Int32) (a2 : Int32) (M : FM) : Option (Int64 × FM) := BX1_register_0 FX1_at FX1_register_20 FX1_register_21 a0 a1 a2 M
noncomputable def FX1_register (a0 : Nat) (a1 : Int32) (a2 : Int32) (M : FM) : Option (Int64 × FM) := FX1_register_0 a0 a1 a2 M
noncomputable def TX1_register (n : Nat) (a0 : Nat) (a1 : Int32) (a2 : Int32) (M : FM) : Option (Nat × FM) :=
  fi (fm_is M 10 10 a0 = true) (
  (TX1_at n a0 a1 M).or ((FX1_at a0 a1 M).bind fun r1 =>
  fi (a2 < 0) (
    (TX1_there n (Int32.ofInt 0) r1.2).or ((FX1_there (Int32.ofInt 0) r1.2).bind fun M2 =>
    none)) (
    fi ((Int32.ofInt 32) ≤ a2) (
      (TX1_there n (Int32.ofInt 0) r1.2).or ((FX1_there (Int32.ofInt 0) r1.2).bind fun M3 =>
      none)) (
      (TX1_there n (Int32.ofInt 1) r1.2).or ((FX1_there (Int32.ofInt 1) r1.2).bind fun M4 =>
      none))))) none
/-! BoardMachineLaw.register(LBoardMachine;II[J)I -/
noncomputable def BX0_register_0 (f0 : Nat → Int32 → Int32 → FM → Option (Int64 × FM)) (a0 : Nat) (a1 : Int32) (a2 : Int32) (a3 : Nat) (M : FM) : Option (Int32 × FM) :=
  fi (fm_is M 10 10 a0 = true) (
  (f0 a0 a1 a2 M).bind fun r1 =>
  fi (fm_is r1.2 902 902 a3 = true ∧ fm_in r1.2 a3 (Int32.ofInt 0) = true) (
  let M2 : FM := fm_sL r1.2 3 a3 (Int32.ofInt 0).toNatClampNeg r1.1
  some ((Int32.ofInt 0), M2)) none) none
noncomputable def FX0_register_0 (a0 : Nat) (a1 : Int32) (a2 : Int32) (a3 : Nat) (M : FM) : Option (Int32 × FM) := BX0_register_0 FX1_register a0 a1 a2 a3 M
noncomputable def FX0_register (a0 : Nat) (a1 : Int32) (a2 : Int32) (a3 : Nat) (M : FM) : Option (Int32 × FM) := FX0_register_0 a0 a1 a2 a3 M
noncomputable def Fh_law_register (n : Nat) (a0 : Nat) (a1 : Int32) (a2 : Int32) (a3 : Nat) (M : FM) : Option (Int32 × FM) := (FX0_register a0 a1 a2 a3 M).or ((TX1_register n a0 a1 a2 M).bind fun q => fi (q.1 = 104) (some ((Int32.ofInt 1), q.2)) none)
/-! BoardMachine.floating(II)J -/
noncomputable def BX1_floating_21 (f1 : Int32 → FM → Option (FM)) (a2 : Int32) (a3 : Nat) (s0 : Int32) (M : FM) : Option (Int64 × FM) :=
  (f1 s0 M).bind fun M1 =>
  fi (fm_is M1 75 75 a3 = true) (
  let x2 : Nat := (M1.2.2 212 a3 0)
  fi (fm_is M1 32 32 x2 = true) (
  let x3 : Nat := (M1.2.2 93 x2 0)
  fi (fm_is M1 902 902 x3 = true ∧ fm_in M1 x3 a2 = true) (
  some ((M1.2.1 3 x3 a2.toNatClampNeg), M1)) none) none) none
noncomputable def FX1_floating_21 (a2 : Int32) (a3 : Nat) (s0 : Int32) (M : FM) : Option (Int64 × FM) := BX1_floating_21 FX1_there a2 a3 s0 M
noncomputable def BX1_floating_20 (g21 : Int32 → Nat → Int32 → FM → Option (Int64 × FM)) (a2 : Int32) (a3 : Nat) (M : FM) : Option (Int64 × FM) :=
  g21 a2 a3 (Int32.ofInt 0) M
noncomputable def FX1_floating_20 (a2 : Int32) (a3 : Nat) (M : FM) : Option (Int64 × FM) := BX1_floating_20 FX1_floating_21 a2 a3 M
noncomputable def BX1_floating_0 (f0 : Nat → Int32 → FM → Option (Nat × FM)) (g20 : Int32 → Nat → FM → Option (Int64 × FM)) (g21 : Int32 → Nat → Int32 → FM → Option (Int64 × FM)) (a0 : Nat) (a1 : Int32) (a2 : Int32) (M : FM) : Option (Int64 × FM) :=
  fi (fm_is M 10 10 a0 = true) (
  (f0 a0 a1 M).bind fun r1 =>
  fi (a2 < 0) (
    g20 a2 r1.1 r1.2) (
    fi ((Int32.ofInt 32) ≤ a2) (
      g20 a2 r1.1 r1.2) (
      g21 a2 r1.1 (Int32.ofInt 1) r1.2))) none
noncomputable def FX1_floating_0 (a0 : Nat) (a1 : Int32) (a2 : Int32) (M : FM) : Option (Int64 × FM) := BX1_floating_0 FX1_at FX1_floating_20 FX1_floating_21 a0 a1 a2 M
noncomputable def FX1_floating (a0 : Nat) (a1 : Int32) (a2 : Int32) (M : FM) : Option (Int64 × FM) := FX1_floating_0 a0 a1 a2 M
noncomputable def TX1_floating (n : Nat) (a0 : Nat) (a1 : Int32) (a2 : Int32) (M : FM) : Option (Nat × FM) :=
  fi (fm_is M 10 10 a0 = true) (
  (TX1_at n a0 a1 M).or ((FX1_at a0 a1 M).bind fun r1 =>
  fi (a2 < 0) (
    (TX1_there n (Int32.ofInt 0) r1.2).or ((FX1_there (Int32.ofInt 0) r1.2).bind fun M2 =>
    none)) (
    fi ((Int32.ofInt 32) ≤ a2) (
      (TX1_there n (Int32.ofInt 0) r1.2).or ((FX1_there (Int32.ofInt 0) r1.2).bind fun M3 =>
      none)) (
      (TX1_there n (Int32.ofInt 1) r1.2).or ((FX1_there (Int32.ofInt 1) r1.2).bind fun M4 =>
      none))))) none
/-! BoardMachineLaw.floating(LBoardMachine;II[J)I -/
noncomputable def BX0_floating_0 (f0 : Nat → Int32 → Int32 → FM → Option (Int64 × FM)) (a0 : Nat) (a1 : Int32) (a2 : Int32) (a3 : Nat) (M : FM) : Option (Int32 × FM) :=
  fi (fm_is M 10 10 a0 = true) (
  (f0 a0 a1 a2 M).bind fun r1 =>
  fi (fm_is r1.2 902 902 a3 = true ∧ fm_in r1.2 a3 (Int32.ofInt 0) = true) (
  let M2 : FM := fm_sL r1.2 3 a3 (Int32.ofInt 0).toNatClampNeg r1.1
  some ((Int32.ofInt 0), M2)) none) none
noncomputable def FX0_floating_0 (a0 : Nat) (a1 : Int32) (a2 : Int32) (a3 : Nat) (M : FM) : Option (Int32 × FM) := BX0_floating_0 FX1_floating a0 a1 a2 a3 M
noncomputable def FX0_floating (a0 : Nat) (a1 : Int32) (a2 : Int32) (a3 : Nat) (M : FM) : Option (Int32 × FM) := FX0_floating_0 a0 a1 a2 a3 M
noncomputable def Fh_law_floating (n : Nat) (a0 : Nat) (a1 : Int32) (a2 : Int32) (a3 : Nat) (M : FM) : Option (Int32 × FM) := (FX0_floating a0 a1 a2 a3 M).or ((TX1_floating n a0 a1 a2 M).bind fun q => fi (q.1 = 104) (some ((Int32.ofInt 1), q.2)) none)
/-! BoardMachine$Controls$ControlUnit.peek(I)J -/
noncomputable def BX74_peek_33 (s0 : Int64) (M : FM) : Option (Int64 × FM) :=
  some (s0, M)
noncomputable def FX74_peek_33 (s0 : Int64) (M : FM) : Option (Int64 × FM) := BX74_peek_33 s0 M
noncomputable def BX74_peek_20 (g33 : Int64 → FM → Option (Int64 × FM)) (M : FM) : Option (Int64 × FM) :=
  g33 (Int64.ofInt 0) M
noncomputable def FX74_peek_20 (M : FM) : Option (Int64 × FM) := BX74_peek_20 FX74_peek_33 M
noncomputable def BX74_peek_0 (f0 : Nat → FM → Option (Int64 × FM)) (f1 : Nat → FM → Option (Int64 × FM)) (f2 : Nat → FM → Option (Int64 × FM)) (f3 : Nat → FM → Option (Int64 × FM)) (f4 : Nat → FM → Option (Int64 × FM)) (f5 : Nat → FM → Option (Int64 × FM)) (g20 : FM → Option (Int64 × FM)) (g33 : Int64 → FM → Option (Int64 × FM)) (a0 : Nat) (a1 : Int32) (M : FM) : Option (Int64 × FM) :=
  fi (a1 < 0) (
    g20 M) (
    fi ((Int32.ofInt 4096) ≤ a1) (
      g20 M) (
      fi (fm_is M 12 12 a0 = true) (
      let x1 : Nat := (M.2.2 25 a0 0)
      fi (fm_is M 910 990 x1 = true ∧ fm_in M x1 a1 = true) (
      fi ((M.2.2 3 x1 a1.toNatClampNeg) = 0) (
        g20 M) (
        fi (fm_is M 12 12 a0 = true) (
        let x2 : Nat := (M.2.2 25 a0 0)
        fi (fm_is M 910 990 x2 = true ∧ fm_in M x2 a1 = true) (
        let x3 : Nat := (M.2.2 3 x2 a1.toNatClampNeg)
        fi (fm_is M 13 13 x3 = true) (
        (f0 x3 M).bind fun r4 =>
        g33 r4.1 r4.2) (fi (fm_is M 14 14 x3 = true) (
        (f1 x3 M).bind fun r5 =>
        g33 r5.1 r5.2) (fi (fm_is M 15 15 x3 = true) (
        (f2 x3 M).bind fun r6 =>
        g33 r6.1 r6.2) (fi (fm_is M 16 16 x3 = true) (
        (f3 x3 M).bind fun r7 =>
        g33 r7.1 r7.2) (fi (fm_is M 17 17 x3 = true) (
        (f1 x3 M).bind fun r8 =>
        g33 r8.1 r8.2) (fi (fm_is M 18 18 x3 = true) (
        (f4 x3 M).bind fun r9 =>
        g33 r9.1 r9.2) (fi (fm_is M 19 19 x3 = true) (
        (f5 x3 M).bind fun r10 =>
        g33 r10.1 r10.2) (none)))))))) none) none)) none) none))
noncomputable def FX74_peek_0 (a0 : Nat) (a1 : Int32) (M : FM) : Option (Int64 × FM) := BX74_peek_0 FX76_show FX77_show FX79_show FX78_show FX83_show FX81_show FX74_peek_20 FX74_peek_33 a0 a1 M
noncomputable def FX74_peek (a0 : Nat) (a1 : Int32) (M : FM) : Option (Int64 × FM) := FX74_peek_0 a0 a1 M
/-! BoardMachine.control(II)J -/
noncomputable def BX1_control_68 (s0 : Int64) (M : FM) : Option (Int64 × FM) :=
  some (s0, M)
noncomputable def FX1_control_68 (n : Nat) (s0 : Int64) (M : FM) : Option (Int64 × FM) := BX1_control_68 s0 M
noncomputable def BX1_control_45 (f2 : Nat → Int32 → FM → Option (Int64 × FM)) (f3 : Nat → Int32 → FM → Option (Int64 × FM)) (g68 : Int64 → FM → Option (Int64 × FM)) (a2 : Int32) (a3 : Nat) (s0 : Int32) (M : FM) : Option (Int64 × FM) :=
  fi (s0 = 0) (
    fi (fm_is M 75 75 a3 = true) (
    let x1 : Nat := (M.2.2 213 a3 0)
    fi (fm_is M 12 12 x1 = true) (
    (f3 x1 a2 M).bind fun r2 =>
    g68 r2.1 r2.2) none) none) (
    fi (fm_is M 75 75 a3 = true) (
    (f2 a3 a2 M).bind fun r3 =>
    g68 r3.1 r3.2) none)
noncomputable def FX1_control_45 (n : Nat) (a2 : Int32) (a3 : Nat) (s0 : Int32) (M : FM) : Option (Int64 × FM) := BX1_control_45 (FX46_elsewhere n) FX74_peek (FX1_control_68 n ) a2 a3 s0 M
noncomputable def BX1_control_44 (g45 : Int32 → Nat → Int32 → FM → Option (Int64 × FM)) (a2 : Int32) (a3 : Nat) (M : FM) : Option (Int64 × FM) :=
  g45 a2 a3 (Int32.ofInt 0) M
noncomputable def FX1_control_44 (n : Nat) (a2 : Int32) (a3 : Nat) (M : FM) : Option (Int64 × FM) := BX1_control_44 (FX1_control_45 n ) a2 a3 M
noncomputable def BX1_control_0 (f0 : Nat → Int32 → FM → Option (Nat × FM)) (f1 : Nat → FM → Option (FM)) (g44 : Int32 → Nat → FM → Option (Int64 × FM)) (g45 : Int32 → Nat → Int32 → FM → Option (Int64 × FM)) (a0 : Nat) (a1 : Int32) (a2 : Int32) (M : FM) : Option (Int64 × FM) :=
  fi (fm_is M 10 10 a0 = true) (
  (f0 a0 a1 M).bind fun r1 =>
  fi (fm_is r1.2 75 75 r1.1 = true) (
  (f1 r1.1 r1.2).bind fun M2 =>
  fi (a2 ≤ 0) (
    g44 a2 r1.1 M2) (
    fi ((Int32.ofInt 4096) ≤ a2) (
      g44 a2 r1.1 M2) (
      fi (fm_is M2 75 75 r1.1 = true) (
      let x3 : Nat := (M2.2.2 213 r1.1 0)
      fi (fm_is M2 12 12 x3 = true) (
      let x4 : Nat := (M2.2.2 25 x3 0)
      fi (fm_is M2 910 990 x4 = true ∧ fm_in M2 x4 a2 = true) (
      fi (fm_is M2 75 75 r1.1 = true) (
      let x5 : Nat := (M2.2.2 213 r1.1 0)
      fi (fm_is M2 12 12 x5 = true) (
      let x6 : Nat := (M2.2.2 3 x4 a2.toNatClampNeg)
      let x7 : Nat := (M2.2.2 26 x5 0)
      fi (x6 < 42 ∧ x7 < 42 ∨ 1000 ≤ x6 ∨ 1000 ≤ x7)
      (fi (x6 = x7) (
        g45 a2 r1.1 (Int32.ofInt 1) M2) (
        g44 a2 r1.1 M2)) none) none) none) none) none) none))) none) none
noncomputable def FX1_control_0 (n : Nat) (a0 : Nat) (a1 : Int32) (a2 : Int32) (M : FM) : Option (Int64 × FM) := BX1_control_0 FX1_at (FX46_look n) (FX1_control_44 n ) (FX1_control_45 n ) a0 a1 a2 M
noncomputable def FX1_control (n : Nat) (a0 : Nat) (a1 : Int32) (a2 : Int32) (M : FM) : Option (Int64 × FM) := FX1_control_0 n a0 a1 a2 M
noncomputable def TX1_control (n : Nat) (a0 : Nat) (a1 : Int32) (a2 : Int32) (M : FM) : Option (Nat × FM) :=
  fi (fm_is M 10 10 a0 = true) (
  (TX1_at n a0 a1 M).or ((FX1_at a0 a1 M).bind fun r1 =>
  none)) none
/-! BoardMachineLaw.control(LBoardMachine;II[J)I -/
noncomputable def BX0_control_0 (f0 : Nat → Int32 → Int32 → FM → Option (Int64 × FM)) (a0 : Nat) (a1 : Int32) (a2 : Int32) (a3 : Nat) (M : FM) : Option (Int32 × FM) :=
  fi (fm_is M 10 10 a0 = true) (
  (f0 a0 a1 a2 M).bind fun r1 =>
  fi (fm_is r1.2 902 902 a3 = true ∧ fm_in r1.2 a3 (Int32.ofInt 0) = true) (
  let M2 : FM := fm_sL r1.2 3 a3 (Int32.ofInt 0).toNatClampNeg r1.1
  some ((Int32.ofInt 0), M2)) none) none
noncomputable def FX0_control_0 (n : Nat) (a0 : Nat) (a1 : Int32) (a2 : Int32) (a3 : Nat) (M : FM) : Option (Int32 × FM) := BX0_control_0 (FX1_control n) a0 a1 a2 a3 M
noncomputable def FX0_control (n : Nat) (a0 : Nat) (a1 : Int32) (a2 : Int32) (a3 : Nat) (M : FM) : Option (Int32 × FM) := FX0_control_0 n a0 a1 a2 a3 M
noncomputable def Fh_law_control (n : Nat) (a0 : Nat) (a1 : Int32) (a2 : Int32) (a3 : Nat) (M : FM) : Option (Int32 × FM) := (FX0_control n a0 a1 a2 a3 M).or ((TX1_control n a0 a1 a2 M).bind fun q => fi (q.1 = 104) (some ((Int32.ofInt 1), q.2)) none)
/-! BoardMachineModel.end(I)V -/
noncomputable def BX92_end_37 (s0 : Nat) (s1 : Int32) (M : FM) : Option (FM) :=
  fi (fm_is M 92 92 s0 = true) (
  let M1 : FM := fm_sI M 309 s0 0 s1
  some M1) none
noncomputable def FX92_end_37 (s0 : Nat) (s1 : Int32) (M : FM) : Option (FM) := BX92_end_37 s0 s1 M
noncomputable def BX92_end_18 (g37 : Nat → Int32 → FM → Option (FM)) (a0 : Nat) (a1 : Int32) (s0 : Nat) (s1 : Int32) (M : FM) : Option (FM) :=
  fi (fm_is M 92 92 s0 = true) (
  let M1 : FM := fm_sI M 296 s0 0 s1
  fi (fm_is M1 92 92 a0 = true) (
  fi ((M1.1 296 a0 0) ≤ 0) (
    g37 a0 a1 M1) (
    fi (fm_is M1 92 92 a0 = true) (
    g37 a0 (M1.1 309 a0 0) M1) none)) none) none
noncomputable def FX92_end_18 (a0 : Nat) (a1 : Int32) (s0 : Nat) (s1 : Int32) (M : FM) : Option (FM) := BX92_end_18 FX92_end_37 a0 a1 s0 s1 M
noncomputable def BX92_end_13 (g18 : Nat → Int32 → Nat → Int32 → FM → Option (FM)) (a0 : Nat) (a1 : Int32) (s0 : Nat) (M : FM) : Option (FM) :=
  g18 a0 a1 s0 (Int32.ofInt 1) M
noncomputable def FX92_end_13 (a0 : Nat) (a1 : Int32) (s0 : Nat) (M : FM) : Option (FM) := BX92_end_13 FX92_end_18 a0 a1 s0 M
noncomputable def BX92_end_0 (g13 : Nat → Int32 → Nat → FM → Option (FM)) (g18 : Nat → Int32 → Nat → Int32 → FM → Option (FM)) (a0 : Nat) (a1 : Int32) (M : FM) : Option (FM) :=
  fi (a1 < 0) (
    g13 a0 a1 a0 M) (
    fi (fm_is M 92 92 a0 = true) (
    fi (a1 ≤ (M.1 309 a0 0)) (
      g18 a0 a1 a0 (Int32.ofInt 0) M) (
      g13 a0 a1 a0 M)) none)
noncomputable def FX92_end_0 (a0 : Nat) (a1 : Int32) (M : FM) : Option (FM) := BX92_end_0 FX92_end_13 FX92_end_18 a0 a1 M
noncomputable def FX92_end (a0 : Nat) (a1 : Int32) (M : FM) : Option (FM) := FX92_end_0 a0 a1 M
/-! BoardMachineModel$Desk.time(J)V -/
noncomputable def BX100_time_0 (a0 : Nat) (a1 : Int64) (M : FM) : Option (FM) :=
  fi (fm_is M 95 95 a0 = true) (
  let M1 : FM := fm_sI M 358 a0 0 (Int32.ofInt 0)
  fi (fm_is M1 95 95 a0 = true) (
  let M2 : FM := fm_sL M1 363 a0 0 a1
  some M2) none) none
noncomputable def FX100_time_0 (a0 : Nat) (a1 : Int64) (M : FM) : Option (FM) := BX100_time_0 a0 a1 M
noncomputable def FX100_time (a0 : Nat) (a1 : Int64) (M : FM) : Option (FM) := FX100_time_0 a0 a1 M
/-! BoardMachineModel$Signals.isLess(JJ)Z -/
noncomputable def BX96_isLess_50 (s0 : Int32) (M : FM) : Option (Int32 × FM) :=
  fi (s0 = 0 ∨ s0 = 1) (some (s0, M)) none
noncomputable def FX96_isLess_50 (s0 : Int32) (M : FM) : Option (Int32 × FM) := BX96_isLess_50 s0 M
noncomputable def BX96_isLess_22 (g50 : Int32 → FM → Option (Int32 × FM)) (a0 : Int64) (a2 : Int64) (s0 : Int32) (s1 : Int32) (M : FM) : Option (Int32 × FM) :=
  fi (s0 = s1) (
    fi (0 ≤ (lg_cmp a0 a2)) (
      g50 (Int32.ofInt 0) M) (
      g50 (Int32.ofInt 1) M)) (
    fi (0 ≤ (lg_cmp a2 (Int64.ofInt 0))) (
      g50 (Int32.ofInt 0) M) (
      g50 (Int32.ofInt 1) M))
noncomputable def FX96_isLess_22 (a0 : Int64) (a2 : Int64) (s0 : Int32) (s1 : Int32) (M : FM) : Option (Int32 × FM) := BX96_isLess_22 FX96_isLess_50 a0 a2 s0 s1 M
noncomputable def BX96_isLess_11 (g22 : Int64 → Int64 → Int32 → Int32 → FM → Option (Int32 × FM)) (a0 : Int64) (a2 : Int64) (s0 : Int32) (M : FM) : Option (Int32 × FM) :=
  fi (0 ≤ (lg_cmp a2 (Int64.ofInt 0))) (
    g22 a0 a2 s0 (Int32.ofInt 0) M) (
    g22 a0 a2 s0 (Int32.ofInt 1) M)
noncomputable def FX96_isLess_11 (a0 : Int64) (a2 : Int64) (s0 : Int32) (M : FM) : Option (Int32 × FM) := BX96_isLess_11 FX96_isLess_22 a0 a2 s0 M
noncomputable def BX96_isLess_0 (g11 : Int64 → Int64 → Int32 → FM → Option (Int32 × FM)) (a0 : Int64) (a2 : Int64) (M : FM) : Option (Int32 × FM) :=
  fi (0 ≤ (lg_cmp a0 (Int64.ofInt 0))) (
    g11 a0 a2 (Int32.ofInt 0) M) (
    g11 a0 a2 (Int32.ofInt 1) M)
noncomputable def FX96_isLess_0 (a0 : Int64) (a2 : Int64) (M : FM) : Option (Int32 × FM) := BX96_isLess_0 FX96_isLess_11 a0 a2 M
noncomputable def FX96_isLess (a0 : Int64) (a2 : Int64) (M : FM) : Option (Int32 × FM) := FX96_isLess_0 a0 a2 M
/-! BoardMachineModel$Signals.enables(II)Z -/
noncomputable def BX96_enables_19 (s0 : Int32) (M : FM) : Option (Int32 × FM) :=
  fi (s0 = 0 ∨ s0 = 1) (some (s0, M)) none
noncomputable def FX96_enables_19 (s0 : Int32) (M : FM) : Option (Int32 × FM) := BX96_enables_19 s0 M
noncomputable def BX96_enables_0 (g19 : Int32 → FM → Option (Int32 × FM)) (a0 : Nat) (a1 : Int32) (a2 : Int32) (M : FM) : Option (Int32 × FM) :=
  fi (fm_is M 99 99 a0 = true) (
  let x1 : Nat := (M.2.2 403 a0 0)
  fi (fm_is M 901 901 x1 = true ∧ fm_in M x1 a1 = true) (
  fi ((((M.1 3 x1 a1.toNatClampNeg) >>> (a2 &&& 31)) &&& (Int32.ofInt 1)) = (Int32.ofInt 1)) (
    g19 (Int32.ofInt 1) M) (
    g19 (Int32.ofInt 0) M)) none) none
noncomputable def FX96_enables_0 (a0 : Nat) (a1 : Int32) (a2 : Int32) (M : FM) : Option (Int32 × FM) := BX96_enables_0 FX96_enables_19 a0 a1 a2 M
noncomputable def FX96_enables (a0 : Nat) (a1 : Int32) (a2 : Int32) (M : FM) : Option (Int32 × FM) := FX96_enables_0 a0 a1 a2 M
/-! BoardMachineModel$Signals.above(I)Z -/
noncomputable def BX96_above_52 (k4 : Nat → Int32 → Int32 → Int32 → FM → Option (Int32 × FM)) (a0 : Nat) (a1 : Int32) (a3 : Int32) (s0 : Int32) (M : FM) : Option (Int32 × FM) :=
  let x1 : Int32 := a3 + (Int32.ofInt 1)
  k4 a0 a1 s0 x1 M
noncomputable def FX96_above_52 (n : Nat) (k4 : Nat → Int32 → Int32 → Int32 → FM → Option (Int32 × FM)) (a0 : Nat) (a1 : Int32) (a3 : Int32) (s0 : Int32) (M : FM) : Option (Int32 × FM) := BX96_above_52 k4 a0 a1 a3 s0 M
noncomputable def BX96_above_51 (g52 : Nat → Int32 → Int32 → Int32 → FM → Option (Int32 × FM)) (a0 : Nat) (a1 : Int32) (a3 : Int32) (M : FM) : Option (Int32 × FM) :=
  g52 a0 a1 a3 (Int32.ofInt 0) M
noncomputable def FX96_above_51 (n : Nat) (k4 : Nat → Int32 → Int32 → Int32 → FM → Option (Int32 × FM)) (a0 : Nat) (a1 : Int32) (a3 : Int32) (M : FM) : Option (Int32 × FM) := BX96_above_51 (FX96_above_52 n k4) a0 a1 a3 M
noncomputable def BX96_above_47 (g52 : Nat → Int32 → Int32 → Int32 → FM → Option (Int32 × FM)) (a0 : Nat) (a1 : Int32) (a3 : Int32) (M : FM) : Option (Int32 × FM) :=
  g52 a0 a1 a3 (Int32.ofInt 1) M
noncomputable def FX96_above_47 (n : Nat) (k4 : Nat → Int32 → Int32 → Int32 → FM → Option (Int32 × FM)) (a0 : Nat) (a1 : Int32) (a3 : Int32) (M : FM) : Option (Int32 × FM) := BX96_above_47 (FX96_above_52 n k4) a0 a1 a3 M
noncomputable def BX96_above_4 (f0 : Nat → Int32 → Int32 → FM → Option (Int32 × FM)) (g47 : Nat → Int32 → Int32 → FM → Option (Int32 × FM)) (g51 : Nat → Int32 → Int32 → FM → Option (Int32 × FM)) (a0 : Nat) (a1 : Int32) (a2 : Int32) (a3 : Int32) (M : FM) : Option (Int32 × FM) :=
  fi ((Int32.ofInt 32) ≤ a3) (
    fi (a2 = 0 ∨ a2 = 1) (some (a2, M)) none) (
    fi (a2 = 0) (
      fi (fm_is M 99 99 a0 = true) (
      let x1 : Nat := (M.2.2 400 a0 0)
      fi (fm_is M 904 904 x1 = true ∧ fm_in M x1 a3 = true) (
      fi ((M.1 3 x1 a3.toNatClampNeg) = 0) (
        g51 a0 a1 a3 M) (
        fi (fm_is M 99 99 a0 = true) (
        (f0 a0 a1 a3 M).bind fun r2 =>
        fi (r2.1 = 0) (
          g51 a0 a1 a3 r2.2) (
          fi (fm_is r2.2 99 99 a0 = true) (
          let x3 : Nat := (r2.2.2.2 402 a0 0)
          fi (fm_is r2.2 901 901 x3 = true ∧ fm_in r2.2 x3 a3 = true) (
          fi (fm_is r2.2 99 99 a0 = true) (
          let x4 : Nat := (r2.2.2.2 404 a0 0)
          fi (fm_is r2.2 901 901 x4 = true ∧ fm_in r2.2 x4 a1 = true) (
          fi ((r2.2.1 3 x3 a3.toNatClampNeg) ≤ (r2.2.1 3 x4 a1.toNatClampNeg)) (
            g51 a0 a1 a3 r2.2) (
            g47 a0 a1 a3 r2.2)) none) none) none) none)) none)) none) none) (
      g47 a0 a1 a3 M))
noncomputable def FX96_above_4 (n : Nat) (k4 : Nat → Int32 → Int32 → Int32 → FM → Option (Int32 × FM)) (a0 : Nat) (a1 : Int32) (a2 : Int32) (a3 : Int32) (M : FM) : Option (Int32 × FM) := BX96_above_4 FX96_enables (FX96_above_47 n k4) (FX96_above_51 n k4) a0 a1 a2 a3 M
noncomputable def BX96_above_0 (k4 : Nat → Int32 → Int32 → Int32 → FM → Option (Int32 × FM)) (a0 : Nat) (a1 : Int32) (M : FM) : Option (Int32 × FM) :=
  k4 a0 a1 (Int32.ofInt 0) (Int32.ofInt 1) M
noncomputable def FX96_above_0 (n : Nat) (k4 : Nat → Int32 → Int32 → Int32 → FM → Option (Int32 × FM)) (a0 : Nat) (a1 : Int32) (M : FM) : Option (Int32 × FM) := BX96_above_0 k4 a0 a1 M
noncomputable def FX96_above_L4 (n : Nat) : Nat → Nat → Int32 → Int32 → Int32 → FM → Option (Int32 × FM)
  | 0 => fun _ _ _ _ _ => none
  | j + 1 => FX96_above_4 n (FX96_above_L4 n j)
noncomputable def FX96_above (n : Nat) (a0 : Nat) (a1 : Int32) (M : FM) : Option (Int32 × FM) := FX96_above_0 n (FX96_above_L4 n n) a0 a1 M
/-! BoardMachineModel$Signals.line(II)Z -/
noncomputable def BX96_line_116 (s0 : Int32) (M : FM) : Option (Int32 × FM) :=
  fi (s0 = 0 ∨ s0 = 1) (some (s0, M)) none
noncomputable def FX96_line_116 (n : Nat) (s0 : Int32) (M : FM) : Option (Int32 × FM) := BX96_line_116 s0 M
noncomputable def BX96_line_112 (f1 : Nat → Int32 → FM → Option (Int32 × FM)) (g116 : Int32 → FM → Option (Int32 × FM)) (s0 : Nat) (s1 : Int32) (s2 : Int32) (M : FM) : Option (Int32 × FM) :=
  fi (fm_is M 99 99 s0 = true) (
  (f1 s0 (s1 + s2) M).bind fun r1 =>
  g116 r1.1 r1.2) none
noncomputable def FX96_line_112 (n : Nat) (s0 : Nat) (s1 : Int32) (s2 : Int32) (M : FM) : Option (Int32 × FM) := BX96_line_112 (FX96_above n) (FX96_line_116 n ) s0 s1 s2 M
noncomputable def BX96_line_41 (f0 : Int64 → Int64 → FM → Option (Int32 × FM)) (g112 : Nat → Int32 → Int32 → FM → Option (Int32 × FM)) (g116 : Int32 → FM → Option (Int32 × FM)) (a0 : Nat) (a1 : Int32) (a2 : Int32) (s0 : Nat) (s1 : Int32) (M : FM) : Option (Int32 × FM) :=
  fi (fm_is M 99 99 s0 = true) (
  let M1 : FM := fm_sI M 394 s0 0 s1
  fi (fm_is M1 99 99 a0 = true) (
  fi ((M1.1 394 a0 0) ≤ 0) (
    fi (a2 = (Int32.ofInt 3)) (
      fi (fm_is M1 99 99 a0 = true) (
      let x2 : Nat := (M1.2.2 396 a0 0)
      fi (fm_is M1 904 904 x2 = true ∧ fm_in M1 x2 a1 = true) (
      g116 (M1.1 3 x2 a1.toNatClampNeg) M1) none) none) (
      fi (a2 = (Int32.ofInt 7)) (
        fi (fm_is M1 99 99 a0 = true) (
        fi (fm_is M1 99 99 a0 = true) (
        let x3 : Nat := (M1.2.2 397 a0 0)
        fi (fm_is M1 902 902 x3 = true ∧ fm_in M1 x3 a1 = true) (
        (f0 (M1.2.1 398 a0 0) (M1.2.1 3 x3 a1.toNatClampNeg) M1).bind fun r4 =>
        fi (r4.1 = 0) (
          g116 (Int32.ofInt 1) r4.2) (
          g116 (Int32.ofInt 0) r4.2)) none) none) none) (
        fi (a2 = (Int32.ofInt 9)) (
          g112 a0 ((Int32.ofInt 2) * a1) (Int32.ofInt 1) M1) (
          g112 a0 ((Int32.ofInt 2) * a1) (Int32.ofInt 0) M1)))) (
    fi ((Int32.ofInt 0) = 0 ∨ (Int32.ofInt 0) = 1) (some ((Int32.ofInt 0), M1)) none)) none) none
noncomputable def FX96_line_41 (n : Nat) (a0 : Nat) (a1 : Int32) (a2 : Int32) (s0 : Nat) (s1 : Int32) (M : FM) : Option (Int32 × FM) := BX96_line_41 FX96_isLess (FX96_line_112 n ) (FX96_line_116 n ) a0 a1 a2 s0 s1 M
noncomputable def BX96_line_40 (g41 : Nat → Int32 → Int32 → Nat → Int32 → FM → Option (Int32 × FM)) (a0 : Nat) (a1 : Int32) (a2 : Int32) (s0 : Nat) (M : FM) : Option (Int32 × FM) :=
  g41 a0 a1 a2 s0 (Int32.ofInt 0) M
noncomputable def FX96_line_40 (n : Nat) (a0 : Nat) (a1 : Int32) (a2 : Int32) (s0 : Nat) (M : FM) : Option (Int32 × FM) := BX96_line_40 (FX96_line_41 n ) a0 a1 a2 s0 M
noncomputable def BX96_line_36 (g41 : Nat → Int32 → Int32 → Nat → Int32 → FM → Option (Int32 × FM)) (a0 : Nat) (a1 : Int32) (a2 : Int32) (s0 : Nat) (M : FM) : Option (Int32 × FM) :=
  g41 a0 a1 a2 s0 (Int32.ofInt 1) M
noncomputable def FX96_line_36 (n : Nat) (a0 : Nat) (a1 : Int32) (a2 : Int32) (s0 : Nat) (M : FM) : Option (Int32 × FM) := BX96_line_36 (FX96_line_41 n ) a0 a1 a2 s0 M
noncomputable def BX96_line_0 (g36 : Nat → Int32 → Int32 → Nat → FM → Option (Int32 × FM)) (g40 : Nat → Int32 → Int32 → Nat → FM → Option (Int32 × FM)) (a0 : Nat) (a1 : Int32) (a2 : Int32) (M : FM) : Option (Int32 × FM) :=
  fi (a1 < 0) (
    g36 a0 a1 a2 a0 M) (
    fi (fm_is M 99 99 a0 = true) (
    fi ((M.1 395 a0 0) ≤ a1) (
      g36 a0 a1 a2 a0 M) (
      fi (a2 = (Int32.ofInt 3)) (
        g40 a0 a1 a2 a0 M) (
        fi (a2 = (Int32.ofInt 7)) (
          g40 a0 a1 a2 a0 M) (
          fi (a2 = (Int32.ofInt 9)) (
            g40 a0 a1 a2 a0 M) (
            fi (a2 = (Int32.ofInt 11)) (
              g40 a0 a1 a2 a0 M) (
              g36 a0 a1 a2 a0 M)))))) none)
noncomputable def FX96_line_0 (n : Nat) (a0 : Nat) (a1 : Int32) (a2 : Int32) (M : FM) : Option (Int32 × FM) := BX96_line_0 (FX96_line_36 n ) (FX96_line_40 n ) a0 a1 a2 M
noncomputable def FX96_line (n : Nat) (a0 : Nat) (a1 : Int32) (a2 : Int32) (M : FM) : Option (Int32 × FM) := FX96_line_0 n a0 a1 a2 M
/-! BoardMachineModel$Desk.line(IZ)V -/
noncomputable def BX100_line_46 (M : FM) : Option (FM) :=
  some M
noncomputable def FX100_line_46 (M : FM) : Option (FM) := BX100_line_46 M
noncomputable def BX100_line_29 (g46 : FM → Option (FM)) (a0 : Nat) (a1 : Int32) (a2 : Int32) (s0 : Nat) (s1 : Int32) (M : FM) : Option (FM) :=
  fi (fm_is M 95 95 s0 = true) (
  let M1 : FM := fm_sI M 358 s0 0 s1
  fi (fm_is M1 95 95 a0 = true) (
  fi ((M1.1 358 a0 0) = 0) (
    fi (fm_is M1 95 95 a0 = true) (
    let x2 : Nat := (M1.2.2 362 a0 0)
    fi (fm_is M1 904 904 x2 = true ∧ fm_in M1 x2 a1 = true) (
    let M3 : FM := fm_sI M1 3 x2 a1.toNatClampNeg (a2 &&& 1)
    g46 M3) none) none) (
    g46 M1)) none) none
noncomputable def FX100_line_29 (a0 : Nat) (a1 : Int32) (a2 : Int32) (s0 : Nat) (s1 : Int32) (M : FM) : Option (FM) := BX100_line_29 FX100_line_46 a0 a1 a2 s0 s1 M
noncomputable def BX100_line_24 (g29 : Nat → Int32 → Int32 → Nat → Int32 → FM → Option (FM)) (a0 : Nat) (a1 : Int32) (a2 : Int32) (s0 : Nat) (M : FM) : Option (FM) :=
  g29 a0 a1 a2 s0 (Int32.ofInt 0) M
noncomputable def FX100_line_24 (a0 : Nat) (a1 : Int32) (a2 : Int32) (s0 : Nat) (M : FM) : Option (FM) := BX100_line_24 FX100_line_29 a0 a1 a2 s0 M
noncomputable def BX100_line_0 (g24 : Nat → Int32 → Int32 → Nat → FM → Option (FM)) (g29 : Nat → Int32 → Int32 → Nat → Int32 → FM → Option (FM)) (a0 : Nat) (a1 : Int32) (a2 : Int32) (M : FM) : Option (FM) :=
  fi (a1 = (Int32.ofInt 3)) (
    g24 a0 a1 a2 a0 M) (
    fi (a1 = (Int32.ofInt 7)) (
      g24 a0 a1 a2 a0 M) (
      fi (a1 = (Int32.ofInt 9)) (
        g24 a0 a1 a2 a0 M) (
        fi (a1 = (Int32.ofInt 11)) (
          g24 a0 a1 a2 a0 M) (
          g29 a0 a1 a2 a0 (Int32.ofInt 1) M))))
noncomputable def FX100_line_0 (a0 : Nat) (a1 : Int32) (a2 : Int32) (M : FM) : Option (FM) := BX100_line_0 FX100_line_24 FX100_line_29 a0 a1 a2 M
noncomputable def FX100_line (a0 : Nat) (a1 : Int32) (a2 : Int32) (M : FM) : Option (FM) := FX100_line_0 a0 a1 a2 M
/-! BoardMachineModel$Desk.status(I)I -/
noncomputable def BX100_status_0 (a0 : Nat) (a1 : Int32) (M : FM) : Option (Int32 × FM) :=
  fi (fm_is M 95 95 a0 = true) (
  let x1 : Nat := (M.2.2 361 a0 0)
  fi (fm_is M 902 902 x1 = true ∧ fm_in M x1 (Int32.ofInt 768) = true) (
  some ((((M.2.1 3 x1 (Int32.ofInt 768).toNatClampNeg) >>> (a1.toInt64 &&& 63)) &&& (Int64.ofInt 1)).toInt32, M)) none) none
noncomputable def FX100_status_0 (a0 : Nat) (a1 : Int32) (M : FM) : Option (Int32 × FM) := BX100_status_0 a0 a1 M
noncomputable def FX100_status (a0 : Nat) (a1 : Int32) (M : FM) : Option (Int32 × FM) := FX100_status_0 a0 a1 M
/-! BoardMachineModel$Desk.floating()I -/
noncomputable def BX100_floating_0 (f0 : Nat → Int32 → FM → Option (Int32 × FM)) (a0 : Nat) (M : FM) : Option (Int32 × FM) :=
  fi (fm_is M 95 95 a0 = true) (
  (f0 a0 (Int32.ofInt 13) M).bind fun r1 =>
  fi (fm_is r1.2 95 95 a0 = true) (
  (f0 a0 (Int32.ofInt 14) r1.2).bind fun r2 =>
  some ((r1.1 + ((Int32.ofInt 2) * r2.1)), r2.2)) none) none
noncomputable def FX100_floating_0 (a0 : Nat) (M : FM) : Option (Int32 × FM) := BX100_floating_0 FX100_status a0 M
noncomputable def FX100_floating (a0 : Nat) (M : FM) : Option (Int32 × FM) := FX100_floating_0 a0 M
/-! BoardMachineModel$Desk.isCount(I)Z -/
noncomputable def BX100_isCount_19 (s0 : Int32) (M : FM) : Option (Int32 × FM) :=
  fi (s0 = 0 ∨ s0 = 1) (some (s0, M)) none
noncomputable def FX100_isCount_19 (s0 : Int32) (M : FM) : Option (Int32 × FM) := BX100_isCount_19 s0 M
noncomputable def BX100_isCount_18 (g19 : Int32 → FM → Option (Int32 × FM)) (M : FM) : Option (Int32 × FM) :=
  g19 (Int32.ofInt 0) M
noncomputable def FX100_isCount_18 (M : FM) : Option (Int32 × FM) := BX100_isCount_18 FX100_isCount_19 M
noncomputable def BX100_isCount_0 (g18 : FM → Option (Int32 × FM)) (g19 : Int32 → FM → Option (Int32 × FM)) (a0 : Int32) (M : FM) : Option (Int32 × FM) :=
  fi (a0 < (Int32.ofInt 3072)) (
    g18 M) (
    fi ((Int32.ofInt 3075) ≤ a0) (
      g18 M) (
      g19 (Int32.ofInt 1) M))
noncomputable def FX100_isCount_0 (a0 : Int32) (M : FM) : Option (Int32 × FM) := BX100_isCount_0 FX100_isCount_18 FX100_isCount_19 a0 M
noncomputable def FX100_isCount (a0 : Int32) (M : FM) : Option (Int32 × FM) := FX100_isCount_0 a0 M
/-! BoardMachineModel$Desk.isElsewhere(I)Z -/
noncomputable def BX100_isElsewhere_42 (s0 : Int32) (M : FM) : Option (Int32 × FM) :=
  fi (s0 = 0 ∨ s0 = 1) (some (s0, M)) none
noncomputable def FX100_isElsewhere_42 (s0 : Int32) (M : FM) : Option (Int32 × FM) := BX100_isElsewhere_42 s0 M
noncomputable def BX100_isElsewhere_41 (g42 : Int32 → FM → Option (Int32 × FM)) (M : FM) : Option (Int32 × FM) :=
  g42 (Int32.ofInt 0) M
noncomputable def FX100_isElsewhere_41 (M : FM) : Option (Int32 × FM) := BX100_isElsewhere_41 FX100_isElsewhere_42 M
noncomputable def BX100_isElsewhere_37 (g42 : Int32 → FM → Option (Int32 × FM)) (M : FM) : Option (Int32 × FM) :=
  g42 (Int32.ofInt 1) M
noncomputable def FX100_isElsewhere_37 (M : FM) : Option (Int32 × FM) := BX100_isElsewhere_37 FX100_isElsewhere_42 M
noncomputable def BX100_isElsewhere_9 (g37 : FM → Option (Int32 × FM)) (g41 : FM → Option (Int32 × FM)) (a0 : Int32) (M : FM) : Option (Int32 × FM) :=
  fi (a0 = (Int32.ofInt 928)) (
    g37 M) (
    fi (a0 = (Int32.ofInt 930)) (
      g37 M) (
      fi (a0 < (Int32.ofInt 944)) (
        g41 M) (
        fi ((Int32.ofInt 960) ≤ a0) (
          g41 M) (
          g37 M))))
noncomputable def FX100_isElsewhere_9 (a0 : Int32) (M : FM) : Option (Int32 × FM) := BX100_isElsewhere_9 FX100_isElsewhere_37 FX100_isElsewhere_41 a0 M
noncomputable def BX100_isElsewhere_0 (g9 : Int32 → FM → Option (Int32 × FM)) (g37 : FM → Option (Int32 × FM)) (a0 : Int32) (M : FM) : Option (Int32 × FM) :=
  fi (a0 ≤ 0) (
    g9 a0 M) (
    fi (a0 < (Int32.ofInt 4)) (
      g37 M) (
      g9 a0 M))
noncomputable def FX100_isElsewhere_0 (a0 : Int32) (M : FM) : Option (Int32 × FM) := BX100_isElsewhere_0 FX100_isElsewhere_9 FX100_isElsewhere_37 a0 M
noncomputable def FX100_isElsewhere (a0 : Int32) (M : FM) : Option (Int32 × FM) := FX100_isElsewhere_0 a0 M
/-! BoardMachineModel$Desk.isThere(I)Z -/
noncomputable def BX100_isThere_137 (s0 : Int32) (M : FM) : Option (Int32 × FM) :=
  fi (s0 = 0 ∨ s0 = 1) (some (s0, M)) none
noncomputable def FX100_isThere_137 (s0 : Int32) (M : FM) : Option (Int32 × FM) := BX100_isThere_137 s0 M
noncomputable def BX100_isThere_132 (g137 : Int32 → FM → Option (Int32 × FM)) (M : FM) : Option (Int32 × FM) :=
  g137 (Int32.ofInt 1) M
noncomputable def FX100_isThere_132 (M : FM) : Option (Int32 × FM) := BX100_isThere_132 FX100_isThere_137 M
noncomputable def BX100_isThere_109 (f0 : Int32 → FM → Option (Int32 × FM)) (f1 : Int32 → FM → Option (Int32 × FM)) (g132 : FM → Option (Int32 × FM)) (g137 : Int32 → FM → Option (Int32 × FM)) (a0 : Int32) (a1 : Int32) (s0 : Int32) (M : FM) : Option (Int32 × FM) :=
  fi (a1 = 0) (
    fi (s0 = 0) (
      (f0 a0 M).bind fun r1 =>
      fi (r1.1 = 0) (
        (f1 a0 r1.2).bind fun r2 =>
        fi (r2.1 = 0) (
          g137 (Int32.ofInt 0) r2.2) (
          g132 r2.2)) (
        g132 r1.2)) (
      g132 M)) (
    g132 M)
noncomputable def FX100_isThere_109 (a0 : Int32) (a1 : Int32) (s0 : Int32) (M : FM) : Option (Int32 × FM) := BX100_isThere_109 FX100_isCount FX100_isElsewhere FX100_isThere_132 FX100_isThere_137 a0 a1 s0 M
noncomputable def BX100_isThere_104 (g109 : Int32 → Int32 → Int32 → FM → Option (Int32 × FM)) (a0 : Int32) (a1 : Int32) (M : FM) : Option (Int32 × FM) :=
  g109 a0 a1 (Int32.ofInt 1) M
noncomputable def FX100_isThere_104 (a0 : Int32) (a1 : Int32) (M : FM) : Option (Int32 × FM) := BX100_isThere_104 FX100_isThere_109 a0 a1 M
noncomputable def BX100_isThere_97 (g104 : Int32 → Int32 → FM → Option (Int32 × FM)) (g109 : Int32 → Int32 → Int32 → FM → Option (Int32 × FM)) (a0 : Int32) (a1 : Int32) (M : FM) : Option (Int32 × FM) :=
  fi (a0 = (Int32.ofInt 384)) (
    g104 a0 a1 M) (
    g109 a0 a1 (Int32.ofInt 0) M)
noncomputable def FX100_isThere_97 (a0 : Int32) (a1 : Int32) (M : FM) : Option (Int32 × FM) := BX100_isThere_97 FX100_isThere_104 FX100_isThere_109 a0 a1 M
noncomputable def BX100_isThere_83 (g97 : Int32 → Int32 → FM → Option (Int32 × FM)) (g104 : Int32 → Int32 → FM → Option (Int32 × FM)) (a0 : Int32) (a1 : Int32) (M : FM) : Option (Int32 × FM) :=
  fi (a0 < (Int32.ofInt 320)) (
    g97 a0 a1 M) (
    fi (a0 < (Int32.ofInt 325)) (
      g104 a0 a1 M) (
      g97 a0 a1 M))
noncomputable def FX100_isThere_83 (a0 : Int32) (a1 : Int32) (M : FM) : Option (Int32 × FM) := BX100_isThere_83 FX100_isThere_97 FX100_isThere_104 a0 a1 M
noncomputable def BX100_isThere_61 (g83 : Int32 → Int32 → FM → Option (Int32 × FM)) (g104 : Int32 → Int32 → FM → Option (Int32 × FM)) (a0 : Int32) (s0 : Int32) (M : FM) : Option (Int32 × FM) :=
  fi (a0 = (Int32.ofInt 256)) (
    g104 a0 s0 M) (
    fi (a0 < (Int32.ofInt 260)) (
      g83 a0 s0 M) (
      fi (a0 < (Int32.ofInt 263)) (
        g104 a0 s0 M) (
        g83 a0 s0 M)))
noncomputable def FX100_isThere_61 (a0 : Int32) (s0 : Int32) (M : FM) : Option (Int32 × FM) := BX100_isThere_61 FX100_isThere_83 FX100_isThere_104 a0 s0 M
noncomputable def BX100_isThere_60 (g61 : Int32 → Int32 → FM → Option (Int32 × FM)) (a0 : Int32) (M : FM) : Option (Int32 × FM) :=
  g61 a0 (Int32.ofInt 0) M
noncomputable def FX100_isThere_60 (a0 : Int32) (M : FM) : Option (Int32 × FM) := BX100_isThere_60 FX100_isThere_61 a0 M
noncomputable def BX100_isThere_56 (g61 : Int32 → Int32 → FM → Option (Int32 × FM)) (a0 : Int32) (M : FM) : Option (Int32 × FM) :=
  g61 a0 (Int32.ofInt 1) M
noncomputable def FX100_isThere_56 (a0 : Int32) (M : FM) : Option (Int32 × FM) := BX100_isThere_56 FX100_isThere_61 a0 M
noncomputable def BX100_isThere_28 (g56 : Int32 → FM → Option (Int32 × FM)) (g60 : Int32 → FM → Option (Int32 × FM)) (a0 : Int32) (M : FM) : Option (Int32 × FM) :=
  fi (a0 = (Int32.ofInt 2816)) (
    g56 a0 M) (
    fi (a0 = (Int32.ofInt 2818)) (
      g56 a0 M) (
      fi (a0 < (Int32.ofInt 3857)) (
        g60 a0 M) (
        fi ((Int32.ofInt 3862) ≤ a0) (
          g60 a0 M) (
          g56 a0 M))))
noncomputable def FX100_isThere_28 (a0 : Int32) (M : FM) : Option (Int32 × FM) := BX100_isThere_28 FX100_isThere_56 FX100_isThere_60 a0 M
noncomputable def BX100_isThere_14 (g28 : Int32 → FM → Option (Int32 × FM)) (g56 : Int32 → FM → Option (Int32 × FM)) (a0 : Int32) (M : FM) : Option (Int32 × FM) :=
  fi (a0 < (Int32.ofInt 832)) (
    g28 a0 M) (
    fi (a0 < (Int32.ofInt 837)) (
      g56 a0 M) (
      g28 a0 M))
noncomputable def FX100_isThere_14 (a0 : Int32) (M : FM) : Option (Int32 × FM) := BX100_isThere_14 FX100_isThere_28 FX100_isThere_56 a0 M
noncomputable def BX100_isThere_0 (g14 : Int32 → FM → Option (Int32 × FM)) (g56 : Int32 → FM → Option (Int32 × FM)) (a0 : Int32) (M : FM) : Option (Int32 × FM) :=
  fi (a0 < (Int32.ofInt 768)) (
    g14 a0 M) (
    fi (a0 < (Int32.ofInt 775)) (
      g56 a0 M) (
      g14 a0 M))
noncomputable def FX100_isThere_0 (a0 : Int32) (M : FM) : Option (Int32 × FM) := BX100_isThere_0 FX100_isThere_14 FX100_isThere_56 a0 M
noncomputable def FX100_isThere (a0 : Int32) (M : FM) : Option (Int32 × FM) := FX100_isThere_0 a0 M
/-! BoardMachineModel$Desk.statusSeen(Z)J -/
noncomputable def BX100_statusSeen_134 (k4 : Int32 → Int64 → Int32 → FM → Option (Int64 × FM)) (a0 : Int32) (a3 : Int32) (s0 : Int64) (M : FM) : Option (Int64 × FM) :=
  let x1 : Int32 := a3 + (Int32.ofInt 1)
  k4 a0 s0 x1 M
noncomputable def FX100_statusSeen_134 (n : Nat) (k4 : Int32 → Int64 → Int32 → FM → Option (Int64 × FM)) (a0 : Int32) (a3 : Int32) (s0 : Int64) (M : FM) : Option (Int64 × FM) := BX100_statusSeen_134 k4 a0 a3 s0 M
noncomputable def BX100_statusSeen_133 (g134 : Int32 → Int32 → Int64 → FM → Option (Int64 × FM)) (a0 : Int32) (a1 : Int64) (a3 : Int32) (M : FM) : Option (Int64 × FM) :=
  g134 a0 a3 a1 M
noncomputable def FX100_statusSeen_133 (n : Nat) (k4 : Int32 → Int64 → Int32 → FM → Option (Int64 × FM)) (a0 : Int32) (a1 : Int64) (a3 : Int32) (M : FM) : Option (Int64 × FM) := BX100_statusSeen_133 (FX100_statusSeen_134 n k4) a0 a1 a3 M
noncomputable def BX100_statusSeen_125 (g134 : Int32 → Int32 → Int64 → FM → Option (Int64 × FM)) (a0 : Int32) (a1 : Int64) (a3 : Int32) (M : FM) : Option (Int64 × FM) :=
  g134 a0 a3 (a1 ||| ((Int64.ofInt 1) <<< (a3.toInt64 &&& 63))) M
noncomputable def FX100_statusSeen_125 (n : Nat) (k4 : Int32 → Int64 → Int32 → FM → Option (Int64 × FM)) (a0 : Int32) (a1 : Int64) (a3 : Int32) (M : FM) : Option (Int64 × FM) := BX100_statusSeen_125 (FX100_statusSeen_134 n k4) a0 a1 a3 M
noncomputable def BX100_statusSeen_109 (g125 : Int32 → Int64 → Int32 → FM → Option (Int64 × FM)) (g133 : Int32 → Int64 → Int32 → FM → Option (Int64 × FM)) (a0 : Int32) (a1 : Int64) (a3 : Int32) (a4 : Int32) (s0 : Int32) (M : FM) : Option (Int64 × FM) :=
  fi (a4 = 0) (
    fi (a0 = 0) (
      g133 a0 a1 a3 M) (
      fi (s0 = 0) (
        g133 a0 a1 a3 M) (
        g125 a0 a1 a3 M))) (
    g125 a0 a1 a3 M)
noncomputable def FX100_statusSeen_109 (n : Nat) (k4 : Int32 → Int64 → Int32 → FM → Option (Int64 × FM)) (a0 : Int32) (a1 : Int64) (a3 : Int32) (a4 : Int32) (s0 : Int32) (M : FM) : Option (Int64 × FM) := BX100_statusSeen_109 (FX100_statusSeen_125 n k4) (FX100_statusSeen_133 n k4) a0 a1 a3 a4 s0 M
noncomputable def BX100_statusSeen_104 (g109 : Int32 → Int64 → Int32 → Int32 → Int32 → FM → Option (Int64 × FM)) (a0 : Int32) (a1 : Int64) (a3 : Int32) (a4 : Int32) (M : FM) : Option (Int64 × FM) :=
  g109 a0 a1 a3 a4 (Int32.ofInt 1) M
noncomputable def FX100_statusSeen_104 (n : Nat) (k4 : Int32 → Int64 → Int32 → FM → Option (Int64 × FM)) (a0 : Int32) (a1 : Int64) (a3 : Int32) (a4 : Int32) (M : FM) : Option (Int64 × FM) := BX100_statusSeen_104 (FX100_statusSeen_109 n k4) a0 a1 a3 a4 M
noncomputable def BX100_statusSeen_55 (g104 : Int32 → Int64 → Int32 → Int32 → FM → Option (Int64 × FM)) (g109 : Int32 → Int64 → Int32 → Int32 → Int32 → FM → Option (Int64 × FM)) (a0 : Int32) (a1 : Int64) (a3 : Int32) (s0 : Int32) (M : FM) : Option (Int64 × FM) :=
  fi (a3 = (Int32.ofInt 3)) (
    g104 a0 a1 a3 s0 M) (
    fi (a3 = (Int32.ofInt 7)) (
      g104 a0 a1 a3 s0 M) (
      fi (a3 = (Int32.ofInt 11)) (
        g104 a0 a1 a3 s0 M) (
        fi (a3 = (Int32.ofInt 12)) (
          g104 a0 a1 a3 s0 M) (
          fi (a3 = (Int32.ofInt 17)) (
            g104 a0 a1 a3 s0 M) (
            fi (a3 = (Int32.ofInt 20)) (
              g104 a0 a1 a3 s0 M) (
              fi (a3 = (Int32.ofInt 21)) (
                g104 a0 a1 a3 s0 M) (
                fi (a3 = (Int32.ofInt 22)) (
                  g104 a0 a1 a3 s0 M) (
                  g109 a0 a1 a3 s0 (Int32.ofInt 0) M))))))))
noncomputable def FX100_statusSeen_55 (n : Nat) (k4 : Int32 → Int64 → Int32 → FM → Option (Int64 × FM)) (a0 : Int32) (a1 : Int64) (a3 : Int32) (s0 : Int32) (M : FM) : Option (Int64 × FM) := BX100_statusSeen_55 (FX100_statusSeen_104 n k4) (FX100_statusSeen_109 n k4) a0 a1 a3 s0 M
noncomputable def BX100_statusSeen_50 (g55 : Int32 → Int64 → Int32 → Int32 → FM → Option (Int64 × FM)) (a0 : Int32) (a1 : Int64) (a3 : Int32) (M : FM) : Option (Int64 × FM) :=
  g55 a0 a1 a3 (Int32.ofInt 1) M
noncomputable def FX100_statusSeen_50 (n : Nat) (k4 : Int32 → Int64 → Int32 → FM → Option (Int64 × FM)) (a0 : Int32) (a1 : Int64) (a3 : Int32) (M : FM) : Option (Int64 × FM) := BX100_statusSeen_50 (FX100_statusSeen_55 n k4) a0 a1 a3 M
noncomputable def BX100_statusSeen_4 (g50 : Int32 → Int64 → Int32 → FM → Option (Int64 × FM)) (g55 : Int32 → Int64 → Int32 → Int32 → FM → Option (Int64 × FM)) (a0 : Int32) (a1 : Int64) (a3 : Int32) (M : FM) : Option (Int64 × FM) :=
  fi ((Int32.ofInt 23) ≤ a3) (
    some (a1, M)) (
    fi (a3 = (Int32.ofInt 1)) (
      g50 a0 a1 a3 M) (
      fi (a3 = (Int32.ofInt 5)) (
        g50 a0 a1 a3 M) (
        fi (a3 = (Int32.ofInt 8)) (
          g50 a0 a1 a3 M) (
          fi (a3 = (Int32.ofInt 13)) (
            g50 a0 a1 a3 M) (
            fi (a3 = (Int32.ofInt 14)) (
              g50 a0 a1 a3 M) (
              fi (a3 = (Int32.ofInt 18)) (
                g50 a0 a1 a3 M) (
                fi (a3 = (Int32.ofInt 19)) (
                  g50 a0 a1 a3 M) (
                  g55 a0 a1 a3 (Int32.ofInt 0) M))))))))
noncomputable def FX100_statusSeen_4 (n : Nat) (k4 : Int32 → Int64 → Int32 → FM → Option (Int64 × FM)) (a0 : Int32) (a1 : Int64) (a3 : Int32) (M : FM) : Option (Int64 × FM) := BX100_statusSeen_4 (FX100_statusSeen_50 n k4) (FX100_statusSeen_55 n k4) a0 a1 a3 M
noncomputable def BX100_statusSeen_0 (k4 : Int32 → Int64 → Int32 → FM → Option (Int64 × FM)) (a0 : Int32) (M : FM) : Option (Int64 × FM) :=
  k4 a0 (Int64.ofInt 0) (Int32.ofInt 0) M
noncomputable def FX100_statusSeen_0 (n : Nat) (k4 : Int32 → Int64 → Int32 → FM → Option (Int64 × FM)) (a0 : Int32) (M : FM) : Option (Int64 × FM) := BX100_statusSeen_0 k4 a0 M
noncomputable def FX100_statusSeen_L4 (n : Nat) : Nat → Int32 → Int64 → Int32 → FM → Option (Int64 × FM)
  | 0 => fun _ _ _ _ => none
  | j + 1 => FX100_statusSeen_4 n (FX100_statusSeen_L4 n j)
noncomputable def FX100_statusSeen (n : Nat) (a0 : Int32) (M : FM) : Option (Int64 × FM) := FX100_statusSeen_0 n (FX100_statusSeen_L4 n n) a0 M
/-! BoardMachineModel$Desk.lineBits()J -/
noncomputable def BX100_lineBits_28 (k4 : Nat → Int64 → Int32 → FM → Option (Int64 × FM)) (a0 : Nat) (a3 : Int32) (s0 : Int64) (M : FM) : Option (Int64 × FM) :=
  let x1 : Int32 := a3 + (Int32.ofInt 1)
  k4 a0 s0 x1 M
noncomputable def FX100_lineBits_28 (n : Nat) (k4 : Nat → Int64 → Int32 → FM → Option (Int64 × FM)) (a0 : Nat) (a3 : Int32) (s0 : Int64) (M : FM) : Option (Int64 × FM) := BX100_lineBits_28 k4 a0 a3 s0 M
noncomputable def BX100_lineBits_4 (g28 : Nat → Int32 → Int64 → FM → Option (Int64 × FM)) (a0 : Nat) (a1 : Int64) (a3 : Int32) (M : FM) : Option (Int64 × FM) :=
  fi ((Int32.ofInt 12) ≤ a3) (
    some (a1, M)) (
    fi (fm_is M 95 95 a0 = true) (
    let x1 : Nat := (M.2.2 362 a0 0)
    fi (fm_is M 904 904 x1 = true ∧ fm_in M x1 a3 = true) (
    fi ((M.1 3 x1 a3.toNatClampNeg) = 0) (
      g28 a0 a3 a1 M) (
      g28 a0 a3 (a1 ||| ((Int64.ofInt 1) <<< (a3.toInt64 &&& 63))) M)) none) none)
noncomputable def FX100_lineBits_4 (n : Nat) (k4 : Nat → Int64 → Int32 → FM → Option (Int64 × FM)) (a0 : Nat) (a1 : Int64) (a3 : Int32) (M : FM) : Option (Int64 × FM) := BX100_lineBits_4 (FX100_lineBits_28 n k4) a0 a1 a3 M
noncomputable def BX100_lineBits_0 (k4 : Nat → Int64 → Int32 → FM → Option (Int64 × FM)) (a0 : Nat) (M : FM) : Option (Int64 × FM) :=
  k4 a0 (Int64.ofInt 0) (Int32.ofInt 3) M
noncomputable def FX100_lineBits_0 (n : Nat) (k4 : Nat → Int64 → Int32 → FM → Option (Int64 × FM)) (a0 : Nat) (M : FM) : Option (Int64 × FM) := BX100_lineBits_0 k4 a0 M
noncomputable def FX100_lineBits_L4 (n : Nat) : Nat → Nat → Int64 → Int32 → FM → Option (Int64 × FM)
  | 0 => fun _ _ _ _ => none
  | j + 1 => FX100_lineBits_4 n (FX100_lineBits_L4 n j)
noncomputable def FX100_lineBits (n : Nat) (a0 : Nat) (M : FM) : Option (Int64 × FM) := FX100_lineBits_0 n (FX100_lineBits_L4 n n) a0 M
/-! BoardMachineModel$Desk.shown(I)J -/
noncomputable def BX100_shown_255 (s0 : Int64) (M : FM) : Option (Int64 × FM) :=
  some (s0, M)
noncomputable def FX100_shown_255 (n : Nat) (s0 : Int64) (M : FM) : Option (Int64 × FM) := BX100_shown_255 s0 M
noncomputable def BX100_shown_254 (g255 : Int64 → FM → Option (Int64 × FM)) (M : FM) : Option (Int64 × FM) :=
  g255 (Int64.ofInt 0) M
noncomputable def FX100_shown_254 (n : Nat) (M : FM) : Option (Int64 × FM) := BX100_shown_254 (FX100_shown_255 n ) M
noncomputable def BX100_shown_15 (f1 : Int32 → FM → Option (Int32 × FM)) (f2 : Int32 → FM → Option (Int32 × FM)) (f3 : Int32 → FM → Option (Int64 × FM)) (f4 : Nat → FM → Option (Int64 × FM)) (g254 : FM → Option (Int64 × FM)) (g255 : Int64 → FM → Option (Int64 × FM)) (a0 : Nat) (a1 : Int32) (s0 : Int64) (M : FM) : Option (Int64 × FM) :=
  fi (a1 = (Int32.ofInt 256)) (
    fi (fm_is M 95 95 a0 = true) (
    let x1 : Nat := (M.2.2 361 a0 0)
    fi (fm_is M 902 902 x1 = true ∧ fm_in M x1 (Int32.ofInt 768) = true) (
    (f3 (Int32.ofInt 0) M).bind fun r2 =>
    some (((((M.2.1 3 x1 (Int32.ofInt 768).toNatClampNeg) &&& r2.1) ||| (Int64.ofInt 8589934592)) ||| s0), r2.2)) none) none) (
  fi (a1 = (Int32.ofInt 260)) (
    fi (fm_is M 95 95 a0 = true) (
    let x3 : Nat := (M.2.2 361 a0 0)
    fi (fm_is M 902 902 x3 = true ∧ fm_in M x3 (Int32.ofInt 772) = true) (
    fi (fm_is M 95 95 a0 = true) (
    let x4 : Nat := (M.2.2 361 a0 0)
    fi (fm_is M 902 902 x4 = true ∧ fm_in M x4 (Int32.ofInt 771) = true) (
    some (((M.2.1 3 x3 (Int32.ofInt 772).toNatClampNeg) &&& (M.2.1 3 x4 (Int32.ofInt 771).toNatClampNeg)), M)) none) none) none) none) (
  fi (a1 = (Int32.ofInt 324)) (
    fi (fm_is M 95 95 a0 = true) (
    let x5 : Nat := (M.2.2 361 a0 0)
    fi (fm_is M 902 902 x5 = true ∧ fm_in M x5 (Int32.ofInt 836) = true) (
    fi (fm_is M 95 95 a0 = true) (
    (f4 a0 M).bind fun r6 =>
    fi (fm_is r6.2 95 95 a0 = true) (
    let x7 : Nat := (r6.2.2.2 361 a0 0)
    fi (fm_is r6.2 902 902 x7 = true ∧ fm_in r6.2 x7 (Int32.ofInt 771) = true) (
    some ((((M.2.1 3 x5 (Int32.ofInt 836).toNatClampNeg) ||| r6.1) &&& (r6.2.2.1 3 x7 (Int32.ofInt 771).toNatClampNeg)), r6.2)) none) none) none) none) none) (
  fi (a1 = (Int32.ofInt 768)) (
    fi (fm_is M 95 95 a0 = true) (
    let x8 : Nat := (M.2.2 361 a0 0)
    fi (fm_is M 902 902 x8 = true ∧ fm_in M x8 (Int32.ofInt 768) = true) (
    some ((((M.2.1 3 x8 (Int32.ofInt 768).toNatClampNeg) ||| (Int64.ofInt 42949672960)) ||| s0), M)) none) none) (
  fi (a1 = (Int32.ofInt 769)) (
    some ((Int64.ofInt (-9223372036853460691)), M)) (
  fi (a1 = (Int32.ofInt 836)) (
    fi (fm_is M 95 95 a0 = true) (
    let x9 : Nat := (M.2.2 361 a0 0)
    fi (fm_is M 902 902 x9 = true ∧ fm_in M x9 (Int32.ofInt 836) = true) (
    fi (fm_is M 95 95 a0 = true) (
    (f4 a0 M).bind fun r10 =>
    some (((M.2.1 3 x9 (Int32.ofInt 836).toNatClampNeg) ||| r10.1), r10.2)) none) none) none) (
  fi (a1 = (Int32.ofInt 3072)) (
    fi (fm_is M 95 95 a0 = true) (
    let x11 : Nat := (M.2.2 361 a0 0)
    fi (fm_is M 902 902 x11 = true ∧ fm_in M x11 (Int32.ofInt 2816) = true) (
    some ((M.2.1 3 x11 (Int32.ofInt 2816).toNatClampNeg), M)) none) none) (
  fi (a1 = (Int32.ofInt 3073)) (
    fi (fm_is M 95 95 a0 = true) (
    some ((M.2.1 363 a0 0), M)) none) (
  fi (a1 = (Int32.ofInt 3074)) (
    fi (fm_is M 95 95 a0 = true) (
    let x12 : Nat := (M.2.2 361 a0 0)
    fi (fm_is M 902 902 x12 = true ∧ fm_in M x12 (Int32.ofInt 2818) = true) (
    some ((M.2.1 3 x12 (Int32.ofInt 2818).toNatClampNeg), M)) none) none) (
  fi (a1 = (Int32.ofInt 3860)) (
    fi (fm_is M 95 95 a0 = true) (
    some ((M.1 359 a0 0).toInt64, M)) none) (
  (f1 a1 M).bind fun r13 =>
    fi (r13.1 = 0) (
      g254 r13.2) (
      (f2 a1 r13.2).bind fun r14 =>
      fi (r14.1 = 0) (
        fi (fm_is r14.2 95 95 a0 = true) (
        let x15 : Nat := (r14.2.2.2 361 a0 0)
        fi (fm_is r14.2 902 902 x15 = true ∧ fm_in r14.2 x15 a1 = true) (
        g255 (r14.2.2.1 3 x15 a1.toNatClampNeg) r14.2) none) none) (
        g254 r14.2))))))))))))
noncomputable def FX100_shown_15 (n : Nat) (a0 : Nat) (a1 : Int32) (s0 : Int64) (M : FM) : Option (Int64 × FM) := BX100_shown_15 FX100_isThere FX100_isElsewhere (FX100_statusSeen n) (FX100_lineBits n) (FX100_shown_254 n ) (FX100_shown_255 n ) a0 a1 s0 M
noncomputable def BX100_shown_0 (f0 : Nat → FM → Option (Int32 × FM)) (g15 : Nat → Int32 → Int64 → FM → Option (Int64 × FM)) (a0 : Nat) (a1 : Int32) (M : FM) : Option (Int64 × FM) :=
  fi (fm_is M 95 95 a0 = true) (
  (f0 a0 M).bind fun r1 =>
  fi (r1.1 = (Int32.ofInt 3)) (
    g15 a0 a1 (Int64.ofInt (-9223372036854775808)) r1.2) (
    g15 a0 a1 (Int64.ofInt 0) r1.2)) none
noncomputable def FX100_shown_0 (n : Nat) (a0 : Nat) (a1 : Int32) (M : FM) : Option (Int64 × FM) := BX100_shown_0 FX100_floating (FX100_shown_15 n ) a0 a1 M
noncomputable def FX100_shown (n : Nat) (a0 : Nat) (a1 : Int32) (M : FM) : Option (Int64 × FM) := FX100_shown_0 n a0 a1 M
/-! BoardMachineModel$Desk.peek(I)J -/
noncomputable def BX100_peek_25 (s0 : Int64) (M : FM) : Option (Int64 × FM) :=
  some (s0, M)
noncomputable def FX100_peek_25 (n : Nat) (s0 : Int64) (M : FM) : Option (Int64 × FM) := BX100_peek_25 s0 M
noncomputable def BX100_peek_16 (g25 : Int64 → FM → Option (Int64 × FM)) (M : FM) : Option (Int64 × FM) :=
  g25 (Int64.ofInt 0) M
noncomputable def FX100_peek_16 (n : Nat) (M : FM) : Option (Int64 × FM) := BX100_peek_16 (FX100_peek_25 n ) M
noncomputable def BX100_peek_0 (f0 : Nat → Int32 → FM → Option (Int64 × FM)) (g16 : FM → Option (Int64 × FM)) (g25 : Int64 → FM → Option (Int64 × FM)) (a0 : Nat) (a1 : Int32) (M : FM) : Option (Int64 × FM) :=
  fi (fm_is M 95 95 a0 = true) (
  let M1 : FM := fm_sI M 358 a0 0 (Int32.ofInt 0)
  fi (a1 < 0) (
    g16 M1) (
    fi (a1 ≤ (Int32.ofInt 4095)) (
      fi (fm_is M1 95 95 a0 = true) (
      (f0 a0 a1 M1).bind fun r2 =>
      g25 r2.1 r2.2) none) (
      g16 M1))) none
noncomputable def FX100_peek_0 (n : Nat) (a0 : Nat) (a1 : Int32) (M : FM) : Option (Int64 × FM) := BX100_peek_0 (FX100_shown n) (FX100_peek_16 n ) (FX100_peek_25 n ) a0 a1 M
noncomputable def FX100_peek (n : Nat) (a0 : Nat) (a1 : Int32) (M : FM) : Option (Int64 × FM) := FX100_peek_0 n a0 a1 M
/-! BoardMachineModel$Walk.sortOf(J)J -/
noncomputable def BX101_sortOf_0 (a0 : Int64) (M : FM) : Option (Int64 × FM) :=
  some ((a0.toUInt64 >>> ((Int32.ofInt 60).toInt64.toUInt64 &&& Int64.toUInt64 63)).toInt64, M)
noncomputable def FX101_sortOf_0 (a0 : Int64) (M : FM) : Option (Int64 × FM) := BX101_sortOf_0 a0 M
noncomputable def FX101_sortOf (a0 : Int64) (M : FM) : Option (Int64 × FM) := FX101_sortOf_0 a0 M
/-! BoardMachineModel$Walk.setTable(J)V -/
noncomputable def BX101_setTable_48 (M : FM) : Option (FM) :=
  some M
noncomputable def FX101_setTable_48 (M : FM) : Option (FM) := BX101_setTable_48 M
noncomputable def BX101_setTable_33 (g48 : FM → Option (FM)) (a0 : Nat) (a1 : Int64) (s0 : Nat) (s1 : Int32) (M : FM) : Option (FM) :=
  fi (fm_is M 101 101 s0 = true) (
  let M1 : FM := fm_sI M 422 s0 0 s1
  fi (fm_is M1 101 101 a0 = true) (
  fi ((M1.1 422 a0 0) = 0) (
    fi (fm_is M1 101 101 a0 = true) (
    let M2 : FM := fm_sL M1 424 a0 0 a1
    g48 M2) none) (
    g48 M1)) none) none
noncomputable def FX101_setTable_33 (a0 : Nat) (a1 : Int64) (s0 : Nat) (s1 : Int32) (M : FM) : Option (FM) := BX101_setTable_33 FX101_setTable_48 a0 a1 s0 s1 M
noncomputable def BX101_setTable_28 (g33 : Nat → Int64 → Nat → Int32 → FM → Option (FM)) (a0 : Nat) (a1 : Int64) (s0 : Nat) (M : FM) : Option (FM) :=
  g33 a0 a1 s0 (Int32.ofInt 0) M
noncomputable def FX101_setTable_28 (a0 : Nat) (a1 : Int64) (s0 : Nat) (M : FM) : Option (FM) := BX101_setTable_28 FX101_setTable_33 a0 a1 s0 M
noncomputable def BX101_setTable_0 (f0 : Int64 → FM → Option (Int64 × FM)) (g28 : Nat → Int64 → Nat → FM → Option (FM)) (g33 : Nat → Int64 → Nat → Int32 → FM → Option (FM)) (a0 : Nat) (a1 : Int64) (M : FM) : Option (FM) :=
  (f0 a1 M).bind fun r1 =>
  fi ((lg_cmp r1.1 (Int64.ofInt 0)) = 0) (
    g28 a0 a1 a0 r1.2) (
    fi ((lg_cmp r1.1 (Int64.ofInt 8)) = 0) (
      g28 a0 a1 a0 r1.2) (
      fi ((lg_cmp r1.1 (Int64.ofInt 9)) = 0) (
        g28 a0 a1 a0 r1.2) (
        g33 a0 a1 a0 (Int32.ofInt 1) r1.2)))
noncomputable def FX101_setTable_0 (a0 : Nat) (a1 : Int64) (M : FM) : Option (FM) := BX101_setTable_0 FX101_sortOf FX101_setTable_28 FX101_setTable_33 a0 a1 M
noncomputable def FX101_setTable (a0 : Nat) (a1 : Int64) (M : FM) : Option (FM) := FX101_setTable_0 a0 a1 M
/-! BoardMachineModel$Walk.rights(ZZ)V -/
noncomputable def BX101_rights_0 (a0 : Nat) (a1 : Int32) (a2 : Int32) (M : FM) : Option (FM) :=
  fi (fm_is M 101 101 a0 = true) (
  let M1 : FM := fm_sI M 422 a0 0 (Int32.ofInt 0)
  fi (fm_is M1 101 101 a0 = true) (
  fi (a1 = 0 ∨ a1 = 1) (
  let M2 : FM := fm_sI M1 425 a0 0 a1
  fi (fm_is M2 101 101 a0 = true) (
  fi (a2 = 0 ∨ a2 = 1) (
  let M3 : FM := fm_sI M2 426 a0 0 a2
  some M3) none) none) none) none) none
noncomputable def FX101_rights_0 (a0 : Nat) (a1 : Int32) (a2 : Int32) (M : FM) : Option (FM) := BX101_rights_0 a0 a1 a2 M
noncomputable def FX101_rights (a0 : Nat) (a1 : Int32) (a2 : Int32) (M : FM) : Option (FM) := FX101_rights_0 a0 a1 a2 M
/-! BoardMachineModel.tell(I)V -/
noncomputable def BX92_tell_119 (f5 : Nat → Int32 → Int32 → FM → Option (FM)) (s0 : Nat) (s1 : Int32) (s2 : Int32) (M : FM) : Option (FM) :=
  fi (fm_is M 101 101 s0 = true) (
  (f5 s0 s1 s2 M).bind fun M1 =>
  some M1) none
noncomputable def FX92_tell_119 (n : Nat) (k9 : Nat → Int32 → Nat → Int32 → FM → Option (FM)) (s0 : Nat) (s1 : Int32) (s2 : Int32) (M : FM) : Option (FM) := BX92_tell_119 FX101_rights s0 s1 s2 M
noncomputable def BX92_tell_103 (g119 : Nat → Int32 → Int32 → FM → Option (FM)) (a3 : Int64) (s0 : Nat) (s1 : Int32) (M : FM) : Option (FM) :=
  fi ((lg_cmp ((a3 >>> ((Int32.ofInt 19).toInt64 &&& 63)) &&& (Int64.ofInt 1)) (Int64.ofInt 1)) = 0) (
    g119 s0 s1 (Int32.ofInt 1) M) (
    g119 s0 s1 (Int32.ofInt 0) M)
noncomputable def FX92_tell_103 (n : Nat) (k9 : Nat → Int32 → Nat → Int32 → FM → Option (FM)) (a3 : Int64) (s0 : Nat) (s1 : Int32) (M : FM) : Option (FM) := BX92_tell_103 (FX92_tell_119 n k9) a3 s0 s1 M
noncomputable def BX92_tell_42 (k9 : Nat → Int32 → Nat → Int32 → FM → Option (FM)) (a0 : Nat) (a1 : Int32) (a2 : Nat) (s0 : Int32) (M : FM) : Option (FM) :=
  k9 a0 a1 a2 s0 M
noncomputable def FX92_tell_42 (n : Nat) (k9 : Nat → Int32 → Nat → Int32 → FM → Option (FM)) (a0 : Nat) (a1 : Int32) (a2 : Nat) (s0 : Int32) (M : FM) : Option (FM) := BX92_tell_42 k9 a0 a1 a2 s0 M
noncomputable def BX92_tell_9 (f0 : Nat → Int64 → FM → Option (FM)) (f1 : Nat → Int32 → Int32 → FM → Option (Int32 × FM)) (f2 : Nat → Int32 → Int32 → FM → Option (FM)) (f3 : Nat → Int32 → FM → Option (Int64 × FM)) (f4 : Nat → Int64 → FM → Option (FM)) (g42 : Nat → Int32 → Nat → Int32 → FM → Option (FM)) (g103 : Int64 → Nat → Int32 → FM → Option (FM)) (a0 : Nat) (a1 : Int32) (a2 : Nat) (a3 : Int32) (M : FM) : Option (FM) :=
  fi ((Int32.ofInt 12) ≤ a3) (
    fi (fm_is M 92 92 a0 = true) (
    let x1 : Nat := (M.2.2 301 a0 0)
    fi (fm_is M 99 99 x1 = true) (
    fi (fm_is M 95 95 a2 = true) (
    (f0 a2 (M.2.1 398 x1 0) M).bind fun M2 =>
    fi (fm_is M2 92 92 a0 = true) (
    let x3 : Nat := (M2.2.2 306 a0 0)
    fi (fm_is M2 910 990 x3 = true ∧ fm_in M2 x3 a1 = true) (
    fi (fm_is M2 95 95 a2 = true) (
    (f3 a2 (Int32.ofInt 384) M2).bind fun r4 =>
    let x5 : Nat := (M2.2.2 3 x3 a1.toNatClampNeg)
    fi (fm_is r4.2 101 101 x5 = true) (
    (f4 x5 r4.1 r4.2).bind fun M6 =>
    fi (fm_is M6 95 95 a2 = true) (
    (f3 a2 (Int32.ofInt 768) M6).bind fun r7 =>
    fi (fm_is r7.2 92 92 a0 = true) (
    let x8 : Nat := (r7.2.2.2 306 a0 0)
    fi (fm_is r7.2 910 990 x8 = true ∧ fm_in r7.2 x8 a1 = true) (
    fi ((lg_cmp ((r7.1 >>> ((Int32.ofInt 18).toInt64 &&& 63)) &&& (Int64.ofInt 1)) (Int64.ofInt 1)) = 0) (
      g103 r7.1 (r7.2.2.2 3 x8 a1.toNatClampNeg) (Int32.ofInt 1) r7.2) (
      g103 r7.1 (r7.2.2.2 3 x8 a1.toNatClampNeg) (Int32.ofInt 0) r7.2)) none) none) none) none) none) none) none) none) none) none) (
    fi (fm_is M 92 92 a0 = true) (
    let x9 : Nat := (M.2.2 301 a0 0)
    fi (fm_is M 99 99 x9 = true) (
    (f1 x9 a1 a3 M).bind fun r10 =>
    fi (fm_is r10.2 95 95 a2 = true) (
    (f2 a2 a3 r10.1 r10.2).bind fun M11 =>
    fi (a3 = (Int32.ofInt 3)) (
      g42 a0 a1 a2 (Int32.ofInt 7) M11) (
      g42 a0 a1 a2 (a3 + (Int32.ofInt 2)) M11)) none) none) none)
noncomputable def FX92_tell_9 (n : Nat) (k9 : Nat → Int32 → Nat → Int32 → FM → Option (FM)) (a0 : Nat) (a1 : Int32) (a2 : Nat) (a3 : Int32) (M : FM) : Option (FM) := BX92_tell_9 FX100_time (FX96_line n) FX100_line (FX100_peek n) FX101_setTable (FX92_tell_42 n k9) (FX92_tell_103 n k9) a0 a1 a2 a3 M
noncomputable def BX92_tell_0 (k9 : Nat → Int32 → Nat → Int32 → FM → Option (FM)) (a0 : Nat) (a1 : Int32) (M : FM) : Option (FM) :=
  fi (fm_is M 92 92 a0 = true) (
  let x1 : Nat := (M.2.2 305 a0 0)
  fi (fm_is M 910 990 x1 = true ∧ fm_in M x1 a1 = true) (
  let x2 : Nat := (M.2.2 3 x1 a1.toNatClampNeg)
  k9 a0 a1 x2 (Int32.ofInt 3) M) none) none
noncomputable def FX92_tell_0 (n : Nat) (k9 : Nat → Int32 → Nat → Int32 → FM → Option (FM)) (a0 : Nat) (a1 : Int32) (M : FM) : Option (FM) := BX92_tell_0 k9 a0 a1 M
noncomputable def FX92_tell_L9 (n : Nat) : Nat → Nat → Int32 → Nat → Int32 → FM → Option (FM)
  | 0 => fun _ _ _ _ _ => none
  | j + 1 => FX92_tell_9 n (FX92_tell_L9 n j)
noncomputable def FX92_tell (n : Nat) (a0 : Nat) (a1 : Int32) (M : FM) : Option (FM) := FX92_tell_0 n (FX92_tell_L9 n n) a0 a1 M
/-! BoardMachineModel$Desk.wakes()Z -/
noncomputable def BX100_wakes_31 (s0 : Int32) (M : FM) : Option (Int32 × FM) :=
  fi (s0 = 0 ∨ s0 = 1) (some (s0, M)) none
noncomputable def FX100_wakes_31 (n : Nat) (s0 : Int32) (M : FM) : Option (Int32 × FM) := BX100_wakes_31 s0 M
noncomputable def BX100_wakes_0 (f0 : Nat → Int32 → FM → Option (Int64 × FM)) (g31 : Int32 → FM → Option (Int32 × FM)) (a0 : Nat) (M : FM) : Option (Int32 × FM) :=
  fi (fm_is M 95 95 a0 = true) (
  let M1 : FM := fm_sI M 358 a0 0 (Int32.ofInt 0)
  fi (fm_is M1 95 95 a0 = true) (
  (f0 a0 (Int32.ofInt 836) M1).bind fun r2 =>
  fi (fm_is r2.2 95 95 a0 = true) (
  let x3 : Nat := (r2.2.2.2 361 a0 0)
  fi (fm_is r2.2 902 902 x3 = true ∧ fm_in r2.2 x3 (Int32.ofInt 772) = true) (
  fi ((lg_cmp (r2.1 &&& (r2.2.2.1 3 x3 (Int32.ofInt 772).toNatClampNeg)) (Int64.ofInt 0)) = 0) (
    g31 (Int32.ofInt 0) r2.2) (
    g31 (Int32.ofInt 1) r2.2)) none) none) none) none
noncomputable def FX100_wakes_0 (n : Nat) (a0 : Nat) (M : FM) : Option (Int32 × FM) := BX100_wakes_0 (FX100_shown n) (FX100_wakes_31 n ) a0 M
noncomputable def FX100_wakes (n : Nat) (a0 : Nat) (M : FM) : Option (Int32 × FM) := FX100_wakes_0 n a0 M
/-! BoardMachineModel$Desk.isPending(I)Z -/
noncomputable def BX100_isPending_30 (s0 : Int32) (M : FM) : Option (Int32 × FM) :=
  fi (s0 = 0 ∨ s0 = 1) (some (s0, M)) none
noncomputable def FX100_isPending_30 (n : Nat) (s0 : Int32) (M : FM) : Option (Int32 × FM) := BX100_isPending_30 s0 M
noncomputable def BX100_isPending_0 (f0 : Nat → Int32 → FM → Option (Int64 × FM)) (g30 : Int32 → FM → Option (Int32 × FM)) (a0 : Nat) (a1 : Int32) (M : FM) : Option (Int32 × FM) :=
  fi (fm_is M 95 95 a0 = true) (
  (f0 a0 (Int32.ofInt 836) M).bind fun r1 =>
  fi (fm_is r1.2 95 95 a0 = true) (
  let x2 : Nat := (r1.2.2.2 361 a0 0)
  fi (fm_is r1.2 902 902 x2 = true ∧ fm_in r1.2 x2 (Int32.ofInt 772) = true) (
  fi ((lg_cmp ((r1.1 &&& (r1.2.2.1 3 x2 (Int32.ofInt 772).toNatClampNeg)) &&& ((Int64.ofInt 1) <<< (a1.toInt64 &&& 63))) (Int64.ofInt 0)) = 0) (
    g30 (Int32.ofInt 0) r1.2) (
    g30 (Int32.ofInt 1) r1.2)) none) none) none
noncomputable def FX100_isPending_0 (n : Nat) (a0 : Nat) (a1 : Int32) (M : FM) : Option (Int32 × FM) := BX100_isPending_0 (FX100_shown n) (FX100_isPending_30 n ) a0 a1 M
noncomputable def FX100_isPending (n : Nat) (a0 : Nat) (a1 : Int32) (M : FM) : Option (Int32 × FM) := FX100_isPending_0 n a0 a1 M
/-! BoardMachineModel$Desk.mayBe(IZ)Z -/
noncomputable def BX100_mayBe_106 (s0 : Int32) (M : FM) : Option (Int32 × FM) :=
  fi (s0 = 0 ∨ s0 = 1) (some (s0, M)) none
noncomputable def FX100_mayBe_106 (n : Nat) (s0 : Int32) (M : FM) : Option (Int32 × FM) := BX100_mayBe_106 s0 M
noncomputable def BX100_mayBe_105 (g106 : Int32 → FM → Option (Int32 × FM)) (M : FM) : Option (Int32 × FM) :=
  g106 (Int32.ofInt 0) M
noncomputable def FX100_mayBe_105 (n : Nat) (M : FM) : Option (Int32 × FM) := BX100_mayBe_105 (FX100_mayBe_106 n ) M
noncomputable def BX100_mayBe_81 (f1 : Nat → Int32 → FM → Option (Int32 × FM)) (g105 : FM → Option (Int32 × FM)) (g106 : Int32 → FM → Option (Int32 × FM)) (a0 : Nat) (a1 : Int32) (a2 : Int32) (a3 : Int32) (s0 : Int32) (M : FM) : Option (Int32 × FM) :=
  fi (fm_is M 95 95 a0 = true) (
  (f1 a0 a1 M).bind fun r1 =>
  fi (r1.1 = 0) (
    g105 r1.2) (
    fi (a3 = a2) (
      fi (s0 = 0) (
        g105 r1.2) (
        g106 (Int32.ofInt 1) r1.2)) (
      g105 r1.2))) none
noncomputable def FX100_mayBe_81 (n : Nat) (a0 : Nat) (a1 : Int32) (a2 : Int32) (a3 : Int32) (s0 : Int32) (M : FM) : Option (Int32 × FM) := BX100_mayBe_81 (FX100_isPending n) (FX100_mayBe_105 n ) (FX100_mayBe_106 n ) a0 a1 a2 a3 s0 M
noncomputable def BX100_mayBe_76 (g81 : Nat → Int32 → Int32 → Int32 → Int32 → FM → Option (Int32 × FM)) (a0 : Nat) (a1 : Int32) (a2 : Int32) (a3 : Int32) (M : FM) : Option (Int32 × FM) :=
  g81 a0 a1 a2 a3 (Int32.ofInt 1) M
noncomputable def FX100_mayBe_76 (n : Nat) (a0 : Nat) (a1 : Int32) (a2 : Int32) (a3 : Int32) (M : FM) : Option (Int32 × FM) := BX100_mayBe_76 (FX100_mayBe_81 n ) a0 a1 a2 a3 M
noncomputable def BX100_mayBe_55 (g81 : Nat → Int32 → Int32 → Int32 → Int32 → FM → Option (Int32 × FM)) (a0 : Nat) (a1 : Int32) (a2 : Int32) (a3 : Int32) (M : FM) : Option (Int32 × FM) :=
  g81 a0 a1 a2 a3 (Int32.ofInt 0) M
noncomputable def FX100_mayBe_55 (n : Nat) (a0 : Nat) (a1 : Int32) (a2 : Int32) (a3 : Int32) (M : FM) : Option (Int32 × FM) := BX100_mayBe_55 (FX100_mayBe_81 n ) a0 a1 a2 a3 M
noncomputable def BX100_mayBe_51 (g81 : Nat → Int32 → Int32 → Int32 → Int32 → FM → Option (Int32 × FM)) (a0 : Nat) (a1 : Int32) (a2 : Int32) (a3 : Int32) (M : FM) : Option (Int32 × FM) :=
  g81 a0 a1 a2 a3 (Int32.ofInt 1) M
noncomputable def FX100_mayBe_51 (n : Nat) (a0 : Nat) (a1 : Int32) (a2 : Int32) (a3 : Int32) (M : FM) : Option (Int32 × FM) := BX100_mayBe_51 (FX100_mayBe_81 n ) a0 a1 a2 a3 M
noncomputable def BX100_mayBe_22 (f0 : Nat → Int32 → FM → Option (Int32 × FM)) (g51 : Nat → Int32 → Int32 → Int32 → FM → Option (Int32 × FM)) (g55 : Nat → Int32 → Int32 → Int32 → FM → Option (Int32 × FM)) (g76 : Nat → Int32 → Int32 → Int32 → FM → Option (Int32 × FM)) (g81 : Nat → Int32 → Int32 → Int32 → Int32 → FM → Option (Int32 × FM)) (a0 : Nat) (a1 : Int32) (a2 : Int32) (s0 : Int32) (M : FM) : Option (Int32 × FM) :=
  fi (a2 = 0) (
    fi (fm_is M 95 95 a0 = true) (
    fi ((M.1 360 a0 0) < (Int32.ofInt 3)) (
      g76 a0 a1 a2 s0 M) (
      fi (fm_is M 95 95 a0 = true) (
      (f0 a0 (Int32.ofInt 3) M).bind fun r1 =>
      fi (r1.1 = (Int32.ofInt 1)) (
        g76 a0 a1 a2 s0 r1.2) (
        g81 a0 a1 a2 s0 (Int32.ofInt 0) r1.2)) none)) none) (
    fi (fm_is M 95 95 a0 = true) (
    fi ((M.1 360 a0 0) = 0) (
      g51 a0 a1 a2 s0 M) (
      fi (fm_is M 95 95 a0 = true) (
      fi ((M.1 360 a0 0) = (Int32.ofInt 1)) (
        fi (fm_is M 95 95 a0 = true) (
        (f0 a0 (Int32.ofInt 1) M).bind fun r2 =>
        fi (r2.1 = (Int32.ofInt 1)) (
          g51 a0 a1 a2 s0 r2.2) (
          g55 a0 a1 a2 s0 r2.2)) none) (
        g55 a0 a1 a2 s0 M)) none)) none)
noncomputable def FX100_mayBe_22 (n : Nat) (a0 : Nat) (a1 : Int32) (a2 : Int32) (s0 : Int32) (M : FM) : Option (Int32 × FM) := BX100_mayBe_22 FX100_status (FX100_mayBe_51 n ) (FX100_mayBe_55 n ) (FX100_mayBe_76 n ) (FX100_mayBe_81 n ) a0 a1 a2 s0 M
noncomputable def BX100_mayBe_0 (g22 : Nat → Int32 → Int32 → Int32 → FM → Option (Int32 × FM)) (a0 : Nat) (a1 : Int32) (a2 : Int32) (M : FM) : Option (Int32 × FM) :=
  fi (fm_is M 95 95 a0 = true) (
  let x1 : Nat := (M.2.2 361 a0 0)
  fi (fm_is M 902 902 x1 = true ∧ fm_in M x1 (Int32.ofInt 771) = true) (
  fi ((lg_cmp (((M.2.1 3 x1 (Int32.ofInt 771).toNatClampNeg) >>> (a1.toInt64 &&& 63)) &&& (Int64.ofInt 1)) (Int64.ofInt 1)) = 0) (
    g22 a0 a1 a2 (Int32.ofInt 1) M) (
    g22 a0 a1 a2 (Int32.ofInt 0) M)) none) none
noncomputable def FX100_mayBe_0 (n : Nat) (a0 : Nat) (a1 : Int32) (a2 : Int32) (M : FM) : Option (Int32 × FM) := BX100_mayBe_0 (FX100_mayBe_22 n ) a0 a1 a2 M
noncomputable def FX100_mayBe (n : Nat) (a0 : Nat) (a1 : Int32) (a2 : Int32) (M : FM) : Option (Int32 × FM) := FX100_mayBe_0 n a0 a1 a2 M
/-! BoardMachineModel$Desk.first(Z)I -/
noncomputable def BX100_first_56 (f0 : Nat → Int32 → Int32 → FM → Option (Int32 × FM)) (k2 : Nat → Int32 → Int32 → FM → Option (Int32 × FM)) (a0 : Nat) (a1 : Int32) (a2 : Int32) (s0 : Int32) (M : FM) : Option (Int32 × FM) :=
  fi (fm_is M 95 95 a0 = true) (
  (f0 a0 s0 a1 M).bind fun r1 =>
  fi (r1.1 = 0) (
    let x2 : Int32 := a2 + (Int32.ofInt 1)
    k2 a0 a1 x2 r1.2) (
    some (s0, r1.2))) none
noncomputable def FX100_first_56 (n : Nat) (k2 : Nat → Int32 → Int32 → FM → Option (Int32 × FM)) (a0 : Nat) (a1 : Int32) (a2 : Int32) (s0 : Int32) (M : FM) : Option (Int32 × FM) := BX100_first_56 (FX100_mayBe n) k2 a0 a1 a2 s0 M
noncomputable def BX100_first_2 (g56 : Nat → Int32 → Int32 → Int32 → FM → Option (Int32 × FM)) (a0 : Nat) (a1 : Int32) (a2 : Int32) (M : FM) : Option (Int32 × FM) :=
  fi ((Int32.ofInt 6) ≤ a2) (
    some ((Int32.ofInt (-1)), M)) (
    fi (a2 = 0) (
      g56 a0 a1 a2 (Int32.ofInt 11) M) (
      fi (a2 = (Int32.ofInt 1)) (
        g56 a0 a1 a2 (Int32.ofInt 3) M) (
        fi (a2 = (Int32.ofInt 2)) (
          g56 a0 a1 a2 (Int32.ofInt 7) M) (
          fi (a2 = (Int32.ofInt 3)) (
            g56 a0 a1 a2 (Int32.ofInt 9) M) (
            fi (a2 = (Int32.ofInt 4)) (
              g56 a0 a1 a2 (Int32.ofInt 1) M) (
              g56 a0 a1 a2 (Int32.ofInt 5) M))))))
noncomputable def FX100_first_2 (n : Nat) (k2 : Nat → Int32 → Int32 → FM → Option (Int32 × FM)) (a0 : Nat) (a1 : Int32) (a2 : Int32) (M : FM) : Option (Int32 × FM) := BX100_first_2 (FX100_first_56 n k2) a0 a1 a2 M
noncomputable def BX100_first_0 (k2 : Nat → Int32 → Int32 → FM → Option (Int32 × FM)) (a0 : Nat) (a1 : Int32) (M : FM) : Option (Int32 × FM) :=
  k2 a0 a1 (Int32.ofInt 0) M
noncomputable def FX100_first_0 (n : Nat) (k2 : Nat → Int32 → Int32 → FM → Option (Int32 × FM)) (a0 : Nat) (a1 : Int32) (M : FM) : Option (Int32 × FM) := BX100_first_0 k2 a0 a1 M
noncomputable def FX100_first_L2 (n : Nat) : Nat → Nat → Int32 → Int32 → FM → Option (Int32 × FM)
  | 0 => fun _ _ _ _ => none
  | j + 1 => FX100_first_2 n (FX100_first_L2 n j)
noncomputable def FX100_first (n : Nat) (a0 : Nat) (a1 : Int32) (M : FM) : Option (Int32 × FM) := FX100_first_0 n (FX100_first_L2 n n) a0 a1 M
/-! BoardMachineModel$Desk.taken()I -/
noncomputable def BX100_taken_24 (s0 : Int32) (M : FM) : Option (Int32 × FM) :=
  some (s0, M)
noncomputable def FX100_taken_24 (n : Nat) (s0 : Int32) (M : FM) : Option (Int32 × FM) := BX100_taken_24 s0 M
noncomputable def BX100_taken_0 (f0 : Nat → Int32 → FM → Option (Int32 × FM)) (g24 : Int32 → FM → Option (Int32 × FM)) (a0 : Nat) (M : FM) : Option (Int32 × FM) :=
  fi (fm_is M 95 95 a0 = true) (
  let M1 : FM := fm_sI M 358 a0 0 (Int32.ofInt 0)
  fi (fm_is M1 95 95 a0 = true) (
  (f0 a0 (Int32.ofInt 0) M1).bind fun r2 =>
  fi (r2.1 < 0) (
    fi (fm_is r2.2 95 95 a0 = true) (
    (f0 a0 (Int32.ofInt 1) r2.2).bind fun r3 =>
    g24 r3.1 r3.2) none) (
    g24 r2.1 r2.2)) none) none
noncomputable def FX100_taken_0 (n : Nat) (a0 : Nat) (M : FM) : Option (Int32 × FM) := BX100_taken_0 (FX100_first n) (FX100_taken_24 n ) a0 M
noncomputable def FX100_taken (n : Nat) (a0 : Nat) (M : FM) : Option (Int32 × FM) := FX100_taken_0 n a0 M
/-! BoardMachineModel$Core.counter()J -/
noncomputable def BX98_counter_0 (a0 : Nat) (M : FM) : Option (Int64 × FM) :=
  fi (fm_is M 94 94 a0 = true) (
  let M1 : FM := fm_sI M 345 a0 0 (Int32.ofInt 0)
  fi (fm_is M1 94 94 a0 = true) (
  some ((M1.2.1 347 a0 0), M1)) none) none
noncomputable def FX98_counter_0 (a0 : Nat) (M : FM) : Option (Int64 × FM) := BX98_counter_0 a0 M
noncomputable def FX98_counter (a0 : Nat) (M : FM) : Option (Int64 × FM) := FX98_counter_0 a0 M
/-! BoardMachineModel$Desk.mode()I -/
noncomputable def BX100_mode_0 (a0 : Nat) (M : FM) : Option (Int32 × FM) :=
  fi (fm_is M 95 95 a0 = true) (
  let M1 : FM := fm_sI M 358 a0 0 (Int32.ofInt 0)
  fi (fm_is M1 95 95 a0 = true) (
  some ((M1.1 360 a0 0), M1)) none) none
noncomputable def FX100_mode_0 (a0 : Nat) (M : FM) : Option (Int32 × FM) := BX100_mode_0 a0 M
noncomputable def FX100_mode (a0 : Nat) (M : FM) : Option (Int32 × FM) := FX100_mode_0 a0 M
/-! BoardMachineModel$Walk.isAccess(III)Z -/
noncomputable def BX101_isAccess_59 (s0 : Int32) (M : FM) : Option (Int32 × FM) :=
  fi (s0 = 0 ∨ s0 = 1) (some (s0, M)) none
noncomputable def FX101_isAccess_59 (s0 : Int32) (M : FM) : Option (Int32 × FM) := BX101_isAccess_59 s0 M
noncomputable def BX101_isAccess_58 (g59 : Int32 → FM → Option (Int32 × FM)) (M : FM) : Option (Int32 × FM) :=
  g59 (Int32.ofInt 0) M
noncomputable def FX101_isAccess_58 (M : FM) : Option (Int32 × FM) := BX101_isAccess_58 FX101_isAccess_59 M
noncomputable def BX101_isAccess_50 (g58 : FM → Option (Int32 × FM)) (g59 : Int32 → FM → Option (Int32 × FM)) (a3 : Int32) (M : FM) : Option (Int32 × FM) :=
  fi (a3 = 0) (
    g58 M) (
    g59 (Int32.ofInt 1) M)
noncomputable def FX101_isAccess_50 (a3 : Int32) (M : FM) : Option (Int32 × FM) := BX101_isAccess_50 FX101_isAccess_58 FX101_isAccess_59 a3 M
noncomputable def BX101_isAccess_26 (g50 : Int32 → FM → Option (Int32 × FM)) (g58 : FM → Option (Int32 × FM)) (a0 : Int32) (a1 : Int32) (s0 : Int32) (M : FM) : Option (Int32 × FM) :=
  fi (a0 < 0) (
    g58 M) (
    fi ((Int32.ofInt 3) ≤ a0) (
      g58 M) (
      fi (a1 = 0) (
        g50 s0 M) (
        fi (a1 = (Int32.ofInt 1)) (
          g50 s0 M) (
          fi (a1 = (Int32.ofInt 3)) (
            g50 s0 M) (
            g58 M)))))
noncomputable def FX101_isAccess_26 (a0 : Int32) (a1 : Int32) (s0 : Int32) (M : FM) : Option (Int32 × FM) := BX101_isAccess_26 FX101_isAccess_50 FX101_isAccess_58 a0 a1 s0 M
noncomputable def BX101_isAccess_21 (g26 : Int32 → Int32 → Int32 → FM → Option (Int32 × FM)) (a0 : Int32) (a1 : Int32) (M : FM) : Option (Int32 × FM) :=
  g26 a0 a1 (Int32.ofInt 1) M
noncomputable def FX101_isAccess_21 (a0 : Int32) (a1 : Int32) (M : FM) : Option (Int32 × FM) := BX101_isAccess_21 FX101_isAccess_26 a0 a1 M
noncomputable def BX101_isAccess_0 (g21 : Int32 → Int32 → FM → Option (Int32 × FM)) (g26 : Int32 → Int32 → Int32 → FM → Option (Int32 × FM)) (a0 : Int32) (a1 : Int32) (a2 : Int32) (M : FM) : Option (Int32 × FM) :=
  fi (a2 = (Int32.ofInt 1)) (
    g21 a0 a1 M) (
    fi (a2 = (Int32.ofInt 2)) (
      g21 a0 a1 M) (
      fi (a2 = (Int32.ofInt 4)) (
        g21 a0 a1 M) (
        fi (a2 = (Int32.ofInt 8)) (
          g21 a0 a1 M) (
          g26 a0 a1 (Int32.ofInt 0) M))))
noncomputable def FX101_isAccess_0 (a0 : Int32) (a1 : Int32) (a2 : Int32) (M : FM) : Option (Int32 × FM) := BX101_isAccess_0 FX101_isAccess_21 FX101_isAccess_26 a0 a1 a2 M
noncomputable def FX101_isAccess (a0 : Int32) (a1 : Int32) (a2 : Int32) (M : FM) : Option (Int32 × FM) := FX101_isAccess_0 a0 a1 a2 M
/-! BoardMachineModel$Walk.isWithin(JI)Z -/
noncomputable def BX101_isWithin_20 (s0 : Int32) (M : FM) : Option (Int32 × FM) :=
  fi (s0 = 0 ∨ s0 = 1) (some (s0, M)) none
noncomputable def FX101_isWithin_20 (s0 : Int32) (M : FM) : Option (Int32 × FM) := BX101_isWithin_20 s0 M
noncomputable def BX101_isWithin_0 (g20 : Int32 → FM → Option (Int32 × FM)) (a0 : Int64) (a2 : Int32) (M : FM) : Option (Int32 × FM) :=
  fi (0 < (lg_cmp ((a0 &&& (Int64.ofInt 4095)) + a2.toInt64) (Int64.ofInt 4096))) (
    g20 (Int32.ofInt 0) M) (
    g20 (Int32.ofInt 1) M)
noncomputable def FX101_isWithin_0 (a0 : Int64) (a2 : Int32) (M : FM) : Option (Int32 × FM) := BX101_isWithin_0 FX101_isWithin_20 a0 a2 M
noncomputable def FX101_isWithin (a0 : Int64) (a2 : Int32) (M : FM) : Option (Int32 × FM) := FX101_isWithin_0 a0 a2 M
/-! BoardMachineModel$Walk.pageFault(I)J -/
noncomputable def BX101_pageFault_24 (s0 : Int64) (M : FM) : Option (Int64 × FM) :=
  some (s0, M)
noncomputable def FX101_pageFault_24 (s0 : Int64) (M : FM) : Option (Int64 × FM) := BX101_pageFault_24 s0 M
noncomputable def BX101_pageFault_0 (g24 : Int64 → FM → Option (Int64 × FM)) (a0 : Int32) (M : FM) : Option (Int64 × FM) :=
  fi (a0 = 0) (
    g24 (Int64.ofInt (-12)) M) (
    fi (a0 = (Int32.ofInt 1)) (
      g24 (Int64.ofInt (-13)) M) (
      g24 (Int64.ofInt (-15)) M))
noncomputable def FX101_pageFault_0 (a0 : Int32) (M : FM) : Option (Int64 × FM) := BX101_pageFault_0 FX101_pageFault_24 a0 M
noncomputable def FX101_pageFault (a0 : Int32) (M : FM) : Option (Int64 × FM) := FX101_pageFault_0 a0 M
/-! BoardMachineModel$Ram.isByte(J)Z -/
noncomputable def BX93_isByte_21 (s0 : Int32) (M : FM) : Option (Int32 × FM) :=
  fi (s0 = 0 ∨ s0 = 1) (some (s0, M)) none
noncomputable def FX93_isByte_21 (s0 : Int32) (M : FM) : Option (Int32 × FM) := BX93_isByte_21 s0 M
noncomputable def BX93_isByte_20 (g21 : Int32 → FM → Option (Int32 × FM)) (M : FM) : Option (Int32 × FM) :=
  g21 (Int32.ofInt 0) M
noncomputable def FX93_isByte_20 (M : FM) : Option (Int32 × FM) := BX93_isByte_20 FX93_isByte_21 M
noncomputable def BX93_isByte_0 (g20 : FM → Option (Int32 × FM)) (g21 : Int32 → FM → Option (Int32 × FM)) (a0 : Int64) (M : FM) : Option (Int32 × FM) :=
  fi ((lg_cmp a0 (Int64.ofInt 2147483648)) < 0) (
    g20 M) (
    fi (0 ≤ (lg_cmp a0 (Int64.ofInt 2151677952))) (
      g20 M) (
      g21 (Int32.ofInt 1) M))
noncomputable def FX93_isByte_0 (a0 : Int64) (M : FM) : Option (Int32 × FM) := BX93_isByte_0 FX93_isByte_20 FX93_isByte_21 a0 M
noncomputable def FX93_isByte (a0 : Int64) (M : FM) : Option (Int32 × FM) := FX93_isByte_0 a0 M
/-! BoardMachineModel$Ram.areBytes(JJ)Z -/
noncomputable def BX93_areBytes_22 (s0 : Int32) (M : FM) : Option (Int32 × FM) :=
  fi (s0 = 0 ∨ s0 = 1) (some (s0, M)) none
noncomputable def FX93_areBytes_22 (s0 : Int32) (M : FM) : Option (Int32 × FM) := BX93_areBytes_22 s0 M
noncomputable def BX93_areBytes_21 (g22 : Int32 → FM → Option (Int32 × FM)) (M : FM) : Option (Int32 × FM) :=
  g22 (Int32.ofInt 0) M
noncomputable def FX93_areBytes_21 (M : FM) : Option (Int32 × FM) := BX93_areBytes_21 FX93_areBytes_22 M
noncomputable def BX93_areBytes_0 (f0 : Int64 → FM → Option (Int32 × FM)) (g21 : FM → Option (Int32 × FM)) (g22 : Int32 → FM → Option (Int32 × FM)) (a0 : Int64) (a2 : Int64) (M : FM) : Option (Int32 × FM) :=
  (f0 a0 M).bind fun r1 =>
  fi (r1.1 = 0) (
    g21 r1.2) (
    fi (0 < (lg_cmp a2 ((Int64.ofInt 2151677952) - a0))) (
      g21 r1.2) (
      g22 (Int32.ofInt 1) r1.2))
noncomputable def FX93_areBytes_0 (a0 : Int64) (a2 : Int64) (M : FM) : Option (Int32 × FM) := BX93_areBytes_0 FX93_isByte FX93_areBytes_21 FX93_areBytes_22 a0 a2 M
noncomputable def FX93_areBytes (a0 : Int64) (a2 : Int64) (M : FM) : Option (Int32 × FM) := FX93_areBytes_0 a0 a2 M
/-! BoardMachineModel$Walk.accessFault(I)J -/
noncomputable def BX101_accessFault_24 (s0 : Int64) (M : FM) : Option (Int64 × FM) :=
  some (s0, M)
noncomputable def FX101_accessFault_24 (s0 : Int64) (M : FM) : Option (Int64 × FM) := BX101_accessFault_24 s0 M
noncomputable def BX101_accessFault_0 (g24 : Int64 → FM → Option (Int64 × FM)) (a0 : Int32) (M : FM) : Option (Int64 × FM) :=
  fi (a0 = 0) (
    g24 (Int64.ofInt (-1)) M) (
    fi (a0 = (Int32.ofInt 1)) (
      g24 (Int64.ofInt (-5)) M) (
      g24 (Int64.ofInt (-7)) M))
noncomputable def FX101_accessFault_0 (a0 : Int32) (M : FM) : Option (Int64 × FM) := BX101_accessFault_0 FX101_accessFault_24 a0 M
noncomputable def FX101_accessFault (a0 : Int32) (M : FM) : Option (Int64 × FM) := FX101_accessFault_0 a0 M
/-! BoardMachineModel$Walk.kind(I)I -/
noncomputable def BX101_kind_0 (a0 : Nat) (a1 : Int32) (M : FM) : Option (Int32 × FM) :=
  fi (fm_is M 101 101 a0 = true) (
  let x1 : Nat := (M.2.2 427 a0 0)
  fi (fm_is M 901 901 x1 = true ∧ fm_in M x1 a1 = true) (
  some ((((M.1 3 x1 a1.toNatClampNeg) >>> ((Int32.ofInt 3) &&& 31)) &&& (Int32.ofInt 3)), M)) none) none
noncomputable def FX101_kind_0 (a0 : Nat) (a1 : Int32) (M : FM) : Option (Int32 × FM) := BX101_kind_0 a0 a1 M
noncomputable def FX101_kind (a0 : Nat) (a1 : Int32) (M : FM) : Option (Int32 × FM) := FX101_kind_0 a0 a1 M
/-! BoardMachineModel$Walk.cover(I)V -/
noncomputable def BX101_cover_154 (M : FM) : Option (FM) :=
  some M
noncomputable def FX101_cover_154 (n : Nat) (k91 : Nat → Int64 → Int64 → Int64 → FM → Option (FM)) (M : FM) : Option (FM) := BX101_cover_154 M
noncomputable def BX101_cover_134 (g154 : FM → Option (FM)) (a0 : Nat) (a3 : Int64) (a5 : Int64) (M : FM) : Option (FM) :=
  fi (fm_is M 101 101 a0 = true) (
  let M1 : FM := fm_sL M 429 a0 0 ((Int64.ofInt 4) * a5)
  fi (fm_is M1 101 101 a0 = true) (
  fi (fm_is M1 101 101 a0 = true) (
  let M2 : FM := fm_sL M1 430 a0 0 ((M1.2.1 429 a0 0) + a3)
  g154 M2) none) none) none
noncomputable def FX101_cover_134 (n : Nat) (k91 : Nat → Int64 → Int64 → Int64 → FM → Option (FM)) (a0 : Nat) (a3 : Int64) (a5 : Int64) (M : FM) : Option (FM) := BX101_cover_134 (FX101_cover_154 n k91) a0 a3 a5 M
noncomputable def BX101_cover_91 (g134 : Nat → Int64 → Int64 → FM → Option (FM)) (k91 : Nat → Int64 → Int64 → Int64 → FM → Option (FM)) (a0 : Nat) (a3 : Int64) (a5 : Int64) (a7 : Int64) (M : FM) : Option (FM) :=
  fi (0 ≤ (lg_cmp a7 (Int64.ofInt 18014398509481984))) (
    g134 a0 a3 a5 M) (
    fi ((lg_cmp (a5 &&& a7) (Int64.ofInt 0)) = 0) (
      g134 a0 a3 a5 M) (
      let x1 : Int64 := (a5 - a7)
      let x2 : Int64 := ((Int64.ofInt 2) * a7)
      let x3 : Int64 := ((Int64.ofInt 2) * a3)
      k91 a0 x3 x1 x2 M))
noncomputable def FX101_cover_91 (n : Nat) (k91 : Nat → Int64 → Int64 → Int64 → FM → Option (FM)) (a0 : Nat) (a3 : Int64) (a5 : Int64) (a7 : Int64) (M : FM) : Option (FM) := BX101_cover_91 (FX101_cover_134 n k91) k91 a0 a3 a5 a7 M
noncomputable def BX101_cover_42 (g154 : FM → Option (FM)) (a0 : Nat) (a1 : Int32) (s0 : Nat) (s1 : Int64) (M : FM) : Option (FM) :=
  fi (fm_is M 101 101 s0 = true) (
  let M1 : FM := fm_sL M 429 s0 0 s1
  fi (fm_is M1 101 101 a0 = true) (
  let x2 : Nat := (M1.2.2 428 a0 0)
  fi (fm_is M1 902 902 x2 = true ∧ fm_in M1 x2 a1 = true) (
  fi (fm_is M1 101 101 a0 = true) (
  let M3 : FM := fm_sL M1 430 a0 0 ((Int64.ofInt 4) * (M1.2.1 3 x2 a1.toNatClampNeg))
  g154 M3) none) none) none) none
noncomputable def FX101_cover_42 (n : Nat) (k91 : Nat → Int64 → Int64 → Int64 → FM → Option (FM)) (a0 : Nat) (a1 : Int32) (s0 : Nat) (s1 : Int64) (M : FM) : Option (FM) := BX101_cover_42 (FX101_cover_154 n k91) a0 a1 s0 s1 M
noncomputable def BX101_cover_0 (f0 : Nat → Int32 → FM → Option (Int32 × FM)) (g42 : Nat → Int32 → Nat → Int64 → FM → Option (FM)) (g134 : Nat → Int64 → Int64 → FM → Option (FM)) (g154 : FM → Option (FM)) (k91 : Nat → Int64 → Int64 → Int64 → FM → Option (FM)) (a0 : Nat) (a1 : Int32) (M : FM) : Option (FM) :=
  fi (fm_is M 101 101 a0 = true) (
  (f0 a0 a1 M).bind fun r1 =>
  fi (fm_is r1.2 101 101 a0 = true) (
  let M2 : FM := fm_sL r1.2 429 a0 0 (Int64.ofInt 0)
  fi (fm_is M2 101 101 a0 = true) (
  let M3 : FM := fm_sL M2 430 a0 0 (Int64.ofInt 0)
  fi (r1.1 = (Int32.ofInt 1)) (
    fi (a1 = 0) (
      g42 a0 a1 a0 (Int64.ofInt 0) M3) (
      fi (fm_is M3 101 101 a0 = true) (
      let x4 : Int32 := (a1 - (Int32.ofInt 1))
      let x5 : Nat := (M3.2.2 428 a0 0)
      fi (fm_is M3 902 902 x5 = true ∧ fm_in M3 x5 x4 = true) (
      g42 a0 a1 a0 ((Int64.ofInt 4) * (M3.2.1 3 x5 x4.toNatClampNeg)) M3) none) none)) (
    fi (r1.1 ≤ (Int32.ofInt 1)) (
      g154 M3) (
      fi (fm_is M3 101 101 a0 = true) (
      let x6 : Nat := (M3.2.2 428 a0 0)
      fi (fm_is M3 902 902 x6 = true ∧ fm_in M3 x6 a1 = true) (
      let x7 : Int64 := (M3.2.1 3 x6 a1.toNatClampNeg)
      fi (r1.1 = (Int32.ofInt 3)) (
        k91 a0 (Int64.ofInt 8) x7 (Int64.ofInt 1) M3) (
        g134 a0 (Int64.ofInt 4) x7 M3)) none) none))) none) none) none
noncomputable def FX101_cover_0 (n : Nat) (k91 : Nat → Int64 → Int64 → Int64 → FM → Option (FM)) (a0 : Nat) (a1 : Int32) (M : FM) : Option (FM) := BX101_cover_0 FX101_kind (FX101_cover_42 n k91) (FX101_cover_134 n k91) (FX101_cover_154 n k91) k91 a0 a1 M
noncomputable def FX101_cover_L91 (n : Nat) : Nat → Nat → Int64 → Int64 → Int64 → FM → Option (FM)
  | 0 => fun _ _ _ _ _ => none
  | j + 1 => FX101_cover_91 n (FX101_cover_L91 n j)
noncomputable def FX101_cover (n : Nat) (a0 : Nat) (a1 : Int32) (M : FM) : Option (FM) := FX101_cover_0 n (FX101_cover_L91 n n) a0 a1 M
/-! BoardMachineModel$Walk.has(II)Z -/
noncomputable def BX101_has_19 (s0 : Int32) (M : FM) : Option (Int32 × FM) :=
  fi (s0 = 0 ∨ s0 = 1) (some (s0, M)) none
noncomputable def FX101_has_19 (s0 : Int32) (M : FM) : Option (Int32 × FM) := BX101_has_19 s0 M
noncomputable def BX101_has_0 (g19 : Int32 → FM → Option (Int32 × FM)) (a0 : Nat) (a1 : Int32) (a2 : Int32) (M : FM) : Option (Int32 × FM) :=
  fi (fm_is M 101 101 a0 = true) (
  let x1 : Nat := (M.2.2 427 a0 0)
  fi (fm_is M 901 901 x1 = true ∧ fm_in M x1 a1 = true) (
  fi ((((M.1 3 x1 a1.toNatClampNeg) >>> (a2 &&& 31)) &&& (Int32.ofInt 1)) = (Int32.ofInt 1)) (
    g19 (Int32.ofInt 1) M) (
    g19 (Int32.ofInt 0) M)) none) none
noncomputable def FX101_has_0 (a0 : Nat) (a1 : Int32) (a2 : Int32) (M : FM) : Option (Int32 × FM) := BX101_has_0 FX101_has_19 a0 a1 a2 M
noncomputable def FX101_has (a0 : Nat) (a1 : Int32) (a2 : Int32) (M : FM) : Option (Int32 × FM) := FX101_has_0 a0 a1 a2 M
/-! BoardMachineModel$Walk.isLet(JIII)Z -/
noncomputable def BX101_isLet_155 (s0 : Int32) (M : FM) : Option (Int32 × FM) :=
  fi (s0 = 0 ∨ s0 = 1) (some (s0, M)) none
noncomputable def FX101_isLet_155 (n : Nat) (k3 : Nat → Int64 → Int32 → Int32 → Int32 → Int32 → FM → Option (Int32 × FM)) (k22 : Nat → Int64 → Int32 → Int32 → Int32 → Int32 → Int32 → Int32 → FM → Option (Int32 × FM)) (s0 : Int32) (M : FM) : Option (Int32 × FM) := BX101_isLet_155 s0 M
noncomputable def BX101_isLet_137 (s0 : Int32) (M : FM) : Option (Int32 × FM) :=
  fi (s0 = 0 ∨ s0 = 1) (some (s0, M)) none
noncomputable def FX101_isLet_137 (n : Nat) (k3 : Nat → Int64 → Int32 → Int32 → Int32 → Int32 → FM → Option (Int32 × FM)) (k22 : Nat → Int64 → Int32 → Int32 → Int32 → Int32 → Int32 → Int32 → FM → Option (Int32 × FM)) (s0 : Int32) (M : FM) : Option (Int32 × FM) := BX101_isLet_137 s0 M
noncomputable def BX101_isLet_136 (g137 : Int32 → FM → Option (Int32 × FM)) (M : FM) : Option (Int32 × FM) :=
  g137 (Int32.ofInt 0) M
noncomputable def FX101_isLet_136 (n : Nat) (k3 : Nat → Int64 → Int32 → Int32 → Int32 → Int32 → FM → Option (Int32 × FM)) (k22 : Nat → Int64 → Int32 → Int32 → Int32 → Int32 → Int32 → Int32 → FM → Option (Int32 × FM)) (M : FM) : Option (Int32 × FM) := BX101_isLet_136 (FX101_isLet_137 n k3 k22) M
noncomputable def BX101_isLet_132 (g137 : Int32 → FM → Option (Int32 × FM)) (M : FM) : Option (Int32 × FM) :=
  g137 (Int32.ofInt 1) M
noncomputable def FX101_isLet_132 (n : Nat) (k3 : Nat → Int64 → Int32 → Int32 → Int32 → Int32 → FM → Option (Int32 × FM)) (k22 : Nat → Int64 → Int32 → Int32 → Int32 → Int32 → Int32 → Int32 → FM → Option (Int32 × FM)) (M : FM) : Option (Int32 × FM) := BX101_isLet_132 (FX101_isLet_137 n k3 k22) M
noncomputable def BX101_isLet_121 (f1 : Nat → Int32 → Int32 → FM → Option (Int32 × FM)) (g132 : FM → Option (Int32 × FM)) (g136 : FM → Option (Int32 × FM)) (a0 : Nat) (a6 : Int32) (a8 : Int32) (M : FM) : Option (Int32 × FM) :=
  fi (fm_is M 101 101 a0 = true) (
  (f1 a0 a6 a8 M).bind fun r1 =>
  fi (r1.1 = 0) (
    g136 r1.2) (
    g132 r1.2)) none
noncomputable def FX101_isLet_121 (n : Nat) (k3 : Nat → Int64 → Int32 → Int32 → Int32 → Int32 → FM → Option (Int32 × FM)) (k22 : Nat → Int64 → Int32 → Int32 → Int32 → Int32 → Int32 → Int32 → FM → Option (Int32 × FM)) (a0 : Nat) (a6 : Int32) (a8 : Int32) (M : FM) : Option (Int32 × FM) := BX101_isLet_121 FX101_has (FX101_isLet_132 n k3 k22) (FX101_isLet_136 n k3 k22) a0 a6 a8 M
noncomputable def BX101_isLet_95 (f1 : Nat → Int32 → Int32 → FM → Option (Int32 × FM)) (g121 : Nat → Int32 → Int32 → FM → Option (Int32 × FM)) (g132 : FM → Option (Int32 × FM)) (g136 : FM → Option (Int32 × FM)) (a0 : Nat) (a4 : Int32) (a5 : Int32) (a6 : Int32) (a7 : Int32) (s0 : Int32) (M : FM) : Option (Int32 × FM) :=
  fi (a7 = a5) (
    fi (a4 = (Int32.ofInt 3)) (
      fi (fm_is M 101 101 a0 = true) (
      (f1 a0 a6 (Int32.ofInt 7) M).bind fun r1 =>
      fi (r1.1 = 0) (
        g132 r1.2) (
        g121 a0 a6 s0 r1.2)) none) (
      g121 a0 a6 s0 M)) (
    g136 M)
noncomputable def FX101_isLet_95 (n : Nat) (k3 : Nat → Int64 → Int32 → Int32 → Int32 → Int32 → FM → Option (Int32 × FM)) (k22 : Nat → Int64 → Int32 → Int32 → Int32 → Int32 → Int32 → Int32 → FM → Option (Int32 × FM)) (a0 : Nat) (a4 : Int32) (a5 : Int32) (a6 : Int32) (a7 : Int32) (s0 : Int32) (M : FM) : Option (Int32 × FM) := BX101_isLet_95 FX101_has (FX101_isLet_121 n k3 k22) (FX101_isLet_132 n k3 k22) (FX101_isLet_136 n k3 k22) a0 a4 a5 a6 a7 s0 M
noncomputable def BX101_isLet_64 (k22 : Nat → Int64 → Int32 → Int32 → Int32 → Int32 → Int32 → Int32 → FM → Option (Int32 × FM)) (a0 : Nat) (a1 : Int64) (a3 : Int32) (a4 : Int32) (a5 : Int32) (a6 : Int32) (a8 : Int32) (s0 : Int32) (M : FM) : Option (Int32 × FM) :=
  let x1 : Int32 := a8 + (Int32.ofInt 1)
  k22 a0 a1 a3 a4 a5 a6 s0 x1 M
noncomputable def FX101_isLet_64 (n : Nat) (k3 : Nat → Int64 → Int32 → Int32 → Int32 → Int32 → FM → Option (Int32 × FM)) (k22 : Nat → Int64 → Int32 → Int32 → Int32 → Int32 → Int32 → Int32 → FM → Option (Int32 × FM)) (a0 : Nat) (a1 : Int64) (a3 : Int32) (a4 : Int32) (a5 : Int32) (a6 : Int32) (a8 : Int32) (s0 : Int32) (M : FM) : Option (Int32 × FM) := BX101_isLet_64 k22 a0 a1 a3 a4 a5 a6 a8 s0 M
noncomputable def BX101_isLet_62 (g64 : Nat → Int64 → Int32 → Int32 → Int32 → Int32 → Int32 → Int32 → FM → Option (Int32 × FM)) (a0 : Nat) (a1 : Int64) (a3 : Int32) (a4 : Int32) (a5 : Int32) (a6 : Int32) (a7 : Int32) (a8 : Int32) (M : FM) : Option (Int32 × FM) :=
  g64 a0 a1 a3 a4 a5 a6 a8 a7 M
noncomputable def FX101_isLet_62 (n : Nat) (k3 : Nat → Int64 → Int32 → Int32 → Int32 → Int32 → FM → Option (Int32 × FM)) (k22 : Nat → Int64 → Int32 → Int32 → Int32 → Int32 → Int32 → Int32 → FM → Option (Int32 × FM)) (a0 : Nat) (a1 : Int64) (a3 : Int32) (a4 : Int32) (a5 : Int32) (a6 : Int32) (a7 : Int32) (a8 : Int32) (M : FM) : Option (Int32 × FM) := BX101_isLet_62 (FX101_isLet_64 n k3 k22) a0 a1 a3 a4 a5 a6 a7 a8 M
noncomputable def BX101_isLet_22 (g62 : Nat → Int64 → Int32 → Int32 → Int32 → Int32 → Int32 → Int32 → FM → Option (Int32 × FM)) (g64 : Nat → Int64 → Int32 → Int32 → Int32 → Int32 → Int32 → Int32 → FM → Option (Int32 × FM)) (g95 : Nat → Int32 → Int32 → Int32 → Int32 → Int32 → FM → Option (Int32 × FM)) (k3 : Nat → Int64 → Int32 → Int32 → Int32 → Int32 → FM → Option (Int32 × FM)) (a0 : Nat) (a1 : Int64) (a3 : Int32) (a4 : Int32) (a5 : Int32) (a6 : Int32) (a7 : Int32) (a8 : Int32) (M : FM) : Option (Int32 × FM) :=
  fi (a5 ≤ a8) (
    fi (a7 ≤ 0) (
      let x1 : Int32 := a6 + (Int32.ofInt 1)
      k3 a0 a1 a3 a4 a5 x1 M) (
      fi (a3 = 0) (
        g95 a0 a4 a5 a6 a7 (Int32.ofInt 2) M) (
        fi (a3 = (Int32.ofInt 1)) (
          g95 a0 a4 a5 a6 a7 (Int32.ofInt 0) M) (
          g95 a0 a4 a5 a6 a7 (Int32.ofInt 1) M)))) (
    fi (fm_is M 101 101 a0 = true) (
    fi ((lg_cmp (a1 + a8.toInt64) (M.2.1 429 a0 0)) < 0) (
      g62 a0 a1 a3 a4 a5 a6 a7 a8 M) (
      fi (fm_is M 101 101 a0 = true) (
      fi (0 ≤ (lg_cmp (a1 + a8.toInt64) (M.2.1 430 a0 0))) (
        g62 a0 a1 a3 a4 a5 a6 a7 a8 M) (
        g64 a0 a1 a3 a4 a5 a6 a8 (a7 + (Int32.ofInt 1)) M)) none)) none)
noncomputable def FX101_isLet_22 (n : Nat) (k3 : Nat → Int64 → Int32 → Int32 → Int32 → Int32 → FM → Option (Int32 × FM)) (k22 : Nat → Int64 → Int32 → Int32 → Int32 → Int32 → Int32 → Int32 → FM → Option (Int32 × FM)) (a0 : Nat) (a1 : Int64) (a3 : Int32) (a4 : Int32) (a5 : Int32) (a6 : Int32) (a7 : Int32) (a8 : Int32) (M : FM) : Option (Int32 × FM) := BX101_isLet_22 (FX101_isLet_62 n k3 k22) (FX101_isLet_64 n k3 k22) (FX101_isLet_95 n k3 k22) k3 a0 a1 a3 a4 a5 a6 a7 a8 M
noncomputable def BX101_isLet_3 (f0 : Nat → Int32 → FM → Option (FM)) (g155 : Int32 → FM → Option (Int32 × FM)) (k22 : Nat → Int64 → Int32 → Int32 → Int32 → Int32 → Int32 → Int32 → FM → Option (Int32 × FM)) (a0 : Nat) (a1 : Int64) (a3 : Int32) (a4 : Int32) (a5 : Int32) (a6 : Int32) (M : FM) : Option (Int32 × FM) :=
  fi ((Int32.ofInt 8) ≤ a6) (
    fi (a4 = (Int32.ofInt 3)) (
      g155 (Int32.ofInt 1) M) (
      g155 (Int32.ofInt 0) M)) (
    fi (fm_is M 101 101 a0 = true) (
    (f0 a0 a6 M).bind fun M1 =>
    k22 a0 a1 a3 a4 a5 a6 (Int32.ofInt 0) (Int32.ofInt 0) M1) none)
noncomputable def FX101_isLet_3 (n : Nat) (k3 : Nat → Int64 → Int32 → Int32 → Int32 → Int32 → FM → Option (Int32 × FM)) (k22 : Nat → Int64 → Int32 → Int32 → Int32 → Int32 → Int32 → Int32 → FM → Option (Int32 × FM)) (a0 : Nat) (a1 : Int64) (a3 : Int32) (a4 : Int32) (a5 : Int32) (a6 : Int32) (M : FM) : Option (Int32 × FM) := BX101_isLet_3 (FX101_cover n) (FX101_isLet_155 n k3 k22) k22 a0 a1 a3 a4 a5 a6 M
noncomputable def BX101_isLet_0 (k3 : Nat → Int64 → Int32 → Int32 → Int32 → Int32 → FM → Option (Int32 × FM)) (a0 : Nat) (a1 : Int64) (a3 : Int32) (a4 : Int32) (a5 : Int32) (M : FM) : Option (Int32 × FM) :=
  k3 a0 a1 a3 a4 a5 (Int32.ofInt 0) M
noncomputable def FX101_isLet_0 (n : Nat) (k3 : Nat → Int64 → Int32 → Int32 → Int32 → Int32 → FM → Option (Int32 × FM)) (k22 : Nat → Int64 → Int32 → Int32 → Int32 → Int32 → Int32 → Int32 → FM → Option (Int32 × FM)) (a0 : Nat) (a1 : Int64) (a3 : Int32) (a4 : Int32) (a5 : Int32) (M : FM) : Option (Int32 × FM) := BX101_isLet_0 k3 a0 a1 a3 a4 a5 M
noncomputable def FX101_isLet_L (n : Nat) : Nat → (Nat → Int64 → Int32 → Int32 → Int32 → Int32 → FM → Option (Int32 × FM)) × (Nat → Int64 → Int32 → Int32 → Int32 → Int32 → Int32 → Int32 → FM → Option (Int32 × FM))
  | 0 => (fun _ _ _ _ _ _ _ => none, fun _ _ _ _ _ _ _ _ _ => none)
  | j + 1 => (FX101_isLet_3 n (FX101_isLet_L n j).1 (FX101_isLet_L n j).2, FX101_isLet_22 n (FX101_isLet_L n j).1 (FX101_isLet_L n j).2)
noncomputable def FX101_isLet (n : Nat) (a0 : Nat) (a1 : Int64) (a3 : Int32) (a4 : Int32) (a5 : Int32) (M : FM) : Option (Int32 × FM) := FX101_isLet_0 n (FX101_isLet_L n n).1 (FX101_isLet_L n n).2 a0 a1 a3 a4 a5 M
/-! BoardMachineModel$Ram.get(J)I -/
noncomputable def BX93_get_0 (a0 : Nat) (a1 : Int64) (M : FM) : Option (Int32 × FM) :=
  let x1 : Int32 := (a1 - (Int64.ofInt 2147483648)).toInt32
  fi (fm_is M 98 98 a0 = true) (
  fi ((Int32.ofInt 8) = 0) none (
  let x2 : Int32 := (x1 / (Int32.ofInt 8))
  let x3 : Nat := (M.2.2 388 a0 0)
  fi (fm_is M 902 902 x3 = true ∧ fm_in M x3 x2 = true) (
  fi ((Int32.ofInt 8) = 0) none (
  some (((((M.2.1 3 x3 x2.toNatClampNeg).toUInt64 >>> (((Int32.ofInt 8) * (x1 - x1 / (Int32.ofInt 8) * (Int32.ofInt 8))).toInt64.toUInt64 &&& Int64.toUInt64 63)).toInt64).toInt32 &&& (Int32.ofInt 255)), M))) none)) none
noncomputable def FX93_get_0 (a0 : Nat) (a1 : Int64) (M : FM) : Option (Int32 × FM) := BX93_get_0 a0 a1 M
noncomputable def FX93_get (a0 : Nat) (a1 : Int64) (M : FM) : Option (Int32 × FM) := FX93_get_0 a0 a1 M
/-! BoardMachineModel$Ram.number(JI)J -/
noncomputable def BX93_number_8 (f0 : Nat → Int64 → FM → Option (Int32 × FM)) (k8 : Nat → Int64 → Int64 → Int32 → FM → Option (Int64 × FM)) (a0 : Nat) (a1 : Int64) (a4 : Int64) (a6 : Int32) (M : FM) : Option (Int64 × FM) :=
  fi (a6 < 0) (
    some (a4, M)) (
    fi (fm_is M 98 98 a0 = true) (
    (f0 a0 (a1 + a6.toInt64) M).bind fun r1 =>
    let x2 : Int64 := (((Int64.ofInt 256) * a4) + r1.1.toInt64)
    let x3 : Int32 := a6 + (Int32.ofInt (-1))
    k8 a0 a1 x2 x3 r1.2) none)
noncomputable def FX93_number_8 (n : Nat) (k8 : Nat → Int64 → Int64 → Int32 → FM → Option (Int64 × FM)) (a0 : Nat) (a1 : Int64) (a4 : Int64) (a6 : Int32) (M : FM) : Option (Int64 × FM) := BX93_number_8 FX93_get k8 a0 a1 a4 a6 M
noncomputable def BX93_number_0 (k8 : Nat → Int64 → Int64 → Int32 → FM → Option (Int64 × FM)) (a0 : Nat) (a1 : Int64) (a3 : Int32) (M : FM) : Option (Int64 × FM) :=
  let x1 : Int32 := (a3 - (Int32.ofInt 1))
  k8 a0 a1 (Int64.ofInt 0) x1 M
noncomputable def FX93_number_0 (n : Nat) (k8 : Nat → Int64 → Int64 → Int32 → FM → Option (Int64 × FM)) (a0 : Nat) (a1 : Int64) (a3 : Int32) (M : FM) : Option (Int64 × FM) := BX93_number_0 k8 a0 a1 a3 M
noncomputable def FX93_number_L8 (n : Nat) : Nat → Nat → Int64 → Int64 → Int32 → FM → Option (Int64 × FM)
  | 0 => fun _ _ _ _ _ => none
  | j + 1 => FX93_number_8 n (FX93_number_L8 n j)
noncomputable def FX93_number (n : Nat) (a0 : Nat) (a1 : Int64) (a3 : Int32) (M : FM) : Option (Int64 × FM) := FX93_number_0 n (FX93_number_L8 n n) a0 a1 a3 M
/-! BoardMachineModel$Walk.bit(JI)Z -/
noncomputable def BX101_bit_15 (s0 : Int32) (M : FM) : Option (Int32 × FM) :=
  fi (s0 = 0 ∨ s0 = 1) (some (s0, M)) none
noncomputable def FX101_bit_15 (s0 : Int32) (M : FM) : Option (Int32 × FM) := BX101_bit_15 s0 M
noncomputable def BX101_bit_0 (g15 : Int32 → FM → Option (Int32 × FM)) (a0 : Int64) (a2 : Int32) (M : FM) : Option (Int32 × FM) :=
  fi ((lg_cmp ((a0.toUInt64 >>> (a2.toInt64.toUInt64 &&& Int64.toUInt64 63)).toInt64 &&& (Int64.ofInt 1)) (Int64.ofInt 1)) = 0) (
    g15 (Int32.ofInt 1) M) (
    g15 (Int32.ofInt 0) M)
noncomputable def FX101_bit_0 (a0 : Int64) (a2 : Int32) (M : FM) : Option (Int32 × FM) := BX101_bit_0 FX101_bit_15 a0 a2 M
noncomputable def FX101_bit (a0 : Int64) (a2 : Int32) (M : FM) : Option (Int32 × FM) := FX101_bit_0 a0 a2 M
/-! BoardMachineModel$Walk.isBroken(J)Z -/
noncomputable def BX101_isBroken_38 (s0 : Int32) (M : FM) : Option (Int32 × FM) :=
  fi (s0 = 0 ∨ s0 = 1) (some (s0, M)) none
noncomputable def FX101_isBroken_38 (s0 : Int32) (M : FM) : Option (Int32 × FM) := BX101_isBroken_38 s0 M
noncomputable def BX101_isBroken_33 (g38 : Int32 → FM → Option (Int32 × FM)) (M : FM) : Option (Int32 × FM) :=
  g38 (Int32.ofInt 1) M
noncomputable def FX101_isBroken_33 (M : FM) : Option (Int32 × FM) := BX101_isBroken_33 FX101_isBroken_38 M
noncomputable def BX101_isBroken_24 (g33 : FM → Option (Int32 × FM)) (g38 : Int32 → FM → Option (Int32 × FM)) (a0 : Int64) (M : FM) : Option (Int32 × FM) :=
  fi ((lg_cmp ((a0.toUInt64 >>> ((Int32.ofInt 54).toInt64.toUInt64 &&& Int64.toUInt64 63)).toInt64) (Int64.ofInt 0)) = 0) (
    g38 (Int32.ofInt 0) M) (
    g33 M)
noncomputable def FX101_isBroken_24 (a0 : Int64) (M : FM) : Option (Int32 × FM) := BX101_isBroken_24 FX101_isBroken_33 FX101_isBroken_38 a0 M
noncomputable def BX101_isBroken_0 (f0 : Int64 → Int32 → FM → Option (Int32 × FM)) (g24 : Int64 → FM → Option (Int32 × FM)) (g33 : FM → Option (Int32 × FM)) (a0 : Int64) (M : FM) : Option (Int32 × FM) :=
  (f0 a0 (Int32.ofInt 0) M).bind fun r1 =>
  fi (r1.1 = 0) (
    g33 r1.2) (
    (f0 a0 (Int32.ofInt 2) r1.2).bind fun r2 =>
    fi (r2.1 = 0) (
      g24 a0 r2.2) (
      (f0 a0 (Int32.ofInt 1) r2.2).bind fun r3 =>
      fi (r3.1 = 0) (
        g33 r3.2) (
        g24 a0 r3.2)))
noncomputable def FX101_isBroken_0 (a0 : Int64) (M : FM) : Option (Int32 × FM) := BX101_isBroken_0 FX101_bit FX101_isBroken_24 FX101_isBroken_33 a0 M
noncomputable def FX101_isBroken (a0 : Int64) (M : FM) : Option (Int32 × FM) := FX101_isBroken_0 a0 M
/-! BoardMachineModel$Walk.numberIn(J)J -/
noncomputable def BX101_numberIn_0 (a0 : Int64) (M : FM) : Option (Int64 × FM) :=
  some (((a0.toUInt64 >>> ((Int32.ofInt 10).toInt64.toUInt64 &&& Int64.toUInt64 63)).toInt64 &&& (Int64.ofInt 17592186044415)), M)
noncomputable def FX101_numberIn_0 (a0 : Int64) (M : FM) : Option (Int64 × FM) := BX101_numberIn_0 a0 M
noncomputable def FX101_numberIn (a0 : Int64) (M : FM) : Option (Int64 × FM) := FX101_numberIn_0 a0 M
/-! BoardMachineModel$Walk.refuses(JII)Z -/
noncomputable def BX101_refuses_108 (s0 : Int32) (M : FM) : Option (Int32 × FM) :=
  fi (s0 = 0 ∨ s0 = 1) (some (s0, M)) none
noncomputable def FX101_refuses_108 (s0 : Int32) (M : FM) : Option (Int32 × FM) := BX101_refuses_108 s0 M
noncomputable def BX101_refuses_91 (g108 : Int32 → FM → Option (Int32 × FM)) (M : FM) : Option (Int32 × FM) :=
  g108 (Int32.ofInt 0) M
noncomputable def FX101_refuses_91 (M : FM) : Option (Int32 × FM) := BX101_refuses_91 FX101_refuses_108 M
noncomputable def BX101_refuses_87 (g108 : Int32 → FM → Option (Int32 × FM)) (M : FM) : Option (Int32 × FM) :=
  g108 (Int32.ofInt 1) M
noncomputable def FX101_refuses_87 (M : FM) : Option (Int32 × FM) := BX101_refuses_87 FX101_refuses_108 M
noncomputable def BX101_refuses_58 (s0 : Int32) (M : FM) : Option (Int32 × FM) :=
  fi (s0 = 0 ∨ s0 = 1) (some (s0, M)) none
noncomputable def FX101_refuses_58 (s0 : Int32) (M : FM) : Option (Int32 × FM) := BX101_refuses_58 s0 M
noncomputable def BX101_refuses_41 (f0 : Int64 → Int32 → FM → Option (Int32 × FM)) (g58 : Int32 → FM → Option (Int32 × FM)) (g87 : FM → Option (Int32 × FM)) (g91 : FM → Option (Int32 × FM)) (g108 : Int32 → FM → Option (Int32 × FM)) (a0 : Nat) (a1 : Int64) (a3 : Int32) (M : FM) : Option (Int32 × FM) :=
  fi (a3 = 0) (
    (f0 a1 (Int32.ofInt 3) M).bind fun r1 =>
    fi (r1.1 = 0) (
      g58 (Int32.ofInt 1) r1.2) (
      g58 (Int32.ofInt 0) r1.2)) (
    fi (a3 = (Int32.ofInt 1)) (
      (f0 a1 (Int32.ofInt 1) M).bind fun r2 =>
      fi (r2.1 = 0) (
        fi (fm_is r2.2 101 101 a0 = true) (
        fi ((r2.2.1 426 a0 0) = 0) (
          g87 r2.2) (
          (f0 a1 (Int32.ofInt 3) r2.2).bind fun r3 =>
          fi (r3.1 = 0) (
            g87 r3.2) (
            g91 r3.2))) none) (
        g91 r2.2)) (
      (f0 a1 (Int32.ofInt 2) M).bind fun r4 =>
      fi (r4.1 = 0) (
        g108 (Int32.ofInt 1) r4.2) (
        g108 (Int32.ofInt 0) r4.2)))
noncomputable def FX101_refuses_41 (a0 : Nat) (a1 : Int64) (a3 : Int32) (M : FM) : Option (Int32 × FM) := BX101_refuses_41 FX101_bit FX101_refuses_58 FX101_refuses_87 FX101_refuses_91 FX101_refuses_108 a0 a1 a3 M
noncomputable def BX101_refuses_39 (M : FM) : Option (Int32 × FM) :=
  fi ((Int32.ofInt 1) = 0 ∨ (Int32.ofInt 1) = 1) (some ((Int32.ofInt 1), M)) none
noncomputable def FX101_refuses_39 (M : FM) : Option (Int32 × FM) := BX101_refuses_39 M
noncomputable def BX101_refuses_17 (g39 : FM → Option (Int32 × FM)) (g41 : Nat → Int64 → Int32 → FM → Option (Int32 × FM)) (a0 : Nat) (a1 : Int64) (a3 : Int32) (a4 : Int32) (a5 : Int32) (M : FM) : Option (Int32 × FM) :=
  fi (a4 = (Int32.ofInt 1)) (
    fi (a5 = 0) (
      g41 a0 a1 a3 M) (
      fi (a3 = 0) (
        g39 M) (
        fi (fm_is M 101 101 a0 = true) (
        fi ((M.1 425 a0 0) = 0) (
          g39 M) (
          g41 a0 a1 a3 M)) none))) (
    g41 a0 a1 a3 M)
noncomputable def FX101_refuses_17 (a0 : Nat) (a1 : Int64) (a3 : Int32) (a4 : Int32) (a5 : Int32) (M : FM) : Option (Int32 × FM) := BX101_refuses_17 FX101_refuses_39 FX101_refuses_41 a0 a1 a3 a4 a5 M
noncomputable def BX101_refuses_0 (f0 : Int64 → Int32 → FM → Option (Int32 × FM)) (g17 : Nat → Int64 → Int32 → Int32 → Int32 → FM → Option (Int32 × FM)) (g39 : FM → Option (Int32 × FM)) (a0 : Nat) (a1 : Int64) (a3 : Int32) (a4 : Int32) (M : FM) : Option (Int32 × FM) :=
  (f0 a1 (Int32.ofInt 4) M).bind fun r1 =>
  fi (a4 = 0) (
    fi (r1.1 = 0) (
      g39 r1.2) (
      g17 a0 a1 a3 a4 r1.1 r1.2)) (
    g17 a0 a1 a3 a4 r1.1 r1.2)
noncomputable def FX101_refuses_0 (a0 : Nat) (a1 : Int64) (a3 : Int32) (a4 : Int32) (M : FM) : Option (Int32 × FM) := BX101_refuses_0 FX101_bit FX101_refuses_17 FX101_refuses_39 a0 a1 a3 a4 M
noncomputable def FX101_refuses (a0 : Nat) (a1 : Int64) (a3 : Int32) (a4 : Int32) (M : FM) : Option (Int32 × FM) := FX101_refuses_0 a0 a1 a3 a4 M
/-! BoardMachineModel$Ram.keep(JIJ)V -/
noncomputable def BX93_keep_3 (f0 : Nat → Int64 → Int32 → FM → Option (FM)) (k3 : Nat → Int64 → Int32 → Int64 → Int32 → FM → Option (FM)) (a0 : Nat) (a1 : Int64) (a3 : Int32) (a4 : Int64) (a6 : Int32) (M : FM) : Option (FM) :=
  fi (a3 ≤ a6) (
    some M) (
    fi (fm_is M 98 98 a0 = true) (
    (f0 a0 (a1 + a6.toInt64) (((a4.toUInt64 >>> (((Int32.ofInt 8) * a6).toInt64.toUInt64 &&& Int64.toUInt64 63)).toInt64).toInt32) M).bind fun M1 =>
    let x2 : Int32 := a6 + (Int32.ofInt 1)
    k3 a0 a1 a3 a4 x2 M1) none)
noncomputable def FX93_keep_3 (n : Nat) (k3 : Nat → Int64 → Int32 → Int64 → Int32 → FM → Option (FM)) (a0 : Nat) (a1 : Int64) (a3 : Int32) (a4 : Int64) (a6 : Int32) (M : FM) : Option (FM) := BX93_keep_3 (FX93_put n) k3 a0 a1 a3 a4 a6 M
noncomputable def BX93_keep_0 (k3 : Nat → Int64 → Int32 → Int64 → Int32 → FM → Option (FM)) (a0 : Nat) (a1 : Int64) (a3 : Int32) (a4 : Int64) (M : FM) : Option (FM) :=
  k3 a0 a1 a3 a4 (Int32.ofInt 0) M
noncomputable def FX93_keep_0 (n : Nat) (k3 : Nat → Int64 → Int32 → Int64 → Int32 → FM → Option (FM)) (a0 : Nat) (a1 : Int64) (a3 : Int32) (a4 : Int64) (M : FM) : Option (FM) := BX93_keep_0 k3 a0 a1 a3 a4 M
noncomputable def FX93_keep_L3 (n : Nat) : Nat → Nat → Int64 → Int32 → Int64 → Int32 → FM → Option (FM)
  | 0 => fun _ _ _ _ _ _ => none
  | j + 1 => FX93_keep_3 n (FX93_keep_L3 n j)
noncomputable def FX93_keep (n : Nat) (a0 : Nat) (a1 : Int64) (a3 : Int32) (a4 : Int64) (M : FM) : Option (FM) := FX93_keep_0 n (FX93_keep_L3 n n) a0 a1 a3 a4 M
/-! BoardMachineModel$Walk.last(JIIJI)J -/
noncomputable def BX101_last_125 (f1 : Int64 → FM → Option (Int64 × FM)) (a1 : Int64) (a8 : Int64) (a10 : Int64) (M : FM) : Option (Int64 × FM) :=
  (f1 a8 M).bind fun r1 =>
  some ((((Int64.ofInt 4096) * r1.1) + (a1 &&& (((Int64.ofInt 4096) * a10) + (Int64.ofInt 4095)))), r1.2)
noncomputable def FX101_last_125 (n : Nat) (a1 : Int64) (a8 : Int64) (a10 : Int64) (M : FM) : Option (Int64 × FM) := BX101_last_125 FX101_numberIn a1 a8 a10 M
noncomputable def BX101_last_121 (f7 : Nat → Int64 → Int32 → Int64 → FM → Option (FM)) (g125 : Int64 → Int64 → Int64 → FM → Option (Int64 × FM)) (a1 : Int64) (a8 : Int64) (a10 : Int64) (s0 : Nat) (s1 : Int64) (s2 : Int32) (s3 : Int64) (s4 : Int64) (M : FM) : Option (Int64 × FM) :=
  fi (fm_is M 98 98 s0 = true) (
  (f7 s0 s1 s2 (s3 ||| s4) M).bind fun M1 =>
  g125 a1 a8 a10 M1) none
noncomputable def FX101_last_121 (n : Nat) (a1 : Int64) (a8 : Int64) (a10 : Int64) (s0 : Nat) (s1 : Int64) (s2 : Int32) (s3 : Int64) (s4 : Int64) (M : FM) : Option (Int64 × FM) := BX101_last_121 (FX93_keep n) (FX101_last_125 n ) a1 a8 a10 s0 s1 s2 s3 s4 M
noncomputable def BX101_last_79 (f5 : Nat → Int64 → Int32 → Int32 → Int32 → FM → Option (Int32 × FM)) (f6 : Int32 → FM → Option (Int64 × FM)) (g121 : Int64 → Int64 → Int64 → Nat → Int64 → Int32 → Int64 → Int64 → FM → Option (Int64 × FM)) (a0 : Nat) (a1 : Int64) (a3 : Int32) (a5 : Int64) (a8 : Int64) (a10 : Int64) (M : FM) : Option (Int64 × FM) :=
  fi (fm_is M 101 101 a0 = true) (
  (f5 a0 a5 (Int32.ofInt 2) (Int32.ofInt 1) (Int32.ofInt 8) M).bind fun r1 =>
  fi (r1.1 = 0) (
    (f6 a3 r1.2).bind fun r2 =>
    some (r2.1, r2.2)) (
    fi (fm_is r1.2 101 101 a0 = true) (
    fi (a3 = (Int32.ofInt 2)) (
      g121 a1 a8 a10 (r1.2.2.2 423 a0 0) a5 (Int32.ofInt 8) a8 (Int64.ofInt 192) r1.2) (
      g121 a1 a8 a10 (r1.2.2.2 423 a0 0) a5 (Int32.ofInt 8) a8 (Int64.ofInt 64) r1.2)) none)) none
noncomputable def FX101_last_79 (n : Nat) (a0 : Nat) (a1 : Int64) (a3 : Int32) (a5 : Int64) (a8 : Int64) (a10 : Int64) (M : FM) : Option (Int64 × FM) := BX101_last_79 (FX101_isLet n) FX101_accessFault (FX101_last_121 n ) a0 a1 a3 a5 a8 a10 M
noncomputable def BX101_last_49 (f2 : Int32 → FM → Option (Int64 × FM)) (a3 : Int32) (M : FM) : Option (Int64 × FM) :=
  (f2 a3 M).bind fun r1 =>
  some (r1.1, r1.2)
noncomputable def FX101_last_49 (n : Nat) (a3 : Int32) (M : FM) : Option (Int64 × FM) := BX101_last_49 FX101_pageFault a3 M
noncomputable def BX101_last_0 (f0 : Nat → Int64 → Int32 → FM → Option (Int64 × FM)) (f1 : Int64 → FM → Option (Int64 × FM)) (f3 : Nat → Int64 → Int32 → Int32 → FM → Option (Int32 × FM)) (f4 : Int64 → Int32 → FM → Option (Int32 × FM)) (g49 : Int32 → FM → Option (Int64 × FM)) (g79 : Nat → Int64 → Int32 → Int64 → Int64 → Int64 → FM → Option (Int64 × FM)) (g125 : Int64 → Int64 → Int64 → FM → Option (Int64 × FM)) (a0 : Nat) (a1 : Int64) (a3 : Int32) (a4 : Int32) (a5 : Int64) (a7 : Int32) (M : FM) : Option (Int64 × FM) :=
  fi (fm_is M 101 101 a0 = true) (
  let x1 : Nat := (M.2.2 423 a0 0)
  fi (fm_is M 98 98 x1 = true) (
  (f0 x1 a5 (Int32.ofInt 8) M).bind fun r2 =>
  let x3 : Int64 := (((Int64.ofInt 1) <<< (((Int32.ofInt 9) * a7).toInt64 &&& 63)) - (Int64.ofInt 1))
  (f1 r2.1 r2.2).bind fun r4 =>
  fi ((lg_cmp (r4.1 &&& x3) (Int64.ofInt 0)) = 0) (
    fi (fm_is r4.2 101 101 a0 = true) (
    (f3 a0 r2.1 a3 a4 r4.2).bind fun r5 =>
    fi (r5.1 = 0) (
      (f4 r2.1 (Int32.ofInt 6) r5.2).bind fun r6 =>
      fi (r6.1 = 0) (
        g79 a0 a1 a3 a5 r2.1 x3 r6.2) (
        fi (a3 = (Int32.ofInt 2)) (
          (f4 r2.1 (Int32.ofInt 7) r6.2).bind fun r7 =>
          fi (r7.1 = 0) (
            g79 a0 a1 a3 a5 r2.1 x3 r7.2) (
            g125 a1 r2.1 x3 r7.2)) (
          g125 a1 r2.1 x3 r6.2))) (
      g49 a3 r5.2)) none) (
    g49 a3 r4.2)) none) none
noncomputable def FX101_last_0 (n : Nat) (a0 : Nat) (a1 : Int64) (a3 : Int32) (a4 : Int32) (a5 : Int64) (a7 : Int32) (M : FM) : Option (Int64 × FM) := BX101_last_0 (FX93_number n) FX101_numberIn FX101_refuses FX101_bit (FX101_last_49 n ) (FX101_last_79 n ) (FX101_last_125 n ) a0 a1 a3 a4 a5 a7 M
noncomputable def FX101_last (n : Nat) (a0 : Nat) (a1 : Int64) (a3 : Int32) (a4 : Int32) (a5 : Int64) (a7 : Int32) (M : FM) : Option (Int64 × FM) := FX101_last_0 n a0 a1 a3 a4 a5 a7 M
/-! BoardMachineModel$Walk.walk(JII)J -/
noncomputable def BX101_walk_222 (f1 : Int32 → FM → Option (Int64 × FM)) (a3 : Int32) (M : FM) : Option (Int64 × FM) :=
  (f1 a3 M).bind fun r1 =>
  some (r1.1, r1.2)
noncomputable def FX101_walk_222 (n : Nat) (k70 : Nat → Int64 → Int32 → Int32 → Int64 → Int32 → FM → Option (Int64 × FM)) (a3 : Int32) (M : FM) : Option (Int64 × FM) := BX101_walk_222 FX101_pageFault a3 M
noncomputable def BX101_walk_175 (f8 : Nat → Int64 → Int32 → Int32 → Int64 → Int32 → FM → Option (Int64 × FM)) (a0 : Nat) (a1 : Int64) (a3 : Int32) (a4 : Int32) (a10 : Int32) (a11 : Int64) (M : FM) : Option (Int64 × FM) :=
  fi (fm_is M 101 101 a0 = true) (
  (f8 a0 a1 a3 a4 a11 a10 M).bind fun r1 =>
  some (r1.1, r1.2)) none
noncomputable def FX101_walk_175 (n : Nat) (k70 : Nat → Int64 → Int32 → Int32 → Int64 → Int32 → FM → Option (Int64 × FM)) (a0 : Nat) (a1 : Int64) (a3 : Int32) (a4 : Int32) (a10 : Int32) (a11 : Int64) (M : FM) : Option (Int64 × FM) := BX101_walk_175 (FX101_last n) a0 a1 a3 a4 a10 a11 M
noncomputable def BX101_walk_126 (f3 : Int32 → FM → Option (Int64 × FM)) (a3 : Int32) (M : FM) : Option (Int64 × FM) :=
  (f3 a3 M).bind fun r1 =>
  some (r1.1, r1.2)
noncomputable def FX101_walk_126 (n : Nat) (k70 : Nat → Int64 → Int32 → Int32 → Int64 → Int32 → FM → Option (Int64 × FM)) (a3 : Int32) (M : FM) : Option (Int64 × FM) := BX101_walk_126 FX101_accessFault a3 M
noncomputable def BX101_walk_70 (f1 : Int32 → FM → Option (Int64 × FM)) (f2 : Int64 → Int64 → FM → Option (Int32 × FM)) (f4 : Nat → Int64 → Int32 → Int32 → Int32 → FM → Option (Int32 × FM)) (f5 : Nat → Int64 → Int32 → FM → Option (Int64 × FM)) (f6 : Int64 → FM → Option (Int32 × FM)) (f7 : Int64 → Int32 → FM → Option (Int32 × FM)) (f9 : Int64 → FM → Option (Int64 × FM)) (g126 : Int32 → FM → Option (Int64 × FM)) (g175 : Nat → Int64 → Int32 → Int32 → Int32 → Int64 → FM → Option (Int64 × FM)) (g222 : Int32 → FM → Option (Int64 × FM)) (k70 : Nat → Int64 → Int32 → Int32 → Int64 → Int32 → FM → Option (Int64 × FM)) (a0 : Nat) (a1 : Int64) (a3 : Int32) (a4 : Int32) (a8 : Int64) (a10 : Int32) (M : FM) : Option (Int64 × FM) :=
  fi (a10 < 0) (
    (f1 a3 M).bind fun r1 =>
    some (r1.1, r1.2)) (
    let x2 : Int64 := (((Int64.ofInt 4096) * a8) + ((Int64.ofInt 8) * ((a1.toUInt64 >>> (((Int32.ofInt 12) + ((Int32.ofInt 9) * a10)).toInt64.toUInt64 &&& Int64.toUInt64 63)).toInt64 &&& (Int64.ofInt 511))))
    (f2 x2 (Int64.ofInt 8) M).bind fun r3 =>
    fi (r3.1 = 0) (
      g126 a3 r3.2) (
      fi (fm_is r3.2 101 101 a0 = true) (
      (f4 a0 x2 (Int32.ofInt 1) (Int32.ofInt 1) (Int32.ofInt 8) r3.2).bind fun r4 =>
      fi (r4.1 = 0) (
        g126 a3 r4.2) (
        fi (fm_is r4.2 101 101 a0 = true) (
        let x5 : Nat := (r4.2.2.2 423 a0 0)
        fi (fm_is r4.2 98 98 x5 = true) (
        (f5 x5 x2 (Int32.ofInt 8) r4.2).bind fun r6 =>
        (f6 r6.1 r6.2).bind fun r7 =>
        fi (r7.1 = 0) (
          (f7 r6.1 (Int32.ofInt 1) r7.2).bind fun r8 =>
          fi (r8.1 = 0) (
            (f7 r6.1 (Int32.ofInt 3) r8.2).bind fun r9 =>
            fi (r9.1 = 0) (
              fi (a10 = 0) (
                g222 a3 r9.2) (
                (f7 r6.1 (Int32.ofInt 4) r9.2).bind fun r10 =>
                fi (r10.1 = 0) (
                  (f7 r6.1 (Int32.ofInt 6) r10.2).bind fun r11 =>
                  fi (r11.1 = 0) (
                    (f7 r6.1 (Int32.ofInt 7) r11.2).bind fun r12 =>
                    fi (r12.1 = 0) (
                      (f9 r6.1 r12.2).bind fun r13 =>
                      let x14 : Int32 := a10 + (Int32.ofInt (-1))
                      k70 a0 a1 a3 a4 r13.1 x14 r13.2) (
                      g222 a3 r12.2)) (
                    g222 a3 r11.2)) (
                  g222 a3 r10.2))) (
              g175 a0 a1 a3 a4 a10 x2 r9.2)) (
            g175 a0 a1 a3 a4 a10 x2 r8.2)) (
          (f1 a3 r7.2).bind fun r15 =>
          some (r15.1, r15.2))) none) none)) none))
noncomputable def FX101_walk_70 (n : Nat) (k70 : Nat → Int64 → Int32 → Int32 → Int64 → Int32 → FM → Option (Int64 × FM)) (a0 : Nat) (a1 : Int64) (a3 : Int32) (a4 : Int32) (a8 : Int64) (a10 : Int32) (M : FM) : Option (Int64 × FM) := BX101_walk_70 FX101_pageFault FX93_areBytes (FX101_isLet n) (FX93_number n) FX101_isBroken FX101_bit FX101_numberIn (FX101_walk_126 n k70) (FX101_walk_175 n k70) (FX101_walk_222 n k70) k70 a0 a1 a3 a4 a8 a10 M
noncomputable def BX101_walk_54 (k70 : Nat → Int64 → Int32 → Int32 → Int64 → Int32 → FM → Option (Int64 × FM)) (a0 : Nat) (a1 : Int64) (a3 : Int32) (a4 : Int32) (a5 : Int32) (M : FM) : Option (Int64 × FM) :=
  fi (fm_is M 101 101 a0 = true) (
  let x1 : Int64 := ((M.2.1 424 a0 0) &&& (Int64.ofInt 17592186044415))
  let x2 : Int32 := (a5 - (Int32.ofInt 1))
  k70 a0 a1 a3 a4 x1 x2 M) none
noncomputable def FX101_walk_54 (n : Nat) (k70 : Nat → Int64 → Int32 → Int32 → Int64 → Int32 → FM → Option (Int64 × FM)) (a0 : Nat) (a1 : Int64) (a3 : Int32) (a4 : Int32) (a5 : Int32) (M : FM) : Option (Int64 × FM) := BX101_walk_54 k70 a0 a1 a3 a4 a5 M
noncomputable def BX101_walk_19 (f1 : Int32 → FM → Option (Int64 × FM)) (g54 : Nat → Int64 → Int32 → Int32 → Int32 → FM → Option (Int64 × FM)) (a0 : Nat) (a1 : Int64) (a3 : Int32) (a4 : Int32) (s0 : Int32) (M : FM) : Option (Int64 × FM) :=
  let x1 : Int64 := (a1 >>> ((((Int32.ofInt 9) * s0) + (Int32.ofInt 11)).toInt64 &&& 63))
  fi ((lg_cmp x1 (Int64.ofInt 0)) = 0) (
    g54 a0 a1 a3 a4 s0 M) (
    fi ((lg_cmp x1 (Int64.ofInt (-1))) = 0) (
      g54 a0 a1 a3 a4 s0 M) (
      (f1 a3 M).bind fun r2 =>
      some (r2.1, r2.2)))
noncomputable def FX101_walk_19 (n : Nat) (k70 : Nat → Int64 → Int32 → Int32 → Int64 → Int32 → FM → Option (Int64 × FM)) (a0 : Nat) (a1 : Int64) (a3 : Int32) (a4 : Int32) (s0 : Int32) (M : FM) : Option (Int64 × FM) := BX101_walk_19 FX101_pageFault (FX101_walk_54 n k70) a0 a1 a3 a4 s0 M
noncomputable def BX101_walk_0 (f0 : Int64 → FM → Option (Int64 × FM)) (g19 : Nat → Int64 → Int32 → Int32 → Int32 → FM → Option (Int64 × FM)) (a0 : Nat) (a1 : Int64) (a3 : Int32) (a4 : Int32) (M : FM) : Option (Int64 × FM) :=
  fi (fm_is M 101 101 a0 = true) (
  (f0 (M.2.1 424 a0 0) M).bind fun r1 =>
  fi ((lg_cmp r1.1 (Int64.ofInt 8)) = 0) (
    g19 a0 a1 a3 a4 (Int32.ofInt 3) r1.2) (
    g19 a0 a1 a3 a4 (Int32.ofInt 4) r1.2)) none
noncomputable def FX101_walk_0 (n : Nat) (k70 : Nat → Int64 → Int32 → Int32 → Int64 → Int32 → FM → Option (Int64 × FM)) (a0 : Nat) (a1 : Int64) (a3 : Int32) (a4 : Int32) (M : FM) : Option (Int64 × FM) := BX101_walk_0 FX101_sortOf (FX101_walk_19 n k70) a0 a1 a3 a4 M
noncomputable def FX101_walk_L70 (n : Nat) : Nat → Nat → Int64 → Int32 → Int32 → Int64 → Int32 → FM → Option (Int64 × FM)
  | 0 => fun _ _ _ _ _ _ _ => none
  | j + 1 => FX101_walk_70 n (FX101_walk_L70 n j)
noncomputable def FX101_walk (n : Nat) (a0 : Nat) (a1 : Int64) (a3 : Int32) (a4 : Int32) (M : FM) : Option (Int64 × FM) := FX101_walk_0 n (FX101_walk_L70 n n) a0 a1 a3 a4 M
/-! BoardMachineModel$Walk.find(JIII)J -/
noncomputable def BX101_find_131 (s0 : Int64) (M : FM) : Option (Int64 × FM) :=
  some (s0, M)
noncomputable def FX101_find_131 (n : Nat) (s0 : Int64) (M : FM) : Option (Int64 × FM) := BX101_find_131 s0 M
noncomputable def BX101_find_122 (g131 : Int64 → FM → Option (Int64 × FM)) (a7 : Int64) (M : FM) : Option (Int64 × FM) :=
  g131 a7 M
noncomputable def FX101_find_122 (n : Nat) (a7 : Int64) (M : FM) : Option (Int64 × FM) := BX101_find_122 (FX101_find_131 n ) a7 M
noncomputable def BX101_find_99 (f4 : Int32 → FM → Option (Int64 × FM)) (f5 : Nat → Int64 → Int32 → Int32 → Int32 → FM → Option (Int32 × FM)) (g122 : Int64 → FM → Option (Int64 × FM)) (g131 : Int64 → FM → Option (Int64 × FM)) (a0 : Nat) (a3 : Int32) (a4 : Int32) (a5 : Int32) (s0 : Int64) (M : FM) : Option (Int64 × FM) :=
  fi ((lg_cmp s0 (Int64.ofInt 0)) < 0) (
    g122 s0 M) (
    fi (fm_is M 101 101 a0 = true) (
    (f5 a0 s0 a3 a4 a5 M).bind fun r1 =>
    fi (r1.1 = 0) (
      (f4 a3 r1.2).bind fun r2 =>
      g131 r2.1 r2.2) (
      g122 s0 r1.2)) none)
noncomputable def FX101_find_99 (n : Nat) (a0 : Nat) (a3 : Int32) (a4 : Int32) (a5 : Int32) (s0 : Int64) (M : FM) : Option (Int64 × FM) := BX101_find_99 FX101_accessFault (FX101_isLet n) (FX101_find_122 n ) (FX101_find_131 n ) a0 a3 a4 a5 s0 M
noncomputable def BX101_find_82 (f3 : Nat → Int64 → Int32 → Int32 → FM → Option (Int64 × FM)) (g99 : Nat → Int32 → Int32 → Int32 → Int64 → FM → Option (Int64 × FM)) (a0 : Nat) (a1 : Int64) (a3 : Int32) (a4 : Int32) (a5 : Int32) (a6 : Int32) (M : FM) : Option (Int64 × FM) :=
  fi (a6 = 0) (
    fi (fm_is M 101 101 a0 = true) (
    (f3 a0 a1 a3 a4 M).bind fun r1 =>
    g99 a0 a3 a4 a5 r1.1 r1.2) none) (
    g99 a0 a3 a4 a5 a1 M)
noncomputable def FX101_find_82 (n : Nat) (a0 : Nat) (a1 : Int64) (a3 : Int32) (a4 : Int32) (a5 : Int32) (a6 : Int32) (M : FM) : Option (Int64 × FM) := BX101_find_82 (FX101_walk n) (FX101_find_99 n ) a0 a1 a3 a4 a5 a6 M
noncomputable def BX101_find_61 (f4 : Int32 → FM → Option (Int64 × FM)) (g82 : Nat → Int64 → Int32 → Int32 → Int32 → Int32 → FM → Option (Int64 × FM)) (a0 : Nat) (a1 : Int64) (a3 : Int32) (a4 : Int32) (a5 : Int32) (s0 : Int32) (M : FM) : Option (Int64 × FM) :=
  fi (s0 = 0) (
    g82 a0 a1 a3 a4 a5 s0 M) (
    fi ((lg_cmp ((a1.toUInt64 >>> ((Int32.ofInt 56).toInt64.toUInt64 &&& Int64.toUInt64 63)).toInt64) (Int64.ofInt 0)) = 0) (
      g82 a0 a1 a3 a4 a5 s0 M) (
      (f4 a3 M).bind fun r1 =>
      some (r1.1, r1.2)))
noncomputable def FX101_find_61 (n : Nat) (a0 : Nat) (a1 : Int64) (a3 : Int32) (a4 : Int32) (a5 : Int32) (s0 : Int32) (M : FM) : Option (Int64 × FM) := BX101_find_61 FX101_accessFault (FX101_find_82 n ) a0 a1 a3 a4 a5 s0 M
noncomputable def BX101_find_56 (g61 : Nat → Int64 → Int32 → Int32 → Int32 → Int32 → FM → Option (Int64 × FM)) (a0 : Nat) (a1 : Int64) (a3 : Int32) (a4 : Int32) (a5 : Int32) (M : FM) : Option (Int64 × FM) :=
  g61 a0 a1 a3 a4 a5 (Int32.ofInt 1) M
noncomputable def FX101_find_56 (n : Nat) (a0 : Nat) (a1 : Int64) (a3 : Int32) (a4 : Int32) (a5 : Int32) (M : FM) : Option (Int64 × FM) := BX101_find_56 (FX101_find_61 n ) a0 a1 a3 a4 a5 M
noncomputable def BX101_find_26 (f2 : Int64 → FM → Option (Int64 × FM)) (g56 : Nat → Int64 → Int32 → Int32 → Int32 → FM → Option (Int64 × FM)) (g61 : Nat → Int64 → Int32 → Int32 → Int32 → Int32 → FM → Option (Int64 × FM)) (a0 : Nat) (a1 : Int64) (a3 : Int32) (a4 : Int32) (a5 : Int32) (s0 : Nat) (s1 : Int32) (M : FM) : Option (Int64 × FM) :=
  fi (fm_is M 101 101 s0 = true) (
  let M1 : FM := fm_sI M 422 s0 0 s1
  fi (fm_is M1 101 101 a0 = true) (
  fi ((M1.1 422 a0 0) ≤ 0) (
    fi (a4 = (Int32.ofInt 3)) (
      g56 a0 a1 a3 a4 a5 M1) (
      fi (fm_is M1 101 101 a0 = true) (
      (f2 (M1.2.1 424 a0 0) M1).bind fun r2 =>
      fi ((lg_cmp r2.1 (Int64.ofInt 0)) = 0) (
        g56 a0 a1 a3 a4 a5 r2.2) (
        g61 a0 a1 a3 a4 a5 (Int32.ofInt 0) r2.2)) none)) (
    some ((Int64.ofInt 0), M1))) none) none
noncomputable def FX101_find_26 (n : Nat) (a0 : Nat) (a1 : Int64) (a3 : Int32) (a4 : Int32) (a5 : Int32) (s0 : Nat) (s1 : Int32) (M : FM) : Option (Int64 × FM) := BX101_find_26 FX101_sortOf (FX101_find_56 n ) (FX101_find_61 n ) a0 a1 a3 a4 a5 s0 s1 M
noncomputable def BX101_find_25 (g26 : Nat → Int64 → Int32 → Int32 → Int32 → Nat → Int32 → FM → Option (Int64 × FM)) (a0 : Nat) (a1 : Int64) (a3 : Int32) (a4 : Int32) (a5 : Int32) (s0 : Nat) (M : FM) : Option (Int64 × FM) :=
  g26 a0 a1 a3 a4 a5 s0 (Int32.ofInt 1) M
noncomputable def FX101_find_25 (n : Nat) (a0 : Nat) (a1 : Int64) (a3 : Int32) (a4 : Int32) (a5 : Int32) (s0 : Nat) (M : FM) : Option (Int64 × FM) := BX101_find_25 (FX101_find_26 n ) a0 a1 a3 a4 a5 s0 M
noncomputable def BX101_find_0 (f0 : Int32 → Int32 → Int32 → FM → Option (Int32 × FM)) (f1 : Int64 → Int32 → FM → Option (Int32 × FM)) (g25 : Nat → Int64 → Int32 → Int32 → Int32 → Nat → FM → Option (Int64 × FM)) (g26 : Nat → Int64 → Int32 → Int32 → Int32 → Nat → Int32 → FM → Option (Int64 × FM)) (a0 : Nat) (a1 : Int64) (a3 : Int32) (a4 : Int32) (a5 : Int32) (M : FM) : Option (Int64 × FM) :=
  (f0 a3 a4 a5 M).bind fun r1 =>
  fi (r1.1 = 0) (
    g25 a0 a1 a3 a4 a5 a0 r1.2) (
    (f1 a1 a5 r1.2).bind fun r2 =>
    fi (r2.1 = 0) (
      g25 a0 a1 a3 a4 a5 a0 r2.2) (
      g26 a0 a1 a3 a4 a5 a0 (Int32.ofInt 0) r2.2))
noncomputable def FX101_find_0 (n : Nat) (a0 : Nat) (a1 : Int64) (a3 : Int32) (a4 : Int32) (a5 : Int32) (M : FM) : Option (Int64 × FM) := BX101_find_0 FX101_isAccess FX101_isWithin (FX101_find_25 n ) (FX101_find_26 n ) a0 a1 a3 a4 a5 M
noncomputable def FX101_find (n : Nat) (a0 : Nat) (a1 : Int64) (a3 : Int32) (a4 : Int32) (a5 : Int32) (M : FM) : Option (Int64 × FM) := FX101_find_0 n a0 a1 a3 a4 a5 M
/-! BoardMachineModel.fail(IJ)Z -/
noncomputable def BX92_fail_0 (a0 : Nat) (a1 : Int32) (a2 : Int64) (M : FM) : Option (Int32 × FM) :=
  fi (fm_is M 92 92 a0 = true) (
  let M1 : FM := fm_sI M 320 a0 0 a1
  fi (fm_is M1 92 92 a0 = true) (
  let M2 : FM := fm_sL M1 321 a0 0 a2
  fi ((Int32.ofInt 0) = 0 ∨ (Int32.ofInt 0) = 1) (some ((Int32.ofInt 0), M2)) none) none) none
noncomputable def FX92_fail_0 (a0 : Nat) (a1 : Int32) (a2 : Int64) (M : FM) : Option (Int32 × FM) := BX92_fail_0 a0 a1 a2 M
noncomputable def FX92_fail (a0 : Nat) (a1 : Int32) (a2 : Int64) (M : FM) : Option (Int32 × FM) := FX92_fail_0 a0 a1 a2 M
/-! BoardMachineModel.half(IJ)I -/
noncomputable def BX92_half_89 (s0 : Int32) (M : FM) : Option (Int32 × FM) :=
  some (s0, M)
noncomputable def FX92_half_89 (n : Nat) (s0 : Int32) (M : FM) : Option (Int32 × FM) := BX92_half_89 s0 M
noncomputable def BX92_half_67 (f4 : Nat → Int64 → Int32 → FM → Option (Int64 × FM)) (g89 : Int32 → FM → Option (Int32 × FM)) (a0 : Nat) (a4 : Int64) (s0 : Int32) (M : FM) : Option (Int32 × FM) :=
  fi (s0 = 0) (
    g89 (Int32.ofInt (-1)) M) (
    fi (fm_is M 92 92 a0 = true) (
    let x1 : Nat := (M.2.2 298 a0 0)
    fi (fm_is M 98 98 x1 = true) (
    (f4 x1 a4 (Int32.ofInt 2) M).bind fun r2 =>
    g89 r2.1.toInt32 r2.2) none) none)
noncomputable def FX92_half_67 (n : Nat) (a0 : Nat) (a4 : Int64) (s0 : Int32) (M : FM) : Option (Int32 × FM) := BX92_half_67 (FX93_number n) (FX92_half_89 n ) a0 a4 s0 M
noncomputable def BX92_half_62 (g67 : Nat → Int64 → Int32 → FM → Option (Int32 × FM)) (a0 : Nat) (a4 : Int64) (M : FM) : Option (Int32 × FM) :=
  g67 a0 a4 (Int32.ofInt 1) M
noncomputable def FX92_half_62 (n : Nat) (a0 : Nat) (a4 : Int64) (M : FM) : Option (Int32 × FM) := BX92_half_62 (FX92_half_67 n ) a0 a4 M
noncomputable def BX92_half_0 (f0 : Nat → FM → Option (Int32 × FM)) (f1 : Nat → Int64 → Int32 → Int32 → Int32 → FM → Option (Int64 × FM)) (f2 : Int64 → Int64 → FM → Option (Int32 × FM)) (f3 : Nat → Int32 → Int64 → FM → Option (Int32 × FM)) (g62 : Nat → Int64 → FM → Option (Int32 × FM)) (g67 : Nat → Int64 → Int32 → FM → Option (Int32 × FM)) (a0 : Nat) (a1 : Int32) (a2 : Int64) (M : FM) : Option (Int32 × FM) :=
  fi (fm_is M 92 92 a0 = true) (
  let x1 : Nat := (M.2.2 306 a0 0)
  fi (fm_is M 910 990 x1 = true ∧ fm_in M x1 a1 = true) (
  fi (fm_is M 92 92 a0 = true) (
  let x2 : Nat := (M.2.2 305 a0 0)
  fi (fm_is M 910 990 x2 = true ∧ fm_in M x2 a1 = true) (
  let x3 : Nat := (M.2.2 3 x2 a1.toNatClampNeg)
  fi (fm_is M 95 95 x3 = true) (
  (f0 x3 M).bind fun r4 =>
  let x5 : Nat := (M.2.2 3 x1 a1.toNatClampNeg)
  fi (fm_is r4.2 101 101 x5 = true) (
  (f1 x5 a2 (Int32.ofInt 0) r4.1 (Int32.ofInt 2) r4.2).bind fun r6 =>
  fi (0 ≤ (lg_cmp r6.1 (Int64.ofInt 0))) (
    (f2 r6.1 (Int64.ofInt 2) r6.2).bind fun r7 =>
    fi (r7.1 = 0) (
      fi (fm_is r7.2 92 92 a0 = true) (
      (f3 a0 (Int32.ofInt 1) a2 r7.2).bind fun r8 =>
      fi (r8.1 = 0) (
        g67 a0 r6.1 (Int32.ofInt 0) r8.2) (
        g62 a0 r6.1 r8.2)) none) (
      g62 a0 r6.1 r7.2)) (
    fi (fm_is r6.2 92 92 a0 = true) (
    (f3 a0 ((-r6.1).toInt32) a2 r6.2).bind fun r9 =>
    g67 a0 r6.1 r9.1 r9.2) none)) none) none) none) none) none) none
noncomputable def FX92_half_0 (n : Nat) (a0 : Nat) (a1 : Int32) (a2 : Int64) (M : FM) : Option (Int32 × FM) := BX92_half_0 FX100_mode (FX101_find n) FX93_areBytes FX92_fail (FX92_half_62 n ) (FX92_half_67 n ) a0 a1 a2 M
noncomputable def FX92_half (n : Nat) (a0 : Nat) (a1 : Int32) (a2 : Int64) (M : FM) : Option (Int32 × FM) := FX92_half_0 n a0 a1 a2 M
/-! BoardMachineModel$Halves.bits(II)I -/
noncomputable def BX94_bits_5 (k5 : Nat → Int32 → Int32 → Int32 → FM → Option (Int32 × FM)) (a0 : Nat) (a2 : Int32) (a3 : Int32) (a4 : Int32) (M : FM) : Option (Int32 × FM) :=
  fi (a4 < a2) (
    some (a3, M)) (
    fi (fm_is M 97 97 a0 = true) (
    let x1 : Int32 := (((Int32.ofInt 2) * a3) + (((M.1 387 a0 0) >>> (a4 &&& 31)) &&& (Int32.ofInt 1)))
    let x2 : Int32 := a4 + (Int32.ofInt (-1))
    k5 a0 a2 x1 x2 M) none)
noncomputable def FX94_bits_5 (n : Nat) (k5 : Nat → Int32 → Int32 → Int32 → FM → Option (Int32 × FM)) (a0 : Nat) (a2 : Int32) (a3 : Int32) (a4 : Int32) (M : FM) : Option (Int32 × FM) := BX94_bits_5 k5 a0 a2 a3 a4 M
noncomputable def BX94_bits_0 (k5 : Nat → Int32 → Int32 → Int32 → FM → Option (Int32 × FM)) (a0 : Nat) (a1 : Int32) (a2 : Int32) (M : FM) : Option (Int32 × FM) :=
  k5 a0 a2 (Int32.ofInt 0) a1 M
noncomputable def FX94_bits_0 (n : Nat) (k5 : Nat → Int32 → Int32 → Int32 → FM → Option (Int32 × FM)) (a0 : Nat) (a1 : Int32) (a2 : Int32) (M : FM) : Option (Int32 × FM) := BX94_bits_0 k5 a0 a1 a2 M
noncomputable def FX94_bits_L5 (n : Nat) : Nat → Nat → Int32 → Int32 → Int32 → FM → Option (Int32 × FM)
  | 0 => fun _ _ _ _ _ => none
  | j + 1 => FX94_bits_5 n (FX94_bits_L5 n j)
noncomputable def FX94_bits (n : Nat) (a0 : Nat) (a1 : Int32) (a2 : Int32) (M : FM) : Option (Int32 × FM) := FX94_bits_0 n (FX94_bits_L5 n n) a0 a1 a2 M
/-! BoardMachineModel$Halves.eights()I -/
noncomputable def BX94_eights_0 (f0 : Nat → Int32 → Int32 → FM → Option (Int32 × FM)) (a0 : Nat) (M : FM) : Option (Int32 × FM) :=
  fi (fm_is M 97 97 a0 = true) (
  (f0 a0 (Int32.ofInt 6) (Int32.ofInt 5) M).bind fun r1 =>
  fi (fm_is r1.2 97 97 a0 = true) (
  (f0 a0 (Int32.ofInt 12) (Int32.ofInt 10) r1.2).bind fun r2 =>
  some ((((Int32.ofInt 64) * r1.1) + ((Int32.ofInt 8) * r2.1)), r2.2)) none) none
noncomputable def FX94_eights_0 (n : Nat) (a0 : Nat) (M : FM) : Option (Int32 × FM) := BX94_eights_0 (FX94_bits n) a0 M
noncomputable def FX94_eights (n : Nat) (a0 : Nat) (M : FM) : Option (Int32 × FM) := FX94_eights_0 n a0 M
/-! BoardMachineModel$Halves.fours()I -/
noncomputable def BX94_fours_0 (f0 : Nat → Int32 → Int32 → FM → Option (Int32 × FM)) (a0 : Nat) (M : FM) : Option (Int32 × FM) :=
  fi (fm_is M 97 97 a0 = true) (
  (f0 a0 (Int32.ofInt 5) (Int32.ofInt 5) M).bind fun r1 =>
  fi (fm_is r1.2 97 97 a0 = true) (
  (f0 a0 (Int32.ofInt 12) (Int32.ofInt 10) r1.2).bind fun r2 =>
  fi (fm_is r2.2 97 97 a0 = true) (
  (f0 a0 (Int32.ofInt 6) (Int32.ofInt 6) r2.2).bind fun r3 =>
  some (((((Int32.ofInt 64) * r1.1) + ((Int32.ofInt 8) * r2.1)) + ((Int32.ofInt 4) * r3.1)), r3.2)) none) none) none
noncomputable def FX94_fours_0 (n : Nat) (a0 : Nat) (M : FM) : Option (Int32 × FM) := BX94_fours_0 (FX94_bits n) a0 M
noncomputable def FX94_fours (n : Nat) (a0 : Nat) (M : FM) : Option (Int32 × FM) := FX94_fours_0 n a0 M
/-! BoardMachineModel$Halves.wordI(IIIII)I -/
noncomputable def BX94_wordI_0 (a0 : Int32) (a1 : Int32) (a2 : Int32) (a3 : Int32) (a4 : Int32) (M : FM) : Option (Int32 × FM) :=
  some (((((a0 + ((Int32.ofInt 128) * a1)) + ((Int32.ofInt 4096) * a2)) + ((Int32.ofInt 32768) * a3)) + ((Int32.ofInt 1048576) * (a4 &&& (Int32.ofInt 4095)))), M)
noncomputable def FX94_wordI_0 (a0 : Int32) (a1 : Int32) (a2 : Int32) (a3 : Int32) (a4 : Int32) (M : FM) : Option (Int32 × FM) := BX94_wordI_0 a0 a1 a2 a3 a4 M
noncomputable def FX94_wordI (a0 : Int32) (a1 : Int32) (a2 : Int32) (a3 : Int32) (a4 : Int32) (M : FM) : Option (Int32 × FM) := FX94_wordI_0 a0 a1 a2 a3 a4 M
/-! BoardMachineModel$Halves.wordS(IIIII)I -/
noncomputable def BX94_wordS_0 (a0 : Int32) (a1 : Int32) (a2 : Int32) (a3 : Int32) (a4 : Int32) (M : FM) : Option (Int32 × FM) :=
  some ((((((a0 + ((Int32.ofInt 128) * (a4 &&& (Int32.ofInt 31)))) + ((Int32.ofInt 4096) * a1)) + ((Int32.ofInt 32768) * a2)) + ((Int32.ofInt 1048576) * a3)) + ((Int32.ofInt 33554432) * ((a4 >>> ((Int32.ofInt 5) &&& 31)) &&& (Int32.ofInt 127)))), M)
noncomputable def FX94_wordS_0 (a0 : Int32) (a1 : Int32) (a2 : Int32) (a3 : Int32) (a4 : Int32) (M : FM) : Option (Int32 × FM) := BX94_wordS_0 a0 a1 a2 a3 a4 M
noncomputable def FX94_wordS (a0 : Int32) (a1 : Int32) (a2 : Int32) (a3 : Int32) (a4 : Int32) (M : FM) : Option (Int32 × FM) := FX94_wordS_0 a0 a1 a2 a3 a4 M
/-! BoardMachineModel$Halves.quadrant0()I -/
noncomputable def BX94_quadrant0_215 (M : FM) : Option (Int32 × FM) :=
  some ((Int32.ofInt 0), M)
noncomputable def FX94_quadrant0_215 (n : Nat) (M : FM) : Option (Int32 × FM) := BX94_quadrant0_215 M
noncomputable def BX94_quadrant0_138 (s0 : Int32) (M : FM) : Option (Int32 × FM) :=
  some (s0, M)
noncomputable def FX94_quadrant0_138 (n : Nat) (s0 : Int32) (M : FM) : Option (Int32 × FM) := BX94_quadrant0_138 s0 M
noncomputable def BX94_quadrant0_0 (f0 : Nat → Int32 → Int32 → FM → Option (Int32 × FM)) (f1 : Nat → FM → Option (Int32 × FM)) (f2 : Nat → FM → Option (Int32 × FM)) (f3 : Int32 → Int32 → Int32 → Int32 → Int32 → FM → Option (Int32 × FM)) (f4 : Int32 → Int32 → Int32 → Int32 → Int32 → FM → Option (Int32 × FM)) (g138 : Int32 → FM → Option (Int32 × FM)) (g215 : FM → Option (Int32 × FM)) (a0 : Nat) (M : FM) : Option (Int32 × FM) :=
  fi (fm_is M 97 97 a0 = true) (
  (f0 a0 (Int32.ofInt 9) (Int32.ofInt 7) M).bind fun r1 =>
  let x2 : Int32 := ((Int32.ofInt 8) + r1.1)
  fi (fm_is r1.2 97 97 a0 = true) (
  (f0 a0 (Int32.ofInt 4) (Int32.ofInt 2) r1.2).bind fun r3 =>
  let x4 : Int32 := ((Int32.ofInt 8) + r3.1)
  fi (fm_is r3.2 97 97 a0 = true) (
  (f0 a0 (Int32.ofInt 15) (Int32.ofInt 13) r3.2).bind fun r5 =>
  fi (r5.1 = (Int32.ofInt 0)) (
    fi (fm_is r5.2 97 97 a0 = true) (
    (f0 a0 (Int32.ofInt 10) (Int32.ofInt 7) r5.2).bind fun r6 =>
    fi (fm_is r6.2 97 97 a0 = true) (
    (f0 a0 (Int32.ofInt 12) (Int32.ofInt 11) r6.2).bind fun r7 =>
    fi (fm_is r7.2 97 97 a0 = true) (
    (f0 a0 (Int32.ofInt 5) (Int32.ofInt 5) r7.2).bind fun r8 =>
    fi (fm_is r8.2 97 97 a0 = true) (
    (f0 a0 (Int32.ofInt 6) (Int32.ofInt 6) r8.2).bind fun r9 =>
    let x10 : Int32 := (((((Int32.ofInt 64) * r6.1) + ((Int32.ofInt 16) * r7.1)) + ((Int32.ofInt 8) * r8.1)) + ((Int32.ofInt 4) * r9.1))
    fi (x10 = 0) (
      g138 (Int32.ofInt 0) r9.2) (
      (f3 (Int32.ofInt 19) x4 (Int32.ofInt 0) (Int32.ofInt 2) x10 r9.2).bind fun r11 =>
      g138 r11.1 r11.2)) none) none) none) none) (
  fi (r5.1 = (Int32.ofInt 1)) (
    fi (fm_is r5.2 97 97 a0 = true) (
    (f1 a0 r5.2).bind fun r12 =>
    (f3 (Int32.ofInt 7) x4 (Int32.ofInt 3) x2 r12.1 r12.2).bind fun r13 =>
    some (r13.1, r13.2)) none) (
  fi (r5.1 = (Int32.ofInt 2)) (
    fi (fm_is r5.2 97 97 a0 = true) (
    (f2 a0 r5.2).bind fun r14 =>
    (f3 (Int32.ofInt 3) x4 (Int32.ofInt 2) x2 r14.1 r14.2).bind fun r15 =>
    some (r15.1, r15.2)) none) (
  fi (r5.1 = (Int32.ofInt 3)) (
    fi (fm_is r5.2 97 97 a0 = true) (
    (f1 a0 r5.2).bind fun r16 =>
    (f3 (Int32.ofInt 3) x4 (Int32.ofInt 3) x2 r16.1 r16.2).bind fun r17 =>
    some (r17.1, r17.2)) none) (
  fi (r5.1 = (Int32.ofInt 4)) (
    g215 r5.2) (
  fi (r5.1 = (Int32.ofInt 5)) (
    fi (fm_is r5.2 97 97 a0 = true) (
    (f1 a0 r5.2).bind fun r18 =>
    (f4 (Int32.ofInt 39) (Int32.ofInt 3) x2 x4 r18.1 r18.2).bind fun r19 =>
    some (r19.1, r19.2)) none) (
  fi (r5.1 = (Int32.ofInt 6)) (
    fi (fm_is r5.2 97 97 a0 = true) (
    (f2 a0 r5.2).bind fun r20 =>
    (f4 (Int32.ofInt 35) (Int32.ofInt 2) x2 x4 r20.1 r20.2).bind fun r21 =>
    some (r21.1, r21.2)) none) (
  fi (r5.1 = (Int32.ofInt 7)) (
    fi (fm_is r5.2 97 97 a0 = true) (
    (f1 a0 r5.2).bind fun r22 =>
    (f4 (Int32.ofInt 35) (Int32.ofInt 3) x2 x4 r22.1 r22.2).bind fun r23 =>
    some (r23.1, r23.2)) none) (
  g215 r5.2))))))))) none) none) none
noncomputable def FX94_quadrant0_0 (n : Nat) (a0 : Nat) (M : FM) : Option (Int32 × FM) := BX94_quadrant0_0 (FX94_bits n) (FX94_eights n) (FX94_fours n) FX94_wordI FX94_wordS (FX94_quadrant0_138 n ) (FX94_quadrant0_215 n ) a0 M
noncomputable def FX94_quadrant0 (n : Nat) (a0 : Nat) (M : FM) : Option (Int32 × FM) := FX94_quadrant0_0 n a0 M
/-! BoardMachineModel$Halves.plain()I -/
noncomputable def BX94_plain_0 (f0 : Nat → Int32 → Int32 → FM → Option (Int32 × FM)) (a0 : Nat) (M : FM) : Option (Int32 × FM) :=
  fi (fm_is M 97 97 a0 = true) (
  (f0 a0 (Int32.ofInt 12) (Int32.ofInt 12) M).bind fun r1 =>
  fi (fm_is r1.2 97 97 a0 = true) (
  (f0 a0 (Int32.ofInt 6) (Int32.ofInt 2) r1.2).bind fun r2 =>
  some ((((Int32.ofInt 32) * r1.1) + r2.1), r2.2)) none) none
noncomputable def FX94_plain_0 (n : Nat) (a0 : Nat) (M : FM) : Option (Int32 × FM) := BX94_plain_0 (FX94_bits n) a0 M
noncomputable def FX94_plain (n : Nat) (a0 : Nat) (M : FM) : Option (Int32 × FM) := FX94_plain_0 n a0 M
/-! BoardMachineModel$Halves.signed()I -/
noncomputable def BX94_signed_0 (f0 : Nat → FM → Option (Int32 × FM)) (f1 : Nat → Int32 → Int32 → FM → Option (Int32 × FM)) (a0 : Nat) (M : FM) : Option (Int32 × FM) :=
  fi (fm_is M 97 97 a0 = true) (
  (f0 a0 M).bind fun r1 =>
  fi (fm_is r1.2 97 97 a0 = true) (
  (f1 a0 (Int32.ofInt 12) (Int32.ofInt 12) r1.2).bind fun r2 =>
  some ((r1.1 - ((Int32.ofInt 64) * r2.1)), r2.2)) none) none
noncomputable def FX94_signed_0 (n : Nat) (a0 : Nat) (M : FM) : Option (Int32 × FM) := BX94_signed_0 (FX94_plain n) (FX94_bits n) a0 M
noncomputable def FX94_signed (n : Nat) (a0 : Nat) (M : FM) : Option (Int32 × FM) := FX94_signed_0 n a0 M
/-! BoardMachineModel$Halves.wordR(IIIIII)I -/
noncomputable def BX94_wordR_0 (f0 : Int32 → Int32 → Int32 → Int32 → Int32 → FM → Option (Int32 × FM)) (a0 : Int32) (a1 : Int32) (a2 : Int32) (a3 : Int32) (a4 : Int32) (a5 : Int32) (M : FM) : Option (Int32 × FM) :=
  (f0 a0 a1 a2 a3 (a4 + ((Int32.ofInt 32) * a5)) M).bind fun r1 =>
  some (r1.1, r1.2)
noncomputable def FX94_wordR_0 (a0 : Int32) (a1 : Int32) (a2 : Int32) (a3 : Int32) (a4 : Int32) (a5 : Int32) (M : FM) : Option (Int32 × FM) := BX94_wordR_0 FX94_wordI a0 a1 a2 a3 a4 a5 M
noncomputable def FX94_wordR (a0 : Int32) (a1 : Int32) (a2 : Int32) (a3 : Int32) (a4 : Int32) (a5 : Int32) (M : FM) : Option (Int32 × FM) := FX94_wordR_0 a0 a1 a2 a3 a4 a5 M
/-! BoardMachineModel$Halves.arithmetic()I -/
noncomputable def BX94_arithmetic_0 (f0 : Nat → Int32 → Int32 → FM → Option (Int32 × FM)) (f1 : Nat → FM → Option (Int32 × FM)) (f2 : Nat → FM → Option (Int32 × FM)) (f3 : Int32 → Int32 → Int32 → Int32 → Int32 → FM → Option (Int32 × FM)) (f4 : Int32 → Int32 → Int32 → Int32 → Int32 → Int32 → FM → Option (Int32 × FM)) (a0 : Nat) (M : FM) : Option (Int32 × FM) :=
  fi (fm_is M 97 97 a0 = true) (
  (f0 a0 (Int32.ofInt 9) (Int32.ofInt 7) M).bind fun r1 =>
  let x2 : Int32 := ((Int32.ofInt 8) + r1.1)
  fi (fm_is r1.2 97 97 a0 = true) (
  (f0 a0 (Int32.ofInt 4) (Int32.ofInt 2) r1.2).bind fun r3 =>
  let x4 : Int32 := ((Int32.ofInt 8) + r3.1)
  fi (fm_is r3.2 97 97 a0 = true) (
  (f0 a0 (Int32.ofInt 11) (Int32.ofInt 10) r3.2).bind fun r5 =>
  fi ((Int32.ofInt 2) ≤ r5.1) (
    fi (r5.1 = (Int32.ofInt 2)) (
      fi (fm_is r5.2 97 97 a0 = true) (
      (f2 a0 r5.2).bind fun r6 =>
      (f3 (Int32.ofInt 19) x2 (Int32.ofInt 7) x2 r6.1 r6.2).bind fun r7 =>
      some (r7.1, r7.2)) none) (
      fi (fm_is r5.2 97 97 a0 = true) (
      (f0 a0 (Int32.ofInt 12) (Int32.ofInt 12) r5.2).bind fun r8 =>
      fi (fm_is r8.2 97 97 a0 = true) (
      (f0 a0 (Int32.ofInt 6) (Int32.ofInt 5) r8.2).bind fun r9 =>
      let x10 : Int32 := (((Int32.ofInt 4) * r8.1) + r9.1)
      fi (x10 = (Int32.ofInt 0)) (
        (f4 (Int32.ofInt 51) x2 (Int32.ofInt 0) x2 x4 (Int32.ofInt 32) r9.2).bind fun r11 =>
        some (r11.1, r11.2)) (
      fi (x10 = (Int32.ofInt 1)) (
        (f4 (Int32.ofInt 51) x2 (Int32.ofInt 4) x2 x4 (Int32.ofInt 0) r9.2).bind fun r12 =>
        some (r12.1, r12.2)) (
      fi (x10 = (Int32.ofInt 2)) (
        (f4 (Int32.ofInt 51) x2 (Int32.ofInt 6) x2 x4 (Int32.ofInt 0) r9.2).bind fun r13 =>
        some (r13.1, r13.2)) (
      fi (x10 = (Int32.ofInt 3)) (
        (f4 (Int32.ofInt 51) x2 (Int32.ofInt 7) x2 x4 (Int32.ofInt 0) r9.2).bind fun r14 =>
        some (r14.1, r14.2)) (
      fi (x10 = (Int32.ofInt 4)) (
        (f4 (Int32.ofInt 59) x2 (Int32.ofInt 0) x2 x4 (Int32.ofInt 32) r9.2).bind fun r15 =>
        some (r15.1, r15.2)) (
      fi (x10 = (Int32.ofInt 5)) (
        (f4 (Int32.ofInt 59) x2 (Int32.ofInt 0) x2 x4 (Int32.ofInt 0) r9.2).bind fun r16 =>
        some (r16.1, r16.2)) (
      some ((Int32.ofInt 0), r9.2)))))))) none) none)) (
    fi (fm_is r5.2 97 97 a0 = true) (
    (f1 a0 r5.2).bind fun r17 =>
    (f3 (Int32.ofInt 19) x2 (Int32.ofInt 5) x2 (r17.1 + ((Int32.ofInt 1024) * r5.1)) r17.2).bind fun r18 =>
    some (r18.1, r18.2)) none)) none) none) none
noncomputable def FX94_arithmetic_0 (n : Nat) (a0 : Nat) (M : FM) : Option (Int32 × FM) := BX94_arithmetic_0 (FX94_bits n) (FX94_plain n) (FX94_signed n) FX94_wordI FX94_wordR a0 M
noncomputable def FX94_arithmetic (n : Nat) (a0 : Nat) (M : FM) : Option (Int32 × FM) := FX94_arithmetic_0 n a0 M
/-! BoardMachineModel$Halves.upper(I)I -/
noncomputable def BX94_upper_107 (s0 : Int32) (M : FM) : Option (Int32 × FM) :=
  some (s0, M)
noncomputable def FX94_upper_107 (n : Nat) (s0 : Int32) (M : FM) : Option (Int32 × FM) := BX94_upper_107 s0 M
noncomputable def BX94_upper_78 (s0 : Int32) (M : FM) : Option (Int32 × FM) :=
  some (s0, M)
noncomputable def FX94_upper_78 (n : Nat) (s0 : Int32) (M : FM) : Option (Int32 × FM) := BX94_upper_78 s0 M
noncomputable def BX94_upper_0 (f0 : Nat → FM → Option (Int32 × FM)) (f1 : Nat → Int32 → Int32 → FM → Option (Int32 × FM)) (f2 : Int32 → Int32 → Int32 → Int32 → Int32 → FM → Option (Int32 × FM)) (g78 : Int32 → FM → Option (Int32 × FM)) (g107 : Int32 → FM → Option (Int32 × FM)) (a0 : Nat) (a1 : Int32) (M : FM) : Option (Int32 × FM) :=
  fi (a1 = (Int32.ofInt 2)) (
    fi (fm_is M 97 97 a0 = true) (
    (f1 a0 (Int32.ofInt 4) (Int32.ofInt 3) M).bind fun r1 =>
    fi (fm_is r1.2 97 97 a0 = true) (
    (f1 a0 (Int32.ofInt 5) (Int32.ofInt 5) r1.2).bind fun r2 =>
    fi (fm_is r2.2 97 97 a0 = true) (
    (f1 a0 (Int32.ofInt 2) (Int32.ofInt 2) r2.2).bind fun r3 =>
    fi (fm_is r3.2 97 97 a0 = true) (
    (f1 a0 (Int32.ofInt 6) (Int32.ofInt 6) r3.2).bind fun r4 =>
    fi (fm_is r4.2 97 97 a0 = true) (
    (f1 a0 (Int32.ofInt 12) (Int32.ofInt 12) r4.2).bind fun r5 =>
    let x6 : Int32 := ((((((Int32.ofInt 128) * r1.1) + ((Int32.ofInt 64) * r2.1)) + ((Int32.ofInt 32) * r3.1)) + ((Int32.ofInt 16) * r4.1)) - ((Int32.ofInt 512) * r5.1))
    fi (x6 = 0) (
      g78 (Int32.ofInt 0) r5.2) (
      (f2 (Int32.ofInt 19) (Int32.ofInt 2) (Int32.ofInt 0) (Int32.ofInt 2) x6 r5.2).bind fun r7 =>
      g78 r7.1 r7.2)) none) none) none) none) none) (
    fi (fm_is M 97 97 a0 = true) (
    (f0 a0 M).bind fun r8 =>
    fi (r8.1 = 0) (
      g107 (Int32.ofInt 0) r8.2) (
      fi (fm_is r8.2 97 97 a0 = true) (
      (f0 a0 r8.2).bind fun r9 =>
      g107 (((Int32.ofInt 55) + ((Int32.ofInt 128) * a1)) + ((Int32.ofInt 4096) * r9.1)) r9.2) none)) none)
noncomputable def FX94_upper_0 (n : Nat) (a0 : Nat) (a1 : Int32) (M : FM) : Option (Int32 × FM) := BX94_upper_0 (FX94_signed n) (FX94_bits n) FX94_wordI (FX94_upper_78 n ) (FX94_upper_107 n ) a0 a1 M
noncomputable def FX94_upper (n : Nat) (a0 : Nat) (a1 : Int32) (M : FM) : Option (Int32 × FM) := FX94_upper_0 n a0 a1 M
/-! BoardMachineModel$Halves.bit(III)I -/
noncomputable def BX94_bit_0 (a0 : Int32) (a1 : Int32) (a2 : Int32) (M : FM) : Option (Int32 × FM) :=
  some ((((a0 >>> (a1 &&& 31)) &&& (Int32.ofInt 1)) <<< (a2 &&& 31)), M)
noncomputable def FX94_bit_0 (a0 : Int32) (a1 : Int32) (a2 : Int32) (M : FM) : Option (Int32 × FM) := BX94_bit_0 a0 a1 a2 M
noncomputable def FX94_bit (a0 : Int32) (a1 : Int32) (a2 : Int32) (M : FM) : Option (Int32 × FM) := FX94_bit_0 a0 a1 a2 M
/-! BoardMachineModel$Halves.wordB(III)I -/
noncomputable def BX94_wordB_65 (f0 : Int32 → Int32 → Int32 → FM → Option (Int32 × FM)) (k35 : Int32 → Int32 → Int32 → FM → Option (Int32 × FM)) (a2 : Int32) (a4 : Int32) (s0 : Int32) (s1 : Int32) (s2 : Int32) (s3 : Int32) (M : FM) : Option (Int32 × FM) :=
  (f0 s1 s2 s3 M).bind fun r1 =>
  let x2 : Int32 := (s0 + r1.1)
  let x3 : Int32 := a4 + (Int32.ofInt 1)
  k35 a2 x2 x3 r1.2
noncomputable def FX94_wordB_65 (n : Nat) (k35 : Int32 → Int32 → Int32 → FM → Option (Int32 × FM)) (a2 : Int32) (a4 : Int32) (s0 : Int32) (s1 : Int32) (s2 : Int32) (s3 : Int32) (M : FM) : Option (Int32 × FM) := BX94_wordB_65 FX94_bit k35 a2 a4 s0 s1 s2 s3 M
noncomputable def BX94_wordB_35 (g65 : Int32 → Int32 → Int32 → Int32 → Int32 → Int32 → FM → Option (Int32 × FM)) (a2 : Int32) (a3 : Int32) (a4 : Int32) (M : FM) : Option (Int32 × FM) :=
  fi ((Int32.ofInt 11) ≤ a4) (
    some (a3, M)) (
    fi ((Int32.ofInt 5) ≤ a4) (
      g65 a2 a4 a3 a2 a4 (a4 + (Int32.ofInt 20)) M) (
      g65 a2 a4 a3 a2 a4 (a4 + (Int32.ofInt 7)) M))
noncomputable def FX94_wordB_35 (n : Nat) (k35 : Int32 → Int32 → Int32 → FM → Option (Int32 × FM)) (a2 : Int32) (a3 : Int32) (a4 : Int32) (M : FM) : Option (Int32 × FM) := BX94_wordB_35 (FX94_wordB_65 n k35) a2 a3 a4 M
noncomputable def BX94_wordB_0 (f0 : Int32 → Int32 → Int32 → FM → Option (Int32 × FM)) (k35 : Int32 → Int32 → Int32 → FM → Option (Int32 × FM)) (a0 : Int32) (a1 : Int32) (a2 : Int32) (M : FM) : Option (Int32 × FM) :=
  (f0 a2 (Int32.ofInt 11) (Int32.ofInt 7) M).bind fun r1 =>
  (f0 a2 (Int32.ofInt 12) (Int32.ofInt 31) r1.2).bind fun r2 =>
  let x3 : Int32 := (((((Int32.ofInt 99) + ((Int32.ofInt 4096) * a0)) + ((Int32.ofInt 32768) * a1)) + r1.1) + r2.1)
  k35 a2 x3 (Int32.ofInt 1) r2.2
noncomputable def FX94_wordB_0 (n : Nat) (k35 : Int32 → Int32 → Int32 → FM → Option (Int32 × FM)) (a0 : Int32) (a1 : Int32) (a2 : Int32) (M : FM) : Option (Int32 × FM) := BX94_wordB_0 FX94_bit k35 a0 a1 a2 M
noncomputable def FX94_wordB_L35 (n : Nat) : Nat → Int32 → Int32 → Int32 → FM → Option (Int32 × FM)
  | 0 => fun _ _ _ _ => none
  | j + 1 => FX94_wordB_35 n (FX94_wordB_L35 n j)
noncomputable def FX94_wordB (n : Nat) (a0 : Int32) (a1 : Int32) (a2 : Int32) (M : FM) : Option (Int32 × FM) := FX94_wordB_0 n (FX94_wordB_L35 n n) a0 a1 a2 M
/-! BoardMachineModel$Halves.wordJ(I)I -/
noncomputable def BX94_wordJ_60 (k23 : Int32 → Int32 → Int32 → FM → Option (Int32 × FM)) (a0 : Int32) (a2 : Int32) (s0 : Int32) (M : FM) : Option (Int32 × FM) :=
  let x1 : Int32 := a2 + (Int32.ofInt 1)
  k23 a0 s0 x1 M
noncomputable def FX94_wordJ_60 (n : Nat) (k23 : Int32 → Int32 → Int32 → FM → Option (Int32 × FM)) (a0 : Int32) (a2 : Int32) (s0 : Int32) (M : FM) : Option (Int32 × FM) := BX94_wordJ_60 k23 a0 a2 s0 M
noncomputable def BX94_wordJ_56 (f0 : Int32 → Int32 → Int32 → FM → Option (Int32 × FM)) (g60 : Int32 → Int32 → Int32 → FM → Option (Int32 × FM)) (a0 : Int32) (a2 : Int32) (s0 : Int32) (s1 : Int32) (s2 : Int32) (s3 : Int32) (M : FM) : Option (Int32 × FM) :=
  (f0 s1 s2 s3 M).bind fun r1 =>
  g60 a0 a2 (s0 + r1.1) r1.2
noncomputable def FX94_wordJ_56 (n : Nat) (k23 : Int32 → Int32 → Int32 → FM → Option (Int32 × FM)) (a0 : Int32) (a2 : Int32) (s0 : Int32) (s1 : Int32) (s2 : Int32) (s3 : Int32) (M : FM) : Option (Int32 × FM) := BX94_wordJ_56 FX94_bit (FX94_wordJ_60 n k23) a0 a2 s0 s1 s2 s3 M
noncomputable def BX94_wordJ_23 (g56 : Int32 → Int32 → Int32 → Int32 → Int32 → Int32 → FM → Option (Int32 × FM)) (g60 : Int32 → Int32 → Int32 → FM → Option (Int32 × FM)) (a0 : Int32) (a1 : Int32) (a2 : Int32) (M : FM) : Option (Int32 × FM) :=
  fi ((Int32.ofInt 20) ≤ a2) (
    some (a1, M)) (
    fi (a2 = (Int32.ofInt 11)) (
      g60 a0 a2 a1 M) (
      fi ((Int32.ofInt 11) ≤ a2) (
        g56 a0 a2 a1 a0 a2 a2 M) (
        g56 a0 a2 a1 a0 a2 (a2 + (Int32.ofInt 20)) M)))
noncomputable def FX94_wordJ_23 (n : Nat) (k23 : Int32 → Int32 → Int32 → FM → Option (Int32 × FM)) (a0 : Int32) (a1 : Int32) (a2 : Int32) (M : FM) : Option (Int32 × FM) := BX94_wordJ_23 (FX94_wordJ_56 n k23) (FX94_wordJ_60 n k23) a0 a1 a2 M
noncomputable def BX94_wordJ_0 (f0 : Int32 → Int32 → Int32 → FM → Option (Int32 × FM)) (k23 : Int32 → Int32 → Int32 → FM → Option (Int32 × FM)) (a0 : Int32) (M : FM) : Option (Int32 × FM) :=
  (f0 a0 (Int32.ofInt 11) (Int32.ofInt 20) M).bind fun r1 =>
  (f0 a0 (Int32.ofInt 20) (Int32.ofInt 31) r1.2).bind fun r2 =>
  let x3 : Int32 := (((Int32.ofInt 111) + r1.1) + r2.1)
  k23 a0 x3 (Int32.ofInt 1) r2.2
noncomputable def FX94_wordJ_0 (n : Nat) (k23 : Int32 → Int32 → Int32 → FM → Option (Int32 × FM)) (a0 : Int32) (M : FM) : Option (Int32 × FM) := BX94_wordJ_0 FX94_bit k23 a0 M
noncomputable def FX94_wordJ_L23 (n : Nat) : Nat → Int32 → Int32 → Int32 → FM → Option (Int32 × FM)
  | 0 => fun _ _ _ _ => none
  | j + 1 => FX94_wordJ_23 n (FX94_wordJ_L23 n j)
noncomputable def FX94_wordJ (n : Nat) (a0 : Int32) (M : FM) : Option (Int32 × FM) := FX94_wordJ_0 n (FX94_wordJ_L23 n n) a0 M
