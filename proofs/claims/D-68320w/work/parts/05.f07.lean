/-! functions of methods, printed by gen/defs.py -/
set_option maxRecDepth 100000
/-! BoardMachineModel$Block.oneMore()Z -/
noncomputable def BX95_oneMore_111 (M : FM) : Option (Int32 × FM) :=
  fi ((Int32.ofInt 0) = 0 ∨ (Int32.ofInt 0) = 1) (some ((Int32.ofInt 0), M)) none
noncomputable def FX95_oneMore_111 (n : Nat) (M : FM) : Option (Int32 × FM) := BX95_oneMore_111 M
noncomputable def BX95_oneMore_0 (f0 : Int64 → Int64 → FM → Option (Int32 × FM)) (f1 : Nat → Int64 → Int32 → FM → Option (Int64 × FM)) (f2 : Nat → Int32 → FM → Option (Int32 × FM)) (f3 : Nat → FM → Option (Int64 × FM)) (f4 : Nat → Int64 → Int32 → Int64 → FM → Option (FM)) (g111 : FM → Option (Int32 × FM)) (a0 : Nat) (M : FM) : Option (Int32 × FM) :=
  fi (fm_is M 93 93 a0 = true) (
  let x1 : Nat := (M.2.2 334 a0 0)
  fi (fm_is M 902 902 x1 = true ∧ fm_in M x1 (Int32.ofInt 1) = true) (
  fi (fm_is M 93 93 a0 = true) (
  fi (fm_is M 93 93 a0 = true) (
  let x2 : Int32 := (M.1 330 a0 0)
  let x3 : Int32 := (M.1 335 a0 0)
  fi (x2 = 0) none (
  let x4 : Int64 := (((M.2.1 3 x1 (Int32.ofInt 1).toNatClampNeg) + (Int64.ofInt 4)) + ((Int64.ofInt 2) * (x3 - x3 / x2 * x2).toInt64))
  (f0 x4 (Int64.ofInt 2) M).bind fun r5 =>
  fi (r5.1 = 0) (
    fi ((Int32.ofInt 0) = 0 ∨ (Int32.ofInt 0) = 1) (some ((Int32.ofInt 0), r5.2)) none) (
    fi (fm_is r5.2 93 93 a0 = true) (
    (f1 a0 x4 (Int32.ofInt 2) r5.2).bind fun r6 =>
    let x7 : Int32 := r6.1.toInt32
    fi (fm_is r6.2 93 93 a0 = true) (
    let x8 : Nat := (r6.2.2.2 334 a0 0)
    fi (fm_is r6.2 902 902 x8 = true ∧ fm_in r6.2 x8 (Int32.ofInt 2) = true) (
    fi (fm_is r6.2 93 93 a0 = true) (
    fi (fm_is r6.2 93 93 a0 = true) (
    let x9 : Int32 := (r6.2.1 330 a0 0)
    let x10 : Int32 := (r6.2.1 336 a0 0)
    fi (x9 = 0) none (
    let x11 : Int64 := (((r6.2.2.1 3 x8 (Int32.ofInt 2).toNatClampNeg) + (Int64.ofInt 4)) + ((Int64.ofInt 8) * (x10 - x10 / x9 * x9).toInt64))
    fi (fm_is r6.2 93 93 a0 = true) (
    (f2 a0 x7 r6.2).bind fun r12 =>
    fi (r12.1 = 0) (
      g111 r12.2) (
      (f0 x11 (Int64.ofInt 8) r12.2).bind fun r13 =>
      fi (r13.1 = 0) (
        g111 r13.2) (
        fi (fm_is r13.2 93 93 a0 = true) (
        let x14 : Nat := (r13.2.2.2 334 a0 0)
        fi (fm_is r13.2 902 902 x14 = true ∧ fm_in r13.2 x14 (Int32.ofInt 2) = true) (
        (f0 ((r13.2.2.1 3 x14 (Int32.ofInt 2).toNatClampNeg) + (Int64.ofInt 2)) (Int64.ofInt 2) r13.2).bind fun r15 =>
        fi (r15.1 = 0) (
          g111 r15.2) (
          fi (fm_is r15.2 93 93 a0 = true) (
          (f3 a0 r15.2).bind fun r16 =>
          fi (fm_is r16.2 93 93 a0 = true) (
          (f4 a0 x11 (Int32.ofInt 4) x7.toInt64 r16.2).bind fun M17 =>
          fi (fm_is M17 93 93 a0 = true) (
          (f4 a0 (x11 + (Int64.ofInt 4)) (Int32.ofInt 4) r16.1 M17).bind fun M18 =>
          fi (fm_is M18 93 93 a0 = true) (
          let x19 : Int32 := ((M18.1 335 a0 0) + (Int32.ofInt 1))
          fi ((Int32.ofInt 65536) = 0) none (
          fi (fm_is M18 93 93 a0 = true) (
          let M20 : FM := fm_sI M18 335 a0 0 (x19 - x19 / (Int32.ofInt 65536) * (Int32.ofInt 65536))
          fi (fm_is M20 93 93 a0 = true) (
          let x21 : Int32 := ((M20.1 336 a0 0) + (Int32.ofInt 1))
          fi ((Int32.ofInt 65536) = 0) none (
          fi (fm_is M20 93 93 a0 = true) (
          let M22 : FM := fm_sI M20 336 a0 0 (x21 - x21 / (Int32.ofInt 65536) * (Int32.ofInt 65536))
          fi (fm_is M22 93 93 a0 = true) (
          let x23 : Nat := (M22.2.2 334 a0 0)
          fi (fm_is M22 902 902 x23 = true ∧ fm_in M22 x23 (Int32.ofInt 2) = true) (
          fi (fm_is M22 93 93 a0 = true) (
          fi (fm_is M22 93 93 a0 = true) (
          (f4 a0 ((M22.2.1 3 x23 (Int32.ofInt 2).toNatClampNeg) + (Int64.ofInt 2)) (Int32.ofInt 2) ((M22.1 336 a0 0).toInt64) M22).bind fun M24 =>
          fi (fm_is M24 93 93 a0 = true) (
          fi (fm_is M24 93 93 a0 = true) (
          let M25 : FM := fm_sI M24 337 a0 0 ((M24.1 337 a0 0) + (Int32.ofInt 1))
          fi ((Int32.ofInt 1) = 0 ∨ (Int32.ofInt 1) = 1) (some ((Int32.ofInt 1), M25)) none) none) none) none) none) none) none) none)) none) none)) none) none) none) none)) none) none))) none)) none) none) none) none) none))) none) none) none) none
noncomputable def FX95_oneMore_0 (n : Nat) (a0 : Nat) (M : FM) : Option (Int32 × FM) := BX95_oneMore_0 FX95_isThere (FX95_number n) (FX95_gather n) (FX95_request n) (FX95_put n) (FX95_oneMore_111 n ) a0 M
noncomputable def FX95_oneMore (n : Nat) (a0 : Nat) (M : FM) : Option (Int32 × FM) := FX95_oneMore_0 n a0 M
/-! BoardMachineModel$Block.work()V -/
noncomputable def BX95_work_183 (s0 : Nat) (s1 : Int32) (M : FM) : Option (FM) :=
  fi (fm_is M 93 93 s0 = true) (
  let M1 : FM := fm_sI M 332 s0 0 s1
  some M1) none
noncomputable def FX95_work_183 (n : Nat) (k34 : Nat → Int32 → Int64 → Int32 → FM → Option (FM)) (s0 : Nat) (s1 : Int32) (M : FM) : Option (FM) := BX95_work_183 s0 s1 M
noncomputable def BX95_work_179 (g183 : Nat → Int32 → FM → Option (FM)) (a0 : Nat) (s0 : Nat) (M : FM) : Option (FM) :=
  fi (fm_is M 93 93 a0 = true) (
  g183 s0 (M.1 332 a0 0) M) none
noncomputable def FX95_work_179 (n : Nat) (k34 : Nat → Int32 → Int64 → Int32 → FM → Option (FM)) (a0 : Nat) (s0 : Nat) (M : FM) : Option (FM) := BX95_work_179 (FX95_work_183 n k34) a0 s0 M
noncomputable def BX95_work_152 (k34 : Nat → Int32 → Int64 → Int32 → FM → Option (FM)) (a0 : Nat) (a1 : Int32) (a2 : Int64) (a4 : Int32) (M : FM) : Option (FM) :=
  k34 a0 a1 a2 a4 M
noncomputable def FX95_work_152 (n : Nat) (k34 : Nat → Int32 → Int64 → Int32 → FM → Option (FM)) (a0 : Nat) (a1 : Int32) (a2 : Int64) (a4 : Int32) (M : FM) : Option (FM) := BX95_work_152 k34 a0 a1 a2 a4 M
noncomputable def BX95_work_139 (f1 : Nat → FM → Option (FM)) (g152 : Nat → Int32 → Int64 → Int32 → FM → Option (FM)) (a0 : Nat) (a1 : Int32) (a2 : Int64) (M : FM) : Option (FM) :=
  fi (fm_is M 93 93 a0 = true) (
  (f1 a0 M).bind fun M1 =>
  g152 a0 a1 a2 (Int32.ofInt 0) M1) none
noncomputable def FX95_work_139 (n : Nat) (k34 : Nat → Int32 → Int64 → Int32 → FM → Option (FM)) (a0 : Nat) (a1 : Int32) (a2 : Int64) (M : FM) : Option (FM) := BX95_work_139 FX95_breakDown (FX95_work_152 n k34) a0 a1 a2 M
noncomputable def BX95_work_117 (g152 : Nat → Int32 → Int64 → Int32 → FM → Option (FM)) (a0 : Nat) (a1 : Int32) (a2 : Int64) (M : FM) : Option (FM) :=
  g152 a0 a1 a2 (Int32.ofInt 0) M
noncomputable def FX95_work_117 (n : Nat) (k34 : Nat → Int32 → Int64 → Int32 → FM → Option (FM)) (a0 : Nat) (a1 : Int32) (a2 : Int64) (M : FM) : Option (FM) := BX95_work_117 (FX95_work_152 n k34) a0 a1 a2 M
noncomputable def BX95_work_34 (f0 : Int64 → Int64 → FM → Option (Int32 × FM)) (f1 : Nat → FM → Option (FM)) (f2 : Nat → Int64 → Int32 → FM → Option (Int64 × FM)) (f3 : Nat → FM → Option (Int32 × FM)) (g117 : Nat → Int32 → Int64 → FM → Option (FM)) (g139 : Nat → Int32 → Int64 → FM → Option (FM)) (g152 : Nat → Int32 → Int64 → Int32 → FM → Option (FM)) (g179 : Nat → Nat → FM → Option (FM)) (g183 : Nat → Int32 → FM → Option (FM)) (k34 : Nat → Int32 → Int64 → Int32 → FM → Option (FM)) (a0 : Nat) (a1 : Int32) (a2 : Int64) (a4 : Int32) (M : FM) : Option (FM) :=
  fi (a4 = 0) (
    fi (a1 ≤ 0) (
      g179 a0 a0 M) (
      fi ((Int64.ofInt 2) = 0) none (
      fi ((lg_cmp (a2 - a2 / (Int64.ofInt 2) * (Int64.ofInt 2)) (Int64.ofInt 0)) = 0) (
        fi (fm_is M 93 93 a0 = true) (
        g183 a0 ((M.1 332 a0 0) ||| (Int32.ofInt 1)) M) none) (
        g179 a0 a0 M)))) (
    fi (fm_is M 93 93 a0 = true) (
    let x1 : Nat := (M.2.2 334 a0 0)
    fi (fm_is M 902 902 x1 = true ∧ fm_in M x1 (Int32.ofInt 1) = true) (
    (f0 (M.2.1 3 x1 (Int32.ofInt 1).toNatClampNeg) (Int64.ofInt 4) M).bind fun r2 =>
    fi (r2.1 = 0) (
      fi (fm_is r2.2 93 93 a0 = true) (
      (f1 a0 r2.2).bind fun M3 =>
      k34 a0 a1 a2 (Int32.ofInt 0) M3) none) (
      fi (fm_is r2.2 93 93 a0 = true) (
      let x4 : Nat := (r2.2.2.2 334 a0 0)
      fi (fm_is r2.2 902 902 x4 = true ∧ fm_in r2.2 x4 (Int32.ofInt 1) = true) (
      fi (fm_is r2.2 93 93 a0 = true) (
      (f2 a0 (r2.2.2.1 3 x4 (Int32.ofInt 1).toNatClampNeg) (Int32.ofInt 2) r2.2).bind fun r5 =>
      fi (fm_is r5.2 93 93 a0 = true) (
      let x6 : Nat := (r5.2.2.2 334 a0 0)
      fi (fm_is r5.2 902 902 x6 = true ∧ fm_in r5.2 x6 (Int32.ofInt 1) = true) (
      fi (fm_is r5.2 93 93 a0 = true) (
      (f2 a0 ((r5.2.2.1 3 x6 (Int32.ofInt 1).toNatClampNeg) + (Int64.ofInt 2)) (Int32.ofInt 2) r5.2).bind fun r7 =>
      let x8 : Int32 := r7.1.toInt32
      fi (fm_is r7.2 93 93 a0 = true) (
      let x9 : Int32 := ((x8 - (r7.2.1 335 a0 0)) &&& (Int32.ofInt 65535))
      fi (x9 = 0) (
        g117 a0 a1 r5.1 r7.2) (
        fi (a1 = (Int32.ofInt 64)) (
          g117 a0 a1 r5.1 r7.2) (
          fi (fm_is r7.2 93 93 a0 = true) (
          fi ((r7.2.1 330 a0 0) < x9) (
            g139 a0 a1 r5.1 r7.2) (
            fi (fm_is r7.2 93 93 a0 = true) (
            (f3 a0 r7.2).bind fun r10 =>
            fi (r10.1 = 0) (
              g139 a0 a1 r5.1 r10.2) (
              let x11 : Int32 := a1 + (Int32.ofInt 1)
              g152 a0 x11 r5.1 a4 r10.2)) none)) none))) none) none) none) none) none) none) none)) none) none)
noncomputable def FX95_work_34 (n : Nat) (k34 : Nat → Int32 → Int64 → Int32 → FM → Option (FM)) (a0 : Nat) (a1 : Int32) (a2 : Int64) (a4 : Int32) (M : FM) : Option (FM) := BX95_work_34 FX95_isThere FX95_breakDown (FX95_number n) (FX95_oneMore n) (FX95_work_117 n k34) (FX95_work_139 n k34) (FX95_work_152 n k34) (FX95_work_179 n k34) (FX95_work_183 n k34) k34 a0 a1 a2 a4 M
noncomputable def BX95_work_26 (M : FM) : Option (FM) :=
  some M
noncomputable def FX95_work_26 (n : Nat) (k34 : Nat → Int32 → Int64 → Int32 → FM → Option (FM)) (M : FM) : Option (FM) := BX95_work_26 M
noncomputable def BX95_work_0 (g26 : FM → Option (FM)) (k34 : Nat → Int32 → Int64 → Int32 → FM → Option (FM)) (a0 : Nat) (M : FM) : Option (FM) :=
  fi (fm_is M 93 93 a0 = true) (
  fi (((M.1 333 a0 0) &&& (Int32.ofInt 4)) = 0) (
    g26 M) (
    fi (fm_is M 93 93 a0 = true) (
    fi (((M.1 333 a0 0) &&& (Int32.ofInt 64)) = 0) (
      fi (fm_is M 93 93 a0 = true) (
      fi ((M.1 331 a0 0) = 0) (
        g26 M) (
        k34 a0 (Int32.ofInt 0) (Int64.ofInt 1) (Int32.ofInt 1) M)) none) (
      g26 M)) none)) none
noncomputable def FX95_work_0 (n : Nat) (k34 : Nat → Int32 → Int64 → Int32 → FM → Option (FM)) (a0 : Nat) (M : FM) : Option (FM) := BX95_work_0 (FX95_work_26 n k34) k34 a0 M
noncomputable def FX95_work_L34 (n : Nat) : Nat → Nat → Int32 → Int64 → Int32 → FM → Option (FM)
  | 0 => fun _ _ _ _ _ => none
  | j + 1 => FX95_work_34 n (FX95_work_L34 n j)
noncomputable def FX95_work (n : Nat) (a0 : Nat) (M : FM) : Option (FM) := FX95_work_0 n (FX95_work_L34 n n) a0 M
/-! BoardMachineModel$Block.begin()V -/
noncomputable def BX95_begin_33 (k33 : Nat → Int32 → FM → Option (FM)) (a0 : Nat) (a1 : Int32) (M : FM) : Option (FM) :=
  fi ((Int32.ofInt 3) ≤ a1) (
    fi (fm_is M 93 93 a0 = true) (
    let M1 : FM := fm_sI M 335 a0 0 (Int32.ofInt 0)
    fi (fm_is M1 93 93 a0 = true) (
    let M2 : FM := fm_sI M1 336 a0 0 (Int32.ofInt 0)
    some M2) none) none) (
    fi (fm_is M 93 93 a0 = true) (
    let x3 : Nat := (M.2.2 334 a0 0)
    fi (fm_is M 902 902 x3 = true ∧ fm_in M x3 a1 = true) (
    let M4 : FM := fm_sL M 3 x3 a1.toNatClampNeg (Int64.ofInt 0)
    let x5 : Int32 := a1 + (Int32.ofInt 1)
    k33 a0 x5 M4) none) none)
noncomputable def FX95_begin_33 (n : Nat) (k33 : Nat → Int32 → FM → Option (FM)) (a0 : Nat) (a1 : Int32) (M : FM) : Option (FM) := BX95_begin_33 k33 a0 a1 M
noncomputable def BX95_begin_0 (k33 : Nat → Int32 → FM → Option (FM)) (a0 : Nat) (M : FM) : Option (FM) :=
  fi (fm_is M 93 93 a0 = true) (
  let M1 : FM := fm_sI M 328 a0 0 (Int32.ofInt 0)
  fi (fm_is M1 93 93 a0 = true) (
  let M2 : FM := fm_sI M1 329 a0 0 (Int32.ofInt 0)
  fi (fm_is M2 93 93 a0 = true) (
  let M3 : FM := fm_sI M2 330 a0 0 (Int32.ofInt 16)
  fi (fm_is M3 93 93 a0 = true) (
  fi ((Int32.ofInt 0) = 0 ∨ (Int32.ofInt 0) = 1) (
  let M4 : FM := fm_sI M3 331 a0 0 (Int32.ofInt 0)
  fi (fm_is M4 93 93 a0 = true) (
  let M5 : FM := fm_sI M4 332 a0 0 (Int32.ofInt 0)
  fi (fm_is M5 93 93 a0 = true) (
  let M6 : FM := fm_sI M5 333 a0 0 (Int32.ofInt 0)
  k33 a0 (Int32.ofInt 0) M6) none) none) none) none) none) none) none
noncomputable def FX95_begin_0 (n : Nat) (k33 : Nat → Int32 → FM → Option (FM)) (a0 : Nat) (M : FM) : Option (FM) := BX95_begin_0 k33 a0 M
noncomputable def FX95_begin_L33 (n : Nat) : Nat → Nat → Int32 → FM → Option (FM)
  | 0 => fun _ _ _ => none
  | j + 1 => FX95_begin_33 n (FX95_begin_L33 n j)
noncomputable def FX95_begin (n : Nat) (a0 : Nat) (M : FM) : Option (FM) := FX95_begin_0 n (FX95_begin_L33 n n) a0 M
/-! BoardMachineModel$Block.write(II)V -/
noncomputable def BX95_write_206 (M : FM) : Option (FM) :=
  some M
noncomputable def FX95_write_206 (n : Nat) (M : FM) : Option (FM) := BX95_write_206 M
noncomputable def BX95_write_140 (f1 : Nat → Int32 → Int32 → FM → Option (FM)) (g206 : FM → Option (FM)) (a0 : Nat) (a1 : Int32) (a2 : Int32) (M : FM) : Option (FM) :=
  fi (fm_is M 93 93 a0 = true) (
  (f1 a0 a1 a2 M).bind fun M1 =>
  g206 M1) none
noncomputable def FX95_write_140 (n : Nat) (a0 : Nat) (a1 : Int32) (a2 : Int32) (M : FM) : Option (FM) := BX95_write_140 FX95_setQueue (FX95_write_206 n ) a0 a1 a2 M
noncomputable def BX95_write_0 (f0 : Nat → Int32 → FM → Option (Int32 × FM)) (f2 : Nat → FM → Option (FM)) (f3 : Nat → FM → Option (FM)) (g140 : Nat → Int32 → Int32 → FM → Option (FM)) (g206 : FM → Option (FM)) (a0 : Nat) (a1 : Int32) (a2 : Int32) (M : FM) : Option (FM) :=
  fi (fm_is M 93 93 a0 = true) (
  (f0 a0 a1 M).bind fun r1 =>
  fi (r1.1 = 0) (
    fi (a1 = (Int32.ofInt 20)) (
      fi (fm_is r1.2 93 93 a0 = true) (
      let M2 : FM := fm_sI r1.2 329 a0 0 a2
      g206 M2) none) (
    fi (a1 = (Int32.ofInt 48)) (
      fi (fm_is r1.2 93 93 a0 = true) (
      let M3 : FM := fm_sI r1.2 328 a0 0 a2
      g206 M3) none) (
    fi (a1 = (Int32.ofInt 56)) (
      g140 a0 a1 a2 r1.2) (
    fi (a1 = (Int32.ofInt 68)) (
      g140 a0 a1 a2 r1.2) (
    fi (a1 = (Int32.ofInt 80)) (
      fi (a2 = 0) (
        fi (fm_is r1.2 93 93 a0 = true) (
        (f2 a0 r1.2).bind fun M4 =>
        g206 M4) none) (
        g206 r1.2)) (
    fi (a1 = (Int32.ofInt 100)) (
      fi (fm_is r1.2 93 93 a0 = true) (
      fi (fm_is r1.2 93 93 a0 = true) (
      let M5 : FM := fm_sI r1.2 332 a0 0 ((r1.2.1 332 a0 0) &&& (a2 ^^^ (Int32.ofInt (-1))))
      g206 M5) none) none) (
    fi (a1 = (Int32.ofInt 112)) (
      fi (a2 = 0) (
        fi (fm_is r1.2 93 93 a0 = true) (
        (f3 a0 r1.2).bind fun M6 =>
        g206 M6) none) (
        fi (fm_is r1.2 93 93 a0 = true) (
        fi (fm_is r1.2 93 93 a0 = true) (
        let M7 : FM := fm_sI r1.2 333 a0 0 ((a2 &&& (Int32.ofInt 255)) ||| ((r1.2.1 333 a0 0) &&& (Int32.ofInt 64)))
        g206 M7) none) none)) (
    fi (a1 = (Int32.ofInt 128)) (
      g140 a0 a1 a2 r1.2) (
    fi (a1 = (Int32.ofInt 132)) (
      g140 a0 a1 a2 r1.2) (
    fi (a1 = (Int32.ofInt 144)) (
      g140 a0 a1 a2 r1.2) (
    fi (a1 = (Int32.ofInt 148)) (
      g140 a0 a1 a2 r1.2) (
    fi (a1 = (Int32.ofInt 160)) (
      g140 a0 a1 a2 r1.2) (
    fi (a1 = (Int32.ofInt 164)) (
      g140 a0 a1 a2 r1.2) (
    g206 r1.2)))))))))))))) (
    some r1.2)) none
noncomputable def FX95_write_0 (n : Nat) (a0 : Nat) (a1 : Int32) (a2 : Int32) (M : FM) : Option (FM) := BX95_write_0 FX95_noOffset (FX95_work n) (FX95_begin n) (FX95_write_140 n ) (FX95_write_206 n ) a0 a1 a2 M
noncomputable def FX95_write (n : Nat) (a0 : Nat) (a1 : Int32) (a2 : Int32) (M : FM) : Option (FM) := FX95_write_0 n a0 a1 a2 M
/-! BoardMachineModel$Block.line()Z -/
noncomputable def BX95_line_17 (s0 : Int32) (M : FM) : Option (Int32 × FM) :=
  fi (s0 = 0 ∨ s0 = 1) (some (s0, M)) none
noncomputable def FX95_line_17 (s0 : Int32) (M : FM) : Option (Int32 × FM) := BX95_line_17 s0 M
noncomputable def BX95_line_0 (g17 : Int32 → FM → Option (Int32 × FM)) (a0 : Nat) (M : FM) : Option (Int32 × FM) :=
  fi (fm_is M 93 93 a0 = true) (
  let M1 : FM := fm_sI M 324 a0 0 (Int32.ofInt 0)
  fi (fm_is M1 93 93 a0 = true) (
  fi ((M1.1 332 a0 0) = 0) (
    g17 (Int32.ofInt 0) M1) (
    g17 (Int32.ofInt 1) M1)) none) none
noncomputable def FX95_line_0 (a0 : Nat) (M : FM) : Option (Int32 × FM) := BX95_line_0 FX95_line_17 a0 M
noncomputable def FX95_line (a0 : Nat) (M : FM) : Option (Int32 × FM) := FX95_line_0 a0 M
/-! BoardMachineModel$Signals.signal(IZ)V -/
noncomputable def BX96_signal_41 (M : FM) : Option (FM) :=
  some M
noncomputable def FX96_signal_41 (n : Nat) (M : FM) : Option (FM) := BX96_signal_41 M
noncomputable def BX96_signal_20 (f1 : Nat → FM → Option (FM)) (g41 : FM → Option (FM)) (a0 : Nat) (a1 : Int32) (a2 : Int32) (s0 : Nat) (s1 : Int32) (M : FM) : Option (FM) :=
  fi (fm_is M 99 99 s0 = true) (
  let M1 : FM := fm_sI M 394 s0 0 s1
  fi (fm_is M1 99 99 a0 = true) (
  fi ((M1.1 394 a0 0) = 0) (
    fi (fm_is M1 99 99 a0 = true) (
    let x2 : Nat := (M1.2.2 399 a0 0)
    fi (fm_is M1 904 904 x2 = true ∧ fm_in M1 x2 a1 = true) (
    let M3 : FM := fm_sI M1 3 x2 a1.toNatClampNeg (a2 &&& 1)
    fi (fm_is M3 99 99 a0 = true) (
    (f1 a0 M3).bind fun M4 =>
    g41 M4) none) none) none) (
    g41 M1)) none) none
noncomputable def FX96_signal_20 (n : Nat) (a0 : Nat) (a1 : Int32) (a2 : Int32) (s0 : Nat) (s1 : Int32) (M : FM) : Option (FM) := BX96_signal_20 (FX96_settle n) (FX96_signal_41 n ) a0 a1 a2 s0 s1 M
noncomputable def BX96_signal_15 (g20 : Nat → Int32 → Int32 → Nat → Int32 → FM → Option (FM)) (a0 : Nat) (a1 : Int32) (a2 : Int32) (s0 : Nat) (M : FM) : Option (FM) :=
  g20 a0 a1 a2 s0 (Int32.ofInt 1) M
noncomputable def FX96_signal_15 (n : Nat) (a0 : Nat) (a1 : Int32) (a2 : Int32) (s0 : Nat) (M : FM) : Option (FM) := BX96_signal_15 (FX96_signal_20 n ) a0 a1 a2 s0 M
noncomputable def BX96_signal_0 (f0 : Int64 → FM → Option (Int32 × FM)) (g15 : Nat → Int32 → Int32 → Nat → FM → Option (FM)) (g20 : Nat → Int32 → Int32 → Nat → Int32 → FM → Option (FM)) (a0 : Nat) (a1 : Int32) (a2 : Int32) (M : FM) : Option (FM) :=
  (f0 a1.toInt64 M).bind fun r1 =>
  fi (r1.1 = 0) (
    g15 a0 a1 a2 a0 r1.2) (
    fi (a1 = (Int32.ofInt 10)) (
      g15 a0 a1 a2 a0 r1.2) (
      g20 a0 a1 a2 a0 (Int32.ofInt 0) r1.2))
noncomputable def FX96_signal_0 (n : Nat) (a0 : Nat) (a1 : Int32) (a2 : Int32) (M : FM) : Option (FM) := BX96_signal_0 FX96_isSource (FX96_signal_15 n ) (FX96_signal_20 n ) a0 a1 a2 M
noncomputable def FX96_signal (n : Nat) (a0 : Nat) (a1 : Int32) (a2 : Int32) (M : FM) : Option (FM) := FX96_signal_0 n a0 a1 a2 M
/-! BoardMachineModel.writeWindow(JIJ)V -/
noncomputable def BX92_writeWindow_160 (M : FM) : Option (FM) :=
  some M
noncomputable def FX92_writeWindow_160 (n : Nat) (M : FM) : Option (FM) := BX92_writeWindow_160 M
noncomputable def BX92_writeWindow_157 (g160 : FM → Option (FM)) (s0 : Nat) (s1 : Int32) (M : FM) : Option (FM) :=
  fi (fm_is M 92 92 s0 = true) (
  let M1 : FM := fm_sI M 315 s0 0 s1
  g160 M1) none
noncomputable def FX92_writeWindow_157 (n : Nat) (s0 : Nat) (s1 : Int32) (M : FM) : Option (FM) := BX92_writeWindow_157 (FX92_writeWindow_160 n ) s0 s1 M
noncomputable def BX92_writeWindow_92 (g157 : Nat → Int32 → FM → Option (FM)) (g160 : FM → Option (FM)) (a0 : Nat) (a3 : Int32) (a4 : Int64) (a6 : Int32) (a7 : Int64) (M : FM) : Option (FM) :=
  fi (a6 = 0) (
    fi ((lg_cmp a7 (Int64.ofInt 0)) = 0) (
      fi (a3 = (Int32.ofInt 4)) (
        let x1 : Int64 := (a4 &&& (Int64.ofInt 65535))
        fi ((lg_cmp x1 (Int64.ofInt 21845)) = 0) (
          g157 a0 (Int32.ofInt 0) M) (
          fi ((lg_cmp x1 (Int64.ofInt 13107)) = 0) (
            g157 a0 (((a4 >>> ((Int32.ofInt 16).toInt64 &&& 63)) &&& (Int64.ofInt 65535)).toInt32) M) (
            fi (fm_is M 92 92 a0 = true) (
            g157 a0 (M.1 315 a0 0) M) none))) (
        g160 M)) (
      g160 M)) (
    g160 M)
noncomputable def FX92_writeWindow_92 (n : Nat) (a0 : Nat) (a3 : Int32) (a4 : Int64) (a6 : Int32) (a7 : Int64) (M : FM) : Option (FM) := BX92_writeWindow_92 (FX92_writeWindow_157 n ) (FX92_writeWindow_160 n ) a0 a3 a4 a6 a7 M
noncomputable def BX92_writeWindow_46 (f2 : Int64 → Int32 → FM → Option (Int32 × FM)) (f4 : Nat → Int32 → Int32 → FM → Option (FM)) (f5 : Nat → FM → Option (Int32 × FM)) (f6 : Nat → Int32 → Int32 → FM → Option (FM)) (g92 : Nat → Int32 → Int64 → Int32 → Int64 → FM → Option (FM)) (g160 : FM → Option (FM)) (a0 : Nat) (a3 : Int32) (a4 : Int64) (a6 : Int32) (a7 : Int64) (M : FM) : Option (FM) :=
  fi (a6 = (Int32.ofInt 4)) (
    (f2 a7 a3 M).bind fun r1 =>
    fi (r1.1 = 0) (
      g92 a0 a3 a4 a6 a7 r1.2) (
      fi (fm_is r1.2 92 92 a0 = true) (
      let x2 : Nat := (r1.2.2.2 300 a0 0)
      fi (fm_is r1.2 93 93 x2 = true) (
      (f4 x2 a7.toInt32 a4.toInt32 r1.2).bind fun M3 =>
      fi (fm_is M3 92 92 a0 = true) (
      fi (fm_is M3 92 92 a0 = true) (
      let x4 : Nat := (M3.2.2 300 a0 0)
      fi (fm_is M3 93 93 x4 = true) (
      (f5 x4 M3).bind fun r5 =>
      let x6 : Nat := (M3.2.2 301 a0 0)
      fi (fm_is r5.2 99 99 x6 = true) (
      (f6 x6 (Int32.ofInt 1) r5.1 r5.2).bind fun M7 =>
      g160 M7) none) none) none) none) none) none)) (
    g92 a0 a3 a4 a6 a7 M)
noncomputable def FX92_writeWindow_46 (n : Nat) (a0 : Nat) (a3 : Int32) (a4 : Int64) (a6 : Int32) (a7 : Int64) (M : FM) : Option (FM) := BX92_writeWindow_46 FX92_isDiskRegister (FX95_write n) FX95_line (FX96_signal n) (FX92_writeWindow_92 n ) (FX92_writeWindow_160 n ) a0 a3 a4 a6 a7 M
noncomputable def BX92_writeWindow_0 (f0 : Int64 → Int32 → FM → Option (Int32 × FM)) (f1 : Int32 → FM → Option (Int64 × FM)) (f3 : Nat → Int32 → Int64 → Int32 → Int64 → FM → Option (FM)) (g46 : Nat → Int32 → Int64 → Int32 → Int64 → FM → Option (FM)) (g160 : FM → Option (FM)) (a0 : Nat) (a1 : Int64) (a3 : Int32) (a4 : Int64) (M : FM) : Option (FM) :=
  (f0 a1 a3 M).bind fun r1 =>
  (f1 r1.1 r1.2).bind fun r2 =>
  let x3 : Int64 := (a1 - r2.1)
  fi (r1.1 ≤ 0) (
    g46 a0 a3 a4 r1.1 x3 r2.2) (
    fi ((Int32.ofInt 4) ≤ r1.1) (
      g46 a0 a3 a4 r1.1 x3 r2.2) (
      fi (fm_is r2.2 92 92 a0 = true) (
      let x4 : Nat := (r2.2.2.2 301 a0 0)
      fi (fm_is r2.2 99 99 x4 = true) (
      (f3 x4 (r1.1 - (Int32.ofInt 1)) x3 a3 a4 r2.2).bind fun M5 =>
      g160 M5) none) none))
noncomputable def FX92_writeWindow_0 (n : Nat) (a0 : Nat) (a1 : Int64) (a3 : Int32) (a4 : Int64) (M : FM) : Option (FM) := BX92_writeWindow_0 (FX92_windowOf n) FX92_baseOf (FX96_write n) (FX92_writeWindow_46 n ) (FX92_writeWindow_160 n ) a0 a1 a3 a4 M
noncomputable def FX92_writeWindow (n : Nat) (a0 : Nat) (a1 : Int64) (a3 : Int32) (a4 : Int64) (M : FM) : Option (FM) := FX92_writeWindow_0 n a0 a1 a3 a4 M
/-! BoardMachineModel.put(IJ)V -/
noncomputable def BX92_put_91 (M : FM) : Option (FM) :=
  some M
noncomputable def FX92_put_91 (n : Nat) (k10 : Nat → Int32 → Int64 → Int32 → FM → Option (FM)) (M : FM) : Option (FM) := BX92_put_91 M
noncomputable def BX92_put_10 (f3 : Nat → Int64 → Int32 → FM → Option (FM)) (g91 : FM → Option (FM)) (k10 : Nat → Int32 → Int64 → Int32 → FM → Option (FM)) (a0 : Nat) (a1 : Int32) (a2 : Int64) (a4 : Int32) (M : FM) : Option (FM) :=
  fi (a1 ≤ a4) (
    g91 M) (
    fi (fm_is M 92 92 a0 = true) (
    fi (fm_is M 92 92 a0 = true) (
    let x1 : Nat := (M.2.2 323 a0 0)
    fi (fm_is M 902 902 x1 = true ∧ fm_in M x1 a4 = true) (
    let x2 : Nat := (M.2.2 298 a0 0)
    fi (fm_is M 98 98 x2 = true) (
    (f3 x2 (M.2.1 3 x1 a4.toNatClampNeg) (((a2.toUInt64 >>> (((Int32.ofInt 8) * a4).toInt64.toUInt64 &&& Int64.toUInt64 63)).toInt64).toInt32) M).bind fun M3 =>
    let x4 : Int32 := a4 + (Int32.ofInt 1)
    k10 a0 a1 a2 x4 M3) none) none) none) none)
noncomputable def FX92_put_10 (n : Nat) (k10 : Nat → Int32 → Int64 → Int32 → FM → Option (FM)) (a0 : Nat) (a1 : Int32) (a2 : Int64) (a4 : Int32) (M : FM) : Option (FM) := BX92_put_10 (FX93_put n) (FX92_put_91 n k10) k10 a0 a1 a2 a4 M
noncomputable def BX92_put_0 (f0 : Int64 → Int64 → FM → Option (Int32 × FM)) (f1 : Nat → Int64 → Int32 → Int64 → FM → Option (FM)) (f2 : Nat → Int64 → Int32 → Int64 → FM → Option (FM)) (g91 : FM → Option (FM)) (k10 : Nat → Int32 → Int64 → Int32 → FM → Option (FM)) (a0 : Nat) (a1 : Int32) (a2 : Int64) (M : FM) : Option (FM) :=
  fi (fm_is M 92 92 a0 = true) (
  fi ((M.1 322 a0 0) = 0) (
    k10 a0 a1 a2 (Int32.ofInt 0) M) (
    fi (fm_is M 92 92 a0 = true) (
    let x1 : Nat := (M.2.2 323 a0 0)
    fi (fm_is M 902 902 x1 = true ∧ fm_in M x1 (Int32.ofInt 0) = true) (
    (f0 (M.2.1 3 x1 (Int32.ofInt 0).toNatClampNeg) a1.toInt64 M).bind fun r2 =>
    fi (r2.1 = 0) (
      fi (fm_is r2.2 92 92 a0 = true) (
      let x3 : Nat := (r2.2.2.2 323 a0 0)
      fi (fm_is r2.2 902 902 x3 = true ∧ fm_in r2.2 x3 (Int32.ofInt 0) = true) (
      fi (fm_is r2.2 92 92 a0 = true) (
      (f1 a0 (r2.2.2.1 3 x3 (Int32.ofInt 0).toNatClampNeg) a1 a2 r2.2).bind fun M4 =>
      g91 M4) none) none) none) (
      fi (fm_is r2.2 92 92 a0 = true) (
      fi (fm_is r2.2 92 92 a0 = true) (
      let x5 : Nat := (r2.2.2.2 323 a0 0)
      fi (fm_is r2.2 902 902 x5 = true ∧ fm_in r2.2 x5 (Int32.ofInt 0) = true) (
      let x6 : Nat := (r2.2.2.2 298 a0 0)
      fi (fm_is r2.2 98 98 x6 = true) (
      (f2 x6 (r2.2.2.1 3 x5 (Int32.ofInt 0).toNatClampNeg) a1 a2 r2.2).bind fun M7 =>
      g91 M7) none) none) none) none)) none) none)) none
noncomputable def FX92_put_0 (n : Nat) (k10 : Nat → Int32 → Int64 → Int32 → FM → Option (FM)) (a0 : Nat) (a1 : Int32) (a2 : Int64) (M : FM) : Option (FM) := BX92_put_0 FX93_areBytes (FX92_writeWindow n) (FX93_keep n) (FX92_put_91 n k10) k10 a0 a1 a2 M
noncomputable def FX92_put_L10 (n : Nat) : Nat → Nat → Int32 → Int64 → Int32 → FM → Option (FM)
  | 0 => fun _ _ _ _ _ => none
  | j + 1 => FX92_put_10 n (FX92_put_L10 n j)
noncomputable def FX92_put (n : Nat) (a0 : Nat) (a1 : Int32) (a2 : Int64) (M : FM) : Option (FM) := FX92_put_0 n (FX92_put_L10 n n) a0 a1 a2 M
/-! BoardMachineModel$Core.loaded(J)J -/
noncomputable def BX98_loaded_68 (s0 : Int64) (M : FM) : Option (Int64 × FM) :=
  some (s0, M)
noncomputable def FX98_loaded_68 (s0 : Int64) (M : FM) : Option (Int64 × FM) := BX98_loaded_68 s0 M
noncomputable def BX98_loaded_66 (g68 : Int64 → FM → Option (Int64 × FM)) (a7 : Int64) (M : FM) : Option (Int64 × FM) :=
  g68 a7 M
noncomputable def FX98_loaded_66 (a7 : Int64) (M : FM) : Option (Int64 × FM) := BX98_loaded_66 FX98_loaded_68 a7 M
noncomputable def BX98_loaded_0 (g66 : Int64 → FM → Option (Int64 × FM)) (g68 : Int64 → FM → Option (Int64 × FM)) (a0 : Nat) (a1 : Int64) (M : FM) : Option (Int64 × FM) :=
  fi (fm_is M 94 94 a0 = true) (
  let x1 : Nat := (M.2.2 355 a0 0)
  fi (fm_is M 902 902 x1 = true ∧ fm_in M x1 (Int32.ofInt 1) = true) (
  let x2 : Int64 := ((Int64.ofInt 8) * (M.2.1 3 x1 (Int32.ofInt 1).toNatClampNeg))
  fi ((lg_cmp x2 (Int64.ofInt 64)) = 0) (
    some (a1, M)) (
    let x3 : Int64 := ((Int64.ofInt 1) <<< (x2.toInt32.toInt64 &&& 63))
    let x4 : Int64 := (a1 &&& (x3 - (Int64.ofInt 1)))
    fi (fm_is M 94 94 a0 = true) (
    let x5 : Nat := (M.2.2 355 a0 0)
    fi (fm_is M 902 902 x5 = true ∧ fm_in M x5 (Int32.ofInt 3) = true) (
    fi ((lg_cmp (M.2.1 3 x5 (Int32.ofInt 3).toNatClampNeg) (Int64.ofInt 0)) = 0) (
      fi ((Int64.ofInt 2) = 0) none (
      fi ((lg_cmp x4 (x3 / (Int64.ofInt 2))) < 0) (
        g66 x4 M) (
        g68 (x4 - x3) M))) (
      g66 x4 M)) none) none)) none) none
noncomputable def FX98_loaded_0 (a0 : Nat) (a1 : Int64) (M : FM) : Option (Int64 × FM) := BX98_loaded_0 FX98_loaded_66 FX98_loaded_68 a0 a1 M
noncomputable def FX98_loaded (a0 : Nat) (a1 : Int64) (M : FM) : Option (Int64 × FM) := FX98_loaded_0 a0 a1 M
/-! BoardMachineModel$Core.finish(ZJ)I -/
noncomputable def BX98_finish_93 (a0 : Nat) (a4 : Int32) (M : FM) : Option (Int32 × FM) :=
  fi (fm_is M 94 94 a0 = true) (
  fi (fm_is M 94 94 a0 = true) (
  fi (fm_is M 94 94 a0 = true) (
  let M1 : FM := fm_sL M 347 a0 0 ((M.2.1 347 a0 0) + (M.1 354 a0 0).toInt64)
  fi (fm_is M1 94 94 a0 = true) (
  fi (fm_is M1 94 94 a0 = true) (
  let M2 : FM := fm_sL M1 348 a0 0 ((M1.2.1 348 a0 0) + (Int64.ofInt 1))
  fi (fm_is M2 94 94 a0 = true) (
  let M3 : FM := fm_sI M2 353 a0 0 (Int32.ofInt (-1))
  some (a4, M3)) none) none) none) none) none) none
noncomputable def FX98_finish_93 (a0 : Nat) (a4 : Int32) (M : FM) : Option (Int32 × FM) := BX98_finish_93 a0 a4 M
noncomputable def BX98_finish_90 (f1 : Nat → Int32 → Int64 → FM → Option (FM)) (g93 : Nat → Int32 → FM → Option (Int32 × FM)) (a0 : Nat) (a4 : Int32) (s0 : Nat) (s1 : Int32) (s2 : Int64) (M : FM) : Option (Int32 × FM) :=
  fi (fm_is M 94 94 s0 = true) (
  (f1 s0 s1 s2 M).bind fun M1 =>
  g93 a0 a4 M1) none
noncomputable def FX98_finish_90 (a0 : Nat) (a4 : Int32) (s0 : Nat) (s1 : Int32) (s2 : Int64) (M : FM) : Option (Int32 × FM) := BX98_finish_90 FX98_put FX98_finish_93 a0 a4 s0 s1 s2 M
noncomputable def BX98_finish_89 (g90 : Nat → Int32 → Nat → Int32 → Int64 → FM → Option (Int32 × FM)) (a0 : Nat) (a2 : Int64) (a4 : Int32) (s0 : Nat) (s1 : Int32) (M : FM) : Option (Int32 × FM) :=
  g90 a0 a4 s0 s1 a2 M
noncomputable def FX98_finish_89 (a0 : Nat) (a2 : Int64) (a4 : Int32) (s0 : Nat) (s1 : Int32) (M : FM) : Option (Int32 × FM) := BX98_finish_89 FX98_finish_90 a0 a2 a4 s0 s1 M
noncomputable def BX98_finish_14 (f0 : Nat → Int64 → FM → Option (Int64 × FM)) (g89 : Nat → Int64 → Int32 → Nat → Int32 → FM → Option (Int32 × FM)) (g90 : Nat → Int32 → Nat → Int32 → Int64 → FM → Option (Int32 × FM)) (g93 : Nat → Int32 → FM → Option (Int32 × FM)) (a0 : Nat) (a1 : Int32) (a2 : Int64) (s0 : Nat) (s1 : Int32) (M : FM) : Option (Int32 × FM) :=
  fi (fm_is M 94 94 s0 = true) (
  let M1 : FM := fm_sI M 345 s0 0 s1
  fi (fm_is M1 94 94 a0 = true) (
  fi ((M1.1 345 a0 0) ≤ 0) (
    fi (fm_is M1 94 94 a0 = true) (
    let x2 : Int32 := (M1.1 353 a0 0)
    fi (a1 = 0) (
      g93 a0 x2 M1) (
      fi (x2 = (Int32.ofInt 3)) (
        g93 a0 x2 M1) (
        fi (fm_is M1 94 94 a0 = true) (
        let x3 : Nat := (M1.2.2 355 a0 0)
        fi (fm_is M1 902 902 x3 = true ∧ fm_in M1 x3 (Int32.ofInt 4) = true) (
        fi (x2 = (Int32.ofInt 2)) (
          fi (fm_is M1 94 94 a0 = true) (
          (f0 a0 a2 M1).bind fun r4 =>
          g90 a0 x2 a0 ((M1.2.1 3 x3 (Int32.ofInt 4).toNatClampNeg).toInt32) r4.1 r4.2) none) (
          fi (x2 = (Int32.ofInt 4)) (
            fi (fm_is M1 94 94 a0 = true) (
            let x5 : Nat := (M1.2.2 355 a0 0)
            fi (fm_is M1 902 902 x5 = true ∧ fm_in M1 x5 (Int32.ofInt 1) = true) (
            fi ((lg_cmp (M1.2.1 3 x5 (Int32.ofInt 1).toNatClampNeg) (Int64.ofInt 4)) = 0) (
              g90 a0 x2 a0 ((M1.2.1 3 x3 (Int32.ofInt 4).toNatClampNeg).toInt32) a2.toInt32.toInt64 M1) (
              g89 a0 a2 x2 a0 ((M1.2.1 3 x3 (Int32.ofInt 4).toNatClampNeg).toInt32) M1)) none) none) (
            g89 a0 a2 x2 a0 ((M1.2.1 3 x3 (Int32.ofInt 4).toNatClampNeg).toInt32) M1))) none) none))) none) (
    some ((Int32.ofInt 0), M1))) none) none
noncomputable def FX98_finish_14 (a0 : Nat) (a1 : Int32) (a2 : Int64) (s0 : Nat) (s1 : Int32) (M : FM) : Option (Int32 × FM) := BX98_finish_14 FX98_loaded FX98_finish_89 FX98_finish_90 FX98_finish_93 a0 a1 a2 s0 s1 M
noncomputable def BX98_finish_0 (g14 : Nat → Int32 → Int64 → Nat → Int32 → FM → Option (Int32 × FM)) (a0 : Nat) (a1 : Int32) (a2 : Int64) (M : FM) : Option (Int32 × FM) :=
  fi (fm_is M 94 94 a0 = true) (
  fi ((M.1 353 a0 0) = (Int32.ofInt (-1))) (
    g14 a0 a1 a2 a0 (Int32.ofInt 1) M) (
    g14 a0 a1 a2 a0 (Int32.ofInt 0) M)) none
noncomputable def FX98_finish_0 (a0 : Nat) (a1 : Int32) (a2 : Int64) (M : FM) : Option (Int32 × FM) := BX98_finish_0 FX98_finish_14 a0 a1 a2 M
noncomputable def FX98_finish (a0 : Nat) (a1 : Int32) (a2 : Int64) (M : FM) : Option (Int32 × FM) := FX98_finish_0 a0 a1 a2 M
/-! BoardMachineModel.store(IJIJ)Z -/
noncomputable def BX92_store_0 (f0 : Nat → Int32 → Int64 → Int32 → Int32 → FM → Option (Int32 × FM)) (f1 : Nat → Int32 → Int32 → FM → Option (FM)) (f2 : Nat → Int32 → Int64 → FM → Option (FM)) (f3 : Nat → Int32 → Int64 → FM → Option (Int32 × FM)) (a0 : Nat) (a1 : Int32) (a2 : Int64) (a4 : Int32) (a5 : Int64) (M : FM) : Option (Int32 × FM) :=
  fi (fm_is M 92 92 a0 = true) (
  (f0 a0 a1 a2 a4 (Int32.ofInt 2) M).bind fun r1 =>
  fi (r1.1 = 0) (
    fi ((Int32.ofInt 0) = 0 ∨ (Int32.ofInt 0) = 1) (some ((Int32.ofInt 0), r1.2)) none) (
    fi (fm_is r1.2 92 92 a0 = true) (
    (f1 a0 a1 a4 r1.2).bind fun M2 =>
    fi (fm_is M2 92 92 a0 = true) (
    (f2 a0 a4 a5 M2).bind fun M3 =>
    fi (fm_is M3 92 92 a0 = true) (
    let x4 : Nat := (M3.2.2 303 a0 0)
    fi (fm_is M3 910 990 x4 = true ∧ fm_in M3 x4 a1 = true) (
    let x5 : Nat := (M3.2.2 3 x4 a1.toNatClampNeg)
    fi (fm_is M3 94 94 x5 = true) (
    (f3 x5 (Int32.ofInt 0) (Int64.ofInt 0) M3).bind fun r6 =>
    fi ((Int32.ofInt 1) = 0 ∨ (Int32.ofInt 1) = 1) (some ((Int32.ofInt 1), r6.2)) none) none) none) none) none) none)) none
noncomputable def FX92_store_0 (n : Nat) (a0 : Nat) (a1 : Int32) (a2 : Int64) (a4 : Int32) (a5 : Int64) (M : FM) : Option (Int32 × FM) := BX92_store_0 (FX92_finds n) (FX92_watch n) (FX92_put n) FX98_finish a0 a1 a2 a4 a5 M
noncomputable def FX92_store (n : Nat) (a0 : Nat) (a1 : Int32) (a2 : Int64) (a4 : Int32) (a5 : Int64) (M : FM) : Option (Int32 × FM) := FX92_store_0 n a0 a1 a2 a4 a5 M
/-! BoardMachineModel$Ram.signed(JI)J -/
noncomputable def BX93_signed_12 (s0 : Int64) (M : FM) : Option (Int64 × FM) :=
  some (s0, M)
noncomputable def FX93_signed_12 (s0 : Int64) (M : FM) : Option (Int64 × FM) := BX93_signed_12 s0 M
noncomputable def BX93_signed_0 (g12 : Int64 → FM → Option (Int64 × FM)) (a0 : Int64) (a2 : Int32) (M : FM) : Option (Int64 × FM) :=
  fi (a2 = (Int32.ofInt 4)) (
    g12 a0.toInt32.toInt64 M) (
    g12 a0 M)
noncomputable def FX93_signed_0 (a0 : Int64) (a2 : Int32) (M : FM) : Option (Int64 × FM) := BX93_signed_0 FX93_signed_12 a0 a2 M
noncomputable def FX93_signed (a0 : Int64) (a2 : Int32) (M : FM) : Option (Int64 × FM) := FX93_signed_0 a0 a2 M
/-! BoardMachineModel$Ram.isLess(JJ)Z -/
noncomputable def BX93_isLess_50 (s0 : Int32) (M : FM) : Option (Int32 × FM) :=
  fi (s0 = 0 ∨ s0 = 1) (some (s0, M)) none
noncomputable def FX93_isLess_50 (s0 : Int32) (M : FM) : Option (Int32 × FM) := BX93_isLess_50 s0 M
noncomputable def BX93_isLess_22 (g50 : Int32 → FM → Option (Int32 × FM)) (a0 : Int64) (a2 : Int64) (s0 : Int32) (s1 : Int32) (M : FM) : Option (Int32 × FM) :=
  fi (s0 = s1) (
    fi (0 ≤ (lg_cmp a0 a2)) (
      g50 (Int32.ofInt 0) M) (
      g50 (Int32.ofInt 1) M)) (
    fi (0 ≤ (lg_cmp a2 (Int64.ofInt 0))) (
      g50 (Int32.ofInt 0) M) (
      g50 (Int32.ofInt 1) M))
noncomputable def FX93_isLess_22 (a0 : Int64) (a2 : Int64) (s0 : Int32) (s1 : Int32) (M : FM) : Option (Int32 × FM) := BX93_isLess_22 FX93_isLess_50 a0 a2 s0 s1 M
noncomputable def BX93_isLess_11 (g22 : Int64 → Int64 → Int32 → Int32 → FM → Option (Int32 × FM)) (a0 : Int64) (a2 : Int64) (s0 : Int32) (M : FM) : Option (Int32 × FM) :=
  fi (0 ≤ (lg_cmp a2 (Int64.ofInt 0))) (
    g22 a0 a2 s0 (Int32.ofInt 0) M) (
    g22 a0 a2 s0 (Int32.ofInt 1) M)
noncomputable def FX93_isLess_11 (a0 : Int64) (a2 : Int64) (s0 : Int32) (M : FM) : Option (Int32 × FM) := BX93_isLess_11 FX93_isLess_22 a0 a2 s0 M
noncomputable def BX93_isLess_0 (g11 : Int64 → Int64 → Int32 → FM → Option (Int32 × FM)) (a0 : Int64) (a2 : Int64) (M : FM) : Option (Int32 × FM) :=
  fi (0 ≤ (lg_cmp a0 (Int64.ofInt 0))) (
    g11 a0 a2 (Int32.ofInt 0) M) (
    g11 a0 a2 (Int32.ofInt 1) M)
noncomputable def FX93_isLess_0 (a0 : Int64) (a2 : Int64) (M : FM) : Option (Int32 × FM) := BX93_isLess_0 FX93_isLess_11 a0 a2 M
noncomputable def FX93_isLess (a0 : Int64) (a2 : Int64) (M : FM) : Option (Int32 × FM) := FX93_isLess_0 a0 a2 M
/-! BoardMachineModel$Ram.changed(IJJ)J -/
noncomputable def BX93_changed_185 (s0 : Int64) (M : FM) : Option (Int64 × FM) :=
  some (s0, M)
noncomputable def FX93_changed_185 (s0 : Int64) (M : FM) : Option (Int64 × FM) := BX93_changed_185 s0 M
noncomputable def BX93_changed_172 (f0 : Int64 → Int64 → FM → Option (Int32 × FM)) (g185 : Int64 → FM → Option (Int64 × FM)) (a1 : Int64) (a3 : Int64) (M : FM) : Option (Int64 × FM) :=
  (f0 a1 a3 M).bind fun r1 =>
  fi (r1.1 = 0) (
    g185 a1 r1.2) (
    g185 a3 r1.2)
noncomputable def FX93_changed_172 (a1 : Int64) (a3 : Int64) (M : FM) : Option (Int64 × FM) := BX93_changed_172 FX93_isLess FX93_changed_185 a1 a3 M
noncomputable def BX93_changed_171 (s0 : Int64) (M : FM) : Option (Int64 × FM) :=
  some (s0, M)
noncomputable def FX93_changed_171 (s0 : Int64) (M : FM) : Option (Int64 × FM) := BX93_changed_171 s0 M
noncomputable def BX93_changed_157 (s0 : Int64) (M : FM) : Option (Int64 × FM) :=
  some (s0, M)
noncomputable def FX93_changed_157 (s0 : Int64) (M : FM) : Option (Int64 × FM) := BX93_changed_157 s0 M
noncomputable def BX93_changed_145 (s0 : Int64) (M : FM) : Option (Int64 × FM) :=
  some (s0, M)
noncomputable def FX93_changed_145 (s0 : Int64) (M : FM) : Option (Int64 × FM) := BX93_changed_145 s0 M
noncomputable def BX93_changed_0 (f0 : Int64 → Int64 → FM → Option (Int32 × FM)) (g145 : Int64 → FM → Option (Int64 × FM)) (g157 : Int64 → FM → Option (Int64 × FM)) (g171 : Int64 → FM → Option (Int64 × FM)) (g172 : Int64 → Int64 → FM → Option (Int64 × FM)) (a0 : Int32) (a1 : Int64) (a3 : Int64) (M : FM) : Option (Int64 × FM) :=
  fi (a0 = (Int32.ofInt 0)) (
    some ((a1 + a3), M)) (
  fi (a0 = (Int32.ofInt 1)) (
    some (a3, M)) (
  fi (a0 = (Int32.ofInt 2)) (
    g172 a1 a3 M) (
  fi (a0 = (Int32.ofInt 3)) (
    g172 a1 a3 M) (
  fi (a0 = (Int32.ofInt 4)) (
    some ((a1 ^^^ a3), M)) (
  fi (a0 = (Int32.ofInt 5)) (
    g172 a1 a3 M) (
  fi (a0 = (Int32.ofInt 6)) (
    g172 a1 a3 M) (
  fi (a0 = (Int32.ofInt 7)) (
    g172 a1 a3 M) (
  fi (a0 = (Int32.ofInt 8)) (
    some ((a1 ||| a3), M)) (
  fi (a0 = (Int32.ofInt 9)) (
    g172 a1 a3 M) (
  fi (a0 = (Int32.ofInt 10)) (
    g172 a1 a3 M) (
  fi (a0 = (Int32.ofInt 11)) (
    g172 a1 a3 M) (
  fi (a0 = (Int32.ofInt 12)) (
    some ((a1 &&& a3), M)) (
  fi (a0 = (Int32.ofInt 13)) (
    g172 a1 a3 M) (
  fi (a0 = (Int32.ofInt 14)) (
    g172 a1 a3 M) (
  fi (a0 = (Int32.ofInt 15)) (
    g172 a1 a3 M) (
  fi (a0 = (Int32.ofInt 16)) (
    fi (0 ≤ (lg_cmp a1 a3)) (
      g145 a3 M) (
      g145 a1 M)) (
  fi (a0 = (Int32.ofInt 17)) (
    g172 a1 a3 M) (
  fi (a0 = (Int32.ofInt 18)) (
    g172 a1 a3 M) (
  fi (a0 = (Int32.ofInt 19)) (
    g172 a1 a3 M) (
  fi (a0 = (Int32.ofInt 20)) (
    fi (0 ≤ (lg_cmp a1 a3)) (
      g157 a1 M) (
      g157 a3 M)) (
  fi (a0 = (Int32.ofInt 21)) (
    g172 a1 a3 M) (
  fi (a0 = (Int32.ofInt 22)) (
    g172 a1 a3 M) (
  fi (a0 = (Int32.ofInt 23)) (
    g172 a1 a3 M) (
  fi (a0 = (Int32.ofInt 24)) (
    (f0 a1 a3 M).bind fun r1 =>
    fi (r1.1 = 0) (
      g171 a3 r1.2) (
      g171 a1 r1.2)) (
  g172 a1 a3 M)))))))))))))))))))))))))
noncomputable def FX93_changed_0 (a0 : Int32) (a1 : Int64) (a3 : Int64) (M : FM) : Option (Int64 × FM) := BX93_changed_0 FX93_isLess FX93_changed_145 FX93_changed_157 FX93_changed_171 FX93_changed_172 a0 a1 a3 M
noncomputable def FX93_changed (a0 : Int32) (a1 : Int64) (a3 : Int64) (M : FM) : Option (Int64 × FM) := FX93_changed_0 a0 a1 a3 M
/-! BoardMachineModel$Ram.atomic(IIJIJ)J -/
noncomputable def BX93_atomic_187 (s0 : Int64) (M : FM) : Option (Int64 × FM) :=
  some (s0, M)
noncomputable def FX93_atomic_187 (n : Nat) (s0 : Int64) (M : FM) : Option (Int64 × FM) := BX93_atomic_187 s0 M
noncomputable def BX93_atomic_177 (g187 : Int64 → FM → Option (Int64 × FM)) (a10 : Int32) (M : FM) : Option (Int64 × FM) :=
  fi (a10 = 0) (
    g187 (Int64.ofInt 1) M) (
    g187 (Int64.ofInt 0) M)
noncomputable def FX93_atomic_177 (n : Nat) (a10 : Int32) (M : FM) : Option (Int64 × FM) := BX93_atomic_177 (FX93_atomic_187 n ) a10 M
noncomputable def BX93_atomic_165 (f3 : Nat → Int64 → Int32 → Int64 → FM → Option (FM)) (g177 : Int32 → FM → Option (Int64 × FM)) (a0 : Nat) (a3 : Int64) (a5 : Int32) (a6 : Int64) (a10 : Int32) (s0 : Nat) (s1 : Int64) (M : FM) : Option (Int64 × FM) :=
  fi (fm_is M 98 98 s0 = true) (
  let M1 : FM := fm_sL M 393 s0 0 s1
  fi (fm_is M1 98 98 a0 = true) (
  (f3 a0 a3 a5 a6 M1).bind fun M2 =>
  g177 a10 M2) none) none
noncomputable def FX93_atomic_165 (n : Nat) (a0 : Nat) (a3 : Int64) (a5 : Int32) (a6 : Int64) (a10 : Int32) (s0 : Nat) (s1 : Int64) (M : FM) : Option (Int64 × FM) := BX93_atomic_165 (FX93_keep n) (FX93_atomic_177 n ) a0 a3 a5 a6 a10 s0 s1 M
noncomputable def BX93_atomic_113 (g165 : Nat → Int64 → Int32 → Int64 → Int32 → Nat → Int64 → FM → Option (Int64 × FM)) (g177 : Int32 → FM → Option (Int64 × FM)) (a0 : Nat) (a1 : Int32) (a3 : Int64) (a5 : Int32) (a6 : Int64) (s0 : Int32) (M : FM) : Option (Int64 × FM) :=
  fi (fm_is M 98 98 a0 = true) (
  let x1 : Nat := (M.2.2 389 a0 0)
  fi (fm_is M 902 902 x1 = true ∧ fm_in M x1 a1 = true) (
  let M2 : FM := fm_sL M 3 x1 a1.toNatClampNeg (Int64.ofInt 0)
  fi (s0 = 0) (
    g177 s0 M2) (
    fi (fm_is M2 98 98 a0 = true) (
    fi ((Int64.ofInt 8) = 0) none (
    let x3 : Int32 := ((a3 - (Int64.ofInt 2147483648)) / (Int64.ofInt 8)).toInt32
    let x4 : Nat := (M2.2.2 391 a0 0)
    fi (fm_is M2 901 901 x4 = true ∧ fm_in M2 x4 x3 = true) (
    fi (fm_is M2 98 98 a0 = true) (
    let x5 : Nat := (M2.2.2 392 a0 0)
    fi (fm_is M2 901 901 x5 = true ∧ fm_in M2 x5 a1 = true) (
    fi ((M2.1 3 x4 x3.toNatClampNeg) = (M2.1 3 x5 a1.toNatClampNeg)) (
      fi (fm_is M2 98 98 a0 = true) (
      g165 a0 a3 a5 a6 s0 a0 (M2.2.1 393 a0 0) M2) none) (
      fi (fm_is M2 98 98 a0 = true) (
      g165 a0 a3 a5 a6 s0 a0 ((M2.2.1 393 a0 0) + (Int64.ofInt 1)) M2) none)) none) none) none)) none)) none) none
noncomputable def FX93_atomic_113 (n : Nat) (a0 : Nat) (a1 : Int32) (a3 : Int64) (a5 : Int32) (a6 : Int64) (s0 : Int32) (M : FM) : Option (Int64 × FM) := BX93_atomic_113 (FX93_atomic_165 n ) (FX93_atomic_177 n ) a0 a1 a3 a5 a6 s0 M
noncomputable def BX93_atomic_112 (g113 : Nat → Int32 → Int64 → Int32 → Int64 → Int32 → FM → Option (Int64 × FM)) (a0 : Nat) (a1 : Int32) (a3 : Int64) (a5 : Int32) (a6 : Int64) (M : FM) : Option (Int64 × FM) :=
  g113 a0 a1 a3 a5 a6 (Int32.ofInt 0) M
noncomputable def FX93_atomic_112 (n : Nat) (a0 : Nat) (a1 : Int32) (a3 : Int64) (a5 : Int32) (a6 : Int64) (M : FM) : Option (Int64 × FM) := BX93_atomic_112 (FX93_atomic_113 n ) a0 a1 a3 a5 a6 M
noncomputable def BX93_atomic_0 (f0 : Nat → Int64 → Int32 → FM → Option (Int64 × FM)) (f1 : Int64 → Int32 → FM → Option (Int64 × FM)) (f2 : Int32 → Int64 → Int64 → FM → Option (Int64 × FM)) (f3 : Nat → Int64 → Int32 → Int64 → FM → Option (FM)) (g112 : Nat → Int32 → Int64 → Int32 → Int64 → FM → Option (Int64 × FM)) (g113 : Nat → Int32 → Int64 → Int32 → Int64 → Int32 → FM → Option (Int64 × FM)) (a0 : Nat) (a1 : Int32) (a2 : Int32) (a3 : Int64) (a5 : Int32) (a6 : Int64) (M : FM) : Option (Int64 × FM) :=
  fi (fm_is M 98 98 a0 = true) (
  (f0 a0 a3 a5 M).bind fun r1 =>
  (f1 r1.1 a5 r1.2).bind fun r2 =>
  fi (a2 = (Int32.ofInt 2)) (
    fi (fm_is r2.2 98 98 a0 = true) (
    let x3 : Nat := (r2.2.2.2 389 a0 0)
    fi (fm_is r2.2 902 902 x3 = true ∧ fm_in r2.2 x3 a1 = true) (
    let M4 : FM := fm_sL r2.2 3 x3 a1.toNatClampNeg a3
    fi (fm_is M4 98 98 a0 = true) (
    let x5 : Nat := (M4.2.2 390 a0 0)
    fi (fm_is M4 901 901 x5 = true ∧ fm_in M4 x5 a1 = true) (
    let M6 : FM := fm_sI M4 3 x5 a1.toNatClampNeg a5
    fi (fm_is M6 98 98 a0 = true) (
    fi (fm_is M6 98 98 a0 = true) (
    fi ((Int64.ofInt 8) = 0) none (
    let x7 : Int32 := ((a3 - (Int64.ofInt 2147483648)) / (Int64.ofInt 8)).toInt32
    let x8 : Nat := (M6.2.2 391 a0 0)
    fi (fm_is M6 901 901 x8 = true ∧ fm_in M6 x8 x7 = true) (
    let x9 : Nat := (M6.2.2 392 a0 0)
    fi (fm_is M6 901 901 x9 = true ∧ fm_in M6 x9 a1 = true) (
    let M10 : FM := fm_sI M6 3 x9 a1.toNatClampNeg (M6.1 3 x8 x7.toNatClampNeg)
    some (r2.1, M10)) none) none)) none) none) none) none) none) none) (
    fi (a2 = (Int32.ofInt 3)) (
      fi (fm_is r2.2 98 98 a0 = true) (
      let x11 : Nat := (r2.2.2.2 389 a0 0)
      fi (fm_is r2.2 902 902 x11 = true ∧ fm_in r2.2 x11 a1 = true) (
      fi ((lg_cmp (r2.2.2.1 3 x11 a1.toNatClampNeg) a3) = 0) (
        fi (fm_is r2.2 98 98 a0 = true) (
        let x12 : Nat := (r2.2.2.2 390 a0 0)
        fi (fm_is r2.2 901 901 x12 = true ∧ fm_in r2.2 x12 a1 = true) (
        fi ((r2.2.1 3 x12 a1.toNatClampNeg) = a5) (
          g113 a0 a1 a3 a5 a6 (Int32.ofInt 1) r2.2) (
          g112 a0 a1 a3 a5 a6 r2.2)) none) none) (
        g112 a0 a1 a3 a5 a6 r2.2)) none) none) (
      (f1 a6 a5 r2.2).bind fun r13 =>
      (f2 a2 r2.1 r13.1 r13.2).bind fun r14 =>
      fi (fm_is r14.2 98 98 a0 = true) (
      (f3 a0 a3 a5 r14.1 r14.2).bind fun M15 =>
      some (r2.1, M15)) none))) none
noncomputable def FX93_atomic_0 (n : Nat) (a0 : Nat) (a1 : Int32) (a2 : Int32) (a3 : Int64) (a5 : Int32) (a6 : Int64) (M : FM) : Option (Int64 × FM) := BX93_atomic_0 (FX93_number n) FX93_signed FX93_changed (FX93_keep n) (FX93_atomic_112 n ) (FX93_atomic_113 n ) a0 a1 a2 a3 a5 a6 M
noncomputable def FX93_atomic (n : Nat) (a0 : Nat) (a1 : Int32) (a2 : Int32) (a3 : Int64) (a5 : Int32) (a6 : Int64) (M : FM) : Option (Int64 × FM) := FX93_atomic_0 n a0 a1 a2 a3 a5 a6 M
/-! BoardMachineModel.atomic(IJIIJ)Z -/
noncomputable def BX92_atomic_135 (f5 : Nat → Int32 → Int64 → FM → Option (Int32 × FM)) (a0 : Nat) (a1 : Int32) (a8 : Int64) (M : FM) : Option (Int32 × FM) :=
  fi (fm_is M 92 92 a0 = true) (
  let x1 : Nat := (M.2.2 303 a0 0)
  fi (fm_is M 910 990 x1 = true ∧ fm_in M x1 a1 = true) (
  let x2 : Nat := (M.2.2 3 x1 a1.toNatClampNeg)
  fi (fm_is M 94 94 x2 = true) (
  (f5 x2 (Int32.ofInt 1) a8 M).bind fun r3 =>
  fi ((Int32.ofInt 1) = 0 ∨ (Int32.ofInt 1) = 1) (some ((Int32.ofInt 1), r3.2)) none) none) none) none
noncomputable def FX92_atomic_135 (n : Nat) (a0 : Nat) (a1 : Int32) (a8 : Int64) (M : FM) : Option (Int32 × FM) := BX92_atomic_135 FX98_finish a0 a1 a8 M
noncomputable def BX92_atomic_128 (f4 : Nat → Int32 → Int32 → FM → Option (FM)) (g135 : Nat → Int32 → Int64 → FM → Option (Int32 × FM)) (a0 : Nat) (a1 : Int32) (a4 : Int32) (a8 : Int64) (M : FM) : Option (Int32 × FM) :=
  fi (fm_is M 92 92 a0 = true) (
  (f4 a0 a1 a4 M).bind fun M1 =>
  g135 a0 a1 a8 M1) none
noncomputable def FX92_atomic_128 (n : Nat) (a0 : Nat) (a1 : Int32) (a4 : Int32) (a8 : Int64) (M : FM) : Option (Int32 × FM) := BX92_atomic_128 (FX92_watch n) (FX92_atomic_135 n ) a0 a1 a4 a8 M
noncomputable def BX92_atomic_82 (f0 : Nat → Int32 → Int64 → FM → Option (Int32 × FM)) (a2 : Int64) (s0 : Nat) (s1 : Int32) (M : FM) : Option (Int32 × FM) :=
  fi (fm_is M 92 92 s0 = true) (
  (f0 s0 s1 a2 M).bind fun r1 =>
  fi (r1.1 = 0 ∨ r1.1 = 1) (some (r1.1, r1.2)) none) none
noncomputable def FX92_atomic_82 (n : Nat) (a2 : Int64) (s0 : Nat) (s1 : Int32) (M : FM) : Option (Int32 × FM) := BX92_atomic_82 FX92_fail a2 s0 s1 M
noncomputable def BX92_atomic_46 (f1 : Nat → Int32 → Int64 → Int32 → Int32 → FM → Option (Int32 × FM)) (f2 : Int64 → Int64 → FM → Option (Int32 × FM)) (f3 : Nat → Int32 → Int32 → Int64 → Int32 → Int64 → FM → Option (Int64 × FM)) (g82 : Int64 → Nat → Int32 → FM → Option (Int32 × FM)) (g128 : Nat → Int32 → Int32 → Int64 → FM → Option (Int32 × FM)) (g135 : Nat → Int32 → Int64 → FM → Option (Int32 × FM)) (a0 : Nat) (a1 : Int32) (a2 : Int64) (a4 : Int32) (a5 : Int32) (a6 : Int64) (s0 : Nat) (s1 : Int32) (s2 : Int64) (s3 : Int32) (s4 : Int32) (M : FM) : Option (Int32 × FM) :=
  fi (fm_is M 92 92 s0 = true) (
  (f1 s0 s1 s2 s3 s4 M).bind fun r1 =>
  fi (r1.1 = 0) (
    fi ((Int32.ofInt 0) = 0 ∨ (Int32.ofInt 0) = 1) (some ((Int32.ofInt 0), r1.2)) none) (
    fi (fm_is r1.2 92 92 a0 = true) (
    let x2 : Nat := (r1.2.2.2 323 a0 0)
    fi (fm_is r1.2 902 902 x2 = true ∧ fm_in r1.2 x2 (Int32.ofInt 0) = true) (
    (f2 (r1.2.2.1 3 x2 (Int32.ofInt 0).toNatClampNeg) a4.toInt64 r1.2).bind fun r3 =>
    fi (r3.1 = 0) (
      fi (a5 = (Int32.ofInt 2)) (
        g82 a2 a0 (Int32.ofInt 5) r3.2) (
        g82 a2 a0 (Int32.ofInt 7) r3.2)) (
      fi (fm_is r3.2 92 92 a0 = true) (
      fi (fm_is r3.2 92 92 a0 = true) (
      let x4 : Nat := (r3.2.2.2 323 a0 0)
      fi (fm_is r3.2 902 902 x4 = true ∧ fm_in r3.2 x4 (Int32.ofInt 0) = true) (
      let x5 : Nat := (r3.2.2.2 298 a0 0)
      fi (fm_is r3.2 98 98 x5 = true) (
      (f3 x5 a1 a5 (r3.2.2.1 3 x4 (Int32.ofInt 0).toNatClampNeg) a4 a6 r3.2).bind fun r6 =>
      fi (a5 = (Int32.ofInt 2)) (
        g135 a0 a1 r6.1 r6.2) (
        fi (a5 = (Int32.ofInt 3)) (
          fi ((lg_cmp r6.1 (Int64.ofInt 0)) = 0) (
            g128 a0 a1 a4 r6.1 r6.2) (
            g135 a0 a1 r6.1 r6.2)) (
          g128 a0 a1 a4 r6.1 r6.2))) none) none) none) none)) none) none)) none
noncomputable def FX92_atomic_46 (n : Nat) (a0 : Nat) (a1 : Int32) (a2 : Int64) (a4 : Int32) (a5 : Int32) (a6 : Int64) (s0 : Nat) (s1 : Int32) (s2 : Int64) (s3 : Int32) (s4 : Int32) (M : FM) : Option (Int32 × FM) := BX92_atomic_46 (FX92_finds n) FX93_areBytes (FX93_atomic n) (FX92_atomic_82 n ) (FX92_atomic_128 n ) (FX92_atomic_135 n ) a0 a1 a2 a4 a5 a6 s0 s1 s2 s3 s4 M
noncomputable def BX92_atomic_25 (f0 : Nat → Int32 → Int64 → FM → Option (Int32 × FM)) (a2 : Int64) (s0 : Nat) (s1 : Int32) (M : FM) : Option (Int32 × FM) :=
  fi (fm_is M 92 92 s0 = true) (
  (f0 s0 s1 a2 M).bind fun r1 =>
  fi (r1.1 = 0 ∨ r1.1 = 1) (some (r1.1, r1.2)) none) none
noncomputable def FX92_atomic_25 (n : Nat) (a2 : Int64) (s0 : Nat) (s1 : Int32) (M : FM) : Option (Int32 × FM) := BX92_atomic_25 FX92_fail a2 s0 s1 M
noncomputable def BX92_atomic_0 (g25 : Int64 → Nat → Int32 → FM → Option (Int32 × FM)) (g46 : Nat → Int32 → Int64 → Int32 → Int32 → Int64 → Nat → Int32 → Int64 → Int32 → Int32 → FM → Option (Int32 × FM)) (a0 : Nat) (a1 : Int32) (a2 : Int64) (a4 : Int32) (a5 : Int32) (a6 : Int64) (M : FM) : Option (Int32 × FM) :=
  fi ((lg_cmp (a2 &&& (a4.toInt64 - (Int64.ofInt 1))) (Int64.ofInt 0)) = 0) (
    fi (a5 = (Int32.ofInt 2)) (
      g46 a0 a1 a2 a4 a5 a6 a0 a1 a2 a4 (Int32.ofInt 1) M) (
      g46 a0 a1 a2 a4 a5 a6 a0 a1 a2 a4 (Int32.ofInt 2) M)) (
    fi (a5 = (Int32.ofInt 2)) (
      g25 a2 a0 (Int32.ofInt 4) M) (
      g25 a2 a0 (Int32.ofInt 6) M))
noncomputable def FX92_atomic_0 (n : Nat) (a0 : Nat) (a1 : Int32) (a2 : Int64) (a4 : Int32) (a5 : Int32) (a6 : Int64) (M : FM) : Option (Int32 × FM) := BX92_atomic_0 (FX92_atomic_25 n ) (FX92_atomic_46 n ) a0 a1 a2 a4 a5 a6 M
noncomputable def FX92_atomic (n : Nat) (a0 : Nat) (a1 : Int32) (a2 : Int64) (a4 : Int32) (a5 : Int32) (a6 : Int64) (M : FM) : Option (Int32 × FM) := FX92_atomic_0 n a0 a1 a2 a4 a5 a6 M
/-! BoardMachineModel$Desk.floats()Z -/
noncomputable def BX100_floats_17 (s0 : Int32) (M : FM) : Option (Int32 × FM) :=
  fi (s0 = 0 ∨ s0 = 1) (some (s0, M)) none
noncomputable def FX100_floats_17 (s0 : Int32) (M : FM) : Option (Int32 × FM) := BX100_floats_17 s0 M
noncomputable def BX100_floats_0 (f0 : Nat → FM → Option (Int32 × FM)) (g17 : Int32 → FM → Option (Int32 × FM)) (a0 : Nat) (M : FM) : Option (Int32 × FM) :=
  fi (fm_is M 95 95 a0 = true) (
  let M1 : FM := fm_sI M 358 a0 0 (Int32.ofInt 0)
  fi (fm_is M1 95 95 a0 = true) (
  (f0 a0 M1).bind fun r2 =>
  fi (r2.1 ≤ 0) (
    g17 (Int32.ofInt 0) r2.2) (
    g17 (Int32.ofInt 1) r2.2)) none) none
noncomputable def FX100_floats_0 (a0 : Nat) (M : FM) : Option (Int32 × FM) := BX100_floats_0 FX100_floating FX100_floats_17 a0 M
noncomputable def FX100_floats (a0 : Nat) (M : FM) : Option (Int32 × FM) := FX100_floats_0 a0 M
/-! BoardMachineModel$Floats.isNo(I)Z -/
noncomputable def BX99_isNo_31 (s0 : Int32) (M : FM) : Option (Int32 × FM) :=
  fi (s0 = 0 ∨ s0 = 1) (some (s0, M)) none
noncomputable def FX99_isNo_31 (s0 : Int32) (M : FM) : Option (Int32 × FM) := BX99_isNo_31 s0 M
noncomputable def BX99_isNo_16 (g31 : Int32 → FM → Option (Int32 × FM)) (a0 : Nat) (s0 : Nat) (s1 : Int32) (M : FM) : Option (Int32 × FM) :=
  fi (fm_is M 96 96 s0 = true) (
  let M1 : FM := fm_sI M 366 s0 0 s1
  fi (fm_is M1 96 96 a0 = true) (
  fi ((M1.1 366 a0 0) ≤ 0) (
    g31 (Int32.ofInt 0) M1) (
    g31 (Int32.ofInt 1) M1)) none) none
noncomputable def FX99_isNo_16 (a0 : Nat) (s0 : Nat) (s1 : Int32) (M : FM) : Option (Int32 × FM) := BX99_isNo_16 FX99_isNo_31 a0 s0 s1 M
noncomputable def BX99_isNo_11 (g16 : Nat → Nat → Int32 → FM → Option (Int32 × FM)) (a0 : Nat) (s0 : Nat) (M : FM) : Option (Int32 × FM) :=
  g16 a0 s0 (Int32.ofInt 1) M
noncomputable def FX99_isNo_11 (a0 : Nat) (s0 : Nat) (M : FM) : Option (Int32 × FM) := BX99_isNo_11 FX99_isNo_16 a0 s0 M
noncomputable def BX99_isNo_0 (g11 : Nat → Nat → FM → Option (Int32 × FM)) (g16 : Nat → Nat → Int32 → FM → Option (Int32 × FM)) (a0 : Nat) (a1 : Int32) (M : FM) : Option (Int32 × FM) :=
  fi (a1 < 0) (
    g11 a0 a0 M) (
    fi (a1 ≤ (Int32.ofInt 31)) (
      g16 a0 a0 (Int32.ofInt 0) M) (
      g11 a0 a0 M))
noncomputable def FX99_isNo_0 (a0 : Nat) (a1 : Int32) (M : FM) : Option (Int32 × FM) := BX99_isNo_0 FX99_isNo_11 FX99_isNo_16 a0 a1 M
noncomputable def FX99_isNo (a0 : Nat) (a1 : Int32) (M : FM) : Option (Int32 × FM) := FX99_isNo_0 a0 a1 M
/-! BoardMachineModel$Floats.get(I)J -/
noncomputable def BX99_get_18 (s0 : Int64) (M : FM) : Option (Int64 × FM) :=
  some (s0, M)
noncomputable def FX99_get_18 (s0 : Int64) (M : FM) : Option (Int64 × FM) := BX99_get_18 s0 M
noncomputable def BX99_get_0 (f0 : Nat → Int32 → FM → Option (Int32 × FM)) (g18 : Int64 → FM → Option (Int64 × FM)) (a0 : Nat) (a1 : Int32) (M : FM) : Option (Int64 × FM) :=
  fi (fm_is M 96 96 a0 = true) (
  (f0 a0 a1 M).bind fun r1 =>
  fi (r1.1 = 0) (
    fi (fm_is r1.2 96 96 a0 = true) (
    let x2 : Nat := (r1.2.2.2 367 a0 0)
    fi (fm_is r1.2 902 902 x2 = true ∧ fm_in r1.2 x2 a1 = true) (
    g18 (r1.2.2.1 3 x2 a1.toNatClampNeg) r1.2) none) none) (
    g18 (Int64.ofInt 0) r1.2)) none
noncomputable def FX99_get_0 (a0 : Nat) (a1 : Int32) (M : FM) : Option (Int64 × FM) := BX99_get_0 FX99_isNo FX99_get_18 a0 a1 M
noncomputable def FX99_get (a0 : Nat) (a1 : Int32) (M : FM) : Option (Int64 × FM) := FX99_get_0 a0 a1 M
/-! BoardMachineModel$Signals.readTimer(JI)J -/
noncomputable def BX96_readTimer_119 (s0 : Int64) (M : FM) : Option (Int64 × FM) :=
  some (s0, M)
noncomputable def FX96_readTimer_119 (s0 : Int64) (M : FM) : Option (Int64 × FM) := BX96_readTimer_119 s0 M
noncomputable def BX96_readTimer_114 (g119 : Int64 → FM → Option (Int64 × FM)) (s0 : Int64) (s1 : Int32) (M : FM) : Option (Int64 × FM) :=
  g119 ((s0 >>> (s1.toInt64 &&& 63)) &&& (Int64.ofInt 4294967295)) M
noncomputable def FX96_readTimer_114 (s0 : Int64) (s1 : Int32) (M : FM) : Option (Int64 × FM) := BX96_readTimer_114 FX96_readTimer_119 s0 s1 M
noncomputable def BX96_readTimer_75 (M : FM) : Option (Int64 × FM) :=
  some ((Int64.ofInt 0), M)
noncomputable def FX96_readTimer_75 (M : FM) : Option (Int64 × FM) := BX96_readTimer_75 M
noncomputable def BX96_readTimer_49 (f0 : Nat → Int64 → FM → Option (Int32 × FM)) (f1 : Nat → Int32 → FM → Option (Int64 × FM)) (g75 : FM → Option (Int64 × FM)) (g114 : Int64 → Int32 → FM → Option (Int64 × FM)) (g119 : Int64 → FM → Option (Int64 × FM)) (a0 : Nat) (a1 : Int64) (a3 : Int32) (M : FM) : Option (Int64 × FM) :=
  fi (fm_is M 99 99 a0 = true) (
  (f0 a0 a1 M).bind fun r1 =>
  fi (r1.1 < 0) (
    g75 r1.2) (
    let x2 : Int64 := a3.toInt64
    fi (x2 = 0) none (
    fi ((lg_cmp (a1 - a1 / x2 * x2) (Int64.ofInt 0)) = 0) (
      fi ((Int32.ofInt 4) ≤ a3) (
        fi (a3 = (Int32.ofInt 8)) (
          fi (fm_is r1.2 99 99 a0 = true) (
          (f1 a0 r1.1 r1.2).bind fun r3 =>
          g119 r3.1 r3.2) none) (
          fi (fm_is r1.2 99 99 a0 = true) (
          (f1 a0 r1.1 r1.2).bind fun r4 =>
          fi ((Int64.ofInt 8) = 0) none (
          fi ((lg_cmp (a1 - a1 / (Int64.ofInt 8) * (Int64.ofInt 8)) (Int64.ofInt 0)) = 0) (
            g114 r4.1 (Int32.ofInt 0) r4.2) (
            g114 r4.1 (Int32.ofInt 32) r4.2))) none)) (
        g75 r1.2)) (
      g75 r1.2)))) none
noncomputable def FX96_readTimer_49 (a0 : Nat) (a1 : Int64) (a3 : Int32) (M : FM) : Option (Int64 × FM) := BX96_readTimer_49 FX96_eightAt FX96_eight FX96_readTimer_75 FX96_readTimer_114 FX96_readTimer_119 a0 a1 a3 M
noncomputable def BX96_readTimer_48 (s0 : Int64) (M : FM) : Option (Int64 × FM) :=
  some (s0, M)
noncomputable def FX96_readTimer_48 (s0 : Int64) (M : FM) : Option (Int64 × FM) := BX96_readTimer_48 s0 M
noncomputable def BX96_readTimer_0 (g48 : Int64 → FM → Option (Int64 × FM)) (g49 : Nat → Int64 → Int32 → FM → Option (Int64 × FM)) (a0 : Nat) (a1 : Int64) (a3 : Int32) (M : FM) : Option (Int64 × FM) :=
  fi (a3 = (Int32.ofInt 4)) (
    fi (fm_is M 99 99 a0 = true) (
    fi (0 ≤ (lg_cmp a1 ((Int64.ofInt 4) * (M.1 395 a0 0).toInt64))) (
      g49 a0 a1 a3 M) (
      fi ((Int64.ofInt 4) = 0) none (
      fi ((lg_cmp (a1 - a1 / (Int64.ofInt 4) * (Int64.ofInt 4)) (Int64.ofInt 0)) = 0) (
        fi (fm_is M 99 99 a0 = true) (
        fi ((Int64.ofInt 4) = 0) none (
        let x1 : Int32 := (a1 / (Int64.ofInt 4)).toInt32
        let x2 : Nat := (M.2.2 396 a0 0)
        fi (fm_is M 904 904 x2 = true ∧ fm_in M x2 x1 = true) (
        fi ((M.1 3 x2 x1.toNatClampNeg) = 0) (
          g48 (Int64.ofInt 0) M) (
          g48 (Int64.ofInt 1) M)) none)) none) (
        g49 a0 a1 a3 M)))) none) (
    g49 a0 a1 a3 M)
noncomputable def FX96_readTimer_0 (a0 : Nat) (a1 : Int64) (a3 : Int32) (M : FM) : Option (Int64 × FM) := BX96_readTimer_0 FX96_readTimer_48 FX96_readTimer_49 a0 a1 a3 M
noncomputable def FX96_readTimer (a0 : Nat) (a1 : Int64) (a3 : Int32) (M : FM) : Option (Int64 × FM) := FX96_readTimer_0 a0 a1 a3 M
/-! BoardMachineModel$Signals.waiting()J -/
noncomputable def BX96_waiting_28 (k4 : Nat → Int64 → Int32 → FM → Option (Int64 × FM)) (a0 : Nat) (a3 : Int32) (s0 : Int64) (M : FM) : Option (Int64 × FM) :=
  let x1 : Int32 := a3 + (Int32.ofInt 1)
  k4 a0 s0 x1 M
noncomputable def FX96_waiting_28 (n : Nat) (k4 : Nat → Int64 → Int32 → FM → Option (Int64 × FM)) (a0 : Nat) (a3 : Int32) (s0 : Int64) (M : FM) : Option (Int64 × FM) := BX96_waiting_28 k4 a0 a3 s0 M
noncomputable def BX96_waiting_4 (g28 : Nat → Int32 → Int64 → FM → Option (Int64 × FM)) (a0 : Nat) (a1 : Int64) (a3 : Int32) (M : FM) : Option (Int64 × FM) :=
  fi ((Int32.ofInt 32) ≤ a3) (
    some (a1, M)) (
    fi (fm_is M 99 99 a0 = true) (
    let x1 : Nat := (M.2.2 400 a0 0)
    fi (fm_is M 904 904 x1 = true ∧ fm_in M x1 a3 = true) (
    fi ((M.1 3 x1 a3.toNatClampNeg) = 0) (
      g28 a0 a3 a1 M) (
      g28 a0 a3 (a1 ||| ((Int64.ofInt 1) <<< (a3.toInt64 &&& 63))) M)) none) none)
noncomputable def FX96_waiting_4 (n : Nat) (k4 : Nat → Int64 → Int32 → FM → Option (Int64 × FM)) (a0 : Nat) (a1 : Int64) (a3 : Int32) (M : FM) : Option (Int64 × FM) := BX96_waiting_4 (FX96_waiting_28 n k4) a0 a1 a3 M
noncomputable def BX96_waiting_0 (k4 : Nat → Int64 → Int32 → FM → Option (Int64 × FM)) (a0 : Nat) (M : FM) : Option (Int64 × FM) :=
  k4 a0 (Int64.ofInt 0) (Int32.ofInt 1) M
noncomputable def FX96_waiting_0 (n : Nat) (k4 : Nat → Int64 → Int32 → FM → Option (Int64 × FM)) (a0 : Nat) (M : FM) : Option (Int64 × FM) := BX96_waiting_0 k4 a0 M
noncomputable def FX96_waiting_L4 (n : Nat) : Nat → Nat → Int64 → Int32 → FM → Option (Int64 × FM)
  | 0 => fun _ _ _ _ => none
  | j + 1 => FX96_waiting_4 n (FX96_waiting_L4 n j)
noncomputable def FX96_waiting (n : Nat) (a0 : Nat) (M : FM) : Option (Int64 × FM) := FX96_waiting_0 n (FX96_waiting_L4 n n) a0 M
/-! BoardMachineModel$Signals.best(I)I -/
noncomputable def BX96_best_72 (k5 : Nat → Int32 → Int32 → Int32 → FM → Option (Int32 × FM)) (a0 : Nat) (a1 : Int32) (a3 : Int32) (s0 : Int32) (M : FM) : Option (Int32 × FM) :=
  let x1 : Int32 := a3 + (Int32.ofInt (-1))
  k5 a0 a1 s0 x1 M
noncomputable def FX96_best_72 (n : Nat) (k5 : Nat → Int32 → Int32 → Int32 → FM → Option (Int32 × FM)) (a0 : Nat) (a1 : Int32) (a3 : Int32) (s0 : Int32) (M : FM) : Option (Int32 × FM) := BX96_best_72 k5 a0 a1 a3 s0 M
noncomputable def BX96_best_71 (g72 : Nat → Int32 → Int32 → Int32 → FM → Option (Int32 × FM)) (a0 : Nat) (a1 : Int32) (a2 : Int32) (a3 : Int32) (M : FM) : Option (Int32 × FM) :=
  g72 a0 a1 a3 a2 M
noncomputable def FX96_best_71 (n : Nat) (k5 : Nat → Int32 → Int32 → Int32 → FM → Option (Int32 × FM)) (a0 : Nat) (a1 : Int32) (a2 : Int32) (a3 : Int32) (M : FM) : Option (Int32 × FM) := BX96_best_71 (FX96_best_72 n k5) a0 a1 a2 a3 M
noncomputable def BX96_best_67 (g72 : Nat → Int32 → Int32 → Int32 → FM → Option (Int32 × FM)) (a0 : Nat) (a1 : Int32) (a3 : Int32) (M : FM) : Option (Int32 × FM) :=
  g72 a0 a1 a3 a3 M
noncomputable def FX96_best_67 (n : Nat) (k5 : Nat → Int32 → Int32 → Int32 → FM → Option (Int32 × FM)) (a0 : Nat) (a1 : Int32) (a3 : Int32) (M : FM) : Option (Int32 × FM) := BX96_best_67 (FX96_best_72 n k5) a0 a1 a3 M
noncomputable def BX96_best_41 (g67 : Nat → Int32 → Int32 → FM → Option (Int32 × FM)) (g71 : Nat → Int32 → Int32 → Int32 → FM → Option (Int32 × FM)) (a0 : Nat) (a1 : Int32) (a2 : Int32) (a3 : Int32) (s0 : Int32) (M : FM) : Option (Int32 × FM) :=
  fi (s0 = 0) (
    g71 a0 a1 a2 a3 M) (
    fi (a2 = 0) (
      g67 a0 a1 a3 M) (
      fi (fm_is M 99 99 a0 = true) (
      let x1 : Nat := (M.2.2 402 a0 0)
      fi (fm_is M 901 901 x1 = true ∧ fm_in M x1 a3 = true) (
      fi (fm_is M 99 99 a0 = true) (
      let x2 : Nat := (M.2.2 402 a0 0)
      fi (fm_is M 901 901 x2 = true ∧ fm_in M x2 a2 = true) (
      fi ((M.1 3 x1 a3.toNatClampNeg) < (M.1 3 x2 a2.toNatClampNeg)) (
        g71 a0 a1 a2 a3 M) (
        g67 a0 a1 a3 M)) none) none) none) none))
noncomputable def FX96_best_41 (n : Nat) (k5 : Nat → Int32 → Int32 → Int32 → FM → Option (Int32 × FM)) (a0 : Nat) (a1 : Int32) (a2 : Int32) (a3 : Int32) (s0 : Int32) (M : FM) : Option (Int32 × FM) := BX96_best_41 (FX96_best_67 n k5) (FX96_best_71 n k5) a0 a1 a2 a3 s0 M
noncomputable def BX96_best_40 (g41 : Nat → Int32 → Int32 → Int32 → Int32 → FM → Option (Int32 × FM)) (a0 : Nat) (a1 : Int32) (a2 : Int32) (a3 : Int32) (M : FM) : Option (Int32 × FM) :=
  g41 a0 a1 a2 a3 (Int32.ofInt 0) M
noncomputable def FX96_best_40 (n : Nat) (k5 : Nat → Int32 → Int32 → Int32 → FM → Option (Int32 × FM)) (a0 : Nat) (a1 : Int32) (a2 : Int32) (a3 : Int32) (M : FM) : Option (Int32 × FM) := BX96_best_40 (FX96_best_41 n k5) a0 a1 a2 a3 M
noncomputable def BX96_best_5 (f0 : Nat → Int32 → Int32 → FM → Option (Int32 × FM)) (g40 : Nat → Int32 → Int32 → Int32 → FM → Option (Int32 × FM)) (g41 : Nat → Int32 → Int32 → Int32 → Int32 → FM → Option (Int32 × FM)) (a0 : Nat) (a1 : Int32) (a2 : Int32) (a3 : Int32) (M : FM) : Option (Int32 × FM) :=
  fi (a3 ≤ 0) (
    some (a2, M)) (
    fi (fm_is M 99 99 a0 = true) (
    let x1 : Nat := (M.2.2 400 a0 0)
    fi (fm_is M 904 904 x1 = true ∧ fm_in M x1 a3 = true) (
    fi ((M.1 3 x1 a3.toNatClampNeg) = 0) (
      g40 a0 a1 a2 a3 M) (
      fi (fm_is M 99 99 a0 = true) (
      (f0 a0 a1 a3 M).bind fun r2 =>
      fi (r2.1 = 0) (
        g40 a0 a1 a2 a3 r2.2) (
        fi (fm_is r2.2 99 99 a0 = true) (
        let x3 : Nat := (r2.2.2.2 402 a0 0)
        fi (fm_is r2.2 901 901 x3 = true ∧ fm_in r2.2 x3 a3 = true) (
        fi ((r2.2.1 3 x3 a3.toNatClampNeg) ≤ 0) (
          g40 a0 a1 a2 a3 r2.2) (
          g41 a0 a1 a2 a3 (Int32.ofInt 1) r2.2)) none) none)) none)) none) none)
noncomputable def FX96_best_5 (n : Nat) (k5 : Nat → Int32 → Int32 → Int32 → FM → Option (Int32 × FM)) (a0 : Nat) (a1 : Int32) (a2 : Int32) (a3 : Int32) (M : FM) : Option (Int32 × FM) := BX96_best_5 FX96_enables (FX96_best_40 n k5) (FX96_best_41 n k5) a0 a1 a2 a3 M
noncomputable def BX96_best_0 (k5 : Nat → Int32 → Int32 → Int32 → FM → Option (Int32 × FM)) (a0 : Nat) (a1 : Int32) (M : FM) : Option (Int32 × FM) :=
  k5 a0 a1 (Int32.ofInt 0) (Int32.ofInt 31) M
noncomputable def FX96_best_0 (n : Nat) (k5 : Nat → Int32 → Int32 → Int32 → FM → Option (Int32 × FM)) (a0 : Nat) (a1 : Int32) (M : FM) : Option (Int32 × FM) := BX96_best_0 k5 a0 a1 M
noncomputable def FX96_best_L5 (n : Nat) : Nat → Nat → Int32 → Int32 → Int32 → FM → Option (Int32 × FM)
  | 0 => fun _ _ _ _ _ => none
  | j + 1 => FX96_best_5 n (FX96_best_L5 n j)
noncomputable def FX96_best (n : Nat) (a0 : Nat) (a1 : Int32) (M : FM) : Option (Int32 × FM) := FX96_best_0 n (FX96_best_L5 n n) a0 a1 M
/-! BoardMachineModel$Signals.claim(I)J -/
noncomputable def BX96_claim_50 (a2 : Int32) (M : FM) : Option (Int64 × FM) :=
  some (a2.toInt64, M)
noncomputable def FX96_claim_50 (n : Nat) (a2 : Int32) (M : FM) : Option (Int64 × FM) := BX96_claim_50 a2 M
noncomputable def BX96_claim_33 (g50 : Int32 → FM → Option (Int64 × FM)) (a0 : Nat) (a2 : Int32) (s0 : Nat) (s1 : Int64) (M : FM) : Option (Int64 × FM) :=
  fi (fm_is M 99 99 s0 = true) (
  let M1 : FM := fm_sL M 414 s0 0 s1
  fi (fm_is M1 99 99 a0 = true) (
  let x2 : Nat := (M1.2.2 400 a0 0)
  fi (fm_is M1 904 904 x2 = true ∧ fm_in M1 x2 a2 = true) (
  let M3 : FM := fm_sI M1 3 x2 a2.toNatClampNeg ((Int32.ofInt 0) &&& 1)
  fi (fm_is M3 99 99 a0 = true) (
  let x4 : Nat := (M3.2.2 401 a0 0)
  fi (fm_is M3 904 904 x4 = true ∧ fm_in M3 x4 a2 = true) (
  let M5 : FM := fm_sI M3 3 x4 a2.toNatClampNeg ((Int32.ofInt 1) &&& 1)
  g50 a2 M5) none) none) none) none) none
noncomputable def FX96_claim_33 (n : Nat) (a0 : Nat) (a2 : Int32) (s0 : Nat) (s1 : Int64) (M : FM) : Option (Int64 × FM) := BX96_claim_33 (FX96_claim_50 n ) a0 a2 s0 s1 M
noncomputable def BX96_claim_0 (f0 : Nat → Int32 → FM → Option (Int32 × FM)) (g33 : Nat → Int32 → Nat → Int64 → FM → Option (Int64 × FM)) (g50 : Int32 → FM → Option (Int64 × FM)) (a0 : Nat) (a1 : Int32) (M : FM) : Option (Int64 × FM) :=
  fi (fm_is M 99 99 a0 = true) (
  (f0 a0 a1 M).bind fun r1 =>
  fi (r1.1 ≤ 0) (
    g50 r1.1 r1.2) (
    fi (fm_is r1.2 99 99 a0 = true) (
    let x2 : Nat := (r1.2.2.2 401 a0 0)
    fi (fm_is r1.2 904 904 x2 = true ∧ fm_in r1.2 x2 r1.1 = true) (
    fi ((r1.2.1 3 x2 r1.1.toNatClampNeg) = 0) (
      fi (fm_is r1.2 99 99 a0 = true) (
      g33 a0 r1.1 a0 (r1.2.2.1 414 a0 0) r1.2) none) (
      fi (fm_is r1.2 99 99 a0 = true) (
      g33 a0 r1.1 a0 ((r1.2.2.1 414 a0 0) + (Int64.ofInt 1)) r1.2) none)) none) none)) none
noncomputable def FX96_claim_0 (n : Nat) (a0 : Nat) (a1 : Int32) (M : FM) : Option (Int64 × FM) := BX96_claim_0 (FX96_best n) (FX96_claim_33 n ) (FX96_claim_50 n ) a0 a1 M
noncomputable def FX96_claim (n : Nat) (a0 : Nat) (a1 : Int32) (M : FM) : Option (Int64 × FM) := FX96_claim_0 n a0 a1 M
/-! BoardMachineModel$Signals.readController(J)J -/
noncomputable def BX96_readController_121 (s0 : Int64) (M : FM) : Option (Int64 × FM) :=
  some (s0, M)
noncomputable def FX96_readController_121 (n : Nat) (s0 : Int64) (M : FM) : Option (Int64 × FM) := BX96_readController_121 s0 M
noncomputable def BX96_readController_44 (f1 : Nat → Int64 → Int64 → Int64 → FM → Option (Int32 × FM)) (f2 : Nat → Int32 → FM → Option (Int64 × FM)) (g121 : Int64 → FM → Option (Int64 × FM)) (a0 : Nat) (a1 : Int64) (M : FM) : Option (Int64 × FM) :=
  fi (fm_is M 99 99 a0 = true) (
  (f1 a0 a1 (Int64.ofInt 8192) (Int64.ofInt 128) M).bind fun r1 =>
  fi (r1.1 < 0) (
    fi (fm_is r1.2 99 99 a0 = true) (
    (f1 a0 a1 (Int64.ofInt 2097152) (Int64.ofInt 4096) r1.2).bind fun r2 =>
    fi (r2.1 < 0) (
      fi (fm_is r2.2 99 99 a0 = true) (
      (f1 a0 a1 (Int64.ofInt 2097156) (Int64.ofInt 4096) r2.2).bind fun r3 =>
      fi (r3.1 < 0) (
        g121 (Int64.ofInt 0) r3.2) (
        fi (fm_is r3.2 99 99 a0 = true) (
        (f2 a0 r3.1 r3.2).bind fun r4 =>
        g121 r4.1 r4.2) none)) none) (
      fi (fm_is r2.2 99 99 a0 = true) (
      let x5 : Nat := (r2.2.2.2 404 a0 0)
      fi (fm_is r2.2 901 901 x5 = true ∧ fm_in r2.2 x5 r2.1 = true) (
      some ((r2.2.1 3 x5 r2.1.toNatClampNeg).toInt64, r2.2)) none) none)) none) (
    fi (fm_is r1.2 99 99 a0 = true) (
    let x6 : Nat := (r1.2.2.2 403 a0 0)
    fi (fm_is r1.2 901 901 x6 = true ∧ fm_in r1.2 x6 r1.1 = true) (
    some (((r1.2.1 3 x6 r1.1.toNatClampNeg).toInt64 &&& (Int64.ofInt 4294967295)), r1.2)) none) none)) none
noncomputable def FX96_readController_44 (n : Nat) (a0 : Nat) (a1 : Int64) (M : FM) : Option (Int64 × FM) := BX96_readController_44 FX96_contextAt (FX96_claim n) (FX96_readController_121 n ) a0 a1 M
noncomputable def BX96_readController_0 (f0 : Nat → FM → Option (Int64 × FM)) (g44 : Nat → Int64 → FM → Option (Int64 × FM)) (a0 : Nat) (a1 : Int64) (M : FM) : Option (Int64 × FM) :=
  fi ((lg_cmp a1 (Int64.ofInt 4096)) = 0) (
    fi (fm_is M 99 99 a0 = true) (
    (f0 a0 M).bind fun r1 =>
    some (r1.1, r1.2)) none) (
    fi (0 ≤ (lg_cmp a1 (Int64.ofInt 128))) (
      g44 a0 a1 M) (
      fi ((Int64.ofInt 4) = 0) none (
      fi ((lg_cmp (a1 - a1 / (Int64.ofInt 4) * (Int64.ofInt 4)) (Int64.ofInt 0)) = 0) (
        fi (fm_is M 99 99 a0 = true) (
        fi ((Int64.ofInt 4) = 0) none (
        let x2 : Int32 := (a1 / (Int64.ofInt 4)).toInt32
        let x3 : Nat := (M.2.2 402 a0 0)
        fi (fm_is M 901 901 x3 = true ∧ fm_in M x3 x2 = true) (
        some ((M.1 3 x3 x2.toNatClampNeg).toInt64, M)) none)) none) (
        g44 a0 a1 M))))
noncomputable def FX96_readController_0 (n : Nat) (a0 : Nat) (a1 : Int64) (M : FM) : Option (Int64 × FM) := BX96_readController_0 (FX96_waiting n) (FX96_readController_44 n ) a0 a1 M
noncomputable def FX96_readController (n : Nat) (a0 : Nat) (a1 : Int64) (M : FM) : Option (Int64 × FM) := FX96_readController_0 n a0 a1 M
/-! BoardMachineModel$Signals.takeOut()I -/
noncomputable def BX96_takeOut_28 (k28 : Nat → Int32 → Int32 → FM → Option (Int32 × FM)) (a0 : Nat) (a1 : Int32) (a2 : Int32) (M : FM) : Option (Int32 × FM) :=
  fi (fm_is M 99 99 a0 = true) (
  fi ((M.1 411 a0 0) ≤ a2) (
    some (a1, M)) (
    fi (fm_is M 99 99 a0 = true) (
    fi (fm_is M 99 99 a0 = true) (
    let x1 : Int32 := (a2 + (Int32.ofInt 1))
    let x2 : Nat := (M.2.2 410 a0 0)
    fi (fm_is M 901 901 x2 = true ∧ fm_in M x2 x1 = true) (
    let x3 : Nat := (M.2.2 410 a0 0)
    fi (fm_is M 901 901 x3 = true ∧ fm_in M x3 a2 = true) (
    let M4 : FM := fm_sI M 3 x3 a2.toNatClampNeg (M.1 3 x2 x1.toNatClampNeg)
    let x5 : Int32 := a2 + (Int32.ofInt 1)
    k28 a0 a1 x5 M4) none) none) none) none)) none
noncomputable def FX96_takeOut_28 (n : Nat) (k28 : Nat → Int32 → Int32 → FM → Option (Int32 × FM)) (a0 : Nat) (a1 : Int32) (a2 : Int32) (M : FM) : Option (Int32 × FM) := BX96_takeOut_28 k28 a0 a1 a2 M
noncomputable def BX96_takeOut_0 (k28 : Nat → Int32 → Int32 → FM → Option (Int32 × FM)) (a0 : Nat) (M : FM) : Option (Int32 × FM) :=
  fi (fm_is M 99 99 a0 = true) (
  fi ((M.1 411 a0 0) = 0) (
    some ((Int32.ofInt 0), M)) (
    fi (fm_is M 99 99 a0 = true) (
    let x1 : Nat := (M.2.2 410 a0 0)
    fi (fm_is M 901 901 x1 = true ∧ fm_in M x1 (Int32.ofInt 0) = true) (
    let x2 : Int32 := (M.1 3 x1 (Int32.ofInt 0).toNatClampNeg)
    fi (fm_is M 99 99 a0 = true) (
    fi (fm_is M 99 99 a0 = true) (
    let M3 : FM := fm_sI M 411 a0 0 ((M.1 411 a0 0) - (Int32.ofInt 1))
    k28 a0 x2 (Int32.ofInt 0) M3) none) none) none) none)) none
noncomputable def FX96_takeOut_0 (n : Nat) (k28 : Nat → Int32 → Int32 → FM → Option (Int32 × FM)) (a0 : Nat) (M : FM) : Option (Int32 × FM) := BX96_takeOut_0 k28 a0 M
noncomputable def FX96_takeOut_L28 (n : Nat) : Nat → Nat → Int32 → Int32 → FM → Option (Int32 × FM)
  | 0 => fun _ _ _ _ => none
  | j + 1 => FX96_takeOut_28 n (FX96_takeOut_L28 n j)
noncomputable def FX96_takeOut (n : Nat) (a0 : Nat) (M : FM) : Option (Int32 × FM) := FX96_takeOut_0 n (FX96_takeOut_L28 n n) a0 M
/-! BoardMachineModel$Signals.readCause()I -/
noncomputable def BX96_readCause_38 (s0 : Int32) (M : FM) : Option (Int32 × FM) :=
  some (s0, M)
noncomputable def FX96_readCause_38 (s0 : Int32) (M : FM) : Option (Int32 × FM) := BX96_readCause_38 s0 M
noncomputable def BX96_readCause_19 (g38 : Int32 → FM → Option (Int32 × FM)) (a0 : Nat) (a1 : Int32) (s0 : Nat) (s1 : Int32) (M : FM) : Option (Int32 × FM) :=
  fi (fm_is M 99 99 s0 = true) (
  fi (s1 = 0 ∨ s1 = 1) (
  let M1 : FM := fm_sI M 409 s0 0 s1
  fi (fm_is M1 99 99 a0 = true) (
  fi ((M1.1 407 a0 0) = 0) (
    g38 a1 M1) (
    g38 (a1 + (Int32.ofInt 192)) M1)) none) none) none
noncomputable def FX96_readCause_19 (a0 : Nat) (a1 : Int32) (s0 : Nat) (s1 : Int32) (M : FM) : Option (Int32 × FM) := BX96_readCause_19 FX96_readCause_38 a0 a1 s0 s1 M
noncomputable def BX96_readCause_0 (f0 : Nat → FM → Option (Int32 × FM)) (g19 : Nat → Int32 → Nat → Int32 → FM → Option (Int32 × FM)) (a0 : Nat) (M : FM) : Option (Int32 × FM) :=
  fi (fm_is M 99 99 a0 = true) (
  (f0 a0 M).bind fun r1 =>
  fi (r1.1 = (Int32.ofInt 2)) (
    g19 a0 r1.1 a0 (Int32.ofInt 0) r1.2) (
    fi (fm_is r1.2 99 99 a0 = true) (
    g19 a0 r1.1 a0 (r1.2.1 409 a0 0) r1.2) none)) none
noncomputable def FX96_readCause_0 (a0 : Nat) (M : FM) : Option (Int32 × FM) := BX96_readCause_0 FX96_cause FX96_readCause_19 a0 M
noncomputable def FX96_readCause (a0 : Nat) (M : FM) : Option (Int32 × FM) := FX96_readCause_0 a0 M
/-! BoardMachineModel$Signals.readState()I -/
noncomputable def BX96_readState_27 (a0 : Nat) (s0 : Int32) (s1 : Int32) (M : FM) : Option (Int32 × FM) :=
  let x1 : Int32 := (s0 + s1)
  fi (fm_is M 99 99 a0 = true) (
  fi ((Int32.ofInt 0) = 0 ∨ (Int32.ofInt 0) = 1) (
  let M2 : FM := fm_sI M 408 a0 0 (Int32.ofInt 0)
  some (x1, M2)) none) none
noncomputable def FX96_readState_27 (a0 : Nat) (s0 : Int32) (s1 : Int32) (M : FM) : Option (Int32 × FM) := BX96_readState_27 a0 s0 s1 M
noncomputable def BX96_readState_14 (g27 : Nat → Int32 → Int32 → FM → Option (Int32 × FM)) (a0 : Nat) (s0 : Int32) (s1 : Int32) (M : FM) : Option (Int32 × FM) :=
  fi (fm_is M 99 99 a0 = true) (
  fi ((M.1 408 a0 0) = 0) (
    g27 a0 (s0 + s1) (Int32.ofInt 0) M) (
    g27 a0 (s0 + s1) (Int32.ofInt 2) M)) none
noncomputable def FX96_readState_14 (a0 : Nat) (s0 : Int32) (s1 : Int32) (M : FM) : Option (Int32 × FM) := BX96_readState_14 FX96_readState_27 a0 s0 s1 M
noncomputable def BX96_readState_0 (g14 : Nat → Int32 → Int32 → FM → Option (Int32 × FM)) (a0 : Nat) (M : FM) : Option (Int32 × FM) :=
  fi (fm_is M 99 99 a0 = true) (
  fi ((M.1 411 a0 0) ≤ 0) (
    g14 a0 (Int32.ofInt 96) (Int32.ofInt 0) M) (
    g14 a0 (Int32.ofInt 96) (Int32.ofInt 1) M)) none
noncomputable def FX96_readState_0 (a0 : Nat) (M : FM) : Option (Int32 × FM) := BX96_readState_0 FX96_readState_14 a0 M
noncomputable def FX96_readState (a0 : Nat) (M : FM) : Option (Int32 × FM) := FX96_readState_0 a0 M
/-! BoardMachineModel$Signals.looped()I -/
noncomputable def BX96_looped_70 (s0 : Int32) (M : FM) : Option (Int32 × FM) :=
  some (s0, M)
noncomputable def FX96_looped_70 (s0 : Int32) (M : FM) : Option (Int32 × FM) := BX96_looped_70 s0 M
noncomputable def BX96_looped_51 (f0 : Nat → Int32 → Int32 → FM → Option (Int32 × FM)) (g70 : Int32 → FM → Option (Int32 × FM)) (a0 : Nat) (s0 : Int32) (M : FM) : Option (Int32 × FM) :=
  fi (fm_is M 99 99 a0 = true) (
  (f0 a0 (Int32.ofInt 4) (Int32.ofInt 3) M).bind fun r1 =>
  fi (r1.1 = 0) (
    g70 s0 r1.2) (
    g70 (s0 + (Int32.ofInt 128)) r1.2)) none
noncomputable def FX96_looped_51 (a0 : Nat) (s0 : Int32) (M : FM) : Option (Int32 × FM) := BX96_looped_51 FX96_hasBit FX96_looped_70 a0 s0 M
noncomputable def BX96_looped_33 (f0 : Nat → Int32 → Int32 → FM → Option (Int32 × FM)) (g51 : Nat → Int32 → FM → Option (Int32 × FM)) (a0 : Nat) (s0 : Int32) (M : FM) : Option (Int32 × FM) :=
  fi (fm_is M 99 99 a0 = true) (
  (f0 a0 (Int32.ofInt 4) (Int32.ofInt 2) M).bind fun r1 =>
  fi (r1.1 = 0) (
    g51 a0 s0 r1.2) (
    g51 a0 (s0 + (Int32.ofInt 64)) r1.2)) none
noncomputable def FX96_looped_33 (a0 : Nat) (s0 : Int32) (M : FM) : Option (Int32 × FM) := BX96_looped_33 FX96_hasBit FX96_looped_51 a0 s0 M
noncomputable def BX96_looped_15 (f0 : Nat → Int32 → Int32 → FM → Option (Int32 × FM)) (g33 : Nat → Int32 → FM → Option (Int32 × FM)) (a0 : Nat) (s0 : Int32) (M : FM) : Option (Int32 × FM) :=
  fi (fm_is M 99 99 a0 = true) (
  (f0 a0 (Int32.ofInt 4) (Int32.ofInt 0) M).bind fun r1 =>
  fi (r1.1 = 0) (
    g33 a0 s0 r1.2) (
    g33 a0 (s0 + (Int32.ofInt 32)) r1.2)) none
noncomputable def FX96_looped_15 (a0 : Nat) (s0 : Int32) (M : FM) : Option (Int32 × FM) := BX96_looped_15 FX96_hasBit FX96_looped_33 a0 s0 M
noncomputable def BX96_looped_0 (f0 : Nat → Int32 → Int32 → FM → Option (Int32 × FM)) (g15 : Nat → Int32 → FM → Option (Int32 × FM)) (a0 : Nat) (M : FM) : Option (Int32 × FM) :=
  fi (fm_is M 99 99 a0 = true) (
  (f0 a0 (Int32.ofInt 4) (Int32.ofInt 1) M).bind fun r1 =>
  fi (r1.1 = 0) (
    g15 a0 (Int32.ofInt 0) r1.2) (
    g15 a0 (Int32.ofInt 16) r1.2)) none
noncomputable def FX96_looped_0 (a0 : Nat) (M : FM) : Option (Int32 × FM) := BX96_looped_0 FX96_hasBit FX96_looped_15 a0 M
noncomputable def FX96_looped (a0 : Nat) (M : FM) : Option (Int32 × FM) := FX96_looped_0 a0 M
/-! BoardMachineModel$Signals.readSerial(I)J -/
noncomputable def BX96_readSerial_107 (a0 : Nat) (a1 : Int32) (M : FM) : Option (Int64 × FM) :=
  fi (fm_is M 99 99 a0 = true) (
  let x1 : Nat := (M.2.2 405 a0 0)
  fi (fm_is M 901 901 x1 = true ∧ fm_in M x1 a1 = true) (
  some ((M.1 3 x1 a1.toNatClampNeg).toInt64, M)) none) none
noncomputable def FX96_readSerial_107 (n : Nat) (a0 : Nat) (a1 : Int32) (M : FM) : Option (Int64 × FM) := BX96_readSerial_107 a0 a1 M
noncomputable def BX96_readSerial_106 (s0 : Int64) (M : FM) : Option (Int64 × FM) :=
  some (s0, M)
noncomputable def FX96_readSerial_106 (n : Nat) (s0 : Int64) (M : FM) : Option (Int64 × FM) := BX96_readSerial_106 s0 M
noncomputable def BX96_readSerial_23 (f0 : Nat → Int32 → Int32 → FM → Option (Int32 × FM)) (f1 : Nat → FM → Option (Int32 × FM)) (f2 : Nat → FM → Option (Int32 × FM)) (f3 : Nat → FM → Option (Int32 × FM)) (f4 : Nat → FM → Option (Int32 × FM)) (g106 : Int64 → FM → Option (Int64 × FM)) (g107 : Nat → Int32 → FM → Option (Int64 × FM)) (a0 : Nat) (a1 : Int32) (M : FM) : Option (Int64 × FM) :=
  fi (a1 = (Int32.ofInt 0)) (
    fi (fm_is M 99 99 a0 = true) (
    (f1 a0 M).bind fun r1 =>
    some (r1.1.toInt64, r1.2)) none) (
  fi (a1 = (Int32.ofInt 1)) (
    g107 a0 a1 M) (
  fi (a1 = (Int32.ofInt 2)) (
    fi (fm_is M 99 99 a0 = true) (
    (f2 a0 M).bind fun r2 =>
    some (r2.1.toInt64, r2.2)) none) (
  fi (a1 = (Int32.ofInt 3)) (
    g107 a0 a1 M) (
  fi (a1 = (Int32.ofInt 4)) (
    g107 a0 a1 M) (
  fi (a1 = (Int32.ofInt 5)) (
    fi (fm_is M 99 99 a0 = true) (
    (f3 a0 M).bind fun r3 =>
    some (r3.1.toInt64, r3.2)) none) (
  fi (a1 = (Int32.ofInt 6)) (
    fi (fm_is M 99 99 a0 = true) (
    (f0 a0 (Int32.ofInt 4) (Int32.ofInt 4) M).bind fun r4 =>
    fi (r4.1 = 0) (
      g106 (Int64.ofInt 176) r4.2) (
      fi (fm_is r4.2 99 99 a0 = true) (
      (f4 a0 r4.2).bind fun r5 =>
      g106 r5.1.toInt64 r5.2) none)) none) (
  g107 a0 a1 M)))))))
noncomputable def FX96_readSerial_23 (n : Nat) (a0 : Nat) (a1 : Int32) (M : FM) : Option (Int64 × FM) := BX96_readSerial_23 FX96_hasBit (FX96_takeOut n) FX96_readCause FX96_readState FX96_looped (FX96_readSerial_106 n ) (FX96_readSerial_107 n ) a0 a1 M
noncomputable def BX96_readSerial_0 (f0 : Nat → Int32 → Int32 → FM → Option (Int32 × FM)) (g23 : Nat → Int32 → FM → Option (Int64 × FM)) (a0 : Nat) (a1 : Int32) (M : FM) : Option (Int64 × FM) :=
  fi ((Int32.ofInt 2) ≤ a1) (
    g23 a0 a1 M) (
    fi (fm_is M 99 99 a0 = true) (
    (f0 a0 (Int32.ofInt 3) (Int32.ofInt 7) M).bind fun r1 =>
    fi (r1.1 = 0) (
      g23 a0 a1 r1.2) (
      fi (fm_is r1.2 99 99 a0 = true) (
      let x2 : Nat := (r1.2.2.2 406 a0 0)
      fi (fm_is r1.2 901 901 x2 = true ∧ fm_in r1.2 x2 a1 = true) (
      some ((r1.2.1 3 x2 a1.toNatClampNeg).toInt64, r1.2)) none) none)) none)
noncomputable def FX96_readSerial_0 (n : Nat) (a0 : Nat) (a1 : Int32) (M : FM) : Option (Int64 × FM) := BX96_readSerial_0 FX96_hasBit (FX96_readSerial_23 n ) a0 a1 M
noncomputable def FX96_readSerial (n : Nat) (a0 : Nat) (a1 : Int32) (M : FM) : Option (Int64 × FM) := FX96_readSerial_0 n a0 a1 M
/-! BoardMachineModel$Signals.read(IJI)J -/
noncomputable def BX96_read_94 (f2 : Nat → FM → Option (FM)) (a0 : Nat) (a5 : Int64) (M : FM) : Option (Int64 × FM) :=
  fi (fm_is M 99 99 a0 = true) (
  (f2 a0 M).bind fun M1 =>
  some (a5, M1)) none
noncomputable def FX96_read_94 (n : Nat) (a0 : Nat) (a5 : Int64) (M : FM) : Option (Int64 × FM) := BX96_read_94 (FX96_settle n) a0 a5 M
noncomputable def BX96_read_67 (g94 : Nat → Int64 → FM → Option (Int64 × FM)) (a0 : Nat) (s0 : Int64) (M : FM) : Option (Int64 × FM) :=
  g94 a0 s0 M
noncomputable def FX96_read_67 (n : Nat) (a0 : Nat) (s0 : Int64) (M : FM) : Option (Int64 × FM) := BX96_read_67 (FX96_read_94 n ) a0 s0 M
noncomputable def BX96_read_16 (f1 : Nat → Int64 → Int32 → FM → Option (Int64 × FM)) (f3 : Nat → Int64 → FM → Option (Int64 × FM)) (f4 : Nat → Int32 → FM → Option (Int64 × FM)) (g67 : Nat → Int64 → FM → Option (Int64 × FM)) (g94 : Nat → Int64 → FM → Option (Int64 × FM)) (a0 : Nat) (a1 : Int32) (a2 : Int64) (a4 : Int32) (s0 : Nat) (s1 : Int32) (M : FM) : Option (Int64 × FM) :=
  fi (fm_is M 99 99 s0 = true) (
  let M1 : FM := fm_sI M 394 s0 0 s1
  fi (fm_is M1 99 99 a0 = true) (
  fi ((M1.1 394 a0 0) ≤ 0) (
    fi (a1 = 0) (
      fi (fm_is M1 99 99 a0 = true) (
      (f1 a0 a2 a4 M1).bind fun r2 =>
      g94 a0 r2.1 r2.2) none) (
      fi (a1 = (Int32.ofInt 1)) (
        fi (a4 = (Int32.ofInt 4)) (
          fi (fm_is M1 99 99 a0 = true) (
          (f3 a0 a2 M1).bind fun r3 =>
          g67 a0 r3.1 r3.2) none) (
          g67 a0 (Int64.ofInt 0) M1)) (
        fi (a4 = (Int32.ofInt 1)) (
          fi (0 ≤ (lg_cmp a2 (Int64.ofInt 8))) (
            g94 a0 (Int64.ofInt 0) M1) (
            fi (fm_is M1 99 99 a0 = true) (
            (f4 a0 a2.toInt32 M1).bind fun r4 =>
            g94 a0 r4.1 r4.2) none)) (
          g94 a0 (Int64.ofInt 0) M1)))) (
    some ((Int64.ofInt 0), M1))) none) none
noncomputable def FX96_read_16 (n : Nat) (a0 : Nat) (a1 : Int32) (a2 : Int64) (a4 : Int32) (s0 : Nat) (s1 : Int32) (M : FM) : Option (Int64 × FM) := BX96_read_16 FX96_readTimer (FX96_readController n) (FX96_readSerial n) (FX96_read_67 n ) (FX96_read_94 n ) a0 a1 a2 a4 s0 s1 M
noncomputable def BX96_read_0 (f0 : Int32 → Int64 → Int32 → FM → Option (Int32 × FM)) (g16 : Nat → Int32 → Int64 → Int32 → Nat → Int32 → FM → Option (Int64 × FM)) (a0 : Nat) (a1 : Int32) (a2 : Int64) (a4 : Int32) (M : FM) : Option (Int64 × FM) :=
  (f0 a1 a2 a4 M).bind fun r1 =>
  fi (r1.1 = 0) (
    g16 a0 a1 a2 a4 a0 (Int32.ofInt 1) r1.2) (
    g16 a0 a1 a2 a4 a0 (Int32.ofInt 0) r1.2)
noncomputable def FX96_read_0 (n : Nat) (a0 : Nat) (a1 : Int32) (a2 : Int64) (a4 : Int32) (M : FM) : Option (Int64 × FM) := BX96_read_0 FX96_isProper (FX96_read_16 n ) a0 a1 a2 a4 M
noncomputable def FX96_read (n : Nat) (a0 : Nat) (a1 : Int32) (a2 : Int64) (a4 : Int32) (M : FM) : Option (Int64 × FM) := FX96_read_0 n a0 a1 a2 a4 M
/-! BoardMachineModel$Block.read(I)I -/
noncomputable def BX95_read_159 (s0 : Int32) (M : FM) : Option (Int32 × FM) :=
  some (s0, M)
noncomputable def FX95_read_159 (s0 : Int32) (M : FM) : Option (Int32 × FM) := BX95_read_159 s0 M
noncomputable def BX95_read_158 (g159 : Int32 → FM → Option (Int32 × FM)) (M : FM) : Option (Int32 × FM) :=
  g159 (Int32.ofInt 0) M
noncomputable def FX95_read_158 (M : FM) : Option (Int32 × FM) := BX95_read_158 FX95_read_159 M
noncomputable def BX95_read_139 (s0 : Int32) (M : FM) : Option (Int32 × FM) :=
  some (s0, M)
noncomputable def FX95_read_139 (s0 : Int32) (M : FM) : Option (Int32 × FM) := BX95_read_139 s0 M
noncomputable def BX95_read_125 (s0 : Int32) (M : FM) : Option (Int32 × FM) :=
  some (s0, M)
noncomputable def FX95_read_125 (s0 : Int32) (M : FM) : Option (Int32 × FM) := BX95_read_125 s0 M
noncomputable def BX95_read_0 (f0 : Nat → Int32 → FM → Option (Int32 × FM)) (g125 : Int32 → FM → Option (Int32 × FM)) (g139 : Int32 → FM → Option (Int32 × FM)) (g158 : FM → Option (Int32 × FM)) (g159 : Int32 → FM → Option (Int32 × FM)) (a0 : Nat) (a1 : Int32) (M : FM) : Option (Int32 × FM) :=
  fi (fm_is M 93 93 a0 = true) (
  (f0 a0 a1 M).bind fun r1 =>
  fi (r1.1 = 0) (
    fi (a1 = (Int32.ofInt 0)) (
      some ((Int32.ofInt 1953655158), r1.2)) (
    fi (a1 = (Int32.ofInt 4)) (
      some ((Int32.ofInt 2), r1.2)) (
    fi (a1 = (Int32.ofInt 8)) (
      some ((Int32.ofInt 2), r1.2)) (
    fi (a1 = (Int32.ofInt 16)) (
      fi (fm_is r1.2 93 93 a0 = true) (
      fi ((r1.2.1 329 a0 0) = 0) (
        g125 (Int32.ofInt 512) r1.2) (
        fi (fm_is r1.2 93 93 a0 = true) (
        fi ((r1.2.1 329 a0 0) = (Int32.ofInt 1)) (
          g125 (Int32.ofInt 1) r1.2) (
          g125 (Int32.ofInt 0) r1.2)) none)) none) (
    fi (a1 = (Int32.ofInt 52)) (
      fi (fm_is r1.2 93 93 a0 = true) (
      fi ((r1.2.1 328 a0 0) = 0) (
        g139 (Int32.ofInt 16) r1.2) (
        g139 (Int32.ofInt 0) r1.2)) none) (
    fi (a1 = (Int32.ofInt 68)) (
      fi (fm_is r1.2 93 93 a0 = true) (
      fi ((r1.2.1 331 a0 0) = 0) (
        g158 r1.2) (
        fi (fm_is r1.2 93 93 a0 = true) (
        fi ((r1.2.1 328 a0 0) = 0) (
          g159 (Int32.ofInt 1) r1.2) (
          g158 r1.2)) none)) none) (
    fi (a1 = (Int32.ofInt 96)) (
      fi (fm_is r1.2 93 93 a0 = true) (
      some ((r1.2.1 332 a0 0), r1.2)) none) (
    fi (a1 = (Int32.ofInt 112)) (
      fi (fm_is r1.2 93 93 a0 = true) (
      some ((r1.2.1 333 a0 0), r1.2)) none) (
    fi (a1 = (Int32.ofInt 256)) (
      fi (fm_is r1.2 93 93 a0 = true) (
      some ((r1.2.1 325 a0 0), r1.2)) none) (
    some ((Int32.ofInt 0), r1.2))))))))))) (
    some ((Int32.ofInt 0), r1.2))) none
noncomputable def FX95_read_0 (a0 : Nat) (a1 : Int32) (M : FM) : Option (Int32 × FM) := BX95_read_0 FX95_noOffset FX95_read_125 FX95_read_139 FX95_read_158 FX95_read_159 a0 a1 M
noncomputable def FX95_read (a0 : Nat) (a1 : Int32) (M : FM) : Option (Int32 × FM) := FX95_read_0 a0 a1 M
/-! BoardMachineModel.readWindow(JI)J -/
noncomputable def BX92_readWindow_76 (s0 : Int64) (M : FM) : Option (Int64 × FM) :=
  some (s0, M)
noncomputable def FX92_readWindow_76 (n : Nat) (s0 : Int64) (M : FM) : Option (Int64 × FM) := BX92_readWindow_76 s0 M
noncomputable def BX92_readWindow_75 (g76 : Int64 → FM → Option (Int64 × FM)) (M : FM) : Option (Int64 × FM) :=
  g76 (Int64.ofInt 0) M
noncomputable def FX92_readWindow_75 (n : Nat) (M : FM) : Option (Int64 × FM) := BX92_readWindow_75 (FX92_readWindow_76 n ) M
noncomputable def BX92_readWindow_42 (f2 : Int64 → Int32 → FM → Option (Int32 × FM)) (f4 : Nat → Int32 → FM → Option (Int32 × FM)) (g75 : FM → Option (Int64 × FM)) (g76 : Int64 → FM → Option (Int64 × FM)) (a0 : Nat) (a3 : Int32) (a4 : Int32) (a5 : Int64) (M : FM) : Option (Int64 × FM) :=
  fi (a4 = (Int32.ofInt 4)) (
    (f2 a5 a3 M).bind fun r1 =>
    fi (r1.1 = 0) (
      g75 r1.2) (
      fi (fm_is r1.2 92 92 a0 = true) (
      let x2 : Nat := (r1.2.2.2 300 a0 0)
      fi (fm_is r1.2 93 93 x2 = true) (
      (f4 x2 a5.toInt32 r1.2).bind fun r3 =>
      g76 (r3.1.toInt64 &&& (Int64.ofInt 4294967295)) r3.2) none) none)) (
    g75 M)
noncomputable def FX92_readWindow_42 (n : Nat) (a0 : Nat) (a3 : Int32) (a4 : Int32) (a5 : Int64) (M : FM) : Option (Int64 × FM) := BX92_readWindow_42 FX92_isDiskRegister FX95_read (FX92_readWindow_75 n ) (FX92_readWindow_76 n ) a0 a3 a4 a5 M
noncomputable def BX92_readWindow_0 (f0 : Int64 → Int32 → FM → Option (Int32 × FM)) (f1 : Int32 → FM → Option (Int64 × FM)) (f3 : Nat → Int32 → Int64 → Int32 → FM → Option (Int64 × FM)) (g42 : Nat → Int32 → Int32 → Int64 → FM → Option (Int64 × FM)) (a0 : Nat) (a1 : Int64) (a3 : Int32) (M : FM) : Option (Int64 × FM) :=
  (f0 a1 a3 M).bind fun r1 =>
  (f1 r1.1 r1.2).bind fun r2 =>
  let x3 : Int64 := (a1 - r2.1)
  fi (r1.1 ≤ 0) (
    g42 a0 a3 r1.1 x3 r2.2) (
    fi ((Int32.ofInt 4) ≤ r1.1) (
      g42 a0 a3 r1.1 x3 r2.2) (
      fi (fm_is r2.2 92 92 a0 = true) (
      let x4 : Nat := (r2.2.2.2 301 a0 0)
      fi (fm_is r2.2 99 99 x4 = true) (
      (f3 x4 (r1.1 - (Int32.ofInt 1)) x3 a3 r2.2).bind fun r5 =>
      some (r5.1, r5.2)) none) none))
noncomputable def FX92_readWindow_0 (n : Nat) (a0 : Nat) (a1 : Int64) (a3 : Int32) (M : FM) : Option (Int64 × FM) := BX92_readWindow_0 (FX92_windowOf n) FX92_baseOf (FX96_read n) (FX92_readWindow_42 n ) a0 a1 a3 M
noncomputable def FX92_readWindow (n : Nat) (a0 : Nat) (a1 : Int64) (a3 : Int32) (M : FM) : Option (Int64 × FM) := FX92_readWindow_0 n a0 a1 a3 M
/-! BoardMachineModel.get(I)J -/
noncomputable def BX92_get_57 (f3 : Nat → Int64 → FM → Option (Int32 × FM)) (k57 : Nat → Int64 → Int32 → FM → Option (Int64 × FM)) (a0 : Nat) (a2 : Int64) (a4 : Int32) (M : FM) : Option (Int64 × FM) :=
  fi (a4 < 0) (
    some (a2, M)) (
    fi (fm_is M 92 92 a0 = true) (
    fi (fm_is M 92 92 a0 = true) (
    let x1 : Nat := (M.2.2 323 a0 0)
    fi (fm_is M 902 902 x1 = true ∧ fm_in M x1 a4 = true) (
    let x2 : Nat := (M.2.2 298 a0 0)
    fi (fm_is M 98 98 x2 = true) (
    (f3 x2 (M.2.1 3 x1 a4.toNatClampNeg) M).bind fun r3 =>
    let x4 : Int64 := (((Int64.ofInt 256) * a2) + r3.1.toInt64)
    let x5 : Int32 := a4 + (Int32.ofInt (-1))
    k57 a0 x4 x5 r3.2) none) none) none) none)
noncomputable def FX92_get_57 (n : Nat) (k57 : Nat → Int64 → Int32 → FM → Option (Int64 × FM)) (a0 : Nat) (a2 : Int64) (a4 : Int32) (M : FM) : Option (Int64 × FM) := BX92_get_57 FX93_get k57 a0 a2 a4 M
noncomputable def BX92_get_49 (s0 : Int64) (M : FM) : Option (Int64 × FM) :=
  some (s0, M)
noncomputable def FX92_get_49 (n : Nat) (k57 : Nat → Int64 → Int32 → FM → Option (Int64 × FM)) (s0 : Int64) (M : FM) : Option (Int64 × FM) := BX92_get_49 s0 M
noncomputable def BX92_get_0 (f0 : Int64 → Int64 → FM → Option (Int32 × FM)) (f1 : Nat → Int64 → Int32 → FM → Option (Int64 × FM)) (f2 : Nat → Int64 → Int32 → FM → Option (Int64 × FM)) (g49 : Int64 → FM → Option (Int64 × FM)) (k57 : Nat → Int64 → Int32 → FM → Option (Int64 × FM)) (a0 : Nat) (a1 : Int32) (M : FM) : Option (Int64 × FM) :=
  fi (fm_is M 92 92 a0 = true) (
  fi ((M.1 322 a0 0) = 0) (
    let x1 : Int32 := (a1 - (Int32.ofInt 1))
    k57 a0 (Int64.ofInt 0) x1 M) (
    fi (fm_is M 92 92 a0 = true) (
    let x2 : Nat := (M.2.2 323 a0 0)
    fi (fm_is M 902 902 x2 = true ∧ fm_in M x2 (Int32.ofInt 0) = true) (
    (f0 (M.2.1 3 x2 (Int32.ofInt 0).toNatClampNeg) a1.toInt64 M).bind fun r3 =>
    fi (r3.1 = 0) (
      fi (fm_is r3.2 92 92 a0 = true) (
      let x4 : Nat := (r3.2.2.2 323 a0 0)
      fi (fm_is r3.2 902 902 x4 = true ∧ fm_in r3.2 x4 (Int32.ofInt 0) = true) (
      fi (fm_is r3.2 92 92 a0 = true) (
      (f1 a0 (r3.2.2.1 3 x4 (Int32.ofInt 0).toNatClampNeg) a1 r3.2).bind fun r5 =>
      g49 r5.1 r5.2) none) none) none) (
      fi (fm_is r3.2 92 92 a0 = true) (
      fi (fm_is r3.2 92 92 a0 = true) (
      let x6 : Nat := (r3.2.2.2 323 a0 0)
      fi (fm_is r3.2 902 902 x6 = true ∧ fm_in r3.2 x6 (Int32.ofInt 0) = true) (
      let x7 : Nat := (r3.2.2.2 298 a0 0)
      fi (fm_is r3.2 98 98 x7 = true) (
      (f2 x7 (r3.2.2.1 3 x6 (Int32.ofInt 0).toNatClampNeg) a1 r3.2).bind fun r8 =>
      g49 r8.1 r8.2) none) none) none) none)) none) none)) none
noncomputable def FX92_get_0 (n : Nat) (k57 : Nat → Int64 → Int32 → FM → Option (Int64 × FM)) (a0 : Nat) (a1 : Int32) (M : FM) : Option (Int64 × FM) := BX92_get_0 FX93_areBytes (FX92_readWindow n) (FX93_number n) (FX92_get_49 n k57) k57 a0 a1 M
noncomputable def FX92_get_L57 (n : Nat) : Nat → Nat → Int64 → Int32 → FM → Option (Int64 × FM)
  | 0 => fun _ _ _ _ => none
  | j + 1 => FX92_get_57 n (FX92_get_L57 n j)
noncomputable def FX92_get (n : Nat) (a0 : Nat) (a1 : Int32) (M : FM) : Option (Int64 × FM) := FX92_get_0 n (FX92_get_L57 n n) a0 a1 M
/-! BoardMachineModel$Floats.field(III)I -/
noncomputable def BX99_field_0 (a0 : Int32) (a1 : Int32) (a2 : Int32) (M : FM) : Option (Int32 × FM) :=
  some (((a0.toUInt32 >>> (a1.toUInt32 &&& Int32.toUInt32 31)).toInt32 &&& (((Int32.ofInt 1) <<< (a2 &&& 31)) - (Int32.ofInt 1))), M)
noncomputable def FX99_field_0 (a0 : Int32) (a1 : Int32) (a2 : Int32) (M : FM) : Option (Int32 × FM) := BX99_field_0 a0 a1 a2 M
noncomputable def FX99_field (a0 : Int32) (a1 : Int32) (a2 : Int32) (M : FM) : Option (Int32 × FM) := FX99_field_0 a0 a1 a2 M
/-! BoardMachineModel$Floats.quiet(I)J -/
noncomputable def BX99_quiet_14 (s0 : Int64) (M : FM) : Option (Int64 × FM) :=
  some (s0, M)
noncomputable def FX99_quiet_14 (s0 : Int64) (M : FM) : Option (Int64 × FM) := BX99_quiet_14 s0 M
noncomputable def BX99_quiet_0 (g14 : Int64 → FM → Option (Int64 × FM)) (a0 : Int32) (M : FM) : Option (Int64 × FM) :=
  fi (a0 = (Int32.ofInt 1)) (
    g14 (Int64.ofInt 9221120237041090560) M) (
    g14 (Int64.ofInt 2143289344) M)
noncomputable def FX99_quiet_0 (a0 : Int32) (M : FM) : Option (Int64 × FM) := BX99_quiet_0 FX99_quiet_14 a0 M
noncomputable def FX99_quiet (a0 : Int32) (M : FM) : Option (Int64 × FM) := FX99_quiet_0 a0 M
/-! BoardMachineModel$Floats.bitsOf(II)J -/
noncomputable def BX99_bitsOf_47 (s0 : Int64) (M : FM) : Option (Int64 × FM) :=
  some (s0, M)
noncomputable def FX99_bitsOf_47 (s0 : Int64) (M : FM) : Option (Int64 × FM) := BX99_bitsOf_47 s0 M
noncomputable def BX99_bitsOf_0 (f0 : Int32 → FM → Option (Int64 × FM)) (g47 : Int64 → FM → Option (Int64 × FM)) (a0 : Nat) (a1 : Int32) (a2 : Int32) (M : FM) : Option (Int64 × FM) :=
  fi (a2 = (Int32.ofInt 1)) (
    fi (fm_is M 96 96 a0 = true) (
    let x1 : Nat := (M.2.2 367 a0 0)
    fi (fm_is M 902 902 x1 = true ∧ fm_in M x1 a1 = true) (
    g47 (M.2.1 3 x1 a1.toNatClampNeg) M) none) none) (
    fi (fm_is M 96 96 a0 = true) (
    let x2 : Nat := (M.2.2 367 a0 0)
    fi (fm_is M 902 902 x2 = true ∧ fm_in M x2 a1 = true) (
    fi ((lg_cmp (((M.2.1 3 x2 a1.toNatClampNeg).toUInt64 >>> ((Int32.ofInt 32).toInt64.toUInt64 &&& Int64.toUInt64 63)).toInt64) (Int64.ofInt 4294967295)) = 0) (
      fi (fm_is M 96 96 a0 = true) (
      let x3 : Nat := (M.2.2 367 a0 0)
      fi (fm_is M 902 902 x3 = true ∧ fm_in M x3 a1 = true) (
      g47 ((M.2.1 3 x3 a1.toNatClampNeg) &&& (Int64.ofInt 4294967295)) M) none) none) (
      (f0 (Int32.ofInt 0) M).bind fun r4 =>
      g47 r4.1 r4.2)) none) none)
noncomputable def FX99_bitsOf_0 (a0 : Nat) (a1 : Int32) (a2 : Int32) (M : FM) : Option (Int64 × FM) := BX99_bitsOf_0 FX99_quiet FX99_bitsOf_47 a0 a1 a2 M
noncomputable def FX99_bitsOf (a0 : Nat) (a1 : Int32) (a2 : Int32) (M : FM) : Option (Int64 × FM) := FX99_bitsOf_0 a0 a1 a2 M
/-! BoardMachineModel$Floats.read(III)V -/
noncomputable def BX99_read_189 (s0 : Nat) (s1 : Int32) (s2 : Int32) (M : FM) : Option (FM) :=
  fi (fm_is M 901 901 s0 = true ∧ fm_in M s0 s1 = true) (
  let M1 : FM := fm_sI M 3 s0 s1.toNatClampNeg s2
  some M1) none
noncomputable def FX99_read_189 (s0 : Nat) (s1 : Int32) (s2 : Int32) (M : FM) : Option (FM) := BX99_read_189 s0 s1 s2 M
noncomputable def BX99_read_144 (g189 : Nat → Int32 → Int32 → FM → Option (FM)) (a0 : Nat) (a3 : Int32) (a6 : Int32) (a7 : Int64) (a9 : Int64) (s0 : Nat) (s1 : Int32) (M : FM) : Option (FM) :=
  fi (fm_is M 96 96 a0 = true) (
  let x1 : Nat := (M.2.2 374 a0 0)
  fi (fm_is M 901 901 x1 = true ∧ fm_in M x1 a3 = true) (
  fi (0 ≤ (lg_cmp a7 ((M.1 3 x1 a3.toNatClampNeg).toInt64))) (
    fi ((lg_cmp a9 (Int64.ofInt 0)) = 0) (
      g189 s0 s1 (Int32.ofInt 2) M) (
      fi ((lg_cmp (a9 >>> ((a6 - (Int32.ofInt 1)).toInt64 &&& 63)) (Int64.ofInt 1)) = 0) (
        g189 s0 s1 (Int32.ofInt 3) M) (
        g189 s0 s1 (Int32.ofInt 4) M))) (
    g189 s0 s1 (Int32.ofInt 1) M)) none) none
noncomputable def FX99_read_144 (a0 : Nat) (a3 : Int32) (a6 : Int32) (a7 : Int64) (a9 : Int64) (s0 : Nat) (s1 : Int32) (M : FM) : Option (FM) := BX99_read_144 FX99_read_189 a0 a3 a6 a7 a9 s0 s1 M
noncomputable def BX99_read_110 (g144 : Nat → Int32 → Int32 → Int64 → Int64 → Nat → Int32 → FM → Option (FM)) (g189 : Nat → Int32 → Int32 → FM → Option (FM)) (a0 : Nat) (a1 : Int32) (a3 : Int32) (a6 : Int32) (a7 : Int64) (a9 : Int64) (s0 : Nat) (s1 : Int32) (s2 : Int32) (M : FM) : Option (FM) :=
  fi (fm_is M 96 96 a0 = true) (
  let x1 : Nat := (M.2.2 373 a0 0)
  fi (fm_is M 901 901 x1 = true ∧ fm_in M x1 a3 = true) (
  fi (fm_is M 901 901 s0 = true ∧ fm_in M s0 s1 = true) (
  let M2 : FM := fm_sI M 3 s0 s1.toNatClampNeg ((s2 - (M.1 3 x1 a3.toNatClampNeg)) - a6)
  fi (fm_is M2 96 96 a0 = true) (
  fi ((lg_cmp a7 (Int64.ofInt 0)) = 0) (
    fi ((lg_cmp a9 (Int64.ofInt 0)) = 0) (
      g189 (M2.2.2 375 a0 0) a1 (Int32.ofInt 0) M2) (
      g144 a0 a3 a6 a7 a9 (M2.2.2 375 a0 0) a1 M2)) (
    g144 a0 a3 a6 a7 a9 (M2.2.2 375 a0 0) a1 M2)) none) none) none) none
noncomputable def FX99_read_110 (a0 : Nat) (a1 : Int32) (a3 : Int32) (a6 : Int32) (a7 : Int64) (a9 : Int64) (s0 : Nat) (s1 : Int32) (s2 : Int32) (M : FM) : Option (FM) := BX99_read_110 FX99_read_144 FX99_read_189 a0 a1 a3 a6 a7 a9 s0 s1 s2 M
noncomputable def BX99_read_90 (g110 : Nat → Int32 → Int32 → Int32 → Int64 → Int64 → Nat → Int32 → Int32 → FM → Option (FM)) (a0 : Nat) (a1 : Int32) (a3 : Int32) (a6 : Int32) (a7 : Int64) (a9 : Int64) (s0 : Nat) (s1 : Int32) (s2 : Int64) (M : FM) : Option (FM) :=
  fi (fm_is M 902 902 s0 = true ∧ fm_in M s0 s1 = true) (
  let M1 : FM := fm_sL M 3 s0 s1.toNatClampNeg s2
  fi (fm_is M1 96 96 a0 = true) (
  fi ((lg_cmp a7 (Int64.ofInt 0)) = 0) (
    g110 a0 a1 a3 a6 a7 a9 (M1.2.2 378 a0 0) a1 (Int32.ofInt 1) M1) (
    g110 a0 a1 a3 a6 a7 a9 (M1.2.2 378 a0 0) a1 a7.toInt32 M1)) none) none
noncomputable def FX99_read_90 (a0 : Nat) (a1 : Int32) (a3 : Int32) (a6 : Int32) (a7 : Int64) (a9 : Int64) (s0 : Nat) (s1 : Int32) (s2 : Int64) (M : FM) : Option (FM) := BX99_read_90 FX99_read_110 a0 a1 a3 a6 a7 a9 s0 s1 s2 M
noncomputable def BX99_read_61 (g90 : Nat → Int32 → Int32 → Int32 → Int64 → Int64 → Nat → Int32 → Int64 → FM → Option (FM)) (a0 : Nat) (a1 : Int32) (a3 : Int32) (a6 : Int32) (a7 : Int64) (a9 : Int64) (s0 : Nat) (s1 : Int32) (s2 : Int64) (s3 : Int32) (M : FM) : Option (FM) :=
  fi (fm_is M 901 901 s0 = true ∧ fm_in M s0 s1 = true) (
  let M1 : FM := fm_sI M 3 s0 s1.toNatClampNeg (((s2.toUInt64 >>> (s3.toInt64.toUInt64 &&& Int64.toUInt64 63)).toInt64).toInt32 &&& (Int32.ofInt 1))
  fi (fm_is M1 96 96 a0 = true) (
  fi ((lg_cmp a7 (Int64.ofInt 0)) = 0) (
    g90 a0 a1 a3 a6 a7 a9 (M1.2.2 377 a0 0) a1 a9 M1) (
    g90 a0 a1 a3 a6 a7 a9 (M1.2.2 377 a0 0) a1 (a9 + ((Int64.ofInt 1) <<< (a6.toInt64 &&& 63))) M1)) none) none
noncomputable def FX99_read_61 (a0 : Nat) (a1 : Int32) (a3 : Int32) (a6 : Int32) (a7 : Int64) (a9 : Int64) (s0 : Nat) (s1 : Int32) (s2 : Int64) (s3 : Int32) (M : FM) : Option (FM) := BX99_read_61 FX99_read_90 a0 a1 a3 a6 a7 a9 s0 s1 s2 s3 M
noncomputable def BX99_read_0 (f0 : Nat → Int32 → Int32 → FM → Option (Int64 × FM)) (g61 : Nat → Int32 → Int32 → Int32 → Int64 → Int64 → Nat → Int32 → Int64 → Int32 → FM → Option (FM)) (a0 : Nat) (a1 : Int32) (a2 : Int32) (a3 : Int32) (M : FM) : Option (FM) :=
  fi (fm_is M 96 96 a0 = true) (
  (f0 a0 a2 a3 M).bind fun r1 =>
  fi (fm_is r1.2 96 96 a0 = true) (
  let x2 : Nat := (r1.2.2.2 372 a0 0)
  fi (fm_is r1.2 901 901 x2 = true ∧ fm_in r1.2 x2 a3 = true) (
  let x3 : Int32 := (r1.2.1 3 x2 a3.toNatClampNeg)
  fi (fm_is r1.2 96 96 a0 = true) (
  let x4 : Nat := (r1.2.2.2 374 a0 0)
  fi (fm_is r1.2 901 901 x4 = true ∧ fm_in r1.2 x4 a3 = true) (
  let x5 : Int64 := ((r1.1.toUInt64 >>> (x3.toInt64.toUInt64 &&& Int64.toUInt64 63)).toInt64 &&& (r1.2.1 3 x4 a3.toNatClampNeg).toInt64)
  let x6 : Int64 := (r1.1 &&& (((Int64.ofInt 1) <<< (x3.toInt64 &&& 63)) - (Int64.ofInt 1)))
  fi (fm_is r1.2 96 96 a0 = true) (
  fi (a3 = (Int32.ofInt 1)) (
    g61 a0 a1 a3 x3 x5 x6 (r1.2.2.2 376 a0 0) a1 r1.1 (Int32.ofInt 63) r1.2) (
    g61 a0 a1 a3 x3 x5 x6 (r1.2.2.2 376 a0 0) a1 r1.1 (Int32.ofInt 31) r1.2)) none) none) none) none) none) none
noncomputable def FX99_read_0 (a0 : Nat) (a1 : Int32) (a2 : Int32) (a3 : Int32) (M : FM) : Option (FM) := BX99_read_0 FX99_bitsOf FX99_read_61 a0 a1 a2 a3 M
noncomputable def FX99_read (a0 : Nat) (a1 : Int32) (a2 : Int32) (a3 : Int32) (M : FM) : Option (FM) := FX99_read_0 a0 a1 a2 a3 M
/-! BoardMachineModel$Floats.raiseFlags(I)V -/
noncomputable def BX99_raiseFlags_0 (a0 : Nat) (a1 : Int32) (M : FM) : Option (FM) :=
  fi (fm_is M 96 96 a0 = true) (
  fi (fm_is M 96 96 a0 = true) (
  let M1 : FM := fm_sI M 368 a0 0 ((M.1 368 a0 0) ||| a1)
  fi (fm_is M1 96 96 a0 = true) (
  fi ((Int32.ofInt 1) = 0 ∨ (Int32.ofInt 1) = 1) (
  let M2 : FM := fm_sI M1 371 a0 0 (Int32.ofInt 1)
  some M2) none) none) none) none
noncomputable def FX99_raiseFlags_0 (a0 : Nat) (a1 : Int32) (M : FM) : Option (FM) := BX99_raiseFlags_0 a0 a1 M
noncomputable def FX99_raiseFlags (a0 : Nat) (a1 : Int32) (M : FM) : Option (FM) := FX99_raiseFlags_0 a0 a1 M
/-! BoardMachineModel$Floats.invalid(I)J -/
noncomputable def BX99_invalid_0 (f0 : Nat → Int32 → FM → Option (FM)) (f1 : Int32 → FM → Option (Int64 × FM)) (a0 : Nat) (a1 : Int32) (M : FM) : Option (Int64 × FM) :=
  fi (fm_is M 96 96 a0 = true) (
  (f0 a0 (Int32.ofInt 16) M).bind fun M1 =>
  (f1 a1 M1).bind fun r2 =>
  some (r2.1, r2.2)) none
noncomputable def FX99_invalid_0 (a0 : Nat) (a1 : Int32) (M : FM) : Option (Int64 × FM) := BX99_invalid_0 FX99_raiseFlags FX99_quiet a0 a1 M
noncomputable def FX99_invalid (a0 : Nat) (a1 : Int32) (M : FM) : Option (Int64 × FM) := FX99_invalid_0 a0 a1 M
/-! BoardMachineModel$Floats.isNone(I)Z -/
noncomputable def BX99_isNone_15 (s0 : Int32) (M : FM) : Option (Int32 × FM) :=
  fi (s0 = 0 ∨ s0 = 1) (some (s0, M)) none
noncomputable def FX99_isNone_15 (s0 : Int32) (M : FM) : Option (Int32 × FM) := BX99_isNone_15 s0 M
noncomputable def BX99_isNone_0 (g15 : Int32 → FM → Option (Int32 × FM)) (a0 : Nat) (a1 : Int32) (M : FM) : Option (Int32 × FM) :=
  fi (fm_is M 96 96 a0 = true) (
  let x1 : Nat := (M.2.2 375 a0 0)
  fi (fm_is M 901 901 x1 = true ∧ fm_in M x1 a1 = true) (
  fi ((M.1 3 x1 a1.toNatClampNeg) < (Int32.ofInt 3)) (
    g15 (Int32.ofInt 0) M) (
    g15 (Int32.ofInt 1) M)) none) none
noncomputable def FX99_isNone_0 (a0 : Nat) (a1 : Int32) (M : FM) : Option (Int32 × FM) := BX99_isNone_0 FX99_isNone_15 a0 a1 M
noncomputable def FX99_isNone (a0 : Nat) (a1 : Int32) (M : FM) : Option (Int32 × FM) := FX99_isNone_0 a0 a1 M
/-! BoardMachineModel$Floats.none(II)J -/
noncomputable def BX99_none_89 (s0 : Int64) (M : FM) : Option (Int64 × FM) :=
  some (s0, M)
noncomputable def FX99_none_89 (n : Nat) (k8 : Nat → Int32 → Int32 → Int32 → Int32 → Int32 → FM → Option (Int64 × FM)) (s0 : Int64) (M : FM) : Option (Int64 × FM) := BX99_none_89 s0 M
noncomputable def BX99_none_54 (k8 : Nat → Int32 → Int32 → Int32 → Int32 → Int32 → FM → Option (Int64 × FM)) (a0 : Nat) (a1 : Int32) (a2 : Int32) (a3 : Int32) (a5 : Int32) (s0 : Int32) (M : FM) : Option (Int64 × FM) :=
  let x1 : Int32 := a5 + (Int32.ofInt 1)
  k8 a0 a1 a2 a3 s0 x1 M
noncomputable def FX99_none_54 (n : Nat) (k8 : Nat → Int32 → Int32 → Int32 → Int32 → Int32 → FM → Option (Int64 × FM)) (a0 : Nat) (a1 : Int32) (a2 : Int32) (a3 : Int32) (a5 : Int32) (s0 : Int32) (M : FM) : Option (Int64 × FM) := BX99_none_54 k8 a0 a1 a2 a3 a5 s0 M
noncomputable def BX99_none_49 (g54 : Nat → Int32 → Int32 → Int32 → Int32 → Int32 → FM → Option (Int64 × FM)) (a0 : Nat) (a1 : Int32) (a2 : Int32) (a3 : Int32) (a5 : Int32) (M : FM) : Option (Int64 × FM) :=
  g54 a0 a1 a2 a3 a5 (Int32.ofInt 1) M
noncomputable def FX99_none_49 (n : Nat) (k8 : Nat → Int32 → Int32 → Int32 → Int32 → Int32 → FM → Option (Int64 × FM)) (a0 : Nat) (a1 : Int32) (a2 : Int32) (a3 : Int32) (a5 : Int32) (M : FM) : Option (Int64 × FM) := BX99_none_49 (FX99_none_54 n k8) a0 a1 a2 a3 a5 M
noncomputable def BX99_none_32 (g49 : Nat → Int32 → Int32 → Int32 → Int32 → FM → Option (Int64 × FM)) (g54 : Nat → Int32 → Int32 → Int32 → Int32 → Int32 → FM → Option (Int64 × FM)) (a0 : Nat) (a1 : Int32) (a2 : Int32) (a4 : Int32) (a5 : Int32) (s0 : Int32) (M : FM) : Option (Int64 × FM) :=
  fi (a4 = 0) (
    fi (fm_is M 96 96 a0 = true) (
    let x1 : Nat := (M.2.2 375 a0 0)
    fi (fm_is M 901 901 x1 = true ∧ fm_in M x1 a5 = true) (
    fi ((M.1 3 x1 a5.toNatClampNeg) = (Int32.ofInt 4)) (
      g49 a0 a1 a2 s0 a5 M) (
      g54 a0 a1 a2 s0 a5 (Int32.ofInt 0) M)) none) none) (
    g49 a0 a1 a2 s0 a5 M)
noncomputable def FX99_none_32 (n : Nat) (k8 : Nat → Int32 → Int32 → Int32 → Int32 → Int32 → FM → Option (Int64 × FM)) (a0 : Nat) (a1 : Int32) (a2 : Int32) (a4 : Int32) (a5 : Int32) (s0 : Int32) (M : FM) : Option (Int64 × FM) := BX99_none_32 (FX99_none_49 n k8) (FX99_none_54 n k8) a0 a1 a2 a4 a5 s0 M
noncomputable def BX99_none_27 (g32 : Nat → Int32 → Int32 → Int32 → Int32 → Int32 → FM → Option (Int64 × FM)) (a0 : Nat) (a1 : Int32) (a2 : Int32) (a4 : Int32) (a5 : Int32) (M : FM) : Option (Int64 × FM) :=
  g32 a0 a1 a2 a4 a5 (Int32.ofInt 1) M
noncomputable def FX99_none_27 (n : Nat) (k8 : Nat → Int32 → Int32 → Int32 → Int32 → Int32 → FM → Option (Int64 × FM)) (a0 : Nat) (a1 : Int32) (a2 : Int32) (a4 : Int32) (a5 : Int32) (M : FM) : Option (Int64 × FM) := BX99_none_27 (FX99_none_32 n k8) a0 a1 a2 a4 a5 M
noncomputable def BX99_none_8 (f0 : Nat → Int32 → FM → Option (Int32 × FM)) (f1 : Int32 → FM → Option (Int64 × FM)) (f2 : Nat → Int32 → FM → Option (Int64 × FM)) (g27 : Nat → Int32 → Int32 → Int32 → Int32 → FM → Option (Int64 × FM)) (g32 : Nat → Int32 → Int32 → Int32 → Int32 → Int32 → FM → Option (Int64 × FM)) (g89 : Int64 → FM → Option (Int64 × FM)) (a0 : Nat) (a1 : Int32) (a2 : Int32) (a3 : Int32) (a4 : Int32) (a5 : Int32) (M : FM) : Option (Int64 × FM) :=
  fi (a1 ≤ a5) (
    fi (a3 = 0) (
      g89 (Int64.ofInt (-1)) M) (
      fi (a4 = 0) (
        (f1 a2 M).bind fun r1 =>
        g89 r1.1 r1.2) (
        fi (fm_is M 96 96 a0 = true) (
        (f2 a0 a2 M).bind fun r2 =>
        g89 r2.1 r2.2) none))) (
    fi (a3 = 0) (
      fi (fm_is M 96 96 a0 = true) (
      (f0 a0 a5 M).bind fun r3 =>
      fi (r3.1 = 0) (
        g32 a0 a1 a2 a4 a5 (Int32.ofInt 0) r3.2) (
        g27 a0 a1 a2 a4 a5 r3.2)) none) (
      g27 a0 a1 a2 a4 a5 M))
noncomputable def FX99_none_8 (n : Nat) (k8 : Nat → Int32 → Int32 → Int32 → Int32 → Int32 → FM → Option (Int64 × FM)) (a0 : Nat) (a1 : Int32) (a2 : Int32) (a3 : Int32) (a4 : Int32) (a5 : Int32) (M : FM) : Option (Int64 × FM) := BX99_none_8 FX99_isNone FX99_quiet FX99_invalid (FX99_none_27 n k8) (FX99_none_32 n k8) (FX99_none_89 n k8) a0 a1 a2 a3 a4 a5 M
noncomputable def BX99_none_0 (k8 : Nat → Int32 → Int32 → Int32 → Int32 → Int32 → FM → Option (Int64 × FM)) (a0 : Nat) (a1 : Int32) (a2 : Int32) (M : FM) : Option (Int64 × FM) :=
  k8 a0 a1 a2 (Int32.ofInt 0) (Int32.ofInt 0) (Int32.ofInt 0) M
noncomputable def FX99_none_0 (n : Nat) (k8 : Nat → Int32 → Int32 → Int32 → Int32 → Int32 → FM → Option (Int64 × FM)) (a0 : Nat) (a1 : Int32) (a2 : Int32) (M : FM) : Option (Int64 × FM) := BX99_none_0 k8 a0 a1 a2 M
noncomputable def FX99_none_L8 (n : Nat) : Nat → Nat → Int32 → Int32 → Int32 → Int32 → Int32 → FM → Option (Int64 × FM)
  | 0 => fun _ _ _ _ _ _ _ => none
  | j + 1 => FX99_none_8 n (FX99_none_L8 n j)
noncomputable def FX99_none (n : Nat) (a0 : Nat) (a1 : Int32) (a2 : Int32) (M : FM) : Option (Int64 × FM) := FX99_none_0 n (FX99_none_L8 n n) a0 a1 a2 M
/-! BoardMachineModel$Floats.pack(IJJI)J -/
noncomputable def BX99_pack_37 (a3 : Int64) (s0 : Int64) (s1 : Int64) (s2 : Int32) (M : FM) : Option (Int64 × FM) :=
  some (((s0 ||| (s1 <<< (s2.toInt64 &&& 63))) ||| a3), M)
noncomputable def FX99_pack_37 (a3 : Int64) (s0 : Int64) (s1 : Int64) (s2 : Int32) (M : FM) : Option (Int64 × FM) := BX99_pack_37 a3 s0 s1 s2 M
noncomputable def BX99_pack_19 (g37 : Int64 → Int64 → Int64 → Int32 → FM → Option (Int64 × FM)) (a1 : Int64) (a3 : Int64) (a5 : Int32) (s0 : Int64) (M : FM) : Option (Int64 × FM) :=
  fi (a5 = (Int32.ofInt 1)) (
    g37 a3 s0 a1 (Int32.ofInt 52) M) (
    g37 a3 s0 a1 (Int32.ofInt 23) M)
noncomputable def FX99_pack_19 (a1 : Int64) (a3 : Int64) (a5 : Int32) (s0 : Int64) (M : FM) : Option (Int64 × FM) := BX99_pack_19 FX99_pack_37 a1 a3 a5 s0 M
noncomputable def BX99_pack_0 (g19 : Int64 → Int64 → Int32 → Int64 → FM → Option (Int64 × FM)) (a0 : Int32) (a1 : Int64) (a3 : Int64) (a5 : Int32) (M : FM) : Option (Int64 × FM) :=
  fi (a5 = (Int32.ofInt 1)) (
    g19 a1 a3 a5 (a0.toInt64 <<< ((Int32.ofInt 63).toInt64 &&& 63)) M) (
    g19 a1 a3 a5 (a0.toInt64 <<< ((Int32.ofInt 31).toInt64 &&& 63)) M)
noncomputable def FX99_pack_0 (a0 : Int32) (a1 : Int64) (a3 : Int64) (a5 : Int32) (M : FM) : Option (Int64 × FM) := BX99_pack_0 FX99_pack_19 a0 a1 a3 a5 M
noncomputable def FX99_pack (a0 : Int32) (a1 : Int64) (a3 : Int64) (a5 : Int32) (M : FM) : Option (Int64 × FM) := FX99_pack_0 a0 a1 a3 a5 M
/-! BoardMachineModel$Floats.infiniteSum(ZIZII)J -/
noncomputable def BX99_infiniteSum_31 (f1 : Int32 → Int64 → Int64 → Int32 → FM → Option (Int64 × FM)) (a0 : Nat) (a5 : Int32) (s0 : Int32) (M : FM) : Option (Int64 × FM) :=
  fi (fm_is M 96 96 a0 = true) (
  let x1 : Nat := (M.2.2 374 a0 0)
  fi (fm_is M 901 901 x1 = true ∧ fm_in M x1 a5 = true) (
  (f1 s0 ((M.1 3 x1 a5.toNatClampNeg).toInt64) (Int64.ofInt 0) a5 M).bind fun r2 =>
  some (r2.1, r2.2)) none) none
noncomputable def FX99_infiniteSum_31 (a0 : Nat) (a5 : Int32) (s0 : Int32) (M : FM) : Option (Int64 × FM) := BX99_infiniteSum_31 FX99_pack a0 a5 s0 M
noncomputable def BX99_infiniteSum_21 (g31 : Nat → Int32 → Int32 → FM → Option (Int64 × FM)) (a0 : Nat) (a1 : Int32) (a2 : Int32) (a4 : Int32) (a5 : Int32) (M : FM) : Option (Int64 × FM) :=
  fi (a1 = 0) (
    g31 a0 a5 a4 M) (
    g31 a0 a5 a2 M)
noncomputable def FX99_infiniteSum_21 (a0 : Nat) (a1 : Int32) (a2 : Int32) (a4 : Int32) (a5 : Int32) (M : FM) : Option (Int64 × FM) := BX99_infiniteSum_21 FX99_infiniteSum_31 a0 a1 a2 a4 a5 M
noncomputable def BX99_infiniteSum_0 (f0 : Nat → Int32 → FM → Option (Int64 × FM)) (g21 : Nat → Int32 → Int32 → Int32 → Int32 → FM → Option (Int64 × FM)) (a0 : Nat) (a1 : Int32) (a2 : Int32) (a3 : Int32) (a4 : Int32) (a5 : Int32) (M : FM) : Option (Int64 × FM) :=
  fi (a1 = 0) (
    g21 a0 a1 a2 a4 a5 M) (
    fi (a3 = 0) (
      g21 a0 a1 a2 a4 a5 M) (
      fi (a2 = a4) (
        g21 a0 a1 a2 a4 a5 M) (
        fi (fm_is M 96 96 a0 = true) (
        (f0 a0 a5 M).bind fun r1 =>
        some (r1.1, r1.2)) none)))
noncomputable def FX99_infiniteSum_0 (a0 : Nat) (a1 : Int32) (a2 : Int32) (a3 : Int32) (a4 : Int32) (a5 : Int32) (M : FM) : Option (Int64 × FM) := BX99_infiniteSum_0 FX99_invalid FX99_infiniteSum_21 a0 a1 a2 a3 a4 a5 M
noncomputable def FX99_infiniteSum (a0 : Nat) (a1 : Int32) (a2 : Int32) (a3 : Int32) (a4 : Int32) (a5 : Int32) (M : FM) : Option (Int64 × FM) := FX99_infiniteSum_0 a0 a1 a2 a3 a4 a5 M
/-! BoardMachineModel$Floats.put([IJ)V -/
noncomputable def BX99_put_30 (k2 : Nat → Int64 → Int32 → FM → Option (FM)) (a0 : Nat) (a1 : Int64) (a3 : Int32) (s0 : Nat) (s1 : Int32) (s2 : Int32) (M : FM) : Option (FM) :=
  fi (fm_is M 901 901 s0 = true ∧ fm_in M s0 s1 = true) (
  let M1 : FM := fm_sI M 3 s0 s1.toNatClampNeg s2
  let x2 : Int32 := a3 + (Int32.ofInt 1)
  k2 a0 a1 x2 M1) none
noncomputable def FX99_put_30 (n : Nat) (k2 : Nat → Int64 → Int32 → FM → Option (FM)) (a0 : Nat) (a1 : Int64) (a3 : Int32) (s0 : Nat) (s1 : Int32) (s2 : Int32) (M : FM) : Option (FM) := BX99_put_30 k2 a0 a1 a3 s0 s1 s2 M
noncomputable def BX99_put_2 (g30 : Nat → Int64 → Int32 → Nat → Int32 → Int32 → FM → Option (FM)) (a0 : Nat) (a1 : Int64) (a3 : Int32) (M : FM) : Option (FM) :=
  fi ((Int32.ofInt 220) ≤ a3) (
    some M) (
    fi ((Int32.ofInt 4) ≤ a3) (
      g30 a0 a1 a3 a0 a3 (Int32.ofInt 0) M) (
      g30 a0 a1 a3 a0 a3 (((a1.toUInt64 >>> (((Int32.ofInt 16) * a3).toInt64.toUInt64 &&& Int64.toUInt64 63)).toInt64).toInt32 &&& (Int32.ofInt 65535)) M))
noncomputable def FX99_put_2 (n : Nat) (k2 : Nat → Int64 → Int32 → FM → Option (FM)) (a0 : Nat) (a1 : Int64) (a3 : Int32) (M : FM) : Option (FM) := BX99_put_2 (FX99_put_30 n k2) a0 a1 a3 M
noncomputable def BX99_put_0 (k2 : Nat → Int64 → Int32 → FM → Option (FM)) (a0 : Nat) (a1 : Int64) (M : FM) : Option (FM) :=
  k2 a0 a1 (Int32.ofInt 0) M
noncomputable def FX99_put_0 (n : Nat) (k2 : Nat → Int64 → Int32 → FM → Option (FM)) (a0 : Nat) (a1 : Int64) (M : FM) : Option (FM) := BX99_put_0 k2 a0 a1 M
noncomputable def FX99_put_L2 (n : Nat) : Nat → Nat → Int64 → Int32 → FM → Option (FM)
  | 0 => fun _ _ _ _ => none
  | j + 1 => FX99_put_2 n (FX99_put_L2 n j)
noncomputable def FX99_put (n : Nat) (a0 : Nat) (a1 : Int64) (M : FM) : Option (FM) := FX99_put_0 n (FX99_put_L2 n n) a0 a1 M
/-! BoardMachineModel$Floats.digit(JI)I -/
noncomputable def BX99_digit_0 (a0 : Int64) (a2 : Int32) (M : FM) : Option (Int32 × FM) :=
  some ((((a0.toUInt64 >>> (((Int32.ofInt 16) * a2).toInt64.toUInt64 &&& Int64.toUInt64 63)).toInt64).toInt32 &&& (Int32.ofInt 65535)), M)
noncomputable def FX99_digit_0 (a0 : Int64) (a2 : Int32) (M : FM) : Option (Int32 × FM) := BX99_digit_0 a0 a2 M
noncomputable def FX99_digit (a0 : Int64) (a2 : Int32) (M : FM) : Option (Int32 × FM) := FX99_digit_0 a0 a2 M
/-! BoardMachineModel$Floats.multiply([IJJ)V -/
noncomputable def BX99_multiply_62 (k20 : Nat → Int64 → Int64 → Int32 → Int64 → Int32 → FM → Option (FM)) (a0 : Nat) (a1 : Int64) (a3 : Int64) (a5 : Int32) (a8 : Int32) (s0 : Int64) (s1 : Int64) (M : FM) : Option (FM) :=
  let x1 : Int64 := (s0 + s1)
  let x2 : Int32 := (a5 + a8)
  fi (fm_is M 901 901 a0 = true ∧ fm_in M a0 x2 = true) (
  let M3 : FM := fm_sI M 3 a0 x2.toNatClampNeg (x1.toInt32 &&& (Int32.ofInt 65535))
  let x4 : Int64 := (x1 >>> ((Int32.ofInt 16).toInt64 &&& 63))
  let x5 : Int32 := a8 + (Int32.ofInt 1)
  k20 a0 a1 a3 a5 x4 x5 M3) none
noncomputable def FX99_multiply_62 (n : Nat) (k8 : Nat → Int64 → Int64 → Int32 → FM → Option (FM)) (k20 : Nat → Int64 → Int64 → Int32 → Int64 → Int32 → FM → Option (FM)) (a0 : Nat) (a1 : Int64) (a3 : Int64) (a5 : Int32) (a8 : Int32) (s0 : Int64) (s1 : Int64) (M : FM) : Option (FM) := BX99_multiply_62 k20 a0 a1 a3 a5 a8 s0 s1 M
noncomputable def BX99_multiply_20 (f1 : Int64 → Int32 → FM → Option (Int32 × FM)) (g62 : Nat → Int64 → Int64 → Int32 → Int32 → Int64 → Int64 → FM → Option (FM)) (k8 : Nat → Int64 → Int64 → Int32 → FM → Option (FM)) (a0 : Nat) (a1 : Int64) (a3 : Int64) (a5 : Int32) (a6 : Int64) (a8 : Int32) (M : FM) : Option (FM) :=
  fi ((Int32.ofInt 5) ≤ a8) (
    let x1 : Int32 := a5 + (Int32.ofInt 1)
    k8 a0 a1 a3 x1 M) (
    let x2 : Int32 := (a5 + a8)
    fi (fm_is M 901 901 a0 = true ∧ fm_in M a0 x2 = true) (
    fi ((Int32.ofInt 4) ≤ a8) (
      g62 a0 a1 a3 a5 a8 ((M.1 3 a0 x2.toNatClampNeg).toInt64 + a6) (Int64.ofInt 0) M) (
      (f1 a1 a5 M).bind fun r3 =>
      (f1 a3 a8 r3.2).bind fun r4 =>
      g62 a0 a1 a3 a5 a8 ((M.1 3 a0 x2.toNatClampNeg).toInt64 + a6) (r3.1.toInt64 * r4.1.toInt64) r4.2)) none)
noncomputable def FX99_multiply_20 (n : Nat) (k8 : Nat → Int64 → Int64 → Int32 → FM → Option (FM)) (k20 : Nat → Int64 → Int64 → Int32 → Int64 → Int32 → FM → Option (FM)) (a0 : Nat) (a1 : Int64) (a3 : Int64) (a5 : Int32) (a6 : Int64) (a8 : Int32) (M : FM) : Option (FM) := BX99_multiply_20 FX99_digit (FX99_multiply_62 n k8 k20) k8 a0 a1 a3 a5 a6 a8 M
noncomputable def BX99_multiply_8 (k20 : Nat → Int64 → Int64 → Int32 → Int64 → Int32 → FM → Option (FM)) (a0 : Nat) (a1 : Int64) (a3 : Int64) (a5 : Int32) (M : FM) : Option (FM) :=
  fi ((Int32.ofInt 4) ≤ a5) (
    some M) (
    k20 a0 a1 a3 a5 (Int64.ofInt 0) (Int32.ofInt 0) M)
noncomputable def FX99_multiply_8 (n : Nat) (k8 : Nat → Int64 → Int64 → Int32 → FM → Option (FM)) (k20 : Nat → Int64 → Int64 → Int32 → Int64 → Int32 → FM → Option (FM)) (a0 : Nat) (a1 : Int64) (a3 : Int64) (a5 : Int32) (M : FM) : Option (FM) := BX99_multiply_8 k20 a0 a1 a3 a5 M
noncomputable def BX99_multiply_0 (f0 : Nat → Int64 → FM → Option (FM)) (k8 : Nat → Int64 → Int64 → Int32 → FM → Option (FM)) (a0 : Nat) (a1 : Int64) (a3 : Int64) (M : FM) : Option (FM) :=
  (f0 a0 (Int64.ofInt 0) M).bind fun M1 =>
  k8 a0 a1 a3 (Int32.ofInt 0) M1
noncomputable def FX99_multiply_0 (n : Nat) (k8 : Nat → Int64 → Int64 → Int32 → FM → Option (FM)) (k20 : Nat → Int64 → Int64 → Int32 → Int64 → Int32 → FM → Option (FM)) (a0 : Nat) (a1 : Int64) (a3 : Int64) (M : FM) : Option (FM) := BX99_multiply_0 (FX99_put n) k8 a0 a1 a3 M
noncomputable def FX99_multiply_L (n : Nat) : Nat → (Nat → Int64 → Int64 → Int32 → FM → Option (FM)) × (Nat → Int64 → Int64 → Int32 → Int64 → Int32 → FM → Option (FM))
  | 0 => (fun _ _ _ _ _ => none, fun _ _ _ _ _ _ _ => none)
  | j + 1 => (FX99_multiply_8 n (FX99_multiply_L n j).1 (FX99_multiply_L n j).2, FX99_multiply_20 n (FX99_multiply_L n j).1 (FX99_multiply_L n j).2)
noncomputable def FX99_multiply (n : Nat) (a0 : Nat) (a1 : Int64) (a3 : Int64) (M : FM) : Option (FM) := FX99_multiply_0 n (FX99_multiply_L n n).1 (FX99_multiply_L n n).2 a0 a1 a3 M
/-! BoardMachineModel$Floats.bit([II)Z -/
noncomputable def BX99_bit_33 (s0 : Int32) (M : FM) : Option (Int32 × FM) :=
  fi (s0 = 0 ∨ s0 = 1) (some (s0, M)) none
noncomputable def FX99_bit_33 (s0 : Int32) (M : FM) : Option (Int32 × FM) := BX99_bit_33 s0 M
noncomputable def BX99_bit_32 (g33 : Int32 → FM → Option (Int32 × FM)) (M : FM) : Option (Int32 × FM) :=
  g33 (Int32.ofInt 0) M
noncomputable def FX99_bit_32 (M : FM) : Option (Int32 × FM) := BX99_bit_32 FX99_bit_33 M
noncomputable def BX99_bit_0 (g32 : FM → Option (Int32 × FM)) (g33 : Int32 → FM → Option (Int32 × FM)) (a0 : Nat) (a1 : Int32) (M : FM) : Option (Int32 × FM) :=
  fi (a1 < 0) (
    g32 M) (
    fi ((Int32.ofInt 3520) ≤ a1) (
      g32 M) (
      fi ((Int32.ofInt 16) = 0) none (
      let x1 : Int32 := (a1 / (Int32.ofInt 16))
      fi (fm_is M 901 901 a0 = true ∧ fm_in M a0 x1 = true) (
      fi ((Int32.ofInt 16) = 0) none (
      fi ((((M.1 3 a0 x1.toNatClampNeg) >>> ((a1 - a1 / (Int32.ofInt 16) * (Int32.ofInt 16)) &&& 31)) &&& (Int32.ofInt 1)) = (Int32.ofInt 1)) (
        g33 (Int32.ofInt 1) M) (
        g32 M))) none)))
noncomputable def FX99_bit_0 (a0 : Nat) (a1 : Int32) (M : FM) : Option (Int32 × FM) := BX99_bit_0 FX99_bit_32 FX99_bit_33 a0 a1 M
noncomputable def FX99_bit (a0 : Nat) (a1 : Int32) (M : FM) : Option (Int32 × FM) := FX99_bit_0 a0 a1 M
/-! BoardMachineModel$Floats.length([I)I -/
noncomputable def BX99_length_24 (a1 : Int32) (M : FM) : Option (Int32 × FM) :=
  some (a1, M)
noncomputable def FX99_length_24 (n : Nat) (k4 : Nat → Int32 → FM → Option (Int32 × FM)) (a1 : Int32) (M : FM) : Option (Int32 × FM) := BX99_length_24 a1 M
noncomputable def BX99_length_4 (f0 : Nat → Int32 → FM → Option (Int32 × FM)) (g24 : Int32 → FM → Option (Int32 × FM)) (k4 : Nat → Int32 → FM → Option (Int32 × FM)) (a0 : Nat) (a1 : Int32) (M : FM) : Option (Int32 × FM) :=
  fi (a1 ≤ 0) (
    g24 a1 M) (
    (f0 a0 (a1 - (Int32.ofInt 1)) M).bind fun r1 =>
    fi (r1.1 = 0) (
      let x2 : Int32 := a1 + (Int32.ofInt (-1))
      k4 a0 x2 r1.2) (
      g24 a1 r1.2))
noncomputable def FX99_length_4 (n : Nat) (k4 : Nat → Int32 → FM → Option (Int32 × FM)) (a0 : Nat) (a1 : Int32) (M : FM) : Option (Int32 × FM) := BX99_length_4 FX99_bit (FX99_length_24 n k4) k4 a0 a1 M
noncomputable def BX99_length_0 (k4 : Nat → Int32 → FM → Option (Int32 × FM)) (a0 : Nat) (M : FM) : Option (Int32 × FM) :=
  k4 a0 (Int32.ofInt 3520) M
noncomputable def FX99_length_0 (n : Nat) (k4 : Nat → Int32 → FM → Option (Int32 × FM)) (a0 : Nat) (M : FM) : Option (Int32 × FM) := BX99_length_0 k4 a0 M
noncomputable def FX99_length_L4 (n : Nat) : Nat → Nat → Int32 → FM → Option (Int32 × FM)
  | 0 => fun _ _ _ => none
  | j + 1 => FX99_length_4 n (FX99_length_L4 n j)
noncomputable def FX99_length (n : Nat) (a0 : Nat) (M : FM) : Option (Int32 × FM) := FX99_length_0 n (FX99_length_L4 n n) a0 M
/-! BoardMachineModel$Floats.zero(II)J -/
noncomputable def BX99_zero_0 (f0 : Int32 → Int64 → Int64 → Int32 → FM → Option (Int64 × FM)) (a0 : Nat) (a1 : Int32) (a2 : Int32) (M : FM) : Option (Int64 × FM) :=
  (f0 a1 (Int64.ofInt 0) (Int64.ofInt 0) a2 M).bind fun r1 =>
  some (r1.1, r1.2)
noncomputable def FX99_zero_0 (a0 : Nat) (a1 : Int32) (a2 : Int32) (M : FM) : Option (Int64 × FM) := BX99_zero_0 FX99_pack a0 a1 a2 M
noncomputable def FX99_zero (a0 : Nat) (a1 : Int32) (a2 : Int32) (M : FM) : Option (Int64 × FM) := FX99_zero_0 a0 a1 a2 M
/-! BoardMachineModel$Floats.compare([I[I)I -/
noncomputable def BX99_compare_31 (s0 : Int32) (M : FM) : Option (Int32 × FM) :=
  some (s0, M)
noncomputable def FX99_compare_31 (n : Nat) (k4 : Nat → Nat → Int32 → FM → Option (Int32 × FM)) (s0 : Int32) (M : FM) : Option (Int32 × FM) := BX99_compare_31 s0 M
noncomputable def BX99_compare_4 (g31 : Int32 → FM → Option (Int32 × FM)) (k4 : Nat → Nat → Int32 → FM → Option (Int32 × FM)) (a0 : Nat) (a1 : Nat) (a2 : Int32) (M : FM) : Option (Int32 × FM) :=
  fi (a2 < 0) (
    some ((Int32.ofInt 0), M)) (
    fi (fm_is M 901 901 a0 = true ∧ fm_in M a0 a2 = true) (
    fi (fm_is M 901 901 a1 = true ∧ fm_in M a1 a2 = true) (
    fi ((M.1 3 a0 a2.toNatClampNeg) = (M.1 3 a1 a2.toNatClampNeg)) (
      let x1 : Int32 := a2 + (Int32.ofInt (-1))
      k4 a0 a1 x1 M) (
      fi (fm_is M 901 901 a0 = true ∧ fm_in M a0 a2 = true) (
      fi (fm_is M 901 901 a1 = true ∧ fm_in M a1 a2 = true) (
      fi ((M.1 3 a1 a2.toNatClampNeg) ≤ (M.1 3 a0 a2.toNatClampNeg)) (
        g31 (Int32.ofInt 1) M) (
        g31 (Int32.ofInt (-1)) M)) none) none)) none) none)
noncomputable def FX99_compare_4 (n : Nat) (k4 : Nat → Nat → Int32 → FM → Option (Int32 × FM)) (a0 : Nat) (a1 : Nat) (a2 : Int32) (M : FM) : Option (Int32 × FM) := BX99_compare_4 (FX99_compare_31 n k4) k4 a0 a1 a2 M
noncomputable def BX99_compare_0 (k4 : Nat → Nat → Int32 → FM → Option (Int32 × FM)) (a0 : Nat) (a1 : Nat) (M : FM) : Option (Int32 × FM) :=
  k4 a0 a1 (Int32.ofInt 219) M
noncomputable def FX99_compare_0 (n : Nat) (k4 : Nat → Nat → Int32 → FM → Option (Int32 × FM)) (a0 : Nat) (a1 : Nat) (M : FM) : Option (Int32 × FM) := BX99_compare_0 k4 a0 a1 M
noncomputable def FX99_compare_L4 (n : Nat) : Nat → Nat → Nat → Int32 → FM → Option (Int32 × FM)
  | 0 => fun _ _ _ _ => none
  | j + 1 => FX99_compare_4 n (FX99_compare_L4 n j)
noncomputable def FX99_compare (n : Nat) (a0 : Nat) (a1 : Nat) (M : FM) : Option (Int32 × FM) := FX99_compare_0 n (FX99_compare_L4 n n) a0 a1 M
/-! BoardMachineModel$Floats.raise([II)V -/
noncomputable def BX99_raise_66 (k15 : Nat → Int32 → Int32 → Int32 → FM → Option (FM)) (a0 : Nat) (a2 : Int32) (a3 : Int32) (a4 : Int32) (a6 : Int32) (s0 : Int32) (M : FM) : Option (FM) :=
  fi (fm_is M 901 901 a0 = true ∧ fm_in M a0 a4 = true) (
  let M1 : FM := fm_sI M 3 a0 a4.toNatClampNeg (a6 ||| s0)
  let x2 : Int32 := a4 + (Int32.ofInt (-1))
  k15 a0 a2 a3 x2 M1) none
noncomputable def FX99_raise_66 (n : Nat) (k15 : Nat → Int32 → Int32 → Int32 → FM → Option (FM)) (a0 : Nat) (a2 : Int32) (a3 : Int32) (a4 : Int32) (a6 : Int32) (s0 : Int32) (M : FM) : Option (FM) := BX99_raise_66 k15 a0 a2 a3 a4 a6 s0 M
noncomputable def BX99_raise_44 (g66 : Nat → Int32 → Int32 → Int32 → Int32 → Int32 → FM → Option (FM)) (a0 : Nat) (a2 : Int32) (a3 : Int32) (a4 : Int32) (a5 : Int32) (s0 : Int32) (M : FM) : Option (FM) :=
  fi (a5 ≤ 0) (
    g66 a0 a2 a3 a4 s0 (Int32.ofInt 0) M) (
    let x1 : Int32 := (a5 - (Int32.ofInt 1))
    fi (fm_is M 901 901 a0 = true ∧ fm_in M a0 x1 = true) (
    g66 a0 a2 a3 a4 s0 (((M.1 3 a0 x1.toNatClampNeg) <<< (a3 &&& 31)) >>> ((Int32.ofInt 16) &&& 31)) M) none)
noncomputable def FX99_raise_44 (n : Nat) (k15 : Nat → Int32 → Int32 → Int32 → FM → Option (FM)) (a0 : Nat) (a2 : Int32) (a3 : Int32) (a4 : Int32) (a5 : Int32) (s0 : Int32) (M : FM) : Option (FM) := BX99_raise_44 (FX99_raise_66 n k15) a0 a2 a3 a4 a5 s0 M
noncomputable def BX99_raise_15 (g44 : Nat → Int32 → Int32 → Int32 → Int32 → Int32 → FM → Option (FM)) (a0 : Nat) (a2 : Int32) (a3 : Int32) (a4 : Int32) (M : FM) : Option (FM) :=
  fi (a4 < 0) (
    some M) (
    let x1 : Int32 := (a4 - a2)
    fi (x1 < 0) (
      g44 a0 a2 a3 a4 x1 (Int32.ofInt 0) M) (
      fi (fm_is M 901 901 a0 = true ∧ fm_in M a0 x1 = true) (
      g44 a0 a2 a3 a4 x1 (((M.1 3 a0 x1.toNatClampNeg) <<< (a3 &&& 31)) &&& (Int32.ofInt 65535)) M) none))
noncomputable def FX99_raise_15 (n : Nat) (k15 : Nat → Int32 → Int32 → Int32 → FM → Option (FM)) (a0 : Nat) (a2 : Int32) (a3 : Int32) (a4 : Int32) (M : FM) : Option (FM) := BX99_raise_15 (FX99_raise_44 n k15) a0 a2 a3 a4 M
noncomputable def BX99_raise_0 (k15 : Nat → Int32 → Int32 → Int32 → FM → Option (FM)) (a0 : Nat) (a1 : Int32) (M : FM) : Option (FM) :=
  fi ((Int32.ofInt 16) = 0) none (
  let x1 : Int32 := (a1 / (Int32.ofInt 16))
  fi ((Int32.ofInt 16) = 0) none (
  let x2 : Int32 := (a1 - a1 / (Int32.ofInt 16) * (Int32.ofInt 16))
  k15 a0 x1 x2 (Int32.ofInt 219) M))
noncomputable def FX99_raise_0 (n : Nat) (k15 : Nat → Int32 → Int32 → Int32 → FM → Option (FM)) (a0 : Nat) (a1 : Int32) (M : FM) : Option (FM) := BX99_raise_0 k15 a0 a1 M
noncomputable def FX99_raise_L15 (n : Nat) : Nat → Nat → Int32 → Int32 → Int32 → FM → Option (FM)
  | 0 => fun _ _ _ _ _ => none
  | j + 1 => FX99_raise_15 n (FX99_raise_L15 n j)
noncomputable def FX99_raise (n : Nat) (a0 : Nat) (a1 : Int32) (M : FM) : Option (FM) := FX99_raise_0 n (FX99_raise_L15 n n) a0 a1 M
/-! BoardMachineModel$Floats.add([I[I)V -/
noncomputable def BX99_add_4 (k4 : Nat → Nat → Int32 → Int32 → FM → Option (FM)) (a0 : Nat) (a1 : Nat) (a2 : Int32) (a3 : Int32) (M : FM) : Option (FM) :=
  fi ((Int32.ofInt 220) ≤ a3) (
    some M) (
    fi (fm_is M 901 901 a0 = true ∧ fm_in M a0 a3 = true) (
    fi (fm_is M 901 901 a1 = true ∧ fm_in M a1 a3 = true) (
    let x1 : Int32 := (((M.1 3 a0 a3.toNatClampNeg) + (M.1 3 a1 a3.toNatClampNeg)) + a2)
    fi (fm_is M 901 901 a0 = true ∧ fm_in M a0 a3 = true) (
    let M2 : FM := fm_sI M 3 a0 a3.toNatClampNeg (x1 &&& (Int32.ofInt 65535))
    let x3 : Int32 := (x1 >>> ((Int32.ofInt 16) &&& 31))
    let x4 : Int32 := a3 + (Int32.ofInt 1)
    k4 a0 a1 x3 x4 M2) none) none) none)
noncomputable def FX99_add_4 (n : Nat) (k4 : Nat → Nat → Int32 → Int32 → FM → Option (FM)) (a0 : Nat) (a1 : Nat) (a2 : Int32) (a3 : Int32) (M : FM) : Option (FM) := BX99_add_4 k4 a0 a1 a2 a3 M
noncomputable def BX99_add_0 (k4 : Nat → Nat → Int32 → Int32 → FM → Option (FM)) (a0 : Nat) (a1 : Nat) (M : FM) : Option (FM) :=
  k4 a0 a1 (Int32.ofInt 0) (Int32.ofInt 0) M
noncomputable def FX99_add_0 (n : Nat) (k4 : Nat → Nat → Int32 → Int32 → FM → Option (FM)) (a0 : Nat) (a1 : Nat) (M : FM) : Option (FM) := BX99_add_0 k4 a0 a1 M
noncomputable def FX99_add_L4 (n : Nat) : Nat → Nat → Nat → Int32 → Int32 → FM → Option (FM)
  | 0 => fun _ _ _ _ _ => none
  | j + 1 => FX99_add_4 n (FX99_add_L4 n j)
noncomputable def FX99_add (n : Nat) (a0 : Nat) (a1 : Nat) (M : FM) : Option (FM) := FX99_add_0 n (FX99_add_L4 n n) a0 a1 M
/-! BoardMachineModel$Floats.subtract([I[I[I)V -/
noncomputable def BX99_subtract_45 (k5 : Nat → Nat → Nat → Int32 → Int32 → FM → Option (FM)) (a0 : Nat) (a1 : Nat) (a2 : Nat) (a4 : Int32) (s0 : Int32) (M : FM) : Option (FM) :=
  let x1 : Int32 := a4 + (Int32.ofInt 1)
  k5 a0 a1 a2 s0 x1 M
noncomputable def FX99_subtract_45 (n : Nat) (k5 : Nat → Nat → Nat → Int32 → Int32 → FM → Option (FM)) (a0 : Nat) (a1 : Nat) (a2 : Nat) (a4 : Int32) (s0 : Int32) (M : FM) : Option (FM) := BX99_subtract_45 k5 a0 a1 a2 a4 s0 M
noncomputable def BX99_subtract_5 (g45 : Nat → Nat → Nat → Int32 → Int32 → FM → Option (FM)) (a0 : Nat) (a1 : Nat) (a2 : Nat) (a3 : Int32) (a4 : Int32) (M : FM) : Option (FM) :=
  fi ((Int32.ofInt 220) ≤ a4) (
    some M) (
    fi (fm_is M 901 901 a0 = true ∧ fm_in M a0 a4 = true) (
    fi (fm_is M 901 901 a1 = true ∧ fm_in M a1 a4 = true) (
    let x1 : Int32 := (((M.1 3 a0 a4.toNatClampNeg) - (M.1 3 a1 a4.toNatClampNeg)) - a3)
    fi (fm_is M 901 901 a2 = true ∧ fm_in M a2 a4 = true) (
    let M2 : FM := fm_sI M 3 a2 a4.toNatClampNeg (x1 &&& (Int32.ofInt 65535))
    fi (0 ≤ x1) (
      g45 a0 a1 a2 a4 (Int32.ofInt 0) M2) (
      g45 a0 a1 a2 a4 (Int32.ofInt 1) M2)) none) none) none)
noncomputable def FX99_subtract_5 (n : Nat) (k5 : Nat → Nat → Nat → Int32 → Int32 → FM → Option (FM)) (a0 : Nat) (a1 : Nat) (a2 : Nat) (a3 : Int32) (a4 : Int32) (M : FM) : Option (FM) := BX99_subtract_5 (FX99_subtract_45 n k5) a0 a1 a2 a3 a4 M
noncomputable def BX99_subtract_0 (k5 : Nat → Nat → Nat → Int32 → Int32 → FM → Option (FM)) (a0 : Nat) (a1 : Nat) (a2 : Nat) (M : FM) : Option (FM) :=
  k5 a0 a1 a2 (Int32.ofInt 0) (Int32.ofInt 0) M
noncomputable def FX99_subtract_0 (n : Nat) (k5 : Nat → Nat → Nat → Int32 → Int32 → FM → Option (FM)) (a0 : Nat) (a1 : Nat) (a2 : Nat) (M : FM) : Option (FM) := BX99_subtract_0 k5 a0 a1 a2 M
noncomputable def FX99_subtract_L5 (n : Nat) : Nat → Nat → Nat → Nat → Int32 → Int32 → FM → Option (FM)
  | 0 => fun _ _ _ _ _ _ => none
  | j + 1 => FX99_subtract_5 n (FX99_subtract_L5 n j)
noncomputable def FX99_subtract (n : Nat) (a0 : Nat) (a1 : Nat) (a2 : Nat) (M : FM) : Option (FM) := FX99_subtract_0 n (FX99_subtract_L5 n n) a0 a1 a2 M
/-! BoardMachineModel$Floats.roundTo(II)V -/
noncomputable def BX99_roundTo_271 (s0 : Nat) (s1 : Int64) (M : FM) : Option (FM) :=
  fi (fm_is M 96 96 s0 = true) (
  let M1 : FM := fm_sL M 384 s0 0 s1
  some M1) none
noncomputable def FX99_roundTo_271 (n : Nat) (k16 : Nat → Int32 → Int32 → Int32 → FM → Option (FM)) (k80 : Nat → Int32 → Int32 → Int32 → Int32 → Int32 → FM → Option (FM)) (s0 : Nat) (s1 : Int64) (M : FM) : Option (FM) := BX99_roundTo_271 s0 s1 M
noncomputable def BX99_roundTo_250 (g271 : Nat → Int64 → FM → Option (FM)) (a0 : Nat) (s0 : Int32) (M : FM) : Option (FM) :=
  fi (s0 = 0) (
    fi (fm_is M 96 96 a0 = true) (
    g271 a0 (M.2.1 384 a0 0) M) none) (
    fi (fm_is M 96 96 a0 = true) (
    g271 a0 ((M.2.1 384 a0 0) + (Int64.ofInt 1)) M) none)
noncomputable def FX99_roundTo_250 (n : Nat) (k16 : Nat → Int32 → Int32 → Int32 → FM → Option (FM)) (k80 : Nat → Int32 → Int32 → Int32 → Int32 → Int32 → FM → Option (FM)) (a0 : Nat) (s0 : Int32) (M : FM) : Option (FM) := BX99_roundTo_250 (FX99_roundTo_271 n k16 k80) a0 s0 M
noncomputable def BX99_roundTo_249 (g250 : Nat → Int32 → FM → Option (FM)) (a0 : Nat) (M : FM) : Option (FM) :=
  g250 a0 (Int32.ofInt 0) M
noncomputable def FX99_roundTo_249 (n : Nat) (k16 : Nat → Int32 → Int32 → Int32 → FM → Option (FM)) (k80 : Nat → Int32 → Int32 → Int32 → Int32 → Int32 → FM → Option (FM)) (a0 : Nat) (M : FM) : Option (FM) := BX99_roundTo_249 (FX99_roundTo_250 n k16 k80) a0 M
noncomputable def BX99_roundTo_231 (g250 : Nat → Int32 → FM → Option (FM)) (a0 : Nat) (M : FM) : Option (FM) :=
  g250 a0 (Int32.ofInt 0) M
noncomputable def FX99_roundTo_231 (n : Nat) (k16 : Nat → Int32 → Int32 → Int32 → FM → Option (FM)) (k80 : Nat → Int32 → Int32 → Int32 → Int32 → Int32 → FM → Option (FM)) (a0 : Nat) (M : FM) : Option (FM) := BX99_roundTo_231 (FX99_roundTo_250 n k16 k80) a0 M
noncomputable def BX99_roundTo_204 (g250 : Nat → Int32 → FM → Option (FM)) (a0 : Nat) (M : FM) : Option (FM) :=
  g250 a0 (Int32.ofInt 0) M
noncomputable def FX99_roundTo_204 (n : Nat) (k16 : Nat → Int32 → Int32 → Int32 → FM → Option (FM)) (k80 : Nat → Int32 → Int32 → Int32 → Int32 → Int32 → FM → Option (FM)) (a0 : Nat) (M : FM) : Option (FM) := BX99_roundTo_204 (FX99_roundTo_250 n k16 k80) a0 M
noncomputable def BX99_roundTo_176 (g250 : Nat → Int32 → FM → Option (FM)) (a0 : Nat) (M : FM) : Option (FM) :=
  g250 a0 (Int32.ofInt 0) M
noncomputable def FX99_roundTo_176 (n : Nat) (k16 : Nat → Int32 → Int32 → Int32 → FM → Option (FM)) (k80 : Nat → Int32 → Int32 → Int32 → Int32 → Int32 → FM → Option (FM)) (a0 : Nat) (M : FM) : Option (FM) := BX99_roundTo_176 (FX99_roundTo_250 n k16 k80) a0 M
noncomputable def BX99_roundTo_172 (g250 : Nat → Int32 → FM → Option (FM)) (a0 : Nat) (M : FM) : Option (FM) :=
  g250 a0 (Int32.ofInt 1) M
noncomputable def FX99_roundTo_172 (n : Nat) (k16 : Nat → Int32 → Int32 → Int32 → FM → Option (FM)) (k80 : Nat → Int32 → Int32 → Int32 → Int32 → Int32 → FM → Option (FM)) (a0 : Nat) (M : FM) : Option (FM) := BX99_roundTo_172 (FX99_roundTo_250 n k16 k80) a0 M
noncomputable def BX99_roundTo_142 (g172 : Nat → FM → Option (FM)) (g176 : Nat → FM → Option (FM)) (g204 : Nat → FM → Option (FM)) (g231 : Nat → FM → Option (FM)) (g249 : Nat → FM → Option (FM)) (g250 : Nat → Int32 → FM → Option (FM)) (a0 : Nat) (a2 : Int32) (a4 : Int32) (a5 : Int32) (s0 : Nat) (s1 : Int32) (M : FM) : Option (FM) :=
  fi (fm_is M 96 96 s0 = true) (
  fi (s1 = 0 ∨ s1 = 1) (
  let M1 : FM := fm_sI M 385 s0 0 s1
  fi (a2 = 0) (
    fi (a4 = 0) (
      g176 a0 M1) (
      fi (a5 = 0) (
        fi (fm_is M1 96 96 a0 = true) (
        let x2 : Int64 := (M1.2.1 384 a0 0)
        fi ((Int64.ofInt 2) = 0) none (
        fi ((lg_cmp (x2 - x2 / (Int64.ofInt 2) * (Int64.ofInt 2)) (Int64.ofInt 0)) = 0) (
          g176 a0 M1) (
          g172 a0 M1))) none) (
        g172 a0 M1))) (
    fi (a2 = (Int32.ofInt 2)) (
      fi (fm_is M1 96 96 a0 = true) (
      fi ((M1.1 385 a0 0) = 0) (
        g204 a0 M1) (
        fi (fm_is M1 96 96 a0 = true) (
        fi ((M1.1 382 a0 0) = (Int32.ofInt 1)) (
          g250 a0 (Int32.ofInt 1) M1) (
          g204 a0 M1)) none)) none) (
      fi (a2 = (Int32.ofInt 3)) (
        fi (fm_is M1 96 96 a0 = true) (
        fi ((M1.1 385 a0 0) = 0) (
          g231 a0 M1) (
          fi (fm_is M1 96 96 a0 = true) (
          fi ((M1.1 382 a0 0) = 0) (
            g250 a0 (Int32.ofInt 1) M1) (
            g231 a0 M1)) none)) none) (
        fi (a2 = (Int32.ofInt 4)) (
          fi (a4 = 0) (
            g249 a0 M1) (
            g250 a0 (Int32.ofInt 1) M1)) (
          g249 a0 M1))))) none) none
noncomputable def FX99_roundTo_142 (n : Nat) (k16 : Nat → Int32 → Int32 → Int32 → FM → Option (FM)) (k80 : Nat → Int32 → Int32 → Int32 → Int32 → Int32 → FM → Option (FM)) (a0 : Nat) (a2 : Int32) (a4 : Int32) (a5 : Int32) (s0 : Nat) (s1 : Int32) (M : FM) : Option (FM) := BX99_roundTo_142 (FX99_roundTo_172 n k16 k80) (FX99_roundTo_176 n k16 k80) (FX99_roundTo_204 n k16 k80) (FX99_roundTo_231 n k16 k80) (FX99_roundTo_249 n k16 k80) (FX99_roundTo_250 n k16 k80) a0 a2 a4 a5 s0 s1 M
noncomputable def BX99_roundTo_137 (g142 : Nat → Int32 → Int32 → Int32 → Nat → Int32 → FM → Option (FM)) (a0 : Nat) (a2 : Int32) (a4 : Int32) (a5 : Int32) (s0 : Nat) (M : FM) : Option (FM) :=
  g142 a0 a2 a4 a5 s0 (Int32.ofInt 1) M
noncomputable def FX99_roundTo_137 (n : Nat) (k16 : Nat → Int32 → Int32 → Int32 → FM → Option (FM)) (k80 : Nat → Int32 → Int32 → Int32 → Int32 → Int32 → FM → Option (FM)) (a0 : Nat) (a2 : Int32) (a4 : Int32) (a5 : Int32) (s0 : Nat) (M : FM) : Option (FM) := BX99_roundTo_137 (FX99_roundTo_142 n k16 k80) a0 a2 a4 a5 s0 M
noncomputable def BX99_roundTo_126 (g137 : Nat → Int32 → Int32 → Int32 → Nat → FM → Option (FM)) (g142 : Nat → Int32 → Int32 → Int32 → Nat → Int32 → FM → Option (FM)) (a0 : Nat) (a2 : Int32) (a4 : Int32) (a5 : Int32) (M : FM) : Option (FM) :=
  fi (a4 = 0) (
    fi (a5 = 0) (
      g142 a0 a2 a4 a5 a0 (Int32.ofInt 0) M) (
      g137 a0 a2 a4 a5 a0 M)) (
    g137 a0 a2 a4 a5 a0 M)
noncomputable def FX99_roundTo_126 (n : Nat) (k16 : Nat → Int32 → Int32 → Int32 → FM → Option (FM)) (k80 : Nat → Int32 → Int32 → Int32 → Int32 → Int32 → FM → Option (FM)) (a0 : Nat) (a2 : Int32) (a4 : Int32) (a5 : Int32) (M : FM) : Option (FM) := BX99_roundTo_126 (FX99_roundTo_137 n k16 k80) (FX99_roundTo_142 n k16 k80) a0 a2 a4 a5 M
noncomputable def BX99_roundTo_118 (k80 : Nat → Int32 → Int32 → Int32 → Int32 → Int32 → FM → Option (FM)) (a0 : Nat) (a2 : Int32) (a3 : Int32) (a4 : Int32) (a6 : Int32) (s0 : Int32) (M : FM) : Option (FM) :=
  let x1 : Int32 := a6 + (Int32.ofInt 1)
  k80 a0 a2 a3 a4 s0 x1 M
noncomputable def FX99_roundTo_118 (n : Nat) (k16 : Nat → Int32 → Int32 → Int32 → FM → Option (FM)) (k80 : Nat → Int32 → Int32 → Int32 → Int32 → Int32 → FM → Option (FM)) (a0 : Nat) (a2 : Int32) (a3 : Int32) (a4 : Int32) (a6 : Int32) (s0 : Int32) (M : FM) : Option (FM) := BX99_roundTo_118 k80 a0 a2 a3 a4 a6 s0 M
noncomputable def BX99_roundTo_113 (g118 : Nat → Int32 → Int32 → Int32 → Int32 → Int32 → FM → Option (FM)) (a0 : Nat) (a2 : Int32) (a3 : Int32) (a4 : Int32) (a6 : Int32) (M : FM) : Option (FM) :=
  g118 a0 a2 a3 a4 a6 (Int32.ofInt 1) M
noncomputable def FX99_roundTo_113 (n : Nat) (k16 : Nat → Int32 → Int32 → Int32 → FM → Option (FM)) (k80 : Nat → Int32 → Int32 → Int32 → Int32 → Int32 → FM → Option (FM)) (a0 : Nat) (a2 : Int32) (a3 : Int32) (a4 : Int32) (a6 : Int32) (M : FM) : Option (FM) := BX99_roundTo_113 (FX99_roundTo_118 n k16 k80) a0 a2 a3 a4 a6 M
noncomputable def BX99_roundTo_80 (f0 : Nat → Int32 → FM → Option (Int32 × FM)) (g113 : Nat → Int32 → Int32 → Int32 → Int32 → FM → Option (FM)) (g118 : Nat → Int32 → Int32 → Int32 → Int32 → Int32 → FM → Option (FM)) (g126 : Nat → Int32 → Int32 → Int32 → FM → Option (FM)) (a0 : Nat) (a2 : Int32) (a3 : Int32) (a4 : Int32) (a5 : Int32) (a6 : Int32) (M : FM) : Option (FM) :=
  fi ((a3 - (Int32.ofInt 1)) ≤ a6) (
    g126 a0 a2 a4 a5 M) (
    fi ((Int32.ofInt 3520) ≤ a6) (
      g126 a0 a2 a4 a5 M) (
      fi (a5 = 0) (
        fi (fm_is M 96 96 a0 = true) (
        (f0 (M.2.2 379 a0 0) a6 M).bind fun r1 =>
        fi (r1.1 = 0) (
          g118 a0 a2 a3 a4 a6 (Int32.ofInt 0) r1.2) (
          g113 a0 a2 a3 a4 a6 r1.2)) none) (
        g113 a0 a2 a3 a4 a6 M)))
noncomputable def FX99_roundTo_80 (n : Nat) (k16 : Nat → Int32 → Int32 → Int32 → FM → Option (FM)) (k80 : Nat → Int32 → Int32 → Int32 → Int32 → Int32 → FM → Option (FM)) (a0 : Nat) (a2 : Int32) (a3 : Int32) (a4 : Int32) (a5 : Int32) (a6 : Int32) (M : FM) : Option (FM) := BX99_roundTo_80 FX99_bit (FX99_roundTo_113 n k16 k80) (FX99_roundTo_118 n k16 k80) (FX99_roundTo_126 n k16 k80) a0 a2 a3 a4 a5 a6 M
noncomputable def BX99_roundTo_49 (k16 : Nat → Int32 → Int32 → Int32 → FM → Option (FM)) (a0 : Nat) (a2 : Int32) (a3 : Int32) (a4 : Int32) (s0 : Nat) (s1 : Int64) (s2 : Int64) (M : FM) : Option (FM) :=
  fi (fm_is M 96 96 s0 = true) (
  let M1 : FM := fm_sL M 384 s0 0 (s1 + s2)
  let x2 : Int32 := a4 + (Int32.ofInt (-1))
  k16 a0 a2 a3 x2 M1) none
noncomputable def FX99_roundTo_49 (n : Nat) (k16 : Nat → Int32 → Int32 → Int32 → FM → Option (FM)) (k80 : Nat → Int32 → Int32 → Int32 → Int32 → Int32 → FM → Option (FM)) (a0 : Nat) (a2 : Int32) (a3 : Int32) (a4 : Int32) (s0 : Nat) (s1 : Int64) (s2 : Int64) (M : FM) : Option (FM) := BX99_roundTo_49 k16 a0 a2 a3 a4 s0 s1 s2 M
noncomputable def BX99_roundTo_16 (f0 : Nat → Int32 → FM → Option (Int32 × FM)) (g49 : Nat → Int32 → Int32 → Int32 → Nat → Int64 → Int64 → FM → Option (FM)) (k80 : Nat → Int32 → Int32 → Int32 → Int32 → Int32 → FM → Option (FM)) (a0 : Nat) (a2 : Int32) (a3 : Int32) (a4 : Int32) (M : FM) : Option (FM) :=
  fi (a4 < 0) (
    fi (fm_is M 96 96 a0 = true) (
    (f0 (M.2.2 379 a0 0) (a3 - (Int32.ofInt 1)) M).bind fun r1 =>
    fi (fm_is r1.2 96 96 a0 = true) (
    let x2 : Int32 := (r1.2.1 381 a0 0)
    k80 a0 a2 a3 r1.1 x2 (Int32.ofInt 0) r1.2) none) none) (
    fi (fm_is M 96 96 a0 = true) (
    fi (fm_is M 96 96 a0 = true) (
    (f0 (M.2.2 379 a0 0) (a4 + a3) M).bind fun r3 =>
    fi (r3.1 = 0) (
      g49 a0 a2 a3 a4 a0 ((Int64.ofInt 2) * (M.2.1 384 a0 0)) (Int64.ofInt 0) r3.2) (
      g49 a0 a2 a3 a4 a0 ((Int64.ofInt 2) * (M.2.1 384 a0 0)) (Int64.ofInt 1) r3.2)) none) none)
noncomputable def FX99_roundTo_16 (n : Nat) (k16 : Nat → Int32 → Int32 → Int32 → FM → Option (FM)) (k80 : Nat → Int32 → Int32 → Int32 → Int32 → Int32 → FM → Option (FM)) (a0 : Nat) (a2 : Int32) (a3 : Int32) (a4 : Int32) (M : FM) : Option (FM) := BX99_roundTo_16 FX99_bit (FX99_roundTo_49 n k16 k80) k80 a0 a2 a3 a4 M
noncomputable def BX99_roundTo_0 (k16 : Nat → Int32 → Int32 → Int32 → FM → Option (FM)) (a0 : Nat) (a1 : Int32) (a2 : Int32) (M : FM) : Option (FM) :=
  fi (fm_is M 96 96 a0 = true) (
  let x1 : Int32 := (a1 - (M.1 383 a0 0))
  fi (fm_is M 96 96 a0 = true) (
  let M2 : FM := fm_sL M 384 a0 0 (Int64.ofInt 0)
  k16 a0 a2 x1 (Int32.ofInt 63) M2) none) none
noncomputable def FX99_roundTo_0 (n : Nat) (k16 : Nat → Int32 → Int32 → Int32 → FM → Option (FM)) (k80 : Nat → Int32 → Int32 → Int32 → Int32 → Int32 → FM → Option (FM)) (a0 : Nat) (a1 : Int32) (a2 : Int32) (M : FM) : Option (FM) := BX99_roundTo_0 k16 a0 a1 a2 M
noncomputable def FX99_roundTo_L (n : Nat) : Nat → (Nat → Int32 → Int32 → Int32 → FM → Option (FM)) × (Nat → Int32 → Int32 → Int32 → Int32 → Int32 → FM → Option (FM))
  | 0 => (fun _ _ _ _ _ => none, fun _ _ _ _ _ _ _ => none)
  | j + 1 => (FX99_roundTo_16 n (FX99_roundTo_L n j).1 (FX99_roundTo_L n j).2, FX99_roundTo_80 n (FX99_roundTo_L n j).1 (FX99_roundTo_L n j).2)
noncomputable def FX99_roundTo (n : Nat) (a0 : Nat) (a1 : Int32) (a2 : Int32) (M : FM) : Option (FM) := FX99_roundTo_0 n (FX99_roundTo_L n n).1 (FX99_roundTo_L n n).2 a0 a1 a2 M
/-! BoardMachineModel$Floats.rounded(II)J -/
noncomputable def BX99_rounded_317 (s0 : Int64) (M : FM) : Option (Int64 × FM) :=
  some (s0, M)
noncomputable def FX99_rounded_317 (n : Nat) (s0 : Int64) (M : FM) : Option (Int64 × FM) := BX99_rounded_317 s0 M
noncomputable def BX99_rounded_266 (f3 : Int32 → Int64 → Int64 → Int32 → FM → Option (Int64 × FM)) (g317 : Int64 → FM → Option (Int64 × FM)) (a0 : Nat) (a1 : Int32) (a3 : Int32) (a6 : Int32) (a8 : Int32) (M : FM) : Option (Int64 × FM) :=
  fi (fm_is M 96 96 a0 = true) (
  fi (0 ≤ (lg_cmp (M.2.1 384 a0 0) ((Int64.ofInt 1) <<< (a3.toInt64 &&& 63)))) (
    fi (fm_is M 96 96 a0 = true) (
    fi (fm_is M 96 96 a0 = true) (
    (f3 (M.1 382 a0 0) (((a8 - a6) + (Int32.ofInt 1)).toInt64) ((M.2.1 384 a0 0) - ((Int64.ofInt 1) <<< (a3.toInt64 &&& 63))) a1 M).bind fun r1 =>
    g317 r1.1 r1.2) none) none) (
    fi (fm_is M 96 96 a0 = true) (
    fi (fm_is M 96 96 a0 = true) (
    (f3 (M.1 382 a0 0) (Int64.ofInt 0) (M.2.1 384 a0 0) a1 M).bind fun r2 =>
    g317 r2.1 r2.2) none) none)) none
noncomputable def FX99_rounded_266 (n : Nat) (a0 : Nat) (a1 : Int32) (a3 : Int32) (a6 : Int32) (a8 : Int32) (M : FM) : Option (Int64 × FM) := BX99_rounded_266 FX99_pack (FX99_rounded_317 n ) a0 a1 a3 a6 a8 M
noncomputable def BX99_rounded_263 (f2 : Nat → Int32 → FM → Option (FM)) (g266 : Nat → Int32 → Int32 → Int32 → Int32 → FM → Option (Int64 × FM)) (a0 : Nat) (a1 : Int32) (a3 : Int32) (a6 : Int32) (a8 : Int32) (s0 : Nat) (s1 : Int32) (M : FM) : Option (Int64 × FM) :=
  fi (fm_is M 96 96 s0 = true) (
  (f2 s0 s1 M).bind fun M1 =>
  g266 a0 a1 a3 a6 a8 M1) none
noncomputable def FX99_rounded_263 (n : Nat) (a0 : Nat) (a1 : Int32) (a3 : Int32) (a6 : Int32) (a8 : Int32) (s0 : Nat) (s1 : Int32) (M : FM) : Option (Int64 × FM) := BX99_rounded_263 FX99_raiseFlags (FX99_rounded_266 n ) a0 a1 a3 a6 a8 s0 s1 M
noncomputable def BX99_rounded_244 (s0 : Int64) (M : FM) : Option (Int64 × FM) :=
  some (s0, M)
noncomputable def FX99_rounded_244 (n : Nat) (s0 : Int64) (M : FM) : Option (Int64 × FM) := BX99_rounded_244 s0 M
noncomputable def BX99_rounded_196 (f3 : Int32 → Int64 → Int64 → Int32 → FM → Option (Int64 × FM)) (g244 : Int64 → FM → Option (Int64 × FM)) (a0 : Nat) (a1 : Int32) (a3 : Int32) (s0 : Int32) (M : FM) : Option (Int64 × FM) :=
  fi (s0 = 0) (
    fi (fm_is M 96 96 a0 = true) (
    fi (fm_is M 96 96 a0 = true) (
    let x1 : Nat := (M.2.2 374 a0 0)
    fi (fm_is M 901 901 x1 = true ∧ fm_in M x1 a1 = true) (
    (f3 (M.1 382 a0 0) (((M.1 3 x1 a1.toNatClampNeg) - (Int32.ofInt 1)).toInt64) (((Int64.ofInt 1) <<< (a3.toInt64 &&& 63)) - (Int64.ofInt 1)) a1 M).bind fun r2 =>
    g244 r2.1 r2.2) none) none) none) (
    fi (fm_is M 96 96 a0 = true) (
    fi (fm_is M 96 96 a0 = true) (
    let x3 : Nat := (M.2.2 374 a0 0)
    fi (fm_is M 901 901 x3 = true ∧ fm_in M x3 a1 = true) (
    (f3 (M.1 382 a0 0) ((M.1 3 x3 a1.toNatClampNeg).toInt64) (Int64.ofInt 0) a1 M).bind fun r4 =>
    g244 r4.1 r4.2) none) none) none)
noncomputable def FX99_rounded_196 (n : Nat) (a0 : Nat) (a1 : Int32) (a3 : Int32) (s0 : Int32) (M : FM) : Option (Int64 × FM) := BX99_rounded_196 FX99_pack (FX99_rounded_244 n ) a0 a1 a3 s0 M
noncomputable def BX99_rounded_191 (g196 : Nat → Int32 → Int32 → Int32 → FM → Option (Int64 × FM)) (a0 : Nat) (a1 : Int32) (a3 : Int32) (M : FM) : Option (Int64 × FM) :=
  g196 a0 a1 a3 (Int32.ofInt 1) M
noncomputable def FX99_rounded_191 (n : Nat) (a0 : Nat) (a1 : Int32) (a3 : Int32) (M : FM) : Option (Int64 × FM) := BX99_rounded_191 (FX99_rounded_196 n ) a0 a1 a3 M
noncomputable def BX99_rounded_188 (g191 : Nat → Int32 → Int32 → FM → Option (Int64 × FM)) (g196 : Nat → Int32 → Int32 → Int32 → FM → Option (Int64 × FM)) (a0 : Nat) (a1 : Int32) (a3 : Int32) (s0 : Int32) (s1 : Int32) (M : FM) : Option (Int64 × FM) :=
  fi (s0 = s1) (
    g191 a0 a1 a3 M) (
    g196 a0 a1 a3 (Int32.ofInt 0) M)
noncomputable def FX99_rounded_188 (n : Nat) (a0 : Nat) (a1 : Int32) (a3 : Int32) (s0 : Int32) (s1 : Int32) (M : FM) : Option (Int64 × FM) := BX99_rounded_188 (FX99_rounded_191 n ) (FX99_rounded_196 n ) a0 a1 a3 s0 s1 M
noncomputable def BX99_rounded_151 (f2 : Nat → Int32 → FM → Option (FM)) (g188 : Nat → Int32 → Int32 → Int32 → Int32 → FM → Option (Int64 × FM)) (g191 : Nat → Int32 → Int32 → FM → Option (Int64 × FM)) (g263 : Nat → Int32 → Int32 → Int32 → Int32 → Nat → Int32 → FM → Option (Int64 × FM)) (g266 : Nat → Int32 → Int32 → Int32 → Int32 → FM → Option (Int64 × FM)) (a0 : Nat) (a1 : Int32) (a2 : Int32) (a3 : Int32) (a4 : Int32) (a6 : Int32) (a7 : Int32) (a8 : Int32) (M : FM) : Option (Int64 × FM) :=
  fi ((a8 + a3) ≤ a4) (
    fi (fm_is M 96 96 a0 = true) (
    fi ((M.1 385 a0 0) = 0) (
      g266 a0 a1 a3 a6 a8 M) (
      fi (a7 = 0) (
        g263 a0 a1 a3 a6 a8 a0 (Int32.ofInt 1) M) (
        g263 a0 a1 a3 a6 a8 a0 (Int32.ofInt 3) M))) none) (
    fi (fm_is M 96 96 a0 = true) (
    (f2 a0 (Int32.ofInt 5) M).bind fun M1 =>
    fi (a2 = 0) (
      g191 a0 a1 a3 M1) (
      fi (a2 = (Int32.ofInt 4)) (
        g191 a0 a1 a3 M1) (
        fi (fm_is M1 96 96 a0 = true) (
        fi ((M1.1 382 a0 0) = (Int32.ofInt 1)) (
          g188 a0 a1 a3 a2 (Int32.ofInt 2) M1) (
          g188 a0 a1 a3 a2 (Int32.ofInt 3) M1)) none))) none)
noncomputable def FX99_rounded_151 (n : Nat) (a0 : Nat) (a1 : Int32) (a2 : Int32) (a3 : Int32) (a4 : Int32) (a6 : Int32) (a7 : Int32) (a8 : Int32) (M : FM) : Option (Int64 × FM) := BX99_rounded_151 FX99_raiseFlags (FX99_rounded_188 n ) (FX99_rounded_191 n ) (FX99_rounded_263 n ) (FX99_rounded_266 n ) a0 a1 a2 a3 a4 a6 a7 a8 M
noncomputable def BX99_rounded_126 (g151 : Nat → Int32 → Int32 → Int32 → Int32 → Int32 → Int32 → Int32 → FM → Option (Int64 × FM)) (a0 : Nat) (a1 : Int32) (a2 : Int32) (a3 : Int32) (a4 : Int32) (a6 : Int32) (a7 : Int32) (s0 : Int32) (M : FM) : Option (Int64 × FM) :=
  fi (fm_is M 96 96 a0 = true) (
  fi ((lg_cmp (M.2.1 384 a0 0) ((Int64.ofInt 2) <<< (a3.toInt64 &&& 63))) = 0) (
    fi (fm_is M 96 96 a0 = true) (
    let M1 : FM := fm_sL M 384 a0 0 ((Int64.ofInt 1) <<< (a3.toInt64 &&& 63))
    let x2 : Int32 := s0 + (Int32.ofInt 1)
    g151 a0 a1 a2 a3 a4 a6 a7 x2 M1) none) (
    g151 a0 a1 a2 a3 a4 a6 a7 s0 M)) none
noncomputable def FX99_rounded_126 (n : Nat) (a0 : Nat) (a1 : Int32) (a2 : Int32) (a3 : Int32) (a4 : Int32) (a6 : Int32) (a7 : Int32) (s0 : Int32) (M : FM) : Option (Int64 × FM) := BX99_rounded_126 (FX99_rounded_151 n ) a0 a1 a2 a3 a4 a6 a7 s0 M
noncomputable def BX99_rounded_104 (f1 : Nat → Int32 → Int32 → FM → Option (FM)) (g126 : Nat → Int32 → Int32 → Int32 → Int32 → Int32 → Int32 → Int32 → FM → Option (Int64 × FM)) (a0 : Nat) (a1 : Int32) (a2 : Int32) (a3 : Int32) (a4 : Int32) (a5 : Int32) (a6 : Int32) (a7 : Int32) (s0 : Nat) (s1 : Int32) (M : FM) : Option (Int64 × FM) :=
  fi (fm_is M 96 96 s0 = true) (
  (f1 s0 s1 a2 M).bind fun M1 =>
  fi (a6 ≤ (a5 - a3)) (
    g126 a0 a1 a2 a3 a4 a6 a7 (a5 - a3) M1) (
    g126 a0 a1 a2 a3 a4 a6 a7 a6 M1)) none
noncomputable def FX99_rounded_104 (n : Nat) (a0 : Nat) (a1 : Int32) (a2 : Int32) (a3 : Int32) (a4 : Int32) (a5 : Int32) (a6 : Int32) (a7 : Int32) (s0 : Nat) (s1 : Int32) (M : FM) : Option (Int64 × FM) := BX99_rounded_104 (FX99_roundTo n) (FX99_rounded_126 n ) a0 a1 a2 a3 a4 a5 a6 a7 s0 s1 M
noncomputable def BX99_rounded_83 (g104 : Nat → Int32 → Int32 → Int32 → Int32 → Int32 → Int32 → Int32 → Nat → Int32 → FM → Option (Int64 × FM)) (a0 : Nat) (a1 : Int32) (a2 : Int32) (a3 : Int32) (a4 : Int32) (a5 : Int32) (a6 : Int32) (s0 : Int32) (M : FM) : Option (Int64 × FM) :=
  fi (a6 ≤ (a5 - a3)) (
    g104 a0 a1 a2 a3 a4 a5 a6 s0 a0 (a5 - a3) M) (
    g104 a0 a1 a2 a3 a4 a5 a6 s0 a0 a6 M)
noncomputable def FX99_rounded_83 (n : Nat) (a0 : Nat) (a1 : Int32) (a2 : Int32) (a3 : Int32) (a4 : Int32) (a5 : Int32) (a6 : Int32) (s0 : Int32) (M : FM) : Option (Int64 × FM) := BX99_rounded_83 (FX99_rounded_104 n ) a0 a1 a2 a3 a4 a5 a6 s0 M
noncomputable def BX99_rounded_82 (g83 : Nat → Int32 → Int32 → Int32 → Int32 → Int32 → Int32 → Int32 → FM → Option (Int64 × FM)) (a0 : Nat) (a1 : Int32) (a2 : Int32) (a3 : Int32) (a4 : Int32) (a5 : Int32) (a6 : Int32) (M : FM) : Option (Int64 × FM) :=
  g83 a0 a1 a2 a3 a4 a5 a6 (Int32.ofInt 0) M
noncomputable def FX99_rounded_82 (n : Nat) (a0 : Nat) (a1 : Int32) (a2 : Int32) (a3 : Int32) (a4 : Int32) (a5 : Int32) (a6 : Int32) (M : FM) : Option (Int64 × FM) := BX99_rounded_82 (FX99_rounded_83 n ) a0 a1 a2 a3 a4 a5 a6 M
noncomputable def BX99_rounded_78 (g83 : Nat → Int32 → Int32 → Int32 → Int32 → Int32 → Int32 → Int32 → FM → Option (Int64 × FM)) (a0 : Nat) (a1 : Int32) (a2 : Int32) (a3 : Int32) (a4 : Int32) (a5 : Int32) (a6 : Int32) (M : FM) : Option (Int64 × FM) :=
  g83 a0 a1 a2 a3 a4 a5 a6 (Int32.ofInt 1) M
noncomputable def FX99_rounded_78 (n : Nat) (a0 : Nat) (a1 : Int32) (a2 : Int32) (a3 : Int32) (a4 : Int32) (a5 : Int32) (a6 : Int32) (M : FM) : Option (Int64 × FM) := BX99_rounded_78 (FX99_rounded_83 n ) a0 a1 a2 a3 a4 a5 a6 M
noncomputable def BX99_rounded_0 (f0 : Nat → FM → Option (Int32 × FM)) (f1 : Nat → Int32 → Int32 → FM → Option (FM)) (g78 : Nat → Int32 → Int32 → Int32 → Int32 → Int32 → Int32 → FM → Option (Int64 × FM)) (g82 : Nat → Int32 → Int32 → Int32 → Int32 → Int32 → Int32 → FM → Option (Int64 × FM)) (a0 : Nat) (a1 : Int32) (a2 : Int32) (M : FM) : Option (Int64 × FM) :=
  fi (fm_is M 96 96 a0 = true) (
  let x1 : Nat := (M.2.2 372 a0 0)
  fi (fm_is M 901 901 x1 = true ∧ fm_in M x1 a1 = true) (
  let x2 : Int32 := (M.1 3 x1 a1.toNatClampNeg)
  fi (fm_is M 96 96 a0 = true) (
  let x3 : Nat := (M.2.2 373 a0 0)
  fi (fm_is M 901 901 x3 = true ∧ fm_in M x3 a1 = true) (
  let x4 : Int32 := (M.1 3 x3 a1.toNatClampNeg)
  fi (fm_is M 96 96 a0 = true) (
  (f0 (M.2.2 379 a0 0) M).bind fun r5 =>
  fi (fm_is r5.2 96 96 a0 = true) (
  let x6 : Int32 := ((r5.1 - (Int32.ofInt 1)) + (r5.2.1 383 a0 0))
  let x7 : Int32 := (((Int32.ofInt 1) - x4) - x2)
  fi (fm_is r5.2 96 96 a0 = true) (
  (f1 a0 (x6 - x2) a2 r5.2).bind fun M8 =>
  fi (((Int32.ofInt 1) - x4) ≤ x6) (
    g82 a0 a1 a2 x2 x4 x6 x7 M8) (
    fi (x6 = (-x4)) (
      fi (fm_is M8 96 96 a0 = true) (
      fi ((lg_cmp (M8.2.1 384 a0 0) ((Int64.ofInt 2) <<< (x2.toInt64 &&& 63))) = 0) (
        g82 a0 a1 a2 x2 x4 x6 x7 M8) (
        g78 a0 a1 a2 x2 x4 x6 x7 M8)) none) (
      g78 a0 a1 a2 x2 x4 x6 x7 M8))) none) none) none) none) none) none) none
noncomputable def FX99_rounded_0 (n : Nat) (a0 : Nat) (a1 : Int32) (a2 : Int32) (M : FM) : Option (Int64 × FM) := BX99_rounded_0 (FX99_length n) (FX99_roundTo n) (FX99_rounded_78 n ) (FX99_rounded_82 n ) a0 a1 a2 M
noncomputable def FX99_rounded (n : Nat) (a0 : Nat) (a1 : Int32) (a2 : Int32) (M : FM) : Option (Int64 × FM) := FX99_rounded_0 n a0 a1 a2 M
/-! BoardMachineModel$Floats.sum(IIIIII)J -/
noncomputable def BX99_sum_252 (f6 : Nat → Int32 → Int32 → FM → Option (Int64 × FM)) (a0 : Nat) (a5 : Int32) (a6 : Int32) (M : FM) : Option (Int64 × FM) :=
  fi (fm_is M 96 96 a0 = true) (
  (f6 a0 a5 a6 M).bind fun r1 =>
  some (r1.1, r1.2)) none
noncomputable def FX99_sum_252 (n : Nat) (a0 : Nat) (a5 : Int32) (a6 : Int32) (M : FM) : Option (Int64 × FM) := BX99_sum_252 (FX99_rounded n) a0 a5 a6 M
noncomputable def BX99_sum_192 (f4 : Nat → Nat → FM → Option (FM)) (f5 : Nat → Nat → Nat → FM → Option (FM)) (g252 : Nat → Int32 → Int32 → FM → Option (Int64 × FM)) (a0 : Nat) (a1 : Int32) (a3 : Int32) (a5 : Int32) (a6 : Int32) (a8 : Int32) (s0 : Nat) (s1 : Int32) (M : FM) : Option (Int64 × FM) :=
  fi (fm_is M 96 96 s0 = true) (
  let M1 : FM := fm_sI M 382 s0 0 s1
  fi (a1 = a3) (
    fi (fm_is M1 96 96 a0 = true) (
    fi (fm_is M1 96 96 a0 = true) (
    (f4 (M1.2.2 379 a0 0) (M1.2.2 380 a0 0) M1).bind fun M2 =>
    g252 a0 a5 a6 M2) none) none) (
    fi (a8 ≤ 0) (
      fi (fm_is M1 96 96 a0 = true) (
      fi (fm_is M1 96 96 a0 = true) (
      fi (fm_is M1 96 96 a0 = true) (
      (f5 (M1.2.2 380 a0 0) (M1.2.2 379 a0 0) (M1.2.2 379 a0 0) M1).bind fun M3 =>
      g252 a0 a5 a6 M3) none) none) none) (
      fi (fm_is M1 96 96 a0 = true) (
      fi (fm_is M1 96 96 a0 = true) (
      fi (fm_is M1 96 96 a0 = true) (
      (f5 (M1.2.2 379 a0 0) (M1.2.2 380 a0 0) (M1.2.2 379 a0 0) M1).bind fun M4 =>
      g252 a0 a5 a6 M4) none) none) none))) none
noncomputable def FX99_sum_192 (n : Nat) (a0 : Nat) (a1 : Int32) (a3 : Int32) (a5 : Int32) (a6 : Int32) (a8 : Int32) (s0 : Nat) (s1 : Int32) (M : FM) : Option (Int64 × FM) := BX99_sum_192 (FX99_add n) (FX99_subtract n) (FX99_sum_252 n ) a0 a1 a3 a5 a6 a8 s0 s1 M
noncomputable def BX99_sum_176 (g192 : Nat → Int32 → Int32 → Int32 → Int32 → Int32 → Nat → Int32 → FM → Option (Int64 × FM)) (a0 : Nat) (a1 : Int32) (a3 : Int32) (a5 : Int32) (a6 : Int32) (a8 : Int32) (M : FM) : Option (Int64 × FM) :=
  fi (fm_is M 96 96 a0 = true) (
  fi ((Int32.ofInt 0) = 0 ∨ (Int32.ofInt 0) = 1) (
  let M1 : FM := fm_sI M 381 a0 0 (Int32.ofInt 0)
  fi (0 ≤ a8) (
    g192 a0 a1 a3 a5 a6 a8 a0 a1 M1) (
    g192 a0 a1 a3 a5 a6 a8 a0 a3 M1)) none) none
noncomputable def FX99_sum_176 (n : Nat) (a0 : Nat) (a1 : Int32) (a3 : Int32) (a5 : Int32) (a6 : Int32) (a8 : Int32) (M : FM) : Option (Int64 × FM) := BX99_sum_176 (FX99_sum_192 n ) a0 a1 a3 a5 a6 a8 M
noncomputable def BX99_sum_170 (f1 : Nat → Int32 → Int32 → FM → Option (Int64 × FM)) (a5 : Int32) (s0 : Nat) (s1 : Int32) (M : FM) : Option (Int64 × FM) :=
  fi (fm_is M 96 96 s0 = true) (
  (f1 s0 s1 a5 M).bind fun r1 =>
  some (r1.1, r1.2)) none
noncomputable def FX99_sum_170 (n : Nat) (a5 : Int32) (s0 : Nat) (s1 : Int32) (M : FM) : Option (Int64 × FM) := BX99_sum_170 FX99_zero a5 s0 s1 M
noncomputable def BX99_sum_135 (f2 : Nat → Nat → FM → Option (Int32 × FM)) (g170 : Int32 → Nat → Int32 → FM → Option (Int64 × FM)) (g176 : Nat → Int32 → Int32 → Int32 → Int32 → Int32 → FM → Option (Int64 × FM)) (a0 : Nat) (a1 : Int32) (a3 : Int32) (a5 : Int32) (a6 : Int32) (M : FM) : Option (Int64 × FM) :=
  fi (fm_is M 96 96 a0 = true) (
  fi (fm_is M 96 96 a0 = true) (
  (f2 (M.2.2 379 a0 0) (M.2.2 380 a0 0) M).bind fun r1 =>
  fi (a1 = a3) (
    g176 a0 a1 a3 a5 a6 r1.1 r1.2) (
    fi (r1.1 = 0) (
      fi (a6 = (Int32.ofInt 2)) (
        g170 a5 a0 (Int32.ofInt 1) r1.2) (
        g170 a5 a0 (Int32.ofInt 0) r1.2)) (
      g176 a0 a1 a3 a5 a6 r1.1 r1.2))) none) none
noncomputable def FX99_sum_135 (n : Nat) (a0 : Nat) (a1 : Int32) (a3 : Int32) (a5 : Int32) (a6 : Int32) (M : FM) : Option (Int64 × FM) := BX99_sum_135 (FX99_compare n) (FX99_sum_170 n ) (FX99_sum_176 n ) a0 a1 a3 a5 a6 M
noncomputable def BX99_sum_132 (g135 : Nat → Int32 → Int32 → Int32 → Int32 → FM → Option (Int64 × FM)) (a0 : Nat) (a1 : Int32) (a3 : Int32) (a5 : Int32) (a6 : Int32) (s0 : Nat) (s1 : Int32) (M : FM) : Option (Int64 × FM) :=
  fi (fm_is M 96 96 s0 = true) (
  let M1 : FM := fm_sI M 383 s0 0 s1
  g135 a0 a1 a3 a5 a6 M1) none
noncomputable def FX99_sum_132 (n : Nat) (a0 : Nat) (a1 : Int32) (a3 : Int32) (a5 : Int32) (a6 : Int32) (s0 : Nat) (s1 : Int32) (M : FM) : Option (Int64 × FM) := BX99_sum_132 (FX99_sum_135 n ) a0 a1 a3 a5 a6 s0 s1 M
noncomputable def BX99_sum_115 (f0 : Nat → FM → Option (Int32 × FM)) (g132 : Nat → Int32 → Int32 → Int32 → Int32 → Nat → Int32 → FM → Option (Int64 × FM)) (a0 : Nat) (a1 : Int32) (a2 : Int32) (a3 : Int32) (a4 : Int32) (a5 : Int32) (a6 : Int32) (M : FM) : Option (Int64 × FM) :=
  fi (fm_is M 96 96 a0 = true) (
  (f0 (M.2.2 379 a0 0) M).bind fun r1 =>
  fi (r1.1 ≤ 0) (
    g132 a0 a1 a3 a5 a6 a0 a4 r1.2) (
    g132 a0 a1 a3 a5 a6 a0 a2 r1.2)) none
noncomputable def FX99_sum_115 (n : Nat) (a0 : Nat) (a1 : Int32) (a2 : Int32) (a3 : Int32) (a4 : Int32) (a5 : Int32) (a6 : Int32) (M : FM) : Option (Int64 × FM) := BX99_sum_115 (FX99_length n) (FX99_sum_132 n ) a0 a1 a2 a3 a4 a5 a6 M
noncomputable def BX99_sum_82 (f3 : Nat → Int32 → FM → Option (FM)) (g135 : Nat → Int32 → Int32 → Int32 → Int32 → FM → Option (Int64 × FM)) (a0 : Nat) (a1 : Int32) (a2 : Int32) (a3 : Int32) (a4 : Int32) (a5 : Int32) (a6 : Int32) (s0 : Nat) (s1 : Int32) (M : FM) : Option (Int64 × FM) :=
  fi (fm_is M 96 96 s0 = true) (
  let M1 : FM := fm_sI M 383 s0 0 s1
  fi (fm_is M1 96 96 a0 = true) (
  fi (fm_is M1 96 96 a0 = true) (
  (f3 (M1.2.2 379 a0 0) (a2 - (M1.1 383 a0 0)) M1).bind fun M2 =>
  fi (fm_is M2 96 96 a0 = true) (
  fi (fm_is M2 96 96 a0 = true) (
  (f3 (M2.2.2 380 a0 0) (a4 - (M2.1 383 a0 0)) M2).bind fun M3 =>
  g135 a0 a1 a3 a5 a6 M3) none) none) none) none) none
noncomputable def FX99_sum_82 (n : Nat) (a0 : Nat) (a1 : Int32) (a2 : Int32) (a3 : Int32) (a4 : Int32) (a5 : Int32) (a6 : Int32) (s0 : Nat) (s1 : Int32) (M : FM) : Option (Int64 × FM) := BX99_sum_82 (FX99_raise n) (FX99_sum_135 n ) a0 a1 a2 a3 a4 a5 a6 s0 s1 M
noncomputable def BX99_sum_43 (f1 : Nat → Int32 → Int32 → FM → Option (Int64 × FM)) (a5 : Int32) (s0 : Nat) (s1 : Int32) (M : FM) : Option (Int64 × FM) :=
  fi (fm_is M 96 96 s0 = true) (
  (f1 s0 s1 a5 M).bind fun r1 =>
  some (r1.1, r1.2)) none
noncomputable def FX99_sum_43 (n : Nat) (a5 : Int32) (s0 : Nat) (s1 : Int32) (M : FM) : Option (Int64 × FM) := BX99_sum_43 FX99_zero a5 s0 s1 M
noncomputable def BX99_sum_0 (f0 : Nat → FM → Option (Int32 × FM)) (g43 : Int32 → Nat → Int32 → FM → Option (Int64 × FM)) (g82 : Nat → Int32 → Int32 → Int32 → Int32 → Int32 → Int32 → Nat → Int32 → FM → Option (Int64 × FM)) (g115 : Nat → Int32 → Int32 → Int32 → Int32 → Int32 → Int32 → FM → Option (Int64 × FM)) (a0 : Nat) (a1 : Int32) (a2 : Int32) (a3 : Int32) (a4 : Int32) (a5 : Int32) (a6 : Int32) (M : FM) : Option (Int64 × FM) :=
  fi (fm_is M 96 96 a0 = true) (
  (f0 (M.2.2 379 a0 0) M).bind fun r1 =>
  fi (fm_is r1.2 96 96 a0 = true) (
  (f0 (r1.2.2.2 380 a0 0) r1.2).bind fun r2 =>
  let x3 : Int32 := (r1.1 + r2.1)
  fi (x3 = 0) (
    fi (a1 = a3) (
      g43 a5 a0 a1 r2.2) (
      fi (a6 = (Int32.ofInt 2)) (
        g43 a5 a0 (Int32.ofInt 1) r2.2) (
        g43 a5 a0 (Int32.ofInt 0) r2.2))) (
    fi (fm_is r2.2 96 96 a0 = true) (
    (f0 (r2.2.2.2 379 a0 0) r2.2).bind fun r4 =>
    fi (r4.1 ≤ 0) (
      g115 a0 a1 a2 a3 a4 a5 a6 r4.2) (
      fi (fm_is r4.2 96 96 a0 = true) (
      (f0 (r4.2.2.2 380 a0 0) r4.2).bind fun r5 =>
      fi (r5.1 ≤ 0) (
        g115 a0 a1 a2 a3 a4 a5 a6 r5.2) (
        fi (a4 ≤ a2) (
          g82 a0 a1 a2 a3 a4 a5 a6 a0 a4 r5.2) (
          g82 a0 a1 a2 a3 a4 a5 a6 a0 a2 r5.2))) none)) none)) none) none
noncomputable def FX99_sum_0 (n : Nat) (a0 : Nat) (a1 : Int32) (a2 : Int32) (a3 : Int32) (a4 : Int32) (a5 : Int32) (a6 : Int32) (M : FM) : Option (Int64 × FM) := BX99_sum_0 (FX99_length n) (FX99_sum_43 n ) (FX99_sum_82 n ) (FX99_sum_115 n ) a0 a1 a2 a3 a4 a5 a6 M
noncomputable def FX99_sum (n : Nat) (a0 : Nat) (a1 : Int32) (a2 : Int32) (a3 : Int32) (a4 : Int32) (a5 : Int32) (a6 : Int32) (M : FM) : Option (Int64 × FM) := FX99_sum_0 n a0 a1 a2 a3 a4 a5 a6 M
/-! BoardMachineModel$Floats.fused(IIII)J -/
noncomputable def BX99_fused_157 (f2 : Nat → Int32 → Int32 → Int32 → Int32 → Int32 → FM → Option (Int64 × FM)) (a0 : Nat) (a3 : Int32) (a8 : Int32) (a9 : Int32) (a10 : Int32) (a11 : Int32) (M : FM) : Option (Int64 × FM) :=
  fi (fm_is M 96 96 a0 = true) (
  (f2 a0 a10 a8 a11 a9 a3 M).bind fun r1 =>
  some (r1.1, r1.2)) none
noncomputable def FX99_fused_157 (n : Nat) (a0 : Nat) (a3 : Int32) (a8 : Int32) (a9 : Int32) (a10 : Int32) (a11 : Int32) (M : FM) : Option (Int64 × FM) := BX99_fused_157 FX99_infiniteSum a0 a3 a8 a9 a10 a11 M
noncomputable def BX99_fused_145 (f3 : Nat → Int64 → Int64 → FM → Option (FM)) (f4 : Nat → Int64 → FM → Option (FM)) (f5 : Nat → Int32 → Int32 → Int32 → Int32 → Int32 → Int32 → FM → Option (Int64 × FM)) (g157 : Nat → Int32 → Int32 → Int32 → Int32 → Int32 → FM → Option (Int64 × FM)) (a0 : Nat) (a3 : Int32) (a4 : Int32) (a8 : Int32) (a9 : Int32) (a10 : Int32) (s0 : Int32) (M : FM) : Option (Int64 × FM) :=
  fi (a10 = 0) (
    fi (s0 = 0) (
      fi (fm_is M 96 96 a0 = true) (
      fi (fm_is M 96 96 a0 = true) (
      let x1 : Nat := (M.2.2 377 a0 0)
      fi (fm_is M 902 902 x1 = true ∧ fm_in M x1 (Int32.ofInt 0) = true) (
      fi (fm_is M 96 96 a0 = true) (
      let x2 : Nat := (M.2.2 377 a0 0)
      fi (fm_is M 902 902 x2 = true ∧ fm_in M x2 (Int32.ofInt 1) = true) (
      (f3 (M.2.2 379 a0 0) (M.2.1 3 x1 (Int32.ofInt 0).toNatClampNeg) (M.2.1 3 x2 (Int32.ofInt 1).toNatClampNeg) M).bind fun M3 =>
      fi (fm_is M3 96 96 a0 = true) (
      fi (fm_is M3 96 96 a0 = true) (
      let x4 : Nat := (M3.2.2 377 a0 0)
      fi (fm_is M3 902 902 x4 = true ∧ fm_in M3 x4 (Int32.ofInt 2) = true) (
      (f4 (M3.2.2 380 a0 0) (M3.2.1 3 x4 (Int32.ofInt 2).toNatClampNeg) M3).bind fun M5 =>
      fi (fm_is M5 96 96 a0 = true) (
      let x6 : Nat := (M5.2.2 378 a0 0)
      fi (fm_is M5 901 901 x6 = true ∧ fm_in M5 x6 (Int32.ofInt 0) = true) (
      fi (fm_is M5 96 96 a0 = true) (
      let x7 : Nat := (M5.2.2 378 a0 0)
      fi (fm_is M5 901 901 x7 = true ∧ fm_in M5 x7 (Int32.ofInt 1) = true) (
      fi (fm_is M5 96 96 a0 = true) (
      let x8 : Nat := (M5.2.2 378 a0 0)
      fi (fm_is M5 901 901 x8 = true ∧ fm_in M5 x8 (Int32.ofInt 2) = true) (
      fi (fm_is M5 96 96 a0 = true) (
      (f5 a0 a8 ((M5.1 3 x6 (Int32.ofInt 0).toNatClampNeg) + (M5.1 3 x7 (Int32.ofInt 1).toNatClampNeg)) a9 (M5.1 3 x8 (Int32.ofInt 2).toNatClampNeg) a3 a4 M5).bind fun r9 =>
      some (r9.1, r9.2)) none) none) none) none) none) none) none) none) none) none) none) none) none) none) none) (
      g157 a0 a3 a8 a9 a10 s0 M)) (
    g157 a0 a3 a8 a9 a10 s0 M)
noncomputable def FX99_fused_145 (n : Nat) (a0 : Nat) (a3 : Int32) (a4 : Int32) (a8 : Int32) (a9 : Int32) (a10 : Int32) (s0 : Int32) (M : FM) : Option (Int64 × FM) := BX99_fused_145 (FX99_multiply n) (FX99_put n) (FX99_sum n) (FX99_fused_157 n ) a0 a3 a4 a8 a9 a10 s0 M
noncomputable def BX99_fused_128 (g145 : Nat → Int32 → Int32 → Int32 → Int32 → Int32 → Int32 → FM → Option (Int64 × FM)) (a0 : Nat) (a3 : Int32) (a4 : Int32) (a8 : Int32) (a9 : Int32) (s0 : Int32) (M : FM) : Option (Int64 × FM) :=
  fi (fm_is M 96 96 a0 = true) (
  let x1 : Nat := (M.2.2 375 a0 0)
  fi (fm_is M 901 901 x1 = true ∧ fm_in M x1 (Int32.ofInt 2) = true) (
  fi ((M.1 3 x1 (Int32.ofInt 2).toNatClampNeg) = (Int32.ofInt 2)) (
    g145 a0 a3 a4 a8 a9 s0 (Int32.ofInt 1) M) (
    g145 a0 a3 a4 a8 a9 s0 (Int32.ofInt 0) M)) none) none
noncomputable def FX99_fused_128 (n : Nat) (a0 : Nat) (a3 : Int32) (a4 : Int32) (a8 : Int32) (a9 : Int32) (s0 : Int32) (M : FM) : Option (Int64 × FM) := BX99_fused_128 (FX99_fused_145 n ) a0 a3 a4 a8 a9 s0 M
noncomputable def BX99_fused_123 (g128 : Nat → Int32 → Int32 → Int32 → Int32 → Int32 → FM → Option (Int64 × FM)) (a0 : Nat) (a3 : Int32) (a4 : Int32) (a8 : Int32) (a9 : Int32) (M : FM) : Option (Int64 × FM) :=
  g128 a0 a3 a4 a8 a9 (Int32.ofInt 1) M
noncomputable def FX99_fused_123 (n : Nat) (a0 : Nat) (a3 : Int32) (a4 : Int32) (a8 : Int32) (a9 : Int32) (M : FM) : Option (Int64 × FM) := BX99_fused_123 (FX99_fused_128 n ) a0 a3 a4 a8 a9 M
noncomputable def BX99_fused_43 (f0 : Nat → Int32 → FM → Option (Int64 × FM)) (f1 : Nat → Int32 → Int32 → FM → Option (Int64 × FM)) (g123 : Nat → Int32 → Int32 → Int32 → Int32 → FM → Option (Int64 × FM)) (g128 : Nat → Int32 → Int32 → Int32 → Int32 → Int32 → FM → Option (Int64 × FM)) (a0 : Nat) (a1 : Int32) (a2 : Int32) (a3 : Int32) (a4 : Int32) (s0 : Int32) (M : FM) : Option (Int64 × FM) :=
  fi (s0 = 0) (
    fi (fm_is M 96 96 a0 = true) (
    (f1 a0 (Int32.ofInt 3) a3 M).bind fun r1 =>
    fi ((lg_cmp r1.1 (Int64.ofInt (-1))) = 0) (
      fi (fm_is r1.2 96 96 a0 = true) (
      let x2 : Nat := (r1.2.2.2 376 a0 0)
      fi (fm_is r1.2 901 901 x2 = true ∧ fm_in r1.2 x2 (Int32.ofInt 0) = true) (
      fi (fm_is r1.2 96 96 a0 = true) (
      let x3 : Nat := (r1.2.2.2 376 a0 0)
      fi (fm_is r1.2 901 901 x3 = true ∧ fm_in r1.2 x3 (Int32.ofInt 1) = true) (
      let x4 : Int32 := (((r1.2.1 3 x2 (Int32.ofInt 0).toNatClampNeg) ^^^ (r1.2.1 3 x3 (Int32.ofInt 1).toNatClampNeg)) ^^^ a1)
      fi (fm_is r1.2 96 96 a0 = true) (
      let x5 : Nat := (r1.2.2.2 376 a0 0)
      fi (fm_is r1.2 901 901 x5 = true ∧ fm_in r1.2 x5 (Int32.ofInt 2) = true) (
      let x6 : Int32 := ((r1.2.1 3 x5 (Int32.ofInt 2).toNatClampNeg) ^^^ a2)
      fi (fm_is r1.2 96 96 a0 = true) (
      let x7 : Nat := (r1.2.2.2 375 a0 0)
      fi (fm_is r1.2 901 901 x7 = true ∧ fm_in r1.2 x7 (Int32.ofInt 0) = true) (
      fi ((r1.2.1 3 x7 (Int32.ofInt 0).toNatClampNeg) = (Int32.ofInt 2)) (
        g123 a0 a3 a4 x4 x6 r1.2) (
        fi (fm_is r1.2 96 96 a0 = true) (
        let x8 : Nat := (r1.2.2.2 375 a0 0)
        fi (fm_is r1.2 901 901 x8 = true ∧ fm_in r1.2 x8 (Int32.ofInt 1) = true) (
        fi ((r1.2.1 3 x8 (Int32.ofInt 1).toNatClampNeg) = (Int32.ofInt 2)) (
          g123 a0 a3 a4 x4 x6 r1.2) (
          g128 a0 a3 a4 x4 x6 (Int32.ofInt 0) r1.2)) none) none)) none) none) none) none) none) none) none) none) (
      some (r1.1, r1.2))) none) (
    fi (fm_is M 96 96 a0 = true) (
    (f0 a0 a3 M).bind fun r9 =>
    some (r9.1, r9.2)) none)
noncomputable def FX99_fused_43 (n : Nat) (a0 : Nat) (a1 : Int32) (a2 : Int32) (a3 : Int32) (a4 : Int32) (s0 : Int32) (M : FM) : Option (Int64 × FM) := BX99_fused_43 FX99_invalid (FX99_none n) (FX99_fused_123 n ) (FX99_fused_128 n ) a0 a1 a2 a3 a4 s0 M
noncomputable def BX99_fused_42 (g43 : Nat → Int32 → Int32 → Int32 → Int32 → Int32 → FM → Option (Int64 × FM)) (a0 : Nat) (a1 : Int32) (a2 : Int32) (a3 : Int32) (a4 : Int32) (M : FM) : Option (Int64 × FM) :=
  g43 a0 a1 a2 a3 a4 (Int32.ofInt 0) M
noncomputable def FX99_fused_42 (n : Nat) (a0 : Nat) (a1 : Int32) (a2 : Int32) (a3 : Int32) (a4 : Int32) (M : FM) : Option (Int64 × FM) := BX99_fused_42 (FX99_fused_43 n ) a0 a1 a2 a3 a4 M
noncomputable def BX99_fused_38 (g43 : Nat → Int32 → Int32 → Int32 → Int32 → Int32 → FM → Option (Int64 × FM)) (a0 : Nat) (a1 : Int32) (a2 : Int32) (a3 : Int32) (a4 : Int32) (M : FM) : Option (Int64 × FM) :=
  g43 a0 a1 a2 a3 a4 (Int32.ofInt 1) M
noncomputable def FX99_fused_38 (n : Nat) (a0 : Nat) (a1 : Int32) (a2 : Int32) (a3 : Int32) (a4 : Int32) (M : FM) : Option (Int64 × FM) := BX99_fused_38 (FX99_fused_43 n ) a0 a1 a2 a3 a4 M
noncomputable def BX99_fused_19 (g38 : Nat → Int32 → Int32 → Int32 → Int32 → FM → Option (Int64 × FM)) (g42 : Nat → Int32 → Int32 → Int32 → Int32 → FM → Option (Int64 × FM)) (a0 : Nat) (a1 : Int32) (a2 : Int32) (a3 : Int32) (a4 : Int32) (M : FM) : Option (Int64 × FM) :=
  fi (fm_is M 96 96 a0 = true) (
  let x1 : Nat := (M.2.2 375 a0 0)
  fi (fm_is M 901 901 x1 = true ∧ fm_in M x1 (Int32.ofInt 0) = true) (
  fi ((M.1 3 x1 (Int32.ofInt 0).toNatClampNeg) = 0) (
    fi (fm_is M 96 96 a0 = true) (
    let x2 : Nat := (M.2.2 375 a0 0)
    fi (fm_is M 901 901 x2 = true ∧ fm_in M x2 (Int32.ofInt 1) = true) (
    fi ((M.1 3 x2 (Int32.ofInt 1).toNatClampNeg) = (Int32.ofInt 2)) (
      g38 a0 a1 a2 a3 a4 M) (
      g42 a0 a1 a2 a3 a4 M)) none) none) (
    g42 a0 a1 a2 a3 a4 M)) none) none
noncomputable def FX99_fused_19 (n : Nat) (a0 : Nat) (a1 : Int32) (a2 : Int32) (a3 : Int32) (a4 : Int32) (M : FM) : Option (Int64 × FM) := BX99_fused_19 (FX99_fused_38 n ) (FX99_fused_42 n ) a0 a1 a2 a3 a4 M
noncomputable def BX99_fused_0 (g19 : Nat → Int32 → Int32 → Int32 → Int32 → FM → Option (Int64 × FM)) (g38 : Nat → Int32 → Int32 → Int32 → Int32 → FM → Option (Int64 × FM)) (a0 : Nat) (a1 : Int32) (a2 : Int32) (a3 : Int32) (a4 : Int32) (M : FM) : Option (Int64 × FM) :=
  fi (fm_is M 96 96 a0 = true) (
  let x1 : Nat := (M.2.2 375 a0 0)
  fi (fm_is M 901 901 x1 = true ∧ fm_in M x1 (Int32.ofInt 0) = true) (
  fi ((M.1 3 x1 (Int32.ofInt 0).toNatClampNeg) = (Int32.ofInt 2)) (
    fi (fm_is M 96 96 a0 = true) (
    let x2 : Nat := (M.2.2 375 a0 0)
    fi (fm_is M 901 901 x2 = true ∧ fm_in M x2 (Int32.ofInt 1) = true) (
    fi ((M.1 3 x2 (Int32.ofInt 1).toNatClampNeg) = 0) (
      g38 a0 a1 a2 a3 a4 M) (
      g19 a0 a1 a2 a3 a4 M)) none) none) (
    g19 a0 a1 a2 a3 a4 M)) none) none
noncomputable def FX99_fused_0 (n : Nat) (a0 : Nat) (a1 : Int32) (a2 : Int32) (a3 : Int32) (a4 : Int32) (M : FM) : Option (Int64 × FM) := BX99_fused_0 (FX99_fused_19 n ) (FX99_fused_38 n ) a0 a1 a2 a3 a4 M
noncomputable def FX99_fused (n : Nat) (a0 : Nat) (a1 : Int32) (a2 : Int32) (a3 : Int32) (a4 : Int32) (M : FM) : Option (Int64 × FM) := FX99_fused_0 n a0 a1 a2 a3 a4 M
/-! BoardMachineModel$Floats.write(IJI)I -/
noncomputable def BX99_write_20 (a0 : Nat) (s0 : Nat) (s1 : Int32) (s2 : Int64) (M : FM) : Option (Int32 × FM) :=
  fi (fm_is M 902 902 s0 = true ∧ fm_in M s0 s1 = true) (
  let M1 : FM := fm_sL M 3 s0 s1.toNatClampNeg s2
  fi (fm_is M1 96 96 a0 = true) (
  fi ((Int32.ofInt 1) = 0 ∨ (Int32.ofInt 1) = 1) (
  let M2 : FM := fm_sI M1 371 a0 0 (Int32.ofInt 1)
  some ((Int32.ofInt 0), M2)) none) none) none
noncomputable def FX99_write_20 (a0 : Nat) (s0 : Nat) (s1 : Int32) (s2 : Int64) (M : FM) : Option (Int32 × FM) := BX99_write_20 a0 s0 s1 s2 M
noncomputable def BX99_write_0 (g20 : Nat → Nat → Int32 → Int64 → FM → Option (Int32 × FM)) (a0 : Nat) (a1 : Int32) (a2 : Int64) (a4 : Int32) (M : FM) : Option (Int32 × FM) :=
  fi (fm_is M 96 96 a0 = true) (
  fi (a4 = (Int32.ofInt 1)) (
    g20 a0 (M.2.2 367 a0 0) a1 a2 M) (
    g20 a0 (M.2.2 367 a0 0) a1 (a2 ||| (Int64.ofInt (-4294967296))) M)) none
noncomputable def FX99_write_0 (a0 : Nat) (a1 : Int32) (a2 : Int64) (a4 : Int32) (M : FM) : Option (Int32 × FM) := BX99_write_0 FX99_write_20 a0 a1 a2 a4 M
noncomputable def FX99_write (a0 : Nat) (a1 : Int32) (a2 : Int64) (a4 : Int32) (M : FM) : Option (Int32 × FM) := FX99_write_0 a0 a1 a2 a4 M
/-! BoardMachineModel$Floats.added(III)J -/
noncomputable def BX99_added_74 (f2 : Nat → Int32 → Int32 → Int32 → Int32 → Int32 → FM → Option (Int64 × FM)) (a0 : Nat) (a2 : Int32) (a6 : Int32) (a7 : Int32) (a8 : Int32) (M : FM) : Option (Int64 × FM) :=
  fi (fm_is M 96 96 a0 = true) (
  let x1 : Nat := (M.2.2 376 a0 0)
  fi (fm_is M 901 901 x1 = true ∧ fm_in M x1 (Int32.ofInt 0) = true) (
  fi (fm_is M 96 96 a0 = true) (
  (f2 a0 a7 (M.1 3 x1 (Int32.ofInt 0).toNatClampNeg) a8 a6 a2 M).bind fun r2 =>
  some (r2.1, r2.2)) none) none) none
noncomputable def FX99_added_74 (n : Nat) (a0 : Nat) (a2 : Int32) (a6 : Int32) (a7 : Int32) (a8 : Int32) (M : FM) : Option (Int64 × FM) := BX99_added_74 FX99_infiniteSum a0 a2 a6 a7 a8 M
noncomputable def BX99_added_62 (f1 : Nat → Int64 → FM → Option (FM)) (f3 : Nat → Int32 → Int32 → Int32 → Int32 → Int32 → Int32 → FM → Option (Int64 × FM)) (g74 : Nat → Int32 → Int32 → Int32 → Int32 → FM → Option (Int64 × FM)) (a0 : Nat) (a2 : Int32) (a3 : Int32) (a6 : Int32) (a7 : Int32) (s0 : Int32) (M : FM) : Option (Int64 × FM) :=
  fi (a7 = 0) (
    fi (s0 = 0) (
      fi (fm_is M 96 96 a0 = true) (
      fi (fm_is M 96 96 a0 = true) (
      let x1 : Nat := (M.2.2 377 a0 0)
      fi (fm_is M 902 902 x1 = true ∧ fm_in M x1 (Int32.ofInt 0) = true) (
      (f1 (M.2.2 379 a0 0) (M.2.1 3 x1 (Int32.ofInt 0).toNatClampNeg) M).bind fun M2 =>
      fi (fm_is M2 96 96 a0 = true) (
      fi (fm_is M2 96 96 a0 = true) (
      let x3 : Nat := (M2.2.2 377 a0 0)
      fi (fm_is M2 902 902 x3 = true ∧ fm_in M2 x3 (Int32.ofInt 1) = true) (
      (f1 (M2.2.2 380 a0 0) (M2.2.1 3 x3 (Int32.ofInt 1).toNatClampNeg) M2).bind fun M4 =>
      fi (fm_is M4 96 96 a0 = true) (
      let x5 : Nat := (M4.2.2 376 a0 0)
      fi (fm_is M4 901 901 x5 = true ∧ fm_in M4 x5 (Int32.ofInt 0) = true) (
      fi (fm_is M4 96 96 a0 = true) (
      let x6 : Nat := (M4.2.2 378 a0 0)
      fi (fm_is M4 901 901 x6 = true ∧ fm_in M4 x6 (Int32.ofInt 0) = true) (
      fi (fm_is M4 96 96 a0 = true) (
      let x7 : Nat := (M4.2.2 378 a0 0)
      fi (fm_is M4 901 901 x7 = true ∧ fm_in M4 x7 (Int32.ofInt 1) = true) (
      fi (fm_is M4 96 96 a0 = true) (
      (f3 a0 (M4.1 3 x5 (Int32.ofInt 0).toNatClampNeg) (M4.1 3 x6 (Int32.ofInt 0).toNatClampNeg) a6 (M4.1 3 x7 (Int32.ofInt 1).toNatClampNeg) a2 a3 M4).bind fun r8 =>
      some (r8.1, r8.2)) none) none) none) none) none) none) none) none) none) none) none) none) none) (
      g74 a0 a2 a6 a7 s0 M)) (
    g74 a0 a2 a6 a7 s0 M)
noncomputable def FX99_added_62 (n : Nat) (a0 : Nat) (a2 : Int32) (a3 : Int32) (a6 : Int32) (a7 : Int32) (s0 : Int32) (M : FM) : Option (Int64 × FM) := BX99_added_62 (FX99_put n) (FX99_sum n) (FX99_added_74 n ) a0 a2 a3 a6 a7 s0 M
noncomputable def BX99_added_45 (g62 : Nat → Int32 → Int32 → Int32 → Int32 → Int32 → FM → Option (Int64 × FM)) (a0 : Nat) (a2 : Int32) (a3 : Int32) (a6 : Int32) (s0 : Int32) (M : FM) : Option (Int64 × FM) :=
  fi (fm_is M 96 96 a0 = true) (
  let x1 : Nat := (M.2.2 375 a0 0)
  fi (fm_is M 901 901 x1 = true ∧ fm_in M x1 (Int32.ofInt 1) = true) (
  fi ((M.1 3 x1 (Int32.ofInt 1).toNatClampNeg) = (Int32.ofInt 2)) (
    g62 a0 a2 a3 a6 s0 (Int32.ofInt 1) M) (
    g62 a0 a2 a3 a6 s0 (Int32.ofInt 0) M)) none) none
noncomputable def FX99_added_45 (n : Nat) (a0 : Nat) (a2 : Int32) (a3 : Int32) (a6 : Int32) (s0 : Int32) (M : FM) : Option (Int64 × FM) := BX99_added_45 (FX99_added_62 n ) a0 a2 a3 a6 s0 M
noncomputable def BX99_added_0 (f0 : Nat → Int32 → Int32 → FM → Option (Int64 × FM)) (g45 : Nat → Int32 → Int32 → Int32 → Int32 → FM → Option (Int64 × FM)) (a0 : Nat) (a1 : Int32) (a2 : Int32) (a3 : Int32) (M : FM) : Option (Int64 × FM) :=
  fi (fm_is M 96 96 a0 = true) (
  (f0 a0 (Int32.ofInt 2) a2 M).bind fun r1 =>
  fi ((lg_cmp r1.1 (Int64.ofInt (-1))) = 0) (
    fi (fm_is r1.2 96 96 a0 = true) (
    let x2 : Nat := (r1.2.2.2 376 a0 0)
    fi (fm_is r1.2 901 901 x2 = true ∧ fm_in r1.2 x2 (Int32.ofInt 1) = true) (
    let x3 : Int32 := ((r1.2.1 3 x2 (Int32.ofInt 1).toNatClampNeg) ^^^ a1)
    fi (fm_is r1.2 96 96 a0 = true) (
    let x4 : Nat := (r1.2.2.2 375 a0 0)
    fi (fm_is r1.2 901 901 x4 = true ∧ fm_in r1.2 x4 (Int32.ofInt 0) = true) (
    fi ((r1.2.1 3 x4 (Int32.ofInt 0).toNatClampNeg) = (Int32.ofInt 2)) (
      g45 a0 a2 a3 x3 (Int32.ofInt 1) r1.2) (
      g45 a0 a2 a3 x3 (Int32.ofInt 0) r1.2)) none) none) none) none) (
    some (r1.1, r1.2))) none
noncomputable def FX99_added_0 (n : Nat) (a0 : Nat) (a1 : Int32) (a2 : Int32) (a3 : Int32) (M : FM) : Option (Int64 × FM) := BX99_added_0 (FX99_none n) (FX99_added_45 n ) a0 a1 a2 a3 M
noncomputable def FX99_added (n : Nat) (a0 : Nat) (a1 : Int32) (a2 : Int32) (a3 : Int32) (M : FM) : Option (Int64 × FM) := FX99_added_0 n a0 a1 a2 a3 M
/-! BoardMachineModel$Floats.multiplied(II)J -/
noncomputable def BX99_multiplied_139 (s0 : Int64) (M : FM) : Option (Int64 × FM) :=
  some (s0, M)
noncomputable def FX99_multiplied_139 (n : Nat) (s0 : Int64) (M : FM) : Option (Int64 × FM) := BX99_multiplied_139 s0 M
noncomputable def BX99_multiplied_110 (f2 : Nat → Int32 → Int32 → FM → Option (Int64 × FM)) (f3 : Int32 → Int64 → Int64 → Int32 → FM → Option (Int64 × FM)) (g139 : Int64 → FM → Option (Int64 × FM)) (a0 : Nat) (a1 : Int32) (a5 : Int32) (a6 : Int32) (M : FM) : Option (Int64 × FM) :=
  fi (a6 = 0) (
    fi (fm_is M 96 96 a0 = true) (
    (f2 a0 a5 a1 M).bind fun r1 =>
    g139 r1.1 r1.2) none) (
    fi (fm_is M 96 96 a0 = true) (
    let x2 : Nat := (M.2.2 374 a0 0)
    fi (fm_is M 901 901 x2 = true ∧ fm_in M x2 a1 = true) (
    (f3 a5 ((M.1 3 x2 a1.toNatClampNeg).toInt64) (Int64.ofInt 0) a1 M).bind fun r3 =>
    g139 r3.1 r3.2) none) none)
noncomputable def FX99_multiplied_110 (n : Nat) (a0 : Nat) (a1 : Int32) (a5 : Int32) (a6 : Int32) (M : FM) : Option (Int64 × FM) := BX99_multiplied_110 FX99_zero FX99_pack (FX99_multiplied_139 n ) a0 a1 a5 a6 M
noncomputable def BX99_multiplied_100 (f4 : Nat → Int64 → Int64 → FM → Option (FM)) (f5 : Nat → Int32 → Int32 → FM → Option (Int64 × FM)) (g110 : Nat → Int32 → Int32 → Int32 → FM → Option (Int64 × FM)) (a0 : Nat) (a1 : Int32) (a2 : Int32) (a5 : Int32) (a6 : Int32) (a7 : Int32) (M : FM) : Option (Int64 × FM) :=
  fi (a6 = 0) (
    fi (a7 = 0) (
      fi (fm_is M 96 96 a0 = true) (
      fi (fm_is M 96 96 a0 = true) (
      let x1 : Nat := (M.2.2 377 a0 0)
      fi (fm_is M 902 902 x1 = true ∧ fm_in M x1 (Int32.ofInt 0) = true) (
      fi (fm_is M 96 96 a0 = true) (
      let x2 : Nat := (M.2.2 377 a0 0)
      fi (fm_is M 902 902 x2 = true ∧ fm_in M x2 (Int32.ofInt 1) = true) (
      (f4 (M.2.2 379 a0 0) (M.2.1 3 x1 (Int32.ofInt 0).toNatClampNeg) (M.2.1 3 x2 (Int32.ofInt 1).toNatClampNeg) M).bind fun M3 =>
      fi (fm_is M3 96 96 a0 = true) (
      let x4 : Nat := (M3.2.2 378 a0 0)
      fi (fm_is M3 901 901 x4 = true ∧ fm_in M3 x4 (Int32.ofInt 0) = true) (
      fi (fm_is M3 96 96 a0 = true) (
      let x5 : Nat := (M3.2.2 378 a0 0)
      fi (fm_is M3 901 901 x5 = true ∧ fm_in M3 x5 (Int32.ofInt 1) = true) (
      fi (fm_is M3 96 96 a0 = true) (
      let M6 : FM := fm_sI M3 383 a0 0 ((M3.1 3 x4 (Int32.ofInt 0).toNatClampNeg) + (M3.1 3 x5 (Int32.ofInt 1).toNatClampNeg))
      fi (fm_is M6 96 96 a0 = true) (
      let M7 : FM := fm_sI M6 382 a0 0 a5
      fi (fm_is M7 96 96 a0 = true) (
      fi ((Int32.ofInt 0) = 0 ∨ (Int32.ofInt 0) = 1) (
      let M8 : FM := fm_sI M7 381 a0 0 (Int32.ofInt 0)
      fi (fm_is M8 96 96 a0 = true) (
      (f5 a0 a1 a2 M8).bind fun r9 =>
      some (r9.1, r9.2)) none) none) none) none) none) none) none) none) none) none) none) none) none) none) (
      g110 a0 a1 a5 a6 M)) (
    g110 a0 a1 a5 a6 M)
noncomputable def FX99_multiplied_100 (n : Nat) (a0 : Nat) (a1 : Int32) (a2 : Int32) (a5 : Int32) (a6 : Int32) (a7 : Int32) (M : FM) : Option (Int64 × FM) := BX99_multiplied_100 (FX99_multiply n) (FX99_rounded n) (FX99_multiplied_110 n ) a0 a1 a2 a5 a6 a7 M
noncomputable def BX99_multiplied_82 (f1 : Nat → Int32 → FM → Option (Int64 × FM)) (g100 : Nat → Int32 → Int32 → Int32 → Int32 → Int32 → FM → Option (Int64 × FM)) (a0 : Nat) (a1 : Int32) (a2 : Int32) (a5 : Int32) (a6 : Int32) (s0 : Int32) (M : FM) : Option (Int64 × FM) :=
  fi (a6 = 0) (
    g100 a0 a1 a2 a5 a6 s0 M) (
    fi (s0 = 0) (
      g100 a0 a1 a2 a5 a6 s0 M) (
      fi (fm_is M 96 96 a0 = true) (
      (f1 a0 a1 M).bind fun r1 =>
      some (r1.1, r1.2)) none))
noncomputable def FX99_multiplied_82 (n : Nat) (a0 : Nat) (a1 : Int32) (a2 : Int32) (a5 : Int32) (a6 : Int32) (s0 : Int32) (M : FM) : Option (Int64 × FM) := BX99_multiplied_82 FX99_invalid (FX99_multiplied_100 n ) a0 a1 a2 a5 a6 s0 M
noncomputable def BX99_multiplied_77 (g82 : Nat → Int32 → Int32 → Int32 → Int32 → Int32 → FM → Option (Int64 × FM)) (a0 : Nat) (a1 : Int32) (a2 : Int32) (a5 : Int32) (a6 : Int32) (M : FM) : Option (Int64 × FM) :=
  g82 a0 a1 a2 a5 a6 (Int32.ofInt 1) M
noncomputable def FX99_multiplied_77 (n : Nat) (a0 : Nat) (a1 : Int32) (a2 : Int32) (a5 : Int32) (a6 : Int32) (M : FM) : Option (Int64 × FM) := BX99_multiplied_77 (FX99_multiplied_82 n ) a0 a1 a2 a5 a6 M
noncomputable def BX99_multiplied_57 (g77 : Nat → Int32 → Int32 → Int32 → Int32 → FM → Option (Int64 × FM)) (g82 : Nat → Int32 → Int32 → Int32 → Int32 → Int32 → FM → Option (Int64 × FM)) (a0 : Nat) (a1 : Int32) (a2 : Int32) (a5 : Int32) (s0 : Int32) (M : FM) : Option (Int64 × FM) :=
  fi (fm_is M 96 96 a0 = true) (
  let x1 : Nat := (M.2.2 375 a0 0)
  fi (fm_is M 901 901 x1 = true ∧ fm_in M x1 (Int32.ofInt 0) = true) (
  fi ((M.1 3 x1 (Int32.ofInt 0).toNatClampNeg) = 0) (
    g77 a0 a1 a2 a5 s0 M) (
    fi (fm_is M 96 96 a0 = true) (
    let x2 : Nat := (M.2.2 375 a0 0)
    fi (fm_is M 901 901 x2 = true ∧ fm_in M x2 (Int32.ofInt 1) = true) (
    fi ((M.1 3 x2 (Int32.ofInt 1).toNatClampNeg) = 0) (
      g77 a0 a1 a2 a5 s0 M) (
      g82 a0 a1 a2 a5 s0 (Int32.ofInt 0) M)) none) none)) none) none
noncomputable def FX99_multiplied_57 (n : Nat) (a0 : Nat) (a1 : Int32) (a2 : Int32) (a5 : Int32) (s0 : Int32) (M : FM) : Option (Int64 × FM) := BX99_multiplied_57 (FX99_multiplied_77 n ) (FX99_multiplied_82 n ) a0 a1 a2 a5 s0 M
noncomputable def BX99_multiplied_52 (g57 : Nat → Int32 → Int32 → Int32 → Int32 → FM → Option (Int64 × FM)) (a0 : Nat) (a1 : Int32) (a2 : Int32) (a5 : Int32) (M : FM) : Option (Int64 × FM) :=
  g57 a0 a1 a2 a5 (Int32.ofInt 1) M
noncomputable def FX99_multiplied_52 (n : Nat) (a0 : Nat) (a1 : Int32) (a2 : Int32) (a5 : Int32) (M : FM) : Option (Int64 × FM) := BX99_multiplied_52 (FX99_multiplied_57 n ) a0 a1 a2 a5 M
noncomputable def BX99_multiplied_0 (f0 : Nat → Int32 → Int32 → FM → Option (Int64 × FM)) (g52 : Nat → Int32 → Int32 → Int32 → FM → Option (Int64 × FM)) (g57 : Nat → Int32 → Int32 → Int32 → Int32 → FM → Option (Int64 × FM)) (a0 : Nat) (a1 : Int32) (a2 : Int32) (M : FM) : Option (Int64 × FM) :=
  fi (fm_is M 96 96 a0 = true) (
  (f0 a0 (Int32.ofInt 2) a1 M).bind fun r1 =>
  fi ((lg_cmp r1.1 (Int64.ofInt (-1))) = 0) (
    fi (fm_is r1.2 96 96 a0 = true) (
    let x2 : Nat := (r1.2.2.2 376 a0 0)
    fi (fm_is r1.2 901 901 x2 = true ∧ fm_in r1.2 x2 (Int32.ofInt 0) = true) (
    fi (fm_is r1.2 96 96 a0 = true) (
    let x3 : Nat := (r1.2.2.2 376 a0 0)
    fi (fm_is r1.2 901 901 x3 = true ∧ fm_in r1.2 x3 (Int32.ofInt 1) = true) (
    let x4 : Int32 := ((r1.2.1 3 x2 (Int32.ofInt 0).toNatClampNeg) ^^^ (r1.2.1 3 x3 (Int32.ofInt 1).toNatClampNeg))
    fi (fm_is r1.2 96 96 a0 = true) (
    let x5 : Nat := (r1.2.2.2 375 a0 0)
    fi (fm_is r1.2 901 901 x5 = true ∧ fm_in r1.2 x5 (Int32.ofInt 0) = true) (
    fi ((r1.2.1 3 x5 (Int32.ofInt 0).toNatClampNeg) = (Int32.ofInt 2)) (
      g52 a0 a1 a2 x4 r1.2) (
      fi (fm_is r1.2 96 96 a0 = true) (
      let x6 : Nat := (r1.2.2.2 375 a0 0)
      fi (fm_is r1.2 901 901 x6 = true ∧ fm_in r1.2 x6 (Int32.ofInt 1) = true) (
      fi ((r1.2.1 3 x6 (Int32.ofInt 1).toNatClampNeg) = (Int32.ofInt 2)) (
        g52 a0 a1 a2 x4 r1.2) (
        g57 a0 a1 a2 x4 (Int32.ofInt 0) r1.2)) none) none)) none) none) none) none) none) none) (
    some (r1.1, r1.2))) none
noncomputable def FX99_multiplied_0 (n : Nat) (a0 : Nat) (a1 : Int32) (a2 : Int32) (M : FM) : Option (Int64 × FM) := BX99_multiplied_0 (FX99_none n) (FX99_multiplied_52 n ) (FX99_multiplied_57 n ) a0 a1 a2 M
noncomputable def FX99_multiplied (n : Nat) (a0 : Nat) (a1 : Int32) (a2 : Int32) (M : FM) : Option (Int64 × FM) := FX99_multiplied_0 n a0 a1 a2 M
/-! BoardMachineModel$Floats.divided(II)J -/
noncomputable def BX99_divided_279 (f8 : Nat → Int32 → Int32 → FM → Option (Int64 × FM)) (a0 : Nat) (a1 : Int32) (a2 : Int32) (a5 : Int32) (s0 : Nat) (s1 : Int32) (M : FM) : Option (Int64 × FM) :=
  fi (fm_is M 96 96 s0 = true) (
  fi (s1 = 0 ∨ s1 = 1) (
  let M1 : FM := fm_sI M 381 s0 0 s1
  fi (fm_is M1 96 96 a0 = true) (
  let M2 : FM := fm_sI M1 382 a0 0 a5
  fi (fm_is M2 96 96 a0 = true) (
  let x3 : Nat := (M2.2.2 378 a0 0)
  fi (fm_is M2 901 901 x3 = true ∧ fm_in M2 x3 (Int32.ofInt 0) = true) (
  fi (fm_is M2 96 96 a0 = true) (
  let x4 : Nat := (M2.2.2 378 a0 0)
  fi (fm_is M2 901 901 x4 = true ∧ fm_in M2 x4 (Int32.ofInt 1) = true) (
  fi (fm_is M2 96 96 a0 = true) (
  let M5 : FM := fm_sI M2 383 a0 0 (((M2.1 3 x3 (Int32.ofInt 0).toNatClampNeg) - (Int32.ofInt 120)) - (M2.1 3 x4 (Int32.ofInt 1).toNatClampNeg))
  fi (fm_is M5 96 96 a0 = true) (
  (f8 a0 a1 a2 M5).bind fun r6 =>
  some (r6.1, r6.2)) none) none) none) none) none) none) none) none) none
noncomputable def FX99_divided_279 (n : Nat) (k178 : Nat → Int32 → Int32 → Int32 → Int64 → Int32 → FM → Option (Int64 × FM)) (a0 : Nat) (a1 : Int32) (a2 : Int32) (a5 : Int32) (s0 : Nat) (s1 : Int32) (M : FM) : Option (Int64 × FM) := BX99_divided_279 (FX99_rounded n) a0 a1 a2 a5 s0 s1 M
noncomputable def BX99_divided_260 (k178 : Nat → Int32 → Int32 → Int32 → Int64 → Int32 → FM → Option (Int64 × FM)) (a0 : Nat) (a1 : Int32) (a2 : Int32) (a5 : Int32) (a6 : Int64) (a8 : Int32) (M : FM) : Option (Int64 × FM) :=
  let x1 : Int32 := a8 + (Int32.ofInt (-1))
  k178 a0 a1 a2 a5 a6 x1 M
noncomputable def FX99_divided_260 (n : Nat) (k178 : Nat → Int32 → Int32 → Int32 → Int64 → Int32 → FM → Option (Int64 × FM)) (a0 : Nat) (a1 : Int32) (a2 : Int32) (a5 : Int32) (a6 : Int64) (a8 : Int32) (M : FM) : Option (Int64 × FM) := BX99_divided_260 k178 a0 a1 a2 a5 a6 a8 M
noncomputable def BX99_divided_206 (g260 : Nat → Int32 → Int32 → Int32 → Int64 → Int32 → FM → Option (Int64 × FM)) (a0 : Nat) (a1 : Int32) (a2 : Int32) (a5 : Int32) (a8 : Int32) (s0 : Int64) (s1 : Int64) (M : FM) : Option (Int64 × FM) :=
  let x1 : Int64 := (s0 + s1)
  fi (fm_is M 96 96 a0 = true) (
  let x2 : Nat := (M.2.2 377 a0 0)
  fi (fm_is M 902 902 x2 = true ∧ fm_in M x2 (Int32.ofInt 1) = true) (
  fi ((lg_cmp x1 (M.2.1 3 x2 (Int32.ofInt 1).toNatClampNeg)) < 0) (
    g260 a0 a1 a2 a5 x1 a8 M) (
    fi (fm_is M 96 96 a0 = true) (
    let x3 : Nat := (M.2.2 377 a0 0)
    fi (fm_is M 902 902 x3 = true ∧ fm_in M x3 (Int32.ofInt 1) = true) (
    let x4 : Int64 := (x1 - (M.2.1 3 x3 (Int32.ofInt 1).toNatClampNeg))
    fi (fm_is M 96 96 a0 = true) (
    fi ((Int32.ofInt 16) = 0) none (
    fi (fm_is M 96 96 a0 = true) (
    fi ((Int32.ofInt 16) = 0) none (
    let x5 : Int32 := (a8 / (Int32.ofInt 16))
    let x6 : Nat := (M.2.2 379 a0 0)
    fi (fm_is M 901 901 x6 = true ∧ fm_in M x6 x5 = true) (
    fi ((Int32.ofInt 16) = 0) none (
    let x7 : Int32 := (a8 / (Int32.ofInt 16))
    let x8 : Nat := (M.2.2 379 a0 0)
    fi (fm_is M 901 901 x8 = true ∧ fm_in M x8 x7 = true) (
    let M9 : FM := fm_sI M 3 x8 x7.toNatClampNeg ((M.1 3 x6 x5.toNatClampNeg) ||| ((Int32.ofInt 1) <<< ((a8 - a8 / (Int32.ofInt 16) * (Int32.ofInt 16)) &&& 31)))
    g260 a0 a1 a2 a5 x4 a8 M9) none)) none)) none)) none) none) none)) none) none
noncomputable def FX99_divided_206 (n : Nat) (k178 : Nat → Int32 → Int32 → Int32 → Int64 → Int32 → FM → Option (Int64 × FM)) (a0 : Nat) (a1 : Int32) (a2 : Int32) (a5 : Int32) (a8 : Int32) (s0 : Int64) (s1 : Int64) (M : FM) : Option (Int64 × FM) := BX99_divided_206 (FX99_divided_260 n k178) a0 a1 a2 a5 a8 s0 s1 M
noncomputable def BX99_divided_178 (f7 : Nat → Int32 → FM → Option (Int32 × FM)) (g206 : Nat → Int32 → Int32 → Int32 → Int32 → Int64 → Int64 → FM → Option (Int64 × FM)) (g279 : Nat → Int32 → Int32 → Int32 → Nat → Int32 → FM → Option (Int64 × FM)) (a0 : Nat) (a1 : Int32) (a2 : Int32) (a5 : Int32) (a6 : Int64) (a8 : Int32) (M : FM) : Option (Int64 × FM) :=
  fi (a8 < 0) (
    fi ((lg_cmp a6 (Int64.ofInt 0)) ≤ 0) (
      g279 a0 a1 a2 a5 a0 (Int32.ofInt 0) M) (
      g279 a0 a1 a2 a5 a0 (Int32.ofInt 1) M)) (
    fi (fm_is M 96 96 a0 = true) (
    (f7 (M.2.2 380 a0 0) a8 M).bind fun r1 =>
    fi (r1.1 = 0) (
      g206 a0 a1 a2 a5 a8 ((Int64.ofInt 2) * a6) (Int64.ofInt 0) r1.2) (
      g206 a0 a1 a2 a5 a8 ((Int64.ofInt 2) * a6) (Int64.ofInt 1) r1.2)) none)
noncomputable def FX99_divided_178 (n : Nat) (k178 : Nat → Int32 → Int32 → Int32 → Int64 → Int32 → FM → Option (Int64 × FM)) (a0 : Nat) (a1 : Int32) (a2 : Int32) (a5 : Int32) (a6 : Int64) (a8 : Int32) (M : FM) : Option (Int64 × FM) := BX99_divided_178 FX99_bit (FX99_divided_206 n k178) (FX99_divided_279 n k178) a0 a1 a2 a5 a6 a8 M
noncomputable def BX99_divided_132 (f3 : Nat → Int32 → Int32 → FM → Option (Int64 × FM)) (a0 : Nat) (a1 : Int32) (a5 : Int32) (M : FM) : Option (Int64 × FM) :=
  fi (fm_is M 96 96 a0 = true) (
  (f3 a0 a5 a1 M).bind fun r1 =>
  some (r1.1, r1.2)) none
noncomputable def FX99_divided_132 (n : Nat) (k178 : Nat → Int32 → Int32 → Int32 → Int64 → Int32 → FM → Option (Int64 × FM)) (a0 : Nat) (a1 : Int32) (a5 : Int32) (M : FM) : Option (Int64 × FM) := BX99_divided_132 FX99_zero a0 a1 a5 M
noncomputable def BX99_divided_98 (f4 : Int32 → Int64 → Int64 → Int32 → FM → Option (Int64 × FM)) (a0 : Nat) (a1 : Int32) (a5 : Int32) (M : FM) : Option (Int64 × FM) :=
  fi (fm_is M 96 96 a0 = true) (
  let x1 : Nat := (M.2.2 374 a0 0)
  fi (fm_is M 901 901 x1 = true ∧ fm_in M x1 a1 = true) (
  (f4 a5 ((M.1 3 x1 a1.toNatClampNeg).toInt64) (Int64.ofInt 0) a1 M).bind fun r2 =>
  some (r2.1, r2.2)) none) none
noncomputable def FX99_divided_98 (n : Nat) (k178 : Nat → Int32 → Int32 → Int32 → Int64 → Int32 → FM → Option (Int64 × FM)) (a0 : Nat) (a1 : Int32) (a5 : Int32) (M : FM) : Option (Int64 × FM) := BX99_divided_98 FX99_pack a0 a1 a5 M
noncomputable def BX99_divided_82 (f2 : Nat → Int32 → FM → Option (FM)) (g98 : Nat → Int32 → Int32 → FM → Option (Int64 × FM)) (a0 : Nat) (a1 : Int32) (a5 : Int32) (M : FM) : Option (Int64 × FM) :=
  fi (fm_is M 96 96 a0 = true) (
  let x1 : Nat := (M.2.2 375 a0 0)
  fi (fm_is M 901 901 x1 = true ∧ fm_in M x1 (Int32.ofInt 0) = true) (
  fi ((M.1 3 x1 (Int32.ofInt 0).toNatClampNeg) = (Int32.ofInt 2)) (
    g98 a0 a1 a5 M) (
    fi (fm_is M 96 96 a0 = true) (
    (f2 a0 (Int32.ofInt 8) M).bind fun M2 =>
    g98 a0 a1 a5 M2) none)) none) none
noncomputable def FX99_divided_82 (n : Nat) (k178 : Nat → Int32 → Int32 → Int32 → Int64 → Int32 → FM → Option (Int64 × FM)) (a0 : Nat) (a1 : Int32) (a5 : Int32) (M : FM) : Option (Int64 × FM) := BX99_divided_82 FX99_raiseFlags (FX99_divided_98 n k178) a0 a1 a5 M
noncomputable def BX99_divided_63 (f5 : Nat → Int64 → FM → Option (FM)) (f6 : Nat → Int32 → FM → Option (FM)) (g82 : Nat → Int32 → Int32 → FM → Option (Int64 × FM)) (g132 : Nat → Int32 → Int32 → FM → Option (Int64 × FM)) (k178 : Nat → Int32 → Int32 → Int32 → Int64 → Int32 → FM → Option (Int64 × FM)) (a0 : Nat) (a1 : Int32) (a2 : Int32) (a5 : Int32) (M : FM) : Option (Int64 × FM) :=
  fi (fm_is M 96 96 a0 = true) (
  let x1 : Nat := (M.2.2 375 a0 0)
  fi (fm_is M 901 901 x1 = true ∧ fm_in M x1 (Int32.ofInt 0) = true) (
  fi ((M.1 3 x1 (Int32.ofInt 0).toNatClampNeg) = (Int32.ofInt 2)) (
    g82 a0 a1 a5 M) (
    fi (fm_is M 96 96 a0 = true) (
    let x2 : Nat := (M.2.2 375 a0 0)
    fi (fm_is M 901 901 x2 = true ∧ fm_in M x2 (Int32.ofInt 1) = true) (
    fi ((M.1 3 x2 (Int32.ofInt 1).toNatClampNeg) = 0) (
      g82 a0 a1 a5 M) (
      fi (fm_is M 96 96 a0 = true) (
      let x3 : Nat := (M.2.2 375 a0 0)
      fi (fm_is M 901 901 x3 = true ∧ fm_in M x3 (Int32.ofInt 0) = true) (
      fi ((M.1 3 x3 (Int32.ofInt 0).toNatClampNeg) = 0) (
        g132 a0 a1 a5 M) (
        fi (fm_is M 96 96 a0 = true) (
        let x4 : Nat := (M.2.2 375 a0 0)
        fi (fm_is M 901 901 x4 = true ∧ fm_in M x4 (Int32.ofInt 1) = true) (
        fi ((M.1 3 x4 (Int32.ofInt 1).toNatClampNeg) = (Int32.ofInt 2)) (
          g132 a0 a1 a5 M) (
          fi (fm_is M 96 96 a0 = true) (
          fi (fm_is M 96 96 a0 = true) (
          let x5 : Nat := (M.2.2 377 a0 0)
          fi (fm_is M 902 902 x5 = true ∧ fm_in M x5 (Int32.ofInt 0) = true) (
          (f5 (M.2.2 380 a0 0) (M.2.1 3 x5 (Int32.ofInt 0).toNatClampNeg) M).bind fun M6 =>
          fi (fm_is M6 96 96 a0 = true) (
          (f6 (M6.2.2 380 a0 0) (Int32.ofInt 120) M6).bind fun M7 =>
          fi (fm_is M7 96 96 a0 = true) (
          (f5 (M7.2.2 379 a0 0) (Int64.ofInt 0) M7).bind fun M8 =>
          k178 a0 a1 a2 a5 (Int64.ofInt 0) (Int32.ofInt 175) M8) none) none) none) none) none)) none) none)) none) none)) none) none)) none) none
noncomputable def FX99_divided_63 (n : Nat) (k178 : Nat → Int32 → Int32 → Int32 → Int64 → Int32 → FM → Option (Int64 × FM)) (a0 : Nat) (a1 : Int32) (a2 : Int32) (a5 : Int32) (M : FM) : Option (Int64 × FM) := BX99_divided_63 (FX99_put n) (FX99_raise n) (FX99_divided_82 n k178) (FX99_divided_132 n k178) k178 a0 a1 a2 a5 M
noncomputable def BX99_divided_0 (f0 : Nat → Int32 → Int32 → FM → Option (Int64 × FM)) (f1 : Nat → Int32 → FM → Option (Int64 × FM)) (g63 : Nat → Int32 → Int32 → Int32 → FM → Option (Int64 × FM)) (a0 : Nat) (a1 : Int32) (a2 : Int32) (M : FM) : Option (Int64 × FM) :=
  fi (fm_is M 96 96 a0 = true) (
  (f0 a0 (Int32.ofInt 2) a1 M).bind fun r1 =>
  fi ((lg_cmp r1.1 (Int64.ofInt (-1))) = 0) (
    fi (fm_is r1.2 96 96 a0 = true) (
    let x2 : Nat := (r1.2.2.2 376 a0 0)
    fi (fm_is r1.2 901 901 x2 = true ∧ fm_in r1.2 x2 (Int32.ofInt 0) = true) (
    fi (fm_is r1.2 96 96 a0 = true) (
    let x3 : Nat := (r1.2.2.2 376 a0 0)
    fi (fm_is r1.2 901 901 x3 = true ∧ fm_in r1.2 x3 (Int32.ofInt 1) = true) (
    let x4 : Int32 := ((r1.2.1 3 x2 (Int32.ofInt 0).toNatClampNeg) ^^^ (r1.2.1 3 x3 (Int32.ofInt 1).toNatClampNeg))
    fi (fm_is r1.2 96 96 a0 = true) (
    let x5 : Nat := (r1.2.2.2 375 a0 0)
    fi (fm_is r1.2 901 901 x5 = true ∧ fm_in r1.2 x5 (Int32.ofInt 0) = true) (
    fi (fm_is r1.2 96 96 a0 = true) (
    let x6 : Nat := (r1.2.2.2 375 a0 0)
    fi (fm_is r1.2 901 901 x6 = true ∧ fm_in r1.2 x6 (Int32.ofInt 1) = true) (
    fi ((r1.2.1 3 x5 (Int32.ofInt 0).toNatClampNeg) = (r1.2.1 3 x6 (Int32.ofInt 1).toNatClampNeg)) (
      fi (fm_is r1.2 96 96 a0 = true) (
      let x7 : Nat := (r1.2.2.2 375 a0 0)
      fi (fm_is r1.2 901 901 x7 = true ∧ fm_in r1.2 x7 (Int32.ofInt 0) = true) (
      fi ((r1.2.1 3 x7 (Int32.ofInt 0).toNatClampNeg) = (Int32.ofInt 1)) (
        g63 a0 a1 a2 x4 r1.2) (
        fi (fm_is r1.2 96 96 a0 = true) (
        (f1 a0 a1 r1.2).bind fun r8 =>
        some (r8.1, r8.2)) none)) none) none) (
      g63 a0 a1 a2 x4 r1.2)) none) none) none) none) none) none) none) none) (
    some (r1.1, r1.2))) none
noncomputable def FX99_divided_0 (n : Nat) (k178 : Nat → Int32 → Int32 → Int32 → Int64 → Int32 → FM → Option (Int64 × FM)) (a0 : Nat) (a1 : Int32) (a2 : Int32) (M : FM) : Option (Int64 × FM) := BX99_divided_0 (FX99_none n) FX99_invalid (FX99_divided_63 n k178) a0 a1 a2 M
noncomputable def FX99_divided_L178 (n : Nat) : Nat → Nat → Int32 → Int32 → Int32 → Int64 → Int32 → FM → Option (Int64 × FM)
  | 0 => fun _ _ _ _ _ _ _ => none
  | j + 1 => FX99_divided_178 n (FX99_divided_L178 n j)
noncomputable def FX99_divided (n : Nat) (a0 : Nat) (a1 : Int32) (a2 : Int32) (M : FM) : Option (Int64 × FM) := FX99_divided_0 n (FX99_divided_L178 n n) a0 a1 a2 M
/-! BoardMachineModel$Floats.root(II)J -/
noncomputable def BX99_root_309 (f8 : Nat → Int32 → Int32 → FM → Option (Int64 × FM)) (a0 : Nat) (a1 : Int32) (a2 : Int32) (a5 : Int32) (s0 : Nat) (s1 : Int32) (M : FM) : Option (Int64 × FM) :=
  fi (fm_is M 96 96 s0 = true) (
  fi (s1 = 0 ∨ s1 = 1) (
  let M1 : FM := fm_sI M 381 s0 0 s1
  fi (fm_is M1 96 96 a0 = true) (
  let M2 : FM := fm_sI M1 382 a0 0 (Int32.ofInt 0)
  fi (fm_is M2 96 96 a0 = true) (
  let x3 : Nat := (M2.2.2 378 a0 0)
  fi (fm_is M2 901 901 x3 = true ∧ fm_in M2 x3 (Int32.ofInt 0) = true) (
  fi ((Int32.ofInt 2) = 0) none (
  fi (fm_is M2 96 96 a0 = true) (
  let M4 : FM := fm_sI M2 383 a0 0 (((M2.1 3 x3 (Int32.ofInt 0).toNatClampNeg) - a5) / (Int32.ofInt 2))
  fi (fm_is M4 96 96 a0 = true) (
  (f8 a0 a1 a2 M4).bind fun r5 =>
  some (r5.1, r5.2)) none) none)) none) none) none) none) none
noncomputable def FX99_root_309 (n : Nat) (k167 : Nat → Int32 → Int32 → Int32 → Int64 → Int64 → Int32 → FM → Option (Int64 × FM)) (a0 : Nat) (a1 : Int32) (a2 : Int32) (a5 : Int32) (s0 : Nat) (s1 : Int32) (M : FM) : Option (Int64 × FM) := BX99_root_309 (FX99_rounded n) a0 a1 a2 a5 s0 s1 M
noncomputable def BX99_root_278 (k167 : Nat → Int32 → Int32 → Int32 → Int64 → Int64 → Int32 → FM → Option (Int64 × FM)) (a0 : Nat) (a1 : Int32) (a2 : Int32) (a5 : Int32) (a8 : Int64) (a10 : Int32) (s0 : Int64) (s1 : Int64) (M : FM) : Option (Int64 × FM) :=
  let x1 : Int64 := (s0 + s1)
  let x2 : Int32 := a10 + (Int32.ofInt (-2))
  k167 a0 a1 a2 a5 x1 a8 x2 M
noncomputable def FX99_root_278 (n : Nat) (k167 : Nat → Int32 → Int32 → Int32 → Int64 → Int64 → Int32 → FM → Option (Int64 × FM)) (a0 : Nat) (a1 : Int32) (a2 : Int32) (a5 : Int32) (a8 : Int64) (a10 : Int32) (s0 : Int64) (s1 : Int64) (M : FM) : Option (Int64 × FM) := BX99_root_278 k167 a0 a1 a2 a5 a8 a10 s0 s1 M
noncomputable def BX99_root_260 (g278 : Nat → Int32 → Int32 → Int32 → Int64 → Int32 → Int64 → Int64 → FM → Option (Int64 × FM)) (a0 : Nat) (a1 : Int32) (a2 : Int32) (a5 : Int32) (a6 : Int64) (a10 : Int32) (a13 : Int32) (s0 : Int64) (M : FM) : Option (Int64 × FM) :=
  fi (a13 = 0) (
    g278 a0 a1 a2 a5 s0 a10 ((Int64.ofInt 2) * a6) (Int64.ofInt 0) M) (
    g278 a0 a1 a2 a5 s0 a10 ((Int64.ofInt 2) * a6) (Int64.ofInt 1) M)
noncomputable def FX99_root_260 (n : Nat) (k167 : Nat → Int32 → Int32 → Int32 → Int64 → Int64 → Int32 → FM → Option (Int64 × FM)) (a0 : Nat) (a1 : Int32) (a2 : Int32) (a5 : Int32) (a6 : Int64) (a10 : Int32) (a13 : Int32) (s0 : Int64) (M : FM) : Option (Int64 × FM) := BX99_root_260 (FX99_root_278 n k167) a0 a1 a2 a5 a6 a10 a13 s0 M
noncomputable def BX99_root_243 (g260 : Nat → Int32 → Int32 → Int32 → Int64 → Int32 → Int32 → Int64 → FM → Option (Int64 × FM)) (a0 : Nat) (a1 : Int32) (a2 : Int32) (a5 : Int32) (a6 : Int64) (a8 : Int64) (a10 : Int32) (a11 : Int64) (s0 : Int32) (M : FM) : Option (Int64 × FM) :=
  fi (s0 = 0) (
    g260 a0 a1 a2 a5 a6 a10 s0 a8 M) (
    g260 a0 a1 a2 a5 a6 a10 s0 (a8 - a11) M)
noncomputable def FX99_root_243 (n : Nat) (k167 : Nat → Int32 → Int32 → Int32 → Int64 → Int64 → Int32 → FM → Option (Int64 × FM)) (a0 : Nat) (a1 : Int32) (a2 : Int32) (a5 : Int32) (a6 : Int64) (a8 : Int64) (a10 : Int32) (a11 : Int64) (s0 : Int32) (M : FM) : Option (Int64 × FM) := BX99_root_243 (FX99_root_260 n k167) a0 a1 a2 a5 a6 a8 a10 a11 s0 M
noncomputable def BX99_root_217 (g243 : Nat → Int32 → Int32 → Int32 → Int64 → Int64 → Int32 → Int64 → Int32 → FM → Option (Int64 × FM)) (a0 : Nat) (a1 : Int32) (a2 : Int32) (a5 : Int32) (a6 : Int64) (a10 : Int32) (s0 : Int64) (s1 : Int64) (M : FM) : Option (Int64 × FM) :=
  let x1 : Int64 := (s0 + s1)
  let x2 : Int64 := (((Int64.ofInt 4) * a6) + (Int64.ofInt 1))
  fi ((lg_cmp x1 x2) < 0) (
    g243 a0 a1 a2 a5 a6 x1 a10 x2 (Int32.ofInt 0) M) (
    g243 a0 a1 a2 a5 a6 x1 a10 x2 (Int32.ofInt 1) M)
noncomputable def FX99_root_217 (n : Nat) (k167 : Nat → Int32 → Int32 → Int32 → Int64 → Int64 → Int32 → FM → Option (Int64 × FM)) (a0 : Nat) (a1 : Int32) (a2 : Int32) (a5 : Int32) (a6 : Int64) (a10 : Int32) (s0 : Int64) (s1 : Int64) (M : FM) : Option (Int64 × FM) := BX99_root_217 (FX99_root_243 n k167) a0 a1 a2 a5 a6 a10 s0 s1 M
noncomputable def BX99_root_199 (f7 : Nat → Int32 → FM → Option (Int32 × FM)) (g217 : Nat → Int32 → Int32 → Int32 → Int64 → Int32 → Int64 → Int64 → FM → Option (Int64 × FM)) (a0 : Nat) (a1 : Int32) (a2 : Int32) (a5 : Int32) (a6 : Int64) (a10 : Int32) (s0 : Int64) (s1 : Int64) (M : FM) : Option (Int64 × FM) :=
  fi (fm_is M 96 96 a0 = true) (
  (f7 (M.2.2 380 a0 0) a10 M).bind fun r1 =>
  fi (r1.1 = 0) (
    g217 a0 a1 a2 a5 a6 a10 (s0 + s1) (Int64.ofInt 0) r1.2) (
    g217 a0 a1 a2 a5 a6 a10 (s0 + s1) (Int64.ofInt 1) r1.2)) none
noncomputable def FX99_root_199 (n : Nat) (k167 : Nat → Int32 → Int32 → Int32 → Int64 → Int64 → Int32 → FM → Option (Int64 × FM)) (a0 : Nat) (a1 : Int32) (a2 : Int32) (a5 : Int32) (a6 : Int64) (a10 : Int32) (s0 : Int64) (s1 : Int64) (M : FM) : Option (Int64 × FM) := BX99_root_199 FX99_bit (FX99_root_217 n k167) a0 a1 a2 a5 a6 a10 s0 s1 M
noncomputable def BX99_root_167 (f4 : Nat → Int64 → FM → Option (FM)) (f7 : Nat → Int32 → FM → Option (Int32 × FM)) (g199 : Nat → Int32 → Int32 → Int32 → Int64 → Int32 → Int64 → Int64 → FM → Option (Int64 × FM)) (g309 : Nat → Int32 → Int32 → Int32 → Nat → Int32 → FM → Option (Int64 × FM)) (a0 : Nat) (a1 : Int32) (a2 : Int32) (a5 : Int32) (a6 : Int64) (a8 : Int64) (a10 : Int32) (M : FM) : Option (Int64 × FM) :=
  fi (a10 < 0) (
    fi (fm_is M 96 96 a0 = true) (
    (f4 (M.2.2 379 a0 0) a6 M).bind fun M1 =>
    fi ((lg_cmp a8 (Int64.ofInt 0)) ≤ 0) (
      g309 a0 a1 a2 a5 a0 (Int32.ofInt 0) M1) (
      g309 a0 a1 a2 a5 a0 (Int32.ofInt 1) M1)) none) (
    fi (fm_is M 96 96 a0 = true) (
    (f7 (M.2.2 380 a0 0) (a10 + (Int32.ofInt 1)) M).bind fun r2 =>
    fi (r2.1 = 0) (
      g199 a0 a1 a2 a5 a6 a10 ((Int64.ofInt 4) * a8) (Int64.ofInt 0) r2.2) (
      g199 a0 a1 a2 a5 a6 a10 ((Int64.ofInt 4) * a8) (Int64.ofInt 2) r2.2)) none)
noncomputable def FX99_root_167 (n : Nat) (k167 : Nat → Int32 → Int32 → Int32 → Int64 → Int64 → Int32 → FM → Option (Int64 × FM)) (a0 : Nat) (a1 : Int32) (a2 : Int32) (a5 : Int32) (a6 : Int64) (a8 : Int64) (a10 : Int32) (M : FM) : Option (Int64 × FM) := BX99_root_167 (FX99_put n) FX99_bit (FX99_root_199 n k167) (FX99_root_309 n k167) a0 a1 a2 a5 a6 a8 a10 M
noncomputable def BX99_root_146 (f6 : Nat → Int32 → FM → Option (FM)) (k167 : Nat → Int32 → Int32 → Int32 → Int64 → Int64 → Int32 → FM → Option (Int64 × FM)) (a0 : Nat) (a1 : Int32) (a2 : Int32) (s0 : Int32) (M : FM) : Option (Int64 × FM) :=
  fi (fm_is M 96 96 a0 = true) (
  (f6 (M.2.2 380 a0 0) s0 M).bind fun M1 =>
  k167 a0 a1 a2 s0 (Int64.ofInt 0) (Int64.ofInt 0) (Int32.ofInt 116) M1) none
noncomputable def FX99_root_146 (n : Nat) (k167 : Nat → Int32 → Int32 → Int32 → Int64 → Int64 → Int32 → FM → Option (Int64 × FM)) (a0 : Nat) (a1 : Int32) (a2 : Int32) (s0 : Int32) (M : FM) : Option (Int64 × FM) := BX99_root_146 (FX99_raise n) k167 a0 a1 a2 s0 M
noncomputable def BX99_root_82 (f3 : Nat → Int32 → FM → Option (Int64 × FM)) (f4 : Nat → Int64 → FM → Option (FM)) (f5 : Nat → FM → Option (Int32 × FM)) (g146 : Nat → Int32 → Int32 → Int32 → FM → Option (Int64 × FM)) (a0 : Nat) (a1 : Int32) (a2 : Int32) (M : FM) : Option (Int64 × FM) :=
  fi (fm_is M 96 96 a0 = true) (
  let x1 : Nat := (M.2.2 376 a0 0)
  fi (fm_is M 901 901 x1 = true ∧ fm_in M x1 (Int32.ofInt 0) = true) (
  fi ((M.1 3 x1 (Int32.ofInt 0).toNatClampNeg) = (Int32.ofInt 1)) (
    fi (fm_is M 96 96 a0 = true) (
    (f3 a0 a1 M).bind fun r2 =>
    some (r2.1, r2.2)) none) (
    fi (fm_is M 96 96 a0 = true) (
    fi (fm_is M 96 96 a0 = true) (
    let x3 : Nat := (M.2.2 377 a0 0)
    fi (fm_is M 902 902 x3 = true ∧ fm_in M x3 (Int32.ofInt 0) = true) (
    (f4 (M.2.2 380 a0 0) (M.2.1 3 x3 (Int32.ofInt 0).toNatClampNeg) M).bind fun M4 =>
    fi (fm_is M4 96 96 a0 = true) (
    (f5 (M4.2.2 380 a0 0) M4).bind fun r5 =>
    let x6 : Int32 := ((Int32.ofInt 116) - r5.1)
    fi (fm_is r5.2 96 96 a0 = true) (
    let x7 : Nat := (r5.2.2.2 378 a0 0)
    fi (fm_is r5.2 901 901 x7 = true ∧ fm_in r5.2 x7 (Int32.ofInt 0) = true) (
    let x8 : Int32 := ((r5.2.1 3 x7 (Int32.ofInt 0).toNatClampNeg) - x6)
    fi ((Int32.ofInt 2) = 0) none (
    fi ((x8 - x8 / (Int32.ofInt 2) * (Int32.ofInt 2)) = 0) (
      g146 a0 a1 a2 x6 r5.2) (
      g146 a0 a1 a2 (x6 + (Int32.ofInt 1)) r5.2))) none) none) none) none) none) none)) none) none
noncomputable def FX99_root_82 (n : Nat) (k167 : Nat → Int32 → Int32 → Int32 → Int64 → Int64 → Int32 → FM → Option (Int64 × FM)) (a0 : Nat) (a1 : Int32) (a2 : Int32) (M : FM) : Option (Int64 × FM) := BX99_root_82 FX99_invalid (FX99_put n) (FX99_length n) (FX99_root_146 n k167) a0 a1 a2 M
noncomputable def BX99_root_81 (s0 : Int64) (M : FM) : Option (Int64 × FM) :=
  some (s0, M)
noncomputable def FX99_root_81 (n : Nat) (k167 : Nat → Int32 → Int32 → Int32 → Int64 → Int64 → Int32 → FM → Option (Int64 × FM)) (s0 : Int64) (M : FM) : Option (Int64 × FM) := BX99_root_81 s0 M
noncomputable def BX99_root_45 (f1 : Nat → Int32 → Int32 → FM → Option (Int64 × FM)) (f2 : Int32 → Int64 → Int64 → Int32 → FM → Option (Int64 × FM)) (g81 : Int64 → FM → Option (Int64 × FM)) (a0 : Nat) (a1 : Int32) (M : FM) : Option (Int64 × FM) :=
  fi (fm_is M 96 96 a0 = true) (
  let x1 : Nat := (M.2.2 375 a0 0)
  fi (fm_is M 901 901 x1 = true ∧ fm_in M x1 (Int32.ofInt 0) = true) (
  fi ((M.1 3 x1 (Int32.ofInt 0).toNatClampNeg) = 0) (
    fi (fm_is M 96 96 a0 = true) (
    let x2 : Nat := (M.2.2 376 a0 0)
    fi (fm_is M 901 901 x2 = true ∧ fm_in M x2 (Int32.ofInt 0) = true) (
    fi (fm_is M 96 96 a0 = true) (
    (f1 a0 (M.1 3 x2 (Int32.ofInt 0).toNatClampNeg) a1 M).bind fun r3 =>
    g81 r3.1 r3.2) none) none) none) (
    fi (fm_is M 96 96 a0 = true) (
    let x4 : Nat := (M.2.2 374 a0 0)
    fi (fm_is M 901 901 x4 = true ∧ fm_in M x4 a1 = true) (
    (f2 (Int32.ofInt 0) ((M.1 3 x4 a1.toNatClampNeg).toInt64) (Int64.ofInt 0) a1 M).bind fun r5 =>
    g81 r5.1 r5.2) none) none)) none) none
noncomputable def FX99_root_45 (n : Nat) (k167 : Nat → Int32 → Int32 → Int32 → Int64 → Int64 → Int32 → FM → Option (Int64 × FM)) (a0 : Nat) (a1 : Int32) (M : FM) : Option (Int64 × FM) := BX99_root_45 FX99_zero FX99_pack (FX99_root_81 n k167) a0 a1 M
noncomputable def BX99_root_0 (f0 : Nat → Int32 → Int32 → FM → Option (Int64 × FM)) (g45 : Nat → Int32 → FM → Option (Int64 × FM)) (g82 : Nat → Int32 → Int32 → FM → Option (Int64 × FM)) (a0 : Nat) (a1 : Int32) (a2 : Int32) (M : FM) : Option (Int64 × FM) :=
  fi (fm_is M 96 96 a0 = true) (
  (f0 a0 (Int32.ofInt 1) a1 M).bind fun r1 =>
  fi ((lg_cmp r1.1 (Int64.ofInt (-1))) = 0) (
    fi (fm_is r1.2 96 96 a0 = true) (
    let x2 : Nat := (r1.2.2.2 375 a0 0)
    fi (fm_is r1.2 901 901 x2 = true ∧ fm_in r1.2 x2 (Int32.ofInt 0) = true) (
    fi ((r1.2.1 3 x2 (Int32.ofInt 0).toNatClampNeg) = 0) (
      g45 a0 a1 r1.2) (
      fi (fm_is r1.2 96 96 a0 = true) (
      let x3 : Nat := (r1.2.2.2 375 a0 0)
      fi (fm_is r1.2 901 901 x3 = true ∧ fm_in r1.2 x3 (Int32.ofInt 0) = true) (
      fi ((r1.2.1 3 x3 (Int32.ofInt 0).toNatClampNeg) = (Int32.ofInt 2)) (
        fi (fm_is r1.2 96 96 a0 = true) (
        let x4 : Nat := (r1.2.2.2 376 a0 0)
        fi (fm_is r1.2 901 901 x4 = true ∧ fm_in r1.2 x4 (Int32.ofInt 0) = true) (
        fi ((r1.2.1 3 x4 (Int32.ofInt 0).toNatClampNeg) = 0) (
          g45 a0 a1 r1.2) (
          g82 a0 a1 a2 r1.2)) none) none) (
        g82 a0 a1 a2 r1.2)) none) none)) none) none) (
    some (r1.1, r1.2))) none
noncomputable def FX99_root_0 (n : Nat) (k167 : Nat → Int32 → Int32 → Int32 → Int64 → Int64 → Int32 → FM → Option (Int64 × FM)) (a0 : Nat) (a1 : Int32) (a2 : Int32) (M : FM) : Option (Int64 × FM) := BX99_root_0 (FX99_none n) (FX99_root_45 n k167) (FX99_root_82 n k167) a0 a1 a2 M
noncomputable def FX99_root_L167 (n : Nat) : Nat → Nat → Int32 → Int32 → Int32 → Int64 → Int64 → Int32 → FM → Option (Int64 × FM)
  | 0 => fun _ _ _ _ _ _ _ _ => none
  | j + 1 => FX99_root_167 n (FX99_root_L167 n j)
noncomputable def FX99_root (n : Nat) (a0 : Nat) (a1 : Int32) (a2 : Int32) (M : FM) : Option (Int64 × FM) := FX99_root_0 n (FX99_root_L167 n n) a0 a1 a2 M
