/-! functions of methods, printed by gen/defs.py -/
set_option maxRecDepth 100000
/-! BoardMachine$Loader.fault()I -/
noncomputable def BX90_fault_237 (s0 : Int32) (M : FM) : Option (Int32 × FM) :=
  some (s0, M)
noncomputable def FX90_fault_237 (n : Nat) (k155 : Nat → Int64 → Int32 → Int32 → FM → Option (Int32 × FM)) (s0 : Int32) (M : FM) : Option (Int32 × FM) := BX90_fault_237 s0 M
noncomputable def BX90_fault_231 (g237 : Int32 → FM → Option (Int32 × FM)) (M : FM) : Option (Int32 × FM) :=
  g237 (Int32.ofInt 8) M
noncomputable def FX90_fault_231 (n : Nat) (k155 : Nat → Int64 → Int32 → Int32 → FM → Option (Int32 × FM)) (M : FM) : Option (Int32 × FM) := BX90_fault_231 (FX90_fault_237 n k155) M
noncomputable def BX90_fault_182 (k155 : Nat → Int64 → Int32 → Int32 → FM → Option (Int32 × FM)) (a0 : Nat) (a1 : Int64) (a3 : Int32) (a4 : Int32) (s0 : Int32) (M : FM) : Option (Int32 × FM) :=
  fi (s0 ≤ 0) (
    let x1 : Int32 := a4 + (Int32.ofInt 1)
    k155 a0 a1 a3 x1 M) (
    some (s0, M))
noncomputable def FX90_fault_182 (n : Nat) (k155 : Nat → Int64 → Int32 → Int32 → FM → Option (Int32 × FM)) (a0 : Nat) (a1 : Int64) (a3 : Int32) (a4 : Int32) (s0 : Int32) (M : FM) : Option (Int32 × FM) := BX90_fault_182 k155 a0 a1 a3 a4 s0 M
noncomputable def BX90_fault_155 (f1 : Nat → Int64 → Int32 → FM → Option (Int64 × FM)) (f3 : Nat → Int64 → Int32 → FM → Option (Int32 × FM)) (f4 : Nat → Int64 → Int32 → FM → Option (Int32 × FM)) (f5 : Nat → Int64 → Int64 → FM → Option (Int32 × FM)) (g182 : Nat → Int64 → Int32 → Int32 → Int32 → FM → Option (Int32 × FM)) (g231 : FM → Option (Int32 × FM)) (g237 : Int32 → FM → Option (Int32 × FM)) (a0 : Nat) (a1 : Int64) (a3 : Int32) (a4 : Int32) (M : FM) : Option (Int32 × FM) :=
  fi (a3 ≤ a4) (
    fi (fm_is M 66 66 a0 = true) (
    (f1 a0 (Int64.ofInt 24) (Int32.ofInt 8) M).bind fun r1 =>
    fi ((lg_cmp (r1.1 &&& (Int64.ofInt 1)) (Int64.ofInt 0)) = 0) (
      fi (fm_is r1.2 66 66 a0 = true) (
      let x2 : Nat := (r1.2.2.2 187 a0 0)
      fi (fm_is r1.2 73 73 x2 = true) (
      (f5 x2 r1.1 (Int64.ofInt 1) r1.2).bind fun r3 =>
      fi (r3.1 = 0) (
        g231 r3.2) (
        g237 (Int32.ofInt 0) r3.2)) none) none) (
      g231 r1.2)) none) (
    fi (fm_is M 66 66 a0 = true) (
    (f3 a0 a1 a4 M).bind fun r4 =>
    fi (r4.1 = 0) (
      g182 a0 a1 a3 a4 (Int32.ofInt 0) r4.2) (
      fi (fm_is r4.2 66 66 a0 = true) (
      (f4 a0 a1 a4 r4.2).bind fun r5 =>
      g182 a0 a1 a3 a4 r5.1 r5.2) none)) none)
noncomputable def FX90_fault_155 (n : Nat) (k155 : Nat → Int64 → Int32 → Int32 → FM → Option (Int32 × FM)) (a0 : Nat) (a1 : Int64) (a3 : Int32) (a4 : Int32) (M : FM) : Option (Int32 × FM) := BX90_fault_155 (FX90_number n) (FX90_isSegment n) (FX90_segmentFault n) FX11_has (FX90_fault_182 n k155) (FX90_fault_231 n k155) (FX90_fault_237 n k155) a0 a1 a3 a4 M
noncomputable def BX90_fault_150 (M : FM) : Option (Int32 × FM) :=
  some ((Int32.ofInt 4), M)
noncomputable def FX90_fault_150 (n : Nat) (k155 : Nat → Int64 → Int32 → Int32 → FM → Option (Int32 × FM)) (M : FM) : Option (Int32 × FM) := BX90_fault_150 M
noncomputable def BX90_fault_66 (M : FM) : Option (Int32 × FM) :=
  some ((Int32.ofInt 3), M)
noncomputable def FX90_fault_66 (n : Nat) (k155 : Nat → Int64 → Int32 → Int32 → FM → Option (Int32 × FM)) (M : FM) : Option (Int32 × FM) := BX90_fault_66 M
noncomputable def BX90_fault_0 (f0 : Nat → FM → Option (Int32 × FM)) (f1 : Nat → Int64 → Int32 → FM → Option (Int64 × FM)) (f2 : Int64 → Int64 → Int64 → FM → Option (Int32 × FM)) (g66 : FM → Option (Int32 × FM)) (g150 : FM → Option (Int32 × FM)) (k155 : Nat → Int64 → Int32 → Int32 → FM → Option (Int32 × FM)) (a0 : Nat) (M : FM) : Option (Int32 × FM) :=
  fi (fm_is M 66 66 a0 = true) (
  let x1 : Nat := (M.2.2 186 a0 0)
  fi (fm_is M 86 86 x1 = true) (
  fi ((Int32.ofInt 64) ≤ (M.1 262 x1 0)) (
    fi (fm_is M 66 66 a0 = true) (
    (f0 a0 M).bind fun r2 =>
    fi (r2.1 = 0) (
      some ((Int32.ofInt 2), r2.2)) (
      fi (fm_is r2.2 66 66 a0 = true) (
      (f1 a0 (Int64.ofInt 16) (Int32.ofInt 2) r2.2).bind fun r3 =>
      fi ((lg_cmp r3.1 (Int64.ofInt 2)) = 0) (
        fi (fm_is r3.2 66 66 a0 = true) (
        (f1 a0 (Int64.ofInt 18) (Int32.ofInt 2) r3.2).bind fun r4 =>
        fi ((lg_cmp r4.1 (Int64.ofInt 243)) = 0) (
          fi (fm_is r4.2 66 66 a0 = true) (
          (f1 a0 (Int64.ofInt 20) (Int32.ofInt 4) r4.2).bind fun r5 =>
          fi ((lg_cmp r5.1 (Int64.ofInt 1)) = 0) (
            fi (fm_is r5.2 66 66 a0 = true) (
            (f1 a0 (Int64.ofInt 32) (Int32.ofInt 8) r5.2).bind fun r6 =>
            fi (fm_is r6.2 66 66 a0 = true) (
            (f1 a0 (Int64.ofInt 56) (Int32.ofInt 2) r6.2).bind fun r7 =>
            let x8 : Int32 := r7.1.toInt32
            fi (fm_is r7.2 66 66 a0 = true) (
            (f1 a0 (Int64.ofInt 52) (Int32.ofInt 2) r7.2).bind fun r9 =>
            fi ((lg_cmp r9.1 (Int64.ofInt 64)) = 0) (
              fi (fm_is r9.2 66 66 a0 = true) (
              (f1 a0 (Int64.ofInt 54) (Int32.ofInt 2) r9.2).bind fun r10 =>
              fi ((lg_cmp r10.1 (Int64.ofInt 56)) = 0) (
                fi (x8 < (Int32.ofInt 1)) (
                  g150 r10.2) (
                  fi ((Int32.ofInt 16) < x8) (
                    g150 r10.2) (
                    fi (fm_is r10.2 66 66 a0 = true) (
                    let x11 : Nat := (r10.2.2.2 186 a0 0)
                    fi (fm_is r10.2 86 86 x11 = true) (
                    (f2 r6.1 ((Int64.ofInt 56) * x8.toInt64) ((r10.2.1 262 x11 0).toInt64) r10.2).bind fun r12 =>
                    fi (r12.1 = 0) (
                      g150 r12.2) (
                      k155 a0 r6.1 x8 (Int32.ofInt 0) r12.2)) none) none))) (
                g150 r10.2)) none) (
              g150 r9.2)) none) none) none) (
            g66 r5.2)) none) (
          g66 r4.2)) none) (
        g66 r3.2)) none)) none) (
    some ((Int32.ofInt 1), M))) none) none
noncomputable def FX90_fault_0 (n : Nat) (k155 : Nat → Int64 → Int32 → Int32 → FM → Option (Int32 × FM)) (a0 : Nat) (M : FM) : Option (Int32 × FM) := BX90_fault_0 (FX90_begins n) (FX90_number n) FX90_fits (FX90_fault_66 n k155) (FX90_fault_150 n k155) k155 a0 M
noncomputable def FX90_fault_L155 (n : Nat) : Nat → Nat → Int64 → Int32 → Int32 → FM → Option (Int32 × FM)
  | 0 => fun _ _ _ _ _ => none
  | j + 1 => FX90_fault_155 n (FX90_fault_L155 n j)
noncomputable def FX90_fault (n : Nat) (a0 : Nat) (M : FM) : Option (Int32 × FM) := FX90_fault_0 n (FX90_fault_L155 n n) a0 M
/-! BoardMachine$Memories$Page.fill(III)V -/
noncomputable def BX91_fill_3 (f0 : Nat → Int32 → Int32 → Int64 → FM → Option (FM)) (k3 : Nat → Int32 → Int32 → Int32 → FM → Option (FM)) (a0 : Nat) (a2 : Int32) (a3 : Int32) (a4 : Int32) (M : FM) : Option (FM) :=
  fi (a2 ≤ a4) (
    some M) (
    fi (fm_is M 72 72 a0 = true) (
    (f0 a0 a4 (Int32.ofInt 1) a3.toInt64 M).bind fun M1 =>
    let x2 : Int32 := a4 + (Int32.ofInt 1)
    k3 a0 a2 a3 x2 M1) none)
noncomputable def FX91_fill_3 (n : Nat) (k3 : Nat → Int32 → Int32 → Int32 → FM → Option (FM)) (a0 : Nat) (a2 : Int32) (a3 : Int32) (a4 : Int32) (M : FM) : Option (FM) := BX91_fill_3 FX91_put k3 a0 a2 a3 a4 M
noncomputable def BX91_fill_0 (k3 : Nat → Int32 → Int32 → Int32 → FM → Option (FM)) (a0 : Nat) (a1 : Int32) (a2 : Int32) (a3 : Int32) (M : FM) : Option (FM) :=
  k3 a0 a2 a3 a1 M
noncomputable def FX91_fill_0 (n : Nat) (k3 : Nat → Int32 → Int32 → Int32 → FM → Option (FM)) (a0 : Nat) (a1 : Int32) (a2 : Int32) (a3 : Int32) (M : FM) : Option (FM) := BX91_fill_0 k3 a0 a1 a2 a3 M
noncomputable def FX91_fill_L3 (n : Nat) : Nat → Nat → Int32 → Int32 → Int32 → FM → Option (FM)
  | 0 => fun _ _ _ _ _ => none
  | j + 1 => FX91_fill_3 n (FX91_fill_L3 n j)
noncomputable def FX91_fill (n : Nat) (a0 : Nat) (a1 : Int32) (a2 : Int32) (a3 : Int32) (M : FM) : Option (FM) := FX91_fill_0 n (FX91_fill_L3 n n) a0 a1 a2 a3 M
/-! BoardMachine$Memories$Ram.fill(JJI)V -/
noncomputable def BX11_fill_75 (k3 : Nat → Int64 → Int64 → Int32 → Int64 → FM → Option (FM)) (a0 : Nat) (a1 : Int64) (a3 : Int64) (a5 : Int32) (a6 : Int64) (a8 : Int32) (a9 : Int32) (a10 : Int32) (M : FM) : Option (FM) :=
  fi (fm_is M 73 73 a0 = true) (
  let x1 : Nat := (M.2.2 204 a0 0)
  fi (fm_is M 902 902 x1 = true ∧ fm_in M x1 a8 = true) (
  fi (fm_is M 902 902 x1 = true ∧ fm_in M x1 a8 = true) (
  let M2 : FM := fm_sL M 3 x1 a8.toNatClampNeg ((M.2.1 3 x1 a8.toNatClampNeg) + (Int64.ofInt 1))
  let x3 : Int64 := (a6 + (a10 - a9).toInt64)
  k3 a0 a1 a3 a5 x3 M2) none) none) none
noncomputable def FX11_fill_75 (n : Nat) (k3 : Nat → Int64 → Int64 → Int32 → Int64 → FM → Option (FM)) (a0 : Nat) (a1 : Int64) (a3 : Int64) (a5 : Int32) (a6 : Int64) (a8 : Int32) (a9 : Int32) (a10 : Int32) (M : FM) : Option (FM) := BX11_fill_75 k3 a0 a1 a3 a5 a6 a8 a9 a10 M
noncomputable def BX11_fill_60 (f4 : Nat → Int32 → FM → Option (Nat × FM)) (f5 : Nat → Int32 → Int32 → Int32 → FM → Option (FM)) (g75 : Nat → Int64 → Int64 → Int32 → Int64 → Int32 → Int32 → Int32 → FM → Option (FM)) (a0 : Nat) (a1 : Int64) (a3 : Int64) (a5 : Int32) (a6 : Int64) (a8 : Int32) (a9 : Int32) (a10 : Int32) (M : FM) : Option (FM) :=
  fi (fm_is M 73 73 a0 = true) (
  (f4 a0 a8 M).bind fun r1 =>
  fi (fm_is r1.2 72 72 r1.1 = true) (
  (f5 r1.1 a9 a10 a5 r1.2).bind fun M2 =>
  g75 a0 a1 a3 a5 a6 a8 a9 a10 M2) none) none
noncomputable def FX11_fill_60 (n : Nat) (k3 : Nat → Int64 → Int64 → Int32 → Int64 → FM → Option (FM)) (a0 : Nat) (a1 : Int64) (a3 : Int64) (a5 : Int32) (a6 : Int64) (a8 : Int32) (a9 : Int32) (a10 : Int32) (M : FM) : Option (FM) := BX11_fill_60 FX11_made (FX91_fill n) (FX11_fill_75 n k3) a0 a1 a3 a5 a6 a8 a9 a10 M
noncomputable def BX11_fill_3 (f0 : Int64 → FM → Option (Int32 × FM)) (f1 : Nat → Int64 → Int64 → FM → Option (FM)) (f2 : Int64 → FM → Option (Int32 × FM)) (f3 : Int64 → Int64 → FM → Option (Int64 × FM)) (g60 : Nat → Int64 → Int64 → Int32 → Int64 → Int32 → Int32 → Int32 → FM → Option (FM)) (g75 : Nat → Int64 → Int64 → Int32 → Int64 → Int32 → Int32 → Int32 → FM → Option (FM)) (a0 : Nat) (a1 : Int64) (a3 : Int64) (a5 : Int32) (a6 : Int64) (M : FM) : Option (FM) :=
  fi (0 ≤ (lg_cmp a6 a3)) (
    fi (fm_is M 73 73 a0 = true) (
    (f1 a0 a1 a3 M).bind fun M1 =>
    some M1) none) (
    (f0 a6 M).bind fun r2 =>
    (f2 a6 r2.2).bind fun r3 =>
    (f3 (Int64.ofInt 4096) (r3.1.toInt64 + (a3 - a6)) r3.2).bind fun r4 =>
    let x5 : Int32 := r4.1.toInt32
    fi ((a5 &&& (Int32.ofInt 255)) = 0) (
      fi (fm_is r4.2 73 73 a0 = true) (
      let x6 : Nat := (r4.2.2.2 203 a0 0)
      fi (fm_is r4.2 910 990 x6 = true ∧ fm_in r4.2 x6 r2.1 = true) (
      fi ((r4.2.2.2 3 x6 r2.1.toNatClampNeg) = 0) (
        g75 a0 a1 a3 a5 a6 r2.1 r3.1 x5 r4.2) (
        g60 a0 a1 a3 a5 a6 r2.1 r3.1 x5 r4.2)) none) none) (
      g60 a0 a1 a3 a5 a6 r2.1 r3.1 x5 r4.2))
noncomputable def FX11_fill_3 (n : Nat) (k3 : Nat → Int64 → Int64 → Int32 → Int64 → FM → Option (FM)) (a0 : Nat) (a1 : Int64) (a3 : Int64) (a5 : Int32) (a6 : Int64) (M : FM) : Option (FM) := BX11_fill_3 FX11_pageOf (FX11_touch n) FX11_placeOf FJ5_min_2 (FX11_fill_60 n k3) (FX11_fill_75 n k3) a0 a1 a3 a5 a6 M
noncomputable def BX11_fill_0 (k3 : Nat → Int64 → Int64 → Int32 → Int64 → FM → Option (FM)) (a0 : Nat) (a1 : Int64) (a3 : Int64) (a5 : Int32) (M : FM) : Option (FM) :=
  k3 a0 a1 a3 a5 a1 M
noncomputable def FX11_fill_0 (n : Nat) (k3 : Nat → Int64 → Int64 → Int32 → Int64 → FM → Option (FM)) (a0 : Nat) (a1 : Int64) (a3 : Int64) (a5 : Int32) (M : FM) : Option (FM) := BX11_fill_0 k3 a0 a1 a3 a5 M
noncomputable def FX11_fill_L3 (n : Nat) : Nat → Nat → Int64 → Int64 → Int32 → Int64 → FM → Option (FM)
  | 0 => fun _ _ _ _ _ _ => none
  | j + 1 => FX11_fill_3 n (FX11_fill_L3 n j)
noncomputable def FX11_fill (n : Nat) (a0 : Nat) (a1 : Int64) (a3 : Int64) (a5 : Int32) (M : FM) : Option (FM) := FX11_fill_0 n (FX11_fill_L3 n n) a0 a1 a3 a5 M
/-! BoardMachine$Loader.put(J)V -/
noncomputable def BX90_put_123 (M : FM) : Option (FM) :=
  some M
noncomputable def FX90_put_123 (n : Nat) (k54 : Nat → Int64 → Int64 → Int64 → Int64 → Int64 → FM → Option (FM)) (M : FM) : Option (FM) := BX90_put_123 M
noncomputable def BX90_put_54 (f1 : Nat → Int32 → FM → Option (Int32 × FM)) (f2 : Nat → Int64 → Int64 → Int32 → FM → Option (FM)) (f3 : Nat → Int64 → Int32 → Int64 → FM → Option (FM)) (g123 : FM → Option (FM)) (k54 : Nat → Int64 → Int64 → Int64 → Int64 → Int64 → FM → Option (FM)) (a0 : Nat) (a3 : Int64) (a5 : Int64) (a7 : Int64) (a9 : Int64) (a11 : Int64) (M : FM) : Option (FM) :=
  fi (0 ≤ (lg_cmp a11 a7)) (
    fi ((lg_cmp a9 a7) ≤ 0) (
      g123 M) (
      fi (fm_is M 66 66 a0 = true) (
      let x1 : Nat := (M.2.2 187 a0 0)
      fi (fm_is M 73 73 x1 = true) (
      (f2 x1 (a5 + a7) (a5 + a9) (Int32.ofInt 0) M).bind fun M2 =>
      g123 M2) none) none)) (
    fi (fm_is M 66 66 a0 = true) (
    fi (fm_is M 66 66 a0 = true) (
    let x3 : Nat := (M.2.2 186 a0 0)
    fi (fm_is M 86 86 x3 = true) (
    (f1 x3 ((a3 + a11).toInt32) M).bind fun r4 =>
    let x5 : Nat := (M.2.2 187 a0 0)
    fi (fm_is r4.2 73 73 x5 = true) (
    (f3 x5 (a5 + a11) (Int32.ofInt 1) r4.1.toInt64 r4.2).bind fun M6 =>
    let x7 : Int64 := (a11 + (Int64.ofInt 1))
    k54 a0 a3 a5 a7 a9 x7 M6) none) none) none) none)
noncomputable def FX90_put_54 (n : Nat) (k54 : Nat → Int64 → Int64 → Int64 → Int64 → Int64 → FM → Option (FM)) (a0 : Nat) (a3 : Int64) (a5 : Int64) (a7 : Int64) (a9 : Int64) (a11 : Int64) (M : FM) : Option (FM) := BX90_put_54 FX3_get (FX11_fill n) (FX11_store n) (FX90_put_123 n k54) k54 a0 a3 a5 a7 a9 a11 M
noncomputable def BX90_put_0 (f0 : Nat → Int64 → Int32 → FM → Option (Int64 × FM)) (k54 : Nat → Int64 → Int64 → Int64 → Int64 → Int64 → FM → Option (FM)) (a0 : Nat) (a1 : Int64) (M : FM) : Option (FM) :=
  fi (fm_is M 66 66 a0 = true) (
  (f0 a0 (a1 + (Int64.ofInt 8)) (Int32.ofInt 8) M).bind fun r1 =>
  fi (fm_is r1.2 66 66 a0 = true) (
  (f0 a0 (a1 + (Int64.ofInt 24)) (Int32.ofInt 8) r1.2).bind fun r2 =>
  fi (fm_is r2.2 66 66 a0 = true) (
  (f0 a0 (a1 + (Int64.ofInt 32)) (Int32.ofInt 8) r2.2).bind fun r3 =>
  fi (fm_is r3.2 66 66 a0 = true) (
  (f0 a0 (a1 + (Int64.ofInt 40)) (Int32.ofInt 8) r3.2).bind fun r4 =>
  k54 a0 r1.1 r2.1 r3.1 r4.1 (Int64.ofInt 0) r4.2) none) none) none) none
noncomputable def FX90_put_0 (n : Nat) (k54 : Nat → Int64 → Int64 → Int64 → Int64 → Int64 → FM → Option (FM)) (a0 : Nat) (a1 : Int64) (M : FM) : Option (FM) := BX90_put_0 (FX90_number n) k54 a0 a1 M
noncomputable def FX90_put_L54 (n : Nat) : Nat → Nat → Int64 → Int64 → Int64 → Int64 → Int64 → FM → Option (FM)
  | 0 => fun _ _ _ _ _ _ _ => none
  | j + 1 => FX90_put_54 n (FX90_put_L54 n j)
noncomputable def FX90_put (n : Nat) (a0 : Nat) (a1 : Int64) (M : FM) : Option (FM) := FX90_put_0 n (FX90_put_L54 n n) a0 a1 M
/-! BoardMachine$Loader.load()I -/
noncomputable def BX90_load_81 (a1 : Int32) (M : FM) : Option (Int32 × FM) :=
  some (a1, M)
noncomputable def FX90_load_81 (n : Nat) (k33 : Nat → Int32 → Int64 → Int32 → Int32 → FM → Option (Int32 × FM)) (a1 : Int32) (M : FM) : Option (Int32 × FM) := BX90_load_81 a1 M
noncomputable def BX90_load_62 (k33 : Nat → Int32 → Int64 → Int32 → Int32 → FM → Option (Int32 × FM)) (a0 : Nat) (a1 : Int32) (a2 : Int64) (a4 : Int32) (a5 : Int32) (M : FM) : Option (Int32 × FM) :=
  let x1 : Int32 := a5 + (Int32.ofInt 1)
  k33 a0 a1 a2 a4 x1 M
noncomputable def FX90_load_62 (n : Nat) (k33 : Nat → Int32 → Int64 → Int32 → Int32 → FM → Option (Int32 × FM)) (a0 : Nat) (a1 : Int32) (a2 : Int64) (a4 : Int32) (a5 : Int32) (M : FM) : Option (Int32 × FM) := BX90_load_62 k33 a0 a1 a2 a4 a5 M
noncomputable def BX90_load_33 (f1 : Nat → Int64 → Int32 → FM → Option (Int64 × FM)) (f2 : Nat → Int64 → Int32 → FM → Option (Int32 × FM)) (f3 : Nat → Int64 → FM → Option (FM)) (g62 : Nat → Int32 → Int64 → Int32 → Int32 → FM → Option (Int32 × FM)) (g81 : Int32 → FM → Option (Int32 × FM)) (a0 : Nat) (a1 : Int32) (a2 : Int64) (a4 : Int32) (a5 : Int32) (M : FM) : Option (Int32 × FM) :=
  fi (a4 ≤ a5) (
    fi (fm_is M 66 66 a0 = true) (
    (f1 a0 (Int64.ofInt 24) (Int32.ofInt 8) M).bind fun r1 =>
    fi (fm_is r1.2 66 66 a0 = true) (
    let M2 : FM := fm_sL r1.2 188 a0 0 r1.1
    g81 a1 M2) none) none) (
    fi (fm_is M 66 66 a0 = true) (
    (f2 a0 a2 a5 M).bind fun r3 =>
    fi (r3.1 = 0) (
      g62 a0 a1 a2 a4 a5 r3.2) (
      fi (fm_is r3.2 66 66 a0 = true) (
      (f3 a0 (a2 + ((Int32.ofInt 56) * a5).toInt64) r3.2).bind fun M4 =>
      g62 a0 a1 a2 a4 a5 M4) none)) none)
noncomputable def FX90_load_33 (n : Nat) (k33 : Nat → Int32 → Int64 → Int32 → Int32 → FM → Option (Int32 × FM)) (a0 : Nat) (a1 : Int32) (a2 : Int64) (a4 : Int32) (a5 : Int32) (M : FM) : Option (Int32 × FM) := BX90_load_33 (FX90_number n) (FX90_isSegment n) (FX90_put n) (FX90_load_62 n k33) (FX90_load_81 n k33) a0 a1 a2 a4 a5 M
noncomputable def BX90_load_0 (f0 : Nat → FM → Option (Int32 × FM)) (f1 : Nat → Int64 → Int32 → FM → Option (Int64 × FM)) (g81 : Int32 → FM → Option (Int32 × FM)) (k33 : Nat → Int32 → Int64 → Int32 → Int32 → FM → Option (Int32 × FM)) (a0 : Nat) (M : FM) : Option (Int32 × FM) :=
  fi (fm_is M 66 66 a0 = true) (
  (f0 a0 M).bind fun r1 =>
  fi (r1.1 = 0) (
    fi (fm_is r1.2 66 66 a0 = true) (
    (f1 a0 (Int64.ofInt 32) (Int32.ofInt 8) r1.2).bind fun r2 =>
    fi (fm_is r2.2 66 66 a0 = true) (
    (f1 a0 (Int64.ofInt 56) (Int32.ofInt 2) r2.2).bind fun r3 =>
    let x4 : Int32 := r3.1.toInt32
    k33 a0 r1.1 r2.1 x4 (Int32.ofInt 0) r3.2) none) none) (
    g81 r1.1 r1.2)) none
noncomputable def FX90_load_0 (n : Nat) (k33 : Nat → Int32 → Int64 → Int32 → Int32 → FM → Option (Int32 × FM)) (a0 : Nat) (M : FM) : Option (Int32 × FM) := BX90_load_0 (FX90_fault n) (FX90_number n) (FX90_load_81 n k33) k33 a0 M
noncomputable def FX90_load_L33 (n : Nat) : Nat → Nat → Int32 → Int64 → Int32 → Int32 → FM → Option (Int32 × FM)
  | 0 => fun _ _ _ _ _ _ => none
  | j + 1 => FX90_load_33 n (FX90_load_L33 n j)
noncomputable def FX90_load (n : Nat) (a0 : Nat) (M : FM) : Option (Int32 × FM) := FX90_load_0 n (FX90_load_L33 n n) a0 M
/-! BoardMachine$Machine.image()I -/
noncomputable def BX2_image_0 (f0 : Nat → FM → Option (Int32 × FM)) (a0 : Nat) (M : FM) : Option (Int32 × FM) :=
  fi (fm_is M 67 67 a0 = true) (
  let x1 : Nat := (M.2.2 192 a0 0)
  fi (fm_is M 66 66 x1 = true) (
  (f0 x1 M).bind fun r2 =>
  fi (fm_is r2.2 67 67 a0 = true) (
  let x3 : Nat := (r2.2.2.2 191 a0 0)
  fi (fm_is r2.2 86 86 x3 = true) (
  let M4 : FM := fm_sI r2.2 262 x3 0 (Int32.ofInt 0)
  some (r2.1, M4)) none) none) none) none
noncomputable def FX2_image_0 (n : Nat) (a0 : Nat) (M : FM) : Option (Int32 × FM) := BX2_image_0 (FX90_load n) a0 M
noncomputable def FX2_image (n : Nat) (a0 : Nat) (M : FM) : Option (Int32 × FM) := FX2_image_0 n a0 M
/-! BoardMachine$Machine.typed()I -/
noncomputable def BX2_typed_20 (k20 : Nat → Int32 → Int32 → FM → Option (Int32 × FM)) (a0 : Nat) (a1 : Int32) (a2 : Int32) (M : FM) : Option (Int32 × FM) :=
  fi (a1 ≤ a2) (
    fi (fm_is M 67 67 a0 = true) (
    let x1 : Nat := (M.2.2 191 a0 0)
    fi (fm_is M 86 86 x1 = true) (
    let M2 : FM := fm_sI M 262 x1 0 (Int32.ofInt 0)
    some (a1, M2)) none) none) (
    fi (fm_is M 67 67 a0 = true) (
    fi (fm_is M 67 67 a0 = true) (
    fi (fm_is M 67 67 a0 = true) (
    let x3 : Int32 := ((M.1 195 a0 0) + (M.1 196 a0 0))
    fi ((Int32.ofInt 65536) = 0) none (
    fi (fm_is M 67 67 a0 = true) (
    let x4 : Nat := (M.2.2 191 a0 0)
    fi (fm_is M 86 86 x4 = true) (
    let x5 : Nat := (M.2.2 261 x4 0)
    fi (fm_is M 903 903 x5 = true ∧ fm_in M x5 a2 = true) (
    let x6 : Int32 := (x3 - x3 / (Int32.ofInt 65536) * (Int32.ofInt 65536))
    let x7 : Nat := (M.2.2 194 a0 0)
    fi (fm_is M 903 903 x7 = true ∧ fm_in M x7 x6 = true) (
    let M8 : FM := fm_sI M 3 x7 x6.toNatClampNeg ((M.1 3 x5 a2.toNatClampNeg).toInt8.toInt32)
    fi (fm_is M8 67 67 a0 = true) (
    fi (fm_is M8 67 67 a0 = true) (
    let M9 : FM := fm_sI M8 196 a0 0 ((M8.1 196 a0 0) + (Int32.ofInt 1))
    let x10 : Int32 := a2 + (Int32.ofInt 1)
    k20 a0 a1 x10 M9) none) none) none) none) none) none)) none) none) none)
noncomputable def FX2_typed_20 (n : Nat) (k20 : Nat → Int32 → Int32 → FM → Option (Int32 × FM)) (a0 : Nat) (a1 : Int32) (a2 : Int32) (M : FM) : Option (Int32 × FM) := BX2_typed_20 k20 a0 a1 a2 M
noncomputable def BX2_typed_0 (f0 : Int32 → Int32 → FM → Option (Int32 × FM)) (k20 : Nat → Int32 → Int32 → FM → Option (Int32 × FM)) (a0 : Nat) (M : FM) : Option (Int32 × FM) :=
  fi (fm_is M 67 67 a0 = true) (
  let x1 : Nat := (M.2.2 191 a0 0)
  fi (fm_is M 86 86 x1 = true) (
  fi (fm_is M 67 67 a0 = true) (
  (f0 (M.1 262 x1 0) ((Int32.ofInt 65536) - (M.1 196 a0 0)) M).bind fun r2 =>
  k20 a0 r2.1 (Int32.ofInt 0) r2.2) none) none) none
noncomputable def FX2_typed_0 (n : Nat) (k20 : Nat → Int32 → Int32 → FM → Option (Int32 × FM)) (a0 : Nat) (M : FM) : Option (Int32 × FM) := BX2_typed_0 FJ5_min k20 a0 M
noncomputable def FX2_typed_L20 (n : Nat) : Nat → Nat → Int32 → Int32 → FM → Option (Int32 × FM)
  | 0 => fun _ _ _ _ => none
  | j + 1 => FX2_typed_20 n (FX2_typed_L20 n j)
noncomputable def FX2_typed (n : Nat) (a0 : Nat) (M : FM) : Option (Int32 × FM) := FX2_typed_0 n (FX2_typed_L20 n n) a0 M
/-! BoardMachine$Machine.bytes(J)I -/
noncomputable def BX2_bytes_11 (f0 : Nat → Int32 → FM → Option (Int32 × FM)) (f1 : Nat → Int64 → Int32 → Int64 → FM → Option (FM)) (k11 : Nat → Int64 → Int32 → Int32 → FM → Option (Int32 × FM)) (a0 : Nat) (a1 : Int64) (a3 : Int32) (a4 : Int32) (M : FM) : Option (Int32 × FM) :=
  fi (a3 ≤ a4) (
    fi (fm_is M 67 67 a0 = true) (
    let x1 : Nat := (M.2.2 191 a0 0)
    fi (fm_is M 86 86 x1 = true) (
    let M2 : FM := fm_sI M 262 x1 0 (Int32.ofInt 0)
    some (a3, M2)) none) none) (
    fi (fm_is M 67 67 a0 = true) (
    let x3 : Nat := (M.2.2 189 a0 0)
    fi (fm_is M 11 11 x3 = true) (
    fi (fm_is M 67 67 a0 = true) (
    let x4 : Nat := (M.2.2 191 a0 0)
    fi (fm_is M 86 86 x4 = true) (
    (f0 x4 a4 M).bind fun r5 =>
    let x6 : Nat := (M.2.2 18 x3 0)
    fi (fm_is r5.2 73 73 x6 = true) (
    (f1 x6 (a1 + a4.toInt64) (Int32.ofInt 1) r5.1.toInt64 r5.2).bind fun M7 =>
    let x8 : Int32 := a4 + (Int32.ofInt 1)
    k11 a0 a1 a3 x8 M7) none) none) none) none) none)
noncomputable def FX2_bytes_11 (n : Nat) (k11 : Nat → Int64 → Int32 → Int32 → FM → Option (Int32 × FM)) (a0 : Nat) (a1 : Int64) (a3 : Int32) (a4 : Int32) (M : FM) : Option (Int32 × FM) := BX2_bytes_11 FX3_get (FX11_store n) k11 a0 a1 a3 a4 M
noncomputable def BX2_bytes_0 (k11 : Nat → Int64 → Int32 → Int32 → FM → Option (Int32 × FM)) (a0 : Nat) (a1 : Int64) (M : FM) : Option (Int32 × FM) :=
  fi (fm_is M 67 67 a0 = true) (
  let x1 : Nat := (M.2.2 191 a0 0)
  fi (fm_is M 86 86 x1 = true) (
  let x2 : Int32 := (M.1 262 x1 0)
  k11 a0 a1 x2 (Int32.ofInt 0) M) none) none
noncomputable def FX2_bytes_0 (n : Nat) (k11 : Nat → Int64 → Int32 → Int32 → FM → Option (Int32 × FM)) (a0 : Nat) (a1 : Int64) (M : FM) : Option (Int32 × FM) := BX2_bytes_0 k11 a0 a1 M
noncomputable def FX2_bytes_L11 (n : Nat) : Nat → Nat → Int64 → Int32 → Int32 → FM → Option (Int32 × FM)
  | 0 => fun _ _ _ _ _ => none
  | j + 1 => FX2_bytes_11 n (FX2_bytes_L11 n j)
noncomputable def FX2_bytes (n : Nat) (a0 : Nat) (a1 : Int64) (M : FM) : Option (Int32 × FM) := FX2_bytes_0 n (FX2_bytes_L11 n n) a0 a1 M
/-! BoardMachine$Machine.sectors(J)I -/
noncomputable def BX2_sectors_11 (f0 : Nat → Int32 → FM → Option (Int32 × FM)) (f1 : Nat → Int32 → Int32 → FM → Option (FM)) (k11 : Nat → Int64 → Int32 → Int32 → FM → Option (Int32 × FM)) (a0 : Nat) (a1 : Int64) (a3 : Int32) (a4 : Int32) (M : FM) : Option (Int32 × FM) :=
  fi (a3 ≤ a4) (
    fi (fm_is M 67 67 a0 = true) (
    let x1 : Nat := (M.2.2 191 a0 0)
    fi (fm_is M 86 86 x1 = true) (
    let M2 : FM := fm_sI M 262 x1 0 (Int32.ofInt 0)
    some (a3, M2)) none) none) (
    fi (fm_is M 67 67 a0 = true) (
    let x3 : Nat := (M.2.2 189 a0 0)
    fi (fm_is M 11 11 x3 = true) (
    let x4 : Nat := (M.2.2 20 x3 0)
    fi (fm_is M 22 22 x4 = true) (
    fi (fm_is M 67 67 a0 = true) (
    let x5 : Nat := (M.2.2 191 a0 0)
    fi (fm_is M 86 86 x5 = true) (
    (f0 x5 a4 M).bind fun r6 =>
    let x7 : Nat := (M.2.2 59 x4 0)
    fi (fm_is r6.2 23 23 x7 = true) (
    (f1 x7 (((Int64.ofInt 512) * a1).toInt32 + a4) r6.1 r6.2).bind fun M8 =>
    let x9 : Int32 := a4 + (Int32.ofInt 1)
    k11 a0 a1 a3 x9 M8) none) none) none) none) none) none)
noncomputable def FX2_sectors_11 (n : Nat) (k11 : Nat → Int64 → Int32 → Int32 → FM → Option (Int32 × FM)) (a0 : Nat) (a1 : Int64) (a3 : Int32) (a4 : Int32) (M : FM) : Option (Int32 × FM) := BX2_sectors_11 FX3_get FX23_put k11 a0 a1 a3 a4 M
noncomputable def BX2_sectors_0 (k11 : Nat → Int64 → Int32 → Int32 → FM → Option (Int32 × FM)) (a0 : Nat) (a1 : Int64) (M : FM) : Option (Int32 × FM) :=
  fi (fm_is M 67 67 a0 = true) (
  let x1 : Nat := (M.2.2 191 a0 0)
  fi (fm_is M 86 86 x1 = true) (
  let x2 : Int32 := (M.1 262 x1 0)
  k11 a0 a1 x2 (Int32.ofInt 0) M) none) none
noncomputable def FX2_sectors_0 (n : Nat) (k11 : Nat → Int64 → Int32 → Int32 → FM → Option (Int32 × FM)) (a0 : Nat) (a1 : Int64) (M : FM) : Option (Int32 × FM) := BX2_sectors_0 k11 a0 a1 M
noncomputable def FX2_sectors_L11 (n : Nat) : Nat → Nat → Int64 → Int32 → Int32 → FM → Option (Int32 × FM)
  | 0 => fun _ _ _ _ _ => none
  | j + 1 => FX2_sectors_11 n (FX2_sectors_L11 n j)
noncomputable def FX2_sectors (n : Nat) (a0 : Nat) (a1 : Int64) (M : FM) : Option (Int32 × FM) := FX2_sectors_0 n (FX2_sectors_L11 n n) a0 a1 M
/-! BoardMachine.load(IJ)I -/
noncomputable def BX1_load_134 (f2 : Int32 → FM → Option (FM)) (f4 : Nat → Int64 → FM → Option (Int32 × FM)) (a0 : Nat) (a2 : Int64) (s0 : Int32) (M : FM) : Option (Int32 × FM) :=
  (f2 s0 M).bind fun M1 =>
  fi (fm_is M1 10 10 a0 = true) (
  let x2 : Nat := (M1.2.2 17 a0 0)
  fi (fm_is M1 67 67 x2 = true) (
  (f4 x2 a2 M1).bind fun r3 =>
  some (r3.1, r3.2)) none) none
noncomputable def FX1_load_134 (n : Nat) (a0 : Nat) (a2 : Int64) (s0 : Int32) (M : FM) : Option (Int32 × FM) := BX1_load_134 FX1_there (FX2_sectors n) a0 a2 s0 M
noncomputable def BX1_load_133 (g134 : Nat → Int64 → Int32 → FM → Option (Int32 × FM)) (a0 : Nat) (a2 : Int64) (M : FM) : Option (Int32 × FM) :=
  g134 a0 a2 (Int32.ofInt 0) M
noncomputable def FX1_load_133 (n : Nat) (a0 : Nat) (a2 : Int64) (M : FM) : Option (Int32 × FM) := BX1_load_133 (FX1_load_134 n ) a0 a2 M
noncomputable def BX1_load_129 (g134 : Nat → Int64 → Int32 → FM → Option (Int32 × FM)) (a0 : Nat) (a2 : Int64) (M : FM) : Option (Int32 × FM) :=
  g134 a0 a2 (Int32.ofInt 1) M
noncomputable def FX1_load_129 (n : Nat) (a0 : Nat) (a2 : Int64) (M : FM) : Option (Int32 × FM) := BX1_load_129 (FX1_load_134 n ) a0 a2 M
noncomputable def BX1_load_74 (f2 : Int32 → FM → Option (FM)) (f3 : Nat → Int64 → FM → Option (Int32 × FM)) (a0 : Nat) (a2 : Int64) (s0 : Int32) (M : FM) : Option (Int32 × FM) :=
  (f2 s0 M).bind fun M1 =>
  fi (fm_is M1 10 10 a0 = true) (
  let x2 : Nat := (M1.2.2 17 a0 0)
  fi (fm_is M1 67 67 x2 = true) (
  (f3 x2 a2 M1).bind fun r3 =>
  some (r3.1, r3.2)) none) none
noncomputable def FX1_load_74 (n : Nat) (a0 : Nat) (a2 : Int64) (s0 : Int32) (M : FM) : Option (Int32 × FM) := BX1_load_74 FX1_there (FX2_bytes n) a0 a2 s0 M
noncomputable def BX1_load_69 (g74 : Nat → Int64 → Int32 → FM → Option (Int32 × FM)) (a0 : Nat) (a2 : Int64) (M : FM) : Option (Int32 × FM) :=
  g74 a0 a2 (Int32.ofInt 1) M
noncomputable def FX1_load_69 (n : Nat) (a0 : Nat) (a2 : Int64) (M : FM) : Option (Int32 × FM) := BX1_load_69 (FX1_load_74 n ) a0 a2 M
noncomputable def BX1_load_0 (f0 : Nat → FM → Option (Int32 × FM)) (f1 : Nat → FM → Option (Int32 × FM)) (f5 : Nat → Int64 → Int64 → FM → Option (Int32 × FM)) (g69 : Nat → Int64 → FM → Option (Int32 × FM)) (g74 : Nat → Int64 → Int32 → FM → Option (Int32 × FM)) (g129 : Nat → Int64 → FM → Option (Int32 × FM)) (g133 : Nat → Int64 → FM → Option (Int32 × FM)) (a0 : Nat) (a1 : Int32) (a2 : Int64) (M : FM) : Option (Int32 × FM) :=
  fi (fm_is M 10 10 a0 = true) (
  let x1 : Nat := (M.2.2 17 a0 0)
  fi (fm_is M 67 67 x1 = true) (
  let x2 : Nat := (M.2.2 191 x1 0)
  fi (fm_is M 86 86 x2 = true) (
  let x3 : Int32 := (M.1 262 x2 0)
  fi (a1 = (Int32.ofInt 0)) (
    fi (x3 = 0) (
      g69 a0 a2 M) (
      fi (fm_is M 10 10 a0 = true) (
      let x4 : Nat := (M.2.2 17 a0 0)
      fi (fm_is M 67 67 x4 = true) (
      let x5 : Nat := (M.2.2 189 x4 0)
      fi (fm_is M 11 11 x5 = true) (
      let x6 : Nat := (M.2.2 18 x5 0)
      fi (fm_is M 73 73 x6 = true) (
      (f5 x6 a2 x3.toInt64 M).bind fun r7 =>
      fi (r7.1 = 0) (
        g74 a0 a2 (Int32.ofInt 0) r7.2) (
        g69 a0 a2 r7.2)) none) none) none) none)) (
  fi (a1 = (Int32.ofInt 1)) (
    fi (fm_is M 10 10 a0 = true) (
    let x8 : Nat := (M.2.2 17 a0 0)
    fi (fm_is M 67 67 x8 = true) (
    (f0 x8 M).bind fun r9 =>
    some (r9.1, r9.2)) none) none) (
  fi (a1 = (Int32.ofInt 2)) (
    fi (x3 = 0) (
      g129 a0 a2 M) (
      fi ((lg_cmp a2 (Int64.ofInt 0)) < 0) (
        g133 a0 a2 M) (
        fi (0 ≤ (lg_cmp a2 (Int64.ofInt 2048))) (
          g133 a0 a2 M) (
          fi (0 < (lg_cmp x3.toInt64 ((Int64.ofInt 512) * ((Int64.ofInt 2048) - a2)))) (
            g133 a0 a2 M) (
            g129 a0 a2 M))))) (
  fi (a1 = (Int32.ofInt 3)) (
    fi (fm_is M 10 10 a0 = true) (
    let x10 : Nat := (M.2.2 17 a0 0)
    fi (fm_is M 67 67 x10 = true) (
    (f1 x10 M).bind fun r11 =>
    some (r11.1, r11.2)) none) none) (
  none))))) none) none) none
noncomputable def FX1_load_0 (n : Nat) (a0 : Nat) (a1 : Int32) (a2 : Int64) (M : FM) : Option (Int32 × FM) := BX1_load_0 (FX2_image n) (FX2_typed n) FX11_has (FX1_load_69 n ) (FX1_load_74 n ) (FX1_load_129 n ) (FX1_load_133 n ) a0 a1 a2 M
noncomputable def FX1_load (n : Nat) (a0 : Nat) (a1 : Int32) (a2 : Int64) (M : FM) : Option (Int32 × FM) := FX1_load_0 n a0 a1 a2 M
noncomputable def TX1_load (n : Nat) (a0 : Nat) (a1 : Int32) (a2 : Int64) (M : FM) : Option (Nat × FM) :=
  fi (fm_is M 10 10 a0 = true) (
  let x1 : Nat := (M.2.2 17 a0 0)
  fi (fm_is M 67 67 x1 = true) (
  let x2 : Nat := (M.2.2 191 x1 0)
  fi (fm_is M 86 86 x2 = true) (
  let x3 : Int32 := (M.1 262 x2 0)
  fi (a1 = (Int32.ofInt 0)) (
    fi (x3 = 0) (
      (TX1_there n (Int32.ofInt 1) M).or ((FX1_there (Int32.ofInt 1) M).bind fun M4 =>
      none)) (
      fi (fm_is M 10 10 a0 = true) (
      let x5 : Nat := (M.2.2 17 a0 0)
      fi (fm_is M 67 67 x5 = true) (
      let x6 : Nat := (M.2.2 189 x5 0)
      fi (fm_is M 11 11 x6 = true) (
      let x7 : Nat := (M.2.2 18 x6 0)
      fi (fm_is M 73 73 x7 = true) (
      (FX11_has x7 a2 x3.toInt64 M).bind fun r8 =>
      fi (r8.1 = 0) (
        (TX1_there n (Int32.ofInt 0) r8.2).or ((FX1_there (Int32.ofInt 0) r8.2).bind fun M9 =>
        none)) (
        (TX1_there n (Int32.ofInt 1) r8.2).or ((FX1_there (Int32.ofInt 1) r8.2).bind fun M10 =>
        none))) none) none) none) none)) (
  fi (a1 = (Int32.ofInt 1)) (
    none) (
  fi (a1 = (Int32.ofInt 2)) (
    fi (x3 = 0) (
      (TX1_there n (Int32.ofInt 1) M).or ((FX1_there (Int32.ofInt 1) M).bind fun M11 =>
      none)) (
      fi ((lg_cmp a2 (Int64.ofInt 0)) < 0) (
        (TX1_there n (Int32.ofInt 0) M).or ((FX1_there (Int32.ofInt 0) M).bind fun M12 =>
        none)) (
        fi (0 ≤ (lg_cmp a2 (Int64.ofInt 2048))) (
          (TX1_there n (Int32.ofInt 0) M).or ((FX1_there (Int32.ofInt 0) M).bind fun M13 =>
          none)) (
          fi (0 < (lg_cmp x3.toInt64 ((Int64.ofInt 512) * ((Int64.ofInt 2048) - a2)))) (
            (TX1_there n (Int32.ofInt 0) M).or ((FX1_there (Int32.ofInt 0) M).bind fun M14 =>
            none)) (
            (TX1_there n (Int32.ofInt 1) M).or ((FX1_there (Int32.ofInt 1) M).bind fun M15 =>
            none)))))) (
  fi (a1 = (Int32.ofInt 3)) (
    none) (
  some (102, fm_exc M)))))) none) none) none
/-! BoardMachineLaw.load(LBoardMachine;IJ[J)I -/
noncomputable def BX0_load_0 (f0 : Nat → Int32 → Int64 → FM → Option (Int32 × FM)) (a0 : Nat) (a1 : Int32) (a2 : Int64) (a4 : Nat) (M : FM) : Option (Int32 × FM) :=
  fi (fm_is M 10 10 a0 = true) (
  (f0 a0 a1 a2 M).bind fun r1 =>
  fi (fm_is r1.2 902 902 a4 = true ∧ fm_in r1.2 a4 (Int32.ofInt 0) = true) (
  let M2 : FM := fm_sL r1.2 3 a4 (Int32.ofInt 0).toNatClampNeg r1.1.toInt64
  some ((Int32.ofInt 0), M2)) none) none
noncomputable def FX0_load_0 (n : Nat) (a0 : Nat) (a1 : Int32) (a2 : Int64) (a4 : Nat) (M : FM) : Option (Int32 × FM) := BX0_load_0 (FX1_load n) a0 a1 a2 a4 M
noncomputable def FX0_load (n : Nat) (a0 : Nat) (a1 : Int32) (a2 : Int64) (a4 : Nat) (M : FM) : Option (Int32 × FM) := FX0_load_0 n a0 a1 a2 a4 M
noncomputable def Fh_law_load (n : Nat) (a0 : Nat) (a1 : Int32) (a2 : Int64) (a4 : Nat) (M : FM) : Option (Int32 × FM) := (FX0_load n a0 a1 a2 a4 M).or ((TX1_load n a0 a1 a2 M).bind fun q => fi (q.1 = 102) (some ((Int32.ofInt 1), q.2)) (fi (q.1 = 104) (some ((Int32.ofInt 2), q.2)) none))
/-! BoardMachineModel.register(II)J -/
noncomputable def BX92_register_52 (s0 : Int64) (M : FM) : Option (Int64 × FM) :=
  some (s0, M)
noncomputable def FX92_register_52 (s0 : Int64) (M : FM) : Option (Int64 × FM) := BX92_register_52 s0 M
noncomputable def BX92_register_28 (f0 : Nat → Int32 → FM → Option (Int64 × FM)) (g52 : Int64 → FM → Option (Int64 × FM)) (a0 : Nat) (a1 : Int32) (a2 : Int32) (s0 : Nat) (s1 : Int32) (M : FM) : Option (Int64 × FM) :=
  fi (fm_is M 92 92 s0 = true) (
  let M1 : FM := fm_sI M 296 s0 0 s1
  fi (fm_is M1 92 92 a0 = true) (
  fi ((M1.1 296 a0 0) ≤ 0) (
    fi (fm_is M1 92 92 a0 = true) (
    let x2 : Nat := (M1.2.2 303 a0 0)
    fi (fm_is M1 910 990 x2 = true ∧ fm_in M1 x2 a1 = true) (
    let x3 : Nat := (M1.2.2 3 x2 a1.toNatClampNeg)
    fi (fm_is M1 94 94 x3 = true) (
    (f0 x3 a2 M1).bind fun r4 =>
    g52 r4.1 r4.2) none) none) none) (
    g52 (Int64.ofInt 0) M1)) none) none
noncomputable def FX92_register_28 (a0 : Nat) (a1 : Int32) (a2 : Int32) (s0 : Nat) (s1 : Int32) (M : FM) : Option (Int64 × FM) := BX92_register_28 FX98_get FX92_register_52 a0 a1 a2 s0 s1 M
noncomputable def BX92_register_23 (g28 : Nat → Int32 → Int32 → Nat → Int32 → FM → Option (Int64 × FM)) (a0 : Nat) (a1 : Int32) (a2 : Int32) (s0 : Nat) (M : FM) : Option (Int64 × FM) :=
  g28 a0 a1 a2 s0 (Int32.ofInt 1) M
noncomputable def FX92_register_23 (a0 : Nat) (a1 : Int32) (a2 : Int32) (s0 : Nat) (M : FM) : Option (Int64 × FM) := BX92_register_23 FX92_register_28 a0 a1 a2 s0 M
noncomputable def BX92_register_0 (g23 : Nat → Int32 → Int32 → Nat → FM → Option (Int64 × FM)) (g28 : Nat → Int32 → Int32 → Nat → Int32 → FM → Option (Int64 × FM)) (a0 : Nat) (a1 : Int32) (a2 : Int32) (M : FM) : Option (Int64 × FM) :=
  fi (a1 < 0) (
    g23 a0 a1 a2 a0 M) (
    fi (fm_is M 92 92 a0 = true) (
    fi ((M.1 297 a0 0) ≤ a1) (
      g23 a0 a1 a2 a0 M) (
      fi (a2 < 0) (
        g23 a0 a1 a2 a0 M) (
        fi (a2 ≤ (Int32.ofInt 31)) (
          g28 a0 a1 a2 a0 (Int32.ofInt 0) M) (
          g23 a0 a1 a2 a0 M)))) none)
noncomputable def FX92_register_0 (a0 : Nat) (a1 : Int32) (a2 : Int32) (M : FM) : Option (Int64 × FM) := BX92_register_0 FX92_register_23 FX92_register_28 a0 a1 a2 M
noncomputable def FX92_register (a0 : Nat) (a1 : Int32) (a2 : Int32) (M : FM) : Option (Int64 × FM) := FX92_register_0 a0 a1 a2 M
/-! BoardMachineModel.floating(II)J -/
noncomputable def BX92_floating_2_52 (s0 : Int64) (M : FM) : Option (Int64 × FM) :=
  some (s0, M)
noncomputable def FX92_floating_2_52 (s0 : Int64) (M : FM) : Option (Int64 × FM) := BX92_floating_2_52 s0 M
noncomputable def BX92_floating_2_28 (f0 : Nat → Int32 → FM → Option (Int64 × FM)) (g52 : Int64 → FM → Option (Int64 × FM)) (a0 : Nat) (a1 : Int32) (a2 : Int32) (s0 : Nat) (s1 : Int32) (M : FM) : Option (Int64 × FM) :=
  fi (fm_is M 92 92 s0 = true) (
  let M1 : FM := fm_sI M 296 s0 0 s1
  fi (fm_is M1 92 92 a0 = true) (
  fi ((M1.1 296 a0 0) ≤ 0) (
    fi (fm_is M1 92 92 a0 = true) (
    let x2 : Nat := (M1.2.2 304 a0 0)
    fi (fm_is M1 910 990 x2 = true ∧ fm_in M1 x2 a1 = true) (
    let x3 : Nat := (M1.2.2 3 x2 a1.toNatClampNeg)
    fi (fm_is M1 96 96 x3 = true) (
    (f0 x3 a2 M1).bind fun r4 =>
    g52 r4.1 r4.2) none) none) none) (
    g52 (Int64.ofInt 0) M1)) none) none
noncomputable def FX92_floating_2_28 (a0 : Nat) (a1 : Int32) (a2 : Int32) (s0 : Nat) (s1 : Int32) (M : FM) : Option (Int64 × FM) := BX92_floating_2_28 FX99_get FX92_floating_2_52 a0 a1 a2 s0 s1 M
noncomputable def BX92_floating_2_23 (g28 : Nat → Int32 → Int32 → Nat → Int32 → FM → Option (Int64 × FM)) (a0 : Nat) (a1 : Int32) (a2 : Int32) (s0 : Nat) (M : FM) : Option (Int64 × FM) :=
  g28 a0 a1 a2 s0 (Int32.ofInt 1) M
noncomputable def FX92_floating_2_23 (a0 : Nat) (a1 : Int32) (a2 : Int32) (s0 : Nat) (M : FM) : Option (Int64 × FM) := BX92_floating_2_23 FX92_floating_2_28 a0 a1 a2 s0 M
noncomputable def BX92_floating_2_0 (g23 : Nat → Int32 → Int32 → Nat → FM → Option (Int64 × FM)) (g28 : Nat → Int32 → Int32 → Nat → Int32 → FM → Option (Int64 × FM)) (a0 : Nat) (a1 : Int32) (a2 : Int32) (M : FM) : Option (Int64 × FM) :=
  fi (a1 < 0) (
    g23 a0 a1 a2 a0 M) (
    fi (fm_is M 92 92 a0 = true) (
    fi ((M.1 297 a0 0) ≤ a1) (
      g23 a0 a1 a2 a0 M) (
      fi (a2 < 0) (
        g23 a0 a1 a2 a0 M) (
        fi (a2 ≤ (Int32.ofInt 31)) (
          g28 a0 a1 a2 a0 (Int32.ofInt 0) M) (
          g23 a0 a1 a2 a0 M)))) none)
noncomputable def FX92_floating_2_0 (a0 : Nat) (a1 : Int32) (a2 : Int32) (M : FM) : Option (Int64 × FM) := BX92_floating_2_0 FX92_floating_2_23 FX92_floating_2_28 a0 a1 a2 M
noncomputable def FX92_floating_2 (a0 : Nat) (a1 : Int32) (a2 : Int32) (M : FM) : Option (Int64 × FM) := FX92_floating_2_0 a0 a1 a2 M
/-! BoardMachineModel.control(II)J -/
noncomputable def BX92_control_41 (s0 : Int64) (M : FM) : Option (Int64 × FM) :=
  some (s0, M)
noncomputable def FX92_control_41 (n : Nat) (s0 : Int64) (M : FM) : Option (Int64 × FM) := BX92_control_41 s0 M
noncomputable def BX92_control_0 (f0 : Nat → Int32 → FM → Option (Int32 × FM)) (f1 : Nat → Int32 → FM → Option (FM)) (f2 : Int32 → FM → Option (Int32 × FM)) (f3 : Nat → Int32 → Int32 → FM → Option (Int64 × FM)) (f4 : Nat → Int32 → FM → Option (Int64 × FM)) (g41 : Int64 → FM → Option (Int64 × FM)) (a0 : Nat) (a1 : Int32) (a2 : Int32) (M : FM) : Option (Int64 × FM) :=
  fi (fm_is M 92 92 a0 = true) (
  (f0 a0 a1 M).bind fun r1 =>
  fi (r1.1 = 0) (
    fi (fm_is r1.2 92 92 a0 = true) (
    (f1 a0 a1 r1.2).bind fun M2 =>
    (f2 a2 M2).bind fun r3 =>
    fi (r3.1 = 0) (
      fi (fm_is r3.2 92 92 a0 = true) (
      let x4 : Nat := (r3.2.2.2 305 a0 0)
      fi (fm_is r3.2 910 990 x4 = true ∧ fm_in r3.2 x4 a1 = true) (
      let x5 : Nat := (r3.2.2.2 3 x4 a1.toNatClampNeg)
      fi (fm_is r3.2 95 95 x5 = true) (
      (f4 x5 a2 r3.2).bind fun r6 =>
      g41 r6.1 r6.2) none) none) none) (
      fi (fm_is r3.2 92 92 a0 = true) (
      (f3 a0 a1 a2 r3.2).bind fun r7 =>
      g41 r7.1 r7.2) none)) none) (
    some ((Int64.ofInt 0), r1.2))) none
noncomputable def FX92_control_0 (n : Nat) (a0 : Nat) (a1 : Int32) (a2 : Int32) (M : FM) : Option (Int64 × FM) := BX92_control_0 FX92_isNone (FX92_tell n) FX100_isElsewhere (FX92_elsewhere n) (FX100_peek n) (FX92_control_41 n ) a0 a1 a2 M
noncomputable def FX92_control (n : Nat) (a0 : Nat) (a1 : Int32) (a2 : Int32) (M : FM) : Option (Int64 × FM) := FX92_control_0 n a0 a1 a2 M
/-! BoardMachine.feed(IIIII)I -/
noncomputable def BX1_feed_0 (f0 : Nat → Int32 → FM → Option (FM)) (a0 : Nat) (a1 : Int32) (a2 : Int32) (a3 : Int32) (a4 : Int32) (a5 : Int32) (M : FM) : Option (Int32 × FM) :=
  fi (fm_is M 10 10 a0 = true) (
  let x1 : Nat := (M.2.2 17 a0 0)
  fi (fm_is M 67 67 x1 = true) (
  let x2 : Nat := (M.2.2 191 x1 0)
  fi (fm_is M 86 86 x2 = true) (
  fi (((M.1 262 x2 0) + (Int32.ofInt 20)) ≤ (Int32.ofInt 65536)) (
    fi (fm_is M 10 10 a0 = true) (
    let x3 : Nat := (M.2.2 17 a0 0)
    fi (fm_is M 67 67 x3 = true) (
    let x4 : Nat := (M.2.2 191 x3 0)
    fi (fm_is M 86 86 x4 = true) (
    (f0 x4 a1 M).bind fun M5 =>
    fi (fm_is M5 10 10 a0 = true) (
    let x6 : Nat := (M5.2.2 17 a0 0)
    fi (fm_is M5 67 67 x6 = true) (
    let x7 : Nat := (M5.2.2 191 x6 0)
    fi (fm_is M5 86 86 x7 = true) (
    (f0 x7 a2 M5).bind fun M8 =>
    fi (fm_is M8 10 10 a0 = true) (
    let x9 : Nat := (M8.2.2 17 a0 0)
    fi (fm_is M8 67 67 x9 = true) (
    let x10 : Nat := (M8.2.2 191 x9 0)
    fi (fm_is M8 86 86 x10 = true) (
    (f0 x10 a3 M8).bind fun M11 =>
    fi (fm_is M11 10 10 a0 = true) (
    let x12 : Nat := (M11.2.2 17 a0 0)
    fi (fm_is M11 67 67 x12 = true) (
    let x13 : Nat := (M11.2.2 191 x12 0)
    fi (fm_is M11 86 86 x13 = true) (
    (f0 x13 a4 M11).bind fun M14 =>
    fi (fm_is M14 10 10 a0 = true) (
    let x15 : Nat := (M14.2.2 17 a0 0)
    fi (fm_is M14 67 67 x15 = true) (
    let x16 : Nat := (M14.2.2 191 x15 0)
    fi (fm_is M14 86 86 x16 = true) (
    (f0 x16 a5 M14).bind fun M17 =>
    fi (fm_is M17 10 10 a0 = true) (
    let x18 : Nat := (M17.2.2 17 a0 0)
    fi (fm_is M17 67 67 x18 = true) (
    let x19 : Nat := (M17.2.2 191 x18 0)
    fi (fm_is M17 86 86 x19 = true) (
    some ((M17.1 262 x19 0), M17)) none) none) none) none) none) none) none) none) none) none) none) none) none) none) none) none) none) none) (
    none)) none) none) none
noncomputable def FX1_feed_0 (n : Nat) (a0 : Nat) (a1 : Int32) (a2 : Int32) (a3 : Int32) (a4 : Int32) (a5 : Int32) (M : FM) : Option (Int32 × FM) := BX1_feed_0 (FX3_addNumber n) a0 a1 a2 a3 a4 a5 M
noncomputable def FX1_feed (n : Nat) (a0 : Nat) (a1 : Int32) (a2 : Int32) (a3 : Int32) (a4 : Int32) (a5 : Int32) (M : FM) : Option (Int32 × FM) := FX1_feed_0 n a0 a1 a2 a3 a4 a5 M
noncomputable def TX1_feed (n : Nat) (a0 : Nat) (a1 : Int32) (a2 : Int32) (a3 : Int32) (a4 : Int32) (a5 : Int32) (M : FM) : Option (Nat × FM) :=
  fi (fm_is M 10 10 a0 = true) (
  let x1 : Nat := (M.2.2 17 a0 0)
  fi (fm_is M 67 67 x1 = true) (
  let x2 : Nat := (M.2.2 191 x1 0)
  fi (fm_is M 86 86 x2 = true) (
  fi (((M.1 262 x2 0) + (Int32.ofInt 20)) ≤ (Int32.ofInt 65536)) (
    none) (
    some (103, fm_exc M))) none) none) none
/-! BoardMachineLaw.feed(LBoardMachine;IIIII[J)I -/
noncomputable def BX0_feed_0 (f0 : Nat → Int32 → Int32 → Int32 → Int32 → Int32 → FM → Option (Int32 × FM)) (a0 : Nat) (a1 : Int32) (a2 : Int32) (a3 : Int32) (a4 : Int32) (a5 : Int32) (a6 : Nat) (M : FM) : Option (Int32 × FM) :=
  fi (fm_is M 10 10 a0 = true) (
  (f0 a0 a1 a2 a3 a4 a5 M).bind fun r1 =>
  fi (fm_is r1.2 902 902 a6 = true ∧ fm_in r1.2 a6 (Int32.ofInt 0) = true) (
  let M2 : FM := fm_sL r1.2 3 a6 (Int32.ofInt 0).toNatClampNeg r1.1.toInt64
  some ((Int32.ofInt 0), M2)) none) none
noncomputable def FX0_feed_0 (n : Nat) (a0 : Nat) (a1 : Int32) (a2 : Int32) (a3 : Int32) (a4 : Int32) (a5 : Int32) (a6 : Nat) (M : FM) : Option (Int32 × FM) := BX0_feed_0 (FX1_feed n) a0 a1 a2 a3 a4 a5 a6 M
noncomputable def FX0_feed (n : Nat) (a0 : Nat) (a1 : Int32) (a2 : Int32) (a3 : Int32) (a4 : Int32) (a5 : Int32) (a6 : Nat) (M : FM) : Option (Int32 × FM) := FX0_feed_0 n a0 a1 a2 a3 a4 a5 a6 M
noncomputable def Fh_law_feed (n : Nat) (a0 : Nat) (a1 : Int32) (a2 : Int32) (a3 : Int32) (a4 : Int32) (a5 : Int32) (a6 : Nat) (M : FM) : Option (Int32 × FM) := (FX0_feed n a0 a1 a2 a3 a4 a5 a6 M).or ((TX1_feed n a0 a1 a2 a3 a4 a5 M).bind fun q => fi (q.1 = 103) (some ((Int32.ofInt 1), q.2)) none)
/-! BoardMachine.sum(JJ)J -/
noncomputable def BX1_sum_72 (f3 : Nat → Int64 → Int32 → FM → Option (Int64 × FM)) (k72 : Nat → Int64 → Int64 → Int64 → FM → Option (Int64 × FM)) (a0 : Nat) (a3 : Int64) (a5 : Int64) (a7 : Int64) (M : FM) : Option (Int64 × FM) :=
  fi (0 ≤ (lg_cmp a7 a3)) (
    some (a5, M)) (
    fi (fm_is M 10 10 a0 = true) (
    let x1 : Nat := (M.2.2 17 a0 0)
    fi (fm_is M 67 67 x1 = true) (
    let x2 : Nat := (M.2.2 189 x1 0)
    fi (fm_is M 11 11 x2 = true) (
    let x3 : Nat := (M.2.2 18 x2 0)
    fi (fm_is M 73 73 x3 = true) (
    (f3 x3 a7 (Int32.ofInt 1) M).bind fun r4 =>
    let x5 : Int64 := (((Int64.ofInt 31) * a5) + r4.1)
    let x6 : Int64 := (a7 + (Int64.ofInt 1))
    k72 a0 a3 x5 x6 r4.2) none) none) none) none)
noncomputable def FX1_sum_72 (n : Nat) (k72 : Nat → Int64 → Int64 → Int64 → FM → Option (Int64 × FM)) (a0 : Nat) (a3 : Int64) (a5 : Int64) (a7 : Int64) (M : FM) : Option (Int64 × FM) := BX1_sum_72 FX11_load k72 a0 a3 a5 a7 M
noncomputable def BX1_sum_63 (f1 : Int32 → FM → Option (FM)) (k72 : Nat → Int64 → Int64 → Int64 → FM → Option (Int64 × FM)) (a0 : Nat) (a1 : Int64) (a3 : Int64) (s0 : Int32) (M : FM) : Option (Int64 × FM) :=
  (f1 s0 M).bind fun M1 =>
  k72 a0 a3 (Int64.ofInt 0) a1 M1
noncomputable def FX1_sum_63 (n : Nat) (k72 : Nat → Int64 → Int64 → Int64 → FM → Option (Int64 × FM)) (a0 : Nat) (a1 : Int64) (a3 : Int64) (s0 : Int32) (M : FM) : Option (Int64 × FM) := BX1_sum_63 FX1_there k72 a0 a1 a3 s0 M
noncomputable def BX1_sum_58 (g63 : Nat → Int64 → Int64 → Int32 → FM → Option (Int64 × FM)) (a0 : Nat) (a1 : Int64) (a3 : Int64) (M : FM) : Option (Int64 × FM) :=
  g63 a0 a1 a3 (Int32.ofInt 1) M
noncomputable def FX1_sum_58 (n : Nat) (k72 : Nat → Int64 → Int64 → Int64 → FM → Option (Int64 × FM)) (a0 : Nat) (a1 : Int64) (a3 : Int64) (M : FM) : Option (Int64 × FM) := BX1_sum_58 (FX1_sum_63 n k72) a0 a1 a3 M
noncomputable def BX1_sum_29 (f0 : Int32 → FM → Option (FM)) (f2 : Nat → Int64 → Int64 → FM → Option (Int32 × FM)) (g58 : Nat → Int64 → Int64 → FM → Option (Int64 × FM)) (g63 : Nat → Int64 → Int64 → Int32 → FM → Option (Int64 × FM)) (a0 : Nat) (a1 : Int64) (a3 : Int64) (s0 : Int32) (M : FM) : Option (Int64 × FM) :=
  (f0 s0 M).bind fun M1 =>
  fi ((lg_cmp a3 a1) = 0) (
    g58 a0 a1 a3 M1) (
    fi (fm_is M1 10 10 a0 = true) (
    let x2 : Nat := (M1.2.2 17 a0 0)
    fi (fm_is M1 67 67 x2 = true) (
    let x3 : Nat := (M1.2.2 189 x2 0)
    fi (fm_is M1 11 11 x3 = true) (
    let x4 : Nat := (M1.2.2 18 x3 0)
    fi (fm_is M1 73 73 x4 = true) (
    (f2 x4 a1 (a3 - a1) M1).bind fun r5 =>
    fi (r5.1 = 0) (
      g63 a0 a1 a3 (Int32.ofInt 0) r5.2) (
      g58 a0 a1 a3 r5.2)) none) none) none) none)
noncomputable def FX1_sum_29 (n : Nat) (k72 : Nat → Int64 → Int64 → Int64 → FM → Option (Int64 × FM)) (a0 : Nat) (a1 : Int64) (a3 : Int64) (s0 : Int32) (M : FM) : Option (Int64 × FM) := BX1_sum_29 FX1_proper FX11_has (FX1_sum_58 n k72) (FX1_sum_63 n k72) a0 a1 a3 s0 M
noncomputable def BX1_sum_28 (g29 : Nat → Int64 → Int64 → Int32 → FM → Option (Int64 × FM)) (a0 : Nat) (a1 : Int64) (a3 : Int64) (M : FM) : Option (Int64 × FM) :=
  g29 a0 a1 a3 (Int32.ofInt 0) M
noncomputable def FX1_sum_28 (n : Nat) (k72 : Nat → Int64 → Int64 → Int64 → FM → Option (Int64 × FM)) (a0 : Nat) (a1 : Int64) (a3 : Int64) (M : FM) : Option (Int64 × FM) := BX1_sum_28 (FX1_sum_29 n k72) a0 a1 a3 M
noncomputable def BX1_sum_0 (g28 : Nat → Int64 → Int64 → FM → Option (Int64 × FM)) (g29 : Nat → Int64 → Int64 → Int32 → FM → Option (Int64 × FM)) (a0 : Nat) (a1 : Int64) (a3 : Int64) (M : FM) : Option (Int64 × FM) :=
  fi ((lg_cmp a3 a1) < 0) (
    g28 a0 a1 a3 M) (
    fi ((lg_cmp (a3 - a1) (Int64.ofInt 0)) < 0) (
      g28 a0 a1 a3 M) (
      fi (0 < (lg_cmp (a3 - a1) (Int64.ofInt 65536))) (
        g28 a0 a1 a3 M) (
        g29 a0 a1 a3 (Int32.ofInt 1) M)))
noncomputable def FX1_sum_0 (n : Nat) (k72 : Nat → Int64 → Int64 → Int64 → FM → Option (Int64 × FM)) (a0 : Nat) (a1 : Int64) (a3 : Int64) (M : FM) : Option (Int64 × FM) := BX1_sum_0 (FX1_sum_28 n k72) (FX1_sum_29 n k72) a0 a1 a3 M
noncomputable def FX1_sum_L72 (n : Nat) : Nat → Nat → Int64 → Int64 → Int64 → FM → Option (Int64 × FM)
  | 0 => fun _ _ _ _ _ => none
  | j + 1 => FX1_sum_72 n (FX1_sum_L72 n j)
noncomputable def FX1_sum (n : Nat) (a0 : Nat) (a1 : Int64) (a3 : Int64) (M : FM) : Option (Int64 × FM) := FX1_sum_0 n (FX1_sum_L72 n n) a0 a1 a3 M
noncomputable def TX1_sum (n : Nat) (a0 : Nat) (a1 : Int64) (a3 : Int64) (M : FM) : Option (Nat × FM) :=
  fi ((lg_cmp a3 a1) < 0) (
    (TX1_proper n (Int32.ofInt 0) M).or ((FX1_proper (Int32.ofInt 0) M).bind fun M1 =>
    fi ((lg_cmp a3 a1) = 0) (
      (TX1_there n (Int32.ofInt 1) M1).or ((FX1_there (Int32.ofInt 1) M1).bind fun M2 =>
      none)) (
      fi (fm_is M1 10 10 a0 = true) (
      let x3 : Nat := (M1.2.2 17 a0 0)
      fi (fm_is M1 67 67 x3 = true) (
      let x4 : Nat := (M1.2.2 189 x3 0)
      fi (fm_is M1 11 11 x4 = true) (
      let x5 : Nat := (M1.2.2 18 x4 0)
      fi (fm_is M1 73 73 x5 = true) (
      (FX11_has x5 a1 (a3 - a1) M1).bind fun r6 =>
      fi (r6.1 = 0) (
        (TX1_there n (Int32.ofInt 0) r6.2).or ((FX1_there (Int32.ofInt 0) r6.2).bind fun M7 =>
        none)) (
        (TX1_there n (Int32.ofInt 1) r6.2).or ((FX1_there (Int32.ofInt 1) r6.2).bind fun M8 =>
        none))) none) none) none) none))) (
    fi ((lg_cmp (a3 - a1) (Int64.ofInt 0)) < 0) (
      (TX1_proper n (Int32.ofInt 0) M).or ((FX1_proper (Int32.ofInt 0) M).bind fun M9 =>
      fi ((lg_cmp a3 a1) = 0) (
        (TX1_there n (Int32.ofInt 1) M9).or ((FX1_there (Int32.ofInt 1) M9).bind fun M10 =>
        none)) (
        fi (fm_is M9 10 10 a0 = true) (
        let x11 : Nat := (M9.2.2 17 a0 0)
        fi (fm_is M9 67 67 x11 = true) (
        let x12 : Nat := (M9.2.2 189 x11 0)
        fi (fm_is M9 11 11 x12 = true) (
        let x13 : Nat := (M9.2.2 18 x12 0)
        fi (fm_is M9 73 73 x13 = true) (
        (FX11_has x13 a1 (a3 - a1) M9).bind fun r14 =>
        fi (r14.1 = 0) (
          (TX1_there n (Int32.ofInt 0) r14.2).or ((FX1_there (Int32.ofInt 0) r14.2).bind fun M15 =>
          none)) (
          (TX1_there n (Int32.ofInt 1) r14.2).or ((FX1_there (Int32.ofInt 1) r14.2).bind fun M16 =>
          none))) none) none) none) none))) (
      fi (0 < (lg_cmp (a3 - a1) (Int64.ofInt 65536))) (
        (TX1_proper n (Int32.ofInt 0) M).or ((FX1_proper (Int32.ofInt 0) M).bind fun M17 =>
        fi ((lg_cmp a3 a1) = 0) (
          (TX1_there n (Int32.ofInt 1) M17).or ((FX1_there (Int32.ofInt 1) M17).bind fun M18 =>
          none)) (
          fi (fm_is M17 10 10 a0 = true) (
          let x19 : Nat := (M17.2.2 17 a0 0)
          fi (fm_is M17 67 67 x19 = true) (
          let x20 : Nat := (M17.2.2 189 x19 0)
          fi (fm_is M17 11 11 x20 = true) (
          let x21 : Nat := (M17.2.2 18 x20 0)
          fi (fm_is M17 73 73 x21 = true) (
          (FX11_has x21 a1 (a3 - a1) M17).bind fun r22 =>
          fi (r22.1 = 0) (
            (TX1_there n (Int32.ofInt 0) r22.2).or ((FX1_there (Int32.ofInt 0) r22.2).bind fun M23 =>
            none)) (
            (TX1_there n (Int32.ofInt 1) r22.2).or ((FX1_there (Int32.ofInt 1) r22.2).bind fun M24 =>
            none))) none) none) none) none))) (
        (TX1_proper n (Int32.ofInt 1) M).or ((FX1_proper (Int32.ofInt 1) M).bind fun M25 =>
        fi ((lg_cmp a3 a1) = 0) (
          (TX1_there n (Int32.ofInt 1) M25).or ((FX1_there (Int32.ofInt 1) M25).bind fun M26 =>
          none)) (
          fi (fm_is M25 10 10 a0 = true) (
          let x27 : Nat := (M25.2.2 17 a0 0)
          fi (fm_is M25 67 67 x27 = true) (
          let x28 : Nat := (M25.2.2 189 x27 0)
          fi (fm_is M25 11 11 x28 = true) (
          let x29 : Nat := (M25.2.2 18 x28 0)
          fi (fm_is M25 73 73 x29 = true) (
          (FX11_has x29 a1 (a3 - a1) M25).bind fun r30 =>
          fi (r30.1 = 0) (
            (TX1_there n (Int32.ofInt 0) r30.2).or ((FX1_there (Int32.ofInt 0) r30.2).bind fun M31 =>
            none)) (
            (TX1_there n (Int32.ofInt 1) r30.2).or ((FX1_there (Int32.ofInt 1) r30.2).bind fun M32 =>
            none))) none) none) none) none)))))
/-! BoardMachineLaw.sum(LBoardMachine;JJ[J)I -/
noncomputable def BX0_sum_0 (f0 : Nat → Int64 → Int64 → FM → Option (Int64 × FM)) (a0 : Nat) (a1 : Int64) (a3 : Int64) (a5 : Nat) (M : FM) : Option (Int32 × FM) :=
  fi (fm_is M 10 10 a0 = true) (
  (f0 a0 a1 a3 M).bind fun r1 =>
  fi (fm_is r1.2 902 902 a5 = true ∧ fm_in r1.2 a5 (Int32.ofInt 0) = true) (
  let M2 : FM := fm_sL r1.2 3 a5 (Int32.ofInt 0).toNatClampNeg r1.1
  some ((Int32.ofInt 0), M2)) none) none
noncomputable def FX0_sum_0 (n : Nat) (a0 : Nat) (a1 : Int64) (a3 : Int64) (a5 : Nat) (M : FM) : Option (Int32 × FM) := BX0_sum_0 (FX1_sum n) a0 a1 a3 a5 M
noncomputable def FX0_sum (n : Nat) (a0 : Nat) (a1 : Int64) (a3 : Int64) (a5 : Nat) (M : FM) : Option (Int32 × FM) := FX0_sum_0 n a0 a1 a3 a5 M
noncomputable def Fh_law_sum (n : Nat) (a0 : Nat) (a1 : Int64) (a3 : Int64) (a5 : Nat) (M : FM) : Option (Int32 × FM) := (FX0_sum n a0 a1 a3 a5 M).or ((TX1_sum n a0 a1 a3 M).bind fun q => fi (q.1 = 102) (some ((Int32.ofInt 1), q.2)) (fi (q.1 = 104) (some ((Int32.ofInt 2), q.2)) none))
/-! BoardMachineModel$Signals.out(J)I -/
noncomputable def BX96_out_48 (s0 : Int32) (M : FM) : Option (Int32 × FM) :=
  some (s0, M)
noncomputable def FX96_out_48 (s0 : Int32) (M : FM) : Option (Int32 × FM) := BX96_out_48 s0 M
noncomputable def BX96_out_33 (g48 : Int32 → FM → Option (Int32 × FM)) (M : FM) : Option (Int32 × FM) :=
  g48 (Int32.ofInt (-1)) M
noncomputable def FX96_out_33 (M : FM) : Option (Int32 × FM) := BX96_out_33 FX96_out_48 M
noncomputable def BX96_out_0 (g33 : FM → Option (Int32 × FM)) (g48 : Int32 → FM → Option (Int32 × FM)) (a0 : Nat) (a1 : Int64) (M : FM) : Option (Int32 × FM) :=
  fi (fm_is M 99 99 a0 = true) (
  let M1 : FM := fm_sI M 394 a0 0 (Int32.ofInt 0)
  fi ((lg_cmp a1 (Int64.ofInt 0)) < 0) (
    g33 M1) (
    fi (fm_is M1 99 99 a0 = true) (
    fi (0 ≤ (lg_cmp a1 (M1.2.1 413 a0 0))) (
      g33 M1) (
      fi (fm_is M1 99 99 a0 = true) (
      fi (0 ≤ (lg_cmp a1 ((M1.2.1 413 a0 0) - (Int64.ofInt 4096)))) (
        fi (fm_is M1 99 99 a0 = true) (
        fi ((Int64.ofInt 4096) = 0) none (
        let x2 : Int32 := (a1 - a1 / (Int64.ofInt 4096) * (Int64.ofInt 4096)).toInt32
        let x3 : Nat := (M1.2.2 412 a0 0)
        fi (fm_is M1 901 901 x3 = true ∧ fm_in M1 x3 x2 = true) (
        g48 (M1.1 3 x3 x2.toNatClampNeg) M1) none)) none) (
        g33 M1)) none)) none)) none
noncomputable def FX96_out_0 (a0 : Nat) (a1 : Int64) (M : FM) : Option (Int32 × FM) := BX96_out_0 FX96_out_33 FX96_out_48 a0 a1 M
noncomputable def FX96_out (a0 : Nat) (a1 : Int64) (M : FM) : Option (Int32 × FM) := FX96_out_0 a0 a1 M
/-! BoardMachineModel.out(J)I -/
noncomputable def BX92_out_0 (f0 : Nat → Int64 → FM → Option (Int32 × FM)) (a0 : Nat) (a1 : Int64) (M : FM) : Option (Int32 × FM) :=
  fi (fm_is M 92 92 a0 = true) (
  let M1 : FM := fm_sI M 296 a0 0 (Int32.ofInt 0)
  fi (fm_is M1 92 92 a0 = true) (
  let x2 : Nat := (M1.2.2 301 a0 0)
  fi (fm_is M1 99 99 x2 = true) (
  (f0 x2 a1 M1).bind fun r3 =>
  some (r3.1, r3.2)) none) none) none
noncomputable def FX92_out_0 (a0 : Nat) (a1 : Int64) (M : FM) : Option (Int32 × FM) := BX92_out_0 FX96_out a0 a1 M
noncomputable def FX92_out (a0 : Nat) (a1 : Int64) (M : FM) : Option (Int32 × FM) := FX92_out_0 a0 a1 M
/-! BoardMachineModel.word(J)J -/
noncomputable def BX92_word_40 (s0 : Int64) (M : FM) : Option (Int64 × FM) :=
  some (s0, M)
noncomputable def FX92_word_40 (n : Nat) (s0 : Int64) (M : FM) : Option (Int64 × FM) := BX92_word_40 s0 M
noncomputable def BX92_word_16 (f1 : Nat → Int64 → Int32 → FM → Option (Int64 × FM)) (g40 : Int64 → FM → Option (Int64 × FM)) (a0 : Nat) (a1 : Int64) (s0 : Nat) (s1 : Int32) (M : FM) : Option (Int64 × FM) :=
  fi (fm_is M 92 92 s0 = true) (
  let M1 : FM := fm_sI M 296 s0 0 s1
  fi (fm_is M1 92 92 a0 = true) (
  fi ((M1.1 296 a0 0) ≤ 0) (
    fi (fm_is M1 92 92 a0 = true) (
    let x2 : Nat := (M1.2.2 298 a0 0)
    fi (fm_is M1 98 98 x2 = true) (
    (f1 x2 a1 (Int32.ofInt 8) M1).bind fun r3 =>
    g40 r3.1 r3.2) none) none) (
    g40 (Int64.ofInt 0) M1)) none) none
noncomputable def FX92_word_16 (n : Nat) (a0 : Nat) (a1 : Int64) (s0 : Nat) (s1 : Int32) (M : FM) : Option (Int64 × FM) := BX92_word_16 (FX93_number n) (FX92_word_40 n ) a0 a1 s0 s1 M
noncomputable def BX92_word_0 (f0 : Int64 → Int64 → FM → Option (Int32 × FM)) (g16 : Nat → Int64 → Nat → Int32 → FM → Option (Int64 × FM)) (a0 : Nat) (a1 : Int64) (M : FM) : Option (Int64 × FM) :=
  (f0 a1 (Int64.ofInt 8) M).bind fun r1 =>
  fi (r1.1 = 0) (
    g16 a0 a1 a0 (Int32.ofInt 1) r1.2) (
    g16 a0 a1 a0 (Int32.ofInt 0) r1.2)
noncomputable def FX92_word_0 (n : Nat) (a0 : Nat) (a1 : Int64) (M : FM) : Option (Int64 × FM) := BX92_word_0 FX93_areBytes (FX92_word_16 n ) a0 a1 M
noncomputable def FX92_word (n : Nat) (a0 : Nat) (a1 : Int64) (M : FM) : Option (Int64 × FM) := FX92_word_0 n a0 a1 M
/-! BoardMachineModel.begins()Z -/
noncomputable def BX92_begins_80 (s0 : Int32) (M : FM) : Option (Int32 × FM) :=
  fi (s0 = 0 ∨ s0 = 1) (some (s0, M)) none
noncomputable def FX92_begins_80 (s0 : Int32) (M : FM) : Option (Int32 × FM) := BX92_begins_80 s0 M
noncomputable def BX92_begins_79 (g80 : Int32 → FM → Option (Int32 × FM)) (M : FM) : Option (Int32 × FM) :=
  g80 (Int32.ofInt 0) M
noncomputable def FX92_begins_79 (M : FM) : Option (Int32 × FM) := BX92_begins_79 FX92_begins_80 M
noncomputable def BX92_begins_0 (g79 : FM → Option (Int32 × FM)) (g80 : Int32 → FM → Option (Int32 × FM)) (a0 : Nat) (M : FM) : Option (Int32 × FM) :=
  fi (fm_is M 92 92 a0 = true) (
  let x1 : Nat := (M.2.2 308 a0 0)
  fi (fm_is M 901 901 x1 = true ∧ fm_in M x1 (Int32.ofInt 0) = true) (
  fi ((M.1 3 x1 (Int32.ofInt 0).toNatClampNeg) = (Int32.ofInt 127)) (
    fi (fm_is M 92 92 a0 = true) (
    let x2 : Nat := (M.2.2 308 a0 0)
    fi (fm_is M 901 901 x2 = true ∧ fm_in M x2 (Int32.ofInt 1) = true) (
    fi ((M.1 3 x2 (Int32.ofInt 1).toNatClampNeg) = (Int32.ofInt 69)) (
      fi (fm_is M 92 92 a0 = true) (
      let x3 : Nat := (M.2.2 308 a0 0)
      fi (fm_is M 901 901 x3 = true ∧ fm_in M x3 (Int32.ofInt 2) = true) (
      fi ((M.1 3 x3 (Int32.ofInt 2).toNatClampNeg) = (Int32.ofInt 76)) (
        fi (fm_is M 92 92 a0 = true) (
        let x4 : Nat := (M.2.2 308 a0 0)
        fi (fm_is M 901 901 x4 = true ∧ fm_in M x4 (Int32.ofInt 3) = true) (
        fi ((M.1 3 x4 (Int32.ofInt 3).toNatClampNeg) = (Int32.ofInt 70)) (
          fi (fm_is M 92 92 a0 = true) (
          let x5 : Nat := (M.2.2 308 a0 0)
          fi (fm_is M 901 901 x5 = true ∧ fm_in M x5 (Int32.ofInt 4) = true) (
          fi ((M.1 3 x5 (Int32.ofInt 4).toNatClampNeg) = (Int32.ofInt 2)) (
            fi (fm_is M 92 92 a0 = true) (
            let x6 : Nat := (M.2.2 308 a0 0)
            fi (fm_is M 901 901 x6 = true ∧ fm_in M x6 (Int32.ofInt 5) = true) (
            fi ((M.1 3 x6 (Int32.ofInt 5).toNatClampNeg) = (Int32.ofInt 1)) (
              fi (fm_is M 92 92 a0 = true) (
              let x7 : Nat := (M.2.2 308 a0 0)
              fi (fm_is M 901 901 x7 = true ∧ fm_in M x7 (Int32.ofInt 6) = true) (
              fi ((M.1 3 x7 (Int32.ofInt 6).toNatClampNeg) = (Int32.ofInt 1)) (
                g80 (Int32.ofInt 1) M) (
                g79 M)) none) none) (
              g79 M)) none) none) (
            g79 M)) none) none) (
          g79 M)) none) none) (
        g79 M)) none) none) (
      g79 M)) none) none) (
    g79 M)) none) none
noncomputable def FX92_begins_0 (a0 : Nat) (M : FM) : Option (Int32 × FM) := BX92_begins_0 FX92_begins_79 FX92_begins_80 a0 M
noncomputable def FX92_begins (a0 : Nat) (M : FM) : Option (Int32 × FM) := FX92_begins_0 a0 M
/-! BoardMachineModel.number(II)J -/
noncomputable def BX92_number_7 (k7 : Nat → Int32 → Int64 → Int32 → FM → Option (Int64 × FM)) (a0 : Nat) (a1 : Int32) (a3 : Int64) (a5 : Int32) (M : FM) : Option (Int64 × FM) :=
  fi (a5 < 0) (
    some (a3, M)) (
    fi (fm_is M 92 92 a0 = true) (
    let x1 : Int32 := (a1 + a5)
    let x2 : Nat := (M.2.2 308 a0 0)
    fi (fm_is M 901 901 x2 = true ∧ fm_in M x2 x1 = true) (
    let x3 : Int64 := ((a3 <<< ((Int32.ofInt 8).toInt64 &&& 63)) ||| (M.1 3 x2 x1.toNatClampNeg).toInt64)
    let x4 : Int32 := a5 + (Int32.ofInt (-1))
    k7 a0 a1 x3 x4 M) none) none)
noncomputable def FX92_number_7 (n : Nat) (k7 : Nat → Int32 → Int64 → Int32 → FM → Option (Int64 × FM)) (a0 : Nat) (a1 : Int32) (a3 : Int64) (a5 : Int32) (M : FM) : Option (Int64 × FM) := BX92_number_7 k7 a0 a1 a3 a5 M
noncomputable def BX92_number_0 (k7 : Nat → Int32 → Int64 → Int32 → FM → Option (Int64 × FM)) (a0 : Nat) (a1 : Int32) (a2 : Int32) (M : FM) : Option (Int64 × FM) :=
  let x1 : Int32 := (a2 - (Int32.ofInt 1))
  k7 a0 a1 (Int64.ofInt 0) x1 M
noncomputable def FX92_number_0 (n : Nat) (k7 : Nat → Int32 → Int64 → Int32 → FM → Option (Int64 × FM)) (a0 : Nat) (a1 : Int32) (a2 : Int32) (M : FM) : Option (Int64 × FM) := BX92_number_0 k7 a0 a1 a2 M
noncomputable def FX92_number_L7 (n : Nat) : Nat → Nat → Int32 → Int64 → Int32 → FM → Option (Int64 × FM)
  | 0 => fun _ _ _ _ _ => none
  | j + 1 => FX92_number_7 n (FX92_number_L7 n j)
noncomputable def FX92_number (n : Nat) (a0 : Nat) (a1 : Int32) (a2 : Int32) (M : FM) : Option (Int64 × FM) := FX92_number_0 n (FX92_number_L7 n n) a0 a1 a2 M
/-! BoardMachineModel.isOnTape(JJ)Z -/
noncomputable def BX92_isOnTape_39 (s0 : Int32) (M : FM) : Option (Int32 × FM) :=
  fi (s0 = 0 ∨ s0 = 1) (some (s0, M)) none
noncomputable def FX92_isOnTape_39 (s0 : Int32) (M : FM) : Option (Int32 × FM) := BX92_isOnTape_39 s0 M
noncomputable def BX92_isOnTape_38 (g39 : Int32 → FM → Option (Int32 × FM)) (M : FM) : Option (Int32 × FM) :=
  g39 (Int32.ofInt 0) M
noncomputable def FX92_isOnTape_38 (M : FM) : Option (Int32 × FM) := BX92_isOnTape_38 FX92_isOnTape_39 M
noncomputable def BX92_isOnTape_0 (g38 : FM → Option (Int32 × FM)) (g39 : Int32 → FM → Option (Int32 × FM)) (a0 : Nat) (a1 : Int64) (a3 : Int64) (M : FM) : Option (Int32 × FM) :=
  fi ((lg_cmp a1 (Int64.ofInt 0)) < 0) (
    g38 M) (
    fi ((lg_cmp a3 (Int64.ofInt 0)) < 0) (
      g38 M) (
      fi (fm_is M 92 92 a0 = true) (
      fi (0 < (lg_cmp a1 ((M.1 309 a0 0).toInt64))) (
        g38 M) (
        fi (fm_is M 92 92 a0 = true) (
        fi (0 < (lg_cmp a3 ((M.1 309 a0 0).toInt64 - a1))) (
          g38 M) (
          g39 (Int32.ofInt 1) M)) none)) none))
noncomputable def FX92_isOnTape_0 (a0 : Nat) (a1 : Int64) (a3 : Int64) (M : FM) : Option (Int32 × FM) := BX92_isOnTape_0 FX92_isOnTape_38 FX92_isOnTape_39 a0 a1 a3 M
noncomputable def FX92_isOnTape (a0 : Nat) (a1 : Int64) (a3 : Int64) (M : FM) : Option (Int32 × FM) := FX92_isOnTape_0 a0 a1 a3 M
/-! BoardMachineModel.isAbove(JJ)Z -/
noncomputable def BX92_isAbove_50 (s0 : Int32) (M : FM) : Option (Int32 × FM) :=
  fi (s0 = 0 ∨ s0 = 1) (some (s0, M)) none
noncomputable def FX92_isAbove_50 (s0 : Int32) (M : FM) : Option (Int32 × FM) := BX92_isAbove_50 s0 M
noncomputable def BX92_isAbove_22 (g50 : Int32 → FM → Option (Int32 × FM)) (a0 : Int64) (a2 : Int64) (s0 : Int32) (s1 : Int32) (M : FM) : Option (Int32 × FM) :=
  fi (s0 = s1) (
    fi ((lg_cmp a0 a2) ≤ 0) (
      g50 (Int32.ofInt 0) M) (
      g50 (Int32.ofInt 1) M)) (
    fi (0 ≤ (lg_cmp a0 (Int64.ofInt 0))) (
      g50 (Int32.ofInt 0) M) (
      g50 (Int32.ofInt 1) M))
noncomputable def FX92_isAbove_22 (a0 : Int64) (a2 : Int64) (s0 : Int32) (s1 : Int32) (M : FM) : Option (Int32 × FM) := BX92_isAbove_22 FX92_isAbove_50 a0 a2 s0 s1 M
noncomputable def BX92_isAbove_11 (g22 : Int64 → Int64 → Int32 → Int32 → FM → Option (Int32 × FM)) (a0 : Int64) (a2 : Int64) (s0 : Int32) (M : FM) : Option (Int32 × FM) :=
  fi (0 ≤ (lg_cmp a2 (Int64.ofInt 0))) (
    g22 a0 a2 s0 (Int32.ofInt 0) M) (
    g22 a0 a2 s0 (Int32.ofInt 1) M)
noncomputable def FX92_isAbove_11 (a0 : Int64) (a2 : Int64) (s0 : Int32) (M : FM) : Option (Int32 × FM) := BX92_isAbove_11 FX92_isAbove_22 a0 a2 s0 M
noncomputable def BX92_isAbove_0 (g11 : Int64 → Int64 → Int32 → FM → Option (Int32 × FM)) (a0 : Int64) (a2 : Int64) (M : FM) : Option (Int32 × FM) :=
  fi (0 ≤ (lg_cmp a0 (Int64.ofInt 0))) (
    g11 a0 a2 (Int32.ofInt 0) M) (
    g11 a0 a2 (Int32.ofInt 1) M)
noncomputable def FX92_isAbove_0 (a0 : Int64) (a2 : Int64) (M : FM) : Option (Int32 × FM) := BX92_isAbove_0 FX92_isAbove_11 a0 a2 M
noncomputable def FX92_isAbove (a0 : Int64) (a2 : Int64) (M : FM) : Option (Int32 × FM) := FX92_isAbove_0 a0 a2 M
/-! BoardMachineModel.partFault(II)I -/
noncomputable def BX92_partFault_234 (s0 : Int32) (M : FM) : Option (Int32 × FM) :=
  some (s0, M)
noncomputable def FX92_partFault_234 (n : Nat) (k111 : Nat → Int32 → Int64 → Int64 → Int32 → Int32 → FM → Option (Int32 × FM)) (s0 : Int32) (M : FM) : Option (Int32 × FM) := BX92_partFault_234 s0 M
noncomputable def BX92_partFault_211 (k111 : Nat → Int32 → Int64 → Int64 → Int32 → Int32 → FM → Option (Int32 × FM)) (a0 : Nat) (a2 : Int32) (a3 : Int64) (a7 : Int64) (a10 : Int32) (s0 : Int32) (M : FM) : Option (Int32 × FM) :=
  let x1 : Int32 := (a10 + (Int32.ofInt 56))
  k111 a0 a2 a3 a7 s0 x1 M
noncomputable def FX92_partFault_211 (n : Nat) (k111 : Nat → Int32 → Int64 → Int64 → Int32 → Int32 → FM → Option (Int32 × FM)) (a0 : Nat) (a2 : Int32) (a3 : Int64) (a7 : Int64) (a10 : Int32) (s0 : Int32) (M : FM) : Option (Int32 × FM) := BX92_partFault_211 k111 a0 a2 a3 a7 a10 s0 M
noncomputable def BX92_partFault_210 (g211 : Nat → Int32 → Int64 → Int64 → Int32 → Int32 → FM → Option (Int32 × FM)) (a0 : Nat) (a2 : Int32) (a3 : Int64) (a7 : Int64) (a10 : Int32) (M : FM) : Option (Int32 × FM) :=
  g211 a0 a2 a3 a7 a10 (Int32.ofInt 0) M
noncomputable def FX92_partFault_210 (n : Nat) (k111 : Nat → Int32 → Int64 → Int64 → Int32 → Int32 → FM → Option (Int32 × FM)) (a0 : Nat) (a2 : Int32) (a3 : Int64) (a7 : Int64) (a10 : Int32) (M : FM) : Option (Int32 × FM) := BX92_partFault_210 (FX92_partFault_211 n k111) a0 a2 a3 a7 a10 M
noncomputable def BX92_partFault_206 (g211 : Nat → Int32 → Int64 → Int64 → Int32 → Int32 → FM → Option (Int32 × FM)) (a0 : Nat) (a2 : Int32) (a3 : Int64) (a7 : Int64) (a10 : Int32) (M : FM) : Option (Int32 × FM) :=
  g211 a0 a2 a3 a7 a10 (Int32.ofInt 1) M
noncomputable def FX92_partFault_206 (n : Nat) (k111 : Nat → Int32 → Int64 → Int64 → Int32 → Int32 → FM → Option (Int32 × FM)) (a0 : Nat) (a2 : Int32) (a3 : Int64) (a7 : Int64) (a10 : Int32) (M : FM) : Option (Int32 × FM) := BX92_partFault_206 (FX92_partFault_211 n k111) a0 a2 a3 a7 a10 M
noncomputable def BX92_partFault_174 (g206 : Nat → Int32 → Int64 → Int64 → Int32 → FM → Option (Int32 × FM)) (g210 : Nat → Int32 → Int64 → Int64 → Int32 → FM → Option (Int32 × FM)) (a0 : Nat) (a2 : Int32) (a3 : Int64) (a7 : Int64) (a9 : Int32) (a10 : Int32) (a11 : Int64) (a13 : Int64) (s0 : Int32) (M : FM) : Option (Int32 × FM) :=
  fi (a9 = 0) (
    g210 a0 a2 a3 a7 a10 M) (
    fi (s0 = 0) (
      g206 a0 a2 a3 a7 a10 M) (
      fi (0 ≤ (lg_cmp a3 (a11 + a13))) (
        g206 a0 a2 a3 a7 a10 M) (
        fi ((lg_cmp a11 (a3 + a7)) < 0) (
          g210 a0 a2 a3 a7 a10 M) (
          g206 a0 a2 a3 a7 a10 M))))
noncomputable def FX92_partFault_174 (n : Nat) (k111 : Nat → Int32 → Int64 → Int64 → Int32 → Int32 → FM → Option (Int32 × FM)) (a0 : Nat) (a2 : Int32) (a3 : Int64) (a7 : Int64) (a9 : Int32) (a10 : Int32) (a11 : Int64) (a13 : Int64) (s0 : Int32) (M : FM) : Option (Int32 × FM) := BX92_partFault_174 (FX92_partFault_206 n k111) (FX92_partFault_210 n k111) a0 a2 a3 a7 a9 a10 a11 a13 s0 M
noncomputable def BX92_partFault_173 (g174 : Nat → Int32 → Int64 → Int64 → Int32 → Int32 → Int64 → Int64 → Int32 → FM → Option (Int32 × FM)) (a0 : Nat) (a2 : Int32) (a3 : Int64) (a7 : Int64) (a9 : Int32) (a10 : Int32) (a11 : Int64) (a13 : Int64) (M : FM) : Option (Int32 × FM) :=
  g174 a0 a2 a3 a7 a9 a10 a11 a13 (Int32.ofInt 0) M
noncomputable def FX92_partFault_173 (n : Nat) (k111 : Nat → Int32 → Int64 → Int64 → Int32 → Int32 → FM → Option (Int32 × FM)) (a0 : Nat) (a2 : Int32) (a3 : Int64) (a7 : Int64) (a9 : Int32) (a10 : Int32) (a11 : Int64) (a13 : Int64) (M : FM) : Option (Int32 × FM) := BX92_partFault_173 (FX92_partFault_174 n k111) a0 a2 a3 a7 a9 a10 a11 a13 M
noncomputable def BX92_partFault_111 (f0 : Nat → Int32 → Int32 → FM → Option (Int64 × FM)) (g173 : Nat → Int32 → Int64 → Int64 → Int32 → Int32 → Int64 → Int64 → FM → Option (Int32 × FM)) (g174 : Nat → Int32 → Int64 → Int64 → Int32 → Int32 → Int64 → Int64 → Int32 → FM → Option (Int32 × FM)) (g234 : Int32 → FM → Option (Int32 × FM)) (a0 : Nat) (a2 : Int32) (a3 : Int64) (a7 : Int64) (a9 : Int32) (a10 : Int32) (M : FM) : Option (Int32 × FM) :=
  fi (a2 ≤ a10) (
    fi (a9 = 0) (
      g234 (Int32.ofInt 7) M) (
      g234 (Int32.ofInt 0) M)) (
    fi (fm_is M 92 92 a0 = true) (
    (f0 a0 (a10 + (Int32.ofInt 24)) (Int32.ofInt 8) M).bind fun r1 =>
    fi (fm_is r1.2 92 92 a0 = true) (
    (f0 a0 (a10 + (Int32.ofInt 40)) (Int32.ofInt 8) r1.2).bind fun r2 =>
    fi (fm_is r2.2 92 92 a0 = true) (
    (f0 a0 a10 (Int32.ofInt 4) r2.2).bind fun r3 =>
    fi ((lg_cmp r3.1 (Int64.ofInt 1)) = 0) (
      fi ((lg_cmp r2.1 (Int64.ofInt 0)) ≤ 0) (
        g173 a0 a2 a3 a7 a9 a10 r1.1 r2.1 r3.2) (
        fi ((lg_cmp a7 (Int64.ofInt 0)) ≤ 0) (
          g173 a0 a2 a3 a7 a9 a10 r1.1 r2.1 r3.2) (
          g174 a0 a2 a3 a7 a9 a10 r1.1 r2.1 (Int32.ofInt 1) r3.2))) (
      g173 a0 a2 a3 a7 a9 a10 r1.1 r2.1 r3.2)) none) none) none)
noncomputable def FX92_partFault_111 (n : Nat) (k111 : Nat → Int32 → Int64 → Int64 → Int32 → Int32 → FM → Option (Int32 × FM)) (a0 : Nat) (a2 : Int32) (a3 : Int64) (a7 : Int64) (a9 : Int32) (a10 : Int32) (M : FM) : Option (Int32 × FM) := BX92_partFault_111 (FX92_number n) (FX92_partFault_173 n k111) (FX92_partFault_174 n k111) (FX92_partFault_234 n k111) a0 a2 a3 a7 a9 a10 M
noncomputable def BX92_partFault_105 (k111 : Nat → Int32 → Int64 → Int64 → Int32 → Int32 → FM → Option (Int32 × FM)) (a0 : Nat) (a1 : Int32) (a2 : Int32) (a3 : Int64) (a7 : Int64) (M : FM) : Option (Int32 × FM) :=
  k111 a0 a2 a3 a7 (Int32.ofInt 1) a1 M
noncomputable def FX92_partFault_105 (n : Nat) (k111 : Nat → Int32 → Int64 → Int64 → Int32 → Int32 → FM → Option (Int32 × FM)) (a0 : Nat) (a1 : Int32) (a2 : Int32) (a3 : Int64) (a7 : Int64) (M : FM) : Option (Int32 × FM) := BX92_partFault_105 k111 a0 a1 a2 a3 a7 M
noncomputable def BX92_partFault_102 (M : FM) : Option (Int32 × FM) :=
  some ((Int32.ofInt 6), M)
noncomputable def FX92_partFault_102 (n : Nat) (k111 : Nat → Int32 → Int64 → Int64 → Int32 → Int32 → FM → Option (Int32 × FM)) (M : FM) : Option (Int32 × FM) := BX92_partFault_102 M
noncomputable def BX92_partFault_77 (M : FM) : Option (Int32 × FM) :=
  some ((Int32.ofInt 5), M)
noncomputable def FX92_partFault_77 (n : Nat) (k111 : Nat → Int32 → Int64 → Int64 → Int32 → Int32 → FM → Option (Int32 × FM)) (M : FM) : Option (Int32 × FM) := BX92_partFault_77 M
noncomputable def BX92_partFault_0 (f0 : Nat → Int32 → Int32 → FM → Option (Int64 × FM)) (f1 : Nat → Int64 → Int64 → FM → Option (Int32 × FM)) (f2 : Int64 → Int64 → FM → Option (Int32 × FM)) (f3 : Int64 → Int64 → FM → Option (Int32 × FM)) (g77 : FM → Option (Int32 × FM)) (g102 : FM → Option (Int32 × FM)) (g105 : Nat → Int32 → Int32 → Int64 → Int64 → FM → Option (Int32 × FM)) (a0 : Nat) (a1 : Int32) (a2 : Int32) (M : FM) : Option (Int32 × FM) :=
  fi (fm_is M 92 92 a0 = true) (
  (f0 a0 a2 (Int32.ofInt 4) M).bind fun r1 =>
  fi ((lg_cmp r1.1 (Int64.ofInt 1)) = 0) (
    fi (fm_is r1.2 92 92 a0 = true) (
    (f0 a0 (a2 + (Int32.ofInt 24)) (Int32.ofInt 8) r1.2).bind fun r2 =>
    fi (fm_is r2.2 92 92 a0 = true) (
    (f0 a0 (a2 + (Int32.ofInt 32)) (Int32.ofInt 8) r2.2).bind fun r3 =>
    fi (fm_is r3.2 92 92 a0 = true) (
    (f0 a0 (a2 + (Int32.ofInt 40)) (Int32.ofInt 8) r3.2).bind fun r4 =>
    fi (fm_is r4.2 92 92 a0 = true) (
    (f0 a0 (a2 + (Int32.ofInt 8)) (Int32.ofInt 8) r4.2).bind fun r5 =>
    fi (fm_is r5.2 92 92 a0 = true) (
    (f1 a0 r5.1 r3.1 r5.2).bind fun r6 =>
    fi (r6.1 = 0) (
      g77 r6.2) (
      (f2 r3.1 r4.1 r6.2).bind fun r7 =>
      fi (r7.1 = 0) (
        fi ((lg_cmp r4.1 (Int64.ofInt 0)) = 0) (
          g105 a0 a1 a2 r2.1 r4.1 r7.2) (
          fi ((lg_cmp r4.1 (Int64.ofInt 0)) < 0) (
            g102 r7.2) (
            (f3 r2.1 r4.1 r7.2).bind fun r8 =>
            fi (r8.1 = 0) (
              g102 r8.2) (
              g105 a0 a1 a2 r2.1 r4.1 r8.2)))) (
        g77 r7.2))) none) none) none) none) none) (
    some ((Int32.ofInt 0), r1.2))) none
noncomputable def FX92_partFault_0 (n : Nat) (k111 : Nat → Int32 → Int64 → Int64 → Int32 → Int32 → FM → Option (Int32 × FM)) (a0 : Nat) (a1 : Int32) (a2 : Int32) (M : FM) : Option (Int32 × FM) := BX92_partFault_0 (FX92_number n) FX92_isOnTape FX92_isAbove FX93_areBytes (FX92_partFault_77 n k111) (FX92_partFault_102 n k111) (FX92_partFault_105 n k111) a0 a1 a2 M
noncomputable def FX92_partFault_L111 (n : Nat) : Nat → Nat → Int32 → Int64 → Int64 → Int32 → Int32 → FM → Option (Int32 × FM)
  | 0 => fun _ _ _ _ _ _ _ => none
  | j + 1 => FX92_partFault_111 n (FX92_partFault_L111 n j)
noncomputable def FX92_partFault (n : Nat) (a0 : Nat) (a1 : Int32) (a2 : Int32) (M : FM) : Option (Int32 × FM) := FX92_partFault_0 n (FX92_partFault_L111 n n) a0 a1 a2 M
/-! BoardMachineModel.imageFault()I -/
noncomputable def BX92_imageFault_222 (s0 : Int32) (M : FM) : Option (Int32 × FM) :=
  some (s0, M)
noncomputable def FX92_imageFault_222 (n : Nat) (k142 : Nat → Int64 → Int64 → Int32 → Int32 → FM → Option (Int32 × FM)) (s0 : Int32) (M : FM) : Option (Int32 × FM) := BX92_imageFault_222 s0 M
noncomputable def BX92_imageFault_220 (g222 : Int32 → FM → Option (Int32 × FM)) (M : FM) : Option (Int32 × FM) :=
  g222 (Int32.ofInt 8) M
noncomputable def FX92_imageFault_220 (n : Nat) (k142 : Nat → Int64 → Int64 → Int32 → Int32 → FM → Option (Int32 × FM)) (M : FM) : Option (Int32 × FM) := BX92_imageFault_220 (FX92_imageFault_222 n k142) M
noncomputable def BX92_imageFault_177 (f1 : Nat → Int32 → Int32 → FM → Option (Int64 × FM)) (f4 : Int64 → FM → Option (Int32 × FM)) (g220 : FM → Option (Int32 × FM)) (g222 : Int32 → FM → Option (Int32 × FM)) (a0 : Nat) (a5 : Int32) (M : FM) : Option (Int32 × FM) :=
  fi (fm_is M 92 92 a0 = true) (
  (f1 a0 (Int32.ofInt 24) (Int32.ofInt 8) M).bind fun r1 =>
  fi (a5 ≤ 0) (
    fi ((Int64.ofInt 2) = 0) none (
    fi ((lg_cmp (r1.1 - r1.1 / (Int64.ofInt 2) * (Int64.ofInt 2)) (Int64.ofInt 0)) = 0) (
      (f4 r1.1 r1.2).bind fun r2 =>
      fi (r2.1 = 0) (
        g220 r2.2) (
        g222 (Int32.ofInt 0) r2.2)) (
      g220 r1.2))) (
    g222 a5 r1.2)) none
noncomputable def FX92_imageFault_177 (n : Nat) (k142 : Nat → Int64 → Int64 → Int32 → Int32 → FM → Option (Int32 × FM)) (a0 : Nat) (a5 : Int32) (M : FM) : Option (Int32 × FM) := BX92_imageFault_177 (FX92_number n) FX93_isByte (FX92_imageFault_220 n k142) (FX92_imageFault_222 n k142) a0 a5 M
noncomputable def BX92_imageFault_142 (f3 : Nat → Int32 → Int32 → FM → Option (Int32 × FM)) (g177 : Nat → Int32 → FM → Option (Int32 × FM)) (k142 : Nat → Int64 → Int64 → Int32 → Int32 → FM → Option (Int32 × FM)) (a0 : Nat) (a1 : Int64) (a3 : Int64) (a5 : Int32) (a6 : Int32) (M : FM) : Option (Int32 × FM) :=
  fi (0 ≤ (lg_cmp a6.toInt64 a1)) (
    g177 a0 a5 M) (
    fi (a5 = 0) (
      fi (fm_is M 92 92 a0 = true) (
      (f3 a0 a3.toInt32 (a3.toInt32 + ((Int32.ofInt 56) * a6)) M).bind fun r1 =>
      let x2 : Int32 := a6 + (Int32.ofInt 1)
      k142 a0 a1 a3 r1.1 x2 r1.2) none) (
      g177 a0 a5 M))
noncomputable def FX92_imageFault_142 (n : Nat) (k142 : Nat → Int64 → Int64 → Int32 → Int32 → FM → Option (Int32 × FM)) (a0 : Nat) (a1 : Int64) (a3 : Int64) (a5 : Int32) (a6 : Int32) (M : FM) : Option (Int32 × FM) := BX92_imageFault_142 (FX92_partFault n) (FX92_imageFault_177 n k142) k142 a0 a1 a3 a5 a6 M
noncomputable def BX92_imageFault_134 (M : FM) : Option (Int32 × FM) :=
  some ((Int32.ofInt 4), M)
noncomputable def FX92_imageFault_134 (n : Nat) (k142 : Nat → Int64 → Int64 → Int32 → Int32 → FM → Option (Int32 × FM)) (M : FM) : Option (Int32 × FM) := BX92_imageFault_134 M
noncomputable def BX92_imageFault_60 (M : FM) : Option (Int32 × FM) :=
  some ((Int32.ofInt 3), M)
noncomputable def FX92_imageFault_60 (n : Nat) (k142 : Nat → Int64 → Int64 → Int32 → Int32 → FM → Option (Int32 × FM)) (M : FM) : Option (Int32 × FM) := BX92_imageFault_60 M
noncomputable def BX92_imageFault_0 (f0 : Nat → FM → Option (Int32 × FM)) (f1 : Nat → Int32 → Int32 → FM → Option (Int64 × FM)) (f2 : Nat → Int64 → Int64 → FM → Option (Int32 × FM)) (g60 : FM → Option (Int32 × FM)) (g134 : FM → Option (Int32 × FM)) (k142 : Nat → Int64 → Int64 → Int32 → Int32 → FM → Option (Int32 × FM)) (a0 : Nat) (M : FM) : Option (Int32 × FM) :=
  fi (fm_is M 92 92 a0 = true) (
  fi ((Int32.ofInt 64) ≤ (M.1 309 a0 0)) (
    fi (fm_is M 92 92 a0 = true) (
    (f0 a0 M).bind fun r1 =>
    fi (r1.1 = 0) (
      some ((Int32.ofInt 2), r1.2)) (
      fi (fm_is r1.2 92 92 a0 = true) (
      (f1 a0 (Int32.ofInt 16) (Int32.ofInt 2) r1.2).bind fun r2 =>
      fi ((lg_cmp r2.1 (Int64.ofInt 2)) = 0) (
        fi (fm_is r2.2 92 92 a0 = true) (
        (f1 a0 (Int32.ofInt 18) (Int32.ofInt 2) r2.2).bind fun r3 =>
        fi ((lg_cmp r3.1 (Int64.ofInt 243)) = 0) (
          fi (fm_is r3.2 92 92 a0 = true) (
          (f1 a0 (Int32.ofInt 20) (Int32.ofInt 4) r3.2).bind fun r4 =>
          fi ((lg_cmp r4.1 (Int64.ofInt 1)) = 0) (
            fi (fm_is r4.2 92 92 a0 = true) (
            (f1 a0 (Int32.ofInt 56) (Int32.ofInt 2) r4.2).bind fun r5 =>
            fi (fm_is r5.2 92 92 a0 = true) (
            (f1 a0 (Int32.ofInt 32) (Int32.ofInt 8) r5.2).bind fun r6 =>
            fi (fm_is r6.2 92 92 a0 = true) (
            (f1 a0 (Int32.ofInt 52) (Int32.ofInt 2) r6.2).bind fun r7 =>
            fi ((lg_cmp r7.1 (Int64.ofInt 64)) = 0) (
              fi (fm_is r7.2 92 92 a0 = true) (
              (f1 a0 (Int32.ofInt 54) (Int32.ofInt 2) r7.2).bind fun r8 =>
              fi ((lg_cmp r8.1 (Int64.ofInt 56)) = 0) (
                fi ((lg_cmp r5.1 (Int64.ofInt 1)) < 0) (
                  g134 r8.2) (
                  fi (0 < (lg_cmp r5.1 (Int64.ofInt 16))) (
                    g134 r8.2) (
                    fi (fm_is r8.2 92 92 a0 = true) (
                    (f2 a0 r6.1 ((Int64.ofInt 56) * r5.1) r8.2).bind fun r9 =>
                    fi (r9.1 = 0) (
                      g134 r9.2) (
                      k142 a0 r5.1 r6.1 (Int32.ofInt 0) (Int32.ofInt 0) r9.2)) none))) (
                g134 r8.2)) none) (
              g134 r7.2)) none) none) none) (
            g60 r4.2)) none) (
          g60 r3.2)) none) (
        g60 r2.2)) none)) none) (
    some ((Int32.ofInt 1), M))) none
noncomputable def FX92_imageFault_0 (n : Nat) (k142 : Nat → Int64 → Int64 → Int32 → Int32 → FM → Option (Int32 × FM)) (a0 : Nat) (M : FM) : Option (Int32 × FM) := BX92_imageFault_0 FX92_begins (FX92_number n) FX92_isOnTape (FX92_imageFault_60 n k142) (FX92_imageFault_134 n k142) k142 a0 M
noncomputable def FX92_imageFault_L142 (n : Nat) : Nat → Nat → Int64 → Int64 → Int32 → Int32 → FM → Option (Int32 × FM)
  | 0 => fun _ _ _ _ _ _ => none
  | j + 1 => FX92_imageFault_142 n (FX92_imageFault_L142 n j)
noncomputable def FX92_imageFault (n : Nat) (a0 : Nat) (M : FM) : Option (Int32 × FM) := FX92_imageFault_0 n (FX92_imageFault_L142 n n) a0 M
/-! BoardMachineModel.loadImage()I -/
noncomputable def BX92_loadImage_156 (f2 : Nat → Int64 → Int32 → FM → Option (FM)) (k116 : Nat → Int32 → Int32 → Int32 → Int32 → Int64 → Int64 → Int64 → Int64 → FM → Option (Int32 × FM)) (a0 : Nat) (a2 : Int32) (a3 : Int32) (a4 : Int32) (a5 : Int32) (a6 : Int64) (a8 : Int64) (a10 : Int64) (a12 : Int64) (s0 : Nat) (s1 : Int64) (s2 : Int32) (M : FM) : Option (Int32 × FM) :=
  fi (fm_is M 98 98 s0 = true) (
  (f2 s0 s1 s2 M).bind fun M1 =>
  let x2 : Int64 := (a12 + (Int64.ofInt 1))
  k116 a0 a2 a3 a4 a5 a6 a8 a10 x2 M1) none
noncomputable def FX92_loadImage_156 (n : Nat) (k33 : Nat → Int32 → Int32 → Int32 → FM → Option (Int32 × FM)) (k116 : Nat → Int32 → Int32 → Int32 → Int32 → Int64 → Int64 → Int64 → Int64 → FM → Option (Int32 × FM)) (a0 : Nat) (a2 : Int32) (a3 : Int32) (a4 : Int32) (a5 : Int32) (a6 : Int64) (a8 : Int64) (a10 : Int64) (a12 : Int64) (s0 : Nat) (s1 : Int64) (s2 : Int32) (M : FM) : Option (Int32 × FM) := BX92_loadImage_156 (FX93_put n) k116 a0 a2 a3 a4 a5 a6 a8 a10 a12 s0 s1 s2 M
noncomputable def BX92_loadImage_116 (g156 : Nat → Int32 → Int32 → Int32 → Int32 → Int64 → Int64 → Int64 → Int64 → Nat → Int64 → Int32 → FM → Option (Int32 × FM)) (k33 : Nat → Int32 → Int32 → Int32 → FM → Option (Int32 × FM)) (a0 : Nat) (a2 : Int32) (a3 : Int32) (a4 : Int32) (a5 : Int32) (a6 : Int64) (a8 : Int64) (a10 : Int64) (a12 : Int64) (M : FM) : Option (Int32 × FM) :=
  fi (0 ≤ (lg_cmp a12 a10)) (
    let x1 : Int32 := (a4 + (Int32.ofInt 56))
    k33 a0 a2 a3 x1 M) (
    fi (fm_is M 92 92 a0 = true) (
    fi (0 ≤ (lg_cmp a12 a8)) (
      g156 a0 a2 a3 a4 a5 a6 a8 a10 a12 (M.2.2 298 a0 0) (a6 + a12) (Int32.ofInt 0) M) (
      fi (fm_is M 92 92 a0 = true) (
      let x2 : Int32 := (a5 + a12.toInt32)
      let x3 : Nat := (M.2.2 308 a0 0)
      fi (fm_is M 901 901 x3 = true ∧ fm_in M x3 x2 = true) (
      g156 a0 a2 a3 a4 a5 a6 a8 a10 a12 (M.2.2 298 a0 0) (a6 + a12) (M.1 3 x3 x2.toNatClampNeg) M) none) none)) none)
noncomputable def FX92_loadImage_116 (n : Nat) (k33 : Nat → Int32 → Int32 → Int32 → FM → Option (Int32 × FM)) (k116 : Nat → Int32 → Int32 → Int32 → Int32 → Int64 → Int64 → Int64 → Int64 → FM → Option (Int32 × FM)) (a0 : Nat) (a2 : Int32) (a3 : Int32) (a4 : Int32) (a5 : Int32) (a6 : Int64) (a8 : Int64) (a10 : Int64) (a12 : Int64) (M : FM) : Option (Int32 × FM) := BX92_loadImage_116 (FX92_loadImage_156 n k33 k116) k33 a0 a2 a3 a4 a5 a6 a8 a10 a12 M
noncomputable def BX92_loadImage_111 (k116 : Nat → Int32 → Int32 → Int32 → Int32 → Int64 → Int64 → Int64 → Int64 → FM → Option (Int32 × FM)) (a0 : Nat) (a2 : Int32) (a3 : Int32) (a4 : Int32) (a5 : Int32) (a6 : Int64) (a8 : Int64) (s0 : Int64) (M : FM) : Option (Int32 × FM) :=
  k116 a0 a2 a3 a4 a5 a6 a8 s0 (Int64.ofInt 0) M
noncomputable def FX92_loadImage_111 (n : Nat) (k33 : Nat → Int32 → Int32 → Int32 → FM → Option (Int32 × FM)) (k116 : Nat → Int32 → Int32 → Int32 → Int32 → Int64 → Int64 → Int64 → Int64 → FM → Option (Int32 × FM)) (a0 : Nat) (a2 : Int32) (a3 : Int32) (a4 : Int32) (a5 : Int32) (a6 : Int64) (a8 : Int64) (s0 : Int64) (M : FM) : Option (Int32 × FM) := BX92_loadImage_111 k116 a0 a2 a3 a4 a5 a6 a8 s0 M
noncomputable def BX92_loadImage_33 (f1 : Nat → Int32 → Int32 → FM → Option (Int64 × FM)) (g111 : Nat → Int32 → Int32 → Int32 → Int32 → Int64 → Int64 → Int64 → FM → Option (Int32 × FM)) (a0 : Nat) (a2 : Int32) (a3 : Int32) (a4 : Int32) (M : FM) : Option (Int32 × FM) :=
  fi ((a2 + ((Int32.ofInt 56) * a3)) ≤ a4) (
    fi (fm_is M 92 92 a0 = true) (
    (f1 a0 (Int32.ofInt 24) (Int32.ofInt 8) M).bind fun r1 =>
    fi (fm_is r1.2 92 92 a0 = true) (
    let M2 : FM := fm_sL r1.2 313 a0 0 r1.1
    some ((Int32.ofInt 0), M2)) none) none) (
    fi (fm_is M 92 92 a0 = true) (
    (f1 a0 (a4 + (Int32.ofInt 8)) (Int32.ofInt 8) M).bind fun r3 =>
    let x4 : Int32 := r3.1.toInt32
    fi (fm_is r3.2 92 92 a0 = true) (
    (f1 a0 (a4 + (Int32.ofInt 24)) (Int32.ofInt 8) r3.2).bind fun r5 =>
    fi (fm_is r5.2 92 92 a0 = true) (
    (f1 a0 (a4 + (Int32.ofInt 32)) (Int32.ofInt 8) r5.2).bind fun r6 =>
    fi (fm_is r6.2 92 92 a0 = true) (
    (f1 a0 a4 (Int32.ofInt 4) r6.2).bind fun r7 =>
    fi ((lg_cmp r7.1 (Int64.ofInt 1)) = 0) (
      fi (fm_is r7.2 92 92 a0 = true) (
      (f1 a0 (a4 + (Int32.ofInt 40)) (Int32.ofInt 8) r7.2).bind fun r8 =>
      g111 a0 a2 a3 a4 x4 r5.1 r6.1 r8.1 r8.2) none) (
      g111 a0 a2 a3 a4 x4 r5.1 r6.1 (Int64.ofInt 0) r7.2)) none) none) none) none)
noncomputable def FX92_loadImage_33 (n : Nat) (k33 : Nat → Int32 → Int32 → Int32 → FM → Option (Int32 × FM)) (k116 : Nat → Int32 → Int32 → Int32 → Int32 → Int64 → Int64 → Int64 → Int64 → FM → Option (Int32 × FM)) (a0 : Nat) (a2 : Int32) (a3 : Int32) (a4 : Int32) (M : FM) : Option (Int32 × FM) := BX92_loadImage_33 (FX92_number n) (FX92_loadImage_111 n k33 k116) a0 a2 a3 a4 M
noncomputable def BX92_loadImage_0 (f0 : Nat → FM → Option (Int32 × FM)) (f1 : Nat → Int32 → Int32 → FM → Option (Int64 × FM)) (k33 : Nat → Int32 → Int32 → Int32 → FM → Option (Int32 × FM)) (a0 : Nat) (M : FM) : Option (Int32 × FM) :=
  fi (fm_is M 92 92 a0 = true) (
  (f0 a0 M).bind fun r1 =>
  fi (r1.1 ≤ 0) (
    fi (fm_is r1.2 92 92 a0 = true) (
    (f1 a0 (Int32.ofInt 32) (Int32.ofInt 8) r1.2).bind fun r2 =>
    let x3 : Int32 := r2.1.toInt32
    fi (fm_is r2.2 92 92 a0 = true) (
    (f1 a0 (Int32.ofInt 56) (Int32.ofInt 2) r2.2).bind fun r4 =>
    let x5 : Int32 := r4.1.toInt32
    k33 a0 x3 x5 x3 r4.2) none) none) (
    some (r1.1, r1.2))) none
noncomputable def FX92_loadImage_0 (n : Nat) (k33 : Nat → Int32 → Int32 → Int32 → FM → Option (Int32 × FM)) (k116 : Nat → Int32 → Int32 → Int32 → Int32 → Int64 → Int64 → Int64 → Int64 → FM → Option (Int32 × FM)) (a0 : Nat) (M : FM) : Option (Int32 × FM) := BX92_loadImage_0 (FX92_imageFault n) (FX92_number n) k33 a0 M
noncomputable def FX92_loadImage_L (n : Nat) : Nat → (Nat → Int32 → Int32 → Int32 → FM → Option (Int32 × FM)) × (Nat → Int32 → Int32 → Int32 → Int32 → Int64 → Int64 → Int64 → Int64 → FM → Option (Int32 × FM))
  | 0 => (fun _ _ _ _ _ => none, fun _ _ _ _ _ _ _ _ _ _ => none)
  | j + 1 => (FX92_loadImage_33 n (FX92_loadImage_L n j).1 (FX92_loadImage_L n j).2, FX92_loadImage_116 n (FX92_loadImage_L n j).1 (FX92_loadImage_L n j).2)
noncomputable def FX92_loadImage (n : Nat) (a0 : Nat) (M : FM) : Option (Int32 × FM) := FX92_loadImage_0 n (FX92_loadImage_L n n).1 (FX92_loadImage_L n n).2 a0 M
/-! BoardMachineModel.loadInput()I -/
noncomputable def BX92_loadInput_58 (a1 : Int32) (M : FM) : Option (Int32 × FM) :=
  some (a1, M)
noncomputable def FX92_loadInput_58 (n : Nat) (k2 : Nat → Int32 → FM → Option (Int32 × FM)) (a1 : Int32) (M : FM) : Option (Int32 × FM) := BX92_loadInput_58 a1 M
noncomputable def BX92_loadInput_2 (g58 : Int32 → FM → Option (Int32 × FM)) (k2 : Nat → Int32 → FM → Option (Int32 × FM)) (a0 : Nat) (a1 : Int32) (M : FM) : Option (Int32 × FM) :=
  fi (fm_is M 92 92 a0 = true) (
  fi ((M.1 309 a0 0) ≤ a1) (
    g58 a1 M) (
    fi (fm_is M 92 92 a0 = true) (
    fi ((Int32.ofInt 65536) ≤ (M.1 312 a0 0)) (
      g58 a1 M) (
      fi (fm_is M 92 92 a0 = true) (
      fi (fm_is M 92 92 a0 = true) (
      fi (fm_is M 92 92 a0 = true) (
      let x1 : Int32 := ((M.1 311 a0 0) + (M.1 312 a0 0))
      fi ((Int32.ofInt 65536) = 0) none (
      fi (fm_is M 92 92 a0 = true) (
      let x2 : Nat := (M.2.2 308 a0 0)
      fi (fm_is M 901 901 x2 = true ∧ fm_in M x2 a1 = true) (
      let x3 : Int32 := (x1 - x1 / (Int32.ofInt 65536) * (Int32.ofInt 65536))
      let x4 : Nat := (M.2.2 310 a0 0)
      fi (fm_is M 901 901 x4 = true ∧ fm_in M x4 x3 = true) (
      let M5 : FM := fm_sI M 3 x4 x3.toNatClampNeg (M.1 3 x2 a1.toNatClampNeg)
      fi (fm_is M5 92 92 a0 = true) (
      fi (fm_is M5 92 92 a0 = true) (
      let M6 : FM := fm_sI M5 312 a0 0 ((M5.1 312 a0 0) + (Int32.ofInt 1))
      let x7 : Int32 := a1 + (Int32.ofInt 1)
      k2 a0 x7 M6) none) none) none) none) none)) none) none) none)) none)) none
noncomputable def FX92_loadInput_2 (n : Nat) (k2 : Nat → Int32 → FM → Option (Int32 × FM)) (a0 : Nat) (a1 : Int32) (M : FM) : Option (Int32 × FM) := BX92_loadInput_2 (FX92_loadInput_58 n k2) k2 a0 a1 M
noncomputable def BX92_loadInput_0 (k2 : Nat → Int32 → FM → Option (Int32 × FM)) (a0 : Nat) (M : FM) : Option (Int32 × FM) :=
  k2 a0 (Int32.ofInt 0) M
noncomputable def FX92_loadInput_0 (n : Nat) (k2 : Nat → Int32 → FM → Option (Int32 × FM)) (a0 : Nat) (M : FM) : Option (Int32 × FM) := BX92_loadInput_0 k2 a0 M
noncomputable def FX92_loadInput_L2 (n : Nat) : Nat → Nat → Int32 → FM → Option (Int32 × FM)
  | 0 => fun _ _ _ => none
  | j + 1 => FX92_loadInput_2 n (FX92_loadInput_L2 n j)
noncomputable def FX92_loadInput (n : Nat) (a0 : Nat) (M : FM) : Option (Int32 × FM) := FX92_loadInput_0 n (FX92_loadInput_L2 n n) a0 M
/-! BoardMachineModel$Block.setDisk(II)V -/
noncomputable def BX95_setDisk_17 (M : FM) : Option (FM) :=
  some M
noncomputable def FX95_setDisk_17 (M : FM) : Option (FM) := BX95_setDisk_17 M
noncomputable def BX95_setDisk_0 (f0 : Nat → Int32 → FM → Option (Int32 × FM)) (f1 : Nat → Int32 → Int32 → FM → Option (FM)) (g17 : FM → Option (FM)) (a0 : Nat) (a1 : Int32) (a2 : Int32) (M : FM) : Option (FM) :=
  fi (fm_is M 93 93 a0 = true) (
  (f0 a0 a1 M).bind fun r1 =>
  fi (r1.1 = 0) (
    fi (fm_is r1.2 93 93 a0 = true) (
    (f1 (r1.2.2.2 327 a0 0) a1 a2 r1.2).bind fun M2 =>
    g17 M2) none) (
    g17 r1.2)) none
noncomputable def FX95_setDisk_0 (a0 : Nat) (a1 : Int32) (a2 : Int32) (M : FM) : Option (FM) := BX95_setDisk_0 FX95_noPlace FX95_putByte FX95_setDisk_17 a0 a1 a2 M
noncomputable def FX95_setDisk (a0 : Nat) (a1 : Int32) (a2 : Int32) (M : FM) : Option (FM) := FX95_setDisk_0 a0 a1 a2 M
/-! BoardMachineModel.load(IJ)I -/
noncomputable def BX92_load_220 (a0 : Nat) (a6 : Int32) (M : FM) : Option (Int32 × FM) :=
  fi (fm_is M 92 92 a0 = true) (
  let M1 : FM := fm_sI M 309 a0 0 (Int32.ofInt 0)
  some (a6, M1)) none
noncomputable def FX92_load_220 (n : Nat) (k156 : Nat → Int32 → Int64 → Int32 → Int32 → FM → Option (Int32 × FM)) (a0 : Nat) (a6 : Int32) (M : FM) : Option (Int32 × FM) := BX92_load_220 a0 a6 M
noncomputable def BX92_load_214 (k156 : Nat → Int32 → Int64 → Int32 → Int32 → FM → Option (Int32 × FM)) (a0 : Nat) (a1 : Int32) (a2 : Int64) (a6 : Int32) (a7 : Int32) (M : FM) : Option (Int32 × FM) :=
  let x1 : Int32 := a7 + (Int32.ofInt 1)
  k156 a0 a1 a2 a6 x1 M
noncomputable def FX92_load_214 (n : Nat) (k156 : Nat → Int32 → Int64 → Int32 → Int32 → FM → Option (Int32 × FM)) (a0 : Nat) (a1 : Int32) (a2 : Int64) (a6 : Int32) (a7 : Int32) (M : FM) : Option (Int32 × FM) := BX92_load_214 k156 a0 a1 a2 a6 a7 M
noncomputable def BX92_load_156 (f3 : Nat → Int64 → Int32 → FM → Option (FM)) (f4 : Nat → Int32 → Int32 → FM → Option (FM)) (g214 : Nat → Int32 → Int64 → Int32 → Int32 → FM → Option (Int32 × FM)) (g220 : Nat → Int32 → FM → Option (Int32 × FM)) (a0 : Nat) (a1 : Int32) (a2 : Int64) (a6 : Int32) (a7 : Int32) (M : FM) : Option (Int32 × FM) :=
  fi (fm_is M 92 92 a0 = true) (
  fi ((M.1 309 a0 0) ≤ a7) (
    g220 a0 a6 M) (
    fi (a1 = 0) (
      fi (fm_is M 92 92 a0 = true) (
      fi (fm_is M 92 92 a0 = true) (
      let x1 : Nat := (M.2.2 308 a0 0)
      fi (fm_is M 901 901 x1 = true ∧ fm_in M x1 a7 = true) (
      let x2 : Nat := (M.2.2 298 a0 0)
      fi (fm_is M 98 98 x2 = true) (
      (f3 x2 (a2 + a7.toInt64) (M.1 3 x1 a7.toNatClampNeg) M).bind fun M3 =>
      g214 a0 a1 a2 a6 a7 M3) none) none) none) none) (
      fi (fm_is M 92 92 a0 = true) (
      fi (fm_is M 92 92 a0 = true) (
      let x4 : Nat := (M.2.2 308 a0 0)
      fi (fm_is M 901 901 x4 = true ∧ fm_in M x4 a7 = true) (
      let x5 : Nat := (M.2.2 300 a0 0)
      fi (fm_is M 93 93 x5 = true) (
      (f4 x5 ((a2.toInt32 * (Int32.ofInt 512)) + a7) (M.1 3 x4 a7.toNatClampNeg) M).bind fun M6 =>
      g214 a0 a1 a2 a6 a7 M6) none) none) none) none))) none
noncomputable def FX92_load_156 (n : Nat) (k156 : Nat → Int32 → Int64 → Int32 → Int32 → FM → Option (Int32 × FM)) (a0 : Nat) (a1 : Int32) (a2 : Int64) (a6 : Int32) (a7 : Int32) (M : FM) : Option (Int32 × FM) := BX92_load_156 (FX93_put n) FX95_setDisk (FX92_load_214 n k156) (FX92_load_220 n k156) a0 a1 a2 a6 a7 M
noncomputable def BX92_load_107 (f1 : Nat → FM → Option (Int32 × FM)) (f2 : Nat → FM → Option (Int32 × FM)) (g220 : Nat → Int32 → FM → Option (Int32 × FM)) (k156 : Nat → Int32 → Int64 → Int32 → Int32 → FM → Option (Int32 × FM)) (a0 : Nat) (a1 : Int32) (a2 : Int64) (s0 : Nat) (s1 : Int32) (M : FM) : Option (Int32 × FM) :=
  fi (fm_is M 92 92 s0 = true) (
  let M1 : FM := fm_sI M 296 s0 0 s1
  fi (fm_is M1 92 92 a0 = true) (
  fi ((M1.1 296 a0 0) ≤ 0) (
    fi (fm_is M1 92 92 a0 = true) (
    let x2 : Int32 := (M1.1 309 a0 0)
    fi (a1 = (Int32.ofInt 1)) (
      fi (fm_is M1 92 92 a0 = true) (
      (f1 a0 M1).bind fun r3 =>
      g220 a0 r3.1 r3.2) none) (
      fi (a1 = (Int32.ofInt 3)) (
        fi (fm_is M1 92 92 a0 = true) (
        (f2 a0 M1).bind fun r4 =>
        g220 a0 r4.1 r4.2) none) (
        k156 a0 a1 a2 x2 (Int32.ofInt 0) M1))) none) (
    some ((Int32.ofInt 0), M1))) none) none
noncomputable def FX92_load_107 (n : Nat) (k156 : Nat → Int32 → Int64 → Int32 → Int32 → FM → Option (Int32 × FM)) (a0 : Nat) (a1 : Int32) (a2 : Int64) (s0 : Nat) (s1 : Int32) (M : FM) : Option (Int32 × FM) := BX92_load_107 (FX92_loadImage n) (FX92_loadInput n) (FX92_load_220 n k156) k156 a0 a1 a2 s0 s1 M
noncomputable def BX92_load_93 (g107 : Nat → Int32 → Int64 → Nat → Int32 → FM → Option (Int32 × FM)) (a0 : Nat) (a1 : Int32) (a2 : Int64) (s0 : Nat) (M : FM) : Option (Int32 × FM) :=
  g107 a0 a1 a2 s0 (Int32.ofInt 1) M
noncomputable def FX92_load_93 (n : Nat) (k156 : Nat → Int32 → Int64 → Int32 → Int32 → FM → Option (Int32 × FM)) (a0 : Nat) (a1 : Int32) (a2 : Int64) (s0 : Nat) (M : FM) : Option (Int32 × FM) := BX92_load_93 (FX92_load_107 n k156) a0 a1 a2 s0 M
noncomputable def BX92_load_81 (g93 : Nat → Int32 → Int64 → Nat → FM → Option (Int32 × FM)) (g107 : Nat → Int32 → Int64 → Nat → Int32 → FM → Option (Int32 × FM)) (a0 : Nat) (a1 : Int32) (a2 : Int64) (s0 : Int32) (M : FM) : Option (Int32 × FM) :=
  fi (a1 < 0) (
    g93 a0 a1 a2 a0 M) (
    fi (a1 ≤ (Int32.ofInt 3)) (
      fi (s0 = 0) (
        g107 a0 a1 a2 a0 (Int32.ofInt 0) M) (
        g107 a0 a1 a2 a0 (Int32.ofInt 2) M)) (
      g93 a0 a1 a2 a0 M))
noncomputable def FX92_load_81 (n : Nat) (k156 : Nat → Int32 → Int64 → Int32 → Int32 → FM → Option (Int32 × FM)) (a0 : Nat) (a1 : Int32) (a2 : Int64) (s0 : Int32) (M : FM) : Option (Int32 × FM) := BX92_load_81 (FX92_load_93 n k156) (FX92_load_107 n k156) a0 a1 a2 s0 M
noncomputable def BX92_load_80 (g81 : Nat → Int32 → Int64 → Int32 → FM → Option (Int32 × FM)) (a0 : Nat) (a1 : Int32) (a2 : Int64) (M : FM) : Option (Int32 × FM) :=
  g81 a0 a1 a2 (Int32.ofInt 0) M
noncomputable def FX92_load_80 (n : Nat) (k156 : Nat → Int32 → Int64 → Int32 → Int32 → FM → Option (Int32 × FM)) (a0 : Nat) (a1 : Int32) (a2 : Int64) (M : FM) : Option (Int32 × FM) := BX92_load_80 (FX92_load_81 n k156) a0 a1 a2 M
noncomputable def BX92_load_76 (g81 : Nat → Int32 → Int64 → Int32 → FM → Option (Int32 × FM)) (a0 : Nat) (a1 : Int32) (a2 : Int64) (M : FM) : Option (Int32 × FM) :=
  g81 a0 a1 a2 (Int32.ofInt 1) M
noncomputable def FX92_load_76 (n : Nat) (k156 : Nat → Int32 → Int64 → Int32 → Int32 → FM → Option (Int32 × FM)) (a0 : Nat) (a1 : Int32) (a2 : Int64) (M : FM) : Option (Int32 × FM) := BX92_load_76 (FX92_load_81 n k156) a0 a1 a2 M
noncomputable def BX92_load_53 (g76 : Nat → Int32 → Int64 → FM → Option (Int32 × FM)) (g80 : Nat → Int32 → Int64 → FM → Option (Int32 × FM)) (a0 : Nat) (a1 : Int32) (a2 : Int64) (s0 : Int32) (M : FM) : Option (Int32 × FM) :=
  fi (fm_is M 92 92 a0 = true) (
  fi ((M.1 309 a0 0) ≤ 0) (
    g80 a0 a1 a2 M) (
    fi (s0 = 0) (
      fi (a1 = 0) (
        g76 a0 a1 a2 M) (
        fi (a1 = (Int32.ofInt 2)) (
          g76 a0 a1 a2 M) (
          g80 a0 a1 a2 M))) (
      g80 a0 a1 a2 M))) none
noncomputable def FX92_load_53 (n : Nat) (k156 : Nat → Int32 → Int64 → Int32 → Int32 → FM → Option (Int32 × FM)) (a0 : Nat) (a1 : Int32) (a2 : Int64) (s0 : Int32) (M : FM) : Option (Int32 × FM) := BX92_load_53 (FX92_load_76 n k156) (FX92_load_80 n k156) a0 a1 a2 s0 M
noncomputable def BX92_load_52 (g53 : Nat → Int32 → Int64 → Int32 → FM → Option (Int32 × FM)) (a0 : Nat) (a1 : Int32) (a2 : Int64) (M : FM) : Option (Int32 × FM) :=
  g53 a0 a1 a2 (Int32.ofInt 0) M
noncomputable def FX92_load_52 (n : Nat) (k156 : Nat → Int32 → Int64 → Int32 → Int32 → FM → Option (Int32 × FM)) (a0 : Nat) (a1 : Int32) (a2 : Int64) (M : FM) : Option (Int32 × FM) := BX92_load_52 (FX92_load_53 n k156) a0 a1 a2 M
noncomputable def BX92_load_0 (f0 : Int64 → Int64 → FM → Option (Int32 × FM)) (g52 : Nat → Int32 → Int64 → FM → Option (Int32 × FM)) (g53 : Nat → Int32 → Int64 → Int32 → FM → Option (Int32 × FM)) (a0 : Nat) (a1 : Int32) (a2 : Int64) (M : FM) : Option (Int32 × FM) :=
  fi (a1 = 0) (
    fi (fm_is M 92 92 a0 = true) (
    (f0 a2 ((M.1 309 a0 0).toInt64) M).bind fun r1 =>
    g53 a0 a1 a2 r1.1 r1.2) none) (
    fi ((lg_cmp a2 (Int64.ofInt 0)) < 0) (
      g52 a0 a1 a2 M) (
      fi (0 < (lg_cmp a2 (Int64.ofInt 2048))) (
        g52 a0 a1 a2 M) (
        fi (fm_is M 92 92 a0 = true) (
        fi (0 < (lg_cmp (((Int64.ofInt 512) * a2) + (M.1 309 a0 0).toInt64) (Int64.ofInt 1048576))) (
          g52 a0 a1 a2 M) (
          g53 a0 a1 a2 (Int32.ofInt 1) M)) none)))
noncomputable def FX92_load_0 (n : Nat) (k156 : Nat → Int32 → Int64 → Int32 → Int32 → FM → Option (Int32 × FM)) (a0 : Nat) (a1 : Int32) (a2 : Int64) (M : FM) : Option (Int32 × FM) := BX92_load_0 FX93_areBytes (FX92_load_52 n k156) (FX92_load_53 n k156) a0 a1 a2 M
noncomputable def FX92_load_L156 (n : Nat) : Nat → Nat → Int32 → Int64 → Int32 → Int32 → FM → Option (Int32 × FM)
  | 0 => fun _ _ _ _ _ _ => none
  | j + 1 => FX92_load_156 n (FX92_load_L156 n j)
noncomputable def FX92_load (n : Nat) (a0 : Nat) (a1 : Int32) (a2 : Int64) (M : FM) : Option (Int32 × FM) := FX92_load_0 n (FX92_load_L156 n n) a0 a1 a2 M
/-! BoardMachineModel.feed(IIIII)I -/
noncomputable def BX92_feed_86 (k33 : Nat → Int32 → Int32 → Int32 → Int32 → Int32 → Int32 → FM → Option (Int32 × FM)) (a0 : Nat) (a1 : Int32) (a2 : Int32) (a3 : Int32) (a4 : Int32) (a5 : Int32) (a6 : Int32) (s0 : Int32) (M : FM) : Option (Int32 × FM) :=
  fi (fm_is M 92 92 a0 = true) (
  fi (fm_is M 92 92 a0 = true) (
  fi ((Int32.ofInt 4) = 0) none (
  let x1 : Int32 := (M.1 309 a0 0)
  let x2 : Nat := (M.2.2 308 a0 0)
  fi (fm_is M 901 901 x2 = true ∧ fm_in M x2 x1 = true) (
  let M3 : FM := fm_sI M 3 x2 x1.toNatClampNeg ((s0 >>> (((Int32.ofInt 24) - ((Int32.ofInt 8) * (a6 - a6 / (Int32.ofInt 4) * (Int32.ofInt 4)))) &&& 31)) &&& (Int32.ofInt 255))
  fi (fm_is M3 92 92 a0 = true) (
  fi (fm_is M3 92 92 a0 = true) (
  let M4 : FM := fm_sI M3 309 a0 0 ((M3.1 309 a0 0) + (Int32.ofInt 1))
  let x5 : Int32 := a6 + (Int32.ofInt 1)
  k33 a0 a1 a2 a3 a4 a5 x5 M4) none) none) none)) none) none
noncomputable def FX92_feed_86 (n : Nat) (k33 : Nat → Int32 → Int32 → Int32 → Int32 → Int32 → Int32 → FM → Option (Int32 × FM)) (a0 : Nat) (a1 : Int32) (a2 : Int32) (a3 : Int32) (a4 : Int32) (a5 : Int32) (a6 : Int32) (s0 : Int32) (M : FM) : Option (Int32 × FM) := BX92_feed_86 k33 a0 a1 a2 a3 a4 a5 a6 s0 M
noncomputable def BX92_feed_33 (g86 : Nat → Int32 → Int32 → Int32 → Int32 → Int32 → Int32 → Int32 → FM → Option (Int32 × FM)) (a0 : Nat) (a1 : Int32) (a2 : Int32) (a3 : Int32) (a4 : Int32) (a5 : Int32) (a6 : Int32) (M : FM) : Option (Int32 × FM) :=
  fi ((Int32.ofInt 20) ≤ a6) (
    fi (fm_is M 92 92 a0 = true) (
    some ((M.1 309 a0 0), M)) none) (
    fi ((Int32.ofInt 4) ≤ a6) (
      fi ((Int32.ofInt 8) ≤ a6) (
        fi ((Int32.ofInt 12) ≤ a6) (
          fi ((Int32.ofInt 16) ≤ a6) (
            g86 a0 a1 a2 a3 a4 a5 a6 a5 M) (
            g86 a0 a1 a2 a3 a4 a5 a6 a4 M)) (
          g86 a0 a1 a2 a3 a4 a5 a6 a3 M)) (
        g86 a0 a1 a2 a3 a4 a5 a6 a2 M)) (
      g86 a0 a1 a2 a3 a4 a5 a6 a1 M))
noncomputable def FX92_feed_33 (n : Nat) (k33 : Nat → Int32 → Int32 → Int32 → Int32 → Int32 → Int32 → FM → Option (Int32 × FM)) (a0 : Nat) (a1 : Int32) (a2 : Int32) (a3 : Int32) (a4 : Int32) (a5 : Int32) (a6 : Int32) (M : FM) : Option (Int32 × FM) := BX92_feed_33 (FX92_feed_86 n k33) a0 a1 a2 a3 a4 a5 a6 M
noncomputable def BX92_feed_18 (k33 : Nat → Int32 → Int32 → Int32 → Int32 → Int32 → Int32 → FM → Option (Int32 × FM)) (a0 : Nat) (a1 : Int32) (a2 : Int32) (a3 : Int32) (a4 : Int32) (a5 : Int32) (s0 : Nat) (s1 : Int32) (M : FM) : Option (Int32 × FM) :=
  fi (fm_is M 92 92 s0 = true) (
  let M1 : FM := fm_sI M 296 s0 0 s1
  fi (fm_is M1 92 92 a0 = true) (
  fi ((M1.1 296 a0 0) ≤ 0) (
    k33 a0 a1 a2 a3 a4 a5 (Int32.ofInt 0) M1) (
    some ((Int32.ofInt 0), M1))) none) none
noncomputable def FX92_feed_18 (n : Nat) (k33 : Nat → Int32 → Int32 → Int32 → Int32 → Int32 → Int32 → FM → Option (Int32 × FM)) (a0 : Nat) (a1 : Int32) (a2 : Int32) (a3 : Int32) (a4 : Int32) (a5 : Int32) (s0 : Nat) (s1 : Int32) (M : FM) : Option (Int32 × FM) := BX92_feed_18 k33 a0 a1 a2 a3 a4 a5 s0 s1 M
noncomputable def BX92_feed_0 (g18 : Nat → Int32 → Int32 → Int32 → Int32 → Int32 → Nat → Int32 → FM → Option (Int32 × FM)) (a0 : Nat) (a1 : Int32) (a2 : Int32) (a3 : Int32) (a4 : Int32) (a5 : Int32) (M : FM) : Option (Int32 × FM) :=
  fi (fm_is M 92 92 a0 = true) (
  fi (((M.1 309 a0 0) + (Int32.ofInt 20)) ≤ (Int32.ofInt 65536)) (
    g18 a0 a1 a2 a3 a4 a5 a0 (Int32.ofInt 0) M) (
    g18 a0 a1 a2 a3 a4 a5 a0 (Int32.ofInt 1) M)) none
noncomputable def FX92_feed_0 (n : Nat) (k33 : Nat → Int32 → Int32 → Int32 → Int32 → Int32 → Int32 → FM → Option (Int32 × FM)) (a0 : Nat) (a1 : Int32) (a2 : Int32) (a3 : Int32) (a4 : Int32) (a5 : Int32) (M : FM) : Option (Int32 × FM) := BX92_feed_0 (FX92_feed_18 n k33) a0 a1 a2 a3 a4 a5 M
noncomputable def FX92_feed_L33 (n : Nat) : Nat → Nat → Int32 → Int32 → Int32 → Int32 → Int32 → Int32 → FM → Option (Int32 × FM)
  | 0 => fun _ _ _ _ _ _ _ _ => none
  | j + 1 => FX92_feed_33 n (FX92_feed_L33 n j)
noncomputable def FX92_feed (n : Nat) (a0 : Nat) (a1 : Int32) (a2 : Int32) (a3 : Int32) (a4 : Int32) (a5 : Int32) (M : FM) : Option (Int32 × FM) := FX92_feed_0 n (FX92_feed_L33 n n) a0 a1 a2 a3 a4 a5 M
/-! BoardMachineModel.sum(JJ)J -/
noncomputable def BX92_sum_116 (a8 : Int64) (M : FM) : Option (Int64 × FM) :=
  some (a8, M)
noncomputable def FX92_sum_116 (n : Nat) (k74 : Nat → Int64 → Int64 → Int64 → FM → Option (Int64 × FM)) (a8 : Int64) (M : FM) : Option (Int64 × FM) := BX92_sum_116 a8 M
noncomputable def BX92_sum_74 (f1 : Nat → Int64 → FM → Option (Int32 × FM)) (g116 : Int64 → FM → Option (Int64 × FM)) (k74 : Nat → Int64 → Int64 → Int64 → FM → Option (Int64 × FM)) (a0 : Nat) (a3 : Int64) (a8 : Int64) (a10 : Int64) (M : FM) : Option (Int64 × FM) :=
  fi (fm_is M 92 92 a0 = true) (
  fi ((M.1 296 a0 0) = 0) (
    fi (0 ≤ (lg_cmp a10 a3)) (
      g116 a8 M) (
      fi (fm_is M 92 92 a0 = true) (
      let x1 : Nat := (M.2.2 298 a0 0)
      fi (fm_is M 98 98 x1 = true) (
      (f1 x1 a10 M).bind fun r2 =>
      let x3 : Int64 := (((Int64.ofInt 31) * a8) + r2.1.toInt64)
      let x4 : Int64 := (a10 + (Int64.ofInt 1))
      k74 a0 a3 x3 x4 r2.2) none) none)) (
    g116 a8 M)) none
noncomputable def FX92_sum_74 (n : Nat) (k74 : Nat → Int64 → Int64 → Int64 → FM → Option (Int64 × FM)) (a0 : Nat) (a3 : Int64) (a8 : Int64) (a10 : Int64) (M : FM) : Option (Int64 × FM) := BX92_sum_74 FX93_get (FX92_sum_116 n k74) k74 a0 a3 a8 a10 M
noncomputable def BX92_sum_65 (k74 : Nat → Int64 → Int64 → Int64 → FM → Option (Int64 × FM)) (a0 : Nat) (a1 : Int64) (a3 : Int64) (s0 : Nat) (s1 : Int32) (M : FM) : Option (Int64 × FM) :=
  fi (fm_is M 92 92 s0 = true) (
  let M1 : FM := fm_sI M 296 s0 0 s1
  k74 a0 a3 (Int64.ofInt 0) a1 M1) none
noncomputable def FX92_sum_65 (n : Nat) (k74 : Nat → Int64 → Int64 → Int64 → FM → Option (Int64 × FM)) (a0 : Nat) (a1 : Int64) (a3 : Int64) (s0 : Nat) (s1 : Int32) (M : FM) : Option (Int64 × FM) := BX92_sum_65 k74 a0 a1 a3 s0 s1 M
noncomputable def BX92_sum_64 (g65 : Nat → Int64 → Int64 → Nat → Int32 → FM → Option (Int64 × FM)) (a0 : Nat) (a1 : Int64) (a3 : Int64) (s0 : Nat) (M : FM) : Option (Int64 × FM) :=
  g65 a0 a1 a3 s0 (Int32.ofInt 0) M
noncomputable def FX92_sum_64 (n : Nat) (k74 : Nat → Int64 → Int64 → Int64 → FM → Option (Int64 × FM)) (a0 : Nat) (a1 : Int64) (a3 : Int64) (s0 : Nat) (M : FM) : Option (Int64 × FM) := BX92_sum_64 (FX92_sum_65 n k74) a0 a1 a3 s0 M
noncomputable def BX92_sum_32 (f0 : Int64 → Int64 → FM → Option (Int32 × FM)) (g64 : Nat → Int64 → Int64 → Nat → FM → Option (Int64 × FM)) (g65 : Nat → Int64 → Int64 → Nat → Int32 → FM → Option (Int64 × FM)) (a0 : Nat) (a1 : Int64) (a3 : Int64) (a5 : Int64) (s0 : Int32) (M : FM) : Option (Int64 × FM) :=
  fi (s0 = 0) (
    g65 a0 a1 a3 a0 (Int32.ofInt 1) M) (
    fi ((lg_cmp a5 (Int64.ofInt 0)) ≤ 0) (
      g64 a0 a1 a3 a0 M) (
      (f0 a1 a5 M).bind fun r1 =>
      fi (r1.1 = 0) (
        g65 a0 a1 a3 a0 (Int32.ofInt 2) r1.2) (
        g64 a0 a1 a3 a0 r1.2)))
noncomputable def FX92_sum_32 (n : Nat) (k74 : Nat → Int64 → Int64 → Int64 → FM → Option (Int64 × FM)) (a0 : Nat) (a1 : Int64) (a3 : Int64) (a5 : Int64) (s0 : Int32) (M : FM) : Option (Int64 × FM) := BX92_sum_32 FX93_areBytes (FX92_sum_64 n k74) (FX92_sum_65 n k74) a0 a1 a3 a5 s0 M
noncomputable def BX92_sum_31 (g32 : Nat → Int64 → Int64 → Int64 → Int32 → FM → Option (Int64 × FM)) (a0 : Nat) (a1 : Int64) (a3 : Int64) (a5 : Int64) (M : FM) : Option (Int64 × FM) :=
  g32 a0 a1 a3 a5 (Int32.ofInt 0) M
noncomputable def FX92_sum_31 (n : Nat) (k74 : Nat → Int64 → Int64 → Int64 → FM → Option (Int64 × FM)) (a0 : Nat) (a1 : Int64) (a3 : Int64) (a5 : Int64) (M : FM) : Option (Int64 × FM) := BX92_sum_31 (FX92_sum_32 n k74) a0 a1 a3 a5 M
noncomputable def BX92_sum_0 (g31 : Nat → Int64 → Int64 → Int64 → FM → Option (Int64 × FM)) (g32 : Nat → Int64 → Int64 → Int64 → Int32 → FM → Option (Int64 × FM)) (a0 : Nat) (a1 : Int64) (a3 : Int64) (M : FM) : Option (Int64 × FM) :=
  let x1 : Int64 := (a3 - a1)
  fi ((lg_cmp a3 a1) < 0) (
    g31 a0 a1 a3 x1 M) (
    fi ((lg_cmp x1 (Int64.ofInt 0)) < 0) (
      g31 a0 a1 a3 x1 M) (
      fi (0 < (lg_cmp x1 (Int64.ofInt 65536))) (
        g31 a0 a1 a3 x1 M) (
        g32 a0 a1 a3 x1 (Int32.ofInt 1) M)))
noncomputable def FX92_sum_0 (n : Nat) (k74 : Nat → Int64 → Int64 → Int64 → FM → Option (Int64 × FM)) (a0 : Nat) (a1 : Int64) (a3 : Int64) (M : FM) : Option (Int64 × FM) := BX92_sum_0 (FX92_sum_31 n k74) (FX92_sum_32 n k74) a0 a1 a3 M
noncomputable def FX92_sum_L74 (n : Nat) : Nat → Nat → Int64 → Int64 → Int64 → FM → Option (Int64 × FM)
  | 0 => fun _ _ _ _ _ => none
  | j + 1 => FX92_sum_74 n (FX92_sum_L74 n j)
noncomputable def FX92_sum (n : Nat) (a0 : Nat) (a1 : Int64) (a3 : Int64) (M : FM) : Option (Int64 × FM) := FX92_sum_0 n (FX92_sum_L74 n n) a0 a1 a3 M
/-! BoardMachineLaw.law([I)Z -/
noncomputable def BL_law_1194 (k33 : Nat → Nat → Nat → Nat → Int32 → FM → Option (Int32 × FM)) (a0 : Nat) (a1 : Nat) (a2 : Nat) (a3 : Nat) (a4 : Int32) (M : FM) : Option (Int32 × FM) :=
  let x1 : Int32 := a4 + (Int32.ofInt 6)
  k33 a0 a1 a2 a3 x1 M
noncomputable def FL_law_1194 (n : Nat) (k33 : Nat → Nat → Nat → Nat → Int32 → FM → Option (Int32 × FM)) (a0 : Nat) (a1 : Nat) (a2 : Nat) (a3 : Nat) (a4 : Int32) (M : FM) : Option (Int32 × FM) := BL_law_1194 k33 a0 a1 a2 a3 a4 M
noncomputable def BL_law_1066 (g1194 : Nat → Nat → Nat → Nat → Int32 → FM → Option (Int32 × FM)) (a0 : Nat) (a1 : Nat) (a2 : Nat) (a3 : Nat) (a4 : Int32) (M : FM) : Option (Int32 × FM) :=
  g1194 a0 a1 a2 a3 a4 M
noncomputable def FL_law_1066 (n : Nat) (k33 : Nat → Nat → Nat → Nat → Int32 → FM → Option (Int32 × FM)) (a0 : Nat) (a1 : Nat) (a2 : Nat) (a3 : Nat) (a4 : Int32) (M : FM) : Option (Int32 × FM) := BL_law_1066 (FL_law_1194 n k33) a0 a1 a2 a3 a4 M
noncomputable def BL_law_1010 (g1194 : Nat → Nat → Nat → Nat → Int32 → FM → Option (Int32 × FM)) (a0 : Nat) (a1 : Nat) (a2 : Nat) (a3 : Nat) (a4 : Int32) (M : FM) : Option (Int32 × FM) :=
  g1194 a0 a1 a2 a3 a4 M
noncomputable def FL_law_1010 (n : Nat) (k33 : Nat → Nat → Nat → Nat → Int32 → FM → Option (Int32 × FM)) (a0 : Nat) (a1 : Nat) (a2 : Nat) (a3 : Nat) (a4 : Int32) (M : FM) : Option (Int32 × FM) := BL_law_1010 (FL_law_1194 n k33) a0 a1 a2 a3 a4 M
noncomputable def BL_law_879 (g1194 : Nat → Nat → Nat → Nat → Int32 → FM → Option (Int32 × FM)) (a0 : Nat) (a1 : Nat) (a2 : Nat) (a3 : Nat) (a4 : Int32) (M : FM) : Option (Int32 × FM) :=
  g1194 a0 a1 a2 a3 a4 M
noncomputable def FL_law_879 (n : Nat) (k33 : Nat → Nat → Nat → Nat → Int32 → FM → Option (Int32 × FM)) (a0 : Nat) (a1 : Nat) (a2 : Nat) (a3 : Nat) (a4 : Int32) (M : FM) : Option (Int32 × FM) := BL_law_879 (FL_law_1194 n k33) a0 a1 a2 a3 a4 M
noncomputable def BL_law_792 (g1194 : Nat → Nat → Nat → Nat → Int32 → FM → Option (Int32 × FM)) (a0 : Nat) (a1 : Nat) (a2 : Nat) (a3 : Nat) (a4 : Int32) (M : FM) : Option (Int32 × FM) :=
  g1194 a0 a1 a2 a3 a4 M
noncomputable def FL_law_792 (n : Nat) (k33 : Nat → Nat → Nat → Nat → Int32 → FM → Option (Int32 × FM)) (a0 : Nat) (a1 : Nat) (a2 : Nat) (a3 : Nat) (a4 : Int32) (M : FM) : Option (Int32 × FM) := BL_law_792 (FL_law_1194 n k33) a0 a1 a2 a3 a4 M
noncomputable def BL_law_736 (g1194 : Nat → Nat → Nat → Nat → Int32 → FM → Option (Int32 × FM)) (a0 : Nat) (a1 : Nat) (a2 : Nat) (a3 : Nat) (a4 : Int32) (M : FM) : Option (Int32 × FM) :=
  g1194 a0 a1 a2 a3 a4 M
noncomputable def FL_law_736 (n : Nat) (k33 : Nat → Nat → Nat → Nat → Int32 → FM → Option (Int32 × FM)) (a0 : Nat) (a1 : Nat) (a2 : Nat) (a3 : Nat) (a4 : Int32) (M : FM) : Option (Int32 × FM) := BL_law_736 (FL_law_1194 n k33) a0 a1 a2 a3 a4 M
noncomputable def BL_law_669 (g1194 : Nat → Nat → Nat → Nat → Int32 → FM → Option (Int32 × FM)) (a0 : Nat) (a1 : Nat) (a2 : Nat) (a3 : Nat) (a4 : Int32) (M : FM) : Option (Int32 × FM) :=
  g1194 a0 a1 a2 a3 a4 M
noncomputable def FL_law_669 (n : Nat) (k33 : Nat → Nat → Nat → Nat → Int32 → FM → Option (Int32 × FM)) (a0 : Nat) (a1 : Nat) (a2 : Nat) (a3 : Nat) (a4 : Int32) (M : FM) : Option (Int32 × FM) := BL_law_669 (FL_law_1194 n k33) a0 a1 a2 a3 a4 M
noncomputable def BL_law_602 (g1194 : Nat → Nat → Nat → Nat → Int32 → FM → Option (Int32 × FM)) (a0 : Nat) (a1 : Nat) (a2 : Nat) (a3 : Nat) (a4 : Int32) (M : FM) : Option (Int32 × FM) :=
  g1194 a0 a1 a2 a3 a4 M
noncomputable def FL_law_602 (n : Nat) (k33 : Nat → Nat → Nat → Nat → Int32 → FM → Option (Int32 × FM)) (a0 : Nat) (a1 : Nat) (a2 : Nat) (a3 : Nat) (a4 : Int32) (M : FM) : Option (Int32 × FM) := BL_law_602 (FL_law_1194 n k33) a0 a1 a2 a3 a4 M
noncomputable def BL_law_535 (g1194 : Nat → Nat → Nat → Nat → Int32 → FM → Option (Int32 × FM)) (a0 : Nat) (a1 : Nat) (a2 : Nat) (a3 : Nat) (a4 : Int32) (M : FM) : Option (Int32 × FM) :=
  g1194 a0 a1 a2 a3 a4 M
noncomputable def FL_law_535 (n : Nat) (k33 : Nat → Nat → Nat → Nat → Int32 → FM → Option (Int32 × FM)) (a0 : Nat) (a1 : Nat) (a2 : Nat) (a3 : Nat) (a4 : Int32) (M : FM) : Option (Int32 × FM) := BL_law_535 (FL_law_1194 n k33) a0 a1 a2 a3 a4 M
noncomputable def BL_law_454 (g1194 : Nat → Nat → Nat → Nat → Int32 → FM → Option (Int32 × FM)) (a0 : Nat) (a1 : Nat) (a2 : Nat) (a3 : Nat) (a4 : Int32) (M : FM) : Option (Int32 × FM) :=
  g1194 a0 a1 a2 a3 a4 M
noncomputable def FL_law_454 (n : Nat) (k33 : Nat → Nat → Nat → Nat → Int32 → FM → Option (Int32 × FM)) (a0 : Nat) (a1 : Nat) (a2 : Nat) (a3 : Nat) (a4 : Int32) (M : FM) : Option (Int32 × FM) := BL_law_454 (FL_law_1194 n k33) a0 a1 a2 a3 a4 M
noncomputable def BL_law_385 (g1194 : Nat → Nat → Nat → Nat → Int32 → FM → Option (Int32 × FM)) (a0 : Nat) (a1 : Nat) (a2 : Nat) (a3 : Nat) (a4 : Int32) (M : FM) : Option (Int32 × FM) :=
  g1194 a0 a1 a2 a3 a4 M
noncomputable def FL_law_385 (n : Nat) (k33 : Nat → Nat → Nat → Nat → Int32 → FM → Option (Int32 × FM)) (a0 : Nat) (a1 : Nat) (a2 : Nat) (a3 : Nat) (a4 : Int32) (M : FM) : Option (Int32 × FM) := BL_law_385 (FL_law_1194 n k33) a0 a1 a2 a3 a4 M
noncomputable def BL_law_249 (g1194 : Nat → Nat → Nat → Nat → Int32 → FM → Option (Int32 × FM)) (a0 : Nat) (a1 : Nat) (a2 : Nat) (a3 : Nat) (a4 : Int32) (M : FM) : Option (Int32 × FM) :=
  g1194 a0 a1 a2 a3 a4 M
noncomputable def FL_law_249 (n : Nat) (k33 : Nat → Nat → Nat → Nat → Int32 → FM → Option (Int32 × FM)) (a0 : Nat) (a1 : Nat) (a2 : Nat) (a3 : Nat) (a4 : Int32) (M : FM) : Option (Int32 × FM) := BL_law_249 (FL_law_1194 n k33) a0 a1 a2 a3 a4 M
noncomputable def BL_law_33 (f3 : Nat → FM → Option (Int32 × FM)) (f4 : Nat → FM → Option (Int32 × FM)) (f5 : Nat → FM → Option (Int32 × FM)) (f6 : Nat → FM → Option (Int64 × FM)) (f7 : Nat → FM → Option (Int32 × FM)) (f8 : Nat → FM → Option (Int32 × FM)) (f9 : Nat → FM → Option (Int64 × FM)) (f10 : Nat → FM → Option (Int64 × FM)) (f11 : Nat → FM → Option (Int32 × FM)) (f12 : Nat → FM → Option (Int32 × FM)) (f13 : Nat → FM → Option (Int32 × FM)) (f14 : Nat → FM → Option (Int64 × FM)) (f15 : Nat → FM → Option (Int32 × FM)) (f16 : Nat → FM → Option (Int32 × FM)) (f17 : Nat → FM → Option (Int64 × FM)) (f18 : Nat → FM → Option (Int64 × FM)) (f19 : Nat → Int32 → FM → Option (Int32 × FM)) (f20 : Nat → Int32 → Nat → FM → Option (Int32 × FM)) (f21 : Nat → Int32 → Nat → FM → Option (Int32 × FM)) (f22 : Nat → Int32 → Nat → FM → Option (Int32 × FM)) (f23 : Nat → Int32 → Nat → FM → Option (Int32 × FM)) (f24 : Nat → Int32 → Int32 → Nat → FM → Option (Int32 × FM)) (f25 : Nat → Int32 → Int32 → Nat → FM → Option (Int32 × FM)) (f26 : Nat → Int32 → Int32 → Nat → FM → Option (Int32 × FM)) (f27 : Nat → Int32 → FM → Option (FM)) (f28 : Nat → Int32 → FM → Option (Int32 × FM)) (f29 : Nat → Int32 → FM → Option (Int64 × FM)) (f30 : Nat → Int32 → FM → Option (Int32 × FM)) (f31 : Nat → Int32 → FM → Option (Int32 × FM)) (f32 : Nat → FM → Option (Int32 × FM)) (f33 : Nat → Int64 → FM → Option (Int32 × FM)) (f34 : Nat → Int64 → Nat → FM → Option (Int32 × FM)) (f35 : Nat → Int32 → Int64 → Nat → FM → Option (Int32 × FM)) (f36 : Nat → Int32 → Int32 → FM → Option (Int64 × FM)) (f37 : Nat → Int32 → Int32 → FM → Option (Int64 × FM)) (f38 : Nat → Int32 → Int32 → FM → Option (Int64 × FM)) (f39 : Nat → Int32 → Int32 → Int32 → Int32 → Int32 → Nat → FM → Option (Int32 × FM)) (f40 : Nat → Int64 → Int64 → Nat → FM → Option (Int32 × FM)) (f41 : Nat → Int64 → FM → Option (Int32 × FM)) (f42 : Nat → Int64 → FM → Option (Int64 × FM)) (f43 : Nat → Int32 → Int64 → FM → Option (Int32 × FM)) (f44 : Nat → Int32 → Int32 → Int32 → Int32 → Int32 → FM → Option (Int32 × FM)) (f45 : Nat → Int64 → Int64 → FM → Option (Int64 × FM)) (g249 : Nat → Nat → Nat → Nat → Int32 → FM → Option (Int32 × FM)) (g385 : Nat → Nat → Nat → Nat → Int32 → FM → Option (Int32 × FM)) (g454 : Nat → Nat → Nat → Nat → Int32 → FM → Option (Int32 × FM)) (g535 : Nat → Nat → Nat → Nat → Int32 → FM → Option (Int32 × FM)) (g602 : Nat → Nat → Nat → Nat → Int32 → FM → Option (Int32 × FM)) (g669 : Nat → Nat → Nat → Nat → Int32 → FM → Option (Int32 × FM)) (g736 : Nat → Nat → Nat → Nat → Int32 → FM → Option (Int32 × FM)) (g792 : Nat → Nat → Nat → Nat → Int32 → FM → Option (Int32 × FM)) (g879 : Nat → Nat → Nat → Nat → Int32 → FM → Option (Int32 × FM)) (g1010 : Nat → Nat → Nat → Nat → Int32 → FM → Option (Int32 × FM)) (g1066 : Nat → Nat → Nat → Nat → Int32 → FM → Option (Int32 × FM)) (g1194 : Nat → Nat → Nat → Nat → Int32 → FM → Option (Int32 × FM)) (a0 : Nat) (a1 : Nat) (a2 : Nat) (a3 : Nat) (a4 : Int32) (M : FM) : Option (Int32 × FM) :=
  fi (fm_is M 901 990 a0 = true) (
  fi (((Int32.ofNat (M.2.2 1 a0 0)) - (Int32.ofInt 6)) < a4) (
    fi ((Int32.ofInt 1) = 0 ∨ (Int32.ofInt 1) = 1) (some ((Int32.ofInt 1), M)) none) (
    fi (fm_is M 906 906 a0 = true ∧ fm_in M a0 a4 = true) (
    let x1 : Int32 := ((M.1 3 a0 a4.toNatClampNeg) &&& (Int32.ofInt 31))
    fi (x1 = (Int32.ofInt 0)) (
      let x2 : Int32 := (a4 + (Int32.ofInt 1))
      fi (fm_is M 906 906 a0 = true ∧ fm_in M a0 x2 = true) (
      let x3 : Int32 := (a4 + (Int32.ofInt 2))
      fi (fm_is M 906 906 a0 = true ∧ fm_in M a0 x3 = true) (
      let x4 : Int32 := (a4 + (Int32.ofInt 3))
      fi (fm_is M 906 906 a0 = true ∧ fm_in M a0 x4 = true) (
      let x5 : Int32 := (a4 + (Int32.ofInt 4))
      fi (fm_is M 906 906 a0 = true ∧ fm_in M a0 x5 = true) (
      let x6 : Int32 := (a4 + (Int32.ofInt 5))
      fi (fm_is M 906 906 a0 = true ∧ fm_in M a0 x6 = true) (
      (f39 a1 (M.1 3 a0 x2.toNatClampNeg) (M.1 3 a0 x3.toNatClampNeg) (M.1 3 a0 x4.toNatClampNeg) (M.1 3 a0 x5.toNatClampNeg) (M.1 3 a0 x6.toNatClampNeg) a3 M).bind fun r7 =>
      let x8 : Int32 := (a4 + (Int32.ofInt 1))
      fi (fm_is r7.2 906 906 a0 = true ∧ fm_in r7.2 a0 x8 = true) (
      let x9 : Int32 := (a4 + (Int32.ofInt 2))
      fi (fm_is r7.2 906 906 a0 = true ∧ fm_in r7.2 a0 x9 = true) (
      let x10 : Int32 := (a4 + (Int32.ofInt 3))
      fi (fm_is r7.2 906 906 a0 = true ∧ fm_in r7.2 a0 x10 = true) (
      let x11 : Int32 := (a4 + (Int32.ofInt 4))
      fi (fm_is r7.2 906 906 a0 = true ∧ fm_in r7.2 a0 x11 = true) (
      let x12 : Int32 := (a4 + (Int32.ofInt 5))
      fi (fm_is r7.2 906 906 a0 = true ∧ fm_in r7.2 a0 x12 = true) (
      fi (fm_is r7.2 92 92 a2 = true) (
      (f44 a2 (r7.2.1 3 a0 x8.toNatClampNeg) (r7.2.1 3 a0 x9.toNatClampNeg) (r7.2.1 3 a0 x10.toNatClampNeg) (r7.2.1 3 a0 x11.toNatClampNeg) (r7.2.1 3 a0 x12.toNatClampNeg) r7.2).bind fun r13 =>
      fi (fm_is r13.2 92 92 a2 = true) (
      (f32 a2 r13.2).bind fun r14 =>
      fi (r14.1 = r7.1) (
        fi (r7.1 = 0) (
          fi (fm_is r14.2 902 902 a3 = true ∧ fm_in r14.2 a3 (Int32.ofInt 0) = true) (
          fi ((lg_cmp (r14.2.2.1 3 a3 (Int32.ofInt 0).toNatClampNeg) r13.1.toInt64) = 0) (
            g249 a0 a1 a2 a3 a4 r14.2) (
            fi ((Int32.ofInt 0) = 0 ∨ (Int32.ofInt 0) = 1) (some ((Int32.ofInt 0), r14.2)) none)) none) (
          g249 a0 a1 a2 a3 a4 r14.2)) (
        fi ((Int32.ofInt 0) = 0 ∨ (Int32.ofInt 0) = 1) (some ((Int32.ofInt 0), r14.2)) none)) none) none) none) none) none) none) none) none) none) none) none) none) (
    fi (x1 = (Int32.ofInt 1)) (
      let x15 : Int32 := (a4 + (Int32.ofInt 1))
      fi (fm_is M 906 906 a0 = true ∧ fm_in M a0 x15 = true) (
      (f19 a1 (M.1 3 a0 x15.toNatClampNeg) M).bind fun r16 =>
      let x17 : Int32 := (a4 + (Int32.ofInt 1))
      fi (fm_is r16.2 906 906 a0 = true ∧ fm_in r16.2 a0 x17 = true) (
      fi (fm_is r16.2 92 92 a2 = true) (
      (f27 a2 (r16.2.1 3 a0 x17.toNatClampNeg) r16.2).bind fun M18 =>
      fi (fm_is M18 92 92 a2 = true) (
      (f32 a2 M18).bind fun r19 =>
      fi (r19.1 = r16.1) (
        g1194 a0 a1 a2 a3 a4 r19.2) (
        fi ((Int32.ofInt 0) = 0 ∨ (Int32.ofInt 0) = 1) (some ((Int32.ofInt 0), r19.2)) none)) none) none) none) none) (
    fi (x1 = (Int32.ofInt 2)) (
      let x20 : Int32 := (a4 + (Int32.ofInt 1))
      fi (fm_is M 906 906 a0 = true ∧ fm_in M a0 x20 = true) (
      let x21 : Int32 := (a4 + (Int32.ofInt 2))
      fi (fm_is M 906 906 a0 = true ∧ fm_in M a0 x21 = true) (
      let x22 : Int32 := (a4 + (Int32.ofInt 3))
      fi (fm_is M 906 906 a0 = true ∧ fm_in M a0 x22 = true) (
      (f35 a1 (M.1 3 a0 x20.toNatClampNeg) (((M.1 3 a0 x21.toNatClampNeg).toInt64 <<< ((Int32.ofInt 32).toInt64 &&& 63)) ||| ((M.1 3 a0 x22.toNatClampNeg).toInt64 &&& (Int64.ofInt 4294967295))) a3 M).bind fun r23 =>
      let x24 : Int32 := (a4 + (Int32.ofInt 1))
      fi (fm_is r23.2 906 906 a0 = true ∧ fm_in r23.2 a0 x24 = true) (
      let x25 : Int32 := (a4 + (Int32.ofInt 2))
      fi (fm_is r23.2 906 906 a0 = true ∧ fm_in r23.2 a0 x25 = true) (
      let x26 : Int32 := (a4 + (Int32.ofInt 3))
      fi (fm_is r23.2 906 906 a0 = true ∧ fm_in r23.2 a0 x26 = true) (
      fi (fm_is r23.2 92 92 a2 = true) (
      (f43 a2 (r23.2.1 3 a0 x24.toNatClampNeg) (((r23.2.1 3 a0 x25.toNatClampNeg).toInt64 <<< ((Int32.ofInt 32).toInt64 &&& 63)) ||| ((r23.2.1 3 a0 x26.toNatClampNeg).toInt64 &&& (Int64.ofInt 4294967295))) r23.2).bind fun r27 =>
      fi (fm_is r27.2 92 92 a2 = true) (
      (f32 a2 r27.2).bind fun r28 =>
      fi (r28.1 = r23.1) (
        fi (r23.1 = 0) (
          fi (fm_is r28.2 902 902 a3 = true ∧ fm_in r28.2 a3 (Int32.ofInt 0) = true) (
          fi ((lg_cmp (r28.2.2.1 3 a3 (Int32.ofInt 0).toNatClampNeg) r27.1.toInt64) = 0) (
            g385 a0 a1 a2 a3 a4 r28.2) (
            fi ((Int32.ofInt 0) = 0 ∨ (Int32.ofInt 0) = 1) (some ((Int32.ofInt 0), r28.2)) none)) none) (
          g385 a0 a1 a2 a3 a4 r28.2)) (
        fi ((Int32.ofInt 0) = 0 ∨ (Int32.ofInt 0) = 1) (some ((Int32.ofInt 0), r28.2)) none)) none) none) none) none) none) none) none) none) (
    fi (x1 = (Int32.ofInt 3)) (
      fi (fm_is M 10 10 a1 = true) (
      (f3 a1 M).bind fun r29 =>
      fi (fm_is r29.2 92 92 a2 = true) (
      (f11 a2 r29.2).bind fun r30 =>
      fi (r29.1 = r30.1) (
        g1194 a0 a1 a2 a3 a4 r30.2) (
        fi ((Int32.ofInt 0) = 0 ∨ (Int32.ofInt 0) = 1) (some ((Int32.ofInt 0), r30.2)) none)) none) none) (
    fi (x1 = (Int32.ofInt 4)) (
      let x31 : Int32 := (a4 + (Int32.ofInt 1))
      fi (fm_is M 906 906 a0 = true ∧ fm_in M a0 x31 = true) (
      (f20 a1 (M.1 3 a0 x31.toNatClampNeg) a3 M).bind fun r32 =>
      let x33 : Int32 := (a4 + (Int32.ofInt 1))
      fi (fm_is r32.2 906 906 a0 = true ∧ fm_in r32.2 a0 x33 = true) (
      fi (fm_is r32.2 92 92 a2 = true) (
      (f28 a2 (r32.2.1 3 a0 x33.toNatClampNeg) r32.2).bind fun r34 =>
      fi (fm_is r34.2 92 92 a2 = true) (
      (f32 a2 r34.2).bind fun r35 =>
      fi (r35.1 = r32.1) (
        fi (r32.1 = 0) (
          fi (fm_is r35.2 902 902 a3 = true ∧ fm_in r35.2 a3 (Int32.ofInt 0) = true) (
          fi ((lg_cmp (r35.2.2.1 3 a3 (Int32.ofInt 0).toNatClampNeg) r34.1.toInt64) = 0) (
            g454 a0 a1 a2 a3 a4 r35.2) (
            fi ((Int32.ofInt 0) = 0 ∨ (Int32.ofInt 0) = 1) (some ((Int32.ofInt 0), r35.2)) none)) none) (
          g454 a0 a1 a2 a3 a4 r35.2)) (
        fi ((Int32.ofInt 0) = 0 ∨ (Int32.ofInt 0) = 1) (some ((Int32.ofInt 0), r35.2)) none)) none) none) none) none) (
    fi (x1 = (Int32.ofInt 5)) (
      fi (fm_is M 10 10 a1 = true) (
      (f4 a1 M).bind fun r36 =>
      fi (fm_is r36.2 92 92 a2 = true) (
      (f12 a2 r36.2).bind fun r37 =>
      fi (r36.1 = r37.1) (
        g1194 a0 a1 a2 a3 a4 r37.2) (
        fi ((Int32.ofInt 0) = 0 ∨ (Int32.ofInt 0) = 1) (some ((Int32.ofInt 0), r37.2)) none)) none) none) (
    fi (x1 = (Int32.ofInt 6)) (
      fi (fm_is M 10 10 a1 = true) (
      (f5 a1 M).bind fun r38 =>
      fi (fm_is r38.2 92 92 a2 = true) (
      (f13 a2 r38.2).bind fun r39 =>
      fi (r38.1 = r39.1) (
        g1194 a0 a1 a2 a3 a4 r39.2) (
        fi ((Int32.ofInt 0) = 0 ∨ (Int32.ofInt 0) = 1) (some ((Int32.ofInt 0), r39.2)) none)) none) none) (
    fi (x1 = (Int32.ofInt 7)) (
      let x40 : Int32 := (a4 + (Int32.ofInt 1))
      fi (fm_is M 906 906 a0 = true ∧ fm_in M a0 x40 = true) (
      (f21 a1 (M.1 3 a0 x40.toNatClampNeg) a3 M).bind fun r41 =>
      let x42 : Int32 := (a4 + (Int32.ofInt 1))
      fi (fm_is r41.2 906 906 a0 = true ∧ fm_in r41.2 a0 x42 = true) (
      fi (fm_is r41.2 92 92 a2 = true) (
      (f29 a2 (r41.2.1 3 a0 x42.toNatClampNeg) r41.2).bind fun r43 =>
      fi (fm_is r43.2 92 92 a2 = true) (
      (f32 a2 r43.2).bind fun r44 =>
      fi (r44.1 = r41.1) (
        fi (r41.1 = 0) (
          fi (fm_is r44.2 902 902 a3 = true ∧ fm_in r44.2 a3 (Int32.ofInt 0) = true) (
          fi ((lg_cmp (r44.2.2.1 3 a3 (Int32.ofInt 0).toNatClampNeg) r43.1) = 0) (
            g535 a0 a1 a2 a3 a4 r44.2) (
            fi ((Int32.ofInt 0) = 0 ∨ (Int32.ofInt 0) = 1) (some ((Int32.ofInt 0), r44.2)) none)) none) (
          g535 a0 a1 a2 a3 a4 r44.2)) (
        fi ((Int32.ofInt 0) = 0 ∨ (Int32.ofInt 0) = 1) (some ((Int32.ofInt 0), r44.2)) none)) none) none) none) none) (
    fi (x1 = (Int32.ofInt 8)) (
      let x45 : Int32 := (a4 + (Int32.ofInt 1))
      fi (fm_is M 906 906 a0 = true ∧ fm_in M a0 x45 = true) (
      let x46 : Int32 := (a4 + (Int32.ofInt 2))
      fi (fm_is M 906 906 a0 = true ∧ fm_in M a0 x46 = true) (
      (f24 a1 (M.1 3 a0 x45.toNatClampNeg) (M.1 3 a0 x46.toNatClampNeg) a3 M).bind fun r47 =>
      let x48 : Int32 := (a4 + (Int32.ofInt 1))
      fi (fm_is r47.2 906 906 a0 = true ∧ fm_in r47.2 a0 x48 = true) (
      let x49 : Int32 := (a4 + (Int32.ofInt 2))
      fi (fm_is r47.2 906 906 a0 = true ∧ fm_in r47.2 a0 x49 = true) (
      fi (fm_is r47.2 92 92 a2 = true) (
      (f36 a2 (r47.2.1 3 a0 x48.toNatClampNeg) (r47.2.1 3 a0 x49.toNatClampNeg) r47.2).bind fun r50 =>
      fi (fm_is r50.2 92 92 a2 = true) (
      (f32 a2 r50.2).bind fun r51 =>
      fi (r51.1 = r47.1) (
        fi (r47.1 = 0) (
          fi (fm_is r51.2 902 902 a3 = true ∧ fm_in r51.2 a3 (Int32.ofInt 0) = true) (
          fi ((lg_cmp (r51.2.2.1 3 a3 (Int32.ofInt 0).toNatClampNeg) r50.1) = 0) (
            g602 a0 a1 a2 a3 a4 r51.2) (
            fi ((Int32.ofInt 0) = 0 ∨ (Int32.ofInt 0) = 1) (some ((Int32.ofInt 0), r51.2)) none)) none) (
          g602 a0 a1 a2 a3 a4 r51.2)) (
        fi ((Int32.ofInt 0) = 0 ∨ (Int32.ofInt 0) = 1) (some ((Int32.ofInt 0), r51.2)) none)) none) none) none) none) none) none) (
    fi (x1 = (Int32.ofInt 9)) (
      let x52 : Int32 := (a4 + (Int32.ofInt 1))
      fi (fm_is M 906 906 a0 = true ∧ fm_in M a0 x52 = true) (
      let x53 : Int32 := (a4 + (Int32.ofInt 2))
      fi (fm_is M 906 906 a0 = true ∧ fm_in M a0 x53 = true) (
      (f25 a1 (M.1 3 a0 x52.toNatClampNeg) (M.1 3 a0 x53.toNatClampNeg) a3 M).bind fun r54 =>
      let x55 : Int32 := (a4 + (Int32.ofInt 1))
      fi (fm_is r54.2 906 906 a0 = true ∧ fm_in r54.2 a0 x55 = true) (
      let x56 : Int32 := (a4 + (Int32.ofInt 2))
      fi (fm_is r54.2 906 906 a0 = true ∧ fm_in r54.2 a0 x56 = true) (
      fi (fm_is r54.2 92 92 a2 = true) (
      (f37 a2 (r54.2.1 3 a0 x55.toNatClampNeg) (r54.2.1 3 a0 x56.toNatClampNeg) r54.2).bind fun r57 =>
      fi (fm_is r57.2 92 92 a2 = true) (
      (f32 a2 r57.2).bind fun r58 =>
      fi (r58.1 = r54.1) (
        fi (r54.1 = 0) (
          fi (fm_is r58.2 902 902 a3 = true ∧ fm_in r58.2 a3 (Int32.ofInt 0) = true) (
          fi ((lg_cmp (r58.2.2.1 3 a3 (Int32.ofInt 0).toNatClampNeg) r57.1) = 0) (
            g669 a0 a1 a2 a3 a4 r58.2) (
            fi ((Int32.ofInt 0) = 0 ∨ (Int32.ofInt 0) = 1) (some ((Int32.ofInt 0), r58.2)) none)) none) (
          g669 a0 a1 a2 a3 a4 r58.2)) (
        fi ((Int32.ofInt 0) = 0 ∨ (Int32.ofInt 0) = 1) (some ((Int32.ofInt 0), r58.2)) none)) none) none) none) none) none) none) (
    fi (x1 = (Int32.ofInt 10)) (
      let x59 : Int32 := (a4 + (Int32.ofInt 1))
      fi (fm_is M 906 906 a0 = true ∧ fm_in M a0 x59 = true) (
      let x60 : Int32 := (a4 + (Int32.ofInt 2))
      fi (fm_is M 906 906 a0 = true ∧ fm_in M a0 x60 = true) (
      (f26 a1 (M.1 3 a0 x59.toNatClampNeg) (M.1 3 a0 x60.toNatClampNeg) a3 M).bind fun r61 =>
      let x62 : Int32 := (a4 + (Int32.ofInt 1))
      fi (fm_is r61.2 906 906 a0 = true ∧ fm_in r61.2 a0 x62 = true) (
      let x63 : Int32 := (a4 + (Int32.ofInt 2))
      fi (fm_is r61.2 906 906 a0 = true ∧ fm_in r61.2 a0 x63 = true) (
      fi (fm_is r61.2 92 92 a2 = true) (
      (f38 a2 (r61.2.1 3 a0 x62.toNatClampNeg) (r61.2.1 3 a0 x63.toNatClampNeg) r61.2).bind fun r64 =>
      fi (fm_is r64.2 92 92 a2 = true) (
      (f32 a2 r64.2).bind fun r65 =>
      fi (r65.1 = r61.1) (
        fi (r61.1 = 0) (
          fi (fm_is r65.2 902 902 a3 = true ∧ fm_in r65.2 a3 (Int32.ofInt 0) = true) (
          fi ((lg_cmp (r65.2.2.1 3 a3 (Int32.ofInt 0).toNatClampNeg) r64.1) = 0) (
            g736 a0 a1 a2 a3 a4 r65.2) (
            fi ((Int32.ofInt 0) = 0 ∨ (Int32.ofInt 0) = 1) (some ((Int32.ofInt 0), r65.2)) none)) none) (
          g736 a0 a1 a2 a3 a4 r65.2)) (
        fi ((Int32.ofInt 0) = 0 ∨ (Int32.ofInt 0) = 1) (some ((Int32.ofInt 0), r65.2)) none)) none) none) none) none) none) none) (
    fi (x1 = (Int32.ofInt 11)) (
      let x66 : Int32 := (a4 + (Int32.ofInt 1))
      fi (fm_is M 906 906 a0 = true ∧ fm_in M a0 x66 = true) (
      (f22 a1 (M.1 3 a0 x66.toNatClampNeg) a3 M).bind fun r67 =>
      let x68 : Int32 := (a4 + (Int32.ofInt 1))
      fi (fm_is r67.2 906 906 a0 = true ∧ fm_in r67.2 a0 x68 = true) (
      fi (fm_is r67.2 92 92 a2 = true) (
      (f30 a2 (r67.2.1 3 a0 x68.toNatClampNeg) r67.2).bind fun r69 =>
      fi (fm_is r69.2 92 92 a2 = true) (
      (f32 a2 r69.2).bind fun r70 =>
      fi (r70.1 = r67.1) (
        fi (r67.1 = 0) (
          fi (fm_is r70.2 902 902 a3 = true ∧ fm_in r70.2 a3 (Int32.ofInt 0) = true) (
          fi ((lg_cmp (r70.2.2.1 3 a3 (Int32.ofInt 0).toNatClampNeg) r69.1.toInt64) = 0) (
            g792 a0 a1 a2 a3 a4 r70.2) (
            fi ((Int32.ofInt 0) = 0 ∨ (Int32.ofInt 0) = 1) (some ((Int32.ofInt 0), r70.2)) none)) none) (
          g792 a0 a1 a2 a3 a4 r70.2)) (
        fi ((Int32.ofInt 0) = 0 ∨ (Int32.ofInt 0) = 1) (some ((Int32.ofInt 0), r70.2)) none)) none) none) none) none) (
    fi (x1 = (Int32.ofInt 12)) (
      let x71 : Int32 := (a4 + (Int32.ofInt 1))
      fi (fm_is M 906 906 a0 = true ∧ fm_in M a0 x71 = true) (
      let x72 : Int32 := (a4 + (Int32.ofInt 2))
      fi (fm_is M 906 906 a0 = true ∧ fm_in M a0 x72 = true) (
      (f34 a1 (((M.1 3 a0 x71.toNatClampNeg).toInt64 <<< ((Int32.ofInt 32).toInt64 &&& 63)) ||| ((M.1 3 a0 x72.toNatClampNeg).toInt64 &&& (Int64.ofInt 4294967295))) a3 M).bind fun r73 =>
      let x74 : Int32 := (a4 + (Int32.ofInt 1))
      fi (fm_is r73.2 906 906 a0 = true ∧ fm_in r73.2 a0 x74 = true) (
      let x75 : Int32 := (a4 + (Int32.ofInt 2))
      fi (fm_is r73.2 906 906 a0 = true ∧ fm_in r73.2 a0 x75 = true) (
      fi (fm_is r73.2 92 92 a2 = true) (
      (f42 a2 (((r73.2.1 3 a0 x74.toNatClampNeg).toInt64 <<< ((Int32.ofInt 32).toInt64 &&& 63)) ||| ((r73.2.1 3 a0 x75.toNatClampNeg).toInt64 &&& (Int64.ofInt 4294967295))) r73.2).bind fun r76 =>
      fi (fm_is r76.2 92 92 a2 = true) (
      (f32 a2 r76.2).bind fun r77 =>
      fi (r77.1 = r73.1) (
        fi (r73.1 = 0) (
          fi (fm_is r77.2 902 902 a3 = true ∧ fm_in r77.2 a3 (Int32.ofInt 0) = true) (
          fi ((lg_cmp (r77.2.2.1 3 a3 (Int32.ofInt 0).toNatClampNeg) r76.1) = 0) (
            g879 a0 a1 a2 a3 a4 r77.2) (
            fi ((Int32.ofInt 0) = 0 ∨ (Int32.ofInt 0) = 1) (some ((Int32.ofInt 0), r77.2)) none)) none) (
          g879 a0 a1 a2 a3 a4 r77.2)) (
        fi ((Int32.ofInt 0) = 0 ∨ (Int32.ofInt 0) = 1) (some ((Int32.ofInt 0), r77.2)) none)) none) none) none) none) none) none) (
    fi (x1 = (Int32.ofInt 13)) (
      let x78 : Int32 := (a4 + (Int32.ofInt 1))
      fi (fm_is M 906 906 a0 = true ∧ fm_in M a0 x78 = true) (
      let x79 : Int32 := (a4 + (Int32.ofInt 2))
      fi (fm_is M 906 906 a0 = true ∧ fm_in M a0 x79 = true) (
      let x80 : Int32 := (a4 + (Int32.ofInt 3))
      fi (fm_is M 906 906 a0 = true ∧ fm_in M a0 x80 = true) (
      let x81 : Int32 := (a4 + (Int32.ofInt 4))
      fi (fm_is M 906 906 a0 = true ∧ fm_in M a0 x81 = true) (
      (f40 a1 (((M.1 3 a0 x78.toNatClampNeg).toInt64 <<< ((Int32.ofInt 32).toInt64 &&& 63)) ||| ((M.1 3 a0 x79.toNatClampNeg).toInt64 &&& (Int64.ofInt 4294967295))) (((M.1 3 a0 x80.toNatClampNeg).toInt64 <<< ((Int32.ofInt 32).toInt64 &&& 63)) ||| ((M.1 3 a0 x81.toNatClampNeg).toInt64 &&& (Int64.ofInt 4294967295))) a3 M).bind fun r82 =>
      let x83 : Int32 := (a4 + (Int32.ofInt 1))
      fi (fm_is r82.2 906 906 a0 = true ∧ fm_in r82.2 a0 x83 = true) (
      let x84 : Int32 := (a4 + (Int32.ofInt 2))
      fi (fm_is r82.2 906 906 a0 = true ∧ fm_in r82.2 a0 x84 = true) (
      let x85 : Int32 := (a4 + (Int32.ofInt 3))
      fi (fm_is r82.2 906 906 a0 = true ∧ fm_in r82.2 a0 x85 = true) (
      let x86 : Int32 := (a4 + (Int32.ofInt 4))
      fi (fm_is r82.2 906 906 a0 = true ∧ fm_in r82.2 a0 x86 = true) (
      fi (fm_is r82.2 92 92 a2 = true) (
      (f45 a2 (((r82.2.1 3 a0 x83.toNatClampNeg).toInt64 <<< ((Int32.ofInt 32).toInt64 &&& 63)) ||| ((r82.2.1 3 a0 x84.toNatClampNeg).toInt64 &&& (Int64.ofInt 4294967295))) (((r82.2.1 3 a0 x85.toNatClampNeg).toInt64 <<< ((Int32.ofInt 32).toInt64 &&& 63)) ||| ((r82.2.1 3 a0 x86.toNatClampNeg).toInt64 &&& (Int64.ofInt 4294967295))) r82.2).bind fun r87 =>
      fi (fm_is r87.2 92 92 a2 = true) (
      (f32 a2 r87.2).bind fun r88 =>
      fi (r88.1 = r82.1) (
        fi (r82.1 = 0) (
          fi (fm_is r88.2 902 902 a3 = true ∧ fm_in r88.2 a3 (Int32.ofInt 0) = true) (
          fi ((lg_cmp (r88.2.2.1 3 a3 (Int32.ofInt 0).toNatClampNeg) r87.1) = 0) (
            g1010 a0 a1 a2 a3 a4 r88.2) (
            fi ((Int32.ofInt 0) = 0 ∨ (Int32.ofInt 0) = 1) (some ((Int32.ofInt 0), r88.2)) none)) none) (
          g1010 a0 a1 a2 a3 a4 r88.2)) (
        fi ((Int32.ofInt 0) = 0 ∨ (Int32.ofInt 0) = 1) (some ((Int32.ofInt 0), r88.2)) none)) none) none) none) none) none) none) none) none) none) none) (
    fi (x1 = (Int32.ofInt 14)) (
      let x89 : Int32 := (a4 + (Int32.ofInt 1))
      fi (fm_is M 906 906 a0 = true ∧ fm_in M a0 x89 = true) (
      (f23 a1 (M.1 3 a0 x89.toNatClampNeg) a3 M).bind fun r90 =>
      let x91 : Int32 := (a4 + (Int32.ofInt 1))
      fi (fm_is r90.2 906 906 a0 = true ∧ fm_in r90.2 a0 x91 = true) (
      fi (fm_is r90.2 92 92 a2 = true) (
      (f31 a2 (r90.2.1 3 a0 x91.toNatClampNeg) r90.2).bind fun r92 =>
      fi (fm_is r92.2 92 92 a2 = true) (
      (f32 a2 r92.2).bind fun r93 =>
      fi (r93.1 = r90.1) (
        fi (r90.1 = 0) (
          fi (fm_is r93.2 902 902 a3 = true ∧ fm_in r93.2 a3 (Int32.ofInt 0) = true) (
          fi ((lg_cmp (r93.2.2.1 3 a3 (Int32.ofInt 0).toNatClampNeg) r92.1.toInt64) = 0) (
            g1066 a0 a1 a2 a3 a4 r93.2) (
            fi ((Int32.ofInt 0) = 0 ∨ (Int32.ofInt 0) = 1) (some ((Int32.ofInt 0), r93.2)) none)) none) (
          g1066 a0 a1 a2 a3 a4 r93.2)) (
        fi ((Int32.ofInt 0) = 0 ∨ (Int32.ofInt 0) = 1) (some ((Int32.ofInt 0), r93.2)) none)) none) none) none) none) (
    fi (x1 = (Int32.ofInt 15)) (
      fi (fm_is M 10 10 a1 = true) (
      (f6 a1 M).bind fun r94 =>
      fi (fm_is r94.2 92 92 a2 = true) (
      (f14 a2 r94.2).bind fun r95 =>
      fi ((lg_cmp r94.1 r95.1) = 0) (
        g1194 a0 a1 a2 a3 a4 r95.2) (
        fi ((Int32.ofInt 0) = 0 ∨ (Int32.ofInt 0) = 1) (some ((Int32.ofInt 0), r95.2)) none)) none) none) (
    fi (x1 = (Int32.ofInt 16)) (
      let x96 : Int32 := (a4 + (Int32.ofInt 1))
      fi (fm_is M 906 906 a0 = true ∧ fm_in M a0 x96 = true) (
      let x97 : Int32 := (a4 + (Int32.ofInt 2))
      fi (fm_is M 906 906 a0 = true ∧ fm_in M a0 x97 = true) (
      fi (fm_is M 10 10 a1 = true) (
      (f33 a1 (((M.1 3 a0 x96.toNatClampNeg).toInt64 <<< ((Int32.ofInt 32).toInt64 &&& 63)) ||| ((M.1 3 a0 x97.toNatClampNeg).toInt64 &&& (Int64.ofInt 4294967295))) M).bind fun r98 =>
      let x99 : Int32 := (a4 + (Int32.ofInt 1))
      fi (fm_is r98.2 906 906 a0 = true ∧ fm_in r98.2 a0 x99 = true) (
      let x100 : Int32 := (a4 + (Int32.ofInt 2))
      fi (fm_is r98.2 906 906 a0 = true ∧ fm_in r98.2 a0 x100 = true) (
      fi (fm_is r98.2 92 92 a2 = true) (
      (f41 a2 (((r98.2.1 3 a0 x99.toNatClampNeg).toInt64 <<< ((Int32.ofInt 32).toInt64 &&& 63)) ||| ((r98.2.1 3 a0 x100.toNatClampNeg).toInt64 &&& (Int64.ofInt 4294967295))) r98.2).bind fun r101 =>
      fi (r98.1 = r101.1) (
        g1194 a0 a1 a2 a3 a4 r101.2) (
        fi ((Int32.ofInt 0) = 0 ∨ (Int32.ofInt 0) = 1) (some ((Int32.ofInt 0), r101.2)) none)) none) none) none) none) none) none) (
    fi (x1 = (Int32.ofInt 17)) (
      fi (fm_is M 10 10 a1 = true) (
      (f7 a1 M).bind fun r102 =>
      fi (fm_is r102.2 92 92 a2 = true) (
      (f15 a2 r102.2).bind fun r103 =>
      fi (r102.1 = r103.1) (
        g1194 a0 a1 a2 a3 a4 r103.2) (
        fi ((Int32.ofInt 0) = 0 ∨ (Int32.ofInt 0) = 1) (some ((Int32.ofInt 0), r103.2)) none)) none) none) (
    fi (x1 = (Int32.ofInt 18)) (
      fi (fm_is M 10 10 a1 = true) (
      (f8 a1 M).bind fun r104 =>
      fi (fm_is r104.2 92 92 a2 = true) (
      (f16 a2 r104.2).bind fun r105 =>
      fi (r104.1 = r105.1) (
        g1194 a0 a1 a2 a3 a4 r105.2) (
        fi ((Int32.ofInt 0) = 0 ∨ (Int32.ofInt 0) = 1) (some ((Int32.ofInt 0), r105.2)) none)) none) none) (
    fi (x1 = (Int32.ofInt 19)) (
      fi (fm_is M 10 10 a1 = true) (
      (f9 a1 M).bind fun r106 =>
      fi (fm_is r106.2 92 92 a2 = true) (
      (f17 a2 r106.2).bind fun r107 =>
      fi ((lg_cmp r106.1 r107.1) = 0) (
        g1194 a0 a1 a2 a3 a4 r107.2) (
        fi ((Int32.ofInt 0) = 0 ∨ (Int32.ofInt 0) = 1) (some ((Int32.ofInt 0), r107.2)) none)) none) none) (
    fi (x1 = (Int32.ofInt 20)) (
      fi (fm_is M 10 10 a1 = true) (
      (f10 a1 M).bind fun r108 =>
      fi (fm_is r108.2 92 92 a2 = true) (
      (f18 a2 r108.2).bind fun r109 =>
      fi ((lg_cmp r108.1 r109.1) = 0) (
        g1194 a0 a1 a2 a3 a4 r109.2) (
        fi ((Int32.ofInt 0) = 0 ∨ (Int32.ofInt 0) = 1) (some ((Int32.ofInt 0), r109.2)) none)) none) none) (
    g1194 a0 a1 a2 a3 a4 M)))))))))))))))))))))) none)) none
noncomputable def FL_law_33 (n : Nat) (k33 : Nat → Nat → Nat → Nat → Int32 → FM → Option (Int32 × FM)) (a0 : Nat) (a1 : Nat) (a2 : Nat) (a3 : Nat) (a4 : Int32) (M : FM) : Option (Int32 × FM) := BL_law_33 (FX1_start n) FX1_code FX1_processors FX1_sent FX1_waiting FX1_changed FX1_time FX1_breaches (FX92_start n) FX92_code FX92_processors FX92_sent FX92_waiting FX92_changed FX92_time FX92_breaches (Fh_law_end n) (Fh_law_run n) (Fh_law_counter n) (Fh_law_mode n) (Fh_law_disk n) (Fh_law_register n) (Fh_law_floating n) (Fh_law_control n) FX92_end (FX92_run n) FX92_counter FX92_mode FX92_disk FX92_thrown FX1_out (Fh_law_word n) (Fh_law_load n) FX92_register FX92_floating_2 (FX92_control n) (Fh_law_feed n) (Fh_law_sum n) FX92_out (FX92_word n) (FX92_load n) (FX92_feed n) (FX92_sum n) (FL_law_249 n k33) (FL_law_385 n k33) (FL_law_454 n k33) (FL_law_535 n k33) (FL_law_602 n k33) (FL_law_669 n k33) (FL_law_736 n k33) (FL_law_792 n k33) (FL_law_879 n k33) (FL_law_1010 n k33) (FL_law_1066 n k33) (FL_law_1194 n k33) a0 a1 a2 a3 a4 M
noncomputable def BL_law_0 (f0 : Nat → Int32 → FM → Option (Int32 × FM)) (f1 : Nat → Int32 → FM → Option (FM)) (f2 : Nat → Int32 → FM → Option (FM)) (k33 : Nat → Nat → Nat → Nat → Int32 → FM → Option (Int32 × FM)) (a0 : Nat) (M : FM) : Option (Int32 × FM) :=
  let x2 : Nat := fm_nx M
  let M1 : FM := fm_new M 10 1
  (f0 a0 (Int32.ofInt 0) M1).bind fun r3 =>
  fi (fm_is r3.2 10 10 x2 = true) (
  (f1 x2 r3.1 r3.2).bind fun M4 =>
  let x6 : Nat := fm_nx M4
  let M5 : FM := fm_new M4 92 28
  (f0 a0 (Int32.ofInt 0) M5).bind fun r7 =>
  fi (fm_is r7.2 92 92 x6 = true) (
  (f2 x6 r7.1 r7.2).bind fun M8 =>
  fi (¬ (Int32.ofInt 1) < 0 ∧ (Int32.ofInt 1).toNatClampNeg * 8 ≤ 536870912) (
  let x10 : Nat := fm_nx M8
  let M9 : FM := fm_newa M8 902 9 (Int32.ofInt 1).toNatClampNeg
  k33 a0 x2 x6 x10 (Int32.ofInt 1) M9) none) none) none
noncomputable def FL_law_0 (n : Nat) (k33 : Nat → Nat → Nat → Nat → Int32 → FM → Option (Int32 × FM)) (a0 : Nat) (M : FM) : Option (Int32 × FM) := BL_law_0 FX0_cell (FX1_init n) (FX92_init n) k33 a0 M
noncomputable def FL_law_L33 (n : Nat) : Nat → Nat → Nat → Nat → Nat → Int32 → FM → Option (Int32 × FM)
  | 0 => fun _ _ _ _ _ _ => none
  | j + 1 => FL_law_33 n (FL_law_L33 n j)
noncomputable def FL_law (n : Nat) (a0 : Nat) (M : FM) : Option (Int32 × FM) := FL_law_0 n (FL_law_L33 n n) a0 M
