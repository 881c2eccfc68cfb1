/-! functions of methods, printed by gen/defs.py -/
set_option maxRecDepth 100000
/-! BoardMachineModel$Floats.fewest(I)J -/
noncomputable def BX99_fewest_22 (s0 : Int64) (M : FM) : Option (Int64 × FM) :=
  some (s0, M)
noncomputable def FX99_fewest_22 (s0 : Int64) (M : FM) : Option (Int64 × FM) := BX99_fewest_22 s0 M
noncomputable def BX99_fewest_0 (g22 : Int64 → FM → Option (Int64 × FM)) (a0 : Int32) (M : FM) : Option (Int64 × FM) :=
  fi (a0 = 0) (
    g22 (Int64.ofInt (-2147483648)) M) (
    fi (a0 = (Int32.ofInt 2)) (
      g22 (Int64.ofInt (-9223372036854775808)) M) (
      g22 (Int64.ofInt 0) M))
noncomputable def FX99_fewest_0 (a0 : Int32) (M : FM) : Option (Int64 × FM) := BX99_fewest_0 FX99_fewest_22 a0 M
noncomputable def FX99_fewest (a0 : Int32) (M : FM) : Option (Int64 × FM) := FX99_fewest_0 a0 M
/-! BoardMachineModel$Floats.most(I)J -/
noncomputable def BX99_most_35 (s0 : Int64) (M : FM) : Option (Int64 × FM) :=
  some (s0, M)
noncomputable def FX99_most_35 (s0 : Int64) (M : FM) : Option (Int64 × FM) := BX99_most_35 s0 M
noncomputable def BX99_most_0 (g35 : Int64 → FM → Option (Int64 × FM)) (a0 : Int32) (M : FM) : Option (Int64 × FM) :=
  fi (a0 = 0) (
    g35 (Int64.ofInt 2147483647) M) (
    fi (a0 = (Int32.ofInt 1)) (
      g35 (Int64.ofInt 4294967295) M) (
      fi (a0 = (Int32.ofInt 2)) (
        g35 (Int64.ofInt 9223372036854775807) M) (
        g35 (Int64.ofInt (-1)) M)))
noncomputable def FX99_most_0 (a0 : Int32) (M : FM) : Option (Int64 × FM) := BX99_most_0 FX99_most_35 a0 M
noncomputable def FX99_most (a0 : Int32) (M : FM) : Option (Int64 × FM) := FX99_most_0 a0 M
/-! BoardMachineModel$Floats.shown(JI)J -/
noncomputable def BX99_shown_12 (s0 : Int64) (M : FM) : Option (Int64 × FM) :=
  some (s0, M)
noncomputable def FX99_shown_12 (s0 : Int64) (M : FM) : Option (Int64 × FM) := BX99_shown_12 s0 M
noncomputable def BX99_shown_0 (g12 : Int64 → FM → Option (Int64 × FM)) (a0 : Int64) (a2 : Int32) (M : FM) : Option (Int64 × FM) :=
  fi ((Int32.ofInt 2) ≤ a2) (
    g12 a0 M) (
    g12 a0.toInt32.toInt64 M)
noncomputable def FX99_shown_0 (a0 : Int64) (a2 : Int32) (M : FM) : Option (Int64 × FM) := BX99_shown_0 FX99_shown_12 a0 a2 M
noncomputable def FX99_shown (a0 : Int64) (a2 : Int32) (M : FM) : Option (Int64 × FM) := FX99_shown_0 a0 a2 M
/-! BoardMachineModel$Floats.beyond(ZI)J -/
noncomputable def BX99_beyond_21 (f3 : Int64 → Int32 → FM → Option (Int64 × FM)) (a2 : Int32) (s0 : Int64) (M : FM) : Option (Int64 × FM) :=
  (f3 s0 a2 M).bind fun r1 =>
  some (r1.1, r1.2)
noncomputable def FX99_beyond_21 (a2 : Int32) (s0 : Int64) (M : FM) : Option (Int64 × FM) := BX99_beyond_21 FX99_shown a2 s0 M
noncomputable def BX99_beyond_0 (f0 : Nat → Int32 → FM → Option (FM)) (f1 : Int32 → FM → Option (Int64 × FM)) (f2 : Int32 → FM → Option (Int64 × FM)) (g21 : Int32 → Int64 → FM → Option (Int64 × FM)) (a0 : Nat) (a1 : Int32) (a2 : Int32) (M : FM) : Option (Int64 × FM) :=
  fi (fm_is M 96 96 a0 = true) (
  (f0 a0 (Int32.ofInt 16) M).bind fun M1 =>
  fi (a1 = 0) (
    (f2 a2 M1).bind fun r2 =>
    g21 a2 r2.1 r2.2) (
    (f1 a2 M1).bind fun r3 =>
    g21 a2 r3.1 r3.2)) none
noncomputable def FX99_beyond_0 (a0 : Nat) (a1 : Int32) (a2 : Int32) (M : FM) : Option (Int64 × FM) := BX99_beyond_0 FX99_raiseFlags FX99_fewest FX99_most FX99_beyond_21 a0 a1 a2 M
noncomputable def FX99_beyond (a0 : Nat) (a1 : Int32) (a2 : Int32) (M : FM) : Option (Int64 × FM) := FX99_beyond_0 a0 a1 a2 M
/-! BoardMachineModel$Floats.toInteger(II)J -/
noncomputable def BX99_toInteger_404 (f7 : Int64 → Int32 → FM → Option (Int64 × FM)) (a1 : Int32) (s0 : Int64) (M : FM) : Option (Int64 × FM) :=
  (f7 s0 a1 M).bind fun r1 =>
  some (r1.1, r1.2)
noncomputable def FX99_toInteger_404 (n : Nat) (a1 : Int32) (s0 : Int64) (M : FM) : Option (Int64 × FM) := BX99_toInteger_404 FX99_shown a1 s0 M
noncomputable def BX99_toInteger_383 (g404 : Int32 → Int64 → FM → Option (Int64 × FM)) (a0 : Nat) (a1 : Int32) (M : FM) : Option (Int64 × FM) :=
  fi (fm_is M 96 96 a0 = true) (
  fi ((M.1 382 a0 0) = (Int32.ofInt 1)) (
    fi (fm_is M 96 96 a0 = true) (
    g404 a1 ((Int64.ofInt 0) - (M.2.1 384 a0 0)) M) none) (
    fi (fm_is M 96 96 a0 = true) (
    g404 a1 (M.2.1 384 a0 0) M) none)) none
noncomputable def FX99_toInteger_383 (n : Nat) (a0 : Nat) (a1 : Int32) (M : FM) : Option (Int64 × FM) := BX99_toInteger_383 (FX99_toInteger_404 n ) a0 a1 M
noncomputable def BX99_toInteger_368 (f1 : Nat → Int32 → Int32 → FM → Option (Int64 × FM)) (a1 : Int32) (s0 : Nat) (s1 : Int32) (M : FM) : Option (Int64 × FM) :=
  fi (fm_is M 96 96 s0 = true) (
  (f1 s0 s1 a1 M).bind fun r1 =>
  some (r1.1, r1.2)) none
noncomputable def FX99_toInteger_368 (n : Nat) (a1 : Int32) (s0 : Nat) (s1 : Int32) (M : FM) : Option (Int64 × FM) := BX99_toInteger_368 FX99_beyond a1 s0 s1 M
noncomputable def BX99_toInteger_349 (f5 : Nat → Int32 → FM → Option (FM)) (g368 : Int32 → Nat → Int32 → FM → Option (Int64 × FM)) (g383 : Nat → Int32 → FM → Option (Int64 × FM)) (a0 : Nat) (a1 : Int32) (a4 : Int32) (a7 : Int32) (M : FM) : Option (Int64 × FM) :=
  fi (a7 = 0) (
    fi (a4 = 0) (
      g383 a0 a1 M) (
      fi (fm_is M 96 96 a0 = true) (
      (f5 a0 (Int32.ofInt 1) M).bind fun M1 =>
      g383 a0 a1 M1) none)) (
    fi (fm_is M 96 96 a0 = true) (
    fi ((M.1 382 a0 0) = (Int32.ofInt 1)) (
      g368 a1 a0 (Int32.ofInt 1) M) (
      g368 a1 a0 (Int32.ofInt 0) M)) none)
noncomputable def FX99_toInteger_349 (n : Nat) (a0 : Nat) (a1 : Int32) (a4 : Int32) (a7 : Int32) (M : FM) : Option (Int64 × FM) := BX99_toInteger_349 FX99_raiseFlags (FX99_toInteger_368 n ) (FX99_toInteger_383 n ) a0 a1 a4 a7 M
noncomputable def BX99_toInteger_347 (g349 : Nat → Int32 → Int32 → Int32 → FM → Option (Int64 × FM)) (a0 : Nat) (a1 : Int32) (a4 : Int32) (s0 : Int32) (M : FM) : Option (Int64 × FM) :=
  g349 a0 a1 a4 s0 M
noncomputable def FX99_toInteger_347 (n : Nat) (a0 : Nat) (a1 : Int32) (a4 : Int32) (s0 : Int32) (M : FM) : Option (Int64 × FM) := BX99_toInteger_347 (FX99_toInteger_349 n ) a0 a1 a4 s0 M
noncomputable def BX99_toInteger_342 (g347 : Nat → Int32 → Int32 → Int32 → FM → Option (Int64 × FM)) (a0 : Nat) (a1 : Int32) (a4 : Int32) (M : FM) : Option (Int64 × FM) :=
  g347 a0 a1 a4 (Int32.ofInt 1) M
noncomputable def FX99_toInteger_342 (n : Nat) (a0 : Nat) (a1 : Int32) (a4 : Int32) (M : FM) : Option (Int64 × FM) := BX99_toInteger_342 (FX99_toInteger_347 n ) a0 a1 a4 M
noncomputable def BX99_toInteger_311 (g349 : Nat → Int32 → Int32 → Int32 → FM → Option (Int64 × FM)) (a0 : Nat) (a1 : Int32) (a4 : Int32) (s0 : Int32) (M : FM) : Option (Int64 × FM) :=
  g349 a0 a1 a4 s0 M
noncomputable def FX99_toInteger_311 (n : Nat) (a0 : Nat) (a1 : Int32) (a4 : Int32) (s0 : Int32) (M : FM) : Option (Int64 × FM) := BX99_toInteger_311 (FX99_toInteger_349 n ) a0 a1 a4 s0 M
noncomputable def BX99_toInteger_310 (g311 : Nat → Int32 → Int32 → Int32 → FM → Option (Int64 × FM)) (a0 : Nat) (a1 : Int32) (a4 : Int32) (M : FM) : Option (Int64 × FM) :=
  g311 a0 a1 a4 (Int32.ofInt 0) M
noncomputable def FX99_toInteger_310 (n : Nat) (a0 : Nat) (a1 : Int32) (a4 : Int32) (M : FM) : Option (Int64 × FM) := BX99_toInteger_310 (FX99_toInteger_311 n ) a0 a1 a4 M
noncomputable def BX99_toInteger_282 (g311 : Nat → Int32 → Int32 → Int32 → FM → Option (Int64 × FM)) (a0 : Nat) (a1 : Int32) (a4 : Int32) (M : FM) : Option (Int64 × FM) :=
  g311 a0 a1 a4 (Int32.ofInt 1) M
noncomputable def FX99_toInteger_282 (n : Nat) (a0 : Nat) (a1 : Int32) (a4 : Int32) (M : FM) : Option (Int64 × FM) := BX99_toInteger_282 (FX99_toInteger_311 n ) a0 a1 a4 M
noncomputable def BX99_toInteger_220 (f6 : Int32 → FM → Option (Int64 × FM)) (g282 : Nat → Int32 → Int32 → FM → Option (Int64 × FM)) (g310 : Nat → Int32 → Int32 → FM → Option (Int64 × FM)) (g311 : Nat → Int32 → Int32 → Int32 → FM → Option (Int64 × FM)) (g342 : Nat → Int32 → Int32 → FM → Option (Int64 × FM)) (g347 : Nat → Int32 → Int32 → Int32 → FM → Option (Int64 × FM)) (g349 : Nat → Int32 → Int32 → Int32 → FM → Option (Int64 × FM)) (a0 : Nat) (a1 : Int32) (a3 : Int32) (a4 : Int32) (a5 : Int32) (s0 : Int32) (M : FM) : Option (Int64 × FM) :=
  fi (a3 = 0) (
    fi (fm_is M 96 96 a0 = true) (
    fi ((M.1 382 a0 0) = (Int32.ofInt 1)) (
      fi (a5 = 0) (
        fi (a1 = 0) (
          fi (s0 = 0) (
            fi (fm_is M 96 96 a0 = true) (
            fi ((lg_cmp (M.2.1 384 a0 0) (Int64.ofInt 2147483648)) ≤ 0) (
              g311 a0 a1 a4 (Int32.ofInt 0) M) (
              g282 a0 a1 a4 M)) none) (
            g282 a0 a1 a4 M)) (
          fi (s0 = 0) (
            g310 a0 a1 a4 M) (
            fi (fm_is M 96 96 a0 = true) (
            fi ((lg_cmp ((M.2.1 384 a0 0) <<< ((Int32.ofInt 1).toInt64 &&& 63)) (Int64.ofInt 0)) = 0) (
              g310 a0 a1 a4 M) (
              g311 a0 a1 a4 (Int32.ofInt 1) M)) none))) (
        fi (fm_is M 96 96 a0 = true) (
        fi ((lg_cmp (M.2.1 384 a0 0) (Int64.ofInt 0)) = 0) (
          g311 a0 a1 a4 (Int32.ofInt 0) M) (
          g311 a0 a1 a4 (Int32.ofInt 1) M)) none)) (
      fi (a1 = (Int32.ofInt 3)) (
        g347 a0 a1 a4 (Int32.ofInt 0) M) (
        fi (s0 = 0) (
          fi (fm_is M 96 96 a0 = true) (
          (f6 a1 M).bind fun r1 =>
          fi ((lg_cmp (M.2.1 384 a0 0) r1.1) ≤ 0) (
            g347 a0 a1 a4 (Int32.ofInt 0) r1.2) (
            g342 a0 a1 a4 r1.2)) none) (
          g342 a0 a1 a4 M)))) none) (
    g349 a0 a1 a4 (Int32.ofInt 1) M)
noncomputable def FX99_toInteger_220 (n : Nat) (a0 : Nat) (a1 : Int32) (a3 : Int32) (a4 : Int32) (a5 : Int32) (s0 : Int32) (M : FM) : Option (Int64 × FM) := BX99_toInteger_220 FX99_most (FX99_toInteger_282 n ) (FX99_toInteger_310 n ) (FX99_toInteger_311 n ) (FX99_toInteger_342 n ) (FX99_toInteger_347 n ) (FX99_toInteger_349 n ) a0 a1 a3 a4 a5 s0 M
noncomputable def BX99_toInteger_204 (g220 : Nat → Int32 → Int32 → Int32 → Int32 → Int32 → FM → Option (Int64 × FM)) (a0 : Nat) (a1 : Int32) (a3 : Int32) (a4 : Int32) (s0 : Int32) (M : FM) : Option (Int64 × FM) :=
  fi (fm_is M 96 96 a0 = true) (
  fi (0 ≤ (lg_cmp (M.2.1 384 a0 0) (Int64.ofInt 0))) (
    g220 a0 a1 a3 a4 s0 (Int32.ofInt 0) M) (
    g220 a0 a1 a3 a4 s0 (Int32.ofInt 1) M)) none
noncomputable def FX99_toInteger_204 (n : Nat) (a0 : Nat) (a1 : Int32) (a3 : Int32) (a4 : Int32) (s0 : Int32) (M : FM) : Option (Int64 × FM) := BX99_toInteger_204 (FX99_toInteger_220 n ) a0 a1 a3 a4 s0 M
noncomputable def BX99_toInteger_185 (g204 : Nat → Int32 → Int32 → Int32 → Int32 → FM → Option (Int64 × FM)) (a0 : Nat) (a1 : Int32) (s0 : Int32) (M : FM) : Option (Int64 × FM) :=
  fi (fm_is M 96 96 a0 = true) (
  let x1 : Int32 := (M.1 385 a0 0)
  fi ((Int32.ofInt 2) = 0) none (
  fi ((a1 - a1 / (Int32.ofInt 2) * (Int32.ofInt 2)) = (Int32.ofInt 1)) (
    g204 a0 a1 s0 x1 (Int32.ofInt 1) M) (
    g204 a0 a1 s0 x1 (Int32.ofInt 0) M))) none
noncomputable def FX99_toInteger_185 (n : Nat) (a0 : Nat) (a1 : Int32) (s0 : Int32) (M : FM) : Option (Int64 × FM) := BX99_toInteger_185 (FX99_toInteger_204 n ) a0 a1 s0 M
noncomputable def BX99_toInteger_184 (g185 : Nat → Int32 → Int32 → FM → Option (Int64 × FM)) (a0 : Nat) (a1 : Int32) (M : FM) : Option (Int64 × FM) :=
  g185 a0 a1 (Int32.ofInt 0) M
noncomputable def FX99_toInteger_184 (n : Nat) (a0 : Nat) (a1 : Int32) (M : FM) : Option (Int64 × FM) := BX99_toInteger_184 (FX99_toInteger_185 n ) a0 a1 M
noncomputable def BX99_toInteger_180 (g185 : Nat → Int32 → Int32 → FM → Option (Int64 × FM)) (a0 : Nat) (a1 : Int32) (M : FM) : Option (Int64 × FM) :=
  g185 a0 a1 (Int32.ofInt 1) M
noncomputable def FX99_toInteger_180 (n : Nat) (a0 : Nat) (a1 : Int32) (M : FM) : Option (Int64 × FM) := BX99_toInteger_180 (FX99_toInteger_185 n ) a0 a1 M
noncomputable def BX99_toInteger_119 (f1 : Nat → Int32 → Int32 → FM → Option (Int64 × FM)) (a1 : Int32) (s0 : Nat) (s1 : Int32) (M : FM) : Option (Int64 × FM) :=
  fi (fm_is M 96 96 s0 = true) (
  (f1 s0 s1 a1 M).bind fun r1 =>
  some (r1.1, r1.2)) none
noncomputable def FX99_toInteger_119 (n : Nat) (a1 : Int32) (s0 : Nat) (s1 : Int32) (M : FM) : Option (Int64 × FM) := BX99_toInteger_119 FX99_beyond a1 s0 s1 M
noncomputable def BX99_toInteger_50 (f0 : Nat → Int64 → FM → Option (FM)) (f2 : Nat → FM → Option (Int32 × FM)) (f3 : Nat → Int32 → Int32 → FM → Option (FM)) (f4 : Nat → Int32 → FM → Option (Int32 × FM)) (g119 : Int32 → Nat → Int32 → FM → Option (Int64 × FM)) (g180 : Nat → Int32 → FM → Option (Int64 × FM)) (g184 : Nat → Int32 → FM → Option (Int64 × FM)) (a0 : Nat) (a1 : Int32) (a2 : Int32) (M : FM) : Option (Int64 × FM) :=
  fi (fm_is M 96 96 a0 = true) (
  fi (fm_is M 96 96 a0 = true) (
  let x1 : Nat := (M.2.2 377 a0 0)
  fi (fm_is M 902 902 x1 = true ∧ fm_in M x1 (Int32.ofInt 0) = true) (
  (f0 (M.2.2 379 a0 0) (M.2.1 3 x1 (Int32.ofInt 0).toNatClampNeg) M).bind fun M2 =>
  fi (fm_is M2 96 96 a0 = true) (
  let x3 : Nat := (M2.2.2 378 a0 0)
  fi (fm_is M2 901 901 x3 = true ∧ fm_in M2 x3 (Int32.ofInt 0) = true) (
  fi (fm_is M2 96 96 a0 = true) (
  let M4 : FM := fm_sI M2 383 a0 0 (M2.1 3 x3 (Int32.ofInt 0).toNatClampNeg)
  fi (fm_is M4 96 96 a0 = true) (
  let x5 : Nat := (M4.2.2 376 a0 0)
  fi (fm_is M4 901 901 x5 = true ∧ fm_in M4 x5 (Int32.ofInt 0) = true) (
  fi (fm_is M4 96 96 a0 = true) (
  let M6 : FM := fm_sI M4 382 a0 0 (M4.1 3 x5 (Int32.ofInt 0).toNatClampNeg)
  fi (fm_is M6 96 96 a0 = true) (
  fi ((Int32.ofInt 0) = 0 ∨ (Int32.ofInt 0) = 1) (
  let M7 : FM := fm_sI M6 381 a0 0 (Int32.ofInt 0)
  fi (fm_is M7 96 96 a0 = true) (
  (f2 (M7.2.2 379 a0 0) M7).bind fun r8 =>
  fi (fm_is r8.2 96 96 a0 = true) (
  fi ((r8.1 + (r8.2.1 383 a0 0)) ≤ (Int32.ofInt 65)) (
    fi (fm_is r8.2 96 96 a0 = true) (
    (f3 a0 (Int32.ofInt 0) a2 r8.2).bind fun M9 =>
    fi (fm_is M9 96 96 a0 = true) (
    fi (fm_is M9 96 96 a0 = true) (
    (f4 (M9.2.2 379 a0 0) ((Int32.ofInt 64) - (M9.1 383 a0 0)) M9).bind fun r10 =>
    fi (r10.1 = 0) (
      fi (fm_is r10.2 96 96 a0 = true) (
      fi ((lg_cmp (r10.2.2.1 384 a0 0) (Int64.ofInt 0)) = 0) (
        fi (fm_is r10.2 96 96 a0 = true) (
        fi ((r10.2.1 385 a0 0) = 0) (
          g184 a0 a1 r10.2) (
          fi (fm_is r10.2 96 96 a0 = true) (
          fi (fm_is r10.2 96 96 a0 = true) (
          (f4 (r10.2.2.2 379 a0 0) ((Int32.ofInt 63) - (r10.2.1 383 a0 0)) r10.2).bind fun r11 =>
          fi (r11.1 = 0) (
            g184 a0 a1 r11.2) (
            g180 a0 a1 r11.2)) none) none)) none) (
        g184 a0 a1 r10.2)) none) (
      g180 a0 a1 r10.2)) none) none) none) (
    fi (fm_is r8.2 96 96 a0 = true) (
    fi ((r8.2.1 382 a0 0) = (Int32.ofInt 1)) (
      g119 a1 a0 (Int32.ofInt 1) r8.2) (
      g119 a1 a0 (Int32.ofInt 0) r8.2)) none)) none) none) none) none) none) none) none) none) none) none) none) none) none
noncomputable def FX99_toInteger_50 (n : Nat) (a0 : Nat) (a1 : Int32) (a2 : Int32) (M : FM) : Option (Int64 × FM) := BX99_toInteger_50 (FX99_put n) (FX99_length n) (FX99_roundTo n) FX99_bit (FX99_toInteger_119 n ) (FX99_toInteger_180 n ) (FX99_toInteger_184 n ) a0 a1 a2 M
noncomputable def BX99_toInteger_45 (f1 : Nat → Int32 → Int32 → FM → Option (Int64 × FM)) (a1 : Int32) (s0 : Nat) (s1 : Int32) (M : FM) : Option (Int64 × FM) :=
  fi (fm_is M 96 96 s0 = true) (
  (f1 s0 s1 a1 M).bind fun r1 =>
  some (r1.1, r1.2)) none
noncomputable def FX99_toInteger_45 (n : Nat) (a1 : Int32) (s0 : Nat) (s1 : Int32) (M : FM) : Option (Int64 × FM) := BX99_toInteger_45 FX99_beyond a1 s0 s1 M
noncomputable def BX99_toInteger_44 (g45 : Int32 → Nat → Int32 → FM → Option (Int64 × FM)) (a1 : Int32) (s0 : Nat) (M : FM) : Option (Int64 × FM) :=
  g45 a1 s0 (Int32.ofInt 0) M
noncomputable def FX99_toInteger_44 (n : Nat) (a1 : Int32) (s0 : Nat) (M : FM) : Option (Int64 × FM) := BX99_toInteger_44 (FX99_toInteger_45 n ) a1 s0 M
noncomputable def BX99_toInteger_0 (g44 : Int32 → Nat → FM → Option (Int64 × FM)) (g45 : Int32 → Nat → Int32 → FM → Option (Int64 × FM)) (g50 : Nat → Int32 → Int32 → FM → Option (Int64 × FM)) (a0 : Nat) (a1 : Int32) (a2 : Int32) (M : FM) : Option (Int64 × FM) :=
  fi (fm_is M 96 96 a0 = true) (
  let x1 : Nat := (M.2.2 375 a0 0)
  fi (fm_is M 901 901 x1 = true ∧ fm_in M x1 (Int32.ofInt 0) = true) (
  fi ((M.1 3 x1 (Int32.ofInt 0).toNatClampNeg) = (Int32.ofInt 1)) (
    g50 a0 a1 a2 M) (
    fi (fm_is M 96 96 a0 = true) (
    let x2 : Nat := (M.2.2 375 a0 0)
    fi (fm_is M 901 901 x2 = true ∧ fm_in M x2 (Int32.ofInt 0) = true) (
    fi ((M.1 3 x2 (Int32.ofInt 0).toNatClampNeg) = 0) (
      g50 a0 a1 a2 M) (
      fi (fm_is M 96 96 a0 = true) (
      let x3 : Nat := (M.2.2 375 a0 0)
      fi (fm_is M 901 901 x3 = true ∧ fm_in M x3 (Int32.ofInt 0) = true) (
      fi ((M.1 3 x3 (Int32.ofInt 0).toNatClampNeg) = (Int32.ofInt 2)) (
        fi (fm_is M 96 96 a0 = true) (
        let x4 : Nat := (M.2.2 376 a0 0)
        fi (fm_is M 901 901 x4 = true ∧ fm_in M x4 (Int32.ofInt 0) = true) (
        fi ((M.1 3 x4 (Int32.ofInt 0).toNatClampNeg) = (Int32.ofInt 1)) (
          g45 a1 a0 (Int32.ofInt 1) M) (
          g44 a1 a0 M)) none) none) (
        g44 a1 a0 M)) none) none)) none) none)) none) none
noncomputable def FX99_toInteger_0 (n : Nat) (a0 : Nat) (a1 : Int32) (a2 : Int32) (M : FM) : Option (Int64 × FM) := BX99_toInteger_0 (FX99_toInteger_44 n ) (FX99_toInteger_45 n ) (FX99_toInteger_50 n ) a0 a1 a2 M
noncomputable def FX99_toInteger (n : Nat) (a0 : Nat) (a1 : Int32) (a2 : Int32) (M : FM) : Option (Int64 × FM) := FX99_toInteger_0 n a0 a1 a2 M
/-! BoardMachineModel$Floats.tell(J)I -/
noncomputable def BX99_tell_0 (a0 : Nat) (a1 : Int64) (M : FM) : Option (Int32 × FM) :=
  fi (fm_is M 96 96 a0 = true) (
  let M1 : FM := fm_sL M 370 a0 0 a1
  some ((Int32.ofInt 1), M1)) none
noncomputable def FX99_tell_0 (a0 : Nat) (a1 : Int64) (M : FM) : Option (Int32 × FM) := BX99_tell_0 a0 a1 M
noncomputable def FX99_tell (a0 : Nat) (a1 : Int64) (M : FM) : Option (Int32 × FM) := FX99_tell_0 a0 a1 M
/-! BoardMachineModel$Floats.fromInteger(JIII)J -/
noncomputable def BX99_fromInteger_83 (f1 : Nat → Int64 → FM → Option (FM)) (f2 : Nat → Int32 → Int32 → FM → Option (Int64 × FM)) (a0 : Nat) (a4 : Int32) (a5 : Int32) (s0 : Nat) (s1 : Int64) (M : FM) : Option (Int64 × FM) :=
  (f1 s0 s1 M).bind fun M1 =>
  fi (fm_is M1 96 96 a0 = true) (
  let M2 : FM := fm_sI M1 383 a0 0 (Int32.ofInt 0)
  fi (fm_is M2 96 96 a0 = true) (
  fi ((Int32.ofInt 0) = 0 ∨ (Int32.ofInt 0) = 1) (
  let M3 : FM := fm_sI M2 381 a0 0 (Int32.ofInt 0)
  fi (fm_is M3 96 96 a0 = true) (
  (f2 a0 a4 a5 M3).bind fun r4 =>
  some (r4.1, r4.2)) none) none) none) none
noncomputable def FX99_fromInteger_83 (n : Nat) (a0 : Nat) (a4 : Int32) (a5 : Int32) (s0 : Nat) (s1 : Int64) (M : FM) : Option (Int64 × FM) := BX99_fromInteger_83 (FX99_put n) (FX99_rounded n) a0 a4 a5 s0 s1 M
noncomputable def BX99_fromInteger_59 (g83 : Nat → Int32 → Int32 → Nat → Int64 → FM → Option (Int64 × FM)) (a0 : Nat) (a4 : Int32) (a5 : Int32) (a6 : Int64) (s0 : Nat) (s1 : Int32) (M : FM) : Option (Int64 × FM) :=
  fi (fm_is M 96 96 s0 = true) (
  let M1 : FM := fm_sI M 382 s0 0 s1
  fi (fm_is M1 96 96 a0 = true) (
  fi (fm_is M1 96 96 a0 = true) (
  fi ((M1.1 382 a0 0) = (Int32.ofInt 1)) (
    g83 a0 a4 a5 (M1.2.2 379 a0 0) ((Int64.ofInt 0) - a6) M1) (
    g83 a0 a4 a5 (M1.2.2 379 a0 0) a6 M1)) none) none) none
noncomputable def FX99_fromInteger_59 (n : Nat) (a0 : Nat) (a4 : Int32) (a5 : Int32) (a6 : Int64) (s0 : Nat) (s1 : Int32) (M : FM) : Option (Int64 × FM) := BX99_fromInteger_59 (FX99_fromInteger_83 n ) a0 a4 a5 a6 s0 s1 M
noncomputable def BX99_fromInteger_58 (g59 : Nat → Int32 → Int32 → Int64 → Nat → Int32 → FM → Option (Int64 × FM)) (a0 : Nat) (a4 : Int32) (a5 : Int32) (a6 : Int64) (s0 : Nat) (M : FM) : Option (Int64 × FM) :=
  g59 a0 a4 a5 a6 s0 (Int32.ofInt 0) M
noncomputable def FX99_fromInteger_58 (n : Nat) (a0 : Nat) (a4 : Int32) (a5 : Int32) (a6 : Int64) (s0 : Nat) (M : FM) : Option (Int64 × FM) := BX99_fromInteger_58 (FX99_fromInteger_59 n ) a0 a4 a5 a6 s0 M
noncomputable def BX99_fromInteger_24 (f0 : Nat → Int32 → Int32 → FM → Option (Int64 × FM)) (g58 : Nat → Int32 → Int32 → Int64 → Nat → FM → Option (Int64 × FM)) (g59 : Nat → Int32 → Int32 → Int64 → Nat → Int32 → FM → Option (Int64 × FM)) (a0 : Nat) (a3 : Int32) (a4 : Int32) (a5 : Int32) (s0 : Int64) (M : FM) : Option (Int64 × FM) :=
  fi ((lg_cmp s0 (Int64.ofInt 0)) = 0) (
    fi (fm_is M 96 96 a0 = true) (
    (f0 a0 (Int32.ofInt 0) a4 M).bind fun r1 =>
    some (r1.1, r1.2)) none) (
    fi (0 ≤ (lg_cmp s0 (Int64.ofInt 0))) (
      g58 a0 a4 a5 s0 a0 M) (
      fi (a3 = (Int32.ofInt 3)) (
        g58 a0 a4 a5 s0 a0 M) (
        g59 a0 a4 a5 s0 a0 (Int32.ofInt 1) M)))
noncomputable def FX99_fromInteger_24 (n : Nat) (a0 : Nat) (a3 : Int32) (a4 : Int32) (a5 : Int32) (s0 : Int64) (M : FM) : Option (Int64 × FM) := BX99_fromInteger_24 FX99_zero (FX99_fromInteger_58 n ) (FX99_fromInteger_59 n ) a0 a3 a4 a5 s0 M
noncomputable def BX99_fromInteger_0 (g24 : Nat → Int32 → Int32 → Int32 → Int64 → FM → Option (Int64 × FM)) (a0 : Nat) (a1 : Int64) (a3 : Int32) (a4 : Int32) (a5 : Int32) (M : FM) : Option (Int64 × FM) :=
  fi (a3 = 0) (
    g24 a0 a3 a4 a5 a1.toInt32.toInt64 M) (
    fi (a3 = (Int32.ofInt 1)) (
      g24 a0 a3 a4 a5 (a1 &&& (Int64.ofInt 4294967295)) M) (
      g24 a0 a3 a4 a5 a1 M))
noncomputable def FX99_fromInteger_0 (n : Nat) (a0 : Nat) (a1 : Int64) (a3 : Int32) (a4 : Int32) (a5 : Int32) (M : FM) : Option (Int64 × FM) := BX99_fromInteger_0 (FX99_fromInteger_24 n ) a0 a1 a3 a4 a5 M
noncomputable def FX99_fromInteger (n : Nat) (a0 : Nat) (a1 : Int64) (a3 : Int32) (a4 : Int32) (a5 : Int32) (M : FM) : Option (Int64 × FM) := FX99_fromInteger_0 n a0 a1 a3 a4 a5 M
/-! BoardMachineModel$Floats.other(II)J -/
noncomputable def BX99_other_68 (s0 : Int64) (M : FM) : Option (Int64 × FM) :=
  some (s0, M)
noncomputable def FX99_other_68 (n : Nat) (s0 : Int64) (M : FM) : Option (Int64 × FM) := BX99_other_68 s0 M
noncomputable def BX99_other_0 (f0 : Nat → Int32 → Int32 → FM → Option (Int64 × FM)) (f1 : Nat → Int64 → FM → Option (FM)) (f2 : Nat → Int32 → Int32 → FM → Option (Int64 × FM)) (f3 : Int32 → Int64 → Int64 → Int32 → FM → Option (Int64 × FM)) (f4 : Nat → Int32 → Int32 → FM → Option (Int64 × FM)) (g68 : Int64 → FM → Option (Int64 × FM)) (a0 : Nat) (a1 : Int32) (a2 : Int32) (M : FM) : Option (Int64 × FM) :=
  fi (fm_is M 96 96 a0 = true) (
  (f0 a0 (Int32.ofInt 1) a1 M).bind fun r1 =>
  fi ((lg_cmp r1.1 (Int64.ofInt (-1))) = 0) (
    fi (fm_is r1.2 96 96 a0 = true) (
    let x2 : Nat := (r1.2.2.2 375 a0 0)
    fi (fm_is r1.2 901 901 x2 = true ∧ fm_in r1.2 x2 (Int32.ofInt 0) = true) (
    fi ((r1.2.1 3 x2 (Int32.ofInt 0).toNatClampNeg) = (Int32.ofInt 1)) (
      fi (fm_is r1.2 96 96 a0 = true) (
      fi (fm_is r1.2 96 96 a0 = true) (
      let x3 : Nat := (r1.2.2.2 377 a0 0)
      fi (fm_is r1.2 902 902 x3 = true ∧ fm_in r1.2 x3 (Int32.ofInt 0) = true) (
      (f1 (r1.2.2.2 379 a0 0) (r1.2.2.1 3 x3 (Int32.ofInt 0).toNatClampNeg) r1.2).bind fun M4 =>
      fi (fm_is M4 96 96 a0 = true) (
      let x5 : Nat := (M4.2.2 378 a0 0)
      fi (fm_is M4 901 901 x5 = true ∧ fm_in M4 x5 (Int32.ofInt 0) = true) (
      fi (fm_is M4 96 96 a0 = true) (
      let M6 : FM := fm_sI M4 383 a0 0 (M4.1 3 x5 (Int32.ofInt 0).toNatClampNeg)
      fi (fm_is M6 96 96 a0 = true) (
      let x7 : Nat := (M6.2.2 376 a0 0)
      fi (fm_is M6 901 901 x7 = true ∧ fm_in M6 x7 (Int32.ofInt 0) = true) (
      fi (fm_is M6 96 96 a0 = true) (
      let M8 : FM := fm_sI M6 382 a0 0 (M6.1 3 x7 (Int32.ofInt 0).toNatClampNeg)
      fi (fm_is M8 96 96 a0 = true) (
      fi ((Int32.ofInt 0) = 0 ∨ (Int32.ofInt 0) = 1) (
      let M9 : FM := fm_sI M8 381 a0 0 (Int32.ofInt 0)
      fi (fm_is M9 96 96 a0 = true) (
      (f4 a0 a1 a2 M9).bind fun r10 =>
      some (r10.1, r10.2)) none) none) none) none) none) none) none) none) none) none) none) none) (
      fi (fm_is r1.2 96 96 a0 = true) (
      let x11 : Nat := (r1.2.2.2 375 a0 0)
      fi (fm_is r1.2 901 901 x11 = true ∧ fm_in r1.2 x11 (Int32.ofInt 0) = true) (
      fi ((r1.2.1 3 x11 (Int32.ofInt 0).toNatClampNeg) = 0) (
        fi (fm_is r1.2 96 96 a0 = true) (
        let x12 : Nat := (r1.2.2.2 376 a0 0)
        fi (fm_is r1.2 901 901 x12 = true ∧ fm_in r1.2 x12 (Int32.ofInt 0) = true) (
        fi (fm_is r1.2 96 96 a0 = true) (
        (f2 a0 (r1.2.1 3 x12 (Int32.ofInt 0).toNatClampNeg) a1 r1.2).bind fun r13 =>
        g68 r13.1 r13.2) none) none) none) (
        fi (fm_is r1.2 96 96 a0 = true) (
        let x14 : Nat := (r1.2.2.2 376 a0 0)
        fi (fm_is r1.2 901 901 x14 = true ∧ fm_in r1.2 x14 (Int32.ofInt 0) = true) (
        fi (fm_is r1.2 96 96 a0 = true) (
        let x15 : Nat := (r1.2.2.2 374 a0 0)
        fi (fm_is r1.2 901 901 x15 = true ∧ fm_in r1.2 x15 a1 = true) (
        (f3 (r1.2.1 3 x14 (Int32.ofInt 0).toNatClampNeg) ((r1.2.1 3 x15 a1.toNatClampNeg).toInt64) (Int64.ofInt 0) a1 r1.2).bind fun r16 =>
        g68 r16.1 r16.2) none) none) none) none)) none) none)) none) none) (
    some (r1.1, r1.2))) none
noncomputable def FX99_other_0 (n : Nat) (a0 : Nat) (a1 : Int32) (a2 : Int32) (M : FM) : Option (Int64 × FM) := BX99_other_0 (FX99_none n) (FX99_put n) FX99_zero FX99_pack (FX99_rounded n) (FX99_other_68 n ) a0 a1 a2 M
noncomputable def FX99_other (n : Nat) (a0 : Nat) (a1 : Int32) (a2 : Int32) (M : FM) : Option (Int64 × FM) := FX99_other_0 n a0 a1 a2 M
/-! BoardMachineModel$Floats.arithmetic(IIIIIIJ)I -/
noncomputable def BX99_arithmetic_186 (s0 : Int32) (M : FM) : Option (Int32 × FM) :=
  some (s0, M)
noncomputable def FX99_arithmetic_186 (n : Nat) (s0 : Int32) (M : FM) : Option (Int32 × FM) := BX99_arithmetic_186 s0 M
noncomputable def BX99_arithmetic_94 (s0 : Int32) (M : FM) : Option (Int32 × FM) :=
  some (s0, M)
noncomputable def FX99_arithmetic_94 (n : Nat) (s0 : Int32) (M : FM) : Option (Int32 × FM) := BX99_arithmetic_94 s0 M
noncomputable def BX99_arithmetic_0 (f0 : Nat → Int32 → Int32 → Int32 → FM → Option (Int64 × FM)) (f1 : Nat → Int32 → Int64 → Int32 → FM → Option (Int32 × FM)) (f2 : Nat → Int32 → Int32 → FM → Option (Int64 × FM)) (f3 : Nat → Int32 → Int32 → FM → Option (Int64 × FM)) (f4 : Nat → Int32 → Int32 → FM → Option (Int64 × FM)) (f5 : Nat → Int32 → Int32 → FM → Option (Int64 × FM)) (f6 : Nat → Int32 → Int32 → Int32 → FM → Option (FM)) (f7 : Nat → Int64 → FM → Option (Int32 × FM)) (f8 : Nat → Int64 → Int32 → Int32 → Int32 → FM → Option (Int64 × FM)) (f9 : Nat → Int32 → Int32 → FM → Option (Int64 × FM)) (g94 : Int32 → FM → Option (Int32 × FM)) (g186 : Int32 → FM → Option (Int32 × FM)) (a0 : Nat) (a1 : Int32) (a2 : Int32) (a3 : Int32) (a4 : Int32) (a5 : Int32) (a6 : Int32) (a7 : Int64) (M : FM) : Option (Int32 × FM) :=
  fi ((Int32.ofInt 2) ≤ a1) (
    fi (a1 = (Int32.ofInt 2)) (
      fi (fm_is M 96 96 a0 = true) (
      (f2 a0 a5 a6 M).bind fun r1 =>
      fi (fm_is r1.2 96 96 a0 = true) (
      (f1 a0 a2 r1.1 a5 r1.2).bind fun r2 =>
      some (r2.1, r2.2)) none) none) (
      fi (a1 = (Int32.ofInt 3)) (
        fi (fm_is M 96 96 a0 = true) (
        (f3 a0 a5 a6 M).bind fun r3 =>
        fi (fm_is r3.2 96 96 a0 = true) (
        (f1 a0 a2 r3.1 a5 r3.2).bind fun r4 =>
        some (r4.1, r4.2)) none) none) (
        fi (a1 = (Int32.ofInt 11)) (
          fi (a4 = 0) (
            fi (fm_is M 96 96 a0 = true) (
            (f4 a0 a5 a6 M).bind fun r5 =>
            fi (fm_is r5.2 96 96 a0 = true) (
            (f1 a0 a2 r5.1 a5 r5.2).bind fun r6 =>
            g94 r6.1 r6.2) none) none) (
            g94 (Int32.ofInt (-1)) M)) (
          fi (a1 = (Int32.ofInt 8)) (
            fi (a4 = ((Int32.ofInt 1) - a5)) (
              fi (fm_is M 96 96 a0 = true) (
              (f6 a0 (Int32.ofInt 0) a3 ((Int32.ofInt 1) - a5) M).bind fun M7 =>
              fi (fm_is M7 96 96 a0 = true) (
              (f9 a0 a5 a6 M7).bind fun r8 =>
              fi (fm_is r8.2 96 96 a0 = true) (
              (f1 a0 a2 r8.1 a5 r8.2).bind fun r9 =>
              some (r9.1, r9.2)) none) none) none) (
              some ((Int32.ofInt (-1)), M))) (
            fi (a4 ≤ (Int32.ofInt 3)) (
              fi (a1 = (Int32.ofInt 24)) (
                fi (fm_is M 96 96 a0 = true) (
                (f5 a0 a4 a6 M).bind fun r10 =>
                fi (fm_is r10.2 96 96 a0 = true) (
                (f7 a0 r10.1 r10.2).bind fun r11 =>
                g186 r11.1 r11.2) none) none) (
                fi (fm_is M 96 96 a0 = true) (
                (f8 a0 a7 a4 a5 a6 M).bind fun r12 =>
                fi (fm_is r12.2 96 96 a0 = true) (
                (f1 a0 a2 r12.1 a5 r12.2).bind fun r13 =>
                g186 r13.1 r13.2) none) none)) (
              some ((Int32.ofInt (-1)), M))))))) (
    fi (fm_is M 96 96 a0 = true) (
    (f0 a0 a1 a5 a6 M).bind fun r14 =>
    fi (fm_is r14.2 96 96 a0 = true) (
    (f1 a0 a2 r14.1 a5 r14.2).bind fun r15 =>
    some (r15.1, r15.2)) none) none)
noncomputable def FX99_arithmetic_0 (n : Nat) (a0 : Nat) (a1 : Int32) (a2 : Int32) (a3 : Int32) (a4 : Int32) (a5 : Int32) (a6 : Int32) (a7 : Int64) (M : FM) : Option (Int32 × FM) := BX99_arithmetic_0 (FX99_added n) FX99_write (FX99_multiplied n) (FX99_divided n) (FX99_root n) (FX99_toInteger n) FX99_read FX99_tell (FX99_fromInteger n) (FX99_other n) (FX99_arithmetic_94 n ) (FX99_arithmetic_186 n ) a0 a1 a2 a3 a4 a5 a6 a7 M
noncomputable def FX99_arithmetic (n : Nat) (a0 : Nat) (a1 : Int32) (a2 : Int32) (a3 : Int32) (a4 : Int32) (a5 : Int32) (a6 : Int32) (a7 : Int64) (M : FM) : Option (Int32 × FM) := FX99_arithmetic_0 n a0 a1 a2 a3 a4 a5 a6 a7 M
/-! BoardMachineModel$Floats.order(IIIZ)I -/
noncomputable def BX99_order_142 (s0 : Int32) (M : FM) : Option (Int32 × FM) :=
  some (s0, M)
noncomputable def FX99_order_142 (s0 : Int32) (M : FM) : Option (Int32 × FM) := BX99_order_142 s0 M
noncomputable def BX99_order_115 (g142 : Int32 → FM → Option (Int32 × FM)) (a7 : Int64) (s0 : Int64) (M : FM) : Option (Int32 × FM) :=
  fi (0 ≤ (lg_cmp a7 s0)) (
    fi ((lg_cmp a7 s0) ≤ 0) (
      g142 (Int32.ofInt 0) M) (
      g142 (Int32.ofInt 1) M)) (
    g142 (Int32.ofInt (-1)) M)
noncomputable def FX99_order_115 (a7 : Int64) (s0 : Int64) (M : FM) : Option (Int32 × FM) := BX99_order_115 FX99_order_142 a7 s0 M
noncomputable def BX99_order_94 (g115 : Int64 → Int64 → FM → Option (Int32 × FM)) (a0 : Nat) (a9 : Int64) (s0 : Int64) (M : FM) : Option (Int32 × FM) :=
  fi (fm_is M 96 96 a0 = true) (
  let x1 : Nat := (M.2.2 376 a0 0)
  fi (fm_is M 901 901 x1 = true ∧ fm_in M x1 (Int32.ofInt 1) = true) (
  fi ((M.1 3 x1 (Int32.ofInt 1).toNatClampNeg) = (Int32.ofInt 1)) (
    g115 s0 ((Int64.ofInt 0) - a9) M) (
    g115 s0 a9 M)) none) none
noncomputable def FX99_order_94 (a0 : Nat) (a9 : Int64) (s0 : Int64) (M : FM) : Option (Int32 × FM) := BX99_order_94 FX99_order_115 a0 a9 s0 M
noncomputable def BX99_order_75 (g94 : Nat → Int64 → Int64 → FM → Option (Int32 × FM)) (a0 : Nat) (a7 : Int64) (a9 : Int64) (M : FM) : Option (Int32 × FM) :=
  fi (fm_is M 96 96 a0 = true) (
  let x1 : Nat := (M.2.2 376 a0 0)
  fi (fm_is M 901 901 x1 = true ∧ fm_in M x1 (Int32.ofInt 0) = true) (
  fi ((M.1 3 x1 (Int32.ofInt 0).toNatClampNeg) = (Int32.ofInt 1)) (
    g94 a0 a9 ((Int64.ofInt 0) - a7) M) (
    g94 a0 a9 a7 M)) none) none
noncomputable def FX99_order_75 (a0 : Nat) (a7 : Int64) (a9 : Int64) (M : FM) : Option (Int32 × FM) := BX99_order_75 FX99_order_94 a0 a7 a9 M
noncomputable def BX99_order_74 (s0 : Int32) (M : FM) : Option (Int32 × FM) :=
  some (s0, M)
noncomputable def FX99_order_74 (s0 : Int32) (M : FM) : Option (Int32 × FM) := BX99_order_74 s0 M
noncomputable def BX99_order_14 (f0 : Nat → Int32 → Int32 → FM → Option (Int64 × FM)) (g74 : Int32 → FM → Option (Int32 × FM)) (g75 : Nat → Int64 → Int64 → FM → Option (Int32 × FM)) (a0 : Nat) (a1 : Int32) (a2 : Int32) (a3 : Int32) (a4 : Int32) (s0 : Int64) (M : FM) : Option (Int32 × FM) :=
  fi (fm_is M 96 96 a0 = true) (
  (f0 a0 a1 a3 M).bind fun r1 =>
  let x2 : Int64 := (r1.1 &&& s0)
  fi (fm_is r1.2 96 96 a0 = true) (
  (f0 a0 a2 a3 r1.2).bind fun r3 =>
  let x4 : Int64 := (r3.1 &&& s0)
  fi ((lg_cmp x2 (Int64.ofInt 0)) = 0) (
    fi ((lg_cmp x4 (Int64.ofInt 0)) = 0) (
      fi (a4 = 0) (
        g74 (Int32.ofInt 0) r3.2) (
        fi (fm_is r3.2 96 96 a0 = true) (
        let x5 : Nat := (r3.2.2.2 376 a0 0)
        fi (fm_is r3.2 901 901 x5 = true ∧ fm_in r3.2 x5 (Int32.ofInt 1) = true) (
        fi (fm_is r3.2 96 96 a0 = true) (
        let x6 : Nat := (r3.2.2.2 376 a0 0)
        fi (fm_is r3.2 901 901 x6 = true ∧ fm_in r3.2 x6 (Int32.ofInt 0) = true) (
        g74 ((r3.2.1 3 x5 (Int32.ofInt 1).toNatClampNeg) - (r3.2.1 3 x6 (Int32.ofInt 0).toNatClampNeg)) r3.2) none) none) none) none)) (
      g75 a0 x2 x4 r3.2)) (
    g75 a0 x2 x4 r3.2)) none) none
noncomputable def FX99_order_14 (a0 : Nat) (a1 : Int32) (a2 : Int32) (a3 : Int32) (a4 : Int32) (s0 : Int64) (M : FM) : Option (Int32 × FM) := BX99_order_14 FX99_bitsOf FX99_order_74 FX99_order_75 a0 a1 a2 a3 a4 s0 M
noncomputable def BX99_order_0 (g14 : Nat → Int32 → Int32 → Int32 → Int32 → Int64 → FM → Option (Int32 × FM)) (a0 : Nat) (a1 : Int32) (a2 : Int32) (a3 : Int32) (a4 : Int32) (M : FM) : Option (Int32 × FM) :=
  fi (a3 = (Int32.ofInt 1)) (
    g14 a0 a1 a2 a3 a4 (Int64.ofInt 9223372036854775807) M) (
    g14 a0 a1 a2 a3 a4 (Int64.ofInt 2147483647) M)
noncomputable def FX99_order_0 (a0 : Nat) (a1 : Int32) (a2 : Int32) (a3 : Int32) (a4 : Int32) (M : FM) : Option (Int32 × FM) := BX99_order_0 FX99_order_14 a0 a1 a2 a3 a4 M
noncomputable def FX99_order (a0 : Nat) (a1 : Int32) (a2 : Int32) (a3 : Int32) (a4 : Int32) (M : FM) : Option (Int32 × FM) := FX99_order_0 a0 a1 a2 a3 a4 M
/-! BoardMachineModel$Floats.extreme(IIIII)I -/
noncomputable def BX99_extreme_123 (f3 : Nat → Int32 → Int64 → Int32 → FM → Option (Int32 × FM)) (f4 : Nat → Int32 → Int32 → FM → Option (Int64 × FM)) (a4 : Int32) (s0 : Nat) (s1 : Int32) (s2 : Nat) (s3 : Int32) (M : FM) : Option (Int32 × FM) :=
  fi (fm_is M 96 96 s2 = true) (
  (f4 s2 s3 a4 M).bind fun r1 =>
  fi (fm_is r1.2 96 96 s0 = true) (
  (f3 s0 s1 r1.1 a4 r1.2).bind fun r2 =>
  some (r2.1, r2.2)) none) none
noncomputable def FX99_extreme_123 (a4 : Int32) (s0 : Nat) (s1 : Int32) (s2 : Nat) (s3 : Int32) (M : FM) : Option (Int32 × FM) := BX99_extreme_123 FX99_write FX99_bitsOf a4 s0 s1 s2 s3 M
noncomputable def BX99_extreme_108 (g123 : Int32 → Nat → Int32 → Nat → Int32 → FM → Option (Int32 × FM)) (a0 : Nat) (a1 : Int32) (a2 : Int32) (a3 : Int32) (a4 : Int32) (s0 : Int32) (M : FM) : Option (Int32 × FM) :=
  fi (s0 = 0) (
    g123 a4 a0 a1 a0 a3 M) (
    g123 a4 a0 a1 a0 a2 M)
noncomputable def FX99_extreme_108 (a0 : Nat) (a1 : Int32) (a2 : Int32) (a3 : Int32) (a4 : Int32) (s0 : Int32) (M : FM) : Option (Int32 × FM) := BX99_extreme_108 FX99_extreme_123 a0 a1 a2 a3 a4 s0 M
noncomputable def BX99_extreme_107 (g108 : Nat → Int32 → Int32 → Int32 → Int32 → Int32 → FM → Option (Int32 × FM)) (a0 : Nat) (a1 : Int32) (a2 : Int32) (a3 : Int32) (a4 : Int32) (M : FM) : Option (Int32 × FM) :=
  g108 a0 a1 a2 a3 a4 (Int32.ofInt 0) M
noncomputable def FX99_extreme_107 (a0 : Nat) (a1 : Int32) (a2 : Int32) (a3 : Int32) (a4 : Int32) (M : FM) : Option (Int32 × FM) := BX99_extreme_107 FX99_extreme_108 a0 a1 a2 a3 a4 M
noncomputable def BX99_extreme_103 (g108 : Nat → Int32 → Int32 → Int32 → Int32 → Int32 → FM → Option (Int32 × FM)) (a0 : Nat) (a1 : Int32) (a2 : Int32) (a3 : Int32) (a4 : Int32) (M : FM) : Option (Int32 × FM) :=
  g108 a0 a1 a2 a3 a4 (Int32.ofInt 1) M
noncomputable def FX99_extreme_103 (a0 : Nat) (a1 : Int32) (a2 : Int32) (a3 : Int32) (a4 : Int32) (M : FM) : Option (Int32 × FM) := BX99_extreme_103 FX99_extreme_108 a0 a1 a2 a3 a4 M
noncomputable def BX99_extreme_55 (f1 : Nat → Int32 → FM → Option (Int32 × FM)) (f5 : Nat → Int32 → Int32 → Int32 → Int32 → FM → Option (Int32 × FM)) (g103 : Nat → Int32 → Int32 → Int32 → Int32 → FM → Option (Int32 × FM)) (g107 : Nat → Int32 → Int32 → Int32 → Int32 → FM → Option (Int32 × FM)) (a0 : Nat) (a1 : Int32) (a2 : Int32) (a3 : Int32) (a4 : Int32) (a5 : Int32) (M : FM) : Option (Int32 × FM) :=
  fi (fm_is M 96 96 a0 = true) (
  (f1 a0 (Int32.ofInt 1) M).bind fun r1 =>
  fi (r1.1 = 0) (
    fi (fm_is r1.2 96 96 a0 = true) (
    (f1 a0 (Int32.ofInt 0) r1.2).bind fun r2 =>
    fi (r2.1 = 0) (
      fi (a5 = 0) (
        fi (fm_is r2.2 96 96 a0 = true) (
        (f5 a0 a2 a3 a4 (Int32.ofInt 1) r2.2).bind fun r3 =>
        fi (0 < r3.1) (
          g107 a0 a1 a2 a3 a4 r3.2) (
          g103 a0 a1 a2 a3 a4 r3.2)) none) (
        fi (fm_is r2.2 96 96 a0 = true) (
        (f5 a0 a2 a3 a4 (Int32.ofInt 1) r2.2).bind fun r4 =>
        fi (r4.1 < 0) (
          g107 a0 a1 a2 a3 a4 r4.2) (
          g103 a0 a1 a2 a3 a4 r4.2)) none)) (
      g107 a0 a1 a2 a3 a4 r2.2)) none) (
    g103 a0 a1 a2 a3 a4 r1.2)) none
noncomputable def FX99_extreme_55 (a0 : Nat) (a1 : Int32) (a2 : Int32) (a3 : Int32) (a4 : Int32) (a5 : Int32) (M : FM) : Option (Int32 × FM) := BX99_extreme_55 FX99_isNone FX99_order FX99_extreme_103 FX99_extreme_107 a0 a1 a2 a3 a4 a5 M
noncomputable def BX99_extreme_26 (f1 : Nat → Int32 → FM → Option (Int32 × FM)) (f2 : Int32 → FM → Option (Int64 × FM)) (f3 : Nat → Int32 → Int64 → Int32 → FM → Option (Int32 × FM)) (g55 : Nat → Int32 → Int32 → Int32 → Int32 → Int32 → FM → Option (Int32 × FM)) (a0 : Nat) (a1 : Int32) (a2 : Int32) (a3 : Int32) (a4 : Int32) (a5 : Int32) (M : FM) : Option (Int32 × FM) :=
  fi (fm_is M 96 96 a0 = true) (
  (f1 a0 (Int32.ofInt 0) M).bind fun r1 =>
  fi (r1.1 = 0) (
    g55 a0 a1 a2 a3 a4 a5 r1.2) (
    fi (fm_is r1.2 96 96 a0 = true) (
    (f1 a0 (Int32.ofInt 1) r1.2).bind fun r2 =>
    fi (r2.1 = 0) (
      g55 a0 a1 a2 a3 a4 a5 r2.2) (
      (f2 a4 r2.2).bind fun r3 =>
      fi (fm_is r3.2 96 96 a0 = true) (
      (f3 a0 a1 r3.1 a4 r3.2).bind fun r4 =>
      some (r4.1, r4.2)) none)) none)) none
noncomputable def FX99_extreme_26 (a0 : Nat) (a1 : Int32) (a2 : Int32) (a3 : Int32) (a4 : Int32) (a5 : Int32) (M : FM) : Option (Int32 × FM) := BX99_extreme_26 FX99_isNone FX99_quiet FX99_write FX99_extreme_55 a0 a1 a2 a3 a4 a5 M
noncomputable def BX99_extreme_20 (f0 : Nat → Int32 → FM → Option (FM)) (g26 : Nat → Int32 → Int32 → Int32 → Int32 → Int32 → FM → Option (Int32 × FM)) (a0 : Nat) (a1 : Int32) (a2 : Int32) (a3 : Int32) (a4 : Int32) (a5 : Int32) (M : FM) : Option (Int32 × FM) :=
  fi (fm_is M 96 96 a0 = true) (
  (f0 a0 (Int32.ofInt 16) M).bind fun M1 =>
  g26 a0 a1 a2 a3 a4 a5 M1) none
noncomputable def FX99_extreme_20 (a0 : Nat) (a1 : Int32) (a2 : Int32) (a3 : Int32) (a4 : Int32) (a5 : Int32) (M : FM) : Option (Int32 × FM) := BX99_extreme_20 FX99_raiseFlags FX99_extreme_26 a0 a1 a2 a3 a4 a5 M
noncomputable def BX99_extreme_0 (g20 : Nat → Int32 → Int32 → Int32 → Int32 → Int32 → FM → Option (Int32 × FM)) (g26 : Nat → Int32 → Int32 → Int32 → Int32 → Int32 → FM → Option (Int32 × FM)) (a0 : Nat) (a1 : Int32) (a2 : Int32) (a3 : Int32) (a4 : Int32) (a5 : Int32) (M : FM) : Option (Int32 × FM) :=
  fi (fm_is M 96 96 a0 = true) (
  let x1 : Nat := (M.2.2 375 a0 0)
  fi (fm_is M 901 901 x1 = true ∧ fm_in M x1 (Int32.ofInt 0) = true) (
  fi ((M.1 3 x1 (Int32.ofInt 0).toNatClampNeg) = (Int32.ofInt 4)) (
    g20 a0 a1 a2 a3 a4 a5 M) (
    fi (fm_is M 96 96 a0 = true) (
    let x2 : Nat := (M.2.2 375 a0 0)
    fi (fm_is M 901 901 x2 = true ∧ fm_in M x2 (Int32.ofInt 1) = true) (
    fi ((M.1 3 x2 (Int32.ofInt 1).toNatClampNeg) = (Int32.ofInt 4)) (
      g20 a0 a1 a2 a3 a4 a5 M) (
      g26 a0 a1 a2 a3 a4 a5 M)) none) none)) none) none
noncomputable def FX99_extreme_0 (a0 : Nat) (a1 : Int32) (a2 : Int32) (a3 : Int32) (a4 : Int32) (a5 : Int32) (M : FM) : Option (Int32 × FM) := BX99_extreme_0 FX99_extreme_20 FX99_extreme_26 a0 a1 a2 a3 a4 a5 M
noncomputable def FX99_extreme (a0 : Nat) (a1 : Int32) (a2 : Int32) (a3 : Int32) (a4 : Int32) (a5 : Int32) (M : FM) : Option (Int32 × FM) := FX99_extreme_0 a0 a1 a2 a3 a4 a5 M
/-! BoardMachineModel$Floats.compared(IIII)I -/
noncomputable def BX99_compared_124 (f2 : Nat → Int64 → FM → Option (Int32 × FM)) (s0 : Nat) (s1 : Int64) (M : FM) : Option (Int32 × FM) :=
  fi (fm_is M 96 96 s0 = true) (
  (f2 s0 s1 M).bind fun r1 =>
  some (r1.1, r1.2)) none
noncomputable def FX99_compared_124 (s0 : Nat) (s1 : Int64) (M : FM) : Option (Int32 × FM) := BX99_compared_124 FX99_tell s0 s1 M
noncomputable def BX99_compared_111 (g124 : Nat → Int64 → FM → Option (Int32 × FM)) (a0 : Nat) (s0 : Int32) (M : FM) : Option (Int32 × FM) :=
  fi (s0 = 0) (
    g124 a0 (Int64.ofInt 0) M) (
    g124 a0 (Int64.ofInt 1) M)
noncomputable def FX99_compared_111 (a0 : Nat) (s0 : Int32) (M : FM) : Option (Int32 × FM) := BX99_compared_111 FX99_compared_124 a0 s0 M
noncomputable def BX99_compared_48 (f2 : Nat → Int64 → FM → Option (Int32 × FM)) (a0 : Nat) (M : FM) : Option (Int32 × FM) :=
  fi (fm_is M 96 96 a0 = true) (
  (f2 a0 (Int64.ofInt 0) M).bind fun r1 =>
  some (r1.1, r1.2)) none
noncomputable def FX99_compared_48 (a0 : Nat) (M : FM) : Option (Int32 × FM) := BX99_compared_48 FX99_tell a0 M
noncomputable def BX99_compared_42 (f1 : Nat → Int32 → FM → Option (FM)) (g48 : Nat → FM → Option (Int32 × FM)) (a0 : Nat) (M : FM) : Option (Int32 × FM) :=
  fi (fm_is M 96 96 a0 = true) (
  (f1 a0 (Int32.ofInt 16) M).bind fun M1 =>
  g48 a0 M1) none
noncomputable def FX99_compared_42 (a0 : Nat) (M : FM) : Option (Int32 × FM) := BX99_compared_42 FX99_raiseFlags FX99_compared_48 a0 M
noncomputable def BX99_compared_16 (g42 : Nat → FM → Option (Int32 × FM)) (g48 : Nat → FM → Option (Int32 × FM)) (a0 : Nat) (a4 : Int32) (M : FM) : Option (Int32 × FM) :=
  fi (a4 < (Int32.ofInt 2)) (
    g42 a0 M) (
    fi (fm_is M 96 96 a0 = true) (
    let x1 : Nat := (M.2.2 375 a0 0)
    fi (fm_is M 901 901 x1 = true ∧ fm_in M x1 (Int32.ofInt 0) = true) (
    fi ((M.1 3 x1 (Int32.ofInt 0).toNatClampNeg) = (Int32.ofInt 4)) (
      g42 a0 M) (
      fi (fm_is M 96 96 a0 = true) (
      let x2 : Nat := (M.2.2 375 a0 0)
      fi (fm_is M 901 901 x2 = true ∧ fm_in M x2 (Int32.ofInt 1) = true) (
      fi ((M.1 3 x2 (Int32.ofInt 1).toNatClampNeg) = (Int32.ofInt 4)) (
        g42 a0 M) (
        g48 a0 M)) none) none)) none) none)
noncomputable def FX99_compared_16 (a0 : Nat) (a4 : Int32) (M : FM) : Option (Int32 × FM) := BX99_compared_16 FX99_compared_42 FX99_compared_48 a0 a4 M
noncomputable def BX99_compared_0 (f0 : Nat → Int32 → FM → Option (Int32 × FM)) (f3 : Nat → Int32 → Int32 → Int32 → Int32 → FM → Option (Int32 × FM)) (g16 : Nat → Int32 → FM → Option (Int32 × FM)) (g111 : Nat → Int32 → FM → Option (Int32 × FM)) (a0 : Nat) (a1 : Int32) (a2 : Int32) (a3 : Int32) (a4 : Int32) (M : FM) : Option (Int32 × FM) :=
  fi (fm_is M 96 96 a0 = true) (
  (f0 a0 (Int32.ofInt 0) M).bind fun r1 =>
  fi (r1.1 = 0) (
    fi (fm_is r1.2 96 96 a0 = true) (
    (f0 a0 (Int32.ofInt 1) r1.2).bind fun r2 =>
    fi (r2.1 = 0) (
      fi (fm_is r2.2 96 96 a0 = true) (
      (f3 a0 a1 a2 a3 (Int32.ofInt 0) r2.2).bind fun r3 =>
      fi (a4 = 0) (
        fi (0 < r3.1) (
          g111 a0 (Int32.ofInt 0) r3.2) (
          g111 a0 (Int32.ofInt 1) r3.2)) (
        fi (a4 = (Int32.ofInt 1)) (
          fi (0 ≤ r3.1) (
            g111 a0 (Int32.ofInt 0) r3.2) (
            g111 a0 (Int32.ofInt 1) r3.2)) (
          fi (r3.1 = 0) (
            g111 a0 (Int32.ofInt 1) r3.2) (
            g111 a0 (Int32.ofInt 0) r3.2)))) none) (
      g16 a0 a4 r2.2)) none) (
    g16 a0 a4 r1.2)) none
noncomputable def FX99_compared_0 (a0 : Nat) (a1 : Int32) (a2 : Int32) (a3 : Int32) (a4 : Int32) (M : FM) : Option (Int32 × FM) := BX99_compared_0 FX99_isNone FX99_order FX99_compared_16 FX99_compared_111 a0 a1 a2 a3 a4 M
noncomputable def FX99_compared (a0 : Nat) (a1 : Int32) (a2 : Int32) (a3 : Int32) (a4 : Int32) (M : FM) : Option (Int32 × FM) := FX99_compared_0 a0 a1 a2 a3 a4 M
/-! BoardMachineModel$Floats.classified(I)I -/
noncomputable def BX99_classified_115 (f0 : Nat → Int64 → FM → Option (Int32 × FM)) (s0 : Nat) (s1 : Int64) (M : FM) : Option (Int32 × FM) :=
  fi (fm_is M 96 96 s0 = true) (
  (f0 s0 s1 M).bind fun r1 =>
  some (r1.1, r1.2)) none
noncomputable def FX99_classified_115 (s0 : Nat) (s1 : Int64) (M : FM) : Option (Int32 × FM) := BX99_classified_115 FX99_tell s0 s1 M
noncomputable def BX99_classified_78 (g115 : Nat → Int64 → FM → Option (Int32 × FM)) (a0 : Nat) (s0 : Int32) (M : FM) : Option (Int32 × FM) :=
  fi (fm_is M 96 96 a0 = true) (
  let x1 : Nat := (M.2.2 375 a0 0)
  fi (fm_is M 901 901 x1 = true ∧ fm_in M x1 (Int32.ofInt 0) = true) (
  fi ((M.1 3 x1 (Int32.ofInt 0).toNatClampNeg) = (Int32.ofInt 4)) (
    g115 a0 (Int64.ofInt 256) M) (
    fi (fm_is M 96 96 a0 = true) (
    let x2 : Nat := (M.2.2 375 a0 0)
    fi (fm_is M 901 901 x2 = true ∧ fm_in M x2 (Int32.ofInt 0) = true) (
    fi ((M.1 3 x2 (Int32.ofInt 0).toNatClampNeg) = (Int32.ofInt 3)) (
      g115 a0 (Int64.ofInt 512) M) (
      g115 a0 ((Int64.ofInt 1) <<< (s0.toInt64 &&& 63)) M)) none) none)) none) none
noncomputable def FX99_classified_78 (a0 : Nat) (s0 : Int32) (M : FM) : Option (Int32 × FM) := BX99_classified_78 FX99_classified_115 a0 s0 M
noncomputable def BX99_classified_60 (g78 : Nat → Int32 → FM → Option (Int32 × FM)) (a0 : Nat) (s0 : Int32) (M : FM) : Option (Int32 × FM) :=
  fi (fm_is M 96 96 a0 = true) (
  let x1 : Nat := (M.2.2 376 a0 0)
  fi (fm_is M 901 901 x1 = true ∧ fm_in M x1 (Int32.ofInt 0) = true) (
  fi ((M.1 3 x1 (Int32.ofInt 0).toNatClampNeg) = 0) (
    g78 a0 ((Int32.ofInt 7) - s0) M) (
    g78 a0 s0 M)) none) none
noncomputable def FX99_classified_60 (a0 : Nat) (s0 : Int32) (M : FM) : Option (Int32 × FM) := BX99_classified_60 FX99_classified_78 a0 s0 M
noncomputable def BX99_classified_23 (g60 : Nat → Int32 → FM → Option (Int32 × FM)) (a0 : Nat) (s0 : Int32) (M : FM) : Option (Int32 × FM) :=
  fi (fm_is M 96 96 a0 = true) (
  let x1 : Nat := (M.2.2 375 a0 0)
  fi (fm_is M 901 901 x1 = true ∧ fm_in M x1 (Int32.ofInt 0) = true) (
  fi ((M.1 3 x1 (Int32.ofInt 0).toNatClampNeg) = 0) (
    g60 a0 (Int32.ofInt 3) M) (
    fi (fm_is M 96 96 a0 = true) (
    let x2 : Nat := (M.2.2 375 a0 0)
    fi (fm_is M 901 901 x2 = true ∧ fm_in M x2 (Int32.ofInt 0) = true) (
    fi ((M.1 3 x2 (Int32.ofInt 0).toNatClampNeg) = (Int32.ofInt 1)) (
      fi (s0 = 0) (
        g60 a0 (Int32.ofInt 1) M) (
        g60 a0 (Int32.ofInt 2) M)) (
      g60 a0 (Int32.ofInt 0) M)) none) none)) none) none
noncomputable def FX99_classified_23 (a0 : Nat) (s0 : Int32) (M : FM) : Option (Int32 × FM) := BX99_classified_23 FX99_classified_60 a0 s0 M
noncomputable def BX99_classified_0 (g23 : Nat → Int32 → FM → Option (Int32 × FM)) (a0 : Nat) (a1 : Int32) (M : FM) : Option (Int32 × FM) :=
  fi (fm_is M 96 96 a0 = true) (
  let x1 : Nat := (M.2.2 377 a0 0)
  fi (fm_is M 902 902 x1 = true ∧ fm_in M x1 (Int32.ofInt 0) = true) (
  fi (fm_is M 96 96 a0 = true) (
  let x2 : Nat := (M.2.2 372 a0 0)
  fi (fm_is M 901 901 x2 = true ∧ fm_in M x2 a1 = true) (
  fi (0 ≤ (lg_cmp (M.2.1 3 x1 (Int32.ofInt 0).toNatClampNeg) ((Int64.ofInt 1) <<< ((M.1 3 x2 a1.toNatClampNeg).toInt64 &&& 63)))) (
    g23 a0 (Int32.ofInt 0) M) (
    g23 a0 (Int32.ofInt 1) M)) none) none) none) none
noncomputable def FX99_classified_0 (a0 : Nat) (a1 : Int32) (M : FM) : Option (Int32 × FM) := BX99_classified_0 FX99_classified_23 a0 a1 M
noncomputable def FX99_classified (a0 : Nat) (a1 : Int32) (M : FM) : Option (Int32 × FM) := FX99_classified_0 a0 a1 M
/-! BoardMachineModel$Floats.plain(IIIIIIJ)I -/
noncomputable def BX99_plain_249 (M : FM) : Option (Int32 × FM) :=
  some ((Int32.ofInt (-1)), M)
noncomputable def FX99_plain_249 (M : FM) : Option (Int32 × FM) := BX99_plain_249 M
noncomputable def BX99_plain_243 (f4 : Nat → Int32 → Int64 → Int32 → FM → Option (Int32 × FM)) (a5 : Int32) (s0 : Nat) (s1 : Int32) (s2 : Int64) (M : FM) : Option (Int32 × FM) :=
  fi (fm_is M 96 96 s0 = true) (
  (f4 s0 s1 s2 a5 M).bind fun r1 =>
  some (r1.1, r1.2)) none
noncomputable def FX99_plain_243 (a5 : Int32) (s0 : Nat) (s1 : Int32) (s2 : Int64) (M : FM) : Option (Int32 × FM) := BX99_plain_243 FX99_write a5 s0 s1 s2 M
noncomputable def BX99_plain_208 (g243 : Int32 → Nat → Int32 → Int64 → FM → Option (Int32 × FM)) (g249 : FM → Option (Int32 × FM)) (a0 : Nat) (a1 : Int32) (a2 : Int32) (a4 : Int32) (a5 : Int32) (a6 : Int32) (a7 : Int64) (M : FM) : Option (Int32 × FM) :=
  fi (a1 = (Int32.ofInt 30)) (
    fi (a4 = 0) (
      fi (a6 = 0) (
        fi (a5 = (Int32.ofInt 1)) (
          g243 a5 a0 a2 a7 M) (
          g243 a5 a0 a2 (a7 &&& (Int64.ofInt 4294967295)) M)) (
        g249 M)) (
      g249 M)) (
    g249 M)
noncomputable def FX99_plain_208 (a0 : Nat) (a1 : Int32) (a2 : Int32) (a4 : Int32) (a5 : Int32) (a6 : Int32) (a7 : Int64) (M : FM) : Option (Int32 × FM) := BX99_plain_208 FX99_plain_243 FX99_plain_249 a0 a1 a2 a4 a5 a6 a7 M
noncomputable def BX99_plain_207 (s0 : Int32) (M : FM) : Option (Int32 × FM) :=
  some (s0, M)
noncomputable def FX99_plain_207 (s0 : Int32) (M : FM) : Option (Int32 × FM) := BX99_plain_207 s0 M
noncomputable def BX99_plain_204 (f5 : Nat → Int64 → FM → Option (Int32 × FM)) (g207 : Int32 → FM → Option (Int32 × FM)) (s0 : Nat) (s1 : Int64) (M : FM) : Option (Int32 × FM) :=
  fi (fm_is M 96 96 s0 = true) (
  (f5 s0 s1 M).bind fun r1 =>
  g207 r1.1 r1.2) none
noncomputable def FX99_plain_204 (s0 : Nat) (s1 : Int64) (M : FM) : Option (Int32 × FM) := BX99_plain_204 FX99_tell FX99_plain_207 s0 s1 M
noncomputable def BX99_plain_148 (f2 : Nat → Int32 → FM → Option (Int32 × FM)) (g204 : Nat → Int64 → FM → Option (Int32 × FM)) (g207 : Int32 → FM → Option (Int32 × FM)) (g208 : Nat → Int32 → Int32 → Int32 → Int32 → Int32 → Int64 → FM → Option (Int32 × FM)) (a0 : Nat) (a1 : Int32) (a2 : Int32) (a3 : Int32) (a4 : Int32) (a5 : Int32) (a6 : Int32) (a7 : Int64) (M : FM) : Option (Int32 × FM) :=
  fi (a1 = (Int32.ofInt 28)) (
    fi (a4 = 0) (
      fi ((Int32.ofInt 2) ≤ a6) (
        g208 a0 a1 a2 a4 a5 a6 a7 M) (
        fi (a6 = (Int32.ofInt 1)) (
          fi (fm_is M 96 96 a0 = true) (
          (f2 a0 a5 M).bind fun r1 =>
          g207 r1.1 r1.2) none) (
          fi (a5 = (Int32.ofInt 1)) (
            fi (fm_is M 96 96 a0 = true) (
            let x2 : Nat := (M.2.2 367 a0 0)
            fi (fm_is M 902 902 x2 = true ∧ fm_in M x2 a3 = true) (
            g204 a0 (M.2.1 3 x2 a3.toNatClampNeg) M) none) none) (
            fi (fm_is M 96 96 a0 = true) (
            let x3 : Nat := (M.2.2 367 a0 0)
            fi (fm_is M 902 902 x3 = true ∧ fm_in M x3 a3 = true) (
            g204 a0 (((M.2.1 3 x3 a3.toNatClampNeg).toInt32).toInt64) M) none) none)))) (
      g208 a0 a1 a2 a4 a5 a6 a7 M)) (
    g208 a0 a1 a2 a4 a5 a6 a7 M)
noncomputable def FX99_plain_148 (a0 : Nat) (a1 : Int32) (a2 : Int32) (a3 : Int32) (a4 : Int32) (a5 : Int32) (a6 : Int32) (a7 : Int64) (M : FM) : Option (Int32 × FM) := BX99_plain_148 FX99_classified FX99_plain_204 FX99_plain_207 FX99_plain_208 a0 a1 a2 a3 a4 a5 a6 a7 M
noncomputable def BX99_plain_124 (f1 : Nat → Int32 → Int32 → Int32 → Int32 → FM → Option (Int32 × FM)) (g148 : Nat → Int32 → Int32 → Int32 → Int32 → Int32 → Int32 → Int64 → FM → Option (Int32 × FM)) (a0 : Nat) (a1 : Int32) (a2 : Int32) (a3 : Int32) (a4 : Int32) (a5 : Int32) (a6 : Int32) (a7 : Int64) (M : FM) : Option (Int32 × FM) :=
  fi (a1 = (Int32.ofInt 20)) (
    fi ((Int32.ofInt 3) ≤ a6) (
      g148 a0 a1 a2 a3 a4 a5 a6 a7 M) (
      fi (fm_is M 96 96 a0 = true) (
      (f1 a0 a3 a4 a5 a6 M).bind fun r1 =>
      some (r1.1, r1.2)) none)) (
    g148 a0 a1 a2 a3 a4 a5 a6 a7 M)
noncomputable def FX99_plain_124 (a0 : Nat) (a1 : Int32) (a2 : Int32) (a3 : Int32) (a4 : Int32) (a5 : Int32) (a6 : Int32) (a7 : Int64) (M : FM) : Option (Int32 × FM) := BX99_plain_124 FX99_compared FX99_plain_148 a0 a1 a2 a3 a4 a5 a6 a7 M
noncomputable def BX99_plain_100 (f0 : Nat → Int32 → Int32 → Int32 → Int32 → Int32 → FM → Option (Int32 × FM)) (g124 : Nat → Int32 → Int32 → Int32 → Int32 → Int32 → Int32 → Int64 → FM → Option (Int32 × FM)) (a0 : Nat) (a1 : Int32) (a2 : Int32) (a3 : Int32) (a4 : Int32) (a5 : Int32) (a6 : Int32) (a7 : Int64) (M : FM) : Option (Int32 × FM) :=
  fi (a1 = (Int32.ofInt 5)) (
    fi ((Int32.ofInt 2) ≤ a6) (
      g124 a0 a1 a2 a3 a4 a5 a6 a7 M) (
      fi (fm_is M 96 96 a0 = true) (
      (f0 a0 a2 a3 a4 a5 a6 M).bind fun r1 =>
      some (r1.1, r1.2)) none)) (
    g124 a0 a1 a2 a3 a4 a5 a6 a7 M)
noncomputable def FX99_plain_100 (a0 : Nat) (a1 : Int32) (a2 : Int32) (a3 : Int32) (a4 : Int32) (a5 : Int32) (a6 : Int32) (a7 : Int64) (M : FM) : Option (Int32 × FM) := BX99_plain_100 FX99_extreme FX99_plain_124 a0 a1 a2 a3 a4 a5 a6 a7 M
noncomputable def BX99_plain_72 (f3 : Nat → Int32 → Int32 → FM → Option (Int64 × FM)) (f4 : Nat → Int32 → Int64 → Int32 → FM → Option (Int32 × FM)) (f6 : Int32 → Int64 → Int64 → Int32 → FM → Option (Int64 × FM)) (a0 : Nat) (a2 : Int32) (a3 : Int32) (a5 : Int32) (a9 : Int64) (s0 : Int32) (M : FM) : Option (Int32 × FM) :=
  fi (fm_is M 96 96 a0 = true) (
  (f3 a0 a3 a5 M).bind fun r1 =>
  (f6 s0 (Int64.ofInt 0) (r1.1 &&& a9) a5 r1.2).bind fun r2 =>
  fi (fm_is r2.2 96 96 a0 = true) (
  (f4 a0 a2 r2.1 a5 r2.2).bind fun r3 =>
  some (r3.1, r3.2)) none) none
noncomputable def FX99_plain_72 (a0 : Nat) (a2 : Int32) (a3 : Int32) (a5 : Int32) (a9 : Int64) (s0 : Int32) (M : FM) : Option (Int32 × FM) := BX99_plain_72 FX99_bitsOf FX99_write FX99_pack a0 a2 a3 a5 a9 s0 M
noncomputable def BX99_plain_26 (g72 : Nat → Int32 → Int32 → Int32 → Int64 → Int32 → FM → Option (Int32 × FM)) (a0 : Nat) (a2 : Int32) (a3 : Int32) (a5 : Int32) (a6 : Int32) (s0 : Int64) (M : FM) : Option (Int32 × FM) :=
  fi (a6 = 0) (
    fi (fm_is M 96 96 a0 = true) (
    let x1 : Nat := (M.2.2 376 a0 0)
    fi (fm_is M 901 901 x1 = true ∧ fm_in M x1 (Int32.ofInt 1) = true) (
    g72 a0 a2 a3 a5 s0 (M.1 3 x1 (Int32.ofInt 1).toNatClampNeg) M) none) none) (
    fi (a6 = (Int32.ofInt 1)) (
      fi (fm_is M 96 96 a0 = true) (
      let x2 : Nat := (M.2.2 376 a0 0)
      fi (fm_is M 901 901 x2 = true ∧ fm_in M x2 (Int32.ofInt 1) = true) (
      g72 a0 a2 a3 a5 s0 ((Int32.ofInt 1) - (M.1 3 x2 (Int32.ofInt 1).toNatClampNeg)) M) none) none) (
      fi (fm_is M 96 96 a0 = true) (
      let x3 : Nat := (M.2.2 376 a0 0)
      fi (fm_is M 901 901 x3 = true ∧ fm_in M x3 (Int32.ofInt 0) = true) (
      fi (fm_is M 96 96 a0 = true) (
      let x4 : Nat := (M.2.2 376 a0 0)
      fi (fm_is M 901 901 x4 = true ∧ fm_in M x4 (Int32.ofInt 1) = true) (
      g72 a0 a2 a3 a5 s0 ((M.1 3 x3 (Int32.ofInt 0).toNatClampNeg) ^^^ (M.1 3 x4 (Int32.ofInt 1).toNatClampNeg)) M) none) none) none) none))
noncomputable def FX99_plain_26 (a0 : Nat) (a2 : Int32) (a3 : Int32) (a5 : Int32) (a6 : Int32) (s0 : Int64) (M : FM) : Option (Int32 × FM) := BX99_plain_26 FX99_plain_72 a0 a2 a3 a5 a6 s0 M
noncomputable def BX99_plain_0 (g26 : Nat → Int32 → Int32 → Int32 → Int32 → Int64 → FM → Option (Int32 × FM)) (g100 : Nat → Int32 → Int32 → Int32 → Int32 → Int32 → Int32 → Int64 → FM → Option (Int32 × FM)) (a0 : Nat) (a1 : Int32) (a2 : Int32) (a3 : Int32) (a4 : Int32) (a5 : Int32) (a6 : Int32) (a7 : Int64) (M : FM) : Option (Int32 × FM) :=
  fi (a1 = (Int32.ofInt 4)) (
    fi ((Int32.ofInt 3) ≤ a6) (
      g100 a0 a1 a2 a3 a4 a5 a6 a7 M) (
      fi (a5 = (Int32.ofInt 1)) (
        g26 a0 a2 a3 a5 a6 (Int64.ofInt 9223372036854775807) M) (
        g26 a0 a2 a3 a5 a6 (Int64.ofInt 2147483647) M))) (
    g100 a0 a1 a2 a3 a4 a5 a6 a7 M)
noncomputable def FX99_plain_0 (a0 : Nat) (a1 : Int32) (a2 : Int32) (a3 : Int32) (a4 : Int32) (a5 : Int32) (a6 : Int32) (a7 : Int64) (M : FM) : Option (Int32 × FM) := BX99_plain_0 FX99_plain_26 FX99_plain_100 a0 a1 a2 a3 a4 a5 a6 a7 M
noncomputable def FX99_plain (a0 : Nat) (a1 : Int32) (a2 : Int32) (a3 : Int32) (a4 : Int32) (a5 : Int32) (a6 : Int32) (a7 : Int64) (M : FM) : Option (Int32 × FM) := FX99_plain_0 a0 a1 a2 a3 a4 a5 a6 a7 M
/-! BoardMachineModel$Floats.run(IJ)I -/
noncomputable def BX99_run_293 (s0 : Int32) (M : FM) : Option (Int32 × FM) :=
  some (s0, M)
noncomputable def FX99_run_293 (n : Nat) (s0 : Int32) (M : FM) : Option (Int32 × FM) := BX99_run_293 s0 M
noncomputable def BX99_run_266 (f4 : Nat → Int32 → Int32 → Int32 → Int32 → Int32 → Int32 → Int64 → FM → Option (Int32 × FM)) (g293 : Int32 → FM → Option (Int32 × FM)) (a0 : Nat) (a2 : Int64) (a6 : Int32) (a7 : Int32) (a8 : Int32) (a9 : Int32) (a10 : Int32) (a11 : Int32) (M : FM) : Option (Int32 × FM) :=
  fi (a11 ≤ (Int32.ofInt 4)) (
    fi (fm_is M 96 96 a0 = true) (
    (f4 a0 a7 a8 a9 a10 a6 a11 a2 M).bind fun r1 =>
    g293 r1.1 r1.2) none) (
    g293 (Int32.ofInt (-1)) M)
noncomputable def FX99_run_266 (n : Nat) (a0 : Nat) (a2 : Int64) (a6 : Int32) (a7 : Int32) (a8 : Int32) (a9 : Int32) (a10 : Int32) (a11 : Int32) (M : FM) : Option (Int32 × FM) := BX99_run_266 (FX99_arithmetic n) (FX99_run_293 n ) a0 a2 a6 a7 a8 a9 a10 a11 M
noncomputable def BX99_run_192 (f2 : Nat → Int32 → Int32 → Int32 → Int32 → FM → Option (Int64 × FM)) (f3 : Nat → Int32 → Int64 → Int32 → FM → Option (Int32 × FM)) (a6 : Int32) (a11 : Int32) (s0 : Nat) (s1 : Int32) (s2 : Nat) (s3 : Int32) (s4 : Int32) (M : FM) : Option (Int32 × FM) :=
  fi (fm_is M 96 96 s2 = true) (
  (f2 s2 s3 s4 a6 a11 M).bind fun r1 =>
  fi (fm_is r1.2 96 96 s0 = true) (
  (f3 s0 s1 r1.1 a6 r1.2).bind fun r2 =>
  some (r2.1, r2.2)) none) none
noncomputable def FX99_run_192 (n : Nat) (a6 : Int32) (a11 : Int32) (s0 : Nat) (s1 : Int32) (s2 : Nat) (s3 : Int32) (s4 : Int32) (M : FM) : Option (Int32 × FM) := BX99_run_192 (FX99_fused n) FX99_write a6 a11 s0 s1 s2 s3 s4 M
noncomputable def BX99_run_187 (g192 : Int32 → Int32 → Nat → Int32 → Nat → Int32 → Int32 → FM → Option (Int32 × FM)) (a6 : Int32) (a11 : Int32) (s0 : Nat) (s1 : Int32) (s2 : Nat) (s3 : Int32) (M : FM) : Option (Int32 × FM) :=
  g192 a6 a11 s0 s1 s2 s3 (Int32.ofInt 1) M
noncomputable def FX99_run_187 (n : Nat) (a6 : Int32) (a11 : Int32) (s0 : Nat) (s1 : Int32) (s2 : Nat) (s3 : Int32) (M : FM) : Option (Int32 × FM) := BX99_run_187 (FX99_run_192 n ) a6 a11 s0 s1 s2 s3 M
noncomputable def BX99_run_173 (g187 : Int32 → Int32 → Nat → Int32 → Nat → Int32 → FM → Option (Int32 × FM)) (g192 : Int32 → Int32 → Nat → Int32 → Nat → Int32 → Int32 → FM → Option (Int32 × FM)) (a4 : Int32) (a6 : Int32) (a11 : Int32) (s0 : Nat) (s1 : Int32) (s2 : Nat) (s3 : Int32) (M : FM) : Option (Int32 × FM) :=
  fi (a4 = (Int32.ofInt 71)) (
    g187 a6 a11 s0 s1 s2 s3 M) (
    fi (a4 = (Int32.ofInt 79)) (
      g187 a6 a11 s0 s1 s2 s3 M) (
      g192 a6 a11 s0 s1 s2 s3 (Int32.ofInt 0) M))
noncomputable def FX99_run_173 (n : Nat) (a4 : Int32) (a6 : Int32) (a11 : Int32) (s0 : Nat) (s1 : Int32) (s2 : Nat) (s3 : Int32) (M : FM) : Option (Int32 × FM) := BX99_run_173 (FX99_run_187 n ) (FX99_run_192 n ) a4 a6 a11 s0 s1 s2 s3 M
noncomputable def BX99_run_122 (f1 : Nat → Int32 → Int32 → Int32 → FM → Option (FM)) (g173 : Int32 → Int32 → Int32 → Nat → Int32 → Nat → Int32 → FM → Option (Int32 × FM)) (a0 : Nat) (a4 : Int32) (a6 : Int32) (a7 : Int32) (a8 : Int32) (a9 : Int32) (a10 : Int32) (a11 : Int32) (M : FM) : Option (Int32 × FM) :=
  fi (a11 ≤ (Int32.ofInt 4)) (
    fi (fm_is M 96 96 a0 = true) (
    (f1 a0 (Int32.ofInt 0) a9 a6 M).bind fun M1 =>
    fi (fm_is M1 96 96 a0 = true) (
    (f1 a0 (Int32.ofInt 1) a10 a6 M1).bind fun M2 =>
    fi (fm_is M2 96 96 a0 = true) (
    (f1 a0 (Int32.ofInt 2) a7 a6 M2).bind fun M3 =>
    fi (a4 ≤ (Int32.ofInt 71)) (
      g173 a4 a6 a11 a0 a8 a0 (Int32.ofInt 0) M3) (
      g173 a4 a6 a11 a0 a8 a0 (Int32.ofInt 1) M3)) none) none) none) (
    some ((Int32.ofInt (-1)), M))
noncomputable def FX99_run_122 (n : Nat) (a0 : Nat) (a4 : Int32) (a6 : Int32) (a7 : Int32) (a8 : Int32) (a9 : Int32) (a10 : Int32) (a11 : Int32) (M : FM) : Option (Int32 × FM) := BX99_run_122 FX99_read (FX99_run_173 n ) a0 a4 a6 a7 a8 a9 a10 a11 M
noncomputable def BX99_run_84 (f1 : Nat → Int32 → Int32 → Int32 → FM → Option (FM)) (f5 : Nat → Int32 → Int32 → Int32 → Int32 → Int32 → Int32 → Int64 → FM → Option (Int32 × FM)) (g122 : Nat → Int32 → Int32 → Int32 → Int32 → Int32 → Int32 → Int32 → FM → Option (Int32 × FM)) (g266 : Nat → Int64 → Int32 → Int32 → Int32 → Int32 → Int32 → Int32 → FM → Option (Int32 × FM)) (a0 : Nat) (a2 : Int64) (a4 : Int32) (a5 : Int32) (a6 : Int32) (a7 : Int32) (a8 : Int32) (a9 : Int32) (a10 : Int32) (s0 : Int32) (M : FM) : Option (Int32 × FM) :=
  fi (a6 ≤ (Int32.ofInt 1)) (
    fi (a4 = (Int32.ofInt 67)) (
      g122 a0 a4 a6 a7 a8 a9 a10 s0 M) (
      fi (a4 = (Int32.ofInt 71)) (
        g122 a0 a4 a6 a7 a8 a9 a10 s0 M) (
        fi (a4 = (Int32.ofInt 75)) (
          g122 a0 a4 a6 a7 a8 a9 a10 s0 M) (
          fi (a4 = (Int32.ofInt 79)) (
            g122 a0 a4 a6 a7 a8 a9 a10 s0 M) (
            fi (a4 = (Int32.ofInt 83)) (
              fi (fm_is M 96 96 a0 = true) (
              (f1 a0 (Int32.ofInt 0) a9 a6 M).bind fun M1 =>
              fi (fm_is M1 96 96 a0 = true) (
              (f1 a0 (Int32.ofInt 1) a10 a6 M1).bind fun M2 =>
              fi (a7 < (Int32.ofInt 4)) (
                g266 a0 a2 a6 a7 a8 a9 a10 s0 M2) (
                fi (a7 = (Int32.ofInt 11)) (
                  g266 a0 a2 a6 a7 a8 a9 a10 s0 M2) (
                  fi (a7 = (Int32.ofInt 8)) (
                    g266 a0 a2 a6 a7 a8 a9 a10 s0 M2) (
                    fi (a7 = (Int32.ofInt 24)) (
                      g266 a0 a2 a6 a7 a8 a9 a10 s0 M2) (
                      fi (a7 = (Int32.ofInt 26)) (
                        g266 a0 a2 a6 a7 a8 a9 a10 s0 M2) (
                        fi (fm_is M2 96 96 a0 = true) (
                        (f5 a0 a7 a8 a9 a10 a6 a5 a2 M2).bind fun r3 =>
                        some (r3.1, r3.2)) none)))))) none) none) (
              some ((Int32.ofInt (-1)), M))))))) (
    some ((Int32.ofInt (-1)), M))
noncomputable def FX99_run_84 (n : Nat) (a0 : Nat) (a2 : Int64) (a4 : Int32) (a5 : Int32) (a6 : Int32) (a7 : Int32) (a8 : Int32) (a9 : Int32) (a10 : Int32) (s0 : Int32) (M : FM) : Option (Int32 × FM) := BX99_run_84 FX99_read FX99_plain (FX99_run_122 n ) (FX99_run_266 n ) a0 a2 a4 a5 a6 a7 a8 a9 a10 s0 M
noncomputable def BX99_run_0 (f0 : Int32 → Int32 → Int32 → FM → Option (Int32 × FM)) (g84 : Nat → Int64 → Int32 → Int32 → Int32 → Int32 → Int32 → Int32 → Int32 → Int32 → FM → Option (Int32 × FM)) (a0 : Nat) (a1 : Int32) (a2 : Int64) (M : FM) : Option (Int32 × FM) :=
  fi (fm_is M 96 96 a0 = true) (
  let M1 : FM := fm_sI M 366 a0 0 (Int32.ofInt 0)
  (f0 a1 (Int32.ofInt 0) (Int32.ofInt 7) M1).bind fun r2 =>
  (f0 a1 (Int32.ofInt 12) (Int32.ofInt 3) r2.2).bind fun r3 =>
  (f0 a1 (Int32.ofInt 25) (Int32.ofInt 2) r3.2).bind fun r4 =>
  (f0 a1 (Int32.ofInt 27) (Int32.ofInt 5) r4.2).bind fun r5 =>
  (f0 a1 (Int32.ofInt 7) (Int32.ofInt 5) r5.2).bind fun r6 =>
  (f0 a1 (Int32.ofInt 15) (Int32.ofInt 5) r6.2).bind fun r7 =>
  (f0 a1 (Int32.ofInt 20) (Int32.ofInt 5) r7.2).bind fun r8 =>
  fi (r3.1 = (Int32.ofInt 7)) (
    fi (fm_is r8.2 96 96 a0 = true) (
    g84 a0 a2 r2.1 r3.1 r4.1 r5.1 r6.1 r7.1 r8.1 (r8.2.1 369 a0 0) r8.2) none) (
    g84 a0 a2 r2.1 r3.1 r4.1 r5.1 r6.1 r7.1 r8.1 r3.1 r8.2)) none
noncomputable def FX99_run_0 (n : Nat) (a0 : Nat) (a1 : Int32) (a2 : Int64) (M : FM) : Option (Int32 × FM) := BX99_run_0 FX99_field (FX99_run_84 n ) a0 a1 a2 M
noncomputable def FX99_run (n : Nat) (a0 : Nat) (a1 : Int32) (a2 : Int64) (M : FM) : Option (Int32 × FM) := FX99_run_0 n a0 a1 a2 M
/-! BoardMachineModel$Floats.set(IJ)V -/
noncomputable def BX99_set_16 (M : FM) : Option (FM) :=
  some M
noncomputable def FX99_set_16 (M : FM) : Option (FM) := BX99_set_16 M
noncomputable def BX99_set_0 (f0 : Nat → Int32 → FM → Option (Int32 × FM)) (f1 : Nat → Int32 → Int64 → Int32 → FM → Option (Int32 × FM)) (g16 : FM → Option (FM)) (a0 : Nat) (a1 : Int32) (a2 : Int64) (M : FM) : Option (FM) :=
  fi (fm_is M 96 96 a0 = true) (
  (f0 a0 a1 M).bind fun r1 =>
  fi (r1.1 = 0) (
    fi (fm_is r1.2 96 96 a0 = true) (
    (f1 a0 a1 a2 (Int32.ofInt 1) r1.2).bind fun r2 =>
    g16 r2.2) none) (
    g16 r1.2)) none
noncomputable def FX99_set_0 (a0 : Nat) (a1 : Int32) (a2 : Int64) (M : FM) : Option (FM) := BX99_set_0 FX99_isNo FX99_write FX99_set_16 a0 a1 a2 M
noncomputable def FX99_set (a0 : Nat) (a1 : Int32) (a2 : Int64) (M : FM) : Option (FM) := FX99_set_0 a0 a1 a2 M
/-! BoardMachineModel$Floats.box(II)V -/
noncomputable def BX99_box_21 (M : FM) : Option (FM) :=
  some M
noncomputable def FX99_box_21 (M : FM) : Option (FM) := BX99_box_21 M
noncomputable def BX99_box_0 (f0 : Nat → Int32 → FM → Option (Int32 × FM)) (f1 : Nat → Int32 → Int64 → Int32 → FM → Option (Int32 × FM)) (g21 : FM → Option (FM)) (a0 : Nat) (a1 : Int32) (a2 : Int32) (M : FM) : Option (FM) :=
  fi (fm_is M 96 96 a0 = true) (
  (f0 a0 a1 M).bind fun r1 =>
  fi (r1.1 = 0) (
    fi (fm_is r1.2 96 96 a0 = true) (
    (f1 a0 a1 (a2.toInt64 &&& (Int64.ofInt 4294967295)) (Int32.ofInt 0) r1.2).bind fun r2 =>
    g21 r2.2) none) (
    g21 r1.2)) none
noncomputable def FX99_box_0 (a0 : Nat) (a1 : Int32) (a2 : Int32) (M : FM) : Option (FM) := BX99_box_0 FX99_isNo FX99_write FX99_box_21 a0 a1 a2 M
noncomputable def FX99_box (a0 : Nat) (a1 : Int32) (a2 : Int32) (M : FM) : Option (FM) := FX99_box_0 a0 a1 a2 M
/-! BoardMachineModel$Floats.value()J -/
noncomputable def BX99_value_0 (a0 : Nat) (M : FM) : Option (Int64 × FM) :=
  fi (fm_is M 96 96 a0 = true) (
  let M1 : FM := fm_sI M 366 a0 0 (Int32.ofInt 0)
  fi (fm_is M1 96 96 a0 = true) (
  some ((M1.2.1 370 a0 0), M1)) none) none
noncomputable def FX99_value_0 (a0 : Nat) (M : FM) : Option (Int64 × FM) := BX99_value_0 a0 M
noncomputable def FX99_value (a0 : Nat) (M : FM) : Option (Int64 × FM) := FX99_value_0 a0 M
/-! BoardMachineModel$Floats.written()Z -/
noncomputable def BX99_written_0 (a0 : Nat) (M : FM) : Option (Int32 × FM) :=
  fi (fm_is M 96 96 a0 = true) (
  let M1 : FM := fm_sI M 366 a0 0 (Int32.ofInt 0)
  fi (fm_is M1 96 96 a0 = true) (
  let x2 : Int32 := (M1.1 371 a0 0)
  fi (x2 = 0 ∨ x2 = 1) (some (x2, M1)) none) none) none
noncomputable def FX99_written_0 (a0 : Nat) (M : FM) : Option (Int32 × FM) := BX99_written_0 a0 M
noncomputable def FX99_written (a0 : Nat) (M : FM) : Option (Int32 × FM) := FX99_written_0 a0 M
/-! BoardMachineModel$Desk.put(II)V -/
noncomputable def BX100_put_0 (a0 : Nat) (a1 : Int32) (a2 : Int32) (M : FM) : Option (FM) :=
  fi (fm_is M 95 95 a0 = true) (
  fi (fm_is M 95 95 a0 = true) (
  let x1 : Nat := (M.2.2 361 a0 0)
  fi (fm_is M 902 902 x1 = true ∧ fm_in M x1 (Int32.ofInt 768) = true) (
  let x2 : Nat := (M.2.2 361 a0 0)
  fi (fm_is M 902 902 x2 = true ∧ fm_in M x2 (Int32.ofInt 768) = true) (
  let M3 : FM := fm_sL M 3 x2 (Int32.ofInt 768).toNatClampNeg (((M.2.1 3 x1 (Int32.ofInt 768).toNatClampNeg) &&& (((Int64.ofInt 1) <<< (a1.toInt64 &&& 63)) ^^^ (Int64.ofInt (-1)))) ||| (a2.toInt64 <<< (a1.toInt64 &&& 63)))
  some M3) none) none) none) none
noncomputable def FX100_put_0 (a0 : Nat) (a1 : Int32) (a2 : Int32) (M : FM) : Option (FM) := BX100_put_0 a0 a1 a2 M
noncomputable def FX100_put (a0 : Nat) (a1 : Int32) (a2 : Int32) (M : FM) : Option (FM) := FX100_put_0 a0 a1 a2 M
/-! BoardMachineModel$Desk.dirty()V -/
noncomputable def BX100_dirty_26 (M : FM) : Option (FM) :=
  some M
noncomputable def FX100_dirty_26 (M : FM) : Option (FM) := BX100_dirty_26 M
noncomputable def BX100_dirty_0 (f0 : Nat → FM → Option (Int32 × FM)) (f1 : Nat → Int32 → Int32 → FM → Option (FM)) (g26 : FM → Option (FM)) (a0 : Nat) (M : FM) : Option (FM) :=
  fi (fm_is M 95 95 a0 = true) (
  let M1 : FM := fm_sI M 358 a0 0 (Int32.ofInt 0)
  fi (fm_is M1 95 95 a0 = true) (
  (f0 a0 M1).bind fun r2 =>
  fi (r2.1 ≤ 0) (
    g26 r2.2) (
    fi (fm_is r2.2 95 95 a0 = true) (
    (f1 a0 (Int32.ofInt 13) (Int32.ofInt 1) r2.2).bind fun M3 =>
    fi (fm_is M3 95 95 a0 = true) (
    (f1 a0 (Int32.ofInt 14) (Int32.ofInt 1) M3).bind fun M4 =>
    g26 M4) none) none)) none) none
noncomputable def FX100_dirty_0 (a0 : Nat) (M : FM) : Option (FM) := BX100_dirty_0 FX100_floating FX100_put FX100_dirty_26 a0 M
noncomputable def FX100_dirty (a0 : Nat) (M : FM) : Option (FM) := FX100_dirty_0 a0 M
/-! BoardMachineModel$Floats.calm()V -/
noncomputable def BX99_calm_0 (a0 : Nat) (M : FM) : Option (FM) :=
  fi (fm_is M 96 96 a0 = true) (
  let M1 : FM := fm_sI M 366 a0 0 (Int32.ofInt 0)
  fi (fm_is M1 96 96 a0 = true) (
  fi ((Int32.ofInt 0) = 0 ∨ (Int32.ofInt 0) = 1) (
  let M2 : FM := fm_sI M1 371 a0 0 (Int32.ofInt 0)
  some M2) none) none) none
noncomputable def FX99_calm_0 (a0 : Nat) (M : FM) : Option (FM) := BX99_calm_0 a0 M
noncomputable def FX99_calm (a0 : Nat) (M : FM) : Option (FM) := FX99_calm_0 a0 M
/-! BoardMachineModel.floating(IJIII)Z -/
noncomputable def BX92_floating_207 (M : FM) : Option (Int32 × FM) :=
  fi ((Int32.ofInt 1) = 0 ∨ (Int32.ofInt 1) = 1) (some ((Int32.ofInt 1), M)) none
noncomputable def FX92_floating_207 (n : Nat) (M : FM) : Option (Int32 × FM) := BX92_floating_207 M
noncomputable def BX92_floating_185 (f12 : Nat → FM → Option (Int32 × FM)) (f13 : Nat → FM → Option (FM)) (f14 : Nat → FM → Option (FM)) (g207 : FM → Option (Int32 × FM)) (a0 : Nat) (a1 : Int32) (a7 : Nat) (M : FM) : Option (Int32 × FM) :=
  fi (fm_is M 96 96 a7 = true) (
  (f12 a7 M).bind fun r1 =>
  fi (r1.1 = 0) (
    g207 r1.2) (
    fi (fm_is r1.2 92 92 a0 = true) (
    let x2 : Nat := (r1.2.2.2 305 a0 0)
    fi (fm_is r1.2 910 990 x2 = true ∧ fm_in r1.2 x2 a1 = true) (
    let x3 : Nat := (r1.2.2.2 3 x2 a1.toNatClampNeg)
    fi (fm_is r1.2 95 95 x3 = true) (
    (f13 x3 r1.2).bind fun M4 =>
    fi (fm_is M4 96 96 a7 = true) (
    (f14 a7 M4).bind fun M5 =>
    g207 M5) none) none) none) none)) none
noncomputable def FX92_floating_185 (n : Nat) (a0 : Nat) (a1 : Int32) (a7 : Nat) (M : FM) : Option (Int32 × FM) := BX92_floating_185 FX99_written FX100_dirty FX99_calm (FX92_floating_207 n ) a0 a1 a7 M
noncomputable def BX92_floating_176 (f10 : Nat → FM → Option (Int64 × FM)) (f11 : Nat → Int32 → Int64 → FM → Option (Int32 × FM)) (g185 : Nat → Int32 → Nat → FM → Option (Int32 × FM)) (a0 : Nat) (a1 : Int32) (a7 : Nat) (s0 : Nat) (s1 : Int32) (M : FM) : Option (Int32 × FM) :=
  fi (fm_is M 96 96 a7 = true) (
  (f10 a7 M).bind fun r1 =>
  fi (fm_is r1.2 94 94 s0 = true) (
  (f11 s0 s1 r1.1 r1.2).bind fun r2 =>
  g185 a0 a1 a7 r2.2) none) none
noncomputable def FX92_floating_176 (n : Nat) (a0 : Nat) (a1 : Int32) (a7 : Nat) (s0 : Nat) (s1 : Int32) (M : FM) : Option (Int32 × FM) := BX92_floating_176 FX99_value FX98_finish (FX92_floating_185 n ) a0 a1 a7 s0 s1 M
noncomputable def BX92_floating_113 (f11 : Nat → Int32 → Int64 → FM → Option (Int32 × FM)) (g185 : Nat → Int32 → Nat → FM → Option (Int32 × FM)) (a0 : Nat) (a1 : Int32) (a7 : Nat) (M : FM) : Option (Int32 × FM) :=
  fi (fm_is M 92 92 a0 = true) (
  let x1 : Nat := (M.2.2 303 a0 0)
  fi (fm_is M 910 990 x1 = true ∧ fm_in M x1 a1 = true) (
  let x2 : Nat := (M.2.2 3 x1 a1.toNatClampNeg)
  fi (fm_is M 94 94 x2 = true) (
  (f11 x2 (Int32.ofInt 0) (Int64.ofInt 0) M).bind fun r3 =>
  g185 a0 a1 a7 r3.2) none) none) none
noncomputable def FX92_floating_113 (n : Nat) (a0 : Nat) (a1 : Int32) (a7 : Nat) (M : FM) : Option (Int32 × FM) := BX92_floating_113 FX98_finish (FX92_floating_185 n ) a0 a1 a7 M
noncomputable def BX92_floating_0 (f0 : Nat → FM → Option (Int32 × FM)) (f1 : Nat → FM → Option (Int32 × FM)) (f2 : Nat → Int32 → Int64 → Int32 → Int32 → FM → Option (Int32 × FM)) (f3 : Nat → Int32 → FM → Option (Int64 × FM)) (f4 : Nat → Int32 → FM → Option (Int64 × FM)) (f5 : Nat → Int32 → Int64 → Int32 → Int64 → FM → Option (Int32 × FM)) (f6 : Nat → Int32 → FM → Option (Int64 × FM)) (f7 : Nat → Int32 → Int64 → FM → Option (Int32 × FM)) (f8 : Nat → Int32 → Int64 → FM → Option (FM)) (f9 : Nat → Int32 → Int32 → FM → Option (FM)) (g113 : Nat → Int32 → Nat → FM → Option (Int32 × FM)) (g176 : Nat → Int32 → Nat → Nat → Int32 → FM → Option (Int32 × FM)) (a0 : Nat) (a1 : Int32) (a2 : Int64) (a4 : Int32) (a5 : Int32) (a6 : Int32) (M : FM) : Option (Int32 × FM) :=
  fi (fm_is M 92 92 a0 = true) (
  let x1 : Nat := (M.2.2 304 a0 0)
  fi (fm_is M 910 990 x1 = true ∧ fm_in M x1 a1 = true) (
  let x2 : Nat := (M.2.2 3 x1 a1.toNatClampNeg)
  fi (fm_is M 92 92 a0 = true) (
  let x3 : Nat := (M.2.2 305 a0 0)
  fi (fm_is M 910 990 x3 = true ∧ fm_in M x3 a1 = true) (
  let x4 : Nat := (M.2.2 3 x3 a1.toNatClampNeg)
  fi (fm_is M 95 95 x4 = true) (
  (f0 x4 M).bind fun r5 =>
  fi (r5.1 = 0) (
    fi (fm_is r5.2 92 92 a0 = true) (
    (f1 a0 r5.2).bind fun r6 =>
    fi (r6.1 = 0 ∨ r6.1 = 1) (some (r6.1, r6.2)) none) none) (
    fi (a5 = (Int32.ofInt 39)) (
      fi (fm_is r5.2 92 92 a0 = true) (
      fi (fm_is r5.2 96 96 x2 = true) (
      (f3 x2 (((r5.2.1 317 a0 0) >>> ((Int32.ofInt 20) &&& 31)) &&& (Int32.ofInt 31)) r5.2).bind fun r7 =>
      fi (fm_is r7.2 92 92 a0 = true) (
      (f5 a0 a1 a2 a4 r7.1 r7.2).bind fun r8 =>
      fi (r8.1 = 0 ∨ r8.1 = 1) (some (r8.1, r8.2)) none) none) none) none) (
      fi (a5 = (Int32.ofInt 7)) (
        fi (fm_is r5.2 92 92 a0 = true) (
        (f2 a0 a1 a2 a4 (Int32.ofInt 1) r5.2).bind fun r9 =>
        fi (r9.1 = 0) (
          fi ((Int32.ofInt 0) = 0 ∨ (Int32.ofInt 0) = 1) (some ((Int32.ofInt 0), r9.2)) none) (
          fi (fm_is r9.2 92 92 a0 = true) (
          (f6 a0 a4 r9.2).bind fun r10 =>
          fi (a4 = (Int32.ofInt 4)) (
            fi (fm_is r10.2 96 96 x2 = true) (
            (f9 x2 a6 r10.1.toInt32 r10.2).bind fun M11 =>
            g113 a0 a1 x2 M11) none) (
            fi (fm_is r10.2 96 96 x2 = true) (
            (f8 x2 a6 r10.1 r10.2).bind fun M12 =>
            g113 a0 a1 x2 M12) none)) none)) none) (
        fi (fm_is r5.2 92 92 a0 = true) (
        fi (fm_is r5.2 92 92 a0 = true) (
        let x13 : Nat := (r5.2.2.2 303 a0 0)
        fi (fm_is r5.2 910 990 x13 = true ∧ fm_in r5.2 x13 a1 = true) (
        let x14 : Nat := (r5.2.2.2 3 x13 a1.toNatClampNeg)
        fi (fm_is r5.2 94 94 x14 = true) (
        (f4 x14 (Int32.ofInt 2) r5.2).bind fun r15 =>
        fi (fm_is r15.2 96 96 x2 = true) (
        (f7 x2 (r5.2.1 317 a0 0) r15.1 r15.2).bind fun r16 =>
        fi (0 ≤ r16.1) (
          fi (fm_is r16.2 92 92 a0 = true) (
          let x17 : Nat := (r16.2.2.2 303 a0 0)
          fi (fm_is r16.2 910 990 x17 = true ∧ fm_in r16.2 x17 a1 = true) (
          fi (r16.1 = (Int32.ofInt 1)) (
            g176 a0 a1 x2 (r16.2.2.2 3 x17 a1.toNatClampNeg) (Int32.ofInt 1) r16.2) (
            g176 a0 a1 x2 (r16.2.2.2 3 x17 a1.toNatClampNeg) (Int32.ofInt 0) r16.2)) none) none) (
          fi (fm_is r16.2 92 92 a0 = true) (
          (f1 a0 r16.2).bind fun r18 =>
          fi (r18.1 = 0 ∨ r18.1 = 1) (some (r18.1, r18.2)) none) none)) none) none) none) none) none)))) none) none) none) none) none
noncomputable def FX92_floating_0 (n : Nat) (a0 : Nat) (a1 : Int32) (a2 : Int64) (a4 : Int32) (a5 : Int32) (a6 : Int32) (M : FM) : Option (Int32 × FM) := BX92_floating_0 FX100_floats FX92_illegal (FX92_finds n) FX99_get FX98_wanted (FX92_store n) (FX92_get n) (FX99_run n) FX99_set FX99_box (FX92_floating_113 n ) (FX92_floating_176 n ) a0 a1 a2 a4 a5 a6 M
noncomputable def FX92_floating (n : Nat) (a0 : Nat) (a1 : Int32) (a2 : Int64) (a4 : Int32) (a5 : Int32) (a6 : Int32) (M : FM) : Option (Int32 × FM) := FX92_floating_0 n a0 a1 a2 a4 a5 a6 M
/-! BoardMachineModel$Desk.back(Z)Z -/
noncomputable def BX100_back_158 (s0 : Nat) (s1 : Nat) (s2 : Int32) (M : FM) : Option (Int32 × FM) :=
  fi (fm_is M 902 902 s1 = true ∧ fm_in M s1 s2 = true) (
  fi (fm_is M 95 95 s0 = true) (
  let M1 : FM := fm_sL M 365 s0 0 (M.2.1 3 s1 s2.toNatClampNeg)
  fi ((Int32.ofInt 1) = 0 ∨ (Int32.ofInt 1) = 1) (some ((Int32.ofInt 1), M1)) none) none) none
noncomputable def FX100_back_158 (s0 : Nat) (s1 : Nat) (s2 : Int32) (M : FM) : Option (Int32 × FM) := BX100_back_158 s0 s1 s2 M
noncomputable def BX100_back_140 (g158 : Nat → Nat → Int32 → FM → Option (Int32 × FM)) (a0 : Nat) (a1 : Int32) (M : FM) : Option (Int32 × FM) :=
  fi (fm_is M 95 95 a0 = true) (
  fi (a1 = 0) (
    g158 a0 (M.2.2 361 a0 0) (Int32.ofInt 321) M) (
    g158 a0 (M.2.2 361 a0 0) (Int32.ofInt 833) M)) none
noncomputable def FX100_back_140 (a0 : Nat) (a1 : Int32) (M : FM) : Option (Int32 × FM) := BX100_back_140 FX100_back_158 a0 a1 M
noncomputable def BX100_back_125 (f1 : Nat → Int32 → Int32 → FM → Option (FM)) (g140 : Nat → Int32 → FM → Option (Int32 × FM)) (a0 : Nat) (a1 : Int32) (M : FM) : Option (Int32 × FM) :=
  fi (fm_is M 95 95 a0 = true) (
  fi ((Int32.ofInt 3) ≤ (M.1 360 a0 0)) (
    g140 a0 a1 M) (
    fi (fm_is M 95 95 a0 = true) (
    (f1 a0 (Int32.ofInt 17) (Int32.ofInt 0) M).bind fun M1 =>
    g140 a0 a1 M1) none)) none
noncomputable def FX100_back_125 (a0 : Nat) (a1 : Int32) (M : FM) : Option (Int32 × FM) := BX100_back_125 FX100_put FX100_back_140 a0 a1 M
noncomputable def BX100_back_94 (f1 : Nat → Int32 → Int32 → FM → Option (FM)) (g125 : Nat → Int32 → FM → Option (Int32 × FM)) (a0 : Nat) (a1 : Int32) (s0 : Nat) (s1 : Int32) (M : FM) : Option (Int32 × FM) :=
  fi (fm_is M 95 95 s0 = true) (
  let M1 : FM := fm_sI M 360 s0 0 s1
  fi (a1 = 0) (
    fi (fm_is M1 95 95 a0 = true) (
    (f1 a0 (Int32.ofInt 8) (Int32.ofInt 0) M1).bind fun M2 =>
    g125 a0 a1 M2) none) (
    fi (fm_is M1 95 95 a0 = true) (
    (f1 a0 (Int32.ofInt 11) (Int32.ofInt 0) M1).bind fun M3 =>
    fi (fm_is M3 95 95 a0 = true) (
    (f1 a0 (Int32.ofInt 12) (Int32.ofInt 0) M3).bind fun M4 =>
    g125 a0 a1 M4) none) none)) none
noncomputable def FX100_back_94 (a0 : Nat) (a1 : Int32) (s0 : Nat) (s1 : Int32) (M : FM) : Option (Int32 × FM) := BX100_back_94 FX100_put FX100_back_125 a0 a1 s0 s1 M
noncomputable def BX100_back_55 (f0 : Nat → Int32 → FM → Option (Int32 × FM)) (f1 : Nat → Int32 → Int32 → FM → Option (FM)) (f2 : Nat → FM → Option (Int32 × FM)) (g94 : Nat → Int32 → Nat → Int32 → FM → Option (Int32 × FM)) (a0 : Nat) (a1 : Int32) (s0 : Int32) (M : FM) : Option (Int32 × FM) :=
  fi (fm_is M 95 95 a0 = true) (
  (f0 a0 (s0 + (Int32.ofInt 4)) M).bind fun r1 =>
  fi (fm_is r1.2 95 95 a0 = true) (
  (f1 a0 s0 r1.1 r1.2).bind fun M2 =>
  fi (fm_is M2 95 95 a0 = true) (
  (f1 a0 (s0 + (Int32.ofInt 4)) (Int32.ofInt 1) M2).bind fun M3 =>
  fi (a1 = 0) (
    fi (fm_is M3 95 95 a0 = true) (
    (f0 a0 (Int32.ofInt 8) M3).bind fun r4 =>
    g94 a0 a1 a0 r4.1 r4.2) none) (
    fi (fm_is M3 95 95 a0 = true) (
    (f2 a0 M3).bind fun r5 =>
    g94 a0 a1 a0 r5.1 r5.2) none)) none) none) none
noncomputable def FX100_back_55 (a0 : Nat) (a1 : Int32) (s0 : Int32) (M : FM) : Option (Int32 × FM) := BX100_back_55 FX100_status FX100_put FX100_below FX100_back_94 a0 a1 s0 M
noncomputable def BX100_back_39 (g55 : Nat → Int32 → Int32 → FM → Option (Int32 × FM)) (a0 : Nat) (a1 : Int32) (s0 : Int32) (M : FM) : Option (Int32 × FM) :=
  fi (s0 = 0) (
    fi ((Int32.ofInt 0) = 0 ∨ (Int32.ofInt 0) = 1) (some ((Int32.ofInt 0), M)) none) (
    fi (a1 = 0) (
      g55 a0 a1 (Int32.ofInt 1) M) (
      g55 a0 a1 (Int32.ofInt 3) M))
noncomputable def FX100_back_39 (a0 : Nat) (a1 : Int32) (s0 : Int32) (M : FM) : Option (Int32 × FM) := BX100_back_39 FX100_back_55 a0 a1 s0 M
noncomputable def BX100_back_38 (g39 : Nat → Int32 → Int32 → FM → Option (Int32 × FM)) (a0 : Nat) (a1 : Int32) (M : FM) : Option (Int32 × FM) :=
  g39 a0 a1 (Int32.ofInt 0) M
noncomputable def FX100_back_38 (a0 : Nat) (a1 : Int32) (M : FM) : Option (Int32 × FM) := BX100_back_38 FX100_back_39 a0 a1 M
noncomputable def BX100_back_34 (g39 : Nat → Int32 → Int32 → FM → Option (Int32 × FM)) (a0 : Nat) (a1 : Int32) (M : FM) : Option (Int32 × FM) :=
  g39 a0 a1 (Int32.ofInt 1) M
noncomputable def FX100_back_34 (a0 : Nat) (a1 : Int32) (M : FM) : Option (Int32 × FM) := BX100_back_34 FX100_back_39 a0 a1 M
noncomputable def BX100_back_0 (f0 : Nat → Int32 → FM → Option (Int32 × FM)) (g34 : Nat → Int32 → FM → Option (Int32 × FM)) (g38 : Nat → Int32 → FM → Option (Int32 × FM)) (a0 : Nat) (a1 : Int32) (M : FM) : Option (Int32 × FM) :=
  fi (fm_is M 95 95 a0 = true) (
  let M1 : FM := fm_sI M 358 a0 0 (Int32.ofInt 0)
  fi (fm_is M1 95 95 a0 = true) (
  fi ((M1.1 360 a0 0) = (Int32.ofInt 3)) (
    g34 a0 a1 M1) (
    fi (a1 = 0) (
      fi (fm_is M1 95 95 a0 = true) (
      fi ((M1.1 360 a0 0) = (Int32.ofInt 1)) (
        fi (fm_is M1 95 95 a0 = true) (
        (f0 a0 (Int32.ofInt 22) M1).bind fun r2 =>
        fi (r2.1 = 0) (
          g34 a0 a1 r2.2) (
          g38 a0 a1 r2.2)) none) (
        g38 a0 a1 M1)) none) (
      g38 a0 a1 M1))) none) none
noncomputable def FX100_back_0 (a0 : Nat) (a1 : Int32) (M : FM) : Option (Int32 × FM) := BX100_back_0 FX100_status FX100_back_34 FX100_back_38 a0 a1 M
noncomputable def FX100_back (a0 : Nat) (a1 : Int32) (M : FM) : Option (Int32 × FM) := FX100_back_0 a0 a1 M
/-! BoardMachineModel$Desk.place()J -/
noncomputable def BX100_place_0 (a0 : Nat) (M : FM) : Option (Int64 × FM) :=
  fi (fm_is M 95 95 a0 = true) (
  let M1 : FM := fm_sI M 358 a0 0 (Int32.ofInt 0)
  fi (fm_is M1 95 95 a0 = true) (
  some ((M1.2.1 365 a0 0), M1)) none) none
noncomputable def FX100_place_0 (a0 : Nat) (M : FM) : Option (Int64 × FM) := BX100_place_0 a0 M
noncomputable def FX100_place (a0 : Nat) (M : FM) : Option (Int64 × FM) := FX100_place_0 a0 M
/-! BoardMachineModel$Core.jump(J)V -/
noncomputable def BX98_jump_0 (a0 : Nat) (a1 : Int64) (M : FM) : Option (FM) :=
  fi (fm_is M 94 94 a0 = true) (
  let M1 : FM := fm_sI M 345 a0 0 (Int32.ofInt 0)
  fi (fm_is M1 94 94 a0 = true) (
  let M2 : FM := fm_sL M1 347 a0 0 (a1 - (a1 &&& (Int64.ofInt 1)))
  fi (fm_is M2 94 94 a0 = true) (
  let M3 : FM := fm_sI M2 353 a0 0 (Int32.ofInt (-1))
  some M3) none) none) none
noncomputable def FX98_jump_0 (a0 : Nat) (a1 : Int64) (M : FM) : Option (FM) := BX98_jump_0 a0 a1 M
noncomputable def FX98_jump (a0 : Nat) (a1 : Int64) (M : FM) : Option (FM) := FX98_jump_0 a0 a1 M
/-! BoardMachineModel.back(IZ)Z -/
noncomputable def BX92_back_0 (f0 : Nat → Int32 → FM → Option (Int32 × FM)) (f1 : Nat → FM → Option (Int32 × FM)) (f2 : Nat → FM → Option (Int64 × FM)) (f3 : Nat → Int64 → FM → Option (FM)) (a0 : Nat) (a1 : Int32) (a2 : Int32) (M : FM) : Option (Int32 × FM) :=
  fi (fm_is M 92 92 a0 = true) (
  let x1 : Nat := (M.2.2 305 a0 0)
  fi (fm_is M 910 990 x1 = true ∧ fm_in M x1 a1 = true) (
  let x2 : Nat := (M.2.2 3 x1 a1.toNatClampNeg)
  fi (fm_is M 95 95 x2 = true) (
  (f0 x2 a2 M).bind fun r3 =>
  fi (r3.1 = 0) (
    fi (fm_is r3.2 92 92 a0 = true) (
    (f1 a0 r3.2).bind fun r4 =>
    fi (r4.1 = 0 ∨ r4.1 = 1) (some (r4.1, r4.2)) none) none) (
    fi (fm_is r3.2 92 92 a0 = true) (
    let x5 : Nat := (r3.2.2.2 303 a0 0)
    fi (fm_is r3.2 910 990 x5 = true ∧ fm_in r3.2 x5 a1 = true) (
    fi (fm_is r3.2 92 92 a0 = true) (
    let x6 : Nat := (r3.2.2.2 305 a0 0)
    fi (fm_is r3.2 910 990 x6 = true ∧ fm_in r3.2 x6 a1 = true) (
    let x7 : Nat := (r3.2.2.2 3 x6 a1.toNatClampNeg)
    fi (fm_is r3.2 95 95 x7 = true) (
    (f2 x7 r3.2).bind fun r8 =>
    let x9 : Nat := (r3.2.2.2 3 x5 a1.toNatClampNeg)
    fi (fm_is r8.2 94 94 x9 = true) (
    (f3 x9 r8.1 r8.2).bind fun M10 =>
    fi ((Int32.ofInt 1) = 0 ∨ (Int32.ofInt 1) = 1) (some ((Int32.ofInt 1), M10)) none) none) none) none) none) none) none)) none) none) none
noncomputable def FX92_back_0 (a0 : Nat) (a1 : Int32) (a2 : Int32) (M : FM) : Option (Int32 × FM) := BX92_back_0 FX100_back FX92_illegal FX100_place FX98_jump a0 a1 a2 M
noncomputable def FX92_back (a0 : Nat) (a1 : Int32) (a2 : Int32) (M : FM) : Option (Int32 × FM) := FX92_back_0 a0 a1 a2 M
/-! BoardMachineModel$Desk.allowed(I)Z -/
noncomputable def BX100_allowed_64 (s0 : Int32) (M : FM) : Option (Int32 × FM) :=
  fi (s0 = 0 ∨ s0 = 1) (some (s0, M)) none
noncomputable def FX100_allowed_64 (s0 : Int32) (M : FM) : Option (Int32 × FM) := BX100_allowed_64 s0 M
noncomputable def BX100_allowed_63 (g64 : Int32 → FM → Option (Int32 × FM)) (M : FM) : Option (Int32 × FM) :=
  g64 (Int32.ofInt 0) M
noncomputable def FX100_allowed_63 (M : FM) : Option (Int32 × FM) := BX100_allowed_63 FX100_allowed_64 M
noncomputable def BX100_allowed_59 (g64 : Int32 → FM → Option (Int32 × FM)) (M : FM) : Option (Int32 × FM) :=
  g64 (Int32.ofInt 1) M
noncomputable def FX100_allowed_59 (M : FM) : Option (Int32 × FM) := BX100_allowed_59 FX100_allowed_64 M
noncomputable def BX100_allowed_53 (f0 : Nat → Int32 → FM → Option (Int32 × FM)) (g59 : FM → Option (Int32 × FM)) (g63 : FM → Option (Int32 × FM)) (s0 : Nat) (s1 : Int32) (M : FM) : Option (Int32 × FM) :=
  fi (fm_is M 95 95 s0 = true) (
  (f0 s0 s1 M).bind fun r1 =>
  fi (r1.1 = 0) (
    g59 r1.2) (
    g63 r1.2)) none
noncomputable def FX100_allowed_53 (s0 : Nat) (s1 : Int32) (M : FM) : Option (Int32 × FM) := BX100_allowed_53 FX100_status FX100_allowed_59 FX100_allowed_63 s0 s1 M
noncomputable def BX100_allowed_15 (g53 : Nat → Int32 → FM → Option (Int32 × FM)) (g59 : FM → Option (Int32 × FM)) (g63 : FM → Option (Int32 × FM)) (a0 : Nat) (a1 : Int32) (s0 : Nat) (s1 : Int32) (M : FM) : Option (Int32 × FM) :=
  fi (fm_is M 95 95 s0 = true) (
  let M1 : FM := fm_sI M 358 s0 0 s1
  fi (fm_is M1 95 95 a0 = true) (
  fi ((M1.1 358 a0 0) = 0) (
    fi (fm_is M1 95 95 a0 = true) (
    fi ((M1.1 360 a0 0) = (Int32.ofInt 3)) (
      g59 M1) (
      fi (fm_is M1 95 95 a0 = true) (
      fi ((M1.1 360 a0 0) = (Int32.ofInt 1)) (
        fi (a1 = 0) (
          g53 a0 (Int32.ofInt 21) M1) (
          g53 a0 (Int32.ofInt 20) M1)) (
        g63 M1)) none)) none) (
    g63 M1)) none) none
noncomputable def FX100_allowed_15 (a0 : Nat) (a1 : Int32) (s0 : Nat) (s1 : Int32) (M : FM) : Option (Int32 × FM) := BX100_allowed_15 FX100_allowed_53 FX100_allowed_59 FX100_allowed_63 a0 a1 s0 s1 M
noncomputable def BX100_allowed_10 (g15 : Nat → Int32 → Nat → Int32 → FM → Option (Int32 × FM)) (a0 : Nat) (a1 : Int32) (s0 : Nat) (M : FM) : Option (Int32 × FM) :=
  g15 a0 a1 s0 (Int32.ofInt 0) M
noncomputable def FX100_allowed_10 (a0 : Nat) (a1 : Int32) (s0 : Nat) (M : FM) : Option (Int32 × FM) := BX100_allowed_10 FX100_allowed_15 a0 a1 s0 M
noncomputable def BX100_allowed_0 (g10 : Nat → Int32 → Nat → FM → Option (Int32 × FM)) (g15 : Nat → Int32 → Nat → Int32 → FM → Option (Int32 × FM)) (a0 : Nat) (a1 : Int32) (M : FM) : Option (Int32 × FM) :=
  fi (a1 = 0) (
    g10 a0 a1 a0 M) (
    fi (a1 = (Int32.ofInt 1)) (
      g10 a0 a1 a0 M) (
      g15 a0 a1 a0 (Int32.ofInt 1) M))
noncomputable def FX100_allowed_0 (a0 : Nat) (a1 : Int32) (M : FM) : Option (Int32 × FM) := BX100_allowed_0 FX100_allowed_10 FX100_allowed_15 a0 a1 M
noncomputable def FX100_allowed (a0 : Nat) (a1 : Int32) (M : FM) : Option (Int32 × FM) := FX100_allowed_0 a0 a1 M
/-! BoardMachineModel.system(IIII)Z -/
noncomputable def BX92_system_187 (f6 : Nat → Int32 → Int64 → FM → Option (Int32 × FM)) (a0 : Nat) (a1 : Int32) (s0 : Nat) (s1 : Int32) (s2 : Int32) (M : FM) : Option (Int32 × FM) :=
  fi (fm_is M 904 904 s0 = true ∧ fm_in M s0 s1 = true) (
  let M1 : FM := fm_sI M 3 s0 s1.toNatClampNeg (s2 &&& 1)
  fi (fm_is M1 92 92 a0 = true) (
  let x2 : Nat := (M1.2.2 303 a0 0)
  fi (fm_is M1 910 990 x2 = true ∧ fm_in M1 x2 a1 = true) (
  let x3 : Nat := (M1.2.2 3 x2 a1.toNatClampNeg)
  fi (fm_is M1 94 94 x3 = true) (
  (f6 x3 (Int32.ofInt 0) (Int64.ofInt 0) M1).bind fun r4 =>
  fi ((Int32.ofInt 1) = 0 ∨ (Int32.ofInt 1) = 1) (some ((Int32.ofInt 1), r4.2)) none) none) none) none) none
noncomputable def FX92_system_187 (a0 : Nat) (a1 : Int32) (s0 : Nat) (s1 : Int32) (s2 : Int32) (M : FM) : Option (Int32 × FM) := BX92_system_187 FX98_finish a0 a1 s0 s1 s2 M
noncomputable def BX92_system_170 (g187 : Nat → Int32 → Nat → Int32 → Int32 → FM → Option (Int32 × FM)) (a0 : Nat) (a1 : Int32) (a2 : Int32) (M : FM) : Option (Int32 × FM) :=
  fi (fm_is M 92 92 a0 = true) (
  fi (a2 = (Int32.ofInt 261)) (
    g187 a0 a1 (M.2.2 307 a0 0) a1 (Int32.ofInt 1) M) (
    g187 a0 a1 (M.2.2 307 a0 0) a1 (Int32.ofInt 0) M)) none
noncomputable def FX92_system_170 (a0 : Nat) (a1 : Int32) (a2 : Int32) (M : FM) : Option (Int32 × FM) := BX92_system_170 FX92_system_187 a0 a1 a2 M
noncomputable def BX92_system_165 (f0 : Nat → FM → Option (Int32 × FM)) (a0 : Nat) (M : FM) : Option (Int32 × FM) :=
  fi (fm_is M 92 92 a0 = true) (
  (f0 a0 M).bind fun r1 =>
  fi (r1.1 = 0 ∨ r1.1 = 1) (some (r1.1, r1.2)) none) none
noncomputable def FX92_system_165 (a0 : Nat) (M : FM) : Option (Int32 × FM) := BX92_system_165 FX92_illegal a0 M
noncomputable def BX92_system_149 (f3 : Nat → Int32 → FM → Option (Int32 × FM)) (g165 : Nat → FM → Option (Int32 × FM)) (g170 : Nat → Int32 → Int32 → FM → Option (Int32 × FM)) (a0 : Nat) (a1 : Int32) (a2 : Int32) (a5 : Nat) (M : FM) : Option (Int32 × FM) :=
  fi (a2 = (Int32.ofInt 261)) (
    fi (fm_is M 95 95 a5 = true) (
    (f3 a5 (Int32.ofInt 0) M).bind fun r1 =>
    fi (r1.1 = 0) (
      g165 a0 r1.2) (
      g170 a0 a1 a2 r1.2)) none) (
    g165 a0 M)
noncomputable def FX92_system_149 (a0 : Nat) (a1 : Int32) (a2 : Int32) (a5 : Nat) (M : FM) : Option (Int32 × FM) := BX92_system_149 FX100_allowed FX92_system_165 FX92_system_170 a0 a1 a2 a5 M
noncomputable def BX92_system_48 (f1 : Nat → FM → Option (Int32 × FM)) (f2 : Nat → Int32 → Int32 → FM → Option (Int32 × FM)) (f3 : Nat → Int32 → FM → Option (Int32 × FM)) (f4 : Nat → Int32 → Int64 → FM → Option (Int32 × FM)) (f5 : Nat → FM → Option (Int64 × FM)) (g149 : Nat → Int32 → Int32 → Nat → FM → Option (Int32 × FM)) (g170 : Nat → Int32 → Int32 → FM → Option (Int32 × FM)) (a0 : Nat) (a1 : Int32) (a2 : Int32) (a5 : Nat) (a6 : Int32) (M : FM) : Option (Int32 × FM) :=
  fi (a2 = (Int32.ofInt 0)) (
    fi (fm_is M 95 95 a5 = true) (
    (f1 a5 M).bind fun r1 =>
    fi (fm_is r1.2 92 92 a0 = true) (
    (f4 a0 ((Int32.ofInt 8) + r1.1) (Int64.ofInt 0) r1.2).bind fun r2 =>
    fi (r2.1 = 0 ∨ r2.1 = 1) (some (r2.1, r2.2)) none) none) none) (
  fi (a2 = (Int32.ofInt 1)) (
    fi (fm_is M 92 92 a0 = true) (
    let x3 : Nat := (M.2.2 303 a0 0)
    fi (fm_is M 910 990 x3 = true ∧ fm_in M x3 a1 = true) (
    let x4 : Nat := (M.2.2 3 x3 a1.toNatClampNeg)
    fi (fm_is M 94 94 x4 = true) (
    (f5 x4 M).bind fun r5 =>
    fi (fm_is r5.2 92 92 a0 = true) (
    (f4 a0 (Int32.ofInt 3) r5.1 r5.2).bind fun r6 =>
    fi (r6.1 = 0 ∨ r6.1 = 1) (some (r6.1, r6.2)) none) none) none) none) none) (
  fi (a2 = (Int32.ofInt 258)) (
    fi (fm_is M 92 92 a0 = true) (
    (f2 a0 a1 (Int32.ofInt 0) M).bind fun r7 =>
    fi (r7.1 = 0 ∨ r7.1 = 1) (some (r7.1, r7.2)) none) none) (
  fi (a2 = (Int32.ofInt 770)) (
    fi (fm_is M 92 92 a0 = true) (
    (f2 a0 a1 (Int32.ofInt 1) M).bind fun r8 =>
    fi (r8.1 = 0 ∨ r8.1 = 1) (some (r8.1, r8.2)) none) none) (
  fi (a6 = 0) (
      g149 a0 a1 a2 a5 M) (
      fi (fm_is M 95 95 a5 = true) (
      (f3 a5 (Int32.ofInt 1) M).bind fun r9 =>
      fi (r9.1 = 0) (
        g149 a0 a1 a2 a5 r9.2) (
        g170 a0 a1 a2 r9.2)) none)))))
noncomputable def FX92_system_48 (a0 : Nat) (a1 : Int32) (a2 : Int32) (a5 : Nat) (a6 : Int32) (M : FM) : Option (Int32 × FM) := BX92_system_48 FX100_mode FX92_back FX100_allowed FX92_fail FX98_counter FX92_system_149 FX92_system_170 a0 a1 a2 a5 a6 M
noncomputable def BX92_system_43 (f0 : Nat → FM → Option (Int32 × FM)) (a0 : Nat) (M : FM) : Option (Int32 × FM) :=
  fi (fm_is M 92 92 a0 = true) (
  (f0 a0 M).bind fun r1 =>
  fi (r1.1 = 0 ∨ r1.1 = 1) (some (r1.1, r1.2)) none) none
noncomputable def FX92_system_43 (a0 : Nat) (M : FM) : Option (Int32 × FM) := BX92_system_43 FX92_illegal a0 M
noncomputable def BX92_system_27 (g43 : Nat → FM → Option (Int32 × FM)) (g48 : Nat → Int32 → Int32 → Nat → Int32 → FM → Option (Int32 × FM)) (a0 : Nat) (a1 : Int32) (a2 : Int32) (a3 : Int32) (a4 : Int32) (a5 : Nat) (s0 : Int32) (M : FM) : Option (Int32 × FM) :=
  fi (a3 = 0) (
    fi (a4 = 0) (
      g48 a0 a1 a2 a5 s0 M) (
      fi (s0 = 0) (
        g43 a0 M) (
        g48 a0 a1 a2 a5 s0 M))) (
    g43 a0 M)
noncomputable def FX92_system_27 (a0 : Nat) (a1 : Int32) (a2 : Int32) (a3 : Int32) (a4 : Int32) (a5 : Nat) (s0 : Int32) (M : FM) : Option (Int32 × FM) := BX92_system_27 FX92_system_43 FX92_system_48 a0 a1 a2 a3 a4 a5 s0 M
noncomputable def BX92_system_26 (g27 : Nat → Int32 → Int32 → Int32 → Int32 → Nat → Int32 → FM → Option (Int32 × FM)) (a0 : Nat) (a1 : Int32) (a2 : Int32) (a3 : Int32) (a4 : Int32) (a5 : Nat) (M : FM) : Option (Int32 × FM) :=
  g27 a0 a1 a2 a3 a4 a5 (Int32.ofInt 0) M
noncomputable def FX92_system_26 (a0 : Nat) (a1 : Int32) (a2 : Int32) (a3 : Int32) (a4 : Int32) (a5 : Nat) (M : FM) : Option (Int32 × FM) := BX92_system_26 FX92_system_27 a0 a1 a2 a3 a4 a5 M
noncomputable def BX92_system_0 (g26 : Nat → Int32 → Int32 → Int32 → Int32 → Nat → FM → Option (Int32 × FM)) (g27 : Nat → Int32 → Int32 → Int32 → Int32 → Nat → Int32 → FM → Option (Int32 × FM)) (a0 : Nat) (a1 : Int32) (a2 : Int32) (a3 : Int32) (a4 : Int32) (M : FM) : Option (Int32 × FM) :=
  fi (fm_is M 92 92 a0 = true) (
  let x1 : Nat := (M.2.2 305 a0 0)
  fi (fm_is M 910 990 x1 = true ∧ fm_in M x1 a1 = true) (
  let x2 : Nat := (M.2.2 3 x1 a1.toNatClampNeg)
  fi (a2 < (Int32.ofInt 288)) (
    g26 a0 a1 a2 a3 a4 x2 M) (
    fi ((Int32.ofInt 320) ≤ a2) (
      g26 a0 a1 a2 a3 a4 x2 M) (
      g27 a0 a1 a2 a3 a4 x2 (Int32.ofInt 1) M))) none) none
noncomputable def FX92_system_0 (a0 : Nat) (a1 : Int32) (a2 : Int32) (a3 : Int32) (a4 : Int32) (M : FM) : Option (Int32 × FM) := BX92_system_0 FX92_system_26 FX92_system_27 a0 a1 a2 a3 a4 M
noncomputable def FX92_system (a0 : Nat) (a1 : Int32) (a2 : Int32) (a3 : Int32) (a4 : Int32) (M : FM) : Option (Int32 × FM) := FX92_system_0 a0 a1 a2 a3 a4 M
/-! BoardMachineModel$Desk.isIllegal(IZ)Z -/
noncomputable def BX100_isIllegal_177 (s0 : Int32) (M : FM) : Option (Int32 × FM) :=
  fi (s0 = 0 ∨ s0 = 1) (some (s0, M)) none
noncomputable def FX100_isIllegal_177 (s0 : Int32) (M : FM) : Option (Int32 × FM) := BX100_isIllegal_177 s0 M
noncomputable def BX100_isIllegal_172 (g177 : Int32 → FM → Option (Int32 × FM)) (M : FM) : Option (Int32 × FM) :=
  g177 (Int32.ofInt 1) M
noncomputable def FX100_isIllegal_172 (M : FM) : Option (Int32 × FM) := BX100_isIllegal_172 FX100_isIllegal_177 M
noncomputable def BX100_isIllegal_163 (g172 : FM → Option (Int32 × FM)) (g177 : Int32 → FM → Option (Int32 × FM)) (a3 : Int32) (a4 : Int32) (M : FM) : Option (Int32 × FM) :=
  fi (a3 = 0) (
    fi (a4 = 0) (
      g177 (Int32.ofInt 0) M) (
      g172 M)) (
    g172 M)
noncomputable def FX100_isIllegal_163 (a3 : Int32) (a4 : Int32) (M : FM) : Option (Int32 × FM) := BX100_isIllegal_163 FX100_isIllegal_172 FX100_isIllegal_177 a3 a4 M
noncomputable def BX100_isIllegal_161 (g163 : Int32 → Int32 → FM → Option (Int32 × FM)) (a3 : Int32) (s0 : Int32) (M : FM) : Option (Int32 × FM) :=
  g163 a3 s0 M
noncomputable def FX100_isIllegal_161 (a3 : Int32) (s0 : Int32) (M : FM) : Option (Int32 × FM) := BX100_isIllegal_161 FX100_isIllegal_163 a3 s0 M
noncomputable def BX100_isIllegal_160 (g161 : Int32 → Int32 → FM → Option (Int32 × FM)) (a3 : Int32) (M : FM) : Option (Int32 × FM) :=
  g161 a3 (Int32.ofInt 0) M
noncomputable def FX100_isIllegal_160 (a3 : Int32) (M : FM) : Option (Int32 × FM) := BX100_isIllegal_160 FX100_isIllegal_161 a3 M
noncomputable def BX100_isIllegal_156 (g161 : Int32 → Int32 → FM → Option (Int32 × FM)) (a3 : Int32) (M : FM) : Option (Int32 × FM) :=
  g161 a3 (Int32.ofInt 1) M
noncomputable def FX100_isIllegal_156 (a3 : Int32) (M : FM) : Option (Int32 × FM) := BX100_isIllegal_156 FX100_isIllegal_161 a3 M
noncomputable def BX100_isIllegal_133 (g156 : Int32 → FM → Option (Int32 × FM)) (g160 : Int32 → FM → Option (Int32 × FM)) (a0 : Nat) (a3 : Int32) (a5 : Int64) (M : FM) : Option (Int32 × FM) :=
  fi (fm_is M 95 95 a0 = true) (
  fi ((M.1 360 a0 0) = 0) (
    fi (fm_is M 95 95 a0 = true) (
    let x1 : Nat := (M.2.2 361 a0 0)
    fi (fm_is M 902 902 x1 = true ∧ fm_in M x1 (Int32.ofInt 262) = true) (
    fi ((lg_cmp ((M.2.1 3 x1 (Int32.ofInt 262).toNatClampNeg) &&& a5) (Int64.ofInt 0)) = 0) (
      g156 a3 M) (
      g160 a3 M)) none) none) (
    g160 a3 M)) none
noncomputable def FX100_isIllegal_133 (a0 : Nat) (a3 : Int32) (a5 : Int64) (M : FM) : Option (Int32 × FM) := BX100_isIllegal_133 FX100_isIllegal_156 FX100_isIllegal_160 a0 a3 a5 M
noncomputable def BX100_isIllegal_86 (f1 : Int32 → FM → Option (Int32 × FM)) (g133 : Nat → Int32 → Int64 → FM → Option (Int32 × FM)) (g156 : Int32 → FM → Option (Int32 × FM)) (g163 : Int32 → Int32 → FM → Option (Int32 × FM)) (a0 : Nat) (a1 : Int32) (a3 : Int32) (s0 : Int32) (M : FM) : Option (Int32 × FM) :=
  (f1 a1 M).bind fun r1 =>
  fi (r1.1 = 0) (
    g163 a3 s0 r1.2) (
    let x2 : Int64 := ((Int64.ofInt 1) <<< ((a1 - (Int32.ofInt 3072)).toInt64 &&& 63))
    fi (s0 = 0) (
      fi (fm_is r1.2 95 95 a0 = true) (
      fi ((Int32.ofInt 3) ≤ (r1.2.1 360 a0 0)) (
        g133 a0 a3 x2 r1.2) (
        fi (fm_is r1.2 95 95 a0 = true) (
        let x3 : Nat := (r1.2.2.2 361 a0 0)
        fi (fm_is r1.2 902 902 x3 = true ∧ fm_in r1.2 x3 (Int32.ofInt 774) = true) (
        fi ((lg_cmp ((r1.2.2.1 3 x3 (Int32.ofInt 774).toNatClampNeg) &&& x2) (Int64.ofInt 0)) = 0) (
          g156 a3 r1.2) (
          g133 a0 a3 x2 r1.2)) none) none)) none) (
      g156 a3 r1.2))
noncomputable def FX100_isIllegal_86 (a0 : Nat) (a1 : Int32) (a3 : Int32) (s0 : Int32) (M : FM) : Option (Int32 × FM) := BX100_isIllegal_86 FX100_isCount FX100_isIllegal_133 FX100_isIllegal_156 FX100_isIllegal_163 a0 a1 a3 s0 M
noncomputable def BX100_isIllegal_85 (g86 : Nat → Int32 → Int32 → Int32 → FM → Option (Int32 × FM)) (a0 : Nat) (a1 : Int32) (a3 : Int32) (M : FM) : Option (Int32 × FM) :=
  g86 a0 a1 a3 (Int32.ofInt 0) M
noncomputable def FX100_isIllegal_85 (a0 : Nat) (a1 : Int32) (a3 : Int32) (M : FM) : Option (Int32 × FM) := BX100_isIllegal_85 FX100_isIllegal_86 a0 a1 a3 M
noncomputable def BX100_isIllegal_81 (g86 : Nat → Int32 → Int32 → Int32 → FM → Option (Int32 × FM)) (a0 : Nat) (a1 : Int32) (a3 : Int32) (M : FM) : Option (Int32 × FM) :=
  g86 a0 a1 a3 (Int32.ofInt 1) M
noncomputable def FX100_isIllegal_81 (a0 : Nat) (a1 : Int32) (a3 : Int32) (M : FM) : Option (Int32 × FM) := BX100_isIllegal_81 FX100_isIllegal_86 a0 a1 a3 M
noncomputable def BX100_isIllegal_65 (f3 : Nat → FM → Option (Int32 × FM)) (g81 : Nat → Int32 → Int32 → FM → Option (Int32 × FM)) (g85 : Nat → Int32 → Int32 → FM → Option (Int32 × FM)) (a0 : Nat) (a1 : Int32) (a3 : Int32) (M : FM) : Option (Int32 × FM) :=
  fi (a1 ≤ 0) (
    g85 a0 a1 a3 M) (
    fi ((Int32.ofInt 4) ≤ a1) (
      g85 a0 a1 a3 M) (
      fi (fm_is M 95 95 a0 = true) (
      (f3 a0 M).bind fun r1 =>
      fi (r1.1 = 0) (
        g81 a0 a1 a3 r1.2) (
        g85 a0 a1 a3 r1.2)) none))
noncomputable def FX100_isIllegal_65 (a0 : Nat) (a1 : Int32) (a3 : Int32) (M : FM) : Option (Int32 × FM) := BX100_isIllegal_65 FX100_floating FX100_isIllegal_81 FX100_isIllegal_85 a0 a1 a3 M
noncomputable def BX100_isIllegal_39 (f2 : Nat → Int32 → FM → Option (Int32 × FM)) (g65 : Nat → Int32 → Int32 → FM → Option (Int32 × FM)) (g81 : Nat → Int32 → Int32 → FM → Option (Int32 × FM)) (a0 : Nat) (a1 : Int32) (s0 : Int32) (M : FM) : Option (Int32 × FM) :=
  fi (a1 = (Int32.ofInt 384)) (
    fi (fm_is M 95 95 a0 = true) (
    fi ((M.1 360 a0 0) = (Int32.ofInt 1)) (
      fi (fm_is M 95 95 a0 = true) (
      (f2 a0 (Int32.ofInt 20) M).bind fun r1 =>
      fi (r1.1 = (Int32.ofInt 1)) (
        g81 a0 a1 s0 r1.2) (
        g65 a0 a1 s0 r1.2)) none) (
      g65 a0 a1 s0 M)) none) (
    g65 a0 a1 s0 M)
noncomputable def FX100_isIllegal_39 (a0 : Nat) (a1 : Int32) (s0 : Int32) (M : FM) : Option (Int32 × FM) := BX100_isIllegal_39 FX100_status FX100_isIllegal_65 FX100_isIllegal_81 a0 a1 s0 M
noncomputable def BX100_isIllegal_38 (g39 : Nat → Int32 → Int32 → FM → Option (Int32 × FM)) (a0 : Nat) (a1 : Int32) (M : FM) : Option (Int32 × FM) :=
  g39 a0 a1 (Int32.ofInt 0) M
noncomputable def FX100_isIllegal_38 (a0 : Nat) (a1 : Int32) (M : FM) : Option (Int32 × FM) := BX100_isIllegal_38 FX100_isIllegal_39 a0 a1 M
noncomputable def BX100_isIllegal_34 (g39 : Nat → Int32 → Int32 → FM → Option (Int32 × FM)) (a0 : Nat) (a1 : Int32) (M : FM) : Option (Int32 × FM) :=
  g39 a0 a1 (Int32.ofInt 1) M
noncomputable def FX100_isIllegal_34 (a0 : Nat) (a1 : Int32) (M : FM) : Option (Int32 × FM) := BX100_isIllegal_34 FX100_isIllegal_39 a0 a1 M
noncomputable def BX100_isIllegal_0 (f0 : Int32 → FM → Option (Int32 × FM)) (g34 : Nat → Int32 → FM → Option (Int32 × FM)) (g38 : Nat → Int32 → FM → Option (Int32 × FM)) (a0 : Nat) (a1 : Int32) (a2 : Int32) (M : FM) : Option (Int32 × FM) :=
  (f0 a1 M).bind fun r1 =>
  fi (r1.1 = 0) (
    g34 a0 a1 r1.2) (
    fi (fm_is r1.2 95 95 a0 = true) (
    fi ((r1.2.1 360 a0 0) < ((a1 >>> ((Int32.ofInt 8) &&& 31)) &&& (Int32.ofInt 3))) (
      g34 a0 a1 r1.2) (
      fi (a2 = 0) (
        g38 a0 a1 r1.2) (
        fi (((a1 >>> ((Int32.ofInt 10) &&& 31)) &&& (Int32.ofInt 3)) = (Int32.ofInt 3)) (
          g34 a0 a1 r1.2) (
          g38 a0 a1 r1.2)))) none)
noncomputable def FX100_isIllegal_0 (a0 : Nat) (a1 : Int32) (a2 : Int32) (M : FM) : Option (Int32 × FM) := BX100_isIllegal_0 FX100_isThere FX100_isIllegal_34 FX100_isIllegal_38 a0 a1 a2 M
noncomputable def FX100_isIllegal (a0 : Nat) (a1 : Int32) (a2 : Int32) (M : FM) : Option (Int32 × FM) := FX100_isIllegal_0 a0 a1 a2 M
/-! BoardMachineModel$Desk.through(IJJ)V -/
noncomputable def BX100_through_0 (a0 : Nat) (a1 : Int32) (a2 : Int64) (a4 : Int64) (M : FM) : Option (FM) :=
  fi (fm_is M 95 95 a0 = true) (
  fi (fm_is M 95 95 a0 = true) (
  let x1 : Nat := (M.2.2 361 a0 0)
  fi (fm_is M 902 902 x1 = true ∧ fm_in M x1 a1 = true) (
  let x2 : Nat := (M.2.2 361 a0 0)
  fi (fm_is M 902 902 x2 = true ∧ fm_in M x2 a1 = true) (
  let M3 : FM := fm_sL M 3 x2 a1.toNatClampNeg (((M.2.1 3 x1 a1.toNatClampNeg) &&& (a2 ^^^ (Int64.ofInt (-1)))) ||| (a4 &&& a2))
  some M3) none) none) none) none
noncomputable def FX100_through_0 (a0 : Nat) (a1 : Int32) (a2 : Int64) (a4 : Int64) (M : FM) : Option (FM) := BX100_through_0 a0 a1 a2 a4 M
noncomputable def FX100_through (a0 : Nat) (a1 : Int32) (a2 : Int64) (a4 : Int64) (M : FM) : Option (FM) := FX100_through_0 a0 a1 a2 a4 M
/-! BoardMachineModel$Desk.writeStatus(JJ)V -/
noncomputable def BX100_writeStatus_43 (M : FM) : Option (FM) :=
  some M
noncomputable def FX100_writeStatus_43 (M : FM) : Option (FM) := BX100_writeStatus_43 M
noncomputable def BX100_writeStatus_0 (f0 : Nat → FM → Option (Int32 × FM)) (f1 : Nat → Int32 → Int64 → Int64 → FM → Option (FM)) (f2 : Nat → Int32 → Int32 → FM → Option (FM)) (g43 : FM → Option (FM)) (a0 : Nat) (a1 : Int64) (a3 : Int64) (M : FM) : Option (FM) :=
  fi (fm_is M 95 95 a0 = true) (
  (f0 a0 M).bind fun r1 =>
  fi (fm_is r1.2 95 95 a0 = true) (
  (f1 a0 (Int32.ofInt 768) a1 a3 r1.2).bind fun M2 =>
  fi (fm_is M2 95 95 a0 = true) (
  (f0 a0 M2).bind fun r3 =>
  fi (r3.1 = (Int32.ofInt 2)) (
    fi ((Int32.ofInt 2) = 0) none (
    fi (fm_is r3.2 95 95 a0 = true) (
    (f2 a0 (Int32.ofInt 11) (r1.1 - r1.1 / (Int32.ofInt 2) * (Int32.ofInt 2)) r3.2).bind fun M4 =>
    fi ((Int32.ofInt 2) = 0) none (
    fi (fm_is M4 95 95 a0 = true) (
    (f2 a0 (Int32.ofInt 12) (r1.1 / (Int32.ofInt 2)) M4).bind fun M5 =>
    g43 M5) none)) none)) (
    g43 r3.2)) none) none) none
noncomputable def FX100_writeStatus_0 (a0 : Nat) (a1 : Int64) (a3 : Int64) (M : FM) : Option (FM) := BX100_writeStatus_0 FX100_below FX100_through FX100_put FX100_writeStatus_43 a0 a1 a3 M
noncomputable def FX100_writeStatus (a0 : Nat) (a1 : Int64) (a3 : Int64) (M : FM) : Option (FM) := FX100_writeStatus_0 a0 a1 a3 M
/-! BoardMachineModel$Desk.write(IJ)V -/
noncomputable def BX100_write_359 (M : FM) : Option (FM) :=
  some M
noncomputable def FX100_write_359 (n : Nat) (M : FM) : Option (FM) := BX100_write_359 M
noncomputable def BX100_write_342 (f2 : Nat → Int32 → Int64 → Int64 → FM → Option (FM)) (g359 : FM → Option (FM)) (a2 : Int64) (s0 : Nat) (s1 : Int32) (s2 : Int64) (M : FM) : Option (FM) :=
  fi (fm_is M 95 95 s0 = true) (
  (f2 s0 s1 s2 a2 M).bind fun M1 =>
  g359 M1) none
noncomputable def FX100_write_342 (n : Nat) (a2 : Int64) (s0 : Nat) (s1 : Int32) (s2 : Int64) (M : FM) : Option (FM) := BX100_write_342 FX100_through (FX100_write_359 n ) a2 s0 s1 s2 M
noncomputable def BX100_write_335 (g342 : Int64 → Nat → Int32 → Int64 → FM → Option (FM)) (a2 : Int64) (s0 : Nat) (s1 : Int32) (M : FM) : Option (FM) :=
  g342 a2 s0 s1 (Int64.ofInt (-1)) M
noncomputable def FX100_write_335 (n : Nat) (a2 : Int64) (s0 : Nat) (s1 : Int32) (M : FM) : Option (FM) := BX100_write_335 (FX100_write_342 n ) a2 s0 s1 M
noncomputable def BX100_write_286 (f2 : Nat → Int32 → Int64 → Int64 → FM → Option (FM)) (g359 : FM → Option (FM)) (a0 : Nat) (a1 : Int32) (a2 : Int64) (M : FM) : Option (FM) :=
  fi (fm_is M 95 95 a0 = true) (
  (f2 a0 a1 (Int64.ofInt 7) a2 M).bind fun M1 =>
  g359 M1) none
noncomputable def FX100_write_286 (n : Nat) (a0 : Nat) (a1 : Int32) (a2 : Int64) (M : FM) : Option (FM) := BX100_write_286 FX100_through (FX100_write_359 n ) a0 a1 a2 M
noncomputable def BX100_write_274 (f2 : Nat → Int32 → Int64 → Int64 → FM → Option (FM)) (g359 : FM → Option (FM)) (a0 : Nat) (a1 : Int32) (a2 : Int64) (M : FM) : Option (FM) :=
  fi (fm_is M 95 95 a0 = true) (
  (f2 a0 a1 (Int64.ofInt (-2)) a2 M).bind fun M1 =>
  g359 M1) none
noncomputable def FX100_write_274 (n : Nat) (a0 : Nat) (a1 : Int32) (a2 : Int64) (M : FM) : Option (FM) := BX100_write_274 FX100_through (FX100_write_359 n ) a0 a1 a2 M
noncomputable def BX100_write_262 (f2 : Nat → Int32 → Int64 → Int64 → FM → Option (FM)) (g359 : FM → Option (FM)) (a0 : Nat) (a1 : Int32) (a2 : Int64) (M : FM) : Option (FM) :=
  fi (fm_is M 95 95 a0 = true) (
  (f2 a0 a1 (Int64.ofInt (-3)) a2 M).bind fun M1 =>
  g359 M1) none
noncomputable def FX100_write_262 (n : Nat) (a0 : Nat) (a1 : Int32) (a2 : Int64) (M : FM) : Option (FM) := BX100_write_262 FX100_through (FX100_write_359 n ) a0 a1 a2 M
noncomputable def BX100_write_0 (f0 : Int32 → FM → Option (Int64 × FM)) (f1 : Nat → Int64 → Int64 → FM → Option (FM)) (f2 : Nat → Int32 → Int64 → Int64 → FM → Option (FM)) (g262 : Nat → Int32 → Int64 → FM → Option (FM)) (g274 : Nat → Int32 → Int64 → FM → Option (FM)) (g286 : Nat → Int32 → Int64 → FM → Option (FM)) (g335 : Int64 → Nat → Int32 → FM → Option (FM)) (g342 : Int64 → Nat → Int32 → Int64 → FM → Option (FM)) (g359 : FM → Option (FM)) (a0 : Nat) (a1 : Int32) (a2 : Int64) (M : FM) : Option (FM) :=
  fi (a1 = (Int32.ofInt 256)) (
    (f0 (Int32.ofInt 0) M).bind fun r1 =>
    fi (fm_is r1.2 95 95 a0 = true) (
    (f1 a0 r1.1 a2 r1.2).bind fun M2 =>
    g359 M2) none) (
  fi (a1 = (Int32.ofInt 260)) (
    fi (fm_is M 95 95 a0 = true) (
    let x3 : Nat := (M.2.2 361 a0 0)
    fi (fm_is M 902 902 x3 = true ∧ fm_in M x3 (Int32.ofInt 771) = true) (
    fi (fm_is M 95 95 a0 = true) (
    (f2 a0 (Int32.ofInt 772) (M.2.1 3 x3 (Int32.ofInt 771).toNatClampNeg) a2 M).bind fun M4 =>
    g359 M4) none) none) none) (
  fi (a1 = (Int32.ofInt 261)) (
    g262 a0 a1 a2 M) (
  fi (a1 = (Int32.ofInt 262)) (
    g286 a0 a1 a2 M) (
  fi (a1 = (Int32.ofInt 321)) (
    g274 a0 a1 a2 M) (
  fi (a1 = (Int32.ofInt 324)) (
    fi (fm_is M 95 95 a0 = true) (
    let x5 : Nat := (M.2.2 361 a0 0)
    fi (fm_is M 902 902 x5 = true ∧ fm_in M x5 (Int32.ofInt 771) = true) (
    fi (fm_is M 95 95 a0 = true) (
    (f2 a0 (Int32.ofInt 836) ((M.2.1 3 x5 (Int32.ofInt 771).toNatClampNeg) &&& (Int64.ofInt 2)) a2 M).bind fun M6 =>
    g359 M6) none) none) none) (
  fi (a1 = (Int32.ofInt 384)) (
    let x7 : Int64 := ((a2 >>> ((Int32.ofInt 60).toInt64 &&& 63)) &&& (Int64.ofInt 15))
    fi ((lg_cmp x7 (Int64.ofInt 0)) = 0) (
      g335 a2 a0 a1 M) (
      fi ((lg_cmp x7 (Int64.ofInt 8)) = 0) (
        g335 a2 a0 a1 M) (
        fi ((lg_cmp x7 (Int64.ofInt 9)) = 0) (
          g335 a2 a0 a1 M) (
          g342 a2 a0 a1 (Int64.ofInt 0) M)))) (
  fi (a1 = (Int32.ofInt 768)) (
    (f0 (Int32.ofInt 1) M).bind fun r8 =>
    fi (fm_is r8.2 95 95 a0 = true) (
    (f1 a0 r8.1 a2 r8.2).bind fun M9 =>
    g359 M9) none) (
  fi (a1 = (Int32.ofInt 769)) (
    g359 M) (
  fi (a1 = (Int32.ofInt 770)) (
    fi (fm_is M 95 95 a0 = true) (
    (f2 a0 (Int32.ofInt 770) (Int64.ofInt 46079) a2 M).bind fun M10 =>
    g359 M10) none) (
  fi (a1 = (Int32.ofInt 771)) (
    fi (fm_is M 95 95 a0 = true) (
    (f2 a0 (Int32.ofInt 771) (Int64.ofInt 546) a2 M).bind fun M11 =>
    g359 M11) none) (
  fi (a1 = (Int32.ofInt 772)) (
    fi (fm_is M 95 95 a0 = true) (
    (f2 a0 (Int32.ofInt 772) (Int64.ofInt 2730) a2 M).bind fun M12 =>
    g359 M12) none) (
  fi (a1 = (Int32.ofInt 773)) (
    g262 a0 a1 a2 M) (
  fi (a1 = (Int32.ofInt 774)) (
    g286 a0 a1 a2 M) (
  fi (a1 = (Int32.ofInt 833)) (
    g274 a0 a1 a2 M) (
  fi (a1 = (Int32.ofInt 836)) (
    fi (fm_is M 95 95 a0 = true) (
    (f2 a0 (Int32.ofInt 836) (Int64.ofInt 546) a2 M).bind fun M13 =>
    g359 M13) none) (
  fi (fm_is M 95 95 a0 = true) (
    let x14 : Nat := (M.2.2 361 a0 0)
    fi (fm_is M 902 902 x14 = true ∧ fm_in M x14 a1 = true) (
    let M15 : FM := fm_sL M 3 x14 a1.toNatClampNeg a2
    g359 M15) none) none))))))))))))))))
noncomputable def FX100_write_0 (n : Nat) (a0 : Nat) (a1 : Int32) (a2 : Int64) (M : FM) : Option (FM) := BX100_write_0 (FX100_statusSeen n) FX100_writeStatus FX100_through (FX100_write_262 n ) (FX100_write_274 n ) (FX100_write_286 n ) (FX100_write_335 n ) (FX100_write_342 n ) (FX100_write_359 n ) a0 a1 a2 M
noncomputable def FX100_write (n : Nat) (a0 : Nat) (a1 : Int32) (a2 : Int64) (M : FM) : Option (FM) := FX100_write_0 n a0 a1 a2 M
/-! BoardMachineModel$Desk.access(IIZJ)I -/
noncomputable def BX100_access_165 (M : FM) : Option (Int32 × FM) :=
  some ((Int32.ofInt 0), M)
noncomputable def FX100_access_165 (n : Nat) (M : FM) : Option (Int32 × FM) := BX100_access_165 M
noncomputable def BX100_access_162 (f5 : Nat → Int32 → Int64 → FM → Option (FM)) (g165 : FM → Option (Int32 × FM)) (s0 : Nat) (s1 : Int32) (s2 : Int64) (M : FM) : Option (Int32 × FM) :=
  fi (fm_is M 95 95 s0 = true) (
  (f5 s0 s1 s2 M).bind fun M1 =>
  g165 M1) none
noncomputable def FX100_access_162 (n : Nat) (s0 : Nat) (s1 : Int32) (s2 : Int64) (M : FM) : Option (Int32 × FM) := BX100_access_162 (FX100_write n) (FX100_access_165 n ) s0 s1 s2 M
noncomputable def BX100_access_122 (g162 : Nat → Int32 → Int64 → FM → Option (Int32 × FM)) (g165 : FM → Option (Int32 × FM)) (a0 : Nat) (a1 : Int32) (a2 : Int32) (a3 : Int32) (a4 : Int64) (s0 : Int64) (M : FM) : Option (Int32 × FM) :=
  fi (a3 = 0) (
    g165 M) (
    fi (a2 = (Int32.ofInt 1)) (
      g162 a0 a1 a4 M) (
      fi (a2 = (Int32.ofInt 2)) (
        g162 a0 a1 (s0 ||| a4) M) (
        g162 a0 a1 (s0 &&& (a4 ^^^ (Int64.ofInt (-1)))) M)))
noncomputable def FX100_access_122 (n : Nat) (a0 : Nat) (a1 : Int32) (a2 : Int32) (a3 : Int32) (a4 : Int64) (s0 : Int64) (M : FM) : Option (Int32 × FM) := BX100_access_122 (FX100_access_162 n ) (FX100_access_165 n ) a0 a1 a2 a3 a4 s0 M
noncomputable def BX100_access_80 (M : FM) : Option (Int32 × FM) :=
  some ((Int32.ofInt 1), M)
noncomputable def FX100_access_80 (n : Nat) (M : FM) : Option (Int32 × FM) := BX100_access_80 M
noncomputable def BX100_access_27 (f0 : Nat → Int32 → Int32 → FM → Option (Int32 × FM)) (f1 : Int32 → FM → Option (Int32 × FM)) (f2 : Nat → Int32 → FM → Option (Int64 × FM)) (f3 : Nat → Int32 → Int32 → FM → Option (FM)) (f4 : Nat → FM → Option (Int64 × FM)) (g80 : FM → Option (Int32 × FM)) (g122 : Nat → Int32 → Int32 → Int32 → Int64 → Int64 → FM → Option (Int32 × FM)) (a0 : Nat) (a1 : Int32) (a2 : Int32) (a3 : Int32) (a4 : Int64) (s0 : Nat) (s1 : Int32) (M : FM) : Option (Int32 × FM) :=
  fi (fm_is M 95 95 s0 = true) (
  let M1 : FM := fm_sI M 358 s0 0 s1
  fi (fm_is M1 95 95 a0 = true) (
  fi ((M1.1 358 a0 0) ≤ 0) (
    fi (fm_is M1 95 95 a0 = true) (
    (f0 a0 a1 a3 M1).bind fun r2 =>
    fi (r2.1 = 0) (
      (f1 a1 r2.2).bind fun r3 =>
      fi (r3.1 = 0) (
        fi (fm_is r3.2 95 95 a0 = true) (
        (f2 a0 a1 r3.2).bind fun r4 =>
        fi (fm_is r4.2 95 95 a0 = true) (
        let M5 : FM := fm_sL r4.2 364 a0 0 r4.1
        fi (a1 = (Int32.ofInt 836)) (
          fi (fm_is M5 95 95 a0 = true) (
          let x6 : Nat := (M5.2.2 361 a0 0)
          fi (fm_is M5 902 902 x6 = true ∧ fm_in M5 x6 (Int32.ofInt 836) = true) (
          fi (fm_is M5 95 95 a0 = true) (
          (f4 a0 M5).bind fun r7 =>
          g122 a0 a1 a2 a3 a4 ((M5.2.1 3 x6 (Int32.ofInt 836).toNatClampNeg) ||| (r7.1 &&& (Int64.ofInt (-513)))) r7.2) none) none) none) (
          fi (fm_is M5 95 95 a0 = true) (
          g122 a0 a1 a2 a3 a4 (M5.2.1 364 a0 0) M5) none)) none) none) (
        fi (a3 = 0) (
          g80 r3.2) (
          fi ((Int32.ofInt 4) ≤ a1) (
            g80 r3.2) (
            fi (fm_is r3.2 95 95 a0 = true) (
            (f3 a0 (Int32.ofInt 13) (Int32.ofInt 1) r3.2).bind fun M8 =>
            fi (fm_is M8 95 95 a0 = true) (
            (f3 a0 (Int32.ofInt 14) (Int32.ofInt 1) M8).bind fun M9 =>
            g80 M9) none) none)))) (
      some ((Int32.ofInt 2), r2.2))) none) (
    some ((Int32.ofInt 0), M1))) none) none
noncomputable def FX100_access_27 (n : Nat) (a0 : Nat) (a1 : Int32) (a2 : Int32) (a3 : Int32) (a4 : Int64) (s0 : Nat) (s1 : Int32) (M : FM) : Option (Int32 × FM) := BX100_access_27 FX100_isIllegal FX100_isElsewhere (FX100_shown n) FX100_put (FX100_lineBits n) (FX100_access_80 n ) (FX100_access_122 n ) a0 a1 a2 a3 a4 s0 s1 M
noncomputable def BX100_access_22 (g27 : Nat → Int32 → Int32 → Int32 → Int64 → Nat → Int32 → FM → Option (Int32 × FM)) (a0 : Nat) (a1 : Int32) (a2 : Int32) (a3 : Int32) (a4 : Int64) (s0 : Nat) (M : FM) : Option (Int32 × FM) :=
  g27 a0 a1 a2 a3 a4 s0 (Int32.ofInt 1) M
noncomputable def FX100_access_22 (n : Nat) (a0 : Nat) (a1 : Int32) (a2 : Int32) (a3 : Int32) (a4 : Int64) (s0 : Nat) (M : FM) : Option (Int32 × FM) := BX100_access_22 (FX100_access_27 n ) a0 a1 a2 a3 a4 s0 M
noncomputable def BX100_access_0 (g22 : Nat → Int32 → Int32 → Int32 → Int64 → Nat → FM → Option (Int32 × FM)) (g27 : Nat → Int32 → Int32 → Int32 → Int64 → Nat → Int32 → FM → Option (Int32 × FM)) (a0 : Nat) (a1 : Int32) (a2 : Int32) (a3 : Int32) (a4 : Int64) (M : FM) : Option (Int32 × FM) :=
  fi (a1 < 0) (
    g22 a0 a1 a2 a3 a4 a0 M) (
    fi ((Int32.ofInt 4095) < a1) (
      g22 a0 a1 a2 a3 a4 a0 M) (
      fi (a2 < (Int32.ofInt 1)) (
        g22 a0 a1 a2 a3 a4 a0 M) (
        fi (a2 ≤ (Int32.ofInt 3)) (
          g27 a0 a1 a2 a3 a4 a0 (Int32.ofInt 0) M) (
          g22 a0 a1 a2 a3 a4 a0 M))))
noncomputable def FX100_access_0 (n : Nat) (a0 : Nat) (a1 : Int32) (a2 : Int32) (a3 : Int32) (a4 : Int64) (M : FM) : Option (Int32 × FM) := BX100_access_0 (FX100_access_22 n ) (FX100_access_27 n ) a0 a1 a2 a3 a4 M
noncomputable def FX100_access (n : Nat) (a0 : Nat) (a1 : Int32) (a2 : Int32) (a3 : Int32) (a4 : Int64) (M : FM) : Option (Int32 × FM) := FX100_access_0 n a0 a1 a2 a3 a4 M
/-! BoardMachineModel$Floats.flags()I -/
noncomputable def BX99_flags_0 (a0 : Nat) (M : FM) : Option (Int32 × FM) :=
  fi (fm_is M 96 96 a0 = true) (
  let M1 : FM := fm_sI M 366 a0 0 (Int32.ofInt 0)
  fi (fm_is M1 96 96 a0 = true) (
  some ((M1.1 368 a0 0), M1)) none) none
noncomputable def FX99_flags_0 (a0 : Nat) (M : FM) : Option (Int32 × FM) := BX99_flags_0 a0 M
noncomputable def FX99_flags (a0 : Nat) (M : FM) : Option (Int32 × FM) := FX99_flags_0 a0 M
/-! BoardMachineModel$Floats.mode()I -/
noncomputable def BX99_mode_0 (a0 : Nat) (M : FM) : Option (Int32 × FM) :=
  fi (fm_is M 96 96 a0 = true) (
  let M1 : FM := fm_sI M 366 a0 0 (Int32.ofInt 0)
  fi (fm_is M1 96 96 a0 = true) (
  some ((M1.1 369 a0 0), M1)) none) none
noncomputable def FX99_mode_0 (a0 : Nat) (M : FM) : Option (Int32 × FM) := BX99_mode_0 a0 M
noncomputable def FX99_mode (a0 : Nat) (M : FM) : Option (Int32 × FM) := FX99_mode_0 a0 M
/-! BoardMachineModel$Walk.configs()J -/
noncomputable def BX101_configs_10 (k10 : Nat → Int64 → Int32 → FM → Option (Int64 × FM)) (a0 : Nat) (a1 : Int64) (a3 : Int32) (M : FM) : Option (Int64 × FM) :=
  fi (a3 < 0) (
    some (a1, M)) (
    fi (fm_is M 101 101 a0 = true) (
    let x1 : Nat := (M.2.2 427 a0 0)
    fi (fm_is M 901 901 x1 = true ∧ fm_in M x1 a3 = true) (
    let x2 : Int64 := (((Int64.ofInt 256) * a1) + (M.1 3 x1 a3.toNatClampNeg).toInt64)
    let x3 : Int32 := a3 + (Int32.ofInt (-1))
    k10 a0 x2 x3 M) none) none)
noncomputable def FX101_configs_10 (n : Nat) (k10 : Nat → Int64 → Int32 → FM → Option (Int64 × FM)) (a0 : Nat) (a1 : Int64) (a3 : Int32) (M : FM) : Option (Int64 × FM) := BX101_configs_10 k10 a0 a1 a3 M
noncomputable def BX101_configs_0 (k10 : Nat → Int64 → Int32 → FM → Option (Int64 × FM)) (a0 : Nat) (M : FM) : Option (Int64 × FM) :=
  fi (fm_is M 101 101 a0 = true) (
  let M1 : FM := fm_sI M 422 a0 0 (Int32.ofInt 0)
  k10 a0 (Int64.ofInt 0) (Int32.ofInt 7) M1) none
noncomputable def FX101_configs_0 (n : Nat) (k10 : Nat → Int64 → Int32 → FM → Option (Int64 × FM)) (a0 : Nat) (M : FM) : Option (Int64 × FM) := BX101_configs_0 k10 a0 M
noncomputable def FX101_configs_L10 (n : Nat) : Nat → Nat → Int64 → Int32 → FM → Option (Int64 × FM)
  | 0 => fun _ _ _ _ => none
  | j + 1 => FX101_configs_10 n (FX101_configs_L10 n j)
noncomputable def FX101_configs (n : Nat) (a0 : Nat) (M : FM) : Option (Int64 × FM) := FX101_configs_0 n (FX101_configs_L10 n n) a0 M
/-! BoardMachineModel$Walk.number(I)J -/
noncomputable def BX101_number_36 (s0 : Int64) (M : FM) : Option (Int64 × FM) :=
  some (s0, M)
noncomputable def FX101_number_36 (s0 : Int64) (M : FM) : Option (Int64 × FM) := BX101_number_36 s0 M
noncomputable def BX101_number_16 (g36 : Int64 → FM → Option (Int64 × FM)) (a0 : Nat) (a1 : Int32) (s0 : Nat) (s1 : Int32) (M : FM) : Option (Int64 × FM) :=
  fi (fm_is M 101 101 s0 = true) (
  let M1 : FM := fm_sI M 422 s0 0 s1
  fi (fm_is M1 101 101 a0 = true) (
  fi ((M1.1 422 a0 0) ≤ 0) (
    fi (fm_is M1 101 101 a0 = true) (
    let x2 : Nat := (M1.2.2 428 a0 0)
    fi (fm_is M1 902 902 x2 = true ∧ fm_in M1 x2 a1 = true) (
    g36 (M1.2.1 3 x2 a1.toNatClampNeg) M1) none) none) (
    g36 (Int64.ofInt 0) M1)) none) none
noncomputable def FX101_number_16 (a0 : Nat) (a1 : Int32) (s0 : Nat) (s1 : Int32) (M : FM) : Option (Int64 × FM) := BX101_number_16 FX101_number_36 a0 a1 s0 s1 M
noncomputable def BX101_number_11 (g16 : Nat → Int32 → Nat → Int32 → FM → Option (Int64 × FM)) (a0 : Nat) (a1 : Int32) (s0 : Nat) (M : FM) : Option (Int64 × FM) :=
  g16 a0 a1 s0 (Int32.ofInt 1) M
noncomputable def FX101_number_11 (a0 : Nat) (a1 : Int32) (s0 : Nat) (M : FM) : Option (Int64 × FM) := BX101_number_11 FX101_number_16 a0 a1 s0 M
noncomputable def BX101_number_0 (g11 : Nat → Int32 → Nat → FM → Option (Int64 × FM)) (g16 : Nat → Int32 → Nat → Int32 → FM → Option (Int64 × FM)) (a0 : Nat) (a1 : Int32) (M : FM) : Option (Int64 × FM) :=
  fi (a1 < 0) (
    g11 a0 a1 a0 M) (
    fi (a1 ≤ (Int32.ofInt 7)) (
      g16 a0 a1 a0 (Int32.ofInt 0) M) (
      g11 a0 a1 a0 M))
noncomputable def FX101_number_0 (a0 : Nat) (a1 : Int32) (M : FM) : Option (Int64 × FM) := BX101_number_0 FX101_number_11 FX101_number_16 a0 a1 M
noncomputable def FX101_number (a0 : Nat) (a1 : Int32) (M : FM) : Option (Int64 × FM) := FX101_number_0 a0 a1 M
/-! BoardMachineModel.elsewhere(II)J -/
noncomputable def BX92_elsewhere_132 (s0 : Int64) (M : FM) : Option (Int64 × FM) :=
  some (s0, M)
noncomputable def FX92_elsewhere_132 (n : Nat) (s0 : Int64) (M : FM) : Option (Int64 × FM) := BX92_elsewhere_132 s0 M
noncomputable def BX92_elsewhere_131 (g132 : Int64 → FM → Option (Int64 × FM)) (M : FM) : Option (Int64 × FM) :=
  g132 (Int64.ofInt 0) M
noncomputable def FX92_elsewhere_131 (n : Nat) (M : FM) : Option (Int64 × FM) := BX92_elsewhere_131 (FX92_elsewhere_132 n ) M
noncomputable def BX92_elsewhere_0 (f0 : Nat → FM → Option (Int32 × FM)) (f1 : Nat → FM → Option (Int32 × FM)) (f2 : Nat → FM → Option (Int64 × FM)) (f3 : Nat → Int32 → FM → Option (Int64 × FM)) (g131 : FM → Option (Int64 × FM)) (g132 : Int64 → FM → Option (Int64 × FM)) (a0 : Nat) (a1 : Int32) (a2 : Int32) (M : FM) : Option (Int64 × FM) :=
  fi (a2 = (Int32.ofInt 1)) (
    fi (fm_is M 92 92 a0 = true) (
    let x1 : Nat := (M.2.2 304 a0 0)
    fi (fm_is M 910 990 x1 = true ∧ fm_in M x1 a1 = true) (
    let x2 : Nat := (M.2.2 3 x1 a1.toNatClampNeg)
    fi (fm_is M 96 96 x2 = true) (
    (f0 x2 M).bind fun r3 =>
    some (r3.1.toInt64, r3.2)) none) none) none) (
  fi (a2 = (Int32.ofInt 2)) (
    fi (fm_is M 92 92 a0 = true) (
    let x4 : Nat := (M.2.2 304 a0 0)
    fi (fm_is M 910 990 x4 = true ∧ fm_in M x4 a1 = true) (
    let x5 : Nat := (M.2.2 3 x4 a1.toNatClampNeg)
    fi (fm_is M 96 96 x5 = true) (
    (f1 x5 M).bind fun r6 =>
    some (r6.1.toInt64, r6.2)) none) none) none) (
  fi (a2 = (Int32.ofInt 3)) (
    fi (fm_is M 92 92 a0 = true) (
    let x7 : Nat := (M.2.2 304 a0 0)
    fi (fm_is M 910 990 x7 = true ∧ fm_in M x7 a1 = true) (
    let x8 : Nat := (M.2.2 3 x7 a1.toNatClampNeg)
    fi (fm_is M 96 96 x8 = true) (
    (f0 x8 M).bind fun r9 =>
    fi (fm_is r9.2 92 92 a0 = true) (
    let x10 : Nat := (r9.2.2.2 304 a0 0)
    fi (fm_is r9.2 910 990 x10 = true ∧ fm_in r9.2 x10 a1 = true) (
    let x11 : Nat := (r9.2.2.2 3 x10 a1.toNatClampNeg)
    fi (fm_is r9.2 96 96 x11 = true) (
    (f1 x11 r9.2).bind fun r12 =>
    some ((r9.1 + ((Int32.ofInt 32) * r12.1)).toInt64, r12.2)) none) none) none) none) none) none) (
  fi (a2 = (Int32.ofInt 928)) (
    fi (fm_is M 92 92 a0 = true) (
    let x13 : Nat := (M.2.2 306 a0 0)
    fi (fm_is M 910 990 x13 = true ∧ fm_in M x13 a1 = true) (
    let x14 : Nat := (M.2.2 3 x13 a1.toNatClampNeg)
    fi (fm_is M 101 101 x14 = true) (
    (f2 x14 M).bind fun r15 =>
    some (r15.1, r15.2)) none) none) none) (
  fi (a2 < (Int32.ofInt 944)) (
      g131 M) (
      fi ((Int32.ofInt 952) ≤ a2) (
        g131 M) (
        fi (fm_is M 92 92 a0 = true) (
        let x16 : Nat := (M.2.2 306 a0 0)
        fi (fm_is M 910 990 x16 = true ∧ fm_in M x16 a1 = true) (
        let x17 : Nat := (M.2.2 3 x16 a1.toNatClampNeg)
        fi (fm_is M 101 101 x17 = true) (
        (f3 x17 (a2 - (Int32.ofInt 944)) M).bind fun r18 =>
        g132 r18.1 r18.2) none) none) none))))))
noncomputable def FX92_elsewhere_0 (n : Nat) (a0 : Nat) (a1 : Int32) (a2 : Int32) (M : FM) : Option (Int64 × FM) := BX92_elsewhere_0 FX99_flags FX99_mode (FX101_configs n) FX101_number (FX92_elsewhere_131 n ) (FX92_elsewhere_132 n ) a0 a1 a2 M
noncomputable def FX92_elsewhere (n : Nat) (a0 : Nat) (a1 : Int32) (a2 : Int32) (M : FM) : Option (Int64 × FM) := FX92_elsewhere_0 n a0 a1 a2 M
/-! BoardMachineModel$Desk.had()J -/
noncomputable def BX100_had_0 (a0 : Nat) (M : FM) : Option (Int64 × FM) :=
  fi (fm_is M 95 95 a0 = true) (
  let M1 : FM := fm_sI M 358 a0 0 (Int32.ofInt 0)
  fi (fm_is M1 95 95 a0 = true) (
  some ((M1.2.1 364 a0 0), M1)) none) none
noncomputable def FX100_had_0 (a0 : Nat) (M : FM) : Option (Int64 × FM) := BX100_had_0 a0 M
noncomputable def FX100_had (a0 : Nat) (M : FM) : Option (Int64 × FM) := FX100_had_0 a0 M
/-! BoardMachineModel$Floats.putFlags(I)V -/
noncomputable def BX99_putFlags_0 (a0 : Nat) (a1 : Int32) (M : FM) : Option (FM) :=
  fi (fm_is M 96 96 a0 = true) (
  let M1 : FM := fm_sI M 366 a0 0 (Int32.ofInt 0)
  fi (fm_is M1 96 96 a0 = true) (
  let M2 : FM := fm_sI M1 368 a0 0 (a1 &&& (Int32.ofInt 31))
  fi (fm_is M2 96 96 a0 = true) (
  fi ((Int32.ofInt 1) = 0 ∨ (Int32.ofInt 1) = 1) (
  let M3 : FM := fm_sI M2 371 a0 0 (Int32.ofInt 1)
  some M3) none) none) none) none
noncomputable def FX99_putFlags_0 (a0 : Nat) (a1 : Int32) (M : FM) : Option (FM) := BX99_putFlags_0 a0 a1 M
noncomputable def FX99_putFlags (a0 : Nat) (a1 : Int32) (M : FM) : Option (FM) := FX99_putFlags_0 a0 a1 M
/-! BoardMachineModel$Walk.setConfigs(J)V -/
noncomputable def BX101_setConfigs_71 (k7 : Nat → Int64 → Int32 → FM → Option (FM)) (a0 : Nat) (a1 : Int64) (a3 : Int32) (s0 : Nat) (s1 : Int32) (s2 : Int32) (M : FM) : Option (FM) :=
  fi (fm_is M 901 901 s0 = true ∧ fm_in M s0 s1 = true) (
  let M1 : FM := fm_sI M 3 s0 s1.toNatClampNeg s2
  let x2 : Int32 := a3 + (Int32.ofInt 1)
  k7 a0 a1 x2 M1) none
noncomputable def FX101_setConfigs_71 (n : Nat) (k7 : Nat → Int64 → Int32 → FM → Option (FM)) (a0 : Nat) (a1 : Int64) (a3 : Int32) (s0 : Nat) (s1 : Int32) (s2 : Int32) (M : FM) : Option (FM) := BX101_setConfigs_71 k7 a0 a1 a3 s0 s1 s2 M
noncomputable def BX101_setConfigs_43 (f0 : Nat → Int32 → Int32 → FM → Option (Int32 × FM)) (g71 : Nat → Int64 → Int32 → Nat → Int32 → Int32 → FM → Option (FM)) (a0 : Nat) (a1 : Int64) (a3 : Int32) (s0 : Int32) (M : FM) : Option (FM) :=
  fi (fm_is M 101 101 a0 = true) (
  fi (fm_is M 101 101 a0 = true) (
  (f0 a0 a3 (Int32.ofInt 7) M).bind fun r1 =>
  fi (r1.1 = 0) (
    g71 a0 a1 a3 (M.2.2 427 a0 0) a3 s0 r1.2) (
    fi (fm_is r1.2 101 101 a0 = true) (
    let x2 : Nat := (r1.2.2.2 427 a0 0)
    fi (fm_is r1.2 901 901 x2 = true ∧ fm_in r1.2 x2 a3 = true) (
    g71 a0 a1 a3 (M.2.2 427 a0 0) a3 (r1.2.1 3 x2 a3.toNatClampNeg) r1.2) none) none)) none) none
noncomputable def FX101_setConfigs_43 (n : Nat) (k7 : Nat → Int64 → Int32 → FM → Option (FM)) (a0 : Nat) (a1 : Int64) (a3 : Int32) (s0 : Int32) (M : FM) : Option (FM) := BX101_setConfigs_43 FX101_has (FX101_setConfigs_71 n k7) a0 a1 a3 s0 M
noncomputable def BX101_setConfigs_7 (g43 : Nat → Int64 → Int32 → Int32 → FM → Option (FM)) (a0 : Nat) (a1 : Int64) (a3 : Int32) (M : FM) : Option (FM) :=
  fi ((Int32.ofInt 8) ≤ a3) (
    some M) (
    let x1 : Int32 := (((a1.toUInt64 >>> (((Int32.ofInt 8) * a3).toInt64.toUInt64 &&& Int64.toUInt64 63)).toInt64).toInt32 &&& (Int32.ofInt 159))
    fi ((x1 &&& (Int32.ofInt 3)) = (Int32.ofInt 2)) (
      g43 a0 a1 a3 (x1 - (Int32.ofInt 2)) M) (
      g43 a0 a1 a3 x1 M))
noncomputable def FX101_setConfigs_7 (n : Nat) (k7 : Nat → Int64 → Int32 → FM → Option (FM)) (a0 : Nat) (a1 : Int64) (a3 : Int32) (M : FM) : Option (FM) := BX101_setConfigs_7 (FX101_setConfigs_43 n k7) a0 a1 a3 M
noncomputable def BX101_setConfigs_0 (k7 : Nat → Int64 → Int32 → FM → Option (FM)) (a0 : Nat) (a1 : Int64) (M : FM) : Option (FM) :=
  fi (fm_is M 101 101 a0 = true) (
  let M1 : FM := fm_sI M 422 a0 0 (Int32.ofInt 0)
  k7 a0 a1 (Int32.ofInt 0) M1) none
noncomputable def FX101_setConfigs_0 (n : Nat) (k7 : Nat → Int64 → Int32 → FM → Option (FM)) (a0 : Nat) (a1 : Int64) (M : FM) : Option (FM) := BX101_setConfigs_0 k7 a0 a1 M
noncomputable def FX101_setConfigs_L7 (n : Nat) : Nat → Nat → Int64 → Int32 → FM → Option (FM)
  | 0 => fun _ _ _ _ => none
  | j + 1 => FX101_setConfigs_7 n (FX101_setConfigs_L7 n j)
noncomputable def FX101_setConfigs (n : Nat) (a0 : Nat) (a1 : Int64) (M : FM) : Option (FM) := FX101_setConfigs_0 n (FX101_setConfigs_L7 n n) a0 a1 M
/-! BoardMachineModel$Floats.putMode(I)V -/
noncomputable def BX99_putMode_0 (a0 : Nat) (a1 : Int32) (M : FM) : Option (FM) :=
  fi (fm_is M 96 96 a0 = true) (
  let M1 : FM := fm_sI M 366 a0 0 (Int32.ofInt 0)
  fi (fm_is M1 96 96 a0 = true) (
  let M2 : FM := fm_sI M1 369 a0 0 (a1 &&& (Int32.ofInt 7))
  fi (fm_is M2 96 96 a0 = true) (
  fi ((Int32.ofInt 1) = 0 ∨ (Int32.ofInt 1) = 1) (
  let M3 : FM := fm_sI M2 371 a0 0 (Int32.ofInt 1)
  some M3) none) none) none) none
noncomputable def FX99_putMode_0 (a0 : Nat) (a1 : Int32) (M : FM) : Option (FM) := BX99_putMode_0 a0 a1 M
noncomputable def FX99_putMode (a0 : Nat) (a1 : Int32) (M : FM) : Option (FM) := FX99_putMode_0 a0 a1 M
/-! BoardMachineModel$Walk.setNumber(IJ)V -/
noncomputable def BX101_setNumber_97 (s0 : Nat) (s1 : Int32) (s2 : Int64) (M : FM) : Option (FM) :=
  fi (fm_is M 902 902 s0 = true ∧ fm_in M s0 s1 = true) (
  let M1 : FM := fm_sL M 3 s0 s1.toNatClampNeg s2
  some M1) none
noncomputable def FX101_setNumber_97 (s0 : Nat) (s1 : Int32) (s2 : Int64) (M : FM) : Option (FM) := BX101_setNumber_97 s0 s1 s2 M
noncomputable def BX101_setNumber_71 (g97 : Nat → Int32 → Int64 → FM → Option (FM)) (a0 : Nat) (a1 : Int32) (a2 : Int64) (s0 : Int32) (M : FM) : Option (FM) :=
  fi (fm_is M 101 101 a0 = true) (
  fi (s0 = 0) (
    g97 (M.2.2 428 a0 0) a1 (a2 &&& (Int64.ofInt 18014398509481983)) M) (
    fi (fm_is M 101 101 a0 = true) (
    let x1 : Nat := (M.2.2 428 a0 0)
    fi (fm_is M 902 902 x1 = true ∧ fm_in M x1 a1 = true) (
    g97 (M.2.2 428 a0 0) a1 (M.2.1 3 x1 a1.toNatClampNeg) M) none) none)) none
noncomputable def FX101_setNumber_71 (a0 : Nat) (a1 : Int32) (a2 : Int64) (s0 : Int32) (M : FM) : Option (FM) := BX101_setNumber_71 FX101_setNumber_97 a0 a1 a2 s0 M
noncomputable def BX101_setNumber_70 (g71 : Nat → Int32 → Int64 → Int32 → FM → Option (FM)) (a0 : Nat) (a1 : Int32) (a2 : Int64) (M : FM) : Option (FM) :=
  g71 a0 a1 a2 (Int32.ofInt 0) M
noncomputable def FX101_setNumber_70 (a0 : Nat) (a1 : Int32) (a2 : Int64) (M : FM) : Option (FM) := BX101_setNumber_70 FX101_setNumber_71 a0 a1 a2 M
noncomputable def BX101_setNumber_66 (g71 : Nat → Int32 → Int64 → Int32 → FM → Option (FM)) (a0 : Nat) (a1 : Int32) (a2 : Int64) (M : FM) : Option (FM) :=
  g71 a0 a1 a2 (Int32.ofInt 1) M
noncomputable def FX101_setNumber_66 (a0 : Nat) (a1 : Int32) (a2 : Int64) (M : FM) : Option (FM) := BX101_setNumber_66 FX101_setNumber_71 a0 a1 a2 M
noncomputable def BX101_setNumber_16 (f0 : Nat → Int32 → Int32 → FM → Option (Int32 × FM)) (f1 : Nat → Int32 → FM → Option (Int32 × FM)) (g66 : Nat → Int32 → Int64 → FM → Option (FM)) (g70 : Nat → Int32 → Int64 → FM → Option (FM)) (a0 : Nat) (a1 : Int32) (a2 : Int64) (s0 : Nat) (s1 : Int32) (M : FM) : Option (FM) :=
  fi (fm_is M 101 101 s0 = true) (
  let M1 : FM := fm_sI M 422 s0 0 s1
  fi (fm_is M1 101 101 a0 = true) (
  fi ((M1.1 422 a0 0) ≤ 0) (
    fi (fm_is M1 101 101 a0 = true) (
    (f0 a0 a1 (Int32.ofInt 7) M1).bind fun r2 =>
    fi (r2.1 = 0) (
      fi ((Int32.ofInt 7) ≤ a1) (
        g70 a0 a1 a2 r2.2) (
        fi (fm_is r2.2 101 101 a0 = true) (
        (f0 a0 (a1 + (Int32.ofInt 1)) (Int32.ofInt 7) r2.2).bind fun r3 =>
        fi (r3.1 = 0) (
          g70 a0 a1 a2 r3.2) (
          fi (fm_is r3.2 101 101 a0 = true) (
          (f1 a0 (a1 + (Int32.ofInt 1)) r3.2).bind fun r4 =>
          fi (r4.1 = (Int32.ofInt 1)) (
            g66 a0 a1 a2 r4.2) (
            g70 a0 a1 a2 r4.2)) none)) none)) (
      g66 a0 a1 a2 r2.2)) none) (
    some M1)) none) none
noncomputable def FX101_setNumber_16 (a0 : Nat) (a1 : Int32) (a2 : Int64) (s0 : Nat) (s1 : Int32) (M : FM) : Option (FM) := BX101_setNumber_16 FX101_has FX101_kind FX101_setNumber_66 FX101_setNumber_70 a0 a1 a2 s0 s1 M
noncomputable def BX101_setNumber_11 (g16 : Nat → Int32 → Int64 → Nat → Int32 → FM → Option (FM)) (a0 : Nat) (a1 : Int32) (a2 : Int64) (s0 : Nat) (M : FM) : Option (FM) :=
  g16 a0 a1 a2 s0 (Int32.ofInt 1) M
noncomputable def FX101_setNumber_11 (a0 : Nat) (a1 : Int32) (a2 : Int64) (s0 : Nat) (M : FM) : Option (FM) := BX101_setNumber_11 FX101_setNumber_16 a0 a1 a2 s0 M
noncomputable def BX101_setNumber_0 (g11 : Nat → Int32 → Int64 → Nat → FM → Option (FM)) (g16 : Nat → Int32 → Int64 → Nat → Int32 → FM → Option (FM)) (a0 : Nat) (a1 : Int32) (a2 : Int64) (M : FM) : Option (FM) :=
  fi (a1 < 0) (
    g11 a0 a1 a2 a0 M) (
    fi (a1 ≤ (Int32.ofInt 7)) (
      g16 a0 a1 a2 a0 (Int32.ofInt 0) M) (
      g11 a0 a1 a2 a0 M))
noncomputable def FX101_setNumber_0 (a0 : Nat) (a1 : Int32) (a2 : Int64) (M : FM) : Option (FM) := BX101_setNumber_0 FX101_setNumber_11 FX101_setNumber_16 a0 a1 a2 M
noncomputable def FX101_setNumber (a0 : Nat) (a1 : Int32) (a2 : Int64) (M : FM) : Option (FM) := FX101_setNumber_0 a0 a1 a2 M
/-! BoardMachineModel.setElsewhere(IIJ)V -/
noncomputable def BX92_setElsewhere_108 (f3 : Nat → FM → Option (FM)) (a0 : Nat) (a1 : Int32) (M : FM) : Option (FM) :=
  fi (fm_is M 92 92 a0 = true) (
  let x1 : Nat := (M.2.2 304 a0 0)
  fi (fm_is M 910 990 x1 = true ∧ fm_in M x1 a1 = true) (
  let x2 : Nat := (M.2.2 3 x1 a1.toNatClampNeg)
  fi (fm_is M 96 96 x2 = true) (
  (f3 x2 M).bind fun M3 =>
  some M3) none) none) none
noncomputable def FX92_setElsewhere_108 (n : Nat) (a0 : Nat) (a1 : Int32) (M : FM) : Option (FM) := BX92_setElsewhere_108 FX99_calm a0 a1 M
noncomputable def BX92_setElsewhere_59 (f1 : Nat → Int64 → FM → Option (FM)) (f4 : Nat → Int32 → Int64 → FM → Option (FM)) (g108 : Nat → Int32 → FM → Option (FM)) (a0 : Nat) (a1 : Int32) (a2 : Int32) (a3 : Int64) (M : FM) : Option (FM) :=
  fi (a2 = (Int32.ofInt 928)) (
    fi (fm_is M 92 92 a0 = true) (
    let x1 : Nat := (M.2.2 306 a0 0)
    fi (fm_is M 910 990 x1 = true ∧ fm_in M x1 a1 = true) (
    let x2 : Nat := (M.2.2 3 x1 a1.toNatClampNeg)
    fi (fm_is M 101 101 x2 = true) (
    (f1 x2 a3 M).bind fun M3 =>
    g108 a0 a1 M3) none) none) none) (
    fi (a2 < (Int32.ofInt 944)) (
      g108 a0 a1 M) (
      fi ((Int32.ofInt 952) ≤ a2) (
        g108 a0 a1 M) (
        fi (fm_is M 92 92 a0 = true) (
        let x4 : Nat := (M.2.2 306 a0 0)
        fi (fm_is M 910 990 x4 = true ∧ fm_in M x4 a1 = true) (
        let x5 : Nat := (M.2.2 3 x4 a1.toNatClampNeg)
        fi (fm_is M 101 101 x5 = true) (
        (f4 x5 (a2 - (Int32.ofInt 944)) a3 M).bind fun M6 =>
        g108 a0 a1 M6) none) none) none)))
noncomputable def FX92_setElsewhere_59 (n : Nat) (a0 : Nat) (a1 : Int32) (a2 : Int32) (a3 : Int64) (M : FM) : Option (FM) := BX92_setElsewhere_59 (FX101_setConfigs n) FX101_setNumber (FX92_setElsewhere_108 n ) a0 a1 a2 a3 M
noncomputable def BX92_setElsewhere_52 (f2 : Nat → Int32 → FM → Option (FM)) (g59 : Nat → Int32 → Int32 → Int64 → FM → Option (FM)) (a0 : Nat) (a1 : Int32) (a2 : Int32) (a3 : Int64) (s0 : Nat) (s1 : Int64) (M : FM) : Option (FM) :=
  fi (fm_is M 96 96 s0 = true) (
  (f2 s0 (s1.toInt32 &&& (Int32.ofInt 7)) M).bind fun M1 =>
  g59 a0 a1 a2 a3 M1) none
noncomputable def FX92_setElsewhere_52 (n : Nat) (a0 : Nat) (a1 : Int32) (a2 : Int32) (a3 : Int64) (s0 : Nat) (s1 : Int64) (M : FM) : Option (FM) := BX92_setElsewhere_52 FX99_putMode (FX92_setElsewhere_59 n ) a0 a1 a2 a3 s0 s1 M
noncomputable def BX92_setElsewhere_34 (g52 : Nat → Int32 → Int32 → Int64 → Nat → Int64 → FM → Option (FM)) (a0 : Nat) (a1 : Int32) (a2 : Int32) (a3 : Int64) (M : FM) : Option (FM) :=
  fi (fm_is M 92 92 a0 = true) (
  let x1 : Nat := (M.2.2 304 a0 0)
  fi (fm_is M 910 990 x1 = true ∧ fm_in M x1 a1 = true) (
  fi (a2 = (Int32.ofInt 2)) (
    g52 a0 a1 a2 a3 (M.2.2 3 x1 a1.toNatClampNeg) a3 M) (
    g52 a0 a1 a2 a3 (M.2.2 3 x1 a1.toNatClampNeg) (a3 >>> ((Int32.ofInt 5).toInt64 &&& 63)) M)) none) none
noncomputable def FX92_setElsewhere_34 (n : Nat) (a0 : Nat) (a1 : Int32) (a2 : Int32) (a3 : Int64) (M : FM) : Option (FM) := BX92_setElsewhere_34 (FX92_setElsewhere_52 n ) a0 a1 a2 a3 M
noncomputable def BX92_setElsewhere_24 (g34 : Nat → Int32 → Int32 → Int64 → FM → Option (FM)) (g59 : Nat → Int32 → Int32 → Int64 → FM → Option (FM)) (a0 : Nat) (a1 : Int32) (a2 : Int32) (a3 : Int64) (M : FM) : Option (FM) :=
  fi (a2 = (Int32.ofInt 2)) (
    g34 a0 a1 a2 a3 M) (
    fi (a2 = (Int32.ofInt 3)) (
      g34 a0 a1 a2 a3 M) (
      g59 a0 a1 a2 a3 M))
noncomputable def FX92_setElsewhere_24 (n : Nat) (a0 : Nat) (a1 : Int32) (a2 : Int32) (a3 : Int64) (M : FM) : Option (FM) := BX92_setElsewhere_24 (FX92_setElsewhere_34 n ) (FX92_setElsewhere_59 n ) a0 a1 a2 a3 M
noncomputable def BX92_setElsewhere_10 (f0 : Nat → Int32 → FM → Option (FM)) (g24 : Nat → Int32 → Int32 → Int64 → FM → Option (FM)) (a0 : Nat) (a1 : Int32) (a2 : Int32) (a3 : Int64) (M : FM) : Option (FM) :=
  fi (fm_is M 92 92 a0 = true) (
  let x1 : Nat := (M.2.2 304 a0 0)
  fi (fm_is M 910 990 x1 = true ∧ fm_in M x1 a1 = true) (
  let x2 : Nat := (M.2.2 3 x1 a1.toNatClampNeg)
  fi (fm_is M 96 96 x2 = true) (
  (f0 x2 (a3.toInt32 &&& (Int32.ofInt 31)) M).bind fun M3 =>
  g24 a0 a1 a2 a3 M3) none) none) none
noncomputable def FX92_setElsewhere_10 (n : Nat) (a0 : Nat) (a1 : Int32) (a2 : Int32) (a3 : Int64) (M : FM) : Option (FM) := BX92_setElsewhere_10 FX99_putFlags (FX92_setElsewhere_24 n ) a0 a1 a2 a3 M
noncomputable def BX92_setElsewhere_0 (g10 : Nat → Int32 → Int32 → Int64 → FM → Option (FM)) (g24 : Nat → Int32 → Int32 → Int64 → FM → Option (FM)) (a0 : Nat) (a1 : Int32) (a2 : Int32) (a3 : Int64) (M : FM) : Option (FM) :=
  fi (a2 = (Int32.ofInt 1)) (
    g10 a0 a1 a2 a3 M) (
    fi (a2 = (Int32.ofInt 3)) (
      g10 a0 a1 a2 a3 M) (
      g24 a0 a1 a2 a3 M))
noncomputable def FX92_setElsewhere_0 (n : Nat) (a0 : Nat) (a1 : Int32) (a2 : Int32) (a3 : Int64) (M : FM) : Option (FM) := BX92_setElsewhere_0 (FX92_setElsewhere_10 n ) (FX92_setElsewhere_24 n ) a0 a1 a2 a3 M
noncomputable def FX92_setElsewhere (n : Nat) (a0 : Nat) (a1 : Int32) (a2 : Int32) (a3 : Int64) (M : FM) : Option (FM) := FX92_setElsewhere_0 n a0 a1 a2 a3 M
/-! BoardMachineModel.access(IIIZJ)Z -/
noncomputable def BX92_access_102 (f4 : Nat → Int32 → Int64 → FM → Option (Int32 × FM)) (a0 : Nat) (a1 : Int32) (a8 : Int64) (M : FM) : Option (Int32 × FM) :=
  fi (fm_is M 92 92 a0 = true) (
  let x1 : Nat := (M.2.2 303 a0 0)
  fi (fm_is M 910 990 x1 = true ∧ fm_in M x1 a1 = true) (
  let x2 : Nat := (M.2.2 3 x1 a1.toNatClampNeg)
  fi (fm_is M 94 94 x2 = true) (
  (f4 x2 (Int32.ofInt 1) a8 M).bind fun r3 =>
  fi ((Int32.ofInt 1) = 0 ∨ (Int32.ofInt 1) = 1) (some ((Int32.ofInt 1), r3.2)) none) none) none) none
noncomputable def FX92_access_102 (n : Nat) (a0 : Nat) (a1 : Int32) (a8 : Int64) (M : FM) : Option (Int32 × FM) := BX92_access_102 FX98_finish a0 a1 a8 M
noncomputable def BX92_access_99 (f5 : Nat → Int32 → Int32 → Int64 → FM → Option (FM)) (g102 : Nat → Int32 → Int64 → FM → Option (Int32 × FM)) (a0 : Nat) (a1 : Int32) (a8 : Int64) (s0 : Nat) (s1 : Int32) (s2 : Int32) (s3 : Int64) (M : FM) : Option (Int32 × FM) :=
  fi (fm_is M 92 92 s0 = true) (
  (f5 s0 s1 s2 s3 M).bind fun M1 =>
  g102 a0 a1 a8 M1) none
noncomputable def FX92_access_99 (n : Nat) (a0 : Nat) (a1 : Int32) (a8 : Int64) (s0 : Nat) (s1 : Int32) (s2 : Int32) (s3 : Int64) (M : FM) : Option (Int32 × FM) := BX92_access_99 (FX92_setElsewhere n) (FX92_access_102 n ) a0 a1 a8 s0 s1 s2 s3 M
noncomputable def BX92_access_51 (g99 : Nat → Int32 → Int64 → Nat → Int32 → Int32 → Int64 → FM → Option (Int32 × FM)) (g102 : Nat → Int32 → Int64 → FM → Option (Int32 × FM)) (a0 : Nat) (a1 : Int32) (a2 : Int32) (a3 : Int32) (a4 : Int32) (a5 : Int64) (a7 : Int32) (s0 : Int64) (M : FM) : Option (Int32 × FM) :=
  fi (a7 = (Int32.ofInt 1)) (
    fi (a4 = 0) (
      g102 a0 a1 s0 M) (
      fi (a3 = (Int32.ofInt 1)) (
        g99 a0 a1 s0 a0 a1 a2 a5 M) (
        fi (a3 = (Int32.ofInt 2)) (
          g99 a0 a1 s0 a0 a1 a2 (s0 ||| a5) M) (
          g99 a0 a1 s0 a0 a1 a2 (s0 &&& (a5 ^^^ (Int64.ofInt (-1)))) M)))) (
    g102 a0 a1 s0 M)
noncomputable def FX92_access_51 (n : Nat) (a0 : Nat) (a1 : Int32) (a2 : Int32) (a3 : Int32) (a4 : Int32) (a5 : Int64) (a7 : Int32) (s0 : Int64) (M : FM) : Option (Int32 × FM) := BX92_access_51 (FX92_access_99 n ) (FX92_access_102 n ) a0 a1 a2 a3 a4 a5 a7 s0 M
noncomputable def BX92_access_0 (f0 : Nat → Int32 → Int32 → Int32 → Int64 → FM → Option (Int32 × FM)) (f1 : Nat → FM → Option (Int32 × FM)) (f2 : Nat → Int32 → Int32 → FM → Option (Int64 × FM)) (f3 : Nat → FM → Option (Int64 × FM)) (g51 : Nat → Int32 → Int32 → Int32 → Int32 → Int64 → Int32 → Int64 → FM → Option (Int32 × FM)) (a0 : Nat) (a1 : Int32) (a2 : Int32) (a3 : Int32) (a4 : Int32) (a5 : Int64) (M : FM) : Option (Int32 × FM) :=
  fi (fm_is M 92 92 a0 = true) (
  let x1 : Nat := (M.2.2 305 a0 0)
  fi (fm_is M 910 990 x1 = true ∧ fm_in M x1 a1 = true) (
  let x2 : Nat := (M.2.2 3 x1 a1.toNatClampNeg)
  fi (fm_is M 95 95 x2 = true) (
  (f0 x2 a2 a3 a4 a5 M).bind fun r3 =>
  fi (r3.1 = (Int32.ofInt 2)) (
    fi (fm_is r3.2 92 92 a0 = true) (
    (f1 a0 r3.2).bind fun r4 =>
    fi (r4.1 = 0 ∨ r4.1 = 1) (some (r4.1, r4.2)) none) none) (
    fi (r3.1 = 0) (
      fi (fm_is r3.2 92 92 a0 = true) (
      let x5 : Nat := (r3.2.2.2 305 a0 0)
      fi (fm_is r3.2 910 990 x5 = true ∧ fm_in r3.2 x5 a1 = true) (
      let x6 : Nat := (r3.2.2.2 3 x5 a1.toNatClampNeg)
      fi (fm_is r3.2 95 95 x6 = true) (
      (f3 x6 r3.2).bind fun r7 =>
      g51 a0 a1 a2 a3 a4 a5 r3.1 r7.1 r7.2) none) none) none) (
      fi (fm_is r3.2 92 92 a0 = true) (
      (f2 a0 a1 a2 r3.2).bind fun r8 =>
      g51 a0 a1 a2 a3 a4 a5 r3.1 r8.1 r8.2) none))) none) none) none
noncomputable def FX92_access_0 (n : Nat) (a0 : Nat) (a1 : Int32) (a2 : Int32) (a3 : Int32) (a4 : Int32) (a5 : Int64) (M : FM) : Option (Int32 × FM) := BX92_access_0 (FX100_access n) FX92_illegal (FX92_elsewhere n) FX100_had (FX92_access_51 n ) a0 a1 a2 a3 a4 a5 M
noncomputable def FX92_access (n : Nat) (a0 : Nat) (a1 : Int32) (a2 : Int32) (a3 : Int32) (a4 : Int32) (a5 : Int64) (M : FM) : Option (Int32 × FM) := FX92_access_0 n a0 a1 a2 a3 a4 a5 M
/-! BoardMachineModel.carries(I)Z -/
noncomputable def BX92_carries_245 (s0 : Int32) (M : FM) : Option (Int32 × FM) :=
  fi (s0 = 0 ∨ s0 = 1) (some (s0, M)) none
noncomputable def FX92_carries_245 (n : Nat) (s0 : Int32) (M : FM) : Option (Int32 × FM) := BX92_carries_245 s0 M
noncomputable def BX92_carries_240 (f10 : Nat → Int32 → Int32 → Int32 → Int32 → Int64 → FM → Option (Int32 × FM)) (g245 : Int32 → FM → Option (Int32 × FM)) (a7 : Int64) (s0 : Nat) (s1 : Int32) (s2 : Int32) (s3 : Int32) (s4 : Int32) (M : FM) : Option (Int32 × FM) :=
  fi (fm_is M 92 92 s0 = true) (
  (f10 s0 s1 s2 s3 s4 a7 M).bind fun r1 =>
  g245 r1.1 r1.2) none
noncomputable def FX92_carries_240 (n : Nat) (a7 : Int64) (s0 : Nat) (s1 : Int32) (s2 : Int32) (s3 : Int32) (s4 : Int32) (M : FM) : Option (Int32 × FM) := BX92_carries_240 (FX92_access n) (FX92_carries_245 n ) a7 s0 s1 s2 s3 s4 M
noncomputable def BX92_carries_235 (g240 : Int64 → Nat → Int32 → Int32 → Int32 → Int32 → FM → Option (Int32 × FM)) (a7 : Int64) (s0 : Nat) (s1 : Int32) (s2 : Int32) (s3 : Int32) (M : FM) : Option (Int32 × FM) :=
  g240 a7 s0 s1 s2 s3 (Int32.ofInt 1) M
noncomputable def FX92_carries_235 (n : Nat) (a7 : Int64) (s0 : Nat) (s1 : Int32) (s2 : Int32) (s3 : Int32) (M : FM) : Option (Int32 × FM) := BX92_carries_235 (FX92_carries_240 n ) a7 s0 s1 s2 s3 M
noncomputable def BX92_carries_29 (M : FM) : Option (Int32 × FM) :=
  fi ((Int32.ofInt 1) = 0 ∨ (Int32.ofInt 1) = 1) (some ((Int32.ofInt 1), M)) none
noncomputable def FX92_carries_29 (n : Nat) (M : FM) : Option (Int32 × FM) := BX92_carries_29 M
noncomputable def BX92_carries_0 (f0 : Nat → Int32 → Int32 → FM → Option (Int32 × FM)) (f1 : Nat → FM → Option (Int32 × FM)) (f2 : Nat → Int32 → FM → Option (Int64 × FM)) (f3 : Nat → Int32 → Int64 → Int32 → Int32 → FM → Option (Int32 × FM)) (f4 : Nat → Int32 → Int64 → Int32 → Int64 → FM → Option (Int32 × FM)) (f5 : Nat → Int32 → Int64 → Int32 → Int32 → Int64 → FM → Option (Int32 × FM)) (f6 : Nat → Int32 → Int64 → Int32 → Int32 → Int32 → FM → Option (Int32 × FM)) (f7 : Nat → Int32 → FM → Option (Int64 × FM)) (f8 : Nat → Int32 → Int64 → FM → Option (Int32 × FM)) (f9 : Nat → Int32 → Int32 → Int32 → Int32 → FM → Option (Int32 × FM)) (g29 : FM → Option (Int32 × FM)) (g235 : Int64 → Nat → Int32 → Int32 → Int32 → FM → Option (Int32 × FM)) (g240 : Int64 → Nat → Int32 → Int32 → Int32 → Int32 → FM → Option (Int32 × FM)) (g245 : Int32 → FM → Option (Int32 × FM)) (a0 : Nat) (a1 : Int32) (M : FM) : Option (Int32 × FM) :=
  fi (fm_is M 92 92 a0 = true) (
  let x1 : Nat := (M.2.2 303 a0 0)
  fi (fm_is M 910 990 x1 = true ∧ fm_in M x1 a1 = true) (
  let x2 : Nat := (M.2.2 3 x1 a1.toNatClampNeg)
  fi (fm_is M 92 92 a0 = true) (
  fi (fm_is M 92 92 a0 = true) (
  fi (fm_is M 94 94 x2 = true) (
  (f0 x2 (M.1 317 a0 0) (M.1 318 a0 0) M).bind fun r3 =>
  fi (r3.1 = 0) (
    g29 r3.2) (
    fi (r3.1 = (Int32.ofInt 1)) (
      g29 r3.2) (
      fi (r3.1 = (Int32.ofInt (-1))) (
        fi (fm_is r3.2 92 92 a0 = true) (
        (f1 a0 r3.2).bind fun r4 =>
        fi (r4.1 = 0 ∨ r4.1 = 1) (some (r4.1, r4.2)) none) none) (
        fi (fm_is r3.2 94 94 x2 = true) (
        (f2 x2 (Int32.ofInt 0) r3.2).bind fun r5 =>
        fi (fm_is r5.2 94 94 x2 = true) (
        (f2 x2 (Int32.ofInt 1) r5.2).bind fun r6 =>
        let x7 : Int32 := r6.1.toInt32
        fi (fm_is r6.2 94 94 x2 = true) (
        (f2 x2 (Int32.ofInt 2) r6.2).bind fun r8 =>
        fi (fm_is r8.2 94 94 x2 = true) (
        (f2 x2 (Int32.ofInt 3) r8.2).bind fun r9 =>
        let x10 : Int32 := r9.1.toInt32
        fi (fm_is r9.2 94 94 x2 = true) (
        (f2 x2 (Int32.ofInt 4) r9.2).bind fun r11 =>
        let x12 : Int32 := r11.1.toInt32
        fi (r3.1 = (Int32.ofInt 2)) (
          fi (fm_is r11.2 92 92 a0 = true) (
          (f3 a0 a1 r5.1 x7 (Int32.ofInt 1) r11.2).bind fun r13 =>
          fi (r13.1 = 0) (
            fi ((Int32.ofInt 0) = 0 ∨ (Int32.ofInt 0) = 1) (some ((Int32.ofInt 0), r13.2)) none) (
            fi (fm_is r13.2 92 92 a0 = true) (
            (f7 a0 x7 r13.2).bind fun r14 =>
            fi (fm_is r14.2 94 94 x2 = true) (
            (f8 x2 (Int32.ofInt 1) r14.1 r14.2).bind fun r15 =>
            fi ((Int32.ofInt 1) = 0 ∨ (Int32.ofInt 1) = 1) (some ((Int32.ofInt 1), r15.2)) none) none) none)) none) (
        fi (r3.1 = (Int32.ofInt 3)) (
          fi (fm_is r11.2 92 92 a0 = true) (
          (f4 a0 a1 r5.1 x7 r8.1 r11.2).bind fun r16 =>
          fi (r16.1 = 0 ∨ r16.1 = 1) (some (r16.1, r16.2)) none) none) (
        fi (r3.1 = (Int32.ofInt 4)) (
          fi (fm_is r11.2 92 92 a0 = true) (
          (f5 a0 a1 r5.1 x7 x10 r8.1 r11.2).bind fun r17 =>
          fi (r17.1 = 0 ∨ r17.1 = 1) (some (r17.1, r17.2)) none) none) (
        fi (r3.1 = (Int32.ofInt 5)) (
          fi (fm_is r11.2 92 92 a0 = true) (
          (f6 a0 a1 r5.1 x7 x10 x12 r11.2).bind fun r18 =>
          fi (r18.1 = 0 ∨ r18.1 = 1) (some (r18.1, r18.2)) none) none) (
        fi (fm_is r11.2 92 92 a0 = true) (
          let x19 : Int32 := (((r11.2.1 317 a0 0) >>> ((Int32.ofInt 15) &&& 31)) &&& (Int32.ofInt 31))
          fi (x10 = 0) (
            fi (fm_is r11.2 92 92 a0 = true) (
            (f9 a0 a1 r5.1.toInt32 x12 x19 r11.2).bind fun r20 =>
            g245 r20.1 r20.2) none) (
            fi ((Int32.ofInt 4) = 0) none (
            fi ((Int32.ofInt 4) = 0) none (
            fi ((x10 - x10 / (Int32.ofInt 4) * (Int32.ofInt 4)) = (Int32.ofInt 1)) (
              g235 r8.1 a0 a1 r5.1.toInt32 (x10 - x10 / (Int32.ofInt 4) * (Int32.ofInt 4)) r11.2) (
              fi (x19 = 0) (
                g240 r8.1 a0 a1 r5.1.toInt32 (x10 - x10 / (Int32.ofInt 4) * (Int32.ofInt 4)) (Int32.ofInt 0) r11.2) (
                g235 r8.1 a0 a1 r5.1.toInt32 (x10 - x10 / (Int32.ofInt 4) * (Int32.ofInt 4)) r11.2)))))) none))))) none) none) none) none) none)))) none) none) none) none) none
noncomputable def FX92_carries_0 (n : Nat) (a0 : Nat) (a1 : Int32) (M : FM) : Option (Int32 × FM) := BX92_carries_0 (FX98_run n) FX92_illegal FX98_wanted (FX92_finds n) (FX92_store n) (FX92_atomic n) (FX92_floating n) (FX92_get n) FX98_finish FX92_system (FX92_carries_29 n ) (FX92_carries_235 n ) (FX92_carries_240 n ) (FX92_carries_245 n ) a0 a1 M
noncomputable def FX92_carries (n : Nat) (a0 : Nat) (a1 : Int32) (M : FM) : Option (Int32 × FM) := FX92_carries_0 n a0 a1 M
/-! BoardMachineModel$Desk.beginning(JZI)J -/
noncomputable def BX100_beginning_33 (s0 : Int64) (M : FM) : Option (Int64 × FM) :=
  some (s0, M)
noncomputable def FX100_beginning_33 (s0 : Int64) (M : FM) : Option (Int64 × FM) := BX100_beginning_33 s0 M
noncomputable def BX100_beginning_31 (g33 : Int64 → FM → Option (Int64 × FM)) (a4 : Int64) (M : FM) : Option (Int64 × FM) :=
  g33 a4 M
noncomputable def FX100_beginning_31 (a4 : Int64) (M : FM) : Option (Int64 × FM) := BX100_beginning_31 FX100_beginning_33 a4 M
noncomputable def BX100_beginning_0 (g31 : Int64 → FM → Option (Int64 × FM)) (g33 : Int64 → FM → Option (Int64 × FM)) (a0 : Int64) (a2 : Int32) (a3 : Int32) (M : FM) : Option (Int64 × FM) :=
  let x1 : Int64 := (a0 &&& (Int64.ofInt (-4)))
  fi (a2 = 0) (
    g31 x1 M) (
    fi ((lg_cmp (a0 &&& (Int64.ofInt 1)) (Int64.ofInt 1)) = 0) (
      g33 (x1 + ((Int64.ofInt 4) * a3.toInt64)) M) (
      g31 x1 M))
noncomputable def FX100_beginning_0 (a0 : Int64) (a2 : Int32) (a3 : Int32) (M : FM) : Option (Int64 × FM) := BX100_beginning_0 FX100_beginning_31 FX100_beginning_33 a0 a2 a3 M
noncomputable def FX100_beginning (a0 : Int64) (a2 : Int32) (a3 : Int32) (M : FM) : Option (Int64 × FM) := FX100_beginning_0 a0 a2 a3 M
/-! BoardMachineModel$Desk.trap(ZIJJ)J -/
noncomputable def BX100_trap_243 (f2 : Int64 → Int32 → Int32 → FM → Option (Int64 × FM)) (a0 : Nat) (a1 : Int32) (a2 : Int32) (s0 : Nat) (s1 : Nat) (s2 : Int32) (M : FM) : Option (Int64 × FM) :=
  fi (fm_is M 902 902 s1 = true ∧ fm_in M s1 s2 = true) (
  (f2 (M.2.1 3 s1 s2.toNatClampNeg) a1 a2 M).bind fun r1 =>
  fi (fm_is r1.2 95 95 s0 = true) (
  let M2 : FM := fm_sL r1.2 365 s0 0 r1.1
  fi (fm_is M2 95 95 a0 = true) (
  some ((M2.2.1 365 a0 0), M2)) none) none) none
noncomputable def FX100_trap_243 (a0 : Nat) (a1 : Int32) (a2 : Int32) (s0 : Nat) (s1 : Nat) (s2 : Int32) (M : FM) : Option (Int64 × FM) := BX100_trap_243 FX100_beginning a0 a1 a2 s0 s1 s2 M
noncomputable def BX100_trap_224 (g243 : Nat → Int32 → Int32 → Nat → Nat → Int32 → FM → Option (Int64 × FM)) (a0 : Nat) (a1 : Int32) (a2 : Int32) (a9 : Int32) (M : FM) : Option (Int64 × FM) :=
  fi (fm_is M 95 95 a0 = true) (
  fi (a9 = 0) (
    g243 a0 a1 a2 a0 (M.2.2 361 a0 0) (Int32.ofInt 773) M) (
    g243 a0 a1 a2 a0 (M.2.2 361 a0 0) (Int32.ofInt 261) M)) none
noncomputable def FX100_trap_224 (a0 : Nat) (a1 : Int32) (a2 : Int32) (a9 : Int32) (M : FM) : Option (Int64 × FM) := BX100_trap_224 FX100_trap_243 a0 a1 a2 a9 M
noncomputable def BX100_trap_139 (f0 : Nat → Int32 → Int32 → FM → Option (FM)) (f1 : Nat → Int32 → FM → Option (Int32 × FM)) (g224 : Nat → Int32 → Int32 → Int32 → FM → Option (Int64 × FM)) (a0 : Nat) (a1 : Int32) (a2 : Int32) (a9 : Int32) (M : FM) : Option (Int64 × FM) :=
  fi (a9 = 0) (
    fi (fm_is M 95 95 a0 = true) (
    let x1 : Int32 := (M.1 360 a0 0)
    fi ((Int32.ofInt 2) = 0) none (
    fi (fm_is M 95 95 a0 = true) (
    (f0 a0 (Int32.ofInt 11) (x1 - x1 / (Int32.ofInt 2) * (Int32.ofInt 2)) M).bind fun M2 =>
    fi (fm_is M2 95 95 a0 = true) (
    fi ((Int32.ofInt 2) = 0) none (
    fi (fm_is M2 95 95 a0 = true) (
    (f0 a0 (Int32.ofInt 12) ((M2.1 360 a0 0) / (Int32.ofInt 2)) M2).bind fun M3 =>
    fi (fm_is M3 95 95 a0 = true) (
    (f1 a0 (Int32.ofInt 3) M3).bind fun r4 =>
    fi (fm_is r4.2 95 95 a0 = true) (
    (f0 a0 (Int32.ofInt 7) r4.1 r4.2).bind fun M5 =>
    fi (fm_is M5 95 95 a0 = true) (
    (f0 a0 (Int32.ofInt 3) (Int32.ofInt 0) M5).bind fun M6 =>
    fi (fm_is M6 95 95 a0 = true) (
    let M7 : FM := fm_sI M6 360 a0 0 (Int32.ofInt 3)
    g224 a0 a1 a2 a9 M7) none) none) none) none) none)) none) none)) none) (
    fi (fm_is M 95 95 a0 = true) (
    fi (fm_is M 95 95 a0 = true) (
    (f0 a0 (Int32.ofInt 8) (M.1 360 a0 0) M).bind fun M8 =>
    fi (fm_is M8 95 95 a0 = true) (
    (f1 a0 (Int32.ofInt 1) M8).bind fun r9 =>
    fi (fm_is r9.2 95 95 a0 = true) (
    (f0 a0 (Int32.ofInt 5) r9.1 r9.2).bind fun M10 =>
    fi (fm_is M10 95 95 a0 = true) (
    (f0 a0 (Int32.ofInt 1) (Int32.ofInt 0) M10).bind fun M11 =>
    fi (fm_is M11 95 95 a0 = true) (
    let M12 : FM := fm_sI M11 360 a0 0 (Int32.ofInt 1)
    g224 a0 a1 a2 a9 M12) none) none) none) none) none) none)
noncomputable def FX100_trap_139 (a0 : Nat) (a1 : Int32) (a2 : Int32) (a9 : Int32) (M : FM) : Option (Int64 × FM) := BX100_trap_139 FX100_put FX100_status FX100_trap_224 a0 a1 a2 a9 M
noncomputable def BX100_trap_129 (g139 : Nat → Int32 → Int32 → Int32 → FM → Option (Int64 × FM)) (a0 : Nat) (a1 : Int32) (a2 : Int32) (a3 : Int64) (a9 : Int32) (a10 : Int32) (M : FM) : Option (Int64 × FM) :=
  fi (fm_is M 95 95 a0 = true) (
  let x1 : Int32 := (a10 + (Int32.ofInt 3))
  let x2 : Nat := (M.2.2 361 a0 0)
  fi (fm_is M 902 902 x2 = true ∧ fm_in M x2 x1 = true) (
  let M3 : FM := fm_sL M 3 x2 x1.toNatClampNeg a3
  g139 a0 a1 a2 a9 M3) none) none
noncomputable def FX100_trap_129 (a0 : Nat) (a1 : Int32) (a2 : Int32) (a3 : Int64) (a9 : Int32) (a10 : Int32) (M : FM) : Option (Int64 × FM) := BX100_trap_129 FX100_trap_139 a0 a1 a2 a3 a9 a10 M
noncomputable def BX100_trap_118 (g129 : Nat → Int32 → Int32 → Int64 → Int32 → Int32 → FM → Option (Int64 × FM)) (a0 : Nat) (a1 : Int32) (a2 : Int32) (a3 : Int64) (a7 : Int64) (a9 : Int32) (a10 : Int32) (M : FM) : Option (Int64 × FM) :=
  fi (fm_is M 95 95 a0 = true) (
  let x1 : Int32 := (a10 + (Int32.ofInt 2))
  let x2 : Nat := (M.2.2 361 a0 0)
  fi (fm_is M 902 902 x2 = true ∧ fm_in M x2 x1 = true) (
  let M3 : FM := fm_sL M 3 x2 x1.toNatClampNeg a7
  g129 a0 a1 a2 a3 a9 a10 M3) none) none
noncomputable def FX100_trap_118 (a0 : Nat) (a1 : Int32) (a2 : Int32) (a3 : Int64) (a7 : Int64) (a9 : Int32) (a10 : Int32) (M : FM) : Option (Int64 × FM) := BX100_trap_118 FX100_trap_129 a0 a1 a2 a3 a7 a9 a10 M
noncomputable def BX100_trap_101 (g118 : Nat → Int32 → Int32 → Int64 → Int64 → Int32 → Int32 → FM → Option (Int64 × FM)) (a0 : Nat) (a1 : Int32) (a2 : Int32) (a3 : Int64) (a5 : Int64) (a7 : Int64) (a9 : Int32) (s0 : Int32) (M : FM) : Option (Int64 × FM) :=
  fi (fm_is M 95 95 a0 = true) (
  let x1 : Int32 := (s0 + (Int32.ofInt 1))
  let x2 : Nat := (M.2.2 361 a0 0)
  fi (fm_is M 902 902 x2 = true ∧ fm_in M x2 x1 = true) (
  let M3 : FM := fm_sL M 3 x2 x1.toNatClampNeg (a5 &&& (Int64.ofInt (-2)))
  g118 a0 a1 a2 a3 a7 a9 s0 M3) none) none
noncomputable def FX100_trap_101 (a0 : Nat) (a1 : Int32) (a2 : Int32) (a3 : Int64) (a5 : Int64) (a7 : Int64) (a9 : Int32) (s0 : Int32) (M : FM) : Option (Int64 × FM) := BX100_trap_101 FX100_trap_118 a0 a1 a2 a3 a5 a7 a9 s0 M
noncomputable def BX100_trap_85 (g101 : Nat → Int32 → Int32 → Int64 → Int64 → Int64 → Int32 → Int32 → FM → Option (Int64 × FM)) (a0 : Nat) (a1 : Int32) (a2 : Int32) (a3 : Int64) (a5 : Int64) (a7 : Int64) (s0 : Int32) (M : FM) : Option (Int64 × FM) :=
  fi (s0 = 0) (
    g101 a0 a1 a2 a3 a5 a7 s0 (Int32.ofInt 832) M) (
    g101 a0 a1 a2 a3 a5 a7 s0 (Int32.ofInt 320) M)
noncomputable def FX100_trap_85 (a0 : Nat) (a1 : Int32) (a2 : Int32) (a3 : Int64) (a5 : Int64) (a7 : Int64) (s0 : Int32) (M : FM) : Option (Int64 × FM) := BX100_trap_85 FX100_trap_101 a0 a1 a2 a3 a5 a7 s0 M
noncomputable def BX100_trap_84 (g85 : Nat → Int32 → Int32 → Int64 → Int64 → Int64 → Int32 → FM → Option (Int64 × FM)) (a0 : Nat) (a1 : Int32) (a2 : Int32) (a3 : Int64) (a5 : Int64) (a7 : Int64) (M : FM) : Option (Int64 × FM) :=
  g85 a0 a1 a2 a3 a5 a7 (Int32.ofInt 0) M
noncomputable def FX100_trap_84 (a0 : Nat) (a1 : Int32) (a2 : Int32) (a3 : Int64) (a5 : Int64) (a7 : Int64) (M : FM) : Option (Int64 × FM) := BX100_trap_84 FX100_trap_85 a0 a1 a2 a3 a5 a7 M
noncomputable def BX100_trap_70 (g84 : Nat → Int32 → Int32 → Int64 → Int64 → Int64 → FM → Option (Int64 × FM)) (g85 : Nat → Int32 → Int32 → Int64 → Int64 → Int64 → Int32 → FM → Option (Int64 × FM)) (a0 : Nat) (a1 : Int32) (a2 : Int32) (a3 : Int64) (a5 : Int64) (a7 : Int64) (s0 : Nat) (s1 : Int32) (M : FM) : Option (Int64 × FM) :=
  fi (fm_is M 902 902 s0 = true ∧ fm_in M s0 s1 = true) (
  fi ((lg_cmp (((M.2.1 3 s0 s1.toNatClampNeg) >>> (a2.toInt64 &&& 63)) &&& (Int64.ofInt 1)) (Int64.ofInt 1)) = 0) (
    g85 a0 a1 a2 a3 a5 a7 (Int32.ofInt 1) M) (
    g84 a0 a1 a2 a3 a5 a7 M)) none
noncomputable def FX100_trap_70 (a0 : Nat) (a1 : Int32) (a2 : Int32) (a3 : Int64) (a5 : Int64) (a7 : Int64) (s0 : Nat) (s1 : Int32) (M : FM) : Option (Int64 × FM) := BX100_trap_70 FX100_trap_84 FX100_trap_85 a0 a1 a2 a3 a5 a7 s0 s1 M
noncomputable def BX100_trap_43 (g70 : Nat → Int32 → Int32 → Int64 → Int64 → Int64 → Nat → Int32 → FM → Option (Int64 × FM)) (g84 : Nat → Int32 → Int32 → Int64 → Int64 → Int64 → FM → Option (Int64 × FM)) (a0 : Nat) (a1 : Int32) (a2 : Int32) (a3 : Int64) (a5 : Int64) (s0 : Int64) (M : FM) : Option (Int64 × FM) :=
  fi (fm_is M 95 95 a0 = true) (
  fi ((Int32.ofInt 3) ≤ (M.1 360 a0 0)) (
    g84 a0 a1 a2 a3 a5 s0 M) (
    fi (fm_is M 95 95 a0 = true) (
    fi (a1 = 0) (
      g70 a0 a1 a2 a3 a5 s0 (M.2.2 361 a0 0) (Int32.ofInt 770) M) (
      g70 a0 a1 a2 a3 a5 s0 (M.2.2 361 a0 0) (Int32.ofInt 771) M)) none)) none
noncomputable def FX100_trap_43 (a0 : Nat) (a1 : Int32) (a2 : Int32) (a3 : Int64) (a5 : Int64) (s0 : Int64) (M : FM) : Option (Int64 × FM) := BX100_trap_43 FX100_trap_70 FX100_trap_84 a0 a1 a2 a3 a5 s0 M
noncomputable def BX100_trap_16 (g43 : Nat → Int32 → Int32 → Int64 → Int64 → Int64 → FM → Option (Int64 × FM)) (a0 : Nat) (a1 : Int32) (a2 : Int32) (a3 : Int64) (a5 : Int64) (s0 : Nat) (s1 : Int32) (M : FM) : Option (Int64 × FM) :=
  fi (fm_is M 95 95 s0 = true) (
  let M1 : FM := fm_sI M 358 s0 0 s1
  fi (fm_is M1 95 95 a0 = true) (
  fi ((M1.1 358 a0 0) ≤ 0) (
    fi (a1 = 0) (
      g43 a0 a1 a2 a3 a5 a2.toInt64 M1) (
      g43 a0 a1 a2 a3 a5 (a2.toInt64 ||| (Int64.ofInt (-9223372036854775808))) M1)) (
    some ((Int64.ofInt 0), M1))) none) none
noncomputable def FX100_trap_16 (a0 : Nat) (a1 : Int32) (a2 : Int32) (a3 : Int64) (a5 : Int64) (s0 : Nat) (s1 : Int32) (M : FM) : Option (Int64 × FM) := BX100_trap_16 FX100_trap_43 a0 a1 a2 a3 a5 s0 s1 M
noncomputable def BX100_trap_11 (g16 : Nat → Int32 → Int32 → Int64 → Int64 → Nat → Int32 → FM → Option (Int64 × FM)) (a0 : Nat) (a1 : Int32) (a2 : Int32) (a3 : Int64) (a5 : Int64) (s0 : Nat) (M : FM) : Option (Int64 × FM) :=
  g16 a0 a1 a2 a3 a5 s0 (Int32.ofInt 1) M
noncomputable def FX100_trap_11 (a0 : Nat) (a1 : Int32) (a2 : Int32) (a3 : Int64) (a5 : Int64) (s0 : Nat) (M : FM) : Option (Int64 × FM) := BX100_trap_11 FX100_trap_16 a0 a1 a2 a3 a5 s0 M
noncomputable def BX100_trap_0 (g11 : Nat → Int32 → Int32 → Int64 → Int64 → Nat → FM → Option (Int64 × FM)) (g16 : Nat → Int32 → Int32 → Int64 → Int64 → Nat → Int32 → FM → Option (Int64 × FM)) (a0 : Nat) (a1 : Int32) (a2 : Int32) (a3 : Int64) (a5 : Int64) (M : FM) : Option (Int64 × FM) :=
  fi (a2 < 0) (
    g11 a0 a1 a2 a3 a5 a0 M) (
    fi (a2 ≤ (Int32.ofInt 63)) (
      g16 a0 a1 a2 a3 a5 a0 (Int32.ofInt 0) M) (
      g11 a0 a1 a2 a3 a5 a0 M))
noncomputable def FX100_trap_0 (a0 : Nat) (a1 : Int32) (a2 : Int32) (a3 : Int64) (a5 : Int64) (M : FM) : Option (Int64 × FM) := BX100_trap_0 FX100_trap_11 FX100_trap_16 a0 a1 a2 a3 a5 M
noncomputable def FX100_trap (a0 : Nat) (a1 : Int32) (a2 : Int32) (a3 : Int64) (a5 : Int64) (M : FM) : Option (Int64 × FM) := FX100_trap_0 a0 a1 a2 a3 a5 M
/-! BoardMachineModel$Desk.count(JJ)V -/
noncomputable def BX100_count_0 (a0 : Nat) (a1 : Int64) (a3 : Int64) (M : FM) : Option (FM) :=
  fi (fm_is M 95 95 a0 = true) (
  let M1 : FM := fm_sI M 358 a0 0 (Int32.ofInt 0)
  fi (fm_is M1 95 95 a0 = true) (
  fi (fm_is M1 95 95 a0 = true) (
  let x2 : Nat := (M1.2.2 361 a0 0)
  fi (fm_is M1 902 902 x2 = true ∧ fm_in M1 x2 (Int32.ofInt 2816) = true) (
  let x3 : Nat := (M1.2.2 361 a0 0)
  fi (fm_is M1 902 902 x3 = true ∧ fm_in M1 x3 (Int32.ofInt 2816) = true) (
  let M4 : FM := fm_sL M1 3 x3 (Int32.ofInt 2816).toNatClampNeg ((M1.2.1 3 x2 (Int32.ofInt 2816).toNatClampNeg) + a1)
  fi (fm_is M4 95 95 a0 = true) (
  fi (fm_is M4 95 95 a0 = true) (
  let x5 : Nat := (M4.2.2 361 a0 0)
  fi (fm_is M4 902 902 x5 = true ∧ fm_in M4 x5 (Int32.ofInt 2818) = true) (
  let x6 : Nat := (M4.2.2 361 a0 0)
  fi (fm_is M4 902 902 x6 = true ∧ fm_in M4 x6 (Int32.ofInt 2818) = true) (
  let M7 : FM := fm_sL M4 3 x6 (Int32.ofInt 2818).toNatClampNeg ((M4.2.1 3 x5 (Int32.ofInt 2818).toNatClampNeg) + a3)
  some M7) none) none) none) none) none) none) none) none) none
noncomputable def FX100_count_0 (a0 : Nat) (a1 : Int64) (a3 : Int64) (M : FM) : Option (FM) := BX100_count_0 a0 a1 a3 M
noncomputable def FX100_count (a0 : Nat) (a1 : Int64) (a3 : Int64) (M : FM) : Option (FM) := FX100_count_0 a0 a1 a3 M
/-! BoardMachineModel.step(I)V -/
noncomputable def BX92_step_117 (M : FM) : Option (FM) :=
  some M
noncomputable def FX92_step_117 (n : Nat) (M : FM) : Option (FM) := BX92_step_117 M
noncomputable def BX92_step_96 (f4 : Nat → FM → Option (Int64 × FM)) (f6 : Nat → Int32 → Int32 → Int64 → Int64 → FM → Option (Int64 × FM)) (f7 : Nat → Int64 → FM → Option (FM)) (g117 : FM → Option (FM)) (a0 : Nat) (a2 : Nat) (a3 : Nat) (M : FM) : Option (FM) :=
  fi (fm_is M 92 92 a0 = true) (
  fi (fm_is M 92 92 a0 = true) (
  fi (fm_is M 94 94 a2 = true) (
  (f4 a2 M).bind fun r1 =>
  fi (fm_is r1.2 95 95 a3 = true) (
  (f6 a3 (Int32.ofInt 0) (M.1 320 a0 0) (M.2.1 321 a0 0) r1.1 r1.2).bind fun r2 =>
  fi (fm_is r2.2 94 94 a2 = true) (
  (f7 a2 r2.1 r2.2).bind fun M3 =>
  g117 M3) none) none) none) none) none
noncomputable def FX92_step_96 (n : Nat) (a0 : Nat) (a2 : Nat) (a3 : Nat) (M : FM) : Option (FM) := BX92_step_96 FX98_counter FX100_trap FX98_jump (FX92_step_117 n ) a0 a2 a3 M
noncomputable def BX92_step_36 (f2 : Nat → FM → Option (Int32 × FM)) (f3 : Nat → Int32 → FM → Option (Int32 × FM)) (f4 : Nat → FM → Option (Int64 × FM)) (f5 : Nat → Int32 → FM → Option (Int32 × FM)) (f6 : Nat → Int32 → Int32 → Int64 → Int64 → FM → Option (Int64 × FM)) (f7 : Nat → Int64 → FM → Option (FM)) (f8 : Nat → Int64 → Int64 → FM → Option (FM)) (g96 : Nat → Nat → Nat → FM → Option (FM)) (g117 : FM → Option (FM)) (a0 : Nat) (a1 : Int32) (a2 : Nat) (a3 : Nat) (M : FM) : Option (FM) :=
  fi (fm_is M 92 92 a0 = true) (
  let x1 : Nat := (M.2.2 307 a0 0)
  fi (fm_is M 904 904 x1 = true ∧ fm_in M x1 a1 = true) (
  let M2 : FM := fm_sI M 3 x1 a1.toNatClampNeg ((Int32.ofInt 0) &&& 1)
  fi (fm_is M2 95 95 a3 = true) (
  (f2 a3 M2).bind fun r3 =>
  fi (r3.1 < 0) (
    fi (fm_is r3.2 92 92 a0 = true) (
    (f3 a0 a1 r3.2).bind fun r4 =>
    fi (r4.1 = 0) (
      g96 a0 a2 a3 r4.2) (
      fi (fm_is r4.2 92 92 a0 = true) (
      (f5 a0 a1 r4.2).bind fun r5 =>
      fi (r5.1 = 0) (
        g96 a0 a2 a3 r5.2) (
        fi (fm_is r5.2 95 95 a3 = true) (
        (f8 a3 (Int64.ofInt 0) (Int64.ofInt 1) r5.2).bind fun M6 =>
        g117 M6) none)) none)) none) (
    fi (fm_is r3.2 94 94 a2 = true) (
    (f4 a2 r3.2).bind fun r7 =>
    fi (fm_is r7.2 95 95 a3 = true) (
    (f6 a3 (Int32.ofInt 1) r3.1 (Int64.ofInt 0) r7.1 r7.2).bind fun r8 =>
    fi (fm_is r8.2 94 94 a2 = true) (
    (f7 a2 r8.1 r8.2).bind fun M9 =>
    some M9) none) none) none)) none) none) none
noncomputable def FX92_step_36 (n : Nat) (a0 : Nat) (a1 : Int32) (a2 : Nat) (a3 : Nat) (M : FM) : Option (FM) := BX92_step_36 (FX100_taken n) (FX92_fetch n) FX98_counter (FX92_carries n) FX100_trap FX98_jump FX100_count (FX92_step_96 n ) (FX92_step_117 n ) a0 a1 a2 a3 M
noncomputable def BX92_step_0 (f0 : Nat → Int32 → FM → Option (FM)) (f1 : Nat → FM → Option (Int32 × FM)) (g36 : Nat → Int32 → Nat → Nat → FM → Option (FM)) (a0 : Nat) (a1 : Int32) (M : FM) : Option (FM) :=
  fi (fm_is M 92 92 a0 = true) (
  let x1 : Nat := (M.2.2 303 a0 0)
  fi (fm_is M 910 990 x1 = true ∧ fm_in M x1 a1 = true) (
  let x2 : Nat := (M.2.2 3 x1 a1.toNatClampNeg)
  fi (fm_is M 92 92 a0 = true) (
  let x3 : Nat := (M.2.2 305 a0 0)
  fi (fm_is M 910 990 x3 = true ∧ fm_in M x3 a1 = true) (
  let x4 : Nat := (M.2.2 3 x3 a1.toNatClampNeg)
  fi (fm_is M 92 92 a0 = true) (
  (f0 a0 a1 M).bind fun M5 =>
  fi (fm_is M5 92 92 a0 = true) (
  let x6 : Nat := (M5.2.2 307 a0 0)
  fi (fm_is M5 904 904 x6 = true ∧ fm_in M5 x6 a1 = true) (
  fi ((M5.1 3 x6 a1.toNatClampNeg) = 0) (
    g36 a0 a1 x2 x4 M5) (
    fi (fm_is M5 95 95 x4 = true) (
    (f1 x4 M5).bind fun r7 =>
    fi (r7.1 = 0) (
      some r7.2) (
      g36 a0 a1 x2 x4 r7.2)) none)) none) none) none) none) none) none) none
noncomputable def FX92_step_0 (n : Nat) (a0 : Nat) (a1 : Int32) (M : FM) : Option (FM) := BX92_step_0 (FX92_tell n) (FX100_wakes n) (FX92_step_36 n ) a0 a1 M
noncomputable def FX92_step (n : Nat) (a0 : Nat) (a1 : Int32) (M : FM) : Option (FM) := FX92_step_0 n a0 a1 M
/-! BoardMachineModel$Core.get(I)J -/
noncomputable def BX98_get_33 (s0 : Int64) (M : FM) : Option (Int64 × FM) :=
  some (s0, M)
noncomputable def FX98_get_33 (s0 : Int64) (M : FM) : Option (Int64 × FM) := BX98_get_33 s0 M
noncomputable def BX98_get_13 (g33 : Int64 → FM → Option (Int64 × FM)) (a0 : Nat) (a1 : Int32) (s0 : Nat) (s1 : Int32) (M : FM) : Option (Int64 × FM) :=
  fi (fm_is M 94 94 s0 = true) (
  let M1 : FM := fm_sI M 345 s0 0 s1
  fi (fm_is M1 94 94 a0 = true) (
  fi ((M1.1 345 a0 0) = 0) (
    fi (fm_is M1 94 94 a0 = true) (
    let x2 : Nat := (M1.2.2 346 a0 0)
    fi (fm_is M1 902 902 x2 = true ∧ fm_in M1 x2 a1 = true) (
    g33 (M1.2.1 3 x2 a1.toNatClampNeg) M1) none) none) (
    g33 (Int64.ofInt 0) M1)) none) none
noncomputable def FX98_get_13 (a0 : Nat) (a1 : Int32) (s0 : Nat) (s1 : Int32) (M : FM) : Option (Int64 × FM) := BX98_get_13 FX98_get_33 a0 a1 s0 s1 M
noncomputable def BX98_get_0 (f0 : Int32 → FM → Option (Int32 × FM)) (g13 : Nat → Int32 → Nat → Int32 → FM → Option (Int64 × FM)) (a0 : Nat) (a1 : Int32) (M : FM) : Option (Int64 × FM) :=
  (f0 a1 M).bind fun r1 =>
  fi (r1.1 = 0) (
    g13 a0 a1 a0 (Int32.ofInt 1) r1.2) (
    g13 a0 a1 a0 (Int32.ofInt 0) r1.2)
noncomputable def FX98_get_0 (a0 : Nat) (a1 : Int32) (M : FM) : Option (Int64 × FM) := BX98_get_0 FX98_isRegister FX98_get_13 a0 a1 M
noncomputable def FX98_get (a0 : Nat) (a1 : Int32) (M : FM) : Option (Int64 × FM) := FX98_get_0 a0 a1 M
/-! BoardMachineModel.check(I)V -/
noncomputable def BX92_check_133 (s0 : Nat) (s1 : Int64) (M : FM) : Option (FM) :=
  fi (fm_is M 92 92 s0 = true) (
  let M1 : FM := fm_sL M 316 s0 0 s1
  some M1) none
noncomputable def FX92_check_133 (s0 : Nat) (s1 : Int64) (M : FM) : Option (FM) := BX92_check_133 s0 s1 M
noncomputable def BX92_check_103 (f3 : Nat → FM → Option (Int32 × FM)) (g133 : Nat → Int64 → FM → Option (FM)) (a0 : Nat) (a1 : Int32) (s0 : Nat) (s1 : Int64) (M : FM) : Option (FM) :=
  fi (fm_is M 92 92 s0 = true) (
  let M1 : FM := fm_sL M 316 s0 0 s1
  fi (fm_is M1 92 92 a0 = true) (
  let x2 : Nat := (M1.2.2 305 a0 0)
  fi (fm_is M1 910 990 x2 = true ∧ fm_in M1 x2 a1 = true) (
  let x3 : Nat := (M1.2.2 3 x2 a1.toNatClampNeg)
  fi (fm_is M1 95 95 x3 = true) (
  (f3 x3 M1).bind fun r4 =>
  fi (r4.1 = (Int32.ofInt 2)) (
    fi (fm_is r4.2 92 92 a0 = true) (
    g133 a0 ((r4.2.2.1 316 a0 0) + (Int64.ofInt 1)) r4.2) none) (
    fi (fm_is r4.2 92 92 a0 = true) (
    g133 a0 (r4.2.2.1 316 a0 0) r4.2) none)) none) none) none) none
noncomputable def FX92_check_103 (a0 : Nat) (a1 : Int32) (s0 : Nat) (s1 : Int64) (M : FM) : Option (FM) := BX92_check_103 FX100_below FX92_check_133 a0 a1 s0 s1 M
noncomputable def BX92_check_99 (g103 : Nat → Int32 → Nat → Int64 → FM → Option (FM)) (a0 : Nat) (a1 : Int32) (s0 : Nat) (M : FM) : Option (FM) :=
  fi (fm_is M 92 92 a0 = true) (
  g103 a0 a1 s0 (M.2.1 316 a0 0) M) none
noncomputable def FX92_check_99 (a0 : Nat) (a1 : Int32) (s0 : Nat) (M : FM) : Option (FM) := BX92_check_99 FX92_check_103 a0 a1 s0 M
noncomputable def BX92_check_72 (g99 : Nat → Int32 → Nat → FM → Option (FM)) (g103 : Nat → Int32 → Nat → Int64 → FM → Option (FM)) (a0 : Nat) (a1 : Int32) (a2 : Int32) (s0 : Nat) (s1 : Int64) (M : FM) : Option (FM) :=
  fi (fm_is M 92 92 s0 = true) (
  let M1 : FM := fm_sL M 316 s0 0 s1
  fi (a2 = 0) (
    g99 a0 a1 a0 M1) (
    fi (a2 = (Int32.ofInt 1)) (
      g99 a0 a1 a0 M1) (
      fi (a2 = (Int32.ofInt 3)) (
        g99 a0 a1 a0 M1) (
        fi (fm_is M1 92 92 a0 = true) (
        g103 a0 a1 a0 ((M1.2.1 316 a0 0) + (Int64.ofInt 1)) M1) none)))) none
noncomputable def FX92_check_72 (a0 : Nat) (a1 : Int32) (a2 : Int32) (s0 : Nat) (s1 : Int64) (M : FM) : Option (FM) := BX92_check_72 FX92_check_99 FX92_check_103 a0 a1 a2 s0 s1 M
noncomputable def BX92_check_39 (f2 : Nat → FM → Option (Int64 × FM)) (g72 : Nat → Int32 → Int32 → Nat → Int64 → FM → Option (FM)) (a0 : Nat) (a1 : Int32) (a2 : Int32) (s0 : Nat) (s1 : Int64) (M : FM) : Option (FM) :=
  fi (fm_is M 92 92 s0 = true) (
  let M1 : FM := fm_sL M 316 s0 0 s1
  fi (fm_is M1 92 92 a0 = true) (
  let x2 : Nat := (M1.2.2 303 a0 0)
  fi (fm_is M1 910 990 x2 = true ∧ fm_in M1 x2 a1 = true) (
  let x3 : Nat := (M1.2.2 3 x2 a1.toNatClampNeg)
  fi (fm_is M1 94 94 x3 = true) (
  (f2 x3 M1).bind fun r4 =>
  fi ((lg_cmp (r4.1 &&& (Int64.ofInt 1)) (Int64.ofInt 0)) = 0) (
    fi (fm_is r4.2 92 92 a0 = true) (
    g72 a0 a1 a2 a0 (r4.2.2.1 316 a0 0) r4.2) none) (
    fi (fm_is r4.2 92 92 a0 = true) (
    g72 a0 a1 a2 a0 ((r4.2.2.1 316 a0 0) + (Int64.ofInt 1)) r4.2) none)) none) none) none) none
noncomputable def FX92_check_39 (a0 : Nat) (a1 : Int32) (a2 : Int32) (s0 : Nat) (s1 : Int64) (M : FM) : Option (FM) := BX92_check_39 FX98_counter FX92_check_72 a0 a1 a2 s0 s1 M
noncomputable def BX92_check_0 (f0 : Nat → FM → Option (Int32 × FM)) (f1 : Nat → Int32 → FM → Option (Int64 × FM)) (g39 : Nat → Int32 → Int32 → Nat → Int64 → FM → Option (FM)) (a0 : Nat) (a1 : Int32) (M : FM) : Option (FM) :=
  fi (fm_is M 92 92 a0 = true) (
  let x1 : Nat := (M.2.2 305 a0 0)
  fi (fm_is M 910 990 x1 = true ∧ fm_in M x1 a1 = true) (
  let x2 : Nat := (M.2.2 3 x1 a1.toNatClampNeg)
  fi (fm_is M 95 95 x2 = true) (
  (f0 x2 M).bind fun r3 =>
  fi (fm_is r3.2 92 92 a0 = true) (
  let x4 : Nat := (r3.2.2.2 303 a0 0)
  fi (fm_is r3.2 910 990 x4 = true ∧ fm_in r3.2 x4 a1 = true) (
  let x5 : Nat := (r3.2.2.2 3 x4 a1.toNatClampNeg)
  fi (fm_is r3.2 94 94 x5 = true) (
  (f1 x5 (Int32.ofInt 0) r3.2).bind fun r6 =>
  fi ((lg_cmp r6.1 (Int64.ofInt 0)) = 0) (
    fi (fm_is r6.2 92 92 a0 = true) (
    g39 a0 a1 r3.1 a0 (r6.2.2.1 316 a0 0) r6.2) none) (
    fi (fm_is r6.2 92 92 a0 = true) (
    g39 a0 a1 r3.1 a0 ((r6.2.2.1 316 a0 0) + (Int64.ofInt 1)) r6.2) none)) none) none) none) none) none) none
noncomputable def FX92_check_0 (a0 : Nat) (a1 : Int32) (M : FM) : Option (FM) := BX92_check_0 FX100_mode FX98_get FX92_check_39 a0 a1 M
noncomputable def FX92_check (a0 : Nat) (a1 : Int32) (M : FM) : Option (FM) := FX92_check_0 a0 a1 M
/-! BoardMachineModel$Signals.pass(J)V -/
noncomputable def BX96_pass_0 (a0 : Nat) (a1 : Int64) (M : FM) : Option (FM) :=
  fi (fm_is M 99 99 a0 = true) (
  let M1 : FM := fm_sI M 394 a0 0 (Int32.ofInt 0)
  fi (fm_is M1 99 99 a0 = true) (
  fi (fm_is M1 99 99 a0 = true) (
  let M2 : FM := fm_sL M1 398 a0 0 ((M1.2.1 398 a0 0) + a1)
  some M2) none) none) none
noncomputable def FX96_pass_0 (a0 : Nat) (a1 : Int64) (M : FM) : Option (FM) := BX96_pass_0 a0 a1 M
noncomputable def FX96_pass (a0 : Nat) (a1 : Int64) (M : FM) : Option (FM) := FX96_pass_0 a0 a1 M
/-! BoardMachineModel$Signals.room()I -/
noncomputable def BX96_room_0 (f0 : Nat → FM → Option (Int32 × FM)) (a0 : Nat) (M : FM) : Option (Int32 × FM) :=
  fi (fm_is M 99 99 a0 = true) (
  let M1 : FM := fm_sI M 394 a0 0 (Int32.ofInt 0)
  fi (fm_is M1 99 99 a0 = true) (
  (f0 a0 M1).bind fun r2 =>
  some (r2.1, r2.2)) none) none
noncomputable def FX96_room_0 (a0 : Nat) (M : FM) : Option (Int32 × FM) := BX96_room_0 FX96_space a0 M
noncomputable def FX96_room (a0 : Nat) (M : FM) : Option (Int32 × FM) := FX96_room_0 a0 M
/-! BoardMachineModel$Signals.come(I)Z -/
noncomputable def BX96_come_0 (f0 : Nat → Int32 → FM → Option (Int32 × FM)) (f1 : Nat → FM → Option (FM)) (a0 : Nat) (a1 : Int32) (M : FM) : Option (Int32 × FM) :=
  fi (fm_is M 99 99 a0 = true) (
  let M1 : FM := fm_sI M 394 a0 0 (Int32.ofInt 0)
  fi (fm_is M1 99 99 a0 = true) (
  (f0 a0 a1 M1).bind fun r2 =>
  fi (fm_is r2.2 99 99 a0 = true) (
  (f1 a0 r2.2).bind fun M3 =>
  fi (r2.1 = 0 ∨ r2.1 = 1) (some (r2.1, M3)) none) none) none) none
noncomputable def FX96_come_0 (n : Nat) (a0 : Nat) (a1 : Int32) (M : FM) : Option (Int32 × FM) := BX96_come_0 FX96_takeIn (FX96_settle n) a0 a1 M
noncomputable def FX96_come (n : Nat) (a0 : Nat) (a1 : Int32) (M : FM) : Option (Int32 × FM) := FX96_come_0 n a0 a1 M
/-! BoardMachineModel.round()V -/
noncomputable def BX92_round_177 (M : FM) : Option (FM) :=
  some M
noncomputable def FX92_round_177 (n : Nat) (k2 : Nat → Int32 → FM → Option (FM)) (k45 : Nat → Int32 → FM → Option (FM)) (M : FM) : Option (FM) := BX92_round_177 M
noncomputable def BX92_round_151 (g177 : FM → Option (FM)) (a0 : Nat) (s0 : Nat) (s1 : Int64) (M : FM) : Option (FM) :=
  fi (fm_is M 92 92 s0 = true) (
  let M1 : FM := fm_sL M 316 s0 0 s1
  fi (fm_is M1 92 92 a0 = true) (
  let x2 : Int32 := ((M1.1 311 a0 0) + (Int32.ofInt 1))
  fi ((Int32.ofInt 65536) = 0) none (
  fi (fm_is M1 92 92 a0 = true) (
  let M3 : FM := fm_sI M1 311 a0 0 (x2 - x2 / (Int32.ofInt 65536) * (Int32.ofInt 65536))
  fi (fm_is M3 92 92 a0 = true) (
  fi (fm_is M3 92 92 a0 = true) (
  let M4 : FM := fm_sI M3 312 a0 0 ((M3.1 312 a0 0) - (Int32.ofInt 1))
  g177 M4) none) none) none)) none) none
noncomputable def FX92_round_151 (n : Nat) (k2 : Nat → Int32 → FM → Option (FM)) (k45 : Nat → Int32 → FM → Option (FM)) (a0 : Nat) (s0 : Nat) (s1 : Int64) (M : FM) : Option (FM) := BX92_round_151 (FX92_round_177 n k2 k45) a0 s0 s1 M
noncomputable def BX92_round_101 (f4 : Nat → FM → Option (Int32 × FM)) (f5 : Nat → Int32 → FM → Option (Int32 × FM)) (g151 : Nat → Nat → Int64 → FM → Option (FM)) (g177 : FM → Option (FM)) (a0 : Nat) (M : FM) : Option (FM) :=
  fi (fm_is M 92 92 a0 = true) (
  fi ((M.1 312 a0 0) ≤ 0) (
    g177 M) (
    fi (fm_is M 92 92 a0 = true) (
    let x1 : Nat := (M.2.2 301 a0 0)
    fi (fm_is M 99 99 x1 = true) (
    (f4 x1 M).bind fun r2 =>
    fi (r2.1 ≤ 0) (
      g177 r2.2) (
      fi (fm_is r2.2 92 92 a0 = true) (
      fi (fm_is r2.2 92 92 a0 = true) (
      fi (fm_is r2.2 92 92 a0 = true) (
      let x3 : Int32 := (r2.2.1 311 a0 0)
      let x4 : Nat := (r2.2.2.2 310 a0 0)
      fi (fm_is r2.2 901 901 x4 = true ∧ fm_in r2.2 x4 x3 = true) (
      let x5 : Nat := (r2.2.2.2 301 a0 0)
      fi (fm_is r2.2 99 99 x5 = true) (
      (f5 x5 (r2.2.1 3 x4 x3.toNatClampNeg) r2.2).bind fun r6 =>
      fi (r6.1 = 0) (
        fi (fm_is r6.2 92 92 a0 = true) (
        g151 a0 a0 ((r6.2.2.1 316 a0 0) + (Int64.ofInt 1)) r6.2) none) (
        fi (fm_is r6.2 92 92 a0 = true) (
        g151 a0 a0 (r6.2.2.1 316 a0 0) r6.2) none)) none) none) none) none) none)) none) none)) none
noncomputable def FX92_round_101 (n : Nat) (k2 : Nat → Int32 → FM → Option (FM)) (k45 : Nat → Int32 → FM → Option (FM)) (a0 : Nat) (M : FM) : Option (FM) := BX92_round_101 FX96_room (FX96_come n) (FX92_round_151 n k2 k45) (FX92_round_177 n k2 k45) a0 M
noncomputable def BX92_round_45 (f2 : Nat → Int64 → Int64 → FM → Option (FM)) (f3 : Nat → Int64 → FM → Option (FM)) (g101 : Nat → FM → Option (FM)) (k45 : Nat → Int32 → FM → Option (FM)) (a0 : Nat) (a1 : Int32) (M : FM) : Option (FM) :=
  fi (fm_is M 92 92 a0 = true) (
  fi ((M.1 297 a0 0) ≤ a1) (
    fi (fm_is M 92 92 a0 = true) (
    fi (fm_is M 92 92 a0 = true) (
    let M1 : FM := fm_sL M 314 a0 0 ((M.2.1 314 a0 0) + (Int64.ofInt 1))
    fi (fm_is M1 92 92 a0 = true) (
    let x2 : Int64 := (M1.2.1 314 a0 0)
    fi ((Int64.ofInt 10) = 0) none (
    fi ((lg_cmp (x2 - x2 / (Int64.ofInt 10) * (Int64.ofInt 10)) (Int64.ofInt 0)) = 0) (
      fi (fm_is M1 92 92 a0 = true) (
      let x3 : Nat := (M1.2.2 301 a0 0)
      fi (fm_is M1 99 99 x3 = true) (
      (f3 x3 (Int64.ofInt 1) M1).bind fun M4 =>
      g101 a0 M4) none) none) (
      g101 a0 M1))) none) none) none) (
    fi (fm_is M 92 92 a0 = true) (
    let x5 : Nat := (M.2.2 305 a0 0)
    fi (fm_is M 910 990 x5 = true ∧ fm_in M x5 a1 = true) (
    let x6 : Nat := (M.2.2 3 x5 a1.toNatClampNeg)
    fi (fm_is M 95 95 x6 = true) (
    (f2 x6 (Int64.ofInt 1) (Int64.ofInt 0) M).bind fun M7 =>
    let x8 : Int32 := a1 + (Int32.ofInt 1)
    k45 a0 x8 M7) none) none) none)) none
noncomputable def FX92_round_45 (n : Nat) (k2 : Nat → Int32 → FM → Option (FM)) (k45 : Nat → Int32 → FM → Option (FM)) (a0 : Nat) (a1 : Int32) (M : FM) : Option (FM) := BX92_round_45 FX100_count FX96_pass (FX92_round_101 n k2 k45) k45 a0 a1 M
noncomputable def BX92_round_34 (k45 : Nat → Int32 → FM → Option (FM)) (a0 : Nat) (M : FM) : Option (FM) :=
  fi (fm_is M 92 92 a0 = true) (
  fi ((M.1 315 a0 0) = (Int32.ofInt (-1))) (
    k45 a0 (Int32.ofInt 0) M) (
    some M)) none
noncomputable def FX92_round_34 (n : Nat) (k2 : Nat → Int32 → FM → Option (FM)) (k45 : Nat → Int32 → FM → Option (FM)) (a0 : Nat) (M : FM) : Option (FM) := BX92_round_34 k45 a0 M
noncomputable def BX92_round_2 (f0 : Nat → Int32 → FM → Option (FM)) (f1 : Nat → Int32 → FM → Option (FM)) (g34 : Nat → FM → Option (FM)) (k2 : Nat → Int32 → FM → Option (FM)) (a0 : Nat) (a1 : Int32) (M : FM) : Option (FM) :=
  fi (fm_is M 92 92 a0 = true) (
  fi ((M.1 297 a0 0) ≤ a1) (
    g34 a0 M) (
    fi (fm_is M 92 92 a0 = true) (
    fi ((M.1 315 a0 0) = (Int32.ofInt (-1))) (
      fi (fm_is M 92 92 a0 = true) (
      (f0 a0 a1 M).bind fun M1 =>
      fi (fm_is M1 92 92 a0 = true) (
      (f1 a0 a1 M1).bind fun M2 =>
      let x3 : Int32 := a1 + (Int32.ofInt 1)
      k2 a0 x3 M2) none) none) (
      g34 a0 M)) none)) none
noncomputable def FX92_round_2 (n : Nat) (k2 : Nat → Int32 → FM → Option (FM)) (k45 : Nat → Int32 → FM → Option (FM)) (a0 : Nat) (a1 : Int32) (M : FM) : Option (FM) := BX92_round_2 (FX92_step n) FX92_check (FX92_round_34 n k2 k45) k2 a0 a1 M
noncomputable def BX92_round_0 (k2 : Nat → Int32 → FM → Option (FM)) (a0 : Nat) (M : FM) : Option (FM) :=
  k2 a0 (Int32.ofInt 0) M
noncomputable def FX92_round_0 (n : Nat) (k2 : Nat → Int32 → FM → Option (FM)) (k45 : Nat → Int32 → FM → Option (FM)) (a0 : Nat) (M : FM) : Option (FM) := BX92_round_0 k2 a0 M
noncomputable def FX92_round_L (n : Nat) : Nat → (Nat → Int32 → FM → Option (FM)) × (Nat → Int32 → FM → Option (FM))
  | 0 => (fun _ _ _ => none, fun _ _ _ => none)
  | j + 1 => (FX92_round_2 n (FX92_round_L n j).1 (FX92_round_L n j).2, FX92_round_45 n (FX92_round_L n j).1 (FX92_round_L n j).2)
noncomputable def FX92_round (n : Nat) (a0 : Nat) (M : FM) : Option (FM) := FX92_round_0 n (FX92_round_L n n).1 (FX92_round_L n n).2 a0 M
/-! BoardMachineModel.run(I)I -/
noncomputable def BX92_run_52 (a2 : Int32) (M : FM) : Option (Int32 × FM) :=
  some (a2, M)
noncomputable def FX92_run_52 (n : Nat) (k22 : Nat → Int32 → Int32 → FM → Option (Int32 × FM)) (a2 : Int32) (M : FM) : Option (Int32 × FM) := BX92_run_52 a2 M
noncomputable def BX92_run_22 (f0 : Nat → FM → Option (FM)) (g52 : Int32 → FM → Option (Int32 × FM)) (k22 : Nat → Int32 → Int32 → FM → Option (Int32 × FM)) (a0 : Nat) (a1 : Int32) (a2 : Int32) (M : FM) : Option (Int32 × FM) :=
  fi (fm_is M 92 92 a0 = true) (
  fi ((M.1 296 a0 0) = 0) (
    fi (a1 ≤ a2) (
      g52 a2 M) (
      fi (fm_is M 92 92 a0 = true) (
      fi ((M.1 315 a0 0) = (Int32.ofInt (-1))) (
        fi (fm_is M 92 92 a0 = true) (
        (f0 a0 M).bind fun M1 =>
        let x2 : Int32 := a2 + (Int32.ofInt 1)
        k22 a0 a1 x2 M1) none) (
        g52 a2 M)) none)) (
    g52 a2 M)) none
noncomputable def FX92_run_22 (n : Nat) (k22 : Nat → Int32 → Int32 → FM → Option (Int32 × FM)) (a0 : Nat) (a1 : Int32) (a2 : Int32) (M : FM) : Option (Int32 × FM) := BX92_run_22 (FX92_round n) (FX92_run_52 n k22) k22 a0 a1 a2 M
noncomputable def BX92_run_17 (k22 : Nat → Int32 → Int32 → FM → Option (Int32 × FM)) (a0 : Nat) (a1 : Int32) (s0 : Nat) (s1 : Int32) (M : FM) : Option (Int32 × FM) :=
  fi (fm_is M 92 92 s0 = true) (
  let M1 : FM := fm_sI M 296 s0 0 s1
  k22 a0 a1 (Int32.ofInt 0) M1) none
noncomputable def FX92_run_17 (n : Nat) (k22 : Nat → Int32 → Int32 → FM → Option (Int32 × FM)) (a0 : Nat) (a1 : Int32) (s0 : Nat) (s1 : Int32) (M : FM) : Option (Int32 × FM) := BX92_run_17 k22 a0 a1 s0 s1 M
noncomputable def BX92_run_12 (g17 : Nat → Int32 → Nat → Int32 → FM → Option (Int32 × FM)) (a0 : Nat) (a1 : Int32) (s0 : Nat) (M : FM) : Option (Int32 × FM) :=
  g17 a0 a1 s0 (Int32.ofInt 1) M
noncomputable def FX92_run_12 (n : Nat) (k22 : Nat → Int32 → Int32 → FM → Option (Int32 × FM)) (a0 : Nat) (a1 : Int32) (s0 : Nat) (M : FM) : Option (Int32 × FM) := BX92_run_12 (FX92_run_17 n k22) a0 a1 s0 M
noncomputable def BX92_run_0 (g12 : Nat → Int32 → Nat → FM → Option (Int32 × FM)) (g17 : Nat → Int32 → Nat → Int32 → FM → Option (Int32 × FM)) (a0 : Nat) (a1 : Int32) (M : FM) : Option (Int32 × FM) :=
  fi (a1 < 0) (
    g12 a0 a1 a0 M) (
    fi (a1 ≤ (Int32.ofInt 10000)) (
      g17 a0 a1 a0 (Int32.ofInt 0) M) (
      g12 a0 a1 a0 M))
noncomputable def FX92_run_0 (n : Nat) (k22 : Nat → Int32 → Int32 → FM → Option (Int32 × FM)) (a0 : Nat) (a1 : Int32) (M : FM) : Option (Int32 × FM) := BX92_run_0 (FX92_run_12 n k22) (FX92_run_17 n k22) a0 a1 M
noncomputable def FX92_run_L22 (n : Nat) : Nat → Nat → Int32 → Int32 → FM → Option (Int32 × FM)
  | 0 => fun _ _ _ _ => none
  | j + 1 => FX92_run_22 n (FX92_run_L22 n j)
noncomputable def FX92_run (n : Nat) (a0 : Nat) (a1 : Int32) (M : FM) : Option (Int32 × FM) := FX92_run_0 n (FX92_run_L22 n n) a0 a1 M
/-! BoardMachineModel.isNone(I)Z -/
noncomputable def BX92_isNone_33 (s0 : Int32) (M : FM) : Option (Int32 × FM) :=
  fi (s0 = 0 ∨ s0 = 1) (some (s0, M)) none
noncomputable def FX92_isNone_33 (s0 : Int32) (M : FM) : Option (Int32 × FM) := BX92_isNone_33 s0 M
noncomputable def BX92_isNone_18 (g33 : Int32 → FM → Option (Int32 × FM)) (a0 : Nat) (s0 : Nat) (s1 : Int32) (M : FM) : Option (Int32 × FM) :=
  fi (fm_is M 92 92 s0 = true) (
  let M1 : FM := fm_sI M 296 s0 0 s1
  fi (fm_is M1 92 92 a0 = true) (
  fi ((M1.1 296 a0 0) ≤ 0) (
    g33 (Int32.ofInt 0) M1) (
    g33 (Int32.ofInt 1) M1)) none) none
noncomputable def FX92_isNone_18 (a0 : Nat) (s0 : Nat) (s1 : Int32) (M : FM) : Option (Int32 × FM) := BX92_isNone_18 FX92_isNone_33 a0 s0 s1 M
noncomputable def BX92_isNone_13 (g18 : Nat → Nat → Int32 → FM → Option (Int32 × FM)) (a0 : Nat) (s0 : Nat) (M : FM) : Option (Int32 × FM) :=
  g18 a0 s0 (Int32.ofInt 1) M
noncomputable def FX92_isNone_13 (a0 : Nat) (s0 : Nat) (M : FM) : Option (Int32 × FM) := BX92_isNone_13 FX92_isNone_18 a0 s0 M
noncomputable def BX92_isNone_0 (g13 : Nat → Nat → FM → Option (Int32 × FM)) (g18 : Nat → Nat → Int32 → FM → Option (Int32 × FM)) (a0 : Nat) (a1 : Int32) (M : FM) : Option (Int32 × FM) :=
  fi (a1 < 0) (
    g13 a0 a0 M) (
    fi (fm_is M 92 92 a0 = true) (
    fi (a1 < (M.1 297 a0 0)) (
      g18 a0 a0 (Int32.ofInt 0) M) (
      g13 a0 a0 M)) none)
noncomputable def FX92_isNone_0 (a0 : Nat) (a1 : Int32) (M : FM) : Option (Int32 × FM) := BX92_isNone_0 FX92_isNone_13 FX92_isNone_18 a0 a1 M
noncomputable def FX92_isNone (a0 : Nat) (a1 : Int32) (M : FM) : Option (Int32 × FM) := FX92_isNone_0 a0 a1 M
/-! BoardMachineModel.counter(I)J -/
noncomputable def BX92_counter_21 (s0 : Int64) (M : FM) : Option (Int64 × FM) :=
  some (s0, M)
noncomputable def FX92_counter_21 (s0 : Int64) (M : FM) : Option (Int64 × FM) := BX92_counter_21 s0 M
noncomputable def BX92_counter_0 (f0 : Nat → Int32 → FM → Option (Int32 × FM)) (f1 : Nat → FM → Option (Int64 × FM)) (g21 : Int64 → FM → Option (Int64 × FM)) (a0 : Nat) (a1 : Int32) (M : FM) : Option (Int64 × FM) :=
  fi (fm_is M 92 92 a0 = true) (
  (f0 a0 a1 M).bind fun r1 =>
  fi (r1.1 = 0) (
    fi (fm_is r1.2 92 92 a0 = true) (
    let x2 : Nat := (r1.2.2.2 303 a0 0)
    fi (fm_is r1.2 910 990 x2 = true ∧ fm_in r1.2 x2 a1 = true) (
    let x3 : Nat := (r1.2.2.2 3 x2 a1.toNatClampNeg)
    fi (fm_is r1.2 94 94 x3 = true) (
    (f1 x3 r1.2).bind fun r4 =>
    g21 r4.1 r4.2) none) none) none) (
    g21 (Int64.ofInt 0) r1.2)) none
noncomputable def FX92_counter_0 (a0 : Nat) (a1 : Int32) (M : FM) : Option (Int64 × FM) := BX92_counter_0 FX92_isNone FX98_counter FX92_counter_21 a0 a1 M
noncomputable def FX92_counter (a0 : Nat) (a1 : Int32) (M : FM) : Option (Int64 × FM) := FX92_counter_0 a0 a1 M
/-! BoardMachineModel.mode(I)I -/
noncomputable def BX92_mode_36 (s0 : Int32) (M : FM) : Option (Int32 × FM) :=
  some (s0, M)
noncomputable def FX92_mode_36 (s0 : Int32) (M : FM) : Option (Int32 × FM) := BX92_mode_36 s0 M
noncomputable def BX92_mode_35 (g36 : Int32 → FM → Option (Int32 × FM)) (s0 : Int32) (s1 : Int32) (M : FM) : Option (Int32 × FM) :=
  g36 (s0 + s1) M
noncomputable def FX92_mode_35 (s0 : Int32) (s1 : Int32) (M : FM) : Option (Int32 × FM) := BX92_mode_35 FX92_mode_36 s0 s1 M
noncomputable def BX92_mode_0 (f0 : Nat → Int32 → FM → Option (Int32 × FM)) (f1 : Nat → FM → Option (Int32 × FM)) (g35 : Int32 → Int32 → FM → Option (Int32 × FM)) (g36 : Int32 → FM → Option (Int32 × FM)) (a0 : Nat) (a1 : Int32) (M : FM) : Option (Int32 × FM) :=
  fi (fm_is M 92 92 a0 = true) (
  (f0 a0 a1 M).bind fun r1 =>
  fi (r1.1 = 0) (
    fi (fm_is r1.2 92 92 a0 = true) (
    let x2 : Nat := (r1.2.2.2 305 a0 0)
    fi (fm_is r1.2 910 990 x2 = true ∧ fm_in r1.2 x2 a1 = true) (
    let x3 : Nat := (r1.2.2.2 3 x2 a1.toNatClampNeg)
    fi (fm_is r1.2 95 95 x3 = true) (
    (f1 x3 r1.2).bind fun r4 =>
    fi (fm_is r4.2 92 92 a0 = true) (
    let x5 : Nat := (r4.2.2.2 307 a0 0)
    fi (fm_is r4.2 904 904 x5 = true ∧ fm_in r4.2 x5 a1 = true) (
    fi ((r4.2.1 3 x5 a1.toNatClampNeg) = 0) (
      g35 r4.1 (Int32.ofInt 0) r4.2) (
      g35 r4.1 (Int32.ofInt 4) r4.2)) none) none) none) none) none) (
    g36 (Int32.ofInt 0) r1.2)) none
noncomputable def FX92_mode_0 (a0 : Nat) (a1 : Int32) (M : FM) : Option (Int32 × FM) := BX92_mode_0 FX92_isNone FX100_mode FX92_mode_35 FX92_mode_36 a0 a1 M
noncomputable def FX92_mode (a0 : Nat) (a1 : Int32) (M : FM) : Option (Int32 × FM) := FX92_mode_0 a0 a1 M
/-! BoardMachineModel$Block.noPlace(I)Z -/
noncomputable def BX95_noPlace_37 (s0 : Int32) (M : FM) : Option (Int32 × FM) :=
  fi (s0 = 0 ∨ s0 = 1) (some (s0, M)) none
noncomputable def FX95_noPlace_37 (s0 : Int32) (M : FM) : Option (Int32 × FM) := BX95_noPlace_37 s0 M
noncomputable def BX95_noPlace_22 (g37 : Int32 → FM → Option (Int32 × FM)) (a0 : Nat) (s0 : Nat) (s1 : Int32) (M : FM) : Option (Int32 × FM) :=
  fi (fm_is M 93 93 s0 = true) (
  let M1 : FM := fm_sI M 324 s0 0 s1
  fi (fm_is M1 93 93 a0 = true) (
  fi ((M1.1 324 a0 0) ≤ 0) (
    g37 (Int32.ofInt 0) M1) (
    g37 (Int32.ofInt 1) M1)) none) none
noncomputable def FX95_noPlace_22 (a0 : Nat) (s0 : Nat) (s1 : Int32) (M : FM) : Option (Int32 × FM) := BX95_noPlace_22 FX95_noPlace_37 a0 s0 s1 M
noncomputable def BX95_noPlace_17 (g22 : Nat → Nat → Int32 → FM → Option (Int32 × FM)) (a0 : Nat) (s0 : Nat) (M : FM) : Option (Int32 × FM) :=
  g22 a0 s0 (Int32.ofInt 1) M
noncomputable def FX95_noPlace_17 (a0 : Nat) (s0 : Nat) (M : FM) : Option (Int32 × FM) := BX95_noPlace_17 FX95_noPlace_22 a0 s0 M
noncomputable def BX95_noPlace_0 (g17 : Nat → Nat → FM → Option (Int32 × FM)) (g22 : Nat → Nat → Int32 → FM → Option (Int32 × FM)) (a0 : Nat) (a1 : Int32) (M : FM) : Option (Int32 × FM) :=
  fi (a1 < 0) (
    g17 a0 a0 M) (
    fi (fm_is M 93 93 a0 = true) (
    fi (a1 < ((Int32.ofInt 512) * (M.1 325 a0 0))) (
      g22 a0 a0 (Int32.ofInt 0) M) (
      g17 a0 a0 M)) none)
noncomputable def FX95_noPlace_0 (a0 : Nat) (a1 : Int32) (M : FM) : Option (Int32 × FM) := BX95_noPlace_0 FX95_noPlace_17 FX95_noPlace_22 a0 a1 M
noncomputable def FX95_noPlace (a0 : Nat) (a1 : Int32) (M : FM) : Option (Int32 × FM) := FX95_noPlace_0 a0 a1 M
/-! BoardMachineModel$Block.disk(I)I -/
noncomputable def BX95_disk_20 (s0 : Int32) (M : FM) : Option (Int32 × FM) :=
  some (s0, M)
noncomputable def FX95_disk_20 (s0 : Int32) (M : FM) : Option (Int32 × FM) := BX95_disk_20 s0 M
noncomputable def BX95_disk_0 (f0 : Nat → Int32 → FM → Option (Int32 × FM)) (f1 : Nat → Int32 → FM → Option (Int32 × FM)) (g20 : Int32 → FM → Option (Int32 × FM)) (a0 : Nat) (a1 : Int32) (M : FM) : Option (Int32 × FM) :=
  fi (fm_is M 93 93 a0 = true) (
  (f0 a0 a1 M).bind fun r1 =>
  fi (r1.1 = 0) (
    fi (fm_is r1.2 93 93 a0 = true) (
    (f1 (r1.2.2.2 327 a0 0) a1 r1.2).bind fun r2 =>
    g20 r2.1 r2.2) none) (
    g20 (Int32.ofInt 0) r1.2)) none
noncomputable def FX95_disk_0 (a0 : Nat) (a1 : Int32) (M : FM) : Option (Int32 × FM) := BX95_disk_0 FX95_noPlace FX95_byteOf FX95_disk_20 a0 a1 M
noncomputable def FX95_disk (a0 : Nat) (a1 : Int32) (M : FM) : Option (Int32 × FM) := FX95_disk_0 a0 a1 M
/-! BoardMachineModel$Block.thrown()I -/
noncomputable def BX95_thrown_0 (a0 : Nat) (M : FM) : Option (Int32 × FM) :=
  fi (fm_is M 93 93 a0 = true) (
  some ((M.1 324 a0 0), M)) none
noncomputable def FX95_thrown_0 (a0 : Nat) (M : FM) : Option (Int32 × FM) := BX95_thrown_0 a0 M
noncomputable def FX95_thrown (a0 : Nat) (M : FM) : Option (Int32 × FM) := FX95_thrown_0 a0 M
/-! BoardMachineModel.disk(I)I -/
noncomputable def BX92_disk_0 (f0 : Nat → Int32 → FM → Option (Int32 × FM)) (f1 : Nat → FM → Option (Int32 × FM)) (a0 : Nat) (a1 : Int32) (M : FM) : Option (Int32 × FM) :=
  fi (fm_is M 92 92 a0 = true) (
  let x1 : Nat := (M.2.2 300 a0 0)
  fi (fm_is M 93 93 x1 = true) (
  (f0 x1 a1 M).bind fun r2 =>
  fi (fm_is r2.2 92 92 a0 = true) (
  let x3 : Nat := (r2.2.2.2 300 a0 0)
  fi (fm_is r2.2 93 93 x3 = true) (
  (f1 x3 r2.2).bind fun r4 =>
  fi (fm_is r4.2 92 92 a0 = true) (
  let M5 : FM := fm_sI r4.2 296 a0 0 r4.1
  some (r2.1, M5)) none) none) none) none) none
noncomputable def FX92_disk_0 (a0 : Nat) (a1 : Int32) (M : FM) : Option (Int32 × FM) := BX92_disk_0 FX95_disk FX95_thrown a0 a1 M
noncomputable def FX92_disk (a0 : Nat) (a1 : Int32) (M : FM) : Option (Int32 × FM) := FX92_disk_0 a0 a1 M
/-! BoardMachineModel.thrown()I -/
noncomputable def BX92_thrown_0 (a0 : Nat) (M : FM) : Option (Int32 × FM) :=
  fi (fm_is M 92 92 a0 = true) (
  some ((M.1 296 a0 0), M)) none
noncomputable def FX92_thrown_0 (a0 : Nat) (M : FM) : Option (Int32 × FM) := BX92_thrown_0 a0 M
noncomputable def FX92_thrown (a0 : Nat) (M : FM) : Option (Int32 × FM) := FX92_thrown_0 a0 M
/-! BoardMachine$Signals$Serial.outAt(J)I -/
noncomputable def BX31_outAt_47 (s0 : Int32) (M : FM) : Option (Int32 × FM) :=
  some (s0, M)
noncomputable def FX31_outAt_47 (s0 : Int32) (M : FM) : Option (Int32 × FM) := BX31_outAt_47 s0 M
noncomputable def BX31_outAt_28 (g47 : Int32 → FM → Option (Int32 × FM)) (M : FM) : Option (Int32 × FM) :=
  g47 (Int32.ofInt (-1)) M
noncomputable def FX31_outAt_28 (M : FM) : Option (Int32 × FM) := BX31_outAt_28 FX31_outAt_47 M
noncomputable def BX31_outAt_0 (g28 : FM → Option (Int32 × FM)) (g47 : Int32 → FM → Option (Int32 × FM)) (a0 : Nat) (a1 : Int64) (M : FM) : Option (Int32 × FM) :=
  fi ((lg_cmp a1 (Int64.ofInt 0)) < 0) (
    g28 M) (
    fi (fm_is M 78 78 a0 = true) (
    fi (0 ≤ (lg_cmp a1 (M.2.1 234 a0 0))) (
      g28 M) (
      fi (fm_is M 78 78 a0 = true) (
      fi (0 ≤ (lg_cmp a1 ((M.2.1 234 a0 0) - (Int64.ofInt 4096)))) (
        fi (fm_is M 78 78 a0 = true) (
        fi ((Int64.ofInt 4096) = 0) none (
        let x1 : Int32 := (a1 - a1 / (Int64.ofInt 4096) * (Int64.ofInt 4096)).toInt32
        let x2 : Nat := (M.2.2 233 a0 0)
        fi (fm_is M 903 903 x2 = true ∧ fm_in M x2 x1 = true) (
        g47 ((M.1 3 x2 x1.toNatClampNeg) &&& (Int32.ofInt 255)) M) none)) none) (
        g28 M)) none)) none)
noncomputable def FX31_outAt_0 (a0 : Nat) (a1 : Int64) (M : FM) : Option (Int32 × FM) := BX31_outAt_0 FX31_outAt_28 FX31_outAt_47 a0 a1 M
noncomputable def FX31_outAt (a0 : Nat) (a1 : Int64) (M : FM) : Option (Int32 × FM) := FX31_outAt_0 a0 a1 M
/-! BoardMachine.out(J)I -/
noncomputable def BX1_out_0 (f0 : Nat → Int64 → FM → Option (Int32 × FM)) (a0 : Nat) (a1 : Int64) (M : FM) : Option (Int32 × FM) :=
  fi (fm_is M 10 10 a0 = true) (
  let x1 : Nat := (M.2.2 17 a0 0)
  fi (fm_is M 67 67 x1 = true) (
  let x2 : Nat := (M.2.2 189 x1 0)
  fi (fm_is M 11 11 x2 = true) (
  let x3 : Nat := (M.2.2 19 x2 0)
  fi (fm_is M 79 79 x3 = true) (
  let x4 : Nat := (M.2.2 242 x3 0)
  fi (fm_is M 78 78 x4 = true) (
  (f0 x4 a1 M).bind fun r5 =>
  some (r5.1, r5.2)) none) none) none) none) none
noncomputable def FX1_out_0 (a0 : Nat) (a1 : Int64) (M : FM) : Option (Int32 × FM) := BX1_out_0 FX31_outAt a0 a1 M
noncomputable def FX1_out (a0 : Nat) (a1 : Int64) (M : FM) : Option (Int32 × FM) := FX1_out_0 a0 a1 M
/-! BoardMachine.word(J)J -/
noncomputable def BX1_word_0 (f0 : Nat → Int64 → Int64 → FM → Option (Int32 × FM)) (f1 : Int32 → FM → Option (FM)) (f2 : Nat → Int64 → Int32 → FM → Option (Int64 × FM)) (a0 : Nat) (a1 : Int64) (M : FM) : Option (Int64 × FM) :=
  fi (fm_is M 10 10 a0 = true) (
  let x1 : Nat := (M.2.2 17 a0 0)
  fi (fm_is M 67 67 x1 = true) (
  let x2 : Nat := (M.2.2 189 x1 0)
  fi (fm_is M 11 11 x2 = true) (
  let x3 : Nat := (M.2.2 18 x2 0)
  fi (fm_is M 73 73 x3 = true) (
  (f0 x3 a1 (Int64.ofInt 8) M).bind fun r4 =>
  (f1 r4.1 r4.2).bind fun M5 =>
  fi (fm_is M5 10 10 a0 = true) (
  let x6 : Nat := (M5.2.2 17 a0 0)
  fi (fm_is M5 67 67 x6 = true) (
  let x7 : Nat := (M5.2.2 189 x6 0)
  fi (fm_is M5 11 11 x7 = true) (
  let x8 : Nat := (M5.2.2 18 x7 0)
  fi (fm_is M5 73 73 x8 = true) (
  (f2 x8 a1 (Int32.ofInt 8) M5).bind fun r9 =>
  some (r9.1, r9.2)) none) none) none) none) none) none) none) none
noncomputable def FX1_word_0 (a0 : Nat) (a1 : Int64) (M : FM) : Option (Int64 × FM) := BX1_word_0 FX11_has FX1_there FX11_load a0 a1 M
noncomputable def FX1_word (a0 : Nat) (a1 : Int64) (M : FM) : Option (Int64 × FM) := FX1_word_0 a0 a1 M
noncomputable def TX1_word (n : Nat) (a0 : Nat) (a1 : Int64) (M : FM) : Option (Nat × FM) :=
  fi (fm_is M 10 10 a0 = true) (
  let x1 : Nat := (M.2.2 17 a0 0)
  fi (fm_is M 67 67 x1 = true) (
  let x2 : Nat := (M.2.2 189 x1 0)
  fi (fm_is M 11 11 x2 = true) (
  let x3 : Nat := (M.2.2 18 x2 0)
  fi (fm_is M 73 73 x3 = true) (
  (FX11_has x3 a1 (Int64.ofInt 8) M).bind fun r4 =>
  (TX1_there n r4.1 r4.2).or ((FX1_there r4.1 r4.2).bind fun M5 =>
  none)) none) none) none) none
/-! BoardMachineLaw.word(LBoardMachine;J[J)I -/
noncomputable def BX0_word_0 (f0 : Nat → Int64 → FM → Option (Int64 × FM)) (a0 : Nat) (a1 : Int64) (a3 : Nat) (M : FM) : Option (Int32 × FM) :=
  fi (fm_is M 10 10 a0 = true) (
  (f0 a0 a1 M).bind fun r1 =>
  fi (fm_is r1.2 902 902 a3 = true ∧ fm_in r1.2 a3 (Int32.ofInt 0) = true) (
  let M2 : FM := fm_sL r1.2 3 a3 (Int32.ofInt 0).toNatClampNeg r1.1
  some ((Int32.ofInt 0), M2)) none) none
noncomputable def FX0_word_0 (a0 : Nat) (a1 : Int64) (a3 : Nat) (M : FM) : Option (Int32 × FM) := BX0_word_0 FX1_word a0 a1 a3 M
noncomputable def FX0_word (a0 : Nat) (a1 : Int64) (a3 : Nat) (M : FM) : Option (Int32 × FM) := FX0_word_0 a0 a1 a3 M
noncomputable def Fh_law_word (n : Nat) (a0 : Nat) (a1 : Int64) (a3 : Nat) (M : FM) : Option (Int32 × FM) := (FX0_word a0 a1 a3 M).or ((TX1_word n a0 a1 M).bind fun q => fi (q.1 = 104) (some ((Int32.ofInt 1), q.2)) none)
/-! BoardMachine$Loader.number(JI)J -/
noncomputable def BX90_number_8 (f0 : Nat → Int32 → FM → Option (Int32 × FM)) (k8 : Nat → Int64 → Int64 → Int32 → FM → Option (Int64 × FM)) (a0 : Nat) (a1 : Int64) (a4 : Int64) (a6 : Int32) (M : FM) : Option (Int64 × FM) :=
  fi (a6 < 0) (
    some (a4, M)) (
    fi (fm_is M 66 66 a0 = true) (
    let x1 : Nat := (M.2.2 186 a0 0)
    fi (fm_is M 86 86 x1 = true) (
    (f0 x1 (a1.toInt32 + a6) M).bind fun r2 =>
    let x3 : Int64 := ((a4 <<< ((Int32.ofInt 8).toInt64 &&& 63)) ||| r2.1.toInt64)
    let x4 : Int32 := a6 + (Int32.ofInt (-1))
    k8 a0 a1 x3 x4 r2.2) none) none)
noncomputable def FX90_number_8 (n : Nat) (k8 : Nat → Int64 → Int64 → Int32 → FM → Option (Int64 × FM)) (a0 : Nat) (a1 : Int64) (a4 : Int64) (a6 : Int32) (M : FM) : Option (Int64 × FM) := BX90_number_8 FX3_get k8 a0 a1 a4 a6 M
noncomputable def BX90_number_0 (k8 : Nat → Int64 → Int64 → Int32 → FM → Option (Int64 × FM)) (a0 : Nat) (a1 : Int64) (a3 : Int32) (M : FM) : Option (Int64 × FM) :=
  let x1 : Int32 := (a3 - (Int32.ofInt 1))
  k8 a0 a1 (Int64.ofInt 0) x1 M
noncomputable def FX90_number_0 (n : Nat) (k8 : Nat → Int64 → Int64 → Int32 → FM → Option (Int64 × FM)) (a0 : Nat) (a1 : Int64) (a3 : Int32) (M : FM) : Option (Int64 × FM) := BX90_number_0 k8 a0 a1 a3 M
noncomputable def FX90_number_L8 (n : Nat) : Nat → Nat → Int64 → Int64 → Int32 → FM → Option (Int64 × FM)
  | 0 => fun _ _ _ _ _ => none
  | j + 1 => FX90_number_8 n (FX90_number_L8 n j)
noncomputable def FX90_number (n : Nat) (a0 : Nat) (a1 : Int64) (a3 : Int32) (M : FM) : Option (Int64 × FM) := FX90_number_0 n (FX90_number_L8 n n) a0 a1 a3 M
/-! BoardMachine$Loader.begins()Z -/
noncomputable def BX90_begins_19 (s0 : Int32) (M : FM) : Option (Int32 × FM) :=
  fi (s0 = 0 ∨ s0 = 1) (some (s0, M)) none
noncomputable def FX90_begins_19 (n : Nat) (s0 : Int32) (M : FM) : Option (Int32 × FM) := BX90_begins_19 s0 M
noncomputable def BX90_begins_0 (f0 : Nat → Int64 → Int32 → FM → Option (Int64 × FM)) (g19 : Int32 → FM → Option (Int32 × FM)) (a0 : Nat) (M : FM) : Option (Int32 × FM) :=
  fi (fm_is M 66 66 a0 = true) (
  (f0 a0 (Int64.ofInt 0) (Int32.ofInt 7) M).bind fun r1 =>
  fi ((lg_cmp r1.1 (Int64.ofInt 282584257676671)) = 0) (
    g19 (Int32.ofInt 1) r1.2) (
    g19 (Int32.ofInt 0) r1.2)) none
noncomputable def FX90_begins_0 (n : Nat) (a0 : Nat) (M : FM) : Option (Int32 × FM) := BX90_begins_0 (FX90_number n) (FX90_begins_19 n ) a0 M
noncomputable def FX90_begins (n : Nat) (a0 : Nat) (M : FM) : Option (Int32 × FM) := FX90_begins_0 n a0 M
/-! BoardMachine$Loader.fits(JJJ)Z -/
noncomputable def BX90_fits_33 (s0 : Int32) (M : FM) : Option (Int32 × FM) :=
  fi (s0 = 0 ∨ s0 = 1) (some (s0, M)) none
noncomputable def FX90_fits_33 (s0 : Int32) (M : FM) : Option (Int32 × FM) := BX90_fits_33 s0 M
noncomputable def BX90_fits_32 (g33 : Int32 → FM → Option (Int32 × FM)) (M : FM) : Option (Int32 × FM) :=
  g33 (Int32.ofInt 0) M
noncomputable def FX90_fits_32 (M : FM) : Option (Int32 × FM) := BX90_fits_32 FX90_fits_33 M
noncomputable def BX90_fits_0 (g32 : FM → Option (Int32 × FM)) (g33 : Int32 → FM → Option (Int32 × FM)) (a0 : Int64) (a2 : Int64) (a4 : Int64) (M : FM) : Option (Int32 × FM) :=
  fi ((lg_cmp a0 (Int64.ofInt 0)) < 0) (
    g32 M) (
    fi (0 < (lg_cmp a0 a4)) (
      g32 M) (
      fi ((lg_cmp a2 (Int64.ofInt 0)) < 0) (
        g32 M) (
        fi (0 < (lg_cmp a2 (a4 - a0))) (
          g32 M) (
          g33 (Int32.ofInt 1) M))))
noncomputable def FX90_fits_0 (a0 : Int64) (a2 : Int64) (a4 : Int64) (M : FM) : Option (Int32 × FM) := BX90_fits_0 FX90_fits_32 FX90_fits_33 a0 a2 a4 M
noncomputable def FX90_fits (a0 : Int64) (a2 : Int64) (a4 : Int64) (M : FM) : Option (Int32 × FM) := FX90_fits_0 a0 a2 a4 M
/-! BoardMachine$Loader.isSegment(JI)Z -/
noncomputable def BX90_isSegment_22 (s0 : Int32) (M : FM) : Option (Int32 × FM) :=
  fi (s0 = 0 ∨ s0 = 1) (some (s0, M)) none
noncomputable def FX90_isSegment_22 (n : Nat) (s0 : Int32) (M : FM) : Option (Int32 × FM) := BX90_isSegment_22 s0 M
noncomputable def BX90_isSegment_0 (f0 : Nat → Int64 → Int32 → FM → Option (Int64 × FM)) (g22 : Int32 → FM → Option (Int32 × FM)) (a0 : Nat) (a1 : Int64) (a3 : Int32) (M : FM) : Option (Int32 × FM) :=
  fi (fm_is M 66 66 a0 = true) (
  (f0 a0 (a1 + ((Int32.ofInt 56) * a3).toInt64) (Int32.ofInt 4) M).bind fun r1 =>
  fi ((lg_cmp r1.1 (Int64.ofInt 1)) = 0) (
    g22 (Int32.ofInt 1) r1.2) (
    g22 (Int32.ofInt 0) r1.2)) none
noncomputable def FX90_isSegment_0 (n : Nat) (a0 : Nat) (a1 : Int64) (a3 : Int32) (M : FM) : Option (Int32 × FM) := BX90_isSegment_0 (FX90_number n) (FX90_isSegment_22 n ) a0 a1 a3 M
noncomputable def FX90_isSegment (n : Nat) (a0 : Nat) (a1 : Int64) (a3 : Int32) (M : FM) : Option (Int32 × FM) := FX90_isSegment_0 n a0 a1 a3 M
/-! BoardMachine$Loader.meets(JII)Z -/
noncomputable def BX90_meets_129 (s0 : Int32) (M : FM) : Option (Int32 × FM) :=
  fi (s0 = 0 ∨ s0 = 1) (some (s0, M)) none
noncomputable def FX90_meets_129 (n : Nat) (s0 : Int32) (M : FM) : Option (Int32 × FM) := BX90_meets_129 s0 M
noncomputable def BX90_meets_128 (g129 : Int32 → FM → Option (Int32 × FM)) (M : FM) : Option (Int32 × FM) :=
  g129 (Int32.ofInt 0) M
noncomputable def FX90_meets_128 (n : Nat) (M : FM) : Option (Int32 × FM) := BX90_meets_128 (FX90_meets_129 n ) M
noncomputable def BX90_meets_0 (f0 : Nat → Int64 → Int32 → FM → Option (Int64 × FM)) (f1 : Nat → Int64 → Int32 → FM → Option (Int32 × FM)) (g128 : FM → Option (Int32 × FM)) (g129 : Int32 → FM → Option (Int32 × FM)) (a0 : Nat) (a1 : Int64) (a3 : Int32) (a4 : Int32) (M : FM) : Option (Int32 × FM) :=
  fi (fm_is M 66 66 a0 = true) (
  (f0 a0 ((a1 + ((Int32.ofInt 56) * a3).toInt64) + (Int64.ofInt 24)) (Int32.ofInt 8) M).bind fun r1 =>
  fi (fm_is r1.2 66 66 a0 = true) (
  (f0 a0 ((a1 + ((Int32.ofInt 56) * a3).toInt64) + (Int64.ofInt 40)) (Int32.ofInt 8) r1.2).bind fun r2 =>
  fi (fm_is r2.2 66 66 a0 = true) (
  (f0 a0 ((a1 + ((Int32.ofInt 56) * a4).toInt64) + (Int64.ofInt 24)) (Int32.ofInt 8) r2.2).bind fun r3 =>
  fi (fm_is r3.2 66 66 a0 = true) (
  (f0 a0 ((a1 + ((Int32.ofInt 56) * a4).toInt64) + (Int64.ofInt 40)) (Int32.ofInt 8) r3.2).bind fun r4 =>
  fi (fm_is r4.2 66 66 a0 = true) (
  (f1 a0 a1 a4 r4.2).bind fun r5 =>
  fi (r5.1 = 0) (
    g128 r5.2) (
    fi ((lg_cmp r2.1 (Int64.ofInt 0)) ≤ 0) (
      g128 r5.2) (
      fi ((lg_cmp r4.1 (Int64.ofInt 0)) ≤ 0) (
        g128 r5.2) (
        fi (0 ≤ (lg_cmp r1.1 (r3.1 + r4.1))) (
          g128 r5.2) (
          fi (0 ≤ (lg_cmp r3.1 (r1.1 + r2.1))) (
            g128 r5.2) (
            g129 (Int32.ofInt 1) r5.2)))))) none) none) none) none) none
noncomputable def FX90_meets_0 (n : Nat) (a0 : Nat) (a1 : Int64) (a3 : Int32) (a4 : Int32) (M : FM) : Option (Int32 × FM) := BX90_meets_0 (FX90_number n) (FX90_isSegment n) (FX90_meets_128 n ) (FX90_meets_129 n ) a0 a1 a3 a4 M
noncomputable def FX90_meets (n : Nat) (a0 : Nat) (a1 : Int64) (a3 : Int32) (a4 : Int32) (M : FM) : Option (Int32 × FM) := FX90_meets_0 n a0 a1 a3 a4 M
/-! BoardMachine$Loader.segmentFault(JI)I -/
noncomputable def BX90_segmentFault_158 (f2 : Nat → Int64 → Int32 → Int32 → FM → Option (Int32 × FM)) (k158 : Nat → Int64 → Int32 → Int32 → FM → Option (Int32 × FM)) (a0 : Nat) (a1 : Int64) (a3 : Int32) (a13 : Int32) (M : FM) : Option (Int32 × FM) :=
  fi (a3 ≤ a13) (
    some ((Int32.ofInt 0), M)) (
    fi (fm_is M 66 66 a0 = true) (
    (f2 a0 a1 a3 a13 M).bind fun r1 =>
    fi (r1.1 = 0) (
      let x2 : Int32 := a13 + (Int32.ofInt 1)
      k158 a0 a1 a3 x2 r1.2) (
      some ((Int32.ofInt 7), r1.2))) none)
noncomputable def FX90_segmentFault_158 (n : Nat) (k158 : Nat → Int64 → Int32 → Int32 → FM → Option (Int32 × FM)) (a0 : Nat) (a1 : Int64) (a3 : Int32) (a13 : Int32) (M : FM) : Option (Int32 × FM) := BX90_segmentFault_158 (FX90_meets n) k158 a0 a1 a3 a13 M
noncomputable def BX90_segmentFault_155 (k158 : Nat → Int64 → Int32 → Int32 → FM → Option (Int32 × FM)) (a0 : Nat) (a1 : Int64) (a3 : Int32) (M : FM) : Option (Int32 × FM) :=
  k158 a0 a1 a3 (Int32.ofInt 0) M
noncomputable def FX90_segmentFault_155 (n : Nat) (k158 : Nat → Int64 → Int32 → Int32 → FM → Option (Int32 × FM)) (a0 : Nat) (a1 : Int64) (a3 : Int32) (M : FM) : Option (Int32 × FM) := BX90_segmentFault_155 k158 a0 a1 a3 M
noncomputable def BX90_segmentFault_152 (M : FM) : Option (Int32 × FM) :=
  some ((Int32.ofInt 6), M)
noncomputable def FX90_segmentFault_152 (n : Nat) (k158 : Nat → Int64 → Int32 → Int32 → FM → Option (Int32 × FM)) (M : FM) : Option (Int32 × FM) := BX90_segmentFault_152 M
noncomputable def BX90_segmentFault_113 (M : FM) : Option (Int32 × FM) :=
  some ((Int32.ofInt 5), M)
noncomputable def FX90_segmentFault_113 (n : Nat) (k158 : Nat → Int64 → Int32 → Int32 → FM → Option (Int32 × FM)) (M : FM) : Option (Int32 × FM) := BX90_segmentFault_113 M
noncomputable def BX90_segmentFault_78 (f0 : Nat → Int64 → Int32 → FM → Option (Int64 × FM)) (f1 : Int64 → Int64 → Int64 → FM → Option (Int32 × FM)) (f3 : Nat → Int64 → Int64 → FM → Option (Int32 × FM)) (g113 : FM → Option (Int32 × FM)) (g152 : FM → Option (Int32 × FM)) (g155 : Nat → Int64 → Int32 → FM → Option (Int32 × FM)) (a0 : Nat) (a1 : Int64) (a3 : Int32) (a4 : Int64) (a6 : Int64) (a8 : Int64) (a10 : Int64) (s0 : Int32) (M : FM) : Option (Int32 × FM) :=
  fi (fm_is M 66 66 a0 = true) (
  (f0 a0 (a4 + (Int64.ofInt 8)) (Int32.ofInt 8) M).bind fun r1 =>
  fi (fm_is r1.2 66 66 a0 = true) (
  let x2 : Nat := (r1.2.2.2 186 a0 0)
  fi (fm_is r1.2 86 86 x2 = true) (
  (f1 r1.1 a6 ((r1.2.1 262 x2 0).toInt64) r1.2).bind fun r3 =>
  fi (r3.1 = 0) (
    g113 r3.2) (
    fi (s0 = 0) (
      fi ((lg_cmp a8 (Int64.ofInt 0)) = 0) (
        g155 a0 a1 a3 r3.2) (
        fi ((lg_cmp a8 (Int64.ofInt 0)) < 0) (
          g152 r3.2) (
          fi (0 < (lg_cmp a8 (Int64.ofInt 4194304))) (
            g152 r3.2) (
            fi (fm_is r3.2 66 66 a0 = true) (
            let x4 : Nat := (r3.2.2.2 187 a0 0)
            fi (fm_is r3.2 73 73 x4 = true) (
            (f3 x4 a10 a8 r3.2).bind fun r5 =>
            fi (r5.1 = 0) (
              g152 r5.2) (
              g155 a0 a1 a3 r5.2)) none) none)))) (
      g113 r3.2))) none) none) none
noncomputable def FX90_segmentFault_78 (n : Nat) (k158 : Nat → Int64 → Int32 → Int32 → FM → Option (Int32 × FM)) (a0 : Nat) (a1 : Int64) (a3 : Int32) (a4 : Int64) (a6 : Int64) (a8 : Int64) (a10 : Int64) (s0 : Int32) (M : FM) : Option (Int32 × FM) := BX90_segmentFault_78 (FX90_number n) FX90_fits FX11_has (FX90_segmentFault_113 n k158) (FX90_segmentFault_152 n k158) (FX90_segmentFault_155 n k158) a0 a1 a3 a4 a6 a8 a10 s0 M
noncomputable def BX90_segmentFault_77 (g78 : Nat → Int64 → Int32 → Int64 → Int64 → Int64 → Int64 → Int32 → FM → Option (Int32 × FM)) (a0 : Nat) (a1 : Int64) (a3 : Int32) (a4 : Int64) (a6 : Int64) (a8 : Int64) (a10 : Int64) (M : FM) : Option (Int32 × FM) :=
  g78 a0 a1 a3 a4 a6 a8 a10 (Int32.ofInt 0) M
noncomputable def FX90_segmentFault_77 (n : Nat) (k158 : Nat → Int64 → Int32 → Int32 → FM → Option (Int32 × FM)) (a0 : Nat) (a1 : Int64) (a3 : Int32) (a4 : Int64) (a6 : Int64) (a8 : Int64) (a10 : Int64) (M : FM) : Option (Int32 × FM) := BX90_segmentFault_77 (FX90_segmentFault_78 n k158) a0 a1 a3 a4 a6 a8 a10 M
noncomputable def BX90_segmentFault_73 (g78 : Nat → Int64 → Int32 → Int64 → Int64 → Int64 → Int64 → Int32 → FM → Option (Int32 × FM)) (a0 : Nat) (a1 : Int64) (a3 : Int32) (a4 : Int64) (a6 : Int64) (a8 : Int64) (a10 : Int64) (M : FM) : Option (Int32 × FM) :=
  g78 a0 a1 a3 a4 a6 a8 a10 (Int32.ofInt 1) M
noncomputable def FX90_segmentFault_73 (n : Nat) (k158 : Nat → Int64 → Int32 → Int32 → FM → Option (Int32 × FM)) (a0 : Nat) (a1 : Int64) (a3 : Int32) (a4 : Int64) (a6 : Int64) (a8 : Int64) (a10 : Int64) (M : FM) : Option (Int32 × FM) := BX90_segmentFault_73 (FX90_segmentFault_78 n k158) a0 a1 a3 a4 a6 a8 a10 M
noncomputable def BX90_segmentFault_0 (f0 : Nat → Int64 → Int32 → FM → Option (Int64 × FM)) (g73 : Nat → Int64 → Int32 → Int64 → Int64 → Int64 → Int64 → FM → Option (Int32 × FM)) (g77 : Nat → Int64 → Int32 → Int64 → Int64 → Int64 → Int64 → FM → Option (Int32 × FM)) (a0 : Nat) (a1 : Int64) (a3 : Int32) (M : FM) : Option (Int32 × FM) :=
  let x1 : Int64 := (a1 + ((Int32.ofInt 56) * a3).toInt64)
  fi (fm_is M 66 66 a0 = true) (
  (f0 a0 (x1 + (Int64.ofInt 32)) (Int32.ofInt 8) M).bind fun r2 =>
  fi (fm_is r2.2 66 66 a0 = true) (
  (f0 a0 (x1 + (Int64.ofInt 40)) (Int32.ofInt 8) r2.2).bind fun r3 =>
  fi (fm_is r3.2 66 66 a0 = true) (
  (f0 a0 (x1 + (Int64.ofInt 24)) (Int32.ofInt 8) r3.2).bind fun r4 =>
  fi ((lg_cmp r2.1 (Int64.ofInt 0)) < 0) (
    g73 a0 a1 a3 x1 r2.1 r3.1 r4.1 r4.2) (
    fi ((lg_cmp r3.1 (Int64.ofInt 0)) < 0) (
      g77 a0 a1 a3 x1 r2.1 r3.1 r4.1 r4.2) (
      fi ((lg_cmp r2.1 r3.1) ≤ 0) (
        g77 a0 a1 a3 x1 r2.1 r3.1 r4.1 r4.2) (
        g73 a0 a1 a3 x1 r2.1 r3.1 r4.1 r4.2)))) none) none) none
noncomputable def FX90_segmentFault_0 (n : Nat) (k158 : Nat → Int64 → Int32 → Int32 → FM → Option (Int32 × FM)) (a0 : Nat) (a1 : Int64) (a3 : Int32) (M : FM) : Option (Int32 × FM) := BX90_segmentFault_0 (FX90_number n) (FX90_segmentFault_73 n k158) (FX90_segmentFault_77 n k158) a0 a1 a3 M
noncomputable def FX90_segmentFault_L158 (n : Nat) : Nat → Nat → Int64 → Int32 → Int32 → FM → Option (Int32 × FM)
  | 0 => fun _ _ _ _ _ => none
  | j + 1 => FX90_segmentFault_158 n (FX90_segmentFault_L158 n j)
noncomputable def FX90_segmentFault (n : Nat) (a0 : Nat) (a1 : Int64) (a3 : Int32) (M : FM) : Option (Int32 × FM) := FX90_segmentFault_0 n (FX90_segmentFault_L158 n n) a0 a1 a3 M
