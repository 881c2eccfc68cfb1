/-! functions of methods, printed by gen/defs.py -/
set_option maxRecDepth 100000
/-! BoardMachine$Memories$Page.mask(I)J -/
noncomputable def BX91_mask_20 (s0 : Int64) (M : FM) : Option (Int64 × FM) :=
  some (s0, M)
noncomputable def FX91_mask_20 (s0 : Int64) (M : FM) : Option (Int64 × FM) := BX91_mask_20 s0 M
noncomputable def BX91_mask_0 (g20 : Int64 → FM → Option (Int64 × FM)) (a0 : Int32) (M : FM) : Option (Int64 × FM) :=
  fi (a0 = (Int32.ofInt 8)) (
    g20 (Int64.ofInt (-1)) M) (
    g20 (((Int64.ofInt 1) <<< (((Int32.ofInt 8) * a0).toInt64 &&& 63)) - (Int64.ofInt 1)) M)
noncomputable def FX91_mask_0 (a0 : Int32) (M : FM) : Option (Int64 × FM) := BX91_mask_0 FX91_mask_20 a0 M
noncomputable def FX91_mask (a0 : Int32) (M : FM) : Option (Int64 × FM) := FX91_mask_0 a0 M
/-! BoardMachine$Memories$Page.put(IIJ)V -/
noncomputable def BX91_put_106 (M : FM) : Option (FM) :=
  some M
noncomputable def FX91_put_106 (M : FM) : Option (FM) := BX91_put_106 M
noncomputable def BX91_put_0 (f0 : Int32 → FM → Option (Int64 × FM)) (g106 : FM → Option (FM)) (a0 : Nat) (a1 : Int32) (a2 : Int32) (a3 : Int64) (M : FM) : Option (FM) :=
  let x1 : Int32 := (a1 >>> ((Int32.ofInt 3) &&& 31))
  let x2 : Int32 := ((Int32.ofInt 8) * (a1 &&& (Int32.ofInt 7)))
  (f0 a2 M).bind fun r3 =>
  fi (fm_is r3.2 72 72 a0 = true) (
  fi (fm_is r3.2 72 72 a0 = true) (
  let x4 : Nat := (r3.2.2.2 201 a0 0)
  fi (fm_is r3.2 902 902 x4 = true ∧ fm_in r3.2 x4 x1 = true) (
  let x5 : Nat := (r3.2.2.2 201 a0 0)
  fi (fm_is r3.2 902 902 x5 = true ∧ fm_in r3.2 x5 x1 = true) (
  let M6 : FM := fm_sL r3.2 3 x5 x1.toNatClampNeg (((r3.2.2.1 3 x4 x1.toNatClampNeg) &&& ((r3.1 <<< (x2.toInt64 &&& 63)) ^^^ (Int64.ofInt (-1)))) ||| ((a3 &&& r3.1) <<< (x2.toInt64 &&& 63)))
  fi ((x2 + ((Int32.ofInt 8) * a2)) ≤ (Int32.ofInt 64)) (
    g106 M6) (
    fi (fm_is M6 72 72 a0 = true) (
    fi (fm_is M6 72 72 a0 = true) (
    let x7 : Int32 := (x1 + (Int32.ofInt 1))
    let x8 : Nat := (M6.2.2 201 a0 0)
    fi (fm_is M6 902 902 x8 = true ∧ fm_in M6 x8 x7 = true) (
    let x9 : Int32 := (x1 + (Int32.ofInt 1))
    let x10 : Nat := (M6.2.2 201 a0 0)
    fi (fm_is M6 902 902 x10 = true ∧ fm_in M6 x10 x9 = true) (
    let M11 : FM := fm_sL M6 3 x10 x9.toNatClampNeg (((M6.2.1 3 x8 x7.toNatClampNeg) &&& ((r3.1.toUInt64 >>> (((Int32.ofInt 64) - x2).toInt64.toUInt64 &&& Int64.toUInt64 63)).toInt64 ^^^ (Int64.ofInt (-1)))) ||| ((a3 &&& r3.1).toUInt64 >>> (((Int32.ofInt 64) - x2).toInt64.toUInt64 &&& Int64.toUInt64 63)).toInt64)
    g106 M11) none) none) none) none)) none) none) none) none
noncomputable def FX91_put_0 (a0 : Nat) (a1 : Int32) (a2 : Int32) (a3 : Int64) (M : FM) : Option (FM) := BX91_put_0 FX91_mask FX91_put_106 a0 a1 a2 a3 M
noncomputable def FX91_put (a0 : Nat) (a1 : Int32) (a2 : Int32) (a3 : Int64) (M : FM) : Option (FM) := FX91_put_0 a0 a1 a2 a3 M
/-! BoardMachine$Memories$Reservation.touch(JJ)V -/
noncomputable def BX12_touch_33 (M : FM) : Option (FM) :=
  some M
noncomputable def FX12_touch_33 (M : FM) : Option (FM) := BX12_touch_33 M
noncomputable def BX12_touch_0 (g33 : FM → Option (FM)) (a0 : Nat) (a1 : Int64) (a3 : Int64) (M : FM) : Option (FM) :=
  fi (fm_is M 74 74 a0 = true) (
  let x1 : Int64 := ((M.2.1 207 a0 0) &&& (Int64.ofInt (-8)))
  fi (0 ≤ (lg_cmp a1 (x1 + (Int64.ofInt 8)))) (
    g33 M) (
    fi ((lg_cmp a3 x1) ≤ 0) (
      g33 M) (
      fi (fm_is M 74 74 a0 = true) (
      let M2 : FM := fm_sI M 208 a0 0 (Int32.ofInt 0)
      g33 M2) none))) none
noncomputable def FX12_touch_0 (a0 : Nat) (a1 : Int64) (a3 : Int64) (M : FM) : Option (FM) := BX12_touch_0 FX12_touch_33 a0 a1 a3 M
noncomputable def FX12_touch (a0 : Nat) (a1 : Int64) (a3 : Int64) (M : FM) : Option (FM) := FX12_touch_0 a0 a1 a3 M
/-! BoardMachine$Memories$Ram.touch(JJ)V -/
noncomputable def BX11_touch_14 (f0 : Nat → Int64 → Int64 → FM → Option (FM)) (k14 : Int64 → Int64 → Nat → Int32 → Int32 → FM → Option (FM)) (a1 : Int64) (a3 : Int64) (a5 : Nat) (a6 : Int32) (a7 : Int32) (M : FM) : Option (FM) :=
  fi (a6 ≤ a7) (
    some M) (
    fi (fm_is M 910 990 a5 = true ∧ fm_in M a5 a7 = true) (
    let x1 : Nat := (M.2.2 3 a5 a7.toNatClampNeg)
    fi (fm_is M 74 74 x1 = true) (
    (f0 x1 a1 a3 M).bind fun M2 =>
    let x3 : Int32 := a7 + (Int32.ofInt 1)
    k14 a1 a3 a5 a6 x3 M2) none) none)
noncomputable def FX11_touch_14 (n : Nat) (k14 : Int64 → Int64 → Nat → Int32 → Int32 → FM → Option (FM)) (a1 : Int64) (a3 : Int64) (a5 : Nat) (a6 : Int32) (a7 : Int32) (M : FM) : Option (FM) := BX11_touch_14 FX12_touch k14 a1 a3 a5 a6 a7 M
noncomputable def BX11_touch_0 (k14 : Int64 → Int64 → Nat → Int32 → Int32 → FM → Option (FM)) (a0 : Nat) (a1 : Int64) (a3 : Int64) (M : FM) : Option (FM) :=
  fi (fm_is M 73 73 a0 = true) (
  let x1 : Nat := (M.2.2 205 a0 0)
  fi (fm_is M 901 990 x1 = true) (
  let x2 : Int32 := (Int32.ofNat (M.2.2 1 x1 0))
  k14 a1 a3 x1 x2 (Int32.ofInt 0) M) none) none
noncomputable def FX11_touch_0 (n : Nat) (k14 : Int64 → Int64 → Nat → Int32 → Int32 → FM → Option (FM)) (a0 : Nat) (a1 : Int64) (a3 : Int64) (M : FM) : Option (FM) := BX11_touch_0 k14 a0 a1 a3 M
noncomputable def FX11_touch_L14 (n : Nat) : Nat → Int64 → Int64 → Nat → Int32 → Int32 → FM → Option (FM)
  | 0 => fun _ _ _ _ _ _ => none
  | j + 1 => FX11_touch_14 n (FX11_touch_L14 n j)
noncomputable def FX11_touch (n : Nat) (a0 : Nat) (a1 : Int64) (a3 : Int64) (M : FM) : Option (FM) := FX11_touch_0 n (FX11_touch_L14 n n) a0 a1 a3 M
/-! BoardMachine$Memories$Ram.store(JIJ)V -/
noncomputable def BX11_store_93 (f5 : Nat → Int64 → Int64 → FM → Option (FM)) (a0 : Nat) (a1 : Int64) (a3 : Int32) (M : FM) : Option (FM) :=
  fi (fm_is M 73 73 a0 = true) (
  (f5 a0 a1 (a1 + a3.toInt64) M).bind fun M1 =>
  some M1) none
noncomputable def FX11_store_93 (n : Nat) (a0 : Nat) (a1 : Int64) (a3 : Int32) (M : FM) : Option (FM) := BX11_store_93 (FX11_touch n) a0 a1 a3 M
noncomputable def BX11_store_0 (f0 : Int64 → FM → Option (Int32 × FM)) (f1 : Int64 → FM → Option (Int32 × FM)) (f2 : Int32 → Int32 → FM → Option (Int32 × FM)) (f3 : Nat → Int32 → FM → Option (Nat × FM)) (f4 : Nat → Int32 → Int32 → Int64 → FM → Option (FM)) (g93 : Nat → Int64 → Int32 → FM → Option (FM)) (a0 : Nat) (a1 : Int64) (a3 : Int32) (a4 : Int64) (M : FM) : Option (FM) :=
  (f0 a1 M).bind fun r1 =>
  (f1 a1 r1.2).bind fun r2 =>
  (f2 a3 ((Int32.ofInt 4096) - r2.1) r2.2).bind fun r3 =>
  fi (fm_is r3.2 73 73 a0 = true) (
  (f3 a0 r1.1 r3.2).bind fun r4 =>
  fi (fm_is r4.2 72 72 r4.1 = true) (
  (f4 r4.1 r2.1 r3.1 a4 r4.2).bind fun M5 =>
  fi (fm_is M5 73 73 a0 = true) (
  let x6 : Nat := (M5.2.2 204 a0 0)
  fi (fm_is M5 902 902 x6 = true ∧ fm_in M5 x6 r1.1 = true) (
  fi (fm_is M5 902 902 x6 = true ∧ fm_in M5 x6 r1.1 = true) (
  let M7 : FM := fm_sL M5 3 x6 r1.1.toNatClampNeg ((M5.2.1 3 x6 r1.1.toNatClampNeg) + (Int64.ofInt 1))
  fi (a3 ≤ r3.1) (
    g93 a0 a1 a3 M7) (
    fi (fm_is M7 73 73 a0 = true) (
    (f3 a0 (r1.1 + (Int32.ofInt 1)) M7).bind fun r8 =>
    fi (fm_is r8.2 72 72 r8.1 = true) (
    (f4 r8.1 (Int32.ofInt 0) (a3 - r3.1) ((a4.toUInt64 >>> (((Int32.ofInt 8) * r3.1).toInt64.toUInt64 &&& Int64.toUInt64 63)).toInt64) r8.2).bind fun M9 =>
    fi (fm_is M9 73 73 a0 = true) (
    let x10 : Int32 := (r1.1 + (Int32.ofInt 1))
    let x11 : Nat := (M9.2.2 204 a0 0)
    fi (fm_is M9 902 902 x11 = true ∧ fm_in M9 x11 x10 = true) (
    fi (fm_is M9 902 902 x11 = true ∧ fm_in M9 x11 x10 = true) (
    let M12 : FM := fm_sL M9 3 x11 x10.toNatClampNeg ((M9.2.1 3 x11 x10.toNatClampNeg) + (Int64.ofInt 1))
    g93 a0 a1 a3 M12) none) none) none) none) none)) none) none) none) none) none
noncomputable def FX11_store_0 (n : Nat) (a0 : Nat) (a1 : Int64) (a3 : Int32) (a4 : Int64) (M : FM) : Option (FM) := BX11_store_0 FX11_pageOf FX11_placeOf FJ5_min FX11_made FX91_put (FX11_store_93 n ) a0 a1 a3 a4 M
noncomputable def FX11_store (n : Nat) (a0 : Nat) (a1 : Int64) (a3 : Int32) (a4 : Int64) (M : FM) : Option (FM) := FX11_store_0 n a0 a1 a3 a4 M
/-! BoardMachine$Integers$IntegerUnit.jump(J)V -/
noncomputable def BX47_jump_0 (a0 : Nat) (a1 : Int64) (M : FM) : Option (FM) :=
  fi (fm_is M 63 63 a0 = true) (
  let x1 : Nat := (M.2.2 171 a0 0)
  fi (fm_is M 64 64 x1 = true) (
  let M2 : FM := fm_sL M 179 x1 0 (a1 &&& (Int64.ofInt (-2)))
  fi (fm_is M2 63 63 a0 = true) (
  let M3 : FM := fm_sR M2 174 a0 0 0
  some M3) none) none) none
noncomputable def FX47_jump_0 (a0 : Nat) (a1 : Int64) (M : FM) : Option (FM) := BX47_jump_0 a0 a1 M
noncomputable def FX47_jump (a0 : Nat) (a1 : Int64) (M : FM) : Option (FM) := FX47_jump_0 a0 a1 M
/-! BoardMachine$Floats$FloatUnit.putFlags(I)V -/
noncomputable def BX59_putFlags_0 (a0 : Nat) (a1 : Int32) (M : FM) : Option (FM) :=
  fi (fm_is M 32 32 a0 = true) (
  let x1 : Nat := (M.2.2 94 a0 0)
  fi (fm_is M 31 31 x1 = true) (
  let M2 : FM := fm_sI M 91 x1 0 (a1 &&& (Int32.ofInt 31))
  fi (fm_is M2 32 32 a0 = true) (
  fi ((Int32.ofInt 1) = 0 ∨ (Int32.ofInt 1) = 1) (
  let M3 : FM := fm_sI M2 96 a0 0 (Int32.ofInt 1)
  some M3) none) none) none) none
noncomputable def FX59_putFlags_0 (a0 : Nat) (a1 : Int32) (M : FM) : Option (FM) := BX59_putFlags_0 a0 a1 M
noncomputable def FX59_putFlags (a0 : Nat) (a1 : Int32) (M : FM) : Option (FM) := FX59_putFlags_0 a0 a1 M
/-! BoardMachine$Floats$FloatUnit.putMode(I)V -/
noncomputable def BX59_putMode_0 (a0 : Nat) (a1 : Int32) (M : FM) : Option (FM) :=
  fi (fm_is M 32 32 a0 = true) (
  let M1 : FM := fm_sI M 95 a0 0 (a1 &&& (Int32.ofInt 7))
  fi (fm_is M1 32 32 a0 = true) (
  fi ((Int32.ofInt 1) = 0 ∨ (Int32.ofInt 1) = 1) (
  let M2 : FM := fm_sI M1 96 a0 0 (Int32.ofInt 1)
  some M2) none) none) none
noncomputable def FX59_putMode_0 (a0 : Nat) (a1 : Int32) (M : FM) : Option (FM) := BX59_putMode_0 a0 a1 M
noncomputable def FX59_putMode (a0 : Nat) (a1 : Int32) (M : FM) : Option (FM) := FX59_putMode_0 a0 a1 M
/-! BoardMachine$Floats$FloatUnit.calm()V -/
noncomputable def BX59_calm_0 (a0 : Nat) (M : FM) : Option (FM) :=
  fi (fm_is M 32 32 a0 = true) (
  fi ((Int32.ofInt 0) = 0 ∨ (Int32.ofInt 0) = 1) (
  let M1 : FM := fm_sI M 96 a0 0 (Int32.ofInt 0)
  fi (fm_is M1 32 32 a0 = true) (
  let x2 : Nat := (M1.2.2 94 a0 0)
  fi (fm_is M1 31 31 x2 = true) (
  fi ((Int32.ofInt 0) = 0 ∨ (Int32.ofInt 0) = 1) (
  let M3 : FM := fm_sI M1 92 x2 0 (Int32.ofInt 0)
  some M3) none) none) none) none) none
noncomputable def FX59_calm_0 (a0 : Nat) (M : FM) : Option (FM) := BX59_calm_0 a0 M
noncomputable def FX59_calm (a0 : Nat) (M : FM) : Option (FM) := FX59_calm_0 a0 M
/-! BoardMachine$Processor.table()LBoardMachine$Controls$Masked; -/
noncomputable def BX46_table_0 (a0 : Nat) (M : FM) : Option (Nat × FM) :=
  fi (fm_is M 75 75 a0 = true) (
  let x1 : Nat := (M.2.2 213 a0 0)
  fi (fm_is M 12 12 x1 = true) (
  let x2 : Nat := (M.2.2 25 x1 0)
  fi (fm_is M 910 990 x2 = true ∧ fm_in M x2 (Int32.ofInt 384) = true) (
  let x3 : Nat := (M.2.2 3 x2 (Int32.ofInt 384).toNatClampNeg)
  fi (fm_is M 14 17 x3 = true) (
  some (x3, M)) none) none) none) none
noncomputable def FX46_table_0 (a0 : Nat) (M : FM) : Option (Nat × FM) := BX46_table_0 a0 M
noncomputable def FX46_table (a0 : Nat) (M : FM) : Option (Nat × FM) := FX46_table_0 a0 M
/-! BoardMachine$Processor.resetBank(LBoardMachine$Controls$TrapBank;)V -/
noncomputable def BX46_resetBank_0 (a0 : Nat) (M : FM) : Option (FM) :=
  fi (fm_is M 20 20 a0 = true) (
  let x1 : Nat := (M.2.2 49 a0 0)
  fi (fm_is M 14 17 x1 = true) (
  let M2 : FM := fm_sL M 41 x1 0 (Int64.ofInt 0)
  fi (fm_is M2 20 20 a0 = true) (
  let x3 : Nat := (M2.2.2 50 a0 0)
  fi (fm_is M2 14 17 x3 = true) (
  let M4 : FM := fm_sL M2 41 x3 0 (Int64.ofInt 0)
  fi (fm_is M4 20 20 a0 = true) (
  let x5 : Nat := (M4.2.2 51 a0 0)
  fi (fm_is M4 14 17 x5 = true) (
  let M6 : FM := fm_sL M4 41 x5 0 (Int64.ofInt 0)
  fi (fm_is M6 20 20 a0 = true) (
  let x7 : Nat := (M6.2.2 52 a0 0)
  fi (fm_is M6 14 17 x7 = true) (
  let M8 : FM := fm_sL M6 41 x7 0 (Int64.ofInt 0)
  fi (fm_is M8 20 20 a0 = true) (
  let x9 : Nat := (M8.2.2 53 a0 0)
  fi (fm_is M8 14 17 x9 = true) (
  let M10 : FM := fm_sL M8 41 x9 0 (Int64.ofInt 0)
  fi (fm_is M10 20 20 a0 = true) (
  let x11 : Nat := (M10.2.2 54 a0 0)
  fi (fm_is M10 14 17 x11 = true) (
  let M12 : FM := fm_sL M10 41 x11 0 (Int64.ofInt 0)
  some M12) none) none) none) none) none) none) none) none) none) none) none) none
noncomputable def FX46_resetBank_0 (a0 : Nat) (M : FM) : Option (FM) := BX46_resetBank_0 a0 M
noncomputable def FX46_resetBank (a0 : Nat) (M : FM) : Option (FM) := FX46_resetBank_0 a0 M
/-! BoardMachine$Processor.resetControls()V -/
noncomputable def BX46_resetControls_0 (f0 : Nat → FM → Option (Nat × FM)) (f1 : Nat → FM → Option (FM)) (a0 : Nat) (M : FM) : Option (FM) :=
  fi (fm_is M 75 75 a0 = true) (
  let x1 : Nat := (M.2.2 213 a0 0)
  fi (fm_is M 12 12 x1 = true) (
  let x2 : Nat := (M.2.2 27 x1 0)
  fi (fm_is M 16 16 x2 = true) (
  let M3 : FM := fm_sL M 41 x2 0 (Int64.ofInt 0)
  fi (fm_is M3 75 75 a0 = true) (
  let x4 : Nat := (M3.2.2 213 a0 0)
  fi (fm_is M3 12 12 x4 = true) (
  let x5 : Nat := (M3.2.2 28 x4 0)
  fi (fm_is M3 14 17 x5 = true) (
  let M6 : FM := fm_sL M3 41 x5 0 (Int64.ofInt 0)
  fi (fm_is M6 75 75 a0 = true) (
  let x7 : Nat := (M6.2.2 213 a0 0)
  fi (fm_is M6 12 12 x7 = true) (
  let x8 : Nat := (M6.2.2 29 x7 0)
  fi (fm_is M6 14 17 x8 = true) (
  let M9 : FM := fm_sL M6 41 x8 0 (Int64.ofInt 0)
  fi (fm_is M9 75 75 a0 = true) (
  let x10 : Nat := (M9.2.2 213 a0 0)
  fi (fm_is M9 12 12 x10 = true) (
  let x11 : Nat := (M9.2.2 30 x10 0)
  fi (fm_is M9 14 17 x11 = true) (
  let M12 : FM := fm_sL M9 41 x11 0 (Int64.ofInt 0)
  fi (fm_is M12 75 75 a0 = true) (
  let x13 : Nat := (M12.2.2 213 a0 0)
  fi (fm_is M12 12 12 x13 = true) (
  let x14 : Nat := (M12.2.2 31 x13 0)
  fi (fm_is M12 15 15 x14 = true) (
  let M15 : FM := fm_sL M12 41 x14 0 (Int64.ofInt 0)
  fi (fm_is M15 75 75 a0 = true) (
  let x16 : Nat := (M15.2.2 213 a0 0)
  fi (fm_is M15 12 12 x16 = true) (
  let x17 : Nat := (M15.2.2 34 x16 0)
  fi (fm_is M15 14 17 x17 = true) (
  let M18 : FM := fm_sL M15 41 x17 0 (Int64.ofInt 0)
  fi (fm_is M18 75 75 a0 = true) (
  let x19 : Nat := (M18.2.2 213 a0 0)
  fi (fm_is M18 12 12 x19 = true) (
  let x20 : Nat := (M18.2.2 35 x19 0)
  fi (fm_is M18 14 17 x20 = true) (
  let M21 : FM := fm_sL M18 41 x20 0 (Int64.ofInt 0)
  fi (fm_is M21 75 75 a0 = true) (
  (f0 a0 M21).bind fun r22 =>
  fi (fm_is r22.2 14 17 r22.1 = true) (
  let M23 : FM := fm_sL r22.2 41 r22.1 0 (Int64.ofInt 0)
  fi (fm_is M23 75 75 a0 = true) (
  let x24 : Nat := (M23.2.2 213 a0 0)
  fi (fm_is M23 12 12 x24 = true) (
  (f1 (M23.2.2 32 x24 0) M23).bind fun M25 =>
  fi (fm_is M25 75 75 a0 = true) (
  let x26 : Nat := (M25.2.2 213 a0 0)
  fi (fm_is M25 12 12 x26 = true) (
  (f1 (M25.2.2 33 x26 0) M25).bind fun M27 =>
  fi (fm_is M27 75 75 a0 = true) (
  let x28 : Nat := (M27.2.2 213 a0 0)
  fi (fm_is M27 12 12 x28 = true) (
  let M29 : FM := fm_sI M27 37 x28 0 (Int32.ofInt 3)
  some M29) none) none) none) none) none) none) none) none) none) none) none) none) none) none) none) none) none) none) none) none) none) none) none) none) none) none) none) none) none
noncomputable def FX46_resetControls_0 (a0 : Nat) (M : FM) : Option (FM) := BX46_resetControls_0 FX46_table FX46_resetBank a0 M
noncomputable def FX46_resetControls (a0 : Nat) (M : FM) : Option (FM) := FX46_resetControls_0 a0 M
/-! BoardMachine$Walks$Region.span()LBoardMachine$Walks$Span; -/
noncomputable def BX87_span_44 (s0 : Nat) (M : FM) : Option (Nat × FM) :=
  some (s0, M)
noncomputable def FX87_span_44 (s0 : Nat) (M : FM) : Option (Nat × FM) := BX87_span_44 s0 M
noncomputable def BX87_span_0 (g44 : Nat → FM → Option (Nat × FM)) (a0 : Nat) (M : FM) : Option (Nat × FM) :=
  fi (fm_is M 89 89 a0 = true) (
  let x1 : Int32 := (((M.1 280 a0 0) >>> ((Int32.ofInt 3) &&& 31)) &&& (Int32.ofInt 3))
  fi (x1 = 0) (
    g44 33 M) (
    fi (x1 = (Int32.ofInt 1)) (
      g44 34 M) (
      fi (x1 = (Int32.ofInt 2)) (
        g44 35 M) (
        g44 36 M)))) none
noncomputable def FX87_span_0 (a0 : Nat) (M : FM) : Option (Nat × FM) := BX87_span_0 FX87_span_44 a0 M
noncomputable def FX87_span (a0 : Nat) (M : FM) : Option (Nat × FM) := FX87_span_0 a0 M
/-! java/lang/Enum.ordinal()I -/
noncomputable def BJ0_ordinal_0 (a0 : Nat) (M : FM) : Option (Int32 × FM) :=
  fi (fm_is M 1 6 a0 = true) (
  some ((M.1 10 a0 0), M)) none
noncomputable def FJ0_ordinal_0 (a0 : Nat) (M : FM) : Option (Int32 × FM) := BJ0_ordinal_0 a0 M
noncomputable def FJ0_ordinal (a0 : Nat) (M : FM) : Option (Int32 × FM) := FJ0_ordinal_0 a0 M
/-! BoardMachine$Walks$Region.lay(J)V -/
noncomputable def BX87_lay_142 (M : FM) : Option (FM) :=
  some M
noncomputable def FX87_lay_142 (M : FM) : Option (FM) := BX87_lay_142 M
noncomputable def BX87_lay_0 (f0 : Nat → FM → Option (Nat × FM)) (f1 : Nat → FM → Option (Int32 × FM)) (g142 : FM → Option (FM)) (a0 : Nat) (a1 : Int64) (M : FM) : Option (FM) :=
  fi (fm_is M 89 89 a0 = true) (
  (f0 a0 M).bind fun r1 =>
  fi (fm_is r1.2 5 5 r1.1 = true) (
  (f1 r1.1 r1.2).bind fun r2 =>
  fi (r2.1 = (Int32.ofInt 1)) (
    fi (fm_is r2.2 89 89 a0 = true) (
    let M3 : FM := fm_sL r2.2 282 a0 0 ((Int64.ofInt 4) * a1)
    fi (fm_is M3 89 89 a0 = true) (
    fi (fm_is M3 89 89 a0 = true) (
    let M4 : FM := fm_sL M3 283 a0 0 ((Int64.ofInt 4) * (M3.2.1 281 a0 0))
    g142 M4) none) none) none) (
  fi (r2.1 = (Int32.ofInt 2)) (
    fi (fm_is r2.2 89 89 a0 = true) (
    fi (fm_is r2.2 89 89 a0 = true) (
    let M5 : FM := fm_sL r2.2 282 a0 0 ((Int64.ofInt 4) * (r2.2.2.1 281 a0 0))
    fi (fm_is M5 89 89 a0 = true) (
    fi (fm_is M5 89 89 a0 = true) (
    let M6 : FM := fm_sL M5 283 a0 0 ((M5.2.1 282 a0 0) + (Int64.ofInt 4))
    g142 M6) none) none) none) none) (
  fi (r2.1 = (Int32.ofInt 3)) (
    fi (fm_is r2.2 89 89 a0 = true) (
    fi (fm_is r2.2 89 89 a0 = true) (
    let x7 : Int64 := ((r2.2.2.1 281 a0 0) &&& (((r2.2.2.1 281 a0 0) + (Int64.ofInt 1)) ^^^ (Int64.ofInt (-1))))
    fi (fm_is r2.2 89 89 a0 = true) (
    fi (fm_is r2.2 89 89 a0 = true) (
    let M8 : FM := fm_sL r2.2 282 a0 0 ((Int64.ofInt 4) * ((r2.2.2.1 281 a0 0) - x7))
    fi (fm_is M8 89 89 a0 = true) (
    fi (fm_is M8 89 89 a0 = true) (
    let M9 : FM := fm_sL M8 283 a0 0 ((M8.2.1 282 a0 0) + ((Int64.ofInt 8) * (x7 + (Int64.ofInt 1))))
    g142 M9) none) none) none) none) none) none) (
  fi (fm_is r2.2 89 89 a0 = true) (
    let M10 : FM := fm_sL r2.2 282 a0 0 (Int64.ofInt 0)
    fi (fm_is M10 89 89 a0 = true) (
    let M11 : FM := fm_sL M10 283 a0 0 (Int64.ofInt 0)
    g142 M11) none) none)))) none) none
noncomputable def FX87_lay_0 (a0 : Nat) (a1 : Int64) (M : FM) : Option (FM) := BX87_lay_0 FX87_span FJ0_ordinal FX87_lay_142 a0 a1 M
noncomputable def FX87_lay (a0 : Nat) (a1 : Int64) (M : FM) : Option (FM) := FX87_lay_0 a0 a1 M
/-! BoardMachine$Walks$Regions.lay()V -/
noncomputable def BX86_lay_33 (f0 : Nat → Int64 → FM → Option (FM)) (k2 : Nat → Int32 → FM → Option (FM)) (a0 : Nat) (a1 : Int32) (s0 : Nat) (s1 : Int64) (M : FM) : Option (FM) :=
  fi (fm_is M 89 89 s0 = true) (
  (f0 s0 s1 M).bind fun M1 =>
  let x2 : Int32 := a1 + (Int32.ofInt 1)
  k2 a0 x2 M1) none
noncomputable def FX86_lay_33 (n : Nat) (k2 : Nat → Int32 → FM → Option (FM)) (a0 : Nat) (a1 : Int32) (s0 : Nat) (s1 : Int64) (M : FM) : Option (FM) := BX86_lay_33 FX87_lay k2 a0 a1 s0 s1 M
noncomputable def BX86_lay_2 (g33 : Nat → Int32 → Nat → Int64 → FM → Option (FM)) (a0 : Nat) (a1 : Int32) (M : FM) : Option (FM) :=
  fi ((Int32.ofInt 8) ≤ a1) (
    fi (fm_is M 90 90 a0 = true) (
    fi (fm_is M 90 90 a0 = true) (
    let M1 : FM := fm_sI M 285 a0 0 ((M.1 285 a0 0) + (Int32.ofInt 1))
    some M1) none) none) (
    fi (fm_is M 90 90 a0 = true) (
    let x2 : Nat := (M.2.2 284 a0 0)
    fi (fm_is M 910 990 x2 = true ∧ fm_in M x2 a1 = true) (
    fi (a1 = 0) (
      g33 a0 a1 (M.2.2 3 x2 a1.toNatClampNeg) (Int64.ofInt 0) M) (
      fi (fm_is M 90 90 a0 = true) (
      let x3 : Int32 := (a1 - (Int32.ofInt 1))
      let x4 : Nat := (M.2.2 284 a0 0)
      fi (fm_is M 910 990 x4 = true ∧ fm_in M x4 x3 = true) (
      let x5 : Nat := (M.2.2 3 x4 x3.toNatClampNeg)
      fi (fm_is M 89 89 x5 = true) (
      g33 a0 a1 (M.2.2 3 x2 a1.toNatClampNeg) (M.2.1 281 x5 0) M) none) none) none)) none) none)
noncomputable def FX86_lay_2 (n : Nat) (k2 : Nat → Int32 → FM → Option (FM)) (a0 : Nat) (a1 : Int32) (M : FM) : Option (FM) := BX86_lay_2 (FX86_lay_33 n k2) a0 a1 M
noncomputable def BX86_lay_0 (k2 : Nat → Int32 → FM → Option (FM)) (a0 : Nat) (M : FM) : Option (FM) :=
  k2 a0 (Int32.ofInt 0) M
noncomputable def FX86_lay_0 (n : Nat) (k2 : Nat → Int32 → FM → Option (FM)) (a0 : Nat) (M : FM) : Option (FM) := BX86_lay_0 k2 a0 M
noncomputable def FX86_lay_L2 (n : Nat) : Nat → Nat → Int32 → FM → Option (FM)
  | 0 => fun _ _ _ => none
  | j + 1 => FX86_lay_2 n (FX86_lay_L2 n j)
noncomputable def FX86_lay (n : Nat) (a0 : Nat) (M : FM) : Option (FM) := FX86_lay_0 n (FX86_lay_L2 n n) a0 M
/-! BoardMachine$Memories$Reservation.drop()Z -/
noncomputable def BX12_drop_12 (a0 : Nat) (s0 : Int32) (M : FM) : Option (Int32 × FM) :=
  fi (fm_is M 74 74 a0 = true) (
  let M1 : FM := fm_sI M 208 a0 0 (Int32.ofInt 0)
  fi (s0 = 0 ∨ s0 = 1) (some (s0, M1)) none) none
noncomputable def FX12_drop_12 (a0 : Nat) (s0 : Int32) (M : FM) : Option (Int32 × FM) := BX12_drop_12 a0 s0 M
noncomputable def BX12_drop_0 (g12 : Nat → Int32 → FM → Option (Int32 × FM)) (a0 : Nat) (M : FM) : Option (Int32 × FM) :=
  fi (fm_is M 74 74 a0 = true) (
  fi ((M.1 208 a0 0) ≤ 0) (
    g12 a0 (Int32.ofInt 0) M) (
    g12 a0 (Int32.ofInt 1) M)) none
noncomputable def FX12_drop_0 (a0 : Nat) (M : FM) : Option (Int32 × FM) := BX12_drop_0 FX12_drop_12 a0 M
noncomputable def FX12_drop (a0 : Nat) (M : FM) : Option (Int32 × FM) := FX12_drop_0 a0 M
/-! BoardMachine$Integers$Registers.set(IJ)V -/
noncomputable def BX48_set_11 (M : FM) : Option (FM) :=
  some M
noncomputable def FX48_set_11 (M : FM) : Option (FM) := BX48_set_11 M
noncomputable def BX48_set_0 (g11 : FM → Option (FM)) (a0 : Nat) (a1 : Int32) (a2 : Int64) (M : FM) : Option (FM) :=
  fi (a1 ≤ 0) (
    g11 M) (
    fi (fm_is M 64 64 a0 = true) (
    let x1 : Nat := (M.2.2 178 a0 0)
    fi (fm_is M 902 902 x1 = true ∧ fm_in M x1 a1 = true) (
    let M2 : FM := fm_sL M 3 x1 a1.toNatClampNeg a2
    g11 M2) none) none)
noncomputable def FX48_set_0 (a0 : Nat) (a1 : Int32) (a2 : Int64) (M : FM) : Option (FM) := BX48_set_0 FX48_set_11 a0 a1 a2 M
noncomputable def FX48_set (a0 : Nat) (a1 : Int32) (a2 : Int64) (M : FM) : Option (FM) := FX48_set_0 a0 a1 a2 M
/-! BoardMachine$Processor.reset(J)V -/
noncomputable def BX46_reset_90 (f5 : Nat → FM → Option (FM)) (f6 : Nat → FM → Option (Int32 × FM)) (f7 : Nat → Int32 → Int64 → FM → Option (FM)) (k90 : Nat → Nat → Int32 → Int32 → FM → Option (FM)) (a0 : Nat) (a3 : Nat) (a4 : Int32) (a5 : Int32) (M : FM) : Option (FM) :=
  fi (a4 ≤ a5) (
    fi (fm_is M 75 75 a0 = true) (
    let x1 : Nat := (M.2.2 214 a0 0)
    fi (fm_is M 91 91 x1 = true) (
    let x2 : Nat := (M.2.2 288 x1 0)
    fi (fm_is M 90 90 x2 = true) (
    (f5 x2 M).bind fun M3 =>
    fi (fm_is M3 75 75 a0 = true) (
    fi ((Int32.ofInt 0) = 0 ∨ (Int32.ofInt 0) = 1) (
    let M4 : FM := fm_sI M3 218 a0 0 (Int32.ofInt 0)
    fi (fm_is M4 75 75 a0 = true) (
    let x5 : Nat := (M4.2.2 210 a0 0)
    fi (fm_is M4 11 11 x5 = true) (
    let x6 : Nat := (M4.2.2 18 x5 0)
    fi (fm_is M4 73 73 x6 = true) (
    fi (fm_is M4 75 75 a0 = true) (
    let x7 : Int32 := (M4.1 209 a0 0)
    let x8 : Nat := (M4.2.2 205 x6 0)
    fi (fm_is M4 910 990 x8 = true ∧ fm_in M4 x8 x7 = true) (
    let x9 : Nat := (M4.2.2 3 x8 x7.toNatClampNeg)
    fi (fm_is M4 74 74 x9 = true) (
    (f6 x9 M4).bind fun r10 =>
    fi (fm_is r10.2 75 75 a0 = true) (
    let x11 : Nat := (r10.2.2.2 211 a0 0)
    fi (fm_is r10.2 63 63 x11 = true) (
    fi (fm_is r10.2 75 75 a0 = true) (
    let x12 : Nat := (r10.2.2.2 171 x11 0)
    fi (fm_is r10.2 64 64 x12 = true) (
    (f7 x12 (Int32.ofInt 10) ((r10.2.1 209 a0 0).toInt64) r10.2).bind fun M13 =>
    fi (fm_is M13 75 75 a0 = true) (
    let x14 : Nat := (M13.2.2 211 a0 0)
    fi (fm_is M13 63 63 x14 = true) (
    let x15 : Nat := (M13.2.2 171 x14 0)
    fi (fm_is M13 64 64 x15 = true) (
    (f7 x15 (Int32.ofInt 11) (Int64.ofInt 2151669760) M13).bind fun M16 =>
    some M16) none) none) none) none) none) none) none) none) none) none) none) none) none) none) none) none) none) none) (
    fi (fm_is M 910 990 a3 = true ∧ fm_in M a3 a5 = true) (
    let x17 : Nat := (M.2.2 3 a3 a5.toNatClampNeg)
    fi (fm_is M 89 89 x17 = true) (
    let M18 : FM := fm_sI M 280 x17 0 (Int32.ofInt 0)
    fi (fm_is M18 89 89 x17 = true) (
    let M19 : FM := fm_sL M18 281 x17 0 (Int64.ofInt 0)
    let x20 : Int32 := a5 + (Int32.ofInt 1)
    k90 a0 a3 a4 x20 M19) none) none) none)
noncomputable def FX46_reset_90 (n : Nat) (k2 : Nat → Int64 → Int32 → FM → Option (FM)) (k90 : Nat → Nat → Int32 → Int32 → FM → Option (FM)) (a0 : Nat) (a3 : Nat) (a4 : Int32) (a5 : Int32) (M : FM) : Option (FM) := BX46_reset_90 (FX86_lay n) FX12_drop FX48_set k90 a0 a3 a4 a5 M
noncomputable def BX46_reset_2 (f0 : Nat → Int64 → FM → Option (FM)) (f1 : Nat → Int32 → FM → Option (FM)) (f2 : Nat → Int32 → FM → Option (FM)) (f3 : Nat → FM → Option (FM)) (f4 : Nat → FM → Option (FM)) (k2 : Nat → Int64 → Int32 → FM → Option (FM)) (k90 : Nat → Nat → Int32 → Int32 → FM → Option (FM)) (a0 : Nat) (a1 : Int64) (a3 : Int32) (M : FM) : Option (FM) :=
  fi ((Int32.ofInt 32) ≤ a3) (
    fi (fm_is M 75 75 a0 = true) (
    let x1 : Nat := (M.2.2 211 a0 0)
    fi (fm_is M 63 63 x1 = true) (
    (f0 x1 a1 M).bind fun M2 =>
    fi (fm_is M2 75 75 a0 = true) (
    let x3 : Nat := (M2.2.2 212 a0 0)
    fi (fm_is M2 32 32 x3 = true) (
    (f1 x3 (Int32.ofInt 0) M2).bind fun M4 =>
    fi (fm_is M4 75 75 a0 = true) (
    let x5 : Nat := (M4.2.2 212 a0 0)
    fi (fm_is M4 32 32 x5 = true) (
    (f2 x5 (Int32.ofInt 0) M4).bind fun M6 =>
    fi (fm_is M6 75 75 a0 = true) (
    let x7 : Nat := (M6.2.2 212 a0 0)
    fi (fm_is M6 32 32 x7 = true) (
    (f3 x7 M6).bind fun M8 =>
    fi (fm_is M8 75 75 a0 = true) (
    (f4 a0 M8).bind fun M9 =>
    fi (fm_is M9 75 75 a0 = true) (
    let x10 : Nat := (M9.2.2 214 a0 0)
    fi (fm_is M9 91 91 x10 = true) (
    let x11 : Nat := (M9.2.2 288 x10 0)
    fi (fm_is M9 90 90 x11 = true) (
    let x12 : Nat := (M9.2.2 284 x11 0)
    fi (fm_is M9 901 990 x12 = true) (
    let x13 : Int32 := (Int32.ofNat (M9.2.2 1 x12 0))
    k90 a0 x12 x13 (Int32.ofInt 0) M9) none) none) none) none) none) none) none) none) none) none) none) none) none) (
    fi (fm_is M 75 75 a0 = true) (
    let x14 : Nat := (M.2.2 211 a0 0)
    fi (fm_is M 63 63 x14 = true) (
    let x15 : Nat := (M.2.2 171 x14 0)
    fi (fm_is M 64 64 x15 = true) (
    let x16 : Nat := (M.2.2 178 x15 0)
    fi (fm_is M 902 902 x16 = true ∧ fm_in M x16 a3 = true) (
    let M17 : FM := fm_sL M 3 x16 a3.toNatClampNeg (Int64.ofInt 0)
    fi (fm_is M17 75 75 a0 = true) (
    let x18 : Nat := (M17.2.2 212 a0 0)
    fi (fm_is M17 32 32 x18 = true) (
    let x19 : Nat := (M17.2.2 93 x18 0)
    fi (fm_is M17 902 902 x19 = true ∧ fm_in M17 x19 a3 = true) (
    let M20 : FM := fm_sL M17 3 x19 a3.toNatClampNeg (Int64.ofInt 0)
    let x21 : Int32 := a3 + (Int32.ofInt 1)
    k2 a0 a1 x21 M20) none) none) none) none) none) none) none)
noncomputable def FX46_reset_2 (n : Nat) (k2 : Nat → Int64 → Int32 → FM → Option (FM)) (k90 : Nat → Nat → Int32 → Int32 → FM → Option (FM)) (a0 : Nat) (a1 : Int64) (a3 : Int32) (M : FM) : Option (FM) := BX46_reset_2 FX47_jump FX59_putFlags FX59_putMode FX59_calm FX46_resetControls k2 k90 a0 a1 a3 M
noncomputable def BX46_reset_0 (k2 : Nat → Int64 → Int32 → FM → Option (FM)) (a0 : Nat) (a1 : Int64) (M : FM) : Option (FM) :=
  k2 a0 a1 (Int32.ofInt 0) M
noncomputable def FX46_reset_0 (n : Nat) (k2 : Nat → Int64 → Int32 → FM → Option (FM)) (k90 : Nat → Nat → Int32 → Int32 → FM → Option (FM)) (a0 : Nat) (a1 : Int64) (M : FM) : Option (FM) := BX46_reset_0 k2 a0 a1 M
noncomputable def FX46_reset_L (n : Nat) : Nat → (Nat → Int64 → Int32 → FM → Option (FM)) × (Nat → Nat → Int32 → Int32 → FM → Option (FM))
  | 0 => (fun _ _ _ _ => none, fun _ _ _ _ _ => none)
  | j + 1 => (FX46_reset_2 n (FX46_reset_L n j).1 (FX46_reset_L n j).2, FX46_reset_90 n (FX46_reset_L n j).1 (FX46_reset_L n j).2)
noncomputable def FX46_reset (n : Nat) (a0 : Nat) (a1 : Int64) (M : FM) : Option (FM) := FX46_reset_0 n (FX46_reset_L n n).1 (FX46_reset_L n n).2 a0 a1 M
/-! BoardMachine$Machine.start()I -/
noncomputable def BX2_start_69 (f3 : Nat → Int64 → FM → Option (FM)) (k69 : Nat → Int32 → Nat → Int32 → Int32 → FM → Option (Int32 × FM)) (a0 : Nat) (a1 : Int32) (a2 : Nat) (a3 : Int32) (a4 : Int32) (M : FM) : Option (Int32 × FM) :=
  fi (a3 ≤ a4) (
    fi (fm_is M 67 67 a0 = true) (
    let x1 : Nat := (M.2.2 189 a0 0)
    fi (fm_is M 11 11 x1 = true) (
    fi ((Int32.ofInt 0) = 0 ∨ (Int32.ofInt 0) = 1) (
    let M2 : FM := fm_sI M 22 x1 0 (Int32.ofInt 0)
    fi (fm_is M2 67 67 a0 = true) (
    let x3 : Nat := (M2.2.2 189 a0 0)
    fi (fm_is M2 11 11 x3 = true) (
    let M4 : FM := fm_sI M2 23 x3 0 (Int32.ofInt (-1))
    some (a1, M4)) none) none) none) none) none) (
    fi (fm_is M 910 990 a2 = true ∧ fm_in M a2 a4 = true) (
    let x5 : Nat := (M.2.2 3 a2 a4.toNatClampNeg)
    fi (fm_is M 67 67 a0 = true) (
    let x6 : Nat := (M.2.2 192 a0 0)
    fi (fm_is M 66 66 x6 = true) (
    fi (fm_is M 75 75 x5 = true) (
    (f3 x5 (M.2.1 188 x6 0) M).bind fun M7 =>
    let x8 : Int32 := a4 + (Int32.ofInt 1)
    k69 a0 a1 a2 a3 x8 M7) none) none) none) none)
noncomputable def FX2_start_69 (n : Nat) (k15 : Nat → Int32 → Int32 → FM → Option (Int32 × FM)) (k69 : Nat → Int32 → Nat → Int32 → Int32 → FM → Option (Int32 × FM)) (a0 : Nat) (a1 : Int32) (a2 : Nat) (a3 : Int32) (a4 : Int32) (M : FM) : Option (Int32 × FM) := BX2_start_69 (FX46_reset n) k69 a0 a1 a2 a3 a4 M
noncomputable def BX2_start_15 (f1 : Nat → Int32 → FM → Option (Int32 × FM)) (f2 : Nat → Int64 → Int32 → Int64 → FM → Option (FM)) (k15 : Nat → Int32 → Int32 → FM → Option (Int32 × FM)) (k69 : Nat → Int32 → Nat → Int32 → Int32 → FM → Option (Int32 × FM)) (a0 : Nat) (a1 : Int32) (a2 : Int32) (M : FM) : Option (Int32 × FM) :=
  fi (a1 ≤ a2) (
    fi (fm_is M 67 67 a0 = true) (
    let x1 : Nat := (M.2.2 190 a0 0)
    fi (fm_is M 901 990 x1 = true) (
    let x2 : Int32 := (Int32.ofNat (M.2.2 1 x1 0))
    k69 a0 a1 x1 x2 (Int32.ofInt 0) M) none) none) (
    fi (fm_is M 67 67 a0 = true) (
    let x3 : Nat := (M.2.2 189 a0 0)
    fi (fm_is M 11 11 x3 = true) (
    fi (fm_is M 67 67 a0 = true) (
    let x4 : Nat := (M.2.2 193 a0 0)
    fi (fm_is M 21 21 x4 = true) (
    let x5 : Nat := (M.2.2 57 x4 0)
    fi (fm_is M 84 84 x5 = true) (
    let x6 : Nat := (M.2.2 256 x5 0)
    fi (fm_is M 86 86 x6 = true) (
    (f1 x6 a2 M).bind fun r7 =>
    let x8 : Nat := (M.2.2 18 x3 0)
    fi (fm_is r7.2 73 73 x8 = true) (
    (f2 x8 ((Int64.ofInt 2151669760) + a2.toInt64) (Int32.ofInt 1) r7.1.toInt64 r7.2).bind fun M9 =>
    let x10 : Int32 := a2 + (Int32.ofInt 1)
    k15 a0 a1 x10 M9) none) none) none) none) none) none) none)
noncomputable def FX2_start_15 (n : Nat) (k15 : Nat → Int32 → Int32 → FM → Option (Int32 × FM)) (k69 : Nat → Int32 → Nat → Int32 → Int32 → FM → Option (Int32 × FM)) (a0 : Nat) (a1 : Int32) (a2 : Int32) (M : FM) : Option (Int32 × FM) := BX2_start_15 FX3_get (FX11_store n) k15 k69 a0 a1 a2 M
noncomputable def BX2_start_0 (f0 : Nat → Int32 → FM → Option (Int32 × FM)) (k15 : Nat → Int32 → Int32 → FM → Option (Int32 × FM)) (a0 : Nat) (M : FM) : Option (Int32 × FM) :=
  fi (fm_is M 67 67 a0 = true) (
  fi (fm_is M 67 67 a0 = true) (
  let x1 : Nat := (M.2.2 190 a0 0)
  fi (fm_is M 901 990 x1 = true) (
  let x2 : Nat := (M.2.2 193 a0 0)
  fi (fm_is M 21 21 x2 = true) (
  (f0 x2 (Int32.ofNat (M.2.2 1 x1 0)) M).bind fun r3 =>
  k15 a0 r3.1 (Int32.ofInt 0) r3.2) none) none) none) none
noncomputable def FX2_start_0 (n : Nat) (k15 : Nat → Int32 → Int32 → FM → Option (Int32 × FM)) (k69 : Nat → Int32 → Nat → Int32 → Int32 → FM → Option (Int32 × FM)) (a0 : Nat) (M : FM) : Option (Int32 × FM) := BX2_start_0 (FX4_describe n) k15 a0 M
noncomputable def FX2_start_L (n : Nat) : Nat → (Nat → Int32 → Int32 → FM → Option (Int32 × FM)) × (Nat → Int32 → Nat → Int32 → Int32 → FM → Option (Int32 × FM))
  | 0 => (fun _ _ _ _ => none, fun _ _ _ _ _ _ => none)
  | j + 1 => (FX2_start_15 n (FX2_start_L n j).1 (FX2_start_L n j).2, FX2_start_69 n (FX2_start_L n j).1 (FX2_start_L n j).2)
noncomputable def FX2_start (n : Nat) (a0 : Nat) (M : FM) : Option (Int32 × FM) := FX2_start_0 n (FX2_start_L n n).1 (FX2_start_L n n).2 a0 M
/-! BoardMachine$Machine.<init>(I)V -/
noncomputable def BX2_init_66 (f4 : Nat → Nat → Nat → FM → Option (FM)) (f5 : Nat → Int32 → Nat → Nat → FM → Option (FM)) (f6 : Nat → FM → Option (Int32 × FM)) (k66 : Nat → Int32 → Nat → Int32 → FM → Option (FM)) (a0 : Nat) (a1 : Int32) (a2 : Nat) (a3 : Int32) (M : FM) : Option (FM) :=
  fi (a1 ≤ a3) (
    let x2 : Nat := fm_nx M
    let M1 : FM := fm_new M 66 3
    fi (fm_is M1 67 67 a0 = true) (
    fi (fm_is M1 67 67 a0 = true) (
    let x3 : Nat := (M1.2.2 189 a0 0)
    fi (fm_is M1 11 11 x3 = true) (
    fi (fm_is M1 66 66 x2 = true) (
    (f4 x2 (M1.2.2 191 a0 0) (M1.2.2 18 x3 0) M1).bind fun M4 =>
    fi (fm_is M4 67 67 a0 = true) (
    let M5 : FM := fm_sR M4 192 a0 0 x2
    fi (fm_is M5 67 67 a0 = true) (
    (f6 a0 M5).bind fun r6 =>
    some r6.2) none) none) none) none) none) none) (
    fi (fm_is M 67 67 a0 = true) (
    let x8 : Nat := fm_nx M
    let M7 : FM := fm_new M 75 13
    fi (fm_is M7 67 67 a0 = true) (
    fi (fm_is M7 75 75 x8 = true) (
    (f5 x8 a3 (M7.2.2 189 a0 0) a2 M7).bind fun M9 =>
    let x10 : Nat := (M.2.2 190 a0 0)
    fi (fm_is M9 922 922 x10 = true ∧ fm_in M9 x10 a3 = true) (
    fi (fm_is M9 75 75 x8 = true) (
    let M11 : FM := fm_sR M9 3 x10 a3.toNatClampNeg x8
    let x12 : Int32 := a3 + (Int32.ofInt 1)
    k66 a0 a1 a2 x12 M11) none) none) none) none) none)
noncomputable def FX2_init_66 (n : Nat) (k66 : Nat → Int32 → Nat → Int32 → FM → Option (FM)) (a0 : Nat) (a1 : Int32) (a2 : Nat) (a3 : Int32) (M : FM) : Option (FM) := BX2_init_66 FX90_init (FX46_init n) (FX2_start n) k66 a0 a1 a2 a3 M
noncomputable def BX2_init_0 (f0 : Nat → Int32 → FM → Option (FM)) (f1 : Nat → FM → Option (FM)) (f2 : Nat → Int32 → FM → Option (FM)) (f3 : Nat → FM → Option (FM)) (k66 : Nat → Int32 → Nat → Int32 → FM → Option (FM)) (a0 : Nat) (a1 : Int32) (M : FM) : Option (FM) :=
  fi (a0 = 0) none (
  let x2 : Nat := fm_nx M
  let M1 : FM := fm_new M 86 2
  fi (fm_is M1 86 86 x2 = true) (
  (f0 x2 (Int32.ofInt 65536) M1).bind fun M3 =>
  fi (fm_is M3 67 67 a0 = true) (
  let M4 : FM := fm_sR M3 191 a0 0 x2
  let x6 : Nat := fm_nx M4
  let M5 : FM := fm_new M4 21 3
  fi (fm_is M5 21 21 x6 = true) (
  (f1 x6 M5).bind fun M7 =>
  fi (fm_is M7 67 67 a0 = true) (
  let M8 : FM := fm_sR M7 193 a0 0 x6
  fi (¬ (Int32.ofInt 65536) < 0 ∧ (Int32.ofInt 65536).toNatClampNeg * 1 ≤ 536870912) (
  let x10 : Nat := fm_nx M8
  let M9 : FM := fm_newa M8 903 194 (Int32.ofInt 65536).toNatClampNeg
  fi (fm_is M9 67 67 a0 = true) (
  let M11 : FM := fm_sR M9 194 a0 0 x10
  let x13 : Nat := fm_nx M11
  let M12 : FM := fm_new M11 11 6
  fi (fm_is M12 11 11 x13 = true) (
  (f2 x13 a1 M12).bind fun M14 =>
  fi (fm_is M14 67 67 a0 = true) (
  let M15 : FM := fm_sR M14 189 a0 0 x13
  fi (¬ a1 < 0 ∧ a1.toNatClampNeg * 4 ≤ 536870912) (
  let x17 : Nat := fm_nx M15
  let M16 : FM := fm_newa M15 922 190 a1.toNatClampNeg
  fi (fm_is M16 67 67 a0 = true) (
  let M18 : FM := fm_sR M16 190 a0 0 x17
  let x20 : Nat := fm_nx M18
  let M19 : FM := fm_new M18 52 5
  fi (fm_is M19 52 52 x20 = true) (
  (f3 x20 M19).bind fun M21 =>
  k66 a0 a1 x20 (Int32.ofInt 0) M21) none) none) none) none) none) none) none) none) none) none) none)
noncomputable def FX2_init_0 (n : Nat) (k66 : Nat → Int32 → Nat → Int32 → FM → Option (FM)) (a0 : Nat) (a1 : Int32) (M : FM) : Option (FM) := BX2_init_0 FX3_init (FX4_init n) (FX10_init n) FX34_init k66 a0 a1 M
noncomputable def FX2_init_L66 (n : Nat) : Nat → Nat → Int32 → Nat → Int32 → FM → Option (FM)
  | 0 => fun _ _ _ _ _ => none
  | j + 1 => FX2_init_66 n (FX2_init_L66 n j)
noncomputable def FX2_init (n : Nat) (a0 : Nat) (a1 : Int32) (M : FM) : Option (FM) := FX2_init_0 n (FX2_init_L66 n n) a0 a1 M
/-! BoardMachine.<init>(I)V -/
noncomputable def BX1_init_24 (f0 : Nat → Int32 → FM → Option (FM)) (s0 : Nat) (s1 : Nat) (s2 : Nat) (s3 : Int32) (M : FM) : Option (FM) :=
  fi (fm_is M 67 67 s2 = true) (
  (f0 s2 s3 M).bind fun M1 =>
  fi (fm_is M1 10 10 s0 = true) (
  let M2 : FM := fm_sR M1 17 s0 0 s1
  some M2) none) none
noncomputable def FX1_init_24 (n : Nat) (s0 : Nat) (s1 : Nat) (s2 : Nat) (s3 : Int32) (M : FM) : Option (FM) := BX1_init_24 (FX2_init n) s0 s1 s2 s3 M
noncomputable def BX1_init_23 (g24 : Nat → Nat → Nat → Int32 → FM → Option (FM)) (s0 : Nat) (s1 : Nat) (s2 : Nat) (M : FM) : Option (FM) :=
  g24 s0 s1 s2 (Int32.ofInt 1) M
noncomputable def FX1_init_23 (n : Nat) (s0 : Nat) (s1 : Nat) (s2 : Nat) (M : FM) : Option (FM) := BX1_init_23 (FX1_init_24 n ) s0 s1 s2 M
noncomputable def BX1_init_0 (g23 : Nat → Nat → Nat → FM → Option (FM)) (g24 : Nat → Nat → Nat → Int32 → FM → Option (FM)) (a0 : Nat) (a1 : Int32) (M : FM) : Option (FM) :=
  fi (a0 = 0) none (
  let x2 : Nat := fm_nx M
  let M1 : FM := fm_new M 67 9
  fi (a1 < (Int32.ofInt 1)) (
    g23 a0 x2 x2 M1) (
    fi ((Int32.ofInt 4) < a1) (
      g23 a0 x2 x2 M1) (
      g24 a0 x2 x2 a1 M1)))
noncomputable def FX1_init_0 (n : Nat) (a0 : Nat) (a1 : Int32) (M : FM) : Option (FM) := BX1_init_0 (FX1_init_23 n ) (FX1_init_24 n ) a0 a1 M
noncomputable def FX1_init (n : Nat) (a0 : Nat) (a1 : Int32) (M : FM) : Option (FM) := FX1_init_0 n a0 a1 M
/-! BoardMachineModel$Ram.<init>()V -/
noncomputable def BX93_init_0 (a0 : Nat) (M : FM) : Option (FM) :=
  fi (a0 = 0) none (
  fi (¬ (Int32.ofInt 524288) < 0 ∧ (Int32.ofInt 524288).toNatClampNeg * 8 ≤ 536870912) (
  let x2 : Nat := fm_nx M
  let M1 : FM := fm_newa M 902 388 (Int32.ofInt 524288).toNatClampNeg
  fi (fm_is M1 98 98 a0 = true) (
  let M3 : FM := fm_sR M1 388 a0 0 x2
  fi (¬ (Int32.ofInt 4) < 0 ∧ (Int32.ofInt 4).toNatClampNeg * 8 ≤ 536870912) (
  let x5 : Nat := fm_nx M3
  let M4 : FM := fm_newa M3 902 389 (Int32.ofInt 4).toNatClampNeg
  fi (fm_is M4 98 98 a0 = true) (
  let M6 : FM := fm_sR M4 389 a0 0 x5
  fi (¬ (Int32.ofInt 4) < 0 ∧ (Int32.ofInt 4).toNatClampNeg * 4 ≤ 536870912) (
  let x8 : Nat := fm_nx M6
  let M7 : FM := fm_newa M6 901 390 (Int32.ofInt 4).toNatClampNeg
  fi (fm_is M7 98 98 a0 = true) (
  let M9 : FM := fm_sR M7 390 a0 0 x8
  fi (¬ (Int32.ofInt 524288) < 0 ∧ (Int32.ofInt 524288).toNatClampNeg * 4 ≤ 536870912) (
  let x11 : Nat := fm_nx M9
  let M10 : FM := fm_newa M9 901 391 (Int32.ofInt 524288).toNatClampNeg
  fi (fm_is M10 98 98 a0 = true) (
  let M12 : FM := fm_sR M10 391 a0 0 x11
  fi (¬ (Int32.ofInt 4) < 0 ∧ (Int32.ofInt 4).toNatClampNeg * 4 ≤ 536870912) (
  let x14 : Nat := fm_nx M12
  let M13 : FM := fm_newa M12 901 392 (Int32.ofInt 4).toNatClampNeg
  fi (fm_is M13 98 98 a0 = true) (
  let M15 : FM := fm_sR M13 392 a0 0 x14
  some M15) none) none) none) none) none) none) none) none) none) none)
noncomputable def FX93_init_0 (a0 : Nat) (M : FM) : Option (FM) := BX93_init_0 a0 M
noncomputable def FX93_init (a0 : Nat) (M : FM) : Option (FM) := FX93_init_0 a0 M
/-! BoardMachineModel$Halves.<init>()V -/
noncomputable def BX94_init_0 (a0 : Nat) (M : FM) : Option (FM) :=
  fi (a0 = 0) none (
  some M)
noncomputable def FX94_init_0 (a0 : Nat) (M : FM) : Option (FM) := BX94_init_0 a0 M
noncomputable def FX94_init (a0 : Nat) (M : FM) : Option (FM) := FX94_init_0 a0 M
/-! BoardMachineModel$Block.<init>(LBoardMachineModel$Ram;)V -/
noncomputable def BX95_init_0 (a0 : Nat) (a1 : Nat) (M : FM) : Option (FM) :=
  fi (a0 = 0) none (
  fi (¬ (Int32.ofInt 131072) < 0 ∧ (Int32.ofInt 131072).toNatClampNeg * 8 ≤ 536870912) (
  let x2 : Nat := fm_nx M
  let M1 : FM := fm_newa M 902 327 (Int32.ofInt 131072).toNatClampNeg
  fi (fm_is M1 93 93 a0 = true) (
  let M3 : FM := fm_sR M1 327 a0 0 x2
  fi (fm_is M3 93 93 a0 = true) (
  let M4 : FM := fm_sI M3 330 a0 0 (Int32.ofInt 16)
  fi (¬ (Int32.ofInt 3) < 0 ∧ (Int32.ofInt 3).toNatClampNeg * 8 ≤ 536870912) (
  let x6 : Nat := fm_nx M4
  let M5 : FM := fm_newa M4 902 334 (Int32.ofInt 3).toNatClampNeg
  fi (fm_is M5 93 93 a0 = true) (
  let M7 : FM := fm_sR M5 334 a0 0 x6
  fi (¬ (Int32.ofInt 16) < 0 ∧ (Int32.ofInt 16).toNatClampNeg * 8 ≤ 536870912) (
  let x9 : Nat := fm_nx M7
  let M8 : FM := fm_newa M7 902 340 (Int32.ofInt 16).toNatClampNeg
  fi (fm_is M8 93 93 a0 = true) (
  let M10 : FM := fm_sR M8 340 a0 0 x9
  fi (¬ (Int32.ofInt 16) < 0 ∧ (Int32.ofInt 16).toNatClampNeg * 8 ≤ 536870912) (
  let x12 : Nat := fm_nx M10
  let M11 : FM := fm_newa M10 902 341 (Int32.ofInt 16).toNatClampNeg
  fi (fm_is M11 93 93 a0 = true) (
  let M13 : FM := fm_sR M11 341 a0 0 x12
  fi (¬ (Int32.ofInt 16) < 0 ∧ (Int32.ofInt 16).toNatClampNeg * 1 ≤ 536870912) (
  let x15 : Nat := fm_nx M13
  let M14 : FM := fm_newa M13 904 342 (Int32.ofInt 16).toNatClampNeg
  fi (fm_is M14 93 93 a0 = true) (
  let M16 : FM := fm_sR M14 342 a0 0 x15
  fi (fm_is M16 93 93 a0 = true) (
  let M17 : FM := fm_sR M16 326 a0 0 a1
  fi (fm_is M17 93 93 a0 = true) (
  let M18 : FM := fm_sI M17 325 a0 0 (Int32.ofInt 2048)
  some M18) none) none) none) none) none) none) none) none) none) none) none) none) none)
noncomputable def FX95_init_0 (a0 : Nat) (a1 : Nat) (M : FM) : Option (FM) := BX95_init_0 a0 a1 M
noncomputable def FX95_init (a0 : Nat) (a1 : Nat) (M : FM) : Option (FM) := FX95_init_0 a0 a1 M
/-! BoardMachineModel$Signals.<init>(I)V -/
noncomputable def BX96_init_119 (k119 : Nat → Int32 → FM → Option (FM)) (a0 : Nat) (a2 : Int32) (M : FM) : Option (FM) :=
  fi ((Int32.ofInt 4) ≤ a2) (
    some M) (
    fi (fm_is M 99 99 a0 = true) (
    let x1 : Nat := (M.2.2 397 a0 0)
    fi (fm_is M 902 902 x1 = true ∧ fm_in M x1 a2 = true) (
    let M2 : FM := fm_sL M 3 x1 a2.toNatClampNeg (Int64.ofInt (-1))
    let x3 : Int32 := a2 + (Int32.ofInt 1)
    k119 a0 x3 M2) none) none)
noncomputable def FX96_init_119 (n : Nat) (k119 : Nat → Int32 → FM → Option (FM)) (a0 : Nat) (a2 : Int32) (M : FM) : Option (FM) := BX96_init_119 k119 a0 a2 M
noncomputable def BX96_init_114 (k119 : Nat → Int32 → FM → Option (FM)) (a0 : Nat) (s0 : Nat) (s1 : Int32) (M : FM) : Option (FM) :=
  fi (fm_is M 99 99 s0 = true) (
  let M1 : FM := fm_sI M 395 s0 0 s1
  k119 a0 (Int32.ofInt 0) M1) none
noncomputable def FX96_init_114 (n : Nat) (k119 : Nat → Int32 → FM → Option (FM)) (a0 : Nat) (s0 : Nat) (s1 : Int32) (M : FM) : Option (FM) := BX96_init_114 k119 a0 s0 s1 M
noncomputable def BX96_init_109 (g114 : Nat → Nat → Int32 → FM → Option (FM)) (a0 : Nat) (s0 : Nat) (M : FM) : Option (FM) :=
  g114 a0 s0 (Int32.ofInt 1) M
noncomputable def FX96_init_109 (n : Nat) (k119 : Nat → Int32 → FM → Option (FM)) (a0 : Nat) (s0 : Nat) (M : FM) : Option (FM) := BX96_init_109 (FX96_init_114 n k119) a0 s0 M
noncomputable def BX96_init_0 (g109 : Nat → Nat → FM → Option (FM)) (g114 : Nat → Nat → Int32 → FM → Option (FM)) (a0 : Nat) (a1 : Int32) (M : FM) : Option (FM) :=
  fi (a0 = 0) none (
  fi (¬ (Int32.ofInt 4) < 0 ∧ (Int32.ofInt 4).toNatClampNeg * 1 ≤ 536870912) (
  let x2 : Nat := fm_nx M
  let M1 : FM := fm_newa M 904 396 (Int32.ofInt 4).toNatClampNeg
  fi (fm_is M1 99 99 a0 = true) (
  let M3 : FM := fm_sR M1 396 a0 0 x2
  fi (¬ (Int32.ofInt 4) < 0 ∧ (Int32.ofInt 4).toNatClampNeg * 8 ≤ 536870912) (
  let x5 : Nat := fm_nx M3
  let M4 : FM := fm_newa M3 902 397 (Int32.ofInt 4).toNatClampNeg
  fi (fm_is M4 99 99 a0 = true) (
  let M6 : FM := fm_sR M4 397 a0 0 x5
  fi (¬ (Int32.ofInt 32) < 0 ∧ (Int32.ofInt 32).toNatClampNeg * 1 ≤ 536870912) (
  let x8 : Nat := fm_nx M6
  let M7 : FM := fm_newa M6 904 399 (Int32.ofInt 32).toNatClampNeg
  fi (fm_is M7 99 99 a0 = true) (
  let M9 : FM := fm_sR M7 399 a0 0 x8
  fi (¬ (Int32.ofInt 32) < 0 ∧ (Int32.ofInt 32).toNatClampNeg * 1 ≤ 536870912) (
  let x11 : Nat := fm_nx M9
  let M10 : FM := fm_newa M9 904 400 (Int32.ofInt 32).toNatClampNeg
  fi (fm_is M10 99 99 a0 = true) (
  let M12 : FM := fm_sR M10 400 a0 0 x11
  fi (¬ (Int32.ofInt 32) < 0 ∧ (Int32.ofInt 32).toNatClampNeg * 1 ≤ 536870912) (
  let x14 : Nat := fm_nx M12
  let M13 : FM := fm_newa M12 904 401 (Int32.ofInt 32).toNatClampNeg
  fi (fm_is M13 99 99 a0 = true) (
  let M15 : FM := fm_sR M13 401 a0 0 x14
  fi (¬ (Int32.ofInt 32) < 0 ∧ (Int32.ofInt 32).toNatClampNeg * 4 ≤ 536870912) (
  let x17 : Nat := fm_nx M15
  let M16 : FM := fm_newa M15 901 402 (Int32.ofInt 32).toNatClampNeg
  fi (fm_is M16 99 99 a0 = true) (
  let M18 : FM := fm_sR M16 402 a0 0 x17
  fi (¬ (Int32.ofInt 8) < 0 ∧ (Int32.ofInt 8).toNatClampNeg * 4 ≤ 536870912) (
  let x20 : Nat := fm_nx M18
  let M19 : FM := fm_newa M18 901 403 (Int32.ofInt 8).toNatClampNeg
  fi (fm_is M19 99 99 a0 = true) (
  let M21 : FM := fm_sR M19 403 a0 0 x20
  fi (¬ (Int32.ofInt 8) < 0 ∧ (Int32.ofInt 8).toNatClampNeg * 4 ≤ 536870912) (
  let x23 : Nat := fm_nx M21
  let M22 : FM := fm_newa M21 901 404 (Int32.ofInt 8).toNatClampNeg
  fi (fm_is M22 99 99 a0 = true) (
  let M24 : FM := fm_sR M22 404 a0 0 x23
  fi (¬ (Int32.ofInt 8) < 0 ∧ (Int32.ofInt 8).toNatClampNeg * 4 ≤ 536870912) (
  let x26 : Nat := fm_nx M24
  let M25 : FM := fm_newa M24 901 405 (Int32.ofInt 8).toNatClampNeg
  fi (fm_is M25 99 99 a0 = true) (
  let M27 : FM := fm_sR M25 405 a0 0 x26
  fi (¬ (Int32.ofInt 2) < 0 ∧ (Int32.ofInt 2).toNatClampNeg * 4 ≤ 536870912) (
  let x29 : Nat := fm_nx M27
  let M28 : FM := fm_newa M27 901 406 (Int32.ofInt 2).toNatClampNeg
  fi (fm_is M28 99 99 a0 = true) (
  let M30 : FM := fm_sR M28 406 a0 0 x29
  fi (¬ (Int32.ofInt 16) < 0 ∧ (Int32.ofInt 16).toNatClampNeg * 4 ≤ 536870912) (
  let x32 : Nat := fm_nx M30
  let M31 : FM := fm_newa M30 901 410 (Int32.ofInt 16).toNatClampNeg
  fi (fm_is M31 99 99 a0 = true) (
  let M33 : FM := fm_sR M31 410 a0 0 x32
  fi (¬ (Int32.ofInt 4096) < 0 ∧ (Int32.ofInt 4096).toNatClampNeg * 4 ≤ 536870912) (
  let x35 : Nat := fm_nx M33
  let M34 : FM := fm_newa M33 901 412 (Int32.ofInt 4096).toNatClampNeg
  fi (fm_is M34 99 99 a0 = true) (
  let M36 : FM := fm_sR M34 412 a0 0 x35
  fi (a1 < (Int32.ofInt 1)) (
    g109 a0 a0 M36) (
    fi (a1 ≤ (Int32.ofInt 4)) (
      g114 a0 a0 a1 M36) (
      g109 a0 a0 M36))) none) none) none) none) none) none) none) none) none) none) none) none) none) none) none) none) none) none) none) none) none) none) none) none)
noncomputable def FX96_init_0 (n : Nat) (k119 : Nat → Int32 → FM → Option (FM)) (a0 : Nat) (a1 : Int32) (M : FM) : Option (FM) := BX96_init_0 (FX96_init_109 n k119) (FX96_init_114 n k119) a0 a1 M
noncomputable def FX96_init_L119 (n : Nat) : Nat → Nat → Int32 → FM → Option (FM)
  | 0 => fun _ _ _ => none
  | j + 1 => FX96_init_119 n (FX96_init_L119 n j)
noncomputable def FX96_init (n : Nat) (a0 : Nat) (a1 : Int32) (M : FM) : Option (FM) := FX96_init_0 n (FX96_init_L119 n n) a0 a1 M
/-! BoardMachineModel$Tree.four(J)V -/
noncomputable def BX97_four_2 (k2 : Nat → Int64 → Int32 → FM → Option (FM)) (a0 : Nat) (a1 : Int64) (a3 : Int32) (M : FM) : Option (FM) :=
  fi (a3 < 0) (
    some M) (
    fi (fm_is M 100 100 a0 = true) (
    fi (fm_is M 100 100 a0 = true) (
    let x1 : Int32 := (M.1 418 a0 0)
    let x2 : Nat := (M.2.2 417 a0 0)
    fi (fm_is M 901 901 x2 = true ∧ fm_in M x2 x1 = true) (
    let M3 : FM := fm_sI M 3 x2 x1.toNatClampNeg ((a1 >>> (((Int32.ofInt 8) * a3).toInt64 &&& 63)).toInt32 &&& (Int32.ofInt 255))
    fi (fm_is M3 100 100 a0 = true) (
    fi (fm_is M3 100 100 a0 = true) (
    let M4 : FM := fm_sI M3 418 a0 0 ((M3.1 418 a0 0) + (Int32.ofInt 1))
    let x5 : Int32 := a3 + (Int32.ofInt (-1))
    k2 a0 a1 x5 M4) none) none) none) none) none)
noncomputable def FX97_four_2 (n : Nat) (k2 : Nat → Int64 → Int32 → FM → Option (FM)) (a0 : Nat) (a1 : Int64) (a3 : Int32) (M : FM) : Option (FM) := BX97_four_2 k2 a0 a1 a3 M
noncomputable def BX97_four_0 (k2 : Nat → Int64 → Int32 → FM → Option (FM)) (a0 : Nat) (a1 : Int64) (M : FM) : Option (FM) :=
  k2 a0 a1 (Int32.ofInt 3) M
noncomputable def FX97_four_0 (n : Nat) (k2 : Nat → Int64 → Int32 → FM → Option (FM)) (a0 : Nat) (a1 : Int64) (M : FM) : Option (FM) := BX97_four_0 k2 a0 a1 M
noncomputable def FX97_four_L2 (n : Nat) : Nat → Nat → Int64 → Int32 → FM → Option (FM)
  | 0 => fun _ _ _ _ => none
  | j + 1 => FX97_four_2 n (FX97_four_L2 n j)
noncomputable def FX97_four (n : Nat) (a0 : Nat) (a1 : Int64) (M : FM) : Option (FM) := FX97_four_0 n (FX97_four_L2 n n) a0 a1 M
/-! BoardMachineModel$Tree.characters(Ljava/lang/String;)V -/
noncomputable def BX97_characters_2 (f0 : Nat → FM → Option (Int32 × FM)) (f1 : Nat → Int32 → FM → Option (Int32 × FM)) (k2 : Nat → Nat → Int32 → FM → Option (FM)) (a0 : Nat) (a1 : Nat) (a2 : Int32) (M : FM) : Option (FM) :=
  fi (fm_is M 7 7 a1 = true) (
  (f0 a1 M).bind fun r1 =>
  fi (r1.1 ≤ a2) (
    fi (fm_is r1.2 100 100 a0 = true) (
    fi (fm_is r1.2 100 100 a0 = true) (
    let x2 : Int32 := (r1.2.1 418 a0 0)
    let x3 : Nat := (r1.2.2.2 417 a0 0)
    fi (fm_is r1.2 901 901 x3 = true ∧ fm_in r1.2 x3 x2 = true) (
    let M4 : FM := fm_sI r1.2 3 x3 x2.toNatClampNeg (Int32.ofInt 0)
    fi (fm_is M4 100 100 a0 = true) (
    fi (fm_is M4 100 100 a0 = true) (
    let M5 : FM := fm_sI M4 418 a0 0 ((M4.1 418 a0 0) + (Int32.ofInt 1))
    some M5) none) none) none) none) none) (
    fi (fm_is r1.2 100 100 a0 = true) (
    fi (fm_is r1.2 100 100 a0 = true) (
    fi (fm_is r1.2 7 7 a1 = true) (
    (f1 a1 a2 r1.2).bind fun r6 =>
    let x7 : Int32 := (r1.2.1 418 a0 0)
    let x8 : Nat := (r1.2.2.2 417 a0 0)
    fi (fm_is r6.2 901 901 x8 = true ∧ fm_in r6.2 x8 x7 = true) (
    let M9 : FM := fm_sI r6.2 3 x8 x7.toNatClampNeg r6.1
    fi (fm_is M9 100 100 a0 = true) (
    fi (fm_is M9 100 100 a0 = true) (
    let M10 : FM := fm_sI M9 418 a0 0 ((M9.1 418 a0 0) + (Int32.ofInt 1))
    let x11 : Int32 := a2 + (Int32.ofInt 1)
    k2 a0 a1 x11 M10) none) none) none) none) none) none)) none
noncomputable def FX97_characters_2 (n : Nat) (k2 : Nat → Nat → Int32 → FM → Option (FM)) (a0 : Nat) (a1 : Nat) (a2 : Int32) (M : FM) : Option (FM) := BX97_characters_2 FJ1_length FJ1_charAt k2 a0 a1 a2 M
noncomputable def BX97_characters_0 (k2 : Nat → Nat → Int32 → FM → Option (FM)) (a0 : Nat) (a1 : Nat) (M : FM) : Option (FM) :=
  k2 a0 a1 (Int32.ofInt 0) M
noncomputable def FX97_characters_0 (n : Nat) (k2 : Nat → Nat → Int32 → FM → Option (FM)) (a0 : Nat) (a1 : Nat) (M : FM) : Option (FM) := BX97_characters_0 k2 a0 a1 M
noncomputable def FX97_characters_L2 (n : Nat) : Nat → Nat → Nat → Int32 → FM → Option (FM)
  | 0 => fun _ _ _ _ => none
  | j + 1 => FX97_characters_2 n (FX97_characters_L2 n j)
noncomputable def FX97_characters (n : Nat) (a0 : Nat) (a1 : Nat) (M : FM) : Option (FM) := FX97_characters_0 n (FX97_characters_L2 n n) a0 a1 M
/-! BoardMachineModel$Tree.fillUp()V -/
noncomputable def BX97_fillUp_0 (k0 : Nat → FM → Option (FM)) (a0 : Nat) (M : FM) : Option (FM) :=
  fi (fm_is M 100 100 a0 = true) (
  let x1 : Int32 := (M.1 418 a0 0)
  fi ((Int32.ofInt 4) = 0) none (
  fi ((x1 - x1 / (Int32.ofInt 4) * (Int32.ofInt 4)) = 0) (
    some M) (
    fi (fm_is M 100 100 a0 = true) (
    fi (fm_is M 100 100 a0 = true) (
    let x2 : Int32 := (M.1 418 a0 0)
    let x3 : Nat := (M.2.2 417 a0 0)
    fi (fm_is M 901 901 x3 = true ∧ fm_in M x3 x2 = true) (
    let M4 : FM := fm_sI M 3 x3 x2.toNatClampNeg (Int32.ofInt 0)
    fi (fm_is M4 100 100 a0 = true) (
    fi (fm_is M4 100 100 a0 = true) (
    let M5 : FM := fm_sI M4 418 a0 0 ((M4.1 418 a0 0) + (Int32.ofInt 1))
    k0 a0 M5) none) none) none) none) none))) none
noncomputable def FX97_fillUp_0 (n : Nat) (k0 : Nat → FM → Option (FM)) (a0 : Nat) (M : FM) : Option (FM) := BX97_fillUp_0 k0 a0 M
noncomputable def FX97_fillUp_L0 (n : Nat) : Nat → Nat → FM → Option (FM)
  | 0 => fun _ _ => none
  | j + 1 => FX97_fillUp_0 n (FX97_fillUp_L0 n j)
noncomputable def FX97_fillUp (n : Nat) (a0 : Nat) (M : FM) : Option (FM) := FX97_fillUp_L0 n n a0 M
/-! BoardMachineModel$Tree.node(Ljava/lang/String;)V -/
noncomputable def BX97_node_0 (f0 : Nat → Int64 → FM → Option (FM)) (f1 : Nat → Nat → FM → Option (FM)) (f2 : Nat → FM → Option (FM)) (a0 : Nat) (a1 : Nat) (M : FM) : Option (FM) :=
  fi (fm_is M 100 100 a0 = true) (
  (f0 a0 (Int64.ofInt 1) M).bind fun M1 =>
  fi (fm_is M1 100 100 a0 = true) (
  (f1 a0 a1 M1).bind fun M2 =>
  fi (fm_is M2 100 100 a0 = true) (
  (f2 a0 M2).bind fun M3 =>
  some M3) none) none) none
noncomputable def FX97_node_0 (n : Nat) (a0 : Nat) (a1 : Nat) (M : FM) : Option (FM) := BX97_node_0 (FX97_four n) (FX97_characters n) (FX97_fillUp n) a0 a1 M
noncomputable def FX97_node (n : Nat) (a0 : Nat) (a1 : Nat) (M : FM) : Option (FM) := FX97_node_0 n a0 a1 M
/-! BoardMachineModel$Tree.isAt(Ljava/lang/String;I)Z -/
noncomputable def BX97_isAt_79 (a3 : Int32) (M : FM) : Option (Int32 × FM) :=
  fi (a3 = 0 ∨ a3 = 1) (some (a3, M)) none
noncomputable def FX97_isAt_79 (n : Nat) (k36 : Nat → Nat → Int32 → Int32 → Int32 → FM → Option (Int32 × FM)) (a3 : Int32) (M : FM) : Option (Int32 × FM) := BX97_isAt_79 a3 M
noncomputable def BX97_isAt_72 (k36 : Nat → Nat → Int32 → Int32 → Int32 → FM → Option (Int32 × FM)) (a0 : Nat) (a1 : Nat) (a2 : Int32) (a4 : Int32) (s0 : Int32) (M : FM) : Option (Int32 × FM) :=
  let x1 : Int32 := a4 + (Int32.ofInt 1)
  k36 a0 a1 a2 s0 x1 M
noncomputable def FX97_isAt_72 (n : Nat) (k36 : Nat → Nat → Int32 → Int32 → Int32 → FM → Option (Int32 × FM)) (a0 : Nat) (a1 : Nat) (a2 : Int32) (a4 : Int32) (s0 : Int32) (M : FM) : Option (Int32 × FM) := BX97_isAt_72 k36 a0 a1 a2 a4 s0 M
noncomputable def BX97_isAt_36 (f0 : Nat → FM → Option (Int32 × FM)) (f1 : Nat → Int32 → FM → Option (Int32 × FM)) (g72 : Nat → Nat → Int32 → Int32 → Int32 → FM → Option (Int32 × FM)) (g79 : Int32 → FM → Option (Int32 × FM)) (a0 : Nat) (a1 : Nat) (a2 : Int32) (a3 : Int32) (a4 : Int32) (M : FM) : Option (Int32 × FM) :=
  fi (fm_is M 7 7 a1 = true) (
  (f0 a1 M).bind fun r1 =>
  fi (r1.1 ≤ a4) (
    g79 a3 r1.2) (
    fi (a3 = 0) (
      g79 a3 r1.2) (
      fi (fm_is r1.2 100 100 a0 = true) (
      let x2 : Int32 := (a2 + a4)
      let x3 : Nat := (r1.2.2.2 419 a0 0)
      fi (fm_is r1.2 901 901 x3 = true ∧ fm_in r1.2 x3 x2 = true) (
      fi (fm_is r1.2 7 7 a1 = true) (
      (f1 a1 a4 r1.2).bind fun r4 =>
      fi ((r1.2.1 3 x3 x2.toNatClampNeg) = r4.1) (
        g72 a0 a1 a2 a4 (Int32.ofInt 1) r4.2) (
        g72 a0 a1 a2 a4 (Int32.ofInt 0) r4.2)) none) none) none))) none
noncomputable def FX97_isAt_36 (n : Nat) (k36 : Nat → Nat → Int32 → Int32 → Int32 → FM → Option (Int32 × FM)) (a0 : Nat) (a1 : Nat) (a2 : Int32) (a3 : Int32) (a4 : Int32) (M : FM) : Option (Int32 × FM) := BX97_isAt_36 FJ1_length FJ1_charAt (FX97_isAt_72 n k36) (FX97_isAt_79 n k36) a0 a1 a2 a3 a4 M
noncomputable def BX97_isAt_32 (k36 : Nat → Nat → Int32 → Int32 → Int32 → FM → Option (Int32 × FM)) (a0 : Nat) (a1 : Nat) (a2 : Int32) (s0 : Int32) (M : FM) : Option (Int32 × FM) :=
  k36 a0 a1 a2 s0 (Int32.ofInt 0) M
noncomputable def FX97_isAt_32 (n : Nat) (k36 : Nat → Nat → Int32 → Int32 → Int32 → FM → Option (Int32 × FM)) (a0 : Nat) (a1 : Nat) (a2 : Int32) (s0 : Int32) (M : FM) : Option (Int32 × FM) := BX97_isAt_32 k36 a0 a1 a2 s0 M
noncomputable def BX97_isAt_31 (g32 : Nat → Nat → Int32 → Int32 → FM → Option (Int32 × FM)) (a0 : Nat) (a1 : Nat) (a2 : Int32) (M : FM) : Option (Int32 × FM) :=
  g32 a0 a1 a2 (Int32.ofInt 0) M
noncomputable def FX97_isAt_31 (n : Nat) (k36 : Nat → Nat → Int32 → Int32 → Int32 → FM → Option (Int32 × FM)) (a0 : Nat) (a1 : Nat) (a2 : Int32) (M : FM) : Option (Int32 × FM) := BX97_isAt_31 (FX97_isAt_32 n k36) a0 a1 a2 M
noncomputable def BX97_isAt_0 (f0 : Nat → FM → Option (Int32 × FM)) (g31 : Nat → Nat → Int32 → FM → Option (Int32 × FM)) (g32 : Nat → Nat → Int32 → Int32 → FM → Option (Int32 × FM)) (a0 : Nat) (a1 : Nat) (a2 : Int32) (M : FM) : Option (Int32 × FM) :=
  fi (fm_is M 7 7 a1 = true) (
  (f0 a1 M).bind fun r1 =>
  fi (fm_is r1.2 100 100 a0 = true) (
  fi ((r1.2.1 420 a0 0) ≤ (a2 + r1.1)) (
    g31 a0 a1 a2 r1.2) (
    fi (fm_is r1.2 100 100 a0 = true) (
    fi (fm_is r1.2 7 7 a1 = true) (
    (f0 a1 r1.2).bind fun r2 =>
    let x3 : Int32 := (a2 + r2.1)
    let x4 : Nat := (r1.2.2.2 419 a0 0)
    fi (fm_is r2.2 901 901 x4 = true ∧ fm_in r2.2 x4 x3 = true) (
    fi ((r2.2.1 3 x4 x3.toNatClampNeg) = 0) (
      g32 a0 a1 a2 (Int32.ofInt 1) r2.2) (
      g31 a0 a1 a2 r2.2)) none) none) none)) none) none
noncomputable def FX97_isAt_0 (n : Nat) (k36 : Nat → Nat → Int32 → Int32 → Int32 → FM → Option (Int32 × FM)) (a0 : Nat) (a1 : Nat) (a2 : Int32) (M : FM) : Option (Int32 × FM) := BX97_isAt_0 FJ1_length (FX97_isAt_31 n k36) (FX97_isAt_32 n k36) a0 a1 a2 M
noncomputable def FX97_isAt_L36 (n : Nat) : Nat → Nat → Nat → Int32 → Int32 → Int32 → FM → Option (Int32 × FM)
  | 0 => fun _ _ _ _ _ _ => none
  | j + 1 => FX97_isAt_36 n (FX97_isAt_L36 n j)
noncomputable def FX97_isAt (n : Nat) (a0 : Nat) (a1 : Nat) (a2 : Int32) (M : FM) : Option (Int32 × FM) := FX97_isAt_0 n (FX97_isAt_L36 n n) a0 a1 a2 M
/-! BoardMachineModel$Tree.placeOf(Ljava/lang/String;)I -/
noncomputable def BX97_placeOf_108 (a2 : Int32) (M : FM) : Option (Int32 × FM) :=
  some (a2, M)
noncomputable def FX97_placeOf_108 (n : Nat) (k2 : Nat → Nat → Int32 → FM → Option (Int32 × FM)) (k19 : Nat → Nat → Int32 → FM → Option (Int32 × FM)) (k50 : Nat → Nat → Int32 → Int32 → FM → Option (Int32 × FM)) (a2 : Int32) (M : FM) : Option (Int32 × FM) := BX97_placeOf_108 a2 M
noncomputable def BX97_placeOf_50 (f1 : Nat → FM → Option (Int32 × FM)) (f2 : Nat → Int32 → FM → Option (Int32 × FM)) (g108 : Int32 → FM → Option (Int32 × FM)) (k50 : Nat → Nat → Int32 → Int32 → FM → Option (Int32 × FM)) (a0 : Nat) (a1 : Nat) (a2 : Int32) (a3 : Int32) (M : FM) : Option (Int32 × FM) :=
  fi (fm_is M 7 7 a1 = true) (
  (f1 a1 M).bind fun r1 =>
  fi (r1.1 ≤ a3) (
    fi (fm_is r1.2 100 100 a0 = true) (
    fi (fm_is r1.2 100 100 a0 = true) (
    let x2 : Int32 := (r1.2.1 420 a0 0)
    let x3 : Nat := (r1.2.2.2 419 a0 0)
    fi (fm_is r1.2 901 901 x3 = true ∧ fm_in r1.2 x3 x2 = true) (
    let M4 : FM := fm_sI r1.2 3 x3 x2.toNatClampNeg (Int32.ofInt 0)
    fi (fm_is M4 100 100 a0 = true) (
    fi (fm_is M4 100 100 a0 = true) (
    let M5 : FM := fm_sI M4 420 a0 0 ((M4.1 420 a0 0) + (Int32.ofInt 1))
    g108 a2 M5) none) none) none) none) none) (
    fi (fm_is r1.2 100 100 a0 = true) (
    fi (fm_is r1.2 100 100 a0 = true) (
    fi (fm_is r1.2 7 7 a1 = true) (
    (f2 a1 a3 r1.2).bind fun r6 =>
    let x7 : Int32 := (r1.2.1 420 a0 0)
    let x8 : Nat := (r1.2.2.2 419 a0 0)
    fi (fm_is r6.2 901 901 x8 = true ∧ fm_in r6.2 x8 x7 = true) (
    let M9 : FM := fm_sI r6.2 3 x8 x7.toNatClampNeg r6.1
    fi (fm_is M9 100 100 a0 = true) (
    fi (fm_is M9 100 100 a0 = true) (
    let M10 : FM := fm_sI M9 420 a0 0 ((M9.1 420 a0 0) + (Int32.ofInt 1))
    let x11 : Int32 := a3 + (Int32.ofInt 1)
    k50 a0 a1 a2 x11 M10) none) none) none) none) none) none)) none
noncomputable def FX97_placeOf_50 (n : Nat) (k2 : Nat → Nat → Int32 → FM → Option (Int32 × FM)) (k19 : Nat → Nat → Int32 → FM → Option (Int32 × FM)) (k50 : Nat → Nat → Int32 → Int32 → FM → Option (Int32 × FM)) (a0 : Nat) (a1 : Nat) (a2 : Int32) (a3 : Int32) (M : FM) : Option (Int32 × FM) := BX97_placeOf_50 FJ1_length FJ1_charAt (FX97_placeOf_108 n k2 k19 k50) k50 a0 a1 a2 a3 M
noncomputable def BX97_placeOf_40 (g108 : Int32 → FM → Option (Int32 × FM)) (k50 : Nat → Nat → Int32 → Int32 → FM → Option (Int32 × FM)) (a0 : Nat) (a1 : Nat) (a2 : Int32) (M : FM) : Option (Int32 × FM) :=
  fi (fm_is M 100 100 a0 = true) (
  fi (a2 = (M.1 420 a0 0)) (
    k50 a0 a1 a2 (Int32.ofInt 0) M) (
    g108 a2 M)) none
noncomputable def FX97_placeOf_40 (n : Nat) (k2 : Nat → Nat → Int32 → FM → Option (Int32 × FM)) (k19 : Nat → Nat → Int32 → FM → Option (Int32 × FM)) (k50 : Nat → Nat → Int32 → Int32 → FM → Option (Int32 × FM)) (a0 : Nat) (a1 : Nat) (a2 : Int32) (M : FM) : Option (Int32 × FM) := BX97_placeOf_40 (FX97_placeOf_108 n k2 k19 k50) k50 a0 a1 a2 M
noncomputable def BX97_placeOf_19 (k2 : Nat → Nat → Int32 → FM → Option (Int32 × FM)) (k19 : Nat → Nat → Int32 → FM → Option (Int32 × FM)) (a0 : Nat) (a1 : Nat) (a2 : Int32) (M : FM) : Option (Int32 × FM) :=
  fi (fm_is M 100 100 a0 = true) (
  let x1 : Nat := (M.2.2 419 a0 0)
  fi (fm_is M 901 901 x1 = true ∧ fm_in M x1 a2 = true) (
  fi ((M.1 3 x1 a2.toNatClampNeg) = 0) (
    let x2 : Int32 := a2 + (Int32.ofInt 1)
    k2 a0 a1 x2 M) (
    let x3 : Int32 := a2 + (Int32.ofInt 1)
    k19 a0 a1 x3 M)) none) none
noncomputable def FX97_placeOf_19 (n : Nat) (k2 : Nat → Nat → Int32 → FM → Option (Int32 × FM)) (k19 : Nat → Nat → Int32 → FM → Option (Int32 × FM)) (k50 : Nat → Nat → Int32 → Int32 → FM → Option (Int32 × FM)) (a0 : Nat) (a1 : Nat) (a2 : Int32) (M : FM) : Option (Int32 × FM) := BX97_placeOf_19 k2 k19 a0 a1 a2 M
noncomputable def BX97_placeOf_2 (f0 : Nat → Nat → Int32 → FM → Option (Int32 × FM)) (g40 : Nat → Nat → Int32 → FM → Option (Int32 × FM)) (k19 : Nat → Nat → Int32 → FM → Option (Int32 × FM)) (a0 : Nat) (a1 : Nat) (a2 : Int32) (M : FM) : Option (Int32 × FM) :=
  fi (fm_is M 100 100 a0 = true) (
  fi ((M.1 420 a0 0) ≤ a2) (
    g40 a0 a1 a2 M) (
    fi (fm_is M 100 100 a0 = true) (
    (f0 a0 a1 a2 M).bind fun r1 =>
    fi (r1.1 = 0) (
      k19 a0 a1 a2 r1.2) (
      g40 a0 a1 a2 r1.2)) none)) none
noncomputable def FX97_placeOf_2 (n : Nat) (k2 : Nat → Nat → Int32 → FM → Option (Int32 × FM)) (k19 : Nat → Nat → Int32 → FM → Option (Int32 × FM)) (k50 : Nat → Nat → Int32 → Int32 → FM → Option (Int32 × FM)) (a0 : Nat) (a1 : Nat) (a2 : Int32) (M : FM) : Option (Int32 × FM) := BX97_placeOf_2 (FX97_isAt n) (FX97_placeOf_40 n k2 k19 k50) k19 a0 a1 a2 M
noncomputable def BX97_placeOf_0 (k2 : Nat → Nat → Int32 → FM → Option (Int32 × FM)) (a0 : Nat) (a1 : Nat) (M : FM) : Option (Int32 × FM) :=
  k2 a0 a1 (Int32.ofInt 0) M
noncomputable def FX97_placeOf_0 (n : Nat) (k2 : Nat → Nat → Int32 → FM → Option (Int32 × FM)) (k19 : Nat → Nat → Int32 → FM → Option (Int32 × FM)) (k50 : Nat → Nat → Int32 → Int32 → FM → Option (Int32 × FM)) (a0 : Nat) (a1 : Nat) (M : FM) : Option (Int32 × FM) := BX97_placeOf_0 k2 a0 a1 M
noncomputable def FX97_placeOf_L (n : Nat) : Nat → (Nat → Nat → Int32 → FM → Option (Int32 × FM)) × (Nat → Nat → Int32 → FM → Option (Int32 × FM)) × (Nat → Nat → Int32 → Int32 → FM → Option (Int32 × FM))
  | 0 => (fun _ _ _ _ => none, fun _ _ _ _ => none, fun _ _ _ _ _ => none)
  | j + 1 => (FX97_placeOf_2 n (FX97_placeOf_L n j).1 (FX97_placeOf_L n j).2.1 (FX97_placeOf_L n j).2.2, FX97_placeOf_19 n (FX97_placeOf_L n j).1 (FX97_placeOf_L n j).2.1 (FX97_placeOf_L n j).2.2, FX97_placeOf_50 n (FX97_placeOf_L n j).1 (FX97_placeOf_L n j).2.1 (FX97_placeOf_L n j).2.2)
noncomputable def FX97_placeOf (n : Nat) (a0 : Nat) (a1 : Nat) (M : FM) : Option (Int32 × FM) := FX97_placeOf_0 n (FX97_placeOf_L n n).1 (FX97_placeOf_L n n).2.1 (FX97_placeOf_L n n).2.2 a0 a1 M
/-! BoardMachineModel$Tree.open(Ljava/lang/String;)V -/
noncomputable def BX97_open_0 (f0 : Nat → Int64 → FM → Option (FM)) (f1 : Nat → Nat → FM → Option (Int32 × FM)) (a0 : Nat) (a1 : Nat) (M : FM) : Option (FM) :=
  fi (fm_is M 100 100 a0 = true) (
  (f0 a0 (Int64.ofInt 3) M).bind fun M1 =>
  fi (fm_is M1 100 100 a0 = true) (
  fi (fm_is M1 100 100 a0 = true) (
  let M2 : FM := fm_sI M1 421 a0 0 (M1.1 418 a0 0)
  fi (fm_is M2 100 100 a0 = true) (
  (f0 a0 (Int64.ofInt 0) M2).bind fun M3 =>
  fi (fm_is M3 100 100 a0 = true) (
  (f1 a0 a1 M3).bind fun r4 =>
  fi (fm_is r4.2 100 100 a0 = true) (
  (f0 a0 r4.1.toInt64 r4.2).bind fun M5 =>
  some M5) none) none) none) none) none) none
noncomputable def FX97_open_0 (n : Nat) (a0 : Nat) (a1 : Nat) (M : FM) : Option (FM) := BX97_open_0 (FX97_four n) (FX97_placeOf n) a0 a1 M
noncomputable def FX97_open (n : Nat) (a0 : Nat) (a1 : Nat) (M : FM) : Option (FM) := FX97_open_0 n a0 a1 M
/-! BoardMachineModel$Tree.close()V -/
noncomputable def BX97_close_0 (f0 : Nat → Int64 → FM → Option (FM)) (f1 : Nat → FM → Option (FM)) (a0 : Nat) (M : FM) : Option (FM) :=
  fi (fm_is M 100 100 a0 = true) (
  let x1 : Int32 := (M.1 418 a0 0)
  fi (fm_is M 100 100 a0 = true) (
  fi (fm_is M 100 100 a0 = true) (
  let M2 : FM := fm_sI M 418 a0 0 (M.1 421 a0 0)
  fi (fm_is M2 100 100 a0 = true) (
  fi (fm_is M2 100 100 a0 = true) (
  (f0 a0 (((x1 - (M2.1 421 a0 0)) - (Int32.ofInt 8)).toInt64) M2).bind fun M3 =>
  fi (fm_is M3 100 100 a0 = true) (
  let M4 : FM := fm_sI M3 418 a0 0 x1
  fi (fm_is M4 100 100 a0 = true) (
  (f1 a0 M4).bind fun M5 =>
  some M5) none) none) none) none) none) none) none
noncomputable def FX97_close_0 (n : Nat) (a0 : Nat) (M : FM) : Option (FM) := BX97_close_0 (FX97_four n) (FX97_fillUp n) a0 M
noncomputable def FX97_close (n : Nat) (a0 : Nat) (M : FM) : Option (FM) := FX97_close_0 n a0 M
/-! BoardMachineModel$Tree.number(Ljava/lang/String;J)V -/
noncomputable def BX97_number_0 (f0 : Nat → Nat → FM → Option (FM)) (f1 : Nat → Int64 → FM → Option (FM)) (f2 : Nat → FM → Option (FM)) (a0 : Nat) (a1 : Nat) (a2 : Int64) (M : FM) : Option (FM) :=
  fi (fm_is M 100 100 a0 = true) (
  (f0 a0 a1 M).bind fun M1 =>
  fi (fm_is M1 100 100 a0 = true) (
  (f1 a0 a2 M1).bind fun M2 =>
  fi (fm_is M2 100 100 a0 = true) (
  (f2 a0 M2).bind fun M3 =>
  some M3) none) none) none
noncomputable def FX97_number_0 (n : Nat) (a0 : Nat) (a1 : Nat) (a2 : Int64) (M : FM) : Option (FM) := BX97_number_0 (FX97_open n) (FX97_four n) (FX97_close n) a0 a1 a2 M
noncomputable def FX97_number (n : Nat) (a0 : Nat) (a1 : Nat) (a2 : Int64) (M : FM) : Option (FM) := FX97_number_0 n a0 a1 a2 M
/-! BoardMachineModel$Tree.cells(II)V -/
noncomputable def BX97_cells_0 (f0 : Nat → Nat → Int64 → FM → Option (FM)) (a0 : Nat) (a1 : Int32) (a2 : Int32) (M : FM) : Option (FM) :=
  fi (fm_is M 100 100 a0 = true) (
  (f0 a0 101 a1.toInt64 M).bind fun M1 =>
  fi (fm_is M1 100 100 a0 = true) (
  (f0 a0 103 a2.toInt64 M1).bind fun M2 =>
  some M2) none) none
noncomputable def FX97_cells_0 (n : Nat) (a0 : Nat) (a1 : Int32) (a2 : Int32) (M : FM) : Option (FM) := BX97_cells_0 (FX97_number n) a0 a1 a2 M
noncomputable def FX97_cells (n : Nat) (a0 : Nat) (a1 : Int32) (a2 : Int32) (M : FM) : Option (FM) := FX97_cells_0 n a0 a1 a2 M
/-! BoardMachineModel$Tree.text(Ljava/lang/String;Ljava/lang/String;)V -/
noncomputable def BX97_text_0 (f0 : Nat → Nat → FM → Option (FM)) (f1 : Nat → Nat → FM → Option (FM)) (f2 : Nat → FM → Option (FM)) (a0 : Nat) (a1 : Nat) (a2 : Nat) (M : FM) : Option (FM) :=
  fi (fm_is M 100 100 a0 = true) (
  (f0 a0 a1 M).bind fun M1 =>
  fi (fm_is M1 100 100 a0 = true) (
  (f1 a0 a2 M1).bind fun M2 =>
  fi (fm_is M2 100 100 a0 = true) (
  (f2 a0 M2).bind fun M3 =>
  some M3) none) none) none
noncomputable def FX97_text_0 (n : Nat) (a0 : Nat) (a1 : Nat) (a2 : Nat) (M : FM) : Option (FM) := BX97_text_0 (FX97_open n) (FX97_characters n) (FX97_close n) a0 a1 a2 M
noncomputable def FX97_text (n : Nat) (a0 : Nat) (a1 : Nat) (a2 : Nat) (M : FM) : Option (FM) := FX97_text_0 n a0 a1 a2 M
/-! BoardMachineModel$Tree.done()V -/
noncomputable def BX97_done_0 (f0 : Nat → Int64 → FM → Option (FM)) (a0 : Nat) (M : FM) : Option (FM) :=
  fi (fm_is M 100 100 a0 = true) (
  (f0 a0 (Int64.ofInt 2) M).bind fun M1 =>
  some M1) none
noncomputable def FX97_done_0 (n : Nat) (a0 : Nat) (M : FM) : Option (FM) := BX97_done_0 (FX97_four n) a0 M
noncomputable def FX97_done (n : Nat) (a0 : Nat) (M : FM) : Option (FM) := FX97_done_0 n a0 M
/-! BoardMachineModel$Tree.nothing(Ljava/lang/String;)V -/
noncomputable def BX97_nothing_0 (f0 : Nat → Nat → FM → Option (FM)) (f1 : Nat → FM → Option (FM)) (a0 : Nat) (a1 : Nat) (M : FM) : Option (FM) :=
  fi (fm_is M 100 100 a0 = true) (
  (f0 a0 a1 M).bind fun M1 =>
  fi (fm_is M1 100 100 a0 = true) (
  (f1 a0 M1).bind fun M2 =>
  some M2) none) none
noncomputable def FX97_nothing_0 (n : Nat) (a0 : Nat) (a1 : Nat) (M : FM) : Option (FM) := BX97_nothing_0 (FX97_open n) (FX97_close n) a0 a1 M
noncomputable def FX97_nothing (n : Nat) (a0 : Nat) (a1 : Nat) (M : FM) : Option (FM) := FX97_nothing_0 n a0 a1 M
/-! BoardMachineModel$Tree.processor(I)V -/
noncomputable def BX97_processor_32 (f0 : Nat → Nat → FM → Option (FM)) (f1 : Nat → Nat → Nat → FM → Option (FM)) (f2 : Nat → Nat → Int64 → FM → Option (FM)) (f3 : Nat → Nat → FM → Option (FM)) (f4 : Nat → FM → Option (FM)) (a0 : Nat) (a1 : Int32) (s0 : Nat) (s1 : Nat) (M : FM) : Option (FM) :=
  fi (fm_is M 100 100 s0 = true) (
  (f0 s0 s1 M).bind fun M1 =>
  fi (fm_is M1 100 100 a0 = true) (
  (f1 a0 117 110 M1).bind fun M2 =>
  fi (fm_is M2 100 100 a0 = true) (
  (f2 a0 132 a1.toInt64 M2).bind fun M3 =>
  fi (fm_is M3 100 100 a0 = true) (
  (f1 a0 137 129 M3).bind fun M4 =>
  fi (fm_is M4 100 100 a0 = true) (
  (f1 a0 109 146 M4).bind fun M5 =>
  fi (fm_is M5 100 100 a0 = true) (
  (f1 a0 124 142 M5).bind fun M6 =>
  fi (fm_is M6 100 100 a0 = true) (
  (f1 a0 127 139 M6).bind fun M7 =>
  fi (fm_is M7 100 100 a0 = true) (
  (f0 a0 119 M7).bind fun M8 =>
  fi (fm_is M8 100 100 a0 = true) (
  (f2 a0 102 (Int64.ofInt 1) M8).bind fun M9 =>
  fi (fm_is M9 100 100 a0 = true) (
  (f3 a0 119 M9).bind fun M10 =>
  fi (fm_is M10 100 100 a0 = true) (
  (f1 a0 109 148 M10).bind fun M11 =>
  fi (fm_is M11 100 100 a0 = true) (
  (f2 a0 130 ((a1 + (Int32.ofInt 1)).toInt64) M11).bind fun M12 =>
  fi (fm_is M12 100 100 a0 = true) (
  (f4 a0 M12).bind fun M13 =>
  fi (fm_is M13 100 100 a0 = true) (
  (f4 a0 M13).bind fun M14 =>
  some M14) none) none) none) none) none) none) none) none) none) none) none) none) none) none
noncomputable def FX97_processor_32 (n : Nat) (a0 : Nat) (a1 : Int32) (s0 : Nat) (s1 : Nat) (M : FM) : Option (FM) := BX97_processor_32 (FX97_node n) (FX97_text n) (FX97_number n) (FX97_nothing n) (FX97_done n) a0 a1 s0 s1 M
noncomputable def BX97_processor_0 (g32 : Nat → Int32 → Nat → Nat → FM → Option (FM)) (a0 : Nat) (a1 : Int32) (M : FM) : Option (FM) :=
  fi (a1 = 0) (
    g32 a0 a1 a0 112 M) (
    fi (a1 = (Int32.ofInt 1)) (
      g32 a0 a1 a0 113 M) (
      fi (a1 = (Int32.ofInt 2)) (
        g32 a0 a1 a0 114 M) (
        g32 a0 a1 a0 115 M)))
noncomputable def FX97_processor_0 (n : Nat) (a0 : Nat) (a1 : Int32) (M : FM) : Option (FM) := BX97_processor_0 (FX97_processor_32 n ) a0 a1 M
noncomputable def FX97_processor (n : Nat) (a0 : Nat) (a1 : Int32) (M : FM) : Option (FM) := FX97_processor_0 n a0 a1 M
/-! BoardMachineModel$Tree.eight(J)V -/
noncomputable def BX97_eight_0 (f0 : Nat → Int64 → FM → Option (FM)) (a0 : Nat) (a1 : Int64) (M : FM) : Option (FM) :=
  fi (fm_is M 100 100 a0 = true) (
  (f0 a0 ((a1.toUInt64 >>> ((Int32.ofInt 32).toInt64.toUInt64 &&& Int64.toUInt64 63)).toInt64) M).bind fun M1 =>
  fi (fm_is M1 100 100 a0 = true) (
  (f0 a0 a1 M1).bind fun M2 =>
  some M2) none) none
noncomputable def FX97_eight_0 (n : Nat) (a0 : Nat) (a1 : Int64) (M : FM) : Option (FM) := BX97_eight_0 (FX97_four n) a0 a1 M
noncomputable def FX97_eight (n : Nat) (a0 : Nat) (a1 : Int64) (M : FM) : Option (FM) := FX97_eight_0 n a0 a1 M
/-! BoardMachineModel$Tree.region(JJ)V -/
noncomputable def BX97_region_0 (f0 : Nat → Nat → FM → Option (FM)) (f1 : Nat → Int64 → FM → Option (FM)) (f2 : Nat → FM → Option (FM)) (a0 : Nat) (a1 : Int64) (a3 : Int64) (M : FM) : Option (FM) :=
  fi (fm_is M 100 100 a0 = true) (
  (f0 a0 132 M).bind fun M1 =>
  fi (fm_is M1 100 100 a0 = true) (
  (f1 a0 a1 M1).bind fun M2 =>
  fi (fm_is M2 100 100 a0 = true) (
  (f1 a0 a3 M2).bind fun M3 =>
  fi (fm_is M3 100 100 a0 = true) (
  (f2 a0 M3).bind fun M4 =>
  some M4) none) none) none) none
noncomputable def FX97_region_0 (n : Nat) (a0 : Nat) (a1 : Int64) (a3 : Int64) (M : FM) : Option (FM) := BX97_region_0 (FX97_open n) (FX97_eight n) (FX97_close n) a0 a1 a3 M
noncomputable def FX97_region (n : Nat) (a0 : Nat) (a1 : Int64) (a3 : Int64) (M : FM) : Option (FM) := FX97_region_0 n a0 a1 a3 M
/-! BoardMachineModel$Tree.lines(III)V -/
noncomputable def BX97_lines_9 (f1 : Nat → FM → Option (FM)) (f2 : Nat → Int64 → FM → Option (FM)) (k9 : Nat → Int32 → Int32 → Int32 → Int32 → FM → Option (FM)) (a0 : Nat) (a1 : Int32) (a2 : Int32) (a3 : Int32) (a4 : Int32) (M : FM) : Option (FM) :=
  fi (a1 ≤ a4) (
    fi (fm_is M 100 100 a0 = true) (
    (f1 a0 M).bind fun M1 =>
    some M1) none) (
    fi (fm_is M 100 100 a0 = true) (
    (f2 a0 ((a4 + (Int32.ofInt 1)).toInt64) M).bind fun M2 =>
    fi (fm_is M2 100 100 a0 = true) (
    (f2 a0 a2.toInt64 M2).bind fun M3 =>
    fi (fm_is M3 100 100 a0 = true) (
    (f2 a0 ((a4 + (Int32.ofInt 1)).toInt64) M3).bind fun M4 =>
    fi (fm_is M4 100 100 a0 = true) (
    (f2 a0 a3.toInt64 M4).bind fun M5 =>
    let x6 : Int32 := a4 + (Int32.ofInt 1)
    k9 a0 a1 a2 a3 x6 M5) none) none) none) none)
noncomputable def FX97_lines_9 (n : Nat) (k9 : Nat → Int32 → Int32 → Int32 → Int32 → FM → Option (FM)) (a0 : Nat) (a1 : Int32) (a2 : Int32) (a3 : Int32) (a4 : Int32) (M : FM) : Option (FM) := BX97_lines_9 (FX97_close n) (FX97_four n) k9 a0 a1 a2 a3 a4 M
noncomputable def BX97_lines_0 (f0 : Nat → Nat → FM → Option (FM)) (k9 : Nat → Int32 → Int32 → Int32 → Int32 → FM → Option (FM)) (a0 : Nat) (a1 : Int32) (a2 : Int32) (a3 : Int32) (M : FM) : Option (FM) :=
  fi (fm_is M 100 100 a0 = true) (
  (f0 a0 123 M).bind fun M1 =>
  k9 a0 a1 a2 a3 (Int32.ofInt 0) M1) none
noncomputable def FX97_lines_0 (n : Nat) (k9 : Nat → Int32 → Int32 → Int32 → Int32 → FM → Option (FM)) (a0 : Nat) (a1 : Int32) (a2 : Int32) (a3 : Int32) (M : FM) : Option (FM) := BX97_lines_0 (FX97_open n) k9 a0 a1 a2 a3 M
noncomputable def FX97_lines_L9 (n : Nat) : Nat → Nat → Int32 → Int32 → Int32 → Int32 → FM → Option (FM)
  | 0 => fun _ _ _ _ _ _ => none
  | j + 1 => FX97_lines_9 n (FX97_lines_L9 n j)
noncomputable def FX97_lines (n : Nat) (a0 : Nat) (a1 : Int32) (a2 : Int32) (a3 : Int32) (M : FM) : Option (FM) := FX97_lines_0 n (FX97_lines_L9 n n) a0 a1 a2 a3 M
/-! BoardMachineModel$Tree.devices(I)V -/
noncomputable def BX97_devices_0 (f0 : Nat → Nat → FM → Option (FM)) (f1 : Nat → Nat → Nat → FM → Option (FM)) (f2 : Nat → Int64 → Int64 → FM → Option (FM)) (f3 : Nat → FM → Option (FM)) (f4 : Nat → Int32 → Int32 → Int32 → FM → Option (FM)) (f5 : Nat → Nat → Int64 → FM → Option (FM)) (f6 : Nat → Nat → FM → Option (FM)) (a0 : Nat) (a1 : Int32) (M : FM) : Option (FM) :=
  let x1 : Int32 := (a1 + (Int32.ofInt 1))
  fi (fm_is M 100 100 a0 = true) (
  (f0 a0 118 M).bind fun M2 =>
  fi (fm_is M2 100 100 a0 = true) (
  (f1 a0 109 147 M2).bind fun M3 =>
  fi (fm_is M3 100 100 a0 = true) (
  (f2 a0 (Int64.ofInt 1048576) (Int64.ofInt 4096) M3).bind fun M4 =>
  fi (fm_is M4 100 100 a0 = true) (
  (f3 a0 M4).bind fun M5 =>
  fi (fm_is M5 100 100 a0 = true) (
  (f0 a0 141 M5).bind fun M6 =>
  fi (fm_is M6 100 100 a0 = true) (
  (f1 a0 109 150 M6).bind fun M7 =>
  fi (fm_is M7 100 100 a0 = true) (
  (f4 a0 a1 (Int32.ofInt 3) (Int32.ofInt 7) M7).bind fun M8 =>
  fi (fm_is M8 100 100 a0 = true) (
  (f2 a0 (Int64.ofInt 33554432) (Int64.ofInt 65536) M8).bind fun M9 =>
  fi (fm_is M9 100 100 a0 = true) (
  (f3 a0 M9).bind fun M10 =>
  fi (fm_is M10 100 100 a0 = true) (
  (f0 a0 120 M10).bind fun M11 =>
  fi (fm_is M11 100 100 a0 = true) (
  (f5 a0 102 (Int64.ofInt 1) M11).bind fun M12 =>
  fi (fm_is M12 100 100 a0 = true) (
  (f6 a0 119 M12).bind fun M13 =>
  fi (fm_is M13 100 100 a0 = true) (
  (f1 a0 109 145 M13).bind fun M14 =>
  fi (fm_is M14 100 100 a0 = true) (
  (f4 a0 a1 (Int32.ofInt 11) (Int32.ofInt 9) M14).bind fun M15 =>
  fi (fm_is M15 100 100 a0 = true) (
  (f2 a0 (Int64.ofInt 201326592) (Int64.ofInt 4194304) M15).bind fun M16 =>
  fi (fm_is M16 100 100 a0 = true) (
  (f5 a0 136 (Int64.ofInt 31) M16).bind fun M17 =>
  fi (fm_is M17 100 100 a0 = true) (
  (f5 a0 130 x1.toInt64 M17).bind fun M18 =>
  fi (fm_is M18 100 100 a0 = true) (
  (f3 a0 M18).bind fun M19 =>
  fi (fm_is M19 100 100 a0 = true) (
  (f0 a0 133 M19).bind fun M20 =>
  fi (fm_is M20 100 100 a0 = true) (
  (f1 a0 109 149 M20).bind fun M21 =>
  fi (fm_is M21 100 100 a0 = true) (
  (f2 a0 (Int64.ofInt 268435456) (Int64.ofInt 256) M21).bind fun M22 =>
  fi (fm_is M22 100 100 a0 = true) (
  (f5 a0 122 (Int64.ofInt 10) M22).bind fun M23 =>
  fi (fm_is M23 100 100 a0 = true) (
  (f5 a0 121 x1.toInt64 M23).bind fun M24 =>
  fi (fm_is M24 100 100 a0 = true) (
  (f3 a0 M24).bind fun M25 =>
  fi (fm_is M25 100 100 a0 = true) (
  (f0 a0 106 M25).bind fun M26 =>
  fi (fm_is M26 100 100 a0 = true) (
  (f1 a0 109 143 M26).bind fun M27 =>
  fi (fm_is M27 100 100 a0 = true) (
  (f2 a0 (Int64.ofInt 268439552) (Int64.ofInt 4096) M27).bind fun M28 =>
  fi (fm_is M28 100 100 a0 = true) (
  (f5 a0 122 (Int64.ofInt 1) M28).bind fun M29 =>
  fi (fm_is M29 100 100 a0 = true) (
  (f5 a0 121 x1.toInt64 M29).bind fun M30 =>
  fi (fm_is M30 100 100 a0 = true) (
  (f3 a0 M30).bind fun M31 =>
  some M31) none) none) none) none) none) none) none) none) none) none) none) none) none) none) none) none) none) none) none) none) none) none) none) none) none) none) none) none) none) none
noncomputable def FX97_devices_0 (n : Nat) (a0 : Nat) (a1 : Int32) (M : FM) : Option (FM) := BX97_devices_0 (FX97_node n) (FX97_text n) (FX97_region n) (FX97_done n) (FX97_lines n) (FX97_number n) (FX97_nothing n) a0 a1 M
noncomputable def FX97_devices (n : Nat) (a0 : Nat) (a1 : Int32) (M : FM) : Option (FM) := FX97_devices_0 n a0 a1 M
/-! BoardMachineModel$Tree.machine(I)V -/
noncomputable def BX97_machine_69 (f0 : Nat → Nat → FM → Option (FM)) (f1 : Nat → Int32 → Int32 → FM → Option (FM)) (f2 : Nat → Nat → Nat → FM → Option (FM)) (f3 : Nat → FM → Option (FM)) (f5 : Nat → Int32 → FM → Option (FM)) (f6 : Nat → Int64 → Int64 → FM → Option (FM)) (f7 : Nat → Nat → FM → Option (FM)) (f8 : Nat → Int32 → FM → Option (FM)) (f9 : Nat → Int64 → FM → Option (FM)) (k69 : Nat → Int32 → Int32 → FM → Option (FM)) (a0 : Nat) (a1 : Int32) (a2 : Int32) (M : FM) : Option (FM) :=
  fi (a1 ≤ a2) (
    fi (fm_is M 100 100 a0 = true) (
    (f3 a0 M).bind fun M1 =>
    fi (fm_is M1 100 100 a0 = true) (
    (f0 a0 126 M1).bind fun M2 =>
    fi (fm_is M2 100 100 a0 = true) (
    (f2 a0 117 125 M2).bind fun M3 =>
    fi (fm_is M3 100 100 a0 = true) (
    (f6 a0 (Int64.ofInt 2147483648) (Int64.ofInt 4194304) M3).bind fun M4 =>
    fi (fm_is M4 100 100 a0 = true) (
    (f3 a0 M4).bind fun M5 =>
    fi (fm_is M5 100 100 a0 = true) (
    (f0 a0 135 M5).bind fun M6 =>
    fi (fm_is M6 100 100 a0 = true) (
    (f1 a0 (Int32.ofInt 2) (Int32.ofInt 2) M6).bind fun M7 =>
    fi (fm_is M7 100 100 a0 = true) (
    (f2 a0 109 134 M7).bind fun M8 =>
    fi (fm_is M8 100 100 a0 = true) (
    (f7 a0 131 M8).bind fun M9 =>
    fi (fm_is M9 100 100 a0 = true) (
    (f8 a0 a1 M9).bind fun M10 =>
    fi (fm_is M10 100 100 a0 = true) (
    (f3 a0 M10).bind fun M11 =>
    fi (fm_is M11 100 100 a0 = true) (
    (f3 a0 M11).bind fun M12 =>
    fi (fm_is M12 100 100 a0 = true) (
    (f9 a0 (Int64.ofInt 9) M12).bind fun M13 =>
    some M13) none) none) none) none) none) none) none) none) none) none) none) none) none) (
    fi (fm_is M 100 100 a0 = true) (
    (f5 a0 a2 M).bind fun M14 =>
    let x15 : Int32 := a2 + (Int32.ofInt 1)
    k69 a0 a1 x15 M14) none)
noncomputable def FX97_machine_69 (n : Nat) (k69 : Nat → Int32 → Int32 → FM → Option (FM)) (a0 : Nat) (a1 : Int32) (a2 : Int32) (M : FM) : Option (FM) := BX97_machine_69 (FX97_node n) (FX97_cells n) (FX97_text n) (FX97_done n) (FX97_processor n) (FX97_region n) (FX97_nothing n) (FX97_devices n) (FX97_four n) k69 a0 a1 a2 M
noncomputable def BX97_machine_0 (f0 : Nat → Nat → FM → Option (FM)) (f1 : Nat → Int32 → Int32 → FM → Option (FM)) (f2 : Nat → Nat → Nat → FM → Option (FM)) (f3 : Nat → FM → Option (FM)) (f4 : Nat → Nat → Int64 → FM → Option (FM)) (k69 : Nat → Int32 → Int32 → FM → Option (FM)) (a0 : Nat) (a1 : Int32) (M : FM) : Option (FM) :=
  fi (fm_is M 100 100 a0 = true) (
  (f0 a0 100 M).bind fun M1 =>
  fi (fm_is M1 100 100 a0 = true) (
  (f1 a0 (Int32.ofInt 2) (Int32.ofInt 2) M1).bind fun M2 =>
  fi (fm_is M2 100 100 a0 = true) (
  (f2 a0 109 144 M2).bind fun M3 =>
  fi (fm_is M3 100 100 a0 = true) (
  (f2 a0 128 107 M3).bind fun M4 =>
  fi (fm_is M4 100 100 a0 = true) (
  (f0 a0 108 M4).bind fun M5 =>
  fi (fm_is M5 100 100 a0 = true) (
  (f2 a0 138 104 M5).bind fun M6 =>
  fi (fm_is M6 100 100 a0 = true) (
  (f3 a0 M6).bind fun M7 =>
  fi (fm_is M7 100 100 a0 = true) (
  (f0 a0 116 M7).bind fun M8 =>
  fi (fm_is M8 100 100 a0 = true) (
  (f1 a0 (Int32.ofInt 1) (Int32.ofInt 0) M8).bind fun M9 =>
  fi (fm_is M9 100 100 a0 = true) (
  (f4 a0 140 (Int64.ofInt 10000000) M9).bind fun M10 =>
  k69 a0 a1 (Int32.ofInt 0) M10) none) none) none) none) none) none) none) none) none) none
noncomputable def FX97_machine_0 (n : Nat) (k69 : Nat → Int32 → Int32 → FM → Option (FM)) (a0 : Nat) (a1 : Int32) (M : FM) : Option (FM) := BX97_machine_0 (FX97_node n) (FX97_cells n) (FX97_text n) (FX97_done n) (FX97_number n) k69 a0 a1 M
noncomputable def FX97_machine_L69 (n : Nat) : Nat → Nat → Int32 → Int32 → FM → Option (FM)
  | 0 => fun _ _ _ _ => none
  | j + 1 => FX97_machine_69 n (FX97_machine_L69 n j)
noncomputable def FX97_machine (n : Nat) (a0 : Nat) (a1 : Int32) (M : FM) : Option (FM) := FX97_machine_0 n (FX97_machine_L69 n n) a0 a1 M
/-! BoardMachineModel$Tree.head(J)V -/
noncomputable def BX97_head_2 (k2 : Nat → Int64 → Int32 → FM → Option (FM)) (a0 : Nat) (a1 : Int64) (a3 : Int32) (M : FM) : Option (FM) :=
  fi (a3 < 0) (
    some M) (
    fi (fm_is M 100 100 a0 = true) (
    fi (fm_is M 100 100 a0 = true) (
    let x1 : Int32 := (M.1 416 a0 0)
    let x2 : Nat := (M.2.2 415 a0 0)
    fi (fm_is M 901 901 x2 = true ∧ fm_in M x2 x1 = true) (
    let M3 : FM := fm_sI M 3 x2 x1.toNatClampNeg ((a1 >>> (((Int32.ofInt 8) * a3).toInt64 &&& 63)).toInt32 &&& (Int32.ofInt 255))
    fi (fm_is M3 100 100 a0 = true) (
    fi (fm_is M3 100 100 a0 = true) (
    let M4 : FM := fm_sI M3 416 a0 0 ((M3.1 416 a0 0) + (Int32.ofInt 1))
    let x5 : Int32 := a3 + (Int32.ofInt (-1))
    k2 a0 a1 x5 M4) none) none) none) none) none)
noncomputable def FX97_head_2 (n : Nat) (k2 : Nat → Int64 → Int32 → FM → Option (FM)) (a0 : Nat) (a1 : Int64) (a3 : Int32) (M : FM) : Option (FM) := BX97_head_2 k2 a0 a1 a3 M
noncomputable def BX97_head_0 (k2 : Nat → Int64 → Int32 → FM → Option (FM)) (a0 : Nat) (a1 : Int64) (M : FM) : Option (FM) :=
  k2 a0 a1 (Int32.ofInt 3) M
noncomputable def FX97_head_0 (n : Nat) (k2 : Nat → Int64 → Int32 → FM → Option (FM)) (a0 : Nat) (a1 : Int64) (M : FM) : Option (FM) := BX97_head_0 k2 a0 a1 M
noncomputable def FX97_head_L2 (n : Nat) : Nat → Nat → Int64 → Int32 → FM → Option (FM)
  | 0 => fun _ _ _ _ => none
  | j + 1 => FX97_head_2 n (FX97_head_L2 n j)
noncomputable def FX97_head (n : Nat) (a0 : Nat) (a1 : Int64) (M : FM) : Option (FM) := FX97_head_0 n (FX97_head_L2 n n) a0 a1 M
/-! BoardMachineModel$Tree.join()V -/
noncomputable def BX97_join_141 (k141 : Nat → Int32 → FM → Option (FM)) (a0 : Nat) (a1 : Int32) (M : FM) : Option (FM) :=
  fi (fm_is M 100 100 a0 = true) (
  fi ((M.1 420 a0 0) ≤ a1) (
    fi (fm_is M 100 100 a0 = true) (
    fi (fm_is M 100 100 a0 = true) (
    fi (fm_is M 100 100 a0 = true) (
    let M1 : FM := fm_sI M 416 a0 0 ((M.1 416 a0 0) + (M.1 420 a0 0))
    some M1) none) none) none) (
    fi (fm_is M 100 100 a0 = true) (
    fi (fm_is M 100 100 a0 = true) (
    fi (fm_is M 100 100 a0 = true) (
    let x2 : Nat := (M.2.2 419 a0 0)
    fi (fm_is M 901 901 x2 = true ∧ fm_in M x2 a1 = true) (
    let x3 : Int32 := ((M.1 416 a0 0) + a1)
    let x4 : Nat := (M.2.2 415 a0 0)
    fi (fm_is M 901 901 x4 = true ∧ fm_in M x4 x3 = true) (
    let M5 : FM := fm_sI M 3 x4 x3.toNatClampNeg (M.1 3 x2 a1.toNatClampNeg)
    let x6 : Int32 := a1 + (Int32.ofInt 1)
    k141 a0 x6 M5) none) none) none) none) none)) none
noncomputable def FX97_join_141 (n : Nat) (k95 : Nat → Int32 → FM → Option (FM)) (k141 : Nat → Int32 → FM → Option (FM)) (a0 : Nat) (a1 : Int32) (M : FM) : Option (FM) := BX97_join_141 k141 a0 a1 M
noncomputable def BX97_join_95 (k95 : Nat → Int32 → FM → Option (FM)) (k141 : Nat → Int32 → FM → Option (FM)) (a0 : Nat) (a1 : Int32) (M : FM) : Option (FM) :=
  fi (fm_is M 100 100 a0 = true) (
  fi ((M.1 418 a0 0) ≤ a1) (
    fi (fm_is M 100 100 a0 = true) (
    fi (fm_is M 100 100 a0 = true) (
    fi (fm_is M 100 100 a0 = true) (
    let M1 : FM := fm_sI M 416 a0 0 ((M.1 416 a0 0) + (M.1 418 a0 0))
    k141 a0 (Int32.ofInt 0) M1) none) none) none) (
    fi (fm_is M 100 100 a0 = true) (
    fi (fm_is M 100 100 a0 = true) (
    fi (fm_is M 100 100 a0 = true) (
    let x2 : Nat := (M.2.2 417 a0 0)
    fi (fm_is M 901 901 x2 = true ∧ fm_in M x2 a1 = true) (
    let x3 : Int32 := ((M.1 416 a0 0) + a1)
    let x4 : Nat := (M.2.2 415 a0 0)
    fi (fm_is M 901 901 x4 = true ∧ fm_in M x4 x3 = true) (
    let M5 : FM := fm_sI M 3 x4 x3.toNatClampNeg (M.1 3 x2 a1.toNatClampNeg)
    let x6 : Int32 := a1 + (Int32.ofInt 1)
    k95 a0 x6 M5) none) none) none) none) none)) none
noncomputable def FX97_join_95 (n : Nat) (k95 : Nat → Int32 → FM → Option (FM)) (k141 : Nat → Int32 → FM → Option (FM)) (a0 : Nat) (a1 : Int32) (M : FM) : Option (FM) := BX97_join_95 k95 k141 a0 a1 M
noncomputable def BX97_join_0 (f0 : Nat → Int64 → FM → Option (FM)) (k95 : Nat → Int32 → FM → Option (FM)) (a0 : Nat) (M : FM) : Option (FM) :=
  fi (fm_is M 100 100 a0 = true) (
  (f0 a0 (Int64.ofInt 3490578157) M).bind fun M1 =>
  fi (fm_is M1 100 100 a0 = true) (
  fi (fm_is M1 100 100 a0 = true) (
  fi (fm_is M1 100 100 a0 = true) (
  (f0 a0 ((((Int32.ofInt 56) + (M1.1 418 a0 0)) + (M1.1 420 a0 0)).toInt64) M1).bind fun M2 =>
  fi (fm_is M2 100 100 a0 = true) (
  (f0 a0 (Int64.ofInt 56) M2).bind fun M3 =>
  fi (fm_is M3 100 100 a0 = true) (
  fi (fm_is M3 100 100 a0 = true) (
  (f0 a0 (((Int32.ofInt 56) + (M3.1 418 a0 0)).toInt64) M3).bind fun M4 =>
  fi (fm_is M4 100 100 a0 = true) (
  (f0 a0 (Int64.ofInt 40) M4).bind fun M5 =>
  fi (fm_is M5 100 100 a0 = true) (
  (f0 a0 (Int64.ofInt 17) M5).bind fun M6 =>
  fi (fm_is M6 100 100 a0 = true) (
  (f0 a0 (Int64.ofInt 16) M6).bind fun M7 =>
  fi (fm_is M7 100 100 a0 = true) (
  (f0 a0 (Int64.ofInt 0) M7).bind fun M8 =>
  fi (fm_is M8 100 100 a0 = true) (
  fi (fm_is M8 100 100 a0 = true) (
  (f0 a0 ((M8.1 420 a0 0).toInt64) M8).bind fun M9 =>
  fi (fm_is M9 100 100 a0 = true) (
  fi (fm_is M9 100 100 a0 = true) (
  (f0 a0 ((M9.1 418 a0 0).toInt64) M9).bind fun M10 =>
  fi (fm_is M10 100 100 a0 = true) (
  let M11 : FM := fm_sI M10 416 a0 0 (Int32.ofInt 56)
  k95 a0 (Int32.ofInt 0) M11) none) none) none) none) none) none) none) none) none) none) none) none) none) none) none) none
noncomputable def FX97_join_0 (n : Nat) (k95 : Nat → Int32 → FM → Option (FM)) (k141 : Nat → Int32 → FM → Option (FM)) (a0 : Nat) (M : FM) : Option (FM) := BX97_join_0 (FX97_head n) k95 a0 M
noncomputable def FX97_join_L (n : Nat) : Nat → (Nat → Int32 → FM → Option (FM)) × (Nat → Int32 → FM → Option (FM))
  | 0 => (fun _ _ _ => none, fun _ _ _ => none)
  | j + 1 => (FX97_join_95 n (FX97_join_L n j).1 (FX97_join_L n j).2, FX97_join_141 n (FX97_join_L n j).1 (FX97_join_L n j).2)
noncomputable def FX97_join (n : Nat) (a0 : Nat) (M : FM) : Option (FM) := FX97_join_0 n (FX97_join_L n n).1 (FX97_join_L n n).2 a0 M
/-! BoardMachineModel$Tree.<init>(I)V -/
noncomputable def BX97_init_0 (f0 : Nat → Int32 → FM → Option (FM)) (f1 : Nat → FM → Option (FM)) (a0 : Nat) (a1 : Int32) (M : FM) : Option (FM) :=
  fi (a0 = 0) none (
  fi (¬ (Int32.ofInt 8192) < 0 ∧ (Int32.ofInt 8192).toNatClampNeg * 4 ≤ 536870912) (
  let x2 : Nat := fm_nx M
  let M1 : FM := fm_newa M 901 415 (Int32.ofInt 8192).toNatClampNeg
  fi (fm_is M1 100 100 a0 = true) (
  let M3 : FM := fm_sR M1 415 a0 0 x2
  fi (¬ (Int32.ofInt 6144) < 0 ∧ (Int32.ofInt 6144).toNatClampNeg * 4 ≤ 536870912) (
  let x5 : Nat := fm_nx M3
  let M4 : FM := fm_newa M3 901 417 (Int32.ofInt 6144).toNatClampNeg
  fi (fm_is M4 100 100 a0 = true) (
  let M6 : FM := fm_sR M4 417 a0 0 x5
  fi (¬ (Int32.ofInt 1024) < 0 ∧ (Int32.ofInt 1024).toNatClampNeg * 4 ≤ 536870912) (
  let x8 : Nat := fm_nx M6
  let M7 : FM := fm_newa M6 901 419 (Int32.ofInt 1024).toNatClampNeg
  fi (fm_is M7 100 100 a0 = true) (
  let M9 : FM := fm_sR M7 419 a0 0 x8
  fi (fm_is M9 100 100 a0 = true) (
  (f0 a0 a1 M9).bind fun M10 =>
  fi (fm_is M10 100 100 a0 = true) (
  (f1 a0 M10).bind fun M11 =>
  some M11) none) none) none) none) none) none) none) none)
noncomputable def FX97_init_0 (n : Nat) (a0 : Nat) (a1 : Int32) (M : FM) : Option (FM) := BX97_init_0 (FX97_machine n) (FX97_join n) a0 a1 M
noncomputable def FX97_init (n : Nat) (a0 : Nat) (a1 : Int32) (M : FM) : Option (FM) := FX97_init_0 n a0 a1 M
/-! BoardMachineModel$Core.reset(J)V -/
noncomputable def BX98_reset_2 (k2 : Nat → Int64 → Int32 → FM → Option (FM)) (a0 : Nat) (a1 : Int64) (a3 : Int32) (M : FM) : Option (FM) :=
  fi ((Int32.ofInt 32) ≤ a3) (
    fi (fm_is M 94 94 a0 = true) (
    let M1 : FM := fm_sL M 347 a0 0 a1
    fi (fm_is M1 94 94 a0 = true) (
    let M2 : FM := fm_sI M1 353 a0 0 (Int32.ofInt (-1))
    some M2) none) none) (
    fi (fm_is M 94 94 a0 = true) (
    let x3 : Nat := (M.2.2 346 a0 0)
    fi (fm_is M 902 902 x3 = true ∧ fm_in M x3 a3 = true) (
    let M4 : FM := fm_sL M 3 x3 a3.toNatClampNeg (Int64.ofInt 0)
    let x5 : Int32 := a3 + (Int32.ofInt 1)
    k2 a0 a1 x5 M4) none) none)
noncomputable def FX98_reset_2 (n : Nat) (k2 : Nat → Int64 → Int32 → FM → Option (FM)) (a0 : Nat) (a1 : Int64) (a3 : Int32) (M : FM) : Option (FM) := BX98_reset_2 k2 a0 a1 a3 M
noncomputable def BX98_reset_0 (k2 : Nat → Int64 → Int32 → FM → Option (FM)) (a0 : Nat) (a1 : Int64) (M : FM) : Option (FM) :=
  k2 a0 a1 (Int32.ofInt 0) M
noncomputable def FX98_reset_0 (n : Nat) (k2 : Nat → Int64 → Int32 → FM → Option (FM)) (a0 : Nat) (a1 : Int64) (M : FM) : Option (FM) := BX98_reset_0 k2 a0 a1 M
noncomputable def FX98_reset_L2 (n : Nat) : Nat → Nat → Int64 → Int32 → FM → Option (FM)
  | 0 => fun _ _ _ _ => none
  | j + 1 => FX98_reset_2 n (FX98_reset_L2 n j)
noncomputable def FX98_reset (n : Nat) (a0 : Nat) (a1 : Int64) (M : FM) : Option (FM) := FX98_reset_0 n (FX98_reset_L2 n n) a0 a1 M
/-! BoardMachineModel$Floats.reset()V -/
noncomputable def BX99_reset_2 (k2 : Nat → Int32 → FM → Option (FM)) (a0 : Nat) (a1 : Int32) (M : FM) : Option (FM) :=
  fi ((Int32.ofInt 32) ≤ a1) (
    fi (fm_is M 96 96 a0 = true) (
    let M1 : FM := fm_sI M 368 a0 0 (Int32.ofInt 0)
    fi (fm_is M1 96 96 a0 = true) (
    let M2 : FM := fm_sI M1 369 a0 0 (Int32.ofInt 0)
    fi (fm_is M2 96 96 a0 = true) (
    let M3 : FM := fm_sL M2 370 a0 0 (Int64.ofInt 0)
    fi (fm_is M3 96 96 a0 = true) (
    fi ((Int32.ofInt 0) = 0 ∨ (Int32.ofInt 0) = 1) (
    let M4 : FM := fm_sI M3 371 a0 0 (Int32.ofInt 0)
    some M4) none) none) none) none) none) (
    fi (fm_is M 96 96 a0 = true) (
    let x5 : Nat := (M.2.2 367 a0 0)
    fi (fm_is M 902 902 x5 = true ∧ fm_in M x5 a1 = true) (
    let M6 : FM := fm_sL M 3 x5 a1.toNatClampNeg (Int64.ofInt 0)
    let x7 : Int32 := a1 + (Int32.ofInt 1)
    k2 a0 x7 M6) none) none)
noncomputable def FX99_reset_2 (n : Nat) (k2 : Nat → Int32 → FM → Option (FM)) (a0 : Nat) (a1 : Int32) (M : FM) : Option (FM) := BX99_reset_2 k2 a0 a1 M
noncomputable def BX99_reset_0 (k2 : Nat → Int32 → FM → Option (FM)) (a0 : Nat) (M : FM) : Option (FM) :=
  k2 a0 (Int32.ofInt 0) M
noncomputable def FX99_reset_0 (n : Nat) (k2 : Nat → Int32 → FM → Option (FM)) (a0 : Nat) (M : FM) : Option (FM) := BX99_reset_0 k2 a0 M
noncomputable def FX99_reset_L2 (n : Nat) : Nat → Nat → Int32 → FM → Option (FM)
  | 0 => fun _ _ _ => none
  | j + 1 => FX99_reset_2 n (FX99_reset_L2 n j)
noncomputable def FX99_reset (n : Nat) (a0 : Nat) (M : FM) : Option (FM) := FX99_reset_0 n (FX99_reset_L2 n n) a0 M
/-! BoardMachineModel$Desk.reset()V -/
noncomputable def BX100_reset_2 (k2 : Nat → Int32 → FM → Option (FM)) (a0 : Nat) (a1 : Int32) (M : FM) : Option (FM) :=
  fi ((Int32.ofInt 4096) ≤ a1) (
    fi (fm_is M 95 95 a0 = true) (
    let M1 : FM := fm_sI M 360 a0 0 (Int32.ofInt 3)
    fi (fm_is M1 95 95 a0 = true) (
    let M2 : FM := fm_sL M1 364 a0 0 (Int64.ofInt 0)
    fi (fm_is M2 95 95 a0 = true) (
    let M3 : FM := fm_sL M2 365 a0 0 (Int64.ofInt 0)
    some M3) none) none) none) (
    fi (fm_is M 95 95 a0 = true) (
    let x4 : Nat := (M.2.2 361 a0 0)
    fi (fm_is M 902 902 x4 = true ∧ fm_in M x4 a1 = true) (
    let M5 : FM := fm_sL M 3 x4 a1.toNatClampNeg (Int64.ofInt 0)
    let x6 : Int32 := a1 + (Int32.ofInt 1)
    k2 a0 x6 M5) none) none)
noncomputable def FX100_reset_2 (n : Nat) (k2 : Nat → Int32 → FM → Option (FM)) (a0 : Nat) (a1 : Int32) (M : FM) : Option (FM) := BX100_reset_2 k2 a0 a1 M
noncomputable def BX100_reset_0 (k2 : Nat → Int32 → FM → Option (FM)) (a0 : Nat) (M : FM) : Option (FM) :=
  k2 a0 (Int32.ofInt 0) M
noncomputable def FX100_reset_0 (n : Nat) (k2 : Nat → Int32 → FM → Option (FM)) (a0 : Nat) (M : FM) : Option (FM) := BX100_reset_0 k2 a0 M
noncomputable def FX100_reset_L2 (n : Nat) : Nat → Nat → Int32 → FM → Option (FM)
  | 0 => fun _ _ _ => none
  | j + 1 => FX100_reset_2 n (FX100_reset_L2 n j)
noncomputable def FX100_reset (n : Nat) (a0 : Nat) (M : FM) : Option (FM) := FX100_reset_0 n (FX100_reset_L2 n n) a0 M
/-! BoardMachineModel$Ram.put(JI)V -/
noncomputable def BX93_put_131 (k76 : Nat → Int64 → Int32 → FM → Option (FM)) (a0 : Nat) (a1 : Int64) (a6 : Int32) (s0 : Nat) (s1 : Int32) (s2 : Int64) (M : FM) : Option (FM) :=
  fi (fm_is M 902 902 s0 = true ∧ fm_in M s0 s1 = true) (
  let M1 : FM := fm_sL M 3 s0 s1.toNatClampNeg s2
  let x2 : Int32 := a6 + (Int32.ofInt 1)
  k76 a0 a1 x2 M1) none
noncomputable def FX93_put_131 (n : Nat) (k76 : Nat → Int64 → Int32 → FM → Option (FM)) (a0 : Nat) (a1 : Int64) (a6 : Int32) (s0 : Nat) (s1 : Int32) (s2 : Int64) (M : FM) : Option (FM) := BX93_put_131 k76 a0 a1 a6 s0 s1 s2 M
noncomputable def BX93_put_124 (g131 : Nat → Int64 → Int32 → Nat → Int32 → Int64 → FM → Option (FM)) (a0 : Nat) (a1 : Int64) (a6 : Int32) (s0 : Nat) (s1 : Int32) (M : FM) : Option (FM) :=
  fi (fm_is M 98 98 a0 = true) (
  let x1 : Nat := (M.2.2 389 a0 0)
  fi (fm_is M 902 902 x1 = true ∧ fm_in M x1 a6 = true) (
  g131 a0 a1 a6 s0 s1 (M.2.1 3 x1 a6.toNatClampNeg) M) none) none
noncomputable def FX93_put_124 (n : Nat) (k76 : Nat → Int64 → Int32 → FM → Option (FM)) (a0 : Nat) (a1 : Int64) (a6 : Int32) (s0 : Nat) (s1 : Int32) (M : FM) : Option (FM) := BX93_put_124 (FX93_put_131 n k76) a0 a1 a6 s0 s1 M
noncomputable def BX93_put_76 (g124 : Nat → Int64 → Int32 → Nat → Int32 → FM → Option (FM)) (g131 : Nat → Int64 → Int32 → Nat → Int32 → Int64 → FM → Option (FM)) (a0 : Nat) (a1 : Int64) (a6 : Int32) (M : FM) : Option (FM) :=
  fi ((Int32.ofInt 4) ≤ a6) (
    some M) (
    fi (fm_is M 98 98 a0 = true) (
    fi (fm_is M 98 98 a0 = true) (
    let x1 : Nat := (M.2.2 389 a0 0)
    fi (fm_is M 902 902 x1 = true ∧ fm_in M x1 a6 = true) (
    fi ((lg_cmp (M.2.1 3 x1 a6.toNatClampNeg) (Int64.ofInt 0)) ≤ 0) (
      g124 a0 a1 a6 (M.2.2 389 a0 0) a6 M) (
      fi (fm_is M 98 98 a0 = true) (
      let x2 : Nat := (M.2.2 389 a0 0)
      fi (fm_is M 902 902 x2 = true ∧ fm_in M x2 a6 = true) (
      fi ((Int64.ofInt 8) = 0) none (
      fi ((Int64.ofInt 8) = 0) none (
      fi ((lg_cmp ((M.2.1 3 x2 a6.toNatClampNeg) / (Int64.ofInt 8)) (a1 / (Int64.ofInt 8))) = 0) (
        g131 a0 a1 a6 (M.2.2 389 a0 0) a6 (Int64.ofInt 0) M) (
        g124 a0 a1 a6 (M.2.2 389 a0 0) a6 M)))) none) none)) none) none) none)
noncomputable def FX93_put_76 (n : Nat) (k76 : Nat → Int64 → Int32 → FM → Option (FM)) (a0 : Nat) (a1 : Int64) (a6 : Int32) (M : FM) : Option (FM) := BX93_put_76 (FX93_put_124 n k76) (FX93_put_131 n k76) a0 a1 a6 M
noncomputable def BX93_put_0 (k76 : Nat → Int64 → Int32 → FM → Option (FM)) (a0 : Nat) (a1 : Int64) (a3 : Int32) (M : FM) : Option (FM) :=
  let x1 : Int32 := (a1 - (Int64.ofInt 2147483648)).toInt32
  fi ((Int32.ofInt 8) = 0) none (
  let x2 : Int32 := ((Int32.ofInt 8) * (x1 - x1 / (Int32.ofInt 8) * (Int32.ofInt 8)))
  fi (fm_is M 98 98 a0 = true) (
  fi ((Int32.ofInt 8) = 0) none (
  fi (fm_is M 98 98 a0 = true) (
  fi ((Int32.ofInt 8) = 0) none (
  let x3 : Int32 := (x1 / (Int32.ofInt 8))
  let x4 : Nat := (M.2.2 388 a0 0)
  fi (fm_is M 902 902 x4 = true ∧ fm_in M x4 x3 = true) (
  let x5 : Int32 := (x1 / (Int32.ofInt 8))
  let x6 : Nat := (M.2.2 388 a0 0)
  fi (fm_is M 902 902 x6 = true ∧ fm_in M x6 x5 = true) (
  let M7 : FM := fm_sL M 3 x6 x5.toNatClampNeg (((M.2.1 3 x4 x3.toNatClampNeg) &&& (((Int64.ofInt 255) <<< (x2.toInt64 &&& 63)) ^^^ (Int64.ofInt (-1)))) ||| ((a3.toInt64 &&& (Int64.ofInt 255)) <<< (x2.toInt64 &&& 63)))
  fi (fm_is M7 98 98 a0 = true) (
  fi ((Int32.ofInt 8) = 0) none (
  let x8 : Int32 := (x1 / (Int32.ofInt 8))
  let x9 : Nat := (M7.2.2 391 a0 0)
  fi (fm_is M7 901 901 x9 = true ∧ fm_in M7 x9 x8 = true) (
  fi (fm_is M7 901 901 x9 = true ∧ fm_in M7 x9 x8 = true) (
  let M10 : FM := fm_sI M7 3 x9 x8.toNatClampNeg ((M7.1 3 x9 x8.toNatClampNeg) + (Int32.ofInt 1))
  k76 a0 a1 (Int32.ofInt 0) M10) none) none)) none) none) none)) none)) none)
noncomputable def FX93_put_0 (n : Nat) (k76 : Nat → Int64 → Int32 → FM → Option (FM)) (a0 : Nat) (a1 : Int64) (a3 : Int32) (M : FM) : Option (FM) := BX93_put_0 k76 a0 a1 a3 M
noncomputable def FX93_put_L76 (n : Nat) : Nat → Nat → Int64 → Int32 → FM → Option (FM)
  | 0 => fun _ _ _ _ => none
  | j + 1 => FX93_put_76 n (FX93_put_L76 n j)
noncomputable def FX93_put (n : Nat) (a0 : Nat) (a1 : Int64) (a3 : Int32) (M : FM) : Option (FM) := FX93_put_0 n (FX93_put_L76 n n) a0 a1 a3 M
/-! BoardMachineModel$Core.isRegister(I)Z -/
noncomputable def BX98_isRegister_15 (s0 : Int32) (M : FM) : Option (Int32 × FM) :=
  fi (s0 = 0 ∨ s0 = 1) (some (s0, M)) none
noncomputable def FX98_isRegister_15 (s0 : Int32) (M : FM) : Option (Int32 × FM) := BX98_isRegister_15 s0 M
noncomputable def BX98_isRegister_14 (g15 : Int32 → FM → Option (Int32 × FM)) (M : FM) : Option (Int32 × FM) :=
  g15 (Int32.ofInt 0) M
noncomputable def FX98_isRegister_14 (M : FM) : Option (Int32 × FM) := BX98_isRegister_14 FX98_isRegister_15 M
noncomputable def BX98_isRegister_0 (g14 : FM → Option (Int32 × FM)) (g15 : Int32 → FM → Option (Int32 × FM)) (a0 : Int32) (M : FM) : Option (Int32 × FM) :=
  fi (a0 < 0) (
    g14 M) (
    fi ((Int32.ofInt 32) ≤ a0) (
      g14 M) (
      g15 (Int32.ofInt 1) M))
noncomputable def FX98_isRegister_0 (a0 : Int32) (M : FM) : Option (Int32 × FM) := BX98_isRegister_0 FX98_isRegister_14 FX98_isRegister_15 a0 M
noncomputable def FX98_isRegister (a0 : Int32) (M : FM) : Option (Int32 × FM) := FX98_isRegister_0 a0 M
/-! BoardMachineModel$Core.put(IJ)V -/
noncomputable def BX98_put_11 (M : FM) : Option (FM) :=
  some M
noncomputable def FX98_put_11 (M : FM) : Option (FM) := BX98_put_11 M
noncomputable def BX98_put_0 (g11 : FM → Option (FM)) (a0 : Nat) (a1 : Int32) (a2 : Int64) (M : FM) : Option (FM) :=
  fi (a1 ≤ 0) (
    g11 M) (
    fi (fm_is M 94 94 a0 = true) (
    let x1 : Nat := (M.2.2 346 a0 0)
    fi (fm_is M 902 902 x1 = true ∧ fm_in M x1 a1 = true) (
    let M2 : FM := fm_sL M 3 x1 a1.toNatClampNeg a2
    g11 M2) none) none)
noncomputable def FX98_put_0 (a0 : Nat) (a1 : Int32) (a2 : Int64) (M : FM) : Option (FM) := BX98_put_0 FX98_put_11 a0 a1 a2 M
noncomputable def FX98_put (a0 : Nat) (a1 : Int32) (a2 : Int64) (M : FM) : Option (FM) := FX98_put_0 a0 a1 a2 M
/-! BoardMachineModel$Core.set(IJ)V -/
noncomputable def BX98_set_29 (M : FM) : Option (FM) :=
  some M
noncomputable def FX98_set_29 (M : FM) : Option (FM) := BX98_set_29 M
noncomputable def BX98_set_13 (f1 : Nat → Int32 → Int64 → FM → Option (FM)) (g29 : FM → Option (FM)) (a0 : Nat) (a1 : Int32) (a2 : Int64) (s0 : Nat) (s1 : Int32) (M : FM) : Option (FM) :=
  fi (fm_is M 94 94 s0 = true) (
  let M1 : FM := fm_sI M 345 s0 0 s1
  fi (fm_is M1 94 94 a0 = true) (
  fi ((M1.1 345 a0 0) = 0) (
    fi (fm_is M1 94 94 a0 = true) (
    (f1 a0 a1 a2 M1).bind fun M2 =>
    g29 M2) none) (
    g29 M1)) none) none
noncomputable def FX98_set_13 (a0 : Nat) (a1 : Int32) (a2 : Int64) (s0 : Nat) (s1 : Int32) (M : FM) : Option (FM) := BX98_set_13 FX98_put FX98_set_29 a0 a1 a2 s0 s1 M
noncomputable def BX98_set_0 (f0 : Int32 → FM → Option (Int32 × FM)) (g13 : Nat → Int32 → Int64 → Nat → Int32 → FM → Option (FM)) (a0 : Nat) (a1 : Int32) (a2 : Int64) (M : FM) : Option (FM) :=
  (f0 a1 M).bind fun r1 =>
  fi (r1.1 = 0) (
    g13 a0 a1 a2 a0 (Int32.ofInt 1) r1.2) (
    g13 a0 a1 a2 a0 (Int32.ofInt 0) r1.2)
noncomputable def FX98_set_0 (a0 : Nat) (a1 : Int32) (a2 : Int64) (M : FM) : Option (FM) := BX98_set_0 FX98_isRegister FX98_set_13 a0 a1 a2 M
noncomputable def FX98_set (a0 : Nat) (a1 : Int32) (a2 : Int64) (M : FM) : Option (FM) := FX98_set_0 a0 a1 a2 M
/-! BoardMachineModel$Walk.reset()V -/
noncomputable def BX101_reset_2 (k2 : Nat → Int32 → FM → Option (FM)) (a0 : Nat) (a1 : Int32) (M : FM) : Option (FM) :=
  fi ((Int32.ofInt 8) ≤ a1) (
    some M) (
    fi (fm_is M 101 101 a0 = true) (
    let x1 : Nat := (M.2.2 427 a0 0)
    fi (fm_is M 901 901 x1 = true ∧ fm_in M x1 a1 = true) (
    let M2 : FM := fm_sI M 3 x1 a1.toNatClampNeg (Int32.ofInt 0)
    fi (fm_is M2 101 101 a0 = true) (
    let x3 : Nat := (M2.2.2 428 a0 0)
    fi (fm_is M2 902 902 x3 = true ∧ fm_in M2 x3 a1 = true) (
    let M4 : FM := fm_sL M2 3 x3 a1.toNatClampNeg (Int64.ofInt 0)
    let x5 : Int32 := a1 + (Int32.ofInt 1)
    k2 a0 x5 M4) none) none) none) none)
noncomputable def FX101_reset_2 (n : Nat) (k2 : Nat → Int32 → FM → Option (FM)) (a0 : Nat) (a1 : Int32) (M : FM) : Option (FM) := BX101_reset_2 k2 a0 a1 M
noncomputable def BX101_reset_0 (k2 : Nat → Int32 → FM → Option (FM)) (a0 : Nat) (M : FM) : Option (FM) :=
  k2 a0 (Int32.ofInt 0) M
noncomputable def FX101_reset_0 (n : Nat) (k2 : Nat → Int32 → FM → Option (FM)) (a0 : Nat) (M : FM) : Option (FM) := BX101_reset_0 k2 a0 M
noncomputable def FX101_reset_L2 (n : Nat) : Nat → Nat → Int32 → FM → Option (FM)
  | 0 => fun _ _ _ => none
  | j + 1 => FX101_reset_2 n (FX101_reset_L2 n j)
noncomputable def FX101_reset (n : Nat) (a0 : Nat) (M : FM) : Option (FM) := FX101_reset_0 n (FX101_reset_L2 n n) a0 M
/-! BoardMachineModel$Ram.drop(I)V -/
noncomputable def BX93_drop_0 (a0 : Nat) (a1 : Int32) (M : FM) : Option (FM) :=
  fi (fm_is M 98 98 a0 = true) (
  let x1 : Nat := (M.2.2 389 a0 0)
  fi (fm_is M 902 902 x1 = true ∧ fm_in M x1 a1 = true) (
  let M2 : FM := fm_sL M 3 x1 a1.toNatClampNeg (Int64.ofInt 0)
  some M2) none) none
noncomputable def FX93_drop_0 (a0 : Nat) (a1 : Int32) (M : FM) : Option (FM) := BX93_drop_0 a0 a1 M
noncomputable def FX93_drop (a0 : Nat) (a1 : Int32) (M : FM) : Option (FM) := FX93_drop_0 a0 a1 M
/-! BoardMachineModel.begin()I -/
noncomputable def BX92_begin_114 (f4 : Nat → Int32 → Int64 → FM → Option (FM)) (k114 : Nat → Int32 → FM → Option (Int32 × FM)) (a0 : Nat) (a1 : Int32) (M : FM) : Option (Int32 × FM) :=
  fi (fm_is M 92 92 a0 = true) (
  fi ((M.1 297 a0 0) ≤ a1) (
    fi (fm_is M 92 92 a0 = true) (
    let M1 : FM := fm_sI M 315 a0 0 (Int32.ofInt (-1))
    fi (fm_is M1 92 92 a0 = true) (
    let x2 : Nat := (M1.2.2 302 a0 0)
    fi (fm_is M1 100 100 x2 = true) (
    some ((M1.1 416 x2 0), M1)) none) none) none) (
    fi (fm_is M 92 92 a0 = true) (
    let x3 : Nat := (M.2.2 303 a0 0)
    fi (fm_is M 910 990 x3 = true ∧ fm_in M x3 a1 = true) (
    let x4 : Nat := (M.2.2 3 x3 a1.toNatClampNeg)
    fi (fm_is M 94 94 x4 = true) (
    (f4 x4 (Int32.ofInt 10) a1.toInt64 M).bind fun M5 =>
    fi (fm_is M5 92 92 a0 = true) (
    let x6 : Nat := (M5.2.2 303 a0 0)
    fi (fm_is M5 910 990 x6 = true ∧ fm_in M5 x6 a1 = true) (
    let x7 : Nat := (M5.2.2 3 x6 a1.toNatClampNeg)
    fi (fm_is M5 94 94 x7 = true) (
    (f4 x7 (Int32.ofInt 11) (Int64.ofInt 2151669760) M5).bind fun M8 =>
    let x9 : Int32 := a1 + (Int32.ofInt 1)
    k114 a0 x9 M8) none) none) none) none) none) none)) none
noncomputable def FX92_begin_114 (n : Nat) (k2 : Nat → Int32 → FM → Option (Int32 × FM)) (k73 : Nat → Int32 → FM → Option (Int32 × FM)) (k114 : Nat → Int32 → FM → Option (Int32 × FM)) (a0 : Nat) (a1 : Int32) (M : FM) : Option (Int32 × FM) := BX92_begin_114 FX98_set k114 a0 a1 M
noncomputable def BX92_begin_73 (f3 : Nat → Int64 → Int32 → FM → Option (FM)) (k73 : Nat → Int32 → FM → Option (Int32 × FM)) (k114 : Nat → Int32 → FM → Option (Int32 × FM)) (a0 : Nat) (a1 : Int32) (M : FM) : Option (Int32 × FM) :=
  fi (fm_is M 92 92 a0 = true) (
  let x1 : Nat := (M.2.2 302 a0 0)
  fi (fm_is M 100 100 x1 = true) (
  fi ((M.1 416 x1 0) ≤ a1) (
    k114 a0 (Int32.ofInt 0) M) (
    fi (fm_is M 92 92 a0 = true) (
    fi (fm_is M 92 92 a0 = true) (
    let x2 : Nat := (M.2.2 302 a0 0)
    fi (fm_is M 100 100 x2 = true) (
    let x3 : Nat := (M.2.2 415 x2 0)
    fi (fm_is M 901 901 x3 = true ∧ fm_in M x3 a1 = true) (
    let x4 : Nat := (M.2.2 298 a0 0)
    fi (fm_is M 98 98 x4 = true) (
    (f3 x4 ((Int64.ofInt 2151669760) + a1.toInt64) (M.1 3 x3 a1.toNatClampNeg) M).bind fun M5 =>
    let x6 : Int32 := a1 + (Int32.ofInt 1)
    k73 a0 x6 M5) none) none) none) none) none)) none) none
noncomputable def FX92_begin_73 (n : Nat) (k2 : Nat → Int32 → FM → Option (Int32 × FM)) (k73 : Nat → Int32 → FM → Option (Int32 × FM)) (k114 : Nat → Int32 → FM → Option (Int32 × FM)) (a0 : Nat) (a1 : Int32) (M : FM) : Option (Int32 × FM) := BX92_begin_73 (FX93_put n) k73 k114 a0 a1 M
noncomputable def BX92_begin_2 (f0 : Nat → Int64 → FM → Option (FM)) (f1 : Nat → FM → Option (FM)) (f2 : Nat → FM → Option (FM)) (f5 : Nat → FM → Option (FM)) (f6 : Nat → Int32 → FM → Option (FM)) (k2 : Nat → Int32 → FM → Option (Int32 × FM)) (k73 : Nat → Int32 → FM → Option (Int32 × FM)) (a0 : Nat) (a1 : Int32) (M : FM) : Option (Int32 × FM) :=
  fi (fm_is M 92 92 a0 = true) (
  fi ((M.1 297 a0 0) ≤ a1) (
    k73 a0 (Int32.ofInt 0) M) (
    fi (fm_is M 92 92 a0 = true) (
    let x1 : Nat := (M.2.2 303 a0 0)
    fi (fm_is M 910 990 x1 = true ∧ fm_in M x1 a1 = true) (
    fi (fm_is M 92 92 a0 = true) (
    let x2 : Nat := (M.2.2 3 x1 a1.toNatClampNeg)
    fi (fm_is M 94 94 x2 = true) (
    (f0 x2 (M.2.1 313 a0 0) M).bind fun M3 =>
    fi (fm_is M3 92 92 a0 = true) (
    let x4 : Nat := (M3.2.2 304 a0 0)
    fi (fm_is M3 910 990 x4 = true ∧ fm_in M3 x4 a1 = true) (
    let x5 : Nat := (M3.2.2 3 x4 a1.toNatClampNeg)
    fi (fm_is M3 96 96 x5 = true) (
    (f1 x5 M3).bind fun M6 =>
    fi (fm_is M6 92 92 a0 = true) (
    let x7 : Nat := (M6.2.2 305 a0 0)
    fi (fm_is M6 910 990 x7 = true ∧ fm_in M6 x7 a1 = true) (
    let x8 : Nat := (M6.2.2 3 x7 a1.toNatClampNeg)
    fi (fm_is M6 95 95 x8 = true) (
    (f2 x8 M6).bind fun M9 =>
    fi (fm_is M9 92 92 a0 = true) (
    let x10 : Nat := (M9.2.2 306 a0 0)
    fi (fm_is M9 910 990 x10 = true ∧ fm_in M9 x10 a1 = true) (
    let x11 : Nat := (M9.2.2 3 x10 a1.toNatClampNeg)
    fi (fm_is M9 101 101 x11 = true) (
    (f5 x11 M9).bind fun M12 =>
    fi (fm_is M12 92 92 a0 = true) (
    let x13 : Nat := (M12.2.2 298 a0 0)
    fi (fm_is M12 98 98 x13 = true) (
    (f6 x13 a1 M12).bind fun M14 =>
    fi (fm_is M14 92 92 a0 = true) (
    let x15 : Nat := (M14.2.2 307 a0 0)
    fi (fm_is M14 904 904 x15 = true ∧ fm_in M14 x15 a1 = true) (
    let M16 : FM := fm_sI M14 3 x15 a1.toNatClampNeg ((Int32.ofInt 0) &&& 1)
    let x17 : Int32 := a1 + (Int32.ofInt 1)
    k2 a0 x17 M16) none) none) none) none) none) none) none) none) none) none) none) none) none) none) none) none) none)) none
noncomputable def FX92_begin_2 (n : Nat) (k2 : Nat → Int32 → FM → Option (Int32 × FM)) (k73 : Nat → Int32 → FM → Option (Int32 × FM)) (k114 : Nat → Int32 → FM → Option (Int32 × FM)) (a0 : Nat) (a1 : Int32) (M : FM) : Option (Int32 × FM) := BX92_begin_2 (FX98_reset n) (FX99_reset n) (FX100_reset n) (FX101_reset n) FX93_drop k2 k73 a0 a1 M
noncomputable def BX92_begin_0 (k2 : Nat → Int32 → FM → Option (Int32 × FM)) (a0 : Nat) (M : FM) : Option (Int32 × FM) :=
  k2 a0 (Int32.ofInt 0) M
noncomputable def FX92_begin_0 (n : Nat) (k2 : Nat → Int32 → FM → Option (Int32 × FM)) (k73 : Nat → Int32 → FM → Option (Int32 × FM)) (k114 : Nat → Int32 → FM → Option (Int32 × FM)) (a0 : Nat) (M : FM) : Option (Int32 × FM) := BX92_begin_0 k2 a0 M
noncomputable def FX92_begin_L (n : Nat) : Nat → (Nat → Int32 → FM → Option (Int32 × FM)) × (Nat → Int32 → FM → Option (Int32 × FM)) × (Nat → Int32 → FM → Option (Int32 × FM))
  | 0 => (fun _ _ _ => none, fun _ _ _ => none, fun _ _ _ => none)
  | j + 1 => (FX92_begin_2 n (FX92_begin_L n j).1 (FX92_begin_L n j).2.1 (FX92_begin_L n j).2.2, FX92_begin_73 n (FX92_begin_L n j).1 (FX92_begin_L n j).2.1 (FX92_begin_L n j).2.2, FX92_begin_114 n (FX92_begin_L n j).1 (FX92_begin_L n j).2.1 (FX92_begin_L n j).2.2)
noncomputable def FX92_begin (n : Nat) (a0 : Nat) (M : FM) : Option (Int32 × FM) := FX92_begin_0 n (FX92_begin_L n n).1 (FX92_begin_L n n).2.1 (FX92_begin_L n n).2.2 a0 M
/-! BoardMachineModel$Core.<init>()V -/
noncomputable def BX98_init_0 (a0 : Nat) (M : FM) : Option (FM) :=
  fi (a0 = 0) none (
  fi (¬ (Int32.ofInt 32) < 0 ∧ (Int32.ofInt 32).toNatClampNeg * 8 ≤ 536870912) (
  let x2 : Nat := fm_nx M
  let M1 : FM := fm_newa M 902 346 (Int32.ofInt 32).toNatClampNeg
  fi (fm_is M1 94 94 a0 = true) (
  let M3 : FM := fm_sR M1 346 a0 0 x2
  fi (fm_is M3 94 94 a0 = true) (
  let M4 : FM := fm_sI M3 353 a0 0 (Int32.ofInt (-1))
  fi (¬ (Int32.ofInt 5) < 0 ∧ (Int32.ofInt 5).toNatClampNeg * 8 ≤ 536870912) (
  let x6 : Nat := fm_nx M4
  let M5 : FM := fm_newa M4 902 355 (Int32.ofInt 5).toNatClampNeg
  fi (fm_is M5 94 94 a0 = true) (
  let M7 : FM := fm_sR M5 355 a0 0 x6
  some M7) none) none) none) none) none)
noncomputable def FX98_init_0 (a0 : Nat) (M : FM) : Option (FM) := BX98_init_0 a0 M
noncomputable def FX98_init (a0 : Nat) (M : FM) : Option (FM) := FX98_init_0 a0 M
/-! BoardMachineModel$Floats.<init>()V -/
noncomputable def BX99_init_0 (a0 : Nat) (M : FM) : Option (FM) :=
  fi (a0 = 0) none (
  fi (¬ (Int32.ofInt 32) < 0 ∧ (Int32.ofInt 32).toNatClampNeg * 8 ≤ 536870912) (
  let x2 : Nat := fm_nx M
  let M1 : FM := fm_newa M 902 367 (Int32.ofInt 32).toNatClampNeg
  fi (fm_is M1 96 96 a0 = true) (
  let M3 : FM := fm_sR M1 367 a0 0 x2
  fi (¬ (Int32.ofInt 2) < 0 ∧ (Int32.ofInt 2).toNatClampNeg * 4 ≤ 536870912) (
  let x5 : Nat := fm_nx M3
  let M4 : FM := fm_newa M3 901 372 (Int32.ofInt 2).toNatClampNeg
  fi (fm_is M4 901 901 x5 = true ∧ fm_in M4 x5 (Int32.ofInt 0) = true) (
  let M6 : FM := fm_sI M4 3 x5 (Int32.ofInt 0).toNatClampNeg (Int32.ofInt 23)
  fi (fm_is M6 901 901 x5 = true ∧ fm_in M6 x5 (Int32.ofInt 1) = true) (
  let M7 : FM := fm_sI M6 3 x5 (Int32.ofInt 1).toNatClampNeg (Int32.ofInt 52)
  fi (fm_is M7 96 96 a0 = true) (
  let M8 : FM := fm_sR M7 372 a0 0 x5
  fi (¬ (Int32.ofInt 2) < 0 ∧ (Int32.ofInt 2).toNatClampNeg * 4 ≤ 536870912) (
  let x10 : Nat := fm_nx M8
  let M9 : FM := fm_newa M8 901 373 (Int32.ofInt 2).toNatClampNeg
  fi (fm_is M9 901 901 x10 = true ∧ fm_in M9 x10 (Int32.ofInt 0) = true) (
  let M11 : FM := fm_sI M9 3 x10 (Int32.ofInt 0).toNatClampNeg (Int32.ofInt 127)
  fi (fm_is M11 901 901 x10 = true ∧ fm_in M11 x10 (Int32.ofInt 1) = true) (
  let M12 : FM := fm_sI M11 3 x10 (Int32.ofInt 1).toNatClampNeg (Int32.ofInt 1023)
  fi (fm_is M12 96 96 a0 = true) (
  let M13 : FM := fm_sR M12 373 a0 0 x10
  fi (¬ (Int32.ofInt 2) < 0 ∧ (Int32.ofInt 2).toNatClampNeg * 4 ≤ 536870912) (
  let x15 : Nat := fm_nx M13
  let M14 : FM := fm_newa M13 901 374 (Int32.ofInt 2).toNatClampNeg
  fi (fm_is M14 901 901 x15 = true ∧ fm_in M14 x15 (Int32.ofInt 0) = true) (
  let M16 : FM := fm_sI M14 3 x15 (Int32.ofInt 0).toNatClampNeg (Int32.ofInt 255)
  fi (fm_is M16 901 901 x15 = true ∧ fm_in M16 x15 (Int32.ofInt 1) = true) (
  let M17 : FM := fm_sI M16 3 x15 (Int32.ofInt 1).toNatClampNeg (Int32.ofInt 2047)
  fi (fm_is M17 96 96 a0 = true) (
  let M18 : FM := fm_sR M17 374 a0 0 x15
  fi (¬ (Int32.ofInt 3) < 0 ∧ (Int32.ofInt 3).toNatClampNeg * 4 ≤ 536870912) (
  let x20 : Nat := fm_nx M18
  let M19 : FM := fm_newa M18 901 375 (Int32.ofInt 3).toNatClampNeg
  fi (fm_is M19 96 96 a0 = true) (
  let M21 : FM := fm_sR M19 375 a0 0 x20
  fi (¬ (Int32.ofInt 3) < 0 ∧ (Int32.ofInt 3).toNatClampNeg * 4 ≤ 536870912) (
  let x23 : Nat := fm_nx M21
  let M22 : FM := fm_newa M21 901 376 (Int32.ofInt 3).toNatClampNeg
  fi (fm_is M22 96 96 a0 = true) (
  let M24 : FM := fm_sR M22 376 a0 0 x23
  fi (¬ (Int32.ofInt 3) < 0 ∧ (Int32.ofInt 3).toNatClampNeg * 8 ≤ 536870912) (
  let x26 : Nat := fm_nx M24
  let M25 : FM := fm_newa M24 902 377 (Int32.ofInt 3).toNatClampNeg
  fi (fm_is M25 96 96 a0 = true) (
  let M27 : FM := fm_sR M25 377 a0 0 x26
  fi (¬ (Int32.ofInt 3) < 0 ∧ (Int32.ofInt 3).toNatClampNeg * 4 ≤ 536870912) (
  let x29 : Nat := fm_nx M27
  let M28 : FM := fm_newa M27 901 378 (Int32.ofInt 3).toNatClampNeg
  fi (fm_is M28 96 96 a0 = true) (
  let M30 : FM := fm_sR M28 378 a0 0 x29
  fi (¬ (Int32.ofInt 220) < 0 ∧ (Int32.ofInt 220).toNatClampNeg * 4 ≤ 536870912) (
  let x32 : Nat := fm_nx M30
  let M31 : FM := fm_newa M30 901 379 (Int32.ofInt 220).toNatClampNeg
  fi (fm_is M31 96 96 a0 = true) (
  let M33 : FM := fm_sR M31 379 a0 0 x32
  fi (¬ (Int32.ofInt 220) < 0 ∧ (Int32.ofInt 220).toNatClampNeg * 4 ≤ 536870912) (
  let x35 : Nat := fm_nx M33
  let M34 : FM := fm_newa M33 901 380 (Int32.ofInt 220).toNatClampNeg
  fi (fm_is M34 96 96 a0 = true) (
  let M36 : FM := fm_sR M34 380 a0 0 x35
  some M36) none) none) none) none) none) none) none) none) none) none) none) none) none) none) none) none) none) none) none) none) none) none) none) none) none) none)
noncomputable def FX99_init_0 (a0 : Nat) (M : FM) : Option (FM) := BX99_init_0 a0 M
noncomputable def FX99_init (a0 : Nat) (M : FM) : Option (FM) := FX99_init_0 a0 M
/-! BoardMachineModel$Desk.<init>(I)V -/
noncomputable def BX100_init_41 (s0 : Nat) (s1 : Int32) (M : FM) : Option (FM) :=
  fi (fm_is M 95 95 s0 = true) (
  let M1 : FM := fm_sI M 359 s0 0 s1
  some M1) none
noncomputable def FX100_init_41 (s0 : Nat) (s1 : Int32) (M : FM) : Option (FM) := BX100_init_41 s0 s1 M
noncomputable def BX100_init_40 (g41 : Nat → Int32 → FM → Option (FM)) (s0 : Nat) (M : FM) : Option (FM) :=
  g41 s0 (Int32.ofInt 0) M
noncomputable def FX100_init_40 (s0 : Nat) (M : FM) : Option (FM) := BX100_init_40 FX100_init_41 s0 M
noncomputable def BX100_init_0 (g40 : Nat → FM → Option (FM)) (g41 : Nat → Int32 → FM → Option (FM)) (a0 : Nat) (a1 : Int32) (M : FM) : Option (FM) :=
  fi (a0 = 0) none (
  fi (fm_is M 95 95 a0 = true) (
  let M1 : FM := fm_sI M 360 a0 0 (Int32.ofInt 3)
  fi (¬ (Int32.ofInt 4096) < 0 ∧ (Int32.ofInt 4096).toNatClampNeg * 8 ≤ 536870912) (
  let x3 : Nat := fm_nx M1
  let M2 : FM := fm_newa M1 902 361 (Int32.ofInt 4096).toNatClampNeg
  fi (fm_is M2 95 95 a0 = true) (
  let M4 : FM := fm_sR M2 361 a0 0 x3
  fi (¬ (Int32.ofInt 12) < 0 ∧ (Int32.ofInt 12).toNatClampNeg * 1 ≤ 536870912) (
  let x6 : Nat := fm_nx M4
  let M5 : FM := fm_newa M4 904 362 (Int32.ofInt 12).toNatClampNeg
  fi (fm_is M5 95 95 a0 = true) (
  let M7 : FM := fm_sR M5 362 a0 0 x6
  fi (a1 < 0) (
    g40 a0 M7) (
    fi ((Int32.ofInt 4) ≤ a1) (
      g40 a0 M7) (
      g41 a0 a1 M7))) none) none) none) none) none)
noncomputable def FX100_init_0 (a0 : Nat) (a1 : Int32) (M : FM) : Option (FM) := BX100_init_0 FX100_init_40 FX100_init_41 a0 a1 M
noncomputable def FX100_init (a0 : Nat) (a1 : Int32) (M : FM) : Option (FM) := FX100_init_0 a0 a1 M
/-! BoardMachineModel$Walk.<init>(LBoardMachineModel$Ram;)V -/
noncomputable def BX101_init_0 (a0 : Nat) (a1 : Nat) (M : FM) : Option (FM) :=
  fi (a0 = 0) none (
  fi (¬ (Int32.ofInt 8) < 0 ∧ (Int32.ofInt 8).toNatClampNeg * 4 ≤ 536870912) (
  let x2 : Nat := fm_nx M
  let M1 : FM := fm_newa M 901 427 (Int32.ofInt 8).toNatClampNeg
  fi (fm_is M1 101 101 a0 = true) (
  let M3 : FM := fm_sR M1 427 a0 0 x2
  fi (¬ (Int32.ofInt 8) < 0 ∧ (Int32.ofInt 8).toNatClampNeg * 8 ≤ 536870912) (
  let x5 : Nat := fm_nx M3
  let M4 : FM := fm_newa M3 902 428 (Int32.ofInt 8).toNatClampNeg
  fi (fm_is M4 101 101 a0 = true) (
  let M6 : FM := fm_sR M4 428 a0 0 x5
  fi (fm_is M6 101 101 a0 = true) (
  let M7 : FM := fm_sR M6 423 a0 0 a1
  some M7) none) none) none) none) none)
noncomputable def FX101_init_0 (a0 : Nat) (a1 : Nat) (M : FM) : Option (FM) := BX101_init_0 a0 a1 M
noncomputable def FX101_init (a0 : Nat) (a1 : Nat) (M : FM) : Option (FM) := FX101_init_0 a0 a1 M
/-! BoardMachineModel.<init>(I)V -/
noncomputable def BX92_init_167 (f5 : Nat → FM → Option (Int32 × FM)) (f6 : Nat → FM → Option (FM)) (f7 : Nat → FM → Option (FM)) (f8 : Nat → Int32 → FM → Option (FM)) (f9 : Nat → Nat → FM → Option (FM)) (k167 : Nat → Int32 → FM → Option (FM)) (a0 : Nat) (a2 : Int32) (M : FM) : Option (FM) :=
  fi (fm_is M 92 92 a0 = true) (
  fi ((M.1 297 a0 0) ≤ a2) (
    fi (fm_is M 92 92 a0 = true) (
    (f5 a0 M).bind fun r1 =>
    some r1.2) none) (
    fi (fm_is M 92 92 a0 = true) (
    let x3 : Nat := fm_nx M
    let M2 : FM := fm_new M 94 13
    fi (fm_is M2 94 94 x3 = true) (
    (f6 x3 M2).bind fun M4 =>
    let x5 : Nat := (M.2.2 303 a0 0)
    fi (fm_is M4 929 929 x5 = true ∧ fm_in M4 x5 a2 = true) (
    fi (fm_is M4 94 94 x3 = true) (
    let M6 : FM := fm_sR M4 3 x5 a2.toNatClampNeg x3
    fi (fm_is M6 92 92 a0 = true) (
    let x8 : Nat := fm_nx M6
    let M7 : FM := fm_new M6 96 20
    fi (fm_is M7 96 96 x8 = true) (
    (f7 x8 M7).bind fun M9 =>
    let x10 : Nat := (M6.2.2 304 a0 0)
    fi (fm_is M9 931 931 x10 = true ∧ fm_in M9 x10 a2 = true) (
    fi (fm_is M9 96 96 x8 = true) (
    let M11 : FM := fm_sR M9 3 x10 a2.toNatClampNeg x8
    fi (fm_is M11 92 92 a0 = true) (
    let x13 : Nat := fm_nx M11
    let M12 : FM := fm_new M11 95 8
    fi (fm_is M12 95 95 x13 = true) (
    (f8 x13 a2 M12).bind fun M14 =>
    let x15 : Nat := (M11.2.2 305 a0 0)
    fi (fm_is M14 930 930 x15 = true ∧ fm_in M14 x15 a2 = true) (
    fi (fm_is M14 95 95 x13 = true) (
    let M16 : FM := fm_sR M14 3 x15 a2.toNatClampNeg x13
    fi (fm_is M16 92 92 a0 = true) (
    let x18 : Nat := fm_nx M16
    let M17 : FM := fm_new M16 101 9
    fi (fm_is M17 92 92 a0 = true) (
    fi (fm_is M17 101 101 x18 = true) (
    (f9 x18 (M17.2.2 298 a0 0) M17).bind fun M19 =>
    let x20 : Nat := (M16.2.2 306 a0 0)
    fi (fm_is M19 932 932 x20 = true ∧ fm_in M19 x20 a2 = true) (
    fi (fm_is M19 101 101 x18 = true) (
    let M21 : FM := fm_sR M19 3 x20 a2.toNatClampNeg x18
    let x22 : Int32 := a2 + (Int32.ofInt 1)
    k167 a0 x22 M21) none) none) none) none) none) none) none) none) none) none) none) none) none) none) none) none) none)) none
noncomputable def FX92_init_167 (n : Nat) (k167 : Nat → Int32 → FM → Option (FM)) (a0 : Nat) (a2 : Int32) (M : FM) : Option (FM) := BX92_init_167 (FX92_begin n) FX98_init FX99_init FX100_init FX101_init k167 a0 a2 M
noncomputable def BX92_init_132 (f3 : Nat → Int32 → FM → Option (FM)) (f4 : Nat → Int32 → FM → Option (FM)) (k167 : Nat → Int32 → FM → Option (FM)) (a0 : Nat) (s0 : Nat) (s1 : Int32) (M : FM) : Option (FM) :=
  fi (fm_is M 92 92 s0 = true) (
  let M1 : FM := fm_sI M 297 s0 0 s1
  let x3 : Nat := fm_nx M1
  let M2 : FM := fm_new M1 99 21
  fi (fm_is M2 92 92 a0 = true) (
  fi (fm_is M2 99 99 x3 = true) (
  (f3 x3 (M2.1 297 a0 0) M2).bind fun M4 =>
  fi (fm_is M4 92 92 a0 = true) (
  let M5 : FM := fm_sR M4 301 a0 0 x3
  let x7 : Nat := fm_nx M5
  let M6 : FM := fm_new M5 100 7
  fi (fm_is M6 92 92 a0 = true) (
  fi (fm_is M6 100 100 x7 = true) (
  (f4 x7 (M6.1 297 a0 0) M6).bind fun M8 =>
  fi (fm_is M8 92 92 a0 = true) (
  let M9 : FM := fm_sR M8 302 a0 0 x7
  k167 a0 (Int32.ofInt 0) M9) none) none) none) none) none) none) none
noncomputable def FX92_init_132 (n : Nat) (k167 : Nat → Int32 → FM → Option (FM)) (a0 : Nat) (s0 : Nat) (s1 : Int32) (M : FM) : Option (FM) := BX92_init_132 (FX96_init n) (FX97_init n) k167 a0 s0 s1 M
noncomputable def BX92_init_127 (g132 : Nat → Nat → Int32 → FM → Option (FM)) (a0 : Nat) (s0 : Nat) (M : FM) : Option (FM) :=
  g132 a0 s0 (Int32.ofInt 1) M
noncomputable def FX92_init_127 (n : Nat) (k167 : Nat → Int32 → FM → Option (FM)) (a0 : Nat) (s0 : Nat) (M : FM) : Option (FM) := BX92_init_127 (FX92_init_132 n k167) a0 s0 M
noncomputable def BX92_init_0 (f0 : Nat → FM → Option (FM)) (f1 : Nat → FM → Option (FM)) (f2 : Nat → Nat → FM → Option (FM)) (g127 : Nat → Nat → FM → Option (FM)) (g132 : Nat → Nat → Int32 → FM → Option (FM)) (a0 : Nat) (a1 : Int32) (M : FM) : Option (FM) :=
  fi (a0 = 0) none (
  let x2 : Nat := fm_nx M
  let M1 : FM := fm_new M 98 6
  fi (fm_is M1 98 98 x2 = true) (
  (f0 x2 M1).bind fun M3 =>
  fi (fm_is M3 92 92 a0 = true) (
  let M4 : FM := fm_sR M3 298 a0 0 x2
  let x6 : Nat := fm_nx M4
  let M5 : FM := fm_new M4 97 2
  fi (fm_is M5 97 97 x6 = true) (
  (f1 x6 M5).bind fun M7 =>
  fi (fm_is M7 92 92 a0 = true) (
  let M8 : FM := fm_sR M7 299 a0 0 x6
  let x10 : Nat := fm_nx M8
  let M9 : FM := fm_new M8 93 21
  fi (fm_is M9 92 92 a0 = true) (
  fi (fm_is M9 93 93 x10 = true) (
  (f2 x10 (M9.2.2 298 a0 0) M9).bind fun M11 =>
  fi (fm_is M11 92 92 a0 = true) (
  let M12 : FM := fm_sR M11 300 a0 0 x10
  fi (¬ (Int32.ofInt 4) < 0 ∧ (Int32.ofInt 4).toNatClampNeg * 4 ≤ 536870912) (
  let x14 : Nat := fm_nx M12
  let M13 : FM := fm_newa M12 929 303 (Int32.ofInt 4).toNatClampNeg
  fi (fm_is M13 92 92 a0 = true) (
  let M15 : FM := fm_sR M13 303 a0 0 x14
  fi (¬ (Int32.ofInt 4) < 0 ∧ (Int32.ofInt 4).toNatClampNeg * 4 ≤ 536870912) (
  let x17 : Nat := fm_nx M15
  let M16 : FM := fm_newa M15 931 304 (Int32.ofInt 4).toNatClampNeg
  fi (fm_is M16 92 92 a0 = true) (
  let M18 : FM := fm_sR M16 304 a0 0 x17
  fi (¬ (Int32.ofInt 4) < 0 ∧ (Int32.ofInt 4).toNatClampNeg * 4 ≤ 536870912) (
  let x20 : Nat := fm_nx M18
  let M19 : FM := fm_newa M18 930 305 (Int32.ofInt 4).toNatClampNeg
  fi (fm_is M19 92 92 a0 = true) (
  let M21 : FM := fm_sR M19 305 a0 0 x20
  fi (¬ (Int32.ofInt 4) < 0 ∧ (Int32.ofInt 4).toNatClampNeg * 4 ≤ 536870912) (
  let x23 : Nat := fm_nx M21
  let M22 : FM := fm_newa M21 932 306 (Int32.ofInt 4).toNatClampNeg
  fi (fm_is M22 92 92 a0 = true) (
  let M24 : FM := fm_sR M22 306 a0 0 x23
  fi (¬ (Int32.ofInt 4) < 0 ∧ (Int32.ofInt 4).toNatClampNeg * 1 ≤ 536870912) (
  let x26 : Nat := fm_nx M24
  let M25 : FM := fm_newa M24 904 307 (Int32.ofInt 4).toNatClampNeg
  fi (fm_is M25 92 92 a0 = true) (
  let M27 : FM := fm_sR M25 307 a0 0 x26
  fi (¬ (Int32.ofInt 65536) < 0 ∧ (Int32.ofInt 65536).toNatClampNeg * 4 ≤ 536870912) (
  let x29 : Nat := fm_nx M27
  let M28 : FM := fm_newa M27 901 308 (Int32.ofInt 65536).toNatClampNeg
  fi (fm_is M28 92 92 a0 = true) (
  let M30 : FM := fm_sR M28 308 a0 0 x29
  fi (¬ (Int32.ofInt 65536) < 0 ∧ (Int32.ofInt 65536).toNatClampNeg * 4 ≤ 536870912) (
  let x32 : Nat := fm_nx M30
  let M31 : FM := fm_newa M30 901 310 (Int32.ofInt 65536).toNatClampNeg
  fi (fm_is M31 92 92 a0 = true) (
  let M33 : FM := fm_sR M31 310 a0 0 x32
  fi (fm_is M33 92 92 a0 = true) (
  let M34 : FM := fm_sL M33 313 a0 0 (Int64.ofInt 2147483648)
  fi (fm_is M34 92 92 a0 = true) (
  let M35 : FM := fm_sI M34 315 a0 0 (Int32.ofInt (-1))
  fi (¬ (Int32.ofInt 8) < 0 ∧ (Int32.ofInt 8).toNatClampNeg * 8 ≤ 536870912) (
  let x37 : Nat := fm_nx M35
  let M36 : FM := fm_newa M35 902 323 (Int32.ofInt 8).toNatClampNeg
  fi (fm_is M36 92 92 a0 = true) (
  let M38 : FM := fm_sR M36 323 a0 0 x37
  fi (a1 < (Int32.ofInt 1)) (
    g127 a0 a0 M38) (
    fi (a1 ≤ (Int32.ofInt 4)) (
      g132 a0 a0 a1 M38) (
      g127 a0 a0 M38))) none) none) none) none) none) none) none) none) none) none) none) none) none) none) none) none) none) none) none) none) none) none) none) none) none)
noncomputable def FX92_init_0 (n : Nat) (k167 : Nat → Int32 → FM → Option (FM)) (a0 : Nat) (a1 : Int32) (M : FM) : Option (FM) := BX92_init_0 FX93_init FX94_init FX95_init (FX92_init_127 n k167) (FX92_init_132 n k167) a0 a1 M
noncomputable def FX92_init_L167 (n : Nat) : Nat → Nat → Int32 → FM → Option (FM)
  | 0 => fun _ _ _ => none
  | j + 1 => FX92_init_167 n (FX92_init_L167 n j)
noncomputable def FX92_init (n : Nat) (a0 : Nat) (a1 : Int32) (M : FM) : Option (FM) := FX92_init_0 n (FX92_init_L167 n n) a0 a1 M
/-! BoardMachine.start()I -/
noncomputable def BX1_start_0 (f0 : Nat → FM → Option (Int32 × FM)) (a0 : Nat) (M : FM) : Option (Int32 × FM) :=
  fi (fm_is M 10 10 a0 = true) (
  let x1 : Nat := (M.2.2 17 a0 0)
  fi (fm_is M 67 67 x1 = true) (
  (f0 x1 M).bind fun r2 =>
  some (r2.1, r2.2)) none) none
noncomputable def FX1_start_0 (n : Nat) (a0 : Nat) (M : FM) : Option (Int32 × FM) := BX1_start_0 (FX2_start n) a0 M
noncomputable def FX1_start (n : Nat) (a0 : Nat) (M : FM) : Option (Int32 × FM) := FX1_start_0 n a0 M
/-! BoardMachine.code()I -/
noncomputable def BX1_code_0 (a0 : Nat) (M : FM) : Option (Int32 × FM) :=
  fi (fm_is M 10 10 a0 = true) (
  let x1 : Nat := (M.2.2 17 a0 0)
  fi (fm_is M 67 67 x1 = true) (
  let x2 : Nat := (M.2.2 189 x1 0)
  fi (fm_is M 11 11 x2 = true) (
  some ((M.1 23 x2 0), M)) none) none) none
noncomputable def FX1_code_0 (a0 : Nat) (M : FM) : Option (Int32 × FM) := BX1_code_0 a0 M
noncomputable def FX1_code (a0 : Nat) (M : FM) : Option (Int32 × FM) := FX1_code_0 a0 M
/-! BoardMachine.processors()I -/
noncomputable def BX1_processors_0 (a0 : Nat) (M : FM) : Option (Int32 × FM) :=
  fi (fm_is M 10 10 a0 = true) (
  let x1 : Nat := (M.2.2 17 a0 0)
  fi (fm_is M 67 67 x1 = true) (
  let x2 : Nat := (M.2.2 190 x1 0)
  fi (fm_is M 901 990 x2 = true) (
  some ((Int32.ofNat (M.2.2 1 x2 0)), M)) none) none) none
noncomputable def FX1_processors_0 (a0 : Nat) (M : FM) : Option (Int32 × FM) := BX1_processors_0 a0 M
noncomputable def FX1_processors (a0 : Nat) (M : FM) : Option (Int32 × FM) := FX1_processors_0 a0 M
/-! BoardMachine.sent()J -/
noncomputable def BX1_sent_0 (a0 : Nat) (M : FM) : Option (Int64 × FM) :=
  fi (fm_is M 10 10 a0 = true) (
  let x1 : Nat := (M.2.2 17 a0 0)
  fi (fm_is M 67 67 x1 = true) (
  let x2 : Nat := (M.2.2 189 x1 0)
  fi (fm_is M 11 11 x2 = true) (
  let x3 : Nat := (M.2.2 19 x2 0)
  fi (fm_is M 79 79 x3 = true) (
  let x4 : Nat := (M.2.2 242 x3 0)
  fi (fm_is M 78 78 x4 = true) (
  some ((M.2.1 234 x4 0), M)) none) none) none) none) none
noncomputable def FX1_sent_0 (a0 : Nat) (M : FM) : Option (Int64 × FM) := BX1_sent_0 a0 M
noncomputable def FX1_sent (a0 : Nat) (M : FM) : Option (Int64 × FM) := FX1_sent_0 a0 M
/-! BoardMachine.waiting()I -/
noncomputable def BX1_waiting_0 (a0 : Nat) (M : FM) : Option (Int32 × FM) :=
  fi (fm_is M 10 10 a0 = true) (
  let x1 : Nat := (M.2.2 17 a0 0)
  fi (fm_is M 67 67 x1 = true) (
  some ((M.1 196 x1 0), M)) none) none
noncomputable def FX1_waiting_0 (a0 : Nat) (M : FM) : Option (Int32 × FM) := BX1_waiting_0 a0 M
noncomputable def FX1_waiting (a0 : Nat) (M : FM) : Option (Int32 × FM) := FX1_waiting_0 a0 M
/-! BoardMachine.changed()I -/
noncomputable def BX1_changed_0 (a0 : Nat) (M : FM) : Option (Int32 × FM) :=
  fi (fm_is M 10 10 a0 = true) (
  let x1 : Nat := (M.2.2 17 a0 0)
  fi (fm_is M 67 67 x1 = true) (
  let x2 : Nat := (M.2.2 189 x1 0)
  fi (fm_is M 11 11 x2 = true) (
  let x3 : Nat := (M.2.2 20 x2 0)
  fi (fm_is M 22 22 x3 = true) (
  let x4 : Nat := (M.2.2 59 x3 0)
  fi (fm_is M 23 23 x4 = true) (
  some ((M.1 70 x4 0), M)) none) none) none) none) none
noncomputable def FX1_changed_0 (a0 : Nat) (M : FM) : Option (Int32 × FM) := BX1_changed_0 a0 M
noncomputable def FX1_changed (a0 : Nat) (M : FM) : Option (Int32 × FM) := FX1_changed_0 a0 M
/-! BoardMachine$Board.time()J -/
noncomputable def BX10_time_0 (a0 : Nat) (M : FM) : Option (Int64 × FM) :=
  fi (fm_is M 11 11 a0 = true) (
  let x1 : Nat := (M.2.2 19 a0 0)
  fi (fm_is M 79 79 x1 = true) (
  let x2 : Nat := (M.2.2 240 x1 0)
  fi (fm_is M 80 80 x2 = true) (
  let x3 : Nat := (M.2.2 246 x2 0)
  fi (fm_is M 902 902 x3 = true ∧ fm_in M x3 (Int32.ofInt 4) = true) (
  some ((M.2.1 3 x3 (Int32.ofInt 4).toNatClampNeg), M)) none) none) none) none
noncomputable def FX10_time_0 (a0 : Nat) (M : FM) : Option (Int64 × FM) := BX10_time_0 a0 M
noncomputable def FX10_time (a0 : Nat) (M : FM) : Option (Int64 × FM) := FX10_time_0 a0 M
/-! BoardMachine.time()J -/
noncomputable def BX1_time_0 (f0 : Nat → FM → Option (Int64 × FM)) (a0 : Nat) (M : FM) : Option (Int64 × FM) :=
  fi (fm_is M 10 10 a0 = true) (
  let x1 : Nat := (M.2.2 17 a0 0)
  fi (fm_is M 67 67 x1 = true) (
  let x2 : Nat := (M.2.2 189 x1 0)
  fi (fm_is M 11 11 x2 = true) (
  (f0 x2 M).bind fun r3 =>
  some (r3.1, r3.2)) none) none) none
noncomputable def FX1_time_0 (a0 : Nat) (M : FM) : Option (Int64 × FM) := BX1_time_0 FX10_time a0 M
noncomputable def FX1_time (a0 : Nat) (M : FM) : Option (Int64 × FM) := FX1_time_0 a0 M
/-! BoardMachine.breaches()J -/
noncomputable def BX1_breaches_0 (a0 : Nat) (M : FM) : Option (Int64 × FM) :=
  some ((Int64.ofInt 0), M)
noncomputable def FX1_breaches_0 (a0 : Nat) (M : FM) : Option (Int64 × FM) := BX1_breaches_0 a0 M
noncomputable def FX1_breaches (a0 : Nat) (M : FM) : Option (Int64 × FM) := FX1_breaches_0 a0 M
/-! BoardMachineModel.start()I -/
noncomputable def BX92_start_0 (f0 : Nat → FM → Option (Int32 × FM)) (a0 : Nat) (M : FM) : Option (Int32 × FM) :=
  fi (fm_is M 92 92 a0 = true) (
  let M1 : FM := fm_sI M 296 a0 0 (Int32.ofInt 0)
  fi (fm_is M1 92 92 a0 = true) (
  (f0 a0 M1).bind fun r2 =>
  some (r2.1, r2.2)) none) none
noncomputable def FX92_start_0 (n : Nat) (a0 : Nat) (M : FM) : Option (Int32 × FM) := BX92_start_0 (FX92_begin n) a0 M
noncomputable def FX92_start (n : Nat) (a0 : Nat) (M : FM) : Option (Int32 × FM) := FX92_start_0 n a0 M
/-! BoardMachineModel.code()I -/
noncomputable def BX92_code_0 (a0 : Nat) (M : FM) : Option (Int32 × FM) :=
  fi (fm_is M 92 92 a0 = true) (
  let M1 : FM := fm_sI M 296 a0 0 (Int32.ofInt 0)
  fi (fm_is M1 92 92 a0 = true) (
  some ((M1.1 315 a0 0), M1)) none) none
noncomputable def FX92_code_0 (a0 : Nat) (M : FM) : Option (Int32 × FM) := BX92_code_0 a0 M
noncomputable def FX92_code (a0 : Nat) (M : FM) : Option (Int32 × FM) := FX92_code_0 a0 M
/-! BoardMachineModel.processors()I -/
noncomputable def BX92_processors_0 (a0 : Nat) (M : FM) : Option (Int32 × FM) :=
  fi (fm_is M 92 92 a0 = true) (
  let M1 : FM := fm_sI M 296 a0 0 (Int32.ofInt 0)
  fi (fm_is M1 92 92 a0 = true) (
  some ((M1.1 297 a0 0), M1)) none) none
noncomputable def FX92_processors_0 (a0 : Nat) (M : FM) : Option (Int32 × FM) := BX92_processors_0 a0 M
noncomputable def FX92_processors (a0 : Nat) (M : FM) : Option (Int32 × FM) := FX92_processors_0 a0 M
/-! BoardMachineModel$Signals.sent()J -/
noncomputable def BX96_sent_0 (a0 : Nat) (M : FM) : Option (Int64 × FM) :=
  fi (fm_is M 99 99 a0 = true) (
  let M1 : FM := fm_sI M 394 a0 0 (Int32.ofInt 0)
  fi (fm_is M1 99 99 a0 = true) (
  some ((M1.2.1 413 a0 0), M1)) none) none
noncomputable def FX96_sent_0 (a0 : Nat) (M : FM) : Option (Int64 × FM) := BX96_sent_0 a0 M
noncomputable def FX96_sent (a0 : Nat) (M : FM) : Option (Int64 × FM) := FX96_sent_0 a0 M
/-! BoardMachineModel.sent()J -/
noncomputable def BX92_sent_0 (f0 : Nat → FM → Option (Int64 × FM)) (a0 : Nat) (M : FM) : Option (Int64 × FM) :=
  fi (fm_is M 92 92 a0 = true) (
  let M1 : FM := fm_sI M 296 a0 0 (Int32.ofInt 0)
  fi (fm_is M1 92 92 a0 = true) (
  let x2 : Nat := (M1.2.2 301 a0 0)
  fi (fm_is M1 99 99 x2 = true) (
  (f0 x2 M1).bind fun r3 =>
  some (r3.1, r3.2)) none) none) none
noncomputable def FX92_sent_0 (a0 : Nat) (M : FM) : Option (Int64 × FM) := BX92_sent_0 FX96_sent a0 M
noncomputable def FX92_sent (a0 : Nat) (M : FM) : Option (Int64 × FM) := FX92_sent_0 a0 M
/-! BoardMachineModel.waiting()I -/
noncomputable def BX92_waiting_0 (a0 : Nat) (M : FM) : Option (Int32 × FM) :=
  fi (fm_is M 92 92 a0 = true) (
  let M1 : FM := fm_sI M 296 a0 0 (Int32.ofInt 0)
  fi (fm_is M1 92 92 a0 = true) (
  some ((M1.1 312 a0 0), M1)) none) none
noncomputable def FX92_waiting_0 (a0 : Nat) (M : FM) : Option (Int32 × FM) := BX92_waiting_0 a0 M
noncomputable def FX92_waiting (a0 : Nat) (M : FM) : Option (Int32 × FM) := FX92_waiting_0 a0 M
/-! BoardMachineModel$Block.changed()I -/
noncomputable def BX95_changed_0 (a0 : Nat) (M : FM) : Option (Int32 × FM) :=
  fi (fm_is M 93 93 a0 = true) (
  let M1 : FM := fm_sI M 324 a0 0 (Int32.ofInt 0)
  fi (fm_is M1 93 93 a0 = true) (
  some ((M1.1 338 a0 0), M1)) none) none
noncomputable def FX95_changed_0 (a0 : Nat) (M : FM) : Option (Int32 × FM) := BX95_changed_0 a0 M
noncomputable def FX95_changed (a0 : Nat) (M : FM) : Option (Int32 × FM) := FX95_changed_0 a0 M
/-! BoardMachineModel.changed()I -/
noncomputable def BX92_changed_0 (f0 : Nat → FM → Option (Int32 × FM)) (a0 : Nat) (M : FM) : Option (Int32 × FM) :=
  fi (fm_is M 92 92 a0 = true) (
  let M1 : FM := fm_sI M 296 a0 0 (Int32.ofInt 0)
  fi (fm_is M1 92 92 a0 = true) (
  let x2 : Nat := (M1.2.2 300 a0 0)
  fi (fm_is M1 93 93 x2 = true) (
  (f0 x2 M1).bind fun r3 =>
  some (r3.1, r3.2)) none) none) none
noncomputable def FX92_changed_0 (a0 : Nat) (M : FM) : Option (Int32 × FM) := BX92_changed_0 FX95_changed a0 M
noncomputable def FX92_changed (a0 : Nat) (M : FM) : Option (Int32 × FM) := FX92_changed_0 a0 M
/-! BoardMachineModel.time()J -/
noncomputable def BX92_time_0 (a0 : Nat) (M : FM) : Option (Int64 × FM) :=
  fi (fm_is M 92 92 a0 = true) (
  let M1 : FM := fm_sI M 296 a0 0 (Int32.ofInt 0)
  fi (fm_is M1 92 92 a0 = true) (
  let x2 : Nat := (M1.2.2 301 a0 0)
  fi (fm_is M1 99 99 x2 = true) (
  some ((M1.2.1 398 x2 0), M1)) none) none) none
noncomputable def FX92_time_0 (a0 : Nat) (M : FM) : Option (Int64 × FM) := BX92_time_0 a0 M
noncomputable def FX92_time (a0 : Nat) (M : FM) : Option (Int64 × FM) := FX92_time_0 a0 M
/-! BoardMachineModel.breaches()J -/
noncomputable def BX92_breaches_0 (a0 : Nat) (M : FM) : Option (Int64 × FM) :=
  fi (fm_is M 92 92 a0 = true) (
  let M1 : FM := fm_sI M 296 a0 0 (Int32.ofInt 0)
  fi (fm_is M1 92 92 a0 = true) (
  fi (fm_is M1 92 92 a0 = true) (
  let x2 : Nat := (M1.2.2 298 a0 0)
  fi (fm_is M1 98 98 x2 = true) (
  fi (fm_is M1 92 92 a0 = true) (
  let x3 : Nat := (M1.2.2 301 a0 0)
  fi (fm_is M1 99 99 x3 = true) (
  some ((((M1.2.1 316 a0 0) + (M1.2.1 393 x2 0)) + (M1.2.1 414 x3 0)), M1)) none) none) none) none) none) none
noncomputable def FX92_breaches_0 (a0 : Nat) (M : FM) : Option (Int64 × FM) := BX92_breaches_0 a0 M
noncomputable def FX92_breaches (a0 : Nat) (M : FM) : Option (Int64 × FM) := FX92_breaches_0 a0 M
/-! BoardMachine.proper(Z)V -/
noncomputable def BX1_proper_0 (a0 : Int32) (M : FM) : Option (FM) :=
  fi (a0 = 0) (
    none) (
    some M)
noncomputable def FX1_proper_0 (a0 : Int32) (M : FM) : Option (FM) := BX1_proper_0 a0 M
noncomputable def FX1_proper (a0 : Int32) (M : FM) : Option (FM) := FX1_proper_0 a0 M
noncomputable def TX1_proper (n : Nat) (a0 : Int32) (M : FM) : Option (Nat × FM) :=
  fi (a0 = 0) (
    some (102, fm_exc M)) (
    none)
/-! BoardMachine.end(I)V -/
noncomputable def BX1_end_23 (f0 : Int32 → FM → Option (FM)) (a0 : Nat) (a1 : Int32) (s0 : Int32) (M : FM) : Option (FM) :=
  (f0 s0 M).bind fun M1 =>
  fi (fm_is M1 10 10 a0 = true) (
  let x2 : Nat := (M1.2.2 17 a0 0)
  fi (fm_is M1 67 67 x2 = true) (
  let x3 : Nat := (M1.2.2 191 x2 0)
  fi (fm_is M1 86 86 x3 = true) (
  let M4 : FM := fm_sI M1 262 x3 0 a1
  some M4) none) none) none
noncomputable def FX1_end_23 (a0 : Nat) (a1 : Int32) (s0 : Int32) (M : FM) : Option (FM) := BX1_end_23 FX1_proper a0 a1 s0 M
noncomputable def BX1_end_22 (g23 : Nat → Int32 → Int32 → FM → Option (FM)) (a0 : Nat) (a1 : Int32) (M : FM) : Option (FM) :=
  g23 a0 a1 (Int32.ofInt 0) M
noncomputable def FX1_end_22 (a0 : Nat) (a1 : Int32) (M : FM) : Option (FM) := BX1_end_22 FX1_end_23 a0 a1 M
noncomputable def BX1_end_0 (g22 : Nat → Int32 → FM → Option (FM)) (g23 : Nat → Int32 → Int32 → FM → Option (FM)) (a0 : Nat) (a1 : Int32) (M : FM) : Option (FM) :=
  fi (a1 < 0) (
    g22 a0 a1 M) (
    fi (fm_is M 10 10 a0 = true) (
    let x1 : Nat := (M.2.2 17 a0 0)
    fi (fm_is M 67 67 x1 = true) (
    let x2 : Nat := (M.2.2 191 x1 0)
    fi (fm_is M 86 86 x2 = true) (
    fi ((M.1 262 x2 0) < a1) (
      g22 a0 a1 M) (
      g23 a0 a1 (Int32.ofInt 1) M)) none) none) none)
noncomputable def FX1_end_0 (a0 : Nat) (a1 : Int32) (M : FM) : Option (FM) := BX1_end_0 FX1_end_22 FX1_end_23 a0 a1 M
noncomputable def FX1_end (a0 : Nat) (a1 : Int32) (M : FM) : Option (FM) := FX1_end_0 a0 a1 M
noncomputable def TX1_end (n : Nat) (a0 : Nat) (a1 : Int32) (M : FM) : Option (Nat × FM) :=
  fi (a1 < 0) (
    (TX1_proper n (Int32.ofInt 0) M).or ((FX1_proper (Int32.ofInt 0) M).bind fun M1 =>
    none)) (
    fi (fm_is M 10 10 a0 = true) (
    let x2 : Nat := (M.2.2 17 a0 0)
    fi (fm_is M 67 67 x2 = true) (
    let x3 : Nat := (M.2.2 191 x2 0)
    fi (fm_is M 86 86 x3 = true) (
    fi ((M.1 262 x3 0) < a1) (
      (TX1_proper n (Int32.ofInt 0) M).or ((FX1_proper (Int32.ofInt 0) M).bind fun M4 =>
      none)) (
      (TX1_proper n (Int32.ofInt 1) M).or ((FX1_proper (Int32.ofInt 1) M).bind fun M5 =>
      none))) none) none) none)
/-! BoardMachineLaw.end(LBoardMachine;I)I -/
noncomputable def BX0_end_0 (f0 : Nat → Int32 → FM → Option (FM)) (a0 : Nat) (a1 : Int32) (M : FM) : Option (Int32 × FM) :=
  fi (fm_is M 10 10 a0 = true) (
  (f0 a0 a1 M).bind fun M1 =>
  some ((Int32.ofInt 0), M1)) none
noncomputable def FX0_end_0 (a0 : Nat) (a1 : Int32) (M : FM) : Option (Int32 × FM) := BX0_end_0 FX1_end a0 a1 M
noncomputable def FX0_end (a0 : Nat) (a1 : Int32) (M : FM) : Option (Int32 × FM) := FX0_end_0 a0 a1 M
noncomputable def Fh_law_end (n : Nat) (a0 : Nat) (a1 : Int32) (M : FM) : Option (Int32 × FM) := (FX0_end a0 a1 M).or ((TX1_end n a0 a1 M).bind fun q => fi (q.1 = 102) (some ((Int32.ofInt 1), q.2)) none)
/-! BoardMachine$Signals$Timer.isDue(I)Z -/
noncomputable def BX32_isDue_29 (s0 : Int32) (M : FM) : Option (Int32 × FM) :=
  fi (s0 = 0 ∨ s0 = 1) (some (s0, M)) none
noncomputable def FX32_isDue_29 (s0 : Int32) (M : FM) : Option (Int32 × FM) := BX32_isDue_29 s0 M
noncomputable def BX32_isDue_0 (g29 : Int32 → FM → Option (Int32 × FM)) (a0 : Nat) (a1 : Int32) (M : FM) : Option (Int32 × FM) :=
  fi (fm_is M 80 80 a0 = true) (
  let x1 : Nat := (M.2.2 246 a0 0)
  fi (fm_is M 902 902 x1 = true ∧ fm_in M x1 (Int32.ofInt 4) = true) (
  fi (fm_is M 80 80 a0 = true) (
  let x2 : Nat := (M.2.2 246 a0 0)
  fi (fm_is M 902 902 x2 = true ∧ fm_in M x2 a1 = true) (
  fi ((lg_cmp ((M.2.1 3 x1 (Int32.ofInt 4).toNatClampNeg) ^^^ (Int64.ofInt (-9223372036854775808))) ((M.2.1 3 x2 a1.toNatClampNeg) ^^^ (Int64.ofInt (-9223372036854775808)))) < 0) (
    g29 (Int32.ofInt 0) M) (
    g29 (Int32.ofInt 1) M)) none) none) none) none
noncomputable def FX32_isDue_0 (a0 : Nat) (a1 : Int32) (M : FM) : Option (Int32 × FM) := BX32_isDue_0 FX32_isDue_29 a0 a1 M
noncomputable def FX32_isDue (a0 : Nat) (a1 : Int32) (M : FM) : Option (Int32 × FM) := FX32_isDue_0 a0 a1 M
/-! BoardMachine$Signals$Controller.best(II)I -/
noncomputable def BX33_best_49 (k8 : Nat → Int32 → Int32 → Int32 → Int32 → FM → Option (Int32 × FM)) (a0 : Nat) (a1 : Int32) (a3 : Int32) (a4 : Int32) (a5 : Int32) (M : FM) : Option (Int32 × FM) :=
  let x1 : Int32 := a5 + (Int32.ofInt 1)
  k8 a0 a1 a3 a4 x1 M
noncomputable def FX33_best_49 (n : Nat) (k8 : Nat → Int32 → Int32 → Int32 → Int32 → FM → Option (Int32 × FM)) (a0 : Nat) (a1 : Int32) (a3 : Int32) (a4 : Int32) (a5 : Int32) (M : FM) : Option (Int32 × FM) := BX33_best_49 k8 a0 a1 a3 a4 a5 M
noncomputable def BX33_best_8 (g49 : Nat → Int32 → Int32 → Int32 → Int32 → FM → Option (Int32 × FM)) (a0 : Nat) (a1 : Int32) (a3 : Int32) (a4 : Int32) (a5 : Int32) (M : FM) : Option (Int32 × FM) :=
  fi ((Int32.ofInt 32) ≤ a5) (
    some (a3, M)) (
    fi (((a1 >>> (a5 &&& 31)) &&& (Int32.ofInt 1)) = (Int32.ofInt 1)) (
      fi (fm_is M 77 77 a0 = true) (
      let x1 : Nat := (M.2.2 224 a0 0)
      fi (fm_is M 901 901 x1 = true ∧ fm_in M x1 a5 = true) (
      fi ((M.1 3 x1 a5.toNatClampNeg) ≤ a4) (
        g49 a0 a1 a3 a4 a5 M) (
        fi (fm_is M 77 77 a0 = true) (
        let x2 : Nat := (M.2.2 224 a0 0)
        fi (fm_is M 901 901 x2 = true ∧ fm_in M x2 a5 = true) (
        let x3 : Int32 := (M.1 3 x2 a5.toNatClampNeg)
        g49 a0 a1 a5 x3 a5 M) none) none)) none) none) (
      g49 a0 a1 a3 a4 a5 M))
noncomputable def FX33_best_8 (n : Nat) (k8 : Nat → Int32 → Int32 → Int32 → Int32 → FM → Option (Int32 × FM)) (a0 : Nat) (a1 : Int32) (a3 : Int32) (a4 : Int32) (a5 : Int32) (M : FM) : Option (Int32 × FM) := BX33_best_8 (FX33_best_49 n k8) a0 a1 a3 a4 a5 M
noncomputable def BX33_best_0 (k8 : Nat → Int32 → Int32 → Int32 → Int32 → FM → Option (Int32 × FM)) (a0 : Nat) (a1 : Int32) (a2 : Int32) (M : FM) : Option (Int32 × FM) :=
  k8 a0 a1 (Int32.ofInt 0) a2 (Int32.ofInt 1) M
noncomputable def FX33_best_0 (n : Nat) (k8 : Nat → Int32 → Int32 → Int32 → Int32 → FM → Option (Int32 × FM)) (a0 : Nat) (a1 : Int32) (a2 : Int32) (M : FM) : Option (Int32 × FM) := BX33_best_0 k8 a0 a1 a2 M
noncomputable def FX33_best_L8 (n : Nat) : Nat → Nat → Int32 → Int32 → Int32 → Int32 → FM → Option (Int32 × FM)
  | 0 => fun _ _ _ _ _ _ => none
  | j + 1 => FX33_best_8 n (FX33_best_L8 n j)
noncomputable def FX33_best (n : Nat) (a0 : Nat) (a1 : Int32) (a2 : Int32) (M : FM) : Option (Int32 × FM) := FX33_best_0 n (FX33_best_L8 n n) a0 a1 a2 M
/-! BoardMachine$Signals$Controller.isOn(I)Z -/
noncomputable def BX33_isOn_29 (s0 : Int32) (M : FM) : Option (Int32 × FM) :=
  fi (s0 = 0 ∨ s0 = 1) (some (s0, M)) none
noncomputable def FX33_isOn_29 (n : Nat) (s0 : Int32) (M : FM) : Option (Int32 × FM) := BX33_isOn_29 s0 M
noncomputable def BX33_isOn_0 (f0 : Nat → Int32 → Int32 → FM → Option (Int32 × FM)) (g29 : Int32 → FM → Option (Int32 × FM)) (a0 : Nat) (a1 : Int32) (M : FM) : Option (Int32 × FM) :=
  fi (fm_is M 77 77 a0 = true) (
  fi (fm_is M 77 77 a0 = true) (
  let x1 : Nat := (M.2.2 225 a0 0)
  fi (fm_is M 901 901 x1 = true ∧ fm_in M x1 a1 = true) (
  fi (fm_is M 77 77 a0 = true) (
  let x2 : Nat := (M.2.2 226 a0 0)
  fi (fm_is M 901 901 x2 = true ∧ fm_in M x2 a1 = true) (
  fi (fm_is M 77 77 a0 = true) (
  (f0 a0 ((M.1 228 a0 0) &&& (M.1 3 x1 a1.toNatClampNeg)) (M.1 3 x2 a1.toNatClampNeg) M).bind fun r3 =>
  fi (r3.1 ≤ 0) (
    g29 (Int32.ofInt 0) r3.2) (
    g29 (Int32.ofInt 1) r3.2)) none) none) none) none) none) none
noncomputable def FX33_isOn_0 (n : Nat) (a0 : Nat) (a1 : Int32) (M : FM) : Option (Int32 × FM) := BX33_isOn_0 (FX33_best n) (FX33_isOn_29 n ) a0 a1 M
noncomputable def FX33_isOn (n : Nat) (a0 : Nat) (a1 : Int32) (M : FM) : Option (Int32 × FM) := FX33_isOn_0 n a0 a1 M
/-! BoardMachine$Signals$SignalUnit.line(II)Z -/
noncomputable def BX30_line_54 (s0 : Int32) (M : FM) : Option (Int32 × FM) :=
  fi (s0 = 0 ∨ s0 = 1) (some (s0, M)) none
noncomputable def FX30_line_54 (n : Nat) (s0 : Int32) (M : FM) : Option (Int32 × FM) := BX30_line_54 s0 M
noncomputable def BX30_line_0 (f0 : Nat → Int32 → FM → Option (Int32 × FM)) (f1 : Nat → Int32 → FM → Option (Int32 × FM)) (g54 : Int32 → FM → Option (Int32 × FM)) (a0 : Nat) (a1 : Int32) (a2 : Int32) (M : FM) : Option (Int32 × FM) :=
  fi (a2 = (Int32.ofInt 3)) (
    fi (fm_is M 79 79 a0 = true) (
    let x1 : Nat := (M.2.2 240 a0 0)
    fi (fm_is M 80 80 x1 = true) (
    let x2 : Nat := (M.2.2 245 x1 0)
    fi (fm_is M 901 901 x2 = true ∧ fm_in M x2 a1 = true) (
    fi ((M.1 3 x2 a1.toNatClampNeg) = (Int32.ofInt 1)) (
      g54 (Int32.ofInt 1) M) (
      g54 (Int32.ofInt 0) M)) none) none) none) (
  fi (a2 = (Int32.ofInt 7)) (
    fi (fm_is M 79 79 a0 = true) (
    let x3 : Nat := (M.2.2 240 a0 0)
    fi (fm_is M 80 80 x3 = true) (
    (f0 x3 a1 M).bind fun r4 =>
    fi (r4.1 = 0 ∨ r4.1 = 1) (some (r4.1, r4.2)) none) none) none) (
  fi (a2 = (Int32.ofInt 9)) (
    fi (fm_is M 79 79 a0 = true) (
    let x5 : Nat := (M.2.2 241 a0 0)
    fi (fm_is M 77 77 x5 = true) (
    (f1 x5 (((Int32.ofInt 2) * a1) + (Int32.ofInt 1)) M).bind fun r6 =>
    fi (r6.1 = 0 ∨ r6.1 = 1) (some (r6.1, r6.2)) none) none) none) (
  fi (fm_is M 79 79 a0 = true) (
    let x7 : Nat := (M.2.2 241 a0 0)
    fi (fm_is M 77 77 x7 = true) (
    (f1 x7 ((Int32.ofInt 2) * a1) M).bind fun r8 =>
    fi (r8.1 = 0 ∨ r8.1 = 1) (some (r8.1, r8.2)) none) none) none)))
noncomputable def FX30_line_0 (n : Nat) (a0 : Nat) (a1 : Int32) (a2 : Int32) (M : FM) : Option (Int32 × FM) := BX30_line_0 FX32_isDue (FX33_isOn n) (FX30_line_54 n ) a0 a1 a2 M
noncomputable def FX30_line (n : Nat) (a0 : Nat) (a1 : Int32) (a2 : Int32) (M : FM) : Option (Int32 × FM) := FX30_line_0 n a0 a1 a2 M
/-! BoardMachine$Controls$ControlUnit.line(IZ)V -/
noncomputable def BX74_line_37 (s0 : Nat) (s1 : Int64) (M : FM) : Option (FM) :=
  fi (fm_is M 15 15 s0 = true) (
  let M1 : FM := fm_sL M 43 s0 0 s1
  some M1) none
noncomputable def FX74_line_37 (s0 : Nat) (s1 : Int64) (M : FM) : Option (FM) := BX74_line_37 s0 s1 M
noncomputable def BX74_line_0 (g37 : Nat → Int64 → FM → Option (FM)) (a0 : Nat) (a1 : Int32) (a2 : Int32) (M : FM) : Option (FM) :=
  fi (fm_is M 12 12 a0 = true) (
  fi (a2 = 0) (
    fi (fm_is M 12 12 a0 = true) (
    let x1 : Nat := (M.2.2 31 a0 0)
    fi (fm_is M 15 15 x1 = true) (
    g37 (M.2.2 31 a0 0) ((M.2.1 43 x1 0) &&& (((Int64.ofInt 1) <<< (a1.toInt64 &&& 63)) ^^^ (Int64.ofInt (-1)))) M) none) none) (
    fi (fm_is M 12 12 a0 = true) (
    let x2 : Nat := (M.2.2 31 a0 0)
    fi (fm_is M 15 15 x2 = true) (
    g37 (M.2.2 31 a0 0) ((M.2.1 43 x2 0) ||| ((Int64.ofInt 1) <<< (a1.toInt64 &&& 63))) M) none) none)) none
noncomputable def FX74_line_0 (a0 : Nat) (a1 : Int32) (a2 : Int32) (M : FM) : Option (FM) := BX74_line_0 FX74_line_37 a0 a1 a2 M
noncomputable def FX74_line (a0 : Nat) (a1 : Int32) (a2 : Int32) (M : FM) : Option (FM) := FX74_line_0 a0 a1 a2 M
/-! BoardMachine$Processor.look()V -/
noncomputable def BX46_look_0 (f0 : Nat → Int32 → Int32 → FM → Option (Int32 × FM)) (f1 : Nat → Int32 → Int32 → FM → Option (FM)) (f2 : Nat → FM → Option (Int64 × FM)) (a0 : Nat) (M : FM) : Option (FM) :=
  fi (fm_is M 75 75 a0 = true) (
  let x1 : Nat := (M.2.2 210 a0 0)
  fi (fm_is M 11 11 x1 = true) (
  let x2 : Nat := (M.2.2 19 x1 0)
  fi (fm_is M 75 75 a0 = true) (
  fi (fm_is M 75 75 a0 = true) (
  fi (fm_is M 79 79 x2 = true) (
  (f0 x2 (M.1 209 a0 0) (Int32.ofInt 3) M).bind fun r3 =>
  let x4 : Nat := (M.2.2 213 a0 0)
  fi (fm_is r3.2 12 12 x4 = true) (
  (f1 x4 (Int32.ofInt 3) r3.1 r3.2).bind fun M5 =>
  fi (fm_is M5 75 75 a0 = true) (
  fi (fm_is M5 75 75 a0 = true) (
  fi (fm_is M5 79 79 x2 = true) (
  (f0 x2 (M5.1 209 a0 0) (Int32.ofInt 7) M5).bind fun r6 =>
  let x7 : Nat := (M5.2.2 213 a0 0)
  fi (fm_is r6.2 12 12 x7 = true) (
  (f1 x7 (Int32.ofInt 7) r6.1 r6.2).bind fun M8 =>
  fi (fm_is M8 75 75 a0 = true) (
  fi (fm_is M8 75 75 a0 = true) (
  fi (fm_is M8 79 79 x2 = true) (
  (f0 x2 (M8.1 209 a0 0) (Int32.ofInt 9) M8).bind fun r9 =>
  let x10 : Nat := (M8.2.2 213 a0 0)
  fi (fm_is r9.2 12 12 x10 = true) (
  (f1 x10 (Int32.ofInt 9) r9.1 r9.2).bind fun M11 =>
  fi (fm_is M11 75 75 a0 = true) (
  fi (fm_is M11 75 75 a0 = true) (
  fi (fm_is M11 79 79 x2 = true) (
  (f0 x2 (M11.1 209 a0 0) (Int32.ofInt 11) M11).bind fun r12 =>
  let x13 : Nat := (M11.2.2 213 a0 0)
  fi (fm_is r12.2 12 12 x13 = true) (
  (f1 x13 (Int32.ofInt 11) r12.1 r12.2).bind fun M14 =>
  fi (fm_is M14 75 75 a0 = true) (
  let x15 : Nat := (M14.2.2 213 a0 0)
  fi (fm_is M14 12 12 x15 = true) (
  fi (fm_is M14 75 75 a0 = true) (
  let x16 : Nat := (M14.2.2 210 a0 0)
  fi (fm_is M14 11 11 x16 = true) (
  (f2 x16 M14).bind fun r17 =>
  let x18 : Nat := (M14.2.2 36 x15 0)
  fi (fm_is r17.2 14 17 x18 = true) (
  let M19 : FM := fm_sL r17.2 41 x18 0 r17.1
  some M19) none) none) none) none) none) none) none) none) none) none) none) none) none) none) none) none) none) none) none) none) none) none) none
noncomputable def FX46_look_0 (n : Nat) (a0 : Nat) (M : FM) : Option (FM) := BX46_look_0 (FX30_line n) FX74_line FX10_time a0 M
noncomputable def FX46_look (n : Nat) (a0 : Nat) (M : FM) : Option (FM) := FX46_look_0 n a0 M
/-! BoardMachine$Controls$Pending.show()J -/
noncomputable def BX79_show_0 (a0 : Nat) (M : FM) : Option (Int64 × FM) :=
  fi (fm_is M 15 15 a0 = true) (
  fi (fm_is M 15 15 a0 = true) (
  some (((M.2.1 41 a0 0) ||| (M.2.1 43 a0 0)), M)) none) none
noncomputable def FX79_show_0 (a0 : Nat) (M : FM) : Option (Int64 × FM) := BX79_show_0 a0 M
noncomputable def FX79_show (a0 : Nat) (M : FM) : Option (Int64 × FM) := FX79_show_0 a0 M
/-! BoardMachine$Controls$Masked.show()J -/
noncomputable def BX77_show_0 (a0 : Nat) (M : FM) : Option (Int64 × FM) :=
  fi (fm_is M 14 17 a0 = true) (
  some ((M.2.1 41 a0 0), M)) none
noncomputable def FX77_show_0 (a0 : Nat) (M : FM) : Option (Int64 × FM) := BX77_show_0 a0 M
noncomputable def FX77_show (a0 : Nat) (M : FM) : Option (Int64 × FM) := FX77_show_0 a0 M
/-! BoardMachine$Controls$Status.two(I)I -/
noncomputable def BX78_two_0 (a0 : Nat) (a1 : Int32) (M : FM) : Option (Int32 × FM) :=
  fi (fm_is M 16 16 a0 = true) (
  some ((((M.2.1 41 a0 0) >>> (a1.toInt64 &&& 63)).toInt32 &&& (Int32.ofInt 3)), M)) none
noncomputable def FX78_two_0 (a0 : Nat) (a1 : Int32) (M : FM) : Option (Int32 × FM) := BX78_two_0 a0 a1 M
noncomputable def FX78_two (a0 : Nat) (a1 : Int32) (M : FM) : Option (Int32 × FM) := FX78_two_0 a0 a1 M
/-! BoardMachine$Controls$Status.summary()J -/
noncomputable def BX78_summary_17 (s0 : Int64) (M : FM) : Option (Int64 × FM) :=
  some (s0, M)
noncomputable def FX78_summary_17 (s0 : Int64) (M : FM) : Option (Int64 × FM) := BX78_summary_17 s0 M
noncomputable def BX78_summary_0 (f0 : Nat → Int32 → FM → Option (Int32 × FM)) (g17 : Int64 → FM → Option (Int64 × FM)) (a0 : Nat) (M : FM) : Option (Int64 × FM) :=
  fi (fm_is M 16 16 a0 = true) (
  (f0 a0 (Int32.ofInt 13) M).bind fun r1 =>
  fi (r1.1 = (Int32.ofInt 3)) (
    g17 (Int64.ofInt (-9223372036854775808)) r1.2) (
    g17 (Int64.ofInt 0) r1.2)) none
noncomputable def FX78_summary_0 (a0 : Nat) (M : FM) : Option (Int64 × FM) := BX78_summary_0 FX78_two FX78_summary_17 a0 M
noncomputable def FX78_summary (a0 : Nat) (M : FM) : Option (Int64 × FM) := FX78_summary_0 a0 M
/-! BoardMachine$Controls$Status.show()J -/
noncomputable def BX78_show_0 (f0 : Nat → FM → Option (Int64 × FM)) (a0 : Nat) (M : FM) : Option (Int64 × FM) :=
  fi (fm_is M 16 16 a0 = true) (
  fi (fm_is M 16 16 a0 = true) (
  (f0 a0 M).bind fun r1 =>
  some ((((M.2.1 41 a0 0) ||| (Int64.ofInt 42949672960)) ||| r1.1), r1.2)) none) none
noncomputable def FX78_show_0 (a0 : Nat) (M : FM) : Option (Int64 × FM) := BX78_show_0 FX78_summary a0 M
noncomputable def FX78_show (a0 : Nat) (M : FM) : Option (Int64 × FM) := FX78_show_0 a0 M
/-! BoardMachine$Controls$ControlUnit.waiting()J -/
noncomputable def BX74_waiting_0 (f0 : Nat → FM → Option (Int64 × FM)) (f1 : Nat → FM → Option (Int64 × FM)) (f2 : Nat → FM → Option (Int64 × FM)) (a0 : Nat) (M : FM) : Option (Int64 × FM) :=
  fi (fm_is M 12 12 a0 = true) (
  let x1 : Nat := (M.2.2 31 a0 0)
  fi (fm_is M 15 15 x1 = true) (
  (f0 x1 M).bind fun r2 =>
  fi (fm_is r2.2 12 12 a0 = true) (
  let x3 : Nat := (r2.2.2.2 30 a0 0)
  fi (fm_is r2.2 14 14 x3 = true) (
  (f1 x3 r2.2).bind fun r4 =>
  some ((r2.1 &&& r4.1), r4.2)) (fi (fm_is r2.2 15 15 x3 = true) (
  (f0 x3 r2.2).bind fun r5 =>
  some ((r2.1 &&& r5.1), r5.2)) (fi (fm_is r2.2 16 16 x3 = true) (
  (f2 x3 r2.2).bind fun r6 =>
  some ((r2.1 &&& r6.1), r6.2)) (fi (fm_is r2.2 17 17 x3 = true) (
  (f1 x3 r2.2).bind fun r7 =>
  some ((r2.1 &&& r7.1), r7.2)) (none))))) none) none) none
noncomputable def FX74_waiting_0 (a0 : Nat) (M : FM) : Option (Int64 × FM) := BX74_waiting_0 FX79_show FX77_show FX78_show a0 M
noncomputable def FX74_waiting (a0 : Nat) (M : FM) : Option (Int64 × FM) := FX74_waiting_0 a0 M
/-! BoardMachine$Controls$Status.has(I)Z -/
noncomputable def BX78_has_18 (s0 : Int32) (M : FM) : Option (Int32 × FM) :=
  fi (s0 = 0 ∨ s0 = 1) (some (s0, M)) none
noncomputable def FX78_has_18 (s0 : Int32) (M : FM) : Option (Int32 × FM) := BX78_has_18 s0 M
noncomputable def BX78_has_0 (g18 : Int32 → FM → Option (Int32 × FM)) (a0 : Nat) (a1 : Int32) (M : FM) : Option (Int32 × FM) :=
  fi (fm_is M 16 16 a0 = true) (
  fi ((lg_cmp (((M.2.1 41 a0 0) >>> (a1.toInt64 &&& 63)) &&& (Int64.ofInt 1)) (Int64.ofInt 1)) = 0) (
    g18 (Int32.ofInt 1) M) (
    g18 (Int32.ofInt 0) M)) none
noncomputable def FX78_has_0 (a0 : Nat) (a1 : Int32) (M : FM) : Option (Int32 × FM) := BX78_has_0 FX78_has_18 a0 a1 M
noncomputable def FX78_has (a0 : Nat) (a1 : Int32) (M : FM) : Option (Int32 × FM) := FX78_has_0 a0 a1 M
/-! BoardMachine$Controls$ControlUnit.first(J)I -/
noncomputable def BX74_first_12 (k12 : Int64 → Nat → Int32 → Int32 → FM → Option (Int32 × FM)) (a1 : Int64) (a3 : Nat) (a4 : Int32) (a5 : Int32) (M : FM) : Option (Int32 × FM) :=
  fi (a4 ≤ a5) (
    some ((Int32.ofInt (-1)), M)) (
    fi (fm_is M 901 901 a3 = true ∧ fm_in M a3 a5 = true) (
    let x1 : Int32 := (M.1 3 a3 a5.toNatClampNeg)
    fi ((lg_cmp ((a1 >>> (x1.toInt64 &&& 63)) &&& (Int64.ofInt 1)) (Int64.ofInt 1)) = 0) (
      some (x1, M)) (
      let x2 : Int32 := a5 + (Int32.ofInt 1)
      k12 a1 a3 a4 x2 M)) none)
noncomputable def FX74_first_12 (n : Nat) (k12 : Int64 → Nat → Int32 → Int32 → FM → Option (Int32 × FM)) (a1 : Int64) (a3 : Nat) (a4 : Int32) (a5 : Int32) (M : FM) : Option (Int32 × FM) := BX74_first_12 k12 a1 a3 a4 a5 M
noncomputable def BX74_first_0 (k12 : Int64 → Nat → Int32 → Int32 → FM → Option (Int32 × FM)) (a0 : Nat) (a1 : Int64) (M : FM) : Option (Int32 × FM) :=
  fi (fm_is M 12 12 a0 = true) (
  let x1 : Nat := (M.2.2 24 a0 0)
  fi (fm_is M 901 990 x1 = true) (
  let x2 : Int32 := (Int32.ofNat (M.2.2 1 x1 0))
  k12 a1 x1 x2 (Int32.ofInt 0) M) none) none
noncomputable def FX74_first_0 (n : Nat) (k12 : Int64 → Nat → Int32 → Int32 → FM → Option (Int32 × FM)) (a0 : Nat) (a1 : Int64) (M : FM) : Option (Int32 × FM) := BX74_first_0 k12 a0 a1 M
noncomputable def FX74_first_L12 (n : Nat) : Nat → Int64 → Nat → Int32 → Int32 → FM → Option (Int32 × FM)
  | 0 => fun _ _ _ _ _ => none
  | j + 1 => FX74_first_12 n (FX74_first_L12 n j)
noncomputable def FX74_first (n : Nat) (a0 : Nat) (a1 : Int64) (M : FM) : Option (Int32 × FM) := FX74_first_0 n (FX74_first_L12 n n) a0 a1 M
/-! BoardMachine$Controls$ControlUnit.taken()I -/
noncomputable def BX74_taken_115 (s0 : Int32) (M : FM) : Option (Int32 × FM) :=
  some (s0, M)
noncomputable def FX74_taken_115 (n : Nat) (s0 : Int32) (M : FM) : Option (Int32 × FM) := BX74_taken_115 s0 M
noncomputable def BX74_taken_100 (g115 : Int32 → FM → Option (Int32 × FM)) (a5 : Int32) (M : FM) : Option (Int32 × FM) :=
  g115 a5 M
noncomputable def FX74_taken_100 (n : Nat) (a5 : Int32) (M : FM) : Option (Int32 × FM) := BX74_taken_100 (FX74_taken_115 n ) a5 M
noncomputable def BX74_taken_88 (f4 : Nat → FM → Option (Int64 × FM)) (f5 : Nat → Int64 → FM → Option (Int32 × FM)) (g100 : Int32 → FM → Option (Int32 × FM)) (g115 : Int32 → FM → Option (Int32 × FM)) (a0 : Nat) (a1 : Int64) (a4 : Int32) (s0 : Int32) (M : FM) : Option (Int32 × FM) :=
  fi (0 ≤ s0) (
    g100 s0 M) (
    fi (a4 = 0) (
      g100 s0 M) (
      fi (fm_is M 12 12 a0 = true) (
      (f4 a0 M).bind fun r1 =>
      fi (fm_is r1.2 12 12 a0 = true) (
      (f5 a0 (r1.1 &&& a1) r1.2).bind fun r2 =>
      g115 r2.1 r2.2) none) none))
noncomputable def FX74_taken_88 (n : Nat) (a0 : Nat) (a1 : Int64) (a4 : Int32) (s0 : Int32) (M : FM) : Option (Int32 × FM) := BX74_taken_88 FX74_waiting (FX74_first n) (FX74_taken_100 n ) (FX74_taken_115 n ) a0 a1 a4 s0 M
noncomputable def BX74_taken_64 (f4 : Nat → FM → Option (Int64 × FM)) (f5 : Nat → Int64 → FM → Option (Int32 × FM)) (g88 : Nat → Int64 → Int32 → Int32 → FM → Option (Int32 × FM)) (a0 : Nat) (a1 : Int64) (a3 : Int32) (s0 : Int32) (M : FM) : Option (Int32 × FM) :=
  fi (a3 = 0) (
    g88 a0 a1 s0 (Int32.ofInt (-1)) M) (
    fi (fm_is M 12 12 a0 = true) (
    (f4 a0 M).bind fun r1 =>
    fi (fm_is r1.2 12 12 a0 = true) (
    (f5 a0 (r1.1 &&& (a1 ^^^ (Int64.ofInt (-1)))) r1.2).bind fun r2 =>
    g88 a0 a1 s0 r2.1 r2.2) none) none)
noncomputable def FX74_taken_64 (n : Nat) (a0 : Nat) (a1 : Int64) (a3 : Int32) (s0 : Int32) (M : FM) : Option (Int32 × FM) := BX74_taken_64 FX74_waiting (FX74_first n) (FX74_taken_88 n ) a0 a1 a3 s0 M
noncomputable def BX74_taken_63 (g64 : Nat → Int64 → Int32 → Int32 → FM → Option (Int32 × FM)) (a0 : Nat) (a1 : Int64) (a3 : Int32) (M : FM) : Option (Int32 × FM) :=
  g64 a0 a1 a3 (Int32.ofInt 0) M
noncomputable def FX74_taken_63 (n : Nat) (a0 : Nat) (a1 : Int64) (a3 : Int32) (M : FM) : Option (Int32 × FM) := BX74_taken_63 (FX74_taken_64 n ) a0 a1 a3 M
noncomputable def BX74_taken_59 (g64 : Nat → Int64 → Int32 → Int32 → FM → Option (Int32 × FM)) (a0 : Nat) (a1 : Int64) (a3 : Int32) (M : FM) : Option (Int32 × FM) :=
  g64 a0 a1 a3 (Int32.ofInt 1) M
noncomputable def FX74_taken_59 (n : Nat) (a0 : Nat) (a1 : Int64) (a3 : Int32) (M : FM) : Option (Int32 × FM) := BX74_taken_59 (FX74_taken_64 n ) a0 a1 a3 M
noncomputable def BX74_taken_32 (f3 : Nat → Int32 → FM → Option (Int32 × FM)) (g59 : Nat → Int64 → Int32 → FM → Option (Int32 × FM)) (g63 : Nat → Int64 → Int32 → FM → Option (Int32 × FM)) (a0 : Nat) (a1 : Int64) (s0 : Int32) (M : FM) : Option (Int32 × FM) :=
  fi (fm_is M 12 12 a0 = true) (
  fi ((M.1 37 a0 0) = 0) (
    g59 a0 a1 s0 M) (
    fi (fm_is M 12 12 a0 = true) (
    fi ((M.1 37 a0 0) = (Int32.ofInt 1)) (
      fi (fm_is M 12 12 a0 = true) (
      let x1 : Nat := (M.2.2 27 a0 0)
      fi (fm_is M 16 16 x1 = true) (
      (f3 x1 (Int32.ofInt 1) M).bind fun r2 =>
      fi (r2.1 = 0) (
        g63 a0 a1 s0 r2.2) (
        g59 a0 a1 s0 r2.2)) none) none) (
      g63 a0 a1 s0 M)) none)) none
noncomputable def FX74_taken_32 (n : Nat) (a0 : Nat) (a1 : Int64) (s0 : Int32) (M : FM) : Option (Int32 × FM) := BX74_taken_32 FX78_has (FX74_taken_59 n ) (FX74_taken_63 n ) a0 a1 s0 M
noncomputable def BX74_taken_27 (g32 : Nat → Int64 → Int32 → FM → Option (Int32 × FM)) (a0 : Nat) (a1 : Int64) (M : FM) : Option (Int32 × FM) :=
  g32 a0 a1 (Int32.ofInt 1) M
noncomputable def FX74_taken_27 (n : Nat) (a0 : Nat) (a1 : Int64) (M : FM) : Option (Int32 × FM) := BX74_taken_27 (FX74_taken_32 n ) a0 a1 M
noncomputable def BX74_taken_0 (f0 : Nat → FM → Option (Int64 × FM)) (f1 : Nat → FM → Option (Int64 × FM)) (f2 : Nat → FM → Option (Int64 × FM)) (f3 : Nat → Int32 → FM → Option (Int32 × FM)) (g27 : Nat → Int64 → FM → Option (Int32 × FM)) (g32 : Nat → Int64 → Int32 → FM → Option (Int32 × FM)) (a0 : Nat) (M : FM) : Option (Int32 × FM) :=
  fi (fm_is M 12 12 a0 = true) (
  let x1 : Nat := (M.2.2 29 a0 0)
  fi (fm_is M 14 14 x1 = true) (
  (f0 x1 M).bind fun r2 =>
  fi (fm_is r2.2 12 12 a0 = true) (
  fi ((r2.2.1 37 a0 0) = (Int32.ofInt 3)) (
    fi (fm_is r2.2 12 12 a0 = true) (
    let x3 : Nat := (r2.2.2.2 27 a0 0)
    fi (fm_is r2.2 16 16 x3 = true) (
    (f3 x3 (Int32.ofInt 3) r2.2).bind fun r4 =>
    fi (r4.1 = 0) (
      g32 a0 r2.1 (Int32.ofInt 0) r4.2) (
      g27 a0 r2.1 r4.2)) none) none) (
    g27 a0 r2.1 r2.2)) none) (fi (fm_is M 15 15 x1 = true) (
  (f1 x1 M).bind fun r5 =>
  fi (fm_is r5.2 12 12 a0 = true) (
  fi ((r5.2.1 37 a0 0) = (Int32.ofInt 3)) (
    fi (fm_is r5.2 12 12 a0 = true) (
    let x6 : Nat := (r5.2.2.2 27 a0 0)
    fi (fm_is r5.2 16 16 x6 = true) (
    (f3 x6 (Int32.ofInt 3) r5.2).bind fun r7 =>
    fi (r7.1 = 0) (
      g32 a0 r5.1 (Int32.ofInt 0) r7.2) (
      g27 a0 r5.1 r7.2)) none) none) (
    g27 a0 r5.1 r5.2)) none) (fi (fm_is M 16 16 x1 = true) (
  (f2 x1 M).bind fun r8 =>
  fi (fm_is r8.2 12 12 a0 = true) (
  fi ((r8.2.1 37 a0 0) = (Int32.ofInt 3)) (
    fi (fm_is r8.2 12 12 a0 = true) (
    let x9 : Nat := (r8.2.2.2 27 a0 0)
    fi (fm_is r8.2 16 16 x9 = true) (
    (f3 x9 (Int32.ofInt 3) r8.2).bind fun r10 =>
    fi (r10.1 = 0) (
      g32 a0 r8.1 (Int32.ofInt 0) r10.2) (
      g27 a0 r8.1 r10.2)) none) none) (
    g27 a0 r8.1 r8.2)) none) (fi (fm_is M 17 17 x1 = true) (
  (f0 x1 M).bind fun r11 =>
  fi (fm_is r11.2 12 12 a0 = true) (
  fi ((r11.2.1 37 a0 0) = (Int32.ofInt 3)) (
    fi (fm_is r11.2 12 12 a0 = true) (
    let x12 : Nat := (r11.2.2.2 27 a0 0)
    fi (fm_is r11.2 16 16 x12 = true) (
    (f3 x12 (Int32.ofInt 3) r11.2).bind fun r13 =>
    fi (r13.1 = 0) (
      g32 a0 r11.1 (Int32.ofInt 0) r13.2) (
      g27 a0 r11.1 r13.2)) none) none) (
    g27 a0 r11.1 r11.2)) none) (none))))) none
noncomputable def FX74_taken_0 (n : Nat) (a0 : Nat) (M : FM) : Option (Int32 × FM) := BX74_taken_0 FX77_show FX79_show FX78_show FX78_has (FX74_taken_27 n ) (FX74_taken_32 n ) a0 M
noncomputable def FX74_taken (n : Nat) (a0 : Nat) (M : FM) : Option (Int32 × FM) := FX74_taken_0 n a0 M
/-! BoardMachine$Processor.counter()J -/
noncomputable def BX46_counter_0 (a0 : Nat) (M : FM) : Option (Int64 × FM) :=
  fi (fm_is M 75 75 a0 = true) (
  let x1 : Nat := (M.2.2 211 a0 0)
  fi (fm_is M 63 63 x1 = true) (
  let x2 : Nat := (M.2.2 171 x1 0)
  fi (fm_is M 64 64 x2 = true) (
  some ((M.2.1 179 x2 0), M)) none) none) none
noncomputable def FX46_counter_0 (a0 : Nat) (M : FM) : Option (Int64 × FM) := BX46_counter_0 a0 M
noncomputable def FX46_counter (a0 : Nat) (M : FM) : Option (Int64 × FM) := FX46_counter_0 a0 M
/-! BoardMachine$Walks.bits(JII)J -/
noncomputable def BX102_bits_0 (a0 : Int64) (a2 : Int32) (a3 : Int32) (M : FM) : Option (Int64 × FM) :=
  some (((a0.toUInt64 >>> (a2.toInt64.toUInt64 &&& Int64.toUInt64 63)).toInt64 &&& (((Int64.ofInt 1) <<< (a3.toInt64 &&& 63)) - (Int64.ofInt 1))), M)
noncomputable def FX102_bits_0 (a0 : Int64) (a2 : Int32) (a3 : Int32) (M : FM) : Option (Int64 × FM) := BX102_bits_0 a0 a2 a3 M
noncomputable def FX102_bits (a0 : Int64) (a2 : Int32) (a3 : Int32) (M : FM) : Option (Int64 × FM) := FX102_bits_0 a0 a2 a3 M
/-! BoardMachine$Walks$Translator.fault(II)J -/
noncomputable def BX84_fault_0 (a0 : Nat) (a1 : Int32) (a2 : Int32) (M : FM) : Option (Int64 × FM) :=
  fi (fm_is M 91 91 a0 = true) (
  let x1 : Nat := (M.2.2 286 a0 0)
  fi (fm_is M 910 990 x1 = true ∧ fm_in M x1 a1 = true) (
  let x2 : Nat := (M.2.2 3 x1 a1.toNatClampNeg)
  fi (fm_is M 901 901 x2 = true ∧ fm_in M x2 a2 = true) (
  some ((-(M.1 3 x2 a2.toNatClampNeg)).toInt64, M)) none) none) none
noncomputable def FX84_fault_0 (a0 : Nat) (a1 : Int32) (a2 : Int32) (M : FM) : Option (Int64 × FM) := BX84_fault_0 a0 a1 a2 M
noncomputable def FX84_fault (a0 : Nat) (a1 : Int32) (a2 : Int32) (M : FM) : Option (Int64 × FM) := FX84_fault_0 a0 a1 a2 M
/-! BoardMachine$TableWords.writes(J)J -/
noncomputable def BX85_writes_0 (f0 : Int64 → FM → Option (Int32 × FM)) (a0 : Nat) (a1 : Int64) (M : FM) : Option (Int64 × FM) :=
  fi (fm_is M 81 81 a0 = true) (
  let x1 : Nat := (M.2.2 247 a0 0)
  fi (fm_is M 73 73 x1 = true) (
  (f0 a1 M).bind fun r2 =>
  let x3 : Nat := (M.2.2 204 x1 0)
  fi (fm_is r2.2 902 902 x3 = true ∧ fm_in r2.2 x3 r2.1 = true) (
  some ((r2.2.2.1 3 x3 r2.1.toNatClampNeg), r2.2)) none) none) none
noncomputable def FX85_writes_0 (a0 : Nat) (a1 : Int64) (M : FM) : Option (Int64 × FM) := BX85_writes_0 FX11_pageOf a0 a1 M
noncomputable def FX85_writes (a0 : Nat) (a1 : Int64) (M : FM) : Option (Int64 × FM) := FX85_writes_0 a0 a1 M
/-! BoardMachine$Walks$Kept.holds(LBoardMachine$Walks$Words;)Z -/
noncomputable def BX88_holds_2 (f0 : Nat → Int64 → FM → Option (Int64 × FM)) (k2 : Nat → Nat → Int32 → FM → Option (Int32 × FM)) (a0 : Nat) (a1 : Nat) (a2 : Int32) (M : FM) : Option (Int32 × FM) :=
  fi (fm_is M 88 88 a0 = true) (
  fi ((M.1 277 a0 0) ≤ a2) (
    fi ((Int32.ofInt 1) = 0 ∨ (Int32.ofInt 1) = 1) (some ((Int32.ofInt 1), M)) none) (
    fi (fm_is M 88 88 a0 = true) (
    let x1 : Nat := (M.2.2 278 a0 0)
    fi (fm_is M 902 902 x1 = true ∧ fm_in M x1 a2 = true) (
    fi (fm_is M 81 81 a1 = true) (
    (f0 a1 (M.2.1 3 x1 a2.toNatClampNeg) M).bind fun r2 =>
    fi (fm_is r2.2 88 88 a0 = true) (
    let x3 : Nat := (r2.2.2.2 279 a0 0)
    fi (fm_is r2.2 902 902 x3 = true ∧ fm_in r2.2 x3 a2 = true) (
    fi ((lg_cmp r2.1 (r2.2.2.1 3 x3 a2.toNatClampNeg)) = 0) (
      let x4 : Int32 := a2 + (Int32.ofInt 1)
      k2 a0 a1 x4 r2.2) (
      fi ((Int32.ofInt 0) = 0 ∨ (Int32.ofInt 0) = 1) (some ((Int32.ofInt 0), r2.2)) none)) none) none) (none)) none) none)) none
noncomputable def FX88_holds_2 (n : Nat) (k2 : Nat → Nat → Int32 → FM → Option (Int32 × FM)) (a0 : Nat) (a1 : Nat) (a2 : Int32) (M : FM) : Option (Int32 × FM) := BX88_holds_2 FX85_writes k2 a0 a1 a2 M
noncomputable def BX88_holds_0 (k2 : Nat → Nat → Int32 → FM → Option (Int32 × FM)) (a0 : Nat) (a1 : Nat) (M : FM) : Option (Int32 × FM) :=
  k2 a0 a1 (Int32.ofInt 0) M
noncomputable def FX88_holds_0 (n : Nat) (k2 : Nat → Nat → Int32 → FM → Option (Int32 × FM)) (a0 : Nat) (a1 : Nat) (M : FM) : Option (Int32 × FM) := BX88_holds_0 k2 a0 a1 M
noncomputable def FX88_holds_L2 (n : Nat) : Nat → Nat → Nat → Int32 → FM → Option (Int32 × FM)
  | 0 => fun _ _ _ _ => none
  | j + 1 => FX88_holds_2 n (FX88_holds_L2 n j)
noncomputable def FX88_holds (n : Nat) (a0 : Nat) (a1 : Nat) (M : FM) : Option (Int32 × FM) := FX88_holds_0 n (FX88_holds_L2 n n) a0 a1 M
/-! BoardMachine$Memories$Ram.has(JJ)Z -/
noncomputable def BX11_has_36 (s0 : Int32) (M : FM) : Option (Int32 × FM) :=
  fi (s0 = 0 ∨ s0 = 1) (some (s0, M)) none
noncomputable def FX11_has_36 (s0 : Int32) (M : FM) : Option (Int32 × FM) := BX11_has_36 s0 M
noncomputable def BX11_has_35 (g36 : Int32 → FM → Option (Int32 × FM)) (M : FM) : Option (Int32 × FM) :=
  g36 (Int32.ofInt 0) M
noncomputable def FX11_has_35 (M : FM) : Option (Int32 × FM) := BX11_has_35 FX11_has_36 M
noncomputable def BX11_has_0 (g35 : FM → Option (Int32 × FM)) (g36 : Int32 → FM → Option (Int32 × FM)) (a0 : Nat) (a1 : Int64) (a3 : Int64) (M : FM) : Option (Int32 × FM) :=
  let x1 : Int64 := (a1 - (Int64.ofInt 2147483648))
  fi ((lg_cmp x1 (Int64.ofInt 0)) < 0) (
    g35 M) (
    fi (fm_is M 73 73 a0 = true) (
    fi (0 < (lg_cmp x1 (((M.1 202 a0 0).toInt64 * (Int64.ofInt 4096)) - a3))) (
      g35 M) (
      g36 (Int32.ofInt 1) M)) none)
noncomputable def FX11_has_0 (a0 : Nat) (a1 : Int64) (a3 : Int64) (M : FM) : Option (Int32 × FM) := BX11_has_0 FX11_has_35 FX11_has_36 a0 a1 a3 M
noncomputable def FX11_has (a0 : Nat) (a1 : Int64) (a3 : Int64) (M : FM) : Option (Int32 × FM) := FX11_has_0 a0 a1 a3 M
/-! BoardMachine$TableWords.has(J)Z -/
noncomputable def BX85_has_29 (s0 : Int32) (M : FM) : Option (Int32 × FM) :=
  fi (s0 = 0 ∨ s0 = 1) (some (s0, M)) none
noncomputable def FX85_has_29 (s0 : Int32) (M : FM) : Option (Int32 × FM) := BX85_has_29 s0 M
noncomputable def BX85_has_28 (g29 : Int32 → FM → Option (Int32 × FM)) (M : FM) : Option (Int32 × FM) :=
  g29 (Int32.ofInt 0) M
noncomputable def FX85_has_28 (M : FM) : Option (Int32 × FM) := BX85_has_28 FX85_has_29 M
noncomputable def BX85_has_0 (f0 : Nat → Int64 → Int64 → FM → Option (Int32 × FM)) (g28 : FM → Option (Int32 × FM)) (g29 : Int32 → FM → Option (Int32 × FM)) (a0 : Nat) (a1 : Int64) (M : FM) : Option (Int32 × FM) :=
  fi ((lg_cmp (a1 &&& (Int64.ofInt 7)) (Int64.ofInt 0)) = 0) (
    fi (fm_is M 81 81 a0 = true) (
    let x1 : Nat := (M.2.2 247 a0 0)
    fi (fm_is M 73 73 x1 = true) (
    (f0 x1 a1 (Int64.ofInt 8) M).bind fun r2 =>
    fi (r2.1 = 0) (
      g28 r2.2) (
      g29 (Int32.ofInt 1) r2.2)) none) none) (
    g28 M)
noncomputable def FX85_has_0 (a0 : Nat) (a1 : Int64) (M : FM) : Option (Int32 × FM) := BX85_has_0 FX11_has FX85_has_28 FX85_has_29 a0 a1 M
noncomputable def FX85_has (a0 : Nat) (a1 : Int64) (M : FM) : Option (Int32 × FM) := FX85_has_0 a0 a1 M
/-! BoardMachine$Walks$Region.touches(JI)Z -/
noncomputable def BX87_touches_38 (s0 : Int32) (M : FM) : Option (Int32 × FM) :=
  fi (s0 = 0 ∨ s0 = 1) (some (s0, M)) none
noncomputable def FX87_touches_38 (s0 : Int32) (M : FM) : Option (Int32 × FM) := BX87_touches_38 s0 M
noncomputable def BX87_touches_37 (g38 : Int32 → FM → Option (Int32 × FM)) (M : FM) : Option (Int32 × FM) :=
  g38 (Int32.ofInt 0) M
noncomputable def FX87_touches_37 (M : FM) : Option (Int32 × FM) := BX87_touches_37 FX87_touches_38 M
noncomputable def BX87_touches_0 (g37 : FM → Option (Int32 × FM)) (g38 : Int32 → FM → Option (Int32 × FM)) (a0 : Nat) (a1 : Int64) (a3 : Int32) (M : FM) : Option (Int32 × FM) :=
  fi (fm_is M 89 89 a0 = true) (
  fi (fm_is M 89 89 a0 = true) (
  fi (0 ≤ (lg_cmp (M.2.1 282 a0 0) (M.2.1 283 a0 0))) (
    g37 M) (
    fi (fm_is M 89 89 a0 = true) (
    fi (0 ≤ (lg_cmp a1 (M.2.1 283 a0 0))) (
      g37 M) (
      fi (fm_is M 89 89 a0 = true) (
      fi ((lg_cmp (a1 + a3.toInt64) (M.2.1 282 a0 0)) ≤ 0) (
        g37 M) (
        g38 (Int32.ofInt 1) M)) none)) none)) none) none
noncomputable def FX87_touches_0 (a0 : Nat) (a1 : Int64) (a3 : Int32) (M : FM) : Option (Int32 × FM) := BX87_touches_0 FX87_touches_37 FX87_touches_38 a0 a1 a3 M
noncomputable def FX87_touches (a0 : Nat) (a1 : Int64) (a3 : Int32) (M : FM) : Option (Int32 × FM) := FX87_touches_0 a0 a1 a3 M
/-! BoardMachine$Walks$Region.isLocked()Z -/
noncomputable def BX87_isLocked_16 (s0 : Int32) (M : FM) : Option (Int32 × FM) :=
  fi (s0 = 0 ∨ s0 = 1) (some (s0, M)) none
noncomputable def FX87_isLocked_16 (s0 : Int32) (M : FM) : Option (Int32 × FM) := BX87_isLocked_16 s0 M
noncomputable def BX87_isLocked_0 (g16 : Int32 → FM → Option (Int32 × FM)) (a0 : Nat) (M : FM) : Option (Int32 × FM) :=
  fi (fm_is M 89 89 a0 = true) (
  fi (((M.1 280 a0 0) &&& (Int32.ofInt 128)) = 0) (
    g16 (Int32.ofInt 0) M) (
    g16 (Int32.ofInt 1) M)) none
noncomputable def FX87_isLocked_0 (a0 : Nat) (M : FM) : Option (Int32 × FM) := BX87_isLocked_0 FX87_isLocked_16 a0 M
noncomputable def FX87_isLocked (a0 : Nat) (M : FM) : Option (Int32 × FM) := FX87_isLocked_0 a0 M
/-! BoardMachine$Walks$Region.lets(JIII)Z -/
noncomputable def BX87_lets_83 (s0 : Int32) (M : FM) : Option (Int32 × FM) :=
  fi (s0 = 0 ∨ s0 = 1) (some (s0, M)) none
noncomputable def FX87_lets_83 (s0 : Int32) (M : FM) : Option (Int32 × FM) := BX87_lets_83 s0 M
noncomputable def BX87_lets_82 (g83 : Int32 → FM → Option (Int32 × FM)) (M : FM) : Option (Int32 × FM) :=
  g83 (Int32.ofInt 0) M
noncomputable def FX87_lets_82 (M : FM) : Option (Int32 × FM) := BX87_lets_82 FX87_lets_83 M
noncomputable def BX87_lets_78 (g83 : Int32 → FM → Option (Int32 × FM)) (M : FM) : Option (Int32 × FM) :=
  g83 (Int32.ofInt 1) M
noncomputable def FX87_lets_78 (M : FM) : Option (Int32 × FM) := BX87_lets_78 FX87_lets_83 M
noncomputable def BX87_lets_68 (g78 : FM → Option (Int32 × FM)) (g82 : FM → Option (Int32 × FM)) (a0 : Nat) (a7 : Int32) (M : FM) : Option (Int32 × FM) :=
  fi (fm_is M 89 89 a0 = true) (
  fi (((M.1 280 a0 0) &&& a7) = 0) (
    g82 M) (
    g78 M)) none
noncomputable def FX87_lets_68 (a0 : Nat) (a7 : Int32) (M : FM) : Option (Int32 × FM) := BX87_lets_68 FX87_lets_78 FX87_lets_82 a0 a7 M
noncomputable def BX87_lets_48 (f0 : Nat → FM → Option (Int32 × FM)) (g68 : Nat → Int32 → FM → Option (Int32 × FM)) (g78 : FM → Option (Int32 × FM)) (g82 : FM → Option (Int32 × FM)) (a0 : Nat) (a5 : Int32) (a6 : Int32) (s0 : Int32) (M : FM) : Option (Int32 × FM) :=
  fi (a6 = 0) (
    g82 M) (
    fi (a5 = (Int32.ofInt 3)) (
      fi (fm_is M 89 89 a0 = true) (
      (f0 a0 M).bind fun r1 =>
      fi (r1.1 = 0) (
        g78 r1.2) (
        g68 a0 s0 r1.2)) none) (
      g68 a0 s0 M))
noncomputable def FX87_lets_48 (a0 : Nat) (a5 : Int32) (a6 : Int32) (s0 : Int32) (M : FM) : Option (Int32 × FM) := BX87_lets_48 FX87_isLocked FX87_lets_68 FX87_lets_78 FX87_lets_82 a0 a5 a6 s0 M
noncomputable def BX87_lets_26 (g48 : Nat → Int32 → Int32 → Int32 → FM → Option (Int32 × FM)) (a0 : Nat) (a4 : Int32) (a5 : Int32) (s0 : Int32) (M : FM) : Option (Int32 × FM) :=
  fi (a4 = 0) (
    g48 a0 a5 s0 (Int32.ofInt 4) M) (
    fi (a4 = (Int32.ofInt 1)) (
      g48 a0 a5 s0 (Int32.ofInt 1) M) (
      g48 a0 a5 s0 (Int32.ofInt 2) M))
noncomputable def FX87_lets_26 (a0 : Nat) (a4 : Int32) (a5 : Int32) (s0 : Int32) (M : FM) : Option (Int32 × FM) := BX87_lets_26 FX87_lets_48 a0 a4 a5 s0 M
noncomputable def BX87_lets_25 (g26 : Nat → Int32 → Int32 → Int32 → FM → Option (Int32 × FM)) (a0 : Nat) (a4 : Int32) (a5 : Int32) (M : FM) : Option (Int32 × FM) :=
  g26 a0 a4 a5 (Int32.ofInt 0) M
noncomputable def FX87_lets_25 (a0 : Nat) (a4 : Int32) (a5 : Int32) (M : FM) : Option (Int32 × FM) := BX87_lets_25 FX87_lets_26 a0 a4 a5 M
noncomputable def BX87_lets_0 (g25 : Nat → Int32 → Int32 → FM → Option (Int32 × FM)) (g26 : Nat → Int32 → Int32 → Int32 → FM → Option (Int32 × FM)) (a0 : Nat) (a1 : Int64) (a3 : Int32) (a4 : Int32) (a5 : Int32) (M : FM) : Option (Int32 × FM) :=
  fi (fm_is M 89 89 a0 = true) (
  fi ((lg_cmp a1 (M.2.1 282 a0 0)) < 0) (
    g25 a0 a4 a5 M) (
    fi (fm_is M 89 89 a0 = true) (
    fi (0 < (lg_cmp (a1 + a3.toInt64) (M.2.1 283 a0 0))) (
      g25 a0 a4 a5 M) (
      g26 a0 a4 a5 (Int32.ofInt 1) M)) none)) none
noncomputable def FX87_lets_0 (a0 : Nat) (a1 : Int64) (a3 : Int32) (a4 : Int32) (a5 : Int32) (M : FM) : Option (Int32 × FM) := BX87_lets_0 FX87_lets_25 FX87_lets_26 a0 a1 a3 a4 a5 M
noncomputable def FX87_lets (a0 : Nat) (a1 : Int64) (a3 : Int32) (a4 : Int32) (a5 : Int32) (M : FM) : Option (Int32 × FM) := FX87_lets_0 a0 a1 a3 a4 a5 M
/-! BoardMachine$Walks$Regions.let(JIII)Z -/
noncomputable def BX86_let_67 (s0 : Int32) (M : FM) : Option (Int32 × FM) :=
  fi (s0 = 0 ∨ s0 = 1) (some (s0, M)) none
noncomputable def FX86_let_67 (n : Nat) (k14 : Int64 → Int32 → Int32 → Int32 → Nat → Int32 → Int32 → FM → Option (Int32 × FM)) (s0 : Int32) (M : FM) : Option (Int32 × FM) := BX86_let_67 s0 M
noncomputable def BX86_let_14 (f0 : Nat → Int64 → Int32 → FM → Option (Int32 × FM)) (f1 : Nat → Int64 → Int32 → Int32 → Int32 → FM → Option (Int32 × FM)) (g67 : Int32 → FM → Option (Int32 × FM)) (k14 : Int64 → Int32 → Int32 → Int32 → Nat → Int32 → Int32 → FM → Option (Int32 × FM)) (a1 : Int64) (a3 : Int32) (a4 : Int32) (a5 : Int32) (a6 : Nat) (a7 : Int32) (a8 : Int32) (M : FM) : Option (Int32 × FM) :=
  fi (a7 ≤ a8) (
    fi (a5 = (Int32.ofInt 3)) (
      g67 (Int32.ofInt 1) M) (
      g67 (Int32.ofInt 0) M)) (
    fi (fm_is M 910 990 a6 = true ∧ fm_in M a6 a8 = true) (
    let x1 : Nat := (M.2.2 3 a6 a8.toNatClampNeg)
    fi (fm_is M 89 89 x1 = true) (
    (f0 x1 a1 a3 M).bind fun r2 =>
    fi (r2.1 = 0) (
      let x3 : Int32 := a8 + (Int32.ofInt 1)
      k14 a1 a3 a4 a5 a6 a7 x3 r2.2) (
      fi (fm_is r2.2 89 89 x1 = true) (
      (f1 x1 a1 a3 a4 a5 r2.2).bind fun r4 =>
      fi (r4.1 = 0 ∨ r4.1 = 1) (some (r4.1, r4.2)) none) none)) none) none)
noncomputable def FX86_let_14 (n : Nat) (k14 : Int64 → Int32 → Int32 → Int32 → Nat → Int32 → Int32 → FM → Option (Int32 × FM)) (a1 : Int64) (a3 : Int32) (a4 : Int32) (a5 : Int32) (a6 : Nat) (a7 : Int32) (a8 : Int32) (M : FM) : Option (Int32 × FM) := BX86_let_14 FX87_touches FX87_lets (FX86_let_67 n k14) k14 a1 a3 a4 a5 a6 a7 a8 M
noncomputable def BX86_let_0 (k14 : Int64 → Int32 → Int32 → Int32 → Nat → Int32 → Int32 → FM → Option (Int32 × FM)) (a0 : Nat) (a1 : Int64) (a3 : Int32) (a4 : Int32) (a5 : Int32) (M : FM) : Option (Int32 × FM) :=
  fi (fm_is M 90 90 a0 = true) (
  let x1 : Nat := (M.2.2 284 a0 0)
  fi (fm_is M 901 990 x1 = true) (
  let x2 : Int32 := (Int32.ofNat (M.2.2 1 x1 0))
  k14 a1 a3 a4 a5 x1 x2 (Int32.ofInt 0) M) none) none
noncomputable def FX86_let_0 (n : Nat) (k14 : Int64 → Int32 → Int32 → Int32 → Nat → Int32 → Int32 → FM → Option (Int32 × FM)) (a0 : Nat) (a1 : Int64) (a3 : Int32) (a4 : Int32) (a5 : Int32) (M : FM) : Option (Int32 × FM) := BX86_let_0 k14 a0 a1 a3 a4 a5 M
noncomputable def FX86_let_L14 (n : Nat) : Nat → Int64 → Int32 → Int32 → Int32 → Nat → Int32 → Int32 → FM → Option (Int32 × FM)
  | 0 => fun _ _ _ _ _ _ _ _ => none
  | j + 1 => FX86_let_14 n (FX86_let_L14 n j)
noncomputable def FX86_let (n : Nat) (a0 : Nat) (a1 : Int64) (a3 : Int32) (a4 : Int32) (a5 : Int32) (M : FM) : Option (Int32 × FM) := FX86_let_0 n (FX86_let_L14 n n) a0 a1 a3 a4 a5 M
/-! BoardMachine$Memories$Page.get(II)J -/
noncomputable def BX91_get_55 (f0 : Int32 → FM → Option (Int64 × FM)) (a2 : Int32) (a5 : Int64) (M : FM) : Option (Int64 × FM) :=
  (f0 a2 M).bind fun r1 =>
  some ((a5 &&& r1.1), r1.2)
noncomputable def FX91_get_55 (a2 : Int32) (a5 : Int64) (M : FM) : Option (Int64 × FM) := BX91_get_55 FX91_mask a2 a5 M
noncomputable def BX91_get_0 (g55 : Int32 → Int64 → FM → Option (Int64 × FM)) (a0 : Nat) (a1 : Int32) (a2 : Int32) (M : FM) : Option (Int64 × FM) :=
  let x1 : Int32 := (a1 >>> ((Int32.ofInt 3) &&& 31))
  let x2 : Int32 := ((Int32.ofInt 8) * (a1 &&& (Int32.ofInt 7)))
  fi (fm_is M 72 72 a0 = true) (
  let x3 : Nat := (M.2.2 201 a0 0)
  fi (fm_is M 902 902 x3 = true ∧ fm_in M x3 x1 = true) (
  let x4 : Int64 := ((M.2.1 3 x3 x1.toNatClampNeg).toUInt64 >>> (x2.toInt64.toUInt64 &&& Int64.toUInt64 63)).toInt64
  fi ((x2 + ((Int32.ofInt 8) * a2)) ≤ (Int32.ofInt 64)) (
    g55 a2 x4 M) (
    fi (fm_is M 72 72 a0 = true) (
    let x5 : Int32 := (x1 + (Int32.ofInt 1))
    let x6 : Nat := (M.2.2 201 a0 0)
    fi (fm_is M 902 902 x6 = true ∧ fm_in M x6 x5 = true) (
    let x7 : Int64 := (x4 ||| ((M.2.1 3 x6 x5.toNatClampNeg) <<< (((Int32.ofInt 64) - x2).toInt64 &&& 63)))
    g55 a2 x7 M) none) none)) none) none
noncomputable def FX91_get_0 (a0 : Nat) (a1 : Int32) (a2 : Int32) (M : FM) : Option (Int64 × FM) := BX91_get_0 FX91_get_55 a0 a1 a2 M
noncomputable def FX91_get (a0 : Nat) (a1 : Int32) (a2 : Int32) (M : FM) : Option (Int64 × FM) := FX91_get_0 a0 a1 a2 M
/-! BoardMachine$Memories$Ram.load(JI)J -/
noncomputable def BX11_load_100 (s0 : Int64) (M : FM) : Option (Int64 × FM) :=
  some (s0, M)
noncomputable def FX11_load_100 (s0 : Int64) (M : FM) : Option (Int64 × FM) := BX11_load_100 s0 M
noncomputable def BX11_load_47 (f2 : Int64 → FM → Option (Int32 × FM)) (f3 : Nat → Int32 → Int32 → FM → Option (Int64 × FM)) (g100 : Int64 → FM → Option (Int64 × FM)) (a0 : Nat) (a1 : Int64) (a3 : Int32) (a5 : Int32) (s0 : Int64) (M : FM) : Option (Int64 × FM) :=
  fi (a5 = a3) (
    some (s0, M)) (
    fi (fm_is M 73 73 a0 = true) (
    (f2 a1 M).bind fun r1 =>
    let x2 : Int32 := (r1.1 + (Int32.ofInt 1))
    let x3 : Nat := (M.2.2 203 a0 0)
    fi (fm_is r1.2 910 990 x3 = true ∧ fm_in r1.2 x3 x2 = true) (
    let x4 : Nat := (r1.2.2.2 3 x3 x2.toNatClampNeg)
    fi (x4 = 0) (
      g100 s0 r1.2) (
      fi (fm_is r1.2 72 72 x4 = true) (
      (f3 x4 (Int32.ofInt 0) (a3 - a5) r1.2).bind fun r5 =>
      g100 ((r5.1 <<< (((Int32.ofInt 8) * a5).toInt64 &&& 63)) ||| s0) r5.2) none)) none) none)
noncomputable def FX11_load_47 (a0 : Nat) (a1 : Int64) (a3 : Int32) (a5 : Int32) (s0 : Int64) (M : FM) : Option (Int64 × FM) := BX11_load_47 FX11_pageOf FX91_get FX11_load_100 a0 a1 a3 a5 s0 M
noncomputable def BX11_load_0 (f0 : Int64 → FM → Option (Int32 × FM)) (f1 : Int32 → Int32 → FM → Option (Int32 × FM)) (f2 : Int64 → FM → Option (Int32 × FM)) (f3 : Nat → Int32 → Int32 → FM → Option (Int64 × FM)) (g47 : Nat → Int64 → Int32 → Int32 → Int64 → FM → Option (Int64 × FM)) (a0 : Nat) (a1 : Int64) (a3 : Int32) (M : FM) : Option (Int64 × FM) :=
  (f0 a1 M).bind fun r1 =>
  (f1 a3 ((Int32.ofInt 4096) - r1.1) r1.2).bind fun r2 =>
  fi (fm_is r2.2 73 73 a0 = true) (
  (f2 a1 r2.2).bind fun r3 =>
  let x4 : Nat := (r2.2.2.2 203 a0 0)
  fi (fm_is r3.2 910 990 x4 = true ∧ fm_in r3.2 x4 r3.1 = true) (
  let x5 : Nat := (r3.2.2.2 3 x4 r3.1.toNatClampNeg)
  fi (x5 = 0) (
    g47 a0 a1 a3 r2.1 (Int64.ofInt 0) r3.2) (
    fi (fm_is r3.2 72 72 x5 = true) (
    (f3 x5 r1.1 r2.1 r3.2).bind fun r6 =>
    g47 a0 a1 a3 r2.1 r6.1 r6.2) none)) none) none
noncomputable def FX11_load_0 (a0 : Nat) (a1 : Int64) (a3 : Int32) (M : FM) : Option (Int64 × FM) := BX11_load_0 FX11_placeOf FJ5_min FX11_pageOf FX91_get FX11_load_47 a0 a1 a3 M
noncomputable def FX11_load (a0 : Nat) (a1 : Int64) (a3 : Int32) (M : FM) : Option (Int64 × FM) := FX11_load_0 a0 a1 a3 M
/-! BoardMachine$TableWords.get(J)J -/
noncomputable def BX85_get_0 (f0 : Nat → Int64 → Int32 → FM → Option (Int64 × FM)) (a0 : Nat) (a1 : Int64) (M : FM) : Option (Int64 × FM) :=
  fi (fm_is M 81 81 a0 = true) (
  let x1 : Nat := (M.2.2 247 a0 0)
  fi (fm_is M 73 73 x1 = true) (
  (f0 x1 a1 (Int32.ofInt 8) M).bind fun r2 =>
  some (r2.1, r2.2)) none) none
noncomputable def FX85_get_0 (a0 : Nat) (a1 : Int64) (M : FM) : Option (Int64 × FM) := BX85_get_0 FX11_load a0 a1 M
noncomputable def FX85_get (a0 : Nat) (a1 : Int64) (M : FM) : Option (Int64 × FM) := FX85_get_0 a0 a1 M
/-! BoardMachine$Walks.has(JI)Z -/
noncomputable def BX102_has_15 (s0 : Int32) (M : FM) : Option (Int32 × FM) :=
  fi (s0 = 0 ∨ s0 = 1) (some (s0, M)) none
noncomputable def FX102_has_15 (s0 : Int32) (M : FM) : Option (Int32 × FM) := BX102_has_15 s0 M
noncomputable def BX102_has_0 (g15 : Int32 → FM → Option (Int32 × FM)) (a0 : Int64) (a2 : Int32) (M : FM) : Option (Int32 × FM) :=
  fi ((lg_cmp ((a0.toUInt64 >>> (a2.toInt64.toUInt64 &&& Int64.toUInt64 63)).toInt64 &&& (Int64.ofInt 1)) (Int64.ofInt 1)) = 0) (
    g15 (Int32.ofInt 1) M) (
    g15 (Int32.ofInt 0) M)
noncomputable def FX102_has_0 (a0 : Int64) (a2 : Int32) (M : FM) : Option (Int32 × FM) := BX102_has_0 FX102_has_15 a0 a2 M
noncomputable def FX102_has (a0 : Int64) (a2 : Int32) (M : FM) : Option (Int32 × FM) := FX102_has_0 a0 a2 M
/-! BoardMachine$Walks$Translator.step(JJI)I -/
noncomputable def BX84_step_196 (s0 : Int32) (M : FM) : Option (Int32 × FM) :=
  some (s0, M)
noncomputable def FX84_step_196 (n : Nat) (s0 : Int32) (M : FM) : Option (Int32 × FM) := BX84_step_196 s0 M
noncomputable def BX84_step_191 (g196 : Int32 → FM → Option (Int32 × FM)) (M : FM) : Option (Int32 × FM) :=
  g196 (Int32.ofInt 1) M
noncomputable def FX84_step_191 (n : Nat) (M : FM) : Option (Int32 × FM) := BX84_step_191 (FX84_step_196 n ) M
noncomputable def BX84_step_157 (f4 : Int64 → Int32 → FM → Option (Int32 × FM)) (g191 : FM → Option (Int32 × FM)) (g196 : Int32 → FM → Option (Int32 × FM)) (a0 : Nat) (s0 : Int32) (M : FM) : Option (Int32 × FM) :=
  fi (s0 = 0) (
    fi (fm_is M 91 91 a0 = true) (
    (f4 (M.2.1 293 a0 0) (Int32.ofInt 1) M).bind fun r1 =>
    fi (r1.1 = 0) (
      fi (fm_is r1.2 91 91 a0 = true) (
      (f4 (r1.2.2.1 293 a0 0) (Int32.ofInt 3) r1.2).bind fun r2 =>
      fi (r2.1 = 0) (
        g196 (Int32.ofInt 0) r2.2) (
        g191 r2.2)) none) (
      g191 r1.2)) none) (
    g196 (Int32.ofInt (-2)) M)
noncomputable def FX84_step_157 (n : Nat) (a0 : Nat) (s0 : Int32) (M : FM) : Option (Int32 × FM) := BX84_step_157 FX102_has (FX84_step_191 n ) (FX84_step_196 n ) a0 s0 M
noncomputable def BX84_step_152 (g157 : Nat → Int32 → FM → Option (Int32 × FM)) (a0 : Nat) (M : FM) : Option (Int32 × FM) :=
  g157 a0 (Int32.ofInt 1) M
noncomputable def FX84_step_152 (n : Nat) (a0 : Nat) (M : FM) : Option (Int32 × FM) := BX84_step_152 (FX84_step_157 n ) a0 M
noncomputable def BX84_step_136 (f0 : Int64 → Int32 → Int32 → FM → Option (Int64 × FM)) (g152 : Nat → FM → Option (Int32 × FM)) (g157 : Nat → Int32 → FM → Option (Int32 × FM)) (a0 : Nat) (M : FM) : Option (Int32 × FM) :=
  fi (fm_is M 91 91 a0 = true) (
  (f0 (M.2.1 293 a0 0) (Int32.ofInt 54) (Int32.ofInt 10) M).bind fun r1 =>
  fi ((lg_cmp r1.1 (Int64.ofInt 0)) = 0) (
    g157 a0 (Int32.ofInt 0) r1.2) (
    g152 a0 r1.2)) none
noncomputable def FX84_step_136 (n : Nat) (a0 : Nat) (M : FM) : Option (Int32 × FM) := BX84_step_136 FX102_bits (FX84_step_152 n ) (FX84_step_157 n ) a0 M
noncomputable def BX84_step_61 (M : FM) : Option (Int32 × FM) :=
  some ((Int32.ofInt (-1)), M)
noncomputable def FX84_step_61 (n : Nat) (M : FM) : Option (Int32 × FM) := BX84_step_61 M
noncomputable def BX84_step_0 (f0 : Int64 → Int32 → Int32 → FM → Option (Int64 × FM)) (f1 : Nat → Int64 → FM → Option (Int32 × FM)) (f2 : Nat → Int64 → Int32 → Int32 → Int32 → FM → Option (Int32 × FM)) (f3 : Nat → Int64 → FM → Option (Int64 × FM)) (f4 : Int64 → Int32 → FM → Option (Int32 × FM)) (g61 : FM → Option (Int32 × FM)) (g136 : Nat → FM → Option (Int32 × FM)) (g152 : Nat → FM → Option (Int32 × FM)) (a0 : Nat) (a1 : Int64) (a3 : Int64) (a5 : Int32) (M : FM) : Option (Int32 × FM) :=
  (f0 a3 ((Int32.ofInt 12) + ((Int32.ofInt 9) * a5)) (Int32.ofInt 9) M).bind fun r1 =>
  fi (fm_is r1.2 91 91 a0 = true) (
  let M2 : FM := fm_sL r1.2 292 a0 0 ((a1 <<< ((Int32.ofInt 12).toInt64 &&& 63)) + ((Int64.ofInt 8) * r1.1))
  fi (fm_is M2 91 91 a0 = true) (
  fi (fm_is M2 91 91 a0 = true) (
  let x3 : Nat := (M2.2.2 287 a0 0)
  fi (fm_is M2 81 81 x3 = true) (
  (f1 x3 (M2.2.1 292 a0 0) M2).bind fun r4 =>
  fi (r4.1 = 0) (
    g61 r4.2) (
    fi (fm_is r4.2 91 91 a0 = true) (
    fi (fm_is r4.2 91 91 a0 = true) (
    let x5 : Nat := (r4.2.2.2 288 a0 0)
    fi (fm_is r4.2 90 90 x5 = true) (
    (f2 x5 (r4.2.2.1 292 a0 0) (Int32.ofInt 8) (Int32.ofInt 1) (Int32.ofInt 1) r4.2).bind fun r6 =>
    fi (r6.1 = 0) (
      g61 r6.2) (
      fi (fm_is r6.2 91 91 a0 = true) (
      fi (fm_is r6.2 91 91 a0 = true) (
      let x7 : Nat := (r6.2.2.2 287 a0 0)
      fi (fm_is r6.2 81 81 x7 = true) (
      (f3 x7 (r6.2.2.1 292 a0 0) r6.2).bind fun r8 =>
      fi (fm_is r8.2 91 91 a0 = true) (
      let M9 : FM := fm_sL r8.2 293 a0 0 r8.1
      fi (fm_is M9 91 91 a0 = true) (
      fi (fm_is M9 91 91 a0 = true) (
      fi (fm_is M9 91 91 a0 = true) (
      let x10 : Int32 := (M9.1 294 a0 0)
      let x11 : Nat := (M9.2.2 295 a0 0)
      fi (fm_is M9 902 902 x11 = true ∧ fm_in M9 x11 x10 = true) (
      let M12 : FM := fm_sL M9 3 x11 x10.toNatClampNeg (M9.2.1 292 a0 0)
      fi (fm_is M12 91 91 a0 = true) (
      fi (fm_is M12 91 91 a0 = true) (
      let M13 : FM := fm_sI M12 294 a0 0 ((M12.1 294 a0 0) + (Int32.ofInt 1))
      fi (fm_is M13 91 91 a0 = true) (
      (f4 (M13.2.1 293 a0 0) (Int32.ofInt 0) M13).bind fun r14 =>
      fi (r14.1 = 0) (
        g152 a0 r14.2) (
        fi (fm_is r14.2 91 91 a0 = true) (
        (f4 (r14.2.2.1 293 a0 0) (Int32.ofInt 2) r14.2).bind fun r15 =>
        fi (r15.1 = 0) (
          g136 a0 r15.2) (
          fi (fm_is r15.2 91 91 a0 = true) (
          (f4 (r15.2.2.1 293 a0 0) (Int32.ofInt 1) r15.2).bind fun r16 =>
          fi (r16.1 = 0) (
            g152 a0 r16.2) (
            g136 a0 r16.2)) none)) none)) none) none) none) none) none) none) none) none) (none)) none) none)) none) none) none)) (none)) none) none) none
noncomputable def FX84_step_0 (n : Nat) (a0 : Nat) (a1 : Int64) (a3 : Int64) (a5 : Int32) (M : FM) : Option (Int32 × FM) := BX84_step_0 FX102_bits FX85_has (FX86_let n) FX85_get FX102_has (FX84_step_61 n ) (FX84_step_136 n ) (FX84_step_152 n ) a0 a1 a3 a5 M
noncomputable def FX84_step (n : Nat) (a0 : Nat) (a1 : Int64) (a3 : Int64) (a5 : Int32) (M : FM) : Option (Int32 × FM) := FX84_step_0 n a0 a1 a3 a5 M
/-! BoardMachine$Walks$Translator.may(II)Z -/
noncomputable def BX84_may_107 (s0 : Int32) (M : FM) : Option (Int32 × FM) :=
  fi (s0 = 0 ∨ s0 = 1) (some (s0, M)) none
noncomputable def FX84_may_107 (s0 : Int32) (M : FM) : Option (Int32 × FM) := BX84_may_107 s0 M
noncomputable def BX84_may_95 (g107 : Int32 → FM → Option (Int32 × FM)) (M : FM) : Option (Int32 × FM) :=
  g107 (Int32.ofInt 0) M
noncomputable def FX84_may_95 (M : FM) : Option (Int32 × FM) := BX84_may_95 FX84_may_107 M
noncomputable def BX84_may_91 (g107 : Int32 → FM → Option (Int32 × FM)) (M : FM) : Option (Int32 × FM) :=
  g107 (Int32.ofInt 1) M
noncomputable def FX84_may_91 (M : FM) : Option (Int32 × FM) := BX84_may_91 FX84_may_107 M
noncomputable def BX84_may_40 (f0 : Int64 → Int32 → FM → Option (Int32 × FM)) (g91 : FM → Option (Int32 × FM)) (g95 : FM → Option (Int32 × FM)) (g107 : Int32 → FM → Option (Int32 × FM)) (a0 : Nat) (a1 : Int32) (M : FM) : Option (Int32 × FM) :=
  fi (a1 = 0) (
    fi (fm_is M 91 91 a0 = true) (
    (f0 (M.2.1 293 a0 0) (Int32.ofInt 3) M).bind fun r1 =>
    g107 r1.1 r1.2) none) (
    fi (a1 = (Int32.ofInt 1)) (
      fi (fm_is M 91 91 a0 = true) (
      (f0 (M.2.1 293 a0 0) (Int32.ofInt 1) M).bind fun r2 =>
      fi (r2.1 = 0) (
        fi (fm_is r2.2 91 91 a0 = true) (
        fi (((r2.2.1 290 a0 0) &&& (Int32.ofInt 2)) = 0) (
          g95 r2.2) (
          fi (fm_is r2.2 91 91 a0 = true) (
          (f0 (r2.2.2.1 293 a0 0) (Int32.ofInt 3) r2.2).bind fun r3 =>
          fi (r3.1 = 0) (
            g95 r3.2) (
            g91 r3.2)) none)) none) (
        g91 r2.2)) none) (
      fi (fm_is M 91 91 a0 = true) (
      (f0 (M.2.1 293 a0 0) (Int32.ofInt 2) M).bind fun r4 =>
      g107 r4.1 r4.2) none))
noncomputable def FX84_may_40 (a0 : Nat) (a1 : Int32) (M : FM) : Option (Int32 × FM) := BX84_may_40 FX102_has FX84_may_91 FX84_may_95 FX84_may_107 a0 a1 M
noncomputable def BX84_may_38 (M : FM) : Option (Int32 × FM) :=
  fi ((Int32.ofInt 0) = 0 ∨ (Int32.ofInt 0) = 1) (some ((Int32.ofInt 0), M)) none
noncomputable def FX84_may_38 (M : FM) : Option (Int32 × FM) := BX84_may_38 M
noncomputable def BX84_may_0 (f0 : Int64 → Int32 → FM → Option (Int32 × FM)) (g38 : FM → Option (Int32 × FM)) (g40 : Nat → Int32 → FM → Option (Int32 × FM)) (a0 : Nat) (a1 : Int32) (a2 : Int32) (M : FM) : Option (Int32 × FM) :=
  fi (fm_is M 91 91 a0 = true) (
  (f0 (M.2.1 293 a0 0) (Int32.ofInt 4) M).bind fun r1 =>
  fi (a2 = (Int32.ofInt 1)) (
    fi (r1.1 = 0) (
      g40 a0 a1 r1.2) (
      fi (a1 = 0) (
        g38 r1.2) (
        fi (fm_is r1.2 91 91 a0 = true) (
        fi (((r1.2.1 290 a0 0) &&& (Int32.ofInt 1)) = 0) (
          g38 r1.2) (
          g40 a0 a1 r1.2)) none))) (
    fi (r1.1 = 0) (
      g38 r1.2) (
      g40 a0 a1 r1.2))) none
noncomputable def FX84_may_0 (a0 : Nat) (a1 : Int32) (a2 : Int32) (M : FM) : Option (Int32 × FM) := BX84_may_0 FX102_has FX84_may_38 FX84_may_40 a0 a1 a2 M
noncomputable def FX84_may (a0 : Nat) (a1 : Int32) (a2 : Int32) (M : FM) : Option (Int32 × FM) := FX84_may_0 a0 a1 a2 M
/-! BoardMachine$TableWords.put(JJ)V -/
noncomputable def BX85_put_0 (f0 : Nat → Int64 → Int32 → Int64 → FM → Option (FM)) (a0 : Nat) (a1 : Int64) (a3 : Int64) (M : FM) : Option (FM) :=
  fi (fm_is M 81 81 a0 = true) (
  let x1 : Nat := (M.2.2 247 a0 0)
  fi (fm_is M 73 73 x1 = true) (
  (f0 x1 a1 (Int32.ofInt 8) a3 M).bind fun M2 =>
  some M2) none) none
noncomputable def FX85_put_0 (n : Nat) (a0 : Nat) (a1 : Int64) (a3 : Int64) (M : FM) : Option (FM) := BX85_put_0 (FX11_store n) a0 a1 a3 M
noncomputable def FX85_put (n : Nat) (a0 : Nat) (a1 : Int64) (a3 : Int64) (M : FM) : Option (FM) := FX85_put_0 n a0 a1 a3 M
/-! BoardMachine$Walks$Translator.last(JIII)J -/
noncomputable def BX84_last_120 (f0 : Int64 → Int32 → Int32 → FM → Option (Int64 × FM)) (a1 : Int64) (a5 : Int32) (a6 : Int64) (M : FM) : Option (Int64 × FM) :=
  (f0 a1 (Int32.ofInt 0) ((Int32.ofInt 12) + ((Int32.ofInt 9) * a5)) M).bind fun r1 =>
  some (((a6 <<< ((Int32.ofInt 12).toInt64 &&& 63)) ||| r1.1), r1.2)
noncomputable def FX84_last_120 (n : Nat) (a1 : Int64) (a5 : Int32) (a6 : Int64) (M : FM) : Option (Int64 × FM) := BX84_last_120 FX102_bits a1 a5 a6 M
noncomputable def BX84_last_60 (f2 : Nat → Int32 → Int32 → FM → Option (Int64 × FM)) (f3 : Nat → Int64 → Int32 → Int32 → Int32 → FM → Option (Int32 × FM)) (f4 : Nat → Int64 → Int64 → FM → Option (FM)) (g120 : Int64 → Int32 → Int64 → FM → Option (Int64 × FM)) (a0 : Nat) (a1 : Int64) (a3 : Int32) (a5 : Int32) (a6 : Int64) (s0 : Int64) (M : FM) : Option (Int64 × FM) :=
  fi (fm_is M 91 91 a0 = true) (
  fi ((lg_cmp ((M.2.1 293 a0 0) &&& s0) s0) = 0) (
    g120 a1 a5 a6 M) (
    fi (fm_is M 91 91 a0 = true) (
    fi (fm_is M 91 91 a0 = true) (
    let x1 : Nat := (M.2.2 288 a0 0)
    fi (fm_is M 90 90 x1 = true) (
    (f3 x1 (M.2.1 292 a0 0) (Int32.ofInt 8) (Int32.ofInt 2) (Int32.ofInt 1) M).bind fun r2 =>
    fi (r2.1 = 0) (
      fi (fm_is r2.2 91 91 a0 = true) (
      (f2 a0 a3 (Int32.ofInt 0) r2.2).bind fun r3 =>
      some (r3.1, r3.2)) none) (
      fi (fm_is r2.2 91 91 a0 = true) (
      fi (fm_is r2.2 91 91 a0 = true) (
      fi (fm_is r2.2 91 91 a0 = true) (
      let x4 : Nat := (r2.2.2.2 287 a0 0)
      fi (fm_is r2.2 81 81 x4 = true) (
      (f4 x4 (r2.2.2.1 292 a0 0) ((r2.2.2.1 293 a0 0) ||| s0) r2.2).bind fun M5 =>
      g120 a1 a5 a6 M5) (none)) none) none) none)) none) none) none)) none
noncomputable def FX84_last_60 (n : Nat) (a0 : Nat) (a1 : Int64) (a3 : Int32) (a5 : Int32) (a6 : Int64) (s0 : Int64) (M : FM) : Option (Int64 × FM) := BX84_last_60 FX84_fault (FX86_let n) (FX85_put n) (FX84_last_120 n ) a0 a1 a3 a5 a6 s0 M
noncomputable def BX84_last_39 (f2 : Nat → Int32 → Int32 → FM → Option (Int64 × FM)) (a0 : Nat) (a3 : Int32) (M : FM) : Option (Int64 × FM) :=
  fi (fm_is M 91 91 a0 = true) (
  (f2 a0 a3 (Int32.ofInt 1) M).bind fun r1 =>
  some (r1.1, r1.2)) none
noncomputable def FX84_last_39 (n : Nat) (a0 : Nat) (a3 : Int32) (M : FM) : Option (Int64 × FM) := BX84_last_39 FX84_fault a0 a3 M
noncomputable def BX84_last_0 (f0 : Int64 → Int32 → Int32 → FM → Option (Int64 × FM)) (f1 : Nat → Int32 → Int32 → FM → Option (Int32 × FM)) (g39 : Nat → Int32 → FM → Option (Int64 × FM)) (g60 : Nat → Int64 → Int32 → Int32 → Int64 → Int64 → FM → Option (Int64 × FM)) (a0 : Nat) (a1 : Int64) (a3 : Int32) (a4 : Int32) (a5 : Int32) (M : FM) : Option (Int64 × FM) :=
  fi (fm_is M 91 91 a0 = true) (
  (f0 (M.2.1 293 a0 0) (Int32.ofInt 10) (Int32.ofInt 44) M).bind fun r1 =>
  (f0 r1.1 (Int32.ofInt 0) ((Int32.ofInt 9) * a5) r1.2).bind fun r2 =>
  fi ((lg_cmp r2.1 (Int64.ofInt 0)) = 0) (
    fi (fm_is r2.2 91 91 a0 = true) (
    (f1 a0 a3 a4 r2.2).bind fun r3 =>
    fi (r3.1 = 0) (
      g39 a0 a3 r3.2) (
      fi (a3 = (Int32.ofInt 2)) (
        g60 a0 a1 a3 a5 r1.1 (Int64.ofInt 192) r3.2) (
        g60 a0 a1 a3 a5 r1.1 (Int64.ofInt 64) r3.2))) none) (
    g39 a0 a3 r2.2)) none
noncomputable def FX84_last_0 (n : Nat) (a0 : Nat) (a1 : Int64) (a3 : Int32) (a4 : Int32) (a5 : Int32) (M : FM) : Option (Int64 × FM) := BX84_last_0 FX102_bits FX84_may (FX84_last_39 n ) (FX84_last_60 n ) a0 a1 a3 a4 a5 M
noncomputable def FX84_last (n : Nat) (a0 : Nat) (a1 : Int64) (a3 : Int32) (a4 : Int32) (a5 : Int32) (M : FM) : Option (Int64 × FM) := FX84_last_0 n a0 a1 a3 a4 a5 M
/-! BoardMachine$Walks$Translator.walk(JII)J -/
noncomputable def BX84_walk_203 (s0 : Int64) (M : FM) : Option (Int64 × FM) :=
  some (s0, M)
noncomputable def FX84_walk_203 (n : Nat) (k87 : Nat → Int64 → Int32 → Int32 → Int32 → Int32 → FM → Option (Int64 × FM)) (s0 : Int64) (M : FM) : Option (Int64 × FM) := BX84_walk_203 s0 M
noncomputable def BX84_walk_187 (f1 : Nat → Int32 → Int32 → FM → Option (Int64 × FM)) (g203 : Int64 → FM → Option (Int64 × FM)) (s0 : Nat) (s1 : Int32) (s2 : Int32) (M : FM) : Option (Int64 × FM) :=
  fi (fm_is M 91 91 s0 = true) (
  (f1 s0 s1 s2 M).bind fun r1 =>
  g203 r1.1 r1.2) none
noncomputable def FX84_walk_187 (n : Nat) (k87 : Nat → Int64 → Int32 → Int32 → Int32 → Int32 → FM → Option (Int64 × FM)) (s0 : Nat) (s1 : Int32) (s2 : Int32) (M : FM) : Option (Int64 × FM) := BX84_walk_187 FX84_fault (FX84_walk_203 n k87) s0 s1 s2 M
noncomputable def BX84_walk_132 (f1 : Nat → Int32 → Int32 → FM → Option (Int64 × FM)) (a0 : Nat) (a3 : Int32) (M : FM) : Option (Int64 × FM) :=
  fi (fm_is M 91 91 a0 = true) (
  (f1 a0 a3 (Int32.ofInt 1) M).bind fun r1 =>
  some (r1.1, r1.2)) none
noncomputable def FX84_walk_132 (n : Nat) (k87 : Nat → Int64 → Int32 → Int32 → Int32 → Int32 → FM → Option (Int64 × FM)) (a0 : Nat) (a3 : Int32) (M : FM) : Option (Int64 × FM) := BX84_walk_132 FX84_fault a0 a3 M
noncomputable def BX84_walk_87 (f0 : Int64 → Int32 → Int32 → FM → Option (Int64 × FM)) (f2 : Nat → Int64 → Int64 → Int32 → FM → Option (Int32 × FM)) (f3 : Int64 → Int32 → FM → Option (Int32 × FM)) (f4 : Nat → Int64 → Int32 → Int32 → Int32 → FM → Option (Int64 × FM)) (g132 : Nat → Int32 → FM → Option (Int64 × FM)) (g187 : Nat → Int32 → Int32 → FM → Option (Int64 × FM)) (g203 : Int64 → FM → Option (Int64 × FM)) (k87 : Nat → Int64 → Int32 → Int32 → Int32 → Int32 → FM → Option (Int64 × FM)) (a0 : Nat) (a1 : Int64) (a3 : Int32) (a4 : Int32) (a9 : Int32) (a10 : Int32) (M : FM) : Option (Int64 × FM) :=
  fi (a10 = 0) (
    fi (a9 = 0) (
      g132 a0 a3 M) (
      fi (fm_is M 91 91 a0 = true) (
      (f3 (M.2.1 293 a0 0) (Int32.ofInt 4) M).bind fun r1 =>
      fi (r1.1 = 0) (
        fi (fm_is r1.2 91 91 a0 = true) (
        (f3 (r1.2.2.1 293 a0 0) (Int32.ofInt 6) r1.2).bind fun r2 =>
        fi (r2.1 = 0) (
          fi (fm_is r2.2 91 91 a0 = true) (
          (f3 (r2.2.2.1 293 a0 0) (Int32.ofInt 7) r2.2).bind fun r3 =>
          fi (r3.1 = 0) (
            fi (fm_is r3.2 91 91 a0 = true) (
            (f0 (r3.2.2.1 293 a0 0) (Int32.ofInt 10) (Int32.ofInt 44) r3.2).bind fun r4 =>
            let x5 : Int32 := a9 + (Int32.ofInt (-1))
            fi (fm_is r4.2 91 91 a0 = true) (
            (f2 a0 r4.1 a1 x5 r4.2).bind fun r6 =>
            k87 a0 a1 a3 a4 x5 r6.1 r6.2) none) none) (
            g132 a0 a3 r3.2)) none) (
          g132 a0 a3 r2.2)) none) (
        g132 a0 a3 r1.2)) none)) (
    fi (0 ≤ a10) (
      fi (fm_is M 91 91 a0 = true) (
      (f4 a0 a1 a3 a4 a9 M).bind fun r7 =>
      g203 r7.1 r7.2) none) (
      fi (a10 = (Int32.ofInt (-1))) (
        g187 a0 a3 (Int32.ofInt 0) M) (
        g187 a0 a3 (Int32.ofInt 1) M)))
noncomputable def FX84_walk_87 (n : Nat) (k87 : Nat → Int64 → Int32 → Int32 → Int32 → Int32 → FM → Option (Int64 × FM)) (a0 : Nat) (a1 : Int64) (a3 : Int32) (a4 : Int32) (a9 : Int32) (a10 : Int32) (M : FM) : Option (Int64 × FM) := BX84_walk_87 FX102_bits (FX84_step n) FX102_has (FX84_last n) (FX84_walk_132 n k87) (FX84_walk_187 n k87) (FX84_walk_203 n k87) k87 a0 a1 a3 a4 a9 a10 M
noncomputable def BX84_walk_22 (f0 : Int64 → Int32 → Int32 → FM → Option (Int64 × FM)) (f1 : Nat → Int32 → Int32 → FM → Option (Int64 × FM)) (f2 : Nat → Int64 → Int64 → Int32 → FM → Option (Int32 × FM)) (k87 : Nat → Int64 → Int32 → Int32 → Int32 → Int32 → FM → Option (Int64 × FM)) (a0 : Nat) (a1 : Int64) (a3 : Int32) (a4 : Int32) (s0 : Int32) (M : FM) : Option (Int64 × FM) :=
  let x1 : Int32 := ((Int32.ofInt 52) - ((Int32.ofInt 9) * s0))
  fi ((lg_cmp ((a1 <<< (x1.toInt64 &&& 63)) >>> (x1.toInt64 &&& 63)) a1) = 0) (
    fi (fm_is M 91 91 a0 = true) (
    let M2 : FM := fm_sI M 294 a0 0 (Int32.ofInt 0)
    fi (fm_is M2 91 91 a0 = true) (
    (f0 (M2.2.1 289 a0 0) (Int32.ofInt 0) (Int32.ofInt 44) M2).bind fun r3 =>
    let x4 : Int32 := (s0 - (Int32.ofInt 1))
    fi (fm_is r3.2 91 91 a0 = true) (
    (f2 a0 r3.1 a1 x4 r3.2).bind fun r5 =>
    k87 a0 a1 a3 a4 x4 r5.1 r5.2) none) none) none) (
    fi (fm_is M 91 91 a0 = true) (
    (f1 a0 a3 (Int32.ofInt 1) M).bind fun r6 =>
    some (r6.1, r6.2)) none)
noncomputable def FX84_walk_22 (n : Nat) (k87 : Nat → Int64 → Int32 → Int32 → Int32 → Int32 → FM → Option (Int64 × FM)) (a0 : Nat) (a1 : Int64) (a3 : Int32) (a4 : Int32) (s0 : Int32) (M : FM) : Option (Int64 × FM) := BX84_walk_22 FX102_bits FX84_fault (FX84_step n) k87 a0 a1 a3 a4 s0 M
noncomputable def BX84_walk_0 (f0 : Int64 → Int32 → Int32 → FM → Option (Int64 × FM)) (g22 : Nat → Int64 → Int32 → Int32 → Int32 → FM → Option (Int64 × FM)) (a0 : Nat) (a1 : Int64) (a3 : Int32) (a4 : Int32) (M : FM) : Option (Int64 × FM) :=
  fi (fm_is M 91 91 a0 = true) (
  (f0 (M.2.1 289 a0 0) (Int32.ofInt 60) (Int32.ofInt 4) M).bind fun r1 =>
  fi ((lg_cmp r1.1 (Int64.ofInt 8)) = 0) (
    g22 a0 a1 a3 a4 (Int32.ofInt 3) r1.2) (
    g22 a0 a1 a3 a4 (Int32.ofInt 4) r1.2)) none
noncomputable def FX84_walk_0 (n : Nat) (k87 : Nat → Int64 → Int32 → Int32 → Int32 → Int32 → FM → Option (Int64 × FM)) (a0 : Nat) (a1 : Int64) (a3 : Int32) (a4 : Int32) (M : FM) : Option (Int64 × FM) := BX84_walk_0 FX102_bits (FX84_walk_22 n k87) a0 a1 a3 a4 M
noncomputable def FX84_walk_L87 (n : Nat) : Nat → Nat → Int64 → Int32 → Int32 → Int32 → Int32 → FM → Option (Int64 × FM)
  | 0 => fun _ _ _ _ _ _ _ => none
  | j + 1 => FX84_walk_87 n (FX84_walk_L87 n j)
noncomputable def FX84_walk (n : Nat) (a0 : Nat) (a1 : Int64) (a3 : Int32) (a4 : Int32) (M : FM) : Option (Int64 × FM) := FX84_walk_0 n (FX84_walk_L87 n n) a0 a1 a3 a4 M
/-! BoardMachine$Walks$Translator.translate(JII)J -/
noncomputable def BX84_translate_321 (a9 : Int64) (M : FM) : Option (Int64 × FM) :=
  some (a9, M)
noncomputable def FX84_translate_321 (n : Nat) (k267 : Nat → Nat → Int64 → Int32 → FM → Option (Int64 × FM)) (a9 : Int64) (M : FM) : Option (Int64 × FM) := BX84_translate_321 a9 M
noncomputable def BX84_translate_267 (f3 : Nat → Int64 → FM → Option (Int64 × FM)) (g321 : Int64 → FM → Option (Int64 × FM)) (k267 : Nat → Nat → Int64 → Int32 → FM → Option (Int64 × FM)) (a0 : Nat) (a7 : Nat) (a9 : Int64) (a11 : Int32) (M : FM) : Option (Int64 × FM) :=
  fi (fm_is M 91 91 a0 = true) (
  fi ((M.1 294 a0 0) ≤ a11) (
    g321 a9 M) (
    fi (fm_is M 88 88 a7 = true) (
    fi (fm_is M 91 91 a0 = true) (
    let x1 : Nat := (M.2.2 295 a0 0)
    fi (fm_is M 902 902 x1 = true ∧ fm_in M x1 a11 = true) (
    let x2 : Nat := (M.2.2 278 a7 0)
    fi (fm_is M 902 902 x2 = true ∧ fm_in M x2 a11 = true) (
    let M3 : FM := fm_sL M 3 x2 a11.toNatClampNeg (M.2.1 3 x1 a11.toNatClampNeg)
    fi (fm_is M3 88 88 a7 = true) (
    fi (fm_is M3 91 91 a0 = true) (
    fi (fm_is M3 91 91 a0 = true) (
    let x4 : Nat := (M3.2.2 295 a0 0)
    fi (fm_is M3 902 902 x4 = true ∧ fm_in M3 x4 a11 = true) (
    let x5 : Nat := (M3.2.2 287 a0 0)
    fi (fm_is M3 81 81 x5 = true) (
    (f3 x5 (M3.2.1 3 x4 a11.toNatClampNeg) M3).bind fun r6 =>
    let x7 : Nat := (M3.2.2 279 a7 0)
    fi (fm_is r6.2 902 902 x7 = true ∧ fm_in r6.2 x7 a11 = true) (
    let M8 : FM := fm_sL r6.2 3 x7 a11.toNatClampNeg r6.1
    let x9 : Int32 := a11 + (Int32.ofInt 1)
    k267 a0 a7 a9 x9 M8) none) (none)) none) none) none) none) none) none) none) none)) none
noncomputable def FX84_translate_267 (n : Nat) (k267 : Nat → Nat → Int64 → Int32 → FM → Option (Int64 × FM)) (a0 : Nat) (a7 : Nat) (a9 : Int64) (a11 : Int32) (M : FM) : Option (Int64 × FM) := BX84_translate_267 FX85_writes (FX84_translate_321 n k267) k267 a0 a7 a9 a11 M
noncomputable def BX84_translate_179 (f2 : Int64 → Int32 → Int32 → FM → Option (Int64 × FM)) (g321 : Int64 → FM → Option (Int64 × FM)) (k267 : Nat → Nat → Int64 → Int32 → FM → Option (Int64 × FM)) (a0 : Nat) (a1 : Int64) (a3 : Int32) (a4 : Int32) (a5 : Int64) (a7 : Nat) (a9 : Int64) (s0 : Nat) (s1 : Int32) (M : FM) : Option (Int64 × FM) :=
  fi (fm_is M 88 88 s0 = true) (
  fi (s1 = 0 ∨ s1 = 1) (
  let M1 : FM := fm_sI M 269 s0 0 s1
  fi (fm_is M1 88 88 a7 = true) (
  fi ((M1.1 269 a7 0) = 0) (
    g321 a9 M1) (
    fi (fm_is M1 88 88 a7 = true) (
    let M2 : FM := fm_sL M1 270 a7 0 a5
    fi (fm_is M2 88 88 a7 = true) (
    let M3 : FM := fm_sI M2 271 a7 0 a3
    fi (fm_is M3 88 88 a7 = true) (
    let M4 : FM := fm_sI M3 272 a7 0 a4
    fi (fm_is M4 91 91 a0 = true) (
    fi (fm_is M4 88 88 a7 = true) (
    let M5 : FM := fm_sL M4 273 a7 0 (M4.2.1 289 a0 0)
    fi (fm_is M5 91 91 a0 = true) (
    fi (fm_is M5 88 88 a7 = true) (
    let M6 : FM := fm_sI M5 274 a7 0 (M5.1 290 a0 0)
    fi (fm_is M6 91 91 a0 = true) (
    let x7 : Nat := (M6.2.2 288 a0 0)
    fi (fm_is M6 90 90 x7 = true) (
    fi (fm_is M6 88 88 a7 = true) (
    let M8 : FM := fm_sI M6 275 a7 0 (M6.1 285 x7 0)
    (f2 a1 (Int32.ofInt 0) (Int32.ofInt 12) M8).bind fun r9 =>
    fi (fm_is r9.2 88 88 a7 = true) (
    let M10 : FM := fm_sL r9.2 276 a7 0 (a9 - r9.1)
    fi (fm_is M10 91 91 a0 = true) (
    fi (fm_is M10 88 88 a7 = true) (
    let M11 : FM := fm_sI M10 277 a7 0 (M10.1 294 a0 0)
    k267 a0 a7 a9 (Int32.ofInt 0) M11) none) none) none) none) none) none) none) none) none) none) none) none) none)) none) none) none
noncomputable def FX84_translate_179 (n : Nat) (k267 : Nat → Nat → Int64 → Int32 → FM → Option (Int64 × FM)) (a0 : Nat) (a1 : Int64) (a3 : Int32) (a4 : Int32) (a5 : Int64) (a7 : Nat) (a9 : Int64) (s0 : Nat) (s1 : Int32) (M : FM) : Option (Int64 × FM) := BX84_translate_179 FX102_bits (FX84_translate_321 n k267) k267 a0 a1 a3 a4 a5 a7 a9 s0 s1 M
noncomputable def BX84_translate_155 (f1 : Nat → Int64 → Int32 → Int32 → FM → Option (Int64 × FM)) (g179 : Nat → Int64 → Int32 → Int32 → Int64 → Nat → Int64 → Nat → Int32 → FM → Option (Int64 × FM)) (a0 : Nat) (a1 : Int64) (a3 : Int32) (a4 : Int32) (a5 : Int64) (a7 : Nat) (M : FM) : Option (Int64 × FM) :=
  fi (fm_is M 91 91 a0 = true) (
  (f1 a0 a1 a3 a4 M).bind fun r1 =>
  fi ((lg_cmp r1.1 (Int64.ofInt 0)) < 0) (
    g179 a0 a1 a3 a4 a5 a7 r1.1 a7 (Int32.ofInt 0) r1.2) (
    g179 a0 a1 a3 a4 a5 a7 r1.1 a7 (Int32.ofInt 1) r1.2)) none
noncomputable def FX84_translate_155 (n : Nat) (k267 : Nat → Nat → Int64 → Int32 → FM → Option (Int64 × FM)) (a0 : Nat) (a1 : Int64) (a3 : Int32) (a4 : Int32) (a5 : Int64) (a7 : Nat) (M : FM) : Option (Int64 × FM) := BX84_translate_155 (FX84_walk n) (FX84_translate_179 n k267) a0 a1 a3 a4 a5 a7 M
noncomputable def BX84_translate_122 (f0 : Nat → Nat → FM → Option (Int32 × FM)) (f2 : Int64 → Int32 → Int32 → FM → Option (Int64 × FM)) (g155 : Nat → Int64 → Int32 → Int32 → Int64 → Nat → FM → Option (Int64 × FM)) (a0 : Nat) (a1 : Int64) (a3 : Int32) (a4 : Int32) (a5 : Int64) (a7 : Nat) (s0 : Int32) (M : FM) : Option (Int64 × FM) :=
  fi (s0 = 0) (
    g155 a0 a1 a3 a4 a5 a7 M) (
    fi (fm_is M 91 91 a0 = true) (
    fi (fm_is M 88 88 a7 = true) (
    (f0 a7 (M.2.2 287 a0 0) M).bind fun r1 =>
    fi (r1.1 = 0) (
      g155 a0 a1 a3 a4 a5 a7 r1.2) (
      fi (fm_is r1.2 88 88 a7 = true) (
      (f2 a1 (Int32.ofInt 0) (Int32.ofInt 12) r1.2).bind fun r2 =>
      some (((r1.2.2.1 276 a7 0) ||| r2.1), r2.2)) none)) none) none)
noncomputable def FX84_translate_122 (n : Nat) (k267 : Nat → Nat → Int64 → Int32 → FM → Option (Int64 × FM)) (a0 : Nat) (a1 : Int64) (a3 : Int32) (a4 : Int32) (a5 : Int64) (a7 : Nat) (s0 : Int32) (M : FM) : Option (Int64 × FM) := BX84_translate_122 (FX88_holds n) FX102_bits (FX84_translate_155 n k267) a0 a1 a3 a4 a5 a7 s0 M
noncomputable def BX84_translate_121 (g122 : Nat → Int64 → Int32 → Int32 → Int64 → Nat → Int32 → FM → Option (Int64 × FM)) (a0 : Nat) (a1 : Int64) (a3 : Int32) (a4 : Int32) (a5 : Int64) (a7 : Nat) (M : FM) : Option (Int64 × FM) :=
  g122 a0 a1 a3 a4 a5 a7 (Int32.ofInt 0) M
noncomputable def FX84_translate_121 (n : Nat) (k267 : Nat → Nat → Int64 → Int32 → FM → Option (Int64 × FM)) (a0 : Nat) (a1 : Int64) (a3 : Int32) (a4 : Int32) (a5 : Int64) (a7 : Nat) (M : FM) : Option (Int64 × FM) := BX84_translate_121 (FX84_translate_122 n k267) a0 a1 a3 a4 a5 a7 M
noncomputable def BX84_translate_0 (g121 : Nat → Int64 → Int32 → Int32 → Int64 → Nat → FM → Option (Int64 × FM)) (g122 : Nat → Int64 → Int32 → Int32 → Int64 → Nat → Int32 → FM → Option (Int64 × FM)) (a0 : Nat) (a1 : Int64) (a3 : Int32) (a4 : Int32) (M : FM) : Option (Int64 × FM) :=
  let x1 : Int64 := (a1 >>> ((Int32.ofInt 12).toInt64 &&& 63))
  fi (fm_is M 91 91 a0 = true) (
  let x2 : Int32 := (((((x1 ^^^ (x1 >>> ((Int32.ofInt 6).toInt64 &&& 63))) * (Int64.ofInt 5)) + (a3 * (Int32.ofInt 3)).toInt64) + a4.toInt64) &&& (Int64.ofInt 63)).toInt32
  let x3 : Nat := (M.2.2 291 a0 0)
  fi (fm_is M 910 990 x3 = true ∧ fm_in M x3 x2 = true) (
  let x4 : Nat := (M.2.2 3 x3 x2.toNatClampNeg)
  fi (fm_is M 88 88 x4 = true) (
  fi ((M.1 269 x4 0) = 0) (
    g121 a0 a1 a3 a4 x1 x4 M) (
    fi (fm_is M 88 88 x4 = true) (
    fi ((lg_cmp (M.2.1 270 x4 0) x1) = 0) (
      fi (fm_is M 88 88 x4 = true) (
      fi ((M.1 271 x4 0) = a3) (
        fi (fm_is M 88 88 x4 = true) (
        fi ((M.1 272 x4 0) = a4) (
          fi (fm_is M 88 88 x4 = true) (
          fi (fm_is M 91 91 a0 = true) (
          fi ((lg_cmp (M.2.1 273 x4 0) (M.2.1 289 a0 0)) = 0) (
            fi (fm_is M 88 88 x4 = true) (
            fi (fm_is M 91 91 a0 = true) (
            fi ((M.1 274 x4 0) = (M.1 290 a0 0)) (
              fi (fm_is M 88 88 x4 = true) (
              fi (fm_is M 91 91 a0 = true) (
              let x5 : Nat := (M.2.2 288 a0 0)
              fi (fm_is M 90 90 x5 = true) (
              fi ((M.1 275 x4 0) = (M.1 285 x5 0)) (
                g122 a0 a1 a3 a4 x1 x4 (Int32.ofInt 1) M) (
                g121 a0 a1 a3 a4 x1 x4 M)) none) none) none) (
              g121 a0 a1 a3 a4 x1 x4 M)) none) none) (
            g121 a0 a1 a3 a4 x1 x4 M)) none) none) (
          g121 a0 a1 a3 a4 x1 x4 M)) none) (
        g121 a0 a1 a3 a4 x1 x4 M)) none) (
      g121 a0 a1 a3 a4 x1 x4 M)) none)) none) none) none
noncomputable def FX84_translate_0 (n : Nat) (k267 : Nat → Nat → Int64 → Int32 → FM → Option (Int64 × FM)) (a0 : Nat) (a1 : Int64) (a3 : Int32) (a4 : Int32) (M : FM) : Option (Int64 × FM) := BX84_translate_0 (FX84_translate_121 n k267) (FX84_translate_122 n k267) a0 a1 a3 a4 M
noncomputable def FX84_translate_L267 (n : Nat) : Nat → Nat → Nat → Int64 → Int32 → FM → Option (Int64 × FM)
  | 0 => fun _ _ _ _ _ => none
  | j + 1 => FX84_translate_267 n (FX84_translate_L267 n j)
noncomputable def FX84_translate (n : Nat) (a0 : Nat) (a1 : Int64) (a3 : Int32) (a4 : Int32) (M : FM) : Option (Int64 × FM) := FX84_translate_0 n (FX84_translate_L267 n n) a0 a1 a3 a4 M
