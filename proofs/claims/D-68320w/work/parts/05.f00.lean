/-! functions of methods, printed by gen/defs.py -/
set_option maxRecDepth 100000
noncomputable def fm_exc (M : FM) : FM := fm_sR (fm_sR M 2 0 1 (fm_ns M + 6)) 2 0 0 (fm_nx M + 1)
noncomputable def Fh_copy (a0 : Nat) (a1 : Int32) (a2 : Nat) (a3 : Int32) (a4 : Int32) (M : FM) : Option FM :=
  fi (fm_is M 903 903 a0 = true ∧ fm_is M 903 903 a2 = true) (fi (¬ a1 < 0 ∧ ¬ a3 < 0 ∧ ¬ a4 < 0 ∧ a1.toNatClampNeg + a4.toNatClampNeg ≤ M.2.2 1 a0 0 ∧ a3.toNatClampNeg + a4.toNatClampNeg ≤ M.2.2 1 a2 0) (some (fun f a i => if f = 3 ∧ a = a2 ∧ a3.toNatClampNeg ≤ i ∧ i < a3.toNatClampNeg + a4.toNatClampNeg then M.1 3 a0 (a1.toNatClampNeg + (i - a3.toNatClampNeg)) else M.1 f a i, M.2.1, M.2.2)) none) none
noncomputable def Fh_values_1 (M : FM) : Option (Nat × FM) := some (fm_nx M, ((fm_newa M 913 99 5).1, (fm_newa M 913 99 5).2.1, fun f a i => if f = 3 ∧ a = fm_nx M ∧ i < 5 then 1 + i else (fm_newa M 913 99 5).2.2 f a i))
noncomputable def Fh_values_3 (M : FM) : Option (Nat × FM) := some (fm_nx M, ((fm_newa M 915 100 4).1, (fm_newa M 915 100 4).2.1, fun f a i => if f = 3 ∧ a = fm_nx M ∧ i < 4 then 11 + i else (fm_newa M 915 100 4).2.2 f a i))
noncomputable def Fh_values_6 (M : FM) : Option (Nat × FM) := some (fm_nx M, ((fm_newa M 928 21 5).1, (fm_newa M 928 21 5).2.1, fun f a i => if f = 3 ∧ a = fm_nx M ∧ i < 5 then 37 + i else (fm_newa M 928 21 5).2.2 f a i))
/-! BoardMachineLaw.cell([II)I -/
noncomputable def BX0_cell_13 (s0 : Int32) (M : FM) : Option (Int32 × FM) :=
  some (s0, M)
noncomputable def FX0_cell_13 (s0 : Int32) (M : FM) : Option (Int32 × FM) := BX0_cell_13 s0 M
noncomputable def BX0_cell_0 (g13 : Int32 → FM → Option (Int32 × FM)) (a0 : Nat) (a1 : Int32) (M : FM) : Option (Int32 × FM) :=
  fi (fm_is M 901 990 a0 = true) (
  fi ((Int32.ofNat (M.2.2 1 a0 0)) ≤ a1) (
    g13 (Int32.ofInt 0) M) (
    fi (fm_is M 906 906 a0 = true ∧ fm_in M a0 a1 = true) (
    g13 (M.1 3 a0 a1.toNatClampNeg) M) none)) none
noncomputable def FX0_cell_0 (a0 : Nat) (a1 : Int32) (M : FM) : Option (Int32 × FM) := BX0_cell_0 FX0_cell_13 a0 a1 M
noncomputable def FX0_cell (a0 : Nat) (a1 : Int32) (M : FM) : Option (Int32 × FM) := FX0_cell_0 a0 a1 M
/-! BoardMachine$Trees$Row.<init>(I)V -/
noncomputable def BX3_init_0 (a0 : Nat) (a1 : Int32) (M : FM) : Option (FM) :=
  fi (a0 = 0) none (
  fi (¬ a1 < 0 ∧ a1.toNatClampNeg * 1 ≤ 536870912) (
  let x2 : Nat := fm_nx M
  let M1 : FM := fm_newa M 903 261 a1.toNatClampNeg
  fi (fm_is M1 86 86 a0 = true) (
  let M3 : FM := fm_sR M1 261 a0 0 x2
  some M3) none) none)
noncomputable def FX3_init_0 (a0 : Nat) (a1 : Int32) (M : FM) : Option (FM) := BX3_init_0 a0 a1 M
noncomputable def FX3_init (a0 : Nat) (a1 : Int32) (M : FM) : Option (FM) := FX3_init_0 a0 a1 M
/-! BoardMachine$Trees$Piece.<init>()V -/
noncomputable def BX7_init_0 (a0 : Nat) (M : FM) : Option (FM) :=
  fi (a0 = 0) none (
  some M)
noncomputable def FX7_init_0 (a0 : Nat) (M : FM) : Option (FM) := BX7_init_0 a0 M
noncomputable def FX7_init (a0 : Nat) (M : FM) : Option (FM) := FX7_init_0 a0 M
/-! BoardMachine$Trees$Node.<init>()V -/
noncomputable def BX6_init_0 (f0 : Nat → FM → Option (FM)) (a0 : Nat) (M : FM) : Option (FM) :=
  fi (a0 = 0) none (
  let x2 : Nat := fm_nx M
  let M1 : FM := fm_new M 83 2
  fi (fm_is M1 83 83 x2 = true) (
  (f0 x2 M1).bind fun M3 =>
  fi (fm_is M3 82 82 a0 = true) (
  let M4 : FM := fm_sR M3 248 a0 0 x2
  some M4) none) none)
noncomputable def FX6_init_0 (a0 : Nat) (M : FM) : Option (FM) := BX6_init_0 FX7_init a0 M
noncomputable def FX6_init (a0 : Nat) (M : FM) : Option (FM) := FX6_init_0 a0 M
/-! BoardMachine$Trees$Tree.begin(II)V -/
noncomputable def BX5_begin_0 (a0 : Nat) (a1 : Int32) (a2 : Int32) (M : FM) : Option (FM) :=
  fi (fm_is M 87 87 a0 = true) (
  fi (fm_is M 87 87 a0 = true) (
  let x1 : Int32 := (M.1 266 a0 0)
  let x2 : Nat := (M.2.2 264 a0 0)
  fi (fm_is M 910 990 x2 = true ∧ fm_in M x2 x1 = true) (
  let x3 : Nat := (M.2.2 3 x2 x1.toNatClampNeg)
  fi (fm_is M 82 82 x3 = true) (
  let M4 : FM := fm_sI M 249 x3 0 a1
  fi (fm_is M4 82 82 x3 = true) (
  let M5 : FM := fm_sI M4 250 x3 0 a2
  fi (fm_is M5 87 87 a0 = true) (
  fi (fm_is M5 82 82 x3 = true) (
  let M6 : FM := fm_sI M5 251 x3 0 (M5.1 267 a0 0)
  fi (fm_is M6 82 82 x3 = true) (
  let M7 : FM := fm_sI M6 252 x3 0 (Int32.ofInt 0)
  fi (fm_is M7 82 82 x3 = true) (
  fi ((Int32.ofInt 0) = 0 ∨ (Int32.ofInt 0) = 1) (
  let M8 : FM := fm_sI M7 253 x3 0 (Int32.ofInt 0)
  fi (fm_is M8 82 82 x3 = true) (
  let x9 : Nat := (M8.2.2 248 x3 0)
  fi (fm_is M8 83 83 x9 = true) (
  let M10 : FM := fm_sI M8 255 x9 0 (Int32.ofInt 0)
  fi (fm_is M10 87 87 a0 = true) (
  let x11 : Int32 := (M10.1 266 a0 0)
  fi (fm_is M10 87 87 a0 = true) (
  let M12 : FM := fm_sI M10 266 a0 0 (x11 + (Int32.ofInt 1))
  fi (fm_is M12 87 87 a0 = true) (
  let M13 : FM := fm_sI M12 268 a0 0 x11
  some M13) none) none) none) none) none) none) none) none) none) none) none) none) none) none) none
noncomputable def FX5_begin_0 (a0 : Nat) (a1 : Int32) (a2 : Int32) (M : FM) : Option (FM) := BX5_begin_0 a0 a1 a2 M
noncomputable def FX5_begin (a0 : Nat) (a1 : Int32) (a2 : Int32) (M : FM) : Option (FM) := FX5_begin_0 a0 a1 a2 M
/-! BoardMachine$Trees$Tree.clear()V -/
noncomputable def BX5_clear_0 (f0 : Nat → Int32 → Int32 → FM → Option (FM)) (a0 : Nat) (M : FM) : Option (FM) :=
  fi (fm_is M 87 87 a0 = true) (
  let x1 : Nat := (M.2.2 263 a0 0)
  fi (fm_is M 86 86 x1 = true) (
  let M2 : FM := fm_sI M 262 x1 0 (Int32.ofInt 0)
  fi (fm_is M2 87 87 a0 = true) (
  let M3 : FM := fm_sI M2 266 a0 0 (Int32.ofInt 0)
  fi (fm_is M3 87 87 a0 = true) (
  let M4 : FM := fm_sI M3 267 a0 0 (Int32.ofInt 0)
  fi (fm_is M4 87 87 a0 = true) (
  (f0 a0 (Int32.ofInt (-1)) (Int32.ofInt 1) M4).bind fun M5 =>
  some M5) none) none) none) none) none
noncomputable def FX5_clear_0 (a0 : Nat) (M : FM) : Option (FM) := BX5_clear_0 FX5_begin a0 M
noncomputable def FX5_clear (a0 : Nat) (M : FM) : Option (FM) := FX5_clear_0 a0 M
/-! BoardMachine$Trees$Property.<init>()V -/
noncomputable def BX8_init_0 (f0 : Nat → FM → Option (FM)) (a0 : Nat) (M : FM) : Option (FM) :=
  fi (a0 = 0) none (
  let x2 : Nat := fm_nx M
  let M1 : FM := fm_new M 83 2
  fi (fm_is M1 83 83 x2 = true) (
  (f0 x2 M1).bind fun M3 =>
  fi (fm_is M3 85 85 a0 = true) (
  let M4 : FM := fm_sR M3 258 a0 0 x2
  let x6 : Nat := fm_nx M4
  let M5 : FM := fm_new M4 83 2
  fi (fm_is M5 83 83 x6 = true) (
  (f0 x6 M5).bind fun M7 =>
  fi (fm_is M7 85 85 a0 = true) (
  let M8 : FM := fm_sR M7 259 a0 0 x6
  some M8) none) none) none) none)
noncomputable def FX8_init_0 (a0 : Nat) (M : FM) : Option (FM) := BX8_init_0 FX7_init a0 M
noncomputable def FX8_init (a0 : Nat) (M : FM) : Option (FM) := FX8_init_0 a0 M
/-! BoardMachine$Trees$Tree.<init>()V -/
noncomputable def BX5_init_68 (f2 : Nat → FM → Option (FM)) (f3 : Nat → FM → Option (FM)) (k68 : Nat → Int32 → FM → Option (FM)) (a0 : Nat) (a1 : Int32) (M : FM) : Option (FM) :=
  fi ((Int32.ofInt 512) ≤ a1) (
    fi (fm_is M 87 87 a0 = true) (
    (f2 a0 M).bind fun M1 =>
    some M1) none) (
    fi (fm_is M 87 87 a0 = true) (
    let x3 : Nat := fm_nx M
    let M2 : FM := fm_new M 85 3
    fi (fm_is M2 85 85 x3 = true) (
    (f3 x3 M2).bind fun M4 =>
    let x5 : Nat := (M.2.2 265 a0 0)
    fi (fm_is M4 925 925 x5 = true ∧ fm_in M4 x5 a1 = true) (
    fi (fm_is M4 85 85 x3 = true) (
    let M6 : FM := fm_sR M4 3 x5 a1.toNatClampNeg x3
    let x7 : Int32 := a1 + (Int32.ofInt 1)
    k68 a0 x7 M6) none) none) none) none)
noncomputable def FX5_init_68 (n : Nat) (k40 : Nat → Int32 → FM → Option (FM)) (k68 : Nat → Int32 → FM → Option (FM)) (a0 : Nat) (a1 : Int32) (M : FM) : Option (FM) := BX5_init_68 FX5_clear FX8_init k68 a0 a1 M
noncomputable def BX5_init_40 (f1 : Nat → FM → Option (FM)) (k40 : Nat → Int32 → FM → Option (FM)) (k68 : Nat → Int32 → FM → Option (FM)) (a0 : Nat) (a1 : Int32) (M : FM) : Option (FM) :=
  fi ((Int32.ofInt 128) ≤ a1) (
    k68 a0 (Int32.ofInt 0) M) (
    fi (fm_is M 87 87 a0 = true) (
    let x2 : Nat := fm_nx M
    let M1 : FM := fm_new M 82 6
    fi (fm_is M1 82 82 x2 = true) (
    (f1 x2 M1).bind fun M3 =>
    let x4 : Nat := (M.2.2 264 a0 0)
    fi (fm_is M3 924 924 x4 = true ∧ fm_in M3 x4 a1 = true) (
    fi (fm_is M3 82 82 x2 = true) (
    let M5 : FM := fm_sR M3 3 x4 a1.toNatClampNeg x2
    let x6 : Int32 := a1 + (Int32.ofInt 1)
    k40 a0 x6 M5) none) none) none) none)
noncomputable def FX5_init_40 (n : Nat) (k40 : Nat → Int32 → FM → Option (FM)) (k68 : Nat → Int32 → FM → Option (FM)) (a0 : Nat) (a1 : Int32) (M : FM) : Option (FM) := BX5_init_40 FX6_init k40 k68 a0 a1 M
noncomputable def BX5_init_0 (f0 : Nat → Int32 → FM → Option (FM)) (k40 : Nat → Int32 → FM → Option (FM)) (a0 : Nat) (M : FM) : Option (FM) :=
  fi (a0 = 0) none (
  let x2 : Nat := fm_nx M
  let M1 : FM := fm_new M 86 2
  fi (fm_is M1 86 86 x2 = true) (
  (f0 x2 (Int32.ofInt 16384) M1).bind fun M3 =>
  fi (fm_is M3 87 87 a0 = true) (
  let M4 : FM := fm_sR M3 263 a0 0 x2
  fi (¬ (Int32.ofInt 128) < 0 ∧ (Int32.ofInt 128).toNatClampNeg * 4 ≤ 536870912) (
  let x6 : Nat := fm_nx M4
  let M5 : FM := fm_newa M4 924 264 (Int32.ofInt 128).toNatClampNeg
  fi (fm_is M5 87 87 a0 = true) (
  let M7 : FM := fm_sR M5 264 a0 0 x6
  fi (¬ (Int32.ofInt 512) < 0 ∧ (Int32.ofInt 512).toNatClampNeg * 4 ≤ 536870912) (
  let x9 : Nat := fm_nx M7
  let M8 : FM := fm_newa M7 925 265 (Int32.ofInt 512).toNatClampNeg
  fi (fm_is M8 87 87 a0 = true) (
  let M10 : FM := fm_sR M8 265 a0 0 x9
  k40 a0 (Int32.ofInt 0) M10) none) none) none) none) none) none)
noncomputable def FX5_init_0 (n : Nat) (k40 : Nat → Int32 → FM → Option (FM)) (k68 : Nat → Int32 → FM → Option (FM)) (a0 : Nat) (M : FM) : Option (FM) := BX5_init_0 FX3_init k40 a0 M
noncomputable def FX5_init_L (n : Nat) : Nat → (Nat → Int32 → FM → Option (FM)) × (Nat → Int32 → FM → Option (FM))
  | 0 => (fun _ _ _ => none, fun _ _ _ => none)
  | j + 1 => (FX5_init_40 n (FX5_init_L n j).1 (FX5_init_L n j).2, FX5_init_68 n (FX5_init_L n j).1 (FX5_init_L n j).2)
noncomputable def FX5_init (n : Nat) (a0 : Nat) (M : FM) : Option (FM) := FX5_init_0 n (FX5_init_L n n).1 (FX5_init_L n n).2 a0 M
/-! BoardMachine$Trees$Press.<init>()V -/
noncomputable def BX9_init_0 (f0 : Nat → Int32 → FM → Option (FM)) (a0 : Nat) (M : FM) : Option (FM) :=
  fi (a0 = 0) none (
  let x2 : Nat := fm_nx M
  let M1 : FM := fm_new M 86 2
  fi (fm_is M1 86 86 x2 = true) (
  (f0 x2 (Int32.ofInt 65536) M1).bind fun M3 =>
  fi (fm_is M3 84 84 a0 = true) (
  let M4 : FM := fm_sR M3 256 a0 0 x2
  let x6 : Nat := fm_nx M4
  let M5 : FM := fm_new M4 86 2
  fi (fm_is M5 86 86 x6 = true) (
  (f0 x6 (Int32.ofInt 16896) M5).bind fun M7 =>
  fi (fm_is M7 84 84 a0 = true) (
  let M8 : FM := fm_sR M7 257 a0 0 x6
  some M8) none) none) none) none)
noncomputable def FX9_init_0 (a0 : Nat) (M : FM) : Option (FM) := BX9_init_0 FX3_init a0 M
noncomputable def FX9_init (a0 : Nat) (M : FM) : Option (FM) := FX9_init_0 a0 M
/-! BoardMachine$Describer.<init>()V -/
noncomputable def BX4_init_0 (f0 : Nat → Int32 → FM → Option (FM)) (f1 : Nat → FM → Option (FM)) (f2 : Nat → FM → Option (FM)) (a0 : Nat) (M : FM) : Option (FM) :=
  fi (a0 = 0) none (
  let x2 : Nat := fm_nx M
  let M1 : FM := fm_new M 86 2
  fi (fm_is M1 86 86 x2 = true) (
  (f0 x2 (Int32.ofInt 512) M1).bind fun M3 =>
  fi (fm_is M3 21 21 a0 = true) (
  let M4 : FM := fm_sR M3 55 a0 0 x2
  let x6 : Nat := fm_nx M4
  let M5 : FM := fm_new M4 87 6
  fi (fm_is M5 87 87 x6 = true) (
  (f1 x6 M5).bind fun M7 =>
  fi (fm_is M7 21 21 a0 = true) (
  let M8 : FM := fm_sR M7 56 a0 0 x6
  let x10 : Nat := fm_nx M8
  let M9 : FM := fm_new M8 84 2
  fi (fm_is M9 84 84 x10 = true) (
  (f2 x10 M9).bind fun M11 =>
  fi (fm_is M11 21 21 a0 = true) (
  let M12 : FM := fm_sR M11 57 a0 0 x10
  some M12) none) none) none) none) none) none)
noncomputable def FX4_init_0 (n : Nat) (a0 : Nat) (M : FM) : Option (FM) := BX4_init_0 FX3_init (FX5_init n) FX9_init a0 M
noncomputable def FX4_init (n : Nat) (a0 : Nat) (M : FM) : Option (FM) := FX4_init_0 n a0 M
/-! BoardMachine$Memories$Reservation.<init>()V -/
noncomputable def BX12_init_0 (a0 : Nat) (M : FM) : Option (FM) :=
  fi (a0 = 0) none (
  some M)
noncomputable def FX12_init_0 (a0 : Nat) (M : FM) : Option (FM) := BX12_init_0 a0 M
noncomputable def FX12_init (a0 : Nat) (M : FM) : Option (FM) := FX12_init_0 a0 M
/-! BoardMachine$Memories$Change.<init>()V -/
noncomputable def BX13_init_0 (a0 : Nat) (M : FM) : Option (FM) :=
  fi (a0 = 0) none (
  some M)
noncomputable def FX13_init_0 (a0 : Nat) (M : FM) : Option (FM) := BX13_init_0 a0 M
noncomputable def FX13_init (a0 : Nat) (M : FM) : Option (FM) := FX13_init_0 a0 M
/-! BoardMachine$Memories$Sum.<init>()V -/
noncomputable def BX14_init_0 (f0 : Nat → FM → Option (FM)) (a0 : Nat) (M : FM) : Option (FM) :=
  fi (fm_is M 70 70 a0 = true) (
  (f0 a0 M).bind fun M1 =>
  some M1) none
noncomputable def FX14_init_0 (a0 : Nat) (M : FM) : Option (FM) := BX14_init_0 FX13_init a0 M
noncomputable def FX14_init (a0 : Nat) (M : FM) : Option (FM) := FX14_init_0 a0 M
/-! BoardMachine$Memories$Swap.<init>()V -/
noncomputable def BX15_init_0 (f0 : Nat → FM → Option (FM)) (a0 : Nat) (M : FM) : Option (FM) :=
  fi (fm_is M 71 71 a0 = true) (
  (f0 a0 M).bind fun M1 =>
  some M1) none
noncomputable def FX15_init_0 (a0 : Nat) (M : FM) : Option (FM) := BX15_init_0 FX13_init a0 M
noncomputable def FX15_init (a0 : Nat) (M : FM) : Option (FM) := FX15_init_0 a0 M
/-! BoardMachine$Memories$Bits.<init>(I)V -/
noncomputable def BX16_init_0 (f0 : Nat → FM → Option (FM)) (a0 : Nat) (a1 : Int32) (M : FM) : Option (FM) :=
  fi (fm_is M 68 68 a0 = true) (
  (f0 a0 M).bind fun M1 =>
  fi (fm_is M1 68 68 a0 = true) (
  let M2 : FM := fm_sI M1 198 a0 0 a1
  some M2) none) none
noncomputable def FX16_init_0 (a0 : Nat) (a1 : Int32) (M : FM) : Option (FM) := BX16_init_0 FX13_init a0 a1 M
noncomputable def FX16_init (a0 : Nat) (a1 : Int32) (M : FM) : Option (FM) := FX16_init_0 a0 a1 M
/-! BoardMachine$Memories$Extreme.<init>(ZZ)V -/
noncomputable def BX17_init_21 (s0 : Nat) (s1 : Int64) (M : FM) : Option (FM) :=
  fi (fm_is M 69 69 s0 = true) (
  let M1 : FM := fm_sL M 200 s0 0 s1
  some M1) none
noncomputable def FX17_init_21 (s0 : Nat) (s1 : Int64) (M : FM) : Option (FM) := BX17_init_21 s0 s1 M
noncomputable def BX17_init_0 (f0 : Nat → FM → Option (FM)) (g21 : Nat → Int64 → FM → Option (FM)) (a0 : Nat) (a1 : Int32) (a2 : Int32) (M : FM) : Option (FM) :=
  fi (fm_is M 69 69 a0 = true) (
  (f0 a0 M).bind fun M1 =>
  fi (fm_is M1 69 69 a0 = true) (
  fi (a1 = 0 ∨ a1 = 1) (
  let M2 : FM := fm_sI M1 199 a0 0 a1
  fi (a2 = 0) (
    g21 a0 (Int64.ofInt (-9223372036854775808)) M2) (
    g21 a0 (Int64.ofInt 0) M2)) none) none) none
noncomputable def FX17_init_0 (a0 : Nat) (a1 : Int32) (a2 : Int32) (M : FM) : Option (FM) := BX17_init_0 FX13_init FX17_init_21 a0 a1 a2 M
noncomputable def FX17_init (a0 : Nat) (a1 : Int32) (a2 : Int32) (M : FM) : Option (FM) := FX17_init_0 a0 a1 a2 M
/-! BoardMachine$Memories$Ram.<init>(I)V -/
noncomputable def BX11_init_47 (f0 : Nat → FM → Option (FM)) (f1 : Nat → FM → Option (FM)) (f2 : Nat → FM → Option (FM)) (f3 : Nat → Int32 → FM → Option (FM)) (f4 : Nat → Int32 → Int32 → FM → Option (FM)) (k47 : Nat → Int32 → FM → Option (FM)) (a0 : Nat) (a2 : Int32) (M : FM) : Option (FM) :=
  fi ((Int32.ofInt 4) ≤ a2) (
    fi (fm_is M 73 73 a0 = true) (
    let x2 : Nat := fm_nx M
    let M1 : FM := fm_new M 70 0
    fi (fm_is M1 70 70 x2 = true) (
    (f1 x2 M1).bind fun M3 =>
    let x4 : Nat := (M.2.2 206 a0 0)
    fi (fm_is M3 919 919 x4 = true ∧ fm_in M3 x4 (Int32.ofInt 0) = true) (
    fi (fm_is M3 68 71 x2 = true) (
    let M5 : FM := fm_sR M3 3 x4 (Int32.ofInt 0).toNatClampNeg x2
    fi (fm_is M5 73 73 a0 = true) (
    let x7 : Nat := fm_nx M5
    let M6 : FM := fm_new M5 71 0
    fi (fm_is M6 71 71 x7 = true) (
    (f2 x7 M6).bind fun M8 =>
    let x9 : Nat := (M5.2.2 206 a0 0)
    fi (fm_is M8 919 919 x9 = true ∧ fm_in M8 x9 (Int32.ofInt 1) = true) (
    fi (fm_is M8 68 71 x7 = true) (
    let M10 : FM := fm_sR M8 3 x9 (Int32.ofInt 1).toNatClampNeg x7
    fi (fm_is M10 73 73 a0 = true) (
    let x12 : Nat := fm_nx M10
    let M11 : FM := fm_new M10 68 1
    fi (fm_is M11 68 68 x12 = true) (
    (f3 x12 (Int32.ofInt 6) M11).bind fun M13 =>
    let x14 : Nat := (M10.2.2 206 a0 0)
    fi (fm_is M13 919 919 x14 = true ∧ fm_in M13 x14 (Int32.ofInt 4) = true) (
    fi (fm_is M13 68 71 x12 = true) (
    let M15 : FM := fm_sR M13 3 x14 (Int32.ofInt 4).toNatClampNeg x12
    fi (fm_is M15 73 73 a0 = true) (
    let x17 : Nat := fm_nx M15
    let M16 : FM := fm_new M15 68 1
    fi (fm_is M16 68 68 x17 = true) (
    (f3 x17 (Int32.ofInt 14) M16).bind fun M18 =>
    let x19 : Nat := (M15.2.2 206 a0 0)
    fi (fm_is M18 919 919 x19 = true ∧ fm_in M18 x19 (Int32.ofInt 8) = true) (
    fi (fm_is M18 68 71 x17 = true) (
    let M20 : FM := fm_sR M18 3 x19 (Int32.ofInt 8).toNatClampNeg x17
    fi (fm_is M20 73 73 a0 = true) (
    let x22 : Nat := fm_nx M20
    let M21 : FM := fm_new M20 68 1
    fi (fm_is M21 68 68 x22 = true) (
    (f3 x22 (Int32.ofInt 8) M21).bind fun M23 =>
    let x24 : Nat := (M20.2.2 206 a0 0)
    fi (fm_is M23 919 919 x24 = true ∧ fm_in M23 x24 (Int32.ofInt 12) = true) (
    fi (fm_is M23 68 71 x22 = true) (
    let M25 : FM := fm_sR M23 3 x24 (Int32.ofInt 12).toNatClampNeg x22
    fi (fm_is M25 73 73 a0 = true) (
    let x27 : Nat := fm_nx M25
    let M26 : FM := fm_new M25 69 2
    fi (fm_is M26 69 69 x27 = true) (
    (f4 x27 (Int32.ofInt 1) (Int32.ofInt 1) M26).bind fun M28 =>
    let x29 : Nat := (M25.2.2 206 a0 0)
    fi (fm_is M28 919 919 x29 = true ∧ fm_in M28 x29 (Int32.ofInt 16) = true) (
    fi (fm_is M28 68 71 x27 = true) (
    let M30 : FM := fm_sR M28 3 x29 (Int32.ofInt 16).toNatClampNeg x27
    fi (fm_is M30 73 73 a0 = true) (
    let x32 : Nat := fm_nx M30
    let M31 : FM := fm_new M30 69 2
    fi (fm_is M31 69 69 x32 = true) (
    (f4 x32 (Int32.ofInt 0) (Int32.ofInt 1) M31).bind fun M33 =>
    let x34 : Nat := (M30.2.2 206 a0 0)
    fi (fm_is M33 919 919 x34 = true ∧ fm_in M33 x34 (Int32.ofInt 20) = true) (
    fi (fm_is M33 68 71 x32 = true) (
    let M35 : FM := fm_sR M33 3 x34 (Int32.ofInt 20).toNatClampNeg x32
    fi (fm_is M35 73 73 a0 = true) (
    let x37 : Nat := fm_nx M35
    let M36 : FM := fm_new M35 69 2
    fi (fm_is M36 69 69 x37 = true) (
    (f4 x37 (Int32.ofInt 1) (Int32.ofInt 0) M36).bind fun M38 =>
    let x39 : Nat := (M35.2.2 206 a0 0)
    fi (fm_is M38 919 919 x39 = true ∧ fm_in M38 x39 (Int32.ofInt 24) = true) (
    fi (fm_is M38 68 71 x37 = true) (
    let M40 : FM := fm_sR M38 3 x39 (Int32.ofInt 24).toNatClampNeg x37
    fi (fm_is M40 73 73 a0 = true) (
    let x42 : Nat := fm_nx M40
    let M41 : FM := fm_new M40 69 2
    fi (fm_is M41 69 69 x42 = true) (
    (f4 x42 (Int32.ofInt 0) (Int32.ofInt 0) M41).bind fun M43 =>
    let x44 : Nat := (M40.2.2 206 a0 0)
    fi (fm_is M43 919 919 x44 = true ∧ fm_in M43 x44 (Int32.ofInt 28) = true) (
    fi (fm_is M43 68 71 x42 = true) (
    let M45 : FM := fm_sR M43 3 x44 (Int32.ofInt 28).toNatClampNeg x42
    some M45) none) none) none) none) none) none) none) none) none) none) none) none) none) none) none) none) none) none) none) none) none) none) none) none) none) none) none) none) none) none) none) none) none) none) none) none) (
    fi (fm_is M 73 73 a0 = true) (
    let x47 : Nat := fm_nx M
    let M46 : FM := fm_new M 74 2
    fi (fm_is M46 74 74 x47 = true) (
    (f0 x47 M46).bind fun M48 =>
    let x49 : Nat := (M.2.2 205 a0 0)
    fi (fm_is M48 921 921 x49 = true ∧ fm_in M48 x49 a2 = true) (
    fi (fm_is M48 74 74 x47 = true) (
    let M50 : FM := fm_sR M48 3 x49 a2.toNatClampNeg x47
    let x51 : Int32 := a2 + (Int32.ofInt 1)
    k47 a0 x51 M50) none) none) none) none)
noncomputable def FX11_init_47 (n : Nat) (k47 : Nat → Int32 → FM → Option (FM)) (a0 : Nat) (a2 : Int32) (M : FM) : Option (FM) := BX11_init_47 FX12_init FX14_init FX15_init FX16_init FX17_init k47 a0 a2 M
noncomputable def BX11_init_0 (k47 : Nat → Int32 → FM → Option (FM)) (a0 : Nat) (a1 : Int32) (M : FM) : Option (FM) :=
  fi (a0 = 0) none (
  fi (¬ (Int32.ofInt 1024) < 0 ∧ (Int32.ofInt 1024).toNatClampNeg * 4 ≤ 536870912) (
  let x2 : Nat := fm_nx M
  let M1 : FM := fm_newa M 920 203 (Int32.ofInt 1024).toNatClampNeg
  fi (fm_is M1 73 73 a0 = true) (
  let M3 : FM := fm_sR M1 203 a0 0 x2
  fi (¬ (Int32.ofInt 1024) < 0 ∧ (Int32.ofInt 1024).toNatClampNeg * 8 ≤ 536870912) (
  let x5 : Nat := fm_nx M3
  let M4 : FM := fm_newa M3 902 204 (Int32.ofInt 1024).toNatClampNeg
  fi (fm_is M4 73 73 a0 = true) (
  let M6 : FM := fm_sR M4 204 a0 0 x5
  fi (¬ (Int32.ofInt 4) < 0 ∧ (Int32.ofInt 4).toNatClampNeg * 4 ≤ 536870912) (
  let x8 : Nat := fm_nx M6
  let M7 : FM := fm_newa M6 921 205 (Int32.ofInt 4).toNatClampNeg
  fi (fm_is M7 73 73 a0 = true) (
  let M9 : FM := fm_sR M7 205 a0 0 x8
  fi (¬ (Int32.ofInt 29) < 0 ∧ (Int32.ofInt 29).toNatClampNeg * 4 ≤ 536870912) (
  let x11 : Nat := fm_nx M9
  let M10 : FM := fm_newa M9 919 206 (Int32.ofInt 29).toNatClampNeg
  fi (fm_is M10 73 73 a0 = true) (
  let M12 : FM := fm_sR M10 206 a0 0 x11
  fi (fm_is M12 73 73 a0 = true) (
  let M13 : FM := fm_sI M12 202 a0 0 a1
  k47 a0 (Int32.ofInt 0) M13) none) none) none) none) none) none) none) none) none)
noncomputable def FX11_init_0 (n : Nat) (k47 : Nat → Int32 → FM → Option (FM)) (a0 : Nat) (a1 : Int32) (M : FM) : Option (FM) := BX11_init_0 k47 a0 a1 M
noncomputable def FX11_init_L47 (n : Nat) : Nat → Nat → Int32 → FM → Option (FM)
  | 0 => fun _ _ _ => none
  | j + 1 => FX11_init_47 n (FX11_init_L47 n j)
noncomputable def FX11_init (n : Nat) (a0 : Nat) (a1 : Int32) (M : FM) : Option (FM) := FX11_init_0 n (FX11_init_L47 n n) a0 a1 M
/-! BoardMachine$QueueBytes.<init>(LBoardMachine$Memories$Ram;)V -/
noncomputable def BX19_init_0 (a0 : Nat) (a1 : Nat) (M : FM) : Option (FM) :=
  fi (a0 = 0) none (
  fi (fm_is M 76 76 a0 = true) (
  let M1 : FM := fm_sR M 222 a0 0 a1
  some M1) none)
noncomputable def FX19_init_0 (a0 : Nat) (a1 : Nat) (M : FM) : Option (FM) := BX19_init_0 a0 a1 M
noncomputable def FX19_init (a0 : Nat) (a1 : Nat) (M : FM) : Option (FM) := FX19_init_0 a0 a1 M
/-! BoardMachine$Disks$Queue.<init>()V -/
noncomputable def BX20_init_0 (a0 : Nat) (M : FM) : Option (FM) :=
  fi (a0 = 0) none (
  fi (fm_is M 28 28 a0 = true) (
  let M1 : FM := fm_sI M 71 a0 0 (Int32.ofInt 16)
  some M1) none)
noncomputable def FX20_init_0 (a0 : Nat) (M : FM) : Option (FM) := BX20_init_0 a0 M
noncomputable def FX20_init (a0 : Nat) (M : FM) : Option (FM) := FX20_init_0 a0 M
/-! BoardMachine$Disks$Stretch.<init>()V -/
noncomputable def BX22_init_0 (a0 : Nat) (M : FM) : Option (FM) :=
  fi (a0 = 0) none (
  fi (¬ (Int32.ofInt 16) < 0 ∧ (Int32.ofInt 16).toNatClampNeg * 8 ≤ 536870912) (
  let x2 : Nat := fm_nx M
  let M1 : FM := fm_newa M 902 85 (Int32.ofInt 16).toNatClampNeg
  fi (fm_is M1 30 30 a0 = true) (
  let M3 : FM := fm_sR M1 85 a0 0 x2
  fi (¬ (Int32.ofInt 16) < 0 ∧ (Int32.ofInt 16).toNatClampNeg * 8 ≤ 536870912) (
  let x5 : Nat := fm_nx M3
  let M4 : FM := fm_newa M3 902 86 (Int32.ofInt 16).toNatClampNeg
  fi (fm_is M4 30 30 a0 = true) (
  let M6 : FM := fm_sR M4 86 a0 0 x5
  some M6) none) none) none) none)
noncomputable def FX22_init_0 (a0 : Nat) (M : FM) : Option (FM) := BX22_init_0 a0 M
noncomputable def FX22_init (a0 : Nat) (M : FM) : Option (FM) := FX22_init_0 a0 M
/-! BoardMachine$Disks$Request.<init>()V -/
noncomputable def BX21_init_0 (f0 : Nat → FM → Option (FM)) (a0 : Nat) (M : FM) : Option (FM) :=
  fi (a0 = 0) none (
  let x2 : Nat := fm_nx M
  let M1 : FM := fm_new M 30 6
  fi (fm_is M1 30 30 x2 = true) (
  (f0 x2 M1).bind fun M3 =>
  fi (fm_is M3 29 29 a0 = true) (
  let M4 : FM := fm_sR M3 78 a0 0 x2
  let x6 : Nat := fm_nx M4
  let M5 : FM := fm_new M4 30 6
  fi (fm_is M5 30 30 x6 = true) (
  (f0 x6 M5).bind fun M7 =>
  fi (fm_is M7 29 29 a0 = true) (
  let M8 : FM := fm_sR M7 79 a0 0 x6
  some M8) none) none) none) none)
noncomputable def FX21_init_0 (a0 : Nat) (M : FM) : Option (FM) := BX21_init_0 FX22_init a0 M
noncomputable def FX21_init (a0 : Nat) (M : FM) : Option (FM) := FX21_init_0 a0 M
/-! BoardMachine$Disks$Disk.<init>(I)V -/
noncomputable def BX23_init_0 (a0 : Nat) (a1 : Int32) (M : FM) : Option (FM) :=
  fi (a0 = 0) none (
  fi (fm_is M 23 23 a0 = true) (
  let M1 : FM := fm_sI M 68 a0 0 a1
  let x2 : Int32 := ((Int32.ofInt 64) * a1)
  fi (¬ x2 < 0 ∧ x2.toNatClampNeg * 8 ≤ 536870912) (
  let x4 : Nat := fm_nx M1
  let M3 : FM := fm_newa M1 902 69 x2.toNatClampNeg
  fi (fm_is M3 23 23 a0 = true) (
  let M5 : FM := fm_sR M3 69 a0 0 x4
  some M5) none) none) none)
noncomputable def FX23_init_0 (a0 : Nat) (a1 : Int32) (M : FM) : Option (FM) := BX23_init_0 a0 a1 M
noncomputable def FX23_init (a0 : Nat) (a1 : Int32) (M : FM) : Option (FM) := FX23_init_0 a0 a1 M
/-! BoardMachine$Disks$Kind.<init>()V -/
noncomputable def BX24_init_0 (a0 : Nat) (M : FM) : Option (FM) :=
  fi (a0 = 0) none (
  some M)
noncomputable def FX24_init_0 (a0 : Nat) (M : FM) : Option (FM) := BX24_init_0 a0 M
noncomputable def FX24_init (a0 : Nat) (M : FM) : Option (FM) := FX24_init_0 a0 M
/-! BoardMachine$Disks$Reading.<init>()V -/
noncomputable def BX25_init_0 (f0 : Nat → FM → Option (FM)) (a0 : Nat) (M : FM) : Option (FM) :=
  fi (fm_is M 26 26 a0 = true) (
  (f0 a0 M).bind fun M1 =>
  some M1) none
noncomputable def FX25_init_0 (a0 : Nat) (M : FM) : Option (FM) := BX25_init_0 FX24_init a0 M
noncomputable def FX25_init (a0 : Nat) (M : FM) : Option (FM) := FX25_init_0 a0 M
/-! BoardMachine$Disks$Writing.<init>()V -/
noncomputable def BX26_init_0 (f0 : Nat → FM → Option (FM)) (a0 : Nat) (M : FM) : Option (FM) :=
  fi (fm_is M 27 27 a0 = true) (
  (f0 a0 M).bind fun M1 =>
  some M1) none
noncomputable def FX26_init_0 (a0 : Nat) (M : FM) : Option (FM) := BX26_init_0 FX24_init a0 M
noncomputable def FX26_init (a0 : Nat) (M : FM) : Option (FM) := FX26_init_0 a0 M
/-! BoardMachine$Disks$Flushing.<init>()V -/
noncomputable def BX27_init_0 (f0 : Nat → FM → Option (FM)) (a0 : Nat) (M : FM) : Option (FM) :=
  fi (fm_is M 24 24 a0 = true) (
  (f0 a0 M).bind fun M1 =>
  some M1) none
noncomputable def FX27_init_0 (a0 : Nat) (M : FM) : Option (FM) := BX27_init_0 FX24_init a0 M
noncomputable def FX27_init (a0 : Nat) (M : FM) : Option (FM) := FX27_init_0 a0 M
/-! BoardMachine$Disks$Naming.<init>()V -/
noncomputable def BX28_init_0 (f0 : Nat → FM → Option (FM)) (a0 : Nat) (M : FM) : Option (FM) :=
  fi (fm_is M 25 25 a0 = true) (
  (f0 a0 M).bind fun M1 =>
  some M1) none
noncomputable def FX28_init_0 (a0 : Nat) (M : FM) : Option (FM) := BX28_init_0 FX24_init a0 M
noncomputable def FX28_init (a0 : Nat) (M : FM) : Option (FM) := FX28_init_0 a0 M
/-! BoardMachine$Disks$Device.<init>(LBoardMachine$Disks$Bytes;I)V -/
noncomputable def BX18_init_0 (f0 : Nat → FM → Option (FM)) (f1 : Nat → FM → Option (FM)) (f2 : Nat → Int32 → FM → Option (FM)) (f3 : Nat → FM → Option (FM)) (f4 : Nat → FM → Option (FM)) (f5 : Nat → FM → Option (FM)) (f6 : Nat → FM → Option (FM)) (a0 : Nat) (a1 : Nat) (a2 : Int32) (M : FM) : Option (FM) :=
  fi (a0 = 0) none (
  let x2 : Nat := fm_nx M
  let M1 : FM := fm_new M 28 7
  fi (fm_is M1 28 28 x2 = true) (
  (f0 x2 M1).bind fun M3 =>
  fi (fm_is M3 22 22 a0 = true) (
  let M4 : FM := fm_sR M3 60 a0 0 x2
  let x6 : Nat := fm_nx M4
  let M5 : FM := fm_new M4 29 7
  fi (fm_is M5 29 29 x6 = true) (
  (f1 x6 M5).bind fun M7 =>
  fi (fm_is M7 22 22 a0 = true) (
  let M8 : FM := fm_sR M7 61 a0 0 x6
  fi (¬ (Int32.ofInt 9) < 0 ∧ (Int32.ofInt 9).toNatClampNeg * 4 ≤ 536870912) (
  let x10 : Nat := fm_nx M8
  let M9 : FM := fm_newa M8 911 62 (Int32.ofInt 9).toNatClampNeg
  fi (fm_is M9 22 22 a0 = true) (
  let M11 : FM := fm_sR M9 62 a0 0 x10
  fi (fm_is M11 22 22 a0 = true) (
  let M12 : FM := fm_sR M11 58 a0 0 a1
  let x14 : Nat := fm_nx M12
  let M13 : FM := fm_new M12 23 3
  fi (fm_is M13 23 23 x14 = true) (
  (f2 x14 a2 M13).bind fun M15 =>
  fi (fm_is M15 22 22 a0 = true) (
  let M16 : FM := fm_sR M15 59 a0 0 x14
  fi (fm_is M16 22 22 a0 = true) (
  let x18 : Nat := fm_nx M16
  let M17 : FM := fm_new M16 26 0
  fi (fm_is M17 26 26 x18 = true) (
  (f3 x18 M17).bind fun M19 =>
  let x20 : Nat := (M16.2.2 62 a0 0)
  fi (fm_is M19 911 911 x20 = true ∧ fm_in M19 x20 (Int32.ofInt 0) = true) (
  fi (fm_is M19 24 27 x18 = true) (
  let M21 : FM := fm_sR M19 3 x20 (Int32.ofInt 0).toNatClampNeg x18
  fi (fm_is M21 22 22 a0 = true) (
  let x23 : Nat := fm_nx M21
  let M22 : FM := fm_new M21 27 0
  fi (fm_is M22 27 27 x23 = true) (
  (f4 x23 M22).bind fun M24 =>
  let x25 : Nat := (M21.2.2 62 a0 0)
  fi (fm_is M24 911 911 x25 = true ∧ fm_in M24 x25 (Int32.ofInt 1) = true) (
  fi (fm_is M24 24 27 x23 = true) (
  let M26 : FM := fm_sR M24 3 x25 (Int32.ofInt 1).toNatClampNeg x23
  fi (fm_is M26 22 22 a0 = true) (
  let x28 : Nat := fm_nx M26
  let M27 : FM := fm_new M26 24 0
  fi (fm_is M27 24 24 x28 = true) (
  (f5 x28 M27).bind fun M29 =>
  let x30 : Nat := (M26.2.2 62 a0 0)
  fi (fm_is M29 911 911 x30 = true ∧ fm_in M29 x30 (Int32.ofInt 4) = true) (
  fi (fm_is M29 24 27 x28 = true) (
  let M31 : FM := fm_sR M29 3 x30 (Int32.ofInt 4).toNatClampNeg x28
  fi (fm_is M31 22 22 a0 = true) (
  let x33 : Nat := fm_nx M31
  let M32 : FM := fm_new M31 25 0
  fi (fm_is M32 25 25 x33 = true) (
  (f6 x33 M32).bind fun M34 =>
  let x35 : Nat := (M31.2.2 62 a0 0)
  fi (fm_is M34 911 911 x35 = true ∧ fm_in M34 x35 (Int32.ofInt 8) = true) (
  fi (fm_is M34 24 27 x33 = true) (
  let M36 : FM := fm_sR M34 3 x35 (Int32.ofInt 8).toNatClampNeg x33
  some M36) none) none) none) none) none) none) none) none) none) none) none) none) none) none) none) none) none) none) none) none) none) none) none) none) none)
noncomputable def FX18_init_0 (a0 : Nat) (a1 : Nat) (a2 : Int32) (M : FM) : Option (FM) := BX18_init_0 FX20_init FX21_init FX23_init FX25_init FX26_init FX27_init FX28_init a0 a1 a2 M
noncomputable def FX18_init (a0 : Nat) (a1 : Nat) (a2 : Int32) (M : FM) : Option (FM) := FX18_init_0 a0 a1 a2 M
/-! BoardMachine$Signals$Serial.<init>()V -/
noncomputable def BX31_init_0 (a0 : Nat) (M : FM) : Option (FM) :=
  fi (a0 = 0) none (
  fi (¬ (Int32.ofInt 16) < 0 ∧ (Int32.ofInt 16).toNatClampNeg * 4 ≤ 536870912) (
  let x2 : Nat := fm_nx M
  let M1 : FM := fm_newa M 901 230 (Int32.ofInt 16).toNatClampNeg
  fi (fm_is M1 78 78 a0 = true) (
  let M3 : FM := fm_sR M1 230 a0 0 x2
  fi (¬ (Int32.ofInt 4096) < 0 ∧ (Int32.ofInt 4096).toNatClampNeg * 1 ≤ 536870912) (
  let x5 : Nat := fm_nx M3
  let M4 : FM := fm_newa M3 903 233 (Int32.ofInt 4096).toNatClampNeg
  fi (fm_is M4 78 78 a0 = true) (
  let M6 : FM := fm_sR M4 233 a0 0 x5
  fi (¬ (Int32.ofInt 10) < 0 ∧ (Int32.ofInt 10).toNatClampNeg * 4 ≤ 536870912) (
  let x8 : Nat := fm_nx M6
  let M7 : FM := fm_newa M6 901 235 (Int32.ofInt 10).toNatClampNeg
  fi (fm_is M7 78 78 a0 = true) (
  let M9 : FM := fm_sR M7 235 a0 0 x8
  some M9) none) none) none) none) none) none)
noncomputable def FX31_init_0 (a0 : Nat) (M : FM) : Option (FM) := BX31_init_0 a0 M
noncomputable def FX31_init (a0 : Nat) (M : FM) : Option (FM) := FX31_init_0 a0 M
/-! BoardMachine$Signals$Timer.<init>(I)V -/
noncomputable def BX32_init_0 (a0 : Nat) (a1 : Int32) (M : FM) : Option (FM) :=
  fi (a0 = 0) none (
  fi (¬ (Int32.ofInt 4) < 0 ∧ (Int32.ofInt 4).toNatClampNeg * 4 ≤ 536870912) (
  let x2 : Nat := fm_nx M
  let M1 : FM := fm_newa M 901 245 (Int32.ofInt 4).toNatClampNeg
  fi (fm_is M1 80 80 a0 = true) (
  let M3 : FM := fm_sR M1 245 a0 0 x2
  fi (¬ (Int32.ofInt 5) < 0 ∧ (Int32.ofInt 5).toNatClampNeg * 8 ≤ 536870912) (
  let x5 : Nat := fm_nx M3
  let M4 : FM := fm_newa M3 902 246 (Int32.ofInt 5).toNatClampNeg
  fi (fm_is M4 902 902 x5 = true ∧ fm_in M4 x5 (Int32.ofInt 0) = true) (
  let M6 : FM := fm_sL M4 3 x5 (Int32.ofInt 0).toNatClampNeg (Int64.ofInt (-1))
  fi (fm_is M6 902 902 x5 = true ∧ fm_in M6 x5 (Int32.ofInt 1) = true) (
  let M7 : FM := fm_sL M6 3 x5 (Int32.ofInt 1).toNatClampNeg (Int64.ofInt (-1))
  fi (fm_is M7 902 902 x5 = true ∧ fm_in M7 x5 (Int32.ofInt 2) = true) (
  let M8 : FM := fm_sL M7 3 x5 (Int32.ofInt 2).toNatClampNeg (Int64.ofInt (-1))
  fi (fm_is M8 902 902 x5 = true ∧ fm_in M8 x5 (Int32.ofInt 3) = true) (
  let M9 : FM := fm_sL M8 3 x5 (Int32.ofInt 3).toNatClampNeg (Int64.ofInt (-1))
  fi (fm_is M9 902 902 x5 = true ∧ fm_in M9 x5 (Int32.ofInt 4) = true) (
  let M10 : FM := fm_sL M9 3 x5 (Int32.ofInt 4).toNatClampNeg (Int64.ofInt 0)
  fi (fm_is M10 80 80 a0 = true) (
  let M11 : FM := fm_sR M10 246 a0 0 x5
  fi (fm_is M11 80 80 a0 = true) (
  let M12 : FM := fm_sI M11 244 a0 0 a1
  some M12) none) none) none) none) none) none) none) none) none) none)
noncomputable def FX32_init_0 (a0 : Nat) (a1 : Int32) (M : FM) : Option (FM) := BX32_init_0 a0 a1 M
noncomputable def FX32_init (a0 : Nat) (a1 : Int32) (M : FM) : Option (FM) := FX32_init_0 a0 a1 M
/-! BoardMachine$Signals$Controller.<init>(I)V -/
noncomputable def BX33_init_0 (a0 : Nat) (a1 : Int32) (M : FM) : Option (FM) :=
  fi (a0 = 0) none (
  fi (¬ (Int32.ofInt 32) < 0 ∧ (Int32.ofInt 32).toNatClampNeg * 4 ≤ 536870912) (
  let x2 : Nat := fm_nx M
  let M1 : FM := fm_newa M 901 224 (Int32.ofInt 32).toNatClampNeg
  fi (fm_is M1 77 77 a0 = true) (
  let M3 : FM := fm_sR M1 224 a0 0 x2
  fi (¬ (Int32.ofInt 8) < 0 ∧ (Int32.ofInt 8).toNatClampNeg * 4 ≤ 536870912) (
  let x5 : Nat := fm_nx M3
  let M4 : FM := fm_newa M3 901 225 (Int32.ofInt 8).toNatClampNeg
  fi (fm_is M4 77 77 a0 = true) (
  let M6 : FM := fm_sR M4 225 a0 0 x5
  fi (¬ (Int32.ofInt 8) < 0 ∧ (Int32.ofInt 8).toNatClampNeg * 4 ≤ 536870912) (
  let x8 : Nat := fm_nx M6
  let M7 : FM := fm_newa M6 901 226 (Int32.ofInt 8).toNatClampNeg
  fi (fm_is M7 77 77 a0 = true) (
  let M9 : FM := fm_sR M7 226 a0 0 x8
  fi (fm_is M9 77 77 a0 = true) (
  let M10 : FM := fm_sI M9 223 a0 0 ((Int32.ofInt 2) * a1)
  some M10) none) none) none) none) none) none) none)
noncomputable def FX33_init_0 (a0 : Nat) (a1 : Int32) (M : FM) : Option (FM) := BX33_init_0 a0 a1 M
noncomputable def FX33_init (a0 : Nat) (a1 : Int32) (M : FM) : Option (FM) := FX33_init_0 a0 a1 M
/-! BoardMachine$Signals$SignalUnit.<init>(I)V -/
noncomputable def BX30_init_0 (f0 : Nat → FM → Option (FM)) (f1 : Nat → Int32 → FM → Option (FM)) (f2 : Nat → Int32 → FM → Option (FM)) (a0 : Nat) (a1 : Int32) (M : FM) : Option (FM) :=
  fi (a0 = 0) none (
  let x2 : Nat := fm_nx M
  let M1 : FM := fm_new M 78 9
  fi (fm_is M1 78 78 x2 = true) (
  (f0 x2 M1).bind fun M3 =>
  fi (fm_is M3 79 79 a0 = true) (
  let M4 : FM := fm_sR M3 242 a0 0 x2
  fi (¬ (Int32.ofInt 3) < 0 ∧ (Int32.ofInt 3).toNatClampNeg * 4 ≤ 536870912) (
  let x6 : Nat := fm_nx M4
  let M5 : FM := fm_newa M4 923 243 (Int32.ofInt 3).toNatClampNeg
  fi (fm_is M5 79 79 a0 = true) (
  let M7 : FM := fm_sR M5 243 a0 0 x6
  fi (fm_is M7 79 79 a0 = true) (
  let M8 : FM := fm_sI M7 239 a0 0 a1
  let x10 : Nat := fm_nx M8
  let M9 : FM := fm_new M8 80 3
  fi (fm_is M9 80 80 x10 = true) (
  (f1 x10 a1 M9).bind fun M11 =>
  fi (fm_is M11 79 79 a0 = true) (
  let M12 : FM := fm_sR M11 240 a0 0 x10
  let x14 : Nat := fm_nx M12
  let M13 : FM := fm_new M12 77 7
  fi (fm_is M13 77 77 x14 = true) (
  (f2 x14 a1 M13).bind fun M15 =>
  fi (fm_is M15 79 79 a0 = true) (
  let M16 : FM := fm_sR M15 241 a0 0 x14
  fi (fm_is M16 79 79 a0 = true) (
  fi (fm_is M16 79 79 a0 = true) (
  let x17 : Nat := (M16.2.2 240 a0 0)
  let x18 : Nat := (M16.2.2 243 a0 0)
  fi (fm_is M16 923 923 x18 = true ∧ fm_in M16 x18 (Int32.ofInt 0) = true) (
  fi (fm_is M16 80 80 x17 = true) (
  let M19 : FM := fm_sR M16 3 x18 (Int32.ofInt 0).toNatClampNeg x17
  fi (fm_is M19 79 79 a0 = true) (
  fi (fm_is M19 79 79 a0 = true) (
  let x20 : Nat := (M19.2.2 241 a0 0)
  let x21 : Nat := (M19.2.2 243 a0 0)
  fi (fm_is M19 923 923 x21 = true ∧ fm_in M19 x21 (Int32.ofInt 1) = true) (
  fi (fm_is M19 77 77 x20 = true) (
  let M22 : FM := fm_sR M19 3 x21 (Int32.ofInt 1).toNatClampNeg x20
  fi (fm_is M22 79 79 a0 = true) (
  fi (fm_is M22 79 79 a0 = true) (
  let x23 : Nat := (M22.2.2 242 a0 0)
  let x24 : Nat := (M22.2.2 243 a0 0)
  fi (fm_is M22 923 923 x24 = true ∧ fm_in M22 x24 (Int32.ofInt 2) = true) (
  fi (fm_is M22 78 78 x23 = true) (
  let M25 : FM := fm_sR M22 3 x24 (Int32.ofInt 2).toNatClampNeg x23
  some M25) none) none) none) none) none) none) none) none) none) none) none) none) none) none) none) none) none) none) none) none) none)
noncomputable def FX30_init_0 (a0 : Nat) (a1 : Int32) (M : FM) : Option (FM) := BX30_init_0 FX31_init FX32_init FX33_init a0 a1 M
noncomputable def FX30_init (a0 : Nat) (a1 : Int32) (M : FM) : Option (FM) := FX30_init_0 a0 a1 M
/-! BoardMachine$Board.<init>(I)V -/
noncomputable def BX10_init_0 (f0 : Nat → Int32 → FM → Option (FM)) (f1 : Nat → Nat → FM → Option (FM)) (f2 : Nat → Nat → Int32 → FM → Option (FM)) (f3 : FM → Option (Nat × FM)) (f4 : Nat → Int32 → FM → Option (FM)) (a0 : Nat) (a1 : Int32) (M : FM) : Option (FM) :=
  fi (a0 = 0) none (
  let x2 : Nat := fm_nx M
  let M1 : FM := fm_new M 73 5
  fi (fm_is M1 73 73 x2 = true) (
  (f0 x2 (Int32.ofInt 1024) M1).bind fun M3 =>
  fi (fm_is M3 11 11 a0 = true) (
  let M4 : FM := fm_sR M3 18 a0 0 x2
  let x6 : Nat := fm_nx M4
  let M5 : FM := fm_new M4 22 10
  let x8 : Nat := fm_nx M5
  let M7 : FM := fm_new M5 76 1
  fi (fm_is M7 11 11 a0 = true) (
  fi (fm_is M7 76 76 x8 = true) (
  (f1 x8 (M7.2.2 18 a0 0) M7).bind fun M9 =>
  fi (fm_is M9 22 22 x6 = true) (
  (f2 x6 x8 (Int32.ofInt 2048) M9).bind fun M10 =>
  fi (fm_is M10 11 11 a0 = true) (
  let M11 : FM := fm_sR M10 20 a0 0 x6
  (f3  M11).bind fun r12 =>
  fi (fm_is r12.2 11 11 a0 = true) (
  let M13 : FM := fm_sR r12.2 21 a0 0 r12.1
  fi (fm_is M13 11 11 a0 = true) (
  let M14 : FM := fm_sI M13 23 a0 0 (Int32.ofInt (-1))
  let x16 : Nat := fm_nx M14
  let M15 : FM := fm_new M14 79 5
  fi (fm_is M15 79 79 x16 = true) (
  (f4 x16 a1 M15).bind fun M17 =>
  fi (fm_is M17 11 11 a0 = true) (
  let M18 : FM := fm_sR M17 19 a0 0 x16
  some M18) none) none) none) none) none) none) none) none) none) none)
noncomputable def FX10_init_0 (n : Nat) (a0 : Nat) (a1 : Int32) (M : FM) : Option (FM) := BX10_init_0 (FX11_init n) FX19_init FX18_init Fh_values_6 FX30_init a0 a1 M
noncomputable def FX10_init (n : Nat) (a0 : Nat) (a1 : Int32) (M : FM) : Option (FM) := FX10_init_0 n a0 a1 M
/-! BoardMachine$Halves$Layout.<init>([II)V -/
noncomputable def BX35_init_0 (a0 : Nat) (a1 : Nat) (a2 : Int32) (M : FM) : Option (FM) :=
  fi (a0 = 0) none (
  fi (fm_is M 42 42 a0 = true) (
  let M1 : FM := fm_sR M 125 a0 0 a1
  fi (fm_is M1 42 42 a0 = true) (
  let M2 : FM := fm_sI M1 126 a0 0 a2
  some M2) none) none)
noncomputable def FX35_init_0 (a0 : Nat) (a1 : Nat) (a2 : Int32) (M : FM) : Option (FM) := BX35_init_0 a0 a1 a2 M
noncomputable def FX35_init (a0 : Nat) (a1 : Nat) (a2 : Int32) (M : FM) : Option (FM) := FX35_init_0 a0 a1 a2 M
/-! BoardMachine$Halves$Line.<init>(IILBoardMachine$Halves$Layout;)V -/
noncomputable def BX36_init_0 (a0 : Nat) (a1 : Int32) (a2 : Int32) (a3 : Nat) (M : FM) : Option (FM) :=
  fi (a0 = 0) none (
  fi (fm_is M 43 51 a0 = true) (
  let M1 : FM := fm_sI M 128 a0 0 a1
  fi (fm_is M1 43 51 a0 = true) (
  let M2 : FM := fm_sI M1 127 a0 0 a2
  fi (fm_is M2 43 51 a0 = true) (
  let M3 : FM := fm_sR M2 129 a0 0 a3
  some M3) none) none) none)
noncomputable def FX36_init_0 (a0 : Nat) (a1 : Int32) (a2 : Int32) (a3 : Nat) (M : FM) : Option (FM) := BX36_init_0 a0 a1 a2 a3 M
noncomputable def FX36_init (a0 : Nat) (a1 : Int32) (a2 : Int32) (a3 : Nat) (M : FM) : Option (FM) := FX36_init_0 a0 a1 a2 a3 M
/-! BoardMachine$Halves$StackPlace.<init>(LBoardMachine$Halves$Layout;)V -/
noncomputable def BX37_init_0 (f0 : Nat → Int32 → Int32 → Nat → FM → Option (FM)) (a0 : Nat) (a1 : Nat) (M : FM) : Option (FM) :=
  fi (fm_is M 50 50 a0 = true) (
  (f0 a0 (Int32.ofInt 0) (Int32.ofInt 0) a1 M).bind fun M1 =>
  some M1) none
noncomputable def FX37_init_0 (a0 : Nat) (a1 : Nat) (M : FM) : Option (FM) := BX37_init_0 FX36_init a0 a1 M
noncomputable def FX37_init (a0 : Nat) (a1 : Nat) (M : FM) : Option (FM) := FX37_init_0 a0 a1 M
/-! BoardMachine$Halves$ShortUnit.lay(LBoardMachine$Halves$Line;)V -/
noncomputable def BX34_lay_0 (a0 : Nat) (a1 : Nat) (M : FM) : Option (FM) :=
  fi (fm_is M 52 52 a0 = true) (
  fi (fm_is M 43 51 a1 = true) (
  fi (fm_is M 43 51 a1 = true) (
  let x1 : Int32 := (((Int32.ofInt 8) * (M.1 127 a1 0)) + (M.1 128 a1 0))
  let x2 : Nat := (M.2.2 142 a0 0)
  fi (fm_is M 916 916 x2 = true ∧ fm_in M x2 x1 = true) (
  fi (fm_is M 43 51 a1 = true) (
  let M3 : FM := fm_sR M 3 x2 x1.toNatClampNeg a1
  some M3) none) none) none) none) none
noncomputable def FX34_lay_0 (a0 : Nat) (a1 : Nat) (M : FM) : Option (FM) := BX34_lay_0 a0 a1 M
noncomputable def FX34_lay (a0 : Nat) (a1 : Nat) (M : FM) : Option (FM) := FX34_lay_0 a0 a1 M
/-! BoardMachine$Halves$Access.<init>(ILBoardMachine$Halves$Layout;IIZ)V -/
noncomputable def BX38_init_0 (f0 : Nat → Int32 → Int32 → Nat → FM → Option (FM)) (a0 : Nat) (a1 : Int32) (a2 : Nat) (a3 : Int32) (a4 : Int32) (a5 : Int32) (M : FM) : Option (FM) :=
  fi (fm_is M 43 43 a0 = true) (
  (f0 a0 a1 (Int32.ofInt 0) a2 M).bind fun M1 =>
  fi (fm_is M1 43 43 a0 = true) (
  let M2 : FM := fm_sI M1 130 a0 0 a3
  fi (fm_is M2 43 43 a0 = true) (
  let M3 : FM := fm_sI M2 131 a0 0 a4
  fi (fm_is M3 43 43 a0 = true) (
  fi (a5 = 0 ∨ a5 = 1) (
  let M4 : FM := fm_sI M3 132 a0 0 a5
  some M4) none) none) none) none) none
noncomputable def FX38_init_0 (a0 : Nat) (a1 : Int32) (a2 : Nat) (a3 : Int32) (a4 : Int32) (a5 : Int32) (M : FM) : Option (FM) := BX38_init_0 FX36_init a0 a1 a2 a3 a4 a5 M
noncomputable def FX38_init (a0 : Nat) (a1 : Int32) (a2 : Nat) (a3 : Int32) (a4 : Int32) (a5 : Int32) (M : FM) : Option (FM) := FX38_init_0 a0 a1 a2 a3 a4 a5 M
/-! BoardMachine$Halves$Immediate.<init>(IILBoardMachine$Halves$Layout;IIZ)V -/
noncomputable def BX39_init_0 (f0 : Nat → Int32 → Int32 → Nat → FM → Option (FM)) (a0 : Nat) (a1 : Int32) (a2 : Int32) (a3 : Nat) (a4 : Int32) (a5 : Int32) (a6 : Int32) (M : FM) : Option (FM) :=
  fi (fm_is M 45 45 a0 = true) (
  (f0 a0 a1 a2 a3 M).bind fun M1 =>
  fi (fm_is M1 45 45 a0 = true) (
  let M2 : FM := fm_sI M1 133 a0 0 a4
  fi (fm_is M2 45 45 a0 = true) (
  let M3 : FM := fm_sI M2 134 a0 0 a5
  fi (fm_is M3 45 45 a0 = true) (
  fi (a6 = 0 ∨ a6 = 1) (
  let M4 : FM := fm_sI M3 135 a0 0 a6
  some M4) none) none) none) none) none
noncomputable def FX39_init_0 (a0 : Nat) (a1 : Int32) (a2 : Int32) (a3 : Nat) (a4 : Int32) (a5 : Int32) (a6 : Int32) (M : FM) : Option (FM) := BX39_init_0 FX36_init a0 a1 a2 a3 a4 a5 a6 M
noncomputable def FX39_init (a0 : Nat) (a1 : Int32) (a2 : Int32) (a3 : Nat) (a4 : Int32) (a5 : Int32) (a6 : Int32) (M : FM) : Option (FM) := FX39_init_0 a0 a1 a2 a3 a4 a5 a6 M
/-! BoardMachine$Halves$StackOrUpper.<init>(LBoardMachine$Halves$Layout;LBoardMachine$Halves$Layout;)V -/
noncomputable def BX40_init_0 (f0 : Nat → Int32 → Int32 → Nat → FM → Option (FM)) (a0 : Nat) (a1 : Nat) (a2 : Nat) (M : FM) : Option (FM) :=
  fi (fm_is M 49 49 a0 = true) (
  (f0 a0 (Int32.ofInt 3) (Int32.ofInt 1) a1 M).bind fun M1 =>
  fi (fm_is M1 49 49 a0 = true) (
  let M2 : FM := fm_sR M1 141 a0 0 a2
  some M2) none) none
noncomputable def FX40_init_0 (a0 : Nat) (a1 : Nat) (a2 : Nat) (M : FM) : Option (FM) := BX40_init_0 FX36_init a0 a1 a2 M
noncomputable def FX40_init (a0 : Nat) (a1 : Nat) (a2 : Nat) (M : FM) : Option (FM) := FX40_init_0 a0 a1 a2 M
/-! BoardMachine$Halves$Reckoning.<init>(LBoardMachine$Halves$Layout;LBoardMachine$Halves$Layout;)V -/
noncomputable def BX41_init_0 (f0 : Nat → Int32 → Int32 → Nat → FM → Option (FM)) (a0 : Nat) (a1 : Nat) (a2 : Nat) (M : FM) : Option (FM) :=
  fi (fm_is M 47 47 a0 = true) (
  (f0 a0 (Int32.ofInt 4) (Int32.ofInt 1) a1 M).bind fun M1 =>
  fi (¬ (Int32.ofInt 18) < 0 ∧ (Int32.ofInt 18).toNatClampNeg * 4 ≤ 536870912) (
  let x3 : Nat := fm_nx M1
  let M2 : FM := fm_newa M1 901 136 (Int32.ofInt 18).toNatClampNeg
  fi (fm_is M2 901 901 x3 = true ∧ fm_in M2 x3 (Int32.ofInt 0) = true) (
  let M4 : FM := fm_sI M2 3 x3 (Int32.ofInt 0).toNatClampNeg (Int32.ofInt 51)
  fi (fm_is M4 901 901 x3 = true ∧ fm_in M4 x3 (Int32.ofInt 1) = true) (
  let M5 : FM := fm_sI M4 3 x3 (Int32.ofInt 1).toNatClampNeg (Int32.ofInt 0)
  fi (fm_is M5 901 901 x3 = true ∧ fm_in M5 x3 (Int32.ofInt 2) = true) (
  let M6 : FM := fm_sI M5 3 x3 (Int32.ofInt 2).toNatClampNeg (Int32.ofInt 32)
  fi (fm_is M6 901 901 x3 = true ∧ fm_in M6 x3 (Int32.ofInt 3) = true) (
  let M7 : FM := fm_sI M6 3 x3 (Int32.ofInt 3).toNatClampNeg (Int32.ofInt 51)
  fi (fm_is M7 901 901 x3 = true ∧ fm_in M7 x3 (Int32.ofInt 4) = true) (
  let M8 : FM := fm_sI M7 3 x3 (Int32.ofInt 4).toNatClampNeg (Int32.ofInt 4)
  fi (fm_is M8 901 901 x3 = true ∧ fm_in M8 x3 (Int32.ofInt 5) = true) (
  let M9 : FM := fm_sI M8 3 x3 (Int32.ofInt 5).toNatClampNeg (Int32.ofInt 0)
  fi (fm_is M9 901 901 x3 = true ∧ fm_in M9 x3 (Int32.ofInt 6) = true) (
  let M10 : FM := fm_sI M9 3 x3 (Int32.ofInt 6).toNatClampNeg (Int32.ofInt 51)
  fi (fm_is M10 901 901 x3 = true ∧ fm_in M10 x3 (Int32.ofInt 7) = true) (
  let M11 : FM := fm_sI M10 3 x3 (Int32.ofInt 7).toNatClampNeg (Int32.ofInt 6)
  fi (fm_is M11 901 901 x3 = true ∧ fm_in M11 x3 (Int32.ofInt 8) = true) (
  let M12 : FM := fm_sI M11 3 x3 (Int32.ofInt 8).toNatClampNeg (Int32.ofInt 0)
  fi (fm_is M12 901 901 x3 = true ∧ fm_in M12 x3 (Int32.ofInt 9) = true) (
  let M13 : FM := fm_sI M12 3 x3 (Int32.ofInt 9).toNatClampNeg (Int32.ofInt 51)
  fi (fm_is M13 901 901 x3 = true ∧ fm_in M13 x3 (Int32.ofInt 10) = true) (
  let M14 : FM := fm_sI M13 3 x3 (Int32.ofInt 10).toNatClampNeg (Int32.ofInt 7)
  fi (fm_is M14 901 901 x3 = true ∧ fm_in M14 x3 (Int32.ofInt 11) = true) (
  let M15 : FM := fm_sI M14 3 x3 (Int32.ofInt 11).toNatClampNeg (Int32.ofInt 0)
  fi (fm_is M15 901 901 x3 = true ∧ fm_in M15 x3 (Int32.ofInt 12) = true) (
  let M16 : FM := fm_sI M15 3 x3 (Int32.ofInt 12).toNatClampNeg (Int32.ofInt 59)
  fi (fm_is M16 901 901 x3 = true ∧ fm_in M16 x3 (Int32.ofInt 13) = true) (
  let M17 : FM := fm_sI M16 3 x3 (Int32.ofInt 13).toNatClampNeg (Int32.ofInt 0)
  fi (fm_is M17 901 901 x3 = true ∧ fm_in M17 x3 (Int32.ofInt 14) = true) (
  let M18 : FM := fm_sI M17 3 x3 (Int32.ofInt 14).toNatClampNeg (Int32.ofInt 32)
  fi (fm_is M18 901 901 x3 = true ∧ fm_in M18 x3 (Int32.ofInt 15) = true) (
  let M19 : FM := fm_sI M18 3 x3 (Int32.ofInt 15).toNatClampNeg (Int32.ofInt 59)
  fi (fm_is M19 901 901 x3 = true ∧ fm_in M19 x3 (Int32.ofInt 16) = true) (
  let M20 : FM := fm_sI M19 3 x3 (Int32.ofInt 16).toNatClampNeg (Int32.ofInt 0)
  fi (fm_is M20 901 901 x3 = true ∧ fm_in M20 x3 (Int32.ofInt 17) = true) (
  let M21 : FM := fm_sI M20 3 x3 (Int32.ofInt 17).toNatClampNeg (Int32.ofInt 0)
  fi (fm_is M21 47 47 a0 = true) (
  let M22 : FM := fm_sR M21 136 a0 0 x3
  fi (fm_is M22 47 47 a0 = true) (
  let M23 : FM := fm_sR M22 137 a0 0 a2
  some M23) none) none) none) none) none) none) none) none) none) none) none) none) none) none) none) none) none) none) none) none) none) none
noncomputable def FX41_init_0 (a0 : Nat) (a1 : Nat) (a2 : Nat) (M : FM) : Option (FM) := BX41_init_0 FX36_init a0 a1 a2 M
noncomputable def FX41_init (a0 : Nat) (a1 : Nat) (a2 : Nat) (M : FM) : Option (FM) := FX41_init_0 a0 a1 a2 M
/-! BoardMachine$Halves$Jump.<init>(LBoardMachine$Halves$Layout;)V -/
noncomputable def BX42_init_0 (f0 : Nat → Int32 → Int32 → Nat → FM → Option (FM)) (a0 : Nat) (a1 : Nat) (M : FM) : Option (FM) :=
  fi (fm_is M 46 46 a0 = true) (
  (f0 a0 (Int32.ofInt 5) (Int32.ofInt 1) a1 M).bind fun M1 =>
  some M1) none
noncomputable def FX42_init_0 (a0 : Nat) (a1 : Nat) (M : FM) : Option (FM) := BX42_init_0 FX36_init a0 a1 M
noncomputable def FX42_init (a0 : Nat) (a1 : Nat) (M : FM) : Option (FM) := FX42_init_0 a0 a1 M
/-! BoardMachine$Halves$Branch.<init>(ILBoardMachine$Halves$Layout;)V -/
noncomputable def BX43_init_0 (f0 : Nat → Int32 → Int32 → Nat → FM → Option (FM)) (a0 : Nat) (a1 : Int32) (a2 : Nat) (M : FM) : Option (FM) :=
  fi (fm_is M 44 44 a0 = true) (
  (f0 a0 a1 (Int32.ofInt 1) a2 M).bind fun M1 =>
  some M1) none
noncomputable def FX43_init_0 (a0 : Nat) (a1 : Int32) (a2 : Nat) (M : FM) : Option (FM) := BX43_init_0 FX36_init a0 a1 a2 M
noncomputable def FX43_init (a0 : Nat) (a1 : Int32) (a2 : Nat) (M : FM) : Option (FM) := FX43_init_0 a0 a1 a2 M
/-! BoardMachine$Halves$StackAccess.<init>(ILBoardMachine$Halves$Layout;IIZ)V -/
noncomputable def BX44_init_0 (f0 : Nat → Int32 → Int32 → Nat → FM → Option (FM)) (a0 : Nat) (a1 : Int32) (a2 : Nat) (a3 : Int32) (a4 : Int32) (a5 : Int32) (M : FM) : Option (FM) :=
  fi (fm_is M 48 48 a0 = true) (
  (f0 a0 a1 (Int32.ofInt 2) a2 M).bind fun M1 =>
  fi (fm_is M1 48 48 a0 = true) (
  let M2 : FM := fm_sI M1 138 a0 0 a3
  fi (fm_is M2 48 48 a0 = true) (
  let M3 : FM := fm_sI M2 139 a0 0 a4
  fi (fm_is M3 48 48 a0 = true) (
  fi (a5 = 0 ∨ a5 = 1) (
  let M4 : FM := fm_sI M3 140 a0 0 a5
  some M4) none) none) none) none) none
noncomputable def FX44_init_0 (a0 : Nat) (a1 : Int32) (a2 : Nat) (a3 : Int32) (a4 : Int32) (a5 : Int32) (M : FM) : Option (FM) := BX44_init_0 FX36_init a0 a1 a2 a3 a4 a5 M
noncomputable def FX44_init (a0 : Nat) (a1 : Int32) (a2 : Nat) (a3 : Int32) (a4 : Int32) (a5 : Int32) (M : FM) : Option (FM) := FX44_init_0 a0 a1 a2 a3 a4 a5 M
/-! BoardMachine$Halves$Whole.<init>()V -/
noncomputable def BX45_init_0 (f0 : Nat → Int32 → Int32 → Nat → FM → Option (FM)) (a0 : Nat) (M : FM) : Option (FM) :=
  fi (fm_is M 51 51 a0 = true) (
  (f0 a0 (Int32.ofInt 4) (Int32.ofInt 2) 0 M).bind fun M1 =>
  some M1) none
noncomputable def FX45_init_0 (a0 : Nat) (M : FM) : Option (FM) := BX45_init_0 FX36_init a0 M
noncomputable def FX45_init (a0 : Nat) (M : FM) : Option (FM) := FX45_init_0 a0 M
/-! BoardMachine$Halves$ShortUnit.<init>()V -/
noncomputable def BX34_init_0 (f0 : Nat → Nat → Int32 → FM → Option (FM)) (f1 : Nat → Nat → FM → Option (FM)) (f2 : Nat → Nat → FM → Option (FM)) (f3 : Nat → Int32 → Nat → Int32 → Int32 → Int32 → FM → Option (FM)) (f4 : Nat → Int32 → Int32 → Nat → Int32 → Int32 → Int32 → FM → Option (FM)) (f5 : Nat → Nat → Nat → FM → Option (FM)) (f6 : Nat → Nat → Nat → FM → Option (FM)) (f7 : Nat → Nat → FM → Option (FM)) (f8 : Nat → Int32 → Nat → FM → Option (FM)) (f9 : Nat → Int32 → Nat → Int32 → Int32 → Int32 → FM → Option (FM)) (f10 : Nat → FM → Option (FM)) (a0 : Nat) (M : FM) : Option (FM) :=
  fi (a0 = 0) none (
  fi (¬ (Int32.ofInt 24) < 0 ∧ (Int32.ofInt 24).toNatClampNeg * 4 ≤ 536870912) (
  let x2 : Nat := fm_nx M
  let M1 : FM := fm_newa M 916 142 (Int32.ofInt 24).toNatClampNeg
  fi (fm_is M1 52 52 a0 = true) (
  let M3 : FM := fm_sR M1 142 a0 0 x2
  fi (fm_is M3 52 52 a0 = true) (
  let M4 : FM := fm_sI M3 143 a0 0 (Int32.ofInt (-1))
  let x6 : Nat := fm_nx M4
  let M5 : FM := fm_new M4 42 2
  fi (¬ (Int32.ofInt 6) < 0 ∧ (Int32.ofInt 6).toNatClampNeg * 4 ≤ 536870912) (
  let x8 : Nat := fm_nx M5
  let M7 : FM := fm_newa M5 901 125 (Int32.ofInt 6).toNatClampNeg
  fi (fm_is M7 901 901 x8 = true ∧ fm_in M7 x8 (Int32.ofInt 0) = true) (
  let M9 : FM := fm_sI M7 3 x8 (Int32.ofInt 0).toNatClampNeg (Int32.ofInt 12)
  fi (fm_is M9 901 901 x8 = true ∧ fm_in M9 x8 (Int32.ofInt 1) = true) (
  let M10 : FM := fm_sI M9 3 x8 (Int32.ofInt 1).toNatClampNeg (Int32.ofInt 5)
  fi (fm_is M10 901 901 x8 = true ∧ fm_in M10 x8 (Int32.ofInt 2) = true) (
  let M11 : FM := fm_sI M10 3 x8 (Int32.ofInt 2).toNatClampNeg (Int32.ofInt 1)
  fi (fm_is M11 901 901 x8 = true ∧ fm_in M11 x8 (Int32.ofInt 3) = true) (
  let M12 : FM := fm_sI M11 3 x8 (Int32.ofInt 3).toNatClampNeg (Int32.ofInt 2)
  fi (fm_is M12 901 901 x8 = true ∧ fm_in M12 x8 (Int32.ofInt 4) = true) (
  let M13 : FM := fm_sI M12 3 x8 (Int32.ofInt 4).toNatClampNeg (Int32.ofInt 0)
  fi (fm_is M13 901 901 x8 = true ∧ fm_in M13 x8 (Int32.ofInt 5) = true) (
  let M14 : FM := fm_sI M13 3 x8 (Int32.ofInt 5).toNatClampNeg (Int32.ofInt 5)
  fi (fm_is M14 42 42 x6 = true) (
  (f0 x6 x8 (Int32.ofInt 5) M14).bind fun M15 =>
  let x17 : Nat := fm_nx M15
  let M16 : FM := fm_new M15 42 2
  fi (¬ (Int32.ofInt 6) < 0 ∧ (Int32.ofInt 6).toNatClampNeg * 4 ≤ 536870912) (
  let x19 : Nat := fm_nx M16
  let M18 : FM := fm_newa M16 901 125 (Int32.ofInt 6).toNatClampNeg
  fi (fm_is M18 901 901 x19 = true ∧ fm_in M18 x19 (Int32.ofInt 0) = true) (
  let M20 : FM := fm_sI M18 3 x19 (Int32.ofInt 0).toNatClampNeg (Int32.ofInt 12)
  fi (fm_is M20 901 901 x19 = true ∧ fm_in M20 x19 (Int32.ofInt 1) = true) (
  let M21 : FM := fm_sI M20 3 x19 (Int32.ofInt 1).toNatClampNeg (Int32.ofInt 5)
  fi (fm_is M21 901 901 x19 = true ∧ fm_in M21 x19 (Int32.ofInt 2) = true) (
  let M22 : FM := fm_sI M21 3 x19 (Int32.ofInt 2).toNatClampNeg (Int32.ofInt 1)
  fi (fm_is M22 901 901 x19 = true ∧ fm_in M22 x19 (Int32.ofInt 3) = true) (
  let M23 : FM := fm_sI M22 3 x19 (Int32.ofInt 3).toNatClampNeg (Int32.ofInt 2)
  fi (fm_is M23 901 901 x19 = true ∧ fm_in M23 x19 (Int32.ofInt 4) = true) (
  let M24 : FM := fm_sI M23 3 x19 (Int32.ofInt 4).toNatClampNeg (Int32.ofInt 0)
  fi (fm_is M24 901 901 x19 = true ∧ fm_in M24 x19 (Int32.ofInt 5) = true) (
  let M25 : FM := fm_sI M24 3 x19 (Int32.ofInt 5).toNatClampNeg (Int32.ofInt 5)
  fi (fm_is M25 42 42 x17 = true) (
  (f0 x17 x19 (Int32.ofInt 0) M25).bind fun M26 =>
  let x28 : Nat := fm_nx M26
  let M27 : FM := fm_new M26 42 2
  fi (¬ (Int32.ofInt 6) < 0 ∧ (Int32.ofInt 6).toNatClampNeg * 4 ≤ 536870912) (
  let x30 : Nat := fm_nx M27
  let M29 : FM := fm_newa M27 901 125 (Int32.ofInt 6).toNatClampNeg
  fi (fm_is M29 901 901 x30 = true ∧ fm_in M29 x30 (Int32.ofInt 0) = true) (
  let M31 : FM := fm_sI M29 3 x30 (Int32.ofInt 0).toNatClampNeg (Int32.ofInt 5)
  fi (fm_is M31 901 901 x30 = true ∧ fm_in M31 x30 (Int32.ofInt 1) = true) (
  let M32 : FM := fm_sI M31 3 x30 (Int32.ofInt 1).toNatClampNeg (Int32.ofInt 6)
  fi (fm_is M32 901 901 x30 = true ∧ fm_in M32 x30 (Int32.ofInt 2) = true) (
  let M33 : FM := fm_sI M32 3 x30 (Int32.ofInt 2).toNatClampNeg (Int32.ofInt 2)
  fi (fm_is M33 901 901 x30 = true ∧ fm_in M33 x30 (Int32.ofInt 3) = true) (
  let M34 : FM := fm_sI M33 3 x30 (Int32.ofInt 3).toNatClampNeg (Int32.ofInt 10)
  fi (fm_is M34 901 901 x30 = true ∧ fm_in M34 x30 (Int32.ofInt 4) = true) (
  let M35 : FM := fm_sI M34 3 x30 (Int32.ofInt 4).toNatClampNeg (Int32.ofInt 3)
  fi (fm_is M35 901 901 x30 = true ∧ fm_in M35 x30 (Int32.ofInt 5) = true) (
  let M36 : FM := fm_sI M35 3 x30 (Int32.ofInt 5).toNatClampNeg (Int32.ofInt 3)
  fi (fm_is M36 42 42 x28 = true) (
  (f0 x28 x30 (Int32.ofInt 0) M36).bind fun M37 =>
  let x39 : Nat := fm_nx M37
  let M38 : FM := fm_new M37 42 2
  fi (¬ (Int32.ofInt 9) < 0 ∧ (Int32.ofInt 9).toNatClampNeg * 4 ≤ 536870912) (
  let x41 : Nat := fm_nx M38
  let M40 : FM := fm_newa M38 901 125 (Int32.ofInt 9).toNatClampNeg
  fi (fm_is M40 901 901 x41 = true ∧ fm_in M40 x41 (Int32.ofInt 0) = true) (
  let M42 : FM := fm_sI M40 3 x41 (Int32.ofInt 0).toNatClampNeg (Int32.ofInt 5)
  fi (fm_is M42 901 901 x41 = true ∧ fm_in M42 x41 (Int32.ofInt 1) = true) (
  let M43 : FM := fm_sI M42 3 x41 (Int32.ofInt 1).toNatClampNeg (Int32.ofInt 6)
  fi (fm_is M43 901 901 x41 = true ∧ fm_in M43 x41 (Int32.ofInt 2) = true) (
  let M44 : FM := fm_sI M43 3 x41 (Int32.ofInt 2).toNatClampNeg (Int32.ofInt 1)
  fi (fm_is M44 901 901 x41 = true ∧ fm_in M44 x41 (Int32.ofInt 3) = true) (
  let M45 : FM := fm_sI M44 3 x41 (Int32.ofInt 3).toNatClampNeg (Int32.ofInt 10)
  fi (fm_is M45 901 901 x41 = true ∧ fm_in M45 x41 (Int32.ofInt 4) = true) (
  let M46 : FM := fm_sI M45 3 x41 (Int32.ofInt 4).toNatClampNeg (Int32.ofInt 3)
  fi (fm_is M46 901 901 x41 = true ∧ fm_in M46 x41 (Int32.ofInt 5) = true) (
  let M47 : FM := fm_sI M46 3 x41 (Int32.ofInt 5).toNatClampNeg (Int32.ofInt 3)
  fi (fm_is M47 901 901 x41 = true ∧ fm_in M47 x41 (Int32.ofInt 6) = true) (
  let M48 : FM := fm_sI M47 3 x41 (Int32.ofInt 6).toNatClampNeg (Int32.ofInt 6)
  fi (fm_is M48 901 901 x41 = true ∧ fm_in M48 x41 (Int32.ofInt 7) = true) (
  let M49 : FM := fm_sI M48 3 x41 (Int32.ofInt 7).toNatClampNeg (Int32.ofInt 2)
  fi (fm_is M49 901 901 x41 = true ∧ fm_in M49 x41 (Int32.ofInt 8) = true) (
  let M50 : FM := fm_sI M49 3 x41 (Int32.ofInt 8).toNatClampNeg (Int32.ofInt 1)
  fi (fm_is M50 42 42 x39 = true) (
  (f0 x39 x41 (Int32.ofInt 0) M50).bind fun M51 =>
  let x53 : Nat := fm_nx M51
  let M52 : FM := fm_new M51 42 2
  fi (¬ (Int32.ofInt 9) < 0 ∧ (Int32.ofInt 9).toNatClampNeg * 4 ≤ 536870912) (
  let x55 : Nat := fm_nx M52
  let M54 : FM := fm_newa M52 901 125 (Int32.ofInt 9).toNatClampNeg
  fi (fm_is M54 901 901 x55 = true ∧ fm_in M54 x55 (Int32.ofInt 0) = true) (
  let M56 : FM := fm_sI M54 3 x55 (Int32.ofInt 0).toNatClampNeg (Int32.ofInt 2)
  fi (fm_is M56 901 901 x55 = true ∧ fm_in M56 x55 (Int32.ofInt 1) = true) (
  let M57 : FM := fm_sI M56 3 x55 (Int32.ofInt 1).toNatClampNeg (Int32.ofInt 6)
  fi (fm_is M57 901 901 x55 = true ∧ fm_in M57 x55 (Int32.ofInt 2) = true) (
  let M58 : FM := fm_sI M57 3 x55 (Int32.ofInt 2).toNatClampNeg (Int32.ofInt 3)
  fi (fm_is M58 901 901 x55 = true ∧ fm_in M58 x55 (Int32.ofInt 3) = true) (
  let M59 : FM := fm_sI M58 3 x55 (Int32.ofInt 3).toNatClampNeg (Int32.ofInt 12)
  fi (fm_is M59 901 901 x55 = true ∧ fm_in M59 x55 (Int32.ofInt 4) = true) (
  let M60 : FM := fm_sI M59 3 x55 (Int32.ofInt 4).toNatClampNeg (Int32.ofInt 5)
  fi (fm_is M60 901 901 x55 = true ∧ fm_in M60 x55 (Int32.ofInt 5) = true) (
  let M61 : FM := fm_sI M60 3 x55 (Int32.ofInt 5).toNatClampNeg (Int32.ofInt 1)
  fi (fm_is M61 901 901 x55 = true ∧ fm_in M61 x55 (Int32.ofInt 6) = true) (
  let M62 : FM := fm_sI M61 3 x55 (Int32.ofInt 6).toNatClampNeg (Int32.ofInt 5)
  fi (fm_is M62 901 901 x55 = true ∧ fm_in M62 x55 (Int32.ofInt 7) = true) (
  let M63 : FM := fm_sI M62 3 x55 (Int32.ofInt 7).toNatClampNeg (Int32.ofInt 3)
  fi (fm_is M63 901 901 x55 = true ∧ fm_in M63 x55 (Int32.ofInt 8) = true) (
  let M64 : FM := fm_sI M63 3 x55 (Int32.ofInt 8).toNatClampNeg (Int32.ofInt 2)
  fi (fm_is M64 42 42 x53 = true) (
  (f0 x53 x55 (Int32.ofInt 0) M64).bind fun M65 =>
  let x67 : Nat := fm_nx M65
  let M66 : FM := fm_new M65 42 2
  fi (¬ (Int32.ofInt 9) < 0 ∧ (Int32.ofInt 9).toNatClampNeg * 4 ≤ 536870912) (
  let x69 : Nat := fm_nx M66
  let M68 : FM := fm_newa M66 901 125 (Int32.ofInt 9).toNatClampNeg
  fi (fm_is M68 901 901 x69 = true ∧ fm_in M68 x69 (Int32.ofInt 0) = true) (
  let M70 : FM := fm_sI M68 3 x69 (Int32.ofInt 0).toNatClampNeg (Int32.ofInt 2)
  fi (fm_is M70 901 901 x69 = true ∧ fm_in M70 x69 (Int32.ofInt 1) = true) (
  let M71 : FM := fm_sI M70 3 x69 (Int32.ofInt 1).toNatClampNeg (Int32.ofInt 6)
  fi (fm_is M71 901 901 x69 = true ∧ fm_in M71 x69 (Int32.ofInt 2) = true) (
  let M72 : FM := fm_sI M71 3 x69 (Int32.ofInt 2).toNatClampNeg (Int32.ofInt 2)
  fi (fm_is M72 901 901 x69 = true ∧ fm_in M72 x69 (Int32.ofInt 3) = true) (
  let M73 : FM := fm_sI M72 3 x69 (Int32.ofInt 3).toNatClampNeg (Int32.ofInt 12)
  fi (fm_is M73 901 901 x69 = true ∧ fm_in M73 x69 (Int32.ofInt 4) = true) (
  let M74 : FM := fm_sI M73 3 x69 (Int32.ofInt 4).toNatClampNeg (Int32.ofInt 5)
  fi (fm_is M74 901 901 x69 = true ∧ fm_in M74 x69 (Int32.ofInt 5) = true) (
  let M75 : FM := fm_sI M74 3 x69 (Int32.ofInt 5).toNatClampNeg (Int32.ofInt 1)
  fi (fm_is M75 901 901 x69 = true ∧ fm_in M75 x69 (Int32.ofInt 6) = true) (
  let M76 : FM := fm_sI M75 3 x69 (Int32.ofInt 6).toNatClampNeg (Int32.ofInt 4)
  fi (fm_is M76 901 901 x69 = true ∧ fm_in M76 x69 (Int32.ofInt 7) = true) (
  let M77 : FM := fm_sI M76 3 x69 (Int32.ofInt 7).toNatClampNeg (Int32.ofInt 2)
  fi (fm_is M77 901 901 x69 = true ∧ fm_in M77 x69 (Int32.ofInt 8) = true) (
  let M78 : FM := fm_sI M77 3 x69 (Int32.ofInt 8).toNatClampNeg (Int32.ofInt 3)
  fi (fm_is M78 42 42 x67 = true) (
  (f0 x67 x69 (Int32.ofInt 0) M78).bind fun M79 =>
  let x81 : Nat := fm_nx M79
  let M80 : FM := fm_new M79 42 2
  fi (¬ (Int32.ofInt 6) < 0 ∧ (Int32.ofInt 6).toNatClampNeg * 4 ≤ 536870912) (
  let x83 : Nat := fm_nx M80
  let M82 : FM := fm_newa M80 901 125 (Int32.ofInt 6).toNatClampNeg
  fi (fm_is M82 901 901 x83 = true ∧ fm_in M82 x83 (Int32.ofInt 0) = true) (
  let M84 : FM := fm_sI M82 3 x83 (Int32.ofInt 0).toNatClampNeg (Int32.ofInt 7)
  fi (fm_is M84 901 901 x83 = true ∧ fm_in M84 x83 (Int32.ofInt 1) = true) (
  let M85 : FM := fm_sI M84 3 x83 (Int32.ofInt 1).toNatClampNeg (Int32.ofInt 6)
  fi (fm_is M85 901 901 x83 = true ∧ fm_in M85 x83 (Int32.ofInt 2) = true) (
  let M86 : FM := fm_sI M85 3 x83 (Int32.ofInt 2).toNatClampNeg (Int32.ofInt 3)
  fi (fm_is M86 901 901 x83 = true ∧ fm_in M86 x83 (Int32.ofInt 3) = true) (
  let M87 : FM := fm_sI M86 3 x83 (Int32.ofInt 3).toNatClampNeg (Int32.ofInt 10)
  fi (fm_is M87 901 901 x83 = true ∧ fm_in M87 x83 (Int32.ofInt 4) = true) (
  let M88 : FM := fm_sI M87 3 x83 (Int32.ofInt 4).toNatClampNeg (Int32.ofInt 3)
  fi (fm_is M88 901 901 x83 = true ∧ fm_in M88 x83 (Int32.ofInt 5) = true) (
  let M89 : FM := fm_sI M88 3 x83 (Int32.ofInt 5).toNatClampNeg (Int32.ofInt 3)
  fi (fm_is M89 42 42 x81 = true) (
  (f0 x81 x83 (Int32.ofInt 0) M89).bind fun M90 =>
  let x92 : Nat := fm_nx M90
  let M91 : FM := fm_new M90 42 2
  fi (¬ (Int32.ofInt 6) < 0 ∧ (Int32.ofInt 6).toNatClampNeg * 4 ≤ 536870912) (
  let x94 : Nat := fm_nx M91
  let M93 : FM := fm_newa M91 901 125 (Int32.ofInt 6).toNatClampNeg
  fi (fm_is M93 901 901 x94 = true ∧ fm_in M93 x94 (Int32.ofInt 0) = true) (
  let M95 : FM := fm_sI M93 3 x94 (Int32.ofInt 0).toNatClampNeg (Int32.ofInt 7)
  fi (fm_is M95 901 901 x94 = true ∧ fm_in M95 x94 (Int32.ofInt 1) = true) (
  let M96 : FM := fm_sI M95 3 x94 (Int32.ofInt 1).toNatClampNeg (Int32.ofInt 6)
  fi (fm_is M96 901 901 x94 = true ∧ fm_in M96 x94 (Int32.ofInt 2) = true) (
  let M97 : FM := fm_sI M96 3 x94 (Int32.ofInt 2).toNatClampNeg (Int32.ofInt 2)
  fi (fm_is M97 901 901 x94 = true ∧ fm_in M97 x94 (Int32.ofInt 3) = true) (
  let M98 : FM := fm_sI M97 3 x94 (Int32.ofInt 3).toNatClampNeg (Int32.ofInt 9)
  fi (fm_is M98 901 901 x94 = true ∧ fm_in M98 x94 (Int32.ofInt 4) = true) (
  let M99 : FM := fm_sI M98 3 x94 (Int32.ofInt 4).toNatClampNeg (Int32.ofInt 2)
  fi (fm_is M99 901 901 x94 = true ∧ fm_in M99 x94 (Int32.ofInt 5) = true) (
  let M100 : FM := fm_sI M99 3 x94 (Int32.ofInt 5).toNatClampNeg (Int32.ofInt 4)
  fi (fm_is M100 42 42 x92 = true) (
  (f0 x92 x94 (Int32.ofInt 0) M100).bind fun M101 =>
  let x103 : Nat := fm_nx M101
  let M102 : FM := fm_new M101 42 2
  fi (¬ (Int32.ofInt 12) < 0 ∧ (Int32.ofInt 12).toNatClampNeg * 4 ≤ 536870912) (
  let x105 : Nat := fm_nx M102
  let M104 : FM := fm_newa M102 901 125 (Int32.ofInt 12).toNatClampNeg
  fi (fm_is M104 901 901 x105 = true ∧ fm_in M104 x105 (Int32.ofInt 0) = true) (
  let M106 : FM := fm_sI M104 3 x105 (Int32.ofInt 0).toNatClampNeg (Int32.ofInt 7)
  fi (fm_is M106 901 901 x105 = true ∧ fm_in M106 x105 (Int32.ofInt 1) = true) (
  let M107 : FM := fm_sI M106 3 x105 (Int32.ofInt 1).toNatClampNeg (Int32.ofInt 6)
  fi (fm_is M107 901 901 x105 = true ∧ fm_in M107 x105 (Int32.ofInt 2) = true) (
  let M108 : FM := fm_sI M107 3 x105 (Int32.ofInt 2).toNatClampNeg (Int32.ofInt 4)
  fi (fm_is M108 901 901 x105 = true ∧ fm_in M108 x105 (Int32.ofInt 3) = true) (
  let M109 : FM := fm_sI M108 3 x105 (Int32.ofInt 3).toNatClampNeg (Int32.ofInt 11)
  fi (fm_is M109 901 901 x105 = true ∧ fm_in M109 x105 (Int32.ofInt 4) = true) (
  let M110 : FM := fm_sI M109 3 x105 (Int32.ofInt 4).toNatClampNeg (Int32.ofInt 4)
  fi (fm_is M110 901 901 x105 = true ∧ fm_in M110 x105 (Int32.ofInt 5) = true) (
  let M111 : FM := fm_sI M110 3 x105 (Int32.ofInt 5).toNatClampNeg (Int32.ofInt 2)
  fi (fm_is M111 901 901 x105 = true ∧ fm_in M111 x105 (Int32.ofInt 6) = true) (
  let M112 : FM := fm_sI M111 3 x105 (Int32.ofInt 6).toNatClampNeg (Int32.ofInt 5)
  fi (fm_is M112 901 901 x105 = true ∧ fm_in M112 x105 (Int32.ofInt 7) = true) (
  let M113 : FM := fm_sI M112 3 x105 (Int32.ofInt 7).toNatClampNeg (Int32.ofInt 3)
  fi (fm_is M113 901 901 x105 = true ∧ fm_in M113 x105 (Int32.ofInt 8) = true) (
  let M114 : FM := fm_sI M113 3 x105 (Int32.ofInt 8).toNatClampNeg (Int32.ofInt 1)
  fi (fm_is M114 901 901 x105 = true ∧ fm_in M114 x105 (Int32.ofInt 9) = true) (
  let M115 : FM := fm_sI M114 3 x105 (Int32.ofInt 9).toNatClampNeg (Int32.ofInt 6)
  fi (fm_is M115 901 901 x105 = true ∧ fm_in M115 x105 (Int32.ofInt 10) = true) (
  let M116 : FM := fm_sI M115 3 x105 (Int32.ofInt 10).toNatClampNeg (Int32.ofInt 2)
  fi (fm_is M116 901 901 x105 = true ∧ fm_in M116 x105 (Int32.ofInt 11) = true) (
  let M117 : FM := fm_sI M116 3 x105 (Int32.ofInt 11).toNatClampNeg (Int32.ofInt 1)
  fi (fm_is M117 42 42 x103 = true) (
  (f0 x103 x105 (Int32.ofInt 0) M117).bind fun M118 =>
  let x120 : Nat := fm_nx M118
  let M119 : FM := fm_new M118 42 2
  fi (¬ (Int32.ofInt 15) < 0 ∧ (Int32.ofInt 15).toNatClampNeg * 4 ≤ 536870912) (
  let x122 : Nat := fm_nx M119
  let M121 : FM := fm_newa M119 901 125 (Int32.ofInt 15).toNatClampNeg
  fi (fm_is M121 901 901 x122 = true ∧ fm_in M121 x122 (Int32.ofInt 0) = true) (
  let M123 : FM := fm_sI M121 3 x122 (Int32.ofInt 0).toNatClampNeg (Int32.ofInt 12)
  fi (fm_is M123 901 901 x122 = true ∧ fm_in M123 x122 (Int32.ofInt 1) = true) (
  let M124 : FM := fm_sI M123 3 x122 (Int32.ofInt 1).toNatClampNeg (Int32.ofInt 9)
  fi (fm_is M124 901 901 x122 = true ∧ fm_in M124 x122 (Int32.ofInt 2) = true) (
  let M125 : FM := fm_sI M124 3 x122 (Int32.ofInt 2).toNatClampNeg (Int32.ofInt 1)
  fi (fm_is M125 901 901 x122 = true ∧ fm_in M125 x122 (Int32.ofInt 3) = true) (
  let M126 : FM := fm_sI M125 3 x122 (Int32.ofInt 3).toNatClampNeg (Int32.ofInt 3)
  fi (fm_is M126 901 901 x122 = true ∧ fm_in M126 x122 (Int32.ofInt 4) = true) (
  let M127 : FM := fm_sI M126 3 x122 (Int32.ofInt 4).toNatClampNeg (Int32.ofInt 7)
  fi (fm_is M127 901 901 x122 = true ∧ fm_in M127 x122 (Int32.ofInt 5) = true) (
  let M128 : FM := fm_sI M127 3 x122 (Int32.ofInt 5).toNatClampNeg (Int32.ofInt 2)
  fi (fm_is M128 901 901 x122 = true ∧ fm_in M128 x122 (Int32.ofInt 6) = true) (
  let M129 : FM := fm_sI M128 3 x122 (Int32.ofInt 6).toNatClampNeg (Int32.ofInt 5)
  fi (fm_is M129 901 901 x122 = true ∧ fm_in M129 x122 (Int32.ofInt 7) = true) (
  let M130 : FM := fm_sI M129 3 x122 (Int32.ofInt 7).toNatClampNeg (Int32.ofInt 6)
  fi (fm_is M130 901 901 x122 = true ∧ fm_in M130 x122 (Int32.ofInt 8) = true) (
  let M131 : FM := fm_sI M130 3 x122 (Int32.ofInt 8).toNatClampNeg (Int32.ofInt 1)
  fi (fm_is M131 901 901 x122 = true ∧ fm_in M131 x122 (Int32.ofInt 9) = true) (
  let M132 : FM := fm_sI M131 3 x122 (Int32.ofInt 9).toNatClampNeg (Int32.ofInt 2)
  fi (fm_is M132 901 901 x122 = true ∧ fm_in M132 x122 (Int32.ofInt 10) = true) (
  let M133 : FM := fm_sI M132 3 x122 (Int32.ofInt 10).toNatClampNeg (Int32.ofInt 5)
  fi (fm_is M133 901 901 x122 = true ∧ fm_in M133 x122 (Int32.ofInt 11) = true) (
  let M134 : FM := fm_sI M133 3 x122 (Int32.ofInt 11).toNatClampNeg (Int32.ofInt 1)
  fi (fm_is M134 901 901 x122 = true ∧ fm_in M134 x122 (Int32.ofInt 12) = true) (
  let M135 : FM := fm_sI M134 3 x122 (Int32.ofInt 12).toNatClampNeg (Int32.ofInt 6)
  fi (fm_is M135 901 901 x122 = true ∧ fm_in M135 x122 (Int32.ofInt 13) = true) (
  let M136 : FM := fm_sI M135 3 x122 (Int32.ofInt 13).toNatClampNeg (Int32.ofInt 4)
  fi (fm_is M136 901 901 x122 = true ∧ fm_in M136 x122 (Int32.ofInt 14) = true) (
  let M137 : FM := fm_sI M136 3 x122 (Int32.ofInt 14).toNatClampNeg (Int32.ofInt 1)
  fi (fm_is M137 42 42 x120 = true) (
  (f0 x120 x122 (Int32.ofInt 9) M137).bind fun M138 =>
  let x140 : Nat := fm_nx M138
  let M139 : FM := fm_new M138 42 2
  fi (¬ (Int32.ofInt 24) < 0 ∧ (Int32.ofInt 24).toNatClampNeg * 4 ≤ 536870912) (
  let x142 : Nat := fm_nx M139
  let M141 : FM := fm_newa M139 901 125 (Int32.ofInt 24).toNatClampNeg
  fi (fm_is M141 901 901 x142 = true ∧ fm_in M141 x142 (Int32.ofInt 0) = true) (
  let M143 : FM := fm_sI M141 3 x142 (Int32.ofInt 0).toNatClampNeg (Int32.ofInt 12)
  fi (fm_is M143 901 901 x142 = true ∧ fm_in M143 x142 (Int32.ofInt 1) = true) (
  let M144 : FM := fm_sI M143 3 x142 (Int32.ofInt 1).toNatClampNeg (Int32.ofInt 11)
  fi (fm_is M144 901 901 x142 = true ∧ fm_in M144 x142 (Int32.ofInt 2) = true) (
  let M145 : FM := fm_sI M144 3 x142 (Int32.ofInt 2).toNatClampNeg (Int32.ofInt 1)
  fi (fm_is M145 901 901 x142 = true ∧ fm_in M145 x142 (Int32.ofInt 3) = true) (
  let M146 : FM := fm_sI M145 3 x142 (Int32.ofInt 3).toNatClampNeg (Int32.ofInt 8)
  fi (fm_is M146 901 901 x142 = true ∧ fm_in M146 x142 (Int32.ofInt 4) = true) (
  let M147 : FM := fm_sI M146 3 x142 (Int32.ofInt 4).toNatClampNeg (Int32.ofInt 10)
  fi (fm_is M147 901 901 x142 = true ∧ fm_in M147 x142 (Int32.ofInt 5) = true) (
  let M148 : FM := fm_sI M147 3 x142 (Int32.ofInt 5).toNatClampNeg (Int32.ofInt 1)
  fi (fm_is M148 901 901 x142 = true ∧ fm_in M148 x142 (Int32.ofInt 6) = true) (
  let M149 : FM := fm_sI M148 3 x142 (Int32.ofInt 6).toNatClampNeg (Int32.ofInt 9)
  fi (fm_is M149 901 901 x142 = true ∧ fm_in M149 x142 (Int32.ofInt 7) = true) (
  let M150 : FM := fm_sI M149 3 x142 (Int32.ofInt 7).toNatClampNeg (Int32.ofInt 8)
  fi (fm_is M150 901 901 x142 = true ∧ fm_in M150 x142 (Int32.ofInt 8) = true) (
  let M151 : FM := fm_sI M150 3 x142 (Int32.ofInt 8).toNatClampNeg (Int32.ofInt 2)
  fi (fm_is M151 901 901 x142 = true ∧ fm_in M151 x142 (Int32.ofInt 9) = true) (
  let M152 : FM := fm_sI M151 3 x142 (Int32.ofInt 9).toNatClampNeg (Int32.ofInt 6)
  fi (fm_is M152 901 901 x142 = true ∧ fm_in M152 x142 (Int32.ofInt 10) = true) (
  let M153 : FM := fm_sI M152 3 x142 (Int32.ofInt 10).toNatClampNeg (Int32.ofInt 7)
  fi (fm_is M153 901 901 x142 = true ∧ fm_in M153 x142 (Int32.ofInt 11) = true) (
  let M154 : FM := fm_sI M153 3 x142 (Int32.ofInt 11).toNatClampNeg (Int32.ofInt 1)
  fi (fm_is M154 901 901 x142 = true ∧ fm_in M154 x142 (Int32.ofInt 12) = true) (
  let M155 : FM := fm_sI M154 3 x142 (Int32.ofInt 12).toNatClampNeg (Int32.ofInt 7)
  fi (fm_is M155 901 901 x142 = true ∧ fm_in M155 x142 (Int32.ofInt 13) = true) (
  let M156 : FM := fm_sI M155 3 x142 (Int32.ofInt 13).toNatClampNeg (Int32.ofInt 6)
  fi (fm_is M156 901 901 x142 = true ∧ fm_in M156 x142 (Int32.ofInt 14) = true) (
  let M157 : FM := fm_sI M156 3 x142 (Int32.ofInt 14).toNatClampNeg (Int32.ofInt 1)
  fi (fm_is M157 901 901 x142 = true ∧ fm_in M157 x142 (Int32.ofInt 15) = true) (
  let M158 : FM := fm_sI M157 3 x142 (Int32.ofInt 15).toNatClampNeg (Int32.ofInt 2)
  fi (fm_is M158 901 901 x142 = true ∧ fm_in M158 x142 (Int32.ofInt 16) = true) (
  let M159 : FM := fm_sI M158 3 x142 (Int32.ofInt 16).toNatClampNeg (Int32.ofInt 5)
  fi (fm_is M159 901 901 x142 = true ∧ fm_in M159 x142 (Int32.ofInt 17) = true) (
  let M160 : FM := fm_sI M159 3 x142 (Int32.ofInt 17).toNatClampNeg (Int32.ofInt 1)
  fi (fm_is M160 901 901 x142 = true ∧ fm_in M160 x142 (Int32.ofInt 18) = true) (
  let M161 : FM := fm_sI M160 3 x142 (Int32.ofInt 18).toNatClampNeg (Int32.ofInt 11)
  fi (fm_is M161 901 901 x142 = true ∧ fm_in M161 x142 (Int32.ofInt 19) = true) (
  let M162 : FM := fm_sI M161 3 x142 (Int32.ofInt 19).toNatClampNeg (Int32.ofInt 4)
  fi (fm_is M162 901 901 x142 = true ∧ fm_in M162 x142 (Int32.ofInt 20) = true) (
  let M163 : FM := fm_sI M162 3 x142 (Int32.ofInt 20).toNatClampNeg (Int32.ofInt 1)
  fi (fm_is M163 901 901 x142 = true ∧ fm_in M163 x142 (Int32.ofInt 21) = true) (
  let M164 : FM := fm_sI M163 3 x142 (Int32.ofInt 21).toNatClampNeg (Int32.ofInt 3)
  fi (fm_is M164 901 901 x142 = true ∧ fm_in M164 x142 (Int32.ofInt 22) = true) (
  let M165 : FM := fm_sI M164 3 x142 (Int32.ofInt 22).toNatClampNeg (Int32.ofInt 1)
  fi (fm_is M165 901 901 x142 = true ∧ fm_in M165 x142 (Int32.ofInt 23) = true) (
  let M166 : FM := fm_sI M165 3 x142 (Int32.ofInt 23).toNatClampNeg (Int32.ofInt 3)
  fi (fm_is M166 42 42 x140 = true) (
  (f0 x140 x142 (Int32.ofInt 11) M166).bind fun M167 =>
  let x169 : Nat := fm_nx M167
  let M168 : FM := fm_new M167 42 2
  fi (¬ (Int32.ofInt 15) < 0 ∧ (Int32.ofInt 15).toNatClampNeg * 4 ≤ 536870912) (
  let x171 : Nat := fm_nx M168
  let M170 : FM := fm_newa M168 901 125 (Int32.ofInt 15).toNatClampNeg
  fi (fm_is M170 901 901 x171 = true ∧ fm_in M170 x171 (Int32.ofInt 0) = true) (
  let M172 : FM := fm_sI M170 3 x171 (Int32.ofInt 0).toNatClampNeg (Int32.ofInt 12)
  fi (fm_is M172 901 901 x171 = true ∧ fm_in M172 x171 (Int32.ofInt 1) = true) (
  let M173 : FM := fm_sI M172 3 x171 (Int32.ofInt 1).toNatClampNeg (Int32.ofInt 8)
  fi (fm_is M173 901 901 x171 = true ∧ fm_in M173 x171 (Int32.ofInt 2) = true) (
  let M174 : FM := fm_sI M173 3 x171 (Int32.ofInt 2).toNatClampNeg (Int32.ofInt 1)
  fi (fm_is M174 901 901 x171 = true ∧ fm_in M174 x171 (Int32.ofInt 3) = true) (
  let M175 : FM := fm_sI M174 3 x171 (Int32.ofInt 3).toNatClampNeg (Int32.ofInt 5)
  fi (fm_is M175 901 901 x171 = true ∧ fm_in M175 x171 (Int32.ofInt 4) = true) (
  let M176 : FM := fm_sI M175 3 x171 (Int32.ofInt 4).toNatClampNeg (Int32.ofInt 6)
  fi (fm_is M176 901 901 x171 = true ∧ fm_in M176 x171 (Int32.ofInt 5) = true) (
  let M177 : FM := fm_sI M176 3 x171 (Int32.ofInt 5).toNatClampNeg (Int32.ofInt 2)
  fi (fm_is M177 901 901 x171 = true ∧ fm_in M177 x171 (Int32.ofInt 6) = true) (
  let M178 : FM := fm_sI M177 3 x171 (Int32.ofInt 6).toNatClampNeg (Int32.ofInt 2)
  fi (fm_is M178 901 901 x171 = true ∧ fm_in M178 x171 (Int32.ofInt 7) = true) (
  let M179 : FM := fm_sI M178 3 x171 (Int32.ofInt 7).toNatClampNeg (Int32.ofInt 5)
  fi (fm_is M179 901 901 x171 = true ∧ fm_in M179 x171 (Int32.ofInt 8) = true) (
  let M180 : FM := fm_sI M179 3 x171 (Int32.ofInt 8).toNatClampNeg (Int32.ofInt 1)
  fi (fm_is M180 901 901 x171 = true ∧ fm_in M180 x171 (Int32.ofInt 9) = true) (
  let M181 : FM := fm_sI M180 3 x171 (Int32.ofInt 9).toNatClampNeg (Int32.ofInt 10)
  fi (fm_is M181 901 901 x171 = true ∧ fm_in M181 x171 (Int32.ofInt 10) = true) (
  let M182 : FM := fm_sI M181 3 x171 (Int32.ofInt 10).toNatClampNeg (Int32.ofInt 3)
  fi (fm_is M182 901 901 x171 = true ∧ fm_in M182 x171 (Int32.ofInt 11) = true) (
  let M183 : FM := fm_sI M182 3 x171 (Int32.ofInt 11).toNatClampNeg (Int32.ofInt 2)
  fi (fm_is M183 901 901 x171 = true ∧ fm_in M183 x171 (Int32.ofInt 12) = true) (
  let M184 : FM := fm_sI M183 3 x171 (Int32.ofInt 12).toNatClampNeg (Int32.ofInt 3)
  fi (fm_is M184 901 901 x171 = true ∧ fm_in M184 x171 (Int32.ofInt 13) = true) (
  let M185 : FM := fm_sI M184 3 x171 (Int32.ofInt 13).toNatClampNeg (Int32.ofInt 1)
  fi (fm_is M185 901 901 x171 = true ∧ fm_in M185 x171 (Int32.ofInt 14) = true) (
  let M186 : FM := fm_sI M185 3 x171 (Int32.ofInt 14).toNatClampNeg (Int32.ofInt 2)
  fi (fm_is M186 42 42 x169 = true) (
  (f0 x169 x171 (Int32.ofInt 8) M186).bind fun M187 =>
  let x189 : Nat := fm_nx M187
  let M188 : FM := fm_new M187 50 3
  fi (fm_is M188 50 50 x189 = true) (
  (f1 x189 x103 M188).bind fun M190 =>
  fi (fm_is M190 52 52 a0 = true) (
  (f2 a0 x189 M190).bind fun M191 =>
  let x193 : Nat := fm_nx M191
  let M192 : FM := fm_new M191 43 6
  fi (fm_is M192 43 43 x193 = true) (
  (f3 x193 (Int32.ofInt 1) x28 (Int32.ofInt 7) (Int32.ofInt 3) (Int32.ofInt 0) M192).bind fun M194 =>
  fi (fm_is M194 52 52 a0 = true) (
  (f2 a0 x193 M194).bind fun M195 =>
  let x197 : Nat := fm_nx M195
  let M196 : FM := fm_new M195 43 6
  fi (fm_is M196 43 43 x197 = true) (
  (f3 x197 (Int32.ofInt 2) x39 (Int32.ofInt 3) (Int32.ofInt 2) (Int32.ofInt 0) M196).bind fun M198 =>
  fi (fm_is M198 52 52 a0 = true) (
  (f2 a0 x197 M198).bind fun M199 =>
  let x201 : Nat := fm_nx M199
  let M200 : FM := fm_new M199 43 6
  fi (fm_is M200 43 43 x201 = true) (
  (f3 x201 (Int32.ofInt 3) x28 (Int32.ofInt 3) (Int32.ofInt 3) (Int32.ofInt 0) M200).bind fun M202 =>
  fi (fm_is M202 52 52 a0 = true) (
  (f2 a0 x201 M202).bind fun M203 =>
  let x205 : Nat := fm_nx M203
  let M204 : FM := fm_new M203 43 6
  fi (fm_is M204 43 43 x205 = true) (
  (f3 x205 (Int32.ofInt 5) x28 (Int32.ofInt 39) (Int32.ofInt 3) (Int32.ofInt 1) M204).bind fun M206 =>
  fi (fm_is M206 52 52 a0 = true) (
  (f2 a0 x205 M206).bind fun M207 =>
  let x209 : Nat := fm_nx M207
  let M208 : FM := fm_new M207 43 6
  fi (fm_is M208 43 43 x209 = true) (
  (f3 x209 (Int32.ofInt 6) x39 (Int32.ofInt 35) (Int32.ofInt 2) (Int32.ofInt 1) M208).bind fun M210 =>
  fi (fm_is M210 52 52 a0 = true) (
  (f2 a0 x209 M210).bind fun M211 =>
  let x213 : Nat := fm_nx M211
  let M212 : FM := fm_new M211 43 6
  fi (fm_is M212 43 43 x213 = true) (
  (f3 x213 (Int32.ofInt 7) x28 (Int32.ofInt 35) (Int32.ofInt 3) (Int32.ofInt 1) M212).bind fun M214 =>
  fi (fm_is M214 52 52 a0 = true) (
  (f2 a0 x213 M214).bind fun M215 =>
  let x217 : Nat := fm_nx M215
  let M216 : FM := fm_new M215 45 6
  fi (fm_is M216 45 45 x217 = true) (
  (f4 x217 (Int32.ofInt 0) (Int32.ofInt 1) x6 (Int32.ofInt 19) (Int32.ofInt 0) (Int32.ofInt 0) M216).bind fun M218 =>
  fi (fm_is M218 52 52 a0 = true) (
  (f2 a0 x217 M218).bind fun M219 =>
  let x221 : Nat := fm_nx M219
  let M220 : FM := fm_new M219 45 6
  fi (fm_is M220 45 45 x221 = true) (
  (f4 x221 (Int32.ofInt 1) (Int32.ofInt 1) x6 (Int32.ofInt 27) (Int32.ofInt 0) (Int32.ofInt 0) M220).bind fun M222 =>
  fi (fm_is M222 52 52 a0 = true) (
  (f2 a0 x221 M222).bind fun M223 =>
  let x225 : Nat := fm_nx M223
  let M224 : FM := fm_new M223 45 6
  fi (fm_is M224 45 45 x225 = true) (
  (f4 x225 (Int32.ofInt 2) (Int32.ofInt 1) x6 (Int32.ofInt 19) (Int32.ofInt 0) (Int32.ofInt 1) M224).bind fun M226 =>
  fi (fm_is M226 52 52 a0 = true) (
  (f2 a0 x225 M226).bind fun M227 =>
  let x229 : Nat := fm_nx M227
  let M228 : FM := fm_new M227 49 4
  fi (fm_is M228 49 49 x229 = true) (
  (f5 x229 x120 x6 M228).bind fun M230 =>
  fi (fm_is M230 52 52 a0 = true) (
  (f2 a0 x229 M230).bind fun M231 =>
  let x233 : Nat := fm_nx M231
  let M232 : FM := fm_new M231 47 5
  fi (fm_is M232 47 47 x233 = true) (
  (f6 x233 x17 x6 M232).bind fun M234 =>
  fi (fm_is M234 52 52 a0 = true) (
  (f2 a0 x233 M234).bind fun M235 =>
  let x237 : Nat := fm_nx M235
  let M236 : FM := fm_new M235 46 3
  fi (fm_is M236 46 46 x237 = true) (
  (f7 x237 x140 M236).bind fun M238 =>
  fi (fm_is M238 52 52 a0 = true) (
  (f2 a0 x237 M238).bind fun M239 =>
  let x241 : Nat := fm_nx M239
  let M240 : FM := fm_new M239 44 3
  fi (fm_is M240 44 44 x241 = true) (
  (f8 x241 (Int32.ofInt 6) x169 M240).bind fun M242 =>
  fi (fm_is M242 52 52 a0 = true) (
  (f2 a0 x241 M242).bind fun M243 =>
  let x245 : Nat := fm_nx M243
  let M244 : FM := fm_new M243 44 3
  fi (fm_is M244 44 44 x245 = true) (
  (f8 x245 (Int32.ofInt 7) x169 M244).bind fun M246 =>
  fi (fm_is M246 52 52 a0 = true) (
  (f2 a0 x245 M246).bind fun M247 =>
  let x249 : Nat := fm_nx M247
  let M248 : FM := fm_new M247 45 6
  fi (fm_is M248 45 45 x249 = true) (
  (f4 x249 (Int32.ofInt 0) (Int32.ofInt 2) x17 (Int32.ofInt 19) (Int32.ofInt 1) (Int32.ofInt 0) M248).bind fun M250 =>
  fi (fm_is M250 52 52 a0 = true) (
  (f2 a0 x249 M250).bind fun M251 =>
  let x253 : Nat := fm_nx M251
  let M252 : FM := fm_new M251 48 6
  fi (fm_is M252 48 48 x253 = true) (
  (f9 x253 (Int32.ofInt 1) x53 (Int32.ofInt 7) (Int32.ofInt 3) (Int32.ofInt 0) M252).bind fun M254 =>
  fi (fm_is M254 52 52 a0 = true) (
  (f2 a0 x253 M254).bind fun M255 =>
  let x257 : Nat := fm_nx M255
  let M256 : FM := fm_new M255 48 6
  fi (fm_is M256 48 48 x257 = true) (
  (f9 x257 (Int32.ofInt 2) x67 (Int32.ofInt 3) (Int32.ofInt 2) (Int32.ofInt 0) M256).bind fun M258 =>
  fi (fm_is M258 52 52 a0 = true) (
  (f2 a0 x257 M258).bind fun M259 =>
  let x261 : Nat := fm_nx M259
  let M260 : FM := fm_new M259 48 6
  fi (fm_is M260 48 48 x261 = true) (
  (f9 x261 (Int32.ofInt 3) x53 (Int32.ofInt 3) (Int32.ofInt 3) (Int32.ofInt 0) M260).bind fun M262 =>
  fi (fm_is M262 52 52 a0 = true) (
  (f2 a0 x261 M262).bind fun M263 =>
  let x265 : Nat := fm_nx M263
  let M264 : FM := fm_new M263 51 3
  fi (fm_is M264 51 51 x265 = true) (
  (f10 x265 M264).bind fun M266 =>
  fi (fm_is M266 52 52 a0 = true) (
  (f2 a0 x265 M266).bind fun M267 =>
  let x269 : Nat := fm_nx M267
  let M268 : FM := fm_new M267 48 6
  fi (fm_is M268 48 48 x269 = true) (
  (f9 x269 (Int32.ofInt 5) x81 (Int32.ofInt 39) (Int32.ofInt 3) (Int32.ofInt 1) M268).bind fun M270 =>
  fi (fm_is M270 52 52 a0 = true) (
  (f2 a0 x269 M270).bind fun M271 =>
  let x273 : Nat := fm_nx M271
  let M272 : FM := fm_new M271 48 6
  fi (fm_is M272 48 48 x273 = true) (
  (f9 x273 (Int32.ofInt 6) x92 (Int32.ofInt 35) (Int32.ofInt 2) (Int32.ofInt 1) M272).bind fun M274 =>
  fi (fm_is M274 52 52 a0 = true) (
  (f2 a0 x273 M274).bind fun M275 =>
  let x277 : Nat := fm_nx M275
  let M276 : FM := fm_new M275 48 6
  fi (fm_is M276 48 48 x277 = true) (
  (f9 x277 (Int32.ofInt 7) x81 (Int32.ofInt 35) (Int32.ofInt 3) (Int32.ofInt 1) M276).bind fun M278 =>
  fi (fm_is M278 52 52 a0 = true) (
  (f2 a0 x277 M278).bind fun M279 =>
  some M279) none) none) none) none) none) none) none) none) none) none) none) none) none) none) none) none) none) none) none) none) none) none) none) none) none) none) none) none) none) none) none) none) none) none) none) none) none) none) none) none) none) none) none) none) none) none) none) none) none) none) none) none) none) none) none) none) none) none) none) none) none) none) none) none) none) none) none) none) none) none) none) none) none) none) none) none) none) none) none) none) none) none) none) none) none) none) none) none) none) none) none) none) none) none) none) none) none) none) none) none) none) none) none) none) none) none) none) none) none) none) none) none) none) none) none) none) none) none) none) none) none) none) none) none) none) none) none) none) none) none) none) none) none) none) none) none) none) none) none) none) none) none) none) none) none) none) none) none) none) none) none) none) none) none) none) none) none) none) none) none) none) none) none) none) none) none) none) none) none) none) none) none) none) none) none) none) none) none) none) none) none) none) none) none) none) none) none) none) none) none) none) none) none) none) none) none)
noncomputable def FX34_init_0 (a0 : Nat) (M : FM) : Option (FM) := BX34_init_0 FX35_init FX37_init FX34_lay FX38_init FX39_init FX40_init FX41_init FX42_init FX43_init FX44_init FX45_init a0 M
noncomputable def FX34_init (a0 : Nat) (M : FM) : Option (FM) := FX34_init_0 a0 M
/-! BoardMachine$Loader.<init>(LBoardMachine$Trees$Row;LBoardMachine$Memories$Ram;)V -/
noncomputable def BX90_init_0 (a0 : Nat) (a1 : Nat) (a2 : Nat) (M : FM) : Option (FM) :=
  fi (a0 = 0) none (
  fi (fm_is M 66 66 a0 = true) (
  let M1 : FM := fm_sL M 188 a0 0 (Int64.ofInt 2147483648)
  fi (fm_is M1 66 66 a0 = true) (
  let M2 : FM := fm_sR M1 186 a0 0 a1
  fi (fm_is M2 66 66 a0 = true) (
  let M3 : FM := fm_sR M2 187 a0 0 a2
  some M3) none) none) none)
noncomputable def FX90_init_0 (a0 : Nat) (a1 : Nat) (a2 : Nat) (M : FM) : Option (FM) := BX90_init_0 a0 a1 a2 M
noncomputable def FX90_init (a0 : Nat) (a1 : Nat) (a2 : Nat) (M : FM) : Option (FM) := FX90_init_0 a0 a1 a2 M
/-! BoardMachine$Integers$Registers.<init>()V -/
noncomputable def BX48_init_0 (a0 : Nat) (M : FM) : Option (FM) :=
  fi (a0 = 0) none (
  fi (¬ (Int32.ofInt 32) < 0 ∧ (Int32.ofInt 32).toNatClampNeg * 8 ≤ 536870912) (
  let x2 : Nat := fm_nx M
  let M1 : FM := fm_newa M 902 178 (Int32.ofInt 32).toNatClampNeg
  fi (fm_is M1 64 64 a0 = true) (
  let M3 : FM := fm_sR M1 178 a0 0 x2
  some M3) none) none)
noncomputable def FX48_init_0 (a0 : Nat) (M : FM) : Option (FM) := BX48_init_0 a0 M
noncomputable def FX48_init (a0 : Nat) (M : FM) : Option (FM) := FX48_init_0 a0 M
/-! BoardMachine$Integers$Action.<init>()V -/
noncomputable def BX50_init_0 (a0 : Nat) (M : FM) : Option (FM) :=
  fi (a0 = 0) none (
  some M)
noncomputable def FX50_init_0 (a0 : Nat) (M : FM) : Option (FM) := BX50_init_0 a0 M
noncomputable def FX50_init (a0 : Nat) (M : FM) : Option (FM) := FX50_init_0 a0 M
/-! BoardMachine$Integers$Illegal.<init>()V -/
noncomputable def BX51_init_0 (f0 : Nat → FM → Option (FM)) (a0 : Nat) (M : FM) : Option (FM) :=
  fi (fm_is M 58 58 a0 = true) (
  (f0 a0 M).bind fun M1 =>
  some M1) none
noncomputable def FX51_init_0 (a0 : Nat) (M : FM) : Option (FM) := BX51_init_0 FX50_init a0 M
noncomputable def FX51_init (a0 : Nat) (M : FM) : Option (FM) := FX51_init_0 a0 M
/-! BoardMachine$Integers$Fence.<init>()V -/
noncomputable def BX52_init_0 (f0 : Nat → FM → Option (FM)) (a0 : Nat) (M : FM) : Option (FM) :=
  fi (fm_is M 56 56 a0 = true) (
  (f0 a0 M).bind fun M1 =>
  some M1) none
noncomputable def FX52_init_0 (a0 : Nat) (M : FM) : Option (FM) := BX52_init_0 FX50_init a0 M
noncomputable def FX52_init (a0 : Nat) (M : FM) : Option (FM) := FX52_init_0 a0 M
/-! BoardMachine$Integers$Upper.<init>(Z)V -/
noncomputable def BX53_init_0 (f0 : Nat → FM → Option (FM)) (a0 : Nat) (a1 : Int32) (M : FM) : Option (FM) :=
  fi (fm_is M 60 60 a0 = true) (
  (f0 a0 M).bind fun M1 =>
  fi (fm_is M1 60 60 a0 = true) (
  fi (a1 = 0 ∨ a1 = 1) (
  let M2 : FM := fm_sI M1 148 a0 0 a1
  some M2) none) none) none
noncomputable def FX53_init_0 (a0 : Nat) (a1 : Int32) (M : FM) : Option (FM) := BX53_init_0 FX50_init a0 a1 M
noncomputable def FX53_init (a0 : Nat) (a1 : Int32) (M : FM) : Option (FM) := FX53_init_0 a0 a1 M
/-! BoardMachine$Integers$Jump.<init>(Z)V -/
noncomputable def BX54_init_0 (f0 : Nat → FM → Option (FM)) (a0 : Nat) (a1 : Int32) (M : FM) : Option (FM) :=
  fi (fm_is M 59 59 a0 = true) (
  (f0 a0 M).bind fun M1 =>
  fi (fm_is M1 59 59 a0 = true) (
  fi (a1 = 0 ∨ a1 = 1) (
  let M2 : FM := fm_sI M1 147 a0 0 a1
  some M2) none) none) none
noncomputable def FX54_init_0 (a0 : Nat) (a1 : Int32) (M : FM) : Option (FM) := BX54_init_0 FX50_init a0 a1 M
noncomputable def FX54_init (a0 : Nat) (a1 : Int32) (M : FM) : Option (FM) := FX54_init_0 a0 a1 M
/-! BoardMachine$Integers$Branch.<init>()V -/
noncomputable def BX55_init_0 (f0 : Nat → FM → Option (FM)) (a0 : Nat) (M : FM) : Option (FM) :=
  fi (fm_is M 54 54 a0 = true) (
  (f0 a0 M).bind fun M1 =>
  some M1) none
noncomputable def FX55_init_0 (a0 : Nat) (M : FM) : Option (FM) := BX55_init_0 FX50_init a0 M
noncomputable def FX55_init (a0 : Nat) (M : FM) : Option (FM) := FX55_init_0 a0 M
/-! BoardMachine$Integers$Compute.<init>()V -/
noncomputable def BX56_init_0 (f0 : Nat → FM → Option (FM)) (a0 : Nat) (M : FM) : Option (FM) :=
  fi (fm_is M 55 55 a0 = true) (
  (f0 a0 M).bind fun M1 =>
  some M1) none
noncomputable def FX56_init_0 (a0 : Nat) (M : FM) : Option (FM) := BX56_init_0 FX50_init a0 M
noncomputable def FX56_init (a0 : Nat) (M : FM) : Option (FM) := FX56_init_0 a0 M
/-! BoardMachine$Integers$Access.<init>()V -/
noncomputable def BX57_init_0 (f0 : Nat → FM → Option (FM)) (a0 : Nat) (M : FM) : Option (FM) :=
  fi (fm_is M 53 53 a0 = true) (
  (f0 a0 M).bind fun M1 =>
  some M1) none
noncomputable def FX57_init_0 (a0 : Nat) (M : FM) : Option (FM) := BX57_init_0 FX50_init a0 M
noncomputable def FX57_init (a0 : Nat) (M : FM) : Option (FM) := FX57_init_0 a0 M
/-! BoardMachine$Integers$Foreign.<init>()V -/
noncomputable def BX58_init_0 (f0 : Nat → FM → Option (FM)) (a0 : Nat) (M : FM) : Option (FM) :=
  fi (fm_is M 57 57 a0 = true) (
  (f0 a0 M).bind fun M1 =>
  some M1) none
noncomputable def FX58_init_0 (a0 : Nat) (M : FM) : Option (FM) := BX58_init_0 FX50_init a0 M
noncomputable def FX58_init (a0 : Nat) (M : FM) : Option (FM) := FX58_init_0 a0 M
/-! BoardMachine$Integers$Decoder.<init>()V -/
noncomputable def BX49_init_0 (f0 : Nat → FM → Option (FM)) (f1 : Nat → FM → Option (FM)) (f2 : Nat → Int32 → FM → Option (FM)) (f3 : Nat → Int32 → FM → Option (FM)) (f4 : Nat → FM → Option (FM)) (f5 : Nat → FM → Option (FM)) (f6 : Nat → FM → Option (FM)) (f7 : Nat → FM → Option (FM)) (a0 : Nat) (M : FM) : Option (FM) :=
  fi (a0 = 0) none (
  let x2 : Nat := fm_nx M
  let M1 : FM := fm_new M 58 0
  fi (fm_is M1 58 58 x2 = true) (
  (f0 x2 M1).bind fun M3 =>
  fi (fm_is M3 62 62 a0 = true) (
  let M4 : FM := fm_sR M3 161 a0 0 x2
  let x6 : Nat := fm_nx M4
  let M5 : FM := fm_new M4 56 0
  fi (fm_is M5 56 56 x6 = true) (
  (f1 x6 M5).bind fun M7 =>
  fi (fm_is M7 62 62 a0 = true) (
  let M8 : FM := fm_sR M7 162 a0 0 x6
  let x10 : Nat := fm_nx M8
  let M9 : FM := fm_new M8 60 1
  fi (fm_is M9 60 60 x10 = true) (
  (f2 x10 (Int32.ofInt 0) M9).bind fun M11 =>
  fi (fm_is M11 62 62 a0 = true) (
  let M12 : FM := fm_sR M11 163 a0 0 x10
  let x14 : Nat := fm_nx M12
  let M13 : FM := fm_new M12 60 1
  fi (fm_is M13 60 60 x14 = true) (
  (f2 x14 (Int32.ofInt 1) M13).bind fun M15 =>
  fi (fm_is M15 62 62 a0 = true) (
  let M16 : FM := fm_sR M15 164 a0 0 x14
  let x18 : Nat := fm_nx M16
  let M17 : FM := fm_new M16 59 1
  fi (fm_is M17 59 59 x18 = true) (
  (f3 x18 (Int32.ofInt 0) M17).bind fun M19 =>
  fi (fm_is M19 62 62 a0 = true) (
  let M20 : FM := fm_sR M19 165 a0 0 x18
  let x22 : Nat := fm_nx M20
  let M21 : FM := fm_new M20 59 1
  fi (fm_is M21 59 59 x22 = true) (
  (f3 x22 (Int32.ofInt 1) M21).bind fun M23 =>
  fi (fm_is M23 62 62 a0 = true) (
  let M24 : FM := fm_sR M23 166 a0 0 x22
  let x26 : Nat := fm_nx M24
  let M25 : FM := fm_new M24 54 0
  fi (fm_is M25 54 54 x26 = true) (
  (f4 x26 M25).bind fun M27 =>
  fi (fm_is M27 62 62 a0 = true) (
  let M28 : FM := fm_sR M27 167 a0 0 x26
  let x30 : Nat := fm_nx M28
  let M29 : FM := fm_new M28 55 0
  fi (fm_is M29 55 55 x30 = true) (
  (f5 x30 M29).bind fun M31 =>
  fi (fm_is M31 62 62 a0 = true) (
  let M32 : FM := fm_sR M31 168 a0 0 x30
  let x34 : Nat := fm_nx M32
  let M33 : FM := fm_new M32 53 0
  fi (fm_is M33 53 53 x34 = true) (
  (f6 x34 M33).bind fun M35 =>
  fi (fm_is M35 62 62 a0 = true) (
  let M36 : FM := fm_sR M35 169 a0 0 x34
  let x38 : Nat := fm_nx M36
  let M37 : FM := fm_new M36 57 0
  fi (fm_is M37 57 57 x38 = true) (
  (f7 x38 M37).bind fun M39 =>
  fi (fm_is M39 62 62 a0 = true) (
  let M40 : FM := fm_sR M39 170 a0 0 x38
  some M40) none) none) none) none) none) none) none) none) none) none) none) none) none) none) none) none) none) none) none) none)
noncomputable def FX49_init_0 (a0 : Nat) (M : FM) : Option (FM) := BX49_init_0 FX51_init FX52_init FX53_init FX54_init FX55_init FX56_init FX57_init FX58_init a0 M
noncomputable def FX49_init (a0 : Nat) (M : FM) : Option (FM) := FX49_init_0 a0 M
/-! BoardMachine$Integers$IntegerUnit.<init>()V -/
noncomputable def BX47_init_0 (f0 : Nat → FM → Option (FM)) (f1 : Nat → FM → Option (FM)) (a0 : Nat) (M : FM) : Option (FM) :=
  fi (a0 = 0) none (
  let x2 : Nat := fm_nx M
  let M1 : FM := fm_new M 64 2
  fi (fm_is M1 64 64 x2 = true) (
  (f0 x2 M1).bind fun M3 =>
  fi (fm_is M3 63 63 a0 = true) (
  let M4 : FM := fm_sR M3 171 a0 0 x2
  let x6 : Nat := fm_nx M4
  let M5 : FM := fm_new M4 62 10
  fi (fm_is M5 62 62 x6 = true) (
  (f1 x6 M5).bind fun M7 =>
  fi (fm_is M7 63 63 a0 = true) (
  let M8 : FM := fm_sR M7 172 a0 0 x6
  fi (¬ (Int32.ofInt 64) < 0 ∧ (Int32.ofInt 64).toNatClampNeg * 4 ≤ 536870912) (
  let x10 : Nat := fm_nx M8
  let M9 : FM := fm_newa M8 917 173 (Int32.ofInt 64).toNatClampNeg
  fi (fm_is M9 63 63 a0 = true) (
  let M11 : FM := fm_sR M9 173 a0 0 x10
  fi (¬ (Int32.ofInt 5) < 0 ∧ (Int32.ofInt 5).toNatClampNeg * 8 ≤ 536870912) (
  let x13 : Nat := fm_nx M11
  let M12 : FM := fm_newa M11 902 175 (Int32.ofInt 5).toNatClampNeg
  fi (fm_is M12 63 63 a0 = true) (
  let M14 : FM := fm_sR M12 175 a0 0 x13
  some M14) none) none) none) none) none) none) none) none)
noncomputable def FX47_init_0 (a0 : Nat) (M : FM) : Option (FM) := BX47_init_0 FX48_init FX49_init a0 M
noncomputable def FX47_init (a0 : Nat) (M : FM) : Option (FM) := FX47_init_0 a0 M
/-! BoardMachine$Floats$Flags.<init>()V -/
noncomputable def BX60_init_0 (a0 : Nat) (M : FM) : Option (FM) :=
  fi (a0 = 0) none (
  some M)
noncomputable def FX60_init_0 (a0 : Nat) (M : FM) : Option (FM) := BX60_init_0 a0 M
noncomputable def FX60_init (a0 : Nat) (M : FM) : Option (FM) := FX60_init_0 a0 M
/-! BoardMachine$Floats$Wide.<init>()V -/
noncomputable def BX62_init_0 (a0 : Nat) (M : FM) : Option (FM) :=
  fi (a0 = 0) none (
  some M)
noncomputable def FX62_init_0 (a0 : Nat) (M : FM) : Option (FM) := BX62_init_0 a0 M
noncomputable def FX62_init (a0 : Nat) (M : FM) : Option (FM) := FX62_init_0 a0 M
/-! BoardMachine$Floats$Format.<init>(III)V -/
noncomputable def BX61_init_0 (f0 : Nat → FM → Option (FM)) (a0 : Nat) (a1 : Int32) (a2 : Int32) (a3 : Int32) (M : FM) : Option (FM) :=
  fi (a0 = 0) none (
  let x2 : Nat := fm_nx M
  let M1 : FM := fm_new M 40 2
  fi (fm_is M1 40 40 x2 = true) (
  (f0 x2 M1).bind fun M3 =>
  fi (fm_is M3 33 33 a0 = true) (
  let M4 : FM := fm_sR M3 112 a0 0 x2
  fi (fm_is M4 33 33 a0 = true) (
  let M5 : FM := fm_sI M4 109 a0 0 a1
  fi (fm_is M5 33 33 a0 = true) (
  let M6 : FM := fm_sI M5 110 a0 0 a2
  fi (fm_is M6 33 33 a0 = true) (
  let M7 : FM := fm_sI M6 111 a0 0 a3
  some M7) none) none) none) none) none)
noncomputable def FX61_init_0 (a0 : Nat) (a1 : Int32) (a2 : Int32) (a3 : Int32) (M : FM) : Option (FM) := BX61_init_0 FX62_init a0 a1 a2 a3 M
noncomputable def FX61_init (a0 : Nat) (a1 : Int32) (a2 : Int32) (a3 : Int32) (M : FM) : Option (FM) := FX61_init_0 a0 a1 a2 a3 M
/-! BoardMachine$Floats$Operation.<init>()V -/
noncomputable def BX65_init_0 (a0 : Nat) (M : FM) : Option (FM) :=
  fi (a0 = 0) none (
  some M)
noncomputable def FX65_init_0 (a0 : Nat) (M : FM) : Option (FM) := BX65_init_0 a0 M
noncomputable def FX65_init (a0 : Nat) (M : FM) : Option (FM) := FX65_init_0 a0 M
/-! BoardMachine$Floats$Sum.<init>(Z)V -/
noncomputable def BX66_init_0 (f0 : Nat → FM → Option (FM)) (a0 : Nat) (a1 : Int32) (M : FM) : Option (FM) :=
  fi (fm_is M 38 38 a0 = true) (
  (f0 a0 M).bind fun M1 =>
  fi (fm_is M1 38 38 a0 = true) (
  fi (a1 = 0 ∨ a1 = 1) (
  let M2 : FM := fm_sI M1 113 a0 0 a1
  some M2) none) none) none
noncomputable def FX66_init_0 (a0 : Nat) (a1 : Int32) (M : FM) : Option (FM) := BX66_init_0 FX65_init a0 a1 M
noncomputable def FX66_init (a0 : Nat) (a1 : Int32) (M : FM) : Option (FM) := FX66_init_0 a0 a1 M
/-! BoardMachine$Floats$Product.<init>()V -/
noncomputable def BX67_init_0 (f0 : Nat → FM → Option (FM)) (a0 : Nat) (M : FM) : Option (FM) :=
  fi (fm_is M 34 34 a0 = true) (
  (f0 a0 M).bind fun M1 =>
  some M1) none
noncomputable def FX67_init_0 (a0 : Nat) (M : FM) : Option (FM) := BX67_init_0 FX65_init a0 M
noncomputable def FX67_init (a0 : Nat) (M : FM) : Option (FM) := FX67_init_0 a0 M
/-! BoardMachine$Floats$Quotient.<init>()V -/
noncomputable def BX68_init_0 (f0 : Nat → FM → Option (FM)) (a0 : Nat) (M : FM) : Option (FM) :=
  fi (fm_is M 35 35 a0 = true) (
  (f0 a0 M).bind fun M1 =>
  some M1) none
noncomputable def FX68_init_0 (a0 : Nat) (M : FM) : Option (FM) := BX68_init_0 FX65_init a0 M
noncomputable def FX68_init (a0 : Nat) (M : FM) : Option (FM) := FX68_init_0 a0 M
/-! BoardMachine$Floats$Root.<init>()V -/
noncomputable def BX69_init_0 (f0 : Nat → FM → Option (FM)) (a0 : Nat) (M : FM) : Option (FM) :=
  fi (fm_is M 36 36 a0 = true) (
  (f0 a0 M).bind fun M1 =>
  some M1) none
noncomputable def FX69_init_0 (a0 : Nat) (M : FM) : Option (FM) := BX69_init_0 FX65_init a0 M
noncomputable def FX69_init (a0 : Nat) (M : FM) : Option (FM) := FX69_init_0 a0 M
/-! BoardMachine$Floats$Same.<init>()V -/
noncomputable def BX70_init_0 (f0 : Nat → FM → Option (FM)) (a0 : Nat) (M : FM) : Option (FM) :=
  fi (fm_is M 37 37 a0 = true) (
  (f0 a0 M).bind fun M1 =>
  some M1) none
noncomputable def FX70_init_0 (a0 : Nat) (M : FM) : Option (FM) := BX70_init_0 FX65_init a0 M
noncomputable def FX70_init (a0 : Nat) (M : FM) : Option (FM) := FX70_init_0 a0 M
/-! BoardMachine$Floats$Taken.<init>()V -/
noncomputable def BX71_init_0 (f0 : Nat → FM → Option (FM)) (a0 : Nat) (M : FM) : Option (FM) :=
  fi (a0 = 0) none (
  fi (fm_is M 39 39 a0 = true) (
  let M1 : FM := fm_sR M 114 a0 0 6
  let x3 : Nat := fm_nx M1
  let M2 : FM := fm_new M1 40 2
  fi (fm_is M2 40 40 x3 = true) (
  (f0 x3 M2).bind fun M4 =>
  fi (fm_is M4 39 39 a0 = true) (
  let M5 : FM := fm_sR M4 117 a0 0 x3
  some M5) none) none) none)
noncomputable def FX71_init_0 (a0 : Nat) (M : FM) : Option (FM) := BX71_init_0 FX62_init a0 M
noncomputable def FX71_init (a0 : Nat) (M : FM) : Option (FM) := FX71_init_0 a0 M
/-! BoardMachine$Floats$FloatUnit.<init>()V -/
noncomputable def BX59_init_0 (f0 : Nat → FM → Option (FM)) (f1 : Nat → Int32 → Int32 → Int32 → FM → Option (FM)) (f2 : FM → Option (Nat × FM)) (f3 : FM → Option (Nat × FM)) (f4 : Nat → Int32 → FM → Option (FM)) (f5 : Nat → FM → Option (FM)) (f6 : Nat → FM → Option (FM)) (f7 : Nat → FM → Option (FM)) (f8 : Nat → FM → Option (FM)) (f9 : Nat → FM → Option (FM)) (a0 : Nat) (M : FM) : Option (FM) :=
  fi (a0 = 0) none (
  fi (¬ (Int32.ofInt 32) < 0 ∧ (Int32.ofInt 32).toNatClampNeg * 8 ≤ 536870912) (
  let x2 : Nat := fm_nx M
  let M1 : FM := fm_newa M 902 93 (Int32.ofInt 32).toNatClampNeg
  fi (fm_is M1 32 32 a0 = true) (
  let M3 : FM := fm_sR M1 93 a0 0 x2
  let x5 : Nat := fm_nx M3
  let M4 : FM := fm_new M3 31 2
  fi (fm_is M4 31 31 x5 = true) (
  (f0 x5 M4).bind fun M6 =>
  fi (fm_is M6 32 32 a0 = true) (
  let M7 : FM := fm_sR M6 94 a0 0 x5
  fi (¬ (Int32.ofInt 2) < 0 ∧ (Int32.ofInt 2).toNatClampNeg * 4 ≤ 536870912) (
  let x9 : Nat := fm_nx M7
  let M8 : FM := fm_newa M7 912 98 (Int32.ofInt 2).toNatClampNeg
  let x11 : Nat := fm_nx M8
  let M10 : FM := fm_new M8 33 4
  fi (fm_is M10 33 33 x11 = true) (
  (f1 x11 (Int32.ofInt 23) (Int32.ofInt 127) (Int32.ofInt 31) M10).bind fun M12 =>
  fi (fm_is M12 912 912 x9 = true ∧ fm_in M12 x9 (Int32.ofInt 0) = true) (
  fi (fm_is M12 33 33 x11 = true) (
  let M13 : FM := fm_sR M12 3 x9 (Int32.ofInt 0).toNatClampNeg x11
  let x15 : Nat := fm_nx M13
  let M14 : FM := fm_new M13 33 4
  fi (fm_is M14 33 33 x15 = true) (
  (f1 x15 (Int32.ofInt 52) (Int32.ofInt 1023) (Int32.ofInt 63) M14).bind fun M16 =>
  fi (fm_is M16 912 912 x9 = true ∧ fm_in M16 x9 (Int32.ofInt 1) = true) (
  fi (fm_is M16 33 33 x15 = true) (
  let M17 : FM := fm_sR M16 3 x9 (Int32.ofInt 1).toNatClampNeg x15
  fi (fm_is M17 32 32 a0 = true) (
  let M18 : FM := fm_sR M17 98 a0 0 x9
  (f2  M18).bind fun r19 =>
  fi (fm_is r19.2 32 32 a0 = true) (
  let M20 : FM := fm_sR r19.2 99 a0 0 r19.1
  (f3  M20).bind fun r21 =>
  fi (fm_is r21.2 32 32 a0 = true) (
  let M22 : FM := fm_sR r21.2 100 a0 0 r21.1
  fi (¬ (Int32.ofInt 4) < 0 ∧ (Int32.ofInt 4).toNatClampNeg * 4 ≤ 536870912) (
  let x24 : Nat := fm_nx M22
  let M23 : FM := fm_newa M22 914 101 (Int32.ofInt 4).toNatClampNeg
  let x26 : Nat := fm_nx M23
  let M25 : FM := fm_new M23 38 1
  fi (fm_is M25 38 38 x26 = true) (
  (f4 x26 (Int32.ofInt 0) M25).bind fun M27 =>
  fi (fm_is M27 914 914 x24 = true ∧ fm_in M27 x24 (Int32.ofInt 0) = true) (
  fi (fm_is M27 34 38 x26 = true) (
  let M28 : FM := fm_sR M27 3 x24 (Int32.ofInt 0).toNatClampNeg x26
  let x30 : Nat := fm_nx M28
  let M29 : FM := fm_new M28 38 1
  fi (fm_is M29 38 38 x30 = true) (
  (f4 x30 (Int32.ofInt 1) M29).bind fun M31 =>
  fi (fm_is M31 914 914 x24 = true ∧ fm_in M31 x24 (Int32.ofInt 1) = true) (
  fi (fm_is M31 34 38 x30 = true) (
  let M32 : FM := fm_sR M31 3 x24 (Int32.ofInt 1).toNatClampNeg x30
  let x34 : Nat := fm_nx M32
  let M33 : FM := fm_new M32 34 0
  fi (fm_is M33 34 34 x34 = true) (
  (f5 x34 M33).bind fun M35 =>
  fi (fm_is M35 914 914 x24 = true ∧ fm_in M35 x24 (Int32.ofInt 2) = true) (
  fi (fm_is M35 34 38 x34 = true) (
  let M36 : FM := fm_sR M35 3 x24 (Int32.ofInt 2).toNatClampNeg x34
  let x38 : Nat := fm_nx M36
  let M37 : FM := fm_new M36 35 0
  fi (fm_is M37 35 35 x38 = true) (
  (f6 x38 M37).bind fun M39 =>
  fi (fm_is M39 914 914 x24 = true ∧ fm_in M39 x24 (Int32.ofInt 3) = true) (
  fi (fm_is M39 34 38 x38 = true) (
  let M40 : FM := fm_sR M39 3 x24 (Int32.ofInt 3).toNatClampNeg x38
  fi (fm_is M40 32 32 a0 = true) (
  let M41 : FM := fm_sR M40 101 a0 0 x24
  fi (fm_is M41 32 32 a0 = true) (
  let x42 : Nat := (M41.2.2 101 a0 0)
  fi (fm_is M41 910 990 x42 = true ∧ fm_in M41 x42 (Int32.ofInt 2) = true) (
  fi (fm_is M41 32 32 a0 = true) (
  let M43 : FM := fm_sR M41 102 a0 0 (M41.2.2 3 x42 (Int32.ofInt 2).toNatClampNeg)
  let x45 : Nat := fm_nx M43
  let M44 : FM := fm_new M43 36 0
  fi (fm_is M44 36 36 x45 = true) (
  (f7 x45 M44).bind fun M46 =>
  fi (fm_is M46 32 32 a0 = true) (
  let M47 : FM := fm_sR M46 103 a0 0 x45
  let x49 : Nat := fm_nx M47
  let M48 : FM := fm_new M47 37 0
  fi (fm_is M48 37 37 x49 = true) (
  (f8 x49 M48).bind fun M50 =>
  fi (fm_is M50 32 32 a0 = true) (
  let M51 : FM := fm_sR M50 104 a0 0 x49
  let x53 : Nat := fm_nx M51
  let M52 : FM := fm_new M51 39 5
  fi (fm_is M52 39 39 x53 = true) (
  (f9 x53 M52).bind fun M54 =>
  fi (fm_is M54 32 32 a0 = true) (
  let M55 : FM := fm_sR M54 105 a0 0 x53
  let x57 : Nat := fm_nx M55
  let M56 : FM := fm_new M55 39 5
  fi (fm_is M56 39 39 x57 = true) (
  (f9 x57 M56).bind fun M58 =>
  fi (fm_is M58 32 32 a0 = true) (
  let M59 : FM := fm_sR M58 106 a0 0 x57
  let x61 : Nat := fm_nx M59
  let M60 : FM := fm_new M59 39 5
  fi (fm_is M60 39 39 x61 = true) (
  (f9 x61 M60).bind fun M62 =>
  fi (fm_is M62 32 32 a0 = true) (
  let M63 : FM := fm_sR M62 107 a0 0 x61
  let x65 : Nat := fm_nx M63
  let M64 : FM := fm_new M63 39 5
  fi (fm_is M64 39 39 x65 = true) (
  (f9 x65 M64).bind fun M66 =>
  fi (fm_is M66 32 32 a0 = true) (
  let M67 : FM := fm_sR M66 108 a0 0 x65
  some M67) none) none) none) none) none) none) none) none) none) none) none) none) none) none) none) none) none) none) none) none) none) none) none) none) none) none) none) none) none) none) none) none) none) none) none) none) none) none) none) none) none) none) none)
noncomputable def FX59_init_0 (a0 : Nat) (M : FM) : Option (FM) := BX59_init_0 FX60_init FX61_init Fh_values_1 Fh_values_3 FX66_init FX67_init FX68_init FX69_init FX70_init FX71_init a0 M
noncomputable def FX59_init (a0 : Nat) (M : FM) : Option (FM) := FX59_init_0 a0 M
/-! BoardMachine$Found.<init>()V -/
noncomputable def BX73_init_0 (a0 : Nat) (M : FM) : Option (FM) :=
  fi (a0 = 0) none (
  fi (¬ (Int32.ofInt 8) < 0 ∧ (Int32.ofInt 8).toNatClampNeg * 8 ≤ 536870912) (
  let x2 : Nat := fm_nx M
  let M1 : FM := fm_newa M 902 121 (Int32.ofInt 8).toNatClampNeg
  fi (fm_is M1 41 41 a0 = true) (
  let M3 : FM := fm_sR M1 121 a0 0 x2
  some M3) none) none)
noncomputable def FX73_init_0 (a0 : Nat) (M : FM) : Option (FM) := BX73_init_0 a0 M
noncomputable def FX73_init (a0 : Nat) (M : FM) : Option (FM) := FX73_init_0 a0 M
/-! BoardMachine$Controls$Register.<init>()V -/
noncomputable def BX75_init_0 (a0 : Nat) (M : FM) : Option (FM) :=
  fi (a0 = 0) none (
  some M)
noncomputable def FX75_init_0 (a0 : Nat) (M : FM) : Option (FM) := BX75_init_0 a0 M
noncomputable def FX75_init (a0 : Nat) (M : FM) : Option (FM) := FX75_init_0 a0 M
/-! BoardMachine$Controls$Constant.<init>(J)V -/
noncomputable def BX76_init_0 (f0 : Nat → FM → Option (FM)) (a0 : Nat) (a1 : Int64) (M : FM) : Option (FM) :=
  fi (fm_is M 13 13 a0 = true) (
  (f0 a0 M).bind fun M1 =>
  fi (fm_is M1 13 13 a0 = true) (
  let M2 : FM := fm_sL M1 40 a0 0 a1
  some M2) none) none
noncomputable def FX76_init_0 (a0 : Nat) (a1 : Int64) (M : FM) : Option (FM) := BX76_init_0 FX75_init a0 a1 M
noncomputable def FX76_init (a0 : Nat) (a1 : Int64) (M : FM) : Option (FM) := FX76_init_0 a0 a1 M
/-! BoardMachine$Controls$Masked.<init>(J)V -/
noncomputable def BX77_init_0 (f0 : Nat → FM → Option (FM)) (a0 : Nat) (a1 : Int64) (M : FM) : Option (FM) :=
  fi (fm_is M 14 17 a0 = true) (
  (f0 a0 M).bind fun M1 =>
  fi (fm_is M1 14 17 a0 = true) (
  let M2 : FM := fm_sL M1 42 a0 0 a1
  some M2) none) none
noncomputable def FX77_init_0 (a0 : Nat) (a1 : Int64) (M : FM) : Option (FM) := BX77_init_0 FX75_init a0 a1 M
noncomputable def FX77_init (a0 : Nat) (a1 : Int64) (M : FM) : Option (FM) := FX77_init_0 a0 a1 M
/-! BoardMachine$Controls$Status.<init>()V -/
noncomputable def BX78_init_0 (f0 : Nat → Int64 → FM → Option (FM)) (a0 : Nat) (M : FM) : Option (FM) :=
  fi (fm_is M 16 16 a0 = true) (
  (f0 a0 (Int64.ofInt 8288682) M).bind fun M1 =>
  some M1) none
noncomputable def FX78_init_0 (a0 : Nat) (M : FM) : Option (FM) := BX78_init_0 FX77_init a0 M
noncomputable def FX78_init (a0 : Nat) (M : FM) : Option (FM) := FX78_init_0 a0 M
/-! BoardMachine$Controls$Pending.<init>()V -/
noncomputable def BX79_init_0 (f0 : Nat → Int64 → FM → Option (FM)) (a0 : Nat) (M : FM) : Option (FM) :=
  fi (fm_is M 15 15 a0 = true) (
  (f0 a0 (Int64.ofInt 546) M).bind fun M1 =>
  some M1) none
noncomputable def FX79_init_0 (a0 : Nat) (M : FM) : Option (FM) := BX79_init_0 FX77_init a0 M
noncomputable def FX79_init (a0 : Nat) (M : FM) : Option (FM) := FX79_init_0 a0 M
/-! BoardMachine$Controls$TrapBank.<init>()V -/
noncomputable def BX80_init_0 (f0 : Nat → Int64 → FM → Option (FM)) (a0 : Nat) (M : FM) : Option (FM) :=
  fi (a0 = 0) none (
  let x2 : Nat := fm_nx M
  let M1 : FM := fm_new M 14 2
  fi (fm_is M1 14 14 x2 = true) (
  (f0 x2 (Int64.ofInt (-3)) M1).bind fun M3 =>
  fi (fm_is M3 20 20 a0 = true) (
  let M4 : FM := fm_sR M3 49 a0 0 x2
  let x6 : Nat := fm_nx M4
  let M5 : FM := fm_new M4 14 2
  fi (fm_is M5 14 14 x6 = true) (
  (f0 x6 (Int64.ofInt (-1)) M5).bind fun M7 =>
  fi (fm_is M7 20 20 a0 = true) (
  let M8 : FM := fm_sR M7 50 a0 0 x6
  let x10 : Nat := fm_nx M8
  let M9 : FM := fm_new M8 14 2
  fi (fm_is M9 14 14 x10 = true) (
  (f0 x10 (Int64.ofInt (-2)) M9).bind fun M11 =>
  fi (fm_is M11 20 20 a0 = true) (
  let M12 : FM := fm_sR M11 51 a0 0 x10
  let x14 : Nat := fm_nx M12
  let M13 : FM := fm_new M12 14 2
  fi (fm_is M13 14 14 x14 = true) (
  (f0 x14 (Int64.ofInt (-1)) M13).bind fun M15 =>
  fi (fm_is M15 20 20 a0 = true) (
  let M16 : FM := fm_sR M15 52 a0 0 x14
  let x18 : Nat := fm_nx M16
  let M17 : FM := fm_new M16 14 2
  fi (fm_is M17 14 14 x18 = true) (
  (f0 x18 (Int64.ofInt (-1)) M17).bind fun M19 =>
  fi (fm_is M19 20 20 a0 = true) (
  let M20 : FM := fm_sR M19 53 a0 0 x18
  let x22 : Nat := fm_nx M20
  let M21 : FM := fm_new M20 14 2
  fi (fm_is M21 14 14 x22 = true) (
  (f0 x22 (Int64.ofInt 7) M21).bind fun M23 =>
  fi (fm_is M23 20 20 a0 = true) (
  let M24 : FM := fm_sR M23 54 a0 0 x22
  some M24) none) none) none) none) none) none) none) none) none) none) none) none)
noncomputable def FX80_init_0 (a0 : Nat) (M : FM) : Option (FM) := BX80_init_0 FX77_init a0 M
noncomputable def FX80_init (a0 : Nat) (M : FM) : Option (FM) := FX80_init_0 a0 M
/-! BoardMachine$Controls$Window.<init>(LBoardMachine$Controls$Masked;LBoardMachine$Controls$Register;JJ)V -/
noncomputable def BX81_init_0 (f0 : Nat → FM → Option (FM)) (a0 : Nat) (a1 : Nat) (a2 : Nat) (a3 : Int64) (a5 : Int64) (M : FM) : Option (FM) :=
  fi (fm_is M 19 19 a0 = true) (
  (f0 a0 M).bind fun M1 =>
  fi (fm_is M1 19 19 a0 = true) (
  let M2 : FM := fm_sR M1 45 a0 0 a1
  fi (fm_is M2 19 19 a0 = true) (
  let M3 : FM := fm_sR M2 46 a0 0 a2
  fi (fm_is M3 19 19 a0 = true) (
  let M4 : FM := fm_sL M3 47 a0 0 a3
  fi (fm_is M4 19 19 a0 = true) (
  let M5 : FM := fm_sL M4 48 a0 0 a5
  some M5) none) none) none) none) none
noncomputable def FX81_init_0 (a0 : Nat) (a1 : Nat) (a2 : Nat) (a3 : Int64) (a5 : Int64) (M : FM) : Option (FM) := BX81_init_0 FX75_init a0 a1 a2 a3 a5 M
noncomputable def FX81_init (a0 : Nat) (a1 : Nat) (a2 : Nat) (a3 : Int64) (a5 : Int64) (M : FM) : Option (FM) := FX81_init_0 a0 a1 a2 a3 a5 M
/-! BoardMachine$Controls$TableRegister.<init>()V -/
noncomputable def BX82_init_0 (f0 : Nat → Int64 → FM → Option (FM)) (a0 : Nat) (M : FM) : Option (FM) :=
  fi (fm_is M 17 17 a0 = true) (
  (f0 a0 (Int64.ofInt (-1)) M).bind fun M1 =>
  some M1) none
noncomputable def FX82_init_0 (a0 : Nat) (M : FM) : Option (FM) := BX82_init_0 FX77_init a0 M
noncomputable def FX82_init (a0 : Nat) (M : FM) : Option (FM) := FX82_init_0 a0 M
/-! BoardMachine$Controls$ControlUnit.lay(LBoardMachine$Controls$TrapBank;I)V -/
noncomputable def BX74_lay_0 (a0 : Nat) (a1 : Nat) (a2 : Int32) (M : FM) : Option (FM) :=
  fi (fm_is M 12 12 a0 = true) (
  fi (fm_is M 20 20 a1 = true) (
  let x1 : Nat := (M.2.2 49 a1 0)
  let x2 : Nat := (M.2.2 25 a0 0)
  fi (fm_is M 910 910 x2 = true ∧ fm_in M x2 a2 = true) (
  fi (fm_is M 13 19 x1 = true) (
  let M3 : FM := fm_sR M 3 x2 a2.toNatClampNeg x1
  fi (fm_is M3 12 12 a0 = true) (
  fi (fm_is M3 20 20 a1 = true) (
  let x4 : Nat := (M3.2.2 54 a1 0)
  let x5 : Int32 := (a2 + (Int32.ofInt 1))
  let x6 : Nat := (M3.2.2 25 a0 0)
  fi (fm_is M3 910 910 x6 = true ∧ fm_in M3 x6 x5 = true) (
  fi (fm_is M3 13 19 x4 = true) (
  let M7 : FM := fm_sR M3 3 x6 x5.toNatClampNeg x4
  fi (fm_is M7 12 12 a0 = true) (
  fi (fm_is M7 20 20 a1 = true) (
  let x8 : Nat := (M7.2.2 50 a1 0)
  let x9 : Int32 := (a2 + (Int32.ofInt 59))
  let x10 : Nat := (M7.2.2 25 a0 0)
  fi (fm_is M7 910 910 x10 = true ∧ fm_in M7 x10 x9 = true) (
  fi (fm_is M7 13 19 x8 = true) (
  let M11 : FM := fm_sR M7 3 x10 x9.toNatClampNeg x8
  fi (fm_is M11 12 12 a0 = true) (
  fi (fm_is M11 20 20 a1 = true) (
  let x12 : Nat := (M11.2.2 51 a1 0)
  let x13 : Int32 := (a2 + (Int32.ofInt 60))
  let x14 : Nat := (M11.2.2 25 a0 0)
  fi (fm_is M11 910 910 x14 = true ∧ fm_in M11 x14 x13 = true) (
  fi (fm_is M11 13 19 x12 = true) (
  let M15 : FM := fm_sR M11 3 x14 x13.toNatClampNeg x12
  fi (fm_is M15 12 12 a0 = true) (
  fi (fm_is M15 20 20 a1 = true) (
  let x16 : Nat := (M15.2.2 52 a1 0)
  let x17 : Int32 := (a2 + (Int32.ofInt 61))
  let x18 : Nat := (M15.2.2 25 a0 0)
  fi (fm_is M15 910 910 x18 = true ∧ fm_in M15 x18 x17 = true) (
  fi (fm_is M15 13 19 x16 = true) (
  let M19 : FM := fm_sR M15 3 x18 x17.toNatClampNeg x16
  fi (fm_is M19 12 12 a0 = true) (
  fi (fm_is M19 20 20 a1 = true) (
  let x20 : Nat := (M19.2.2 53 a1 0)
  let x21 : Int32 := (a2 + (Int32.ofInt 62))
  let x22 : Nat := (M19.2.2 25 a0 0)
  fi (fm_is M19 910 910 x22 = true ∧ fm_in M19 x22 x21 = true) (
  fi (fm_is M19 13 19 x20 = true) (
  let M23 : FM := fm_sR M19 3 x22 x21.toNatClampNeg x20
  some M23) none) none) none) none) none) none) none) none) none) none) none) none) none) none) none) none) none) none) none) none) none) none) none) none
noncomputable def FX74_lay_0 (a0 : Nat) (a1 : Nat) (a2 : Int32) (M : FM) : Option (FM) := BX74_lay_0 a0 a1 a2 M
noncomputable def FX74_lay (a0 : Nat) (a1 : Nat) (a2 : Int32) (M : FM) : Option (FM) := FX74_lay_0 a0 a1 a2 M
/-! BoardMachine$Controls$Shadow.<init>(LBoardMachine$Controls$Register;)V -/
noncomputable def BX83_init_0 (f0 : Nat → FM → Option (FM)) (a0 : Nat) (a1 : Nat) (M : FM) : Option (FM) :=
  fi (fm_is M 18 18 a0 = true) (
  (f0 a0 M).bind fun M1 =>
  fi (fm_is M1 18 18 a0 = true) (
  let M2 : FM := fm_sR M1 44 a0 0 a1
  some M2) none) none
noncomputable def FX83_init_0 (a0 : Nat) (a1 : Nat) (M : FM) : Option (FM) := BX83_init_0 FX75_init a0 a1 M
noncomputable def FX83_init (a0 : Nat) (a1 : Nat) (M : FM) : Option (FM) := FX83_init_0 a0 a1 M
/-! BoardMachine$Controls$ControlUnit.fill(IILBoardMachine$Controls$Register;)V -/
noncomputable def BX74_fill_3 (k3 : Nat → Int32 → Nat → Int32 → FM → Option (FM)) (a0 : Nat) (a2 : Int32) (a3 : Nat) (a4 : Int32) (M : FM) : Option (FM) :=
  fi (a2 < a4) (
    some M) (
    fi (fm_is M 12 12 a0 = true) (
    let x1 : Nat := (M.2.2 25 a0 0)
    fi (fm_is M 910 910 x1 = true ∧ fm_in M x1 a4 = true) (
    fi (fm_is M 13 19 a3 = true) (
    let M2 : FM := fm_sR M 3 x1 a4.toNatClampNeg a3
    let x3 : Int32 := a4 + (Int32.ofInt 1)
    k3 a0 a2 a3 x3 M2) none) none) none)
noncomputable def FX74_fill_3 (n : Nat) (k3 : Nat → Int32 → Nat → Int32 → FM → Option (FM)) (a0 : Nat) (a2 : Int32) (a3 : Nat) (a4 : Int32) (M : FM) : Option (FM) := BX74_fill_3 k3 a0 a2 a3 a4 M
noncomputable def BX74_fill_0 (k3 : Nat → Int32 → Nat → Int32 → FM → Option (FM)) (a0 : Nat) (a1 : Int32) (a2 : Int32) (a3 : Nat) (M : FM) : Option (FM) :=
  k3 a0 a2 a3 a1 M
noncomputable def FX74_fill_0 (n : Nat) (k3 : Nat → Int32 → Nat → Int32 → FM → Option (FM)) (a0 : Nat) (a1 : Int32) (a2 : Int32) (a3 : Nat) (M : FM) : Option (FM) := BX74_fill_0 k3 a0 a1 a2 a3 M
noncomputable def FX74_fill_L3 (n : Nat) : Nat → Nat → Int32 → Nat → Int32 → FM → Option (FM)
  | 0 => fun _ _ _ _ _ => none
  | j + 1 => FX74_fill_3 n (FX74_fill_L3 n j)
noncomputable def FX74_fill (n : Nat) (a0 : Nat) (a1 : Int32) (a2 : Int32) (a3 : Nat) (M : FM) : Option (FM) := FX74_fill_0 n (FX74_fill_L3 n n) a0 a1 a2 a3 M
/-! BoardMachine$Controls$ControlUnit.<init>(I)V -/
noncomputable def BX74_init_0 (f0 : Nat → Int64 → FM → Option (FM)) (f1 : Nat → FM → Option (FM)) (f2 : Nat → Int64 → FM → Option (FM)) (f3 : Nat → FM → Option (FM)) (f4 : Nat → FM → Option (FM)) (f5 : Nat → Nat → Nat → Int64 → Int64 → FM → Option (FM)) (f6 : Nat → FM → Option (FM)) (f7 : Nat → Nat → Int32 → FM → Option (FM)) (f8 : Nat → Nat → FM → Option (FM)) (f9 : Nat → Int32 → Int32 → Nat → FM → Option (FM)) (a0 : Nat) (a1 : Int32) (M : FM) : Option (FM) :=
  fi (a0 = 0) none (
  fi (¬ (Int32.ofInt 6) < 0 ∧ (Int32.ofInt 6).toNatClampNeg * 4 ≤ 536870912) (
  let x2 : Nat := fm_nx M
  let M1 : FM := fm_newa M 901 24 (Int32.ofInt 6).toNatClampNeg
  fi (fm_is M1 901 901 x2 = true ∧ fm_in M1 x2 (Int32.ofInt 0) = true) (
  let M3 : FM := fm_sI M1 3 x2 (Int32.ofInt 0).toNatClampNeg (Int32.ofInt 11)
  fi (fm_is M3 901 901 x2 = true ∧ fm_in M3 x2 (Int32.ofInt 1) = true) (
  let M4 : FM := fm_sI M3 3 x2 (Int32.ofInt 1).toNatClampNeg (Int32.ofInt 3)
  fi (fm_is M4 901 901 x2 = true ∧ fm_in M4 x2 (Int32.ofInt 2) = true) (
  let M5 : FM := fm_sI M4 3 x2 (Int32.ofInt 2).toNatClampNeg (Int32.ofInt 7)
  fi (fm_is M5 901 901 x2 = true ∧ fm_in M5 x2 (Int32.ofInt 3) = true) (
  let M6 : FM := fm_sI M5 3 x2 (Int32.ofInt 3).toNatClampNeg (Int32.ofInt 9)
  fi (fm_is M6 901 901 x2 = true ∧ fm_in M6 x2 (Int32.ofInt 4) = true) (
  let M7 : FM := fm_sI M6 3 x2 (Int32.ofInt 4).toNatClampNeg (Int32.ofInt 1)
  fi (fm_is M7 901 901 x2 = true ∧ fm_in M7 x2 (Int32.ofInt 5) = true) (
  let M8 : FM := fm_sI M7 3 x2 (Int32.ofInt 5).toNatClampNeg (Int32.ofInt 5)
  fi (fm_is M8 12 12 a0 = true) (
  let M9 : FM := fm_sR M8 24 a0 0 x2
  fi (¬ (Int32.ofInt 4096) < 0 ∧ (Int32.ofInt 4096).toNatClampNeg * 4 ≤ 536870912) (
  let x11 : Nat := fm_nx M9
  let M10 : FM := fm_newa M9 910 25 (Int32.ofInt 4096).toNatClampNeg
  fi (fm_is M10 12 12 a0 = true) (
  let M12 : FM := fm_sR M10 25 a0 0 x11
  let x14 : Nat := fm_nx M12
  let M13 : FM := fm_new M12 13 1
  fi (fm_is M13 13 13 x14 = true) (
  (f0 x14 (Int64.ofInt 0) M13).bind fun M15 =>
  fi (fm_is M15 12 12 a0 = true) (
  let M16 : FM := fm_sR M15 26 a0 0 x14
  let x18 : Nat := fm_nx M16
  let M17 : FM := fm_new M16 16 2
  fi (fm_is M17 16 16 x18 = true) (
  (f1 x18 M17).bind fun M19 =>
  fi (fm_is M19 12 12 a0 = true) (
  let M20 : FM := fm_sR M19 27 a0 0 x18
  let x22 : Nat := fm_nx M20
  let M21 : FM := fm_new M20 14 2
  fi (fm_is M21 14 14 x22 = true) (
  (f2 x22 (Int64.ofInt 46079) M21).bind fun M23 =>
  fi (fm_is M23 12 12 a0 = true) (
  let M24 : FM := fm_sR M23 28 a0 0 x22
  let x26 : Nat := fm_nx M24
  let M25 : FM := fm_new M24 14 2
  fi (fm_is M25 14 14 x26 = true) (
  (f2 x26 (Int64.ofInt 546) M25).bind fun M27 =>
  fi (fm_is M27 12 12 a0 = true) (
  let M28 : FM := fm_sR M27 29 a0 0 x26
  let x30 : Nat := fm_nx M28
  let M29 : FM := fm_new M28 14 2
  fi (fm_is M29 14 14 x30 = true) (
  (f2 x30 (Int64.ofInt 2730) M29).bind fun M31 =>
  fi (fm_is M31 12 12 a0 = true) (
  let M32 : FM := fm_sR M31 30 a0 0 x30
  let x34 : Nat := fm_nx M32
  let M33 : FM := fm_new M32 15 3
  fi (fm_is M33 15 15 x34 = true) (
  (f3 x34 M33).bind fun M35 =>
  fi (fm_is M35 12 12 a0 = true) (
  let M36 : FM := fm_sR M35 31 a0 0 x34
  let x38 : Nat := fm_nx M36
  let M37 : FM := fm_new M36 20 6
  fi (fm_is M37 20 20 x38 = true) (
  (f4 x38 M37).bind fun M39 =>
  fi (fm_is M39 12 12 a0 = true) (
  let M40 : FM := fm_sR M39 32 a0 0 x38
  let x42 : Nat := fm_nx M40
  let M41 : FM := fm_new M40 20 6
  fi (fm_is M41 20 20 x42 = true) (
  (f4 x42 M41).bind fun M43 =>
  fi (fm_is M43 12 12 a0 = true) (
  let M44 : FM := fm_sR M43 33 a0 0 x42
  let x46 : Nat := fm_nx M44
  let M45 : FM := fm_new M44 14 2
  fi (fm_is M45 14 14 x46 = true) (
  (f2 x46 (Int64.ofInt (-1)) M45).bind fun M47 =>
  fi (fm_is M47 12 12 a0 = true) (
  let M48 : FM := fm_sR M47 34 a0 0 x46
  let x50 : Nat := fm_nx M48
  let M49 : FM := fm_new M48 14 2
  fi (fm_is M49 14 14 x50 = true) (
  (f2 x50 (Int64.ofInt (-1)) M49).bind fun M51 =>
  fi (fm_is M51 12 12 a0 = true) (
  let M52 : FM := fm_sR M51 35 a0 0 x50
  let x54 : Nat := fm_nx M52
  let M53 : FM := fm_new M52 14 2
  fi (fm_is M53 14 14 x54 = true) (
  (f2 x54 (Int64.ofInt (-1)) M53).bind fun M55 =>
  fi (fm_is M55 12 12 a0 = true) (
  let M56 : FM := fm_sR M55 36 a0 0 x54
  fi (fm_is M56 12 12 a0 = true) (
  let M57 : FM := fm_sI M56 37 a0 0 (Int32.ofInt 3)
  let x59 : Nat := fm_nx M57
  let M58 : FM := fm_new M57 13 1
  fi (fm_is M58 13 13 x59 = true) (
  (f0 x59 (Int64.ofInt 811298) M58).bind fun M60 =>
  fi (fm_is M60 12 12 a0 = true) (
  fi (fm_is M60 12 12 a0 = true) (
  let x61 : Nat := (M60.2.2 27 a0 0)
  let x62 : Nat := (M60.2.2 25 a0 0)
  fi (fm_is M60 910 910 x62 = true ∧ fm_in M60 x62 (Int32.ofInt 768) = true) (
  fi (fm_is M60 13 19 x61 = true) (
  let M63 : FM := fm_sR M60 3 x62 (Int32.ofInt 768).toNatClampNeg x61
  fi (fm_is M63 12 12 a0 = true) (
  let x65 : Nat := fm_nx M63
  let M64 : FM := fm_new M63 19 4
  fi (fm_is M64 12 12 a0 = true) (
  fi (fm_is M64 19 19 x65 = true) (
  (f5 x65 (M64.2.2 27 a0 0) x59 (Int64.ofInt (-1)) (Int64.ofInt (-9223372028264841216)) M64).bind fun M66 =>
  let x67 : Nat := (M63.2.2 25 a0 0)
  fi (fm_is M66 910 910 x67 = true ∧ fm_in M66 x67 (Int32.ofInt 256) = true) (
  fi (fm_is M66 13 19 x65 = true) (
  let M68 : FM := fm_sR M66 3 x67 (Int32.ofInt 256).toNatClampNeg x65
  fi (fm_is M68 12 12 a0 = true) (
  let x70 : Nat := fm_nx M68
  let M69 : FM := fm_new M68 13 1
  fi (fm_is M69 13 13 x70 = true) (
  (f0 x70 (Int64.ofInt (-9223372036853460691)) M69).bind fun M71 =>
  let x72 : Nat := (M68.2.2 25 a0 0)
  fi (fm_is M71 910 910 x72 = true ∧ fm_in M71 x72 (Int32.ofInt 769) = true) (
  fi (fm_is M71 13 19 x70 = true) (
  let M73 : FM := fm_sR M71 3 x72 (Int32.ofInt 769).toNatClampNeg x70
  fi (fm_is M73 12 12 a0 = true) (
  fi (fm_is M73 12 12 a0 = true) (
  let x74 : Nat := (M73.2.2 28 a0 0)
  let x75 : Nat := (M73.2.2 25 a0 0)
  fi (fm_is M73 910 910 x75 = true ∧ fm_in M73 x75 (Int32.ofInt 770) = true) (
  fi (fm_is M73 13 19 x74 = true) (
  let M76 : FM := fm_sR M73 3 x75 (Int32.ofInt 770).toNatClampNeg x74
  fi (fm_is M76 12 12 a0 = true) (
  fi (fm_is M76 12 12 a0 = true) (
  let x77 : Nat := (M76.2.2 29 a0 0)
  let x78 : Nat := (M76.2.2 25 a0 0)
  fi (fm_is M76 910 910 x78 = true ∧ fm_in M76 x78 (Int32.ofInt 771) = true) (
  fi (fm_is M76 13 19 x77 = true) (
  let M79 : FM := fm_sR M76 3 x78 (Int32.ofInt 771).toNatClampNeg x77
  fi (fm_is M79 12 12 a0 = true) (
  fi (fm_is M79 12 12 a0 = true) (
  let x80 : Nat := (M79.2.2 30 a0 0)
  let x81 : Nat := (M79.2.2 25 a0 0)
  fi (fm_is M79 910 910 x81 = true ∧ fm_in M79 x81 (Int32.ofInt 772) = true) (
  fi (fm_is M79 13 19 x80 = true) (
  let M82 : FM := fm_sR M79 3 x81 (Int32.ofInt 772).toNatClampNeg x80
  fi (fm_is M82 12 12 a0 = true) (
  let x84 : Nat := fm_nx M82
  let M83 : FM := fm_new M82 19 4
  fi (fm_is M83 12 12 a0 = true) (
  fi (fm_is M83 12 12 a0 = true) (
  fi (fm_is M83 19 19 x84 = true) (
  (f5 x84 (M83.2.2 30 a0 0) (M83.2.2 29 a0 0) (Int64.ofInt (-1)) (Int64.ofInt 0) M83).bind fun M85 =>
  let x86 : Nat := (M82.2.2 25 a0 0)
  fi (fm_is M85 910 910 x86 = true ∧ fm_in M85 x86 (Int32.ofInt 260) = true) (
  fi (fm_is M85 13 19 x84 = true) (
  let M87 : FM := fm_sR M85 3 x86 (Int32.ofInt 260).toNatClampNeg x84
  fi (fm_is M87 12 12 a0 = true) (
  fi (fm_is M87 12 12 a0 = true) (
  let x88 : Nat := (M87.2.2 31 a0 0)
  let x89 : Nat := (M87.2.2 25 a0 0)
  fi (fm_is M87 910 910 x89 = true ∧ fm_in M87 x89 (Int32.ofInt 836) = true) (
  fi (fm_is M87 13 19 x88 = true) (
  let M90 : FM := fm_sR M87 3 x89 (Int32.ofInt 836).toNatClampNeg x88
  fi (fm_is M90 12 12 a0 = true) (
  let x92 : Nat := fm_nx M90
  let M91 : FM := fm_new M90 19 4
  fi (fm_is M91 12 12 a0 = true) (
  fi (fm_is M91 12 12 a0 = true) (
  fi (fm_is M91 19 19 x92 = true) (
  (f5 x92 (M91.2.2 31 a0 0) (M91.2.2 29 a0 0) (Int64.ofInt 2) (Int64.ofInt 0) M91).bind fun M93 =>
  let x94 : Nat := (M90.2.2 25 a0 0)
  fi (fm_is M93 910 910 x94 = true ∧ fm_in M93 x94 (Int32.ofInt 324) = true) (
  fi (fm_is M93 13 19 x92 = true) (
  let M95 : FM := fm_sR M93 3 x94 (Int32.ofInt 324).toNatClampNeg x92
  fi (fm_is M95 12 12 a0 = true) (
  let x97 : Nat := fm_nx M95
  let M96 : FM := fm_new M95 17 2
  fi (fm_is M96 17 17 x97 = true) (
  (f6 x97 M96).bind fun M98 =>
  let x99 : Nat := (M95.2.2 25 a0 0)
  fi (fm_is M98 910 910 x99 = true ∧ fm_in M98 x99 (Int32.ofInt 384) = true) (
  fi (fm_is M98 13 19 x97 = true) (
  let M100 : FM := fm_sR M98 3 x99 (Int32.ofInt 384).toNatClampNeg x97
  fi (fm_is M100 12 12 a0 = true) (
  fi (fm_is M100 12 12 a0 = true) (
  (f7 a0 (M100.2.2 32 a0 0) (Int32.ofInt 773) M100).bind fun M101 =>
  fi (fm_is M101 12 12 a0 = true) (
  fi (fm_is M101 12 12 a0 = true) (
  (f7 a0 (M101.2.2 33 a0 0) (Int32.ofInt 261) M101).bind fun M102 =>
  fi (fm_is M102 12 12 a0 = true) (
  fi (fm_is M102 12 12 a0 = true) (
  let x103 : Nat := (M102.2.2 34 a0 0)
  let x104 : Nat := (M102.2.2 25 a0 0)
  fi (fm_is M102 910 910 x104 = true ∧ fm_in M102 x104 (Int32.ofInt 2816) = true) (
  fi (fm_is M102 13 19 x103 = true) (
  let M105 : FM := fm_sR M102 3 x104 (Int32.ofInt 2816).toNatClampNeg x103
  fi (fm_is M105 12 12 a0 = true) (
  fi (fm_is M105 12 12 a0 = true) (
  let x106 : Nat := (M105.2.2 35 a0 0)
  let x107 : Nat := (M105.2.2 25 a0 0)
  fi (fm_is M105 910 910 x107 = true ∧ fm_in M105 x107 (Int32.ofInt 2818) = true) (
  fi (fm_is M105 13 19 x106 = true) (
  let M108 : FM := fm_sR M105 3 x107 (Int32.ofInt 2818).toNatClampNeg x106
  fi (fm_is M108 12 12 a0 = true) (
  let x110 : Nat := fm_nx M108
  let M109 : FM := fm_new M108 18 1
  fi (fm_is M109 12 12 a0 = true) (
  fi (fm_is M109 18 18 x110 = true) (
  (f8 x110 (M109.2.2 34 a0 0) M109).bind fun M111 =>
  let x112 : Nat := (M108.2.2 25 a0 0)
  fi (fm_is M111 910 910 x112 = true ∧ fm_in M111 x112 (Int32.ofInt 3072) = true) (
  fi (fm_is M111 13 19 x110 = true) (
  let M113 : FM := fm_sR M111 3 x112 (Int32.ofInt 3072).toNatClampNeg x110
  fi (fm_is M113 12 12 a0 = true) (
  let x115 : Nat := fm_nx M113
  let M114 : FM := fm_new M113 18 1
  fi (fm_is M114 12 12 a0 = true) (
  fi (fm_is M114 18 18 x115 = true) (
  (f8 x115 (M114.2.2 36 a0 0) M114).bind fun M116 =>
  let x117 : Nat := (M113.2.2 25 a0 0)
  fi (fm_is M116 910 910 x117 = true ∧ fm_in M116 x117 (Int32.ofInt 3073) = true) (
  fi (fm_is M116 13 19 x115 = true) (
  let M118 : FM := fm_sR M116 3 x117 (Int32.ofInt 3073).toNatClampNeg x115
  fi (fm_is M118 12 12 a0 = true) (
  let x120 : Nat := fm_nx M118
  let M119 : FM := fm_new M118 18 1
  fi (fm_is M119 12 12 a0 = true) (
  fi (fm_is M119 18 18 x120 = true) (
  (f8 x120 (M119.2.2 35 a0 0) M119).bind fun M121 =>
  let x122 : Nat := (M118.2.2 25 a0 0)
  fi (fm_is M121 910 910 x122 = true ∧ fm_in M121 x122 (Int32.ofInt 3074) = true) (
  fi (fm_is M121 13 19 x120 = true) (
  let M123 : FM := fm_sR M121 3 x122 (Int32.ofInt 3074).toNatClampNeg x120
  let x125 : Nat := fm_nx M123
  let M124 : FM := fm_new M123 13 1
  fi (fm_is M124 13 13 x125 = true) (
  (f0 x125 (Int64.ofInt 0) M124).bind fun M126 =>
  fi (fm_is M126 12 12 a0 = true) (
  (f9 a0 (Int32.ofInt 3857) (Int32.ofInt 3861) x125 M126).bind fun M127 =>
  fi (fm_is M127 12 12 a0 = true) (
  let x129 : Nat := fm_nx M127
  let M128 : FM := fm_new M127 13 1
  fi (fm_is M128 13 13 x129 = true) (
  (f0 x129 a1.toInt64 M128).bind fun M130 =>
  let x131 : Nat := (M127.2.2 25 a0 0)
  fi (fm_is M130 910 910 x131 = true ∧ fm_in M130 x131 (Int32.ofInt 3860) = true) (
  fi (fm_is M130 13 19 x129 = true) (
  let M132 : FM := fm_sR M130 3 x131 (Int32.ofInt 3860).toNatClampNeg x129
  fi (fm_is M132 12 12 a0 = true) (
  fi (fm_is M132 12 12 a0 = true) (
  (f9 a0 (Int32.ofInt 1) (Int32.ofInt 3) (M132.2.2 26 a0 0) M132).bind fun M133 =>
  fi (fm_is M133 12 12 a0 = true) (
  fi (fm_is M133 12 12 a0 = true) (
  (f9 a0 (Int32.ofInt 944) (Int32.ofInt 959) (M133.2.2 26 a0 0) M133).bind fun M134 =>
  fi (fm_is M134 12 12 a0 = true) (
  fi (fm_is M134 12 12 a0 = true) (
  let x135 : Nat := (M134.2.2 26 a0 0)
  let x136 : Nat := (M134.2.2 25 a0 0)
  fi (fm_is M134 910 910 x136 = true ∧ fm_in M134 x136 (Int32.ofInt 928) = true) (
  fi (fm_is M134 13 19 x135 = true) (
  let M137 : FM := fm_sR M134 3 x136 (Int32.ofInt 928).toNatClampNeg x135
  fi (fm_is M137 12 12 a0 = true) (
  fi (fm_is M137 12 12 a0 = true) (
  let x138 : Nat := (M137.2.2 26 a0 0)
  let x139 : Nat := (M137.2.2 25 a0 0)
  fi (fm_is M137 910 910 x139 = true ∧ fm_in M137 x139 (Int32.ofInt 930) = true) (
  fi (fm_is M137 13 19 x138 = true) (
  let M140 : FM := fm_sR M137 3 x139 (Int32.ofInt 930).toNatClampNeg x138
  some M140) none) none) none) none) none) none) none) none) none) none) none) none) none) none) none) none) none) none) none) none) none) none) none) none) none) none) none) none) none) none) none) none) none) none) none) none) none) none) none) none) none) none) none) none) none) none) none) none) none) none) none) none) none) none) none) none) none) none) none) none) none) none) none) none) none) none) none) none) none) none) none) none) none) none) none) none) none) none) none) none) none) none) none) none) none) none) none) none) none) none) none) none) none) none) none) none) none) none) none) none) none) none) none) none) none) none) none) none) none) none) none) none) none) none) none) none) none) none) none) none) none) none) none) none)
noncomputable def FX74_init_0 (n : Nat) (a0 : Nat) (a1 : Int32) (M : FM) : Option (FM) := BX74_init_0 FX76_init FX78_init FX77_init FX79_init FX80_init FX81_init FX82_init FX74_lay FX83_init (FX74_fill n) a0 a1 M
noncomputable def FX74_init (n : Nat) (a0 : Nat) (a1 : Int32) (M : FM) : Option (FM) := FX74_init_0 n a0 a1 M
/-! BoardMachine$TableWords.<init>(LBoardMachine$Memories$Ram;)V -/
noncomputable def BX85_init_0 (a0 : Nat) (a1 : Nat) (M : FM) : Option (FM) :=
  fi (a0 = 0) none (
  fi (fm_is M 81 81 a0 = true) (
  let M1 : FM := fm_sR M 247 a0 0 a1
  some M1) none)
noncomputable def FX85_init_0 (a0 : Nat) (a1 : Nat) (M : FM) : Option (FM) := BX85_init_0 a0 a1 M
noncomputable def FX85_init (a0 : Nat) (a1 : Nat) (M : FM) : Option (FM) := FX85_init_0 a0 a1 M
/-! BoardMachine$Walks$Region.<init>()V -/
noncomputable def BX87_init_0 (a0 : Nat) (M : FM) : Option (FM) :=
  fi (a0 = 0) none (
  some M)
noncomputable def FX87_init_0 (a0 : Nat) (M : FM) : Option (FM) := BX87_init_0 a0 M
noncomputable def FX87_init (a0 : Nat) (M : FM) : Option (FM) := FX87_init_0 a0 M
/-! BoardMachine$Walks$Regions.<init>()V -/
noncomputable def BX86_init_15 (f0 : Nat → FM → Option (FM)) (k15 : Nat → Int32 → FM → Option (FM)) (a0 : Nat) (a1 : Int32) (M : FM) : Option (FM) :=
  fi ((Int32.ofInt 8) ≤ a1) (
    some M) (
    fi (fm_is M 90 90 a0 = true) (
    let x2 : Nat := fm_nx M
    let M1 : FM := fm_new M 89 4
    fi (fm_is M1 89 89 x2 = true) (
    (f0 x2 M1).bind fun M3 =>
    let x4 : Nat := (M.2.2 284 a0 0)
    fi (fm_is M3 927 927 x4 = true ∧ fm_in M3 x4 a1 = true) (
    fi (fm_is M3 89 89 x2 = true) (
    let M5 : FM := fm_sR M3 3 x4 a1.toNatClampNeg x2
    let x6 : Int32 := a1 + (Int32.ofInt 1)
    k15 a0 x6 M5) none) none) none) none)
noncomputable def FX86_init_15 (n : Nat) (k15 : Nat → Int32 → FM → Option (FM)) (a0 : Nat) (a1 : Int32) (M : FM) : Option (FM) := BX86_init_15 FX87_init k15 a0 a1 M
noncomputable def BX86_init_0 (k15 : Nat → Int32 → FM → Option (FM)) (a0 : Nat) (M : FM) : Option (FM) :=
  fi (a0 = 0) none (
  fi (¬ (Int32.ofInt 8) < 0 ∧ (Int32.ofInt 8).toNatClampNeg * 4 ≤ 536870912) (
  let x2 : Nat := fm_nx M
  let M1 : FM := fm_newa M 927 284 (Int32.ofInt 8).toNatClampNeg
  fi (fm_is M1 90 90 a0 = true) (
  let M3 : FM := fm_sR M1 284 a0 0 x2
  k15 a0 (Int32.ofInt 0) M3) none) none)
noncomputable def FX86_init_0 (n : Nat) (k15 : Nat → Int32 → FM → Option (FM)) (a0 : Nat) (M : FM) : Option (FM) := BX86_init_0 k15 a0 M
noncomputable def FX86_init_L15 (n : Nat) : Nat → Nat → Int32 → FM → Option (FM)
  | 0 => fun _ _ _ => none
  | j + 1 => FX86_init_15 n (FX86_init_L15 n j)
noncomputable def FX86_init (n : Nat) (a0 : Nat) (M : FM) : Option (FM) := FX86_init_0 n (FX86_init_L15 n n) a0 M
/-! BoardMachine$Walks$Kept.<init>()V -/
noncomputable def BX88_init_0 (a0 : Nat) (M : FM) : Option (FM) :=
  fi (a0 = 0) none (
  fi (¬ (Int32.ofInt 4) < 0 ∧ (Int32.ofInt 4).toNatClampNeg * 8 ≤ 536870912) (
  let x2 : Nat := fm_nx M
  let M1 : FM := fm_newa M 902 278 (Int32.ofInt 4).toNatClampNeg
  fi (fm_is M1 88 88 a0 = true) (
  let M3 : FM := fm_sR M1 278 a0 0 x2
  fi (¬ (Int32.ofInt 4) < 0 ∧ (Int32.ofInt 4).toNatClampNeg * 8 ≤ 536870912) (
  let x5 : Nat := fm_nx M3
  let M4 : FM := fm_newa M3 902 279 (Int32.ofInt 4).toNatClampNeg
  fi (fm_is M4 88 88 a0 = true) (
  let M6 : FM := fm_sR M4 279 a0 0 x5
  some M6) none) none) none) none)
noncomputable def FX88_init_0 (a0 : Nat) (M : FM) : Option (FM) := BX88_init_0 a0 M
noncomputable def FX88_init (a0 : Nat) (M : FM) : Option (FM) := FX88_init_0 a0 M
/-! BoardMachine$Walks$Translator.<init>(LBoardMachine$Walks$Words;)V -/
noncomputable def BX84_init_92 (f1 : Nat → FM → Option (FM)) (k92 : Nat → Int32 → FM → Option (FM)) (a0 : Nat) (a2 : Int32) (M : FM) : Option (FM) :=
  fi ((Int32.ofInt 64) ≤ a2) (
    some M) (
    fi (fm_is M 91 91 a0 = true) (
    let x2 : Nat := fm_nx M
    let M1 : FM := fm_new M 88 11
    fi (fm_is M1 88 88 x2 = true) (
    (f1 x2 M1).bind fun M3 =>
    let x4 : Nat := (M.2.2 291 a0 0)
    fi (fm_is M3 926 926 x4 = true ∧ fm_in M3 x4 a2 = true) (
    fi (fm_is M3 88 88 x2 = true) (
    let M5 : FM := fm_sR M3 3 x4 a2.toNatClampNeg x2
    let x6 : Int32 := a2 + (Int32.ofInt 1)
    k92 a0 x6 M5) none) none) none) none)
noncomputable def FX84_init_92 (n : Nat) (k92 : Nat → Int32 → FM → Option (FM)) (a0 : Nat) (a2 : Int32) (M : FM) : Option (FM) := BX84_init_92 FX88_init k92 a0 a2 M
noncomputable def BX84_init_0 (f0 : Nat → FM → Option (FM)) (k92 : Nat → Int32 → FM → Option (FM)) (a0 : Nat) (a1 : Nat) (M : FM) : Option (FM) :=
  fi (a0 = 0) none (
  fi (¬ (Int32.ofInt 3) < 0 ∧ (Int32.ofInt 3).toNatClampNeg * 4 ≤ 536870912) (
  let x2 : Nat := fm_nx M
  let M1 : FM := fm_newa M 933 286 (Int32.ofInt 3).toNatClampNeg
  fi (¬ (Int32.ofInt 2) < 0 ∧ (Int32.ofInt 2).toNatClampNeg * 4 ≤ 536870912) (
  let x4 : Nat := fm_nx M1
  let M3 : FM := fm_newa M1 901 8 (Int32.ofInt 2).toNatClampNeg
  fi (fm_is M3 901 901 x4 = true ∧ fm_in M3 x4 (Int32.ofInt 0) = true) (
  let M5 : FM := fm_sI M3 3 x4 (Int32.ofInt 0).toNatClampNeg (Int32.ofInt 1)
  fi (fm_is M5 901 901 x4 = true ∧ fm_in M5 x4 (Int32.ofInt 1) = true) (
  let M6 : FM := fm_sI M5 3 x4 (Int32.ofInt 1).toNatClampNeg (Int32.ofInt 12)
  fi (fm_is M6 933 933 x2 = true ∧ fm_in M6 x2 (Int32.ofInt 0) = true) (
  fi (fm_is M6 901 901 x4 = true) (
  let M7 : FM := fm_sR M6 3 x2 (Int32.ofInt 0).toNatClampNeg x4
  fi (¬ (Int32.ofInt 2) < 0 ∧ (Int32.ofInt 2).toNatClampNeg * 4 ≤ 536870912) (
  let x9 : Nat := fm_nx M7
  let M8 : FM := fm_newa M7 901 8 (Int32.ofInt 2).toNatClampNeg
  fi (fm_is M8 901 901 x9 = true ∧ fm_in M8 x9 (Int32.ofInt 0) = true) (
  let M10 : FM := fm_sI M8 3 x9 (Int32.ofInt 0).toNatClampNeg (Int32.ofInt 5)
  fi (fm_is M10 901 901 x9 = true ∧ fm_in M10 x9 (Int32.ofInt 1) = true) (
  let M11 : FM := fm_sI M10 3 x9 (Int32.ofInt 1).toNatClampNeg (Int32.ofInt 13)
  fi (fm_is M11 933 933 x2 = true ∧ fm_in M11 x2 (Int32.ofInt 1) = true) (
  fi (fm_is M11 901 901 x9 = true) (
  let M12 : FM := fm_sR M11 3 x2 (Int32.ofInt 1).toNatClampNeg x9
  fi (¬ (Int32.ofInt 2) < 0 ∧ (Int32.ofInt 2).toNatClampNeg * 4 ≤ 536870912) (
  let x14 : Nat := fm_nx M12
  let M13 : FM := fm_newa M12 901 8 (Int32.ofInt 2).toNatClampNeg
  fi (fm_is M13 901 901 x14 = true ∧ fm_in M13 x14 (Int32.ofInt 0) = true) (
  let M15 : FM := fm_sI M13 3 x14 (Int32.ofInt 0).toNatClampNeg (Int32.ofInt 7)
  fi (fm_is M15 901 901 x14 = true ∧ fm_in M15 x14 (Int32.ofInt 1) = true) (
  let M16 : FM := fm_sI M15 3 x14 (Int32.ofInt 1).toNatClampNeg (Int32.ofInt 15)
  fi (fm_is M16 933 933 x2 = true ∧ fm_in M16 x2 (Int32.ofInt 2) = true) (
  fi (fm_is M16 901 901 x14 = true) (
  let M17 : FM := fm_sR M16 3 x2 (Int32.ofInt 2).toNatClampNeg x14
  fi (fm_is M17 91 91 a0 = true) (
  let M18 : FM := fm_sR M17 286 a0 0 x2
  let x20 : Nat := fm_nx M18
  let M19 : FM := fm_new M18 90 2
  fi (fm_is M19 90 90 x20 = true) (
  (f0 x20 M19).bind fun M21 =>
  fi (fm_is M21 91 91 a0 = true) (
  let M22 : FM := fm_sR M21 288 a0 0 x20
  fi (¬ (Int32.ofInt 64) < 0 ∧ (Int32.ofInt 64).toNatClampNeg * 4 ≤ 536870912) (
  let x24 : Nat := fm_nx M22
  let M23 : FM := fm_newa M22 926 291 (Int32.ofInt 64).toNatClampNeg
  fi (fm_is M23 91 91 a0 = true) (
  let M25 : FM := fm_sR M23 291 a0 0 x24
  fi (¬ (Int32.ofInt 4) < 0 ∧ (Int32.ofInt 4).toNatClampNeg * 8 ≤ 536870912) (
  let x27 : Nat := fm_nx M25
  let M26 : FM := fm_newa M25 902 295 (Int32.ofInt 4).toNatClampNeg
  fi (fm_is M26 91 91 a0 = true) (
  let M28 : FM := fm_sR M26 295 a0 0 x27
  fi (fm_is M28 91 91 a0 = true) (
  let M29 : FM := fm_sR M28 287 a0 0 a1
  k92 a0 (Int32.ofInt 0) M29) none) none) none) none) none) none) none) none) none) none) none) none) none) none) none) none) none) none) none) none) none) none) none) none)
noncomputable def FX84_init_0 (n : Nat) (k92 : Nat → Int32 → FM → Option (FM)) (a0 : Nat) (a1 : Nat) (M : FM) : Option (FM) := BX84_init_0 (FX86_init n) k92 a0 a1 M
noncomputable def FX84_init_L92 (n : Nat) : Nat → Nat → Int32 → FM → Option (FM)
  | 0 => fun _ _ _ => none
  | j + 1 => FX84_init_92 n (FX84_init_L92 n j)
noncomputable def FX84_init (n : Nat) (a0 : Nat) (a1 : Nat) (M : FM) : Option (FM) := FX84_init_0 n (FX84_init_L92 n n) a0 a1 M
/-! BoardMachine$Kept.<init>()V -/
noncomputable def BX89_init_0 (a0 : Nat) (M : FM) : Option (FM) :=
  fi (a0 = 0) none (
  some M)
noncomputable def FX89_init_0 (a0 : Nat) (M : FM) : Option (FM) := BX89_init_0 a0 M
noncomputable def FX89_init (a0 : Nat) (M : FM) : Option (FM) := FX89_init_0 a0 M
/-! BoardMachine$Processor.<init>(ILBoardMachine$Board;LBoardMachine$Halves$ShortUnit;)V -/
noncomputable def BX46_init_99 (f6 : Nat → FM → Option (FM)) (k99 : Nat → Int32 → FM → Option (FM)) (a0 : Nat) (a4 : Int32) (M : FM) : Option (FM) :=
  fi ((Int32.ofInt 512) ≤ a4) (
    some M) (
    fi (fm_is M 75 75 a0 = true) (
    let x2 : Nat := fm_nx M
    let M1 : FM := fm_new M 65 6
    fi (fm_is M1 65 65 x2 = true) (
    (f6 x2 M1).bind fun M3 =>
    let x4 : Nat := (M.2.2 216 a0 0)
    fi (fm_is M3 918 918 x4 = true ∧ fm_in M3 x4 a4 = true) (
    fi (fm_is M3 65 65 x2 = true) (
    let M5 : FM := fm_sR M3 3 x4 a4.toNatClampNeg x2
    let x6 : Int32 := a4 + (Int32.ofInt 1)
    k99 a0 x6 M5) none) none) none) none)
noncomputable def FX46_init_99 (n : Nat) (k99 : Nat → Int32 → FM → Option (FM)) (a0 : Nat) (a4 : Int32) (M : FM) : Option (FM) := BX46_init_99 FX89_init k99 a0 a4 M
noncomputable def BX46_init_0 (f0 : Nat → FM → Option (FM)) (f1 : Nat → FM → Option (FM)) (f2 : Nat → FM → Option (FM)) (f3 : Nat → Int32 → FM → Option (FM)) (f4 : Nat → Nat → FM → Option (FM)) (f5 : Nat → Nat → FM → Option (FM)) (k99 : Nat → Int32 → FM → Option (FM)) (a0 : Nat) (a1 : Int32) (a2 : Nat) (a3 : Nat) (M : FM) : Option (FM) :=
  fi (a0 = 0) none (
  let x2 : Nat := fm_nx M
  let M1 : FM := fm_new M 63 7
  fi (fm_is M1 63 63 x2 = true) (
  (f0 x2 M1).bind fun M3 =>
  fi (fm_is M3 75 75 a0 = true) (
  let M4 : FM := fm_sR M3 211 a0 0 x2
  let x6 : Nat := fm_nx M4
  let M5 : FM := fm_new M4 32 16
  fi (fm_is M5 32 32 x6 = true) (
  (f1 x6 M5).bind fun M7 =>
  fi (fm_is M7 75 75 a0 = true) (
  let M8 : FM := fm_sR M7 212 a0 0 x6
  fi (¬ (Int32.ofInt 512) < 0 ∧ (Int32.ofInt 512).toNatClampNeg * 4 ≤ 536870912) (
  let x10 : Nat := fm_nx M8
  let M9 : FM := fm_newa M8 918 216 (Int32.ofInt 512).toNatClampNeg
  fi (fm_is M9 75 75 a0 = true) (
  let M11 : FM := fm_sR M9 216 a0 0 x10
  let x13 : Nat := fm_nx M11
  let M12 : FM := fm_new M11 41 4
  fi (fm_is M12 41 41 x13 = true) (
  (f2 x13 M12).bind fun M14 =>
  fi (fm_is M14 75 75 a0 = true) (
  let M15 : FM := fm_sR M14 217 a0 0 x13
  fi (fm_is M15 75 75 a0 = true) (
  let M16 : FM := fm_sI M15 209 a0 0 a1
  fi (fm_is M16 75 75 a0 = true) (
  let M17 : FM := fm_sR M16 210 a0 0 a2
  fi (fm_is M17 75 75 a0 = true) (
  let M18 : FM := fm_sR M17 215 a0 0 a3
  let x20 : Nat := fm_nx M18
  let M19 : FM := fm_new M18 12 16
  fi (fm_is M19 12 12 x20 = true) (
  (f3 x20 a1 M19).bind fun M21 =>
  fi (fm_is M21 75 75 a0 = true) (
  let M22 : FM := fm_sR M21 213 a0 0 x20
  let x24 : Nat := fm_nx M22
  let M23 : FM := fm_new M22 91 10
  let x26 : Nat := fm_nx M23
  let M25 : FM := fm_new M23 81 1
  fi (fm_is M25 11 11 a2 = true) (
  fi (fm_is M25 81 81 x26 = true) (
  (f4 x26 (M25.2.2 18 a2 0) M25).bind fun M27 =>
  fi (fm_is M27 91 91 x24 = true) (
  (f5 x24 x26 M27).bind fun M28 =>
  fi (fm_is M28 75 75 a0 = true) (
  let M29 : FM := fm_sR M28 214 a0 0 x24
  k99 a0 (Int32.ofInt 0) M29) none) none) none) none) none) none) none) none) none) none) none) none) none) none) none) none) none)
noncomputable def FX46_init_0 (n : Nat) (k99 : Nat → Int32 → FM → Option (FM)) (a0 : Nat) (a1 : Int32) (a2 : Nat) (a3 : Nat) (M : FM) : Option (FM) := BX46_init_0 FX47_init FX59_init FX73_init (FX74_init n) FX85_init (FX84_init n) k99 a0 a1 a2 a3 M
noncomputable def FX46_init_L99 (n : Nat) : Nat → Nat → Int32 → FM → Option (FM)
  | 0 => fun _ _ _ => none
  | j + 1 => FX46_init_99 n (FX46_init_L99 n j)
noncomputable def FX46_init (n : Nat) (a0 : Nat) (a1 : Int32) (a2 : Nat) (a3 : Nat) (M : FM) : Option (FM) := FX46_init_0 n (FX46_init_L99 n n) a0 a1 a2 a3 M
/-! java/lang/String.coder()B -/
noncomputable def BJ1_coder_14 (s0 : Int32) (M : FM) : Option (Int32 × FM) :=
  some (s0, M)
noncomputable def FJ1_coder_14 (s0 : Int32) (M : FM) : Option (Int32 × FM) := BJ1_coder_14 s0 M
noncomputable def BJ1_coder_0 (g14 : Int32 → FM → Option (Int32 × FM)) (a0 : Nat) (M : FM) : Option (Int32 × FM) :=
  fi ((Int32.ofInt 1) = 0) (
    g14 (Int32.ofInt 1) M) (
    fi (fm_is M 7 7 a0 = true) (
    g14 (M.1 16 a0 0) M) none)
noncomputable def FJ1_coder_0 (a0 : Nat) (M : FM) : Option (Int32 × FM) := BJ1_coder_0 FJ1_coder_14 a0 M
noncomputable def FJ1_coder (a0 : Nat) (M : FM) : Option (Int32 × FM) := FJ1_coder_0 a0 M
/-! java/lang/String.length()I -/
noncomputable def BJ1_length_0 (f0 : Nat → FM → Option (Int32 × FM)) (a0 : Nat) (M : FM) : Option (Int32 × FM) :=
  fi (fm_is M 7 7 a0 = true) (
  let x1 : Nat := (M.2.2 15 a0 0)
  fi (fm_is M 901 990 x1 = true) (
  fi (fm_is M 7 7 a0 = true) (
  (f0 a0 M).bind fun r2 =>
  some (((Int32.ofNat (M.2.2 1 x1 0)) >>> (r2.1 &&& 31)), r2.2)) none) none) none
noncomputable def FJ1_length_0 (a0 : Nat) (M : FM) : Option (Int32 × FM) := BJ1_length_0 FJ1_coder a0 M
noncomputable def FJ1_length (a0 : Nat) (M : FM) : Option (Int32 × FM) := FJ1_length_0 a0 M
/-! java/lang/String.isLatin1()Z -/
noncomputable def BJ1_isLatin1_18 (s0 : Int32) (M : FM) : Option (Int32 × FM) :=
  fi (s0 = 0 ∨ s0 = 1) (some (s0, M)) none
noncomputable def FJ1_isLatin1_18 (s0 : Int32) (M : FM) : Option (Int32 × FM) := BJ1_isLatin1_18 s0 M
noncomputable def BJ1_isLatin1_17 (g18 : Int32 → FM → Option (Int32 × FM)) (M : FM) : Option (Int32 × FM) :=
  g18 (Int32.ofInt 0) M
noncomputable def FJ1_isLatin1_17 (M : FM) : Option (Int32 × FM) := BJ1_isLatin1_17 FJ1_isLatin1_18 M
noncomputable def BJ1_isLatin1_0 (g17 : FM → Option (Int32 × FM)) (g18 : Int32 → FM → Option (Int32 × FM)) (a0 : Nat) (M : FM) : Option (Int32 × FM) :=
  fi ((Int32.ofInt 1) = 0) (
    g17 M) (
    fi (fm_is M 7 7 a0 = true) (
    fi ((M.1 16 a0 0) = 0) (
      g18 (Int32.ofInt 1) M) (
      g17 M)) none)
noncomputable def FJ1_isLatin1_0 (a0 : Nat) (M : FM) : Option (Int32 × FM) := BJ1_isLatin1_0 FJ1_isLatin1_17 FJ1_isLatin1_18 a0 M
noncomputable def FJ1_isLatin1 (a0 : Nat) (M : FM) : Option (Int32 × FM) := FJ1_isLatin1_0 a0 M
/-! jdk/internal/util/Preconditions.checkIndex(IILjava/util/function/BiFunction;)I -/
noncomputable def BJ3_checkIndex_9 (a0 : Int32) (a1 : Int32) (a2 : Nat) (M : FM) : Option (Int32 × FM) :=
  none
noncomputable def FJ3_checkIndex_9 (a0 : Int32) (a1 : Int32) (a2 : Nat) (M : FM) : Option (Int32 × FM) := BJ3_checkIndex_9 a0 a1 a2 M
noncomputable def BJ3_checkIndex_0 (g9 : Int32 → Int32 → Nat → FM → Option (Int32 × FM)) (a0 : Int32) (a1 : Int32) (a2 : Nat) (M : FM) : Option (Int32 × FM) :=
  fi (a0 < 0) (
    g9 a0 a1 a2 M) (
    fi (a0 < a1) (
      some (a0, M)) (
      g9 a0 a1 a2 M))
noncomputable def FJ3_checkIndex_0 (a0 : Int32) (a1 : Int32) (a2 : Nat) (M : FM) : Option (Int32 × FM) := BJ3_checkIndex_0 FJ3_checkIndex_9 a0 a1 a2 M
noncomputable def FJ3_checkIndex (a0 : Int32) (a1 : Int32) (a2 : Nat) (M : FM) : Option (Int32 × FM) := FJ3_checkIndex_0 a0 a1 a2 M
/-! java/lang/String.checkIndex(II)V -/
noncomputable def BJ1_checkIndex_0 (f0 : Int32 → Int32 → Nat → FM → Option (Int32 × FM)) (a0 : Int32) (a1 : Int32) (M : FM) : Option (FM) :=
  (f0 a0 a1 60 M).bind fun r1 =>
  some r1.2
noncomputable def FJ1_checkIndex_0 (a0 : Int32) (a1 : Int32) (M : FM) : Option (FM) := BJ1_checkIndex_0 FJ3_checkIndex a0 a1 M
noncomputable def FJ1_checkIndex (a0 : Int32) (a1 : Int32) (M : FM) : Option (FM) := FJ1_checkIndex_0 a0 a1 M
/-! java/lang/StringLatin1.charAt([BI)C -/
noncomputable def BJ2_charAt_0 (f0 : Int32 → Int32 → FM → Option (FM)) (a0 : Nat) (a1 : Int32) (M : FM) : Option (Int32 × FM) :=
  fi (fm_is M 901 990 a0 = true) (
  (f0 a1 (Int32.ofNat (M.2.2 1 a0 0)) M).bind fun M1 =>
  fi (fm_is M1 905 905 a0 = true ∧ fm_in M1 a0 a1 = true) (
  some ((((M1.1 3 a0 a1.toNatClampNeg) &&& (Int32.ofInt 255)).toUInt32 % 65536).toInt32, M1)) none) none
noncomputable def FJ2_charAt_0 (a0 : Nat) (a1 : Int32) (M : FM) : Option (Int32 × FM) := BJ2_charAt_0 FJ1_checkIndex a0 a1 M
noncomputable def FJ2_charAt (a0 : Nat) (a1 : Int32) (M : FM) : Option (Int32 × FM) := FJ2_charAt_0 a0 a1 M
/-! java/lang/String.charAt(I)C -/
noncomputable def BJ1_charAt_0 (f0 : Nat → FM → Option (Int32 × FM)) (f1 : Nat → Int32 → FM → Option (Int32 × FM)) (a0 : Nat) (a1 : Int32) (M : FM) : Option (Int32 × FM) :=
  fi (fm_is M 7 7 a0 = true) (
  (f0 a0 M).bind fun r1 =>
  fi (r1.1 = 0) (
    fi (fm_is r1.2 7 7 a0 = true) (
    none) none) (
    fi (fm_is r1.2 7 7 a0 = true) (
    (f1 (r1.2.2.2 15 a0 0) a1 r1.2).bind fun r2 =>
    some (r2.1, r2.2)) none)) none
noncomputable def FJ1_charAt_0 (a0 : Nat) (a1 : Int32) (M : FM) : Option (Int32 × FM) := BJ1_charAt_0 FJ1_isLatin1 FJ2_charAt a0 a1 M
noncomputable def FJ1_charAt (a0 : Nat) (a1 : Int32) (M : FM) : Option (Int32 × FM) := FJ1_charAt_0 a0 a1 M
/-! BoardMachine$Trees$Row.add(I)V -/
noncomputable def BX3_add_0 (a0 : Nat) (a1 : Int32) (M : FM) : Option (FM) :=
  fi (fm_is M 86 86 a0 = true) (
  fi (fm_is M 86 86 a0 = true) (
  let x1 : Int32 := (M.1 262 a0 0)
  fi (fm_is M 86 86 a0 = true) (
  let M2 : FM := fm_sI M 262 a0 0 (x1 + (Int32.ofInt 1))
  let x3 : Nat := (M.2.2 261 a0 0)
  fi (fm_is M2 903 903 x3 = true ∧ fm_in M2 x3 x1 = true) (
  let M4 : FM := fm_sI M2 3 x3 x1.toNatClampNeg a1.toInt8.toInt32.toInt8.toInt32
  some M4) none) none) none) none
noncomputable def FX3_add_0 (a0 : Nat) (a1 : Int32) (M : FM) : Option (FM) := BX3_add_0 a0 a1 M
noncomputable def FX3_add (a0 : Nat) (a1 : Int32) (M : FM) : Option (FM) := FX3_add_0 a0 a1 M
/-! BoardMachine$Describer.text(Ljava/lang/String;)V -/
noncomputable def BX4_text_2 (f0 : Nat → FM → Option (Int32 × FM)) (f1 : Nat → Int32 → FM → Option (Int32 × FM)) (f2 : Nat → Int32 → FM → Option (FM)) (k2 : Nat → Nat → Int32 → FM → Option (FM)) (a0 : Nat) (a1 : Nat) (a2 : Int32) (M : FM) : Option (FM) :=
  fi (fm_is M 7 7 a1 = true) (
  (f0 a1 M).bind fun r1 =>
  fi (r1.1 ≤ a2) (
    some r1.2) (
    fi (fm_is r1.2 21 21 a0 = true) (
    fi (fm_is r1.2 7 7 a1 = true) (
    (f1 a1 a2 r1.2).bind fun r2 =>
    let x3 : Nat := (r1.2.2.2 55 a0 0)
    fi (fm_is r2.2 86 86 x3 = true) (
    (f2 x3 r2.1 r2.2).bind fun M4 =>
    let x5 : Int32 := a2 + (Int32.ofInt 1)
    k2 a0 a1 x5 M4) none) none) none)) none
noncomputable def FX4_text_2 (n : Nat) (k2 : Nat → Nat → Int32 → FM → Option (FM)) (a0 : Nat) (a1 : Nat) (a2 : Int32) (M : FM) : Option (FM) := BX4_text_2 FJ1_length FJ1_charAt FX3_add k2 a0 a1 a2 M
noncomputable def BX4_text_0 (k2 : Nat → Nat → Int32 → FM → Option (FM)) (a0 : Nat) (a1 : Nat) (M : FM) : Option (FM) :=
  k2 a0 a1 (Int32.ofInt 0) M
noncomputable def FX4_text_0 (n : Nat) (k2 : Nat → Nat → Int32 → FM → Option (FM)) (a0 : Nat) (a1 : Nat) (M : FM) : Option (FM) := BX4_text_0 k2 a0 a1 M
noncomputable def FX4_text_L2 (n : Nat) : Nat → Nat → Nat → Int32 → FM → Option (FM)
  | 0 => fun _ _ _ _ => none
  | j + 1 => FX4_text_2 n (FX4_text_L2 n j)
noncomputable def FX4_text (n : Nat) (a0 : Nat) (a1 : Nat) (M : FM) : Option (FM) := FX4_text_0 n (FX4_text_L2 n n) a0 a1 M
/-! BoardMachine$Describer.begin(Ljava/lang/String;)V -/
noncomputable def BX4_begin_0 (f0 : Nat → Nat → FM → Option (FM)) (a0 : Nat) (a1 : Nat) (M : FM) : Option (FM) :=
  fi (fm_is M 21 21 a0 = true) (
  let x1 : Nat := (M.2.2 55 a0 0)
  fi (fm_is M 86 86 x1 = true) (
  let M2 : FM := fm_sI M 262 x1 0 (Int32.ofInt 0)
  fi (fm_is M2 21 21 a0 = true) (
  (f0 a0 a1 M2).bind fun M3 =>
  some M3) none) none) none
noncomputable def FX4_begin_0 (n : Nat) (a0 : Nat) (a1 : Nat) (M : FM) : Option (FM) := BX4_begin_0 (FX4_text n) a0 a1 M
noncomputable def FX4_begin (n : Nat) (a0 : Nat) (a1 : Nat) (M : FM) : Option (FM) := FX4_begin_0 n a0 a1 M
/-! BoardMachine$Trees$Row.addNumber(I)V -/
noncomputable def BX3_addNumber_3 (f0 : Nat → Int32 → FM → Option (FM)) (k3 : Nat → Int32 → Int32 → FM → Option (FM)) (a0 : Nat) (a1 : Int32) (a2 : Int32) (M : FM) : Option (FM) :=
  fi (a2 < 0) (
    some M) (
    fi (fm_is M 86 86 a0 = true) (
    (f0 a0 (a1 >>> (a2 &&& 31)) M).bind fun M1 =>
    let x2 : Int32 := a2 + (Int32.ofInt (-8))
    k3 a0 a1 x2 M1) none)
noncomputable def FX3_addNumber_3 (n : Nat) (k3 : Nat → Int32 → Int32 → FM → Option (FM)) (a0 : Nat) (a1 : Int32) (a2 : Int32) (M : FM) : Option (FM) := BX3_addNumber_3 FX3_add k3 a0 a1 a2 M
noncomputable def BX3_addNumber_0 (k3 : Nat → Int32 → Int32 → FM → Option (FM)) (a0 : Nat) (a1 : Int32) (M : FM) : Option (FM) :=
  k3 a0 a1 (Int32.ofInt 24) M
noncomputable def FX3_addNumber_0 (n : Nat) (k3 : Nat → Int32 → Int32 → FM → Option (FM)) (a0 : Nat) (a1 : Int32) (M : FM) : Option (FM) := BX3_addNumber_0 k3 a0 a1 M
noncomputable def FX3_addNumber_L3 (n : Nat) : Nat → Nat → Int32 → Int32 → FM → Option (FM)
  | 0 => fun _ _ _ _ => none
  | j + 1 => FX3_addNumber_3 n (FX3_addNumber_L3 n j)
noncomputable def FX3_addNumber (n : Nat) (a0 : Nat) (a1 : Int32) (M : FM) : Option (FM) := FX3_addNumber_0 n (FX3_addNumber_L3 n n) a0 a1 M
/-! BoardMachine$Trees$Row.addAll(LBoardMachine$Trees$Row;II)V -/
noncomputable def BX3_addAll_0 (f0 : Nat → Int32 → Nat → Int32 → Int32 → FM → Option (FM)) (a0 : Nat) (a1 : Nat) (a2 : Int32) (a3 : Int32) (M : FM) : Option (FM) :=
  fi (fm_is M 86 86 a1 = true) (
  fi (fm_is M 86 86 a0 = true) (
  fi (fm_is M 86 86 a0 = true) (
  (f0 (M.2.2 261 a1 0) a2 (M.2.2 261 a0 0) (M.1 262 a0 0) a3 M).bind fun M1 =>
  fi (fm_is M1 86 86 a0 = true) (
  fi (fm_is M1 86 86 a0 = true) (
  let M2 : FM := fm_sI M1 262 a0 0 ((M1.1 262 a0 0) + a3)
  some M2) none) none) none) none) none
noncomputable def FX3_addAll_0 (a0 : Nat) (a1 : Nat) (a2 : Int32) (a3 : Int32) (M : FM) : Option (FM) := BX3_addAll_0 Fh_copy a0 a1 a2 a3 M
noncomputable def FX3_addAll (a0 : Nat) (a1 : Nat) (a2 : Int32) (a3 : Int32) (M : FM) : Option (FM) := FX3_addAll_0 a0 a1 a2 a3 M
/-! BoardMachine$Trees$Piece.set(LBoardMachine$Trees$Row;LBoardMachine$Trees$Row;II)V -/
noncomputable def BX7_set_0 (f0 : Nat → Nat → Int32 → Int32 → FM → Option (FM)) (a0 : Nat) (a1 : Nat) (a2 : Nat) (a3 : Int32) (a4 : Int32) (M : FM) : Option (FM) :=
  fi (fm_is M 86 86 a1 = true) (
  fi (fm_is M 83 83 a0 = true) (
  let M1 : FM := fm_sI M 254 a0 0 (M.1 262 a1 0)
  fi (fm_is M1 83 83 a0 = true) (
  let M2 : FM := fm_sI M1 255 a0 0 a4
  fi (fm_is M2 86 86 a1 = true) (
  (f0 a1 a2 a3 a4 M2).bind fun M3 =>
  some M3) none) none) none) none
noncomputable def FX7_set_0 (a0 : Nat) (a1 : Nat) (a2 : Nat) (a3 : Int32) (a4 : Int32) (M : FM) : Option (FM) := BX7_set_0 FX3_addAll a0 a1 a2 a3 a4 M
noncomputable def FX7_set (a0 : Nat) (a1 : Nat) (a2 : Nat) (a3 : Int32) (a4 : Int32) (M : FM) : Option (FM) := FX7_set_0 a0 a1 a2 a3 a4 M
/-! BoardMachine$Trees$Tree.property(LBoardMachine$Trees$Row;II)LBoardMachine$Trees$Property; -/
noncomputable def BX5_property_0 (f0 : Nat → Nat → Nat → Int32 → Int32 → FM → Option (FM)) (a0 : Nat) (a1 : Nat) (a2 : Int32) (a3 : Int32) (M : FM) : Option (Nat × FM) :=
  fi (fm_is M 87 87 a0 = true) (
  fi (fm_is M 87 87 a0 = true) (
  let x1 : Int32 := (M.1 267 a0 0)
  fi (fm_is M 87 87 a0 = true) (
  let M2 : FM := fm_sI M 267 a0 0 (x1 + (Int32.ofInt 1))
  let x3 : Nat := (M.2.2 265 a0 0)
  fi (fm_is M2 910 990 x3 = true ∧ fm_in M2 x3 x1 = true) (
  let x4 : Nat := (M2.2.2 3 x3 x1.toNatClampNeg)
  fi (fm_is M2 87 87 a0 = true) (
  fi (fm_is M2 85 85 x4 = true) (
  let M5 : FM := fm_sI M2 260 x4 0 (M2.1 268 a0 0)
  fi (fm_is M5 85 85 x4 = true) (
  fi (fm_is M5 87 87 a0 = true) (
  let x6 : Nat := (M5.2.2 258 x4 0)
  fi (fm_is M5 83 83 x6 = true) (
  (f0 x6 (M5.2.2 263 a0 0) a1 a2 a3 M5).bind fun M7 =>
  fi (fm_is M7 87 87 a0 = true) (
  fi (fm_is M7 87 87 a0 = true) (
  let x8 : Int32 := (M7.1 268 a0 0)
  let x9 : Nat := (M7.2.2 264 a0 0)
  fi (fm_is M7 910 990 x9 = true ∧ fm_in M7 x9 x8 = true) (
  let x10 : Nat := (M7.2.2 3 x9 x8.toNatClampNeg)
  fi (fm_is M7 82 82 x10 = true) (
  fi (fm_is M7 82 82 x10 = true) (
  let M11 : FM := fm_sI M7 252 x10 0 ((M7.1 252 x10 0) + (Int32.ofInt 1))
  some (x4, M11)) none) none) none) none) none) none) none) none) none) none) none) none) none) none
noncomputable def FX5_property_0 (a0 : Nat) (a1 : Nat) (a2 : Int32) (a3 : Int32) (M : FM) : Option (Nat × FM) := BX5_property_0 FX7_set a0 a1 a2 a3 M
noncomputable def FX5_property (a0 : Nat) (a1 : Nat) (a2 : Int32) (a3 : Int32) (M : FM) : Option (Nat × FM) := FX5_property_0 a0 a1 a2 a3 M
/-! BoardMachine$Describer.finish(Ljava/lang/String;)V -/
noncomputable def BX4_finish_0 (f0 : Nat → FM → Option (Int32 × FM)) (f1 : Nat → Nat → Int32 → Int32 → FM → Option (Nat × FM)) (f2 : Nat → Nat → Nat → Int32 → Int32 → FM → Option (FM)) (a0 : Nat) (a1 : Nat) (M : FM) : Option (FM) :=
  fi (fm_is M 7 7 a1 = true) (
  (f0 a1 M).bind fun r1 =>
  fi (fm_is r1.2 21 21 a0 = true) (
  fi (fm_is r1.2 21 21 a0 = true) (
  let x2 : Nat := (r1.2.2.2 56 a0 0)
  fi (fm_is r1.2 87 87 x2 = true) (
  (f1 x2 (r1.2.2.2 55 a0 0) (Int32.ofInt 0) r1.1 r1.2).bind fun r3 =>
  fi (fm_is r3.2 85 85 r3.1 = true) (
  fi (fm_is r3.2 21 21 a0 = true) (
  let x4 : Nat := (r3.2.2.2 56 a0 0)
  fi (fm_is r3.2 87 87 x4 = true) (
  fi (fm_is r3.2 21 21 a0 = true) (
  fi (fm_is r3.2 21 21 a0 = true) (
  let x5 : Nat := (r3.2.2.2 55 a0 0)
  fi (fm_is r3.2 86 86 x5 = true) (
  let x6 : Nat := (r3.2.2.2 259 r3.1 0)
  fi (fm_is r3.2 83 83 x6 = true) (
  (f2 x6 (r3.2.2.2 263 x4 0) (r3.2.2.2 55 a0 0) r1.1 ((r3.2.1 262 x5 0) - r1.1) r3.2).bind fun M7 =>
  some M7) none) none) none) none) none) none) none) none) none) none) none
noncomputable def FX4_finish_0 (a0 : Nat) (a1 : Nat) (M : FM) : Option (FM) := BX4_finish_0 FJ1_length FX5_property FX7_set a0 a1 M
noncomputable def FX4_finish (a0 : Nat) (a1 : Nat) (M : FM) : Option (FM) := FX4_finish_0 a0 a1 M
/-! BoardMachine$Describer.number(Ljava/lang/String;I)V -/
noncomputable def BX4_number_0 (f0 : Nat → Nat → FM → Option (FM)) (f1 : Nat → Int32 → FM → Option (FM)) (f2 : Nat → Nat → FM → Option (FM)) (a0 : Nat) (a1 : Nat) (a2 : Int32) (M : FM) : Option (FM) :=
  fi (fm_is M 21 21 a0 = true) (
  (f0 a0 a1 M).bind fun M1 =>
  fi (fm_is M1 21 21 a0 = true) (
  let x2 : Nat := (M1.2.2 55 a0 0)
  fi (fm_is M1 86 86 x2 = true) (
  (f1 x2 a2 M1).bind fun M3 =>
  fi (fm_is M3 21 21 a0 = true) (
  (f2 a0 a1 M3).bind fun M4 =>
  some M4) none) none) none) none
noncomputable def FX4_number_0 (n : Nat) (a0 : Nat) (a1 : Nat) (a2 : Int32) (M : FM) : Option (FM) := BX4_number_0 (FX4_begin n) (FX3_addNumber n) FX4_finish a0 a1 a2 M
noncomputable def FX4_number (n : Nat) (a0 : Nat) (a1 : Nat) (a2 : Int32) (M : FM) : Option (FM) := FX4_number_0 n a0 a1 a2 M
/-! BoardMachine$Describer.cells(II)V -/
noncomputable def BX4_cells_0 (f0 : Nat → Nat → Int32 → FM → Option (FM)) (a0 : Nat) (a1 : Int32) (a2 : Int32) (M : FM) : Option (FM) :=
  fi (fm_is M 21 21 a0 = true) (
  (f0 a0 101 a1 M).bind fun M1 =>
  fi (fm_is M1 21 21 a0 = true) (
  (f0 a0 103 a2 M1).bind fun M2 =>
  some M2) none) none
noncomputable def FX4_cells_0 (n : Nat) (a0 : Nat) (a1 : Int32) (a2 : Int32) (M : FM) : Option (FM) := BX4_cells_0 (FX4_number n) a0 a1 a2 M
noncomputable def FX4_cells (n : Nat) (a0 : Nat) (a1 : Int32) (a2 : Int32) (M : FM) : Option (FM) := FX4_cells_0 n a0 a1 a2 M
/-! BoardMachine$Describer.string(Ljava/lang/String;Ljava/lang/String;)V -/
noncomputable def BX4_string_0 (f0 : Nat → Nat → FM → Option (FM)) (f1 : Nat → Nat → FM → Option (FM)) (f2 : Nat → Int32 → FM → Option (FM)) (f3 : Nat → Nat → FM → Option (FM)) (a0 : Nat) (a1 : Nat) (a2 : Nat) (M : FM) : Option (FM) :=
  fi (fm_is M 21 21 a0 = true) (
  (f0 a0 a1 M).bind fun M1 =>
  fi (fm_is M1 21 21 a0 = true) (
  (f1 a0 a2 M1).bind fun M2 =>
  fi (fm_is M2 21 21 a0 = true) (
  let x3 : Nat := (M2.2.2 55 a0 0)
  fi (fm_is M2 86 86 x3 = true) (
  (f2 x3 (Int32.ofInt 0) M2).bind fun M4 =>
  fi (fm_is M4 21 21 a0 = true) (
  (f3 a0 a1 M4).bind fun M5 =>
  some M5) none) none) none) none) none
noncomputable def FX4_string_0 (n : Nat) (a0 : Nat) (a1 : Nat) (a2 : Nat) (M : FM) : Option (FM) := BX4_string_0 (FX4_begin n) (FX4_text n) FX3_add FX4_finish a0 a1 a2 M
noncomputable def FX4_string (n : Nat) (a0 : Nat) (a1 : Nat) (a2 : Nat) (M : FM) : Option (FM) := FX4_string_0 n a0 a1 a2 M
/-! BoardMachine$Trees$Tree.open(LBoardMachine$Trees$Row;II)I -/
noncomputable def BX5_open_0 (f0 : Nat → Int32 → Int32 → FM → Option (FM)) (f1 : Nat → Nat → Nat → Int32 → Int32 → FM → Option (FM)) (a0 : Nat) (a1 : Nat) (a2 : Int32) (a3 : Int32) (M : FM) : Option (Int32 × FM) :=
  fi (fm_is M 87 87 a0 = true) (
  let x1 : Int32 := (M.1 268 a0 0)
  fi (fm_is M 87 87 a0 = true) (
  let x2 : Nat := (M.2.2 264 a0 0)
  fi (fm_is M 910 990 x2 = true ∧ fm_in M x2 x1 = true) (
  let x3 : Nat := (M.2.2 3 x2 x1.toNatClampNeg)
  fi (fm_is M 82 82 x3 = true) (
  fi ((Int32.ofInt 1) = 0 ∨ (Int32.ofInt 1) = 1) (
  let M4 : FM := fm_sI M 253 x3 0 (Int32.ofInt 1)
  fi (fm_is M4 87 87 a0 = true) (
  let x5 : Nat := (M4.2.2 264 a0 0)
  fi (fm_is M4 910 990 x5 = true ∧ fm_in M4 x5 x1 = true) (
  let x6 : Nat := (M4.2.2 3 x5 x1.toNatClampNeg)
  fi (fm_is M4 82 82 x6 = true) (
  fi (fm_is M4 87 87 a0 = true) (
  (f0 a0 x1 ((M4.1 250 x6 0) + (Int32.ofInt 1)) M4).bind fun M7 =>
  fi (fm_is M7 87 87 a0 = true) (
  fi (fm_is M7 87 87 a0 = true) (
  let x8 : Int32 := (M7.1 268 a0 0)
  let x9 : Nat := (M7.2.2 264 a0 0)
  fi (fm_is M7 910 990 x9 = true ∧ fm_in M7 x9 x8 = true) (
  let x10 : Nat := (M7.2.2 3 x9 x8.toNatClampNeg)
  fi (fm_is M7 82 82 x10 = true) (
  fi (fm_is M7 87 87 a0 = true) (
  let x11 : Nat := (M7.2.2 248 x10 0)
  fi (fm_is M7 83 83 x11 = true) (
  (f1 x11 (M7.2.2 263 a0 0) a1 a2 a3 M7).bind fun M12 =>
  fi (fm_is M12 87 87 a0 = true) (
  some ((M12.1 268 a0 0), M12)) none) none) none) none) none) none) none) none) none) none) none) none) none) none) none) none
noncomputable def FX5_open_0 (a0 : Nat) (a1 : Nat) (a2 : Int32) (a3 : Int32) (M : FM) : Option (Int32 × FM) := BX5_open_0 FX5_begin FX7_set a0 a1 a2 a3 M
noncomputable def FX5_open (a0 : Nat) (a1 : Nat) (a2 : Int32) (a3 : Int32) (M : FM) : Option (Int32 × FM) := FX5_open_0 a0 a1 a2 a3 M
/-! BoardMachine$Describer.open(Ljava/lang/String;)V -/
noncomputable def BX4_open_0 (f0 : Nat → Nat → FM → Option (FM)) (f1 : Nat → Nat → Int32 → Int32 → FM → Option (Int32 × FM)) (a0 : Nat) (a1 : Nat) (M : FM) : Option (FM) :=
  fi (fm_is M 21 21 a0 = true) (
  let x1 : Nat := (M.2.2 55 a0 0)
  fi (fm_is M 86 86 x1 = true) (
  let M2 : FM := fm_sI M 262 x1 0 (Int32.ofInt 0)
  fi (fm_is M2 21 21 a0 = true) (
  (f0 a0 a1 M2).bind fun M3 =>
  fi (fm_is M3 21 21 a0 = true) (
  fi (fm_is M3 21 21 a0 = true) (
  fi (fm_is M3 21 21 a0 = true) (
  let x4 : Nat := (M3.2.2 55 a0 0)
  fi (fm_is M3 86 86 x4 = true) (
  let x5 : Nat := (M3.2.2 56 a0 0)
  fi (fm_is M3 87 87 x5 = true) (
  (f1 x5 (M3.2.2 55 a0 0) (Int32.ofInt 0) (M3.1 262 x4 0) M3).bind fun r6 =>
  some r6.2) none) none) none) none) none) none) none) none
noncomputable def FX4_open_0 (n : Nat) (a0 : Nat) (a1 : Nat) (M : FM) : Option (FM) := BX4_open_0 (FX4_text n) FX5_open a0 a1 M
noncomputable def FX4_open (n : Nat) (a0 : Nat) (a1 : Nat) (M : FM) : Option (FM) := FX4_open_0 n a0 a1 M
/-! BoardMachine$Trees$Tree.close()I -/
noncomputable def BX5_close_0 (a0 : Nat) (M : FM) : Option (Int32 × FM) :=
  fi (fm_is M 87 87 a0 = true) (
  fi (fm_is M 87 87 a0 = true) (
  let x1 : Int32 := (M.1 268 a0 0)
  let x2 : Nat := (M.2.2 264 a0 0)
  fi (fm_is M 910 990 x2 = true ∧ fm_in M x2 x1 = true) (
  let x3 : Nat := (M.2.2 3 x2 x1.toNatClampNeg)
  fi (fm_is M 82 82 x3 = true) (
  fi (fm_is M 87 87 a0 = true) (
  let M4 : FM := fm_sI M 268 a0 0 (M.1 249 x3 0)
  fi (fm_is M4 87 87 a0 = true) (
  some ((M4.1 268 a0 0), M4)) none) none) none) none) none) none
noncomputable def FX5_close_0 (a0 : Nat) (M : FM) : Option (Int32 × FM) := BX5_close_0 a0 M
noncomputable def FX5_close (a0 : Nat) (M : FM) : Option (Int32 × FM) := FX5_close_0 a0 M
/-! BoardMachine$Describer.openNumbered(Ljava/lang/String;I)V -/
noncomputable def BX4_openNumbered_0 (f0 : Nat → Nat → FM → Option (FM)) (f1 : Nat → Int32 → FM → Option (FM)) (f2 : Nat → Nat → Int32 → Int32 → FM → Option (Int32 × FM)) (a0 : Nat) (a1 : Nat) (a2 : Int32) (M : FM) : Option (FM) :=
  fi (fm_is M 21 21 a0 = true) (
  let x1 : Nat := (M.2.2 55 a0 0)
  fi (fm_is M 86 86 x1 = true) (
  let M2 : FM := fm_sI M 262 x1 0 (Int32.ofInt 0)
  fi (fm_is M2 21 21 a0 = true) (
  (f0 a0 a1 M2).bind fun M3 =>
  fi (fm_is M3 21 21 a0 = true) (
  let x4 : Nat := (M3.2.2 55 a0 0)
  fi (fm_is M3 86 86 x4 = true) (
  (f1 x4 ((Int32.ofInt 48) + a2) M3).bind fun M5 =>
  fi (fm_is M5 21 21 a0 = true) (
  fi (fm_is M5 21 21 a0 = true) (
  fi (fm_is M5 21 21 a0 = true) (
  let x6 : Nat := (M5.2.2 55 a0 0)
  fi (fm_is M5 86 86 x6 = true) (
  let x7 : Nat := (M5.2.2 56 a0 0)
  fi (fm_is M5 87 87 x7 = true) (
  (f2 x7 (M5.2.2 55 a0 0) (Int32.ofInt 0) (M5.1 262 x6 0) M5).bind fun r8 =>
  some r8.2) none) none) none) none) none) none) none) none) none) none
noncomputable def FX4_openNumbered_0 (n : Nat) (a0 : Nat) (a1 : Nat) (a2 : Int32) (M : FM) : Option (FM) := BX4_openNumbered_0 (FX4_text n) FX3_add FX5_open a0 a1 a2 M
noncomputable def FX4_openNumbered (n : Nat) (a0 : Nat) (a1 : Nat) (a2 : Int32) (M : FM) : Option (FM) := FX4_openNumbered_0 n a0 a1 a2 M
/-! BoardMachine$Describer.nothing(Ljava/lang/String;)V -/
noncomputable def BX4_nothing_0 (f0 : Nat → Nat → FM → Option (FM)) (f1 : Nat → Nat → FM → Option (FM)) (a0 : Nat) (a1 : Nat) (M : FM) : Option (FM) :=
  fi (fm_is M 21 21 a0 = true) (
  (f0 a0 a1 M).bind fun M1 =>
  fi (fm_is M1 21 21 a0 = true) (
  (f1 a0 a1 M1).bind fun M2 =>
  some M2) none) none
noncomputable def FX4_nothing_0 (n : Nat) (a0 : Nat) (a1 : Nat) (M : FM) : Option (FM) := BX4_nothing_0 (FX4_begin n) FX4_finish a0 a1 M
noncomputable def FX4_nothing (n : Nat) (a0 : Nat) (a1 : Nat) (M : FM) : Option (FM) := FX4_nothing_0 n a0 a1 M
/-! BoardMachine$Describer.processor(I)V -/
noncomputable def BX4_processor_0 (f0 : Nat → Nat → Int32 → FM → Option (FM)) (f1 : Nat → Nat → Nat → FM → Option (FM)) (f2 : Nat → Nat → Int32 → FM → Option (FM)) (f3 : Nat → Nat → FM → Option (FM)) (f4 : Nat → Nat → FM → Option (FM)) (f5 : Nat → FM → Option (Int32 × FM)) (a0 : Nat) (a1 : Int32) (M : FM) : Option (FM) :=
  fi (fm_is M 21 21 a0 = true) (
  (f0 a0 111 a1 M).bind fun M1 =>
  fi (fm_is M1 21 21 a0 = true) (
  (f1 a0 117 110 M1).bind fun M2 =>
  fi (fm_is M2 21 21 a0 = true) (
  (f2 a0 132 a1 M2).bind fun M3 =>
  fi (fm_is M3 21 21 a0 = true) (
  (f1 a0 137 129 M3).bind fun M4 =>
  fi (fm_is M4 21 21 a0 = true) (
  (f1 a0 109 146 M4).bind fun M5 =>
  fi (fm_is M5 21 21 a0 = true) (
  (f1 a0 124 142 M5).bind fun M6 =>
  fi (fm_is M6 21 21 a0 = true) (
  (f1 a0 127 139 M6).bind fun M7 =>
  fi (fm_is M7 21 21 a0 = true) (
  (f3 a0 119 M7).bind fun M8 =>
  fi (fm_is M8 21 21 a0 = true) (
  (f2 a0 102 (Int32.ofInt 1) M8).bind fun M9 =>
  fi (fm_is M9 21 21 a0 = true) (
  (f4 a0 119 M9).bind fun M10 =>
  fi (fm_is M10 21 21 a0 = true) (
  (f1 a0 109 148 M10).bind fun M11 =>
  fi (fm_is M11 21 21 a0 = true) (
  (f2 a0 130 (a1 + (Int32.ofInt 1)) M11).bind fun M12 =>
  fi (fm_is M12 21 21 a0 = true) (
  let x13 : Nat := (M12.2.2 56 a0 0)
  fi (fm_is M12 87 87 x13 = true) (
  (f5 x13 M12).bind fun r14 =>
  fi (fm_is r14.2 21 21 a0 = true) (
  let x15 : Nat := (r14.2.2.2 56 a0 0)
  fi (fm_is r14.2 87 87 x15 = true) (
  (f5 x15 r14.2).bind fun r16 =>
  some r16.2) none) none) none) none) none) none) none) none) none) none) none) none) none) none) none) none
noncomputable def FX4_processor_0 (n : Nat) (a0 : Nat) (a1 : Int32) (M : FM) : Option (FM) := BX4_processor_0 (FX4_openNumbered n) (FX4_string n) (FX4_number n) (FX4_open n) (FX4_nothing n) FX5_close a0 a1 M
noncomputable def FX4_processor (n : Nat) (a0 : Nat) (a1 : Int32) (M : FM) : Option (FM) := FX4_processor_0 n a0 a1 M
/-! BoardMachine$Describer.wide(J)V -/
noncomputable def BX4_wide_0 (f0 : Nat → Int32 → FM → Option (FM)) (a0 : Nat) (a1 : Int64) (M : FM) : Option (FM) :=
  fi (fm_is M 21 21 a0 = true) (
  let x1 : Nat := (M.2.2 55 a0 0)
  fi (fm_is M 86 86 x1 = true) (
  (f0 x1 ((a1 >>> ((Int32.ofInt 32).toInt64 &&& 63)).toInt32) M).bind fun M2 =>
  fi (fm_is M2 21 21 a0 = true) (
  let x3 : Nat := (M2.2.2 55 a0 0)
  fi (fm_is M2 86 86 x3 = true) (
  (f0 x3 a1.toInt32 M2).bind fun M4 =>
  some M4) none) none) none) none
noncomputable def FX4_wide_0 (n : Nat) (a0 : Nat) (a1 : Int64) (M : FM) : Option (FM) := BX4_wide_0 (FX3_addNumber n) a0 a1 M
noncomputable def FX4_wide (n : Nat) (a0 : Nat) (a1 : Int64) (M : FM) : Option (FM) := FX4_wide_0 n a0 a1 M
/-! BoardMachine$Describer.window(JJ)V -/
noncomputable def BX4_window_0 (f0 : Nat → Nat → FM → Option (FM)) (f1 : Nat → Int64 → FM → Option (FM)) (f2 : Nat → Nat → FM → Option (FM)) (a0 : Nat) (a1 : Int64) (a3 : Int64) (M : FM) : Option (FM) :=
  fi (fm_is M 21 21 a0 = true) (
  (f0 a0 132 M).bind fun M1 =>
  fi (fm_is M1 21 21 a0 = true) (
  (f1 a0 a1 M1).bind fun M2 =>
  fi (fm_is M2 21 21 a0 = true) (
  (f1 a0 a3 M2).bind fun M3 =>
  fi (fm_is M3 21 21 a0 = true) (
  (f2 a0 132 M3).bind fun M4 =>
  some M4) none) none) none) none
noncomputable def FX4_window_0 (n : Nat) (a0 : Nat) (a1 : Int64) (a3 : Int64) (M : FM) : Option (FM) := BX4_window_0 (FX4_begin n) (FX4_wide n) FX4_finish a0 a1 a3 M
noncomputable def FX4_window (n : Nat) (a0 : Nat) (a1 : Int64) (a3 : Int64) (M : FM) : Option (FM) := FX4_window_0 n a0 a1 a3 M
/-! BoardMachine$Describer.device(Ljava/lang/String;Ljava/lang/String;LBoardMachine$Window;II)V -/
noncomputable def BX4_device_47 (f3 : Nat → FM → Option (Int32 × FM)) (a0 : Nat) (M : FM) : Option (FM) :=
  fi (fm_is M 21 21 a0 = true) (
  let x1 : Nat := (M.2.2 56 a0 0)
  fi (fm_is M 87 87 x1 = true) (
  (f3 x1 M).bind fun r2 =>
  some r2.2) none) none
noncomputable def FX4_device_47 (n : Nat) (a0 : Nat) (M : FM) : Option (FM) := BX4_device_47 FX5_close a0 M
noncomputable def BX4_device_0 (f0 : Nat → Nat → FM → Option (FM)) (f1 : Nat → Nat → Nat → FM → Option (FM)) (f2 : Nat → Int64 → Int64 → FM → Option (FM)) (f4 : Nat → Nat → Int32 → FM → Option (FM)) (g47 : Nat → FM → Option (FM)) (a0 : Nat) (a1 : Nat) (a2 : Nat) (a3 : Nat) (a4 : Int32) (a5 : Int32) (M : FM) : Option (FM) :=
  fi (fm_is M 21 21 a0 = true) (
  (f0 a0 a1 M).bind fun M1 =>
  fi (fm_is M1 21 21 a0 = true) (
  (f1 a0 109 a2 M1).bind fun M2 =>
  fi (fm_is M2 6 6 a3 = true) (
  fi (fm_is M2 6 6 a3 = true) (
  fi (fm_is M2 21 21 a0 = true) (
  (f2 a0 (M2.2.1 13 a3 0) (M2.2.1 14 a3 0) M2).bind fun M3 =>
  fi (a4 ≤ 0) (
    g47 a0 M3) (
    fi (fm_is M3 21 21 a0 = true) (
    (f4 a0 122 a4 M3).bind fun M4 =>
    fi (fm_is M4 21 21 a0 = true) (
    (f4 a0 121 (a5 + (Int32.ofInt 1)) M4).bind fun M5 =>
    g47 a0 M5) none) none)) none) none) none) none) none
noncomputable def FX4_device_0 (n : Nat) (a0 : Nat) (a1 : Nat) (a2 : Nat) (a3 : Nat) (a4 : Int32) (a5 : Int32) (M : FM) : Option (FM) := BX4_device_0 (FX4_open n) (FX4_string n) (FX4_window n) (FX4_number n) (FX4_device_47 n ) a0 a1 a2 a3 a4 a5 M
noncomputable def FX4_device (n : Nat) (a0 : Nat) (a1 : Nat) (a2 : Nat) (a3 : Nat) (a4 : Int32) (a5 : Int32) (M : FM) : Option (FM) := FX4_device_0 n a0 a1 a2 a3 a4 a5 M
/-! BoardMachine$Describer.lines(III)V -/
noncomputable def BX4_lines_9 (f1 : Nat → Nat → FM → Option (FM)) (f2 : Nat → Int32 → FM → Option (FM)) (k9 : Nat → Int32 → Int32 → Int32 → Int32 → FM → Option (FM)) (a0 : Nat) (a1 : Int32) (a2 : Int32) (a3 : Int32) (a4 : Int32) (M : FM) : Option (FM) :=
  fi (a1 ≤ a4) (
    fi (fm_is M 21 21 a0 = true) (
    (f1 a0 123 M).bind fun M1 =>
    some M1) none) (
    fi (fm_is M 21 21 a0 = true) (
    let x2 : Nat := (M.2.2 55 a0 0)
    fi (fm_is M 86 86 x2 = true) (
    (f2 x2 (a4 + (Int32.ofInt 1)) M).bind fun M3 =>
    fi (fm_is M3 21 21 a0 = true) (
    let x4 : Nat := (M3.2.2 55 a0 0)
    fi (fm_is M3 86 86 x4 = true) (
    (f2 x4 a2 M3).bind fun M5 =>
    fi (fm_is M5 21 21 a0 = true) (
    let x6 : Nat := (M5.2.2 55 a0 0)
    fi (fm_is M5 86 86 x6 = true) (
    (f2 x6 (a4 + (Int32.ofInt 1)) M5).bind fun M7 =>
    fi (fm_is M7 21 21 a0 = true) (
    let x8 : Nat := (M7.2.2 55 a0 0)
    fi (fm_is M7 86 86 x8 = true) (
    (f2 x8 a3 M7).bind fun M9 =>
    let x10 : Int32 := a4 + (Int32.ofInt 1)
    k9 a0 a1 a2 a3 x10 M9) none) none) none) none) none) none) none) none)
noncomputable def FX4_lines_9 (n : Nat) (k9 : Nat → Int32 → Int32 → Int32 → Int32 → FM → Option (FM)) (a0 : Nat) (a1 : Int32) (a2 : Int32) (a3 : Int32) (a4 : Int32) (M : FM) : Option (FM) := BX4_lines_9 FX4_finish (FX3_addNumber n) k9 a0 a1 a2 a3 a4 M
noncomputable def BX4_lines_0 (f0 : Nat → Nat → FM → Option (FM)) (k9 : Nat → Int32 → Int32 → Int32 → Int32 → FM → Option (FM)) (a0 : Nat) (a1 : Int32) (a2 : Int32) (a3 : Int32) (M : FM) : Option (FM) :=
  fi (fm_is M 21 21 a0 = true) (
  (f0 a0 123 M).bind fun M1 =>
  k9 a0 a1 a2 a3 (Int32.ofInt 0) M1) none
noncomputable def FX4_lines_0 (n : Nat) (k9 : Nat → Int32 → Int32 → Int32 → Int32 → FM → Option (FM)) (a0 : Nat) (a1 : Int32) (a2 : Int32) (a3 : Int32) (M : FM) : Option (FM) := BX4_lines_0 (FX4_begin n) k9 a0 a1 a2 a3 M
noncomputable def FX4_lines_L9 (n : Nat) : Nat → Nat → Int32 → Int32 → Int32 → Int32 → FM → Option (FM)
  | 0 => fun _ _ _ _ _ _ => none
  | j + 1 => FX4_lines_9 n (FX4_lines_L9 n j)
noncomputable def FX4_lines (n : Nat) (a0 : Nat) (a1 : Int32) (a2 : Int32) (a3 : Int32) (M : FM) : Option (FM) := FX4_lines_0 n (FX4_lines_L9 n n) a0 a1 a2 a3 M
/-! BoardMachine$Describer.devices(I)V -/
noncomputable def BX4_devices_0 (f0 : Nat → Nat → FM → Option (FM)) (f1 : Nat → Int32 → Int32 → FM → Option (FM)) (f2 : Nat → Nat → Nat → FM → Option (FM)) (f3 : Nat → Nat → FM → Option (FM)) (f4 : Nat → Nat → Nat → Nat → Int32 → Int32 → FM → Option (FM)) (f5 : Nat → Int32 → Int32 → Int32 → FM → Option (FM)) (f6 : Nat → Int64 → Int64 → FM → Option (FM)) (f7 : Nat → FM → Option (Int32 × FM)) (f8 : Nat → Nat → Int32 → FM → Option (FM)) (a0 : Nat) (a1 : Int32) (M : FM) : Option (FM) :=
  fi (fm_is M 21 21 a0 = true) (
  (f0 a0 135 M).bind fun M1 =>
  fi (fm_is M1 21 21 a0 = true) (
  (f1 a0 (Int32.ofInt 2) (Int32.ofInt 2) M1).bind fun M2 =>
  fi (fm_is M2 21 21 a0 = true) (
  (f2 a0 109 134 M2).bind fun M3 =>
  fi (fm_is M3 21 21 a0 = true) (
  (f3 a0 131 M3).bind fun M4 =>
  fi (fm_is M4 21 21 a0 = true) (
  (f4 a0 118 147 37 (Int32.ofInt 0) a1 M4).bind fun M5 =>
  fi (fm_is M5 21 21 a0 = true) (
  (f0 a0 141 M5).bind fun M6 =>
  fi (fm_is M6 21 21 a0 = true) (
  (f2 a0 109 150 M6).bind fun M7 =>
  fi (fm_is M7 21 21 a0 = true) (
  (f5 a0 a1 (Int32.ofInt 3) (Int32.ofInt 7) M7).bind fun M8 =>
  fi (fm_is M8 6 6 38 = true) (
  fi (fm_is M8 6 6 38 = true) (
  fi (fm_is M8 21 21 a0 = true) (
  (f6 a0 (M8.2.1 13 38 0) (M8.2.1 14 38 0) M8).bind fun M9 =>
  fi (fm_is M9 21 21 a0 = true) (
  let x10 : Nat := (M9.2.2 56 a0 0)
  fi (fm_is M9 87 87 x10 = true) (
  (f7 x10 M9).bind fun r11 =>
  fi (fm_is r11.2 21 21 a0 = true) (
  (f0 a0 120 r11.2).bind fun M12 =>
  fi (fm_is M12 21 21 a0 = true) (
  (f8 a0 102 (Int32.ofInt 1) M12).bind fun M13 =>
  fi (fm_is M13 21 21 a0 = true) (
  (f3 a0 119 M13).bind fun M14 =>
  fi (fm_is M14 21 21 a0 = true) (
  (f2 a0 109 145 M14).bind fun M15 =>
  fi (fm_is M15 21 21 a0 = true) (
  (f5 a0 a1 (Int32.ofInt 11) (Int32.ofInt 9) M15).bind fun M16 =>
  fi (fm_is M16 6 6 39 = true) (
  fi (fm_is M16 6 6 39 = true) (
  fi (fm_is M16 21 21 a0 = true) (
  (f6 a0 (M16.2.1 13 39 0) (M16.2.1 14 39 0) M16).bind fun M17 =>
  fi (fm_is M17 21 21 a0 = true) (
  (f8 a0 136 (Int32.ofInt 31) M17).bind fun M18 =>
  fi (fm_is M18 21 21 a0 = true) (
  (f8 a0 130 (a1 + (Int32.ofInt 1)) M18).bind fun M19 =>
  fi (fm_is M19 21 21 a0 = true) (
  let x20 : Nat := (M19.2.2 56 a0 0)
  fi (fm_is M19 87 87 x20 = true) (
  (f7 x20 M19).bind fun r21 =>
  fi (fm_is r21.2 21 21 a0 = true) (
  (f4 a0 133 149 40 (Int32.ofInt 10) a1 r21.2).bind fun M22 =>
  fi (fm_is M22 21 21 a0 = true) (
  (f4 a0 106 143 41 (Int32.ofInt 1) a1 M22).bind fun M23 =>
  fi (fm_is M23 21 21 a0 = true) (
  let x24 : Nat := (M23.2.2 56 a0 0)
  fi (fm_is M23 87 87 x24 = true) (
  (f7 x24 M23).bind fun r25 =>
  some r25.2) none) none) none) none) none) none) none) none) none) none) none) none) none) none) none) none) none) none) none) none) none) none) none) none) none) none) none) none) none
noncomputable def FX4_devices_0 (n : Nat) (a0 : Nat) (a1 : Int32) (M : FM) : Option (FM) := BX4_devices_0 (FX4_open n) (FX4_cells n) (FX4_string n) (FX4_nothing n) (FX4_device n) (FX4_lines n) (FX4_window n) FX5_close (FX4_number n) a0 a1 M
noncomputable def FX4_devices (n : Nat) (a0 : Nat) (a1 : Int32) (M : FM) : Option (FM) := FX4_devices_0 n a0 a1 M
/-! BoardMachine$Trees$Row.fillUp()V -/
noncomputable def BX3_fillUp_0 (f0 : Nat → Int32 → FM → Option (FM)) (k0 : Nat → FM → Option (FM)) (a0 : Nat) (M : FM) : Option (FM) :=
  fi (fm_is M 86 86 a0 = true) (
  fi (((M.1 262 a0 0) &&& (Int32.ofInt 3)) = 0) (
    some M) (
    fi (fm_is M 86 86 a0 = true) (
    (f0 a0 (Int32.ofInt 0) M).bind fun M1 =>
    k0 a0 M1) none)) none
noncomputable def FX3_fillUp_0 (n : Nat) (k0 : Nat → FM → Option (FM)) (a0 : Nat) (M : FM) : Option (FM) := BX3_fillUp_0 FX3_add k0 a0 M
noncomputable def FX3_fillUp_L0 (n : Nat) : Nat → Nat → FM → Option (FM)
  | 0 => fun _ _ => none
  | j + 1 => FX3_fillUp_0 n (FX3_fillUp_L0 n j)
noncomputable def FX3_fillUp (n : Nat) (a0 : Nat) (M : FM) : Option (FM) := FX3_fillUp_L0 n n a0 M
/-! BoardMachine$Trees$Row.get(I)I -/
noncomputable def BX3_get_0 (a0 : Nat) (a1 : Int32) (M : FM) : Option (Int32 × FM) :=
  fi (fm_is M 86 86 a0 = true) (
  let x1 : Nat := (M.2.2 261 a0 0)
  fi (fm_is M 903 903 x1 = true ∧ fm_in M x1 a1 = true) (
  some (((M.1 3 x1 a1.toNatClampNeg) &&& (Int32.ofInt 255)), M)) none) none
noncomputable def FX3_get_0 (a0 : Nat) (a1 : Int32) (M : FM) : Option (Int32 × FM) := BX3_get_0 a0 a1 M
noncomputable def FX3_get (a0 : Nat) (a1 : Int32) (M : FM) : Option (Int32 × FM) := FX3_get_0 a0 a1 M
/-! BoardMachine$Trees$Row.isSame(ILBoardMachine$Trees$Row;II)Z -/
noncomputable def BX3_isSame_3 (k3 : Nat → Int32 → Nat → Int32 → Int32 → Int32 → FM → Option (Int32 × FM)) (a0 : Nat) (a1 : Int32) (a2 : Nat) (a3 : Int32) (a4 : Int32) (a5 : Int32) (M : FM) : Option (Int32 × FM) :=
  fi (a4 ≤ a5) (
    fi ((Int32.ofInt 1) = 0 ∨ (Int32.ofInt 1) = 1) (some ((Int32.ofInt 1), M)) none) (
    fi (fm_is M 86 86 a0 = true) (
    let x1 : Int32 := (a1 + a5)
    let x2 : Nat := (M.2.2 261 a0 0)
    fi (fm_is M 903 903 x2 = true ∧ fm_in M x2 x1 = true) (
    fi (fm_is M 86 86 a2 = true) (
    let x3 : Int32 := (a3 + a5)
    let x4 : Nat := (M.2.2 261 a2 0)
    fi (fm_is M 903 903 x4 = true ∧ fm_in M x4 x3 = true) (
    fi ((M.1 3 x2 x1.toNatClampNeg) = (M.1 3 x4 x3.toNatClampNeg)) (
      let x5 : Int32 := a5 + (Int32.ofInt 1)
      k3 a0 a1 a2 a3 a4 x5 M) (
      fi ((Int32.ofInt 0) = 0 ∨ (Int32.ofInt 0) = 1) (some ((Int32.ofInt 0), M)) none)) none) none) none) none)
noncomputable def FX3_isSame_3 (n : Nat) (k3 : Nat → Int32 → Nat → Int32 → Int32 → Int32 → FM → Option (Int32 × FM)) (a0 : Nat) (a1 : Int32) (a2 : Nat) (a3 : Int32) (a4 : Int32) (a5 : Int32) (M : FM) : Option (Int32 × FM) := BX3_isSame_3 k3 a0 a1 a2 a3 a4 a5 M
noncomputable def BX3_isSame_0 (k3 : Nat → Int32 → Nat → Int32 → Int32 → Int32 → FM → Option (Int32 × FM)) (a0 : Nat) (a1 : Int32) (a2 : Nat) (a3 : Int32) (a4 : Int32) (M : FM) : Option (Int32 × FM) :=
  k3 a0 a1 a2 a3 a4 (Int32.ofInt 0) M
noncomputable def FX3_isSame_0 (n : Nat) (k3 : Nat → Int32 → Nat → Int32 → Int32 → Int32 → FM → Option (Int32 × FM)) (a0 : Nat) (a1 : Int32) (a2 : Nat) (a3 : Int32) (a4 : Int32) (M : FM) : Option (Int32 × FM) := BX3_isSame_0 k3 a0 a1 a2 a3 a4 M
noncomputable def FX3_isSame_L3 (n : Nat) : Nat → Nat → Int32 → Nat → Int32 → Int32 → Int32 → FM → Option (Int32 × FM)
  | 0 => fun _ _ _ _ _ _ _ => none
  | j + 1 => FX3_isSame_3 n (FX3_isSame_L3 n j)
noncomputable def FX3_isSame (n : Nat) (a0 : Nat) (a1 : Int32) (a2 : Nat) (a3 : Int32) (a4 : Int32) (M : FM) : Option (Int32 × FM) := FX3_isSame_0 n (FX3_isSame_L3 n n) a0 a1 a2 a3 a4 M
/-! BoardMachine$Trees$Press.nameAt(LBoardMachine$Trees$Tree;LBoardMachine$Trees$Piece;)I -/
noncomputable def BX9_nameAt_68 (k2 : Nat → Nat → Nat → Int32 → FM → Option (Int32 × FM)) (a0 : Nat) (a1 : Nat) (a2 : Nat) (a3 : Int32) (a4 : Int32) (M : FM) : Option (Int32 × FM) :=
  let x1 : Int32 := (a3 + (a4 + (Int32.ofInt 1)))
  k2 a0 a1 a2 x1 M
noncomputable def FX9_nameAt_68 (n : Nat) (k2 : Nat → Nat → Nat → Int32 → FM → Option (Int32 × FM)) (k16 : Nat → Nat → Nat → Int32 → Int32 → FM → Option (Int32 × FM)) (a0 : Nat) (a1 : Nat) (a2 : Nat) (a3 : Int32) (a4 : Int32) (M : FM) : Option (Int32 × FM) := BX9_nameAt_68 k2 a0 a1 a2 a3 a4 M
noncomputable def BX9_nameAt_16 (f0 : Nat → Int32 → FM → Option (Int32 × FM)) (f3 : Nat → Int32 → Nat → Int32 → Int32 → FM → Option (Int32 × FM)) (g68 : Nat → Nat → Nat → Int32 → Int32 → FM → Option (Int32 × FM)) (k16 : Nat → Nat → Nat → Int32 → Int32 → FM → Option (Int32 × FM)) (a0 : Nat) (a1 : Nat) (a2 : Nat) (a3 : Int32) (a4 : Int32) (M : FM) : Option (Int32 × FM) :=
  fi (fm_is M 84 84 a0 = true) (
  let x1 : Nat := (M.2.2 257 a0 0)
  fi (fm_is M 86 86 x1 = true) (
  (f0 x1 (a3 + a4) M).bind fun r2 =>
  fi (r2.1 = 0) (
    fi (fm_is r2.2 83 83 a2 = true) (
    fi (a4 = (r2.2.1 255 a2 0)) (
      fi (fm_is r2.2 84 84 a0 = true) (
      fi (fm_is r2.2 87 87 a1 = true) (
      fi (fm_is r2.2 83 83 a2 = true) (
      let x3 : Nat := (r2.2.2.2 257 a0 0)
      fi (fm_is r2.2 86 86 x3 = true) (
      (f3 x3 a3 (r2.2.2.2 263 a1 0) (r2.2.1 254 a2 0) a4 r2.2).bind fun r4 =>
      fi (r4.1 = 0) (
        g68 a0 a1 a2 a3 a4 r4.2) (
        some (a3, r4.2))) none) none) none) none) (
      g68 a0 a1 a2 a3 a4 r2.2)) none) (
    let x5 : Int32 := a4 + (Int32.ofInt 1)
    k16 a0 a1 a2 a3 x5 r2.2)) none) none
noncomputable def FX9_nameAt_16 (n : Nat) (k2 : Nat → Nat → Nat → Int32 → FM → Option (Int32 × FM)) (k16 : Nat → Nat → Nat → Int32 → Int32 → FM → Option (Int32 × FM)) (a0 : Nat) (a1 : Nat) (a2 : Nat) (a3 : Int32) (a4 : Int32) (M : FM) : Option (Int32 × FM) := BX9_nameAt_16 FX3_get (FX3_isSame n) (FX9_nameAt_68 n k2 k16) k16 a0 a1 a2 a3 a4 M
noncomputable def BX9_nameAt_2 (f1 : Nat → Nat → Int32 → Int32 → FM → Option (FM)) (f2 : Nat → Int32 → FM → Option (FM)) (k16 : Nat → Nat → Nat → Int32 → Int32 → FM → Option (Int32 × FM)) (a0 : Nat) (a1 : Nat) (a2 : Nat) (a3 : Int32) (M : FM) : Option (Int32 × FM) :=
  fi (fm_is M 84 84 a0 = true) (
  let x1 : Nat := (M.2.2 257 a0 0)
  fi (fm_is M 86 86 x1 = true) (
  fi ((M.1 262 x1 0) ≤ a3) (
    fi (fm_is M 84 84 a0 = true) (
    fi (fm_is M 87 87 a1 = true) (
    fi (fm_is M 83 83 a2 = true) (
    fi (fm_is M 83 83 a2 = true) (
    let x2 : Nat := (M.2.2 257 a0 0)
    fi (fm_is M 86 86 x2 = true) (
    (f1 x2 (M.2.2 263 a1 0) (M.1 254 a2 0) (M.1 255 a2 0) M).bind fun M3 =>
    fi (fm_is M3 84 84 a0 = true) (
    let x4 : Nat := (M3.2.2 257 a0 0)
    fi (fm_is M3 86 86 x4 = true) (
    (f2 x4 (Int32.ofInt 0) M3).bind fun M5 =>
    some (a3, M5)) none) none) none) none) none) none) none) (
    k16 a0 a1 a2 a3 (Int32.ofInt 0) M)) none) none
noncomputable def FX9_nameAt_2 (n : Nat) (k2 : Nat → Nat → Nat → Int32 → FM → Option (Int32 × FM)) (k16 : Nat → Nat → Nat → Int32 → Int32 → FM → Option (Int32 × FM)) (a0 : Nat) (a1 : Nat) (a2 : Nat) (a3 : Int32) (M : FM) : Option (Int32 × FM) := BX9_nameAt_2 FX3_addAll FX3_add k16 a0 a1 a2 a3 M
noncomputable def BX9_nameAt_0 (k2 : Nat → Nat → Nat → Int32 → FM → Option (Int32 × FM)) (a0 : Nat) (a1 : Nat) (a2 : Nat) (M : FM) : Option (Int32 × FM) :=
  k2 a0 a1 a2 (Int32.ofInt 0) M
noncomputable def FX9_nameAt_0 (n : Nat) (k2 : Nat → Nat → Nat → Int32 → FM → Option (Int32 × FM)) (k16 : Nat → Nat → Nat → Int32 → Int32 → FM → Option (Int32 × FM)) (a0 : Nat) (a1 : Nat) (a2 : Nat) (M : FM) : Option (Int32 × FM) := BX9_nameAt_0 k2 a0 a1 a2 M
noncomputable def FX9_nameAt_L (n : Nat) : Nat → (Nat → Nat → Nat → Int32 → FM → Option (Int32 × FM)) × (Nat → Nat → Nat → Int32 → Int32 → FM → Option (Int32 × FM))
  | 0 => (fun _ _ _ _ _ => none, fun _ _ _ _ _ _ => none)
  | j + 1 => (FX9_nameAt_2 n (FX9_nameAt_L n j).1 (FX9_nameAt_L n j).2, FX9_nameAt_16 n (FX9_nameAt_L n j).1 (FX9_nameAt_L n j).2)
noncomputable def FX9_nameAt (n : Nat) (a0 : Nat) (a1 : Nat) (a2 : Nat) (M : FM) : Option (Int32 × FM) := FX9_nameAt_0 n (FX9_nameAt_L n n).1 (FX9_nameAt_L n n).2 a0 a1 a2 M
/-! BoardMachine$Trees$Press.node(LBoardMachine$Trees$Tree;LBoardMachine$Trees$Node;)V -/
noncomputable def BX9_node_53 (f0 : Nat → Int32 → FM → Option (FM)) (f1 : Nat → Nat → Int32 → Int32 → FM → Option (FM)) (f3 : Nat → FM → Option (FM)) (f4 : Nat → Nat → Nat → FM → Option (Int32 × FM)) (k53 : Nat → Nat → Nat → Int32 → FM → Option (FM)) (a0 : Nat) (a1 : Nat) (a2 : Nat) (a3 : Int32) (M : FM) : Option (FM) :=
  fi (fm_is M 82 82 a2 = true) (
  fi (fm_is M 82 82 a2 = true) (
  fi (((M.1 251 a2 0) + (M.1 252 a2 0)) ≤ a3) (
    some M) (
    fi (fm_is M 87 87 a1 = true) (
    let x1 : Nat := (M.2.2 265 a1 0)
    fi (fm_is M 910 990 x1 = true ∧ fm_in M x1 a3 = true) (
    let x2 : Nat := (M.2.2 3 x1 a3.toNatClampNeg)
    fi (fm_is M 84 84 a0 = true) (
    let x3 : Nat := (M.2.2 256 a0 0)
    fi (fm_is M 86 86 x3 = true) (
    (f0 x3 (Int32.ofInt 3) M).bind fun M4 =>
    fi (fm_is M4 84 84 a0 = true) (
    fi (fm_is M4 85 85 x2 = true) (
    let x5 : Nat := (M4.2.2 259 x2 0)
    fi (fm_is M4 83 83 x5 = true) (
    let x6 : Nat := (M4.2.2 256 a0 0)
    fi (fm_is M4 86 86 x6 = true) (
    (f0 x6 (M4.1 255 x5 0) M4).bind fun M7 =>
    fi (fm_is M7 84 84 a0 = true) (
    fi (fm_is M7 85 85 x2 = true) (
    fi (fm_is M7 84 84 a0 = true) (
    (f4 a0 a1 (M7.2.2 258 x2 0) M7).bind fun r8 =>
    let x9 : Nat := (M7.2.2 256 a0 0)
    fi (fm_is r8.2 86 86 x9 = true) (
    (f0 x9 r8.1 r8.2).bind fun M10 =>
    fi (fm_is M10 84 84 a0 = true) (
    fi (fm_is M10 87 87 a1 = true) (
    fi (fm_is M10 85 85 x2 = true) (
    let x11 : Nat := (M10.2.2 259 x2 0)
    fi (fm_is M10 83 83 x11 = true) (
    fi (fm_is M10 85 85 x2 = true) (
    let x12 : Nat := (M10.2.2 259 x2 0)
    fi (fm_is M10 83 83 x12 = true) (
    let x13 : Nat := (M10.2.2 256 a0 0)
    fi (fm_is M10 86 86 x13 = true) (
    (f1 x13 (M10.2.2 263 a1 0) (M10.1 254 x11 0) (M10.1 255 x12 0) M10).bind fun M14 =>
    fi (fm_is M14 84 84 a0 = true) (
    let x15 : Nat := (M14.2.2 256 a0 0)
    fi (fm_is M14 86 86 x15 = true) (
    (f3 x15 M14).bind fun M16 =>
    let x17 : Int32 := a3 + (Int32.ofInt 1)
    k53 a0 a1 a2 x17 M16) none) none) none) none) none) none) none) none) none) none) none) none) none) none) none) none) none) none) none) none) none)) none) none
noncomputable def FX9_node_53 (n : Nat) (k53 : Nat → Nat → Nat → Int32 → FM → Option (FM)) (a0 : Nat) (a1 : Nat) (a2 : Nat) (a3 : Int32) (M : FM) : Option (FM) := BX9_node_53 (FX3_addNumber n) FX3_addAll (FX3_fillUp n) (FX9_nameAt n) k53 a0 a1 a2 a3 M
noncomputable def BX9_node_0 (f0 : Nat → Int32 → FM → Option (FM)) (f1 : Nat → Nat → Int32 → Int32 → FM → Option (FM)) (f2 : Nat → Int32 → FM → Option (FM)) (f3 : Nat → FM → Option (FM)) (k53 : Nat → Nat → Nat → Int32 → FM → Option (FM)) (a0 : Nat) (a1 : Nat) (a2 : Nat) (M : FM) : Option (FM) :=
  fi (fm_is M 84 84 a0 = true) (
  let x1 : Nat := (M.2.2 256 a0 0)
  fi (fm_is M 86 86 x1 = true) (
  (f0 x1 (Int32.ofInt 1) M).bind fun M2 =>
  fi (fm_is M2 84 84 a0 = true) (
  fi (fm_is M2 87 87 a1 = true) (
  fi (fm_is M2 82 82 a2 = true) (
  let x3 : Nat := (M2.2.2 248 a2 0)
  fi (fm_is M2 83 83 x3 = true) (
  fi (fm_is M2 82 82 a2 = true) (
  let x4 : Nat := (M2.2.2 248 a2 0)
  fi (fm_is M2 83 83 x4 = true) (
  let x5 : Nat := (M2.2.2 256 a0 0)
  fi (fm_is M2 86 86 x5 = true) (
  (f1 x5 (M2.2.2 263 a1 0) (M2.1 254 x3 0) (M2.1 255 x4 0) M2).bind fun M6 =>
  fi (fm_is M6 84 84 a0 = true) (
  let x7 : Nat := (M6.2.2 256 a0 0)
  fi (fm_is M6 86 86 x7 = true) (
  (f2 x7 (Int32.ofInt 0) M6).bind fun M8 =>
  fi (fm_is M8 84 84 a0 = true) (
  let x9 : Nat := (M8.2.2 256 a0 0)
  fi (fm_is M8 86 86 x9 = true) (
  (f3 x9 M8).bind fun M10 =>
  fi (fm_is M10 82 82 a2 = true) (
  let x11 : Int32 := (M10.1 251 a2 0)
  k53 a0 a1 a2 x11 M10) none) none) none) none) none) none) none) none) none) none) none) none) none) none
noncomputable def FX9_node_0 (n : Nat) (k53 : Nat → Nat → Nat → Int32 → FM → Option (FM)) (a0 : Nat) (a1 : Nat) (a2 : Nat) (M : FM) : Option (FM) := BX9_node_0 (FX3_addNumber n) FX3_addAll FX3_add (FX3_fillUp n) k53 a0 a1 a2 M
noncomputable def FX9_node_L53 (n : Nat) : Nat → Nat → Nat → Nat → Int32 → FM → Option (FM)
  | 0 => fun _ _ _ _ _ => none
  | j + 1 => FX9_node_53 n (FX9_node_L53 n j)
noncomputable def FX9_node (n : Nat) (a0 : Nat) (a1 : Nat) (a2 : Nat) (M : FM) : Option (FM) := FX9_node_0 n (FX9_node_L53 n n) a0 a1 a2 M
/-! BoardMachine$Trees$Row.putNumber(II)V -/
noncomputable def BX3_putNumber_2 (k2 : Nat → Int32 → Int32 → Int32 → FM → Option (FM)) (a0 : Nat) (a1 : Int32) (a2 : Int32) (a3 : Int32) (M : FM) : Option (FM) :=
  fi ((Int32.ofInt 4) ≤ a3) (
    some M) (
    fi (fm_is M 86 86 a0 = true) (
    let x1 : Int32 := (a1 + a3)
    let x2 : Nat := (M.2.2 261 a0 0)
    fi (fm_is M 903 903 x2 = true ∧ fm_in M x2 x1 = true) (
    let M3 : FM := fm_sI M 3 x2 x1.toNatClampNeg (((a2 >>> (((Int32.ofInt 24) - ((Int32.ofInt 8) * a3)) &&& 31)).toInt8.toInt32).toInt8.toInt32)
    let x4 : Int32 := a3 + (Int32.ofInt 1)
    k2 a0 a1 a2 x4 M3) none) none)
noncomputable def FX3_putNumber_2 (n : Nat) (k2 : Nat → Int32 → Int32 → Int32 → FM → Option (FM)) (a0 : Nat) (a1 : Int32) (a2 : Int32) (a3 : Int32) (M : FM) : Option (FM) := BX3_putNumber_2 k2 a0 a1 a2 a3 M
noncomputable def BX3_putNumber_0 (k2 : Nat → Int32 → Int32 → Int32 → FM → Option (FM)) (a0 : Nat) (a1 : Int32) (a2 : Int32) (M : FM) : Option (FM) :=
  k2 a0 a1 a2 (Int32.ofInt 0) M
noncomputable def FX3_putNumber_0 (n : Nat) (k2 : Nat → Int32 → Int32 → Int32 → FM → Option (FM)) (a0 : Nat) (a1 : Int32) (a2 : Int32) (M : FM) : Option (FM) := BX3_putNumber_0 k2 a0 a1 a2 M
noncomputable def FX3_putNumber_L2 (n : Nat) : Nat → Nat → Int32 → Int32 → Int32 → FM → Option (FM)
  | 0 => fun _ _ _ _ _ => none
  | j + 1 => FX3_putNumber_2 n (FX3_putNumber_L2 n j)
noncomputable def FX3_putNumber (n : Nat) (a0 : Nat) (a1 : Int32) (a2 : Int32) (M : FM) : Option (FM) := FX3_putNumber_0 n (FX3_putNumber_L2 n n) a0 a1 a2 M
/-! BoardMachine$Trees$Press.head(II)V -/
noncomputable def BX9_head_0 (f0 : Nat → Int32 → Int32 → FM → Option (FM)) (a0 : Nat) (a1 : Int32) (a2 : Int32) (M : FM) : Option (FM) :=
  fi (fm_is M 84 84 a0 = true) (
  let x1 : Nat := (M.2.2 256 a0 0)
  fi (fm_is M 86 86 x1 = true) (
  (f0 x1 (Int32.ofInt 0) (Int32.ofInt (-804389139)) M).bind fun M2 =>
  fi (fm_is M2 84 84 a0 = true) (
  fi (fm_is M2 84 84 a0 = true) (
  let x3 : Nat := (M2.2.2 256 a0 0)
  fi (fm_is M2 86 86 x3 = true) (
  let x4 : Nat := (M2.2.2 256 a0 0)
  fi (fm_is M2 86 86 x4 = true) (
  (f0 x4 (Int32.ofInt 4) (M2.1 262 x3 0) M2).bind fun M5 =>
  fi (fm_is M5 84 84 a0 = true) (
  let x6 : Nat := (M5.2.2 256 a0 0)
  fi (fm_is M5 86 86 x6 = true) (
  (f0 x6 (Int32.ofInt 8) (Int32.ofInt 56) M5).bind fun M7 =>
  fi (fm_is M7 84 84 a0 = true) (
  let x8 : Nat := (M7.2.2 256 a0 0)
  fi (fm_is M7 86 86 x8 = true) (
  (f0 x8 (Int32.ofInt 12) a1 M7).bind fun M9 =>
  fi (fm_is M9 84 84 a0 = true) (
  let x10 : Nat := (M9.2.2 256 a0 0)
  fi (fm_is M9 86 86 x10 = true) (
  (f0 x10 (Int32.ofInt 16) (Int32.ofInt 40) M9).bind fun M11 =>
  fi (fm_is M11 84 84 a0 = true) (
  let x12 : Nat := (M11.2.2 256 a0 0)
  fi (fm_is M11 86 86 x12 = true) (
  (f0 x12 (Int32.ofInt 20) (Int32.ofInt 17) M11).bind fun M13 =>
  fi (fm_is M13 84 84 a0 = true) (
  let x14 : Nat := (M13.2.2 256 a0 0)
  fi (fm_is M13 86 86 x14 = true) (
  (f0 x14 (Int32.ofInt 24) (Int32.ofInt 16) M13).bind fun M15 =>
  fi (fm_is M15 84 84 a0 = true) (
  fi (fm_is M15 84 84 a0 = true) (
  let x16 : Nat := (M15.2.2 257 a0 0)
  fi (fm_is M15 86 86 x16 = true) (
  let x17 : Nat := (M15.2.2 256 a0 0)
  fi (fm_is M15 86 86 x17 = true) (
  (f0 x17 (Int32.ofInt 32) (M15.1 262 x16 0) M15).bind fun M18 =>
  fi (fm_is M18 84 84 a0 = true) (
  let x19 : Nat := (M18.2.2 256 a0 0)
  fi (fm_is M18 86 86 x19 = true) (
  (f0 x19 (Int32.ofInt 36) a2 M18).bind fun M20 =>
  some M20) none) none) none) none) none) none) none) none) none) none) none) none) none) none) none) none) none) none) none) none) none) none
noncomputable def FX9_head_0 (n : Nat) (a0 : Nat) (a1 : Int32) (a2 : Int32) (M : FM) : Option (FM) := BX9_head_0 (FX3_putNumber n) a0 a1 a2 M
noncomputable def FX9_head (n : Nat) (a0 : Nat) (a1 : Int32) (a2 : Int32) (M : FM) : Option (FM) := FX9_head_0 n a0 a1 a2 M
/-! BoardMachine$Trees$Press.lay(LBoardMachine$Trees$Tree;)I -/
noncomputable def BX9_lay_98 (f0 : Nat → Int32 → FM → Option (FM)) (f2 : Nat → Nat → Int32 → Int32 → FM → Option (FM)) (f3 : Nat → Int32 → Int32 → FM → Option (FM)) (k98 : Nat → Int32 → FM → Option (Int32 × FM)) (a0 : Nat) (a2 : Int32) (M : FM) : Option (Int32 × FM) :=
  fi (a2 ≤ 0) (
    fi (fm_is M 84 84 a0 = true) (
    let x1 : Nat := (M.2.2 256 a0 0)
    fi (fm_is M 86 86 x1 = true) (
    (f0 x1 (Int32.ofInt 9) M).bind fun M2 =>
    fi (fm_is M2 84 84 a0 = true) (
    let x3 : Nat := (M2.2.2 256 a0 0)
    fi (fm_is M2 86 86 x3 = true) (
    let x4 : Int32 := ((M2.1 262 x3 0) - (Int32.ofInt 56))
    fi (fm_is M2 84 84 a0 = true) (
    let x5 : Nat := (M2.2.2 256 a0 0)
    fi (fm_is M2 86 86 x5 = true) (
    let x6 : Int32 := (M2.1 262 x5 0)
    fi (fm_is M2 84 84 a0 = true) (
    fi (fm_is M2 84 84 a0 = true) (
    fi (fm_is M2 84 84 a0 = true) (
    let x7 : Nat := (M2.2.2 257 a0 0)
    fi (fm_is M2 86 86 x7 = true) (
    let x8 : Nat := (M2.2.2 256 a0 0)
    fi (fm_is M2 86 86 x8 = true) (
    (f2 x8 (M2.2.2 257 a0 0) (Int32.ofInt 0) (M2.1 262 x7 0) M2).bind fun M9 =>
    fi (fm_is M9 84 84 a0 = true) (
    (f3 a0 x6 x4 M9).bind fun M10 =>
    fi (fm_is M10 84 84 a0 = true) (
    let x11 : Nat := (M10.2.2 256 a0 0)
    fi (fm_is M10 86 86 x11 = true) (
    some ((M10.1 262 x11 0), M10)) none) none) none) none) none) none) none) none) none) none) none) none) none) none) (
    fi (fm_is M 84 84 a0 = true) (
    let x12 : Nat := (M.2.2 256 a0 0)
    fi (fm_is M 86 86 x12 = true) (
    (f0 x12 (Int32.ofInt 2) M).bind fun M13 =>
    let x14 : Int32 := a2 + (Int32.ofInt (-1))
    k98 a0 x14 M13) none) none)
noncomputable def FX9_lay_98 (n : Nat) (k16 : Nat → Nat → FM → Option (Int32 × FM)) (k43 : Nat → Nat → Int32 → Int32 → FM → Option (Int32 × FM)) (k51 : Nat → Nat → Int32 → Int32 → FM → Option (Int32 × FM)) (k98 : Nat → Int32 → FM → Option (Int32 × FM)) (a0 : Nat) (a2 : Int32) (M : FM) : Option (Int32 × FM) := BX9_lay_98 (FX3_addNumber n) FX3_addAll (FX9_head n) k98 a0 a2 M
noncomputable def BX9_lay_51 (f0 : Nat → Int32 → FM → Option (FM)) (f1 : Nat → Nat → Nat → FM → Option (FM)) (k43 : Nat → Nat → Int32 → Int32 → FM → Option (Int32 × FM)) (k51 : Nat → Nat → Int32 → Int32 → FM → Option (Int32 × FM)) (a0 : Nat) (a1 : Nat) (a2 : Int32) (a3 : Int32) (M : FM) : Option (Int32 × FM) :=
  fi (fm_is M 87 87 a1 = true) (
  let x1 : Nat := (M.2.2 264 a1 0)
  fi (fm_is M 910 990 x1 = true ∧ fm_in M x1 a3 = true) (
  let x2 : Nat := (M.2.2 3 x1 a3.toNatClampNeg)
  fi (fm_is M 82 82 x2 = true) (
  fi (a2 < (M.1 250 x2 0)) (
    fi (fm_is M 87 87 a1 = true) (
    let x3 : Nat := (M.2.2 264 a1 0)
    fi (fm_is M 910 990 x3 = true ∧ fm_in M x3 a3 = true) (
    fi (fm_is M 84 84 a0 = true) (
    (f1 a0 a1 (M.2.2 3 x3 a3.toNatClampNeg) M).bind fun M4 =>
    let x5 : Int32 := a2 + (Int32.ofInt 1)
    let x6 : Int32 := a3 + (Int32.ofInt 1)
    k43 a0 a1 x5 x6 M4) none) none) none) (
    fi (fm_is M 84 84 a0 = true) (
    let x7 : Nat := (M.2.2 256 a0 0)
    fi (fm_is M 86 86 x7 = true) (
    (f0 x7 (Int32.ofInt 2) M).bind fun M8 =>
    let x9 : Int32 := a2 + (Int32.ofInt (-1))
    k51 a0 a1 x9 a3 M8) none) none)) none) none) none
noncomputable def FX9_lay_51 (n : Nat) (k16 : Nat → Nat → FM → Option (Int32 × FM)) (k43 : Nat → Nat → Int32 → Int32 → FM → Option (Int32 × FM)) (k51 : Nat → Nat → Int32 → Int32 → FM → Option (Int32 × FM)) (k98 : Nat → Int32 → FM → Option (Int32 × FM)) (a0 : Nat) (a1 : Nat) (a2 : Int32) (a3 : Int32) (M : FM) : Option (Int32 × FM) := BX9_lay_51 (FX3_addNumber n) (FX9_node n) k43 k51 a0 a1 a2 a3 M
noncomputable def BX9_lay_43 (k51 : Nat → Nat → Int32 → Int32 → FM → Option (Int32 × FM)) (k98 : Nat → Int32 → FM → Option (Int32 × FM)) (a0 : Nat) (a1 : Nat) (a2 : Int32) (a3 : Int32) (M : FM) : Option (Int32 × FM) :=
  fi (fm_is M 87 87 a1 = true) (
  fi ((M.1 266 a1 0) ≤ a3) (
    k98 a0 a2 M) (
    k51 a0 a1 a2 a3 M)) none
noncomputable def FX9_lay_43 (n : Nat) (k16 : Nat → Nat → FM → Option (Int32 × FM)) (k43 : Nat → Nat → Int32 → Int32 → FM → Option (Int32 × FM)) (k51 : Nat → Nat → Int32 → Int32 → FM → Option (Int32 × FM)) (k98 : Nat → Int32 → FM → Option (Int32 × FM)) (a0 : Nat) (a1 : Nat) (a2 : Int32) (a3 : Int32) (M : FM) : Option (Int32 × FM) := BX9_lay_43 k51 k98 a0 a1 a2 a3 M
noncomputable def BX9_lay_16 (f0 : Nat → Int32 → FM → Option (FM)) (k16 : Nat → Nat → FM → Option (Int32 × FM)) (k43 : Nat → Nat → Int32 → Int32 → FM → Option (Int32 × FM)) (a0 : Nat) (a1 : Nat) (M : FM) : Option (Int32 × FM) :=
  fi (fm_is M 84 84 a0 = true) (
  let x1 : Nat := (M.2.2 256 a0 0)
  fi (fm_is M 86 86 x1 = true) (
  fi ((Int32.ofInt 56) ≤ (M.1 262 x1 0)) (
    k43 a0 a1 (Int32.ofInt 0) (Int32.ofInt 0) M) (
    fi (fm_is M 84 84 a0 = true) (
    let x2 : Nat := (M.2.2 256 a0 0)
    fi (fm_is M 86 86 x2 = true) (
    (f0 x2 (Int32.ofInt 0) M).bind fun M3 =>
    k16 a0 a1 M3) none) none)) none) none
noncomputable def FX9_lay_16 (n : Nat) (k16 : Nat → Nat → FM → Option (Int32 × FM)) (k43 : Nat → Nat → Int32 → Int32 → FM → Option (Int32 × FM)) (k51 : Nat → Nat → Int32 → Int32 → FM → Option (Int32 × FM)) (k98 : Nat → Int32 → FM → Option (Int32 × FM)) (a0 : Nat) (a1 : Nat) (M : FM) : Option (Int32 × FM) := BX9_lay_16 (FX3_addNumber n) k16 k43 a0 a1 M
noncomputable def BX9_lay_0 (k16 : Nat → Nat → FM → Option (Int32 × FM)) (a0 : Nat) (a1 : Nat) (M : FM) : Option (Int32 × FM) :=
  fi (fm_is M 84 84 a0 = true) (
  let x1 : Nat := (M.2.2 257 a0 0)
  fi (fm_is M 86 86 x1 = true) (
  let M2 : FM := fm_sI M 262 x1 0 (Int32.ofInt 0)
  fi (fm_is M2 84 84 a0 = true) (
  let x3 : Nat := (M2.2.2 256 a0 0)
  fi (fm_is M2 86 86 x3 = true) (
  let M4 : FM := fm_sI M2 262 x3 0 (Int32.ofInt 0)
  k16 a0 a1 M4) none) none) none) none
noncomputable def FX9_lay_0 (n : Nat) (k16 : Nat → Nat → FM → Option (Int32 × FM)) (k43 : Nat → Nat → Int32 → Int32 → FM → Option (Int32 × FM)) (k51 : Nat → Nat → Int32 → Int32 → FM → Option (Int32 × FM)) (k98 : Nat → Int32 → FM → Option (Int32 × FM)) (a0 : Nat) (a1 : Nat) (M : FM) : Option (Int32 × FM) := BX9_lay_0 k16 a0 a1 M
noncomputable def FX9_lay_L (n : Nat) : Nat → (Nat → Nat → FM → Option (Int32 × FM)) × (Nat → Nat → Int32 → Int32 → FM → Option (Int32 × FM)) × (Nat → Nat → Int32 → Int32 → FM → Option (Int32 × FM)) × (Nat → Int32 → FM → Option (Int32 × FM))
  | 0 => (fun _ _ _ => none, fun _ _ _ _ _ => none, fun _ _ _ _ _ => none, fun _ _ _ => none)
  | j + 1 => (FX9_lay_16 n (FX9_lay_L n j).1 (FX9_lay_L n j).2.1 (FX9_lay_L n j).2.2.1 (FX9_lay_L n j).2.2.2, FX9_lay_43 n (FX9_lay_L n j).1 (FX9_lay_L n j).2.1 (FX9_lay_L n j).2.2.1 (FX9_lay_L n j).2.2.2, FX9_lay_51 n (FX9_lay_L n j).1 (FX9_lay_L n j).2.1 (FX9_lay_L n j).2.2.1 (FX9_lay_L n j).2.2.2, FX9_lay_98 n (FX9_lay_L n j).1 (FX9_lay_L n j).2.1 (FX9_lay_L n j).2.2.1 (FX9_lay_L n j).2.2.2)
noncomputable def FX9_lay (n : Nat) (a0 : Nat) (a1 : Nat) (M : FM) : Option (Int32 × FM) := FX9_lay_0 n (FX9_lay_L n n).1 (FX9_lay_L n n).2.1 (FX9_lay_L n n).2.2.1 (FX9_lay_L n n).2.2.2 a0 a1 M
/-! BoardMachine$Describer.describe(I)I -/
noncomputable def BX4_describe_73 (f2 : Nat → Nat → Nat → FM → Option (FM)) (f3 : Nat → Nat → FM → Option (FM)) (f4 : Nat → FM → Option (Int32 × FM)) (f6 : Nat → Int32 → FM → Option (FM)) (f7 : Nat → Int64 → Int64 → FM → Option (FM)) (f8 : Nat → Int32 → FM → Option (FM)) (f9 : Nat → Nat → FM → Option (Int32 × FM)) (k73 : Nat → Int32 → Int32 → FM → Option (Int32 × FM)) (a0 : Nat) (a1 : Int32) (a2 : Int32) (M : FM) : Option (Int32 × FM) :=
  fi (a1 ≤ a2) (
    fi (fm_is M 21 21 a0 = true) (
    let x1 : Nat := (M.2.2 56 a0 0)
    fi (fm_is M 87 87 x1 = true) (
    (f4 x1 M).bind fun r2 =>
    fi (fm_is r2.2 21 21 a0 = true) (
    (f3 a0 126 r2.2).bind fun M3 =>
    fi (fm_is M3 21 21 a0 = true) (
    (f2 a0 117 125 M3).bind fun M4 =>
    fi (fm_is M4 21 21 a0 = true) (
    (f7 a0 (Int64.ofInt 2147483648) (Int64.ofInt 4194304) M4).bind fun M5 =>
    fi (fm_is M5 21 21 a0 = true) (
    let x6 : Nat := (M5.2.2 56 a0 0)
    fi (fm_is M5 87 87 x6 = true) (
    (f4 x6 M5).bind fun r7 =>
    fi (fm_is r7.2 21 21 a0 = true) (
    (f8 a0 a1 r7.2).bind fun M8 =>
    fi (fm_is M8 21 21 a0 = true) (
    fi (fm_is M8 21 21 a0 = true) (
    let x9 : Nat := (M8.2.2 57 a0 0)
    fi (fm_is M8 84 84 x9 = true) (
    (f9 x9 (M8.2.2 56 a0 0) M8).bind fun r10 =>
    some (r10.1, r10.2)) none) none) none) none) none) none) none) none) none) none) none) (
    fi (fm_is M 21 21 a0 = true) (
    (f6 a0 a2 M).bind fun M11 =>
    let x12 : Int32 := a2 + (Int32.ofInt 1)
    k73 a0 a1 x12 M11) none)
noncomputable def FX4_describe_73 (n : Nat) (k73 : Nat → Int32 → Int32 → FM → Option (Int32 × FM)) (a0 : Nat) (a1 : Int32) (a2 : Int32) (M : FM) : Option (Int32 × FM) := BX4_describe_73 (FX4_string n) (FX4_open n) FX5_close (FX4_processor n) (FX4_window n) (FX4_devices n) (FX9_lay n) k73 a0 a1 a2 M
noncomputable def BX4_describe_0 (f0 : Nat → FM → Option (FM)) (f1 : Nat → Int32 → Int32 → FM → Option (FM)) (f2 : Nat → Nat → Nat → FM → Option (FM)) (f3 : Nat → Nat → FM → Option (FM)) (f4 : Nat → FM → Option (Int32 × FM)) (f5 : Nat → Nat → Int32 → FM → Option (FM)) (k73 : Nat → Int32 → Int32 → FM → Option (Int32 × FM)) (a0 : Nat) (a1 : Int32) (M : FM) : Option (Int32 × FM) :=
  fi (fm_is M 21 21 a0 = true) (
  let x1 : Nat := (M.2.2 56 a0 0)
  fi (fm_is M 87 87 x1 = true) (
  (f0 x1 M).bind fun M2 =>
  fi (fm_is M2 21 21 a0 = true) (
  (f1 a0 (Int32.ofInt 2) (Int32.ofInt 2) M2).bind fun M3 =>
  fi (fm_is M3 21 21 a0 = true) (
  (f2 a0 109 144 M3).bind fun M4 =>
  fi (fm_is M4 21 21 a0 = true) (
  (f2 a0 128 107 M4).bind fun M5 =>
  fi (fm_is M5 21 21 a0 = true) (
  (f3 a0 108 M5).bind fun M6 =>
  fi (fm_is M6 21 21 a0 = true) (
  (f2 a0 138 104 M6).bind fun M7 =>
  fi (fm_is M7 21 21 a0 = true) (
  let x8 : Nat := (M7.2.2 56 a0 0)
  fi (fm_is M7 87 87 x8 = true) (
  (f4 x8 M7).bind fun r9 =>
  fi (fm_is r9.2 21 21 a0 = true) (
  (f3 a0 116 r9.2).bind fun M10 =>
  fi (fm_is M10 21 21 a0 = true) (
  (f1 a0 (Int32.ofInt 1) (Int32.ofInt 0) M10).bind fun M11 =>
  fi (fm_is M11 21 21 a0 = true) (
  (f5 a0 140 (Int32.ofInt 10000000) M11).bind fun M12 =>
  k73 a0 a1 (Int32.ofInt 0) M12) none) none) none) none) none) none) none) none) none) none) none) none
noncomputable def FX4_describe_0 (n : Nat) (k73 : Nat → Int32 → Int32 → FM → Option (Int32 × FM)) (a0 : Nat) (a1 : Int32) (M : FM) : Option (Int32 × FM) := BX4_describe_0 FX5_clear (FX4_cells n) (FX4_string n) (FX4_open n) FX5_close (FX4_number n) k73 a0 a1 M
noncomputable def FX4_describe_L73 (n : Nat) : Nat → Nat → Int32 → Int32 → FM → Option (Int32 × FM)
  | 0 => fun _ _ _ _ => none
  | j + 1 => FX4_describe_73 n (FX4_describe_L73 n j)
noncomputable def FX4_describe (n : Nat) (a0 : Nat) (a1 : Int32) (M : FM) : Option (Int32 × FM) := FX4_describe_0 n (FX4_describe_L73 n n) a0 a1 M
/-! BoardMachine$Memories$Ram.pageOf(J)I -/
noncomputable def BX11_pageOf_0 (a0 : Int64) (M : FM) : Option (Int32 × FM) :=
  some (((a0 - (Int64.ofInt 2147483648)) >>> ((Int32.ofInt 12).toInt64 &&& 63)).toInt32, M)
noncomputable def FX11_pageOf_0 (a0 : Int64) (M : FM) : Option (Int32 × FM) := BX11_pageOf_0 a0 M
noncomputable def FX11_pageOf (a0 : Int64) (M : FM) : Option (Int32 × FM) := FX11_pageOf_0 a0 M
/-! BoardMachine$Memories$Ram.placeOf(J)I -/
noncomputable def BX11_placeOf_0 (a0 : Int64) (M : FM) : Option (Int32 × FM) :=
  some ((a0 &&& (Int64.ofInt 4095)).toInt32, M)
noncomputable def FX11_placeOf_0 (a0 : Int64) (M : FM) : Option (Int32 × FM) := BX11_placeOf_0 a0 M
noncomputable def FX11_placeOf (a0 : Int64) (M : FM) : Option (Int32 × FM) := FX11_placeOf_0 a0 M
/-! java/lang/Math.min(II)I -/
noncomputable def BJ5_min_10 (s0 : Int32) (M : FM) : Option (Int32 × FM) :=
  some (s0, M)
noncomputable def FJ5_min_10 (s0 : Int32) (M : FM) : Option (Int32 × FM) := BJ5_min_10 s0 M
noncomputable def BJ5_min_0 (g10 : Int32 → FM → Option (Int32 × FM)) (a0 : Int32) (a1 : Int32) (M : FM) : Option (Int32 × FM) :=
  fi (a1 < a0) (
    g10 a1 M) (
    g10 a0 M)
noncomputable def FJ5_min_0 (a0 : Int32) (a1 : Int32) (M : FM) : Option (Int32 × FM) := BJ5_min_0 FJ5_min_10 a0 a1 M
noncomputable def FJ5_min (a0 : Int32) (a1 : Int32) (M : FM) : Option (Int32 × FM) := FJ5_min_0 a0 a1 M
/-! BoardMachine$Memories$Page.<init>()V -/
noncomputable def BX91_init_0 (a0 : Nat) (M : FM) : Option (FM) :=
  fi (a0 = 0) none (
  fi (¬ (Int32.ofInt 512) < 0 ∧ (Int32.ofInt 512).toNatClampNeg * 8 ≤ 536870912) (
  let x2 : Nat := fm_nx M
  let M1 : FM := fm_newa M 902 201 (Int32.ofInt 512).toNatClampNeg
  fi (fm_is M1 72 72 a0 = true) (
  let M3 : FM := fm_sR M1 201 a0 0 x2
  some M3) none) none)
noncomputable def FX91_init_0 (a0 : Nat) (M : FM) : Option (FM) := BX91_init_0 a0 M
noncomputable def FX91_init (a0 : Nat) (M : FM) : Option (FM) := FX91_init_0 a0 M
/-! BoardMachine$Memories$Ram.made(I)LBoardMachine$Memories$Page; -/
noncomputable def BX11_made_22 (a0 : Nat) (a1 : Int32) (M : FM) : Option (Nat × FM) :=
  fi (fm_is M 73 73 a0 = true) (
  let x1 : Nat := (M.2.2 203 a0 0)
  fi (fm_is M 910 990 x1 = true ∧ fm_in M x1 a1 = true) (
  some ((M.2.2 3 x1 a1.toNatClampNeg), M)) none) none
noncomputable def FX11_made_22 (a0 : Nat) (a1 : Int32) (M : FM) : Option (Nat × FM) := BX11_made_22 a0 a1 M
noncomputable def BX11_made_0 (f0 : Nat → FM → Option (FM)) (g22 : Nat → Int32 → FM → Option (Nat × FM)) (a0 : Nat) (a1 : Int32) (M : FM) : Option (Nat × FM) :=
  fi (fm_is M 73 73 a0 = true) (
  let x1 : Nat := (M.2.2 203 a0 0)
  fi (fm_is M 910 990 x1 = true ∧ fm_in M x1 a1 = true) (
  fi ((M.2.2 3 x1 a1.toNatClampNeg) = 0) (
    fi (fm_is M 73 73 a0 = true) (
    let x3 : Nat := fm_nx M
    let M2 : FM := fm_new M 72 1
    fi (fm_is M2 72 72 x3 = true) (
    (f0 x3 M2).bind fun M4 =>
    let x5 : Nat := (M.2.2 203 a0 0)
    fi (fm_is M4 920 920 x5 = true ∧ fm_in M4 x5 a1 = true) (
    fi (fm_is M4 72 72 x3 = true) (
    let M6 : FM := fm_sR M4 3 x5 a1.toNatClampNeg x3
    g22 a0 a1 M6) none) none) none) none) (
    g22 a0 a1 M)) none) none
noncomputable def FX11_made_0 (a0 : Nat) (a1 : Int32) (M : FM) : Option (Nat × FM) := BX11_made_0 FX91_init FX11_made_22 a0 a1 M
noncomputable def FX11_made (a0 : Nat) (a1 : Int32) (M : FM) : Option (Nat × FM) := FX11_made_0 a0 a1 M
