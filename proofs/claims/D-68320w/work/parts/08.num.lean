/-! numbers: Int32 and Int64 by their value without sign -/
def ui (x : Int32) : Nat := x.toBitVec.toNat
def ul (x : Int64) : Nat := x.toBitVec.toNat
theorem ui_inj {x y : Int32} (h : ui x = ui y) : x = y := Int32.toBitVec_inj.mp (BitVec.eq_of_toNat_eq h)
theorem ul_inj {x y : Int64} (h : ul x = ul y) : x = y := Int64.toBitVec_inj.mp (BitVec.eq_of_toNat_eq h)
theorem ui_lt (x : Int32) : ui x < 4294967296 := x.toBitVec.isLt
theorem ul_lt (x : Int64) : ul x < 18446744073709551616 := x.toBitVec.isLt
theorem ui_add (x y : Int32) : ui (x + y) = (ui x + ui y) % 4294967296 := by
  show (x + y).toBitVec.toNat = _
  rw [Int32.toBitVec_add, BitVec.toNat_add]
  rfl
theorem ul_add (x y : Int64) : ul (x + y) = (ul x + ul y) % 18446744073709551616 := by
  show (x + y).toBitVec.toNat = _
  rw [Int64.toBitVec_add, BitVec.toNat_add]
  rfl
theorem ui_sub (x y : Int32) : ui (x - y) = (4294967296 - ui y + ui x) % 4294967296 := by
  show (x - y).toBitVec.toNat = _
  rw [Int32.toBitVec_sub, BitVec.toNat_sub]
  rfl
theorem ul_sub (x y : Int64) : ul (x - y) = (18446744073709551616 - ul y + ul x) % 18446744073709551616 := by
  show (x - y).toBitVec.toNat = _
  rw [Int64.toBitVec_sub, BitVec.toNat_sub]
  rfl
theorem ui_mul (x y : Int32) : ui (x * y) = ui x * ui y % 4294967296 := by
  show (x * y).toBitVec.toNat = _
  rw [Int32.toBitVec_mul, BitVec.toNat_mul]
  rfl
theorem ul_mul (x y : Int64) : ul (x * y) = ul x * ul y % 18446744073709551616 := by
  show (x * y).toBitVec.toNat = _
  rw [Int64.toBitVec_mul, BitVec.toNat_mul]
  rfl
theorem ui_neg (x : Int32) : ui (-x) = (4294967296 - ui x) % 4294967296 := by
  show (-x).toBitVec.toNat = _
  rw [Int32.toBitVec_neg, BitVec.toNat_neg]
  rfl
theorem ul_neg (x : Int64) : ul (-x) = (18446744073709551616 - ul x) % 18446744073709551616 := by
  show (-x).toBitVec.toNat = _
  rw [Int64.toBitVec_neg, BitVec.toNat_neg]
  rfl
theorem ui_and (x y : Int32) : ui (x &&& y) = ui x &&& ui y := BitVec.toNat_and ..
theorem ui_or (x y : Int32) : ui (x ||| y) = ui x ||| ui y := BitVec.toNat_or ..
theorem ui_xor (x y : Int32) : ui (x ^^^ y) = ui x ^^^ ui y := BitVec.toNat_xor ..
theorem ul_and (x y : Int64) : ul (x &&& y) = ul x &&& ul y := BitVec.toNat_and ..
theorem ul_or (x y : Int64) : ul (x ||| y) = ul x ||| ul y := BitVec.toNat_or ..
theorem ul_xor (x y : Int64) : ul (x ^^^ y) = ul x ^^^ ul y := BitVec.toNat_xor ..
theorem nat_and31 (n : Nat) : n &&& 31 = n % 32 := Nat.and_two_pow_sub_one_eq_mod n 5
theorem nat_and63 (n : Nat) : n &&& 63 = n % 64 := Nat.and_two_pow_sub_one_eq_mod n 6
theorem smod32 {b : BitVec 32} (h : b.toNat < 32) : (b.smod 32).toNat = b.toNat := by
  have h1 : b.msb = false := BitVec.msb_eq_false_iff_two_mul_lt.mpr (by omega)
  have h2 : (32 : BitVec 32).msb = false := by decide
  rw [BitVec.toNat_smod, h1, h2]
  show (b.umod 32).toNat = _
  rw [BitVec.umod_eq, BitVec.toNat_umod]
  exact Nat.mod_eq_of_lt h
theorem smod64 {b : BitVec 64} (h : b.toNat < 64) : (b.smod 64).toNat = b.toNat := by
  have h1 : b.msb = false := BitVec.msb_eq_false_iff_two_mul_lt.mpr (by omega)
  have h2 : (64 : BitVec 64).msb = false := by decide
  rw [BitVec.toNat_smod, h1, h2]
  show (b.umod 64).toNat = _
  rw [BitVec.umod_eq, BitVec.toNat_umod]
  exact Nat.mod_eq_of_lt h
theorem sh5 (y : Int32) : ((y &&& 31).toBitVec.smod 32).toNat = ui y % 32 := by
  have e : (y &&& 31).toBitVec.toNat = ui y % 32 := by
    show ui (y &&& 31) = _
    rw [ui_and]
    exact nat_and31 _
  rw [smod32 (by omega), e]
theorem ui_shl (x y : Int32) : ui (x <<< (y &&& 31)) = ui x * 2 ^ (ui y % 32) % 4294967296 := by
  show (x <<< (y &&& 31)).toBitVec.toNat = _
  rw [Int32.toBitVec_shiftLeft, BitVec.shiftLeft_eq', BitVec.toNat_shiftLeft]
  rw [show ((y &&& 31).toBitVec.smod 32).toNat = ui y % 32 from sh5 y, Nat.shiftLeft_eq]
  rfl
theorem ui_ushr (x y : Int32) : ui (x.toUInt32 >>> (y.toUInt32 &&& Int32.toUInt32 31)).toInt32 = ui x / 2 ^ (ui y % 32) := by
  show (x.toUInt32 >>> (y.toUInt32 &&& Int32.toUInt32 31)).toBitVec.toNat = _
  rw [UInt32.toBitVec_shiftRight, BitVec.ushiftRight_eq', BitVec.toNat_ushiftRight, Nat.shiftRight_eq_div_pow]
  have e : ((y.toUInt32 &&& Int32.toUInt32 31).toBitVec % 32).toNat = ui y % 32 := by
    show (ui y &&& 31) % 32 = _
    rw [nat_and31, Nat.mod_mod]
  rw [show ((y.toUInt32 &&& Int32.toUInt32 31).toBitVec % 32).toNat = ui y % 32 from e]
  rfl
theorem ui_sar0 (x y : Int32) (h : ui x < 2147483648) : ui (x >>> (y &&& 31)) = ui x / 2 ^ (ui y % 32) := by
  show (x >>> (y &&& 31)).toBitVec.toNat = _
  have hm : x.toBitVec.msb = false := BitVec.msb_eq_false_iff_two_mul_lt.mpr (by show 2 * ui x < _; omega)
  rw [Int32.toBitVec_shiftRight, BitVec.toNat_sshiftRight'_of_msb_false hm]
  rw [show ((y &&& 31).toBitVec.smod 32).toNat = ui y % 32 from sh5 y, Nat.shiftRight_eq_div_pow]
  rfl
theorem ui_sar1 (x y : Int32) (h : 2147483648 ≤ ui x) : ui (x >>> (y &&& 31)) = 4294967296 - 1 - (4294967296 - 1 - ui x) / 2 ^ (ui y % 32) := by
  show (x >>> (y &&& 31)).toBitVec.toNat = _
  have hm : x.toBitVec.msb = true := BitVec.msb_eq_true_iff_two_mul_ge.mpr (by show 2 * ui x ≥ _; omega)
  rw [Int32.toBitVec_shiftRight, BitVec.toNat_sshiftRight'_of_msb_true hm]
  rw [show ((y &&& 31).toBitVec.smod 32).toNat = ui y % 32 from sh5 y, Nat.shiftRight_eq_div_pow]
  rfl
theorem sh6 (y : Int32) : ((y.toInt64 &&& 63).toBitVec.smod 64).toNat = ui y % 64 := by
  have e : (y.toInt64 &&& 63).toBitVec.toNat = ui y % 64 := by
    show ul (y.toInt64 &&& 63) = _
    rw [ul_and]
    have e2 : ul y.toInt64 % 64 = ui y % 64 := by
      show (y.toBitVec.signExtend 64).toNat % 64 = y.toBitVec.toNat % 64
      rw [BitVec.toNat_signExtend]
      have := y.toBitVec.isLt
      split <;> simp <;> omega
    rw [← e2]
    exact nat_and63 _
  rw [smod64 (by omega), e]
theorem ul_shl (x : Int64) (y : Int32) : ul (x <<< (y.toInt64 &&& 63)) = ul x * 2 ^ (ui y % 64) % 18446744073709551616 := by
  show (x <<< (y.toInt64 &&& 63)).toBitVec.toNat = _
  rw [Int64.toBitVec_shiftLeft, BitVec.shiftLeft_eq', BitVec.toNat_shiftLeft]
  rw [show ((y.toInt64 &&& 63).toBitVec.smod 64).toNat = ui y % 64 from sh6 y, Nat.shiftLeft_eq]
  rfl
theorem ul_sext (y : Int32) : ul y.toInt64 = if ui y < 2147483648 then ui y else ui y + 18446744069414584320 := by
  show (y.toBitVec.signExtend 64).toNat = _
  rw [BitVec.toNat_signExtend]
  have h := y.toBitVec.isLt
  have hm : y.toBitVec.msb = decide (2147483648 ≤ y.toBitVec.toNat) := by
    cases q : y.toBitVec.msb with
    | false => have := BitVec.msb_eq_false_iff_two_mul_lt.mp q; symm; rw [decide_eq_false_iff_not]; omega
    | true => have := BitVec.msb_eq_true_iff_two_mul_ge.mp q; symm; rw [decide_eq_true_iff]; omega
  rw [hm]
  show _ = if y.toBitVec.toNat < 2147483648 then y.toBitVec.toNat else y.toBitVec.toNat + 18446744069414584320
  by_cases q : 2147483648 ≤ y.toBitVec.toNat
  · rw [decide_eq_true q, if_pos rfl, if_neg (show ¬ y.toBitVec.toNat < 2147483648 by omega), BitVec.toNat_setWidth]
    omega
  · rw [decide_eq_false q, if_neg (by decide), if_pos (show y.toBitVec.toNat < 2147483648 by omega), BitVec.toNat_setWidth]
    omega
theorem ul_ushr (x : Int64) (y : Int32) : ul (x.toUInt64 >>> (y.toInt64.toUInt64 &&& Int64.toUInt64 63)).toInt64 = ul x / 2 ^ (ui y % 64) := by
  show (x.toUInt64 >>> (y.toInt64.toUInt64 &&& Int64.toUInt64 63)).toBitVec.toNat = _
  rw [UInt64.toBitVec_shiftRight, BitVec.ushiftRight_eq', BitVec.toNat_ushiftRight, Nat.shiftRight_eq_div_pow]
  have e : ((y.toInt64.toUInt64 &&& Int64.toUInt64 63).toBitVec % 64).toNat = ui y % 64 := by
    show (ul y.toInt64 &&& 63) % 64 = _
    rw [nat_and63, Nat.mod_mod, ul_sext]
    split <;> omega
  rw [show ((y.toInt64.toUInt64 &&& Int64.toUInt64 63).toBitVec % 64).toNat = ui y % 64 from e]
  rfl
theorem ul_sar0 (x : Int64) (y : Int32) (h : ul x < 9223372036854775808) : ul (x >>> (y.toInt64 &&& 63)) = ul x / 2 ^ (ui y % 64) := by
  show (x >>> (y.toInt64 &&& 63)).toBitVec.toNat = _
  have hm : x.toBitVec.msb = false := BitVec.msb_eq_false_iff_two_mul_lt.mpr (by show 2 * ul x < _; omega)
  rw [Int64.toBitVec_shiftRight, BitVec.toNat_sshiftRight'_of_msb_false hm]
  rw [show ((y.toInt64 &&& 63).toBitVec.smod 64).toNat = ui y % 64 from sh6 y, Nat.shiftRight_eq_div_pow]
  rfl
theorem ul_sar1 (x : Int64) (y : Int32) (h : 9223372036854775808 ≤ ul x) : ul (x >>> (y.toInt64 &&& 63)) = 18446744073709551616 - 1 - (18446744073709551616 - 1 - ul x) / 2 ^ (ui y % 64) := by
  show (x >>> (y.toInt64 &&& 63)).toBitVec.toNat = _
  have hm : x.toBitVec.msb = true := BitVec.msb_eq_true_iff_two_mul_ge.mpr (by show 2 * ul x ≥ _; omega)
  rw [Int64.toBitVec_shiftRight, BitVec.toNat_sshiftRight'_of_msb_true hm]
  rw [show ((y.toInt64 &&& 63).toBitVec.smod 64).toNat = ui y % 64 from sh6 y, Nat.shiftRight_eq_div_pow]
  rfl
theorem ui_low (x : Int64) : ui x.toInt32 = ul x % 4294967296 := by
  show (x.toBitVec.signExtend 32).toNat = _
  rw [BitVec.signExtend_eq_setWidth_of_le _ (by decide), BitVec.toNat_setWidth]
  rfl
theorem ti (x : Int32) : x.toInt = if ui x < 2147483648 then (ui x : Int) else (ui x : Int) - 4294967296 := by
  show x.toBitVec.toInt = _
  rw [BitVec.toInt_eq_toNat_cond]
  show (if 2 * ui x < 2 ^ 32 then (ui x : Int) else (ui x : Int) - 2 ^ 32) = _
  split <;> split <;> omega
theorem tl (x : Int64) : x.toInt = if ul x < 9223372036854775808 then (ul x : Int) else (ul x : Int) - 18446744073709551616 := by
  show x.toBitVec.toInt = _
  rw [BitVec.toInt_eq_toNat_cond]
  show (if 2 * ul x < 2 ^ 64 then (ul x : Int) else (ul x : Int) - 2 ^ 64) = _
  split <;> split <;> omega
theorem clamp (x : Int32) : x.toNatClampNeg = if ui x < 2147483648 then ui x else 0 := by
  show x.toInt.toNat = _
  rw [ti]
  have := ui_lt x
  split <;> omega
theorem lt_ti (x y : Int32) : x < y ↔ x.toInt < y.toInt := Int32.lt_iff_toInt_lt
theorem le_ti (x y : Int32) : x ≤ y ↔ x.toInt ≤ y.toInt := Int32.le_iff_toInt_le
theorem eq_ui (x y : Int32) : x = y ↔ ui x = ui y := ⟨fun h => by rw [h], ui_inj⟩
theorem lt_tl (x y : Int64) : x < y ↔ x.toInt < y.toInt := Int64.lt_iff_toInt_lt
theorem le_tl (x y : Int64) : x ≤ y ↔ x.toInt ≤ y.toInt := Int64.le_iff_toInt_le
theorem eq_ul (x y : Int64) : x = y ↔ ul x = ul y := ⟨fun h => by rw [h], ul_inj⟩
theorem ui_nI (n : Nat) : ui (nI n) = n % 4294967296 := by
  show (Int32.ofNat n).toBitVec.toNat = _
  rw [Int32.toBitVec_ofNat', BitVec.toNat_ofNat]
theorem ul_lN (n : Nat) : ul (lN n) = n % 18446744073709551616 := by
  show (Int64.ofNat n).toBitVec.toNat = _
  rw [Int64.toBitVec_ofNat', BitVec.toNat_ofNat]
theorem nI_ui (x : Int32) : nI (ui x) = x := by
  apply ui_inj
  rw [ui_nI]
  exact Nat.mod_eq_of_lt (ui_lt x)
theorem lN_ul (x : Int64) : lN (ul x) = x := by
  apply ul_inj
  rw [ul_lN]
  exact Nat.mod_eq_of_lt (ul_lt x)
/-- what a loop, or another thing that is written by hand, gives -/
theorem op_of {α : Type} {o : Option α} {d r : α} {P : α → Prop} (h : o = some r) (p : P r) : (∃ r, o = some r ∧ P r) ∧ o.getD d = r := by
  subst h
  exact ⟨⟨r, rfl, p⟩, rfl⟩
