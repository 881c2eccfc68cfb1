/-! shifting up and down again -/
theorem sx56 (v : Int64) (p : Int32) (h : ui p = 56) : ul ((v <<< (p.toInt64 &&& 63)) >>> (p.toInt64 &&& 63)) = if ul v % 256 < 128 then ul v % 256 else ul v % 256 + 18446744073709551360 := by
  have e := ul_shl v p
  have hv := ul_lt v
  rw [h, show (2 : Nat) ^ (56 % 64) = 72057594037927936 from rfl] at e
  by_cases a : ul (v <<< (p.toInt64 &&& 63)) < 9223372036854775808
  · rw [ul_sar0 _ _ a, h, show (2 : Nat) ^ (56 % 64) = 72057594037927936 from rfl, e]
    rw [e] at a
    rw [if_pos (by omega)]
    omega
  · rw [ul_sar1 _ _ (by omega), h, show (2 : Nat) ^ (56 % 64) = 72057594037927936 from rfl, e]
    rw [e] at a
    rw [if_neg (by omega)]
    omega
theorem sx48 (v : Int64) (p : Int32) (h : ui p = 48) : ul ((v <<< (p.toInt64 &&& 63)) >>> (p.toInt64 &&& 63)) = if ul v % 65536 < 32768 then ul v % 65536 else ul v % 65536 + 18446744073709486080 := by
  have e := ul_shl v p
  have hv := ul_lt v
  rw [h, show (2 : Nat) ^ (48 % 64) = 281474976710656 from rfl] at e
  by_cases a : ul (v <<< (p.toInt64 &&& 63)) < 9223372036854775808
  · rw [ul_sar0 _ _ a, h, show (2 : Nat) ^ (48 % 64) = 281474976710656 from rfl, e]
    rw [e] at a
    rw [if_pos (by omega)]
    omega
  · rw [ul_sar1 _ _ (by omega), h, show (2 : Nat) ^ (48 % 64) = 281474976710656 from rfl, e]
    rw [e] at a
    rw [if_neg (by omega)]
    omega
theorem sx32 (v : Int64) (p : Int32) (h : ui p = 32) : ul ((v <<< (p.toInt64 &&& 63)) >>> (p.toInt64 &&& 63)) = if ul v % 4294967296 < 2147483648 then ul v % 4294967296 else ul v % 4294967296 + 18446744069414584320 := by
  have e := ul_shl v p
  have hv := ul_lt v
  rw [h, show (2 : Nat) ^ (32 % 64) = 4294967296 from rfl] at e
  by_cases a : ul (v <<< (p.toInt64 &&& 63)) < 9223372036854775808
  · rw [ul_sar0 _ _ a, h, show (2 : Nat) ^ (32 % 64) = 4294967296 from rfl, e]
    rw [e] at a
    rw [if_pos (by omega)]
    omega
  · rw [ul_sar1 _ _ (by omega), h, show (2 : Nat) ^ (32 % 64) = 4294967296 from rfl, e]
    rw [e] at a
    rw [if_neg (by omega)]
    omega
theorem sx0 (v : Int64) (p : Int32) (h : ui p = 0) : (v <<< (p.toInt64 &&& 63)) >>> (p.toInt64 &&& 63) = v := by
  apply ul_inj
  have e := ul_shl v p
  have hv := ul_lt v
  rw [h, show (2 : Nat) ^ (0 % 64) = 1 from rfl] at e
  by_cases a : ul (v <<< (p.toInt64 &&& 63)) < 9223372036854775808
  · rw [ul_sar0 _ _ a, h, show (2 : Nat) ^ (0 % 64) = 1 from rfl, e]
    omega
  · rw [ul_sar1 _ _ (by omega), h, show (2 : Nat) ^ (0 % 64) = 1 from rfl, e]
    omega
/-- with zeros -/
theorem zx (v : Int64) (p : Int32) : ul ((v <<< (p.toInt64 &&& 63)).toUInt64 >>> (p.toInt64.toUInt64 &&& Int64.toUInt64 63)).toInt64 = ul v * 2 ^ (ui p % 64) % 18446744073709551616 / 2 ^ (ui p % 64) := by
  rw [ul_ushr, ul_shl]
