/-! sums of the component and what the twin reckons -/
def oS (s : Nat) : Int32 := nI (s - 15)
def n8 (f : Int32) : Prop := f = Int32.ofInt 0 ∨ f = Int32.ofInt 1 ∨ f = Int32.ofInt 2 ∨ f = Int32.ofInt 3 ∨ f = Int32.ofInt 4 ∨ f = Int32.ofInt 5 ∨ f = Int32.ofInt 6 ∨ f = Int32.ofInt 7
theorem n8_f (w : Int32) : n8 (nI (fd w 14 12)) := by
  have h : fd w 14 12 < 8 := fd_lt w (hi := 14) (lo := 12) (by decide)
  generalize fd w 14 12 = n at h
  have : n = 0 ∨ n = 1 ∨ n = 2 ∨ n = 3 ∨ n = 4 ∨ n = 5 ∨ n = 6 ∨ n = 7 := by omega
  rcases this with rfl | rfl | rfl | rfl | rfl | rfl | rfl | rfl
  · exact Or.inl rfl
  · exact Or.inr (Or.inl rfl)
  · exact Or.inr (Or.inr (Or.inl rfl))
  · exact Or.inr (Or.inr (Or.inr (Or.inl rfl)))
  · exact Or.inr (Or.inr (Or.inr (Or.inr (Or.inl rfl))))
  · exact Or.inr (Or.inr (Or.inr (Or.inr (Or.inr (Or.inl rfl)))))
  · exact Or.inr (Or.inr (Or.inr (Or.inr (Or.inr (Or.inr (Or.inl rfl))))))
  · exact Or.inr (Or.inr (Or.inr (Or.inr (Or.inr (Or.inr (Or.inr rfl))))))
theorem rk_pl {f : Int32} (h : n8 f) (x y : Int64) : ¬ pl f = 0 ∧ rk (oS (pl f)) x y = al f x y y.toInt32 := by
  rcases h with rfl | rfl | rfl | rfl | rfl | rfl | rfl | rfl <;>
    simp (decide := true) only [pl, rk, al, oS, fi_if, if_true, if_false]
theorem rk_pd {f : Int32} (h : n8 f) (x y : Int64) : ¬ pd f = 0 ∧ rk (oS (pd f)) x y = pr f x y := by
  rcases h with rfl | rfl | rfl | rfl | rfl | rfl | rfl | rfl <;>
    simp (decide := true) only [pd, rk, pr, oS, fi_if, if_true, if_false]
theorem i32_64 (y : Int32) : y.toInt64.toInt32 = y := Int32.toInt32_toInt64 y
section
variable {x y : Int64} {p q : Int32}
theorem lshl_c (h : ui p % 64 = ui q % 64) : x <<< (p.toInt64 &&& 63) = x <<< (q.toInt64 &&& 63) := ul_inj (by rw [ul_shl, ul_shl, h])
theorem lushr_c (h : ui p % 64 = ui q % 64) : (x.toUInt64 >>> (p.toInt64.toUInt64 &&& Int64.toUInt64 63)).toInt64 = (x.toUInt64 >>> (q.toInt64.toUInt64 &&& Int64.toUInt64 63)).toInt64 := ul_inj (by rw [ul_ushr, ul_ushr, h])
theorem lsar_c (h : ui p % 64 = ui q % 64) : x >>> (p.toInt64 &&& 63) = x >>> (q.toInt64 &&& 63) := by
  apply ul_inj
  by_cases a : ul x < 9223372036854775808
  · rw [ul_sar0 _ _ a, ul_sar0 _ _ a, h]
  · rw [ul_sar1 _ _ (by omega), ul_sar1 _ _ (by omega), h]
theorem al_p {f : Int32} (h : ui p % 64 = ui q % 64) : al f x y p = al f x y q := by
  unfold al
  rw [lshl_c h, lushr_c h]
end
theorem sh63 (y : Int64) : ui (y &&& Int64.ofInt 63).toInt32 % 64 = ui y.toInt32 % 64 := by
  rw [ui_low, ui_low, ul_and, show ul (Int64.ofInt 63) = 63 from rfl, show ul y &&& 63 = ul y % 64 from Nat.and_two_pow_sub_one_eq_mod (ul y) 6]
  omega
theorem sh31 (y : Int64) : ui (y &&& Int64.ofInt 31).toInt32 % 32 = ui y.toInt32 % 32 := by
  rw [ui_low, ui_low, ul_and, show ul (Int64.ofInt 31) = 31 from rfl, show ul y &&& 31 = ul y % 32 from Nat.and_two_pow_sub_one_eq_mod (ul y) 5]
  omega
section
variable {x p q : Int32}
theorem ishl_c (h : ui p % 32 = ui q % 32) : x <<< (p &&& 31) = x <<< (q &&& 31) := ui_inj (by rw [ui_shl, ui_shl, h])
theorem iushr_c (h : ui p % 32 = ui q % 32) : (x.toUInt32 >>> (p.toUInt32 &&& Int32.toUInt32 31)).toInt32 = (x.toUInt32 >>> (q.toUInt32 &&& Int32.toUInt32 31)).toInt32 := ui_inj (by rw [ui_ushr, ui_ushr, h])
theorem isar_c (h : ui p % 32 = ui q % 32) : x >>> (p &&& 31) = x >>> (q &&& 31) := by
  apply ui_inj
  by_cases a : ui x < 2147483648
  · rw [ui_sar0 _ _ a, ui_sar0 _ _ a, h]
  · rw [ui_sar1 _ _ (by omega), ui_sar1 _ _ (by omega), h]
end
/-! the lower halves -/
theorem lo_add (x y : Int64) : (x.toInt32.toInt64 + y.toInt32.toInt64).toInt32 = (x + y).toInt32 := by
  rw [Int64.toInt32_add, i32_64, i32_64, Int64.toInt32_add]
theorem lo_sub (x y : Int64) : (x.toInt32.toInt64 - y.toInt32.toInt64).toInt32 = (x - y).toInt32 := by
  rw [Int64.toInt32_sub, i32_64, i32_64, Int64.toInt32_sub]
theorem lo_mul (x y : Int64) : (x.toInt32.toInt64 * y.toInt32.toInt64).toInt32 = (x * y).toInt32 := by
  rw [Int64.toInt32_mul, i32_64, i32_64, Int64.toInt32_mul]
theorem lo_and (x : Int64) : x.toInt32.toInt64 &&& Int64.ofInt 4294967295 = x &&& Int64.ofInt 4294967295 := by
  apply ul_inj
  have hx := ul_lt x
  rw [ul_and, ul_and, show ul (Int64.ofInt 4294967295) = 4294967295 from rfl, show ∀ n : Nat, n &&& 4294967295 = n % 4294967296 from fun n => Nat.and_two_pow_sub_one_eq_mod n 32, show ul x &&& 4294967295 = ul x % 4294967296 from Nat.and_two_pow_sub_one_eq_mod (ul x) 32, ul_sext, ui_low]
  split <;> omega
theorem lo_shl (x : Int64) (p : Int32) (h : ui p < 32) : x.toInt32 <<< (p &&& 31) = (x <<< (p.toInt64 &&& 63)).toInt32 := by
  apply ui_inj
  rw [ui_shl, ui_low, ui_low, ul_shl, Nat.mod_eq_of_lt h, Nat.mod_eq_of_lt (show ui p < 64 by omega)]
  rw [show (18446744073709551616 : Nat) = 4294967296 * 4294967296 from rfl, Nat.mod_mul_right_mod, Nat.mod_mul_mod]
