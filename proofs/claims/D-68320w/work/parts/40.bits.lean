/-! bits of longs and ints -/
def lb (x : Int64) (i : Nat) : Bool := (ul x).testBit i
def ib (x : Int32) (i : Nat) : Bool := (ui x).testBit i
theorem lb_ge (x : Int64) {i : Nat} (h : 64 ≤ i) : lb x i = false := Nat.testBit_lt_two_pow (Nat.lt_of_lt_of_le (ul_lt x) (Nat.pow_le_pow_right (n := 2) (by decide) h))
theorem ib_ge (x : Int32) {i : Nat} (h : 32 ≤ i) : ib x i = false := Nat.testBit_lt_two_pow (Nat.lt_of_lt_of_le (ui_lt x) (Nat.pow_le_pow_right (n := 2) (by decide) h))
theorem lb_ext {x y : Int64} (h : ∀ i, i < 64 → lb x i = lb y i) : x = y := by
  apply ul_inj
  apply Nat.eq_of_testBit_eq
  intro i
  by_cases q : i < 64
  · exact h i q
  · have a := lb_ge x (Nat.le_of_not_lt q)
    have b := lb_ge y (Nat.le_of_not_lt q)
    unfold lb at a b
    rw [a, b]
theorem ib_ext {x y : Int32} (h : ∀ i, i < 32 → ib x i = ib y i) : x = y := by
  apply ui_inj
  apply Nat.eq_of_testBit_eq
  intro i
  by_cases q : i < 32
  · exact h i q
  · have a := ib_ge x (Nat.le_of_not_lt q)
    have b := ib_ge y (Nat.le_of_not_lt q)
    unfold ib at a b
    rw [a, b]
theorem lb_and (x y : Int64) (i : Nat) : lb (x &&& y) i = (lb x i && lb y i) := by unfold lb; rw [ul_and, Nat.testBit_and]
theorem lb_or (x y : Int64) (i : Nat) : lb (x ||| y) i = (lb x i || lb y i) := by unfold lb; rw [ul_or, Nat.testBit_or]
theorem lb_xor (x y : Int64) (i : Nat) : lb (x ^^^ y) i = (lb x i ^^ lb y i) := by unfold lb; rw [ul_xor, Nat.testBit_xor]
theorem ib_and (x y : Int32) (i : Nat) : ib (x &&& y) i = (ib x i && ib y i) := by unfold ib; rw [ui_and, Nat.testBit_and]
theorem ib_or (x y : Int32) (i : Nat) : ib (x ||| y) i = (ib x i || ib y i) := by unfold ib; rw [ui_or, Nat.testBit_or]
theorem ib_xor (x y : Int32) (i : Nat) : ib (x ^^^ y) i = (ib x i ^^ ib y i) := by unfold ib; rw [ui_xor, Nat.testBit_xor]
theorem lb_shl (x : Int64) (p : Int32) {k : Nat} (e : ui p % 64 = k) (i : Nat) : lb (x <<< (p.toInt64 &&& 63)) i = (decide (i < 64) && decide (k ≤ i) && lb x (i - k)) := by
  unfold lb
  rw [ul_shl, e, show (18446744073709551616 : Nat) = 2 ^ 64 from rfl, Nat.testBit_mod_two_pow, Nat.testBit_mul_two_pow, Bool.and_assoc]
theorem lb_ushr (x : Int64) (p : Int32) {k : Nat} (e : ui p % 64 = k) (i : Nat) : lb (x.toUInt64 >>> (p.toInt64.toUInt64 &&& Int64.toUInt64 63)).toInt64 i = lb x (i + k) := by
  unfold lb
  rw [ul_ushr, e, Nat.testBit_div_two_pow]
theorem ib_shl (x p : Int32) {k : Nat} (e : ui p % 32 = k) (i : Nat) : ib (x <<< (p &&& 31)) i = (decide (i < 32) && decide (k ≤ i) && ib x (i - k)) := by
  unfold ib
  rw [ui_shl, e, show (4294967296 : Nat) = 2 ^ 32 from rfl, Nat.testBit_mod_two_pow, Nat.testBit_mul_two_pow, Bool.and_assoc]
theorem ib_ushr (x p : Int32) {k : Nat} (e : ui p % 32 = k) (i : Nat) : ib (x.toUInt32 >>> (p.toUInt32 &&& Int32.toUInt32 31)).toInt32 i = ib x (i + k) := by
  unfold ib
  rw [ui_ushr, e, Nat.testBit_div_two_pow]
theorem tb_big {n i k : Nat} (h : n < 2 ^ k) (hi : k ≤ i) : n.testBit i = false := Nat.testBit_lt_two_pow (Nat.lt_of_lt_of_le h (Nat.pow_le_pow_right (by decide) hi))
theorem tb_top {n k : Nat} (h1 : 2 ^ k ≤ n) (h2 : n < 2 ^ (k + 1)) : n.testBit k = true := by
  have e : n / 2 ^ k = 1 := by
    rw [Nat.div_eq_iff (Nat.two_pow_pos k)]
    omega
  rw [Nat.testBit_eq_decide_div_mod_eq, e]
  rfl
theorem lb_neg (x : Int64) : lb x 63 = decide (9223372036854775808 ≤ ul x) := by
  have hx := ul_lt x
  by_cases h : 9223372036854775808 ≤ ul x
  · rw [decide_eq_true h]
    exact tb_top h hx
  · rw [decide_eq_false h]
    exact Nat.testBit_lt_two_pow (by omega)
/-- the complement -/
theorem comp_tb (n i k : Nat) (h : n < 2 ^ k) (hi : i < k) : (2 ^ k - 1 - n).testBit i = !n.testBit i := by
  have := Nat.testBit_two_pow_sub_succ h i
  rw [show 2 ^ k - 1 - n = 2 ^ k - (n + 1) from by omega, this, decide_eq_true hi, Bool.true_and]
theorem lb_sar (x : Int64) (p : Int32) {k : Nat} (e : ui p % 64 = k) (i : Nat) (hi : i < 64) : lb (x >>> (p.toInt64 &&& 63)) i = lb x (if i + k < 64 then i + k else 63) := by
  have hx := ul_lt x
  have hk : k < 64 := by omega
  by_cases h : ul x < 9223372036854775808
  · unfold lb
    rw [ul_sar0 _ _ h, e, Nat.testBit_div_two_pow]
    split
    · rfl
    · rename_i q
      have a := lb_ge x (i := i + k) (by omega)
      have b := lb_neg x
      rw [decide_eq_false (by omega)] at b
      unfold lb at a b
      rw [a, b]
  · unfold lb
    rw [ul_sar1 _ _ (by omega), e]
    rw [show (18446744073709551616 : Nat) = 2 ^ 64 from rfl]
    rw [comp_tb _ _ 64 (Nat.lt_of_le_of_lt (Nat.div_le_self _ _) (by omega)) hi, Nat.testBit_div_two_pow]
    split
    · rename_i q
      rw [comp_tb _ _ 64 hx q, Bool.not_not]
    · rename_i q
      have b := lb_neg x
      rw [decide_eq_true (by omega)] at b
      unfold lb at b
      rw [b, tb_big (n := 2 ^ 64 - 1 - ul x) (k := 64) (by omega) (by omega)]
      rfl
theorem ib_neg (x : Int32) : ib x 31 = decide (2147483648 ≤ ui x) := by
  have hx := ui_lt x
  by_cases h : 2147483648 ≤ ui x
  · rw [decide_eq_true h]
    exact tb_top h hx
  · rw [decide_eq_false h]
    exact Nat.testBit_lt_two_pow (by omega)
theorem ib_sar (x p : Int32) {k : Nat} (e : ui p % 32 = k) (i : Nat) (hi : i < 32) : ib (x >>> (p &&& 31)) i = ib x (if i + k < 32 then i + k else 31) := by
  have hx := ui_lt x
  have hk : k < 32 := by omega
  by_cases h : ui x < 2147483648
  · unfold ib
    rw [ui_sar0 _ _ h, e, Nat.testBit_div_two_pow]
    split
    · rfl
    · rename_i q
      have a := ib_ge x (i := i + k) (by omega)
      have b := ib_neg x
      rw [decide_eq_false (by omega)] at b
      unfold ib at a b
      rw [a, b]
  · unfold ib
    rw [ui_sar1 _ _ (by omega), e]
    rw [show (4294967296 : Nat) = 2 ^ 32 from rfl]
    rw [comp_tb _ _ 32 (Nat.lt_of_le_of_lt (Nat.div_le_self _ _) (by omega)) hi, Nat.testBit_div_two_pow]
    split
    · rename_i q
      rw [comp_tb _ _ 32 hx q, Bool.not_not]
    · rename_i q
      have b := ib_neg x
      rw [decide_eq_true (by omega)] at b
      unfold ib at b
      rw [b, tb_big (n := 2 ^ 32 - 1 - ui x) (k := 32) (by omega) (by omega)]
      rfl
theorem ib_low (x : Int64) (i : Nat) : ib x.toInt32 i = (decide (i < 32) && lb x i) := by
  unfold ib lb
  rw [ui_low, show (4294967296 : Nat) = 2 ^ 32 from rfl, Nat.testBit_mod_two_pow]
theorem lb_sext (x : Int32) (i : Nat) (hi : i < 64) : lb x.toInt64 i = ib x (if i < 32 then i else 31) := by
  have hx := ui_lt x
  unfold lb
  rw [ul_sext]
  by_cases h : ui x < 2147483648
  · rw [if_pos h]
    split
    · rfl
    · rename_i q
      have b := ib_neg x
      rw [decide_eq_false (by omega)] at b
      rw [b]
      exact tb_big (k := 32) hx (by omega)
  · rw [if_neg h, show ui x + 18446744069414584320 = 2 ^ 32 * 4294967295 + ui x from by omega, Nat.testBit_two_pow_mul_add _ (show ui x < 2 ^ 32 from hx)]
    split
    · rfl
    · rename_i q
      have b := ib_neg x
      rw [decide_eq_true (by omega)] at b
      rw [b, show (4294967295 : Nat) = 2 ^ 32 - 1 from rfl, Nat.testBit_two_pow_sub_one]
      exact decide_eq_true (by omega)
theorem lb_m1 (i : Nat) (hi : i < 64) : lb (Int64.ofInt (-1)) i = true := by
  unfold lb
  rw [show ul (Int64.ofInt (-1)) = 2 ^ 64 - 1 from rfl, Nat.testBit_two_pow_sub_one]
  exact decide_eq_true hi
theorem lb_0 (i : Nat) : lb (Int64.ofInt 0) i = false := Nat.zero_testBit i
theorem lb_mask (x : Int64) {k : Nat} (h : ul x = 2 ^ k - 1) (i : Nat) : lb x i = decide (i < k) := by
  unfold lb
  rw [h, Nat.testBit_two_pow_sub_one]
theorem ib_mask (x : Int32) {k : Nat} (h : ui x = 2 ^ k - 1) (i : Nat) : ib x i = decide (i < k) := by
  unfold ib
  rw [h, Nat.testBit_two_pow_sub_one]
theorem lb_eq {x y : Int64} {i : Nat} (h : ul x = ul y) : lb x i = lb y i := by unfold lb; rw [h]
