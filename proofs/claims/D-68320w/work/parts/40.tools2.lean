/-! tools: bits, offsets -/
theorem ib_bz {c : Prop} [Decidable c] (i : Nat) : ib (bz c) i = (decide (i = 0) && decide c) := by
  by_cases h : c
  · rw [bz_t h, ib_mask (Int32.ofInt 1) (k := 1) rfl, decide_eq_true h, Bool.and_true]
    exact decide_eq_decide.mpr (by omega)
  · rw [bz_f h, decide_eq_false h, Bool.and_false]
    exact Nat.zero_testBit i
theorem bit_1 {x : Int32} {s : Nat} (hs : s < 32) : (x >>> (nI s &&& 31)) &&& Int32.ofInt 1 = bz (ib x s = true) := by
  apply ib_ext
  intro i hi
  rw [ib_and, ib_sar x (nI s) (k := s) (by rw [ui_nI]; omega) i hi, ib_mask (k := 1) (Int32.ofInt 1) rfl, ib_bz]
  by_cases h : i = 0
  · subst h
    rw [Nat.zero_add, if_pos hs]
    simp
  · rw [decide_eq_false (show ¬ i < 1 by omega), decide_eq_false h]
    simp
theorem and_bit (x : Int32) (k : Nat) (v : Int32) (hk : k < 32) (hv : ui v = 2 ^ k) : x &&& v = fi (ib x k = true) v (Int32.ofInt 0) := by
  have iv : ∀ i, ib v i = decide (k = i) := fun i => by
    unfold ib
    rw [hv, Nat.testBit_two_pow]
  apply ib_ext
  intro i hi
  rw [ib_and, iv]
  by_cases h : ib x k = true
  · rw [fi_pos h, iv]
    by_cases e : k = i
    · rw [← e, h]
      simp
    · rw [decide_eq_false e]
      simp
  · rw [fi_neg h]
    have z : ib (Int32.ofInt 0) i = false := Nat.zero_testBit i
    rw [z]
    by_cases e : k = i
    · rw [← e]
      simp only [Bool.not_eq_true] at h
      rw [h]
      simp
    · rw [decide_eq_false e]
      simp
/-! offsets: numbers from 0 on, below 2^31 -/
section Off
variable {n k : Nat}
theorem ul_o (h : n < 2147483648) : ul (lN n) = n := by rw [ul_lN]; exact Nat.mod_eq_of_lt (by omega)
theorem tl_o (h : n < 2147483648) : (lN n).toInt = n := by rw [tl, ul_o h, if_pos (by omega)]
theorem lN_of (k : Nat) (h : k < 2147483648) : Int64.ofInt (k : Int) = lN k := by
  apply ul_inj
  rw [ul_o h]
  show (BitVec.ofInt 64 (k : Int)).toNat = k
  rw [BitVec.toNat_ofInt]
  omega
theorem o_lt (h : n < 2147483648) (hk : k < 2147483648) : lg_cmp (lN n) (lN k) < 0 ↔ n < k := by rw [cl_lt, tl_o h, tl_o hk]; omega
theorem o_ge (h : n < 2147483648) (hk : k < 2147483648) : 0 ≤ lg_cmp (lN n) (lN k) ↔ k ≤ n := by rw [cl_ge, tl_o h, tl_o hk]; omega
theorem o_gt (h : n < 2147483648) (hk : k < 2147483648) : 0 < lg_cmp (lN n) (lN k) ↔ k < n := by rw [cl_gt, tl_o h, tl_o hk]; omega
theorem o_le (h : n < 2147483648) (hk : k < 2147483648) : lg_cmp (lN n) (lN k) ≤ 0 ↔ n ≤ k := by rw [cl_le, tl_o h, tl_o hk]; omega
theorem o_eq (h : n < 2147483648) (hk : k < 2147483648) : lg_cmp (lN n) (lN k) = 0 ↔ n = k := by rw [cl_eq, ul_o h, ul_o hk]
theorem o_and (h : n < 2147483648) (j : Nat) (hj : 2 ^ j ≤ 2147483648) : lN n &&& lN (2 ^ j - 1) = lN (n % 2 ^ j) := by
  have p : 0 < 2 ^ j := Nat.pos_of_ne_zero (by intro e; have := Nat.two_pow_pos j; omega)
  have m : n % 2 ^ j < 2 ^ j := Nat.mod_lt _ p
  apply ul_inj
  rw [ul_and, ul_o h, ul_o (by omega), ul_o (by omega), Nat.and_two_pow_sub_one_eq_mod]
theorem o_div (h : n < 2147483648) (hk : k < 2147483648) : lN n / lN k = lN (n / k) := by
  have d : n / k ≤ n := Nat.div_le_self _ _
  apply ul_inj
  rw [l_div (by rw [ul_o h]; omega) (by rw [ul_o hk]; omega), ul_o h, ul_o hk, ul_o (by omega)]
theorem o_mul (h : n < 32768) (hk : k < 32768) : lN n * lN k = lN (n * k) := by
  have hp : n * k < 32768 * 32768 := Nat.mul_lt_mul_of_lt_of_le (by omega) (by omega) (by omega)
  apply ul_inj
  rw [ul_mul, ul_o (by omega), ul_o (by omega), ul_o (by omega)]
  exact Nat.mod_eq_of_lt (by omega)
theorem o_add (h : n < 1073741824) (hk : k < 1073741824) : lN n + lN k = lN (n + k) := by
  apply ul_inj
  rw [ul_add, ul_o (by omega), ul_o (by omega), ul_o (by omega)]
  exact Nat.mod_eq_of_lt (by omega)
theorem o_sub (h : n < 2147483648) (hk : k ≤ n) : lN n - lN k = lN (n - k) := by
  apply ul_inj
  rw [ul_sub, ul_o h, ul_o (by omega), ul_o (by omega)]
  omega
theorem o_rest (h : n < 2147483648) (hk : k < 2147483648) : lN n - lN n / lN k * lN k = lN (n % k) := by
  have d : n / k * k ≤ n := Nat.div_mul_le_self n k
  have m : n % k ≤ n := Nat.mod_le n k
  have e : n / k * k + n % k = n := by rw [Nat.mul_comm]; exact Nat.div_add_mod n k
  apply ul_inj
  rw [o_div h hk, ul_sub, ul_mul, ul_o h, ul_o (by have := Nat.div_le_self n k; omega), ul_o hk, ul_o (by omega)]
  rw [Nat.mod_eq_of_lt (show n / k * k < 18446744073709551616 by omega)]
  omega
theorem o_sar (h : n < 2147483648) {y : Int32} (hy : ui y < 64) : lN n >>> (y.toInt64 &&& 63) = lN (n / 2 ^ ui y) := by
  have d : n / 2 ^ ui y ≤ n := Nat.div_le_self _ _
  apply ul_inj
  rw [ul_sar0 _ _ (by rw [ul_o h]; omega), ul_o h, Nat.mod_eq_of_lt hy, ul_o (by omega)]
theorem o_32 (h : n < 2147483648) : (lN n).toInt32 = nI n := by
  apply ui_inj
  rw [ui_low, ul_o h, ui_nI]
theorem o_64 (h : n < 2147483648) : (nI n).toInt64 = lN n := by
  apply ul_inj
  rw [ul_sext, ui_nI, ul_o h, Nat.mod_eq_of_lt (by omega), if_pos h]
theorem o_cl (h : n < 2147483648) : (nI n).toNatClampNeg = n := by
  rw [clamp, ui_nI, Nat.mod_eq_of_lt (by omega), if_pos h]
end Off
section Bc
variable {n k : Nat}
theorem tl_b (h : n < 2 ^ 63) : (lN n).toInt = n := by
  have : (2 : Nat) ^ 63 = 9223372036854775808 := by decide
  rw [tl, l_big (by omega), if_pos (by omega)]
theorem b_lt (h : n < 2 ^ 63) (hk : k < 2 ^ 63) : lg_cmp (lN n) (lN k) < 0 ↔ n < k := by rw [cl_lt, tl_b h, tl_b hk]; omega
theorem b_ge (h : n < 2 ^ 63) (hk : k < 2 ^ 63) : 0 ≤ lg_cmp (lN n) (lN k) ↔ k ≤ n := by rw [cl_ge, tl_b h, tl_b hk]; omega
theorem b_gt (h : n < 2 ^ 63) (hk : k < 2 ^ 63) : 0 < lg_cmp (lN n) (lN k) ↔ k < n := by rw [cl_gt, tl_b h, tl_b hk]; omega
theorem b_le (h : n < 2 ^ 63) (hk : k < 2 ^ 63) : lg_cmp (lN n) (lN k) ≤ 0 ↔ n ≤ k := by rw [cl_le, tl_b h, tl_b hk]; omega
end Bc
theorem bz_eq {p q : Prop} : bz p = bz q ↔ (p ↔ q) := by
  constructor
  · intro h
    constructor
    · intro a
      rw [bz_t a] at h
      exact Classical.byContradiction fun b => by rw [bz_f b] at h; exact absurd h (by decide)
    · intro a
      rw [bz_t a] at h
      exact Classical.byContradiction fun b => by rw [bz_f b] at h; exact absurd h (by decide)
  · exact fun h => congrArg bz (propext h)
theorem bz_i1 {p : Prop} : bz p = Int32.ofInt 1 ↔ p := by
  rw [bz1, bz_eq]
  exact ⟨fun h => h.mpr trivial, fun h => ⟨fun _ => trivial, fun _ => h⟩⟩
theorem sh_8 (v : Int64) {c : Int32} (hc : ui c < 256) : ((v <<< ((Int32.ofInt 8).toInt64 &&& 63)) ||| c.toInt64) = Int64.ofInt 256 * v + c.toInt64 := by
  apply ul_inj
  have e : ul c.toInt64 = ui c := by rw [ul_sext, if_pos (by omega)]
  rw [ul_or, ul_shl, ul_add, ul_mul, e, show ui (Int32.ofInt 8) % 64 = 8 from rfl, show ul (Int64.ofInt 256) = 256 from rfl]
  have e2 : ul v * 2 ^ 8 % 18446744073709551616 = (ul v % 72057594037927936) <<< 8 := by
    rw [Nat.shiftLeft_eq]
    omega
  rw [e2, ← Nat.shiftLeft_add_eq_or_of_lt (by omega), Nat.shiftLeft_eq]
  omega
