/-! the timer: the twin's -/
set_option maxRecDepth 100000
noncomputable def wT (p : Nat) : Option Nat → Int32
  | none => Int32.ofInt (-1)
  | some k => if k = 4 then nI p else nI k
/-- the twin's five numbers -/
noncomputable def tNm (m : Nat) (M : FM) (k : Nat) : Int64 := if k = 4 then M.2.1 398 m 0 else M.2.1 3 (M.2.2 397 m 0) k
noncomputable def tSe (m k : Nat) (v : Int64) (M : FM) : FM := if k = 4 then fm_sL M 398 m 0 v else fm_sL M 3 (M.2.2 397 m 0) k v
theorem and_lo (x : Int64) : ul (x &&& Int64.ofInt 4294967295) = ul x % 4294967296 := by
  rw [ul_and, show ul (Int64.ofInt 4294967295) = 2 ^ 32 - 1 from rfl, Nat.and_two_pow_sub_one_eq_mod]
theorem and_hi (x : Int64) : ul (x &&& Int64.ofInt (-4294967296)) = ul x / 4294967296 * 4294967296 := by
  have h := ul_lt x
  rw [ul_and, show ul (Int64.ofInt (-4294967296)) = 2 ^ 64 - 2 ^ 32 from rfl]
  have e : ul x = 2 ^ 32 * (ul x / 2 ^ 32) + ul x % 2 ^ 32 := (Nat.div_add_mod _ _).symm
  apply Nat.eq_of_testBit_eq
  intro i
  rw [Nat.testBit_and, show (4294967296 : Nat) = 2 ^ 32 from rfl, Nat.testBit_mul_two_pow, Nat.testBit_div_two_pow, show 2 ^ 64 - 2 ^ 32 = (2 ^ 32 - 1) * 2 ^ 32 from rfl, Nat.testBit_mul_two_pow, Nat.testBit_two_pow_sub_one]
  by_cases h1 : 32 ≤ i
  · rw [show i - 32 + 32 = i by omega]
    by_cases h2 : i < 64
    · rw [decide_eq_true h1, decide_eq_true (show i - 32 < 32 by omega)]
      simp
    · have : (ul x).testBit i = false := Nat.testBit_lt_two_pow (Nat.lt_of_lt_of_le (show ul x < 2 ^ 64 from h) (Nat.pow_le_pow_right (show 0 < 2 by decide) (show 64 ≤ i by omega)))
      rw [this]
      simp
  · rw [decide_eq_false h1]
    simp
theorem ushr32 (x : Int64) : ul ((x.toUInt64 >>> ((Int32.ofInt 32).toInt64.toUInt64 &&& Int64.toUInt64 63)).toInt64) = ul x / 4294967296 := by
  rw [ul_ushr, show ui (Int32.ofInt 32) % 64 = 32 from rfl]
theorem sar32 (x : Int64) : (x >>> ((Int32.ofInt 32).toInt64 &&& 63)) &&& Int64.ofInt 4294967295 = (x.toUInt64 >>> ((Int32.ofInt 32).toInt64.toUInt64 &&& Int64.toUInt64 63)).toInt64 := by
  have h := ul_lt x
  apply ul_inj
  rw [and_lo, ushr32]
  by_cases q : ul x < 9223372036854775808
  · rw [ul_sar0 _ _ q, show ui (Int32.ofInt 32) % 64 = 32 from rfl]
    omega
  · rw [ul_sar1 _ _ (by omega), show ui (Int32.ofInt 32) % 64 = 32 from rfl]
    omega
theorem sar00 (x : Int64) : x >>> ((Int32.ofInt 0).toInt64 &&& 63) = x := by
  have h := ul_lt x
  apply ul_inj
  by_cases q : ul x < 9223372036854775808
  · rw [ul_sar0 _ _ q, show ui (Int32.ofInt 0) % 64 = 0 from rfl]
    omega
  · rw [ul_sar1 _ _ (by omega), show ui (Int32.ofInt 0) % 64 = 0 from rfl]
    omega
/-- two disjoint numbers: or is plus -/
theorem or_hl {x y : Int64} (hx : ul x % 4294967296 = 0) (hy : ul y < 4294967296) : x ||| y = x + y := by
  have h := ul_lt x
  apply ul_inj
  rw [ul_or, ul_add]
  have e : ul x = 2 ^ 32 * (ul x / 2 ^ 32) := by omega
  rw [e, ← Nat.two_pow_add_eq_or_of_lt (show ul y < 2 ^ 32 from hy)]
  omega
theorem h_lo (e v : Int64) : (e - (e &&& Int64.ofInt 4294967295)) + (v &&& Int64.ofInt 4294967295) = (e &&& Int64.ofInt (-4294967296)) ||| (v &&& Int64.ofInt 4294967295) := by
  have h := ul_lt e
  rw [or_hl (by rw [and_hi]; omega) (by rw [and_lo]; omega)]
  congr 1
  apply ul_inj
  rw [ul_sub, and_lo, and_hi]
  omega
theorem h_hi (e v : Int64) : (e &&& Int64.ofInt 4294967295) + (v <<< ((Int32.ofInt 32).toInt64 &&& 63)) = (e &&& Int64.ofInt 4294967295) ||| (v <<< ((Int32.ofInt 32).toInt64 &&& 63)) := by
  have c : (e &&& Int64.ofInt 4294967295) ||| (v <<< ((Int32.ofInt 32).toInt64 &&& 63)) = (v <<< ((Int32.ofInt 32).toInt64 &&& 63)) ||| (e &&& Int64.ofInt 4294967295) := by
    apply ul_inj
    rw [ul_or, ul_or, Nat.or_comm]
  rw [c, or_hl (by rw [ul_shl, show ui (Int32.ofInt 32) % 64 = 32 from rfl]; omega) (by rw [and_lo]; omega)]
  apply ul_inj
  rw [ul_add, ul_add, Nat.add_comm]
section Tm
variable {m p n : Nat} {M : FM} {z : Int32}
theorem X96_eightAt (hp : M.1 395 m 0 = nI p) (h4 : p ≤ 4) (hn : n < 2147483648) : GX96_eightAt m (lN n) M = (wT p (wh p n), M) := by
  have c1 := o_lt hn (show 49144 < 2147483648 by decide)
  have c2 := o_ge hn (show 49152 < 2147483648 by decide)
  have e21 : ¬ (49144 ≤ n ∧ n < 49152) → GX96_eightAt_21 m (lN n) M = (wT p (wh p n), M) := fun h => by
    unfold GX96_eightAt_21 GX96_eightAt_60 GX96_eightAt_61
    rw [hp, o_64 (n := p) (by omega), show Int64.ofInt 16384 = lN 16384 from lN_of 16384 (by decide), show Int64.ofInt 8 = lN 8 from rfl, o_mul (n := 8) (by decide) (by omega), o_add (by decide) (by omega)]
    have b1 := o_lt hn (show 16384 < 2147483648 by decide)
    have b2 := o_ge hn (show 16384 + 8 * p < 2147483648 by omega)
    unfold wh
    rw [if_neg h]
    by_cases q : n < 16384
    · rw [fi_pos (b1.mpr q), if_neg (by omega)]
      rfl
    · rw [fi_neg (by rw [b1]; exact q)]
      by_cases r : n < 16384 + 8 * p
      · rw [fi_neg (by rw [b2]; omega), if_pos (by omega), o_sub hn (by omega), o_div (by omega) (by decide), o_32 (by omega)]
        unfold wT
        dsimp only
        rw [if_neg (by omega)]
      · rw [fi_pos (by rw [b2]; omega), if_neg (by omega)]
        rfl
  unfold GX96_eightAt GX96_eightAt_0
  rw [show Int64.ofInt 49144 = lN 49144 from lN_of 49144 (by decide), show Int64.ofInt 49152 = lN 49152 from lN_of 49152 (by decide)]
  by_cases h1 : n < 49144
  · rw [fi_pos (c1.mpr h1)]
    exact e21 (by omega)
  · rw [fi_neg (by rw [c1]; exact h1)]
    by_cases h2 : 49152 ≤ n
    · rw [fi_pos (c2.mpr h2)]
      exact e21 (by omega)
    · rw [fi_neg (by rw [c2]; exact h2), hp]
      unfold wh
      rw [if_pos (by omega)]
      rfl
theorem X96_eight (T : Ty M) (mm : fm_is M 99 99 m = true) (hp : M.1 395 m 0 = nI p) (h4 : p ≤ 4) {k : Nat} (hk : k = 4 ∨ k < p) : HX96_eight m (wT p (some k)) M ∧ GX96_eight m (wT p (some k)) M = (tNm m M k, M) := by
  unfold HX96_eight HX96_eight_0 GX96_eight GX96_eight_0 GX96_eight_21 wT tNm
  dsimp only
  rw [hp]
  by_cases h : k = 4
  · rw [if_pos h, if_pos h, fi_pos rfl]
    exact ⟨⟨fun _ => trivial, fun y => absurd rfl y⟩, rfl⟩
  · have ne : ¬ nI k = nI p := fun e => by have := nI_j (by omega) (by omega) e; omega
    rw [if_neg h, if_neg h, fi_neg ne, o_cl (by omega)]
    exact ⟨⟨fun y => absurd y ne, fun _ => ⟨in_nI (tL_397 T.1 mm) (by omega) (by decide), trivial⟩⟩, rfl⟩
theorem X96_setEight (T : Ty M) (mm : fm_is M 99 99 m = true) (hp : M.1 395 m 0 = nI p) (h4 : p ≤ 4) {k : Nat} (hk : k = 4 ∨ k < p) (v : Int64) : HX96_setEight m (wT p (some k)) v M ∧ GX96_setEight m (wT p (some k)) v M = tSe m k v M := by
  unfold HX96_setEight HX96_setEight_0 GX96_setEight GX96_setEight_0 GX96_setEight_23 wT tSe
  dsimp only
  rw [hp]
  by_cases h : k = 4
  · rw [if_pos h, if_pos h, fi_pos rfl]
    exact ⟨⟨fun _ => trivial, fun y => absurd rfl y⟩, rfl⟩
  · have ne : ¬ nI k = nI p := fun e => by have := nI_j (by omega) (by omega) e; omega
    rw [if_neg h, if_neg h, fi_neg ne, o_cl (by omega)]
    exact ⟨⟨fun y => absurd y ne, fun _ => ⟨in_nI (tL_397 T.1 mm) (by omega) (by decide), trivial⟩⟩, rfl⟩
theorem o_4p' (hn : n < 2147483648) (h4 : p ≤ 4) : 0 ≤ lg_cmp (lN n) (Int64.ofInt 4 * (nI p).toInt64) ↔ 4 * p ≤ n := o_4p hn h4
theorem o_r (hn : n < 2147483648) (k : Nat) (hk : k < 2147483648) : lg_cmp (lN n - lN n / lN k * lN k) (Int64.ofInt 0) = 0 ↔ n % k = 0 := by
  rw [o_rest hn hk, show Int64.ofInt 0 = lN 0 from rfl]
  exact o_eq (by have := Nat.mod_le n k; omega) (by decide)
end Tm
