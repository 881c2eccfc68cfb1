/-! floats: the component's numbers of 128 bits -/
set_option maxRecDepth 100000
/-- the number in two longs -/
def wv (M : FM) (w : Nat) : Nat := ul (M.2.1 119 w 0) * 18446744073709551616 + ul (M.2.1 120 w 0)
def wSF (w V : Nat) (M : FM) : FM := fm_sL (fm_sL M 119 w 0 (lN (V / 18446744073709551616))) 120 w 0 (lN (V % 18446744073709551616))
def w128 : Nat := 340282366920938463463374607431768211456
theorem w128_e : w128 = 340282366920938463463374607431768211456 := rfl
theorem w128_p : w128 = 2 ^ 128 := by decide
section Wd
variable {M : FM} {w x V W n : Nat}
theorem wv_lt : wv M w < w128 := by
  have := ul_lt (M.2.1 119 w 0)
  have := ul_lt (M.2.1 120 w 0)
  unfold wv w128
  omega
theorem wv_hi : wv M w / 18446744073709551616 = ul (M.2.1 119 w 0) := by
  have := ul_lt (M.2.1 120 w 0)
  unfold wv
  omega
theorem wv_lo : wv M w % 18446744073709551616 = ul (M.2.1 120 w 0) := by
  have := ul_lt (M.2.1 120 w 0)
  unfold wv
  omega
theorem wv_h : M.2.1 119 w 0 = lN (wv M w / 18446744073709551616) := by rw [wv_hi, lN_ul]
theorem wv_l : M.2.1 120 w 0 = lN (wv M w % 18446744073709551616) := by rw [wv_lo, lN_ul]
theorem sL_id (M : FM) (f a i : Nat) : fm_sL M f a i (M.2.1 f a i) = M := by
  obtain ⟨m1, m2, m3⟩ := M
  unfold fm_sL
  dsimp only
  congr 2
  funext f' a' i'
  by_cases h : f' = f ∧ a' = a ∧ i' = i
  · rw [if_pos h, h.1, h.2.1, h.2.2]
  · rw [if_neg h]
theorem wS_id : wSF w (wv M w) M = M := by
  unfold wSF
  rw [← wv_h, ← wv_l, sL_id, sL_id]
theorem wS_119 : (wSF w V M).2.1 119 w 0 = lN (V / 18446744073709551616) := by
  unfold wSF
  rw [rL, if_neg (fun q => by omega), sL_at]
theorem wS_120 : (wSF w V M).2.1 120 w 0 = lN (V % 18446744073709551616) := sL_at ..
theorem wv_wS (h : V < w128) : wv (wSF w V M) w = V := by
  unfold wv
  unfold w128 at h
  rw [wS_119, wS_120, l_big (by omega), l_big (by omega)]
  omega
theorem wS_wS : wSF w W (wSF w V M) = wSF w W M := by
  unfold wSF
  rw [sL_comm (fm_sL M 119 w 0 _) (f := 120) (f2 := 119) (fun q => by omega), sL_same, sL_same]
/-- what else stands there is not changed -/
theorem wS_o {f a i : Nat} (h : ¬ ((f = 119 ∨ f = 120) ∧ a = w)) : (wSF w V M).2.1 f a i = M.2.1 f a i := by
  unfold wSF
  rw [rL, if_neg (fun q => h ⟨Or.inr q.1, q.2.1⟩), rL, if_neg (fun q => h ⟨Or.inl q.1, q.2.1⟩)]
theorem wv_o (h : x ≠ w) : wv (wSF w V M) x = wv M x := by
  unfold wv
  rw [wS_o (fun q => h q.2), wS_o (fun q => h q.2)]
theorem wS_ty (T : Ty M) : Ty (wSF w V M) := ty_eq rfl rfl T
theorem wS_sI {f a i : Nat} {v : Int32} : fm_sI (wSF w V M) f a i v = wSF w V (fm_sI M f a i v) := rfl
/-- two longs, in either order -/
theorem wS_hl {h l : Int64} (e1 : ul h = V / 18446744073709551616) (e2 : ul l = V % 18446744073709551616) : fm_sL (fm_sL M 119 w 0 h) 120 w 0 l = wSF w V M := by
  unfold wSF
  rw [← e1, ← e2, lN_ul, lN_ul]
theorem wS_lh {h l : Int64} (e1 : ul h = V / 18446744073709551616) (e2 : ul l = V % 18446744073709551616) : fm_sL (fm_sL M 120 w 0 l) 119 w 0 h = wSF w V M := by
  rw [sL_comm M (f := 120) (f2 := 119) (fun q => by omega), wS_hl e1 e2]
theorem X62_set (v : Int64) : GX62_set w v M = wSF w (ul v) M := by
  have := ul_lt v
  unfold GX62_set GX62_set_0
  refine wS_hl ?_ (by omega)
  rw [Nat.div_eq_of_lt (by omega)]
  rfl
theorem X62_copy (h : x ≠ w) : GX62_copy w x M = wSF w (wv M x) M := by
  unfold GX62_copy GX62_copy_0
  dsimp only
  rw [rL, if_neg (fun q => h q.2.1)]
  exact wS_hl (wv_hi (M := M) (w := x)).symm (wv_lo (M := M) (w := x)).symm
theorem l0 (v : Int64) : lg_cmp v (Int64.ofInt 0) = 0 ↔ ul v = 0 := by
  rw [cl_eq]
  exact Iff.rfl
theorem X62_isZero : GX62_isZero w M = (bz (wv M w = 0), M) := by
  unfold GX62_isZero GX62_isZero_0 GX62_isZero_19
  have e : lg_cmp (M.2.1 119 w 0 ||| M.2.1 120 w 0) (Int64.ofInt 0) = 0 ↔ wv M w = 0 := by
    rw [l0, ul_or, Nat.or_eq_zero_iff]
    unfold wv
    omega
  rw [propext e, fi_pr]
theorem X62_isOdd : GX62_isOdd w M = (bz (wv M w % 2 = 1), M) := by
  unfold GX62_isOdd GX62_isOdd_0 GX62_isOdd_16
  have e : lg_cmp (M.2.1 120 w 0 &&& Int64.ofInt 1) (Int64.ofInt 1) = 0 ↔ wv M w % 2 = 1 := by
    rw [cl_eq, ul_and, show ul (Int64.ofInt 1) = 2 ^ 1 - 1 from rfl, Nat.and_two_pow_sub_one_eq_mod]
    unfold wv
    omega
  rw [propext e, fi_pr]
theorem X108_isLess (a b : Int64) : GX108_isLess a b M = (bz (ul a < ul b), M) := by
  unfold GX108_isLess GX108_isLess_0 GX108_isLess_19
  have fl : ∀ c : Int64, (c + Int64.ofInt (-9223372036854775808)).toInt = (ul c : Int) - 9223372036854775808 := fun c => by
    have := ul_lt c
    rw [tl, ul_add, show ul (Int64.ofInt (-9223372036854775808)) = 9223372036854775808 from rfl]
    split <;> omega
  have e : 0 ≤ lg_cmp (a + Int64.ofInt (-9223372036854775808)) (b + Int64.ofInt (-9223372036854775808)) ↔ ¬ ul a < ul b := by
    rw [cl_ge, fl, fl]
    omega
  rw [propext e]
  by_cases q : ul a < ul b
  · rw [fi_neg (fun z => z q), bz_t q]
  · rw [fi_pos q, bz_f q]
theorem X62_isBelow : GX62_isBelow w x M = (bz (wv M w < wv M x), M) := by
  unfold GX62_isBelow GX62_isBelow_0 GX62_isBelow_37
  have := ul_lt (M.2.1 119 w 0)
  have := ul_lt (M.2.1 120 w 0)
  have := ul_lt (M.2.1 119 x 0)
  have := ul_lt (M.2.1 120 x 0)
  dsimp only
  rw [X108_isLess, X108_isLess, propext (cl_eq (x := M.2.1 119 w 0) (y := M.2.1 119 x 0))]
  dsimp only
  unfold wv
  by_cases q : ul (M.2.1 119 w 0) = ul (M.2.1 119 x 0)
  · rw [fi_pos q]
    exact congrArg (fun z => (z, M)) (bz_c (by omega))
  · rw [fi_neg q]
    exact congrArg (fun z => (z, M)) (bz_c (by omega))
theorem or_hlF {h l n : Nat} (hn : 0 < n ∧ n < 64) (hh : h < 18446744073709551616) (hl : l < 18446744073709551616) :
    (h * 2 ^ n % 18446744073709551616 ||| l / 2 ^ (64 - n)) = (h * 2 ^ n + l / 2 ^ (64 - n)) % 18446744073709551616 ∧ l * 2 ^ n / 18446744073709551616 = l / 2 ^ (64 - n) := by
  have e64 : 18446744073709551616 = 2 ^ n * 2 ^ (64 - n) := by rw [← Nat.pow_add, show n + (64 - n) = 64 by omega]
  have p := Nat.two_pow_pos n
  have p2 := Nat.two_pow_pos (64 - n)
  have lt : l / 2 ^ (64 - n) < 2 ^ n := by rw [Nat.div_lt_iff_lt_mul p2, ← e64]; exact hl
  have e1 : h * 2 ^ n % 18446744073709551616 = (h % 2 ^ (64 - n)) <<< n := by
    rw [Nat.shiftLeft_eq]
    conv => lhs; rw [e64, Nat.mul_comm (2 ^ n) (2 ^ (64 - n)), Nat.mul_mod_mul_right]
  have b1 : h % 2 ^ (64 - n) * 2 ^ n + 2 ^ n ≤ 18446744073709551616 := by
    rw [← Nat.succ_mul, e64, Nat.mul_comm (2 ^ n)]
    exact Nat.mul_le_mul_right _ (Nat.mod_lt _ p2)
  refine ⟨?_, ?_⟩
  · rw [e1, ← Nat.shiftLeft_add_eq_or_of_lt lt, ← e1, Nat.add_mod (h * 2 ^ n) (l / 2 ^ (64 - n)), Nat.mod_eq_of_lt (show l / 2 ^ (64 - n) < 18446744073709551616 by omega)]
    rw [e1, Nat.shiftLeft_eq]
    exact (Nat.mod_eq_of_lt (by omega)).symm
  · conv => lhs; rw [e64, Nat.mul_comm (2 ^ n) (2 ^ (64 - n))]
    exact Nat.mul_div_mul_right _ _ p
theorem X62_left (hn : n < 128) : GX62_left w (Int32.ofInt n) M = wSF w (wv M w * 2 ^ n % w128) M := by
  have h1 := ul_lt (M.2.1 119 w 0)
  have h2 := ul_lt (M.2.1 120 w 0)
  unfold GX62_left GX62_left_0 GX62_left_61
  by_cases c : n ≤ 63
  · rw [fi_pos ((iz_le (by omega)).mpr (by omega))]
    by_cases c0 : n = 0
    · subst c0
      rw [fi_pos (show Int32.ofInt ((0 : Nat) : Int) ≤ 0 by decide), Nat.pow_zero, Nat.mul_one, Nat.mod_eq_of_lt wv_lt, wS_id]
    · rw [fi_neg (fun q => by have := (iz_le (b := 0) (by omega)).mp q; omega)]
      dsimp only
      rw [rL, if_neg (fun q => by omega)]
      obtain ⟨o1, o2⟩ := or_hlF (n := n) (by omega) h1 h2
      have eq : wv M w * 2 ^ n % w128 = (ul (M.2.1 119 w 0) * 2 ^ n + ul (M.2.1 120 w 0) / 2 ^ (64 - n)) % 18446744073709551616 * 18446744073709551616 + ul (M.2.1 120 w 0) * 2 ^ n % 18446744073709551616 := by
        unfold wv
        rw [Nat.add_mul, Nat.mul_right_comm, ← o2, w128_e]
        generalize ul (M.2.1 119 w 0) * 2 ^ n = X
        generalize ul (M.2.1 120 w 0) * 2 ^ n = Y
        omega
      have m1 := Nat.mod_lt (ul (M.2.1 119 w 0) * 2 ^ n + ul (M.2.1 120 w 0) / 2 ^ (64 - n)) (show 0 < 18446744073709551616 by decide)
      have m2 := Nat.mod_lt (ul (M.2.1 120 w 0) * 2 ^ n) (show 0 < 18446744073709551616 by decide)
      refine wS_hl ?_ ?_
      · rw [eq, ul_or, ul_shl, ul_ushr, show Int32.ofInt 64 - Int32.ofInt (n : Int) = Int32.ofInt ((64 - n : Nat) : Int) by rw [iz_s]; congr 1; omega, iz_ui0 (by omega), iz_ui0 (by omega), show n % 64 = n by omega, show (64 - n) % 64 = 64 - n by omega, o1]
        omega
      · rw [eq, ul_shl, iz_ui0 (by omega), show n % 64 = n by omega]
        omega
  · rw [fi_neg (fun q => by have := (iz_le (by omega)).mp q; omega)]
    dsimp only
    have e64 : 2 ^ n = 2 ^ (n - 64) * 18446744073709551616 := by rw [show (18446744073709551616 : Nat) = 2 ^ 64 from rfl, ← Nat.pow_add, Nat.sub_add_cancel (by omega)]
    have eq : wv M w * 2 ^ n % w128 = ul (M.2.1 120 w 0) * 2 ^ (n - 64) % 18446744073709551616 * 18446744073709551616 := by
      unfold wv
      rw [Nat.add_mul, e64, w128_e, Nat.mul_assoc, Nat.mul_left_comm (18446744073709551616), ← Nat.mul_assoc, ← Nat.mul_assoc (ul (M.2.1 120 w 0))]
      generalize ul (M.2.1 119 w 0) * 2 ^ (n - 64) = X
      generalize ul (M.2.1 120 w 0) * 2 ^ (n - 64) = Y
      omega
    have m1 := Nat.mod_lt (ul (M.2.1 120 w 0) * 2 ^ (n - 64)) (show 0 < 18446744073709551616 by decide)
    refine wS_hl ?_ ?_
    · rw [eq, ul_shl, show Int32.ofInt (n : Int) - Int32.ofInt 64 = Int32.ofInt ((n - 64 : Nat) : Int) by rw [iz_s]; congr 1; omega, iz_ui0 (by omega), show (n - 64) % 64 = n - 64 by omega]
      omega
    · rw [eq, show ul (Int64.ofInt 0) = 0 from rfl]
      omega
theorem or_lh {h l n : Nat} (hn : 0 < n ∧ n < 64) (hl : l < 18446744073709551616) :
    (l / 2 ^ n ||| h * 2 ^ (64 - n) % 18446744073709551616) = h % 2 ^ n * 2 ^ (64 - n) + l / 2 ^ n ∧ (h * 18446744073709551616 + l) / 2 ^ n = h * 2 ^ (64 - n) + l / 2 ^ n ∧ h * 2 ^ (64 - n) = h / 2 ^ n * 18446744073709551616 + h % 2 ^ n * 2 ^ (64 - n) ∧ h % 2 ^ n * 2 ^ (64 - n) + l / 2 ^ n < 18446744073709551616 := by
  have e64 : 18446744073709551616 = 2 ^ n * 2 ^ (64 - n) := by rw [← Nat.pow_add, show n + (64 - n) = 64 by omega]
  have p := Nat.two_pow_pos n
  have p2 := Nat.two_pow_pos (64 - n)
  have lt : l / 2 ^ n < 2 ^ (64 - n) := by rw [Nat.div_lt_iff_lt_mul p, Nat.mul_comm, ← e64]; exact hl
  have e1 : h * 2 ^ (64 - n) % 18446744073709551616 = (h % 2 ^ n) <<< (64 - n) := by
    rw [Nat.shiftLeft_eq]
    conv => lhs; rw [e64, Nat.mul_mod_mul_right]
  refine ⟨?_, ?_, ?_, ?_⟩
  · rw [e1, Nat.or_comm, ← Nat.shiftLeft_add_eq_or_of_lt lt, Nat.shiftLeft_eq]
  · have e2 : h * 18446744073709551616 + l = l + h * 2 ^ (64 - n) * 2 ^ n := by
      rw [Nat.mul_assoc, Nat.mul_comm (2 ^ (64 - n)), ← e64]
      omega
    rw [e2, Nat.add_mul_div_right _ _ p]
    omega
  · have := Nat.div_add_mod h (2 ^ n)
    conv => lhs; rw [← this]
    rw [Nat.add_mul]
    congr 1
    conv => rhs; rw [e64]
    ac_rfl
  · have b1 : h % 2 ^ n * 2 ^ (64 - n) + 2 ^ (64 - n) ≤ 18446744073709551616 := by
      rw [← Nat.succ_mul, e64]
      exact Nat.mul_le_mul_right _ (Nat.mod_lt _ p)
    omega
theorem X62_right (hn : n < 128) : GX62_right w (Int32.ofInt n) M = wSF w (wv M w / 2 ^ n) M := by
  have h1 := ul_lt (M.2.1 119 w 0)
  have h2 := ul_lt (M.2.1 120 w 0)
  unfold GX62_right GX62_right_0 GX62_right_61
  by_cases c : n ≤ 63
  · rw [fi_pos ((iz_le (by omega)).mpr (by omega))]
    by_cases c0 : n = 0
    · subst c0
      rw [fi_pos (show Int32.ofInt ((0 : Nat) : Int) ≤ 0 by decide), Nat.pow_zero, Nat.div_one, wS_id]
    · rw [fi_neg (fun q => by have := (iz_le (b := 0) (by omega)).mp q; omega)]
      dsimp only
      rw [rL, if_neg (fun q => by omega)]
      obtain ⟨o1, o2, o3, o4⟩ := or_lh (n := n) (h := ul (M.2.1 119 w 0)) (by omega) h2
      refine wS_lh ?_ ?_
      · unfold wv
        rw [o2, o3, ul_ushr, iz_ui0 (by omega), show n % 64 = n by omega]
        omega
      · unfold wv
        rw [o2, o3, ul_or, ul_shl, ul_ushr, show Int32.ofInt 64 - Int32.ofInt (n : Int) = Int32.ofInt ((64 - n : Nat) : Int) by rw [iz_s]; congr 1; omega, iz_ui0 (by omega), iz_ui0 (by omega), show n % 64 = n by omega, show (64 - n) % 64 = 64 - n by omega, o1]
        omega
  · rw [fi_neg (fun q => by have := (iz_le (by omega)).mp q; omega)]
    dsimp only
    have e64 : 2 ^ n = 18446744073709551616 * 2 ^ (n - 64) := by rw [show (18446744073709551616 : Nat) = 2 ^ 64 from rfl, ← Nat.pow_add, show 64 + (n - 64) = n by omega]
    have eq : wv M w / 2 ^ n = ul (M.2.1 119 w 0) / 2 ^ (n - 64) := by
      rw [e64, ← Nat.div_div_eq_div_mul, wv_hi]
    have lt : ul (M.2.1 119 w 0) / 2 ^ (n - 64) < 18446744073709551616 := Nat.lt_of_le_of_lt (Nat.div_le_self _ _) h1
    refine wS_lh ?_ ?_
    · rw [eq, Nat.div_eq_of_lt lt]
      rfl
    · rw [eq, Nat.mod_eq_of_lt lt, ul_ushr, show Int32.ofInt (n : Int) - Int32.ofInt 64 = Int32.ofInt ((n - 64 : Nat) : Int) by rw [iz_s]; congr 1; omega, iz_ui0 (by omega), show (n - 64) % 64 = n - 64 by omega]
end Wd
