/-! the component: ints, immediates -/
noncomputable def rki (o : Int32) (x y : Int32) : Int64 :=
  fi (o = Int32.ofInt 2) (x <<< (y &&& 31)).toInt64 (fi (o = Int32.ofInt 6) (x.toUInt32 >>> (y.toUInt32 &&& Int32.toUInt32 31)).toInt32.toInt64 (fi (o = Int32.ofInt 7) (x >>> (y &&& 31)).toInt64
  (fi (o = Int32.ofInt 15 ∨ o = Int32.ofInt 17) (rk o (x.toInt64 &&& Int64.ofInt 4294967295) (y.toInt64 &&& Int64.ofInt 4294967295)).toInt32.toInt64 (rk o x.toInt64 y.toInt64).toInt32.toInt64)))
theorem X106_reckonInt {s : Nat} {x y : Int32} {M : FM} : HX106_reckonInt s x y M ∧ GX106_reckonInt s x y M = (rki (M.1 10 s 0) x y, M) := by
  have eo : GJ0_ordinal s M = (M.1 10 s 0, M) := rfl
  have r1 := X106_reckon (s := s) (x := x.toInt64) (y := y.toInt64) (M := M)
  have r2 := X106_reckon (s := s) (x := x.toInt64 &&& Int64.ofInt 4294967295) (y := y.toInt64 &&& Int64.ofInt 4294967295) (M := M)
  generalize M.1 10 s 0 = o at *
  refine ⟨?_, ?_⟩
  · unfold HX106_reckonInt HX106_reckonInt_0 HX106_reckonInt_71
    rw [eo]
    simp only [r1, r2, true_and, and_true, and_false, false_and, or_false, false_or, not_true, not_false_iff, if_true, if_false, true_or, or_true, and_self, imp_true_iff, true_imp_iff, false_imp_iff]
  · unfold GX106_reckonInt GX106_reckonInt_0 GX106_reckonInt_71 rki
    rw [eo]
    simp only [r1, r2]
    refine pfi rfl (pfi rfl (pfi rfl ?_))
    by_cases a : o = Int32.ofInt 15
    · rw [fi_pos a, fi_pos (Or.inl a)]
    · by_cases b : o = Int32.ofInt 17
      · rw [fi_neg a, fi_pos b, fi_pos (Or.inr b)]
      · rw [fi_neg a, fi_neg b, fi_neg (by rintro (h | h); exact a h; exact b h)]
theorem or_add {a b k : Nat} (h : b < 2 ^ k) : 2 ^ k * a ||| b = 2 ^ k * a + b := (Nat.two_pow_add_eq_or_of_lt h a).symm
theorem le0 (w : Int32) : 0 ≤ w ↔ ui w < 2147483648 := by
  have := ui_lt w
  rw [le_ti, ti w, show (0 : Int32).toInt = 0 from rfl]
  split <;> omega
theorem X105_immediateI (w : Int32) (M : FM) : GX105_immediateI w M = (iI w, M) := by
  unfold GX105_immediateI GX105_immediateI_0
  refine Prod.ext (ul_inj ?_) rfl
  have hw := ui_lt w
  have e20 : ui (Int32.ofInt 20) % 32 = 20 := rfl
  have e2 : ul (Int64.ofInt 2048) = 2048 := rfl
  have e0 : ul (Int64.ofInt 0) = 0 := rfl
  have hf : fd w 30 20 < 2048 := fd_lt w (hi := 30) (lo := 20) (by decide)
  have hf2 : fd w 30 20 = ui w % 2147483648 / 1048576 := rfl
  show ul (w >>> (Int32.ofInt 20 &&& 31)).toInt64 = ul (iI w)
  unfold iI sgn
  rw [ul_add, ul_sext, ul_sext, ui_nI]
  by_cases a : ui w < 2147483648
  · rw [fi_pos ((le0 w).mpr a), ui_sar0 _ _ a, e20, e0]
    rw [if_pos (by omega), if_pos (by omega)]
    omega
  · rw [fi_neg (fun q => a ((le0 w).mp q)), ui_sar1 _ _ (by omega), e20, ul_neg, e2]
    rw [if_neg (by omega), if_pos (by omega)]
    omega
theorem orr {n b : Nat} (k : Nat) (h : n % 2 ^ k = 0) (hb : b < 2 ^ k) : n ||| b = n + b := by
  have e : n = 2 ^ k * (n / 2 ^ k) := (Nat.mul_div_cancel' (Nat.dvd_of_mod_eq_zero h)).symm
  rw [e, or_add hb]
theorem X105_immediateS (w : Int32) (M : FM) : GX105_immediateS w M = (iS w, M) := by
  unfold GX105_immediateS GX105_immediateS_0
  rw [X105_bits w _ _ M (hi := 11) (lo := 7) (by decide) (by decide) rfl rfl]
  refine Prod.ext (ul_inj ?_) rfl
  have hw := ui_lt w
  have e25 : ui (Int32.ofInt 25) % 32 = 25 := rfl
  have e5 : ui (Int32.ofInt 5) % 32 = 5 := rfl
  have e32 : ui (Int32.ofInt 32) = 32 := rfl
  have e2 : ul (Int64.ofInt 2048) = 2048 := rfl
  have e0 : ul (Int64.ofInt 0) = 0 := rfl
  have hf : fd w 11 7 < 32 := fd_lt w (hi := 11) (lo := 7) (by decide)
  have hg : fd w 30 25 < 64 := fd_lt w (hi := 30) (lo := 25) (by decide)
  have hg2 : fd w 30 25 = ui w % 2147483648 / 33554432 := rfl
  show ul (((w >>> (Int32.ofInt 25 &&& 31)) <<< (Int32.ofInt 5 &&& 31)) ||| nI (fd w 11 7)).toInt64 = ul (iS w)
  unfold iS sgn
  have eo : ui (((w >>> (Int32.ofInt 25 &&& 31)) <<< (Int32.ofInt 5 &&& 31)) ||| nI (fd w 11 7)) = ui (w >>> (Int32.ofInt 25 &&& 31)) * 32 % 4294967296 + fd w 11 7 := by
    rw [ui_or, ui_shl, e5, ui_nI, Nat.mod_eq_of_lt (show fd w 11 7 < 4294967296 by omega)]
    exact orr 5 (by omega) (by omega)
  rw [ul_add, ul_add, ul_sext, ul_sext, ul_sext, ui_nI, ui_mul, ui_nI, eo, e32]
  by_cases a : ui w < 2147483648
  · rw [fi_pos ((le0 w).mpr a), ui_sar0 _ _ a, e25, e0]
    rw [if_pos (by omega), if_pos (by omega), if_pos (by omega)]
    omega
  · rw [fi_neg (fun q => a ((le0 w).mp q)), ui_sar1 _ _ (by omega), e25, ul_neg, e2]
    rw [if_neg (by omega), if_pos (by omega), if_pos (by omega)]
    omega
theorem ui_m (x : Int32) : ui (x &&& Int32.ofInt (-4096)) = ui x / 4096 * 4096 := by
  have e : (x &&& Int32.ofInt (-4096)) = x - (x &&& Int32.ofInt 4095) := by
    apply Int32.toBitVec_inj.mp
    rw [Int32.toBitVec_and, Int32.toBitVec_sub, Int32.toBitVec_and]
    have h : ∀ b : BitVec 32, b &&& (Int32.ofInt (-4096)).toBitVec = b - (b &&& (Int32.ofInt 4095).toBitVec) := by
      intro b
      have h1 : (b &&& (Int32.ofInt (-4096)).toBitVec) + (b &&& (Int32.ofInt 4095).toBitVec) = b := by
        rw [BitVec.add_eq_or_of_and_eq_zero]
        · rw [← BitVec.and_or_distrib_left]
          show b &&& (BitVec.allOnes 32) = b
          exact BitVec.and_allOnes
        · have z : (Int32.ofInt (-4096)).toBitVec &&& (Int32.ofInt 4095).toBitVec = 0#32 := by decide
          rw [BitVec.and_assoc, BitVec.and_comm b (Int32.ofInt 4095).toBitVec, ← BitVec.and_assoc (Int32.ofInt (-4096)).toBitVec, z]
          simp
      exact BitVec.eq_sub_iff_add_eq.mpr h1
    exact h _
  rw [e, ui_sub, ui_and]
  have e2 : ui x &&& ui (Int32.ofInt 4095) = ui x % 4096 := Nat.and_two_pow_sub_one_eq_mod (ui x) 12
  have := ui_lt x
  rw [e2]
  omega
theorem X105_immediateU (w : Int32) (M : FM) : GX105_immediateU w M = (iU w, M) := by
  unfold GX105_immediateU GX105_immediateU_0
  refine Prod.ext (ul_inj ?_) rfl
  have hw := ui_lt w
  have e2 : ul (Int64.ofInt 2147483648) = 2147483648 := rfl
  have e4 : ul (Int64.ofInt 4096) = 4096 := rfl
  have e0 : ul (Int64.ofInt 0) = 0 := rfl
  have hf : fd w 30 12 < 524288 := fd_lt w (hi := 30) (lo := 12) (by decide)
  have hf2 : fd w 30 12 = ui w % 2147483648 / 4096 := rfl
  show ul (w &&& Int32.ofInt (-4096)).toInt64 = ul (iU w)
  unfold iU sgn
  rw [ul_add, ul_mul, ul_sext, ul_sext, ui_nI, ui_m, e4]
  by_cases a : ui w < 2147483648
  · rw [fi_pos ((le0 w).mpr a), e0, if_pos (by omega), if_pos (by omega)]
    omega
  · rw [fi_neg (fun q => a ((le0 w).mp q)), ul_neg, e2, if_neg (by omega), if_pos (by omega)]
    omega
theorem ui_sg (w : Int32) {s : Int32} {k : Nat} (e : ui s % 32 = k) (hk : k < 32) : ui ((w >>> (Int32.ofInt 31 &&& 31)) <<< (s &&& 31)) = if ui w < 2147483648 then 0 else 4294967296 - 2 ^ k := by
  have hw := ui_lt w
  have e31 : ui (Int32.ofInt 31) % 32 = 31 := rfl
  rw [ui_shl, e]
  split
  · rename_i a
    rw [ui_sar0 _ _ a, e31, show ui w / 2 ^ 31 = 0 by omega]
    simp
  · rename_i a
    rw [ui_sar1 _ _ (by omega), e31, show 4294967296 - 1 - (4294967296 - 1 - ui w) / 2 ^ 31 = 4294967295 by omega]
    have hp : 2 ^ k ≤ 2147483648 := by
      have := Nat.pow_le_pow_right (n := 2) (by decide) (show k ≤ 31 by omega)
      simpa using this
    have hp0 := pow_pos2 k
    generalize 2 ^ k = P at *
    have : 4294967295 * P = 4294967296 * (P - 1) + (4294967296 - P) := by omega
    rw [this, Nat.mul_add_mod]
    omega
theorem shl_c {v k : Nat} {s : Int32} (e : ui s % 32 = k) (h : v * 2 ^ k < 4294967296) (hv : v < 4294967296) : ui (nI v <<< (s &&& 31)) = v * 2 ^ k := by
  rw [ui_shl, e, ui_nI, Nat.mod_eq_of_lt hv]
  exact Nat.mod_eq_of_lt h
theorem X105_immediateB (w : Int32) (M : FM) : GX105_immediateB w M = (iB w, M) := by
  unfold GX105_immediateB GX105_immediateB_0
  rw [X105_bits w _ _ M (hi := 7) (lo := 7) (by decide) (by decide) rfl rfl]
  dsimp only
  rw [X105_bits w _ _ M (hi := 30) (lo := 25) (by decide) (by decide) rfl rfl]
  dsimp only
  rw [X105_bits w _ _ M (hi := 11) (lo := 8) (by decide) (by decide) rfl rfl]
  refine Prod.ext (ul_inj ?_) rfl
  have hw := ui_lt w
  have h1 : fd w 7 7 < 2 := fd_lt w (hi := 7) (lo := 7) (by decide)
  have h2 : fd w 30 25 < 64 := fd_lt w (hi := 30) (lo := 25) (by decide)
  have h3 : fd w 11 8 < 16 := fd_lt w (hi := 11) (lo := 8) (by decide)
  have e2 : ul (Int64.ofInt 4096) = 4096 := rfl
  have e0 : ul (Int64.ofInt 0) = 0 := rfl
  have a1 : ui (Int32.ofInt 2048) = 2048 := rfl
  have a2 : ui (Int32.ofInt 32) = 32 := rfl
  have a3 : ui (Int32.ofInt 2) = 2 := rfl
  show ul ((((w >>> (Int32.ofInt 31 &&& 31)) <<< (Int32.ofInt 12 &&& 31)) ||| (nI (fd w 7 7) <<< (Int32.ofInt 11 &&& 31))) ||| (nI (fd w 30 25) <<< (Int32.ofInt 5 &&& 31)) ||| (nI (fd w 11 8) <<< (Int32.ofInt 1 &&& 31))).toInt64 = ul (iB w)
  have eo : ui ((((w >>> (Int32.ofInt 31 &&& 31)) <<< (Int32.ofInt 12 &&& 31)) ||| (nI (fd w 7 7) <<< (Int32.ofInt 11 &&& 31))) ||| (nI (fd w 30 25) <<< (Int32.ofInt 5 &&& 31)) ||| (nI (fd w 11 8) <<< (Int32.ofInt 1 &&& 31))) = (if ui w < 2147483648 then 0 else 4294967296 - 2 ^ 12) + fd w 7 7 * 2 ^ 11 + fd w 30 25 * 2 ^ 5 + fd w 11 8 * 2 ^ 1 := by
    rw [ui_or, ui_or, ui_or, ui_sg w (s := Int32.ofInt 12) (k := 12) rfl (by decide), shl_c (s := Int32.ofInt 11) (k := 11) rfl (by omega) (by omega), shl_c (s := Int32.ofInt 5) (k := 5) rfl (by omega) (by omega), shl_c (s := Int32.ofInt 1) (k := 1) rfl (by omega) (by omega)]
    have hS : (if ui w < 2147483648 then 0 else 4294967296 - 2 ^ 12) % 2 ^ 12 = 0 := by split <;> decide
    generalize (if ui w < 2147483648 then 0 else 4294967296 - 2 ^ 12) = S at *
    rw [orr (n := S) (b := fd w 7 7 * 2 ^ 11) 12 hS (by omega), orr (n := S + fd w 7 7 * 2 ^ 11) (b := fd w 30 25 * 2 ^ 5) 11 (by omega) (by omega), orr (n := S + fd w 7 7 * 2 ^ 11 + fd w 30 25 * 2 ^ 5) (b := fd w 11 8 * 2 ^ 1) 5 (by omega) (by omega)]
  unfold iB sgn
  rw [ul_add, ul_add, ul_add, ul_sext, ul_sext, ul_sext, ul_sext, ui_mul, ui_mul, ui_mul, ui_nI, ui_nI, ui_nI, eo, a1, a2, a3]
  by_cases a : ui w < 2147483648
  · rw [fi_pos ((le0 w).mpr a), e0, if_pos a, if_pos (by omega), if_pos (by omega), if_pos (by omega), if_pos (by omega)]
    omega
  · rw [fi_neg (fun q => a ((le0 w).mp q)), ul_neg, e2, if_neg a, if_neg (by omega), if_pos (by omega), if_pos (by omega), if_pos (by omega)]
    omega
theorem X105_immediateJ (w : Int32) (M : FM) : GX105_immediateJ w M = (iJ w, M) := by
  unfold GX105_immediateJ GX105_immediateJ_0
  rw [X105_bits w _ _ M (hi := 19) (lo := 12) (by decide) (by decide) rfl rfl]
  dsimp only
  rw [X105_bits w _ _ M (hi := 20) (lo := 20) (by decide) (by decide) rfl rfl]
  dsimp only
  rw [X105_bits w _ _ M (hi := 30) (lo := 21) (by decide) (by decide) rfl rfl]
  refine Prod.ext (ul_inj ?_) rfl
  have hw := ui_lt w
  have h1 : fd w 19 12 < 256 := fd_lt w (hi := 19) (lo := 12) (by decide)
  have h2 : fd w 20 20 < 2 := fd_lt w (hi := 20) (lo := 20) (by decide)
  have h3 : fd w 30 21 < 1024 := fd_lt w (hi := 30) (lo := 21) (by decide)
  have e2 : ul (Int64.ofInt 1048576) = 1048576 := rfl
  have e0 : ul (Int64.ofInt 0) = 0 := rfl
  have a1 : ui (Int32.ofInt 4096) = 4096 := rfl
  have a2 : ui (Int32.ofInt 2048) = 2048 := rfl
  have a3 : ui (Int32.ofInt 2) = 2 := rfl
  show ul ((((w >>> (Int32.ofInt 31 &&& 31)) <<< (Int32.ofInt 20 &&& 31)) ||| (nI (fd w 19 12) <<< (Int32.ofInt 12 &&& 31))) ||| (nI (fd w 20 20) <<< (Int32.ofInt 11 &&& 31)) ||| (nI (fd w 30 21) <<< (Int32.ofInt 1 &&& 31))).toInt64 = ul (iJ w)
  have eo : ui ((((w >>> (Int32.ofInt 31 &&& 31)) <<< (Int32.ofInt 20 &&& 31)) ||| (nI (fd w 19 12) <<< (Int32.ofInt 12 &&& 31))) ||| (nI (fd w 20 20) <<< (Int32.ofInt 11 &&& 31)) ||| (nI (fd w 30 21) <<< (Int32.ofInt 1 &&& 31))) = (if ui w < 2147483648 then 0 else 4294967296 - 2 ^ 20) + fd w 19 12 * 2 ^ 12 + fd w 20 20 * 2 ^ 11 + fd w 30 21 * 2 ^ 1 := by
    rw [ui_or, ui_or, ui_or, ui_sg w (s := Int32.ofInt 20) (k := 20) rfl (by decide), shl_c (s := Int32.ofInt 12) (k := 12) rfl (by omega) (by omega), shl_c (s := Int32.ofInt 11) (k := 11) rfl (by omega) (by omega), shl_c (s := Int32.ofInt 1) (k := 1) rfl (by omega) (by omega)]
    have hS : (if ui w < 2147483648 then 0 else 4294967296 - 2 ^ 20) % 2 ^ 20 = 0 := by split <;> decide
    generalize (if ui w < 2147483648 then 0 else 4294967296 - 2 ^ 20) = S at *
    rw [orr (n := S) (b := fd w 19 12 * 2 ^ 12) 20 hS (by omega), orr (n := S + fd w 19 12 * 2 ^ 12) (b := fd w 20 20 * 2 ^ 11) 12 (by omega) (by omega), orr (n := S + fd w 19 12 * 2 ^ 12 + fd w 20 20 * 2 ^ 11) (b := fd w 30 21 * 2 ^ 1) 11 (by omega) (by omega)]
  unfold iJ sgn
  rw [ul_add, ul_add, ul_add, ul_sext, ul_sext, ul_sext, ul_sext, ui_mul, ui_mul, ui_mul, ui_nI, ui_nI, ui_nI, eo, a1, a2, a3]
  by_cases a : ui w < 2147483648
  · rw [fi_pos ((le0 w).mpr a), e0, if_pos a, if_pos (by omega), if_pos (by omega), if_pos (by omega), if_pos (by omega)]
    omega
  · rw [fi_neg (fun q => a ((le0 w).mp q)), ul_neg, e2, if_neg a, if_neg (by omega), if_pos (by omega), if_pos (by omega), if_pos (by omega)]
    omega
