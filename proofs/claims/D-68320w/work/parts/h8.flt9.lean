/-! floats: the component's numbers: jamming, cutting, sums, lengths -/
set_option maxRecDepth 100000
section Wj
variable {M : FM} {w x V W n : Nat}
theorem wv_wS2 {X : Nat} (h : V < w128) : wv (wSF w V M) x = if x = w then V else wv M x := by
  by_cases q : x = w
  · rw [if_pos q, q, wv_wS h]
  · rw [if_neg q, wv_o q]
theorem X62_jam124 (b : Int64) : GX62_jam_124 w (M.2.1 120 w 0) b M = fm_sL M 120 w 0 (M.2.1 120 w 0 ||| b) := rfl
theorem jam_or {p : Prop} (hV : V < w128) : GX62_jam_110 w (bz p) (wSF w V M) = wSF w (fi p (2 * (V / 2) + 1) V) M := by
  unfold GX62_jam_110
  rw [fi_bz, X62_jam124, X62_jam124, wS_120]
  have hV2 := hV
  unfold w128 at hV2
  have e : ∀ l : Int64, fm_sL (wSF w V M) 120 w 0 l = fm_sL (fm_sL M 119 w 0 (lN (V / 18446744073709551616))) 120 w 0 l := fun l => by
    unfold wSF
    rw [sL_same]
  by_cases h : p
  · rw [fi_pos h, fi_pos h, e]
    refine wS_hl (by rw [l_big (by omega)]; omega) ?_
    rw [ul_or, show ul (Int64.ofInt 1) = 1 from rfl, l_big (by omega), or_one]
    omega
  · rw [fi_neg h, fi_neg h, e]
    refine wS_hl (by rw [l_big (by omega)]) ?_
    rw [ul_or, show ul (Int64.ofInt 0) = 0 from rfl, Nat.or_zero, l_big (by omega)]
theorem jm_f (N k : Nat) : jm N k false = fi (N % 2 ^ k ≠ 0) (2 * (N / 2 ^ k / 2) + 1) (N / 2 ^ k) := by
  unfold jm
  by_cases h : N % 2 ^ k ≠ 0
  · rw [if_pos (Or.inl h), fi_pos h]
  · rw [if_neg (fun q => q.elim h (fun z => by cases z)), fi_neg h]
theorem jm_le (N k : Nat) (s : Bool) (h : N < w128) : jm N k s < w128 := by
  have d : N / 2 ^ k ≤ N := Nat.div_le_self _ _
  unfold w128 at *
  unfold jm
  split <;> omega
theorem X62_jam {z : Int} (hz : -1000000 ≤ z ∧ z ≤ 1000000) : GX62_jam w (Int32.ofInt z) M = wSF w (jm (wv M w) z.toNat false) M := by
  have h1 := ul_lt (M.2.1 119 w 0)
  have h2 := ul_lt (M.2.1 120 w 0)
  have hV := wv_lt (M := M) (w := w)
  unfold GX62_jam GX62_jam_0
  by_cases c : z < 1
  · rw [fi_neg (fun q => by have := (iz_le (by omega)).mp q; omega), show z.toNat = 0 by omega, jm_0, wS_id]
  · obtain ⟨n, rfl⟩ : ∃ n : Nat, z = n := ⟨z.toNat, by omega⟩
    rw [fi_pos ((iz_le (by omega)).mpr (by omega)), show (n : Int).toNat = n from rfl]
    have finF : ∀ p : Prop, n ≤ 127 → (p ↔ wv M w % 2 ^ n ≠ 0) → GX62_jam_90 w (Int32.ofInt (n : Int)) (bz p) M = wSF w (jm (wv M w) n false) M := fun p hn hp => by
      unfold GX62_jam_90
      dsimp only
      have d : wv M w / 2 ^ n ≤ wv M w := Nat.div_le_self _ _
      rw [fi_pos ((iz_le (by omega)).mpr (by omega)), X62_right (by omega), jam_or (by omega), jm_f, propext hp]
    have f0 := finF False
    have f1 := finF True
    rw [← bz0] at f0
    rw [← bz1] at f1
    by_cases c1 : n ≤ 127
    · rw [fi_pos ((iz_le (by omega)).mpr (by omega))]
      by_cases c2 : n ≤ 63
      · rw [fi_pos ((iz_le (by omega)).mpr (by omega))]
        have e : lg_cmp (M.2.1 120 w 0 <<< ((Int32.ofInt 64 - Int32.ofInt (n : Int)).toInt64 &&& 63)) (Int64.ofInt 0) = 0 ↔ ¬ wv M w % 2 ^ n ≠ 0 := by
          have e64 : 18446744073709551616 = 2 ^ n * 2 ^ (64 - n) := by rw [← Nat.pow_add, show n + (64 - n) = 64 by omega]
          have p2 := Nat.two_pow_pos (64 - n)
          rw [l0, ul_shl, show Int32.ofInt 64 - Int32.ofInt (n : Int) = Int32.ofInt ((64 - n : Nat) : Int) by rw [iz_s]; congr 1; omega, iz_ui0 (by omega), show (64 - n) % 64 = 64 - n by omega]
          have e1 : ul (M.2.1 120 w 0) * 2 ^ (64 - n) % 18446744073709551616 = ul (M.2.1 120 w 0) % 2 ^ n * 2 ^ (64 - n) := by
            conv => lhs; rw [e64, Nat.mul_mod_mul_right]
          have e2 : wv M w % 2 ^ n = ul (M.2.1 120 w 0) % 2 ^ n := by
            unfold wv
            have d : 2 ^ n ∣ ul (M.2.1 119 w 0) * 18446744073709551616 := Nat.dvd_trans ⟨2 ^ (64 - n), e64⟩ (Nat.dvd_mul_left _ _)
            rw [Nat.add_mod, Nat.mod_eq_zero_of_dvd d, Nat.zero_add, Nat.mod_mod]
          rw [e1, e2, Nat.mul_eq_zero]
          exact ⟨fun q k => q.elim k (fun z => by omega), fun q => Or.inl (Classical.byContradiction q)⟩
        rw [propext e]
        by_cases k : wv M w % 2 ^ n ≠ 0
        · rw [fi_neg (fun q => q k)]
          exact f1 c1 ⟨fun _ => k, fun _ => trivial⟩
        · rw [fi_pos k]
          exact f0 c1 ⟨fun q => q.elim, fun q => k q⟩
      · rw [fi_neg (fun q => by have := (iz_le (by omega)).mp q; omega), propext (l0 (M.2.1 120 w 0))]
        unfold GX62_jam_67 GX62_jam_63
        have e64 : 2 ^ n = 18446744073709551616 * 2 ^ (n - 64) := by rw [show (18446744073709551616 : Nat) = 2 ^ 64 from rfl, ← Nat.pow_add, show 64 + (n - 64) = n by omega]
        have em : wv M w % 2 ^ n = ul (M.2.1 120 w 0) + 18446744073709551616 * (ul (M.2.1 119 w 0) % 2 ^ (n - 64)) := by
          rw [e64, Nat.mod_mul, wv_lo, wv_hi]
        by_cases k : ul (M.2.1 120 w 0) = 0
        · rw [fi_pos k]
          by_cases c3 : n ≤ 64
          · rw [fi_pos ((iz_le (by omega)).mpr (by omega))]
            refine f0 c1 ⟨fun q => q.elim, fun q => q ?_⟩
            rw [em, k, show n - 64 = 0 by omega, Nat.pow_zero, Nat.mod_one]
          · rw [fi_neg (fun q => by have := (iz_le (by omega)).mp q; omega)]
            have e : lg_cmp (M.2.1 119 w 0 <<< ((Int32.ofInt 128 - Int32.ofInt (n : Int)).toInt64 &&& 63)) (Int64.ofInt 0) = 0 ↔ ul (M.2.1 119 w 0) % 2 ^ (n - 64) = 0 := by
              have e65 : 18446744073709551616 = 2 ^ (n - 64) * 2 ^ (128 - n) := by rw [← Nat.pow_add, show n - 64 + (128 - n) = 64 by omega]
              have p2 := Nat.two_pow_pos (128 - n)
              rw [l0, ul_shl, show Int32.ofInt 128 - Int32.ofInt (n : Int) = Int32.ofInt ((128 - n : Nat) : Int) by rw [iz_s]; congr 1; omega, iz_ui0 (by omega), show (128 - n) % 64 = 128 - n by omega]
              have e1 : ul (M.2.1 119 w 0) * 2 ^ (128 - n) % 18446744073709551616 = ul (M.2.1 119 w 0) % 2 ^ (n - 64) * 2 ^ (128 - n) := by
                conv => lhs; rw [e65, Nat.mul_mod_mul_right]
              rw [e1, Nat.mul_eq_zero]
              exact ⟨fun q => q.elim id (fun z => by omega), Or.inl⟩
            rw [propext e]
            by_cases k2 : ul (M.2.1 119 w 0) % 2 ^ (n - 64) = 0
            · rw [fi_pos k2]
              refine f0 c1 ⟨fun q => q.elim, fun q => q ?_⟩
              rw [em, k, k2]
            · rw [fi_neg k2]
              refine f1 c1 ⟨fun _ => ?_, fun _ => trivial⟩
              rw [em]
              omega
        · rw [fi_neg k]
          refine f1 c1 ⟨fun _ => ?_, fun _ => trivial⟩
          rw [em]
          omega
    · rw [fi_neg (fun q => by have := (iz_le (by omega)).mp q; omega), X62_isZero]
      dsimp only
      have big : wv M w < 2 ^ n := Nat.lt_of_lt_of_le hV (by rw [w128_p]; exact Nat.pow_le_pow_right (by decide) (by omega))
      have fz : ∀ p : Prop, (p ↔ wv M w ≠ 0) → GX62_jam_90 w (Int32.ofInt (n : Int)) (bz p) M = wSF w (jm (wv M w) n false) M := fun p hp => by
        unfold GX62_jam_90
        dsimp only
        rw [fi_neg (fun q => by have := (iz_le (by omega)).mp q; omega), X62_set, jam_or (by decide), jm_f, propext hp, Nat.mod_eq_of_lt big, Nat.div_eq_of_lt big]
        rfl
      rw [fi_bz]
      have g0 := fz False
      have g1 := fz True
      rw [← bz0] at g0
      rw [← bz1] at g1
      by_cases k : wv M w = 0
      · rw [fi_pos k]
        exact g0 ⟨fun q => q.elim, fun q => q k⟩
      · rw [fi_neg k]
        exact g1 ⟨fun _ => k, fun _ => trivial⟩
theorem X62_cut33 : GX62_cut_33 w M = (nI (wv M w % 4), wSF w (wv M w / 4) M) := by
  unfold GX62_cut_33
  dsimp only
  have e : (M.2.1 120 w 0 &&& Int64.ofInt 3).toInt32 = nI (wv M w % 4) := by
    apply ui_inj
    rw [ui_low, ul_and, show ul (Int64.ofInt 3) = 2 ^ 2 - 1 from rfl, Nat.and_two_pow_sub_one_eq_mod, ni_u (by omega)]
    unfold wv
    omega
  rw [e, show Int32.ofInt 2 = Int32.ofInt ((2 : Nat) : Int) from rfl, X62_right (by decide)]
/-- cutting off: what is left, and what was cut off as a mode asks for it -/
theorem X62_cut {z : Int} (hz : -127 ≤ z ∧ z ≤ 900000) (hb : z ≤ 1 → wv M w * 2 ^ (2 - z).toNat < w128) : GX62_cut w (Int32.ofInt z) M = (nI (cuC (wv M w) false z), wSF w (cuU (wv M w) z) M) ∧ cuU (wv M w) z < w128 := by
  have hV := wv_lt (M := M) (w := w)
  unfold GX62_cut GX62_cut_0
  by_cases c : z < 1
  · have lt : wv M w * 2 ^ (-z).toNat < w128 := by
      refine Nat.lt_of_le_of_lt (Nat.mul_le_mul_left _ (Nat.pow_le_pow_right (by decide) ?_)) (hb (by omega))
      omega
    rw [fi_neg (fun q => by have := (iz_le (by omega)).mp q; omega), iz_n]
    unfold cuC cuU
    rw [if_pos (show z ≤ 0 by omega), if_neg (show ¬ (false = true) by decide), if_pos (show z ≤ 0 by omega)]
    refine ⟨?_, lt⟩
    rw [show Int32.ofInt (-z) = Int32.ofInt (((-z).toNat : Nat) : Int) by congr 1; omega, X62_left (by omega), Nat.mod_eq_of_lt lt]
    rfl
  · rw [fi_pos ((iz_le (by omega)).mpr (by omega))]
    by_cases c1 : z = 1
    · subst c1
      have lt : wv M w * 2 < w128 := hb (by omega)
      rw [fi_pos rfl, show Int32.ofInt 1 = Int32.ofInt ((1 : Nat) : Int) from rfl, X62_left (by decide)]
      dsimp only
      rw [Nat.pow_one, Nat.mod_eq_of_lt lt, X62_cut33, wv_wS lt, wS_wS]
      have e1 : cuU (wv M w) 1 = wv M w * 2 / 4 := by
        unfold cuU
        rw [if_neg (by decide)]
        show wv M w / 2 ^ 1 = _
        omega
      have e2 : cuC (wv M w) false 1 = wv M w * 2 % 4 := by
        unfold cuC
        rw [if_neg (by decide)]
        show (if (wv M w).testBit 0 = true then 2 else 0) + (if wv M w % 2 ^ 0 ≠ 0 ∨ false = true then 1 else 0) = _
        rw [Nat.pow_zero, Nat.mod_one, if_neg (c := 0 ≠ 0 ∨ false = true) (by simp), Nat.testBit_zero]
        by_cases q : wv M w % 2 = 1
        · rw [decide_eq_true q, if_pos rfl]
          omega
        · rw [decide_eq_false q, if_neg (by decide)]
          omega
      rw [e1, e2]
      refine ⟨rfl, ?_⟩
      unfold w128 at *
      omega
    · rw [fi_neg (fun q => c1 ((iz_eq (by omega)).mp q)), show Int32.ofInt z - Int32.ofInt 2 = Int32.ofInt (z - 2) from iz_s, X62_jam (by omega)]
      dsimp only
      obtain ⟨k, hk⟩ : ∃ k : Nat, z = (k : Int) + 2 := ⟨(z - 2).toNat, by omega⟩
      subst hk
      have hj := jm_le (wv M w) ((k : Int) + 2 - 2).toNat false hV
      rw [X62_cut33, wv_wS hj, wS_wS, show ((k : Int) + 2 - 2).toNat = k by omega]
      have a1 := cuU_jm (N := wv M w) (k := k) (s := false) (d := 2) (by decide)
      have a2 := cuC_jm (N := wv M w) (k := k) (s := false) (d := 2) (by decide)
      rw [show (2 : Int) + k = (k : Int) + 2 by omega] at a1 a2
      have b1 : cuU (jm (wv M w) k false) 2 = jm (wv M w) k false / 4 := by
        unfold cuU
        rw [if_neg (by decide)]
        rfl
      have b2 : cuC (jm (wv M w) k false) false 2 = jm (wv M w) k false % 4 := by
        unfold cuC
        rw [if_neg (by decide)]
        generalize jm (wv M w) k false = J
        show (if J.testBit 1 = true then 2 else 0) + (if J % 2 ^ 1 ≠ 0 ∨ false = true then 1 else 0) = _
        rw [Nat.testBit_eq_decide_div_mod_eq, Nat.pow_one]
        by_cases q : J / 2 % 2 = 1
        · rw [decide_eq_true q, if_pos rfl]
          by_cases q2 : J % 2 ≠ 0
          · rw [if_pos (Or.inl q2)]
            omega
          · rw [if_neg (fun z => z.elim q2 (fun y => by cases y))]
            omega
        · rw [decide_eq_false q, if_neg (by decide)]
          by_cases q2 : J % 2 ≠ 0
          · rw [if_pos (Or.inl q2)]
            omega
          · rw [if_neg (fun z => z.elim q2 (fun y => by cases y))]
            omega
      rw [← a1, ← a2, b1, b2]
      refine ⟨rfl, ?_⟩
      rw [show ((k : Int) + 2 - 2).toNat = k by omega] at hj
      exact Nat.lt_of_le_of_lt (Nat.div_le_self _ _) hj
theorem X62_add (h : x ≠ w) : GX62_add w x M = wSF w ((wv M w + wv M x) % w128) M := by
  have h1 := ul_lt (M.2.1 119 w 0)
  have h2 := ul_lt (M.2.1 120 w 0)
  have h3 := ul_lt (M.2.1 119 x 0)
  have h4 := ul_lt (M.2.1 120 x 0)
  unfold GX62_add GX62_add_0 GX62_add_41
  dsimp only
  rw [X108_isLess]
  dsimp only
  rw [fi_bz, sL_at, rL, if_neg (fun q => h q.2.1), rL, if_neg (fun q => by omega), rL, if_neg (fun q => by omega), ul_add]
  by_cases q : (ul (M.2.1 120 w 0) + ul (M.2.1 120 x 0)) % 18446744073709551616 < ul (M.2.1 120 x 0)
  · rw [fi_pos q]
    refine wS_lh ?_ ?_
    · rw [ul_add, ul_add, show ul (Int64.ofInt 1) = 1 from rfl]
      unfold wv w128
      omega
    · rw [ul_add]
      unfold wv w128
      omega
  · rw [fi_neg q]
    refine wS_lh ?_ ?_
    · rw [ul_add, ul_add, show ul (Int64.ofInt 0) = 0 from rfl]
      unfold wv w128
      omega
    · rw [ul_add]
      unfold wv w128
      omega
theorem X62_subtract (h : x ≠ w) (hle : wv M x ≤ wv M w) : GX62_subtract w x M = wSF w (wv M w - wv M x) M := by
  have h1 := ul_lt (M.2.1 119 w 0)
  have h2 := ul_lt (M.2.1 120 w 0)
  have h3 := ul_lt (M.2.1 119 x 0)
  have h4 := ul_lt (M.2.1 120 x 0)
  unfold GX62_subtract GX62_subtract_0 GX62_subtract_28
  dsimp only
  rw [X108_isLess]
  dsimp only
  unfold wv at hle
  rw [fi_bz]
  by_cases q : ul (M.2.1 120 w 0) < ul (M.2.1 120 x 0)
  · rw [fi_pos q, rL, if_neg (fun q => by omega), rL, if_neg (fun q => by omega)]
    refine wS_hl ?_ ?_
    · rw [ul_sub, ul_add, show ul (Int64.ofInt 1) = 1 from rfl]
      unfold wv
      omega
    · rw [ul_sub]
      unfold wv
      omega
  · rw [fi_neg q, rL, if_neg (fun q => by omega), rL, if_neg (fun q => by omega)]
    refine wS_hl ?_ ?_
    · rw [ul_sub, ul_add, show ul (Int64.ofInt 0) = 0 from rfl]
      unfold wv
      omega
    · rw [ul_sub]
      unfold wv
      omega
theorem X62_grow (h : wv M w + 1 < w128) : GX62_grow w M = wSF w (wv M w + 1) M := by
  have h1 := ul_lt (M.2.1 119 w 0)
  have h2 := ul_lt (M.2.1 120 w 0)
  unfold w128 wv at h
  unfold GX62_grow GX62_grow_0 GX62_grow_29
  dsimp only
  rw [sL_at, rL, if_neg (fun q => by omega), propext (l0 _), ul_add, show ul (Int64.ofInt 1) = 1 from rfl]
  by_cases q : (ul (M.2.1 120 w 0) + 1) % 18446744073709551616 = 0
  · rw [fi_pos q]
    refine wS_lh ?_ ?_
    · rw [ul_add, show ul (Int64.ofInt 1) = 1 from rfl]
      unfold wv
      omega
    · rw [ul_add, show ul (Int64.ofInt 1) = 1 from rfl]
      unfold wv
      omega
  · rw [fi_neg q]
    refine wS_lh ?_ ?_
    · rw [ul_add, show ul (Int64.ofInt 0) = 0 from rfl]
      unfold wv
      omega
    · rw [ul_add, show ul (Int64.ofInt 1) = 1 from rfl]
      unfold wv
      omega
theorem X62_multiply (a b : Int64) : GX62_multiply w a b M = wSF w (ul a * ul b) M := by
  unfold GX62_multiply GX62_multiply_0
  have e32 : ui (Int32.ofInt 32) % 64 = 32 := rfl
  have em : ∀ n : Nat, n &&& ul (Int64.ofInt 4294967295) = n % 4294967296 := fun n => Nat.and_two_pow_sub_one_eq_mod n 32
  have eor : ∀ p q : Nat, q < 4294967296 → p * 2 ^ 32 % 18446744073709551616 ||| q = p % 4294967296 * 4294967296 + q := fun p q hq => by
    have e1 : p * 2 ^ 32 % 18446744073709551616 = (p % 4294967296) <<< 32 := by rw [Nat.shiftLeft_eq]; omega
    rw [e1, ← Nat.shiftLeft_add_eq_or_of_lt hq, Nat.shiftLeft_eq]
  have hA := ul_lt a
  have hB := ul_lt b
  dsimp only
  have p : ul a * ul b = ul a / 4294967296 * (ul b / 4294967296) * 18446744073709551616 + (ul a / 4294967296 * (ul b % 4294967296) + ul a % 4294967296 * (ul b / 4294967296)) * 4294967296 + ul a % 4294967296 * (ul b % 4294967296) := by
    have ea : ul a = ul a / 4294967296 * 4294967296 + ul a % 4294967296 := by omega
    have eb : ul b = ul b / 4294967296 * 4294967296 + ul b % 4294967296 := by omega
    conv => lhs; rw [ea, eb]
    simp only [Nat.add_mul, Nat.mul_add]
    have h1 : ul a / 4294967296 * 4294967296 * (ul b / 4294967296 * 4294967296) = ul a / 4294967296 * (ul b / 4294967296) * 18446744073709551616 := by
      rw [Nat.mul_mul_mul_comm]
    have h2 : ul a / 4294967296 * 4294967296 * (ul b % 4294967296) = ul a / 4294967296 * (ul b % 4294967296) * 4294967296 := Nat.mul_right_comm _ _ _
    have h3 : ul a % 4294967296 * (ul b / 4294967296 * 4294967296) = ul a % 4294967296 * (ul b / 4294967296) * 4294967296 := (Nat.mul_assoc _ _ _).symm
    rw [h1, h2, h3]
    omega
  have m1 : ul a / 4294967296 * (ul b / 4294967296) ≤ 4294967295 * 4294967295 := Nat.mul_le_mul (by omega) (by omega)
  have m2 : ul a / 4294967296 * (ul b % 4294967296) ≤ 4294967295 * 4294967295 := Nat.mul_le_mul (by omega) (by omega)
  have m3 : ul a % 4294967296 * (ul b / 4294967296) ≤ 4294967295 * 4294967295 := Nat.mul_le_mul (by omega) (by omega)
  have m4 : ul a % 4294967296 * (ul b % 4294967296) ≤ 4294967295 * 4294967295 := Nat.mul_le_mul (by omega) (by omega)
  refine wS_lh ?_ ?_
  · simp only [ul_add, ul_mul, ul_ushr, ul_and, em, e32]
    rw [p]
    generalize ul a / 4294967296 * (ul b / 4294967296) = x1 at *
    generalize ul a / 4294967296 * (ul b % 4294967296) = x2 at *
    generalize ul a % 4294967296 * (ul b / 4294967296) = x3 at *
    generalize ul a % 4294967296 * (ul b % 4294967296) = x4 at *
    omega
  · simp only [ul_or, ul_shl, ul_add, ul_mul, ul_ushr, ul_and, em, e32]
    rw [eor _ _ (Nat.mod_lt _ (by decide)), p]
    generalize ul a / 4294967296 * (ul b / 4294967296) = x1 at *
    generalize ul a / 4294967296 * (ul b % 4294967296) = x2 at *
    generalize ul a % 4294967296 * (ul b / 4294967296) = x3 at *
    generalize ul a % 4294967296 * (ul b % 4294967296) = x4 at *
    omega
theorem X108_len_L (T : Ty M) : ∀ (j J : Nat) (v : Int64) (n : Nat), ul v < 2 ^ (2 ^ j) → n + 2 ^ j ≤ 64 → j ≤ 6 → j < J → FX108_lengthOf_L9 fN J v (nI n) (nI (if j = 0 then 0 else 2 ^ (j - 1))) M = some (nI (n + bln (ul v)), M) := by
  intro j
  induction j with
  | zero =>
    intro J v n hv hn hj hJ
    obtain ⟨J, rfl⟩ : ∃ x, J = x + 1 := ⟨J - 1, by omega⟩
    have hv : ul v < 2 := hv
    show FX108_lengthOf_9 fN (FX108_lengthOf_L9 fN J) v (nI n) (nI 0) M = _
    rw [(gX108_lengthOf_9 (FX108_lengthOf_L9 fN J) v (nI n) (nI 0) M T).1]
    unfold GX108_lengthOf_9 GX108_lengthOf_59
    rw [fi_pos (show nI 0 ≤ 0 by decide), propext (l0 v), up_1 (by omega)]
    by_cases q : ul v = 0
    · rw [fi_pos q, q]
      rfl
    · rw [fi_neg q, show ul v = 1 by omega]
      rfl
  | succ j ih =>
    intro J v n hv hn hj hJ
    obtain ⟨J, rfl⟩ : ∃ x, J = x + 1 := ⟨J - 1, by omega⟩
    have pj : 0 < 2 ^ j := Nat.two_pow_pos j
    have pj2 : 2 ^ j ≤ 32 := Nat.le_trans (show 2 ^ j ≤ 2 ^ 5 from Nat.pow_le_pow_right (by decide) (by omega)) (by decide)
    rw [if_neg (by omega), Nat.add_sub_cancel]
    have hs : nI (2 ^ j) >>> (Int32.ofInt 1 &&& 31) = nI (if j = 0 then 0 else 2 ^ (j - 1)) := by
      apply ui_inj
      have e : (if j = 0 then 0 else 2 ^ (j - 1)) = 2 ^ j / 2 := by
        by_cases q : j = 0
        · rw [if_pos q, q]
        · obtain ⟨i, rfl⟩ : ∃ i, j = i + 1 := ⟨j - 1, by omega⟩
          rw [if_neg q, Nat.pow_succ, Nat.add_sub_cancel]
          omega
      rw [ui_sar0 _ _ (by rw [ni_u (by omega)]; omega), e, ni_u (by omega), ni_u (by omega)]
      rfl
    have esh : ul (v.toUInt64 >>> ((nI (2 ^ j)).toInt64.toUInt64 &&& Int64.toUInt64 63)).toInt64 = ul v / 2 ^ 2 ^ j := by
      rw [ul_ushr, ni_u (by omega), show 2 ^ j % 64 = 2 ^ j by omega]
    have G0 := (gX108_lengthOf_9 (FX108_lengthOf_L9 fN J) v (nI n) (nI (2 ^ j)) M T).1
    unfold GX108_lengthOf_9 GX108_lengthOf_35 at G0
    dsimp only at G0
    rw [fi_neg (fun q => by have := (ni_le (z := 0) (by omega)).mp q; omega), propext (l0 _), esh, hs, nI_a] at G0
    show FX108_lengthOf_9 fN (FX108_lengthOf_L9 fN J) v (nI n) (nI (2 ^ j)) M = _
    rw [G0]
    have pp := Nat.two_pow_pos (2 ^ j)
    by_cases q : ul v / 2 ^ 2 ^ j = 0
    · rw [fi_pos q]
      refine ih J v n ?_ (by rw [Nat.pow_succ] at hn; omega) (by omega) (by omega)
      exact (Nat.div_eq_zero_iff_lt pp).mp q
    · rw [fi_neg q]
      have h2 : 2 ^ (2 ^ (j + 1)) = 2 ^ 2 ^ j * 2 ^ 2 ^ j := by rw [← Nat.pow_add, Nat.pow_succ]; congr 1; omega
      have bl := bln_div (N := ul v) (k := 2 ^ j)
      have b0 := bln_pos q
      have b1 : bln (ul v) ≤ 64 := bln_le (ul_lt v)
      have I := ih J (v.toUInt64 >>> ((nI (2 ^ j)).toInt64.toUInt64 &&& Int64.toUInt64 63)).toInt64 (n + 2 ^ j) (by rw [esh, Nat.div_lt_iff_lt_mul pp, ← h2]; exact hv) (by rw [Nat.pow_succ] at hn; omega) (by omega) (by omega)
      rw [esh, show n + 2 ^ j + bln (ul v / 2 ^ 2 ^ j) = n + bln (ul v) by omega] at I
      exact I
theorem X108_lengthOf (T : Ty M) (v : Int64) : HX108_lengthOf v M ∧ GX108_lengthOf v M = (nI (bln (ul v)), M) := by
  have k := X108_len_L T 6 fN v 0 (ul_lt v) (by decide) (by decide) (by decide)
  rw [Nat.zero_add] at k
  have G0 := (gX108_lengthOf_0 (FX108_lengthOf_L9 fN fN) v M T).1
  exact op_of (o := FX108_lengthOf fN v M) (G0.trans k) ⟨T, ext_r M⟩
theorem X62_length (T : Ty M) : HX62_length w M ∧ GX62_length w M = (nI (bln (wv M w)), M) := by
  have h1 := ul_lt (M.2.1 119 w 0)
  have h2 := ul_lt (M.2.1 120 w 0)
  obtain ⟨a1, a2⟩ := X108_lengthOf T (M.2.1 120 w 0)
  obtain ⟨b1, b2⟩ := X108_lengthOf T (M.2.1 119 w 0)
  refine ⟨⟨fun _ => ⟨a1, trivial⟩, fun _ => ⟨b1, trivial⟩⟩, ?_⟩
  unfold GX62_length GX62_length_0 GX62_length_29
  dsimp only
  rw [a2, b2, propext (l0 _)]
  dsimp only
  rw [show Int32.ofInt 64 = nI 64 from rfl, nI_a]
  unfold wv
  by_cases q : ul (M.2.1 119 w 0) = 0
  · rw [fi_pos q, q, Nat.zero_mul, Nat.zero_add]
  · rw [fi_neg q]
    have b := bln_pos q
    have e : bln (ul (M.2.1 119 w 0) * 18446744073709551616 + ul (M.2.1 120 w 0)) = 64 + bln (ul (M.2.1 119 w 0)) := by
      have d := bln_div (N := ul (M.2.1 119 w 0) * 18446744073709551616 + ul (M.2.1 120 w 0)) (k := 64)
      rw [show (ul (M.2.1 119 w 0) * 18446744073709551616 + ul (M.2.1 120 w 0)) / 2 ^ 64 = ul (M.2.1 119 w 0) by omega] at d
      omega
    rw [e]
end Wj
