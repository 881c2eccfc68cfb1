/-! arithmetic of longs without sign: compares, upper halves of products, quotients -/
noncomputable def bz (c : Prop) : Int32 := fi c (Int32.ofInt 1) (Int32.ofInt 0)
theorem bz_0 {c : Prop} : bz c = 0 ↔ ¬ c := by
  unfold bz
  by_cases h : c
  · rw [fi_pos h]
    exact ⟨fun q => absurd q (by decide), fun q => absurd h q⟩
  · rw [fi_neg h]
    exact ⟨fun _ => h, fun _ => rfl⟩
theorem bz_c {c d : Prop} (h : c ↔ d) : bz c = bz d := by rw [propext h]
theorem bz_n {c : Prop} : fi c (Int32.ofInt 0) (Int32.ofInt 1) = bz (¬ c) := by
  unfold bz
  by_cases h : c
  · rw [fi_pos h, fi_neg (fun q => q h)]
  · rw [fi_neg h, fi_pos h]
theorem nneg_l (x : Int64) : 0 ≤ lg_cmp x (Int64.ofInt 0) ↔ ul x < 9223372036854775808 := by
  rw [lg_cmp_ge, le_tl, tl, tl x]
  have := ul_lt x
  show (if (0 : Nat) < 9223372036854775808 then ((0 : Nat) : Int) else _) ≤ _ ↔ _
  split <;> split <;> omega
theorem neg_l (x : Int64) : lg_cmp x (Int64.ofInt 0) < 0 ↔ 9223372036854775808 ≤ ul x := by
  rw [lg_cmp_lt, lt_tl, tl x, tl]
  have := ul_lt x
  show _ < (if (0 : Nat) < 9223372036854775808 then ((0 : Nat) : Int) else _) ↔ _
  split <;> split <;> omega
theorem xor_top (n : Nat) (h : n < 18446744073709551616) : n ^^^ 9223372036854775808 = if n < 9223372036854775808 then n + 9223372036854775808 else n - 9223372036854775808 := by
  have e1 : (n ^^^ 9223372036854775808) / 2 ^ 63 = n / 2 ^ 63 ^^^ 1 := Nat.xor_div_two_pow (a := n) (b := 9223372036854775808) (n := 63)
  have e2 : (n ^^^ 9223372036854775808) % 2 ^ 63 = n % 2 ^ 63 ^^^ 0 := Nat.xor_mod_two_pow (a := n) (b := 9223372036854775808) (n := 63)
  rw [Nat.xor_zero] at e2
  have e3 : n ^^^ 9223372036854775808 = 2 ^ 63 * ((n ^^^ 9223372036854775808) / 2 ^ 63) + (n ^^^ 9223372036854775808) % 2 ^ 63 := (Nat.div_add_mod _ _).symm
  rw [e1, e2] at e3
  rw [e3]
  by_cases q : n < 9223372036854775808
  · rw [if_pos q, show n / 2 ^ 63 = 0 by omega]
    show 2 ^ 63 * 1 + _ = _
    omega
  · rw [if_neg q, show n / 2 ^ 63 = 1 by omega]
    show 2 ^ 63 * 0 + _ = _
    omega
theorem flip_l (x : Int64) : (x ^^^ Int64.ofInt (-9223372036854775808)).toInt = (ul x : Int) - 9223372036854775808 := by
  rw [tl, ul_xor]
  have e : ul (Int64.ofInt (-9223372036854775808)) = 9223372036854775808 := rfl
  have h := ul_lt x
  rw [e, xor_top _ h]
  split <;> split <;> omega
theorem X106_isBelow (x y : Int64) (M : FM) : GX106_isBelow x y M = (bz (ul x < ul y), M) := by
  unfold GX106_isBelow GX106_isBelow_0 GX106_isBelow_19
  have e : (0 ≤ lg_cmp (x ^^^ Int64.ofInt (-9223372036854775808)) (y ^^^ Int64.ofInt (-9223372036854775808))) ↔ ¬ ul x < ul y := by
    rw [lg_cmp_ge, le_tl, flip_l, flip_l]
    omega
  by_cases q : ul x < ul y
  · rw [fi_neg (fun c => e.mp c q), bz, fi_pos q]
  · rw [fi_pos (e.mpr q), bz, fi_neg q]
theorem X98_isLess (x y : Int64) (M : FM) : GX98_isLess x y M = (bz (ul x < ul y), M) := by
  have hx := ul_lt x
  have hy := ul_lt y
  have k : (0 ≤ lg_cmp x y) ↔ y.toInt ≤ x.toInt := by rw [lg_cmp_ge, le_tl]
  simp only [GX98_isLess_50, GX98_isLess_22, GX98_isLess_11, GX98_isLess_0, GX98_isLess, fi_if, nneg_l, k, bz, tl]
  by_cases a : ul x < 9223372036854775808 <;> by_cases b : ul y < 9223372036854775808 <;> by_cases q : ul x < ul y <;> simp [a, b, q] <;> omega
theorem bit_l (w : Int64) (a : Int32) {k : Nat} (hk : k < 64) (e : ui a = k) : ul ((w >>> (a.toInt64 &&& 63)) &&& Int64.ofInt 1) = ul w / 2 ^ k % 2 := by
  have h0 : ul ((w >>> (a.toInt64 &&& 63)) &&& Int64.ofInt 1) = ul (w >>> (a.toInt64 &&& 63)) % 2 := by
    rw [ul_and]
    exact Nat.and_one_is_mod _
  rw [h0]
  have h1 : (w >>> (a.toInt64 &&& 63)).toBitVec.getLsbD 0 = w.toBitVec.getLsbD k := by
    rw [Int64.toBitVec_shiftRight, BitVec.getLsbD_sshiftRight']
    rw [show ((a.toInt64 &&& 63).toBitVec.smod 64).toNat = ui a % 64 from sh6 a, e, Nat.mod_eq_of_lt hk, Nat.add_zero, if_pos hk]
    simp
  have h2 : ∀ (b : BitVec 64) (i : Nat), b.getLsbD i = decide (b.toNat / 2 ^ i % 2 = 1) := fun b i => Nat.testBit_eq_decide_div_mod_eq
  rw [h2, h2] at h1
  have h3 : ((w >>> (a.toInt64 &&& 63)).toBitVec.toNat / 2 ^ 0 % 2 = 1) ↔ (w.toBitVec.toNat / 2 ^ k % 2 = 1) := by
    constructor
    · intro q
      rw [decide_eq_true q] at h1
      exact of_decide_eq_true h1.symm
    · intro q
      rw [decide_eq_true q] at h1
      exact of_decide_eq_true h1
  rw [Nat.pow_zero, Nat.div_one] at h3
  have h4 : (ul (w >>> (a.toInt64 &&& 63)) % 2 = 1) ↔ (ul w / 2 ^ k % 2 = 1) := h3
  rcases Nat.mod_two_eq_zero_or_one (ul (w >>> (a.toInt64 &&& 63))) with q | q <;> rcases Nat.mod_two_eq_zero_or_one (ul w / 2 ^ k) with p | p <;> omega
/-- counting down by one -/
theorem dn_k (r : Nat) (h : r < 2147483648) : nI (r + 1) + Int32.ofInt (-1) = nI r := by
  apply ui_inj
  rw [ui_add, ui_nI, ui_nI]
  show ((r + 1) % 4294967296 + 4294967295) % 4294967296 = _
  omega
theorem dn_0 : nI 0 + Int32.ofInt (-1) < 0 := by decide
theorem dn_n {r : Nat} (h : r < 2147483648) : ¬ nI r < 0 := nI_pos (by omega)
theorem lN_m (n : Nat) (h : n < 18446744073709551616) : ul (lN n) = n := by
  rw [ul_lN]
  omega
/-- the product's upper half, bit after bit -/
theorem up_step {V A b : Nat} (hb : b < 2) (hA : A < 18446744073709551616) (hV : 2 * V + b * A < 340282366920938463463374607431768211456) {h l : Int64} (eh : ul h = V / 18446744073709551616) (el : ul l = V % 18446744073709551616) {a : Int64} (ea : ul a = A) :
    (b = 0 → ul (Int64.ofInt 2 * h + fi (0 ≤ lg_cmp l (Int64.ofInt 0)) (Int64.ofInt 0) (Int64.ofInt 1)) = (2 * V + b * A) / 18446744073709551616 ∧ ul (Int64.ofInt 2 * l) = (2 * V + b * A) % 18446744073709551616) ∧
    (b = 1 → (¬ ul (Int64.ofInt 2 * l + a) < ul (Int64.ofInt 2 * l) → ul (Int64.ofInt 2 * h + fi (0 ≤ lg_cmp l (Int64.ofInt 0)) (Int64.ofInt 0) (Int64.ofInt 1)) = (2 * V + b * A) / 18446744073709551616) ∧
      (ul (Int64.ofInt 2 * l + a) < ul (Int64.ofInt 2 * l) → ul (Int64.ofInt 2 * h + fi (0 ≤ lg_cmp l (Int64.ofInt 0)) (Int64.ofInt 0) (Int64.ofInt 1) + Int64.ofInt 1) = (2 * V + b * A) / 18446744073709551616) ∧ ul (Int64.ofInt 2 * l + a) = (2 * V + b * A) % 18446744073709551616) := by
  have e2 : ul (Int64.ofInt 2) = 2 := rfl
  have e1 : ul (Int64.ofInt 1) = 1 := rfl
  have e0 : ul (Int64.ofInt 0) = 0 := rfl
  have c : ul (fi (0 ≤ lg_cmp l (Int64.ofInt 0)) (Int64.ofInt 0) (Int64.ofInt 1)) = 2 * (V % 18446744073709551616) / 18446744073709551616 := by
    by_cases q : 0 ≤ lg_cmp l (Int64.ofInt 0)
    · rw [fi_pos q, e0]
      rw [nneg_l, el] at q
      omega
    · rw [fi_neg q, e1]
      rw [nneg_l, el] at q
      omega
  rw [ul_add, ul_add, ul_add, ul_mul, ul_mul, e2, e1, eh, el, c, ea, ul_add, ul_mul, e2, eh, c]
  refine ⟨fun h0 => ?_, fun h1 => ?_⟩
  · subst h0
    omega
  · subst h1
    omega
theorem X98_upper_L (A B : Int64) (M : FM) (T : Ty M) : ∀ (r j : Nat), r < j → r ≤ 64 → ∀ h l : Int64, ul h = ul A * (ul B / 2 ^ r) / 18446744073709551616 → ul l = ul A * (ul B / 2 ^ r) % 18446744073709551616 →
    FX98_upper_L10 fN j A B h l (nI r + Int32.ofInt (-1)) M = some (lN (ul A * ul B / 18446744073709551616), M) := by
  intro r
  induction r with
  | zero =>
    intro j hj _ h l eh el
    obtain ⟨j, rfl⟩ : ∃ i, j = i + 1 := ⟨j - 1, by omega⟩
    show FX98_upper_10 fN (FX98_upper_L10 fN j) _ _ _ _ _ _ = _
    rw [(gX98_upper_10 _ _ _ _ _ _ M T).1]
    unfold GX98_upper_10
    rw [fi_pos dn_0]
    rw [Nat.pow_zero, Nat.div_one] at eh
    show some (h, M) = _
    rw [← eh, lN_ul]
  | succ r ih =>
    intro j hj hr h l eh el
    obtain ⟨j, rfl⟩ : ∃ i, j = i + 1 := ⟨j - 1, by omega⟩
    show FX98_upper_10 fN (FX98_upper_L10 fN j) _ _ _ _ _ _ = _
    rw [(gX98_upper_10 _ _ _ _ _ _ M T).1]
    have hA := ul_lt A
    have hB := ul_lt B
    have hb := bit_l B (nI r) (k := r) (by omega) (by rw [ui_nI]; omega)
    have hV : ul A * (ul B / 2 ^ r) = 2 * (ul A * (ul B / 2 ^ (r + 1))) + (ul B / 2 ^ r % 2) * ul A := by
      have e : ul B / 2 ^ r = 2 * (ul B / 2 ^ (r + 1)) + ul B / 2 ^ r % 2 := by
        rw [show 2 ^ (r + 1) = 2 ^ r * 2 from rfl, ← Nat.div_div_eq_div_mul]
        omega
      conv => lhs; rw [e]
      rw [Nat.mul_add, Nat.mul_comm (ul A) (ul B / 2 ^ r % 2), Nat.mul_left_comm]
    have hW : ul A * (ul B / 2 ^ r) < 340282366920938463463374607431768211456 := by
      have h1 : ul B / 2 ^ r ≤ ul B := Nat.div_le_self _ _
      have h2 : ul A * (ul B / 2 ^ r) ≤ 18446744073709551615 * 18446744073709551615 := Nat.mul_le_mul (by omega) (by omega)
      omega
    rw [hV] at hW
    obtain ⟨s0, s1⟩ := up_step (V := ul A * (ul B / 2 ^ (r + 1))) (A := ul A) (b := ul B / 2 ^ r % 2) (Nat.mod_lt _ (by decide)) hA hW eh el (a := A) rfl
    rw [← hV] at s0 s1
    have e : GX98_upper_10 A B h l (nI (r + 1) + Int32.ofInt (-1)) M = GX98_upper_33 A B l (nI r) (Int64.ofInt 2 * h) (fi (0 ≤ lg_cmp l (Int64.ofInt 0)) (Int64.ofInt 0) (Int64.ofInt 1)) M := by
      unfold GX98_upper_10
      rw [dn_k r (by omega), fi_neg (dn_n (by omega))]
      exact (fi_ap (fun z => GX98_upper_33 A B l (nI r) (Int64.ofInt 2 * h) z M)).symm
    rw [e]
    unfold GX98_upper_33
    have hc : (lg_cmp ((B >>> ((nI r).toInt64 &&& 63)) &&& (Int64.ofInt 1)) (Int64.ofInt 1) = 0) ↔ ul B / 2 ^ r % 2 = 1 := by
      rw [lg_cmp_eq, eq_ul, hb]
      exact Iff.rfl
    by_cases q : ul B / 2 ^ r % 2 = 1
    · rw [fi_pos (hc.mpr q)]
      dsimp only
      rw [X98_isLess]
      obtain ⟨t0, t1, t2⟩ := s1 q
      by_cases p : ul (Int64.ofInt 2 * l + A) < ul (Int64.ofInt 2 * l)
      · rw [fi_neg (show ¬ (bz _, M).1 = 0 from fun z => bz_0.mp z p)]
        exact ih j (by omega) (by omega) _ _ (t1 p) t2
      · rw [fi_pos (show (bz _, M).1 = 0 from bz_0.mpr p)]
        exact ih j (by omega) (by omega) _ _ (t0 p) t2
    · rw [fi_neg (fun z => q (hc.mp z))]
      obtain ⟨t0, t1⟩ := s0 (by omega)
      exact ih j (by omega) (by omega) _ _ t0 t1
theorem X98_upper (A B : Int64) (M : FM) (T : Ty M) : HX98_upper A B M ∧ GX98_upper A B M = (lN (ul A * ul B / 18446744073709551616), M) := by
  refine op_of ?_ ⟨T, ext_r _⟩
  show FX98_upper_0 fN (FX98_upper_L10 fN fN) A B M = _
  rw [(gX98_upper_0 _ _ _ M T).1]
  have hB := ul_lt B
  have z : ul B / 2 ^ 64 = 0 := Nat.div_eq_of_lt hB
  exact X98_upper_L A B M T 64 fN (by unfold fN; omega) (by omega) _ _ (by rw [z, Nat.mul_zero]; rfl) (by rw [z, Nat.mul_zero]; rfl)
theorem X106_upper (A B : Int64) (M : FM) : GX106_upper A B M = (lN (ul A * ul B / 18446744073709551616), M) := by
  unfold GX106_upper GX106_upper_0
  have e32 : ui (Int32.ofInt 32) % 64 = 32 := rfl
  have em : ∀ n : Nat, n &&& ul (Int64.ofInt 4294967295) = n % 4294967296 := fun n => Nat.and_two_pow_sub_one_eq_mod n 32
  have key : ∀ v : Int64, ul v = ul A * ul B / 18446744073709551616 → (v, M) = (lN (ul A * ul B / 18446744073709551616), M) := fun v h => by rw [← h, lN_ul]
  apply key
  have hA := ul_lt A
  have hB := ul_lt B
  simp only [ul_add, ul_mul, ul_ushr, ul_and, em, e32]
  generalize ul A = a at *
  generalize ul B = b at *
  have ea : a = a / 4294967296 * 4294967296 + a % 4294967296 := by omega
  have eb : b = b / 4294967296 * 4294967296 + b % 4294967296 := by omega
  have ha1 : a / 4294967296 ≤ 4294967295 := by omega
  have hb1 : b / 4294967296 ≤ 4294967295 := by omega
  have ha0 : a % 4294967296 ≤ 4294967295 := by omega
  have hb0 : b % 4294967296 ≤ 4294967295 := by omega
  have p : a * b = a / 4294967296 * (b / 4294967296) * 18446744073709551616 + (a / 4294967296 * (b % 4294967296) + a % 4294967296 * (b / 4294967296)) * 4294967296 + a % 4294967296 * (b % 4294967296) := by
    conv => lhs; rw [ea, eb]
    simp only [Nat.add_mul, Nat.mul_add]
    have h1 : a / 4294967296 * 4294967296 * (b / 4294967296 * 4294967296) = a / 4294967296 * (b / 4294967296) * 18446744073709551616 := by
      rw [Nat.mul_mul_mul_comm]
    have h2 : a / 4294967296 * 4294967296 * (b % 4294967296) = a / 4294967296 * (b % 4294967296) * 4294967296 := Nat.mul_right_comm _ _ _
    have h3 : a % 4294967296 * (b / 4294967296 * 4294967296) = a % 4294967296 * (b / 4294967296) * 4294967296 := (Nat.mul_assoc _ _ _).symm
    rw [h1, h2, h3]
    omega
  rw [p]
  have m1 : a / 4294967296 * (b / 4294967296) ≤ 4294967295 * 4294967295 := Nat.mul_le_mul ha1 hb1
  have m2 : a / 4294967296 * (b % 4294967296) ≤ 4294967295 * 4294967295 := Nat.mul_le_mul ha1 hb0
  have m3 : a % 4294967296 * (b / 4294967296) ≤ 4294967295 * 4294967295 := Nat.mul_le_mul ha0 hb1
  have m4 : a % 4294967296 * (b % 4294967296) ≤ 4294967295 * 4294967295 := Nat.mul_le_mul ha0 hb0
  show _ = _
  generalize a / 4294967296 * (b / 4294967296) = x1 at *
  generalize a / 4294967296 * (b % 4294967296) = x2 at *
  generalize a % 4294967296 * (b / 4294967296) = x3 at *
  generalize a % 4294967296 * (b % 4294967296) = x4 at *
  omega
