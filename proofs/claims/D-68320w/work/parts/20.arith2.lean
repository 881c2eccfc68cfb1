/-! the component's arithmetic: quotients and rests -/
/-- a long's quotient, by signs -/
theorem div_l (x y : Int64) : x / y = fi ((9223372036854775808 ≤ ul x) ↔ (9223372036854775808 ≤ ul y)) (lN (ul (dm True x) / ul (dm True y))) (-(lN (ul (dm True x) / ul (dm True y)))) := by
  apply Int64.toBitVec_inj.mp
  rw [Int64.toBitVec_div, BitVec.sdiv_eq, msb_l, msb_l]
  have u : ∀ a b : Int64, a.toBitVec.udiv b.toBitVec = (lN (ul a / ul b)).toBitVec := by
    intro a b
    apply BitVec.eq_of_toNat_eq
    have h : ul a / ul b < 18446744073709551616 := Nat.lt_of_le_of_lt (Nat.div_le_self _ _) (ul_lt a)
    exact (lN_m _ h).symm
  unfold dm
  by_cases hx : 9223372036854775808 ≤ ul x <;> by_cases hy : 9223372036854775808 ≤ ul y
  · rw [decide_eq_true hx, decide_eq_true hy, fi_pos ⟨fun _ => hy, fun _ => hx⟩, fi_pos ⟨trivial, hx⟩, fi_pos ⟨trivial, hy⟩]
    exact u (-x) (-y)
  · rw [decide_eq_true hx, decide_eq_false hy, fi_neg (fun q => hy (q.mp hx)), fi_pos ⟨trivial, hx⟩, fi_neg (fun q => hy q.2), Int64.toBitVec_neg]
    exact congrArg (fun z => -z) (u (-x) y)
  · rw [decide_eq_false hx, decide_eq_true hy, fi_neg (fun q => hx (q.mpr hy)), fi_neg (fun q => hx q.2), fi_pos ⟨trivial, hy⟩, Int64.toBitVec_neg]
    exact congrArg (fun z => -z) (u x (-y))
  · rw [decide_eq_false hx, decide_eq_false hy, fi_pos ⟨fun q => absurd q hx, fun q => absurd q hy⟩, fi_neg (fun q => hx q.2), fi_neg (fun q => hy q.2)]
    exact u x y
theorem dq_div {x y : Int64} (h : ¬ y = 0) : dq True x y = x / y := by
  rw [div_l, dq, fi_neg h]
  simp only [true_and]
theorem dr_rem {x y : Int64} (h : ¬ y = 0) : dr True x y = x - x / y * y := by
  have hx := ul_lt x
  have hy := ul_lt y
  have h0 := ul_pos h
  rw [div_l, dr, fi_neg h]
  apply ul_inj
  simp only [true_and]
  have x1 : 9223372036854775808 ≤ ul x → dm True x = -x := fun a => by unfold dm; rw [fi_pos ⟨trivial, a⟩]
  have x0 : ¬ 9223372036854775808 ≤ ul x → dm True x = x := fun a => by unfold dm; rw [fi_neg (fun q => a q.2)]
  have y1 : 9223372036854775808 ≤ ul y → dm True y = -y := fun a => by unfold dm; rw [fi_pos ⟨trivial, a⟩]
  have y0 : ¬ 9223372036854775808 ≤ ul y → dm True y = y := fun a => by unfold dm; rw [fi_neg (fun q => a q.2)]
  by_cases a : 9223372036854775808 ≤ ul x <;> by_cases b : 9223372036854775808 ≤ ul y
  · have e1 : ul (-x) = 18446744073709551616 - ul x := by rw [ul_neg]; omega
    have e2 : ul (-y) = 18446744073709551616 - ul y := by rw [ul_neg]; omega
    rw [x1 a, y1 b, fi_pos a, fi_pos (Iff.intro (fun _ => b) (fun _ => a)), ul_neg, ul_sub, ul_mul, e1, e2]
    have hb : 0 < 18446744073709551616 - ul y := by omega
    have d1 := Nat.div_add_mod (18446744073709551616 - ul x) (18446744073709551616 - ul y)
    have d2 := Nat.mod_lt (18446744073709551616 - ul x) hb
    have d3 : (18446744073709551616 - ul x) / (18446744073709551616 - ul y) ≤ 18446744073709551616 - ul x := Nat.div_le_self _ _
    generalize (18446744073709551616 - ul x) / (18446744073709551616 - ul y) = Q at *
    generalize (18446744073709551616 - ul x) % (18446744073709551616 - ul y) = R at *
    rw [lN_m R (by omega), lN_m Q (by omega)]
    have d4 : (18446744073709551616 - ul y) * Q + Q * ul y = 18446744073709551616 * Q := by rw [Nat.mul_comm Q, ← Nat.add_mul]; congr 1; omega
    generalize (18446744073709551616 - ul y) * Q = W at *
    generalize Q * ul y = V at *
    omega
  · have e1 : ul (-x) = 18446744073709551616 - ul x := by rw [ul_neg]; omega
    rw [x1 a, y0 b, fi_pos a, fi_neg (fun q : (_ ↔ _) => b (q.mp a)), e1, ul_neg, ul_sub, ul_mul, ul_neg]
    have d1 := Nat.div_add_mod (18446744073709551616 - ul x) (ul y)
    have d2 := Nat.mod_lt (18446744073709551616 - ul x) h0
    have d3 : (18446744073709551616 - ul x) / ul y ≤ 18446744073709551616 - ul x := Nat.div_le_self _ _
    generalize (18446744073709551616 - ul x) / ul y = Q at *
    generalize (18446744073709551616 - ul x) % ul y = R at *
    rw [lN_m R (by omega), lN_m Q (by omega)]
    have d4 : (18446744073709551616 - Q) * ul y + ul y * Q = 18446744073709551616 * ul y := by rw [Nat.mul_comm (ul y) Q, ← Nat.add_mul]; congr 1; omega
    have d5 : (18446744073709551616 - Q) % 18446744073709551616 * ul y % 18446744073709551616 = (18446744073709551616 - Q) * ul y % 18446744073709551616 := by rw [Nat.mod_mul_mod]
    rw [d5]
    generalize (18446744073709551616 - Q) * ul y = V at *
    generalize ul y * Q = W at *
    omega
  · have e2 : ul (-y) = 18446744073709551616 - ul y := by rw [ul_neg]; omega
    rw [x0 a, y1 b, fi_neg a, fi_neg (fun q : (_ ↔ _) => a (q.mpr b)), e2, ul_sub, ul_mul, ul_neg]
    have hb : 0 < 18446744073709551616 - ul y := by omega
    have d1 := Nat.div_add_mod (ul x) (18446744073709551616 - ul y)
    have d2 := Nat.mod_lt (ul x) hb
    have d3 : ul x / (18446744073709551616 - ul y) ≤ ul x := Nat.div_le_self _ _
    generalize ul x / (18446744073709551616 - ul y) = Q at *
    generalize ul x % (18446744073709551616 - ul y) = R at *
    rw [lN_m R (by omega), lN_m Q (by omega)]
    have d5 : (18446744073709551616 - Q) % 18446744073709551616 * ul y % 18446744073709551616 = (18446744073709551616 - Q) * ul y % 18446744073709551616 := by rw [Nat.mod_mul_mod]
    rw [d5]
    have d4 : (18446744073709551616 - Q) * ul y + Q * ul y = 18446744073709551616 * ul y := by rw [← Nat.add_mul]; congr 1; omega
    have d6 : (18446744073709551616 - ul y) * Q + Q * ul y = 18446744073709551616 * Q := by rw [Nat.mul_comm Q, ← Nat.add_mul]; congr 1; omega
    generalize (18446744073709551616 - Q) * ul y = V at *
    generalize (18446744073709551616 - ul y) * Q = W at *
    generalize Q * ul y = Z at *
    omega
  · rw [x0 a, y0 b, fi_neg a, fi_pos (Iff.intro (fun q => absurd q a) (fun q => absurd q b)), ul_sub, ul_mul]
    have d1 := Nat.div_add_mod (ul x) (ul y)
    have d2 := Nat.mod_lt (ul x) h0
    have d3 : ul x / ul y ≤ ul x := Nat.div_le_self _ _
    generalize ul x / ul y = Q at *
    generalize ul x % ul y = R at *
    rw [lN_m R (by omega), lN_m Q (by omega)]
    have d4 : Q * ul y = ul y * Q := Nat.mul_comm _ _
    rw [d4]
    generalize ul y * Q = W at *
    omega
theorem X106_divided (x y : Int64) (M : FM) : HX106_divided x y M ∧ GX106_divided x y M = (dq True x y, M) := by
  have k0 : (lg_cmp y (Int64.ofInt 0) = 0) ↔ y = 0 := lg_cmp_eq _ _
  have k1 : (lg_cmp y (Int64.ofInt (-1)) = 0) ↔ y = Int64.ofInt (-1) := lg_cmp_eq _ _
  refine ⟨?_, ?_⟩
  · simp only [HX106_divided_0, HX106_divided, k0, k1]
    exact ⟨fun _ => trivial, fun h => ⟨fun _ => trivial, fun _ => ⟨h, trivial⟩⟩⟩
  · simp only [GX106_divided_28, GX106_divided_0, GX106_divided]
    by_cases h : y = 0
    · rw [fi_pos (k0.mpr h), dq, fi_pos h]
    · rw [fi_neg (fun q => h (k0.mp q)), dq_div h]
      by_cases h1 : y = Int64.ofInt (-1)
      · rw [fi_pos (k1.mpr h1), div_l]
        subst h1
        have hx := ul_lt x
        have em : ul (dm True (Int64.ofInt (-1))) = 1 := by unfold dm; rw [fi_pos ⟨trivial, by decide⟩]; rfl
        rw [em, Nat.div_one, lN_ul]
        by_cases a : 9223372036854775808 ≤ ul x
        · rw [fi_pos ⟨fun _ => by decide, fun _ => a⟩, dm, fi_pos ⟨trivial, a⟩]
        · rw [fi_neg (fun q => a (q.mpr (by decide))), dm, fi_neg (fun q => a q.2)]
      · rw [fi_neg (fun q => h1 (k1.mp q))]
theorem X106_rest (x y : Int64) (M : FM) : HX106_rest x y M ∧ GX106_rest x y M = (dr True x y, M) := by
  have k0 : (lg_cmp y (Int64.ofInt 0) = 0) ↔ y = 0 := lg_cmp_eq _ _
  have k1 : (lg_cmp y (Int64.ofInt (-1)) = 0) ↔ y = Int64.ofInt (-1) := lg_cmp_eq _ _
  refine ⟨?_, ?_⟩
  · simp only [HX106_rest_0, HX106_rest, k0, k1]
    exact ⟨fun _ => trivial, fun h => ⟨fun _ => trivial, fun _ => ⟨h, trivial⟩⟩⟩
  · simp only [GX106_rest_25, GX106_rest_0, GX106_rest]
    by_cases h : y = 0
    · rw [fi_pos (k0.mpr h), dr, fi_pos h]
    · rw [fi_neg (fun q => h (k0.mp q))]
      by_cases h1 : y = Int64.ofInt (-1)
      · rw [fi_pos (k1.mpr h1), dr, fi_neg h]
        subst h1
        have em : ul (dm True (Int64.ofInt (-1))) = 1 := by unfold dm; rw [fi_pos ⟨trivial, by decide⟩]; rfl
        rw [em, Nat.mod_one]
        have z : -(lN 0) = lN 0 := by decide
        rw [z, fi_self]
        rfl
      · rw [fi_neg (fun q => h1 (k1.mp q)), dr_rem h]
theorem X106_quotient (x y : Int64) (M : FM) (h : ¬ y = 0) : HX106_quotient x y M ∧ GX106_quotient x y M = (lN (ul x / ul y), M) := by
  have hx := ul_lt x
  have hy := ul_lt y
  have h0 := ul_pos h
  refine ⟨⟨fun _ => ⟨h, trivial⟩, fun _ => trivial⟩, ?_⟩
  simp only [GX106_quotient_51, GX106_quotient_19, GX106_quotient_0, GX106_quotient, X106_isBelow]
  have e1 : ui (Int32.ofInt 1) % 64 = 1 := rfl
  by_cases b : ul y < 9223372036854775808
  · rw [fi_pos ((nneg_l y).mpr b)]
    have ea : ul (x.toUInt64 >>> ((Int32.ofInt 1).toInt64.toUInt64 &&& Int64.toUInt64 63)).toInt64 = ul x / 2 := by rw [ul_ushr, e1]
    have ed : ul ((x.toUInt64 >>> ((Int32.ofInt 1).toInt64.toUInt64 &&& Int64.toUInt64 63)).toInt64 / y) = ul x / 2 / ul y := by
      have n1 : ¬ 9223372036854775808 ≤ ul (x.toUInt64 >>> ((Int32.ofInt 1).toInt64.toUInt64 &&& Int64.toUInt64 63)).toInt64 := by rw [ea]; omega
      have n2 : ¬ 9223372036854775808 ≤ ul y := by omega
      rw [div_l, fi_pos (Iff.intro (fun q => absurd q n1) (fun q => absurd q n2)), dm, fi_neg (fun q => n1 q.2), dm, fi_neg (fun q => n2 q.2), ea]
      exact lN_m _ (Nat.lt_of_le_of_lt (Nat.div_le_self _ _) (by omega))
    have eq : ul (((x.toUInt64 >>> ((Int32.ofInt 1).toInt64.toUInt64 &&& Int64.toUInt64 63)).toInt64 / y) <<< ((Int32.ofInt 1).toInt64 &&& 63)) = 2 * (ul x / 2 / ul y) := by
      rw [ul_shl, ed, e1]
      have : ul x / 2 / ul y ≤ ul x / 2 := Nat.div_le_self _ _
      omega
    generalize ((x.toUInt64 >>> ((Int32.ofInt 1).toInt64.toUInt64 &&& Int64.toUInt64 63)).toInt64 / y) <<< ((Int32.ofInt 1).toInt64 &&& 63) = q at *
    have d := dv_step (A := ul x / 2) (b := ul y) (t := ul x % 2) h0 (Nat.mod_lt _ (by decide))
    rw [show 2 * (ul x / 2) + ul x % 2 = ul x by omega] at d
    have d1 := Nat.div_add_mod (ul x / 2) (ul y)
    have hq : ul x / 2 / ul y ≤ ul x / 2 := Nat.div_le_self _ _
    have er : ul (x - q * y) = 2 * (ul x / 2 % ul y) + ul x % 2 := by
      rw [ul_sub, ul_mul, eq]
      have c1 : 2 * (ul x / 2 / ul y) * ul y = 2 * (ul y * (ul x / 2 / ul y)) := by rw [Nat.mul_assoc, Nat.mul_comm (ul x / 2 / ul y)]
      rw [c1]
      generalize ul y * (ul x / 2 / ul y) = W at *
      omega
    by_cases z : ul (x - q * y) < ul y
    · rw [fi_neg (fun w => bz_0.mp w z)]
      rw [er] at z
      rw [if_pos z] at d
      refine Prod.ext (ul_inj ?_) rfl
      rw [lN_m _ (Nat.lt_of_le_of_lt (Nat.div_le_self _ _) hx), d.1, eq]
      omega
    · rw [fi_pos (bz_0.mpr z)]
      rw [er] at z
      rw [if_neg z] at d
      refine Prod.ext (ul_inj ?_) rfl
      rw [lN_m _ (Nat.lt_of_le_of_lt (Nat.div_le_self _ _) hx), d.1, ul_add, eq]
      show (2 * (ul x / 2 / ul y) + 1) % 18446744073709551616 = _
      have : ul x / ul y ≤ ul x := Nat.div_le_self _ _
      omega
  · rw [fi_neg (fun w => b ((nneg_l y).mp w))]
    by_cases z : ul x < ul y
    · rw [fi_neg (fun w => bz_0.mp w z), Nat.div_eq_of_lt z]
      rfl
    · rw [fi_pos (bz_0.mpr z)]
      have : ul x / ul y = 1 := Nat.div_eq_of_lt_le (by omega) (by omega)
      rw [this]
      rfl
