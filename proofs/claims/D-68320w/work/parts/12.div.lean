/-! divisions -/
theorem sL_same (M : FM) (f a i : Nat) (v w : Int64) : fm_sL (fm_sL M f a i v) f a i w = fm_sL M f a i w := by
  unfold fm_sL
  congr 2
  funext f' a' i'
  show (if f' = f ∧ a' = a ∧ i' = i then w else if f' = f ∧ a' = a ∧ i' = i then v else M.2.1 f' a' i') = if f' = f ∧ a' = a ∧ i' = i then w else M.2.1 f' a' i'
  by_cases h : f' = f ∧ a' = a ∧ i' = i
  · rw [if_pos h, if_pos h]
  · rw [if_neg h, if_neg h, if_neg h]
theorem sL_comm (M : FM) {f a i f2 a2 i2 : Nat} (h : ¬ (f = f2 ∧ a = a2 ∧ i = i2)) (v w : Int64) : fm_sL (fm_sL M f a i v) f2 a2 i2 w = fm_sL (fm_sL M f2 a2 i2 w) f a i v := by
  unfold fm_sL
  congr 2
  funext f' a' i'
  show (if f' = f2 ∧ a' = a2 ∧ i' = i2 then w else if f' = f ∧ a' = a ∧ i' = i then v else M.2.1 f' a' i') = if f' = f ∧ a' = a ∧ i' = i then v else if f' = f2 ∧ a' = a2 ∧ i' = i2 then w else M.2.1 f' a' i'
  by_cases p : f' = f2 ∧ a' = a2 ∧ i' = i2
  · have q : ¬ (f' = f ∧ a' = a ∧ i' = i) := fun q => h ⟨q.1.symm.trans p.1, q.2.1.symm.trans p.2.1, q.2.2.symm.trans p.2.2⟩
    rw [if_pos p, if_neg q, if_pos p]
  · rw [if_neg p, if_neg p]
theorem sL_at (M : FM) (f a i : Nat) (v : Int64) : (fm_sL M f a i v).2.1 f a i = v := if_pos ⟨rfl, rfl, rfl⟩
/-- quotient and rest of a core -/
def dQ (c : Nat) (q r : Int64) (M : FM) : FM := fm_sL (fm_sL M 356 c 0 q) 357 c 0 r
theorem dQ_q (c : Nat) (q r : Int64) (M : FM) : (dQ c q r M).2.1 356 c 0 = q := by
  unfold dQ
  rw [rL, if_neg (by simp), sL_at]
theorem dQ_r (c : Nat) (q r : Int64) (M : FM) : (dQ c q r M).2.1 357 c 0 = r := sL_at ..
theorem dQ_sr (c : Nat) (q r r' : Int64) (M : FM) : fm_sL (dQ c q r M) 357 c 0 r' = dQ c q r' M := sL_same ..
theorem dQ_sq (c : Nat) (q r q' : Int64) (M : FM) : fm_sL (dQ c q r M) 356 c 0 q' = dQ c q' r M := by
  unfold dQ
  rw [sL_comm _ (by simp), sL_same]
theorem dQ_ty {c : Nat} {q r : Int64} {M : FM} (T : Ty M) : Ty (dQ c q r M) := ⟨T.1, T.2⟩
theorem dQ_is {c : Nat} {q r : Int64} {M : FM} {lo hi a : Nat} (h : fm_is M lo hi a = true) : fm_is (dQ c q r M) lo hi a = true := h
theorem dQ_ext {c : Nat} {q r : Int64} {M : FM} : Ext M (dQ c q r M) := fun _ _ => ⟨rfl, rfl⟩
theorem dv_step {A b t : Nat} (hb : 0 < b) (ht : t < 2) : (2 * A + t) / b = 2 * (A / b) + (if 2 * (A % b) + t < b then 0 else 1) ∧ (2 * A + t) % b = (if 2 * (A % b) + t < b then 2 * (A % b) + t else 2 * (A % b) + t - b) := by
  have h1 : A = b * (A / b) + A % b := (Nat.div_add_mod _ _).symm
  have h2 : A % b < b := Nat.mod_lt _ hb
  have h3 : b * (2 * (A / b)) = 2 * (b * (A / b)) := Nat.mul_left_comm _ _ _
  split
  · rename_i q
    have e : 2 * A + t = (2 * (A % b) + t) + b * (2 * (A / b)) := by omega
    rw [e, Nat.add_mul_div_left _ _ hb, Nat.add_mul_mod_self_left, Nat.div_eq_of_lt q, Nat.mod_eq_of_lt q]
    omega
  · rename_i q
    have h4 : b * (2 * (A / b) + 1) = 2 * (b * (A / b)) + b := by rw [Nat.mul_add, h3, Nat.mul_one]
    have e : 2 * A + t = (2 * (A % b) + t - b) + b * (2 * (A / b) + 1) := by omega
    have q2 : 2 * (A % b) + t - b < b := by omega
    rw [e, Nat.add_mul_div_left _ _ hb, Nat.add_mul_mod_self_left, Nat.div_eq_of_lt q2, Nat.mod_eq_of_lt q2]
    omega
theorem X98_divide_L (c : Nat) (A B : Int64) (M : FM) (T : Ty M) (n_c : fm_is M 94 94 c = true) (hb : 0 < ul B) : ∀ (r j : Nat), r < j → r ≤ 64 →
    FX98_divide_L14 fN j c A B (nI r + Int32.ofInt (-1)) (dQ c (lN (ul A / 2 ^ r / ul B)) (lN (ul A / 2 ^ r % ul B)) M) = some (dQ c (lN (ul A / ul B)) (lN (ul A % ul B)) M) := by
  intro r
  induction r with
  | zero =>
    intro j hj _
    obtain ⟨j, rfl⟩ : ∃ i, j = i + 1 := ⟨j - 1, by omega⟩
    show FX98_divide_14 fN (FX98_divide_L14 fN j) _ _ _ _ _ = _
    rw [(gX98_divide_14 _ _ _ _ _ _ (dQ_ty T) (dQ_is n_c)).1]
    unfold GX98_divide_14
    rw [fi_pos dn_0, Nat.pow_zero, Nat.div_one]
    rfl
  | succ r ih =>
    intro j hj hr
    obtain ⟨j, rfl⟩ : ∃ i, j = i + 1 := ⟨j - 1, by omega⟩
    show FX98_divide_14 fN (FX98_divide_L14 fN j) _ _ _ _ _ = _
    rw [(gX98_divide_14 _ _ _ _ _ _ (dQ_ty T) (dQ_is n_c)).1]
    have hA := ul_lt A
    have hB := ul_lt B
    have hbit := bit_l A (nI r) (k := r) (by omega) (by rw [ui_nI]; omega)
    have ht : ul A / 2 ^ r % 2 < 2 := Nat.mod_lt _ (by decide)
    have eA : ul A / 2 ^ r = 2 * (ul A / 2 ^ (r + 1)) + ul A / 2 ^ r % 2 := by
      rw [show 2 ^ (r + 1) = 2 ^ r * 2 from rfl, ← Nat.div_div_eq_div_mul]
      omega
    obtain ⟨d1, d2⟩ := dv_step (A := ul A / 2 ^ (r + 1)) (t := ul A / 2 ^ r % 2) hb ht
    rw [← eA] at d1 d2
    have hle : ul A / 2 ^ (r + 1) < 18446744073709551616 := Nat.lt_of_le_of_lt (Nat.div_le_self _ _) hA
    have hq : ul A / 2 ^ (r + 1) / ul B < 18446744073709551616 := Nat.lt_of_le_of_lt (Nat.div_le_self _ _) hle
    have hm : ul A / 2 ^ (r + 1) % ul B < ul B := Nat.mod_lt _ hb
    have hq2 : ul A / 2 ^ r / ul B < 18446744073709551616 := Nat.lt_of_le_of_lt (Nat.div_le_self _ _) (Nat.lt_of_le_of_lt (Nat.div_le_self _ _) hA)
    generalize ul A / 2 ^ (r + 1) / ul B = Q at *
    generalize ul A / 2 ^ (r + 1) % ul B = R at *
    generalize ul A / 2 ^ r / ul B = Q2 at *
    generalize ul A / 2 ^ r % ul B = R2 at *
    generalize ul A / 2 ^ r % 2 = t at *
    have e2 : ul (Int64.ofInt 2) = 2 := rfl
    have e1 : ul (Int64.ofInt 1) = 1 := rfl
    have eR : ul (Int64.ofInt 2 * lN R + ((A >>> ((nI r).toInt64 &&& 63)) &&& Int64.ofInt 1)) = (2 * R + t) % 18446744073709551616 := by
      rw [ul_add, ul_mul, hbit, e2, lN_m R (by omega)]
      omega
    have eQ : ul (Int64.ofInt 2 * lN Q) = 2 * Q % 18446744073709551616 := by
      rw [ul_mul, e2, lN_m Q (by omega)]
    -- what comes out of a step
    have goal1 : 2 * R + t < ul B → FX98_divide_L14 fN j c A B (nI r + Int32.ofInt (-1)) (dQ c (Int64.ofInt 2 * lN Q) (Int64.ofInt 2 * lN R + ((A >>> ((nI r).toInt64 &&& 63)) &&& Int64.ofInt 1)) M) = some (dQ c (lN (ul A / ul B)) (lN (ul A % ul B)) M) := by
      intro q
      rw [if_pos q] at d1 d2
      have g1 : Int64.ofInt 2 * lN Q = lN Q2 := by
        apply ul_inj
        rw [eQ, lN_m Q2 (by omega)]
        omega
      have g2 : Int64.ofInt 2 * lN R + ((A >>> ((nI r).toInt64 &&& 63)) &&& Int64.ofInt 1) = lN R2 := by
        apply ul_inj
        rw [eR, lN_m R2 (by omega)]
        omega
      rw [g1, g2]
      exact ih j (by omega) (by omega)
    have goal2 : ¬ 2 * R + t < ul B → FX98_divide_L14 fN j c A B (nI r + Int32.ofInt (-1)) (dQ c (Int64.ofInt 2 * lN Q + Int64.ofInt 1) (Int64.ofInt 2 * lN R + ((A >>> ((nI r).toInt64 &&& 63)) &&& Int64.ofInt 1) - B) M) = some (dQ c (lN (ul A / ul B)) (lN (ul A % ul B)) M) := by
      intro q
      rw [if_neg q] at d1 d2
      have g1 : Int64.ofInt 2 * lN Q + Int64.ofInt 1 = lN Q2 := by
        apply ul_inj
        rw [ul_add, eQ, e1, lN_m Q2 (by omega)]
        omega
      have g2 : Int64.ofInt 2 * lN R + ((A >>> ((nI r).toInt64 &&& 63)) &&& Int64.ofInt 1) - B = lN R2 := by
        apply ul_inj
        rw [ul_sub, eR, lN_m R2 (by omega)]
        omega
      rw [g1, g2]
      exact ih j (by omega) (by omega)
    have ds : ∀ s0 : Int32, GX98_divide_33 c A B (nI r) s0 (dQ c (lN Q) (lN R) M) = fi (s0 = 0) (fi (2 * R + t < ul B ∨ 18446744073709551616 ≤ 2 * R + t ∧ 2 * R + t < ul B + 18446744073709551616)
        (.inl (c, A, B, nI r + Int32.ofInt (-1), dQ c (Int64.ofInt 2 * lN Q) (Int64.ofInt 2 * lN R + ((A >>> ((nI r).toInt64 &&& 63)) &&& Int64.ofInt 1)) M))
        (.inl (c, A, B, nI r + Int32.ofInt (-1), dQ c (Int64.ofInt 2 * lN Q + Int64.ofInt 1) (Int64.ofInt 2 * lN R + ((A >>> ((nI r).toInt64 &&& 63)) &&& Int64.ofInt 1) - B) M)))
        (.inl (c, A, B, nI r + Int32.ofInt (-1), dQ c (Int64.ofInt 2 * lN Q + Int64.ofInt 1) (Int64.ofInt 2 * lN R + ((A >>> ((nI r).toInt64 &&& 63)) &&& Int64.ofInt 1) - B) M)) := by
      intro s0
      unfold GX98_divide_33 GX98_divide_82 GX98_divide_102
      dsimp only
      simp only [X98_isLess, dQ_r, dQ_q, dQ_sr, dQ_sq]
      by_cases z : s0 = 0
      · rw [fi_pos z, fi_pos z]
        by_cases y : 2 * R + t < ul B ∨ 18446744073709551616 ≤ 2 * R + t ∧ 2 * R + t < ul B + 18446744073709551616
        · rw [fi_pos y, fi_neg (fun w => bz_0.mp w (by rw [eR]; omega))]
        · rw [fi_neg y, fi_pos (bz_0.mpr (by rw [eR]; omega))]
      · rw [fi_neg z, fi_neg z]
    unfold GX98_divide_14
    rw [dn_k r (by omega), fi_neg (dn_n (by omega)), dQ_r, ds, ds]
    by_cases far : ul (lN R) < 9223372036854775808
    · rw [fi_pos ((nneg_l _).mpr far), fi_pos (show Int32.ofInt 0 = 0 from rfl)]
      rw [lN_m R (by omega)] at far
      by_cases q : 2 * R + t < ul B
      · rw [fi_pos (Or.inl q)]
        exact goal1 q
      · rw [fi_neg (by omega)]
        exact goal2 q
    · rw [fi_neg (fun w => far ((nneg_l _).mp w)), fi_neg (show ¬ Int32.ofInt 1 = 0 by decide)]
      rw [lN_m R (by omega)] at far
      exact goal2 (by omega)
theorem X98_divide (c : Nat) (A B : Int64) (M : FM) (T : Ty M) (n_c : fm_is M 94 94 c = true) (hb : 0 < ul B) : HX98_divide c A B M ∧ GX98_divide c A B M = dQ c (lN (ul A / ul B)) (lN (ul A % ul B)) M := by
  refine op_of ?_ ⟨dQ_ty T, dQ_ext⟩
  show FX98_divide_0 fN (FX98_divide_L14 fN fN) c A B M = _
  rw [(gX98_divide_0 _ _ _ _ M T n_c).1]
  have hA := ul_lt A
  have z : ul A / 2 ^ 64 = 0 := Nat.div_eq_of_lt hA
  have k := X98_divide_L c A B M T n_c hb 64 fN (by unfold fN; omega) (by omega)
  rw [z, Nat.zero_div, Nat.zero_mod] at k
  exact k
