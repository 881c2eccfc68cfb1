/-! memory by its bits: the component's pages -/
theorem i_le {x y : Int32} (hx : ui x < 2147483648) (hy : ui y < 2147483648) : x ≤ y ↔ ui x ≤ ui y := by rw [le_ti, ti, ti, if_pos hx, if_pos hy]; omega
theorem i_lt {x y : Int32} (hx : ui x < 2147483648) (hy : ui y < 2147483648) : x < y ↔ ui x < ui y := by rw [lt_ti, ti, ti, if_pos hx, if_pos hy]; omega
theorem l_le {x y : Int64} (hx : ul x < 9223372036854775808) (hy : ul y < 9223372036854775808) : x ≤ y ↔ ul x ≤ ul y := by rw [le_tl, tl, tl, if_pos hx, if_pos hy]; omega
theorem l_lt {x y : Int64} (hx : ul x < 9223372036854775808) (hy : ul y < 9223372036854775808) : x < y ↔ ul x < ul y := by rw [lt_tl, tl, tl, if_pos hx, if_pos hy]; omega
theorem cl_ui {x : Int32} (h : ui x < 2147483648) : x.toNatClampNeg = ui x := by rw [clamp, if_pos h]
theorem in_u {M : FM} {a N : Nat} {i : Int32} (h : M.2.2 1 a 0 = N) (hk : ui i < N) (hN : N ≤ 2147483648) : fm_in M a i = true := by
  unfold fm_in
  rw [h, cl_ui (by omega), Bool.and_eq_true]
  refine ⟨?_, decide_eq_true hk⟩
  rw [decide_eq_false (fun q => ?_)]
  · rfl
  · rw [lt_ti, ti, if_pos (by omega)] at q
    have : (0 : Int32).toInt = 0 := rfl
    omega
theorem X91_mask {sz : Int32} {s : Nat} (hs : ui sz = s) (h1 : 1 ≤ s) (h8 : s ≤ 8) (M : FM) : ∃ m, GX91_mask sz M = (m, M) ∧ ∀ i, i < 64 → lb m i = decide (i < 8 * s) := by
  simp only [GX91_mask_20, GX91_mask_0, GX91_mask, fi_if]
  by_cases h : sz = Int32.ofInt 8
  · rw [if_pos h]
    have e8 : s = 8 := by rw [← hs, h]; rfl
    refine ⟨_, rfl, fun i hi => ?_⟩
    rw [lb_m1 i hi, decide_eq_true (by omega)]
  · rw [if_neg h]
    refine ⟨_, rfl, fun i hi => ?_⟩
    have h7 : s ≠ 8 := fun e => h (ui_inj (by rw [hs, e]; rfl))
    have em : ui (Int32.ofInt 8 * sz) % 64 = 8 * s := by
      rw [ui_mul, hs, show ui (Int32.ofInt 8) = 8 from rfl]
      omega
    refine lb_mask _ ?_ i
    rw [ul_sub, ul_shl, em, show ul (Int64.ofInt 1) = 1 from rfl]
    have hc : s = 1 ∨ s = 2 ∨ s = 3 ∨ s = 4 ∨ s = 5 ∨ s = 6 ∨ s = 7 := by omega
    rcases hc with rfl | rfl | rfl | rfl | rfl | rfl | rfl <;> rfl
section Pg
variable {a : Nat} {M : FM} {at_ sz : Int32} {o s : Nat}
theorem pg_w (ho : ui at_ = o) (hb : o < 4096) : ui (at_ >>> (Int32.ofInt 3 &&& 31)) = o / 8 := by
  rw [ui_sar0 _ _ (by omega), ho]
  rfl
theorem pg_f (ho : ui at_ = o) (hb : o < 4096) : ui (Int32.ofInt 8 * (at_ &&& Int32.ofInt 7)) = 8 * (o % 8) := by
  rw [ui_mul, ui_and, ho, show ui (Int32.ofInt 8) = 8 from rfl, show ui (Int32.ofInt 7) = 2 ^ 3 - 1 from rfl, Nat.and_two_pow_sub_one_eq_mod]
  omega
theorem pg_c (ho : ui at_ = o) (hb : o < 4096) (hs : ui sz = s) (h8 : s ≤ 8) : (Int32.ofInt 8 * (at_ &&& Int32.ofInt 7)) + (Int32.ofInt 8 * sz) ≤ Int32.ofInt 64 ↔ 8 * (o % 8) + 8 * s ≤ 64 := by
  have e : ui ((Int32.ofInt 8 * (at_ &&& Int32.ofInt 7)) + (Int32.ofInt 8 * sz)) = 8 * (o % 8) + 8 * s := by
    rw [ui_add, pg_f ho hb, ui_mul, hs, show ui (Int32.ofInt 8) = 8 from rfl]
    omega
  rw [i_le (by rw [e]; omega) (by decide), e]
  rfl
theorem X91_get (T : Ty M) (n : fm_is M 72 72 a = true) (ho : ui at_ = o) (hs : ui sz = s) (h1 : 1 ≤ s) (h8 : s ≤ 8) (hb : o + s ≤ 4096) :
    HX91_get a at_ sz M ∧ ∃ v, GX91_get a at_ sz M = (v, M) ∧ ∀ i, lb v i = (decide (i < 8 * s) && lb (M.2.1 3 (M.2.2 201 a 0) ((8 * o + i) / 64)) ((8 * o + i) % 64)) := by
  obtain ⟨m, em, hm⟩ := X91_mask hs h1 h8 M
  have ho' : o < 4096 := by omega
  have e1 := pg_w ho ho'
  have e2 := pg_f ho ho'
  have e3 := pg_c (sz := sz) ho ho' hs h8
  have hl := tL_201 T.1 n
  have i1 := in_u (i := at_ >>> (Int32.ofInt 3 &&& 31)) hl (by rw [e1]; omega) (by decide)
  have c1 : (at_ >>> (Int32.ofInt 3 &&& 31)).toNatClampNeg = o / 8 := by rw [cl_ui (by rw [e1]; omega), e1]
  unfold HX91_get HX91_get_0 GX91_get GX91_get_0 GX91_get_55
  dsimp only
  by_cases hc : 8 * (o % 8) + 8 * s ≤ 64
  · have hc' := e3.mpr hc
    rw [fi_pos hc', em]
    refine ⟨⟨i1, fun _ => trivial, fun q => absurd hc' q⟩, _, rfl, fun i => ?_⟩
    rw [lb_and, lb_ushr _ _ (k := 8 * (o % 8)) (by rw [e2]; omega), c1]
    by_cases hi : i < 8 * s
    · rw [hm i (by omega), decide_eq_true hi, Bool.and_true, Bool.true_and, show (8 * o + i) / 64 = o / 8 from by omega, show (8 * o + i) % 64 = i + 8 * (o % 8) from by omega]
    · rw [decide_eq_false hi, Bool.false_and]
      by_cases h64 : i < 64
      · rw [hm i h64, decide_eq_false hi, Bool.and_false]
      · rw [lb_ge m (by omega), Bool.and_false]
  · have hc' := fun q => hc (e3.mp q)
    have e5 : ui ((at_ >>> (Int32.ofInt 3 &&& 31)) + Int32.ofInt 1) = o / 8 + 1 := by
      rw [ui_add, e1, show ui (Int32.ofInt 1) = 1 from rfl]
      omega
    have i2 := in_u (i := (at_ >>> (Int32.ofInt 3 &&& 31)) + Int32.ofInt 1) hl (by rw [e5]; omega) (by decide)
    have c2 : ((at_ >>> (Int32.ofInt 3 &&& 31)) + Int32.ofInt 1).toNatClampNeg = o / 8 + 1 := by rw [cl_ui (by rw [e5]; omega), e5]
    have e6 : ui (Int32.ofInt 64 - (Int32.ofInt 8 * (at_ &&& Int32.ofInt 7))) % 64 = 64 - 8 * (o % 8) := by
      rw [ui_sub, e2, show ui (Int32.ofInt 64) = 64 from rfl]
      omega
    rw [fi_neg hc', em]
    refine ⟨⟨i1, fun q => absurd q hc', fun _ => ⟨i2, trivial⟩⟩, _, rfl, fun i => ?_⟩
    rw [lb_and, lb_or, lb_ushr _ _ (k := 8 * (o % 8)) (by rw [e2]; omega), lb_shl _ _ e6, c1, c2]
    by_cases hi : i < 8 * s
    · rw [hm i (by omega), decide_eq_true hi, Bool.and_true, Bool.true_and, decide_eq_true (show i < 64 by omega), Bool.true_and]
      by_cases hq : 64 - 8 * (o % 8) ≤ i
      · rw [decide_eq_true hq, Bool.true_and, lb_ge _ (show 64 ≤ i + 8 * (o % 8) by omega), Bool.false_or, show (8 * o + i) / 64 = o / 8 + 1 from by omega, show (8 * o + i) % 64 = i - (64 - 8 * (o % 8)) from by omega]
      · rw [decide_eq_false hq, Bool.false_and, Bool.or_false, show (8 * o + i) / 64 = o / 8 from by omega, show (8 * o + i) % 64 = i + 8 * (o % 8) from by omega]
    · rw [decide_eq_false hi, Bool.false_and]
      by_cases h64 : i < 64
      · rw [hm i h64, decide_eq_false hi, Bool.and_false]
      · rw [lb_ge m (by omega), Bool.and_false]
/-- words of a page behind a put -/
theorem X91_put (T : Ty M) (n : fm_is M 72 72 a = true) (ho : ui at_ = o) (hs : ui sz = s) (h1 : 1 ≤ s) (h8 : s ≤ 8) (hb : o + s ≤ 4096) (v : Int64) :
    HX91_put a at_ sz v M ∧ ∀ k i, i < 64 → lb ((GX91_put a at_ sz v M).2.1 3 (M.2.2 201 a 0) k) i = if 8 * o ≤ 64 * k + i ∧ 64 * k + i < 8 * (o + s) then lb v (64 * k + i - 8 * o) else lb (M.2.1 3 (M.2.2 201 a 0) k) i := by
  obtain ⟨m, em, hm⟩ := X91_mask hs h1 h8 M
  have ho' : o < 4096 := by omega
  have e1 := pg_w ho ho'
  have e2 := pg_f ho ho'
  have e3 := pg_c (sz := sz) ho ho' hs h8
  have hl := tL_201 T.1 n
  have i1 := in_u (i := at_ >>> (Int32.ofInt 3 &&& 31)) hl (by rw [e1]; omega) (by decide)
  have c1 : (at_ >>> (Int32.ofInt 3 &&& 31)).toNatClampNeg = o / 8 := by rw [cl_ui (by rw [e1]; omega), e1]
  have e2m : ui (Int32.ofInt 8 * (at_ &&& Int32.ofInt 7)) % 64 = 8 * (o % 8) := by rw [e2]; omega
  have first : ∀ i, i < 64 → lb (((M.2.1 3 (M.2.2 201 a 0) (o / 8)) &&& ((m <<< ((Int32.ofInt 8 * (at_ &&& Int32.ofInt 7)).toInt64 &&& 63)) ^^^ (Int64.ofInt (-1)))) ||| ((v &&& m) <<< ((Int32.ofInt 8 * (at_ &&& Int32.ofInt 7)).toInt64 &&& 63))) i
      = if 8 * o ≤ 64 * (o / 8) + i ∧ 64 * (o / 8) + i < 8 * (o + s) then lb v (64 * (o / 8) + i - 8 * o) else lb (M.2.1 3 (M.2.2 201 a 0) (o / 8)) i := by
    intro i hi
    rw [lb_or, lb_and, lb_xor, lb_m1 i hi, lb_shl _ _ e2m, lb_shl _ _ e2m, lb_and, decide_eq_true hi, Bool.true_and]
    by_cases hq : 8 * (o % 8) ≤ i
    · rw [decide_eq_true hq, Bool.true_and, Bool.true_and, hm _ (by omega)]
      by_cases hz : i - 8 * (o % 8) < 8 * s
      · rw [decide_eq_true hz, if_pos (by omega), show 64 * (o / 8) + i - 8 * o = i - 8 * (o % 8) from by omega]
        simp
      · rw [decide_eq_false hz, if_neg (by omega)]
        simp
    · rw [decide_eq_false hq, if_neg (by omega)]
      simp
  unfold HX91_put HX91_put_0 GX91_put GX91_put_0 GX91_put_106
  rw [em]
  dsimp only
  rw [c1]
  by_cases hc : 8 * (o % 8) + 8 * s ≤ 64
  · have hc' := e3.mpr hc
    rw [fi_pos hc']
    refine ⟨⟨i1, i1, fun _ => trivial, fun q => absurd hc' q⟩, fun k i hi => ?_⟩
    rw [rL]
    by_cases hk : k = o / 8
    · subst hk
      rw [if_pos ⟨rfl, rfl, rfl⟩]
      exact first i hi
    · rw [if_neg (fun q => hk q.2.2), if_neg (by omega)]
  · have hc' := fun q => hc (e3.mp q)
    have e5 : ui ((at_ >>> (Int32.ofInt 3 &&& 31)) + Int32.ofInt 1) = o / 8 + 1 := by
      rw [ui_add, e1, show ui (Int32.ofInt 1) = 1 from rfl]
      omega
    have i2 := in_u (i := (at_ >>> (Int32.ofInt 3 &&& 31)) + Int32.ofInt 1) hl (by rw [e5]; omega) (by decide)
    have c2 : ((at_ >>> (Int32.ofInt 3 &&& 31)) + Int32.ofInt 1).toNatClampNeg = o / 8 + 1 := by rw [cl_ui (by rw [e5]; omega), e5]
    have e6 : ui (Int32.ofInt 64 - (Int32.ofInt 8 * (at_ &&& Int32.ofInt 7))) % 64 = 64 - 8 * (o % 8) := by
      rw [ui_sub, e2, show ui (Int32.ofInt 64) = 64 from rfl]
      omega
    rw [fi_neg hc', c2]
    refine ⟨⟨i1, i1, fun q => absurd q hc', fun _ => ⟨i2, i2, trivial⟩⟩, fun k i hi => ?_⟩
    rw [rL2, rL]
    by_cases hk : k = o / 8 + 1
    · subst hk
      rw [if_pos ⟨rfl, rfl, rfl⟩, rL, if_neg (fun q => by omega)]
      rw [lb_or, lb_and, lb_xor, lb_m1 i hi, lb_ushr _ _ e6, lb_ushr _ _ e6, lb_and]
      by_cases hz : i + (64 - 8 * (o % 8)) < 8 * s
      · rw [hm _ (by omega), decide_eq_true hz, if_pos (by omega), show 64 * (o / 8 + 1) + i - 8 * o = i + (64 - 8 * (o % 8)) from by omega]
        simp
      · have hm2 : lb m (i + (64 - 8 * (o % 8))) = false := by
          by_cases h64 : i + (64 - 8 * (o % 8)) < 64
          · rw [hm _ h64, decide_eq_false hz]
          · exact lb_ge _ (by omega)
        rw [hm2, if_neg (by omega)]
        simp
    · rw [if_neg (fun q => hk q.2.2), rL]
      by_cases hk2 : k = o / 8
      · subst hk2
        rw [if_pos ⟨rfl, rfl, rfl⟩]
        exact first i hi
      · rw [if_neg (fun q => hk2 q.2.2), if_neg (by omega)]
end Pg
