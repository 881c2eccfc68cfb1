/-! memory by its bits: the twin's rows -/
theorem msb_i (x : Int32) : x.toBitVec.msb = decide (2147483648 ≤ ui x) := by
  cases q : x.toBitVec.msb with
  | false => have := BitVec.msb_eq_false_iff_two_mul_lt.mp q; symm; rw [decide_eq_false_iff_not]; show ¬ _ ≤ x.toBitVec.toNat; omega
  | true => have := BitVec.msb_eq_true_iff_two_mul_ge.mp q; symm; rw [decide_eq_true_iff]; show _ ≤ x.toBitVec.toNat; omega
theorem i_div {x y : Int32} (hx : ui x < 2147483648) (hy : ui y < 2147483648) : ui (x / y) = ui x / ui y := by
  unfold ui
  rw [Int32.toBitVec_div, BitVec.sdiv_eq, msb_i, msb_i, decide_eq_false (by omega), decide_eq_false (by omega)]
  exact BitVec.toNat_udiv
theorem i_rem {x y : Int32} (hx : ui x < 2147483648) (hy : ui y < 2147483648) : ui (x - x / y * y) = ui x % ui y := by
  have e := Nat.div_add_mod (ui x) (ui y)
  have h2 : ui x / ui y * ui y ≤ ui x := Nat.div_mul_le_self _ _
  rw [ui_sub, ui_mul, i_div hx hy]
  rw [Nat.mul_comm] at e
  rw [Nat.mod_eq_of_lt (a := ui x / ui y * ui y) (by omega)]
  omega
theorem l_rem {x y : Int64} (hx : ul x < 9223372036854775808) (hy : ul y < 9223372036854775808) : ul (x - x / y * y) = ul x % ul y := by
  have e := Nat.div_add_mod (ul x) (ul y)
  have h2 : ul x / ul y * ul y ≤ ul x := Nat.div_mul_le_self _ _
  rw [ul_sub, ul_mul, l_div hx hy]
  rw [Nat.mul_comm] at e
  rw [Nat.mod_eq_of_lt (a := ul x / ul y * ul y) (by omega)]
  omega
/-- bit n of memory, the twin's -/
def tmb (M : FM) (c n : Nat) : Bool := lb (M.2.1 3 (M.2.2 388 c 0) (n / 64)) (n % 64)
theorem lb_256 (x : Int64) (y : Int32) (h : ui y < 256) (i : Nat) (hi : i < 64) : lb (Int64.ofInt 256 * x + y.toInt64) i = if i < 8 then ib y i else lb x (i - 8) := by
  unfold lb ib
  rw [ul_add, ul_mul, ul_sext, if_pos (by omega), show ul (Int64.ofInt 256) = 2 ^ 8 from rfl, Nat.mod_add_mod, show (18446744073709551616 : Nat) = 2 ^ 64 from rfl, Nat.testBit_mod_two_pow, decide_eq_true hi, Bool.true_and, Nat.testBit_two_pow_mul_add _ (show ui y < 2 ^ 8 from h)]
section Tr
variable {c : Nat} {M : FM} {a : Int64} {o : Nat}
theorem tr_o (ho : ul a = 2147483648 + o) (hb : o < 4194304) : ui (a - Int64.ofInt 2147483648).toInt32 = o := by
  rw [ui_low, ul_sub, ho, show ul (Int64.ofInt 2147483648) = 2147483648 from rfl]
  omega
theorem tr_8 {x : Int32} (h : ui x = o) (hb : o < 4194304) : ui (x / Int32.ofInt 8) = o / 8 ∧ (x / Int32.ofInt 8).toNatClampNeg = o / 8 ∧ ui (Int32.ofInt 8 * (x - x / Int32.ofInt 8 * Int32.ofInt 8)) = 8 * (o % 8) := by
  have e1 : ui (x / Int32.ofInt 8) = o / 8 := by rw [i_div (by omega) (by decide), h]; rfl
  refine ⟨e1, by rw [cl_ui (by omega), e1], ?_⟩
  rw [ui_mul, i_rem (by omega) (by decide), h, show ui (Int32.ofInt 8) = 8 from rfl]
  omega
theorem X93_get (T : Ty M) (n : fm_is M 98 98 c = true) (ho : ul a = 2147483648 + o) (hb : o < 4194304) :
    HX93_get c a M ∧ ∃ v, GX93_get c a M = (v, M) ∧ ui v < 256 ∧ ∀ i, i < 8 → ib v i = tmb M c (8 * o + i) := by
  have e := tr_o ho hb
  obtain ⟨e1, e2, e3⟩ := tr_8 e hb
  unfold HX93_get HX93_get_0 GX93_get GX93_get_0
  dsimp only
  refine ⟨⟨in_u (tL_388 T.1 n) (by rw [e1]; omega) (by decide), trivial⟩, _, rfl, ?_, fun i hi => ?_⟩
  · rw [ui_and, show ui (Int32.ofInt 255) = 2 ^ 8 - 1 from rfl, Nat.and_two_pow_sub_one_eq_mod]
    exact Nat.mod_lt _ (by decide)
  · rw [ib_and, ib_mask (Int32.ofInt 255) (k := 8) rfl, decide_eq_true hi, Bool.and_true, ib_low, decide_eq_true (show i < 32 by omega), Bool.true_and, lb_ushr _ _ (k := 8 * (o % 8)) (by rw [e3]; omega), e2]
    unfold tmb
    rw [show (8 * o + i) / 64 = o / 8 from by omega, show (8 * o + i) % 64 = i + 8 * (o % 8) from by omega]
theorem X93_number_L (T : Ty M) (n : fm_is M 98 98 c = true) {s : Nat} (ho : ul a = 2147483648 + o) (h8 : s ≤ 8) (hb : o + s ≤ 4194304) :
    ∀ m j, m < j → m ≤ s → ∀ acc : Int64, (∀ i, lb acc i = (decide (i < 8 * (s - m)) && tmb M c (8 * (o + m) + i))) →
      ∃ v, FX93_number_L8 fN j c a acc (nI m + Int32.ofInt (-1)) M = some (v, M) ∧ ∀ i, lb v i = (decide (i < 8 * s) && tmb M c (8 * o + i)) := by
  intro m
  induction m with
  | zero =>
    intro j hj hm acc ha
    obtain ⟨j, rfl⟩ : ∃ i, j = i + 1 := ⟨j - 1, by omega⟩
    refine ⟨acc, ?_, ha⟩
    show FX93_number_8 fN (FX93_number_L8 fN j) _ _ _ _ _ = _
    rw [(gX93_number_8 _ _ _ _ _ M T n ⟨fun _ => trivial, fun q => absurd dn_0 q⟩).1]
    unfold GX93_number_8
    rw [fi_pos dn_0]
    rfl
  | succ m ih =>
    intro j hj hm acc ha
    obtain ⟨j, rfl⟩ : ∃ i, j = i + 1 := ⟨j - 1, by omega⟩
    show ∃ v, FX93_number_8 fN (FX93_number_L8 fN j) _ _ _ _ _ = _ ∧ _
    have ea : ul (a + (nI m).toInt64) = 2147483648 + (o + m) := by
      rw [ul_add, ho, ul_sext, ui_nI]
      rw [if_pos (by omega)]
      omega
    obtain ⟨g1, v, g2, g3, g4⟩ := X93_get T n ea (by omega)
    rw [dn_k m (by omega)]
    rw [(gX93_number_8 _ _ _ _ _ M T n ⟨fun q => absurd q (dn_n (by omega)), fun _ => ⟨g1, trivial⟩⟩).1]
    unfold GX93_number_8
    rw [fi_neg (dn_n (by omega)), g2]
    refine ih j (by omega) (by omega) _ (fun i => ?_)
    by_cases hi : i < 64
    · rw [lb_256 _ _ g3 i hi]
      split
      · rename_i q
        rw [g4 i q, decide_eq_true (by omega), Bool.true_and]
      · rename_i q
        rw [ha, show 8 * (o + (m + 1)) + (i - 8) = 8 * (o + m) + i from by omega]
        congr 1
        exact decide_eq_decide.mpr (by omega)
    · rw [lb_ge _ (by omega), decide_eq_false (by omega), Bool.false_and]
theorem X93_number (T : Ty M) (n : fm_is M 98 98 c = true) {s : Nat} {sz : Int32} (hs : ui sz = s) (ho : ul a = 2147483648 + o) (h8 : s ≤ 8) (hb : o + s ≤ 4194304) :
    HX93_number c a sz M ∧ ∃ v, GX93_number c a sz M = (v, M) ∧ ∀ i, lb v i = (decide (i < 8 * s) && tmb M c (8 * o + i)) := by
  obtain ⟨v, h, hv⟩ := X93_number_L T n ho h8 hb s fN (by unfold fN; omega) (Nat.le_refl _) (Int64.ofInt 0) (fun i => by rw [lb_0, decide_eq_false (by omega), Bool.false_and])
  have e : sz - Int32.ofInt 1 = nI s + Int32.ofInt (-1) := by
    apply ui_inj
    rw [ui_sub, ui_add, ui_nI, hs, show ui (Int32.ofInt 1) = 1 from rfl, show ui (Int32.ofInt (-1)) = 4294967295 from rfl]
    omega
  have k : FX93_number fN c a sz M = some (v, M) := by
    show FX93_number_0 fN (FX93_number_L8 fN fN) c a sz M = _
    rw [(gX93_number_0 _ _ _ _ M T).1]
    show FX93_number_L8 fN fN c a (Int64.ofInt 0) (sz - Int32.ofInt 1) M = _
    rw [e]
    exact h
  obtain ⟨h1, h2⟩ := op_of (P := OkR M) (d := (0, M)) k ⟨T, ext_r _⟩
  exact ⟨h1, v, h2, hv⟩
end Tr
