/-! floats: the twin's whole numbers, rows of 220 digits -/
set_option maxRecDepth 100000
theorem bzo {c : Prop} : bz c = Int32.ofInt 1 ↔ c := by
  by_cases h : c
  · rw [bz_t h]
    exact ⟨fun _ => h, fun _ => rfl⟩
  · rw [bz_f h]
    exact ⟨fun q => absurd q (by decide), fun q => absurd q h⟩
section Ni
variable {k : Nat} {z : Int}
theorem ni_ge (h : -1000000000 ≤ z ∧ z ≤ 1000000000 ∧ k ≤ 1000000000) : Int32.ofInt z ≤ nI k ↔ z ≤ (k : Int) := by rw [iz_nI]; exact iz_le (by omega)
theorem ni_le (h : -1000000000 ≤ z ∧ z ≤ 1000000000 ∧ k ≤ 1000000000) : nI k ≤ Int32.ofInt z ↔ (k : Int) ≤ z := by rw [iz_nI]; exact iz_le (by omega)
theorem ni_lt (h : -1000000000 ≤ z ∧ z ≤ 1000000000 ∧ k ≤ 1000000000) : nI k < Int32.ofInt z ↔ (k : Int) < z := by rw [iz_nI]; exact iz_lt (by omega)
theorem ni_eq (h : -1000000000 ≤ z ∧ z ≤ 1000000000 ∧ k ≤ 1000000000) : nI k = Int32.ofInt z ↔ (k : Int) = z := by rw [iz_nI]; exact iz_eq (by omega)
end Ni
theorem ni_div {n k : Nat} (h : n < 2147483648) (hk : k < 2147483648) : nI n / nI k = nI (n / k) := (Int32.ofNat_div (by omega) (by omega)).symm
theorem ni_sub {n k : Nat} (h : k ≤ n) : nI n - nI k = nI (n - k) := (Int32.ofNat_sub _ _ h).symm
theorem ni_rest {n k : Nat} (h : n < 2147483648) (hk : k < 2147483648) : nI n - nI n / nI k * nI k = nI (n % k) := by
  rw [ni_div h hk, nI_m, ni_sub (Nat.div_mul_le_self n k)]
  congr 1
  have := Nat.div_add_mod n k
  rw [Nat.mul_comm] at this
  omega
/-- how many bits a row has -/
def bD : Nat := 3520
theorem bD_e : bD = 3520 := rfl
/-- a row holds a number -/
def BH (M : FM) (a N : Nat) : Prop := N < 2 ^ bD ∧ ∀ k, k < 220 → ui (M.1 3 a k) = N / 2 ^ (16 * k) % 65536
/-- nothing is changed but what stands in a row -/
def AOk (a : Nat) (M N : FM) : Prop := Ty N ∧ N.2 = M.2 ∧ ∀ f b i, ¬ (f = 3 ∧ b = a) → N.1 f b i = M.1 f b i
section Bg
variable {M N X : FM} {a b c A B : Nat}
theorem aok_r (T : Ty M) : AOk a M M := ⟨T, rfl, fun _ _ _ _ => rfl⟩
theorem aok_is (h : AOk a M N) {lo hi x : Nat} (n : fm_is M lo hi x = true) : fm_is N lo hi x = true := by
  unfold fm_is at *
  rw [h.2.1]
  exact n
theorem aok_ln (h : AOk a M N) {x l : Nat} (n : M.2.2 1 x 0 = l) : N.2.2 1 x 0 = l := by
  rw [h.2.1]
  exact n
theorem aok_t (h : AOk a M N) (k : AOk a N X) : AOk a M X := ⟨k.1, k.2.1.trans h.2.1, fun f b i q => (k.2.2 f b i q).trans (h.2.2 f b i q)⟩
theorem aok_ext (h : AOk a M N) : Ext M N := fun x _ => by
  rw [h.2.1]
  exact ⟨rfl, rfl⟩
theorem aok_s {i : Nat} {v : Int32} (n : fm_is M 901 901 a = true) (h : AOk a M N) : AOk a M (fm_sI N 3 a i v) :=
  ⟨⟨h.1.1, tyb_s3 (by rfl) h.1.2 (aok_is h n)⟩, h.2.1, fun f b j q => by
    rw [← h.2.2 f b j q]
    exact if_neg (fun z => q ⟨z.1, z.2.1⟩)⟩
theorem aok_b (h : AOk a M N) (hb : b ≠ a) (B0 : BH M b B) : BH N b B := ⟨B0.1, fun k hk => by rw [h.2.2 3 b k (fun q => hb q.2)]; exact B0.2 k hk⟩
theorem bh_lt (h : BH M a A) {k : Nat} (hk : k < 220) : ui (M.1 3 a k) < 65536 := by
  rw [h.2 k hk]
  exact Nat.mod_lt _ (by decide)
theorem bh_ib (h : BH M a A) {k i : Nat} (hk : k < 220) : ib (M.1 3 a k) i = (decide (i < 16) && A.testBit (i + 16 * k)) := by
  unfold ib
  rw [h.2 k hk, show (65536 : Nat) = 2 ^ 16 from rfl, Nat.testBit_mod_two_pow, Nat.testBit_div_two_pow]
theorem bh_u (h : BH M a A) (k : BH M a B) : A = B := by
  apply Nat.eq_of_testBit_eq
  intro i
  by_cases q : i < 3520
  · have e1 := bh_ib h (k := i / 16) (i := i % 16) (by omega)
    have e2 := bh_ib k (k := i / 16) (i := i % 16) (by omega)
    rw [e1, show i % 16 + 16 * (i / 16) = i by omega, decide_eq_true (Nat.mod_lt _ (by decide)), Bool.true_and, Bool.true_and] at e2
    exact e2
  · rw [Nat.testBit_lt_two_pow (Nat.lt_of_lt_of_le h.1 (Nat.pow_le_pow_right (by decide) (by rw [bD_e]; omega))), Nat.testBit_lt_two_pow (Nat.lt_of_lt_of_le k.1 (Nat.pow_le_pow_right (by decide) (by rw [bD_e]; omega)))]
/-- a digit by its bits -/
theorem dig_ext {x : Int32} {V : Nat} (h : ∀ i, i < 32 → ib x i = (decide (i < 16) && V.testBit i)) : ui x = V % 65536 := by
  apply Nat.eq_of_testBit_eq
  intro i
  rw [show (65536 : Nat) = 2 ^ 16 from rfl, Nat.testBit_mod_two_pow]
  by_cases q : i < 32
  · exact h i q
  · have e := ib_ge x (i := i) (by omega)
    unfold ib at e
    rw [e, decide_eq_false (by omega), Bool.false_and]
theorem ul_bD (v : Int64) : ul v < 2 ^ bD := Nat.lt_of_lt_of_le (ul_lt v) (Nat.pow_le_pow_right (n := 2) (i := 64) (by decide) (by decide))
theorem dgw (v : Int64) {k : Nat} (hk : k < 4) : ((v.toUInt64 >>> ((Int32.ofInt 16 * nI k).toInt64.toUInt64 &&& Int64.toUInt64 63)).toInt64).toInt32 &&& Int32.ofInt 65535 = nI (ul v / 2 ^ (16 * k) % 65536) := by
  apply ui_inj
  have m := Nat.mod_lt (ul v / 2 ^ (16 * k)) (show 0 < 65536 by decide)
  rw [ui_and, show ui (Int32.ofInt 65535) = 2 ^ 16 - 1 from rfl, Nat.and_two_pow_sub_one_eq_mod, ui_low, ul_ushr, show Int32.ofInt 16 = nI 16 from rfl, nI_m, ui_nI, ui_nI, show 16 * k % 4294967296 % 64 = 16 * k by omega]
  omega
theorem X99_digit (v : Int64) {k : Nat} (hk : k < 4) : GX99_digit v (nI k) M = (nI (ul v / 2 ^ (16 * k) % 65536), M) := by
  unfold GX99_digit GX99_digit_0
  rw [dgw v hk]
theorem ni_u {n : Nat} (h : n < 4294967296) : ui (nI n) = n := by rw [ui_nI]; exact Nat.mod_eq_of_lt h
theorem ul_dig0 (v : Int64) {k : Nat} (hk : 4 ≤ k) : ul v / 2 ^ (16 * k) % 65536 = 0 := by
  rw [Nat.div_eq_of_lt (Nat.lt_of_lt_of_le (ul_lt v) (Nat.pow_le_pow_right (n := 2) (i := 64) (by decide) (by omega)))]
theorem X99_put_L (v : Int64) (n : fm_is M 901 901 a = true) (hl : M.2.2 1 a 0 = 220) : ∀ (r k J : Nat) (N : FM), AOk a M N → (∀ j, j < k → ui (N.1 3 a j) = ul v / 2 ^ (16 * j) % 65536) → k + r = 220 → r < J →
    ∃ X, FX99_put_L2 fN J a v (nI k) N = some X ∧ AOk a M X ∧ BH X a (ul v) := by
  intro r
  induction r with
  | zero =>
    intro k J N h hd hk hJ
    obtain ⟨J, rfl⟩ : ∃ x, J = x + 1 := ⟨J - 1, by omega⟩
    have c : Int32.ofInt 220 ≤ nI k := (ni_ge (by omega)).mpr (by omega)
    refine ⟨N, ?_, h, ul_bD v, fun j hj => hd j (by omega)⟩
    show FX99_put_2 fN (FX99_put_L2 fN J) a v (nI k) N = _
    rw [(gX99_put_2 (FX99_put_L2 fN J) a v (nI k) N h.1 (aok_is h n) ⟨fun _ => trivial, fun q => absurd c q⟩).1]
    unfold GX99_put_2
    rw [fi_pos c]
    rfl
  | succ r ih =>
    intro k J N h hd hk hJ
    obtain ⟨J, rfl⟩ : ∃ x, J = x + 1 := ⟨J - 1, by omega⟩
    have c : ¬ Int32.ofInt 220 ≤ nI k := fun q => by have := (ni_ge (by omega)).mp q; omega
    have i1 : fm_in N a (nI k) = true := in_nI (aok_ln h hl) (by omega) (by decide)
    have hG : GX99_put_2 a v (nI k) N = .inl (a, v, nI (k + 1), fm_sI N 3 a k (nI (ul v / 2 ^ (16 * k) % 65536))) := by
      unfold GX99_put_2 GX99_put_30
      rw [fi_neg c]
      dsimp only
      rw [o_cl (by omega), up_1 (by omega)]
      by_cases q : k < 4
      · rw [fi_neg (fun z => by have := (ni_ge (by omega)).mp z; omega), dgw v q]
      · rw [fi_pos ((ni_ge (by omega)).mpr (by omega)), ul_dig0 v (by omega)]
        rfl
    have G0 := (gX99_put_2 (FX99_put_L2 fN J) a v (nI k) N h.1 (aok_is h n) ⟨fun _ => trivial, fun _ => ⟨fun _ => ⟨i1, trivial⟩, fun _ => ⟨i1, trivial⟩⟩⟩).1
    rw [hG] at G0
    obtain ⟨X, x1, x2, x3⟩ := ih (k + 1) J (fm_sI N 3 a k (nI (ul v / 2 ^ (16 * k) % 65536))) (aok_s n h) (fun j hj => by
      rw [rI]
      have m := Nat.mod_lt (ul v / 2 ^ (16 * k)) (show 0 < 65536 by decide)
      by_cases q : j = k
      · rw [if_pos ⟨rfl, rfl, q⟩, q, ni_u (by omega)]
      · rw [if_neg (fun z => q z.2.2)]
        exact hd j (by omega)) (by omega) (by omega)
    exact ⟨X, G0.trans x1, x2, x3⟩
theorem X99_put (T : Ty M) (n : fm_is M 901 901 a = true) (hl : M.2.2 1 a 0 = 220) (v : Int64) : ∃ X, (HX99_put a v M ∧ GX99_put a v M = X) ∧ AOk a M X ∧ BH X a (ul v) := by
  obtain ⟨X, x1, x2, x3⟩ := X99_put_L v n hl 220 0 fN M (aok_r T) (fun j hj => by omega) rfl (by decide)
  have G0 := (gX99_put_0 (FX99_put_L2 fN fN) a v M T).1
  exact ⟨X, op_of (o := FX99_put fN a v M) (G0.trans x1) ⟨x2.1, aok_ext x2⟩, x2, x3⟩
theorem X99_bit (h : BH M a A) (hl : M.2.2 1 a 0 = 220) {z : Int} (hz : -1000000 ≤ z ∧ z ≤ 1000000) : HX99_bit a (Int32.ofInt z) M ∧ GX99_bit a (Int32.ofInt z) M = (bz (0 ≤ z ∧ A.testBit z.toNat = true), M) := by
  unfold HX99_bit HX99_bit_0 GX99_bit GX99_bit_0 GX99_bit_32 GX99_bit_33
  by_cases h0 : z < 0
  · have c : Int32.ofInt z < 0 := (iz_lt (b := 0) (by omega)).mpr h0
    rw [fi_pos c, bz_f (fun q => by omega)]
    exact ⟨⟨fun _ => trivial, fun q => absurd c q⟩, rfl⟩
  · have c : ¬ Int32.ofInt z < 0 := fun q => h0 ((iz_lt (b := 0) (by omega)).mp q)
    rw [fi_neg c]
    by_cases h1 : 3520 ≤ z
    · have c1 : Int32.ofInt 3520 ≤ Int32.ofInt z := (iz_le (by omega)).mpr h1
      have tb : A.testBit z.toNat = false := Nat.testBit_lt_two_pow (Nat.lt_of_lt_of_le h.1 (Nat.pow_le_pow_right (by decide) (by rw [bD_e]; omega)))
      rw [fi_pos c1, bz_f (fun q => by rw [tb] at q; exact absurd q.2 (by decide))]
      exact ⟨⟨fun q => absurd q c, fun _ => ⟨fun _ => trivial, fun q => absurd c1 q⟩⟩, rfl⟩
    · have c1 : ¬ Int32.ofInt 3520 ≤ Int32.ofInt z := fun q => h1 ((iz_le (by omega)).mp q)
      rw [fi_neg c1]
      obtain ⟨m, rfl⟩ : ∃ m : Nat, z = m := ⟨z.toNat, by omega⟩
      rw [← iz_nI, show Int32.ofInt 16 = nI 16 from rfl, ni_rest (by omega) (by decide), ni_div (by omega) (by decide)]
      dsimp only
      rw [o_cl (by omega), bit_1 (by omega), propext bzo, fi_pr, bh_ib h (by omega), decide_eq_true (Nat.mod_lt _ (by decide)), Bool.true_and, show m % 16 + 16 * (m / 16) = m by omega]
      refine ⟨⟨fun q => absurd q (by rw [iz_nI]; exact c), fun _ => ⟨fun q => absurd q (by rw [iz_nI]; exact c1), fun _ => ⟨in_nI hl (by omega) (by decide), trivial⟩⟩⟩, ?_⟩
      refine congrArg (fun x => (x, M)) (bz_c ⟨fun q => ⟨by omega, q⟩, fun q => q.2⟩)
theorem X99_length_L (T : Ty M) (n : fm_is M 901 901 a = true) (hl : M.2.2 1 a 0 = 220) (h : BH M a A) : ∀ (r J : Nat), A < 2 ^ r → r ≤ 3520 → r < J → FX99_length_L4 fN J a (nI r) M = some (nI (bln A), M) := by
  intro r
  induction r with
  | zero =>
    intro J hA hr hJ
    obtain ⟨J, rfl⟩ : ∃ x, J = x + 1 := ⟨J - 1, by omega⟩
    have c : nI 0 ≤ 0 := by decide
    rw [Nat.pow_zero] at hA
    have z : A = 0 := by omega
    show FX99_length_4 fN (FX99_length_L4 fN J) a (nI 0) M = _
    rw [(gX99_length_4 (FX99_length_L4 fN J) a (nI 0) M T n ⟨fun _ => trivial, fun q => absurd c q⟩).1]
    unfold GX99_length_4 GX99_length_24
    rw [fi_pos c, z]
    rfl
  | succ r ih =>
    intro J hA hr hJ
    obtain ⟨J, rfl⟩ : ∃ x, J = x + 1 := ⟨J - 1, by omega⟩
    have c : ¬ nI (r + 1) ≤ 0 := fun q => by have := (ni_le (z := 0) (by omega)).mp q; omega
    have e1 : nI (r + 1) - Int32.ofInt 1 = Int32.ofInt (r : Int) := by rw [show Int32.ofInt 1 = nI 1 from rfl, ni_sub (by omega), iz_nI]; rfl
    have e2 : nI (r + 1) + Int32.ofInt (-1) = nI r := by rw [iz_nI, iz_a, iz_nI]; congr 1; omega
    obtain ⟨b1, b2⟩ := X99_bit h hl (z := (r : Int)) (by omega)
    have G0 := (gX99_length_4 (FX99_length_L4 fN J) a (nI (r + 1)) M T n ⟨fun q => absurd q c, fun _ => ⟨by rw [e1]; exact b1, trivial⟩⟩).1
    unfold GX99_length_4 GX99_length_24 at G0
    rw [fi_neg c, e1, b2] at G0
    dsimp only at G0
    rw [fi_bz, e2] at G0
    show FX99_length_4 fN (FX99_length_L4 fN J) a (nI (r + 1)) M = _
    by_cases q : A.testBit r = true
    · rw [fi_pos (show (0 : Int) ≤ (r : Int) ∧ A.testBit (r : Int).toNat = true from ⟨by omega, q⟩)] at G0
      rw [bln_u hA (Or.inr (Nat.ge_two_pow_of_testBit q))]
      exact G0
    · rw [fi_neg (show ¬ ((0 : Int) ≤ (r : Int) ∧ A.testBit (r : Int).toNat = true) from fun z => q z.2)] at G0
      refine G0.trans (ih J ?_ (by omega) (by omega))
      have p := Nat.two_pow_pos r
      rcases Nat.lt_or_ge A (2 ^ r) with z | z
      · exact z
      · exact absurd (tb_top z hA) q
theorem X99_length (T : Ty M) (n : fm_is M 901 901 a = true) (hl : M.2.2 1 a 0 = 220) (h : BH M a A) : HX99_length a M ∧ GX99_length a M = (nI (bln A), M) := by
  have k := X99_length_L T n hl h 3520 fN h.1 (by decide) (by decide)
  have G0 := (gX99_length_0 (FX99_length_L4 fN fN) a M T).1
  exact op_of (o := FX99_length fN a M) (G0.trans k) ⟨T, ext_r M⟩
noncomputable def cmI (A B : Nat) : Int32 := fi (A < B) (Int32.ofInt (-1)) (fi (B < A) (Int32.ofInt 1) (Int32.ofInt 0))
theorem dig_step (A r : Nat) : A / 2 ^ (16 * r) = 65536 * (A / 2 ^ (16 * (r + 1))) + A / 2 ^ (16 * r) % 65536 := by
  have e : A / 2 ^ (16 * (r + 1)) = A / 2 ^ (16 * r) / 65536 := by rw [Nat.div_div_eq_div_mul, show 16 * (r + 1) = 16 * r + 16 by omega, Nat.pow_add]
  rw [e]
  exact (Nat.div_add_mod _ _).symm
theorem X99_compare_L (T : Ty M) (n : fm_is M 901 901 a = true) (nb : fm_is M 901 901 b = true) (hl : M.2.2 1 a 0 = 220) (hlb : M.2.2 1 b 0 = 220) (h : BH M a A) (hb : BH M b B) : ∀ (r J : Nat), A / 2 ^ (16 * r) = B / 2 ^ (16 * r) → r ≤ 220 → r < J →
    FX99_compare_L4 fN J a b (Int32.ofInt ((r : Int) - 1)) M = some (cmI A B, M) := by
  intro r
  induction r with
  | zero =>
    intro J e hr hJ
    obtain ⟨J, rfl⟩ : ∃ x, J = x + 1 := ⟨J - 1, by omega⟩
    have c : Int32.ofInt (((0 : Nat) : Int) - 1) < 0 := (iz_lt (b := 0) (by omega)).mpr (by omega)
    rw [Nat.mul_zero, Nat.pow_zero, Nat.div_one, Nat.div_one] at e
    show FX99_compare_4 fN (FX99_compare_L4 fN J) a b _ M = _
    rw [(gX99_compare_4 (FX99_compare_L4 fN J) a b _ M T n nb ⟨fun _ => trivial, fun q => absurd c q⟩).1]
    unfold GX99_compare_4 cmI
    rw [fi_pos c, e, fi_neg (Nat.lt_irrefl _), fi_neg (Nat.lt_irrefl _)]
    rfl
  | succ r ih =>
    intro J e hr hJ
    obtain ⟨J, rfl⟩ : ∃ x, J = x + 1 := ⟨J - 1, by omega⟩
    have e0 : Int32.ofInt (((r + 1 : Nat) : Int) - 1) = nI r := by rw [iz_nI]; congr 1; omega
    have e2 : nI r + Int32.ofInt (-1) = Int32.ofInt ((r : Int) - 1) := by rw [iz_nI, iz_a]; congr 1
    have c : ¬ nI r < 0 := fun q => by have := (ni_lt (z := 0) (by omega)).mp q; omega
    have i1 : fm_in M a (nI r) = true := in_nI hl (by omega) (by decide)
    have i2 : fm_in M b (nI r) = true := in_nI hlb (by omega) (by decide)
    have d1 := h.2 r (by omega)
    have d2 := hb.2 r (by omega)
    have s1 := dig_step A r
    have s2 := dig_step B r
    have m1 := bh_lt h (k := r) (by omega)
    have m2 := bh_lt hb (k := r) (by omega)
    rw [e0]
    have G0 := (gX99_compare_4 (FX99_compare_L4 fN J) a b (nI r) M T n nb ⟨fun q => absurd q c, fun _ => ⟨i1, i2, fun _ => trivial, fun _ => ⟨i1, i2, trivial⟩⟩⟩).1
    unfold GX99_compare_4 GX99_compare_31 at G0
    rw [fi_neg c, o_cl (by omega), e2] at G0
    show FX99_compare_4 fN (FX99_compare_L4 fN J) a b (nI r) M = _
    by_cases q : M.1 3 a r = M.1 3 b r
    · rw [fi_pos q] at G0
      refine G0.trans (ih J ?_ (by omega) (by omega))
      rw [q] at d1
      omega
    · rw [fi_neg q] at G0
      have le : M.1 3 b r ≤ M.1 3 a r ↔ ui (M.1 3 b r) ≤ ui (M.1 3 a r) := by
        rw [le_ti, ti, ti, if_pos (by omega), if_pos (by omega)]
        omega
      have ne : ui (M.1 3 a r) ≠ ui (M.1 3 b r) := fun z => q (ui_inj z)
      by_cases k : ui (M.1 3 b r) ≤ ui (M.1 3 a r)
      · rw [fi_pos (le.mpr k)] at G0
        have lt : B < A := Nat.lt_of_div_lt_div (c := 2 ^ (16 * r)) (by omega)
        unfold cmI
        rw [fi_neg (by omega), fi_pos lt]
        exact G0
      · rw [fi_neg (fun z => k (le.mp z))] at G0
        have lt : A < B := Nat.lt_of_div_lt_div (c := 2 ^ (16 * r)) (by omega)
        unfold cmI
        rw [fi_pos lt]
        exact G0
theorem X99_compare (T : Ty M) (n : fm_is M 901 901 a = true) (nb : fm_is M 901 901 b = true) (hl : M.2.2 1 a 0 = 220) (hlb : M.2.2 1 b 0 = 220) (h : BH M a A) (hb : BH M b B) : HX99_compare a b M ∧ GX99_compare a b M = (cmI A B, M) := by
  have k := X99_compare_L T n nb hl hlb h hb 220 fN (by rw [show 16 * 220 = bD from rfl, Nat.div_eq_of_lt h.1, Nat.div_eq_of_lt hb.1]) (by decide) (by decide)
  have G0 := (gX99_compare_0 (FX99_compare_L4 fN fN) a b M T).1
  exact op_of (o := FX99_compare fN a b M) (G0.trans k) ⟨T, ext_r M⟩
end Bg
