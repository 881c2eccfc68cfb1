/-! floats: the component's roots -/
set_option maxRecDepth 100000
theorem rt_g {R : Nat} (hlo : 2 ^ 113 ≤ R) (hhi : R < 83076749736557242056487941267521536) :
    2 * sqF 58 R + (if R ≠ sqF 58 R * sqF 58 R then 1 else 0) = jm (sqF 59 (4 * R)) 0 (decide (4 * R ≠ sqF 59 (4 * R) * sqF 59 (4 * R))) ∧ 2 ^ 56 ≤ sqF 59 (4 * R) := by
  have p116 : (4 : Nat) ^ 58 = 83076749736557242056487941267521536 := by decide
  have p118 : (4 : Nat) ^ 59 = 332306998946228968225951765070086144 := by decide
  obtain ⟨a1, a2⟩ := sq_ok 58 R (by omega)
  obtain ⟨b1, b2⟩ := sq_ok 59 (4 * R) (by omega)
  have su : sqF 59 (4 * R) = if (2 * sqF 58 R + 1) * (2 * sqF 58 R + 1) ≤ 4 * R then 2 * sqF 58 R + 1 else 2 * sqF 58 R := by
    show (if (2 * sqF 58 (4 * R / 4) + 1) * (2 * sqF 58 (4 * R / 4) + 1) ≤ 4 * R then 2 * sqF 58 (4 * R / 4) + 1 else 2 * sqF 58 (4 * R / 4)) = _
    rw [Nat.mul_div_cancel_left _ (by decide)]
  generalize hq : sqF 58 R = q at *
  generalize hQ : sqF 59 (4 * R) = Q at *
  obtain ⟨s1, s2, s3, s4⟩ := sq_s q
  have hQq : Q = 2 * q ∧ 4 * R < 4 * (q * q) + 4 * q + 1 ∨ Q = 2 * q + 1 ∧ 4 * (q * q) + 4 * q + 1 ≤ 4 * R := by
    rw [s1] at su
    by_cases y : 4 * (q * q) + 4 * q + 1 ≤ 4 * R
    · rw [if_pos y] at su
      exact Or.inr ⟨su, y⟩
    · rw [if_neg y] at su
      exact Or.inl ⟨su, by omega⟩
  have QQ : Q * Q = if Q = 2 * q then 4 * (q * q) else 4 * (q * q) + 4 * q + 1 := by
    by_cases y : Q = 2 * q
    · rw [if_pos y, y, s3]
    · rw [if_neg y]
      obtain ⟨z, -⟩ := hQq.resolve_left (fun w => y w.1)
      rw [z, s1]
  constructor
  · unfold jm
    rw [Nat.pow_zero, Nat.mod_one, Nat.div_one, QQ]
    by_cases w : R = q * q
    · rw [if_neg (fun y => y w)]
      have : Q = 2 * q := by omega
      rw [if_pos this, if_neg (fun y => y.elim (fun z => z rfl) (fun z => of_decide_eq_true z (by omega)))]
      omega
    · rw [if_pos w]
      by_cases y : Q = 2 * q
      · rw [if_pos y, if_pos (Or.inr (decide_eq_true (by omega)))]
        omega
      · rw [if_neg y]
        split <;> omega
  · exact Classical.byContradiction (fun y => by
      have h1 : Q + 1 ≤ 2 ^ 56 := by omega
      have h2 : (Q + 1) * (Q + 1) ≤ 2 ^ 56 * 2 ^ 56 := Nat.mul_le_mul h1 h1
      have h3 : (2 : Nat) ^ 56 * 2 ^ 56 = 2 ^ 112 := by decide
      have h4 : (2 : Nat) ^ 113 = 2 * 2 ^ 112 := by decide
      omega)
theorem rt_f {t md : Nat} (ht : t ≤ 1) {X m0 : Nat} {p : Int} (hX : X ≠ 0) (hm : bln X + m0 = 62 ∨ bln X + m0 = 63) (hp : (p - m0) % 2 = 0) :
    rnd t md false (2 * sqF 58 (X * 2 ^ m0 * 2 ^ 52) + (if X * 2 ^ m0 * 2 ^ 52 ≠ sqF 58 (X * 2 ^ m0 * 2 ^ 52) * sqF 58 (X * 2 ^ m0 * 2 ^ 52) then 1 else 0)) ((p - m0 - 52) / 2 - 1) false =
      rnd t md false (sqF 59 (X * 2 ^ (m0 + 54))) ((p - ((m0 + 54 : Nat) : Int)) / 2) (decide (X * 2 ^ (m0 + 54) ≠ sqF 59 (X * 2 ^ (m0 + 54)) * sqF 59 (X * 2 ^ (m0 + 54)))) := by
  have e4 : X * 2 ^ (m0 + 54) = 4 * (X * 2 ^ m0 * 2 ^ 52) := by
    rw [Nat.pow_add, ← Nat.mul_assoc]
    have : (2 : Nat) ^ 54 = 4 * 2 ^ 52 := by decide
    rw [this, Nat.mul_left_comm]
  have bl : bln (X * 2 ^ m0) = bln X + m0 := bln_mul hX
  have S2 : X * 2 ^ m0 < 9223372036854775808 := by
    have := bln_lt (X * 2 ^ m0)
    rcases hm with y | y <;> rw [bl, y] at this <;> omega
  have S3 : 2 ^ 61 ≤ X * 2 ^ m0 := by
    have := bln_ge (N := X * 2 ^ m0) (fun y => (Nat.mul_eq_zero.mp y).elim hX (fun z => by have := Nat.two_pow_pos m0; omega))
    rcases hm with y | y <;> rw [bl, y] at this <;> omega
  have hR : 2 ^ 113 ≤ X * 2 ^ m0 * 2 ^ 52 := by
    have : (2 : Nat) ^ 113 = 2 ^ 61 * 2 ^ 52 := by decide
    rw [this]
    exact Nat.mul_le_mul_right _ S3
  obtain ⟨hJ, hQ2⟩ := rt_g hR (by omega)
  rw [e4, hJ]
  have hs : (p - m0 - 52) / 2 - 1 = (p - ((m0 + 54 : Nat) : Int)) / 2 + ((0 : Nat) : Int) := by omega
  rw [hs]
  refine rnd_jm ?_
  have := bln_gt hQ2
  have := p2F ht
  omega
section Lt
variable {u i j md : Nat} {c : Nat → Nat} {S : Nat → Prop} {M N : FM} {X Y : UU} {a0 a1 : Nat}
theorem iz_sar {z : Int} (h : -1000000 ≤ z ∧ z ≤ 1000000) : Int32.ofInt z >>> (Int32.ofInt 1 &&& 31) = Int32.ofInt (z / 2) := by
  have e : (Int32.ofInt z >>> (Int32.ofInt 1 &&& 31)).toInt = z / 2 := by
    show (Int32.ofInt z >>> (Int32.ofInt 1 &&& 31)).toBitVec.toInt = _
    rw [Int32.toBitVec_shiftRight, show (Int32.ofInt 1 &&& 31).toBitVec.smod 32 = 1#32 by decide, BitVec.sshiftRight_eq', show (1#32).toNat = 1 by decide, BitVec.toInt_sshiftRight]
    show (Int32.ofInt z).toInt >>> 1 = _
    rw [iz_t (by omega), Int.shiftRight_eq_div_pow]
    rfl
  rw [iz_of (Int32.ofInt z >>> (Int32.ofInt 1 &&& 31)), e]
theorem iz_odd {z : Int} (h : -1000000 ≤ z ∧ z ≤ 1000000) : (Int32.ofInt z &&& Int32.ofInt 1) = Int32.ofInt 1 ↔ z % 2 = 1 := by
  have e := iz_ui (a := z) (by omega)
  have a : ui (Int32.ofInt z &&& Int32.ofInt 1) = ui (Int32.ofInt z) % 2 := by
    rw [ui_and, show ui (Int32.ofInt 1) = 1 from rfl, Nat.and_one_is_mod]
  constructor
  · intro y
    rw [y, show ui (Int32.ofInt 1) = 1 from rfl] at a
    split at e <;> omega
  · intro y
    apply ui_inj
    rw [a, show ui (Int32.ofInt 1) = 1 from rfl]
    split at e <;> omega
theorem shl2' {n : Nat} (h : 4 * n < 18446744073709551616) : lN n <<< ((Int32.ofInt 2).toInt64 &&& 63) = lN (4 * n) := by
  have := shl_n (c := n) (n := 2) (by decide) (by omega)
  rw [show ((2 : Nat) : Int) = 2 from rfl, show (2 : Nat) ^ 2 = 4 from rfl, Nat.mul_comm] at this
  exact this
theorem or4' {n d : Nat} (h : 4 * n + d < 18446744073709551616) (hd : d < 4) : lN (4 * n) ||| lN d = lN (4 * n + d) := by
  refine ul_inj ?_
  rw [ul_or, l_big (by omega), l_big (by omega), l_big (by omega)]
  have e := Nat.shiftLeft_add_eq_or_of_lt (show d < 2 ^ 2 from hd) n
  rw [Nat.shiftLeft_eq, show (2 : Nat) ^ 2 = 4 from rfl, Nat.mul_comm] at e
  exact e.symm
theorem dg4 {z r : Nat} (hz : z < 18446744073709551616) (hr : r < 58) :
    (r < 26 → z * 2 ^ 52 / 4 ^ r % 4 = 0) ∧ (26 ≤ r → ((lN z).toUInt64 >>> ((Int32.ofInt (2 * (r : Int) - 52)).toInt64.toUInt64 &&& Int64.toUInt64 63)).toInt64 &&& Int64.ofInt 3 = lN (z * 2 ^ 52 / 4 ^ r % 4)) := by
  have e4 : 4 ^ r = 2 ^ (2 * r) := by rw [Nat.pow_mul]
  rw [e4]
  constructor
  · intro h
    have e : z * 2 ^ 52 = 4 * (z * 2 ^ (50 - 2 * r)) * 2 ^ (2 * r) := by
      rw [Nat.mul_comm 4, Nat.mul_assoc, Nat.mul_assoc, show (4 : Nat) * 2 ^ (2 * r) = 2 ^ (2 + 2 * r) by rw [Nat.pow_add], ← Nat.pow_add, show 50 - 2 * r + (2 + 2 * r) = 52 by omega]
    rw [e, Nat.mul_div_cancel _ (Nat.two_pow_pos _), Nat.mul_mod_right]
  · intro h
    refine ul_inj ?_
    have e : z * 2 ^ 52 / 2 ^ (2 * r) = z / 2 ^ (2 * r - 52) := by
      rw [show 2 ^ (2 * r) = 2 ^ (2 * r - 52) * 2 ^ 52 by rw [← Nat.pow_add, show 2 * r - 52 + 52 = 2 * r by omega], Nat.mul_div_mul_right _ _ (Nat.two_pow_pos _)]
    rw [ul_and, ul_ushr, l_big hz, show 2 * (r : Int) - 52 = ((2 * r - 52 : Nat) : Int) by omega, iz_ui0 (by omega), show (2 * r - 52) % 64 = 2 * r - 52 by omega, e, l_big (by omega)]
    have := Nat.and_two_pow_sub_one_eq_mod (z / 2 ^ (2 * r - 52)) 2
    exact this
theorem dig_L (T : Ty M) (n1 : fm_is M 39 39 a1 = true) (n0 : fm_is M 39 39 a0 = true) {z R : Nat} (hz : z < 9223372036854775808) (hR : R = z * 2 ^ 52) : ∀ (r k J : Nat), k + r = 58 → r < J →
    FX69_dig_L51 fN J a0 a1 (lN z) (lN (R / 4 ^ r - sqF k (R / 4 ^ r) * sqF k (R / 4 ^ r))) (lN (sqF k (R / 4 ^ r))) (nI k) M =
      some (fm_sI (wSF (M.2.2 117 a1 0) (2 * sqF 58 R + (if R ≠ sqF 58 R * sqF 58 R then 1 else 0)) M) 116 a1 0 (((M.1 116 a0 0 - Int32.ofInt 52) >>> (Int32.ofInt 1 &&& 31)) - Int32.ofInt 1)) := by
  have p116 : (4 : Nat) ^ 58 = 83076749736557242056487941267521536 := by decide
  have p52 : (2 : Nat) ^ 52 = 4503599627370496 := by decide
  have p58 : (2 : Nat) ^ 58 = 288230376151711744 := by decide
  have hR4 : R < 4 ^ 58 := by omega
  intro r
  induction r with
  | zero =>
    intro k J hk hJ
    obtain ⟨J, rfl⟩ : ∃ x, J = x + 1 := ⟨J - 1, by omega⟩
    obtain rfl : k = 58 := by omega
    rw [Nat.pow_zero, Nat.div_one]
    show FX69_dig_51 fN (FX69_dig_L51 fN J) a0 a1 _ _ _ (nI 58) M = _
    have G0 := (gX69_dig_51 (FX69_dig_L51 fN J) a0 a1 (lN z) (lN (R - sqF 58 R * sqF 58 R)) (lN (sqF 58 R)) (nI 58) M T n1 n0).1
    unfold GX69_dig_51 GX69_dig_152 at G0
    dsimp only at G0
    have h1 := sq_b 58 R
    obtain ⟨h2, h3⟩ := sq_ok 58 R hR4
    have h4 := (sq_s (sqF 58 R)).2.1
    have kk : ∀ X, kX69_dig (FX69_dig_L51 fN J) (.inr X) = some X := fun _ => rfl
    have ew : ∀ V g b i, (wSF (M.2.2 117 a1 0) V M).1 g b i = M.1 g b i := fun _ _ _ _ => rfl
    generalize sqF 58 R = q at *
    rw [fi_pos (show Int32.ofInt 58 ≤ nI 58 by decide), propext (l0 _), l_big (by omega), shl1' (by omega), or1' (by omega), or0', X62_set, X62_set, l_big (by omega), l_big (by omega)] at G0
    by_cases w : R = q * q
    · rw [fi_pos (show R - q * q = 0 by omega), kk, ew] at G0
      rw [if_neg (fun y => y w), Nat.add_zero]
      exact G0
    · rw [fi_neg (show ¬ R - q * q = 0 by omega), kk, ew] at G0
      rw [if_pos w]
      exact G0
  | succ r ih =>
    intro k J hk hJ
    obtain ⟨J, rfl⟩ : ∃ x, J = x + 1 := ⟨J - 1, by omega⟩
    show FX69_dig_51 fN (FX69_dig_L51 fN J) a0 a1 _ _ _ (nI k) M = _
    have G0 := (gX69_dig_51 (FX69_dig_L51 fN J) a0 a1 (lN z) (lN (R / 4 ^ (r + 1) - sqF k (R / 4 ^ (r + 1)) * sqF k (R / 4 ^ (r + 1)))) (lN (sqF k (R / 4 ^ (r + 1)))) (nI k) M T n1 n0).1
    unfold GX69_dig_51 GX69_dig_88 GX69_dig_126 at G0
    dsimp only at G0
    have I := ih (k + 1) J (by omega) (by omega)
    have p4 : R / 4 ^ (r + 1) = R / 4 ^ r / 4 := by rw [Nat.pow_succ, Nat.div_div_eq_div_mul]
    have hRr : R / 4 ^ (r + 1) < 4 ^ k := by
      rw [Nat.div_lt_iff_lt_mul (Nat.pow_pos (by decide)), ← Nat.pow_add, show k + (r + 1) = 58 by omega]
      exact hR4
    obtain ⟨h2, h3⟩ := sq_ok _ _ hRr
    have h1 := sq_b k (R / 4 ^ (r + 1))
    have h1' : 2 ^ k ≤ 2 ^ 57 := Nat.pow_le_pow_right (by decide) (by omega)
    have p57 : (2 : Nat) ^ 57 = 144115188075855872 := by decide
    have su : sqF (k + 1) (R / 4 ^ r) = if (2 * sqF k (R / 4 ^ (r + 1)) + 1) * (2 * sqF k (R / 4 ^ (r + 1)) + 1) ≤ R / 4 ^ r then 2 * sqF k (R / 4 ^ (r + 1)) + 1 else 2 * sqF k (R / 4 ^ (r + 1)) := by
      rw [p4]
      rfl
    obtain ⟨d1, d2⟩ := dg4 (z := z) (r := r) (by omega) (by omega)
    rw [← hR] at d1 d2
    rw [p4] at h1 h2 h3 su G0 ⊢
    obtain ⟨s1, s2, s3, -⟩ := sq_s (sqF k (R / 4 ^ r / 4))
    rw [s1] at su
    have e0 : Int32.ofInt 62 - Int32.ofInt 2 * nI k = Int32.ofInt (2 * (r : Int) - 52) := by
      rw [iz_nI, iz_m, iz_s]
      congr 1
      omega
    have cN : (Int32.ofInt (2 * (r : Int) - 52) < 0) = (r < 26) := propext ⟨fun y => by have := (iz_lt (b := 0) (by omega)).mp y; omega, fun y => (iz_lt (b := 0) (by omega)).mpr (by omega)⟩
    generalize sqF k (R / 4 ^ r / 4) = q at *
    generalize R / 4 ^ r = n at *
    have en := Nat.div_add_mod n 4
    have n4 := Nat.mod_lt n (show 4 > 0 by decide)
    have dig : fi (r < 26) (Int64.ofInt 0) (((lN z).toUInt64 >>> ((Int32.ofInt (2 * (r : Int) - 52)).toInt64.toUInt64 &&& Int64.toUInt64 63)).toInt64 &&& Int64.ofInt 3) = lN (n % 4) := by
      by_cases y : r < 26
      · rw [fi_pos y, d1 y]
        rfl
      · rw [fi_neg y, d2 (by omega)]
    have x1 : 4 * (n / 4 - q * q) + n % 4 = n - 4 * (q * q) := by omega
    rw [fi_neg (show ¬ Int32.ofInt 58 ≤ nI k from fun y => by have := (ni_ge (z := 58) (k := k) (by omega)).mp y; omega), e0, cN, up_1 (by omega), shl2' (n := q) (by omega), shl1' (n := q) (by omega), shl2' (n := n / 4 - q * q) (by omega)] at G0
    have o41 : lN (4 * q) ||| Int64.ofInt 1 = lN (4 * q + 1) := or4' (d := 1) (by omega) (by decide)
    rw [o41, or1' (by omega)] at G0
    have key : ∀ D : Int64, D = lN (n % 4) → fi (lg_cmp (lN (4 * (n / 4 - q * q)) ||| D) (lN (4 * q + 1)) < 0) (FX69_dig_L51 fN J a0 a1 (lN z) (lN (4 * (n / 4 - q * q)) ||| D) (lN (2 * q)) (nI (k + 1)) M) (FX69_dig_L51 fN J a0 a1 (lN z) ((lN (4 * (n / 4 - q * q)) ||| D) - lN (4 * q + 1)) (lN (2 * q + 1)) (nI (k + 1)) M) =
        some (fm_sI (wSF (M.2.2 117 a1 0) (2 * sqF 58 R + (if R ≠ sqF 58 R * sqF 58 R then 1 else 0)) M) 116 a1 0 (((M.1 116 a0 0 - Int32.ofInt 52) >>> (Int32.ofInt 1 &&& 31)) - Int32.ofInt 1)) := fun D hD => by
      rw [hD, or4' (by omega) n4, x1, b_lt (by omega) (by omega)]
      by_cases y : n - 4 * (q * q) < 4 * q + 1
      · rw [fi_pos y]
        rw [if_neg (by omega)] at su
        rw [su, s3] at I
        exact I
      · rw [fi_neg y, l_s (by omega) (by omega)]
        rw [if_pos (by omega)] at su
        rw [su, s1] at I
        rw [show n - 4 * (q * q) - (4 * q + 1) = n - (4 * (q * q) + 4 * q + 1) by omega]
        exact I
    rw [G0]
    by_cases y : r < 26
    · rw [fi_pos y] at dig ⊢
      have := key _ dig
      by_cases w : lg_cmp (lN (4 * (n / 4 - q * q)) ||| Int64.ofInt 0) (lN (4 * q + 1)) < 0
      · rw [fi_pos w] at this ⊢
        exact this
      · rw [fi_neg w] at this ⊢
        exact this
    · rw [fi_neg y] at dig ⊢
      have := key _ dig
      by_cases w : lg_cmp (lN (4 * (n / 4 - q * q)) ||| (((lN z).toUInt64 >>> ((Int32.ofInt (2 * (r : Int) - 52)).toInt64.toUInt64 &&& Int64.toUInt64 63)).toInt64 &&& Int64.ofInt 3)) (lN (4 * q + 1)) < 0
      · rw [fi_pos w] at this ⊢
        exact this
      · rw [fi_neg w] at this ⊢
        exact this
end Lt
