/-! floats: the twin's whole numbers, raised, added, taken off -/
set_option maxRecDepth 100000
section Br
variable {M N X : FM} {a b c A B : Nat}
/-- a raised row, digit by digit -/
theorem rs_dig {x y s0 s1 : Int32} {A m b : Nat} (hb : b < 16) (hx : ∀ i, ib x i = (decide (i < 16) && A.testBit (i + 16 * m)))
    (h0 : s0 = (x <<< (nI b &&& 31)) &&& Int32.ofInt 65535)
    (h1 : (m = 0 ∧ s1 = Int32.ofInt 0) ∨ (0 < m ∧ s1 = (y <<< (nI b &&& 31)) >>> (Int32.ofInt 16 &&& 31) ∧ ∀ i, ib y i = (decide (i < 16) && A.testBit (i + 16 * (m - 1))))) :
    ui (s0 ||| s1) = A * 2 ^ b / 2 ^ (16 * m) % 65536 := by
  have hb2 : ui (nI b) % 32 = b := by rw [ni_u (by omega)]; omega
  refine dig_ext fun i hi => ?_
  rw [Nat.testBit_div_two_pow, Nat.testBit_mul_two_pow, ib_or, h0, ib_and, ib_shl _ _ hb2, hx, ib_mask (k := 16) (Int32.ofInt 65535) rfl]
  rcases h1 with ⟨hm, h1⟩ | ⟨hm, h1, hy⟩
  · subst hm
    have z : ib s1 i = false := by rw [h1]; exact Nat.zero_testBit i
    rw [z, Bool.or_false]
    by_cases q : i < 16
    · by_cases p : b ≤ i
      · simp [q, p, hi, show i - b < 16 by omega, show b ≤ i + 0 by omega]
      · simp [p]
    · simp [q]
  · have z : ib s1 i = (decide (i < 16) && decide (i < b) && A.testBit (i + 16 - b + 16 * (m - 1))) := by
      rw [h1, ib_sar _ (Int32.ofInt 16) (k := 16) rfl i hi, ib_shl _ _ hb2, hy]
      by_cases q : i < 16
      · rw [if_pos (by omega)]
        by_cases p : i < b
        · simp [q, p, show i + 16 < 32 by omega, show b ≤ i + 16 by omega, show i + 16 - b < 16 by omega]
        · simp [q, p, show ¬ i + 16 - b < 16 by omega]
      · rw [if_neg (by omega)]
        simp [q, show ¬ 31 - b < 16 by omega]
    rw [z]
    by_cases q : i < 16
    · by_cases p : b ≤ i
      · simp [q, p, hi, show i - b < 16 by omega, show ¬ i < b by omega, show b ≤ i + 16 * m by omega, show i - b + 16 * m = i + 16 * m - b by omega]
      · simp [q, p, show i < b by omega, show b ≤ i + 16 * m by omega, show i + 16 - b + 16 * (m - 1) = i + 16 * m - b by omega]
    · simp [q]
theorem rs_low {A n r : Nat} (h : r < n / 16) : A * 2 ^ n / 2 ^ (16 * r) % 65536 = 0 := by
  have e : A * 2 ^ n = A * 2 ^ (n - 16 * r - 16) * 65536 * 2 ^ (16 * r) := by
    rw [show (65536 : Nat) = 2 ^ 16 from rfl, Nat.mul_assoc, Nat.mul_assoc, ← Nat.pow_add, ← Nat.pow_add]
    congr 2
    omega
  rw [e, Nat.mul_div_cancel _ (Nat.two_pow_pos _), Nat.mul_mod_left]
theorem rs_up {A n r : Nat} (h : n / 16 ≤ r) : A * 2 ^ n / 2 ^ (16 * r) = A * 2 ^ (n % 16) / 2 ^ (16 * (r - n / 16)) := by
  have e1 : 2 ^ n = 2 ^ (n % 16) * 2 ^ (16 * (n / 16)) := by
    rw [← Nat.pow_add]
    congr 1
    omega
  have e2 : 2 ^ (16 * r) = 2 ^ (16 * (r - n / 16)) * 2 ^ (16 * (n / 16)) := by
    rw [← Nat.pow_add]
    congr 1
    omega
  rw [e1, e2, ← Nat.mul_assoc, Nat.mul_div_mul_right _ _ (Nat.two_pow_pos _)]
theorem X99_raise_L (n : fm_is M 901 901 a = true) (hl : M.2.2 1 a 0 = 220) (h : BH M a A) {p : Nat} (hp : p < 3520) (hA : A * 2 ^ p < 2 ^ bD) : ∀ (r J : Nat) (N : FM), AOk a M N →
    (∀ j, j < r → N.1 3 a j = M.1 3 a j) → (∀ j, r ≤ j → j < 220 → ui (N.1 3 a j) = A * 2 ^ p / 2 ^ (16 * j) % 65536) → r ≤ 220 → r < J →
    ∃ X, FX99_raise_L15 fN J a (nI (p / 16)) (nI (p % 16)) (Int32.ofInt ((r : Int) - 1)) N = some X ∧ AOk a M X ∧ BH X a (A * 2 ^ p) := by
  intro r
  induction r with
  | zero =>
    intro J N k _ hd hr hJ
    obtain ⟨J, rfl⟩ : ∃ x, J = x + 1 := ⟨J - 1, by omega⟩
    have cc : Int32.ofInt (((0 : Nat) : Int) - 1) < 0 := (iz_lt (b := 0) (by omega)).mpr (by omega)
    refine ⟨N, ?_, k, hA, fun j hj => hd j (Nat.zero_le _) hj⟩
    show FX99_raise_15 fN (FX99_raise_L15 fN J) a _ _ _ N = _
    rw [(gX99_raise_15 (FX99_raise_L15 fN J) a _ _ _ N k.1 (aok_is k n) ⟨fun _ => trivial, fun q => absurd cc q⟩).1]
    unfold GX99_raise_15
    rw [fi_pos cc]
    rfl
  | succ r ih =>
    intro J N k ho hd hr hJ
    obtain ⟨J, rfl⟩ : ∃ x, J = x + 1 := ⟨J - 1, by omega⟩
    have e0 : Int32.ofInt (((r + 1 : Nat) : Int) - 1) = nI r := by rw [iz_nI]; congr 1; omega
    have e2 : nI r + Int32.ofInt (-1) = Int32.ofInt ((r : Int) - 1) := by rw [iz_nI, iz_a]; congr 1
    have cc : ¬ nI r < 0 := fun q => by have := (ni_lt (z := 0) (by omega)).mp q; omega
    have e3 : nI r - nI (p / 16) = Int32.ofInt ((r : Int) - (p / 16 : Nat)) := by rw [iz_nI, iz_nI, iz_s]
    have i0 : fm_in N a (nI r) = true := in_nI (aok_ln k hl) (by omega) (by decide)
    rw [e0]
    have finF : ∀ (v : Int32), ui v = A * 2 ^ p / 2 ^ (16 * r) % 65536 → ∃ X, FX99_raise_L15 fN J a (nI (p / 16)) (nI (p % 16)) (Int32.ofInt ((r : Int) - 1)) (fm_sI N 3 a r v) = some X ∧ AOk a M X ∧ BH X a (A * 2 ^ p) := fun v hv =>
      ih J (fm_sI N 3 a r v) (aok_s n k) (fun j hj => by rw [rI, if_neg (fun z => by omega)]; exact ho j (by omega)) (fun j h1 h2 => by
        rw [rI]
        by_cases q : j = r
        · rw [if_pos ⟨rfl, rfl, q⟩, q]
          exact hv
        · rw [if_neg (fun z => q z.2.2)]
          exact hd j (by omega) h2) (by omega) (by omega)
    have old : ∀ j, j ≤ r → N.1 3 a j = M.1 3 a j := fun j hj => ho j (by omega)
    show ∃ X, FX99_raise_15 fN (FX99_raise_L15 fN J) a (nI (p / 16)) (nI (p % 16)) (nI r) N = some X ∧ _
    by_cases q : r < p / 16
    · have c1 : nI r - nI (p / 16) < 0 := by rw [e3]; exact (iz_lt (b := 0) (by omega)).mpr (by omega)
      have c2 : nI r - nI (p / 16) ≤ 0 := by rw [e3]; exact (iz_le (b := 0) (by omega)).mpr (by omega)
      have G0 := (gX99_raise_15 (FX99_raise_L15 fN J) a (nI (p / 16)) (nI (p % 16)) (nI r) N k.1 (aok_is k n) ⟨fun z => absurd z cc, fun _ => ⟨fun _ => ⟨fun _ => ⟨i0, trivial⟩, fun z => absurd c2 z⟩, fun z => absurd c1 z⟩⟩).1
      unfold GX99_raise_15 GX99_raise_44 GX99_raise_66 at G0
      dsimp only at G0
      rw [fi_neg cc, fi_pos c1, fi_pos c2, o_cl (by omega), e2] at G0
      obtain ⟨X, x1, x2⟩ := finF (Int32.ofInt 0 ||| Int32.ofInt 0) (by rw [rs_low q]; rfl)
      exact ⟨X, G0.trans x1, x2⟩
    · obtain ⟨m, hm⟩ : ∃ m, r = m + p / 16 := ⟨r - p / 16, by omega⟩
      have e4 : nI r - nI (p / 16) = nI m := by rw [ni_sub (by omega)]; congr 1; omega
      have c1 : ¬ nI m < 0 := fun z => by have := (ni_lt (z := 0) (by omega)).mp z; omega
      have i1 : fm_in N a (nI m) = true := in_nI (aok_ln k hl) (by omega) (by decide)
      have hx : ∀ i, ib (N.1 3 a m) i = (decide (i < 16) && A.testBit (i + 16 * m)) := fun i => by rw [old m (by omega)]; exact bh_ib h (by omega)
      have up := rs_up (A := A) (n := p) (r := r) (by omega)
      rw [show r - p / 16 = m by omega] at up
      by_cases q0 : m = 0
      · have c2 : nI m ≤ 0 := (ni_le (z := 0) (by omega)).mpr (by omega)
        have G0 := (gX99_raise_15 (FX99_raise_L15 fN J) a (nI (p / 16)) (nI (p % 16)) (nI r) N k.1 (aok_is k n) ⟨fun z => absurd z cc, fun _ => by
          dsimp only
          rw [e4]
          exact ⟨fun z => absurd z c1, fun _ => ⟨i1, fun _ => ⟨i0, trivial⟩, fun z => absurd c2 z⟩⟩⟩).1
        unfold GX99_raise_15 GX99_raise_44 GX99_raise_66 at G0
        dsimp only at G0
        rw [e4, fi_neg cc, fi_neg c1, fi_pos c2, o_cl (by omega), o_cl (by omega), e2] at G0
        obtain ⟨X, x1, x2⟩ := finF _ (by rw [up]; exact rs_dig (y := Int32.ofInt 0) (Nat.mod_lt _ (by decide)) hx rfl (Or.inl ⟨q0, rfl⟩))
        exact ⟨X, G0.trans x1, x2⟩
      · have c2 : ¬ nI m ≤ 0 := fun z => by have := (ni_le (z := 0) (by omega)).mp z; omega
        have e5 : nI m - Int32.ofInt 1 = nI (m - 1) := by rw [show Int32.ofInt 1 = nI 1 from rfl, ni_sub (by omega)]
        have i2 : fm_in N a (nI (m - 1)) = true := in_nI (aok_ln k hl) (by omega) (by decide)
        have hy : ∀ i, ib (N.1 3 a (m - 1)) i = (decide (i < 16) && A.testBit (i + 16 * (m - 1))) := fun i => by rw [old (m - 1) (by omega)]; exact bh_ib h (by omega)
        have G0 := (gX99_raise_15 (FX99_raise_L15 fN J) a (nI (p / 16)) (nI (p % 16)) (nI r) N k.1 (aok_is k n) ⟨fun z => absurd z cc, fun _ => by
          dsimp only
          rw [e4]
          exact ⟨fun z => absurd z c1, fun _ => ⟨i1, fun z => absurd z c2, fun _ => by
            dsimp only
            rw [e5]
            exact ⟨i2, i0, trivial⟩⟩⟩⟩).1
        unfold GX99_raise_15 GX99_raise_44 GX99_raise_66 at G0
        dsimp only at G0
        rw [e4, fi_neg cc, fi_neg c1, fi_neg c2, e5, o_cl (by omega), o_cl (by omega), o_cl (by omega), e2] at G0
        obtain ⟨X, x1, x2⟩ := finF _ (by rw [up]; exact rs_dig (Nat.mod_lt _ (by decide)) hx rfl (Or.inr ⟨by omega, rfl, hy⟩))
        exact ⟨X, G0.trans x1, x2⟩
theorem X99_raise (T : Ty M) (n : fm_is M 901 901 a = true) (hl : M.2.2 1 a 0 = 220) (h : BH M a A) {p : Nat} (hp : p < 3520) (hA : A * 2 ^ p < 2 ^ bD) : ∃ X, (HX99_raise a (nI p) M ∧ GX99_raise a (nI p) M = X) ∧ AOk a M X ∧ BH X a (A * 2 ^ p) := by
  obtain ⟨X, x1, x2, x3⟩ := X99_raise_L n hl h hp hA 220 fN M (aok_r T) (fun _ _ => rfl) (fun j h1 h2 => by omega) (by decide) (by decide)
  have G0 := (gX99_raise_0 (FX99_raise_L15 fN fN) a (nI p) M T).1
  unfold GX99_raise_0 at G0
  rw [show Int32.ofInt 16 = nI 16 from rfl, ni_rest (by omega) (by decide), ni_div (by omega) (by decide)] at G0
  exact ⟨X, op_of (o := FX99_raise fN a (nI p) M) (G0.trans x1) ⟨x2.1, aok_ext x2⟩, x2, x3⟩
theorem ad_step {A B p : Nat} (hp : 0 < p) : (A / p % 65536 + B / p % 65536 + (A % p + B % p) / p) % 65536 = (A + B) / p % 65536 ∧ (A / p % 65536 + B / p % 65536 + (A % p + B % p) / p) / 65536 = (A % (p * 65536) + B % (p * 65536)) / (p * 65536) := by
  have a0 := Nat.div_add_mod A p
  have b0 := Nat.div_add_mod B p
  have s : (A + B) / p = A / p + B / p + (A % p + B % p) / p := by
    have e : A + B = (A % p + B % p) + (A / p + B / p) * p := by rw [Nat.add_mul, Nat.mul_comm (A / p), Nat.mul_comm (B / p)]; omega
    conv => lhs; rw [e, Nat.add_mul_div_right _ _ hp]
    omega
  refine ⟨by rw [s]; omega, ?_⟩
  rw [Nat.mod_mul, Nat.mod_mul, ← Nat.div_div_eq_div_mul]
  have e : A % p + p * (A / p % 65536) + (B % p + p * (B / p % 65536)) = (A % p + B % p) + (A / p % 65536 + B / p % 65536) * p := by rw [Nat.add_mul, Nat.mul_comm p, Nat.mul_comm p]; omega
  rw [e, Nat.add_mul_div_right _ _ hp]
  congr 1
  omega
theorem p16 (k : Nat) : 2 ^ (16 * (k + 1)) = 2 ^ (16 * k) * 65536 := by rw [show 16 * (k + 1) = 16 * k + 16 by omega, Nat.pow_add]
theorem cry {A B p : Nat} (hp : 0 < p) : (A % p + B % p) / p < 2 := by
  have := Nat.mod_lt A hp
  have := Nat.mod_lt B hp
  rw [Nat.div_lt_iff_lt_mul hp]
  omega
theorem and16 {v : Int32} {n : Nat} (h : ui v = n) : ui (v &&& Int32.ofInt 65535) = n % 65536 := by
  rw [ui_and, show ui (Int32.ofInt 65535) = 2 ^ 16 - 1 from rfl, Nat.and_two_pow_sub_one_eq_mod, h]
theorem sar16 {v : Int32} {n : Nat} (h : ui v = n) (hn : n < 2147483648) : v >>> (Int32.ofInt 16 &&& 31) = nI (n / 65536) := by
  apply ui_inj
  rw [ui_sar0 _ _ (by omega), show ui (Int32.ofInt 16) % 32 = 16 from rfl, h, ni_u (by omega)]
theorem X99_add_L (n : fm_is M 901 901 a = true) (nb : fm_is M 901 901 b = true) (hl : M.2.2 1 a 0 = 220) (hlb : M.2.2 1 b 0 = 220) (hab : b ≠ a) (h : BH M a A) (hb : BH M b B) (hs : A + B < 2 ^ bD) : ∀ (r k J : Nat) (N : FM), AOk a M N →
    (∀ j, j < k → ui (N.1 3 a j) = (A + B) / 2 ^ (16 * j) % 65536) → (∀ j, k ≤ j → N.1 3 a j = M.1 3 a j) → k + r = 220 → r < J →
    ∃ X, FX99_add_L4 fN J a b (nI ((A % 2 ^ (16 * k) + B % 2 ^ (16 * k)) / 2 ^ (16 * k))) (nI k) N = some X ∧ AOk a M X ∧ BH X a (A + B) := by
  intro r
  induction r with
  | zero =>
    intro k J N f hd ho hk hJ
    obtain ⟨J, rfl⟩ : ∃ x, J = x + 1 := ⟨J - 1, by omega⟩
    have cc : Int32.ofInt 220 ≤ nI k := (ni_ge (by omega)).mpr (by omega)
    refine ⟨N, ?_, f, hs, fun j hj => hd j (by omega)⟩
    show FX99_add_4 fN (FX99_add_L4 fN J) a b _ _ N = _
    rw [(gX99_add_4 (FX99_add_L4 fN J) a b _ _ N f.1 (aok_is f n) (aok_is f nb) ⟨fun _ => trivial, fun q => absurd cc q⟩).1]
    unfold GX99_add_4
    rw [fi_pos cc]
    rfl
  | succ r ih =>
    intro k J N f hd ho hk hJ
    obtain ⟨J, rfl⟩ : ∃ x, J = x + 1 := ⟨J - 1, by omega⟩
    have cc : ¬ Int32.ofInt 220 ≤ nI k := fun q => by have := (ni_ge (by omega)).mp q; omega
    have i0 : fm_in N a (nI k) = true := in_nI (aok_ln f hl) (by omega) (by decide)
    have i1 : fm_in N b (nI k) = true := in_nI (aok_ln f hlb) (by omega) (by decide)
    have p := Nat.two_pow_pos (16 * k)
    obtain ⟨s1, s2⟩ := ad_step (A := A) (B := B) p
    have cr := cry (A := A) (B := B) p
    have d1 : ui (N.1 3 a k) = A / 2 ^ (16 * k) % 65536 := by rw [ho k (Nat.le_refl _)]; exact h.2 k (by omega)
    have d2 : ui (N.1 3 b k) = B / 2 ^ (16 * k) % 65536 := (aok_b f hab hb).2 k (by omega)
    have m1 := Nat.mod_lt (A / 2 ^ (16 * k)) (show 0 < 65536 by decide)
    have m2 := Nat.mod_lt (B / 2 ^ (16 * k)) (show 0 < 65536 by decide)
    have uv : ui (N.1 3 a k + N.1 3 b k + nI ((A % 2 ^ (16 * k) + B % 2 ^ (16 * k)) / 2 ^ (16 * k))) = A / 2 ^ (16 * k) % 65536 + B / 2 ^ (16 * k) % 65536 + (A % 2 ^ (16 * k) + B % 2 ^ (16 * k)) / 2 ^ (16 * k) := by
      rw [ui_add, ui_add, d1, d2, ni_u (by omega)]
      clear s1 s2 hd ho ih
      generalize A / 2 ^ (16 * k) % 65536 = x1 at *
      generalize B / 2 ^ (16 * k) % 65536 = x2 at *
      generalize (A % 2 ^ (16 * k) + B % 2 ^ (16 * k)) / 2 ^ (16 * k) = x3 at *
      omega
    have G0 := (gX99_add_4 (FX99_add_L4 fN J) a b (nI ((A % 2 ^ (16 * k) + B % 2 ^ (16 * k)) / 2 ^ (16 * k))) (nI k) N f.1 (aok_is f n) (aok_is f nb) ⟨fun q => absurd q cc, fun _ => ⟨i0, i1, i0, trivial⟩⟩).1
    unfold GX99_add_4 at G0
    dsimp only at G0
    rw [fi_neg cc, o_cl (by omega), up_1 (by omega), sar16 uv (by omega), s2, ← p16] at G0
    obtain ⟨X, x1, x2⟩ := ih (k + 1) J _ (aok_s (i := k) (v := (N.1 3 a k + N.1 3 b k + nI ((A % 2 ^ (16 * k) + B % 2 ^ (16 * k)) / 2 ^ (16 * k))) &&& Int32.ofInt 65535) n f) (fun j hj => by
      rw [rI]
      by_cases q : j = k
      · rw [if_pos ⟨rfl, rfl, q⟩, q, and16 uv, s1]
      · rw [if_neg (fun z => q z.2.2)]
        exact hd j (by omega)) (fun j hj => by rw [rI, if_neg (fun z => by omega)]; exact ho j (by omega)) (by omega) (by omega)
    exact ⟨X, G0.trans x1, x2⟩
theorem X99_add (T : Ty M) (n : fm_is M 901 901 a = true) (nb : fm_is M 901 901 b = true) (hl : M.2.2 1 a 0 = 220) (hlb : M.2.2 1 b 0 = 220) (hab : b ≠ a) (h : BH M a A) (hb : BH M b B) (hs : A + B < 2 ^ bD) : ∃ X, (HX99_add a b M ∧ GX99_add a b M = X) ∧ AOk a M X ∧ BH X a (A + B) := by
  obtain ⟨X, x1, x2, x3⟩ := X99_add_L n nb hl hlb hab h hb hs 220 0 fN M (aok_r T) (fun j hj => by omega) (fun _ _ => rfl) rfl (by decide)
  rw [show 16 * 0 = 0 from rfl, Nat.pow_zero, Nat.mod_one, Nat.mod_one] at x1
  have G0 := (gX99_add_0 (FX99_add_L4 fN fN) a b M T).1
  exact ⟨X, op_of (o := FX99_add fN a b M) (G0.trans x1) ⟨x2.1, aok_ext x2⟩, x2, x3⟩
/-- borrowing: whether the lower part of the first is less than that of the second -/
def brw (A B p : Nat) : Nat := if A % p < B % p then 1 else 0
theorem sb_step {A B p : Nat} (hp : 0 < p) (hle : B ≤ A) : (A - B) / p % 65536 = (A / p % 65536 + 65536 - B / p % 65536 - brw A B p) % 65536 ∧ (A / p % 65536 < B / p % 65536 + brw A B p ↔ A % (p * 65536) < B % (p * 65536)) := by
  have a0 := Nat.div_add_mod A p
  have b0 := Nat.div_add_mod B p
  have am := Nat.mod_lt A hp
  have bm := Nat.mod_lt B hp
  have hd : B / p ≤ A / p := Nat.div_le_div_right hle
  have s : (A - B) / p = A / p - B / p - brw A B p := by
    unfold brw
    rw [Nat.div_eq_iff hp]
    by_cases q : A % p < B % p
    · rw [if_pos q]
      have h1 : B / p < A / p := by
        rcases Nat.lt_or_ge (B / p) (A / p) with z | z
        · exact z
        · have : A / p = B / p := by omega
          rw [this] at a0
          omega
      have e : (A / p - B / p - 1) * p + p = p * (A / p) - p * (B / p) := by
        rw [← Nat.succ_mul, ← Nat.mul_sub, Nat.mul_comm p]
        congr 1
        omega
      have e2 : p * (B / p) + p ≤ p * (A / p) := by
        rw [← Nat.mul_succ]
        exact Nat.mul_le_mul_left p h1
      rw [Nat.mul_comm p (A / p), Nat.mul_comm p (B / p)] at *
      omega
    · rw [if_neg q, Nat.sub_zero]
      have e : (A / p - B / p) * p = p * (A / p) - p * (B / p) := by rw [← Nat.mul_sub, Nat.mul_comm]
      have e2 : p * (B / p) ≤ p * (A / p) := Nat.mul_le_mul_left p hd
      omega
  refine ⟨?_, ?_⟩
  · rw [s]
    have : brw A B p ≤ 1 := by unfold brw; split <;> omega
    have h2 : B / p + brw A B p ≤ A / p := by
      unfold brw
      by_cases q : A % p < B % p
      · rw [if_pos q]
        rcases Nat.lt_or_ge (B / p) (A / p) with z | z
        · exact z
        · have : A / p = B / p := by omega
          rw [this] at a0
          omega
      · rw [if_neg q]
        omega
    omega
  · rw [Nat.mod_mul, Nat.mod_mul]
    unfold brw
    generalize A / p % 65536 = x
    generalize B / p % 65536 = y
    have mono : ∀ u v : Nat, u < v → p * u + p ≤ p * v := fun u v q => by rw [← Nat.mul_succ]; exact Nat.mul_le_mul_left p q
    rcases Nat.lt_trichotomy x y with q | q | q
    · have := mono x y q
      constructor
      · intro _
        omega
      · intro _
        omega
    · subst q
      split <;> omega
    · have := mono y x q
      constructor
      · intro z
        split at z <;> omega
      · intro z
        omega
theorem X99_subtract_L (n : fm_is M 901 901 a = true) (nb : fm_is M 901 901 b = true) (nc : fm_is M 901 901 c = true) (hl : M.2.2 1 a 0 = 220) (hlb : M.2.2 1 b 0 = 220) (hlc : M.2.2 1 c 0 = 220) (h : BH M a A) (hb : BH M b B) (hs : B ≤ A) : ∀ (r k J : Nat) (N : FM), AOk c M N →
    (∀ j, j < k → ui (N.1 3 c j) = (A - B) / 2 ^ (16 * j) % 65536) → (∀ j, k ≤ j → N.1 3 c j = M.1 3 c j) → k + r = 220 → r < J →
    ∃ X, FX99_subtract_L5 fN J a b c (nI (brw A B (2 ^ (16 * k)))) (nI k) N = some X ∧ AOk c M X ∧ BH X c (A - B) := by
  intro r
  induction r with
  | zero =>
    intro k J N f hd ho hk hJ
    obtain ⟨J, rfl⟩ : ∃ x, J = x + 1 := ⟨J - 1, by omega⟩
    have cc : Int32.ofInt 220 ≤ nI k := (ni_ge (by omega)).mpr (by omega)
    refine ⟨N, ?_, f, Nat.lt_of_le_of_lt (Nat.sub_le _ _) h.1, fun j hj => hd j (by omega)⟩
    show FX99_subtract_5 fN (FX99_subtract_L5 fN J) a b c _ _ N = _
    rw [(gX99_subtract_5 (FX99_subtract_L5 fN J) a b c _ _ N f.1 (aok_is f n) (aok_is f nb) (aok_is f nc) ⟨fun _ => trivial, fun q => absurd cc q⟩).1]
    unfold GX99_subtract_5
    rw [fi_pos cc]
    rfl
  | succ r ih =>
    intro k J N f hd ho hk hJ
    obtain ⟨J, rfl⟩ : ∃ x, J = x + 1 := ⟨J - 1, by omega⟩
    have cc : ¬ Int32.ofInt 220 ≤ nI k := fun q => by have := (ni_ge (by omega)).mp q; omega
    have i0 : fm_in N a (nI k) = true := in_nI (aok_ln f hl) (by omega) (by decide)
    have i1 : fm_in N b (nI k) = true := in_nI (aok_ln f hlb) (by omega) (by decide)
    have i2 : fm_in N c (nI k) = true := in_nI (aok_ln f hlc) (by omega) (by decide)
    have p := Nat.two_pow_pos (16 * k)
    obtain ⟨s1, s2⟩ := sb_step (A := A) (B := B) p hs
    have same : ∀ x, N.1 3 x k = M.1 3 x k := fun x => by
      by_cases q : x = c
      · rw [q]
        exact ho k (Nat.le_refl _)
      · exact f.2.2 3 x k (fun z => q z.2)
    have d1 : ui (N.1 3 a k) = A / 2 ^ (16 * k) % 65536 := by rw [same]; exact h.2 k (by omega)
    have d2 : ui (N.1 3 b k) = B / 2 ^ (16 * k) % 65536 := by rw [same]; exact hb.2 k (by omega)
    have m1 := Nat.mod_lt (A / 2 ^ (16 * k)) (show 0 < 65536 by decide)
    have m2 := Nat.mod_lt (B / 2 ^ (16 * k)) (show 0 < 65536 by decide)
    have m3 : brw A B (2 ^ (16 * k)) ≤ 1 := by unfold brw; split <;> omega
    generalize hD1 : A / 2 ^ (16 * k) % 65536 = D1 at *
    generalize hD2 : B / 2 ^ (16 * k) % 65536 = D2 at *
    generalize hb0 : brw A B (2 ^ (16 * k)) = b0 at *
    have uv : ui (N.1 3 a k - N.1 3 b k - nI b0) = (4294967296 + D1 - D2 - b0) % 4294967296 := by
      rw [ui_sub, ui_sub, d1, d2, ni_u (by omega)]
      omega
    have ge : 0 ≤ N.1 3 a k - N.1 3 b k - nI b0 ↔ ¬ D1 < D2 + b0 := by
      rw [le_ti, ti, ti, uv, show ui 0 = 0 from rfl]
      by_cases q : D1 < D2 + b0
      · rw [Nat.mod_eq_of_lt (by omega), if_pos (by decide), if_neg (by omega)]
        omega
      · rw [show (4294967296 + D1 - D2 - b0) % 4294967296 = D1 - D2 - b0 by omega, if_pos (by decide), if_pos (by omega)]
        omega
    have G0 := (gX99_subtract_5 (FX99_subtract_L5 fN J) a b c (nI b0) (nI k) N f.1 (aok_is f n) (aok_is f nb) (aok_is f nc) ⟨fun q => absurd q cc, fun _ => ⟨i0, i1, i2, trivial⟩⟩).1
    have bw : brw A B (2 ^ (16 * (k + 1))) = if D1 < D2 + b0 then 1 else 0 := by
      unfold brw
      rw [p16]
      by_cases q : D1 < D2 + b0
      · rw [if_pos q, if_pos (s2.mp q)]
      · rw [if_neg q, if_neg (fun z => q (s2.mpr z))]
    unfold GX99_subtract_5 GX99_subtract_45 at G0
    dsimp only at G0
    rw [fi_neg cc, o_cl (by omega), up_1 (by omega), fi_c ge] at G0
    have e1 : fi (¬ D1 < D2 + b0) (Sum.inl (a, b, c, Int32.ofInt 0, nI (k + 1), fm_sI N 3 c k ((N.1 3 a k - N.1 3 b k - nI b0) &&& Int32.ofInt 65535)) : (Nat × Nat × Nat × Int32 × Int32 × FM) ⊕ FM) (Sum.inl (a, b, c, Int32.ofInt 1, nI (k + 1), fm_sI N 3 c k ((N.1 3 a k - N.1 3 b k - nI b0) &&& Int32.ofInt 65535))) = Sum.inl (a, b, c, nI (brw A B (2 ^ (16 * (k + 1)))), nI (k + 1), fm_sI N 3 c k ((N.1 3 a k - N.1 3 b k - nI b0) &&& Int32.ofInt 65535)) := by
      rw [bw]
      by_cases q : D1 < D2 + b0
      · rw [fi_neg (fun z => z q), if_pos q]
        rfl
      · rw [fi_pos q, if_neg q]
        rfl
    rw [e1] at G0
    obtain ⟨X, x1, x2⟩ := ih (k + 1) J _ (aok_s (i := k) (v := (N.1 3 a k - N.1 3 b k - nI b0) &&& Int32.ofInt 65535) nc f) (fun j hj => by
      rw [rI]
      by_cases q : j = k
      · rw [if_pos ⟨rfl, rfl, q⟩, q, and16 uv, s1]
        omega
      · rw [if_neg (fun z => q z.2.2)]
        exact hd j (by omega)) (fun j hj => by rw [rI, if_neg (fun z => by omega)]; exact ho j (by omega)) (by omega) (by omega)
    exact ⟨X, G0.trans x1, x2⟩
theorem X99_subtract (T : Ty M) (n : fm_is M 901 901 a = true) (nb : fm_is M 901 901 b = true) (nc : fm_is M 901 901 c = true) (hl : M.2.2 1 a 0 = 220) (hlb : M.2.2 1 b 0 = 220) (hlc : M.2.2 1 c 0 = 220) (h : BH M a A) (hb : BH M b B) (hs : B ≤ A) : ∃ X, (HX99_subtract a b c M ∧ GX99_subtract a b c M = X) ∧ AOk c M X ∧ BH X c (A - B) := by
  obtain ⟨X, x1, x2, x3⟩ := X99_subtract_L n nb nc hl hlb hlc h hb hs 220 0 fN M (aok_r T) (fun j hj => by omega) (fun _ _ => rfl) rfl (by decide)
  rw [show brw A B (2 ^ (16 * 0)) = 0 from by unfold brw; rw [show 16 * 0 = 0 from rfl, Nat.pow_zero, Nat.mod_one, Nat.mod_one]; rfl] at x1
  have G0 := (gX99_subtract_0 (FX99_subtract_L5 fN fN) a b c M T).1
  exact ⟨X, op_of (o := FX99_subtract fN a b c M) (G0.trans x1) ⟨x2.1, aok_ext x2⟩, x2, x3⟩
end Br
