/-! floats: the twin's products; what is cut off -/
set_option maxRecDepth 100000
theorem mu_step {U da y p e : Nat} (hp : 0 < p) (he : 0 < e) :
    (U / (p * e) % 65536 + (U % (p * e) + da * (y % p) * e) / (p * e) + da * (y / p % 65536)) % 65536 = (U + da * y * e) / (p * e) % 65536 ∧
    (U / (p * e) % 65536 + (U % (p * e) + da * (y % p) * e) / (p * e) + da * (y / p % 65536)) / 65536 = (U % (p * e * 65536) + da * (y % (p * 65536)) * e) / (p * e * 65536) := by
  have hP : 0 < p * e := Nat.mul_pos hp he
  refine ⟨?_, ?_⟩
  · have e1 : U + da * y * e = (U % (p * e) + da * (y % p) * e) + (U / (p * e) + da * (y / p)) * (p * e) := by
      have h1 := Nat.div_add_mod U (p * e)
      have h2 := Nat.div_add_mod y p
      have h3 : da * y * e = da * (y % p) * e + da * (y / p) * (p * e) := by
        conv => lhs; rw [← h2]
        rw [Nat.mul_add, Nat.add_mul, Nat.add_comm]
        congr 1
        ac_rfl
      rw [h3, Nat.add_mul, Nat.mul_comm (U / (p * e))]
      omega
    rw [e1, Nat.add_mul_div_right _ _ hP]
    have e2 : da * (y / p) % 65536 = da * (y / p % 65536) % 65536 := by rw [Nat.mul_mod, Nat.mul_mod da (y / p % 65536), Nat.mod_mod]
    generalize (U % (p * e) + da * (y % p) * e) / (p * e) = c at *
    generalize da * (y / p) = w at *
    generalize da * (y / p % 65536) = w2 at *
    omega
  · rw [Nat.mod_mul (a := p * e) (b := 65536) (x := U), Nat.mod_mul (a := p) (b := 65536) (x := y), ← Nat.div_div_eq_div_mul (k := 65536)]
    have e1 : U % (p * e) + p * e * (U / (p * e) % 65536) + da * (y % p + p * (y / p % 65536)) * e = (U % (p * e) + da * (y % p) * e) + (U / (p * e) % 65536 + da * (y / p % 65536)) * (p * e) := by
      have h3 : da * (y % p + p * (y / p % 65536)) * e = da * (y % p) * e + da * (y / p % 65536) * (p * e) := by
        rw [Nat.mul_add, Nat.add_mul]
        congr 1
        ac_rfl
      rw [h3, Nat.add_mul, Nat.mul_comm (p * e)]
      omega
    rw [e1, Nat.add_mul_div_right _ _ hP]
    congr 1
    omega
theorem mu_c {U da y p e : Nat} (hp : 0 < p) (he : 0 < e) (hd : da < 65536) : (U % (p * e) + da * (y % p) * e) / (p * e) ≤ 65536 := by
  have hP : 0 < p * e := Nat.mul_pos hp he
  have h1 := Nat.mod_lt U hP
  have h2 : da * (y % p) * e ≤ 65535 * (p * e) := by
    rw [← Nat.mul_assoc]
    exact Nat.mul_le_mul_right e (Nat.mul_le_mul (by omega) (Nat.le_of_lt (Nat.mod_lt _ hp)))
  rw [Nat.div_le_iff_le_mul_add_pred hP]
  generalize da * (y % p) * e = g at *
  generalize p * e = P at *
  omega
section Mu
variable {M N X : FM} {a : Nat}
theorem X99_mul_in (u v : Int64) (n : fm_is M 901 901 a = true) (hl : M.2.2 1 a 0 = 220) {i : Nat} (hi : i < 4) (J : Nat) : ∀ (r k : Nat) (N : FM), AOk a M N →
    (∀ j, j < i + k → ui (N.1 3 a j) = (ul u % 2 ^ (16 * i) * ul v + ul u / 2 ^ (16 * i) % 65536 * ul v * 2 ^ (16 * i)) / 2 ^ (16 * j) % 65536) →
    (∀ j, i + k ≤ j → j < 220 → ui (N.1 3 a j) = ul u % 2 ^ (16 * i) * ul v / 2 ^ (16 * j) % 65536) → k + r = 5 →
    ∃ X, (FX99_multiply_L fN (J + r + 1)).2 a u v (nI i) (lN ((ul u % 2 ^ (16 * i) * ul v % 2 ^ (16 * (i + k)) + ul u / 2 ^ (16 * i) % 65536 * (ul v % 2 ^ (16 * k)) * 2 ^ (16 * i)) / 2 ^ (16 * (i + k)))) (nI k) N = (FX99_multiply_L fN J).1 a u v (nI (i + 1)) X ∧ AOk a M X ∧
      BH X a (ul u % 2 ^ (16 * i) * ul v + ul u / 2 ^ (16 * i) % 65536 * ul v * 2 ^ (16 * i)) := by
  have hv := ul_lt v
  have hda := Nat.mod_lt (ul u / 2 ^ (16 * i)) (show 0 < 65536 by decide)
  have he := Nat.two_pow_pos (16 * i)
  have hU : ul u % 2 ^ (16 * i) * ul v < 2 ^ (16 * i) * 2 ^ 64 := Nat.mul_lt_mul'' (Nat.mod_lt _ he) hv
  have hT : ul u % 2 ^ (16 * i) * ul v + ul u / 2 ^ (16 * i) % 65536 * ul v * 2 ^ (16 * i) < 2 ^ (16 * (i + 5)) := by
    have e1 : ul u % 2 ^ (16 * i) * ul v + ul u / 2 ^ (16 * i) % 65536 * ul v * 2 ^ (16 * i) = (ul u % 2 ^ (16 * i) + 2 ^ (16 * i) * (ul u / 2 ^ (16 * i) % 65536)) * ul v := by
      rw [Nat.add_mul]
      congr 1
      ac_rfl
    rw [e1, ← Nat.mod_mul, show 16 * (i + 5) = (16 * i + 16) + 64 by omega, Nat.pow_add, Nat.pow_add]
    exact Nat.mul_lt_mul'' (Nat.mod_lt _ (Nat.mul_pos he (by decide))) hv
  generalize hU0 : ul u % 2 ^ (16 * i) * ul v = U at *
  generalize hD0 : ul u / 2 ^ (16 * i) % 65536 = da at *
  intro r
  induction r with
  | zero =>
    intro k N f hd ho hk
    have cc : Int32.ofInt 5 ≤ nI k := (ni_ge (by omega)).mpr (by omega)
    refine ⟨N, ?_, f, Nat.lt_of_lt_of_le hT (Nat.pow_le_pow_right (by decide) (by rw [bD_e]; omega)), fun j hj => ?_⟩
    · show FX99_multiply_20 fN (FX99_multiply_L fN J).1 (FX99_multiply_L fN J).2 a u v (nI i) _ (nI k) N = _
      rw [(gX99_multiply_20 (FX99_multiply_L fN J).1 (FX99_multiply_L fN J).2 a u v (nI i) _ (nI k) N f.1 (aok_is f n) ⟨fun _ => trivial, fun q => absurd cc q⟩).1]
      unfold GX99_multiply_20
      dsimp only
      rw [fi_pos cc, up_1 (by omega)]
      rfl
    · by_cases q : j < i + k
      · exact hd j q
      · rw [ho j (by omega) hj]
        have p1 : (2 : Nat) ^ (16 * (i + 5)) ≤ 2 ^ (16 * j) := Nat.pow_le_pow_right (by decide) (by omega)
        rw [Nat.div_eq_of_lt (Nat.lt_of_lt_of_le (Nat.lt_of_le_of_lt (Nat.le_add_right _ _) hT) p1), Nat.div_eq_of_lt (Nat.lt_of_lt_of_le hT p1)]
  | succ r ih =>
    intro k N f hd ho hk
    have cc : ¬ Int32.ofInt 5 ≤ nI k := fun q => by have := (ni_ge (by omega)).mp q; omega
    have i0 : fm_in N a (nI (i + k)) = true := in_nI (aok_ln f hl) (by omega) (by decide)
    have hp := Nat.two_pow_pos (16 * k)
    have eP : 2 ^ (16 * (i + k)) = 2 ^ (16 * k) * 2 ^ (16 * i) := by rw [← Nat.pow_add]; congr 1; omega
    obtain ⟨s1, s2⟩ := mu_step (U := U) (da := da) (y := ul v) hp he
    have cb := mu_c (U := U) (y := ul v) hp he hda
    rw [← eP] at s1 s2 cb
    have d1 := ho (i + k) (Nat.le_refl _) (by omega)
    have m1 := Nat.mod_lt (U / 2 ^ (16 * (i + k))) (show 0 < 65536 by decide)
    have m2 := Nat.mod_lt (ul v / 2 ^ (16 * k)) (show 0 < 65536 by decide)
    have dn : N.1 3 a (i + k) = nI (U / 2 ^ (16 * (i + k)) % 65536) := by rw [← nI_ui (N.1 3 a (i + k)), d1]
    have m3 : da * (ul v / 2 ^ (16 * k) % 65536) ≤ 65535 * 65535 := Nat.mul_le_mul (by omega) (by omega)
    have ek : 16 * (i + k) + 16 = 16 * (i + (k + 1)) := by omega
    have eq1 : 2 ^ (16 * (i + k)) * 65536 = 2 ^ (16 * (i + (k + 1))) := by rw [← ek, Nat.pow_add]
    have eq2 : 2 ^ (16 * k) * 65536 = 2 ^ (16 * (k + 1)) := (p16 k).symm
    rw [eq1, eq2] at s2
    generalize hc : (U % 2 ^ (16 * (i + k)) + da * (ul v % 2 ^ (16 * k)) * 2 ^ (16 * i)) / 2 ^ (16 * (i + k)) = c at *
    generalize hud : U / 2 ^ (16 * (i + k)) % 65536 = ud at *
    generalize hyd : ul v / 2 ^ (16 * k) % 65536 = yd at *
    have ev : GX99_multiply_20 a u v (nI i) (lN c) (nI k) N = .inr (.inl (a, u, v, nI i, lN ((ud + c + da * yd) / 65536), nI (k + 1), fm_sI N 3 a (i + k) ((lN (ud + c + da * yd)).toInt32 &&& Int32.ofInt 65535))) := by
      have sh : lN (ud + c + da * yd) >>> ((Int32.ofInt 16).toInt64 &&& 63) = lN ((ud + c + da * yd) / 65536) := by
        apply ul_inj
        rw [ul_sar0 _ _ (by rw [l_big (by omega)]; omega), l_big (by omega), l_big (by omega)]
        rfl
      unfold GX99_multiply_20 GX99_multiply_62
      dsimp only
      rw [fi_neg cc, nI_a, o_cl (by omega), dn, o_64 (by omega), l_a (by omega), up_1 (by omega)]
      by_cases q : k < 4
      · rw [fi_neg (fun z => by have := (ni_ge (by omega)).mp z; omega), X99_digit u hi]
        dsimp only
        rw [X99_digit v q]
        dsimp only
        rw [hD0, hyd, o_64 (by omega), o_64 (by omega), l_m (by omega) (by omega) (by omega), l_a (by omega), sh]
      · have z : yd = 0 := by rw [← hyd]; exact ul_dig0 v (by omega)
        subst z
        rw [Nat.mul_zero, Nat.add_zero] at sh ⊢
        rw [fi_pos ((ni_ge (by omega)).mpr (by omega)), show Int64.ofInt 0 = lN 0 from rfl, l_a (by omega), Nat.add_zero, sh]
    have hH : HX99_multiply_20 a u v (nI i) (lN c) (nI k) N := by
      refine ⟨fun q => absurd q cc, fun _ => ?_⟩
      dsimp only
      rw [nI_a]
      refine ⟨i0, fun _ => ⟨?_, trivial⟩, fun _ => ?_⟩
      · rw [nI_a]
        exact i0
      · refine ⟨?_, trivial⟩
        rw [nI_a]
        by_cases q : k < 4
        · rw [X99_digit u hi]
          dsimp only
          rw [X99_digit v q]
          exact i0
        · exact i0
    have G0 := (gX99_multiply_20 (FX99_multiply_L fN (J + r + 1)).1 (FX99_multiply_L fN (J + r + 1)).2 a u v (nI i) (lN c) (nI k) N f.1 (aok_is f n) hH).1
    rw [ev, s2] at G0
    have uv : ui ((lN (ud + c + da * yd)).toInt32) = (ud + c + da * yd) % 4294967296 := by rw [ui_low, l_big (by omega)]
    obtain ⟨X, x1, x2⟩ := ih (k + 1) _ (aok_s (i := i + k) (v := (lN (ud + c + da * yd)).toInt32 &&& Int32.ofInt 65535) n f) (fun j hj => by
      rw [rI]
      by_cases q : j = i + k
      · rw [if_pos ⟨rfl, rfl, q⟩, q, and16 uv, ← s1]
        omega
      · rw [if_neg (fun z => q z.2.2)]
        exact hd j (by omega)) (fun j hj h2 => by rw [rI, if_neg (fun z => by omega)]; exact ho j (by omega) h2) (by omega)
    exact ⟨X, G0.trans x1, x2⟩
theorem X99_mul_out (u v : Int64) (n : fm_is M 901 901 a = true) (hl : M.2.2 1 a 0 = 220) : ∀ (r i J : Nat) (N : FM), AOk a M N → BH N a (ul u % 2 ^ (16 * i) * ul v) → i + r = 4 → 8 * r < J →
    ∃ X, (FX99_multiply_L fN J).1 a u v (nI i) N = some X ∧ AOk a M X ∧ BH X a (ul u * ul v) := by
  intro r
  induction r with
  | zero =>
    intro i J N f hB hi hJ
    obtain ⟨J, rfl⟩ : ∃ x, J = x + 1 := ⟨J - 1, by omega⟩
    have cc : Int32.ofInt 4 ≤ nI i := (ni_ge (by omega)).mpr (by omega)
    refine ⟨N, ?_, f, ?_⟩
    · show FX99_multiply_8 fN (FX99_multiply_L fN J).1 (FX99_multiply_L fN J).2 a u v (nI i) N = _
      rw [(gX99_multiply_8 (FX99_multiply_L fN J).1 (FX99_multiply_L fN J).2 a u v (nI i) N f.1).1]
      unfold GX99_multiply_8
      rw [fi_pos cc]
      rfl
    · rw [show i = 4 by omega, Nat.mod_eq_of_lt (show ul u < 2 ^ (16 * 4) from ul_lt u)] at hB
      exact hB
  | succ r ih =>
    intro i J N f hB hi hJ
    obtain ⟨J, rfl⟩ : ∃ x, J = x + 7 := ⟨J - 7, by omega⟩
    have cc : ¬ Int32.ofInt 4 ≤ nI i := fun q => by have := (ni_ge (by omega)).mp q; omega
    have G0 := (gX99_multiply_8 (FX99_multiply_L fN (J + 6)).1 (FX99_multiply_L fN (J + 6)).2 a u v (nI i) N f.1).1
    unfold GX99_multiply_8 at G0
    rw [fi_neg cc] at G0
    obtain ⟨X, x1, x2, x3⟩ := X99_mul_in u v (aok_is f n) (aok_ln f hl) (show i < 4 by omega) J 5 0 N (aok_r f.1) (fun j hj => by
      rw [hB.2 j (by omega)]
      have p : 2 ^ (16 * i) = 2 ^ (16 * (i - j) - 16) * 65536 * 2 ^ (16 * j) := by
        rw [show (65536 : Nat) = 2 ^ 16 from rfl, ← Nat.pow_add, ← Nat.pow_add]
        congr 1
        omega
      have e : ul u / 2 ^ (16 * i) % 65536 * ul v * 2 ^ (16 * i) = ul u / 2 ^ (16 * i) % 65536 * ul v * 2 ^ (16 * (i - j) - 16) * 65536 * 2 ^ (16 * j) := by
        conv => lhs; rw [p]
        conv => rhs; rw [p]
        ac_rfl
      rw [e, Nat.add_mul_div_right _ _ (Nat.two_pow_pos _), Nat.add_mul_mod_self_right]) (fun j h1 h2 => hB.2 j h2) rfl
    have e2 : ul u % 2 ^ (16 * i) * ul v + ul u / 2 ^ (16 * i) % 65536 * ul v * 2 ^ (16 * i) = ul u % 2 ^ (16 * (i + 1)) * ul v := by
      rw [p16, Nat.mod_mul, Nat.add_mul]
      congr 1
      ac_rfl
    rw [e2] at x3
    have c0 : (ul u % 2 ^ (16 * i) * ul v % 2 ^ (16 * (i + 0)) + ul u / 2 ^ (16 * i) % 65536 * (ul v % 2 ^ (16 * 0)) * 2 ^ (16 * i)) / 2 ^ (16 * (i + 0)) = 0 := by
      rw [Nat.mul_zero, Nat.pow_zero, Nat.mod_one, Nat.mul_zero, Nat.zero_mul, Nat.add_zero, Nat.add_zero]
      exact Nat.div_eq_of_lt (Nat.mod_lt _ (Nat.two_pow_pos _))
    rw [c0] at x1
    obtain ⟨Y, y1, y2, y3⟩ := ih (i + 1) J X (aok_t f x2) x3 (by omega) (by omega)
    exact ⟨Y, (G0.trans x1).trans y1, y2, y3⟩
theorem X99_multiply (T : Ty M) (n : fm_is M 901 901 a = true) (hl : M.2.2 1 a 0 = 220) (u v : Int64) : ∃ X, (HX99_multiply a u v M ∧ GX99_multiply a u v M = X) ∧ AOk a M X ∧ BH X a (ul u * ul v) := by
  obtain ⟨Y, ⟨y1, y2⟩, y3, y4⟩ := X99_put T n hl (Int64.ofInt 0)
  have G0 := (gX99_multiply_0 (FX99_multiply_L fN fN).1 (FX99_multiply_L fN fN).2 a u v M T ⟨y1, trivial⟩).1
  unfold GX99_multiply_0 at G0
  dsimp only at G0
  rw [y2] at G0
  have z : ul u % 2 ^ (16 * 0) * ul v = ul (Int64.ofInt 0) := by
    rw [Nat.mul_zero, Nat.pow_zero, Nat.mod_one, Nat.zero_mul]
    rfl
  obtain ⟨X, x1, x2, x3⟩ := X99_mul_out u v n hl 4 0 fN Y y3 (by rw [z]; exact y4) rfl (by decide)
  exact ⟨X, op_of (o := FX99_multiply fN a u v M) (G0.trans x1) ⟨x2.1, aok_ext x2⟩, x2, x3⟩
end Mu
/-- what was rounded: the units, and whether something was lost -/
def uS (f : Nat) (U : Int64) (l : Int32) (M : FM) : FM := fm_sL (fm_sI M 385 f 0 l) 384 f 0 U
theorem cuU_bit {A k : Nat} {d : Int} : (cuU A d).testBit k = true ↔ 0 ≤ (k : Int) + d ∧ A.testBit ((k : Int) + d).toNat = true := by
  unfold cuU
  by_cases h : d ≤ 0
  · rw [if_pos h, Nat.testBit_mul_two_pow]
    by_cases q : 0 ≤ (k : Int) + d
    · rw [decide_eq_true (by omega), Bool.true_and, show k - (-d).toNat = ((k : Int) + d).toNat by omega]
      exact ⟨fun z => ⟨q, z⟩, fun z => z.2⟩
    · rw [decide_eq_false (by omega), Bool.false_and]
      exact ⟨fun z => (by cases z), fun z => absurd z.1 q⟩
  · rw [if_neg h, Nat.testBit_div_two_pow, show k + d.toNat = ((k : Int) + d).toNat by omega]
    exact ⟨fun z => ⟨by omega, z⟩, fun z => z.2⟩
theorem un_step (E r : Nat) (hr : r < 64) : E / 2 ^ r % 2 ^ (64 - r) = 2 * (E / 2 ^ (r + 1) % 2 ^ (63 - r)) + (if E.testBit r = true then 1 else 0) := by
  have e1 : E / 2 ^ (r + 1) = E / 2 ^ r / 2 := by rw [Nat.pow_succ, Nat.div_div_eq_div_mul]
  have e2 : E.testBit r = decide (E / 2 ^ r % 2 = 1) := Nat.testBit_eq_decide_div_mod_eq
  have e3 : 2 ^ (64 - r) = 2 * 2 ^ (63 - r) := by rw [show 64 - r = (63 - r) + 1 by omega, Nat.pow_succ, Nat.mul_comm]
  rw [e1, e2, e3, Nat.mod_mul]
  by_cases q : E / 2 ^ r % 2 = 1
  · rw [decide_eq_true q, if_pos rfl, q]
    omega
  · rw [decide_eq_false q, if_neg (by decide)]
    omega
section Ro
variable {M : FM} {f A md : Nat} {sg mo : Bool} {sc u : Int}
theorem X99_ro1 (T : Ty M) (n : fm_is M 96 96 f = true) (hB : BH M (M.2.2 379 f 0) A) {d : Int} (hd : -100000 ≤ d ∧ d ≤ 100000) : ∀ (r J : Nat), r ≤ 64 → 
    (FX99_roundTo_L fN (J + r + 1)).1 f (nI md) (Int32.ofInt d) (Int32.ofInt ((r : Int) - 1)) (fm_sL M 384 f 0 (lN (cuU A d / 2 ^ r % 2 ^ (64 - r)))) =
    (FX99_roundTo_L fN J).2 f (nI md) (Int32.ofInt d) (bz (0 ≤ d - 1 ∧ A.testBit (d - 1).toNat = true)) (M.1 381 f 0) (nI 0) (fm_sL M 384 f 0 (lN (cuU A d))) := by
  intro r
  induction r with
  | zero =>
    intro J hr
    have cc : Int32.ofInt (((0 : Nat) : Int) - 1) < 0 := (iz_lt (b := 0) (by omega)).mpr (by omega)
    have ew : lN (cuU A d / 2 ^ 0 % 2 ^ (64 - 0)) = lN (cuU A d) := by
      apply ul_inj
      rw [ul_lN, ul_lN, Nat.pow_zero, Nat.div_one]
      exact Nat.mod_mod _ _
    rw [ew]
    have T' : Ty (fm_sL M 384 f 0 (lN (cuU A d))) := ty_eq rfl rfl T
    have hl : (fm_sL M 384 f 0 (lN (cuU A d))).2.2 1 (M.2.2 379 f 0) 0 = 220 := tL_379 T.1 n
    have hB' : BH (fm_sL M 384 f 0 (lN (cuU A d))) (M.2.2 379 f 0) A := hB
    obtain ⟨b1, b2⟩ := X99_bit hB' hl (z := d - 1) (by omega)
    have e1 : Int32.ofInt d - Int32.ofInt 1 = Int32.ofInt (d - 1) := iz_s
    have G0 := (gX99_roundTo_16 (FX99_roundTo_L fN J).1 (FX99_roundTo_L fN J).2 f (nI md) (Int32.ofInt d) (Int32.ofInt (((0 : Nat) : Int) - 1)) (fm_sL M 384 f 0 (lN (cuU A d))) T' n ⟨fun _ => ⟨by rw [e1]; exact b1, trivial⟩, fun q => absurd cc q⟩).1
    unfold GX99_roundTo_16 at G0
    dsimp only at G0
    rw [fi_pos cc, e1] at G0
    rw [show (fm_sL M 384 f 0 (lN (cuU A d))).2.2 379 f 0 = M.2.2 379 f 0 from rfl, b2] at G0
    exact G0
  | succ r ih =>
    intro J hr
    have e0 : Int32.ofInt (((r + 1 : Nat) : Int) - 1) = nI r := by rw [iz_nI]; congr 1; omega
    have e2 : nI r + Int32.ofInt (-1) = Int32.ofInt ((r : Int) - 1) := by rw [iz_nI, iz_a]; congr 1
    have cc : ¬ nI r < 0 := fun q => by have := (ni_lt (z := 0) (by omega)).mp q; omega
    rw [e0]
    generalize hW : cuU A d / 2 ^ (r + 1) % 2 ^ (64 - (r + 1)) = W
    have T' : Ty (fm_sL M 384 f 0 (lN W)) := ty_eq rfl rfl T
    have hl : (fm_sL M 384 f 0 (lN W)).2.2 1 (M.2.2 379 f 0) 0 = 220 := tL_379 T.1 n
    have hB' : BH (fm_sL M 384 f 0 (lN W)) (M.2.2 379 f 0) A := hB
    obtain ⟨b1, b2⟩ := X99_bit hB' hl (z := (r : Int) + d) (by omega)
    have e1 : nI r + Int32.ofInt d = Int32.ofInt ((r : Int) + d) := by rw [iz_nI]; exact iz_a
    have G0 := (gX99_roundTo_16 (FX99_roundTo_L fN (J + r + 1)).1 (FX99_roundTo_L fN (J + r + 1)).2 f (nI md) (Int32.ofInt d) (nI r) (fm_sL M 384 f 0 (lN W)) T' n ⟨fun q => absurd q cc, fun _ => ⟨by rw [e1]; exact b1, trivial⟩⟩).1
    have st := un_step (cuU A d) r (by omega)
    rw [show 64 - (r + 1) = 63 - r by omega] at hW
    rw [hW] at st
    have p64 : 2 ^ (64 - r) ≤ 2 ^ 64 := Nat.pow_le_pow_right (by decide) (by omega)
    have lt : cuU A d / 2 ^ r % 2 ^ (64 - r) < 2 ^ (64 - r) := Nat.mod_lt _ (Nat.two_pow_pos _)
    have b64 : (2 : Nat) ^ 64 = 18446744073709551616 := by decide
    unfold GX99_roundTo_16 GX99_roundTo_49 at G0
    dsimp only at G0
    rw [fi_neg cc, e1, show (fm_sL M 384 f 0 (lN W)).2.2 379 f 0 = M.2.2 379 f 0 from rfl, b2] at G0
    dsimp only at G0
    rw [fi_bz, e2, sL_at, sL_same, sL_same, show Int64.ofInt 2 = lN 2 from rfl, show Int64.ofInt 1 = lN 1 from rfl, show Int64.ofInt 0 = lN 0 from rfl] at G0
    refine Eq.trans ?_ (ih J (by omega))
    refine Eq.trans G0 ?_
    rw [st]
    by_cases q : (cuU A d).testBit r = true
    · rw [if_pos q] at st
      rw [fi_pos (cuU_bit.mp q), if_pos q, l_m (by omega) (by omega) (by omega), l_a (by omega)]
      rfl
    · rw [if_neg q] at st
      rw [fi_neg (fun z => q (cuU_bit.mpr z)), if_neg q, l_m (by omega) (by omega) (by omega), l_a (by omega)]
      rfl
end Ro
