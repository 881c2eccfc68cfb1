/-! floats: the twin: roots -/
set_option maxRecDepth 100000
/-- the root, two bits for each of it -/
def sqF : Nat → Nat → Nat
  | 0, _ => 0
  | j + 1, n => if (2 * sqF j (n / 4) + 1) * (2 * sqF j (n / 4) + 1) ≤ n then 2 * sqF j (n / 4) + 1 else 2 * sqF j (n / 4)
theorem sq_s (q : Nat) : (2 * q + 1) * (2 * q + 1) = 4 * (q * q) + 4 * q + 1 ∧ (q + 1) * (q + 1) = q * q + 2 * q + 1 ∧ (2 * q) * (2 * q) = 4 * (q * q) ∧ (2 * q + 1 + 1) * (2 * q + 1 + 1) = 4 * (q * q) + 8 * q + 4 := by
  refine ⟨?_, ?_, ?_, ?_⟩
  · rw [Nat.mul_add, Nat.add_mul, Nat.mul_mul_mul_comm]
    omega
  · rw [Nat.mul_add, Nat.add_mul]
    omega
  · rw [Nat.mul_mul_mul_comm]
  · rw [show 2 * q + 1 + 1 = 2 * q + 2 by omega, Nat.mul_add, Nat.add_mul, Nat.mul_mul_mul_comm]
    omega
theorem sq_ok : ∀ (j n : Nat), n < 4 ^ j → sqF j n * sqF j n ≤ n ∧ n < (sqF j n + 1) * (sqF j n + 1) := by
  intro j
  induction j with
  | zero =>
    intro n h
    rw [Nat.pow_zero] at h
    have : n = 0 := by omega
    subst this
    exact ⟨Nat.le_refl _, by decide⟩
  | succ j ih =>
    intro n h
    obtain ⟨a, b⟩ := ih (n / 4) (by rw [Nat.pow_succ] at h; omega)
    unfold sqF
    generalize sqF j (n / 4) = q at *
    obtain ⟨s1, s2, s3, s4⟩ := sq_s q
    rw [s2] at b
    by_cases k : (2 * q + 1) * (2 * q + 1) ≤ n
    · rw [if_pos k]
      refine ⟨k, ?_⟩
      rw [s4]
      omega
    · rw [if_neg k]
      exact ⟨by rw [s3]; omega, by omega⟩
theorem sq_u {a b n : Nat} (h1 : a * a ≤ n) (h2 : n < (a + 1) * (a + 1)) (k1 : b * b ≤ n) (k2 : n < (b + 1) * (b + 1)) : a = b := by
  rcases Nat.lt_trichotomy a b with h | h | h
  · have := Nat.mul_le_mul (show a + 1 ≤ b from h) (show a + 1 ≤ b from h)
    omega
  · exact h
  · have := Nat.mul_le_mul (show b + 1 ≤ a from h) (show b + 1 ≤ a from h)
    omega
theorem sq_b : ∀ (j n : Nat), sqF j n < 2 ^ j := by
  intro j
  induction j with
  | zero => exact fun n => Nat.one_pos
  | succ j ih =>
    intro n
    have := ih (n / 4)
    unfold sqF
    rw [Nat.pow_succ]
    split <;> omega
theorem iz_h {z : Int} (h : -1000000 ≤ z ∧ z ≤ 1000000) : Int32.ofInt z / Int32.ofInt 2 = Int32.ofInt (if 0 ≤ z then z / 2 else -((-z) / 2)) := by
  apply Int32.toInt_inj.mp
  have m : Int32.ofInt z ≠ Int32.minValue := fun e => by
    have := congrArg Int32.toInt e
    rw [iz_t (by omega)] at this
    have m2 : Int32.minValue.toInt = -2147483648 := by decide
    omega
  rw [Int32.toInt_div_of_ne_left _ _ m, iz_t (by omega), iz_t (by omega)]
  by_cases q : 0 ≤ z
  · rw [if_pos q, iz_t (by omega), Int.tdiv_eq_ediv_of_nonneg q]
  · rw [if_neg q, iz_t (by omega)]
    obtain ⟨n, rfl⟩ : ∃ n : Int, z = -n := ⟨-z, by omega⟩
    rw [Int.neg_tdiv, Int.tdiv_eq_ediv_of_nonneg (by omega), Int.neg_neg]
theorem iz_p {z : Int} (h : -1000000 ≤ z ∧ z ≤ 1000000) : Int32.ofInt z - Int32.ofInt z / Int32.ofInt 2 * Int32.ofInt 2 = 0 ↔ z % 2 = 0 := by
  rw [iz_h h, iz_m, iz_s, show (0 : Int32) = Int32.ofInt 0 from rfl, iz_eq (by split <;> omega)]
  split <;> omega
/-- by how much a number is raised before its root is found -/
def rb (X : UU) : Nat := if (X.2.2.2 - ((116 - bln X.2.2.1 : Nat) : Int)) % 2 = 0 then 116 - bln X.2.2.1 else 116 - bln X.2.2.1 + 1
def rootR (X : UU) : Rt × Nat :=
  if X.1 = 0 then ((0, X.2.1, 0, 0, false), 0) else if X.1 = 2 ∧ ¬ X.2.1 = true then ((2, false, 0, 0, false), 0) else if X.2.1 = true then ((3, false, 0, 0, false), 16)
  else ((1, false, sqF 59 (X.2.2.1 * 2 ^ rb X), (X.2.2.2 - rb X) / 2, decide (X.2.2.1 * 2 ^ rb X ≠ sqF 59 (X.2.2.1 * 2 ^ rb X) * sqF 59 (X.2.2.1 * 2 ^ rb X))), 0)
section Rq
variable {M N : FM} {f md t : Nat} {X Y Z : UU}
theorem X99_root_L (o : FlO f M) (ht : t ≤ 1) (hm : md ≤ 4) (v0 : SV f 0 M X) (gX : gdU X) {R : Nat} (hR : R < 4 ^ 59) (h1 : 1 ≤ R) (B2 : BH M (M.2.2 380 f 0) R) {b : Nat} (hb : b ≤ 200 ∧ (X.2.2.2 - (b : Int)) % 2 = 0) :
    ∀ (r J : Nat), r ≤ 59 → r < J →
    ∃ L, FX99_root_L167 fN J f (nI t) (nI md) (nI b) (lN (sqF (59 - r) (R / 4 ^ r))) (lN (R / 4 ^ r - sqF (59 - r) (R / 4 ^ r) * sqF (59 - r) (R / 4 ^ r))) (Int32.ofInt (2 * (r : Int) - 2)) M = some (lN (rnd t md false (sqF 59 R) ((X.2.2.2 - b) / 2) (decide (R ≠ sqF 59 R * sqF 59 R))).1, L) ∧
      Rs f (rnd t md false (sqF 59 R) ((X.2.2.2 - b) / 2) (decide (R ≠ sqF 59 R * sqF 59 R))).2 M L := by
  obtain ⟨n1, l1, n2, l2, ne⟩ := fl_one o
  have c0 := gX.2.2.1
  intro r
  induction r with
  | zero =>
    intro J hr hJ
    obtain ⟨J, rfl⟩ : ∃ x, J = x + 1 := ⟨J - 1, by omega⟩
    rw [Nat.pow_zero, Nat.div_one, Nat.sub_zero]
    obtain ⟨q1, q2⟩ := sq_ok 59 R hR
    have q3 := sq_b 59 R
    have p59 : (2 : Nat) ^ 59 = 576460752303423488 := by decide
    have q4 := (sq_s (sqF 59 R)).2.1
    have hA : sqF 59 R ≠ 0 := fun z => by rw [z] at q2; omega
    generalize hq : sqF 59 R = q at *
    have cc : Int32.ofInt (2 * ((0 : Nat) : Int) - 2) < 0 := (iz_lt (b := 0) (by omega)).mpr (by omega)
    obtain ⟨K, ⟨k1, k2⟩, k3, k4⟩ := X99_put o.1 n1 l1 (lN q)
    rw [l_big (by omega)] at k4
    have rk := rs_a (f := f) (Or.inl rfl) k3
    have oK := frF_o o rk.1
    have eK : K.2.2 = M.2.2 := by rw [k3.2.1]
    have s0 := sv_a o (Or.inl rfl) k3 v0
    have half : Int32.ofInt (X.2.2.2 - (b : Int)) / Int32.ofInt 2 = Int32.ofInt ((X.2.2.2 - b) / 2) := by
      rw [iz_h (by omega)]
      congr 1
      split <;> omega
    have r309 : ∀ (p : Prop), (p ↔ R ≠ q * q) → ∃ L, (HX99_root_309 f (nI t) (nI md) (nI b) f (bz p) K ∧ GX99_root_309 f (nI t) (nI md) (nI b) f (bz p) K = .inr (lN (rnd t md false q ((X.2.2.2 - b) / 2) (decide (R ≠ q * q))).1, L)) ∧
        Rs f (rnd t md false q ((X.2.2.2 - b) / 2) (decide (R ≠ q * q))).2 M L := fun p hp => by
      have r1 := rs_m (f := f) (c := p) oK.1
      have r2 := rs_i (f := f) (g := 382) (v := Int32.ofInt 0) (Or.inl rfl) r1.1.1
      have r3 := rs_i (f := f) (g := 383) (v := Int32.ofInt ((X.2.2.2 - b) / 2)) (Or.inr rfl) r2.1.1
      have s0' := sv_i (g := 382) (w := Int32.ofInt 0) (by decide) (sv_i (g := 381) (w := bz p) (by decide) s0)
      obtain ⟨L, ⟨l1, l2⟩, l3⟩ := X99_rounded (M := fm_sI (fm_sI (fm_sI K 381 f 0 (bz p)) 382 f 0 (Int32.ofInt 0)) 383 f 0 (Int32.ofInt ((X.2.2.2 - b) / 2))) (A := q) (mo := decide (R ≠ q * q)) (sg := false) (sc := (X.2.2.2 - b) / 2) (frF_o (frF_o (frF_o oK r1.1) r2.1) r3.1) ht hm
        (bh_I (by decide) (bh_I (by decide) (bh_I (by decide) (by rw [show (fm_sI (fm_sI (fm_sI K 381 f 0 (bz p)) 382 f 0 (Int32.ofInt 0)) 383 f 0 (Int32.ofInt ((X.2.2.2 - b) / 2))).2.2 379 f 0 = M.2.2 379 f 0 from by show K.2.2 379 f 0 = _; rw [eK]]; exact k4)))) hA
        ((oI (fun q => by omega)).trans ((sI_at _ _ _ _ _).trans (bz_f (by decide)).symm)) (sI_at _ _ _ _ _) ((oI (fun q => by omega)).trans ((oI (fun q => by omega)).trans ((sI_at _ _ _ _ _).trans (bz_c (by rw [hp]; simp))))) (by omega)
      unfold HX99_root_309 GX99_root_309
      dsimp only
      rw [cl0, s0'.2.2.2, iz_nI b, iz_s, half, l2]
      exact ⟨L, ⟨⟨l1, trivial⟩, rfl⟩, rs_0t rk (rs_0t r1 (rs_0t r2 (rs_0t r3 l3)))⟩
    have le0 : lg_cmp (lN (R - q * q)) (Int64.ofInt 0) ≤ 0 ↔ R = q * q := by
      rw [show Int64.ofInt 0 = lN 0 from rfl, b_le (by omega) (by omega)]
      omega
    by_cases w : R = q * q
    · obtain ⟨L, ⟨l1, l2⟩, l3⟩ := r309 False ⟨fun w => w.elim, fun z => z w⟩
      rw [← bz0] at l1 l2
      have G0 := (gX99_root_167 (FX99_root_L167 fN J) f (nI t) (nI md) (nI b) (lN q) (lN (R - q * q)) (Int32.ofInt (2 * ((0 : Nat) : Int) - 2)) M o.1 o.2.1 ⟨fun _ => ⟨k1, by
        dsimp only
        rw [k2]
        exact ⟨fun _ => l1, fun z => absurd (le0.mpr w) z⟩⟩, fun w => absurd cc w⟩).1
      unfold GX99_root_167 at G0
      dsimp only at G0
      rw [fi_pos cc, fi_pos (le0.mpr w), k2, l2] at G0
      exact ⟨L, G0, l3⟩
    · obtain ⟨L, ⟨l1, l2⟩, l3⟩ := r309 True ⟨fun _ => w, fun _ => trivial⟩
      rw [← bz1] at l1 l2
      have G0 := (gX99_root_167 (FX99_root_L167 fN J) f (nI t) (nI md) (nI b) (lN q) (lN (R - q * q)) (Int32.ofInt (2 * ((0 : Nat) : Int) - 2)) M o.1 o.2.1 ⟨fun _ => ⟨k1, by
        dsimp only
        rw [k2]
        exact ⟨fun z => absurd (le0.mp z) w, fun _ => l1⟩⟩, fun w => absurd cc w⟩).1
      unfold GX99_root_167 at G0
      dsimp only at G0
      rw [fi_pos cc, fi_neg (fun z => w (le0.mp z)), k2, l2] at G0
      exact ⟨L, G0, l3⟩
  | succ r ih =>
    intro J hr hJ
    obtain ⟨J, rfl⟩ : ∃ x, J = x + 1 := ⟨J - 1, by omega⟩
    have e0 : Int32.ofInt (2 * ((r + 1 : Nat) : Int) - 2) = Int32.ofInt (2 * (r : Int)) := by congr 1; omega
    have e1 : Int32.ofInt (2 * (r : Int)) + Int32.ofInt 1 = Int32.ofInt (2 * (r : Int) + 1) := iz_a
    have e2 : Int32.ofInt (2 * (r : Int)) + Int32.ofInt (-2) = Int32.ofInt (2 * (r : Int) - 2) := iz_a
    have cc : ¬ Int32.ofInt (2 * (r : Int)) < 0 := fun q => by have := (iz_lt (b := 0) (by omega)).mp q; omega
    obtain ⟨b1, b2⟩ := X99_bit B2 l2 (z := 2 * (r : Int) + 1) (by omega)
    obtain ⟨b3, b4⟩ := X99_bit B2 l2 (z := 2 * (r : Int)) (by omega)
    have p4 : R / 4 ^ (r + 1) = R / 4 ^ r / 4 := by rw [Nat.pow_succ, Nat.div_div_eq_div_mul]
    have hRr : R / 4 ^ (r + 1) < 4 ^ (59 - (r + 1)) := by
      rw [Nat.div_lt_iff_lt_mul (Nat.pow_pos (by decide)), ← Nat.pow_add, show 59 - (r + 1) + (r + 1) = 59 by omega]
      exact hR
    obtain ⟨q1, q2⟩ := sq_ok _ _ hRr
    have q3 := sq_b (59 - (r + 1)) (R / 4 ^ (r + 1))
    have p59 : 2 ^ (59 - (r + 1)) ≤ 288230376151711744 := Nat.le_trans (show 2 ^ (59 - (r + 1)) ≤ 2 ^ 58 from Nat.pow_le_pow_right (by decide) (by omega)) (by decide)
    have su : sqF (59 - r) (R / 4 ^ r) = if (2 * sqF (59 - (r + 1)) (R / 4 ^ (r + 1)) + 1) * (2 * sqF (59 - (r + 1)) (R / 4 ^ (r + 1)) + 1) ≤ R / 4 ^ r then 2 * sqF (59 - (r + 1)) (R / 4 ^ (r + 1)) + 1 else 2 * sqF (59 - (r + 1)) (R / 4 ^ (r + 1)) := by
      rw [p4, show 59 - r = (59 - (r + 1)) + 1 by omega]
      rfl
    have t1 : R.testBit (2 * r + 1) = decide (R / 4 ^ r / 2 % 2 = 1) := by
      rw [Nat.testBit_eq_decide_div_mod_eq, Nat.pow_succ, ← Nat.div_div_eq_div_mul, Nat.pow_mul]
    have t0 : R.testBit (2 * r) = decide (R / 4 ^ r % 2 = 1) := by
      rw [Nat.testBit_eq_decide_div_mod_eq, Nat.pow_mul]
    rw [p4] at q1 q2 q3 su ⊢
    rw [e0]
    generalize R / 4 ^ r = V at *
    generalize sqF (59 - (r + 1)) (V / 4) = q at *
    obtain ⟨s1, s2, s3, s4⟩ := sq_s q
    rw [s2] at q2
    generalize hW : q * q = W at *
    have h199 : ∀ a c, HX99_root_199 f (nI t) (nI md) (nI b) (lN q) (Int32.ofInt (2 * (r : Int))) a c M := fun _ _ => ⟨b3, trivial⟩
    have G0 := (gX99_root_167 (FX99_root_L167 fN J) f (nI t) (nI md) (nI b) (lN q) (lN (V / 4 - W)) (Int32.ofInt (2 * (r : Int))) M o.1 o.2.1 ⟨fun w => absurd w cc, fun _ => ⟨by rw [e1]; exact b1, by
      dsimp only
      rw [e1, b2]
      exact ⟨fun _ => h199 _ _, fun _ => h199 _ _⟩⟩⟩).1
    -- behind the two bits
    have g217 : ∀ u v : Nat, 4 * (V / 4 - W) + u + v = V - 4 * W → u + v ≤ 3 → GX99_root_217 f (nI t) (nI md) (nI b) (lN q) (Int32.ofInt (2 * (r : Int))) (Int64.ofInt 4 * lN (V / 4 - W) + lN u) (lN v) M = .inl (f, nI t, nI md, nI b, lN (sqF (59 - r) V), lN (V - sqF (59 - r) V * sqF (59 - r) V), Int32.ofInt (2 * (r : Int) - 2), M) := fun u v huv h3 => by
      unfold GX99_root_217 GX99_root_243 GX99_root_260 GX99_root_278
      dsimp only
      rw [show Int64.ofInt 4 = lN 4 from rfl, show Int64.ofInt 1 = lN 1 from rfl, show Int64.ofInt 2 = lN 2 from rfl, show Int64.ofInt 0 = lN 0 from rfl, l_m (by omega) (by omega) (by omega), l_a (by omega), l_a (by omega), l_m (by omega) (by omega) (by omega), l_a (by omega), l_m (by omega) (by omega) (by omega), e2, huv, propext (b_lt (n := V - 4 * W) (k := 4 * q + 1) (by omega) (by omega)), su]
      by_cases w : (2 * q + 1) * (2 * q + 1) ≤ V
      · rw [if_pos w, fi_neg (by omega), fi_neg (show ¬ Int32.ofInt 1 = 0 by decide), fi_neg (show ¬ Int32.ofInt 1 = 0 by decide), l_s (by omega) (by omega), l_a (by omega), s1]
        rw [show V - 4 * W - (4 * q + 1) = V - (4 * W + 4 * q + 1) by omega]
      · rw [if_neg w, fi_pos (by omega), fi_pos (show Int32.ofInt 0 = 0 from rfl), fi_pos (show Int32.ofInt 0 = 0 from rfl), l_a (by omega), s3, Nat.add_zero]
    have g199 : ∀ u : Nat, u = 2 * (V / 2 % 2) → GX99_root_199 f (nI t) (nI md) (nI b) (lN q) (Int32.ofInt (2 * (r : Int))) (Int64.ofInt 4 * lN (V / 4 - W)) (lN u) M = .inl (f, nI t, nI md, nI b, lN (sqF (59 - r) V), lN (V - sqF (59 - r) V * sqF (59 - r) V), Int32.ofInt (2 * (r : Int) - 2), M) := fun u hu => by
      unfold GX99_root_199
      dsimp only
      rw [b4]
      dsimp only
      rw [fi_bz, show ((2 * (r : Int))).toNat = 2 * r by omega, t0, show Int64.ofInt 1 = lN 1 from rfl, show Int64.ofInt 0 = lN 0 from rfl]
      by_cases w : V % 2 = 1
      · rw [fi_pos (show (0 : Int) ≤ 2 * (r : Int) ∧ decide (V % 2 = 1) = true from ⟨by omega, decide_eq_true w⟩)]
        exact g217 u 1 (by omega) (by omega)
      · rw [fi_neg (show ¬ ((0 : Int) ≤ 2 * (r : Int) ∧ decide (V % 2 = 1) = true) from fun z => w (of_decide_eq_true z.2))]
        exact g217 u 0 (by omega) (by omega)
    have I := ih J (by omega) (by omega)
    unfold GX99_root_167 at G0
    dsimp only at G0
    rw [fi_neg cc, e1, b2] at G0
    dsimp only at G0
    rw [fi_bz, show ((2 * (r : Int) + 1)).toNat = 2 * r + 1 by omega, t1, show Int64.ofInt 2 = lN 2 from rfl, show Int64.ofInt 0 = lN 0 from rfl] at G0
    have G1 : FX99_root_167 fN (FX99_root_L167 fN J) f (nI t) (nI md) (nI b) (lN q) (lN (V / 4 - W)) (Int32.ofInt (2 * (r : Int))) M = FX99_root_L167 fN J f (nI t) (nI md) (nI b) (lN (sqF (59 - r) V)) (lN (V - sqF (59 - r) V * sqF (59 - r) V)) (Int32.ofInt (2 * (r : Int) - 2)) M := by
      rw [G0]
      by_cases w : V / 2 % 2 = 1
      · rw [fi_pos (show (0 : Int) ≤ 2 * (r : Int) + 1 ∧ decide (V / 2 % 2 = 1) = true from ⟨by omega, decide_eq_true w⟩), g199 2 (by omega)]
        rfl
      · rw [fi_neg (show ¬ ((0 : Int) ≤ 2 * (r : Int) + 1 ∧ decide (V / 2 % 2 = 1) = true) from fun z => w (of_decide_eq_true z.2)), g199 0 (by omega)]
        rfl
    show ∃ L, FX99_root_167 fN (FX99_root_L167 fN J) f (nI t) (nI md) (nI b) (lN q) (lN (V / 4 - W)) (Int32.ofInt (2 * (r : Int))) M = _ ∧ _
    rw [G1]
    exact I
theorem X99_root (o : FlO f M) (ht : t ≤ 1) (hm : md ≤ 4) (v0 : SV f 0 M X) (gX : gdU X) :
    ∃ L, (HX99_root f (nI t) (nI md) M ∧ GX99_root f (nI t) (nI md) M = (lN (opB1 t md X.1 (rootR X)).1, L)) ∧ Rs f (opB1 t md X.1 (rootR X)).2 M L := by
  have gx1 := gX.1
  have k00 : M.1 3 (M.2.2 375 f 0) 0 = 0 ↔ X.1 = 0 := kdI (v := 0) v0 gX (by decide)
  have k02 : M.1 3 (M.2.2 375 f 0) 0 = Int32.ofInt 2 ↔ X.1 = 2 := kdI (v := 2) v0 gX (by decide)
  have i4 : fm_in M (M.2.2 374 f 0) (nI t) = true := in_nI (tL_374 o.1.1 o.2.1) (by omega) (by decide)
  obtain ⟨h1, h2⟩ := X99_none1 o ht v0 gX
  have key : ∃ L, (HX99_root_0 f (nI t) (nI md) M ∧ kX99_root (FX99_root_L167 fN fN) (GX99_root_0 f (nI t) (nI md) M) = some (lN (opB1 t md X.1 (rootR X)).1, L)) ∧ Rs f (opB1 t md X.1 (rootR X)).2 M L := by
    unfold HX99_root_0 GX99_root_0
    dsimp only
    rcases h2 with ⟨nn, e⟩ | ⟨yy, L, e, r⟩
    · rw [e]
      dsimp only
      rw [cl0, fi_pos m1_eq, propext k00, propext k02, v0.2.1, opB1_n nn, propext (bz_0 (c := X.2.1 = true))]
      have h45 : HX99_root_45 f (nI t) M := ⟨fun _ => trivial, fun _ => ⟨i4, trivial⟩⟩
      have zf : GX99_pack (Int32.ofInt 0) ((M.1 3 (M.2.2 374 f 0) (nI t).toNatClampNeg).toInt64) (Int64.ofInt 0) (nI t) M = (lN (pk t false (2 * fG t + 1) 0), M) := by
        have := X99_inf o ht false
        rw [bz_f (by decide)] at this
        exact this
      have g45 : GX99_root_45 f (nI t) M = .inr (lN (fi (X.1 = 0) (pk t X.2.1 0 0) (pk t false (2 * fG t + 1) 0)), M) := by
        unfold GX99_root_45 GX99_root_81
        dsimp only
        rw [cl0, propext k00, v0.2.1, X99_zero ht, zf]
        by_cases q : X.1 = 0
        · rw [fi_pos q, fi_pos q]
        · rw [fi_neg q, fi_neg q]
      have s1 : bz (X.2.1 = true) = Int32.ofInt 1 ↔ X.2.1 = true := bzo
      have r82 : ¬ X.1 = 0 → ¬ (X.1 = 2 ∧ ¬ X.2.1 = true) → ∃ L, (HX99_root_82 f (nI t) (nI md) M ∧ kX99_root (FX99_root_L167 fN fN) (GX99_root_82 f (nI t) (nI md) M) = some (lN (finF t md (rootR X).1).1, L)) ∧ Rs f ((rootR X).2 ||| (finF t md (rootR X).1).2) M L := fun a1 a2 => by
        unfold HX99_root_82 GX99_root_82 rootR
        dsimp only
        rw [cl0, v0.2.1, propext s1, if_neg a1, if_neg a2]
        by_cases q : X.2.1 = true
        · obtain ⟨L, l1, l2⟩ := X99_invalid (t := t) o ht
          rw [fi_pos q, if_pos q, l1]
          dsimp only
          rw [fin_3, Nat.or_zero]
          exact ⟨L, ⟨⟨fun _ => trivial, fun w => absurd q w⟩, rfl⟩, l2⟩
        · rw [fi_neg q, if_neg q]
          dsimp only
          rw [fin_1, Nat.zero_or]
          have hX1 : X.1 = 1 := by
            by_cases w : X.1 = 2
            · exact absurd ⟨w, q⟩ a2
            · omega
          have zx : X.2.2.1 ≠ 0 := fun w => by have := (gX.2.2.2 (by omega)).mp w; omega
          obtain ⟨n1, l1, n2, l2, ne⟩ := fl_one o
          have bl := (gdb gX).1
          have bp := bln_pos zx
          have c0 := gX.2.2.1
          obtain ⟨K, ⟨m1, m2⟩, m3, m4, m5, m6, m7, m8⟩ := put1 o (Or.inr rfl) gX
          have nK := aok_is m3 n2
          have lK := aok_ln m3 l2
          obtain ⟨a3, a4⟩ := X99_length m6.1 nK lK m4
          have x6 : Int32.ofInt 116 - nI (bln X.2.2.1) = nI (116 - bln X.2.2.1) := by rw [show Int32.ofInt 116 = nI 116 from rfl, ni_sub (by omega)]
          have x8 : Int32.ofInt X.2.2.2 - nI (116 - bln X.2.2.1) = Int32.ofInt (X.2.2.2 - ((116 - bln X.2.2.1 : Nat) : Int)) := by rw [iz_nI, iz_s]
          have r146 : ∀ b : Nat, b = rb X → ∃ L, (HX99_root_146 f (nI t) (nI md) (nI b) K ∧ kX99_root (FX99_root_L167 fN fN) (GX99_root_146 f (nI t) (nI md) (nI b) K) = some (lN (rnd t md false (sqF 59 (X.2.2.1 * 2 ^ rb X)) ((X.2.2.2 - rb X) / 2) (decide (X.2.2.1 * 2 ^ rb X ≠ sqF 59 (X.2.2.1 * 2 ^ rb X) * sqF 59 (X.2.2.1 * 2 ^ rb X)))).1, L)) ∧
              Rs f (rnd t md false (sqF 59 (X.2.2.1 * 2 ^ rb X)) ((X.2.2.2 - rb X) / 2) (decide (X.2.2.1 * 2 ^ rb X ≠ sqF 59 (X.2.2.1 * 2 ^ rb X) * sqF 59 (X.2.2.1 * 2 ^ rb X)))).2 M L := fun b hb => by
            have bb : (b = 116 - bln X.2.2.1 ∨ b = 116 - bln X.2.2.1 + 1) ∧ (X.2.2.2 - (b : Int)) % 2 = 0 := by
              unfold rb at hb
              split at hb <;> omega
            rw [← hb]
            have lt : X.2.2.1 * 2 ^ b < 2 ^ 118 := by
              refine Nat.lt_of_lt_of_le (Nat.mul_lt_mul_of_pos_right (bln_lt _) (Nat.two_pow_pos b)) ?_
              rw [← Nat.pow_add]
              exact Nat.pow_le_pow_right (by decide) (by omega)
            obtain ⟨K2, ⟨p1, p2⟩, p3, p4⟩ := X99_raise (M := K) m6.1 nK lK m4 (p := b) (by omega) (Nat.lt_of_lt_of_le lt (Nat.pow_le_pow_right (by decide) (by decide)))
            have rk2 := rs_a (f := f) (M := K) (Or.inr (by rw [m8])) p3
            have o2 := frF_o m6 rk2.1
            have e2 : K2.2.2 = M.2.2 := by rw [p3.2.1, m8]
            have s0 := sv_a m6 (Or.inr (by rw [m8])) p3 (m7 0 X v0)
            obtain ⟨L, w1, w2⟩ := X99_root_L (M := K2) (md := md) (R := X.2.2.1 * 2 ^ b) o2 ht hm s0 gX (by rw [show (4 : Nat) ^ 59 = 2 ^ 118 from by decide]; exact lt) (Nat.mul_pos (by omega) (Nat.two_pow_pos b)) (by rw [e2]; exact p4) (b := b) (by omega) 59 fN (Nat.le_refl _) (by decide)
            have z0 : X.2.2.1 * 2 ^ b / 4 ^ 59 = 0 := Nat.div_eq_of_lt (by rw [show (4 : Nat) ^ 59 = 2 ^ 118 from by decide]; exact lt)
            rw [z0] at w1
            refine ⟨L, ⟨?_, ?_⟩, rs_0t m5 (rs_0t rk2 w2)⟩
            · unfold HX99_root_146
              rw [m8]
              exact ⟨p1, trivial⟩
            · unfold GX99_root_146
              dsimp only
              rw [m8, p2]
              exact w1
          rw [v0.2.2.1, m2]
          try dsimp only
          rw [m8, a4]
          try dsimp only
          rw [m8, ← m8, (m7 0 X v0).2.2.2, x6, x8, propext (iz_p (z := X.2.2.2 - ((116 - bln X.2.2.1 : Nat) : Int)) (by omega)), up_1 (by omega)]
          by_cases w : (X.2.2.2 - ((116 - bln X.2.2.1 : Nat) : Int)) % 2 = 0
          · obtain ⟨L, ⟨y1, y2⟩, y3⟩ := r146 (116 - bln X.2.2.1) (by unfold rb; rw [if_pos w])
            rw [fi_pos w]
            refine ⟨L, ⟨⟨fun z => absurd z q, fun _ => ⟨?_, ?_, fun _ => y1, fun z => absurd w z⟩⟩, y2⟩, y3⟩
            · rw [m8]
              exact m1
            · rw [m8]
              exact a3
          · obtain ⟨L, ⟨y1, y2⟩, y3⟩ := r146 (116 - bln X.2.2.1 + 1) (by unfold rb; rw [if_neg w])
            rw [fi_neg w]
            refine ⟨L, ⟨⟨fun z => absurd z q, fun _ => ⟨?_, ?_, fun z => absurd z w, fun _ => y1⟩⟩, y2⟩, y3⟩
            · rw [m8]
              exact m1
            · rw [m8]
              exact a3
      by_cases q : X.1 = 0
      · rw [fi_pos q, g45, fi_pos q]
        unfold rootR
        rw [if_pos q]
        dsimp only
        rw [fin_0, Nat.or_zero]
        exact ⟨M, ⟨⟨h1, fun _ => ⟨fun _ => h45, fun w => absurd q w⟩, fun w => absurd m1_eq w⟩, rfl⟩, rs_r o.1⟩
      · rw [fi_neg q, g45, fi_neg q]
        by_cases q2 : X.1 = 2
        · rw [fi_pos q2]
          by_cases q3 : X.2.1 = true
          · obtain ⟨L, ⟨y1, y2⟩, y3⟩ := r82 q (fun w => w.2 q3)
            rw [fi_neg (fun w => w q3)]
            exact ⟨L, ⟨⟨h1, fun _ => ⟨fun w => absurd w q, fun _ => ⟨fun _ => ⟨fun w => absurd q3 w, fun _ => y1⟩, fun w => absurd q2 w⟩⟩, fun w => absurd m1_eq w⟩, y2⟩, y3⟩
          · rw [fi_pos q3]
            unfold rootR
            rw [if_neg q, if_pos ⟨q2, q3⟩]
            dsimp only
            rw [fin_2, Nat.or_zero]
            exact ⟨M, ⟨⟨h1, fun _ => ⟨fun w => absurd w q, fun _ => ⟨fun _ => ⟨fun _ => h45, fun w => absurd q3 w⟩, fun w => absurd q2 w⟩⟩, fun w => absurd m1_eq w⟩, rfl⟩, rs_r o.1⟩
        · rw [fi_neg q2]
          obtain ⟨L, ⟨y1, y2⟩, y3⟩ := r82 q (fun w => q2 w.1)
          exact ⟨L, ⟨⟨h1, fun _ => ⟨fun w => absurd w q, fun _ => ⟨fun w => absurd w q2, fun _ => y1⟩⟩, fun w => absurd m1_eq w⟩, y2⟩, y3⟩
    · rw [opB1_y yy, e]
      dsimp only
      rw [fi_neg (qN_ne ht)]
      exact ⟨L, ⟨⟨h1, fun w => absurd w (qN_ne ht), fun _ => trivial⟩, rfl⟩, r⟩
  obtain ⟨L, ⟨k1, k2⟩, k3⟩ := key
  have G0 := (gX99_root_0 (FX99_root_L167 fN fN) f (nI t) (nI md) M o.1 o.2.1 k1).1
  exact ⟨L, op_of (o := FX99_root fN f (nI t) (nI md) M) (G0.trans k2) ⟨k3.1.1, frF_ext k3.1⟩, k3⟩
end Rq
