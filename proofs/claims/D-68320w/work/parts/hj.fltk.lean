/-! floats: the twin: quotients -/
set_option maxRecDepth 100000
def divR (X Y : UU) : Rt × Nat :=
  if X.1 = Y.1 ∧ X.1 ≠ 1 then ((3, false, 0, 0, false), 16) else if X.1 = 2 then ((2, X.2.1 ^^ Y.2.1, 0, 0, false), 0) else if Y.1 = 0 then ((2, X.2.1 ^^ Y.2.1, 0, 0, false), 8)
  else if X.1 = 0 ∨ Y.1 = 2 then ((0, X.2.1 ^^ Y.2.1, 0, 0, false), 0)
  else ((1, X.2.1 ^^ Y.2.1, X.2.2.1 * 2 ^ 120 / Y.2.2.1, X.2.2.2 - 120 - Y.2.2.2, decide (X.2.2.1 * 2 ^ 120 % Y.2.2.1 ≠ 0)), 0)
section Dv
variable {M N : FM} {f md t : Nat} {X Y Z : UU}
/-- a bit is set in a row -/
theorem bh_or {a A r : Nat} (h : BH M a A) (hr : r < 3520) : BH (fm_sI M 3 a (r / 16) (M.1 3 a (r / 16) ||| (Int32.ofInt 1 <<< (nI (r % 16) &&& 31)))) a (A ||| 2 ^ r) := by
  refine ⟨Nat.or_lt_two_pow h.1 (Nat.pow_lt_pow_right (by decide) (by rw [bD_e]; omega)), fun k hk => ?_⟩
  refine dig_ext (V := (A ||| 2 ^ r) / 2 ^ (16 * k)) fun i hi => ?_
  rw [rI, Nat.testBit_div_two_pow, Nat.testBit_or, Nat.testBit_two_pow]
  by_cases q : k = r / 16
  · rw [if_pos ⟨rfl, rfl, q⟩, ib_or, bh_ib h (by omega), ib_shl _ (nI (r % 16)) (k := r % 16) (by rw [ni_u (by omega)]; omega)]
    have e1 : ib (Int32.ofInt 1) (i - r % 16) = decide (i - r % 16 = 0) := by
      rw [ib_mask (k := 1) (Int32.ofInt 1) rfl]
      by_cases z : i - r % 16 = 0
      · rw [decide_eq_true z, decide_eq_true (by omega)]
      · rw [decide_eq_false z, decide_eq_false (by omega)]
    rw [e1, q]
    by_cases z : i = r % 16
    · rw [decide_eq_true (show r = i + 16 * (r / 16) by omega), decide_eq_true (show r % 16 ≤ i by omega), decide_eq_true (show i - r % 16 = 0 by omega), decide_eq_true hi, decide_eq_true (show i < 16 by omega)]
      simp
    · rw [decide_eq_false (show ¬ r = i + 16 * (r / 16) by omega)]
      by_cases w : r % 16 ≤ i
      · rw [decide_eq_false (show ¬ i - r % 16 = 0 by omega)]
        simp
      · rw [decide_eq_false w]
        simp
  · rw [if_neg (fun z => q z.2.2), bh_ib h hk]
    by_cases w : i < 16
    · rw [decide_eq_false (show ¬ r = i + 16 * k by omega)]
      simp
    · rw [decide_eq_false w]
      simp
theorem or_up {Q r : Nat} : 2 * Q * 2 ^ r ||| 2 ^ r = (2 * Q + 1) * 2 ^ r := by
  apply Nat.eq_of_testBit_eq
  intro i
  rw [Nat.testBit_or, Nat.testBit_mul_two_pow, Nat.testBit_mul_two_pow, Nat.testBit_two_pow]
  by_cases q : r ≤ i
  · rw [decide_eq_true q, Bool.true_and, Bool.true_and]
    by_cases z : r = i
    · rw [decide_eq_true z, show i - r = 0 by omega, Nat.testBit_zero, Nat.testBit_zero]
      rw [decide_eq_false (show ¬ 2 * Q % 2 = 1 by omega), decide_eq_true (show (2 * Q + 1) % 2 = 1 by omega)]
      rfl
    · rw [decide_eq_false z, Bool.or_false, show i - r = (i - r - 1) + 1 by omega, Nat.testBit_succ, Nat.testBit_succ]
      congr 1
      omega
  · rw [decide_eq_false q, decide_eq_false (show ¬ r = i by omega)]
    rfl
/-- only the rows, and nothing else of the floats -/
theorem X99_div_L (o : FlO f M) (ht : t ≤ 1) (hm : md ≤ 4) (v0 : SV f 0 M X) (v1 : SV f 1 M Y) (gX : gdU X) (gY : gdU Y) (hY : Y.2.2.1 ≠ 0) (hX : X.2.2.1 ≠ 0) (s : Bool) {D : Nat} (hD : D = X.2.2.1 * 2 ^ 120) (B2 : BH M (M.2.2 380 f 0) D) :
    ∀ (r J : Nat) (N : FM), AOk (M.2.2 379 f 0) M N → BH N (M.2.2 379 f 0) (D / 2 ^ r / Y.2.2.1 * 2 ^ r) → r ≤ 176 → r < J →
    ∃ L, FX99_divided_L178 fN J f (nI t) (nI md) (bz (s = true)) (lN (D / 2 ^ r % Y.2.2.1)) (Int32.ofInt ((r : Int) - 1)) N = some (lN (rnd t md s (D / Y.2.2.1) (X.2.2.2 - 120 - Y.2.2.2) (decide (D % Y.2.2.1 ≠ 0))).1, L) ∧
      Rs f (rnd t md s (D / Y.2.2.1) (X.2.2.2 - 120 - Y.2.2.2) (decide (D % Y.2.2.1 ≠ 0))).2 M L := by
  obtain ⟨n1, l1, n2, l2, ne⟩ := fl_one o
  have c0 := gX.2.2.1
  have c1 := gY.2.2.1
  have yl : Y.2.2.1 < 18014398509481984 := gY.2.1
  intro r
  induction r with
  | zero =>
    intro J N h hB hr hJ
    obtain ⟨J, rfl⟩ : ∃ x, J = x + 1 := ⟨J - 1, by omega⟩
    rw [Nat.pow_zero, Nat.mul_one, Nat.div_one] at hB
    rw [Nat.pow_zero, Nat.div_one]
    have rs := rs_a (f := f) (Or.inl rfl) h
    have oN := frF_o o rs.1
    have eN : ∀ g, N.2.2 g f 0 = M.2.2 g f 0 := fun g => by rw [h.2.1]
    have s0 := sv_a o (Or.inl rfl) h v0
    have s1 := sv_a o (Or.inl rfl) h v1
    have hA : D / Y.2.2.1 ≠ 0 := by
      intro z
      have := (Nat.div_eq_zero_iff_lt (by omega)).mp z
      rw [hD] at this
      have h2 : 1 * 2 ^ 120 ≤ X.2.2.1 * 2 ^ 120 := Nat.mul_le_mul_right _ (by omega)
      have h3 : (18014398509481984 : Nat) < 1 * 2 ^ 120 := by decide
      omega
    have lt : D % Y.2.2.1 < Y.2.2.1 := Nat.mod_lt _ (by omega)
    have cc : Int32.ofInt (((0 : Nat) : Int) - 1) < 0 := (iz_lt (b := 0) (by omega)).mpr (by omega)
    have r279 : ∀ (p : Prop), (p ↔ D % Y.2.2.1 ≠ 0) → ∃ L, (HX99_divided_279 f (nI t) (nI md) (bz (s = true)) f (bz p) N ∧ GX99_divided_279 f (nI t) (nI md) (bz (s = true)) f (bz p) N = .inr (lN (rnd t md s (D / Y.2.2.1) (X.2.2.2 - 120 - Y.2.2.2) (decide (D % Y.2.2.1 ≠ 0))).1, L)) ∧
        Rs f (rnd t md s (D / Y.2.2.1) (X.2.2.2 - 120 - Y.2.2.2) (decide (D % Y.2.2.1 ≠ 0))).2 M L := fun p hp => by
      have r1 := rs_m (f := f) (c := p) oN.1
      have r2 := rs_i (f := f) (g := 382) (v := bz (s = true)) (Or.inl rfl) r1.1.1
      have r3 := rs_i (f := f) (g := 383) (v := Int32.ofInt (X.2.2.2 - 120 - Y.2.2.2)) (Or.inr rfl) r2.1.1
      have s0' := sv_i (g := 382) (w := bz (s = true)) (by decide) (sv_i (g := 381) (w := bz p) (by decide) s0)
      have s1' := sv_i (g := 382) (w := bz (s = true)) (by decide) (sv_i (g := 381) (w := bz p) (by decide) s1)
      obtain ⟨L, ⟨l1, l2⟩, l3⟩ := X99_rounded (M := fm_sI (fm_sI (fm_sI N 381 f 0 (bz p)) 382 f 0 (bz (s = true))) 383 f 0 (Int32.ofInt (X.2.2.2 - 120 - Y.2.2.2))) (A := D / Y.2.2.1) (mo := decide (D % Y.2.2.1 ≠ 0)) (sg := s) (sc := X.2.2.2 - 120 - Y.2.2.2) (frF_o (frF_o (frF_o oN r1.1) r2.1) r3.1) ht hm
        (bh_I (by decide) (bh_I (by decide) (bh_I (by decide) (by rw [show (fm_sI (fm_sI (fm_sI N 381 f 0 (bz p)) 382 f 0 (bz (s = true))) 383 f 0 (Int32.ofInt (X.2.2.2 - 120 - Y.2.2.2))).2.2 379 f 0 = M.2.2 379 f 0 from eN 379]; exact hB)))) hA
        ((oI (fun q => by omega)).trans (sI_at _ _ _ _ _)) (sI_at _ _ _ _ _) ((oI (fun q => by omega)).trans ((oI (fun q => by omega)).trans ((sI_at _ _ _ _ _).trans (bz_c (by rw [hp]; simp))))) (by omega)
      unfold HX99_divided_279 GX99_divided_279
      dsimp only
      rw [cl0, cl1, s0'.2.2.2, s1'.2.2.2, iz_s, iz_s, l2]
      exact ⟨L, ⟨⟨l1, trivial⟩, rfl⟩, rs_0t rs (rs_0t r1 (rs_0t r2 (rs_0t r3 l3)))⟩
    have le0 : lg_cmp (lN (D % Y.2.2.1)) (Int64.ofInt 0) ≤ 0 ↔ D % Y.2.2.1 = 0 := by
      rw [show Int64.ofInt 0 = lN 0 from rfl, b_le (by omega) (by omega)]
      omega
    by_cases q : D % Y.2.2.1 = 0
    · obtain ⟨L, ⟨l1, l2⟩, l3⟩ := r279 False ⟨fun w => w.elim, fun w => w q⟩
      rw [← bz0] at l1 l2
      have G0 := (gX99_divided_178 (FX99_divided_L178 fN J) f (nI t) (nI md) (bz (s = true)) (lN (D % Y.2.2.1)) (Int32.ofInt (((0 : Nat) : Int) - 1)) N oN.1 oN.2.1 ⟨fun _ => ⟨fun _ => l1, fun w => absurd (le0.mpr q) w⟩, fun w => absurd cc w⟩).1
      unfold GX99_divided_178 at G0
      rw [fi_pos cc, fi_pos (le0.mpr q), l2] at G0
      exact ⟨L, G0, l3⟩
    · obtain ⟨L, ⟨l1, l2⟩, l3⟩ := r279 True ⟨fun _ => q, fun _ => trivial⟩
      rw [← bz1] at l1 l2
      have G0 := (gX99_divided_178 (FX99_divided_L178 fN J) f (nI t) (nI md) (bz (s = true)) (lN (D % Y.2.2.1)) (Int32.ofInt (((0 : Nat) : Int) - 1)) N oN.1 oN.2.1 ⟨fun _ => ⟨fun w => absurd (le0.mp w) q, fun _ => l1⟩, fun w => absurd cc w⟩).1
      unfold GX99_divided_178 at G0
      rw [fi_pos cc, fi_neg (fun w => q (le0.mp w)), l2] at G0
      exact ⟨L, G0, l3⟩
  | succ r ih =>
    intro J N h hB hr hJ
    obtain ⟨J, rfl⟩ : ∃ x, J = x + 1 := ⟨J - 1, by omega⟩
    have rs := rs_a (f := f) (Or.inl rfl) h
    have oN := frF_o o rs.1
    have eN : ∀ g, N.2.2 g f 0 = M.2.2 g f 0 := fun g => by rw [h.2.1]
    have s1 := sv_a o (Or.inl rfl) h v1
    have e0 : Int32.ofInt (((r + 1 : Nat) : Int) - 1) = nI r := by rw [iz_nI]; congr 1; omega
    have e2 : nI r + Int32.ofInt (-1) = Int32.ofInt ((r : Int) - 1) := by rw [iz_nI, iz_a]; congr 1
    have cc : ¬ nI r < 0 := fun q => by have := (ni_lt (z := 0) (by omega)).mp q; omega
    have B2N : BH N (M.2.2 380 f 0) D := aok_b h ne B2
    obtain ⟨b1, b2⟩ := X99_bit B2N (aok_ln h l2) (z := (r : Int)) (by omega)
    rw [← iz_nI] at b1 b2
    have ht2 : D / 2 ^ r % 2 < 2 := Nat.mod_lt _ (by decide)
    have eA : D / 2 ^ r = 2 * (D / 2 ^ (r + 1)) + D / 2 ^ r % 2 := by
      rw [Nat.pow_succ, ← Nat.div_div_eq_div_mul]
      omega
    obtain ⟨d1, d2⟩ := dv_step (A := D / 2 ^ (r + 1)) (t := D / 2 ^ r % 2) (b := Y.2.2.1) (by omega) ht2
    rw [← eA] at d1 d2
    have ml : D / 2 ^ (r + 1) % Y.2.2.1 < Y.2.2.1 := Nat.mod_lt _ (by omega)
    have tb : D.testBit r = decide (D / 2 ^ r % 2 = 1) := Nat.testBit_eq_decide_div_mod_eq
    have p2 : 2 ^ (r + 1) = 2 * 2 ^ r := by rw [Nat.pow_succ, Nat.mul_comm]
    generalize hR : D / 2 ^ (r + 1) % Y.2.2.1 = R at *
    generalize hQ : D / 2 ^ (r + 1) / Y.2.2.1 = Q at *
    generalize hT : D / 2 ^ r % 2 = T at *
    have eQ : Q * 2 ^ (r + 1) = 2 * Q * 2 ^ r := by rw [p2, ← Nat.mul_assoc, Nat.mul_comm Q 2]
    rw [eQ] at hB
    rw [e0]
    have i9 : fm_in N (M.2.2 379 f 0) (nI (r / 16)) = true := in_nI (aok_ln h l1) (by omega) (by decide)
    have h206 : ∀ a b, HX99_divided_206 f (nI t) (nI md) (bz (s = true)) (nI r) a b N := fun _ _ => ⟨fun _ => trivial, fun _ => by
      dsimp only
      rw [show Int32.ofInt 16 = nI 16 from rfl, ni_div (by omega) (by decide), eN]
      exact ⟨i9, i9, trivial⟩⟩
    have G0 := (gX99_divided_178 (FX99_divided_L178 fN J) f (nI t) (nI md) (bz (s = true)) (lN R) (nI r) N oN.1 oN.2.1 ⟨fun w => absurd w cc, fun _ => ⟨by rw [eN]; exact b1, by
      dsimp only
      rw [eN, b2]
      exact ⟨fun _ => h206 _ _, fun _ => h206 _ _⟩⟩⟩).1
    have g206 : ∀ T' : Nat, T' = T → GX99_divided_206 f (nI t) (nI md) (bz (s = true)) (nI r) (Int64.ofInt 2 * lN R) (lN T') N = .inl (f, nI t, nI md, bz (s = true), lN (D / 2 ^ r % Y.2.2.1), Int32.ofInt ((r : Int) - 1), if 2 * R + T < Y.2.2.1 then N else fm_sI N 3 (M.2.2 379 f 0) (r / 16) (N.1 3 (M.2.2 379 f 0) (r / 16) ||| (Int32.ofInt 1 <<< (nI (r % 16) &&& 31)))) := fun T' hT' => by
      subst hT'
      unfold GX99_divided_206 GX99_divided_260
      dsimp only
      rw [cl1, s1.2.2.1, show Int64.ofInt 2 = lN 2 from rfl, l_m (by omega) (by omega) (by omega), l_a (by omega), propext (b_lt (n := 2 * R + T') (k := Y.2.2.1) (by omega) (by omega)), e2, show Int32.ofInt 16 = nI 16 from rfl, ni_rest (by omega) (by decide), ni_div (by omega) (by decide), o_cl (by omega), eN, d2]
      by_cases q : 2 * R + T' < Y.2.2.1
      · rw [fi_pos q, if_pos q, if_pos q]
      · rw [fi_neg q, if_neg q, if_neg q, l_s (by omega) (by omega)]
    unfold GX99_divided_178 at G0
    dsimp only at G0
    rw [fi_neg cc, eN, b2] at G0
    dsimp only at G0
    rw [fi_bz, show ((r : Nat) : Int).toNat = r from rfl, tb, show Int64.ofInt 1 = lN 1 from rfl, show Int64.ofInt 0 = lN 0 from rfl] at G0
    have G1 : FX99_divided_178 fN (FX99_divided_L178 fN J) f (nI t) (nI md) (bz (s = true)) (lN R) (nI r) N = FX99_divided_L178 fN J f (nI t) (nI md) (bz (s = true)) (lN (D / 2 ^ r % Y.2.2.1)) (Int32.ofInt ((r : Int) - 1)) (if 2 * R + T < Y.2.2.1 then N else fm_sI N 3 (M.2.2 379 f 0) (r / 16) (N.1 3 (M.2.2 379 f 0) (r / 16) ||| (Int32.ofInt 1 <<< (nI (r % 16) &&& 31)))) := by
      rw [G0]
      by_cases q : T = 1
      · rw [fi_pos (show (0 : Int) ≤ (r : Int) ∧ decide (T = 1) = true from ⟨by omega, decide_eq_true q⟩), g206 1 q.symm]
        rfl
      · rw [fi_neg (show ¬ ((0 : Int) ≤ (r : Int) ∧ decide (T = 1) = true) from fun w => q (of_decide_eq_true w.2)), g206 0 (by omega)]
        rfl
    show ∃ L, FX99_divided_178 fN (FX99_divided_L178 fN J) f (nI t) (nI md) (bz (s = true)) (lN R) (nI r) N = _ ∧ _
    rw [G1]
    by_cases q : 2 * R + T < Y.2.2.1
    · rw [if_pos q] at d1 ⊢
      exact ih J N h (by rw [d1]; exact hB) (by omega) (by omega)
    · rw [if_neg q] at d1 ⊢
      refine ih J _ (aok_s n1 h) ?_ (by omega) (by omega)
      rw [d1, ← or_up]
      exact bh_or hB (by omega)
theorem X99_divided (o : FlO f M) (ht : t ≤ 1) (hm : md ≤ 4) (v0 : SV f 0 M X) (v1 : SV f 1 M Y) (gX : gdU X) (gY : gdU Y) :
    ∃ L, (HX99_divided f (nI t) (nI md) M ∧ GX99_divided f (nI t) (nI md) M = (lN (opB2 t md X.1 Y.1 (divR X Y)).1, L)) ∧ Rs f (opB2 t md X.1 Y.1 (divR X Y)).2 M L := by
  have gx1 := gX.1
  have gy1 := gY.1
  have k00 : M.1 3 (M.2.2 375 f 0) 0 = 0 ↔ X.1 = 0 := kdI (v := 0) v0 gX (by decide)
  have k10 : M.1 3 (M.2.2 375 f 0) 1 = 0 ↔ Y.1 = 0 := kdI (v := 0) v1 gY (by decide)
  have k01 : M.1 3 (M.2.2 375 f 0) 0 = Int32.ofInt 1 ↔ X.1 = 1 := kdI (v := 1) v0 gX (by decide)
  have k02 : M.1 3 (M.2.2 375 f 0) 0 = Int32.ofInt 2 ↔ X.1 = 2 := kdI (v := 2) v0 gX (by decide)
  have k12 : M.1 3 (M.2.2 375 f 0) 1 = Int32.ofInt 2 ↔ Y.1 = 2 := kdI (v := 2) v1 gY (by decide)
  have kxy : M.1 3 (M.2.2 375 f 0) 0 = M.1 3 (M.2.2 375 f 0) 1 ↔ X.1 = Y.1 := by rw [v0.1, v1.1]; exact ni_i (by omega) (by omega)
  have x4 : M.1 3 (M.2.2 376 f 0) 0 ^^^ M.1 3 (M.2.2 376 f 0) 1 = bz ((X.2.1 ^^ Y.2.1) = true) := by rw [v0.2.1, v1.2.1, bz_x]
  have i4 : fm_in M (M.2.2 374 f 0) (nI t) = true := in_nI (tL_374 o.1.1 o.2.1) (by omega) (by decide)
  obtain ⟨h1, h2⟩ := X99_none2 o ht v0 v1 gX gY
  have key : ∃ L, (HX99_divided_0 f (nI t) (nI md) M ∧ kX99_divided (FX99_divided_L178 fN fN) (GX99_divided_0 f (nI t) (nI md) M) = some (lN (opB2 t md X.1 Y.1 (divR X Y)).1, L)) ∧ Rs f (opB2 t md X.1 Y.1 (divR X Y)).2 M L := by
    unfold HX99_divided_0 GX99_divided_0
    dsimp only
    rcases h2 with ⟨nn, e⟩ | ⟨yy, L, e, r⟩
    · rw [e]
      dsimp only
      rw [cl0, cl1, fi_pos m1_eq, x4, propext kxy, propext k01, opB2_n nn]
      generalize hs : (X.2.1 ^^ Y.2.1) = s at *
      have eR : divR X Y = if X.1 = Y.1 ∧ X.1 ≠ 1 then ((3, false, 0, 0, false), 16) else if X.1 = 2 then ((2, s, 0, 0, false), 0) else if Y.1 = 0 then ((2, s, 0, 0, false), 8)
          else if X.1 = 0 ∨ Y.1 = 2 then ((0, s, 0, 0, false), 0) else ((1, s, X.2.2.1 * 2 ^ 120 / Y.2.2.1, X.2.2.2 - 120 - Y.2.2.2, decide (X.2.2.1 * 2 ^ 120 % Y.2.2.1 ≠ 0)), 0) := by
        unfold divR
        rw [hs]
      rw [eR]
      have r63 : ¬ (X.1 = Y.1 ∧ X.1 ≠ 1) → ∃ L, (HX99_divided_63 f (nI t) (nI md) (bz (s = true)) M ∧ kX99_divided (FX99_divided_L178 fN fN) (GX99_divided_63 f (nI t) (nI md) (bz (s = true)) M) =
          some (lN (finF t md (if X.1 = 2 then ((2, s, 0, 0, false), 0) else if Y.1 = 0 then ((2, s, 0, 0, false), 8) else if X.1 = 0 ∨ Y.1 = 2 then ((0, s, 0, 0, false), 0) else ((1, s, X.2.2.1 * 2 ^ 120 / Y.2.2.1, X.2.2.2 - 120 - Y.2.2.2, decide (X.2.2.1 * 2 ^ 120 % Y.2.2.1 ≠ 0)), 0) : Rt × Nat).1).1, L)) ∧
          Rs f ((if X.1 = 2 then ((2, s, 0, 0, false), 0) else if Y.1 = 0 then ((2, s, 0, 0, false), 8) else if X.1 = 0 ∨ Y.1 = 2 then ((0, s, 0, 0, false), 0) else ((1, s, X.2.2.1 * 2 ^ 120 / Y.2.2.1, X.2.2.2 - 120 - Y.2.2.2, decide (X.2.2.1 * 2 ^ 120 % Y.2.2.1 ≠ 0)), 0) : Rt × Nat).2 |||
            (finF t md (if X.1 = 2 then ((2, s, 0, 0, false), 0) else if Y.1 = 0 then ((2, s, 0, 0, false), 8) else if X.1 = 0 ∨ Y.1 = 2 then ((0, s, 0, 0, false), 0) else ((1, s, X.2.2.1 * 2 ^ 120 / Y.2.2.1, X.2.2.2 - 120 - Y.2.2.2, decide (X.2.2.1 * 2 ^ 120 % Y.2.2.1 ≠ 0)), 0) : Rt × Nat).1).2) M L := fun hne => by
        have r98 : ∀ K, FlO f K → HX99_divided_98 f (nI t) (bz (s = true)) K ∧ GX99_divided_98 f (nI t) (bz (s = true)) K = .inr (lN (pk t s (2 * fG t + 1) 0), K) := fun K oK => by
          have i4 : fm_in K (K.2.2 374 f 0) (nI t) = true := in_nI (tL_374 oK.1.1 oK.2.1) (by omega) (by decide)
          refine ⟨⟨i4, trivial⟩, ?_⟩
          unfold GX99_divided_98
          dsimp only
          rw [X99_inf oK ht]
        have r8 := X99_raiseFlags (f := f) (fl := 8) o.1 (by decide)
        have h82 : HX99_divided_82 f (nI t) (bz (s = true)) M := ⟨fun _ => (r98 M o).1, fun _ => (r98 _ (frF_o o r8.1)).1⟩
        unfold HX99_divided_63 GX99_divided_63 GX99_divided_82 GX99_divided_132
        dsimp only
        rw [cl0, cl1, propext k02, propext k10, propext k00, propext k12, (r98 M o).2, show Int32.ofInt 8 = nI 8 from rfl, (r98 _ (frF_o o r8.1)).2, X99_zero ht]
        dsimp only
        by_cases q : X.1 = 2
        · rw [fi_pos q, fi_pos q, if_pos q]
          dsimp only
          rw [fin_2, Nat.or_zero]
          exact ⟨M, ⟨⟨fun _ => h82, fun w => absurd q w⟩, rfl⟩, rs_r o.1⟩
        · rw [fi_neg q, fi_neg q, if_neg q]
          by_cases q2 : Y.1 = 0
          · rw [fi_pos q2, if_pos q2]
            dsimp only
            rw [fin_2, Nat.or_zero]
            exact ⟨_, ⟨⟨fun w => absurd w q, fun _ => ⟨fun _ => h82, fun w => absurd q2 w⟩⟩, rfl⟩, r8⟩
          · rw [fi_neg q2, if_neg q2]
            by_cases q3 : X.1 = 0
            · rw [fi_pos q3, if_pos (Or.inl q3)]
              dsimp only
              rw [fin_0, Nat.or_zero]
              exact ⟨M, ⟨⟨fun w => absurd w q, fun _ => ⟨fun w => absurd w q2, fun _ => ⟨fun _ => trivial, fun w => absurd q3 w⟩⟩⟩, rfl⟩, rs_r o.1⟩
            · rw [fi_neg q3]
              by_cases q4 : Y.1 = 2
              · rw [fi_pos q4, if_pos (Or.inr q4)]
                dsimp only
                rw [fin_0, Nat.or_zero]
                exact ⟨M, ⟨⟨fun w => absurd w q, fun _ => ⟨fun w => absurd w q2, fun _ => ⟨fun w => absurd w q3, fun _ => ⟨fun _ => trivial, fun w => absurd q4 w⟩⟩⟩⟩, rfl⟩, rs_r o.1⟩
              · rw [fi_neg q4, if_neg (fun w => w.elim q3 q4)]
                dsimp only
                rw [fin_1, Nat.zero_or]
                have zx : X.2.2.1 ≠ 0 := fun w => by have := (gX.2.2.2 (by omega)).mp w; omega
                have zy : Y.2.2.1 ≠ 0 := fun w => by have := (gY.2.2.2 (by omega)).mp w; omega
                have n2 := (fl_one o).2.2.1
                have l2 := (fl_one o).2.2.2.1
                have ne := (fl_one o).2.2.2.2
                obtain ⟨K, ⟨m1, m2⟩, m3, m4, m5, m6, m7, m8⟩ := put1 o (Or.inr rfl) gX
                have hD : X.2.2.1 * 2 ^ 120 < 2 ^ 174 := by
                  have h := gX.2.1
                  rw [show (174 : Nat) = 54 + 120 from rfl, Nat.pow_add]
                  exact Nat.mul_lt_mul_of_pos_right h (Nat.two_pow_pos _)
                obtain ⟨K2, ⟨a1, a2⟩, a3, a4⟩ := X99_raise (M := K) m6.1 (aok_is m3 n2) (aok_ln m3 l2) m4 (p := 120) (by decide) (Nat.lt_of_lt_of_le hD (Nat.pow_le_pow_right (by decide) (by decide)))
                have rk2 := rs_a (f := f) (M := K) (Or.inr (by rw [m8])) a3
                have o2 := frF_o m6 rk2.1
                obtain ⟨n3, l3, -, -, -⟩ := fl_one o2
                obtain ⟨K3, ⟨b1, b2⟩, b3, b4⟩ := X99_put o2.1 n3 l3 (Int64.ofInt 0)
                have rk3 := rs_a (f := f) (Or.inl rfl) b3
                have o3 := frF_o o2 rk3.1
                have e2 : K2.2.2 = M.2.2 := by rw [a3.2.1, m8]
                have e3 : K3.2.2 = M.2.2 := by rw [b3.2.1, e2]
                have s0 := sv_a o2 (Or.inl rfl) b3 (sv_a m6 (Or.inr (by rw [m8])) a3 (m7 0 X v0))
                have s1 := sv_a o2 (Or.inl rfl) b3 (sv_a m6 (Or.inr (by rw [m8])) a3 (m7 1 Y v1))
                have D2 : BH K3 (K3.2.2 380 f 0) (X.2.2.1 * 2 ^ 120) := by
                  rw [e3]
                  exact aok_b b3 (by rw [e2]; exact ne) a4
                have z0 : X.2.2.1 * 2 ^ 120 / 2 ^ 176 = 0 := Nat.div_eq_of_lt (Nat.lt_of_lt_of_le hD (Nat.pow_le_pow_right (by decide) (by decide)))
                obtain ⟨L, w1, w2⟩ := X99_div_L (M := K3) (md := md) o3 ht hm s0 s1 gX gY zy zx s rfl D2 176 fN K3 (aok_r o3.1) (by rw [z0, Nat.zero_div, Nat.zero_mul, e3, ← e2]; exact b4) (Nat.le_refl _) (by decide)
                rw [z0, Nat.zero_mod] at w1
                refine ⟨L, ⟨⟨fun w => absurd w q, fun _ => ⟨fun w => absurd w q2, fun _ => ⟨fun w => absurd w q3, fun _ => ⟨fun w => absurd w q4, fun _ => ?_⟩⟩⟩⟩, ?_⟩, rs_0t m5 (rs_0t rk2 (rs_0t rk3 w2))⟩
                · rw [v0.2.2.1]
                  refine ⟨m1, ?_⟩
                  rw [m2, m8, show Int32.ofInt 120 = nI 120 from rfl]
                  refine ⟨a1, ?_⟩
                  rw [a2]
                  exact ⟨b1, trivial⟩
                · rw [v0.2.2.1, m2, m8, show Int32.ofInt 120 = nI 120 from rfl, a2, b2]
                  exact w1
      by_cases q : X.1 = Y.1 ∧ X.1 ≠ 1
      · obtain ⟨L, l1, l2⟩ := X99_invalid (t := t) o ht
        rw [if_pos q, fi_pos q.1, fi_neg q.2, l1]
        dsimp only
        rw [fin_3, Nat.or_zero]
        exact ⟨L, ⟨⟨h1, fun _ => ⟨fun _ => ⟨fun w => absurd w q.2, fun _ => trivial⟩, fun w => absurd q.1 w⟩, fun w => absurd m1_eq w⟩, rfl⟩, l2⟩
      · obtain ⟨L, ⟨l1, l2⟩, l3⟩ := r63 q
        rw [if_neg q]
        refine ⟨L, ⟨⟨h1, fun _ => ⟨fun w => ⟨fun _ => l1, fun w2 => absurd ⟨w, w2⟩ q⟩, fun _ => l1⟩, fun w => absurd m1_eq w⟩, ?_⟩, l3⟩
        rw [← l2]
        by_cases w : X.1 = Y.1
        · rw [fi_pos w, fi_pos (Classical.byContradiction (fun w2 => q ⟨w, w2⟩))]
        · rw [fi_neg w]
    · rw [opB2_y yy, e]
      dsimp only
      rw [fi_neg (qN_ne ht)]
      exact ⟨L, ⟨⟨h1, fun w => absurd w (qN_ne ht), fun _ => trivial⟩, rfl⟩, r⟩
  obtain ⟨L, ⟨k1, k2⟩, k3⟩ := key
  have G0 := (gX99_divided_0 (FX99_divided_L178 fN fN) f (nI t) (nI md) M o.1 o.2.1 k1).1
  exact ⟨L, op_of (o := FX99_divided fN f (nI t) (nI md) M) (G0.trans k2) ⟨k3.1.1, frF_ext k3.1⟩, k3⟩
end Dv
