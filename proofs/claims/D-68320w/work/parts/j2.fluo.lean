/-! floats: the twin's integers -/
set_option maxRecDepth 100000
section Tz
variable {M N K : FM} {f t d r fl i j a b md : Nat} {s : Fs} {x y : Int64} {X Y : UU} {sg : Bool}
theorem zsub (x : Int64) : Int64.ofInt 0 - x = -x := by
  apply ul_inj
  rw [ul_sub, ul_neg]
  rfl
theorem X99_shown (hb : b < 4) (x : Int64) : GX99_shown x (nI b) M = (if b < 2 then x.toInt32.toInt64 else x, M) := by
  unfold GX99_shown GX99_shown_0 GX99_shown_12
  rw [show (Int32.ofInt 2 ≤ nI b) = ¬ b < 2 from propext (by
    have := ni_ge (z := 2) (k := b) (by omega)
    rw [this]
    omega)]
  by_cases q : b < 2
  · rw [fi_neg (fun y => y q), if_pos q]
  · rw [fi_pos q, if_neg q]
theorem X99_beyond (o : FlO f M) (hb : b < 4) (ng : Bool) : ∃ L, GX99_beyond f (bz (ng = true)) (nI b) M = (tlv b (lN (lim b ng)) ng, L) ∧ Rs f 16 M L := by
  have R16 := X99_raiseFlags (f := f) (fl := 16) o.1 (by decide)
  refine ⟨GX99_raiseFlags f (nI 16) M, ?_, R16⟩
  unfold GX99_beyond GX99_beyond_0 GX99_beyond_21
  dsimp only
  rw [show Int32.ofInt 16 = nI 16 from rfl]
  generalize GX99_raiseFlags f (nI 16) M = K
  have key : ∀ x y : Int64, x = y → (x, K) = (y, K) := fun x y e => by rw [e]
  have mo : ∀ z, GX99_most (nI b) K = (z, K) → GX99_most (nI b) K = (z, K) := fun z h => h
  rw [fi_bz]
  unfold GX99_most GX99_most_0 GX99_most_35 GX99_fewest GX99_fewest_0 GX99_fewest_22
  rcases (show b = 0 ∨ b = 1 ∨ b = 2 ∨ b = 3 by omega) with q | q | q | q <;> subst q
  · rw [fi_pos (show nI 0 = 0 from rfl), fi_pos (show nI 0 = 0 from rfl)]
    cases ng
    · rw [fi_neg (by decide), X99_shown hb]
      exact key _ _ (show _ = _ from by dsimp only; decide)
    · rw [fi_pos rfl, X99_shown hb]
      exact key _ _ (show _ = _ from by dsimp only; decide)
  · rw [fi_neg (show ¬ nI 1 = 0 by decide), fi_neg (show ¬ nI 1 = 0 by decide), fi_neg (show ¬ nI 1 = Int32.ofInt 2 by decide), fi_pos (show nI 1 = Int32.ofInt 1 from rfl)]
    cases ng
    · rw [fi_neg (by decide), X99_shown hb]
      exact key _ _ (show _ = _ from by dsimp only; decide)
    · rw [fi_pos rfl, X99_shown hb]
      exact key _ _ (show _ = _ from by dsimp only; decide)
  · rw [fi_neg (show ¬ nI 2 = 0 by decide), fi_neg (show ¬ nI 2 = 0 by decide), fi_pos (show nI 2 = Int32.ofInt 2 from rfl), fi_neg (show ¬ nI 2 = Int32.ofInt 1 by decide), fi_pos (show nI 2 = Int32.ofInt 2 from rfl)]
    cases ng
    · rw [fi_neg (by decide), X99_shown hb]
      exact key _ _ (show _ = _ from by dsimp only; decide)
    · rw [fi_pos rfl, X99_shown hb]
      exact key _ _ (show _ = _ from by dsimp only; decide)
  · rw [fi_neg (show ¬ nI 3 = 0 by decide), fi_neg (show ¬ nI 3 = 0 by decide), fi_neg (show ¬ nI 3 = Int32.ofInt 2 by decide), fi_neg (show ¬ nI 3 = Int32.ofInt 1 by decide), fi_neg (show ¬ nI 3 = Int32.ofInt 2 by decide)]
    cases ng
    · rw [fi_neg (by decide), X99_shown hb]
      exact key _ _ (show _ = _ from by dsimp only; decide)
    · rw [fi_pos rfl, X99_shown hb]
      exact key _ _ (show _ = _ from by dsimp only; decide)
theorem grw_z (md : Nat) (sg o : Bool) : ¬ grw md sg o 0 = true := by
  rcases (show md = 0 ∨ md = 1 ∨ md = 2 ∨ md = 3 ∨ md = 4 ∨ 5 ≤ md by omega) with q | q | q | q | q | q
  · rw [q, grw_0]
    exact fun y => y.elim (fun z => absurd z (by decide)) (fun z => absurd z.1 (by decide))
  · rw [q, grw_1]
    exact fun y => y
  · rw [q, grw_2]
    exact fun y => absurd y.2 (by decide)
  · rw [q, grw_3]
    exact fun y => absurd y.2 (by decide)
  · rw [q, grw_4]
    decide
  · obtain ⟨n, rfl⟩ : ∃ n, md = n + 5 := ⟨md - 5, by omega⟩
    exact fun y => absurd y (by unfold grw; exact Bool.false_ne_true)
theorem cu_0 (d : Int) : cuU 0 d = 0 ∧ cuC 0 false d = 0 := by
  unfold cuU cuC
  constructor
  · split
    · rw [Nat.zero_mul]
    · rw [Nat.zero_div]
  · by_cases q : d ≤ 0
    · rw [if_pos q]
      rfl
    · rw [if_neg q, Nat.zero_testBit, Nat.zero_mod]
      rfl
theorem rnU_0 (md : Nat) (sg : Bool) (d : Int) : rnU md sg 0 false d = 0 := by
  unfold rnU
  rw [(cu_0 d).1, (cu_0 d).2, if_neg (grw_z _ _ _)]
/-- what does not go into 64 bits is told by a bit above, or by the carry -/
theorem wide_i {V : Nat} {e : Int} (h : (bln V : Int) + e ≤ 65) :
    ((0 ≤ 64 - e ∧ V.testBit (64 - e).toNat = true) ∨ (rnU md sg V false (-e) % 18446744073709551616 = 0 ∧ cuC V false (-e) ≠ 0 ∧ (0 ≤ 63 - e ∧ V.testBit (63 - e).toNat = true))) ↔ 18446744073709551616 ≤ rnU md sg V false (-e) := by
  have b1 := cuU_bit (A := V) (k := 64) (d := -e)
  have b2 := cuU_bit (A := V) (k := 63) (d := -e)
  have lt := cuU_lt (A := V) (k := 65) (d := -e) (by omega)
  have z := grw_z md sg (decide (cuU V (-e) % 2 = 1))
  rw [show ((64 : Nat) : Int) + -e = 64 - e by omega] at b1
  rw [show ((63 : Nat) : Int) + -e = 63 - e by omega] at b2
  rw [← b1, ← b2]
  unfold rnU
  generalize cuC V false (-e) = cc at *
  generalize cuU V (-e) = F at *
  have p64 : (2 : Nat) ^ 64 = 18446744073709551616 := by decide
  have p65 : (2 : Nat) ^ 65 = 36893488147419103232 := by decide
  have p63 : (2 : Nat) ^ 63 = 9223372036854775808 := by decide
  rw [Nat.testBit_eq_decide_div_mod_eq, Nat.testBit_eq_decide_div_mod_eq, decide_eq_true_iff, decide_eq_true_iff, p64, p63]
  by_cases g : grw md sg (decide (F % 2 = 1)) cc = true
  · rw [if_pos g]
    have : cc ≠ 0 := fun y => by rw [y] at g; exact z g
    omega
  · rw [if_neg g]
    omega
section Tf
variable {U : Nat} {lost : Prop}
theorem t349 (o : FlO f M) (hb : b < 4) (h2 : M.1 382 f 0 = bz (sg = true)) (h4 : M.2.1 384 f 0 = lN U) (out : Prop) (ho : out ↔ lim b sg < U) :
    ∃ L, GX99_toInteger_349 f (nI b) (bz lost) (bz out) M = (fi out (tlv b (lN (lim b sg)) sg) (tlv b (lN U) sg), L) ∧ Rs f (fi out 16 (fi lost 1 0)) M L := by
  obtain ⟨L, b1, b2⟩ := X99_beyond o hb sg
  have T383 : ∀ K : FM, K.1 382 f 0 = bz (sg = true) → K.2.1 384 f 0 = lN U → GX99_toInteger_383 f (nI b) K = (tlv b (lN U) sg, K) := fun K k2 k4 => by
    unfold GX99_toInteger_383 GX99_toInteger_404
    dsimp only
    rw [k2, k4, propext (bzo (c := sg = true)), zsub, X99_shown hb, X99_shown hb]
    unfold tlv
    cases sg
    · rw [fi_neg (by decide)]
      simp only [Bool.false_eq_true, if_false]
    · rw [fi_pos rfl]
      simp only [if_true]
  unfold GX99_toInteger_349 GX99_toInteger_368
  dsimp only
  rw [fi_bz, fi_bz, h2, propext (bzo (c := sg = true))]
  by_cases q : out
  · rw [fi_pos q, fi_pos q, fi_pos q]
    refine ⟨L, ?_, b2⟩
    cases sg
    · rw [fi_neg (by decide)]
      rw [bz_f (show ¬ false = true by decide)] at b1
      exact b1
    · rw [fi_pos rfl]
      rw [bz_t rfl] at b1
      exact b1
  · rw [fi_neg q, fi_neg q, fi_neg q]
    by_cases w : lost
    · rw [fi_pos w, fi_pos w]
      have R1 := X99_raiseFlags (f := f) (fl := 1) o.1 (by decide)
      refine ⟨GX99_raiseFlags f (nI 1) M, T383 _ ?_ ?_, R1⟩
      · have e : (GX99_raiseFlags f (nI 1) M).1 382 f 0 = M.1 382 f 0 := by
          unfold GX99_raiseFlags GX99_raiseFlags_0
          dsimp only
          exact (oI (fun z => by omega)).trans (oI (fun z => by omega))
        exact e.trans h2
      · exact h4
    · rw [fi_neg w, fi_neg w]
      exact ⟨M, T383 M h2 h4, rs_r o.1⟩
theorem t220 (hb : b < 4) (h2 : M.1 382 f 0 = bz (sg = true)) (h4 : M.2.1 384 f 0 = lN U) (hU : U < 18446744073709551616) : GX99_toInteger_220 f (nI b) (Int32.ofInt 0) (bz lost) (bz (b % 2 = 1)) (bz (9223372036854775808 ≤ U)) M =
    GX99_toInteger_349 f (nI b) (bz lost) (bz (lim b sg < U)) M := by
  have e0 : GX99_toInteger_349 f (nI b) (bz lost) (Int32.ofInt 0) M = GX99_toInteger_349 f (nI b) (bz lost) (bz False) M := by rw [bz_f (fun z => z)]
  have e1 : GX99_toInteger_349 f (nI b) (bz lost) (Int32.ofInt 1) M = GX99_toInteger_349 f (nI b) (bz lost) (bz True) M := by rw [bz_t trivial]
  have N : ∀ {p : Prop}, (p ↔ lim b sg < U) → GX99_toInteger_349 f (nI b) (bz lost) (bz p) M = GX99_toInteger_349 f (nI b) (bz lost) (bz (lim b sg < U)) M := fun h => by rw [propext h]
  have Y : lim b sg < U → GX99_toInteger_349 f (nI b) (bz lost) (Int32.ofInt 1) M = GX99_toInteger_349 f (nI b) (bz lost) (bz (lim b sg < U)) M := fun h => e1.trans (N ⟨fun _ => h, fun _ => trivial⟩)
  have No : ¬ lim b sg < U → GX99_toInteger_349 f (nI b) (bz lost) (Int32.ofInt 0) M = GX99_toInteger_349 f (nI b) (bz lost) (bz (lim b sg < U)) M := fun h => e0.trans (N ⟨fun z => z.elim, fun z => h z⟩)
  unfold GX99_toInteger_220 GX99_toInteger_282 GX99_toInteger_310 GX99_toInteger_311 GX99_toInteger_342 GX99_toInteger_347
  dsimp only
  rw [fi_pos (show Int32.ofInt 0 = 0 from rfl), h2, h4, propext (bzo (c := sg = true)), fi_bz, fi_bz, fi_bz, fi_bz, propext (l0 (lN U)), l_big hU]
  have le31 : U < 9223372036854775808 → ((lg_cmp (lN U) (Int64.ofInt 2147483648) ≤ 0) = (U ≤ 2147483648)) := fun h => propext (b_le (n := U) (k := 2147483648) (by omega) (by omega))
  have sh : (lg_cmp (lN U <<< ((Int32.ofInt 1).toInt64 &&& 63)) (Int64.ofInt 0) = 0) = (2 * U % 18446744073709551616 = 0) := propext (by
    rw [l0, ul_shl, l_big hU, show ui (Int32.ofInt 1) % 64 = 1 from rfl]
    omega)
  rw [sh]
  cases hsg : sg
  · rw [fi_neg (show ¬ false = true by decide)]
    subst hsg
    unfold GX99_most GX99_most_0 GX99_most_35
    rcases (show b = 0 ∨ b = 1 ∨ b = 2 ∨ b = 3 by omega) with q | q | q | q <;> subst q
    · have eL : lim 0 false = 2147483647 := rfl
      rw [fi_neg (show ¬ nI 0 = Int32.ofInt 3 by decide), fi_pos (show nI 0 = 0 from rfl)]
      dsimp only
      by_cases w : 9223372036854775808 ≤ U
      · rw [fi_pos w]
        exact Y (by omega)
      · rw [fi_neg w, show (lg_cmp (lN U) (Int64.ofInt 2147483647) ≤ 0) = (U ≤ 2147483647) from propext (b_le (n := U) (k := 2147483647) (by omega) (by omega))]
        by_cases w2 : U ≤ 2147483647
        · rw [fi_pos w2]
          exact No (by omega)
        · rw [fi_neg w2]
          exact Y (by omega)
    · have eL : lim 1 false = 4294967295 := rfl
      rw [fi_neg (show ¬ nI 1 = Int32.ofInt 3 by decide), fi_neg (show ¬ nI 1 = 0 by decide), fi_pos (show nI 1 = Int32.ofInt 1 from rfl)]
      dsimp only
      by_cases w : 9223372036854775808 ≤ U
      · rw [fi_pos w]
        exact Y (by omega)
      · rw [fi_neg w, show (lg_cmp (lN U) (Int64.ofInt 4294967295) ≤ 0) = (U ≤ 4294967295) from propext (b_le (n := U) (k := 4294967295) (by omega) (by omega))]
        by_cases w2 : U ≤ 4294967295
        · rw [fi_pos w2]
          exact No (by omega)
        · rw [fi_neg w2]
          exact Y (by omega)
    · have eL : lim 2 false = 9223372036854775807 := rfl
      rw [fi_neg (show ¬ nI 2 = Int32.ofInt 3 by decide), fi_neg (show ¬ nI 2 = 0 by decide), fi_neg (show ¬ nI 2 = Int32.ofInt 1 by decide), fi_pos (show nI 2 = Int32.ofInt 2 from rfl)]
      dsimp only
      by_cases w : 9223372036854775808 ≤ U
      · rw [fi_pos w]
        exact Y (by omega)
      · rw [fi_neg w, show (lg_cmp (lN U) (Int64.ofInt 9223372036854775807) ≤ 0) = (U ≤ 9223372036854775807) from propext (b_le (n := U) (k := 9223372036854775807) (by omega) (by omega))]
        rw [fi_pos (by omega)]
        exact No (by omega)
    · have eL : lim 3 false = 18446744073709551615 := rfl
      rw [fi_pos (show nI 3 = Int32.ofInt 3 from rfl)]
      exact No (by omega)
  · rw [fi_pos (show true = true from rfl)]
    subst hsg
    rcases (show b = 0 ∨ b = 1 ∨ b = 2 ∨ b = 3 by omega) with q | q | q | q <;> subst q
    · have eL : lim 0 true = 2147483648 := rfl
      rw [fi_neg (show ¬ 0 % 2 = 1 by decide), fi_pos (show nI 0 = 0 from rfl)]
      by_cases w : 9223372036854775808 ≤ U
      · rw [fi_pos w]
        exact Y (by omega)
      · rw [fi_neg w, le31 (by omega)]
        by_cases w2 : U ≤ 2147483648
        · rw [fi_pos w2]
          exact No (by omega)
        · rw [fi_neg w2]
          exact Y (by omega)
    · have eL : lim 1 true = 0 := rfl
      rw [fi_pos (show 1 % 2 = 1 by decide)]
      by_cases w : U = 0
      · rw [fi_pos w]
        exact No (by omega)
      · rw [fi_neg w]
        exact Y (by omega)
    · have eL : lim 2 true = 9223372036854775808 := rfl
      rw [fi_neg (show ¬ 2 % 2 = 1 by decide), fi_neg (show ¬ nI 2 = 0 by decide)]
      by_cases w : 9223372036854775808 ≤ U
      · rw [fi_pos w]
        by_cases w2 : 2 * U % 18446744073709551616 = 0
        · rw [fi_pos w2]
          exact No (by omega)
        · rw [fi_neg w2]
          exact Y (by omega)
      · rw [fi_neg w]
        exact No (by omega)
    · have eL : lim 3 true = 0 := rfl
      rw [fi_pos (show 3 % 2 = 1 by decide)]
      by_cases w : U = 0
      · rw [fi_pos w]
        exact No (by omega)
      · rw [fi_neg w]
        exact Y (by omega)
theorem t185 (o : FlO f M) (hb : b < 4) (h2 : M.1 382 f 0 = bz (sg = true)) (h4 : M.2.1 384 f 0 = lN U) (h5 : M.1 385 f 0 = bz lost) (wide : Prop) (hw : wide ↔ 18446744073709551616 ≤ U) :
    ∃ L, GX99_toInteger_185 f (nI b) (bz wide) M = (fi (lim b sg < U) (tlv b (lN (lim b sg)) sg) (tlv b (lN U) sg), L) ∧ Rs f (fi (lim b sg < U) 16 (fi lost 1 0)) M L := by
  have L := lim_le hb sg
  have par : ((nI b - nI b / Int32.ofInt 2 * Int32.ofInt 2) = Int32.ofInt 1) = (b % 2 = 1) := propext (by
    rcases (show b = 0 ∨ b = 1 ∨ b = 2 ∨ b = 3 by omega) with q | q | q | q <;> subst q <;> decide)
  obtain ⟨P, p1, p2⟩ := t349 (lost := lost) o hb h2 h4 (lim b sg < U) Iff.rfl
  refine ⟨P, ?_, p2⟩
  rw [← p1]
  unfold GX99_toInteger_185 GX99_toInteger_204
  dsimp only
  rw [par, h5, h4, propext (nneg_l (lN U))]
  by_cases q : wide
  · have : ∀ z1 z2, GX99_toInteger_220 f (nI b) (bz wide) (bz lost) z1 z2 M = GX99_toInteger_349 f (nI b) (bz lost) (bz (lim b sg < U)) M := fun z1 z2 => by
      unfold GX99_toInteger_220
      rw [fi_bz, fi_pos q, bz_t (show lim b sg < U by have := hw.mp q; omega)]
    rw [this, this, this, this, fi_self, fi_self]
  · have hU : U < 18446744073709551616 := by
      have : ¬ 18446744073709551616 ≤ U := fun z => q (hw.mpr z)
      omega
    have h := t220 (lost := lost) hb h2 h4 hU
    rw [bz_f q, l_big hU]
    by_cases c1 : b % 2 = 1
    · rw [fi_pos c1]
      rw [bz_t c1] at h
      by_cases c2 : U < 9223372036854775808
      · rw [fi_pos c2]
        rw [bz_f (show ¬ 9223372036854775808 ≤ U by omega)] at h
        exact h
      · rw [fi_neg c2]
        rw [bz_t (show 9223372036854775808 ≤ U by omega)] at h
        exact h
    · rw [fi_neg c1]
      rw [bz_f c1] at h
      by_cases c2 : U < 9223372036854775808
      · rw [fi_pos c2]
        rw [bz_f (show ¬ 9223372036854775808 ≤ U by omega)] at h
        exact h
      · rw [fi_neg c2]
        rw [bz_t (show 9223372036854775808 ≤ U by omega)] at h
        exact h
end Tf
end Tz
