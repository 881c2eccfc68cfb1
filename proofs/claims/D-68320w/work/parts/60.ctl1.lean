/-! control registers: bits of the status -/
theorem lb_one (i : Nat) : lb (Int64.ofInt 1) i = decide (i = 0) := by
  rw [lb_mask (Int64.ofInt 1) (k := 1) rfl]
  exact decide_eq_decide.mpr (by omega)
theorem lb_bz {c : Prop} [Decidable c] (i : Nat) : lb (bz c).toInt64 i = (decide (i = 0) && decide c) := by
  by_cases hi : i < 64
  · rw [lb_sext _ _ hi, ib_bz]
    by_cases h : i < 32
    · rw [if_pos h]
    · rw [if_neg h, decide_eq_false (show ¬ 31 = 0 by decide), decide_eq_false (show ¬ i = 0 by omega)]
  · rw [lb_ge _ (by omega), decide_eq_false (show ¬ i = 0 by omega), Bool.false_and]
/-- a bit of x is put -/
def tp (x : Int64) (b v : Int32) : Int64 := (x &&& (((Int64.ofInt 1) <<< (b.toInt64 &&& 63)) ^^^ Int64.ofInt (-1))) ||| (v.toInt64 <<< (b.toInt64 &&& 63))
theorem tp_b {c : Prop} [Decidable c] (x : Int64) {b : Int32} {k : Nat} (hb : ui b % 64 = k) (i : Nat) (hi : i < 64) : lb (tp x b (bz c)) i = if i = k then decide c else lb x i := by
  unfold tp
  rw [lb_or, lb_and, lb_xor, lb_shl _ _ hb, lb_shl _ _ hb, lb_one, lb_bz, lb_m1 i hi, decide_eq_true hi, Bool.true_and]
  by_cases h : i = k
  · subst h
    rw [if_pos rfl, decide_eq_true (Nat.le_refl _), show i - i = 0 from Nat.sub_self i]
    simp
  · rw [if_neg h]
    by_cases h2 : k ≤ i
    · rw [decide_eq_true h2, decide_eq_false (show ¬ i - k = 0 by omega)]
      simp
    · rw [decide_eq_false h2]
      simp
theorem bit_is (x : Int64) {b : Int32} {k : Nat} (hb : ui b = k) (hk : k < 64) : ((x >>> (b.toInt64 &&& 63)) &&& Int64.ofInt 1) = fi (lb x k = true) (Int64.ofInt 1) (Int64.ofInt 0) := by
  refine lb_ext fun i hi => ?_
  rw [lb_and, lb_one, lb_sar _ _ (k := k) (by omega) i hi]
  by_cases h : lb x k = true
  · rw [fi_pos h, lb_one]
    by_cases h0 : i = 0
    · rw [h0, if_pos (by omega), show 0 + k = k from Nat.zero_add k, h]
      rfl
    · rw [decide_eq_false h0, Bool.and_false]
  · rw [fi_neg h, lb_0]
    by_cases h0 : i = 0
    · rw [h0, if_pos (by omega), show 0 + k = k from Nat.zero_add k]
      simpa using h
    · rw [decide_eq_false h0, Bool.and_false]
theorem bit_c1 (x : Int64) {b : Int32} {k : Nat} (hb : ui b = k) (hk : k < 64) : lg_cmp ((x >>> (b.toInt64 &&& 63)) &&& Int64.ofInt 1) (Int64.ofInt 1) = 0 ↔ lb x k = true := by
  rw [bit_is x hb hk, lg_cmp_eq]
  by_cases h : lb x k = true
  · rw [fi_pos h]
    exact ⟨fun _ => h, fun _ => rfl⟩
  · rw [fi_neg h]
    exact ⟨fun q => absurd q (by decide), fun q => absurd q h⟩
theorem bit_i (x : Int64) {b : Int32} {k : Nat} (hb : ui b = k) (hk : k < 64) : ((x >>> (b.toInt64 &&& 63)) &&& Int64.ofInt 1).toInt32 = bz (lb x k = true) := by
  rw [bit_is x hb hk]
  by_cases h : lb x k = true
  · rw [fi_pos h, bz_t h]
    rfl
  · rw [fi_neg h, bz_f h]
    rfl
theorem X78_has {s : Nat} {b : Int32} {k : Nat} {M : FM} (hb : ui b = k) (hk : k < 64) : GX78_has s b M = (bz (lb (M.2.1 41 s 0) k = true), M) := by
  unfold GX78_has GX78_has_0 GX78_has_18
  by_cases h : lb (M.2.1 41 s 0) k = true
  · rw [fi_pos ((bit_c1 _ hb hk).mpr h), bz_t h]
  · rw [fi_neg (fun q => h ((bit_c1 _ hb hk).mp q)), bz_f h]
theorem X100_status {d : Nat} {b : Int32} {k : Nat} {M : FM} (hb : ui b = k) (hk : k < 64) : GX100_status d b M = (bz (lb (M.2.1 3 (M.2.2 361 d 0) 768) k = true), M) := by
  unfold GX100_status GX100_status_0
  dsimp only
  rw [show (Int32.ofInt 768).toNatClampNeg = 768 from rfl, bit_i _ hb hk]
theorem X78_put {s : Nat} {b : Int32} {c : Prop} {M : FM} (hb : ui b < 64) : GX78_put s b (bz c) M = fm_sL M 41 s 0 (tp (M.2.1 41 s 0) b (bz c)) := by
  have hk : ui b % 64 = ui b := by omega
  unfold GX78_put GX78_put_0 GX78_put_28
  by_cases h : c
  · rw [fi_neg (fun q => bz_0.mp q h)]
    dsimp only
    congr 1
    refine lb_ext fun i hi => ?_
    have := Classical.propDecidable c
    rw [tp_b _ hk i hi, lb_or, lb_shl _ _ hk, lb_one, decide_eq_true hi, Bool.true_and, decide_eq_true h]
    by_cases q : i = ui b
    · rw [if_pos q, q]
      simp
    · rw [if_neg q]
      by_cases q2 : ui b ≤ i
      · rw [decide_eq_false (show ¬ i - ui b = 0 by omega)]
        simp
      · rw [decide_eq_false q2]
        simp
  · rw [fi_pos (bz_0.mpr h)]
    dsimp only
    congr 1
    refine lb_ext fun i hi => ?_
    have := Classical.propDecidable c
    rw [tp_b _ hk i hi, lb_and, lb_xor, lb_shl _ _ hk, lb_one, lb_m1 i hi, decide_eq_true hi, Bool.true_and, decide_eq_false h]
    by_cases q : i = ui b
    · rw [if_pos q, q]
      simp
    · rw [if_neg q]
      by_cases q2 : ui b ≤ i
      · rw [decide_eq_false (show ¬ i - ui b = 0 by omega)]
        simp
      · rw [decide_eq_false q2]
        simp
theorem X100_put {d : Nat} {b v : Int32} {M : FM} : GX100_put d b v M = fm_sL M 3 (M.2.2 361 d 0) 768 (tp (M.2.1 3 (M.2.2 361 d 0) 768) b v) := rfl
/-- two bits as a number -/
noncomputable def tw (x : Int64) (k : Nat) : Int32 := bz (lb x k = true) + Int32.ofInt 2 * bz (lb x (k + 1) = true)
theorem tw_is (x : Int64) (k : Nat) : tw x k = fi (lb x k = true) (fi (lb x (k + 1) = true) (Int32.ofInt 3) (Int32.ofInt 1)) (fi (lb x (k + 1) = true) (Int32.ofInt 2) (Int32.ofInt 0)) := by
  unfold tw
  by_cases h : lb x k = true <;> by_cases q : lb x (k + 1) = true
  · rw [bz_t h, bz_t q, fi_pos h, fi_pos q]
    rfl
  · rw [bz_t h, bz_f q, fi_pos h, fi_neg q]
    rfl
  · rw [bz_f h, bz_t q, fi_neg h, fi_pos q]
    rfl
  · rw [bz_f h, bz_f q, fi_neg h, fi_neg q]
    rfl
theorem ib_tw (x : Int64) (k i : Nat) : ib (tw x k) i = if i = 0 then lb x k else if i = 1 then lb x (k + 1) else false := by
  have e : ∀ (n : Nat) (z : Int32), ui z = n → ib z i = n.testBit i := fun n z h => by unfold ib; rw [h]
  have b0 : ∀ n, n < 4 → n.testBit i = if i = 0 then decide (n % 2 = 1) else if i = 1 then decide (2 ≤ n) else false := by
    intro n hn
    by_cases h0 : i = 0
    · rw [if_pos h0, h0, Nat.testBit_zero]
    · rw [if_neg h0]
      by_cases h1 : i = 1
      · rw [if_pos h1, h1, Nat.testBit_succ, Nat.testBit_zero]
        exact decide_eq_decide.mpr (by omega)
      · rw [if_neg h1]
        exact tb_big (k := 2) hn (by omega)
  rw [tw_is]
  by_cases h : lb x k = true <;> by_cases q : lb x (k + 1) = true
  · rw [fi_pos h, fi_pos q, e 3 _ rfl, b0 3 (by decide), h, q]
    rfl
  · rw [fi_pos h, fi_neg q, e 1 _ rfl, b0 1 (by decide), h, eq_false_of_ne_true q]
    rfl
  · rw [fi_neg h, fi_pos q, e 2 _ rfl, b0 2 (by decide), q, eq_false_of_ne_true h]
    rfl
  · rw [fi_neg h, fi_neg q, e 0 _ rfl, b0 0 (by decide), eq_false_of_ne_true q, eq_false_of_ne_true h]
    rfl
theorem X78_two {s : Nat} {b : Int32} {k : Nat} {M : FM} (hb : ui b = k) (hk : k < 60) : GX78_two s b M = (tw (M.2.1 41 s 0) k, M) := by
  unfold GX78_two GX78_two_0
  congr 1
  refine ib_ext fun i hi => ?_
  rw [ib_and, ib_low, decide_eq_true hi, Bool.true_and, lb_sar _ _ (k := k) (by omega) i (by omega), ib_mask (Int32.ofInt 3) (k := 2) rfl, ib_tw]
  by_cases h0 : i = 0
  · rw [h0, if_pos (by omega), if_pos rfl]
    simp
  · rw [if_neg h0]
    by_cases h1 : i = 1
    · rw [h1, if_pos (by omega), if_pos rfl, Nat.add_comm 1 k]
      simp
    · rw [if_neg h1, decide_eq_false (show ¬ i < 2 by omega), Bool.and_false]
theorem X100_below {d : Nat} {M : FM} : GX100_below d M = (tw (M.2.1 3 (M.2.2 361 d 0) 768) 11, M) := by
  unfold GX100_below GX100_below_0
  rw [X100_status (k := 11) rfl (by decide)]
  dsimp only
  rw [X100_status (k := 12) rfl (by decide)]
  rfl
theorem X100_floating {d : Nat} {M : FM} : GX100_floating d M = (tw (M.2.1 3 (M.2.2 361 d 0) 768) 13, M) := by
  unfold GX100_floating GX100_floating_0
  rw [X100_status (k := 13) rfl (by decide)]
  dsimp only
  rw [X100_status (k := 14) rfl (by decide)]
  rfl
/-- modes -/
def mde (m : Int32) : Prop := m = Int32.ofInt 0 ∨ m = Int32.ofInt 1 ∨ m = Int32.ofInt 3
/-- the mode goes into the two bits from b on -/
noncomputable def tp2 (x : Int64) (b m : Int32) : Int64 := tp (tp x b (m - m / Int32.ofInt 2 * Int32.ofInt 2)) (b + Int32.ofInt 1) (m / Int32.ofInt 2)
theorem mde_h {m : Int32} (h : mde m) : m - m / Int32.ofInt 2 * Int32.ofInt 2 = bz (m ≠ Int32.ofInt 0) ∧ m / Int32.ofInt 2 = bz (m = Int32.ofInt 3) := by
  rcases h with rfl | rfl | rfl
  · rw [bz_f (c := Int32.ofInt 0 ≠ Int32.ofInt 0) (fun q => q rfl), bz_f (c := Int32.ofInt 0 = Int32.ofInt 3) (by decide)]
    exact ⟨rfl, rfl⟩
  · rw [bz_t (c := Int32.ofInt 1 ≠ Int32.ofInt 0) (by decide), bz_f (c := Int32.ofInt 1 = Int32.ofInt 3) (by decide)]
    exact ⟨rfl, rfl⟩
  · rw [bz_t (c := Int32.ofInt 3 ≠ Int32.ofInt 0) (by decide), bz_t (c := Int32.ofInt 3 = Int32.ofInt 3) rfl]
    exact ⟨rfl, rfl⟩
theorem tp2_b {x : Int64} {b m : Int32} {k : Nat} (h : mde m) (hb : ui b = k) (hk : k < 60) (i : Nat) (hi : i < 64) : lb (tp2 x b m) i = if i = k then decide (m ≠ Int32.ofInt 0) else if i = k + 1 then decide (m = Int32.ofInt 3) else lb x i := by
  unfold tp2
  rw [(mde_h h).1, (mde_h h).2, tp_b _ (k := k + 1) (by rw [ui_add, hb, show ui (Int32.ofInt 1) = 1 from rfl]; omega) i hi, tp_b _ (k := k) (by omega) i hi]
  by_cases q : i = k
  · rw [if_neg (by omega), if_pos q, if_pos q]
  · by_cases q2 : i = k + 1
    · rw [if_pos q2, if_neg q, if_pos q2]
    · rw [if_neg q2, if_neg q, if_neg q, if_neg q2]
theorem ui3_b (i : Nat) : lb (Int64.ofInt 3) i = decide (i < 2) := lb_mask (Int64.ofInt 3) (k := 2) rfl i
theorem X78_putTwo {s : Nat} {b m : Int32} {k : Nat} {M : FM} (h : mde m) (hb : ui b = k) (hk : k < 60) : GX78_putTwo s b m M = fm_sL M 41 s 0 (tp2 (M.2.1 41 s 0) b m) := by
  unfold GX78_putTwo GX78_putTwo_0
  dsimp only
  congr 1
  refine lb_ext fun i hi => ?_
  have hkm : ui b % 64 = k := by omega
  have hm : ∀ j, j < 64 → lb m.toInt64 j = if j = 0 then decide (m ≠ Int32.ofInt 0) else if j = 1 then decide (m = Int32.ofInt 3) else false := by
    intro j hj
    rcases h with rfl | rfl | rfl
    · rw [show (Int32.ofInt 0).toInt64 = Int64.ofInt 0 from rfl, lb_0]
      split
      · rfl
      · split <;> rfl
    · rw [show (Int32.ofInt 1).toInt64 = Int64.ofInt 1 from rfl, lb_one]
      by_cases q : j = 0
      · rw [if_pos q, q]
        rfl
      · rw [if_neg q, decide_eq_false q]
        split <;> rfl
    · rw [show (Int32.ofInt 3).toInt64 = Int64.ofInt 3 from rfl, ui3_b]
      by_cases q : j = 0
      · rw [if_pos q, q]
        rfl
      · rw [if_neg q]
        by_cases q2 : j = 1
        · rw [if_pos q2, q2]
          rfl
        · rw [if_neg q2]
          exact decide_eq_false (by omega)
  rw [tp2_b h hb hk i hi, lb_or, lb_and, lb_xor, lb_shl _ _ hkm, lb_shl _ _ hkm, ui3_b, lb_m1 i hi, decide_eq_true hi, Bool.true_and]
  by_cases q : k ≤ i
  · rw [decide_eq_true q, Bool.true_and, Bool.true_and, hm _ (by omega)]
    by_cases q1 : i = k
    · rw [if_pos (show i - k = 0 by omega), if_pos q1, decide_eq_true (show i - k < 2 by omega)]
      simp
    · rw [if_neg (show ¬ i - k = 0 by omega), if_neg q1]
      by_cases q2 : i = k + 1
      · rw [if_pos (show i - k = 1 by omega), if_pos q2, decide_eq_true (show i - k < 2 by omega)]
        simp
      · rw [if_neg (show ¬ i - k = 1 by omega), if_neg q2, decide_eq_false (show ¬ i - k < 2 by omega)]
        simp
  · rw [decide_eq_false q, if_neg (by omega), if_neg (by omega)]
    simp
/-- the twin's two puts are one -/
theorem X100_put2 {d : Nat} {b m : Int32} {M : FM} : GX100_put d (b + Int32.ofInt 1) (m / Int32.ofInt 2) (GX100_put d b (m - m / Int32.ofInt 2 * Int32.ofInt 2) M) = fm_sL M 3 (M.2.2 361 d 0) 768 (tp2 (M.2.1 3 (M.2.2 361 d 0) 768) b m) := by
  rw [X100_put, X100_put]
  rw [rL2, sL_same, sL_at]
  rfl
