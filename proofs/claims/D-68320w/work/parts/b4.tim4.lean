/-! the timer: the twin's, read and write -/
set_option maxRecDepth 100000
/-- one of the four sizes -/
theorem z4_r {n : Nat} {z : Int32} (hz : z4 z) (hn : n < 2147483648) : (lg_cmp (lN n - lN n / z.toInt64 * z.toInt64) (Int64.ofInt 0) = 0 ↔ n % ui z = 0) ∧ ¬ z.toInt64 = 0 ∧ (Int32.ofInt 4 ≤ z ↔ (z = Int32.ofInt 4 ∨ z = Int32.ofInt 8)) := by
  rcases hz with rfl | rfl | rfl | rfl
  · exact ⟨o_r hn 1 (by decide), by decide, by decide⟩
  · exact ⟨o_r hn 2 (by decide), by decide, by decide⟩
  · exact ⟨o_r hn 4 (by decide), by decide, by decide⟩
  · exact ⟨o_r hn 8 (by decide), by decide, by decide⟩
section Tm
variable {m p n : Nat} {M : FM} {z : Int32}
theorem X96_readTimer_49 (T : Ty M) (mm : fm_is M 99 99 m = true) (hp : M.1 395 m 0 = nI p) (h4 : p ≤ 4) (hn : n < 2147483648) (hz : z4 z) :
    HX96_readTimer_49 m (lN n) z M ∧ GX96_readTimer_49 m (lN n) z M = (match wh p n with
      | some k => fi (z = Int32.ofInt 8 ∧ n % 8 = 0) (tNm m M k) (fi (z = Int32.ofInt 4 ∧ n % 4 = 0) (fi (n % 8 = 0) (tNm m M k &&& Int64.ofInt 4294967295) (((tNm m M k).toUInt64 >>> ((Int32.ofInt 32).toInt64.toUInt64 &&& Int64.toUInt64 63)).toInt64)) (Int64.ofInt 0))
      | none => Int64.ofInt 0, M) := by
  have e1 := X96_eightAt (n := n) (M := M) hp h4 hn
  have r8 := o_r hn 8 (by decide)
  obtain ⟨z1, z2, z3⟩ := z4_r (n := n) hz hn
  unfold HX96_readTimer_49 GX96_readTimer_49
  dsimp only
  rw [e1]
  dsimp only
  cases hw : wh p n with
  | none =>
    have m1 : wT p none < 0 := show Int32.ofInt (-1) < 0 by decide
    rw [fi_pos m1]
    exact ⟨⟨fun _ => trivial, fun y => absurd m1 y⟩, rfl⟩
  | some k =>
    have hk := wh_lt hw
    have m1 : ¬ wT p (some k) < 0 := by
      unfold wT
      dsimp only
      split
      · exact nI0 (by omega)
      · exact nI0 (by omega)
    obtain ⟨eH, eG⟩ := X96_eight T mm hp h4 hk
    rw [fi_neg m1, eG]
    dsimp only
    refine ⟨⟨fun y => absurd y m1, fun _ => ⟨z2, fun _ => ⟨fun _ => ⟨fun _ => ⟨eH, trivial⟩, fun _ => ⟨eH, trivial⟩⟩, fun _ => trivial⟩, fun _ => trivial⟩⟩, ?_⟩
    unfold GX96_readTimer_75 GX96_readTimer_119 GX96_readTimer_114 GX96_readTimer_119
    rcases hz with rfl | rfl | rfl | rfl
    · rw [fi_neg (show ¬ Int32.ofInt 4 ≤ Int32.ofInt 1 by decide), fi_self, fi_neg (show ¬ (Int32.ofInt 1 = Int32.ofInt 8 ∧ n % 8 = 0) from fun y => absurd y.1 (by decide)), fi_neg (show ¬ (Int32.ofInt 1 = Int32.ofInt 4 ∧ n % 4 = 0) from fun y => absurd y.1 (by decide))]
    · rw [fi_neg (show ¬ Int32.ofInt 4 ≤ Int32.ofInt 2 by decide), fi_self, fi_neg (show ¬ (Int32.ofInt 2 = Int32.ofInt 8 ∧ n % 8 = 0) from fun y => absurd y.1 (by decide)), fi_neg (show ¬ (Int32.ofInt 2 = Int32.ofInt 4 ∧ n % 4 = 0) from fun y => absurd y.1 (by decide))]
    · rw [fi_pos (show Int32.ofInt 4 ≤ Int32.ofInt 4 by decide), fi_neg (show ¬ Int32.ofInt 4 = Int32.ofInt 8 by decide), fi_neg (show ¬ (Int32.ofInt 4 = Int32.ofInt 8 ∧ n % 8 = 0) from fun y => absurd y.1 (by decide)), show Int64.ofInt 8 = lN 8 from rfl, sar00, sar32]
      by_cases q : n % 4 = 0
      · rw [fi_pos (z1.mpr q), fi_pos (show Int32.ofInt 4 = Int32.ofInt 4 ∧ n % 4 = 0 from ⟨rfl, q⟩)]
        by_cases q8 : n % 8 = 0
        · rw [fi_pos (r8.mpr q8), fi_pos q8]
        · rw [fi_neg (fun y => q8 (r8.mp y)), fi_neg q8]
      · rw [fi_neg (fun y => q (z1.mp y)), fi_neg (show ¬ (Int32.ofInt 4 = Int32.ofInt 4 ∧ n % 4 = 0) from fun y => q y.2)]
    · rw [fi_pos (show Int32.ofInt 4 ≤ Int32.ofInt 8 by decide), fi_pos (show Int32.ofInt 8 = Int32.ofInt 8 from rfl), fi_neg (show ¬ (Int32.ofInt 8 = Int32.ofInt 4 ∧ n % 4 = 0) from fun y => absurd y.1 (by decide))]
      by_cases q8 : n % 8 = 0
      · rw [fi_pos (z1.mpr q8), fi_pos (show Int32.ofInt 8 = Int32.ofInt 8 ∧ n % 8 = 0 from ⟨rfl, q8⟩)]
      · rw [fi_neg (fun y => q8 (z1.mp y)), fi_neg (show ¬ (Int32.ofInt 8 = Int32.ofInt 8 ∧ n % 8 = 0) from fun y => q8 y.2)]
theorem X96_readTimer (T : Ty M) (mm : fm_is M 99 99 m = true) (hp : M.1 395 m 0 = nI p) (h4 : p ≤ 4) (hn : n < 2147483648) (hz : z4 z) (hb : ∀ h, h < 4 → M.1 3 (M.2.2 396 m 0) h = Int32.ofInt 0 ∨ M.1 3 (M.2.2 396 m 0) h = Int32.ofInt 1) :
    HX96_readTimer m (lN n) z M ∧ GX96_readTimer m (lN n) z M = (tR p n z (M.1 3 (M.2.2 396 m 0)) (tNm m M), M) := by
  obtain ⟨q1, q2⟩ := X96_readTimer_49 T mm hp h4 hn hz
  have c := o_4p (p := p) hn h4
  have r4 := o_r hn 4 (by decide)
  rw [o_div hn (by decide)] at r4
  have oth : ¬ (z = Int32.ofInt 4 ∧ n % 4 = 0 ∧ n < 4 * p) → (match wh p n with
      | some k => fi (z = Int32.ofInt 8 ∧ n % 8 = 0) (tNm m M k) (fi (z = Int32.ofInt 4 ∧ n % 4 = 0) (fi (n % 8 = 0) (tNm m M k &&& Int64.ofInt 4294967295) (((tNm m M k).toUInt64 >>> ((Int32.ofInt 32).toInt64.toUInt64 &&& Int64.toUInt64 63)).toInt64)) (Int64.ofInt 0))
      | none => Int64.ofInt 0) = tR p n z (M.1 3 (M.2.2 396 m 0)) (tNm m M) := fun h => by
    unfold tR
    cases wh p n with
    | none =>
      dsimp only
      rw [fi_neg h]
    | some k => rfl
  unfold HX96_readTimer HX96_readTimer_0 GX96_readTimer GX96_readTimer_0 GX96_readTimer_48
  dsimp only
  rw [hp, show Int64.ofInt 4 = lN 4 from rfl, o_div hn (by decide)]
  rw [show Int64.ofInt 4 = lN 4 from rfl] at c
  by_cases z_4 : z = Int32.ofInt 4
  · rw [fi_pos z_4]
    by_cases h1 : n < 4 * p
    · rw [fi_neg (fun y => by have := c.mp y; omega)]
      by_cases h2 : n % 4 = 0
      · rw [fi_pos (r4.mpr h2), o_32 (by omega), o_cl (by omega)]
        refine ⟨⟨fun _ => ⟨fun y => (by have := c.mp y; omega), fun _ => ⟨fun _ => ⟨in_nI (tL_396 T.1 mm) (by omega) (by decide), trivial⟩, fun y => absurd (r4.mpr h2) y⟩⟩, fun y => absurd z_4 y⟩, ?_⟩
        unfold tR
        rw [wh_no h4 h1]
        dsimp only
        rw [fi_pos (show z = Int32.ofInt 4 ∧ n % 4 = 0 ∧ n < 4 * p from ⟨z_4, h2, h1⟩)]
        rcases hb (n / 4) (by omega) with e | e
        · rw [e, fi_pos (show Int32.ofInt 0 = 0 from rfl)]
          rfl
        · rw [e, fi_neg (by decide)]
          rfl
      · rw [fi_neg (fun y => h2 (r4.mp y)), q2, oth (fun y => h2 y.2.1)]
        exact ⟨⟨fun _ => ⟨fun y => (by have := c.mp y; omega), fun _ => ⟨fun y => absurd (r4.mp y) h2, fun _ => q1⟩⟩, fun y => absurd z_4 y⟩, rfl⟩
    · rw [fi_pos (c.mpr (by omega)), q2, oth (fun y => h1 y.2.2)]
      exact ⟨⟨fun _ => ⟨fun _ => q1, fun y => absurd (c.mpr (by omega)) y⟩, fun y => absurd z_4 y⟩, rfl⟩
  · rw [fi_neg z_4, q2, oth (fun y => z_4 y.1)]
    exact ⟨⟨fun y => absurd y z_4, fun _ => q1⟩, rfl⟩
end Tm
