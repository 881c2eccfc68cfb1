/-! the timer: the twin's, what is written -/
set_option maxRecDepth 100000
theorem odd_l (v : Int64) : lg_cmp (v &&& Int64.ofInt 1) (Int64.ofInt 1) = 0 ↔ ul v % 2 = 1 := by
  rw [cl_eq, ul_and, show ul (Int64.ofInt 1) = 2 ^ 1 - 1 from rfl, Nat.and_two_pow_sub_one_eq_mod]
noncomputable def tWt (m p n : Nat) (z : Int32) (v : Int64) (M : FM) : FM := match wh p n with
  | some k => fi (z = Int32.ofInt 8 ∧ n % 8 = 0) (tSe m k v M) (fi (z = Int32.ofInt 4 ∧ n % 4 = 0) (tSe m k (hN n (tNm m M k) v) M) M)
  | none => fi (z = Int32.ofInt 4 ∧ n % 4 = 0 ∧ n < 4 * p) (fm_sI M 3 (M.2.2 396 m 0) (n / 4) (v.toInt32 &&& Int32.ofInt 1)) M
section Tm
variable {m p n : Nat} {M : FM} {z : Int32}
theorem X96_writeTimer_54 (T : Ty M) (mm : fm_is M 99 99 m = true) (hp : M.1 395 m 0 = nI p) (h4 : p ≤ 4) (hn : n < 2147483648) (hz : z4 z) (v : Int64) :
    HX96_writeTimer_54 m (lN n) z v M ∧ GX96_writeTimer_54 m (lN n) z v M = match wh p n with
      | some k => fi (z = Int32.ofInt 8 ∧ n % 8 = 0) (tSe m k v M) (fi (z = Int32.ofInt 4 ∧ n % 4 = 0) (tSe m k (hN n (tNm m M k) v) M) M)
      | none => M := by
  have e1 := X96_eightAt (n := n) (M := M) hp h4 hn
  have r8 := o_r hn 8 (by decide)
  obtain ⟨z1, z2, z3⟩ := z4_r (n := n) hz hn
  unfold HX96_writeTimer_54 GX96_writeTimer_54
  dsimp only
  rw [e1]
  dsimp only
  cases hw : wh p n with
  | none =>
    have m1 : wT p none < 0 := show Int32.ofInt (-1) < 0 by decide
    rw [fi_pos m1]
    exact ⟨⟨fun _ => trivial, fun y => absurd m1 y⟩, rfl⟩
  | some k =>
    have hk := wh_lt hw
    have m1 : ¬ wT p (some k) < 0 := by
      unfold wT
      dsimp only
      split
      · exact nI0 (by omega)
      · exact nI0 (by omega)
    obtain ⟨eH, eG⟩ := X96_eight T mm hp h4 hk
    have es := fun v => X96_setEight T mm hp h4 hk v
    rw [fi_neg m1, eG]
    dsimp only
    rw [eG]
    dsimp only
    rw [(es _).2, (es _).2, (es _).2]
    refine ⟨⟨fun y => absurd y m1, fun _ => ⟨z2, fun _ => ⟨fun _ => ⟨eH, eH, fun _ => ⟨(es _).1, trivial⟩, fun _ => ⟨fun _ => ⟨(es _).1, trivial⟩, fun _ => ⟨(es _).1, trivial⟩⟩⟩, fun _ => trivial⟩, fun _ => trivial⟩⟩, ?_⟩
    unfold GX96_writeTimer_163 GX96_writeTimer_80
    rcases hz with rfl | rfl | rfl | rfl
    · rw [fi_neg (show ¬ Int32.ofInt 4 ≤ Int32.ofInt 1 by decide), fi_self, fi_neg (show ¬ (Int32.ofInt 1 = Int32.ofInt 8 ∧ n % 8 = 0) from fun y => absurd y.1 (by decide)), fi_neg (show ¬ (Int32.ofInt 1 = Int32.ofInt 4 ∧ n % 4 = 0) from fun y => absurd y.1 (by decide))]
    · rw [fi_neg (show ¬ Int32.ofInt 4 ≤ Int32.ofInt 2 by decide), fi_self, fi_neg (show ¬ (Int32.ofInt 2 = Int32.ofInt 8 ∧ n % 8 = 0) from fun y => absurd y.1 (by decide)), fi_neg (show ¬ (Int32.ofInt 2 = Int32.ofInt 4 ∧ n % 4 = 0) from fun y => absurd y.1 (by decide))]
    · rw [fi_pos (show Int32.ofInt 4 ≤ Int32.ofInt 4 by decide), fi_neg (show ¬ Int32.ofInt 4 = Int32.ofInt 8 by decide), fi_neg (show ¬ (Int32.ofInt 4 = Int32.ofInt 8 ∧ n % 8 = 0) from fun y => absurd y.1 (by decide)), show Int64.ofInt 8 = lN 8 from rfl, h_lo, h_hi]
      by_cases q : n % 4 = 0
      · rw [fi_pos (z1.mpr q), fi_pos (show Int32.ofInt 4 = Int32.ofInt 4 ∧ n % 4 = 0 from ⟨rfl, q⟩)]
        unfold hN
        by_cases q8 : n % 8 = 0
        · rw [fi_pos (r8.mpr q8), fi_pos q8]
        · rw [fi_neg (fun y => q8 (r8.mp y)), fi_neg q8]
      · rw [fi_neg (fun y => q (z1.mp y)), fi_neg (show ¬ (Int32.ofInt 4 = Int32.ofInt 4 ∧ n % 4 = 0) from fun y => q y.2)]
    · rw [fi_pos (show Int32.ofInt 4 ≤ Int32.ofInt 8 by decide), fi_pos (show Int32.ofInt 8 = Int32.ofInt 8 from rfl), fi_neg (show ¬ (Int32.ofInt 8 = Int32.ofInt 4 ∧ n % 4 = 0) from fun y => absurd y.1 (by decide))]
      by_cases q8 : n % 8 = 0
      · rw [fi_pos (z1.mpr q8), fi_pos (show Int32.ofInt 8 = Int32.ofInt 8 ∧ n % 8 = 0 from ⟨rfl, q8⟩)]
      · rw [fi_neg (fun y => q8 (z1.mp y)), fi_neg (show ¬ (Int32.ofInt 8 = Int32.ofInt 8 ∧ n % 8 = 0) from fun y => q8 y.2)]
theorem X96_writeTimer (T : Ty M) (mm : fm_is M 99 99 m = true) (hp : M.1 395 m 0 = nI p) (h4 : p ≤ 4) (hn : n < 2147483648) (hz : z4 z) (v : Int64) :
    HX96_writeTimer m (lN n) z v M ∧ GX96_writeTimer m (lN n) z v M = tWt m p n z v M := by
  obtain ⟨q1, q2⟩ := X96_writeTimer_54 T mm hp h4 hn hz v
  have c := o_4p (p := p) hn h4
  have r4 := o_r hn 4 (by decide)
  rw [o_div hn (by decide)] at r4
  have oth : ¬ (z = Int32.ofInt 4 ∧ n % 4 = 0 ∧ n < 4 * p) → (match wh p n with
      | some k => fi (z = Int32.ofInt 8 ∧ n % 8 = 0) (tSe m k v M) (fi (z = Int32.ofInt 4 ∧ n % 4 = 0) (tSe m k (hN n (tNm m M k) v) M) M)
      | none => M) = tWt m p n z v M := fun h => by
    unfold tWt
    cases wh p n with
    | none =>
      dsimp only
      rw [fi_neg h]
    | some k => rfl
  have bi : ∀ b : Prop, fi b (GX96_writeTimer_53 m (lN n) z v (M.2.2 396 m 0) (nI (n / 4)) (Int32.ofInt 1) M) (GX96_writeTimer_53 m (lN n) z v (M.2.2 396 m 0) (nI (n / 4)) (Int32.ofInt 0) M) = GX96_writeTimer_53 m (lN n) z v (M.2.2 396 m 0) (nI (n / 4)) (bz b) M := fun b => by
    by_cases h : b
    · rw [fi_pos h, bz_t h]
    · rw [fi_neg h, bz_f h]
  have w53 : n < 4 * p → z = Int32.ofInt 4 → ∀ s : Int32, (s = Int32.ofInt 0 ∨ s = Int32.ofInt 1) → HX96_writeTimer_53 m (lN n) z v (M.2.2 396 m 0) (nI (n / 4)) s M ∧ GX96_writeTimer_53 m (lN n) z v (M.2.2 396 m 0) (nI (n / 4)) s M = fm_sI M 3 (M.2.2 396 m 0) (n / 4) s := fun h1 h2 s hs => by
    have s1 : s &&& 1 = s := by rcases hs with rfl | rfl <;> rfl
    have T1 : Ty (fm_sI M 3 (M.2.2 396 m 0) (n / 4) s) := ⟨T.1, tyb_s3' T.2 (fun _ => hs)⟩
    have k := X96_writeTimer_54 (M := fm_sI M 3 (M.2.2 396 m 0) (n / 4) s) T1 mm (by rw [rIf (by decide)]; exact hp) h4 hn hz v
    rw [wh_no h4 h1] at k
    unfold HX96_writeTimer_53 GX96_writeTimer_53
    dsimp only
    rw [s1, o_cl (by omega)]
    exact ⟨⟨in_nI (tL_396 T.1 mm) (by omega) (by decide), k.1⟩, k.2⟩
  unfold HX96_writeTimer HX96_writeTimer_0 GX96_writeTimer GX96_writeTimer_0
  rw [hp, show Int64.ofInt 4 = lN 4 from rfl, o_div hn (by decide)]
  rw [show Int64.ofInt 4 = lN 4 from rfl] at c
  by_cases z_4 : z = Int32.ofInt 4
  · rw [fi_pos z_4]
    by_cases h1 : n < 4 * p
    · rw [fi_neg (fun y => by have := c.mp y; omega)]
      by_cases h2 : n % 4 = 0
      · rw [fi_pos (r4.mpr h2), o_32 (by omega), bi, propext (odd_l v)]
        have hb : bz (ul v % 2 = 1) = Int32.ofInt 0 ∨ bz (ul v % 2 = 1) = Int32.ofInt 1 := by
          by_cases q : ul v % 2 = 1
          · exact Or.inr (bz_t q)
          · exact Or.inl (bz_f q)
        refine ⟨⟨fun _ => ⟨fun y => (by have := c.mp y; omega), fun _ => ⟨fun _ => ⟨fun _ => (w53 h1 z_4 _ (Or.inr rfl)).1, fun _ => (w53 h1 z_4 _ (Or.inl rfl)).1⟩, fun y => absurd (r4.mpr h2) y⟩⟩, fun y => absurd z_4 y⟩, ?_⟩
        rw [(w53 h1 z_4 _ hb).2]
        unfold tWt
        rw [wh_no h4 h1]
        dsimp only
        rw [fi_pos (show z = Int32.ofInt 4 ∧ n % 4 = 0 ∧ n < 4 * p from ⟨z_4, h2, h1⟩), odd_i]
      · rw [fi_neg (fun y => h2 (r4.mp y)), q2, oth (fun y => h2 y.2.1)]
        exact ⟨⟨fun _ => ⟨fun y => (by have := c.mp y; omega), fun _ => ⟨fun y => absurd (r4.mp y) h2, fun _ => q1⟩⟩, fun y => absurd z_4 y⟩, rfl⟩
    · rw [fi_pos (c.mpr (by omega)), q2, oth (fun y => h1 y.2.2)]
      exact ⟨⟨fun _ => ⟨fun _ => q1, fun y => absurd (c.mpr (by omega)) y⟩, fun y => absurd z_4 y⟩, rfl⟩
  · rw [fi_neg z_4, q2, oth (fun y => z_4 y.1)]
    exact ⟨⟨fun y => absurd y z_4, fun _ => q1⟩, rfl⟩
end Tm
