/-! the timer -/
set_option maxRecDepth 100000
/-- which number of eight bytes an offset lies in; the fifth one is the time -/
def wh (p n : Nat) : Option Nat := if 49144 ≤ n ∧ n < 49152 then some 4 else if 16384 ≤ n ∧ n < 16384 + 8 * p then some ((n - 16384) / 8) else none
noncomputable def wC : Option Nat → Int32
  | none => Int32.ofInt (-1)
  | some k => nI k
theorem wh_lt {p n k : Nat} (h : wh p n = some k) : k = 4 ∨ k < p := by
  unfold wh at h
  split at h
  · exact Or.inl (Option.some.inj h).symm
  · split at h
    · right
      have := Option.some.inj h
      omega
    · cases h
theorem wh_no {p n : Nat} (hp : p ≤ 4) (h : n < 4 * p) : wh p n = none := by
  unfold wh
  rw [if_neg (by omega), if_neg (by omega)]
noncomputable def tR (p n : Nat) (z : Int32) (soft : Nat → Int32) (num : Nat → Int64) : Int64 := match wh p n with
  | some k => fi (z = Int32.ofInt 8 ∧ n % 8 = 0) (num k) (fi (z = Int32.ofInt 4 ∧ n % 4 = 0) (fi (n % 8 = 0) (num k &&& Int64.ofInt 4294967295) (((num k).toUInt64 >>> ((Int32.ofInt 32).toInt64.toUInt64 &&& Int64.toUInt64 63)).toInt64)) (Int64.ofInt 0))
  | none => fi (z = Int32.ofInt 4 ∧ n % 4 = 0 ∧ n < 4 * p) (soft (n / 4)).toInt64 (Int64.ofInt 0)
/-- a half is put into a number -/
noncomputable def hN (n : Nat) (e v : Int64) : Int64 := fi (n % 8 = 0) ((e &&& Int64.ofInt (-4294967296)) ||| (v &&& Int64.ofInt 4294967295)) ((e &&& Int64.ofInt 4294967295) ||| (v <<< ((Int32.ofInt 32).toInt64 &&& 63)))
section Tm
variable {t p n : Nat} {M : FM} {z : Int32}
theorem X32_find (hp : M.1 244 t 0 = nI p) (h4 : p ≤ 4) (hn : n < 2147483648) : GX32_find t (lN n) M = (wC (wh p n), M) := by
  have c1 := o_lt hn (show 49144 < 2147483648 by decide)
  have c2 := o_ge hn (show 49152 < 2147483648 by decide)
  have e18 : ¬ (49144 ≤ n ∧ n < 49152) → GX32_find_18 t (lN n) M = (wC (wh p n), M) := fun h => by
    unfold GX32_find_18 GX32_find_47 GX32_find_48
    dsimp only
    rw [hp, o_64 (n := p) (by omega)]
    unfold wh
    rw [if_neg h]
    by_cases q : n < 16384
    · have e : lg_cmp ((lN n - Int64.ofInt 16384) >>> ((Int32.ofInt 3).toInt64 &&& 63)) (Int64.ofInt 0) < 0 := by
        rw [cl_lt]
        have u : ul (lN n - Int64.ofInt 16384) = 18446744073709551616 - (16384 - n) := by
          rw [ul_sub, ul_o hn, show ul (Int64.ofInt 16384) = 16384 from rfl]
          omega
        rw [tl, ul_sar1 _ _ (by rw [u]; omega), u, show ui (Int32.ofInt 3) % 64 = 3 from rfl]
        rw [if_neg (by omega)]
        show _ < (0 : Int)
        omega
      rw [fi_pos e, if_neg (by omega)]
      rfl
    · rw [show Int64.ofInt 16384 = lN 16384 from lN_of 16384 (by decide), o_sub hn (by omega), o_sar (by omega) (show ui (Int32.ofInt 3) < 64 by decide), show ui (Int32.ofInt 3) = 3 from rfl, show Int64.ofInt 0 = lN 0 from rfl]
      have b1 := o_lt (n := (n - 16384) / 2 ^ 3) (k := 0) (by omega) (by decide)
      have b2 := o_ge (n := (n - 16384) / 2 ^ 3) (k := p) (by omega) (by omega)
      rw [fi_neg (by rw [b1]; omega), o_32 (by omega)]
      by_cases r : n < 16384 + 8 * p
      · rw [fi_neg (by rw [b2]; omega), if_pos (by omega)]
        rfl
      · rw [fi_pos (by rw [b2]; omega), if_neg (by omega)]
        rfl
  unfold GX32_find GX32_find_0
  rw [show Int64.ofInt 49144 = lN 49144 from lN_of 49144 (by decide), show Int64.ofInt 49152 = lN 49152 from lN_of 49152 (by decide)]
  by_cases h1 : n < 49144
  · rw [fi_pos (c1.mpr h1)]
    exact e18 (by omega)
  · rw [fi_neg (by rw [c1]; exact h1)]
    by_cases h2 : 49152 ≤ n
    · rw [fi_pos (c2.mpr h2)]
      exact e18 (by omega)
    · rw [fi_neg (by rw [c2]; exact h2)]
      unfold wh
      rw [if_pos (by omega)]
      rfl
theorem X32_isWhole (hn : n < 2147483648) : GX32_isWhole t (lN n) z M = (bz (z = Int32.ofInt 8 ∧ n % 8 = 0), M) := by
  have e : lg_cmp (lN n &&& Int64.ofInt 7) (Int64.ofInt 0) = 0 ↔ n % 8 = 0 := by
    rw [show Int64.ofInt 7 = lN (2 ^ 3 - 1) from rfl, o_and hn 3 (by decide), show Int64.ofInt 0 = lN 0 from rfl]
    exact o_eq (by omega) (by decide)
  unfold GX32_isWhole GX32_isWhole_0 GX32_isWhole_20 GX32_isWhole_21
  by_cases a : z = Int32.ofInt 8
  · rw [fi_pos a]
    by_cases b : n % 8 = 0
    · rw [fi_pos (e.mpr b), bz_t ⟨a, b⟩]
    · rw [fi_neg (by rw [e]; exact b), bz_f (fun q => b q.2)]
  · rw [fi_neg a, bz_f (fun q => a q.1)]
theorem X32_isHalf (hn : n < 2147483648) : GX32_isHalf t (lN n) z M = (bz (z = Int32.ofInt 4 ∧ n % 4 = 0), M) := by
  have e : lg_cmp (lN n &&& Int64.ofInt 3) (Int64.ofInt 0) = 0 ↔ n % 4 = 0 := by
    rw [show Int64.ofInt 3 = lN (2 ^ 2 - 1) from rfl, o_and hn 2 (by decide), show Int64.ofInt 0 = lN 0 from rfl]
    exact o_eq (by omega) (by decide)
  unfold GX32_isHalf GX32_isHalf_0 GX32_isHalf_19 GX32_isHalf_20
  by_cases a : z = Int32.ofInt 4
  · rw [fi_pos a]
    by_cases b : n % 4 = 0
    · rw [fi_pos (e.mpr b), bz_t ⟨a, b⟩]
    · rw [fi_neg (by rw [e]; exact b), bz_f (fun q => b q.2)]
  · rw [fi_neg a, bz_f (fun q => a q.1)]
end Tm
section Tm
variable {t p n : Nat} {M : FM} {z : Int32}
theorem o_and4 (hn : n < 2147483648) (h : n % 4 = 0) : lg_cmp (lN n &&& Int64.ofInt 4) (Int64.ofInt 0) = 0 ↔ n % 8 = 0 := by
  rw [cl_eq, ul_and, ul_o hn, show ul (Int64.ofInt 4) = 4 from rfl, show ul (Int64.ofInt 0) = 0 from rfl]
  have e : n &&& 4 = (n % 8) &&& 4 := by
    rw [← Nat.and_two_pow_sub_one_eq_mod n 3, Nat.and_assoc]
    rfl
  rw [e]
  have : n % 8 = 0 ∨ n % 8 = 4 := by omega
  rcases this with q | q <;> rw [q] <;> decide
theorem o_4p (hn : n < 2147483648) (h4 : p ≤ 4) : 0 ≤ lg_cmp (lN n) (Int64.ofInt 4 * (nI p).toInt64) ↔ 4 * p ≤ n := by
  rw [o_64 (by omega), show Int64.ofInt 4 = lN 4 from rfl, o_mul (by decide) (by omega)]
  exact o_ge hn (by omega)
theorem o_q4 (hn : n < 2147483648) : (lN n >>> ((Int32.ofInt 2).toInt64 &&& 63)).toInt32 = nI (n / 4) := by
  rw [o_sar hn (show ui (Int32.ofInt 2) < 64 by decide), show ui (Int32.ofInt 2) = 2 from rfl, o_32 (by omega)]
theorem nI0 {k : Nat} (h : k < 4096) : ¬ nI k < 0 := fun q => by have := (nlt0 h).mp q; omega
theorem X32_read_78 (T : Ty M) (m : fm_is M 80 80 t = true) (hp : M.1 244 t 0 = nI p) (h4 : p ≤ 4) (hn : n < 2147483648) {a : Int32} (ha : a < 0) :
    HX32_read_78 t (lN n) z a M ∧ GX32_read_78 t (lN n) z a M = (fi (z = Int32.ofInt 4 ∧ n % 4 = 0 ∧ n < 4 * p) (M.1 3 (M.2.2 245 t 0) (n / 4)).toInt64 (Int64.ofInt 0), M) := by
  have na : ¬ 0 ≤ a := fun q => by
    rw [lt_ti] at ha
    rw [le_ti] at q
    omega
  have e3 := X32_isHalf (t := t) (M := M) (z := z) hn
  have c := o_4p (p := p) hn h4
  unfold HX32_read_78 GX32_read_78 GX32_read_119 GX32_read_120
  dsimp only
  rw [e3]
  dsimp only
  rw [hp, o_q4 hn, fi_neg na]
  by_cases h1 : z = Int32.ofInt 4 ∧ n % 4 = 0
  · rw [bz_t h1, fi_neg (show ¬ Int32.ofInt 1 = 0 by decide)]
    by_cases h2 : n < 4 * p
    · rw [fi_neg (fun q => by have := c.mp q; omega), fi_pos (show z = Int32.ofInt 4 ∧ n % 4 = 0 ∧ n < 4 * p from ⟨h1.1, h1.2, h2⟩), o_cl (by omega)]
      exact ⟨⟨fun q => absurd q na, fun _ => ⟨fun q => absurd q (by decide), fun _ => ⟨fun q => (by have := c.mp q; omega), fun _ => ⟨in_nI (tL_245 T.1 m) (by omega) (by decide), trivial⟩⟩⟩⟩, rfl⟩
    · rw [fi_pos (c.mpr (by omega)), fi_neg (show ¬ (z = Int32.ofInt 4 ∧ n % 4 = 0 ∧ n < 4 * p) from fun q => h2 q.2.2)]
      exact ⟨⟨fun q => absurd q na, fun _ => ⟨fun q => absurd q (by decide), fun _ => ⟨fun _ => trivial, fun q => absurd (c.mpr (by omega)) q⟩⟩⟩, rfl⟩
  · rw [bz_f h1, fi_pos (show Int32.ofInt 0 = 0 from rfl), fi_neg (show ¬ (z = Int32.ofInt 4 ∧ n % 4 = 0 ∧ n < 4 * p) from fun q => h1 ⟨q.1, q.2.1⟩)]
    exact ⟨⟨fun q => absurd q na, fun _ => ⟨fun _ => trivial, fun q => absurd rfl q⟩⟩, rfl⟩
theorem X32_read (T : Ty M) (m : fm_is M 80 80 t = true) (hp : M.1 244 t 0 = nI p) (h4 : p ≤ 4) (hn : n < 2147483648) :
    HX32_read t (lN n) z M ∧ GX32_read t (lN n) z M = (tR p n z (M.1 3 (M.2.2 245 t 0)) (M.2.1 3 (M.2.2 246 t 0)), M) := by
  have e1 := X32_find (n := n) (M := M) hp h4 hn
  have e2 := X32_isWhole (t := t) (M := M) (z := z) hn
  have e3 := X32_isHalf (t := t) (M := M) (z := z) hn
  unfold HX32_read HX32_read_0 GX32_read GX32_read_0
  rw [e1]
  dsimp only
  rw [e2]
  dsimp only
  unfold HX32_read_29 GX32_read_29 GX32_read_77 tR
  dsimp only
  rw [e3]
  dsimp only
  cases hw : wh p n with
  | none =>
    have m1 : wC none < 0 := by decide
    have q := X32_read_78 (z := z) T m hp h4 hn m1
    rw [fi_pos m1, fi_pos m1]
    exact ⟨⟨fun _ => ⟨fun _ => q.1, fun y => absurd m1 y⟩, fun y => absurd m1 y⟩, q.2⟩
  | some k =>
    have hk : k < 5 := by rcases wh_lt hw with e | e <;> omega
    have m1 : ¬ wC (some k) < 0 := nI0 (by omega)
    have inn : fm_in M (M.2.2 246 t 0) (wC (some k)) = true := in_nI (tL_246 T.1 m) hk (by decide)
    have kc : (wC (some k)).toNatClampNeg = k := o_cl (by omega)
    rw [fi_neg m1, fi_neg m1]
    dsimp only
    by_cases h8 : z = Int32.ofInt 8 ∧ n % 8 = 0
    · rw [bz_t h8, fi_neg (show ¬ Int32.ofInt 1 = 0 by decide), fi_pos h8, kc]
      exact ⟨⟨fun y => absurd y m1, fun _ => ⟨fun y => absurd y (by decide), fun _ => ⟨inn, trivial⟩⟩⟩, rfl⟩
    · rw [bz_f h8, fi_pos (show Int32.ofInt 0 = 0 from rfl), fi_neg h8]
      by_cases hh : z = Int32.ofInt 4 ∧ n % 4 = 0
      · have c := o_and4 hn hh.2
        rw [bz_t hh, fi_neg (show ¬ Int32.ofInt 1 = 0 by decide), fi_pos hh, kc]
        refine ⟨⟨fun y => absurd y m1, fun _ => ⟨fun _ => ⟨fun y => absurd y m1, fun _ => ⟨fun y => absurd y (by decide), fun _ => ⟨fun _ => ⟨inn, trivial⟩, fun _ => ⟨inn, trivial⟩⟩⟩⟩, fun y => absurd rfl y⟩⟩, ?_⟩
        by_cases h7 : n % 8 = 0
        · rw [fi_pos (c.mpr h7), fi_pos h7]
        · rw [fi_neg (fun y => h7 (c.mp y)), fi_neg h7]
      · have n0 : 0 ≤ wC (some k) := (Int32.not_lt).mp m1
        rw [bz_f hh, fi_pos (show Int32.ofInt 0 = 0 from rfl), fi_neg hh]
        unfold HX32_read_78 GX32_read_78 GX32_read_119 GX32_read_120
        rw [fi_pos n0]
        exact ⟨⟨fun y => absurd y m1, fun _ => ⟨fun _ => ⟨fun y => absurd y m1, fun _ => ⟨fun _ => ⟨fun _ => trivial, fun y => absurd n0 y⟩, fun y => absurd rfl y⟩⟩, fun y => absurd rfl y⟩⟩, rfl⟩
end Tm
