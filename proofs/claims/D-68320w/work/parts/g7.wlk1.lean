/-! walks: entries, faults, rights; the spec of a walk -/
set_option maxRecDepth 100000
section Bi
variable {M : FM}
theorem bitL (v : Int64) {k : Nat} (hk : k < 64) : lg_cmp ((v.toUInt64 >>> ((nI k).toInt64.toUInt64 &&& Int64.toUInt64 63)).toInt64 &&& Int64.ofInt 1) (Int64.ofInt 1) = 0 ↔ lb v k = true := by
  rw [cl_eq, ul_and, ul_ushr, ui_nI, show ul (Int64.ofInt 1) = 2 ^ 1 - 1 from rfl, Nat.and_two_pow_sub_one_eq_mod, show k % 4294967296 % 64 = k by omega]
  unfold lb
  rw [Nat.testBit_eq_decide_div_mod_eq]
  exact ⟨fun h => decide_eq_true h, fun h => of_decide_eq_true h⟩
theorem X102_has (v : Int64) {k : Nat} (hk : k < 64) : GX102_has v (nI k) M = (bz (lb v k = true), M) := by
  unfold GX102_has GX102_has_0 GX102_has_15
  rw [propext (bitL v hk), fi_pr]
theorem X101_bit (v : Int64) {k : Nat} (hk : k < 64) : GX101_bit v (nI k) M = (bz (lb v k = true), M) := by
  unfold GX101_bit GX101_bit_0 GX101_bit_15
  rw [propext (bitL v hk), fi_pr]
theorem msk (n : Nat) (hn : n < 64) : ul ((Int64.ofInt 1 <<< ((nI n).toInt64 &&& 63)) - Int64.ofInt 1) = 2 ^ n - 1 := by
  have p : 2 ^ n ≤ 2 ^ 63 := Nat.pow_le_pow_right (by decide) (by omega)
  have p0 : 0 < 2 ^ n := Nat.two_pow_pos n
  have p63 : (2 : Nat) ^ 63 = 9223372036854775808 := by decide
  rw [ul_sub, ul_shl, ui_nI, show n % 4294967296 % 64 = n by omega, show ul (Int64.ofInt 1) = 1 from rfl]
  omega
theorem X102_bits (v : Int64) {k n : Nat} (hk : k < 64) (hn : n < 64) : GX102_bits v (nI k) (nI n) M = (lN (ul v / 2 ^ k % 2 ^ n), M) := by
  unfold GX102_bits GX102_bits_0
  refine congrArg (fun z => (z, M)) (ul_inj ?_)
  have p : 2 ^ n ≤ 2 ^ 63 := Nat.pow_le_pow_right (by decide) (by omega)
  have p0 : 0 < 2 ^ n := Nat.two_pow_pos n
  have p63 : (2 : Nat) ^ 63 = 9223372036854775808 := by decide
  have m := Nat.mod_lt (ul v / 2 ^ k) p0
  rw [ul_and, msk n hn, ul_ushr, ui_nI, show k % 4294967296 % 64 = k by omega, Nat.and_two_pow_sub_one_eq_mod, l_big (by omega)]
end Bi
/-- the number in an entry; whether it is broken; whether it is a last one; whether it leads on -/
def nin (e : Int64) : Nat := ul e / 1024 % 17592186044416
theorem nin_lt (e : Int64) : nin e < 2 ^ 44 := Nat.mod_lt _ (by decide)
def brk (e : Int64) : Prop := ¬ lb e 0 = true ∨ (lb e 2 = true ∧ ¬ lb e 1 = true) ∨ ul e / 2 ^ 54 ≠ 0
def lea (e : Int64) : Prop := lb e 1 = true ∨ lb e 3 = true
def stp (e : Int64) : Prop := lb e 4 = true ∨ lb e 6 = true ∨ lb e 7 = true
/-- the rights: sum in bit 0, mxr in bit 1 -/
def rfs (rt : Int32) (e : Int64) (ac md : Int32) : Prop :=
  fi (md = Int32.ofInt 1) (lb e 4 = true ∧ (ac = 0 ∨ ¬ ib rt 0 = true)) (¬ lb e 4 = true) ∨
  ¬ fi (ac = 0) (lb e 3 = true) (fi (ac = Int32.ofInt 1) (lb e 1 = true ∨ (ib rt 1 = true ∧ lb e 3 = true)) (lb e 2 = true))
noncomputable def acF (ac : Int32) : Int64 := fi (ac = 0) (Int64.ofInt (-1)) (fi (ac = Int32.ofInt 1) (Int64.ofInt (-5)) (Int64.ofInt (-7)))
noncomputable def pgF (ac : Int32) : Int64 := fi (ac = 0) (Int64.ofInt (-12)) (fi (ac = Int32.ofInt 1) (Int64.ofInt (-13)) (Int64.ofInt (-15)))
theorem acF_n (ac : Int32) : lg_cmp (acF ac) (Int64.ofInt 0) < 0 := by
  unfold acF
  by_cases h : ac = 0
  · rw [fi_pos h]; decide
  · rw [fi_neg h]
    by_cases k : ac = Int32.ofInt 1
    · rw [fi_pos k]; decide
    · rw [fi_neg k]; decide
theorem pgF_n (ac : Int32) : lg_cmp (pgF ac) (Int64.ofInt 0) < 0 := by
  unfold pgF
  by_cases h : ac = 0
  · rw [fi_pos h]; decide
  · rw [fi_neg h]
    by_cases k : ac = Int32.ofInt 1
    · rw [fi_pos k]; decide
    · rw [fi_neg k]; decide
section Tw
variable {M : FM}
theorem X101_pageFault (ac : Int32) : GX101_pageFault ac M = (pgF ac, M) := by
  unfold GX101_pageFault GX101_pageFault_0 GX101_pageFault_24 pgF
  by_cases h : ac = 0
  · rw [fi_pos h, fi_pos h]
  · rw [fi_neg h, fi_neg h]
    by_cases k : ac = Int32.ofInt 1
    · rw [fi_pos k, fi_pos k]
    · rw [fi_neg k, fi_neg k]
theorem X101_accessFault (ac : Int32) : GX101_accessFault ac M = (acF ac, M) := by
  unfold GX101_accessFault GX101_accessFault_0 GX101_accessFault_24 acF
  by_cases h : ac = 0
  · rw [fi_pos h, fi_pos h]
  · rw [fi_neg h, fi_neg h]
    by_cases k : ac = Int32.ofInt 1
    · rw [fi_pos k, fi_pos k]
    · rw [fi_neg k, fi_neg k]
theorem X101_numberIn (e : Int64) : GX101_numberIn e M = (lN (nin e), M) := by
  have h := X102_bits (M := M) e (k := 10) (n := 44) (by decide) (by decide)
  exact h
theorem sh54 (e : Int64) : lg_cmp ((e.toUInt64 >>> ((Int32.ofInt 54).toInt64.toUInt64 &&& Int64.toUInt64 63)).toInt64) (Int64.ofInt 0) = 0 ↔ ¬ ul e / 2 ^ 54 ≠ 0 := by
  rw [cl_eq, ul_ushr, show ui (Int32.ofInt 54) % 64 = 54 from rfl, show ul (Int64.ofInt 0) = 0 from rfl]
  exact ⟨fun h k => k h, fun h => Decidable.of_not_not h⟩
theorem X101_isBroken (e : Int64) : GX101_isBroken e M = (bz (brk e), M) := by
  unfold GX101_isBroken GX101_isBroken_0 GX101_isBroken_24 GX101_isBroken_33 GX101_isBroken_38
  rw [show Int32.ofInt 0 = nI 0 from rfl, show Int32.ofInt 2 = nI 2 from rfl, show GX101_bit e (nI 0) M = _ from X101_bit e (by decide)]
  dsimp only
  rw [X101_bit e (by decide)]
  dsimp only
  rw [show Int32.ofInt 1 = nI 1 from rfl, X101_bit e (by decide)]
  dsimp only
  rw [fi_bz, fi_bz, fi_bz, propext (sh54 e)]
  unfold brk
  by_cases h0 : lb e 0 = true
  · rw [fi_pos h0]
    by_cases h2 : lb e 2 = true
    · rw [fi_pos h2]
      by_cases h1 : lb e 1 = true
      · rw [fi_pos h1]
        by_cases h5 : ul e / 2 ^ 54 ≠ 0
        · rw [fi_neg (fun z => z h5), bz_t (Or.inr (Or.inr h5))]
          rfl
        · rw [fi_pos h5, bz_f (fun z => z.elim (fun z => z h0) (fun z => z.elim (fun z => z.2 h1) h5))]
          rfl
      · rw [fi_neg h1, bz_t (Or.inr (Or.inl ⟨h2, h1⟩))]
        rfl
    · rw [fi_neg h2]
      by_cases h5 : ul e / 2 ^ 54 ≠ 0
      · rw [fi_neg (fun z => z h5), bz_t (Or.inr (Or.inr h5))]
        rfl
      · rw [fi_pos h5, bz_f (fun z => z.elim (fun z => z h0) (fun z => z.elim (fun z => h2 z.1) h5))]
        rfl
  · rw [fi_neg h0, bz_t (Or.inl h0)]
    rfl
theorem X101_refuses {w : Nat} {rt : Int32} (h5 : M.1 425 w 0 = bz (ib rt 0 = true)) (h6 : M.1 426 w 0 = bz (ib rt 1 = true)) (e : Int64) (ac : Int32) {md : Int32} (hm : md = 0 ∨ md = Int32.ofInt 1) : GX101_refuses w e ac md M = (bz (rfs rt e ac md), M) := by
  have b1 := X101_bit (M := M) e (k := 1) (by decide)
  have b2 := X101_bit (M := M) e (k := 2) (by decide)
  have b3 := X101_bit (M := M) e (k := 3) (by decide)
  have b4 := X101_bit (M := M) e (k := 4) (by decide)
  have r41 : GX101_refuses_41 w e ac M = (bz (¬ fi (ac = 0) (lb e 3 = true) (fi (ac = Int32.ofInt 1) (lb e 1 = true ∨ (ib rt 1 = true ∧ lb e 3 = true)) (lb e 2 = true))), M) := by
    unfold GX101_refuses_41 GX101_refuses_58 GX101_refuses_87 GX101_refuses_91 GX101_refuses_108
    rw [show Int32.ofInt 3 = nI 3 from rfl, b3, show Int32.ofInt 2 = nI 2 from rfl, b2]
    dsimp only
    rw [show GX101_bit e (Int32.ofInt 1) M = _ from b1]
    dsimp only
    rw [h6, b3]
    dsimp only
    rw [fi_bz, fi_bz, fi_bz, fi_bz]
    by_cases h : ac = 0
    · rw [fi_pos h, fi_pos h]
      by_cases k : lb e 3 = true
      · rw [fi_pos k, bz_f (fun z => z k)]
      · rw [fi_neg k, bz_t k]
    · rw [fi_neg h, fi_neg h]
      by_cases h' : ac = Int32.ofInt 1
      · rw [fi_pos h', fi_pos h']
        by_cases k : lb e 1 = true
        · rw [fi_pos k, bz_f (fun z => z (Or.inl k))]
        · rw [fi_neg k]
          by_cases k2 : ib rt 1 = true
          · rw [fi_pos k2]
            by_cases k3 : lb e 3 = true
            · rw [fi_pos k3, bz_f (fun z => z (Or.inr ⟨k2, k3⟩))]
            · rw [fi_neg k3, bz_t (fun z => z.elim k (fun z => k3 z.2))]
          · rw [fi_neg k2, bz_t (fun z => z.elim k (fun z => k2 z.1))]
      · rw [fi_neg h', fi_neg h']
        by_cases k : lb e 2 = true
        · rw [fi_pos k, bz_f (fun z => z k)]
        · rw [fi_neg k, bz_t k]
  have r17 : GX101_refuses_17 w e ac md (bz (lb e 4 = true)) M = (bz ((md = Int32.ofInt 1 ∧ lb e 4 = true ∧ (ac = 0 ∨ ¬ ib rt 0 = true)) ∨ ¬ fi (ac = 0) (lb e 3 = true) (fi (ac = Int32.ofInt 1) (lb e 1 = true ∨ (ib rt 1 = true ∧ lb e 3 = true)) (lb e 2 = true))), M) := by
    unfold GX101_refuses_17 GX101_refuses_39
    rw [r41, h5, fi_bz, fi_bz]
    generalize (¬ fi (ac = 0) (lb e 3 = true) (fi (ac = Int32.ofInt 1) (lb e 1 = true ∨ (ib rt 1 = true ∧ lb e 3 = true)) (lb e 2 = true))) = R
    by_cases h : md = Int32.ofInt 1
    · rw [fi_pos h]
      by_cases k : lb e 4 = true
      · rw [fi_pos k]
        by_cases k2 : ac = 0
        · rw [fi_pos k2, bz_t (Or.inl ⟨h, k, Or.inl k2⟩)]
        · rw [fi_neg k2]
          by_cases k3 : ib rt 0 = true
          · rw [fi_pos k3]
            exact congrArg (fun z => (z, M)) (bz_c ⟨Or.inr, fun z => z.elim (fun z => z.2.2.elim (fun z => absurd z k2) (fun z => absurd k3 z)) id⟩)
          · rw [fi_neg k3, bz_t (Or.inl ⟨h, k, Or.inr k3⟩)]
      · rw [fi_neg k]
        exact congrArg (fun z => (z, M)) (bz_c ⟨Or.inr, fun z => z.elim (fun z => absurd z.2.1 k) id⟩)
    · rw [fi_neg h]
      exact congrArg (fun z => (z, M)) (bz_c ⟨Or.inr, fun z => z.elim (fun z => absurd z.1 h) id⟩)
  unfold GX101_refuses GX101_refuses_0 GX101_refuses_39 rfs
  rw [show Int32.ofInt 4 = nI 4 from rfl, b4]
  dsimp only
  rw [fi_bz, r17]
  generalize (¬ fi (ac = 0) (lb e 3 = true) (fi (ac = Int32.ofInt 1) (lb e 1 = true ∨ (ib rt 1 = true ∧ lb e 3 = true)) (lb e 2 = true))) = R
  rcases hm with h | h
  · subst h
    rw [fi_pos (show (0 : Int32) = 0 from rfl), fi_neg (show ¬ (0 : Int32) = Int32.ofInt 1 by decide)]
    by_cases k : lb e 4 = true
    · rw [fi_pos k]
      exact congrArg (fun z => (z, M)) (bz_c ⟨fun z => z.elim (fun z => absurd z.1 (by decide)) Or.inr, fun z => z.elim (fun z => absurd k z) Or.inr⟩)
    · rw [fi_neg k, bz_t (Or.inl k)]
  · subst h
    rw [fi_neg (by decide), fi_pos rfl]
    exact congrArg (fun z => (z, M)) (bz_c ⟨fun z => z.elim (fun z => Or.inl z.2) Or.inr, fun z => z.elim (fun z => Or.inl ⟨rfl, z⟩) Or.inr⟩)
theorem X84_may {t : Nat} {rt : Int32} {e : Int64} (hr : M.1 290 t 0 = rt) (he : M.2.1 293 t 0 = e) (ac md : Int32) : GX84_may t ac md M = (bz (¬ rfs rt e ac md), M) := by
  have b1 := X102_has (M := M) e (k := 1) (by decide)
  have b2 := X102_has (M := M) e (k := 2) (by decide)
  have b3 := X102_has (M := M) e (k := 3) (by decide)
  have b4 := X102_has (M := M) e (k := 4) (by decide)
  have r40 : GX84_may_40 t ac M = (bz (fi (ac = 0) (lb e 3 = true) (fi (ac = Int32.ofInt 1) (lb e 1 = true ∨ (ib rt 1 = true ∧ lb e 3 = true)) (lb e 2 = true))), M) := by
    unfold GX84_may_40 GX84_may_95 GX84_may_91 GX84_may_107
    dsimp only
    rw [he, show GX102_has e (Int32.ofInt 3) M = _ from b3, show GX102_has e (Int32.ofInt 1) M = _ from b1, show GX102_has e (Int32.ofInt 2) M = _ from b2]
    dsimp only
    rw [he, hr, show GX102_has e (Int32.ofInt 3) M = _ from b3]
    dsimp only
    rw [fi_bz, fi_bz, propext (and_0 (x := rt) (v := Int32.ofInt 2) (j := 1) (by decide) rfl)]
    by_cases h : ac = 0
    · rw [fi_pos h, fi_pos h]
    · rw [fi_neg h, fi_neg h]
      by_cases h' : ac = Int32.ofInt 1
      · rw [fi_pos h', fi_pos h']
        by_cases k : lb e 1 = true
        · rw [fi_pos k, bz_t (Or.inl k)]
        · rw [fi_neg k]
          by_cases k2 : ib rt 1 = true
          · rw [fi_neg (fun z => z k2)]
            by_cases k3 : lb e 3 = true
            · rw [fi_pos k3, bz_t (Or.inr ⟨k2, k3⟩)]
            · rw [fi_neg k3, bz_f (fun z => z.elim k (fun z => k3 z.2))]
          · rw [fi_pos k2, bz_f (fun z => z.elim k (fun z => k2 z.1))]
      · rw [fi_neg h', fi_neg h']
  unfold GX84_may GX84_may_0 GX84_may_38 rfs
  dsimp only
  rw [he, show GX102_has e (Int32.ofInt 4) M = _ from b4]
  dsimp only
  rw [fi_bz, fi_bz, r40, hr, propext (and_0 (x := rt) (v := Int32.ofInt 1) (j := 0) (by decide) rfl)]
  generalize (fi (ac = 0) (lb e 3 = true) (fi (ac = Int32.ofInt 1) (lb e 1 = true ∨ (ib rt 1 = true ∧ lb e 3 = true)) (lb e 2 = true))) = R
  by_cases h : md = Int32.ofInt 1
  · rw [fi_pos h, fi_pos h]
    by_cases k : lb e 4 = true
    · rw [fi_pos k]
      by_cases k2 : ac = 0
      · rw [fi_pos k2, bz_f (fun z => z (Or.inl ⟨k, Or.inl k2⟩))]
      · rw [fi_neg k2]
        by_cases k3 : ib rt 0 = true
        · rw [fi_neg (fun z => z k3)]
          exact congrArg (fun z => (z, M)) (bz_c ⟨fun z q => q.elim (fun q => q.2.elim k2 (fun q => q k3)) (fun q => q z), fun z => Classical.byContradiction (fun q => z (Or.inr q))⟩)
        · rw [fi_pos k3, bz_f (fun z => z (Or.inl ⟨k, Or.inr k3⟩))]
    · rw [fi_neg k]
      exact congrArg (fun z => (z, M)) (bz_c ⟨fun z q => q.elim (fun q => k q.1) (fun q => q z), fun z => Classical.byContradiction (fun q => z (Or.inr q))⟩)
  · rw [fi_neg h, fi_neg h]
    by_cases k : lb e 4 = true
    · rw [fi_pos k]
      exact congrArg (fun z => (z, M)) (bz_c ⟨fun z q => q.elim (fun q => q k) (fun q => q z), fun z => Classical.byContradiction (fun q => z (Or.inr q))⟩)
    · rw [fi_neg k, bz_f (fun z => z (Or.inl k))]
end Tw
/-- where an entry stands -/
def eat (A d pg : Nat) : Nat := 4096 * pg + 8 * (A / 2 ^ (9 * d) % 512)
/-- what a walk gives: a fault, or where the page begins; what is written; the entries that were read -/
abbrev WO : Type := (Int64 ⊕ Nat) × Option (Nat × Int64) × List Nat
noncomputable def mrk (ac : Int32) : Int64 := fi (ac = Int32.ofInt 2) (Int64.ofInt 192) (Int64.ofInt 64)
def mkd (e : Int64) (ac : Int32) : Prop := lb e 6 = true ∧ (ac = Int32.ofInt 2 → lb e 7 = true)
noncomputable def lst (okS : Nat → Prop) (rt ac md : Int32) (A at_ : Nat) (e : Int64) (d : Nat) : WO :=
  fi (nin e % 2 ^ (9 * d) = 0 ∧ ¬ rfs rt e ac md)
    (fi (mkd e ac) (.inr (4096 * nin e + 4096 * (A % 2 ^ (9 * d))), none, [at_])
      (fi (okS at_) (.inr (4096 * nin e + 4096 * (A % 2 ^ (9 * d))), some (at_, e ||| mrk ac), [at_]) (.inl (acF ac), none, [at_])))
    (.inl (pgF ac), none, [at_])
noncomputable def wlk (ld : Nat → Int64) (okL okS : Nat → Prop) (rt ac md : Int32) (A : Nat) : Nat → Nat → WO
  | 0, _ => (.inl (pgF ac), none, [])
  | d + 1, pg => fi (okL (eat A d pg))
      (fi (brk (ld (eat A d pg))) (.inl (pgF ac), none, [eat A d pg])
        (fi (lea (ld (eat A d pg))) (lst okS rt ac md A (eat A d pg) (ld (eat A d pg)) d)
          (fi (d = 0 ∨ stp (ld (eat A d pg))) (.inl (pgF ac), none, [eat A d pg])
            ((wlk ld okL okS rt ac md A d (nin (ld (eat A d pg)))).1, (wlk ld okL okS rt ac md A d (nin (ld (eat A d pg)))).2.1, eat A d pg :: (wlk ld okL okS rt ac md A d (nin (ld (eat A d pg)))).2.2))))
      (.inl (acF ac), none, [])
/-- the whole number that comes of it -/
noncomputable def wval (o : WO) (low : Nat) : Int64 := match o.1 with
  | .inl f => f
  | .inr b => lN (b + low)
