/-! what was loaded: twin and component -/
theorem lt0 (a b : Int64) : (lg_cmp a b < 0) ↔ a < b := by
  have h := lg_cmp_ge a b
  rw [lt_tl]
  rw [le_tl] at h
  constructor
  · intro q
    apply Classical.byContradiction
    intro z
    have : 0 ≤ lg_cmp a b := h.mpr (by omega)
    rw [le_ti] at this
    rw [lt_ti] at q
    omega
  · intro q
    apply Classical.byContradiction
    intro z
    have : 0 ≤ lg_cmp a b := by rw [le_ti]; rw [lt_ti] at z; omega
    have := h.mp this
    omega
theorem X98_loaded8 {c : Nat} {M : FM} (v : Int64) (s : Int32) (hz : M.2.1 3 (M.2.2 355 c 0) 1 = Int64.ofInt 8) : GX98_loaded c v M = (fin (Int32.ofInt 2) (Int32.ofInt 8) s v, M) := by
  have e1 : (Int32.ofInt 1).toNatClampNeg = 1 := rfl
  unfold GX98_loaded GX98_loaded_0
  dsimp only
  rw [e1, hz, fi_pos ((lg_cmp_eq _ _).mpr (by decide))]
  refine Prod.ext ?_ rfl
  dsimp only
  unfold fin
  rw [fi_neg (c := Int32.ofInt 2 = Int32.ofInt 5) (by decide), sx0 v _ (by decide)]
  have z : ((v <<< ((Int32.ofInt 64 - Int32.ofInt 8 * Int32.ofInt 8).toInt64 &&& 63)).toUInt64 >>> ((Int32.ofInt 64 - Int32.ofInt 8 * Int32.ofInt 8).toInt64.toUInt64 &&& Int64.toUInt64 63)).toInt64 = v := by
    apply ul_inj
    have := ul_lt v
    rw [zx, show ui (Int32.ofInt 64 - Int32.ofInt 8 * Int32.ofInt 8) % 64 = 0 from by decide, show (2 : Nat) ^ 0 = 1 from rfl]
    omega
  rw [z]
  by_cases q : Int32.ofInt 2 = Int32.ofInt 2 ∧ s = Int32.ofInt 1
  · rw [fi_pos q]
  · rw [fi_neg q]
theorem mk8 (v : Int64) : ul (v &&& (Int64.ofInt 256 - Int64.ofInt 1)) = ul v % 256 := by
  rw [ul_and, show ul (Int64.ofInt 256 - Int64.ofInt 1) = 255 from by decide]
  exact Nat.and_two_pow_sub_one_eq_mod (ul v) 8
theorem mk16 (v : Int64) : ul (v &&& (Int64.ofInt 65536 - Int64.ofInt 1)) = ul v % 65536 := by
  rw [ul_and, show ul (Int64.ofInt 65536 - Int64.ofInt 1) = 65535 from by decide]
  exact Nat.and_two_pow_sub_one_eq_mod (ul v) 16
theorem mk32 (v : Int64) : ul (v &&& (Int64.ofInt 4294967296 - Int64.ofInt 1)) = ul v % 4294967296 := by
  rw [ul_and, show ul (Int64.ofInt 4294967296 - Int64.ofInt 1) = 4294967295 from by decide]
  exact Nat.and_two_pow_sub_one_eq_mod (ul v) 32
