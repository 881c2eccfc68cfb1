/-! what was loaded: one byte -/
theorem X98_loaded1 {c : Nat} {M : FM} (v : Int64) {s : Int32} (hs : s = Int32.ofInt 0 ∨ s = Int32.ofInt 1) (hz : M.2.1 3 (M.2.2 355 c 0) 1 = Int64.ofInt 1) (ht : M.2.1 3 (M.2.2 355 c 0) 3 = s.toInt64) : GX98_loaded c v M = (fin (Int32.ofInt 2) (Int32.ofInt 1) s v, M) := by
  have e1 : (Int32.ofInt 1).toNatClampNeg = 1 := rfl
  have e3 : (Int32.ofInt 3).toNatClampNeg = 3 := rfl
  have sh : (Int64.ofInt 1) <<< ((Int64.ofInt 8 * Int64.ofInt 1).toInt32.toInt64 &&& 63) = Int64.ofInt 256 := by decide
  have hv := ul_lt v
  unfold GX98_loaded GX98_loaded_0 GX98_loaded_66 GX98_loaded_68
  dsimp only
  rw [e1, e3, hz, ht, fi_neg (fun q => absurd ((lg_cmp_eq _ _).mp q) (by decide)), sh]
  unfold fin
  rw [fi_neg (c := Int32.ofInt 2 = Int32.ofInt 5) (by decide)]
  rcases hs with rfl | rfl
  · rw [fi_pos (c := lg_cmp (Int32.ofInt 0).toInt64 (Int64.ofInt 0) = 0) ((lg_cmp_eq _ _).mpr (by decide)), fi_neg (c := Int32.ofInt 2 = Int32.ofInt 2 ∧ Int32.ofInt 0 = Int32.ofInt 1) (by decide)]
    have k : (lg_cmp (v &&& (Int64.ofInt 256 - Int64.ofInt 1)) (Int64.ofInt 256 / Int64.ofInt 2) < 0) ↔ ul v % 256 < 128 := by
      rw [lt0, lt_tl, tl, mk8, show (Int64.ofInt 256 / Int64.ofInt 2).toInt = 128 from by decide]
      split <;> omega
    by_cases q : ul v % 256 < 128
    · rw [fi_pos (k.mpr q)]
      refine Prod.ext (ul_inj ?_) rfl
      dsimp only
      rw [sx56 v _ (by decide), mk8, if_pos q]
    · rw [fi_neg (fun z => q (k.mp z))]
      refine Prod.ext (ul_inj ?_) rfl
      dsimp only
      rw [sx56 v _ (by decide), ul_sub, mk8, if_neg q, show ul (Int64.ofInt 256) = 256 from rfl]
      omega
  · rw [fi_neg (fun q => absurd ((lg_cmp_eq _ _).mp q) (by decide)), fi_pos (c := Int32.ofInt 2 = Int32.ofInt 2 ∧ Int32.ofInt 1 = Int32.ofInt 1) (by decide)]
    refine Prod.ext (ul_inj ?_) rfl
    dsimp only
    rw [zx, mk8, show ui (Int32.ofInt 64 - Int32.ofInt 8 * Int32.ofInt 1) % 64 = 56 from by decide, show (2 : Nat) ^ 56 = 72057594037927936 from rfl]
    omega
theorem X98_loaded2 {c : Nat} {M : FM} (v : Int64) {s : Int32} (hs : s = Int32.ofInt 0 ∨ s = Int32.ofInt 1) (hz : M.2.1 3 (M.2.2 355 c 0) 1 = Int64.ofInt 2) (ht : M.2.1 3 (M.2.2 355 c 0) 3 = s.toInt64) : GX98_loaded c v M = (fin (Int32.ofInt 2) (Int32.ofInt 2) s v, M) := by
  have e1 : (Int32.ofInt 1).toNatClampNeg = 1 := rfl
  have e3 : (Int32.ofInt 3).toNatClampNeg = 3 := rfl
  have sh : (Int64.ofInt 1) <<< ((Int64.ofInt 8 * Int64.ofInt 2).toInt32.toInt64 &&& 63) = Int64.ofInt 65536 := by decide
  have hv := ul_lt v
  unfold GX98_loaded GX98_loaded_0 GX98_loaded_66 GX98_loaded_68
  dsimp only
  rw [e1, e3, hz, ht, fi_neg (fun q => absurd ((lg_cmp_eq _ _).mp q) (by decide)), sh]
  unfold fin
  rw [fi_neg (c := Int32.ofInt 2 = Int32.ofInt 5) (by decide)]
  rcases hs with rfl | rfl
  · rw [fi_pos (c := lg_cmp (Int32.ofInt 0).toInt64 (Int64.ofInt 0) = 0) ((lg_cmp_eq _ _).mpr (by decide)), fi_neg (c := Int32.ofInt 2 = Int32.ofInt 2 ∧ Int32.ofInt 0 = Int32.ofInt 1) (by decide)]
    have k : (lg_cmp (v &&& (Int64.ofInt 65536 - Int64.ofInt 1)) (Int64.ofInt 65536 / Int64.ofInt 2) < 0) ↔ ul v % 65536 < 32768 := by
      rw [lt0, lt_tl, tl, mk16, show (Int64.ofInt 65536 / Int64.ofInt 2).toInt = 32768 from by decide]
      split <;> omega
    by_cases q : ul v % 65536 < 32768
    · rw [fi_pos (k.mpr q)]
      refine Prod.ext (ul_inj ?_) rfl
      dsimp only
      rw [sx48 v _ (by decide), mk16, if_pos q]
    · rw [fi_neg (fun z => q (k.mp z))]
      refine Prod.ext (ul_inj ?_) rfl
      dsimp only
      rw [sx48 v _ (by decide), ul_sub, mk16, if_neg q, show ul (Int64.ofInt 65536) = 65536 from rfl]
      omega
  · rw [fi_neg (fun q => absurd ((lg_cmp_eq _ _).mp q) (by decide)), fi_pos (c := Int32.ofInt 2 = Int32.ofInt 2 ∧ Int32.ofInt 1 = Int32.ofInt 1) (by decide)]
    refine Prod.ext (ul_inj ?_) rfl
    dsimp only
    rw [zx, mk16, show ui (Int32.ofInt 64 - Int32.ofInt 8 * Int32.ofInt 2) % 64 = 48 from by decide, show (2 : Nat) ^ 48 = 281474976710656 from rfl]
    omega
theorem X98_loaded4 {c : Nat} {M : FM} (v : Int64) {s : Int32} (hs : s = Int32.ofInt 0 ∨ s = Int32.ofInt 1) (hz : M.2.1 3 (M.2.2 355 c 0) 1 = Int64.ofInt 4) (ht : M.2.1 3 (M.2.2 355 c 0) 3 = s.toInt64) : GX98_loaded c v M = (fin (Int32.ofInt 2) (Int32.ofInt 4) s v, M) := by
  have e1 : (Int32.ofInt 1).toNatClampNeg = 1 := rfl
  have e3 : (Int32.ofInt 3).toNatClampNeg = 3 := rfl
  have sh : (Int64.ofInt 1) <<< ((Int64.ofInt 8 * Int64.ofInt 4).toInt32.toInt64 &&& 63) = Int64.ofInt 4294967296 := by decide
  have hv := ul_lt v
  unfold GX98_loaded GX98_loaded_0 GX98_loaded_66 GX98_loaded_68
  dsimp only
  rw [e1, e3, hz, ht, fi_neg (fun q => absurd ((lg_cmp_eq _ _).mp q) (by decide)), sh]
  unfold fin
  rw [fi_neg (c := Int32.ofInt 2 = Int32.ofInt 5) (by decide)]
  rcases hs with rfl | rfl
  · rw [fi_pos (c := lg_cmp (Int32.ofInt 0).toInt64 (Int64.ofInt 0) = 0) ((lg_cmp_eq _ _).mpr (by decide)), fi_neg (c := Int32.ofInt 2 = Int32.ofInt 2 ∧ Int32.ofInt 0 = Int32.ofInt 1) (by decide)]
    have k : (lg_cmp (v &&& (Int64.ofInt 4294967296 - Int64.ofInt 1)) (Int64.ofInt 4294967296 / Int64.ofInt 2) < 0) ↔ ul v % 4294967296 < 2147483648 := by
      rw [lt0, lt_tl, tl, mk32, show (Int64.ofInt 4294967296 / Int64.ofInt 2).toInt = 2147483648 from by decide]
      split <;> omega
    by_cases q : ul v % 4294967296 < 2147483648
    · rw [fi_pos (k.mpr q)]
      refine Prod.ext (ul_inj ?_) rfl
      dsimp only
      rw [sx32 v _ (by decide), mk32, if_pos q]
    · rw [fi_neg (fun z => q (k.mp z))]
      refine Prod.ext (ul_inj ?_) rfl
      dsimp only
      rw [sx32 v _ (by decide), ul_sub, mk32, if_neg q, show ul (Int64.ofInt 4294967296) = 4294967296 from rfl]
      omega
  · rw [fi_neg (fun q => absurd ((lg_cmp_eq _ _).mp q) (by decide)), fi_pos (c := Int32.ofInt 2 = Int32.ofInt 2 ∧ Int32.ofInt 1 = Int32.ofInt 1) (by decide)]
    refine Prod.ext (ul_inj ?_) rfl
    dsimp only
    rw [zx, mk32, show ui (Int32.ofInt 64 - Int32.ofInt 8 * Int32.ofInt 4) % 64 = 32 from by decide, show (2 : Nat) ^ 32 = 4294967296 from rfl]
    omega
