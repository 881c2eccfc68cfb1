/-! halves: branches and jumps put together on both sides -/
set_option maxRecDepth 100000
section Wj
variable {f a : Nat} {i : Int32} {M : FM}
theorem bit_v {k t : Nat} (hk : k < 32) (ht : t < 32) : GX94_bit i (nI k) (nI t) M = (nI (ui i / 2 ^ k % 2 * 2 ^ t), M) := by
  unfold GX94_bit GX94_bit_0
  refine Prod.ext ?_ rfl
  apply ui_inj
  show ui (((i >>> (nI k &&& 31)) &&& Int32.ofInt 1) <<< (nI t &&& 31)) = _
  rw [ui_shl, bit_c i (nI k) hk (by rw [ui_nI]; omega), ui_nI, ui_nI, show t % 4294967296 % 32 = t by omega]
/-- one bit more of a branch -/
theorem wB_s (T : Ty M) {k j : Nat} (hk : k < 11) (acc : Nat) : FX94_wordB_L35 fN (j + 1) i (nI acc) (nI k) M = FX94_wordB_L35 fN j i (nI (acc + ui i / 2 ^ k % 2 * 2 ^ (if 5 ≤ k then k + 20 else k + 7))) (nI (k + 1)) M := by
  have h11 : ¬ Int32.ofInt 11 ≤ nI k := fun q => by have := (nge (by omega) 11 (by decide)).mp q; omega
  show FX94_wordB_35 fN (FX94_wordB_L35 fN j) i (nI acc) (nI k) M = _
  rw [(gX94_wordB_35 _ _ _ _ M T).1]
  unfold GX94_wordB_35 GX94_wordB_65
  rw [fi_neg h11, show nI k + Int32.ofInt 20 = nI (k + 20) from nI_a, show nI k + Int32.ofInt 7 = nI (k + 7) from nI_a, bit_v (by omega) (by omega), bit_v (by omega) (by omega), up_1 (by omega)]
  dsimp only
  by_cases q : 5 ≤ k
  · rw [fi_pos ((nge (n := k) (by omega) 5 (by decide)).mpr (by omega)), if_pos q, nI_a]
    rfl
  · rw [fi_neg (fun y => by have := (nge (n := k) (by omega) 5 (by decide)).mp y; omega), if_neg q, nI_a]
    rfl
theorem wJ_s (T : Ty M) {k j : Nat} (hk : k < 20) (acc : Nat) : FX94_wordJ_L23 fN (j + 1) i (nI acc) (nI k) M = FX94_wordJ_L23 fN j i (nI (if k = 11 then acc else acc + ui i / 2 ^ k % 2 * 2 ^ (if 11 ≤ k then k else k + 20))) (nI (k + 1)) M := by
  have h20 : ¬ Int32.ofInt 20 ≤ nI k := fun q => by have := (nge (by omega) 20 (by decide)).mp q; omega
  show FX94_wordJ_23 fN (FX94_wordJ_L23 fN j) i (nI acc) (nI k) M = _
  rw [(gX94_wordJ_23 _ _ _ _ M T).1]
  unfold GX94_wordJ_23 GX94_wordJ_56 GX94_wordJ_60
  rw [fi_neg h20, up_1 (by omega)]
  by_cases e : k = 11
  · rw [fi_pos (show nI k = Int32.ofInt 11 by rw [e]; rfl), if_pos e]
    rfl
  · rw [fi_neg (show ¬ nI k = Int32.ofInt 11 from fun y => e (nI_j (b := 11) (by omega) (by decide) y)), if_neg e]
    by_cases q : 11 ≤ k
    · rw [fi_pos ((nge (n := k) (by omega) 11 (by decide)).mpr (by omega)), bit_v (by omega) (by omega), if_pos q]
      dsimp only
      rw [nI_a]
      rfl
    · rw [fi_neg (fun y => by have := (nge (n := k) (by omega) 11 (by decide)).mp y; omega), show nI k + Int32.ofInt 20 = nI (k + 20) from nI_a, bit_v (by omega) (by omega), if_neg q]
      dsimp only
      rw [nI_a]
      rfl
noncomputable def wB (f a : Nat) (i : Int32) : Int32 := nI (99 + 128 * fd i 11 11 + 256 * fd i 4 1 + 4096 * f + 32768 * a + 33554432 * fd i 10 5 + 2147483648 * fd i 12 12)
noncomputable def wJ (i : Int32) : Int32 := nI (111 + 4096 * fd i 19 12 + 1048576 * fd i 11 11 + 2097152 * fd i 10 1 + 2147483648 * fd i 20 20)
theorem X103_ofB (hf : f < 8) (ha : a < 32) : GX103_ofB (nI f) (nI a) (Int32.ofInt 0) i M = (wB f a i, M) := by
  have h1 : fd i 11 11 < 2 ^ 1 := fd_lt i (hi := 11) (lo := 11) (by decide)
  have h2 : fd i 4 1 < 2 ^ 4 := fd_lt i (hi := 4) (lo := 1) (by decide)
  have h3 : fd i 10 5 < 2 ^ 6 := fd_lt i (hi := 10) (lo := 5) (by decide)
  have h4 : fd i 12 12 < 2 ^ 1 := fd_lt i (hi := 12) (lo := 12) (by decide)
  unfold GX103_ofB GX103_ofB_0 wB
  rw [X103_bits i (Int32.ofInt 11) (Int32.ofInt 11) M (hi := 11) (lo := 11) (by decide) (by decide) rfl rfl]
  dsimp only
  rw [X103_bits i (Int32.ofInt 4) (Int32.ofInt 1) M (hi := 4) (lo := 1) (by decide) (by decide) rfl rfl]
  dsimp only
  rw [X103_bits i (Int32.ofInt 10) (Int32.ofInt 5) M (hi := 10) (lo := 5) (by decide) (by decide) rfl rfl]
  dsimp only
  rw [X103_bits i (Int32.ofInt 12) (Int32.ofInt 12) M (hi := 12) (lo := 12) (by decide) (by decide) rfl rfl]
  dsimp only
  generalize fd i 11 11 = u1 at *
  generalize fd i 4 1 = u2 at *
  generalize fd i 10 5 = u3 at *
  generalize fd i 12 12 = u4 at *
  rw [show Int32.ofInt 99 = nI 99 from rfl, show Int32.ofInt 7 = nI 7 from rfl, show Int32.ofInt 8 = nI 8 from rfl, show Int32.ofInt 12 = nI 12 from rfl, show Int32.ofInt 15 = nI 15 from rfl, show Int32.ofInt 0 = nI 0 from rfl, show Int32.ofInt 20 = nI 20 from rfl, show Int32.ofInt 25 = nI 25 from rfl, show Int32.ofInt 31 = nI 31 from rfl,
    or_s (m := 1) (by decide) h1 (by decide) (by omega) (by omega), or_s (m := 4) (by decide) h2 (by decide) (by omega) (by omega), or_s (m := 3) (by decide) hf (by decide) (by omega) (by omega), or_s (m := 5) (by decide) ha (by decide) (by omega) (by omega), or_s (v := 0) (m := 5) (by decide) (by decide) (by decide) (by omega) (by omega), or_s (m := 6) (by decide) h3 (by decide) (by omega) (by omega), or_s (m := 1) (by decide) h4 (by decide) (by omega) (by omega)]
  refine Prod.ext ?_ rfl
  show nI _ = nI _
  congr 1
  omega
theorem X103_ofJ : GX103_ofJ (Int32.ofInt 0) i M = (wJ i, M) := by
  have h1 : fd i 19 12 < 2 ^ 8 := fd_lt i (hi := 19) (lo := 12) (by decide)
  have h2 : fd i 11 11 < 2 ^ 1 := fd_lt i (hi := 11) (lo := 11) (by decide)
  have h3 : fd i 10 1 < 2 ^ 10 := fd_lt i (hi := 10) (lo := 1) (by decide)
  have h4 : fd i 20 20 < 2 ^ 1 := fd_lt i (hi := 20) (lo := 20) (by decide)
  unfold GX103_ofJ GX103_ofJ_0 wJ
  rw [X103_bits i (Int32.ofInt 19) (Int32.ofInt 12) M (hi := 19) (lo := 12) (by decide) (by decide) rfl rfl]
  dsimp only
  rw [X103_bits i (Int32.ofInt 11) (Int32.ofInt 11) M (hi := 11) (lo := 11) (by decide) (by decide) rfl rfl]
  dsimp only
  rw [X103_bits i (Int32.ofInt 10) (Int32.ofInt 1) M (hi := 10) (lo := 1) (by decide) (by decide) rfl rfl]
  dsimp only
  rw [X103_bits i (Int32.ofInt 20) (Int32.ofInt 20) M (hi := 20) (lo := 20) (by decide) (by decide) rfl rfl]
  dsimp only
  generalize fd i 19 12 = u1 at *
  generalize fd i 11 11 = u2 at *
  generalize fd i 10 1 = u3 at *
  generalize fd i 20 20 = u4 at *
  rw [show Int32.ofInt 111 = nI 111 from rfl, show Int32.ofInt 7 = nI 7 from rfl, show Int32.ofInt 12 = nI 12 from rfl, show Int32.ofInt 0 = nI 0 from rfl, show Int32.ofInt 20 = nI 20 from rfl, show Int32.ofInt 21 = nI 21 from rfl, show Int32.ofInt 31 = nI 31 from rfl,
    or_s (v := 0) (m := 5) (by decide) (by decide) (by decide) (by omega) (by omega), or_s (m := 8) (by decide) h1 (by decide) (by omega) (by omega), or_s (m := 1) (by decide) h2 (by decide) (by omega) (by omega), or_s (m := 10) (by decide) h3 (by decide) (by omega) (by omega), or_s (m := 1) (by decide) h4 (by decide) (by omega) (by omega)]
  refine Prod.ext ?_ rfl
  show nI _ = nI _
  congr 1
  omega
theorem X94_wordB (T : Ty M) : HX94_wordB (nI f) (nI a) i M ∧ GX94_wordB (nI f) (nI a) i M = (wB f a i, M) := by
  have st : ∀ (k j n m : Nat), k < 11 → n + ui i / 2 ^ k % 2 * 2 ^ (if 5 ≤ k then k + 20 else k + 7) = m → FX94_wordB_L35 fN (j + 1) i (nI n) (nI k) M = FX94_wordB_L35 fN j i (nI m) (nI (k + 1)) M := fun k j n m hk e => by
    rw [wB_s T hk, e]
  generalize hA : 99 + 4096 * f + 32768 * a + ui i / 2 ^ 11 % 2 * 2 ^ 7 + ui i / 2 ^ 12 % 2 * 2 ^ 31 = A at *
  have e : FX94_wordB_L35 fN fN i (nI A) (nI 1) M = some (wB f a i, M) := by
    show FX94_wordB_L35 fN (99999989 + 11) i (nI A) (nI 1) M = _
    refine (st 1 99999999 (A) (A + ui i % 4 / 2 * 256) (by decide) (by rw [if_neg (by decide)]; omega)).trans ?_
    refine (st 2 99999998 (A + ui i % 4 / 2 * 256) (A + ui i % 8 / 2 * 256) (by decide) (by rw [if_neg (by decide)]; omega)).trans ?_
    refine (st 3 99999997 (A + ui i % 8 / 2 * 256) (A + ui i % 16 / 2 * 256) (by decide) (by rw [if_neg (by decide)]; omega)).trans ?_
    refine (st 4 99999996 (A + ui i % 16 / 2 * 256) (A + ui i % 32 / 2 * 256) (by decide) (by rw [if_neg (by decide)]; omega)).trans ?_
    refine (st 5 99999995 (A + ui i % 32 / 2 * 256) (A + ui i % 32 / 2 * 256 + ui i % 64 / 32 * 33554432) (by decide) (by rw [if_pos (by decide)]; omega)).trans ?_
    refine (st 6 99999994 (A + ui i % 32 / 2 * 256 + ui i % 64 / 32 * 33554432) (A + ui i % 32 / 2 * 256 + ui i % 128 / 32 * 33554432) (by decide) (by rw [if_pos (by decide)]; omega)).trans ?_
    refine (st 7 99999993 (A + ui i % 32 / 2 * 256 + ui i % 128 / 32 * 33554432) (A + ui i % 32 / 2 * 256 + ui i % 256 / 32 * 33554432) (by decide) (by rw [if_pos (by decide)]; omega)).trans ?_
    refine (st 8 99999992 (A + ui i % 32 / 2 * 256 + ui i % 256 / 32 * 33554432) (A + ui i % 32 / 2 * 256 + ui i % 512 / 32 * 33554432) (by decide) (by rw [if_pos (by decide)]; omega)).trans ?_
    refine (st 9 99999991 (A + ui i % 32 / 2 * 256 + ui i % 512 / 32 * 33554432) (A + ui i % 32 / 2 * 256 + ui i % 1024 / 32 * 33554432) (by decide) (by rw [if_pos (by decide)]; omega)).trans ?_
    refine (st 10 99999990 (A + ui i % 32 / 2 * 256 + ui i % 1024 / 32 * 33554432) (A + ui i % 32 / 2 * 256 + ui i % 2048 / 32 * 33554432) (by decide) (by rw [if_pos (by decide)]; omega)).trans ?_
    have le : Int32.ofInt 11 ≤ nI 11 := by decide
    show FX94_wordB_35 fN (FX94_wordB_L35 fN 99999989) i (nI (A + ui i % 32 / 2 * 256 + ui i % 2048 / 32 * 33554432)) (nI 11) M = _
    rw [(gX94_wordB_35 _ _ _ _ M T).1]
    unfold GX94_wordB_35
    rw [fi_pos le]
    show some (nI _, M) = some (nI _, M)
    have : A + ui i % 32 / 2 * 256 + ui i % 2048 / 32 * 33554432 = 99 + 128 * fd i 11 11 + 256 * fd i 4 1 + 4096 * f + 32768 * a + 33554432 * fd i 10 5 + 2147483648 * fd i 12 12 := by
      unfold fd
      rw [← hA]
      omega
    rw [this]
  have e0 : FX94_wordB fN (nI f) (nI a) i M = some (wB f a i, M) := by
    show FX94_wordB_0 fN (FX94_wordB_L35 fN fN) (nI f) (nI a) i M = _
    rw [(gX94_wordB_0 _ _ _ _ M T).1]
    unfold GX94_wordB_0
    rw [show GX94_bit i (Int32.ofInt 11) (Int32.ofInt 7) M = _ from bit_v (k := 11) (t := 7) (by decide) (by decide)]
    dsimp only
    rw [show GX94_bit i (Int32.ofInt 12) (Int32.ofInt 31) M = _ from bit_v (k := 12) (t := 31) (by decide) (by decide)]
    dsimp only
    rw [show Int32.ofInt 99 = nI 99 from rfl, show Int32.ofInt 4096 = nI 4096 from rfl, show Int32.ofInt 32768 = nI 32768 from rfl, nI_m, nI_m, nI_a, nI_a, nI_a, nI_a, hA]
    exact e
  exact op_of (P := OkR M) (d := (0, M)) e0 ⟨T, fun _ _ => ⟨rfl, rfl⟩⟩
theorem X94_wordJ (T : Ty M) : HX94_wordJ i M ∧ GX94_wordJ i M = (wJ i, M) := by
  have st : ∀ (k j n m : Nat), k < 20 → (if k = 11 then n else n + ui i / 2 ^ k % 2 * 2 ^ (if 11 ≤ k then k else k + 20)) = m → FX94_wordJ_L23 fN (j + 1) i (nI n) (nI k) M = FX94_wordJ_L23 fN j i (nI m) (nI (k + 1)) M := fun k j n m hk e => by
    rw [wJ_s T hk, e]
  generalize hA : 111 + ui i / 2 ^ 11 % 2 * 2 ^ 20 + ui i / 2 ^ 20 % 2 * 2 ^ 31 = A at *
  have e : FX94_wordJ_L23 fN fN i (nI A) (nI 1) M = some (wJ i, M) := by
    show FX94_wordJ_L23 fN (99999980 + 20) i (nI A) (nI 1) M = _
    refine (st 1 99999999 (A) (A + ui i % 4 / 2 * 2097152) (by decide) (by rw [if_neg (by decide), if_neg (by decide)]; omega)).trans ?_
    refine (st 2 99999998 (A + ui i % 4 / 2 * 2097152) (A + ui i % 8 / 2 * 2097152) (by decide) (by rw [if_neg (by decide), if_neg (by decide)]; omega)).trans ?_
    refine (st 3 99999997 (A + ui i % 8 / 2 * 2097152) (A + ui i % 16 / 2 * 2097152) (by decide) (by rw [if_neg (by decide), if_neg (by decide)]; omega)).trans ?_
    refine (st 4 99999996 (A + ui i % 16 / 2 * 2097152) (A + ui i % 32 / 2 * 2097152) (by decide) (by rw [if_neg (by decide), if_neg (by decide)]; omega)).trans ?_
    refine (st 5 99999995 (A + ui i % 32 / 2 * 2097152) (A + ui i % 64 / 2 * 2097152) (by decide) (by rw [if_neg (by decide), if_neg (by decide)]; omega)).trans ?_
    refine (st 6 99999994 (A + ui i % 64 / 2 * 2097152) (A + ui i % 128 / 2 * 2097152) (by decide) (by rw [if_neg (by decide), if_neg (by decide)]; omega)).trans ?_
    refine (st 7 99999993 (A + ui i % 128 / 2 * 2097152) (A + ui i % 256 / 2 * 2097152) (by decide) (by rw [if_neg (by decide), if_neg (by decide)]; omega)).trans ?_
    refine (st 8 99999992 (A + ui i % 256 / 2 * 2097152) (A + ui i % 512 / 2 * 2097152) (by decide) (by rw [if_neg (by decide), if_neg (by decide)]; omega)).trans ?_
    refine (st 9 99999991 (A + ui i % 512 / 2 * 2097152) (A + ui i % 1024 / 2 * 2097152) (by decide) (by rw [if_neg (by decide), if_neg (by decide)]; omega)).trans ?_
    refine (st 10 99999990 (A + ui i % 1024 / 2 * 2097152) (A + ui i % 2048 / 2 * 2097152) (by decide) (by rw [if_neg (by decide), if_neg (by decide)]; omega)).trans ?_
    refine (st 11 99999989 (A + ui i % 2048 / 2 * 2097152) (A + ui i % 2048 / 2 * 2097152) (by decide) (by rw [if_pos rfl])).trans ?_
    refine (st 12 99999988 (A + ui i % 2048 / 2 * 2097152) (A + ui i % 2048 / 2 * 2097152 + ui i % 8192 / 4096 * 4096) (by decide) (by rw [if_neg (by decide), if_pos (by decide)]; omega)).trans ?_
    refine (st 13 99999987 (A + ui i % 2048 / 2 * 2097152 + ui i % 8192 / 4096 * 4096) (A + ui i % 2048 / 2 * 2097152 + ui i % 16384 / 4096 * 4096) (by decide) (by rw [if_neg (by decide), if_pos (by decide)]; omega)).trans ?_
    refine (st 14 99999986 (A + ui i % 2048 / 2 * 2097152 + ui i % 16384 / 4096 * 4096) (A + ui i % 2048 / 2 * 2097152 + ui i % 32768 / 4096 * 4096) (by decide) (by rw [if_neg (by decide), if_pos (by decide)]; omega)).trans ?_
    refine (st 15 99999985 (A + ui i % 2048 / 2 * 2097152 + ui i % 32768 / 4096 * 4096) (A + ui i % 2048 / 2 * 2097152 + ui i % 65536 / 4096 * 4096) (by decide) (by rw [if_neg (by decide), if_pos (by decide)]; omega)).trans ?_
    refine (st 16 99999984 (A + ui i % 2048 / 2 * 2097152 + ui i % 65536 / 4096 * 4096) (A + ui i % 2048 / 2 * 2097152 + ui i % 131072 / 4096 * 4096) (by decide) (by rw [if_neg (by decide), if_pos (by decide)]; omega)).trans ?_
    refine (st 17 99999983 (A + ui i % 2048 / 2 * 2097152 + ui i % 131072 / 4096 * 4096) (A + ui i % 2048 / 2 * 2097152 + ui i % 262144 / 4096 * 4096) (by decide) (by rw [if_neg (by decide), if_pos (by decide)]; omega)).trans ?_
    refine (st 18 99999982 (A + ui i % 2048 / 2 * 2097152 + ui i % 262144 / 4096 * 4096) (A + ui i % 2048 / 2 * 2097152 + ui i % 524288 / 4096 * 4096) (by decide) (by rw [if_neg (by decide), if_pos (by decide)]; omega)).trans ?_
    refine (st 19 99999981 (A + ui i % 2048 / 2 * 2097152 + ui i % 524288 / 4096 * 4096) (A + ui i % 2048 / 2 * 2097152 + ui i % 1048576 / 4096 * 4096) (by decide) (by rw [if_neg (by decide), if_pos (by decide)]; omega)).trans ?_
    have le : Int32.ofInt 20 ≤ nI 20 := by decide
    show FX94_wordJ_23 fN (FX94_wordJ_L23 fN 99999980) i (nI (A + ui i % 2048 / 2 * 2097152 + ui i % 1048576 / 4096 * 4096)) (nI 20) M = _
    rw [(gX94_wordJ_23 _ _ _ _ M T).1]
    unfold GX94_wordJ_23
    rw [fi_pos le]
    show some (nI _, M) = some (nI _, M)
    have : A + ui i % 2048 / 2 * 2097152 + ui i % 1048576 / 4096 * 4096 = 111 + 4096 * fd i 19 12 + 1048576 * fd i 11 11 + 2097152 * fd i 10 1 + 2147483648 * fd i 20 20 := by
      unfold fd
      rw [← hA]
      omega
    rw [this]
  have e0 : FX94_wordJ fN i M = some (wJ i, M) := by
    show FX94_wordJ_0 fN (FX94_wordJ_L23 fN fN) i M = _
    rw [(gX94_wordJ_0 _ _ M T).1]
    unfold GX94_wordJ_0
    rw [show GX94_bit i (Int32.ofInt 11) (Int32.ofInt 20) M = _ from bit_v (k := 11) (t := 20) (by decide) (by decide)]
    dsimp only
    rw [show GX94_bit i (Int32.ofInt 20) (Int32.ofInt 31) M = _ from bit_v (k := 20) (t := 31) (by decide) (by decide)]
    dsimp only
    rw [show Int32.ofInt 111 = nI 111 from rfl, nI_a, nI_a, hA]
    exact e
  exact op_of (P := OkR M) (d := (0, M)) e0 ⟨T, fun _ _ => ⟨rfl, rfl⟩⟩
end Wj
