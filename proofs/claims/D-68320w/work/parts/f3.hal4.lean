/-! halves: the values of the immediates -/
set_option maxRecDepth 100000
theorem sg_v {sg v : Nat} (hs : sg = 5 ∨ sg = 8 ∨ sg = 9 ∨ sg = 11) (hv : v < 2 ^ (sg + 1)) : sgO sg (nI v) = nI v - nI (2 ^ (sg + 1) * (v / 2 ^ sg)) := by
  unfold sgO
  rcases hs with rfl | rfl | rfl | rfl
  · rw [fi_neg (by decide)]
    have e : Int32.ofInt 31 - nI 5 = nI 26 := by decide
    have s : ui (nI v <<< (nI 26 &&& 31)) = v * 67108864 := by
      rw [ui_shl, ui_nI, ui_nI, show 26 % 4294967296 % 32 = 26 from rfl]
      omega
    apply ui_inj
    rw [e, ui_sub, ui_nI, ui_nI]
    by_cases q : v < 32
    · rw [ui_sar0 _ _ (by rw [s]; omega), s, ui_nI, show 26 % 4294967296 % 32 = 26 from rfl]
      omega
    · rw [ui_sar1 _ _ (by rw [s]; omega), s, ui_nI, show 26 % 4294967296 % 32 = 26 from rfl]
      omega
  · rw [fi_neg (by decide)]
    have e : Int32.ofInt 31 - nI 8 = nI 23 := by decide
    have s : ui (nI v <<< (nI 23 &&& 31)) = v * 8388608 := by
      rw [ui_shl, ui_nI, ui_nI, show 23 % 4294967296 % 32 = 23 from rfl]
      omega
    apply ui_inj
    rw [e, ui_sub, ui_nI, ui_nI]
    by_cases q : v < 256
    · rw [ui_sar0 _ _ (by rw [s]; omega), s, ui_nI, show 23 % 4294967296 % 32 = 23 from rfl]
      omega
    · rw [ui_sar1 _ _ (by rw [s]; omega), s, ui_nI, show 23 % 4294967296 % 32 = 23 from rfl]
      omega
  · rw [fi_neg (by decide)]
    have e : Int32.ofInt 31 - nI 9 = nI 22 := by decide
    have s : ui (nI v <<< (nI 22 &&& 31)) = v * 4194304 := by
      rw [ui_shl, ui_nI, ui_nI, show 22 % 4294967296 % 32 = 22 from rfl]
      omega
    apply ui_inj
    rw [e, ui_sub, ui_nI, ui_nI]
    by_cases q : v < 512
    · rw [ui_sar0 _ _ (by rw [s]; omega), s, ui_nI, show 22 % 4294967296 % 32 = 22 from rfl]
      omega
    · rw [ui_sar1 _ _ (by rw [s]; omega), s, ui_nI, show 22 % 4294967296 % 32 = 22 from rfl]
      omega
  · rw [fi_neg (by decide)]
    have e : Int32.ofInt 31 - nI 11 = nI 20 := by decide
    have s : ui (nI v <<< (nI 20 &&& 31)) = v * 1048576 := by
      rw [ui_shl, ui_nI, ui_nI, show 20 % 4294967296 % 32 = 20 from rfl]
      omega
    apply ui_inj
    rw [e, ui_sub, ui_nI, ui_nI]
    by_cases q : v < 2048
    · rw [ui_sar0 _ _ (by rw [s]; omega), s, ui_nI, show 20 % 4294967296 % 32 = 20 from rfl]
      omega
    · rw [ui_sar1 _ _ (by rw [s]; omega), s, ui_nI, show 20 % 4294967296 % 32 = 20 from rfl]
      omega
def pl_n : List (Nat × Nat × Nat) := [(12, 5, 1), (2, 0, 5)]
def vl_n (h : Int32) : Nat := 32 * fd h 12 12 + fd h 6 2
theorem ly_n (h : Int32) : sgO 5 (rdO h pl_n (Int32.ofInt 0)) = nI (vl_n h) - nI (64 * fd h 12 12) := by
  have h0 : fd h 12 12 < 2 ^ 1 := fd_lt h (hi := 12) (lo := 12) (by decide)
  have h1 : fd h 6 2 < 2 ^ 5 := fd_lt h (hi := 6) (lo := 2) (by decide)
  have e : rdO h pl_n (Int32.ofInt 0) = ((nI 0 ||| (nI (fd h 12 12) <<< (nI 5 &&& 31))) ||| (nI (fd h 6 2) <<< (nI 0 &&& 31))) := rfl
  rw [e]
  unfold vl_n
  generalize fd h 12 12 = u0 at *
  generalize fd h 6 2 = u1 at *
  rw [or_s (m := 1) (by decide) h0 (by decide) (by omega) (by omega)]
  rw [or_s (m := 5) (by decide) h1 (by decide) (by omega) (by omega)]
  rw [show 0 + u0 * 2 ^ 5 + u1 * 2 ^ 0 = 32 * u0 + u1 by omega]
  rw [sg_v (by decide) (by omega), show 2 ^ (5 + 1) * ((32 * u0 + u1) / 2 ^ 5) = 64 * u0 by omega]
def pl_z : List (Nat × Nat × Nat) := [(12, 5, 1), (2, 0, 5)]
def vl_z (h : Int32) : Nat := 32 * fd h 12 12 + fd h 6 2
theorem ly_z (h : Int32) : sgO 0 (rdO h pl_z (Int32.ofInt 0)) = nI (vl_z h) := by
  have h0 : fd h 12 12 < 2 ^ 1 := fd_lt h (hi := 12) (lo := 12) (by decide)
  have h1 : fd h 6 2 < 2 ^ 5 := fd_lt h (hi := 6) (lo := 2) (by decide)
  have e : rdO h pl_z (Int32.ofInt 0) = ((nI 0 ||| (nI (fd h 12 12) <<< (nI 5 &&& 31))) ||| (nI (fd h 6 2) <<< (nI 0 &&& 31))) := rfl
  rw [e]
  unfold vl_z
  generalize fd h 12 12 = u0 at *
  generalize fd h 6 2 = u1 at *
  rw [or_s (m := 1) (by decide) h0 (by decide) (by omega) (by omega)]
  rw [or_s (m := 5) (by decide) h1 (by decide) (by omega) (by omega)]
  rw [show 0 + u0 * 2 ^ 5 + u1 * 2 ^ 0 = 32 * u0 + u1 by omega]
  unfold sgO
  rw [fi_pos rfl]
def pl_wide : List (Nat × Nat × Nat) := [(5, 6, 2), (10, 3, 3)]
def vl_wide (h : Int32) : Nat := 64 * fd h 6 5 + 8 * fd h 12 10
theorem ly_wide (h : Int32) : sgO 0 (rdO h pl_wide (Int32.ofInt 0)) = nI (vl_wide h) := by
  have h0 : fd h 6 5 < 2 ^ 2 := fd_lt h (hi := 6) (lo := 5) (by decide)
  have h1 : fd h 12 10 < 2 ^ 3 := fd_lt h (hi := 12) (lo := 10) (by decide)
  have e : rdO h pl_wide (Int32.ofInt 0) = ((nI 0 ||| (nI (fd h 6 5) <<< (nI 6 &&& 31))) ||| (nI (fd h 12 10) <<< (nI 3 &&& 31))) := rfl
  rw [e]
  unfold vl_wide
  generalize fd h 6 5 = u0 at *
  generalize fd h 12 10 = u1 at *
  rw [or_s (m := 2) (by decide) h0 (by decide) (by omega) (by omega)]
  rw [or_s (m := 3) (by decide) h1 (by decide) (by omega) (by omega)]
  rw [show 0 + u0 * 2 ^ 6 + u1 * 2 ^ 3 = 64 * u0 + 8 * u1 by omega]
  unfold sgO
  rw [fi_pos rfl]
def pl_narrow : List (Nat × Nat × Nat) := [(5, 6, 1), (10, 3, 3), (6, 2, 1)]
def vl_narrow (h : Int32) : Nat := 64 * fd h 5 5 + 8 * fd h 12 10 + 4 * fd h 6 6
theorem ly_narrow (h : Int32) : sgO 0 (rdO h pl_narrow (Int32.ofInt 0)) = nI (vl_narrow h) := by
  have h0 : fd h 5 5 < 2 ^ 1 := fd_lt h (hi := 5) (lo := 5) (by decide)
  have h1 : fd h 12 10 < 2 ^ 3 := fd_lt h (hi := 12) (lo := 10) (by decide)
  have h2 : fd h 6 6 < 2 ^ 1 := fd_lt h (hi := 6) (lo := 6) (by decide)
  have e : rdO h pl_narrow (Int32.ofInt 0) = (((nI 0 ||| (nI (fd h 5 5) <<< (nI 6 &&& 31))) ||| (nI (fd h 12 10) <<< (nI 3 &&& 31))) ||| (nI (fd h 6 6) <<< (nI 2 &&& 31))) := rfl
  rw [e]
  unfold vl_narrow
  generalize fd h 5 5 = u0 at *
  generalize fd h 12 10 = u1 at *
  generalize fd h 6 6 = u2 at *
  rw [or_s (m := 1) (by decide) h0 (by decide) (by omega) (by omega)]
  rw [or_s (m := 3) (by decide) h1 (by decide) (by omega) (by omega)]
  rw [or_s (m := 1) (by decide) h2 (by decide) (by omega) (by omega)]
  rw [show 0 + u0 * 2 ^ 6 + u1 * 2 ^ 3 + u2 * 2 ^ 2 = 64 * u0 + 8 * u1 + 4 * u2 by omega]
  unfold sgO
  rw [fi_pos rfl]
def pl_wideStack : List (Nat × Nat × Nat) := [(2, 6, 3), (12, 5, 1), (5, 3, 2)]
def vl_wideStack (h : Int32) : Nat := 64 * fd h 4 2 + 32 * fd h 12 12 + 8 * fd h 6 5
theorem ly_wideStack (h : Int32) : sgO 0 (rdO h pl_wideStack (Int32.ofInt 0)) = nI (vl_wideStack h) := by
  have h0 : fd h 4 2 < 2 ^ 3 := fd_lt h (hi := 4) (lo := 2) (by decide)
  have h1 : fd h 12 12 < 2 ^ 1 := fd_lt h (hi := 12) (lo := 12) (by decide)
  have h2 : fd h 6 5 < 2 ^ 2 := fd_lt h (hi := 6) (lo := 5) (by decide)
  have e : rdO h pl_wideStack (Int32.ofInt 0) = (((nI 0 ||| (nI (fd h 4 2) <<< (nI 6 &&& 31))) ||| (nI (fd h 12 12) <<< (nI 5 &&& 31))) ||| (nI (fd h 6 5) <<< (nI 3 &&& 31))) := rfl
  rw [e]
  unfold vl_wideStack
  generalize fd h 4 2 = u0 at *
  generalize fd h 12 12 = u1 at *
  generalize fd h 6 5 = u2 at *
  rw [or_s (m := 3) (by decide) h0 (by decide) (by omega) (by omega)]
  rw [or_s (m := 1) (by decide) h1 (by decide) (by omega) (by omega)]
  rw [or_s (m := 2) (by decide) h2 (by decide) (by omega) (by omega)]
  rw [show 0 + u0 * 2 ^ 6 + u1 * 2 ^ 5 + u2 * 2 ^ 3 = 64 * u0 + 32 * u1 + 8 * u2 by omega]
  unfold sgO
  rw [fi_pos rfl]
def pl_narrowStack : List (Nat × Nat × Nat) := [(2, 6, 2), (12, 5, 1), (4, 2, 3)]
def vl_narrowStack (h : Int32) : Nat := 64 * fd h 3 2 + 32 * fd h 12 12 + 4 * fd h 6 4
theorem ly_narrowStack (h : Int32) : sgO 0 (rdO h pl_narrowStack (Int32.ofInt 0)) = nI (vl_narrowStack h) := by
  have h0 : fd h 3 2 < 2 ^ 2 := fd_lt h (hi := 3) (lo := 2) (by decide)
  have h1 : fd h 12 12 < 2 ^ 1 := fd_lt h (hi := 12) (lo := 12) (by decide)
  have h2 : fd h 6 4 < 2 ^ 3 := fd_lt h (hi := 6) (lo := 4) (by decide)
  have e : rdO h pl_narrowStack (Int32.ofInt 0) = (((nI 0 ||| (nI (fd h 3 2) <<< (nI 6 &&& 31))) ||| (nI (fd h 12 12) <<< (nI 5 &&& 31))) ||| (nI (fd h 6 4) <<< (nI 2 &&& 31))) := rfl
  rw [e]
  unfold vl_narrowStack
  generalize fd h 3 2 = u0 at *
  generalize fd h 12 12 = u1 at *
  generalize fd h 6 4 = u2 at *
  rw [or_s (m := 2) (by decide) h0 (by decide) (by omega) (by omega)]
  rw [or_s (m := 1) (by decide) h1 (by decide) (by omega) (by omega)]
  rw [or_s (m := 3) (by decide) h2 (by decide) (by omega) (by omega)]
  rw [show 0 + u0 * 2 ^ 6 + u1 * 2 ^ 5 + u2 * 2 ^ 2 = 64 * u0 + 32 * u1 + 4 * u2 by omega]
  unfold sgO
  rw [fi_pos rfl]
def pl_wideStore : List (Nat × Nat × Nat) := [(7, 6, 3), (10, 3, 3)]
def vl_wideStore (h : Int32) : Nat := 64 * fd h 9 7 + 8 * fd h 12 10
theorem ly_wideStore (h : Int32) : sgO 0 (rdO h pl_wideStore (Int32.ofInt 0)) = nI (vl_wideStore h) := by
  have h0 : fd h 9 7 < 2 ^ 3 := fd_lt h (hi := 9) (lo := 7) (by decide)
  have h1 : fd h 12 10 < 2 ^ 3 := fd_lt h (hi := 12) (lo := 10) (by decide)
  have e : rdO h pl_wideStore (Int32.ofInt 0) = ((nI 0 ||| (nI (fd h 9 7) <<< (nI 6 &&& 31))) ||| (nI (fd h 12 10) <<< (nI 3 &&& 31))) := rfl
  rw [e]
  unfold vl_wideStore
  generalize fd h 9 7 = u0 at *
  generalize fd h 12 10 = u1 at *
  rw [or_s (m := 3) (by decide) h0 (by decide) (by omega) (by omega)]
  rw [or_s (m := 3) (by decide) h1 (by decide) (by omega) (by omega)]
  rw [show 0 + u0 * 2 ^ 6 + u1 * 2 ^ 3 = 64 * u0 + 8 * u1 by omega]
  unfold sgO
  rw [fi_pos rfl]
def pl_narrowStore : List (Nat × Nat × Nat) := [(7, 6, 2), (9, 2, 4)]
def vl_narrowStore (h : Int32) : Nat := 64 * fd h 8 7 + 4 * fd h 12 9
theorem ly_narrowStore (h : Int32) : sgO 0 (rdO h pl_narrowStore (Int32.ofInt 0)) = nI (vl_narrowStore h) := by
  have h0 : fd h 8 7 < 2 ^ 2 := fd_lt h (hi := 8) (lo := 7) (by decide)
  have h1 : fd h 12 9 < 2 ^ 4 := fd_lt h (hi := 12) (lo := 9) (by decide)
  have e : rdO h pl_narrowStore (Int32.ofInt 0) = ((nI 0 ||| (nI (fd h 8 7) <<< (nI 6 &&& 31))) ||| (nI (fd h 12 9) <<< (nI 2 &&& 31))) := rfl
  rw [e]
  unfold vl_narrowStore
  generalize fd h 8 7 = u0 at *
  generalize fd h 12 9 = u1 at *
  rw [or_s (m := 2) (by decide) h0 (by decide) (by omega) (by omega)]
  rw [or_s (m := 4) (by decide) h1 (by decide) (by omega) (by omega)]
  rw [show 0 + u0 * 2 ^ 6 + u1 * 2 ^ 2 = 64 * u0 + 4 * u1 by omega]
  unfold sgO
  rw [fi_pos rfl]
def pl_stack : List (Nat × Nat × Nat) := [(7, 6, 4), (11, 4, 2), (5, 3, 1), (6, 2, 1)]
def vl_stack (h : Int32) : Nat := 64 * fd h 10 7 + 16 * fd h 12 11 + 8 * fd h 5 5 + 4 * fd h 6 6
theorem ly_stack (h : Int32) : sgO 0 (rdO h pl_stack (Int32.ofInt 0)) = nI (vl_stack h) := by
  have h0 : fd h 10 7 < 2 ^ 4 := fd_lt h (hi := 10) (lo := 7) (by decide)
  have h1 : fd h 12 11 < 2 ^ 2 := fd_lt h (hi := 12) (lo := 11) (by decide)
  have h2 : fd h 5 5 < 2 ^ 1 := fd_lt h (hi := 5) (lo := 5) (by decide)
  have h3 : fd h 6 6 < 2 ^ 1 := fd_lt h (hi := 6) (lo := 6) (by decide)
  have e : rdO h pl_stack (Int32.ofInt 0) = ((((nI 0 ||| (nI (fd h 10 7) <<< (nI 6 &&& 31))) ||| (nI (fd h 12 11) <<< (nI 4 &&& 31))) ||| (nI (fd h 5 5) <<< (nI 3 &&& 31))) ||| (nI (fd h 6 6) <<< (nI 2 &&& 31))) := rfl
  rw [e]
  unfold vl_stack
  generalize fd h 10 7 = u0 at *
  generalize fd h 12 11 = u1 at *
  generalize fd h 5 5 = u2 at *
  generalize fd h 6 6 = u3 at *
  rw [or_s (m := 4) (by decide) h0 (by decide) (by omega) (by omega)]
  rw [or_s (m := 2) (by decide) h1 (by decide) (by omega) (by omega)]
  rw [or_s (m := 1) (by decide) h2 (by decide) (by omega) (by omega)]
  rw [or_s (m := 1) (by decide) h3 (by decide) (by omega) (by omega)]
  rw [show 0 + u0 * 2 ^ 6 + u1 * 2 ^ 4 + u2 * 2 ^ 3 + u3 * 2 ^ 2 = 64 * u0 + 16 * u1 + 8 * u2 + 4 * u3 by omega]
  unfold sgO
  rw [fi_pos rfl]
def pl_stackSum : List (Nat × Nat × Nat) := [(12, 9, 1), (3, 7, 2), (5, 6, 1), (2, 5, 1), (6, 4, 1)]
def vl_stackSum (h : Int32) : Nat := 512 * fd h 12 12 + 128 * fd h 4 3 + 64 * fd h 5 5 + 32 * fd h 2 2 + 16 * fd h 6 6
theorem ly_stackSum (h : Int32) : sgO 9 (rdO h pl_stackSum (Int32.ofInt 0)) = nI (vl_stackSum h) - nI (1024 * fd h 12 12) := by
  have h0 : fd h 12 12 < 2 ^ 1 := fd_lt h (hi := 12) (lo := 12) (by decide)
  have h1 : fd h 4 3 < 2 ^ 2 := fd_lt h (hi := 4) (lo := 3) (by decide)
  have h2 : fd h 5 5 < 2 ^ 1 := fd_lt h (hi := 5) (lo := 5) (by decide)
  have h3 : fd h 2 2 < 2 ^ 1 := fd_lt h (hi := 2) (lo := 2) (by decide)
  have h4 : fd h 6 6 < 2 ^ 1 := fd_lt h (hi := 6) (lo := 6) (by decide)
  have e : rdO h pl_stackSum (Int32.ofInt 0) = (((((nI 0 ||| (nI (fd h 12 12) <<< (nI 9 &&& 31))) ||| (nI (fd h 4 3) <<< (nI 7 &&& 31))) ||| (nI (fd h 5 5) <<< (nI 6 &&& 31))) ||| (nI (fd h 2 2) <<< (nI 5 &&& 31))) ||| (nI (fd h 6 6) <<< (nI 4 &&& 31))) := rfl
  rw [e]
  unfold vl_stackSum
  generalize fd h 12 12 = u0 at *
  generalize fd h 4 3 = u1 at *
  generalize fd h 5 5 = u2 at *
  generalize fd h 2 2 = u3 at *
  generalize fd h 6 6 = u4 at *
  rw [or_s (m := 1) (by decide) h0 (by decide) (by omega) (by omega)]
  rw [or_s (m := 2) (by decide) h1 (by decide) (by omega) (by omega)]
  rw [or_s (m := 1) (by decide) h2 (by decide) (by omega) (by omega)]
  rw [or_s (m := 1) (by decide) h3 (by decide) (by omega) (by omega)]
  rw [or_s (m := 1) (by decide) h4 (by decide) (by omega) (by omega)]
  rw [show 0 + u0 * 2 ^ 9 + u1 * 2 ^ 7 + u2 * 2 ^ 6 + u3 * 2 ^ 5 + u4 * 2 ^ 4 = 512 * u0 + 128 * u1 + 64 * u2 + 32 * u3 + 16 * u4 by omega]
  rw [sg_v (by decide) (by omega), show 2 ^ (9 + 1) * ((512 * u0 + 128 * u1 + 64 * u2 + 32 * u3 + 16 * u4) / 2 ^ 9) = 1024 * u0 by omega]
def pl_jump : List (Nat × Nat × Nat) := [(12, 11, 1), (8, 10, 1), (9, 8, 2), (6, 7, 1), (7, 6, 1), (2, 5, 1), (11, 4, 1), (3, 1, 3)]
def vl_jump (h : Int32) : Nat := 2048 * fd h 12 12 + 1024 * fd h 8 8 + 256 * fd h 10 9 + 128 * fd h 6 6 + 64 * fd h 7 7 + 32 * fd h 2 2 + 16 * fd h 11 11 + 2 * fd h 5 3
theorem ly_jump (h : Int32) : sgO 11 (rdO h pl_jump (Int32.ofInt 0)) = nI (vl_jump h) - nI (4096 * fd h 12 12) := by
  have h0 : fd h 12 12 < 2 ^ 1 := fd_lt h (hi := 12) (lo := 12) (by decide)
  have h1 : fd h 8 8 < 2 ^ 1 := fd_lt h (hi := 8) (lo := 8) (by decide)
  have h2 : fd h 10 9 < 2 ^ 2 := fd_lt h (hi := 10) (lo := 9) (by decide)
  have h3 : fd h 6 6 < 2 ^ 1 := fd_lt h (hi := 6) (lo := 6) (by decide)
  have h4 : fd h 7 7 < 2 ^ 1 := fd_lt h (hi := 7) (lo := 7) (by decide)
  have h5 : fd h 2 2 < 2 ^ 1 := fd_lt h (hi := 2) (lo := 2) (by decide)
  have h6 : fd h 11 11 < 2 ^ 1 := fd_lt h (hi := 11) (lo := 11) (by decide)
  have h7 : fd h 5 3 < 2 ^ 3 := fd_lt h (hi := 5) (lo := 3) (by decide)
  have e : rdO h pl_jump (Int32.ofInt 0) = ((((((((nI 0 ||| (nI (fd h 12 12) <<< (nI 11 &&& 31))) ||| (nI (fd h 8 8) <<< (nI 10 &&& 31))) ||| (nI (fd h 10 9) <<< (nI 8 &&& 31))) ||| (nI (fd h 6 6) <<< (nI 7 &&& 31))) ||| (nI (fd h 7 7) <<< (nI 6 &&& 31))) ||| (nI (fd h 2 2) <<< (nI 5 &&& 31))) ||| (nI (fd h 11 11) <<< (nI 4 &&& 31))) ||| (nI (fd h 5 3) <<< (nI 1 &&& 31))) := rfl
  rw [e]
  unfold vl_jump
  generalize fd h 12 12 = u0 at *
  generalize fd h 8 8 = u1 at *
  generalize fd h 10 9 = u2 at *
  generalize fd h 6 6 = u3 at *
  generalize fd h 7 7 = u4 at *
  generalize fd h 2 2 = u5 at *
  generalize fd h 11 11 = u6 at *
  generalize fd h 5 3 = u7 at *
  rw [or_s (m := 1) (by decide) h0 (by decide) (by omega) (by omega)]
  rw [or_s (m := 1) (by decide) h1 (by decide) (by omega) (by omega)]
  rw [or_s (m := 2) (by decide) h2 (by decide) (by omega) (by omega)]
  rw [or_s (m := 1) (by decide) h3 (by decide) (by omega) (by omega)]
  rw [or_s (m := 1) (by decide) h4 (by decide) (by omega) (by omega)]
  rw [or_s (m := 1) (by decide) h5 (by decide) (by omega) (by omega)]
  rw [or_s (m := 1) (by decide) h6 (by decide) (by omega) (by omega)]
  rw [or_s (m := 3) (by decide) h7 (by decide) (by omega) (by omega)]
  rw [show 0 + u0 * 2 ^ 11 + u1 * 2 ^ 10 + u2 * 2 ^ 8 + u3 * 2 ^ 7 + u4 * 2 ^ 6 + u5 * 2 ^ 5 + u6 * 2 ^ 4 + u7 * 2 ^ 1 = 2048 * u0 + 1024 * u1 + 256 * u2 + 128 * u3 + 64 * u4 + 32 * u5 + 16 * u6 + 2 * u7 by omega]
  rw [sg_v (by decide) (by omega), show 2 ^ (11 + 1) * ((2048 * u0 + 1024 * u1 + 256 * u2 + 128 * u3 + 64 * u4 + 32 * u5 + 16 * u6 + 2 * u7) / 2 ^ 11) = 4096 * u0 by omega]
def pl_branch : List (Nat × Nat × Nat) := [(12, 8, 1), (5, 6, 2), (2, 5, 1), (10, 3, 2), (3, 1, 2)]
def vl_branch (h : Int32) : Nat := 256 * fd h 12 12 + 64 * fd h 6 5 + 32 * fd h 2 2 + 8 * fd h 11 10 + 2 * fd h 4 3
theorem ly_branch (h : Int32) : sgO 8 (rdO h pl_branch (Int32.ofInt 0)) = nI (vl_branch h) - nI (512 * fd h 12 12) := by
  have h0 : fd h 12 12 < 2 ^ 1 := fd_lt h (hi := 12) (lo := 12) (by decide)
  have h1 : fd h 6 5 < 2 ^ 2 := fd_lt h (hi := 6) (lo := 5) (by decide)
  have h2 : fd h 2 2 < 2 ^ 1 := fd_lt h (hi := 2) (lo := 2) (by decide)
  have h3 : fd h 11 10 < 2 ^ 2 := fd_lt h (hi := 11) (lo := 10) (by decide)
  have h4 : fd h 4 3 < 2 ^ 2 := fd_lt h (hi := 4) (lo := 3) (by decide)
  have e : rdO h pl_branch (Int32.ofInt 0) = (((((nI 0 ||| (nI (fd h 12 12) <<< (nI 8 &&& 31))) ||| (nI (fd h 6 5) <<< (nI 6 &&& 31))) ||| (nI (fd h 2 2) <<< (nI 5 &&& 31))) ||| (nI (fd h 11 10) <<< (nI 3 &&& 31))) ||| (nI (fd h 4 3) <<< (nI 1 &&& 31))) := rfl
  rw [e]
  unfold vl_branch
  generalize fd h 12 12 = u0 at *
  generalize fd h 6 5 = u1 at *
  generalize fd h 2 2 = u2 at *
  generalize fd h 11 10 = u3 at *
  generalize fd h 4 3 = u4 at *
  rw [or_s (m := 1) (by decide) h0 (by decide) (by omega) (by omega)]
  rw [or_s (m := 2) (by decide) h1 (by decide) (by omega) (by omega)]
  rw [or_s (m := 1) (by decide) h2 (by decide) (by omega) (by omega)]
  rw [or_s (m := 2) (by decide) h3 (by decide) (by omega) (by omega)]
  rw [or_s (m := 2) (by decide) h4 (by decide) (by omega) (by omega)]
  rw [show 0 + u0 * 2 ^ 8 + u1 * 2 ^ 6 + u2 * 2 ^ 5 + u3 * 2 ^ 3 + u4 * 2 ^ 1 = 256 * u0 + 64 * u1 + 32 * u2 + 8 * u3 + 2 * u4 by omega]
  rw [sg_v (by decide) (by omega), show 2 ^ (8 + 1) * ((256 * u0 + 64 * u1 + 32 * u2 + 8 * u3 + 2 * u4) / 2 ^ 8) = 512 * u0 by omega]
