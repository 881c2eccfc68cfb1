/-! images: the tape, numbers on it -/
set_option maxRecDepth 100000
/-- the component's tape: its bytes, how many count -/
def TpR (r : Nat) (M : FM) (X : Nat → Nat) (n : Nat) : Prop := fm_is M 86 86 r = true ∧ M.2.2 1 (M.2.2 261 r 0) 0 = 65536 ∧ M.1 262 r 0 = nI n ∧ ∀ k, k < 65536 → M.1 3 (M.2.2 261 r 0) k = sb8 (X k)
/-- the twin's -/
def TpT (m : Nat) (M : FM) (X : Nat → Nat) (n : Nat) : Prop := fm_is M 92 92 m = true ∧ M.1 309 m 0 = nI n ∧ ∀ k, k < 65536 → M.1 3 (M.2.2 308 m 0) k = nI (X k)
def TpX (X : Nat → Nat) (n : Nat) : Prop := (∀ k, X k < 256) ∧ n ≤ 65536
/-- the number of so many bytes at a place -/
def nmV (X : Nat → Nat) : Nat → Nat → Nat
  | _, 0 => 0
  | a, m + 1 => X a + 256 * nmV X (a + 1) m
theorem nmV_s {X : Nat → Nat} {a m : Nat} : nmV X a (m + 1) = X a + 256 * nmV X (a + 1) m := rfl
theorem nmV_lt {X : Nat → Nat} (h : ∀ k, X k < 256) : ∀ m a, nmV X a m < 256 ^ m
  | 0, _ => by show 0 < 1; omega
  | m + 1, a => by
    have h1 := nmV_lt h m (a + 1)
    have h2 := h a
    rw [nmV_s, Nat.pow_succ]
    omega
theorem nm_2 {X : Nat → Nat} (h : ∀ k, X k < 256) (a : Nat) : nmV X a 2 < 65536 := nmV_lt h 2 a
theorem nm_4 {X : Nat → Nat} (h : ∀ k, X k < 256) (a : Nat) : nmV X a 4 < 4294967296 := nmV_lt h 4 a
theorem nm_8 {X : Nat → Nat} (h : ∀ k, X k < 256) (a : Nat) : nmV X a 8 < 18446744073709551616 := nmV_lt h 8 a
theorem nm_st {v x : Nat} (hx : x < 256) : ((lN v <<< ((Int32.ofInt 8).toInt64 &&& 63)) ||| (nI x).toInt64) = lN (x + 256 * v) := by
  rw [sh_8 _ (by rw [ui_nI]; omega)]
  apply ul_inj
  rw [ul_add, ul_mul, ul_sext, ui_nI, ul_lN, ul_lN, if_pos (by omega), show ul (Int64.ofInt 256) = 256 from rfl]
  omega
section Nr
variable {r l m n : Nat} {M : FM} {X : Nat → Nat}
theorem tp_get (V : TpR r M X n) (hX : ∀ k, X k < 256) {k : Nat} (hk : k < 65536) : HX3_get r (nI k) M ∧ GX3_get r (nI k) M = (nI (X k), M) := by
  unfold HX3_get HX3_get_0 GX3_get GX3_get_0
  dsimp only
  rw [o_cl (by omega), V.2.2.2 k hk, sb8_and (hX k)]
  exact ⟨⟨in_nI V.2.1 hk (by decide), trivial⟩, rfl⟩
theorem X90_number_L (T : Ty M) (nl : fm_is M 66 66 l = true) (V : TpR (M.2.2 186 l 0) M X n) (hX : ∀ k, X k < 256) {a : Nat} {a1 : Int64} (ea : a1.toInt32 = nI a) : ∀ i j t, i < j → a + i + t ≤ 65536 → FX90_number_L8 fN j l a1 (lN (nmV X (a + i) t)) (nI i + Int32.ofInt (-1)) M = some (lN (nmV X a (i + t)), M) := by
  intro i
  induction i with
  | zero =>
    intro j t hj ht
    obtain ⟨j, rfl⟩ : ∃ y, j = y + 1 := ⟨j - 1, by omega⟩
    have c1 : nI 0 + Int32.ofInt (-1) < 0 := by decide
    show FX90_number_8 fN (FX90_number_L8 fN j) l a1 _ (nI 0 + Int32.ofInt (-1)) M = _
    rw [(gX90_number_8 (FX90_number_L8 fN j) l a1 _ (nI 0 + Int32.ofInt (-1)) M T nl ⟨fun _ => trivial, fun z => absurd c1 z⟩).1]
    unfold GX90_number_8
    rw [fi_pos c1, Nat.zero_add]
    rfl
  | succ i ih =>
    intro j t hj ht
    obtain ⟨j, rfl⟩ : ∃ y, j = y + 1 := ⟨j - 1, by omega⟩
    have e1 : nI (i + 1) + Int32.ofInt (-1) = nI i := by
      rw [← nI_a (n := 1), Int32.add_assoc, show nI 1 + Int32.ofInt (-1) = 0 from rfl, Int32.add_zero]
    have c1 : ¬ nI i < 0 := fun z => by
      have := (n_lt (a := i) (b := 0) (by omega) (by omega)).mp z
      omega
    obtain ⟨p1, p2⟩ := tp_get V hX (k := a + i) (by omega)
    rw [e1]
    show FX90_number_8 fN (FX90_number_L8 fN j) l a1 _ (nI i) M = _
    have H : HX90_number_8 l a1 (lN (nmV X (a + (i + 1)) t)) (nI i) M := by
      unfold HX90_number_8
      rw [ea, nI_a]
      exact ⟨fun z => absurd z c1, fun _ => ⟨p1, trivial⟩⟩
    rw [(gX90_number_8 (FX90_number_L8 fN j) l a1 _ (nI i) M T nl H).1]
    unfold GX90_number_8
    dsimp only
    rw [fi_neg c1, ea, nI_a, p2]
    dsimp only
    rw [nm_st (hX _)]
    have g := ih j (t + 1) (by omega) (by omega)
    rw [nmV_s] at g
    rw [show i + 1 + t = i + (t + 1) by omega]
    exact g
theorem X90_number (T : Ty M) (nl : fm_is M 66 66 l = true) (V : TpR (M.2.2 186 l 0) M X n) (hX : ∀ k, X k < 256) {a s : Nat} {a1 : Int64} (ea : a1.toInt32 = nI a) (hs : s ≤ 8) (ha : a + s ≤ 65536) : HX90_number l a1 (nI s) M ∧ GX90_number l a1 (nI s) M = (lN (nmV X a s), M) := by
  have g := X90_number_L T nl V hX ea s fN 0 (by unfold fN; omega) (by omega)
  have Ax : FX90_number fN l a1 (nI s) M = some (lN (nmV X a s), M) := by
    show FX90_number_0 fN (FX90_number_L8 fN fN) l a1 (nI s) M = _
    rw [(gX90_number_0 (FX90_number_L8 fN fN) l a1 (nI s) M T).1]
    unfold GX90_number_0
    dsimp only
    rw [i_m1]
    exact g
  exact op_of (d := ((0 : Int64), M)) Ax (P := OkR M) ⟨T, ext_r M⟩
theorem X92_number_L (T : Ty M) (V : TpT m M X n) (hX : ∀ k, X k < 256) {a : Nat} : ∀ i j t, i < j → a + i + t ≤ 65536 → FX92_number_L7 fN j m (nI a) (lN (nmV X (a + i) t)) (nI i + Int32.ofInt (-1)) M = some (lN (nmV X a (i + t)), M) := by
  intro i
  induction i with
  | zero =>
    intro j t hj ht
    obtain ⟨j, rfl⟩ : ∃ y, j = y + 1 := ⟨j - 1, by omega⟩
    have c1 : nI 0 + Int32.ofInt (-1) < 0 := by decide
    show FX92_number_7 fN (FX92_number_L7 fN j) m (nI a) _ (nI 0 + Int32.ofInt (-1)) M = _
    rw [(gX92_number_7 (FX92_number_L7 fN j) m (nI a) _ (nI 0 + Int32.ofInt (-1)) M T V.1 ⟨fun _ => trivial, fun z => absurd c1 z⟩).1]
    unfold GX92_number_7
    rw [fi_pos c1, Nat.zero_add]
    rfl
  | succ i ih =>
    intro j t hj ht
    obtain ⟨j, rfl⟩ : ∃ y, j = y + 1 := ⟨j - 1, by omega⟩
    have e1 : nI (i + 1) + Int32.ofInt (-1) = nI i := by
      rw [← nI_a (n := 1), Int32.add_assoc, show nI 1 + Int32.ofInt (-1) = 0 from rfl, Int32.add_zero]
    have c1 : ¬ nI i < 0 := fun z => by
      have := (n_lt (a := i) (b := 0) (by omega) (by omega)).mp z
      omega
    have i1 : fm_in M (M.2.2 308 m 0) (nI (a + i)) = true := in_nI (tL_308 T.1 V.1) (by omega) (by decide)
    rw [e1]
    show FX92_number_7 fN (FX92_number_L7 fN j) m (nI a) _ (nI i) M = _
    have H : HX92_number_7 m (nI a) (lN (nmV X (a + (i + 1)) t)) (nI i) M := by
      unfold HX92_number_7
      rw [nI_a]
      exact ⟨fun z => absurd z c1, fun _ => ⟨i1, trivial⟩⟩
    rw [(gX92_number_7 (FX92_number_L7 fN j) m (nI a) _ (nI i) M T V.1 H).1]
    unfold GX92_number_7
    dsimp only
    rw [fi_neg c1, nI_a, o_cl (by omega), V.2.2 (a + i) (by omega), nm_st (hX _)]
    have g := ih j (t + 1) (by omega) (by omega)
    rw [nmV_s] at g
    rw [show i + 1 + t = i + (t + 1) by omega]
    exact g
theorem X92_number (T : Ty M) (V : TpT m M X n) (hX : ∀ k, X k < 256) {a s : Nat} (hs : s ≤ 8) (ha : a + s ≤ 65536) : HX92_number m (nI a) (nI s) M ∧ GX92_number m (nI a) (nI s) M = (lN (nmV X a s), M) := by
  have g := X92_number_L T V hX (a := a) s fN 0 (by unfold fN; omega) (by omega)
  have Ax : FX92_number fN m (nI a) (nI s) M = some (lN (nmV X a s), M) := by
    show FX92_number_0 fN (FX92_number_L7 fN fN) m (nI a) (nI s) M = _
    rw [(gX92_number_0 (FX92_number_L7 fN fN) m (nI a) (nI s) M T).1]
    unfold GX92_number_0
    dsimp only
    rw [i_m1]
    exact g
  exact op_of (d := ((0 : Int64), M)) Ax (P := OkR M) ⟨T, ext_r M⟩
/-- a + b is not beyond n -/
def fitP (a b n : Nat) : Prop := a + b ≤ n
theorem X90_fits {a b : Nat} (hn : n ≤ 65536) (ha : a < 18446744073709551616) (hb : b < 18446744073709551616) : GX90_fits (lN a) (lN b) ((nI n).toInt64) M = (bz (fitP a b n), M) := by
  have e1 : ul (lN a) = a := lN_m a ha
  have e2 : ul (lN b) = b := lN_m b hb
  have e3 : ul ((nI n).toInt64) = n := by rw [ul_sext, ui_nI, if_pos (by omega)]; omega
  have k1 : lg_cmp (lN a) (Int64.ofInt 0) < 0 ↔ 9223372036854775808 ≤ a := by
    rw [cl_lt, tl, e1, show (Int64.ofInt 0).toInt = 0 from rfl]
    split <;> omega
  have k2 : lg_cmp (lN b) (Int64.ofInt 0) < 0 ↔ 9223372036854775808 ≤ b := by
    rw [cl_lt, tl, e2, show (Int64.ofInt 0).toInt = 0 from rfl]
    split <;> omega
  unfold GX90_fits GX90_fits_0 GX90_fits_32 GX90_fits_33 fitP
  by_cases c1 : lg_cmp (lN a) (Int64.ofInt 0) < 0
  · rw [fi_pos c1, bz_f (by have := k1.mp c1; omega)]
  · rw [fi_neg c1]
    have a1 : ¬ 9223372036854775808 ≤ a := fun z => c1 (k1.mpr z)
    have k3 : 0 < lg_cmp (lN a) ((nI n).toInt64) ↔ n < a := by
      rw [cl_gt, tl, tl, e1, e3, if_pos (by omega), if_pos (by omega)]
      omega
    by_cases c2 : 0 < lg_cmp (lN a) ((nI n).toInt64)
    · rw [fi_pos c2, bz_f (by have := k3.mp c2; omega)]
    · rw [fi_neg c2]
      have a2 : ¬ n < a := fun z => c2 (k3.mpr z)
      by_cases c3 : lg_cmp (lN b) (Int64.ofInt 0) < 0
      · rw [fi_pos c3, bz_f (by have := k2.mp c3; omega)]
      · rw [fi_neg c3]
        have a3 : ¬ 9223372036854775808 ≤ b := fun z => c3 (k2.mpr z)
        have e4 : ul ((nI n).toInt64 - lN a) = n - a := by
          rw [ul_sub, e1, e3]
          omega
        have k4 : 0 < lg_cmp (lN b) ((nI n).toInt64 - lN a) ↔ n - a < b := by
          rw [cl_gt, tl, tl, e2, e4, if_pos (by omega), if_pos (by omega)]
          omega
        by_cases c4 : 0 < lg_cmp (lN b) ((nI n).toInt64 - lN a)
        · rw [fi_pos c4, bz_f (by have := k4.mp c4; omega)]
        · rw [fi_neg c4, bz_t (by have : ¬ n - a < b := fun z => c4 (k4.mpr z); omega)]
theorem X92_isOnTape {a b : Nat} (V : TpT m M X n) (hn : n ≤ 65536) (ha : a < 18446744073709551616) (hb : b < 18446744073709551616) : GX92_isOnTape m (lN a) (lN b) M = (bz (fitP a b n), M) := by
  have h := X90_fits (M := M) hn ha hb
  have v2 := V.2.1
  unfold GX92_isOnTape GX92_isOnTape_0 GX92_isOnTape_38 GX92_isOnTape_39
  rw [v2, ← h]
  unfold GX90_fits GX90_fits_0 GX90_fits_32 GX90_fits_33
  by_cases c1 : lg_cmp (lN a) (Int64.ofInt 0) < 0
  · rw [fi_pos c1, fi_pos c1]
  · rw [fi_neg c1, fi_neg c1]
    by_cases c3 : lg_cmp (lN b) (Int64.ofInt 0) < 0
    · rw [fi_pos c3, fi_pos c3]
      by_cases c2 : 0 < lg_cmp (lN a) ((nI n).toInt64)
      · rw [fi_pos c2]
      · rw [fi_neg c2]
    · rw [fi_neg c3, fi_neg c3]
/-- a is above b, without sign -/
theorem X92_isAbove {a b : Nat} (ha : a < 18446744073709551616) (hb : b < 18446744073709551616) : GX92_isAbove (lN a) (lN b) M = (bz (b < a), M) := by
  have e1 : ul (lN a) = a := lN_m a ha
  have e2 : ul (lN b) = b := lN_m b hb
  have z0 : (Int64.ofInt 0).toInt = 0 := rfl
  have k1 : 0 ≤ lg_cmp (lN a) (Int64.ofInt 0) ↔ a < 9223372036854775808 := by
    rw [cl_ge, tl (lN a), e1, z0]
    split <;> omega
  have k2 : 0 ≤ lg_cmp (lN b) (Int64.ofInt 0) ↔ b < 9223372036854775808 := by
    rw [cl_ge, tl (lN b), e2, z0]
    split <;> omega
  have k3 : lg_cmp (lN a) (lN b) ≤ 0 ↔ (lN a).toInt ≤ (lN b).toInt := cl_le
  rw [tl, tl, e1, e2] at k3
  have q01 : ¬ Int32.ofInt 0 = Int32.ofInt 1 := by decide
  have q10 : ¬ Int32.ofInt 1 = Int32.ofInt 0 := by decide
  unfold GX92_isAbove GX92_isAbove_0 GX92_isAbove_11 GX92_isAbove_22 GX92_isAbove_50
  by_cases c1 : a < 9223372036854775808
  · rw [fi_pos (k1.mpr c1)]
    by_cases c2 : b < 9223372036854775808
    · rw [fi_pos (k2.mpr c2), fi_pos rfl]
      rw [if_pos c1, if_pos c2] at k3
      by_cases c3 : b < a
      · rw [fi_neg (fun z => by have := k3.mp z; omega), bz_t c3]
      · rw [fi_pos (k3.mpr (by omega)), bz_f c3]
    · rw [fi_neg (fun z => c2 (k2.mp z)), fi_neg q01, fi_pos (k1.mpr c1), bz_f (by omega)]
  · rw [fi_neg (fun z => c1 (k1.mp z))]
    by_cases c2 : b < 9223372036854775808
    · rw [fi_pos (k2.mpr c2), fi_neg q10, fi_neg (fun z => c1 (k1.mp z)), bz_t (by omega)]
    · rw [fi_neg (fun z => c2 (k2.mp z)), fi_pos rfl]
      rw [if_neg c1, if_neg c2] at k3
      by_cases c3 : b < a
      · rw [fi_neg (fun z => by have := k3.mp z; omega), bz_t c3]
      · rw [fi_pos (k3.mpr (by omega)), bz_f c3]
end Nr
