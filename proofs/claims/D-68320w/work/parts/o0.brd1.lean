/-! the board: which window has some bytes -/
set_option maxRecDepth 100000
def inW (p : Int64) (s k : Nat) : Prop := (winF (37 + k)).1 ≤ ul p ∧ ul p + s ≤ (winF (37 + k)).1 + (winF (37 + k)).2
/-- the first window that has them; 5 is none -/
noncomputable def wnF (p : Int64) (s : Nat) : Nat → Nat → Nat
  | _, 0 => 5
  | k, m + 1 => fi (inW p s k) k (wnF p s (k + 1) m)
noncomputable def wnX (p : Int64) (s : Nat) : Nat := wnF p s 0 5
/-- the window's code -/
def wcd (x : Nat) : Nat := if x = 5 then 0 else 37 + x
theorem wnF_in {p : Int64} {s : Nat} : ∀ m k, wnF p s k m = 5 ∨ (k ≤ wnF p s k m ∧ wnF p s k m < k + m ∧ inW p s (wnF p s k m))
  | 0, _ => Or.inl rfl
  | m + 1, k => by
    have e : wnF p s k (m + 1) = fi (inW p s k) k (wnF p s (k + 1) m) := rfl
    by_cases h : inW p s k
    · rw [e, fi_pos h]
      exact Or.inr ⟨Nat.le_refl _, by omega, h⟩
    · rw [e, fi_neg h]
      rcases wnF_in m (k + 1) with z | ⟨z1, z2, z3⟩
      · exact Or.inl z
      · exact Or.inr ⟨by omega, by omega, z3⟩
theorem wnX_in {p : Int64} {s : Nat} (h : wnX p s ≠ 5) : wnX p s < 5 ∧ inW p s (wnX p s) := by
  rcases wnF_in (p := p) (s := s) 5 0 with z | ⟨z1, z2, z3⟩
  · exact absurd z h
  · exact ⟨by show wnF p s 0 5 < 5; omega, z3⟩
/-- how the windows lie -/
def BdW (b : Nat) (M : FM) : Prop := fm_is M 11 11 b = true ∧ M.2.2 1 (M.2.2 21 b 0) 0 = 5 ∧ (∀ k, k < 5 → M.2.2 3 (M.2.2 21 b 0) k = 37 + k) ∧ WinC M
section Bw
variable {b s k : Nat} {M : FM} {p : Int64}
theorem winF_b (k : Nat) : (winF (37 + k)).1 + (winF (37 + k)).2 < 1073741824 ∧ 8 < (winF (37 + k)).2 := by
  unfold winF
  by_cases h1 : 37 + k = 37
  · rw [if_pos h1]; decide
  · rw [if_neg h1]
    by_cases h2 : 37 + k = 38
    · rw [if_pos h2]; decide
    · rw [if_neg h2]
      by_cases h3 : 37 + k = 39
      · rw [if_pos h3]; decide
      · rw [if_neg h3]
        by_cases h4 : 37 + k = 40
        · rw [if_pos h4]; decide
        · rw [if_neg h4]; decide
theorem X29_has (V : WinC M) (hk : k < 5) (hp : ul p < 4611686018427387904) (hs : s ≤ 8) : GX29_has (37 + k) p (nI s) M = (bz (inW p s k), M) := by
  obtain ⟨v1, v2⟩ := V (37 + k) (by omega) (by omega)
  obtain ⟨b1, b2⟩ := winF_b k
  unfold GX29_has GX29_has_0 GX29_has_30 GX29_has_31
  rw [v1, v2, o_64 (by omega), o_add (by omega) (by omega)]
  have e : ul (lN ((winF (37 + k)).1 + (winF (37 + k)).2) - lN s) = (winF (37 + k)).1 + (winF (37 + k)).2 - s := by
    rw [ul_sub, ul_o (by omega), ul_o (by omega)]
    omega
  have k1 : lg_cmp p (lN (winF (37 + k)).1) < 0 ↔ ul p < (winF (37 + k)).1 := by
    rw [cl_lt, tl, tl_o (by omega), if_pos (by omega)]
    omega
  have k2 : 0 < lg_cmp p (lN ((winF (37 + k)).1 + (winF (37 + k)).2) - lN s) ↔ (winF (37 + k)).1 + (winF (37 + k)).2 - s < ul p := by
    rw [cl_gt, tl, tl, e, if_pos (by omega), if_pos (by omega)]
    omega
  unfold inW
  by_cases c1 : ul p < (winF (37 + k)).1
  · rw [fi_pos (k1.mpr c1), bz_f (by omega)]
  · rw [fi_neg (fun z => c1 (k1.mp z))]
    by_cases c2 : (winF (37 + k)).1 + (winF (37 + k)).2 - s < ul p
    · rw [fi_pos (k2.mpr c2), bz_f (by omega)]
    · rw [fi_neg (fun z => c2 (k2.mp z)), bz_t (by omega)]
theorem fnd_L (T : Ty M) (V : BdW b M) (hp : ul p < 4611686018427387904) (hs : s ≤ 8) : ∀ m j k, k + m = 5 → m < j → FX10_find_L14 fN j p (nI s) (M.2.2 21 b 0) (nI 5) (nI k) M = some (wcd (wnF p s k m), M) := by
  have nw := tN_21 T.1 V.1
  intro m
  induction m with
  | zero =>
    intro j k hk hj
    obtain ⟨j, rfl⟩ : ∃ y, j = y + 1 := ⟨j - 1, by omega⟩
    have c1 : nI 5 ≤ nI k := (n_le (by omega) (by omega)).mpr (by omega)
    show FX10_find_14 fN (FX10_find_L14 fN j) p (nI s) (M.2.2 21 b 0) (nI 5) (nI k) M = _
    rw [(gX10_find_14 (FX10_find_L14 fN j) p (nI s) (M.2.2 21 b 0) (nI 5) (nI k) M T nw ⟨fun _ => trivial, fun z => absurd c1 z⟩).1]
    unfold GX10_find_14
    rw [fi_pos c1]
    rfl
  | succ m ih =>
    intro j k hk hj
    obtain ⟨j, rfl⟩ : ∃ y, j = y + 1 := ⟨j - 1, by omega⟩
    have c1 : ¬ nI 5 ≤ nI k := fun z => by
      have := (n_le (by omega) (by omega)).mp z
      omega
    have i1 : fm_in M (M.2.2 21 b 0) (nI k) = true := in_nI V.2.1 (by omega) (by decide)
    show FX10_find_14 fN (FX10_find_L14 fN j) p (nI s) (M.2.2 21 b 0) (nI 5) (nI k) M = _
    rw [(gX10_find_14 (FX10_find_L14 fN j) p (nI s) (M.2.2 21 b 0) (nI 5) (nI k) M T nw ⟨fun z => absurd z c1, fun _ => ⟨i1, trivial⟩⟩).1]
    unfold GX10_find_14
    dsimp only
    rw [fi_neg c1, o_cl (by omega), V.2.2.1 k (by omega), X29_has V.2.2.2 (by omega) hp hs]
    dsimp only
    rw [fi_bz, show nI k + Int32.ofInt 1 = nI (k + 1) from nI_a (n := 1)]
    show kX10_find _ _ = some (wcd (fi (inW p s k) k (wnF p s (k + 1) m)), M)
    by_cases h : inW p s k
    · rw [fi_pos h, fi_pos h]
      show some (37 + k, M) = some (wcd k, M)
      unfold wcd
      rw [if_neg (by omega)]
    · rw [fi_neg h, fi_neg h]
      exact ih j (k + 1) (by omega) (by omega)
theorem X10_find (T : Ty M) (V : BdW b M) (hp : ul p < 4611686018427387904) (hs : s ≤ 8) : HX10_find b p (nI s) M ∧ GX10_find b p (nI s) M = (wcd (wnX p s), M) := by
  have Ax : FX10_find fN b p (nI s) M = some (wcd (wnX p s), M) := by
    show FX10_find_0 fN (FX10_find_L14 fN fN) b p (nI s) M = _
    rw [(gX10_find_0 (FX10_find_L14 fN fN) b p (nI s) M T V.1).1]
    unfold GX10_find_0
    dsimp only
    rw [V.2.1]
    exact fnd_L T V hp hs 5 fN 0 (by omega) (by unfold fN; omega)
  refine op_of (d := (0, M)) Ax (P := OkQ 6 6 M) ⟨T, ext_r M, fun h => ?_⟩
  show fm_is M 6 6 (wcd (wnX p s)) = true
  have hw : wnX p s ≠ 5 := fun z => h (by show wcd (wnX p s) = 0; rw [z]; rfl)
  obtain ⟨w1, w2⟩ := wnX_in hw
  unfold wcd
  rw [if_neg hw, ← V.2.2.1 _ w1, ← o_cl (n := wnX p s) (by omega)]
  exact tE_928 (i := nI (wnX p s)) T.1 (tN_21 T.1 V.1) (in_nI V.2.1 w1 (by decide))
theorem X92_baseOf (hk : k < 5) : GX92_baseOf (nI k) M = (lN (winF (37 + k)).1, M) := by
  unfold GX92_baseOf GX92_baseOf_0 GX92_baseOf_46
  have e : k = 0 ∨ k = 1 ∨ k = 2 ∨ k = 3 ∨ k = 4 := by omega
  rcases e with rfl | rfl | rfl | rfl | rfl
  · rw [fi_pos (show nI 0 = 0 from rfl)]
    rfl
  · rw [fi_neg (by decide), fi_pos (show nI 1 = Int32.ofInt 1 from rfl)]
    rfl
  · rw [fi_neg (by decide), fi_neg (by decide), fi_pos (show nI 2 = Int32.ofInt 2 from rfl)]
    rfl
  · rw [fi_neg (by decide), fi_neg (by decide), fi_neg (by decide), fi_pos (show nI 3 = Int32.ofInt 3 from rfl)]
    rfl
  · rw [fi_neg (by decide), fi_neg (by decide), fi_neg (by decide), fi_neg (by decide)]
    rfl
/-- what the twin says: -1 is none -/
def wtw (x : Nat) : Int32 := if x = 5 then Int32.ofInt (-1) else nI x
theorem wt_1 (hk : k < 5) (hp : ul p < 4611686018427387904) (hs : s ≤ 8) : GX92_windowOf_2 p (nI s) (nI k) M = fi (inW p s k) (.inr (nI k, M)) (.inl (p, nI s, nI (k + 1), M)) := by
  obtain ⟨b1, b2⟩ := winF_b k
  have c1 : ¬ Int32.ofInt 5 ≤ nI k := fun z => by
    have := (n_le (a := 5) (b := k) (by omega) (by omega)).mp z
    omega
  have k1 : lg_cmp p (lN (winF (37 + k)).1) < 0 ↔ ul p < (winF (37 + k)).1 := by
    rw [cl_lt, tl, tl_o (by omega), if_pos (by omega)]
    omega
  have ua : ul (p + lN s) = ul p + s := by
    rw [ul_add, ul_o (by omega)]
    omega
  have K : ∀ z, lN (winF (37 + k)).2 = z → GX92_windowOf_64 p (nI s) (nI k) (p + lN s) (lN (winF (37 + k)).1) z M = fi (0 < lg_cmp (p + lN s) (lN ((winF (37 + k)).1 + (winF (37 + k)).2))) (.inl (p, nI s, nI (k + 1), M)) (.inr (nI k, M)) := by
    intro z hz
    rw [← hz]
    unfold GX92_windowOf_64 GX92_windowOf_71
    rw [o_add (by omega) (by omega), show nI k + Int32.ofInt 1 = nI (k + 1) from nI_a (n := 1)]
  have k2 : 0 < lg_cmp (p + lN s) (lN ((winF (37 + k)).1 + (winF (37 + k)).2)) ↔ (winF (37 + k)).1 + (winF (37 + k)).2 < ul p + s := by
    rw [cl_gt, tl (p + lN s), tl_o (by omega), ua, if_pos (by omega)]
    omega
  have fin : GX92_windowOf_2 p (nI s) (nI k) M = fi (lg_cmp p (lN (winF (37 + k)).1) < 0) (.inl (p, nI s, nI (k + 1), M)) (fi (0 < lg_cmp (p + lN s) (lN ((winF (37 + k)).1 + (winF (37 + k)).2))) (.inl (p, nI s, nI (k + 1), M)) (.inr (nI k, M))) := by
    unfold GX92_windowOf_2
    dsimp only
    rw [fi_neg c1, X92_baseOf hk]
    dsimp only
    rw [X92_baseOf hk]
    dsimp only
    rw [o_64 (by omega)]
    unfold GX92_windowOf_33
    have e : k = 0 ∨ k = 1 ∨ k = 2 ∨ k = 3 ∨ k = 4 := by omega
    by_cases c : lg_cmp p (lN (winF (37 + k)).1) < 0
    · rw [fi_pos c, fi_pos c]
      unfold GX92_windowOf_71
      rw [show nI k + Int32.ofInt 1 = nI (k + 1) from nI_a (n := 1)]
    · rw [fi_neg c, fi_neg c]
      rcases e with rfl | rfl | rfl | rfl | rfl
      · rw [fi_pos (show nI 0 = 0 from rfl)]
        exact K _ rfl
      · rw [fi_neg (by decide), fi_neg (by decide), fi_pos (show nI 1 = Int32.ofInt 1 from rfl)]
        exact K _ rfl
      · rw [fi_neg (by decide), fi_neg (by decide), fi_neg (by decide), fi_pos (show nI 2 = Int32.ofInt 2 from rfl)]
        exact K _ rfl
      · rw [fi_neg (by decide), fi_neg (by decide), fi_neg (by decide), fi_neg (by decide)]
        exact K _ rfl
      · rw [fi_neg (by decide), fi_pos (show nI 4 = Int32.ofInt 4 from rfl)]
        exact K _ rfl
  rw [fin]
  unfold inW
  by_cases h1 : ul p < (winF (37 + k)).1
  · rw [fi_pos (k1.mpr h1), fi_neg (by omega)]
  · rw [fi_neg (fun z => h1 (k1.mp z))]
    by_cases h2 : (winF (37 + k)).1 + (winF (37 + k)).2 < ul p + s
    · rw [fi_pos (k2.mpr h2), fi_neg (by omega)]
    · rw [fi_neg (fun z => h2 (k2.mp z)), fi_pos (by omega)]
theorem wt_L (T : Ty M) (hp : ul p < 4611686018427387904) (hs : s ≤ 8) : ∀ m j k, k + m = 5 → m < j → FX92_windowOf_L2 fN j p (nI s) (nI k) M = some (wtw (wnF p s k m), M) := by
  intro m
  induction m with
  | zero =>
    intro j k hk hj
    obtain ⟨j, rfl⟩ : ∃ y, j = y + 1 := ⟨j - 1, by omega⟩
    have c1 : Int32.ofInt 5 ≤ nI k := (n_le (a := 5) (b := k) (by omega) (by omega)).mpr (by omega)
    show FX92_windowOf_2 fN (FX92_windowOf_L2 fN j) p (nI s) (nI k) M = _
    rw [(gX92_windowOf_2 (FX92_windowOf_L2 fN j) p (nI s) (nI k) M T).1]
    unfold GX92_windowOf_2
    rw [fi_pos c1]
    rfl
  | succ m ih =>
    intro j k hk hj
    obtain ⟨j, rfl⟩ : ∃ y, j = y + 1 := ⟨j - 1, by omega⟩
    show FX92_windowOf_2 fN (FX92_windowOf_L2 fN j) p (nI s) (nI k) M = _
    rw [(gX92_windowOf_2 (FX92_windowOf_L2 fN j) p (nI s) (nI k) M T).1, wt_1 (by omega) hp hs]
    show kX92_windowOf _ _ = some (wtw (fi (inW p s k) k (wnF p s (k + 1) m)), M)
    by_cases h : inW p s k
    · rw [fi_pos h, fi_pos h]
      show some (nI k, M) = some (wtw k, M)
      unfold wtw
      rw [if_neg (by omega)]
    · rw [fi_neg h, fi_neg h]
      exact ih j (k + 1) (by omega) (by omega)
theorem X92_windowOf (T : Ty M) (hp : ul p < 4611686018427387904) (hs : s ≤ 8) : HX92_windowOf p (nI s) M ∧ GX92_windowOf p (nI s) M = (wtw (wnX p s), M) := by
  have Ax : FX92_windowOf fN p (nI s) M = some (wtw (wnX p s), M) := by
    show FX92_windowOf_0 fN (FX92_windowOf_L2 fN fN) p (nI s) M = _
    rw [(gX92_windowOf_0 (FX92_windowOf_L2 fN fN) p (nI s) M T).1]
    exact wt_L T hp hs 5 fN 0 (by omega) (by unfold fN; omega)
  exact op_of (d := ((0 : Int32), M)) Ax (P := OkR M) ⟨T, ext_r M⟩
end Bw
