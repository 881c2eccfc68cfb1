/-! halves: where bits of an immediate lie, the component's reading -/
set_option maxRecDepth 100000
/-- the bits at their places: bit of the half, bit of the immediate, how many -/
noncomputable def rdO (h : Int32) : List (Nat × Nat × Nat) → Int32 → Int32
  | [], a => a
  | q :: r, a => rdO h r (a ||| (nI (fd h (q.1 + q.2.2 - 1) q.1) <<< (nI q.2.1 &&& 31)))
noncomputable def sgO (sg : Nat) (x : Int32) : Int32 := fi (sg = 0) x ((x <<< ((Int32.ofInt 31 - nI sg) &&& 31)) >>> ((Int32.ofInt 31 - nI sg) &&& 31))
/-- what stands in a layout -/
def LyS (y : Nat) (M : FM) (pl : List (Nat × Nat × Nat)) (sg : Nat) : Prop :=
  fm_is M 42 42 y = true ∧ M.2.2 1 (M.2.2 125 y 0) 0 = 3 * pl.length ∧ M.1 126 y 0 = nI sg ∧ sg < 32 ∧
  ∀ k, k < pl.length → M.1 3 (M.2.2 125 y 0) (3 * k) = nI (pl.getD k (0, 0, 0)).1 ∧ M.1 3 (M.2.2 125 y 0) (3 * k + 1) = nI (pl.getD k (0, 0, 0)).2.1 ∧ M.1 3 (M.2.2 125 y 0) (3 * k + 2) = nI (pl.getD k (0, 0, 0)).2.2 ∧
    1 ≤ (pl.getD k (0, 0, 0)).2.2 ∧ (pl.getD k (0, 0, 0)).1 + (pl.getD k (0, 0, 0)).2.2 ≤ 16
theorem rdO_app (h : Int32) (a b : List (Nat × Nat × Nat)) (x : Int32) : rdO h (a ++ b) x = rdO h b (rdO h a x) := by
  induction a generalizing x with
  | nil => rfl
  | cons q r ih => exact ih _
section Ly
variable {y sg : Nat} {M : FM} {pl : List (Nat × Nat × Nat)} {h : Int32}
theorem X35_read_L (T : Ty M) (L : LyS y M pl sg) (hl : pl.length < 100) : ∀ (d k j : Nat) (a : Int32), k + d = pl.length → d < j →
    FX35_read_L4 fN j y h a (nI (3 * k)) M = some (sgO sg (rdO h (pl.drop k) a), M) := by
  obtain ⟨n, l1, l2, l3, l4⟩ := L
  intro d
  induction d with
  | zero =>
    intro k j a hk hj
    obtain ⟨j, rfl⟩ : ∃ i, j = i + 1 := ⟨j - 1, by omega⟩
    have le : Int32.ofNat (M.2.2 1 (M.2.2 125 y 0) 0) ≤ nI (3 * k) := by
      rw [l1, show k = pl.length by omega]
      exact Int32.le_refl _
    show FX35_read_4 fN (FX35_read_L4 fN j) y h a (nI (3 * k)) M = _
    rw [(gX35_read_4 _ _ _ _ _ M T n ⟨fun _ => trivial, fun q => absurd le q⟩).1]
    unfold GX35_read_4 GX35_read_86 sgO
    dsimp only
    rw [fi_pos le, l2, show pl.drop k = [] from List.drop_eq_nil_of_le (by omega)]
    by_cases z : sg = 0
    · rw [fi_pos z, fi_pos (show nI sg = 0 by rw [z]; rfl)]
      rfl
    · rw [fi_neg z, fi_neg (show ¬ nI sg = 0 from fun q => z (nI_j (b := 0) (by omega) (by decide) q))]
      rfl
  | succ d ih =>
    intro k j a hk hj
    obtain ⟨j, rfl⟩ : ∃ i, j = i + 1 := ⟨j - 1, by omega⟩
    obtain ⟨x1, x2, x3, x4, x5⟩ := l4 k (by omega)
    have nle : ¬ Int32.ofNat (M.2.2 1 (M.2.2 125 y 0) 0) ≤ nI (3 * k) := fun q => by
      have u : ∀ {i : Nat}, i < 2147483648 → (nI i).toInt = i := fun {i} hi => by rw [ti, ui_nI, Nat.mod_eq_of_lt (by omega), if_pos hi]
      rw [l1, show Int32.ofNat (3 * pl.length) = nI (3 * pl.length) from rfl, le_ti, u (by omega), u (by omega)] at q
      omega
    have p1 : nI (3 * k) + Int32.ofInt 1 = nI (3 * k + 1) := up_1 (by omega)
    have p2 : nI (3 * k) + Int32.ofInt 2 = nI (3 * k + 2) := n_add (b := 2) (by omega) (by decide)
    have p3 : nI (3 * k) + Int32.ofInt 3 = nI (3 * (k + 1)) := n_add (b := 3) (by omega) (by decide)
    have ii : ∀ {i}, i < 3 * pl.length → fm_in M (M.2.2 125 y 0) (nI i) = true := fun hi => in_nI l1 hi (by omega)
    have hdr : pl.drop k = pl.getD k (0, 0, 0) :: pl.drop (k + 1) := by
      rw [List.drop_eq_getElem_cons (by omega : k < pl.length)]
      congr 1
      exact (List.getElem_eq_getD (0, 0, 0))
    generalize pl.getD k (0, 0, 0) = q at *
    obtain ⟨p, t, m⟩ := q
    dsimp only at x1 x2 x3 x4 x5
    have ub : ui (nI p + nI m - Int32.ofInt 1) = p + m - 1 := by
      rw [ui_sub, ui_add, ui_nI, ui_nI, show ui (Int32.ofInt 1) = 1 from rfl]
      omega
    have eb := X103_bits h (nI p + nI m - Int32.ofInt 1) (nI p) M (hi := p + m - 1) (lo := p) (by omega) (by omega) ub (by rw [ui_nI]; omega)
    have hH : HX35_read_4 y h a (nI (3 * k)) M := by
      refine ⟨fun q => absurd q nle, fun _ => ?_⟩
      dsimp only
      rw [p1, p2, o_cl (by omega), o_cl (by omega), x1, x3, eb]
      exact ⟨ii (by omega), ii (by omega), ii (by omega), ii (by omega), trivial⟩
    have eG := (gX35_read_4 (FX35_read_L4 fN j) y h a (nI (3 * k)) M T n hH).1
    unfold GX35_read_4 at eG
    rw [fi_neg nle] at eG
    dsimp only at eG
    rw [p1, p2, p3, o_cl (by omega), o_cl (by omega), o_cl (by omega), x1, x3, eb] at eG
    dsimp only at eG
    rw [x2] at eG
    refine eG.trans ((ih (k + 1) j _ (by omega) (by omega)).trans ?_)
    rw [hdr]
    rfl
theorem X35_read (T : Ty M) (L : LyS y M pl sg) (hl : pl.length < 100) (h : Int32) : HX35_read y h M ∧ GX35_read y h M = (sgO sg (rdO h pl (Int32.ofInt 0)), M) := by
  have e := X35_read_L (h := h) T L hl pl.length 0 fN (Int32.ofInt 0) (by omega) (by unfold fN; omega)
  have e0 : FX35_read fN y h M = some (sgO sg (rdO h pl (Int32.ofInt 0)), M) := by
    show FX35_read_0 fN (FX35_read_L4 fN fN) y h M = _
    rw [(gX35_read_0 _ _ _ M T).1]
    exact e
  exact op_of (P := OkR M) (d := (0, M)) e0 ⟨T, fun _ _ => ⟨rfl, rfl⟩⟩
end Ly
/-- or of what does not meet is the sum -/
theorem or_sN {a v t m : Nat} (h0 : a / 2 ^ t % 2 ^ m = 0) (hv : v < 2 ^ m) : a ||| v * 2 ^ t = a + v * 2 ^ t := by
  have p : 0 < 2 ^ t := Nat.two_pow_pos t
  have e1 : a / 2 ^ t = 2 ^ m * (a / 2 ^ t / 2 ^ m) := by
    have := Nat.div_add_mod (a / 2 ^ t) (2 ^ m)
    rw [h0] at this
    omega
  have e2 : a = 2 ^ t * (a / 2 ^ t) + a % 2 ^ t := (Nat.div_add_mod a (2 ^ t)).symm
  have d1 : (a ||| v * 2 ^ t) / 2 ^ t = a / 2 ^ t + v := by
    rw [Nat.or_div_two_pow, Nat.mul_div_cancel _ p, e1, ← Nat.two_pow_add_eq_or_of_lt hv, ← e1]
  have d2 : (a ||| v * 2 ^ t) % 2 ^ t = a % 2 ^ t := by
    rw [Nat.or_mod_two_pow, Nat.mul_mod_left, Nat.or_zero]
  have e3 := Nat.div_add_mod (a ||| v * 2 ^ t) (2 ^ t)
  rw [d1, d2, Nat.mul_add] at e3
  rw [← e3, Nat.mul_comm v (2 ^ t)]
  omega
theorem or_s {a v t m : Nat} (ht : t < 32) (hv : v < 2 ^ m) (hm : m + t ≤ 32) (ha : a < 4294967296) (h0 : a / 2 ^ t % 2 ^ m = 0) : nI a ||| (nI v <<< (nI t &&& 31)) = nI (a + v * 2 ^ t) := by
  have hv2 : v * 2 ^ t < 4294967296 := by
    have : v * 2 ^ t < 2 ^ m * 2 ^ t := Nat.mul_lt_mul_of_pos_right hv (Nat.two_pow_pos t)
    rw [← Nat.pow_add] at this
    exact Nat.lt_of_lt_of_le this (pow_le32 hm)
  have v32 : v < 4294967296 := Nat.lt_of_le_of_lt (Nat.le_mul_of_pos_right v (Nat.two_pow_pos t)) hv2
  apply ui_inj
  rw [ui_or, ui_shl, ui_nI, ui_nI, ui_nI, ui_nI, Nat.mod_eq_of_lt ha, Nat.mod_eq_of_lt v32, show t % 4294967296 % 32 = t by omega, Nat.mod_eq_of_lt hv2, or_sN h0 hv]
  have : (a ||| v * 2 ^ t) < 2 ^ 32 := Nat.or_lt_two_pow (show a < 2 ^ 32 from ha) (show v * 2 ^ t < 2 ^ 32 from hv2)
  rw [or_sN h0 hv] at this
  exact (Nat.mod_eq_of_lt this).symm
