/-! floats: the component's unit, what it shows; parts of a word -/
set_option maxRecDepth 100000
/-- a part of a word -/
def pt (w : Int32) (lo n : Nat) : Nat := ui w / 2 ^ lo % 2 ^ n
theorem pt_lt (w : Int32) (lo n : Nat) : pt w lo n < 2 ^ n := Nat.mod_lt _ (Nat.two_pow_pos n)
theorem pt_l (w : Int32) {a1 a2 : Int32} (lo n : Nat) (h1 : ui a1 % 32 = lo) (h2 : ui ((Int32.ofInt 1 <<< (a2 &&& 31)) - Int32.ofInt 1) = 2 ^ n - 1) (hn : n ≤ 31) :
    (w.toUInt32 >>> (a1.toUInt32 &&& Int32.toUInt32 31)).toInt32 &&& ((Int32.ofInt 1 <<< (a2 &&& 31)) - Int32.ofInt 1) = nI (pt w lo n) := by
  apply ui_inj
  have := pt_lt w lo n
  have p : 2 ^ n ≤ 2 ^ 31 := Nat.pow_le_pow_right (by decide) hn
  rw [ui_and, ui_ushr, h1, h2, Nat.and_two_pow_sub_one_eq_mod, ni_u (Nat.lt_of_lt_of_le this (Nat.le_trans p (by decide)))]
  rfl
section Pt
variable {w : Int32} {M : FM}
theorem p0 : GX59_part w (Int32.ofInt 0) (Int32.ofInt 7) M = (nI (pt w 0 7), M) := congrArg (fun x => (x, M)) (pt_l w 0 7 (by decide) (by decide) (by decide))
theorem p7 : GX59_part w (Int32.ofInt 7) (Int32.ofInt 5) M = (nI (pt w 7 5), M) := congrArg (fun x => (x, M)) (pt_l w 7 5 (by decide) (by decide) (by decide))
theorem p12 : GX59_part w (Int32.ofInt 12) (Int32.ofInt 3) M = (nI (pt w 12 3), M) := congrArg (fun x => (x, M)) (pt_l w 12 3 (by decide) (by decide) (by decide))
theorem p15 : GX59_part w (Int32.ofInt 15) (Int32.ofInt 5) M = (nI (pt w 15 5), M) := congrArg (fun x => (x, M)) (pt_l w 15 5 (by decide) (by decide) (by decide))
theorem p20 : GX59_part w (Int32.ofInt 20) (Int32.ofInt 5) M = (nI (pt w 20 5), M) := congrArg (fun x => (x, M)) (pt_l w 20 5 (by decide) (by decide) (by decide))
theorem p25 : GX59_part w (Int32.ofInt 25) (Int32.ofInt 2) M = (nI (pt w 25 2), M) := congrArg (fun x => (x, M)) (pt_l w 25 2 (by decide) (by decide) (by decide))
theorem p27 : GX59_part w (Int32.ofInt 27) (Int32.ofInt 5) M = (nI (pt w 27 5), M) := congrArg (fun x => (x, M)) (pt_l w 27 5 (by decide) (by decide) (by decide))
theorem d0 : GX99_field w (Int32.ofInt 0) (Int32.ofInt 7) M = (nI (pt w 0 7), M) := p0
theorem d7 : GX99_field w (Int32.ofInt 7) (Int32.ofInt 5) M = (nI (pt w 7 5), M) := p7
theorem d12 : GX99_field w (Int32.ofInt 12) (Int32.ofInt 3) M = (nI (pt w 12 3), M) := p12
theorem d15 : GX99_field w (Int32.ofInt 15) (Int32.ofInt 5) M = (nI (pt w 15 5), M) := p15
theorem d20 : GX99_field w (Int32.ofInt 20) (Int32.ofInt 5) M = (nI (pt w 20 5), M) := p20
theorem d25 : GX99_field w (Int32.ofInt 25) (Int32.ofInt 2) M = (nI (pt w 25 2), M) := p25
theorem d27 : GX99_field w (Int32.ofInt 27) (Int32.ofInt 5) M = (nI (pt w 27 5), M) := p27
end Pt
/-- registers, flags, mode, whether something was written, the value -/
abbrev Fs : Type := (Nat → Int64) × Int32 × Nat × Int32 × Int64
noncomputable def sFl (fl : Nat) (s : Fs) : Fs := (s.1, s.2.1 ||| nI fl, s.2.2.1, s.2.2.2.1 ||| bz (fl ≠ 0), s.2.2.2.2)
def sPut (d : Nat) (x : Int64) (s : Fs) : Fs := (fun i => if i = d then x else s.1 i, s.2.1, s.2.2.1, Int32.ofInt 1, s.2.2.2.2)
def sVal (x : Int64) (s : Fs) : Fs := (s.1, s.2.1, s.2.2.1, s.2.2.2.1, x)
/-- bits as they stand in a register -/
def bx (t : Nat) (b : Int64) : Int64 := if t = 1 then b else b ||| Int64.ofInt (-4294967296)
abbrev Fo : Type := Option (Nat × (Int64 ⊕ Int64))
noncomputable def fAp (t d : Nat) (o : Fo) (s : Fs) : Int32 × Fs := match o with
  | none => (Int32.ofInt (-1), s)
  | some (fl, .inl b) => (Int32.ofInt 0, sPut d (bx t b) (sFl fl s))
  | some (fl, .inr x) => (Int32.ofInt 1, sVal x (sFl fl s))
/-- the component's unit is well made -/
def FlU (u : Nat) (c : Nat → Nat) (rg : Nat) (M : FM) : Prop := FlC u c M ∧ Odf M ∧ (M.2.2 93 u 0 = rg ∧ M.2.2 1 rg 0 = 32) ∧ M.2.2 1 (M.2.2 98 u 0) 0 = 2 ∧
  (M.2.2 1 (M.2.2 99 u 0) 0 = 5 ∧ ∀ k, k < 5 → M.2.2 3 (M.2.2 99 u 0) k = 1 + k) ∧
  (M.2.2 1 (M.2.2 100 u 0) 0 = 4 ∧ ∀ k, k < 4 → M.2.2 3 (M.2.2 100 u 0) k = 11 + k ∧ M.1 11 (11 + k) 0 = Int32.ofInt (if k < 2 then 32 else 64) ∧ M.1 12 (11 + k) 0 = bz (k % 2 = 0)) ∧
  (M.2.2 1 (M.2.2 101 u 0) 0 = 4 ∧ (∀ k, k < 2 → fm_is M 38 38 (M.2.2 3 (M.2.2 101 u 0) k) = true ∧ M.1 113 (M.2.2 3 (M.2.2 101 u 0) k) 0 = bz (k = 1)) ∧
    fm_is M 34 34 (M.2.2 3 (M.2.2 101 u 0) 2) = true ∧ fm_is M 35 35 (M.2.2 3 (M.2.2 101 u 0) 3) = true) ∧
  fm_is M 34 34 (M.2.2 102 u 0) = true ∧ fm_is M 36 36 (M.2.2 103 u 0) = true ∧ fm_is M 37 37 (M.2.2 104 u 0) = true
def VFc (u : Nat) (c : Nat → Nat) (rg : Nat) (M : FM) (s : Fs) : Prop := (∀ i, i < 32 → M.2.1 3 rg i = s.1 i) ∧ M.1 91 (c 12) 0 = s.2.1 ∧ M.1 95 u 0 = nI s.2.2.1 ∧ (M.1 96 u 0 ||| M.1 92 (c 12) 0) = s.2.2.2.1 ∧ M.2.1 97 u 0 = s.2.2.2.2
/-- what a step of the unit may change -/
def FrU (u : Nat) (c : Nat → Nat) (rg : Nat) (M N : FM) : Prop := Ty N ∧
  (∀ g b i, ¬ (g = 114 ∧ ∃ k, k < 4 ∧ b = c k) → N.2.2 g b i = M.2.2 g b i) ∧
  (∀ g b i, ¬ ((g = 115 ∨ g = 116) ∧ ∃ k, k < 4 ∧ b = c k) → ¬ ((g = 91 ∨ g = 92) ∧ b = c 12) → ¬ ((g = 95 ∨ g = 96) ∧ b = u) → N.1 g b i = M.1 g b i) ∧
  (∀ g b i, ¬ (g = 118 ∧ ∃ k, k < 4 ∧ b = c k) → ¬ ((g = 119 ∨ g = 120) ∧ ∃ k, k < 10 ∧ b = c k) → ¬ (g = 3 ∧ b = rg) → ¬ (g = 97 ∧ b = u) → N.2.1 g b i = M.2.1 g b i)
section Un
variable {u rg k t fl d : Nat} {c : Nat → Nat} {S : Nat → Prop} {M N K : FM} {s : Fs}
theorem frU_t (h : FrU u c rg M N) (k : FrU u c rg N K) : FrU u c rg M K :=
  ⟨k.1, fun g b i q => (k.2.1 g b i q).trans (h.2.1 g b i q), fun g b i q r x => (k.2.2.1 g b i q r x).trans (h.2.2.1 g b i q r x), fun g b i q r x y => (k.2.2.2 g b i q r x y).trans (h.2.2.2 g b i q r x y)⟩
theorem frU_r (T : Ty M) : FrU u c rg M M := ⟨T, fun _ _ _ _ => rfl, fun _ _ _ _ _ _ => rfl, fun _ _ _ _ _ _ _ => rfl⟩
theorem frU_c (h : FrCF c S M N) : FrU u c rg M N :=
  ⟨h.1, fun g b i q => h.2.1 g b i (fun z => q ⟨z.1, z.2.elim fun k y => ⟨k, y.1, y.2.2⟩⟩),
   fun g b i q r _ => h.2.2.1 g b i (fun z => q ⟨z.1, z.2.elim fun k y => ⟨k, y.1, y.2.2⟩⟩) r,
   fun g b i q r _ _ => h.2.2.2 g b i (fun z => q ⟨z.1, z.2.elim fun k y => ⟨k, y.1, y.2.2⟩⟩)
     (fun z => r ⟨z.1, z.2.elim (fun y => y.elim fun k y => ⟨4 + k, by omega, y.2.2⟩) (fun y => y.elim (fun y => ⟨8, by omega, y⟩) (fun y => ⟨9, by omega, y⟩))⟩)⟩
theorem frU_is (h : FrU u c rg M N) {lo hi x : Nat} (n : fm_is M lo hi x = true) : fm_is N lo hi x = true := by
  unfold fm_is at *
  rw [h.2.1 0 x 0 (fun q => by omega)]
  exact n
theorem frU_ext (h : FrU u c rg M N) : Ext M N := fun x _ => ⟨h.2.1 0 x 0 (fun q => by omega), h.2.1 1 x 0 (fun q => by omega)⟩
/-- all of the unit's make stays -/
theorem flU_f (o : FlU u c rg M) (h : FrU u c rg M N) : FlU u c rg N := by
  obtain ⟨⟨a1, a2, a3, a4, a5, a6, a7⟩, b, ⟨e1, e2⟩, e3, ⟨f1, f2⟩, ⟨g1, g2⟩, ⟨i1, i2, i3, i4⟩, j1, j2, j3⟩ := o
  have r : ∀ g b i, g ≠ 114 → N.2.2 g b i = M.2.2 g b i := fun g b i q => h.2.1 g b i (fun z => q z.1)
  have n : ∀ g b i, g < 91 ∨ 97 ≤ g ∧ g < 115 → N.1 g b i = M.1 g b i := fun g b i q => h.2.2.1 g b i (fun z => by omega) (fun z => by omega) (fun z => by omega)
  refine ⟨⟨h.1, frU_is h a2, a3, fun k hk => ?_, fun t ht => ?_, ?_, frU_is h a7⟩, fun i hi => ?_, ⟨?_, ?_⟩, ?_, ⟨?_, fun k hk => ?_⟩, ⟨?_, fun k hk => ?_⟩, ⟨?_, fun k hk => ?_, ?_, ?_⟩, ?_, ?_, ?_⟩
  · obtain ⟨x1, x2, x3, x4⟩ := a4 k hk
    exact ⟨(r _ _ _ (by omega)).trans x1, (r _ _ _ (by omega)).trans x2, frU_is h x3, frU_is h x4⟩
  · obtain ⟨x1, x2, x3, x4, x5⟩ := a5 t ht
    refine ⟨?_, (r _ _ _ (by omega)).trans x2, ⟨(n _ _ _ (by omega)).trans x3.1, (n _ _ _ (by omega)).trans x3.2.1, (n _ _ _ (by omega)).trans x3.2.2⟩, frU_is h x4, frU_is h x5⟩
    rw [r 98 u 0 (by decide), r 3 _ _ (by decide)]
    exact x1
  · exact (r _ _ _ (by decide)).trans a6
  · exact ⟨(n _ _ _ (by omega)).trans (b i hi).1, (n _ _ _ (by omega)).trans (b i hi).2⟩
  · exact (r _ _ _ (by decide)).trans e1
  · exact (r _ _ _ (by decide)).trans e2
  · rw [r 98 u 0 (by decide), r 1 _ _ (by decide)]
    exact e3
  · rw [r 99 u 0 (by decide), r 1 _ _ (by decide)]
    exact f1
  · rw [r 99 u 0 (by decide), r 3 _ _ (by decide)]
    exact f2 k hk
  · rw [r 100 u 0 (by decide), r 1 _ _ (by decide)]
    exact g1
  · rw [r 100 u 0 (by decide), r 3 _ _ (by decide), n 11 _ _ (by omega), n 12 _ _ (by omega)]
    exact g2 k hk
  · rw [r 101 u 0 (by decide), r 1 _ _ (by decide)]
    exact i1
  · rw [r 101 u 0 (by decide), r 3 _ _ (by decide), n 113 _ _ (by omega)]
    exact ⟨frU_is h (i2 k hk).1, (i2 k hk).2⟩
  · rw [r 101 u 0 (by decide), r 3 _ _ (by decide)]
    exact frU_is h i3
  · rw [r 101 u 0 (by decide), r 3 _ _ (by decide)]
    exact frU_is h i4
  · rw [r 102 u 0 (by decide)]
    exact frU_is h j1
  · rw [r 103 u 0 (by decide)]
    exact frU_is h j2
  · rw [r 104 u 0 (by decide)]
    exact frU_is h j3
theorem flU_c (o : FlU u c rg M) (h : Cf c S fl M N) : FlU u c rg N := flU_f o (frU_c h.1)
theorem or_as2 (x y z : Int32) : x ||| (y ||| z) = (x ||| y) ||| z := (or_as x y z).symm
/-- the view after a step inside -/
theorem vFc_c (o : FlU u c rg M) (v : VFc u c rg M s) (h : Cf c S fl M N) : VFc u c rg N (sFl fl s) := by
  obtain ⟨v1, v2, v3, v4, v5⟩ := v
  refine ⟨fun i hi => ?_, ?_, ?_, ?_, ?_⟩
  · rw [h.1.2.2.2 3 rg i (fun z => by omega) (fun z => by omega)]
    exact v1 i hi
  · rw [h.2.1, v2]
    rfl
  · rw [h.1.2.2.1 95 u 0 (fun z => by omega) (fun z => by omega)]
    exact v3
  · rw [h.2.2, h.1.2.2.1 96 u 0 (fun z => by omega) (fun z => by omega), or_as2, v4]
    rfl
  · rw [h.1.2.2.2 97 u 0 (fun z => by omega) (fun z => by omega)]
    exact v5
theorem or_1z {x : Int32} (h : x = 0 ∨ x = 1) : Int32.ofInt 1 ||| x = Int32.ofInt 1 := by
  rcases h with e | e <;> rw [e] <;> decide
theorem z92 (o : FlU u c rg M) : M.1 92 (c 12) 0 = 0 ∨ M.1 92 (c 12) 0 = 1 := o.1.1.2.1 92 (by decide) _ _
/-- a register is written -/
theorem X59_w27 (o : FlU u c rg M) (v : VFc u c rg M s) (hd : d < 32) (x : Int64) : HX59_write_27 u rg (nI d) x M ∧ ∃ N, GX59_write_27 u rg (nI d) x M = (Int32.ofInt 0, N) ∧ FrU u c rg M N ∧ VFc u c rg N (sPut d x s) := by
  obtain ⟨v1, v2, v3, v4, v5⟩ := v
  have e : (nI d).toNatClampNeg = d := o_cl (by omega)
  refine ⟨⟨in_nI o.2.2.1.2 hd (by decide), trivial⟩, fm_sI (fm_sL M 3 rg d x) 96 u 0 (Int32.ofInt 1), ?_, ⟨⟨o.1.1.1, tyb_sIb (by rfl) o.1.1.2 (Or.inr rfl)⟩, fun _ _ _ _ => rfl, fun g b i _ _ q => oI (fun z => q ⟨Or.inr z.1, z.2.1⟩), fun g b i _ _ q _ => oL (fun z => q ⟨z.1, z.2.1⟩)⟩, fun i hi => ?_, ?_, ?_, ?_, ?_⟩
  · unfold GX59_write_27
    dsimp only
    rw [e]
  · show (if 3 = 3 ∧ rg = rg ∧ i = d then x else M.2.1 3 rg i) = if i = d then x else s.1 i
    by_cases q : i = d
    · rw [if_pos ⟨rfl, rfl, q⟩, if_pos q]
    · rw [if_neg (fun z => q z.2.2), if_neg q]
      exact v1 i hi
  · exact (oI (fun z => by omega)).trans v2
  · exact (oI (fun z => by omega)).trans v3
  · rw [sI_at]
    show Int32.ofInt 1 ||| (fm_sI (fm_sL M 3 rg d x) 96 u 0 (Int32.ofInt 1)).1 92 (c 12) 0 = Int32.ofInt 1
    rw [oI (fun z => by omega)]
    exact or_1z (z92 o)
  · exact (oL (M := M) (fun z => by omega)).trans v5
theorem X59_give (o : FlU u c rg M) (v : VFc u c rg M s) (x : Int64) : ∃ N, GX59_give u x M = (Int32.ofInt 1, N) ∧ FrU u c rg M N ∧ VFc u c rg N (sVal x s) := by
  obtain ⟨v1, v2, v3, v4, v5⟩ := v
  exact ⟨fm_sL M 97 u 0 x, rfl, ⟨ty_eq rfl rfl o.1.1, fun _ _ _ _ => rfl, fun _ _ _ _ _ _ => rfl, fun g b i _ _ _ q => oL (fun z => q ⟨z.1, z.2.1⟩)⟩,
    fun i hi => (oL (fun z => by omega)).trans (v1 i hi), v2, v3, v4, sL_at _ _ _ _ _⟩
theorem dbl (o : FlU u c rg M) (ht : t ≤ 1) : GX59_isDouble (c (10 + t)) M = (bz (t = 1), M) := by
  have f := (o.1.2.2.2.2.1 t (by omega)).2.2.1.2.2
  unfold GX59_isDouble GX59_isDouble_0 GX59_isDouble_14
  rw [f]
  rcases (show t = 0 ∨ t = 1 by omega) with e | e <;> subst e
  · rw [fi_neg (show ¬ Int32.ofInt ((fS 0 : Nat) : Int) = Int32.ofInt 63 by decide), bz_f (by decide)]
  · rw [fi_pos (show Int32.ofInt ((fS 1 : Nat) : Int) = Int32.ofInt 63 by decide), bz_t (by decide)]
/-- bits are written into the register that a word names -/
theorem X59_write (o : FlU u c rg M) (v : VFc u c rg M s) (ht : t ≤ 1) (w : Int32) (b : Int64) : HX59_write u w (c (10 + t)) b M ∧ ∃ N, GX59_write u w (c (10 + t)) b M = (Int32.ofInt 0, N) ∧ FrU u c rg M N ∧ VFc u c rg N (sPut (pt w 7 5) (bx t b) s) := by
  have hd : pt w 7 5 < 32 := pt_lt w 7 5
  unfold HX59_write HX59_write_0 GX59_write GX59_write_0
  dsimp only
  rw [p7]
  dsimp only
  rw [dbl o ht, o.2.2.1.1]
  dsimp only
  rw [fi_bz]
  unfold bx
  rcases (show t = 0 ∨ t = 1 by omega) with e | e <;> subst e
  · obtain ⟨h, r⟩ := X59_w27 o v hd (b ||| Int64.ofInt (-4294967296))
    rw [fi_neg (by decide), bz_f (by decide), if_neg (by decide)]
    exact ⟨⟨fun _ => h, fun y => absurd rfl y⟩, r⟩
  · obtain ⟨h, r⟩ := X59_w27 o v hd b
    rw [fi_pos rfl, bz_t rfl, if_pos rfl]
    exact ⟨⟨fun y => absurd y (by decide), fun _ => h⟩, r⟩
theorem box_m (v : Int64) : lg_cmp (v &&& Int64.ofInt (-4294967296)) (Int64.ofInt (-4294967296)) = 0 ↔ ul v / 4294967296 = 4294967295 := by
  rw [cl_eq]
  have h := ul_lt v
  have e : ul (v &&& Int64.ofInt (-4294967296)) = ul v / 4294967296 * 4294967296 := by
    rw [ul_and, show ul (Int64.ofInt (-4294967296)) = (2 ^ 32 - 1) <<< 32 by decide]
    have e1 : ul v = (ul v / 2 ^ 32) <<< 32 ||| ul v % 2 ^ 32 := by
      rw [← Nat.shiftLeft_add_eq_or_of_lt (Nat.mod_lt _ (by decide)), Nat.shiftLeft_eq]
      omega
    rw [e1, Nat.and_or_distrib_right, ← Nat.shiftLeft_and_distrib, Nat.and_two_pow_sub_one_eq_mod]
    have e2 : ul v % 2 ^ 32 &&& (2 ^ 32 - 1) <<< 32 = 0 := by
      apply Nat.eq_of_testBit_eq
      intro i
      rw [Nat.testBit_and, Nat.testBit_mod_two_pow, Nat.testBit_shiftLeft, Nat.zero_testBit]
      by_cases q : i < 32
      · have : ¬ 32 ≤ i := by omega
        simp [this]
      · simp [q]
    rw [e2, Nat.or_zero, Nat.shiftLeft_eq]
    omega
  rw [e, show ul (Int64.ofInt (-4294967296)) = 18446744069414584320 by decide]
  omega
/-- a register's bits in a format -/
theorem X59_read (o : FlU u c rg M) (v : VFc u c rg M s) (ht : t ≤ 1) {r : Nat} (hr : r < 32) : HX59_read u (nI r) (c (10 + t)) M ∧ GX59_read u (nI r) (c (10 + t)) M = (bO t (s.1 r), M) := by
  have e : (nI r).toNatClampNeg = r := o_cl (by omega)
  have fm := (o.1.2.2.2.2.1 t (by omega)).2.2.1
  unfold HX59_read HX59_read_0 GX59_read GX59_read_0 GX59_read_42
  dsimp only
  rw [o.2.2.1.1, dbl o ht, e, v.1 r hr]
  refine ⟨⟨in_nI o.2.2.1.2 hr (by decide), trivial⟩, ?_⟩
  dsimp only
  rw [fi_bz, X61_quiet ht fm, propext (box_m (s.1 r))]
  unfold bO
  rcases (show t = 0 ∨ t = 1 by omega) with q | q <;> subst q
  · rw [fi_neg (show ¬ (0 : Nat) = 1 by decide), fi_neg (show ¬ (0 : Nat) = 1 by decide)]
    by_cases y : ul (s.1 r) / 4294967296 = 4294967295
    · rw [fi_pos y, fi_pos y]
    · rw [fi_neg y, fi_neg y]
  · rw [fi_pos (show (1 : Nat) = 1 from rfl), fi_pos (show (1 : Nat) = 1 from rfl)]
/-- what a register holds is taken apart -/
theorem X59_take (o : FlU u c rg M) (v : VFc u c rg M s) (ht : t ≤ 1) {r : Nat} (hr : r < 32) (hk : k < 4) (hS : S k) : HX59_take u (nI r) (c (10 + t)) (c k) M ∧ Cf c S 0 M (GX59_take u (nI r) (c (10 + t)) (c k) M) ∧
    TkV c k (GX59_take u (nI r) (c (10 + t)) (c k) M) (upk t (bO t (s.1 r))).1 (upk t (bO t (s.1 r))).2.1 ∧ ((upk t (bO t (s.1 r))).1 ≤ 1 → TkN c k (GX59_take u (nI r) (c (10 + t)) (c k) M) (upk t (bO t (s.1 r))).2.2.2 (upk t (bO t (s.1 r))).2.2.1) ∧
    (GX59_take u (nI r) (c (10 + t)) (c k) M).2.1 118 (c k) 0 = bO t (s.1 r) := by
  obtain ⟨h, e⟩ := X59_read o v ht hr
  unfold HX59_take HX59_take_0 GX59_take GX59_take_0
  dsimp only
  rw [e]
  dsimp only
  obtain ⟨a1, a2, a3, a4⟩ := X61_take (S := S) o.1 hk ht (bO t (s.1 r)) hS
  exact ⟨⟨h, trivial⟩, a1, a2, a3, a4⟩
/-- the mode of an instruction -/
def mdO (md r : Nat) : Nat := if r = 7 then md else r
theorem X59_modeOf (o : FlU u c rg M) (v : VFc u c rg M s) (hm : s.2.2.1 < 8) (w : Int32) : HX59_modeOf u w M ∧ GX59_modeOf u w M = (if mdO s.2.2.1 (pt w 12 3) < 5 then 1 + mdO s.2.2.1 (pt w 12 3) else 0, M) := by
  have hr : pt w 12 3 < 8 := pt_lt w 12 3
  have K : ∀ m, m < 8 → HX59_modeOf_22 u (nI m) M ∧ GX59_modeOf_22 u (nI m) M = (if m < 5 then 1 + m else 0, M) := fun m hm => by
    obtain ⟨l, e⟩ := o.2.2.2.2.1
    have c1 : Int32.ofNat 5 ≤ nI m ↔ ¬ m < 5 := by
      have := ni_ge (z := 5) (k := m) (by omega)
      rw [show Int32.ofNat 5 = Int32.ofInt 5 from rfl, this]
      omega
    unfold HX59_modeOf_22 GX59_modeOf_22 GX59_modeOf_42
    dsimp only
    rw [l, propext c1, o_cl (show m < 2147483648 by omega)]
    by_cases q : m < 5
    · rw [fi_neg (fun y => y q), if_pos q, e m q]
      exact ⟨⟨fun y => absurd q y, fun _ => ⟨in_nI l q (by decide), trivial⟩⟩, rfl⟩
    · rw [fi_pos q, if_neg q]
      exact ⟨⟨fun _ => trivial, fun y => absurd q y⟩, rfl⟩
  unfold HX59_modeOf HX59_modeOf_0 GX59_modeOf GX59_modeOf_0
  dsimp only
  rw [p12]
  dsimp only
  rw [v.2.2.1]
  have c7 : nI (pt w 12 3) = Int32.ofInt 7 ↔ pt w 12 3 = 7 := by
    have := ni_i (a := pt w 12 3) (b := 7) (by omega) (by decide)
    exact this
  unfold mdO
  by_cases q : pt w 12 3 = 7
  · obtain ⟨h, e⟩ := K s.2.2.1 hm
    rw [fi_pos (c7.mpr q), if_pos q]
    exact ⟨⟨fun _ => h, fun y => absurd (c7.mpr q) y⟩, e⟩
  · obtain ⟨h, e⟩ := K (pt w 12 3) hr
    rw [fi_neg (fun y => q (c7.mp y)), if_neg q]
    exact ⟨⟨fun y => absurd (c7.mp y) q, fun _ => h⟩, e⟩
end Un
