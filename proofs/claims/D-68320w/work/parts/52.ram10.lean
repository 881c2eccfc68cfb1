/-! how often pages are written; atomics -/
abbrev cwr (M : FM) (r k : Nat) : Int64 := M.2.1 3 (M.2.2 204 r 0) k
/-- pages that are not written at least once stay as they are -/
def Evo (r c : Nat) (M M' : FM) : Prop := ∀ k, k < 1024 → ∃ d, d ≤ c ∧ cwr M' r k = cwr M r k + lN d ∧ (d = 0 → ∀ i, i / 32768 = k → cmb M' r i = cmb M r i)
theorem lN_a (a b : Nat) : lN a + lN b = lN (a + b) := ul_inj (by rw [ul_add, ul_lN, ul_lN, ul_lN]; omega)
theorem evo_r (r c : Nat) (M : FM) : Evo r c M M := fun k _ => ⟨0, Nat.zero_le _, (Int64.add_zero _).symm, fun _ _ _ => rfl⟩
theorem evo_t {r c d : Nat} {M M1 M2 : FM} (h : Evo r c M M1) (k : Evo r d M1 M2) : Evo r (c + d) M M2 := by
  intro x hx
  obtain ⟨p, p1, p2, p3⟩ := h x hx
  obtain ⟨q, q1, q2, q3⟩ := k x hx
  refine ⟨p + q, by omega, by rw [q2, p2, Int64.add_assoc, lN_a], fun z i hi => ?_⟩
  rw [q3 (by omega) i hi, p3 (by omega) i hi]
theorem evo_w {r c d : Nat} {M M1 : FM} (h : Evo r c M M1) (hc : c ≤ d) : Evo r d M M1 := by
  intro x hx
  obtain ⟨p, p1, p2, p3⟩ := h x hx
  exact ⟨p, by omega, p2, p3⟩
theorem evo_st {r o s : Nat} {a v : Int64} {M M' : FM} (h1 : 1 ≤ s) (h8 : s ≤ 8) (hb : o + s ≤ 4194304) (K : StOk r a o s v M M') : Evo r 1 M M' := by
  obtain ⟨k1, k2, k3, k4, k5, k6, k7, k8, k9, k10⟩ := K
  intro x hx
  by_cases c : x = o / 4096 ∨ x = (o + s - 1) / 4096
  · refine ⟨1, Nat.le_refl _, ?_, fun z => by omega⟩
    unfold cwr
    rw [k8, k4, if_pos c]
    rfl
  · refine ⟨0, by omega, ?_, fun _ i hi => ?_⟩
    · unfold cwr
      rw [k8, k4, if_neg c]
      exact (Int64.add_zero _).symm
    · rw [k3 i (by omega), if_neg ?_]
      omega
theorem evo_same {r : Nat} {M M' : FM} (hw : ∀ k, k < 1024 → cwr M' r k = cwr M r k) (hb : ∀ i, i < 33554432 → cmb M' r i = cmb M r i) : Evo r 0 M M' :=
  fun k hk => ⟨0, Nat.le_refl _, by rw [hw k hk]; exact (Int64.add_zero _).symm, fun _ i hi => hb i (by omega)⟩
/-- what atomics do with a number, by their kind -/
noncomputable def chg (k : Int32) (x y : Int64) : Int64 :=
  fi (k = Int32.ofInt 0) (x + y) (fi (k = Int32.ofInt 1) y (fi (k = Int32.ofInt 4) (x ^^^ y) (fi (k = Int32.ofInt 8) (x ||| y) (fi (k = Int32.ofInt 12) (x &&& y)
    (fi (k = Int32.ofInt 16) (fi (x < y) x y) (fi (k = Int32.ofInt 20) (fi (x < y) y x) (fi (k = Int32.ofInt 24) (fi (ul x < ul y) x y) (fi (ul x < ul y) y x))))))))
def knd (k : Int32) : Prop := k = Int32.ofInt 0 ∨ k = Int32.ofInt 1 ∨ k = Int32.ofInt 4 ∨ k = Int32.ofInt 8 ∨ k = Int32.ofInt 12 ∨ k = Int32.ofInt 16 ∨ k = Int32.ofInt 20 ∨ k = Int32.ofInt 24 ∨ k = Int32.ofInt 28
theorem X93_isLess (x y : Int64) (M : FM) : GX93_isLess x y M = (bz (ul x < ul y), M) := by
  have := X98_isLess x y M
  unfold GX98_isLess at this
  exact this
theorem nlt_ge {x y : Int64} : (0 ≤ lg_cmp x y) ↔ ¬ x < y := by rw [cl_ge, lt_tl]; omega
theorem X93_changed {k : Int32} (hk : knd k) (x y : Int64) (M : FM) : GX93_changed k x y M = (chg k x y, M) := by
  have e0 : bz (ul x < ul y) = 0 ↔ ¬ ul x < ul y := bz_0
  rcases hk with rfl | rfl | rfl | rfl | rfl | rfl | rfl | rfl | rfl <;>
    simp (decide := true) only [GX93_changed_185, GX93_changed_172, GX93_changed_171, GX93_changed_157, GX93_changed_145, GX93_changed_0, GX93_changed, chg, fi_if, if_true, if_false, X93_isLess, e0, nlt_ge]
  · split <;> first | rfl | (split <;> first | rfl | contradiction)
  · split <;> first | rfl | (split <;> first | rfl | contradiction)
  · split <;> first | rfl | (split <;> first | rfl | contradiction)
  · split <;> first | rfl | (split <;> first | rfl | contradiction)
theorem X93_signed (x : Int64) (sz : Int32) (M : FM) : GX93_signed x sz M = (fi (sz = Int32.ofInt 4) x.toInt32.toInt64 x, M) := by
  unfold GX93_signed GX93_signed_0 GX93_signed_12
  exact (fi_ap (fun z => (z, M))).symm
theorem X11_signed (x : Int64) (sz : Int32) (M : FM) : GX11_signed x sz M = (fi (sz = Int32.ofInt 4) x.toInt32.toInt64 x, M) := by
  unfold GX11_signed GX11_signed_0 GX11_signed_12
  exact (fi_ap (fun z => (z, M))).symm
abbrev chO (M : FM) (r k : Nat) : Nat := M.2.2 3 (M.2.2 206 r 0) k
/-- the row of what atomics do -/
def ChI (r : Nat) (M : FM) : Prop := M.2.2 0 (chO M r 0) 0 = 70 ∧ M.2.2 0 (chO M r 1) 0 = 71 ∧ (M.2.2 0 (chO M r 4) 0 = 68 ∧ M.1 198 (chO M r 4) 0 = Int32.ofInt 6) ∧ (M.2.2 0 (chO M r 8) 0 = 68 ∧ M.1 198 (chO M r 8) 0 = Int32.ofInt 14) ∧ (M.2.2 0 (chO M r 12) 0 = 68 ∧ M.1 198 (chO M r 12) 0 = Int32.ofInt 8) ∧
  (M.2.2 0 (chO M r 16) 0 = 69 ∧ M.1 199 (chO M r 16) 0 = Int32.ofInt 1 ∧ M.2.1 200 (chO M r 16) 0 = Int64.ofInt 0) ∧ (M.2.2 0 (chO M r 20) 0 = 69 ∧ M.1 199 (chO M r 20) 0 = Int32.ofInt 0 ∧ M.2.1 200 (chO M r 20) 0 = Int64.ofInt 0) ∧
  (M.2.2 0 (chO M r 24) 0 = 69 ∧ M.1 199 (chO M r 24) 0 = Int32.ofInt 1 ∧ M.2.1 200 (chO M r 24) 0 = Int64.ofInt (-9223372036854775808)) ∧ (M.2.2 0 (chO M r 28) 0 = 69 ∧ M.1 199 (chO M r 28) 0 = Int32.ofInt 0 ∧ M.2.1 200 (chO M r 28) 0 = Int64.ofInt (-9223372036854775808))
noncomputable def dof (x : Nat) (u v : Int64) (M : FM) : Int64 × FM := fi (fm_is M 68 68 x = true) (GX16_of x u v M) (fi (fm_is M 69 69 x = true) (GX17_of x u v M) (fi (fm_is M 70 70 x = true) (GX14_of x u v M) (GX15_of x u v M)))
theorem X17_of {x : Nat} {M : FM} {l : Prop} {t : Int64} (h1 : M.1 199 x 0 = bz l) (h2 : M.2.1 200 x 0 = t) (u v : Int64) : GX17_of x u v M = (fi ((u + t < v + t) ↔ l) u v, M) := by
  unfold GX17_of GX17_of_0 GX17_of_21 GX17_of_33
  rw [h1, h2]
  by_cases q : u + t < v + t
  · rw [fi_neg (fun z => nlt_ge.mp z q)]
    by_cases z : l
    · rw [bz_t z, fi_pos rfl, fi_pos ⟨fun _ => z, fun _ => q⟩]
    · rw [bz_f z, fi_neg (by decide), fi_neg (fun y => z (y.mp q))]
  · rw [fi_pos (nlt_ge.mpr q)]
    by_cases z : l
    · rw [bz_t z, fi_neg (by decide), fi_neg (fun y => q (y.mpr z))]
    · rw [bz_f z, fi_pos rfl, fi_pos ⟨fun y => absurd y q, fun y => absurd y z⟩]
theorem turn_lt (x y : Int64) : x + Int64.ofInt (-9223372036854775808) < y + Int64.ofInt (-9223372036854775808) ↔ ul x < ul y := by
  have e : ∀ z : Int64, (z + Int64.ofInt (-9223372036854775808)).toInt = (ul z : Int) - 9223372036854775808 := by
    intro z
    have := ul_lt z
    rw [tl, ul_add, show ul (Int64.ofInt (-9223372036854775808)) = 9223372036854775808 from rfl]
    split <;> omega
  rw [lt_tl, e, e]
  omega
theorem X16_of {x : Nat} {M : FM} {t : Int32} (h : M.1 198 x 0 = t) (u v : Int64) (w : Int64) (hw : ((fi (((t >>> (Int32.ofInt 0 &&& 31)) &&& Int32.ofInt 1) = 0) (Int64.ofInt 0) ((u ^^^ Int64.ofInt (-1)) &&& (v ^^^ Int64.ofInt (-1))) ||| fi (((t >>> (Int32.ofInt 1 &&& 31)) &&& Int32.ofInt 1) = 0) (Int64.ofInt 0) ((u ^^^ Int64.ofInt (-1)) &&& v)) ||| fi (((t >>> (Int32.ofInt 2 &&& 31)) &&& Int32.ofInt 1) = 0) (Int64.ofInt 0) (u &&& (v ^^^ Int64.ofInt (-1)))) ||| fi (((t >>> (Int32.ofInt 3 &&& 31)) &&& Int32.ofInt 1) = 0) (Int64.ofInt 0) (u &&& v) = w) : GX16_of x u v M = (w, M) := by
  have p : ∀ (k : Int32) (z : Int64), GX16_part x k z M = (fi (((t >>> (k &&& 31)) &&& Int32.ofInt 1) = 0) (Int64.ofInt 0) z, M) := by
    intro k z
    unfold GX16_part GX16_part_0 GX16_part_16
    rw [h]
    exact (fi_ap (fun z => (z, M))).symm
  unfold GX16_of GX16_of_0
  rw [p]
  dsimp only
  rw [p]
  dsimp only
  rw [p]
  dsimp only
  rw [p]
  dsimp only
  rw [hw]
theorem dof_c {r : Nat} {M : FM} (C : ChI r M) {k : Int32} (hk : knd k) (u v : Int64) : fm_is M 68 71 (chO M r k.toNatClampNeg) = true ∧ dof (chO M r k.toNatClampNeg) u v M = (chg k u v, M) := by
  obtain ⟨c0, c1, ⟨c4, d4⟩, ⟨c8, d8⟩, ⟨c12, d12⟩, ⟨c16, d16, e16⟩, ⟨c20, d20, e20⟩, ⟨c24, d24, e24⟩, ⟨c28, d28, e28⟩⟩ := C
  have ti : ∀ {x t : Nat}, M.2.2 0 x 0 = t → ∀ lo hi, lo ≤ t → t ≤ hi → fm_is M lo hi x = true := fun h lo hi h1 h2 => fm_isi (by rw [h]; exact h1) (by rw [h]; exact h2)
  have tn : ∀ {x t : Nat}, M.2.2 0 x 0 = t → ∀ s, s ≠ t → ¬ fm_is M s s x = true := fun h s hs q => hs (by have := fm_isd q; omega)
  have b68 : ∀ {x : Nat}, M.2.2 0 x 0 = 68 → dof x u v M = GX16_of x u v M := fun h => by unfold dof; rw [fi_pos (ti h 68 68 (by decide) (by decide))]
  have b69 : ∀ {x : Nat}, M.2.2 0 x 0 = 69 → dof x u v M = GX17_of x u v M := fun h => by unfold dof; rw [fi_neg (tn h 68 (by decide)), fi_pos (ti h 69 69 (by decide) (by decide))]
  have b70 : ∀ {x : Nat}, M.2.2 0 x 0 = 70 → dof x u v M = GX14_of x u v M := fun h => by unfold dof; rw [fi_neg (tn h 68 (by decide)), fi_neg (tn h 69 (by decide)), fi_pos (ti h 70 70 (by decide) (by decide))]
  have b71 : ∀ {x : Nat}, M.2.2 0 x 0 = 71 → dof x u v M = GX15_of x u v M := fun h => by unfold dof; rw [fi_neg (tn h 68 (by decide)), fi_neg (tn h 69 (by decide)), fi_neg (tn h 70 (by decide))]
  have z64 : ∀ z : Int64, z + Int64.ofInt 0 = z := fun z => Int64.add_zero z
  rcases hk with rfl | rfl | rfl | rfl | rfl | rfl | rfl | rfl | rfl
  · exact ⟨ti c0 _ _ (by decide) (by decide), (b70 c0).trans (by simp (decide := true) only [chg, fi_if, if_true]; rfl)⟩
  · exact ⟨ti c1 _ _ (by decide) (by decide), (b71 c1).trans (by simp (decide := true) only [chg, fi_if, if_true, if_false]; rfl)⟩
  · refine ⟨ti c4 _ _ (by decide) (by decide), (b68 c4).trans (X16_of d4 u v _ ?_)⟩
    simp (decide := true) only [chg, fi_if, if_true, if_false]
    refine lb_ext fun i hi => ?_
    simp only [lb_or, lb_and, lb_xor, lb_m1 i hi, lb_0]
    cases lb u i <;> cases lb v i <;> rfl
  · refine ⟨ti c8 _ _ (by decide) (by decide), (b68 c8).trans (X16_of d8 u v _ ?_)⟩
    simp (decide := true) only [chg, fi_if, if_true, if_false]
    refine lb_ext fun i hi => ?_
    simp only [lb_or, lb_and, lb_xor, lb_m1 i hi, lb_0]
    cases lb u i <;> cases lb v i <;> rfl
  · refine ⟨ti c12 _ _ (by decide) (by decide), (b68 c12).trans (X16_of d12 u v _ ?_)⟩
    simp (decide := true) only [chg, fi_if, if_true, if_false]
    refine lb_ext fun i hi => ?_
    simp only [lb_or, lb_and, lb_xor, lb_m1 i hi, lb_0]
    cases lb u i <;> cases lb v i <;> rfl
  · refine ⟨ti c16 _ _ (by decide) (by decide), (b69 c16).trans ((X17_of (l := True) (d16.trans (bz_t trivial).symm) e16 u v).trans ?_)⟩
    simp (decide := true) only [chg, fi_if, if_true, if_false, z64, iff_true]
  · refine ⟨ti c20 _ _ (by decide) (by decide), (b69 c20).trans ((X17_of (l := False) (d20.trans (bz_f id).symm) e20 u v).trans ?_)⟩
    simp (decide := true) only [chg, fi_if, if_true, if_false, z64, iff_false]
    congr 1
    split <;> first | rfl | (split <;> first | rfl | contradiction)
  · refine ⟨ti c24 _ _ (by decide) (by decide), (b69 c24).trans ((X17_of (l := True) (d24.trans (bz_t trivial).symm) e24 u v).trans ?_)⟩
    simp (decide := true) only [chg, fi_if, if_true, if_false, iff_true, turn_lt]
  · refine ⟨ti c28 _ _ (by decide) (by decide), (b69 c28).trans ((X17_of (l := False) (d28.trans (bz_f id).symm) e28 u v).trans ?_)⟩
    simp (decide := true) only [chg, fi_if, if_true, if_false, iff_false, turn_lt]
    congr 1
    split <;> first | rfl | (split <;> first | rfl | contradiction)
