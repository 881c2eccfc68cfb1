/-! what a sum of the component gives is what the twin gives -/
/-- the twin's answer o, the component's sum s and value v -/
def Same (o : Option Int64) (s : Nat) (v : Int64) : Prop := (s = 0 → o = none) ∧ (¬ s = 0 → o = some v)
theorem f6s (w : Int32) : (nI (fd w 31 26) <<< (Int32.ofInt 1 &&& 31) = 0 ↔ nI (fd w 31 26) = 0) ∧ (nI (fd w 31 26) <<< (Int32.ofInt 1 &&& 31) = Int32.ofInt 32 ↔ nI (fd w 31 26) = Int32.ofInt 16) := by
  have h : fd w 31 26 < 64 := fd_lt w (hi := 31) (lo := 26) (by decide)
  rw [eq_ui, eq_ui, eq_ui, eq_ui, ui_shl, ui_nI, show ui (Int32.ofInt 1) % 32 = 1 from rfl, show ui 0 = 0 from rfl, show ui (Int32.ofInt 32) = 32 from rfl, show ui (Int32.ofInt 16) = 16 from rfl]
  omega
theorem V19 {f : Int32} (h : n8 f) (w : Int32) (x : Int64) : Same (avI f w x) (sI f (Int32.ofInt 0) w) (rk (oS (sI f (Int32.ofInt 0) w)) x (vI f (Int32.ofInt 0) w)) := by
  obtain ⟨e0, e16⟩ := f6s w
  by_cases sh : f = Int32.ofInt 1 ∨ f = Int32.ofInt 5
  · have a := rk_pl h x (nI (fd w 25 20)).toInt64
    rw [i32_64] at a
    unfold sI vI gI Same
    rw [fi_pos sh, fi_pos sh, fi_pos (c := Int32.ofInt 0 = 0) rfl, fi_pos (c := Int32.ofInt 0 = 0) rfl, e0, e16]
    by_cases g0 : nI (fd w 31 26) = 0
    · have b : bf f (nI (fd w 31 26) <<< (Int32.ofInt 1 &&& 31)) = pl f := by unfold bf; rw [fi_pos (e0.mpr g0)]
      rw [fi_pos (Or.inl g0), b]
      refine ⟨fun z => absurd z a.1, fun _ => ?_⟩
      rw [a.2]
      unfold avI
      rw [fi_neg (by rintro (q | q); exact q.2 g0; exact q.2.1 g0), fi_neg (by rintro ⟨_, q⟩; rw [g0] at q; exact absurd q (by decide))]
      rcases sh with rfl | rfl <;> simp (decide := true) only [al, fi_if, if_true, if_false]
    · by_cases g16 : nI (fd w 31 26) = Int32.ofInt 16 ∧ f = Int32.ofInt 5
      · obtain ⟨q, rfl⟩ := g16
        have b : bf (Int32.ofInt 5) (nI (fd w 31 26) <<< (Int32.ofInt 1 &&& 31)) = 22 := by rw [e16.mpr q]; unfold bf; simp (decide := true) only [fi_if, if_true, if_false]
        rw [fi_pos (Or.inr ⟨q, rfl⟩), b]
        refine ⟨fun z => (by cases z), fun _ => ?_⟩
        unfold avI
        rw [fi_neg (by rintro (r | r); exact absurd r.1 (by decide); exact r.2.2 q), fi_pos ⟨rfl, q⟩]
        simp (decide := true) only [rk, oS, fi_if, if_true, if_false, i32_64]
      · rw [fi_neg (by rintro (q | q); exact g0 q; exact g16 q)]
        refine ⟨fun _ => ?_, fun z => absurd rfl z⟩
        unfold avI
        rw [fi_pos]
        rcases sh with rfl | rfl
        · exact Or.inl ⟨rfl, g0⟩
        · exact Or.inr ⟨rfl, g0, fun q => g16 ⟨q, rfl⟩⟩
  · have a := rk_pl h x (iI w)
    unfold sI vI Same
    rw [fi_neg sh, fi_neg sh, fi_pos (c := Int32.ofInt 0 = 0 ∨ f ≤ 0) (Or.inl rfl)]
    refine ⟨fun z => absurd z a.1, fun _ => ?_⟩
    rw [a.2]
    unfold avI
    rw [fi_neg (by rintro (q | q); exact sh (Or.inl q.1); exact sh (Or.inr q.1)), fi_neg (by rintro ⟨q, _⟩; exact sh (Or.inr q))]
    unfold al
    rw [fi_neg (fun q => sh (Or.inl q)), fi_neg (fun q => sh (Or.inl q)), fi_neg (c := f = Int32.ofInt 5) (fun q => sh (Or.inr q)), fi_neg (c := f = Int32.ofInt 5) (fun q => sh (Or.inr q))]
theorem V51 {f : Int32} (h : n8 f) (g : Int32) (x y : Int64) : Same (avR f g x y) (sR f (Int32.ofInt 0) g) (rk (oS (sR f (Int32.ofInt 0) g)) x y) := by
  unfold sR Same
  rw [fi_neg (fun q => q.1 rfl)]
  unfold bf avR
  by_cases g0 : g = 0
  · have a := rk_pl h x y
    rw [fi_pos g0, fi_pos g0]
    refine ⟨fun z => absurd z a.1, fun _ => ?_⟩
    rw [a.2, al_p (sh63 y)]
  rw [fi_neg g0, fi_neg g0]
  by_cases g1 : g = Int32.ofInt 1
  · have a := rk_pd h x y
    rw [fi_pos g1, fi_pos g1, fi_neg (by rintro ⟨q, _⟩; rw [g1] at q; exact absurd q (by decide))]
    refine ⟨fun z => absurd z a.1, fun _ => ?_⟩
    rw [a.2]
  rw [fi_neg g1, fi_neg g1]
  by_cases g2 : g = Int32.ofInt 32
  · rw [fi_pos g2]
    by_cases f0 : f = 0
    · rw [fi_pos f0, fi_pos ⟨g2, Or.inl f0⟩, fi_pos f0]
      refine ⟨fun z => (by cases z), fun _ => ?_⟩
      simp (decide := true) only [rk, oS, fi_if, if_true, if_false]
    · rw [fi_neg f0]
      by_cases f5 : f = Int32.ofInt 5
      · rw [fi_pos f5, fi_pos ⟨g2, Or.inr f5⟩, fi_neg f0, lsar_c (sh63 y)]
        refine ⟨fun z => (by cases z), fun _ => ?_⟩
        simp (decide := true) only [rk, oS, fi_if, if_true, if_false]
      · rw [fi_neg f5, fi_neg (by rintro ⟨_, q | q⟩; exact f0 q; exact f5 q)]
        exact ⟨fun _ => rfl, fun z => absurd rfl z⟩
  · rw [fi_neg g2, fi_neg (fun q => g2 q.1)]
    exact ⟨fun _ => rfl, fun z => absurd rfl z⟩
theorem V27 {f : Int32} (h : n8 f) (w : Int32) (x : Int64) : Same (avW f (nI (fd w 31 25)) w x) (sI f (Int32.ofInt 1) w) (rki (oS (sI f (Int32.ofInt 1) w)) x.toInt32 (vI f (Int32.ofInt 1) w).toInt32) := by
  have p5 : ui (nI (fd w 24 20)) < 32 := by
    have q : fd w 24 20 < 32 := fd_lt w (hi := 24) (lo := 20) (by decide)
    rw [ui_nI]
    omega
  unfold sI vI gI Same avW
  rw [fi_neg (c := Int32.ofInt 1 = 0) (by decide), fi_neg (c := Int32.ofInt 1 = 0) (by decide)]
  generalize nI (fd w 31 25) = g
  rcases Classical.propComplete (g = 0) with g0 | g0 <;> rcases Classical.propComplete (g = Int32.ofInt 1) with g1 | g1 <;> rcases Classical.propComplete (g = Int32.ofInt 32) with g2 | g2 <;>
    rcases h with rfl | rfl | rfl | rfl | rfl | rfl | rfl | rfl <;>
    simp (decide := true) only [bf, pl, oS, rki, rk, fi_if, g0, g1, g2, true_and, and_true, and_false, false_and, or_false, false_or, not_true, not_false_iff, if_true, if_false, true_or, or_true, and_self, imp_true_iff, true_imp_iff, false_imp_iff, i32_64, lo_add, lo_shl _ _ p5]
  all_goals first
    | exact absurd ((of_eq_true g0).symm.trans (of_eq_true g2)) (by decide)
    | exact absurd ((of_eq_true g0).symm.trans (of_eq_true g1)) (by decide)
    | exact absurd ((of_eq_true g1).symm.trans (of_eq_true g2)) (by decide)
theorem V59 {f : Int32} (h : n8 f) (g : Int32) (x y : Int64) : Same (avQ f g x y) (sR f (Int32.ofInt 1) g) (rki (oS (sR f (Int32.ofInt 1) g)) x.toInt32 y.toInt32) := by
  have s1 := fun x : Int32 => ishl_c (x := x) (sh31 y)
  have s2 := fun x : Int32 => iushr_c (x := x) (sh31 y)
  have s3 := fun x : Int32 => isar_c (x := x) (sh31 y)
  unfold sR Same avQ avP
  rcases Classical.propComplete (g = 0) with g0 | g0 <;> rcases Classical.propComplete (g = Int32.ofInt 1) with g1 | g1 <;> rcases Classical.propComplete (g = Int32.ofInt 32) with g2 | g2 <;>
    rcases h with rfl | rfl | rfl | rfl | rfl | rfl | rfl | rfl <;>
    simp (decide := true) only [bf, pl, pd, oS, rki, rk, ext32, fi_if, g0, g1, g2, true_and, and_true, and_false, false_and, or_false, false_or, not_true, not_false_iff, if_true, if_false, true_or, or_true, and_self, imp_true_iff, true_imp_iff, false_imp_iff, i32_64, lo_add, lo_sub, lo_mul, lo_and, s1, s2, s3]
  all_goals first
    | exact absurd ((of_eq_true g0).symm.trans (of_eq_true g2)) (by decide)
    | exact absurd ((of_eq_true g0).symm.trans (of_eq_true g1)) (by decide)
    | exact absurd ((of_eq_true g1).symm.trans (of_eq_true g2)) (by decide)
