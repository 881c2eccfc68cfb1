/-! the twin's core: the instructions that reckon -/
def d5 (d : Int32) : Prop := ∃ k, k < 32 ∧ d = nI k
theorem d5_fd (w : Int32) (hi lo : Nat) (h : lo ≤ hi) (h2 : hi + 1 - lo ≤ 5) : d5 (nI (fd w hi lo)) := ⟨_, Nat.lt_of_lt_of_le (fd_lt w h) (Nat.pow_le_pow_right (n := 2) (by decide) h2), rfl⟩
theorem in32 {M : FM} {a : Nat} (h : M.2.2 1 a 0 = 32) {d : Int32} (hd : d5 d) : fm_in M a d = true := by
  obtain ⟨k, hk, rfl⟩ := hd
  exact in_nI h hk (by decide)
theorem X98_put_H {c : Nat} {M : FM} (T : Ty M) (n : fm_is M 94 94 c = true) {d : Int32} (hd : d5 d) (v : Int64) : HX98_put c d v M :=
  ⟨fun _ => trivial, fun _ => ⟨in32 (tL_346 T.1 n) hd, trivial⟩⟩
theorem X98_done_H {c : Nat} {M : FM} (T : Ty M) (n : fm_is M 94 94 c = true) {d : Int32} (hd : d5 d) (v : Int64) : HX98_done c d v M := ⟨X98_put_H T n hd v, trivial⟩
/-- what an instruction that reckons gives: nothing, or a value for d -/
def Rn (c : Nat) (M : FM) (d : Int32) (o : Option Int64) (res : Int32 × FM) : Prop := ∃ M', sq c M M' ∧ ((o = none ∧ res = (Int32.ofInt (-1), M')) ∨ ∃ v, o = some v ∧ res = GX98_done c d v M')
theorem Rn_0 {c : Nat} {M : FM} {d : Int32} : Rn c M d none (Int32.ofInt (-1), M) := ⟨M, sq_r, Or.inl ⟨rfl, rfl⟩⟩
theorem Rn_1 {c : Nat} {M : FM} {d : Int32} {v : Int64} : Rn c M d (some v) (GX98_done c d v M) := ⟨M, sq_r, Or.inr ⟨v, rfl, rfl⟩⟩
noncomputable def avI (f w : Int32) (x : Int64) : Option Int64 :=
  fi ((f = Int32.ofInt 1 ∧ ¬ nI (fd w 31 26) = 0) ∨ (f = Int32.ofInt 5 ∧ ¬ nI (fd w 31 26) = 0 ∧ ¬ nI (fd w 31 26) = Int32.ofInt 16)) none
    (some (fi (f = Int32.ofInt 5 ∧ nI (fd w 31 26) = Int32.ofInt 16) (x >>> ((nI (fd w 25 20)).toInt64 &&& 63)) (al f x (iI w) (nI (fd w 25 20)))))
theorem X98_withImmediate {c : Nat} {M : FM} (T : Ty M) (n : fm_is M 94 94 c = true) {d : Int32} (hd : d5 d) (f : Int32) :
    HX98_withImmediate c d f M ∧ Rn c M d (avI f (M.1 349 c 0) (M.2.1 351 c 0)) (GX98_withImmediate c d f M) := by
  have i := X98_immediateI T n
  have hD : ∀ v, HX98_done c d v M := X98_done_H T n hd
  refine ⟨?_, ?_⟩
  · simp only [HX98_withImmediate_82, HX98_withImmediate_68, HX98_withImmediate_35, HX98_withImmediate_18, HX98_withImmediate_0, HX98_withImmediate, (X98_bits _ _ _ _ T n (hi := 31) (lo := 26) (by decide) (by decide) (show ui (Int32.ofInt 31) = 31 from rfl) (show ui (Int32.ofInt 26) = 26 from rfl)).1, (X98_bits _ _ _ _ T n (hi := 31) (lo := 26) (by decide) (by decide) (show ui (Int32.ofInt 31) = 31 from rfl) (show ui (Int32.ofInt 26) = 26 from rfl)).2, (X98_bits _ _ _ _ T n (hi := 25) (lo := 20) (by decide) (by decide) (show ui (Int32.ofInt 25) = 25 from rfl) (show ui (Int32.ofInt 20) = 20 from rfl)).1, (X98_bits _ _ _ _ T n (hi := 25) (lo := 20) (by decide) (by decide) (show ui (Int32.ofInt 25) = 25 from rfl) (show ui (Int32.ofInt 20) = 20 from rfl)).2, i, X98_plain, hD, and_self, imp_true_iff]
  · rcases Classical.propComplete (f = Int32.ofInt 1) with h1 | h1 <;> rcases Classical.propComplete (f = Int32.ofInt 5) with h5 | h5 <;> rcases Classical.propComplete (nI (fd (M.1 349 c 0) 31 26) = 0) with t0 | t0 <;> rcases Classical.propComplete (nI (fd (M.1 349 c 0) 31 26) = Int32.ofInt 16) with t16 | t16 <;>
      simp only [GX98_withImmediate_82, GX98_withImmediate_68, GX98_withImmediate_35, GX98_withImmediate_33, GX98_withImmediate_18, GX98_withImmediate_0, GX98_withImmediate, (X98_bits _ _ _ _ T n (hi := 31) (lo := 26) (by decide) (by decide) (show ui (Int32.ofInt 31) = 31 from rfl) (show ui (Int32.ofInt 26) = 26 from rfl)).1, (X98_bits _ _ _ _ T n (hi := 31) (lo := 26) (by decide) (by decide) (show ui (Int32.ofInt 31) = 31 from rfl) (show ui (Int32.ofInt 26) = 26 from rfl)).2, (X98_bits _ _ _ _ T n (hi := 25) (lo := 20) (by decide) (by decide) (show ui (Int32.ofInt 25) = 25 from rfl) (show ui (Int32.ofInt 20) = 20 from rfl)).1, (X98_bits _ _ _ _ T n (hi := 25) (lo := 20) (by decide) (by decide) (show ui (Int32.ofInt 25) = 25 from rfl) (show ui (Int32.ofInt 20) = 20 from rfl)).2, i, X98_plain, avI, fi_if, h1, h5, t0, t16, true_and, and_true, and_false, false_and, or_false, false_or, not_true, not_false_iff, if_true, if_false, true_or, or_true] <;>
      first | exact Rn_1 | exact Rn_0 | exact absurd ((of_eq_true h1).symm.trans (of_eq_true h5)) (by decide) | exact absurd ((of_eq_true t0).symm.trans (of_eq_true t16)) (by decide)
noncomputable def avR (f g : Int32) (x y : Int64) : Option Int64 :=
  fi (g = 0) (some (al f x y (y &&& Int64.ofInt 63).toInt32)) (fi (g = Int32.ofInt 32 ∧ (f = 0 ∨ f = Int32.ofInt 5)) (some (fi (f = 0) (x - y) (x >>> ((y &&& Int64.ofInt 63).toInt32.toInt64 &&& 63))))
    (fi (g = Int32.ofInt 1) (some (pr f x y)) none))
theorem Rn_q {c : Nat} {M M' : FM} (h : sq c M M') {d : Int32} {v : Int64} : Rn c M d (some v) (GX98_done c d v M') := ⟨M', h, Or.inr ⟨v, rfl, rfl⟩⟩
theorem X98_withRegister {c : Nat} {M : FM} (T : Ty M) (n : fm_is M 94 94 c = true) {d : Int32} (hd : d5 d) (f g : Int32) :
    HX98_withRegister c d f g M ∧ Rn c M d (avR f g (M.2.1 351 c 0) (M.2.1 352 c 0)) (GX98_withRegister c d f g M) := by
  obtain ⟨p1, M', q, p2⟩ := X98_product T n f
  have hD : ∀ v, HX98_done c d v M := X98_done_H T n hd
  have hD' : ∀ v, HX98_done c d v M' := X98_done_H (sq_ty q T) (sq_is q n) hd
  refine ⟨?_, ?_⟩
  · simp only [HX98_withRegister_79, HX98_withRegister_75, HX98_withRegister_50, HX98_withRegister_0, HX98_withRegister, X98_plain, p1, p2, hD, hD', true_and, and_true, and_false, false_and, or_false, false_or, not_true, not_false_iff, if_true, if_false, true_or, or_true, and_self, imp_true_iff, true_imp_iff, false_imp_iff]
  · rcases Classical.propComplete (g = 0) with g0 | g0 <;> rcases Classical.propComplete (g = Int32.ofInt 32) with g32 | g32 <;> rcases Classical.propComplete (g = Int32.ofInt 1) with g1 | g1 <;> rcases Classical.propComplete (f = 0) with f0 | f0 <;> rcases Classical.propComplete (f = Int32.ofInt 5) with f5 | f5 <;>
      simp only [GX98_withRegister_98, GX98_withRegister_79, GX98_withRegister_75, GX98_withRegister_50, GX98_withRegister_0, GX98_withRegister, X98_plain, p2, avR, fi_if, g0, g32, g1, f0, f5, true_and, and_true, and_false, false_and, or_false, false_or, not_true, not_false_iff, if_true, if_false, true_or, or_true, and_self, imp_true_iff, true_imp_iff, false_imp_iff] <;>
      first | exact Rn_1 | exact Rn_0 | exact Rn_q q | exact absurd ((of_eq_true g1).symm.trans (of_eq_true g32)) (by decide)
noncomputable def avW (f g w : Int32) (x : Int64) : Option Int64 :=
  fi (f = 0) (some (x + iI w).toInt32.toInt64) (fi (f = Int32.ofInt 1 ∧ g = 0) (some (x <<< ((nI (fd w 24 20)).toInt64 &&& 63)).toInt32.toInt64) (fi (f = Int32.ofInt 5 ∧ (g = 0 ∨ g = Int32.ofInt 32))
    (some (fi (g = 0) (x.toInt32.toUInt32 >>> ((nI (fd w 24 20)).toUInt32 &&& Int32.toUInt32 31)).toInt32.toInt64 (x.toInt32 >>> (nI (fd w 24 20) &&& 31)).toInt64)) none))
theorem X98_intImmediate {c : Nat} {M : FM} (T : Ty M) (n : fm_is M 94 94 c = true) {d : Int32} (hd : d5 d) (f g : Int32) :
    HX98_intImmediate c d f g M ∧ Rn c M d (avW f g (M.1 349 c 0) (M.2.1 351 c 0)) (GX98_intImmediate c d f g M) := by
  have i := X98_immediateI T n
  have hD : ∀ v, HX98_done c d v M := X98_done_H T n hd
  refine ⟨?_, ?_⟩
  · simp only [HX98_intImmediate_99, HX98_intImmediate_72, HX98_intImmediate_55, HX98_intImmediate_0, HX98_intImmediate, (X98_bits _ _ _ _ T n (hi := 24) (lo := 20) (by decide) (by decide) (show ui (Int32.ofInt 24) = 24 from rfl) (show ui (Int32.ofInt 20) = 20 from rfl)).1, (X98_bits _ _ _ _ T n (hi := 24) (lo := 20) (by decide) (by decide) (show ui (Int32.ofInt 24) = 24 from rfl) (show ui (Int32.ofInt 20) = 20 from rfl)).2, i, hD, true_and, and_true, and_false, false_and, or_false, false_or, not_true, not_false_iff, if_true, if_false, true_or, or_true, and_self, imp_true_iff, true_imp_iff, false_imp_iff]
  · rcases Classical.propComplete (g = 0) with g0 | g0 <;> rcases Classical.propComplete (g = Int32.ofInt 32) with g32 | g32 <;> rcases Classical.propComplete (f = 0) with f0 | f0 <;> rcases Classical.propComplete (f = Int32.ofInt 1) with f1 | f1 <;> rcases Classical.propComplete (f = Int32.ofInt 5) with f5 | f5 <;>
      simp only [GX98_intImmediate_99, GX98_intImmediate_72, GX98_intImmediate_70, GX98_intImmediate_55, GX98_intImmediate_0, GX98_intImmediate, (X98_bits _ _ _ _ T n (hi := 24) (lo := 20) (by decide) (by decide) (show ui (Int32.ofInt 24) = 24 from rfl) (show ui (Int32.ofInt 20) = 20 from rfl)).1, (X98_bits _ _ _ _ T n (hi := 24) (lo := 20) (by decide) (by decide) (show ui (Int32.ofInt 24) = 24 from rfl) (show ui (Int32.ofInt 20) = 20 from rfl)).2, i, avW, fi_if, g0, g32, f0, f1, f5, true_and, and_true, and_false, false_and, or_false, false_or, not_true, not_false_iff, if_true, if_false, true_or, or_true, and_self, imp_true_iff, true_imp_iff, false_imp_iff] <;>
      first | exact Rn_1 | exact Rn_0 | exact absurd ((of_eq_true f1).symm.trans (of_eq_true f5)) (by decide)
/-- a number without sign, or with one, out of the lower half -/
noncomputable def ext32 (s : Prop) (x : Int64) : Int64 := fi s x.toInt32.toInt64 (x &&& Int64.ofInt 4294967295)
noncomputable def avP (f : Int32) (x y : Int64) : Option Int64 :=
  fi (f = 0) (some (x * y).toInt32.toInt64) (fi (Int32.ofInt 4 ≤ f) (some (fi (Int32.ofInt 6 ≤ f) (dr (f = Int32.ofInt 4 ∨ f = Int32.ofInt 6) (ext32 (f = Int32.ofInt 4 ∨ f = Int32.ofInt 6) x) (ext32 (f = Int32.ofInt 4 ∨ f = Int32.ofInt 6) y))
    (dq (f = Int32.ofInt 4 ∨ f = Int32.ofInt 6) (ext32 (f = Int32.ofInt 4 ∨ f = Int32.ofInt 6) x) (ext32 (f = Int32.ofInt 4 ∨ f = Int32.ofInt 6) y))).toInt32.toInt64) none)
theorem X98_intProduct {c : Nat} {M : FM} (T : Ty M) (n : fm_is M 94 94 c = true) {d : Int32} (hd : d5 d) (f : Int32) :
    HX98_intProduct c d f M ∧ Rn c M d (avP f (M.2.1 351 c 0) (M.2.1 352 c 0)) (GX98_intProduct c d f M) := by
  have hD : ∀ M', sq c M M' → ∀ v, HX98_done c d v M' := fun M' q => X98_done_H (sq_ty q T) (sq_is q n) hd
  have dA := X98_divideAll T n
  have n1 : (¬ Int32.ofInt 1 = 0) = True := eq_true (by decide)
  have n2 : (¬ Int32.ofInt 0 = 0) = False := eq_false (fun h => h rfl)
  have hD0 := hD M sq_r
  have hDd : ∀ q r v, HX98_done c d v (dQ c q r M) := fun q r => hD _ sq_d
  refine ⟨?_, ?_⟩
  · simp only [HX98_intProduct_111, HX98_intProduct_88, HX98_intProduct_67, HX98_intProduct_44, HX98_intProduct_39, HX98_intProduct_0, HX98_intProduct, dA, hD0, hDd, n1, n2, true_and, and_true, and_false, false_and, or_false, false_or, not_true, not_false_iff, if_true, if_false, true_or, or_true, and_self, imp_true_iff, true_imp_iff, false_imp_iff]
  · rcases Classical.propComplete (f = 0) with f0 | f0 <;> rcases Classical.propComplete (Int32.ofInt 4 ≤ f) with f4l | f4l <;> rcases Classical.propComplete (f = Int32.ofInt 4) with f4 | f4 <;> rcases Classical.propComplete (f = Int32.ofInt 6) with f6 | f6 <;> rcases Classical.propComplete (Int32.ofInt 6 ≤ f) with f6l | f6l <;>
      simp only [GX98_intProduct_111, GX98_intProduct_88, GX98_intProduct_67, GX98_intProduct_44, GX98_intProduct_39, GX98_intProduct_0, GX98_intProduct, dA, avP, ext32, fi_if, f0, f4l, f4, f6, f6l, n1, n2, z00, z10, dQ_q, dQ_r, true_and, and_true, and_false, false_and, or_false, false_or, not_true, not_false_iff, if_true, if_false, true_or, or_true, and_self, imp_true_iff, true_imp_iff, false_imp_iff] <;>
      first | exact Rn_1 | exact Rn_0 | exact Rn_q sq_d
