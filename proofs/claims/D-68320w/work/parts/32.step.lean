/-! the component's step, by the action -/
theorem isx {M : FM} {x t : Nat} (h : M.2.2 0 x 0 = t) (u : Nat) : (fm_is M u u x = true) = (t = u) := by
  apply propext
  constructor
  · intro q
    have := fm_isd q
    omega
  · intro q
    exact fm_isi (by omega) (by omega)
noncomputable def drun (x r i : Nat) (len : Int32) (M : FM) : Int32 × FM :=
  (fi (fm_is M 53 53 x = true) (GX57_run x r i len M) ((fi (fm_is M 54 54 x = true) (GX55_run x r i len M) ((fi (fm_is M 55 55 x = true) (GX56_run x r i len M) ((fi (fm_is M 56 56 x = true) (GX52_run x r i len M) ((fi (fm_is M 57 57 x = true) (GX58_run x r i len M) ((fi (fm_is M 58 58 x = true) (GX51_run x r i len M) ((fi (fm_is M 59 59 x = true) (GX54_run x r i len M) (GX53_run x r i len M))))))))))))))
/-- the decoder's actions -/
def DecT (c : Nat) (M : FM) : Prop := M.2.2 0 (M.2.2 161 c 0) 0 = 58 ∧ M.2.2 0 (M.2.2 162 c 0) 0 = 56 ∧ (M.2.2 0 (M.2.2 163 c 0) 0 = 60 ∧ M.1 148 (M.2.2 163 c 0) 0 = 0) ∧ (M.2.2 0 (M.2.2 164 c 0) 0 = 60 ∧ ¬ M.1 148 (M.2.2 164 c 0) 0 = 0) ∧
  (M.2.2 0 (M.2.2 165 c 0) 0 = 59 ∧ M.1 147 (M.2.2 165 c 0) 0 = 0) ∧ (M.2.2 0 (M.2.2 166 c 0) 0 = 59 ∧ ¬ M.1 147 (M.2.2 166 c 0) 0 = 0) ∧ M.2.2 0 (M.2.2 167 c 0) 0 = 54 ∧ M.2.2 0 (M.2.2 168 c 0) 0 = 55 ∧ M.2.2 0 (M.2.2 169 c 0) 0 = 53 ∧ M.2.2 0 (M.2.2 170 c 0) 0 = 57
section
variable {x r i : Nat} {len : Int32} {M : FM}
theorem drun_53 (h : M.2.2 0 x 0 = 53) : drun x r i len M = GX57_run x r i len M := by simp (decide := true) only [drun, isx h, fi_if, if_true, if_false]
theorem drun_54 (h : M.2.2 0 x 0 = 54) : drun x r i len M = GX55_run x r i len M := by simp (decide := true) only [drun, isx h, fi_if, if_true, if_false]
theorem drun_55 (h : M.2.2 0 x 0 = 55) : drun x r i len M = GX56_run x r i len M := by simp (decide := true) only [drun, isx h, fi_if, if_true, if_false]
theorem drun_56 (h : M.2.2 0 x 0 = 56) : drun x r i len M = GX52_run x r i len M := by simp (decide := true) only [drun, isx h, fi_if, if_true, if_false]
theorem drun_57 (h : M.2.2 0 x 0 = 57) : drun x r i len M = GX58_run x r i len M := by simp (decide := true) only [drun, isx h, fi_if, if_true, if_false]
theorem drun_58 (h : M.2.2 0 x 0 = 58) : drun x r i len M = GX51_run x r i len M := by simp (decide := true) only [drun, isx h, fi_if, if_true, if_false]
theorem drun_59 (h : M.2.2 0 x 0 = 59) : drun x r i len M = GX54_run x r i len M := by simp (decide := true) only [drun, isx h, fi_if, if_true, if_false]
theorem drun_60 (h : M.2.2 0 x 0 = 60) : drun x r i len M = GX53_run x r i len M := by simp (decide := true) only [drun, isx h, fi_if, if_true, if_false]
end
/-- what a step of the component gives -/
def St (r : Nat) (M : FM) (q : Int32 × FM) (res : CR) : Prop := q.1 = res.1 ∧ Uv r M q.2 res
def Od (M : FM) : Prop := ∀ k, 15 ≤ k → k ≤ 32 → M.1 10 k 0 = oS k
section
variable {c r i : Nat} {len w : Int32} {M : FM}
theorem st_ill (DT : DecT c M) (h : act c i 161 M) : St r M (drun (M.2.2 149 i 0) r i len M) (cill (M.2.1 179 r 0)) := by
  rw [drun_58 (by rw [h]; exact DT.1)]
  exact ⟨rfl, Uv_r _ _⟩
theorem st_cmp (T : Ty M) (n : fm_is M 64 64 r = true) (DT : DecT c M) (O : Od M) {k a b s : Nat} {rr o : Int32} {v : Int64} (hk : k < 32) (ha : a < 32) (hi : M.1 152 i 0 = nI a) (hb : b < 32) (hj : M.1 153 i 0 = nI b)
    (hs : ¬ s = 0 → fm_is M 4 4 s = true ∧ 15 ≤ s ∧ s ≤ 32) (h : dCmp c i s rr o v (nI k) M) {av : Option Int64} {y : Int64} (hy : y = fi (rr = 0) v (M.2.1 3 (M.2.2 178 r 0) b))
    (e : Same av s (fi (o = 0) (rk (oS s) (M.2.1 3 (M.2.2 178 r 0) a) y) (rki (oS s) (M.2.1 3 (M.2.2 178 r 0) a).toInt32 y.toInt32))) :
    St r M (drun (M.2.2 149 i 0) r i len M) (cval av k (M.2.1 179 r 0 + len.toInt64) (M.2.1 179 r 0)) := by
  by_cases z : s = 0
  · rw [e.1 z]
    exact st_ill DT (h.2 z)
  · rw [e.2 z]
    obtain ⟨t1, t2, t3⟩ := hs z
    obtain ⟨h1, h2, h3, h4, h5, h6⟩ := h.1 z
    rw [drun_55 (by rw [h1]; exact DT.2.2.2.2.2.2.2.1)]
    have q := (X56_run T n (M.2.2 149 i 0) i len hk h6 ha hi hb hj (by rw [h2]; exact t1) (y := y) (by rw [h3, h5]; exact hy)).2
    rw [h2, h4, O s t2 t3] at q
    rw [q]
    exact ⟨rfl, Uv_set hk _ _ _ _⟩
end
theorem pl_r {f : Int32} (h : n8 f) : 15 ≤ pl f ∧ pl f ≤ 32 := by
  rcases h with rfl | rfl | rfl | rfl | rfl | rfl | rfl | rfl <;> simp (decide := true) only [pl, fi_if, if_true, if_false]
theorem pd_r {f : Int32} (h : n8 f) : 15 ≤ pd f ∧ pd f ≤ 32 := by
  rcases h with rfl | rfl | rfl | rfl | rfl | rfl | rfl | rfl <;> simp (decide := true) only [pd, fi_if, if_true, if_false]
theorem bf_r {f : Int32} (h : n8 f) (g : Int32) : ¬ bf f g = 0 → 15 ≤ bf f g ∧ bf f g ≤ 32 := by
  have a := pl_r h
  have b := pd_r h
  rcases Classical.propComplete (g = 0) with g0 | g0 <;> rcases Classical.propComplete (g = Int32.ofInt 1) with g1 | g1 <;> rcases Classical.propComplete (g = Int32.ofInt 32) with g2 | g2 <;> rcases Classical.propComplete (f = 0) with f0 | f0 <;> rcases Classical.propComplete (f = Int32.ofInt 5) with f5 | f5 <;>
    simp (decide := true) only [bf, fi_if, g0, g1, g2, f0, f5, a, b, true_and, and_true, and_false, false_and, or_false, false_or, not_true, not_false_iff, if_true, if_false, true_or, or_true, and_self, imp_true_iff, true_imp_iff, false_imp_iff]
theorem sI_r {M : FM} (T : Ty M) {f : Int32} (h : n8 f) (o w : Int32) : ¬ sI f o w = 0 → fm_is M 4 4 (sI f o w) = true ∧ 15 ≤ sI f o w ∧ sI f o w ≤ 32 := by
  have a := pl_r h
  have b := bf_r h (gI o w)
  have t := tBf T f (gI o w)
  have u := (tS T f).1
  unfold sI
  simp only [fi_if]
  split
  · split
    · exact fun z => ⟨t z, b z⟩
    · exact fun z => absurd rfl z
  · split
    · exact fun z => ⟨u, a⟩
    · exact fun z => absurd rfl z
theorem sR_r {M : FM} (T : Ty M) {f : Int32} (h : n8 f) (o g : Int32) : ¬ sR f o g = 0 → fm_is M 4 4 (sR f o g) = true ∧ 15 ≤ sR f o g ∧ sR f o g ≤ 32 := by
  have b := bf_r h g
  have t := tBf T f g
  unfold sR
  simp only [fi_if]
  split
  · exact fun z => absurd rfl z
  · exact fun z => ⟨t z, b z⟩
