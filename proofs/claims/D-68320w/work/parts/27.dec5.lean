/-! the component's decoder: read, and what it leaves -/
def Dfr (i : Nat) (M N : FM) : Prop := ∀ f a j, (a = i → f < 149 ∨ 160 < f) → N.1 f a j = M.1 f a j ∧ N.2.1 f a j = M.2.1 f a j ∧ N.2.2 f a j = M.2.2 f a j
section
variable {i : Nat} {M N : FM} {f j : Nat}
theorem dfr_I {v : Int32} (h : Dfr i M N) (hf : 149 ≤ f ∧ f ≤ 160) : Dfr i M (fm_sI N f i j v) := by
  intro g a l q
  obtain ⟨k1, k2, k3⟩ := h g a l q
  refine ⟨?_, k2, k3⟩
  rw [rI, if_neg (fun e => by have := q e.2.1; omega), k1]
theorem dfr_L {v : Int64} (h : Dfr i M N) (hf : 149 ≤ f ∧ f ≤ 160) : Dfr i M (fm_sL N f i j v) := by
  intro g a l q
  obtain ⟨k1, k2, k3⟩ := h g a l q
  refine ⟨k1, ?_, k3⟩
  rw [rL, if_neg (fun e => by have := q e.2.1; omega), k2]
theorem dfr_R {v : Nat} (h : Dfr i M N) (hf : 149 ≤ f ∧ f ≤ 160) : Dfr i M (fm_sR N f i j v) := by
  intro g a l q
  obtain ⟨k1, k2, k3⟩ := h g a l q
  refine ⟨k1, k2, ?_⟩
  rw [rR, if_neg (fun e => by have := q e.2.1; omega), k3]
end
theorem dfr_r (i : Nat) (M : FM) : Dfr i M M := fun _ _ _ _ => ⟨rfl, rfl, rfl⟩
section
variable {i : Nat} {M N : FM}
theorem dfr_mA (h : Dfr i M N) {k : Int32} {v : Int64} {z s : Int32} : Dfr i M (mA i k v z s N) := dfr_I (dfr_I (dfr_L (dfr_I h (by decide)) (by decide)) (by decide)) (by decide)
theorem dfr_mF (h : Dfr i M N) {k n r s : Int32} : Dfr i M (mF i k n r s N) := dfr_I (dfr_I (dfr_L (dfr_I h (by decide)) (by decide)) (by decide)) (by decide)
theorem dfr_mC (h : Dfr i M N) {s : Nat} {r o : Int32} {v : Int64} : Dfr i M (mC i s r o v N) := dfr_L (dfr_I (dfr_I (dfr_R h (by decide)) (by decide)) (by decide)) (by decide)
end
theorem dfr_fi {i : Nat} {M : FM} {c : Prop} {t e : Nat × FM} (h : Dfr i M t.2) (k : Dfr i M e.2) : Dfr i M (fi c t e).2 := by
  by_cases q : c
  · rw [fi_pos q]
    exact h
  · rw [fi_neg q]
    exact k
theorem find_fr (c i : Nat) (k f : Int32) (M N : FM) (h : Dfr i M N) : Dfr i M (GX49_find c i k f N).2 := by
  rw [find_w]
  simp only [GX49_find_15, GX49_find_344, GX49_find_330, GX49_find_374, GX49_find_421, GX49_find_444, GX49_find_465, GX49_find_266, X49_access, X49_foreign, X49_store, X49_atomic, X49_branch, X49_jump, X49_immediate, X49_registers, X49_compute, X105_immediateI, X105_immediateU, X105_immediateJ, b3120]
  repeat' apply dfr_fi
  all_goals first | exact h | exact dfr_mA h | exact dfr_mF h | exact dfr_mC h | exact dfr_L h (by decide) | exact dfr_mA (dfr_I h (by decide)) | exact dfr_I (dfr_L h (by decide)) (by decide)
/-- an instruction that was taken apart for the word w -/
def Dec (c i : Nat) (w : Int32) (M : FM) : Prop := M.1 150 i 0 = w ∧ M.1 152 i 0 = nI (fd w 19 15) ∧ M.1 153 i 0 = nI (fd w 24 20) ∧ DA c i (nI (fd w 6 0)) (nI (fd w 14 12)) w M
/-- the four numbers stay through find -/
theorem find_ab (c i : Nat) (k f : Int32) (N : FM) : (GX49_find c i k f N).2.1 150 i 0 = N.1 150 i 0 ∧ (GX49_find c i k f N).2.1 152 i 0 = N.1 152 i 0 ∧ (GX49_find c i k f N).2.1 153 i 0 = N.1 153 i 0 := by
  rw [find_w]
  have F : ∀ {c : Prop} {t e : Nat × FM}, (t.2.1 150 i 0 = N.1 150 i 0 ∧ t.2.1 152 i 0 = N.1 152 i 0 ∧ t.2.1 153 i 0 = N.1 153 i 0) → (e.2.1 150 i 0 = N.1 150 i 0 ∧ e.2.1 152 i 0 = N.1 152 i 0 ∧ e.2.1 153 i 0 = N.1 153 i 0) →
      ((fi c t e).2.1 150 i 0 = N.1 150 i 0 ∧ (fi c t e).2.1 152 i 0 = N.1 152 i 0 ∧ (fi c t e).2.1 153 i 0 = N.1 153 i 0) := by
    intro c t e h k
    by_cases q : c
    · rw [fi_pos q]
      exact h
    · rw [fi_neg q]
      exact k
  simp only [GX49_find_15, GX49_find_344, GX49_find_330, GX49_find_374, GX49_find_421, GX49_find_444, GX49_find_465, GX49_find_266, X49_access, X49_foreign, X49_store, X49_atomic, X49_branch, X49_jump, X49_immediate, X49_registers, X49_compute, X105_immediateI, X105_immediateU, X105_immediateJ, b3120]
  repeat' apply F
  all_goals exact ⟨rfl, rfl, rfl⟩
theorem X49_read {c i : Nat} {M : FM} (T : Ty M) (w : Int32) :
    HX49_read c w i M ∧ Dfr i M (GX49_read c w i M) ∧ Dec c i w (GX49_read c w i M) := by
  generalize hN : fm_sI (fm_sI (fm_sI (fm_sI M 150 i 0 w) 151 i 0 (nI (fd w 11 7))) 152 i 0 (nI (fd w 19 15))) 153 i 0 (nI (fd w 24 20)) = N
  have e : GX49_read c w i M = fm_sR (GX49_find c i (nI (fd w 6 0)) (nI (fd w 14 12)) N).2 149 i 0 (GX49_find c i (nI (fd w 6 0)) (nI (fd w 14 12)) N).1 := by
    rw [← hN]
    simp only [GX49_read, GX49_read_0, b1107, b1915, b2420, b0600, b1412]
  have N1 : N.1 150 i 0 = w := by rw [← hN]; simp [rI]
  have N2 : N.1 151 i 0 = nI (fd w 11 7) := by rw [← hN]; simp [rI]
  have N3 : N.1 152 i 0 = nI (fd w 19 15) := by rw [← hN]; simp [rI]
  have N4 : N.1 153 i 0 = nI (fd w 24 20) := by rw [← hN]; simp [rI]
  have TN : Ty N := by
    rw [← hN]
    exact ⟨T.1, tyb_sI rfl (tyb_sI rfl (tyb_sI rfl (tyb_sI rfl T.2)))⟩
  have fr : Dfr i M N := by
    rw [← hN]
    exact dfr_I (dfr_I (dfr_I (dfr_I (dfr_r i M) (by decide)) (by decide)) (by decide)) (by decide)
  refine ⟨?_, ?_, ?_⟩
  · simp only [HX49_read, HX49_read_0, b1107, b1915, b2420, b0600, b1412, and_true]
    rw [hN]
    exact X49_find_H TN _ _
  · rw [e]
    exact dfr_R (find_fr _ _ _ _ _ _ fr) (by decide)
  · rw [e]
    obtain ⟨f1, f2, f3⟩ := find_ab c i (nI (fd w 6 0)) (nI (fd w 14 12)) N
    exact ⟨f1.trans N1, f2.trans N3, f3.trans N4, X49_find N1 N2 N4⟩
