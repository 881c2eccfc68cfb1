/-! the component's decoder: what its parts write -/
noncomputable def pl (f : Int32) : Nat := fi (f = Int32.ofInt 0) 15 (fi (f = Int32.ofInt 1) 17 (fi (f = Int32.ofInt 2) 18 (fi (f = Int32.ofInt 3) 19 (fi (f = Int32.ofInt 4) 20 (fi (f = Int32.ofInt 5) 21 (fi (f = Int32.ofInt 6) 23 24))))))
noncomputable def pd (f : Int32) : Nat := fi (f = Int32.ofInt 0) 25 (fi (f = Int32.ofInt 1) 26 (fi (f = Int32.ofInt 2) 27 (fi (f = Int32.ofInt 3) 28 (fi (f = Int32.ofInt 4) 29 (fi (f = Int32.ofInt 5) 30 (fi (f = Int32.ofInt 6) 31 32))))))
noncomputable def bf (f g : Int32) : Nat := fi (g = 0) (pl f) (fi (g = Int32.ofInt 1) (pd f) (fi (g = Int32.ofInt 32) (fi (f = 0) 16 (fi (f = Int32.ofInt 5) 22 0)) 0))
theorem nfi {M : FM} {c : Prop} {t e : Nat × FM} {a b : Nat} (h : t = (a, M)) (k : e = (b, M)) : fi c t e = (fi c a b, M) := by
  rw [h, k]
  exact (fi_ap (fun z => (z, M))).symm
theorem X49_plain (f : Int32) (M : FM) : GX49_plain f M = (pl f, M) := by
  unfold GX49_plain GX49_plain_0
  exact nfi rfl (nfi rfl (nfi rfl (nfi rfl (nfi rfl (nfi rfl (nfi rfl rfl))))))
theorem X49_product (f : Int32) (M : FM) : GX49_product f M = (pd f, M) := by
  unfold GX49_product GX49_product_0
  exact nfi rfl (nfi rfl (nfi rfl (nfi rfl (nfi rfl (nfi rfl (nfi rfl rfl))))))
theorem X49_byField (f g : Int32) (M : FM) : GX49_byField f g M = (bf f g, M) := by
  rcases Classical.propComplete (g = 0) with g0 | g0 <;> rcases Classical.propComplete (g = Int32.ofInt 1) with g1 | g1 <;> rcases Classical.propComplete (g = Int32.ofInt 32) with g32 | g32 <;> rcases Classical.propComplete (f = 0) with f0 | f0 <;> rcases Classical.propComplete (f = Int32.ofInt 5) with f5 | f5 <;>
    simp only [GX49_byField_53, GX49_byField_52, GX49_byField_35, GX49_byField_0, GX49_byField, X49_plain, X49_product, bf, fi_if, g0, g1, g32, f0, f5, true_and, and_true, and_false, false_and, or_false, false_or, not_true, not_false_iff, if_true, if_false, true_or, or_true, and_self, imp_true_iff, true_imp_iff, false_imp_iff]
theorem tS {M : FM} (T : Ty M) (f : Int32) : fm_is M 4 4 (pl f) = true ∧ fm_is M 4 4 (pd f) = true := by
  have h := (gX49_plain f M T).2.2.2
  have k := (gX49_product f M T).2.2.2
  rw [X49_plain] at h
  rw [X49_product] at k
  exact ⟨h, k⟩
theorem tBf {M : FM} (T : Ty M) (f g : Int32) : bf f g ≠ 0 → fm_is M 4 4 (bf f g) = true := by
  unfold bf
  intro h
  by_cases g0 : g = 0
  · rw [fi_pos g0]
    exact (tS T f).1
  rw [fi_neg g0] at h ⊢
  by_cases g1 : g = Int32.ofInt 1
  · rw [fi_pos g1]
    exact (tS T f).2
  rw [fi_neg g1] at h ⊢
  by_cases g2 : g = Int32.ofInt 32
  · rw [fi_pos g2] at h ⊢
    by_cases f0 : f = 0
    · rw [fi_pos f0]
      exact tC_16 T.1
    rw [fi_neg f0] at h ⊢
    by_cases f5 : f = Int32.ofInt 5
    · rw [fi_pos f5]
      exact tC_22 T.1
    · rw [fi_neg f5] at h
      exact absurd rfl h
  · rw [fi_neg g2] at h
    exact absurd rfl h
/-- memory behind: compute, access, foreign -/
def mC (i s : Nat) (r o : Int32) (v : Int64) (M : FM) : FM := fm_sL (fm_sI (fm_sI (fm_sR M 155 i 0 s) 156 i 0 r) 157 i 0 o) 154 i 0 v
def mA (i : Nat) (k : Int32) (v : Int64) (z s : Int32) (M : FM) : FM := fm_sI (fm_sI (fm_sL (fm_sI M 158 i 0 k) 154 i 0 v) 159 i 0 z) 160 i 0 s
theorem X49_compute (c i s : Nat) (r o : Int32) (v : Int64) (M : FM) : GX49_compute c i s r o v M = (fi (s = 0) (M.2.2 161 c 0) (M.2.2 168 c 0), mC i s r o v M) := by
  unfold GX49_compute GX49_compute_0
  refine nfi ?_ ?_
  · unfold GX49_compute_37 mC
    simp [rR, rL2, rI2]
  · unfold GX49_compute_37 mC
    simp [rR, rL2, rI2]
theorem X49_access (c i : Nat) (is k : Int32) (v : Int64) (z s : Int32) (M : FM) : GX49_access c i is k v z s M = (fi (is = 0) (M.2.2 161 c 0) (M.2.2 169 c 0), mA i k v z s M) := by
  unfold GX49_access GX49_access_0
  exact nfi rfl rfl
