/-! the component's actions: run -/
def Uv (r : Nat) (M M' : FM) (res : CR) : Prop :=
  M'.1 = M.1 ∧ M'.2.2 = M.2.2 ∧ (∀ f a j, (f = 3 → a ≠ M.2.2 178 r 0) → (f = 179 → a ≠ r) → M'.2.1 f a j = M.2.1 f a j) ∧
  (∀ j, M'.2.1 3 (M.2.2 178 r 0) j = if j = res.2.1 ∧ 0 < j then res.2.2.1 else M.2.1 3 (M.2.2 178 r 0) j) ∧ M'.2.1 179 r 0 = res.2.2.2.1
section
variable {r : Nat} {M : FM}
theorem X48_set_H (T : Ty M) (n : fm_is M 64 64 r = true) {k : Nat} (hk : k < 32) (v : Int64) : HX48_set r (nI k) v M := ⟨fun _ => trivial, fun _ => ⟨in32 (tL_178 T.1 n) ⟨k, hk, rfl⟩, trivial⟩⟩
theorem X48_set {k : Nat} (hk : k < 32) (v : Int64) : GX48_set r (nI k) v M = if k = 0 then M else fm_sL M 3 (M.2.2 178 r 0) k v := by
  unfold GX48_set GX48_set_0 GX48_set_11
  by_cases z : k = 0
  · rw [fi_pos ((put_le hk).mpr z), if_pos z]
  · rw [fi_neg (fun q => z ((put_le hk).mp q)), if_neg z, nI_clamp (by omega)]
theorem set_pc {k : Nat} (hk : k < 32) (v : Int64) : (GX48_set r (nI k) v M).2.1 179 r 0 = M.2.1 179 r 0 := by
  rw [X48_set hk]
  split
  · rfl
  · simp [rL]
theorem Uv_set {k : Nat} (hk : k < 32) (v to : Int64) (a : Int32) (o : Option Wt) : Uv r M (fm_sL (GX48_set r (nI k) v M) 179 r 0 to) (a, k, v, to, o) := by
  rw [X48_set hk]
  by_cases z : k = 0
  · rw [if_pos z]
    refine ⟨rfl, rfl, fun f b j _ h => ?_, fun j => ?_, ?_⟩
    · rw [rL, if_neg (fun q => h q.1 q.2.1)]
    · dsimp only
      rw [rL, if_neg (fun q => by omega), if_neg (by omega)]
    · rw [rL, if_pos ⟨rfl, rfl, rfl⟩]
  · rw [if_neg z]
    refine ⟨rfl, rfl, fun f b j g h => ?_, fun j => ?_, ?_⟩
    · rw [rL, if_neg (fun q => h q.1 q.2.1), rL, if_neg (fun q => g q.1 q.2.1)]
    · dsimp only
      rw [rL, if_neg (fun q => by omega), rL]
      by_cases q : j = k
      · rw [if_pos ⟨rfl, rfl, q⟩, if_pos ⟨q, by omega⟩]
      · rw [if_neg (fun e => q e.2.2), if_neg (fun e => q e.1)]
    · rw [rL, if_pos ⟨rfl, rfl, rfl⟩]
theorem Uv_go (to : Int64) (a : Int32) (o : Option Wt) : Uv r M (fm_sL M 179 r 0 to) (a, 0, Int64.ofInt 0, to, o) := by
  have h := Uv_set (r := r) (M := M) (k := 0) (by decide) (Int64.ofInt 0) to a o
  rw [X48_set (by decide), if_pos rfl] at h
  exact h
theorem Uv_r (a : Int32) (o : Option Wt) : Uv r M M (a, 0, Int64.ofInt 0, M.2.1 179 r 0, o) :=
  ⟨rfl, rfl, fun _ _ _ _ _ => rfl, fun j => by rw [if_neg (by rintro ⟨q, p⟩; dsimp only at q; omega)], rfl⟩
theorem X53_run (T : Ty M) (n : fm_is M 64 64 r = true) (x i : Nat) (len : Int32) {k : Nat} (hk : k < 32) (hd : M.1 151 i 0 = nI k) :
    HX53_run x r i len M ∧ GX53_run x r i len M = (Int32.ofInt 0, fm_sL (GX48_set r (nI k) (M.2.1 154 i 0 + fi (M.1 148 x 0 = 0) (Int64.ofInt 0) (M.2.1 179 r 0)) M) 179 r 0 (M.2.1 179 r 0 + len.toInt64)) := by
  refine ⟨?_, ?_⟩
  · simp only [HX53_run_24, HX53_run_0, HX53_run, hd, X48_set_H T n hk, true_and, and_true, and_false, false_and, or_false, false_or, not_true, not_false_iff, if_true, if_false, true_or, or_true, and_self, imp_true_iff, true_imp_iff, false_imp_iff]
  · rcases Classical.propComplete (M.1 148 x 0 = 0) with q | q <;> simp only [GX53_run_24, GX53_run_0, GX53_run, hd, fi_if, q, set_pc hk, true_and, and_true, and_false, false_and, or_false, false_or, not_true, not_false_iff, if_true, if_false, true_or, or_true, and_self, imp_true_iff, true_imp_iff, false_imp_iff]
theorem X54_run (T : Ty M) (n : fm_is M 64 64 r = true) (x i : Nat) (len : Int32) {k a : Nat} (hk : k < 32) (hd : M.1 151 i 0 = nI k) (ha : a < 32) (hi : M.1 152 i 0 = nI a) :
    HX54_run x r i len M ∧ GX54_run x r i len M = (Int32.ofInt 0, fm_sL (GX48_set r (nI k) (M.2.1 179 r 0 + len.toInt64) M) 179 r 0 (fi (M.1 147 x 0 = 0) (M.2.1 179 r 0 + M.2.1 154 i 0) ((M.2.1 3 (M.2.2 178 r 0) a + M.2.1 154 i 0) &&& Int64.ofInt (-2)))) := by
  have a1 : fm_in M (M.2.2 178 r 0) (nI a) = true := in32 (tL_178 T.1 n) ⟨a, ha, rfl⟩
  have a2 : (nI a).toNatClampNeg = a := nI_clamp (by omega)
  refine ⟨?_, ?_⟩
  · simp only [HX54_run_37, HX54_run_0, HX54_run, hd, hi, a1, X48_set_H T n hk, true_and, and_true, and_false, false_and, or_false, false_or, not_true, not_false_iff, if_true, if_false, true_or, or_true, and_self, imp_true_iff, true_imp_iff, false_imp_iff]
  · rcases Classical.propComplete (M.1 147 x 0 = 0) with q | q <;> simp only [GX54_run_37, GX54_run_0, GX54_run, hd, hi, a2, fi_if, q, true_and, and_true, and_false, false_and, or_false, false_or, not_true, not_false_iff, if_true, if_false, true_or, or_true, and_self, imp_true_iff, true_imp_iff, false_imp_iff]
theorem X56_run (T : Ty M) (n : fm_is M 64 64 r = true) (x i : Nat) (len : Int32) {k a b : Nat} (hk : k < 32) (hd : M.1 151 i 0 = nI k) (ha : a < 32) (hi : M.1 152 i 0 = nI a) (hb : b < 32) (hj : M.1 153 i 0 = nI b) (hs : fm_is M 4 4 (M.2.2 155 i 0) = true) {y : Int64}
    (hy : y = fi (M.1 156 i 0 = 0) (M.2.1 154 i 0) (M.2.1 3 (M.2.2 178 r 0) b)) :
    HX56_run x r i len M ∧ GX56_run x r i len M = (Int32.ofInt 0, fm_sL (GX48_set r (nI k) (fi (M.1 157 i 0 = 0) (rk (M.1 10 (M.2.2 155 i 0) 0) (M.2.1 3 (M.2.2 178 r 0) a) y) (rki (M.1 10 (M.2.2 155 i 0) 0) (M.2.1 3 (M.2.2 178 r 0) a).toInt32 y.toInt32)) M) 179 r 0 (M.2.1 179 r 0 + len.toInt64)) := by
  have a1 : fm_in M (M.2.2 178 r 0) (nI a) = true := in32 (tL_178 T.1 n) ⟨a, ha, rfl⟩
  have a2 : (nI a).toNatClampNeg = a := nI_clamp (by omega)
  have b1 : fm_in M (M.2.2 178 r 0) (nI b) = true := in32 (tL_178 T.1 n) ⟨b, hb, rfl⟩
  have b2 : (nI b).toNatClampNeg = b := nI_clamp (by omega)
  subst hy
  refine ⟨?_, ?_⟩
  · simp only [HX56_run_75, HX56_run_34, HX56_run_0, HX56_run, hd, hi, hj, a1, b1, hs, X106_reckon, X106_reckonInt, X48_set_H T n hk, true_and, and_true, and_false, false_and, or_false, false_or, not_true, not_false_iff, if_true, if_false, true_or, or_true, and_self, imp_true_iff, true_imp_iff, false_imp_iff]
  · rcases Classical.propComplete (M.1 156 i 0 = 0) with q | q <;> rcases Classical.propComplete (M.1 157 i 0 = 0) with q2 | q2 <;> simp only [GX56_run_75, GX56_run_34, GX56_run_0, GX56_run, hd, hi, hj, a2, b2, X106_reckon, X106_reckonInt, fi_if, q, q2, set_pc hk, true_and, and_true, and_false, false_and, or_false, false_or, not_true, not_false_iff, if_true, if_false, true_or, or_true, and_self, imp_true_iff, true_imp_iff, false_imp_iff]
end
