/-! the component's step: what is wanted -/
noncomputable def dwant (x r i : Nat) (q : Int32) (M : FM) : Int64 × FM :=
  (fi (fm_is M 53 53 x = true) (GX57_wanted x r i q M) ((fi (fm_is M 54 54 x = true) (GX50_wanted x r i q M) ((fi (fm_is M 55 55 x = true) (GX50_wanted x r i q M) ((fi (fm_is M 56 56 x = true) (GX50_wanted x r i q M) ((fi (fm_is M 57 57 x = true) (GX58_wanted x r i q M) ((fi (fm_is M 58 58 x = true) (GX50_wanted x r i q M) ((fi (fm_is M 59 59 x = true) (GX50_wanted x r i q M) (GX50_wanted x r i q M))))))))))))))
theorem dwant_53 {x r i : Nat} {q : Int32} {M : FM} (h : M.2.2 0 x 0 = 53) : dwant x r i q M = GX57_wanted x r i q M := by simp (decide := true) only [dwant, isx h, fi_if, if_true, if_false]
theorem dwant_57 {x r i : Nat} {q : Int32} {M : FM} (h : M.2.2 0 x 0 = 57) : dwant x r i q M = GX58_wanted x r i q M := by simp (decide := true) only [dwant, isx h, fi_if, if_true, if_false]
def Wn (x r i : Nat) (M : FM) (q : Wt) : Prop := dwant x r i (Int32.ofInt 0) M = (q.2.1, M) ∧ dwant x r i (Int32.ofInt 1) M = (q.2.2.1, M) ∧ dwant x r i (Int32.ofInt 2) M = (q.2.2.2.1, M) ∧ dwant x r i (Int32.ofInt 3) M = (q.2.2.2.2.1, M) ∧ dwant x r i (Int32.ofInt 4) M = (q.2.2.2.2.2.toInt64, M)
/-- a step, and what it wants -/
def Sw (r i : Nat) (M : FM) (len : Int32) (res : CR) : Prop := St r M (drun (M.2.2 149 i 0) r i len M) res ∧ ∀ q, res.2.2.2.2 = some q → Wn (M.2.2 149 i 0) r i M q
section
variable {c r i : Nat} {len : Int32} {M : FM}
theorem sw_ill (DT : DecT c M) (h : act c i 161 M) : Sw r i M len (cwt none (M.2.1 179 r 0)) := ⟨st_ill DT h, fun q e => by cases e⟩
theorem sw_acc (T : Ty M) (n : fm_is M 64 64 r = true) (DT : DecT c M) {a b : Nat} (ha : a < 32) (hi : M.1 152 i 0 = nI a) (hb : b < 32) (hj : M.1 153 i 0 = nI b) {P : Prop} {k z s d : Int32} {v : Int64} (h : dAcc c i P k v z s d M) {o : Option Wt}
    (e0 : ¬ P → o = none) (e1 : P → o = some (k, M.2.1 3 (M.2.2 178 r 0) a + v, z.toInt64, fi (k = Int32.ofInt 3 ∨ k = Int32.ofInt 4) (M.2.1 3 (M.2.2 178 r 0) b) (Int64.ofInt 0), s.toInt64, d)) : Sw r i M len (cwt o (M.2.1 179 r 0)) := by
  by_cases p : P
  · rw [e1 p]
    obtain ⟨h1, h2, h3, h4, h5, h6⟩ := h.1 p
    have t : M.2.2 0 (M.2.2 149 i 0) 0 = 53 := by rw [h1]; exact DT.2.2.2.2.2.2.2.2.1
    refine ⟨?_, fun q e => ?_⟩
    · rw [drun_53 t]
      exact ⟨h2, Uv_r _ _⟩
    · obtain rfl : _ = q := Option.some.inj e
      unfold Wn
      simp only [dwant_53 t, (X57_wanted T n (M.2.2 149 i 0) i ha hi hb hj _).2, h2, h3, h4, h5, h6]
      simp (decide := true) only [fi_if, if_true, if_false, and_self]
  · rw [e0 p]
    exact sw_ill DT (h.2 p)
theorem sw_for (T : Ty M) (n : fm_is M 64 64 r = true) (DT : DecT c M) {a : Nat} (ha : a < 32) (hi : M.1 152 i 0 = nI a) {P : Prop} {k m rr s d : Int32} (h : dFor c i P k m rr s d M) {o : Option Wt}
    (e0 : ¬ P → o = none) (e1 : P → o = some (k, m.toInt64, Int64.ofInt 0, fi (rr = 0) (nI a).toInt64 (M.2.1 3 (M.2.2 178 r 0) a), s.toInt64, d)) : Sw r i M len (cwt o (M.2.1 179 r 0)) := by
  by_cases p : P
  · rw [e1 p]
    obtain ⟨h1, h2, h3, h4, h5, h6⟩ := h.1 p
    have t : M.2.2 0 (M.2.2 149 i 0) 0 = 57 := by rw [h1]; exact DT.2.2.2.2.2.2.2.2.2
    refine ⟨?_, fun q e => ?_⟩
    · rw [drun_57 t]
      exact ⟨h2, Uv_r _ _⟩
    · obtain rfl : _ = q := Option.some.inj e
      unfold Wn
      simp only [dwant_57 t, (X58_wanted T n (M.2.2 149 i 0) i ha hi _).2, h3, h4, h5, h6]
      simp (decide := true) only [fi_if, if_true, if_false, and_self]
  · rw [e0 p]
    exact sw_ill DT (h.2 p)
end
theorem at_n (b : Prop) : ∀ n, n < 32 → ((nI n < Int32.ofInt 4 ∨ nI n &&& Int32.ofInt 3 = 0) ↔ (Int32.ofInt 5 ≤ nI n → nI n - nI n / Int32.ofInt 4 * Int32.ofInt 4 = 0 ∧ ¬ Int32.ofInt 29 ≤ nI n)) ∧ (Int32.ofInt 5 ≤ nI n → ¬ nI n = Int32.ofInt 2) := by decide
theorem pw_z {f : Int32} (h : n8 f) (q : ¬ Int32.ofInt 4 ≤ f) : (Int32.ofInt 1 <<< (f &&& 31)).toInt64 = pw f := by
  rcases h with rfl | rfl | rfl | rfl | rfl | rfl | rfl | rfl <;> first | exact absurd (by decide) q | (simp (decide := true) only [pw, fi_if, if_true, if_false])
theorem pw_l {f : Int32} (h : n8 f) : (Int32.ofInt 1 <<< ((f &&& Int32.ofInt 3) &&& 31)).toInt64 = pw (f - f / Int32.ofInt 4 * Int32.ofInt 4) ∧ (f >>> (Int32.ofInt 2 &&& 31)).toInt64 = fi (f ≤ Int32.ofInt 3) (Int64.ofInt 0) (Int64.ofInt 1) := by
  rcases h with rfl | rfl | rfl | rfl | rfl | rfl | rfl | rfl <;> simp (decide := true) only [pw, fi_if, if_true, if_false, and_self]
