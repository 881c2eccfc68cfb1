/-! the component: the five numbers that are wanted are written down -/
set_option maxRecDepth 100000
section Ru
variable {a i j : Nat} {ans : Int32} {N : FM}
noncomputable def wts (W : Nat) (q : Wt) (N : FM) : FM := fm_sL (fm_sL (fm_sL (fm_sL (fm_sL N 3 W 0 q.2.1) 3 W 1 q.2.2.1) 3 W 2 q.2.2.2.1) 3 W 3 q.2.2.2.2.1) 3 W 4 q.2.2.2.2.2.toInt64
def wfr (W : Nat) (N N' : FM) : Prop := N'.1 = N.1 ∧ N'.2.2 = N.2.2 ∧ ∀ f b l, ¬ (f = 3 ∧ b = W) → N'.2.1 f b l = N.2.1 f b l
theorem wfr_r (W : Nat) (N : FM) : wfr W N N := ⟨rfl, rfl, fun _ _ _ _ => rfl⟩
theorem wfr_s {W k : Nat} {v : Int64} {N N' : FM} (h : wfr W N N') : wfr W N (fm_sL N' 3 W k v) := ⟨h.1, h.2.1, fun f b l z => by
  rw [rL, if_neg (fun q => z ⟨q.1, q.2.1⟩)]
  exact h.2.2 f b l z⟩
theorem run_5 (T : Ty N) (n : fm_is N 63 63 a = true) (ni : fm_is N 61 61 i = true) (hx : N.2.2 0 (N.2.2 149 i 0) 0 = 53 ∨ N.2.2 0 (N.2.2 149 i 0) 0 = 57) {p q' : Nat} (hp : p < 32) (h1 : N.1 152 i 0 = nI p) (hq : q' < 32) (h2 : N.1 153 i 0 = nI q') {q : Wt}
    (hW : ∀ N', wfr (N.2.2 175 a 0) N N' → Wn (N.2.2 149 i 0) (N.2.2 171 a 0) i N' q) :
    FX47_run_L45 fN (j + 1 + 1 + 1 + 1 + 1 + 1) a i ans (nI 0) N = some (ans, wts (N.2.2 175 a 0) q N) := by
  have f0 := wfr_r (N.2.2 175 a 0) N
  have f1 := wfr_s (k := 0) (v := q.2.1) f0
  have f2 := wfr_s (k := 1) (v := q.2.2.1) f1
  have f3 := wfr_s (k := 2) (v := q.2.2.2.1) f2
  have f4 := wfr_s (k := 3) (v := q.2.2.2.2.1) f3
  refine (run_45 T n ni hx hp h1 hq h2 (k := 0) (by decide) (hW _ f0).1).trans ?_
  refine (run_45 (N := fm_sL N 3 (N.2.2 175 a 0) 0 q.2.1) ⟨T.1, T.2⟩ n ni hx hp h1 hq h2 (k := 0 + 1) (by decide) (hW _ f1).2.1).trans ?_
  refine (run_45 (N := fm_sL (fm_sL N 3 (N.2.2 175 a 0) 0 q.2.1) 3 (N.2.2 175 a 0) 1 q.2.2.1) ⟨T.1, T.2⟩ n ni hx hp h1 hq h2 (k := 0 + 1 + 1) (by decide) (hW _ f2).2.2.1).trans ?_
  refine (run_45 (N := fm_sL (fm_sL (fm_sL N 3 (N.2.2 175 a 0) 0 q.2.1) 3 (N.2.2 175 a 0) 1 q.2.2.1) 3 (N.2.2 175 a 0) 2 q.2.2.2.1) ⟨T.1, T.2⟩ n ni hx hp h1 hq h2 (k := 0 + 1 + 1 + 1) (by decide) (hW _ f3).2.2.2.1).trans ?_
  refine (run_45 (N := fm_sL (fm_sL (fm_sL (fm_sL N 3 (N.2.2 175 a 0) 0 q.2.1) 3 (N.2.2 175 a 0) 1 q.2.2.1) 3 (N.2.2 175 a 0) 2 q.2.2.2.1) 3 (N.2.2 175 a 0) 3 q.2.2.2.2.1) ⟨T.1, T.2⟩ n ni hx hp h1 hq h2 (k := 0 + 1 + 1 + 1 + 1) (by decide) (hW _ f4).2.2.2.2).trans ?_
  exact run_4e (N := wts (N.2.2 175 a 0) q N) ⟨T.1, T.2⟩ n ni
/-- a step that wants something changes nothing that counts -/
theorem Uv_eq {r : Nat} {M M' : FM} {q : Wt} (h : Uv r M M' (cwt (some q) (M.2.1 179 r 0))) : M'.1 = M.1 ∧ M'.2.2 = M.2.2 ∧ ∀ f b l, ¬ (f = 179 ∧ b = r ∧ l ≠ 0) → M'.2.1 f b l = M.2.1 f b l := by
  obtain ⟨h1, h2, h3, h4, h5⟩ := h
  refine ⟨h1, h2, fun f b l hl => ?_⟩
  by_cases c : f = 3 ∧ b = M.2.2 178 r 0
  · rw [c.1, c.2, h4]
    exact if_neg (fun z => absurd z.2 (by rw [z.1]; exact Nat.lt_irrefl 0))
  · by_cases e : f = 179 ∧ b = r
    · have l0 : l = 0 := Classical.byContradiction fun z => hl ⟨e.1, e.2, z⟩
      rw [e.1, e.2, l0, h5]
      rfl
    · exact h3 f b l (fun z y => c ⟨z, y⟩) (fun z y => e ⟨z, y⟩)
end Ru
