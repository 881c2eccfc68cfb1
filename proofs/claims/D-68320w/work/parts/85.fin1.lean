/-! the twin's core: the end of an instruction that wanted something -/
set_option maxRecDepth 100000
section Fn
variable {c dk : Nat} {M : FM}
/-- what comes into the register -/
noncomputable def fval (q : Wt) (lv v : Int64) : Int64 := fi (q.1 = Int32.ofInt 2) lv (fi (q.1 = Int32.ofInt 4 ∧ lg_cmp q.2.2.1 (Int64.ofInt 4) = 0) v.toInt32.toInt64 v)
noncomputable def tput (c dk : Nat) (x : Int64) (M : FM) : FM := if dk = 0 then M else fm_sL M 3 (M.2.2 346 c 0) dk x
noncomputable def tend (c : Nat) (N : FM) : FM := fm_sI (fm_sL (fm_sL N 347 c 0 (N.2.1 347 c 0 + (N.1 354 c 0).toInt64)) 348 c 0 (N.2.1 348 c 0 + Int64.ofInt 1)) 353 c 0 (Int32.ofInt (-1))
theorem X98_putE {x : Int64} (hk : dk < 32) : GX98_put c (nI dk) x M = tput c dk x M := by
  unfold GX98_put GX98_put_0 GX98_put_11 tput
  by_cases h : dk = 0
  · rw [if_pos h, fi_pos ((nle0 (n := dk) (by omega)).mpr (by omega))]
  · rw [if_neg h, fi_neg (fun z => by have := (nle0 (n := dk) (by omega)).mp z; omega)]
    dsimp only
    rw [nI_clamp (by omega)]
theorem X98_finish (T : Ty M) (n : fm_is M 94 94 c = true) {q : Wt} (h353 : M.1 353 c 0 = q.1) (hq : q.1 ≠ Int32.ofInt (-1)) (a1 : M.2.1 3 (M.2.2 355 c 0) 1 = q.2.2.1) (a4 : M.2.1 3 (M.2.2 355 c 0) 4 = q.2.2.2.2.2.toInt64)
    (hd : q.2.2.2.2.2 = nI dk) (hk : dk < 32) (g : Int32) (v : Int64) {lv : Int64} (hl : q.1 = Int32.ofInt 2 → GX98_loaded c v (fm_sI M 345 c 0 (Int32.ofInt 0)) = (lv, fm_sI M 345 c 0 (Int32.ofInt 0))) :
    HX98_finish c g v M ∧ GX98_finish c g v M = (q.1, tend c (fi (g = 0 ∨ q.1 = Int32.ofInt 3) (fm_sI M 345 c 0 (Int32.ofInt 0)) (tput c dk (fval q lv v) (fm_sI M 345 c 0 (Int32.ofInt 0))))) := by
  have e353 : (fm_sI M 345 c 0 (Int32.ofInt 0)).1 353 c 0 = q.1 := (rIf (by decide)).trans h353
  have e345 : (fm_sI M 345 c 0 (Int32.ofInt 0)).1 345 c 0 ≤ 0 := by
    rw [rI, if_pos ⟨rfl, rfl, rfl⟩]
    decide
  have ed : ((fm_sI M 345 c 0 (Int32.ofInt 0)).2.1 3 ((fm_sI M 345 c 0 (Int32.ofInt 0)).2.2 355 c 0) (Int32.ofInt 4).toNatClampNeg).toInt32 = nI dk := by
    show (M.2.1 3 (M.2.2 355 c 0) 4).toInt32 = _
    rw [a4, i32_64, hd]
  have ez : (fm_sI M 345 c 0 (Int32.ofInt 0)).2.1 3 ((fm_sI M 345 c 0 (Int32.ofInt 0)).2.2 355 c 0) (Int32.ofInt 1).toNatClampNeg = q.2.2.1 := a1
  have T1 : Ty (fm_sI M 345 c 0 (Int32.ofInt 0)) := ⟨T.1, tyb_sI (f := 345) rfl T.2⟩
  have hp : ∀ x, HX98_put c (nI dk) x (fm_sI M 345 c 0 (Int32.ofInt 0)) := fun x => X98_put_H T1 n ⟨dk, hk, rfl⟩ x
  have h14 : HX98_finish_14 c g v c (Int32.ofInt 0) M := by
    refine ⟨fun _ => ⟨fun _ => trivial, fun _ => ⟨fun _ => trivial, fun _ => ?_⟩⟩, fun _ => trivial⟩
    dsimp only
    rw [ed]
    refine ⟨fun h2 => ?_, fun _ => ⟨fun _ => ⟨fun _ => ⟨hp _, trivial⟩, fun _ => ⟨hp _, trivial⟩⟩, fun _ => ⟨hp _, trivial⟩⟩⟩
    rw [e353] at h2
    rw [hl h2]
    exact ⟨hp _, trivial⟩
  have n353 : ¬ M.1 353 c 0 = Int32.ofInt (-1) := by rw [h353]; exact hq
  refine ⟨⟨fun z => absurd z n353, fun _ => h14⟩, ?_⟩
  have put : ∀ x, GX98_finish_90 c q.1 c (nI dk) x (fm_sI M 345 c 0 (Int32.ofInt 0)) = (q.1, tend c (tput c dk x (fm_sI M 345 c 0 (Int32.ofInt 0)))) := fun x => by
    unfold GX98_finish_90
    rw [X98_putE hk]
    rfl
  unfold GX98_finish GX98_finish_0
  rw [fi_neg n353]
  unfold GX98_finish_14 GX98_finish_89
  dsimp only
  rw [fi_pos e345, e353, ed, put, put, ez]
  by_cases hg : g = 0
  · rw [fi_pos hg, fi_pos (Or.inl hg)]
    rfl
  · rw [fi_neg hg]
    by_cases h3 : q.1 = Int32.ofInt 3
    · rw [fi_pos h3, fi_pos (Or.inr h3)]
      rfl
    · rw [fi_neg h3, fi_neg (show ¬ (g = 0 ∨ q.1 = Int32.ofInt 3) from fun z => z.elim hg h3)]
      unfold fval
      by_cases h2 : q.1 = Int32.ofInt 2
      · rw [fi_pos h2, fi_pos h2, hl h2]
        exact put _
      · rw [fi_neg h2, fi_neg h2]
        by_cases h4 : q.1 = Int32.ofInt 4
        · rw [fi_pos h4]
          by_cases hz : lg_cmp q.2.2.1 (Int64.ofInt 4) = 0
          · rw [fi_pos hz, fi_pos (c := q.1 = Int32.ofInt 4 ∧ lg_cmp q.2.2.1 (Int64.ofInt 4) = 0) ⟨h4, hz⟩]
          · rw [fi_neg hz, fi_neg (show ¬ (q.1 = Int32.ofInt 4 ∧ lg_cmp q.2.2.1 (Int64.ofInt 4) = 0) from fun z => hz z.2)]
        · rw [fi_neg h4, fi_neg (show ¬ (q.1 = Int32.ofInt 4 ∧ lg_cmp q.2.2.1 (Int64.ofInt 4) = 0) from fun z => h4 z.1)]
end Fn
