/-! the component: an instruction is found, both cases -/
set_option maxRecDepth 100000
section Fd
variable {a : Nat} {w : Int32} {M : FM}
theorem find_any (T : Ty M) (W : Wf M) (n : fm_is M 63 63 a = true) (K : KpI a M) (w : Int32) : ∃ i N, (HX47_find a w M ∧ GX47_find a w M = (i, N)) ∧ fm_is N 61 61 i = true ∧ Ty N ∧ Ext M N ∧ KpI a N ∧ Dec (M.2.2 172 a 0) i w N ∧
    (∀ b, b < fm_nx M → b ≠ 0 → M.2.2 0 b 0 ≠ 61 → b ≠ M.2.2 173 a 0 → ∀ f j, N.1 f b j = M.1 f b j ∧ N.2.1 f b j = M.2.1 f b j ∧ N.2.2 f b j = M.2.2 f b j) := by
  have z0 : M.2.2 0 0 0 = 0 := W.2.2.1
  by_cases h0 : M.2.2 3 (M.2.2 173 a 0) (ui (plc w)) = 0
  · obtain ⟨f1, f2, f3, f4, f5, f6, f7, f8⟩ := find_new T W n K h0
    have E : Ext M (fnwM a w M) := fun b hb => by
      have hl := wf_lt W hb
      have b0 : b ≠ 0 := fun e => by
        rw [e] at hb
        exact hb z0
      exact ⟨(f2 0 b 0 (by omega) b0 (by omega)).2.2, (f2 1 b 0 (by omega) b0 (by omega)).2.2⟩
    exact ⟨_, _, op_of (P := OkN 61 61 M) (d := (0, M)) f1 ⟨f5, E, f4⟩, f4, f5, E, f6, f3, fun b hl b0 _ bP f j => f2 f b j (by omega) b0 (fun q => bP q.2.1)⟩
  · obtain ⟨f1, f2, f3, f4, f5, f6⟩ := find_old T n K rfl h0
    have E : Ext M (fndM a (M.2.2 3 (M.2.2 173 a 0) (ui (plc w))) w M) := fun b _ => ⟨(f2 0 b 0 (fun _ => by omega)).2.2, (f2 1 b 0 (fun _ => by omega)).2.2⟩
    have nN : fm_is (fndM a (M.2.2 3 (M.2.2 173 a 0) (ui (plc w))) w M) 61 61 (M.2.2 3 (M.2.2 173 a 0) (ui (plc w))) = true := by
      unfold fm_is at f4 ⊢
      rw [(f2 0 _ 0 (fun _ => by omega)).2.2]
      exact f4
    refine ⟨_, _, op_of (P := OkN 61 61 M) (d := (0, M)) f1 ⟨f5, E, nN⟩, nN, f5, E, f6, f3, fun b hl b0 ht bP f j => f2 f b j (fun e => ?_)⟩
    rw [e] at ht
    have := fm_isd f4
    omega
end Fd
