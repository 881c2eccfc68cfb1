/-! the component: an instruction is found where one was kept before -/
set_option maxRecDepth 100000
section Fd
variable {a : Nat} {w : Int32} {M : FM}
noncomputable def fndM (a j : Nat) (w : Int32) (M : FM) : FM := fi (M.1 150 j 0 = w) M (GX49_read (M.2.2 172 a 0) w j M)
theorem find_86 (T : Ty M) (n : fm_is M 63 63 a = true) : FX47_find_86 a (plc w) M = some (M.2.2 3 (M.2.2 173 a 0) (ui (plc w)), M) := by
  have hp := plc_lt w
  have hin : fm_in M (M.2.2 173 a 0) (plc w) = true := in_u (tL_173 T.1 n) hp (by decide)
  have hA : fm_is M 910 990 (M.2.2 173 a 0) = true := fm_w (lo' := 910) (hi' := 990) rfl rfl (tN_173 T.1 n)
  unfold FX47_find_86 BX47_find_86
  dsimp only
  rw [fi_pos n, fi_pos ⟨hA, hin⟩, cl_ui (by omega)]
theorem find_old (T : Ty M) (n : fm_is M 63 63 a = true) (K : KpI a M) {j : Nat} (hj : M.2.2 3 (M.2.2 173 a 0) (ui (plc w)) = j) (h0 : j ≠ 0) :
    FX47_find a w M = some (j, fndM a j w M) ∧ Dfr j M (fndM a j w M) ∧ Dec (M.2.2 172 a 0) j w (fndM a j w M) ∧ fm_is M 61 61 j = true ∧ Ty (fndM a j w M) ∧ KpI a (fndM a j w M) := by
  have hp := plc_lt w
  have hin : fm_in M (M.2.2 173 a 0) (plc w) = true := in_u (tL_173 T.1 n) hp (by decide)
  have hA : fm_is M 910 990 (M.2.2 173 a 0) = true := fm_w (lo' := 910) (hi' := 990) rfl rfl (tN_173 T.1 n)
  have nc := tN_172 T.1 n
  obtain ⟨nj, D⟩ : fm_is M 61 61 j = true ∧ Dec (M.2.2 172 a 0) j (M.1 150 j 0) M := by
    rcases K.1 _ hp with h | h
    · exact absurd (hj.symm.trans h) h0
    · rw [hj] at h
      exact h
  obtain ⟨rH, rF, rD⟩ := X49_read (c := M.2.2 172 a 0) (i := j) T w
  have rG := gX49_read (M.2.2 172 a 0) w j M T nj nc rH
  have eF : FX47_find a w M = some (j, fndM a j w M) := by
    unfold FX47_find FX47_find_0 BX47_find_0 fndM
    dsimp only
    rw [show ((((w ^^^ (w.toUInt32 >>> ((Int32.ofInt 7).toUInt32 &&& Int32.toUInt32 31)).toInt32) ^^^ (w.toUInt32 >>> ((Int32.ofInt 15).toUInt32 &&& Int32.toUInt32 31)).toInt32) ^^^ (w.toUInt32 >>> ((Int32.ofInt 23).toUInt32 &&& Int32.toUInt32 31)).toInt32) &&& (Int32.ofInt 63)) = plc w from rfl]
    rw [cl_ui (x := plc w) (by omega), hj, fi_pos n, fi_pos ⟨hA, hin⟩, fi_neg h0, fi_pos n, fi_pos ⟨hA, hin⟩, fi_pos nj]
    by_cases q : M.1 150 j 0 = w
    · rw [fi_pos q, fi_pos q, find_86 T n, hj]
    · rw [fi_neg q, fi_neg q, fi_pos n, fi_pos n, fi_pos ⟨hA, hin⟩, fi_pos (fm_w (lo' := 62) (hi' := 62) rfl rfl nc), rG.1]
      have e0 : (GX49_read (M.2.2 172 a 0) w j M).2.2 0 a 0 = M.2.2 0 a 0 := (rF 0 a 0 (fun _ => by omega)).2.2
      have nn : fm_is (GX49_read (M.2.2 172 a 0) w j M) 63 63 a = true := by
        unfold fm_is at n ⊢
        rw [e0]
        exact n
      show FX47_find_86 a (plc w) (GX49_read (M.2.2 172 a 0) w j M) = _
      rw [find_86 rG.2.1 nn]
      have e1 : (GX49_read (M.2.2 172 a 0) w j M).2.2 173 a 0 = M.2.2 173 a 0 := (rF 173 a 0 (fun _ => by omega)).2.2
      have e2 : ∀ b i, (GX49_read (M.2.2 172 a 0) w j M).2.2 3 b i = M.2.2 3 b i := fun b i => (rF 3 b i (fun _ => by omega)).2.2
      rw [e1, e2, hj]
  refine ⟨eF, ?_⟩
  unfold fndM
  by_cases q : M.1 150 j 0 = w
  · rw [fi_pos q]
    rw [q] at D
    exact ⟨dfr_r j M, D, nj, T, K⟩
  · rw [fi_neg q]
    exact ⟨rF, rD, nj, rG.2.1, kp_read T n K hp hj h0 nc rF rD⟩
end Fd
