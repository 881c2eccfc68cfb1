/-! disks: registers are written and read (printed by gen/km.py) -/
set_option maxRecDepth 100000
section Rw
variable {d x dk q rq b r c : Nat} {Mc Mt M : FM}
theorem X95_bg_L (T : Ty M) (n : fm_is M 93 93 b = true) : ∀ J, FX95_begin_L33 fN (J + 4) b (Int32.ofInt 0) M = some (fm_sI (fm_sI (fm_sL (fm_sL (fm_sL M 3 (M.2.2 334 b 0) 0 (Int64.ofInt 0)) 3 (M.2.2 334 b 0) 1 (Int64.ofInt 0)) 3 (M.2.2 334 b 0) 2 (Int64.ofInt 0)) 335 b 0 (Int32.ofInt 0)) 336 b 0 (Int32.ofInt 0)) := by
  intro J
  have l3 : M.2.2 1 (M.2.2 334 b 0) 0 = 3 := tL_334 T.1 n
  have c0 : ¬ Int32.ofInt 3 ≤ Int32.ofInt 0 := by decide
  have c1 : ¬ Int32.ofInt 3 ≤ Int32.ofInt 1 := by decide
  have c2 : ¬ Int32.ofInt 3 ≤ Int32.ofInt 2 := by decide
  have c3 : Int32.ofInt 3 ≤ Int32.ofInt 3 := by decide
  show FX95_begin_33 fN (FX95_begin_L33 fN (J + 3)) b (Int32.ofInt 0) M = _
  rw [(gX95_begin_33 (FX95_begin_L33 fN (J + 3)) b (Int32.ofInt 0) M T n ⟨fun z => absurd z c0, fun _ => ⟨fm_inl l3 rfl, trivial⟩⟩).1]
  unfold GX95_begin_33
  rw [fi_neg c0]
  show FX95_begin_33 fN (FX95_begin_L33 fN (J + 2)) b (Int32.ofInt 1) (fm_sL M 3 (M.2.2 334 b 0) 0 (Int64.ofInt 0)) = _
  rw [(gX95_begin_33 (FX95_begin_L33 fN (J + 2)) b (Int32.ofInt 1) (fm_sL M 3 (M.2.2 334 b 0) 0 (Int64.ofInt 0)) ⟨T.1, T.2⟩ n ⟨fun z => absurd z c1, fun _ => ⟨fm_inl l3 rfl, trivial⟩⟩).1]
  unfold GX95_begin_33
  rw [fi_neg c1]
  show FX95_begin_33 fN (FX95_begin_L33 fN (J + 1)) b (Int32.ofInt 2) (fm_sL (fm_sL M 3 (M.2.2 334 b 0) 0 (Int64.ofInt 0)) 3 (M.2.2 334 b 0) 1 (Int64.ofInt 0)) = _
  rw [(gX95_begin_33 (FX95_begin_L33 fN (J + 1)) b (Int32.ofInt 2) (fm_sL (fm_sL M 3 (M.2.2 334 b 0) 0 (Int64.ofInt 0)) 3 (M.2.2 334 b 0) 1 (Int64.ofInt 0)) ⟨T.1, T.2⟩ n ⟨fun z => absurd z c2, fun _ => ⟨fm_inl l3 rfl, trivial⟩⟩).1]
  unfold GX95_begin_33
  rw [fi_neg c2]
  show FX95_begin_33 fN (FX95_begin_L33 fN J) b (Int32.ofInt 3) (fm_sL (fm_sL (fm_sL M 3 (M.2.2 334 b 0) 0 (Int64.ofInt 0)) 3 (M.2.2 334 b 0) 1 (Int64.ofInt 0)) 3 (M.2.2 334 b 0) 2 (Int64.ofInt 0)) = _
  rw [(gX95_begin_33 (FX95_begin_L33 fN J) b (Int32.ofInt 3) (fm_sL (fm_sL (fm_sL M 3 (M.2.2 334 b 0) 0 (Int64.ofInt 0)) 3 (M.2.2 334 b 0) 1 (Int64.ofInt 0)) 3 (M.2.2 334 b 0) 2 (Int64.ofInt 0)) ⟨T.1, T.2⟩ n ⟨fun _ => trivial, fun z => absurd c3 z⟩).1]
  unfold GX95_begin_33
  rw [fi_pos c3]
  rfl
/-- both devices begin anew -/
theorem rel_dreset (D : RelD d x dk q rq b r c Mc Mt) : HX95_begin b Mt ∧ RelD d x dk q rq b r c (GX18_become d (Int32.ofInt 0) Mc) (GX95_begin b Mt) ∧ RamQ r Mc (GX18_become d (Int32.ofInt 0) Mc) := by
  have D0 := D
  obtain ⟨R, C, TT, _⟩ := D
  have nd := C.1.1
  have nq := (dk_is R.1.1 C).2.2.1
  have nb := TT.1
  have c4 := C.1.2.2.2.1
  have EC : GX18_become d (Int32.ofInt 0) Mc = (fm_sI (fm_sI (fm_sI (fm_sI (fm_sI (fm_sI (fm_sL (fm_sL (fm_sL (fm_sI (fm_sI Mc 71 q 0 (Int32.ofInt 16)) 72 q 0 (Int32.ofInt 0)) 73 q 0 (Int64.ofInt 0)) 74 q 0 (Int64.ofInt 0)) 75 q 0 (Int64.ofInt 0)) 76 q 0 (Int32.ofInt 0)) 77 q 0 (Int32.ofInt 0)) 63 d 0 (Int32.ofInt 0)) 64 d 0 (Int32.ofInt 0)) 65 d 0 (Int32.ofInt 0)) 66 d 0 (Int32.ofInt 0)) := by
    unfold GX18_become GX18_become_0 GX18_become_51
    rw [fi_pos (show Int32.ofInt 0 = 0 from rfl), c4]
    rfl
  have ET : FX95_begin fN b Mt = some (fm_sI (fm_sI (fm_sL (fm_sL (fm_sL (fm_sI (fm_sI (fm_sI (fm_sI (fm_sI (fm_sI Mt 328 b 0 (Int32.ofInt 0)) 329 b 0 (Int32.ofInt 0)) 330 b 0 (Int32.ofInt 16)) 331 b 0 (Int32.ofInt 0)) 332 b 0 (Int32.ofInt 0)) 333 b 0 (Int32.ofInt 0)) 3 (Mt.2.2 334 b 0) 0 (Int64.ofInt 0)) 3 (Mt.2.2 334 b 0) 1 (Int64.ofInt 0)) 3 (Mt.2.2 334 b 0) 2 (Int64.ofInt 0)) 335 b 0 (Int32.ofInt 0)) 336 b 0 (Int32.ofInt 0)) := by
    show FX95_begin_0 fN (FX95_begin_L33 fN fN) b Mt = _
    rw [(gX95_begin_0 (FX95_begin_L33 fN fN) b Mt R.2.1.1 nb).1]
    exact X95_bg_L (M := (fm_sI (fm_sI (fm_sI (fm_sI (fm_sI (fm_sI Mt 328 b 0 (Int32.ofInt 0)) 329 b 0 (Int32.ofInt 0)) 330 b 0 (Int32.ofInt 16)) 331 b 0 (Int32.ofInt 0)) 332 b 0 (Int32.ofInt 0)) 333 b 0 (Int32.ofInt 0))) ⟨R.2.1.1.1, (tyb_sI rfl (tyb_sI rfl (tyb_sIb rfl (tyb_sI rfl (tyb_sI rfl (tyb_sI rfl R.2.1.1.2))) fz_0)))⟩ nb 99999996
  have kt := wX95_begin (fun y => fe_mem lX95_begin y = true) (fun _ => True) (fun _ z => z) fN b Mt (wi_N R.2.1.2.1) trivial _ ET
  have kt := wk_sub (S' := STr) (me_s rfl) kt
  have tt : Ty (fm_sI (fm_sI (fm_sL (fm_sL (fm_sL (fm_sI (fm_sI (fm_sI (fm_sI (fm_sI (fm_sI Mt 328 b 0 (Int32.ofInt 0)) 329 b 0 (Int32.ofInt 0)) 330 b 0 (Int32.ofInt 16)) 331 b 0 (Int32.ofInt 0)) 332 b 0 (Int32.ofInt 0)) 333 b 0 (Int32.ofInt 0)) 3 (Mt.2.2 334 b 0) 0 (Int64.ofInt 0)) 3 (Mt.2.2 334 b 0) 1 (Int64.ofInt 0)) 3 (Mt.2.2 334 b 0) 2 (Int64.ofInt 0)) 335 b 0 (Int32.ofInt 0)) 336 b 0 (Int32.ofInt 0)) := ⟨R.2.1.1.1, (tyb_sI rfl (tyb_sI rfl (tyb_sI rfl (tyb_sI rfl (tyb_sIb rfl (tyb_sI rfl (tyb_sI rfl (tyb_sI rfl R.2.1.1.2))) fz_0)))))⟩
  obtain ⟨h2, g2⟩ := op_of (d := Mt) ET (P := OkV Mt) ⟨tt, wk_ext R.2.1.2.1 kt⟩
  have g2 : GX95_begin b Mt = _ := g2
  rw [EC, g2]
  have hh := relD_set D0 (Nc := (fm_sI (fm_sI (fm_sI (fm_sI (fm_sI (fm_sI (fm_sL (fm_sL (fm_sL (fm_sI (fm_sI Mc 71 q 0 (Int32.ofInt 16)) 72 q 0 (Int32.ofInt 0)) 73 q 0 (Int64.ofInt 0)) 74 q 0 (Int64.ofInt 0)) 75 q 0 (Int64.ofInt 0)) 76 q 0 (Int32.ofInt 0)) 77 q 0 (Int32.ofInt 0)) 63 d 0 (Int32.ofInt 0)) 64 d 0 (Int32.ofInt 0)) 65 d 0 (Int32.ofInt 0)) 66 d 0 (Int32.ofInt 0))) (Nt := (fm_sI (fm_sI (fm_sL (fm_sL (fm_sL (fm_sI (fm_sI (fm_sI (fm_sI (fm_sI (fm_sI Mt 328 b 0 (Int32.ofInt 0)) 329 b 0 (Int32.ofInt 0)) 330 b 0 (Int32.ofInt 16)) 331 b 0 (Int32.ofInt 0)) 332 b 0 (Int32.ofInt 0)) 333 b 0 (Int32.ofInt 0)) 3 (Mt.2.2 334 b 0) 0 (Int64.ofInt 0)) 3 (Mt.2.2 334 b 0) 1 (Int64.ofInt 0)) 3 (Mt.2.2 334 b 0) 2 (Int64.ofInt 0)) 335 b 0 (Int32.ofInt 0)) 336 b 0 (Int32.ofInt 0))) (wI_c (wI_c (wI_c (wI_c (wI_c (wI_c (wL_c (wL_c (wL_c (wI_c (wI_c (wk_r (wi_N R.1.2.1)) (fm_ist rfl (nq)) rfl) (fm_ist rfl (nq)) rfl) (fm_ist rfl (nq)) rfl) (fm_ist rfl (nq)) rfl) (fm_ist rfl (nq)) rfl) (fm_ist rfl (nq)) rfl) (fm_ist rfl (nq)) rfl) (fm_ist rfl (nd)) rfl) (fm_ist rfl (nd)) rfl) (fm_ist rfl (nd)) rfl) (fm_ist rfl (nd)) rfl) kt ⟨R.1.1.1, (tyb_sI rfl (tyb_sI rfl (tyb_sI rfl (tyb_sI rfl (tyb_sI rfl (tyb_sI rfl (tyb_sIb rfl (tyb_sI rfl R.1.1.2) fz_0)))))))⟩ tt ⟨16, 0, 0, ⟨(by simp [fm_sI, fm_sL]), (by simp [fm_sI, fm_sL]), (by simp [fm_sI, fm_sL]), (by simp [fm_sI, fm_sL])⟩, ⟨(show ((fm_sI (fm_sI (fm_sI (fm_sI (fm_sI (fm_sI (fm_sL (fm_sL (fm_sL (fm_sI (fm_sI Mc 71 q 0 (Int32.ofInt 16)) 72 q 0 (Int32.ofInt 0)) 73 q 0 (Int64.ofInt 0)) 74 q 0 (Int64.ofInt 0)) 75 q 0 (Int64.ofInt 0)) 76 q 0 (Int32.ofInt 0)) 77 q 0 (Int32.ofInt 0)) 63 d 0 (Int32.ofInt 0)) 64 d 0 (Int32.ofInt 0)) 65 d 0 (Int32.ofInt 0)) 66 d 0 (Int32.ofInt 0))).1 71 q 0 = Int32.ofInt 16 by simp [fm_sI, fm_sL]), (show ((fm_sI (fm_sI (fm_sL (fm_sL (fm_sL (fm_sI (fm_sI (fm_sI (fm_sI (fm_sI (fm_sI Mt 328 b 0 (Int32.ofInt 0)) 329 b 0 (Int32.ofInt 0)) 330 b 0 (Int32.ofInt 16)) 331 b 0 (Int32.ofInt 0)) 332 b 0 (Int32.ofInt 0)) 333 b 0 (Int32.ofInt 0)) 3 (Mt.2.2 334 b 0) 0 (Int64.ofInt 0)) 3 (Mt.2.2 334 b 0) 1 (Int64.ofInt 0)) 3 (Mt.2.2 334 b 0) 2 (Int64.ofInt 0)) 335 b 0 (Int32.ofInt 0)) 336 b 0 (Int32.ofInt 0))).1 330 b 0 = Int32.ofInt 16 by simp [fm_sI, fm_sL]), by decide, by decide⟩, (by simp [fm_sI, fm_sL]), ⟨(by simp [fm_sI, fm_sL]), (by simp [fm_sI, fm_sL]), (by simp [fm_sI, fm_sL])⟩, ⟨(show ((fm_sI (fm_sI (fm_sI (fm_sI (fm_sI (fm_sI (fm_sL (fm_sL (fm_sL (fm_sI (fm_sI Mc 71 q 0 (Int32.ofInt 16)) 72 q 0 (Int32.ofInt 0)) 73 q 0 (Int64.ofInt 0)) 74 q 0 (Int64.ofInt 0)) 75 q 0 (Int64.ofInt 0)) 76 q 0 (Int32.ofInt 0)) 77 q 0 (Int32.ofInt 0)) 63 d 0 (Int32.ofInt 0)) 64 d 0 (Int32.ofInt 0)) 65 d 0 (Int32.ofInt 0)) 66 d 0 (Int32.ofInt 0))).1 76 q 0 = Int32.ofInt 0 by simp [fm_sI, fm_sL]), (show ((fm_sI (fm_sI (fm_sL (fm_sL (fm_sL (fm_sI (fm_sI (fm_sI (fm_sI (fm_sI (fm_sI Mt 328 b 0 (Int32.ofInt 0)) 329 b 0 (Int32.ofInt 0)) 330 b 0 (Int32.ofInt 16)) 331 b 0 (Int32.ofInt 0)) 332 b 0 (Int32.ofInt 0)) 333 b 0 (Int32.ofInt 0)) 3 (Mt.2.2 334 b 0) 0 (Int64.ofInt 0)) 3 (Mt.2.2 334 b 0) 1 (Int64.ofInt 0)) 3 (Mt.2.2 334 b 0) 2 (Int64.ofInt 0)) 335 b 0 (Int32.ofInt 0)) 336 b 0 (Int32.ofInt 0))).1 335 b 0 = Int32.ofInt 0 by simp [fm_sI, fm_sL]), by decide⟩, ⟨(show ((fm_sI (fm_sI (fm_sI (fm_sI (fm_sI (fm_sI (fm_sL (fm_sL (fm_sL (fm_sI (fm_sI Mc 71 q 0 (Int32.ofInt 16)) 72 q 0 (Int32.ofInt 0)) 73 q 0 (Int64.ofInt 0)) 74 q 0 (Int64.ofInt 0)) 75 q 0 (Int64.ofInt 0)) 76 q 0 (Int32.ofInt 0)) 77 q 0 (Int32.ofInt 0)) 63 d 0 (Int32.ofInt 0)) 64 d 0 (Int32.ofInt 0)) 65 d 0 (Int32.ofInt 0)) 66 d 0 (Int32.ofInt 0))).1 77 q 0 = Int32.ofInt 0 by simp [fm_sI, fm_sL]), (show ((fm_sI (fm_sI (fm_sL (fm_sL (fm_sL (fm_sI (fm_sI (fm_sI (fm_sI (fm_sI (fm_sI Mt 328 b 0 (Int32.ofInt 0)) 329 b 0 (Int32.ofInt 0)) 330 b 0 (Int32.ofInt 16)) 331 b 0 (Int32.ofInt 0)) 332 b 0 (Int32.ofInt 0)) 333 b 0 (Int32.ofInt 0)) 3 (Mt.2.2 334 b 0) 0 (Int64.ofInt 0)) 3 (Mt.2.2 334 b 0) 1 (Int64.ofInt 0)) 3 (Mt.2.2 334 b 0) 2 (Int64.ofInt 0)) 335 b 0 (Int32.ofInt 0)) 336 b 0 (Int32.ofInt 0))).1 336 b 0 = Int32.ofInt 0 by simp [fm_sI, fm_sL]), by decide⟩⟩
  exact ⟨h2, hh.1, hh.2.1⟩
end Rw
