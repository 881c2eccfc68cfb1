/-! contracts of methods, printed by gen/snd.py -/
set_option maxRecDepth 100000
set_option maxHeartbeats 4000000
theorem hX97_join (n : Nat) : fe_H (sX97_join (FX97_head n)) cX97_join [0, 95, 141] fe_kv [95, 141] 106 (fun j => dX97_join (FX97_join_0 n (FX97_join_L n j).1 (FX97_join_L n j).2) (FX97_join_L n j).1 (FX97_join_L n j).2) := by
  intro j pc L st M r hc h
  rcases fe_mem_c hc with rfl | hc
  · obtain ⟨w0, m0, h⟩ := fe_lR_d h
    obtain ⟨rfl, hz⟩ := fe_t0_d h
    exact ⟨[(0, .ref w0)], (fe_cs m0 fe_nl), Or.inr ((bX97_join_0 (FX97_head n) (FX97_join_0 n (FX97_join_L n j).1 (FX97_join_L n j).2) (FX97_join_L n j).1 (FX97_join_L n j).2 w0 M).symm.trans hz)⟩
  rcases fe_mem_c hc with rfl | hc
  · obtain ⟨w0, m0, h⟩ := fe_lR_d h
    obtain ⟨w1, m1, h⟩ := fe_lI_d h
    obtain ⟨rfl, hz⟩ := fe_t0_d h
    cases j with
    | zero => exact fe_no hz
    | succ j => exact ⟨[(0, .ref w0), (1, .int w1)], (fe_cs m0 (fe_cs m1 fe_nl)), Or.inl ⟨j, rfl, (bX97_join_95 (FX97_head n) (FX97_join_0 n (FX97_join_L n j).1 (FX97_join_L n j).2) (FX97_join_L n j).1 (FX97_join_L n j).2 w0 w1 M).symm.trans hz⟩⟩
  rcases fe_mem_c hc with rfl | hc
  · obtain ⟨w0, m0, h⟩ := fe_lR_d h
    obtain ⟨w1, m1, h⟩ := fe_lI_d h
    obtain ⟨rfl, hz⟩ := fe_t0_d h
    cases j with
    | zero => exact fe_no hz
    | succ j => exact ⟨[(0, .ref w0), (1, .int w1)], (fe_cs m0 (fe_cs m1 fe_nl)), Or.inl ⟨j, rfl, (bX97_join_141 (FX97_head n) (FX97_join_0 n (FX97_join_L n j).1 (FX97_join_L n j).2) (FX97_join_L n j).1 (FX97_join_L n j).2 w0 w1 M).symm.trans hz⟩⟩
  exact fe_mem_0 hc
theorem vX97_join (n : Nat) : fe_SB (sX97_join (FX97_head n)) := by
  refine ⟨?_, ?_, ?_, ?_⟩
  · intro i As M r h
    rcases fe_bc h with h | h
    · obtain ⟨v0, t0, rfl, g0⟩ := fe_tR_d h
      obtain ⟨v1, t1, rfl, g1⟩ := fe_tL_d g0
      obtain ⟨rfl, hz⟩ := fe_t0_d g1
      exact mX97_head n v0 v1 M r hz
    exact fe_no h
  · intro i As M r h
    exact fe_no h
  · intro i As M r h
    exact fe_no h
  · intro i As M r h
    exact fe_no h
theorem eX97_join (g0 : Nat → FM → Option (FM)) (k95 : Nat → Int32 → FM → Option (FM)) (k141 : Nat → Int32 → FM → Option (FM)) (a0 : Nat) (M : FM) : dX97_join g0 k95 k141 0 [(0, .ref a0)] [] M = g0 a0 M := by rfl
theorem mX97_join (n : Nat) (a0 : Nat) (M : FM) (r : FM) (h : FX97_join n a0 M = some r) : fm_nx M ≤ fm_nx r ∧ fm_ns M ≤ fm_ns r :=
  fe_mono (L0 := [(0, .ref a0)]) (vX97_join n) (by decide +kernel) (hX97_join n) (fe_kv_k r) n rfl ((eX97_join (FX97_join_0 n (FX97_join_L n n).1 (FX97_join_L n n).2) (FX97_join_L n n).1 (FX97_join_L n n).2 a0 M).trans h)
theorem zX97_join {s0 : State} {H0 : Heap} {oa : Nat → Nat} {D : va_G} (K : fk s0 H0 oa D) (l : Launch) (n : Nat) (a0 : Nat) (M : FM) (r : FM) (h : FX97_join n a0 M = some r) : fs_Con (fk_E s0 H0 oa D) l 2 ⟨"BoardMachineModel$Tree", "join", "()V"⟩ prog_119_method_22_code 2 (Option.none : Option Jvm.ClassFile.FieldType) [.ref a0] M none r := by
  have o0 : fs_OS (sX97_join (FX97_head n)) 0 0 (fs_Con (fk_E s0 H0 oa D) l 1 ⟨"BoardMachineModel$Tree", "head", "(J)V"⟩ prog_119_method_21_code 4 (Option.none : Option Jvm.ClassFile.FieldType)) := by
    intro As M r h
    obtain ⟨v0, t0, rfl, g0⟩ := fe_tR_d h
    obtain ⟨v1, t1, rfl, g1⟩ := fe_tL_d g0
    obtain ⟨rfl, hz⟩ := fe_t0_d g1
    exact zX97_head K l n v0 v1 M r hz
  refine fs_method (own := "BoardMachineModel$Tree") rfl (by decide) K.2.1 (by rw [fe_slen]; exact (Nat.le_of_ble_eq_true rfl)) (mX97_join n a0 M r h) (hX97_join n) n rfl (L0 := [(0, .ref a0)]) (fun E => fe_args_e E [.ref a0] 0) ((eX97_join (FX97_join_0 n (FX97_join_L n n).1 (FX97_join_L n n).2) (FX97_join_L n n).1 (FX97_join_L n n).2 a0 M).trans h) (fe_kv_k r) (fun H hR => fs_nr_o (by decide) (by decide)) ?_
  intro p e s m args below meth c Q C hnm
  have hw : s0.WarmedH s.vm := C.2.2.2.2.1
  refine fe_all C fk_hwr cX97_join [1, 4, 11, 16, 21, 25, 28, 35, 40, 44, 47, 51, 54, 58, 61, 66, 71, 75, 80, 84, 90, 97, 104, 108, 114, 128, 132, 136, 143, 150, 154, 160, 174, 178, 182] (by decide +kernel) (fe_fil (cps := [(1, 4, .jsr_w (3490578157)), (4, 7, .invokevirtual 8491108), (11, 14, .getfield 1753629072), (16, 19, .getfield 1762017680), (21, 24, .invokevirtual 8491108), (25, 28, .jsr_w (56)), (28, 31, .invokevirtual 8491108), (35, 38, .getfield 1753629072), (40, 43, .invokevirtual 8491108), (44, 47, .jsr_w (40)), (47, 50, .invokevirtual 8491108), (51, 54, .jsr_w (17)), (54, 57, .invokevirtual 8491108), (58, 61, .jsr_w (16)), (61, 64, .invokevirtual 8491108), (66, 69, .invokevirtual 8491108), (71, 74, .getfield 1762017680), (75, 78, .invokevirtual 8491108), (80, 83, .getfield 1753629072), (84, 87, .invokevirtual 8491108), (90, 93, .putfield 1745240464), (97, 100, .getfield 1753629072), (104, 107, .getfield 1741046162), (108, 111, .getfield 1745240464), (114, 117, .getfield 1749434770), (128, 131, .getfield 1745240464), (132, 135, .getfield 1753629072), (136, 139, .putfield 1745240464), (143, 146, .getfield 1762017680), (150, 153, .getfield 1741046162), (154, 157, .getfield 1745240464), (160, 163, .getfield 1757823378), (174, 177, .getfield 1745240464), (178, 181, .getfield 1762017680), (182, 185, .putfield 1745240464)]) (by decide +kernel) ?_)
  refine fs_c1 (fs_ldcl (pc := 1) (idx := 242) (v := 3490578157) C (by decide +kernel) (kw K hw q4913)) ?_
  refine fs_c1 (fs_inv_virtual (pc := 4) (n := 8491108) C (Nat.le_of_ble_eq_true rfl) (Nat.le_of_ble_eq_true rfl) (fs_lk_virtual (idx := 244) (y := ⟨"BoardMachineModel$Tree", "head", "(J)V"⟩) (bytes := prog_119_method_21_code) (maxL := 4) (rt := (Option.none : Option Jvm.ClassFile.FieldType)) (d := 1) C (Nat.le_of_ble_eq_true rfl) (Nat.le_of_ble_eq_true rfl) (by decide +kernel) (kw K hw q4917) (kw K hw q415) (kw K hw q4916) (Or.inl (kw K hw q4914)) ⟨by decide, by decide⟩ rfl (Nat.le_of_ble_eq_true rfl) (Nat.le_of_ble_eq_true rfl) (fs_one (⟨_, rfl, kw K hw qs145⟩))) fs_con_mono o0) ?_
  refine fs_c1 (fs_getf (pc := 11) (n := 1753629072) (idx := 26) (ref := "BoardMachineModel$Tree") (O := "BoardMachineModel$Tree") (name := "size") (desc := "I") C (by decide +kernel) (Or.inl (kw K hw q4927)) (fun _ h => h) (Nat.le_of_ble_eq_true rfl) (Nat.le_of_ble_eq_true rfl) (fs_one (⟨_, ff_100_418 s0 H0 oa D⟩))) ?_
  refine fs_c1 (fs_getf (pc := 16) (n := 1762017680) (idx := 53) (ref := "BoardMachineModel$Tree") (O := "BoardMachineModel$Tree") (name := "nameSize") (desc := "I") C (by decide +kernel) (Or.inl (kw K hw q4929)) (fun _ h => h) (Nat.le_of_ble_eq_true rfl) (Nat.le_of_ble_eq_true rfl) (fs_one (⟨_, ff_100_420 s0 H0 oa D⟩))) ?_
  refine fs_c1 (fs_inv_virtual (pc := 21) (n := 8491108) C (Nat.le_of_ble_eq_true rfl) (Nat.le_of_ble_eq_true rfl) (fs_lk_virtual (idx := 244) (y := ⟨"BoardMachineModel$Tree", "head", "(J)V"⟩) (bytes := prog_119_method_21_code) (maxL := 4) (rt := (Option.none : Option Jvm.ClassFile.FieldType)) (d := 1) C (Nat.le_of_ble_eq_true rfl) (Nat.le_of_ble_eq_true rfl) (by decide +kernel) (kw K hw q4917) (kw K hw q415) (kw K hw q4916) (Or.inl (kw K hw q4914)) ⟨by decide, by decide⟩ rfl (Nat.le_of_ble_eq_true rfl) (Nat.le_of_ble_eq_true rfl) (fs_one (⟨_, rfl, kw K hw qs145⟩))) fs_con_mono o0) ?_
  refine fs_c1 (fs_ldcl (pc := 25) (idx := 247) (v := 56) C (by decide +kernel) (kw K hw q4918)) ?_
  refine fs_c1 (fs_inv_virtual (pc := 28) (n := 8491108) C (Nat.le_of_ble_eq_true rfl) (Nat.le_of_ble_eq_true rfl) (fs_lk_virtual (idx := 244) (y := ⟨"BoardMachineModel$Tree", "head", "(J)V"⟩) (bytes := prog_119_method_21_code) (maxL := 4) (rt := (Option.none : Option Jvm.ClassFile.FieldType)) (d := 1) C (Nat.le_of_ble_eq_true rfl) (Nat.le_of_ble_eq_true rfl) (by decide +kernel) (kw K hw q4917) (kw K hw q415) (kw K hw q4916) (Or.inl (kw K hw q4914)) ⟨by decide, by decide⟩ rfl (Nat.le_of_ble_eq_true rfl) (Nat.le_of_ble_eq_true rfl) (fs_one (⟨_, rfl, kw K hw qs145⟩))) fs_con_mono o0) ?_
  refine fs_c1 (fs_getf (pc := 35) (n := 1753629072) (idx := 26) (ref := "BoardMachineModel$Tree") (O := "BoardMachineModel$Tree") (name := "size") (desc := "I") C (by decide +kernel) (Or.inl (kw K hw q4927)) (fun _ h => h) (Nat.le_of_ble_eq_true rfl) (Nat.le_of_ble_eq_true rfl) (fs_one (⟨_, ff_100_418 s0 H0 oa D⟩))) ?_
  refine fs_c1 (fs_inv_virtual (pc := 40) (n := 8491108) C (Nat.le_of_ble_eq_true rfl) (Nat.le_of_ble_eq_true rfl) (fs_lk_virtual (idx := 244) (y := ⟨"BoardMachineModel$Tree", "head", "(J)V"⟩) (bytes := prog_119_method_21_code) (maxL := 4) (rt := (Option.none : Option Jvm.ClassFile.FieldType)) (d := 1) C (Nat.le_of_ble_eq_true rfl) (Nat.le_of_ble_eq_true rfl) (by decide +kernel) (kw K hw q4917) (kw K hw q415) (kw K hw q4916) (Or.inl (kw K hw q4914)) ⟨by decide, by decide⟩ rfl (Nat.le_of_ble_eq_true rfl) (Nat.le_of_ble_eq_true rfl) (fs_one (⟨_, rfl, kw K hw qs145⟩))) fs_con_mono o0) ?_
  refine fs_c1 (fs_ldcl (pc := 44) (idx := 249) (v := 40) C (by decide +kernel) (kw K hw q4919)) ?_
  refine fs_c1 (fs_inv_virtual (pc := 47) (n := 8491108) C (Nat.le_of_ble_eq_true rfl) (Nat.le_of_ble_eq_true rfl) (fs_lk_virtual (idx := 244) (y := ⟨"BoardMachineModel$Tree", "head", "(J)V"⟩) (bytes := prog_119_method_21_code) (maxL := 4) (rt := (Option.none : Option Jvm.ClassFile.FieldType)) (d := 1) C (Nat.le_of_ble_eq_true rfl) (Nat.le_of_ble_eq_true rfl) (by decide +kernel) (kw K hw q4917) (kw K hw q415) (kw K hw q4916) (Or.inl (kw K hw q4914)) ⟨by decide, by decide⟩ rfl (Nat.le_of_ble_eq_true rfl) (Nat.le_of_ble_eq_true rfl) (fs_one (⟨_, rfl, kw K hw qs145⟩))) fs_con_mono o0) ?_
  refine fs_c1 (fs_ldcl (pc := 51) (idx := 251) (v := 17) C (by decide +kernel) (kw K hw q4920)) ?_
  refine fs_c1 (fs_inv_virtual (pc := 54) (n := 8491108) C (Nat.le_of_ble_eq_true rfl) (Nat.le_of_ble_eq_true rfl) (fs_lk_virtual (idx := 244) (y := ⟨"BoardMachineModel$Tree", "head", "(J)V"⟩) (bytes := prog_119_method_21_code) (maxL := 4) (rt := (Option.none : Option Jvm.ClassFile.FieldType)) (d := 1) C (Nat.le_of_ble_eq_true rfl) (Nat.le_of_ble_eq_true rfl) (by decide +kernel) (kw K hw q4917) (kw K hw q415) (kw K hw q4916) (Or.inl (kw K hw q4914)) ⟨by decide, by decide⟩ rfl (Nat.le_of_ble_eq_true rfl) (Nat.le_of_ble_eq_true rfl) (fs_one (⟨_, rfl, kw K hw qs145⟩))) fs_con_mono o0) ?_
  refine fs_c1 (fs_ldcl (pc := 58) (idx := 253) (v := 16) C (by decide +kernel) (kw K hw q4921)) ?_
  refine fs_c1 (fs_inv_virtual (pc := 61) (n := 8491108) C (Nat.le_of_ble_eq_true rfl) (Nat.le_of_ble_eq_true rfl) (fs_lk_virtual (idx := 244) (y := ⟨"BoardMachineModel$Tree", "head", "(J)V"⟩) (bytes := prog_119_method_21_code) (maxL := 4) (rt := (Option.none : Option Jvm.ClassFile.FieldType)) (d := 1) C (Nat.le_of_ble_eq_true rfl) (Nat.le_of_ble_eq_true rfl) (by decide +kernel) (kw K hw q4917) (kw K hw q415) (kw K hw q4916) (Or.inl (kw K hw q4914)) ⟨by decide, by decide⟩ rfl (Nat.le_of_ble_eq_true rfl) (Nat.le_of_ble_eq_true rfl) (fs_one (⟨_, rfl, kw K hw qs145⟩))) fs_con_mono o0) ?_
  refine fs_c1 (fs_inv_virtual (pc := 66) (n := 8491108) C (Nat.le_of_ble_eq_true rfl) (Nat.le_of_ble_eq_true rfl) (fs_lk_virtual (idx := 244) (y := ⟨"BoardMachineModel$Tree", "head", "(J)V"⟩) (bytes := prog_119_method_21_code) (maxL := 4) (rt := (Option.none : Option Jvm.ClassFile.FieldType)) (d := 1) C (Nat.le_of_ble_eq_true rfl) (Nat.le_of_ble_eq_true rfl) (by decide +kernel) (kw K hw q4917) (kw K hw q415) (kw K hw q4916) (Or.inl (kw K hw q4914)) ⟨by decide, by decide⟩ rfl (Nat.le_of_ble_eq_true rfl) (Nat.le_of_ble_eq_true rfl) (fs_one (⟨_, rfl, kw K hw qs145⟩))) fs_con_mono o0) ?_
  refine fs_c1 (fs_getf (pc := 71) (n := 1762017680) (idx := 53) (ref := "BoardMachineModel$Tree") (O := "BoardMachineModel$Tree") (name := "nameSize") (desc := "I") C (by decide +kernel) (Or.inl (kw K hw q4929)) (fun _ h => h) (Nat.le_of_ble_eq_true rfl) (Nat.le_of_ble_eq_true rfl) (fs_one (⟨_, ff_100_420 s0 H0 oa D⟩))) ?_
  refine fs_c1 (fs_inv_virtual (pc := 75) (n := 8491108) C (Nat.le_of_ble_eq_true rfl) (Nat.le_of_ble_eq_true rfl) (fs_lk_virtual (idx := 244) (y := ⟨"BoardMachineModel$Tree", "head", "(J)V"⟩) (bytes := prog_119_method_21_code) (maxL := 4) (rt := (Option.none : Option Jvm.ClassFile.FieldType)) (d := 1) C (Nat.le_of_ble_eq_true rfl) (Nat.le_of_ble_eq_true rfl) (by decide +kernel) (kw K hw q4917) (kw K hw q415) (kw K hw q4916) (Or.inl (kw K hw q4914)) ⟨by decide, by decide⟩ rfl (Nat.le_of_ble_eq_true rfl) (Nat.le_of_ble_eq_true rfl) (fs_one (⟨_, rfl, kw K hw qs145⟩))) fs_con_mono o0) ?_
  refine fs_c1 (fs_getf (pc := 80) (n := 1753629072) (idx := 26) (ref := "BoardMachineModel$Tree") (O := "BoardMachineModel$Tree") (name := "size") (desc := "I") C (by decide +kernel) (Or.inl (kw K hw q4927)) (fun _ h => h) (Nat.le_of_ble_eq_true rfl) (Nat.le_of_ble_eq_true rfl) (fs_one (⟨_, ff_100_418 s0 H0 oa D⟩))) ?_
  refine fs_c1 (fs_inv_virtual (pc := 84) (n := 8491108) C (Nat.le_of_ble_eq_true rfl) (Nat.le_of_ble_eq_true rfl) (fs_lk_virtual (idx := 244) (y := ⟨"BoardMachineModel$Tree", "head", "(J)V"⟩) (bytes := prog_119_method_21_code) (maxL := 4) (rt := (Option.none : Option Jvm.ClassFile.FieldType)) (d := 1) C (Nat.le_of_ble_eq_true rfl) (Nat.le_of_ble_eq_true rfl) (by decide +kernel) (kw K hw q4917) (kw K hw q415) (kw K hw q4916) (Or.inl (kw K hw q4914)) ⟨by decide, by decide⟩ rfl (Nat.le_of_ble_eq_true rfl) (Nat.le_of_ble_eq_true rfl) (fs_one (⟨_, rfl, kw K hw qs145⟩))) fs_con_mono o0) ?_
  refine fs_c1 (fs_putf (pc := 90) (n := 1745240464) (idx := 239) (ref := "BoardMachineModel$Tree") (O := "BoardMachineModel$Tree") (name := "total") (desc := "I") (fin := false) (ty := .int) C (by decide +kernel) (Or.inl ⟨rfl, Or.inl (kw K hw q4925)⟩) (fun _ h => h) (Nat.le_of_ble_eq_true rfl) (Nat.le_of_ble_eq_true rfl) (Nat.le_of_ble_eq_true rfl) rfl rfl (by decide) (fs_one (⟨rfl, ff_100_416 s0 H0 oa D⟩))) ?_
  refine fs_c1 (fs_getf (pc := 97) (n := 1753629072) (idx := 26) (ref := "BoardMachineModel$Tree") (O := "BoardMachineModel$Tree") (name := "size") (desc := "I") C (by decide +kernel) (Or.inl (kw K hw q4927)) (fun _ h => h) (Nat.le_of_ble_eq_true rfl) (Nat.le_of_ble_eq_true rfl) (fs_one (⟨_, ff_100_418 s0 H0 oa D⟩))) ?_
  refine fs_c1 (fs_getf (pc := 104) (n := 1741046162) (idx := 7) (ref := "BoardMachineModel$Tree") (O := "BoardMachineModel$Tree") (name := "all") (desc := "[I") C (by decide +kernel) (Or.inl (kw K hw q4922)) (fun _ h => h) (Nat.le_of_ble_eq_true rfl) (Nat.le_of_ble_eq_true rfl) (fs_one (⟨_, ff_100_415 s0 H0 oa D⟩))) ?_
  refine fs_c1 (fs_getf (pc := 108) (n := 1745240464) (idx := 239) (ref := "BoardMachineModel$Tree") (O := "BoardMachineModel$Tree") (name := "total") (desc := "I") C (by decide +kernel) (Or.inl (kw K hw q4925)) (fun _ h => h) (Nat.le_of_ble_eq_true rfl) (Nat.le_of_ble_eq_true rfl) (fs_one (⟨_, ff_100_416 s0 H0 oa D⟩))) ?_
  refine fs_c1 (fs_getf (pc := 114) (n := 1749434770) (idx := 13) (ref := "BoardMachineModel$Tree") (O := "BoardMachineModel$Tree") (name := "structure") (desc := "[I") C (by decide +kernel) (Or.inl (kw K hw q4926)) (fun _ h => h) (Nat.le_of_ble_eq_true rfl) (Nat.le_of_ble_eq_true rfl) (fs_one (⟨_, ff_100_417 s0 H0 oa D⟩))) ?_
  refine fs_c1 (fs_getf (pc := 128) (n := 1745240464) (idx := 239) (ref := "BoardMachineModel$Tree") (O := "BoardMachineModel$Tree") (name := "total") (desc := "I") C (by decide +kernel) (Or.inl (kw K hw q4925)) (fun _ h => h) (Nat.le_of_ble_eq_true rfl) (Nat.le_of_ble_eq_true rfl) (fs_one (⟨_, ff_100_416 s0 H0 oa D⟩))) ?_
  refine fs_c1 (fs_getf (pc := 132) (n := 1753629072) (idx := 26) (ref := "BoardMachineModel$Tree") (O := "BoardMachineModel$Tree") (name := "size") (desc := "I") C (by decide +kernel) (Or.inl (kw K hw q4927)) (fun _ h => h) (Nat.le_of_ble_eq_true rfl) (Nat.le_of_ble_eq_true rfl) (fs_one (⟨_, ff_100_418 s0 H0 oa D⟩))) ?_
  refine fs_c1 (fs_putf (pc := 136) (n := 1745240464) (idx := 239) (ref := "BoardMachineModel$Tree") (O := "BoardMachineModel$Tree") (name := "total") (desc := "I") (fin := false) (ty := .int) C (by decide +kernel) (Or.inl ⟨rfl, Or.inl (kw K hw q4925)⟩) (fun _ h => h) (Nat.le_of_ble_eq_true rfl) (Nat.le_of_ble_eq_true rfl) (Nat.le_of_ble_eq_true rfl) rfl rfl (by decide) (fs_one (⟨rfl, ff_100_416 s0 H0 oa D⟩))) ?_
  refine fs_c1 (fs_getf (pc := 143) (n := 1762017680) (idx := 53) (ref := "BoardMachineModel$Tree") (O := "BoardMachineModel$Tree") (name := "nameSize") (desc := "I") C (by decide +kernel) (Or.inl (kw K hw q4929)) (fun _ h => h) (Nat.le_of_ble_eq_true rfl) (Nat.le_of_ble_eq_true rfl) (fs_one (⟨_, ff_100_420 s0 H0 oa D⟩))) ?_
  refine fs_c1 (fs_getf (pc := 150) (n := 1741046162) (idx := 7) (ref := "BoardMachineModel$Tree") (O := "BoardMachineModel$Tree") (name := "all") (desc := "[I") C (by decide +kernel) (Or.inl (kw K hw q4922)) (fun _ h => h) (Nat.le_of_ble_eq_true rfl) (Nat.le_of_ble_eq_true rfl) (fs_one (⟨_, ff_100_415 s0 H0 oa D⟩))) ?_
  refine fs_c1 (fs_getf (pc := 154) (n := 1745240464) (idx := 239) (ref := "BoardMachineModel$Tree") (O := "BoardMachineModel$Tree") (name := "total") (desc := "I") C (by decide +kernel) (Or.inl (kw K hw q4925)) (fun _ h => h) (Nat.le_of_ble_eq_true rfl) (Nat.le_of_ble_eq_true rfl) (fs_one (⟨_, ff_100_416 s0 H0 oa D⟩))) ?_
  refine fs_c1 (fs_getf (pc := 160) (n := 1757823378) (idx := 16) (ref := "BoardMachineModel$Tree") (O := "BoardMachineModel$Tree") (name := "names") (desc := "[I") C (by decide +kernel) (Or.inl (kw K hw q4928)) (fun _ h => h) (Nat.le_of_ble_eq_true rfl) (Nat.le_of_ble_eq_true rfl) (fs_one (⟨_, ff_100_419 s0 H0 oa D⟩))) ?_
  refine fs_c1 (fs_getf (pc := 174) (n := 1745240464) (idx := 239) (ref := "BoardMachineModel$Tree") (O := "BoardMachineModel$Tree") (name := "total") (desc := "I") C (by decide +kernel) (Or.inl (kw K hw q4925)) (fun _ h => h) (Nat.le_of_ble_eq_true rfl) (Nat.le_of_ble_eq_true rfl) (fs_one (⟨_, ff_100_416 s0 H0 oa D⟩))) ?_
  refine fs_c1 (fs_getf (pc := 178) (n := 1762017680) (idx := 53) (ref := "BoardMachineModel$Tree") (O := "BoardMachineModel$Tree") (name := "nameSize") (desc := "I") C (by decide +kernel) (Or.inl (kw K hw q4929)) (fun _ h => h) (Nat.le_of_ble_eq_true rfl) (Nat.le_of_ble_eq_true rfl) (fs_one (⟨_, ff_100_420 s0 H0 oa D⟩))) ?_
  refine fs_c1 (fs_putf (pc := 182) (n := 1745240464) (idx := 239) (ref := "BoardMachineModel$Tree") (O := "BoardMachineModel$Tree") (name := "total") (desc := "I") (fin := false) (ty := .int) C (by decide +kernel) (Or.inl ⟨rfl, Or.inl (kw K hw q4925)⟩) (fun _ h => h) (Nat.le_of_ble_eq_true rfl) (Nat.le_of_ble_eq_true rfl) (Nat.le_of_ble_eq_true rfl) rfl rfl (by decide) (fs_one (⟨rfl, ff_100_416 s0 H0 oa D⟩))) ?_
  exact fs_c0
theorem hX97_init (n : Nat) : fe_H (sX97_init (FX97_machine n) (FX97_join n)) cX97_init [0] fe_kv [] 25 (fun _ => dX97_init (FX97_init_0 n)) := by
  intro j pc L st M r hc h
  rcases fe_mem_c hc with rfl | hc
  · obtain ⟨w0, m0, h⟩ := fe_lR_d h
    obtain ⟨w1, m1, h⟩ := fe_lI_d h
    obtain ⟨rfl, hz⟩ := fe_t0_d h
    exact ⟨[(0, .ref w0), (1, .int w1)], (fe_cs m0 (fe_cs m1 fe_nl)), Or.inr ((bX97_init_0 (FX97_machine n) (FX97_join n) (FX97_init_0 n ) w0 w1 M).symm.trans hz)⟩
  exact fe_mem_0 hc
theorem vX97_init (n : Nat) : fe_SB (sX97_init (FX97_machine n) (FX97_join n)) := by
  refine ⟨?_, ?_, ?_, ?_⟩
  · intro i As M r h
    rcases fe_bc h with h | h
    · obtain ⟨v0, t0, rfl, g0⟩ := fe_tR_d h
      obtain ⟨v1, t1, rfl, g1⟩ := fe_tI_d g0
      obtain ⟨rfl, hz⟩ := fe_t0_d g1
      exact mX97_machine n v0 v1 M r hz
    rcases fe_bc h with h | h
    · obtain ⟨v0, t0, rfl, g0⟩ := fe_tR_d h
      obtain ⟨rfl, hz⟩ := fe_t0_d g0
      exact mX97_join n v0 M r hz
    exact fe_no h
  · intro i As M r h
    exact fe_no h
  · intro i As M r h
    exact fe_no h
  · intro i As M r h
    exact fe_no h
theorem eX97_init (g0 : Nat → Int32 → FM → Option (FM)) (a0 : Nat) (a1 : Int32) (M : FM) : dX97_init g0 0 [(0, .ref a0), (1, .int a1)] [] M = g0 a0 a1 M := by rfl
theorem mX97_init (n : Nat) (a0 : Nat) (a1 : Int32) (M : FM) (r : FM) (h : FX97_init n a0 a1 M = some r) : fm_nx M ≤ fm_nx r ∧ fm_ns M ≤ fm_ns r :=
  fe_mono (L0 := [(0, .ref a0), (1, .int a1)]) (vX97_init n) (by decide +kernel) (hX97_init n) (fe_kv_k r) 0 rfl ((eX97_init (FX97_init_0 n ) a0 a1 M).trans h)
theorem zX97_init {s0 : State} {H0 : Heap} {oa : Nat → Nat} {D : va_G} (K : fk s0 H0 oa D) (l : Launch) (n : Nat) (a0 : Nat) (a1 : Int32) (M : FM) (r : FM) (h : FX97_init n a0 a1 M = some r) : fs_Con (fk_E s0 H0 oa D) l 11 ⟨"BoardMachineModel$Tree", "<init>", "(I)V"⟩ prog_119_method_1_code 2 (Option.none : Option Jvm.ClassFile.FieldType) [.ref a0, .int a1] M none r := by
  have o0 : fs_OS (sX97_init (FX97_machine n) (FX97_join n)) 0 0 (fs_Con (fk_E s0 H0 oa D) l 10 ⟨"BoardMachineModel$Tree", "machine", "(I)V"⟩ prog_119_method_20_code 3 (Option.none : Option Jvm.ClassFile.FieldType)) := by
    intro As M r h
    obtain ⟨v0, t0, rfl, g0⟩ := fe_tR_d h
    obtain ⟨v1, t1, rfl, g1⟩ := fe_tI_d g0
    obtain ⟨rfl, hz⟩ := fe_t0_d g1
    exact zX97_machine K l n v0 v1 M r hz
  have o1 : fs_OS (sX97_init (FX97_machine n) (FX97_join n)) 1 0 (fs_Con (fk_E s0 H0 oa D) l 2 ⟨"BoardMachineModel$Tree", "join", "()V"⟩ prog_119_method_22_code 2 (Option.none : Option Jvm.ClassFile.FieldType)) := by
    intro As M r h
    obtain ⟨v0, t0, rfl, g0⟩ := fe_tR_d h
    obtain ⟨rfl, hz⟩ := fe_t0_d g0
    exact zX97_join K l n v0 M r hz
  refine fs_method (own := "BoardMachineModel$Tree") rfl (by decide) K.2.1 (by rw [fe_slen]; exact (Nat.le_of_ble_eq_true rfl)) (mX97_init n a0 a1 M r h) (hX97_init n) 0 rfl (L0 := [(0, .ref a0), (1, .int a1)]) (fun E => fe_args_e E [.ref a0, .int a1] 0) ((eX97_init (FX97_init_0 n ) a0 a1 M).trans h) (fe_kv_k r) (fun H hR => fs_nr_o (by decide) (by decide)) ?_
  intro p e s m args below meth c Q C hnm
  have hw : s0.WarmedH s.vm := C.2.2.2.2.1
  refine fe_all C fk_hwr cX97_init [1, 8, 10, 17, 19, 26, 28, 33, 37] (by decide +kernel) (fe_fil (cps := [(1, 4, .monitorenter), (8, 10, .anewarray 425861), (10, 13, .putfield 1741046162), (17, 19, .anewarray 427909), (19, 22, .putfield 1749434770), (26, 28, .anewarray 429957), (28, 31, .putfield 1757823378), (33, 36, .invokevirtual 8491108), (37, 40, .invokevirtual 71405668)]) (by decide +kernel) ?_)
  refine fs_c1 (fs_init (pc := 1) (idx := 1) C (by decide +kernel) (kw K hw q4765) (kw K hw q441) (kw K hw q442) ⟨(Nat.le_of_ble_eq_true rfl), (Nat.le_of_ble_eq_true rfl)⟩) ?_
  refine fs_c1 (fs_newI (pc := 8) (n := 425861) C (by decide +kernel) (kw K hw q966) rfl rfl) ?_
  refine fs_c1 (fs_putf (pc := 10) (n := 1741046162) (idx := 7) (ref := "BoardMachineModel$Tree") (O := "BoardMachineModel$Tree") (name := "all") (desc := "[I") (fin := true) (ty := (.array .int)) C (by decide +kernel) (Or.inr ⟨rfl, kw K hw q4922, hnm, rfl⟩) (fun _ h => h) (Nat.le_of_ble_eq_true rfl) (Nat.le_of_ble_eq_true rfl) (Nat.le_of_ble_eq_true rfl) rfl rfl (by decide) (fs_one (⟨rfl, ff_100_415 s0 H0 oa D⟩))) ?_
  refine fs_c1 (fs_newI (pc := 17) (n := 427909) C (by decide +kernel) (kw K hw q966) rfl rfl) ?_
  refine fs_c1 (fs_putf (pc := 19) (n := 1749434770) (idx := 13) (ref := "BoardMachineModel$Tree") (O := "BoardMachineModel$Tree") (name := "structure") (desc := "[I") (fin := true) (ty := (.array .int)) C (by decide +kernel) (Or.inr ⟨rfl, kw K hw q4926, hnm, rfl⟩) (fun _ h => h) (Nat.le_of_ble_eq_true rfl) (Nat.le_of_ble_eq_true rfl) (Nat.le_of_ble_eq_true rfl) rfl rfl (by decide) (fs_one (⟨rfl, ff_100_417 s0 H0 oa D⟩))) ?_
  refine fs_c1 (fs_newI (pc := 26) (n := 429957) C (by decide +kernel) (kw K hw q966) rfl rfl) ?_
  refine fs_c1 (fs_putf (pc := 28) (n := 1757823378) (idx := 16) (ref := "BoardMachineModel$Tree") (O := "BoardMachineModel$Tree") (name := "names") (desc := "[I") (fin := true) (ty := (.array .int)) C (by decide +kernel) (Or.inr ⟨rfl, kw K hw q4928, hnm, rfl⟩) (fun _ h => h) (Nat.le_of_ble_eq_true rfl) (Nat.le_of_ble_eq_true rfl) (Nat.le_of_ble_eq_true rfl) rfl rfl (by decide) (fs_one (⟨rfl, ff_100_419 s0 H0 oa D⟩))) ?_
  refine fs_c1 (fs_inv_virtual (pc := 33) (n := 8491108) C (Nat.le_of_ble_eq_true rfl) (Nat.le_of_ble_eq_true rfl) (fs_lk_virtual (idx := 19) (y := ⟨"BoardMachineModel$Tree", "machine", "(I)V"⟩) (bytes := prog_119_method_20_code) (maxL := 3) (rt := (Option.none : Option Jvm.ClassFile.FieldType)) (d := 10) C (Nat.le_of_ble_eq_true rfl) (Nat.le_of_ble_eq_true rfl) (by decide +kernel) (kw K hw q4769) (kw K hw q415) (kw K hw q4768) (Or.inl (kw K hw q4766)) ⟨by decide, by decide⟩ rfl (Nat.le_of_ble_eq_true rfl) (Nat.le_of_ble_eq_true rfl) (fs_one (⟨_, rfl, kw K hw qs125⟩))) fs_con_mono o0) ?_
  refine fs_c1 (fs_inv_virtual (pc := 37) (n := 71405668) C (Nat.le_of_ble_eq_true rfl) (Nat.le_of_ble_eq_true rfl) (fs_lk_virtual (idx := 23) (y := ⟨"BoardMachineModel$Tree", "join", "()V"⟩) (bytes := prog_119_method_22_code) (maxL := 2) (rt := (Option.none : Option Jvm.ClassFile.FieldType)) (d := 2) C (Nat.le_of_ble_eq_true rfl) (Nat.le_of_ble_eq_true rfl) (by decide +kernel) (kw K hw q4912) (kw K hw q415) (kw K hw q4911) (Or.inl (kw K hw q4909)) ⟨by decide, by decide⟩ rfl (Nat.le_of_ble_eq_true rfl) (Nat.le_of_ble_eq_true rfl) (fs_one (⟨_, rfl, kw K hw qs144⟩))) fs_con_mono o1) ?_
  exact fs_c0
theorem hX98_reset (n : Nat) : fe_H (sX98_reset) cX98_reset [0, 2] fe_kv [2] 24 (fun j => dX98_reset (FX98_reset_0 n (FX98_reset_L2 n j)) (FX98_reset_L2 n j)) := by
  intro j pc L st M r hc h
  rcases fe_mem_c hc with rfl | hc
  · obtain ⟨w0, m0, h⟩ := fe_lR_d h
    obtain ⟨w1, m1, h⟩ := fe_lL_d h
    obtain ⟨rfl, hz⟩ := fe_t0_d h
    exact ⟨[(0, .ref w0), (1, .long w1)], (fe_cs m0 (fe_cs m1 fe_nl)), Or.inr ((bX98_reset_0 (FX98_reset_0 n (FX98_reset_L2 n j)) (FX98_reset_L2 n j) w0 w1 M).symm.trans hz)⟩
  rcases fe_mem_c hc with rfl | hc
  · obtain ⟨w0, m0, h⟩ := fe_lR_d h
    obtain ⟨w1, m1, h⟩ := fe_lL_d h
    obtain ⟨w3, m3, h⟩ := fe_lI_d h
    obtain ⟨rfl, hz⟩ := fe_t0_d h
    cases j with
    | zero => exact fe_no hz
    | succ j => exact ⟨[(0, .ref w0), (1, .long w1), (3, .int w3)], (fe_cs m0 (fe_cs m1 (fe_cs m3 fe_nl))), Or.inl ⟨j, rfl, (bX98_reset_2 (FX98_reset_0 n (FX98_reset_L2 n j)) (FX98_reset_L2 n j) w0 w1 w3 M).symm.trans hz⟩⟩
  exact fe_mem_0 hc
theorem vX98_reset (n : Nat) : fe_SB (sX98_reset) := by
  refine ⟨?_, ?_, ?_, ?_⟩
  · intro i As M r h
    exact fe_no h
  · intro i As M r h
    exact fe_no h
  · intro i As M r h
    exact fe_no h
  · intro i As M r h
    exact fe_no h
theorem eX98_reset (g0 : Nat → Int64 → FM → Option (FM)) (k2 : Nat → Int64 → Int32 → FM → Option (FM)) (a0 : Nat) (a1 : Int64) (M : FM) : dX98_reset g0 k2 0 [(0, .ref a0), (1, .long a1)] [] M = g0 a0 a1 M := by rfl
theorem mX98_reset (n : Nat) (a0 : Nat) (a1 : Int64) (M : FM) (r : FM) (h : FX98_reset n a0 a1 M = some r) : fm_nx M ≤ fm_nx r ∧ fm_ns M ≤ fm_ns r :=
  fe_mono (L0 := [(0, .ref a0), (1, .long a1)]) (vX98_reset n) (by decide +kernel) (hX98_reset n) (fe_kv_k r) n rfl ((eX98_reset (FX98_reset_0 n (FX98_reset_L2 n n)) (FX98_reset_L2 n n) a0 a1 M).trans h)
theorem zX98_reset {s0 : State} {H0 : Heap} {oa : Nat → Nat} {D : va_G} (K : fk s0 H0 oa D) (l : Launch) (n : Nat) (a0 : Nat) (a1 : Int64) (M : FM) (r : FM) (h : FX98_reset n a0 a1 M = some r) : fs_Con (fk_E s0 H0 oa D) l 1 ⟨"BoardMachineModel$Core", "reset", "(J)V"⟩ prog_113_method_2_code 4 (Option.none : Option Jvm.ClassFile.FieldType) [.ref a0, .long a1] M none r := by
  refine fs_method (own := "BoardMachineModel$Core") rfl (by decide) K.2.1 (by rw [fe_slen]; exact (Nat.le_of_ble_eq_true rfl)) (mX98_reset n a0 a1 M r h) (hX98_reset n) n rfl (L0 := [(0, .ref a0), (1, .long a1)]) (fun E => fe_args_e E [.ref a0, .long a1] 0) ((eX98_reset (FX98_reset_0 n (FX98_reset_L2 n n)) (FX98_reset_L2 n n) a0 a1 M).trans h) (fe_kv_k r) (fun H hR => fs_nr_o (by decide) (by decide)) ?_
  intro p e s m args below meth c Q C hnm
  have hw : s0.WarmedH s.vm := C.2.2.2.2.1
  refine fe_all C fk_hwr cX98_reset [9, 23, 28] (by decide +kernel) (fe_fil (cps := [(9, 12, .getfield 1451614586), (23, 26, .putfield 1455808889), (28, 31, .putfield 1480974712)]) (by decide +kernel) ?_)
  refine fs_c1 (fs_getf (pc := 9) (n := 1451614586) (idx := 7) (ref := "BoardMachineModel$Core") (O := "BoardMachineModel$Core") (name := "registers") (desc := "[J") C (by decide +kernel) (Or.inl (kw K hw q4952)) (fun _ h => h) (Nat.le_of_ble_eq_true rfl) (Nat.le_of_ble_eq_true rfl) (fs_one (⟨_, ff_94_346 s0 H0 oa D⟩))) ?_
  refine fs_c1 (fs_putf (pc := 23) (n := 1455808889) (idx := 20) (ref := "BoardMachineModel$Core") (O := "BoardMachineModel$Core") (name := "counter") (desc := "J") (fin := false) (ty := .long) C (by decide +kernel) (Or.inl ⟨rfl, Or.inl (kw K hw q4953)⟩) (fun _ h => h) (Nat.le_of_ble_eq_true rfl) (Nat.le_of_ble_eq_true rfl) (Nat.le_of_ble_eq_true rfl) rfl rfl (by decide) (fs_one (⟨rfl, ff_94_347 s0 H0 oa D⟩))) ?_
  refine fs_c1 (fs_putf (pc := 28) (n := 1480974712) (idx := 13) (ref := "BoardMachineModel$Core") (O := "BoardMachineModel$Core") (name := "waits") (desc := "I") (fin := false) (ty := .int) C (by decide +kernel) (Or.inl ⟨rfl, Or.inl (kw K hw q4959)⟩) (fun _ h => h) (Nat.le_of_ble_eq_true rfl) (Nat.le_of_ble_eq_true rfl) (Nat.le_of_ble_eq_true rfl) rfl rfl (by decide) (fs_one (⟨rfl, ff_94_353 s0 H0 oa D⟩))) ?_
  exact fs_c0
theorem hX99_reset (n : Nat) : fe_H (sX99_reset) cX99_reset [0, 2] fe_kv [2] 30 (fun j => dX99_reset (FX99_reset_0 n (FX99_reset_L2 n j)) (FX99_reset_L2 n j)) := by
  intro j pc L st M r hc h
  rcases fe_mem_c hc with rfl | hc
  · obtain ⟨w0, m0, h⟩ := fe_lR_d h
    obtain ⟨rfl, hz⟩ := fe_t0_d h
    exact ⟨[(0, .ref w0)], (fe_cs m0 fe_nl), Or.inr ((bX99_reset_0 (FX99_reset_0 n (FX99_reset_L2 n j)) (FX99_reset_L2 n j) w0 M).symm.trans hz)⟩
  rcases fe_mem_c hc with rfl | hc
  · obtain ⟨w0, m0, h⟩ := fe_lR_d h
    obtain ⟨w1, m1, h⟩ := fe_lI_d h
    obtain ⟨rfl, hz⟩ := fe_t0_d h
    cases j with
    | zero => exact fe_no hz
    | succ j => exact ⟨[(0, .ref w0), (1, .int w1)], (fe_cs m0 (fe_cs m1 fe_nl)), Or.inl ⟨j, rfl, (bX99_reset_2 (FX99_reset_0 n (FX99_reset_L2 n j)) (FX99_reset_L2 n j) w0 w1 M).symm.trans hz⟩⟩
  exact fe_mem_0 hc
theorem vX99_reset (n : Nat) : fe_SB (sX99_reset) := by
  refine ⟨?_, ?_, ?_, ?_⟩
  · intro i As M r h
    exact fe_no h
  · intro i As M r h
    exact fe_no h
  · intro i As M r h
    exact fe_no h
  · intro i As M r h
    exact fe_no h
theorem eX99_reset (g0 : Nat → FM → Option (FM)) (k2 : Nat → Int32 → FM → Option (FM)) (a0 : Nat) (M : FM) : dX99_reset g0 k2 0 [(0, .ref a0)] [] M = g0 a0 M := by rfl
theorem mX99_reset (n : Nat) (a0 : Nat) (M : FM) (r : FM) (h : FX99_reset n a0 M = some r) : fm_nx M ≤ fm_nx r ∧ fm_ns M ≤ fm_ns r :=
  fe_mono (L0 := [(0, .ref a0)]) (vX99_reset n) (by decide +kernel) (hX99_reset n) (fe_kv_k r) n rfl ((eX99_reset (FX99_reset_0 n (FX99_reset_L2 n n)) (FX99_reset_L2 n n) a0 M).trans h)
theorem zX99_reset {s0 : State} {H0 : Heap} {oa : Nat → Nat} {D : va_G} (K : fk s0 H0 oa D) (l : Launch) (n : Nat) (a0 : Nat) (M : FM) (r : FM) (h : FX99_reset n a0 M = some r) : fs_Con (fk_E s0 H0 oa D) l 1 ⟨"BoardMachineModel$Floats", "reset", "()V"⟩ prog_115_method_2_code 2 (Option.none : Option Jvm.ClassFile.FieldType) [.ref a0] M none r := by
  refine fs_method (own := "BoardMachineModel$Floats") rfl (by decide) K.2.1 (by rw [fe_slen]; exact (Nat.le_of_ble_eq_true rfl)) (mX99_reset n a0 M r h) (hX99_reset n) n rfl (L0 := [(0, .ref a0)]) (fun E => fe_args_e E [.ref a0] 0) ((eX99_reset (FX99_reset_0 n (FX99_reset_L2 n n)) (FX99_reset_L2 n n) a0 M).trans h) (fe_kv_k r) (fun H hR => fs_nr_o (by decide) (by decide)) ?_
  intro p e s m args below meth c Q C hnm
  have hw : s0.WarmedH s.vm := C.2.2.2.2.1
  refine fe_all C fk_hwr cX99_reset [9, 23, 28, 33, 38] (by decide +kernel) (fe_fil (cps := [(9, 12, .getfield 1539703170), (23, 26, .putfield 1543897472), (28, 31, .putfield 1548091776), (33, 36, .putfield 1552286081), (38, 41, .putfield 1556480387)]) (by decide +kernel) ?_)
  refine fs_c1 (fs_getf (pc := 9) (n := 1539703170) (idx := 7) (ref := "BoardMachineModel$Floats") (O := "BoardMachineModel$Floats") (name := "held") (desc := "[J") C (by decide +kernel) (Or.inl (kw K hw q4997)) (fun _ h => h) (Nat.le_of_ble_eq_true rfl) (Nat.le_of_ble_eq_true rfl) (fs_one (⟨_, ff_96_367 s0 H0 oa D⟩))) ?_
  refine fs_c1 (fs_putf (pc := 23) (n := 1543897472) (idx := 41) (ref := "BoardMachineModel$Floats") (O := "BoardMachineModel$Floats") (name := "flags") (desc := "I") (fin := false) (ty := .int) C (by decide +kernel) (Or.inl ⟨rfl, Or.inl (kw K hw q4998)⟩) (fun _ h => h) (Nat.le_of_ble_eq_true rfl) (Nat.le_of_ble_eq_true rfl) (Nat.le_of_ble_eq_true rfl) rfl rfl (by decide) (fs_one (⟨rfl, ff_96_368 s0 H0 oa D⟩))) ?_
  refine fs_c1 (fs_putf (pc := 28) (n := 1548091776) (idx := 45) (ref := "BoardMachineModel$Floats") (O := "BoardMachineModel$Floats") (name := "mode") (desc := "I") (fin := false) (ty := .int) C (by decide +kernel) (Or.inl ⟨rfl, Or.inl (kw K hw q4999)⟩) (fun _ h => h) (Nat.le_of_ble_eq_true rfl) (Nat.le_of_ble_eq_true rfl) (Nat.le_of_ble_eq_true rfl) rfl rfl (by decide) (fs_one (⟨rfl, ff_96_369 s0 H0 oa D⟩))) ?_
  refine fs_c1 (fs_putf (pc := 33) (n := 1552286081) (idx := 48) (ref := "BoardMachineModel$Floats") (O := "BoardMachineModel$Floats") (name := "value") (desc := "J") (fin := false) (ty := .long) C (by decide +kernel) (Or.inl ⟨rfl, Or.inl (kw K hw q5000)⟩) (fun _ h => h) (Nat.le_of_ble_eq_true rfl) (Nat.le_of_ble_eq_true rfl) (Nat.le_of_ble_eq_true rfl) rfl rfl (by decide) (fs_one (⟨rfl, ff_96_370 s0 H0 oa D⟩))) ?_
  refine fs_c1 (fs_putf (pc := 38) (n := 1556480387) (idx := 52) (ref := "BoardMachineModel$Floats") (O := "BoardMachineModel$Floats") (name := "written") (desc := "Z") (fin := false) (ty := .boolean) C (by decide +kernel) (Or.inl ⟨rfl, Or.inl (kw K hw q5001)⟩) (fun _ h => h) (Nat.le_of_ble_eq_true rfl) (Nat.le_of_ble_eq_true rfl) (Nat.le_of_ble_eq_true rfl) rfl rfl (by decide) (fs_one (⟨rfl, ff_96_371 s0 H0 oa D⟩))) ?_
  exact fs_c0
theorem hX100_reset (n : Nat) : fe_H (sX100_reset) cX100_reset [0, 2] fe_kv [2] 27 (fun j => dX100_reset (FX100_reset_0 n (FX100_reset_L2 n j)) (FX100_reset_L2 n j)) := by
  intro j pc L st M r hc h
  rcases fe_mem_c hc with rfl | hc
  · obtain ⟨w0, m0, h⟩ := fe_lR_d h
    obtain ⟨rfl, hz⟩ := fe_t0_d h
    exact ⟨[(0, .ref w0)], (fe_cs m0 fe_nl), Or.inr ((bX100_reset_0 (FX100_reset_0 n (FX100_reset_L2 n j)) (FX100_reset_L2 n j) w0 M).symm.trans hz)⟩
  rcases fe_mem_c hc with rfl | hc
  · obtain ⟨w0, m0, h⟩ := fe_lR_d h
    obtain ⟨w1, m1, h⟩ := fe_lI_d h
    obtain ⟨rfl, hz⟩ := fe_t0_d h
    cases j with
    | zero => exact fe_no hz
    | succ j => exact ⟨[(0, .ref w0), (1, .int w1)], (fe_cs m0 (fe_cs m1 fe_nl)), Or.inl ⟨j, rfl, (bX100_reset_2 (FX100_reset_0 n (FX100_reset_L2 n j)) (FX100_reset_L2 n j) w0 w1 M).symm.trans hz⟩⟩
  exact fe_mem_0 hc
theorem vX100_reset (n : Nat) : fe_SB (sX100_reset) := by
  refine ⟨?_, ?_, ?_, ?_⟩
  · intro i As M r h
    exact fe_no h
  · intro i As M r h
    exact fe_no h
  · intro i As M r h
    exact fe_no h
  · intro i As M r h
    exact fe_no h
theorem eX100_reset (g0 : Nat → FM → Option (FM)) (k2 : Nat → Int32 → FM → Option (FM)) (a0 : Nat) (M : FM) : dX100_reset g0 k2 0 [(0, .ref a0)] [] M = g0 a0 M := by rfl
theorem mX100_reset (n : Nat) (a0 : Nat) (M : FM) (r : FM) (h : FX100_reset n a0 M = some r) : fm_nx M ≤ fm_nx r ∧ fm_ns M ≤ fm_ns r :=
  fe_mono (L0 := [(0, .ref a0)]) (vX100_reset n) (by decide +kernel) (hX100_reset n) (fe_kv_k r) n rfl ((eX100_reset (FX100_reset_0 n (FX100_reset_L2 n n)) (FX100_reset_L2 n n) a0 M).trans h)
theorem zX100_reset {s0 : State} {H0 : Heap} {oa : Nat → Nat} {D : va_G} (K : fk s0 H0 oa D) (l : Launch) (n : Nat) (a0 : Nat) (M : FM) (r : FM) (h : FX100_reset n a0 M = some r) : fs_Con (fk_E s0 H0 oa D) l 1 ⟨"BoardMachineModel$Desk", "reset", "()V"⟩ prog_114_method_2_code 2 (Option.none : Option Jvm.ClassFile.FieldType) [.ref a0] M none r := by
  refine fs_method (own := "BoardMachineModel$Desk") rfl (by decide) K.2.1 (by rw [fe_slen]; exact (Nat.le_of_ble_eq_true rfl)) (mX100_reset n a0 M r h) (hX100_reset n) n rfl (L0 := [(0, .ref a0)]) (fun E => fe_args_e E [.ref a0] 0) ((eX100_reset (FX100_reset_0 n (FX100_reset_L2 n n)) (FX100_reset_L2 n n) a0 M).trans h) (fe_kv_k r) (fun H hR => fs_nr_o (by decide) (by decide)) ?_
  intro p e s m args below meth c Q C hnm
  have hw : s0.WarmedH s.vm := C.2.2.2.2.1
  refine fe_all C fk_hwr cX100_reset [10, 24, 29, 34] (by decide +kernel) (fe_fil (cps := [(10, 13, .getfield 1514533246), (24, 27, .putfield 1510338940), (29, 32, .putfield 1527116157), (34, 37, .putfield 1531310461)]) (by decide +kernel) ?_)
  refine fs_c1 (fs_getf (pc := 10) (n := 1514533246) (idx := 13) (ref := "BoardMachineModel$Desk") (O := "BoardMachineModel$Desk") (name := "held") (desc := "[J") C (by decide +kernel) (Or.inl (kw K hw q5065)) (fun _ h => h) (Nat.le_of_ble_eq_true rfl) (Nat.le_of_ble_eq_true rfl) (fs_one (⟨_, ff_95_361 s0 H0 oa D⟩))) ?_
  refine fs_c1 (fs_putf (pc := 24) (n := 1510338940) (idx := 7) (ref := "BoardMachineModel$Desk") (O := "BoardMachineModel$Desk") (name := "mode") (desc := "I") (fin := false) (ty := .int) C (by decide +kernel) (Or.inl ⟨rfl, Or.inl (kw K hw q5064)⟩) (fun _ h => h) (Nat.le_of_ble_eq_true rfl) (Nat.le_of_ble_eq_true rfl) (Nat.le_of_ble_eq_true rfl) rfl rfl (by decide) (fs_one (⟨rfl, ff_95_360 s0 H0 oa D⟩))) ?_
  refine fs_c1 (fs_putf (pc := 29) (n := 1527116157) (idx := 24) (ref := "BoardMachineModel$Desk") (O := "BoardMachineModel$Desk") (name := "had") (desc := "J") (fin := false) (ty := .long) C (by decide +kernel) (Or.inl ⟨rfl, Or.inl (kw K hw q5068)⟩) (fun _ h => h) (Nat.le_of_ble_eq_true rfl) (Nat.le_of_ble_eq_true rfl) (Nat.le_of_ble_eq_true rfl) rfl rfl (by decide) (fs_one (⟨rfl, ff_95_364 s0 H0 oa D⟩))) ?_
  refine fs_c1 (fs_putf (pc := 34) (n := 1531310461) (idx := 28) (ref := "BoardMachineModel$Desk") (O := "BoardMachineModel$Desk") (name := "place") (desc := "J") (fin := false) (ty := .long) C (by decide +kernel) (Or.inl ⟨rfl, Or.inl (kw K hw q5069)⟩) (fun _ h => h) (Nat.le_of_ble_eq_true rfl) (Nat.le_of_ble_eq_true rfl) (Nat.le_of_ble_eq_true rfl) rfl rfl (by decide) (fs_one (⟨rfl, ff_95_365 s0 H0 oa D⟩))) ?_
  exact fs_c0
theorem hX93_put (n : Nat) : fe_H (sX93_put) cX93_put [0, 76, 124, 131] fe_kv [76] 87 (fun j => dX93_put (FX93_put_0 n (FX93_put_L76 n j)) (FX93_put_124 n (FX93_put_L76 n j)) (FX93_put_131 n (FX93_put_L76 n j)) (FX93_put_L76 n j)) := by
  intro j pc L st M r hc h
  rcases fe_mem_c hc with rfl | hc
  · obtain ⟨w0, m0, h⟩ := fe_lR_d h
    obtain ⟨w1, m1, h⟩ := fe_lL_d h
    obtain ⟨w3, m3, h⟩ := fe_lI_d h
    obtain ⟨rfl, hz⟩ := fe_t0_d h
    exact ⟨[(0, .ref w0), (1, .long w1), (3, .int w3)], (fe_cs m0 (fe_cs m1 (fe_cs m3 fe_nl))), Or.inr ((bX93_put_0 (FX93_put_0 n (FX93_put_L76 n j)) (FX93_put_124 n (FX93_put_L76 n j)) (FX93_put_131 n (FX93_put_L76 n j)) (FX93_put_L76 n j) w0 w1 w3 M).symm.trans hz)⟩
  rcases fe_mem_c hc with rfl | hc
  · obtain ⟨w0, m0, h⟩ := fe_lR_d h
    obtain ⟨w1, m1, h⟩ := fe_lL_d h
    obtain ⟨w6, m6, h⟩ := fe_lI_d h
    obtain ⟨rfl, hz⟩ := fe_t0_d h
    cases j with
    | zero => exact fe_no hz
    | succ j => exact ⟨[(0, .ref w0), (1, .long w1), (6, .int w6)], (fe_cs m0 (fe_cs m1 (fe_cs m6 fe_nl))), Or.inl ⟨j, rfl, (bX93_put_76 (FX93_put_0 n (FX93_put_L76 n j)) (FX93_put_124 n (FX93_put_L76 n j)) (FX93_put_131 n (FX93_put_L76 n j)) (FX93_put_L76 n j) w0 w1 w6 M).symm.trans hz⟩⟩
  rcases fe_mem_c hc with rfl | hc
  · obtain ⟨w0, m0, h⟩ := fe_lR_d h
    obtain ⟨w1, m1, h⟩ := fe_lL_d h
    obtain ⟨w6, m6, h⟩ := fe_lI_d h
    obtain ⟨s1, t1, rfl, g1⟩ := fe_tI_d h
    obtain ⟨s0, t0, rfl, g0⟩ := fe_tR_d g1
    obtain ⟨rfl, hz⟩ := fe_t0_d g0
    exact ⟨[(0, .ref w0), (1, .long w1), (6, .int w6)], (fe_cs m0 (fe_cs m1 (fe_cs m6 fe_nl))), Or.inr ((bX93_put_124 (FX93_put_0 n (FX93_put_L76 n j)) (FX93_put_124 n (FX93_put_L76 n j)) (FX93_put_131 n (FX93_put_L76 n j)) (FX93_put_L76 n j) w0 w1 w6 s0 s1 M).symm.trans hz)⟩
  rcases fe_mem_c hc with rfl | hc
  · obtain ⟨w0, m0, h⟩ := fe_lR_d h
    obtain ⟨w1, m1, h⟩ := fe_lL_d h
    obtain ⟨w6, m6, h⟩ := fe_lI_d h
    obtain ⟨s2, t2, rfl, g2⟩ := fe_tL_d h
    obtain ⟨s1, t1, rfl, g1⟩ := fe_tI_d g2
    obtain ⟨s0, t0, rfl, g0⟩ := fe_tR_d g1
    obtain ⟨rfl, hz⟩ := fe_t0_d g0
    exact ⟨[(0, .ref w0), (1, .long w1), (6, .int w6)], (fe_cs m0 (fe_cs m1 (fe_cs m6 fe_nl))), Or.inr ((bX93_put_131 (FX93_put_0 n (FX93_put_L76 n j)) (FX93_put_124 n (FX93_put_L76 n j)) (FX93_put_131 n (FX93_put_L76 n j)) (FX93_put_L76 n j) w0 w1 w6 s0 s1 s2 M).symm.trans hz)⟩
  exact fe_mem_0 hc
theorem vX93_put (n : Nat) : fe_SB (sX93_put) := by
  refine ⟨?_, ?_, ?_, ?_⟩
  · intro i As M r h
    exact fe_no h
  · intro i As M r h
    exact fe_no h
  · intro i As M r h
    exact fe_no h
  · intro i As M r h
    exact fe_no h
theorem eX93_put (g0 : Nat → Int64 → Int32 → FM → Option (FM)) (g124 : Nat → Int64 → Int32 → Nat → Int32 → FM → Option (FM)) (g131 : Nat → Int64 → Int32 → Nat → Int32 → Int64 → FM → Option (FM)) (k76 : Nat → Int64 → Int32 → FM → Option (FM)) (a0 : Nat) (a1 : Int64) (a3 : Int32) (M : FM) : dX93_put g0 g124 g131 k76 0 [(0, .ref a0), (1, .long a1), (3, .int a3)] [] M = g0 a0 a1 a3 M := by rfl
theorem mX93_put (n : Nat) (a0 : Nat) (a1 : Int64) (a3 : Int32) (M : FM) (r : FM) (h : FX93_put n a0 a1 a3 M = some r) : fm_nx M ≤ fm_nx r ∧ fm_ns M ≤ fm_ns r :=
  fe_mono (L0 := [(0, .ref a0), (1, .long a1), (3, .int a3)]) (vX93_put n) (by decide +kernel) (hX93_put n) (fe_kv_k r) n rfl ((eX93_put (FX93_put_0 n (FX93_put_L76 n n)) (FX93_put_124 n (FX93_put_L76 n n)) (FX93_put_131 n (FX93_put_L76 n n)) (FX93_put_L76 n n) a0 a1 a3 M).trans h)
theorem zX93_put {s0 : State} {H0 : Heap} {oa : Nat → Nat} {D : va_G} (K : fk s0 H0 oa D) (l : Launch) (n : Nat) (a0 : Nat) (a1 : Int64) (a3 : Int32) (M : FM) (r : FM) (h : FX93_put n a0 a1 a3 M = some r) : fs_Con (fk_E s0 H0 oa D) l 1 ⟨"BoardMachineModel$Ram", "put", "(JI)V"⟩ prog_117_method_5_code 7 (Option.none : Option Jvm.ClassFile.FieldType) [.ref a0, .long a1, .int a3] M none r := by
  refine fs_method (own := "BoardMachineModel$Ram") rfl (by decide) K.2.1 (by rw [fe_slen]; exact (Nat.le_of_ble_eq_true rfl)) (mX93_put n a0 a1 a3 M r h) (hX93_put n) n rfl (L0 := [(0, .ref a0), (1, .long a1), (3, .int a3)]) (fun E => fe_args_e E [.ref a0, .long a1, .int a3] 0) ((eX93_put (FX93_put_0 n (FX93_put_L76 n n)) (FX93_put_124 n (FX93_put_L76 n n)) (FX93_put_131 n (FX93_put_L76 n n)) (FX93_put_L76 n n) a0 a1 a3 M).trans h) (fe_kv_k r) (fun H hR => fs_nr_o (by decide) (by decide)) ?_
  intro p e s m args below meth c Q C hnm
  have hw : s0.WarmedH s.vm := C.2.2.2.2.1
  refine fe_all C fk_hwr cX93_put [1, 19, 28, 37, 43, 50, 60, 83, 89, 101, 107, 112, 125] (by decide +kernel) (fe_fil (cps := [(1, 4, .jsr_w (2147483648)), (19, 22, .getfield 1627791754), (28, 31, .getfield 1627791754), (37, 40, .jsr_w (255)), (43, 46, .jsr_w (-1)), (50, 53, .jsr_w (255)), (60, 63, .getfield 1640374666), (83, 86, .getfield 1631986058), (89, 92, .getfield 1631986058), (101, 104, .getfield 1631986058), (107, 110, .jsr_w (8)), (112, 115, .jsr_w (8)), (125, 128, .getfield 1631986058)]) (by decide +kernel) ?_)
  refine fs_c1 (fs_ldcl (pc := 1) (idx := 27) (v := 2147483648) C (by decide +kernel) (kw K hw q5149)) ?_
  refine fs_c1 (fs_getf (pc := 19) (n := 1627791754) (idx := 8) (ref := "BoardMachineModel$Ram") (O := "BoardMachineModel$Ram") (name := "words") (desc := "[J") C (by decide +kernel) (Or.inl (kw K hw q4572)) (fun _ h => h) (Nat.le_of_ble_eq_true rfl) (Nat.le_of_ble_eq_true rfl) (fs_one (⟨_, ff_98_388 s0 H0 oa D⟩))) ?_
  refine fs_c1 (fs_getf (pc := 28) (n := 1627791754) (idx := 8) (ref := "BoardMachineModel$Ram") (O := "BoardMachineModel$Ram") (name := "words") (desc := "[J") C (by decide +kernel) (Or.inl (kw K hw q4572)) (fun _ h => h) (Nat.le_of_ble_eq_true rfl) (Nat.le_of_ble_eq_true rfl) (fs_one (⟨_, ff_98_388 s0 H0 oa D⟩))) ?_
  refine fs_c1 (fs_ldcl (pc := 37) (idx := 35) (v := 255) C (by decide +kernel) (kw K hw q5150)) ?_
  refine fs_c1 (fs_ldcl (pc := 43) (idx := 37) (v := -1) C (by decide +kernel) (kw K hw q5151)) ?_
  refine fs_c1 (fs_ldcl (pc := 50) (idx := 35) (v := 255) C (by decide +kernel) (kw K hw q5150)) ?_
  refine fs_c1 (fs_getf (pc := 60) (n := 1640374666) (idx := 21) (ref := "BoardMachineModel$Ram") (O := "BoardMachineModel$Ram") (name := "stores") (desc := "[I") C (by decide +kernel) (Or.inl (kw K hw q4575)) (fun _ h => h) (Nat.le_of_ble_eq_true rfl) (Nat.le_of_ble_eq_true rfl) (fs_one (⟨_, ff_98_391 s0 H0 oa D⟩))) ?_
  refine fs_c1 (fs_getf (pc := 83) (n := 1631986058) (idx := 14) (ref := "BoardMachineModel$Ram") (O := "BoardMachineModel$Ram") (name := "places") (desc := "[J") C (by decide +kernel) (Or.inl (kw K hw q4573)) (fun _ h => h) (Nat.le_of_ble_eq_true rfl) (Nat.le_of_ble_eq_true rfl) (fs_one (⟨_, ff_98_389 s0 H0 oa D⟩))) ?_
  refine fs_c1 (fs_getf (pc := 89) (n := 1631986058) (idx := 14) (ref := "BoardMachineModel$Ram") (O := "BoardMachineModel$Ram") (name := "places") (desc := "[J") C (by decide +kernel) (Or.inl (kw K hw q4573)) (fun _ h => h) (Nat.le_of_ble_eq_true rfl) (Nat.le_of_ble_eq_true rfl) (fs_one (⟨_, ff_98_389 s0 H0 oa D⟩))) ?_
  refine fs_c1 (fs_getf (pc := 101) (n := 1631986058) (idx := 14) (ref := "BoardMachineModel$Ram") (O := "BoardMachineModel$Ram") (name := "places") (desc := "[J") C (by decide +kernel) (Or.inl (kw K hw q4573)) (fun _ h => h) (Nat.le_of_ble_eq_true rfl) (Nat.le_of_ble_eq_true rfl) (fs_one (⟨_, ff_98_389 s0 H0 oa D⟩))) ?_
  refine fs_c1 (fs_ldcl (pc := 107) (idx := 39) (v := 8) C (by decide +kernel) (kw K hw q5152)) ?_
  refine fs_c1 (fs_ldcl (pc := 112) (idx := 39) (v := 8) C (by decide +kernel) (kw K hw q5152)) ?_
  refine fs_c1 (fs_getf (pc := 125) (n := 1631986058) (idx := 14) (ref := "BoardMachineModel$Ram") (O := "BoardMachineModel$Ram") (name := "places") (desc := "[J") C (by decide +kernel) (Or.inl (kw K hw q4573)) (fun _ h => h) (Nat.le_of_ble_eq_true rfl) (Nat.le_of_ble_eq_true rfl) (fs_one (⟨_, ff_98_389 s0 H0 oa D⟩))) ?_
  exact fs_c0
theorem hX98_isRegister : fe_H (sX98_isRegister) cX98_isRegister [0, 14, 15] fe_ki [] 20 (fun _ => dX98_isRegister FX98_isRegister_0 FX98_isRegister_14 FX98_isRegister_15) := by
  intro j pc L st M r hc h
  rcases fe_mem_c hc with rfl | hc
  · obtain ⟨w0, m0, h⟩ := fe_lI_d h
    obtain ⟨rfl, hz⟩ := fe_t0_d h
    exact ⟨[(0, .int w0)], (fe_cs m0 fe_nl), Or.inr ((bX98_isRegister_0 FX98_isRegister_0 FX98_isRegister_14 FX98_isRegister_15 w0 M).symm.trans hz)⟩
  rcases fe_mem_c hc with rfl | hc
  · obtain ⟨rfl, hz⟩ := fe_t0_d h
    exact ⟨[], fe_nl, Or.inr ((bX98_isRegister_14 FX98_isRegister_0 FX98_isRegister_14 FX98_isRegister_15 M).symm.trans hz)⟩
  rcases fe_mem_c hc with rfl | hc
  · obtain ⟨s0, t0, rfl, g0⟩ := fe_tI_d h
    obtain ⟨rfl, hz⟩ := fe_t0_d g0
    exact ⟨[], fe_nl, Or.inr ((bX98_isRegister_15 FX98_isRegister_0 FX98_isRegister_14 FX98_isRegister_15 s0 M).symm.trans hz)⟩
  exact fe_mem_0 hc
theorem vX98_isRegister : fe_SB (sX98_isRegister) := by
  refine ⟨?_, ?_, ?_, ?_⟩
  · intro i As M r h
    exact fe_no h
  · intro i As M r h
    exact fe_no h
  · intro i As M r h
    exact fe_no h
  · intro i As M r h
    exact fe_no h
theorem eX98_isRegister (g0 : Int32 → FM → Option (Int32 × FM)) (g14 : FM → Option (Int32 × FM)) (g15 : Int32 → FM → Option (Int32 × FM)) (a0 : Int32) (M : FM) : dX98_isRegister g0 g14 g15 0 [(0, .int a0)] [] M = g0 a0 M := by rfl
theorem mX98_isRegister (a0 : Int32) (M : FM) (r : Int32 × FM) (h : FX98_isRegister a0 M = some r) : fm_nx M ≤ fm_nx r.2 ∧ fm_ns M ≤ fm_ns r.2 :=
  fe_mono (L0 := [(0, .int a0)]) (vX98_isRegister) (by decide +kernel) (hX98_isRegister) (fe_ki_k r) 0 rfl ((eX98_isRegister FX98_isRegister_0 FX98_isRegister_14 FX98_isRegister_15 a0 M).trans h)
theorem zX98_isRegister {s0 : State} {H0 : Heap} {oa : Nat → Nat} {D : va_G} (K : fk s0 H0 oa D) (l : Launch) (a0 : Int32) (M : FM) (r : Int32 × FM) (h : FX98_isRegister a0 M = some r) : fs_Con (fk_E s0 H0 oa D) l 1 ⟨"BoardMachineModel$Core", "isRegister", "(I)Z"⟩ prog_113_method_4_code 1 (Option.some Jvm.ClassFile.FieldType.boolean) [.int a0] M (some (.int r.1)) r.2 := by
  refine fs_method (own := "BoardMachineModel$Core") rfl (by decide) K.2.1 (by rw [fe_slen]; exact (Nat.le_of_ble_eq_true rfl)) (mX98_isRegister a0 M r h) (hX98_isRegister) 0 rfl (L0 := [(0, .int a0)]) (fun E => fe_args_e E [.int a0] 0) ((eX98_isRegister FX98_isRegister_0 FX98_isRegister_14 FX98_isRegister_15 a0 M).trans h) (fe_ki_k r) (fun H hR => fs_nr_o (by decide) (by decide)) ?_
  intro p e s m args below meth c Q C hnm
  have hw : s0.WarmedH s.vm := C.2.2.2.2.1
  refine fe_all C fk_hwr cX98_isRegister [] (by decide +kernel) (fe_fil (cps := []) (by decide +kernel) ?_)
  exact fs_c0
theorem hX98_put : fe_H (sX98_put) cX98_put [0, 11] fe_kv [] 20 (fun _ => dX98_put FX98_put_0 FX98_put_11) := by
  intro j pc L st M r hc h
  rcases fe_mem_c hc with rfl | hc
  · obtain ⟨w0, m0, h⟩ := fe_lR_d h
    obtain ⟨w1, m1, h⟩ := fe_lI_d h
    obtain ⟨w2, m2, h⟩ := fe_lL_d h
    obtain ⟨rfl, hz⟩ := fe_t0_d h
    exact ⟨[(0, .ref w0), (1, .int w1), (2, .long w2)], (fe_cs m0 (fe_cs m1 (fe_cs m2 fe_nl))), Or.inr ((bX98_put_0 FX98_put_0 FX98_put_11 w0 w1 w2 M).symm.trans hz)⟩
  rcases fe_mem_c hc with rfl | hc
  · obtain ⟨rfl, hz⟩ := fe_t0_d h
    exact ⟨[], fe_nl, Or.inr ((bX98_put_11 FX98_put_0 FX98_put_11 M).symm.trans hz)⟩
  exact fe_mem_0 hc
theorem vX98_put : fe_SB (sX98_put) := by
  refine ⟨?_, ?_, ?_, ?_⟩
  · intro i As M r h
    exact fe_no h
  · intro i As M r h
    exact fe_no h
  · intro i As M r h
    exact fe_no h
  · intro i As M r h
    exact fe_no h
theorem eX98_put (g0 : Nat → Int32 → Int64 → FM → Option (FM)) (g11 : FM → Option (FM)) (a0 : Nat) (a1 : Int32) (a2 : Int64) (M : FM) : dX98_put g0 g11 0 [(0, .ref a0), (1, .int a1), (2, .long a2)] [] M = g0 a0 a1 a2 M := by rfl
theorem mX98_put (a0 : Nat) (a1 : Int32) (a2 : Int64) (M : FM) (r : FM) (h : FX98_put a0 a1 a2 M = some r) : fm_nx M ≤ fm_nx r ∧ fm_ns M ≤ fm_ns r :=
  fe_mono (L0 := [(0, .ref a0), (1, .int a1), (2, .long a2)]) (vX98_put) (by decide +kernel) (hX98_put) (fe_kv_k r) 0 rfl ((eX98_put FX98_put_0 FX98_put_11 a0 a1 a2 M).trans h)
theorem zX98_put {s0 : State} {H0 : Heap} {oa : Nat → Nat} {D : va_G} (K : fk s0 H0 oa D) (l : Launch) (a0 : Nat) (a1 : Int32) (a2 : Int64) (M : FM) (r : FM) (h : FX98_put a0 a1 a2 M = some r) : fs_Con (fk_E s0 H0 oa D) l 1 ⟨"BoardMachineModel$Core", "put", "(IJ)V"⟩ prog_113_method_6_code 4 (Option.none : Option Jvm.ClassFile.FieldType) [.ref a0, .int a1, .long a2] M none r := by
  refine fs_method (own := "BoardMachineModel$Core") rfl (by decide) K.2.1 (by rw [fe_slen]; exact (Nat.le_of_ble_eq_true rfl)) (mX98_put a0 a1 a2 M r h) (hX98_put) 0 rfl (L0 := [(0, .ref a0), (1, .int a1), (2, .long a2)]) (fun E => fe_args_e E [.ref a0, .int a1, .long a2] 0) ((eX98_put FX98_put_0 FX98_put_11 a0 a1 a2 M).trans h) (fe_kv_k r) (fun H hR => fs_nr_o (by decide) (by decide)) ?_
  intro p e s m args below meth c Q C hnm
  have hw : s0.WarmedH s.vm := C.2.2.2.2.1
  refine fe_all C fk_hwr cX98_put [5] (by decide +kernel) (fe_fil (cps := [(5, 8, .getfield 1451614586)]) (by decide +kernel) ?_)
  refine fs_c1 (fs_getf (pc := 5) (n := 1451614586) (idx := 7) (ref := "BoardMachineModel$Core") (O := "BoardMachineModel$Core") (name := "registers") (desc := "[J") C (by decide +kernel) (Or.inl (kw K hw q4952)) (fun _ h => h) (Nat.le_of_ble_eq_true rfl) (Nat.le_of_ble_eq_true rfl) (fs_one (⟨_, ff_94_346 s0 H0 oa D⟩))) ?_
  exact fs_c0
theorem hX98_set : fe_H (sX98_set FX98_isRegister FX98_put) cX98_set [0, 13, 29] fe_kv [] 21 (fun _ => dX98_set FX98_set_0 FX98_set_13 FX98_set_29) := by
  intro j pc L st M r hc h
  rcases fe_mem_c hc with rfl | hc
  · obtain ⟨w0, m0, h⟩ := fe_lR_d h
    obtain ⟨w1, m1, h⟩ := fe_lI_d h
    obtain ⟨w2, m2, h⟩ := fe_lL_d h
    obtain ⟨rfl, hz⟩ := fe_t0_d h
    exact ⟨[(0, .ref w0), (1, .int w1), (2, .long w2)], (fe_cs m0 (fe_cs m1 (fe_cs m2 fe_nl))), Or.inr ((bX98_set_0 FX98_isRegister FX98_put FX98_set_0 FX98_set_13 FX98_set_29 w0 w1 w2 M).symm.trans hz)⟩
  rcases fe_mem_c hc with rfl | hc
  · obtain ⟨w0, m0, h⟩ := fe_lR_d h
    obtain ⟨w1, m1, h⟩ := fe_lI_d h
    obtain ⟨w2, m2, h⟩ := fe_lL_d h
    obtain ⟨s1, t1, rfl, g1⟩ := fe_tI_d h
    obtain ⟨s0, t0, rfl, g0⟩ := fe_tR_d g1
    obtain ⟨rfl, hz⟩ := fe_t0_d g0
    exact ⟨[(0, .ref w0), (1, .int w1), (2, .long w2)], (fe_cs m0 (fe_cs m1 (fe_cs m2 fe_nl))), Or.inr ((bX98_set_13 FX98_isRegister FX98_put FX98_set_0 FX98_set_13 FX98_set_29 w0 w1 w2 s0 s1 M).symm.trans hz)⟩
  rcases fe_mem_c hc with rfl | hc
  · obtain ⟨rfl, hz⟩ := fe_t0_d h
    exact ⟨[], fe_nl, Or.inr ((bX98_set_29 FX98_isRegister FX98_put FX98_set_0 FX98_set_13 FX98_set_29 M).symm.trans hz)⟩
  exact fe_mem_0 hc
theorem vX98_set : fe_SB (sX98_set FX98_isRegister FX98_put) := by
  refine ⟨?_, ?_, ?_, ?_⟩
  · intro i As M r h
    rcases fe_bc h with h | h
    · obtain ⟨v0, t0, rfl, g0⟩ := fe_tR_d h
      obtain ⟨v1, t1, rfl, g1⟩ := fe_tI_d g0
      obtain ⟨v2, t2, rfl, g2⟩ := fe_tL_d g1
      obtain ⟨rfl, hz⟩ := fe_t0_d g2
      exact mX98_put v0 v1 v2 M r hz
    exact fe_no h
  · intro i As M r h
    rcases fe_bc h with h | h
    · obtain ⟨v0, t0, rfl, g0⟩ := fe_tI_d h
      obtain ⟨rfl, hz⟩ := fe_t0_d g0
      exact mX98_isRegister v0 M r hz
    exact fe_no h
  · intro i As M r h
    exact fe_no h
  · intro i As M r h
    exact fe_no h
theorem eX98_set (g0 : Nat → Int32 → Int64 → FM → Option (FM)) (g13 : Nat → Int32 → Int64 → Nat → Int32 → FM → Option (FM)) (g29 : FM → Option (FM)) (a0 : Nat) (a1 : Int32) (a2 : Int64) (M : FM) : dX98_set g0 g13 g29 0 [(0, .ref a0), (1, .int a1), (2, .long a2)] [] M = g0 a0 a1 a2 M := by rfl
theorem mX98_set (a0 : Nat) (a1 : Int32) (a2 : Int64) (M : FM) (r : FM) (h : FX98_set a0 a1 a2 M = some r) : fm_nx M ≤ fm_nx r ∧ fm_ns M ≤ fm_ns r :=
  fe_mono (L0 := [(0, .ref a0), (1, .int a1), (2, .long a2)]) (vX98_set) (by decide +kernel) (hX98_set) (fe_kv_k r) 0 rfl ((eX98_set FX98_set_0 FX98_set_13 FX98_set_29 a0 a1 a2 M).trans h)
theorem zX98_set {s0 : State} {H0 : Heap} {oa : Nat → Nat} {D : va_G} (K : fk s0 H0 oa D) (l : Launch) (a0 : Nat) (a1 : Int32) (a2 : Int64) (M : FM) (r : FM) (h : FX98_set a0 a1 a2 M = some r) : fs_Con (fk_E s0 H0 oa D) l 2 ⟨"BoardMachineModel$Core", "set", "(IJ)V"⟩ prog_113_method_7_code 4 (Option.none : Option Jvm.ClassFile.FieldType) [.ref a0, .int a1, .long a2] M none r := by
  have o0 : fs_OS (sX98_set FX98_isRegister FX98_put) 0 1 (fs_Con (fk_E s0 H0 oa D) l 1 ⟨"BoardMachineModel$Core", "isRegister", "(I)Z"⟩ prog_113_method_4_code 1 (Option.some Jvm.ClassFile.FieldType.boolean)) := by
    intro As M r h
    obtain ⟨v0, t0, rfl, g0⟩ := fe_tI_d h
    obtain ⟨rfl, hz⟩ := fe_t0_d g0
    exact zX98_isRegister K l v0 M r hz
  have o1 : fs_OS (sX98_set FX98_isRegister FX98_put) 1 0 (fs_Con (fk_E s0 H0 oa D) l 1 ⟨"BoardMachineModel$Core", "put", "(IJ)V"⟩ prog_113_method_6_code 4 (Option.none : Option Jvm.ClassFile.FieldType)) := by
    intro As M r h
    obtain ⟨v0, t0, rfl, g0⟩ := fe_tR_d h
    obtain ⟨v1, t1, rfl, g1⟩ := fe_tI_d g0
    obtain ⟨v2, t2, rfl, g2⟩ := fe_tL_d g1
    obtain ⟨rfl, hz⟩ := fe_t0_d g2
    exact zX98_put K l v0 v1 v2 M r hz
  refine fs_method (own := "BoardMachineModel$Core") rfl (by decide) K.2.1 (by rw [fe_slen]; exact (Nat.le_of_ble_eq_true rfl)) (mX98_set a0 a1 a2 M r h) (hX98_set) 0 rfl (L0 := [(0, .ref a0), (1, .int a1), (2, .long a2)]) (fun E => fe_args_e E [.ref a0, .int a1, .long a2] 0) ((eX98_set FX98_set_0 FX98_set_13 FX98_set_29 a0 a1 a2 M).trans h) (fe_kv_k r) (fun H hR => fs_nr_o (by decide) (by decide)) ?_
  intro p e s m args below meth c Q C hnm
  have hw : s0.WarmedH s.vm := C.2.2.2.2.1
  refine fe_all C fk_hwr cX98_set [2, 13, 17, 26] (by decide +kernel) (fe_fil (cps := [(2, 5, .invokestatic 5), (13, 16, .putfield 1447420280), (17, 20, .getfield 1447420280), (26, 29, .invokevirtual 79788126)]) (by decide +kernel) ?_)
  refine fs_c1 (fs_inv_static (pc := 2) (n := 5) C (fs_lk_static (idx := 27) (y := ⟨"BoardMachineModel$Core", "isRegister", "(I)Z"⟩) (bytes := prog_113_method_4_code) (maxL := 1) (rt := (Option.some Jvm.ClassFile.FieldType.boolean)) (d := 1) C (by decide +kernel) (kw K hw q5159) (kw K hw q416) (kw K hw q5158) (Or.inl (kw K hw q5157)) ⟨by decide, by decide⟩ rfl (Nat.le_of_ble_eq_true rfl) (Nat.le_of_ble_eq_true rfl)) fs_con_mono o0) ?_
  refine fs_c1 (fs_putf (pc := 13) (n := 1447420280) (idx := 24) (ref := "BoardMachineModel$Core") (O := "BoardMachineModel$Core") (name := "thrown") (desc := "I") (fin := false) (ty := .int) C (by decide +kernel) (Or.inl ⟨rfl, Or.inl (kw K hw q4951)⟩) (fun _ h => h) (Nat.le_of_ble_eq_true rfl) (Nat.le_of_ble_eq_true rfl) (Nat.le_of_ble_eq_true rfl) rfl rfl (by decide) (fs_one (⟨rfl, ff_94_345 s0 H0 oa D⟩))) ?_
  refine fs_c1 (fs_getf (pc := 17) (n := 1447420280) (idx := 24) (ref := "BoardMachineModel$Core") (O := "BoardMachineModel$Core") (name := "thrown") (desc := "I") C (by decide +kernel) (Or.inl (kw K hw q4951)) (fun _ h => h) (Nat.le_of_ble_eq_true rfl) (Nat.le_of_ble_eq_true rfl) (fs_one (⟨_, ff_94_345 s0 H0 oa D⟩))) ?_
  refine fs_c1 (fs_inv_virtual (pc := 26) (n := 79788126) C (Nat.le_of_ble_eq_true rfl) (Nat.le_of_ble_eq_true rfl) (fs_lk_virtual (idx := 31) (y := ⟨"BoardMachineModel$Core", "put", "(IJ)V"⟩) (bytes := prog_113_method_6_code) (maxL := 4) (rt := (Option.none : Option Jvm.ClassFile.FieldType)) (d := 1) C (Nat.le_of_ble_eq_true rfl) (Nat.le_of_ble_eq_true rfl) (by decide +kernel) (kw K hw q5163) (kw K hw q416) (kw K hw q5162) (Or.inl (kw K hw q5160)) ⟨by decide, by decide⟩ rfl (Nat.le_of_ble_eq_true rfl) (Nat.le_of_ble_eq_true rfl) (fs_one (⟨_, rfl, kw K hw qs149⟩))) fs_con_mono o1) ?_
  exact fs_c0
theorem hX101_reset (n : Nat) : fe_H (sX101_reset) cX101_reset [0, 2] fe_kv [2] 23 (fun j => dX101_reset (FX101_reset_0 n (FX101_reset_L2 n j)) (FX101_reset_L2 n j)) := by
  intro j pc L st M r hc h
  rcases fe_mem_c hc with rfl | hc
  · obtain ⟨w0, m0, h⟩ := fe_lR_d h
    obtain ⟨rfl, hz⟩ := fe_t0_d h
    exact ⟨[(0, .ref w0)], (fe_cs m0 fe_nl), Or.inr ((bX101_reset_0 (FX101_reset_0 n (FX101_reset_L2 n j)) (FX101_reset_L2 n j) w0 M).symm.trans hz)⟩
  rcases fe_mem_c hc with rfl | hc
  · obtain ⟨w0, m0, h⟩ := fe_lR_d h
    obtain ⟨w1, m1, h⟩ := fe_lI_d h
    obtain ⟨rfl, hz⟩ := fe_t0_d h
    cases j with
    | zero => exact fe_no hz
    | succ j => exact ⟨[(0, .ref w0), (1, .int w1)], (fe_cs m0 (fe_cs m1 fe_nl)), Or.inl ⟨j, rfl, (bX101_reset_2 (FX101_reset_0 n (FX101_reset_L2 n j)) (FX101_reset_L2 n j) w0 w1 M).symm.trans hz⟩⟩
  exact fe_mem_0 hc
theorem vX101_reset (n : Nat) : fe_SB (sX101_reset) := by
  refine ⟨?_, ?_, ?_, ?_⟩
  · intro i As M r h
    exact fe_no h
  · intro i As M r h
    exact fe_no h
  · intro i As M r h
    exact fe_no h
  · intro i As M r h
    exact fe_no h
theorem eX101_reset (g0 : Nat → FM → Option (FM)) (k2 : Nat → Int32 → FM → Option (FM)) (a0 : Nat) (M : FM) : dX101_reset g0 k2 0 [(0, .ref a0)] [] M = g0 a0 M := by rfl
theorem mX101_reset (n : Nat) (a0 : Nat) (M : FM) (r : FM) (h : FX101_reset n a0 M = some r) : fm_nx M ≤ fm_nx r ∧ fm_ns M ≤ fm_ns r :=
  fe_mono (L0 := [(0, .ref a0)]) (vX101_reset n) (by decide +kernel) (hX101_reset n) (fe_kv_k r) n rfl ((eX101_reset (FX101_reset_0 n (FX101_reset_L2 n n)) (FX101_reset_L2 n n) a0 M).trans h)
theorem zX101_reset {s0 : State} {H0 : Heap} {oa : Nat → Nat} {D : va_G} (K : fk s0 H0 oa D) (l : Launch) (n : Nat) (a0 : Nat) (M : FM) (r : FM) (h : FX101_reset n a0 M = some r) : fs_Con (fk_E s0 H0 oa D) l 1 ⟨"BoardMachineModel$Walk", "reset", "()V"⟩ prog_120_method_2_code 2 (Option.none : Option Jvm.ClassFile.FieldType) [.ref a0] M none r := by
  refine fs_method (own := "BoardMachineModel$Walk") rfl (by decide) K.2.1 (by rw [fe_slen]; exact (Nat.le_of_ble_eq_true rfl)) (mX101_reset n a0 M r h) (hX101_reset n) n rfl (L0 := [(0, .ref a0)]) (fun E => fe_args_e E [.ref a0] 0) ((eX101_reset (FX101_reset_0 n (FX101_reset_L2 n n)) (FX101_reset_L2 n n) a0 M).trans h) (fe_kv_k r) (fun H hR => fs_nr_o (by decide) (by decide)) ?_
  intro p e s m args below meth c Q C hnm
  have hw : s0.WarmedH s.vm := C.2.2.2.2.1
  refine fe_all C fk_hwr cX101_reset [9, 16] (by decide +kernel) (fe_fil (cps := [(9, 12, .getfield 1791381910), (16, 19, .getfield 1795576214)]) (by decide +kernel) ?_)
  refine fs_c1 (fs_getf (pc := 9) (n := 1791381910) (idx := 7) (ref := "BoardMachineModel$Walk") (O := "BoardMachineModel$Walk") (name := "configs") (desc := "[I") C (by decide +kernel) (Or.inl (kw K hw q5097)) (fun _ h => h) (Nat.le_of_ble_eq_true rfl) (Nat.le_of_ble_eq_true rfl) (fs_one (⟨_, ff_101_427 s0 H0 oa D⟩))) ?_
  refine fs_c1 (fs_getf (pc := 16) (n := 1795576214) (idx := 13) (ref := "BoardMachineModel$Walk") (O := "BoardMachineModel$Walk") (name := "numbers") (desc := "[J") C (by decide +kernel) (Or.inl (kw K hw q5098)) (fun _ h => h) (Nat.le_of_ble_eq_true rfl) (Nat.le_of_ble_eq_true rfl) (fs_one (⟨_, ff_101_428 s0 H0 oa D⟩))) ?_
  exact fs_c0
theorem hX93_drop : fe_H (sX93_drop) cX93_drop [0] fe_kv [] 20 (fun _ => dX93_drop FX93_drop_0) := by
  intro j pc L st M r hc h
  rcases fe_mem_c hc with rfl | hc
  · obtain ⟨w0, m0, h⟩ := fe_lR_d h
    obtain ⟨w1, m1, h⟩ := fe_lI_d h
    obtain ⟨rfl, hz⟩ := fe_t0_d h
    exact ⟨[(0, .ref w0), (1, .int w1)], (fe_cs m0 (fe_cs m1 fe_nl)), Or.inr ((bX93_drop_0 FX93_drop_0 w0 w1 M).symm.trans hz)⟩
  exact fe_mem_0 hc
theorem vX93_drop : fe_SB (sX93_drop) := by
  refine ⟨?_, ?_, ?_, ?_⟩
  · intro i As M r h
    exact fe_no h
  · intro i As M r h
    exact fe_no h
  · intro i As M r h
    exact fe_no h
  · intro i As M r h
    exact fe_no h
theorem eX93_drop (g0 : Nat → Int32 → FM → Option (FM)) (a0 : Nat) (a1 : Int32) (M : FM) : dX93_drop g0 0 [(0, .ref a0), (1, .int a1)] [] M = g0 a0 a1 M := by rfl
theorem mX93_drop (a0 : Nat) (a1 : Int32) (M : FM) (r : FM) (h : FX93_drop a0 a1 M = some r) : fm_nx M ≤ fm_nx r ∧ fm_ns M ≤ fm_ns r :=
  fe_mono (L0 := [(0, .ref a0), (1, .int a1)]) (vX93_drop) (by decide +kernel) (hX93_drop) (fe_kv_k r) 0 rfl ((eX93_drop FX93_drop_0 a0 a1 M).trans h)
theorem zX93_drop {s0 : State} {H0 : Heap} {oa : Nat → Nat} {D : va_G} (K : fk s0 H0 oa D) (l : Launch) (a0 : Nat) (a1 : Int32) (M : FM) (r : FM) (h : FX93_drop a0 a1 M = some r) : fs_Con (fk_E s0 H0 oa D) l 1 ⟨"BoardMachineModel$Ram", "drop", "(I)V"⟩ prog_117_method_8_code 2 (Option.none : Option Jvm.ClassFile.FieldType) [.ref a0, .int a1] M none r := by
  refine fs_method (own := "BoardMachineModel$Ram") rfl (by decide) K.2.1 (by rw [fe_slen]; exact (Nat.le_of_ble_eq_true rfl)) (mX93_drop a0 a1 M r h) (hX93_drop) 0 rfl (L0 := [(0, .ref a0), (1, .int a1)]) (fun E => fe_args_e E [.ref a0, .int a1] 0) ((eX93_drop FX93_drop_0 a0 a1 M).trans h) (fe_kv_k r) (fun H hR => fs_nr_o (by decide) (by decide)) ?_
  intro p e s m args below meth c Q C hnm
  have hw : s0.WarmedH s.vm := C.2.2.2.2.1
  refine fe_all C fk_hwr cX93_drop [1] (by decide +kernel) (fe_fil (cps := [(1, 4, .getfield 1631986058)]) (by decide +kernel) ?_)
  refine fs_c1 (fs_getf (pc := 1) (n := 1631986058) (idx := 14) (ref := "BoardMachineModel$Ram") (O := "BoardMachineModel$Ram") (name := "places") (desc := "[J") C (by decide +kernel) (Or.inl (kw K hw q4573)) (fun _ h => h) (Nat.le_of_ble_eq_true rfl) (Nat.le_of_ble_eq_true rfl) (fs_one (⟨_, ff_98_389 s0 H0 oa D⟩))) ?_
  exact fs_c0
theorem hX92_begin (n : Nat) : fe_H (sX92_begin (FX98_reset n) (FX99_reset n) (FX100_reset n) (FX93_put n) FX98_set (FX101_reset n) FX93_drop) cX92_begin [0, 2, 73, 114] fe_ki [2, 73, 114] 95 (fun j => dX92_begin (FX92_begin_0 n (FX92_begin_L n j).1 (FX92_begin_L n j).2.1 (FX92_begin_L n j).2.2) (FX92_begin_L n j).1 (FX92_begin_L n j).2.1 (FX92_begin_L n j).2.2) := by
  intro j pc L st M r hc h
  rcases fe_mem_c hc with rfl | hc
  · obtain ⟨w0, m0, h⟩ := fe_lR_d h
    obtain ⟨rfl, hz⟩ := fe_t0_d h
    exact ⟨[(0, .ref w0)], (fe_cs m0 fe_nl), Or.inr ((bX92_begin_0 (FX98_reset n) (FX99_reset n) (FX100_reset n) (FX93_put n) FX98_set (FX101_reset n) FX93_drop (FX92_begin_0 n (FX92_begin_L n j).1 (FX92_begin_L n j).2.1 (FX92_begin_L n j).2.2) (FX92_begin_L n j).1 (FX92_begin_L n j).2.1 (FX92_begin_L n j).2.2 w0 M).symm.trans hz)⟩
  rcases fe_mem_c hc with rfl | hc
  · obtain ⟨w0, m0, h⟩ := fe_lR_d h
    obtain ⟨w1, m1, h⟩ := fe_lI_d h
    obtain ⟨rfl, hz⟩ := fe_t0_d h
    cases j with
    | zero => exact fe_no hz
    | succ j => exact ⟨[(0, .ref w0), (1, .int w1)], (fe_cs m0 (fe_cs m1 fe_nl)), Or.inl ⟨j, rfl, (bX92_begin_2 (FX98_reset n) (FX99_reset n) (FX100_reset n) (FX93_put n) FX98_set (FX101_reset n) FX93_drop (FX92_begin_0 n (FX92_begin_L n j).1 (FX92_begin_L n j).2.1 (FX92_begin_L n j).2.2) (FX92_begin_L n j).1 (FX92_begin_L n j).2.1 (FX92_begin_L n j).2.2 w0 w1 M).symm.trans hz⟩⟩
  rcases fe_mem_c hc with rfl | hc
  · obtain ⟨w0, m0, h⟩ := fe_lR_d h
    obtain ⟨w1, m1, h⟩ := fe_lI_d h
    obtain ⟨rfl, hz⟩ := fe_t0_d h
    cases j with
    | zero => exact fe_no hz
    | succ j => exact ⟨[(0, .ref w0), (1, .int w1)], (fe_cs m0 (fe_cs m1 fe_nl)), Or.inl ⟨j, rfl, (bX92_begin_73 (FX98_reset n) (FX99_reset n) (FX100_reset n) (FX93_put n) FX98_set (FX101_reset n) FX93_drop (FX92_begin_0 n (FX92_begin_L n j).1 (FX92_begin_L n j).2.1 (FX92_begin_L n j).2.2) (FX92_begin_L n j).1 (FX92_begin_L n j).2.1 (FX92_begin_L n j).2.2 w0 w1 M).symm.trans hz⟩⟩
  rcases fe_mem_c hc with rfl | hc
  · obtain ⟨w0, m0, h⟩ := fe_lR_d h
    obtain ⟨w1, m1, h⟩ := fe_lI_d h
    obtain ⟨rfl, hz⟩ := fe_t0_d h
    cases j with
    | zero => exact fe_no hz
    | succ j => exact ⟨[(0, .ref w0), (1, .int w1)], (fe_cs m0 (fe_cs m1 fe_nl)), Or.inl ⟨j, rfl, (bX92_begin_114 (FX98_reset n) (FX99_reset n) (FX100_reset n) (FX93_put n) FX98_set (FX101_reset n) FX93_drop (FX92_begin_0 n (FX92_begin_L n j).1 (FX92_begin_L n j).2.1 (FX92_begin_L n j).2.2) (FX92_begin_L n j).1 (FX92_begin_L n j).2.1 (FX92_begin_L n j).2.2 w0 w1 M).symm.trans hz⟩⟩
  exact fe_mem_0 hc
theorem vX92_begin (n : Nat) : fe_SB (sX92_begin (FX98_reset n) (FX99_reset n) (FX100_reset n) (FX93_put n) FX98_set (FX101_reset n) FX93_drop) := by
  refine ⟨?_, ?_, ?_, ?_⟩
  · intro i As M r h
    rcases fe_bc h with h | h
    · obtain ⟨v0, t0, rfl, g0⟩ := fe_tR_d h
      obtain ⟨v1, t1, rfl, g1⟩ := fe_tL_d g0
      obtain ⟨rfl, hz⟩ := fe_t0_d g1
      exact mX98_reset n v0 v1 M r hz
    rcases fe_bc h with h | h
    · obtain ⟨v0, t0, rfl, g0⟩ := fe_tR_d h
      obtain ⟨rfl, hz⟩ := fe_t0_d g0
      exact mX99_reset n v0 M r hz
    rcases fe_bc h with h | h
    · obtain ⟨v0, t0, rfl, g0⟩ := fe_tR_d h
      obtain ⟨rfl, hz⟩ := fe_t0_d g0
      exact mX100_reset n v0 M r hz
    rcases fe_bc h with h | h
    · obtain ⟨v0, t0, rfl, g0⟩ := fe_tR_d h
      obtain ⟨v1, t1, rfl, g1⟩ := fe_tL_d g0
      obtain ⟨v2, t2, rfl, g2⟩ := fe_tI_d g1
      obtain ⟨rfl, hz⟩ := fe_t0_d g2
      exact mX93_put n v0 v1 v2 M r hz
    rcases fe_bc h with h | h
    · obtain ⟨v0, t0, rfl, g0⟩ := fe_tR_d h
      obtain ⟨v1, t1, rfl, g1⟩ := fe_tI_d g0
      obtain ⟨v2, t2, rfl, g2⟩ := fe_tL_d g1
      obtain ⟨rfl, hz⟩ := fe_t0_d g2
      exact mX98_set v0 v1 v2 M r hz
    rcases fe_bc h with h | h
    · obtain ⟨v0, t0, rfl, g0⟩ := fe_tR_d h
      obtain ⟨rfl, hz⟩ := fe_t0_d g0
      exact mX101_reset n v0 M r hz
    rcases fe_bc h with h | h
    · obtain ⟨v0, t0, rfl, g0⟩ := fe_tR_d h
      obtain ⟨v1, t1, rfl, g1⟩ := fe_tI_d g0
      obtain ⟨rfl, hz⟩ := fe_t0_d g1
      exact mX93_drop v0 v1 M r hz
    exact fe_no h
  · intro i As M r h
    exact fe_no h
  · intro i As M r h
    exact fe_no h
  · intro i As M r h
    exact fe_no h
theorem eX92_begin (g0 : Nat → FM → Option (Int32 × FM)) (k2 : Nat → Int32 → FM → Option (Int32 × FM)) (k73 : Nat → Int32 → FM → Option (Int32 × FM)) (k114 : Nat → Int32 → FM → Option (Int32 × FM)) (a0 : Nat) (M : FM) : dX92_begin g0 k2 k73 k114 0 [(0, .ref a0)] [] M = g0 a0 M := by rfl
theorem mX92_begin (n : Nat) (a0 : Nat) (M : FM) (r : Int32 × FM) (h : FX92_begin n a0 M = some r) : fm_nx M ≤ fm_nx r.2 ∧ fm_ns M ≤ fm_ns r.2 :=
  fe_mono (L0 := [(0, .ref a0)]) (vX92_begin n) (by decide +kernel) (hX92_begin n) (fe_ki_k r) n rfl ((eX92_begin (FX92_begin_0 n (FX92_begin_L n n).1 (FX92_begin_L n n).2.1 (FX92_begin_L n n).2.2) (FX92_begin_L n n).1 (FX92_begin_L n n).2.1 (FX92_begin_L n n).2.2 a0 M).trans h)
theorem zX92_begin {s0 : State} {H0 : Heap} {oa : Nat → Nat} {D : va_G} (K : fk s0 H0 oa D) (l : Launch) (n : Nat) (a0 : Nat) (M : FM) (r : Int32 × FM) (h : FX92_begin n a0 M = some r) : fs_Con (fk_E s0 H0 oa D) l 3 ⟨"BoardMachineModel", "begin", "()I"⟩ prog_111_method_14_code 2 (Option.some Jvm.ClassFile.FieldType.int) [.ref a0] M (some (.int r.1)) r.2 := by
  have o0 : fs_OS (sX92_begin (FX98_reset n) (FX99_reset n) (FX100_reset n) (FX93_put n) FX98_set (FX101_reset n) FX93_drop) 0 0 (fs_Con (fk_E s0 H0 oa D) l 1 ⟨"BoardMachineModel$Core", "reset", "(J)V"⟩ prog_113_method_2_code 4 (Option.none : Option Jvm.ClassFile.FieldType)) := by
    intro As M r h
    obtain ⟨v0, t0, rfl, g0⟩ := fe_tR_d h
    obtain ⟨v1, t1, rfl, g1⟩ := fe_tL_d g0
    obtain ⟨rfl, hz⟩ := fe_t0_d g1
    exact zX98_reset K l n v0 v1 M r hz
  have o1 : fs_OS (sX92_begin (FX98_reset n) (FX99_reset n) (FX100_reset n) (FX93_put n) FX98_set (FX101_reset n) FX93_drop) 1 0 (fs_Con (fk_E s0 H0 oa D) l 1 ⟨"BoardMachineModel$Floats", "reset", "()V"⟩ prog_115_method_2_code 2 (Option.none : Option Jvm.ClassFile.FieldType)) := by
    intro As M r h
    obtain ⟨v0, t0, rfl, g0⟩ := fe_tR_d h
    obtain ⟨rfl, hz⟩ := fe_t0_d g0
    exact zX99_reset K l n v0 M r hz
  have o2 : fs_OS (sX92_begin (FX98_reset n) (FX99_reset n) (FX100_reset n) (FX93_put n) FX98_set (FX101_reset n) FX93_drop) 2 0 (fs_Con (fk_E s0 H0 oa D) l 1 ⟨"BoardMachineModel$Desk", "reset", "()V"⟩ prog_114_method_2_code 2 (Option.none : Option Jvm.ClassFile.FieldType)) := by
    intro As M r h
    obtain ⟨v0, t0, rfl, g0⟩ := fe_tR_d h
    obtain ⟨rfl, hz⟩ := fe_t0_d g0
    exact zX100_reset K l n v0 M r hz
  have o3 : fs_OS (sX92_begin (FX98_reset n) (FX99_reset n) (FX100_reset n) (FX93_put n) FX98_set (FX101_reset n) FX93_drop) 3 0 (fs_Con (fk_E s0 H0 oa D) l 1 ⟨"BoardMachineModel$Ram", "put", "(JI)V"⟩ prog_117_method_5_code 7 (Option.none : Option Jvm.ClassFile.FieldType)) := by
    intro As M r h
    obtain ⟨v0, t0, rfl, g0⟩ := fe_tR_d h
    obtain ⟨v1, t1, rfl, g1⟩ := fe_tL_d g0
    obtain ⟨v2, t2, rfl, g2⟩ := fe_tI_d g1
    obtain ⟨rfl, hz⟩ := fe_t0_d g2
    exact zX93_put K l n v0 v1 v2 M r hz
  have o4 : fs_OS (sX92_begin (FX98_reset n) (FX99_reset n) (FX100_reset n) (FX93_put n) FX98_set (FX101_reset n) FX93_drop) 4 0 (fs_Con (fk_E s0 H0 oa D) l 2 ⟨"BoardMachineModel$Core", "set", "(IJ)V"⟩ prog_113_method_7_code 4 (Option.none : Option Jvm.ClassFile.FieldType)) := by
    intro As M r h
    obtain ⟨v0, t0, rfl, g0⟩ := fe_tR_d h
    obtain ⟨v1, t1, rfl, g1⟩ := fe_tI_d g0
    obtain ⟨v2, t2, rfl, g2⟩ := fe_tL_d g1
    obtain ⟨rfl, hz⟩ := fe_t0_d g2
    exact zX98_set K l v0 v1 v2 M r hz
  have o5 : fs_OS (sX92_begin (FX98_reset n) (FX99_reset n) (FX100_reset n) (FX93_put n) FX98_set (FX101_reset n) FX93_drop) 5 0 (fs_Con (fk_E s0 H0 oa D) l 1 ⟨"BoardMachineModel$Walk", "reset", "()V"⟩ prog_120_method_2_code 2 (Option.none : Option Jvm.ClassFile.FieldType)) := by
    intro As M r h
    obtain ⟨v0, t0, rfl, g0⟩ := fe_tR_d h
    obtain ⟨rfl, hz⟩ := fe_t0_d g0
    exact zX101_reset K l n v0 M r hz
  have o6 : fs_OS (sX92_begin (FX98_reset n) (FX99_reset n) (FX100_reset n) (FX93_put n) FX98_set (FX101_reset n) FX93_drop) 6 0 (fs_Con (fk_E s0 H0 oa D) l 1 ⟨"BoardMachineModel$Ram", "drop", "(I)V"⟩ prog_117_method_8_code 2 (Option.none : Option Jvm.ClassFile.FieldType)) := by
    intro As M r h
    obtain ⟨v0, t0, rfl, g0⟩ := fe_tR_d h
    obtain ⟨v1, t1, rfl, g1⟩ := fe_tI_d g0
    obtain ⟨rfl, hz⟩ := fe_t0_d g1
    exact zX93_drop K l v0 v1 M r hz
  refine fs_method (own := "BoardMachineModel") rfl (by decide) K.2.1 (by rw [fe_slen]; exact (Nat.le_of_ble_eq_true rfl)) (mX92_begin n a0 M r h) (hX92_begin n) n rfl (L0 := [(0, .ref a0)]) (fun E => fe_args_e E [.ref a0] 0) ((eX92_begin (FX92_begin_0 n (FX92_begin_L n n).1 (FX92_begin_L n n).2.1 (FX92_begin_L n n).2.2) (FX92_begin_L n n).1 (FX92_begin_L n n).2.1 (FX92_begin_L n n).2.2 a0 M).trans h) (fe_ki_k r) (fun H hR => fs_nr_o (by decide) (by decide)) ?_
  intro p e s m args below meth c Q C hnm
  have hw : s0.WarmedH s.vm := C.2.2.2.2.1
  refine fe_all C fk_hwr cX92_begin [4, 11, 17, 20, 24, 29, 33, 38, 42, 47, 51, 55, 59, 75, 78, 85, 88, 95, 98, 103, 116, 123, 132, 136, 143, 146, 157, 161, 164] (by decide +kernel) (fe_fil (cps := [(4, 7, .getfield 1246085488), (11, 14, .getfield 1271251314), (17, 20, .getfield 1313194353), (20, 23, .invokevirtual 8484958), (24, 27, .getfield 1275445618), (29, 32, .invokevirtual 71401568), (33, 36, .getfield 1279639922), (38, 41, .invokevirtual 138509407), (42, 45, .getfield 1283834226), (47, 50, .invokevirtual 339842149), (51, 54, .getfield 1250279794), (55, 58, .invokevirtual 411142242), (59, 62, .getfield 1288028530), (75, 78, .getfield 1267057010), (78, 81, .getfield 1745240464), (85, 88, .getfield 1250279794), (88, 91, .jsr_w (2151669760)), (95, 98, .getfield 1267057010), (98, 101, .getfield 1741046162), (103, 106, .invokevirtual 214009954), (116, 119, .getfield 1246085488), (123, 126, .getfield 1271251314), (132, 135, .invokevirtual 281114718), (136, 139, .getfield 1271251314), (143, 146, .jsr_w (2151669760)), (146, 149, .invokevirtual 281114718), (157, 160, .putfield 1321582960), (161, 164, .getfield 1267057010), (164, 167, .getfield 1745240464)]) (by decide +kernel) ?_)
  refine fs_c1 (fs_getf (pc := 4) (n := 1246085488) (idx := 82) (ref := "BoardMachineModel") (O := "BoardMachineModel") (name := "processors") (desc := "I") C (by decide +kernel) (Or.inl (kw K hw q5165)) (fun _ h => h) (Nat.le_of_ble_eq_true rfl) (Nat.le_of_ble_eq_true rfl) (fs_one (⟨_, ff_92_297 s0 H0 oa D⟩))) ?_
  refine fs_c1 (fs_getf (pc := 11) (n := 1271251314) (idx := 34) (ref := "BoardMachineModel") (O := "BoardMachineModel") (name := "cores") (desc := "[LBoardMachineModel$Core;") C (by decide +kernel) (Or.inl (kw K hw q5171)) (fun _ h => h) (Nat.le_of_ble_eq_true rfl) (Nat.le_of_ble_eq_true rfl) (fs_one (⟨_, ff_92_303 s0 H0 oa D⟩))) ?_
  refine fs_c1 (fs_getf (pc := 17) (n := 1313194353) (idx := 70) (ref := "BoardMachineModel") (O := "BoardMachineModel") (name := "entry") (desc := "J") C (by decide +kernel) (Or.inl (kw K hw q5181)) (fun _ h => h) (Nat.le_of_ble_eq_true rfl) (Nat.le_of_ble_eq_true rfl) (fs_one (⟨_, ff_92_313 s0 H0 oa D⟩))) ?_
  refine fs_c1 (fs_inv_virtual (pc := 20) (n := 8484958) C (Nat.le_of_ble_eq_true rfl) (Nat.le_of_ble_eq_true rfl) (fs_lk_virtual (idx := 180) (y := ⟨"BoardMachineModel$Core", "reset", "(J)V"⟩) (bytes := prog_113_method_2_code) (maxL := 4) (rt := (Option.none : Option Jvm.ClassFile.FieldType)) (d := 1) C (Nat.le_of_ble_eq_true rfl) (Nat.le_of_ble_eq_true rfl) (by decide +kernel) (kw K hw q5127) (kw K hw q416) (kw K hw q5125) (Or.inl (kw K hw q5124)) ⟨by decide, by decide⟩ rfl (Nat.le_of_ble_eq_true rfl) (Nat.le_of_ble_eq_true rfl) (fs_one (⟨_, rfl, kw K hw q5126⟩))) fs_con_mono o0) ?_
  refine fs_c1 (fs_getf (pc := 24) (n := 1275445618) (idx := 40) (ref := "BoardMachineModel") (O := "BoardMachineModel") (name := "floats") (desc := "[LBoardMachineModel$Floats;") C (by decide +kernel) (Or.inl (kw K hw q5172)) (fun _ h => h) (Nat.le_of_ble_eq_true rfl) (Nat.le_of_ble_eq_true rfl) (fs_one (⟨_, ff_92_304 s0 H0 oa D⟩))) ?_
  refine fs_c1 (fs_inv_virtual (pc := 29) (n := 71401568) C (Nat.le_of_ble_eq_true rfl) (Nat.le_of_ble_eq_true rfl) (fs_lk_virtual (idx := 184) (y := ⟨"BoardMachineModel$Floats", "reset", "()V"⟩) (bytes := prog_115_method_2_code) (maxL := 2) (rt := (Option.none : Option Jvm.ClassFile.FieldType)) (d := 1) C (Nat.le_of_ble_eq_true rfl) (Nat.le_of_ble_eq_true rfl) (by decide +kernel) (kw K hw q5131) (kw K hw q417) (kw K hw q5129) (Or.inl (kw K hw q5128)) ⟨by decide, by decide⟩ rfl (Nat.le_of_ble_eq_true rfl) (Nat.le_of_ble_eq_true rfl) (fs_one (⟨_, rfl, kw K hw q5130⟩))) fs_con_mono o1) ?_
  refine fs_c1 (fs_getf (pc := 33) (n := 1279639922) (idx := 46) (ref := "BoardMachineModel") (O := "BoardMachineModel") (name := "desks") (desc := "[LBoardMachineModel$Desk;") C (by decide +kernel) (Or.inl (kw K hw q5173)) (fun _ h => h) (Nat.le_of_ble_eq_true rfl) (Nat.le_of_ble_eq_true rfl) (fs_one (⟨_, ff_92_305 s0 H0 oa D⟩))) ?_
  refine fs_c1 (fs_inv_virtual (pc := 38) (n := 138509407) C (Nat.le_of_ble_eq_true rfl) (Nat.le_of_ble_eq_true rfl) (fs_lk_virtual (idx := 186) (y := ⟨"BoardMachineModel$Desk", "reset", "()V"⟩) (bytes := prog_114_method_2_code) (maxL := 2) (rt := (Option.none : Option Jvm.ClassFile.FieldType)) (d := 1) C (Nat.le_of_ble_eq_true rfl) (Nat.le_of_ble_eq_true rfl) (by decide +kernel) (kw K hw q5135) (kw K hw q418) (kw K hw q5133) (Or.inl (kw K hw q5132)) ⟨by decide, by decide⟩ rfl (Nat.le_of_ble_eq_true rfl) (Nat.le_of_ble_eq_true rfl) (fs_one (⟨_, rfl, kw K hw q5134⟩))) fs_con_mono o2) ?_
  refine fs_c1 (fs_getf (pc := 42) (n := 1283834226) (idx := 52) (ref := "BoardMachineModel") (O := "BoardMachineModel") (name := "walks") (desc := "[LBoardMachineModel$Walk;") C (by decide +kernel) (Or.inl (kw K hw q5174)) (fun _ h => h) (Nat.le_of_ble_eq_true rfl) (Nat.le_of_ble_eq_true rfl) (fs_one (⟨_, ff_92_306 s0 H0 oa D⟩))) ?_
  refine fs_c1 (fs_inv_virtual (pc := 47) (n := 339842149) C (Nat.le_of_ble_eq_true rfl) (Nat.le_of_ble_eq_true rfl) (fs_lk_virtual (idx := 187) (y := ⟨"BoardMachineModel$Walk", "reset", "()V"⟩) (bytes := prog_120_method_2_code) (maxL := 2) (rt := (Option.none : Option Jvm.ClassFile.FieldType)) (d := 1) C (Nat.le_of_ble_eq_true rfl) (Nat.le_of_ble_eq_true rfl) (by decide +kernel) (kw K hw q5139) (kw K hw q419) (kw K hw q5137) (Or.inl (kw K hw q5136)) ⟨by decide, by decide⟩ rfl (Nat.le_of_ble_eq_true rfl) (Nat.le_of_ble_eq_true rfl) (fs_one (⟨_, rfl, kw K hw q5138⟩))) fs_con_mono o5) ?_
  refine fs_c1 (fs_getf (pc := 51) (n := 1250279794) (idx := 10) (ref := "BoardMachineModel") (O := "BoardMachineModel") (name := "ram") (desc := "LBoardMachineModel$Ram;") C (by decide +kernel) (Or.inl (kw K hw q5166)) (fun _ h => h) (Nat.le_of_ble_eq_true rfl) (Nat.le_of_ble_eq_true rfl) (fs_one (⟨_, ff_92_298 s0 H0 oa D⟩))) ?_
  refine fs_c1 (fs_inv_virtual (pc := 55) (n := 411142242) C (Nat.le_of_ble_eq_true rfl) (Nat.le_of_ble_eq_true rfl) (fs_lk_virtual (idx := 188) (y := ⟨"BoardMachineModel$Ram", "drop", "(I)V"⟩) (bytes := prog_117_method_8_code) (maxL := 2) (rt := (Option.none : Option Jvm.ClassFile.FieldType)) (d := 1) C (Nat.le_of_ble_eq_true rfl) (Nat.le_of_ble_eq_true rfl) (by decide +kernel) (kw K hw q5143) (kw K hw q411) (kw K hw q5142) (Or.inr ⟨_, kM K hw q5140⟩) ⟨by decide, by decide⟩ rfl (Nat.le_of_ble_eq_true rfl) (Nat.le_of_ble_eq_true rfl) (fs_one (⟨_, rfl, kw K hw qs147⟩))) fs_con_mono o6) ?_
  refine fs_c1 (fs_getf (pc := 59) (n := 1288028530) (idx := 56) (ref := "BoardMachineModel") (O := "BoardMachineModel") (name := "parked") (desc := "[Z") C (by decide +kernel) (Or.inl (kw K hw q5175)) (fun _ h => h) (Nat.le_of_ble_eq_true rfl) (Nat.le_of_ble_eq_true rfl) (fs_one (⟨_, ff_92_307 s0 H0 oa D⟩))) ?_
  refine fs_c1 (fs_getf (pc := 75) (n := 1267057010) (idx := 97) (ref := "BoardMachineModel") (O := "BoardMachineModel") (name := "tree") (desc := "LBoardMachineModel$Tree;") C (by decide +kernel) (Or.inl (kw K hw q5170)) (fun _ h => h) (Nat.le_of_ble_eq_true rfl) (Nat.le_of_ble_eq_true rfl) (fs_one (⟨_, ff_92_302 s0 H0 oa D⟩))) ?_
  refine fs_c1 (fs_getf (pc := 78) (n := 1745240464) (idx := 191) (ref := "BoardMachineModel$Tree") (O := "BoardMachineModel$Tree") (name := "total") (desc := "I") C (by decide +kernel) (Or.inr ⟨_, kF K hw q4924⟩) (fun _ h => h) (Nat.le_of_ble_eq_true rfl) (Nat.le_of_ble_eq_true rfl) (fs_one (⟨_, ff_100_416 s0 H0 oa D⟩))) ?_
  refine fs_c1 (fs_getf (pc := 85) (n := 1250279794) (idx := 10) (ref := "BoardMachineModel") (O := "BoardMachineModel") (name := "ram") (desc := "LBoardMachineModel$Ram;") C (by decide +kernel) (Or.inl (kw K hw q5166)) (fun _ h => h) (Nat.le_of_ble_eq_true rfl) (Nat.le_of_ble_eq_true rfl) (fs_one (⟨_, ff_92_298 s0 H0 oa D⟩))) ?_
  refine fs_c1 (fs_ldcl (pc := 88) (idx := 194) (v := 2151669760) C (by decide +kernel) (kw K hw q5144)) ?_
  refine fs_c1 (fs_getf (pc := 95) (n := 1267057010) (idx := 97) (ref := "BoardMachineModel") (O := "BoardMachineModel") (name := "tree") (desc := "LBoardMachineModel$Tree;") C (by decide +kernel) (Or.inl (kw K hw q5170)) (fun _ h => h) (Nat.le_of_ble_eq_true rfl) (Nat.le_of_ble_eq_true rfl) (fs_one (⟨_, ff_92_302 s0 H0 oa D⟩))) ?_
  refine fs_c1 (fs_getf (pc := 98) (n := 1741046162) (idx := 196) (ref := "BoardMachineModel$Tree") (O := "BoardMachineModel$Tree") (name := "all") (desc := "[I") C (by decide +kernel) (Or.inr ⟨_, kF K hw q4923⟩) (fun _ h => h) (Nat.le_of_ble_eq_true rfl) (Nat.le_of_ble_eq_true rfl) (fs_one (⟨_, ff_100_415 s0 H0 oa D⟩))) ?_
  refine fs_c1 (fs_inv_virtual (pc := 103) (n := 214009954) C (Nat.le_of_ble_eq_true rfl) (Nat.le_of_ble_eq_true rfl) (fs_lk_virtual (idx := 154) (y := ⟨"BoardMachineModel$Ram", "put", "(JI)V"⟩) (bytes := prog_117_method_5_code) (maxL := 7) (rt := (Option.none : Option Jvm.ClassFile.FieldType)) (d := 1) C (Nat.le_of_ble_eq_true rfl) (Nat.le_of_ble_eq_true rfl) (by decide +kernel) (kw K hw q5148) (kw K hw q411) (kw K hw q5147) (Or.inr ⟨_, kM K hw q5145⟩) ⟨by decide, by decide⟩ rfl (Nat.le_of_ble_eq_true rfl) (Nat.le_of_ble_eq_true rfl) (fs_one (⟨_, rfl, kw K hw qs148⟩))) fs_con_mono o3) ?_
  refine fs_c1 (fs_getf (pc := 116) (n := 1246085488) (idx := 82) (ref := "BoardMachineModel") (O := "BoardMachineModel") (name := "processors") (desc := "I") C (by decide +kernel) (Or.inl (kw K hw q5165)) (fun _ h => h) (Nat.le_of_ble_eq_true rfl) (Nat.le_of_ble_eq_true rfl) (fs_one (⟨_, ff_92_297 s0 H0 oa D⟩))) ?_
  refine fs_c1 (fs_getf (pc := 123) (n := 1271251314) (idx := 34) (ref := "BoardMachineModel") (O := "BoardMachineModel") (name := "cores") (desc := "[LBoardMachineModel$Core;") C (by decide +kernel) (Or.inl (kw K hw q5171)) (fun _ h => h) (Nat.le_of_ble_eq_true rfl) (Nat.le_of_ble_eq_true rfl) (fs_one (⟨_, ff_92_303 s0 H0 oa D⟩))) ?_
  refine fs_c1 (fs_inv_virtual (pc := 132) (n := 281114718) C (Nat.le_of_ble_eq_true rfl) (Nat.le_of_ble_eq_true rfl) (fs_lk_virtual (idx := 199) (y := ⟨"BoardMachineModel$Core", "set", "(IJ)V"⟩) (bytes := prog_113_method_7_code) (maxL := 4) (rt := (Option.none : Option Jvm.ClassFile.FieldType)) (d := 2) C (Nat.le_of_ble_eq_true rfl) (Nat.le_of_ble_eq_true rfl) (by decide +kernel) (kw K hw q5156) (kw K hw q416) (kw K hw q5154) (Or.inl (kw K hw q5153)) ⟨by decide, by decide⟩ rfl (Nat.le_of_ble_eq_true rfl) (Nat.le_of_ble_eq_true rfl) (fs_one (⟨_, rfl, kw K hw q5155⟩))) fs_con_mono o4) ?_
  refine fs_c1 (fs_getf (pc := 136) (n := 1271251314) (idx := 34) (ref := "BoardMachineModel") (O := "BoardMachineModel") (name := "cores") (desc := "[LBoardMachineModel$Core;") C (by decide +kernel) (Or.inl (kw K hw q5171)) (fun _ h => h) (Nat.le_of_ble_eq_true rfl) (Nat.le_of_ble_eq_true rfl) (fs_one (⟨_, ff_92_303 s0 H0 oa D⟩))) ?_
  refine fs_c1 (fs_ldcl (pc := 143) (idx := 194) (v := 2151669760) C (by decide +kernel) (kw K hw q5144)) ?_
  refine fs_c1 (fs_inv_virtual (pc := 146) (n := 281114718) C (Nat.le_of_ble_eq_true rfl) (Nat.le_of_ble_eq_true rfl) (fs_lk_virtual (idx := 199) (y := ⟨"BoardMachineModel$Core", "set", "(IJ)V"⟩) (bytes := prog_113_method_7_code) (maxL := 4) (rt := (Option.none : Option Jvm.ClassFile.FieldType)) (d := 2) C (Nat.le_of_ble_eq_true rfl) (Nat.le_of_ble_eq_true rfl) (by decide +kernel) (kw K hw q5156) (kw K hw q416) (kw K hw q5154) (Or.inl (kw K hw q5153)) ⟨by decide, by decide⟩ rfl (Nat.le_of_ble_eq_true rfl) (Nat.le_of_ble_eq_true rfl) (fs_one (⟨_, rfl, kw K hw q5155⟩))) fs_con_mono o4) ?_
  refine fs_c1 (fs_putf (pc := 157) (n := 1321582960) (idx := 74) (ref := "BoardMachineModel") (O := "BoardMachineModel") (name := "code") (desc := "I") (fin := false) (ty := .int) C (by decide +kernel) (Or.inl ⟨rfl, Or.inl (kw K hw q5183)⟩) (fun _ h => h) (Nat.le_of_ble_eq_true rfl) (Nat.le_of_ble_eq_true rfl) (Nat.le_of_ble_eq_true rfl) rfl rfl (by decide) (fs_one (⟨rfl, ff_92_315 s0 H0 oa D⟩))) ?_
  refine fs_c1 (fs_getf (pc := 161) (n := 1267057010) (idx := 97) (ref := "BoardMachineModel") (O := "BoardMachineModel") (name := "tree") (desc := "LBoardMachineModel$Tree;") C (by decide +kernel) (Or.inl (kw K hw q5170)) (fun _ h => h) (Nat.le_of_ble_eq_true rfl) (Nat.le_of_ble_eq_true rfl) (fs_one (⟨_, ff_92_302 s0 H0 oa D⟩))) ?_
  refine fs_c1 (fs_getf (pc := 164) (n := 1745240464) (idx := 191) (ref := "BoardMachineModel$Tree") (O := "BoardMachineModel$Tree") (name := "total") (desc := "I") C (by decide +kernel) (Or.inr ⟨_, kF K hw q4924⟩) (fun _ h => h) (Nat.le_of_ble_eq_true rfl) (Nat.le_of_ble_eq_true rfl) (fs_one (⟨_, ff_100_416 s0 H0 oa D⟩))) ?_
  exact fs_c0
