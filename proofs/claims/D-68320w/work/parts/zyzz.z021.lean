/-! contracts of methods, printed by gen/snd.py -/
set_option maxRecDepth 100000
set_option maxHeartbeats 4000000
theorem hX97_open (n : Nat) : fe_H (sX97_open (FX97_four n) (FX97_placeOf n)) cX97_open [0] fe_kv [] 22 (fun _ => dX97_open (FX97_open_0 n)) := by
  intro j pc L st M r hc h
  rcases fe_mem_c hc with rfl | hc
  · obtain ⟨w0, m0, h⟩ := fe_lR_d h
    obtain ⟨w1, m1, h⟩ := fe_lR_d h
    obtain ⟨rfl, hz⟩ := fe_t0_d h
    exact ⟨[(0, .ref w0), (1, .ref w1)], (fe_cs m0 (fe_cs m1 fe_nl)), Or.inr ((bX97_open_0 (FX97_four n) (FX97_placeOf n) (FX97_open_0 n ) w0 w1 M).symm.trans hz)⟩
  exact fe_mem_0 hc
theorem vX97_open (n : Nat) : fe_SB (sX97_open (FX97_four n) (FX97_placeOf n)) := by
  refine ⟨?_, ?_, ?_, ?_⟩
  · intro i As M r h
    rcases fe_bc h with h | h
    · obtain ⟨v0, t0, rfl, g0⟩ := fe_tR_d h
      obtain ⟨v1, t1, rfl, g1⟩ := fe_tL_d g0
      obtain ⟨rfl, hz⟩ := fe_t0_d g1
      exact mX97_four n v0 v1 M r hz
    exact fe_no h
  · intro i As M r h
    rcases fe_bc h with h | h
    · obtain ⟨v0, t0, rfl, g0⟩ := fe_tR_d h
      obtain ⟨v1, t1, rfl, g1⟩ := fe_tR_d g0
      obtain ⟨rfl, hz⟩ := fe_t0_d g1
      exact mX97_placeOf n v0 v1 M r hz
    exact fe_no h
  · intro i As M r h
    exact fe_no h
  · intro i As M r h
    exact fe_no h
theorem eX97_open (g0 : Nat → Nat → FM → Option (FM)) (a0 : Nat) (a1 : Nat) (M : FM) : dX97_open g0 0 [(0, .ref a0), (1, .ref a1)] [] M = g0 a0 a1 M := by rfl
theorem mX97_open (n : Nat) (a0 : Nat) (a1 : Nat) (M : FM) (r : FM) (h : FX97_open n a0 a1 M = some r) : fm_nx M ≤ fm_nx r ∧ fm_ns M ≤ fm_ns r :=
  fe_mono (L0 := [(0, .ref a0), (1, .ref a1)]) (vX97_open n) (by decide +kernel) (hX97_open n) (fe_kv_k r) 0 rfl ((eX97_open (FX97_open_0 n ) a0 a1 M).trans h)
theorem zX97_open {s0 : State} {H0 : Heap} {oa : Nat → Nat} {D : va_G} (K : fk s0 H0 oa D) (l : Launch) (n : Nat) (a0 : Nat) (a1 : Nat) (M : FM) (r : FM) (h : FX97_open n a0 a1 M = some r) : fs_Con (fk_E s0 H0 oa D) l 7 ⟨"BoardMachineModel$Tree", "open", "(Ljava/lang/String;)V"⟩ prog_119_method_10_code 2 (Option.none : Option Jvm.ClassFile.FieldType) [.ref a0, .ref a1] M none r := by
  have o0 : fs_OS (sX97_open (FX97_four n) (FX97_placeOf n)) 0 0 (fs_Con (fk_E s0 H0 oa D) l 1 ⟨"BoardMachineModel$Tree", "four", "(J)V"⟩ prog_119_method_2_code 4 (Option.none : Option Jvm.ClassFile.FieldType)) := by
    intro As M r h
    obtain ⟨v0, t0, rfl, g0⟩ := fe_tR_d h
    obtain ⟨v1, t1, rfl, g1⟩ := fe_tL_d g0
    obtain ⟨rfl, hz⟩ := fe_t0_d g1
    exact zX97_four K l n v0 v1 M r hz
  have o1 : fs_OS (sX97_open (FX97_four n) (FX97_placeOf n)) 1 1 (fs_Con (fk_E s0 H0 oa D) l 6 ⟨"BoardMachineModel$Tree", "placeOf", "(Ljava/lang/String;)I"⟩ prog_119_method_9_code 4 (Option.some Jvm.ClassFile.FieldType.int)) := by
    intro As M r h
    obtain ⟨v0, t0, rfl, g0⟩ := fe_tR_d h
    obtain ⟨v1, t1, rfl, g1⟩ := fe_tR_d g0
    obtain ⟨rfl, hz⟩ := fe_t0_d g1
    exact zX97_placeOf K l n v0 v1 M r hz
  refine fs_method (own := "BoardMachineModel$Tree") rfl (by decide) K.2.1 (by rw [fe_slen]; exact (Nat.le_of_ble_eq_true rfl)) (mX97_open n a0 a1 M r h) (hX97_open n) 0 rfl (L0 := [(0, .ref a0), (1, .ref a1)]) (fun E => fe_args_e E [.ref a0, .ref a1] 0) ((eX97_open (FX97_open_0 n ) a0 a1 M).trans h) (fe_kv_k r) (fun H hR => fs_nr_o (by decide) (by decide)) ?_
  intro p e s m args below meth c Q C hnm
  have hw : s0.WarmedH s.vm := C.2.2.2.2.1
  refine fe_all C fk_hwr cX97_open [1, 4, 9, 12, 17, 23, 27] (by decide +kernel) (fe_fil (cps := [(1, 4, .jsr_w (3)), (4, 7, .invokevirtual 8491108), (9, 12, .getfield 1753629072), (12, 15, .putfield 1766211984), (17, 20, .invokevirtual 8491108), (23, 26, .invokevirtual 76648548), (27, 30, .invokevirtual 8491108)]) (by decide +kernel) ?_)
  refine fs_c1 (fs_ldcl (pc := 1) (idx := 60) (v := 3) C (by decide +kernel) (kw K hw q4802)) ?_
  refine fs_c1 (fs_inv_virtual (pc := 4) (n := 8491108) C (Nat.le_of_ble_eq_true rfl) (Nat.le_of_ble_eq_true rfl) (fs_lk_virtual (idx := 30) (y := ⟨"BoardMachineModel$Tree", "four", "(J)V"⟩) (bytes := prog_119_method_2_code) (maxL := 4) (rt := (Option.none : Option Jvm.ClassFile.FieldType)) (d := 1) C (Nat.le_of_ble_eq_true rfl) (Nat.le_of_ble_eq_true rfl) (by decide +kernel) (kw K hw q4778) (kw K hw q415) (kw K hw q4777) (Or.inl (kw K hw q4775)) ⟨by decide, by decide⟩ rfl (Nat.le_of_ble_eq_true rfl) (Nat.le_of_ble_eq_true rfl) (fs_one (⟨_, rfl, kw K hw qs127⟩))) fs_con_mono o0) ?_
  refine fs_c1 (fs_getf (pc := 9) (n := 1753629072) (idx := 26) (ref := "BoardMachineModel$Tree") (O := "BoardMachineModel$Tree") (name := "size") (desc := "I") C (by decide +kernel) (Or.inl (kw K hw q4927)) (fun _ h => h) (Nat.le_of_ble_eq_true rfl) (Nat.le_of_ble_eq_true rfl) (fs_one (⟨_, ff_100_418 s0 H0 oa D⟩))) ?_
  refine fs_c1 (fs_putf (pc := 12) (n := 1766211984) (idx := 62) (ref := "BoardMachineModel$Tree") (O := "BoardMachineModel$Tree") (name := "lengthAt") (desc := "I") (fin := false) (ty := .int) C (by decide +kernel) (Or.inl ⟨rfl, Or.inl (kw K hw q4930)⟩) (fun _ h => h) (Nat.le_of_ble_eq_true rfl) (Nat.le_of_ble_eq_true rfl) (Nat.le_of_ble_eq_true rfl) rfl rfl (by decide) (fs_one (⟨rfl, ff_100_421 s0 H0 oa D⟩))) ?_
  refine fs_c1 (fs_inv_virtual (pc := 17) (n := 8491108) C (Nat.le_of_ble_eq_true rfl) (Nat.le_of_ble_eq_true rfl) (fs_lk_virtual (idx := 30) (y := ⟨"BoardMachineModel$Tree", "four", "(J)V"⟩) (bytes := prog_119_method_2_code) (maxL := 4) (rt := (Option.none : Option Jvm.ClassFile.FieldType)) (d := 1) C (Nat.le_of_ble_eq_true rfl) (Nat.le_of_ble_eq_true rfl) (by decide +kernel) (kw K hw q4778) (kw K hw q415) (kw K hw q4777) (Or.inl (kw K hw q4775)) ⟨by decide, by decide⟩ rfl (Nat.le_of_ble_eq_true rfl) (Nat.le_of_ble_eq_true rfl) (fs_one (⟨_, rfl, kw K hw qs127⟩))) fs_con_mono o0) ?_
  refine fs_c1 (fs_inv_virtual (pc := 23) (n := 76648548) C (Nat.le_of_ble_eq_true rfl) (Nat.le_of_ble_eq_true rfl) (fs_lk_virtual (idx := 65) (y := ⟨"BoardMachineModel$Tree", "placeOf", "(Ljava/lang/String;)I"⟩) (bytes := prog_119_method_9_code) (maxL := 4) (rt := (Option.some Jvm.ClassFile.FieldType.int)) (d := 6) C (Nat.le_of_ble_eq_true rfl) (Nat.le_of_ble_eq_true rfl) (by decide +kernel) (kw K hw q4806) (kw K hw q415) (kw K hw q4805) (Or.inl (kw K hw q4803)) ⟨by decide, by decide⟩ rfl (Nat.le_of_ble_eq_true rfl) (Nat.le_of_ble_eq_true rfl) (fs_one (⟨_, rfl, kw K hw qs133⟩))) fs_con_mono o1) ?_
  refine fs_c1 (fs_inv_virtual (pc := 27) (n := 8491108) C (Nat.le_of_ble_eq_true rfl) (Nat.le_of_ble_eq_true rfl) (fs_lk_virtual (idx := 30) (y := ⟨"BoardMachineModel$Tree", "four", "(J)V"⟩) (bytes := prog_119_method_2_code) (maxL := 4) (rt := (Option.none : Option Jvm.ClassFile.FieldType)) (d := 1) C (Nat.le_of_ble_eq_true rfl) (Nat.le_of_ble_eq_true rfl) (by decide +kernel) (kw K hw q4778) (kw K hw q415) (kw K hw q4777) (Or.inl (kw K hw q4775)) ⟨by decide, by decide⟩ rfl (Nat.le_of_ble_eq_true rfl) (Nat.le_of_ble_eq_true rfl) (fs_one (⟨_, rfl, kw K hw qs127⟩))) fs_con_mono o0) ?_
  exact fs_c0
theorem hX97_close (n : Nat) : fe_H (sX97_close (FX97_four n) (FX97_fillUp n)) cX97_close [0] fe_kv [] 27 (fun _ => dX97_close (FX97_close_0 n)) := by
  intro j pc L st M r hc h
  rcases fe_mem_c hc with rfl | hc
  · obtain ⟨w0, m0, h⟩ := fe_lR_d h
    obtain ⟨rfl, hz⟩ := fe_t0_d h
    exact ⟨[(0, .ref w0)], (fe_cs m0 fe_nl), Or.inr ((bX97_close_0 (FX97_four n) (FX97_fillUp n) (FX97_close_0 n ) w0 M).symm.trans hz)⟩
  exact fe_mem_0 hc
theorem vX97_close (n : Nat) : fe_SB (sX97_close (FX97_four n) (FX97_fillUp n)) := by
  refine ⟨?_, ?_, ?_, ?_⟩
  · intro i As M r h
    rcases fe_bc h with h | h
    · obtain ⟨v0, t0, rfl, g0⟩ := fe_tR_d h
      obtain ⟨v1, t1, rfl, g1⟩ := fe_tL_d g0
      obtain ⟨rfl, hz⟩ := fe_t0_d g1
      exact mX97_four n v0 v1 M r hz
    rcases fe_bc h with h | h
    · obtain ⟨v0, t0, rfl, g0⟩ := fe_tR_d h
      obtain ⟨rfl, hz⟩ := fe_t0_d g0
      exact mX97_fillUp n v0 M r hz
    exact fe_no h
  · intro i As M r h
    exact fe_no h
  · intro i As M r h
    exact fe_no h
  · intro i As M r h
    exact fe_no h
theorem eX97_close (g0 : Nat → FM → Option (FM)) (a0 : Nat) (M : FM) : dX97_close g0 0 [(0, .ref a0)] [] M = g0 a0 M := by rfl
theorem mX97_close (n : Nat) (a0 : Nat) (M : FM) (r : FM) (h : FX97_close n a0 M = some r) : fm_nx M ≤ fm_nx r ∧ fm_ns M ≤ fm_ns r :=
  fe_mono (L0 := [(0, .ref a0)]) (vX97_close n) (by decide +kernel) (hX97_close n) (fe_kv_k r) 0 rfl ((eX97_close (FX97_close_0 n ) a0 M).trans h)
theorem zX97_close {s0 : State} {H0 : Heap} {oa : Nat → Nat} {D : va_G} (K : fk s0 H0 oa D) (l : Launch) (n : Nat) (a0 : Nat) (M : FM) (r : FM) (h : FX97_close n a0 M = some r) : fs_Con (fk_E s0 H0 oa D) l 2 ⟨"BoardMachineModel$Tree", "close", "()V"⟩ prog_119_method_11_code 2 (Option.none : Option Jvm.ClassFile.FieldType) [.ref a0] M none r := by
  have o0 : fs_OS (sX97_close (FX97_four n) (FX97_fillUp n)) 0 0 (fs_Con (fk_E s0 H0 oa D) l 1 ⟨"BoardMachineModel$Tree", "four", "(J)V"⟩ prog_119_method_2_code 4 (Option.none : Option Jvm.ClassFile.FieldType)) := by
    intro As M r h
    obtain ⟨v0, t0, rfl, g0⟩ := fe_tR_d h
    obtain ⟨v1, t1, rfl, g1⟩ := fe_tL_d g0
    obtain ⟨rfl, hz⟩ := fe_t0_d g1
    exact zX97_four K l n v0 v1 M r hz
  have o1 : fs_OS (sX97_close (FX97_four n) (FX97_fillUp n)) 1 0 (fs_Con (fk_E s0 H0 oa D) l 1 ⟨"BoardMachineModel$Tree", "fillUp", "()V"⟩ prog_119_method_5_code 1 (Option.none : Option Jvm.ClassFile.FieldType)) := by
    intro As M r h
    obtain ⟨v0, t0, rfl, g0⟩ := fe_tR_d h
    obtain ⟨rfl, hz⟩ := fe_t0_d g0
    exact zX97_fillUp K l n v0 M r hz
  refine fs_method (own := "BoardMachineModel$Tree") rfl (by decide) K.2.1 (by rw [fe_slen]; exact (Nat.le_of_ble_eq_true rfl)) (mX97_close n a0 M r h) (hX97_close n) 0 rfl (L0 := [(0, .ref a0)]) (fun E => fe_args_e E [.ref a0] 0) ((eX97_close (FX97_close_0 n ) a0 M).trans h) (fe_kv_k r) (fun H hR => fs_nr_o (by decide) (by decide)) ?_
  intro p e s m args below meth c Q C hnm
  have hw : s0.WarmedH s.vm := C.2.2.2.2.1
  refine fe_all C fk_hwr cX97_close [1, 7, 10, 16, 24, 29, 33] (by decide +kernel) (fe_fil (cps := [(1, 4, .getfield 1753629072), (7, 10, .getfield 1766211984), (10, 13, .putfield 1753629072), (16, 19, .getfield 1766211984), (24, 27, .invokevirtual 8491108), (29, 32, .putfield 1753629072), (33, 36, .invokevirtual 71405668)]) (by decide +kernel) ?_)
  refine fs_c1 (fs_getf (pc := 1) (n := 1753629072) (idx := 26) (ref := "BoardMachineModel$Tree") (O := "BoardMachineModel$Tree") (name := "size") (desc := "I") C (by decide +kernel) (Or.inl (kw K hw q4927)) (fun _ h => h) (Nat.le_of_ble_eq_true rfl) (Nat.le_of_ble_eq_true rfl) (fs_one (⟨_, ff_100_418 s0 H0 oa D⟩))) ?_
  refine fs_c1 (fs_getf (pc := 7) (n := 1766211984) (idx := 62) (ref := "BoardMachineModel$Tree") (O := "BoardMachineModel$Tree") (name := "lengthAt") (desc := "I") C (by decide +kernel) (Or.inl (kw K hw q4930)) (fun _ h => h) (Nat.le_of_ble_eq_true rfl) (Nat.le_of_ble_eq_true rfl) (fs_one (⟨_, ff_100_421 s0 H0 oa D⟩))) ?_
  refine fs_c1 (fs_putf (pc := 10) (n := 1753629072) (idx := 26) (ref := "BoardMachineModel$Tree") (O := "BoardMachineModel$Tree") (name := "size") (desc := "I") (fin := false) (ty := .int) C (by decide +kernel) (Or.inl ⟨rfl, Or.inl (kw K hw q4927)⟩) (fun _ h => h) (Nat.le_of_ble_eq_true rfl) (Nat.le_of_ble_eq_true rfl) (Nat.le_of_ble_eq_true rfl) rfl rfl (by decide) (fs_one (⟨rfl, ff_100_418 s0 H0 oa D⟩))) ?_
  refine fs_c1 (fs_getf (pc := 16) (n := 1766211984) (idx := 62) (ref := "BoardMachineModel$Tree") (O := "BoardMachineModel$Tree") (name := "lengthAt") (desc := "I") C (by decide +kernel) (Or.inl (kw K hw q4930)) (fun _ h => h) (Nat.le_of_ble_eq_true rfl) (Nat.le_of_ble_eq_true rfl) (fs_one (⟨_, ff_100_421 s0 H0 oa D⟩))) ?_
  refine fs_c1 (fs_inv_virtual (pc := 24) (n := 8491108) C (Nat.le_of_ble_eq_true rfl) (Nat.le_of_ble_eq_true rfl) (fs_lk_virtual (idx := 30) (y := ⟨"BoardMachineModel$Tree", "four", "(J)V"⟩) (bytes := prog_119_method_2_code) (maxL := 4) (rt := (Option.none : Option Jvm.ClassFile.FieldType)) (d := 1) C (Nat.le_of_ble_eq_true rfl) (Nat.le_of_ble_eq_true rfl) (by decide +kernel) (kw K hw q4778) (kw K hw q415) (kw K hw q4777) (Or.inl (kw K hw q4775)) ⟨by decide, by decide⟩ rfl (Nat.le_of_ble_eq_true rfl) (Nat.le_of_ble_eq_true rfl) (fs_one (⟨_, rfl, kw K hw qs127⟩))) fs_con_mono o0) ?_
  refine fs_c1 (fs_putf (pc := 29) (n := 1753629072) (idx := 26) (ref := "BoardMachineModel$Tree") (O := "BoardMachineModel$Tree") (name := "size") (desc := "I") (fin := false) (ty := .int) C (by decide +kernel) (Or.inl ⟨rfl, Or.inl (kw K hw q4927)⟩) (fun _ h => h) (Nat.le_of_ble_eq_true rfl) (Nat.le_of_ble_eq_true rfl) (Nat.le_of_ble_eq_true rfl) rfl rfl (by decide) (fs_one (⟨rfl, ff_100_418 s0 H0 oa D⟩))) ?_
  refine fs_c1 (fs_inv_virtual (pc := 33) (n := 71405668) C (Nat.le_of_ble_eq_true rfl) (Nat.le_of_ble_eq_true rfl) (fs_lk_virtual (idx := 48) (y := ⟨"BoardMachineModel$Tree", "fillUp", "()V"⟩) (bytes := prog_119_method_5_code) (maxL := 1) (rt := (Option.none : Option Jvm.ClassFile.FieldType)) (d := 1) C (Nat.le_of_ble_eq_true rfl) (Nat.le_of_ble_eq_true rfl) (by decide +kernel) (kw K hw q4788) (kw K hw q415) (kw K hw q4787) (Or.inl (kw K hw q4785)) ⟨by decide, by decide⟩ rfl (Nat.le_of_ble_eq_true rfl) (Nat.le_of_ble_eq_true rfl) (fs_one (⟨_, rfl, kw K hw qs129⟩))) fs_con_mono o1) ?_
  exact fs_c0
theorem hX97_number (n : Nat) : fe_H (sX97_number (FX97_open n) (FX97_four n) (FX97_close n)) cX97_number [0] fe_kv [] 20 (fun _ => dX97_number (FX97_number_0 n)) := by
  intro j pc L st M r hc h
  rcases fe_mem_c hc with rfl | hc
  · obtain ⟨w0, m0, h⟩ := fe_lR_d h
    obtain ⟨w1, m1, h⟩ := fe_lR_d h
    obtain ⟨w2, m2, h⟩ := fe_lL_d h
    obtain ⟨rfl, hz⟩ := fe_t0_d h
    exact ⟨[(0, .ref w0), (1, .ref w1), (2, .long w2)], (fe_cs m0 (fe_cs m1 (fe_cs m2 fe_nl))), Or.inr ((bX97_number_0 (FX97_open n) (FX97_four n) (FX97_close n) (FX97_number_0 n ) w0 w1 w2 M).symm.trans hz)⟩
  exact fe_mem_0 hc
theorem vX97_number (n : Nat) : fe_SB (sX97_number (FX97_open n) (FX97_four n) (FX97_close n)) := by
  refine ⟨?_, ?_, ?_, ?_⟩
  · intro i As M r h
    rcases fe_bc h with h | h
    · obtain ⟨v0, t0, rfl, g0⟩ := fe_tR_d h
      obtain ⟨v1, t1, rfl, g1⟩ := fe_tR_d g0
      obtain ⟨rfl, hz⟩ := fe_t0_d g1
      exact mX97_open n v0 v1 M r hz
    rcases fe_bc h with h | h
    · obtain ⟨v0, t0, rfl, g0⟩ := fe_tR_d h
      obtain ⟨v1, t1, rfl, g1⟩ := fe_tL_d g0
      obtain ⟨rfl, hz⟩ := fe_t0_d g1
      exact mX97_four n v0 v1 M r hz
    rcases fe_bc h with h | h
    · obtain ⟨v0, t0, rfl, g0⟩ := fe_tR_d h
      obtain ⟨rfl, hz⟩ := fe_t0_d g0
      exact mX97_close n v0 M r hz
    exact fe_no h
  · intro i As M r h
    exact fe_no h
  · intro i As M r h
    exact fe_no h
  · intro i As M r h
    exact fe_no h
theorem eX97_number (g0 : Nat → Nat → Int64 → FM → Option (FM)) (a0 : Nat) (a1 : Nat) (a2 : Int64) (M : FM) : dX97_number g0 0 [(0, .ref a0), (1, .ref a1), (2, .long a2)] [] M = g0 a0 a1 a2 M := by rfl
theorem mX97_number (n : Nat) (a0 : Nat) (a1 : Nat) (a2 : Int64) (M : FM) (r : FM) (h : FX97_number n a0 a1 a2 M = some r) : fm_nx M ≤ fm_nx r ∧ fm_ns M ≤ fm_ns r :=
  fe_mono (L0 := [(0, .ref a0), (1, .ref a1), (2, .long a2)]) (vX97_number n) (by decide +kernel) (hX97_number n) (fe_kv_k r) 0 rfl ((eX97_number (FX97_number_0 n ) a0 a1 a2 M).trans h)
theorem zX97_number {s0 : State} {H0 : Heap} {oa : Nat → Nat} {D : va_G} (K : fk s0 H0 oa D) (l : Launch) (n : Nat) (a0 : Nat) (a1 : Nat) (a2 : Int64) (M : FM) (r : FM) (h : FX97_number n a0 a1 a2 M = some r) : fs_Con (fk_E s0 H0 oa D) l 8 ⟨"BoardMachineModel$Tree", "number", "(Ljava/lang/String;J)V"⟩ prog_119_method_12_code 4 (Option.none : Option Jvm.ClassFile.FieldType) [.ref a0, .ref a1, .long a2] M none r := by
  have o0 : fs_OS (sX97_number (FX97_open n) (FX97_four n) (FX97_close n)) 0 0 (fs_Con (fk_E s0 H0 oa D) l 7 ⟨"BoardMachineModel$Tree", "open", "(Ljava/lang/String;)V"⟩ prog_119_method_10_code 2 (Option.none : Option Jvm.ClassFile.FieldType)) := by
    intro As M r h
    obtain ⟨v0, t0, rfl, g0⟩ := fe_tR_d h
    obtain ⟨v1, t1, rfl, g1⟩ := fe_tR_d g0
    obtain ⟨rfl, hz⟩ := fe_t0_d g1
    exact zX97_open K l n v0 v1 M r hz
  have o1 : fs_OS (sX97_number (FX97_open n) (FX97_four n) (FX97_close n)) 1 0 (fs_Con (fk_E s0 H0 oa D) l 1 ⟨"BoardMachineModel$Tree", "four", "(J)V"⟩ prog_119_method_2_code 4 (Option.none : Option Jvm.ClassFile.FieldType)) := by
    intro As M r h
    obtain ⟨v0, t0, rfl, g0⟩ := fe_tR_d h
    obtain ⟨v1, t1, rfl, g1⟩ := fe_tL_d g0
    obtain ⟨rfl, hz⟩ := fe_t0_d g1
    exact zX97_four K l n v0 v1 M r hz
  have o2 : fs_OS (sX97_number (FX97_open n) (FX97_four n) (FX97_close n)) 2 0 (fs_Con (fk_E s0 H0 oa D) l 2 ⟨"BoardMachineModel$Tree", "close", "()V"⟩ prog_119_method_11_code 2 (Option.none : Option Jvm.ClassFile.FieldType)) := by
    intro As M r h
    obtain ⟨v0, t0, rfl, g0⟩ := fe_tR_d h
    obtain ⟨rfl, hz⟩ := fe_t0_d g0
    exact zX97_close K l n v0 M r hz
  refine fs_method (own := "BoardMachineModel$Tree") rfl (by decide) K.2.1 (by rw [fe_slen]; exact (Nat.le_of_ble_eq_true rfl)) (mX97_number n a0 a1 a2 M r h) (hX97_number n) 0 rfl (L0 := [(0, .ref a0), (1, .ref a1), (2, .long a2)]) (fun E => fe_args_e E [.ref a0, .ref a1, .long a2] 0) ((eX97_number (FX97_number_0 n ) a0 a1 a2 M).trans h) (fe_kv_k r) (fun H hR => fs_nr_o (by decide) (by decide)) ?_
  intro p e s m args below meth c Q C hnm
  have hw : s0.WarmedH s.vm := C.2.2.2.2.1
  refine fe_all C fk_hwr cX97_number [2, 7, 11] (by decide +kernel) (fe_fil (cps := [(2, 5, .invokevirtual 8491108), (7, 10, .invokevirtual 75599972), (11, 14, .invokevirtual 138514532)]) (by decide +kernel) ?_)
  refine fs_c1 (fs_inv_virtual (pc := 2) (n := 8491108) C (Nat.le_of_ble_eq_true rfl) (Nat.le_of_ble_eq_true rfl) (fs_lk_virtual (idx := 69) (y := ⟨"BoardMachineModel$Tree", "open", "(Ljava/lang/String;)V"⟩) (bytes := prog_119_method_10_code) (maxL := 2) (rt := (Option.none : Option Jvm.ClassFile.FieldType)) (d := 7) C (Nat.le_of_ble_eq_true rfl) (Nat.le_of_ble_eq_true rfl) (by decide +kernel) (kw K hw q4801) (kw K hw q415) (kw K hw q4800) (Or.inl (kw K hw q4798)) ⟨by decide, by decide⟩ rfl (Nat.le_of_ble_eq_true rfl) (Nat.le_of_ble_eq_true rfl) (fs_one (⟨_, rfl, kw K hw qs132⟩))) fs_con_mono o0) ?_
  refine fs_c1 (fs_inv_virtual (pc := 7) (n := 75599972) C (Nat.le_of_ble_eq_true rfl) (Nat.le_of_ble_eq_true rfl) (fs_lk_virtual (idx := 30) (y := ⟨"BoardMachineModel$Tree", "four", "(J)V"⟩) (bytes := prog_119_method_2_code) (maxL := 4) (rt := (Option.none : Option Jvm.ClassFile.FieldType)) (d := 1) C (Nat.le_of_ble_eq_true rfl) (Nat.le_of_ble_eq_true rfl) (by decide +kernel) (kw K hw q4778) (kw K hw q415) (kw K hw q4777) (Or.inl (kw K hw q4775)) ⟨by decide, by decide⟩ rfl (Nat.le_of_ble_eq_true rfl) (Nat.le_of_ble_eq_true rfl) (fs_one (⟨_, rfl, kw K hw qs127⟩))) fs_con_mono o1) ?_
  refine fs_c1 (fs_inv_virtual (pc := 11) (n := 138514532) C (Nat.le_of_ble_eq_true rfl) (Nat.le_of_ble_eq_true rfl) (fs_lk_virtual (idx := 72) (y := ⟨"BoardMachineModel$Tree", "close", "()V"⟩) (bytes := prog_119_method_11_code) (maxL := 2) (rt := (Option.none : Option Jvm.ClassFile.FieldType)) (d := 2) C (Nat.le_of_ble_eq_true rfl) (Nat.le_of_ble_eq_true rfl) (by decide +kernel) (kw K hw q4814) (kw K hw q415) (kw K hw q4813) (Or.inl (kw K hw q4811)) ⟨by decide, by decide⟩ rfl (Nat.le_of_ble_eq_true rfl) (Nat.le_of_ble_eq_true rfl) (fs_one (⟨_, rfl, kw K hw qs135⟩))) fs_con_mono o2) ?_
  exact fs_c0
theorem hX97_cells (n : Nat) : fe_H (sX97_cells (FX97_number n)) cX97_cells [0] fe_kv [] 20 (fun _ => dX97_cells (FX97_cells_0 n)) := by
  intro j pc L st M r hc h
  rcases fe_mem_c hc with rfl | hc
  · obtain ⟨w0, m0, h⟩ := fe_lR_d h
    obtain ⟨w1, m1, h⟩ := fe_lI_d h
    obtain ⟨w2, m2, h⟩ := fe_lI_d h
    obtain ⟨rfl, hz⟩ := fe_t0_d h
    exact ⟨[(0, .ref w0), (1, .int w1), (2, .int w2)], (fe_cs m0 (fe_cs m1 (fe_cs m2 fe_nl))), Or.inr ((bX97_cells_0 (FX97_number n) (FX97_cells_0 n ) w0 w1 w2 M).symm.trans hz)⟩
  exact fe_mem_0 hc
theorem vX97_cells (n : Nat) : fe_SB (sX97_cells (FX97_number n)) := by
  refine ⟨?_, ?_, ?_, ?_⟩
  · intro i As M r h
    rcases fe_bc h with h | h
    · obtain ⟨v0, t0, rfl, g0⟩ := fe_tR_d h
      obtain ⟨v1, t1, rfl, g1⟩ := fe_tR_d g0
      obtain ⟨v2, t2, rfl, g2⟩ := fe_tL_d g1
      obtain ⟨rfl, hz⟩ := fe_t0_d g2
      exact mX97_number n v0 v1 v2 M r hz
    exact fe_no h
  · intro i As M r h
    exact fe_no h
  · intro i As M r h
    exact fe_no h
  · intro i As M r h
    exact fe_no h
theorem eX97_cells (g0 : Nat → Int32 → Int32 → FM → Option (FM)) (a0 : Nat) (a1 : Int32) (a2 : Int32) (M : FM) : dX97_cells g0 0 [(0, .ref a0), (1, .int a1), (2, .int a2)] [] M = g0 a0 a1 a2 M := by rfl
theorem mX97_cells (n : Nat) (a0 : Nat) (a1 : Int32) (a2 : Int32) (M : FM) (r : FM) (h : FX97_cells n a0 a1 a2 M = some r) : fm_nx M ≤ fm_nx r ∧ fm_ns M ≤ fm_ns r :=
  fe_mono (L0 := [(0, .ref a0), (1, .int a1), (2, .int a2)]) (vX97_cells n) (by decide +kernel) (hX97_cells n) (fe_kv_k r) 0 rfl ((eX97_cells (FX97_cells_0 n ) a0 a1 a2 M).trans h)
theorem zX97_cells {s0 : State} {H0 : Heap} {oa : Nat → Nat} {D : va_G} (K : fk s0 H0 oa D) (l : Launch) (n : Nat) (a0 : Nat) (a1 : Int32) (a2 : Int32) (M : FM) (r : FM) (h : FX97_cells n a0 a1 a2 M = some r) : fs_Con (fk_E s0 H0 oa D) l 9 ⟨"BoardMachineModel$Tree", "cells", "(II)V"⟩ prog_119_method_17_code 3 (Option.none : Option Jvm.ClassFile.FieldType) [.ref a0, .int a1, .int a2] M none r := by
  have o0 : fs_OS (sX97_cells (FX97_number n)) 0 0 (fs_Con (fk_E s0 H0 oa D) l 8 ⟨"BoardMachineModel$Tree", "number", "(Ljava/lang/String;J)V"⟩ prog_119_method_12_code 4 (Option.none : Option Jvm.ClassFile.FieldType)) := by
    intro As M r h
    obtain ⟨v0, t0, rfl, g0⟩ := fe_tR_d h
    obtain ⟨v1, t1, rfl, g1⟩ := fe_tR_d g0
    obtain ⟨v2, t2, rfl, g2⟩ := fe_tL_d g1
    obtain ⟨rfl, hz⟩ := fe_t0_d g2
    exact zX97_number K l n v0 v1 v2 M r hz
  refine fs_method (own := "BoardMachineModel$Tree") rfl (by decide) K.2.1 (by rw [fe_slen]; exact (Nat.le_of_ble_eq_true rfl)) (mX97_cells n a0 a1 a2 M r h) (hX97_cells n) 0 rfl (L0 := [(0, .ref a0), (1, .int a1), (2, .int a2)]) (fun E => fe_args_e E [.ref a0, .int a1, .int a2] 0) ((eX97_cells (FX97_cells_0 n ) a0 a1 a2 M).trans h) (fe_kv_k r) (fun H hR => fs_nr_o (by decide) (by decide)) ?_
  intro p e s m args below meth c Q C hnm
  have hw : s0.WarmedH s.vm := C.2.2.2.2.1
  refine fe_all C fk_hwr cX97_cells [1, 5, 9, 13] (by decide +kernel) (fe_fil (cps := [(1, 3, .ldc 101), (5, 8, .invokevirtual 12685412), (9, 11, .ldc 103), (13, 16, .invokevirtual 12685412)]) (by decide +kernel) ?_)
  refine fs_c1 (fs_ldcs (pc := 1) (idx := 82) (n := 101) (tx := "#address-cells") C (by decide +kernel) (by decide) (kS K es_100_82)) ?_
  refine fs_c1 (fs_inv_virtual (pc := 5) (n := 12685412) C (Nat.le_of_ble_eq_true rfl) (Nat.le_of_ble_eq_true rfl) (fs_lk_virtual (idx := 84) (y := ⟨"BoardMachineModel$Tree", "number", "(Ljava/lang/String;J)V"⟩) (bytes := prog_119_method_12_code) (maxL := 4) (rt := (Option.none : Option Jvm.ClassFile.FieldType)) (d := 8) C (Nat.le_of_ble_eq_true rfl) (Nat.le_of_ble_eq_true rfl) (by decide +kernel) (kw K hw q4797) (kw K hw q415) (kw K hw q4796) (Or.inl (kw K hw q4794)) ⟨by decide, by decide⟩ rfl (Nat.le_of_ble_eq_true rfl) (Nat.le_of_ble_eq_true rfl) (fs_one (⟨_, rfl, kw K hw qs131⟩))) fs_con_mono o0) ?_
  refine fs_c1 (fs_ldcs (pc := 9) (idx := 88) (n := 103) (tx := "#size-cells") C (by decide +kernel) (by decide) (kS K es_100_88)) ?_
  refine fs_c1 (fs_inv_virtual (pc := 13) (n := 12685412) C (Nat.le_of_ble_eq_true rfl) (Nat.le_of_ble_eq_true rfl) (fs_lk_virtual (idx := 84) (y := ⟨"BoardMachineModel$Tree", "number", "(Ljava/lang/String;J)V"⟩) (bytes := prog_119_method_12_code) (maxL := 4) (rt := (Option.none : Option Jvm.ClassFile.FieldType)) (d := 8) C (Nat.le_of_ble_eq_true rfl) (Nat.le_of_ble_eq_true rfl) (by decide +kernel) (kw K hw q4797) (kw K hw q415) (kw K hw q4796) (Or.inl (kw K hw q4794)) ⟨by decide, by decide⟩ rfl (Nat.le_of_ble_eq_true rfl) (Nat.le_of_ble_eq_true rfl) (fs_one (⟨_, rfl, kw K hw qs131⟩))) fs_con_mono o0) ?_
  exact fs_c0
theorem hX97_text (n : Nat) : fe_H (sX97_text (FX97_open n) (FX97_characters n) (FX97_close n)) cX97_text [0] fe_kv [] 20 (fun _ => dX97_text (FX97_text_0 n)) := by
  intro j pc L st M r hc h
  rcases fe_mem_c hc with rfl | hc
  · obtain ⟨w0, m0, h⟩ := fe_lR_d h
    obtain ⟨w1, m1, h⟩ := fe_lR_d h
    obtain ⟨w2, m2, h⟩ := fe_lR_d h
    obtain ⟨rfl, hz⟩ := fe_t0_d h
    exact ⟨[(0, .ref w0), (1, .ref w1), (2, .ref w2)], (fe_cs m0 (fe_cs m1 (fe_cs m2 fe_nl))), Or.inr ((bX97_text_0 (FX97_open n) (FX97_characters n) (FX97_close n) (FX97_text_0 n ) w0 w1 w2 M).symm.trans hz)⟩
  exact fe_mem_0 hc
theorem vX97_text (n : Nat) : fe_SB (sX97_text (FX97_open n) (FX97_characters n) (FX97_close n)) := by
  refine ⟨?_, ?_, ?_, ?_⟩
  · intro i As M r h
    rcases fe_bc h with h | h
    · obtain ⟨v0, t0, rfl, g0⟩ := fe_tR_d h
      obtain ⟨v1, t1, rfl, g1⟩ := fe_tR_d g0
      obtain ⟨rfl, hz⟩ := fe_t0_d g1
      exact mX97_open n v0 v1 M r hz
    rcases fe_bc h with h | h
    · obtain ⟨v0, t0, rfl, g0⟩ := fe_tR_d h
      obtain ⟨v1, t1, rfl, g1⟩ := fe_tR_d g0
      obtain ⟨rfl, hz⟩ := fe_t0_d g1
      exact mX97_characters n v0 v1 M r hz
    rcases fe_bc h with h | h
    · obtain ⟨v0, t0, rfl, g0⟩ := fe_tR_d h
      obtain ⟨rfl, hz⟩ := fe_t0_d g0
      exact mX97_close n v0 M r hz
    exact fe_no h
  · intro i As M r h
    exact fe_no h
  · intro i As M r h
    exact fe_no h
  · intro i As M r h
    exact fe_no h
theorem eX97_text (g0 : Nat → Nat → Nat → FM → Option (FM)) (a0 : Nat) (a1 : Nat) (a2 : Nat) (M : FM) : dX97_text g0 0 [(0, .ref a0), (1, .ref a1), (2, .ref a2)] [] M = g0 a0 a1 a2 M := by rfl
theorem mX97_text (n : Nat) (a0 : Nat) (a1 : Nat) (a2 : Nat) (M : FM) (r : FM) (h : FX97_text n a0 a1 a2 M = some r) : fm_nx M ≤ fm_nx r ∧ fm_ns M ≤ fm_ns r :=
  fe_mono (L0 := [(0, .ref a0), (1, .ref a1), (2, .ref a2)]) (vX97_text n) (by decide +kernel) (hX97_text n) (fe_kv_k r) 0 rfl ((eX97_text (FX97_text_0 n ) a0 a1 a2 M).trans h)
theorem zX97_text {s0 : State} {H0 : Heap} {oa : Nat → Nat} {D : va_G} (K : fk s0 H0 oa D) (l : Launch) (n : Nat) (a0 : Nat) (a1 : Nat) (a2 : Nat) (M : FM) (r : FM) (h : FX97_text n a0 a1 a2 M = some r) : fs_Con (fk_E s0 H0 oa D) l 8 ⟨"BoardMachineModel$Tree", "text", "(Ljava/lang/String;Ljava/lang/String;)V"⟩ prog_119_method_13_code 3 (Option.none : Option Jvm.ClassFile.FieldType) [.ref a0, .ref a1, .ref a2] M none r := by
  have o0 : fs_OS (sX97_text (FX97_open n) (FX97_characters n) (FX97_close n)) 0 0 (fs_Con (fk_E s0 H0 oa D) l 7 ⟨"BoardMachineModel$Tree", "open", "(Ljava/lang/String;)V"⟩ prog_119_method_10_code 2 (Option.none : Option Jvm.ClassFile.FieldType)) := by
    intro As M r h
    obtain ⟨v0, t0, rfl, g0⟩ := fe_tR_d h
    obtain ⟨v1, t1, rfl, g1⟩ := fe_tR_d g0
    obtain ⟨rfl, hz⟩ := fe_t0_d g1
    exact zX97_open K l n v0 v1 M r hz
  have o1 : fs_OS (sX97_text (FX97_open n) (FX97_characters n) (FX97_close n)) 1 0 (fs_Con (fk_E s0 H0 oa D) l 5 ⟨"BoardMachineModel$Tree", "characters", "(Ljava/lang/String;)V"⟩ prog_119_method_4_code 3 (Option.none : Option Jvm.ClassFile.FieldType)) := by
    intro As M r h
    obtain ⟨v0, t0, rfl, g0⟩ := fe_tR_d h
    obtain ⟨v1, t1, rfl, g1⟩ := fe_tR_d g0
    obtain ⟨rfl, hz⟩ := fe_t0_d g1
    exact zX97_characters K l n v0 v1 M r hz
  have o2 : fs_OS (sX97_text (FX97_open n) (FX97_characters n) (FX97_close n)) 2 0 (fs_Con (fk_E s0 H0 oa D) l 2 ⟨"BoardMachineModel$Tree", "close", "()V"⟩ prog_119_method_11_code 2 (Option.none : Option Jvm.ClassFile.FieldType)) := by
    intro As M r h
    obtain ⟨v0, t0, rfl, g0⟩ := fe_tR_d h
    obtain ⟨rfl, hz⟩ := fe_t0_d g0
    exact zX97_close K l n v0 M r hz
  refine fs_method (own := "BoardMachineModel$Tree") rfl (by decide) K.2.1 (by rw [fe_slen]; exact (Nat.le_of_ble_eq_true rfl)) (mX97_text n a0 a1 a2 M r h) (hX97_text n) 0 rfl (L0 := [(0, .ref a0), (1, .ref a1), (2, .ref a2)]) (fun E => fe_args_e E [.ref a0, .ref a1, .ref a2] 0) ((eX97_text (FX97_text_0 n ) a0 a1 a2 M).trans h) (fe_kv_k r) (fun H hR => fs_nr_o (by decide) (by decide)) ?_
  intro p e s m args below meth c Q C hnm
  have hw : s0.WarmedH s.vm := C.2.2.2.2.1
  refine fe_all C fk_hwr cX97_text [2, 7, 11] (by decide +kernel) (fe_fil (cps := [(2, 5, .invokevirtual 8491108), (7, 10, .invokevirtual 75599972), (11, 14, .invokevirtual 138514532)]) (by decide +kernel) ?_)
  refine fs_c1 (fs_inv_virtual (pc := 2) (n := 8491108) C (Nat.le_of_ble_eq_true rfl) (Nat.le_of_ble_eq_true rfl) (fs_lk_virtual (idx := 69) (y := ⟨"BoardMachineModel$Tree", "open", "(Ljava/lang/String;)V"⟩) (bytes := prog_119_method_10_code) (maxL := 2) (rt := (Option.none : Option Jvm.ClassFile.FieldType)) (d := 7) C (Nat.le_of_ble_eq_true rfl) (Nat.le_of_ble_eq_true rfl) (by decide +kernel) (kw K hw q4801) (kw K hw q415) (kw K hw q4800) (Or.inl (kw K hw q4798)) ⟨by decide, by decide⟩ rfl (Nat.le_of_ble_eq_true rfl) (Nat.le_of_ble_eq_true rfl) (fs_one (⟨_, rfl, kw K hw qs132⟩))) fs_con_mono o0) ?_
  refine fs_c1 (fs_inv_virtual (pc := 7) (n := 75599972) C (Nat.le_of_ble_eq_true rfl) (Nat.le_of_ble_eq_true rfl) (fs_lk_virtual (idx := 44) (y := ⟨"BoardMachineModel$Tree", "characters", "(Ljava/lang/String;)V"⟩) (bytes := prog_119_method_4_code) (maxL := 3) (rt := (Option.none : Option Jvm.ClassFile.FieldType)) (d := 5) C (Nat.le_of_ble_eq_true rfl) (Nat.le_of_ble_eq_true rfl) (by decide +kernel) (kw K hw q4782) (kw K hw q415) (kw K hw q4781) (Or.inl (kw K hw q4779)) ⟨by decide, by decide⟩ rfl (Nat.le_of_ble_eq_true rfl) (Nat.le_of_ble_eq_true rfl) (fs_one (⟨_, rfl, kw K hw qs128⟩))) fs_con_mono o1) ?_
  refine fs_c1 (fs_inv_virtual (pc := 11) (n := 138514532) C (Nat.le_of_ble_eq_true rfl) (Nat.le_of_ble_eq_true rfl) (fs_lk_virtual (idx := 72) (y := ⟨"BoardMachineModel$Tree", "close", "()V"⟩) (bytes := prog_119_method_11_code) (maxL := 2) (rt := (Option.none : Option Jvm.ClassFile.FieldType)) (d := 2) C (Nat.le_of_ble_eq_true rfl) (Nat.le_of_ble_eq_true rfl) (by decide +kernel) (kw K hw q4814) (kw K hw q415) (kw K hw q4813) (Or.inl (kw K hw q4811)) ⟨by decide, by decide⟩ rfl (Nat.le_of_ble_eq_true rfl) (Nat.le_of_ble_eq_true rfl) (fs_one (⟨_, rfl, kw K hw qs135⟩))) fs_con_mono o2) ?_
  exact fs_c0
theorem hX97_done (n : Nat) : fe_H (sX97_done (FX97_four n)) cX97_done [0] fe_kv [] 20 (fun _ => dX97_done (FX97_done_0 n)) := by
  intro j pc L st M r hc h
  rcases fe_mem_c hc with rfl | hc
  · obtain ⟨w0, m0, h⟩ := fe_lR_d h
    obtain ⟨rfl, hz⟩ := fe_t0_d h
    exact ⟨[(0, .ref w0)], (fe_cs m0 fe_nl), Or.inr ((bX97_done_0 (FX97_four n) (FX97_done_0 n ) w0 M).symm.trans hz)⟩
  exact fe_mem_0 hc
theorem vX97_done (n : Nat) : fe_SB (sX97_done (FX97_four n)) := by
  refine ⟨?_, ?_, ?_, ?_⟩
  · intro i As M r h
    rcases fe_bc h with h | h
    · obtain ⟨v0, t0, rfl, g0⟩ := fe_tR_d h
      obtain ⟨v1, t1, rfl, g1⟩ := fe_tL_d g0
      obtain ⟨rfl, hz⟩ := fe_t0_d g1
      exact mX97_four n v0 v1 M r hz
    exact fe_no h
  · intro i As M r h
    exact fe_no h
  · intro i As M r h
    exact fe_no h
  · intro i As M r h
    exact fe_no h
theorem eX97_done (g0 : Nat → FM → Option (FM)) (a0 : Nat) (M : FM) : dX97_done g0 0 [(0, .ref a0)] [] M = g0 a0 M := by rfl
theorem mX97_done (n : Nat) (a0 : Nat) (M : FM) (r : FM) (h : FX97_done n a0 M = some r) : fm_nx M ≤ fm_nx r ∧ fm_ns M ≤ fm_ns r :=
  fe_mono (L0 := [(0, .ref a0)]) (vX97_done n) (by decide +kernel) (hX97_done n) (fe_kv_k r) 0 rfl ((eX97_done (FX97_done_0 n ) a0 M).trans h)
theorem zX97_done {s0 : State} {H0 : Heap} {oa : Nat → Nat} {D : va_G} (K : fk s0 H0 oa D) (l : Launch) (n : Nat) (a0 : Nat) (M : FM) (r : FM) (h : FX97_done n a0 M = some r) : fs_Con (fk_E s0 H0 oa D) l 2 ⟨"BoardMachineModel$Tree", "done", "()V"⟩ prog_119_method_7_code 1 (Option.none : Option Jvm.ClassFile.FieldType) [.ref a0] M none r := by
  have o0 : fs_OS (sX97_done (FX97_four n)) 0 0 (fs_Con (fk_E s0 H0 oa D) l 1 ⟨"BoardMachineModel$Tree", "four", "(J)V"⟩ prog_119_method_2_code 4 (Option.none : Option Jvm.ClassFile.FieldType)) := by
    intro As M r h
    obtain ⟨v0, t0, rfl, g0⟩ := fe_tR_d h
    obtain ⟨v1, t1, rfl, g1⟩ := fe_tL_d g0
    obtain ⟨rfl, hz⟩ := fe_t0_d g1
    exact zX97_four K l n v0 v1 M r hz
  refine fs_method (own := "BoardMachineModel$Tree") rfl (by decide) K.2.1 (by rw [fe_slen]; exact (Nat.le_of_ble_eq_true rfl)) (mX97_done n a0 M r h) (hX97_done n) 0 rfl (L0 := [(0, .ref a0)]) (fun E => fe_args_e E [.ref a0] 0) ((eX97_done (FX97_done_0 n ) a0 M).trans h) (fe_kv_k r) (fun H hR => fs_nr_o (by decide) (by decide)) ?_
  intro p e s m args below meth c Q C hnm
  have hw : s0.WarmedH s.vm := C.2.2.2.2.1
  refine fe_all C fk_hwr cX97_done [1, 4] (by decide +kernel) (fe_fil (cps := [(1, 4, .jsr_w (2)), (4, 7, .invokevirtual 8491108)]) (by decide +kernel) ?_)
  refine fs_c1 (fs_ldcl (pc := 1) (idx := 51) (v := 2) C (by decide +kernel) (kw K hw q4831)) ?_
  refine fs_c1 (fs_inv_virtual (pc := 4) (n := 8491108) C (Nat.le_of_ble_eq_true rfl) (Nat.le_of_ble_eq_true rfl) (fs_lk_virtual (idx := 30) (y := ⟨"BoardMachineModel$Tree", "four", "(J)V"⟩) (bytes := prog_119_method_2_code) (maxL := 4) (rt := (Option.none : Option Jvm.ClassFile.FieldType)) (d := 1) C (Nat.le_of_ble_eq_true rfl) (Nat.le_of_ble_eq_true rfl) (by decide +kernel) (kw K hw q4778) (kw K hw q415) (kw K hw q4777) (Or.inl (kw K hw q4775)) ⟨by decide, by decide⟩ rfl (Nat.le_of_ble_eq_true rfl) (Nat.le_of_ble_eq_true rfl) (fs_one (⟨_, rfl, kw K hw qs127⟩))) fs_con_mono o0) ?_
  exact fs_c0
theorem hX97_nothing (n : Nat) : fe_H (sX97_nothing (FX97_open n) (FX97_close n)) cX97_nothing [0] fe_kv [] 20 (fun _ => dX97_nothing (FX97_nothing_0 n)) := by
  intro j pc L st M r hc h
  rcases fe_mem_c hc with rfl | hc
  · obtain ⟨w0, m0, h⟩ := fe_lR_d h
    obtain ⟨w1, m1, h⟩ := fe_lR_d h
    obtain ⟨rfl, hz⟩ := fe_t0_d h
    exact ⟨[(0, .ref w0), (1, .ref w1)], (fe_cs m0 (fe_cs m1 fe_nl)), Or.inr ((bX97_nothing_0 (FX97_open n) (FX97_close n) (FX97_nothing_0 n ) w0 w1 M).symm.trans hz)⟩
  exact fe_mem_0 hc
theorem vX97_nothing (n : Nat) : fe_SB (sX97_nothing (FX97_open n) (FX97_close n)) := by
  refine ⟨?_, ?_, ?_, ?_⟩
  · intro i As M r h
    rcases fe_bc h with h | h
    · obtain ⟨v0, t0, rfl, g0⟩ := fe_tR_d h
      obtain ⟨v1, t1, rfl, g1⟩ := fe_tR_d g0
      obtain ⟨rfl, hz⟩ := fe_t0_d g1
      exact mX97_open n v0 v1 M r hz
    rcases fe_bc h with h | h
    · obtain ⟨v0, t0, rfl, g0⟩ := fe_tR_d h
      obtain ⟨rfl, hz⟩ := fe_t0_d g0
      exact mX97_close n v0 M r hz
    exact fe_no h
  · intro i As M r h
    exact fe_no h
  · intro i As M r h
    exact fe_no h
  · intro i As M r h
    exact fe_no h
theorem eX97_nothing (g0 : Nat → Nat → FM → Option (FM)) (a0 : Nat) (a1 : Nat) (M : FM) : dX97_nothing g0 0 [(0, .ref a0), (1, .ref a1)] [] M = g0 a0 a1 M := by rfl
theorem mX97_nothing (n : Nat) (a0 : Nat) (a1 : Nat) (M : FM) (r : FM) (h : FX97_nothing n a0 a1 M = some r) : fm_nx M ≤ fm_nx r ∧ fm_ns M ≤ fm_ns r :=
  fe_mono (L0 := [(0, .ref a0), (1, .ref a1)]) (vX97_nothing n) (by decide +kernel) (hX97_nothing n) (fe_kv_k r) 0 rfl ((eX97_nothing (FX97_nothing_0 n ) a0 a1 M).trans h)
theorem zX97_nothing {s0 : State} {H0 : Heap} {oa : Nat → Nat} {D : va_G} (K : fk s0 H0 oa D) (l : Launch) (n : Nat) (a0 : Nat) (a1 : Nat) (M : FM) (r : FM) (h : FX97_nothing n a0 a1 M = some r) : fs_Con (fk_E s0 H0 oa D) l 8 ⟨"BoardMachineModel$Tree", "nothing", "(Ljava/lang/String;)V"⟩ prog_119_method_14_code 2 (Option.none : Option Jvm.ClassFile.FieldType) [.ref a0, .ref a1] M none r := by
  have o0 : fs_OS (sX97_nothing (FX97_open n) (FX97_close n)) 0 0 (fs_Con (fk_E s0 H0 oa D) l 7 ⟨"BoardMachineModel$Tree", "open", "(Ljava/lang/String;)V"⟩ prog_119_method_10_code 2 (Option.none : Option Jvm.ClassFile.FieldType)) := by
    intro As M r h
    obtain ⟨v0, t0, rfl, g0⟩ := fe_tR_d h
    obtain ⟨v1, t1, rfl, g1⟩ := fe_tR_d g0
    obtain ⟨rfl, hz⟩ := fe_t0_d g1
    exact zX97_open K l n v0 v1 M r hz
  have o1 : fs_OS (sX97_nothing (FX97_open n) (FX97_close n)) 1 0 (fs_Con (fk_E s0 H0 oa D) l 2 ⟨"BoardMachineModel$Tree", "close", "()V"⟩ prog_119_method_11_code 2 (Option.none : Option Jvm.ClassFile.FieldType)) := by
    intro As M r h
    obtain ⟨v0, t0, rfl, g0⟩ := fe_tR_d h
    obtain ⟨rfl, hz⟩ := fe_t0_d g0
    exact zX97_close K l n v0 M r hz
  refine fs_method (own := "BoardMachineModel$Tree") rfl (by decide) K.2.1 (by rw [fe_slen]; exact (Nat.le_of_ble_eq_true rfl)) (mX97_nothing n a0 a1 M r h) (hX97_nothing n) 0 rfl (L0 := [(0, .ref a0), (1, .ref a1)]) (fun E => fe_args_e E [.ref a0, .ref a1] 0) ((eX97_nothing (FX97_nothing_0 n ) a0 a1 M).trans h) (fe_kv_k r) (fun H hR => fs_nr_o (by decide) (by decide)) ?_
  intro p e s m args below meth c Q C hnm
  have hw : s0.WarmedH s.vm := C.2.2.2.2.1
  refine fe_all C fk_hwr cX97_nothing [2, 6] (by decide +kernel) (fe_fil (cps := [(2, 5, .invokevirtual 8491108), (6, 9, .invokevirtual 71405668)]) (by decide +kernel) ?_)
  refine fs_c1 (fs_inv_virtual (pc := 2) (n := 8491108) C (Nat.le_of_ble_eq_true rfl) (Nat.le_of_ble_eq_true rfl) (fs_lk_virtual (idx := 69) (y := ⟨"BoardMachineModel$Tree", "open", "(Ljava/lang/String;)V"⟩) (bytes := prog_119_method_10_code) (maxL := 2) (rt := (Option.none : Option Jvm.ClassFile.FieldType)) (d := 7) C (Nat.le_of_ble_eq_true rfl) (Nat.le_of_ble_eq_true rfl) (by decide +kernel) (kw K hw q4801) (kw K hw q415) (kw K hw q4800) (Or.inl (kw K hw q4798)) ⟨by decide, by decide⟩ rfl (Nat.le_of_ble_eq_true rfl) (Nat.le_of_ble_eq_true rfl) (fs_one (⟨_, rfl, kw K hw qs132⟩))) fs_con_mono o0) ?_
  refine fs_c1 (fs_inv_virtual (pc := 6) (n := 71405668) C (Nat.le_of_ble_eq_true rfl) (Nat.le_of_ble_eq_true rfl) (fs_lk_virtual (idx := 72) (y := ⟨"BoardMachineModel$Tree", "close", "()V"⟩) (bytes := prog_119_method_11_code) (maxL := 2) (rt := (Option.none : Option Jvm.ClassFile.FieldType)) (d := 2) C (Nat.le_of_ble_eq_true rfl) (Nat.le_of_ble_eq_true rfl) (by decide +kernel) (kw K hw q4814) (kw K hw q415) (kw K hw q4813) (Or.inl (kw K hw q4811)) ⟨by decide, by decide⟩ rfl (Nat.le_of_ble_eq_true rfl) (Nat.le_of_ble_eq_true rfl) (fs_one (⟨_, rfl, kw K hw qs135⟩))) fs_con_mono o1) ?_
  exact fs_c0
theorem hX97_processor (n : Nat) : fe_H (sX97_processor (FX97_node n) (FX97_text n) (FX97_number n) (FX97_nothing n) (FX97_done n)) cX97_processor [0, 32] fe_kv [] 73 (fun _ => dX97_processor (FX97_processor_0 n) (FX97_processor_32 n)) := by
  intro j pc L st M r hc h
  rcases fe_mem_c hc with rfl | hc
  · obtain ⟨w0, m0, h⟩ := fe_lR_d h
    obtain ⟨w1, m1, h⟩ := fe_lI_d h
    obtain ⟨rfl, hz⟩ := fe_t0_d h
    exact ⟨[(0, .ref w0), (1, .int w1)], (fe_cs m0 (fe_cs m1 fe_nl)), Or.inr ((bX97_processor_0 (FX97_node n) (FX97_text n) (FX97_number n) (FX97_nothing n) (FX97_done n) (FX97_processor_0 n ) (FX97_processor_32 n ) w0 w1 M).symm.trans hz)⟩
  rcases fe_mem_c hc with rfl | hc
  · obtain ⟨w0, m0, h⟩ := fe_lR_d h
    obtain ⟨w1, m1, h⟩ := fe_lI_d h
    obtain ⟨s1, t1, rfl, g1⟩ := fe_tR_d h
    obtain ⟨s0, t0, rfl, g0⟩ := fe_tR_d g1
    obtain ⟨rfl, hz⟩ := fe_t0_d g0
    exact ⟨[(0, .ref w0), (1, .int w1)], (fe_cs m0 (fe_cs m1 fe_nl)), Or.inr ((bX97_processor_32 (FX97_node n) (FX97_text n) (FX97_number n) (FX97_nothing n) (FX97_done n) (FX97_processor_0 n ) (FX97_processor_32 n ) w0 w1 s0 s1 M).symm.trans hz)⟩
  exact fe_mem_0 hc
theorem vX97_processor (n : Nat) : fe_SB (sX97_processor (FX97_node n) (FX97_text n) (FX97_number n) (FX97_nothing n) (FX97_done n)) := by
  refine ⟨?_, ?_, ?_, ?_⟩
  · intro i As M r h
    rcases fe_bc h with h | h
    · obtain ⟨v0, t0, rfl, g0⟩ := fe_tR_d h
      obtain ⟨v1, t1, rfl, g1⟩ := fe_tR_d g0
      obtain ⟨rfl, hz⟩ := fe_t0_d g1
      exact mX97_node n v0 v1 M r hz
    rcases fe_bc h with h | h
    · obtain ⟨v0, t0, rfl, g0⟩ := fe_tR_d h
      obtain ⟨v1, t1, rfl, g1⟩ := fe_tR_d g0
      obtain ⟨v2, t2, rfl, g2⟩ := fe_tR_d g1
      obtain ⟨rfl, hz⟩ := fe_t0_d g2
      exact mX97_text n v0 v1 v2 M r hz
    rcases fe_bc h with h | h
    · obtain ⟨v0, t0, rfl, g0⟩ := fe_tR_d h
      obtain ⟨v1, t1, rfl, g1⟩ := fe_tR_d g0
      obtain ⟨v2, t2, rfl, g2⟩ := fe_tL_d g1
      obtain ⟨rfl, hz⟩ := fe_t0_d g2
      exact mX97_number n v0 v1 v2 M r hz
    rcases fe_bc h with h | h
    · obtain ⟨v0, t0, rfl, g0⟩ := fe_tR_d h
      obtain ⟨v1, t1, rfl, g1⟩ := fe_tR_d g0
      obtain ⟨rfl, hz⟩ := fe_t0_d g1
      exact mX97_nothing n v0 v1 M r hz
    rcases fe_bc h with h | h
    · obtain ⟨v0, t0, rfl, g0⟩ := fe_tR_d h
      obtain ⟨rfl, hz⟩ := fe_t0_d g0
      exact mX97_done n v0 M r hz
    exact fe_no h
  · intro i As M r h
    exact fe_no h
  · intro i As M r h
    exact fe_no h
  · intro i As M r h
    exact fe_no h
theorem eX97_processor (g0 : Nat → Int32 → FM → Option (FM)) (g32 : Nat → Int32 → Nat → Nat → FM → Option (FM)) (a0 : Nat) (a1 : Int32) (M : FM) : dX97_processor g0 g32 0 [(0, .ref a0), (1, .int a1)] [] M = g0 a0 a1 M := by rfl
theorem mX97_processor (n : Nat) (a0 : Nat) (a1 : Int32) (M : FM) (r : FM) (h : FX97_processor n a0 a1 M = some r) : fm_nx M ≤ fm_nx r ∧ fm_ns M ≤ fm_ns r :=
  fe_mono (L0 := [(0, .ref a0), (1, .int a1)]) (vX97_processor n) (by decide +kernel) (hX97_processor n) (fe_kv_k r) 0 rfl ((eX97_processor (FX97_processor_0 n ) (FX97_processor_32 n ) a0 a1 M).trans h)
theorem zX97_processor {s0 : State} {H0 : Heap} {oa : Nat → Nat} {D : va_G} (K : fk s0 H0 oa D) (l : Launch) (n : Nat) (a0 : Nat) (a1 : Int32) (M : FM) (r : FM) (h : FX97_processor n a0 a1 M = some r) : fs_Con (fk_E s0 H0 oa D) l 9 ⟨"BoardMachineModel$Tree", "processor", "(I)V"⟩ prog_119_method_18_code 2 (Option.none : Option Jvm.ClassFile.FieldType) [.ref a0, .int a1] M none r := by
  have o0 : fs_OS (sX97_processor (FX97_node n) (FX97_text n) (FX97_number n) (FX97_nothing n) (FX97_done n)) 0 0 (fs_Con (fk_E s0 H0 oa D) l 6 ⟨"BoardMachineModel$Tree", "node", "(Ljava/lang/String;)V"⟩ prog_119_method_6_code 2 (Option.none : Option Jvm.ClassFile.FieldType)) := by
    intro As M r h
    obtain ⟨v0, t0, rfl, g0⟩ := fe_tR_d h
    obtain ⟨v1, t1, rfl, g1⟩ := fe_tR_d g0
    obtain ⟨rfl, hz⟩ := fe_t0_d g1
    exact zX97_node K l n v0 v1 M r hz
  have o1 : fs_OS (sX97_processor (FX97_node n) (FX97_text n) (FX97_number n) (FX97_nothing n) (FX97_done n)) 1 0 (fs_Con (fk_E s0 H0 oa D) l 8 ⟨"BoardMachineModel$Tree", "text", "(Ljava/lang/String;Ljava/lang/String;)V"⟩ prog_119_method_13_code 3 (Option.none : Option Jvm.ClassFile.FieldType)) := by
    intro As M r h
    obtain ⟨v0, t0, rfl, g0⟩ := fe_tR_d h
    obtain ⟨v1, t1, rfl, g1⟩ := fe_tR_d g0
    obtain ⟨v2, t2, rfl, g2⟩ := fe_tR_d g1
    obtain ⟨rfl, hz⟩ := fe_t0_d g2
    exact zX97_text K l n v0 v1 v2 M r hz
  have o2 : fs_OS (sX97_processor (FX97_node n) (FX97_text n) (FX97_number n) (FX97_nothing n) (FX97_done n)) 2 0 (fs_Con (fk_E s0 H0 oa D) l 8 ⟨"BoardMachineModel$Tree", "number", "(Ljava/lang/String;J)V"⟩ prog_119_method_12_code 4 (Option.none : Option Jvm.ClassFile.FieldType)) := by
    intro As M r h
    obtain ⟨v0, t0, rfl, g0⟩ := fe_tR_d h
    obtain ⟨v1, t1, rfl, g1⟩ := fe_tR_d g0
    obtain ⟨v2, t2, rfl, g2⟩ := fe_tL_d g1
    obtain ⟨rfl, hz⟩ := fe_t0_d g2
    exact zX97_number K l n v0 v1 v2 M r hz
  have o3 : fs_OS (sX97_processor (FX97_node n) (FX97_text n) (FX97_number n) (FX97_nothing n) (FX97_done n)) 3 0 (fs_Con (fk_E s0 H0 oa D) l 8 ⟨"BoardMachineModel$Tree", "nothing", "(Ljava/lang/String;)V"⟩ prog_119_method_14_code 2 (Option.none : Option Jvm.ClassFile.FieldType)) := by
    intro As M r h
    obtain ⟨v0, t0, rfl, g0⟩ := fe_tR_d h
    obtain ⟨v1, t1, rfl, g1⟩ := fe_tR_d g0
    obtain ⟨rfl, hz⟩ := fe_t0_d g1
    exact zX97_nothing K l n v0 v1 M r hz
  have o4 : fs_OS (sX97_processor (FX97_node n) (FX97_text n) (FX97_number n) (FX97_nothing n) (FX97_done n)) 4 0 (fs_Con (fk_E s0 H0 oa D) l 2 ⟨"BoardMachineModel$Tree", "done", "()V"⟩ prog_119_method_7_code 1 (Option.none : Option Jvm.ClassFile.FieldType)) := by
    intro As M r h
    obtain ⟨v0, t0, rfl, g0⟩ := fe_tR_d h
    obtain ⟨rfl, hz⟩ := fe_t0_d g0
    exact zX97_done K l n v0 M r hz
  refine fs_method (own := "BoardMachineModel$Tree") rfl (by decide) K.2.1 (by rw [fe_slen]; exact (Nat.le_of_ble_eq_true rfl)) (mX97_processor n a0 a1 M r h) (hX97_processor n) 0 rfl (L0 := [(0, .ref a0), (1, .int a1)]) (fun E => fe_args_e E [.ref a0, .int a1] 0) ((eX97_processor (FX97_processor_0 n ) (FX97_processor_32 n ) a0 a1 M).trans h) (fe_kv_k r) (fun H hR => fs_nr_o (by decide) (by decide)) ?_
  intro p e s m args below meth c Q C hnm
  have hw : s0.WarmedH s.vm := C.2.2.2.2.1
  refine fe_all C fk_hwr cX97_processor [5, 15, 25, 30, 32, 36, 38, 40, 44, 48, 52, 54, 56, 60, 62, 64, 68, 70, 72, 76, 78, 80, 84, 86, 90, 93, 97, 99, 103, 105, 107, 111, 117, 121, 125] (by decide +kernel) (fe_fil (cps := [(5, 7, .ldc 112), (15, 17, .ldc 113), (25, 27, .ldc 114), (30, 32, .ldc 115), (32, 35, .invokevirtual 8491108), (36, 38, .ldc 117), (38, 40, .ldc 110), (40, 43, .invokevirtual 79794276), (44, 46, .ldc 132), (48, 51, .invokevirtual 146903140), (52, 54, .ldc 137), (54, 56, .ldc 129), (56, 59, .invokevirtual 79794276), (60, 62, .ldc 109), (62, 64, .ldc 146), (64, 67, .invokevirtual 79794276), (68, 70, .ldc 124), (70, 72, .ldc 142), (72, 75, .invokevirtual 79794276), (76, 78, .ldc 127), (78, 80, .ldc 139), (80, 83, .invokevirtual 79794276), (84, 86, .ldc 119), (86, 89, .invokevirtual 8491108), (90, 92, .ldc 102), (93, 96, .invokevirtual 146903140), (97, 99, .ldc 119), (99, 102, .invokevirtual 209817700), (103, 105, .ldc 109), (105, 107, .ldc 148), (107, 110, .invokevirtual 79794276), (111, 113, .ldc 130), (117, 120, .invokevirtual 146903140), (121, 124, .invokevirtual 272732260), (125, 128, .invokevirtual 272732260)]) (by decide +kernel) ?_)
  refine fs_c1 (fs_ldcs (pc := 5) (idx := 90) (n := 112) (tx := "cpu@0") C (by decide +kernel) (by decide) (kS K es_100_90)) ?_
  refine fs_c1 (fs_ldcs (pc := 15) (idx := 92) (n := 113) (tx := "cpu@1") C (by decide +kernel) (by decide) (kS K es_100_92)) ?_
  refine fs_c1 (fs_ldcs (pc := 25) (idx := 94) (n := 114) (tx := "cpu@2") C (by decide +kernel) (by decide) (kS K es_100_94)) ?_
  refine fs_c1 (fs_ldcs (pc := 30) (idx := 96) (n := 115) (tx := "cpu@3") C (by decide +kernel) (by decide) (kS K es_100_96)) ?_
  refine fs_c1 (fs_inv_virtual (pc := 32) (n := 8491108) C (Nat.le_of_ble_eq_true rfl) (Nat.le_of_ble_eq_true rfl) (fs_lk_virtual (idx := 98) (y := ⟨"BoardMachineModel$Tree", "node", "(Ljava/lang/String;)V"⟩) (bytes := prog_119_method_6_code) (maxL := 2) (rt := (Option.none : Option Jvm.ClassFile.FieldType)) (d := 6) C (Nat.le_of_ble_eq_true rfl) (Nat.le_of_ble_eq_true rfl) (by decide +kernel) (kw K hw q4774) (kw K hw q415) (kw K hw q4773) (Or.inl (kw K hw q4771)) ⟨by decide, by decide⟩ rfl (Nat.le_of_ble_eq_true rfl) (Nat.le_of_ble_eq_true rfl) (fs_one (⟨_, rfl, kw K hw qs126⟩))) fs_con_mono o0) ?_
  refine fs_c1 (fs_ldcs (pc := 36) (idx := 101) (n := 117) (tx := "device_type") C (by decide +kernel) (by decide) (kS K es_100_101)) ?_
  refine fs_c1 (fs_ldcs (pc := 38) (idx := 103) (n := 110) (tx := "cpu") C (by decide +kernel) (by decide) (kS K es_100_103)) ?_
  refine fs_c1 (fs_inv_virtual (pc := 40) (n := 79794276) C (Nat.le_of_ble_eq_true rfl) (Nat.le_of_ble_eq_true rfl) (fs_lk_virtual (idx := 105) (y := ⟨"BoardMachineModel$Tree", "text", "(Ljava/lang/String;Ljava/lang/String;)V"⟩) (bytes := prog_119_method_13_code) (maxL := 3) (rt := (Option.none : Option Jvm.ClassFile.FieldType)) (d := 8) C (Nat.le_of_ble_eq_true rfl) (Nat.le_of_ble_eq_true rfl) (by decide +kernel) (kw K hw q4821) (kw K hw q415) (kw K hw q4820) (Or.inl (kw K hw q4818)) ⟨by decide, by decide⟩ rfl (Nat.le_of_ble_eq_true rfl) (Nat.le_of_ble_eq_true rfl) (fs_one (⟨_, rfl, kw K hw qs136⟩))) fs_con_mono o1) ?_
  refine fs_c1 (fs_ldcs (pc := 44) (idx := 75) (n := 132) (tx := "reg") C (by decide +kernel) (by decide) (kS K es_100_75)) ?_
  refine fs_c1 (fs_inv_virtual (pc := 48) (n := 146903140) C (Nat.le_of_ble_eq_true rfl) (Nat.le_of_ble_eq_true rfl) (fs_lk_virtual (idx := 84) (y := ⟨"BoardMachineModel$Tree", "number", "(Ljava/lang/String;J)V"⟩) (bytes := prog_119_method_12_code) (maxL := 4) (rt := (Option.none : Option Jvm.ClassFile.FieldType)) (d := 8) C (Nat.le_of_ble_eq_true rfl) (Nat.le_of_ble_eq_true rfl) (by decide +kernel) (kw K hw q4797) (kw K hw q415) (kw K hw q4796) (Or.inl (kw K hw q4794)) ⟨by decide, by decide⟩ rfl (Nat.le_of_ble_eq_true rfl) (Nat.le_of_ble_eq_true rfl) (fs_one (⟨_, rfl, kw K hw qs131⟩))) fs_con_mono o2) ?_
  refine fs_c1 (fs_ldcs (pc := 52) (idx := 109) (n := 137) (tx := "status") C (by decide +kernel) (by decide) (kS K es_100_109)) ?_
  refine fs_c1 (fs_ldcs (pc := 54) (idx := 111) (n := 129) (tx := "okay") C (by decide +kernel) (by decide) (kS K es_100_111)) ?_
  refine fs_c1 (fs_inv_virtual (pc := 56) (n := 79794276) C (Nat.le_of_ble_eq_true rfl) (Nat.le_of_ble_eq_true rfl) (fs_lk_virtual (idx := 105) (y := ⟨"BoardMachineModel$Tree", "text", "(Ljava/lang/String;Ljava/lang/String;)V"⟩) (bytes := prog_119_method_13_code) (maxL := 3) (rt := (Option.none : Option Jvm.ClassFile.FieldType)) (d := 8) C (Nat.le_of_ble_eq_true rfl) (Nat.le_of_ble_eq_true rfl) (by decide +kernel) (kw K hw q4821) (kw K hw q415) (kw K hw q4820) (Or.inl (kw K hw q4818)) ⟨by decide, by decide⟩ rfl (Nat.le_of_ble_eq_true rfl) (Nat.le_of_ble_eq_true rfl) (fs_one (⟨_, rfl, kw K hw qs136⟩))) fs_con_mono o1) ?_
  refine fs_c1 (fs_ldcs (pc := 60) (idx := 113) (n := 109) (tx := "compatible") C (by decide +kernel) (by decide) (kS K es_100_113)) ?_
  refine fs_c1 (fs_ldcs (pc := 62) (idx := 115) (n := 146) (tx := "whole,core") C (by decide +kernel) (by decide) (kS K es_100_115)) ?_
  refine fs_c1 (fs_inv_virtual (pc := 64) (n := 79794276) C (Nat.le_of_ble_eq_true rfl) (Nat.le_of_ble_eq_true rfl) (fs_lk_virtual (idx := 105) (y := ⟨"BoardMachineModel$Tree", "text", "(Ljava/lang/String;Ljava/lang/String;)V"⟩) (bytes := prog_119_method_13_code) (maxL := 3) (rt := (Option.none : Option Jvm.ClassFile.FieldType)) (d := 8) C (Nat.le_of_ble_eq_true rfl) (Nat.le_of_ble_eq_true rfl) (by decide +kernel) (kw K hw q4821) (kw K hw q415) (kw K hw q4820) (Or.inl (kw K hw q4818)) ⟨by decide, by decide⟩ rfl (Nat.le_of_ble_eq_true rfl) (Nat.le_of_ble_eq_true rfl) (fs_one (⟨_, rfl, kw K hw qs136⟩))) fs_con_mono o1) ?_
  refine fs_c1 (fs_ldcs (pc := 68) (idx := 117) (n := 124) (tx := "isa") C (by decide +kernel) (by decide) (kS K es_100_117)) ?_
  refine fs_c1 (fs_ldcs (pc := 70) (idx := 119) (n := 142) (tx := "w64") C (by decide +kernel) (by decide) (kS K es_100_119)) ?_
  refine fs_c1 (fs_inv_virtual (pc := 72) (n := 79794276) C (Nat.le_of_ble_eq_true rfl) (Nat.le_of_ble_eq_true rfl) (fs_lk_virtual (idx := 105) (y := ⟨"BoardMachineModel$Tree", "text", "(Ljava/lang/String;Ljava/lang/String;)V"⟩) (bytes := prog_119_method_13_code) (maxL := 3) (rt := (Option.none : Option Jvm.ClassFile.FieldType)) (d := 8) C (Nat.le_of_ble_eq_true rfl) (Nat.le_of_ble_eq_true rfl) (by decide +kernel) (kw K hw q4821) (kw K hw q415) (kw K hw q4820) (Or.inl (kw K hw q4818)) ⟨by decide, by decide⟩ rfl (Nat.le_of_ble_eq_true rfl) (Nat.le_of_ble_eq_true rfl) (fs_one (⟨_, rfl, kw K hw qs136⟩))) fs_con_mono o1) ?_
  refine fs_c1 (fs_ldcs (pc := 76) (idx := 121) (n := 127) (tx := "mmu-type") C (by decide +kernel) (by decide) (kS K es_100_121)) ?_
  refine fs_c1 (fs_ldcs (pc := 78) (idx := 123) (n := 139) (tx := "three,four") C (by decide +kernel) (by decide) (kS K es_100_123)) ?_
  refine fs_c1 (fs_inv_virtual (pc := 80) (n := 79794276) C (Nat.le_of_ble_eq_true rfl) (Nat.le_of_ble_eq_true rfl) (fs_lk_virtual (idx := 105) (y := ⟨"BoardMachineModel$Tree", "text", "(Ljava/lang/String;Ljava/lang/String;)V"⟩) (bytes := prog_119_method_13_code) (maxL := 3) (rt := (Option.none : Option Jvm.ClassFile.FieldType)) (d := 8) C (Nat.le_of_ble_eq_true rfl) (Nat.le_of_ble_eq_true rfl) (by decide +kernel) (kw K hw q4821) (kw K hw q415) (kw K hw q4820) (Or.inl (kw K hw q4818)) ⟨by decide, by decide⟩ rfl (Nat.le_of_ble_eq_true rfl) (Nat.le_of_ble_eq_true rfl) (fs_one (⟨_, rfl, kw K hw qs136⟩))) fs_con_mono o1) ?_
  refine fs_c1 (fs_ldcs (pc := 84) (idx := 125) (n := 119) (tx := "interrupt-controller") C (by decide +kernel) (by decide) (kS K es_100_125)) ?_
  refine fs_c1 (fs_inv_virtual (pc := 86) (n := 8491108) C (Nat.le_of_ble_eq_true rfl) (Nat.le_of_ble_eq_true rfl) (fs_lk_virtual (idx := 98) (y := ⟨"BoardMachineModel$Tree", "node", "(Ljava/lang/String;)V"⟩) (bytes := prog_119_method_6_code) (maxL := 2) (rt := (Option.none : Option Jvm.ClassFile.FieldType)) (d := 6) C (Nat.le_of_ble_eq_true rfl) (Nat.le_of_ble_eq_true rfl) (by decide +kernel) (kw K hw q4774) (kw K hw q415) (kw K hw q4773) (Or.inl (kw K hw q4771)) ⟨by decide, by decide⟩ rfl (Nat.le_of_ble_eq_true rfl) (Nat.le_of_ble_eq_true rfl) (fs_one (⟨_, rfl, kw K hw qs126⟩))) fs_con_mono o0) ?_
  refine fs_c1 (fs_ldcs (pc := 90) (idx := 127) (n := 102) (tx := "#interrupt-cells") C (by decide +kernel) (by decide) (kS K es_100_127)) ?_
  refine fs_c1 (fs_inv_virtual (pc := 93) (n := 146903140) C (Nat.le_of_ble_eq_true rfl) (Nat.le_of_ble_eq_true rfl) (fs_lk_virtual (idx := 84) (y := ⟨"BoardMachineModel$Tree", "number", "(Ljava/lang/String;J)V"⟩) (bytes := prog_119_method_12_code) (maxL := 4) (rt := (Option.none : Option Jvm.ClassFile.FieldType)) (d := 8) C (Nat.le_of_ble_eq_true rfl) (Nat.le_of_ble_eq_true rfl) (by decide +kernel) (kw K hw q4797) (kw K hw q415) (kw K hw q4796) (Or.inl (kw K hw q4794)) ⟨by decide, by decide⟩ rfl (Nat.le_of_ble_eq_true rfl) (Nat.le_of_ble_eq_true rfl) (fs_one (⟨_, rfl, kw K hw qs131⟩))) fs_con_mono o2) ?_
  refine fs_c1 (fs_ldcs (pc := 97) (idx := 125) (n := 119) (tx := "interrupt-controller") C (by decide +kernel) (by decide) (kS K es_100_125)) ?_
  refine fs_c1 (fs_inv_virtual (pc := 99) (n := 209817700) C (Nat.le_of_ble_eq_true rfl) (Nat.le_of_ble_eq_true rfl) (fs_lk_virtual (idx := 129) (y := ⟨"BoardMachineModel$Tree", "nothing", "(Ljava/lang/String;)V"⟩) (bytes := prog_119_method_14_code) (maxL := 2) (rt := (Option.none : Option Jvm.ClassFile.FieldType)) (d := 8) C (Nat.le_of_ble_eq_true rfl) (Nat.le_of_ble_eq_true rfl) (by decide +kernel) (kw K hw q4858) (kw K hw q415) (kw K hw q4857) (Or.inl (kw K hw q4855)) ⟨by decide, by decide⟩ rfl (Nat.le_of_ble_eq_true rfl) (Nat.le_of_ble_eq_true rfl) (fs_one (⟨_, rfl, kw K hw qs139⟩))) fs_con_mono o3) ?_
  refine fs_c1 (fs_ldcs (pc := 103) (idx := 113) (n := 109) (tx := "compatible") C (by decide +kernel) (by decide) (kS K es_100_113)) ?_
  refine fs_c1 (fs_ldcs (pc := 105) (idx := 132) (n := 148) (tx := "whole,lines") C (by decide +kernel) (by decide) (kS K es_100_132)) ?_
  refine fs_c1 (fs_inv_virtual (pc := 107) (n := 79794276) C (Nat.le_of_ble_eq_true rfl) (Nat.le_of_ble_eq_true rfl) (fs_lk_virtual (idx := 105) (y := ⟨"BoardMachineModel$Tree", "text", "(Ljava/lang/String;Ljava/lang/String;)V"⟩) (bytes := prog_119_method_13_code) (maxL := 3) (rt := (Option.none : Option Jvm.ClassFile.FieldType)) (d := 8) C (Nat.le_of_ble_eq_true rfl) (Nat.le_of_ble_eq_true rfl) (by decide +kernel) (kw K hw q4821) (kw K hw q415) (kw K hw q4820) (Or.inl (kw K hw q4818)) ⟨by decide, by decide⟩ rfl (Nat.le_of_ble_eq_true rfl) (Nat.le_of_ble_eq_true rfl) (fs_one (⟨_, rfl, kw K hw qs136⟩))) fs_con_mono o1) ?_
  refine fs_c1 (fs_ldcs (pc := 111) (idx := 134) (n := 130) (tx := "phandle") C (by decide +kernel) (by decide) (kS K es_100_134)) ?_
  refine fs_c1 (fs_inv_virtual (pc := 117) (n := 146903140) C (Nat.le_of_ble_eq_true rfl) (Nat.le_of_ble_eq_true rfl) (fs_lk_virtual (idx := 84) (y := ⟨"BoardMachineModel$Tree", "number", "(Ljava/lang/String;J)V"⟩) (bytes := prog_119_method_12_code) (maxL := 4) (rt := (Option.none : Option Jvm.ClassFile.FieldType)) (d := 8) C (Nat.le_of_ble_eq_true rfl) (Nat.le_of_ble_eq_true rfl) (by decide +kernel) (kw K hw q4797) (kw K hw q415) (kw K hw q4796) (Or.inl (kw K hw q4794)) ⟨by decide, by decide⟩ rfl (Nat.le_of_ble_eq_true rfl) (Nat.le_of_ble_eq_true rfl) (fs_one (⟨_, rfl, kw K hw qs131⟩))) fs_con_mono o2) ?_
  refine fs_c1 (fs_inv_virtual (pc := 121) (n := 272732260) C (Nat.le_of_ble_eq_true rfl) (Nat.le_of_ble_eq_true rfl) (fs_lk_virtual (idx := 136) (y := ⟨"BoardMachineModel$Tree", "done", "()V"⟩) (bytes := prog_119_method_7_code) (maxL := 1) (rt := (Option.none : Option Jvm.ClassFile.FieldType)) (d := 2) C (Nat.le_of_ble_eq_true rfl) (Nat.le_of_ble_eq_true rfl) (by decide +kernel) (kw K hw q4830) (kw K hw q415) (kw K hw q4829) (Or.inl (kw K hw q4827)) ⟨by decide, by decide⟩ rfl (Nat.le_of_ble_eq_true rfl) (Nat.le_of_ble_eq_true rfl) (fs_one (⟨_, rfl, kw K hw qs137⟩))) fs_con_mono o4) ?_
  refine fs_c1 (fs_inv_virtual (pc := 125) (n := 272732260) C (Nat.le_of_ble_eq_true rfl) (Nat.le_of_ble_eq_true rfl) (fs_lk_virtual (idx := 136) (y := ⟨"BoardMachineModel$Tree", "done", "()V"⟩) (bytes := prog_119_method_7_code) (maxL := 1) (rt := (Option.none : Option Jvm.ClassFile.FieldType)) (d := 2) C (Nat.le_of_ble_eq_true rfl) (Nat.le_of_ble_eq_true rfl) (by decide +kernel) (kw K hw q4830) (kw K hw q415) (kw K hw q4829) (Or.inl (kw K hw q4827)) ⟨by decide, by decide⟩ rfl (Nat.le_of_ble_eq_true rfl) (Nat.le_of_ble_eq_true rfl) (fs_one (⟨_, rfl, kw K hw qs137⟩))) fs_con_mono o4) ?_
  exact fs_c0
theorem hX97_eight (n : Nat) : fe_H (sX97_eight (FX97_four n)) cX97_eight [0] fe_kv [] 20 (fun _ => dX97_eight (FX97_eight_0 n)) := by
  intro j pc L st M r hc h
  rcases fe_mem_c hc with rfl | hc
  · obtain ⟨w0, m0, h⟩ := fe_lR_d h
    obtain ⟨w1, m1, h⟩ := fe_lL_d h
    obtain ⟨rfl, hz⟩ := fe_t0_d h
    exact ⟨[(0, .ref w0), (1, .long w1)], (fe_cs m0 (fe_cs m1 fe_nl)), Or.inr ((bX97_eight_0 (FX97_four n) (FX97_eight_0 n ) w0 w1 M).symm.trans hz)⟩
  exact fe_mem_0 hc
theorem vX97_eight (n : Nat) : fe_SB (sX97_eight (FX97_four n)) := by
  refine ⟨?_, ?_, ?_, ?_⟩
  · intro i As M r h
    rcases fe_bc h with h | h
    · obtain ⟨v0, t0, rfl, g0⟩ := fe_tR_d h
      obtain ⟨v1, t1, rfl, g1⟩ := fe_tL_d g0
      obtain ⟨rfl, hz⟩ := fe_t0_d g1
      exact mX97_four n v0 v1 M r hz
    exact fe_no h
  · intro i As M r h
    exact fe_no h
  · intro i As M r h
    exact fe_no h
  · intro i As M r h
    exact fe_no h
theorem eX97_eight (g0 : Nat → Int64 → FM → Option (FM)) (a0 : Nat) (a1 : Int64) (M : FM) : dX97_eight g0 0 [(0, .ref a0), (1, .long a1)] [] M = g0 a0 a1 M := by rfl
theorem mX97_eight (n : Nat) (a0 : Nat) (a1 : Int64) (M : FM) (r : FM) (h : FX97_eight n a0 a1 M = some r) : fm_nx M ≤ fm_nx r ∧ fm_ns M ≤ fm_ns r :=
  fe_mono (L0 := [(0, .ref a0), (1, .long a1)]) (vX97_eight n) (by decide +kernel) (hX97_eight n) (fe_kv_k r) 0 rfl ((eX97_eight (FX97_eight_0 n ) a0 a1 M).trans h)
theorem zX97_eight {s0 : State} {H0 : Heap} {oa : Nat → Nat} {D : va_G} (K : fk s0 H0 oa D) (l : Launch) (n : Nat) (a0 : Nat) (a1 : Int64) (M : FM) (r : FM) (h : FX97_eight n a0 a1 M = some r) : fs_Con (fk_E s0 H0 oa D) l 2 ⟨"BoardMachineModel$Tree", "eight", "(J)V"⟩ prog_119_method_3_code 3 (Option.none : Option Jvm.ClassFile.FieldType) [.ref a0, .long a1] M none r := by
  have o0 : fs_OS (sX97_eight (FX97_four n)) 0 0 (fs_Con (fk_E s0 H0 oa D) l 1 ⟨"BoardMachineModel$Tree", "four", "(J)V"⟩ prog_119_method_2_code 4 (Option.none : Option Jvm.ClassFile.FieldType)) := by
    intro As M r h
    obtain ⟨v0, t0, rfl, g0⟩ := fe_tR_d h
    obtain ⟨v1, t1, rfl, g1⟩ := fe_tL_d g0
    obtain ⟨rfl, hz⟩ := fe_t0_d g1
    exact zX97_four K l n v0 v1 M r hz
  refine fs_method (own := "BoardMachineModel$Tree") rfl (by decide) K.2.1 (by rw [fe_slen]; exact (Nat.le_of_ble_eq_true rfl)) (mX97_eight n a0 a1 M r h) (hX97_eight n) 0 rfl (L0 := [(0, .ref a0), (1, .long a1)]) (fun E => fe_args_e E [.ref a0, .long a1] 0) ((eX97_eight (FX97_eight_0 n ) a0 a1 M).trans h) (fe_kv_k r) (fun H hR => fs_nr_o (by decide) (by decide)) ?_
  intro p e s m args below meth c Q C hnm
  have hw : s0.WarmedH s.vm := C.2.2.2.2.1
  refine fe_all C fk_hwr cX97_eight [5, 10] (by decide +kernel) (fe_fil (cps := [(5, 8, .invokevirtual 8491108), (10, 13, .invokevirtual 8491108)]) (by decide +kernel) ?_)
  refine fs_c1 (fs_inv_virtual (pc := 5) (n := 8491108) C (Nat.le_of_ble_eq_true rfl) (Nat.le_of_ble_eq_true rfl) (fs_lk_virtual (idx := 30) (y := ⟨"BoardMachineModel$Tree", "four", "(J)V"⟩) (bytes := prog_119_method_2_code) (maxL := 4) (rt := (Option.none : Option Jvm.ClassFile.FieldType)) (d := 1) C (Nat.le_of_ble_eq_true rfl) (Nat.le_of_ble_eq_true rfl) (by decide +kernel) (kw K hw q4778) (kw K hw q415) (kw K hw q4777) (Or.inl (kw K hw q4775)) ⟨by decide, by decide⟩ rfl (Nat.le_of_ble_eq_true rfl) (Nat.le_of_ble_eq_true rfl) (fs_one (⟨_, rfl, kw K hw qs127⟩))) fs_con_mono o0) ?_
  refine fs_c1 (fs_inv_virtual (pc := 10) (n := 8491108) C (Nat.le_of_ble_eq_true rfl) (Nat.le_of_ble_eq_true rfl) (fs_lk_virtual (idx := 30) (y := ⟨"BoardMachineModel$Tree", "four", "(J)V"⟩) (bytes := prog_119_method_2_code) (maxL := 4) (rt := (Option.none : Option Jvm.ClassFile.FieldType)) (d := 1) C (Nat.le_of_ble_eq_true rfl) (Nat.le_of_ble_eq_true rfl) (by decide +kernel) (kw K hw q4778) (kw K hw q415) (kw K hw q4777) (Or.inl (kw K hw q4775)) ⟨by decide, by decide⟩ rfl (Nat.le_of_ble_eq_true rfl) (Nat.le_of_ble_eq_true rfl) (fs_one (⟨_, rfl, kw K hw qs127⟩))) fs_con_mono o0) ?_
  exact fs_c0
theorem hX97_region (n : Nat) : fe_H (sX97_region (FX97_open n) (FX97_eight n) (FX97_close n)) cX97_region [0] fe_kv [] 20 (fun _ => dX97_region (FX97_region_0 n)) := by
  intro j pc L st M r hc h
  rcases fe_mem_c hc with rfl | hc
  · obtain ⟨w0, m0, h⟩ := fe_lR_d h
    obtain ⟨w1, m1, h⟩ := fe_lL_d h
    obtain ⟨w3, m3, h⟩ := fe_lL_d h
    obtain ⟨rfl, hz⟩ := fe_t0_d h
    exact ⟨[(0, .ref w0), (1, .long w1), (3, .long w3)], (fe_cs m0 (fe_cs m1 (fe_cs m3 fe_nl))), Or.inr ((bX97_region_0 (FX97_open n) (FX97_eight n) (FX97_close n) (FX97_region_0 n ) w0 w1 w3 M).symm.trans hz)⟩
  exact fe_mem_0 hc
theorem vX97_region (n : Nat) : fe_SB (sX97_region (FX97_open n) (FX97_eight n) (FX97_close n)) := by
  refine ⟨?_, ?_, ?_, ?_⟩
  · intro i As M r h
    rcases fe_bc h with h | h
    · obtain ⟨v0, t0, rfl, g0⟩ := fe_tR_d h
      obtain ⟨v1, t1, rfl, g1⟩ := fe_tR_d g0
      obtain ⟨rfl, hz⟩ := fe_t0_d g1
      exact mX97_open n v0 v1 M r hz
    rcases fe_bc h with h | h
    · obtain ⟨v0, t0, rfl, g0⟩ := fe_tR_d h
      obtain ⟨v1, t1, rfl, g1⟩ := fe_tL_d g0
      obtain ⟨rfl, hz⟩ := fe_t0_d g1
      exact mX97_eight n v0 v1 M r hz
    rcases fe_bc h with h | h
    · obtain ⟨v0, t0, rfl, g0⟩ := fe_tR_d h
      obtain ⟨rfl, hz⟩ := fe_t0_d g0
      exact mX97_close n v0 M r hz
    exact fe_no h
  · intro i As M r h
    exact fe_no h
  · intro i As M r h
    exact fe_no h
  · intro i As M r h
    exact fe_no h
theorem eX97_region (g0 : Nat → Int64 → Int64 → FM → Option (FM)) (a0 : Nat) (a1 : Int64) (a3 : Int64) (M : FM) : dX97_region g0 0 [(0, .ref a0), (1, .long a1), (3, .long a3)] [] M = g0 a0 a1 a3 M := by rfl
theorem mX97_region (n : Nat) (a0 : Nat) (a1 : Int64) (a3 : Int64) (M : FM) (r : FM) (h : FX97_region n a0 a1 a3 M = some r) : fm_nx M ≤ fm_nx r ∧ fm_ns M ≤ fm_ns r :=
  fe_mono (L0 := [(0, .ref a0), (1, .long a1), (3, .long a3)]) (vX97_region n) (by decide +kernel) (hX97_region n) (fe_kv_k r) 0 rfl ((eX97_region (FX97_region_0 n ) a0 a1 a3 M).trans h)
theorem zX97_region {s0 : State} {H0 : Heap} {oa : Nat → Nat} {D : va_G} (K : fk s0 H0 oa D) (l : Launch) (n : Nat) (a0 : Nat) (a1 : Int64) (a3 : Int64) (M : FM) (r : FM) (h : FX97_region n a0 a1 a3 M = some r) : fs_Con (fk_E s0 H0 oa D) l 8 ⟨"BoardMachineModel$Tree", "region", "(JJ)V"⟩ prog_119_method_15_code 5 (Option.none : Option Jvm.ClassFile.FieldType) [.ref a0, .long a1, .long a3] M none r := by
  have o0 : fs_OS (sX97_region (FX97_open n) (FX97_eight n) (FX97_close n)) 0 0 (fs_Con (fk_E s0 H0 oa D) l 7 ⟨"BoardMachineModel$Tree", "open", "(Ljava/lang/String;)V"⟩ prog_119_method_10_code 2 (Option.none : Option Jvm.ClassFile.FieldType)) := by
    intro As M r h
    obtain ⟨v0, t0, rfl, g0⟩ := fe_tR_d h
    obtain ⟨v1, t1, rfl, g1⟩ := fe_tR_d g0
    obtain ⟨rfl, hz⟩ := fe_t0_d g1
    exact zX97_open K l n v0 v1 M r hz
  have o1 : fs_OS (sX97_region (FX97_open n) (FX97_eight n) (FX97_close n)) 1 0 (fs_Con (fk_E s0 H0 oa D) l 2 ⟨"BoardMachineModel$Tree", "eight", "(J)V"⟩ prog_119_method_3_code 3 (Option.none : Option Jvm.ClassFile.FieldType)) := by
    intro As M r h
    obtain ⟨v0, t0, rfl, g0⟩ := fe_tR_d h
    obtain ⟨v1, t1, rfl, g1⟩ := fe_tL_d g0
    obtain ⟨rfl, hz⟩ := fe_t0_d g1
    exact zX97_eight K l n v0 v1 M r hz
  have o2 : fs_OS (sX97_region (FX97_open n) (FX97_eight n) (FX97_close n)) 2 0 (fs_Con (fk_E s0 H0 oa D) l 2 ⟨"BoardMachineModel$Tree", "close", "()V"⟩ prog_119_method_11_code 2 (Option.none : Option Jvm.ClassFile.FieldType)) := by
    intro As M r h
    obtain ⟨v0, t0, rfl, g0⟩ := fe_tR_d h
    obtain ⟨rfl, hz⟩ := fe_t0_d g0
    exact zX97_close K l n v0 M r hz
  refine fs_method (own := "BoardMachineModel$Tree") rfl (by decide) K.2.1 (by rw [fe_slen]; exact (Nat.le_of_ble_eq_true rfl)) (mX97_region n a0 a1 a3 M r h) (hX97_region n) 0 rfl (L0 := [(0, .ref a0), (1, .long a1), (3, .long a3)]) (fun E => fe_args_e E [.ref a0, .long a1, .long a3] 0) ((eX97_region (FX97_region_0 n ) a0 a1 a3 M).trans h) (fe_kv_k r) (fun H hR => fs_nr_o (by decide) (by decide)) ?_
  intro p e s m args below meth c Q C hnm
  have hw : s0.WarmedH s.vm := C.2.2.2.2.1
  refine fe_all C fk_hwr cX97_region [1, 3, 8, 13, 17] (by decide +kernel) (fe_fil (cps := [(1, 3, .ldc 132), (3, 6, .invokevirtual 8491108), (8, 11, .invokevirtual 75599972), (13, 16, .invokevirtual 75599972), (17, 20, .invokevirtual 138514532)]) (by decide +kernel) ?_)
  refine fs_c1 (fs_ldcs (pc := 1) (idx := 75) (n := 132) (tx := "reg") C (by decide +kernel) (by decide) (kS K es_100_75)) ?_
  refine fs_c1 (fs_inv_virtual (pc := 3) (n := 8491108) C (Nat.le_of_ble_eq_true rfl) (Nat.le_of_ble_eq_true rfl) (fs_lk_virtual (idx := 69) (y := ⟨"BoardMachineModel$Tree", "open", "(Ljava/lang/String;)V"⟩) (bytes := prog_119_method_10_code) (maxL := 2) (rt := (Option.none : Option Jvm.ClassFile.FieldType)) (d := 7) C (Nat.le_of_ble_eq_true rfl) (Nat.le_of_ble_eq_true rfl) (by decide +kernel) (kw K hw q4801) (kw K hw q415) (kw K hw q4800) (Or.inl (kw K hw q4798)) ⟨by decide, by decide⟩ rfl (Nat.le_of_ble_eq_true rfl) (Nat.le_of_ble_eq_true rfl) (fs_one (⟨_, rfl, kw K hw qs132⟩))) fs_con_mono o0) ?_
  refine fs_c1 (fs_inv_virtual (pc := 8) (n := 75599972) C (Nat.le_of_ble_eq_true rfl) (Nat.le_of_ble_eq_true rfl) (fs_lk_virtual (idx := 77) (y := ⟨"BoardMachineModel$Tree", "eight", "(J)V"⟩) (bytes := prog_119_method_3_code) (maxL := 3) (rt := (Option.none : Option Jvm.ClassFile.FieldType)) (d := 2) C (Nat.le_of_ble_eq_true rfl) (Nat.le_of_ble_eq_true rfl) (by decide +kernel) (kw K hw q4872) (kw K hw q415) (kw K hw q4871) (Or.inl (kw K hw q4869)) ⟨by decide, by decide⟩ rfl (Nat.le_of_ble_eq_true rfl) (Nat.le_of_ble_eq_true rfl) (fs_one (⟨_, rfl, kw K hw qs141⟩))) fs_con_mono o1) ?_
  refine fs_c1 (fs_inv_virtual (pc := 13) (n := 75599972) C (Nat.le_of_ble_eq_true rfl) (Nat.le_of_ble_eq_true rfl) (fs_lk_virtual (idx := 77) (y := ⟨"BoardMachineModel$Tree", "eight", "(J)V"⟩) (bytes := prog_119_method_3_code) (maxL := 3) (rt := (Option.none : Option Jvm.ClassFile.FieldType)) (d := 2) C (Nat.le_of_ble_eq_true rfl) (Nat.le_of_ble_eq_true rfl) (by decide +kernel) (kw K hw q4872) (kw K hw q415) (kw K hw q4871) (Or.inl (kw K hw q4869)) ⟨by decide, by decide⟩ rfl (Nat.le_of_ble_eq_true rfl) (Nat.le_of_ble_eq_true rfl) (fs_one (⟨_, rfl, kw K hw qs141⟩))) fs_con_mono o1) ?_
  refine fs_c1 (fs_inv_virtual (pc := 17) (n := 138514532) C (Nat.le_of_ble_eq_true rfl) (Nat.le_of_ble_eq_true rfl) (fs_lk_virtual (idx := 72) (y := ⟨"BoardMachineModel$Tree", "close", "()V"⟩) (bytes := prog_119_method_11_code) (maxL := 2) (rt := (Option.none : Option Jvm.ClassFile.FieldType)) (d := 2) C (Nat.le_of_ble_eq_true rfl) (Nat.le_of_ble_eq_true rfl) (by decide +kernel) (kw K hw q4814) (kw K hw q415) (kw K hw q4813) (Or.inl (kw K hw q4811)) ⟨by decide, by decide⟩ rfl (Nat.le_of_ble_eq_true rfl) (Nat.le_of_ble_eq_true rfl) (fs_one (⟨_, rfl, kw K hw qs135⟩))) fs_con_mono o2) ?_
  exact fs_c0
theorem hX97_lines (n : Nat) : fe_H (sX97_lines (FX97_open n) (FX97_close n) (FX97_four n)) cX97_lines [0, 9] fe_kv [9] 38 (fun j => dX97_lines (FX97_lines_0 n (FX97_lines_L9 n j)) (FX97_lines_L9 n j)) := by
  intro j pc L st M r hc h
  rcases fe_mem_c hc with rfl | hc
  · obtain ⟨w0, m0, h⟩ := fe_lR_d h
    obtain ⟨w1, m1, h⟩ := fe_lI_d h
    obtain ⟨w2, m2, h⟩ := fe_lI_d h
    obtain ⟨w3, m3, h⟩ := fe_lI_d h
    obtain ⟨rfl, hz⟩ := fe_t0_d h
    exact ⟨[(0, .ref w0), (1, .int w1), (2, .int w2), (3, .int w3)], (fe_cs m0 (fe_cs m1 (fe_cs m2 (fe_cs m3 fe_nl)))), Or.inr ((bX97_lines_0 (FX97_open n) (FX97_close n) (FX97_four n) (FX97_lines_0 n (FX97_lines_L9 n j)) (FX97_lines_L9 n j) w0 w1 w2 w3 M).symm.trans hz)⟩
  rcases fe_mem_c hc with rfl | hc
  · obtain ⟨w0, m0, h⟩ := fe_lR_d h
    obtain ⟨w1, m1, h⟩ := fe_lI_d h
    obtain ⟨w2, m2, h⟩ := fe_lI_d h
    obtain ⟨w3, m3, h⟩ := fe_lI_d h
    obtain ⟨w4, m4, h⟩ := fe_lI_d h
    obtain ⟨rfl, hz⟩ := fe_t0_d h
    cases j with
    | zero => exact fe_no hz
    | succ j => exact ⟨[(0, .ref w0), (1, .int w1), (2, .int w2), (3, .int w3), (4, .int w4)], (fe_cs m0 (fe_cs m1 (fe_cs m2 (fe_cs m3 (fe_cs m4 fe_nl))))), Or.inl ⟨j, rfl, (bX97_lines_9 (FX97_open n) (FX97_close n) (FX97_four n) (FX97_lines_0 n (FX97_lines_L9 n j)) (FX97_lines_L9 n j) w0 w1 w2 w3 w4 M).symm.trans hz⟩⟩
  exact fe_mem_0 hc
theorem vX97_lines (n : Nat) : fe_SB (sX97_lines (FX97_open n) (FX97_close n) (FX97_four n)) := by
  refine ⟨?_, ?_, ?_, ?_⟩
  · intro i As M r h
    rcases fe_bc h with h | h
    · obtain ⟨v0, t0, rfl, g0⟩ := fe_tR_d h
      obtain ⟨v1, t1, rfl, g1⟩ := fe_tR_d g0
      obtain ⟨rfl, hz⟩ := fe_t0_d g1
      exact mX97_open n v0 v1 M r hz
    rcases fe_bc h with h | h
    · obtain ⟨v0, t0, rfl, g0⟩ := fe_tR_d h
      obtain ⟨rfl, hz⟩ := fe_t0_d g0
      exact mX97_close n v0 M r hz
    rcases fe_bc h with h | h
    · obtain ⟨v0, t0, rfl, g0⟩ := fe_tR_d h
      obtain ⟨v1, t1, rfl, g1⟩ := fe_tL_d g0
      obtain ⟨rfl, hz⟩ := fe_t0_d g1
      exact mX97_four n v0 v1 M r hz
    exact fe_no h
  · intro i As M r h
    exact fe_no h
  · intro i As M r h
    exact fe_no h
  · intro i As M r h
    exact fe_no h
theorem eX97_lines (g0 : Nat → Int32 → Int32 → Int32 → FM → Option (FM)) (k9 : Nat → Int32 → Int32 → Int32 → Int32 → FM → Option (FM)) (a0 : Nat) (a1 : Int32) (a2 : Int32) (a3 : Int32) (M : FM) : dX97_lines g0 k9 0 [(0, .ref a0), (1, .int a1), (2, .int a2), (3, .int a3)] [] M = g0 a0 a1 a2 a3 M := by rfl
theorem mX97_lines (n : Nat) (a0 : Nat) (a1 : Int32) (a2 : Int32) (a3 : Int32) (M : FM) (r : FM) (h : FX97_lines n a0 a1 a2 a3 M = some r) : fm_nx M ≤ fm_nx r ∧ fm_ns M ≤ fm_ns r :=
  fe_mono (L0 := [(0, .ref a0), (1, .int a1), (2, .int a2), (3, .int a3)]) (vX97_lines n) (by decide +kernel) (hX97_lines n) (fe_kv_k r) n rfl ((eX97_lines (FX97_lines_0 n (FX97_lines_L9 n n)) (FX97_lines_L9 n n) a0 a1 a2 a3 M).trans h)
theorem zX97_lines {s0 : State} {H0 : Heap} {oa : Nat → Nat} {D : va_G} (K : fk s0 H0 oa D) (l : Launch) (n : Nat) (a0 : Nat) (a1 : Int32) (a2 : Int32) (a3 : Int32) (M : FM) (r : FM) (h : FX97_lines n a0 a1 a2 a3 M = some r) : fs_Con (fk_E s0 H0 oa D) l 8 ⟨"BoardMachineModel$Tree", "lines", "(III)V"⟩ prog_119_method_16_code 5 (Option.none : Option Jvm.ClassFile.FieldType) [.ref a0, .int a1, .int a2, .int a3] M none r := by
  have o0 : fs_OS (sX97_lines (FX97_open n) (FX97_close n) (FX97_four n)) 0 0 (fs_Con (fk_E s0 H0 oa D) l 7 ⟨"BoardMachineModel$Tree", "open", "(Ljava/lang/String;)V"⟩ prog_119_method_10_code 2 (Option.none : Option Jvm.ClassFile.FieldType)) := by
    intro As M r h
    obtain ⟨v0, t0, rfl, g0⟩ := fe_tR_d h
    obtain ⟨v1, t1, rfl, g1⟩ := fe_tR_d g0
    obtain ⟨rfl, hz⟩ := fe_t0_d g1
    exact zX97_open K l n v0 v1 M r hz
  have o1 : fs_OS (sX97_lines (FX97_open n) (FX97_close n) (FX97_four n)) 1 0 (fs_Con (fk_E s0 H0 oa D) l 2 ⟨"BoardMachineModel$Tree", "close", "()V"⟩ prog_119_method_11_code 2 (Option.none : Option Jvm.ClassFile.FieldType)) := by
    intro As M r h
    obtain ⟨v0, t0, rfl, g0⟩ := fe_tR_d h
    obtain ⟨rfl, hz⟩ := fe_t0_d g0
    exact zX97_close K l n v0 M r hz
  have o2 : fs_OS (sX97_lines (FX97_open n) (FX97_close n) (FX97_four n)) 2 0 (fs_Con (fk_E s0 H0 oa D) l 1 ⟨"BoardMachineModel$Tree", "four", "(J)V"⟩ prog_119_method_2_code 4 (Option.none : Option Jvm.ClassFile.FieldType)) := by
    intro As M r h
    obtain ⟨v0, t0, rfl, g0⟩ := fe_tR_d h
    obtain ⟨v1, t1, rfl, g1⟩ := fe_tL_d g0
    obtain ⟨rfl, hz⟩ := fe_t0_d g1
    exact zX97_four K l n v0 v1 M r hz
  refine fs_method (own := "BoardMachineModel$Tree") rfl (by decide) K.2.1 (by rw [fe_slen]; exact (Nat.le_of_ble_eq_true rfl)) (mX97_lines n a0 a1 a2 a3 M r h) (hX97_lines n) n rfl (L0 := [(0, .ref a0), (1, .int a1), (2, .int a2), (3, .int a3)]) (fun E => fe_args_e E [.ref a0, .int a1, .int a2, .int a3] 0) ((eX97_lines (FX97_lines_0 n (FX97_lines_L9 n n)) (FX97_lines_L9 n n) a0 a1 a2 a3 M).trans h) (fe_kv_k r) (fun H hR => fs_nr_o (by decide) (by decide)) ?_
  intro p e s m args below meth c Q C hnm
  have hw : s0.WarmedH s.vm := C.2.2.2.2.1
  refine fe_all C fk_hwr cX97_lines [1, 3, 21, 27, 36, 42, 52] (by decide +kernel) (fe_fil (cps := [(1, 3, .ldc 123), (3, 6, .invokevirtual 8491108), (21, 24, .invokevirtual 142708836), (27, 30, .invokevirtual 142708836), (36, 39, .invokevirtual 142708836), (42, 45, .invokevirtual 142708836), (52, 55, .invokevirtual 71405668)]) (by decide +kernel) ?_)
  refine fs_c1 (fs_ldcs (pc := 1) (idx := 80) (n := 123) (tx := "interrupts-extended") C (by decide +kernel) (by decide) (kS K es_100_80)) ?_
  refine fs_c1 (fs_inv_virtual (pc := 3) (n := 8491108) C (Nat.le_of_ble_eq_true rfl) (Nat.le_of_ble_eq_true rfl) (fs_lk_virtual (idx := 69) (y := ⟨"BoardMachineModel$Tree", "open", "(Ljava/lang/String;)V"⟩) (bytes := prog_119_method_10_code) (maxL := 2) (rt := (Option.none : Option Jvm.ClassFile.FieldType)) (d := 7) C (Nat.le_of_ble_eq_true rfl) (Nat.le_of_ble_eq_true rfl) (by decide +kernel) (kw K hw q4801) (kw K hw q415) (kw K hw q4800) (Or.inl (kw K hw q4798)) ⟨by decide, by decide⟩ rfl (Nat.le_of_ble_eq_true rfl) (Nat.le_of_ble_eq_true rfl) (fs_one (⟨_, rfl, kw K hw qs132⟩))) fs_con_mono o0) ?_
  refine fs_c1 (fs_inv_virtual (pc := 21) (n := 142708836) C (Nat.le_of_ble_eq_true rfl) (Nat.le_of_ble_eq_true rfl) (fs_lk_virtual (idx := 30) (y := ⟨"BoardMachineModel$Tree", "four", "(J)V"⟩) (bytes := prog_119_method_2_code) (maxL := 4) (rt := (Option.none : Option Jvm.ClassFile.FieldType)) (d := 1) C (Nat.le_of_ble_eq_true rfl) (Nat.le_of_ble_eq_true rfl) (by decide +kernel) (kw K hw q4778) (kw K hw q415) (kw K hw q4777) (Or.inl (kw K hw q4775)) ⟨by decide, by decide⟩ rfl (Nat.le_of_ble_eq_true rfl) (Nat.le_of_ble_eq_true rfl) (fs_one (⟨_, rfl, kw K hw qs127⟩))) fs_con_mono o2) ?_
  refine fs_c1 (fs_inv_virtual (pc := 27) (n := 142708836) C (Nat.le_of_ble_eq_true rfl) (Nat.le_of_ble_eq_true rfl) (fs_lk_virtual (idx := 30) (y := ⟨"BoardMachineModel$Tree", "four", "(J)V"⟩) (bytes := prog_119_method_2_code) (maxL := 4) (rt := (Option.none : Option Jvm.ClassFile.FieldType)) (d := 1) C (Nat.le_of_ble_eq_true rfl) (Nat.le_of_ble_eq_true rfl) (by decide +kernel) (kw K hw q4778) (kw K hw q415) (kw K hw q4777) (Or.inl (kw K hw q4775)) ⟨by decide, by decide⟩ rfl (Nat.le_of_ble_eq_true rfl) (Nat.le_of_ble_eq_true rfl) (fs_one (⟨_, rfl, kw K hw qs127⟩))) fs_con_mono o2) ?_
  refine fs_c1 (fs_inv_virtual (pc := 36) (n := 142708836) C (Nat.le_of_ble_eq_true rfl) (Nat.le_of_ble_eq_true rfl) (fs_lk_virtual (idx := 30) (y := ⟨"BoardMachineModel$Tree", "four", "(J)V"⟩) (bytes := prog_119_method_2_code) (maxL := 4) (rt := (Option.none : Option Jvm.ClassFile.FieldType)) (d := 1) C (Nat.le_of_ble_eq_true rfl) (Nat.le_of_ble_eq_true rfl) (by decide +kernel) (kw K hw q4778) (kw K hw q415) (kw K hw q4777) (Or.inl (kw K hw q4775)) ⟨by decide, by decide⟩ rfl (Nat.le_of_ble_eq_true rfl) (Nat.le_of_ble_eq_true rfl) (fs_one (⟨_, rfl, kw K hw qs127⟩))) fs_con_mono o2) ?_
  refine fs_c1 (fs_inv_virtual (pc := 42) (n := 142708836) C (Nat.le_of_ble_eq_true rfl) (Nat.le_of_ble_eq_true rfl) (fs_lk_virtual (idx := 30) (y := ⟨"BoardMachineModel$Tree", "four", "(J)V"⟩) (bytes := prog_119_method_2_code) (maxL := 4) (rt := (Option.none : Option Jvm.ClassFile.FieldType)) (d := 1) C (Nat.le_of_ble_eq_true rfl) (Nat.le_of_ble_eq_true rfl) (by decide +kernel) (kw K hw q4778) (kw K hw q415) (kw K hw q4777) (Or.inl (kw K hw q4775)) ⟨by decide, by decide⟩ rfl (Nat.le_of_ble_eq_true rfl) (Nat.le_of_ble_eq_true rfl) (fs_one (⟨_, rfl, kw K hw qs127⟩))) fs_con_mono o2) ?_
  refine fs_c1 (fs_inv_virtual (pc := 52) (n := 71405668) C (Nat.le_of_ble_eq_true rfl) (Nat.le_of_ble_eq_true rfl) (fs_lk_virtual (idx := 72) (y := ⟨"BoardMachineModel$Tree", "close", "()V"⟩) (bytes := prog_119_method_11_code) (maxL := 2) (rt := (Option.none : Option Jvm.ClassFile.FieldType)) (d := 2) C (Nat.le_of_ble_eq_true rfl) (Nat.le_of_ble_eq_true rfl) (by decide +kernel) (kw K hw q4814) (kw K hw q415) (kw K hw q4813) (Or.inl (kw K hw q4811)) ⟨by decide, by decide⟩ rfl (Nat.le_of_ble_eq_true rfl) (Nat.le_of_ble_eq_true rfl) (fs_one (⟨_, rfl, kw K hw qs135⟩))) fs_con_mono o1) ?_
  exact fs_c0
theorem hX97_devices (n : Nat) : fe_H (sX97_devices (FX97_node n) (FX97_text n) (FX97_region n) (FX97_done n) (FX97_lines n) (FX97_number n) (FX97_nothing n)) cX97_devices [0] fe_kv [] 119 (fun _ => dX97_devices (FX97_devices_0 n)) := by
  intro j pc L st M r hc h
  rcases fe_mem_c hc with rfl | hc
  · obtain ⟨w0, m0, h⟩ := fe_lR_d h
    obtain ⟨w1, m1, h⟩ := fe_lI_d h
    obtain ⟨rfl, hz⟩ := fe_t0_d h
    exact ⟨[(0, .ref w0), (1, .int w1)], (fe_cs m0 (fe_cs m1 fe_nl)), Or.inr ((bX97_devices_0 (FX97_node n) (FX97_text n) (FX97_region n) (FX97_done n) (FX97_lines n) (FX97_number n) (FX97_nothing n) (FX97_devices_0 n ) w0 w1 M).symm.trans hz)⟩
  exact fe_mem_0 hc
theorem vX97_devices (n : Nat) : fe_SB (sX97_devices (FX97_node n) (FX97_text n) (FX97_region n) (FX97_done n) (FX97_lines n) (FX97_number n) (FX97_nothing n)) := by
  refine ⟨?_, ?_, ?_, ?_⟩
  · intro i As M r h
    rcases fe_bc h with h | h
    · obtain ⟨v0, t0, rfl, g0⟩ := fe_tR_d h
      obtain ⟨v1, t1, rfl, g1⟩ := fe_tR_d g0
      obtain ⟨rfl, hz⟩ := fe_t0_d g1
      exact mX97_node n v0 v1 M r hz
    rcases fe_bc h with h | h
    · obtain ⟨v0, t0, rfl, g0⟩ := fe_tR_d h
      obtain ⟨v1, t1, rfl, g1⟩ := fe_tR_d g0
      obtain ⟨v2, t2, rfl, g2⟩ := fe_tR_d g1
      obtain ⟨rfl, hz⟩ := fe_t0_d g2
      exact mX97_text n v0 v1 v2 M r hz
    rcases fe_bc h with h | h
    · obtain ⟨v0, t0, rfl, g0⟩ := fe_tR_d h
      obtain ⟨v1, t1, rfl, g1⟩ := fe_tL_d g0
      obtain ⟨v2, t2, rfl, g2⟩ := fe_tL_d g1
      obtain ⟨rfl, hz⟩ := fe_t0_d g2
      exact mX97_region n v0 v1 v2 M r hz
    rcases fe_bc h with h | h
    · obtain ⟨v0, t0, rfl, g0⟩ := fe_tR_d h
      obtain ⟨rfl, hz⟩ := fe_t0_d g0
      exact mX97_done n v0 M r hz
    rcases fe_bc h with h | h
    · obtain ⟨v0, t0, rfl, g0⟩ := fe_tR_d h
      obtain ⟨v1, t1, rfl, g1⟩ := fe_tI_d g0
      obtain ⟨v2, t2, rfl, g2⟩ := fe_tI_d g1
      obtain ⟨v3, t3, rfl, g3⟩ := fe_tI_d g2
      obtain ⟨rfl, hz⟩ := fe_t0_d g3
      exact mX97_lines n v0 v1 v2 v3 M r hz
    rcases fe_bc h with h | h
    · obtain ⟨v0, t0, rfl, g0⟩ := fe_tR_d h
      obtain ⟨v1, t1, rfl, g1⟩ := fe_tR_d g0
      obtain ⟨v2, t2, rfl, g2⟩ := fe_tL_d g1
      obtain ⟨rfl, hz⟩ := fe_t0_d g2
      exact mX97_number n v0 v1 v2 M r hz
    rcases fe_bc h with h | h
    · obtain ⟨v0, t0, rfl, g0⟩ := fe_tR_d h
      obtain ⟨v1, t1, rfl, g1⟩ := fe_tR_d g0
      obtain ⟨rfl, hz⟩ := fe_t0_d g1
      exact mX97_nothing n v0 v1 M r hz
    exact fe_no h
  · intro i As M r h
    exact fe_no h
  · intro i As M r h
    exact fe_no h
  · intro i As M r h
    exact fe_no h
theorem eX97_devices (g0 : Nat → Int32 → FM → Option (FM)) (a0 : Nat) (a1 : Int32) (M : FM) : dX97_devices g0 0 [(0, .ref a0), (1, .int a1)] [] M = g0 a0 a1 M := by rfl
theorem mX97_devices (n : Nat) (a0 : Nat) (a1 : Int32) (M : FM) (r : FM) (h : FX97_devices n a0 a1 M = some r) : fm_nx M ≤ fm_nx r ∧ fm_ns M ≤ fm_ns r :=
  fe_mono (L0 := [(0, .ref a0), (1, .int a1)]) (vX97_devices n) (by decide +kernel) (hX97_devices n) (fe_kv_k r) 0 rfl ((eX97_devices (FX97_devices_0 n ) a0 a1 M).trans h)
theorem zX97_devices {s0 : State} {H0 : Heap} {oa : Nat → Nat} {D : va_G} (K : fk s0 H0 oa D) (l : Launch) (n : Nat) (a0 : Nat) (a1 : Int32) (M : FM) (r : FM) (h : FX97_devices n a0 a1 M = some r) : fs_Con (fk_E s0 H0 oa D) l 9 ⟨"BoardMachineModel$Tree", "devices", "(I)V"⟩ prog_119_method_19_code 3 (Option.none : Option Jvm.ClassFile.FieldType) [.ref a0, .int a1] M none r := by
  have o0 : fs_OS (sX97_devices (FX97_node n) (FX97_text n) (FX97_region n) (FX97_done n) (FX97_lines n) (FX97_number n) (FX97_nothing n)) 0 0 (fs_Con (fk_E s0 H0 oa D) l 6 ⟨"BoardMachineModel$Tree", "node", "(Ljava/lang/String;)V"⟩ prog_119_method_6_code 2 (Option.none : Option Jvm.ClassFile.FieldType)) := by
    intro As M r h
    obtain ⟨v0, t0, rfl, g0⟩ := fe_tR_d h
    obtain ⟨v1, t1, rfl, g1⟩ := fe_tR_d g0
    obtain ⟨rfl, hz⟩ := fe_t0_d g1
    exact zX97_node K l n v0 v1 M r hz
  have o1 : fs_OS (sX97_devices (FX97_node n) (FX97_text n) (FX97_region n) (FX97_done n) (FX97_lines n) (FX97_number n) (FX97_nothing n)) 1 0 (fs_Con (fk_E s0 H0 oa D) l 8 ⟨"BoardMachineModel$Tree", "text", "(Ljava/lang/String;Ljava/lang/String;)V"⟩ prog_119_method_13_code 3 (Option.none : Option Jvm.ClassFile.FieldType)) := by
    intro As M r h
    obtain ⟨v0, t0, rfl, g0⟩ := fe_tR_d h
    obtain ⟨v1, t1, rfl, g1⟩ := fe_tR_d g0
    obtain ⟨v2, t2, rfl, g2⟩ := fe_tR_d g1
    obtain ⟨rfl, hz⟩ := fe_t0_d g2
    exact zX97_text K l n v0 v1 v2 M r hz
  have o2 : fs_OS (sX97_devices (FX97_node n) (FX97_text n) (FX97_region n) (FX97_done n) (FX97_lines n) (FX97_number n) (FX97_nothing n)) 2 0 (fs_Con (fk_E s0 H0 oa D) l 8 ⟨"BoardMachineModel$Tree", "region", "(JJ)V"⟩ prog_119_method_15_code 5 (Option.none : Option Jvm.ClassFile.FieldType)) := by
    intro As M r h
    obtain ⟨v0, t0, rfl, g0⟩ := fe_tR_d h
    obtain ⟨v1, t1, rfl, g1⟩ := fe_tL_d g0
    obtain ⟨v2, t2, rfl, g2⟩ := fe_tL_d g1
    obtain ⟨rfl, hz⟩ := fe_t0_d g2
    exact zX97_region K l n v0 v1 v2 M r hz
  have o3 : fs_OS (sX97_devices (FX97_node n) (FX97_text n) (FX97_region n) (FX97_done n) (FX97_lines n) (FX97_number n) (FX97_nothing n)) 3 0 (fs_Con (fk_E s0 H0 oa D) l 2 ⟨"BoardMachineModel$Tree", "done", "()V"⟩ prog_119_method_7_code 1 (Option.none : Option Jvm.ClassFile.FieldType)) := by
    intro As M r h
    obtain ⟨v0, t0, rfl, g0⟩ := fe_tR_d h
    obtain ⟨rfl, hz⟩ := fe_t0_d g0
    exact zX97_done K l n v0 M r hz
  have o4 : fs_OS (sX97_devices (FX97_node n) (FX97_text n) (FX97_region n) (FX97_done n) (FX97_lines n) (FX97_number n) (FX97_nothing n)) 4 0 (fs_Con (fk_E s0 H0 oa D) l 8 ⟨"BoardMachineModel$Tree", "lines", "(III)V"⟩ prog_119_method_16_code 5 (Option.none : Option Jvm.ClassFile.FieldType)) := by
    intro As M r h
    obtain ⟨v0, t0, rfl, g0⟩ := fe_tR_d h
    obtain ⟨v1, t1, rfl, g1⟩ := fe_tI_d g0
    obtain ⟨v2, t2, rfl, g2⟩ := fe_tI_d g1
    obtain ⟨v3, t3, rfl, g3⟩ := fe_tI_d g2
    obtain ⟨rfl, hz⟩ := fe_t0_d g3
    exact zX97_lines K l n v0 v1 v2 v3 M r hz
  have o5 : fs_OS (sX97_devices (FX97_node n) (FX97_text n) (FX97_region n) (FX97_done n) (FX97_lines n) (FX97_number n) (FX97_nothing n)) 5 0 (fs_Con (fk_E s0 H0 oa D) l 8 ⟨"BoardMachineModel$Tree", "number", "(Ljava/lang/String;J)V"⟩ prog_119_method_12_code 4 (Option.none : Option Jvm.ClassFile.FieldType)) := by
    intro As M r h
    obtain ⟨v0, t0, rfl, g0⟩ := fe_tR_d h
    obtain ⟨v1, t1, rfl, g1⟩ := fe_tR_d g0
    obtain ⟨v2, t2, rfl, g2⟩ := fe_tL_d g1
    obtain ⟨rfl, hz⟩ := fe_t0_d g2
    exact zX97_number K l n v0 v1 v2 M r hz
  have o6 : fs_OS (sX97_devices (FX97_node n) (FX97_text n) (FX97_region n) (FX97_done n) (FX97_lines n) (FX97_number n) (FX97_nothing n)) 6 0 (fs_Con (fk_E s0 H0 oa D) l 8 ⟨"BoardMachineModel$Tree", "nothing", "(Ljava/lang/String;)V"⟩ prog_119_method_14_code 2 (Option.none : Option Jvm.ClassFile.FieldType)) := by
    intro As M r h
    obtain ⟨v0, t0, rfl, g0⟩ := fe_tR_d h
    obtain ⟨v1, t1, rfl, g1⟩ := fe_tR_d g0
    obtain ⟨rfl, hz⟩ := fe_t0_d g1
    exact zX97_nothing K l n v0 v1 M r hz
  refine fs_method (own := "BoardMachineModel$Tree") rfl (by decide) K.2.1 (by rw [fe_slen]; exact (Nat.le_of_ble_eq_true rfl)) (mX97_devices n a0 a1 M r h) (hX97_devices n) 0 rfl (L0 := [(0, .ref a0), (1, .int a1)]) (fun E => fe_args_e E [.ref a0, .int a1] 0) ((eX97_devices (FX97_devices_0 n ) a0 a1 M).trans h) (fe_kv_k r) (fun H hR => fs_nr_o (by decide) (by decide)) ?_
  intro p e s m args below meth c Q C hnm
  have hw : s0.WarmedH s.vm := C.2.2.2.2.1
  refine fe_all C fk_hwr cX97_devices [5, 7, 11, 13, 15, 19, 22, 25, 29, 33, 35, 39, 41, 43, 51, 55, 58, 61, 65, 69, 71, 75, 78, 82, 84, 88, 90, 92, 101, 105, 108, 111, 115, 117, 120, 124, 128, 132, 136, 138, 142, 144, 146, 150, 153, 156, 160, 162, 165, 169, 173, 177, 181, 183, 187, 189, 191, 195, 198, 201, 205, 208, 212, 216, 220] (by decide +kernel) (fe_fil (cps := [(5, 7, .ldc 118), (7, 10, .invokevirtual 8491108), (11, 13, .ldc 109), (13, 15, .ldc 147), (15, 18, .invokevirtual 79794276), (19, 22, .jsr_w (1048576)), (22, 25, .jsr_w (4096)), (25, 28, .invokevirtual 146903140), (29, 32, .invokevirtual 205623396), (33, 35, .ldc 141), (35, 38, .invokevirtual 8491108), (39, 41, .ldc 109), (41, 43, .ldc 150), (43, 46, .invokevirtual 79794276), (51, 54, .invokevirtual 285315172), (55, 58, .jsr_w (33554432)), (58, 61, .jsr_w (65536)), (61, 64, .invokevirtual 146903140), (65, 68, .invokevirtual 205623396), (69, 71, .ldc 120), (71, 74, .invokevirtual 8491108), (75, 77, .ldc 102), (78, 81, .invokevirtual 348229732), (82, 84, .ldc 119), (84, 87, .invokevirtual 411144292), (88, 90, .ldc 109), (90, 92, .ldc 145), (92, 95, .invokevirtual 79794276), (101, 104, .invokevirtual 285315172), (105, 108, .jsr_w (201326592)), (108, 111, .jsr_w (4194304)), (111, 114, .invokevirtual 146903140), (115, 117, .ldc 136), (117, 120, .jsr_w (31)), (120, 123, .invokevirtual 348229732), (124, 126, .ldc 130), (128, 131, .invokevirtual 348229732), (132, 135, .invokevirtual 205623396), (136, 138, .ldc 133), (138, 141, .invokevirtual 8491108), (142, 144, .ldc 109), (144, 146, .ldc 149), (146, 149, .invokevirtual 79794276), (150, 153, .jsr_w (268435456)), (153, 156, .jsr_w (256)), (156, 159, .invokevirtual 146903140), (160, 162, .ldc 122), (162, 165, .jsr_w (10)), (165, 168, .invokevirtual 348229732), (169, 171, .ldc 121), (173, 176, .invokevirtual 348229732), (177, 180, .invokevirtual 205623396), (181, 183, .ldc 106), (183, 186, .invokevirtual 8491108), (187, 189, .ldc 109), (189, 191, .ldc 143), (191, 194, .invokevirtual 79794276), (195, 198, .jsr_w (268439552)), (198, 201, .jsr_w (4096)), (201, 204, .invokevirtual 146903140), (205, 207, .ldc 122), (208, 211, .invokevirtual 348229732), (212, 214, .ldc 121), (216, 219, .invokevirtual 348229732), (220, 223, .invokevirtual 205623396)]) (by decide +kernel) ?_)
  refine fs_c1 (fs_ldcs (pc := 5) (idx := 139) (n := 118) (tx := "end@100000") C (by decide +kernel) (by decide) (kS K es_100_139)) ?_
  refine fs_c1 (fs_inv_virtual (pc := 7) (n := 8491108) C (Nat.le_of_ble_eq_true rfl) (Nat.le_of_ble_eq_true rfl) (fs_lk_virtual (idx := 98) (y := ⟨"BoardMachineModel$Tree", "node", "(Ljava/lang/String;)V"⟩) (bytes := prog_119_method_6_code) (maxL := 2) (rt := (Option.none : Option Jvm.ClassFile.FieldType)) (d := 6) C (Nat.le_of_ble_eq_true rfl) (Nat.le_of_ble_eq_true rfl) (by decide +kernel) (kw K hw q4774) (kw K hw q415) (kw K hw q4773) (Or.inl (kw K hw q4771)) ⟨by decide, by decide⟩ rfl (Nat.le_of_ble_eq_true rfl) (Nat.le_of_ble_eq_true rfl) (fs_one (⟨_, rfl, kw K hw qs126⟩))) fs_con_mono o0) ?_
  refine fs_c1 (fs_ldcs (pc := 11) (idx := 113) (n := 109) (tx := "compatible") C (by decide +kernel) (by decide) (kS K es_100_113)) ?_
  refine fs_c1 (fs_ldcs (pc := 13) (idx := 141) (n := 147) (tx := "whole,end") C (by decide +kernel) (by decide) (kS K es_100_141)) ?_
  refine fs_c1 (fs_inv_virtual (pc := 15) (n := 79794276) C (Nat.le_of_ble_eq_true rfl) (Nat.le_of_ble_eq_true rfl) (fs_lk_virtual (idx := 105) (y := ⟨"BoardMachineModel$Tree", "text", "(Ljava/lang/String;Ljava/lang/String;)V"⟩) (bytes := prog_119_method_13_code) (maxL := 3) (rt := (Option.none : Option Jvm.ClassFile.FieldType)) (d := 8) C (Nat.le_of_ble_eq_true rfl) (Nat.le_of_ble_eq_true rfl) (by decide +kernel) (kw K hw q4821) (kw K hw q415) (kw K hw q4820) (Or.inl (kw K hw q4818)) ⟨by decide, by decide⟩ rfl (Nat.le_of_ble_eq_true rfl) (Nat.le_of_ble_eq_true rfl) (fs_one (⟨_, rfl, kw K hw qs136⟩))) fs_con_mono o1) ?_
  refine fs_c1 (fs_ldcl (pc := 19) (idx := 143) (v := 1048576) C (by decide +kernel) (kw K hw q4882)) ?_
  refine fs_c1 (fs_ldcl (pc := 22) (idx := 145) (v := 4096) C (by decide +kernel) (kw K hw q4883)) ?_
  refine fs_c1 (fs_inv_virtual (pc := 25) (n := 146903140) C (Nat.le_of_ble_eq_true rfl) (Nat.le_of_ble_eq_true rfl) (fs_lk_virtual (idx := 147) (y := ⟨"BoardMachineModel$Tree", "region", "(JJ)V"⟩) (bytes := prog_119_method_15_code) (maxL := 5) (rt := (Option.none : Option Jvm.ClassFile.FieldType)) (d := 8) C (Nat.le_of_ble_eq_true rfl) (Nat.le_of_ble_eq_true rfl) (by decide +kernel) (kw K hw q4868) (kw K hw q415) (kw K hw q4867) (Or.inl (kw K hw q4865)) ⟨by decide, by decide⟩ rfl (Nat.le_of_ble_eq_true rfl) (Nat.le_of_ble_eq_true rfl) (fs_one (⟨_, rfl, kw K hw qs140⟩))) fs_con_mono o2) ?_
  refine fs_c1 (fs_inv_virtual (pc := 29) (n := 205623396) C (Nat.le_of_ble_eq_true rfl) (Nat.le_of_ble_eq_true rfl) (fs_lk_virtual (idx := 136) (y := ⟨"BoardMachineModel$Tree", "done", "()V"⟩) (bytes := prog_119_method_7_code) (maxL := 1) (rt := (Option.none : Option Jvm.ClassFile.FieldType)) (d := 2) C (Nat.le_of_ble_eq_true rfl) (Nat.le_of_ble_eq_true rfl) (by decide +kernel) (kw K hw q4830) (kw K hw q415) (kw K hw q4829) (Or.inl (kw K hw q4827)) ⟨by decide, by decide⟩ rfl (Nat.le_of_ble_eq_true rfl) (Nat.le_of_ble_eq_true rfl) (fs_one (⟨_, rfl, kw K hw qs137⟩))) fs_con_mono o3) ?_
  refine fs_c1 (fs_ldcs (pc := 33) (idx := 151) (n := 141) (tx := "timer@2000000") C (by decide +kernel) (by decide) (kS K es_100_151)) ?_
  refine fs_c1 (fs_inv_virtual (pc := 35) (n := 8491108) C (Nat.le_of_ble_eq_true rfl) (Nat.le_of_ble_eq_true rfl) (fs_lk_virtual (idx := 98) (y := ⟨"BoardMachineModel$Tree", "node", "(Ljava/lang/String;)V"⟩) (bytes := prog_119_method_6_code) (maxL := 2) (rt := (Option.none : Option Jvm.ClassFile.FieldType)) (d := 6) C (Nat.le_of_ble_eq_true rfl) (Nat.le_of_ble_eq_true rfl) (by decide +kernel) (kw K hw q4774) (kw K hw q415) (kw K hw q4773) (Or.inl (kw K hw q4771)) ⟨by decide, by decide⟩ rfl (Nat.le_of_ble_eq_true rfl) (Nat.le_of_ble_eq_true rfl) (fs_one (⟨_, rfl, kw K hw qs126⟩))) fs_con_mono o0) ?_
  refine fs_c1 (fs_ldcs (pc := 39) (idx := 113) (n := 109) (tx := "compatible") C (by decide +kernel) (by decide) (kS K es_100_113)) ?_
  refine fs_c1 (fs_ldcs (pc := 41) (idx := 153) (n := 150) (tx := "whole,timer") C (by decide +kernel) (by decide) (kS K es_100_153)) ?_
  refine fs_c1 (fs_inv_virtual (pc := 43) (n := 79794276) C (Nat.le_of_ble_eq_true rfl) (Nat.le_of_ble_eq_true rfl) (fs_lk_virtual (idx := 105) (y := ⟨"BoardMachineModel$Tree", "text", "(Ljava/lang/String;Ljava/lang/String;)V"⟩) (bytes := prog_119_method_13_code) (maxL := 3) (rt := (Option.none : Option Jvm.ClassFile.FieldType)) (d := 8) C (Nat.le_of_ble_eq_true rfl) (Nat.le_of_ble_eq_true rfl) (by decide +kernel) (kw K hw q4821) (kw K hw q415) (kw K hw q4820) (Or.inl (kw K hw q4818)) ⟨by decide, by decide⟩ rfl (Nat.le_of_ble_eq_true rfl) (Nat.le_of_ble_eq_true rfl) (fs_one (⟨_, rfl, kw K hw qs136⟩))) fs_con_mono o1) ?_
  refine fs_c1 (fs_inv_virtual (pc := 51) (n := 285315172) C (Nat.le_of_ble_eq_true rfl) (Nat.le_of_ble_eq_true rfl) (fs_lk_virtual (idx := 155) (y := ⟨"BoardMachineModel$Tree", "lines", "(III)V"⟩) (bytes := prog_119_method_16_code) (maxL := 5) (rt := (Option.none : Option Jvm.ClassFile.FieldType)) (d := 8) C (Nat.le_of_ble_eq_true rfl) (Nat.le_of_ble_eq_true rfl) (by decide +kernel) (kw K hw q4889) (kw K hw q415) (kw K hw q4888) (Or.inl (kw K hw q4886)) ⟨by decide, by decide⟩ rfl (Nat.le_of_ble_eq_true rfl) (Nat.le_of_ble_eq_true rfl) (fs_one (⟨_, rfl, kw K hw qs143⟩))) fs_con_mono o4) ?_
  refine fs_c1 (fs_ldcl (pc := 55) (idx := 159) (v := 33554432) C (by decide +kernel) (kw K hw q4891)) ?_
  refine fs_c1 (fs_ldcl (pc := 58) (idx := 161) (v := 65536) C (by decide +kernel) (kw K hw q4892)) ?_
  refine fs_c1 (fs_inv_virtual (pc := 61) (n := 146903140) C (Nat.le_of_ble_eq_true rfl) (Nat.le_of_ble_eq_true rfl) (fs_lk_virtual (idx := 147) (y := ⟨"BoardMachineModel$Tree", "region", "(JJ)V"⟩) (bytes := prog_119_method_15_code) (maxL := 5) (rt := (Option.none : Option Jvm.ClassFile.FieldType)) (d := 8) C (Nat.le_of_ble_eq_true rfl) (Nat.le_of_ble_eq_true rfl) (by decide +kernel) (kw K hw q4868) (kw K hw q415) (kw K hw q4867) (Or.inl (kw K hw q4865)) ⟨by decide, by decide⟩ rfl (Nat.le_of_ble_eq_true rfl) (Nat.le_of_ble_eq_true rfl) (fs_one (⟨_, rfl, kw K hw qs140⟩))) fs_con_mono o2) ?_
  refine fs_c1 (fs_inv_virtual (pc := 65) (n := 205623396) C (Nat.le_of_ble_eq_true rfl) (Nat.le_of_ble_eq_true rfl) (fs_lk_virtual (idx := 136) (y := ⟨"BoardMachineModel$Tree", "done", "()V"⟩) (bytes := prog_119_method_7_code) (maxL := 1) (rt := (Option.none : Option Jvm.ClassFile.FieldType)) (d := 2) C (Nat.le_of_ble_eq_true rfl) (Nat.le_of_ble_eq_true rfl) (by decide +kernel) (kw K hw q4830) (kw K hw q415) (kw K hw q4829) (Or.inl (kw K hw q4827)) ⟨by decide, by decide⟩ rfl (Nat.le_of_ble_eq_true rfl) (Nat.le_of_ble_eq_true rfl) (fs_one (⟨_, rfl, kw K hw qs137⟩))) fs_con_mono o3) ?_
  refine fs_c1 (fs_ldcs (pc := 69) (idx := 163) (n := 120) (tx := "interrupt-controller@c000000") C (by decide +kernel) (by decide) (kS K es_100_163)) ?_
  refine fs_c1 (fs_inv_virtual (pc := 71) (n := 8491108) C (Nat.le_of_ble_eq_true rfl) (Nat.le_of_ble_eq_true rfl) (fs_lk_virtual (idx := 98) (y := ⟨"BoardMachineModel$Tree", "node", "(Ljava/lang/String;)V"⟩) (bytes := prog_119_method_6_code) (maxL := 2) (rt := (Option.none : Option Jvm.ClassFile.FieldType)) (d := 6) C (Nat.le_of_ble_eq_true rfl) (Nat.le_of_ble_eq_true rfl) (by decide +kernel) (kw K hw q4774) (kw K hw q415) (kw K hw q4773) (Or.inl (kw K hw q4771)) ⟨by decide, by decide⟩ rfl (Nat.le_of_ble_eq_true rfl) (Nat.le_of_ble_eq_true rfl) (fs_one (⟨_, rfl, kw K hw qs126⟩))) fs_con_mono o0) ?_
  refine fs_c1 (fs_ldcs (pc := 75) (idx := 127) (n := 102) (tx := "#interrupt-cells") C (by decide +kernel) (by decide) (kS K es_100_127)) ?_
  refine fs_c1 (fs_inv_virtual (pc := 78) (n := 348229732) C (Nat.le_of_ble_eq_true rfl) (Nat.le_of_ble_eq_true rfl) (fs_lk_virtual (idx := 84) (y := ⟨"BoardMachineModel$Tree", "number", "(Ljava/lang/String;J)V"⟩) (bytes := prog_119_method_12_code) (maxL := 4) (rt := (Option.none : Option Jvm.ClassFile.FieldType)) (d := 8) C (Nat.le_of_ble_eq_true rfl) (Nat.le_of_ble_eq_true rfl) (by decide +kernel) (kw K hw q4797) (kw K hw q415) (kw K hw q4796) (Or.inl (kw K hw q4794)) ⟨by decide, by decide⟩ rfl (Nat.le_of_ble_eq_true rfl) (Nat.le_of_ble_eq_true rfl) (fs_one (⟨_, rfl, kw K hw qs131⟩))) fs_con_mono o5) ?_
  refine fs_c1 (fs_ldcs (pc := 82) (idx := 125) (n := 119) (tx := "interrupt-controller") C (by decide +kernel) (by decide) (kS K es_100_125)) ?_
  refine fs_c1 (fs_inv_virtual (pc := 84) (n := 411144292) C (Nat.le_of_ble_eq_true rfl) (Nat.le_of_ble_eq_true rfl) (fs_lk_virtual (idx := 129) (y := ⟨"BoardMachineModel$Tree", "nothing", "(Ljava/lang/String;)V"⟩) (bytes := prog_119_method_14_code) (maxL := 2) (rt := (Option.none : Option Jvm.ClassFile.FieldType)) (d := 8) C (Nat.le_of_ble_eq_true rfl) (Nat.le_of_ble_eq_true rfl) (by decide +kernel) (kw K hw q4858) (kw K hw q415) (kw K hw q4857) (Or.inl (kw K hw q4855)) ⟨by decide, by decide⟩ rfl (Nat.le_of_ble_eq_true rfl) (Nat.le_of_ble_eq_true rfl) (fs_one (⟨_, rfl, kw K hw qs139⟩))) fs_con_mono o6) ?_
  refine fs_c1 (fs_ldcs (pc := 88) (idx := 113) (n := 109) (tx := "compatible") C (by decide +kernel) (by decide) (kS K es_100_113)) ?_
  refine fs_c1 (fs_ldcs (pc := 90) (idx := 165) (n := 145) (tx := "whole,controller") C (by decide +kernel) (by decide) (kS K es_100_165)) ?_
  refine fs_c1 (fs_inv_virtual (pc := 92) (n := 79794276) C (Nat.le_of_ble_eq_true rfl) (Nat.le_of_ble_eq_true rfl) (fs_lk_virtual (idx := 105) (y := ⟨"BoardMachineModel$Tree", "text", "(Ljava/lang/String;Ljava/lang/String;)V"⟩) (bytes := prog_119_method_13_code) (maxL := 3) (rt := (Option.none : Option Jvm.ClassFile.FieldType)) (d := 8) C (Nat.le_of_ble_eq_true rfl) (Nat.le_of_ble_eq_true rfl) (by decide +kernel) (kw K hw q4821) (kw K hw q415) (kw K hw q4820) (Or.inl (kw K hw q4818)) ⟨by decide, by decide⟩ rfl (Nat.le_of_ble_eq_true rfl) (Nat.le_of_ble_eq_true rfl) (fs_one (⟨_, rfl, kw K hw qs136⟩))) fs_con_mono o1) ?_
  refine fs_c1 (fs_inv_virtual (pc := 101) (n := 285315172) C (Nat.le_of_ble_eq_true rfl) (Nat.le_of_ble_eq_true rfl) (fs_lk_virtual (idx := 155) (y := ⟨"BoardMachineModel$Tree", "lines", "(III)V"⟩) (bytes := prog_119_method_16_code) (maxL := 5) (rt := (Option.none : Option Jvm.ClassFile.FieldType)) (d := 8) C (Nat.le_of_ble_eq_true rfl) (Nat.le_of_ble_eq_true rfl) (by decide +kernel) (kw K hw q4889) (kw K hw q415) (kw K hw q4888) (Or.inl (kw K hw q4886)) ⟨by decide, by decide⟩ rfl (Nat.le_of_ble_eq_true rfl) (Nat.le_of_ble_eq_true rfl) (fs_one (⟨_, rfl, kw K hw qs143⟩))) fs_con_mono o4) ?_
  refine fs_c1 (fs_ldcl (pc := 105) (idx := 167) (v := 201326592) C (by decide +kernel) (kw K hw q4895)) ?_
  refine fs_c1 (fs_ldcl (pc := 108) (idx := 169) (v := 4194304) C (by decide +kernel) (kw K hw q4864)) ?_
  refine fs_c1 (fs_inv_virtual (pc := 111) (n := 146903140) C (Nat.le_of_ble_eq_true rfl) (Nat.le_of_ble_eq_true rfl) (fs_lk_virtual (idx := 147) (y := ⟨"BoardMachineModel$Tree", "region", "(JJ)V"⟩) (bytes := prog_119_method_15_code) (maxL := 5) (rt := (Option.none : Option Jvm.ClassFile.FieldType)) (d := 8) C (Nat.le_of_ble_eq_true rfl) (Nat.le_of_ble_eq_true rfl) (by decide +kernel) (kw K hw q4868) (kw K hw q415) (kw K hw q4867) (Or.inl (kw K hw q4865)) ⟨by decide, by decide⟩ rfl (Nat.le_of_ble_eq_true rfl) (Nat.le_of_ble_eq_true rfl) (fs_one (⟨_, rfl, kw K hw qs140⟩))) fs_con_mono o2) ?_
  refine fs_c1 (fs_ldcs (pc := 115) (idx := 171) (n := 136) (tx := "sources") C (by decide +kernel) (by decide) (kS K es_100_171)) ?_
  refine fs_c1 (fs_ldcl (pc := 117) (idx := 173) (v := 31) C (by decide +kernel) (kw K hw q4897)) ?_
  refine fs_c1 (fs_inv_virtual (pc := 120) (n := 348229732) C (Nat.le_of_ble_eq_true rfl) (Nat.le_of_ble_eq_true rfl) (fs_lk_virtual (idx := 84) (y := ⟨"BoardMachineModel$Tree", "number", "(Ljava/lang/String;J)V"⟩) (bytes := prog_119_method_12_code) (maxL := 4) (rt := (Option.none : Option Jvm.ClassFile.FieldType)) (d := 8) C (Nat.le_of_ble_eq_true rfl) (Nat.le_of_ble_eq_true rfl) (by decide +kernel) (kw K hw q4797) (kw K hw q415) (kw K hw q4796) (Or.inl (kw K hw q4794)) ⟨by decide, by decide⟩ rfl (Nat.le_of_ble_eq_true rfl) (Nat.le_of_ble_eq_true rfl) (fs_one (⟨_, rfl, kw K hw qs131⟩))) fs_con_mono o5) ?_
  refine fs_c1 (fs_ldcs (pc := 124) (idx := 134) (n := 130) (tx := "phandle") C (by decide +kernel) (by decide) (kS K es_100_134)) ?_
  refine fs_c1 (fs_inv_virtual (pc := 128) (n := 348229732) C (Nat.le_of_ble_eq_true rfl) (Nat.le_of_ble_eq_true rfl) (fs_lk_virtual (idx := 84) (y := ⟨"BoardMachineModel$Tree", "number", "(Ljava/lang/String;J)V"⟩) (bytes := prog_119_method_12_code) (maxL := 4) (rt := (Option.none : Option Jvm.ClassFile.FieldType)) (d := 8) C (Nat.le_of_ble_eq_true rfl) (Nat.le_of_ble_eq_true rfl) (by decide +kernel) (kw K hw q4797) (kw K hw q415) (kw K hw q4796) (Or.inl (kw K hw q4794)) ⟨by decide, by decide⟩ rfl (Nat.le_of_ble_eq_true rfl) (Nat.le_of_ble_eq_true rfl) (fs_one (⟨_, rfl, kw K hw qs131⟩))) fs_con_mono o5) ?_
  refine fs_c1 (fs_inv_virtual (pc := 132) (n := 205623396) C (Nat.le_of_ble_eq_true rfl) (Nat.le_of_ble_eq_true rfl) (fs_lk_virtual (idx := 136) (y := ⟨"BoardMachineModel$Tree", "done", "()V"⟩) (bytes := prog_119_method_7_code) (maxL := 1) (rt := (Option.none : Option Jvm.ClassFile.FieldType)) (d := 2) C (Nat.le_of_ble_eq_true rfl) (Nat.le_of_ble_eq_true rfl) (by decide +kernel) (kw K hw q4830) (kw K hw q415) (kw K hw q4829) (Or.inl (kw K hw q4827)) ⟨by decide, by decide⟩ rfl (Nat.le_of_ble_eq_true rfl) (Nat.le_of_ble_eq_true rfl) (fs_one (⟨_, rfl, kw K hw qs137⟩))) fs_con_mono o3) ?_
  refine fs_c1 (fs_ldcs (pc := 136) (idx := 175) (n := 133) (tx := "serial@10000000") C (by decide +kernel) (by decide) (kS K es_100_175)) ?_
  refine fs_c1 (fs_inv_virtual (pc := 138) (n := 8491108) C (Nat.le_of_ble_eq_true rfl) (Nat.le_of_ble_eq_true rfl) (fs_lk_virtual (idx := 98) (y := ⟨"BoardMachineModel$Tree", "node", "(Ljava/lang/String;)V"⟩) (bytes := prog_119_method_6_code) (maxL := 2) (rt := (Option.none : Option Jvm.ClassFile.FieldType)) (d := 6) C (Nat.le_of_ble_eq_true rfl) (Nat.le_of_ble_eq_true rfl) (by decide +kernel) (kw K hw q4774) (kw K hw q415) (kw K hw q4773) (Or.inl (kw K hw q4771)) ⟨by decide, by decide⟩ rfl (Nat.le_of_ble_eq_true rfl) (Nat.le_of_ble_eq_true rfl) (fs_one (⟨_, rfl, kw K hw qs126⟩))) fs_con_mono o0) ?_
  refine fs_c1 (fs_ldcs (pc := 142) (idx := 113) (n := 109) (tx := "compatible") C (by decide +kernel) (by decide) (kS K es_100_113)) ?_
  refine fs_c1 (fs_ldcs (pc := 144) (idx := 177) (n := 149) (tx := "whole,serial") C (by decide +kernel) (by decide) (kS K es_100_177)) ?_
  refine fs_c1 (fs_inv_virtual (pc := 146) (n := 79794276) C (Nat.le_of_ble_eq_true rfl) (Nat.le_of_ble_eq_true rfl) (fs_lk_virtual (idx := 105) (y := ⟨"BoardMachineModel$Tree", "text", "(Ljava/lang/String;Ljava/lang/String;)V"⟩) (bytes := prog_119_method_13_code) (maxL := 3) (rt := (Option.none : Option Jvm.ClassFile.FieldType)) (d := 8) C (Nat.le_of_ble_eq_true rfl) (Nat.le_of_ble_eq_true rfl) (by decide +kernel) (kw K hw q4821) (kw K hw q415) (kw K hw q4820) (Or.inl (kw K hw q4818)) ⟨by decide, by decide⟩ rfl (Nat.le_of_ble_eq_true rfl) (Nat.le_of_ble_eq_true rfl) (fs_one (⟨_, rfl, kw K hw qs136⟩))) fs_con_mono o1) ?_
  refine fs_c1 (fs_ldcl (pc := 150) (idx := 179) (v := 268435456) C (by decide +kernel) (kw K hw q4900)) ?_
  refine fs_c1 (fs_ldcl (pc := 153) (idx := 181) (v := 256) C (by decide +kernel) (kw K hw q4901)) ?_
  refine fs_c1 (fs_inv_virtual (pc := 156) (n := 146903140) C (Nat.le_of_ble_eq_true rfl) (Nat.le_of_ble_eq_true rfl) (fs_lk_virtual (idx := 147) (y := ⟨"BoardMachineModel$Tree", "region", "(JJ)V"⟩) (bytes := prog_119_method_15_code) (maxL := 5) (rt := (Option.none : Option Jvm.ClassFile.FieldType)) (d := 8) C (Nat.le_of_ble_eq_true rfl) (Nat.le_of_ble_eq_true rfl) (by decide +kernel) (kw K hw q4868) (kw K hw q415) (kw K hw q4867) (Or.inl (kw K hw q4865)) ⟨by decide, by decide⟩ rfl (Nat.le_of_ble_eq_true rfl) (Nat.le_of_ble_eq_true rfl) (fs_one (⟨_, rfl, kw K hw qs140⟩))) fs_con_mono o2) ?_
  refine fs_c1 (fs_ldcs (pc := 160) (idx := 183) (n := 122) (tx := "interrupts") C (by decide +kernel) (by decide) (kS K es_100_183)) ?_
  refine fs_c1 (fs_ldcl (pc := 162) (idx := 185) (v := 10) C (by decide +kernel) (kw K hw q4903)) ?_
  refine fs_c1 (fs_inv_virtual (pc := 165) (n := 348229732) C (Nat.le_of_ble_eq_true rfl) (Nat.le_of_ble_eq_true rfl) (fs_lk_virtual (idx := 84) (y := ⟨"BoardMachineModel$Tree", "number", "(Ljava/lang/String;J)V"⟩) (bytes := prog_119_method_12_code) (maxL := 4) (rt := (Option.none : Option Jvm.ClassFile.FieldType)) (d := 8) C (Nat.le_of_ble_eq_true rfl) (Nat.le_of_ble_eq_true rfl) (by decide +kernel) (kw K hw q4797) (kw K hw q415) (kw K hw q4796) (Or.inl (kw K hw q4794)) ⟨by decide, by decide⟩ rfl (Nat.le_of_ble_eq_true rfl) (Nat.le_of_ble_eq_true rfl) (fs_one (⟨_, rfl, kw K hw qs131⟩))) fs_con_mono o5) ?_
  refine fs_c1 (fs_ldcs (pc := 169) (idx := 187) (n := 121) (tx := "interrupt-parent") C (by decide +kernel) (by decide) (kS K es_100_187)) ?_
  refine fs_c1 (fs_inv_virtual (pc := 173) (n := 348229732) C (Nat.le_of_ble_eq_true rfl) (Nat.le_of_ble_eq_true rfl) (fs_lk_virtual (idx := 84) (y := ⟨"BoardMachineModel$Tree", "number", "(Ljava/lang/String;J)V"⟩) (bytes := prog_119_method_12_code) (maxL := 4) (rt := (Option.none : Option Jvm.ClassFile.FieldType)) (d := 8) C (Nat.le_of_ble_eq_true rfl) (Nat.le_of_ble_eq_true rfl) (by decide +kernel) (kw K hw q4797) (kw K hw q415) (kw K hw q4796) (Or.inl (kw K hw q4794)) ⟨by decide, by decide⟩ rfl (Nat.le_of_ble_eq_true rfl) (Nat.le_of_ble_eq_true rfl) (fs_one (⟨_, rfl, kw K hw qs131⟩))) fs_con_mono o5) ?_
  refine fs_c1 (fs_inv_virtual (pc := 177) (n := 205623396) C (Nat.le_of_ble_eq_true rfl) (Nat.le_of_ble_eq_true rfl) (fs_lk_virtual (idx := 136) (y := ⟨"BoardMachineModel$Tree", "done", "()V"⟩) (bytes := prog_119_method_7_code) (maxL := 1) (rt := (Option.none : Option Jvm.ClassFile.FieldType)) (d := 2) C (Nat.le_of_ble_eq_true rfl) (Nat.le_of_ble_eq_true rfl) (by decide +kernel) (kw K hw q4830) (kw K hw q415) (kw K hw q4829) (Or.inl (kw K hw q4827)) ⟨by decide, by decide⟩ rfl (Nat.le_of_ble_eq_true rfl) (Nat.le_of_ble_eq_true rfl) (fs_one (⟨_, rfl, kw K hw qs137⟩))) fs_con_mono o3) ?_
  refine fs_c1 (fs_ldcs (pc := 181) (idx := 189) (n := 106) (tx := "block@10001000") C (by decide +kernel) (by decide) (kS K es_100_189)) ?_
  refine fs_c1 (fs_inv_virtual (pc := 183) (n := 8491108) C (Nat.le_of_ble_eq_true rfl) (Nat.le_of_ble_eq_true rfl) (fs_lk_virtual (idx := 98) (y := ⟨"BoardMachineModel$Tree", "node", "(Ljava/lang/String;)V"⟩) (bytes := prog_119_method_6_code) (maxL := 2) (rt := (Option.none : Option Jvm.ClassFile.FieldType)) (d := 6) C (Nat.le_of_ble_eq_true rfl) (Nat.le_of_ble_eq_true rfl) (by decide +kernel) (kw K hw q4774) (kw K hw q415) (kw K hw q4773) (Or.inl (kw K hw q4771)) ⟨by decide, by decide⟩ rfl (Nat.le_of_ble_eq_true rfl) (Nat.le_of_ble_eq_true rfl) (fs_one (⟨_, rfl, kw K hw qs126⟩))) fs_con_mono o0) ?_
  refine fs_c1 (fs_ldcs (pc := 187) (idx := 113) (n := 109) (tx := "compatible") C (by decide +kernel) (by decide) (kS K es_100_113)) ?_
  refine fs_c1 (fs_ldcs (pc := 189) (idx := 191) (n := 143) (tx := "whole,block") C (by decide +kernel) (by decide) (kS K es_100_191)) ?_
  refine fs_c1 (fs_inv_virtual (pc := 191) (n := 79794276) C (Nat.le_of_ble_eq_true rfl) (Nat.le_of_ble_eq_true rfl) (fs_lk_virtual (idx := 105) (y := ⟨"BoardMachineModel$Tree", "text", "(Ljava/lang/String;Ljava/lang/String;)V"⟩) (bytes := prog_119_method_13_code) (maxL := 3) (rt := (Option.none : Option Jvm.ClassFile.FieldType)) (d := 8) C (Nat.le_of_ble_eq_true rfl) (Nat.le_of_ble_eq_true rfl) (by decide +kernel) (kw K hw q4821) (kw K hw q415) (kw K hw q4820) (Or.inl (kw K hw q4818)) ⟨by decide, by decide⟩ rfl (Nat.le_of_ble_eq_true rfl) (Nat.le_of_ble_eq_true rfl) (fs_one (⟨_, rfl, kw K hw qs136⟩))) fs_con_mono o1) ?_
  refine fs_c1 (fs_ldcl (pc := 195) (idx := 193) (v := 268439552) C (by decide +kernel) (kw K hw q4907)) ?_
  refine fs_c1 (fs_ldcl (pc := 198) (idx := 145) (v := 4096) C (by decide +kernel) (kw K hw q4883)) ?_
  refine fs_c1 (fs_inv_virtual (pc := 201) (n := 146903140) C (Nat.le_of_ble_eq_true rfl) (Nat.le_of_ble_eq_true rfl) (fs_lk_virtual (idx := 147) (y := ⟨"BoardMachineModel$Tree", "region", "(JJ)V"⟩) (bytes := prog_119_method_15_code) (maxL := 5) (rt := (Option.none : Option Jvm.ClassFile.FieldType)) (d := 8) C (Nat.le_of_ble_eq_true rfl) (Nat.le_of_ble_eq_true rfl) (by decide +kernel) (kw K hw q4868) (kw K hw q415) (kw K hw q4867) (Or.inl (kw K hw q4865)) ⟨by decide, by decide⟩ rfl (Nat.le_of_ble_eq_true rfl) (Nat.le_of_ble_eq_true rfl) (fs_one (⟨_, rfl, kw K hw qs140⟩))) fs_con_mono o2) ?_
  refine fs_c1 (fs_ldcs (pc := 205) (idx := 183) (n := 122) (tx := "interrupts") C (by decide +kernel) (by decide) (kS K es_100_183)) ?_
  refine fs_c1 (fs_inv_virtual (pc := 208) (n := 348229732) C (Nat.le_of_ble_eq_true rfl) (Nat.le_of_ble_eq_true rfl) (fs_lk_virtual (idx := 84) (y := ⟨"BoardMachineModel$Tree", "number", "(Ljava/lang/String;J)V"⟩) (bytes := prog_119_method_12_code) (maxL := 4) (rt := (Option.none : Option Jvm.ClassFile.FieldType)) (d := 8) C (Nat.le_of_ble_eq_true rfl) (Nat.le_of_ble_eq_true rfl) (by decide +kernel) (kw K hw q4797) (kw K hw q415) (kw K hw q4796) (Or.inl (kw K hw q4794)) ⟨by decide, by decide⟩ rfl (Nat.le_of_ble_eq_true rfl) (Nat.le_of_ble_eq_true rfl) (fs_one (⟨_, rfl, kw K hw qs131⟩))) fs_con_mono o5) ?_
  refine fs_c1 (fs_ldcs (pc := 212) (idx := 187) (n := 121) (tx := "interrupt-parent") C (by decide +kernel) (by decide) (kS K es_100_187)) ?_
  refine fs_c1 (fs_inv_virtual (pc := 216) (n := 348229732) C (Nat.le_of_ble_eq_true rfl) (Nat.le_of_ble_eq_true rfl) (fs_lk_virtual (idx := 84) (y := ⟨"BoardMachineModel$Tree", "number", "(Ljava/lang/String;J)V"⟩) (bytes := prog_119_method_12_code) (maxL := 4) (rt := (Option.none : Option Jvm.ClassFile.FieldType)) (d := 8) C (Nat.le_of_ble_eq_true rfl) (Nat.le_of_ble_eq_true rfl) (by decide +kernel) (kw K hw q4797) (kw K hw q415) (kw K hw q4796) (Or.inl (kw K hw q4794)) ⟨by decide, by decide⟩ rfl (Nat.le_of_ble_eq_true rfl) (Nat.le_of_ble_eq_true rfl) (fs_one (⟨_, rfl, kw K hw qs131⟩))) fs_con_mono o5) ?_
  refine fs_c1 (fs_inv_virtual (pc := 220) (n := 205623396) C (Nat.le_of_ble_eq_true rfl) (Nat.le_of_ble_eq_true rfl) (fs_lk_virtual (idx := 136) (y := ⟨"BoardMachineModel$Tree", "done", "()V"⟩) (bytes := prog_119_method_7_code) (maxL := 1) (rt := (Option.none : Option Jvm.ClassFile.FieldType)) (d := 2) C (Nat.le_of_ble_eq_true rfl) (Nat.le_of_ble_eq_true rfl) (by decide +kernel) (kw K hw q4830) (kw K hw q415) (kw K hw q4829) (Or.inl (kw K hw q4827)) ⟨by decide, by decide⟩ rfl (Nat.le_of_ble_eq_true rfl) (Nat.le_of_ble_eq_true rfl) (fs_one (⟨_, rfl, kw K hw qs137⟩))) fs_con_mono o3) ?_
  exact fs_c0
theorem hX97_machine (n : Nat) : fe_H (sX97_machine (FX97_node n) (FX97_cells n) (FX97_text n) (FX97_done n) (FX97_number n) (FX97_processor n) (FX97_region n) (FX97_nothing n) (FX97_devices n) (FX97_four n)) cX97_machine [0, 69] fe_kv [69] 90 (fun j => dX97_machine (FX97_machine_0 n (FX97_machine_L69 n j)) (FX97_machine_L69 n j)) := by
  intro j pc L st M r hc h
  rcases fe_mem_c hc with rfl | hc
  · obtain ⟨w0, m0, h⟩ := fe_lR_d h
    obtain ⟨w1, m1, h⟩ := fe_lI_d h
    obtain ⟨rfl, hz⟩ := fe_t0_d h
    exact ⟨[(0, .ref w0), (1, .int w1)], (fe_cs m0 (fe_cs m1 fe_nl)), Or.inr ((bX97_machine_0 (FX97_node n) (FX97_cells n) (FX97_text n) (FX97_done n) (FX97_number n) (FX97_processor n) (FX97_region n) (FX97_nothing n) (FX97_devices n) (FX97_four n) (FX97_machine_0 n (FX97_machine_L69 n j)) (FX97_machine_L69 n j) w0 w1 M).symm.trans hz)⟩
  rcases fe_mem_c hc with rfl | hc
  · obtain ⟨w0, m0, h⟩ := fe_lR_d h
    obtain ⟨w1, m1, h⟩ := fe_lI_d h
    obtain ⟨w2, m2, h⟩ := fe_lI_d h
    obtain ⟨rfl, hz⟩ := fe_t0_d h
    cases j with
    | zero => exact fe_no hz
    | succ j => exact ⟨[(0, .ref w0), (1, .int w1), (2, .int w2)], (fe_cs m0 (fe_cs m1 (fe_cs m2 fe_nl))), Or.inl ⟨j, rfl, (bX97_machine_69 (FX97_node n) (FX97_cells n) (FX97_text n) (FX97_done n) (FX97_number n) (FX97_processor n) (FX97_region n) (FX97_nothing n) (FX97_devices n) (FX97_four n) (FX97_machine_0 n (FX97_machine_L69 n j)) (FX97_machine_L69 n j) w0 w1 w2 M).symm.trans hz⟩⟩
  exact fe_mem_0 hc
theorem vX97_machine (n : Nat) : fe_SB (sX97_machine (FX97_node n) (FX97_cells n) (FX97_text n) (FX97_done n) (FX97_number n) (FX97_processor n) (FX97_region n) (FX97_nothing n) (FX97_devices n) (FX97_four n)) := by
  refine ⟨?_, ?_, ?_, ?_⟩
  · intro i As M r h
    rcases fe_bc h with h | h
    · obtain ⟨v0, t0, rfl, g0⟩ := fe_tR_d h
      obtain ⟨v1, t1, rfl, g1⟩ := fe_tR_d g0
      obtain ⟨rfl, hz⟩ := fe_t0_d g1
      exact mX97_node n v0 v1 M r hz
    rcases fe_bc h with h | h
    · obtain ⟨v0, t0, rfl, g0⟩ := fe_tR_d h
      obtain ⟨v1, t1, rfl, g1⟩ := fe_tI_d g0
      obtain ⟨v2, t2, rfl, g2⟩ := fe_tI_d g1
      obtain ⟨rfl, hz⟩ := fe_t0_d g2
      exact mX97_cells n v0 v1 v2 M r hz
    rcases fe_bc h with h | h
    · obtain ⟨v0, t0, rfl, g0⟩ := fe_tR_d h
      obtain ⟨v1, t1, rfl, g1⟩ := fe_tR_d g0
      obtain ⟨v2, t2, rfl, g2⟩ := fe_tR_d g1
      obtain ⟨rfl, hz⟩ := fe_t0_d g2
      exact mX97_text n v0 v1 v2 M r hz
    rcases fe_bc h with h | h
    · obtain ⟨v0, t0, rfl, g0⟩ := fe_tR_d h
      obtain ⟨rfl, hz⟩ := fe_t0_d g0
      exact mX97_done n v0 M r hz
    rcases fe_bc h with h | h
    · obtain ⟨v0, t0, rfl, g0⟩ := fe_tR_d h
      obtain ⟨v1, t1, rfl, g1⟩ := fe_tR_d g0
      obtain ⟨v2, t2, rfl, g2⟩ := fe_tL_d g1
      obtain ⟨rfl, hz⟩ := fe_t0_d g2
      exact mX97_number n v0 v1 v2 M r hz
    rcases fe_bc h with h | h
    · obtain ⟨v0, t0, rfl, g0⟩ := fe_tR_d h
      obtain ⟨v1, t1, rfl, g1⟩ := fe_tI_d g0
      obtain ⟨rfl, hz⟩ := fe_t0_d g1
      exact mX97_processor n v0 v1 M r hz
    rcases fe_bc h with h | h
    · obtain ⟨v0, t0, rfl, g0⟩ := fe_tR_d h
      obtain ⟨v1, t1, rfl, g1⟩ := fe_tL_d g0
      obtain ⟨v2, t2, rfl, g2⟩ := fe_tL_d g1
      obtain ⟨rfl, hz⟩ := fe_t0_d g2
      exact mX97_region n v0 v1 v2 M r hz
    rcases fe_bc h with h | h
    · obtain ⟨v0, t0, rfl, g0⟩ := fe_tR_d h
      obtain ⟨v1, t1, rfl, g1⟩ := fe_tR_d g0
      obtain ⟨rfl, hz⟩ := fe_t0_d g1
      exact mX97_nothing n v0 v1 M r hz
    rcases fe_bc h with h | h
    · obtain ⟨v0, t0, rfl, g0⟩ := fe_tR_d h
      obtain ⟨v1, t1, rfl, g1⟩ := fe_tI_d g0
      obtain ⟨rfl, hz⟩ := fe_t0_d g1
      exact mX97_devices n v0 v1 M r hz
    rcases fe_bc h with h | h
    · obtain ⟨v0, t0, rfl, g0⟩ := fe_tR_d h
      obtain ⟨v1, t1, rfl, g1⟩ := fe_tL_d g0
      obtain ⟨rfl, hz⟩ := fe_t0_d g1
      exact mX97_four n v0 v1 M r hz
    exact fe_no h
  · intro i As M r h
    exact fe_no h
  · intro i As M r h
    exact fe_no h
  · intro i As M r h
    exact fe_no h
theorem eX97_machine (g0 : Nat → Int32 → FM → Option (FM)) (k69 : Nat → Int32 → Int32 → FM → Option (FM)) (a0 : Nat) (a1 : Int32) (M : FM) : dX97_machine g0 k69 0 [(0, .ref a0), (1, .int a1)] [] M = g0 a0 a1 M := by rfl
theorem mX97_machine (n : Nat) (a0 : Nat) (a1 : Int32) (M : FM) (r : FM) (h : FX97_machine n a0 a1 M = some r) : fm_nx M ≤ fm_nx r ∧ fm_ns M ≤ fm_ns r :=
  fe_mono (L0 := [(0, .ref a0), (1, .int a1)]) (vX97_machine n) (by decide +kernel) (hX97_machine n) (fe_kv_k r) n rfl ((eX97_machine (FX97_machine_0 n (FX97_machine_L69 n n)) (FX97_machine_L69 n n) a0 a1 M).trans h)
theorem zX97_machine {s0 : State} {H0 : Heap} {oa : Nat → Nat} {D : va_G} (K : fk s0 H0 oa D) (l : Launch) (n : Nat) (a0 : Nat) (a1 : Int32) (M : FM) (r : FM) (h : FX97_machine n a0 a1 M = some r) : fs_Con (fk_E s0 H0 oa D) l 10 ⟨"BoardMachineModel$Tree", "machine", "(I)V"⟩ prog_119_method_20_code 3 (Option.none : Option Jvm.ClassFile.FieldType) [.ref a0, .int a1] M none r := by
  have o0 : fs_OS (sX97_machine (FX97_node n) (FX97_cells n) (FX97_text n) (FX97_done n) (FX97_number n) (FX97_processor n) (FX97_region n) (FX97_nothing n) (FX97_devices n) (FX97_four n)) 0 0 (fs_Con (fk_E s0 H0 oa D) l 6 ⟨"BoardMachineModel$Tree", "node", "(Ljava/lang/String;)V"⟩ prog_119_method_6_code 2 (Option.none : Option Jvm.ClassFile.FieldType)) := by
    intro As M r h
    obtain ⟨v0, t0, rfl, g0⟩ := fe_tR_d h
    obtain ⟨v1, t1, rfl, g1⟩ := fe_tR_d g0
    obtain ⟨rfl, hz⟩ := fe_t0_d g1
    exact zX97_node K l n v0 v1 M r hz
  have o1 : fs_OS (sX97_machine (FX97_node n) (FX97_cells n) (FX97_text n) (FX97_done n) (FX97_number n) (FX97_processor n) (FX97_region n) (FX97_nothing n) (FX97_devices n) (FX97_four n)) 1 0 (fs_Con (fk_E s0 H0 oa D) l 9 ⟨"BoardMachineModel$Tree", "cells", "(II)V"⟩ prog_119_method_17_code 3 (Option.none : Option Jvm.ClassFile.FieldType)) := by
    intro As M r h
    obtain ⟨v0, t0, rfl, g0⟩ := fe_tR_d h
    obtain ⟨v1, t1, rfl, g1⟩ := fe_tI_d g0
    obtain ⟨v2, t2, rfl, g2⟩ := fe_tI_d g1
    obtain ⟨rfl, hz⟩ := fe_t0_d g2
    exact zX97_cells K l n v0 v1 v2 M r hz
  have o2 : fs_OS (sX97_machine (FX97_node n) (FX97_cells n) (FX97_text n) (FX97_done n) (FX97_number n) (FX97_processor n) (FX97_region n) (FX97_nothing n) (FX97_devices n) (FX97_four n)) 2 0 (fs_Con (fk_E s0 H0 oa D) l 8 ⟨"BoardMachineModel$Tree", "text", "(Ljava/lang/String;Ljava/lang/String;)V"⟩ prog_119_method_13_code 3 (Option.none : Option Jvm.ClassFile.FieldType)) := by
    intro As M r h
    obtain ⟨v0, t0, rfl, g0⟩ := fe_tR_d h
    obtain ⟨v1, t1, rfl, g1⟩ := fe_tR_d g0
    obtain ⟨v2, t2, rfl, g2⟩ := fe_tR_d g1
    obtain ⟨rfl, hz⟩ := fe_t0_d g2
    exact zX97_text K l n v0 v1 v2 M r hz
  have o3 : fs_OS (sX97_machine (FX97_node n) (FX97_cells n) (FX97_text n) (FX97_done n) (FX97_number n) (FX97_processor n) (FX97_region n) (FX97_nothing n) (FX97_devices n) (FX97_four n)) 3 0 (fs_Con (fk_E s0 H0 oa D) l 2 ⟨"BoardMachineModel$Tree", "done", "()V"⟩ prog_119_method_7_code 1 (Option.none : Option Jvm.ClassFile.FieldType)) := by
    intro As M r h
    obtain ⟨v0, t0, rfl, g0⟩ := fe_tR_d h
    obtain ⟨rfl, hz⟩ := fe_t0_d g0
    exact zX97_done K l n v0 M r hz
  have o4 : fs_OS (sX97_machine (FX97_node n) (FX97_cells n) (FX97_text n) (FX97_done n) (FX97_number n) (FX97_processor n) (FX97_region n) (FX97_nothing n) (FX97_devices n) (FX97_four n)) 4 0 (fs_Con (fk_E s0 H0 oa D) l 8 ⟨"BoardMachineModel$Tree", "number", "(Ljava/lang/String;J)V"⟩ prog_119_method_12_code 4 (Option.none : Option Jvm.ClassFile.FieldType)) := by
    intro As M r h
    obtain ⟨v0, t0, rfl, g0⟩ := fe_tR_d h
    obtain ⟨v1, t1, rfl, g1⟩ := fe_tR_d g0
    obtain ⟨v2, t2, rfl, g2⟩ := fe_tL_d g1
    obtain ⟨rfl, hz⟩ := fe_t0_d g2
    exact zX97_number K l n v0 v1 v2 M r hz
  have o5 : fs_OS (sX97_machine (FX97_node n) (FX97_cells n) (FX97_text n) (FX97_done n) (FX97_number n) (FX97_processor n) (FX97_region n) (FX97_nothing n) (FX97_devices n) (FX97_four n)) 5 0 (fs_Con (fk_E s0 H0 oa D) l 9 ⟨"BoardMachineModel$Tree", "processor", "(I)V"⟩ prog_119_method_18_code 2 (Option.none : Option Jvm.ClassFile.FieldType)) := by
    intro As M r h
    obtain ⟨v0, t0, rfl, g0⟩ := fe_tR_d h
    obtain ⟨v1, t1, rfl, g1⟩ := fe_tI_d g0
    obtain ⟨rfl, hz⟩ := fe_t0_d g1
    exact zX97_processor K l n v0 v1 M r hz
  have o6 : fs_OS (sX97_machine (FX97_node n) (FX97_cells n) (FX97_text n) (FX97_done n) (FX97_number n) (FX97_processor n) (FX97_region n) (FX97_nothing n) (FX97_devices n) (FX97_four n)) 6 0 (fs_Con (fk_E s0 H0 oa D) l 8 ⟨"BoardMachineModel$Tree", "region", "(JJ)V"⟩ prog_119_method_15_code 5 (Option.none : Option Jvm.ClassFile.FieldType)) := by
    intro As M r h
    obtain ⟨v0, t0, rfl, g0⟩ := fe_tR_d h
    obtain ⟨v1, t1, rfl, g1⟩ := fe_tL_d g0
    obtain ⟨v2, t2, rfl, g2⟩ := fe_tL_d g1
    obtain ⟨rfl, hz⟩ := fe_t0_d g2
    exact zX97_region K l n v0 v1 v2 M r hz
  have o7 : fs_OS (sX97_machine (FX97_node n) (FX97_cells n) (FX97_text n) (FX97_done n) (FX97_number n) (FX97_processor n) (FX97_region n) (FX97_nothing n) (FX97_devices n) (FX97_four n)) 7 0 (fs_Con (fk_E s0 H0 oa D) l 8 ⟨"BoardMachineModel$Tree", "nothing", "(Ljava/lang/String;)V"⟩ prog_119_method_14_code 2 (Option.none : Option Jvm.ClassFile.FieldType)) := by
    intro As M r h
    obtain ⟨v0, t0, rfl, g0⟩ := fe_tR_d h
    obtain ⟨v1, t1, rfl, g1⟩ := fe_tR_d g0
    obtain ⟨rfl, hz⟩ := fe_t0_d g1
    exact zX97_nothing K l n v0 v1 M r hz
  have o8 : fs_OS (sX97_machine (FX97_node n) (FX97_cells n) (FX97_text n) (FX97_done n) (FX97_number n) (FX97_processor n) (FX97_region n) (FX97_nothing n) (FX97_devices n) (FX97_four n)) 8 0 (fs_Con (fk_E s0 H0 oa D) l 9 ⟨"BoardMachineModel$Tree", "devices", "(I)V"⟩ prog_119_method_19_code 3 (Option.none : Option Jvm.ClassFile.FieldType)) := by
    intro As M r h
    obtain ⟨v0, t0, rfl, g0⟩ := fe_tR_d h
    obtain ⟨v1, t1, rfl, g1⟩ := fe_tI_d g0
    obtain ⟨rfl, hz⟩ := fe_t0_d g1
    exact zX97_devices K l n v0 v1 M r hz
  have o9 : fs_OS (sX97_machine (FX97_node n) (FX97_cells n) (FX97_text n) (FX97_done n) (FX97_number n) (FX97_processor n) (FX97_region n) (FX97_nothing n) (FX97_devices n) (FX97_four n)) 9 0 (fs_Con (fk_E s0 H0 oa D) l 1 ⟨"BoardMachineModel$Tree", "four", "(J)V"⟩ prog_119_method_2_code 4 (Option.none : Option Jvm.ClassFile.FieldType)) := by
    intro As M r h
    obtain ⟨v0, t0, rfl, g0⟩ := fe_tR_d h
    obtain ⟨v1, t1, rfl, g1⟩ := fe_tL_d g0
    obtain ⟨rfl, hz⟩ := fe_t0_d g1
    exact zX97_four K l n v0 v1 M r hz
  refine fs_method (own := "BoardMachineModel$Tree") rfl (by decide) K.2.1 (by rw [fe_slen]; exact (Nat.le_of_ble_eq_true rfl)) (mX97_machine n a0 a1 M r h) (hX97_machine n) n rfl (L0 := [(0, .ref a0), (1, .int a1)]) (fun E => fe_args_e E [.ref a0, .int a1] 0) ((eX97_machine (FX97_machine_0 n (FX97_machine_L69 n n)) (FX97_machine_L69 n n) a0 a1 M).trans h) (fe_kv_k r) (fun H hR => fs_nr_o (by decide) (by decide)) ?_
  intro p e s m args below meth c Q C hnm
  have hw : s0.WarmedH s.vm := C.2.2.2.2.1
  refine fe_all C fk_hwr cX97_machine [1, 3, 9, 13, 15, 17, 21, 23, 25, 29, 31, 35, 37, 39, 43, 47, 49, 55, 59, 61, 64, 76, 86, 90, 92, 96, 98, 100, 104, 107, 110, 114, 118, 120, 126, 130, 132, 134, 138, 140, 145, 149, 153, 157, 160] (by decide +kernel) (fe_fil (cps := [(1, 3, .ldc 100), (3, 6, .invokevirtual 8491108), (9, 12, .invokevirtual 79794276), (13, 15, .ldc 109), (15, 17, .ldc 144), (17, 20, .invokevirtual 146903140), (21, 23, .ldc 128), (23, 25, .ldc 107), (25, 28, .invokevirtual 146903140), (29, 31, .ldc 108), (31, 34, .invokevirtual 8491108), (35, 37, .ldc 138), (37, 39, .ldc 104), (39, 42, .invokevirtual 146903140), (43, 46, .invokevirtual 205623396), (47, 49, .ldc 116), (49, 52, .invokevirtual 8491108), (55, 58, .invokevirtual 79794276), (59, 61, .ldc 140), (61, 64, .jsr_w (10000000)), (64, 67, .invokevirtual 281120868), (76, 79, .invokevirtual 344035428), (86, 89, .invokevirtual 205623396), (90, 92, .ldc 126), (92, 95, .invokevirtual 8491108), (96, 98, .ldc 117), (98, 100, .ldc 125), (100, 103, .invokevirtual 146903140), (104, 107, .jsr_w (2147483648)), (107, 110, .jsr_w (4194304)), (110, 113, .invokevirtual 415338596), (114, 117, .invokevirtual 205623396), (118, 120, .ldc 135), (120, 123, .invokevirtual 8491108), (126, 129, .invokevirtual 79794276), (130, 132, .ldc 109), (132, 134, .ldc 134), (134, 137, .invokevirtual 146903140), (138, 140, .ldc 131), (140, 143, .invokevirtual 478253156), (145, 148, .invokevirtual 545362020), (149, 152, .invokevirtual 205623396), (153, 156, .invokevirtual 205623396), (157, 160, .jsr_w (9)), (160, 163, .invokevirtual 612470884)]) (by decide +kernel) ?_)
  refine fs_c1 (fs_ldcs (pc := 1) (idx := 195) (n := 100) (tx := "") C (by decide +kernel) (by decide) (kS K es_100_195)) ?_
  refine fs_c1 (fs_inv_virtual (pc := 3) (n := 8491108) C (Nat.le_of_ble_eq_true rfl) (Nat.le_of_ble_eq_true rfl) (fs_lk_virtual (idx := 98) (y := ⟨"BoardMachineModel$Tree", "node", "(Ljava/lang/String;)V"⟩) (bytes := prog_119_method_6_code) (maxL := 2) (rt := (Option.none : Option Jvm.ClassFile.FieldType)) (d := 6) C (Nat.le_of_ble_eq_true rfl) (Nat.le_of_ble_eq_true rfl) (by decide +kernel) (kw K hw q4774) (kw K hw q415) (kw K hw q4773) (Or.inl (kw K hw q4771)) ⟨by decide, by decide⟩ rfl (Nat.le_of_ble_eq_true rfl) (Nat.le_of_ble_eq_true rfl) (fs_one (⟨_, rfl, kw K hw qs126⟩))) fs_con_mono o0) ?_
  refine fs_c1 (fs_inv_virtual (pc := 9) (n := 79794276) C (Nat.le_of_ble_eq_true rfl) (Nat.le_of_ble_eq_true rfl) (fs_lk_virtual (idx := 197) (y := ⟨"BoardMachineModel$Tree", "cells", "(II)V"⟩) (bytes := prog_119_method_17_code) (maxL := 3) (rt := (Option.none : Option Jvm.ClassFile.FieldType)) (d := 9) C (Nat.le_of_ble_eq_true rfl) (Nat.le_of_ble_eq_true rfl) (by decide +kernel) (kw K hw q4792) (kw K hw q415) (kw K hw q4791) (Or.inl (kw K hw q4789)) ⟨by decide, by decide⟩ rfl (Nat.le_of_ble_eq_true rfl) (Nat.le_of_ble_eq_true rfl) (fs_one (⟨_, rfl, kw K hw qs130⟩))) fs_con_mono o1) ?_
  refine fs_c1 (fs_ldcs (pc := 13) (idx := 113) (n := 109) (tx := "compatible") C (by decide +kernel) (by decide) (kS K es_100_113)) ?_
  refine fs_c1 (fs_ldcs (pc := 15) (idx := 201) (n := 144) (tx := "whole,board") C (by decide +kernel) (by decide) (kS K es_100_201)) ?_
  refine fs_c1 (fs_inv_virtual (pc := 17) (n := 146903140) C (Nat.le_of_ble_eq_true rfl) (Nat.le_of_ble_eq_true rfl) (fs_lk_virtual (idx := 105) (y := ⟨"BoardMachineModel$Tree", "text", "(Ljava/lang/String;Ljava/lang/String;)V"⟩) (bytes := prog_119_method_13_code) (maxL := 3) (rt := (Option.none : Option Jvm.ClassFile.FieldType)) (d := 8) C (Nat.le_of_ble_eq_true rfl) (Nat.le_of_ble_eq_true rfl) (by decide +kernel) (kw K hw q4821) (kw K hw q415) (kw K hw q4820) (Or.inl (kw K hw q4818)) ⟨by decide, by decide⟩ rfl (Nat.le_of_ble_eq_true rfl) (Nat.le_of_ble_eq_true rfl) (fs_one (⟨_, rfl, kw K hw qs136⟩))) fs_con_mono o2) ?_
  refine fs_c1 (fs_ldcs (pc := 21) (idx := 203) (n := 128) (tx := "model") C (by decide +kernel) (by decide) (kS K es_100_203)) ?_
  refine fs_c1 (fs_ldcs (pc := 23) (idx := 205) (n := 107) (tx := "board") C (by decide +kernel) (by decide) (kS K es_100_205)) ?_
  refine fs_c1 (fs_inv_virtual (pc := 25) (n := 146903140) C (Nat.le_of_ble_eq_true rfl) (Nat.le_of_ble_eq_true rfl) (fs_lk_virtual (idx := 105) (y := ⟨"BoardMachineModel$Tree", "text", "(Ljava/lang/String;Ljava/lang/String;)V"⟩) (bytes := prog_119_method_13_code) (maxL := 3) (rt := (Option.none : Option Jvm.ClassFile.FieldType)) (d := 8) C (Nat.le_of_ble_eq_true rfl) (Nat.le_of_ble_eq_true rfl) (by decide +kernel) (kw K hw q4821) (kw K hw q415) (kw K hw q4820) (Or.inl (kw K hw q4818)) ⟨by decide, by decide⟩ rfl (Nat.le_of_ble_eq_true rfl) (Nat.le_of_ble_eq_true rfl) (fs_one (⟨_, rfl, kw K hw qs136⟩))) fs_con_mono o2) ?_
  refine fs_c1 (fs_ldcs (pc := 29) (idx := 207) (n := 108) (tx := "chosen") C (by decide +kernel) (by decide) (kS K es_100_207)) ?_
  refine fs_c1 (fs_inv_virtual (pc := 31) (n := 8491108) C (Nat.le_of_ble_eq_true rfl) (Nat.le_of_ble_eq_true rfl) (fs_lk_virtual (idx := 98) (y := ⟨"BoardMachineModel$Tree", "node", "(Ljava/lang/String;)V"⟩) (bytes := prog_119_method_6_code) (maxL := 2) (rt := (Option.none : Option Jvm.ClassFile.FieldType)) (d := 6) C (Nat.le_of_ble_eq_true rfl) (Nat.le_of_ble_eq_true rfl) (by decide +kernel) (kw K hw q4774) (kw K hw q415) (kw K hw q4773) (Or.inl (kw K hw q4771)) ⟨by decide, by decide⟩ rfl (Nat.le_of_ble_eq_true rfl) (Nat.le_of_ble_eq_true rfl) (fs_one (⟨_, rfl, kw K hw qs126⟩))) fs_con_mono o0) ?_
  refine fs_c1 (fs_ldcs (pc := 35) (idx := 209) (n := 138) (tx := "stdout-path") C (by decide +kernel) (by decide) (kS K es_100_209)) ?_
  refine fs_c1 (fs_ldcs (pc := 37) (idx := 211) (n := 104) (tx := "/soc/serial@10000000") C (by decide +kernel) (by decide) (kS K es_100_211)) ?_
  refine fs_c1 (fs_inv_virtual (pc := 39) (n := 146903140) C (Nat.le_of_ble_eq_true rfl) (Nat.le_of_ble_eq_true rfl) (fs_lk_virtual (idx := 105) (y := ⟨"BoardMachineModel$Tree", "text", "(Ljava/lang/String;Ljava/lang/String;)V"⟩) (bytes := prog_119_method_13_code) (maxL := 3) (rt := (Option.none : Option Jvm.ClassFile.FieldType)) (d := 8) C (Nat.le_of_ble_eq_true rfl) (Nat.le_of_ble_eq_true rfl) (by decide +kernel) (kw K hw q4821) (kw K hw q415) (kw K hw q4820) (Or.inl (kw K hw q4818)) ⟨by decide, by decide⟩ rfl (Nat.le_of_ble_eq_true rfl) (Nat.le_of_ble_eq_true rfl) (fs_one (⟨_, rfl, kw K hw qs136⟩))) fs_con_mono o2) ?_
  refine fs_c1 (fs_inv_virtual (pc := 43) (n := 205623396) C (Nat.le_of_ble_eq_true rfl) (Nat.le_of_ble_eq_true rfl) (fs_lk_virtual (idx := 136) (y := ⟨"BoardMachineModel$Tree", "done", "()V"⟩) (bytes := prog_119_method_7_code) (maxL := 1) (rt := (Option.none : Option Jvm.ClassFile.FieldType)) (d := 2) C (Nat.le_of_ble_eq_true rfl) (Nat.le_of_ble_eq_true rfl) (by decide +kernel) (kw K hw q4830) (kw K hw q415) (kw K hw q4829) (Or.inl (kw K hw q4827)) ⟨by decide, by decide⟩ rfl (Nat.le_of_ble_eq_true rfl) (Nat.le_of_ble_eq_true rfl) (fs_one (⟨_, rfl, kw K hw qs137⟩))) fs_con_mono o3) ?_
  refine fs_c1 (fs_ldcs (pc := 47) (idx := 213) (n := 116) (tx := "cpus") C (by decide +kernel) (by decide) (kS K es_100_213)) ?_
  refine fs_c1 (fs_inv_virtual (pc := 49) (n := 8491108) C (Nat.le_of_ble_eq_true rfl) (Nat.le_of_ble_eq_true rfl) (fs_lk_virtual (idx := 98) (y := ⟨"BoardMachineModel$Tree", "node", "(Ljava/lang/String;)V"⟩) (bytes := prog_119_method_6_code) (maxL := 2) (rt := (Option.none : Option Jvm.ClassFile.FieldType)) (d := 6) C (Nat.le_of_ble_eq_true rfl) (Nat.le_of_ble_eq_true rfl) (by decide +kernel) (kw K hw q4774) (kw K hw q415) (kw K hw q4773) (Or.inl (kw K hw q4771)) ⟨by decide, by decide⟩ rfl (Nat.le_of_ble_eq_true rfl) (Nat.le_of_ble_eq_true rfl) (fs_one (⟨_, rfl, kw K hw qs126⟩))) fs_con_mono o0) ?_
  refine fs_c1 (fs_inv_virtual (pc := 55) (n := 79794276) C (Nat.le_of_ble_eq_true rfl) (Nat.le_of_ble_eq_true rfl) (fs_lk_virtual (idx := 197) (y := ⟨"BoardMachineModel$Tree", "cells", "(II)V"⟩) (bytes := prog_119_method_17_code) (maxL := 3) (rt := (Option.none : Option Jvm.ClassFile.FieldType)) (d := 9) C (Nat.le_of_ble_eq_true rfl) (Nat.le_of_ble_eq_true rfl) (by decide +kernel) (kw K hw q4792) (kw K hw q415) (kw K hw q4791) (Or.inl (kw K hw q4789)) ⟨by decide, by decide⟩ rfl (Nat.le_of_ble_eq_true rfl) (Nat.le_of_ble_eq_true rfl) (fs_one (⟨_, rfl, kw K hw qs130⟩))) fs_con_mono o1) ?_
  refine fs_c1 (fs_ldcs (pc := 59) (idx := 215) (n := 140) (tx := "timebase-frequency") C (by decide +kernel) (by decide) (kS K es_100_215)) ?_
  refine fs_c1 (fs_ldcl (pc := 61) (idx := 217) (v := 10000000) C (by decide +kernel) (kw K hw q4834)) ?_
  refine fs_c1 (fs_inv_virtual (pc := 64) (n := 281120868) C (Nat.le_of_ble_eq_true rfl) (Nat.le_of_ble_eq_true rfl) (fs_lk_virtual (idx := 84) (y := ⟨"BoardMachineModel$Tree", "number", "(Ljava/lang/String;J)V"⟩) (bytes := prog_119_method_12_code) (maxL := 4) (rt := (Option.none : Option Jvm.ClassFile.FieldType)) (d := 8) C (Nat.le_of_ble_eq_true rfl) (Nat.le_of_ble_eq_true rfl) (by decide +kernel) (kw K hw q4797) (kw K hw q415) (kw K hw q4796) (Or.inl (kw K hw q4794)) ⟨by decide, by decide⟩ rfl (Nat.le_of_ble_eq_true rfl) (Nat.le_of_ble_eq_true rfl) (fs_one (⟨_, rfl, kw K hw qs131⟩))) fs_con_mono o4) ?_
  refine fs_c1 (fs_inv_virtual (pc := 76) (n := 344035428) C (Nat.le_of_ble_eq_true rfl) (Nat.le_of_ble_eq_true rfl) (fs_lk_virtual (idx := 219) (y := ⟨"BoardMachineModel$Tree", "processor", "(I)V"⟩) (bytes := prog_119_method_18_code) (maxL := 2) (rt := (Option.none : Option Jvm.ClassFile.FieldType)) (d := 9) C (Nat.le_of_ble_eq_true rfl) (Nat.le_of_ble_eq_true rfl) (by decide +kernel) (kw K hw q4838) (kw K hw q415) (kw K hw q4837) (Or.inl (kw K hw q4835)) ⟨by decide, by decide⟩ rfl (Nat.le_of_ble_eq_true rfl) (Nat.le_of_ble_eq_true rfl) (fs_one (⟨_, rfl, kw K hw qs138⟩))) fs_con_mono o5) ?_
  refine fs_c1 (fs_inv_virtual (pc := 86) (n := 205623396) C (Nat.le_of_ble_eq_true rfl) (Nat.le_of_ble_eq_true rfl) (fs_lk_virtual (idx := 136) (y := ⟨"BoardMachineModel$Tree", "done", "()V"⟩) (bytes := prog_119_method_7_code) (maxL := 1) (rt := (Option.none : Option Jvm.ClassFile.FieldType)) (d := 2) C (Nat.le_of_ble_eq_true rfl) (Nat.le_of_ble_eq_true rfl) (by decide +kernel) (kw K hw q4830) (kw K hw q415) (kw K hw q4829) (Or.inl (kw K hw q4827)) ⟨by decide, by decide⟩ rfl (Nat.le_of_ble_eq_true rfl) (Nat.le_of_ble_eq_true rfl) (fs_one (⟨_, rfl, kw K hw qs137⟩))) fs_con_mono o3) ?_
  refine fs_c1 (fs_ldcs (pc := 90) (idx := 222) (n := 126) (tx := "memory@80000000") C (by decide +kernel) (by decide) (kS K es_100_222)) ?_
  refine fs_c1 (fs_inv_virtual (pc := 92) (n := 8491108) C (Nat.le_of_ble_eq_true rfl) (Nat.le_of_ble_eq_true rfl) (fs_lk_virtual (idx := 98) (y := ⟨"BoardMachineModel$Tree", "node", "(Ljava/lang/String;)V"⟩) (bytes := prog_119_method_6_code) (maxL := 2) (rt := (Option.none : Option Jvm.ClassFile.FieldType)) (d := 6) C (Nat.le_of_ble_eq_true rfl) (Nat.le_of_ble_eq_true rfl) (by decide +kernel) (kw K hw q4774) (kw K hw q415) (kw K hw q4773) (Or.inl (kw K hw q4771)) ⟨by decide, by decide⟩ rfl (Nat.le_of_ble_eq_true rfl) (Nat.le_of_ble_eq_true rfl) (fs_one (⟨_, rfl, kw K hw qs126⟩))) fs_con_mono o0) ?_
  refine fs_c1 (fs_ldcs (pc := 96) (idx := 101) (n := 117) (tx := "device_type") C (by decide +kernel) (by decide) (kS K es_100_101)) ?_
  refine fs_c1 (fs_ldcs (pc := 98) (idx := 224) (n := 125) (tx := "memory") C (by decide +kernel) (by decide) (kS K es_100_224)) ?_
  refine fs_c1 (fs_inv_virtual (pc := 100) (n := 146903140) C (Nat.le_of_ble_eq_true rfl) (Nat.le_of_ble_eq_true rfl) (fs_lk_virtual (idx := 105) (y := ⟨"BoardMachineModel$Tree", "text", "(Ljava/lang/String;Ljava/lang/String;)V"⟩) (bytes := prog_119_method_13_code) (maxL := 3) (rt := (Option.none : Option Jvm.ClassFile.FieldType)) (d := 8) C (Nat.le_of_ble_eq_true rfl) (Nat.le_of_ble_eq_true rfl) (by decide +kernel) (kw K hw q4821) (kw K hw q415) (kw K hw q4820) (Or.inl (kw K hw q4818)) ⟨by decide, by decide⟩ rfl (Nat.le_of_ble_eq_true rfl) (Nat.le_of_ble_eq_true rfl) (fs_one (⟨_, rfl, kw K hw qs136⟩))) fs_con_mono o2) ?_
  refine fs_c1 (fs_ldcl (pc := 104) (idx := 226) (v := 2147483648) C (by decide +kernel) (kw K hw q4863)) ?_
  refine fs_c1 (fs_ldcl (pc := 107) (idx := 169) (v := 4194304) C (by decide +kernel) (kw K hw q4864)) ?_
  refine fs_c1 (fs_inv_virtual (pc := 110) (n := 415338596) C (Nat.le_of_ble_eq_true rfl) (Nat.le_of_ble_eq_true rfl) (fs_lk_virtual (idx := 147) (y := ⟨"BoardMachineModel$Tree", "region", "(JJ)V"⟩) (bytes := prog_119_method_15_code) (maxL := 5) (rt := (Option.none : Option Jvm.ClassFile.FieldType)) (d := 8) C (Nat.le_of_ble_eq_true rfl) (Nat.le_of_ble_eq_true rfl) (by decide +kernel) (kw K hw q4868) (kw K hw q415) (kw K hw q4867) (Or.inl (kw K hw q4865)) ⟨by decide, by decide⟩ rfl (Nat.le_of_ble_eq_true rfl) (Nat.le_of_ble_eq_true rfl) (fs_one (⟨_, rfl, kw K hw qs140⟩))) fs_con_mono o6) ?_
  refine fs_c1 (fs_inv_virtual (pc := 114) (n := 205623396) C (Nat.le_of_ble_eq_true rfl) (Nat.le_of_ble_eq_true rfl) (fs_lk_virtual (idx := 136) (y := ⟨"BoardMachineModel$Tree", "done", "()V"⟩) (bytes := prog_119_method_7_code) (maxL := 1) (rt := (Option.none : Option Jvm.ClassFile.FieldType)) (d := 2) C (Nat.le_of_ble_eq_true rfl) (Nat.le_of_ble_eq_true rfl) (by decide +kernel) (kw K hw q4830) (kw K hw q415) (kw K hw q4829) (Or.inl (kw K hw q4827)) ⟨by decide, by decide⟩ rfl (Nat.le_of_ble_eq_true rfl) (Nat.le_of_ble_eq_true rfl) (fs_one (⟨_, rfl, kw K hw qs137⟩))) fs_con_mono o3) ?_
  refine fs_c1 (fs_ldcs (pc := 118) (idx := 228) (n := 135) (tx := "soc") C (by decide +kernel) (by decide) (kS K es_100_228)) ?_
  refine fs_c1 (fs_inv_virtual (pc := 120) (n := 8491108) C (Nat.le_of_ble_eq_true rfl) (Nat.le_of_ble_eq_true rfl) (fs_lk_virtual (idx := 98) (y := ⟨"BoardMachineModel$Tree", "node", "(Ljava/lang/String;)V"⟩) (bytes := prog_119_method_6_code) (maxL := 2) (rt := (Option.none : Option Jvm.ClassFile.FieldType)) (d := 6) C (Nat.le_of_ble_eq_true rfl) (Nat.le_of_ble_eq_true rfl) (by decide +kernel) (kw K hw q4774) (kw K hw q415) (kw K hw q4773) (Or.inl (kw K hw q4771)) ⟨by decide, by decide⟩ rfl (Nat.le_of_ble_eq_true rfl) (Nat.le_of_ble_eq_true rfl) (fs_one (⟨_, rfl, kw K hw qs126⟩))) fs_con_mono o0) ?_
  refine fs_c1 (fs_inv_virtual (pc := 126) (n := 79794276) C (Nat.le_of_ble_eq_true rfl) (Nat.le_of_ble_eq_true rfl) (fs_lk_virtual (idx := 197) (y := ⟨"BoardMachineModel$Tree", "cells", "(II)V"⟩) (bytes := prog_119_method_17_code) (maxL := 3) (rt := (Option.none : Option Jvm.ClassFile.FieldType)) (d := 9) C (Nat.le_of_ble_eq_true rfl) (Nat.le_of_ble_eq_true rfl) (by decide +kernel) (kw K hw q4792) (kw K hw q415) (kw K hw q4791) (Or.inl (kw K hw q4789)) ⟨by decide, by decide⟩ rfl (Nat.le_of_ble_eq_true rfl) (Nat.le_of_ble_eq_true rfl) (fs_one (⟨_, rfl, kw K hw qs130⟩))) fs_con_mono o1) ?_
  refine fs_c1 (fs_ldcs (pc := 130) (idx := 113) (n := 109) (tx := "compatible") C (by decide +kernel) (by decide) (kS K es_100_113)) ?_
  refine fs_c1 (fs_ldcs (pc := 132) (idx := 230) (n := 134) (tx := "simple-bus") C (by decide +kernel) (by decide) (kS K es_100_230)) ?_
  refine fs_c1 (fs_inv_virtual (pc := 134) (n := 146903140) C (Nat.le_of_ble_eq_true rfl) (Nat.le_of_ble_eq_true rfl) (fs_lk_virtual (idx := 105) (y := ⟨"BoardMachineModel$Tree", "text", "(Ljava/lang/String;Ljava/lang/String;)V"⟩) (bytes := prog_119_method_13_code) (maxL := 3) (rt := (Option.none : Option Jvm.ClassFile.FieldType)) (d := 8) C (Nat.le_of_ble_eq_true rfl) (Nat.le_of_ble_eq_true rfl) (by decide +kernel) (kw K hw q4821) (kw K hw q415) (kw K hw q4820) (Or.inl (kw K hw q4818)) ⟨by decide, by decide⟩ rfl (Nat.le_of_ble_eq_true rfl) (Nat.le_of_ble_eq_true rfl) (fs_one (⟨_, rfl, kw K hw qs136⟩))) fs_con_mono o2) ?_
  refine fs_c1 (fs_ldcs (pc := 138) (idx := 232) (n := 131) (tx := "ranges") C (by decide +kernel) (by decide) (kS K es_100_232)) ?_
  refine fs_c1 (fs_inv_virtual (pc := 140) (n := 478253156) C (Nat.le_of_ble_eq_true rfl) (Nat.le_of_ble_eq_true rfl) (fs_lk_virtual (idx := 129) (y := ⟨"BoardMachineModel$Tree", "nothing", "(Ljava/lang/String;)V"⟩) (bytes := prog_119_method_14_code) (maxL := 2) (rt := (Option.none : Option Jvm.ClassFile.FieldType)) (d := 8) C (Nat.le_of_ble_eq_true rfl) (Nat.le_of_ble_eq_true rfl) (by decide +kernel) (kw K hw q4858) (kw K hw q415) (kw K hw q4857) (Or.inl (kw K hw q4855)) ⟨by decide, by decide⟩ rfl (Nat.le_of_ble_eq_true rfl) (Nat.le_of_ble_eq_true rfl) (fs_one (⟨_, rfl, kw K hw qs139⟩))) fs_con_mono o7) ?_
  refine fs_c1 (fs_inv_virtual (pc := 145) (n := 545362020) C (Nat.le_of_ble_eq_true rfl) (Nat.le_of_ble_eq_true rfl) (fs_lk_virtual (idx := 234) (y := ⟨"BoardMachineModel$Tree", "devices", "(I)V"⟩) (bytes := prog_119_method_19_code) (maxL := 3) (rt := (Option.none : Option Jvm.ClassFile.FieldType)) (d := 9) C (Nat.le_of_ble_eq_true rfl) (Nat.le_of_ble_eq_true rfl) (by decide +kernel) (kw K hw q4879) (kw K hw q415) (kw K hw q4878) (Or.inl (kw K hw q4876)) ⟨by decide, by decide⟩ rfl (Nat.le_of_ble_eq_true rfl) (Nat.le_of_ble_eq_true rfl) (fs_one (⟨_, rfl, kw K hw qs142⟩))) fs_con_mono o8) ?_
  refine fs_c1 (fs_inv_virtual (pc := 149) (n := 205623396) C (Nat.le_of_ble_eq_true rfl) (Nat.le_of_ble_eq_true rfl) (fs_lk_virtual (idx := 136) (y := ⟨"BoardMachineModel$Tree", "done", "()V"⟩) (bytes := prog_119_method_7_code) (maxL := 1) (rt := (Option.none : Option Jvm.ClassFile.FieldType)) (d := 2) C (Nat.le_of_ble_eq_true rfl) (Nat.le_of_ble_eq_true rfl) (by decide +kernel) (kw K hw q4830) (kw K hw q415) (kw K hw q4829) (Or.inl (kw K hw q4827)) ⟨by decide, by decide⟩ rfl (Nat.le_of_ble_eq_true rfl) (Nat.le_of_ble_eq_true rfl) (fs_one (⟨_, rfl, kw K hw qs137⟩))) fs_con_mono o3) ?_
  refine fs_c1 (fs_inv_virtual (pc := 153) (n := 205623396) C (Nat.le_of_ble_eq_true rfl) (Nat.le_of_ble_eq_true rfl) (fs_lk_virtual (idx := 136) (y := ⟨"BoardMachineModel$Tree", "done", "()V"⟩) (bytes := prog_119_method_7_code) (maxL := 1) (rt := (Option.none : Option Jvm.ClassFile.FieldType)) (d := 2) C (Nat.le_of_ble_eq_true rfl) (Nat.le_of_ble_eq_true rfl) (by decide +kernel) (kw K hw q4830) (kw K hw q415) (kw K hw q4829) (Or.inl (kw K hw q4827)) ⟨by decide, by decide⟩ rfl (Nat.le_of_ble_eq_true rfl) (Nat.le_of_ble_eq_true rfl) (fs_one (⟨_, rfl, kw K hw qs137⟩))) fs_con_mono o3) ?_
  refine fs_c1 (fs_ldcl (pc := 157) (idx := 237) (v := 9) C (by decide +kernel) (kw K hw q4908)) ?_
  refine fs_c1 (fs_inv_virtual (pc := 160) (n := 612470884) C (Nat.le_of_ble_eq_true rfl) (Nat.le_of_ble_eq_true rfl) (fs_lk_virtual (idx := 30) (y := ⟨"BoardMachineModel$Tree", "four", "(J)V"⟩) (bytes := prog_119_method_2_code) (maxL := 4) (rt := (Option.none : Option Jvm.ClassFile.FieldType)) (d := 1) C (Nat.le_of_ble_eq_true rfl) (Nat.le_of_ble_eq_true rfl) (by decide +kernel) (kw K hw q4778) (kw K hw q415) (kw K hw q4777) (Or.inl (kw K hw q4775)) ⟨by decide, by decide⟩ rfl (Nat.le_of_ble_eq_true rfl) (Nat.le_of_ble_eq_true rfl) (fs_one (⟨_, rfl, kw K hw qs127⟩))) fs_con_mono o9) ?_
  exact fs_c0
theorem hX97_head (n : Nat) : fe_H (sX97_head) cX97_head [0, 2] fe_kv [2] 31 (fun j => dX97_head (FX97_head_0 n (FX97_head_L2 n j)) (FX97_head_L2 n j)) := by
  intro j pc L st M r hc h
  rcases fe_mem_c hc with rfl | hc
  · obtain ⟨w0, m0, h⟩ := fe_lR_d h
    obtain ⟨w1, m1, h⟩ := fe_lL_d h
    obtain ⟨rfl, hz⟩ := fe_t0_d h
    exact ⟨[(0, .ref w0), (1, .long w1)], (fe_cs m0 (fe_cs m1 fe_nl)), Or.inr ((bX97_head_0 (FX97_head_0 n (FX97_head_L2 n j)) (FX97_head_L2 n j) w0 w1 M).symm.trans hz)⟩
  rcases fe_mem_c hc with rfl | hc
  · obtain ⟨w0, m0, h⟩ := fe_lR_d h
    obtain ⟨w1, m1, h⟩ := fe_lL_d h
    obtain ⟨w3, m3, h⟩ := fe_lI_d h
    obtain ⟨rfl, hz⟩ := fe_t0_d h
    cases j with
    | zero => exact fe_no hz
    | succ j => exact ⟨[(0, .ref w0), (1, .long w1), (3, .int w3)], (fe_cs m0 (fe_cs m1 (fe_cs m3 fe_nl))), Or.inl ⟨j, rfl, (bX97_head_2 (FX97_head_0 n (FX97_head_L2 n j)) (FX97_head_L2 n j) w0 w1 w3 M).symm.trans hz⟩⟩
  exact fe_mem_0 hc
theorem vX97_head (n : Nat) : fe_SB (sX97_head) := by
  refine ⟨?_, ?_, ?_, ?_⟩
  · intro i As M r h
    exact fe_no h
  · intro i As M r h
    exact fe_no h
  · intro i As M r h
    exact fe_no h
  · intro i As M r h
    exact fe_no h
theorem eX97_head (g0 : Nat → Int64 → FM → Option (FM)) (k2 : Nat → Int64 → Int32 → FM → Option (FM)) (a0 : Nat) (a1 : Int64) (M : FM) : dX97_head g0 k2 0 [(0, .ref a0), (1, .long a1)] [] M = g0 a0 a1 M := by rfl
theorem mX97_head (n : Nat) (a0 : Nat) (a1 : Int64) (M : FM) (r : FM) (h : FX97_head n a0 a1 M = some r) : fm_nx M ≤ fm_nx r ∧ fm_ns M ≤ fm_ns r :=
  fe_mono (L0 := [(0, .ref a0), (1, .long a1)]) (vX97_head n) (by decide +kernel) (hX97_head n) (fe_kv_k r) n rfl ((eX97_head (FX97_head_0 n (FX97_head_L2 n n)) (FX97_head_L2 n n) a0 a1 M).trans h)
theorem zX97_head {s0 : State} {H0 : Heap} {oa : Nat → Nat} {D : va_G} (K : fk s0 H0 oa D) (l : Launch) (n : Nat) (a0 : Nat) (a1 : Int64) (M : FM) (r : FM) (h : FX97_head n a0 a1 M = some r) : fs_Con (fk_E s0 H0 oa D) l 1 ⟨"BoardMachineModel$Tree", "head", "(J)V"⟩ prog_119_method_21_code 4 (Option.none : Option Jvm.ClassFile.FieldType) [.ref a0, .long a1] M none r := by
  refine fs_method (own := "BoardMachineModel$Tree") rfl (by decide) K.2.1 (by rw [fe_slen]; exact (Nat.le_of_ble_eq_true rfl)) (mX97_head n a0 a1 M r h) (hX97_head n) n rfl (L0 := [(0, .ref a0), (1, .long a1)]) (fun E => fe_args_e E [.ref a0, .long a1] 0) ((eX97_head (FX97_head_0 n (FX97_head_L2 n n)) (FX97_head_L2 n n) a0 a1 M).trans h) (fe_kv_k r) (fun H hR => fs_nr_o (by decide) (by decide)) ?_
  intro p e s m args below meth c Q C hnm
  have hw : s0.WarmedH s.vm := C.2.2.2.2.1
  refine fe_all C fk_hwr cX97_head [7, 11, 28, 33] (by decide +kernel) (fe_fil (cps := [(7, 10, .getfield 1741046162), (11, 14, .getfield 1745240464), (28, 31, .getfield 1745240464), (33, 36, .putfield 1745240464)]) (by decide +kernel) ?_)
  refine fs_c1 (fs_getf (pc := 7) (n := 1741046162) (idx := 7) (ref := "BoardMachineModel$Tree") (O := "BoardMachineModel$Tree") (name := "all") (desc := "[I") C (by decide +kernel) (Or.inl (kw K hw q4922)) (fun _ h => h) (Nat.le_of_ble_eq_true rfl) (Nat.le_of_ble_eq_true rfl) (fs_one (⟨_, ff_100_415 s0 H0 oa D⟩))) ?_
  refine fs_c1 (fs_getf (pc := 11) (n := 1745240464) (idx := 239) (ref := "BoardMachineModel$Tree") (O := "BoardMachineModel$Tree") (name := "total") (desc := "I") C (by decide +kernel) (Or.inl (kw K hw q4925)) (fun _ h => h) (Nat.le_of_ble_eq_true rfl) (Nat.le_of_ble_eq_true rfl) (fs_one (⟨_, ff_100_416 s0 H0 oa D⟩))) ?_
  refine fs_c1 (fs_getf (pc := 28) (n := 1745240464) (idx := 239) (ref := "BoardMachineModel$Tree") (O := "BoardMachineModel$Tree") (name := "total") (desc := "I") C (by decide +kernel) (Or.inl (kw K hw q4925)) (fun _ h => h) (Nat.le_of_ble_eq_true rfl) (Nat.le_of_ble_eq_true rfl) (fs_one (⟨_, ff_100_416 s0 H0 oa D⟩))) ?_
  refine fs_c1 (fs_putf (pc := 33) (n := 1745240464) (idx := 239) (ref := "BoardMachineModel$Tree") (O := "BoardMachineModel$Tree") (name := "total") (desc := "I") (fin := false) (ty := .int) C (by decide +kernel) (Or.inl ⟨rfl, Or.inl (kw K hw q4925)⟩) (fun _ h => h) (Nat.le_of_ble_eq_true rfl) (Nat.le_of_ble_eq_true rfl) (Nat.le_of_ble_eq_true rfl) rfl rfl (by decide) (fs_one (⟨rfl, ff_100_416 s0 H0 oa D⟩))) ?_
  exact fs_c0
