/-! contracts of methods, printed by gen/snd.py -/
set_option maxRecDepth 100000
set_option maxHeartbeats 4000000
theorem hX4_wide (n : Nat) : fe_H (sX4_wide (FX3_addNumber n)) cX4_wide [0] fe_kv [] 20 (fun _ => dX4_wide (FX4_wide_0 n)) := by
  intro j pc L st M r hc h
  rcases fe_mem_c hc with rfl | hc
  · obtain ⟨w0, m0, h⟩ := fe_lR_d h
    obtain ⟨w1, m1, h⟩ := fe_lL_d h
    obtain ⟨rfl, hz⟩ := fe_t0_d h
    exact ⟨[(0, .ref w0), (1, .long w1)], (fe_cs m0 (fe_cs m1 fe_nl)), Or.inr ((bX4_wide_0 (FX3_addNumber n) (FX4_wide_0 n ) w0 w1 M).symm.trans hz)⟩
  exact fe_mem_0 hc
theorem vX4_wide (n : Nat) : fe_SB (sX4_wide (FX3_addNumber n)) := by
  refine ⟨?_, ?_, ?_, ?_⟩
  · intro i As M r h
    rcases fe_bc h with h | h
    · obtain ⟨v0, t0, rfl, g0⟩ := fe_tR_d h
      obtain ⟨v1, t1, rfl, g1⟩ := fe_tI_d g0
      obtain ⟨rfl, hz⟩ := fe_t0_d g1
      exact mX3_addNumber n v0 v1 M r hz
    exact fe_no h
  · intro i As M r h
    exact fe_no h
  · intro i As M r h
    exact fe_no h
  · intro i As M r h
    exact fe_no h
theorem eX4_wide (g0 : Nat → Int64 → FM → Option (FM)) (a0 : Nat) (a1 : Int64) (M : FM) : dX4_wide g0 0 [(0, .ref a0), (1, .long a1)] [] M = g0 a0 a1 M := by rfl
theorem mX4_wide (n : Nat) (a0 : Nat) (a1 : Int64) (M : FM) (r : FM) (h : FX4_wide n a0 a1 M = some r) : fm_nx M ≤ fm_nx r ∧ fm_ns M ≤ fm_ns r :=
  fe_mono (L0 := [(0, .ref a0), (1, .long a1)]) (vX4_wide n) (by decide +kernel) (hX4_wide n) (fe_kv_k r) 0 rfl ((eX4_wide (FX4_wide_0 n ) a0 a1 M).trans h)
theorem zX4_wide {s0 : State} {H0 : Heap} {oa : Nat → Nat} {D : va_G} (K : fk s0 H0 oa D) (l : Launch) (n : Nat) (a0 : Nat) (a1 : Int64) (M : FM) (r : FM) (h : FX4_wide n a0 a1 M = some r) : fs_Con (fk_E s0 H0 oa D) l 3 ⟨"BoardMachine$Describer", "wide", "(J)V"⟩ prog_14_method_10_code 3 (Option.none : Option Jvm.ClassFile.FieldType) [.ref a0, .long a1] M none r := by
  have o0 : fs_OS (sX4_wide (FX3_addNumber n)) 0 0 (fs_Con (fk_E s0 H0 oa D) l 2 ⟨"BoardMachine$Trees$Row", "addNumber", "(I)V"⟩ prog_100_method_4_code 3 (Option.none : Option Jvm.ClassFile.FieldType)) := by
    intro As M r h
    obtain ⟨v0, t0, rfl, g0⟩ := fe_tR_d h
    obtain ⟨v1, t1, rfl, g1⟩ := fe_tI_d g0
    obtain ⟨rfl, hz⟩ := fe_t0_d g1
    exact zX3_addNumber K l n v0 v1 M r hz
  refine fs_method (own := "BoardMachine$Describer") rfl (by decide) K.2.1 (by rw [fe_slen]; exact (Nat.le_of_ble_eq_true rfl)) (mX4_wide n a0 a1 M r h) (hX4_wide n) 0 rfl (L0 := [(0, .ref a0), (1, .long a1)]) (fun E => fe_args_e E [.ref a0, .long a1] 0) ((eX4_wide (FX4_wide_0 n ) a0 a1 M).trans h) (fe_kv_k r) (fun H hR => fs_nr_o (by decide) (by decide)) ?_
  intro p e s m args below meth c Q C hnm
  have hw : s0.WarmedH s.vm := C.2.2.2.2.1
  refine fe_all C fk_hwr cX4_wide [1, 9, 13, 18] (by decide +kernel) (fe_fil (cps := [(1, 4, .getfield 230772822), (9, 12, .invokevirtual 8476758), (13, 16, .getfield 230772822), (18, 21, .invokevirtual 8476758)]) (by decide +kernel) ?_)
  refine fs_c1 (fs_getf (pc := 1) (n := 230772822) (idx := 14) (ref := "BoardMachine$Describer") (O := "BoardMachine$Describer") (name := "piece") (desc := "LBoardMachine$Trees$Row;") C (by decide +kernel) (Or.inl (kw K hw q607)) (fun _ h => h) (Nat.le_of_ble_eq_true rfl) (Nat.le_of_ble_eq_true rfl) (fs_one (⟨_, ff_21_55 s0 H0 oa D⟩))) ?_
  refine fs_c1 (fs_inv_virtual (pc := 9) (n := 8476758) C (Nat.le_of_ble_eq_true rfl) (Nat.le_of_ble_eq_true rfl) (fs_lk_virtual (idx := 84) (y := ⟨"BoardMachine$Trees$Row", "addNumber", "(I)V"⟩) (bytes := prog_100_method_4_code) (maxL := 3) (rt := (Option.none : Option Jvm.ClassFile.FieldType)) (d := 2) C (Nat.le_of_ble_eq_true rfl) (Nat.le_of_ble_eq_true rfl) (by decide +kernel) (kw K hw q2220) (kw K hw q313) (kw K hw q2218) (Or.inl (kw K hw q2217)) ⟨by decide, by decide⟩ rfl (Nat.le_of_ble_eq_true rfl) (Nat.le_of_ble_eq_true rfl) (fs_one (⟨_, rfl, kw K hw q2219⟩))) fs_con_mono o0) ?_
  refine fs_c1 (fs_getf (pc := 13) (n := 230772822) (idx := 14) (ref := "BoardMachine$Describer") (O := "BoardMachine$Describer") (name := "piece") (desc := "LBoardMachine$Trees$Row;") C (by decide +kernel) (Or.inl (kw K hw q607)) (fun _ h => h) (Nat.le_of_ble_eq_true rfl) (Nat.le_of_ble_eq_true rfl) (fs_one (⟨_, ff_21_55 s0 H0 oa D⟩))) ?_
  refine fs_c1 (fs_inv_virtual (pc := 18) (n := 8476758) C (Nat.le_of_ble_eq_true rfl) (Nat.le_of_ble_eq_true rfl) (fs_lk_virtual (idx := 84) (y := ⟨"BoardMachine$Trees$Row", "addNumber", "(I)V"⟩) (bytes := prog_100_method_4_code) (maxL := 3) (rt := (Option.none : Option Jvm.ClassFile.FieldType)) (d := 2) C (Nat.le_of_ble_eq_true rfl) (Nat.le_of_ble_eq_true rfl) (by decide +kernel) (kw K hw q2220) (kw K hw q313) (kw K hw q2218) (Or.inl (kw K hw q2217)) ⟨by decide, by decide⟩ rfl (Nat.le_of_ble_eq_true rfl) (Nat.le_of_ble_eq_true rfl) (fs_one (⟨_, rfl, kw K hw q2219⟩))) fs_con_mono o0) ?_
  exact fs_c0
theorem hX4_window (n : Nat) : fe_H (sX4_window (FX4_begin n) (FX4_wide n) FX4_finish) cX4_window [0] fe_kv [] 20 (fun _ => dX4_window (FX4_window_0 n)) := by
  intro j pc L st M r hc h
  rcases fe_mem_c hc with rfl | hc
  · obtain ⟨w0, m0, h⟩ := fe_lR_d h
    obtain ⟨w1, m1, h⟩ := fe_lL_d h
    obtain ⟨w3, m3, h⟩ := fe_lL_d h
    obtain ⟨rfl, hz⟩ := fe_t0_d h
    exact ⟨[(0, .ref w0), (1, .long w1), (3, .long w3)], (fe_cs m0 (fe_cs m1 (fe_cs m3 fe_nl))), Or.inr ((bX4_window_0 (FX4_begin n) (FX4_wide n) FX4_finish (FX4_window_0 n ) w0 w1 w3 M).symm.trans hz)⟩
  exact fe_mem_0 hc
theorem vX4_window (n : Nat) : fe_SB (sX4_window (FX4_begin n) (FX4_wide n) FX4_finish) := by
  refine ⟨?_, ?_, ?_, ?_⟩
  · intro i As M r h
    rcases fe_bc h with h | h
    · obtain ⟨v0, t0, rfl, g0⟩ := fe_tR_d h
      obtain ⟨v1, t1, rfl, g1⟩ := fe_tR_d g0
      obtain ⟨rfl, hz⟩ := fe_t0_d g1
      exact mX4_begin n v0 v1 M r hz
    rcases fe_bc h with h | h
    · obtain ⟨v0, t0, rfl, g0⟩ := fe_tR_d h
      obtain ⟨v1, t1, rfl, g1⟩ := fe_tL_d g0
      obtain ⟨rfl, hz⟩ := fe_t0_d g1
      exact mX4_wide n v0 v1 M r hz
    rcases fe_bc h with h | h
    · obtain ⟨v0, t0, rfl, g0⟩ := fe_tR_d h
      obtain ⟨v1, t1, rfl, g1⟩ := fe_tR_d g0
      obtain ⟨rfl, hz⟩ := fe_t0_d g1
      exact mX4_finish v0 v1 M r hz
    exact fe_no h
  · intro i As M r h
    exact fe_no h
  · intro i As M r h
    exact fe_no h
  · intro i As M r h
    exact fe_no h
theorem eX4_window (g0 : Nat → Int64 → Int64 → FM → Option (FM)) (a0 : Nat) (a1 : Int64) (a3 : Int64) (M : FM) : dX4_window g0 0 [(0, .ref a0), (1, .long a1), (3, .long a3)] [] M = g0 a0 a1 a3 M := by rfl
theorem mX4_window (n : Nat) (a0 : Nat) (a1 : Int64) (a3 : Int64) (M : FM) (r : FM) (h : FX4_window n a0 a1 a3 M = some r) : fm_nx M ≤ fm_nx r ∧ fm_ns M ≤ fm_ns r :=
  fe_mono (L0 := [(0, .ref a0), (1, .long a1), (3, .long a3)]) (vX4_window n) (by decide +kernel) (hX4_window n) (fe_kv_k r) 0 rfl ((eX4_window (FX4_window_0 n ) a0 a1 a3 M).trans h)
theorem zX4_window {s0 : State} {H0 : Heap} {oa : Nat → Nat} {D : va_G} (K : fk s0 H0 oa D) (l : Launch) (n : Nat) (a0 : Nat) (a1 : Int64) (a3 : Int64) (M : FM) (r : FM) (h : FX4_window n a0 a1 a3 M = some r) : fs_Con (fk_E s0 H0 oa D) l 7 ⟨"BoardMachine$Describer", "window", "(JJ)V"⟩ prog_14_method_11_code 5 (Option.none : Option Jvm.ClassFile.FieldType) [.ref a0, .long a1, .long a3] M none r := by
  have o0 : fs_OS (sX4_window (FX4_begin n) (FX4_wide n) FX4_finish) 0 0 (fs_Con (fk_E s0 H0 oa D) l 6 ⟨"BoardMachine$Describer", "begin", "(Ljava/lang/String;)V"⟩ prog_14_method_5_code 2 (Option.none : Option Jvm.ClassFile.FieldType)) := by
    intro As M r h
    obtain ⟨v0, t0, rfl, g0⟩ := fe_tR_d h
    obtain ⟨v1, t1, rfl, g1⟩ := fe_tR_d g0
    obtain ⟨rfl, hz⟩ := fe_t0_d g1
    exact zX4_begin K l n v0 v1 M r hz
  have o1 : fs_OS (sX4_window (FX4_begin n) (FX4_wide n) FX4_finish) 1 0 (fs_Con (fk_E s0 H0 oa D) l 3 ⟨"BoardMachine$Describer", "wide", "(J)V"⟩ prog_14_method_10_code 3 (Option.none : Option Jvm.ClassFile.FieldType)) := by
    intro As M r h
    obtain ⟨v0, t0, rfl, g0⟩ := fe_tR_d h
    obtain ⟨v1, t1, rfl, g1⟩ := fe_tL_d g0
    obtain ⟨rfl, hz⟩ := fe_t0_d g1
    exact zX4_wide K l n v0 v1 M r hz
  have o2 : fs_OS (sX4_window (FX4_begin n) (FX4_wide n) FX4_finish) 2 0 (fs_Con (fk_E s0 H0 oa D) l 5 ⟨"BoardMachine$Describer", "finish", "(Ljava/lang/String;)V"⟩ prog_14_method_6_code 4 (Option.none : Option Jvm.ClassFile.FieldType)) := by
    intro As M r h
    obtain ⟨v0, t0, rfl, g0⟩ := fe_tR_d h
    obtain ⟨v1, t1, rfl, g1⟩ := fe_tR_d g0
    obtain ⟨rfl, hz⟩ := fe_t0_d g1
    exact zX4_finish K l v0 v1 M r hz
  refine fs_method (own := "BoardMachine$Describer") rfl (by decide) K.2.1 (by rw [fe_slen]; exact (Nat.le_of_ble_eq_true rfl)) (mX4_window n a0 a1 a3 M r h) (hX4_window n) 0 rfl (L0 := [(0, .ref a0), (1, .long a1), (3, .long a3)]) (fun E => fe_args_e E [.ref a0, .long a1, .long a3] 0) ((eX4_window (FX4_window_0 n ) a0 a1 a3 M).trans h) (fe_kv_k r) (fun H hR => fs_nr_o (by decide) (by decide)) ?_
  intro p e s m args below meth c Q C hnm
  have hw : s0.WarmedH s.vm := C.2.2.2.2.1
  refine fe_all C fk_hwr cX4_window [1, 3, 8, 13, 17, 19] (by decide +kernel) (fe_fil (cps := [(1, 3, .ldc 132), (3, 6, .invokevirtual 8410133), (8, 11, .invokevirtual 75518997), (13, 16, .invokevirtual 75518997), (17, 19, .ldc 132), (19, 22, .invokevirtual 142627861)]) (by decide +kernel) ?_)
  refine fs_c1 (fs_ldcs (pc := 1) (idx := 87) (n := 132) (tx := "reg") C (by decide +kernel) (by decide) (kS K es_21_87)) ?_
  refine fs_c1 (fs_inv_virtual (pc := 3) (n := 8410133) C (Nat.le_of_ble_eq_true rfl) (Nat.le_of_ble_eq_true rfl) (fs_lk_virtual (idx := 78) (y := ⟨"BoardMachine$Describer", "begin", "(Ljava/lang/String;)V"⟩) (bytes := prog_14_method_5_code) (maxL := 2) (rt := (Option.none : Option Jvm.ClassFile.FieldType)) (d := 6) C (Nat.le_of_ble_eq_true rfl) (Nat.le_of_ble_eq_true rfl) (by decide +kernel) (kw K hw q2160) (kw K hw q314) (kw K hw q2159) (Or.inl (kw K hw q2157)) ⟨by decide, by decide⟩ rfl (Nat.le_of_ble_eq_true rfl) (Nat.le_of_ble_eq_true rfl) (fs_one (⟨_, rfl, kw K hw qs6⟩))) fs_con_mono o0) ?_
  refine fs_c1 (fs_inv_virtual (pc := 8) (n := 75518997) C (Nat.le_of_ble_eq_true rfl) (Nat.le_of_ble_eq_true rfl) (fs_lk_virtual (idx := 89) (y := ⟨"BoardMachine$Describer", "wide", "(J)V"⟩) (bytes := prog_14_method_10_code) (maxL := 3) (rt := (Option.none : Option Jvm.ClassFile.FieldType)) (d := 3) C (Nat.le_of_ble_eq_true rfl) (Nat.le_of_ble_eq_true rfl) (by decide +kernel) (kw K hw q2307) (kw K hw q314) (kw K hw q2306) (Or.inl (kw K hw q2304)) ⟨by decide, by decide⟩ rfl (Nat.le_of_ble_eq_true rfl) (Nat.le_of_ble_eq_true rfl) (fs_one (⟨_, rfl, kw K hw qs15⟩))) fs_con_mono o1) ?_
  refine fs_c1 (fs_inv_virtual (pc := 13) (n := 75518997) C (Nat.le_of_ble_eq_true rfl) (Nat.le_of_ble_eq_true rfl) (fs_lk_virtual (idx := 89) (y := ⟨"BoardMachine$Describer", "wide", "(J)V"⟩) (bytes := prog_14_method_10_code) (maxL := 3) (rt := (Option.none : Option Jvm.ClassFile.FieldType)) (d := 3) C (Nat.le_of_ble_eq_true rfl) (Nat.le_of_ble_eq_true rfl) (by decide +kernel) (kw K hw q2307) (kw K hw q314) (kw K hw q2306) (Or.inl (kw K hw q2304)) ⟨by decide, by decide⟩ rfl (Nat.le_of_ble_eq_true rfl) (Nat.le_of_ble_eq_true rfl) (fs_one (⟨_, rfl, kw K hw qs15⟩))) fs_con_mono o1) ?_
  refine fs_c1 (fs_ldcs (pc := 17) (idx := 87) (n := 132) (tx := "reg") C (by decide +kernel) (by decide) (kS K es_21_87)) ?_
  refine fs_c1 (fs_inv_virtual (pc := 19) (n := 142627861) C (Nat.le_of_ble_eq_true rfl) (Nat.le_of_ble_eq_true rfl) (fs_lk_virtual (idx := 81) (y := ⟨"BoardMachine$Describer", "finish", "(Ljava/lang/String;)V"⟩) (bytes := prog_14_method_6_code) (maxL := 4) (rt := (Option.none : Option Jvm.ClassFile.FieldType)) (d := 5) C (Nat.le_of_ble_eq_true rfl) (Nat.le_of_ble_eq_true rfl) (by decide +kernel) (kw K hw q2225) (kw K hw q314) (kw K hw q2224) (Or.inl (kw K hw q2222)) ⟨by decide, by decide⟩ rfl (Nat.le_of_ble_eq_true rfl) (Nat.le_of_ble_eq_true rfl) (fs_one (⟨_, rfl, kw K hw qs8⟩))) fs_con_mono o2) ?_
  exact fs_c0
theorem hX4_device (n : Nat) : fe_H (sX4_device (FX4_open n) (FX4_string n) (FX4_window n) FX5_close (FX4_number n)) cX4_device [0, 47] fe_kv [] 35 (fun _ => dX4_device (FX4_device_0 n) (FX4_device_47 n)) := by
  intro j pc L st M r hc h
  rcases fe_mem_c hc with rfl | hc
  · obtain ⟨w0, m0, h⟩ := fe_lR_d h
    obtain ⟨w1, m1, h⟩ := fe_lR_d h
    obtain ⟨w2, m2, h⟩ := fe_lR_d h
    obtain ⟨w3, m3, h⟩ := fe_lR_d h
    obtain ⟨w4, m4, h⟩ := fe_lI_d h
    obtain ⟨w5, m5, h⟩ := fe_lI_d h
    obtain ⟨rfl, hz⟩ := fe_t0_d h
    exact ⟨[(0, .ref w0), (1, .ref w1), (2, .ref w2), (3, .ref w3), (4, .int w4), (5, .int w5)], (fe_cs m0 (fe_cs m1 (fe_cs m2 (fe_cs m3 (fe_cs m4 (fe_cs m5 fe_nl)))))), Or.inr ((bX4_device_0 (FX4_open n) (FX4_string n) (FX4_window n) FX5_close (FX4_number n) (FX4_device_0 n ) (FX4_device_47 n ) w0 w1 w2 w3 w4 w5 M).symm.trans hz)⟩
  rcases fe_mem_c hc with rfl | hc
  · obtain ⟨w0, m0, h⟩ := fe_lR_d h
    obtain ⟨rfl, hz⟩ := fe_t0_d h
    exact ⟨[(0, .ref w0)], (fe_cs m0 fe_nl), Or.inr ((bX4_device_47 (FX4_open n) (FX4_string n) (FX4_window n) FX5_close (FX4_number n) (FX4_device_0 n ) (FX4_device_47 n ) w0 M).symm.trans hz)⟩
  exact fe_mem_0 hc
theorem vX4_device (n : Nat) : fe_SB (sX4_device (FX4_open n) (FX4_string n) (FX4_window n) FX5_close (FX4_number n)) := by
  refine ⟨?_, ?_, ?_, ?_⟩
  · intro i As M r h
    rcases fe_bc h with h | h
    · obtain ⟨v0, t0, rfl, g0⟩ := fe_tR_d h
      obtain ⟨v1, t1, rfl, g1⟩ := fe_tR_d g0
      obtain ⟨rfl, hz⟩ := fe_t0_d g1
      exact mX4_open n v0 v1 M r hz
    rcases fe_bc h with h | h
    · obtain ⟨v0, t0, rfl, g0⟩ := fe_tR_d h
      obtain ⟨v1, t1, rfl, g1⟩ := fe_tR_d g0
      obtain ⟨v2, t2, rfl, g2⟩ := fe_tR_d g1
      obtain ⟨rfl, hz⟩ := fe_t0_d g2
      exact mX4_string n v0 v1 v2 M r hz
    rcases fe_bc h with h | h
    · obtain ⟨v0, t0, rfl, g0⟩ := fe_tR_d h
      obtain ⟨v1, t1, rfl, g1⟩ := fe_tL_d g0
      obtain ⟨v2, t2, rfl, g2⟩ := fe_tL_d g1
      obtain ⟨rfl, hz⟩ := fe_t0_d g2
      exact mX4_window n v0 v1 v2 M r hz
    rcases fe_bc h with h | h
    · obtain ⟨v0, t0, rfl, g0⟩ := fe_tR_d h
      obtain ⟨v1, t1, rfl, g1⟩ := fe_tR_d g0
      obtain ⟨v2, t2, rfl, g2⟩ := fe_tI_d g1
      obtain ⟨rfl, hz⟩ := fe_t0_d g2
      exact mX4_number n v0 v1 v2 M r hz
    exact fe_no h
  · intro i As M r h
    rcases fe_bc h with h | h
    · obtain ⟨v0, t0, rfl, g0⟩ := fe_tR_d h
      obtain ⟨rfl, hz⟩ := fe_t0_d g0
      exact mX5_close v0 M r hz
    exact fe_no h
  · intro i As M r h
    exact fe_no h
  · intro i As M r h
    exact fe_no h
theorem eX4_device (g0 : Nat → Nat → Nat → Nat → Int32 → Int32 → FM → Option (FM)) (g47 : Nat → FM → Option (FM)) (a0 : Nat) (a1 : Nat) (a2 : Nat) (a3 : Nat) (a4 : Int32) (a5 : Int32) (M : FM) : dX4_device g0 g47 0 [(0, .ref a0), (1, .ref a1), (2, .ref a2), (3, .ref a3), (4, .int a4), (5, .int a5)] [] M = g0 a0 a1 a2 a3 a4 a5 M := by rfl
theorem mX4_device (n : Nat) (a0 : Nat) (a1 : Nat) (a2 : Nat) (a3 : Nat) (a4 : Int32) (a5 : Int32) (M : FM) (r : FM) (h : FX4_device n a0 a1 a2 a3 a4 a5 M = some r) : fm_nx M ≤ fm_nx r ∧ fm_ns M ≤ fm_ns r :=
  fe_mono (L0 := [(0, .ref a0), (1, .ref a1), (2, .ref a2), (3, .ref a3), (4, .int a4), (5, .int a5)]) (vX4_device n) (by decide +kernel) (hX4_device n) (fe_kv_k r) 0 rfl ((eX4_device (FX4_device_0 n ) (FX4_device_47 n ) a0 a1 a2 a3 a4 a5 M).trans h)
theorem zX4_device {s0 : State} {H0 : Heap} {oa : Nat → Nat} {D : va_G} (K : fk s0 H0 oa D) (l : Launch) (n : Nat) (a0 : Nat) (a1 : Nat) (a2 : Nat) (a3 : Nat) (a4 : Int32) (a5 : Int32) (M : FM) (r : FM) (h : FX4_device n a0 a1 a2 a3 a4 a5 M = some r) : fs_Con (fk_E s0 H0 oa D) l 8 ⟨"BoardMachine$Describer", "device", "(Ljava/lang/String;Ljava/lang/String;LBoardMachine$Window;II)V"⟩ prog_14_method_15_code 6 (Option.none : Option Jvm.ClassFile.FieldType) [.ref a0, .ref a1, .ref a2, .ref a3, .int a4, .int a5] M none r := by
  have o0 : fs_OS (sX4_device (FX4_open n) (FX4_string n) (FX4_window n) FX5_close (FX4_number n)) 0 0 (fs_Con (fk_E s0 H0 oa D) l 6 ⟨"BoardMachine$Describer", "open", "(Ljava/lang/String;)V"⟩ prog_14_method_3_code 2 (Option.none : Option Jvm.ClassFile.FieldType)) := by
    intro As M r h
    obtain ⟨v0, t0, rfl, g0⟩ := fe_tR_d h
    obtain ⟨v1, t1, rfl, g1⟩ := fe_tR_d g0
    obtain ⟨rfl, hz⟩ := fe_t0_d g1
    exact zX4_open K l n v0 v1 M r hz
  have o1 : fs_OS (sX4_device (FX4_open n) (FX4_string n) (FX4_window n) FX5_close (FX4_number n)) 1 0 (fs_Con (fk_E s0 H0 oa D) l 7 ⟨"BoardMachine$Describer", "string", "(Ljava/lang/String;Ljava/lang/String;)V"⟩ prog_14_method_7_code 3 (Option.none : Option Jvm.ClassFile.FieldType)) := by
    intro As M r h
    obtain ⟨v0, t0, rfl, g0⟩ := fe_tR_d h
    obtain ⟨v1, t1, rfl, g1⟩ := fe_tR_d g0
    obtain ⟨v2, t2, rfl, g2⟩ := fe_tR_d g1
    obtain ⟨rfl, hz⟩ := fe_t0_d g2
    exact zX4_string K l n v0 v1 v2 M r hz
  have o2 : fs_OS (sX4_device (FX4_open n) (FX4_string n) (FX4_window n) FX5_close (FX4_number n)) 2 0 (fs_Con (fk_E s0 H0 oa D) l 7 ⟨"BoardMachine$Describer", "window", "(JJ)V"⟩ prog_14_method_11_code 5 (Option.none : Option Jvm.ClassFile.FieldType)) := by
    intro As M r h
    obtain ⟨v0, t0, rfl, g0⟩ := fe_tR_d h
    obtain ⟨v1, t1, rfl, g1⟩ := fe_tL_d g0
    obtain ⟨v2, t2, rfl, g2⟩ := fe_tL_d g1
    obtain ⟨rfl, hz⟩ := fe_t0_d g2
    exact zX4_window K l n v0 v1 v2 M r hz
  have o3 : fs_OS (sX4_device (FX4_open n) (FX4_string n) (FX4_window n) FX5_close (FX4_number n)) 3 1 (fs_Con (fk_E s0 H0 oa D) l 1 ⟨"BoardMachine$Trees$Tree", "close", "()I"⟩ prog_101_method_9_code 1 (Option.some Jvm.ClassFile.FieldType.int)) := by
    intro As M r h
    obtain ⟨v0, t0, rfl, g0⟩ := fe_tR_d h
    obtain ⟨rfl, hz⟩ := fe_t0_d g0
    exact zX5_close K l v0 M r hz
  have o4 : fs_OS (sX4_device (FX4_open n) (FX4_string n) (FX4_window n) FX5_close (FX4_number n)) 4 0 (fs_Con (fk_E s0 H0 oa D) l 7 ⟨"BoardMachine$Describer", "number", "(Ljava/lang/String;I)V"⟩ prog_14_method_8_code 3 (Option.none : Option Jvm.ClassFile.FieldType)) := by
    intro As M r h
    obtain ⟨v0, t0, rfl, g0⟩ := fe_tR_d h
    obtain ⟨v1, t1, rfl, g1⟩ := fe_tR_d g0
    obtain ⟨v2, t2, rfl, g2⟩ := fe_tI_d g1
    obtain ⟨rfl, hz⟩ := fe_t0_d g2
    exact zX4_number K l n v0 v1 v2 M r hz
  refine fs_method (own := "BoardMachine$Describer") rfl (by decide) K.2.1 (by rw [fe_slen]; exact (Nat.le_of_ble_eq_true rfl)) (mX4_device n a0 a1 a2 a3 a4 a5 M r h) (hX4_device n) 0 rfl (L0 := [(0, .ref a0), (1, .ref a1), (2, .ref a2), (3, .ref a3), (4, .int a4), (5, .int a5)]) (fun E => fe_args_e E [.ref a0, .ref a1, .ref a2, .ref a3, .int a4, .int a5] 0) ((eX4_device (FX4_device_0 n ) (FX4_device_47 n ) a0 a1 a2 a3 a4 a5 M).trans h) (fe_kv_k r) (fun H hR => fs_nr_o (by decide) (by decide)) ?_
  intro p e s m args below meth c Q C hnm
  have hw : s0.WarmedH s.vm := C.2.2.2.2.1
  refine fe_all C fk_hwr cX4_device [2, 6, 9, 14, 18, 21, 30, 34, 38, 44, 48, 51] (by decide +kernel) (fe_fil (cps := [(2, 5, .invokevirtual 8410133), (6, 8, .ldc 109), (9, 12, .invokevirtual 79713301), (14, 17, .getfield 54550553), (18, 21, .getfield 58744857), (21, 24, .invokevirtual 146822165), (30, 32, .ldc 122), (34, 37, .invokevirtual 281039893), (38, 40, .ldc 121), (44, 47, .invokevirtual 281039893), (48, 51, .getfield 234967126), (51, 54, .invokevirtual 206658647)]) (by decide +kernel) ?_)
  refine fs_c1 (fs_inv_virtual (pc := 2) (n := 8410133) C (Nat.le_of_ble_eq_true rfl) (Nat.le_of_ble_eq_true rfl) (fs_lk_virtual (idx := 132) (y := ⟨"BoardMachine$Describer", "open", "(Ljava/lang/String;)V"⟩) (bytes := prog_14_method_3_code) (maxL := 2) (rt := (Option.none : Option Jvm.ClassFile.FieldType)) (d := 6) C (Nat.le_of_ble_eq_true rfl) (Nat.le_of_ble_eq_true rfl) (by decide +kernel) (kw K hw q2255) (kw K hw q314) (kw K hw q2254) (Or.inl (kw K hw q2252)) ⟨by decide, by decide⟩ rfl (Nat.le_of_ble_eq_true rfl) (Nat.le_of_ble_eq_true rfl) (fs_one (⟨_, rfl, kw K hw qs10⟩))) fs_con_mono o0) ?_
  refine fs_c1 (fs_ldcs (pc := 6) (idx := 118) (n := 109) (tx := "compatible") C (by decide +kernel) (by decide) (kS K es_21_118)) ?_
  refine fs_c1 (fs_inv_virtual (pc := 9) (n := 79713301) C (Nat.le_of_ble_eq_true rfl) (Nat.le_of_ble_eq_true rfl) (fs_lk_virtual (idx := 110) (y := ⟨"BoardMachine$Describer", "string", "(Ljava/lang/String;Ljava/lang/String;)V"⟩) (bytes := prog_14_method_7_code) (maxL := 3) (rt := (Option.none : Option Jvm.ClassFile.FieldType)) (d := 7) C (Nat.le_of_ble_eq_true rfl) (Nat.le_of_ble_eq_true rfl) (by decide +kernel) (kw K hw q2248) (kw K hw q314) (kw K hw q2247) (Or.inl (kw K hw q2245)) ⟨by decide, by decide⟩ rfl (Nat.le_of_ble_eq_true rfl) (Nat.le_of_ble_eq_true rfl) (fs_one (⟨_, rfl, kw K hw qs9⟩))) fs_con_mono o1) ?_
  refine fs_c1 (fs_getf (pc := 14) (n := 54550553) (idx := 148) (ref := "BoardMachine$Window") (O := "BoardMachine$Window") (name := "from") (desc := "J") C (by decide +kernel) (Or.inr ⟨_, kF K hw q6555⟩) (fun _ h => h) (Nat.le_of_ble_eq_true rfl) (Nat.le_of_ble_eq_true rfl) (fs_one (⟨_, ff_6_13 s0 H0 oa D⟩))) ?_
  refine fs_c1 (fs_getf (pc := 18) (n := 58744857) (idx := 154) (ref := "BoardMachine$Window") (O := "BoardMachine$Window") (name := "size") (desc := "J") C (by decide +kernel) (Or.inr ⟨_, kF K hw q6556⟩) (fun _ h => h) (Nat.le_of_ble_eq_true rfl) (Nat.le_of_ble_eq_true rfl) (fs_one (⟨_, ff_6_14 s0 H0 oa D⟩))) ?_
  refine fs_c1 (fs_inv_virtual (pc := 21) (n := 146822165) C (Nat.le_of_ble_eq_true rfl) (Nat.le_of_ble_eq_true rfl) (fs_lk_virtual (idx := 156) (y := ⟨"BoardMachine$Describer", "window", "(JJ)V"⟩) (bytes := prog_14_method_11_code) (maxL := 5) (rt := (Option.none : Option Jvm.ClassFile.FieldType)) (d := 7) C (Nat.le_of_ble_eq_true rfl) (Nat.le_of_ble_eq_true rfl) (by decide +kernel) (kw K hw q2303) (kw K hw q314) (kw K hw q2302) (Or.inl (kw K hw q2300)) ⟨by decide, by decide⟩ rfl (Nat.le_of_ble_eq_true rfl) (Nat.le_of_ble_eq_true rfl) (fs_one (⟨_, rfl, kw K hw qs14⟩))) fs_con_mono o2) ?_
  refine fs_c1 (fs_ldcs (pc := 30) (idx := 160) (n := 122) (tx := "interrupts") C (by decide +kernel) (by decide) (kS K es_21_160)) ?_
  refine fs_c1 (fs_inv_virtual (pc := 34) (n := 281039893) C (Nat.le_of_ble_eq_true rfl) (Nat.le_of_ble_eq_true rfl) (fs_lk_virtual (idx := 95) (y := ⟨"BoardMachine$Describer", "number", "(Ljava/lang/String;I)V"⟩) (bytes := prog_14_method_8_code) (maxL := 3) (rt := (Option.none : Option Jvm.ClassFile.FieldType)) (d := 7) C (Nat.le_of_ble_eq_true rfl) (Nat.le_of_ble_eq_true rfl) (by decide +kernel) (kw K hw q2156) (kw K hw q314) (kw K hw q2155) (Or.inl (kw K hw q2153)) ⟨by decide, by decide⟩ rfl (Nat.le_of_ble_eq_true rfl) (Nat.le_of_ble_eq_true rfl) (fs_one (⟨_, rfl, kw K hw qs5⟩))) fs_con_mono o4) ?_
  refine fs_c1 (fs_ldcs (pc := 38) (idx := 162) (n := 121) (tx := "interrupt-parent") C (by decide +kernel) (by decide) (kS K es_21_162)) ?_
  refine fs_c1 (fs_inv_virtual (pc := 44) (n := 281039893) C (Nat.le_of_ble_eq_true rfl) (Nat.le_of_ble_eq_true rfl) (fs_lk_virtual (idx := 95) (y := ⟨"BoardMachine$Describer", "number", "(Ljava/lang/String;I)V"⟩) (bytes := prog_14_method_8_code) (maxL := 3) (rt := (Option.none : Option Jvm.ClassFile.FieldType)) (d := 7) C (Nat.le_of_ble_eq_true rfl) (Nat.le_of_ble_eq_true rfl) (by decide +kernel) (kw K hw q2156) (kw K hw q314) (kw K hw q2155) (Or.inl (kw K hw q2153)) ⟨by decide, by decide⟩ rfl (Nat.le_of_ble_eq_true rfl) (Nat.le_of_ble_eq_true rfl) (fs_one (⟨_, rfl, kw K hw qs5⟩))) fs_con_mono o4) ?_
  refine fs_c1 (fs_getf (pc := 48) (n := 234967126) (idx := 23) (ref := "BoardMachine$Describer") (O := "BoardMachine$Describer") (name := "tree") (desc := "LBoardMachine$Trees$Tree;") C (by decide +kernel) (Or.inl (kw K hw q608)) (fun _ h => h) (Nat.le_of_ble_eq_true rfl) (Nat.le_of_ble_eq_true rfl) (fs_one (⟨_, ff_21_56 s0 H0 oa D⟩))) ?_
  refine fs_c1 (fs_inv_virtual (pc := 51) (n := 206658647) C (Nat.le_of_ble_eq_true rfl) (Nat.le_of_ble_eq_true rfl) (fs_lk_virtual (idx := 143) (y := ⟨"BoardMachine$Trees$Tree", "close", "()I"⟩) (bytes := prog_101_method_9_code) (maxL := 1) (rt := (Option.some Jvm.ClassFile.FieldType.int)) (d := 1) C (Nat.le_of_ble_eq_true rfl) (Nat.le_of_ble_eq_true rfl) (by decide +kernel) (kw K hw q2265) (kw K hw q315) (kw K hw q2263) (Or.inl (kw K hw q2262)) ⟨by decide, by decide⟩ rfl (Nat.le_of_ble_eq_true rfl) (Nat.le_of_ble_eq_true rfl) (fs_one (⟨_, rfl, kw K hw q2264⟩))) fs_con_mono o3) ?_
  exact fs_c0
theorem hX4_lines (n : Nat) : fe_H (sX4_lines (FX4_begin n) FX4_finish (FX3_addNumber n)) cX4_lines [0, 9] fe_kv [9] 39 (fun j => dX4_lines (FX4_lines_0 n (FX4_lines_L9 n j)) (FX4_lines_L9 n j)) := by
  intro j pc L st M r hc h
  rcases fe_mem_c hc with rfl | hc
  · obtain ⟨w0, m0, h⟩ := fe_lR_d h
    obtain ⟨w1, m1, h⟩ := fe_lI_d h
    obtain ⟨w2, m2, h⟩ := fe_lI_d h
    obtain ⟨w3, m3, h⟩ := fe_lI_d h
    obtain ⟨rfl, hz⟩ := fe_t0_d h
    exact ⟨[(0, .ref w0), (1, .int w1), (2, .int w2), (3, .int w3)], (fe_cs m0 (fe_cs m1 (fe_cs m2 (fe_cs m3 fe_nl)))), Or.inr ((bX4_lines_0 (FX4_begin n) FX4_finish (FX3_addNumber n) (FX4_lines_0 n (FX4_lines_L9 n j)) (FX4_lines_L9 n j) w0 w1 w2 w3 M).symm.trans hz)⟩
  rcases fe_mem_c hc with rfl | hc
  · obtain ⟨w0, m0, h⟩ := fe_lR_d h
    obtain ⟨w1, m1, h⟩ := fe_lI_d h
    obtain ⟨w2, m2, h⟩ := fe_lI_d h
    obtain ⟨w3, m3, h⟩ := fe_lI_d h
    obtain ⟨w4, m4, h⟩ := fe_lI_d h
    obtain ⟨rfl, hz⟩ := fe_t0_d h
    cases j with
    | zero => exact fe_no hz
    | succ j => exact ⟨[(0, .ref w0), (1, .int w1), (2, .int w2), (3, .int w3), (4, .int w4)], (fe_cs m0 (fe_cs m1 (fe_cs m2 (fe_cs m3 (fe_cs m4 fe_nl))))), Or.inl ⟨j, rfl, (bX4_lines_9 (FX4_begin n) FX4_finish (FX3_addNumber n) (FX4_lines_0 n (FX4_lines_L9 n j)) (FX4_lines_L9 n j) w0 w1 w2 w3 w4 M).symm.trans hz⟩⟩
  exact fe_mem_0 hc
theorem vX4_lines (n : Nat) : fe_SB (sX4_lines (FX4_begin n) FX4_finish (FX3_addNumber n)) := by
  refine ⟨?_, ?_, ?_, ?_⟩
  · intro i As M r h
    rcases fe_bc h with h | h
    · obtain ⟨v0, t0, rfl, g0⟩ := fe_tR_d h
      obtain ⟨v1, t1, rfl, g1⟩ := fe_tR_d g0
      obtain ⟨rfl, hz⟩ := fe_t0_d g1
      exact mX4_begin n v0 v1 M r hz
    rcases fe_bc h with h | h
    · obtain ⟨v0, t0, rfl, g0⟩ := fe_tR_d h
      obtain ⟨v1, t1, rfl, g1⟩ := fe_tR_d g0
      obtain ⟨rfl, hz⟩ := fe_t0_d g1
      exact mX4_finish v0 v1 M r hz
    rcases fe_bc h with h | h
    · obtain ⟨v0, t0, rfl, g0⟩ := fe_tR_d h
      obtain ⟨v1, t1, rfl, g1⟩ := fe_tI_d g0
      obtain ⟨rfl, hz⟩ := fe_t0_d g1
      exact mX3_addNumber n v0 v1 M r hz
    exact fe_no h
  · intro i As M r h
    exact fe_no h
  · intro i As M r h
    exact fe_no h
  · intro i As M r h
    exact fe_no h
theorem eX4_lines (g0 : Nat → Int32 → Int32 → Int32 → FM → Option (FM)) (k9 : Nat → Int32 → Int32 → Int32 → Int32 → FM → Option (FM)) (a0 : Nat) (a1 : Int32) (a2 : Int32) (a3 : Int32) (M : FM) : dX4_lines g0 k9 0 [(0, .ref a0), (1, .int a1), (2, .int a2), (3, .int a3)] [] M = g0 a0 a1 a2 a3 M := by rfl
theorem mX4_lines (n : Nat) (a0 : Nat) (a1 : Int32) (a2 : Int32) (a3 : Int32) (M : FM) (r : FM) (h : FX4_lines n a0 a1 a2 a3 M = some r) : fm_nx M ≤ fm_nx r ∧ fm_ns M ≤ fm_ns r :=
  fe_mono (L0 := [(0, .ref a0), (1, .int a1), (2, .int a2), (3, .int a3)]) (vX4_lines n) (by decide +kernel) (hX4_lines n) (fe_kv_k r) n rfl ((eX4_lines (FX4_lines_0 n (FX4_lines_L9 n n)) (FX4_lines_L9 n n) a0 a1 a2 a3 M).trans h)
theorem zX4_lines {s0 : State} {H0 : Heap} {oa : Nat → Nat} {D : va_G} (K : fk s0 H0 oa D) (l : Launch) (n : Nat) (a0 : Nat) (a1 : Int32) (a2 : Int32) (a3 : Int32) (M : FM) (r : FM) (h : FX4_lines n a0 a1 a2 a3 M = some r) : fs_Con (fk_E s0 H0 oa D) l 7 ⟨"BoardMachine$Describer", "lines", "(III)V"⟩ prog_14_method_14_code 5 (Option.none : Option Jvm.ClassFile.FieldType) [.ref a0, .int a1, .int a2, .int a3] M none r := by
  have o0 : fs_OS (sX4_lines (FX4_begin n) FX4_finish (FX3_addNumber n)) 0 0 (fs_Con (fk_E s0 H0 oa D) l 6 ⟨"BoardMachine$Describer", "begin", "(Ljava/lang/String;)V"⟩ prog_14_method_5_code 2 (Option.none : Option Jvm.ClassFile.FieldType)) := by
    intro As M r h
    obtain ⟨v0, t0, rfl, g0⟩ := fe_tR_d h
    obtain ⟨v1, t1, rfl, g1⟩ := fe_tR_d g0
    obtain ⟨rfl, hz⟩ := fe_t0_d g1
    exact zX4_begin K l n v0 v1 M r hz
  have o1 : fs_OS (sX4_lines (FX4_begin n) FX4_finish (FX3_addNumber n)) 1 0 (fs_Con (fk_E s0 H0 oa D) l 5 ⟨"BoardMachine$Describer", "finish", "(Ljava/lang/String;)V"⟩ prog_14_method_6_code 4 (Option.none : Option Jvm.ClassFile.FieldType)) := by
    intro As M r h
    obtain ⟨v0, t0, rfl, g0⟩ := fe_tR_d h
    obtain ⟨v1, t1, rfl, g1⟩ := fe_tR_d g0
    obtain ⟨rfl, hz⟩ := fe_t0_d g1
    exact zX4_finish K l v0 v1 M r hz
  have o2 : fs_OS (sX4_lines (FX4_begin n) FX4_finish (FX3_addNumber n)) 2 0 (fs_Con (fk_E s0 H0 oa D) l 2 ⟨"BoardMachine$Trees$Row", "addNumber", "(I)V"⟩ prog_100_method_4_code 3 (Option.none : Option Jvm.ClassFile.FieldType)) := by
    intro As M r h
    obtain ⟨v0, t0, rfl, g0⟩ := fe_tR_d h
    obtain ⟨v1, t1, rfl, g1⟩ := fe_tI_d g0
    obtain ⟨rfl, hz⟩ := fe_t0_d g1
    exact zX3_addNumber K l n v0 v1 M r hz
  refine fs_method (own := "BoardMachine$Describer") rfl (by decide) K.2.1 (by rw [fe_slen]; exact (Nat.le_of_ble_eq_true rfl)) (mX4_lines n a0 a1 a2 a3 M r h) (hX4_lines n) n rfl (L0 := [(0, .ref a0), (1, .int a1), (2, .int a2), (3, .int a3)]) (fun E => fe_args_e E [.ref a0, .int a1, .int a2, .int a3] 0) ((eX4_lines (FX4_lines_0 n (FX4_lines_L9 n n)) (FX4_lines_L9 n n) a0 a1 a2 a3 M).trans h) (fe_kv_k r) (fun H hR => fs_nr_o (by decide) (by decide)) ?_
  intro p e s m args below meth c Q C hnm
  have hw : s0.WarmedH s.vm := C.2.2.2.2.1
  refine fe_all C fk_hwr cX4_lines [1, 3, 16, 23, 27, 31, 35, 42, 46, 50, 60, 62] (by decide +kernel) (fe_fil (cps := [(1, 3, .ldc 123), (3, 6, .invokevirtual 8410133), (16, 19, .getfield 230772822), (23, 26, .invokevirtual 142694486), (27, 30, .getfield 230772822), (31, 34, .invokevirtual 142694486), (35, 38, .getfield 230772822), (42, 45, .invokevirtual 142694486), (46, 49, .getfield 230772822), (50, 53, .invokevirtual 142694486), (60, 62, .ldc 123), (62, 65, .invokevirtual 75518997)]) (by decide +kernel) ?_)
  refine fs_c1 (fs_ldcs (pc := 1) (idx := 146) (n := 123) (tx := "interrupts-extended") C (by decide +kernel) (by decide) (kS K es_21_146)) ?_
  refine fs_c1 (fs_inv_virtual (pc := 3) (n := 8410133) C (Nat.le_of_ble_eq_true rfl) (Nat.le_of_ble_eq_true rfl) (fs_lk_virtual (idx := 78) (y := ⟨"BoardMachine$Describer", "begin", "(Ljava/lang/String;)V"⟩) (bytes := prog_14_method_5_code) (maxL := 2) (rt := (Option.none : Option Jvm.ClassFile.FieldType)) (d := 6) C (Nat.le_of_ble_eq_true rfl) (Nat.le_of_ble_eq_true rfl) (by decide +kernel) (kw K hw q2160) (kw K hw q314) (kw K hw q2159) (Or.inl (kw K hw q2157)) ⟨by decide, by decide⟩ rfl (Nat.le_of_ble_eq_true rfl) (Nat.le_of_ble_eq_true rfl) (fs_one (⟨_, rfl, kw K hw qs6⟩))) fs_con_mono o0) ?_
  refine fs_c1 (fs_getf (pc := 16) (n := 230772822) (idx := 14) (ref := "BoardMachine$Describer") (O := "BoardMachine$Describer") (name := "piece") (desc := "LBoardMachine$Trees$Row;") C (by decide +kernel) (Or.inl (kw K hw q607)) (fun _ h => h) (Nat.le_of_ble_eq_true rfl) (Nat.le_of_ble_eq_true rfl) (fs_one (⟨_, ff_21_55 s0 H0 oa D⟩))) ?_
  refine fs_c1 (fs_inv_virtual (pc := 23) (n := 142694486) C (Nat.le_of_ble_eq_true rfl) (Nat.le_of_ble_eq_true rfl) (fs_lk_virtual (idx := 84) (y := ⟨"BoardMachine$Trees$Row", "addNumber", "(I)V"⟩) (bytes := prog_100_method_4_code) (maxL := 3) (rt := (Option.none : Option Jvm.ClassFile.FieldType)) (d := 2) C (Nat.le_of_ble_eq_true rfl) (Nat.le_of_ble_eq_true rfl) (by decide +kernel) (kw K hw q2220) (kw K hw q313) (kw K hw q2218) (Or.inl (kw K hw q2217)) ⟨by decide, by decide⟩ rfl (Nat.le_of_ble_eq_true rfl) (Nat.le_of_ble_eq_true rfl) (fs_one (⟨_, rfl, kw K hw q2219⟩))) fs_con_mono o2) ?_
  refine fs_c1 (fs_getf (pc := 27) (n := 230772822) (idx := 14) (ref := "BoardMachine$Describer") (O := "BoardMachine$Describer") (name := "piece") (desc := "LBoardMachine$Trees$Row;") C (by decide +kernel) (Or.inl (kw K hw q607)) (fun _ h => h) (Nat.le_of_ble_eq_true rfl) (Nat.le_of_ble_eq_true rfl) (fs_one (⟨_, ff_21_55 s0 H0 oa D⟩))) ?_
  refine fs_c1 (fs_inv_virtual (pc := 31) (n := 142694486) C (Nat.le_of_ble_eq_true rfl) (Nat.le_of_ble_eq_true rfl) (fs_lk_virtual (idx := 84) (y := ⟨"BoardMachine$Trees$Row", "addNumber", "(I)V"⟩) (bytes := prog_100_method_4_code) (maxL := 3) (rt := (Option.none : Option Jvm.ClassFile.FieldType)) (d := 2) C (Nat.le_of_ble_eq_true rfl) (Nat.le_of_ble_eq_true rfl) (by decide +kernel) (kw K hw q2220) (kw K hw q313) (kw K hw q2218) (Or.inl (kw K hw q2217)) ⟨by decide, by decide⟩ rfl (Nat.le_of_ble_eq_true rfl) (Nat.le_of_ble_eq_true rfl) (fs_one (⟨_, rfl, kw K hw q2219⟩))) fs_con_mono o2) ?_
  refine fs_c1 (fs_getf (pc := 35) (n := 230772822) (idx := 14) (ref := "BoardMachine$Describer") (O := "BoardMachine$Describer") (name := "piece") (desc := "LBoardMachine$Trees$Row;") C (by decide +kernel) (Or.inl (kw K hw q607)) (fun _ h => h) (Nat.le_of_ble_eq_true rfl) (Nat.le_of_ble_eq_true rfl) (fs_one (⟨_, ff_21_55 s0 H0 oa D⟩))) ?_
  refine fs_c1 (fs_inv_virtual (pc := 42) (n := 142694486) C (Nat.le_of_ble_eq_true rfl) (Nat.le_of_ble_eq_true rfl) (fs_lk_virtual (idx := 84) (y := ⟨"BoardMachine$Trees$Row", "addNumber", "(I)V"⟩) (bytes := prog_100_method_4_code) (maxL := 3) (rt := (Option.none : Option Jvm.ClassFile.FieldType)) (d := 2) C (Nat.le_of_ble_eq_true rfl) (Nat.le_of_ble_eq_true rfl) (by decide +kernel) (kw K hw q2220) (kw K hw q313) (kw K hw q2218) (Or.inl (kw K hw q2217)) ⟨by decide, by decide⟩ rfl (Nat.le_of_ble_eq_true rfl) (Nat.le_of_ble_eq_true rfl) (fs_one (⟨_, rfl, kw K hw q2219⟩))) fs_con_mono o2) ?_
  refine fs_c1 (fs_getf (pc := 46) (n := 230772822) (idx := 14) (ref := "BoardMachine$Describer") (O := "BoardMachine$Describer") (name := "piece") (desc := "LBoardMachine$Trees$Row;") C (by decide +kernel) (Or.inl (kw K hw q607)) (fun _ h => h) (Nat.le_of_ble_eq_true rfl) (Nat.le_of_ble_eq_true rfl) (fs_one (⟨_, ff_21_55 s0 H0 oa D⟩))) ?_
  refine fs_c1 (fs_inv_virtual (pc := 50) (n := 142694486) C (Nat.le_of_ble_eq_true rfl) (Nat.le_of_ble_eq_true rfl) (fs_lk_virtual (idx := 84) (y := ⟨"BoardMachine$Trees$Row", "addNumber", "(I)V"⟩) (bytes := prog_100_method_4_code) (maxL := 3) (rt := (Option.none : Option Jvm.ClassFile.FieldType)) (d := 2) C (Nat.le_of_ble_eq_true rfl) (Nat.le_of_ble_eq_true rfl) (by decide +kernel) (kw K hw q2220) (kw K hw q313) (kw K hw q2218) (Or.inl (kw K hw q2217)) ⟨by decide, by decide⟩ rfl (Nat.le_of_ble_eq_true rfl) (Nat.le_of_ble_eq_true rfl) (fs_one (⟨_, rfl, kw K hw q2219⟩))) fs_con_mono o2) ?_
  refine fs_c1 (fs_ldcs (pc := 60) (idx := 146) (n := 123) (tx := "interrupts-extended") C (by decide +kernel) (by decide) (kS K es_21_146)) ?_
  refine fs_c1 (fs_inv_virtual (pc := 62) (n := 75518997) C (Nat.le_of_ble_eq_true rfl) (Nat.le_of_ble_eq_true rfl) (fs_lk_virtual (idx := 81) (y := ⟨"BoardMachine$Describer", "finish", "(Ljava/lang/String;)V"⟩) (bytes := prog_14_method_6_code) (maxL := 4) (rt := (Option.none : Option Jvm.ClassFile.FieldType)) (d := 5) C (Nat.le_of_ble_eq_true rfl) (Nat.le_of_ble_eq_true rfl) (by decide +kernel) (kw K hw q2225) (kw K hw q314) (kw K hw q2224) (Or.inl (kw K hw q2222)) ⟨by decide, by decide⟩ rfl (Nat.le_of_ble_eq_true rfl) (Nat.le_of_ble_eq_true rfl) (fs_one (⟨_, rfl, kw K hw qs8⟩))) fs_con_mono o1) ?_
  exact fs_c0
theorem hX4_devices (n : Nat) : fe_H (sX4_devices (FX4_open n) (FX4_cells n) (FX4_string n) (FX4_nothing n) (FX4_device n) (FX4_lines n) (FX4_window n) FX5_close (FX4_number n)) cX4_devices [0] fe_kv [] 106 (fun _ => dX4_devices (FX4_devices_0 n)) := by
  intro j pc L st M r hc h
  rcases fe_mem_c hc with rfl | hc
  · obtain ⟨w0, m0, h⟩ := fe_lR_d h
    obtain ⟨w1, m1, h⟩ := fe_lI_d h
    obtain ⟨rfl, hz⟩ := fe_t0_d h
    exact ⟨[(0, .ref w0), (1, .int w1)], (fe_cs m0 (fe_cs m1 fe_nl)), Or.inr ((bX4_devices_0 (FX4_open n) (FX4_cells n) (FX4_string n) (FX4_nothing n) (FX4_device n) (FX4_lines n) (FX4_window n) FX5_close (FX4_number n) (FX4_devices_0 n ) w0 w1 M).symm.trans hz)⟩
  exact fe_mem_0 hc
theorem vX4_devices (n : Nat) : fe_SB (sX4_devices (FX4_open n) (FX4_cells n) (FX4_string n) (FX4_nothing n) (FX4_device n) (FX4_lines n) (FX4_window n) FX5_close (FX4_number n)) := by
  refine ⟨?_, ?_, ?_, ?_⟩
  · intro i As M r h
    rcases fe_bc h with h | h
    · obtain ⟨v0, t0, rfl, g0⟩ := fe_tR_d h
      obtain ⟨v1, t1, rfl, g1⟩ := fe_tR_d g0
      obtain ⟨rfl, hz⟩ := fe_t0_d g1
      exact mX4_open n v0 v1 M r hz
    rcases fe_bc h with h | h
    · obtain ⟨v0, t0, rfl, g0⟩ := fe_tR_d h
      obtain ⟨v1, t1, rfl, g1⟩ := fe_tI_d g0
      obtain ⟨v2, t2, rfl, g2⟩ := fe_tI_d g1
      obtain ⟨rfl, hz⟩ := fe_t0_d g2
      exact mX4_cells n v0 v1 v2 M r hz
    rcases fe_bc h with h | h
    · obtain ⟨v0, t0, rfl, g0⟩ := fe_tR_d h
      obtain ⟨v1, t1, rfl, g1⟩ := fe_tR_d g0
      obtain ⟨v2, t2, rfl, g2⟩ := fe_tR_d g1
      obtain ⟨rfl, hz⟩ := fe_t0_d g2
      exact mX4_string n v0 v1 v2 M r hz
    rcases fe_bc h with h | h
    · obtain ⟨v0, t0, rfl, g0⟩ := fe_tR_d h
      obtain ⟨v1, t1, rfl, g1⟩ := fe_tR_d g0
      obtain ⟨rfl, hz⟩ := fe_t0_d g1
      exact mX4_nothing n v0 v1 M r hz
    rcases fe_bc h with h | h
    · obtain ⟨v0, t0, rfl, g0⟩ := fe_tR_d h
      obtain ⟨v1, t1, rfl, g1⟩ := fe_tR_d g0
      obtain ⟨v2, t2, rfl, g2⟩ := fe_tR_d g1
      obtain ⟨v3, t3, rfl, g3⟩ := fe_tR_d g2
      obtain ⟨v4, t4, rfl, g4⟩ := fe_tI_d g3
      obtain ⟨v5, t5, rfl, g5⟩ := fe_tI_d g4
      obtain ⟨rfl, hz⟩ := fe_t0_d g5
      exact mX4_device n v0 v1 v2 v3 v4 v5 M r hz
    rcases fe_bc h with h | h
    · obtain ⟨v0, t0, rfl, g0⟩ := fe_tR_d h
      obtain ⟨v1, t1, rfl, g1⟩ := fe_tI_d g0
      obtain ⟨v2, t2, rfl, g2⟩ := fe_tI_d g1
      obtain ⟨v3, t3, rfl, g3⟩ := fe_tI_d g2
      obtain ⟨rfl, hz⟩ := fe_t0_d g3
      exact mX4_lines n v0 v1 v2 v3 M r hz
    rcases fe_bc h with h | h
    · obtain ⟨v0, t0, rfl, g0⟩ := fe_tR_d h
      obtain ⟨v1, t1, rfl, g1⟩ := fe_tL_d g0
      obtain ⟨v2, t2, rfl, g2⟩ := fe_tL_d g1
      obtain ⟨rfl, hz⟩ := fe_t0_d g2
      exact mX4_window n v0 v1 v2 M r hz
    rcases fe_bc h with h | h
    · obtain ⟨v0, t0, rfl, g0⟩ := fe_tR_d h
      obtain ⟨v1, t1, rfl, g1⟩ := fe_tR_d g0
      obtain ⟨v2, t2, rfl, g2⟩ := fe_tI_d g1
      obtain ⟨rfl, hz⟩ := fe_t0_d g2
      exact mX4_number n v0 v1 v2 M r hz
    exact fe_no h
  · intro i As M r h
    rcases fe_bc h with h | h
    · obtain ⟨v0, t0, rfl, g0⟩ := fe_tR_d h
      obtain ⟨rfl, hz⟩ := fe_t0_d g0
      exact mX5_close v0 M r hz
    exact fe_no h
  · intro i As M r h
    exact fe_no h
  · intro i As M r h
    exact fe_no h
theorem eX4_devices (g0 : Nat → Int32 → FM → Option (FM)) (a0 : Nat) (a1 : Int32) (M : FM) : dX4_devices g0 0 [(0, .ref a0), (1, .int a1)] [] M = g0 a0 a1 M := by rfl
theorem mX4_devices (n : Nat) (a0 : Nat) (a1 : Int32) (M : FM) (r : FM) (h : FX4_devices n a0 a1 M = some r) : fm_nx M ≤ fm_nx r ∧ fm_ns M ≤ fm_ns r :=
  fe_mono (L0 := [(0, .ref a0), (1, .int a1)]) (vX4_devices n) (by decide +kernel) (hX4_devices n) (fe_kv_k r) 0 rfl ((eX4_devices (FX4_devices_0 n ) a0 a1 M).trans h)
theorem zX4_devices {s0 : State} {H0 : Heap} {oa : Nat → Nat} {D : va_G} (K : fk s0 H0 oa D) (l : Launch) (n : Nat) (a0 : Nat) (a1 : Int32) (M : FM) (r : FM) (h : FX4_devices n a0 a1 M = some r) : fs_Con (fk_E s0 H0 oa D) l 9 ⟨"BoardMachine$Describer", "devices", "(I)V"⟩ prog_14_method_16_code 2 (Option.none : Option Jvm.ClassFile.FieldType) [.ref a0, .int a1] M none r := by
  have o0 : fs_OS (sX4_devices (FX4_open n) (FX4_cells n) (FX4_string n) (FX4_nothing n) (FX4_device n) (FX4_lines n) (FX4_window n) FX5_close (FX4_number n)) 0 0 (fs_Con (fk_E s0 H0 oa D) l 6 ⟨"BoardMachine$Describer", "open", "(Ljava/lang/String;)V"⟩ prog_14_method_3_code 2 (Option.none : Option Jvm.ClassFile.FieldType)) := by
    intro As M r h
    obtain ⟨v0, t0, rfl, g0⟩ := fe_tR_d h
    obtain ⟨v1, t1, rfl, g1⟩ := fe_tR_d g0
    obtain ⟨rfl, hz⟩ := fe_t0_d g1
    exact zX4_open K l n v0 v1 M r hz
  have o1 : fs_OS (sX4_devices (FX4_open n) (FX4_cells n) (FX4_string n) (FX4_nothing n) (FX4_device n) (FX4_lines n) (FX4_window n) FX5_close (FX4_number n)) 1 0 (fs_Con (fk_E s0 H0 oa D) l 8 ⟨"BoardMachine$Describer", "cells", "(II)V"⟩ prog_14_method_12_code 3 (Option.none : Option Jvm.ClassFile.FieldType)) := by
    intro As M r h
    obtain ⟨v0, t0, rfl, g0⟩ := fe_tR_d h
    obtain ⟨v1, t1, rfl, g1⟩ := fe_tI_d g0
    obtain ⟨v2, t2, rfl, g2⟩ := fe_tI_d g1
    obtain ⟨rfl, hz⟩ := fe_t0_d g2
    exact zX4_cells K l n v0 v1 v2 M r hz
  have o2 : fs_OS (sX4_devices (FX4_open n) (FX4_cells n) (FX4_string n) (FX4_nothing n) (FX4_device n) (FX4_lines n) (FX4_window n) FX5_close (FX4_number n)) 2 0 (fs_Con (fk_E s0 H0 oa D) l 7 ⟨"BoardMachine$Describer", "string", "(Ljava/lang/String;Ljava/lang/String;)V"⟩ prog_14_method_7_code 3 (Option.none : Option Jvm.ClassFile.FieldType)) := by
    intro As M r h
    obtain ⟨v0, t0, rfl, g0⟩ := fe_tR_d h
    obtain ⟨v1, t1, rfl, g1⟩ := fe_tR_d g0
    obtain ⟨v2, t2, rfl, g2⟩ := fe_tR_d g1
    obtain ⟨rfl, hz⟩ := fe_t0_d g2
    exact zX4_string K l n v0 v1 v2 M r hz
  have o3 : fs_OS (sX4_devices (FX4_open n) (FX4_cells n) (FX4_string n) (FX4_nothing n) (FX4_device n) (FX4_lines n) (FX4_window n) FX5_close (FX4_number n)) 3 0 (fs_Con (fk_E s0 H0 oa D) l 7 ⟨"BoardMachine$Describer", "nothing", "(Ljava/lang/String;)V"⟩ prog_14_method_9_code 2 (Option.none : Option Jvm.ClassFile.FieldType)) := by
    intro As M r h
    obtain ⟨v0, t0, rfl, g0⟩ := fe_tR_d h
    obtain ⟨v1, t1, rfl, g1⟩ := fe_tR_d g0
    obtain ⟨rfl, hz⟩ := fe_t0_d g1
    exact zX4_nothing K l n v0 v1 M r hz
  have o4 : fs_OS (sX4_devices (FX4_open n) (FX4_cells n) (FX4_string n) (FX4_nothing n) (FX4_device n) (FX4_lines n) (FX4_window n) FX5_close (FX4_number n)) 4 0 (fs_Con (fk_E s0 H0 oa D) l 8 ⟨"BoardMachine$Describer", "device", "(Ljava/lang/String;Ljava/lang/String;LBoardMachine$Window;II)V"⟩ prog_14_method_15_code 6 (Option.none : Option Jvm.ClassFile.FieldType)) := by
    intro As M r h
    obtain ⟨v0, t0, rfl, g0⟩ := fe_tR_d h
    obtain ⟨v1, t1, rfl, g1⟩ := fe_tR_d g0
    obtain ⟨v2, t2, rfl, g2⟩ := fe_tR_d g1
    obtain ⟨v3, t3, rfl, g3⟩ := fe_tR_d g2
    obtain ⟨v4, t4, rfl, g4⟩ := fe_tI_d g3
    obtain ⟨v5, t5, rfl, g5⟩ := fe_tI_d g4
    obtain ⟨rfl, hz⟩ := fe_t0_d g5
    exact zX4_device K l n v0 v1 v2 v3 v4 v5 M r hz
  have o5 : fs_OS (sX4_devices (FX4_open n) (FX4_cells n) (FX4_string n) (FX4_nothing n) (FX4_device n) (FX4_lines n) (FX4_window n) FX5_close (FX4_number n)) 5 0 (fs_Con (fk_E s0 H0 oa D) l 7 ⟨"BoardMachine$Describer", "lines", "(III)V"⟩ prog_14_method_14_code 5 (Option.none : Option Jvm.ClassFile.FieldType)) := by
    intro As M r h
    obtain ⟨v0, t0, rfl, g0⟩ := fe_tR_d h
    obtain ⟨v1, t1, rfl, g1⟩ := fe_tI_d g0
    obtain ⟨v2, t2, rfl, g2⟩ := fe_tI_d g1
    obtain ⟨v3, t3, rfl, g3⟩ := fe_tI_d g2
    obtain ⟨rfl, hz⟩ := fe_t0_d g3
    exact zX4_lines K l n v0 v1 v2 v3 M r hz
  have o6 : fs_OS (sX4_devices (FX4_open n) (FX4_cells n) (FX4_string n) (FX4_nothing n) (FX4_device n) (FX4_lines n) (FX4_window n) FX5_close (FX4_number n)) 6 0 (fs_Con (fk_E s0 H0 oa D) l 7 ⟨"BoardMachine$Describer", "window", "(JJ)V"⟩ prog_14_method_11_code 5 (Option.none : Option Jvm.ClassFile.FieldType)) := by
    intro As M r h
    obtain ⟨v0, t0, rfl, g0⟩ := fe_tR_d h
    obtain ⟨v1, t1, rfl, g1⟩ := fe_tL_d g0
    obtain ⟨v2, t2, rfl, g2⟩ := fe_tL_d g1
    obtain ⟨rfl, hz⟩ := fe_t0_d g2
    exact zX4_window K l n v0 v1 v2 M r hz
  have o7 : fs_OS (sX4_devices (FX4_open n) (FX4_cells n) (FX4_string n) (FX4_nothing n) (FX4_device n) (FX4_lines n) (FX4_window n) FX5_close (FX4_number n)) 7 1 (fs_Con (fk_E s0 H0 oa D) l 1 ⟨"BoardMachine$Trees$Tree", "close", "()I"⟩ prog_101_method_9_code 1 (Option.some Jvm.ClassFile.FieldType.int)) := by
    intro As M r h
    obtain ⟨v0, t0, rfl, g0⟩ := fe_tR_d h
    obtain ⟨rfl, hz⟩ := fe_t0_d g0
    exact zX5_close K l v0 M r hz
  have o8 : fs_OS (sX4_devices (FX4_open n) (FX4_cells n) (FX4_string n) (FX4_nothing n) (FX4_device n) (FX4_lines n) (FX4_window n) FX5_close (FX4_number n)) 8 0 (fs_Con (fk_E s0 H0 oa D) l 7 ⟨"BoardMachine$Describer", "number", "(Ljava/lang/String;I)V"⟩ prog_14_method_8_code 3 (Option.none : Option Jvm.ClassFile.FieldType)) := by
    intro As M r h
    obtain ⟨v0, t0, rfl, g0⟩ := fe_tR_d h
    obtain ⟨v1, t1, rfl, g1⟩ := fe_tR_d g0
    obtain ⟨v2, t2, rfl, g2⟩ := fe_tI_d g1
    obtain ⟨rfl, hz⟩ := fe_t0_d g2
    exact zX4_number K l n v0 v1 v2 M r hz
  refine fs_method (own := "BoardMachine$Describer") rfl (by decide) K.2.1 (by rw [fe_slen]; exact (Nat.le_of_ble_eq_true rfl)) (mX4_devices n a0 a1 M r h) (hX4_devices n) 0 rfl (L0 := [(0, .ref a0), (1, .int a1)]) (fun E => fe_args_e E [.ref a0, .int a1] 0) ((eX4_devices (FX4_devices_0 n ) a0 a1 M).trans h) (fe_kv_k r) (fun H hR => fs_nr_o (by decide) (by decide)) ?_
  intro p e s m args below meth c Q C hnm
  have hw : s0.WarmedH s.vm := C.2.2.2.2.1
  refine fe_all C fk_hwr cX4_devices [1, 3, 9, 13, 15, 17, 21, 23, 27, 29, 31, 36, 40, 42, 46, 48, 50, 58, 62, 65, 68, 71, 74, 78, 81, 86, 88, 92, 95, 99, 101, 105, 107, 109, 118, 122, 125, 128, 131, 134, 138, 142, 146, 151, 155, 158, 163, 165, 167, 173, 177, 179, 181, 186, 190, 193] (by decide +kernel) (fe_fil (cps := [(1, 3, .ldc 135), (3, 6, .invokevirtual 8410133), (9, 12, .invokevirtual 79713301), (13, 15, .ldc 109), (15, 17, .ldc 134), (17, 20, .invokevirtual 146822165), (21, 23, .ldc 131), (23, 26, .invokevirtual 209736725), (27, 29, .ldc 118), (29, 31, .ldc 147), (31, 34, .getstatic 37), (36, 39, .invokevirtual 293622805), (40, 42, .ldc 141), (42, 45, .invokevirtual 8410133), (46, 48, .ldc 109), (48, 50, .ldc 150), (50, 53, .invokevirtual 146822165), (58, 61, .invokevirtual 352343061), (62, 65, .getstatic 38), (65, 68, .getfield 54550553), (68, 71, .getstatic 38), (71, 74, .getfield 58744857), (74, 77, .invokevirtual 415257621), (78, 81, .getfield 234967126), (81, 84, .invokevirtual 475094103), (86, 88, .ldc 120), (88, 91, .invokevirtual 8410133), (92, 94, .ldc 102), (95, 98, .invokevirtual 549475349), (99, 101, .ldc 119), (101, 104, .invokevirtual 209736725), (105, 107, .ldc 109), (107, 109, .ldc 145), (109, 112, .invokevirtual 146822165), (118, 121, .invokevirtual 352343061), (122, 125, .getstatic 39), (125, 128, .getfield 54550553), (128, 131, .getstatic 39), (131, 134, .getfield 58744857), (134, 137, .invokevirtual 415257621), (138, 140, .ldc 136), (142, 145, .invokevirtual 549475349), (146, 148, .ldc 130), (151, 154, .invokevirtual 549475349), (155, 158, .getfield 234967126), (158, 161, .invokevirtual 475094103), (163, 165, .ldc 133), (165, 167, .ldc 149), (167, 170, .getstatic 40), (173, 176, .invokevirtual 293622805), (177, 179, .ldc 106), (179, 181, .ldc 143), (181, 184, .getstatic 41), (186, 189, .invokevirtual 293622805), (190, 193, .getfield 234967126), (193, 196, .invokevirtual 475094103)]) (by decide +kernel) ?_)
  refine fs_c1 (fs_ldcs (pc := 1) (idx := 164) (n := 135) (tx := "soc") C (by decide +kernel) (by decide) (kS K es_21_164)) ?_
  refine fs_c1 (fs_inv_virtual (pc := 3) (n := 8410133) C (Nat.le_of_ble_eq_true rfl) (Nat.le_of_ble_eq_true rfl) (fs_lk_virtual (idx := 132) (y := ⟨"BoardMachine$Describer", "open", "(Ljava/lang/String;)V"⟩) (bytes := prog_14_method_3_code) (maxL := 2) (rt := (Option.none : Option Jvm.ClassFile.FieldType)) (d := 6) C (Nat.le_of_ble_eq_true rfl) (Nat.le_of_ble_eq_true rfl) (by decide +kernel) (kw K hw q2255) (kw K hw q314) (kw K hw q2254) (Or.inl (kw K hw q2252)) ⟨by decide, by decide⟩ rfl (Nat.le_of_ble_eq_true rfl) (Nat.le_of_ble_eq_true rfl) (fs_one (⟨_, rfl, kw K hw qs10⟩))) fs_con_mono o0) ?_
  refine fs_c1 (fs_inv_virtual (pc := 9) (n := 79713301) C (Nat.le_of_ble_eq_true rfl) (Nat.le_of_ble_eq_true rfl) (fs_lk_virtual (idx := 166) (y := ⟨"BoardMachine$Describer", "cells", "(II)V"⟩) (bytes := prog_14_method_12_code) (maxL := 3) (rt := (Option.none : Option Jvm.ClassFile.FieldType)) (d := 8) C (Nat.le_of_ble_eq_true rfl) (Nat.le_of_ble_eq_true rfl) (by decide +kernel) (kw K hw q2151) (kw K hw q314) (kw K hw q2150) (Or.inl (kw K hw q2148)) ⟨by decide, by decide⟩ rfl (Nat.le_of_ble_eq_true rfl) (Nat.le_of_ble_eq_true rfl) (fs_one (⟨_, rfl, kw K hw qs4⟩))) fs_con_mono o1) ?_
  refine fs_c1 (fs_ldcs (pc := 13) (idx := 118) (n := 109) (tx := "compatible") C (by decide +kernel) (by decide) (kS K es_21_118)) ?_
  refine fs_c1 (fs_ldcs (pc := 15) (idx := 170) (n := 134) (tx := "simple-bus") C (by decide +kernel) (by decide) (kS K es_21_170)) ?_
  refine fs_c1 (fs_inv_virtual (pc := 17) (n := 146822165) C (Nat.le_of_ble_eq_true rfl) (Nat.le_of_ble_eq_true rfl) (fs_lk_virtual (idx := 110) (y := ⟨"BoardMachine$Describer", "string", "(Ljava/lang/String;Ljava/lang/String;)V"⟩) (bytes := prog_14_method_7_code) (maxL := 3) (rt := (Option.none : Option Jvm.ClassFile.FieldType)) (d := 7) C (Nat.le_of_ble_eq_true rfl) (Nat.le_of_ble_eq_true rfl) (by decide +kernel) (kw K hw q2248) (kw K hw q314) (kw K hw q2247) (Or.inl (kw K hw q2245)) ⟨by decide, by decide⟩ rfl (Nat.le_of_ble_eq_true rfl) (Nat.le_of_ble_eq_true rfl) (fs_one (⟨_, rfl, kw K hw qs9⟩))) fs_con_mono o2) ?_
  refine fs_c1 (fs_ldcs (pc := 21) (idx := 172) (n := 131) (tx := "ranges") C (by decide +kernel) (by decide) (kS K es_21_172)) ?_
  refine fs_c1 (fs_inv_virtual (pc := 23) (n := 209736725) C (Nat.le_of_ble_eq_true rfl) (Nat.le_of_ble_eq_true rfl) (fs_lk_virtual (idx := 136) (y := ⟨"BoardMachine$Describer", "nothing", "(Ljava/lang/String;)V"⟩) (bytes := prog_14_method_9_code) (maxL := 2) (rt := (Option.none : Option Jvm.ClassFile.FieldType)) (d := 7) C (Nat.le_of_ble_eq_true rfl) (Nat.le_of_ble_eq_true rfl) (by decide +kernel) (kw K hw q2293) (kw K hw q314) (kw K hw q2292) (Or.inl (kw K hw q2290)) ⟨by decide, by decide⟩ rfl (Nat.le_of_ble_eq_true rfl) (Nat.le_of_ble_eq_true rfl) (fs_one (⟨_, rfl, kw K hw qs13⟩))) fs_con_mono o3) ?_
  refine fs_c1 (fs_ldcs (pc := 27) (idx := 174) (n := 118) (tx := "end@100000") C (by decide +kernel) (by decide) (kS K es_21_174)) ?_
  refine fs_c1 (fs_ldcs (pc := 29) (idx := 176) (n := 147) (tx := "whole,end") C (by decide +kernel) (by decide) (kS K es_21_176)) ?_
  refine fs_c1 (fs_getst (pc := 31) (idx := 178) (k := 37) (CC := "BoardMachine$Window") (n := "END") (d := "LBoardMachine$Window;") (ref := "BoardMachine$Window") C (by decide +kernel) (kw K hw q2317) (fun _ h => h) (by decide) (kZ K 37 ez_37)) ?_
  refine fs_c1 (fs_inv_virtual (pc := 36) (n := 293622805) C (Nat.le_of_ble_eq_true rfl) (Nat.le_of_ble_eq_true rfl) (fs_lk_virtual (idx := 182) (y := ⟨"BoardMachine$Describer", "device", "(Ljava/lang/String;Ljava/lang/String;LBoardMachine$Window;II)V"⟩) (bytes := prog_14_method_15_code) (maxL := 6) (rt := (Option.none : Option Jvm.ClassFile.FieldType)) (d := 8) C (Nat.le_of_ble_eq_true rfl) (Nat.le_of_ble_eq_true rfl) (by decide +kernel) (kw K hw q2322) (kw K hw q314) (kw K hw q2321) (Or.inl (kw K hw q2319)) ⟨by decide, by decide⟩ rfl (Nat.le_of_ble_eq_true rfl) (Nat.le_of_ble_eq_true rfl) (fs_one (⟨_, rfl, kw K hw qs17⟩))) fs_con_mono o4) ?_
  refine fs_c1 (fs_ldcs (pc := 40) (idx := 186) (n := 141) (tx := "timer@2000000") C (by decide +kernel) (by decide) (kS K es_21_186)) ?_
  refine fs_c1 (fs_inv_virtual (pc := 42) (n := 8410133) C (Nat.le_of_ble_eq_true rfl) (Nat.le_of_ble_eq_true rfl) (fs_lk_virtual (idx := 132) (y := ⟨"BoardMachine$Describer", "open", "(Ljava/lang/String;)V"⟩) (bytes := prog_14_method_3_code) (maxL := 2) (rt := (Option.none : Option Jvm.ClassFile.FieldType)) (d := 6) C (Nat.le_of_ble_eq_true rfl) (Nat.le_of_ble_eq_true rfl) (by decide +kernel) (kw K hw q2255) (kw K hw q314) (kw K hw q2254) (Or.inl (kw K hw q2252)) ⟨by decide, by decide⟩ rfl (Nat.le_of_ble_eq_true rfl) (Nat.le_of_ble_eq_true rfl) (fs_one (⟨_, rfl, kw K hw qs10⟩))) fs_con_mono o0) ?_
  refine fs_c1 (fs_ldcs (pc := 46) (idx := 118) (n := 109) (tx := "compatible") C (by decide +kernel) (by decide) (kS K es_21_118)) ?_
  refine fs_c1 (fs_ldcs (pc := 48) (idx := 188) (n := 150) (tx := "whole,timer") C (by decide +kernel) (by decide) (kS K es_21_188)) ?_
  refine fs_c1 (fs_inv_virtual (pc := 50) (n := 146822165) C (Nat.le_of_ble_eq_true rfl) (Nat.le_of_ble_eq_true rfl) (fs_lk_virtual (idx := 110) (y := ⟨"BoardMachine$Describer", "string", "(Ljava/lang/String;Ljava/lang/String;)V"⟩) (bytes := prog_14_method_7_code) (maxL := 3) (rt := (Option.none : Option Jvm.ClassFile.FieldType)) (d := 7) C (Nat.le_of_ble_eq_true rfl) (Nat.le_of_ble_eq_true rfl) (by decide +kernel) (kw K hw q2248) (kw K hw q314) (kw K hw q2247) (Or.inl (kw K hw q2245)) ⟨by decide, by decide⟩ rfl (Nat.le_of_ble_eq_true rfl) (Nat.le_of_ble_eq_true rfl) (fs_one (⟨_, rfl, kw K hw qs9⟩))) fs_con_mono o2) ?_
  refine fs_c1 (fs_inv_virtual (pc := 58) (n := 352343061) C (Nat.le_of_ble_eq_true rfl) (Nat.le_of_ble_eq_true rfl) (fs_lk_virtual (idx := 190) (y := ⟨"BoardMachine$Describer", "lines", "(III)V"⟩) (bytes := prog_14_method_14_code) (maxL := 5) (rt := (Option.none : Option Jvm.ClassFile.FieldType)) (d := 7) C (Nat.le_of_ble_eq_true rfl) (Nat.le_of_ble_eq_true rfl) (by decide +kernel) (kw K hw q2330) (kw K hw q314) (kw K hw q2329) (Or.inl (kw K hw q2327)) ⟨by decide, by decide⟩ rfl (Nat.le_of_ble_eq_true rfl) (Nat.le_of_ble_eq_true rfl) (fs_one (⟨_, rfl, kw K hw qs18⟩))) fs_con_mono o5) ?_
  refine fs_c1 (fs_getst (pc := 62) (idx := 194) (k := 38) (CC := "BoardMachine$Window") (n := "TIMER") (d := "LBoardMachine$Window;") (ref := "BoardMachine$Window") C (by decide +kernel) (kw K hw q2332) (fun _ h => h) (by decide) (kZ K 38 ez_38)) ?_
  refine fs_c1 (fs_getf (pc := 65) (n := 54550553) (idx := 148) (ref := "BoardMachine$Window") (O := "BoardMachine$Window") (name := "from") (desc := "J") C (by decide +kernel) (Or.inr ⟨_, kF K hw q6555⟩) (fun _ h => h) (Nat.le_of_ble_eq_true rfl) (Nat.le_of_ble_eq_true rfl) (fs_one (⟨_, ff_6_13 s0 H0 oa D⟩))) ?_
  refine fs_c1 (fs_getst (pc := 68) (idx := 194) (k := 38) (CC := "BoardMachine$Window") (n := "TIMER") (d := "LBoardMachine$Window;") (ref := "BoardMachine$Window") C (by decide +kernel) (kw K hw q2332) (fun _ h => h) (by decide) (kZ K 38 ez_38)) ?_
  refine fs_c1 (fs_getf (pc := 71) (n := 58744857) (idx := 154) (ref := "BoardMachine$Window") (O := "BoardMachine$Window") (name := "size") (desc := "J") C (by decide +kernel) (Or.inr ⟨_, kF K hw q6556⟩) (fun _ h => h) (Nat.le_of_ble_eq_true rfl) (Nat.le_of_ble_eq_true rfl) (fs_one (⟨_, ff_6_14 s0 H0 oa D⟩))) ?_
  refine fs_c1 (fs_inv_virtual (pc := 74) (n := 415257621) C (Nat.le_of_ble_eq_true rfl) (Nat.le_of_ble_eq_true rfl) (fs_lk_virtual (idx := 156) (y := ⟨"BoardMachine$Describer", "window", "(JJ)V"⟩) (bytes := prog_14_method_11_code) (maxL := 5) (rt := (Option.none : Option Jvm.ClassFile.FieldType)) (d := 7) C (Nat.le_of_ble_eq_true rfl) (Nat.le_of_ble_eq_true rfl) (by decide +kernel) (kw K hw q2303) (kw K hw q314) (kw K hw q2302) (Or.inl (kw K hw q2300)) ⟨by decide, by decide⟩ rfl (Nat.le_of_ble_eq_true rfl) (Nat.le_of_ble_eq_true rfl) (fs_one (⟨_, rfl, kw K hw qs14⟩))) fs_con_mono o6) ?_
  refine fs_c1 (fs_getf (pc := 78) (n := 234967126) (idx := 23) (ref := "BoardMachine$Describer") (O := "BoardMachine$Describer") (name := "tree") (desc := "LBoardMachine$Trees$Tree;") C (by decide +kernel) (Or.inl (kw K hw q608)) (fun _ h => h) (Nat.le_of_ble_eq_true rfl) (Nat.le_of_ble_eq_true rfl) (fs_one (⟨_, ff_21_56 s0 H0 oa D⟩))) ?_
  refine fs_c1 (fs_inv_virtual (pc := 81) (n := 475094103) C (Nat.le_of_ble_eq_true rfl) (Nat.le_of_ble_eq_true rfl) (fs_lk_virtual (idx := 143) (y := ⟨"BoardMachine$Trees$Tree", "close", "()I"⟩) (bytes := prog_101_method_9_code) (maxL := 1) (rt := (Option.some Jvm.ClassFile.FieldType.int)) (d := 1) C (Nat.le_of_ble_eq_true rfl) (Nat.le_of_ble_eq_true rfl) (by decide +kernel) (kw K hw q2265) (kw K hw q315) (kw K hw q2263) (Or.inl (kw K hw q2262)) ⟨by decide, by decide⟩ rfl (Nat.le_of_ble_eq_true rfl) (Nat.le_of_ble_eq_true rfl) (fs_one (⟨_, rfl, kw K hw q2264⟩))) fs_con_mono o7) ?_
  refine fs_c1 (fs_ldcs (pc := 86) (idx := 197) (n := 120) (tx := "interrupt-controller@c000000") C (by decide +kernel) (by decide) (kS K es_21_197)) ?_
  refine fs_c1 (fs_inv_virtual (pc := 88) (n := 8410133) C (Nat.le_of_ble_eq_true rfl) (Nat.le_of_ble_eq_true rfl) (fs_lk_virtual (idx := 132) (y := ⟨"BoardMachine$Describer", "open", "(Ljava/lang/String;)V"⟩) (bytes := prog_14_method_3_code) (maxL := 2) (rt := (Option.none : Option Jvm.ClassFile.FieldType)) (d := 6) C (Nat.le_of_ble_eq_true rfl) (Nat.le_of_ble_eq_true rfl) (by decide +kernel) (kw K hw q2255) (kw K hw q314) (kw K hw q2254) (Or.inl (kw K hw q2252)) ⟨by decide, by decide⟩ rfl (Nat.le_of_ble_eq_true rfl) (Nat.le_of_ble_eq_true rfl) (fs_one (⟨_, rfl, kw K hw qs10⟩))) fs_con_mono o0) ?_
  refine fs_c1 (fs_ldcs (pc := 92) (idx := 134) (n := 102) (tx := "#interrupt-cells") C (by decide +kernel) (by decide) (kS K es_21_134)) ?_
  refine fs_c1 (fs_inv_virtual (pc := 95) (n := 549475349) C (Nat.le_of_ble_eq_true rfl) (Nat.le_of_ble_eq_true rfl) (fs_lk_virtual (idx := 95) (y := ⟨"BoardMachine$Describer", "number", "(Ljava/lang/String;I)V"⟩) (bytes := prog_14_method_8_code) (maxL := 3) (rt := (Option.none : Option Jvm.ClassFile.FieldType)) (d := 7) C (Nat.le_of_ble_eq_true rfl) (Nat.le_of_ble_eq_true rfl) (by decide +kernel) (kw K hw q2156) (kw K hw q314) (kw K hw q2155) (Or.inl (kw K hw q2153)) ⟨by decide, by decide⟩ rfl (Nat.le_of_ble_eq_true rfl) (Nat.le_of_ble_eq_true rfl) (fs_one (⟨_, rfl, kw K hw qs5⟩))) fs_con_mono o8) ?_
  refine fs_c1 (fs_ldcs (pc := 99) (idx := 130) (n := 119) (tx := "interrupt-controller") C (by decide +kernel) (by decide) (kS K es_21_130)) ?_
  refine fs_c1 (fs_inv_virtual (pc := 101) (n := 209736725) C (Nat.le_of_ble_eq_true rfl) (Nat.le_of_ble_eq_true rfl) (fs_lk_virtual (idx := 136) (y := ⟨"BoardMachine$Describer", "nothing", "(Ljava/lang/String;)V"⟩) (bytes := prog_14_method_9_code) (maxL := 2) (rt := (Option.none : Option Jvm.ClassFile.FieldType)) (d := 7) C (Nat.le_of_ble_eq_true rfl) (Nat.le_of_ble_eq_true rfl) (by decide +kernel) (kw K hw q2293) (kw K hw q314) (kw K hw q2292) (Or.inl (kw K hw q2290)) ⟨by decide, by decide⟩ rfl (Nat.le_of_ble_eq_true rfl) (Nat.le_of_ble_eq_true rfl) (fs_one (⟨_, rfl, kw K hw qs13⟩))) fs_con_mono o3) ?_
  refine fs_c1 (fs_ldcs (pc := 105) (idx := 118) (n := 109) (tx := "compatible") C (by decide +kernel) (by decide) (kS K es_21_118)) ?_
  refine fs_c1 (fs_ldcs (pc := 107) (idx := 199) (n := 145) (tx := "whole,controller") C (by decide +kernel) (by decide) (kS K es_21_199)) ?_
  refine fs_c1 (fs_inv_virtual (pc := 109) (n := 146822165) C (Nat.le_of_ble_eq_true rfl) (Nat.le_of_ble_eq_true rfl) (fs_lk_virtual (idx := 110) (y := ⟨"BoardMachine$Describer", "string", "(Ljava/lang/String;Ljava/lang/String;)V"⟩) (bytes := prog_14_method_7_code) (maxL := 3) (rt := (Option.none : Option Jvm.ClassFile.FieldType)) (d := 7) C (Nat.le_of_ble_eq_true rfl) (Nat.le_of_ble_eq_true rfl) (by decide +kernel) (kw K hw q2248) (kw K hw q314) (kw K hw q2247) (Or.inl (kw K hw q2245)) ⟨by decide, by decide⟩ rfl (Nat.le_of_ble_eq_true rfl) (Nat.le_of_ble_eq_true rfl) (fs_one (⟨_, rfl, kw K hw qs9⟩))) fs_con_mono o2) ?_
  refine fs_c1 (fs_inv_virtual (pc := 118) (n := 352343061) C (Nat.le_of_ble_eq_true rfl) (Nat.le_of_ble_eq_true rfl) (fs_lk_virtual (idx := 190) (y := ⟨"BoardMachine$Describer", "lines", "(III)V"⟩) (bytes := prog_14_method_14_code) (maxL := 5) (rt := (Option.none : Option Jvm.ClassFile.FieldType)) (d := 7) C (Nat.le_of_ble_eq_true rfl) (Nat.le_of_ble_eq_true rfl) (by decide +kernel) (kw K hw q2330) (kw K hw q314) (kw K hw q2329) (Or.inl (kw K hw q2327)) ⟨by decide, by decide⟩ rfl (Nat.le_of_ble_eq_true rfl) (Nat.le_of_ble_eq_true rfl) (fs_one (⟨_, rfl, kw K hw qs18⟩))) fs_con_mono o5) ?_
  refine fs_c1 (fs_getst (pc := 122) (idx := 201) (k := 39) (CC := "BoardMachine$Window") (n := "CONTROLLER") (d := "LBoardMachine$Window;") (ref := "BoardMachine$Window") C (by decide +kernel) (kw K hw q2336) (fun _ h => h) (by decide) (kZ K 39 ez_39)) ?_
  refine fs_c1 (fs_getf (pc := 125) (n := 54550553) (idx := 148) (ref := "BoardMachine$Window") (O := "BoardMachine$Window") (name := "from") (desc := "J") C (by decide +kernel) (Or.inr ⟨_, kF K hw q6555⟩) (fun _ h => h) (Nat.le_of_ble_eq_true rfl) (Nat.le_of_ble_eq_true rfl) (fs_one (⟨_, ff_6_13 s0 H0 oa D⟩))) ?_
  refine fs_c1 (fs_getst (pc := 128) (idx := 201) (k := 39) (CC := "BoardMachine$Window") (n := "CONTROLLER") (d := "LBoardMachine$Window;") (ref := "BoardMachine$Window") C (by decide +kernel) (kw K hw q2336) (fun _ h => h) (by decide) (kZ K 39 ez_39)) ?_
  refine fs_c1 (fs_getf (pc := 131) (n := 58744857) (idx := 154) (ref := "BoardMachine$Window") (O := "BoardMachine$Window") (name := "size") (desc := "J") C (by decide +kernel) (Or.inr ⟨_, kF K hw q6556⟩) (fun _ h => h) (Nat.le_of_ble_eq_true rfl) (Nat.le_of_ble_eq_true rfl) (fs_one (⟨_, ff_6_14 s0 H0 oa D⟩))) ?_
  refine fs_c1 (fs_inv_virtual (pc := 134) (n := 415257621) C (Nat.le_of_ble_eq_true rfl) (Nat.le_of_ble_eq_true rfl) (fs_lk_virtual (idx := 156) (y := ⟨"BoardMachine$Describer", "window", "(JJ)V"⟩) (bytes := prog_14_method_11_code) (maxL := 5) (rt := (Option.none : Option Jvm.ClassFile.FieldType)) (d := 7) C (Nat.le_of_ble_eq_true rfl) (Nat.le_of_ble_eq_true rfl) (by decide +kernel) (kw K hw q2303) (kw K hw q314) (kw K hw q2302) (Or.inl (kw K hw q2300)) ⟨by decide, by decide⟩ rfl (Nat.le_of_ble_eq_true rfl) (Nat.le_of_ble_eq_true rfl) (fs_one (⟨_, rfl, kw K hw qs14⟩))) fs_con_mono o6) ?_
  refine fs_c1 (fs_ldcs (pc := 138) (idx := 204) (n := 136) (tx := "sources") C (by decide +kernel) (by decide) (kS K es_21_204)) ?_
  refine fs_c1 (fs_inv_virtual (pc := 142) (n := 549475349) C (Nat.le_of_ble_eq_true rfl) (Nat.le_of_ble_eq_true rfl) (fs_lk_virtual (idx := 95) (y := ⟨"BoardMachine$Describer", "number", "(Ljava/lang/String;I)V"⟩) (bytes := prog_14_method_8_code) (maxL := 3) (rt := (Option.none : Option Jvm.ClassFile.FieldType)) (d := 7) C (Nat.le_of_ble_eq_true rfl) (Nat.le_of_ble_eq_true rfl) (by decide +kernel) (kw K hw q2156) (kw K hw q314) (kw K hw q2155) (Or.inl (kw K hw q2153)) ⟨by decide, by decide⟩ rfl (Nat.le_of_ble_eq_true rfl) (Nat.le_of_ble_eq_true rfl) (fs_one (⟨_, rfl, kw K hw qs5⟩))) fs_con_mono o8) ?_
  refine fs_c1 (fs_ldcs (pc := 146) (idx := 141) (n := 130) (tx := "phandle") C (by decide +kernel) (by decide) (kS K es_21_141)) ?_
  refine fs_c1 (fs_inv_virtual (pc := 151) (n := 549475349) C (Nat.le_of_ble_eq_true rfl) (Nat.le_of_ble_eq_true rfl) (fs_lk_virtual (idx := 95) (y := ⟨"BoardMachine$Describer", "number", "(Ljava/lang/String;I)V"⟩) (bytes := prog_14_method_8_code) (maxL := 3) (rt := (Option.none : Option Jvm.ClassFile.FieldType)) (d := 7) C (Nat.le_of_ble_eq_true rfl) (Nat.le_of_ble_eq_true rfl) (by decide +kernel) (kw K hw q2156) (kw K hw q314) (kw K hw q2155) (Or.inl (kw K hw q2153)) ⟨by decide, by decide⟩ rfl (Nat.le_of_ble_eq_true rfl) (Nat.le_of_ble_eq_true rfl) (fs_one (⟨_, rfl, kw K hw qs5⟩))) fs_con_mono o8) ?_
  refine fs_c1 (fs_getf (pc := 155) (n := 234967126) (idx := 23) (ref := "BoardMachine$Describer") (O := "BoardMachine$Describer") (name := "tree") (desc := "LBoardMachine$Trees$Tree;") C (by decide +kernel) (Or.inl (kw K hw q608)) (fun _ h => h) (Nat.le_of_ble_eq_true rfl) (Nat.le_of_ble_eq_true rfl) (fs_one (⟨_, ff_21_56 s0 H0 oa D⟩))) ?_
  refine fs_c1 (fs_inv_virtual (pc := 158) (n := 475094103) C (Nat.le_of_ble_eq_true rfl) (Nat.le_of_ble_eq_true rfl) (fs_lk_virtual (idx := 143) (y := ⟨"BoardMachine$Trees$Tree", "close", "()I"⟩) (bytes := prog_101_method_9_code) (maxL := 1) (rt := (Option.some Jvm.ClassFile.FieldType.int)) (d := 1) C (Nat.le_of_ble_eq_true rfl) (Nat.le_of_ble_eq_true rfl) (by decide +kernel) (kw K hw q2265) (kw K hw q315) (kw K hw q2263) (Or.inl (kw K hw q2262)) ⟨by decide, by decide⟩ rfl (Nat.le_of_ble_eq_true rfl) (Nat.le_of_ble_eq_true rfl) (fs_one (⟨_, rfl, kw K hw q2264⟩))) fs_con_mono o7) ?_
  refine fs_c1 (fs_ldcs (pc := 163) (idx := 206) (n := 133) (tx := "serial@10000000") C (by decide +kernel) (by decide) (kS K es_21_206)) ?_
  refine fs_c1 (fs_ldcs (pc := 165) (idx := 208) (n := 149) (tx := "whole,serial") C (by decide +kernel) (by decide) (kS K es_21_208)) ?_
  refine fs_c1 (fs_getst (pc := 167) (idx := 210) (k := 40) (CC := "BoardMachine$Window") (n := "SERIAL") (d := "LBoardMachine$Window;") (ref := "BoardMachine$Window") C (by decide +kernel) (kw K hw q2341) (fun _ h => h) (by decide) (kZ K 40 ez_40)) ?_
  refine fs_c1 (fs_inv_virtual (pc := 173) (n := 293622805) C (Nat.le_of_ble_eq_true rfl) (Nat.le_of_ble_eq_true rfl) (fs_lk_virtual (idx := 182) (y := ⟨"BoardMachine$Describer", "device", "(Ljava/lang/String;Ljava/lang/String;LBoardMachine$Window;II)V"⟩) (bytes := prog_14_method_15_code) (maxL := 6) (rt := (Option.none : Option Jvm.ClassFile.FieldType)) (d := 8) C (Nat.le_of_ble_eq_true rfl) (Nat.le_of_ble_eq_true rfl) (by decide +kernel) (kw K hw q2322) (kw K hw q314) (kw K hw q2321) (Or.inl (kw K hw q2319)) ⟨by decide, by decide⟩ rfl (Nat.le_of_ble_eq_true rfl) (Nat.le_of_ble_eq_true rfl) (fs_one (⟨_, rfl, kw K hw qs17⟩))) fs_con_mono o4) ?_
  refine fs_c1 (fs_ldcs (pc := 177) (idx := 213) (n := 106) (tx := "block@10001000") C (by decide +kernel) (by decide) (kS K es_21_213)) ?_
  refine fs_c1 (fs_ldcs (pc := 179) (idx := 215) (n := 143) (tx := "whole,block") C (by decide +kernel) (by decide) (kS K es_21_215)) ?_
  refine fs_c1 (fs_getst (pc := 181) (idx := 217) (k := 41) (CC := "BoardMachine$Window") (n := "DISK") (d := "LBoardMachine$Window;") (ref := "BoardMachine$Window") C (by decide +kernel) (kw K hw q2345) (fun _ h => h) (by decide) (kZ K 41 ez_41)) ?_
  refine fs_c1 (fs_inv_virtual (pc := 186) (n := 293622805) C (Nat.le_of_ble_eq_true rfl) (Nat.le_of_ble_eq_true rfl) (fs_lk_virtual (idx := 182) (y := ⟨"BoardMachine$Describer", "device", "(Ljava/lang/String;Ljava/lang/String;LBoardMachine$Window;II)V"⟩) (bytes := prog_14_method_15_code) (maxL := 6) (rt := (Option.none : Option Jvm.ClassFile.FieldType)) (d := 8) C (Nat.le_of_ble_eq_true rfl) (Nat.le_of_ble_eq_true rfl) (by decide +kernel) (kw K hw q2322) (kw K hw q314) (kw K hw q2321) (Or.inl (kw K hw q2319)) ⟨by decide, by decide⟩ rfl (Nat.le_of_ble_eq_true rfl) (Nat.le_of_ble_eq_true rfl) (fs_one (⟨_, rfl, kw K hw qs17⟩))) fs_con_mono o4) ?_
  refine fs_c1 (fs_getf (pc := 190) (n := 234967126) (idx := 23) (ref := "BoardMachine$Describer") (O := "BoardMachine$Describer") (name := "tree") (desc := "LBoardMachine$Trees$Tree;") C (by decide +kernel) (Or.inl (kw K hw q608)) (fun _ h => h) (Nat.le_of_ble_eq_true rfl) (Nat.le_of_ble_eq_true rfl) (fs_one (⟨_, ff_21_56 s0 H0 oa D⟩))) ?_
  refine fs_c1 (fs_inv_virtual (pc := 193) (n := 475094103) C (Nat.le_of_ble_eq_true rfl) (Nat.le_of_ble_eq_true rfl) (fs_lk_virtual (idx := 143) (y := ⟨"BoardMachine$Trees$Tree", "close", "()I"⟩) (bytes := prog_101_method_9_code) (maxL := 1) (rt := (Option.some Jvm.ClassFile.FieldType.int)) (d := 1) C (Nat.le_of_ble_eq_true rfl) (Nat.le_of_ble_eq_true rfl) (by decide +kernel) (kw K hw q2265) (kw K hw q315) (kw K hw q2263) (Or.inl (kw K hw q2262)) ⟨by decide, by decide⟩ rfl (Nat.le_of_ble_eq_true rfl) (Nat.le_of_ble_eq_true rfl) (fs_one (⟨_, rfl, kw K hw q2264⟩))) fs_con_mono o7) ?_
  exact fs_c0
theorem hX3_fillUp (n : Nat) : fe_H (sX3_fillUp FX3_add) cX3_fillUp [0] fe_kv [0] 20 (fun j => dX3_fillUp (FX3_fillUp_L0 n j)) := by
  intro j pc L st M r hc h
  rcases fe_mem_c hc with rfl | hc
  · obtain ⟨w0, m0, h⟩ := fe_lR_d h
    obtain ⟨rfl, hz⟩ := fe_t0_d h
    cases j with
    | zero => exact fe_no hz
    | succ j => exact ⟨[(0, .ref w0)], (fe_cs m0 fe_nl), Or.inl ⟨j, rfl, (bX3_fillUp_0 FX3_add (FX3_fillUp_L0 n j) w0 M).symm.trans hz⟩⟩
  exact fe_mem_0 hc
theorem vX3_fillUp (n : Nat) : fe_SB (sX3_fillUp FX3_add) := by
  refine ⟨?_, ?_, ?_, ?_⟩
  · intro i As M r h
    rcases fe_bc h with h | h
    · obtain ⟨v0, t0, rfl, g0⟩ := fe_tR_d h
      obtain ⟨v1, t1, rfl, g1⟩ := fe_tI_d g0
      obtain ⟨rfl, hz⟩ := fe_t0_d g1
      exact mX3_add v0 v1 M r hz
    exact fe_no h
  · intro i As M r h
    exact fe_no h
  · intro i As M r h
    exact fe_no h
  · intro i As M r h
    exact fe_no h
theorem eX3_fillUp (k0 : Nat → FM → Option (FM)) (a0 : Nat) (M : FM) : dX3_fillUp k0 0 [(0, .ref a0)] [] M = k0 a0 M := by rfl
theorem mX3_fillUp (n : Nat) (a0 : Nat) (M : FM) (r : FM) (h : FX3_fillUp n a0 M = some r) : fm_nx M ≤ fm_nx r ∧ fm_ns M ≤ fm_ns r :=
  fe_mono (L0 := [(0, .ref a0)]) (vX3_fillUp n) (by decide +kernel) (hX3_fillUp n) (fe_kv_k r) n rfl ((eX3_fillUp (FX3_fillUp_L0 n n) a0 M).trans h)
theorem zX3_fillUp {s0 : State} {H0 : Heap} {oa : Nat → Nat} {D : va_G} (K : fk s0 H0 oa D) (l : Launch) (n : Nat) (a0 : Nat) (M : FM) (r : FM) (h : FX3_fillUp n a0 M = some r) : fs_Con (fk_E s0 H0 oa D) l 2 ⟨"BoardMachine$Trees$Row", "fillUp", "()V"⟩ prog_100_method_7_code 1 (Option.none : Option Jvm.ClassFile.FieldType) [.ref a0] M none r := by
  have o0 : fs_OS (sX3_fillUp FX3_add) 0 0 (fs_Con (fk_E s0 H0 oa D) l 1 ⟨"BoardMachine$Trees$Row", "add", "(I)V"⟩ prog_100_method_3_code 2 (Option.none : Option Jvm.ClassFile.FieldType)) := by
    intro As M r h
    obtain ⟨v0, t0, rfl, g0⟩ := fe_tR_d h
    obtain ⟨v1, t1, rfl, g1⟩ := fe_tI_d g0
    obtain ⟨rfl, hz⟩ := fe_t0_d g1
    exact zX3_add K l v0 v1 M r hz
  refine fs_method (own := "BoardMachine$Trees$Row") rfl (by decide) K.2.1 (by rw [fe_slen]; exact (Nat.le_of_ble_eq_true rfl)) (mX3_fillUp n a0 M r h) (hX3_fillUp n) n rfl (L0 := [(0, .ref a0)]) (fun E => fe_args_e E [.ref a0] 0) ((eX3_fillUp (FX3_fillUp_L0 n n) a0 M).trans h) (fe_kv_k r) (fun H hR => fs_nr_o (by decide) (by decide)) ?_
  intro p e s m args below meth c Q C hnm
  have hw : s0.WarmedH s.vm := C.2.2.2.2.1
  refine fe_all C fk_hwr cX3_fillUp [1, 11] (by decide +kernel) (fe_fil (cps := [(1, 4, .getfield 1099260248), (11, 14, .invokevirtual 8476758)]) (by decide +kernel) ?_)
  refine fs_c1 (fs_getf (pc := 1) (n := 1099260248) (idx := 13) (ref := "BoardMachine$Trees$Row") (O := "BoardMachine$Trees$Row") (name := "size") (desc := "I") C (by decide +kernel) (Or.inl (kw K hw q463)) (fun _ h => h) (Nat.le_of_ble_eq_true rfl) (Nat.le_of_ble_eq_true rfl) (fs_one (⟨_, ff_86_262 s0 H0 oa D⟩))) ?_
  refine fs_c1 (fs_inv_virtual (pc := 11) (n := 8476758) C (Nat.le_of_ble_eq_true rfl) (Nat.le_of_ble_eq_true rfl) (fs_lk_virtual (idx := 17) (y := ⟨"BoardMachine$Trees$Row", "add", "(I)V"⟩) (bytes := prog_100_method_3_code) (maxL := 2) (rt := (Option.none : Option Jvm.ClassFile.FieldType)) (d := 1) C (Nat.le_of_ble_eq_true rfl) (Nat.le_of_ble_eq_true rfl) (by decide +kernel) (kw K hw q2216) (kw K hw q313) (kw K hw q2214) (Or.inl (kw K hw q2221)) ⟨by decide, by decide⟩ rfl (Nat.le_of_ble_eq_true rfl) (Nat.le_of_ble_eq_true rfl) (fs_one (⟨_, rfl, kw K hw q2215⟩))) fs_con_mono o0) ?_
  exact fs_c0
theorem hX3_get : fe_H (sX3_get) cX3_get [0] fe_ki [] 20 (fun _ => dX3_get FX3_get_0) := by
  intro j pc L st M r hc h
  rcases fe_mem_c hc with rfl | hc
  · obtain ⟨w0, m0, h⟩ := fe_lR_d h
    obtain ⟨w1, m1, h⟩ := fe_lI_d h
    obtain ⟨rfl, hz⟩ := fe_t0_d h
    exact ⟨[(0, .ref w0), (1, .int w1)], (fe_cs m0 (fe_cs m1 fe_nl)), Or.inr ((bX3_get_0 FX3_get_0 w0 w1 M).symm.trans hz)⟩
  exact fe_mem_0 hc
theorem vX3_get : fe_SB (sX3_get) := by
  refine ⟨?_, ?_, ?_, ?_⟩
  · intro i As M r h
    exact fe_no h
  · intro i As M r h
    exact fe_no h
  · intro i As M r h
    exact fe_no h
  · intro i As M r h
    exact fe_no h
theorem eX3_get (g0 : Nat → Int32 → FM → Option (Int32 × FM)) (a0 : Nat) (a1 : Int32) (M : FM) : dX3_get g0 0 [(0, .ref a0), (1, .int a1)] [] M = g0 a0 a1 M := by rfl
theorem mX3_get (a0 : Nat) (a1 : Int32) (M : FM) (r : Int32 × FM) (h : FX3_get a0 a1 M = some r) : fm_nx M ≤ fm_nx r.2 ∧ fm_ns M ≤ fm_ns r.2 :=
  fe_mono (L0 := [(0, .ref a0), (1, .int a1)]) (vX3_get) (by decide +kernel) (hX3_get) (fe_ki_k r) 0 rfl ((eX3_get FX3_get_0 a0 a1 M).trans h)
theorem zX3_get {s0 : State} {H0 : Heap} {oa : Nat → Nat} {D : va_G} (K : fk s0 H0 oa D) (l : Launch) (a0 : Nat) (a1 : Int32) (M : FM) (r : Int32 × FM) (h : FX3_get a0 a1 M = some r) : fs_Con (fk_E s0 H0 oa D) l 1 ⟨"BoardMachine$Trees$Row", "get", "(I)I"⟩ prog_100_method_2_code 2 (Option.some Jvm.ClassFile.FieldType.int) [.ref a0, .int a1] M (some (.int r.1)) r.2 := by
  refine fs_method (own := "BoardMachine$Trees$Row") rfl (by decide) K.2.1 (by rw [fe_slen]; exact (Nat.le_of_ble_eq_true rfl)) (mX3_get a0 a1 M r h) (hX3_get) 0 rfl (L0 := [(0, .ref a0), (1, .int a1)]) (fun E => fe_args_e E [.ref a0, .int a1] 0) ((eX3_get FX3_get_0 a0 a1 M).trans h) (fe_ki_k r) (fun H hR => fs_nr_o (by decide) (by decide)) ?_
  intro p e s m args below meth c Q C hnm
  have hw : s0.WarmedH s.vm := C.2.2.2.2.1
  refine fe_all C fk_hwr cX3_get [1] (by decide +kernel) (fe_fil (cps := [(1, 4, .getfield 1095065946)]) (by decide +kernel) ?_)
  refine fs_c1 (fs_getf (pc := 1) (n := 1095065946) (idx := 7) (ref := "BoardMachine$Trees$Row") (O := "BoardMachine$Trees$Row") (name := "bytes") (desc := "[B") C (by decide +kernel) (Or.inl (kw K hw q456)) (fun _ h => h) (Nat.le_of_ble_eq_true rfl) (Nat.le_of_ble_eq_true rfl) (fs_one (⟨_, ff_86_261 s0 H0 oa D⟩))) ?_
  exact fs_c0
theorem hX3_isSame (n : Nat) : fe_H (sX3_isSame) cX3_isSame [0, 3] fe_ki [3] 29 (fun j => dX3_isSame (FX3_isSame_0 n (FX3_isSame_L3 n j)) (FX3_isSame_L3 n j)) := by
  intro j pc L st M r hc h
  rcases fe_mem_c hc with rfl | hc
  · obtain ⟨w0, m0, h⟩ := fe_lR_d h
    obtain ⟨w1, m1, h⟩ := fe_lI_d h
    obtain ⟨w2, m2, h⟩ := fe_lR_d h
    obtain ⟨w3, m3, h⟩ := fe_lI_d h
    obtain ⟨w4, m4, h⟩ := fe_lI_d h
    obtain ⟨rfl, hz⟩ := fe_t0_d h
    exact ⟨[(0, .ref w0), (1, .int w1), (2, .ref w2), (3, .int w3), (4, .int w4)], (fe_cs m0 (fe_cs m1 (fe_cs m2 (fe_cs m3 (fe_cs m4 fe_nl))))), Or.inr ((bX3_isSame_0 (FX3_isSame_0 n (FX3_isSame_L3 n j)) (FX3_isSame_L3 n j) w0 w1 w2 w3 w4 M).symm.trans hz)⟩
  rcases fe_mem_c hc with rfl | hc
  · obtain ⟨w0, m0, h⟩ := fe_lR_d h
    obtain ⟨w1, m1, h⟩ := fe_lI_d h
    obtain ⟨w2, m2, h⟩ := fe_lR_d h
    obtain ⟨w3, m3, h⟩ := fe_lI_d h
    obtain ⟨w4, m4, h⟩ := fe_lI_d h
    obtain ⟨w5, m5, h⟩ := fe_lI_d h
    obtain ⟨rfl, hz⟩ := fe_t0_d h
    cases j with
    | zero => exact fe_no hz
    | succ j => exact ⟨[(0, .ref w0), (1, .int w1), (2, .ref w2), (3, .int w3), (4, .int w4), (5, .int w5)], (fe_cs m0 (fe_cs m1 (fe_cs m2 (fe_cs m3 (fe_cs m4 (fe_cs m5 fe_nl)))))), Or.inl ⟨j, rfl, (bX3_isSame_3 (FX3_isSame_0 n (FX3_isSame_L3 n j)) (FX3_isSame_L3 n j) w0 w1 w2 w3 w4 w5 M).symm.trans hz⟩⟩
  exact fe_mem_0 hc
theorem vX3_isSame (n : Nat) : fe_SB (sX3_isSame) := by
  refine ⟨?_, ?_, ?_, ?_⟩
  · intro i As M r h
    exact fe_no h
  · intro i As M r h
    exact fe_no h
  · intro i As M r h
    exact fe_no h
  · intro i As M r h
    exact fe_no h
theorem eX3_isSame (g0 : Nat → Int32 → Nat → Int32 → Int32 → FM → Option (Int32 × FM)) (k3 : Nat → Int32 → Nat → Int32 → Int32 → Int32 → FM → Option (Int32 × FM)) (a0 : Nat) (a1 : Int32) (a2 : Nat) (a3 : Int32) (a4 : Int32) (M : FM) : dX3_isSame g0 k3 0 [(0, .ref a0), (1, .int a1), (2, .ref a2), (3, .int a3), (4, .int a4)] [] M = g0 a0 a1 a2 a3 a4 M := by rfl
theorem mX3_isSame (n : Nat) (a0 : Nat) (a1 : Int32) (a2 : Nat) (a3 : Int32) (a4 : Int32) (M : FM) (r : Int32 × FM) (h : FX3_isSame n a0 a1 a2 a3 a4 M = some r) : fm_nx M ≤ fm_nx r.2 ∧ fm_ns M ≤ fm_ns r.2 :=
  fe_mono (L0 := [(0, .ref a0), (1, .int a1), (2, .ref a2), (3, .int a3), (4, .int a4)]) (vX3_isSame n) (by decide +kernel) (hX3_isSame n) (fe_ki_k r) n rfl ((eX3_isSame (FX3_isSame_0 n (FX3_isSame_L3 n n)) (FX3_isSame_L3 n n) a0 a1 a2 a3 a4 M).trans h)
theorem zX3_isSame {s0 : State} {H0 : Heap} {oa : Nat → Nat} {D : va_G} (K : fk s0 H0 oa D) (l : Launch) (n : Nat) (a0 : Nat) (a1 : Int32) (a2 : Nat) (a3 : Int32) (a4 : Int32) (M : FM) (r : Int32 × FM) (h : FX3_isSame n a0 a1 a2 a3 a4 M = some r) : fs_Con (fk_E s0 H0 oa D) l 1 ⟨"BoardMachine$Trees$Row", "isSame", "(ILBoardMachine$Trees$Row;II)Z"⟩ prog_100_method_9_code 6 (Option.some Jvm.ClassFile.FieldType.boolean) [.ref a0, .int a1, .ref a2, .int a3, .int a4] M (some (.int r.1)) r.2 := by
  refine fs_method (own := "BoardMachine$Trees$Row") rfl (by decide) K.2.1 (by rw [fe_slen]; exact (Nat.le_of_ble_eq_true rfl)) (mX3_isSame n a0 a1 a2 a3 a4 M r h) (hX3_isSame n) n rfl (L0 := [(0, .ref a0), (1, .int a1), (2, .ref a2), (3, .int a3), (4, .int a4)]) (fun E => fe_args_e E [.ref a0, .int a1, .ref a2, .int a3, .int a4] 0) ((eX3_isSame (FX3_isSame_0 n (FX3_isSame_L3 n n)) (FX3_isSame_L3 n n) a0 a1 a2 a3 a4 M).trans h) (fe_ki_k r) (fun H hR => fs_nr_o (by decide) (by decide)) ?_
  intro p e s m args below meth c Q C hnm
  have hw : s0.WarmedH s.vm := C.2.2.2.2.1
  refine fe_all C fk_hwr cX3_isSame [11, 20] (by decide +kernel) (fe_fil (cps := [(11, 14, .getfield 1095065946), (20, 23, .getfield 1095065946)]) (by decide +kernel) ?_)
  refine fs_c1 (fs_getf (pc := 11) (n := 1095065946) (idx := 7) (ref := "BoardMachine$Trees$Row") (O := "BoardMachine$Trees$Row") (name := "bytes") (desc := "[B") C (by decide +kernel) (Or.inl (kw K hw q456)) (fun _ h => h) (Nat.le_of_ble_eq_true rfl) (Nat.le_of_ble_eq_true rfl) (fs_one (⟨_, ff_86_261 s0 H0 oa D⟩))) ?_
  refine fs_c1 (fs_getf (pc := 20) (n := 1095065946) (idx := 7) (ref := "BoardMachine$Trees$Row") (O := "BoardMachine$Trees$Row") (name := "bytes") (desc := "[B") C (by decide +kernel) (Or.inl (kw K hw q456)) (fun _ h => h) (Nat.le_of_ble_eq_true rfl) (Nat.le_of_ble_eq_true rfl) (fs_one (⟨_, ff_86_261 s0 H0 oa D⟩))) ?_
  exact fs_c0
theorem hX9_nameAt (n : Nat) : fe_H (sX9_nameAt FX3_get FX3_addAll FX3_add (FX3_isSame n)) cX9_nameAt [0, 2, 16, 68] fe_ki [2, 16] 61 (fun j => dX9_nameAt (FX9_nameAt_0 n (FX9_nameAt_L n j).1 (FX9_nameAt_L n j).2) (FX9_nameAt_68 n (FX9_nameAt_L n j).1 (FX9_nameAt_L n j).2) (FX9_nameAt_L n j).1 (FX9_nameAt_L n j).2) := by
  intro j pc L st M r hc h
  rcases fe_mem_c hc with rfl | hc
  · obtain ⟨w0, m0, h⟩ := fe_lR_d h
    obtain ⟨w1, m1, h⟩ := fe_lR_d h
    obtain ⟨w2, m2, h⟩ := fe_lR_d h
    obtain ⟨rfl, hz⟩ := fe_t0_d h
    exact ⟨[(0, .ref w0), (1, .ref w1), (2, .ref w2)], (fe_cs m0 (fe_cs m1 (fe_cs m2 fe_nl))), Or.inr ((bX9_nameAt_0 FX3_get FX3_addAll FX3_add (FX3_isSame n) (FX9_nameAt_0 n (FX9_nameAt_L n j).1 (FX9_nameAt_L n j).2) (FX9_nameAt_68 n (FX9_nameAt_L n j).1 (FX9_nameAt_L n j).2) (FX9_nameAt_L n j).1 (FX9_nameAt_L n j).2 w0 w1 w2 M).symm.trans hz)⟩
  rcases fe_mem_c hc with rfl | hc
  · obtain ⟨w0, m0, h⟩ := fe_lR_d h
    obtain ⟨w1, m1, h⟩ := fe_lR_d h
    obtain ⟨w2, m2, h⟩ := fe_lR_d h
    obtain ⟨w3, m3, h⟩ := fe_lI_d h
    obtain ⟨rfl, hz⟩ := fe_t0_d h
    cases j with
    | zero => exact fe_no hz
    | succ j => exact ⟨[(0, .ref w0), (1, .ref w1), (2, .ref w2), (3, .int w3)], (fe_cs m0 (fe_cs m1 (fe_cs m2 (fe_cs m3 fe_nl)))), Or.inl ⟨j, rfl, (bX9_nameAt_2 FX3_get FX3_addAll FX3_add (FX3_isSame n) (FX9_nameAt_0 n (FX9_nameAt_L n j).1 (FX9_nameAt_L n j).2) (FX9_nameAt_68 n (FX9_nameAt_L n j).1 (FX9_nameAt_L n j).2) (FX9_nameAt_L n j).1 (FX9_nameAt_L n j).2 w0 w1 w2 w3 M).symm.trans hz⟩⟩
  rcases fe_mem_c hc with rfl | hc
  · obtain ⟨w0, m0, h⟩ := fe_lR_d h
    obtain ⟨w1, m1, h⟩ := fe_lR_d h
    obtain ⟨w2, m2, h⟩ := fe_lR_d h
    obtain ⟨w3, m3, h⟩ := fe_lI_d h
    obtain ⟨w4, m4, h⟩ := fe_lI_d h
    obtain ⟨rfl, hz⟩ := fe_t0_d h
    cases j with
    | zero => exact fe_no hz
    | succ j => exact ⟨[(0, .ref w0), (1, .ref w1), (2, .ref w2), (3, .int w3), (4, .int w4)], (fe_cs m0 (fe_cs m1 (fe_cs m2 (fe_cs m3 (fe_cs m4 fe_nl))))), Or.inl ⟨j, rfl, (bX9_nameAt_16 FX3_get FX3_addAll FX3_add (FX3_isSame n) (FX9_nameAt_0 n (FX9_nameAt_L n j).1 (FX9_nameAt_L n j).2) (FX9_nameAt_68 n (FX9_nameAt_L n j).1 (FX9_nameAt_L n j).2) (FX9_nameAt_L n j).1 (FX9_nameAt_L n j).2 w0 w1 w2 w3 w4 M).symm.trans hz⟩⟩
  rcases fe_mem_c hc with rfl | hc
  · obtain ⟨w0, m0, h⟩ := fe_lR_d h
    obtain ⟨w1, m1, h⟩ := fe_lR_d h
    obtain ⟨w2, m2, h⟩ := fe_lR_d h
    obtain ⟨w3, m3, h⟩ := fe_lI_d h
    obtain ⟨w4, m4, h⟩ := fe_lI_d h
    obtain ⟨rfl, hz⟩ := fe_t0_d h
    exact ⟨[(0, .ref w0), (1, .ref w1), (2, .ref w2), (3, .int w3), (4, .int w4)], (fe_cs m0 (fe_cs m1 (fe_cs m2 (fe_cs m3 (fe_cs m4 fe_nl))))), Or.inr ((bX9_nameAt_68 FX3_get FX3_addAll FX3_add (FX3_isSame n) (FX9_nameAt_0 n (FX9_nameAt_L n j).1 (FX9_nameAt_L n j).2) (FX9_nameAt_68 n (FX9_nameAt_L n j).1 (FX9_nameAt_L n j).2) (FX9_nameAt_L n j).1 (FX9_nameAt_L n j).2 w0 w1 w2 w3 w4 M).symm.trans hz)⟩
  exact fe_mem_0 hc
theorem vX9_nameAt (n : Nat) : fe_SB (sX9_nameAt FX3_get FX3_addAll FX3_add (FX3_isSame n)) := by
  refine ⟨?_, ?_, ?_, ?_⟩
  · intro i As M r h
    rcases fe_bc h with h | h
    · obtain ⟨v0, t0, rfl, g0⟩ := fe_tR_d h
      obtain ⟨v1, t1, rfl, g1⟩ := fe_tR_d g0
      obtain ⟨v2, t2, rfl, g2⟩ := fe_tI_d g1
      obtain ⟨v3, t3, rfl, g3⟩ := fe_tI_d g2
      obtain ⟨rfl, hz⟩ := fe_t0_d g3
      exact mX3_addAll v0 v1 v2 v3 M r hz
    rcases fe_bc h with h | h
    · obtain ⟨v0, t0, rfl, g0⟩ := fe_tR_d h
      obtain ⟨v1, t1, rfl, g1⟩ := fe_tI_d g0
      obtain ⟨rfl, hz⟩ := fe_t0_d g1
      exact mX3_add v0 v1 M r hz
    exact fe_no h
  · intro i As M r h
    rcases fe_bc h with h | h
    · obtain ⟨v0, t0, rfl, g0⟩ := fe_tR_d h
      obtain ⟨v1, t1, rfl, g1⟩ := fe_tI_d g0
      obtain ⟨rfl, hz⟩ := fe_t0_d g1
      exact mX3_get v0 v1 M r hz
    rcases fe_bc h with h | h
    · obtain ⟨v0, t0, rfl, g0⟩ := fe_tR_d h
      obtain ⟨v1, t1, rfl, g1⟩ := fe_tI_d g0
      obtain ⟨v2, t2, rfl, g2⟩ := fe_tR_d g1
      obtain ⟨v3, t3, rfl, g3⟩ := fe_tI_d g2
      obtain ⟨v4, t4, rfl, g4⟩ := fe_tI_d g3
      obtain ⟨rfl, hz⟩ := fe_t0_d g4
      exact mX3_isSame n v0 v1 v2 v3 v4 M r hz
    exact fe_no h
  · intro i As M r h
    exact fe_no h
  · intro i As M r h
    exact fe_no h
theorem eX9_nameAt (g0 : Nat → Nat → Nat → FM → Option (Int32 × FM)) (g68 : Nat → Nat → Nat → Int32 → Int32 → FM → Option (Int32 × FM)) (k2 : Nat → Nat → Nat → Int32 → FM → Option (Int32 × FM)) (k16 : Nat → Nat → Nat → Int32 → Int32 → FM → Option (Int32 × FM)) (a0 : Nat) (a1 : Nat) (a2 : Nat) (M : FM) : dX9_nameAt g0 g68 k2 k16 0 [(0, .ref a0), (1, .ref a1), (2, .ref a2)] [] M = g0 a0 a1 a2 M := by rfl
theorem mX9_nameAt (n : Nat) (a0 : Nat) (a1 : Nat) (a2 : Nat) (M : FM) (r : Int32 × FM) (h : FX9_nameAt n a0 a1 a2 M = some r) : fm_nx M ≤ fm_nx r.2 ∧ fm_ns M ≤ fm_ns r.2 :=
  fe_mono (L0 := [(0, .ref a0), (1, .ref a1), (2, .ref a2)]) (vX9_nameAt n) (by decide +kernel) (hX9_nameAt n) (fe_ki_k r) n rfl ((eX9_nameAt (FX9_nameAt_0 n (FX9_nameAt_L n n).1 (FX9_nameAt_L n n).2) (FX9_nameAt_68 n (FX9_nameAt_L n n).1 (FX9_nameAt_L n n).2) (FX9_nameAt_L n n).1 (FX9_nameAt_L n n).2 a0 a1 a2 M).trans h)
theorem zX9_nameAt {s0 : State} {H0 : Heap} {oa : Nat → Nat} {D : va_G} (K : fk s0 H0 oa D) (l : Launch) (n : Nat) (a0 : Nat) (a1 : Nat) (a2 : Nat) (M : FM) (r : Int32 × FM) (h : FX9_nameAt n a0 a1 a2 M = some r) : fs_Con (fk_E s0 H0 oa D) l 3 ⟨"BoardMachine$Trees$Press", "nameAt", "(LBoardMachine$Trees$Tree;LBoardMachine$Trees$Piece;)I"⟩ prog_98_method_2_code 5 (Option.some Jvm.ClassFile.FieldType.int) [.ref a0, .ref a1, .ref a2] M (some (.int r.1)) r.2 := by
  have o0 : fs_OS (sX9_nameAt FX3_get FX3_addAll FX3_add (FX3_isSame n)) 0 1 (fs_Con (fk_E s0 H0 oa D) l 1 ⟨"BoardMachine$Trees$Row", "get", "(I)I"⟩ prog_100_method_2_code 2 (Option.some Jvm.ClassFile.FieldType.int)) := by
    intro As M r h
    obtain ⟨v0, t0, rfl, g0⟩ := fe_tR_d h
    obtain ⟨v1, t1, rfl, g1⟩ := fe_tI_d g0
    obtain ⟨rfl, hz⟩ := fe_t0_d g1
    exact zX3_get K l v0 v1 M r hz
  have o1 : fs_OS (sX9_nameAt FX3_get FX3_addAll FX3_add (FX3_isSame n)) 1 0 (fs_Con (fk_E s0 H0 oa D) l 2 ⟨"BoardMachine$Trees$Row", "addAll", "(LBoardMachine$Trees$Row;II)V"⟩ prog_100_method_8_code 4 (Option.none : Option Jvm.ClassFile.FieldType)) := by
    intro As M r h
    obtain ⟨v0, t0, rfl, g0⟩ := fe_tR_d h
    obtain ⟨v1, t1, rfl, g1⟩ := fe_tR_d g0
    obtain ⟨v2, t2, rfl, g2⟩ := fe_tI_d g1
    obtain ⟨v3, t3, rfl, g3⟩ := fe_tI_d g2
    obtain ⟨rfl, hz⟩ := fe_t0_d g3
    exact zX3_addAll K l v0 v1 v2 v3 M r hz
  have o2 : fs_OS (sX9_nameAt FX3_get FX3_addAll FX3_add (FX3_isSame n)) 2 0 (fs_Con (fk_E s0 H0 oa D) l 1 ⟨"BoardMachine$Trees$Row", "add", "(I)V"⟩ prog_100_method_3_code 2 (Option.none : Option Jvm.ClassFile.FieldType)) := by
    intro As M r h
    obtain ⟨v0, t0, rfl, g0⟩ := fe_tR_d h
    obtain ⟨v1, t1, rfl, g1⟩ := fe_tI_d g0
    obtain ⟨rfl, hz⟩ := fe_t0_d g1
    exact zX3_add K l v0 v1 M r hz
  have o3 : fs_OS (sX9_nameAt FX3_get FX3_addAll FX3_add (FX3_isSame n)) 3 1 (fs_Con (fk_E s0 H0 oa D) l 1 ⟨"BoardMachine$Trees$Row", "isSame", "(ILBoardMachine$Trees$Row;II)Z"⟩ prog_100_method_9_code 6 (Option.some Jvm.ClassFile.FieldType.boolean)) := by
    intro As M r h
    obtain ⟨v0, t0, rfl, g0⟩ := fe_tR_d h
    obtain ⟨v1, t1, rfl, g1⟩ := fe_tI_d g0
    obtain ⟨v2, t2, rfl, g2⟩ := fe_tR_d g1
    obtain ⟨v3, t3, rfl, g3⟩ := fe_tI_d g2
    obtain ⟨v4, t4, rfl, g4⟩ := fe_tI_d g3
    obtain ⟨rfl, hz⟩ := fe_t0_d g4
    exact zX3_isSame K l n v0 v1 v2 v3 v4 M r hz
  refine fs_method (own := "BoardMachine$Trees$Press") rfl (by decide) K.2.1 (by rw [fe_slen]; exact (Nat.le_of_ble_eq_true rfl)) (mX9_nameAt n a0 a1 a2 M r h) (hX9_nameAt n) n rfl (L0 := [(0, .ref a0), (1, .ref a1), (2, .ref a2)]) (fun E => fe_args_e E [.ref a0, .ref a1, .ref a2] 0) ((eX9_nameAt (FX9_nameAt_0 n (FX9_nameAt_L n n).1 (FX9_nameAt_L n n).2) (FX9_nameAt_68 n (FX9_nameAt_L n n).1 (FX9_nameAt_L n n).2) (FX9_nameAt_L n n).1 (FX9_nameAt_L n n).2 a0 a1 a2 M).trans h) (fe_ki_k r) (fun H hR => fs_nr_o (by decide) (by decide)) ?_
  intro p e s m args below meth c Q C hnm
  have hw : s0.WarmedH s.vm := C.2.2.2.2.1
  refine fe_all C fk_hwr cX9_nameAt [4, 7, 17, 24, 39, 46, 51, 55, 60, 79, 83, 87, 91, 94, 98, 102] (by decide +kernel) (fe_fil (cps := [(4, 7, .getfield 1078280530), (7, 10, .getfield 1099260248), (17, 20, .getfield 1078280530), (24, 27, .invokevirtual 9525334), (39, 42, .getfield 1069887820), (46, 49, .getfield 1078280530), (51, 54, .getfield 1103458654), (55, 58, .getfield 1065693516), (60, 63, .invokevirtual 223434838), (79, 82, .getfield 1078280530), (83, 86, .getfield 1103458654), (87, 90, .getfield 1065693516), (91, 94, .getfield 1069887820), (94, 97, .invokevirtual 83974230), (98, 101, .getfield 1078280530), (102, 105, .invokevirtual 142694486)]) (by decide +kernel) ?_)
  refine fs_c1 (fs_getf (pc := 4) (n := 1078280530) (idx := 21) (ref := "BoardMachine$Trees$Press") (O := "BoardMachine$Trees$Press") (name := "names") (desc := "LBoardMachine$Trees$Row;") C (by decide +kernel) (Or.inl (kw K hw q601)) (fun _ h => h) (Nat.le_of_ble_eq_true rfl) (Nat.le_of_ble_eq_true rfl) (fs_one (⟨_, ff_84_257 s0 H0 oa D⟩))) ?_
  refine fs_c1 (fs_getf (pc := 7) (n := 1099260248) (idx := 24) (ref := "BoardMachine$Trees$Row") (O := "BoardMachine$Trees$Row") (name := "size") (desc := "I") C (by decide +kernel) (Or.inr ⟨_, kF K hw q460⟩) (fun _ h => h) (Nat.le_of_ble_eq_true rfl) (Nat.le_of_ble_eq_true rfl) (fs_one (⟨_, ff_86_262 s0 H0 oa D⟩))) ?_
  refine fs_c1 (fs_getf (pc := 17) (n := 1078280530) (idx := 21) (ref := "BoardMachine$Trees$Press") (O := "BoardMachine$Trees$Press") (name := "names") (desc := "LBoardMachine$Trees$Row;") C (by decide +kernel) (Or.inl (kw K hw q601)) (fun _ h => h) (Nat.le_of_ble_eq_true rfl) (Nat.le_of_ble_eq_true rfl) (fs_one (⟨_, ff_84_257 s0 H0 oa D⟩))) ?_
  refine fs_c1 (fs_inv_virtual (pc := 24) (n := 9525334) C (Nat.le_of_ble_eq_true rfl) (Nat.le_of_ble_eq_true rfl) (fs_lk_virtual (idx := 28) (y := ⟨"BoardMachine$Trees$Row", "get", "(I)I"⟩) (bytes := prog_100_method_2_code) (maxL := 2) (rt := (Option.some Jvm.ClassFile.FieldType.int)) (d := 1) C (Nat.le_of_ble_eq_true rfl) (Nat.le_of_ble_eq_true rfl) (by decide +kernel) (kw K hw q2369) (kw K hw q313) (kw K hw q2367) (Or.inl (kw K hw q2366)) ⟨by decide, by decide⟩ rfl (Nat.le_of_ble_eq_true rfl) (Nat.le_of_ble_eq_true rfl) (fs_one (⟨_, rfl, kw K hw q2368⟩))) fs_con_mono o0) ?_
  refine fs_c1 (fs_getf (pc := 39) (n := 1069887820) (idx := 32) (ref := "BoardMachine$Trees$Piece") (O := "BoardMachine$Trees$Piece") (name := "size") (desc := "I") C (by decide +kernel) (Or.inr ⟨_, kF K hw q506⟩) (fun _ h => h) (Nat.le_of_ble_eq_true rfl) (Nat.le_of_ble_eq_true rfl) (fs_one (⟨_, ff_83_255 s0 H0 oa D⟩))) ?_
  refine fs_c1 (fs_getf (pc := 46) (n := 1078280530) (idx := 21) (ref := "BoardMachine$Trees$Press") (O := "BoardMachine$Trees$Press") (name := "names") (desc := "LBoardMachine$Trees$Row;") C (by decide +kernel) (Or.inl (kw K hw q601)) (fun _ h => h) (Nat.le_of_ble_eq_true rfl) (Nat.le_of_ble_eq_true rfl) (fs_one (⟨_, ff_84_257 s0 H0 oa D⟩))) ?_
  refine fs_c1 (fs_getf (pc := 51) (n := 1103458654) (idx := 35) (ref := "BoardMachine$Trees$Tree") (O := "BoardMachine$Trees$Tree") (name := "store") (desc := "LBoardMachine$Trees$Row;") C (by decide +kernel) (Or.inr ⟨_, kF K hw q567⟩) (fun _ h => h) (Nat.le_of_ble_eq_true rfl) (Nat.le_of_ble_eq_true rfl) (fs_one (⟨_, ff_87_263 s0 H0 oa D⟩))) ?_
  refine fs_c1 (fs_getf (pc := 55) (n := 1065693516) (idx := 40) (ref := "BoardMachine$Trees$Piece") (O := "BoardMachine$Trees$Piece") (name := "from") (desc := "I") C (by decide +kernel) (Or.inr ⟨_, kF K hw q504⟩) (fun _ h => h) (Nat.le_of_ble_eq_true rfl) (Nat.le_of_ble_eq_true rfl) (fs_one (⟨_, ff_83_254 s0 H0 oa D⟩))) ?_
  refine fs_c1 (fs_inv_virtual (pc := 60) (n := 223434838) C (Nat.le_of_ble_eq_true rfl) (Nat.le_of_ble_eq_true rfl) (fs_lk_virtual (idx := 43) (y := ⟨"BoardMachine$Trees$Row", "isSame", "(ILBoardMachine$Trees$Row;II)Z"⟩) (bytes := prog_100_method_9_code) (maxL := 6) (rt := (Option.some Jvm.ClassFile.FieldType.boolean)) (d := 1) C (Nat.le_of_ble_eq_true rfl) (Nat.le_of_ble_eq_true rfl) (by decide +kernel) (kw K hw q2373) (kw K hw q313) (kw K hw q2371) (Or.inl (kw K hw q2370)) ⟨by decide, by decide⟩ rfl (Nat.le_of_ble_eq_true rfl) (Nat.le_of_ble_eq_true rfl) (fs_one (⟨_, rfl, kw K hw q2372⟩))) fs_con_mono o3) ?_
  refine fs_c1 (fs_getf (pc := 79) (n := 1078280530) (idx := 21) (ref := "BoardMachine$Trees$Press") (O := "BoardMachine$Trees$Press") (name := "names") (desc := "LBoardMachine$Trees$Row;") C (by decide +kernel) (Or.inl (kw K hw q601)) (fun _ h => h) (Nat.le_of_ble_eq_true rfl) (Nat.le_of_ble_eq_true rfl) (fs_one (⟨_, ff_84_257 s0 H0 oa D⟩))) ?_
  refine fs_c1 (fs_getf (pc := 83) (n := 1103458654) (idx := 35) (ref := "BoardMachine$Trees$Tree") (O := "BoardMachine$Trees$Tree") (name := "store") (desc := "LBoardMachine$Trees$Row;") C (by decide +kernel) (Or.inr ⟨_, kF K hw q567⟩) (fun _ h => h) (Nat.le_of_ble_eq_true rfl) (Nat.le_of_ble_eq_true rfl) (fs_one (⟨_, ff_87_263 s0 H0 oa D⟩))) ?_
  refine fs_c1 (fs_getf (pc := 87) (n := 1065693516) (idx := 40) (ref := "BoardMachine$Trees$Piece") (O := "BoardMachine$Trees$Piece") (name := "from") (desc := "I") C (by decide +kernel) (Or.inr ⟨_, kF K hw q504⟩) (fun _ h => h) (Nat.le_of_ble_eq_true rfl) (Nat.le_of_ble_eq_true rfl) (fs_one (⟨_, ff_83_254 s0 H0 oa D⟩))) ?_
  refine fs_c1 (fs_getf (pc := 91) (n := 1069887820) (idx := 32) (ref := "BoardMachine$Trees$Piece") (O := "BoardMachine$Trees$Piece") (name := "size") (desc := "I") C (by decide +kernel) (Or.inr ⟨_, kF K hw q506⟩) (fun _ h => h) (Nat.le_of_ble_eq_true rfl) (Nat.le_of_ble_eq_true rfl) (fs_one (⟨_, ff_83_255 s0 H0 oa D⟩))) ?_
  refine fs_c1 (fs_inv_virtual (pc := 94) (n := 83974230) C (Nat.le_of_ble_eq_true rfl) (Nat.le_of_ble_eq_true rfl) (fs_lk_virtual (idx := 47) (y := ⟨"BoardMachine$Trees$Row", "addAll", "(LBoardMachine$Trees$Row;II)V"⟩) (bytes := prog_100_method_8_code) (maxL := 4) (rt := (Option.none : Option Jvm.ClassFile.FieldType)) (d := 2) C (Nat.le_of_ble_eq_true rfl) (Nat.le_of_ble_eq_true rfl) (by decide +kernel) (kw K hw q2237) (kw K hw q313) (kw K hw q2235) (Or.inl (kw K hw q2356)) ⟨by decide, by decide⟩ rfl (Nat.le_of_ble_eq_true rfl) (Nat.le_of_ble_eq_true rfl) (fs_one (⟨_, rfl, kw K hw q2236⟩))) fs_con_mono o1) ?_
  refine fs_c1 (fs_getf (pc := 98) (n := 1078280530) (idx := 21) (ref := "BoardMachine$Trees$Press") (O := "BoardMachine$Trees$Press") (name := "names") (desc := "LBoardMachine$Trees$Row;") C (by decide +kernel) (Or.inl (kw K hw q601)) (fun _ h => h) (Nat.le_of_ble_eq_true rfl) (Nat.le_of_ble_eq_true rfl) (fs_one (⟨_, ff_84_257 s0 H0 oa D⟩))) ?_
  refine fs_c1 (fs_inv_virtual (pc := 102) (n := 142694486) C (Nat.le_of_ble_eq_true rfl) (Nat.le_of_ble_eq_true rfl) (fs_lk_virtual (idx := 51) (y := ⟨"BoardMachine$Trees$Row", "add", "(I)V"⟩) (bytes := prog_100_method_3_code) (maxL := 2) (rt := (Option.none : Option Jvm.ClassFile.FieldType)) (d := 1) C (Nat.le_of_ble_eq_true rfl) (Nat.le_of_ble_eq_true rfl) (by decide +kernel) (kw K hw q2216) (kw K hw q313) (kw K hw q2214) (Or.inl (kw K hw q2357)) ⟨by decide, by decide⟩ rfl (Nat.le_of_ble_eq_true rfl) (Nat.le_of_ble_eq_true rfl) (fs_one (⟨_, rfl, kw K hw q2215⟩))) fs_con_mono o2) ?_
  exact fs_c0
theorem hX9_node (n : Nat) : fe_H (sX9_node (FX3_addNumber n) FX3_addAll FX3_add (FX3_fillUp n) (FX9_nameAt n)) cX9_node [0, 53] fe_kv [53] 77 (fun j => dX9_node (FX9_node_0 n (FX9_node_L53 n j)) (FX9_node_L53 n j)) := by
  intro j pc L st M r hc h
  rcases fe_mem_c hc with rfl | hc
  · obtain ⟨w0, m0, h⟩ := fe_lR_d h
    obtain ⟨w1, m1, h⟩ := fe_lR_d h
    obtain ⟨w2, m2, h⟩ := fe_lR_d h
    obtain ⟨rfl, hz⟩ := fe_t0_d h
    exact ⟨[(0, .ref w0), (1, .ref w1), (2, .ref w2)], (fe_cs m0 (fe_cs m1 (fe_cs m2 fe_nl))), Or.inr ((bX9_node_0 (FX3_addNumber n) FX3_addAll FX3_add (FX3_fillUp n) (FX9_nameAt n) (FX9_node_0 n (FX9_node_L53 n j)) (FX9_node_L53 n j) w0 w1 w2 M).symm.trans hz)⟩
  rcases fe_mem_c hc with rfl | hc
  · obtain ⟨w0, m0, h⟩ := fe_lR_d h
    obtain ⟨w1, m1, h⟩ := fe_lR_d h
    obtain ⟨w2, m2, h⟩ := fe_lR_d h
    obtain ⟨w3, m3, h⟩ := fe_lI_d h
    obtain ⟨rfl, hz⟩ := fe_t0_d h
    cases j with
    | zero => exact fe_no hz
    | succ j => exact ⟨[(0, .ref w0), (1, .ref w1), (2, .ref w2), (3, .int w3)], (fe_cs m0 (fe_cs m1 (fe_cs m2 (fe_cs m3 fe_nl)))), Or.inl ⟨j, rfl, (bX9_node_53 (FX3_addNumber n) FX3_addAll FX3_add (FX3_fillUp n) (FX9_nameAt n) (FX9_node_0 n (FX9_node_L53 n j)) (FX9_node_L53 n j) w0 w1 w2 w3 M).symm.trans hz⟩⟩
  exact fe_mem_0 hc
theorem vX9_node (n : Nat) : fe_SB (sX9_node (FX3_addNumber n) FX3_addAll FX3_add (FX3_fillUp n) (FX9_nameAt n)) := by
  refine ⟨?_, ?_, ?_, ?_⟩
  · intro i As M r h
    rcases fe_bc h with h | h
    · obtain ⟨v0, t0, rfl, g0⟩ := fe_tR_d h
      obtain ⟨v1, t1, rfl, g1⟩ := fe_tI_d g0
      obtain ⟨rfl, hz⟩ := fe_t0_d g1
      exact mX3_addNumber n v0 v1 M r hz
    rcases fe_bc h with h | h
    · obtain ⟨v0, t0, rfl, g0⟩ := fe_tR_d h
      obtain ⟨v1, t1, rfl, g1⟩ := fe_tR_d g0
      obtain ⟨v2, t2, rfl, g2⟩ := fe_tI_d g1
      obtain ⟨v3, t3, rfl, g3⟩ := fe_tI_d g2
      obtain ⟨rfl, hz⟩ := fe_t0_d g3
      exact mX3_addAll v0 v1 v2 v3 M r hz
    rcases fe_bc h with h | h
    · obtain ⟨v0, t0, rfl, g0⟩ := fe_tR_d h
      obtain ⟨v1, t1, rfl, g1⟩ := fe_tI_d g0
      obtain ⟨rfl, hz⟩ := fe_t0_d g1
      exact mX3_add v0 v1 M r hz
    rcases fe_bc h with h | h
    · obtain ⟨v0, t0, rfl, g0⟩ := fe_tR_d h
      obtain ⟨rfl, hz⟩ := fe_t0_d g0
      exact mX3_fillUp n v0 M r hz
    exact fe_no h
  · intro i As M r h
    rcases fe_bc h with h | h
    · obtain ⟨v0, t0, rfl, g0⟩ := fe_tR_d h
      obtain ⟨v1, t1, rfl, g1⟩ := fe_tR_d g0
      obtain ⟨v2, t2, rfl, g2⟩ := fe_tR_d g1
      obtain ⟨rfl, hz⟩ := fe_t0_d g2
      exact mX9_nameAt n v0 v1 v2 M r hz
    exact fe_no h
  · intro i As M r h
    exact fe_no h
  · intro i As M r h
    exact fe_no h
theorem eX9_node (g0 : Nat → Nat → Nat → FM → Option (FM)) (k53 : Nat → Nat → Nat → Int32 → FM → Option (FM)) (a0 : Nat) (a1 : Nat) (a2 : Nat) (M : FM) : dX9_node g0 k53 0 [(0, .ref a0), (1, .ref a1), (2, .ref a2)] [] M = g0 a0 a1 a2 M := by rfl
theorem mX9_node (n : Nat) (a0 : Nat) (a1 : Nat) (a2 : Nat) (M : FM) (r : FM) (h : FX9_node n a0 a1 a2 M = some r) : fm_nx M ≤ fm_nx r ∧ fm_ns M ≤ fm_ns r :=
  fe_mono (L0 := [(0, .ref a0), (1, .ref a1), (2, .ref a2)]) (vX9_node n) (by decide +kernel) (hX9_node n) (fe_kv_k r) n rfl ((eX9_node (FX9_node_0 n (FX9_node_L53 n n)) (FX9_node_L53 n n) a0 a1 a2 M).trans h)
theorem zX9_node {s0 : State} {H0 : Heap} {oa : Nat → Nat} {D : va_G} (K : fk s0 H0 oa D) (l : Launch) (n : Nat) (a0 : Nat) (a1 : Nat) (a2 : Nat) (M : FM) (r : FM) (h : FX9_node n a0 a1 a2 M = some r) : fs_Con (fk_E s0 H0 oa D) l 4 ⟨"BoardMachine$Trees$Press", "node", "(LBoardMachine$Trees$Tree;LBoardMachine$Trees$Node;)V"⟩ prog_98_method_3_code 5 (Option.none : Option Jvm.ClassFile.FieldType) [.ref a0, .ref a1, .ref a2] M none r := by
  have o0 : fs_OS (sX9_node (FX3_addNumber n) FX3_addAll FX3_add (FX3_fillUp n) (FX9_nameAt n)) 0 0 (fs_Con (fk_E s0 H0 oa D) l 2 ⟨"BoardMachine$Trees$Row", "addNumber", "(I)V"⟩ prog_100_method_4_code 3 (Option.none : Option Jvm.ClassFile.FieldType)) := by
    intro As M r h
    obtain ⟨v0, t0, rfl, g0⟩ := fe_tR_d h
    obtain ⟨v1, t1, rfl, g1⟩ := fe_tI_d g0
    obtain ⟨rfl, hz⟩ := fe_t0_d g1
    exact zX3_addNumber K l n v0 v1 M r hz
  have o1 : fs_OS (sX9_node (FX3_addNumber n) FX3_addAll FX3_add (FX3_fillUp n) (FX9_nameAt n)) 1 0 (fs_Con (fk_E s0 H0 oa D) l 2 ⟨"BoardMachine$Trees$Row", "addAll", "(LBoardMachine$Trees$Row;II)V"⟩ prog_100_method_8_code 4 (Option.none : Option Jvm.ClassFile.FieldType)) := by
    intro As M r h
    obtain ⟨v0, t0, rfl, g0⟩ := fe_tR_d h
    obtain ⟨v1, t1, rfl, g1⟩ := fe_tR_d g0
    obtain ⟨v2, t2, rfl, g2⟩ := fe_tI_d g1
    obtain ⟨v3, t3, rfl, g3⟩ := fe_tI_d g2
    obtain ⟨rfl, hz⟩ := fe_t0_d g3
    exact zX3_addAll K l v0 v1 v2 v3 M r hz
  have o2 : fs_OS (sX9_node (FX3_addNumber n) FX3_addAll FX3_add (FX3_fillUp n) (FX9_nameAt n)) 2 0 (fs_Con (fk_E s0 H0 oa D) l 1 ⟨"BoardMachine$Trees$Row", "add", "(I)V"⟩ prog_100_method_3_code 2 (Option.none : Option Jvm.ClassFile.FieldType)) := by
    intro As M r h
    obtain ⟨v0, t0, rfl, g0⟩ := fe_tR_d h
    obtain ⟨v1, t1, rfl, g1⟩ := fe_tI_d g0
    obtain ⟨rfl, hz⟩ := fe_t0_d g1
    exact zX3_add K l v0 v1 M r hz
  have o3 : fs_OS (sX9_node (FX3_addNumber n) FX3_addAll FX3_add (FX3_fillUp n) (FX9_nameAt n)) 3 0 (fs_Con (fk_E s0 H0 oa D) l 2 ⟨"BoardMachine$Trees$Row", "fillUp", "()V"⟩ prog_100_method_7_code 1 (Option.none : Option Jvm.ClassFile.FieldType)) := by
    intro As M r h
    obtain ⟨v0, t0, rfl, g0⟩ := fe_tR_d h
    obtain ⟨rfl, hz⟩ := fe_t0_d g0
    exact zX3_fillUp K l n v0 M r hz
  have o4 : fs_OS (sX9_node (FX3_addNumber n) FX3_addAll FX3_add (FX3_fillUp n) (FX9_nameAt n)) 4 1 (fs_Con (fk_E s0 H0 oa D) l 3 ⟨"BoardMachine$Trees$Press", "nameAt", "(LBoardMachine$Trees$Tree;LBoardMachine$Trees$Piece;)I"⟩ prog_98_method_2_code 5 (Option.some Jvm.ClassFile.FieldType.int)) := by
    intro As M r h
    obtain ⟨v0, t0, rfl, g0⟩ := fe_tR_d h
    obtain ⟨v1, t1, rfl, g1⟩ := fe_tR_d g0
    obtain ⟨v2, t2, rfl, g2⟩ := fe_tR_d g1
    obtain ⟨rfl, hz⟩ := fe_t0_d g2
    exact zX9_nameAt K l n v0 v1 v2 M r hz
  refine fs_method (own := "BoardMachine$Trees$Press") rfl (by decide) K.2.1 (by rw [fe_slen]; exact (Nat.le_of_ble_eq_true rfl)) (mX9_node n a0 a1 a2 M r h) (hX9_node n) n rfl (L0 := [(0, .ref a0), (1, .ref a1), (2, .ref a2)]) (fun E => fe_args_e E [.ref a0, .ref a1, .ref a2] 0) ((eX9_node (FX9_node_0 n (FX9_node_L53 n n)) (FX9_node_L53 n n) a0 a1 a2 M).trans h) (fe_kv_k r) (fun H hR => fs_nr_o (by decide) (by decide)) ?_
  intro p e s m args below meth c Q C hnm
  have hw : s0.WarmedH s.vm := C.2.2.2.2.1
  refine fe_all C fk_hwr cX9_node [1, 5, 9, 13, 17, 20, 24, 27, 30, 34, 38, 42, 45, 49, 55, 59, 67, 75, 79, 83, 88, 91, 94, 98, 105, 108, 111, 115, 119, 124, 127, 132, 135, 138, 142, 145] (by decide +kernel) (fe_fil (cps := [(1, 4, .getfield 1074086226), (5, 8, .invokevirtual 8476758), (9, 12, .getfield 1074086226), (13, 16, .getfield 1103458654), (17, 20, .getfield 1040523594), (20, 23, .getfield 1065693516), (24, 27, .getfield 1040523594), (27, 30, .getfield 1069887820), (30, 33, .invokevirtual 83974230), (34, 37, .getfield 1074086226), (38, 41, .invokevirtual 142694486), (42, 45, .getfield 1074086226), (45, 48, .invokevirtual 205609046), (49, 52, .getfield 1053106504), (55, 58, .getfield 1053106504), (59, 62, .getfield 1057300808), (67, 70, .getfield 1111847262), (75, 78, .getfield 1074086226), (79, 82, .invokevirtual 8476758), (83, 86, .getfield 1074086226), (88, 91, .getfield 1086673238), (91, 94, .getfield 1069887820), (94, 97, .invokevirtual 8476758), (98, 101, .getfield 1074086226), (105, 108, .getfield 1082478934), (108, 111, .invokevirtual 282153044), (111, 114, .invokevirtual 8476758), (115, 118, .getfield 1074086226), (119, 122, .getfield 1103458654), (124, 127, .getfield 1086673238), (127, 130, .getfield 1065693516), (132, 135, .getfield 1086673238), (135, 138, .getfield 1069887820), (138, 141, .invokevirtual 83974230), (142, 145, .getfield 1074086226), (145, 148, .invokevirtual 205609046)]) (by decide +kernel) ?_)
  refine fs_c1 (fs_getf (pc := 1) (n := 1074086226) (idx := 15) (ref := "BoardMachine$Trees$Press") (O := "BoardMachine$Trees$Press") (name := "out") (desc := "LBoardMachine$Trees$Row;") C (by decide +kernel) (Or.inl (kw K hw q599)) (fun _ h => h) (Nat.le_of_ble_eq_true rfl) (Nat.le_of_ble_eq_true rfl) (fs_one (⟨_, ff_84_256 s0 H0 oa D⟩))) ?_
  refine fs_c1 (fs_inv_virtual (pc := 5) (n := 8476758) C (Nat.le_of_ble_eq_true rfl) (Nat.le_of_ble_eq_true rfl) (fs_lk_virtual (idx := 54) (y := ⟨"BoardMachine$Trees$Row", "addNumber", "(I)V"⟩) (bytes := prog_100_method_4_code) (maxL := 3) (rt := (Option.none : Option Jvm.ClassFile.FieldType)) (d := 2) C (Nat.le_of_ble_eq_true rfl) (Nat.le_of_ble_eq_true rfl) (by decide +kernel) (kw K hw q2220) (kw K hw q313) (kw K hw q2218) (Or.inl (kw K hw q2351)) ⟨by decide, by decide⟩ rfl (Nat.le_of_ble_eq_true rfl) (Nat.le_of_ble_eq_true rfl) (fs_one (⟨_, rfl, kw K hw q2219⟩))) fs_con_mono o0) ?_
  refine fs_c1 (fs_getf (pc := 9) (n := 1074086226) (idx := 15) (ref := "BoardMachine$Trees$Press") (O := "BoardMachine$Trees$Press") (name := "out") (desc := "LBoardMachine$Trees$Row;") C (by decide +kernel) (Or.inl (kw K hw q599)) (fun _ h => h) (Nat.le_of_ble_eq_true rfl) (Nat.le_of_ble_eq_true rfl) (fs_one (⟨_, ff_84_256 s0 H0 oa D⟩))) ?_
  refine fs_c1 (fs_getf (pc := 13) (n := 1103458654) (idx := 35) (ref := "BoardMachine$Trees$Tree") (O := "BoardMachine$Trees$Tree") (name := "store") (desc := "LBoardMachine$Trees$Row;") C (by decide +kernel) (Or.inr ⟨_, kF K hw q567⟩) (fun _ h => h) (Nat.le_of_ble_eq_true rfl) (Nat.le_of_ble_eq_true rfl) (fs_one (⟨_, ff_87_263 s0 H0 oa D⟩))) ?_
  refine fs_c1 (fs_getf (pc := 17) (n := 1040523594) (idx := 57) (ref := "BoardMachine$Trees$Node") (O := "BoardMachine$Trees$Node") (name := "name") (desc := "LBoardMachine$Trees$Piece;") C (by decide +kernel) (Or.inr ⟨_, kF K hw q514⟩) (fun _ h => h) (Nat.le_of_ble_eq_true rfl) (Nat.le_of_ble_eq_true rfl) (fs_one (⟨_, ff_82_248 s0 H0 oa D⟩))) ?_
  refine fs_c1 (fs_getf (pc := 20) (n := 1065693516) (idx := 40) (ref := "BoardMachine$Trees$Piece") (O := "BoardMachine$Trees$Piece") (name := "from") (desc := "I") C (by decide +kernel) (Or.inr ⟨_, kF K hw q504⟩) (fun _ h => h) (Nat.le_of_ble_eq_true rfl) (Nat.le_of_ble_eq_true rfl) (fs_one (⟨_, ff_83_254 s0 H0 oa D⟩))) ?_
  refine fs_c1 (fs_getf (pc := 24) (n := 1040523594) (idx := 57) (ref := "BoardMachine$Trees$Node") (O := "BoardMachine$Trees$Node") (name := "name") (desc := "LBoardMachine$Trees$Piece;") C (by decide +kernel) (Or.inr ⟨_, kF K hw q514⟩) (fun _ h => h) (Nat.le_of_ble_eq_true rfl) (Nat.le_of_ble_eq_true rfl) (fs_one (⟨_, ff_82_248 s0 H0 oa D⟩))) ?_
  refine fs_c1 (fs_getf (pc := 27) (n := 1069887820) (idx := 32) (ref := "BoardMachine$Trees$Piece") (O := "BoardMachine$Trees$Piece") (name := "size") (desc := "I") C (by decide +kernel) (Or.inr ⟨_, kF K hw q506⟩) (fun _ h => h) (Nat.le_of_ble_eq_true rfl) (Nat.le_of_ble_eq_true rfl) (fs_one (⟨_, ff_83_255 s0 H0 oa D⟩))) ?_
  refine fs_c1 (fs_inv_virtual (pc := 30) (n := 83974230) C (Nat.le_of_ble_eq_true rfl) (Nat.le_of_ble_eq_true rfl) (fs_lk_virtual (idx := 47) (y := ⟨"BoardMachine$Trees$Row", "addAll", "(LBoardMachine$Trees$Row;II)V"⟩) (bytes := prog_100_method_8_code) (maxL := 4) (rt := (Option.none : Option Jvm.ClassFile.FieldType)) (d := 2) C (Nat.le_of_ble_eq_true rfl) (Nat.le_of_ble_eq_true rfl) (by decide +kernel) (kw K hw q2237) (kw K hw q313) (kw K hw q2235) (Or.inl (kw K hw q2356)) ⟨by decide, by decide⟩ rfl (Nat.le_of_ble_eq_true rfl) (Nat.le_of_ble_eq_true rfl) (fs_one (⟨_, rfl, kw K hw q2236⟩))) fs_con_mono o1) ?_
  refine fs_c1 (fs_getf (pc := 34) (n := 1074086226) (idx := 15) (ref := "BoardMachine$Trees$Press") (O := "BoardMachine$Trees$Press") (name := "out") (desc := "LBoardMachine$Trees$Row;") C (by decide +kernel) (Or.inl (kw K hw q599)) (fun _ h => h) (Nat.le_of_ble_eq_true rfl) (Nat.le_of_ble_eq_true rfl) (fs_one (⟨_, ff_84_256 s0 H0 oa D⟩))) ?_
  refine fs_c1 (fs_inv_virtual (pc := 38) (n := 142694486) C (Nat.le_of_ble_eq_true rfl) (Nat.le_of_ble_eq_true rfl) (fs_lk_virtual (idx := 51) (y := ⟨"BoardMachine$Trees$Row", "add", "(I)V"⟩) (bytes := prog_100_method_3_code) (maxL := 2) (rt := (Option.none : Option Jvm.ClassFile.FieldType)) (d := 1) C (Nat.le_of_ble_eq_true rfl) (Nat.le_of_ble_eq_true rfl) (by decide +kernel) (kw K hw q2216) (kw K hw q313) (kw K hw q2214) (Or.inl (kw K hw q2357)) ⟨by decide, by decide⟩ rfl (Nat.le_of_ble_eq_true rfl) (Nat.le_of_ble_eq_true rfl) (fs_one (⟨_, rfl, kw K hw q2215⟩))) fs_con_mono o2) ?_
  refine fs_c1 (fs_getf (pc := 42) (n := 1074086226) (idx := 15) (ref := "BoardMachine$Trees$Press") (O := "BoardMachine$Trees$Press") (name := "out") (desc := "LBoardMachine$Trees$Row;") C (by decide +kernel) (Or.inl (kw K hw q599)) (fun _ h => h) (Nat.le_of_ble_eq_true rfl) (Nat.le_of_ble_eq_true rfl) (fs_one (⟨_, ff_84_256 s0 H0 oa D⟩))) ?_
  refine fs_c1 (fs_inv_virtual (pc := 45) (n := 205609046) C (Nat.le_of_ble_eq_true rfl) (Nat.le_of_ble_eq_true rfl) (fs_lk_virtual (idx := 63) (y := ⟨"BoardMachine$Trees$Row", "fillUp", "()V"⟩) (bytes := prog_100_method_7_code) (maxL := 1) (rt := (Option.none : Option Jvm.ClassFile.FieldType)) (d := 2) C (Nat.le_of_ble_eq_true rfl) (Nat.le_of_ble_eq_true rfl) (by decide +kernel) (kw K hw q2361) (kw K hw q313) (kw K hw q2359) (Or.inl (kw K hw q2358)) ⟨by decide, by decide⟩ rfl (Nat.le_of_ble_eq_true rfl) (Nat.le_of_ble_eq_true rfl) (fs_one (⟨_, rfl, kw K hw q2360⟩))) fs_con_mono o3) ?_
  refine fs_c1 (fs_getf (pc := 49) (n := 1053106504) (idx := 66) (ref := "BoardMachine$Trees$Node") (O := "BoardMachine$Trees$Node") (name := "firstProperty") (desc := "I") C (by decide +kernel) (Or.inr ⟨_, kF K hw q520⟩) (fun _ h => h) (Nat.le_of_ble_eq_true rfl) (Nat.le_of_ble_eq_true rfl) (fs_one (⟨_, ff_82_251 s0 H0 oa D⟩))) ?_
  refine fs_c1 (fs_getf (pc := 55) (n := 1053106504) (idx := 66) (ref := "BoardMachine$Trees$Node") (O := "BoardMachine$Trees$Node") (name := "firstProperty") (desc := "I") C (by decide +kernel) (Or.inr ⟨_, kF K hw q520⟩) (fun _ h => h) (Nat.le_of_ble_eq_true rfl) (Nat.le_of_ble_eq_true rfl) (fs_one (⟨_, ff_82_251 s0 H0 oa D⟩))) ?_
  refine fs_c1 (fs_getf (pc := 59) (n := 1057300808) (idx := 69) (ref := "BoardMachine$Trees$Node") (O := "BoardMachine$Trees$Node") (name := "properties") (desc := "I") C (by decide +kernel) (Or.inr ⟨_, kF K hw q522⟩) (fun _ h => h) (Nat.le_of_ble_eq_true rfl) (Nat.le_of_ble_eq_true rfl) (fs_one (⟨_, ff_82_252 s0 H0 oa D⟩))) ?_
  refine fs_c1 (fs_getf (pc := 67) (n := 1111847262) (idx := 72) (ref := "BoardMachine$Trees$Tree") (O := "BoardMachine$Trees$Tree") (name := "properties") (desc := "[LBoardMachine$Trees$Property;") C (by decide +kernel) (Or.inr ⟨_, kF K hw q572⟩) (fun _ h => h) (Nat.le_of_ble_eq_true rfl) (Nat.le_of_ble_eq_true rfl) (fs_one (⟨_, ff_87_265 s0 H0 oa D⟩))) ?_
  refine fs_c1 (fs_getf (pc := 75) (n := 1074086226) (idx := 15) (ref := "BoardMachine$Trees$Press") (O := "BoardMachine$Trees$Press") (name := "out") (desc := "LBoardMachine$Trees$Row;") C (by decide +kernel) (Or.inl (kw K hw q599)) (fun _ h => h) (Nat.le_of_ble_eq_true rfl) (Nat.le_of_ble_eq_true rfl) (fs_one (⟨_, ff_84_256 s0 H0 oa D⟩))) ?_
  refine fs_c1 (fs_inv_virtual (pc := 79) (n := 8476758) C (Nat.le_of_ble_eq_true rfl) (Nat.le_of_ble_eq_true rfl) (fs_lk_virtual (idx := 54) (y := ⟨"BoardMachine$Trees$Row", "addNumber", "(I)V"⟩) (bytes := prog_100_method_4_code) (maxL := 3) (rt := (Option.none : Option Jvm.ClassFile.FieldType)) (d := 2) C (Nat.le_of_ble_eq_true rfl) (Nat.le_of_ble_eq_true rfl) (by decide +kernel) (kw K hw q2220) (kw K hw q313) (kw K hw q2218) (Or.inl (kw K hw q2351)) ⟨by decide, by decide⟩ rfl (Nat.le_of_ble_eq_true rfl) (Nat.le_of_ble_eq_true rfl) (fs_one (⟨_, rfl, kw K hw q2219⟩))) fs_con_mono o0) ?_
  refine fs_c1 (fs_getf (pc := 83) (n := 1074086226) (idx := 15) (ref := "BoardMachine$Trees$Press") (O := "BoardMachine$Trees$Press") (name := "out") (desc := "LBoardMachine$Trees$Row;") C (by decide +kernel) (Or.inl (kw K hw q599)) (fun _ h => h) (Nat.le_of_ble_eq_true rfl) (Nat.le_of_ble_eq_true rfl) (fs_one (⟨_, ff_84_256 s0 H0 oa D⟩))) ?_
  refine fs_c1 (fs_getf (pc := 88) (n := 1086673238) (idx := 75) (ref := "BoardMachine$Trees$Property") (O := "BoardMachine$Trees$Property") (name := "value") (desc := "LBoardMachine$Trees$Piece;") C (by decide +kernel) (Or.inr ⟨_, kF K hw q548⟩) (fun _ h => h) (Nat.le_of_ble_eq_true rfl) (Nat.le_of_ble_eq_true rfl) (fs_one (⟨_, ff_85_259 s0 H0 oa D⟩))) ?_
  refine fs_c1 (fs_getf (pc := 91) (n := 1069887820) (idx := 32) (ref := "BoardMachine$Trees$Piece") (O := "BoardMachine$Trees$Piece") (name := "size") (desc := "I") C (by decide +kernel) (Or.inr ⟨_, kF K hw q506⟩) (fun _ h => h) (Nat.le_of_ble_eq_true rfl) (Nat.le_of_ble_eq_true rfl) (fs_one (⟨_, ff_83_255 s0 H0 oa D⟩))) ?_
  refine fs_c1 (fs_inv_virtual (pc := 94) (n := 8476758) C (Nat.le_of_ble_eq_true rfl) (Nat.le_of_ble_eq_true rfl) (fs_lk_virtual (idx := 54) (y := ⟨"BoardMachine$Trees$Row", "addNumber", "(I)V"⟩) (bytes := prog_100_method_4_code) (maxL := 3) (rt := (Option.none : Option Jvm.ClassFile.FieldType)) (d := 2) C (Nat.le_of_ble_eq_true rfl) (Nat.le_of_ble_eq_true rfl) (by decide +kernel) (kw K hw q2220) (kw K hw q313) (kw K hw q2218) (Or.inl (kw K hw q2351)) ⟨by decide, by decide⟩ rfl (Nat.le_of_ble_eq_true rfl) (Nat.le_of_ble_eq_true rfl) (fs_one (⟨_, rfl, kw K hw q2219⟩))) fs_con_mono o0) ?_
  refine fs_c1 (fs_getf (pc := 98) (n := 1074086226) (idx := 15) (ref := "BoardMachine$Trees$Press") (O := "BoardMachine$Trees$Press") (name := "out") (desc := "LBoardMachine$Trees$Row;") C (by decide +kernel) (Or.inl (kw K hw q599)) (fun _ h => h) (Nat.le_of_ble_eq_true rfl) (Nat.le_of_ble_eq_true rfl) (fs_one (⟨_, ff_84_256 s0 H0 oa D⟩))) ?_
  refine fs_c1 (fs_getf (pc := 105) (n := 1082478934) (idx := 80) (ref := "BoardMachine$Trees$Property") (O := "BoardMachine$Trees$Property") (name := "name") (desc := "LBoardMachine$Trees$Piece;") C (by decide +kernel) (Or.inr ⟨_, kF K hw q545⟩) (fun _ h => h) (Nat.le_of_ble_eq_true rfl) (Nat.le_of_ble_eq_true rfl) (fs_one (⟨_, ff_85_258 s0 H0 oa D⟩))) ?_
  refine fs_c1 (fs_inv_virtual (pc := 108) (n := 282153044) C (Nat.le_of_ble_eq_true rfl) (Nat.le_of_ble_eq_true rfl) (fs_lk_virtual (idx := 81) (y := ⟨"BoardMachine$Trees$Press", "nameAt", "(LBoardMachine$Trees$Tree;LBoardMachine$Trees$Piece;)I"⟩) (bytes := prog_98_method_2_code) (maxL := 5) (rt := (Option.some Jvm.ClassFile.FieldType.int)) (d := 3) C (Nat.le_of_ble_eq_true rfl) (Nat.le_of_ble_eq_true rfl) (by decide +kernel) (kw K hw q2365) (kw K hw q319) (kw K hw q2364) (Or.inl (kw K hw q2362)) ⟨by decide, by decide⟩ rfl (Nat.le_of_ble_eq_true rfl) (Nat.le_of_ble_eq_true rfl) (fs_one (⟨_, rfl, kw K hw qs20⟩))) fs_con_mono o4) ?_
  refine fs_c1 (fs_inv_virtual (pc := 111) (n := 8476758) C (Nat.le_of_ble_eq_true rfl) (Nat.le_of_ble_eq_true rfl) (fs_lk_virtual (idx := 54) (y := ⟨"BoardMachine$Trees$Row", "addNumber", "(I)V"⟩) (bytes := prog_100_method_4_code) (maxL := 3) (rt := (Option.none : Option Jvm.ClassFile.FieldType)) (d := 2) C (Nat.le_of_ble_eq_true rfl) (Nat.le_of_ble_eq_true rfl) (by decide +kernel) (kw K hw q2220) (kw K hw q313) (kw K hw q2218) (Or.inl (kw K hw q2351)) ⟨by decide, by decide⟩ rfl (Nat.le_of_ble_eq_true rfl) (Nat.le_of_ble_eq_true rfl) (fs_one (⟨_, rfl, kw K hw q2219⟩))) fs_con_mono o0) ?_
  refine fs_c1 (fs_getf (pc := 115) (n := 1074086226) (idx := 15) (ref := "BoardMachine$Trees$Press") (O := "BoardMachine$Trees$Press") (name := "out") (desc := "LBoardMachine$Trees$Row;") C (by decide +kernel) (Or.inl (kw K hw q599)) (fun _ h => h) (Nat.le_of_ble_eq_true rfl) (Nat.le_of_ble_eq_true rfl) (fs_one (⟨_, ff_84_256 s0 H0 oa D⟩))) ?_
  refine fs_c1 (fs_getf (pc := 119) (n := 1103458654) (idx := 35) (ref := "BoardMachine$Trees$Tree") (O := "BoardMachine$Trees$Tree") (name := "store") (desc := "LBoardMachine$Trees$Row;") C (by decide +kernel) (Or.inr ⟨_, kF K hw q567⟩) (fun _ h => h) (Nat.le_of_ble_eq_true rfl) (Nat.le_of_ble_eq_true rfl) (fs_one (⟨_, ff_87_263 s0 H0 oa D⟩))) ?_
  refine fs_c1 (fs_getf (pc := 124) (n := 1086673238) (idx := 75) (ref := "BoardMachine$Trees$Property") (O := "BoardMachine$Trees$Property") (name := "value") (desc := "LBoardMachine$Trees$Piece;") C (by decide +kernel) (Or.inr ⟨_, kF K hw q548⟩) (fun _ h => h) (Nat.le_of_ble_eq_true rfl) (Nat.le_of_ble_eq_true rfl) (fs_one (⟨_, ff_85_259 s0 H0 oa D⟩))) ?_
  refine fs_c1 (fs_getf (pc := 127) (n := 1065693516) (idx := 40) (ref := "BoardMachine$Trees$Piece") (O := "BoardMachine$Trees$Piece") (name := "from") (desc := "I") C (by decide +kernel) (Or.inr ⟨_, kF K hw q504⟩) (fun _ h => h) (Nat.le_of_ble_eq_true rfl) (Nat.le_of_ble_eq_true rfl) (fs_one (⟨_, ff_83_254 s0 H0 oa D⟩))) ?_
  refine fs_c1 (fs_getf (pc := 132) (n := 1086673238) (idx := 75) (ref := "BoardMachine$Trees$Property") (O := "BoardMachine$Trees$Property") (name := "value") (desc := "LBoardMachine$Trees$Piece;") C (by decide +kernel) (Or.inr ⟨_, kF K hw q548⟩) (fun _ h => h) (Nat.le_of_ble_eq_true rfl) (Nat.le_of_ble_eq_true rfl) (fs_one (⟨_, ff_85_259 s0 H0 oa D⟩))) ?_
  refine fs_c1 (fs_getf (pc := 135) (n := 1069887820) (idx := 32) (ref := "BoardMachine$Trees$Piece") (O := "BoardMachine$Trees$Piece") (name := "size") (desc := "I") C (by decide +kernel) (Or.inr ⟨_, kF K hw q506⟩) (fun _ h => h) (Nat.le_of_ble_eq_true rfl) (Nat.le_of_ble_eq_true rfl) (fs_one (⟨_, ff_83_255 s0 H0 oa D⟩))) ?_
  refine fs_c1 (fs_inv_virtual (pc := 138) (n := 83974230) C (Nat.le_of_ble_eq_true rfl) (Nat.le_of_ble_eq_true rfl) (fs_lk_virtual (idx := 47) (y := ⟨"BoardMachine$Trees$Row", "addAll", "(LBoardMachine$Trees$Row;II)V"⟩) (bytes := prog_100_method_8_code) (maxL := 4) (rt := (Option.none : Option Jvm.ClassFile.FieldType)) (d := 2) C (Nat.le_of_ble_eq_true rfl) (Nat.le_of_ble_eq_true rfl) (by decide +kernel) (kw K hw q2237) (kw K hw q313) (kw K hw q2235) (Or.inl (kw K hw q2356)) ⟨by decide, by decide⟩ rfl (Nat.le_of_ble_eq_true rfl) (Nat.le_of_ble_eq_true rfl) (fs_one (⟨_, rfl, kw K hw q2236⟩))) fs_con_mono o1) ?_
  refine fs_c1 (fs_getf (pc := 142) (n := 1074086226) (idx := 15) (ref := "BoardMachine$Trees$Press") (O := "BoardMachine$Trees$Press") (name := "out") (desc := "LBoardMachine$Trees$Row;") C (by decide +kernel) (Or.inl (kw K hw q599)) (fun _ h => h) (Nat.le_of_ble_eq_true rfl) (Nat.le_of_ble_eq_true rfl) (fs_one (⟨_, ff_84_256 s0 H0 oa D⟩))) ?_
  refine fs_c1 (fs_inv_virtual (pc := 145) (n := 205609046) C (Nat.le_of_ble_eq_true rfl) (Nat.le_of_ble_eq_true rfl) (fs_lk_virtual (idx := 63) (y := ⟨"BoardMachine$Trees$Row", "fillUp", "()V"⟩) (bytes := prog_100_method_7_code) (maxL := 1) (rt := (Option.none : Option Jvm.ClassFile.FieldType)) (d := 2) C (Nat.le_of_ble_eq_true rfl) (Nat.le_of_ble_eq_true rfl) (by decide +kernel) (kw K hw q2361) (kw K hw q313) (kw K hw q2359) (Or.inl (kw K hw q2358)) ⟨by decide, by decide⟩ rfl (Nat.le_of_ble_eq_true rfl) (Nat.le_of_ble_eq_true rfl) (fs_one (⟨_, rfl, kw K hw q2360⟩))) fs_con_mono o3) ?_
  exact fs_c0
theorem hX3_putNumber (n : Nat) : fe_H (sX3_putNumber) cX3_putNumber [0, 2] fe_kv [2] 27 (fun j => dX3_putNumber (FX3_putNumber_0 n (FX3_putNumber_L2 n j)) (FX3_putNumber_L2 n j)) := by
  intro j pc L st M r hc h
  rcases fe_mem_c hc with rfl | hc
  · obtain ⟨w0, m0, h⟩ := fe_lR_d h
    obtain ⟨w1, m1, h⟩ := fe_lI_d h
    obtain ⟨w2, m2, h⟩ := fe_lI_d h
    obtain ⟨rfl, hz⟩ := fe_t0_d h
    exact ⟨[(0, .ref w0), (1, .int w1), (2, .int w2)], (fe_cs m0 (fe_cs m1 (fe_cs m2 fe_nl))), Or.inr ((bX3_putNumber_0 (FX3_putNumber_0 n (FX3_putNumber_L2 n j)) (FX3_putNumber_L2 n j) w0 w1 w2 M).symm.trans hz)⟩
  rcases fe_mem_c hc with rfl | hc
  · obtain ⟨w0, m0, h⟩ := fe_lR_d h
    obtain ⟨w1, m1, h⟩ := fe_lI_d h
    obtain ⟨w2, m2, h⟩ := fe_lI_d h
    obtain ⟨w3, m3, h⟩ := fe_lI_d h
    obtain ⟨rfl, hz⟩ := fe_t0_d h
    cases j with
    | zero => exact fe_no hz
    | succ j => exact ⟨[(0, .ref w0), (1, .int w1), (2, .int w2), (3, .int w3)], (fe_cs m0 (fe_cs m1 (fe_cs m2 (fe_cs m3 fe_nl)))), Or.inl ⟨j, rfl, (bX3_putNumber_2 (FX3_putNumber_0 n (FX3_putNumber_L2 n j)) (FX3_putNumber_L2 n j) w0 w1 w2 w3 M).symm.trans hz⟩⟩
  exact fe_mem_0 hc
theorem vX3_putNumber (n : Nat) : fe_SB (sX3_putNumber) := by
  refine ⟨?_, ?_, ?_, ?_⟩
  · intro i As M r h
    exact fe_no h
  · intro i As M r h
    exact fe_no h
  · intro i As M r h
    exact fe_no h
  · intro i As M r h
    exact fe_no h
theorem eX3_putNumber (g0 : Nat → Int32 → Int32 → FM → Option (FM)) (k2 : Nat → Int32 → Int32 → Int32 → FM → Option (FM)) (a0 : Nat) (a1 : Int32) (a2 : Int32) (M : FM) : dX3_putNumber g0 k2 0 [(0, .ref a0), (1, .int a1), (2, .int a2)] [] M = g0 a0 a1 a2 M := by rfl
theorem mX3_putNumber (n : Nat) (a0 : Nat) (a1 : Int32) (a2 : Int32) (M : FM) (r : FM) (h : FX3_putNumber n a0 a1 a2 M = some r) : fm_nx M ≤ fm_nx r ∧ fm_ns M ≤ fm_ns r :=
  fe_mono (L0 := [(0, .ref a0), (1, .int a1), (2, .int a2)]) (vX3_putNumber n) (by decide +kernel) (hX3_putNumber n) (fe_kv_k r) n rfl ((eX3_putNumber (FX3_putNumber_0 n (FX3_putNumber_L2 n n)) (FX3_putNumber_L2 n n) a0 a1 a2 M).trans h)
theorem zX3_putNumber {s0 : State} {H0 : Heap} {oa : Nat → Nat} {D : va_G} (K : fk s0 H0 oa D) (l : Launch) (n : Nat) (a0 : Nat) (a1 : Int32) (a2 : Int32) (M : FM) (r : FM) (h : FX3_putNumber n a0 a1 a2 M = some r) : fs_Con (fk_E s0 H0 oa D) l 1 ⟨"BoardMachine$Trees$Row", "putNumber", "(II)V"⟩ prog_100_method_5_code 4 (Option.none : Option Jvm.ClassFile.FieldType) [.ref a0, .int a1, .int a2] M none r := by
  refine fs_method (own := "BoardMachine$Trees$Row") rfl (by decide) K.2.1 (by rw [fe_slen]; exact (Nat.le_of_ble_eq_true rfl)) (mX3_putNumber n a0 a1 a2 M r h) (hX3_putNumber n) n rfl (L0 := [(0, .ref a0), (1, .int a1), (2, .int a2)]) (fun E => fe_args_e E [.ref a0, .int a1, .int a2] 0) ((eX3_putNumber (FX3_putNumber_0 n (FX3_putNumber_L2 n n)) (FX3_putNumber_L2 n n) a0 a1 a2 M).trans h) (fe_kv_k r) (fun H hR => fs_nr_o (by decide) (by decide)) ?_
  intro p e s m args below meth c Q C hnm
  have hw : s0.WarmedH s.vm := C.2.2.2.2.1
  refine fe_all C fk_hwr cX3_putNumber [8] (by decide +kernel) (fe_fil (cps := [(8, 11, .getfield 1095065946)]) (by decide +kernel) ?_)
  refine fs_c1 (fs_getf (pc := 8) (n := 1095065946) (idx := 7) (ref := "BoardMachine$Trees$Row") (O := "BoardMachine$Trees$Row") (name := "bytes") (desc := "[B") C (by decide +kernel) (Or.inl (kw K hw q456)) (fun _ h => h) (Nat.le_of_ble_eq_true rfl) (Nat.le_of_ble_eq_true rfl) (fs_one (⟨_, ff_86_261 s0 H0 oa D⟩))) ?_
  exact fs_c0
theorem hX9_head (n : Nat) : fe_H (sX9_head (FX3_putNumber n)) cX9_head [0] fe_kv [] 55 (fun _ => dX9_head (FX9_head_0 n)) := by
  intro j pc L st M r hc h
  rcases fe_mem_c hc with rfl | hc
  · obtain ⟨w0, m0, h⟩ := fe_lR_d h
    obtain ⟨w1, m1, h⟩ := fe_lI_d h
    obtain ⟨w2, m2, h⟩ := fe_lI_d h
    obtain ⟨rfl, hz⟩ := fe_t0_d h
    exact ⟨[(0, .ref w0), (1, .int w1), (2, .int w2)], (fe_cs m0 (fe_cs m1 (fe_cs m2 fe_nl))), Or.inr ((bX9_head_0 (FX3_putNumber n) (FX9_head_0 n ) w0 w1 w2 M).symm.trans hz)⟩
  exact fe_mem_0 hc
theorem vX9_head (n : Nat) : fe_SB (sX9_head (FX3_putNumber n)) := by
  refine ⟨?_, ?_, ?_, ?_⟩
  · intro i As M r h
    rcases fe_bc h with h | h
    · obtain ⟨v0, t0, rfl, g0⟩ := fe_tR_d h
      obtain ⟨v1, t1, rfl, g1⟩ := fe_tI_d g0
      obtain ⟨v2, t2, rfl, g2⟩ := fe_tI_d g1
      obtain ⟨rfl, hz⟩ := fe_t0_d g2
      exact mX3_putNumber n v0 v1 v2 M r hz
    exact fe_no h
  · intro i As M r h
    exact fe_no h
  · intro i As M r h
    exact fe_no h
  · intro i As M r h
    exact fe_no h
theorem eX9_head (g0 : Nat → Int32 → Int32 → FM → Option (FM)) (a0 : Nat) (a1 : Int32) (a2 : Int32) (M : FM) : dX9_head g0 0 [(0, .ref a0), (1, .int a1), (2, .int a2)] [] M = g0 a0 a1 a2 M := by rfl
theorem mX9_head (n : Nat) (a0 : Nat) (a1 : Int32) (a2 : Int32) (M : FM) (r : FM) (h : FX9_head n a0 a1 a2 M = some r) : fm_nx M ≤ fm_nx r ∧ fm_ns M ≤ fm_ns r :=
  fe_mono (L0 := [(0, .ref a0), (1, .int a1), (2, .int a2)]) (vX9_head n) (by decide +kernel) (hX9_head n) (fe_kv_k r) 0 rfl ((eX9_head (FX9_head_0 n ) a0 a1 a2 M).trans h)
theorem zX9_head {s0 : State} {H0 : Heap} {oa : Nat → Nat} {D : va_G} (K : fk s0 H0 oa D) (l : Launch) (n : Nat) (a0 : Nat) (a1 : Int32) (a2 : Int32) (M : FM) (r : FM) (h : FX9_head n a0 a1 a2 M = some r) : fs_Con (fk_E s0 H0 oa D) l 2 ⟨"BoardMachine$Trees$Press", "head", "(II)V"⟩ prog_98_method_4_code 3 (Option.none : Option Jvm.ClassFile.FieldType) [.ref a0, .int a1, .int a2] M none r := by
  have o0 : fs_OS (sX9_head (FX3_putNumber n)) 0 0 (fs_Con (fk_E s0 H0 oa D) l 1 ⟨"BoardMachine$Trees$Row", "putNumber", "(II)V"⟩ prog_100_method_5_code 4 (Option.none : Option Jvm.ClassFile.FieldType)) := by
    intro As M r h
    obtain ⟨v0, t0, rfl, g0⟩ := fe_tR_d h
    obtain ⟨v1, t1, rfl, g1⟩ := fe_tI_d g0
    obtain ⟨v2, t2, rfl, g2⟩ := fe_tI_d g1
    obtain ⟨rfl, hz⟩ := fe_t0_d g2
    exact zX3_putNumber K l n v0 v1 v2 M r hz
  refine fs_method (own := "BoardMachine$Trees$Press") rfl (by decide) K.2.1 (by rw [fe_slen]; exact (Nat.le_of_ble_eq_true rfl)) (mX9_head n a0 a1 a2 M r h) (hX9_head n) 0 rfl (L0 := [(0, .ref a0), (1, .int a1), (2, .int a2)]) (fun E => fe_args_e E [.ref a0, .int a1, .int a2] 0) ((eX9_head (FX9_head_0 n ) a0 a1 a2 M).trans h) (fe_kv_k r) (fun H hR => fs_nr_o (by decide) (by decide)) ?_
  intro p e s m args below meth c Q C hnm
  have hw : s0.WarmedH s.vm := C.2.2.2.2.1
  refine fe_all C fk_hwr cX9_head [1, 5, 7, 11, 16, 19, 22, 26, 33, 37, 43, 47, 54, 58, 65, 69, 76, 80, 86, 89, 92, 96, 102] (by decide +kernel) (fe_fil (cps := [(1, 4, .getfield 1074086226), (5, 7, .iconst (-804389139)), (7, 10, .invokevirtual 12671062), (11, 14, .getfield 1074086226), (16, 19, .getfield 1074086226), (19, 22, .getfield 1099260248), (22, 25, .invokevirtual 12671062), (26, 29, .getfield 1074086226), (33, 36, .invokevirtual 12671062), (37, 40, .getfield 1074086226), (43, 46, .invokevirtual 12671062), (47, 50, .getfield 1074086226), (54, 57, .invokevirtual 12671062), (58, 61, .getfield 1074086226), (65, 68, .invokevirtual 12671062), (69, 72, .getfield 1074086226), (76, 79, .invokevirtual 12671062), (80, 83, .getfield 1074086226), (86, 89, .getfield 1078280530), (89, 92, .getfield 1099260248), (92, 95, .invokevirtual 12671062), (96, 99, .getfield 1074086226), (102, 105, .invokevirtual 12671062)]) (by decide +kernel) ?_)
  refine fs_c1 (fs_getf (pc := 1) (n := 1074086226) (idx := 15) (ref := "BoardMachine$Trees$Press") (O := "BoardMachine$Trees$Press") (name := "out") (desc := "LBoardMachine$Trees$Row;") C (by decide +kernel) (Or.inl (kw K hw q599)) (fun _ h => h) (Nat.le_of_ble_eq_true rfl) (Nat.le_of_ble_eq_true rfl) (fs_one (⟨_, ff_84_256 s0 H0 oa D⟩))) ?_
  refine fs_c1 (fs_ldci (pc := 5) (idx := 85) (v := -804389139) C (by decide +kernel) (kw K hw q2378)) ?_
  refine fs_c1 (fs_inv_virtual (pc := 7) (n := 12671062) C (Nat.le_of_ble_eq_true rfl) (Nat.le_of_ble_eq_true rfl) (fs_lk_virtual (idx := 86) (y := ⟨"BoardMachine$Trees$Row", "putNumber", "(II)V"⟩) (bytes := prog_100_method_5_code) (maxL := 4) (rt := (Option.none : Option Jvm.ClassFile.FieldType)) (d := 1) C (Nat.le_of_ble_eq_true rfl) (Nat.le_of_ble_eq_true rfl) (by decide +kernel) (kw K hw q2382) (kw K hw q313) (kw K hw q2380) (Or.inl (kw K hw q2379)) ⟨by decide, by decide⟩ rfl (Nat.le_of_ble_eq_true rfl) (Nat.le_of_ble_eq_true rfl) (fs_one (⟨_, rfl, kw K hw q2381⟩))) fs_con_mono o0) ?_
  refine fs_c1 (fs_getf (pc := 11) (n := 1074086226) (idx := 15) (ref := "BoardMachine$Trees$Press") (O := "BoardMachine$Trees$Press") (name := "out") (desc := "LBoardMachine$Trees$Row;") C (by decide +kernel) (Or.inl (kw K hw q599)) (fun _ h => h) (Nat.le_of_ble_eq_true rfl) (Nat.le_of_ble_eq_true rfl) (fs_one (⟨_, ff_84_256 s0 H0 oa D⟩))) ?_
  refine fs_c1 (fs_getf (pc := 16) (n := 1074086226) (idx := 15) (ref := "BoardMachine$Trees$Press") (O := "BoardMachine$Trees$Press") (name := "out") (desc := "LBoardMachine$Trees$Row;") C (by decide +kernel) (Or.inl (kw K hw q599)) (fun _ h => h) (Nat.le_of_ble_eq_true rfl) (Nat.le_of_ble_eq_true rfl) (fs_one (⟨_, ff_84_256 s0 H0 oa D⟩))) ?_
  refine fs_c1 (fs_getf (pc := 19) (n := 1099260248) (idx := 24) (ref := "BoardMachine$Trees$Row") (O := "BoardMachine$Trees$Row") (name := "size") (desc := "I") C (by decide +kernel) (Or.inr ⟨_, kF K hw q460⟩) (fun _ h => h) (Nat.le_of_ble_eq_true rfl) (Nat.le_of_ble_eq_true rfl) (fs_one (⟨_, ff_86_262 s0 H0 oa D⟩))) ?_
  refine fs_c1 (fs_inv_virtual (pc := 22) (n := 12671062) C (Nat.le_of_ble_eq_true rfl) (Nat.le_of_ble_eq_true rfl) (fs_lk_virtual (idx := 86) (y := ⟨"BoardMachine$Trees$Row", "putNumber", "(II)V"⟩) (bytes := prog_100_method_5_code) (maxL := 4) (rt := (Option.none : Option Jvm.ClassFile.FieldType)) (d := 1) C (Nat.le_of_ble_eq_true rfl) (Nat.le_of_ble_eq_true rfl) (by decide +kernel) (kw K hw q2382) (kw K hw q313) (kw K hw q2380) (Or.inl (kw K hw q2379)) ⟨by decide, by decide⟩ rfl (Nat.le_of_ble_eq_true rfl) (Nat.le_of_ble_eq_true rfl) (fs_one (⟨_, rfl, kw K hw q2381⟩))) fs_con_mono o0) ?_
  refine fs_c1 (fs_getf (pc := 26) (n := 1074086226) (idx := 15) (ref := "BoardMachine$Trees$Press") (O := "BoardMachine$Trees$Press") (name := "out") (desc := "LBoardMachine$Trees$Row;") C (by decide +kernel) (Or.inl (kw K hw q599)) (fun _ h => h) (Nat.le_of_ble_eq_true rfl) (Nat.le_of_ble_eq_true rfl) (fs_one (⟨_, ff_84_256 s0 H0 oa D⟩))) ?_
  refine fs_c1 (fs_inv_virtual (pc := 33) (n := 12671062) C (Nat.le_of_ble_eq_true rfl) (Nat.le_of_ble_eq_true rfl) (fs_lk_virtual (idx := 86) (y := ⟨"BoardMachine$Trees$Row", "putNumber", "(II)V"⟩) (bytes := prog_100_method_5_code) (maxL := 4) (rt := (Option.none : Option Jvm.ClassFile.FieldType)) (d := 1) C (Nat.le_of_ble_eq_true rfl) (Nat.le_of_ble_eq_true rfl) (by decide +kernel) (kw K hw q2382) (kw K hw q313) (kw K hw q2380) (Or.inl (kw K hw q2379)) ⟨by decide, by decide⟩ rfl (Nat.le_of_ble_eq_true rfl) (Nat.le_of_ble_eq_true rfl) (fs_one (⟨_, rfl, kw K hw q2381⟩))) fs_con_mono o0) ?_
  refine fs_c1 (fs_getf (pc := 37) (n := 1074086226) (idx := 15) (ref := "BoardMachine$Trees$Press") (O := "BoardMachine$Trees$Press") (name := "out") (desc := "LBoardMachine$Trees$Row;") C (by decide +kernel) (Or.inl (kw K hw q599)) (fun _ h => h) (Nat.le_of_ble_eq_true rfl) (Nat.le_of_ble_eq_true rfl) (fs_one (⟨_, ff_84_256 s0 H0 oa D⟩))) ?_
  refine fs_c1 (fs_inv_virtual (pc := 43) (n := 12671062) C (Nat.le_of_ble_eq_true rfl) (Nat.le_of_ble_eq_true rfl) (fs_lk_virtual (idx := 86) (y := ⟨"BoardMachine$Trees$Row", "putNumber", "(II)V"⟩) (bytes := prog_100_method_5_code) (maxL := 4) (rt := (Option.none : Option Jvm.ClassFile.FieldType)) (d := 1) C (Nat.le_of_ble_eq_true rfl) (Nat.le_of_ble_eq_true rfl) (by decide +kernel) (kw K hw q2382) (kw K hw q313) (kw K hw q2380) (Or.inl (kw K hw q2379)) ⟨by decide, by decide⟩ rfl (Nat.le_of_ble_eq_true rfl) (Nat.le_of_ble_eq_true rfl) (fs_one (⟨_, rfl, kw K hw q2381⟩))) fs_con_mono o0) ?_
  refine fs_c1 (fs_getf (pc := 47) (n := 1074086226) (idx := 15) (ref := "BoardMachine$Trees$Press") (O := "BoardMachine$Trees$Press") (name := "out") (desc := "LBoardMachine$Trees$Row;") C (by decide +kernel) (Or.inl (kw K hw q599)) (fun _ h => h) (Nat.le_of_ble_eq_true rfl) (Nat.le_of_ble_eq_true rfl) (fs_one (⟨_, ff_84_256 s0 H0 oa D⟩))) ?_
  refine fs_c1 (fs_inv_virtual (pc := 54) (n := 12671062) C (Nat.le_of_ble_eq_true rfl) (Nat.le_of_ble_eq_true rfl) (fs_lk_virtual (idx := 86) (y := ⟨"BoardMachine$Trees$Row", "putNumber", "(II)V"⟩) (bytes := prog_100_method_5_code) (maxL := 4) (rt := (Option.none : Option Jvm.ClassFile.FieldType)) (d := 1) C (Nat.le_of_ble_eq_true rfl) (Nat.le_of_ble_eq_true rfl) (by decide +kernel) (kw K hw q2382) (kw K hw q313) (kw K hw q2380) (Or.inl (kw K hw q2379)) ⟨by decide, by decide⟩ rfl (Nat.le_of_ble_eq_true rfl) (Nat.le_of_ble_eq_true rfl) (fs_one (⟨_, rfl, kw K hw q2381⟩))) fs_con_mono o0) ?_
  refine fs_c1 (fs_getf (pc := 58) (n := 1074086226) (idx := 15) (ref := "BoardMachine$Trees$Press") (O := "BoardMachine$Trees$Press") (name := "out") (desc := "LBoardMachine$Trees$Row;") C (by decide +kernel) (Or.inl (kw K hw q599)) (fun _ h => h) (Nat.le_of_ble_eq_true rfl) (Nat.le_of_ble_eq_true rfl) (fs_one (⟨_, ff_84_256 s0 H0 oa D⟩))) ?_
  refine fs_c1 (fs_inv_virtual (pc := 65) (n := 12671062) C (Nat.le_of_ble_eq_true rfl) (Nat.le_of_ble_eq_true rfl) (fs_lk_virtual (idx := 86) (y := ⟨"BoardMachine$Trees$Row", "putNumber", "(II)V"⟩) (bytes := prog_100_method_5_code) (maxL := 4) (rt := (Option.none : Option Jvm.ClassFile.FieldType)) (d := 1) C (Nat.le_of_ble_eq_true rfl) (Nat.le_of_ble_eq_true rfl) (by decide +kernel) (kw K hw q2382) (kw K hw q313) (kw K hw q2380) (Or.inl (kw K hw q2379)) ⟨by decide, by decide⟩ rfl (Nat.le_of_ble_eq_true rfl) (Nat.le_of_ble_eq_true rfl) (fs_one (⟨_, rfl, kw K hw q2381⟩))) fs_con_mono o0) ?_
  refine fs_c1 (fs_getf (pc := 69) (n := 1074086226) (idx := 15) (ref := "BoardMachine$Trees$Press") (O := "BoardMachine$Trees$Press") (name := "out") (desc := "LBoardMachine$Trees$Row;") C (by decide +kernel) (Or.inl (kw K hw q599)) (fun _ h => h) (Nat.le_of_ble_eq_true rfl) (Nat.le_of_ble_eq_true rfl) (fs_one (⟨_, ff_84_256 s0 H0 oa D⟩))) ?_
  refine fs_c1 (fs_inv_virtual (pc := 76) (n := 12671062) C (Nat.le_of_ble_eq_true rfl) (Nat.le_of_ble_eq_true rfl) (fs_lk_virtual (idx := 86) (y := ⟨"BoardMachine$Trees$Row", "putNumber", "(II)V"⟩) (bytes := prog_100_method_5_code) (maxL := 4) (rt := (Option.none : Option Jvm.ClassFile.FieldType)) (d := 1) C (Nat.le_of_ble_eq_true rfl) (Nat.le_of_ble_eq_true rfl) (by decide +kernel) (kw K hw q2382) (kw K hw q313) (kw K hw q2380) (Or.inl (kw K hw q2379)) ⟨by decide, by decide⟩ rfl (Nat.le_of_ble_eq_true rfl) (Nat.le_of_ble_eq_true rfl) (fs_one (⟨_, rfl, kw K hw q2381⟩))) fs_con_mono o0) ?_
  refine fs_c1 (fs_getf (pc := 80) (n := 1074086226) (idx := 15) (ref := "BoardMachine$Trees$Press") (O := "BoardMachine$Trees$Press") (name := "out") (desc := "LBoardMachine$Trees$Row;") C (by decide +kernel) (Or.inl (kw K hw q599)) (fun _ h => h) (Nat.le_of_ble_eq_true rfl) (Nat.le_of_ble_eq_true rfl) (fs_one (⟨_, ff_84_256 s0 H0 oa D⟩))) ?_
  refine fs_c1 (fs_getf (pc := 86) (n := 1078280530) (idx := 21) (ref := "BoardMachine$Trees$Press") (O := "BoardMachine$Trees$Press") (name := "names") (desc := "LBoardMachine$Trees$Row;") C (by decide +kernel) (Or.inl (kw K hw q601)) (fun _ h => h) (Nat.le_of_ble_eq_true rfl) (Nat.le_of_ble_eq_true rfl) (fs_one (⟨_, ff_84_257 s0 H0 oa D⟩))) ?_
  refine fs_c1 (fs_getf (pc := 89) (n := 1099260248) (idx := 24) (ref := "BoardMachine$Trees$Row") (O := "BoardMachine$Trees$Row") (name := "size") (desc := "I") C (by decide +kernel) (Or.inr ⟨_, kF K hw q460⟩) (fun _ h => h) (Nat.le_of_ble_eq_true rfl) (Nat.le_of_ble_eq_true rfl) (fs_one (⟨_, ff_86_262 s0 H0 oa D⟩))) ?_
  refine fs_c1 (fs_inv_virtual (pc := 92) (n := 12671062) C (Nat.le_of_ble_eq_true rfl) (Nat.le_of_ble_eq_true rfl) (fs_lk_virtual (idx := 86) (y := ⟨"BoardMachine$Trees$Row", "putNumber", "(II)V"⟩) (bytes := prog_100_method_5_code) (maxL := 4) (rt := (Option.none : Option Jvm.ClassFile.FieldType)) (d := 1) C (Nat.le_of_ble_eq_true rfl) (Nat.le_of_ble_eq_true rfl) (by decide +kernel) (kw K hw q2382) (kw K hw q313) (kw K hw q2380) (Or.inl (kw K hw q2379)) ⟨by decide, by decide⟩ rfl (Nat.le_of_ble_eq_true rfl) (Nat.le_of_ble_eq_true rfl) (fs_one (⟨_, rfl, kw K hw q2381⟩))) fs_con_mono o0) ?_
  refine fs_c1 (fs_getf (pc := 96) (n := 1074086226) (idx := 15) (ref := "BoardMachine$Trees$Press") (O := "BoardMachine$Trees$Press") (name := "out") (desc := "LBoardMachine$Trees$Row;") C (by decide +kernel) (Or.inl (kw K hw q599)) (fun _ h => h) (Nat.le_of_ble_eq_true rfl) (Nat.le_of_ble_eq_true rfl) (fs_one (⟨_, ff_84_256 s0 H0 oa D⟩))) ?_
  refine fs_c1 (fs_inv_virtual (pc := 102) (n := 12671062) C (Nat.le_of_ble_eq_true rfl) (Nat.le_of_ble_eq_true rfl) (fs_lk_virtual (idx := 86) (y := ⟨"BoardMachine$Trees$Row", "putNumber", "(II)V"⟩) (bytes := prog_100_method_5_code) (maxL := 4) (rt := (Option.none : Option Jvm.ClassFile.FieldType)) (d := 1) C (Nat.le_of_ble_eq_true rfl) (Nat.le_of_ble_eq_true rfl) (by decide +kernel) (kw K hw q2382) (kw K hw q313) (kw K hw q2380) (Or.inl (kw K hw q2379)) ⟨by decide, by decide⟩ rfl (Nat.le_of_ble_eq_true rfl) (Nat.le_of_ble_eq_true rfl) (fs_one (⟨_, rfl, kw K hw q2381⟩))) fs_con_mono o0) ?_
  exact fs_c0
