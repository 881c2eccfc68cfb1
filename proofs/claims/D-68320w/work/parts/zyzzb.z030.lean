/-! contracts of methods, printed by gen/snd.py -/
set_option maxRecDepth 100000
set_option maxHeartbeats 4000000
theorem hX49_registers : fe_H (sX49_registers FX105_bits FX49_byField FX49_compute) cX49_registers [0, 36, 51, 55, 56, 75] fe_ka [] 49 (fun _ => dX49_registers FX49_registers_0 FX49_registers_36 FX49_registers_51 FX49_registers_55 FX49_registers_56 FX49_registers_75) := by
  intro j pc L st M r hc h
  rcases fe_mem_c hc with rfl | hc
  · obtain ⟨w0, m0, h⟩ := fe_lR_d h
    obtain ⟨w1, m1, h⟩ := fe_lR_d h
    obtain ⟨w2, m2, h⟩ := fe_lI_d h
    obtain ⟨w3, m3, h⟩ := fe_lI_d h
    obtain ⟨rfl, hz⟩ := fe_t0_d h
    exact ⟨[(0, .ref w0), (1, .ref w1), (2, .int w2), (3, .int w3)], (fe_cs m0 (fe_cs m1 (fe_cs m2 (fe_cs m3 fe_nl)))), Or.inr ((bX49_registers_0 FX105_bits FX49_byField FX49_compute FX49_registers_0 FX49_registers_36 FX49_registers_51 FX49_registers_55 FX49_registers_56 FX49_registers_75 w0 w1 w2 w3 M).symm.trans hz)⟩
  rcases fe_mem_c hc with rfl | hc
  · obtain ⟨w0, m0, h⟩ := fe_lR_d h
    obtain ⟨w1, m1, h⟩ := fe_lR_d h
    obtain ⟨w2, m2, h⟩ := fe_lI_d h
    obtain ⟨w3, m3, h⟩ := fe_lI_d h
    obtain ⟨w4, m4, h⟩ := fe_lI_d h
    obtain ⟨rfl, hz⟩ := fe_t0_d h
    exact ⟨[(0, .ref w0), (1, .ref w1), (2, .int w2), (3, .int w3), (4, .int w4)], (fe_cs m0 (fe_cs m1 (fe_cs m2 (fe_cs m3 (fe_cs m4 fe_nl))))), Or.inr ((bX49_registers_36 FX105_bits FX49_byField FX49_compute FX49_registers_0 FX49_registers_36 FX49_registers_51 FX49_registers_55 FX49_registers_56 FX49_registers_75 w0 w1 w2 w3 w4 M).symm.trans hz)⟩
  rcases fe_mem_c hc with rfl | hc
  · obtain ⟨w0, m0, h⟩ := fe_lR_d h
    obtain ⟨w1, m1, h⟩ := fe_lR_d h
    obtain ⟨w2, m2, h⟩ := fe_lI_d h
    obtain ⟨w3, m3, h⟩ := fe_lI_d h
    obtain ⟨w4, m4, h⟩ := fe_lI_d h
    obtain ⟨rfl, hz⟩ := fe_t0_d h
    exact ⟨[(0, .ref w0), (1, .ref w1), (2, .int w2), (3, .int w3), (4, .int w4)], (fe_cs m0 (fe_cs m1 (fe_cs m2 (fe_cs m3 (fe_cs m4 fe_nl))))), Or.inr ((bX49_registers_51 FX105_bits FX49_byField FX49_compute FX49_registers_0 FX49_registers_36 FX49_registers_51 FX49_registers_55 FX49_registers_56 FX49_registers_75 w0 w1 w2 w3 w4 M).symm.trans hz)⟩
  rcases fe_mem_c hc with rfl | hc
  · obtain ⟨w0, m0, h⟩ := fe_lR_d h
    obtain ⟨w1, m1, h⟩ := fe_lR_d h
    obtain ⟨w2, m2, h⟩ := fe_lI_d h
    obtain ⟨w3, m3, h⟩ := fe_lI_d h
    obtain ⟨w4, m4, h⟩ := fe_lI_d h
    obtain ⟨rfl, hz⟩ := fe_t0_d h
    exact ⟨[(0, .ref w0), (1, .ref w1), (2, .int w2), (3, .int w3), (4, .int w4)], (fe_cs m0 (fe_cs m1 (fe_cs m2 (fe_cs m3 (fe_cs m4 fe_nl))))), Or.inr ((bX49_registers_55 FX105_bits FX49_byField FX49_compute FX49_registers_0 FX49_registers_36 FX49_registers_51 FX49_registers_55 FX49_registers_56 FX49_registers_75 w0 w1 w2 w3 w4 M).symm.trans hz)⟩
  rcases fe_mem_c hc with rfl | hc
  · obtain ⟨w0, m0, h⟩ := fe_lR_d h
    obtain ⟨w1, m1, h⟩ := fe_lR_d h
    obtain ⟨w2, m2, h⟩ := fe_lI_d h
    obtain ⟨w3, m3, h⟩ := fe_lI_d h
    obtain ⟨w4, m4, h⟩ := fe_lI_d h
    obtain ⟨s0, t0, rfl, g0⟩ := fe_tI_d h
    obtain ⟨rfl, hz⟩ := fe_t0_d g0
    exact ⟨[(0, .ref w0), (1, .ref w1), (2, .int w2), (3, .int w3), (4, .int w4)], (fe_cs m0 (fe_cs m1 (fe_cs m2 (fe_cs m3 (fe_cs m4 fe_nl))))), Or.inr ((bX49_registers_56 FX105_bits FX49_byField FX49_compute FX49_registers_0 FX49_registers_36 FX49_registers_51 FX49_registers_55 FX49_registers_56 FX49_registers_75 w0 w1 w2 w3 w4 s0 M).symm.trans hz)⟩
  rcases fe_mem_c hc with rfl | hc
  · obtain ⟨w3, m3, h⟩ := fe_lI_d h
    obtain ⟨s2, t2, rfl, g2⟩ := fe_tR_d h
    obtain ⟨s1, t1, rfl, g1⟩ := fe_tR_d g2
    obtain ⟨s0, t0, rfl, g0⟩ := fe_tR_d g1
    obtain ⟨rfl, hz⟩ := fe_t0_d g0
    exact ⟨[(3, .int w3)], (fe_cs m3 fe_nl), Or.inr ((bX49_registers_75 FX105_bits FX49_byField FX49_compute FX49_registers_0 FX49_registers_36 FX49_registers_51 FX49_registers_55 FX49_registers_56 FX49_registers_75 w3 s0 s1 s2 M).symm.trans hz)⟩
  exact fe_mem_0 hc
theorem vX49_registers : fe_SB (sX49_registers FX105_bits FX49_byField FX49_compute) := by
  refine ⟨?_, ?_, ?_, ?_⟩
  · intro i As M r h
    exact fe_no h
  · intro i As M r h
    rcases fe_bc h with h | h
    · obtain ⟨v0, t0, rfl, g0⟩ := fe_tI_d h
      obtain ⟨v1, t1, rfl, g1⟩ := fe_tI_d g0
      obtain ⟨v2, t2, rfl, g2⟩ := fe_tI_d g1
      obtain ⟨rfl, hz⟩ := fe_t0_d g2
      exact mX105_bits v0 v1 v2 M r hz
    exact fe_no h
  · intro i As M r h
    exact fe_no h
  · intro i As M r h
    rcases fe_bc h with h | h
    · obtain ⟨v0, t0, rfl, g0⟩ := fe_tI_d h
      obtain ⟨v1, t1, rfl, g1⟩ := fe_tI_d g0
      obtain ⟨rfl, hz⟩ := fe_t0_d g1
      exact mX49_byField v0 v1 M r hz
    rcases fe_bc h with h | h
    · obtain ⟨v0, t0, rfl, g0⟩ := fe_tR_d h
      obtain ⟨v1, t1, rfl, g1⟩ := fe_tR_d g0
      obtain ⟨v2, t2, rfl, g2⟩ := fe_tR_d g1
      obtain ⟨v3, t3, rfl, g3⟩ := fe_tI_d g2
      obtain ⟨v4, t4, rfl, g4⟩ := fe_tI_d g3
      obtain ⟨v5, t5, rfl, g5⟩ := fe_tL_d g4
      obtain ⟨rfl, hz⟩ := fe_t0_d g5
      exact mX49_compute v0 v1 v2 v3 v4 v5 M r hz
    exact fe_no h
theorem eX49_registers (g0 : Nat → Nat → Int32 → Int32 → FM → Option (Nat × FM)) (g36 : Nat → Nat → Int32 → Int32 → Int32 → FM → Option (Nat × FM)) (g51 : Nat → Nat → Int32 → Int32 → Int32 → FM → Option (Nat × FM)) (g55 : Nat → Nat → Int32 → Int32 → Int32 → FM → Option (Nat × FM)) (g56 : Nat → Nat → Int32 → Int32 → Int32 → Int32 → FM → Option (Nat × FM)) (g75 : Int32 → Nat → Nat → Nat → FM → Option (Nat × FM)) (a0 : Nat) (a1 : Nat) (a2 : Int32) (a3 : Int32) (M : FM) : dX49_registers g0 g36 g51 g55 g56 g75 0 [(0, .ref a0), (1, .ref a1), (2, .int a2), (3, .int a3)] [] M = g0 a0 a1 a2 a3 M := by rfl
theorem mX49_registers (a0 : Nat) (a1 : Nat) (a2 : Int32) (a3 : Int32) (M : FM) (r : Nat × FM) (h : FX49_registers a0 a1 a2 a3 M = some r) : fm_nx M ≤ fm_nx r.2 ∧ fm_ns M ≤ fm_ns r.2 :=
  fe_mono (L0 := [(0, .ref a0), (1, .ref a1), (2, .int a2), (3, .int a3)]) (vX49_registers) (by decide +kernel) (hX49_registers) (fe_ka_k r) 0 rfl ((eX49_registers FX49_registers_0 FX49_registers_36 FX49_registers_51 FX49_registers_55 FX49_registers_56 FX49_registers_75 a0 a1 a2 a3 M).trans h)
theorem zX49_registers {s0 : State} {H0 : Heap} {oa : Nat → Nat} {D : va_G} (K : fk s0 H0 oa D) (l : Launch) (a0 : Nat) (a1 : Nat) (a2 : Int32) (a3 : Int32) (M : FM) (r : Nat × FM) (h : FX49_registers a0 a1 a2 a3 M = some r) : fs_Con (fk_E s0 H0 oa D) l 3 ⟨"BoardMachine$Integers$Decoder", "registers", "(LBoardMachine$Integers$Decoded;IZ)LBoardMachine$Integers$Action;"⟩ prog_64_method_7_code 6 (Option.some (Jvm.ClassFile.FieldType.object "BoardMachine$Integers$Action")) [.ref a0, .ref a1, .int a2, .int a3] M (some (.ref r.1)) r.2 := by
  have o0 : fs_OS (sX49_registers FX105_bits FX49_byField FX49_compute) 0 1 (fs_Con (fk_E s0 H0 oa D) l 1 ⟨"BoardMachine$Integers$Fields", "bits", "(III)I"⟩ prog_66_method_2_code 3 (Option.some Jvm.ClassFile.FieldType.int)) := by
    intro As M r h
    obtain ⟨v0, t0, rfl, g0⟩ := fe_tI_d h
    obtain ⟨v1, t1, rfl, g1⟩ := fe_tI_d g0
    obtain ⟨v2, t2, rfl, g2⟩ := fe_tI_d g1
    obtain ⟨rfl, hz⟩ := fe_t0_d g2
    exact zX105_bits K l v0 v1 v2 M r hz
  have o1 : fs_OS (sX49_registers FX105_bits FX49_byField FX49_compute) 1 3 (fs_Con (fk_E s0 H0 oa D) l 2 ⟨"BoardMachine$Integers$Decoder", "byField", "(II)LBoardMachine$Integers$Sum;"⟩ prog_64_method_4_code 2 (Option.some (Jvm.ClassFile.FieldType.object "BoardMachine$Integers$Sum"))) := by
    intro As M r h
    obtain ⟨v0, t0, rfl, g0⟩ := fe_tI_d h
    obtain ⟨v1, t1, rfl, g1⟩ := fe_tI_d g0
    obtain ⟨rfl, hz⟩ := fe_t0_d g1
    exact zX49_byField K l v0 v1 M r hz
  have o2 : fs_OS (sX49_registers FX105_bits FX49_byField FX49_compute) 2 3 (fs_Con (fk_E s0 H0 oa D) l 1 ⟨"BoardMachine$Integers$Decoder", "compute", "(LBoardMachine$Integers$Decoded;LBoardMachine$Integers$Sum;ZZJ)LBoardMachine$Integers$Action;"⟩ prog_64_method_5_code 7 (Option.some (Jvm.ClassFile.FieldType.object "BoardMachine$Integers$Action"))) := by
    intro As M r h
    obtain ⟨v0, t0, rfl, g0⟩ := fe_tR_d h
    obtain ⟨v1, t1, rfl, g1⟩ := fe_tR_d g0
    obtain ⟨v2, t2, rfl, g2⟩ := fe_tR_d g1
    obtain ⟨v3, t3, rfl, g3⟩ := fe_tI_d g2
    obtain ⟨v4, t4, rfl, g4⟩ := fe_tI_d g3
    obtain ⟨v5, t5, rfl, g5⟩ := fe_tL_d g4
    obtain ⟨rfl, hz⟩ := fe_t0_d g5
    exact zX49_compute K l v0 v1 v2 v3 v4 v5 M r hz
  refine fs_method (own := "BoardMachine$Integers$Decoder") rfl (by decide) K.2.1 (by rw [fe_slen]; exact (Nat.le_of_ble_eq_true rfl)) (mX49_registers a0 a1 a2 a3 M r h) (hX49_registers) 0 rfl (L0 := [(0, .ref a0), (1, .ref a1), (2, .int a2), (3, .int a3)]) (fun E => fe_args_e E [.ref a0, .ref a1, .int a2, .int a3] 0) ((eX49_registers FX49_registers_0 FX49_registers_36 FX49_registers_51 FX49_registers_55 FX49_registers_56 FX49_registers_75 a0 a1 a2 a3 M).trans h) (fe_ka_k r) (fun H hR => fs_nr_o (by decide) (by decide)) ?_
  intro p e s m args below meth c Q C hnm
  have hw : s0.WarmedH s.vm := C.2.2.2.2.1
  refine fe_all C fk_hwr cX49_registers [1, 8, 72, 78] (by decide +kernel) (fe_fil (cps := [(1, 4, .getfield 629395700), (8, 11, .invokestatic 13), (72, 75, .invokestatic 75), (78, 81, .invokevirtual 162592830)]) (by decide +kernel) ?_)
  refine fs_c1 (fs_getf (pc := 1) (n := 629395700) (idx := 148) (ref := "BoardMachine$Integers$Decoded") (O := "BoardMachine$Integers$Decoded") (name := "word") (desc := "I") C (by decide +kernel) (Or.inr ⟨_, kF K hw q3244⟩) (fun _ h => h) (Nat.le_of_ble_eq_true rfl) (Nat.le_of_ble_eq_true rfl) (fs_one (⟨_, ff_61_150 s0 H0 oa D⟩))) ?_
  refine fs_c1 (fs_inv_static (pc := 8) (n := 13) C (fs_lk_static (idx := 161) (y := ⟨"BoardMachine$Integers$Fields", "bits", "(III)I"⟩) (bytes := prog_66_method_2_code) (maxL := 3) (rt := (Option.some Jvm.ClassFile.FieldType.int)) (d := 1) C (by decide +kernel) (kw K hw q3317) (kw K hw q430) (kw K hw q3316) (Or.inl (kw K hw q3315)) ⟨by decide, by decide⟩ rfl (Nat.le_of_ble_eq_true rfl) (Nat.le_of_ble_eq_true rfl)) fs_con_mono o0) ?_
  refine fs_c1 (fs_inv_static (pc := 72) (n := 75) C (fs_lk_static (idx := 165) (y := ⟨"BoardMachine$Integers$Decoder", "byField", "(II)LBoardMachine$Integers$Sum;"⟩) (bytes := prog_64_method_4_code) (maxL := 2) (rt := (Option.some (Jvm.ClassFile.FieldType.object "BoardMachine$Integers$Sum"))) (d := 2) C (by decide +kernel) (kw K hw q3372) (kw K hw q360) (kw K hw q3371) (Or.inl (kw K hw q3370)) ⟨by decide, by decide⟩ rfl (Nat.le_of_ble_eq_true rfl) (Nat.le_of_ble_eq_true rfl)) fs_con_mono o1) ?_
  refine fs_c1 (fs_inv_virtual (pc := 78) (n := 162592830) C (Nat.le_of_ble_eq_true rfl) (Nat.le_of_ble_eq_true rfl) (fs_lk_virtual (idx := 158) (y := ⟨"BoardMachine$Integers$Decoder", "compute", "(LBoardMachine$Integers$Decoded;LBoardMachine$Integers$Sum;ZZJ)LBoardMachine$Integers$Action;"⟩) (bytes := prog_64_method_5_code) (maxL := 7) (rt := (Option.some (Jvm.ClassFile.FieldType.object "BoardMachine$Integers$Action"))) (d := 1) C (Nat.le_of_ble_eq_true rfl) (Nat.le_of_ble_eq_true rfl) (by decide +kernel) (kw K hw q3369) (kw K hw q360) (kw K hw q3368) (Or.inl (kw K hw q3366)) ⟨by decide, by decide⟩ rfl (Nat.le_of_ble_eq_true rfl) (Nat.le_of_ble_eq_true rfl) (fs_one (⟨_, rfl, kw K hw qs58⟩))) fs_con_mono o2) ?_
  exact fs_c0
theorem hX105_immediateU : fe_H (sX105_immediateU) cX105_immediateU [0] fe_kl [] 20 (fun _ => dX105_immediateU FX105_immediateU_0) := by
  intro j pc L st M r hc h
  rcases fe_mem_c hc with rfl | hc
  · obtain ⟨w0, m0, h⟩ := fe_lI_d h
    obtain ⟨rfl, hz⟩ := fe_t0_d h
    exact ⟨[(0, .int w0)], (fe_cs m0 fe_nl), Or.inr ((bX105_immediateU_0 FX105_immediateU_0 w0 M).symm.trans hz)⟩
  exact fe_mem_0 hc
theorem vX105_immediateU : fe_SB (sX105_immediateU) := by
  refine ⟨?_, ?_, ?_, ?_⟩
  · intro i As M r h
    exact fe_no h
  · intro i As M r h
    exact fe_no h
  · intro i As M r h
    exact fe_no h
  · intro i As M r h
    exact fe_no h
theorem eX105_immediateU (g0 : Int32 → FM → Option (Int64 × FM)) (a0 : Int32) (M : FM) : dX105_immediateU g0 0 [(0, .int a0)] [] M = g0 a0 M := by rfl
theorem mX105_immediateU (a0 : Int32) (M : FM) (r : Int64 × FM) (h : FX105_immediateU a0 M = some r) : fm_nx M ≤ fm_nx r.2 ∧ fm_ns M ≤ fm_ns r.2 :=
  fe_mono (L0 := [(0, .int a0)]) (vX105_immediateU) (by decide +kernel) (hX105_immediateU) (fe_kl_k r) 0 rfl ((eX105_immediateU FX105_immediateU_0 a0 M).trans h)
theorem zX105_immediateU {s0 : State} {H0 : Heap} {oa : Nat → Nat} {D : va_G} (K : fk s0 H0 oa D) (l : Launch) (a0 : Int32) (M : FM) (r : Int64 × FM) (h : FX105_immediateU a0 M = some r) : fs_Con (fk_E s0 H0 oa D) l 1 ⟨"BoardMachine$Integers$Fields", "immediateU", "(I)J"⟩ prog_66_method_6_code 1 (Option.some Jvm.ClassFile.FieldType.long) [.int a0] M (some (.long r.1)) r.2 := by
  refine fs_method (own := "BoardMachine$Integers$Fields") rfl (by decide) K.2.1 (by rw [fe_slen]; exact (Nat.le_of_ble_eq_true rfl)) (mX105_immediateU a0 M r h) (hX105_immediateU) 0 rfl (L0 := [(0, .int a0)]) (fun E => fe_args_e E [.int a0] 0) ((eX105_immediateU FX105_immediateU_0 a0 M).trans h) (fe_kl_k r) (fun H hR => fs_nr_o (by decide) (by decide)) ?_
  intro p e s m args below meth c Q C hnm
  have hw : s0.WarmedH s.vm := C.2.2.2.2.1
  refine fe_all C fk_hwr cX105_immediateU [] (by decide +kernel) (fe_fil (cps := []) (by decide +kernel) ?_)
  exact fs_c0
theorem hX105_immediateJ : fe_H (sX105_immediateJ FX105_bits) cX105_immediateJ [0] fe_kl [] 33 (fun _ => dX105_immediateJ FX105_immediateJ_0) := by
  intro j pc L st M r hc h
  rcases fe_mem_c hc with rfl | hc
  · obtain ⟨w0, m0, h⟩ := fe_lI_d h
    obtain ⟨rfl, hz⟩ := fe_t0_d h
    exact ⟨[(0, .int w0)], (fe_cs m0 fe_nl), Or.inr ((bX105_immediateJ_0 FX105_bits FX105_immediateJ_0 w0 M).symm.trans hz)⟩
  exact fe_mem_0 hc
theorem vX105_immediateJ : fe_SB (sX105_immediateJ FX105_bits) := by
  refine ⟨?_, ?_, ?_, ?_⟩
  · intro i As M r h
    exact fe_no h
  · intro i As M r h
    rcases fe_bc h with h | h
    · obtain ⟨v0, t0, rfl, g0⟩ := fe_tI_d h
      obtain ⟨v1, t1, rfl, g1⟩ := fe_tI_d g0
      obtain ⟨v2, t2, rfl, g2⟩ := fe_tI_d g1
      obtain ⟨rfl, hz⟩ := fe_t0_d g2
      exact mX105_bits v0 v1 v2 M r hz
    exact fe_no h
  · intro i As M r h
    exact fe_no h
  · intro i As M r h
    exact fe_no h
theorem eX105_immediateJ (g0 : Int32 → FM → Option (Int64 × FM)) (a0 : Int32) (M : FM) : dX105_immediateJ g0 0 [(0, .int a0)] [] M = g0 a0 M := by rfl
theorem mX105_immediateJ (a0 : Int32) (M : FM) (r : Int64 × FM) (h : FX105_immediateJ a0 M = some r) : fm_nx M ≤ fm_nx r.2 ∧ fm_ns M ≤ fm_ns r.2 :=
  fe_mono (L0 := [(0, .int a0)]) (vX105_immediateJ) (by decide +kernel) (hX105_immediateJ) (fe_kl_k r) 0 rfl ((eX105_immediateJ FX105_immediateJ_0 a0 M).trans h)
theorem zX105_immediateJ {s0 : State} {H0 : Heap} {oa : Nat → Nat} {D : va_G} (K : fk s0 H0 oa D) (l : Launch) (a0 : Int32) (M : FM) (r : Int64 × FM) (h : FX105_immediateJ a0 M = some r) : fs_Con (fk_E s0 H0 oa D) l 2 ⟨"BoardMachine$Integers$Fields", "immediateJ", "(I)J"⟩ prog_66_method_7_code 1 (Option.some Jvm.ClassFile.FieldType.long) [.int a0] M (some (.long r.1)) r.2 := by
  have o0 : fs_OS (sX105_immediateJ FX105_bits) 0 1 (fs_Con (fk_E s0 H0 oa D) l 1 ⟨"BoardMachine$Integers$Fields", "bits", "(III)I"⟩ prog_66_method_2_code 3 (Option.some Jvm.ClassFile.FieldType.int)) := by
    intro As M r h
    obtain ⟨v0, t0, rfl, g0⟩ := fe_tI_d h
    obtain ⟨v1, t1, rfl, g1⟩ := fe_tI_d g0
    obtain ⟨v2, t2, rfl, g2⟩ := fe_tI_d g1
    obtain ⟨rfl, hz⟩ := fe_t0_d g2
    exact zX105_bits K l v0 v1 v2 M r hz
  refine fs_method (own := "BoardMachine$Integers$Fields") rfl (by decide) K.2.1 (by rw [fe_slen]; exact (Nat.le_of_ble_eq_true rfl)) (mX105_immediateJ a0 M r h) (hX105_immediateJ) 0 rfl (L0 := [(0, .int a0)]) (fun E => fe_args_e E [.int a0] 0) ((eX105_immediateJ FX105_immediateJ_0 a0 M).trans h) (fe_kl_k r) (fun H hR => fs_nr_o (by decide) (by decide)) ?_
  intro p e s m args below meth c Q C hnm
  have hw : s0.WarmedH s.vm := C.2.2.2.2.1
  refine fe_all C fk_hwr cX105_immediateJ [12, 24, 36] (by decide +kernel) (fe_fil (cps := [(12, 15, .invokestatic 13), (24, 27, .invokestatic 13), (36, 39, .invokestatic 13)]) (by decide +kernel) ?_)
  refine fs_c1 (fs_inv_static (pc := 12) (n := 13) C (fs_lk_static (idx := 7) (y := ⟨"BoardMachine$Integers$Fields", "bits", "(III)I"⟩) (bytes := prog_66_method_2_code) (maxL := 3) (rt := (Option.some Jvm.ClassFile.FieldType.int)) (d := 1) C (by decide +kernel) (kw K hw q3317) (kw K hw q430) (kw K hw q3316) (Or.inl (kw K hw q3332)) ⟨by decide, by decide⟩ rfl (Nat.le_of_ble_eq_true rfl) (Nat.le_of_ble_eq_true rfl)) fs_con_mono o0) ?_
  refine fs_c1 (fs_inv_static (pc := 24) (n := 13) C (fs_lk_static (idx := 7) (y := ⟨"BoardMachine$Integers$Fields", "bits", "(III)I"⟩) (bytes := prog_66_method_2_code) (maxL := 3) (rt := (Option.some Jvm.ClassFile.FieldType.int)) (d := 1) C (by decide +kernel) (kw K hw q3317) (kw K hw q430) (kw K hw q3316) (Or.inl (kw K hw q3332)) ⟨by decide, by decide⟩ rfl (Nat.le_of_ble_eq_true rfl) (Nat.le_of_ble_eq_true rfl)) fs_con_mono o0) ?_
  refine fs_c1 (fs_inv_static (pc := 36) (n := 13) C (fs_lk_static (idx := 7) (y := ⟨"BoardMachine$Integers$Fields", "bits", "(III)I"⟩) (bytes := prog_66_method_2_code) (maxL := 3) (rt := (Option.some Jvm.ClassFile.FieldType.int)) (d := 1) C (by decide +kernel) (kw K hw q3317) (kw K hw q430) (kw K hw q3316) (Or.inl (kw K hw q3332)) ⟨by decide, by decide⟩ rfl (Nat.le_of_ble_eq_true rfl) (Nat.le_of_ble_eq_true rfl)) fs_con_mono o0) ?_
  exact fs_c0
theorem hX49_jump : fe_H (sX49_jump) cX49_jump [0] fe_ka [] 20 (fun _ => dX49_jump FX49_jump_0) := by
  intro j pc L st M r hc h
  rcases fe_mem_c hc with rfl | hc
  · obtain ⟨w0, m0, h⟩ := fe_lR_d h
    obtain ⟨w1, m1, h⟩ := fe_lR_d h
    obtain ⟨w2, m2, h⟩ := fe_lR_d h
    obtain ⟨w3, m3, h⟩ := fe_lL_d h
    obtain ⟨rfl, hz⟩ := fe_t0_d h
    exact ⟨[(0, .ref w0), (1, .ref w1), (2, .ref w2), (3, .long w3)], (fe_cs m0 (fe_cs m1 (fe_cs m2 (fe_cs m3 fe_nl)))), Or.inr ((bX49_jump_0 FX49_jump_0 w0 w1 w2 w3 M).symm.trans hz)⟩
  exact fe_mem_0 hc
theorem vX49_jump : fe_SB (sX49_jump) := by
  refine ⟨?_, ?_, ?_, ?_⟩
  · intro i As M r h
    exact fe_no h
  · intro i As M r h
    exact fe_no h
  · intro i As M r h
    exact fe_no h
  · intro i As M r h
    exact fe_no h
theorem eX49_jump (g0 : Nat → Nat → Nat → Int64 → FM → Option (Nat × FM)) (a0 : Nat) (a1 : Nat) (a2 : Nat) (a3 : Int64) (M : FM) : dX49_jump g0 0 [(0, .ref a0), (1, .ref a1), (2, .ref a2), (3, .long a3)] [] M = g0 a0 a1 a2 a3 M := by rfl
theorem mX49_jump (a0 : Nat) (a1 : Nat) (a2 : Nat) (a3 : Int64) (M : FM) (r : Nat × FM) (h : FX49_jump a0 a1 a2 a3 M = some r) : fm_nx M ≤ fm_nx r.2 ∧ fm_ns M ≤ fm_ns r.2 :=
  fe_mono (L0 := [(0, .ref a0), (1, .ref a1), (2, .ref a2), (3, .long a3)]) (vX49_jump) (by decide +kernel) (hX49_jump) (fe_ka_k r) 0 rfl ((eX49_jump FX49_jump_0 a0 a1 a2 a3 M).trans h)
theorem zX49_jump {s0 : State} {H0 : Heap} {oa : Nat → Nat} {D : va_G} (K : fk s0 H0 oa D) (l : Launch) (a0 : Nat) (a1 : Nat) (a2 : Nat) (a3 : Int64) (M : FM) (r : Nat × FM) (h : FX49_jump a0 a1 a2 a3 M = some r) : fs_Con (fk_E s0 H0 oa D) l 1 ⟨"BoardMachine$Integers$Decoder", "jump", "(LBoardMachine$Integers$Decoded;LBoardMachine$Integers$Action;J)LBoardMachine$Integers$Action;"⟩ prog_64_method_12_code 5 (Option.some (Jvm.ClassFile.FieldType.object "BoardMachine$Integers$Action")) [.ref a0, .ref a1, .ref a2, .long a3] M (some (.ref r.1)) r.2 := by
  refine fs_method (own := "BoardMachine$Integers$Decoder") rfl (by decide) K.2.1 (by rw [fe_slen]; exact (Nat.le_of_ble_eq_true rfl)) (mX49_jump a0 a1 a2 a3 M r h) (hX49_jump) 0 rfl (L0 := [(0, .ref a0), (1, .ref a1), (2, .ref a2), (3, .long a3)]) (fun E => fe_args_e E [.ref a0, .ref a1, .ref a2, .long a3] 0) ((eX49_jump FX49_jump_0 a0 a1 a2 a3 M).trans h) (fe_ka_k r) (fun H hR => fs_nr_o (by decide) (by decide)) ?_
  intro p e s m args below meth c Q C hnm
  have hw : s0.WarmedH s.vm := C.2.2.2.2.1
  refine fe_all C fk_hwr cX49_jump [2] (by decide +kernel) (fe_fil (cps := [(2, 5, .putfield 646172917)]) (by decide +kernel) ?_)
  refine fs_c1 (fs_putf (pc := 2) (n := 646172917) (idx := 144) (ref := "BoardMachine$Integers$Decoded") (O := "BoardMachine$Integers$Decoded") (name := "immediate") (desc := "J") (fin := false) (ty := .long) C (by decide +kernel) (Or.inl ⟨rfl, Or.inr ⟨_, kF K hw q3268⟩⟩) (fun _ h => h) (Nat.le_of_ble_eq_true rfl) (Nat.le_of_ble_eq_true rfl) (Nat.le_of_ble_eq_true rfl) rfl rfl (by decide) (fs_one (⟨rfl, ff_61_154 s0 H0 oa D⟩))) ?_
  exact fs_c0
theorem hX49_foreign : fe_H (sX49_foreign) cX49_foreign [0, 39] fe_ka [] 26 (fun _ => dX49_foreign FX49_foreign_0 FX49_foreign_39) := by
  intro j pc L st M r hc h
  rcases fe_mem_c hc with rfl | hc
  · obtain ⟨w0, m0, h⟩ := fe_lR_d h
    obtain ⟨w1, m1, h⟩ := fe_lR_d h
    obtain ⟨w2, m2, h⟩ := fe_lI_d h
    obtain ⟨w3, m3, h⟩ := fe_lI_d h
    obtain ⟨w4, m4, h⟩ := fe_lI_d h
    obtain ⟨w5, m5, h⟩ := fe_lI_d h
    obtain ⟨w6, m6, h⟩ := fe_lI_d h
    obtain ⟨rfl, hz⟩ := fe_t0_d h
    exact ⟨[(0, .ref w0), (1, .ref w1), (2, .int w2), (3, .int w3), (4, .int w4), (5, .int w5), (6, .int w6)], (fe_cs m0 (fe_cs m1 (fe_cs m2 (fe_cs m3 (fe_cs m4 (fe_cs m5 (fe_cs m6 fe_nl))))))), Or.inr ((bX49_foreign_0 FX49_foreign_0 FX49_foreign_39 w0 w1 w2 w3 w4 w5 w6 M).symm.trans hz)⟩
  rcases fe_mem_c hc with rfl | hc
  · obtain ⟨s0, t0, rfl, g0⟩ := fe_tR_d h
    obtain ⟨rfl, hz⟩ := fe_t0_d g0
    exact ⟨[], fe_nl, Or.inr ((bX49_foreign_39 FX49_foreign_0 FX49_foreign_39 s0 M).symm.trans hz)⟩
  exact fe_mem_0 hc
theorem vX49_foreign : fe_SB (sX49_foreign) := by
  refine ⟨?_, ?_, ?_, ?_⟩
  · intro i As M r h
    exact fe_no h
  · intro i As M r h
    exact fe_no h
  · intro i As M r h
    exact fe_no h
  · intro i As M r h
    exact fe_no h
theorem eX49_foreign (g0 : Nat → Nat → Int32 → Int32 → Int32 → Int32 → Int32 → FM → Option (Nat × FM)) (g39 : Nat → FM → Option (Nat × FM)) (a0 : Nat) (a1 : Nat) (a2 : Int32) (a3 : Int32) (a4 : Int32) (a5 : Int32) (a6 : Int32) (M : FM) : dX49_foreign g0 g39 0 [(0, .ref a0), (1, .ref a1), (2, .int a2), (3, .int a3), (4, .int a4), (5, .int a5), (6, .int a6)] [] M = g0 a0 a1 a2 a3 a4 a5 a6 M := by rfl
theorem mX49_foreign (a0 : Nat) (a1 : Nat) (a2 : Int32) (a3 : Int32) (a4 : Int32) (a5 : Int32) (a6 : Int32) (M : FM) (r : Nat × FM) (h : FX49_foreign a0 a1 a2 a3 a4 a5 a6 M = some r) : fm_nx M ≤ fm_nx r.2 ∧ fm_ns M ≤ fm_ns r.2 :=
  fe_mono (L0 := [(0, .ref a0), (1, .ref a1), (2, .int a2), (3, .int a3), (4, .int a4), (5, .int a5), (6, .int a6)]) (vX49_foreign) (by decide +kernel) (hX49_foreign) (fe_ka_k r) 0 rfl ((eX49_foreign FX49_foreign_0 FX49_foreign_39 a0 a1 a2 a3 a4 a5 a6 M).trans h)
theorem zX49_foreign {s0 : State} {H0 : Heap} {oa : Nat → Nat} {D : va_G} (K : fk s0 H0 oa D) (l : Launch) (a0 : Nat) (a1 : Nat) (a2 : Int32) (a3 : Int32) (a4 : Int32) (a5 : Int32) (a6 : Int32) (M : FM) (r : Nat × FM) (h : FX49_foreign a0 a1 a2 a3 a4 a5 a6 M = some r) : fs_Con (fk_E s0 H0 oa D) l 1 ⟨"BoardMachine$Integers$Decoder", "foreign", "(LBoardMachine$Integers$Decoded;ZIIZI)LBoardMachine$Integers$Action;"⟩ prog_64_method_11_code 7 (Option.some (Jvm.ClassFile.FieldType.object "BoardMachine$Integers$Action")) [.ref a0, .ref a1, .int a2, .int a3, .int a4, .int a5, .int a6] M (some (.ref r.1)) r.2 := by
  refine fs_method (own := "BoardMachine$Integers$Decoder") rfl (by decide) K.2.1 (by rw [fe_slen]; exact (Nat.le_of_ble_eq_true rfl)) (mX49_foreign a0 a1 a2 a3 a4 a5 a6 M r h) (hX49_foreign) 0 rfl (L0 := [(0, .ref a0), (1, .ref a1), (2, .int a2), (3, .int a3), (4, .int a4), (5, .int a5), (6, .int a6)]) (fun E => fe_args_e E [.ref a0, .ref a1, .int a2, .int a3, .int a4, .int a5, .int a6] 0) ((eX49_foreign FX49_foreign_0 FX49_foreign_39 a0 a1 a2 a3 a4 a5 a6 M).trans h) (fe_ka_k r) (fun H hR => fs_nr_o (by decide) (by decide)) ?_
  intro p e s m args below meth c Q C hnm
  have hw : s0.WarmedH s.vm := C.2.2.2.2.1
  refine fe_all C fk_hwr cX49_foreign [2, 9, 15, 21, 29, 36] (by decide +kernel) (fe_fil (cps := [(2, 5, .putfield 662950132), (9, 12, .putfield 646172917), (15, 18, .putfield 654561527), (21, 24, .putfield 671338740), (29, 32, .getfield 713285882), (36, 39, .getfield 675537146)]) (by decide +kernel) ?_)
  refine fs_c1 (fs_putf (pc := 2) (n := 662950132) (idx := 169) (ref := "BoardMachine$Integers$Decoded") (O := "BoardMachine$Integers$Decoded") (name := "kind") (desc := "I") (fin := false) (ty := .int) C (by decide +kernel) (Or.inl ⟨rfl, Or.inr ⟨_, kF K hw q3279⟩⟩) (fun _ h => h) (Nat.le_of_ble_eq_true rfl) (Nat.le_of_ble_eq_true rfl) (Nat.le_of_ble_eq_true rfl) rfl rfl (by decide) (fs_one (⟨rfl, ff_61_158 s0 H0 oa D⟩))) ?_
  refine fs_c1 (fs_putf (pc := 9) (n := 646172917) (idx := 144) (ref := "BoardMachine$Integers$Decoded") (O := "BoardMachine$Integers$Decoded") (name := "immediate") (desc := "J") (fin := false) (ty := .long) C (by decide +kernel) (Or.inl ⟨rfl, Or.inr ⟨_, kF K hw q3268⟩⟩) (fun _ h => h) (Nat.le_of_ble_eq_true rfl) (Nat.le_of_ble_eq_true rfl) (Nat.le_of_ble_eq_true rfl) rfl rfl (by decide) (fs_one (⟨rfl, ff_61_154 s0 H0 oa D⟩))) ?_
  refine fs_c1 (fs_putf (pc := 15) (n := 654561527) (idx := 137) (ref := "BoardMachine$Integers$Decoded") (O := "BoardMachine$Integers$Decoded") (name := "ofRegisters") (desc := "Z") (fin := false) (ty := .boolean) C (by decide +kernel) (Or.inl ⟨rfl, Or.inr ⟨_, kF K hw q3273⟩⟩) (fun _ h => h) (Nat.le_of_ble_eq_true rfl) (Nat.le_of_ble_eq_true rfl) (Nat.le_of_ble_eq_true rfl) rfl rfl (by decide) (fs_one (⟨rfl, ff_61_156 s0 H0 oa D⟩))) ?_
  refine fs_c1 (fs_putf (pc := 21) (n := 671338740) (idx := 175) (ref := "BoardMachine$Integers$Decoded") (O := "BoardMachine$Integers$Decoded") (name := "sort") (desc := "I") (fin := false) (ty := .int) C (by decide +kernel) (Or.inl ⟨rfl, Or.inr ⟨_, kF K hw q3285⟩⟩) (fun _ h => h) (Nat.le_of_ble_eq_true rfl) (Nat.le_of_ble_eq_true rfl) (Nat.le_of_ble_eq_true rfl) rfl rfl (by decide) (fs_one (⟨rfl, ff_61_160 s0 H0 oa D⟩))) ?_
  refine fs_c1 (fs_getf (pc := 29) (n := 713285882) (idx := 65) (ref := "BoardMachine$Integers$Decoder") (O := "BoardMachine$Integers$Decoder") (name := "foreign") (desc := "LBoardMachine$Integers$Action;") C (by decide +kernel) (Or.inl (kw K hw q1379)) (fun _ h => h) (Nat.le_of_ble_eq_true rfl) (Nat.le_of_ble_eq_true rfl) (fs_one (⟨_, ff_62_170 s0 H0 oa D⟩))) ?_
  refine fs_c1 (fs_getf (pc := 36) (n := 675537146) (idx := 12) (ref := "BoardMachine$Integers$Decoder") (O := "BoardMachine$Integers$Decoder") (name := "illegal") (desc := "LBoardMachine$Integers$Action;") C (by decide +kernel) (Or.inl (kw K hw q1370)) (fun _ h => h) (Nat.le_of_ble_eq_true rfl) (Nat.le_of_ble_eq_true rfl) (fs_one (⟨_, ff_62_161 s0 H0 oa D⟩))) ?_
  exact fs_c0
theorem hX105_immediateS : fe_H (sX105_immediateS FX105_bits) cX105_immediateS [0] fe_kl [] 20 (fun _ => dX105_immediateS FX105_immediateS_0) := by
  intro j pc L st M r hc h
  rcases fe_mem_c hc with rfl | hc
  · obtain ⟨w0, m0, h⟩ := fe_lI_d h
    obtain ⟨rfl, hz⟩ := fe_t0_d h
    exact ⟨[(0, .int w0)], (fe_cs m0 fe_nl), Or.inr ((bX105_immediateS_0 FX105_bits FX105_immediateS_0 w0 M).symm.trans hz)⟩
  exact fe_mem_0 hc
theorem vX105_immediateS : fe_SB (sX105_immediateS FX105_bits) := by
  refine ⟨?_, ?_, ?_, ?_⟩
  · intro i As M r h
    exact fe_no h
  · intro i As M r h
    rcases fe_bc h with h | h
    · obtain ⟨v0, t0, rfl, g0⟩ := fe_tI_d h
      obtain ⟨v1, t1, rfl, g1⟩ := fe_tI_d g0
      obtain ⟨v2, t2, rfl, g2⟩ := fe_tI_d g1
      obtain ⟨rfl, hz⟩ := fe_t0_d g2
      exact mX105_bits v0 v1 v2 M r hz
    exact fe_no h
  · intro i As M r h
    exact fe_no h
  · intro i As M r h
    exact fe_no h
theorem eX105_immediateS (g0 : Int32 → FM → Option (Int64 × FM)) (a0 : Int32) (M : FM) : dX105_immediateS g0 0 [(0, .int a0)] [] M = g0 a0 M := by rfl
theorem mX105_immediateS (a0 : Int32) (M : FM) (r : Int64 × FM) (h : FX105_immediateS a0 M = some r) : fm_nx M ≤ fm_nx r.2 ∧ fm_ns M ≤ fm_ns r.2 :=
  fe_mono (L0 := [(0, .int a0)]) (vX105_immediateS) (by decide +kernel) (hX105_immediateS) (fe_kl_k r) 0 rfl ((eX105_immediateS FX105_immediateS_0 a0 M).trans h)
theorem zX105_immediateS {s0 : State} {H0 : Heap} {oa : Nat → Nat} {D : va_G} (K : fk s0 H0 oa D) (l : Launch) (a0 : Int32) (M : FM) (r : Int64 × FM) (h : FX105_immediateS a0 M = some r) : fs_Con (fk_E s0 H0 oa D) l 2 ⟨"BoardMachine$Integers$Fields", "immediateS", "(I)J"⟩ prog_66_method_4_code 1 (Option.some Jvm.ClassFile.FieldType.long) [.int a0] M (some (.long r.1)) r.2 := by
  have o0 : fs_OS (sX105_immediateS FX105_bits) 0 1 (fs_Con (fk_E s0 H0 oa D) l 1 ⟨"BoardMachine$Integers$Fields", "bits", "(III)I"⟩ prog_66_method_2_code 3 (Option.some Jvm.ClassFile.FieldType.int)) := by
    intro As M r h
    obtain ⟨v0, t0, rfl, g0⟩ := fe_tI_d h
    obtain ⟨v1, t1, rfl, g1⟩ := fe_tI_d g0
    obtain ⟨v2, t2, rfl, g2⟩ := fe_tI_d g1
    obtain ⟨rfl, hz⟩ := fe_t0_d g2
    exact zX105_bits K l v0 v1 v2 M r hz
  refine fs_method (own := "BoardMachine$Integers$Fields") rfl (by decide) K.2.1 (by rw [fe_slen]; exact (Nat.le_of_ble_eq_true rfl)) (mX105_immediateS a0 M r h) (hX105_immediateS) 0 rfl (L0 := [(0, .int a0)]) (fun E => fe_args_e E [.int a0] 0) ((eX105_immediateS FX105_immediateS_0 a0 M).trans h) (fe_kl_k r) (fun H hR => fs_nr_o (by decide) (by decide)) ?_
  intro p e s m args below meth c Q C hnm
  have hw : s0.WarmedH s.vm := C.2.2.2.2.1
  refine fe_all C fk_hwr cX105_immediateS [11] (by decide +kernel) (fe_fil (cps := [(11, 14, .invokestatic 13)]) (by decide +kernel) ?_)
  refine fs_c1 (fs_inv_static (pc := 11) (n := 13) C (fs_lk_static (idx := 7) (y := ⟨"BoardMachine$Integers$Fields", "bits", "(III)I"⟩) (bytes := prog_66_method_2_code) (maxL := 3) (rt := (Option.some Jvm.ClassFile.FieldType.int)) (d := 1) C (by decide +kernel) (kw K hw q3317) (kw K hw q430) (kw K hw q3316) (Or.inl (kw K hw q3332)) ⟨by decide, by decide⟩ rfl (Nat.le_of_ble_eq_true rfl) (Nat.le_of_ble_eq_true rfl)) fs_con_mono o0) ?_
  exact fs_c0
theorem hX49_store : fe_H (sX49_store FX105_immediateS FX49_access) cX49_store [0] fe_ka [] 20 (fun _ => dX49_store FX49_store_0) := by
  intro j pc L st M r hc h
  rcases fe_mem_c hc with rfl | hc
  · obtain ⟨w0, m0, h⟩ := fe_lR_d h
    obtain ⟨w1, m1, h⟩ := fe_lR_d h
    obtain ⟨w2, m2, h⟩ := fe_lI_d h
    obtain ⟨w3, m3, h⟩ := fe_lI_d h
    obtain ⟨w4, m4, h⟩ := fe_lI_d h
    obtain ⟨w5, m5, h⟩ := fe_lI_d h
    obtain ⟨rfl, hz⟩ := fe_t0_d h
    exact ⟨[(0, .ref w0), (1, .ref w1), (2, .int w2), (3, .int w3), (4, .int w4), (5, .int w5)], (fe_cs m0 (fe_cs m1 (fe_cs m2 (fe_cs m3 (fe_cs m4 (fe_cs m5 fe_nl)))))), Or.inr ((bX49_store_0 FX105_immediateS FX49_access FX49_store_0 w0 w1 w2 w3 w4 w5 M).symm.trans hz)⟩
  exact fe_mem_0 hc
theorem vX49_store : fe_SB (sX49_store FX105_immediateS FX49_access) := by
  refine ⟨?_, ?_, ?_, ?_⟩
  · intro i As M r h
    exact fe_no h
  · intro i As M r h
    exact fe_no h
  · intro i As M r h
    rcases fe_bc h with h | h
    · obtain ⟨v0, t0, rfl, g0⟩ := fe_tI_d h
      obtain ⟨rfl, hz⟩ := fe_t0_d g0
      exact mX105_immediateS v0 M r hz
    exact fe_no h
  · intro i As M r h
    rcases fe_bc h with h | h
    · obtain ⟨v0, t0, rfl, g0⟩ := fe_tR_d h
      obtain ⟨v1, t1, rfl, g1⟩ := fe_tR_d g0
      obtain ⟨v2, t2, rfl, g2⟩ := fe_tI_d g1
      obtain ⟨v3, t3, rfl, g3⟩ := fe_tI_d g2
      obtain ⟨v4, t4, rfl, g4⟩ := fe_tL_d g3
      obtain ⟨v5, t5, rfl, g5⟩ := fe_tI_d g4
      obtain ⟨v6, t6, rfl, g6⟩ := fe_tI_d g5
      obtain ⟨rfl, hz⟩ := fe_t0_d g6
      exact mX49_access v0 v1 v2 v3 v4 v5 v6 M r hz
    exact fe_no h
theorem eX49_store (g0 : Nat → Nat → Int32 → Int32 → Int32 → Int32 → FM → Option (Nat × FM)) (a0 : Nat) (a1 : Nat) (a2 : Int32) (a3 : Int32) (a4 : Int32) (a5 : Int32) (M : FM) : dX49_store g0 0 [(0, .ref a0), (1, .ref a1), (2, .int a2), (3, .int a3), (4, .int a4), (5, .int a5)] [] M = g0 a0 a1 a2 a3 a4 a5 M := by rfl
theorem mX49_store (a0 : Nat) (a1 : Nat) (a2 : Int32) (a3 : Int32) (a4 : Int32) (a5 : Int32) (M : FM) (r : Nat × FM) (h : FX49_store a0 a1 a2 a3 a4 a5 M = some r) : fm_nx M ≤ fm_nx r.2 ∧ fm_ns M ≤ fm_ns r.2 :=
  fe_mono (L0 := [(0, .ref a0), (1, .ref a1), (2, .int a2), (3, .int a3), (4, .int a4), (5, .int a5)]) (vX49_store) (by decide +kernel) (hX49_store) (fe_ka_k r) 0 rfl ((eX49_store FX49_store_0 a0 a1 a2 a3 a4 a5 M).trans h)
theorem zX49_store {s0 : State} {H0 : Heap} {oa : Nat → Nat} {D : va_G} (K : fk s0 H0 oa D) (l : Launch) (a0 : Nat) (a1 : Nat) (a2 : Int32) (a3 : Int32) (a4 : Int32) (a5 : Int32) (M : FM) (r : Nat × FM) (h : FX49_store a0 a1 a2 a3 a4 a5 M = some r) : fs_Con (fk_E s0 H0 oa D) l 3 ⟨"BoardMachine$Integers$Decoder", "store", "(LBoardMachine$Integers$Decoded;ZIII)LBoardMachine$Integers$Action;"⟩ prog_64_method_9_code 6 (Option.some (Jvm.ClassFile.FieldType.object "BoardMachine$Integers$Action")) [.ref a0, .ref a1, .int a2, .int a3, .int a4, .int a5] M (some (.ref r.1)) r.2 := by
  have o0 : fs_OS (sX49_store FX105_immediateS FX49_access) 0 2 (fs_Con (fk_E s0 H0 oa D) l 2 ⟨"BoardMachine$Integers$Fields", "immediateS", "(I)J"⟩ prog_66_method_4_code 1 (Option.some Jvm.ClassFile.FieldType.long)) := by
    intro As M r h
    obtain ⟨v0, t0, rfl, g0⟩ := fe_tI_d h
    obtain ⟨rfl, hz⟩ := fe_t0_d g0
    exact zX105_immediateS K l v0 M r hz
  have o1 : fs_OS (sX49_store FX105_immediateS FX49_access) 1 3 (fs_Con (fk_E s0 H0 oa D) l 1 ⟨"BoardMachine$Integers$Decoder", "access", "(LBoardMachine$Integers$Decoded;ZIJII)LBoardMachine$Integers$Action;"⟩ prog_64_method_8_code 8 (Option.some (Jvm.ClassFile.FieldType.object "BoardMachine$Integers$Action"))) := by
    intro As M r h
    obtain ⟨v0, t0, rfl, g0⟩ := fe_tR_d h
    obtain ⟨v1, t1, rfl, g1⟩ := fe_tR_d g0
    obtain ⟨v2, t2, rfl, g2⟩ := fe_tI_d g1
    obtain ⟨v3, t3, rfl, g3⟩ := fe_tI_d g2
    obtain ⟨v4, t4, rfl, g4⟩ := fe_tL_d g3
    obtain ⟨v5, t5, rfl, g5⟩ := fe_tI_d g4
    obtain ⟨v6, t6, rfl, g6⟩ := fe_tI_d g5
    obtain ⟨rfl, hz⟩ := fe_t0_d g6
    exact zX49_access K l v0 v1 v2 v3 v4 v5 v6 M r hz
  refine fs_method (own := "BoardMachine$Integers$Decoder") rfl (by decide) K.2.1 (by rw [fe_slen]; exact (Nat.le_of_ble_eq_true rfl)) (mX49_store a0 a1 a2 a3 a4 a5 M r h) (hX49_store) 0 rfl (L0 := [(0, .ref a0), (1, .ref a1), (2, .int a2), (3, .int a3), (4, .int a4), (5, .int a5)]) (fun E => fe_args_e E [.ref a0, .ref a1, .int a2, .int a3, .int a4, .int a5] 0) ((eX49_store FX49_store_0 a0 a1 a2 a3 a4 a5 M).trans h) (fe_ka_k r) (fun H hR => fs_nr_o (by decide) (by decide)) ?_
  intro p e s m args below meth c Q C hnm
  have hw : s0.WarmedH s.vm := C.2.2.2.2.1
  refine fe_all C fk_hwr cX49_store [2, 10, 13, 20] (by decide +kernel) (fe_fil (cps := [(2, 5, .putfield 633590004), (10, 13, .getfield 629395700), (13, 16, .invokestatic 6), (20, 23, .invokevirtual 99678270)]) (by decide +kernel) ?_)
  refine fs_c1 (fs_putf (pc := 2) (n := 633590004) (idx := 178) (ref := "BoardMachine$Integers$Decoded") (O := "BoardMachine$Integers$Decoded") (name := "d") (desc := "I") (fin := false) (ty := .int) C (by decide +kernel) (Or.inl ⟨rfl, Or.inr ⟨_, kF K hw q3251⟩⟩) (fun _ h => h) (Nat.le_of_ble_eq_true rfl) (Nat.le_of_ble_eq_true rfl) (Nat.le_of_ble_eq_true rfl) rfl rfl (by decide) (fs_one (⟨rfl, ff_61_151 s0 H0 oa D⟩))) ?_
  refine fs_c1 (fs_getf (pc := 10) (n := 629395700) (idx := 148) (ref := "BoardMachine$Integers$Decoded") (O := "BoardMachine$Integers$Decoded") (name := "word") (desc := "I") C (by decide +kernel) (Or.inr ⟨_, kF K hw q3244⟩) (fun _ h => h) (Nat.le_of_ble_eq_true rfl) (Nat.le_of_ble_eq_true rfl) (fs_one (⟨_, ff_61_150 s0 H0 oa D⟩))) ?_
  refine fs_c1 (fs_inv_static (pc := 13) (n := 6) C (fs_lk_static (idx := 181) (y := ⟨"BoardMachine$Integers$Fields", "immediateS", "(I)J"⟩) (bytes := prog_66_method_4_code) (maxL := 1) (rt := (Option.some Jvm.ClassFile.FieldType.long)) (d := 2) C (by decide +kernel) (kw K hw q3410) (kw K hw q430) (kw K hw q3409) (Or.inl (kw K hw q3408)) ⟨by decide, by decide⟩ rfl (Nat.le_of_ble_eq_true rfl) (Nat.le_of_ble_eq_true rfl)) fs_con_mono o0) ?_
  refine fs_c1 (fs_inv_virtual (pc := 20) (n := 99678270) C (Nat.le_of_ble_eq_true rfl) (Nat.le_of_ble_eq_true rfl) (fs_lk_virtual (idx := 184) (y := ⟨"BoardMachine$Integers$Decoder", "access", "(LBoardMachine$Integers$Decoded;ZIJII)LBoardMachine$Integers$Action;"⟩) (bytes := prog_64_method_8_code) (maxL := 8) (rt := (Option.some (Jvm.ClassFile.FieldType.object "BoardMachine$Integers$Action"))) (d := 1) C (Nat.le_of_ble_eq_true rfl) (Nat.le_of_ble_eq_true rfl) (by decide +kernel) (kw K hw q3403) (kw K hw q360) (kw K hw q3402) (Or.inl (kw K hw q3400)) ⟨by decide, by decide⟩ rfl (Nat.le_of_ble_eq_true rfl) (Nat.le_of_ble_eq_true rfl) (fs_one (⟨_, rfl, kw K hw qs60⟩))) fs_con_mono o1) ?_
  exact fs_c0
theorem hX49_find : fe_H (sX49_find FX49_atomic FX49_branch FX49_immediate FX49_registers FX105_immediateI FX105_immediateU FX105_immediateJ FX49_jump FX49_foreign FX49_store FX49_access FX105_bits) cX49_find [0, 10, 15, 266, 330, 344, 374, 421, 444, 465] fe_ka [] 192 (fun _ => dX49_find FX49_find_0 FX49_find_10 FX49_find_15 FX49_find_266 FX49_find_330 FX49_find_344 FX49_find_374 FX49_find_421 FX49_find_444 FX49_find_465) := by
  intro j pc L st M r hc h
  rcases fe_mem_c hc with rfl | hc
  · obtain ⟨w0, m0, h⟩ := fe_lR_d h
    obtain ⟨w1, m1, h⟩ := fe_lR_d h
    obtain ⟨w2, m2, h⟩ := fe_lI_d h
    obtain ⟨w3, m3, h⟩ := fe_lI_d h
    obtain ⟨rfl, hz⟩ := fe_t0_d h
    exact ⟨[(0, .ref w0), (1, .ref w1), (2, .int w2), (3, .int w3)], (fe_cs m0 (fe_cs m1 (fe_cs m2 (fe_cs m3 fe_nl)))), Or.inr ((bX49_find_0 FX49_atomic FX49_branch FX49_immediate FX49_registers FX105_immediateI FX105_immediateU FX105_immediateJ FX49_jump FX49_foreign FX49_store FX49_access FX105_bits FX49_find_0 FX49_find_10 FX49_find_15 FX49_find_266 FX49_find_330 FX49_find_344 FX49_find_374 FX49_find_421 FX49_find_444 FX49_find_465 w0 w1 w2 w3 M).symm.trans hz)⟩
  rcases fe_mem_c hc with rfl | hc
  · obtain ⟨w0, m0, h⟩ := fe_lR_d h
    obtain ⟨w1, m1, h⟩ := fe_lR_d h
    obtain ⟨w2, m2, h⟩ := fe_lI_d h
    obtain ⟨w3, m3, h⟩ := fe_lI_d h
    obtain ⟨rfl, hz⟩ := fe_t0_d h
    exact ⟨[(0, .ref w0), (1, .ref w1), (2, .int w2), (3, .int w3)], (fe_cs m0 (fe_cs m1 (fe_cs m2 (fe_cs m3 fe_nl)))), Or.inr ((bX49_find_10 FX49_atomic FX49_branch FX49_immediate FX49_registers FX105_immediateI FX105_immediateU FX105_immediateJ FX49_jump FX49_foreign FX49_store FX49_access FX105_bits FX49_find_0 FX49_find_10 FX49_find_15 FX49_find_266 FX49_find_330 FX49_find_344 FX49_find_374 FX49_find_421 FX49_find_444 FX49_find_465 w0 w1 w2 w3 M).symm.trans hz)⟩
  rcases fe_mem_c hc with rfl | hc
  · obtain ⟨w0, m0, h⟩ := fe_lR_d h
    obtain ⟨w1, m1, h⟩ := fe_lR_d h
    obtain ⟨w2, m2, h⟩ := fe_lI_d h
    obtain ⟨w3, m3, h⟩ := fe_lI_d h
    obtain ⟨s0, t0, rfl, g0⟩ := fe_tI_d h
    obtain ⟨rfl, hz⟩ := fe_t0_d g0
    exact ⟨[(0, .ref w0), (1, .ref w1), (2, .int w2), (3, .int w3)], (fe_cs m0 (fe_cs m1 (fe_cs m2 (fe_cs m3 fe_nl)))), Or.inr ((bX49_find_15 FX49_atomic FX49_branch FX49_immediate FX49_registers FX105_immediateI FX105_immediateU FX105_immediateJ FX49_jump FX49_foreign FX49_store FX49_access FX105_bits FX49_find_0 FX49_find_10 FX49_find_15 FX49_find_266 FX49_find_330 FX49_find_344 FX49_find_374 FX49_find_421 FX49_find_444 FX49_find_465 w0 w1 w2 w3 s0 M).symm.trans hz)⟩
  rcases fe_mem_c hc with rfl | hc
  · obtain ⟨w5, m5, h⟩ := fe_lI_d h
    obtain ⟨s2, t2, rfl, g2⟩ := fe_tR_d h
    obtain ⟨s1, t1, rfl, g1⟩ := fe_tR_d g2
    obtain ⟨s0, t0, rfl, g0⟩ := fe_tR_d g1
    obtain ⟨rfl, hz⟩ := fe_t0_d g0
    exact ⟨[(5, .int w5)], (fe_cs m5 fe_nl), Or.inr ((bX49_find_266 FX49_atomic FX49_branch FX49_immediate FX49_registers FX105_immediateI FX105_immediateU FX105_immediateJ FX49_jump FX49_foreign FX49_store FX49_access FX105_bits FX49_find_0 FX49_find_10 FX49_find_15 FX49_find_266 FX49_find_330 FX49_find_344 FX49_find_374 FX49_find_421 FX49_find_444 FX49_find_465 w5 s0 s1 s2 M).symm.trans hz)⟩
  rcases fe_mem_c hc with rfl | hc
  · obtain ⟨s0, t0, rfl, g0⟩ := fe_tR_d h
    obtain ⟨rfl, hz⟩ := fe_t0_d g0
    exact ⟨[], fe_nl, Or.inr ((bX49_find_330 FX49_atomic FX49_branch FX49_immediate FX49_registers FX105_immediateI FX105_immediateU FX105_immediateJ FX49_jump FX49_foreign FX49_store FX49_access FX105_bits FX49_find_0 FX49_find_10 FX49_find_15 FX49_find_266 FX49_find_330 FX49_find_344 FX49_find_374 FX49_find_421 FX49_find_444 FX49_find_465 s0 M).symm.trans hz)⟩
  rcases fe_mem_c hc with rfl | hc
  · obtain ⟨w3, m3, h⟩ := fe_lI_d h
    obtain ⟨w5, m5, h⟩ := fe_lI_d h
    obtain ⟨s2, t2, rfl, g2⟩ := fe_tI_d h
    obtain ⟨s1, t1, rfl, g1⟩ := fe_tR_d g2
    obtain ⟨s0, t0, rfl, g0⟩ := fe_tR_d g1
    obtain ⟨rfl, hz⟩ := fe_t0_d g0
    exact ⟨[(3, .int w3), (5, .int w5)], (fe_cs m3 (fe_cs m5 fe_nl)), Or.inr ((bX49_find_344 FX49_atomic FX49_branch FX49_immediate FX49_registers FX105_immediateI FX105_immediateU FX105_immediateJ FX49_jump FX49_foreign FX49_store FX49_access FX105_bits FX49_find_0 FX49_find_10 FX49_find_15 FX49_find_266 FX49_find_330 FX49_find_344 FX49_find_374 FX49_find_421 FX49_find_444 FX49_find_465 w3 w5 s0 s1 s2 M).symm.trans hz)⟩
  rcases fe_mem_c hc with rfl | hc
  · obtain ⟨w3, m3, h⟩ := fe_lI_d h
    obtain ⟨s2, t2, rfl, g2⟩ := fe_tI_d h
    obtain ⟨s1, t1, rfl, g1⟩ := fe_tR_d g2
    obtain ⟨s0, t0, rfl, g0⟩ := fe_tR_d g1
    obtain ⟨rfl, hz⟩ := fe_t0_d g0
    exact ⟨[(3, .int w3)], (fe_cs m3 fe_nl), Or.inr ((bX49_find_374 FX49_atomic FX49_branch FX49_immediate FX49_registers FX105_immediateI FX105_immediateU FX105_immediateJ FX49_jump FX49_foreign FX49_store FX49_access FX105_bits FX49_find_0 FX49_find_10 FX49_find_15 FX49_find_266 FX49_find_330 FX49_find_344 FX49_find_374 FX49_find_421 FX49_find_444 FX49_find_465 w3 s0 s1 s2 M).symm.trans hz)⟩
  rcases fe_mem_c hc with rfl | hc
  · obtain ⟨w0, m0, h⟩ := fe_lR_d h
    obtain ⟨w1, m1, h⟩ := fe_lR_d h
    obtain ⟨w2, m2, h⟩ := fe_lI_d h
    obtain ⟨rfl, hz⟩ := fe_t0_d h
    exact ⟨[(0, .ref w0), (1, .ref w1), (2, .int w2)], (fe_cs m0 (fe_cs m1 (fe_cs m2 fe_nl))), Or.inr ((bX49_find_421 FX49_atomic FX49_branch FX49_immediate FX49_registers FX105_immediateI FX105_immediateU FX105_immediateJ FX49_jump FX49_foreign FX49_store FX49_access FX105_bits FX49_find_0 FX49_find_10 FX49_find_15 FX49_find_266 FX49_find_330 FX49_find_344 FX49_find_374 FX49_find_421 FX49_find_444 FX49_find_465 w0 w1 w2 M).symm.trans hz)⟩
  rcases fe_mem_c hc with rfl | hc
  · obtain ⟨w3, m3, h⟩ := fe_lI_d h
    obtain ⟨w5, m5, h⟩ := fe_lI_d h
    obtain ⟨s2, t2, rfl, g2⟩ := fe_tI_d h
    obtain ⟨s1, t1, rfl, g1⟩ := fe_tR_d g2
    obtain ⟨s0, t0, rfl, g0⟩ := fe_tR_d g1
    obtain ⟨rfl, hz⟩ := fe_t0_d g0
    exact ⟨[(3, .int w3), (5, .int w5)], (fe_cs m3 (fe_cs m5 fe_nl)), Or.inr ((bX49_find_444 FX49_atomic FX49_branch FX49_immediate FX49_registers FX105_immediateI FX105_immediateU FX105_immediateJ FX49_jump FX49_foreign FX49_store FX49_access FX105_bits FX49_find_0 FX49_find_10 FX49_find_15 FX49_find_266 FX49_find_330 FX49_find_344 FX49_find_374 FX49_find_421 FX49_find_444 FX49_find_465 w3 w5 s0 s1 s2 M).symm.trans hz)⟩
  rcases fe_mem_c hc with rfl | hc
  · obtain ⟨w3, m3, h⟩ := fe_lI_d h
    obtain ⟨s5, t5, rfl, g5⟩ := fe_tI_d h
    obtain ⟨s4, t4, rfl, g4⟩ := fe_tI_d g5
    obtain ⟨s3, t3, rfl, g3⟩ := fe_tI_d g4
    obtain ⟨s2, t2, rfl, g2⟩ := fe_tI_d g3
    obtain ⟨s1, t1, rfl, g1⟩ := fe_tR_d g2
    obtain ⟨s0, t0, rfl, g0⟩ := fe_tR_d g1
    obtain ⟨rfl, hz⟩ := fe_t0_d g0
    exact ⟨[(3, .int w3)], (fe_cs m3 fe_nl), Or.inr ((bX49_find_465 FX49_atomic FX49_branch FX49_immediate FX49_registers FX105_immediateI FX105_immediateU FX105_immediateJ FX49_jump FX49_foreign FX49_store FX49_access FX105_bits FX49_find_0 FX49_find_10 FX49_find_15 FX49_find_266 FX49_find_330 FX49_find_344 FX49_find_374 FX49_find_421 FX49_find_444 FX49_find_465 w3 s0 s1 s2 s3 s4 s5 M).symm.trans hz)⟩
  exact fe_mem_0 hc
theorem vX49_find : fe_SB (sX49_find FX49_atomic FX49_branch FX49_immediate FX49_registers FX105_immediateI FX105_immediateU FX105_immediateJ FX49_jump FX49_foreign FX49_store FX49_access FX105_bits) := by
  refine ⟨?_, ?_, ?_, ?_⟩
  · intro i As M r h
    exact fe_no h
  · intro i As M r h
    rcases fe_bc h with h | h
    · obtain ⟨v0, t0, rfl, g0⟩ := fe_tI_d h
      obtain ⟨v1, t1, rfl, g1⟩ := fe_tI_d g0
      obtain ⟨v2, t2, rfl, g2⟩ := fe_tI_d g1
      obtain ⟨rfl, hz⟩ := fe_t0_d g2
      exact mX105_bits v0 v1 v2 M r hz
    exact fe_no h
  · intro i As M r h
    rcases fe_bc h with h | h
    · obtain ⟨v0, t0, rfl, g0⟩ := fe_tI_d h
      obtain ⟨rfl, hz⟩ := fe_t0_d g0
      exact mX105_immediateI v0 M r hz
    rcases fe_bc h with h | h
    · obtain ⟨v0, t0, rfl, g0⟩ := fe_tI_d h
      obtain ⟨rfl, hz⟩ := fe_t0_d g0
      exact mX105_immediateU v0 M r hz
    rcases fe_bc h with h | h
    · obtain ⟨v0, t0, rfl, g0⟩ := fe_tI_d h
      obtain ⟨rfl, hz⟩ := fe_t0_d g0
      exact mX105_immediateJ v0 M r hz
    exact fe_no h
  · intro i As M r h
    rcases fe_bc h with h | h
    · obtain ⟨v0, t0, rfl, g0⟩ := fe_tR_d h
      obtain ⟨v1, t1, rfl, g1⟩ := fe_tR_d g0
      obtain ⟨v2, t2, rfl, g2⟩ := fe_tI_d g1
      obtain ⟨rfl, hz⟩ := fe_t0_d g2
      exact mX49_atomic v0 v1 v2 M r hz
    rcases fe_bc h with h | h
    · obtain ⟨v0, t0, rfl, g0⟩ := fe_tR_d h
      obtain ⟨v1, t1, rfl, g1⟩ := fe_tR_d g0
      obtain ⟨v2, t2, rfl, g2⟩ := fe_tI_d g1
      obtain ⟨rfl, hz⟩ := fe_t0_d g2
      exact mX49_branch v0 v1 v2 M r hz
    rcases fe_bc h with h | h
    · obtain ⟨v0, t0, rfl, g0⟩ := fe_tR_d h
      obtain ⟨v1, t1, rfl, g1⟩ := fe_tR_d g0
      obtain ⟨v2, t2, rfl, g2⟩ := fe_tI_d g1
      obtain ⟨v3, t3, rfl, g3⟩ := fe_tI_d g2
      obtain ⟨rfl, hz⟩ := fe_t0_d g3
      exact mX49_immediate v0 v1 v2 v3 M r hz
    rcases fe_bc h with h | h
    · obtain ⟨v0, t0, rfl, g0⟩ := fe_tR_d h
      obtain ⟨v1, t1, rfl, g1⟩ := fe_tR_d g0
      obtain ⟨v2, t2, rfl, g2⟩ := fe_tI_d g1
      obtain ⟨v3, t3, rfl, g3⟩ := fe_tI_d g2
      obtain ⟨rfl, hz⟩ := fe_t0_d g3
      exact mX49_registers v0 v1 v2 v3 M r hz
    rcases fe_bc h with h | h
    · obtain ⟨v0, t0, rfl, g0⟩ := fe_tR_d h
      obtain ⟨v1, t1, rfl, g1⟩ := fe_tR_d g0
      obtain ⟨v2, t2, rfl, g2⟩ := fe_tR_d g1
      obtain ⟨v3, t3, rfl, g3⟩ := fe_tL_d g2
      obtain ⟨rfl, hz⟩ := fe_t0_d g3
      exact mX49_jump v0 v1 v2 v3 M r hz
    rcases fe_bc h with h | h
    · obtain ⟨v0, t0, rfl, g0⟩ := fe_tR_d h
      obtain ⟨v1, t1, rfl, g1⟩ := fe_tR_d g0
      obtain ⟨v2, t2, rfl, g2⟩ := fe_tI_d g1
      obtain ⟨v3, t3, rfl, g3⟩ := fe_tI_d g2
      obtain ⟨v4, t4, rfl, g4⟩ := fe_tI_d g3
      obtain ⟨v5, t5, rfl, g5⟩ := fe_tI_d g4
      obtain ⟨v6, t6, rfl, g6⟩ := fe_tI_d g5
      obtain ⟨rfl, hz⟩ := fe_t0_d g6
      exact mX49_foreign v0 v1 v2 v3 v4 v5 v6 M r hz
    rcases fe_bc h with h | h
    · obtain ⟨v0, t0, rfl, g0⟩ := fe_tR_d h
      obtain ⟨v1, t1, rfl, g1⟩ := fe_tR_d g0
      obtain ⟨v2, t2, rfl, g2⟩ := fe_tI_d g1
      obtain ⟨v3, t3, rfl, g3⟩ := fe_tI_d g2
      obtain ⟨v4, t4, rfl, g4⟩ := fe_tI_d g3
      obtain ⟨v5, t5, rfl, g5⟩ := fe_tI_d g4
      obtain ⟨rfl, hz⟩ := fe_t0_d g5
      exact mX49_store v0 v1 v2 v3 v4 v5 M r hz
    rcases fe_bc h with h | h
    · obtain ⟨v0, t0, rfl, g0⟩ := fe_tR_d h
      obtain ⟨v1, t1, rfl, g1⟩ := fe_tR_d g0
      obtain ⟨v2, t2, rfl, g2⟩ := fe_tI_d g1
      obtain ⟨v3, t3, rfl, g3⟩ := fe_tI_d g2
      obtain ⟨v4, t4, rfl, g4⟩ := fe_tL_d g3
      obtain ⟨v5, t5, rfl, g5⟩ := fe_tI_d g4
      obtain ⟨v6, t6, rfl, g6⟩ := fe_tI_d g5
      obtain ⟨rfl, hz⟩ := fe_t0_d g6
      exact mX49_access v0 v1 v2 v3 v4 v5 v6 M r hz
    exact fe_no h
theorem eX49_find (g0 : Nat → Nat → Int32 → Int32 → FM → Option (Nat × FM)) (g10 : Nat → Nat → Int32 → Int32 → FM → Option (Nat × FM)) (g15 : Nat → Nat → Int32 → Int32 → Int32 → FM → Option (Nat × FM)) (g266 : Int32 → Nat → Nat → Nat → FM → Option (Nat × FM)) (g330 : Nat → FM → Option (Nat × FM)) (g344 : Int32 → Int32 → Nat → Nat → Int32 → FM → Option (Nat × FM)) (g374 : Int32 → Nat → Nat → Int32 → FM → Option (Nat × FM)) (g421 : Nat → Nat → Int32 → FM → Option (Nat × FM)) (g444 : Int32 → Int32 → Nat → Nat → Int32 → FM → Option (Nat × FM)) (g465 : Int32 → Nat → Nat → Int32 → Int32 → Int32 → Int32 → FM → Option (Nat × FM)) (a0 : Nat) (a1 : Nat) (a2 : Int32) (a3 : Int32) (M : FM) : dX49_find g0 g10 g15 g266 g330 g344 g374 g421 g444 g465 0 [(0, .ref a0), (1, .ref a1), (2, .int a2), (3, .int a3)] [] M = g0 a0 a1 a2 a3 M := by rfl
theorem mX49_find (a0 : Nat) (a1 : Nat) (a2 : Int32) (a3 : Int32) (M : FM) (r : Nat × FM) (h : FX49_find a0 a1 a2 a3 M = some r) : fm_nx M ≤ fm_nx r.2 ∧ fm_ns M ≤ fm_ns r.2 :=
  fe_mono (L0 := [(0, .ref a0), (1, .ref a1), (2, .int a2), (3, .int a3)]) (vX49_find) (by decide +kernel) (hX49_find) (fe_ka_k r) 0 rfl ((eX49_find FX49_find_0 FX49_find_10 FX49_find_15 FX49_find_266 FX49_find_330 FX49_find_344 FX49_find_374 FX49_find_421 FX49_find_444 FX49_find_465 a0 a1 a2 a3 M).trans h)
theorem zX49_find {s0 : State} {H0 : Heap} {oa : Nat → Nat} {D : va_G} (K : fk s0 H0 oa D) (l : Launch) (a0 : Nat) (a1 : Nat) (a2 : Int32) (a3 : Int32) (M : FM) (r : Nat × FM) (h : FX49_find a0 a1 a2 a3 M = some r) : fs_Con (fk_E s0 H0 oa D) l 4 ⟨"BoardMachine$Integers$Decoder", "find", "(LBoardMachine$Integers$Decoded;II)LBoardMachine$Integers$Action;"⟩ prog_64_method_14_code 6 (Option.some (Jvm.ClassFile.FieldType.object "BoardMachine$Integers$Action")) [.ref a0, .ref a1, .int a2, .int a3] M (some (.ref r.1)) r.2 := by
  have o0 : fs_OS (sX49_find FX49_atomic FX49_branch FX49_immediate FX49_registers FX105_immediateI FX105_immediateU FX105_immediateJ FX49_jump FX49_foreign FX49_store FX49_access FX105_bits) 0 3 (fs_Con (fk_E s0 H0 oa D) l 2 ⟨"BoardMachine$Integers$Decoder", "atomic", "(LBoardMachine$Integers$Decoded;I)LBoardMachine$Integers$Action;"⟩ prog_64_method_10_code 5 (Option.some (Jvm.ClassFile.FieldType.object "BoardMachine$Integers$Action"))) := by
    intro As M r h
    obtain ⟨v0, t0, rfl, g0⟩ := fe_tR_d h
    obtain ⟨v1, t1, rfl, g1⟩ := fe_tR_d g0
    obtain ⟨v2, t2, rfl, g2⟩ := fe_tI_d g1
    obtain ⟨rfl, hz⟩ := fe_t0_d g2
    exact zX49_atomic K l v0 v1 v2 M r hz
  have o1 : fs_OS (sX49_find FX49_atomic FX49_branch FX49_immediate FX49_registers FX105_immediateI FX105_immediateU FX105_immediateJ FX49_jump FX49_foreign FX49_store FX49_access FX105_bits) 1 3 (fs_Con (fk_E s0 H0 oa D) l 3 ⟨"BoardMachine$Integers$Decoder", "branch", "(LBoardMachine$Integers$Decoded;I)LBoardMachine$Integers$Action;"⟩ prog_64_method_13_code 3 (Option.some (Jvm.ClassFile.FieldType.object "BoardMachine$Integers$Action"))) := by
    intro As M r h
    obtain ⟨v0, t0, rfl, g0⟩ := fe_tR_d h
    obtain ⟨v1, t1, rfl, g1⟩ := fe_tR_d g0
    obtain ⟨v2, t2, rfl, g2⟩ := fe_tI_d g1
    obtain ⟨rfl, hz⟩ := fe_t0_d g2
    exact zX49_branch K l v0 v1 v2 M r hz
  have o2 : fs_OS (sX49_find FX49_atomic FX49_branch FX49_immediate FX49_registers FX105_immediateI FX105_immediateU FX105_immediateJ FX49_jump FX49_foreign FX49_store FX49_access FX105_bits) 2 3 (fs_Con (fk_E s0 H0 oa D) l 3 ⟨"BoardMachine$Integers$Decoder", "immediate", "(LBoardMachine$Integers$Decoded;IZ)LBoardMachine$Integers$Action;"⟩ prog_64_method_6_code 8 (Option.some (Jvm.ClassFile.FieldType.object "BoardMachine$Integers$Action"))) := by
    intro As M r h
    obtain ⟨v0, t0, rfl, g0⟩ := fe_tR_d h
    obtain ⟨v1, t1, rfl, g1⟩ := fe_tR_d g0
    obtain ⟨v2, t2, rfl, g2⟩ := fe_tI_d g1
    obtain ⟨v3, t3, rfl, g3⟩ := fe_tI_d g2
    obtain ⟨rfl, hz⟩ := fe_t0_d g3
    exact zX49_immediate K l v0 v1 v2 v3 M r hz
  have o3 : fs_OS (sX49_find FX49_atomic FX49_branch FX49_immediate FX49_registers FX105_immediateI FX105_immediateU FX105_immediateJ FX49_jump FX49_foreign FX49_store FX49_access FX105_bits) 3 3 (fs_Con (fk_E s0 H0 oa D) l 3 ⟨"BoardMachine$Integers$Decoder", "registers", "(LBoardMachine$Integers$Decoded;IZ)LBoardMachine$Integers$Action;"⟩ prog_64_method_7_code 6 (Option.some (Jvm.ClassFile.FieldType.object "BoardMachine$Integers$Action"))) := by
    intro As M r h
    obtain ⟨v0, t0, rfl, g0⟩ := fe_tR_d h
    obtain ⟨v1, t1, rfl, g1⟩ := fe_tR_d g0
    obtain ⟨v2, t2, rfl, g2⟩ := fe_tI_d g1
    obtain ⟨v3, t3, rfl, g3⟩ := fe_tI_d g2
    obtain ⟨rfl, hz⟩ := fe_t0_d g3
    exact zX49_registers K l v0 v1 v2 v3 M r hz
  have o4 : fs_OS (sX49_find FX49_atomic FX49_branch FX49_immediate FX49_registers FX105_immediateI FX105_immediateU FX105_immediateJ FX49_jump FX49_foreign FX49_store FX49_access FX105_bits) 4 2 (fs_Con (fk_E s0 H0 oa D) l 1 ⟨"BoardMachine$Integers$Fields", "immediateI", "(I)J"⟩ prog_66_method_3_code 1 (Option.some Jvm.ClassFile.FieldType.long)) := by
    intro As M r h
    obtain ⟨v0, t0, rfl, g0⟩ := fe_tI_d h
    obtain ⟨rfl, hz⟩ := fe_t0_d g0
    exact zX105_immediateI K l v0 M r hz
  have o5 : fs_OS (sX49_find FX49_atomic FX49_branch FX49_immediate FX49_registers FX105_immediateI FX105_immediateU FX105_immediateJ FX49_jump FX49_foreign FX49_store FX49_access FX105_bits) 5 2 (fs_Con (fk_E s0 H0 oa D) l 1 ⟨"BoardMachine$Integers$Fields", "immediateU", "(I)J"⟩ prog_66_method_6_code 1 (Option.some Jvm.ClassFile.FieldType.long)) := by
    intro As M r h
    obtain ⟨v0, t0, rfl, g0⟩ := fe_tI_d h
    obtain ⟨rfl, hz⟩ := fe_t0_d g0
    exact zX105_immediateU K l v0 M r hz
  have o6 : fs_OS (sX49_find FX49_atomic FX49_branch FX49_immediate FX49_registers FX105_immediateI FX105_immediateU FX105_immediateJ FX49_jump FX49_foreign FX49_store FX49_access FX105_bits) 6 2 (fs_Con (fk_E s0 H0 oa D) l 2 ⟨"BoardMachine$Integers$Fields", "immediateJ", "(I)J"⟩ prog_66_method_7_code 1 (Option.some Jvm.ClassFile.FieldType.long)) := by
    intro As M r h
    obtain ⟨v0, t0, rfl, g0⟩ := fe_tI_d h
    obtain ⟨rfl, hz⟩ := fe_t0_d g0
    exact zX105_immediateJ K l v0 M r hz
  have o7 : fs_OS (sX49_find FX49_atomic FX49_branch FX49_immediate FX49_registers FX105_immediateI FX105_immediateU FX105_immediateJ FX49_jump FX49_foreign FX49_store FX49_access FX105_bits) 7 3 (fs_Con (fk_E s0 H0 oa D) l 1 ⟨"BoardMachine$Integers$Decoder", "jump", "(LBoardMachine$Integers$Decoded;LBoardMachine$Integers$Action;J)LBoardMachine$Integers$Action;"⟩ prog_64_method_12_code 5 (Option.some (Jvm.ClassFile.FieldType.object "BoardMachine$Integers$Action"))) := by
    intro As M r h
    obtain ⟨v0, t0, rfl, g0⟩ := fe_tR_d h
    obtain ⟨v1, t1, rfl, g1⟩ := fe_tR_d g0
    obtain ⟨v2, t2, rfl, g2⟩ := fe_tR_d g1
    obtain ⟨v3, t3, rfl, g3⟩ := fe_tL_d g2
    obtain ⟨rfl, hz⟩ := fe_t0_d g3
    exact zX49_jump K l v0 v1 v2 v3 M r hz
  have o8 : fs_OS (sX49_find FX49_atomic FX49_branch FX49_immediate FX49_registers FX105_immediateI FX105_immediateU FX105_immediateJ FX49_jump FX49_foreign FX49_store FX49_access FX105_bits) 8 3 (fs_Con (fk_E s0 H0 oa D) l 1 ⟨"BoardMachine$Integers$Decoder", "foreign", "(LBoardMachine$Integers$Decoded;ZIIZI)LBoardMachine$Integers$Action;"⟩ prog_64_method_11_code 7 (Option.some (Jvm.ClassFile.FieldType.object "BoardMachine$Integers$Action"))) := by
    intro As M r h
    obtain ⟨v0, t0, rfl, g0⟩ := fe_tR_d h
    obtain ⟨v1, t1, rfl, g1⟩ := fe_tR_d g0
    obtain ⟨v2, t2, rfl, g2⟩ := fe_tI_d g1
    obtain ⟨v3, t3, rfl, g3⟩ := fe_tI_d g2
    obtain ⟨v4, t4, rfl, g4⟩ := fe_tI_d g3
    obtain ⟨v5, t5, rfl, g5⟩ := fe_tI_d g4
    obtain ⟨v6, t6, rfl, g6⟩ := fe_tI_d g5
    obtain ⟨rfl, hz⟩ := fe_t0_d g6
    exact zX49_foreign K l v0 v1 v2 v3 v4 v5 v6 M r hz
  have o9 : fs_OS (sX49_find FX49_atomic FX49_branch FX49_immediate FX49_registers FX105_immediateI FX105_immediateU FX105_immediateJ FX49_jump FX49_foreign FX49_store FX49_access FX105_bits) 9 3 (fs_Con (fk_E s0 H0 oa D) l 3 ⟨"BoardMachine$Integers$Decoder", "store", "(LBoardMachine$Integers$Decoded;ZIII)LBoardMachine$Integers$Action;"⟩ prog_64_method_9_code 6 (Option.some (Jvm.ClassFile.FieldType.object "BoardMachine$Integers$Action"))) := by
    intro As M r h
    obtain ⟨v0, t0, rfl, g0⟩ := fe_tR_d h
    obtain ⟨v1, t1, rfl, g1⟩ := fe_tR_d g0
    obtain ⟨v2, t2, rfl, g2⟩ := fe_tI_d g1
    obtain ⟨v3, t3, rfl, g3⟩ := fe_tI_d g2
    obtain ⟨v4, t4, rfl, g4⟩ := fe_tI_d g3
    obtain ⟨v5, t5, rfl, g5⟩ := fe_tI_d g4
    obtain ⟨rfl, hz⟩ := fe_t0_d g5
    exact zX49_store K l v0 v1 v2 v3 v4 v5 M r hz
  have o10 : fs_OS (sX49_find FX49_atomic FX49_branch FX49_immediate FX49_registers FX105_immediateI FX105_immediateU FX105_immediateJ FX49_jump FX49_foreign FX49_store FX49_access FX105_bits) 10 3 (fs_Con (fk_E s0 H0 oa D) l 1 ⟨"BoardMachine$Integers$Decoder", "access", "(LBoardMachine$Integers$Decoded;ZIJII)LBoardMachine$Integers$Action;"⟩ prog_64_method_8_code 8 (Option.some (Jvm.ClassFile.FieldType.object "BoardMachine$Integers$Action"))) := by
    intro As M r h
    obtain ⟨v0, t0, rfl, g0⟩ := fe_tR_d h
    obtain ⟨v1, t1, rfl, g1⟩ := fe_tR_d g0
    obtain ⟨v2, t2, rfl, g2⟩ := fe_tI_d g1
    obtain ⟨v3, t3, rfl, g3⟩ := fe_tI_d g2
    obtain ⟨v4, t4, rfl, g4⟩ := fe_tL_d g3
    obtain ⟨v5, t5, rfl, g5⟩ := fe_tI_d g4
    obtain ⟨v6, t6, rfl, g6⟩ := fe_tI_d g5
    obtain ⟨rfl, hz⟩ := fe_t0_d g6
    exact zX49_access K l v0 v1 v2 v3 v4 v5 v6 M r hz
  have o11 : fs_OS (sX49_find FX49_atomic FX49_branch FX49_immediate FX49_registers FX105_immediateI FX105_immediateU FX105_immediateJ FX49_jump FX49_foreign FX49_store FX49_access FX105_bits) 11 1 (fs_Con (fk_E s0 H0 oa D) l 1 ⟨"BoardMachine$Integers$Fields", "bits", "(III)I"⟩ prog_66_method_2_code 3 (Option.some Jvm.ClassFile.FieldType.int)) := by
    intro As M r h
    obtain ⟨v0, t0, rfl, g0⟩ := fe_tI_d h
    obtain ⟨v1, t1, rfl, g1⟩ := fe_tI_d g0
    obtain ⟨v2, t2, rfl, g2⟩ := fe_tI_d g1
    obtain ⟨rfl, hz⟩ := fe_t0_d g2
    exact zX105_bits K l v0 v1 v2 M r hz
  refine fs_method (own := "BoardMachine$Integers$Decoder") rfl (by decide) K.2.1 (by rw [fe_slen]; exact (Nat.le_of_ble_eq_true rfl)) (mX49_find a0 a1 a2 a3 M r h) (hX49_find) 0 rfl (L0 := [(0, .ref a0), (1, .ref a1), (2, .int a2), (3, .int a3)]) (fun E => fe_args_e E [.ref a0, .ref a1, .int a2, .int a3] 0) ((eX49_find FX49_find_0 FX49_find_10 FX49_find_15 FX49_find_266 FX49_find_330 FX49_find_344 FX49_find_374 FX49_find_421 FX49_find_444 FX49_find_465 a0 a1 a2 a3 M).trans h) (fe_ka_k r) (fun H hR => fs_nr_o (by decide) (by decide)) ?_
  intro p e s m args below meth c Q C hnm
  have hw : s0.WarmedH s.vm := C.2.2.2.2.1
  refine fe_all C fk_hwr cX49_find [18, 207, 212, 215, 222, 227, 230, 237, 242, 245, 256, 263, 268, 271, 278, 286, 294, 302, 310, 320, 327, 347, 358, 379, 386, 397, 404, 417, 428, 452, 466, 471] (by decide +kernel) (fe_fil (cps := [(18, 21, .getfield 629395700), (207, 210, .getfield 683925754), (212, 215, .invokestatic 326), (215, 218, .invokevirtual 489748542), (222, 225, .getfield 688120058), (227, 230, .invokestatic 326), (230, 233, .invokevirtual 489748542), (237, 240, .getfield 692314362), (242, 245, .invokestatic 390), (245, 248, .invokevirtual 489748542), (256, 259, .getfield 696508666), (263, 266, .getfield 675537146), (268, 271, .invokestatic 262), (271, 274, .invokevirtual 489748542), (278, 281, .invokevirtual 82901054), (286, 289, .invokevirtual 154204222), (294, 297, .invokevirtual 154204222), (302, 305, .invokevirtual 221313086), (310, 313, .invokevirtual 221313086), (320, 323, .getfield 679731450), (327, 330, .getfield 675537146), (347, 350, .invokestatic 262), (358, 361, .invokevirtual 703658046), (379, 382, .invokevirtual 632354878), (386, 389, .invokevirtual 15792190), (397, 400, .invokestatic 262), (404, 407, .invokevirtual 703658046), (417, 420, .invokevirtual 632354878), (428, 431, .invokevirtual 569440318), (452, 455, .invokestatic 717), (466, 469, .invokevirtual 569440318), (471, 474, .getfield 675537146)]) (by decide +kernel) ?_)
  refine fs_c1 (fs_getf (pc := 18) (n := 629395700) (idx := 148) (ref := "BoardMachine$Integers$Decoded") (O := "BoardMachine$Integers$Decoded") (name := "word") (desc := "I") C (by decide +kernel) (Or.inr ⟨_, kF K hw q3244⟩) (fun _ h => h) (Nat.le_of_ble_eq_true rfl) (Nat.le_of_ble_eq_true rfl) (fs_one (⟨_, ff_61_150 s0 H0 oa D⟩))) ?_
  refine fs_c1 (fs_getf (pc := 207) (n := 683925754) (idx := 29) (ref := "BoardMachine$Integers$Decoder") (O := "BoardMachine$Integers$Decoder") (name := "upper") (desc := "LBoardMachine$Integers$Action;") C (by decide +kernel) (Or.inl (kw K hw q1372)) (fun _ h => h) (Nat.le_of_ble_eq_true rfl) (Nat.le_of_ble_eq_true rfl) (fs_one (⟨_, ff_62_163 s0 H0 oa D⟩))) ?_
  refine fs_c1 (fs_inv_static (pc := 212) (n := 326) C (fs_lk_static (idx := 193) (y := ⟨"BoardMachine$Integers$Fields", "immediateU", "(I)J"⟩) (bytes := prog_66_method_6_code) (maxL := 1) (rt := (Option.some Jvm.ClassFile.FieldType.long)) (d := 1) C (by decide +kernel) (kw K hw q3324) (kw K hw q430) (kw K hw q3323) (Or.inl (kw K hw q3322)) ⟨by decide, by decide⟩ rfl (Nat.le_of_ble_eq_true rfl) (Nat.le_of_ble_eq_true rfl)) fs_con_mono o5) ?_
  refine fs_c1 (fs_inv_virtual (pc := 215) (n := 489748542) C (Nat.le_of_ble_eq_true rfl) (Nat.le_of_ble_eq_true rfl) (fs_lk_virtual (idx := 196) (y := ⟨"BoardMachine$Integers$Decoder", "jump", "(LBoardMachine$Integers$Decoded;LBoardMachine$Integers$Action;J)LBoardMachine$Integers$Action;"⟩) (bytes := prog_64_method_12_code) (maxL := 5) (rt := (Option.some (Jvm.ClassFile.FieldType.object "BoardMachine$Integers$Action"))) (d := 1) C (Nat.le_of_ble_eq_true rfl) (Nat.le_of_ble_eq_true rfl) (by decide +kernel) (kw K hw q3328) (kw K hw q360) (kw K hw q3327) (Or.inl (kw K hw q3325)) ⟨by decide, by decide⟩ rfl (Nat.le_of_ble_eq_true rfl) (Nat.le_of_ble_eq_true rfl) (fs_one (⟨_, rfl, kw K hw qs55⟩))) fs_con_mono o7) ?_
  refine fs_c1 (fs_getf (pc := 222) (n := 688120058) (idx := 32) (ref := "BoardMachine$Integers$Decoder") (O := "BoardMachine$Integers$Decoder") (name := "upperFromCounter") (desc := "LBoardMachine$Integers$Action;") C (by decide +kernel) (Or.inl (kw K hw q1373)) (fun _ h => h) (Nat.le_of_ble_eq_true rfl) (Nat.le_of_ble_eq_true rfl) (fs_one (⟨_, ff_62_164 s0 H0 oa D⟩))) ?_
  refine fs_c1 (fs_inv_static (pc := 227) (n := 326) C (fs_lk_static (idx := 193) (y := ⟨"BoardMachine$Integers$Fields", "immediateU", "(I)J"⟩) (bytes := prog_66_method_6_code) (maxL := 1) (rt := (Option.some Jvm.ClassFile.FieldType.long)) (d := 1) C (by decide +kernel) (kw K hw q3324) (kw K hw q430) (kw K hw q3323) (Or.inl (kw K hw q3322)) ⟨by decide, by decide⟩ rfl (Nat.le_of_ble_eq_true rfl) (Nat.le_of_ble_eq_true rfl)) fs_con_mono o5) ?_
  refine fs_c1 (fs_inv_virtual (pc := 230) (n := 489748542) C (Nat.le_of_ble_eq_true rfl) (Nat.le_of_ble_eq_true rfl) (fs_lk_virtual (idx := 196) (y := ⟨"BoardMachine$Integers$Decoder", "jump", "(LBoardMachine$Integers$Decoded;LBoardMachine$Integers$Action;J)LBoardMachine$Integers$Action;"⟩) (bytes := prog_64_method_12_code) (maxL := 5) (rt := (Option.some (Jvm.ClassFile.FieldType.object "BoardMachine$Integers$Action"))) (d := 1) C (Nat.le_of_ble_eq_true rfl) (Nat.le_of_ble_eq_true rfl) (by decide +kernel) (kw K hw q3328) (kw K hw q360) (kw K hw q3327) (Or.inl (kw K hw q3325)) ⟨by decide, by decide⟩ rfl (Nat.le_of_ble_eq_true rfl) (Nat.le_of_ble_eq_true rfl) (fs_one (⟨_, rfl, kw K hw qs55⟩))) fs_con_mono o7) ?_
  refine fs_c1 (fs_getf (pc := 237) (n := 692314362) (idx := 38) (ref := "BoardMachine$Integers$Decoder") (O := "BoardMachine$Integers$Decoder") (name := "jump") (desc := "LBoardMachine$Integers$Action;") C (by decide +kernel) (Or.inl (kw K hw q1374)) (fun _ h => h) (Nat.le_of_ble_eq_true rfl) (Nat.le_of_ble_eq_true rfl) (fs_one (⟨_, ff_62_165 s0 H0 oa D⟩))) ?_
  refine fs_c1 (fs_inv_static (pc := 242) (n := 390) C (fs_lk_static (idx := 199) (y := ⟨"BoardMachine$Integers$Fields", "immediateJ", "(I)J"⟩) (bytes := prog_66_method_7_code) (maxL := 1) (rt := (Option.some Jvm.ClassFile.FieldType.long)) (d := 2) C (by decide +kernel) (kw K hw q3331) (kw K hw q430) (kw K hw q3330) (Or.inl (kw K hw q3329)) ⟨by decide, by decide⟩ rfl (Nat.le_of_ble_eq_true rfl) (Nat.le_of_ble_eq_true rfl)) fs_con_mono o6) ?_
  refine fs_c1 (fs_inv_virtual (pc := 245) (n := 489748542) C (Nat.le_of_ble_eq_true rfl) (Nat.le_of_ble_eq_true rfl) (fs_lk_virtual (idx := 196) (y := ⟨"BoardMachine$Integers$Decoder", "jump", "(LBoardMachine$Integers$Decoded;LBoardMachine$Integers$Action;J)LBoardMachine$Integers$Action;"⟩) (bytes := prog_64_method_12_code) (maxL := 5) (rt := (Option.some (Jvm.ClassFile.FieldType.object "BoardMachine$Integers$Action"))) (d := 1) C (Nat.le_of_ble_eq_true rfl) (Nat.le_of_ble_eq_true rfl) (by decide +kernel) (kw K hw q3328) (kw K hw q360) (kw K hw q3327) (Or.inl (kw K hw q3325)) ⟨by decide, by decide⟩ rfl (Nat.le_of_ble_eq_true rfl) (Nat.le_of_ble_eq_true rfl) (fs_one (⟨_, rfl, kw K hw qs55⟩))) fs_con_mono o7) ?_
  refine fs_c1 (fs_getf (pc := 256) (n := 696508666) (idx := 41) (ref := "BoardMachine$Integers$Decoder") (O := "BoardMachine$Integers$Decoder") (name := "jumpByRegister") (desc := "LBoardMachine$Integers$Action;") C (by decide +kernel) (Or.inl (kw K hw q1375)) (fun _ h => h) (Nat.le_of_ble_eq_true rfl) (Nat.le_of_ble_eq_true rfl) (fs_one (⟨_, ff_62_166 s0 H0 oa D⟩))) ?_
  refine fs_c1 (fs_getf (pc := 263) (n := 675537146) (idx := 12) (ref := "BoardMachine$Integers$Decoder") (O := "BoardMachine$Integers$Decoder") (name := "illegal") (desc := "LBoardMachine$Integers$Action;") C (by decide +kernel) (Or.inl (kw K hw q1370)) (fun _ h => h) (Nat.le_of_ble_eq_true rfl) (Nat.le_of_ble_eq_true rfl) (fs_one (⟨_, ff_62_161 s0 H0 oa D⟩))) ?_
  refine fs_c1 (fs_inv_static (pc := 268) (n := 262) C (fs_lk_static (idx := 152) (y := ⟨"BoardMachine$Integers$Fields", "immediateI", "(I)J"⟩) (bytes := prog_66_method_3_code) (maxL := 1) (rt := (Option.some Jvm.ClassFile.FieldType.long)) (d := 1) C (by decide +kernel) (kw K hw q3335) (kw K hw q430) (kw K hw q3334) (Or.inl (kw K hw q3333)) ⟨by decide, by decide⟩ rfl (Nat.le_of_ble_eq_true rfl) (Nat.le_of_ble_eq_true rfl)) fs_con_mono o4) ?_
  refine fs_c1 (fs_inv_virtual (pc := 271) (n := 489748542) C (Nat.le_of_ble_eq_true rfl) (Nat.le_of_ble_eq_true rfl) (fs_lk_virtual (idx := 196) (y := ⟨"BoardMachine$Integers$Decoder", "jump", "(LBoardMachine$Integers$Decoded;LBoardMachine$Integers$Action;J)LBoardMachine$Integers$Action;"⟩) (bytes := prog_64_method_12_code) (maxL := 5) (rt := (Option.some (Jvm.ClassFile.FieldType.object "BoardMachine$Integers$Action"))) (d := 1) C (Nat.le_of_ble_eq_true rfl) (Nat.le_of_ble_eq_true rfl) (by decide +kernel) (kw K hw q3328) (kw K hw q360) (kw K hw q3327) (Or.inl (kw K hw q3325)) ⟨by decide, by decide⟩ rfl (Nat.le_of_ble_eq_true rfl) (Nat.le_of_ble_eq_true rfl) (fs_one (⟨_, rfl, kw K hw qs55⟩))) fs_con_mono o7) ?_
  refine fs_c1 (fs_inv_virtual (pc := 278) (n := 82901054) C (Nat.le_of_ble_eq_true rfl) (Nat.le_of_ble_eq_true rfl) (fs_lk_virtual (idx := 202) (y := ⟨"BoardMachine$Integers$Decoder", "branch", "(LBoardMachine$Integers$Decoded;I)LBoardMachine$Integers$Action;"⟩) (bytes := prog_64_method_13_code) (maxL := 3) (rt := (Option.some (Jvm.ClassFile.FieldType.object "BoardMachine$Integers$Action"))) (d := 3) C (Nat.le_of_ble_eq_true rfl) (Nat.le_of_ble_eq_true rfl) (by decide +kernel) (kw K hw q3339) (kw K hw q360) (kw K hw q3338) (Or.inl (kw K hw q3336)) ⟨by decide, by decide⟩ rfl (Nat.le_of_ble_eq_true rfl) (Nat.le_of_ble_eq_true rfl) (fs_one (⟨_, rfl, kw K hw qs56⟩))) fs_con_mono o1) ?_
  refine fs_c1 (fs_inv_virtual (pc := 286) (n := 154204222) C (Nat.le_of_ble_eq_true rfl) (Nat.le_of_ble_eq_true rfl) (fs_lk_virtual (idx := 205) (y := ⟨"BoardMachine$Integers$Decoder", "immediate", "(LBoardMachine$Integers$Decoded;IZ)LBoardMachine$Integers$Action;"⟩) (bytes := prog_64_method_6_code) (maxL := 8) (rt := (Option.some (Jvm.ClassFile.FieldType.object "BoardMachine$Integers$Action"))) (d := 3) C (Nat.le_of_ble_eq_true rfl) (Nat.le_of_ble_eq_true rfl) (by decide +kernel) (kw K hw q3346) (kw K hw q360) (kw K hw q3345) (Or.inl (kw K hw q3343)) ⟨by decide, by decide⟩ rfl (Nat.le_of_ble_eq_true rfl) (Nat.le_of_ble_eq_true rfl) (fs_one (⟨_, rfl, kw K hw qs57⟩))) fs_con_mono o2) ?_
  refine fs_c1 (fs_inv_virtual (pc := 294) (n := 154204222) C (Nat.le_of_ble_eq_true rfl) (Nat.le_of_ble_eq_true rfl) (fs_lk_virtual (idx := 205) (y := ⟨"BoardMachine$Integers$Decoder", "immediate", "(LBoardMachine$Integers$Decoded;IZ)LBoardMachine$Integers$Action;"⟩) (bytes := prog_64_method_6_code) (maxL := 8) (rt := (Option.some (Jvm.ClassFile.FieldType.object "BoardMachine$Integers$Action"))) (d := 3) C (Nat.le_of_ble_eq_true rfl) (Nat.le_of_ble_eq_true rfl) (by decide +kernel) (kw K hw q3346) (kw K hw q360) (kw K hw q3345) (Or.inl (kw K hw q3343)) ⟨by decide, by decide⟩ rfl (Nat.le_of_ble_eq_true rfl) (Nat.le_of_ble_eq_true rfl) (fs_one (⟨_, rfl, kw K hw qs57⟩))) fs_con_mono o2) ?_
  refine fs_c1 (fs_inv_virtual (pc := 302) (n := 221313086) C (Nat.le_of_ble_eq_true rfl) (Nat.le_of_ble_eq_true rfl) (fs_lk_virtual (idx := 208) (y := ⟨"BoardMachine$Integers$Decoder", "registers", "(LBoardMachine$Integers$Decoded;IZ)LBoardMachine$Integers$Action;"⟩) (bytes := prog_64_method_7_code) (maxL := 6) (rt := (Option.some (Jvm.ClassFile.FieldType.object "BoardMachine$Integers$Action"))) (d := 3) C (Nat.le_of_ble_eq_true rfl) (Nat.le_of_ble_eq_true rfl) (by decide +kernel) (kw K hw q3399) (kw K hw q360) (kw K hw q3398) (Or.inl (kw K hw q3396)) ⟨by decide, by decide⟩ rfl (Nat.le_of_ble_eq_true rfl) (Nat.le_of_ble_eq_true rfl) (fs_one (⟨_, rfl, kw K hw qs59⟩))) fs_con_mono o3) ?_
  refine fs_c1 (fs_inv_virtual (pc := 310) (n := 221313086) C (Nat.le_of_ble_eq_true rfl) (Nat.le_of_ble_eq_true rfl) (fs_lk_virtual (idx := 208) (y := ⟨"BoardMachine$Integers$Decoder", "registers", "(LBoardMachine$Integers$Decoded;IZ)LBoardMachine$Integers$Action;"⟩) (bytes := prog_64_method_7_code) (maxL := 6) (rt := (Option.some (Jvm.ClassFile.FieldType.object "BoardMachine$Integers$Action"))) (d := 3) C (Nat.le_of_ble_eq_true rfl) (Nat.le_of_ble_eq_true rfl) (by decide +kernel) (kw K hw q3399) (kw K hw q360) (kw K hw q3398) (Or.inl (kw K hw q3396)) ⟨by decide, by decide⟩ rfl (Nat.le_of_ble_eq_true rfl) (Nat.le_of_ble_eq_true rfl) (fs_one (⟨_, rfl, kw K hw qs59⟩))) fs_con_mono o3) ?_
  refine fs_c1 (fs_getf (pc := 320) (n := 679731450) (idx := 21) (ref := "BoardMachine$Integers$Decoder") (O := "BoardMachine$Integers$Decoder") (name := "fence") (desc := "LBoardMachine$Integers$Action;") C (by decide +kernel) (Or.inl (kw K hw q1371)) (fun _ h => h) (Nat.le_of_ble_eq_true rfl) (Nat.le_of_ble_eq_true rfl) (fs_one (⟨_, ff_62_162 s0 H0 oa D⟩))) ?_
  refine fs_c1 (fs_getf (pc := 327) (n := 675537146) (idx := 12) (ref := "BoardMachine$Integers$Decoder") (O := "BoardMachine$Integers$Decoder") (name := "illegal") (desc := "LBoardMachine$Integers$Action;") C (by decide +kernel) (Or.inl (kw K hw q1370)) (fun _ h => h) (Nat.le_of_ble_eq_true rfl) (Nat.le_of_ble_eq_true rfl) (fs_one (⟨_, ff_62_161 s0 H0 oa D⟩))) ?_
  refine fs_c1 (fs_inv_static (pc := 347) (n := 262) C (fs_lk_static (idx := 152) (y := ⟨"BoardMachine$Integers$Fields", "immediateI", "(I)J"⟩) (bytes := prog_66_method_3_code) (maxL := 1) (rt := (Option.some Jvm.ClassFile.FieldType.long)) (d := 1) C (by decide +kernel) (kw K hw q3335) (kw K hw q430) (kw K hw q3334) (Or.inl (kw K hw q3333)) ⟨by decide, by decide⟩ rfl (Nat.le_of_ble_eq_true rfl) (Nat.le_of_ble_eq_true rfl)) fs_con_mono o4) ?_
  refine fs_c1 (fs_inv_virtual (pc := 358) (n := 703658046) C (Nat.le_of_ble_eq_true rfl) (Nat.le_of_ble_eq_true rfl) (fs_lk_virtual (idx := 184) (y := ⟨"BoardMachine$Integers$Decoder", "access", "(LBoardMachine$Integers$Decoded;ZIJII)LBoardMachine$Integers$Action;"⟩) (bytes := prog_64_method_8_code) (maxL := 8) (rt := (Option.some (Jvm.ClassFile.FieldType.object "BoardMachine$Integers$Action"))) (d := 1) C (Nat.le_of_ble_eq_true rfl) (Nat.le_of_ble_eq_true rfl) (by decide +kernel) (kw K hw q3403) (kw K hw q360) (kw K hw q3402) (Or.inl (kw K hw q3400)) ⟨by decide, by decide⟩ rfl (Nat.le_of_ble_eq_true rfl) (Nat.le_of_ble_eq_true rfl) (fs_one (⟨_, rfl, kw K hw qs60⟩))) fs_con_mono o10) ?_
  refine fs_c1 (fs_inv_virtual (pc := 379) (n := 632354878) C (Nat.le_of_ble_eq_true rfl) (Nat.le_of_ble_eq_true rfl) (fs_lk_virtual (idx := 211) (y := ⟨"BoardMachine$Integers$Decoder", "store", "(LBoardMachine$Integers$Decoded;ZIII)LBoardMachine$Integers$Action;"⟩) (bytes := prog_64_method_9_code) (maxL := 6) (rt := (Option.some (Jvm.ClassFile.FieldType.object "BoardMachine$Integers$Action"))) (d := 3) C (Nat.le_of_ble_eq_true rfl) (Nat.le_of_ble_eq_true rfl) (by decide +kernel) (kw K hw q3407) (kw K hw q360) (kw K hw q3406) (Or.inl (kw K hw q3404)) ⟨by decide, by decide⟩ rfl (Nat.le_of_ble_eq_true rfl) (Nat.le_of_ble_eq_true rfl) (fs_one (⟨_, rfl, kw K hw qs61⟩))) fs_con_mono o9) ?_
  refine fs_c1 (fs_inv_virtual (pc := 386) (n := 15792190) C (Nat.le_of_ble_eq_true rfl) (Nat.le_of_ble_eq_true rfl) (fs_lk_virtual (idx := 215) (y := ⟨"BoardMachine$Integers$Decoder", "atomic", "(LBoardMachine$Integers$Decoded;I)LBoardMachine$Integers$Action;"⟩) (bytes := prog_64_method_10_code) (maxL := 5) (rt := (Option.some (Jvm.ClassFile.FieldType.object "BoardMachine$Integers$Action"))) (d := 2) C (Nat.le_of_ble_eq_true rfl) (Nat.le_of_ble_eq_true rfl) (by decide +kernel) (kw K hw q3414) (kw K hw q360) (kw K hw q3413) (Or.inl (kw K hw q3411)) ⟨by decide, by decide⟩ rfl (Nat.le_of_ble_eq_true rfl) (Nat.le_of_ble_eq_true rfl) (fs_one (⟨_, rfl, kw K hw qs62⟩))) fs_con_mono o0) ?_
  refine fs_c1 (fs_inv_static (pc := 397) (n := 262) C (fs_lk_static (idx := 152) (y := ⟨"BoardMachine$Integers$Fields", "immediateI", "(I)J"⟩) (bytes := prog_66_method_3_code) (maxL := 1) (rt := (Option.some Jvm.ClassFile.FieldType.long)) (d := 1) C (by decide +kernel) (kw K hw q3335) (kw K hw q430) (kw K hw q3334) (Or.inl (kw K hw q3333)) ⟨by decide, by decide⟩ rfl (Nat.le_of_ble_eq_true rfl) (Nat.le_of_ble_eq_true rfl)) fs_con_mono o4) ?_
  refine fs_c1 (fs_inv_virtual (pc := 404) (n := 703658046) C (Nat.le_of_ble_eq_true rfl) (Nat.le_of_ble_eq_true rfl) (fs_lk_virtual (idx := 184) (y := ⟨"BoardMachine$Integers$Decoder", "access", "(LBoardMachine$Integers$Decoded;ZIJII)LBoardMachine$Integers$Action;"⟩) (bytes := prog_64_method_8_code) (maxL := 8) (rt := (Option.some (Jvm.ClassFile.FieldType.object "BoardMachine$Integers$Action"))) (d := 1) C (Nat.le_of_ble_eq_true rfl) (Nat.le_of_ble_eq_true rfl) (by decide +kernel) (kw K hw q3403) (kw K hw q360) (kw K hw q3402) (Or.inl (kw K hw q3400)) ⟨by decide, by decide⟩ rfl (Nat.le_of_ble_eq_true rfl) (Nat.le_of_ble_eq_true rfl) (fs_one (⟨_, rfl, kw K hw qs60⟩))) fs_con_mono o10) ?_
  refine fs_c1 (fs_inv_virtual (pc := 417) (n := 632354878) C (Nat.le_of_ble_eq_true rfl) (Nat.le_of_ble_eq_true rfl) (fs_lk_virtual (idx := 211) (y := ⟨"BoardMachine$Integers$Decoder", "store", "(LBoardMachine$Integers$Decoded;ZIII)LBoardMachine$Integers$Action;"⟩) (bytes := prog_64_method_9_code) (maxL := 6) (rt := (Option.some (Jvm.ClassFile.FieldType.object "BoardMachine$Integers$Action"))) (d := 3) C (Nat.le_of_ble_eq_true rfl) (Nat.le_of_ble_eq_true rfl) (by decide +kernel) (kw K hw q3407) (kw K hw q360) (kw K hw q3406) (Or.inl (kw K hw q3404)) ⟨by decide, by decide⟩ rfl (Nat.le_of_ble_eq_true rfl) (Nat.le_of_ble_eq_true rfl) (fs_one (⟨_, rfl, kw K hw qs61⟩))) fs_con_mono o9) ?_
  refine fs_c1 (fs_inv_virtual (pc := 428) (n := 569440318) C (Nat.le_of_ble_eq_true rfl) (Nat.le_of_ble_eq_true rfl) (fs_lk_virtual (idx := 218) (y := ⟨"BoardMachine$Integers$Decoder", "foreign", "(LBoardMachine$Integers$Decoded;ZIIZI)LBoardMachine$Integers$Action;"⟩) (bytes := prog_64_method_11_code) (maxL := 7) (rt := (Option.some (Jvm.ClassFile.FieldType.object "BoardMachine$Integers$Action"))) (d := 1) C (Nat.le_of_ble_eq_true rfl) (Nat.le_of_ble_eq_true rfl) (by decide +kernel) (kw K hw q3418) (kw K hw q360) (kw K hw q3417) (Or.inl (kw K hw q3415)) ⟨by decide, by decide⟩ rfl (Nat.le_of_ble_eq_true rfl) (Nat.le_of_ble_eq_true rfl) (fs_one (⟨_, rfl, kw K hw qs63⟩))) fs_con_mono o8) ?_
  refine fs_c1 (fs_inv_static (pc := 452) (n := 717) C (fs_lk_static (idx := 161) (y := ⟨"BoardMachine$Integers$Fields", "bits", "(III)I"⟩) (bytes := prog_66_method_2_code) (maxL := 3) (rt := (Option.some Jvm.ClassFile.FieldType.int)) (d := 1) C (by decide +kernel) (kw K hw q3317) (kw K hw q430) (kw K hw q3316) (Or.inl (kw K hw q3315)) ⟨by decide, by decide⟩ rfl (Nat.le_of_ble_eq_true rfl) (Nat.le_of_ble_eq_true rfl)) fs_con_mono o11) ?_
  refine fs_c1 (fs_inv_virtual (pc := 466) (n := 569440318) C (Nat.le_of_ble_eq_true rfl) (Nat.le_of_ble_eq_true rfl) (fs_lk_virtual (idx := 218) (y := ⟨"BoardMachine$Integers$Decoder", "foreign", "(LBoardMachine$Integers$Decoded;ZIIZI)LBoardMachine$Integers$Action;"⟩) (bytes := prog_64_method_11_code) (maxL := 7) (rt := (Option.some (Jvm.ClassFile.FieldType.object "BoardMachine$Integers$Action"))) (d := 1) C (Nat.le_of_ble_eq_true rfl) (Nat.le_of_ble_eq_true rfl) (by decide +kernel) (kw K hw q3418) (kw K hw q360) (kw K hw q3417) (Or.inl (kw K hw q3415)) ⟨by decide, by decide⟩ rfl (Nat.le_of_ble_eq_true rfl) (Nat.le_of_ble_eq_true rfl) (fs_one (⟨_, rfl, kw K hw qs63⟩))) fs_con_mono o8) ?_
  refine fs_c1 (fs_getf (pc := 471) (n := 675537146) (idx := 12) (ref := "BoardMachine$Integers$Decoder") (O := "BoardMachine$Integers$Decoder") (name := "illegal") (desc := "LBoardMachine$Integers$Action;") C (by decide +kernel) (Or.inl (kw K hw q1370)) (fun _ h => h) (Nat.le_of_ble_eq_true rfl) (Nat.le_of_ble_eq_true rfl) (fs_one (⟨_, ff_62_161 s0 H0 oa D⟩))) ?_
  exact fs_c0
theorem hX49_read : fe_H (sX49_read FX105_bits FX49_find) cX49_read [0] fe_kv [] 40 (fun _ => dX49_read FX49_read_0) := by
  intro j pc L st M r hc h
  rcases fe_mem_c hc with rfl | hc
  · obtain ⟨w0, m0, h⟩ := fe_lR_d h
    obtain ⟨w1, m1, h⟩ := fe_lI_d h
    obtain ⟨w2, m2, h⟩ := fe_lR_d h
    obtain ⟨rfl, hz⟩ := fe_t0_d h
    exact ⟨[(0, .ref w0), (1, .int w1), (2, .ref w2)], (fe_cs m0 (fe_cs m1 (fe_cs m2 fe_nl))), Or.inr ((bX49_read_0 FX105_bits FX49_find FX49_read_0 w0 w1 w2 M).symm.trans hz)⟩
  exact fe_mem_0 hc
theorem vX49_read : fe_SB (sX49_read FX105_bits FX49_find) := by
  refine ⟨?_, ?_, ?_, ?_⟩
  · intro i As M r h
    exact fe_no h
  · intro i As M r h
    rcases fe_bc h with h | h
    · obtain ⟨v0, t0, rfl, g0⟩ := fe_tI_d h
      obtain ⟨v1, t1, rfl, g1⟩ := fe_tI_d g0
      obtain ⟨v2, t2, rfl, g2⟩ := fe_tI_d g1
      obtain ⟨rfl, hz⟩ := fe_t0_d g2
      exact mX105_bits v0 v1 v2 M r hz
    exact fe_no h
  · intro i As M r h
    exact fe_no h
  · intro i As M r h
    rcases fe_bc h with h | h
    · obtain ⟨v0, t0, rfl, g0⟩ := fe_tR_d h
      obtain ⟨v1, t1, rfl, g1⟩ := fe_tR_d g0
      obtain ⟨v2, t2, rfl, g2⟩ := fe_tI_d g1
      obtain ⟨v3, t3, rfl, g3⟩ := fe_tI_d g2
      obtain ⟨rfl, hz⟩ := fe_t0_d g3
      exact mX49_find v0 v1 v2 v3 M r hz
    exact fe_no h
theorem eX49_read (g0 : Nat → Int32 → Nat → FM → Option (FM)) (a0 : Nat) (a1 : Int32) (a2 : Nat) (M : FM) : dX49_read g0 0 [(0, .ref a0), (1, .int a1), (2, .ref a2)] [] M = g0 a0 a1 a2 M := by rfl
theorem mX49_read (a0 : Nat) (a1 : Int32) (a2 : Nat) (M : FM) (r : FM) (h : FX49_read a0 a1 a2 M = some r) : fm_nx M ≤ fm_nx r ∧ fm_ns M ≤ fm_ns r :=
  fe_mono (L0 := [(0, .ref a0), (1, .int a1), (2, .ref a2)]) (vX49_read) (by decide +kernel) (hX49_read) (fe_kv_k r) 0 rfl ((eX49_read FX49_read_0 a0 a1 a2 M).trans h)
theorem zX49_read {s0 : State} {H0 : Heap} {oa : Nat → Nat} {D : va_G} (K : fk s0 H0 oa D) (l : Launch) (a0 : Nat) (a1 : Int32) (a2 : Nat) (M : FM) (r : FM) (h : FX49_read a0 a1 a2 M = some r) : fs_Con (fk_E s0 H0 oa D) l 5 ⟨"BoardMachine$Integers$Decoder", "read", "(ILBoardMachine$Integers$Decoded;)V"⟩ prog_64_method_15_code 3 (Option.none : Option Jvm.ClassFile.FieldType) [.ref a0, .int a1, .ref a2] M none r := by
  have o0 : fs_OS (sX49_read FX105_bits FX49_find) 0 1 (fs_Con (fk_E s0 H0 oa D) l 1 ⟨"BoardMachine$Integers$Fields", "bits", "(III)I"⟩ prog_66_method_2_code 3 (Option.some Jvm.ClassFile.FieldType.int)) := by
    intro As M r h
    obtain ⟨v0, t0, rfl, g0⟩ := fe_tI_d h
    obtain ⟨v1, t1, rfl, g1⟩ := fe_tI_d g0
    obtain ⟨v2, t2, rfl, g2⟩ := fe_tI_d g1
    obtain ⟨rfl, hz⟩ := fe_t0_d g2
    exact zX105_bits K l v0 v1 v2 M r hz
  have o1 : fs_OS (sX49_read FX105_bits FX49_find) 1 3 (fs_Con (fk_E s0 H0 oa D) l 4 ⟨"BoardMachine$Integers$Decoder", "find", "(LBoardMachine$Integers$Decoded;II)LBoardMachine$Integers$Action;"⟩ prog_64_method_14_code 6 (Option.some (Jvm.ClassFile.FieldType.object "BoardMachine$Integers$Action"))) := by
    intro As M r h
    obtain ⟨v0, t0, rfl, g0⟩ := fe_tR_d h
    obtain ⟨v1, t1, rfl, g1⟩ := fe_tR_d g0
    obtain ⟨v2, t2, rfl, g2⟩ := fe_tI_d g1
    obtain ⟨v3, t3, rfl, g3⟩ := fe_tI_d g2
    obtain ⟨rfl, hz⟩ := fe_t0_d g3
    exact zX49_find K l v0 v1 v2 v3 M r hz
  refine fs_method (own := "BoardMachine$Integers$Decoder") rfl (by decide) K.2.1 (by rw [fe_slen]; exact (Nat.le_of_ble_eq_true rfl)) (mX49_read a0 a1 a2 M r h) (hX49_read) 0 rfl (L0 := [(0, .ref a0), (1, .int a1), (2, .ref a2)]) (fun E => fe_args_e E [.ref a0, .int a1, .ref a2] 0) ((eX49_read FX49_read_0 a0 a1 a2 M).trans h) (fe_kv_k r) (fun H hR => fs_nr_o (by decide) (by decide)) ?_
  intro p e s m args below meth c Q C hnm
  have hw : s0.WarmedH s.vm := C.2.2.2.2.1
  refine fe_all C fk_hwr cX49_read [2, 11, 14, 23, 26, 35, 38, 48, 56, 59, 62] (by decide +kernel) (fe_fil (cps := [(2, 5, .putfield 629395700), (11, 14, .invokestatic 13), (14, 17, .putfield 633590004), (23, 26, .invokestatic 13), (26, 29, .putfield 637784308), (35, 38, .invokestatic 13), (38, 41, .putfield 641978612), (48, 51, .invokestatic 13), (56, 59, .invokestatic 13), (59, 62, .invokevirtual 87095358), (62, 65, .putfield 625201398)]) (by decide +kernel) ?_)
  refine fs_c1 (fs_putf (pc := 2) (n := 629395700) (idx := 148) (ref := "BoardMachine$Integers$Decoded") (O := "BoardMachine$Integers$Decoded") (name := "word") (desc := "I") (fin := false) (ty := .int) C (by decide +kernel) (Or.inl ⟨rfl, Or.inr ⟨_, kF K hw q3244⟩⟩) (fun _ h => h) (Nat.le_of_ble_eq_true rfl) (Nat.le_of_ble_eq_true rfl) (Nat.le_of_ble_eq_true rfl) rfl rfl (by decide) (fs_one (⟨rfl, ff_61_150 s0 H0 oa D⟩))) ?_
  refine fs_c1 (fs_inv_static (pc := 11) (n := 13) C (fs_lk_static (idx := 161) (y := ⟨"BoardMachine$Integers$Fields", "bits", "(III)I"⟩) (bytes := prog_66_method_2_code) (maxL := 3) (rt := (Option.some Jvm.ClassFile.FieldType.int)) (d := 1) C (by decide +kernel) (kw K hw q3317) (kw K hw q430) (kw K hw q3316) (Or.inl (kw K hw q3315)) ⟨by decide, by decide⟩ rfl (Nat.le_of_ble_eq_true rfl) (Nat.le_of_ble_eq_true rfl)) fs_con_mono o0) ?_
  refine fs_c1 (fs_putf (pc := 14) (n := 633590004) (idx := 178) (ref := "BoardMachine$Integers$Decoded") (O := "BoardMachine$Integers$Decoded") (name := "d") (desc := "I") (fin := false) (ty := .int) C (by decide +kernel) (Or.inl ⟨rfl, Or.inr ⟨_, kF K hw q3251⟩⟩) (fun _ h => h) (Nat.le_of_ble_eq_true rfl) (Nat.le_of_ble_eq_true rfl) (Nat.le_of_ble_eq_true rfl) rfl rfl (by decide) (fs_one (⟨rfl, ff_61_151 s0 H0 oa D⟩))) ?_
  refine fs_c1 (fs_inv_static (pc := 23) (n := 13) C (fs_lk_static (idx := 161) (y := ⟨"BoardMachine$Integers$Fields", "bits", "(III)I"⟩) (bytes := prog_66_method_2_code) (maxL := 3) (rt := (Option.some Jvm.ClassFile.FieldType.int)) (d := 1) C (by decide +kernel) (kw K hw q3317) (kw K hw q430) (kw K hw q3316) (Or.inl (kw K hw q3315)) ⟨by decide, by decide⟩ rfl (Nat.le_of_ble_eq_true rfl) (Nat.le_of_ble_eq_true rfl)) fs_con_mono o0) ?_
  refine fs_c1 (fs_putf (pc := 26) (n := 637784308) (idx := 221) (ref := "BoardMachine$Integers$Decoded") (O := "BoardMachine$Integers$Decoded") (name := "a") (desc := "I") (fin := false) (ty := .int) C (by decide +kernel) (Or.inl ⟨rfl, Or.inr ⟨_, kF K hw q3257⟩⟩) (fun _ h => h) (Nat.le_of_ble_eq_true rfl) (Nat.le_of_ble_eq_true rfl) (Nat.le_of_ble_eq_true rfl) rfl rfl (by decide) (fs_one (⟨rfl, ff_61_152 s0 H0 oa D⟩))) ?_
  refine fs_c1 (fs_inv_static (pc := 35) (n := 13) C (fs_lk_static (idx := 161) (y := ⟨"BoardMachine$Integers$Fields", "bits", "(III)I"⟩) (bytes := prog_66_method_2_code) (maxL := 3) (rt := (Option.some Jvm.ClassFile.FieldType.int)) (d := 1) C (by decide +kernel) (kw K hw q3317) (kw K hw q430) (kw K hw q3316) (Or.inl (kw K hw q3315)) ⟨by decide, by decide⟩ rfl (Nat.le_of_ble_eq_true rfl) (Nat.le_of_ble_eq_true rfl)) fs_con_mono o0) ?_
  refine fs_c1 (fs_putf (pc := 38) (n := 641978612) (idx := 187) (ref := "BoardMachine$Integers$Decoded") (O := "BoardMachine$Integers$Decoded") (name := "b") (desc := "I") (fin := false) (ty := .int) C (by decide +kernel) (Or.inl ⟨rfl, Or.inr ⟨_, kF K hw q3261⟩⟩) (fun _ h => h) (Nat.le_of_ble_eq_true rfl) (Nat.le_of_ble_eq_true rfl) (Nat.le_of_ble_eq_true rfl) rfl rfl (by decide) (fs_one (⟨rfl, ff_61_153 s0 H0 oa D⟩))) ?_
  refine fs_c1 (fs_inv_static (pc := 48) (n := 13) C (fs_lk_static (idx := 161) (y := ⟨"BoardMachine$Integers$Fields", "bits", "(III)I"⟩) (bytes := prog_66_method_2_code) (maxL := 3) (rt := (Option.some Jvm.ClassFile.FieldType.int)) (d := 1) C (by decide +kernel) (kw K hw q3317) (kw K hw q430) (kw K hw q3316) (Or.inl (kw K hw q3315)) ⟨by decide, by decide⟩ rfl (Nat.le_of_ble_eq_true rfl) (Nat.le_of_ble_eq_true rfl)) fs_con_mono o0) ?_
  refine fs_c1 (fs_inv_static (pc := 56) (n := 13) C (fs_lk_static (idx := 161) (y := ⟨"BoardMachine$Integers$Fields", "bits", "(III)I"⟩) (bytes := prog_66_method_2_code) (maxL := 3) (rt := (Option.some Jvm.ClassFile.FieldType.int)) (d := 1) C (by decide +kernel) (kw K hw q3317) (kw K hw q430) (kw K hw q3316) (Or.inl (kw K hw q3315)) ⟨by decide, by decide⟩ rfl (Nat.le_of_ble_eq_true rfl) (Nat.le_of_ble_eq_true rfl)) fs_con_mono o0) ?_
  refine fs_c1 (fs_inv_virtual (pc := 59) (n := 87095358) C (Nat.le_of_ble_eq_true rfl) (Nat.le_of_ble_eq_true rfl) (fs_lk_virtual (idx := 224) (y := ⟨"BoardMachine$Integers$Decoder", "find", "(LBoardMachine$Integers$Decoded;II)LBoardMachine$Integers$Action;"⟩) (bytes := prog_64_method_14_code) (maxL := 6) (rt := (Option.some (Jvm.ClassFile.FieldType.object "BoardMachine$Integers$Action"))) (d := 4) C (Nat.le_of_ble_eq_true rfl) (Nat.le_of_ble_eq_true rfl) (by decide +kernel) (kw K hw q3321) (kw K hw q360) (kw K hw q3320) (Or.inl (kw K hw q3318)) ⟨by decide, by decide⟩ rfl (Nat.le_of_ble_eq_true rfl) (Nat.le_of_ble_eq_true rfl) (fs_one (⟨_, rfl, kw K hw qs54⟩))) fs_con_mono o1) ?_
  refine fs_c1 (fs_putf (pc := 62) (n := 625201398) (idx := 228) (ref := "BoardMachine$Integers$Decoded") (O := "BoardMachine$Integers$Decoded") (name := "action") (desc := "LBoardMachine$Integers$Action;") (fin := false) (ty := (.object "BoardMachine$Integers$Action")) C (by decide +kernel) (Or.inl ⟨rfl, Or.inr ⟨_, kF K hw q3242⟩⟩) (fun _ h => h) (Nat.le_of_ble_eq_true rfl) (Nat.le_of_ble_eq_true rfl) (Nat.le_of_ble_eq_true rfl) rfl rfl (by decide) (fs_one (⟨rfl, ff_61_149 s0 H0 oa D⟩))) ?_
  exact fs_c0
theorem hX47_find : fe_H (sX47_find FX104_init FX49_read) cX47_find [0, 86] fe_ka [] 62 (fun _ => dX47_find FX47_find_0 FX47_find_86) := by
  intro j pc L st M r hc h
  rcases fe_mem_c hc with rfl | hc
  · obtain ⟨w0, m0, h⟩ := fe_lR_d h
    obtain ⟨w1, m1, h⟩ := fe_lI_d h
    obtain ⟨rfl, hz⟩ := fe_t0_d h
    exact ⟨[(0, .ref w0), (1, .int w1)], (fe_cs m0 (fe_cs m1 fe_nl)), Or.inr ((bX47_find_0 FX104_init FX49_read FX47_find_0 FX47_find_86 w0 w1 M).symm.trans hz)⟩
  rcases fe_mem_c hc with rfl | hc
  · obtain ⟨w0, m0, h⟩ := fe_lR_d h
    obtain ⟨w2, m2, h⟩ := fe_lI_d h
    obtain ⟨rfl, hz⟩ := fe_t0_d h
    exact ⟨[(0, .ref w0), (2, .int w2)], (fe_cs m0 (fe_cs m2 fe_nl)), Or.inr ((bX47_find_86 FX104_init FX49_read FX47_find_0 FX47_find_86 w0 w2 M).symm.trans hz)⟩
  exact fe_mem_0 hc
theorem vX47_find : fe_SB (sX47_find FX104_init FX49_read) := by
  refine ⟨?_, ?_, ?_, ?_⟩
  · intro i As M r h
    rcases fe_bc h with h | h
    · obtain ⟨v0, t0, rfl, g0⟩ := fe_tR_d h
      obtain ⟨rfl, hz⟩ := fe_t0_d g0
      exact mX104_init v0 M r hz
    rcases fe_bc h with h | h
    · obtain ⟨v0, t0, rfl, g0⟩ := fe_tR_d h
      obtain ⟨v1, t1, rfl, g1⟩ := fe_tI_d g0
      obtain ⟨v2, t2, rfl, g2⟩ := fe_tR_d g1
      obtain ⟨rfl, hz⟩ := fe_t0_d g2
      exact mX49_read v0 v1 v2 M r hz
    exact fe_no h
  · intro i As M r h
    exact fe_no h
  · intro i As M r h
    exact fe_no h
  · intro i As M r h
    exact fe_no h
theorem eX47_find (g0 : Nat → Int32 → FM → Option (Nat × FM)) (g86 : Nat → Int32 → FM → Option (Nat × FM)) (a0 : Nat) (a1 : Int32) (M : FM) : dX47_find g0 g86 0 [(0, .ref a0), (1, .int a1)] [] M = g0 a0 a1 M := by rfl
theorem mX47_find (a0 : Nat) (a1 : Int32) (M : FM) (r : Nat × FM) (h : FX47_find a0 a1 M = some r) : fm_nx M ≤ fm_nx r.2 ∧ fm_ns M ≤ fm_ns r.2 :=
  fe_mono (L0 := [(0, .ref a0), (1, .int a1)]) (vX47_find) (by decide +kernel) (hX47_find) (fe_ka_k r) 0 rfl ((eX47_find FX47_find_0 FX47_find_86 a0 a1 M).trans h)
theorem zX47_find {s0 : State} {H0 : Heap} {oa : Nat → Nat} {D : va_G} (K : fk s0 H0 oa D) (l : Launch) (a0 : Nat) (a1 : Int32) (M : FM) (r : Nat × FM) (h : FX47_find a0 a1 M = some r) : fs_Con (fk_E s0 H0 oa D) l 6 ⟨"BoardMachine$Integers$IntegerUnit", "find", "(I)LBoardMachine$Integers$Decoded;"⟩ prog_69_method_2_code 3 (Option.some (Jvm.ClassFile.FieldType.object "BoardMachine$Integers$Decoded")) [.ref a0, .int a1] M (some (.ref r.1)) r.2 := by
  have o0 : fs_OS (sX47_find FX104_init FX49_read) 0 0 (fs_Con (fk_E s0 H0 oa D) l 1 ⟨"BoardMachine$Integers$Decoded", "<init>", "()V"⟩ prog_63_method_1_code 1 (Option.none : Option Jvm.ClassFile.FieldType)) := by
    intro As M r h
    obtain ⟨v0, t0, rfl, g0⟩ := fe_tR_d h
    obtain ⟨rfl, hz⟩ := fe_t0_d g0
    exact zX104_init K l v0 M r hz
  have o1 : fs_OS (sX47_find FX104_init FX49_read) 1 0 (fs_Con (fk_E s0 H0 oa D) l 5 ⟨"BoardMachine$Integers$Decoder", "read", "(ILBoardMachine$Integers$Decoded;)V"⟩ prog_64_method_15_code 3 (Option.none : Option Jvm.ClassFile.FieldType)) := by
    intro As M r h
    obtain ⟨v0, t0, rfl, g0⟩ := fe_tR_d h
    obtain ⟨v1, t1, rfl, g1⟩ := fe_tI_d g0
    obtain ⟨v2, t2, rfl, g2⟩ := fe_tR_d g1
    obtain ⟨rfl, hz⟩ := fe_t0_d g2
    exact zX49_read K l v0 v1 v2 M r hz
  refine fs_method (own := "BoardMachine$Integers$IntegerUnit") rfl (by decide) K.2.1 (by rw [fe_slen]; exact (Nat.le_of_ble_eq_true rfl)) (mX47_find a0 a1 M r h) (hX47_find) 0 rfl (L0 := [(0, .ref a0), (1, .int a1)]) (fun E => fe_args_e E [.ref a0, .int a1] 0) ((eX47_find FX47_find_0 FX47_find_86 a0 a1 M).trans h) (fe_ka_k r) (fun H hR => fs_nr_o (by decide) (by decide)) ?_
  intro p e s m args below meth c Q C hnm
  have hw : s0.WarmedH s.vm := C.2.2.2.2.1
  refine fe_all C fk_hwr cX47_find [21, 30, 34, 38, 41, 43, 48, 53, 60, 65, 73, 78, 83, 87] (by decide +kernel) (fe_fil (cps := [(21, 24, .getfield 725872894), (30, 33, .getfield 725872894), (34, 37, .new 3916), (38, 41, .invokevirtual 4256829), (41, 42, .instanceof 961606717), (43, 46, .getfield 721678590), (48, 51, .getfield 725872894), (53, 56, .invokevirtual 79755326), (60, 63, .getfield 725872894), (65, 68, .getfield 629395700), (73, 76, .getfield 721678590), (78, 81, .getfield 725872894), (83, 86, .invokevirtual 79755326), (87, 90, .getfield 725872894)]) (by decide +kernel) ?_)
  refine fs_c1 (fs_getf (pc := 21) (n := 725872894) (idx := 27) (ref := "BoardMachine$Integers$IntegerUnit") (O := "BoardMachine$Integers$IntegerUnit") (name := "kept") (desc := "[LBoardMachine$Integers$Decoded;") C (by decide +kernel) (Or.inl (kw K hw q1407)) (fun _ h => h) (Nat.le_of_ble_eq_true rfl) (Nat.le_of_ble_eq_true rfl) (fs_one (⟨_, ff_63_173 s0 H0 oa D⟩))) ?_
  refine fs_c1 (fs_getf (pc := 30) (n := 725872894) (idx := 27) (ref := "BoardMachine$Integers$IntegerUnit") (O := "BoardMachine$Integers$IntegerUnit") (name := "kept") (desc := "[LBoardMachine$Integers$Decoded;") C (by decide +kernel) (Or.inl (kw K hw q1407)) (fun _ h => h) (Nat.le_of_ble_eq_true rfl) (Nat.le_of_ble_eq_true rfl) (fs_one (⟨_, ff_63_173 s0 H0 oa D⟩))) ?_
  refine fs_c1 (fs_newo (pc := 34) (n := 3916) (idx := 25) (CC := "BoardMachine$Integers$Decoded") (T := fT_61) (N := 12) C (by decide +kernel) (kw K hw q1401) (kw K hw q3236) (kw K hw q429) (by decide) (Nat.le_of_ble_eq_true rfl) rfl rfl) ?_
  refine fs_c1 (fs_inv_virtual (pc := 38) (n := 4256829) C (Nat.le_of_ble_eq_true rfl) (Nat.le_of_ble_eq_true rfl) (fs_lk_init (idx := 35) (y := ⟨"BoardMachine$Integers$Decoded", "<init>", "()V"⟩) (bytes := prog_63_method_1_code) (maxL := 1) (d := 1) C (Nat.le_of_ble_eq_true rfl) (Nat.le_of_ble_eq_true rfl) (by decide +kernel) (kw K hw q3239) (kw K hw q429) (kw K hw q3238) (Or.inr ⟨_, kM K hw q3237⟩) rfl ⟨by decide, by decide⟩ rfl (Nat.le_of_ble_eq_true rfl) (Nat.le_of_ble_eq_true rfl)) fs_con_mono o0) ?_
  refine fs_c1 (fs_astr (pc := 41) (n := 961606717) (EE := "BoardMachine$Integers$Decoded") C (by decide +kernel) (Nat.le_of_ble_eq_true rfl) rfl rfl (Nat.le_of_ble_eq_true rfl) (Nat.le_of_ble_eq_true rfl) (fs_one (⟨_, rfl, Or.inl rfl⟩))) ?_
  refine fs_c1 (fs_getf (pc := 43) (n := 721678590) (idx := 21) (ref := "BoardMachine$Integers$IntegerUnit") (O := "BoardMachine$Integers$IntegerUnit") (name := "decoder") (desc := "LBoardMachine$Integers$Decoder;") C (by decide +kernel) (Or.inl (kw K hw q1406)) (fun _ h => h) (Nat.le_of_ble_eq_true rfl) (Nat.le_of_ble_eq_true rfl) (fs_one (⟨_, ff_63_172 s0 H0 oa D⟩))) ?_
  refine fs_c1 (fs_getf (pc := 48) (n := 725872894) (idx := 27) (ref := "BoardMachine$Integers$IntegerUnit") (O := "BoardMachine$Integers$IntegerUnit") (name := "kept") (desc := "[LBoardMachine$Integers$Decoded;") C (by decide +kernel) (Or.inl (kw K hw q1407)) (fun _ h => h) (Nat.le_of_ble_eq_true rfl) (Nat.le_of_ble_eq_true rfl) (fs_one (⟨_, ff_63_173 s0 H0 oa D⟩))) ?_
  refine fs_c1 (fs_inv_virtual (pc := 53) (n := 79755326) C (Nat.le_of_ble_eq_true rfl) (Nat.le_of_ble_eq_true rfl) (fs_lk_virtual (idx := 36) (y := ⟨"BoardMachine$Integers$Decoder", "read", "(ILBoardMachine$Integers$Decoded;)V"⟩) (bytes := prog_64_method_15_code) (maxL := 3) (rt := (Option.none : Option Jvm.ClassFile.FieldType)) (d := 5) C (Nat.le_of_ble_eq_true rfl) (Nat.le_of_ble_eq_true rfl) (by decide +kernel) (kw K hw q3314) (kw K hw q360) (kw K hw q3312) (Or.inl (kw K hw q3311)) ⟨by decide, by decide⟩ rfl (Nat.le_of_ble_eq_true rfl) (Nat.le_of_ble_eq_true rfl) (fs_one (⟨_, rfl, kw K hw q3313⟩))) fs_con_mono o1) ?_
  refine fs_c1 (fs_getf (pc := 60) (n := 725872894) (idx := 27) (ref := "BoardMachine$Integers$IntegerUnit") (O := "BoardMachine$Integers$IntegerUnit") (name := "kept") (desc := "[LBoardMachine$Integers$Decoded;") C (by decide +kernel) (Or.inl (kw K hw q1407)) (fun _ h => h) (Nat.le_of_ble_eq_true rfl) (Nat.le_of_ble_eq_true rfl) (fs_one (⟨_, ff_63_173 s0 H0 oa D⟩))) ?_
  refine fs_c1 (fs_getf (pc := 65) (n := 629395700) (idx := 40) (ref := "BoardMachine$Integers$Decoded") (O := "BoardMachine$Integers$Decoded") (name := "word") (desc := "I") C (by decide +kernel) (Or.inr ⟨_, kF K hw q3243⟩) (fun _ h => h) (Nat.le_of_ble_eq_true rfl) (Nat.le_of_ble_eq_true rfl) (fs_one (⟨_, ff_61_150 s0 H0 oa D⟩))) ?_
  refine fs_c1 (fs_getf (pc := 73) (n := 721678590) (idx := 21) (ref := "BoardMachine$Integers$IntegerUnit") (O := "BoardMachine$Integers$IntegerUnit") (name := "decoder") (desc := "LBoardMachine$Integers$Decoder;") C (by decide +kernel) (Or.inl (kw K hw q1406)) (fun _ h => h) (Nat.le_of_ble_eq_true rfl) (Nat.le_of_ble_eq_true rfl) (fs_one (⟨_, ff_63_172 s0 H0 oa D⟩))) ?_
  refine fs_c1 (fs_getf (pc := 78) (n := 725872894) (idx := 27) (ref := "BoardMachine$Integers$IntegerUnit") (O := "BoardMachine$Integers$IntegerUnit") (name := "kept") (desc := "[LBoardMachine$Integers$Decoded;") C (by decide +kernel) (Or.inl (kw K hw q1407)) (fun _ h => h) (Nat.le_of_ble_eq_true rfl) (Nat.le_of_ble_eq_true rfl) (fs_one (⟨_, ff_63_173 s0 H0 oa D⟩))) ?_
  refine fs_c1 (fs_inv_virtual (pc := 83) (n := 79755326) C (Nat.le_of_ble_eq_true rfl) (Nat.le_of_ble_eq_true rfl) (fs_lk_virtual (idx := 36) (y := ⟨"BoardMachine$Integers$Decoder", "read", "(ILBoardMachine$Integers$Decoded;)V"⟩) (bytes := prog_64_method_15_code) (maxL := 3) (rt := (Option.none : Option Jvm.ClassFile.FieldType)) (d := 5) C (Nat.le_of_ble_eq_true rfl) (Nat.le_of_ble_eq_true rfl) (by decide +kernel) (kw K hw q3314) (kw K hw q360) (kw K hw q3312) (Or.inl (kw K hw q3311)) ⟨by decide, by decide⟩ rfl (Nat.le_of_ble_eq_true rfl) (Nat.le_of_ble_eq_true rfl) (fs_one (⟨_, rfl, kw K hw q3313⟩))) fs_con_mono o1) ?_
  refine fs_c1 (fs_getf (pc := 87) (n := 725872894) (idx := 27) (ref := "BoardMachine$Integers$IntegerUnit") (O := "BoardMachine$Integers$IntegerUnit") (name := "kept") (desc := "[LBoardMachine$Integers$Decoded;") C (by decide +kernel) (Or.inl (kw K hw q1407)) (fun _ h => h) (Nat.le_of_ble_eq_true rfl) (Nat.le_of_ble_eq_true rfl) (fs_one (⟨_, ff_63_173 s0 H0 oa D⟩))) ?_
  exact fs_c0
