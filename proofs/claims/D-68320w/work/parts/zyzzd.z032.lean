/-! contracts of methods, printed by gen/snd.py -/
set_option maxRecDepth 100000
set_option maxHeartbeats 4000000
theorem hX52_run : fe_H (sX52_run) cX52_run [0] fe_ki [] 20 (fun _ => dX52_run FX52_run_0) := by
  intro j pc L st M r hc h
  rcases fe_mem_c hc with rfl | hc
  · obtain ⟨w0, m0, h⟩ := fe_lR_d h
    obtain ⟨w1, m1, h⟩ := fe_lR_d h
    obtain ⟨w2, m2, h⟩ := fe_lR_d h
    obtain ⟨w3, m3, h⟩ := fe_lI_d h
    obtain ⟨rfl, hz⟩ := fe_t0_d h
    exact ⟨[(0, .ref w0), (1, .ref w1), (2, .ref w2), (3, .int w3)], (fe_cs m0 (fe_cs m1 (fe_cs m2 (fe_cs m3 fe_nl)))), Or.inr ((bX52_run_0 FX52_run_0 w0 w1 w2 w3 M).symm.trans hz)⟩
  exact fe_mem_0 hc
theorem vX52_run : fe_SB (sX52_run) := by
  refine ⟨?_, ?_, ?_, ?_⟩
  · intro i As M r h
    exact fe_no h
  · intro i As M r h
    exact fe_no h
  · intro i As M r h
    exact fe_no h
  · intro i As M r h
    exact fe_no h
theorem eX52_run (g0 : Nat → Nat → Nat → Int32 → FM → Option (Int32 × FM)) (a0 : Nat) (a1 : Nat) (a2 : Nat) (a3 : Int32) (M : FM) : dX52_run g0 0 [(0, .ref a0), (1, .ref a1), (2, .ref a2), (3, .int a3)] [] M = g0 a0 a1 a2 a3 M := by rfl
theorem mX52_run (a0 : Nat) (a1 : Nat) (a2 : Nat) (a3 : Int32) (M : FM) (r : Int32 × FM) (h : FX52_run a0 a1 a2 a3 M = some r) : fm_nx M ≤ fm_nx r.2 ∧ fm_ns M ≤ fm_ns r.2 :=
  fe_mono (L0 := [(0, .ref a0), (1, .ref a1), (2, .ref a2), (3, .int a3)]) (vX52_run) (by decide +kernel) (hX52_run) (fe_ki_k r) 0 rfl ((eX52_run FX52_run_0 a0 a1 a2 a3 M).trans h)
theorem zX52_run {s0 : State} {H0 : Heap} {oa : Nat → Nat} {D : va_G} (K : fk s0 H0 oa D) (l : Launch) (a0 : Nat) (a1 : Nat) (a2 : Nat) (a3 : Int32) (M : FM) (r : Int32 × FM) (h : FX52_run a0 a1 a2 a3 M = some r) : fs_Con (fk_E s0 H0 oa D) l 1 ⟨"BoardMachine$Integers$Fence", "run", "(LBoardMachine$Integers$Registers;LBoardMachine$Integers$Decoded;I)I"⟩ prog_65_method_2_code 4 (Option.some Jvm.ClassFile.FieldType.int) [.ref a0, .ref a1, .ref a2, .int a3] M (some (.int r.1)) r.2 := by
  refine fs_method (own := "BoardMachine$Integers$Fence") rfl (by decide) K.2.1 (by rw [fe_slen]; exact (Nat.le_of_ble_eq_true rfl)) (mX52_run a0 a1 a2 a3 M r h) (hX52_run) 0 rfl (L0 := [(0, .ref a0), (1, .ref a1), (2, .ref a2), (3, .int a3)]) (fun E => fe_args_e E [.ref a0, .ref a1, .ref a2, .int a3] 0) ((eX52_run FX52_run_0 a0 a1 a2 a3 M).trans h) (fe_ki_k r) (fun H hR => fs_nr_o (by decide) (by decide)) ?_
  intro p e s m args below meth c Q C hnm
  have hw : s0.WarmedH s.vm := C.2.2.2.2.1
  refine fe_all C fk_hwr cX52_run [2, 8] (by decide +kernel) (fe_fil (cps := [(2, 5, .getfield 751042817), (8, 11, .putfield 751042817)]) (by decide +kernel) ?_)
  refine fs_c1 (fs_getf (pc := 2) (n := 751042817) (idx := 9) (ref := "BoardMachine$Integers$Registers") (O := "BoardMachine$Integers$Registers") (name := "counter") (desc := "J") C (by decide +kernel) (Or.inr ⟨_, kF K hw q1287⟩) (fun _ h => h) (Nat.le_of_ble_eq_true rfl) (Nat.le_of_ble_eq_true rfl) (fs_one (⟨_, ff_64_179 s0 H0 oa D⟩))) ?_
  refine fs_c1 (fs_putf (pc := 8) (n := 751042817) (idx := 9) (ref := "BoardMachine$Integers$Registers") (O := "BoardMachine$Integers$Registers") (name := "counter") (desc := "J") (fin := false) (ty := .long) C (by decide +kernel) (Or.inl ⟨rfl, Or.inr ⟨_, kF K hw q1287⟩⟩) (fun _ h => h) (Nat.le_of_ble_eq_true rfl) (Nat.le_of_ble_eq_true rfl) (Nat.le_of_ble_eq_true rfl) rfl rfl (by decide) (fs_one (⟨rfl, ff_64_179 s0 H0 oa D⟩))) ?_
  exact fs_c0
theorem hX58_run : fe_H (sX58_run) cX58_run [0] fe_ki [] 20 (fun _ => dX58_run FX58_run_0) := by
  intro j pc L st M r hc h
  rcases fe_mem_c hc with rfl | hc
  · obtain ⟨w0, m0, h⟩ := fe_lR_d h
    obtain ⟨w1, m1, h⟩ := fe_lR_d h
    obtain ⟨w2, m2, h⟩ := fe_lR_d h
    obtain ⟨w3, m3, h⟩ := fe_lI_d h
    obtain ⟨rfl, hz⟩ := fe_t0_d h
    exact ⟨[(0, .ref w0), (1, .ref w1), (2, .ref w2), (3, .int w3)], (fe_cs m0 (fe_cs m1 (fe_cs m2 (fe_cs m3 fe_nl)))), Or.inr ((bX58_run_0 FX58_run_0 w0 w1 w2 w3 M).symm.trans hz)⟩
  exact fe_mem_0 hc
theorem vX58_run : fe_SB (sX58_run) := by
  refine ⟨?_, ?_, ?_, ?_⟩
  · intro i As M r h
    exact fe_no h
  · intro i As M r h
    exact fe_no h
  · intro i As M r h
    exact fe_no h
  · intro i As M r h
    exact fe_no h
theorem eX58_run (g0 : Nat → Nat → Nat → Int32 → FM → Option (Int32 × FM)) (a0 : Nat) (a1 : Nat) (a2 : Nat) (a3 : Int32) (M : FM) : dX58_run g0 0 [(0, .ref a0), (1, .ref a1), (2, .ref a2), (3, .int a3)] [] M = g0 a0 a1 a2 a3 M := by rfl
theorem mX58_run (a0 : Nat) (a1 : Nat) (a2 : Nat) (a3 : Int32) (M : FM) (r : Int32 × FM) (h : FX58_run a0 a1 a2 a3 M = some r) : fm_nx M ≤ fm_nx r.2 ∧ fm_ns M ≤ fm_ns r.2 :=
  fe_mono (L0 := [(0, .ref a0), (1, .ref a1), (2, .ref a2), (3, .int a3)]) (vX58_run) (by decide +kernel) (hX58_run) (fe_ki_k r) 0 rfl ((eX58_run FX58_run_0 a0 a1 a2 a3 M).trans h)
theorem zX58_run {s0 : State} {H0 : Heap} {oa : Nat → Nat} {D : va_G} (K : fk s0 H0 oa D) (l : Launch) (a0 : Nat) (a1 : Nat) (a2 : Nat) (a3 : Int32) (M : FM) (r : Int32 × FM) (h : FX58_run a0 a1 a2 a3 M = some r) : fs_Con (fk_E s0 H0 oa D) l 1 ⟨"BoardMachine$Integers$Foreign", "run", "(LBoardMachine$Integers$Registers;LBoardMachine$Integers$Decoded;I)I"⟩ prog_67_method_2_code 4 (Option.some Jvm.ClassFile.FieldType.int) [.ref a0, .ref a1, .ref a2, .int a3] M (some (.int r.1)) r.2 := by
  refine fs_method (own := "BoardMachine$Integers$Foreign") rfl (by decide) K.2.1 (by rw [fe_slen]; exact (Nat.le_of_ble_eq_true rfl)) (mX58_run a0 a1 a2 a3 M r h) (hX58_run) 0 rfl (L0 := [(0, .ref a0), (1, .ref a1), (2, .ref a2), (3, .int a3)]) (fun E => fe_args_e E [.ref a0, .ref a1, .ref a2, .int a3] 0) ((eX58_run FX58_run_0 a0 a1 a2 a3 M).trans h) (fe_ki_k r) (fun H hR => fs_nr_o (by decide) (by decide)) ?_
  intro p e s m args below meth c Q C hnm
  have hw : s0.WarmedH s.vm := C.2.2.2.2.1
  refine fe_all C fk_hwr cX58_run [1] (by decide +kernel) (fe_fil (cps := [(1, 4, .getfield 662950132)]) (by decide +kernel) ?_)
  refine fs_c1 (fs_getf (pc := 1) (n := 662950132) (idx := 7) (ref := "BoardMachine$Integers$Decoded") (O := "BoardMachine$Integers$Decoded") (name := "kind") (desc := "I") C (by decide +kernel) (Or.inr ⟨_, kF K hw q3277⟩) (fun _ h => h) (Nat.le_of_ble_eq_true rfl) (Nat.le_of_ble_eq_true rfl) (fs_one (⟨_, ff_61_158 s0 H0 oa D⟩))) ?_
  exact fs_c0
theorem hX51_run : fe_H (sX51_run) cX51_run [0] fe_ki [] 20 (fun _ => dX51_run FX51_run_0) := by
  intro j pc L st M r hc h
  rcases fe_mem_c hc with rfl | hc
  · obtain ⟨w0, m0, h⟩ := fe_lR_d h
    obtain ⟨w1, m1, h⟩ := fe_lR_d h
    obtain ⟨w2, m2, h⟩ := fe_lR_d h
    obtain ⟨w3, m3, h⟩ := fe_lI_d h
    obtain ⟨rfl, hz⟩ := fe_t0_d h
    exact ⟨[(0, .ref w0), (1, .ref w1), (2, .ref w2), (3, .int w3)], (fe_cs m0 (fe_cs m1 (fe_cs m2 (fe_cs m3 fe_nl)))), Or.inr ((bX51_run_0 FX51_run_0 w0 w1 w2 w3 M).symm.trans hz)⟩
  exact fe_mem_0 hc
theorem vX51_run : fe_SB (sX51_run) := by
  refine ⟨?_, ?_, ?_, ?_⟩
  · intro i As M r h
    exact fe_no h
  · intro i As M r h
    exact fe_no h
  · intro i As M r h
    exact fe_no h
  · intro i As M r h
    exact fe_no h
theorem eX51_run (g0 : Nat → Nat → Nat → Int32 → FM → Option (Int32 × FM)) (a0 : Nat) (a1 : Nat) (a2 : Nat) (a3 : Int32) (M : FM) : dX51_run g0 0 [(0, .ref a0), (1, .ref a1), (2, .ref a2), (3, .int a3)] [] M = g0 a0 a1 a2 a3 M := by rfl
theorem mX51_run (a0 : Nat) (a1 : Nat) (a2 : Nat) (a3 : Int32) (M : FM) (r : Int32 × FM) (h : FX51_run a0 a1 a2 a3 M = some r) : fm_nx M ≤ fm_nx r.2 ∧ fm_ns M ≤ fm_ns r.2 :=
  fe_mono (L0 := [(0, .ref a0), (1, .ref a1), (2, .ref a2), (3, .int a3)]) (vX51_run) (by decide +kernel) (hX51_run) (fe_ki_k r) 0 rfl ((eX51_run FX51_run_0 a0 a1 a2 a3 M).trans h)
theorem zX51_run {s0 : State} {H0 : Heap} {oa : Nat → Nat} {D : va_G} (K : fk s0 H0 oa D) (l : Launch) (a0 : Nat) (a1 : Nat) (a2 : Nat) (a3 : Int32) (M : FM) (r : Int32 × FM) (h : FX51_run a0 a1 a2 a3 M = some r) : fs_Con (fk_E s0 H0 oa D) l 1 ⟨"BoardMachine$Integers$Illegal", "run", "(LBoardMachine$Integers$Registers;LBoardMachine$Integers$Decoded;I)I"⟩ prog_68_method_2_code 4 (Option.some Jvm.ClassFile.FieldType.int) [.ref a0, .ref a1, .ref a2, .int a3] M (some (.int r.1)) r.2 := by
  refine fs_method (own := "BoardMachine$Integers$Illegal") rfl (by decide) K.2.1 (by rw [fe_slen]; exact (Nat.le_of_ble_eq_true rfl)) (mX51_run a0 a1 a2 a3 M r h) (hX51_run) 0 rfl (L0 := [(0, .ref a0), (1, .ref a1), (2, .ref a2), (3, .int a3)]) (fun E => fe_args_e E [.ref a0, .ref a1, .ref a2, .int a3] 0) ((eX51_run FX51_run_0 a0 a1 a2 a3 M).trans h) (fe_ki_k r) (fun H hR => fs_nr_o (by decide) (by decide)) ?_
  intro p e s m args below meth c Q C hnm
  have hw : s0.WarmedH s.vm := C.2.2.2.2.1
  refine fe_all C fk_hwr cX51_run [] (by decide +kernel) (fe_fil (cps := []) (by decide +kernel) ?_)
  exact fs_c0
theorem hX54_run : fe_H (sX54_run FX48_set) cX54_run [0, 37] fe_ki [] 39 (fun _ => dX54_run FX54_run_0 FX54_run_37) := by
  intro j pc L st M r hc h
  rcases fe_mem_c hc with rfl | hc
  · obtain ⟨w0, m0, h⟩ := fe_lR_d h
    obtain ⟨w1, m1, h⟩ := fe_lR_d h
    obtain ⟨w2, m2, h⟩ := fe_lR_d h
    obtain ⟨w3, m3, h⟩ := fe_lI_d h
    obtain ⟨rfl, hz⟩ := fe_t0_d h
    exact ⟨[(0, .ref w0), (1, .ref w1), (2, .ref w2), (3, .int w3)], (fe_cs m0 (fe_cs m1 (fe_cs m2 (fe_cs m3 fe_nl)))), Or.inr ((bX54_run_0 FX48_set FX54_run_0 FX54_run_37 w0 w1 w2 w3 M).symm.trans hz)⟩
  rcases fe_mem_c hc with rfl | hc
  · obtain ⟨w1, m1, h⟩ := fe_lR_d h
    obtain ⟨w2, m2, h⟩ := fe_lR_d h
    obtain ⟨w3, m3, h⟩ := fe_lI_d h
    obtain ⟨s0, t0, rfl, g0⟩ := fe_tL_d h
    obtain ⟨rfl, hz⟩ := fe_t0_d g0
    exact ⟨[(1, .ref w1), (2, .ref w2), (3, .int w3)], (fe_cs m1 (fe_cs m2 (fe_cs m3 fe_nl))), Or.inr ((bX54_run_37 FX48_set FX54_run_0 FX54_run_37 w1 w2 w3 s0 M).symm.trans hz)⟩
  exact fe_mem_0 hc
theorem vX54_run : fe_SB (sX54_run FX48_set) := by
  refine ⟨?_, ?_, ?_, ?_⟩
  · intro i As M r h
    rcases fe_bc h with h | h
    · obtain ⟨v0, t0, rfl, g0⟩ := fe_tR_d h
      obtain ⟨v1, t1, rfl, g1⟩ := fe_tI_d g0
      obtain ⟨v2, t2, rfl, g2⟩ := fe_tL_d g1
      obtain ⟨rfl, hz⟩ := fe_t0_d g2
      exact mX48_set v0 v1 v2 M r hz
    exact fe_no h
  · intro i As M r h
    exact fe_no h
  · intro i As M r h
    exact fe_no h
  · intro i As M r h
    exact fe_no h
theorem eX54_run (g0 : Nat → Nat → Nat → Int32 → FM → Option (Int32 × FM)) (g37 : Nat → Nat → Int32 → Int64 → FM → Option (Int32 × FM)) (a0 : Nat) (a1 : Nat) (a2 : Nat) (a3 : Int32) (M : FM) : dX54_run g0 g37 0 [(0, .ref a0), (1, .ref a1), (2, .ref a2), (3, .int a3)] [] M = g0 a0 a1 a2 a3 M := by rfl
theorem mX54_run (a0 : Nat) (a1 : Nat) (a2 : Nat) (a3 : Int32) (M : FM) (r : Int32 × FM) (h : FX54_run a0 a1 a2 a3 M = some r) : fm_nx M ≤ fm_nx r.2 ∧ fm_ns M ≤ fm_ns r.2 :=
  fe_mono (L0 := [(0, .ref a0), (1, .ref a1), (2, .ref a2), (3, .int a3)]) (vX54_run) (by decide +kernel) (hX54_run) (fe_ki_k r) 0 rfl ((eX54_run FX54_run_0 FX54_run_37 a0 a1 a2 a3 M).trans h)
theorem zX54_run {s0 : State} {H0 : Heap} {oa : Nat → Nat} {D : va_G} (K : fk s0 H0 oa D) (l : Launch) (a0 : Nat) (a1 : Nat) (a2 : Nat) (a3 : Int32) (M : FM) (r : Int32 × FM) (h : FX54_run a0 a1 a2 a3 M = some r) : fs_Con (fk_E s0 H0 oa D) l 2 ⟨"BoardMachine$Integers$Jump", "run", "(LBoardMachine$Integers$Registers;LBoardMachine$Integers$Decoded;I)I"⟩ prog_70_method_2_code 6 (Option.some Jvm.ClassFile.FieldType.int) [.ref a0, .ref a1, .ref a2, .int a3] M (some (.int r.1)) r.2 := by
  have o0 : fs_OS (sX54_run FX48_set) 0 0 (fs_Con (fk_E s0 H0 oa D) l 1 ⟨"BoardMachine$Integers$Registers", "set", "(IJ)V"⟩ prog_71_method_2_code 4 (Option.none : Option Jvm.ClassFile.FieldType)) := by
    intro As M r h
    obtain ⟨v0, t0, rfl, g0⟩ := fe_tR_d h
    obtain ⟨v1, t1, rfl, g1⟩ := fe_tI_d g0
    obtain ⟨v2, t2, rfl, g2⟩ := fe_tL_d g1
    obtain ⟨rfl, hz⟩ := fe_t0_d g2
    exact zX48_set K l v0 v1 v2 M r hz
  refine fs_method (own := "BoardMachine$Integers$Jump") rfl (by decide) K.2.1 (by rw [fe_slen]; exact (Nat.le_of_ble_eq_true rfl)) (mX54_run a0 a1 a2 a3 M r h) (hX54_run) 0 rfl (L0 := [(0, .ref a0), (1, .ref a1), (2, .ref a2), (3, .int a3)]) (fun E => fe_args_e E [.ref a0, .ref a1, .ref a2, .int a3] 0) ((eX54_run FX54_run_0 FX54_run_37 a0 a1 a2 a3 M).trans h) (fe_ki_k r) (fun H hR => fs_nr_o (by decide) (by decide)) ?_
  intro p e s m args below meth c Q C hnm
  have hw : s0.WarmedH s.vm := C.2.2.2.2.1
  refine fe_all C fk_hwr cX54_run [1, 8, 12, 17, 21, 29, 33, 41, 45, 51, 57] (by decide +kernel) (fe_fil (cps := [(1, 4, .getfield 616804591), (8, 11, .getfield 746848514), (12, 15, .getfield 637784308), (17, 20, .getfield 646172917), (21, 24, .jsr_w (-2)), (29, 32, .getfield 751042817), (33, 36, .getfield 646172917), (41, 44, .getfield 633590004), (45, 48, .getfield 751042817), (51, 54, .invokevirtual 12648512), (57, 60, .putfield 751042817)]) (by decide +kernel) ?_)
  refine fs_c1 (fs_getf (pc := 1) (n := 616804591) (idx := 9) (ref := "BoardMachine$Integers$Jump") (O := "BoardMachine$Integers$Jump") (name := "byRegister") (desc := "Z") C (by decide +kernel) (Or.inl (kw K hw q1338)) (fun _ h => h) (Nat.le_of_ble_eq_true rfl) (Nat.le_of_ble_eq_true rfl) (fs_one (⟨_, ff_59_147 s0 H0 oa D⟩))) ?_
  refine fs_c1 (fs_getf (pc := 8) (n := 746848514) (idx := 15) (ref := "BoardMachine$Integers$Registers") (O := "BoardMachine$Integers$Registers") (name := "held") (desc := "[J") C (by decide +kernel) (Or.inr ⟨_, kF K hw q1282⟩) (fun _ h => h) (Nat.le_of_ble_eq_true rfl) (Nat.le_of_ble_eq_true rfl) (fs_one (⟨_, ff_64_178 s0 H0 oa D⟩))) ?_
  refine fs_c1 (fs_getf (pc := 12) (n := 637784308) (idx := 21) (ref := "BoardMachine$Integers$Decoded") (O := "BoardMachine$Integers$Decoded") (name := "a") (desc := "I") C (by decide +kernel) (Or.inr ⟨_, kF K hw q3254⟩) (fun _ h => h) (Nat.le_of_ble_eq_true rfl) (Nat.le_of_ble_eq_true rfl) (fs_one (⟨_, ff_61_152 s0 H0 oa D⟩))) ?_
  refine fs_c1 (fs_getf (pc := 17) (n := 646172917) (idx := 27) (ref := "BoardMachine$Integers$Decoded") (O := "BoardMachine$Integers$Decoded") (name := "immediate") (desc := "J") C (by decide +kernel) (Or.inr ⟨_, kF K hw q3263⟩) (fun _ h => h) (Nat.le_of_ble_eq_true rfl) (Nat.le_of_ble_eq_true rfl) (fs_one (⟨_, ff_61_154 s0 H0 oa D⟩))) ?_
  refine fs_c1 (fs_ldcl (pc := 21) (idx := 31) (v := -2) C (by decide +kernel) (kw K hw q3473)) ?_
  refine fs_c1 (fs_getf (pc := 29) (n := 751042817) (idx := 33) (ref := "BoardMachine$Integers$Registers") (O := "BoardMachine$Integers$Registers") (name := "counter") (desc := "J") C (by decide +kernel) (Or.inr ⟨_, kF K hw q1289⟩) (fun _ h => h) (Nat.le_of_ble_eq_true rfl) (Nat.le_of_ble_eq_true rfl) (fs_one (⟨_, ff_64_179 s0 H0 oa D⟩))) ?_
  refine fs_c1 (fs_getf (pc := 33) (n := 646172917) (idx := 27) (ref := "BoardMachine$Integers$Decoded") (O := "BoardMachine$Integers$Decoded") (name := "immediate") (desc := "J") C (by decide +kernel) (Or.inr ⟨_, kF K hw q3263⟩) (fun _ h => h) (Nat.le_of_ble_eq_true rfl) (Nat.le_of_ble_eq_true rfl) (fs_one (⟨_, ff_61_154 s0 H0 oa D⟩))) ?_
  refine fs_c1 (fs_getf (pc := 41) (n := 633590004) (idx := 36) (ref := "BoardMachine$Integers$Decoded") (O := "BoardMachine$Integers$Decoded") (name := "d") (desc := "I") C (by decide +kernel) (Or.inr ⟨_, kF K hw q3247⟩) (fun _ h => h) (Nat.le_of_ble_eq_true rfl) (Nat.le_of_ble_eq_true rfl) (fs_one (⟨_, ff_61_151 s0 H0 oa D⟩))) ?_
  refine fs_c1 (fs_getf (pc := 45) (n := 751042817) (idx := 33) (ref := "BoardMachine$Integers$Registers") (O := "BoardMachine$Integers$Registers") (name := "counter") (desc := "J") C (by decide +kernel) (Or.inr ⟨_, kF K hw q1289⟩) (fun _ h => h) (Nat.le_of_ble_eq_true rfl) (Nat.le_of_ble_eq_true rfl) (fs_one (⟨_, ff_64_179 s0 H0 oa D⟩))) ?_
  refine fs_c1 (fs_inv_virtual (pc := 51) (n := 12648512) C (Nat.le_of_ble_eq_true rfl) (Nat.le_of_ble_eq_true rfl) (fs_lk_virtual (idx := 39) (y := ⟨"BoardMachine$Integers$Registers", "set", "(IJ)V"⟩) (bytes := prog_71_method_2_code) (maxL := 4) (rt := (Option.none : Option Jvm.ClassFile.FieldType)) (d := 1) C (Nat.le_of_ble_eq_true rfl) (Nat.le_of_ble_eq_true rfl) (by decide +kernel) (kw K hw q2500) (kw K hw q359) (kw K hw q2498) (Or.inl (kw K hw q3474)) ⟨by decide, by decide⟩ rfl (Nat.le_of_ble_eq_true rfl) (Nat.le_of_ble_eq_true rfl) (fs_one (⟨_, rfl, kw K hw q2499⟩))) fs_con_mono o0) ?_
  refine fs_c1 (fs_putf (pc := 57) (n := 751042817) (idx := 33) (ref := "BoardMachine$Integers$Registers") (O := "BoardMachine$Integers$Registers") (name := "counter") (desc := "J") (fin := false) (ty := .long) C (by decide +kernel) (Or.inl ⟨rfl, Or.inr ⟨_, kF K hw q1289⟩⟩) (fun _ h => h) (Nat.le_of_ble_eq_true rfl) (Nat.le_of_ble_eq_true rfl) (Nat.le_of_ble_eq_true rfl) rfl rfl (by decide) (fs_one (⟨rfl, ff_64_179 s0 H0 oa D⟩))) ?_
  exact fs_c0
theorem hX53_run : fe_H (sX53_run FX48_set) cX53_run [0, 24] fe_ki [] 28 (fun _ => dX53_run FX53_run_0 FX53_run_24) := by
  intro j pc L st M r hc h
  rcases fe_mem_c hc with rfl | hc
  · obtain ⟨w0, m0, h⟩ := fe_lR_d h
    obtain ⟨w1, m1, h⟩ := fe_lR_d h
    obtain ⟨w2, m2, h⟩ := fe_lR_d h
    obtain ⟨w3, m3, h⟩ := fe_lI_d h
    obtain ⟨rfl, hz⟩ := fe_t0_d h
    exact ⟨[(0, .ref w0), (1, .ref w1), (2, .ref w2), (3, .int w3)], (fe_cs m0 (fe_cs m1 (fe_cs m2 (fe_cs m3 fe_nl)))), Or.inr ((bX53_run_0 FX48_set FX53_run_0 FX53_run_24 w0 w1 w2 w3 M).symm.trans hz)⟩
  rcases fe_mem_c hc with rfl | hc
  · obtain ⟨w1, m1, h⟩ := fe_lR_d h
    obtain ⟨w3, m3, h⟩ := fe_lI_d h
    obtain ⟨s3, t3, rfl, g3⟩ := fe_tL_d h
    obtain ⟨s2, t2, rfl, g2⟩ := fe_tL_d g3
    obtain ⟨s1, t1, rfl, g1⟩ := fe_tI_d g2
    obtain ⟨s0, t0, rfl, g0⟩ := fe_tR_d g1
    obtain ⟨rfl, hz⟩ := fe_t0_d g0
    exact ⟨[(1, .ref w1), (3, .int w3)], (fe_cs m1 (fe_cs m3 fe_nl)), Or.inr ((bX53_run_24 FX48_set FX53_run_0 FX53_run_24 w1 w3 s0 s1 s2 s3 M).symm.trans hz)⟩
  exact fe_mem_0 hc
theorem vX53_run : fe_SB (sX53_run FX48_set) := by
  refine ⟨?_, ?_, ?_, ?_⟩
  · intro i As M r h
    rcases fe_bc h with h | h
    · obtain ⟨v0, t0, rfl, g0⟩ := fe_tR_d h
      obtain ⟨v1, t1, rfl, g1⟩ := fe_tI_d g0
      obtain ⟨v2, t2, rfl, g2⟩ := fe_tL_d g1
      obtain ⟨rfl, hz⟩ := fe_t0_d g2
      exact mX48_set v0 v1 v2 M r hz
    exact fe_no h
  · intro i As M r h
    exact fe_no h
  · intro i As M r h
    exact fe_no h
  · intro i As M r h
    exact fe_no h
theorem eX53_run (g0 : Nat → Nat → Nat → Int32 → FM → Option (Int32 × FM)) (g24 : Nat → Int32 → Nat → Int32 → Int64 → Int64 → FM → Option (Int32 × FM)) (a0 : Nat) (a1 : Nat) (a2 : Nat) (a3 : Int32) (M : FM) : dX53_run g0 g24 0 [(0, .ref a0), (1, .ref a1), (2, .ref a2), (3, .int a3)] [] M = g0 a0 a1 a2 a3 M := by rfl
theorem mX53_run (a0 : Nat) (a1 : Nat) (a2 : Nat) (a3 : Int32) (M : FM) (r : Int32 × FM) (h : FX53_run a0 a1 a2 a3 M = some r) : fm_nx M ≤ fm_nx r.2 ∧ fm_ns M ≤ fm_ns r.2 :=
  fe_mono (L0 := [(0, .ref a0), (1, .ref a1), (2, .ref a2), (3, .int a3)]) (vX53_run) (by decide +kernel) (hX53_run) (fe_ki_k r) 0 rfl ((eX53_run FX53_run_0 FX53_run_24 a0 a1 a2 a3 M).trans h)
theorem zX53_run {s0 : State} {H0 : Heap} {oa : Nat → Nat} {D : va_G} (K : fk s0 H0 oa D) (l : Launch) (a0 : Nat) (a1 : Nat) (a2 : Nat) (a3 : Int32) (M : FM) (r : Int32 × FM) (h : FX53_run a0 a1 a2 a3 M = some r) : fs_Con (fk_E s0 H0 oa D) l 2 ⟨"BoardMachine$Integers$Upper", "run", "(LBoardMachine$Integers$Registers;LBoardMachine$Integers$Decoded;I)I"⟩ prog_73_method_2_code 4 (Option.some Jvm.ClassFile.FieldType.int) [.ref a0, .ref a1, .ref a2, .int a3] M (some (.int r.1)) r.2 := by
  have o0 : fs_OS (sX53_run FX48_set) 0 0 (fs_Con (fk_E s0 H0 oa D) l 1 ⟨"BoardMachine$Integers$Registers", "set", "(IJ)V"⟩ prog_71_method_2_code 4 (Option.none : Option Jvm.ClassFile.FieldType)) := by
    intro As M r h
    obtain ⟨v0, t0, rfl, g0⟩ := fe_tR_d h
    obtain ⟨v1, t1, rfl, g1⟩ := fe_tI_d g0
    obtain ⟨v2, t2, rfl, g2⟩ := fe_tL_d g1
    obtain ⟨rfl, hz⟩ := fe_t0_d g2
    exact zX48_set K l v0 v1 v2 M r hz
  refine fs_method (own := "BoardMachine$Integers$Upper") rfl (by decide) K.2.1 (by rw [fe_slen]; exact (Nat.le_of_ble_eq_true rfl)) (mX53_run a0 a1 a2 a3 M r h) (hX53_run) 0 rfl (L0 := [(0, .ref a0), (1, .ref a1), (2, .ref a2), (3, .int a3)]) (fun E => fe_args_e E [.ref a0, .ref a1, .ref a2, .int a3] 0) ((eX53_run FX53_run_0 FX53_run_24 a0 a1 a2 a3 M).trans h) (fe_ki_k r) (fun H hR => fs_nr_o (by decide) (by decide)) ?_
  intro p e s m args below meth c Q C hnm
  have hw : s0.WarmedH s.vm := C.2.2.2.2.1
  refine fe_all C fk_hwr cX53_run [2, 6, 10, 17, 25, 30, 36] (by decide +kernel) (fe_fil (cps := [(2, 5, .getfield 633590004), (6, 9, .getfield 646172917), (10, 13, .getfield 621002995), (17, 20, .getfield 751042817), (25, 28, .invokevirtual 12648512), (30, 33, .getfield 751042817), (36, 39, .putfield 751042817)]) (by decide +kernel) ?_)
  refine fs_c1 (fs_getf (pc := 2) (n := 633590004) (idx := 15) (ref := "BoardMachine$Integers$Decoded") (O := "BoardMachine$Integers$Decoded") (name := "d") (desc := "I") C (by decide +kernel) (Or.inr ⟨_, kF K hw q3245⟩) (fun _ h => h) (Nat.le_of_ble_eq_true rfl) (Nat.le_of_ble_eq_true rfl) (fs_one (⟨_, ff_61_151 s0 H0 oa D⟩))) ?_
  refine fs_c1 (fs_getf (pc := 6) (n := 646172917) (idx := 21) (ref := "BoardMachine$Integers$Decoded") (O := "BoardMachine$Integers$Decoded") (name := "immediate") (desc := "J") C (by decide +kernel) (Or.inr ⟨_, kF K hw q3262⟩) (fun _ h => h) (Nat.le_of_ble_eq_true rfl) (Nat.le_of_ble_eq_true rfl) (fs_one (⟨_, ff_61_154 s0 H0 oa D⟩))) ?_
  refine fs_c1 (fs_getf (pc := 10) (n := 621002995) (idx := 9) (ref := "BoardMachine$Integers$Upper") (O := "BoardMachine$Integers$Upper") (name := "fromCounter") (desc := "Z") C (by decide +kernel) (Or.inl (kw K hw q1328)) (fun _ h => h) (Nat.le_of_ble_eq_true rfl) (Nat.le_of_ble_eq_true rfl) (fs_one (⟨_, ff_60_148 s0 H0 oa D⟩))) ?_
  refine fs_c1 (fs_getf (pc := 17) (n := 751042817) (idx := 25) (ref := "BoardMachine$Integers$Registers") (O := "BoardMachine$Integers$Registers") (name := "counter") (desc := "J") C (by decide +kernel) (Or.inr ⟨_, kF K hw q1288⟩) (fun _ h => h) (Nat.le_of_ble_eq_true rfl) (Nat.le_of_ble_eq_true rfl) (fs_one (⟨_, ff_64_179 s0 H0 oa D⟩))) ?_
  refine fs_c1 (fs_inv_virtual (pc := 25) (n := 12648512) C (Nat.le_of_ble_eq_true rfl) (Nat.le_of_ble_eq_true rfl) (fs_lk_virtual (idx := 30) (y := ⟨"BoardMachine$Integers$Registers", "set", "(IJ)V"⟩) (bytes := prog_71_method_2_code) (maxL := 4) (rt := (Option.none : Option Jvm.ClassFile.FieldType)) (d := 1) C (Nat.le_of_ble_eq_true rfl) (Nat.le_of_ble_eq_true rfl) (by decide +kernel) (kw K hw q2500) (kw K hw q359) (kw K hw q2498) (Or.inl (kw K hw q3478)) ⟨by decide, by decide⟩ rfl (Nat.le_of_ble_eq_true rfl) (Nat.le_of_ble_eq_true rfl) (fs_one (⟨_, rfl, kw K hw q2499⟩))) fs_con_mono o0) ?_
  refine fs_c1 (fs_getf (pc := 30) (n := 751042817) (idx := 25) (ref := "BoardMachine$Integers$Registers") (O := "BoardMachine$Integers$Registers") (name := "counter") (desc := "J") C (by decide +kernel) (Or.inr ⟨_, kF K hw q1288⟩) (fun _ h => h) (Nat.le_of_ble_eq_true rfl) (Nat.le_of_ble_eq_true rfl) (fs_one (⟨_, ff_64_179 s0 H0 oa D⟩))) ?_
  refine fs_c1 (fs_putf (pc := 36) (n := 751042817) (idx := 25) (ref := "BoardMachine$Integers$Registers") (O := "BoardMachine$Integers$Registers") (name := "counter") (desc := "J") (fin := false) (ty := .long) C (by decide +kernel) (Or.inl ⟨rfl, Or.inr ⟨_, kF K hw q1288⟩⟩) (fun _ h => h) (Nat.le_of_ble_eq_true rfl) (Nat.le_of_ble_eq_true rfl) (Nat.le_of_ble_eq_true rfl) rfl rfl (by decide) (fs_one (⟨rfl, ff_64_179 s0 H0 oa D⟩))) ?_
  exact fs_c0
theorem hX57_wanted : fe_H (sX57_wanted) cX57_wanted [0, 69, 82] fe_kl [] 44 (fun _ => dX57_wanted FX57_wanted_0 FX57_wanted_69 FX57_wanted_82) := by
  intro j pc L st M r hc h
  rcases fe_mem_c hc with rfl | hc
  · obtain ⟨w0, m0, h⟩ := fe_lR_d h
    obtain ⟨w1, m1, h⟩ := fe_lR_d h
    obtain ⟨w2, m2, h⟩ := fe_lR_d h
    obtain ⟨w3, m3, h⟩ := fe_lI_d h
    obtain ⟨rfl, hz⟩ := fe_t0_d h
    exact ⟨[(0, .ref w0), (1, .ref w1), (2, .ref w2), (3, .int w3)], (fe_cs m0 (fe_cs m1 (fe_cs m2 (fe_cs m3 fe_nl)))), Or.inr ((bX57_wanted_0 FX57_wanted_0 FX57_wanted_69 FX57_wanted_82 w0 w1 w2 w3 M).symm.trans hz)⟩
  rcases fe_mem_c hc with rfl | hc
  · obtain ⟨w1, m1, h⟩ := fe_lR_d h
    obtain ⟨w2, m2, h⟩ := fe_lR_d h
    obtain ⟨rfl, hz⟩ := fe_t0_d h
    exact ⟨[(1, .ref w1), (2, .ref w2)], (fe_cs m1 (fe_cs m2 fe_nl)), Or.inr ((bX57_wanted_69 FX57_wanted_0 FX57_wanted_69 FX57_wanted_82 w1 w2 M).symm.trans hz)⟩
  rcases fe_mem_c hc with rfl | hc
  · obtain ⟨s0, t0, rfl, g0⟩ := fe_tL_d h
    obtain ⟨rfl, hz⟩ := fe_t0_d g0
    exact ⟨[], fe_nl, Or.inr ((bX57_wanted_82 FX57_wanted_0 FX57_wanted_69 FX57_wanted_82 s0 M).symm.trans hz)⟩
  exact fe_mem_0 hc
theorem vX57_wanted : fe_SB (sX57_wanted) := by
  refine ⟨?_, ?_, ?_, ?_⟩
  · intro i As M r h
    exact fe_no h
  · intro i As M r h
    exact fe_no h
  · intro i As M r h
    exact fe_no h
  · intro i As M r h
    exact fe_no h
theorem eX57_wanted (g0 : Nat → Nat → Nat → Int32 → FM → Option (Int64 × FM)) (g69 : Nat → Nat → FM → Option (Int64 × FM)) (g82 : Int64 → FM → Option (Int64 × FM)) (a0 : Nat) (a1 : Nat) (a2 : Nat) (a3 : Int32) (M : FM) : dX57_wanted g0 g69 g82 0 [(0, .ref a0), (1, .ref a1), (2, .ref a2), (3, .int a3)] [] M = g0 a0 a1 a2 a3 M := by rfl
theorem mX57_wanted (a0 : Nat) (a1 : Nat) (a2 : Nat) (a3 : Int32) (M : FM) (r : Int64 × FM) (h : FX57_wanted a0 a1 a2 a3 M = some r) : fm_nx M ≤ fm_nx r.2 ∧ fm_ns M ≤ fm_ns r.2 :=
  fe_mono (L0 := [(0, .ref a0), (1, .ref a1), (2, .ref a2), (3, .int a3)]) (vX57_wanted) (by decide +kernel) (hX57_wanted) (fe_kl_k r) 0 rfl ((eX57_wanted FX57_wanted_0 FX57_wanted_69 FX57_wanted_82 a0 a1 a2 a3 M).trans h)
theorem zX57_wanted {s0 : State} {H0 : Heap} {oa : Nat → Nat} {D : va_G} (K : fk s0 H0 oa D) (l : Launch) (a0 : Nat) (a1 : Nat) (a2 : Nat) (a3 : Int32) (M : FM) (r : Int64 × FM) (h : FX57_wanted a0 a1 a2 a3 M = some r) : fs_Con (fk_E s0 H0 oa D) l 1 ⟨"BoardMachine$Integers$Access", "wanted", "(LBoardMachine$Integers$Registers;LBoardMachine$Integers$Decoded;I)J"⟩ prog_58_method_3_code 4 (Option.some Jvm.ClassFile.FieldType.long) [.ref a0, .ref a1, .ref a2, .int a3] M (some (.long r.1)) r.2 := by
  refine fs_method (own := "BoardMachine$Integers$Access") rfl (by decide) K.2.1 (by rw [fe_slen]; exact (Nat.le_of_ble_eq_true rfl)) (mX57_wanted a0 a1 a2 a3 M r h) (hX57_wanted) 0 rfl (L0 := [(0, .ref a0), (1, .ref a1), (2, .ref a2), (3, .int a3)]) (fun E => fe_args_e E [.ref a0, .ref a1, .ref a2, .int a3] 0) ((eX57_wanted FX57_wanted_0 FX57_wanted_69 FX57_wanted_82 a0 a1 a2 a3 M).trans h) (fe_kl_k r) (fun H hR => fs_nr_o (by decide) (by decide)) ?_
  intro p e s m args below meth c Q C hnm
  have hw : s0.WarmedH s.vm := C.2.2.2.2.1
  refine fe_all C fk_hwr cX57_wanted [1, 33, 37, 42, 48, 54, 62, 70, 74, 84, 90] (by decide +kernel) (fe_fil (cps := [(1, 32, .lookupswitch (88) #[(0, 31), (1, 46), (2, 52), (3, 82)]), (33, 36, .getfield 746848514), (37, 40, .getfield 637784308), (42, 45, .getfield 646172917), (48, 51, .getfield 667144436), (54, 57, .getfield 662950132), (62, 65, .getfield 662950132), (70, 73, .getfield 746848514), (74, 77, .getfield 641978612), (84, 87, .getfield 671338740), (90, 93, .getfield 633590004)]) (by decide +kernel) ?_)
  refine fs_c1 (fs_tswl (pc := 1) (nx := 32) (d := 88) (lo := 0) (hi := 3) (offs := #[31, 46, 52, 82]) C (by decide +kernel) (by decide +kernel)) ?_
  refine fs_c1 (fs_getf (pc := 33) (n := 746848514) (idx := 15) (ref := "BoardMachine$Integers$Registers") (O := "BoardMachine$Integers$Registers") (name := "held") (desc := "[J") C (by decide +kernel) (Or.inr ⟨_, kF K hw q1284⟩) (fun _ h => h) (Nat.le_of_ble_eq_true rfl) (Nat.le_of_ble_eq_true rfl) (fs_one (⟨_, ff_64_178 s0 H0 oa D⟩))) ?_
  refine fs_c1 (fs_getf (pc := 37) (n := 637784308) (idx := 21) (ref := "BoardMachine$Integers$Decoded") (O := "BoardMachine$Integers$Decoded") (name := "a") (desc := "I") C (by decide +kernel) (Or.inr ⟨_, kF K hw q3255⟩) (fun _ h => h) (Nat.le_of_ble_eq_true rfl) (Nat.le_of_ble_eq_true rfl) (fs_one (⟨_, ff_61_152 s0 H0 oa D⟩))) ?_
  refine fs_c1 (fs_getf (pc := 42) (n := 646172917) (idx := 24) (ref := "BoardMachine$Integers$Decoded") (O := "BoardMachine$Integers$Decoded") (name := "immediate") (desc := "J") C (by decide +kernel) (Or.inr ⟨_, kF K hw q3267⟩) (fun _ h => h) (Nat.le_of_ble_eq_true rfl) (Nat.le_of_ble_eq_true rfl) (fs_one (⟨_, ff_61_154 s0 H0 oa D⟩))) ?_
  refine fs_c1 (fs_getf (pc := 48) (n := 667144436) (idx := 28) (ref := "BoardMachine$Integers$Decoded") (O := "BoardMachine$Integers$Decoded") (name := "size") (desc := "I") C (by decide +kernel) (Or.inr ⟨_, kF K hw q3280⟩) (fun _ h => h) (Nat.le_of_ble_eq_true rfl) (Nat.le_of_ble_eq_true rfl) (fs_one (⟨_, ff_61_159 s0 H0 oa D⟩))) ?_
  refine fs_c1 (fs_getf (pc := 54) (n := 662950132) (idx := 9) (ref := "BoardMachine$Integers$Decoded") (O := "BoardMachine$Integers$Decoded") (name := "kind") (desc := "I") C (by decide +kernel) (Or.inr ⟨_, kF K hw q3276⟩) (fun _ h => h) (Nat.le_of_ble_eq_true rfl) (Nat.le_of_ble_eq_true rfl) (fs_one (⟨_, ff_61_158 s0 H0 oa D⟩))) ?_
  refine fs_c1 (fs_getf (pc := 62) (n := 662950132) (idx := 9) (ref := "BoardMachine$Integers$Decoded") (O := "BoardMachine$Integers$Decoded") (name := "kind") (desc := "I") C (by decide +kernel) (Or.inr ⟨_, kF K hw q3276⟩) (fun _ h => h) (Nat.le_of_ble_eq_true rfl) (Nat.le_of_ble_eq_true rfl) (fs_one (⟨_, ff_61_158 s0 H0 oa D⟩))) ?_
  refine fs_c1 (fs_getf (pc := 70) (n := 746848514) (idx := 15) (ref := "BoardMachine$Integers$Registers") (O := "BoardMachine$Integers$Registers") (name := "held") (desc := "[J") C (by decide +kernel) (Or.inr ⟨_, kF K hw q1284⟩) (fun _ h => h) (Nat.le_of_ble_eq_true rfl) (Nat.le_of_ble_eq_true rfl) (fs_one (⟨_, ff_64_178 s0 H0 oa D⟩))) ?_
  refine fs_c1 (fs_getf (pc := 74) (n := 641978612) (idx := 31) (ref := "BoardMachine$Integers$Decoded") (O := "BoardMachine$Integers$Decoded") (name := "b") (desc := "I") C (by decide +kernel) (Or.inr ⟨_, kF K hw q3260⟩) (fun _ h => h) (Nat.le_of_ble_eq_true rfl) (Nat.le_of_ble_eq_true rfl) (fs_one (⟨_, ff_61_153 s0 H0 oa D⟩))) ?_
  refine fs_c1 (fs_getf (pc := 84) (n := 671338740) (idx := 34) (ref := "BoardMachine$Integers$Decoded") (O := "BoardMachine$Integers$Decoded") (name := "sort") (desc := "I") C (by decide +kernel) (Or.inr ⟨_, kF K hw q3284⟩) (fun _ h => h) (Nat.le_of_ble_eq_true rfl) (Nat.le_of_ble_eq_true rfl) (fs_one (⟨_, ff_61_160 s0 H0 oa D⟩))) ?_
  refine fs_c1 (fs_getf (pc := 90) (n := 633590004) (idx := 37) (ref := "BoardMachine$Integers$Decoded") (O := "BoardMachine$Integers$Decoded") (name := "d") (desc := "I") C (by decide +kernel) (Or.inr ⟨_, kF K hw q3249⟩) (fun _ h => h) (Nat.le_of_ble_eq_true rfl) (Nat.le_of_ble_eq_true rfl) (fs_one (⟨_, ff_61_151 s0 H0 oa D⟩))) ?_
  exact fs_c0
theorem hX50_wanted : fe_H (sX50_wanted) cX50_wanted [0] fe_kl [] 20 (fun _ => dX50_wanted FX50_wanted_0) := by
  intro j pc L st M r hc h
  rcases fe_mem_c hc with rfl | hc
  · obtain ⟨w0, m0, h⟩ := fe_lR_d h
    obtain ⟨w1, m1, h⟩ := fe_lR_d h
    obtain ⟨w2, m2, h⟩ := fe_lR_d h
    obtain ⟨w3, m3, h⟩ := fe_lI_d h
    obtain ⟨rfl, hz⟩ := fe_t0_d h
    exact ⟨[(0, .ref w0), (1, .ref w1), (2, .ref w2), (3, .int w3)], (fe_cs m0 (fe_cs m1 (fe_cs m2 (fe_cs m3 fe_nl)))), Or.inr ((bX50_wanted_0 FX50_wanted_0 w0 w1 w2 w3 M).symm.trans hz)⟩
  exact fe_mem_0 hc
theorem vX50_wanted : fe_SB (sX50_wanted) := by
  refine ⟨?_, ?_, ?_, ?_⟩
  · intro i As M r h
    exact fe_no h
  · intro i As M r h
    exact fe_no h
  · intro i As M r h
    exact fe_no h
  · intro i As M r h
    exact fe_no h
theorem eX50_wanted (g0 : Nat → Nat → Nat → Int32 → FM → Option (Int64 × FM)) (a0 : Nat) (a1 : Nat) (a2 : Nat) (a3 : Int32) (M : FM) : dX50_wanted g0 0 [(0, .ref a0), (1, .ref a1), (2, .ref a2), (3, .int a3)] [] M = g0 a0 a1 a2 a3 M := by rfl
theorem mX50_wanted (a0 : Nat) (a1 : Nat) (a2 : Nat) (a3 : Int32) (M : FM) (r : Int64 × FM) (h : FX50_wanted a0 a1 a2 a3 M = some r) : fm_nx M ≤ fm_nx r.2 ∧ fm_ns M ≤ fm_ns r.2 :=
  fe_mono (L0 := [(0, .ref a0), (1, .ref a1), (2, .ref a2), (3, .int a3)]) (vX50_wanted) (by decide +kernel) (hX50_wanted) (fe_kl_k r) 0 rfl ((eX50_wanted FX50_wanted_0 a0 a1 a2 a3 M).trans h)
theorem zX50_wanted {s0 : State} {H0 : Heap} {oa : Nat → Nat} {D : va_G} (K : fk s0 H0 oa D) (l : Launch) (a0 : Nat) (a1 : Nat) (a2 : Nat) (a3 : Int32) (M : FM) (r : Int64 × FM) (h : FX50_wanted a0 a1 a2 a3 M = some r) : fs_Con (fk_E s0 H0 oa D) l 1 ⟨"BoardMachine$Integers$Action", "wanted", "(LBoardMachine$Integers$Registers;LBoardMachine$Integers$Decoded;I)J"⟩ prog_59_method_3_code 4 (Option.some Jvm.ClassFile.FieldType.long) [.ref a0, .ref a1, .ref a2, .int a3] M (some (.long r.1)) r.2 := by
  refine fs_method (own := "BoardMachine$Integers$Action") rfl (by decide) K.2.1 (by rw [fe_slen]; exact (Nat.le_of_ble_eq_true rfl)) (mX50_wanted a0 a1 a2 a3 M r h) (hX50_wanted) 0 rfl (L0 := [(0, .ref a0), (1, .ref a1), (2, .ref a2), (3, .int a3)]) (fun E => fe_args_e E [.ref a0, .ref a1, .ref a2, .int a3] 0) ((eX50_wanted FX50_wanted_0 a0 a1 a2 a3 M).trans h) (fe_kl_k r) (fun H hR => fs_nr_o (by decide) (by decide)) ?_
  intro p e s m args below meth c Q C hnm
  have hw : s0.WarmedH s.vm := C.2.2.2.2.1
  refine fe_all C fk_hwr cX50_wanted [0] (by decide +kernel) (fe_fil (cps := [(0, 3, .jsr_w (-1))]) (by decide +kernel) ?_)
  refine fs_c1 (fs_ldcl (pc := 0) (idx := 9) (v := -1) C (by decide +kernel) (kw K hw q3495)) ?_
  exact fs_c0
theorem hX58_wanted : fe_H (sX58_wanted) cX58_wanted [0, 63] fe_kl [] 33 (fun _ => dX58_wanted FX58_wanted_0 FX58_wanted_63) := by
  intro j pc L st M r hc h
  rcases fe_mem_c hc with rfl | hc
  · obtain ⟨w0, m0, h⟩ := fe_lR_d h
    obtain ⟨w1, m1, h⟩ := fe_lR_d h
    obtain ⟨w2, m2, h⟩ := fe_lR_d h
    obtain ⟨w3, m3, h⟩ := fe_lI_d h
    obtain ⟨rfl, hz⟩ := fe_t0_d h
    exact ⟨[(0, .ref w0), (1, .ref w1), (2, .ref w2), (3, .int w3)], (fe_cs m0 (fe_cs m1 (fe_cs m2 (fe_cs m3 fe_nl)))), Or.inr ((bX58_wanted_0 FX58_wanted_0 FX58_wanted_63 w0 w1 w2 w3 M).symm.trans hz)⟩
  rcases fe_mem_c hc with rfl | hc
  · obtain ⟨s0, t0, rfl, g0⟩ := fe_tL_d h
    obtain ⟨rfl, hz⟩ := fe_t0_d g0
    exact ⟨[], fe_nl, Or.inr ((bX58_wanted_63 FX58_wanted_0 FX58_wanted_63 s0 M).symm.trans hz)⟩
  exact fe_mem_0 hc
theorem vX58_wanted : fe_SB (sX58_wanted) := by
  refine ⟨?_, ?_, ?_, ?_⟩
  · intro i As M r h
    exact fe_no h
  · intro i As M r h
    exact fe_no h
  · intro i As M r h
    exact fe_no h
  · intro i As M r h
    exact fe_no h
theorem eX58_wanted (g0 : Nat → Nat → Nat → Int32 → FM → Option (Int64 × FM)) (g63 : Int64 → FM → Option (Int64 × FM)) (a0 : Nat) (a1 : Nat) (a2 : Nat) (a3 : Int32) (M : FM) : dX58_wanted g0 g63 0 [(0, .ref a0), (1, .ref a1), (2, .ref a2), (3, .int a3)] [] M = g0 a0 a1 a2 a3 M := by rfl
theorem mX58_wanted (a0 : Nat) (a1 : Nat) (a2 : Nat) (a3 : Int32) (M : FM) (r : Int64 × FM) (h : FX58_wanted a0 a1 a2 a3 M = some r) : fm_nx M ≤ fm_nx r.2 ∧ fm_ns M ≤ fm_ns r.2 :=
  fe_mono (L0 := [(0, .ref a0), (1, .ref a1), (2, .ref a2), (3, .int a3)]) (vX58_wanted) (by decide +kernel) (hX58_wanted) (fe_kl_k r) 0 rfl ((eX58_wanted FX58_wanted_0 FX58_wanted_63 a0 a1 a2 a3 M).trans h)
theorem zX58_wanted {s0 : State} {H0 : Heap} {oa : Nat → Nat} {D : va_G} (K : fk s0 H0 oa D) (l : Launch) (a0 : Nat) (a1 : Nat) (a2 : Nat) (a3 : Int32) (M : FM) (r : Int64 × FM) (h : FX58_wanted a0 a1 a2 a3 M = some r) : fs_Con (fk_E s0 H0 oa D) l 1 ⟨"BoardMachine$Integers$Foreign", "wanted", "(LBoardMachine$Integers$Registers;LBoardMachine$Integers$Decoded;I)J"⟩ prog_67_method_3_code 4 (Option.some Jvm.ClassFile.FieldType.long) [.ref a0, .ref a1, .ref a2, .int a3] M (some (.long r.1)) r.2 := by
  refine fs_method (own := "BoardMachine$Integers$Foreign") rfl (by decide) K.2.1 (by rw [fe_slen]; exact (Nat.le_of_ble_eq_true rfl)) (mX58_wanted a0 a1 a2 a3 M r h) (hX58_wanted) 0 rfl (L0 := [(0, .ref a0), (1, .ref a1), (2, .ref a2), (3, .int a3)]) (fun E => fe_args_e E [.ref a0, .ref a1, .ref a2, .int a3] 0) ((eX58_wanted FX58_wanted_0 FX58_wanted_63 a0 a1 a2 a3 M).trans h) (fe_kl_k r) (fun H hR => fs_nr_o (by decide) (by decide)) ?_
  intro p e s m args below meth c Q C hnm
  have hw : s0.WarmedH s.vm := C.2.2.2.2.1
  refine fe_all C fk_hwr cX58_wanted [1, 33, 40, 47, 51, 59, 65, 71] (by decide +kernel) (fe_fil (cps := [(1, 32, .lookupswitch (69) #[(0, 31), (1, 36), (2, 38), (3, 63)]), (33, 36, .getfield 646172917), (40, 43, .getfield 654561527), (47, 50, .getfield 746848514), (51, 54, .getfield 637784308), (59, 62, .getfield 637784308), (65, 68, .getfield 671338740), (71, 74, .getfield 633590004)]) (by decide +kernel) ?_)
  refine fs_c1 (fs_tswl (pc := 1) (nx := 32) (d := 69) (lo := 0) (hi := 3) (offs := #[31, 36, 38, 63]) C (by decide +kernel) (by decide +kernel)) ?_
  refine fs_c1 (fs_getf (pc := 33) (n := 646172917) (idx := 13) (ref := "BoardMachine$Integers$Decoded") (O := "BoardMachine$Integers$Decoded") (name := "immediate") (desc := "J") C (by decide +kernel) (Or.inr ⟨_, kF K hw q3266⟩) (fun _ h => h) (Nat.le_of_ble_eq_true rfl) (Nat.le_of_ble_eq_true rfl) (fs_one (⟨_, ff_61_154 s0 H0 oa D⟩))) ?_
  refine fs_c1 (fs_getf (pc := 40) (n := 654561527) (idx := 17) (ref := "BoardMachine$Integers$Decoded") (O := "BoardMachine$Integers$Decoded") (name := "ofRegisters") (desc := "Z") C (by decide +kernel) (Or.inr ⟨_, kF K hw q3272⟩) (fun _ h => h) (Nat.le_of_ble_eq_true rfl) (Nat.le_of_ble_eq_true rfl) (fs_one (⟨_, ff_61_156 s0 H0 oa D⟩))) ?_
  refine fs_c1 (fs_getf (pc := 47) (n := 746848514) (idx := 21) (ref := "BoardMachine$Integers$Registers") (O := "BoardMachine$Integers$Registers") (name := "held") (desc := "[J") C (by decide +kernel) (Or.inr ⟨_, kF K hw q1285⟩) (fun _ h => h) (Nat.le_of_ble_eq_true rfl) (Nat.le_of_ble_eq_true rfl) (fs_one (⟨_, ff_64_178 s0 H0 oa D⟩))) ?_
  refine fs_c1 (fs_getf (pc := 51) (n := 637784308) (idx := 27) (ref := "BoardMachine$Integers$Decoded") (O := "BoardMachine$Integers$Decoded") (name := "a") (desc := "I") C (by decide +kernel) (Or.inr ⟨_, kF K hw q3256⟩) (fun _ h => h) (Nat.le_of_ble_eq_true rfl) (Nat.le_of_ble_eq_true rfl) (fs_one (⟨_, ff_61_152 s0 H0 oa D⟩))) ?_
  refine fs_c1 (fs_getf (pc := 59) (n := 637784308) (idx := 27) (ref := "BoardMachine$Integers$Decoded") (O := "BoardMachine$Integers$Decoded") (name := "a") (desc := "I") C (by decide +kernel) (Or.inr ⟨_, kF K hw q3256⟩) (fun _ h => h) (Nat.le_of_ble_eq_true rfl) (Nat.le_of_ble_eq_true rfl) (fs_one (⟨_, ff_61_152 s0 H0 oa D⟩))) ?_
  refine fs_c1 (fs_getf (pc := 65) (n := 671338740) (idx := 30) (ref := "BoardMachine$Integers$Decoded") (O := "BoardMachine$Integers$Decoded") (name := "sort") (desc := "I") C (by decide +kernel) (Or.inr ⟨_, kF K hw q3283⟩) (fun _ h => h) (Nat.le_of_ble_eq_true rfl) (Nat.le_of_ble_eq_true rfl) (fs_one (⟨_, ff_61_160 s0 H0 oa D⟩))) ?_
  refine fs_c1 (fs_getf (pc := 71) (n := 633590004) (idx := 33) (ref := "BoardMachine$Integers$Decoded") (O := "BoardMachine$Integers$Decoded") (name := "d") (desc := "I") C (by decide +kernel) (Or.inr ⟨_, kF K hw q3248⟩) (fun _ h => h) (Nat.le_of_ble_eq_true rfl) (Nat.le_of_ble_eq_true rfl) (fs_one (⟨_, ff_61_151 s0 H0 oa D⟩))) ?_
  exact fs_c0
theorem hX47_run (n : Nat) : fe_H (sX47_run FX47_find FX57_run FX55_run FX56_run FX52_run FX58_run FX51_run FX54_run FX53_run FX57_wanted FX50_wanted FX58_wanted) cX47_run [0, 45, 96] fe_ki [45] 58 (fun j => dX47_run (FX47_run_0 n (FX47_run_L45 n j)) (FX47_run_96 n (FX47_run_L45 n j)) (FX47_run_L45 n j)) := by
  intro j pc L st M r hc h
  rcases fe_mem_c hc with rfl | hc
  · obtain ⟨w0, m0, h⟩ := fe_lR_d h
    obtain ⟨w1, m1, h⟩ := fe_lI_d h
    obtain ⟨w2, m2, h⟩ := fe_lI_d h
    obtain ⟨rfl, hz⟩ := fe_t0_d h
    exact ⟨[(0, .ref w0), (1, .int w1), (2, .int w2)], (fe_cs m0 (fe_cs m1 (fe_cs m2 fe_nl))), Or.inr ((bX47_run_0 FX47_find FX57_run FX55_run FX56_run FX52_run FX58_run FX51_run FX54_run FX53_run FX57_wanted FX50_wanted FX58_wanted (FX47_run_0 n (FX47_run_L45 n j)) (FX47_run_96 n (FX47_run_L45 n j)) (FX47_run_L45 n j) w0 w1 w2 M).symm.trans hz)⟩
  rcases fe_mem_c hc with rfl | hc
  · obtain ⟨w0, m0, h⟩ := fe_lR_d h
    obtain ⟨w3, m3, h⟩ := fe_lR_d h
    obtain ⟨w4, m4, h⟩ := fe_lI_d h
    obtain ⟨w5, m5, h⟩ := fe_lI_d h
    obtain ⟨rfl, hz⟩ := fe_t0_d h
    cases j with
    | zero => exact fe_no hz
    | succ j => exact ⟨[(0, .ref w0), (3, .ref w3), (4, .int w4), (5, .int w5)], (fe_cs m0 (fe_cs m3 (fe_cs m4 (fe_cs m5 fe_nl)))), Or.inl ⟨j, rfl, (bX47_run_45 FX47_find FX57_run FX55_run FX56_run FX52_run FX58_run FX51_run FX54_run FX53_run FX57_wanted FX50_wanted FX58_wanted (FX47_run_0 n (FX47_run_L45 n j)) (FX47_run_96 n (FX47_run_L45 n j)) (FX47_run_L45 n j) w0 w3 w4 w5 M).symm.trans hz⟩⟩
  rcases fe_mem_c hc with rfl | hc
  · obtain ⟨w4, m4, h⟩ := fe_lI_d h
    obtain ⟨rfl, hz⟩ := fe_t0_d h
    exact ⟨[(4, .int w4)], (fe_cs m4 fe_nl), Or.inr ((bX47_run_96 FX47_find FX57_run FX55_run FX56_run FX52_run FX58_run FX51_run FX54_run FX53_run FX57_wanted FX50_wanted FX58_wanted (FX47_run_0 n (FX47_run_L45 n j)) (FX47_run_96 n (FX47_run_L45 n j)) (FX47_run_L45 n j) w4 M).symm.trans hz)⟩
  exact fe_mem_0 hc
theorem vX47_run (n : Nat) : fe_SB (sX47_run FX47_find FX57_run FX55_run FX56_run FX52_run FX58_run FX51_run FX54_run FX53_run FX57_wanted FX50_wanted FX58_wanted) := by
  refine ⟨?_, ?_, ?_, ?_⟩
  · intro i As M r h
    exact fe_no h
  · intro i As M r h
    rcases fe_bc h with h | h
    · obtain ⟨v0, t0, rfl, g0⟩ := fe_tR_d h
      obtain ⟨v1, t1, rfl, g1⟩ := fe_tR_d g0
      obtain ⟨v2, t2, rfl, g2⟩ := fe_tR_d g1
      obtain ⟨v3, t3, rfl, g3⟩ := fe_tI_d g2
      obtain ⟨rfl, hz⟩ := fe_t0_d g3
      exact mX57_run v0 v1 v2 v3 M r hz
    rcases fe_bc h with h | h
    · obtain ⟨v0, t0, rfl, g0⟩ := fe_tR_d h
      obtain ⟨v1, t1, rfl, g1⟩ := fe_tR_d g0
      obtain ⟨v2, t2, rfl, g2⟩ := fe_tR_d g1
      obtain ⟨v3, t3, rfl, g3⟩ := fe_tI_d g2
      obtain ⟨rfl, hz⟩ := fe_t0_d g3
      exact mX55_run v0 v1 v2 v3 M r hz
    rcases fe_bc h with h | h
    · obtain ⟨v0, t0, rfl, g0⟩ := fe_tR_d h
      obtain ⟨v1, t1, rfl, g1⟩ := fe_tR_d g0
      obtain ⟨v2, t2, rfl, g2⟩ := fe_tR_d g1
      obtain ⟨v3, t3, rfl, g3⟩ := fe_tI_d g2
      obtain ⟨rfl, hz⟩ := fe_t0_d g3
      exact mX56_run v0 v1 v2 v3 M r hz
    rcases fe_bc h with h | h
    · obtain ⟨v0, t0, rfl, g0⟩ := fe_tR_d h
      obtain ⟨v1, t1, rfl, g1⟩ := fe_tR_d g0
      obtain ⟨v2, t2, rfl, g2⟩ := fe_tR_d g1
      obtain ⟨v3, t3, rfl, g3⟩ := fe_tI_d g2
      obtain ⟨rfl, hz⟩ := fe_t0_d g3
      exact mX52_run v0 v1 v2 v3 M r hz
    rcases fe_bc h with h | h
    · obtain ⟨v0, t0, rfl, g0⟩ := fe_tR_d h
      obtain ⟨v1, t1, rfl, g1⟩ := fe_tR_d g0
      obtain ⟨v2, t2, rfl, g2⟩ := fe_tR_d g1
      obtain ⟨v3, t3, rfl, g3⟩ := fe_tI_d g2
      obtain ⟨rfl, hz⟩ := fe_t0_d g3
      exact mX58_run v0 v1 v2 v3 M r hz
    rcases fe_bc h with h | h
    · obtain ⟨v0, t0, rfl, g0⟩ := fe_tR_d h
      obtain ⟨v1, t1, rfl, g1⟩ := fe_tR_d g0
      obtain ⟨v2, t2, rfl, g2⟩ := fe_tR_d g1
      obtain ⟨v3, t3, rfl, g3⟩ := fe_tI_d g2
      obtain ⟨rfl, hz⟩ := fe_t0_d g3
      exact mX51_run v0 v1 v2 v3 M r hz
    rcases fe_bc h with h | h
    · obtain ⟨v0, t0, rfl, g0⟩ := fe_tR_d h
      obtain ⟨v1, t1, rfl, g1⟩ := fe_tR_d g0
      obtain ⟨v2, t2, rfl, g2⟩ := fe_tR_d g1
      obtain ⟨v3, t3, rfl, g3⟩ := fe_tI_d g2
      obtain ⟨rfl, hz⟩ := fe_t0_d g3
      exact mX54_run v0 v1 v2 v3 M r hz
    rcases fe_bc h with h | h
    · obtain ⟨v0, t0, rfl, g0⟩ := fe_tR_d h
      obtain ⟨v1, t1, rfl, g1⟩ := fe_tR_d g0
      obtain ⟨v2, t2, rfl, g2⟩ := fe_tR_d g1
      obtain ⟨v3, t3, rfl, g3⟩ := fe_tI_d g2
      obtain ⟨rfl, hz⟩ := fe_t0_d g3
      exact mX53_run v0 v1 v2 v3 M r hz
    exact fe_no h
  · intro i As M r h
    rcases fe_bc h with h | h
    · obtain ⟨v0, t0, rfl, g0⟩ := fe_tR_d h
      obtain ⟨v1, t1, rfl, g1⟩ := fe_tR_d g0
      obtain ⟨v2, t2, rfl, g2⟩ := fe_tR_d g1
      obtain ⟨v3, t3, rfl, g3⟩ := fe_tI_d g2
      obtain ⟨rfl, hz⟩ := fe_t0_d g3
      exact mX57_wanted v0 v1 v2 v3 M r hz
    rcases fe_bc h with h | h
    · obtain ⟨v0, t0, rfl, g0⟩ := fe_tR_d h
      obtain ⟨v1, t1, rfl, g1⟩ := fe_tR_d g0
      obtain ⟨v2, t2, rfl, g2⟩ := fe_tR_d g1
      obtain ⟨v3, t3, rfl, g3⟩ := fe_tI_d g2
      obtain ⟨rfl, hz⟩ := fe_t0_d g3
      exact mX50_wanted v0 v1 v2 v3 M r hz
    rcases fe_bc h with h | h
    · obtain ⟨v0, t0, rfl, g0⟩ := fe_tR_d h
      obtain ⟨v1, t1, rfl, g1⟩ := fe_tR_d g0
      obtain ⟨v2, t2, rfl, g2⟩ := fe_tR_d g1
      obtain ⟨v3, t3, rfl, g3⟩ := fe_tI_d g2
      obtain ⟨rfl, hz⟩ := fe_t0_d g3
      exact mX58_wanted v0 v1 v2 v3 M r hz
    exact fe_no h
  · intro i As M r h
    rcases fe_bc h with h | h
    · obtain ⟨v0, t0, rfl, g0⟩ := fe_tR_d h
      obtain ⟨v1, t1, rfl, g1⟩ := fe_tI_d g0
      obtain ⟨rfl, hz⟩ := fe_t0_d g1
      exact mX47_find v0 v1 M r hz
    exact fe_no h
theorem eX47_run (g0 : Nat → Int32 → Int32 → FM → Option (Int32 × FM)) (g96 : Int32 → FM → Option (Int32 × FM)) (k45 : Nat → Nat → Int32 → Int32 → FM → Option (Int32 × FM)) (a0 : Nat) (a1 : Int32) (a2 : Int32) (M : FM) : dX47_run g0 g96 k45 0 [(0, .ref a0), (1, .int a1), (2, .int a2)] [] M = g0 a0 a1 a2 M := by rfl
theorem mX47_run (n : Nat) (a0 : Nat) (a1 : Int32) (a2 : Int32) (M : FM) (r : Int32 × FM) (h : FX47_run n a0 a1 a2 M = some r) : fm_nx M ≤ fm_nx r.2 ∧ fm_ns M ≤ fm_ns r.2 :=
  fe_mono (L0 := [(0, .ref a0), (1, .int a1), (2, .int a2)]) (vX47_run n) (by decide +kernel) (hX47_run n) (fe_ki_k r) n rfl ((eX47_run (FX47_run_0 n (FX47_run_L45 n n)) (FX47_run_96 n (FX47_run_L45 n n)) (FX47_run_L45 n n) a0 a1 a2 M).trans h)
theorem zX47_run {s0 : State} {H0 : Heap} {oa : Nat → Nat} {D : va_G} (K : fk s0 H0 oa D) (l : Launch) (n : Nat) (a0 : Nat) (a1 : Int32) (a2 : Int32) (M : FM) (r : Int32 × FM) (h : FX47_run n a0 a1 a2 M = some r) : fs_Con (fk_E s0 H0 oa D) l 7 ⟨"BoardMachine$Integers$IntegerUnit", "run", "(II)I"⟩ prog_69_method_4_code 6 (Option.some Jvm.ClassFile.FieldType.int) [.ref a0, .int a1, .int a2] M (some (.int r.1)) r.2 := by
  have o0 : fs_OS (sX47_run FX47_find FX57_run FX55_run FX56_run FX52_run FX58_run FX51_run FX54_run FX53_run FX57_wanted FX50_wanted FX58_wanted) 0 3 (fs_Con (fk_E s0 H0 oa D) l 6 ⟨"BoardMachine$Integers$IntegerUnit", "find", "(I)LBoardMachine$Integers$Decoded;"⟩ prog_69_method_2_code 3 (Option.some (Jvm.ClassFile.FieldType.object "BoardMachine$Integers$Decoded"))) := by
    intro As M r h
    obtain ⟨v0, t0, rfl, g0⟩ := fe_tR_d h
    obtain ⟨v1, t1, rfl, g1⟩ := fe_tI_d g0
    obtain ⟨rfl, hz⟩ := fe_t0_d g1
    exact zX47_find K l v0 v1 M r hz
  have o1 : fs_OS (sX47_run FX47_find FX57_run FX55_run FX56_run FX52_run FX58_run FX51_run FX54_run FX53_run FX57_wanted FX50_wanted FX58_wanted) 1 1 (fs_Con (fk_E s0 H0 oa D) l 1 ⟨"BoardMachine$Integers$Access", "run", "(LBoardMachine$Integers$Registers;LBoardMachine$Integers$Decoded;I)I"⟩ prog_58_method_2_code 4 (Option.some Jvm.ClassFile.FieldType.int)) := by
    intro As M r h
    obtain ⟨v0, t0, rfl, g0⟩ := fe_tR_d h
    obtain ⟨v1, t1, rfl, g1⟩ := fe_tR_d g0
    obtain ⟨v2, t2, rfl, g2⟩ := fe_tR_d g1
    obtain ⟨v3, t3, rfl, g3⟩ := fe_tI_d g2
    obtain ⟨rfl, hz⟩ := fe_t0_d g3
    exact zX57_run K l v0 v1 v2 v3 M r hz
  have o2 : fs_OS (sX47_run FX47_find FX57_run FX55_run FX56_run FX52_run FX58_run FX51_run FX54_run FX53_run FX57_wanted FX50_wanted FX58_wanted) 2 1 (fs_Con (fk_E s0 H0 oa D) l 2 ⟨"BoardMachine$Integers$Branch", "run", "(LBoardMachine$Integers$Registers;LBoardMachine$Integers$Decoded;I)I"⟩ prog_61_method_2_code 9 (Option.some Jvm.ClassFile.FieldType.int)) := by
    intro As M r h
    obtain ⟨v0, t0, rfl, g0⟩ := fe_tR_d h
    obtain ⟨v1, t1, rfl, g1⟩ := fe_tR_d g0
    obtain ⟨v2, t2, rfl, g2⟩ := fe_tR_d g1
    obtain ⟨v3, t3, rfl, g3⟩ := fe_tI_d g2
    obtain ⟨rfl, hz⟩ := fe_t0_d g3
    exact zX55_run K l v0 v1 v2 v3 M r hz
  have o3 : fs_OS (sX47_run FX47_find FX57_run FX55_run FX56_run FX52_run FX58_run FX51_run FX54_run FX53_run FX57_wanted FX50_wanted FX58_wanted) 3 1 (fs_Con (fk_E s0 H0 oa D) l 5 ⟨"BoardMachine$Integers$Compute", "run", "(LBoardMachine$Integers$Registers;LBoardMachine$Integers$Decoded;I)I"⟩ prog_62_method_2_code 8 (Option.some Jvm.ClassFile.FieldType.int)) := by
    intro As M r h
    obtain ⟨v0, t0, rfl, g0⟩ := fe_tR_d h
    obtain ⟨v1, t1, rfl, g1⟩ := fe_tR_d g0
    obtain ⟨v2, t2, rfl, g2⟩ := fe_tR_d g1
    obtain ⟨v3, t3, rfl, g3⟩ := fe_tI_d g2
    obtain ⟨rfl, hz⟩ := fe_t0_d g3
    exact zX56_run K l v0 v1 v2 v3 M r hz
  have o4 : fs_OS (sX47_run FX47_find FX57_run FX55_run FX56_run FX52_run FX58_run FX51_run FX54_run FX53_run FX57_wanted FX50_wanted FX58_wanted) 4 1 (fs_Con (fk_E s0 H0 oa D) l 1 ⟨"BoardMachine$Integers$Fence", "run", "(LBoardMachine$Integers$Registers;LBoardMachine$Integers$Decoded;I)I"⟩ prog_65_method_2_code 4 (Option.some Jvm.ClassFile.FieldType.int)) := by
    intro As M r h
    obtain ⟨v0, t0, rfl, g0⟩ := fe_tR_d h
    obtain ⟨v1, t1, rfl, g1⟩ := fe_tR_d g0
    obtain ⟨v2, t2, rfl, g2⟩ := fe_tR_d g1
    obtain ⟨v3, t3, rfl, g3⟩ := fe_tI_d g2
    obtain ⟨rfl, hz⟩ := fe_t0_d g3
    exact zX52_run K l v0 v1 v2 v3 M r hz
  have o5 : fs_OS (sX47_run FX47_find FX57_run FX55_run FX56_run FX52_run FX58_run FX51_run FX54_run FX53_run FX57_wanted FX50_wanted FX58_wanted) 5 1 (fs_Con (fk_E s0 H0 oa D) l 1 ⟨"BoardMachine$Integers$Foreign", "run", "(LBoardMachine$Integers$Registers;LBoardMachine$Integers$Decoded;I)I"⟩ prog_67_method_2_code 4 (Option.some Jvm.ClassFile.FieldType.int)) := by
    intro As M r h
    obtain ⟨v0, t0, rfl, g0⟩ := fe_tR_d h
    obtain ⟨v1, t1, rfl, g1⟩ := fe_tR_d g0
    obtain ⟨v2, t2, rfl, g2⟩ := fe_tR_d g1
    obtain ⟨v3, t3, rfl, g3⟩ := fe_tI_d g2
    obtain ⟨rfl, hz⟩ := fe_t0_d g3
    exact zX58_run K l v0 v1 v2 v3 M r hz
  have o6 : fs_OS (sX47_run FX47_find FX57_run FX55_run FX56_run FX52_run FX58_run FX51_run FX54_run FX53_run FX57_wanted FX50_wanted FX58_wanted) 6 1 (fs_Con (fk_E s0 H0 oa D) l 1 ⟨"BoardMachine$Integers$Illegal", "run", "(LBoardMachine$Integers$Registers;LBoardMachine$Integers$Decoded;I)I"⟩ prog_68_method_2_code 4 (Option.some Jvm.ClassFile.FieldType.int)) := by
    intro As M r h
    obtain ⟨v0, t0, rfl, g0⟩ := fe_tR_d h
    obtain ⟨v1, t1, rfl, g1⟩ := fe_tR_d g0
    obtain ⟨v2, t2, rfl, g2⟩ := fe_tR_d g1
    obtain ⟨v3, t3, rfl, g3⟩ := fe_tI_d g2
    obtain ⟨rfl, hz⟩ := fe_t0_d g3
    exact zX51_run K l v0 v1 v2 v3 M r hz
  have o7 : fs_OS (sX47_run FX47_find FX57_run FX55_run FX56_run FX52_run FX58_run FX51_run FX54_run FX53_run FX57_wanted FX50_wanted FX58_wanted) 7 1 (fs_Con (fk_E s0 H0 oa D) l 2 ⟨"BoardMachine$Integers$Jump", "run", "(LBoardMachine$Integers$Registers;LBoardMachine$Integers$Decoded;I)I"⟩ prog_70_method_2_code 6 (Option.some Jvm.ClassFile.FieldType.int)) := by
    intro As M r h
    obtain ⟨v0, t0, rfl, g0⟩ := fe_tR_d h
    obtain ⟨v1, t1, rfl, g1⟩ := fe_tR_d g0
    obtain ⟨v2, t2, rfl, g2⟩ := fe_tR_d g1
    obtain ⟨v3, t3, rfl, g3⟩ := fe_tI_d g2
    obtain ⟨rfl, hz⟩ := fe_t0_d g3
    exact zX54_run K l v0 v1 v2 v3 M r hz
  have o8 : fs_OS (sX47_run FX47_find FX57_run FX55_run FX56_run FX52_run FX58_run FX51_run FX54_run FX53_run FX57_wanted FX50_wanted FX58_wanted) 8 1 (fs_Con (fk_E s0 H0 oa D) l 2 ⟨"BoardMachine$Integers$Upper", "run", "(LBoardMachine$Integers$Registers;LBoardMachine$Integers$Decoded;I)I"⟩ prog_73_method_2_code 4 (Option.some Jvm.ClassFile.FieldType.int)) := by
    intro As M r h
    obtain ⟨v0, t0, rfl, g0⟩ := fe_tR_d h
    obtain ⟨v1, t1, rfl, g1⟩ := fe_tR_d g0
    obtain ⟨v2, t2, rfl, g2⟩ := fe_tR_d g1
    obtain ⟨v3, t3, rfl, g3⟩ := fe_tI_d g2
    obtain ⟨rfl, hz⟩ := fe_t0_d g3
    exact zX53_run K l v0 v1 v2 v3 M r hz
  have o9 : fs_OS (sX47_run FX47_find FX57_run FX55_run FX56_run FX52_run FX58_run FX51_run FX54_run FX53_run FX57_wanted FX50_wanted FX58_wanted) 9 2 (fs_Con (fk_E s0 H0 oa D) l 1 ⟨"BoardMachine$Integers$Access", "wanted", "(LBoardMachine$Integers$Registers;LBoardMachine$Integers$Decoded;I)J"⟩ prog_58_method_3_code 4 (Option.some Jvm.ClassFile.FieldType.long)) := by
    intro As M r h
    obtain ⟨v0, t0, rfl, g0⟩ := fe_tR_d h
    obtain ⟨v1, t1, rfl, g1⟩ := fe_tR_d g0
    obtain ⟨v2, t2, rfl, g2⟩ := fe_tR_d g1
    obtain ⟨v3, t3, rfl, g3⟩ := fe_tI_d g2
    obtain ⟨rfl, hz⟩ := fe_t0_d g3
    exact zX57_wanted K l v0 v1 v2 v3 M r hz
  have o10 : fs_OS (sX47_run FX47_find FX57_run FX55_run FX56_run FX52_run FX58_run FX51_run FX54_run FX53_run FX57_wanted FX50_wanted FX58_wanted) 10 2 (fs_Con (fk_E s0 H0 oa D) l 1 ⟨"BoardMachine$Integers$Action", "wanted", "(LBoardMachine$Integers$Registers;LBoardMachine$Integers$Decoded;I)J"⟩ prog_59_method_3_code 4 (Option.some Jvm.ClassFile.FieldType.long)) := by
    intro As M r h
    obtain ⟨v0, t0, rfl, g0⟩ := fe_tR_d h
    obtain ⟨v1, t1, rfl, g1⟩ := fe_tR_d g0
    obtain ⟨v2, t2, rfl, g2⟩ := fe_tR_d g1
    obtain ⟨v3, t3, rfl, g3⟩ := fe_tI_d g2
    obtain ⟨rfl, hz⟩ := fe_t0_d g3
    exact zX50_wanted K l v0 v1 v2 v3 M r hz
  have o11 : fs_OS (sX47_run FX47_find FX57_run FX55_run FX56_run FX52_run FX58_run FX51_run FX54_run FX53_run FX57_wanted FX50_wanted FX58_wanted) 11 2 (fs_Con (fk_E s0 H0 oa D) l 1 ⟨"BoardMachine$Integers$Foreign", "wanted", "(LBoardMachine$Integers$Registers;LBoardMachine$Integers$Decoded;I)J"⟩ prog_67_method_3_code 4 (Option.some Jvm.ClassFile.FieldType.long)) := by
    intro As M r h
    obtain ⟨v0, t0, rfl, g0⟩ := fe_tR_d h
    obtain ⟨v1, t1, rfl, g1⟩ := fe_tR_d g0
    obtain ⟨v2, t2, rfl, g2⟩ := fe_tR_d g1
    obtain ⟨v3, t3, rfl, g3⟩ := fe_tI_d g2
    obtain ⟨rfl, hz⟩ := fe_t0_d g3
    exact zX58_wanted K l v0 v1 v2 v3 M r hz
  refine fs_method (own := "BoardMachine$Integers$IntegerUnit") rfl (by decide) K.2.1 (by rw [fe_slen]; exact (Nat.le_of_ble_eq_true rfl)) (mX47_run n a0 a1 a2 M r h) (hX47_run n) n rfl (L0 := [(0, .ref a0), (1, .int a1), (2, .int a2)]) (fun E => fe_args_e E [.ref a0, .int a1, .int a2] 0) ((eX47_run (FX47_run_0 n (FX47_run_L45 n n)) (FX47_run_96 n (FX47_run_L45 n n)) (FX47_run_L45 n n) a0 a1 a2 M).trans h) (fe_ki_k r) (fun H hR => fs_nr_o (by decide) (by decide)) ?_
  intro p e s m args below meth c Q C hnm
  have hw : s0.WarmedH s.vm := C.2.2.2.2.1
  refine fe_all C fk_hwr cX47_run [2, 8, 12, 16, 21, 34, 39, 52, 58, 62, 68, 88, 93] (by decide +kernel) (fe_fil (cps := [(2, 5, .invokevirtual 11598911), (8, 11, .putfield 730067198), (12, 15, .getfield 625201398), (16, 19, .getfield 717484286), (21, 24, .invokeinterface 0 0), (34, 37, .putfield 730067198), (39, 42, .putfield 738455804), (52, 55, .getfield 734261502), (58, 61, .getfield 625201398), (62, 65, .getfield 717484286), (68, 71, .invokeinterface 1 0), (88, 91, .getfield 742650109), (93, 96, .putfield 742650109)]) (by decide +kernel) ?_)
  refine fs_c1 (fs_inv_virtual (pc := 2) (n := 11598911) C (Nat.le_of_ble_eq_true rfl) (Nat.le_of_ble_eq_true rfl) (fs_lk_virtual (idx := 54) (y := ⟨"BoardMachine$Integers$IntegerUnit", "find", "(I)LBoardMachine$Integers$Decoded;"⟩) (bytes := prog_69_method_2_code) (maxL := 3) (rt := (Option.some (Jvm.ClassFile.FieldType.object "BoardMachine$Integers$Decoded"))) (d := 6) C (Nat.le_of_ble_eq_true rfl) (Nat.le_of_ble_eq_true rfl) (by decide +kernel) (kw K hw q3235) (kw K hw q358) (kw K hw q3234) (Or.inl (kw K hw q3232)) ⟨by decide, by decide⟩ rfl (Nat.le_of_ble_eq_true rfl) (Nat.le_of_ble_eq_true rfl) (fs_one (⟨_, rfl, kw K hw qs53⟩))) fs_con_mono o0) ?_
  refine fs_c1 (fs_putf (pc := 8) (n := 730067198) (idx := 50) (ref := "BoardMachine$Integers$IntegerUnit") (O := "BoardMachine$Integers$IntegerUnit") (name := "underWay") (desc := "LBoardMachine$Integers$Decoded;") (fin := false) (ty := (.object "BoardMachine$Integers$Decoded")) C (by decide +kernel) (Or.inl ⟨rfl, Or.inl (kw K hw q1408)⟩) (fun _ h => h) (Nat.le_of_ble_eq_true rfl) (Nat.le_of_ble_eq_true rfl) (Nat.le_of_ble_eq_true rfl) rfl rfl (by decide) (fs_one (⟨rfl, ff_63_174 s0 H0 oa D⟩))) ?_
  refine fs_c1 (fs_getf (pc := 12) (n := 625201398) (idx := 58) (ref := "BoardMachine$Integers$Decoded") (O := "BoardMachine$Integers$Decoded") (name := "action") (desc := "LBoardMachine$Integers$Action;") C (by decide +kernel) (Or.inr ⟨_, kF K hw q3241⟩) (fun _ h => h) (Nat.le_of_ble_eq_true rfl) (Nat.le_of_ble_eq_true rfl) (fs_one (⟨_, ff_61_149 s0 H0 oa D⟩))) ?_
  refine fs_c1 (fs_getf (pc := 16) (n := 717484286) (idx := 12) (ref := "BoardMachine$Integers$IntegerUnit") (O := "BoardMachine$Integers$IntegerUnit") (name := "registers") (desc := "LBoardMachine$Integers$Registers;") C (by decide +kernel) (Or.inl (kw K hw q1403)) (fun _ h => h) (Nat.le_of_ble_eq_true rfl) (Nat.le_of_ble_eq_true rfl) (fs_one (⟨_, ff_63_171 s0 H0 oa D⟩))) ?_
  refine fs_c1 (fs_inv_table (pc := 21) (nx := 24) (i := 0) (k := 0) C rfl (List.forall_mem_cons.mpr ⟨⟨(Nat.le_of_ble_eq_true rfl), (Nat.le_of_ble_eq_true rfl), _, fs_lk_up (idx := 62) (x := ⟨"BoardMachine$Integers$Action", "run", "(LBoardMachine$Integers$Registers;LBoardMachine$Integers$Decoded;I)I"⟩) (owner := "BoardMachine$Integers$Action") (y := ⟨"BoardMachine$Integers$Access", "run", "(LBoardMachine$Integers$Registers;LBoardMachine$Integers$Decoded;I)I"⟩) (bytes := prog_58_method_2_code) (maxL := 4) (rt := (Option.some Jvm.ClassFile.FieldType.int)) (d := 1) C (Nat.le_of_ble_eq_true rfl) (Nat.le_of_ble_eq_true rfl) (by decide +kernel) (kw K hw q3424) (kw K hw q368) (kw K hw q3423) (kw K hw q3419) (kw K hw q3421) (va_Decl.abs (kD K hw q3420)) ⟨by decide, by decide⟩ rfl (Nat.le_of_ble_eq_true rfl) (Nat.le_of_ble_eq_true rfl) (fs_one (⟨_, rfl, kw K hw q3422⟩)), fs_con_mono, o1⟩, List.forall_mem_cons.mpr ⟨⟨(Nat.le_of_ble_eq_true rfl), (Nat.le_of_ble_eq_true rfl), _, fs_lk_up (idx := 62) (x := ⟨"BoardMachine$Integers$Action", "run", "(LBoardMachine$Integers$Registers;LBoardMachine$Integers$Decoded;I)I"⟩) (owner := "BoardMachine$Integers$Action") (y := ⟨"BoardMachine$Integers$Branch", "run", "(LBoardMachine$Integers$Registers;LBoardMachine$Integers$Decoded;I)I"⟩) (bytes := prog_61_method_2_code) (maxL := 9) (rt := (Option.some Jvm.ClassFile.FieldType.int)) (d := 2) C (Nat.le_of_ble_eq_true rfl) (Nat.le_of_ble_eq_true rfl) (by decide +kernel) (kw K hw q3427) (kw K hw q366) (kw K hw q3426) (kw K hw q3419) (kw K hw q3421) (va_Decl.abs (kD K hw q3420)) ⟨by decide, by decide⟩ rfl (Nat.le_of_ble_eq_true rfl) (Nat.le_of_ble_eq_true rfl) (fs_one (⟨_, rfl, kw K hw q3425⟩)), fs_con_mono, o2⟩, List.forall_mem_cons.mpr ⟨⟨(Nat.le_of_ble_eq_true rfl), (Nat.le_of_ble_eq_true rfl), _, fs_lk_up (idx := 62) (x := ⟨"BoardMachine$Integers$Action", "run", "(LBoardMachine$Integers$Registers;LBoardMachine$Integers$Decoded;I)I"⟩) (owner := "BoardMachine$Integers$Action") (y := ⟨"BoardMachine$Integers$Compute", "run", "(LBoardMachine$Integers$Registers;LBoardMachine$Integers$Decoded;I)I"⟩) (bytes := prog_62_method_2_code) (maxL := 8) (rt := (Option.some Jvm.ClassFile.FieldType.int)) (d := 5) C (Nat.le_of_ble_eq_true rfl) (Nat.le_of_ble_eq_true rfl) (by decide +kernel) (kw K hw q3434) (kw K hw q367) (kw K hw q3433) (kw K hw q3419) (kw K hw q3421) (va_Decl.abs (kD K hw q3420)) ⟨by decide, by decide⟩ rfl (Nat.le_of_ble_eq_true rfl) (Nat.le_of_ble_eq_true rfl) (fs_one (⟨_, rfl, kw K hw q3432⟩)), fs_con_mono, o3⟩, List.forall_mem_cons.mpr ⟨⟨(Nat.le_of_ble_eq_true rfl), (Nat.le_of_ble_eq_true rfl), _, fs_lk_up (idx := 62) (x := ⟨"BoardMachine$Integers$Action", "run", "(LBoardMachine$Integers$Registers;LBoardMachine$Integers$Decoded;I)I"⟩) (owner := "BoardMachine$Integers$Action") (y := ⟨"BoardMachine$Integers$Fence", "run", "(LBoardMachine$Integers$Registers;LBoardMachine$Integers$Decoded;I)I"⟩) (bytes := prog_65_method_2_code) (maxL := 4) (rt := (Option.some Jvm.ClassFile.FieldType.int)) (d := 1) C (Nat.le_of_ble_eq_true rfl) (Nat.le_of_ble_eq_true rfl) (by decide +kernel) (kw K hw q3463) (kw K hw q363) (kw K hw q3462) (kw K hw q3419) (kw K hw q3421) (va_Decl.abs (kD K hw q3420)) ⟨by decide, by decide⟩ rfl (Nat.le_of_ble_eq_true rfl) (Nat.le_of_ble_eq_true rfl) (fs_one (⟨_, rfl, kw K hw q3461⟩)), fs_con_mono, o4⟩, List.forall_mem_cons.mpr ⟨⟨(Nat.le_of_ble_eq_true rfl), (Nat.le_of_ble_eq_true rfl), _, fs_lk_up (idx := 62) (x := ⟨"BoardMachine$Integers$Action", "run", "(LBoardMachine$Integers$Registers;LBoardMachine$Integers$Decoded;I)I"⟩) (owner := "BoardMachine$Integers$Action") (y := ⟨"BoardMachine$Integers$Foreign", "run", "(LBoardMachine$Integers$Registers;LBoardMachine$Integers$Decoded;I)I"⟩) (bytes := prog_67_method_2_code) (maxL := 4) (rt := (Option.some Jvm.ClassFile.FieldType.int)) (d := 1) C (Nat.le_of_ble_eq_true rfl) (Nat.le_of_ble_eq_true rfl) (by decide +kernel) (kw K hw q3466) (kw K hw q369) (kw K hw q3465) (kw K hw q3419) (kw K hw q3421) (va_Decl.abs (kD K hw q3420)) ⟨by decide, by decide⟩ rfl (Nat.le_of_ble_eq_true rfl) (Nat.le_of_ble_eq_true rfl) (fs_one (⟨_, rfl, kw K hw q3464⟩)), fs_con_mono, o5⟩, List.forall_mem_cons.mpr ⟨⟨(Nat.le_of_ble_eq_true rfl), (Nat.le_of_ble_eq_true rfl), _, fs_lk_up (idx := 62) (x := ⟨"BoardMachine$Integers$Action", "run", "(LBoardMachine$Integers$Registers;LBoardMachine$Integers$Decoded;I)I"⟩) (owner := "BoardMachine$Integers$Action") (y := ⟨"BoardMachine$Integers$Illegal", "run", "(LBoardMachine$Integers$Registers;LBoardMachine$Integers$Decoded;I)I"⟩) (bytes := prog_68_method_2_code) (maxL := 4) (rt := (Option.some Jvm.ClassFile.FieldType.int)) (d := 1) C (Nat.le_of_ble_eq_true rfl) (Nat.le_of_ble_eq_true rfl) (by decide +kernel) (kw K hw q3469) (kw K hw q362) (kw K hw q3468) (kw K hw q3419) (kw K hw q3421) (va_Decl.abs (kD K hw q3420)) ⟨by decide, by decide⟩ rfl (Nat.le_of_ble_eq_true rfl) (Nat.le_of_ble_eq_true rfl) (fs_one (⟨_, rfl, kw K hw q3467⟩)), fs_con_mono, o6⟩, List.forall_mem_cons.mpr ⟨⟨(Nat.le_of_ble_eq_true rfl), (Nat.le_of_ble_eq_true rfl), _, fs_lk_up (idx := 62) (x := ⟨"BoardMachine$Integers$Action", "run", "(LBoardMachine$Integers$Registers;LBoardMachine$Integers$Decoded;I)I"⟩) (owner := "BoardMachine$Integers$Action") (y := ⟨"BoardMachine$Integers$Jump", "run", "(LBoardMachine$Integers$Registers;LBoardMachine$Integers$Decoded;I)I"⟩) (bytes := prog_70_method_2_code) (maxL := 6) (rt := (Option.some Jvm.ClassFile.FieldType.int)) (d := 2) C (Nat.le_of_ble_eq_true rfl) (Nat.le_of_ble_eq_true rfl) (by decide +kernel) (kw K hw q3472) (kw K hw q365) (kw K hw q3471) (kw K hw q3419) (kw K hw q3421) (va_Decl.abs (kD K hw q3420)) ⟨by decide, by decide⟩ rfl (Nat.le_of_ble_eq_true rfl) (Nat.le_of_ble_eq_true rfl) (fs_one (⟨_, rfl, kw K hw q3470⟩)), fs_con_mono, o7⟩, List.forall_mem_cons.mpr ⟨⟨(Nat.le_of_ble_eq_true rfl), (Nat.le_of_ble_eq_true rfl), _, fs_lk_up (idx := 62) (x := ⟨"BoardMachine$Integers$Action", "run", "(LBoardMachine$Integers$Registers;LBoardMachine$Integers$Decoded;I)I"⟩) (owner := "BoardMachine$Integers$Action") (y := ⟨"BoardMachine$Integers$Upper", "run", "(LBoardMachine$Integers$Registers;LBoardMachine$Integers$Decoded;I)I"⟩) (bytes := prog_73_method_2_code) (maxL := 4) (rt := (Option.some Jvm.ClassFile.FieldType.int)) (d := 2) C (Nat.le_of_ble_eq_true rfl) (Nat.le_of_ble_eq_true rfl) (by decide +kernel) (kw K hw q3477) (kw K hw q364) (kw K hw q3476) (kw K hw q3419) (kw K hw q3421) (va_Decl.abs (kD K hw q3420)) ⟨by decide, by decide⟩ rfl (Nat.le_of_ble_eq_true rfl) (Nat.le_of_ble_eq_true rfl) (fs_one (⟨_, rfl, kw K hw q3475⟩)), fs_con_mono, o8⟩, List.forall_mem_nil _⟩⟩⟩⟩⟩⟩⟩⟩)) ?_
  refine fs_c1 (fs_putf (pc := 34) (n := 730067198) (idx := 50) (ref := "BoardMachine$Integers$IntegerUnit") (O := "BoardMachine$Integers$IntegerUnit") (name := "underWay") (desc := "LBoardMachine$Integers$Decoded;") (fin := false) (ty := (.object "BoardMachine$Integers$Decoded")) C (by decide +kernel) (Or.inl ⟨rfl, Or.inl (kw K hw q1408)⟩) (fun _ h => h) (Nat.le_of_ble_eq_true rfl) (Nat.le_of_ble_eq_true rfl) (Nat.le_of_ble_eq_true rfl) rfl rfl (by decide) (fs_one (⟨rfl, ff_63_174 s0 H0 oa D⟩))) ?_
  refine fs_c1 (fs_putf (pc := 39) (n := 738455804) (idx := 68) (ref := "BoardMachine$Integers$IntegerUnit") (O := "BoardMachine$Integers$IntegerUnit") (name := "longing") (desc := "I") (fin := false) (ty := .int) C (by decide +kernel) (Or.inl ⟨rfl, Or.inl (kw K hw q1410)⟩) (fun _ h => h) (Nat.le_of_ble_eq_true rfl) (Nat.le_of_ble_eq_true rfl) (Nat.le_of_ble_eq_true rfl) rfl rfl (by decide) (fs_one (⟨rfl, ff_63_176 s0 H0 oa D⟩))) ?_
  refine fs_c1 (fs_getf (pc := 52) (n := 734261502) (idx := 31) (ref := "BoardMachine$Integers$IntegerUnit") (O := "BoardMachine$Integers$IntegerUnit") (name := "wants") (desc := "[J") C (by decide +kernel) (Or.inl (kw K hw q1409)) (fun _ h => h) (Nat.le_of_ble_eq_true rfl) (Nat.le_of_ble_eq_true rfl) (fs_one (⟨_, ff_63_175 s0 H0 oa D⟩))) ?_
  refine fs_c1 (fs_getf (pc := 58) (n := 625201398) (idx := 58) (ref := "BoardMachine$Integers$Decoded") (O := "BoardMachine$Integers$Decoded") (name := "action") (desc := "LBoardMachine$Integers$Action;") C (by decide +kernel) (Or.inr ⟨_, kF K hw q3241⟩) (fun _ h => h) (Nat.le_of_ble_eq_true rfl) (Nat.le_of_ble_eq_true rfl) (fs_one (⟨_, ff_61_149 s0 H0 oa D⟩))) ?_
  refine fs_c1 (fs_getf (pc := 62) (n := 717484286) (idx := 12) (ref := "BoardMachine$Integers$IntegerUnit") (O := "BoardMachine$Integers$IntegerUnit") (name := "registers") (desc := "LBoardMachine$Integers$Registers;") C (by decide +kernel) (Or.inl (kw K hw q1403)) (fun _ h => h) (Nat.le_of_ble_eq_true rfl) (Nat.le_of_ble_eq_true rfl) (fs_one (⟨_, ff_63_171 s0 H0 oa D⟩))) ?_
  refine fs_c1 (fs_inv_table (pc := 68) (nx := 71) (i := 1) (k := 0) C rfl (List.forall_mem_cons.mpr ⟨⟨(Nat.le_of_ble_eq_true rfl), (Nat.le_of_ble_eq_true rfl), _, fs_lk_up (idx := 71) (x := ⟨"BoardMachine$Integers$Action", "wanted", "(LBoardMachine$Integers$Registers;LBoardMachine$Integers$Decoded;I)J"⟩) (owner := "BoardMachine$Integers$Action") (y := ⟨"BoardMachine$Integers$Access", "wanted", "(LBoardMachine$Integers$Registers;LBoardMachine$Integers$Decoded;I)J"⟩) (bytes := prog_58_method_3_code) (maxL := 4) (rt := (Option.some Jvm.ClassFile.FieldType.long)) (d := 1) C (Nat.le_of_ble_eq_true rfl) (Nat.le_of_ble_eq_true rfl) (by decide +kernel) (kw K hw q3484) (kw K hw q368) (kw K hw q3483) (kw K hw q3479) (kw K hw q3481) (va_Decl.of (kw (args := args) K hw q3480) (kw K hw q3494)) ⟨by decide, by decide⟩ rfl (Nat.le_of_ble_eq_true rfl) (Nat.le_of_ble_eq_true rfl) (fs_one (⟨_, rfl, kw K hw q3482⟩)), fs_con_mono, o9⟩, List.forall_mem_cons.mpr ⟨⟨(Nat.le_of_ble_eq_true rfl), (Nat.le_of_ble_eq_true rfl), _, fs_lk_up (idx := 71) (x := ⟨"BoardMachine$Integers$Action", "wanted", "(LBoardMachine$Integers$Registers;LBoardMachine$Integers$Decoded;I)J"⟩) (owner := "BoardMachine$Integers$Action") (y := ⟨"BoardMachine$Integers$Action", "wanted", "(LBoardMachine$Integers$Registers;LBoardMachine$Integers$Decoded;I)J"⟩) (bytes := prog_59_method_3_code) (maxL := 4) (rt := (Option.some Jvm.ClassFile.FieldType.long)) (d := 1) C (Nat.le_of_ble_eq_true rfl) (Nat.le_of_ble_eq_true rfl) (by decide +kernel) (kw K hw q3494) (kw K hw q361) (kw K hw q3480) (kw K hw q3479) (kw K hw q3481) (va_Decl.of (kw (args := args) K hw q3480) (kw K hw q3494)) ⟨by decide, by decide⟩ rfl (Nat.le_of_ble_eq_true rfl) (Nat.le_of_ble_eq_true rfl) (fs_one (⟨_, rfl, kw K hw q3485⟩)), fs_con_mono, o10⟩, List.forall_mem_cons.mpr ⟨⟨(Nat.le_of_ble_eq_true rfl), (Nat.le_of_ble_eq_true rfl), _, fs_lk_up (idx := 71) (x := ⟨"BoardMachine$Integers$Action", "wanted", "(LBoardMachine$Integers$Registers;LBoardMachine$Integers$Decoded;I)J"⟩) (owner := "BoardMachine$Integers$Action") (y := ⟨"BoardMachine$Integers$Action", "wanted", "(LBoardMachine$Integers$Registers;LBoardMachine$Integers$Decoded;I)J"⟩) (bytes := prog_59_method_3_code) (maxL := 4) (rt := (Option.some Jvm.ClassFile.FieldType.long)) (d := 1) C (Nat.le_of_ble_eq_true rfl) (Nat.le_of_ble_eq_true rfl) (by decide +kernel) (kw K hw q3494) (kw K hw q361) (kw K hw q3480) (kw K hw q3479) (kw K hw q3481) (va_Decl.of (kw (args := args) K hw q3480) (kw K hw q3494)) ⟨by decide, by decide⟩ rfl (Nat.le_of_ble_eq_true rfl) (Nat.le_of_ble_eq_true rfl) (fs_one (⟨_, rfl, kw K hw q3486⟩)), fs_con_mono, o10⟩, List.forall_mem_cons.mpr ⟨⟨(Nat.le_of_ble_eq_true rfl), (Nat.le_of_ble_eq_true rfl), _, fs_lk_up (idx := 71) (x := ⟨"BoardMachine$Integers$Action", "wanted", "(LBoardMachine$Integers$Registers;LBoardMachine$Integers$Decoded;I)J"⟩) (owner := "BoardMachine$Integers$Action") (y := ⟨"BoardMachine$Integers$Action", "wanted", "(LBoardMachine$Integers$Registers;LBoardMachine$Integers$Decoded;I)J"⟩) (bytes := prog_59_method_3_code) (maxL := 4) (rt := (Option.some Jvm.ClassFile.FieldType.long)) (d := 1) C (Nat.le_of_ble_eq_true rfl) (Nat.le_of_ble_eq_true rfl) (by decide +kernel) (kw K hw q3494) (kw K hw q361) (kw K hw q3480) (kw K hw q3479) (kw K hw q3481) (va_Decl.of (kw (args := args) K hw q3480) (kw K hw q3494)) ⟨by decide, by decide⟩ rfl (Nat.le_of_ble_eq_true rfl) (Nat.le_of_ble_eq_true rfl) (fs_one (⟨_, rfl, kw K hw q3487⟩)), fs_con_mono, o10⟩, List.forall_mem_cons.mpr ⟨⟨(Nat.le_of_ble_eq_true rfl), (Nat.le_of_ble_eq_true rfl), _, fs_lk_up (idx := 71) (x := ⟨"BoardMachine$Integers$Action", "wanted", "(LBoardMachine$Integers$Registers;LBoardMachine$Integers$Decoded;I)J"⟩) (owner := "BoardMachine$Integers$Action") (y := ⟨"BoardMachine$Integers$Foreign", "wanted", "(LBoardMachine$Integers$Registers;LBoardMachine$Integers$Decoded;I)J"⟩) (bytes := prog_67_method_3_code) (maxL := 4) (rt := (Option.some Jvm.ClassFile.FieldType.long)) (d := 1) C (Nat.le_of_ble_eq_true rfl) (Nat.le_of_ble_eq_true rfl) (by decide +kernel) (kw K hw q3490) (kw K hw q369) (kw K hw q3489) (kw K hw q3479) (kw K hw q3481) (va_Decl.of (kw (args := args) K hw q3480) (kw K hw q3494)) ⟨by decide, by decide⟩ rfl (Nat.le_of_ble_eq_true rfl) (Nat.le_of_ble_eq_true rfl) (fs_one (⟨_, rfl, kw K hw q3488⟩)), fs_con_mono, o11⟩, List.forall_mem_cons.mpr ⟨⟨(Nat.le_of_ble_eq_true rfl), (Nat.le_of_ble_eq_true rfl), _, fs_lk_up (idx := 71) (x := ⟨"BoardMachine$Integers$Action", "wanted", "(LBoardMachine$Integers$Registers;LBoardMachine$Integers$Decoded;I)J"⟩) (owner := "BoardMachine$Integers$Action") (y := ⟨"BoardMachine$Integers$Action", "wanted", "(LBoardMachine$Integers$Registers;LBoardMachine$Integers$Decoded;I)J"⟩) (bytes := prog_59_method_3_code) (maxL := 4) (rt := (Option.some Jvm.ClassFile.FieldType.long)) (d := 1) C (Nat.le_of_ble_eq_true rfl) (Nat.le_of_ble_eq_true rfl) (by decide +kernel) (kw K hw q3494) (kw K hw q361) (kw K hw q3480) (kw K hw q3479) (kw K hw q3481) (va_Decl.of (kw (args := args) K hw q3480) (kw K hw q3494)) ⟨by decide, by decide⟩ rfl (Nat.le_of_ble_eq_true rfl) (Nat.le_of_ble_eq_true rfl) (fs_one (⟨_, rfl, kw K hw q3491⟩)), fs_con_mono, o10⟩, List.forall_mem_cons.mpr ⟨⟨(Nat.le_of_ble_eq_true rfl), (Nat.le_of_ble_eq_true rfl), _, fs_lk_up (idx := 71) (x := ⟨"BoardMachine$Integers$Action", "wanted", "(LBoardMachine$Integers$Registers;LBoardMachine$Integers$Decoded;I)J"⟩) (owner := "BoardMachine$Integers$Action") (y := ⟨"BoardMachine$Integers$Action", "wanted", "(LBoardMachine$Integers$Registers;LBoardMachine$Integers$Decoded;I)J"⟩) (bytes := prog_59_method_3_code) (maxL := 4) (rt := (Option.some Jvm.ClassFile.FieldType.long)) (d := 1) C (Nat.le_of_ble_eq_true rfl) (Nat.le_of_ble_eq_true rfl) (by decide +kernel) (kw K hw q3494) (kw K hw q361) (kw K hw q3480) (kw K hw q3479) (kw K hw q3481) (va_Decl.of (kw (args := args) K hw q3480) (kw K hw q3494)) ⟨by decide, by decide⟩ rfl (Nat.le_of_ble_eq_true rfl) (Nat.le_of_ble_eq_true rfl) (fs_one (⟨_, rfl, kw K hw q3492⟩)), fs_con_mono, o10⟩, List.forall_mem_cons.mpr ⟨⟨(Nat.le_of_ble_eq_true rfl), (Nat.le_of_ble_eq_true rfl), _, fs_lk_up (idx := 71) (x := ⟨"BoardMachine$Integers$Action", "wanted", "(LBoardMachine$Integers$Registers;LBoardMachine$Integers$Decoded;I)J"⟩) (owner := "BoardMachine$Integers$Action") (y := ⟨"BoardMachine$Integers$Action", "wanted", "(LBoardMachine$Integers$Registers;LBoardMachine$Integers$Decoded;I)J"⟩) (bytes := prog_59_method_3_code) (maxL := 4) (rt := (Option.some Jvm.ClassFile.FieldType.long)) (d := 1) C (Nat.le_of_ble_eq_true rfl) (Nat.le_of_ble_eq_true rfl) (by decide +kernel) (kw K hw q3494) (kw K hw q361) (kw K hw q3480) (kw K hw q3479) (kw K hw q3481) (va_Decl.of (kw (args := args) K hw q3480) (kw K hw q3494)) ⟨by decide, by decide⟩ rfl (Nat.le_of_ble_eq_true rfl) (Nat.le_of_ble_eq_true rfl) (fs_one (⟨_, rfl, kw K hw q3493⟩)), fs_con_mono, o10⟩, List.forall_mem_nil _⟩⟩⟩⟩⟩⟩⟩⟩)) ?_
  refine fs_c1 (fs_getf (pc := 88) (n := 742650109) (idx := 75) (ref := "BoardMachine$Integers$IntegerUnit") (O := "BoardMachine$Integers$IntegerUnit") (name := "finished") (desc := "J") C (by decide +kernel) (Or.inl (kw K hw q1411)) (fun _ h => h) (Nat.le_of_ble_eq_true rfl) (Nat.le_of_ble_eq_true rfl) (fs_one (⟨_, ff_63_177 s0 H0 oa D⟩))) ?_
  refine fs_c1 (fs_putf (pc := 93) (n := 742650109) (idx := 75) (ref := "BoardMachine$Integers$IntegerUnit") (O := "BoardMachine$Integers$IntegerUnit") (name := "finished") (desc := "J") (fin := false) (ty := .long) C (by decide +kernel) (Or.inl ⟨rfl, Or.inl (kw K hw q1411)⟩) (fun _ h => h) (Nat.le_of_ble_eq_true rfl) (Nat.le_of_ble_eq_true rfl) (Nat.le_of_ble_eq_true rfl) rfl rfl (by decide) (fs_one (⟨rfl, ff_63_177 s0 H0 oa D⟩))) ?_
  exact fs_c0
theorem hX47_wanted : fe_H (sX47_wanted) cX47_wanted [0, 19] fe_kl [] 20 (fun _ => dX47_wanted FX47_wanted_0 FX47_wanted_19) := by
  intro j pc L st M r hc h
  rcases fe_mem_c hc with rfl | hc
  · obtain ⟨w0, m0, h⟩ := fe_lR_d h
    obtain ⟨w1, m1, h⟩ := fe_lI_d h
    obtain ⟨rfl, hz⟩ := fe_t0_d h
    exact ⟨[(0, .ref w0), (1, .int w1)], (fe_cs m0 (fe_cs m1 fe_nl)), Or.inr ((bX47_wanted_0 FX47_wanted_0 FX47_wanted_19 w0 w1 M).symm.trans hz)⟩
  rcases fe_mem_c hc with rfl | hc
  · obtain ⟨s0, t0, rfl, g0⟩ := fe_tL_d h
    obtain ⟨rfl, hz⟩ := fe_t0_d g0
    exact ⟨[], fe_nl, Or.inr ((bX47_wanted_19 FX47_wanted_0 FX47_wanted_19 s0 M).symm.trans hz)⟩
  exact fe_mem_0 hc
theorem vX47_wanted : fe_SB (sX47_wanted) := by
  refine ⟨?_, ?_, ?_, ?_⟩
  · intro i As M r h
    exact fe_no h
  · intro i As M r h
    exact fe_no h
  · intro i As M r h
    exact fe_no h
  · intro i As M r h
    exact fe_no h
theorem eX47_wanted (g0 : Nat → Int32 → FM → Option (Int64 × FM)) (g19 : Int64 → FM → Option (Int64 × FM)) (a0 : Nat) (a1 : Int32) (M : FM) : dX47_wanted g0 g19 0 [(0, .ref a0), (1, .int a1)] [] M = g0 a0 a1 M := by rfl
theorem mX47_wanted (a0 : Nat) (a1 : Int32) (M : FM) (r : Int64 × FM) (h : FX47_wanted a0 a1 M = some r) : fm_nx M ≤ fm_nx r.2 ∧ fm_ns M ≤ fm_ns r.2 :=
  fe_mono (L0 := [(0, .ref a0), (1, .int a1)]) (vX47_wanted) (by decide +kernel) (hX47_wanted) (fe_kl_k r) 0 rfl ((eX47_wanted FX47_wanted_0 FX47_wanted_19 a0 a1 M).trans h)
theorem zX47_wanted {s0 : State} {H0 : Heap} {oa : Nat → Nat} {D : va_G} (K : fk s0 H0 oa D) (l : Launch) (a0 : Nat) (a1 : Int32) (M : FM) (r : Int64 × FM) (h : FX47_wanted a0 a1 M = some r) : fs_Con (fk_E s0 H0 oa D) l 1 ⟨"BoardMachine$Integers$IntegerUnit", "wanted", "(I)J"⟩ prog_69_method_5_code 2 (Option.some Jvm.ClassFile.FieldType.long) [.ref a0, .int a1] M (some (.long r.1)) r.2 := by
  refine fs_method (own := "BoardMachine$Integers$IntegerUnit") rfl (by decide) K.2.1 (by rw [fe_slen]; exact (Nat.le_of_ble_eq_true rfl)) (mX47_wanted a0 a1 M r h) (hX47_wanted) 0 rfl (L0 := [(0, .ref a0), (1, .int a1)]) (fun E => fe_args_e E [.ref a0, .int a1] 0) ((eX47_wanted FX47_wanted_0 FX47_wanted_19 a0 a1 M).trans h) (fe_kl_k r) (fun H hR => fs_nr_o (by decide) (by decide)) ?_
  intro p e s m args below meth c Q C hnm
  have hw : s0.WarmedH s.vm := C.2.2.2.2.1
  refine fe_all C fk_hwr cX47_wanted [1, 7, 14] (by decide +kernel) (fe_fil (cps := [(1, 4, .getfield 730067198), (7, 10, .jsr_w (-1)), (14, 17, .getfield 734261502)]) (by decide +kernel) ?_)
  refine fs_c1 (fs_getf (pc := 1) (n := 730067198) (idx := 50) (ref := "BoardMachine$Integers$IntegerUnit") (O := "BoardMachine$Integers$IntegerUnit") (name := "underWay") (desc := "LBoardMachine$Integers$Decoded;") C (by decide +kernel) (Or.inl (kw K hw q1408)) (fun _ h => h) (Nat.le_of_ble_eq_true rfl) (Nat.le_of_ble_eq_true rfl) (fs_one (⟨_, ff_63_174 s0 H0 oa D⟩))) ?_
  refine fs_c1 (fs_ldcl (pc := 7) (idx := 78) (v := -1) C (by decide +kernel) (kw K hw q3504)) ?_
  refine fs_c1 (fs_getf (pc := 14) (n := 734261502) (idx := 31) (ref := "BoardMachine$Integers$IntegerUnit") (O := "BoardMachine$Integers$IntegerUnit") (name := "wants") (desc := "[J") C (by decide +kernel) (Or.inl (kw K hw q1409)) (fun _ h => h) (Nat.le_of_ble_eq_true rfl) (Nat.le_of_ble_eq_true rfl) (fs_one (⟨_, ff_63_175 s0 H0 oa D⟩))) ?_
  exact fs_c0
theorem hX46_dataMode : fe_H (sX46_dataMode FX78_has FX78_two) cX46_dataMode [0, 37] fe_ki [] 21 (fun _ => dX46_dataMode FX46_dataMode_0 FX46_dataMode_37) := by
  intro j pc L st M r hc h
  rcases fe_mem_c hc with rfl | hc
  · obtain ⟨w0, m0, h⟩ := fe_lR_d h
    obtain ⟨rfl, hz⟩ := fe_t0_d h
    exact ⟨[(0, .ref w0)], (fe_cs m0 fe_nl), Or.inr ((bX46_dataMode_0 FX78_has FX78_two FX46_dataMode_0 FX46_dataMode_37 w0 M).symm.trans hz)⟩
  rcases fe_mem_c hc with rfl | hc
  · obtain ⟨s0, t0, rfl, g0⟩ := fe_tI_d h
    obtain ⟨rfl, hz⟩ := fe_t0_d g0
    exact ⟨[], fe_nl, Or.inr ((bX46_dataMode_37 FX78_has FX78_two FX46_dataMode_0 FX46_dataMode_37 s0 M).symm.trans hz)⟩
  exact fe_mem_0 hc
theorem vX46_dataMode : fe_SB (sX46_dataMode FX78_has FX78_two) := by
  refine ⟨?_, ?_, ?_, ?_⟩
  · intro i As M r h
    exact fe_no h
  · intro i As M r h
    rcases fe_bc h with h | h
    · obtain ⟨v0, t0, rfl, g0⟩ := fe_tR_d h
      obtain ⟨v1, t1, rfl, g1⟩ := fe_tI_d g0
      obtain ⟨rfl, hz⟩ := fe_t0_d g1
      exact mX78_has v0 v1 M r hz
    rcases fe_bc h with h | h
    · obtain ⟨v0, t0, rfl, g0⟩ := fe_tR_d h
      obtain ⟨v1, t1, rfl, g1⟩ := fe_tI_d g0
      obtain ⟨rfl, hz⟩ := fe_t0_d g1
      exact mX78_two v0 v1 M r hz
    exact fe_no h
  · intro i As M r h
    exact fe_no h
  · intro i As M r h
    exact fe_no h
theorem eX46_dataMode (g0 : Nat → FM → Option (Int32 × FM)) (g37 : Int32 → FM → Option (Int32 × FM)) (a0 : Nat) (M : FM) : dX46_dataMode g0 g37 0 [(0, .ref a0)] [] M = g0 a0 M := by rfl
theorem mX46_dataMode (a0 : Nat) (M : FM) (r : Int32 × FM) (h : FX46_dataMode a0 M = some r) : fm_nx M ≤ fm_nx r.2 ∧ fm_ns M ≤ fm_ns r.2 :=
  fe_mono (L0 := [(0, .ref a0)]) (vX46_dataMode) (by decide +kernel) (hX46_dataMode) (fe_ki_k r) 0 rfl ((eX46_dataMode FX46_dataMode_0 FX46_dataMode_37 a0 M).trans h)
theorem zX46_dataMode {s0 : State} {H0 : Heap} {oa : Nat → Nat} {D : va_G} (K : fk s0 H0 oa D) (l : Launch) (a0 : Nat) (M : FM) (r : Int32 × FM) (h : FX46_dataMode a0 M = some r) : fs_Con (fk_E s0 H0 oa D) l 2 ⟨"BoardMachine$Processor", "dataMode", "()I"⟩ prog_86_method_10_code 1 (Option.some Jvm.ClassFile.FieldType.int) [.ref a0] M (some (.int r.1)) r.2 := by
  have o0 : fs_OS (sX46_dataMode FX78_has FX78_two) 0 1 (fs_Con (fk_E s0 H0 oa D) l 1 ⟨"BoardMachine$Controls$Status", "has", "(I)Z"⟩ prog_10_method_2_code 2 (Option.some Jvm.ClassFile.FieldType.boolean)) := by
    intro As M r h
    obtain ⟨v0, t0, rfl, g0⟩ := fe_tR_d h
    obtain ⟨v1, t1, rfl, g1⟩ := fe_tI_d g0
    obtain ⟨rfl, hz⟩ := fe_t0_d g1
    exact zX78_has K l v0 v1 M r hz
  have o1 : fs_OS (sX46_dataMode FX78_has FX78_two) 1 1 (fs_Con (fk_E s0 H0 oa D) l 1 ⟨"BoardMachine$Controls$Status", "two", "(I)I"⟩ prog_10_method_4_code 2 (Option.some Jvm.ClassFile.FieldType.int)) := by
    intro As M r h
    obtain ⟨v0, t0, rfl, g0⟩ := fe_tR_d h
    obtain ⟨v1, t1, rfl, g1⟩ := fe_tI_d g0
    obtain ⟨rfl, hz⟩ := fe_t0_d g1
    exact zX78_two K l v0 v1 M r hz
  refine fs_method (own := "BoardMachine$Processor") rfl (by decide) K.2.1 (by rw [fe_slen]; exact (Nat.le_of_ble_eq_true rfl)) (mX46_dataMode a0 M r h) (hX46_dataMode) 0 rfl (L0 := [(0, .ref a0)]) (fun E => fe_args_e E [.ref a0] 0) ((eX46_dataMode FX46_dataMode_0 FX46_dataMode_37 a0 M).trans h) (fe_ki_k r) (fun H hR => fs_nr_o (by decide) (by decide)) ?_
  intro p e s m args below meth c Q C hnm
  have hw : s0.WarmedH s.vm := C.2.2.2.2.1
  refine fe_all C fk_hwr cX46_dataMode [1, 4, 9, 16, 19, 24, 31, 34] (by decide +kernel) (fe_fil (cps := [(1, 4, .getfield 893694254), (4, 7, .getfield 113295410), (9, 12, .invokevirtual 9453584), (16, 19, .getfield 893694254), (19, 22, .getfield 113295410), (24, 27, .invokevirtual 76562448), (31, 34, .getfield 893694254), (34, 37, .getfield 155238448)]) (by decide +kernel) ?_)
  refine fs_c1 (fs_getf (pc := 1) (n := 893694254) (idx := 55) (ref := "BoardMachine$Processor") (O := "BoardMachine$Processor") (name := "controls") (desc := "LBoardMachine$Controls$ControlUnit;") C (by decide +kernel) (Or.inl (kw K hw q2082)) (fun _ h => h) (Nat.le_of_ble_eq_true rfl) (Nat.le_of_ble_eq_true rfl) (fs_one (⟨_, ff_75_213 s0 H0 oa D⟩))) ?_
  refine fs_c1 (fs_getf (pc := 4) (n := 113295410) (idx := 151) (ref := "BoardMachine$Controls$ControlUnit") (O := "BoardMachine$Controls$ControlUnit") (name := "status") (desc := "LBoardMachine$Controls$Status;") C (by decide +kernel) (Or.inr ⟨_, kF K hw q1857⟩) (fun _ h => h) (Nat.le_of_ble_eq_true rfl) (Nat.le_of_ble_eq_true rfl) (fs_one (⟨_, ff_12_27 s0 H0 oa D⟩))) ?_
  refine fs_c1 (fs_inv_virtual (pc := 9) (n := 9453584) C (Nat.le_of_ble_eq_true rfl) (Nat.le_of_ble_eq_true rfl) (fs_lk_virtual (idx := 261) (y := ⟨"BoardMachine$Controls$Status", "has", "(I)Z"⟩) (bytes := prog_10_method_2_code) (maxL := 2) (rt := (Option.some Jvm.ClassFile.FieldType.boolean)) (d := 1) C (Nat.le_of_ble_eq_true rfl) (Nat.le_of_ble_eq_true rfl) (by decide +kernel) (kw K hw q2921) (kw K hw q389) (kw K hw q2919) (Or.inl (kw K hw q3513)) ⟨by decide, by decide⟩ rfl (Nat.le_of_ble_eq_true rfl) (Nat.le_of_ble_eq_true rfl) (fs_one (⟨_, rfl, kw K hw q2920⟩))) fs_con_mono o0) ?_
  refine fs_c1 (fs_getf (pc := 16) (n := 893694254) (idx := 55) (ref := "BoardMachine$Processor") (O := "BoardMachine$Processor") (name := "controls") (desc := "LBoardMachine$Controls$ControlUnit;") C (by decide +kernel) (Or.inl (kw K hw q2082)) (fun _ h => h) (Nat.le_of_ble_eq_true rfl) (Nat.le_of_ble_eq_true rfl) (fs_one (⟨_, ff_75_213 s0 H0 oa D⟩))) ?_
  refine fs_c1 (fs_getf (pc := 19) (n := 113295410) (idx := 151) (ref := "BoardMachine$Controls$ControlUnit") (O := "BoardMachine$Controls$ControlUnit") (name := "status") (desc := "LBoardMachine$Controls$Status;") C (by decide +kernel) (Or.inr ⟨_, kF K hw q1857⟩) (fun _ h => h) (Nat.le_of_ble_eq_true rfl) (Nat.le_of_ble_eq_true rfl) (fs_one (⟨_, ff_12_27 s0 H0 oa D⟩))) ?_
  refine fs_c1 (fs_inv_virtual (pc := 24) (n := 76562448) C (Nat.le_of_ble_eq_true rfl) (Nat.le_of_ble_eq_true rfl) (fs_lk_virtual (idx := 265) (y := ⟨"BoardMachine$Controls$Status", "two", "(I)I"⟩) (bytes := prog_10_method_4_code) (maxL := 2) (rt := (Option.some Jvm.ClassFile.FieldType.int)) (d := 1) C (Nat.le_of_ble_eq_true rfl) (Nat.le_of_ble_eq_true rfl) (by decide +kernel) (kw K hw q2910) (kw K hw q389) (kw K hw q2908) (Or.inl (kw K hw q3514)) ⟨by decide, by decide⟩ rfl (Nat.le_of_ble_eq_true rfl) (Nat.le_of_ble_eq_true rfl) (fs_one (⟨_, rfl, kw K hw q2909⟩))) fs_con_mono o1) ?_
  refine fs_c1 (fs_getf (pc := 31) (n := 893694254) (idx := 55) (ref := "BoardMachine$Processor") (O := "BoardMachine$Processor") (name := "controls") (desc := "LBoardMachine$Controls$ControlUnit;") C (by decide +kernel) (Or.inl (kw K hw q2082)) (fun _ h => h) (Nat.le_of_ble_eq_true rfl) (Nat.le_of_ble_eq_true rfl) (fs_one (⟨_, ff_75_213 s0 H0 oa D⟩))) ?_
  refine fs_c1 (fs_getf (pc := 34) (n := 155238448) (idx := 202) (ref := "BoardMachine$Controls$ControlUnit") (O := "BoardMachine$Controls$ControlUnit") (name := "mode") (desc := "I") C (by decide +kernel) (Or.inr ⟨_, kF K hw q1878⟩) (fun _ h => h) (Nat.le_of_ble_eq_true rfl) (Nat.le_of_ble_eq_true rfl) (fs_one (⟨_, ff_12_37 s0 H0 oa D⟩))) ?_
  exact fs_c0
theorem hX29_has : fe_H (sX29_has) cX29_has [0, 30, 31] fe_ki [] 25 (fun _ => dX29_has FX29_has_0 FX29_has_30 FX29_has_31) := by
  intro j pc L st M r hc h
  rcases fe_mem_c hc with rfl | hc
  · obtain ⟨w0, m0, h⟩ := fe_lR_d h
    obtain ⟨w1, m1, h⟩ := fe_lL_d h
    obtain ⟨w3, m3, h⟩ := fe_lI_d h
    obtain ⟨rfl, hz⟩ := fe_t0_d h
    exact ⟨[(0, .ref w0), (1, .long w1), (3, .int w3)], (fe_cs m0 (fe_cs m1 (fe_cs m3 fe_nl))), Or.inr ((bX29_has_0 FX29_has_0 FX29_has_30 FX29_has_31 w0 w1 w3 M).symm.trans hz)⟩
  rcases fe_mem_c hc with rfl | hc
  · obtain ⟨rfl, hz⟩ := fe_t0_d h
    exact ⟨[], fe_nl, Or.inr ((bX29_has_30 FX29_has_0 FX29_has_30 FX29_has_31 M).symm.trans hz)⟩
  rcases fe_mem_c hc with rfl | hc
  · obtain ⟨s0, t0, rfl, g0⟩ := fe_tI_d h
    obtain ⟨rfl, hz⟩ := fe_t0_d g0
    exact ⟨[], fe_nl, Or.inr ((bX29_has_31 FX29_has_0 FX29_has_30 FX29_has_31 s0 M).symm.trans hz)⟩
  exact fe_mem_0 hc
theorem vX29_has : fe_SB (sX29_has) := by
  refine ⟨?_, ?_, ?_, ?_⟩
  · intro i As M r h
    exact fe_no h
  · intro i As M r h
    exact fe_no h
  · intro i As M r h
    exact fe_no h
  · intro i As M r h
    exact fe_no h
theorem eX29_has (g0 : Nat → Int64 → Int32 → FM → Option (Int32 × FM)) (g30 : FM → Option (Int32 × FM)) (g31 : Int32 → FM → Option (Int32 × FM)) (a0 : Nat) (a1 : Int64) (a3 : Int32) (M : FM) : dX29_has g0 g30 g31 0 [(0, .ref a0), (1, .long a1), (3, .int a3)] [] M = g0 a0 a1 a3 M := by rfl
theorem mX29_has (a0 : Nat) (a1 : Int64) (a3 : Int32) (M : FM) (r : Int32 × FM) (h : FX29_has a0 a1 a3 M = some r) : fm_nx M ≤ fm_nx r.2 ∧ fm_ns M ≤ fm_ns r.2 :=
  fe_mono (L0 := [(0, .ref a0), (1, .long a1), (3, .int a3)]) (vX29_has) (by decide +kernel) (hX29_has) (fe_ki_k r) 0 rfl ((eX29_has FX29_has_0 FX29_has_30 FX29_has_31 a0 a1 a3 M).trans h)
theorem zX29_has {s0 : State} {H0 : Heap} {oa : Nat → Nat} {D : va_G} (K : fk s0 H0 oa D) (l : Launch) (a0 : Nat) (a1 : Int64) (a3 : Int32) (M : FM) (r : Int32 × FM) (h : FX29_has a0 a1 a3 M = some r) : fs_Con (fk_E s0 H0 oa D) l 1 ⟨"BoardMachine$Window", "has", "(JI)Z"⟩ prog_109_method_4_code 4 (Option.some Jvm.ClassFile.FieldType.boolean) [.ref a0, .long a1, .int a3] M (some (.int r.1)) r.2 := by
  refine fs_method (own := "BoardMachine$Window") rfl (by decide) K.2.1 (by rw [fe_slen]; exact (Nat.le_of_ble_eq_true rfl)) (mX29_has a0 a1 a3 M r h) (hX29_has) 0 rfl (L0 := [(0, .ref a0), (1, .long a1), (3, .int a3)]) (fun E => fe_args_e E [.ref a0, .long a1, .int a3] 0) ((eX29_has FX29_has_0 FX29_has_30 FX29_has_31 a0 a1 a3 M).trans h) (fe_ki_k r) (fun H hR => fs_nr_o (by decide) (by decide)) ?_
  intro p e s m args below meth c Q C hnm
  have hw : s0.WarmedH s.vm := C.2.2.2.2.1
  refine fe_all C fk_hwr cX29_has [2, 11, 15] (by decide +kernel) (fe_fil (cps := [(2, 5, .getfield 54550553), (11, 14, .getfield 54550553), (15, 18, .getfield 58744857)]) (by decide +kernel) ?_)
  refine fs_c1 (fs_getf (pc := 2) (n := 54550553) (idx := 38) (ref := "BoardMachine$Window") (O := "BoardMachine$Window") (name := "from") (desc := "J") C (by decide +kernel) (Or.inl (kw K hw q6558)) (fun _ h => h) (Nat.le_of_ble_eq_true rfl) (Nat.le_of_ble_eq_true rfl) (fs_one (⟨_, ff_6_13 s0 H0 oa D⟩))) ?_
  refine fs_c1 (fs_getf (pc := 11) (n := 54550553) (idx := 38) (ref := "BoardMachine$Window") (O := "BoardMachine$Window") (name := "from") (desc := "J") C (by decide +kernel) (Or.inl (kw K hw q6558)) (fun _ h => h) (Nat.le_of_ble_eq_true rfl) (Nat.le_of_ble_eq_true rfl) (fs_one (⟨_, ff_6_13 s0 H0 oa D⟩))) ?_
  refine fs_c1 (fs_getf (pc := 15) (n := 58744857) (idx := 42) (ref := "BoardMachine$Window") (O := "BoardMachine$Window") (name := "size") (desc := "J") C (by decide +kernel) (Or.inl (kw K hw q6559)) (fun _ h => h) (Nat.le_of_ble_eq_true rfl) (Nat.le_of_ble_eq_true rfl) (fs_one (⟨_, ff_6_14 s0 H0 oa D⟩))) ?_
  exact fs_c0
theorem hX10_find (n : Nat) : fe_H (sX10_find FX29_has) cX10_find [0, 14] fe_ka [14] 31 (fun j => dX10_find (FX10_find_0 n (FX10_find_L14 n j)) (FX10_find_L14 n j)) := by
  intro j pc L st M r hc h
  rcases fe_mem_c hc with rfl | hc
  · obtain ⟨w0, m0, h⟩ := fe_lR_d h
    obtain ⟨w1, m1, h⟩ := fe_lL_d h
    obtain ⟨w3, m3, h⟩ := fe_lI_d h
    obtain ⟨rfl, hz⟩ := fe_t0_d h
    exact ⟨[(0, .ref w0), (1, .long w1), (3, .int w3)], (fe_cs m0 (fe_cs m1 (fe_cs m3 fe_nl))), Or.inr ((bX10_find_0 FX29_has (FX10_find_0 n (FX10_find_L14 n j)) (FX10_find_L14 n j) w0 w1 w3 M).symm.trans hz)⟩
  rcases fe_mem_c hc with rfl | hc
  · obtain ⟨w1, m1, h⟩ := fe_lL_d h
    obtain ⟨w3, m3, h⟩ := fe_lI_d h
    obtain ⟨w4, m4, h⟩ := fe_lR_d h
    obtain ⟨w5, m5, h⟩ := fe_lI_d h
    obtain ⟨w6, m6, h⟩ := fe_lI_d h
    obtain ⟨rfl, hz⟩ := fe_t0_d h
    cases j with
    | zero => exact fe_no hz
    | succ j => exact ⟨[(1, .long w1), (3, .int w3), (4, .ref w4), (5, .int w5), (6, .int w6)], (fe_cs m1 (fe_cs m3 (fe_cs m4 (fe_cs m5 (fe_cs m6 fe_nl))))), Or.inl ⟨j, rfl, (bX10_find_14 FX29_has (FX10_find_0 n (FX10_find_L14 n j)) (FX10_find_L14 n j) w1 w3 w4 w5 w6 M).symm.trans hz⟩⟩
  exact fe_mem_0 hc
theorem vX10_find (n : Nat) : fe_SB (sX10_find FX29_has) := by
  refine ⟨?_, ?_, ?_, ?_⟩
  · intro i As M r h
    exact fe_no h
  · intro i As M r h
    rcases fe_bc h with h | h
    · obtain ⟨v0, t0, rfl, g0⟩ := fe_tR_d h
      obtain ⟨v1, t1, rfl, g1⟩ := fe_tL_d g0
      obtain ⟨v2, t2, rfl, g2⟩ := fe_tI_d g1
      obtain ⟨rfl, hz⟩ := fe_t0_d g2
      exact mX29_has v0 v1 v2 M r hz
    exact fe_no h
  · intro i As M r h
    exact fe_no h
  · intro i As M r h
    exact fe_no h
theorem eX10_find (g0 : Nat → Int64 → Int32 → FM → Option (Nat × FM)) (k14 : Int64 → Int32 → Nat → Int32 → Int32 → FM → Option (Nat × FM)) (a0 : Nat) (a1 : Int64) (a3 : Int32) (M : FM) : dX10_find g0 k14 0 [(0, .ref a0), (1, .long a1), (3, .int a3)] [] M = g0 a0 a1 a3 M := by rfl
theorem mX10_find (n : Nat) (a0 : Nat) (a1 : Int64) (a3 : Int32) (M : FM) (r : Nat × FM) (h : FX10_find n a0 a1 a3 M = some r) : fm_nx M ≤ fm_nx r.2 ∧ fm_ns M ≤ fm_ns r.2 :=
  fe_mono (L0 := [(0, .ref a0), (1, .long a1), (3, .int a3)]) (vX10_find n) (by decide +kernel) (hX10_find n) (fe_ka_k r) n rfl ((eX10_find (FX10_find_0 n (FX10_find_L14 n n)) (FX10_find_L14 n n) a0 a1 a3 M).trans h)
theorem zX10_find {s0 : State} {H0 : Heap} {oa : Nat → Nat} {D : va_G} (K : fk s0 H0 oa D) (l : Launch) (n : Nat) (a0 : Nat) (a1 : Int64) (a3 : Int32) (M : FM) (r : Nat × FM) (h : FX10_find n a0 a1 a3 M = some r) : fs_Con (fk_E s0 H0 oa D) l 2 ⟨"BoardMachine$Board", "find", "(JI)LBoardMachine$Window;"⟩ prog_2_method_2_code 8 (Option.some (Jvm.ClassFile.FieldType.object "BoardMachine$Window")) [.ref a0, .long a1, .int a3] M (some (.ref r.1)) r.2 := by
  have o0 : fs_OS (sX10_find FX29_has) 0 1 (fs_Con (fk_E s0 H0 oa D) l 1 ⟨"BoardMachine$Window", "has", "(JI)Z"⟩ prog_109_method_4_code 4 (Option.some Jvm.ClassFile.FieldType.boolean)) := by
    intro As M r h
    obtain ⟨v0, t0, rfl, g0⟩ := fe_tR_d h
    obtain ⟨v1, t1, rfl, g1⟩ := fe_tL_d g0
    obtain ⟨v2, t2, rfl, g2⟩ := fe_tI_d g1
    obtain ⟨rfl, hz⟩ := fe_t0_d g2
    exact zX29_has K l v0 v1 v2 M r hz
  refine fs_method (own := "BoardMachine$Board") rfl (by decide) K.2.1 (by rw [fe_slen]; exact (Nat.le_of_ble_eq_true rfl)) (mX10_find n a0 a1 a3 M r h) (hX10_find n) n rfl (L0 := [(0, .ref a0), (1, .long a1), (3, .int a3)]) (fun E => fe_args_e E [.ref a0, .long a1, .int a3] 0) ((eX10_find (FX10_find_0 n (FX10_find_L14 n n)) (FX10_find_L14 n n) a0 a1 a3 M).trans h) (fe_ka_k r) (fun H hR => fs_nr_o (by decide) (by decide)) ?_
  intro p e s m args below meth c Q C hnm
  have hw : s0.WarmedH s.vm := C.2.2.2.2.1
  refine fe_all C fk_hwr cX10_find [1, 32] (by decide +kernel) (fe_fil (cps := [(1, 4, .getfield 88125486), (32, 35, .invokevirtual 13637638)]) (by decide +kernel) ?_)
  refine fs_c1 (fs_getf (pc := 1) (n := 88125486) (idx := 40) (ref := "BoardMachine$Board") (O := "BoardMachine$Board") (name := "windows") (desc := "[LBoardMachine$Window;") C (by decide +kernel) (Or.inl (kw K hw q1048)) (fun _ h => h) (Nat.le_of_ble_eq_true rfl) (Nat.le_of_ble_eq_true rfl) (fs_one (⟨_, ff_11_21 s0 H0 oa D⟩))) ?_
  refine fs_c1 (fs_inv_virtual (pc := 32) (n := 13637638) C (Nat.le_of_ble_eq_true rfl) (Nat.le_of_ble_eq_true rfl) (fs_lk_virtual (idx := 55) (y := ⟨"BoardMachine$Window", "has", "(JI)Z"⟩) (bytes := prog_109_method_4_code) (maxL := 4) (rt := (Option.some Jvm.ClassFile.FieldType.boolean)) (d := 1) C (Nat.le_of_ble_eq_true rfl) (Nat.le_of_ble_eq_true rfl) (by decide +kernel) (kw K hw q3522) (kw K hw q340) (kw K hw q3520) (Or.inl (kw K hw q3519)) ⟨by decide, by decide⟩ rfl (Nat.le_of_ble_eq_true rfl) (Nat.le_of_ble_eq_true rfl) (fs_one (⟨_, rfl, kw K hw q3521⟩))) fs_con_mono o0) ?_
  exact fs_c0
theorem hX46_locate (n : Nat) : fe_H (sX46_locate FX46_dataMode (FX46_find n) FX11_has (FX10_find n) FX46_raise) cX46_locate [0, 48, 67, 85, 90, 234, 237, 292, 307] fe_ki [90, 237] 163 (fun j => dX46_locate (FX46_locate_0 n (FX46_locate_L n j).1 (FX46_locate_L n j).2) (FX46_locate_48 n (FX46_locate_L n j).1 (FX46_locate_L n j).2) (FX46_locate_67 n (FX46_locate_L n j).1 (FX46_locate_L n j).2) (FX46_locate_85 n (FX46_locate_L n j).1 (FX46_locate_L n j).2) (FX46_locate_234 n (FX46_locate_L n j).1 (FX46_locate_L n j).2) (FX46_locate_292 n (FX46_locate_L n j).1 (FX46_locate_L n j).2) (FX46_locate_307 n (FX46_locate_L n j).1 (FX46_locate_L n j).2) (FX46_locate_L n j).1 (FX46_locate_L n j).2) := by
  intro j pc L st M r hc h
  rcases fe_mem_c hc with rfl | hc
  · obtain ⟨w0, m0, h⟩ := fe_lR_d h
    obtain ⟨w1, m1, h⟩ := fe_lL_d h
    obtain ⟨w3, m3, h⟩ := fe_lI_d h
    obtain ⟨w4, m4, h⟩ := fe_lI_d h
    obtain ⟨rfl, hz⟩ := fe_t0_d h
    exact ⟨[(0, .ref w0), (1, .long w1), (3, .int w3), (4, .int w4)], (fe_cs m0 (fe_cs m1 (fe_cs m3 (fe_cs m4 fe_nl)))), Or.inr ((bX46_locate_0 FX46_dataMode (FX46_find n) FX11_has (FX10_find n) FX46_raise (FX46_locate_0 n (FX46_locate_L n j).1 (FX46_locate_L n j).2) (FX46_locate_48 n (FX46_locate_L n j).1 (FX46_locate_L n j).2) (FX46_locate_67 n (FX46_locate_L n j).1 (FX46_locate_L n j).2) (FX46_locate_85 n (FX46_locate_L n j).1 (FX46_locate_L n j).2) (FX46_locate_234 n (FX46_locate_L n j).1 (FX46_locate_L n j).2) (FX46_locate_292 n (FX46_locate_L n j).1 (FX46_locate_L n j).2) (FX46_locate_307 n (FX46_locate_L n j).1 (FX46_locate_L n j).2) (FX46_locate_L n j).1 (FX46_locate_L n j).2 w0 w1 w3 w4 M).symm.trans hz)⟩
  rcases fe_mem_c hc with rfl | hc
  · obtain ⟨w0, m0, h⟩ := fe_lR_d h
    obtain ⟨w1, m1, h⟩ := fe_lL_d h
    obtain ⟨w3, m3, h⟩ := fe_lI_d h
    obtain ⟨w4, m4, h⟩ := fe_lI_d h
    obtain ⟨w5, m5, h⟩ := fe_lI_d h
    obtain ⟨s1, t1, rfl, g1⟩ := fe_tI_d h
    obtain ⟨s0, t0, rfl, g0⟩ := fe_tR_d g1
    obtain ⟨rfl, hz⟩ := fe_t0_d g0
    exact ⟨[(0, .ref w0), (1, .long w1), (3, .int w3), (4, .int w4), (5, .int w5)], (fe_cs m0 (fe_cs m1 (fe_cs m3 (fe_cs m4 (fe_cs m5 fe_nl))))), Or.inr ((bX46_locate_48 FX46_dataMode (FX46_find n) FX11_has (FX10_find n) FX46_raise (FX46_locate_0 n (FX46_locate_L n j).1 (FX46_locate_L n j).2) (FX46_locate_48 n (FX46_locate_L n j).1 (FX46_locate_L n j).2) (FX46_locate_67 n (FX46_locate_L n j).1 (FX46_locate_L n j).2) (FX46_locate_85 n (FX46_locate_L n j).1 (FX46_locate_L n j).2) (FX46_locate_234 n (FX46_locate_L n j).1 (FX46_locate_L n j).2) (FX46_locate_292 n (FX46_locate_L n j).1 (FX46_locate_L n j).2) (FX46_locate_307 n (FX46_locate_L n j).1 (FX46_locate_L n j).2) (FX46_locate_L n j).1 (FX46_locate_L n j).2 w0 w1 w3 w4 w5 s0 s1 M).symm.trans hz)⟩
  rcases fe_mem_c hc with rfl | hc
  · obtain ⟨w0, m0, h⟩ := fe_lR_d h
    obtain ⟨w1, m1, h⟩ := fe_lL_d h
    obtain ⟨w3, m3, h⟩ := fe_lI_d h
    obtain ⟨w4, m4, h⟩ := fe_lI_d h
    obtain ⟨w5, m5, h⟩ := fe_lI_d h
    obtain ⟨s0, t0, rfl, g0⟩ := fe_tI_d h
    obtain ⟨rfl, hz⟩ := fe_t0_d g0
    exact ⟨[(0, .ref w0), (1, .long w1), (3, .int w3), (4, .int w4), (5, .int w5)], (fe_cs m0 (fe_cs m1 (fe_cs m3 (fe_cs m4 (fe_cs m5 fe_nl))))), Or.inr ((bX46_locate_67 FX46_dataMode (FX46_find n) FX11_has (FX10_find n) FX46_raise (FX46_locate_0 n (FX46_locate_L n j).1 (FX46_locate_L n j).2) (FX46_locate_48 n (FX46_locate_L n j).1 (FX46_locate_L n j).2) (FX46_locate_67 n (FX46_locate_L n j).1 (FX46_locate_L n j).2) (FX46_locate_85 n (FX46_locate_L n j).1 (FX46_locate_L n j).2) (FX46_locate_234 n (FX46_locate_L n j).1 (FX46_locate_L n j).2) (FX46_locate_292 n (FX46_locate_L n j).1 (FX46_locate_L n j).2) (FX46_locate_307 n (FX46_locate_L n j).1 (FX46_locate_L n j).2) (FX46_locate_L n j).1 (FX46_locate_L n j).2 w0 w1 w3 w4 w5 s0 M).symm.trans hz)⟩
  rcases fe_mem_c hc with rfl | hc
  · obtain ⟨w0, m0, h⟩ := fe_lR_d h
    obtain ⟨w1, m1, h⟩ := fe_lL_d h
    obtain ⟨w3, m3, h⟩ := fe_lI_d h
    obtain ⟨w4, m4, h⟩ := fe_lI_d h
    obtain ⟨w5, m5, h⟩ := fe_lI_d h
    obtain ⟨w6, m6, h⟩ := fe_lI_d h
    obtain ⟨s0, t0, rfl, g0⟩ := fe_tI_d h
    obtain ⟨rfl, hz⟩ := fe_t0_d g0
    exact ⟨[(0, .ref w0), (1, .long w1), (3, .int w3), (4, .int w4), (5, .int w5), (6, .int w6)], (fe_cs m0 (fe_cs m1 (fe_cs m3 (fe_cs m4 (fe_cs m5 (fe_cs m6 fe_nl)))))), Or.inr ((bX46_locate_85 FX46_dataMode (FX46_find n) FX11_has (FX10_find n) FX46_raise (FX46_locate_0 n (FX46_locate_L n j).1 (FX46_locate_L n j).2) (FX46_locate_48 n (FX46_locate_L n j).1 (FX46_locate_L n j).2) (FX46_locate_67 n (FX46_locate_L n j).1 (FX46_locate_L n j).2) (FX46_locate_85 n (FX46_locate_L n j).1 (FX46_locate_L n j).2) (FX46_locate_234 n (FX46_locate_L n j).1 (FX46_locate_L n j).2) (FX46_locate_292 n (FX46_locate_L n j).1 (FX46_locate_L n j).2) (FX46_locate_307 n (FX46_locate_L n j).1 (FX46_locate_L n j).2) (FX46_locate_L n j).1 (FX46_locate_L n j).2 w0 w1 w3 w4 w5 w6 s0 M).symm.trans hz)⟩
  rcases fe_mem_c hc with rfl | hc
  · obtain ⟨w0, m0, h⟩ := fe_lR_d h
    obtain ⟨w1, m1, h⟩ := fe_lL_d h
    obtain ⟨w3, m3, h⟩ := fe_lI_d h
    obtain ⟨w4, m4, h⟩ := fe_lI_d h
    obtain ⟨w5, m5, h⟩ := fe_lI_d h
    obtain ⟨w6, m6, h⟩ := fe_lI_d h
    obtain ⟨w7, m7, h⟩ := fe_lI_d h
    obtain ⟨w8, m8, h⟩ := fe_lI_d h
    obtain ⟨rfl, hz⟩ := fe_t0_d h
    cases j with
    | zero => exact fe_no hz
    | succ j => exact ⟨[(0, .ref w0), (1, .long w1), (3, .int w3), (4, .int w4), (5, .int w5), (6, .int w6), (7, .int w7), (8, .int w8)], (fe_cs m0 (fe_cs m1 (fe_cs m3 (fe_cs m4 (fe_cs m5 (fe_cs m6 (fe_cs m7 (fe_cs m8 fe_nl)))))))), Or.inl ⟨j, rfl, (bX46_locate_90 FX46_dataMode (FX46_find n) FX11_has (FX10_find n) FX46_raise (FX46_locate_0 n (FX46_locate_L n j).1 (FX46_locate_L n j).2) (FX46_locate_48 n (FX46_locate_L n j).1 (FX46_locate_L n j).2) (FX46_locate_67 n (FX46_locate_L n j).1 (FX46_locate_L n j).2) (FX46_locate_85 n (FX46_locate_L n j).1 (FX46_locate_L n j).2) (FX46_locate_234 n (FX46_locate_L n j).1 (FX46_locate_L n j).2) (FX46_locate_292 n (FX46_locate_L n j).1 (FX46_locate_L n j).2) (FX46_locate_307 n (FX46_locate_L n j).1 (FX46_locate_L n j).2) (FX46_locate_L n j).1 (FX46_locate_L n j).2 w0 w1 w3 w4 w5 w6 w7 w8 M).symm.trans hz⟩⟩
  rcases fe_mem_c hc with rfl | hc
  · obtain ⟨w0, m0, h⟩ := fe_lR_d h
    obtain ⟨w1, m1, h⟩ := fe_lL_d h
    obtain ⟨w3, m3, h⟩ := fe_lI_d h
    obtain ⟨w6, m6, h⟩ := fe_lI_d h
    obtain ⟨w7, m7, h⟩ := fe_lI_d h
    obtain ⟨rfl, hz⟩ := fe_t0_d h
    exact ⟨[(0, .ref w0), (1, .long w1), (3, .int w3), (6, .int w6), (7, .int w7)], (fe_cs m0 (fe_cs m1 (fe_cs m3 (fe_cs m6 (fe_cs m7 fe_nl))))), Or.inr ((bX46_locate_234 FX46_dataMode (FX46_find n) FX11_has (FX10_find n) FX46_raise (FX46_locate_0 n (FX46_locate_L n j).1 (FX46_locate_L n j).2) (FX46_locate_48 n (FX46_locate_L n j).1 (FX46_locate_L n j).2) (FX46_locate_67 n (FX46_locate_L n j).1 (FX46_locate_L n j).2) (FX46_locate_85 n (FX46_locate_L n j).1 (FX46_locate_L n j).2) (FX46_locate_234 n (FX46_locate_L n j).1 (FX46_locate_L n j).2) (FX46_locate_292 n (FX46_locate_L n j).1 (FX46_locate_L n j).2) (FX46_locate_307 n (FX46_locate_L n j).1 (FX46_locate_L n j).2) (FX46_locate_L n j).1 (FX46_locate_L n j).2 w0 w1 w3 w6 w7 M).symm.trans hz)⟩
  rcases fe_mem_c hc with rfl | hc
  · obtain ⟨w0, m0, h⟩ := fe_lR_d h
    obtain ⟨w1, m1, h⟩ := fe_lL_d h
    obtain ⟨w3, m3, h⟩ := fe_lI_d h
    obtain ⟨w6, m6, h⟩ := fe_lI_d h
    obtain ⟨w7, m7, h⟩ := fe_lI_d h
    obtain ⟨w8, m8, h⟩ := fe_lI_d h
    obtain ⟨rfl, hz⟩ := fe_t0_d h
    cases j with
    | zero => exact fe_no hz
    | succ j => exact ⟨[(0, .ref w0), (1, .long w1), (3, .int w3), (6, .int w6), (7, .int w7), (8, .int w8)], (fe_cs m0 (fe_cs m1 (fe_cs m3 (fe_cs m6 (fe_cs m7 (fe_cs m8 fe_nl)))))), Or.inl ⟨j, rfl, (bX46_locate_237 FX46_dataMode (FX46_find n) FX11_has (FX10_find n) FX46_raise (FX46_locate_0 n (FX46_locate_L n j).1 (FX46_locate_L n j).2) (FX46_locate_48 n (FX46_locate_L n j).1 (FX46_locate_L n j).2) (FX46_locate_67 n (FX46_locate_L n j).1 (FX46_locate_L n j).2) (FX46_locate_85 n (FX46_locate_L n j).1 (FX46_locate_L n j).2) (FX46_locate_234 n (FX46_locate_L n j).1 (FX46_locate_L n j).2) (FX46_locate_292 n (FX46_locate_L n j).1 (FX46_locate_L n j).2) (FX46_locate_307 n (FX46_locate_L n j).1 (FX46_locate_L n j).2) (FX46_locate_L n j).1 (FX46_locate_L n j).2 w0 w1 w3 w6 w7 w8 M).symm.trans hz⟩⟩
  rcases fe_mem_c hc with rfl | hc
  · obtain ⟨w1, m1, h⟩ := fe_lL_d h
    obtain ⟨w8, m8, h⟩ := fe_lI_d h
    obtain ⟨s1, t1, rfl, g1⟩ := fe_tI_d h
    obtain ⟨s0, t0, rfl, g0⟩ := fe_tR_d g1
    obtain ⟨rfl, hz⟩ := fe_t0_d g0
    exact ⟨[(1, .long w1), (8, .int w8)], (fe_cs m1 (fe_cs m8 fe_nl)), Or.inr ((bX46_locate_292 FX46_dataMode (FX46_find n) FX11_has (FX10_find n) FX46_raise (FX46_locate_0 n (FX46_locate_L n j).1 (FX46_locate_L n j).2) (FX46_locate_48 n (FX46_locate_L n j).1 (FX46_locate_L n j).2) (FX46_locate_67 n (FX46_locate_L n j).1 (FX46_locate_L n j).2) (FX46_locate_85 n (FX46_locate_L n j).1 (FX46_locate_L n j).2) (FX46_locate_234 n (FX46_locate_L n j).1 (FX46_locate_L n j).2) (FX46_locate_292 n (FX46_locate_L n j).1 (FX46_locate_L n j).2) (FX46_locate_307 n (FX46_locate_L n j).1 (FX46_locate_L n j).2) (FX46_locate_L n j).1 (FX46_locate_L n j).2 w1 w8 s0 s1 M).symm.trans hz)⟩
  rcases fe_mem_c hc with rfl | hc
  · obtain ⟨rfl, hz⟩ := fe_t0_d h
    exact ⟨[], fe_nl, Or.inr ((bX46_locate_307 FX46_dataMode (FX46_find n) FX11_has (FX10_find n) FX46_raise (FX46_locate_0 n (FX46_locate_L n j).1 (FX46_locate_L n j).2) (FX46_locate_48 n (FX46_locate_L n j).1 (FX46_locate_L n j).2) (FX46_locate_67 n (FX46_locate_L n j).1 (FX46_locate_L n j).2) (FX46_locate_85 n (FX46_locate_L n j).1 (FX46_locate_L n j).2) (FX46_locate_234 n (FX46_locate_L n j).1 (FX46_locate_L n j).2) (FX46_locate_292 n (FX46_locate_L n j).1 (FX46_locate_L n j).2) (FX46_locate_307 n (FX46_locate_L n j).1 (FX46_locate_L n j).2) (FX46_locate_L n j).1 (FX46_locate_L n j).2 M).symm.trans hz)⟩
  exact fe_mem_0 hc
theorem vX46_locate (n : Nat) : fe_SB (sX46_locate FX46_dataMode (FX46_find n) FX11_has (FX10_find n) FX46_raise) := by
  refine ⟨?_, ?_, ?_, ?_⟩
  · intro i As M r h
    exact fe_no h
  · intro i As M r h
    rcases fe_bc h with h | h
    · obtain ⟨v0, t0, rfl, g0⟩ := fe_tR_d h
      obtain ⟨rfl, hz⟩ := fe_t0_d g0
      exact mX46_dataMode v0 M r hz
    rcases fe_bc h with h | h
    · obtain ⟨v0, t0, rfl, g0⟩ := fe_tR_d h
      obtain ⟨v1, t1, rfl, g1⟩ := fe_tL_d g0
      obtain ⟨v2, t2, rfl, g2⟩ := fe_tL_d g1
      obtain ⟨rfl, hz⟩ := fe_t0_d g2
      exact mX11_has v0 v1 v2 M r hz
    rcases fe_bc h with h | h
    · obtain ⟨v0, t0, rfl, g0⟩ := fe_tR_d h
      obtain ⟨v1, t1, rfl, g1⟩ := fe_tI_d g0
      obtain ⟨v2, t2, rfl, g2⟩ := fe_tL_d g1
      obtain ⟨rfl, hz⟩ := fe_t0_d g2
      exact mX46_raise v0 v1 v2 M r hz
    exact fe_no h
  · intro i As M r h
    rcases fe_bc h with h | h
    · obtain ⟨v0, t0, rfl, g0⟩ := fe_tR_d h
      obtain ⟨v1, t1, rfl, g1⟩ := fe_tL_d g0
      obtain ⟨v2, t2, rfl, g2⟩ := fe_tI_d g1
      obtain ⟨v3, t3, rfl, g3⟩ := fe_tI_d g2
      obtain ⟨v4, t4, rfl, g4⟩ := fe_tI_d g3
      obtain ⟨rfl, hz⟩ := fe_t0_d g4
      exact mX46_find n v0 v1 v2 v3 v4 M r hz
    exact fe_no h
  · intro i As M r h
    rcases fe_bc h with h | h
    · obtain ⟨v0, t0, rfl, g0⟩ := fe_tR_d h
      obtain ⟨v1, t1, rfl, g1⟩ := fe_tL_d g0
      obtain ⟨v2, t2, rfl, g2⟩ := fe_tI_d g1
      obtain ⟨rfl, hz⟩ := fe_t0_d g2
      exact mX10_find n v0 v1 v2 M r hz
    exact fe_no h
theorem eX46_locate (g0 : Nat → Int64 → Int32 → Int32 → FM → Option (Int32 × FM)) (g48 : Nat → Int64 → Int32 → Int32 → Int32 → Nat → Int32 → FM → Option (Int32 × FM)) (g67 : Nat → Int64 → Int32 → Int32 → Int32 → Int32 → FM → Option (Int32 × FM)) (g85 : Nat → Int64 → Int32 → Int32 → Int32 → Int32 → Int32 → FM → Option (Int32 × FM)) (g234 : Nat → Int64 → Int32 → Int32 → Int32 → FM → Option (Int32 × FM)) (g292 : Int64 → Int32 → Nat → Int32 → FM → Option (Int32 × FM)) (g307 : FM → Option (Int32 × FM)) (k90 : Nat → Int64 → Int32 → Int32 → Int32 → Int32 → Int32 → Int32 → FM → Option (Int32 × FM)) (k237 : Nat → Int64 → Int32 → Int32 → Int32 → Int32 → FM → Option (Int32 × FM)) (a0 : Nat) (a1 : Int64) (a3 : Int32) (a4 : Int32) (M : FM) : dX46_locate g0 g48 g67 g85 g234 g292 g307 k90 k237 0 [(0, .ref a0), (1, .long a1), (3, .int a3), (4, .int a4)] [] M = g0 a0 a1 a3 a4 M := by rfl
theorem mX46_locate (n : Nat) (a0 : Nat) (a1 : Int64) (a3 : Int32) (a4 : Int32) (M : FM) (r : Int32 × FM) (h : FX46_locate n a0 a1 a3 a4 M = some r) : fm_nx M ≤ fm_nx r.2 ∧ fm_ns M ≤ fm_ns r.2 :=
  fe_mono (L0 := [(0, .ref a0), (1, .long a1), (3, .int a3), (4, .int a4)]) (vX46_locate n) (by decide +kernel) (hX46_locate n) (fe_ki_k r) n rfl ((eX46_locate (FX46_locate_0 n (FX46_locate_L n n).1 (FX46_locate_L n n).2) (FX46_locate_48 n (FX46_locate_L n n).1 (FX46_locate_L n n).2) (FX46_locate_67 n (FX46_locate_L n n).1 (FX46_locate_L n n).2) (FX46_locate_85 n (FX46_locate_L n n).1 (FX46_locate_L n n).2) (FX46_locate_234 n (FX46_locate_L n n).1 (FX46_locate_L n n).2) (FX46_locate_292 n (FX46_locate_L n n).1 (FX46_locate_L n n).2) (FX46_locate_307 n (FX46_locate_L n n).1 (FX46_locate_L n n).2) (FX46_locate_L n n).1 (FX46_locate_L n n).2 a0 a1 a3 a4 M).trans h)
theorem zX46_locate {s0 : State} {H0 : Heap} {oa : Nat → Nat} {D : va_G} (K : fk s0 H0 oa D) (l : Launch) (n : Nat) (a0 : Nat) (a1 : Int64) (a3 : Int32) (a4 : Int32) (M : FM) (r : Int32 × FM) (h : FX46_locate n a0 a1 a3 a4 M = some r) : fs_Con (fk_E s0 H0 oa D) l 10 ⟨"BoardMachine$Processor", "locate", "(JII)Z"⟩ prog_86_method_12_code 9 (Option.some Jvm.ClassFile.FieldType.boolean) [.ref a0, .long a1, .int a3, .int a4] M (some (.int r.1)) r.2 := by
  have o0 : fs_OS (sX46_locate FX46_dataMode (FX46_find n) FX11_has (FX10_find n) FX46_raise) 0 1 (fs_Con (fk_E s0 H0 oa D) l 2 ⟨"BoardMachine$Processor", "dataMode", "()I"⟩ prog_86_method_10_code 1 (Option.some Jvm.ClassFile.FieldType.int)) := by
    intro As M r h
    obtain ⟨v0, t0, rfl, g0⟩ := fe_tR_d h
    obtain ⟨rfl, hz⟩ := fe_t0_d g0
    exact zX46_dataMode K l v0 M r hz
  have o1 : fs_OS (sX46_locate FX46_dataMode (FX46_find n) FX11_has (FX10_find n) FX46_raise) 1 2 (fs_Con (fk_E s0 H0 oa D) l 9 ⟨"BoardMachine$Processor", "find", "(JIII)J"⟩ prog_86_method_9_code 6 (Option.some Jvm.ClassFile.FieldType.long)) := by
    intro As M r h
    obtain ⟨v0, t0, rfl, g0⟩ := fe_tR_d h
    obtain ⟨v1, t1, rfl, g1⟩ := fe_tL_d g0
    obtain ⟨v2, t2, rfl, g2⟩ := fe_tI_d g1
    obtain ⟨v3, t3, rfl, g3⟩ := fe_tI_d g2
    obtain ⟨v4, t4, rfl, g4⟩ := fe_tI_d g3
    obtain ⟨rfl, hz⟩ := fe_t0_d g4
    exact zX46_find K l n v0 v1 v2 v3 v4 M r hz
  have o2 : fs_OS (sX46_locate FX46_dataMode (FX46_find n) FX11_has (FX10_find n) FX46_raise) 2 1 (fs_Con (fk_E s0 H0 oa D) l 1 ⟨"BoardMachine$Memories$Ram", "has", "(JJ)Z"⟩ prog_82_method_2_code 7 (Option.some Jvm.ClassFile.FieldType.boolean)) := by
    intro As M r h
    obtain ⟨v0, t0, rfl, g0⟩ := fe_tR_d h
    obtain ⟨v1, t1, rfl, g1⟩ := fe_tL_d g0
    obtain ⟨v2, t2, rfl, g2⟩ := fe_tL_d g1
    obtain ⟨rfl, hz⟩ := fe_t0_d g2
    exact zX11_has K l v0 v1 v2 M r hz
  have o3 : fs_OS (sX46_locate FX46_dataMode (FX46_find n) FX11_has (FX10_find n) FX46_raise) 3 3 (fs_Con (fk_E s0 H0 oa D) l 2 ⟨"BoardMachine$Board", "find", "(JI)LBoardMachine$Window;"⟩ prog_2_method_2_code 8 (Option.some (Jvm.ClassFile.FieldType.object "BoardMachine$Window"))) := by
    intro As M r h
    obtain ⟨v0, t0, rfl, g0⟩ := fe_tR_d h
    obtain ⟨v1, t1, rfl, g1⟩ := fe_tL_d g0
    obtain ⟨v2, t2, rfl, g2⟩ := fe_tI_d g1
    obtain ⟨rfl, hz⟩ := fe_t0_d g2
    exact zX10_find K l n v0 v1 v2 M r hz
  have o4 : fs_OS (sX46_locate FX46_dataMode (FX46_find n) FX11_has (FX10_find n) FX46_raise) 4 1 (fs_Con (fk_E s0 H0 oa D) l 6 ⟨"BoardMachine$Processor", "raise", "(IJ)Z"⟩ prog_86_method_7_code 4 (Option.some Jvm.ClassFile.FieldType.boolean)) := by
    intro As M r h
    obtain ⟨v0, t0, rfl, g0⟩ := fe_tR_d h
    obtain ⟨v1, t1, rfl, g1⟩ := fe_tI_d g0
    obtain ⟨v2, t2, rfl, g2⟩ := fe_tL_d g1
    obtain ⟨rfl, hz⟩ := fe_t0_d g2
    exact zX46_raise K l v0 v1 v2 M r hz
  refine fs_method (own := "BoardMachine$Processor") rfl (by decide) K.2.1 (by rw [fe_slen]; exact (Nat.le_of_ble_eq_true rfl)) (mX46_locate n a0 a1 a3 a4 M r h) (hX46_locate n) n rfl (L0 := [(0, .ref a0), (1, .long a1), (3, .int a3), (4, .int a4)]) (fun E => fe_args_e E [.ref a0, .long a1, .int a3, .int a4] 0) ((eX46_locate (FX46_locate_0 n (FX46_locate_L n n).1 (FX46_locate_L n n).2) (FX46_locate_48 n (FX46_locate_L n n).1 (FX46_locate_L n n).2) (FX46_locate_67 n (FX46_locate_L n n).1 (FX46_locate_L n n).2) (FX46_locate_85 n (FX46_locate_L n n).1 (FX46_locate_L n n).2) (FX46_locate_234 n (FX46_locate_L n n).1 (FX46_locate_L n n).2) (FX46_locate_292 n (FX46_locate_L n n).1 (FX46_locate_L n n).2) (FX46_locate_307 n (FX46_locate_L n n).1 (FX46_locate_L n n).2) (FX46_locate_L n n).1 (FX46_locate_L n n).2 a0 a1 a3 a4 M).trans h) (fe_ki_k r) (fun H hR => fs_nr_o (by decide) (by decide)) ?_
  intro p e s m args below meth c Q C hnm
  have hw : s0.WarmedH s.vm := C.2.2.2.2.1
  refine fe_all C fk_hwr cX46_locate [1, 7, 12, 16, 20, 24, 28, 36, 48, 52, 55, 70, 73, 98, 101, 117, 122, 125, 138, 141, 154, 165, 168, 175, 178, 182, 185, 193, 210, 214, 218, 221, 228, 231, 245, 248, 255, 258, 262, 265, 274, 297] (by decide +kernel) (fe_fil (cps := [(1, 4, .invokevirtual 5319755), (7, 10, .getfield 910471470), (12, 15, .putfield 511873188), (16, 19, .getfield 910471470), (20, 23, .putfield 520261798), (24, 27, .getfield 910471470), (28, 31, .jsr_w (4095)), (36, 39, .jsr_w (4096)), (48, 51, .putfield 516067495), (52, 55, .getfield 910471470), (55, 58, .getfield 516067495), (70, 73, .getfield 910471470), (73, 76, .getfield 516067495), (98, 101, .getfield 910471470), (101, 104, .getfield 507678886), (117, 120, .invokevirtual 90254411), (122, 125, .getfield 910471470), (125, 128, .getfield 507678886), (138, 141, .getfield 910471470), (141, 144, .getfield 507678886), (154, 157, .invokevirtual 282143819), (165, 168, .getfield 910471470), (168, 171, .getfield 516067495), (175, 178, .getfield 881111342), (178, 181, .getfield 75542574), (182, 185, .getfield 910471470), (185, 188, .getfield 507678886), (193, 196, .invokevirtual 147924041), (210, 213, .getfield 910471470), (214, 217, .getfield 881111342), (218, 221, .getfield 910471470), (221, 224, .getfield 507678886), (228, 231, .invokevirtual 217066507), (231, 234, .putfield 520261798), (245, 248, .getfield 910471470), (248, 251, .getfield 520261798), (255, 258, .getfield 881111342), (258, 261, .getfield 75542574), (262, 265, .getfield 910471470), (265, 268, .getfield 507678886), (274, 277, .invokevirtual 147924041), (297, 300, .invokevirtual 282143819)]) (by decide +kernel) ?_)
  refine fs_c1 (fs_inv_virtual (pc := 1) (n := 5319755) C (Nat.le_of_ble_eq_true rfl) (Nat.le_of_ble_eq_true rfl) (fs_lk_virtual (idx := 272) (y := ⟨"BoardMachine$Processor", "dataMode", "()I"⟩) (bytes := prog_86_method_10_code) (maxL := 1) (rt := (Option.some Jvm.ClassFile.FieldType.int)) (d := 2) C (Nat.le_of_ble_eq_true rfl) (Nat.le_of_ble_eq_true rfl) (by decide +kernel) (kw K hw q3512) (kw K hw q357) (kw K hw q3511) (Or.inl (kw K hw q3509)) ⟨by decide, by decide⟩ rfl (Nat.le_of_ble_eq_true rfl) (Nat.le_of_ble_eq_true rfl) (fs_one (⟨_, rfl, kw K hw qs66⟩))) fs_con_mono o0) ?_
  refine fs_c1 (fs_getf (pc := 7) (n := 910471470) (idx := 34) (ref := "BoardMachine$Processor") (O := "BoardMachine$Processor") (name := "data") (desc := "LBoardMachine$Found;") C (by decide +kernel) (Or.inl (kw K hw q2088)) (fun _ h => h) (Nat.le_of_ble_eq_true rfl) (Nat.le_of_ble_eq_true rfl) (fs_one (⟨_, ff_75_217 s0 H0 oa D⟩))) ?_
  refine fs_c1 (fs_putf (pc := 12) (n := 511873188) (idx := 276) (ref := "BoardMachine$Found") (O := "BoardMachine$Found") (name := "size") (desc := "I") (fin := false) (ty := .int) C (by decide +kernel) (Or.inl ⟨rfl, Or.inr ⟨_, kF K hw q1671⟩⟩) (fun _ h => h) (Nat.le_of_ble_eq_true rfl) (Nat.le_of_ble_eq_true rfl) (Nat.le_of_ble_eq_true rfl) rfl rfl (by decide) (fs_one (⟨rfl, ff_41_122 s0 H0 oa D⟩))) ?_
  refine fs_c1 (fs_getf (pc := 16) (n := 910471470) (idx := 34) (ref := "BoardMachine$Processor") (O := "BoardMachine$Processor") (name := "data") (desc := "LBoardMachine$Found;") C (by decide +kernel) (Or.inl (kw K hw q2088)) (fun _ h => h) (Nat.le_of_ble_eq_true rfl) (Nat.le_of_ble_eq_true rfl) (fs_one (⟨_, ff_75_217 s0 H0 oa D⟩))) ?_
  refine fs_c1 (fs_putf (pc := 20) (n := 520261798) (idx := 279) (ref := "BoardMachine$Found") (O := "BoardMachine$Found") (name := "window") (desc := "LBoardMachine$Window;") (fin := false) (ty := (.object "BoardMachine$Window")) C (by decide +kernel) (Or.inl ⟨rfl, Or.inr ⟨_, kF K hw q1675⟩⟩) (fun _ h => h) (Nat.le_of_ble_eq_true rfl) (Nat.le_of_ble_eq_true rfl) (Nat.le_of_ble_eq_true rfl) rfl rfl (by decide) (fs_one (⟨rfl, ff_41_124 s0 H0 oa D⟩))) ?_
  refine fs_c1 (fs_getf (pc := 24) (n := 910471470) (idx := 34) (ref := "BoardMachine$Processor") (O := "BoardMachine$Processor") (name := "data") (desc := "LBoardMachine$Found;") C (by decide +kernel) (Or.inl (kw K hw q2088)) (fun _ h => h) (Nat.le_of_ble_eq_true rfl) (Nat.le_of_ble_eq_true rfl) (fs_one (⟨_, ff_75_217 s0 H0 oa D⟩))) ?_
  refine fs_c1 (fs_ldcl (pc := 28) (idx := 283) (v := 4095) C (by decide +kernel) (kw K hw q3216)) ?_
  refine fs_c1 (fs_ldcl (pc := 36) (idx := 285) (v := 4096) C (by decide +kernel) (kw K hw q3217)) ?_
  refine fs_c1 (fs_putf (pc := 48) (n := 516067495) (idx := 287) (ref := "BoardMachine$Found") (O := "BoardMachine$Found") (name := "whole") (desc := "Z") (fin := false) (ty := .boolean) C (by decide +kernel) (Or.inl ⟨rfl, Or.inr ⟨_, kF K hw q1673⟩⟩) (fun _ h => h) (Nat.le_of_ble_eq_true rfl) (Nat.le_of_ble_eq_true rfl) (Nat.le_of_ble_eq_true rfl) rfl rfl (by decide) (fs_one (⟨rfl, ff_41_123 s0 H0 oa D⟩))) ?_
  refine fs_c1 (fs_getf (pc := 52) (n := 910471470) (idx := 34) (ref := "BoardMachine$Processor") (O := "BoardMachine$Processor") (name := "data") (desc := "LBoardMachine$Found;") C (by decide +kernel) (Or.inl (kw K hw q2088)) (fun _ h => h) (Nat.le_of_ble_eq_true rfl) (Nat.le_of_ble_eq_true rfl) (fs_one (⟨_, ff_75_217 s0 H0 oa D⟩))) ?_
  refine fs_c1 (fs_getf (pc := 55) (n := 516067495) (idx := 287) (ref := "BoardMachine$Found") (O := "BoardMachine$Found") (name := "whole") (desc := "Z") C (by decide +kernel) (Or.inr ⟨_, kF K hw q1673⟩) (fun _ h => h) (Nat.le_of_ble_eq_true rfl) (Nat.le_of_ble_eq_true rfl) (fs_one (⟨_, ff_41_123 s0 H0 oa D⟩))) ?_
  refine fs_c1 (fs_getf (pc := 70) (n := 910471470) (idx := 34) (ref := "BoardMachine$Processor") (O := "BoardMachine$Processor") (name := "data") (desc := "LBoardMachine$Found;") C (by decide +kernel) (Or.inl (kw K hw q2088)) (fun _ h => h) (Nat.le_of_ble_eq_true rfl) (Nat.le_of_ble_eq_true rfl) (fs_one (⟨_, ff_75_217 s0 H0 oa D⟩))) ?_
  refine fs_c1 (fs_getf (pc := 73) (n := 516067495) (idx := 287) (ref := "BoardMachine$Found") (O := "BoardMachine$Found") (name := "whole") (desc := "Z") C (by decide +kernel) (Or.inr ⟨_, kF K hw q1673⟩) (fun _ h => h) (Nat.le_of_ble_eq_true rfl) (Nat.le_of_ble_eq_true rfl) (fs_one (⟨_, ff_41_123 s0 H0 oa D⟩))) ?_
  refine fs_c1 (fs_getf (pc := 98) (n := 910471470) (idx := 34) (ref := "BoardMachine$Processor") (O := "BoardMachine$Processor") (name := "data") (desc := "LBoardMachine$Found;") C (by decide +kernel) (Or.inl (kw K hw q2088)) (fun _ h => h) (Nat.le_of_ble_eq_true rfl) (Nat.le_of_ble_eq_true rfl) (fs_one (⟨_, ff_75_217 s0 H0 oa D⟩))) ?_
  refine fs_c1 (fs_getf (pc := 101) (n := 507678886) (idx := 290) (ref := "BoardMachine$Found") (O := "BoardMachine$Found") (name := "places") (desc := "[J") C (by decide +kernel) (Or.inr ⟨_, kF K hw q1669⟩) (fun _ h => h) (Nat.le_of_ble_eq_true rfl) (Nat.le_of_ble_eq_true rfl) (fs_one (⟨_, ff_41_121 s0 H0 oa D⟩))) ?_
  refine fs_c1 (fs_inv_virtual (pc := 117) (n := 90254411) C (Nat.le_of_ble_eq_true rfl) (Nat.le_of_ble_eq_true rfl) (fs_lk_virtual (idx := 293) (y := ⟨"BoardMachine$Processor", "find", "(JIII)J"⟩) (bytes := prog_86_method_9_code) (maxL := 6) (rt := (Option.some Jvm.ClassFile.FieldType.long)) (d := 9) C (Nat.le_of_ble_eq_true rfl) (Nat.le_of_ble_eq_true rfl) (by decide +kernel) (kw K hw q2980) (kw K hw q357) (kw K hw q2979) (Or.inl (kw K hw q2977)) ⟨by decide, by decide⟩ rfl (Nat.le_of_ble_eq_true rfl) (Nat.le_of_ble_eq_true rfl) (fs_one (⟨_, rfl, kw K hw qs42⟩))) fs_con_mono o1) ?_
  refine fs_c1 (fs_getf (pc := 122) (n := 910471470) (idx := 34) (ref := "BoardMachine$Processor") (O := "BoardMachine$Processor") (name := "data") (desc := "LBoardMachine$Found;") C (by decide +kernel) (Or.inl (kw K hw q2088)) (fun _ h => h) (Nat.le_of_ble_eq_true rfl) (Nat.le_of_ble_eq_true rfl) (fs_one (⟨_, ff_75_217 s0 H0 oa D⟩))) ?_
  refine fs_c1 (fs_getf (pc := 125) (n := 507678886) (idx := 290) (ref := "BoardMachine$Found") (O := "BoardMachine$Found") (name := "places") (desc := "[J") C (by decide +kernel) (Or.inr ⟨_, kF K hw q1669⟩) (fun _ h => h) (Nat.le_of_ble_eq_true rfl) (Nat.le_of_ble_eq_true rfl) (fs_one (⟨_, ff_41_121 s0 H0 oa D⟩))) ?_
  refine fs_c1 (fs_getf (pc := 138) (n := 910471470) (idx := 34) (ref := "BoardMachine$Processor") (O := "BoardMachine$Processor") (name := "data") (desc := "LBoardMachine$Found;") C (by decide +kernel) (Or.inl (kw K hw q2088)) (fun _ h => h) (Nat.le_of_ble_eq_true rfl) (Nat.le_of_ble_eq_true rfl) (fs_one (⟨_, ff_75_217 s0 H0 oa D⟩))) ?_
  refine fs_c1 (fs_getf (pc := 141) (n := 507678886) (idx := 290) (ref := "BoardMachine$Found") (O := "BoardMachine$Found") (name := "places") (desc := "[J") C (by decide +kernel) (Or.inr ⟨_, kF K hw q1669⟩) (fun _ h => h) (Nat.le_of_ble_eq_true rfl) (Nat.le_of_ble_eq_true rfl) (fs_one (⟨_, ff_41_121 s0 H0 oa D⟩))) ?_
  refine fs_c1 (fs_inv_virtual (pc := 154) (n := 282143819) C (Nat.le_of_ble_eq_true rfl) (Nat.le_of_ble_eq_true rfl) (fs_lk_virtual (idx := 248) (y := ⟨"BoardMachine$Processor", "raise", "(IJ)Z"⟩) (bytes := prog_86_method_7_code) (maxL := 4) (rt := (Option.some Jvm.ClassFile.FieldType.boolean)) (d := 6) C (Nat.le_of_ble_eq_true rfl) (Nat.le_of_ble_eq_true rfl) (by decide +kernel) (kw K hw q3097) (kw K hw q357) (kw K hw q3096) (Or.inl (kw K hw q3094)) ⟨by decide, by decide⟩ rfl (Nat.le_of_ble_eq_true rfl) (Nat.le_of_ble_eq_true rfl) (fs_one (⟨_, rfl, kw K hw qs49⟩))) fs_con_mono o4) ?_
  refine fs_c1 (fs_getf (pc := 165) (n := 910471470) (idx := 34) (ref := "BoardMachine$Processor") (O := "BoardMachine$Processor") (name := "data") (desc := "LBoardMachine$Found;") C (by decide +kernel) (Or.inl (kw K hw q2088)) (fun _ h => h) (Nat.le_of_ble_eq_true rfl) (Nat.le_of_ble_eq_true rfl) (fs_one (⟨_, ff_75_217 s0 H0 oa D⟩))) ?_
  refine fs_c1 (fs_getf (pc := 168) (n := 516067495) (idx := 287) (ref := "BoardMachine$Found") (O := "BoardMachine$Found") (name := "whole") (desc := "Z") C (by decide +kernel) (Or.inr ⟨_, kF K hw q1673⟩) (fun _ h => h) (Nat.le_of_ble_eq_true rfl) (Nat.le_of_ble_eq_true rfl) (fs_one (⟨_, ff_41_123 s0 H0 oa D⟩))) ?_
  refine fs_c1 (fs_getf (pc := 175) (n := 881111342) (idx := 42) (ref := "BoardMachine$Processor") (O := "BoardMachine$Processor") (name := "board") (desc := "LBoardMachine$Board;") C (by decide +kernel) (Or.inl (kw K hw q2077)) (fun _ h => h) (Nat.le_of_ble_eq_true rfl) (Nat.le_of_ble_eq_true rfl) (fs_one (⟨_, ff_75_210 s0 H0 oa D⟩))) ?_
  refine fs_c1 (fs_getf (pc := 178) (n := 75542574) (idx := 63) (ref := "BoardMachine$Board") (O := "BoardMachine$Board") (name := "ram") (desc := "LBoardMachine$Memories$Ram;") C (by decide +kernel) (Or.inr ⟨_, kF K hw q1037⟩) (fun _ h => h) (Nat.le_of_ble_eq_true rfl) (Nat.le_of_ble_eq_true rfl) (fs_one (⟨_, ff_11_18 s0 H0 oa D⟩))) ?_
  refine fs_c1 (fs_getf (pc := 182) (n := 910471470) (idx := 34) (ref := "BoardMachine$Processor") (O := "BoardMachine$Processor") (name := "data") (desc := "LBoardMachine$Found;") C (by decide +kernel) (Or.inl (kw K hw q2088)) (fun _ h => h) (Nat.le_of_ble_eq_true rfl) (Nat.le_of_ble_eq_true rfl) (fs_one (⟨_, ff_75_217 s0 H0 oa D⟩))) ?_
  refine fs_c1 (fs_getf (pc := 185) (n := 507678886) (idx := 290) (ref := "BoardMachine$Found") (O := "BoardMachine$Found") (name := "places") (desc := "[J") C (by decide +kernel) (Or.inr ⟨_, kF K hw q1669⟩) (fun _ h => h) (Nat.le_of_ble_eq_true rfl) (Nat.le_of_ble_eq_true rfl) (fs_one (⟨_, ff_41_121 s0 H0 oa D⟩))) ?_
  refine fs_c1 (fs_inv_virtual (pc := 193) (n := 147924041) C (Nat.le_of_ble_eq_true rfl) (Nat.le_of_ble_eq_true rfl) (fs_lk_virtual (idx := 269) (y := ⟨"BoardMachine$Memories$Ram", "has", "(JJ)Z"⟩) (bytes := prog_82_method_2_code) (maxL := 7) (rt := (Option.some Jvm.ClassFile.FieldType.boolean)) (d := 1) C (Nat.le_of_ble_eq_true rfl) (Nat.le_of_ble_eq_true rfl) (by decide +kernel) (kw K hw q2730) (kw K hw q321) (kw K hw q2728) (Or.inl (kw K hw q3093)) ⟨by decide, by decide⟩ rfl (Nat.le_of_ble_eq_true rfl) (Nat.le_of_ble_eq_true rfl) (fs_one (⟨_, rfl, kw K hw q2729⟩))) fs_con_mono o2) ?_
  refine fs_c1 (fs_getf (pc := 210) (n := 910471470) (idx := 34) (ref := "BoardMachine$Processor") (O := "BoardMachine$Processor") (name := "data") (desc := "LBoardMachine$Found;") C (by decide +kernel) (Or.inl (kw K hw q2088)) (fun _ h => h) (Nat.le_of_ble_eq_true rfl) (Nat.le_of_ble_eq_true rfl) (fs_one (⟨_, ff_75_217 s0 H0 oa D⟩))) ?_
  refine fs_c1 (fs_getf (pc := 214) (n := 881111342) (idx := 42) (ref := "BoardMachine$Processor") (O := "BoardMachine$Processor") (name := "board") (desc := "LBoardMachine$Board;") C (by decide +kernel) (Or.inl (kw K hw q2077)) (fun _ h => h) (Nat.le_of_ble_eq_true rfl) (Nat.le_of_ble_eq_true rfl) (fs_one (⟨_, ff_75_210 s0 H0 oa D⟩))) ?_
  refine fs_c1 (fs_getf (pc := 218) (n := 910471470) (idx := 34) (ref := "BoardMachine$Processor") (O := "BoardMachine$Processor") (name := "data") (desc := "LBoardMachine$Found;") C (by decide +kernel) (Or.inl (kw K hw q2088)) (fun _ h => h) (Nat.le_of_ble_eq_true rfl) (Nat.le_of_ble_eq_true rfl) (fs_one (⟨_, ff_75_217 s0 H0 oa D⟩))) ?_
  refine fs_c1 (fs_getf (pc := 221) (n := 507678886) (idx := 290) (ref := "BoardMachine$Found") (O := "BoardMachine$Found") (name := "places") (desc := "[J") C (by decide +kernel) (Or.inr ⟨_, kF K hw q1669⟩) (fun _ h => h) (Nat.le_of_ble_eq_true rfl) (Nat.le_of_ble_eq_true rfl) (fs_one (⟨_, ff_41_121 s0 H0 oa D⟩))) ?_
  refine fs_c1 (fs_inv_virtual (pc := 228) (n := 217066507) C (Nat.le_of_ble_eq_true rfl) (Nat.le_of_ble_eq_true rfl) (fs_lk_virtual (idx := 294) (y := ⟨"BoardMachine$Board", "find", "(JI)LBoardMachine$Window;"⟩) (bytes := prog_2_method_2_code) (maxL := 8) (rt := (Option.some (Jvm.ClassFile.FieldType.object "BoardMachine$Window"))) (d := 2) C (Nat.le_of_ble_eq_true rfl) (Nat.le_of_ble_eq_true rfl) (by decide +kernel) (kw K hw q3518) (kw K hw q320) (kw K hw q3516) (Or.inl (kw K hw q3515)) ⟨by decide, by decide⟩ rfl (Nat.le_of_ble_eq_true rfl) (Nat.le_of_ble_eq_true rfl) (fs_one (⟨_, rfl, kw K hw q3517⟩))) fs_con_mono o3) ?_
  refine fs_c1 (fs_putf (pc := 231) (n := 520261798) (idx := 279) (ref := "BoardMachine$Found") (O := "BoardMachine$Found") (name := "window") (desc := "LBoardMachine$Window;") (fin := false) (ty := (.object "BoardMachine$Window")) C (by decide +kernel) (Or.inl ⟨rfl, Or.inr ⟨_, kF K hw q1675⟩⟩) (fun _ h => h) (Nat.le_of_ble_eq_true rfl) (Nat.le_of_ble_eq_true rfl) (Nat.le_of_ble_eq_true rfl) rfl rfl (by decide) (fs_one (⟨rfl, ff_41_124 s0 H0 oa D⟩))) ?_
  refine fs_c1 (fs_getf (pc := 245) (n := 910471470) (idx := 34) (ref := "BoardMachine$Processor") (O := "BoardMachine$Processor") (name := "data") (desc := "LBoardMachine$Found;") C (by decide +kernel) (Or.inl (kw K hw q2088)) (fun _ h => h) (Nat.le_of_ble_eq_true rfl) (Nat.le_of_ble_eq_true rfl) (fs_one (⟨_, ff_75_217 s0 H0 oa D⟩))) ?_
  refine fs_c1 (fs_getf (pc := 248) (n := 520261798) (idx := 279) (ref := "BoardMachine$Found") (O := "BoardMachine$Found") (name := "window") (desc := "LBoardMachine$Window;") C (by decide +kernel) (Or.inr ⟨_, kF K hw q1675⟩) (fun _ h => h) (Nat.le_of_ble_eq_true rfl) (Nat.le_of_ble_eq_true rfl) (fs_one (⟨_, ff_41_124 s0 H0 oa D⟩))) ?_
  refine fs_c1 (fs_getf (pc := 255) (n := 881111342) (idx := 42) (ref := "BoardMachine$Processor") (O := "BoardMachine$Processor") (name := "board") (desc := "LBoardMachine$Board;") C (by decide +kernel) (Or.inl (kw K hw q2077)) (fun _ h => h) (Nat.le_of_ble_eq_true rfl) (Nat.le_of_ble_eq_true rfl) (fs_one (⟨_, ff_75_210 s0 H0 oa D⟩))) ?_
  refine fs_c1 (fs_getf (pc := 258) (n := 75542574) (idx := 63) (ref := "BoardMachine$Board") (O := "BoardMachine$Board") (name := "ram") (desc := "LBoardMachine$Memories$Ram;") C (by decide +kernel) (Or.inr ⟨_, kF K hw q1037⟩) (fun _ h => h) (Nat.le_of_ble_eq_true rfl) (Nat.le_of_ble_eq_true rfl) (fs_one (⟨_, ff_11_18 s0 H0 oa D⟩))) ?_
  refine fs_c1 (fs_getf (pc := 262) (n := 910471470) (idx := 34) (ref := "BoardMachine$Processor") (O := "BoardMachine$Processor") (name := "data") (desc := "LBoardMachine$Found;") C (by decide +kernel) (Or.inl (kw K hw q2088)) (fun _ h => h) (Nat.le_of_ble_eq_true rfl) (Nat.le_of_ble_eq_true rfl) (fs_one (⟨_, ff_75_217 s0 H0 oa D⟩))) ?_
  refine fs_c1 (fs_getf (pc := 265) (n := 507678886) (idx := 290) (ref := "BoardMachine$Found") (O := "BoardMachine$Found") (name := "places") (desc := "[J") C (by decide +kernel) (Or.inr ⟨_, kF K hw q1669⟩) (fun _ h => h) (Nat.le_of_ble_eq_true rfl) (Nat.le_of_ble_eq_true rfl) (fs_one (⟨_, ff_41_121 s0 H0 oa D⟩))) ?_
  refine fs_c1 (fs_inv_virtual (pc := 274) (n := 147924041) C (Nat.le_of_ble_eq_true rfl) (Nat.le_of_ble_eq_true rfl) (fs_lk_virtual (idx := 269) (y := ⟨"BoardMachine$Memories$Ram", "has", "(JJ)Z"⟩) (bytes := prog_82_method_2_code) (maxL := 7) (rt := (Option.some Jvm.ClassFile.FieldType.boolean)) (d := 1) C (Nat.le_of_ble_eq_true rfl) (Nat.le_of_ble_eq_true rfl) (by decide +kernel) (kw K hw q2730) (kw K hw q321) (kw K hw q2728) (Or.inl (kw K hw q3093)) ⟨by decide, by decide⟩ rfl (Nat.le_of_ble_eq_true rfl) (Nat.le_of_ble_eq_true rfl) (fs_one (⟨_, rfl, kw K hw q2729⟩))) fs_con_mono o2) ?_
  refine fs_c1 (fs_inv_virtual (pc := 297) (n := 282143819) C (Nat.le_of_ble_eq_true rfl) (Nat.le_of_ble_eq_true rfl) (fs_lk_virtual (idx := 248) (y := ⟨"BoardMachine$Processor", "raise", "(IJ)Z"⟩) (bytes := prog_86_method_7_code) (maxL := 4) (rt := (Option.some Jvm.ClassFile.FieldType.boolean)) (d := 6) C (Nat.le_of_ble_eq_true rfl) (Nat.le_of_ble_eq_true rfl) (by decide +kernel) (kw K hw q3097) (kw K hw q357) (kw K hw q3096) (Or.inl (kw K hw q3094)) ⟨by decide, by decide⟩ rfl (Nat.le_of_ble_eq_true rfl) (Nat.le_of_ble_eq_true rfl) (fs_one (⟨_, rfl, kw K hw qs49⟩))) fs_con_mono o4) ?_
  exact fs_c0
